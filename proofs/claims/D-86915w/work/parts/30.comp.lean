set_option maxRecDepth 100000
theorem fw_J2_size : g_fw [18] 2 "java/util/ArrayList" "size" "I" := by
  intro ci h
  simp only [List.mem_cons, List.not_mem_nil, or_false] at h
  subst h
  exact ⟨_, _, _, rfl, in_J2, rfl, rfl, rfl, rfl⟩
theorem fw_J2_elementData : g_fw [18] 1 "java/util/ArrayList" "elementData" "[Ljava/lang/Object;" := by
  intro ci h
  simp only [List.mem_cons, List.not_mem_nil, or_false] at h
  subst h
  exact ⟨_, _, _, rfl, in_J2, rfl, rfl, rfl, rfl⟩
theorem fw_J1_modCount : g_fw [18] 0 "java/util/AbstractList" "modCount" "I" := by
  intro ci h
  simp only [List.mem_cons, List.not_mem_nil, or_false] at h
  subst h
  exact ⟨_, _, _, rfl, in_J2, rfl, rfl, rfl, rfl⟩
theorem fw_X0_tokens : g_fw [0] 0 "MendReader" "tokens" "I" := by
  intro ci h
  simp only [List.mem_cons, List.not_mem_nil, or_false] at h
  subst h
  exact ⟨_, _, _, rfl, in_X0, rfl, rfl, rfl, rfl⟩
theorem fw_X0_isFence : g_fw [0] 1 "MendReader" "isFence" "[Z" := by
  intro ci h
  simp only [List.mem_cons, List.not_mem_nil, or_false] at h
  subst h
  exact ⟨_, _, _, rfl, in_X0, rfl, rfl, rfl, rfl⟩
theorem fw_X0_prices : g_fw [0] 2 "MendReader" "prices" "[[I" := by
  intro ci h
  simp only [List.mem_cons, List.not_mem_nil, or_false] at h
  subst h
  exact ⟨_, _, _, rfl, in_X0, rfl, rfl, rfl, rfl⟩
theorem fw_X0_names : g_fw [0] 5 "MendReader" "names" "I" := by
  intro ci h
  simp only [List.mem_cons, List.not_mem_nil, or_false] at h
  subst h
  exact ⟨_, _, _, rfl, in_X0, rfl, rfl, rfl, rfl⟩
theorem fw_X0_rules : g_fw [0] 7 "MendReader" "rules" "Ljava/util/List;" := by
  intro ci h
  simp only [List.mem_cons, List.not_mem_nil, or_false] at h
  subst h
  exact ⟨_, _, _, rfl, in_X0, rfl, rfl, rfl, rfl⟩
theorem fw_X4_size : g_fw [4] 4 "MendReader$Rule" "size" "I" := by
  intro ci h
  simp only [List.mem_cons, List.not_mem_nil, or_false] at h
  subst h
  exact ⟨_, _, _, rfl, in_X4, rfl, rfl, rfl, rfl⟩
theorem fw_X4_sorts : g_fw [4] 2 "MendReader$Rule" "sorts" "[I" := by
  intro ci h
  simp only [List.mem_cons, List.not_mem_nil, or_false] at h
  subst h
  exact ⟨_, _, _, rfl, in_X4, rfl, rfl, rfl, rfl⟩
theorem fw_X4_which : g_fw [4] 3 "MendReader$Rule" "which" "[I" := by
  intro ci h
  simp only [List.mem_cons, List.not_mem_nil, or_false] at h
  subst h
  exact ⟨_, _, _, rfl, in_X4, rfl, rfl, rfl, rfl⟩
theorem fw_X0_start : g_fw [0] 6 "MendReader" "start" "I" := by
  intro ci h
  simp only [List.mem_cons, List.not_mem_nil, or_false] at h
  subst h
  exact ⟨_, _, _, rfl, in_X0, rfl, rfl, rfl, rfl⟩
theorem fw_X0_runPrice : g_fw [0] 4 "MendReader" "runPrice" "I" := by
  intro ci h
  simp only [List.mem_cons, List.not_mem_nil, or_false] at h
  subst h
  exact ⟨_, _, _, rfl, in_X0, rfl, rfl, rfl, rfl⟩
theorem fw_X0_turnedPrice : g_fw [0] 3 "MendReader" "turnedPrice" "I" := by
  intro ci h
  simp only [List.mem_cons, List.not_mem_nil, or_false] at h
  subst h
  exact ⟨_, _, _, rfl, in_X0, rfl, rfl, rfl, rfl⟩
theorem fw_X0_parted : g_fw [0] 9 "MendReader" "parted" "Ljava/util/List;" := by
  intro ci h
  simp only [List.mem_cons, List.not_mem_nil, or_false] at h
  subst h
  exact ⟨_, _, _, rfl, in_X0, rfl, rfl, rfl, rfl⟩
theorem fw_X0_stuck : g_fw [0] 8 "MendReader" "stuck" "Ljava/util/List;" := by
  intro ci h
  simp only [List.mem_cons, List.not_mem_nil, or_false] at h
  subst h
  exact ⟨_, _, _, rfl, in_X0, rfl, rfl, rfl, rfl⟩
theorem fw_X0_fences : g_fw [0] 10 "MendReader" "fences" "Z" := by
  intro ci h
  simp only [List.mem_cons, List.not_mem_nil, or_false] at h
  subst h
  exact ⟨_, _, _, rfl, in_X0, rfl, rfl, rfl, rfl⟩
theorem fw_X0_text : g_fw [0] 11 "MendReader" "text" "[I" := by
  intro ci h
  simp only [List.mem_cons, List.not_mem_nil, or_false] at h
  subst h
  exact ⟨_, _, _, rfl, in_X0, rfl, rfl, rfl, rfl⟩
theorem fw_X9_this_0 : g_fw [9, 10, 11, 12, 13, 14, 15] 6 "MendReader$Lost" "this$0" "LMendReader;" := by
  intro ci h
  simp only [List.mem_cons, List.not_mem_nil, or_false] at h
  rcases h with rfl | rfl | rfl | rfl | rfl | rfl | rfl
  · exact ⟨_, _, _, rfl, in_X9, rfl, rfl, rfl, rfl⟩
  · exact ⟨_, _, _, rfl, in_X10, rfl, rfl, rfl, rfl⟩
  · exact ⟨_, _, _, rfl, in_X11, rfl, rfl, rfl, rfl⟩
  · exact ⟨_, _, _, rfl, in_X12, rfl, rfl, rfl, rfl⟩
  · exact ⟨_, _, _, rfl, in_X13, rfl, rfl, rfl, rfl⟩
  · exact ⟨_, _, _, rfl, in_X14, rfl, rfl, rfl, rfl⟩
  · exact ⟨_, _, _, rfl, in_X15, rfl, rfl, rfl, rfl⟩
theorem fw_X8_token : g_fw [8, 9, 10, 11, 12, 13, 14, 15] 4 "MendReader$Step" "token" "I" := by
  intro ci h
  simp only [List.mem_cons, List.not_mem_nil, or_false] at h
  rcases h with rfl | rfl | rfl | rfl | rfl | rfl | rfl | rfl
  · exact ⟨_, _, _, rfl, in_X8, rfl, rfl, rfl, rfl⟩
  · exact ⟨_, _, _, rfl, in_X9, rfl, rfl, rfl, rfl⟩
  · exact ⟨_, _, _, rfl, in_X10, rfl, rfl, rfl, rfl⟩
  · exact ⟨_, _, _, rfl, in_X11, rfl, rfl, rfl, rfl⟩
  · exact ⟨_, _, _, rfl, in_X12, rfl, rfl, rfl, rfl⟩
  · exact ⟨_, _, _, rfl, in_X13, rfl, rfl, rfl, rfl⟩
  · exact ⟨_, _, _, rfl, in_X14, rfl, rfl, rfl, rfl⟩
  · exact ⟨_, _, _, rfl, in_X15, rfl, rfl, rfl, rfl⟩
theorem fw_X10_this_0 : g_fw [10, 11, 14, 15] 7 "MendReader$Other" "this$0" "LMendReader;" := by
  intro ci h
  simp only [List.mem_cons, List.not_mem_nil, or_false] at h
  rcases h with rfl | rfl | rfl | rfl
  · exact ⟨_, _, _, rfl, in_X10, rfl, rfl, rfl, rfl⟩
  · exact ⟨_, _, _, rfl, in_X11, rfl, rfl, rfl, rfl⟩
  · exact ⟨_, _, _, rfl, in_X14, rfl, rfl, rfl, rfl⟩
  · exact ⟨_, _, _, rfl, in_X15, rfl, rfl, rfl, rfl⟩
theorem fw_X8_chart : g_fw [8, 9, 10, 11, 12, 13, 14, 15] 0 "MendReader$Step" "chart" "LMendReader$Chart;" := by
  intro ci h
  simp only [List.mem_cons, List.not_mem_nil, or_false] at h
  rcases h with rfl | rfl | rfl | rfl | rfl | rfl | rfl | rfl
  · exact ⟨_, _, _, rfl, in_X8, rfl, rfl, rfl, rfl⟩
  · exact ⟨_, _, _, rfl, in_X9, rfl, rfl, rfl, rfl⟩
  · exact ⟨_, _, _, rfl, in_X10, rfl, rfl, rfl, rfl⟩
  · exact ⟨_, _, _, rfl, in_X11, rfl, rfl, rfl, rfl⟩
  · exact ⟨_, _, _, rfl, in_X12, rfl, rfl, rfl, rfl⟩
  · exact ⟨_, _, _, rfl, in_X13, rfl, rfl, rfl, rfl⟩
  · exact ⟨_, _, _, rfl, in_X14, rfl, rfl, rfl, rfl⟩
  · exact ⟨_, _, _, rfl, in_X15, rfl, rfl, rfl, rfl⟩
theorem fw_X7_text : g_fw [7] 0 "MendReader$Chart" "text" "[I" := by
  intro ci h
  simp only [List.mem_cons, List.not_mem_nil, or_false] at h
  subst h
  exact ⟨_, _, _, rfl, in_X7, rfl, rfl, rfl, rfl⟩
theorem fw_X8_place : g_fw [8, 9, 10, 11, 12, 13, 14, 15] 1 "MendReader$Step" "place" "I" := by
  intro ci h
  simp only [List.mem_cons, List.not_mem_nil, or_false] at h
  rcases h with rfl | rfl | rfl | rfl | rfl | rfl | rfl | rfl
  · exact ⟨_, _, _, rfl, in_X8, rfl, rfl, rfl, rfl⟩
  · exact ⟨_, _, _, rfl, in_X9, rfl, rfl, rfl, rfl⟩
  · exact ⟨_, _, _, rfl, in_X10, rfl, rfl, rfl, rfl⟩
  · exact ⟨_, _, _, rfl, in_X11, rfl, rfl, rfl, rfl⟩
  · exact ⟨_, _, _, rfl, in_X12, rfl, rfl, rfl, rfl⟩
  · exact ⟨_, _, _, rfl, in_X13, rfl, rfl, rfl, rfl⟩
  · exact ⟨_, _, _, rfl, in_X14, rfl, rfl, rfl, rfl⟩
  · exact ⟨_, _, _, rfl, in_X15, rfl, rfl, rfl, rfl⟩
theorem fw_X11_form : g_fw [11, 15] 8 "MendReader$Stuck" "form" "LMendReader$Form;" := by
  intro ci h
  simp only [List.mem_cons, List.not_mem_nil, or_false] at h
  rcases h with rfl | rfl
  · exact ⟨_, _, _, rfl, in_X11, rfl, rfl, rfl, rfl⟩
  · exact ⟨_, _, _, rfl, in_X15, rfl, rfl, rfl, rfl⟩
theorem fw_X5_b : g_fw [5] 1 "MendReader$Form" "b" "I" := by
  intro ci h
  simp only [List.mem_cons, List.not_mem_nil, or_false] at h
  subst h
  exact ⟨_, _, _, rfl, in_X5, rfl, rfl, rfl, rfl⟩
theorem fw_X11_this_0 : g_fw [11, 15] 10 "MendReader$Stuck" "this$0" "LMendReader;" := by
  intro ci h
  simp only [List.mem_cons, List.not_mem_nil, or_false] at h
  rcases h with rfl | rfl
  · exact ⟨_, _, _, rfl, in_X11, rfl, rfl, rfl, rfl⟩
  · exact ⟨_, _, _, rfl, in_X15, rfl, rfl, rfl, rfl⟩
theorem fw_X13_many : g_fw [13] 8 "MendReader$Run" "many" "I" := by
  intro ci h
  simp only [List.mem_cons, List.not_mem_nil, or_false] at h
  subst h
  exact ⟨_, _, _, rfl, in_X13, rfl, rfl, rfl, rfl⟩
theorem fw_X13_this_0 : g_fw [13] 9 "MendReader$Run" "this$0" "LMendReader;" := by
  intro ci h
  simp only [List.mem_cons, List.not_mem_nil, or_false] at h
  subst h
  exact ⟨_, _, _, rfl, in_X13, rfl, rfl, rfl, rfl⟩
theorem fw_X11_number : g_fw [11, 15] 9 "MendReader$Stuck" "number" "I" := by
  intro ci h
  simp only [List.mem_cons, List.not_mem_nil, or_false] at h
  rcases h with rfl | rfl
  · exact ⟨_, _, _, rfl, in_X11, rfl, rfl, rfl, rfl⟩
  · exact ⟨_, _, _, rfl, in_X15, rfl, rfl, rfl, rfl⟩
theorem fw_X6_without : g_fw [6] 3 "MendReader$Way" "without" "LMendReader$Step;" := by
  intro ci h
  simp only [List.mem_cons, List.not_mem_nil, or_false] at h
  subst h
  exact ⟨_, _, _, rfl, in_X6, rfl, rfl, rfl, rfl⟩
theorem fw_X6_sort : g_fw [6] 0 "MendReader$Way" "sort" "I" := by
  intro ci h
  simp only [List.mem_cons, List.not_mem_nil, or_false] at h
  subst h
  exact ⟨_, _, _, rfl, in_X6, rfl, rfl, rfl, rfl⟩
theorem fw_X6_from : g_fw [6] 1 "MendReader$Way" "from" "I" := by
  intro ci h
  simp only [List.mem_cons, List.not_mem_nil, or_false] at h
  subst h
  exact ⟨_, _, _, rfl, in_X6, rfl, rfl, rfl, rfl⟩
theorem fw_X6_to : g_fw [6] 2 "MendReader$Way" "to" "I" := by
  intro ci h
  simp only [List.mem_cons, List.not_mem_nil, or_false] at h
  subst h
  exact ⟨_, _, _, rfl, in_X6, rfl, rfl, rfl, rfl⟩
theorem fw_X7_this_0 : g_fw [7] 12 "MendReader$Chart" "this$0" "LMendReader;" := by
  intro ci h
  simp only [List.mem_cons, List.not_mem_nil, or_false] at h
  subst h
  exact ⟨_, _, _, rfl, in_X7, rfl, rfl, rfl, rfl⟩
theorem fw_X7_way : g_fw [7] 2 "MendReader$Chart" "way" "LMendReader$Way;" := by
  intro ci h
  simp only [List.mem_cons, List.not_mem_nil, or_false] at h
  subst h
  exact ⟨_, _, _, rfl, in_X7, rfl, rfl, rfl, rfl⟩
theorem fw_X7_n : g_fw [7] 1 "MendReader$Chart" "n" "I" := by
  intro ci h
  simp only [List.mem_cons, List.not_mem_nil, or_false] at h
  subst h
  exact ⟨_, _, _, rfl, in_X7, rfl, rfl, rfl, rfl⟩
theorem fw_X7_steps : g_fw [7] 6 "MendReader$Chart" "steps" "Ljava/util/List;" := by
  intro ci h
  simp only [List.mem_cons, List.not_mem_nil, or_false] at h
  subst h
  exact ⟨_, _, _, rfl, in_X7, rfl, rfl, rfl, rfl⟩
theorem fw_X7_knot : g_fw [7] 3 "MendReader$Chart" "knot" "[I" := by
  intro ci h
  simp only [List.mem_cons, List.not_mem_nil, or_false] at h
  subst h
  exact ⟨_, _, _, rfl, in_X7, rfl, rfl, rfl, rfl⟩
theorem fw_X7_skips : g_fw [7] 7 "MendReader$Chart" "skips" "[[LMendReader$Step;" := by
  intro ci h
  simp only [List.mem_cons, List.not_mem_nil, or_false] at h
  subst h
  exact ⟨_, _, _, rfl, in_X7, rfl, rfl, rfl, rfl⟩
theorem fw_X5_c : g_fw [5] 2 "MendReader$Form" "c" "I" := by
  intro ci h
  simp only [List.mem_cons, List.not_mem_nil, or_false] at h
  subst h
  exact ⟨_, _, _, rfl, in_X5, rfl, rfl, rfl, rfl⟩
theorem fw_X5_a : g_fw [5] 0 "MendReader$Form" "a" "I" := by
  intro ci h
  simp only [List.mem_cons, List.not_mem_nil, or_false] at h
  subst h
  exact ⟨_, _, _, rfl, in_X5, rfl, rfl, rfl, rfl⟩
theorem fw_X7_knots : g_fw [7] 5 "MendReader$Chart" "knots" "I" := by
  intro ci h
  simp only [List.mem_cons, List.not_mem_nil, or_false] at h
  subst h
  exact ⟨_, _, _, rfl, in_X7, rfl, rfl, rfl, rfl⟩
theorem fw_X7_mainOf : g_fw [7] 4 "MendReader$Chart" "mainOf" "[I" := by
  intro ci h
  simp only [List.mem_cons, List.not_mem_nil, or_false] at h
  subst h
  exact ⟨_, _, _, rfl, in_X7, rfl, rfl, rfl, rfl⟩
theorem fw_X5_price : g_fw [5] 3 "MendReader$Form" "price" "I" := by
  intro ci h
  simp only [List.mem_cons, List.not_mem_nil, or_false] at h
  subst h
  exact ⟨_, _, _, rfl, in_X5, rfl, rfl, rfl, rfl⟩
theorem fw_X12_this_0 : g_fw [12, 13] 7 "MendReader$Extra" "this$0" "LMendReader;" := by
  intro ci h
  simp only [List.mem_cons, List.not_mem_nil, or_false] at h
  rcases h with rfl | rfl
  · exact ⟨_, _, _, rfl, in_X12, rfl, rfl, rfl, rfl⟩
  · exact ⟨_, _, _, rfl, in_X13, rfl, rfl, rfl, rfl⟩
theorem fw_X14_this_0 : g_fw [14] 8 "MendReader$Turned" "this$0" "LMendReader;" := by
  intro ci h
  simp only [List.mem_cons, List.not_mem_nil, or_false] at h
  subst h
  exact ⟨_, _, _, rfl, in_X14, rfl, rfl, rfl, rfl⟩
theorem fw_X7_skipping : g_fw [7] 8 "MendReader$Chart" "skipping" "[[J" := by
  intro ci h
  simp only [List.mem_cons, List.not_mem_nil, or_false] at h
  subst h
  exact ⟨_, _, _, rfl, in_X7, rfl, rfl, rfl, rfl⟩
theorem fw_X8_from : g_fw [8, 9, 10, 11, 12, 13, 14, 15] 2 "MendReader$Step" "from" "I" := by
  intro ci h
  simp only [List.mem_cons, List.not_mem_nil, or_false] at h
  rcases h with rfl | rfl | rfl | rfl | rfl | rfl | rfl | rfl
  · exact ⟨_, _, _, rfl, in_X8, rfl, rfl, rfl, rfl⟩
  · exact ⟨_, _, _, rfl, in_X9, rfl, rfl, rfl, rfl⟩
  · exact ⟨_, _, _, rfl, in_X10, rfl, rfl, rfl, rfl⟩
  · exact ⟨_, _, _, rfl, in_X11, rfl, rfl, rfl, rfl⟩
  · exact ⟨_, _, _, rfl, in_X12, rfl, rfl, rfl, rfl⟩
  · exact ⟨_, _, _, rfl, in_X13, rfl, rfl, rfl, rfl⟩
  · exact ⟨_, _, _, rfl, in_X14, rfl, rfl, rfl, rfl⟩
  · exact ⟨_, _, _, rfl, in_X15, rfl, rfl, rfl, rfl⟩
theorem fw_X7_read : g_fw [7] 9 "MendReader$Chart" "read" "[[[J" := by
  intro ci h
  simp only [List.mem_cons, List.not_mem_nil, or_false] at h
  subst h
  exact ⟨_, _, _, rfl, in_X7, rfl, rfl, rfl, rfl⟩
theorem fw_X8_to : g_fw [8, 9, 10, 11, 12, 13, 14, 15] 3 "MendReader$Step" "to" "I" := by
  intro ci h
  simp only [List.mem_cons, List.not_mem_nil, or_false] at h
  rcases h with rfl | rfl | rfl | rfl | rfl | rfl | rfl | rfl
  · exact ⟨_, _, _, rfl, in_X8, rfl, rfl, rfl, rfl⟩
  · exact ⟨_, _, _, rfl, in_X9, rfl, rfl, rfl, rfl⟩
  · exact ⟨_, _, _, rfl, in_X10, rfl, rfl, rfl, rfl⟩
  · exact ⟨_, _, _, rfl, in_X11, rfl, rfl, rfl, rfl⟩
  · exact ⟨_, _, _, rfl, in_X12, rfl, rfl, rfl, rfl⟩
  · exact ⟨_, _, _, rfl, in_X13, rfl, rfl, rfl, rfl⟩
  · exact ⟨_, _, _, rfl, in_X14, rfl, rfl, rfl, rfl⟩
  · exact ⟨_, _, _, rfl, in_X15, rfl, rfl, rfl, rfl⟩
theorem fw_X0_readCells : g_fw [0] 13 "MendReader" "readCells" "[[[J" := by
  intro ci h
  simp only [List.mem_cons, List.not_mem_nil, or_false] at h
  subst h
  exact ⟨_, _, _, rfl, in_X0, rfl, rfl, rfl, rfl⟩
theorem fw_X0_treeCells : g_fw [0] 14 "MendReader" "treeCells" "[[[J" := by
  intro ci h
  simp only [List.mem_cons, List.not_mem_nil, or_false] at h
  subst h
  exact ⟨_, _, _, rfl, in_X0, rfl, rfl, rfl, rfl⟩
theorem fw_X0_restCells : g_fw [0] 15 "MendReader" "restCells" "[[[J" := by
  intro ci h
  simp only [List.mem_cons, List.not_mem_nil, or_false] at h
  subst h
  exact ⟨_, _, _, rfl, in_X0, rfl, rfl, rfl, rfl⟩
theorem fw_X7_rest : g_fw [7] 11 "MendReader$Chart" "rest" "[[[J" := by
  intro ci h
  simp only [List.mem_cons, List.not_mem_nil, or_false] at h
  subst h
  exact ⟨_, _, _, rfl, in_X7, rfl, rfl, rfl, rfl⟩
theorem fw_X4_number : g_fw [4] 0 "MendReader$Rule" "number" "I" := by
  intro ci h
  simp only [List.mem_cons, List.not_mem_nil, or_false] at h
  subst h
  exact ⟨_, _, _, rfl, in_X4, rfl, rfl, rfl, rfl⟩
theorem fw_X7_tree : g_fw [7] 10 "MendReader$Chart" "tree" "[[[J" := by
  intro ci h
  simp only [List.mem_cons, List.not_mem_nil, or_false] at h
  subst h
  exact ⟨_, _, _, rfl, in_X7, rfl, rfl, rfl, rfl⟩
theorem fw_X4_name : g_fw [4] 1 "MendReader$Rule" "name" "I" := by
  intro ci h
  simp only [List.mem_cons, List.not_mem_nil, or_false] at h
  subst h
  exact ⟨_, _, _, rfl, in_X4, rfl, rfl, rfl, rfl⟩
theorem fw_X16_this_0 : g_fw [16] 1 "MendReader$Walker" "this$0" "LMendReader;" := by
  intro ci h
  simp only [List.mem_cons, List.not_mem_nil, or_false] at h
  subst h
  exact ⟨_, _, _, rfl, in_X16, rfl, rfl, rfl, rfl⟩
theorem fw_X0_slips : g_fw [0] 19 "MendReader" "slips" "Ljava/util/List;" := by
  intro ci h
  simp only [List.mem_cons, List.not_mem_nil, or_false] at h
  subst h
  exact ⟨_, _, _, rfl, in_X0, rfl, rfl, rfl, rfl⟩
theorem fw_X16_chart : g_fw [16] 0 "MendReader$Walker" "chart" "LMendReader$Chart;" := by
  intro ci h
  simp only [List.mem_cons, List.not_mem_nil, or_false] at h
  subst h
  exact ⟨_, _, _, rfl, in_X16, rfl, rfl, rfl, rfl⟩
theorem fw_X0_words : g_fw [0] 21 "MendReader" "words" "[I" := by
  intro ci h
  simp only [List.mem_cons, List.not_mem_nil, or_false] at h
  subst h
  exact ⟨_, _, _, rfl, in_X0, rfl, rfl, rfl, rfl⟩
theorem fw_X0_wordMany : g_fw [0] 22 "MendReader" "wordMany" "I" := by
  intro ci h
  simp only [List.mem_cons, List.not_mem_nil, or_false] at h
  subst h
  exact ⟨_, _, _, rfl, in_X0, rfl, rfl, rfl, rfl⟩
theorem fw_X0_tree : g_fw [0] 18 "MendReader" "tree" "LMendReader$Tree;" := by
  intro ci h
  simp only [List.mem_cons, List.not_mem_nil, or_false] at h
  subst h
  exact ⟨_, _, _, rfl, in_X0, rfl, rfl, rfl, rfl⟩
theorem fw_X1_size : g_fw [1] 1 "MendReader$Tree" "size" "I" := by
  intro ci h
  simp only [List.mem_cons, List.not_mem_nil, or_false] at h
  subst h
  exact ⟨_, _, _, rfl, in_X1, rfl, rfl, rfl, rfl⟩
theorem fw_X1_cells : g_fw [1] 0 "MendReader$Tree" "cells" "[[I" := by
  intro ci h
  simp only [List.mem_cons, List.not_mem_nil, or_false] at h
  subst h
  exact ⟨_, _, _, rfl, in_X1, rfl, rfl, rfl, rfl⟩
theorem fw_X2_cells : g_fw [2] 0 "MendReader$Slips" "cells" "[[I" := by
  intro ci h
  simp only [List.mem_cons, List.not_mem_nil, or_false] at h
  subst h
  exact ⟨_, _, _, rfl, in_X2, rfl, rfl, rfl, rfl⟩
theorem fw_X0_way : g_fw [0] 17 "MendReader" "way" "LMendReader$Way;" := by
  intro ci h
  simp only [List.mem_cons, List.not_mem_nil, or_false] at h
  subst h
  exact ⟨_, _, _, rfl, in_X0, rfl, rfl, rfl, rfl⟩
theorem fw_X0_price : g_fw [0] 16 "MendReader" "price" "I" := by
  intro ci h
  simp only [List.mem_cons, List.not_mem_nil, or_false] at h
  subst h
  exact ⟨_, _, _, rfl, in_X0, rfl, rfl, rfl, rfl⟩
theorem fw_X0_latest : g_fw [0] 20 "MendReader" "latest" "LMendReader$Slips;" := by
  intro ci h
  simp only [List.mem_cons, List.not_mem_nil, or_false] at h
  subst h
  exact ⟨_, _, _, rfl, in_X0, rfl, rfl, rfl, rfl⟩
theorem fw_X0_changed : g_fw [0] 12 "MendReader" "changed" "Z" := by
  intro ci h
  simp only [List.mem_cons, List.not_mem_nil, or_false] at h
  subst h
  exact ⟨_, _, _, rfl, in_X0, rfl, rfl, rfl, rfl⟩
theorem fw_X0_shelves : g_fw [0] 23 "MendReader" "shelves" "[LMendReader$Shelf;" := by
  intro ci h
  simp only [List.mem_cons, List.not_mem_nil, or_false] at h
  subst h
  exact ⟨_, _, _, rfl, in_X0, rfl, rfl, rfl, rfl⟩
theorem fw_X17_thing : g_fw [17] 0 "MendReader$Shelf" "thing" "Ljava/lang/Object;" := by
  intro ci h
  simp only [List.mem_cons, List.not_mem_nil, or_false] at h
  subst h
  exact ⟨_, _, _, rfl, in_X17, rfl, rfl, rfl, rfl⟩
theorem g_defJ2 : ∀ j, j < 3 → defaultValue (tyJ2 j) = vp_V [.int 0, .null, .int 0] j := by decide +kernel
theorem g_defX1 : ∀ j, j < 2 → defaultValue (tyX1 j) = vp_V [.null, .int 0] j := by decide +kernel
theorem g_defX10 : ∀ j, j < 8 → defaultValue (tyX10 j) = vp_V [.null, .int 0, .int 0, .int 0, .int 0, .null, .null, .null] j := by decide +kernel
theorem g_defX11 : ∀ j, j < 11 → defaultValue (tyX11 j) = vp_V [.null, .int 0, .int 0, .int 0, .int 0, .null, .null, .null, .null, .int 0, .null] j := by decide +kernel
theorem g_defX12 : ∀ j, j < 8 → defaultValue (tyX12 j) = vp_V [.null, .int 0, .int 0, .int 0, .int 0, .null, .null, .null] j := by decide +kernel
theorem g_defX13 : ∀ j, j < 10 → defaultValue (tyX13 j) = vp_V [.null, .int 0, .int 0, .int 0, .int 0, .null, .null, .null, .int 0, .null] j := by decide +kernel
theorem g_defX14 : ∀ j, j < 9 → defaultValue (tyX14 j) = vp_V [.null, .int 0, .int 0, .int 0, .int 0, .null, .null, .null, .null] j := by decide +kernel
theorem g_defX15 : ∀ j, j < 12 → defaultValue (tyX15 j) = vp_V [.null, .int 0, .int 0, .int 0, .int 0, .null, .null, .null, .null, .int 0, .null, .null] j := by decide +kernel
theorem g_defX16 : ∀ j, j < 2 → defaultValue (tyX16 j) = vp_V [.null, .null] j := by decide +kernel
theorem g_defX17 : ∀ j, j < 1 → defaultValue (tyX17 j) = vp_V [.null] j := by decide +kernel
theorem g_defX2 : ∀ j, j < 1 → defaultValue (tyX2 j) = vp_V [.null] j := by decide +kernel
theorem g_defX4 : ∀ j, j < 5 → defaultValue (tyX4 j) = vp_V [.int 0, .int 0, .null, .null, .int 0] j := by decide +kernel
theorem g_defX5 : ∀ j, j < 4 → defaultValue (tyX5 j) = vp_V [.int 0, .int 0, .int 0, .int 0] j := by decide +kernel
theorem g_defX6 : ∀ j, j < 4 → defaultValue (tyX6 j) = vp_V [.int 0, .int 0, .int 0, .null] j := by decide +kernel
theorem g_defX7 : ∀ j, j < 13 → defaultValue (tyX7 j) = vp_V [.null, .int 0, .null, .null, .null, .int 0, .null, .null, .null, .null, .null, .null, .null] j := by decide +kernel
theorem g_defX8 : ∀ j, j < 6 → defaultValue (tyX8 j) = vp_V [.null, .int 0, .int 0, .int 0, .int 0, .null] j := by decide +kernel
theorem g_defX9 : ∀ j, j < 7 → defaultValue (tyX9 j) = vp_V [.null, .int 0, .int 0, .int 0, .int 0, .null, .null] j := by decide +kernel
abbrev mJ0_init : gM := (yJ0_init, cJ0_init, 1, none)
theorem okJ0_init : g_ok mJ0_init 0 := ⟨by decide +kernel, by decide +kernel, by decide +kernel, by decide +kernel, by decide⟩
def wJ0_init (Q : gH → Prop) (x0 : Nat) (σ : gH) : Prop := Q σ
set_option maxHeartbeats 4000000 in
theorem ctJ0_init {Q : gH → Prop} {x0 : Nat} {σ : gH} (w : wJ0_init Q x0 σ) : CT mJ0_init 1 0 0 [.ref x0] σ (c_Kv Q) := by
  refine CT.of (lv := [(0, .ref x0)]) okJ0_init.1 rfl rfl ?_
  unfold wJ0_init at w
  refine e_aload_n (n := 1) dJ0_init_0 rfl 0 rfl ?_
  refine e_objInit (n := 4) q114 q99 q100 (by decide) (Nat.le_of_ble_eq_true rfl) dJ0_init_1 rfl ?_
  exact e_vret rfl (Nat.le_refl _) (Nat.le_refl _) ⟨rfl, w⟩ dJ0_init_4
abbrev mJ1_init : gM := (yJ1_init, cJ1_init, 1, none)
theorem okJ1_init : g_ok mJ1_init 0 := ⟨by decide +kernel, by decide +kernel, by decide +kernel, by decide +kernel, by decide⟩
def wJ1_init (Q : gH → Prop) (x0 : Nat) (σ : gH) : Prop := wJ0_init (fun (σ_1 : gH) => c_P σ_1 [18] x0 0 (.int 0) (fun σ_2 => Q σ_2)) x0 σ
set_option maxHeartbeats 4000000 in
theorem ctJ1_init {Q : gH → Prop} {x0 : Nat} {σ : gH} (w : wJ1_init Q x0 σ) : CT mJ1_init 2 0 0 [.ref x0] σ (c_Kv Q) := by
  refine CT.of (lv := [(0, .ref x0)]) okJ1_init.1 rfl rfl ?_
  unfold wJ1_init at w
  refine e_aload_n (n := 1) dJ1_init_0 rfl 0 rfl ?_
  refine e_callI (n := 4) (As := []) (st := []) okJ0_init rfl rfl q111 q112 q58 q113 (by decide) (Nat.le_refl _) (Nat.le_refl _) rfl rfl (Nat.le_of_ble_eq_true rfl) dJ1_init_1 rfl (ctJ0_init w) (fun r9 σ_1 hk => ?_)
  obtain ⟨rfl, w⟩ := hk
  refine e_aload_n (n := 5) dJ1_init_4 rfl 0 rfl ?_
  refine e_iconst (n := 6) (v := 0) dJ1_init_5 rfl (by decide) ?_
  refine e_cP (n := 9) (ty := .int) w tyJ2 tyJ2_ok nmJ2 in_J2 rfl rfl (gl_o q119) rfl rfl ⟨rfl, rfl⟩ dJ1_init_6 rfl (fun σ_2 w => ?_)
  exact e_vret rfl (Nat.le_refl _) (Nat.le_refl _) ⟨rfl, w⟩ dJ1_init_9
abbrev mJ2_init : gM := (yJ2_init, cJ2_init, 1, none)
theorem okJ2_init : g_ok mJ2_init 0 := ⟨by decide +kernel, by decide +kernel, by decide +kernel, by decide +kernel, by decide⟩
def wJ2_init (Q : gH → Prop) (x0 : Nat) (σ : gH) : Prop := wJ1_init (fun (σ_1 : gH) => c_P σ_1 [18] x0 1 (va_rf (some σ_1.1.1)) (fun σ_2 => Q σ_2)) x0 σ
set_option maxHeartbeats 4000000 in
theorem ctJ2_init {Q : gH → Prop} {x0 : Nat} {σ : gH} (w : wJ2_init Q x0 σ) : CT mJ2_init 3 0 0 [.ref x0] σ (c_Kv Q) := by
  refine CT.of (lv := [(0, .ref x0)]) okJ2_init.1 rfl rfl ?_
  unfold wJ2_init at w
  refine e_aload_n (n := 1) dJ2_init_0 rfl 0 rfl ?_
  refine e_callI (n := 4) (As := []) (st := []) okJ1_init rfl rfl q108 q109 q59 q110 (by decide) (Nat.le_refl _) (Nat.le_refl _) rfl rfl (Nat.le_of_ble_eq_true rfl) dJ2_init_1 rfl (ctJ1_init w) (fun r9 σ_1 hk => ?_)
  obtain ⟨rfl, w⟩ := hk
  refine e_aload_n (n := 5) dJ2_init_4 rfl 0 rfl ?_
  refine e_gets (n := 8) q115 dJ2_init_5 rfl ?_
  refine e_cP (n := 11) (ty := (.array (.object "java/lang/Object"))) w tyJ2 tyJ2_ok nmJ2 in_J2 rfl rfl (gl_o q117) rfl rfl (rf_narA _ (some σ_1.1.1)) dJ2_init_8 rfl (fun σ_2 w => ?_)
  exact e_vret rfl (Nat.le_refl _) (Nat.le_refl _) ⟨rfl, w⟩ dJ2_init_11
abbrev mJ2_size : gM := (yJ2_size, cJ2_size, 1, some .int)
theorem okJ2_size : g_ok mJ2_size 0 := ⟨by decide +kernel, by decide +kernel, by decide +kernel, by decide +kernel, by decide⟩
def wJ2_size (Q : Int32 → Prop) (σ : gH) (x0 : Nat) : Prop := c_I σ [18] x0 2 (fun v_1 => Q v_1)
set_option maxHeartbeats 4000000 in
theorem ctJ2_size {Q : Int32 → Prop} {x0 : Nat} {σ : gH} (w : wJ2_size Q σ x0) : CT mJ2_size 1 0 0 [.ref x0] σ (g_Pi σ Q) := by
  refine CT.of (lv := [(0, .ref x0)]) okJ2_size.1 rfl rfl ?_
  unfold wJ2_size at w
  refine e_aload_n (n := 1) dJ2_size_0 rfl 0 rfl ?_
  refine e_cI (n := 4) w fw_J2_size (gl_o q118) dJ2_size_1 rfl (fun v_1 w => ?_)
  exact e_iret rfl (Nat.le_refl _) (Nat.le_refl _) ⟨_, rfl, rfl, w⟩ dJ2_size_4
abbrev mJ4_max : gM := (yJ4_max, cJ4_max, 2, some .int)
theorem okJ4_max : g_ok mJ4_max 2 := ⟨by decide +kernel, by decide +kernel, by decide +kernel, by decide +kernel, by decide⟩
def wJ4_max (Q : Int32 → Prop) (σ : gH) (x0 : Int32) (x1 : Int32) : Prop := (x0 < x1 → (Q x1)) ∧ (¬ x0 < x1 → (Q x0))
set_option maxHeartbeats 4000000 in
theorem ctJ4_max {Q : Int32 → Prop} {x0 : Int32} {x1 : Int32} {σ : gH} (w : wJ4_max Q σ x0 x1) : CT mJ4_max 1 0 0 [.int x0, .int x1] σ (g_Pi σ Q) := by
  refine CT.of (lv := [(0, .int x0), (1, .int x1)]) okJ4_max.1 rfl rfl ?_
  unfold wJ4_max at w
  refine e_iload_n (n := 1) dJ4_max_0 rfl 0 rfl ?_
  refine e_iload_n (n := 2) dJ4_max_1 rfl 1 rfl ?_
  refine e_icmp_lt (n := 5) (tgt := 9) dJ4_max_2 rfl (by decide) (fun h => ?_) (fun h => ?_)
  · have w := w.1 h
    refine e_iload_n (n := 10) dJ4_max_9 rfl 1 rfl ?_
    exact e_iret rfl (Nat.le_refl _) (Nat.le_refl _) ⟨_, rfl, rfl, w⟩ dJ4_max_10
  · have w := w.2 h
    refine e_iload_n (n := 6) dJ4_max_5 rfl 0 rfl ?_
    refine e_goto (n := 10) dJ4_max_6 (by decide) ?_
    exact e_iret rfl (Nat.le_refl _) (Nat.le_refl _) ⟨_, rfl, rfl, w⟩ dJ4_max_10
abbrev mJ3_hugeLength : gM := (yJ3_hugeLength, cJ3_hugeLength, 3, some .int)
theorem okJ3_hugeLength : g_ok mJ3_hugeLength 2 := ⟨by decide +kernel, by decide +kernel, by decide +kernel, by decide +kernel, by decide⟩
def wJ3_hugeLength (Q : Int32 → gH → Prop) (x0 : Int32) (x1 : Int32) (σ : gH) : Prop := ∀ x2_1 : Int32, x2_1 = x0 + x1 → ((0 ≤ x2_1 → ((2147483639 < x2_1 → (Q x2_1 σ)) ∧ (¬ 2147483639 < x2_1 → (Q 2147483639 σ)))) ∧ (¬ 0 ≤ x2_1 → False))
set_option maxHeartbeats 4000000 in
theorem ctJ3_hugeLength {Q : Int32 → gH → Prop} {x0 : Int32} {x1 : Int32} {σ : gH} (w : wJ3_hugeLength Q x0 x1 σ) : CT mJ3_hugeLength 1 0 0 [.int x0, .int x1] σ (c_Ki Q) := by
  refine CT.of (lv := [(0, .int x0), (1, .int x1)]) okJ3_hugeLength.1 rfl rfl ?_
  unfold wJ3_hugeLength at w
  refine e_iload_n (n := 1) dJ3_hugeLength_0 rfl 0 rfl ?_
  refine e_iload_n (n := 2) dJ3_hugeLength_1 rfl 1 rfl ?_
  refine e_iadd (n := 3) dJ3_hugeLength_2 rfl ?_
  refine e_topi (fun x2_1 hx2_1 => ?_)
  have w := w x2_1 hx2_1
  refine e_istore_n (n := 4) (lv' := [(0, .int x0), (1, .int x1), (2, .int x2_1)]) [1, 2, 0] dJ3_hugeLength_3 rfl rfl rfl ?_
  refine e_iload_n (n := 5) dJ3_hugeLength_4 rfl 2 rfl ?_
  refine e_if_ge (n := 8) (tgt := 49) dJ3_hugeLength_5 rfl (by decide) (fun h => ?_) (fun h => ?_)
  · have w := w.1 h
    refine e_iload_n (n := 50) dJ3_hugeLength_49 rfl 2 rfl ?_
    refine e_ldc (n := 52) q352 dJ3_hugeLength_50 rfl ?_
    refine e_icmp_gt (n := 55) (tgt := 58) dJ3_hugeLength_52 rfl (by decide) (fun h => ?_) (fun h => ?_)
    · have w := w.1 h
      refine e_iload_n (n := 59) dJ3_hugeLength_58 rfl 2 rfl ?_
      exact e_iret rfl (Nat.le_refl _) (Nat.le_refl _) ⟨_, rfl, w⟩ dJ3_hugeLength_59
    · have w := w.2 h
      refine e_ldc (n := 57) q352 dJ3_hugeLength_55 rfl ?_
      exact e_iret rfl (Nat.le_refl _) (Nat.le_refl _) ⟨_, rfl, w⟩ dJ3_hugeLength_57
  · have w := w.2 h
    exact w.elim
abbrev mJ3_newLength : gM := (yJ3_newLength, cJ3_newLength, 4, some .int)
theorem okJ3_newLength : g_ok mJ3_newLength 3 := ⟨by decide +kernel, by decide +kernel, by decide +kernel, by decide +kernel, by decide⟩
def wJ3_newLength_21 (Q : Int32 → gH → Prop)  (x0 : Int32) (x1 : Int32) (σ : gH) : Prop := wJ3_hugeLength (fun (v_4 : Int32) (σ_3 : gH) => Q v_4 σ_3) x0 x1 σ
def wJ3_newLength (Q : Int32 → gH → Prop) (x0 : Int32) (x1 : Int32) (x2 : Int32) (σ : gH) : Prop := wJ4_max (fun (v_1 : Int32) => ∀ x3_2 : Int32, x3_2 = x0 + v_1 → ((x3_2 ≤ 0 → (wJ3_newLength_21 Q x0 x1 σ)) ∧ (¬ x3_2 ≤ 0 → ((2147483639 < x3_2 → (wJ3_newLength_21 Q x0 x1 σ)) ∧ (¬ 2147483639 < x3_2 → (Q x3_2 σ)))))) σ x1 x2
set_option maxHeartbeats 4000000 in
theorem hJ3_newLength_21 {Q : Int32 → gH → Prop}  (x0 : Int32) (x1 : Int32) (σ : gH) (w : wJ3_newLength_21 Q x0 x1 σ) : E mJ3_newLength 2 0 0 (g_z (c_Ki Q)) 0 0 21 [(0, .int x0), (1, .int x1)] [] σ := by
  unfold wJ3_newLength_21 at w
  refine e_iload_n (n := 22) dJ3_newLength_21 rfl 0 rfl ?_
  refine e_iload_n (n := 23) dJ3_newLength_22 rfl 1 rfl ?_
  refine e_callS (n := 26) (As := [.int x0, .int x1]) (st := []) okJ3_hugeLength q353 q354 q65 q355 (by decide) (Nat.le_refl _) (Nat.le_refl _) rfl rfl (Nat.le_of_ble_eq_true rfl) dJ3_newLength_23 rfl (ctJ3_hugeLength w) (fun r9 σ_3 hk => ?_)
  obtain ⟨v_4, rfl, w⟩ := hk
  exact e_iret rfl (Nat.le_refl _) (Nat.le_refl _) ⟨_, rfl, w⟩ dJ3_newLength_26
set_option maxHeartbeats 4000000 in
theorem ctJ3_newLength {Q : Int32 → gH → Prop} {x0 : Int32} {x1 : Int32} {x2 : Int32} {σ : gH} (w : wJ3_newLength Q x0 x1 x2 σ) : CT mJ3_newLength 2 0 0 [.int x0, .int x1, .int x2] σ (c_Ki Q) := by
  refine CT.of (lv := [(0, .int x0), (1, .int x1), (2, .int x2)]) okJ3_newLength.1 rfl rfl ?_
  unfold wJ3_newLength at w
  refine e_iload_n (n := 1) dJ3_newLength_0 rfl 0 rfl ?_
  refine e_iload_n (n := 2) dJ3_newLength_1 rfl 1 rfl ?_
  refine e_iload_n (n := 3) dJ3_newLength_2 rfl 2 rfl ?_
  refine e_callS (n := 6) (As := [.int x1, .int x2]) (st := [.int x0]) okJ4_max q349 q350 q66 q351 (by decide) (Nat.le_refl _) (Nat.le_refl _) rfl rfl (Nat.le_of_ble_eq_true rfl) dJ3_newLength_3 rfl (ctJ4_max w) (fun r9 σ9 hk => ?_)
  obtain ⟨v_1, rfl, hs9, w⟩ := hk
  rw [hs9]
  refine e_iadd (n := 7) dJ3_newLength_6 rfl ?_
  refine e_topi (fun x3_2 hx3_2 => ?_)
  have w := w x3_2 hx3_2
  refine e_istore_n (n := 8) (lv' := [(0, .int x0), (1, .int x1), (2, .int x2), (3, .int x3_2)]) [1, 2, 3, 0] dJ3_newLength_7 rfl rfl rfl ?_
  refine e_iconst (n := 9) (v := 0) dJ3_newLength_8 rfl (by decide) ?_
  refine e_iload_n (n := 10) dJ3_newLength_9 rfl 3 rfl ?_
  refine e_icmp_ge (n := 13) (tgt := 21) dJ3_newLength_10 rfl (by decide) (fun h => ?_) (fun h => ?_)
  · have w := w.1 h
    refine e_sub (lv' := [(0, .int x0), (1, .int x1)]) [0, 1] rfl ?_
    exact hJ3_newLength_21 _ _ _ w
  · have w := w.2 h
    refine e_iload_n (n := 14) dJ3_newLength_13 rfl 3 rfl ?_
    refine e_ldc (n := 16) q352 dJ3_newLength_14 rfl ?_
    refine e_icmp_gt (n := 19) (tgt := 21) dJ3_newLength_16 rfl (by decide) (fun h => ?_) (fun h => ?_)
    · have w := w.1 h
      refine e_sub (lv' := [(0, .int x0), (1, .int x1)]) [0, 1] rfl ?_
      exact hJ3_newLength_21 _ _ _ w
    · have w := w.2 h
      refine e_iload_n (n := 20) dJ3_newLength_19 rfl 3 rfl ?_
      exact e_iret rfl (Nat.le_refl _) (Nat.le_refl _) ⟨_, rfl, w⟩ dJ3_newLength_20
abbrev mJ4_min : gM := (yJ4_min, cJ4_min, 2, some .int)
theorem okJ4_min : g_ok mJ4_min 2 := ⟨by decide +kernel, by decide +kernel, by decide +kernel, by decide +kernel, by decide⟩
def wJ4_min (Q : Int32 → Prop) (σ : gH) (x0 : Int32) (x1 : Int32) : Prop := (x1 < x0 → (Q x1)) ∧ (¬ x1 < x0 → (Q x0))
set_option maxHeartbeats 4000000 in
theorem ctJ4_min {Q : Int32 → Prop} {x0 : Int32} {x1 : Int32} {σ : gH} (w : wJ4_min Q σ x0 x1) : CT mJ4_min 1 0 0 [.int x0, .int x1] σ (g_Pi σ Q) := by
  refine CT.of (lv := [(0, .int x0), (1, .int x1)]) okJ4_min.1 rfl rfl ?_
  unfold wJ4_min at w
  refine e_iload_n (n := 1) dJ4_min_0 rfl 0 rfl ?_
  refine e_iload_n (n := 2) dJ4_min_1 rfl 1 rfl ?_
  refine e_icmp_gt (n := 5) (tgt := 9) dJ4_min_2 rfl (by decide) (fun h => ?_) (fun h => ?_)
  · have w := w.1 h
    refine e_iload_n (n := 10) dJ4_min_9 rfl 1 rfl ?_
    exact e_iret rfl (Nat.le_refl _) (Nat.le_refl _) ⟨_, rfl, rfl, w⟩ dJ4_min_10
  · have w := w.2 h
    refine e_iload_n (n := 6) dJ4_min_5 rfl 0 rfl ?_
    refine e_goto (n := 10) dJ4_min_6 (by decide) ?_
    exact e_iret rfl (Nat.le_refl _) (Nat.le_refl _) ⟨_, rfl, rfl, w⟩ dJ4_min_10
abbrev mJ5_copyOf_2 : gM := (yJ5_copyOf_2, cJ5_copyOf_2, 4, some (.array (.object "java/lang/Object")))
theorem okJ5_copyOf_2 : g_ok mJ5_copyOf_2 3 := ⟨by decide +kernel, by decide +kernel, by decide +kernel, by decide +kernel, by decide⟩
def wJ5_copyOf_2 (Q : Option Nat → gH → Prop) (mc ms : Nat) (x0 : Option Nat) (x1 : Int32) (x2 : Option Nat) (σ : gH) : Prop := (x2 = some σ.1.2 → (0 + 1 ≤ mc ∧ 0 + x1.toNatClampNeg ≤ ms ∧ ¬ x1 < 0 ∧ x1.toNatClampNeg * 4 ≤ 536870912 ∧ c_new σ (.inl (9, x1.toNatClampNeg, .inr (.inr (.inr (.inr (fun _ => none)))))) (fun q_2 σ_1 => ∃ a_3 : Nat, x0 = some a_3 ∧ (c_len σ_1 a_3 (fun v_4 => wJ4_min (fun (v_5 : Int32) => c_copyQ σ_1 a_3 0 q_2 0 v_5 (fun σ_6 => Q (some q_2) σ_6)) σ_1 v_4 x1))))) ∧ (¬ x2 = some σ.1.2 → False)
set_option maxHeartbeats 4000000 in
theorem ctJ5_copyOf_2 {Q : Option Nat → gH → Prop} {mc ms : Nat} {x0 : Option Nat} {x1 : Int32} {x2 : Option Nat} {σ : gH} (w : wJ5_copyOf_2 Q mc ms x0 x1 x2 σ) : CT mJ5_copyOf_2 2 mc ms [va_rf x0, .int x1, va_rf x2] σ (c_Kr Q) := by
  refine CT.of (lv := [(0, va_rf x0), (1, .int x1), (2, va_rf x2)]) okJ5_copyOf_2.1 (by cases x0 <;> cases x2 <;> rfl) (by cases x0 <;> cases x2 <;> rfl) ?_
  unfold wJ5_copyOf_2 at w
  refine e_aloadr_n (n := 1) (r := x2) dJ5_copyOf_2_0 rfl 2 rfl ?_
  refine e_ldcM (n := 3) q389 dJ5_copyOf_2_1 rfl ?_
  refine e_acmp_ne (n := 6) (tgt := 13) (rx := x2) (ry := some σ.1.2) dJ5_copyOf_2_3 rfl (by decide) (fun h => ?_) (fun h => ?_)
  · have w := w.2 h
    refine e_aloadr_n (n := 14) (r := x2) dJ5_copyOf_2_13 rfl 2 rfl ?_
    exact w.elim
  · have w := w.1 h
    refine e_iload_n (n := 7) dJ5_copyOf_2_6 rfl 1 rfl ?_
    obtain ⟨hu1, hu2, w⟩ := w
    obtain ⟨wn, wb, w⟩ := w
    refine e_cnewq (n := 10) (t := 9) (z := x1) w q391 q390 (fun _ => rfl) wn wb hu1 hu2 dJ5_copyOf_2_7 rfl (fun q_2 σ_1 w => ?_)
    refine e_goto (n := 24) dJ5_copyOf_2_10 (by decide) ?_
    refine e_astore_n (n := 25) (lv' := [(0, va_rf x0), (1, .int x1), (2, va_rf x2), (3, .ref q_2)]) [1, 2, 3, 0] dJ5_copyOf_2_24 rfl rfl (by cases x2 <;> rfl) ?_
    refine e_aloadr_n (n := 26) (r := x0) dJ5_copyOf_2_25 rfl 0 rfl ?_
    refine e_iconst (n := 27) (v := 0) dJ5_copyOf_2_26 rfl (by decide) ?_
    refine e_aload_n (n := 28) dJ5_copyOf_2_27 rfl 3 rfl ?_
    refine e_iconst (n := 29) (v := 0) dJ5_copyOf_2_28 rfl (by decide) ?_
    refine e_aloadr_n (n := 30) (r := x0) dJ5_copyOf_2_29 rfl 0 rfl ?_
    obtain ⟨a_3, ha_3, w9a_3⟩ := w
    subst ha_3
    have w := w9a_3
    refine e_clen (n := 31) w dJ5_copyOf_2_30 rfl (fun v_4 w => ?_)
    refine e_iload_n (n := 32) dJ5_copyOf_2_31 rfl 1 rfl ?_
    refine e_callS (n := 35) (As := [.int v_4, .int x1]) (st := [.int 0, .ref q_2, .int 0, .ref a_3]) okJ4_min q392 q393 q66 q394 (by decide) hu1 hu2 rfl rfl (Nat.le_of_ble_eq_true rfl) dJ5_copyOf_2_32 rfl (ctJ4_min w) (fun r9 σ9 hk => ?_)
    obtain ⟨v_5, rfl, hs9, w⟩ := hk
    rw [hs9]
    refine e_ccopyQ (n := 38) w q395 (by decide) rfl dJ5_copyOf_2_35 rfl (fun σ_6 w => ?_)
    refine e_aload_n (n := 39) dJ5_copyOf_2_38 rfl 3 rfl ?_
    exact e_aret (v := va_rf (some q_2)) rfl (Or.inr ⟨_, rfl⟩) (rf_or _) hu1 hu2 ⟨_, rfl, w⟩ dJ5_copyOf_2_39
abbrev mJ5_copyOf : gM := (yJ5_copyOf, cJ5_copyOf, 2, some (.array (.object "java/lang/Object")))
theorem okJ5_copyOf : g_ok mJ5_copyOf 2 := ⟨by decide +kernel, by decide +kernel, by decide +kernel, by decide +kernel, by decide⟩
def wJ5_copyOf (Q : Option Nat → gH → Prop) (mc ms : Nat) (x0 : Option Nat) (x1 : Int32) (σ : gH) : Prop := ∃ a_1 : Nat, x0 = some a_1 ∧ ((∃ (N : Nat) (x : (Nat → Int32) ⊕ (Nat → Int64) ⊕ (Nat → UInt32) ⊕ (Nat → UInt64) ⊕ (Nat → Option Nat)), σ.2 a_1 = some (.inl (9, N, x))) ∧ (∃ c_4 b_5 : Nat, 0 + c_4 ≤ mc ∧ 0 + b_5 ≤ ms ∧ wJ5_copyOf_2 (fun (r_3 : Option Nat) (σ_2 : gH) => Q r_3 σ_2) c_4 b_5 (some a_1) x1 (some σ.1.2) σ))
set_option maxHeartbeats 4000000 in
theorem ctJ5_copyOf {Q : Option Nat → gH → Prop} {mc ms : Nat} {x0 : Option Nat} {x1 : Int32} {σ : gH} (w : wJ5_copyOf Q mc ms x0 x1 σ) : CT mJ5_copyOf 3 mc ms [va_rf x0, .int x1] σ (c_Kr Q) := by
  refine CT.of (lv := [(0, va_rf x0), (1, .int x1)]) okJ5_copyOf.1 (by cases x0 <;> rfl) (by cases x0 <;> rfl) ?_
  unfold wJ5_copyOf at w
  refine e_aloadr_n (n := 1) (r := x0) dJ5_copyOf_0 rfl 0 rfl ?_
  refine e_iload_n (n := 2) dJ5_copyOf_1 rfl 1 rfl ?_
  refine e_aloadr_n (n := 3) (r := x0) dJ5_copyOf_2 rfl 0 rfl ?_
  obtain ⟨a_1, ha_1, w9a_1⟩ := w
  subst ha_1
  have w := w9a_1
  obtain ⟨⟨_, _, wc⟩, w⟩ := w
  refine e_getC (n := 6) wc q359 q1798 q1797 q360 q385 (by decide) rfl dJ5_copyOf_3 rfl ?_
  obtain ⟨c_4, b_5, hu1, hu2, w⟩ := w
  refine e_callS (n := 9) (As := [va_rf (some a_1), .int x1, va_rf (some σ.1.2)]) (st := []) okJ5_copyOf_2 q386 q387 q67 q388 (by decide) hu1 hu2 rfl rfl (Nat.le_of_ble_eq_true rfl) dJ5_copyOf_6 rfl (ctJ5_copyOf_2 w) (fun r9 σ_2 hk => ?_)
  obtain ⟨r_3, rfl, w⟩ := hk
  exact e_aret (v := va_rf r_3) rfl (Or.inr ⟨_, rfl⟩) (rf_or _) hu1 hu2 ⟨_, rfl, w⟩ dJ5_copyOf_9
abbrev mJ2_grow_2 : gM := (yJ2_grow_2, cJ2_grow_2, 4, some (.array (.object "java/lang/Object")))
theorem okJ2_grow_2 : g_ok mJ2_grow_2 1 := ⟨by decide +kernel, by decide +kernel, by decide +kernel, by decide +kernel, by decide⟩
def wJ2_grow_2_20 (Q : Option Nat → gH → Prop) (mc ms : Nat)  (uc : Nat) (us : Nat) (x0 : Nat) (x1 : Int32) (x2 : Int32) (σ : gH) : Prop := wJ3_newLength (fun (v_5 : Int32) (σ_4 : gH) => c_R σ_4 [18] x0 1 (fun r_6 => ∃ c_9 b_10 : Nat, uc + c_9 ≤ mc ∧ us + b_10 ≤ ms ∧ wJ5_copyOf (fun (r_8 : Option Nat) (σ_7 : gH) => c_P σ_7 [18] x0 1 (va_rf r_8) (fun σ_11 => Q r_8 σ_11)) c_9 b_10 r_6 v_5 σ_4)) x2 (x1 - x2) (x2 >>> ((1 : Int32) &&& 31)) σ
def wJ2_grow_2 (Q : Option Nat → gH → Prop) (mc ms : Nat) (x0 : Nat) (x1 : Int32) (σ : gH) : Prop := c_R σ [18] x0 1 (fun r_1 => ∃ a_2 : Nat, r_1 = some a_2 ∧ (c_len σ a_2 (fun v_3 => (0 < v_3 → (wJ2_grow_2_20 Q mc ms 0 0 x0 x1 v_3 σ)) ∧ (¬ 0 < v_3 → (c_R σ [18] x0 1 (fun r_12 => (r_12 = some σ.1.1 → (wJ4_max (fun (v_13 : Int32) => 0 + 1 ≤ mc ∧ 0 + v_13.toNatClampNeg ≤ ms ∧ ¬ v_13 < 0 ∧ v_13.toNatClampNeg * 4 ≤ 536870912 ∧ c_new σ (.inl (9, v_13.toNatClampNeg, .inr (.inr (.inr (.inr (fun _ => none)))))) (fun q_15 σ_14 => c_P σ_14 [18] x0 1 (va_rf (some q_15)) (fun σ_16 => Q (some q_15) σ_16))) σ 10 x1)) ∧ (¬ r_12 = some σ.1.1 → (wJ2_grow_2_20 Q mc ms 0 0 x0 x1 v_3 σ))))))))
set_option maxHeartbeats 4000000 in
theorem hJ2_grow_2_20 {Q : Option Nat → gH → Prop} {mc ms : Nat}  (uc : Nat) (us : Nat) (x0 : Nat) (x1 : Int32) (x2 : Int32) (σ : gH) (hu1 : uc ≤ mc) (hu2 : us ≤ ms) (w : wJ2_grow_2_20 Q mc ms uc us x0 x1 x2 σ) : E mJ2_grow_2 4 mc ms (g_z (c_Kr Q)) uc us 20 [(0, .ref x0), (1, .int x1), (2, .int x2)] [] σ := by
  unfold wJ2_grow_2_20 at w
  refine e_iload_n (n := 21) dJ2_grow_2_20 rfl 2 rfl ?_
  refine e_iload_n (n := 22) dJ2_grow_2_21 rfl 1 rfl ?_
  refine e_iload_n (n := 23) dJ2_grow_2_22 rfl 2 rfl ?_
  refine e_isub (n := 24) dJ2_grow_2_23 rfl ?_
  refine e_iload_n (n := 25) dJ2_grow_2_24 rfl 2 rfl ?_
  refine e_iconst (n := 26) (v := 1) dJ2_grow_2_25 rfl (by decide) ?_
  refine e_ishr (n := 27) dJ2_grow_2_26 rfl ?_
  refine e_callS (n := 30) (As := [.int x2, .int (x1 - x2), .int (x2 >>> ((1 : Int32) &&& 31))]) (st := []) okJ3_newLength q346 q347 q65 q348 (by decide) hu1 hu2 rfl rfl (Nat.le_of_ble_eq_true rfl) dJ2_grow_2_27 rfl (ctJ3_newLength w) (fun r9 σ_4 hk => ?_)
  obtain ⟨v_5, rfl, w⟩ := hk
  refine e_istore_n (n := 31) (lv' := [(0, .ref x0), (1, .int x1), (2, .int x2), (3, .int v_5)]) [1, 2, 3, 0] dJ2_grow_2_30 rfl rfl rfl ?_
  refine e_aload_n (n := 32) dJ2_grow_2_31 rfl 0 rfl ?_
  refine e_aload_n (n := 33) dJ2_grow_2_32 rfl 0 rfl ?_
  refine e_cR (n := 36) w fw_J2_elementData (gl_o q117) dJ2_grow_2_33 rfl (fun r_6 w => ?_)
  refine e_iload_n (n := 37) dJ2_grow_2_36 rfl 3 rfl ?_
  obtain ⟨c_9, b_10, hu1, hu2, w⟩ := w
  refine e_callS (n := 40) (As := [va_rf r_6, .int v_5]) (st := [.ref x0]) okJ5_copyOf q356 q357 q67 q358 (by decide) hu1 hu2 rfl rfl (Nat.le_of_ble_eq_true rfl) dJ2_grow_2_37 rfl (ctJ5_copyOf w) (fun r9 σ_7 hk => ?_)
  obtain ⟨r_8, rfl, w⟩ := hk
  refine e_dup_x1 (n := 41) dJ2_grow_2_40 rfl (rf_c1 _) rfl ?_
  refine e_cP (n := 44) (ty := (.array (.object "java/lang/Object"))) w tyJ2 tyJ2_ok nmJ2 in_J2 rfl rfl (gl_o q117) rfl rfl (rf_narA _ r_8) dJ2_grow_2_41 rfl (fun σ_11 w => ?_)
  exact e_aret (v := va_rf r_8) rfl (Or.inr ⟨_, rfl⟩) (rf_or _) hu1 hu2 ⟨_, rfl, w⟩ dJ2_grow_2_44
set_option maxHeartbeats 4000000 in
theorem ctJ2_grow_2 {Q : Option Nat → gH → Prop} {mc ms : Nat} {x0 : Nat} {x1 : Int32} {σ : gH} (w : wJ2_grow_2 Q mc ms x0 x1 σ) : CT mJ2_grow_2 4 mc ms [.ref x0, .int x1] σ (c_Kr Q) := by
  refine CT.of (lv := [(0, .ref x0), (1, .int x1)]) okJ2_grow_2.1 rfl rfl ?_
  unfold wJ2_grow_2 at w
  refine e_aload_n (n := 1) dJ2_grow_2_0 rfl 0 rfl ?_
  refine e_cR (n := 4) w fw_J2_elementData (gl_o q117) dJ2_grow_2_1 rfl (fun r_1 w => ?_)
  obtain ⟨a_2, ha_2, w9a_2⟩ := w
  subst ha_2
  have w := w9a_2
  refine e_clen (n := 5) w dJ2_grow_2_4 rfl (fun v_3 w => ?_)
  refine e_istore_n (n := 6) (lv' := [(0, .ref x0), (1, .int x1), (2, .int v_3)]) [1, 2, 0] dJ2_grow_2_5 rfl rfl rfl ?_
  refine e_iload_n (n := 7) dJ2_grow_2_6 rfl 2 rfl ?_
  refine e_if_gt (n := 10) (tgt := 20) dJ2_grow_2_7 rfl (by decide) (fun h => ?_) (fun h => ?_)
  · have w := w.1 h
    exact hJ2_grow_2_20 _ _ _ _ _ _ (Nat.zero_le _) (Nat.zero_le _) w
  · have w := w.2 h
    refine e_aload_n (n := 11) dJ2_grow_2_10 rfl 0 rfl ?_
    refine e_cR (n := 14) w fw_J2_elementData (gl_o q117) dJ2_grow_2_11 rfl (fun r_12 w => ?_)
    refine e_gets (n := 17) q115 dJ2_grow_2_14 rfl ?_
    refine e_acmp_eq (n := 20) (tgt := 45) (rx := r_12) (ry := some σ.1.1) dJ2_grow_2_17 rfl (by decide) (fun h => ?_) (fun h => ?_)
    · have w := w.1 h
      refine e_aload_n (n := 46) dJ2_grow_2_45 rfl 0 rfl ?_
      refine e_bipush (n := 48) (v := 10) dJ2_grow_2_46 rfl (by decide) ?_
      refine e_iload_n (n := 49) dJ2_grow_2_48 rfl 1 rfl ?_
      refine e_callS (n := 52) (As := [.int 10, .int x1]) (st := [.ref x0]) okJ4_max q398 q350 q66 q351 (by decide) (Nat.zero_le _) (Nat.zero_le _) rfl rfl (Nat.le_of_ble_eq_true rfl) dJ2_grow_2_49 rfl (ctJ4_max w) (fun r9 σ9 hk => ?_)
      obtain ⟨v_13, rfl, hs9, w⟩ := hk
      rw [hs9]
      obtain ⟨hu1, hu2, w⟩ := w
      obtain ⟨wn, wb, w⟩ := w
      refine e_cnewq (n := 55) (t := 9) (z := v_13) w q399 q390 (fun _ => rfl) wn wb hu1 hu2 dJ2_grow_2_52 rfl (fun q_15 σ_14 w => ?_)
      refine e_dup_x1 (n := 56) dJ2_grow_2_55 rfl rfl rfl ?_
      refine e_cP (n := 59) (ty := (.array (.object "java/lang/Object"))) w tyJ2 tyJ2_ok nmJ2 in_J2 rfl rfl (gl_o q117) rfl rfl (rf_narA _ (some q_15)) dJ2_grow_2_56 rfl (fun σ_16 w => ?_)
      exact e_aret (v := va_rf (some q_15)) rfl (Or.inr ⟨_, rfl⟩) (rf_or _) hu1 hu2 ⟨_, rfl, w⟩ dJ2_grow_2_59
    · have w := w.2 h
      exact hJ2_grow_2_20 _ _ _ _ _ _ (Nat.zero_le _) (Nat.zero_le _) w
abbrev mJ2_grow : gM := (yJ2_grow, cJ2_grow, 1, some (.array (.object "java/lang/Object")))
theorem okJ2_grow : g_ok mJ2_grow 0 := ⟨by decide +kernel, by decide +kernel, by decide +kernel, by decide +kernel, by decide⟩
def wJ2_grow (Q : Option Nat → gH → Prop) (mc ms : Nat) (x0 : Nat) (σ : gH) : Prop := c_I σ [18] x0 2 (fun v_1 => ∃ fs_6 : List Value, σ.2 x0 = some (.inr (18, fs_6)) ∧ ∃ c_4 b_5 : Nat, 0 + c_4 ≤ mc ∧ 0 + b_5 ≤ ms ∧ (wJ2_grow_2 (fun (r_3 : Option Nat) (σ_2 : gH) => Q r_3 σ_2) c_4 b_5 x0 (v_1 + 1) σ))
set_option maxHeartbeats 4000000 in
theorem ctJ2_grow {Q : Option Nat → gH → Prop} {mc ms : Nat} {x0 : Nat} {σ : gH} (w : wJ2_grow Q mc ms x0 σ) : CT mJ2_grow 5 mc ms [.ref x0] σ (c_Kr Q) := by
  refine CT.of (lv := [(0, .ref x0)]) okJ2_grow.1 rfl rfl ?_
  unfold wJ2_grow at w
  refine e_aload_n (n := 1) dJ2_grow_0 rfl 0 rfl ?_
  refine e_aload_n (n := 2) dJ2_grow_1 rfl 0 rfl ?_
  refine e_cI (n := 5) w fw_J2_size (gl_o q118) dJ2_grow_2 rfl (fun v_1 w => ?_)
  refine e_iconst (n := 6) (v := 1) dJ2_grow_5 rfl (by decide) ?_
  refine e_iadd (n := 7) dJ2_grow_6 rfl ?_
  obtain ⟨fs_6, wo, w⟩ := w
  obtain ⟨c_4, b_5, hu1, hu2, w⟩ := w
  refine e_callV (n := 10) (As := [.int (v_1 + 1)]) (st := []) okJ2_grow_2 q342 q344 qs3 q60 q345 rfl wo rfl (by decide) hu1 hu2 rfl rfl (Nat.le_of_ble_eq_true rfl) dJ2_grow_7 rfl (ctJ2_grow_2 w) (fun r9 σ_2 hk => ?_)
  obtain ⟨r_3, rfl, w⟩ := hk
  exact e_aret (v := va_rf r_3) rfl (Or.inr ⟨_, rfl⟩) (rf_or _) hu1 hu2 ⟨_, rfl, w⟩ dJ2_grow_10
abbrev mJ2_add_2 : gM := (yJ2_add_2, cJ2_add_2, 4, none)
theorem okJ2_add_2 : g_ok mJ2_add_2 3 := ⟨by decide +kernel, by decide +kernel, by decide +kernel, by decide +kernel, by decide⟩
def wJ2_add_2_11 (Q : gH → Prop) (mc ms : Nat)  (uc : Nat) (us : Nat) (x0 : Nat) (x1 : Option Nat) (x2 : Option Nat) (x3 : Int32) (σ : gH) : Prop := ∃ a_3 : Nat, x2 = some a_3 ∧ (c_sR 9 [0, 1, 2, 3, 4, 5, 6, 7, 8, 9, 10, 11, 12, 13, 14, 15, 16, 17, 18] σ a_3 x3 x1 (fun σ_4 => c_P σ_4 [18] x0 2 (.int (x3 + 1)) (fun σ_5 => Q σ_5)))
def wJ2_add_2 (Q : gH → Prop) (mc ms : Nat) (x0 : Nat) (x1 : Option Nat) (x2 : Option Nat) (x3 : Int32) (σ : gH) : Prop := ∃ a_1 : Nat, x2 = some a_1 ∧ (c_len σ a_1 (fun v_2 => (x3 = v_2 → (∃ fs_10 : List Value, σ.2 x0 = some (.inr (18, fs_10)) ∧ ∃ c_8 b_9 : Nat, 0 + c_8 ≤ mc ∧ 0 + b_9 ≤ ms ∧ (wJ2_grow (fun (r_7 : Option Nat) (σ_6 : gH) => wJ2_add_2_11 Q mc ms (0 + c_8) (0 + b_9) x0 x1 r_7 x3 σ_6) c_8 b_9 x0 σ))) ∧ (¬ x3 = v_2 → (wJ2_add_2_11 Q mc ms 0 0 x0 x1 (some a_1) x3 σ))))
set_option maxHeartbeats 4000000 in
theorem hJ2_add_2_11 {Q : gH → Prop} {mc ms : Nat}  (uc : Nat) (us : Nat) (x0 : Nat) (x1 : Option Nat) (x2 : Option Nat) (x3 : Int32) (σ : gH) (hu1 : uc ≤ mc) (hu2 : us ≤ ms) (w : wJ2_add_2_11 Q mc ms uc us x0 x1 x2 x3 σ) : E mJ2_add_2 6 mc ms (g_z (c_Kv Q)) uc us 11 [(0, .ref x0), (1, va_rf x1), (2, va_rf x2), (3, .int x3)] [] σ := by
  unfold wJ2_add_2_11 at w
  refine e_aloadr_n (n := 12) (r := x2) dJ2_add_2_11 rfl 2 rfl ?_
  refine e_iload_n (n := 13) dJ2_add_2_12 rfl 3 rfl ?_
  refine e_aloadr_n (n := 14) (r := x1) dJ2_add_2_13 rfl 1 rfl ?_
  obtain ⟨a_3, ha_3, w9a_3⟩ := w
  subst ha_3
  have w := w9a_3
  refine e_csR (n := 15) (r := x1) w tk_9 dJ2_add_2_14 rfl (fun σ_4 w => ?_)
  refine e_aload_n (n := 16) dJ2_add_2_15 rfl 0 rfl ?_
  refine e_iload_n (n := 17) dJ2_add_2_16 rfl 3 rfl ?_
  refine e_iconst (n := 18) (v := 1) dJ2_add_2_17 rfl (by decide) ?_
  refine e_iadd (n := 19) dJ2_add_2_18 rfl ?_
  refine e_cP (n := 22) (ty := .int) w tyJ2 tyJ2_ok nmJ2 in_J2 rfl rfl (gl_o q118) rfl rfl ⟨rfl, rfl⟩ dJ2_add_2_19 rfl (fun σ_5 w => ?_)
  exact e_vret rfl hu1 hu2 ⟨rfl, w⟩ dJ2_add_2_22
set_option maxHeartbeats 4000000 in
theorem ctJ2_add_2 {Q : gH → Prop} {mc ms : Nat} {x0 : Nat} {x1 : Option Nat} {x2 : Option Nat} {x3 : Int32} {σ : gH} (w : wJ2_add_2 Q mc ms x0 x1 x2 x3 σ) : CT mJ2_add_2 6 mc ms [.ref x0, va_rf x1, va_rf x2, .int x3] σ (c_Kv Q) := by
  refine CT.of (lv := [(0, .ref x0), (1, va_rf x1), (2, va_rf x2), (3, .int x3)]) okJ2_add_2.1 (by cases x1 <;> cases x2 <;> rfl) (by cases x1 <;> cases x2 <;> rfl) ?_
  unfold wJ2_add_2 at w
  refine e_iload_n (n := 1) dJ2_add_2_0 rfl 3 rfl ?_
  refine e_aloadr_n (n := 2) (r := x2) dJ2_add_2_1 rfl 2 rfl ?_
  obtain ⟨a_1, ha_1, w9a_1⟩ := w
  subst ha_1
  have w := w9a_1
  refine e_clen (n := 3) w dJ2_add_2_2 rfl (fun v_2 w => ?_)
  refine e_icmp_ne (n := 6) (tgt := 11) dJ2_add_2_3 rfl (by decide) (fun h => ?_) (fun h => ?_)
  · have w := w.2 h
    refine e_sub (lv' := [(0, .ref x0), (1, va_rf x1), (2, va_rf (some a_1)), (3, .int x3)]) [0, 1, 2, 3] rfl ?_
    exact hJ2_add_2_11 _ _ _ _ _ _ _ (Nat.zero_le _) (Nat.zero_le _) w
  · have w := w.1 h
    refine e_aload_n (n := 7) dJ2_add_2_6 rfl 0 rfl ?_
    obtain ⟨fs_10, wo, w⟩ := w
    obtain ⟨c_8, b_9, hu1, hu2, w⟩ := w
    refine e_callV (n := 10) (As := []) (st := []) okJ2_grow q338 q340 qs2 q60 q341 rfl wo rfl (by decide) hu1 hu2 rfl rfl (Nat.le_of_ble_eq_true rfl) dJ2_add_2_7 rfl (ctJ2_grow w) (fun r9 σ_6 hk => ?_)
    obtain ⟨r_7, rfl, w⟩ := hk
    refine e_astorer_n (n := 11) (r := r_7) (lv' := [(0, .ref x0), (1, va_rf x1), (2, va_rf r_7), (3, .int x3)]) [1, 2, 0, 3] dJ2_add_2_10 rfl rfl (by cases x1 <;> rfl) ?_
    exact hJ2_add_2_11 _ _ _ _ _ _ _ hu1 hu2 w
abbrev mJ2_add : gM := (yJ2_add, cJ2_add, 2, some .boolean)
theorem okJ2_add : g_ok mJ2_add 1 := ⟨by decide +kernel, by decide +kernel, by decide +kernel, by decide +kernel, by decide⟩
def wJ2_add (Q : Int32 → gH → Prop) (mc ms : Nat) (x0 : Nat) (x1 : Option Nat) (σ : gH) : Prop := c_I σ [18] x0 0 (fun v_1 => c_P σ [18] x0 0 (.int (v_1 + 1)) (fun σ_2 => c_R σ_2 [18] x0 1 (fun r_3 => c_I σ_2 [18] x0 2 (fun v_4 => ∃ fs_8 : List Value, σ_2.2 x0 = some (.inr (18, fs_8)) ∧ ∃ c_6 b_7 : Nat, 0 + c_6 ≤ mc ∧ 0 + b_7 ≤ ms ∧ (wJ2_add_2 (fun (σ_5 : gH) => Q 1 σ_5) c_6 b_7 x0 x1 r_3 v_4 σ_2)))))
set_option maxHeartbeats 4000000 in
theorem ctJ2_add {Q : Int32 → gH → Prop} {mc ms : Nat} {x0 : Nat} {x1 : Option Nat} {σ : gH} (w : wJ2_add Q mc ms x0 x1 σ) : CT mJ2_add 7 mc ms [.ref x0, va_rf x1] σ (c_Ki Q) := by
  refine CT.of (lv := [(0, .ref x0), (1, va_rf x1)]) okJ2_add.1 (by cases x1 <;> rfl) (by cases x1 <;> rfl) ?_
  unfold wJ2_add at w
  refine e_aload_n (n := 1) dJ2_add_0 rfl 0 rfl ?_
  refine e_dup (n := 2) dJ2_add_1 rfl rfl ?_
  refine e_cI (n := 5) w fw_J1_modCount (gl_s q120 q121) dJ2_add_2 rfl (fun v_1 w => ?_)
  refine e_iconst (n := 6) (v := 1) dJ2_add_5 rfl (by decide) ?_
  refine e_iadd (n := 7) dJ2_add_6 rfl ?_
  refine e_cP (n := 10) (ty := .int) w tyJ2 tyJ2_ok nmJ2 in_J2 rfl rfl (gl_s q120 q121) rfl rfl ⟨rfl, rfl⟩ dJ2_add_7 rfl (fun σ_2 w => ?_)
  refine e_aload_n (n := 11) dJ2_add_10 rfl 0 rfl ?_
  refine e_aloadr_n (n := 12) (r := x1) dJ2_add_11 rfl 1 rfl ?_
  refine e_aload_n (n := 13) dJ2_add_12 rfl 0 rfl ?_
  refine e_cR (n := 16) w fw_J2_elementData (gl_o q117) dJ2_add_13 rfl (fun r_3 w => ?_)
  refine e_aload_n (n := 17) dJ2_add_16 rfl 0 rfl ?_
  refine e_cI (n := 20) w fw_J2_size (gl_o q118) dJ2_add_17 rfl (fun v_4 w => ?_)
  obtain ⟨fs_8, wo, w⟩ := w
  obtain ⟨c_6, b_7, hu1, hu2, w⟩ := w
  refine e_callV (n := 23) (As := [va_rf x1, va_rf r_3, .int v_4]) (st := []) okJ2_add_2 q334 q336 qs1 q60 q337 rfl wo rfl (by decide) hu1 hu2 rfl rfl (Nat.le_of_ble_eq_true rfl) dJ2_add_20 rfl (ctJ2_add_2 w) (fun r9 σ_5 hk => ?_)
  obtain ⟨rfl, w⟩ := hk
  refine e_iconst (n := 24) (v := 1) dJ2_add_23 rfl (by decide) ?_
  exact e_zret rfl rfl hu1 hu2 ⟨_, rfl, w⟩ dJ2_add_24
abbrev mJ7_checkIndex : gM := (yJ7_checkIndex, cJ7_checkIndex, 3, some .int)
theorem okJ7_checkIndex : g_ok mJ7_checkIndex 3 := ⟨by decide +kernel, by decide +kernel, by decide +kernel, by decide +kernel, by decide⟩
def wJ7_checkIndex_9 (Q : Int32 → Prop) (σ : gH)  (x0 : Int32) (x1 : Int32) (x2 : Option Nat) : Prop := False
def wJ7_checkIndex (Q : Int32 → Prop) (σ : gH) (x0 : Int32) (x1 : Int32) (x2 : Option Nat) : Prop := (x0 < 0 → (wJ7_checkIndex_9 Q σ x0 x1 x2)) ∧ (¬ x0 < 0 → ((x0 < x1 → (Q x0)) ∧ (¬ x0 < x1 → (wJ7_checkIndex_9 Q σ x0 x1 x2))))
set_option maxHeartbeats 4000000 in
theorem hJ7_checkIndex_9 {Q : Int32 → Prop} {σ : gH}  (x0 : Int32) (x1 : Int32) (x2 : Option Nat) (w : wJ7_checkIndex_9 Q σ x0 x1 x2) : E mJ7_checkIndex 1 0 0 (g_z (g_Pi σ Q)) 0 0 9 [(0, .int x0), (1, .int x1), (2, va_rf x2)] [] σ := by
  unfold wJ7_checkIndex_9 at w
  refine e_aloadr_n (n := 10) (r := x2) dJ7_checkIndex_9 rfl 2 rfl ?_
  refine e_iload_n (n := 11) dJ7_checkIndex_10 rfl 0 rfl ?_
  refine e_iload_n (n := 12) dJ7_checkIndex_11 rfl 1 rfl ?_
  exact w.elim
set_option maxHeartbeats 4000000 in
theorem ctJ7_checkIndex {Q : Int32 → Prop} {x0 : Int32} {x1 : Int32} {x2 : Option Nat} {σ : gH} (w : wJ7_checkIndex Q σ x0 x1 x2) : CT mJ7_checkIndex 1 0 0 [.int x0, .int x1, va_rf x2] σ (g_Pi σ Q) := by
  refine CT.of (lv := [(0, .int x0), (1, .int x1), (2, va_rf x2)]) okJ7_checkIndex.1 (by cases x2 <;> rfl) (by cases x2 <;> rfl) ?_
  unfold wJ7_checkIndex at w
  refine e_iload_n (n := 1) dJ7_checkIndex_0 rfl 0 rfl ?_
  refine e_if_lt (n := 4) (tgt := 9) dJ7_checkIndex_1 rfl (by decide) (fun h => ?_) (fun h => ?_)
  · have w := w.1 h
    exact hJ7_checkIndex_9 _ _ _ w
  · have w := w.2 h
    refine e_iload_n (n := 5) dJ7_checkIndex_4 rfl 0 rfl ?_
    refine e_iload_n (n := 6) dJ7_checkIndex_5 rfl 1 rfl ?_
    refine e_icmp_lt (n := 9) (tgt := 16) dJ7_checkIndex_6 rfl (by decide) (fun h => ?_) (fun h => ?_)
    · have w := w.1 h
      refine e_iload_n (n := 17) dJ7_checkIndex_16 rfl 0 rfl ?_
      exact e_iret rfl (Nat.le_refl _) (Nat.le_refl _) ⟨_, rfl, rfl, w⟩ dJ7_checkIndex_17
    · have w := w.2 h
      exact hJ7_checkIndex_9 _ _ _ w
abbrev mJ6_checkIndex : gM := (yJ6_checkIndex, cJ6_checkIndex, 2, some .int)
theorem okJ6_checkIndex : g_ok mJ6_checkIndex 2 := ⟨by decide +kernel, by decide +kernel, by decide +kernel, by decide +kernel, by decide⟩
def wJ6_checkIndex (Q : Int32 → Prop) (σ : gH) (x0 : Int32) (x1 : Int32) : Prop := wJ7_checkIndex (fun (v_1 : Int32) => Q v_1) σ x0 x1 none
set_option maxHeartbeats 4000000 in
theorem ctJ6_checkIndex {Q : Int32 → Prop} {x0 : Int32} {x1 : Int32} {σ : gH} (w : wJ6_checkIndex Q σ x0 x1) : CT mJ6_checkIndex 2 0 0 [.int x0, .int x1] σ (g_Pi σ Q) := by
  refine CT.of (lv := [(0, .int x0), (1, .int x1)]) okJ6_checkIndex.1 rfl rfl ?_
  unfold wJ6_checkIndex at w
  refine e_iload_n (n := 1) dJ6_checkIndex_0 rfl 0 rfl ?_
  refine e_iload_n (n := 2) dJ6_checkIndex_1 rfl 1 rfl ?_
  refine e_null (n := 3) dJ6_checkIndex_2 rfl ?_
  refine e_callS (n := 6) (As := [.int x0, .int x1, va_rf none]) (st := []) okJ7_checkIndex q420 q421 q70 q422 (by decide) (Nat.le_refl _) (Nat.le_refl _) rfl rfl (Nat.le_of_ble_eq_true rfl) dJ6_checkIndex_3 rfl (ctJ7_checkIndex w) (fun r9 σ9 hk => ?_)
  obtain ⟨v_1, rfl, hs9, w⟩ := hk
  rw [hs9]
  exact e_iret rfl (Nat.le_refl _) (Nat.le_refl _) ⟨_, rfl, rfl, w⟩ dJ6_checkIndex_6
abbrev mJ2_elementData : gM := (yJ2_elementData, cJ2_elementData, 2, some (.object "java/lang/Object"))
theorem okJ2_elementData : g_ok mJ2_elementData 1 := ⟨by decide +kernel, by decide +kernel, by decide +kernel, by decide +kernel, by decide⟩
def wJ2_elementData (Q : Option Nat → Prop) (σ : gH) (x0 : Nat) (x1 : Int32) : Prop := c_R σ [18] x0 1 (fun r_1 => ∃ a_2 : Nat, r_1 = some a_2 ∧ (c_aR 9 σ a_2 x1 (fun r_3 => Q r_3)))
set_option maxHeartbeats 4000000 in
theorem ctJ2_elementData {Q : Option Nat → Prop} {x0 : Nat} {x1 : Int32} {σ : gH} (w : wJ2_elementData Q σ x0 x1) : CT mJ2_elementData 1 0 0 [.ref x0, .int x1] σ (g_Pr σ Q) := by
  refine CT.of (lv := [(0, .ref x0), (1, .int x1)]) okJ2_elementData.1 rfl rfl ?_
  unfold wJ2_elementData at w
  refine e_aload_n (n := 1) dJ2_elementData_0 rfl 0 rfl ?_
  refine e_cR (n := 4) w fw_J2_elementData (gl_o q117) dJ2_elementData_1 rfl (fun r_1 w => ?_)
  refine e_iload_n (n := 5) dJ2_elementData_4 rfl 1 rfl ?_
  obtain ⟨a_2, ha_2, w9a_2⟩ := w
  subst ha_2
  have w := w9a_2
  refine e_caR (n := 6) w (fun _ => rfl) rfl dJ2_elementData_5 rfl (fun r_3 w => ?_)
  exact e_aret (v := va_rf r_3) rfl (Or.inl ⟨_, rfl⟩) (rf_or _) (Nat.le_refl _) (Nat.le_refl _) ⟨_, rfl, rfl, w⟩ dJ2_elementData_6
abbrev mJ2_get : gM := (yJ2_get, cJ2_get, 2, some (.object "java/lang/Object"))
theorem okJ2_get : g_ok mJ2_get 1 := ⟨by decide +kernel, by decide +kernel, by decide +kernel, by decide +kernel, by decide⟩
def wJ2_get (Q : Option Nat → Prop) (σ : gH) (x0 : Nat) (x1 : Int32) : Prop := c_I σ [18] x0 2 (fun v_1 => wJ6_checkIndex (fun (v_2 : Int32) => ∃ fs_4 : List Value, σ.2 x0 = some (.inr (18, fs_4)) ∧ (wJ2_elementData (fun (r_3 : Option Nat) => Q r_3) σ x0 x1)) σ x1 v_1)
set_option maxHeartbeats 4000000 in
theorem ctJ2_get {Q : Option Nat → Prop} {x0 : Nat} {x1 : Int32} {σ : gH} (w : wJ2_get Q σ x0 x1) : CT mJ2_get 3 0 0 [.ref x0, .int x1] σ (g_Pr σ Q) := by
  refine CT.of (lv := [(0, .ref x0), (1, .int x1)]) okJ2_get.1 rfl rfl ?_
  unfold wJ2_get at w
  refine e_iload_n (n := 1) dJ2_get_0 rfl 1 rfl ?_
  refine e_aload_n (n := 2) dJ2_get_1 rfl 0 rfl ?_
  refine e_cI (n := 5) w fw_J2_size (gl_o q118) dJ2_get_2 rfl (fun v_1 w => ?_)
  refine e_callS (n := 8) (As := [.int x1, .int v_1]) (st := []) okJ6_checkIndex q417 q418 q69 q419 (by decide) (Nat.le_refl _) (Nat.le_refl _) rfl rfl (Nat.le_of_ble_eq_true rfl) dJ2_get_5 rfl (ctJ6_checkIndex w) (fun r9 σ9 hk => ?_)
  obtain ⟨v_2, rfl, hs9, w⟩ := hk
  rw [hs9]
  refine e_pop (n := 9) dJ2_get_8 rfl rfl ?_
  refine e_aload_n (n := 10) dJ2_get_9 rfl 0 rfl ?_
  refine e_iload_n (n := 11) dJ2_get_10 rfl 1 rfl ?_
  obtain ⟨fs_4, wo, w⟩ := w
  refine e_callV (n := 14) (As := [.int x1]) (st := []) okJ2_elementData q423 q424 q425 q60 q426 rfl wo rfl (by decide) (Nat.le_refl _) (Nat.le_refl _) rfl rfl (Nat.le_of_ble_eq_true rfl) dJ2_get_11 rfl (ctJ2_elementData w) (fun r9 σ9 hk => ?_)
  obtain ⟨r_3, rfl, hs9, w⟩ := hk
  rw [hs9]
  exact e_aret (v := va_rf r_3) rfl (Or.inl ⟨_, rfl⟩) (rf_or _) (Nat.le_refl _) (Nat.le_refl _) ⟨_, rfl, rfl, w⟩ dJ2_get_14
abbrev mJ2_clear : gM := (yJ2_clear, cJ2_clear, 4, none)
theorem okJ2_clear : g_ok mJ2_clear 0 := ⟨by decide +kernel, by decide +kernel, by decide +kernel, by decide +kernel, by decide⟩
def wJ2_clear_27 (Q : gH → Prop) (k42 : gH → Prop) : Nat → (Option Nat) → Int32 → Int32 → gH → Prop
  | 0 => fun _ _ _ _ => False
  | n + 1 => fun x1 x2 x3 σ => (x2 ≤ x3 → (k42 σ)) ∧ (¬ x2 ≤ x3 → (∃ a_7 : Nat, x1 = some a_7 ∧ (c_sR 9 [0, 1, 2, 3, 4, 5, 6, 7, 8, 9, 10, 11, 12, 13, 14, 15, 16, 17, 18] σ a_7 x3 none (fun σ_8 => ∀ x3_9 : Int32, x3_9 = x3 + 1 → (wJ2_clear_27 Q k42 n (some a_7) x2 x3_9 σ_8)))))
def wJ2_clear (Q : gH → Prop) (x0 : Nat) (σ : gH) : Prop := c_I σ [18] x0 0 (fun v_1 => c_P σ [18] x0 0 (.int (v_1 + 1)) (fun σ_2 => c_R σ_2 [18] x0 1 (fun r_3 => c_I σ_2 [18] x0 2 (fun v_4 => c_P σ_2 [18] x0 2 (.int 0) (fun σ_5 => ∃ fu : Nat, wJ2_clear_27 Q (fun (σ_6 : gH) => Q σ_6) fu r_3 v_4 0 σ_5)))))
set_option maxHeartbeats 4000000 in
theorem hJ2_clear_27 {Q : gH → Prop} {k42 : gH → Prop} (hk42 : ∀ (σ : gH), k42 σ → E mJ2_clear 1 0 0 (g_z (c_Kv Q)) 0 0 42 [] [] σ) : ∀ (n : Nat) (x1 : Option Nat) (x2 : Int32) (x3 : Int32) (σ : gH), wJ2_clear_27 Q k42 n x1 x2 x3 σ → E mJ2_clear 1 0 0 (g_z (c_Kv Q)) 0 0 27 [(1, va_rf x1), (2, .int x2), (3, .int x3)] [] σ := by
  intro n
  induction n with
  | zero =>
    intro _ _ _ _ w
    exact w.elim
  | succ n ih =>
    intro x1 x2 x3 σ w
    unfold wJ2_clear_27 at w
    refine e_iload_n (n := 28) dJ2_clear_27 rfl 2 rfl ?_
    refine e_iload_n (n := 29) dJ2_clear_28 rfl 1 rfl ?_
    refine e_icmp_ge (n := 32) (tgt := 42) dJ2_clear_29 rfl (by decide) (fun h => ?_) (fun h => ?_)
    · have w := w.1 h
      refine e_sub (lv' := []) [] rfl ?_
      exact hk42 _ w
    · have w := w.2 h
      refine e_aloadr_n (n := 33) (r := x1) dJ2_clear_32 rfl 0 rfl ?_
      refine e_iload_n (n := 34) dJ2_clear_33 rfl 2 rfl ?_
      refine e_null (n := 35) dJ2_clear_34 rfl ?_
      obtain ⟨a_7, ha_7, w9a_7⟩ := w
      subst ha_7
      have w := w9a_7
      refine e_csR (n := 36) (r := none) w tk_9 dJ2_clear_35 rfl (fun σ_8 w => ?_)
      obtain ⟨x3_9, hx3_9⟩ : ∃ y : Int32, y = x3 + 1 := ⟨_, rfl⟩
      have w := w x3_9 hx3_9
      refine e_iinc (n := 39) (v := x3_9) (lv' := [(1, .ref a_7), (2, .int x2), (3, .int x3_9)]) [1, 2, 0] dJ2_clear_36 rfl 2 rfl (by rw [hx3_9]; rfl) rfl rfl ?_
      refine e_goto (n := 27) dJ2_clear_39 (by decide) ?_
      refine e_sub (lv' := [(1, va_rf (some a_7)), (2, .int x2), (3, .int x3_9)]) [0, 1, 2] rfl ?_
      exact ih _ _ _ _ w
set_option maxHeartbeats 4000000 in
theorem ctJ2_clear {Q : gH → Prop} {x0 : Nat} {σ : gH} (w : wJ2_clear Q x0 σ) : CT mJ2_clear 1 0 0 [.ref x0] σ (c_Kv Q) := by
  refine CT.of (lv := [(0, .ref x0)]) okJ2_clear.1 rfl rfl ?_
  unfold wJ2_clear at w
  refine e_aload_n (n := 1) dJ2_clear_0 rfl 0 rfl ?_
  refine e_dup (n := 2) dJ2_clear_1 rfl rfl ?_
  refine e_cI (n := 5) w fw_J1_modCount (gl_s q120 q121) dJ2_clear_2 rfl (fun v_1 w => ?_)
  refine e_iconst (n := 6) (v := 1) dJ2_clear_5 rfl (by decide) ?_
  refine e_iadd (n := 7) dJ2_clear_6 rfl ?_
  refine e_cP (n := 10) (ty := .int) w tyJ2 tyJ2_ok nmJ2 in_J2 rfl rfl (gl_s q120 q121) rfl rfl ⟨rfl, rfl⟩ dJ2_clear_7 rfl (fun σ_2 w => ?_)
  refine e_aload_n (n := 11) dJ2_clear_10 rfl 0 rfl ?_
  refine e_cR (n := 14) w fw_J2_elementData (gl_o q117) dJ2_clear_11 rfl (fun r_3 w => ?_)
  refine e_astorer_n (n := 15) (r := r_3) (lv' := [(0, .ref x0), (1, va_rf r_3)]) [1, 0] dJ2_clear_14 rfl rfl rfl ?_
  refine e_aload_n (n := 16) dJ2_clear_15 rfl 0 rfl ?_
  refine e_cI (n := 19) w fw_J2_size (gl_o q118) dJ2_clear_16 rfl (fun v_4 w => ?_)
  refine e_istore_n (n := 20) (lv' := [(0, .ref x0), (1, va_rf r_3), (2, .int v_4)]) [1, 2, 0] dJ2_clear_19 rfl rfl (by cases r_3 <;> rfl) ?_
  refine e_aload_n (n := 21) dJ2_clear_20 rfl 0 rfl ?_
  refine e_iconst (n := 22) (v := 0) dJ2_clear_21 rfl (by decide) ?_
  refine e_dup_x1 (n := 23) dJ2_clear_22 rfl rfl rfl ?_
  refine e_cP (n := 26) (ty := .int) w tyJ2 tyJ2_ok nmJ2 in_J2 rfl rfl (gl_o q118) rfl rfl ⟨rfl, rfl⟩ dJ2_clear_23 rfl (fun σ_5 w => ?_)
  refine e_istore_n (n := 27) (lv' := [(0, .ref x0), (1, va_rf r_3), (2, .int v_4), (3, .int 0)]) [1, 2, 3, 0] dJ2_clear_26 rfl rfl rfl ?_
  obtain ⟨fu, w⟩ := w
  refine e_sub (lv' := [(1, va_rf r_3), (2, .int v_4), (3, .int 0)]) [1, 2, 3] rfl ?_
  refine hJ2_clear_27 (fun σ_6 w => ?_) fu _ _ _ _ w
  exact e_vret rfl (Nat.le_refl _) (Nat.le_refl _) ⟨rfl, w⟩ dJ2_clear_42
abbrev mJ4_min_2 : gM := (yJ4_min_2, cJ4_min_2, 4, some .long)
theorem okJ4_min_2 : g_ok mJ4_min_2 2 := ⟨by decide +kernel, by decide +kernel, by decide +kernel, by decide +kernel, by decide⟩
def wJ4_min_2 (Q : Int64 → Prop) (σ : gH) (x0 : Int64) (x2 : Int64) : Prop := (x2 < x0 → (Q x2)) ∧ (¬ x2 < x0 → (Q x0))
set_option maxHeartbeats 4000000 in
theorem ctJ4_min_2 {Q : Int64 → Prop} {x0 : Int64} {x2 : Int64} {σ : gH} (w : wJ4_min_2 Q σ x0 x2) : CT mJ4_min_2 1 0 0 [.long x0, .long x2] σ (g_Pl σ Q) := by
  refine CT.of (lv := [(0, .long x0), (2, .long x2)]) okJ4_min_2.1 rfl rfl ?_
  unfold wJ4_min_2 at w
  refine e_lload_n (n := 1) dJ4_min_2_0 rfl 0 rfl ?_
  refine e_lload_n (n := 2) dJ4_min_2_1 rfl 1 rfl ?_
  refine e_lcmp_gt (n := 6) (tgt := 10) dJ4_min_2_2 dJ4_min_2_3 rfl (by decide) (fun h => ?_) (fun h => ?_)
  · have w := w.1 h
    refine e_lload_n (n := 11) dJ4_min_2_10 rfl 1 rfl ?_
    exact e_lret rfl (Nat.le_refl _) (Nat.le_refl _) ⟨_, rfl, rfl, w⟩ dJ4_min_2_11
  · have w := w.2 h
    refine e_lload_n (n := 7) dJ4_min_2_6 rfl 0 rfl ?_
    refine e_goto (n := 11) dJ4_min_2_7 (by decide) ?_
    exact e_lret rfl (Nat.le_refl _) (Nat.le_refl _) ⟨_, rfl, rfl, w⟩ dJ4_min_2_11
abbrev mX1_init : gM := (yX1_init, cX1_init, 1, none)
theorem okX1_init : g_ok mX1_init 0 := ⟨by decide +kernel, by decide +kernel, by decide +kernel, by decide +kernel, by decide⟩
theorem ff_X1_init_cells : ∀ ci ∈ [1], ∃ (C : String) (T : u_T) (N : Nat) (ty0 : Nat → FieldType), g_cl[ci]? = some (C, T, N) ∧ (∀ k, k < N → parseFieldDescriptor (T k).2.2.1 = some (ty0 k)) ∧ g_nm T N ∧ (∀ w ∈ u_ws C T N, w ∈ lw_all) ∧ Nat.ble (0 + 1) N = true ∧ Cond.fieldLink mX1_init.1.cls 11 (T 0).1 (T 0).2.1 (T 0).2.2.1 ∈ lw_all ∧ (T 0).2.2.2 = true ∧ (T 0).1 = mX1_init.1.cls ∧ ty0 0 = (.array (.array .int)) := by
  intro ci h
  simp only [List.mem_cons, List.not_mem_nil, or_false] at h
  subst h
  exact ⟨_, _, _, tyX1, rfl, tyX1_ok, gn_X1, in_X1, rfl, q141, rfl, rfl, rfl⟩
def wX1_init (Q : gH → Prop) (mc ms : Nat) (x0 : Nat) (σ : gH) : Prop := 0 + (1 + (5 : Int32).toNatClampNeg) ≤ mc ∧ 0 + ((5 : Int32).toNatClampNeg + (5 : Int32).toNatClampNeg * (100 : Int32).toNatClampNeg) ≤ ms ∧ c_m2 (5 : Int32).toNatClampNeg (100 : Int32).toNatClampNeg σ 3 (fun q_2 σ_1 => c_P σ_1 [1] x0 0 (va_rf (some q_2)) (fun σ_3 => Q σ_3))
set_option maxHeartbeats 4000000 in
theorem ctX1_init {Q : gH → Prop} {mc ms : Nat} {x0 : Nat} {σ : gH} (w : wX1_init Q mc ms x0 σ) : CT mX1_init 1 mc ms [.ref x0] σ (c_Kv Q) := by
  refine CT.of (lv := [(0, .ref x0)]) okX1_init.1 rfl rfl ?_
  unfold wX1_init at w
  refine e_aload_n (n := 1) dX1_init_0 rfl 0 rfl ?_
  refine e_objInit (n := 4) q139 q99 q100 (by decide) (Nat.le_of_ble_eq_true rfl) dX1_init_1 rfl ?_
  refine e_aload_n (n := 5) dX1_init_4 rfl 0 rfl ?_
  refine e_iconst (n := 6) (v := 5) dX1_init_5 rfl (by decide) ?_
  refine e_bipush (n := 8) (v := 100) dX1_init_6 rfl (by decide) ?_
  obtain ⟨hu1, hu2, w⟩ := w
  refine e_cm2_3 (n := 12) (N1 := 5) (N2 := 100) w (by decide) q140 hu1 hu2 dX1_init_8 rfl (fun q_2 σ_1 w => ?_)
  refine e_cPF (n := 15) (ty := (.array (.array .int))) w ff_X1_init_cells rfl (rf_narA _ (some q_2)) dX1_init_12 rfl (fun σ_3 w => ?_)
  exact e_vret rfl hu1 hu2 ⟨rfl, w⟩ dX1_init_15
abbrev mX2_init : gM := (yX2_init, cX2_init, 1, none)
theorem okX2_init : g_ok mX2_init 0 := ⟨by decide +kernel, by decide +kernel, by decide +kernel, by decide +kernel, by decide⟩
theorem ff_X2_init_cells : ∀ ci ∈ [2], ∃ (C : String) (T : u_T) (N : Nat) (ty0 : Nat → FieldType), g_cl[ci]? = some (C, T, N) ∧ (∀ k, k < N → parseFieldDescriptor (T k).2.2.1 = some (ty0 k)) ∧ g_nm T N ∧ (∀ w ∈ u_ws C T N, w ∈ lw_all) ∧ Nat.ble (0 + 1) N = true ∧ Cond.fieldLink mX2_init.1.cls 9 (T 0).1 (T 0).2.1 (T 0).2.2.1 ∈ lw_all ∧ (T 0).2.2.2 = true ∧ (T 0).1 = mX2_init.1.cls ∧ ty0 0 = (.array (.array .int)) := by
  intro ci h
  simp only [List.mem_cons, List.not_mem_nil, or_false] at h
  subst h
  exact ⟨_, _, _, tyX2, rfl, tyX2_ok, gn_X2, in_X2, rfl, q160, rfl, rfl, rfl⟩
def wX2_init (Q : gH → Prop) (mc ms : Nat) (x0 : Nat) (σ : gH) : Prop := 0 + (1 + (4 : Int32).toNatClampNeg) ≤ mc ∧ 0 + ((4 : Int32).toNatClampNeg + (4 : Int32).toNatClampNeg * (0 : Int32).toNatClampNeg) ≤ ms ∧ c_m2 (4 : Int32).toNatClampNeg (0 : Int32).toNatClampNeg σ 3 (fun q_2 σ_1 => c_P σ_1 [2] x0 0 (va_rf (some q_2)) (fun σ_3 => Q σ_3))
set_option maxHeartbeats 4000000 in
theorem ctX2_init {Q : gH → Prop} {mc ms : Nat} {x0 : Nat} {σ : gH} (w : wX2_init Q mc ms x0 σ) : CT mX2_init 1 mc ms [.ref x0] σ (c_Kv Q) := by
  refine CT.of (lv := [(0, .ref x0)]) okX2_init.1 rfl rfl ?_
  unfold wX2_init at w
  refine e_aload_n (n := 1) dX2_init_0 rfl 0 rfl ?_
  refine e_objInit (n := 4) q158 q99 q100 (by decide) (Nat.le_of_ble_eq_true rfl) dX2_init_1 rfl ?_
  refine e_aload_n (n := 5) dX2_init_4 rfl 0 rfl ?_
  refine e_iconst (n := 6) (v := 4) dX2_init_5 rfl (by decide) ?_
  refine e_iconst (n := 7) (v := 0) dX2_init_6 rfl (by decide) ?_
  obtain ⟨hu1, hu2, w⟩ := w
  refine e_cm2_3 (n := 11) (N1 := 4) (N2 := 0) w (by decide) q159 hu1 hu2 dX2_init_7 rfl (fun q_2 σ_1 w => ?_)
  refine e_cPF (n := 14) (ty := (.array (.array .int))) w ff_X2_init_cells rfl (rf_narA _ (some q_2)) dX2_init_11 rfl (fun σ_3 w => ?_)
  exact e_vret rfl hu1 hu2 ⟨rfl, w⟩ dX2_init_14
abbrev mX0_init : gM := (yX0_init, cX0_init, 1, none)
theorem okX0_init : g_ok mX0_init 0 := ⟨by decide +kernel, by decide +kernel, by decide +kernel, by decide +kernel, by decide⟩
theorem ff_X0_init_isFence : ∀ ci ∈ [0], ∃ (C : String) (T : u_T) (N : Nat) (ty0 : Nat → FieldType), g_cl[ci]? = some (C, T, N) ∧ (∀ k, k < N → parseFieldDescriptor (T k).2.2.1 = some (ty0 k)) ∧ g_nm T N ∧ (∀ w ∈ u_ws C T N, w ∈ lw_all) ∧ Nat.ble (1 + 1) N = true ∧ Cond.fieldLink mX0_init.1.cls 9 (T 1).1 (T 1).2.1 (T 1).2.2.1 ∈ lw_all ∧ (T 1).2.2.2 = true ∧ (T 1).1 = mX0_init.1.cls ∧ ty0 1 = (.array .boolean) := by
  intro ci h
  simp only [List.mem_cons, List.not_mem_nil, or_false] at h
  subst h
  exact ⟨_, _, _, tyX0, rfl, tyX0_ok, gn_X0, in_X0, rfl, q169, rfl, rfl, rfl⟩
theorem ff_X0_init_prices : ∀ ci ∈ [0], ∃ (C : String) (T : u_T) (N : Nat) (ty0 : Nat → FieldType), g_cl[ci]? = some (C, T, N) ∧ (∀ k, k < N → parseFieldDescriptor (T k).2.2.1 = some (ty0 k)) ∧ g_nm T N ∧ (∀ w ∈ u_ws C T N, w ∈ lw_all) ∧ Nat.ble (2 + 1) N = true ∧ Cond.fieldLink mX0_init.1.cls 15 (T 2).1 (T 2).2.1 (T 2).2.2.1 ∈ lw_all ∧ (T 2).2.2.2 = true ∧ (T 2).1 = mX0_init.1.cls ∧ ty0 2 = (.array (.array .int)) := by
  intro ci h
  simp only [List.mem_cons, List.not_mem_nil, or_false] at h
  subst h
  exact ⟨_, _, _, tyX0, rfl, tyX0_ok, gn_X0, in_X0, rfl, q174, rfl, rfl, rfl⟩
theorem ff_X0_init_rules : ∀ ci ∈ [0], ∃ (C : String) (T : u_T) (N : Nat) (ty0 : Nat → FieldType), g_cl[ci]? = some (C, T, N) ∧ (∀ k, k < N → parseFieldDescriptor (T k).2.2.1 = some (ty0 k)) ∧ g_nm T N ∧ (∀ w ∈ u_ws C T N, w ∈ lw_all) ∧ Nat.ble (7 + 1) N = true ∧ Cond.fieldLink mX0_init.1.cls 28 (T 7).1 (T 7).2.1 (T 7).2.2.1 ∈ lw_all ∧ (T 7).2.2.2 = true ∧ (T 7).1 = mX0_init.1.cls ∧ ty0 7 = (.object "java/util/List") := by
  intro ci h
  simp only [List.mem_cons, List.not_mem_nil, or_false] at h
  subst h
  exact ⟨_, _, _, tyX0, rfl, tyX0_ok, gn_X0, in_X0, rfl, q186, rfl, rfl, rfl⟩
theorem ff_X0_init_stuck : ∀ ci ∈ [0], ∃ (C : String) (T : u_T) (N : Nat) (ty0 : Nat → FieldType), g_cl[ci]? = some (C, T, N) ∧ (∀ k, k < N → parseFieldDescriptor (T k).2.2.1 = some (ty0 k)) ∧ g_nm T N ∧ (∀ w ∈ u_ws C T N, w ∈ lw_all) ∧ Nat.ble (8 + 1) N = true ∧ Cond.fieldLink mX0_init.1.cls 32 (T 8).1 (T 8).2.1 (T 8).2.2.1 ∈ lw_all ∧ (T 8).2.2.2 = true ∧ (T 8).1 = mX0_init.1.cls ∧ ty0 8 = (.object "java/util/List") := by
  intro ci h
  simp only [List.mem_cons, List.not_mem_nil, or_false] at h
  subst h
  exact ⟨_, _, _, tyX0, rfl, tyX0_ok, gn_X0, in_X0, rfl, q189, rfl, rfl, rfl⟩
theorem ff_X0_init_parted : ∀ ci ∈ [0], ∃ (C : String) (T : u_T) (N : Nat) (ty0 : Nat → FieldType), g_cl[ci]? = some (C, T, N) ∧ (∀ k, k < N → parseFieldDescriptor (T k).2.2.1 = some (ty0 k)) ∧ g_nm T N ∧ (∀ w ∈ u_ws C T N, w ∈ lw_all) ∧ Nat.ble (9 + 1) N = true ∧ Cond.fieldLink mX0_init.1.cls 35 (T 9).1 (T 9).2.1 (T 9).2.2.1 ∈ lw_all ∧ (T 9).2.2.2 = true ∧ (T 9).1 = mX0_init.1.cls ∧ ty0 9 = (.object "java/util/List") := by
  intro ci h
  simp only [List.mem_cons, List.not_mem_nil, or_false] at h
  subst h
  exact ⟨_, _, _, tyX0, rfl, tyX0_ok, gn_X0, in_X0, rfl, q191, rfl, rfl, rfl⟩
theorem ff_X0_init_readCells : ∀ ci ∈ [0], ∃ (C : String) (T : u_T) (N : Nat) (ty0 : Nat → FieldType), g_cl[ci]? = some (C, T, N) ∧ (∀ k, k < N → parseFieldDescriptor (T k).2.2.1 = some (ty0 k)) ∧ g_nm T N ∧ (∀ w ∈ u_ws C T N, w ∈ lw_all) ∧ Nat.ble (13 + 1) N = true ∧ Cond.fieldLink mX0_init.1.cls 44 (T 13).1 (T 13).2.1 (T 13).2.2.1 ∈ lw_all ∧ (T 13).2.2.2 = true ∧ (T 13).1 = mX0_init.1.cls ∧ ty0 13 = (.array (.array (.array .long))) := by
  intro ci h
  simp only [List.mem_cons, List.not_mem_nil, or_false] at h
  subst h
  exact ⟨_, _, _, tyX0, rfl, tyX0_ok, gn_X0, in_X0, rfl, q197, rfl, rfl, rfl⟩
theorem ff_X0_init_treeCells : ∀ ci ∈ [0], ∃ (C : String) (T : u_T) (N : Nat) (ty0 : Nat → FieldType), g_cl[ci]? = some (C, T, N) ∧ (∀ k, k < N → parseFieldDescriptor (T k).2.2.1 = some (ty0 k)) ∧ g_nm T N ∧ (∀ w ∈ u_ws C T N, w ∈ lw_all) ∧ Nat.ble (14 + 1) N = true ∧ Cond.fieldLink mX0_init.1.cls 47 (T 14).1 (T 14).2.1 (T 14).2.2.1 ∈ lw_all ∧ (T 14).2.2.2 = true ∧ (T 14).1 = mX0_init.1.cls ∧ ty0 14 = (.array (.array (.array .long))) := by
  intro ci h
  simp only [List.mem_cons, List.not_mem_nil, or_false] at h
  subst h
  exact ⟨_, _, _, tyX0, rfl, tyX0_ok, gn_X0, in_X0, rfl, q199, rfl, rfl, rfl⟩
theorem ff_X0_init_restCells : ∀ ci ∈ [0], ∃ (C : String) (T : u_T) (N : Nat) (ty0 : Nat → FieldType), g_cl[ci]? = some (C, T, N) ∧ (∀ k, k < N → parseFieldDescriptor (T k).2.2.1 = some (ty0 k)) ∧ g_nm T N ∧ (∀ w ∈ u_ws C T N, w ∈ lw_all) ∧ Nat.ble (15 + 1) N = true ∧ Cond.fieldLink mX0_init.1.cls 50 (T 15).1 (T 15).2.1 (T 15).2.2.1 ∈ lw_all ∧ (T 15).2.2.2 = true ∧ (T 15).1 = mX0_init.1.cls ∧ ty0 15 = (.array (.array (.array .long))) := by
  intro ci h
  simp only [List.mem_cons, List.not_mem_nil, or_false] at h
  subst h
  exact ⟨_, _, _, tyX0, rfl, tyX0_ok, gn_X0, in_X0, rfl, q201, rfl, rfl, rfl⟩
theorem ff_X0_init_slips : ∀ ci ∈ [0], ∃ (C : String) (T : u_T) (N : Nat) (ty0 : Nat → FieldType), g_cl[ci]? = some (C, T, N) ∧ (∀ k, k < N → parseFieldDescriptor (T k).2.2.1 = some (ty0 k)) ∧ g_nm T N ∧ (∀ w ∈ u_ws C T N, w ∈ lw_all) ∧ Nat.ble (19 + 1) N = true ∧ Cond.fieldLink mX0_init.1.cls 63 (T 19).1 (T 19).2.1 (T 19).2.2.1 ∈ lw_all ∧ (T 19).2.2.2 = true ∧ (T 19).1 = mX0_init.1.cls ∧ ty0 19 = (.object "java/util/List") := by
  intro ci h
  simp only [List.mem_cons, List.not_mem_nil, or_false] at h
  subst h
  exact ⟨_, _, _, tyX0, rfl, tyX0_ok, gn_X0, in_X0, rfl, q207, rfl, rfl, rfl⟩
theorem ff_X0_init_words : ∀ ci ∈ [0], ∃ (C : String) (T : u_T) (N : Nat) (ty0 : Nat → FieldType), g_cl[ci]? = some (C, T, N) ∧ (∀ k, k < N → parseFieldDescriptor (T k).2.2.1 = some (ty0 k)) ∧ g_nm T N ∧ (∀ w ∈ u_ws C T N, w ∈ lw_all) ∧ Nat.ble (21 + 1) N = true ∧ Cond.fieldLink mX0_init.1.cls 73 (T 21).1 (T 21).2.1 (T 21).2.2.1 ∈ lw_all ∧ (T 21).2.2.2 = true ∧ (T 21).1 = mX0_init.1.cls ∧ ty0 21 = (.array .int) := by
  intro ci h
  simp only [List.mem_cons, List.not_mem_nil, or_false] at h
  subst h
  exact ⟨_, _, _, tyX0, rfl, tyX0_ok, gn_X0, in_X0, rfl, q209, rfl, rfl, rfl⟩
theorem ff_X0_init_shelves : ∀ ci ∈ [0], ∃ (C : String) (T : u_T) (N : Nat) (ty0 : Nat → FieldType), g_cl[ci]? = some (C, T, N) ∧ (∀ k, k < N → parseFieldDescriptor (T k).2.2.1 = some (ty0 k)) ∧ g_nm T N ∧ (∀ w ∈ u_ws C T N, w ∈ lw_all) ∧ Nat.ble (23 + 1) N = true ∧ Cond.fieldLink mX0_init.1.cls 78 (T 23).1 (T 23).2.1 (T 23).2.2.1 ∈ lw_all ∧ (T 23).2.2.2 = true ∧ (T 23).1 = mX0_init.1.cls ∧ ty0 23 = (.array (.object "MendReader$Shelf")) := by
  intro ci h
  simp only [List.mem_cons, List.not_mem_nil, or_false] at h
  subst h
  exact ⟨_, _, _, tyX0, rfl, tyX0_ok, gn_X0, in_X0, rfl, q213, rfl, rfl, rfl⟩
def wX0_init (Q : gH → Prop) (mc ms : Nat) (x0 : Nat) (σ : gH) : Prop := 0 + 1 ≤ mc ∧ 0 + (12 : Int32).toNatClampNeg ≤ ms ∧ ¬ (12 : Int32) < 0 ∧ (12 : Int32).toNatClampNeg * 1 ≤ 536870912 ∧ c_new σ (.inl (2, (12 : Int32).toNatClampNeg, .inl (fun _ => 0))) (fun q_2 σ_1 => c_P σ_1 [0] x0 1 (va_rf (some q_2)) (fun σ_3 => (0 + 1) + (1 + (3 : Int32).toNatClampNeg) ≤ mc ∧ (0 + (12 : Int32).toNatClampNeg) + ((3 : Int32).toNatClampNeg + (3 : Int32).toNatClampNeg * (12 : Int32).toNatClampNeg) ≤ ms ∧ c_m2 (3 : Int32).toNatClampNeg (12 : Int32).toNatClampNeg σ_3 3 (fun q_5 σ_4 => c_P σ_4 [0] x0 2 (va_rf (some q_5)) (fun σ_6 => c_P σ_6 [0] x0 3 (.int 10) (fun σ_7 => c_P σ_7 [0] x0 4 (.int 15) (fun σ_8 => ((0 + 1) + (1 + (3 : Int32).toNatClampNeg)) + 1 ≤ mc ∧ ((0 + (12 : Int32).toNatClampNeg) + ((3 : Int32).toNatClampNeg + (3 : Int32).toNatClampNeg * (12 : Int32).toNatClampNeg)) + 3 ≤ ms ∧ c_new σ_8 (.inr (18, [.int 0, .null, .int 0])) (fun q_10 σ_9 => wJ2_init (fun (σ_11 : gH) => c_P σ_11 [0] x0 7 (va_rf (some q_10)) (fun σ_12 => (((0 + 1) + (1 + (3 : Int32).toNatClampNeg)) + 1) + 1 ≤ mc ∧ (((0 + (12 : Int32).toNatClampNeg) + ((3 : Int32).toNatClampNeg + (3 : Int32).toNatClampNeg * (12 : Int32).toNatClampNeg)) + 3) + 3 ≤ ms ∧ c_new σ_12 (.inr (18, [.int 0, .null, .int 0])) (fun q_14 σ_13 => wJ2_init (fun (σ_15 : gH) => c_P σ_15 [0] x0 8 (va_rf (some q_14)) (fun σ_16 => ((((0 + 1) + (1 + (3 : Int32).toNatClampNeg)) + 1) + 1) + 1 ≤ mc ∧ ((((0 + (12 : Int32).toNatClampNeg) + ((3 : Int32).toNatClampNeg + (3 : Int32).toNatClampNeg * (12 : Int32).toNatClampNeg)) + 3) + 3) + 3 ≤ ms ∧ c_new σ_16 (.inr (18, [.int 0, .null, .int 0])) (fun q_18 σ_17 => wJ2_init (fun (σ_19 : gH) => c_P σ_19 [0] x0 9 (va_rf (some q_18)) (fun σ_20 => (((((0 + 1) + (1 + (3 : Int32).toNatClampNeg)) + 1) + 1) + 1) + 1 ≤ mc ∧ (((((0 + (12 : Int32).toNatClampNeg) + ((3 : Int32).toNatClampNeg + (3 : Int32).toNatClampNeg * (12 : Int32).toNatClampNeg)) + 3) + 3) + 3) + (0 : Int32).toNatClampNeg ≤ ms ∧ ¬ (0 : Int32) < 0 ∧ (0 : Int32).toNatClampNeg * 4 ≤ 536870912 ∧ c_new σ_20 (.inl (0, (0 : Int32).toNatClampNeg, .inl (fun _ => 0))) (fun q_22 σ_21 => c_P σ_21 [0] x0 11 (va_rf (some q_22)) (fun σ_23 => ((((((0 + 1) + (1 + (3 : Int32).toNatClampNeg)) + 1) + 1) + 1) + 1) + (1 + (12 : Int32).toNatClampNeg * (1 + (55 : Int32).toNatClampNeg)) ≤ mc ∧ ((((((0 + (12 : Int32).toNatClampNeg) + ((3 : Int32).toNatClampNeg + (3 : Int32).toNatClampNeg * (12 : Int32).toNatClampNeg)) + 3) + 3) + 3) + (0 : Int32).toNatClampNeg) + ((12 : Int32).toNatClampNeg + (12 : Int32).toNatClampNeg * ((55 : Int32).toNatClampNeg + (55 : Int32).toNatClampNeg * (55 : Int32).toNatClampNeg)) ≤ ms ∧ c_m3 (12 : Int32).toNatClampNeg (55 : Int32).toNatClampNeg (55 : Int32).toNatClampNeg σ_23 5 (fun q_25 σ_24 => c_P σ_24 [0] x0 13 (va_rf (some q_25)) (fun σ_26 => (((((((0 + 1) + (1 + (3 : Int32).toNatClampNeg)) + 1) + 1) + 1) + 1) + (1 + (12 : Int32).toNatClampNeg * (1 + (55 : Int32).toNatClampNeg))) + (1 + (8 : Int32).toNatClampNeg * (1 + (55 : Int32).toNatClampNeg)) ≤ mc ∧ (((((((0 + (12 : Int32).toNatClampNeg) + ((3 : Int32).toNatClampNeg + (3 : Int32).toNatClampNeg * (12 : Int32).toNatClampNeg)) + 3) + 3) + 3) + (0 : Int32).toNatClampNeg) + ((12 : Int32).toNatClampNeg + (12 : Int32).toNatClampNeg * ((55 : Int32).toNatClampNeg + (55 : Int32).toNatClampNeg * (55 : Int32).toNatClampNeg))) + ((8 : Int32).toNatClampNeg + (8 : Int32).toNatClampNeg * ((55 : Int32).toNatClampNeg + (55 : Int32).toNatClampNeg * (55 : Int32).toNatClampNeg)) ≤ ms ∧ c_m3 (8 : Int32).toNatClampNeg (55 : Int32).toNatClampNeg (55 : Int32).toNatClampNeg σ_26 5 (fun q_28 σ_27 => c_P σ_27 [0] x0 14 (va_rf (some q_28)) (fun σ_29 => ((((((((0 + 1) + (1 + (3 : Int32).toNatClampNeg)) + 1) + 1) + 1) + 1) + (1 + (12 : Int32).toNatClampNeg * (1 + (55 : Int32).toNatClampNeg))) + (1 + (8 : Int32).toNatClampNeg * (1 + (55 : Int32).toNatClampNeg))) + (1 + (96 : Int32).toNatClampNeg * (1 + (55 : Int32).toNatClampNeg)) ≤ mc ∧ ((((((((0 + (12 : Int32).toNatClampNeg) + ((3 : Int32).toNatClampNeg + (3 : Int32).toNatClampNeg * (12 : Int32).toNatClampNeg)) + 3) + 3) + 3) + (0 : Int32).toNatClampNeg) + ((12 : Int32).toNatClampNeg + (12 : Int32).toNatClampNeg * ((55 : Int32).toNatClampNeg + (55 : Int32).toNatClampNeg * (55 : Int32).toNatClampNeg))) + ((8 : Int32).toNatClampNeg + (8 : Int32).toNatClampNeg * ((55 : Int32).toNatClampNeg + (55 : Int32).toNatClampNeg * (55 : Int32).toNatClampNeg))) + ((96 : Int32).toNatClampNeg + (96 : Int32).toNatClampNeg * ((55 : Int32).toNatClampNeg + (55 : Int32).toNatClampNeg * (55 : Int32).toNatClampNeg)) ≤ ms ∧ c_m3 (96 : Int32).toNatClampNeg (55 : Int32).toNatClampNeg (55 : Int32).toNatClampNeg σ_29 5 (fun q_31 σ_30 => c_P σ_30 [0] x0 15 (va_rf (some q_31)) (fun σ_32 => c_P σ_32 [0] x0 16 (.int (-4)) (fun σ_33 => (((((((((0 + 1) + (1 + (3 : Int32).toNatClampNeg)) + 1) + 1) + 1) + 1) + (1 + (12 : Int32).toNatClampNeg * (1 + (55 : Int32).toNatClampNeg))) + (1 + (8 : Int32).toNatClampNeg * (1 + (55 : Int32).toNatClampNeg))) + (1 + (96 : Int32).toNatClampNeg * (1 + (55 : Int32).toNatClampNeg))) + 1 ≤ mc ∧ (((((((((0 + (12 : Int32).toNatClampNeg) + ((3 : Int32).toNatClampNeg + (3 : Int32).toNatClampNeg * (12 : Int32).toNatClampNeg)) + 3) + 3) + 3) + (0 : Int32).toNatClampNeg) + ((12 : Int32).toNatClampNeg + (12 : Int32).toNatClampNeg * ((55 : Int32).toNatClampNeg + (55 : Int32).toNatClampNeg * (55 : Int32).toNatClampNeg))) + ((8 : Int32).toNatClampNeg + (8 : Int32).toNatClampNeg * ((55 : Int32).toNatClampNeg + (55 : Int32).toNatClampNeg * (55 : Int32).toNatClampNeg))) + ((96 : Int32).toNatClampNeg + (96 : Int32).toNatClampNeg * ((55 : Int32).toNatClampNeg + (55 : Int32).toNatClampNeg * (55 : Int32).toNatClampNeg))) + 2 ≤ ms ∧ c_new σ_33 (.inr (1, [.null, .int 0])) (fun q_35 σ_34 => ∃ c_37 b_38 : Nat, ((((((((((0 + 1) + (1 + (3 : Int32).toNatClampNeg)) + 1) + 1) + 1) + 1) + (1 + (12 : Int32).toNatClampNeg * (1 + (55 : Int32).toNatClampNeg))) + (1 + (8 : Int32).toNatClampNeg * (1 + (55 : Int32).toNatClampNeg))) + (1 + (96 : Int32).toNatClampNeg * (1 + (55 : Int32).toNatClampNeg))) + 1) + c_37 ≤ mc ∧ ((((((((((0 + (12 : Int32).toNatClampNeg) + ((3 : Int32).toNatClampNeg + (3 : Int32).toNatClampNeg * (12 : Int32).toNatClampNeg)) + 3) + 3) + 3) + (0 : Int32).toNatClampNeg) + ((12 : Int32).toNatClampNeg + (12 : Int32).toNatClampNeg * ((55 : Int32).toNatClampNeg + (55 : Int32).toNatClampNeg * (55 : Int32).toNatClampNeg))) + ((8 : Int32).toNatClampNeg + (8 : Int32).toNatClampNeg * ((55 : Int32).toNatClampNeg + (55 : Int32).toNatClampNeg * (55 : Int32).toNatClampNeg))) + ((96 : Int32).toNatClampNeg + (96 : Int32).toNatClampNeg * ((55 : Int32).toNatClampNeg + (55 : Int32).toNatClampNeg * (55 : Int32).toNatClampNeg))) + 2) + b_38 ≤ ms ∧ wX1_init (fun (σ_36 : gH) => c_P σ_36 [0] x0 18 (va_rf (some q_35)) (fun σ_39 => (((((((((((0 + 1) + (1 + (3 : Int32).toNatClampNeg)) + 1) + 1) + 1) + 1) + (1 + (12 : Int32).toNatClampNeg * (1 + (55 : Int32).toNatClampNeg))) + (1 + (8 : Int32).toNatClampNeg * (1 + (55 : Int32).toNatClampNeg))) + (1 + (96 : Int32).toNatClampNeg * (1 + (55 : Int32).toNatClampNeg))) + 1) + c_37) + 1 ≤ mc ∧ (((((((((((0 + (12 : Int32).toNatClampNeg) + ((3 : Int32).toNatClampNeg + (3 : Int32).toNatClampNeg * (12 : Int32).toNatClampNeg)) + 3) + 3) + 3) + (0 : Int32).toNatClampNeg) + ((12 : Int32).toNatClampNeg + (12 : Int32).toNatClampNeg * ((55 : Int32).toNatClampNeg + (55 : Int32).toNatClampNeg * (55 : Int32).toNatClampNeg))) + ((8 : Int32).toNatClampNeg + (8 : Int32).toNatClampNeg * ((55 : Int32).toNatClampNeg + (55 : Int32).toNatClampNeg * (55 : Int32).toNatClampNeg))) + ((96 : Int32).toNatClampNeg + (96 : Int32).toNatClampNeg * ((55 : Int32).toNatClampNeg + (55 : Int32).toNatClampNeg * (55 : Int32).toNatClampNeg))) + 2) + b_38) + 3 ≤ ms ∧ c_new σ_39 (.inr (18, [.int 0, .null, .int 0])) (fun q_41 σ_40 => wJ2_init (fun (σ_42 : gH) => c_P σ_42 [0] x0 19 (va_rf (some q_41)) (fun σ_43 => ((((((((((((0 + 1) + (1 + (3 : Int32).toNatClampNeg)) + 1) + 1) + 1) + 1) + (1 + (12 : Int32).toNatClampNeg * (1 + (55 : Int32).toNatClampNeg))) + (1 + (8 : Int32).toNatClampNeg * (1 + (55 : Int32).toNatClampNeg))) + (1 + (96 : Int32).toNatClampNeg * (1 + (55 : Int32).toNatClampNeg))) + 1) + c_37) + 1) + 1 ≤ mc ∧ ((((((((((((0 + (12 : Int32).toNatClampNeg) + ((3 : Int32).toNatClampNeg + (3 : Int32).toNatClampNeg * (12 : Int32).toNatClampNeg)) + 3) + 3) + 3) + (0 : Int32).toNatClampNeg) + ((12 : Int32).toNatClampNeg + (12 : Int32).toNatClampNeg * ((55 : Int32).toNatClampNeg + (55 : Int32).toNatClampNeg * (55 : Int32).toNatClampNeg))) + ((8 : Int32).toNatClampNeg + (8 : Int32).toNatClampNeg * ((55 : Int32).toNatClampNeg + (55 : Int32).toNatClampNeg * (55 : Int32).toNatClampNeg))) + ((96 : Int32).toNatClampNeg + (96 : Int32).toNatClampNeg * ((55 : Int32).toNatClampNeg + (55 : Int32).toNatClampNeg * (55 : Int32).toNatClampNeg))) + 2) + b_38) + 3) + 1 ≤ ms ∧ c_new σ_43 (.inr (2, [.null])) (fun q_45 σ_44 => ∃ c_47 b_48 : Nat, (((((((((((((0 + 1) + (1 + (3 : Int32).toNatClampNeg)) + 1) + 1) + 1) + 1) + (1 + (12 : Int32).toNatClampNeg * (1 + (55 : Int32).toNatClampNeg))) + (1 + (8 : Int32).toNatClampNeg * (1 + (55 : Int32).toNatClampNeg))) + (1 + (96 : Int32).toNatClampNeg * (1 + (55 : Int32).toNatClampNeg))) + 1) + c_37) + 1) + 1) + c_47 ≤ mc ∧ (((((((((((((0 + (12 : Int32).toNatClampNeg) + ((3 : Int32).toNatClampNeg + (3 : Int32).toNatClampNeg * (12 : Int32).toNatClampNeg)) + 3) + 3) + 3) + (0 : Int32).toNatClampNeg) + ((12 : Int32).toNatClampNeg + (12 : Int32).toNatClampNeg * ((55 : Int32).toNatClampNeg + (55 : Int32).toNatClampNeg * (55 : Int32).toNatClampNeg))) + ((8 : Int32).toNatClampNeg + (8 : Int32).toNatClampNeg * ((55 : Int32).toNatClampNeg + (55 : Int32).toNatClampNeg * (55 : Int32).toNatClampNeg))) + ((96 : Int32).toNatClampNeg + (96 : Int32).toNatClampNeg * ((55 : Int32).toNatClampNeg + (55 : Int32).toNatClampNeg * (55 : Int32).toNatClampNeg))) + 2) + b_38) + 3) + 1) + b_48 ≤ ms ∧ wX2_init (fun (σ_46 : gH) => c_P σ_46 [0] x0 20 (va_rf (some q_45)) (fun σ_49 => ((((((((((((((0 + 1) + (1 + (3 : Int32).toNatClampNeg)) + 1) + 1) + 1) + 1) + (1 + (12 : Int32).toNatClampNeg * (1 + (55 : Int32).toNatClampNeg))) + (1 + (8 : Int32).toNatClampNeg * (1 + (55 : Int32).toNatClampNeg))) + (1 + (96 : Int32).toNatClampNeg * (1 + (55 : Int32).toNatClampNeg))) + 1) + c_37) + 1) + 1) + c_47) + 1 ≤ mc ∧ ((((((((((((((0 + (12 : Int32).toNatClampNeg) + ((3 : Int32).toNatClampNeg + (3 : Int32).toNatClampNeg * (12 : Int32).toNatClampNeg)) + 3) + 3) + 3) + (0 : Int32).toNatClampNeg) + ((12 : Int32).toNatClampNeg + (12 : Int32).toNatClampNeg * ((55 : Int32).toNatClampNeg + (55 : Int32).toNatClampNeg * (55 : Int32).toNatClampNeg))) + ((8 : Int32).toNatClampNeg + (8 : Int32).toNatClampNeg * ((55 : Int32).toNatClampNeg + (55 : Int32).toNatClampNeg * (55 : Int32).toNatClampNeg))) + ((96 : Int32).toNatClampNeg + (96 : Int32).toNatClampNeg * ((55 : Int32).toNatClampNeg + (55 : Int32).toNatClampNeg * (55 : Int32).toNatClampNeg))) + 2) + b_38) + 3) + 1) + b_48) + (300 : Int32).toNatClampNeg ≤ ms ∧ ¬ (300 : Int32) < 0 ∧ (300 : Int32).toNatClampNeg * 4 ≤ 536870912 ∧ c_new σ_49 (.inl (0, (300 : Int32).toNatClampNeg, .inl (fun _ => 0))) (fun q_51 σ_50 => c_P σ_50 [0] x0 21 (va_rf (some q_51)) (fun σ_52 => (((((((((((((((0 + 1) + (1 + (3 : Int32).toNatClampNeg)) + 1) + 1) + 1) + 1) + (1 + (12 : Int32).toNatClampNeg * (1 + (55 : Int32).toNatClampNeg))) + (1 + (8 : Int32).toNatClampNeg * (1 + (55 : Int32).toNatClampNeg))) + (1 + (96 : Int32).toNatClampNeg * (1 + (55 : Int32).toNatClampNeg))) + 1) + c_37) + 1) + 1) + c_47) + 1) + 1 ≤ mc ∧ (((((((((((((((0 + (12 : Int32).toNatClampNeg) + ((3 : Int32).toNatClampNeg + (3 : Int32).toNatClampNeg * (12 : Int32).toNatClampNeg)) + 3) + 3) + 3) + (0 : Int32).toNatClampNeg) + ((12 : Int32).toNatClampNeg + (12 : Int32).toNatClampNeg * ((55 : Int32).toNatClampNeg + (55 : Int32).toNatClampNeg * (55 : Int32).toNatClampNeg))) + ((8 : Int32).toNatClampNeg + (8 : Int32).toNatClampNeg * ((55 : Int32).toNatClampNeg + (55 : Int32).toNatClampNeg * (55 : Int32).toNatClampNeg))) + ((96 : Int32).toNatClampNeg + (96 : Int32).toNatClampNeg * ((55 : Int32).toNatClampNeg + (55 : Int32).toNatClampNeg * (55 : Int32).toNatClampNeg))) + 2) + b_38) + 3) + 1) + b_48) + (300 : Int32).toNatClampNeg) + (6 : Int32).toNatClampNeg ≤ ms ∧ ¬ (6 : Int32) < 0 ∧ (6 : Int32).toNatClampNeg * 4 ≤ 536870912 ∧ c_new σ_52 (.inl (6, (6 : Int32).toNatClampNeg, .inr (.inr (.inr (.inr (fun _ => none)))))) (fun q_54 σ_53 => c_P σ_53 [0] x0 23 (va_rf (some q_54)) (fun σ_55 => Q σ_55)))))) c_47 b_48 q_45 σ_44))) q_41 σ_40))) c_37 b_38 q_35 σ_34)))))))))))) q_18 σ_17))) q_14 σ_13))) q_10 σ_9)))))))
set_option maxHeartbeats 4000000 in
theorem ctX0_init {Q : gH → Prop} {mc ms : Nat} {x0 : Nat} {σ : gH} (w : wX0_init Q mc ms x0 σ) : CT mX0_init 4 mc ms [.ref x0] σ (c_Kv Q) := by
  refine CT.of (lv := [(0, .ref x0)]) okX0_init.1 rfl rfl ?_
  unfold wX0_init at w
  refine e_aload_n (n := 1) dX0_init_0 rfl 0 rfl ?_
  refine e_objInit (n := 4) q98 q99 q100 (by decide) (Nat.le_of_ble_eq_true rfl) dX0_init_1 rfl ?_
  refine e_aload_n (n := 5) dX0_init_4 rfl 0 rfl ?_
  refine e_bipush (n := 7) (v := 12) dX0_init_5 rfl (by decide) ?_
  obtain ⟨hu1, hu2, w⟩ := w
  obtain ⟨wn, wb, w⟩ := w
  refine e_cnewZ (n := 9) (z := 12) w wn wb hu1 hu2 dX0_init_7 rfl (fun q_2 σ_1 w => ?_)
  refine e_cPF (n := 12) (ty := (.array .boolean)) w ff_X0_init_isFence rfl (rf_narA _ (some q_2)) dX0_init_9 rfl (fun σ_3 w => ?_)
  refine e_aload_n (n := 13) dX0_init_12 rfl 0 rfl ?_
  refine e_iconst (n := 14) (v := 3) dX0_init_13 rfl (by decide) ?_
  refine e_bipush (n := 16) (v := 12) dX0_init_14 rfl (by decide) ?_
  obtain ⟨hu1, hu2, w⟩ := w
  refine e_cm2_3 (n := 20) (N1 := 3) (N2 := 12) w (by decide) q101 hu1 hu2 dX0_init_16 rfl (fun q_5 σ_4 w => ?_)
  refine e_cPF (n := 23) (ty := (.array (.array .int))) w ff_X0_init_prices rfl (rf_narA _ (some q_5)) dX0_init_20 rfl (fun σ_6 w => ?_)
  refine e_aload_n (n := 24) dX0_init_23 rfl 0 rfl ?_
  refine e_bipush (n := 26) (v := 10) dX0_init_24 rfl (by decide) ?_
  refine e_cP (n := 29) (ty := .int) w tyX0 tyX0_ok nmX0 in_X0 rfl rfl (gl_o q178) rfl rfl ⟨rfl, rfl⟩ dX0_init_26 rfl (fun σ_7 w => ?_)
  refine e_aload_n (n := 30) dX0_init_29 rfl 0 rfl ?_
  refine e_bipush (n := 32) (v := 15) dX0_init_30 rfl (by decide) ?_
  refine e_cP (n := 35) (ty := .int) w tyX0 tyX0_ok nmX0 in_X0 rfl rfl (gl_o q180) rfl rfl ⟨rfl, rfl⟩ dX0_init_32 rfl (fun σ_8 w => ?_)
  refine e_aload_n (n := 36) dX0_init_35 rfl 0 rfl ?_
  obtain ⟨hu1, hu2, w⟩ := w
  refine e_cnew (n := 39) w tyJ2 tyJ2_ok in_J2 rfl q103 q104 q60 (fun j hj => g_defJ2 j hj) hu1 hu2 dX0_init_36 rfl (fun q_10 σ_9 w => ?_)
  refine e_dup (n := 40) dX0_init_39 rfl rfl ?_
  refine e_callI (n := 43) (As := []) (st := [.ref q_10, .ref x0]) okJ2_init rfl rfl q105 q106 q60 q107 (by decide) hu1 hu2 rfl rfl (Nat.le_of_ble_eq_true rfl) dX0_init_40 rfl (ctJ2_init w) (fun r9 σ_11 hk => ?_)
  obtain ⟨rfl, w⟩ := hk
  refine e_cPF (n := 46) (ty := (.object "java/util/List")) w ff_X0_init_rules rfl (rf_nar _ (some q_10)) dX0_init_43 rfl (fun σ_12 w => ?_)
  refine e_aload_n (n := 47) dX0_init_46 rfl 0 rfl ?_
  obtain ⟨hu1, hu2, w⟩ := w
  refine e_cnew (n := 50) w tyJ2 tyJ2_ok in_J2 rfl q103 q104 q60 (fun j hj => g_defJ2 j hj) hu1 hu2 dX0_init_47 rfl (fun q_14 σ_13 w => ?_)
  refine e_dup (n := 51) dX0_init_50 rfl rfl ?_
  refine e_callI (n := 54) (As := []) (st := [.ref q_14, .ref x0]) okJ2_init rfl rfl q105 q106 q60 q107 (by decide) hu1 hu2 rfl rfl (Nat.le_of_ble_eq_true rfl) dX0_init_51 rfl (ctJ2_init w) (fun r9 σ_15 hk => ?_)
  obtain ⟨rfl, w⟩ := hk
  refine e_cPF (n := 57) (ty := (.object "java/util/List")) w ff_X0_init_stuck rfl (rf_nar _ (some q_14)) dX0_init_54 rfl (fun σ_16 w => ?_)
  refine e_aload_n (n := 58) dX0_init_57 rfl 0 rfl ?_
  obtain ⟨hu1, hu2, w⟩ := w
  refine e_cnew (n := 61) w tyJ2 tyJ2_ok in_J2 rfl q103 q104 q60 (fun j hj => g_defJ2 j hj) hu1 hu2 dX0_init_58 rfl (fun q_18 σ_17 w => ?_)
  refine e_dup (n := 62) dX0_init_61 rfl rfl ?_
  refine e_callI (n := 65) (As := []) (st := [.ref q_18, .ref x0]) okJ2_init rfl rfl q105 q106 q60 q107 (by decide) hu1 hu2 rfl rfl (Nat.le_of_ble_eq_true rfl) dX0_init_62 rfl (ctJ2_init w) (fun r9 σ_19 hk => ?_)
  obtain ⟨rfl, w⟩ := hk
  refine e_cPF (n := 68) (ty := (.object "java/util/List")) w ff_X0_init_parted rfl (rf_nar _ (some q_18)) dX0_init_65 rfl (fun σ_20 w => ?_)
  refine e_aload_n (n := 69) dX0_init_68 rfl 0 rfl ?_
  refine e_iconst (n := 70) (v := 0) dX0_init_69 rfl (by decide) ?_
  obtain ⟨hu1, hu2, w⟩ := w
  obtain ⟨wn, wb, w⟩ := w
  refine e_cnewI (n := 72) (z := 0) w wn wb hu1 hu2 dX0_init_70 rfl (fun q_22 σ_21 w => ?_)
  refine e_cP (n := 75) (ty := (.array .int)) w tyX0 tyX0_ok nmX0 in_X0 rfl rfl (gl_o q194) rfl rfl (rf_narA _ (some q_22)) dX0_init_72 rfl (fun σ_23 w => ?_)
  refine e_aload_n (n := 76) dX0_init_75 rfl 0 rfl ?_
  refine e_bipush (n := 78) (v := 12) dX0_init_76 rfl (by decide) ?_
  refine e_bipush (n := 80) (v := 55) dX0_init_78 rfl (by decide) ?_
  refine e_bipush (n := 82) (v := 55) dX0_init_80 rfl (by decide) ?_
  obtain ⟨hu1, hu2, w⟩ := w
  refine e_cm3_5 (n := 86) (N1 := 12) (N2 := 55) (N3 := 55) w (by decide) q131 hu1 hu2 dX0_init_82 rfl (fun q_25 σ_24 w => ?_)
  refine e_cPF (n := 89) (ty := (.array (.array (.array .long)))) w ff_X0_init_readCells rfl (rf_narA _ (some q_25)) dX0_init_86 rfl (fun σ_26 w => ?_)
  refine e_aload_n (n := 90) dX0_init_89 rfl 0 rfl ?_
  refine e_bipush (n := 92) (v := 8) dX0_init_90 rfl (by decide) ?_
  refine e_bipush (n := 94) (v := 55) dX0_init_92 rfl (by decide) ?_
  refine e_bipush (n := 96) (v := 55) dX0_init_94 rfl (by decide) ?_
  obtain ⟨hu1, hu2, w⟩ := w
  refine e_cm3_5 (n := 100) (N1 := 8) (N2 := 55) (N3 := 55) w (by decide) q131 hu1 hu2 dX0_init_96 rfl (fun q_28 σ_27 w => ?_)
  refine e_cPF (n := 103) (ty := (.array (.array (.array .long)))) w ff_X0_init_treeCells rfl (rf_narA _ (some q_28)) dX0_init_100 rfl (fun σ_29 w => ?_)
  refine e_aload_n (n := 104) dX0_init_103 rfl 0 rfl ?_
  refine e_bipush (n := 106) (v := 96) dX0_init_104 rfl (by decide) ?_
  refine e_bipush (n := 108) (v := 55) dX0_init_106 rfl (by decide) ?_
  refine e_bipush (n := 110) (v := 55) dX0_init_108 rfl (by decide) ?_
  obtain ⟨hu1, hu2, w⟩ := w
  refine e_cm3_5 (n := 114) (N1 := 96) (N2 := 55) (N3 := 55) w (by decide) q131 hu1 hu2 dX0_init_110 rfl (fun q_31 σ_30 w => ?_)
  refine e_cPF (n := 117) (ty := (.array (.array (.array .long)))) w ff_X0_init_restCells rfl (rf_narA _ (some q_31)) dX0_init_114 rfl (fun σ_32 w => ?_)
  refine e_aload_n (n := 118) dX0_init_117 rfl 0 rfl ?_
  refine e_bipush (n := 120) (v := (-4)) dX0_init_118 rfl (by decide) ?_
  refine e_cP (n := 123) (ty := .int) w tyX0 tyX0_ok nmX0 in_X0 rfl rfl (gl_o q202) rfl rfl ⟨rfl, rfl⟩ dX0_init_120 rfl (fun σ_33 w => ?_)
  refine e_aload_n (n := 124) dX0_init_123 rfl 0 rfl ?_
  obtain ⟨hu1, hu2, w⟩ := w
  refine e_cnew (n := 127) w tyX1 tyX1_ok in_X1 rfl q134 q135 q61 (fun j hj => g_defX1 j hj) hu1 hu2 dX0_init_124 rfl (fun q_35 σ_34 w => ?_)
  refine e_dup (n := 128) dX0_init_127 rfl rfl ?_
  obtain ⟨c_37, b_38, hu1, hu2, w⟩ := w
  refine e_callIN (n := 131) (As := []) (st := [.ref q_35, .ref x0]) okX1_init rfl rfl q136 q137 q61 q138 (by decide) hu1 hu2 rfl rfl rfl dX0_init_128 rfl (ctX1_init w) (fun r9 σ_36 hk => ?_)
  obtain ⟨rfl, w⟩ := hk
  refine e_cP (n := 134) (ty := (.object "MendReader$Tree")) w tyX0 tyX0_ok nmX0 in_X0 rfl rfl (gl_o q204) rfl rfl (rf_nar _ (some q_35)) dX0_init_131 rfl (fun σ_39 w => ?_)
  refine e_aload_n (n := 135) dX0_init_134 rfl 0 rfl ?_
  obtain ⟨hu1, hu2, w⟩ := w
  refine e_cnew (n := 138) w tyJ2 tyJ2_ok in_J2 rfl q103 q104 q60 (fun j hj => g_defJ2 j hj) hu1 hu2 dX0_init_135 rfl (fun q_41 σ_40 w => ?_)
  refine e_dup (n := 139) dX0_init_138 rfl rfl ?_
  refine e_callI (n := 142) (As := []) (st := [.ref q_41, .ref x0]) okJ2_init rfl rfl q105 q106 q60 q107 (by decide) hu1 hu2 rfl rfl (Nat.le_of_ble_eq_true rfl) dX0_init_139 rfl (ctJ2_init w) (fun r9 σ_42 hk => ?_)
  obtain ⟨rfl, w⟩ := hk
  refine e_cPF (n := 145) (ty := (.object "java/util/List")) w ff_X0_init_slips rfl (rf_nar _ (some q_41)) dX0_init_142 rfl (fun σ_43 w => ?_)
  refine e_aload_n (n := 146) dX0_init_145 rfl 0 rfl ?_
  obtain ⟨hu1, hu2, w⟩ := w
  refine e_cnew (n := 149) w tyX2 tyX2_ok in_X2 rfl q153 q154 q62 (fun j hj => g_defX2 j hj) hu1 hu2 dX0_init_146 rfl (fun q_45 σ_44 w => ?_)
  refine e_dup (n := 150) dX0_init_149 rfl rfl ?_
  obtain ⟨c_47, b_48, hu1, hu2, w⟩ := w
  refine e_callIN (n := 153) (As := []) (st := [.ref q_45, .ref x0]) okX2_init rfl rfl q155 q156 q62 q157 (by decide) hu1 hu2 rfl rfl rfl dX0_init_150 rfl (ctX2_init w) (fun r9 σ_46 hk => ?_)
  obtain ⟨rfl, w⟩ := hk
  refine e_cP (n := 156) (ty := (.object "MendReader$Slips")) w tyX0 tyX0_ok nmX0 in_X0 rfl rfl (gl_o q208) rfl rfl (rf_nar _ (some q_45)) dX0_init_153 rfl (fun σ_49 w => ?_)
  refine e_aload_n (n := 157) dX0_init_156 rfl 0 rfl ?_
  refine e_sipush (n := 160) (v := 300) dX0_init_157 rfl (by decide) ?_
  obtain ⟨hu1, hu2, w⟩ := w
  obtain ⟨wn, wb, w⟩ := w
  refine e_cnewI (n := 162) (z := 300) w wn wb hu1 hu2 dX0_init_160 rfl (fun q_51 σ_50 w => ?_)
  refine e_cPF (n := 165) (ty := (.array .int)) w ff_X0_init_words rfl (rf_narA _ (some q_51)) dX0_init_162 rfl (fun σ_52 w => ?_)
  refine e_aload_n (n := 166) dX0_init_165 rfl 0 rfl ?_
  refine e_bipush (n := 168) (v := 6) dX0_init_166 rfl (by decide) ?_
  obtain ⟨hu1, hu2, w⟩ := w
  obtain ⟨wn, wb, w⟩ := w
  refine e_cnewq (n := 171) (t := 6) (z := 6) w q165 q166 (fun _ => rfl) wn wb hu1 hu2 dX0_init_168 rfl (fun q_54 σ_53 w => ?_)
  refine e_cPF (n := 174) (ty := (.array (.object "MendReader$Shelf"))) w ff_X0_init_shelves rfl (rf_narA _ (some q_54)) dX0_init_171 rfl (fun σ_55 w => ?_)
  exact e_vret rfl hu1 hu2 ⟨rfl, w⟩ dX0_init_174
abbrev mX0_token : gM := (yX0_token, cX0_token, 2, some .int)
theorem okX0_token : g_ok mX0_token 1 := ⟨by decide +kernel, by decide +kernel, by decide +kernel, by decide +kernel, by decide⟩
def wX0_token (Q : Int32 → gH → Prop) (x0 : Nat) (x1 : Int32) (σ : gH) : Prop := c_I σ [0] x0 0 (fun v_1 => (v_1 = 12 → (Q (-2) σ)) ∧ (¬ v_1 = 12 → (c_R σ [0] x0 1 (fun r_2 => c_I σ [0] x0 0 (fun v_3 => ∃ a_4 : Nat, r_2 = some a_4 ∧ (c_sZ σ a_4 v_3 x1 (fun σ_5 => c_R σ_5 [0] x0 2 (fun r_6 => ∃ a_7 : Nat, r_6 = some a_7 ∧ (c_aR 3 σ_5 a_7 0 (fun r_8 => c_I σ_5 [0] x0 0 (fun v_9 => ∃ a_10 : Nat, r_8 = some a_10 ∧ (c_sI σ_5 a_10 v_9 10 (fun σ_11 => c_R σ_11 [0] x0 2 (fun r_12 => ∃ a_13 : Nat, r_12 = some a_13 ∧ (c_aR 3 σ_11 a_13 1 (fun r_14 => c_I σ_11 [0] x0 0 (fun v_15 => ∃ a_16 : Nat, r_14 = some a_16 ∧ (c_sI σ_11 a_16 v_15 10 (fun σ_17 => c_R σ_17 [0] x0 2 (fun r_18 => ∃ a_19 : Nat, r_18 = some a_19 ∧ (c_aR 3 σ_17 a_19 2 (fun r_20 => c_I σ_17 [0] x0 0 (fun v_21 => ∃ a_22 : Nat, r_20 = some a_22 ∧ (c_sI σ_17 a_22 v_21 12 (fun σ_23 => c_I σ_23 [0] x0 0 (fun v_24 => c_P σ_23 [0] x0 0 (.int (v_24 + 1)) (fun σ_25 => t_b 1 ∧ c_P σ_25 [0] x0 12 (.int 1) (fun σ_26 => c_I σ_26 [0] x0 0 (fun v_27 => Q (v_27 - 1) σ_26)))))))))))))))))))))))))))))
set_option maxHeartbeats 4000000 in
theorem ctX0_token {Q : Int32 → gH → Prop} {x0 : Nat} {x1 : Int32} {σ : gH} (w : wX0_token Q x0 x1 σ) : CT mX0_token 1 0 0 [.ref x0, .int x1] σ (c_Ki Q) := by
  refine CT.of (lv := [(0, .ref x0), (1, .int x1)]) okX0_token.1 rfl rfl ?_
  unfold wX0_token at w
  refine e_aload_n (n := 1) dX0_token_0 rfl 0 rfl ?_
  refine e_cI (n := 4) w fw_X0_tokens (gl_o q167) dX0_token_1 rfl (fun v_1 w => ?_)
  refine e_bipush (n := 6) (v := 12) dX0_token_4 rfl (by decide) ?_
  refine e_icmp_ne (n := 9) (tgt := 12) dX0_token_6 rfl (by decide) (fun h => ?_) (fun h => ?_)
  · have w := w.2 h
    refine e_aload_n (n := 13) dX0_token_12 rfl 0 rfl ?_
    refine e_cR (n := 16) w fw_X0_isFence (gl_o q169) dX0_token_13 rfl (fun r_2 w => ?_)
    refine e_aload_n (n := 17) dX0_token_16 rfl 0 rfl ?_
    refine e_cI (n := 20) w fw_X0_tokens (gl_o q167) dX0_token_17 rfl (fun v_3 w => ?_)
    refine e_iload_n (n := 21) dX0_token_20 rfl 1 rfl ?_
    obtain ⟨a_4, ha_4, w9a_4⟩ := w
    subst ha_4
    have w := w9a_4
    refine e_csZ (n := 22) w dX0_token_21 rfl (fun σ_5 w => ?_)
    refine e_aload_n (n := 23) dX0_token_22 rfl 0 rfl ?_
    refine e_cR (n := 26) w fw_X0_prices (gl_o q174) dX0_token_23 rfl (fun r_6 w => ?_)
    refine e_iconst (n := 27) (v := 0) dX0_token_26 rfl (by decide) ?_
    obtain ⟨a_7, ha_7, w9a_7⟩ := w
    subst ha_7
    have w := w9a_7
    refine e_caR (n := 28) w (fun _ => rfl) rfl dX0_token_27 rfl (fun r_8 w => ?_)
    refine e_aload_n (n := 29) dX0_token_28 rfl 0 rfl ?_
    refine e_cI (n := 32) w fw_X0_tokens (gl_o q167) dX0_token_29 rfl (fun v_9 w => ?_)
    refine e_bipush (n := 34) (v := 10) dX0_token_32 rfl (by decide) ?_
    obtain ⟨a_10, ha_10, w9a_10⟩ := w
    subst ha_10
    have w := w9a_10
    refine e_csI (n := 35) w dX0_token_34 rfl (fun σ_11 w => ?_)
    refine e_aload_n (n := 36) dX0_token_35 rfl 0 rfl ?_
    refine e_cR (n := 39) w fw_X0_prices (gl_o q174) dX0_token_36 rfl (fun r_12 w => ?_)
    refine e_iconst (n := 40) (v := 1) dX0_token_39 rfl (by decide) ?_
    obtain ⟨a_13, ha_13, w9a_13⟩ := w
    subst ha_13
    have w := w9a_13
    refine e_caR (n := 41) w (fun _ => rfl) rfl dX0_token_40 rfl (fun r_14 w => ?_)
    refine e_aload_n (n := 42) dX0_token_41 rfl 0 rfl ?_
    refine e_cI (n := 45) w fw_X0_tokens (gl_o q167) dX0_token_42 rfl (fun v_15 w => ?_)
    refine e_bipush (n := 47) (v := 10) dX0_token_45 rfl (by decide) ?_
    obtain ⟨a_16, ha_16, w9a_16⟩ := w
    subst ha_16
    have w := w9a_16
    refine e_csI (n := 48) w dX0_token_47 rfl (fun σ_17 w => ?_)
    refine e_aload_n (n := 49) dX0_token_48 rfl 0 rfl ?_
    refine e_cR (n := 52) w fw_X0_prices (gl_o q174) dX0_token_49 rfl (fun r_18 w => ?_)
    refine e_iconst (n := 53) (v := 2) dX0_token_52 rfl (by decide) ?_
    obtain ⟨a_19, ha_19, w9a_19⟩ := w
    subst ha_19
    have w := w9a_19
    refine e_caR (n := 54) w (fun _ => rfl) rfl dX0_token_53 rfl (fun r_20 w => ?_)
    refine e_aload_n (n := 55) dX0_token_54 rfl 0 rfl ?_
    refine e_cI (n := 58) w fw_X0_tokens (gl_o q167) dX0_token_55 rfl (fun v_21 w => ?_)
    refine e_bipush (n := 60) (v := 12) dX0_token_58 rfl (by decide) ?_
    obtain ⟨a_22, ha_22, w9a_22⟩ := w
    subst ha_22
    have w := w9a_22
    refine e_csI (n := 61) w dX0_token_60 rfl (fun σ_23 w => ?_)
    refine e_aload_n (n := 62) dX0_token_61 rfl 0 rfl ?_
    refine e_dup (n := 63) dX0_token_62 rfl rfl ?_
    refine e_cI (n := 66) w fw_X0_tokens (gl_o q167) dX0_token_63 rfl (fun v_24 w => ?_)
    refine e_iconst (n := 67) (v := 1) dX0_token_66 rfl (by decide) ?_
    refine e_iadd (n := 68) dX0_token_67 rfl ?_
    refine e_cP (n := 71) (ty := .int) w tyX0 tyX0_ok nmX0 in_X0 rfl rfl (gl_o q167) rfl rfl ⟨rfl, rfl⟩ dX0_token_68 rfl (fun σ_25 w => ?_)
    refine e_aload_n (n := 72) dX0_token_71 rfl 0 rfl ?_
    refine e_iconst (n := 73) (v := 1) dX0_token_72 rfl (by decide) ?_
    obtain ⟨wb, w⟩ := w
    refine e_cP (n := 76) (ty := .boolean) w tyX0 tyX0_ok nmX0 in_X0 rfl rfl (gl_o q195) rfl rfl ⟨wb.nar, wb.fit⟩ dX0_token_73 rfl (fun σ_26 w => ?_)
    refine e_aload_n (n := 77) dX0_token_76 rfl 0 rfl ?_
    refine e_cI (n := 80) w fw_X0_tokens (gl_o q167) dX0_token_77 rfl (fun v_27 w => ?_)
    refine e_iconst (n := 81) (v := 1) dX0_token_80 rfl (by decide) ?_
    refine e_isub (n := 82) dX0_token_81 rfl ?_
    exact e_iret rfl (Nat.le_refl _) (Nat.le_refl _) ⟨_, rfl, w⟩ dX0_token_82
  · have w := w.1 h
    refine e_bipush (n := 11) (v := (-2)) dX0_token_9 rfl (by decide) ?_
    exact e_iret rfl (Nat.le_refl _) (Nat.le_refl _) ⟨_, rfl, w⟩ dX0_token_11
abbrev mX0_name : gM := (yX0_name, cX0_name, 1, some .int)
theorem okX0_name : g_ok mX0_name 0 := ⟨by decide +kernel, by decide +kernel, by decide +kernel, by decide +kernel, by decide⟩
def wX0_name (Q : Int32 → gH → Prop) (x0 : Nat) (σ : gH) : Prop := c_I σ [0] x0 5 (fun v_1 => (v_1 = 8 → (Q (-2) σ)) ∧ (¬ v_1 = 8 → (c_I σ [0] x0 5 (fun v_2 => c_P σ [0] x0 5 (.int (v_2 + 1)) (fun σ_3 => t_b 1 ∧ c_P σ_3 [0] x0 12 (.int 1) (fun σ_4 => c_I σ_4 [0] x0 5 (fun v_5 => Q (v_5 - 1) σ_4)))))))
set_option maxHeartbeats 4000000 in
theorem ctX0_name {Q : Int32 → gH → Prop} {x0 : Nat} {σ : gH} (w : wX0_name Q x0 σ) : CT mX0_name 1 0 0 [.ref x0] σ (c_Ki Q) := by
  refine CT.of (lv := [(0, .ref x0)]) okX0_name.1 rfl rfl ?_
  unfold wX0_name at w
  refine e_aload_n (n := 1) dX0_name_0 rfl 0 rfl ?_
  refine e_cI (n := 4) w fw_X0_names (gl_o q182) dX0_name_1 rfl (fun v_1 w => ?_)
  refine e_bipush (n := 6) (v := 8) dX0_name_4 rfl (by decide) ?_
  refine e_icmp_ne (n := 9) (tgt := 12) dX0_name_6 rfl (by decide) (fun h => ?_) (fun h => ?_)
  · have w := w.2 h
    refine e_aload_n (n := 13) dX0_name_12 rfl 0 rfl ?_
    refine e_dup (n := 14) dX0_name_13 rfl rfl ?_
    refine e_cI (n := 17) w fw_X0_names (gl_o q182) dX0_name_14 rfl (fun v_2 w => ?_)
    refine e_iconst (n := 18) (v := 1) dX0_name_17 rfl (by decide) ?_
    refine e_iadd (n := 19) dX0_name_18 rfl ?_
    refine e_cP (n := 22) (ty := .int) w tyX0 tyX0_ok nmX0 in_X0 rfl rfl (gl_o q182) rfl rfl ⟨rfl, rfl⟩ dX0_name_19 rfl (fun σ_3 w => ?_)
    refine e_aload_n (n := 23) dX0_name_22 rfl 0 rfl ?_
    refine e_iconst (n := 24) (v := 1) dX0_name_23 rfl (by decide) ?_
    obtain ⟨wb, w⟩ := w
    refine e_cP (n := 27) (ty := .boolean) w tyX0 tyX0_ok nmX0 in_X0 rfl rfl (gl_o q195) rfl rfl ⟨wb.nar, wb.fit⟩ dX0_name_24 rfl (fun σ_4 w => ?_)
    refine e_aload_n (n := 28) dX0_name_27 rfl 0 rfl ?_
    refine e_cI (n := 31) w fw_X0_names (gl_o q182) dX0_name_28 rfl (fun v_5 w => ?_)
    refine e_iconst (n := 32) (v := 1) dX0_name_31 rfl (by decide) ?_
    refine e_isub (n := 33) dX0_name_32 rfl ?_
    exact e_iret rfl (Nat.le_refl _) (Nat.le_refl _) ⟨_, rfl, w⟩ dX0_name_33
  · have w := w.1 h
    refine e_bipush (n := 11) (v := (-2)) dX0_name_9 rfl (by decide) ?_
    exact e_iret rfl (Nat.le_refl _) (Nat.le_refl _) ⟨_, rfl, w⟩ dX0_name_11
abbrev mX0_in : gM := (yX0_in, cX0_in, 6, some .boolean)
theorem okX0_in : g_ok mX0_in 3 := ⟨by decide +kernel, by decide +kernel, by decide +kernel, by decide +kernel, by decide⟩
def wX0_in (Q : Int32 → Prop) (σ : gH) (x0 : Int64) (x2 : Int64) (x4 : Int64) : Prop := (x0 < x2 → (Q 0)) ∧ (¬ x0 < x2 → ((x4 < x0 → (Q 0)) ∧ (¬ x4 < x0 → (Q 1))))
set_option maxHeartbeats 4000000 in
theorem ctX0_in {Q : Int32 → Prop} {x0 : Int64} {x2 : Int64} {x4 : Int64} {σ : gH} (w : wX0_in Q σ x0 x2 x4) : CT mX0_in 1 0 0 [.long x0, .long x2, .long x4] σ (g_Pi σ Q) := by
  refine CT.of (lv := [(0, .long x0), (2, .long x2), (4, .long x4)]) okX0_in.1 rfl rfl ?_
  unfold wX0_in at w
  refine e_lload_n (n := 1) dX0_in_0 rfl 0 rfl ?_
  refine e_lload_n (n := 2) dX0_in_1 rfl 1 rfl ?_
  refine e_lcmp_lt (n := 6) (tgt := 17) dX0_in_2 dX0_in_3 rfl (by decide) (fun h => ?_) (fun h => ?_)
  · have w := w.1 h
    refine e_iconst (n := 18) (v := 0) dX0_in_17 rfl (by decide) ?_
    exact e_zret rfl rfl (Nat.le_refl _) (Nat.le_refl _) ⟨_, rfl, rfl, w⟩ dX0_in_18
  · have w := w.2 h
    refine e_lload_n (n := 7) dX0_in_6 rfl 0 rfl ?_
    refine e_lload (n := 9) dX0_in_7 rfl 2 rfl ?_
    refine e_lcmp_gt (n := 13) (tgt := 17) dX0_in_9 dX0_in_10 rfl (by decide) (fun h => ?_) (fun h => ?_)
    · have w := w.1 h
      refine e_iconst (n := 18) (v := 0) dX0_in_17 rfl (by decide) ?_
      exact e_zret rfl rfl (Nat.le_refl _) (Nat.le_refl _) ⟨_, rfl, rfl, w⟩ dX0_in_18
    · have w := w.2 h
      refine e_iconst (n := 14) (v := 1) dX0_in_13 rfl (by decide) ?_
      refine e_goto (n := 18) dX0_in_14 (by decide) ?_
      exact e_zret rfl rfl (Nat.le_refl _) (Nat.le_refl _) ⟨_, rfl, rfl, w⟩ dX0_in_18
abbrev mX0_isName : gM := (yX0_isName, cX0_isName, 2, some .boolean)
theorem okX0_isName : g_ok mX0_isName 1 := ⟨by decide +kernel, by decide +kernel, by decide +kernel, by decide +kernel, by decide⟩
def wX0_isName (Q : Int32 → Prop) (σ : gH) (x0 : Nat) (x1 : Int32) : Prop := c_I σ [0] x0 5 (fun v_1 => wX0_in (fun (v_2 : Int32) => t_b v_2 ∧ Q v_2) σ x1.toInt64 0 ((v_1 - 1).toInt64))
set_option maxHeartbeats 4000000 in
theorem ctX0_isName {Q : Int32 → Prop} {x0 : Nat} {x1 : Int32} {σ : gH} (w : wX0_isName Q σ x0 x1) : CT mX0_isName 2 0 0 [.ref x0, .int x1] σ (g_Pi σ Q) := by
  refine CT.of (lv := [(0, .ref x0), (1, .int x1)]) okX0_isName.1 rfl rfl ?_
  unfold wX0_isName at w
  refine e_iload_n (n := 1) dX0_isName_0 rfl 1 rfl ?_
  refine e_i2l (n := 2) dX0_isName_1 rfl ?_
  refine e_lconst (n := 3) (v := 0) dX0_isName_2 rfl (by decide) ?_
  refine e_aload_n (n := 4) dX0_isName_3 rfl 0 rfl ?_
  refine e_cI (n := 7) w fw_X0_names (gl_o q182) dX0_isName_4 rfl (fun v_1 w => ?_)
  refine e_iconst (n := 8) (v := 1) dX0_isName_7 rfl (by decide) ?_
  refine e_isub (n := 9) dX0_isName_8 rfl ?_
  refine e_i2l (n := 10) dX0_isName_9 rfl ?_
  refine e_callS (n := 13) (As := [.long x1.toInt64, .long 0, .long ((v_1 - 1).toInt64)]) (st := []) okX0_in q279 q280 q57 q281 (by decide) (Nat.le_refl _) (Nat.le_refl _) rfl rfl (Nat.le_of_ble_eq_true rfl) dX0_isName_10 rfl (ctX0_in w) (fun r9 σ9 hk => ?_)
  obtain ⟨v_2, rfl, hs9, w⟩ := hk
  rw [hs9]
  exact e_zret rfl w.1.nar (Nat.le_refl _) (Nat.le_refl _) ⟨_, rfl, rfl, w.2⟩ dX0_isName_13
abbrev mX4_init : gM := (yX4_init, cX4_init, 3, none)
theorem okX4_init : g_ok mX4_init 2 := ⟨by decide +kernel, by decide +kernel, by decide +kernel, by decide +kernel, by decide⟩
theorem ff_X4_init_sorts : ∀ ci ∈ [4], ∃ (C : String) (T : u_T) (N : Nat) (ty0 : Nat → FieldType), g_cl[ci]? = some (C, T, N) ∧ (∀ k, k < N → parseFieldDescriptor (T k).2.2.1 = some (ty0 k)) ∧ g_nm T N ∧ (∀ w ∈ u_ws C T N, w ∈ lw_all) ∧ Nat.ble (2 + 1) N = true ∧ Cond.fieldLink mX4_init.1.cls 9 (T 2).1 (T 2).2.1 (T 2).2.2.1 ∈ lw_all ∧ (T 2).2.2.2 = true ∧ (T 2).1 = mX4_init.1.cls ∧ ty0 2 = (.array .int) := by
  intro ci h
  simp only [List.mem_cons, List.not_mem_nil, or_false] at h
  subst h
  exact ⟨_, _, _, tyX4, rfl, tyX4_ok, gn_X4, in_X4, rfl, q303, rfl, rfl, rfl⟩
theorem ff_X4_init_which : ∀ ci ∈ [4], ∃ (C : String) (T : u_T) (N : Nat) (ty0 : Nat → FieldType), g_cl[ci]? = some (C, T, N) ∧ (∀ k, k < N → parseFieldDescriptor (T k).2.2.1 = some (ty0 k)) ∧ g_nm T N ∧ (∀ w ∈ u_ws C T N, w ∈ lw_all) ∧ Nat.ble (3 + 1) N = true ∧ Cond.fieldLink mX4_init.1.cls 15 (T 3).1 (T 3).2.1 (T 3).2.2.1 ∈ lw_all ∧ (T 3).2.2.2 = true ∧ (T 3).1 = mX4_init.1.cls ∧ ty0 3 = (.array .int) := by
  intro ci h
  simp only [List.mem_cons, List.not_mem_nil, or_false] at h
  subst h
  exact ⟨_, _, _, tyX4, rfl, tyX4_ok, gn_X4, in_X4, rfl, q307, rfl, rfl, rfl⟩
theorem ff_X4_init_number : ∀ ci ∈ [4], ∃ (C : String) (T : u_T) (N : Nat) (ty0 : Nat → FieldType), g_cl[ci]? = some (C, T, N) ∧ (∀ k, k < N → parseFieldDescriptor (T k).2.2.1 = some (ty0 k)) ∧ g_nm T N ∧ (∀ w ∈ u_ws C T N, w ∈ lw_all) ∧ Nat.ble (0 + 1) N = true ∧ Cond.fieldLink mX4_init.1.cls 18 (T 0).1 (T 0).2.1 (T 0).2.2.1 ∈ lw_all ∧ (T 0).2.2.2 = true ∧ (T 0).1 = mX4_init.1.cls ∧ ty0 0 = .int := by
  intro ci h
  simp only [List.mem_cons, List.not_mem_nil, or_false] at h
  subst h
  exact ⟨_, _, _, tyX4, rfl, tyX4_ok, gn_X4, in_X4, rfl, q298, rfl, rfl, rfl⟩
theorem ff_X4_init_name : ∀ ci ∈ [4], ∃ (C : String) (T : u_T) (N : Nat) (ty0 : Nat → FieldType), g_cl[ci]? = some (C, T, N) ∧ (∀ k, k < N → parseFieldDescriptor (T k).2.2.1 = some (ty0 k)) ∧ g_nm T N ∧ (∀ w ∈ u_ws C T N, w ∈ lw_all) ∧ Nat.ble (1 + 1) N = true ∧ Cond.fieldLink mX4_init.1.cls 22 (T 1).1 (T 1).2.1 (T 1).2.2.1 ∈ lw_all ∧ (T 1).2.2.2 = true ∧ (T 1).1 = mX4_init.1.cls ∧ ty0 1 = .int := by
  intro ci h
  simp only [List.mem_cons, List.not_mem_nil, or_false] at h
  subst h
  exact ⟨_, _, _, tyX4, rfl, tyX4_ok, gn_X4, in_X4, rfl, q300, rfl, rfl, rfl⟩
def wX4_init (Q : gH → Prop) (mc ms : Nat) (x0 : Nat) (x1 : Int32) (x2 : Int32) (σ : gH) : Prop := 0 + 1 ≤ mc ∧ 0 + (3 : Int32).toNatClampNeg ≤ ms ∧ ¬ (3 : Int32) < 0 ∧ (3 : Int32).toNatClampNeg * 4 ≤ 536870912 ∧ c_new σ (.inl (0, (3 : Int32).toNatClampNeg, .inl (fun _ => 0))) (fun q_2 σ_1 => c_P σ_1 [4] x0 2 (va_rf (some q_2)) (fun σ_3 => (0 + 1) + 1 ≤ mc ∧ (0 + (3 : Int32).toNatClampNeg) + (3 : Int32).toNatClampNeg ≤ ms ∧ ¬ (3 : Int32) < 0 ∧ (3 : Int32).toNatClampNeg * 4 ≤ 536870912 ∧ c_new σ_3 (.inl (0, (3 : Int32).toNatClampNeg, .inl (fun _ => 0))) (fun q_5 σ_4 => c_P σ_4 [4] x0 3 (va_rf (some q_5)) (fun σ_6 => c_P σ_6 [4] x0 0 (.int x1) (fun σ_7 => c_P σ_7 [4] x0 1 (.int x2) (fun σ_8 => Q σ_8))))))
set_option maxHeartbeats 4000000 in
theorem ctX4_init {Q : gH → Prop} {mc ms : Nat} {x0 : Nat} {x1 : Int32} {x2 : Int32} {σ : gH} (w : wX4_init Q mc ms x0 x1 x2 σ) : CT mX4_init 1 mc ms [.ref x0, .int x1, .int x2] σ (c_Kv Q) := by
  refine CT.of (lv := [(0, .ref x0), (1, .int x1), (2, .int x2)]) okX4_init.1 rfl rfl ?_
  unfold wX4_init at w
  refine e_aload_n (n := 1) dX4_init_0 rfl 0 rfl ?_
  refine e_objInit (n := 4) q297 q99 q100 (by decide) (Nat.le_of_ble_eq_true rfl) dX4_init_1 rfl ?_
  refine e_aload_n (n := 5) dX4_init_4 rfl 0 rfl ?_
  refine e_iconst (n := 6) (v := 3) dX4_init_5 rfl (by decide) ?_
  obtain ⟨hu1, hu2, w⟩ := w
  obtain ⟨wn, wb, w⟩ := w
  refine e_cnewI (n := 8) (z := 3) w wn wb hu1 hu2 dX4_init_6 rfl (fun q_2 σ_1 w => ?_)
  refine e_cPF (n := 11) (ty := (.array .int)) w ff_X4_init_sorts rfl (rf_narA _ (some q_2)) dX4_init_8 rfl (fun σ_3 w => ?_)
  refine e_aload_n (n := 12) dX4_init_11 rfl 0 rfl ?_
  refine e_iconst (n := 13) (v := 3) dX4_init_12 rfl (by decide) ?_
  obtain ⟨hu1, hu2, w⟩ := w
  obtain ⟨wn, wb, w⟩ := w
  refine e_cnewI (n := 15) (z := 3) w wn wb hu1 hu2 dX4_init_13 rfl (fun q_5 σ_4 w => ?_)
  refine e_cPF (n := 18) (ty := (.array .int)) w ff_X4_init_which rfl (rf_narA _ (some q_5)) dX4_init_15 rfl (fun σ_6 w => ?_)
  refine e_aload_n (n := 19) dX4_init_18 rfl 0 rfl ?_
  refine e_iload_n (n := 20) dX4_init_19 rfl 1 rfl ?_
  refine e_cPF (n := 23) (ty := .int) w ff_X4_init_number rfl ⟨rfl, rfl⟩ dX4_init_20 rfl (fun σ_7 w => ?_)
  refine e_aload_n (n := 24) dX4_init_23 rfl 0 rfl ?_
  refine e_iload_n (n := 25) dX4_init_24 rfl 2 rfl ?_
  refine e_cPF (n := 28) (ty := .int) w ff_X4_init_name rfl ⟨rfl, rfl⟩ dX4_init_25 rfl (fun σ_8 w => ?_)
  exact e_vret rfl hu1 hu2 ⟨rfl, w⟩ dX4_init_28
abbrev mX0_rule : gM := (yX0_rule, cX0_rule, 2, some .int)
theorem okX0_rule : g_ok mX0_rule 1 := ⟨by decide +kernel, by decide +kernel, by decide +kernel, by decide +kernel, by decide⟩
def wX0_rule (Q : Int32 → gH → Prop) (mc ms : Nat) (x0 : Nat) (x1 : Int32) (σ : gH) : Prop := ∃ fs_2 : List Value, σ.2 x0 = some (.inr (0, fs_2)) ∧ (wX0_isName (fun (v_1 : Int32) => (v_1 = 0 → (Q (-1) σ)) ∧ (¬ v_1 = 0 → (c_R σ [0] x0 7 (fun r_3 => ∃ a_4 : Nat, r_3 = some a_4 ∧ (∃ fs_6 : List Value, σ.2 a_4 = some (.inr (18, fs_6)) ∧ (wJ2_size (fun (v_5 : Int32) => (v_5 = 24 → (Q (-2) σ)) ∧ (¬ v_5 = 24 → (c_R σ [0] x0 7 (fun r_7 => 0 + 1 ≤ mc ∧ 0 + 5 ≤ ms ∧ c_new σ (.inr (4, [.int 0, .int 0, .null, .null, .int 0])) (fun q_9 σ_8 => c_R σ_8 [0] x0 7 (fun r_10 => ∃ a_11 : Nat, r_10 = some a_11 ∧ (∃ fs_13 : List Value, σ_8.2 a_11 = some (.inr (18, fs_13)) ∧ (wJ2_size (fun (v_12 : Int32) => ∃ c_15 b_16 : Nat, (0 + 1) + c_15 ≤ mc ∧ (0 + 5) + b_16 ≤ ms ∧ wX4_init (fun (σ_14 : gH) => ∃ a_17 : Nat, r_7 = some a_17 ∧ (∃ fs_22 : List Value, σ_14.2 a_17 = some (.inr (18, fs_22)) ∧ ∃ c_20 b_21 : Nat, ((0 + 1) + c_15) + c_20 ≤ mc ∧ ((0 + 5) + b_16) + b_21 ≤ ms ∧ (wJ2_add (fun (v_19 : Int32) (σ_18 : gH) => t_b 1 ∧ c_P σ_18 [0] x0 12 (.int 1) (fun σ_23 => c_R σ_23 [0] x0 7 (fun r_24 => ∃ a_25 : Nat, r_24 = some a_25 ∧ (∃ fs_27 : List Value, σ_23.2 a_25 = some (.inr (18, fs_27)) ∧ (wJ2_size (fun (v_26 : Int32) => Q (v_26 - 1) σ_23) σ_23 a_25))))) c_20 b_21 a_17 (some q_9) σ_14))) c_15 b_16 q_9 v_12 x1 σ_8) σ_8 a_11)))))))) σ a_4)))))) σ x0 x1)
set_option maxHeartbeats 4000000 in
theorem ctX0_rule {Q : Int32 → gH → Prop} {mc ms : Nat} {x0 : Nat} {x1 : Int32} {σ : gH} (w : wX0_rule Q mc ms x0 x1 σ) : CT mX0_rule 8 mc ms [.ref x0, .int x1] σ (c_Ki Q) := by
  refine CT.of (lv := [(0, .ref x0), (1, .int x1)]) okX0_rule.1 rfl rfl ?_
  unfold wX0_rule at w
  refine e_aload_n (n := 1) dX0_rule_0 rfl 0 rfl ?_
  refine e_iload_n (n := 2) dX0_rule_1 rfl 1 rfl ?_
  obtain ⟨fs_2, wo, w⟩ := w
  refine e_callV (n := 5) (As := [.int x1]) (st := []) okX0_isName q275 q277 qs0 q57 q278 rfl wo rfl (by decide) (Nat.zero_le _) (Nat.zero_le _) rfl rfl (Nat.le_of_ble_eq_true rfl) dX0_rule_2 rfl (ctX0_isName w) (fun r9 σ9 hk => ?_)
  obtain ⟨v_1, rfl, hs9, w⟩ := hk
  rw [hs9]
  refine e_if_ne (n := 8) (tgt := 10) dX0_rule_5 rfl (by decide) (fun h => ?_) (fun h => ?_)
  · have w := w.2 h
    refine e_aload_n (n := 11) dX0_rule_10 rfl 0 rfl ?_
    refine e_cR (n := 14) w fw_X0_rules (gl_o q186) dX0_rule_11 rfl (fun r_3 w => ?_)
    obtain ⟨a_4, ha_4, w9a_4⟩ := w
    subst ha_4
    have w := w9a_4
    obtain ⟨fs_6, wo, w⟩ := w
    refine e_callF (n := 19) (As := []) (st := []) okJ2_size q283 q287 q289 q60 q291 q285 q284 q290 q288 q286 rfl (by decide) wo rfl (by decide) (Nat.zero_le _) (Nat.zero_le _) rfl rfl rfl dX0_rule_14 rfl (ctJ2_size w) (fun r9 σ9 hk => ?_)
    obtain ⟨v_5, rfl, hs9, w⟩ := hk
    rw [hs9]
    refine e_bipush (n := 21) (v := 24) dX0_rule_19 rfl (by decide) ?_
    refine e_icmp_ne (n := 24) (tgt := 27) dX0_rule_21 rfl (by decide) (fun h => ?_) (fun h => ?_)
    · have w := w.2 h
      refine e_aload_n (n := 28) dX0_rule_27 rfl 0 rfl ?_
      refine e_cR (n := 31) w fw_X0_rules (gl_o q186) dX0_rule_28 rfl (fun r_7 w => ?_)
      obtain ⟨hu1, hu2, w⟩ := w
      refine e_cnew (n := 34) w tyX4 tyX4_ok in_X4 rfl q292 q293 q64 (fun j hj => g_defX4 j hj) hu1 hu2 dX0_rule_31 rfl (fun q_9 σ_8 w => ?_)
      refine e_dup (n := 35) dX0_rule_34 rfl rfl ?_
      refine e_aload_n (n := 36) dX0_rule_35 rfl 0 rfl ?_
      refine e_cR (n := 39) w fw_X0_rules (gl_o q186) dX0_rule_36 rfl (fun r_10 w => ?_)
      obtain ⟨a_11, ha_11, w9a_11⟩ := w
      subst ha_11
      have w := w9a_11
      obtain ⟨fs_13, wo, w⟩ := w
      refine e_callF (n := 44) (As := []) (st := [.ref q_9, .ref q_9, va_rf r_7]) okJ2_size q283 q287 q289 q60 q291 q285 q284 q290 q288 q286 rfl (by decide) wo rfl (by decide) hu1 hu2 rfl rfl (by cases r_7 <;> rfl) dX0_rule_39 rfl (ctJ2_size w) (fun r9 σ9 hk => ?_)
      obtain ⟨v_12, rfl, hs9, w⟩ := hk
      rw [hs9]
      refine e_iload_n (n := 45) dX0_rule_44 rfl 1 rfl ?_
      obtain ⟨c_15, b_16, hu1, hu2, w⟩ := w
      refine e_callI (n := 48) (As := [.int v_12, .int x1]) (st := [.ref q_9, va_rf r_7]) okX4_init rfl rfl q294 q295 q64 q296 (by decide) hu1 hu2 rfl rfl (Nat.le_of_ble_eq_true (by cases r_7 <;> rfl)) dX0_rule_45 rfl (ctX4_init w) (fun r9 σ_14 hk => ?_)
      obtain ⟨rfl, w⟩ := hk
      obtain ⟨a_17, ha_17, w9a_17⟩ := w
      subst ha_17
      have w := w9a_17
      obtain ⟨fs_22, wo, w⟩ := w
      obtain ⟨c_20, b_21, hu1, hu2, w⟩ := w
      refine e_callF (n := 53) (As := [va_rf (some q_9)]) (st := []) okJ2_add q326 q329 q331 q60 q333 q328 q327 q332 q330 q286 rfl (by decide) wo rfl (by decide) hu1 hu2 rfl rfl rfl dX0_rule_48 rfl (ctJ2_add w) (fun r9 σ_18 hk => ?_)
      obtain ⟨v_19, rfl, w⟩ := hk
      refine e_pop (n := 54) dX0_rule_53 rfl rfl ?_
      refine e_aload_n (n := 55) dX0_rule_54 rfl 0 rfl ?_
      refine e_iconst (n := 56) (v := 1) dX0_rule_55 rfl (by decide) ?_
      obtain ⟨wb, w⟩ := w
      refine e_cP (n := 59) (ty := .boolean) w tyX0 tyX0_ok nmX0 in_X0 rfl rfl (gl_o q195) rfl rfl ⟨wb.nar, wb.fit⟩ dX0_rule_56 rfl (fun σ_23 w => ?_)
      refine e_aload_n (n := 60) dX0_rule_59 rfl 0 rfl ?_
      refine e_cR (n := 63) w fw_X0_rules (gl_o q186) dX0_rule_60 rfl (fun r_24 w => ?_)
      obtain ⟨a_25, ha_25, w9a_25⟩ := w
      subst ha_25
      have w := w9a_25
      obtain ⟨fs_27, wo, w⟩ := w
      refine e_callF (n := 68) (As := []) (st := []) okJ2_size q283 q287 q289 q60 q291 q285 q284 q290 q288 q286 rfl (by decide) wo rfl (by decide) hu1 hu2 rfl rfl rfl dX0_rule_63 rfl (ctJ2_size w) (fun r9 σ9 hk => ?_)
      obtain ⟨v_26, rfl, hs9, w⟩ := hk
      rw [hs9]
      refine e_iconst (n := 69) (v := 1) dX0_rule_68 rfl (by decide) ?_
      refine e_isub (n := 70) dX0_rule_69 rfl ?_
      exact e_iret rfl hu1 hu2 ⟨_, rfl, w⟩ dX0_rule_70
    · have w := w.1 h
      refine e_bipush (n := 26) (v := (-2)) dX0_rule_24 rfl (by decide) ?_
      exact e_iret rfl (Nat.zero_le _) (Nat.zero_le _) ⟨_, rfl, w⟩ dX0_rule_26
  · have w := w.1 h
    refine e_iconst (n := 9) (v := (-1)) dX0_rule_8 rfl (by decide) ?_
    exact e_iret rfl (Nat.zero_le _) (Nat.zero_le _) ⟨_, rfl, w⟩ dX0_rule_9
abbrev mX0_isToken : gM := (yX0_isToken, cX0_isToken, 2, some .boolean)
theorem okX0_isToken : g_ok mX0_isToken 1 := ⟨by decide +kernel, by decide +kernel, by decide +kernel, by decide +kernel, by decide⟩
def wX0_isToken (Q : Int32 → Prop) (σ : gH) (x0 : Nat) (x1 : Int32) : Prop := c_I σ [0] x0 0 (fun v_1 => wX0_in (fun (v_2 : Int32) => t_b v_2 ∧ Q v_2) σ x1.toInt64 0 ((v_1 - 1).toInt64))
set_option maxHeartbeats 4000000 in
theorem ctX0_isToken {Q : Int32 → Prop} {x0 : Nat} {x1 : Int32} {σ : gH} (w : wX0_isToken Q σ x0 x1) : CT mX0_isToken 2 0 0 [.ref x0, .int x1] σ (g_Pi σ Q) := by
  refine CT.of (lv := [(0, .ref x0), (1, .int x1)]) okX0_isToken.1 rfl rfl ?_
  unfold wX0_isToken at w
  refine e_iload_n (n := 1) dX0_isToken_0 rfl 1 rfl ?_
  refine e_i2l (n := 2) dX0_isToken_1 rfl ?_
  refine e_lconst (n := 3) (v := 0) dX0_isToken_2 rfl (by decide) ?_
  refine e_aload_n (n := 4) dX0_isToken_3 rfl 0 rfl ?_
  refine e_cI (n := 7) w fw_X0_tokens (gl_o q167) dX0_isToken_4 rfl (fun v_1 w => ?_)
  refine e_iconst (n := 8) (v := 1) dX0_isToken_7 rfl (by decide) ?_
  refine e_isub (n := 9) dX0_isToken_8 rfl ?_
  refine e_i2l (n := 10) dX0_isToken_9 rfl ?_
  refine e_callS (n := 13) (As := [.long x1.toInt64, .long 0, .long ((v_1 - 1).toInt64)]) (st := []) okX0_in q279 q280 q57 q281 (by decide) (Nat.le_refl _) (Nat.le_refl _) rfl rfl (Nat.le_of_ble_eq_true rfl) dX0_isToken_10 rfl (ctX0_in w) (fun r9 σ9 hk => ?_)
  obtain ⟨v_2, rfl, hs9, w⟩ := hk
  rw [hs9]
  exact e_zret rfl w.1.nar (Nat.le_refl _) (Nat.le_refl _) ⟨_, rfl, rfl, w.2⟩ dX0_isToken_13
abbrev mX0_symbol : gM := (yX0_symbol, cX0_symbol, 5, some .int)
theorem okX0_symbol : g_ok mX0_symbol 3 := ⟨by decide +kernel, by decide +kernel, by decide +kernel, by decide +kernel, by decide⟩
def wX0_symbol_56 (Q : Int32 → gH → Prop)  (x0 : Nat) (x1 : Int32) (x2 : Int32) (x3 : Int32) (σ : gH) : Prop := c_R σ [0] x0 7 (fun r_9 => ∃ a_10 : Nat, r_9 = some a_10 ∧ (∃ fs_12 : List Value, σ.2 a_10 = some (.inr (18, fs_12)) ∧ (wJ2_get (fun (r_11 : Option Nat) => c_cast σ [4] r_11 (∃ a_13 : Nat, r_11 = some a_13 ∧ (c_I σ [4] a_13 4 (fun v_14 => (v_14 = 3 → (Q (-2) σ)) ∧ (¬ v_14 = 3 → (c_R σ [4] a_13 2 (fun r_15 => c_I σ [4] a_13 4 (fun v_16 => ∃ a_17 : Nat, r_15 = some a_17 ∧ (c_sI σ a_17 v_16 x2 (fun σ_18 => c_R σ_18 [4] a_13 3 (fun r_19 => c_I σ_18 [4] a_13 4 (fun v_20 => ∃ a_21 : Nat, r_19 = some a_21 ∧ (c_sI σ_18 a_21 v_20 x3 (fun σ_22 => c_I σ_22 [4] a_13 4 (fun v_23 => c_P σ_22 [4] a_13 4 (.int (v_23 + 1)) (fun σ_24 => t_b 1 ∧ c_P σ_24 [0] x0 12 (.int 1) (fun σ_25 => c_I σ_25 [4] a_13 4 (fun v_26 => Q v_26 σ_25)))))))))))))))))) σ a_10 x1)))
def wX0_symbol (Q : Int32 → gH → Prop) (x0 : Nat) (x1 : Int32) (x2 : Int32) (x3 : Int32) (σ : gH) : Prop := c_R σ [0] x0 7 (fun r_1 => ∃ a_2 : Nat, r_1 = some a_2 ∧ (∃ fs_4 : List Value, σ.2 a_2 = some (.inr (18, fs_4)) ∧ (wJ2_size (fun (v_3 : Int32) => wX0_in (fun (v_5 : Int32) => (v_5 = 0 → (Q (-1) σ)) ∧ (¬ v_5 = 0 → (wX0_in (fun (v_6 : Int32) => (v_6 = 0 → (Q (-1) σ)) ∧ (¬ v_6 = 0 → ((x2 = 0 → (∃ fs_28 : List Value, σ.2 x0 = some (.inr (0, fs_28)) ∧ (wX0_isToken (fun (v_27 : Int32) => (v_27 = 0 → (Q (-1) σ)) ∧ (¬ v_27 = 0 → (wX0_symbol_56 Q x0 x1 x2 x3 σ))) σ x0 x3))) ∧ (¬ x2 = 0 → (∃ fs_8 : List Value, σ.2 x0 = some (.inr (0, fs_8)) ∧ (wX0_isName (fun (v_7 : Int32) => (v_7 = 0 → (Q (-1) σ)) ∧ (¬ v_7 = 0 → (wX0_symbol_56 Q x0 x1 x2 x3 σ))) σ x0 x3)))))) σ x2.toInt64 0 1))) σ x1.toInt64 0 ((v_3 - 1).toInt64)) σ a_2)))
set_option maxHeartbeats 4000000 in
theorem hX0_symbol_56 {Q : Int32 → gH → Prop}  (x0 : Nat) (x1 : Int32) (x2 : Int32) (x3 : Int32) (σ : gH) (w : wX0_symbol_56 Q x0 x1 x2 x3 σ) : E mX0_symbol 4 0 0 (g_z (c_Ki Q)) 0 0 56 [(0, .ref x0), (1, .int x1), (2, .int x2), (3, .int x3)] [] σ := by
  unfold wX0_symbol_56 at w
  refine e_aload_n (n := 57) dX0_symbol_56 rfl 0 rfl ?_
  refine e_cR (n := 60) w fw_X0_rules (gl_o q186) dX0_symbol_57 rfl (fun r_9 w => ?_)
  refine e_iload_n (n := 61) dX0_symbol_60 rfl 1 rfl ?_
  obtain ⟨a_10, ha_10, w9a_10⟩ := w
  subst ha_10
  have w := w9a_10
  obtain ⟨fs_12, wo, w⟩ := w
  refine e_callF (n := 66) (As := [.int x1]) (st := []) okJ2_get q409 q412 q414 q60 q416 q411 q410 q415 q413 q286 rfl (by decide) wo rfl (by decide) (Nat.le_refl _) (Nat.le_refl _) rfl rfl rfl dX0_symbol_61 rfl (ctJ2_get w) (fun r9 σ9 hk => ?_)
  obtain ⟨r_11, rfl, hs9, w⟩ := hk
  rw [hs9]
  refine e_ccast (n := 69) (r := r_11) w gc_X4 q292 dX0_symbol_66 rfl (fun w => ?_)
  refine e_astorer (n := 71) (r := r_11) (lv' := [(0, .ref x0), (1, .int x1), (2, .int x2), (3, .int x3), (4, va_rf r_11)]) [1, 2, 3, 4, 0] dX0_symbol_69 rfl rfl rfl ?_
  refine e_aloadr (n := 73) (r := r_11) dX0_symbol_71 rfl 4 rfl ?_
  obtain ⟨a_13, ha_13, w9a_13⟩ := w
  subst ha_13
  have w := w9a_13
  refine e_cI (n := 76) w fw_X4_size (gl_n q312) dX0_symbol_73 rfl (fun v_14 w => ?_)
  refine e_iconst (n := 77) (v := 3) dX0_symbol_76 rfl (by decide) ?_
  refine e_icmp_ne (n := 80) (tgt := 83) dX0_symbol_77 rfl (by decide) (fun h => ?_) (fun h => ?_)
  · have w := w.2 h
    refine e_aload (n := 85) dX0_symbol_83 rfl 4 rfl ?_
    refine e_cR (n := 88) w fw_X4_sorts (gl_n q305) dX0_symbol_85 rfl (fun r_15 w => ?_)
    refine e_aload (n := 90) dX0_symbol_88 rfl 4 rfl ?_
    refine e_cI (n := 93) w fw_X4_size (gl_n q312) dX0_symbol_90 rfl (fun v_16 w => ?_)
    refine e_iload_n (n := 94) dX0_symbol_93 rfl 2 rfl ?_
    obtain ⟨a_17, ha_17, w9a_17⟩ := w
    subst ha_17
    have w := w9a_17
    refine e_csI (n := 95) w dX0_symbol_94 rfl (fun σ_18 w => ?_)
    refine e_aload (n := 97) dX0_symbol_95 rfl 4 rfl ?_
    refine e_cR (n := 100) w fw_X4_which (gl_n q309) dX0_symbol_97 rfl (fun r_19 w => ?_)
    refine e_aload (n := 102) dX0_symbol_100 rfl 4 rfl ?_
    refine e_cI (n := 105) w fw_X4_size (gl_n q312) dX0_symbol_102 rfl (fun v_20 w => ?_)
    refine e_iload_n (n := 106) dX0_symbol_105 rfl 3 rfl ?_
    obtain ⟨a_21, ha_21, w9a_21⟩ := w
    subst ha_21
    have w := w9a_21
    refine e_csI (n := 107) w dX0_symbol_106 rfl (fun σ_22 w => ?_)
    refine e_aload (n := 109) dX0_symbol_107 rfl 4 rfl ?_
    refine e_dup (n := 110) dX0_symbol_109 rfl rfl ?_
    refine e_cI (n := 113) w fw_X4_size (gl_n q312) dX0_symbol_110 rfl (fun v_23 w => ?_)
    refine e_iconst (n := 114) (v := 1) dX0_symbol_113 rfl (by decide) ?_
    refine e_iadd (n := 115) dX0_symbol_114 rfl ?_
    refine e_cP (n := 118) (ty := .int) w tyX4 tyX4_ok nmX4 in_X4 rfl rfl (gl_n q312) rfl rfl ⟨rfl, rfl⟩ dX0_symbol_115 rfl (fun σ_24 w => ?_)
    refine e_aload_n (n := 119) dX0_symbol_118 rfl 0 rfl ?_
    refine e_iconst (n := 120) (v := 1) dX0_symbol_119 rfl (by decide) ?_
    obtain ⟨wb, w⟩ := w
    refine e_cP (n := 123) (ty := .boolean) w tyX0 tyX0_ok nmX0 in_X0 rfl rfl (gl_o q195) rfl rfl ⟨wb.nar, wb.fit⟩ dX0_symbol_120 rfl (fun σ_25 w => ?_)
    refine e_aload (n := 125) dX0_symbol_123 rfl 4 rfl ?_
    refine e_cI (n := 128) w fw_X4_size (gl_n q312) dX0_symbol_125 rfl (fun v_26 w => ?_)
    exact e_iret rfl (Nat.le_refl _) (Nat.le_refl _) ⟨_, rfl, w⟩ dX0_symbol_128
  · have w := w.1 h
    refine e_bipush (n := 82) (v := (-2)) dX0_symbol_80 rfl (by decide) ?_
    exact e_iret rfl (Nat.le_refl _) (Nat.le_refl _) ⟨_, rfl, w⟩ dX0_symbol_82
set_option maxHeartbeats 4000000 in
theorem ctX0_symbol {Q : Int32 → gH → Prop} {x0 : Nat} {x1 : Int32} {x2 : Int32} {x3 : Int32} {σ : gH} (w : wX0_symbol Q x0 x1 x2 x3 σ) : CT mX0_symbol 4 0 0 [.ref x0, .int x1, .int x2, .int x3] σ (c_Ki Q) := by
  refine CT.of (lv := [(0, .ref x0), (1, .int x1), (2, .int x2), (3, .int x3)]) okX0_symbol.1 rfl rfl ?_
  unfold wX0_symbol at w
  refine e_iload_n (n := 1) dX0_symbol_0 rfl 1 rfl ?_
  refine e_i2l (n := 2) dX0_symbol_1 rfl ?_
  refine e_lconst (n := 3) (v := 0) dX0_symbol_2 rfl (by decide) ?_
  refine e_aload_n (n := 4) dX0_symbol_3 rfl 0 rfl ?_
  refine e_cR (n := 7) w fw_X0_rules (gl_o q186) dX0_symbol_4 rfl (fun r_1 w => ?_)
  obtain ⟨a_2, ha_2, w9a_2⟩ := w
  subst ha_2
  have w := w9a_2
  obtain ⟨fs_4, wo, w⟩ := w
  refine e_callF (n := 12) (As := []) (st := [.long 0, .long x1.toInt64]) okJ2_size q283 q287 q289 q60 q291 q285 q284 q290 q288 q286 rfl (by decide) wo rfl (by decide) (Nat.le_refl _) (Nat.le_refl _) rfl rfl rfl dX0_symbol_7 rfl (ctJ2_size w) (fun r9 σ9 hk => ?_)
  obtain ⟨v_3, rfl, hs9, w⟩ := hk
  rw [hs9]
  refine e_iconst (n := 13) (v := 1) dX0_symbol_12 rfl (by decide) ?_
  refine e_isub (n := 14) dX0_symbol_13 rfl ?_
  refine e_i2l (n := 15) dX0_symbol_14 rfl ?_
  refine e_callS (n := 18) (As := [.long x1.toInt64, .long 0, .long ((v_3 - 1).toInt64)]) (st := []) okX0_in q279 q280 q57 q281 (by decide) (Nat.le_refl _) (Nat.le_refl _) rfl rfl (Nat.le_of_ble_eq_true rfl) dX0_symbol_15 rfl (ctX0_in w) (fun r9 σ9 hk => ?_)
  obtain ⟨v_5, rfl, hs9, w⟩ := hk
  rw [hs9]
  refine e_if_eq (n := 21) (tgt := 54) dX0_symbol_18 rfl (by decide) (fun h => ?_) (fun h => ?_)
  · have w := w.1 h
    refine e_iconst (n := 55) (v := (-1)) dX0_symbol_54 rfl (by decide) ?_
    exact e_iret rfl (Nat.le_refl _) (Nat.le_refl _) ⟨_, rfl, w⟩ dX0_symbol_55
  · have w := w.2 h
    refine e_iload_n (n := 22) dX0_symbol_21 rfl 2 rfl ?_
    refine e_i2l (n := 23) dX0_symbol_22 rfl ?_
    refine e_lconst (n := 24) (v := 0) dX0_symbol_23 rfl (by decide) ?_
    refine e_lconst (n := 25) (v := 1) dX0_symbol_24 rfl (by decide) ?_
    refine e_callS (n := 28) (As := [.long x2.toInt64, .long 0, .long 1]) (st := []) okX0_in q279 q280 q57 q281 (by decide) (Nat.le_refl _) (Nat.le_refl _) rfl rfl (Nat.le_of_ble_eq_true rfl) dX0_symbol_25 rfl (ctX0_in w) (fun r9 σ9 hk => ?_)
    obtain ⟨v_6, rfl, hs9, w⟩ := hk
    rw [hs9]
    refine e_if_eq (n := 31) (tgt := 54) dX0_symbol_28 rfl (by decide) (fun h => ?_) (fun h => ?_)
    · have w := w.1 h
      refine e_iconst (n := 55) (v := (-1)) dX0_symbol_54 rfl (by decide) ?_
      exact e_iret rfl (Nat.le_refl _) (Nat.le_refl _) ⟨_, rfl, w⟩ dX0_symbol_55
    · have w := w.2 h
      refine e_iload_n (n := 32) dX0_symbol_31 rfl 2 rfl ?_
      refine e_if_ne (n := 35) (tgt := 46) dX0_symbol_32 rfl (by decide) (fun h => ?_) (fun h => ?_)
      · have w := w.2 h
        refine e_aload_n (n := 47) dX0_symbol_46 rfl 0 rfl ?_
        refine e_iload_n (n := 48) dX0_symbol_47 rfl 3 rfl ?_
        obtain ⟨fs_8, wo, w⟩ := w
        refine e_callV (n := 51) (As := [.int x3]) (st := []) okX0_isName q275 q277 qs0 q57 q278 rfl wo rfl (by decide) (Nat.le_refl _) (Nat.le_refl _) rfl rfl (Nat.le_of_ble_eq_true rfl) dX0_symbol_48 rfl (ctX0_isName w) (fun r9 σ9 hk => ?_)
        obtain ⟨v_7, rfl, hs9, w⟩ := hk
        rw [hs9]
        refine e_if_ne (n := 54) (tgt := 56) dX0_symbol_51 rfl (by decide) (fun h => ?_) (fun h => ?_)
        · have w := w.2 h
          exact hX0_symbol_56 _ _ _ _ _ w
        · have w := w.1 h
          refine e_iconst (n := 55) (v := (-1)) dX0_symbol_54 rfl (by decide) ?_
          exact e_iret rfl (Nat.le_refl _) (Nat.le_refl _) ⟨_, rfl, w⟩ dX0_symbol_55
      · have w := w.1 h
        refine e_aload_n (n := 36) dX0_symbol_35 rfl 0 rfl ?_
        refine e_iload_n (n := 37) dX0_symbol_36 rfl 3 rfl ?_
        obtain ⟨fs_28, wo, w⟩ := w
        refine e_callV (n := 40) (As := [.int x3]) (st := []) okX0_isToken q404 q406 qs4 q57 q407 rfl wo rfl (by decide) (Nat.le_refl _) (Nat.le_refl _) rfl rfl (Nat.le_of_ble_eq_true rfl) dX0_symbol_37 rfl (ctX0_isToken w) (fun r9 σ9 hk => ?_)
        obtain ⟨v_27, rfl, hs9, w⟩ := hk
        rw [hs9]
        refine e_if_ne (n := 43) (tgt := 56) dX0_symbol_40 rfl (by decide) (fun h => ?_) (fun h => ?_)
        · have w := w.2 h
          exact hX0_symbol_56 _ _ _ _ _ w
        · have w := w.1 h
          refine e_goto (n := 54) dX0_symbol_43 (by decide) ?_
          refine e_iconst (n := 55) (v := (-1)) dX0_symbol_54 rfl (by decide) ?_
          exact e_iret rfl (Nat.le_refl _) (Nat.le_refl _) ⟨_, rfl, w⟩ dX0_symbol_55
abbrev mX0_start : gM := (yX0_start, cX0_start, 3, some .int)
theorem okX0_start : g_ok mX0_start 1 := ⟨by decide +kernel, by decide +kernel, by decide +kernel, by decide +kernel, by decide⟩
def wX0_start (Q : Int32 → gH → Prop) (x0 : Nat) (x1 : Int32) (σ : gH) : Prop := ∃ fs_2 : List Value, σ.2 x0 = some (.inr (0, fs_2)) ∧ (wX0_isName (fun (v_1 : Int32) => (v_1 = 0 → (Q (-1) σ)) ∧ (¬ v_1 = 0 → (c_I σ [0] x0 6 (fun v_3 => c_P σ [0] x0 6 (.int x1) (fun σ_4 => t_b 1 ∧ c_P σ_4 [0] x0 12 (.int 1) (fun σ_5 => Q v_3 σ_5)))))) σ x0 x1)
set_option maxHeartbeats 4000000 in
theorem ctX0_start {Q : Int32 → gH → Prop} {x0 : Nat} {x1 : Int32} {σ : gH} (w : wX0_start Q x0 x1 σ) : CT mX0_start 3 0 0 [.ref x0, .int x1] σ (c_Ki Q) := by
  refine CT.of (lv := [(0, .ref x0), (1, .int x1)]) okX0_start.1 rfl rfl ?_
  unfold wX0_start at w
  refine e_aload_n (n := 1) dX0_start_0 rfl 0 rfl ?_
  refine e_iload_n (n := 2) dX0_start_1 rfl 1 rfl ?_
  obtain ⟨fs_2, wo, w⟩ := w
  refine e_callV (n := 5) (As := [.int x1]) (st := []) okX0_isName q275 q277 qs0 q57 q278 rfl wo rfl (by decide) (Nat.le_refl _) (Nat.le_refl _) rfl rfl (Nat.le_of_ble_eq_true rfl) dX0_start_2 rfl (ctX0_isName w) (fun r9 σ9 hk => ?_)
  obtain ⟨v_1, rfl, hs9, w⟩ := hk
  rw [hs9]
  refine e_if_ne (n := 8) (tgt := 10) dX0_start_5 rfl (by decide) (fun h => ?_) (fun h => ?_)
  · have w := w.2 h
    refine e_aload_n (n := 11) dX0_start_10 rfl 0 rfl ?_
    refine e_cI (n := 14) w fw_X0_start (gl_o q184) dX0_start_11 rfl (fun v_3 w => ?_)
    refine e_istore_n (n := 15) (lv' := [(0, .ref x0), (1, .int x1), (2, .int v_3)]) [1, 2, 0] dX0_start_14 rfl rfl rfl ?_
    refine e_aload_n (n := 16) dX0_start_15 rfl 0 rfl ?_
    refine e_iload_n (n := 17) dX0_start_16 rfl 1 rfl ?_
    refine e_cP (n := 20) (ty := .int) w tyX0 tyX0_ok nmX0 in_X0 rfl rfl (gl_o q184) rfl rfl ⟨rfl, rfl⟩ dX0_start_17 rfl (fun σ_4 w => ?_)
    refine e_aload_n (n := 21) dX0_start_20 rfl 0 rfl ?_
    refine e_iconst (n := 22) (v := 1) dX0_start_21 rfl (by decide) ?_
    obtain ⟨wb, w⟩ := w
    refine e_cP (n := 25) (ty := .boolean) w tyX0 tyX0_ok nmX0 in_X0 rfl rfl (gl_o q195) rfl rfl ⟨wb.nar, wb.fit⟩ dX0_start_22 rfl (fun σ_5 w => ?_)
    refine e_iload_n (n := 26) dX0_start_25 rfl 2 rfl ?_
    exact e_iret rfl (Nat.le_refl _) (Nat.le_refl _) ⟨_, rfl, w⟩ dX0_start_26
  · have w := w.1 h
    refine e_iconst (n := 9) (v := (-1)) dX0_start_8 rfl (by decide) ?_
    exact e_iret rfl (Nat.le_refl _) (Nat.le_refl _) ⟨_, rfl, w⟩ dX0_start_9
abbrev mX0_price : gM := (yX0_price, cX0_price, 5, some .int)
theorem okX0_price : g_ok mX0_price 3 := ⟨by decide +kernel, by decide +kernel, by decide +kernel, by decide +kernel, by decide⟩
def wX0_price_115 (Q : Int32 → gH → Prop)  (x0 : Nat) (x4 : Int32) (σ : gH) : Prop := t_b 1 ∧ c_P σ [0] x0 12 (.int 1) (fun σ_5 => Q x4 σ_5)
def wX0_price_78 (Q : Int32 → gH → Prop)  (t0 : Int32) (x0 : Nat) (x1 : Int32) (x2 : Int32) (x3 : Int32) (σ : gH) : Prop := (3 ≤ x1 → ((x1 = 3 → (c_P σ [0] x0 3 (.int x3) (fun σ_6 => wX0_price_115 Q x0 t0 σ_6))) ∧ (¬ x1 = 3 → (c_P σ [0] x0 4 (.int x3) (fun σ_4 => wX0_price_115 Q x0 t0 σ_4))))) ∧ (¬ 3 ≤ x1 → (c_R σ [0] x0 2 (fun r_7 => ∃ a_8 : Nat, r_7 = some a_8 ∧ (c_aR 3 σ a_8 x1 (fun r_9 => ∃ a_10 : Nat, r_9 = some a_10 ∧ (c_sI σ a_10 x2 x3 (fun σ_11 => wX0_price_115 Q x0 t0 σ_11)))))))
def wX0_price_32 (Q : Int32 → gH → Prop)  (x0 : Nat) (x1 : Int32) (x2 : Int32) (x3 : Int32) (σ : gH) : Prop := wX0_in (fun (v_2 : Int32) => (v_2 = 0 → (Q (-1) σ)) ∧ (¬ v_2 = 0 → ((3 ≤ x1 → ((x1 = 3 → (c_I σ [0] x0 3 (fun v_12 => wX0_price_78 Q v_12 x0 x1 x2 x3 σ))) ∧ (¬ x1 = 3 → (c_I σ [0] x0 4 (fun v_3 => wX0_price_78 Q v_3 x0 x1 x2 x3 σ))))) ∧ (¬ 3 ≤ x1 → (c_R σ [0] x0 2 (fun r_13 => ∃ a_14 : Nat, r_13 = some a_14 ∧ (c_aR 3 σ a_14 x1 (fun r_15 => ∃ a_16 : Nat, r_15 = some a_16 ∧ (c_aI σ a_16 x2 (fun v_17 => wX0_price_78 Q v_17 x0 x1 x2 x3 σ)))))))))) σ x3.toInt64 1 100
def wX0_price (Q : Int32 → gH → Prop) (x0 : Nat) (x1 : Int32) (x2 : Int32) (x3 : Int32) (σ : gH) : Prop := wX0_in (fun (v_1 : Int32) => (v_1 = 0 → (Q (-1) σ)) ∧ (¬ v_1 = 0 → ((3 ≤ x1 → ((x2 = 0 → (wX0_price_32 Q x0 x1 x2 x3 σ)) ∧ (¬ x2 = 0 → (Q (-1) σ)))) ∧ (¬ 3 ≤ x1 → (∃ fs_19 : List Value, σ.2 x0 = some (.inr (0, fs_19)) ∧ (wX0_isToken (fun (v_18 : Int32) => (v_18 = 0 → (Q (-1) σ)) ∧ (¬ v_18 = 0 → (wX0_price_32 Q x0 x1 x2 x3 σ))) σ x0 x2)))))) σ x1.toInt64 0 4
set_option maxHeartbeats 4000000 in
theorem hX0_price_115 {Q : Int32 → gH → Prop}  (x0 : Nat) (x4 : Int32) (σ : gH) (w : wX0_price_115 Q x0 x4 σ) : E mX0_price 3 0 0 (g_z (c_Ki Q)) 0 0 115 [(0, .ref x0), (4, .int x4)] [] σ := by
  unfold wX0_price_115 at w
  refine e_aload_n (n := 116) dX0_price_115 rfl 0 rfl ?_
  refine e_iconst (n := 117) (v := 1) dX0_price_116 rfl (by decide) ?_
  obtain ⟨wb, w⟩ := w
  refine e_cP (n := 120) (ty := .boolean) w tyX0 tyX0_ok nmX0 in_X0 rfl rfl (gl_o q195) rfl rfl ⟨wb.nar, wb.fit⟩ dX0_price_117 rfl (fun σ_5 w => ?_)
  refine e_iload (n := 122) dX0_price_120 rfl 1 rfl ?_
  exact e_iret rfl (Nat.le_refl _) (Nat.le_refl _) ⟨_, rfl, w⟩ dX0_price_122
set_option maxHeartbeats 4000000 in
theorem hX0_price_78 {Q : Int32 → gH → Prop}  (t0 : Int32) (x0 : Nat) (x1 : Int32) (x2 : Int32) (x3 : Int32) (σ : gH) (w : wX0_price_78 Q t0 x0 x1 x2 x3 σ) : E mX0_price 3 0 0 (g_z (c_Ki Q)) 0 0 78 [(0, .ref x0), (1, .int x1), (2, .int x2), (3, .int x3)] [.int t0] σ := by
  unfold wX0_price_78 at w
  refine e_istore (n := 80) (lv' := [(0, .ref x0), (1, .int x1), (2, .int x2), (3, .int x3), (4, .int t0)]) [1, 2, 3, 4, 0] dX0_price_78 rfl rfl rfl ?_
  refine e_iload_n (n := 81) dX0_price_80 rfl 1 rfl ?_
  refine e_iconst (n := 82) (v := 3) dX0_price_81 rfl (by decide) ?_
  refine e_icmp_ge (n := 85) (tgt := 97) dX0_price_82 rfl (by decide) (fun h => ?_) (fun h => ?_)
  · have w := w.1 h
    refine e_iload_n (n := 98) dX0_price_97 rfl 1 rfl ?_
    refine e_iconst (n := 99) (v := 3) dX0_price_98 rfl (by decide) ?_
    refine e_icmp_ne (n := 102) (tgt := 110) dX0_price_99 rfl (by decide) (fun h => ?_) (fun h => ?_)
    · have w := w.2 h
      refine e_aload_n (n := 111) dX0_price_110 rfl 0 rfl ?_
      refine e_iload_n (n := 112) dX0_price_111 rfl 3 rfl ?_
      refine e_cP (n := 115) (ty := .int) w tyX0 tyX0_ok nmX0 in_X0 rfl rfl (gl_o q180) rfl rfl ⟨rfl, rfl⟩ dX0_price_112 rfl (fun σ_4 w => ?_)
      refine e_sub (lv' := [(0, .ref x0), (4, .int t0)]) [0, 4] rfl ?_
      exact hX0_price_115 _ _ _ w
    · have w := w.1 h
      refine e_aload_n (n := 103) dX0_price_102 rfl 0 rfl ?_
      refine e_iload_n (n := 104) dX0_price_103 rfl 3 rfl ?_
      refine e_cP (n := 107) (ty := .int) w tyX0 tyX0_ok nmX0 in_X0 rfl rfl (gl_o q178) rfl rfl ⟨rfl, rfl⟩ dX0_price_104 rfl (fun σ_6 w => ?_)
      refine e_goto (n := 115) dX0_price_107 (by decide) ?_
      refine e_sub (lv' := [(0, .ref x0), (4, .int t0)]) [0, 4] rfl ?_
      exact hX0_price_115 _ _ _ w
  · have w := w.2 h
    refine e_aload_n (n := 86) dX0_price_85 rfl 0 rfl ?_
    refine e_cR (n := 89) w fw_X0_prices (gl_o q174) dX0_price_86 rfl (fun r_7 w => ?_)
    refine e_iload_n (n := 90) dX0_price_89 rfl 1 rfl ?_
    obtain ⟨a_8, ha_8, w9a_8⟩ := w
    subst ha_8
    have w := w9a_8
    refine e_caR (n := 91) w (fun _ => rfl) rfl dX0_price_90 rfl (fun r_9 w => ?_)
    refine e_iload_n (n := 92) dX0_price_91 rfl 2 rfl ?_
    refine e_iload_n (n := 93) dX0_price_92 rfl 3 rfl ?_
    obtain ⟨a_10, ha_10, w9a_10⟩ := w
    subst ha_10
    have w := w9a_10
    refine e_csI (n := 94) w dX0_price_93 rfl (fun σ_11 w => ?_)
    refine e_goto (n := 115) dX0_price_94 (by decide) ?_
    refine e_sub (lv' := [(0, .ref x0), (4, .int t0)]) [0, 4] rfl ?_
    exact hX0_price_115 _ _ _ w
set_option maxHeartbeats 4000000 in
theorem hX0_price_32 {Q : Int32 → gH → Prop}  (x0 : Nat) (x1 : Int32) (x2 : Int32) (x3 : Int32) (σ : gH) (w : wX0_price_32 Q x0 x1 x2 x3 σ) : E mX0_price 3 0 0 (g_z (c_Ki Q)) 0 0 32 [(0, .ref x0), (1, .int x1), (2, .int x2), (3, .int x3)] [] σ := by
  unfold wX0_price_32 at w
  refine e_iload_n (n := 33) dX0_price_32 rfl 3 rfl ?_
  refine e_i2l (n := 34) dX0_price_33 rfl ?_
  refine e_lconst (n := 35) (v := 1) dX0_price_34 rfl (by decide) ?_
  refine e_ldc2 (n := 38) q436 dX0_price_35 rfl ?_
  refine e_callS (n := 41) (As := [.long x3.toInt64, .long 1, .long 100]) (st := []) okX0_in q279 q280 q57 q281 (by decide) (Nat.le_refl _) (Nat.le_refl _) rfl rfl (Nat.le_of_ble_eq_true rfl) dX0_price_38 rfl (ctX0_in w) (fun r9 σ9 hk => ?_)
  obtain ⟨v_2, rfl, hs9, w⟩ := hk
  rw [hs9]
  refine e_if_ne (n := 44) (tgt := 46) dX0_price_41 rfl (by decide) (fun h => ?_) (fun h => ?_)
  · have w := w.2 h
    refine e_iload_n (n := 47) dX0_price_46 rfl 1 rfl ?_
    refine e_iconst (n := 48) (v := 3) dX0_price_47 rfl (by decide) ?_
    refine e_icmp_ge (n := 51) (tgt := 62) dX0_price_48 rfl (by decide) (fun h => ?_) (fun h => ?_)
    · have w := w.1 h
      refine e_iload_n (n := 63) dX0_price_62 rfl 1 rfl ?_
      refine e_iconst (n := 64) (v := 3) dX0_price_63 rfl (by decide) ?_
      refine e_icmp_ne (n := 67) (tgt := 74) dX0_price_64 rfl (by decide) (fun h => ?_) (fun h => ?_)
      · have w := w.2 h
        refine e_aload_n (n := 75) dX0_price_74 rfl 0 rfl ?_
        refine e_cI (n := 78) w fw_X0_runPrice (gl_o q180) dX0_price_75 rfl (fun v_3 w => ?_)
        exact hX0_price_78 _ _ _ _ _ _ w
      · have w := w.1 h
        refine e_aload_n (n := 68) dX0_price_67 rfl 0 rfl ?_
        refine e_cI (n := 71) w fw_X0_turnedPrice (gl_o q178) dX0_price_68 rfl (fun v_12 w => ?_)
        refine e_goto (n := 78) dX0_price_71 (by decide) ?_
        exact hX0_price_78 _ _ _ _ _ _ w
    · have w := w.2 h
      refine e_aload_n (n := 52) dX0_price_51 rfl 0 rfl ?_
      refine e_cR (n := 55) w fw_X0_prices (gl_o q174) dX0_price_52 rfl (fun r_13 w => ?_)
      refine e_iload_n (n := 56) dX0_price_55 rfl 1 rfl ?_
      obtain ⟨a_14, ha_14, w9a_14⟩ := w
      subst ha_14
      have w := w9a_14
      refine e_caR (n := 57) w (fun _ => rfl) rfl dX0_price_56 rfl (fun r_15 w => ?_)
      refine e_iload_n (n := 58) dX0_price_57 rfl 2 rfl ?_
      obtain ⟨a_16, ha_16, w9a_16⟩ := w
      subst ha_16
      have w := w9a_16
      refine e_caI (n := 59) w dX0_price_58 rfl (fun v_17 w => ?_)
      refine e_goto (n := 78) dX0_price_59 (by decide) ?_
      exact hX0_price_78 _ _ _ _ _ _ w
  · have w := w.1 h
    refine e_iconst (n := 45) (v := (-1)) dX0_price_44 rfl (by decide) ?_
    exact e_iret rfl (Nat.le_refl _) (Nat.le_refl _) ⟨_, rfl, w⟩ dX0_price_45
set_option maxHeartbeats 4000000 in
theorem ctX0_price {Q : Int32 → gH → Prop} {x0 : Nat} {x1 : Int32} {x2 : Int32} {x3 : Int32} {σ : gH} (w : wX0_price Q x0 x1 x2 x3 σ) : CT mX0_price 3 0 0 [.ref x0, .int x1, .int x2, .int x3] σ (c_Ki Q) := by
  refine CT.of (lv := [(0, .ref x0), (1, .int x1), (2, .int x2), (3, .int x3)]) okX0_price.1 rfl rfl ?_
  unfold wX0_price at w
  refine e_iload_n (n := 1) dX0_price_0 rfl 1 rfl ?_
  refine e_i2l (n := 2) dX0_price_1 rfl ?_
  refine e_lconst (n := 3) (v := 0) dX0_price_2 rfl (by decide) ?_
  refine e_ldc2 (n := 6) q435 dX0_price_3 rfl ?_
  refine e_callS (n := 9) (As := [.long x1.toInt64, .long 0, .long 4]) (st := []) okX0_in q279 q280 q57 q281 (by decide) (Nat.le_refl _) (Nat.le_refl _) rfl rfl (Nat.le_of_ble_eq_true rfl) dX0_price_6 rfl (ctX0_in w) (fun r9 σ9 hk => ?_)
  obtain ⟨v_1, rfl, hs9, w⟩ := hk
  rw [hs9]
  refine e_if_eq (n := 12) (tgt := 44) dX0_price_9 rfl (by decide) (fun h => ?_) (fun h => ?_)
  · have w := w.1 h
    refine e_iconst (n := 45) (v := (-1)) dX0_price_44 rfl (by decide) ?_
    exact e_iret rfl (Nat.le_refl _) (Nat.le_refl _) ⟨_, rfl, w⟩ dX0_price_45
  · have w := w.2 h
    refine e_iload_n (n := 13) dX0_price_12 rfl 1 rfl ?_
    refine e_iconst (n := 14) (v := 3) dX0_price_13 rfl (by decide) ?_
    refine e_icmp_ge (n := 17) (tgt := 28) dX0_price_14 rfl (by decide) (fun h => ?_) (fun h => ?_)
    · have w := w.1 h
      refine e_iload_n (n := 29) dX0_price_28 rfl 2 rfl ?_
      refine e_if_ne (n := 32) (tgt := 44) dX0_price_29 rfl (by decide) (fun h => ?_) (fun h => ?_)
      · have w := w.2 h
        refine e_iconst (n := 45) (v := (-1)) dX0_price_44 rfl (by decide) ?_
        exact e_iret rfl (Nat.le_refl _) (Nat.le_refl _) ⟨_, rfl, w⟩ dX0_price_45
      · have w := w.1 h
        exact hX0_price_32 _ _ _ _ _ w
    · have w := w.2 h
      refine e_aload_n (n := 18) dX0_price_17 rfl 0 rfl ?_
      refine e_iload_n (n := 19) dX0_price_18 rfl 2 rfl ?_
      obtain ⟨fs_19, wo, w⟩ := w
      refine e_callV (n := 22) (As := [.int x2]) (st := []) okX0_isToken q404 q406 qs4 q57 q407 rfl wo rfl (by decide) (Nat.le_refl _) (Nat.le_refl _) rfl rfl (Nat.le_of_ble_eq_true rfl) dX0_price_19 rfl (ctX0_isToken w) (fun r9 σ9 hk => ?_)
      obtain ⟨v_18, rfl, hs9, w⟩ := hk
      rw [hs9]
      refine e_if_ne (n := 25) (tgt := 32) dX0_price_22 rfl (by decide) (fun h => ?_) (fun h => ?_)
      · have w := w.2 h
        exact hX0_price_32 _ _ _ _ _ w
      · have w := w.1 h
        refine e_goto (n := 44) dX0_price_25 (by decide) ?_
        refine e_iconst (n := 45) (v := (-1)) dX0_price_44 rfl (by decide) ?_
        exact e_iret rfl (Nat.le_refl _) (Nat.le_refl _) ⟨_, rfl, w⟩ dX0_price_45
abbrev mX5_init : gM := (yX5_init, cX5_init, 5, none)
theorem okX5_init : g_ok mX5_init 4 := ⟨by decide +kernel, by decide +kernel, by decide +kernel, by decide +kernel, by decide⟩
theorem ff_X5_init_a : ∀ ci ∈ [5], ∃ (C : String) (T : u_T) (N : Nat) (ty0 : Nat → FieldType), g_cl[ci]? = some (C, T, N) ∧ (∀ k, k < N → parseFieldDescriptor (T k).2.2.1 = some (ty0 k)) ∧ g_nm T N ∧ (∀ w ∈ u_ws C T N, w ∈ lw_all) ∧ Nat.ble (0 + 1) N = true ∧ Cond.fieldLink mX5_init.1.cls 7 (T 0).1 (T 0).2.1 (T 0).2.2.1 ∈ lw_all ∧ (T 0).2.2.2 = true ∧ (T 0).1 = mX5_init.1.cls ∧ ty0 0 = .int := by
  intro ci h
  simp only [List.mem_cons, List.not_mem_nil, or_false] at h
  subst h
  exact ⟨_, _, _, tyX5, rfl, tyX5_ok, gn_X5, in_X5, rfl, q447, rfl, rfl, rfl⟩
theorem ff_X5_init_b : ∀ ci ∈ [5], ∃ (C : String) (T : u_T) (N : Nat) (ty0 : Nat → FieldType), g_cl[ci]? = some (C, T, N) ∧ (∀ k, k < N → parseFieldDescriptor (T k).2.2.1 = some (ty0 k)) ∧ g_nm T N ∧ (∀ w ∈ u_ws C T N, w ∈ lw_all) ∧ Nat.ble (1 + 1) N = true ∧ Cond.fieldLink mX5_init.1.cls 13 (T 1).1 (T 1).2.1 (T 1).2.2.1 ∈ lw_all ∧ (T 1).2.2.2 = true ∧ (T 1).1 = mX5_init.1.cls ∧ ty0 1 = .int := by
  intro ci h
  simp only [List.mem_cons, List.not_mem_nil, or_false] at h
  subst h
  exact ⟨_, _, _, tyX5, rfl, tyX5_ok, gn_X5, in_X5, rfl, q449, rfl, rfl, rfl⟩
theorem ff_X5_init_c : ∀ ci ∈ [5], ∃ (C : String) (T : u_T) (N : Nat) (ty0 : Nat → FieldType), g_cl[ci]? = some (C, T, N) ∧ (∀ k, k < N → parseFieldDescriptor (T k).2.2.1 = some (ty0 k)) ∧ g_nm T N ∧ (∀ w ∈ u_ws C T N, w ∈ lw_all) ∧ Nat.ble (2 + 1) N = true ∧ Cond.fieldLink mX5_init.1.cls 16 (T 2).1 (T 2).2.1 (T 2).2.2.1 ∈ lw_all ∧ (T 2).2.2.2 = true ∧ (T 2).1 = mX5_init.1.cls ∧ ty0 2 = .int := by
  intro ci h
  simp only [List.mem_cons, List.not_mem_nil, or_false] at h
  subst h
  exact ⟨_, _, _, tyX5, rfl, tyX5_ok, gn_X5, in_X5, rfl, q453, rfl, rfl, rfl⟩
theorem ff_X5_init_price : ∀ ci ∈ [5], ∃ (C : String) (T : u_T) (N : Nat) (ty0 : Nat → FieldType), g_cl[ci]? = some (C, T, N) ∧ (∀ k, k < N → parseFieldDescriptor (T k).2.2.1 = some (ty0 k)) ∧ g_nm T N ∧ (∀ w ∈ u_ws C T N, w ∈ lw_all) ∧ Nat.ble (3 + 1) N = true ∧ Cond.fieldLink mX5_init.1.cls 19 (T 3).1 (T 3).2.1 (T 3).2.2.1 ∈ lw_all ∧ (T 3).2.2.2 = true ∧ (T 3).1 = mX5_init.1.cls ∧ ty0 3 = .int := by
  intro ci h
  simp only [List.mem_cons, List.not_mem_nil, or_false] at h
  subst h
  exact ⟨_, _, _, tyX5, rfl, tyX5_ok, gn_X5, in_X5, rfl, q455, rfl, rfl, rfl⟩
def wX5_init (Q : gH → Prop) (x0 : Nat) (x1 : Int32) (x2 : Int32) (x3 : Int32) (x4 : Int32) (σ : gH) : Prop := c_P σ [5] x0 0 (.int x1) (fun σ_1 => c_P σ_1 [5] x0 1 (.int x2) (fun σ_2 => c_P σ_2 [5] x0 2 (.int x3) (fun σ_3 => c_P σ_3 [5] x0 3 (.int x4) (fun σ_4 => Q σ_4))))
set_option maxHeartbeats 4000000 in
theorem ctX5_init {Q : gH → Prop} {x0 : Nat} {x1 : Int32} {x2 : Int32} {x3 : Int32} {x4 : Int32} {σ : gH} (w : wX5_init Q x0 x1 x2 x3 x4 σ) : CT mX5_init 1 0 0 [.ref x0, .int x1, .int x2, .int x3, .int x4] σ (c_Kv Q) := by
  refine CT.of (lv := [(0, .ref x0), (1, .int x1), (2, .int x2), (3, .int x3), (4, .int x4)]) okX5_init.1 rfl rfl ?_
  unfold wX5_init at w
  refine e_aload_n (n := 1) dX5_init_0 rfl 0 rfl ?_
  refine e_objInit (n := 4) q446 q99 q100 (by decide) (Nat.le_of_ble_eq_true rfl) dX5_init_1 rfl ?_
  refine e_aload_n (n := 5) dX5_init_4 rfl 0 rfl ?_
  refine e_iload_n (n := 6) dX5_init_5 rfl 1 rfl ?_
  refine e_cPF (n := 9) (ty := .int) w ff_X5_init_a rfl ⟨rfl, rfl⟩ dX5_init_6 rfl (fun σ_1 w => ?_)
  refine e_aload_n (n := 10) dX5_init_9 rfl 0 rfl ?_
  refine e_iload_n (n := 11) dX5_init_10 rfl 2 rfl ?_
  refine e_cPF (n := 14) (ty := .int) w ff_X5_init_b rfl ⟨rfl, rfl⟩ dX5_init_11 rfl (fun σ_2 w => ?_)
  refine e_aload_n (n := 15) dX5_init_14 rfl 0 rfl ?_
  refine e_iload_n (n := 16) dX5_init_15 rfl 3 rfl ?_
  refine e_cPF (n := 19) (ty := .int) w ff_X5_init_c rfl ⟨rfl, rfl⟩ dX5_init_16 rfl (fun σ_3 w => ?_)
  refine e_aload_n (n := 20) dX5_init_19 rfl 0 rfl ?_
  refine e_iload (n := 22) dX5_init_20 rfl 4 rfl ?_
  refine e_cPF (n := 25) (ty := .int) w ff_X5_init_price rfl ⟨rfl, rfl⟩ dX5_init_22 rfl (fun σ_4 w => ?_)
  exact e_vret rfl (Nat.le_refl _) (Nat.le_refl _) ⟨rfl, w⟩ dX5_init_25
abbrev mX0_form : gM := (yX0_form, cX0_form, 7, some .int)
theorem okX0_form : g_ok mX0_form 5 := ⟨by decide +kernel, by decide +kernel, by decide +kernel, by decide +kernel, by decide⟩
def wX0_form_65 (Q : Int32 → gH → Prop) (mc ms : Nat)  (uc : Nat) (us : Nat) (t0 : Option Nat) (x0 : Nat) (x2 : Int32) (x3 : Int32) (x4 : Int32) (x5 : Int32) (σ : gH) : Prop := ∃ a_10 : Nat, t0 = some a_10 ∧ (∃ fs_12 : List Value, σ.2 a_10 = some (.inr (18, fs_12)) ∧ (wJ2_size (fun (v_11 : Int32) => (v_11 = 3 → (Q (-2) σ)) ∧ (¬ v_11 = 3 → (uc + 1 ≤ mc ∧ us + 4 ≤ ms ∧ c_new σ (.inr (5, [.int 0, .int 0, .int 0, .int 0])) (fun q_14 σ_13 => wX5_init (fun (σ_15 : gH) => ∃ fs_20 : List Value, σ_15.2 a_10 = some (.inr (18, fs_20)) ∧ ∃ c_18 b_19 : Nat, (uc + 1) + c_18 ≤ mc ∧ (us + 4) + b_19 ≤ ms ∧ (wJ2_add (fun (v_17 : Int32) (σ_16 : gH) => t_b 1 ∧ c_P σ_16 [0] x0 12 (.int 1) (fun σ_21 => ∃ fs_23 : List Value, σ_21.2 a_10 = some (.inr (18, fs_23)) ∧ (wJ2_size (fun (v_22 : Int32) => Q (v_22 - 1) σ_21) σ_21 a_10))) c_18 b_19 a_10 (some q_14) σ_15)) q_14 x2 x3 x4 x5 σ_13)))) σ a_10))
def wX0_form (Q : Int32 → gH → Prop) (mc ms : Nat) (x0 : Nat) (x1 : Int32) (x2 : Int32) (x3 : Int32) (x4 : Int32) (x5 : Int32) (σ : gH) : Prop := wX0_in (fun (v_1 : Int32) => (v_1 = 0 → (Q (-1) σ)) ∧ (¬ v_1 = 0 → (∃ fs_3 : List Value, σ.2 x0 = some (.inr (0, fs_3)) ∧ (wX0_isToken (fun (v_2 : Int32) => (v_2 = 0 → (Q (-1) σ)) ∧ (¬ v_2 = 0 → (∃ fs_5 : List Value, σ.2 x0 = some (.inr (0, fs_5)) ∧ (wX0_isToken (fun (v_4 : Int32) => (v_4 = 0 → (Q (-1) σ)) ∧ (¬ v_4 = 0 → (∃ fs_7 : List Value, σ.2 x0 = some (.inr (0, fs_7)) ∧ (wX0_isToken (fun (v_6 : Int32) => (v_6 = 0 → (Q (-1) σ)) ∧ (¬ v_6 = 0 → (wX0_in (fun (v_8 : Int32) => (v_8 = 0 → (Q (-1) σ)) ∧ (¬ v_8 = 0 → ((x1 = 0 → (c_R σ [0] x0 8 (fun r_24 => wX0_form_65 Q mc ms 0 0 r_24 x0 x2 x3 x4 x5 σ))) ∧ (¬ x1 = 0 → (c_R σ [0] x0 9 (fun r_9 => wX0_form_65 Q mc ms 0 0 r_9 x0 x2 x3 x4 x5 σ)))))) σ x5.toInt64 1 100))) σ x0 x4)))) σ x0 x3)))) σ x0 x2)))) σ x1.toInt64 0 1
set_option maxHeartbeats 4000000 in
theorem hX0_form_65 {Q : Int32 → gH → Prop} {mc ms : Nat}  (uc : Nat) (us : Nat) (t0 : Option Nat) (x0 : Nat) (x2 : Int32) (x3 : Int32) (x4 : Int32) (x5 : Int32) (σ : gH) (hu1 : uc ≤ mc) (hu2 : us ≤ ms) (w : wX0_form_65 Q mc ms uc us t0 x0 x2 x3 x4 x5 σ) : E mX0_form 8 mc ms (g_z (c_Ki Q)) uc us 65 [(0, .ref x0), (2, .int x2), (3, .int x3), (4, .int x4), (5, .int x5)] [va_rf t0] σ := by
  unfold wX0_form_65 at w
  refine e_astorer (n := 67) (r := t0) (lv' := [(0, .ref x0), (2, .int x2), (3, .int x3), (4, .int x4), (5, .int x5), (6, va_rf t0)]) [1, 2, 3, 4, 5, 0] dX0_form_65 rfl rfl rfl ?_
  refine e_aloadr (n := 69) (r := t0) dX0_form_67 rfl 5 rfl ?_
  obtain ⟨a_10, ha_10, w9a_10⟩ := w
  subst ha_10
  have w := w9a_10
  obtain ⟨fs_12, wo, w⟩ := w
  refine e_callF (n := 74) (As := []) (st := []) okJ2_size q283 q287 q289 q60 q291 q285 q284 q290 q288 q286 rfl (by decide) wo rfl (by decide) hu1 hu2 rfl rfl rfl dX0_form_69 rfl (ctJ2_size w) (fun r9 σ9 hk => ?_)
  obtain ⟨v_11, rfl, hs9, w⟩ := hk
  rw [hs9]
  refine e_iconst (n := 75) (v := 3) dX0_form_74 rfl (by decide) ?_
  refine e_icmp_ne (n := 78) (tgt := 81) dX0_form_75 rfl (by decide) (fun h => ?_) (fun h => ?_)
  · have w := w.2 h
    refine e_aload (n := 83) dX0_form_81 rfl 5 rfl ?_
    obtain ⟨hu1, hu2, w⟩ := w
    refine e_cnew (n := 86) w tyX5 tyX5_ok in_X5 rfl q441 q442 q71 (fun j hj => g_defX5 j hj) hu1 hu2 dX0_form_83 rfl (fun q_14 σ_13 w => ?_)
    refine e_dup (n := 87) dX0_form_86 rfl rfl ?_
    refine e_iload_n (n := 88) dX0_form_87 rfl 1 rfl ?_
    refine e_iload_n (n := 89) dX0_form_88 rfl 2 rfl ?_
    refine e_iload (n := 91) dX0_form_89 rfl 3 rfl ?_
    refine e_iload (n := 93) dX0_form_91 rfl 4 rfl ?_
    refine e_callI (n := 96) (As := [.int x2, .int x3, .int x4, .int x5]) (st := [.ref q_14, .ref a_10]) okX5_init rfl rfl q443 q444 q71 q445 (by decide) hu1 hu2 rfl rfl (Nat.le_of_ble_eq_true rfl) dX0_form_93 rfl (ctX5_init w) (fun r9 σ_15 hk => ?_)
    obtain ⟨rfl, w⟩ := hk
    obtain ⟨fs_20, wo, w⟩ := w
    obtain ⟨c_18, b_19, hu1, hu2, w⟩ := w
    refine e_callF (n := 101) (As := [va_rf (some q_14)]) (st := []) okJ2_add q326 q329 q331 q60 q333 q328 q327 q332 q330 q286 rfl (by decide) wo rfl (by decide) hu1 hu2 rfl rfl rfl dX0_form_96 rfl (ctJ2_add w) (fun r9 σ_16 hk => ?_)
    obtain ⟨v_17, rfl, w⟩ := hk
    refine e_pop (n := 102) dX0_form_101 rfl rfl ?_
    refine e_aload_n (n := 103) dX0_form_102 rfl 0 rfl ?_
    refine e_iconst (n := 104) (v := 1) dX0_form_103 rfl (by decide) ?_
    obtain ⟨wb, w⟩ := w
    refine e_cP (n := 107) (ty := .boolean) w tyX0 tyX0_ok nmX0 in_X0 rfl rfl (gl_o q195) rfl rfl ⟨wb.nar, wb.fit⟩ dX0_form_104 rfl (fun σ_21 w => ?_)
    refine e_aload (n := 109) dX0_form_107 rfl 5 rfl ?_
    obtain ⟨fs_23, wo, w⟩ := w
    refine e_callF (n := 114) (As := []) (st := []) okJ2_size q283 q287 q289 q60 q291 q285 q284 q290 q288 q286 rfl (by decide) wo rfl (by decide) hu1 hu2 rfl rfl rfl dX0_form_109 rfl (ctJ2_size w) (fun r9 σ9 hk => ?_)
    obtain ⟨v_22, rfl, hs9, w⟩ := hk
    rw [hs9]
    refine e_iconst (n := 115) (v := 1) dX0_form_114 rfl (by decide) ?_
    refine e_isub (n := 116) dX0_form_115 rfl ?_
    exact e_iret rfl hu1 hu2 ⟨_, rfl, w⟩ dX0_form_116
  · have w := w.1 h
    refine e_bipush (n := 80) (v := (-2)) dX0_form_78 rfl (by decide) ?_
    exact e_iret rfl hu1 hu2 ⟨_, rfl, w⟩ dX0_form_80
set_option maxHeartbeats 4000000 in
theorem ctX0_form {Q : Int32 → gH → Prop} {mc ms : Nat} {x0 : Nat} {x1 : Int32} {x2 : Int32} {x3 : Int32} {x4 : Int32} {x5 : Int32} {σ : gH} (w : wX0_form Q mc ms x0 x1 x2 x3 x4 x5 σ) : CT mX0_form 8 mc ms [.ref x0, .int x1, .int x2, .int x3, .int x4, .int x5] σ (c_Ki Q) := by
  refine CT.of (lv := [(0, .ref x0), (1, .int x1), (2, .int x2), (3, .int x3), (4, .int x4), (5, .int x5)]) okX0_form.1 rfl rfl ?_
  unfold wX0_form at w
  refine e_iload_n (n := 1) dX0_form_0 rfl 1 rfl ?_
  refine e_i2l (n := 2) dX0_form_1 rfl ?_
  refine e_lconst (n := 3) (v := 0) dX0_form_2 rfl (by decide) ?_
  refine e_lconst (n := 4) (v := 1) dX0_form_3 rfl (by decide) ?_
  refine e_callS (n := 7) (As := [.long x1.toInt64, .long 0, .long 1]) (st := []) okX0_in q279 q280 q57 q281 (by decide) (Nat.zero_le _) (Nat.zero_le _) rfl rfl (Nat.le_of_ble_eq_true rfl) dX0_form_4 rfl (ctX0_in w) (fun r9 σ9 hk => ?_)
  obtain ⟨v_1, rfl, hs9, w⟩ := hk
  rw [hs9]
  refine e_if_eq (n := 10) (tgt := 48) dX0_form_7 rfl (by decide) (fun h => ?_) (fun h => ?_)
  · have w := w.1 h
    refine e_iconst (n := 49) (v := (-1)) dX0_form_48 rfl (by decide) ?_
    exact e_iret rfl (Nat.zero_le _) (Nat.zero_le _) ⟨_, rfl, w⟩ dX0_form_49
  · have w := w.2 h
    refine e_aload_n (n := 11) dX0_form_10 rfl 0 rfl ?_
    refine e_iload_n (n := 12) dX0_form_11 rfl 2 rfl ?_
    obtain ⟨fs_3, wo, w⟩ := w
    refine e_callV (n := 15) (As := [.int x2]) (st := []) okX0_isToken q404 q406 qs4 q57 q407 rfl wo rfl (by decide) (Nat.zero_le _) (Nat.zero_le _) rfl rfl (Nat.le_of_ble_eq_true rfl) dX0_form_12 rfl (ctX0_isToken w) (fun r9 σ9 hk => ?_)
    obtain ⟨v_2, rfl, hs9, w⟩ := hk
    rw [hs9]
    refine e_if_eq (n := 18) (tgt := 48) dX0_form_15 rfl (by decide) (fun h => ?_) (fun h => ?_)
    · have w := w.1 h
      refine e_iconst (n := 49) (v := (-1)) dX0_form_48 rfl (by decide) ?_
      exact e_iret rfl (Nat.zero_le _) (Nat.zero_le _) ⟨_, rfl, w⟩ dX0_form_49
    · have w := w.2 h
      refine e_aload_n (n := 19) dX0_form_18 rfl 0 rfl ?_
      refine e_iload_n (n := 20) dX0_form_19 rfl 3 rfl ?_
      obtain ⟨fs_5, wo, w⟩ := w
      refine e_callV (n := 23) (As := [.int x3]) (st := []) okX0_isToken q404 q406 qs4 q57 q407 rfl wo rfl (by decide) (Nat.zero_le _) (Nat.zero_le _) rfl rfl (Nat.le_of_ble_eq_true rfl) dX0_form_20 rfl (ctX0_isToken w) (fun r9 σ9 hk => ?_)
      obtain ⟨v_4, rfl, hs9, w⟩ := hk
      rw [hs9]
      refine e_if_eq (n := 26) (tgt := 48) dX0_form_23 rfl (by decide) (fun h => ?_) (fun h => ?_)
      · have w := w.1 h
        refine e_iconst (n := 49) (v := (-1)) dX0_form_48 rfl (by decide) ?_
        exact e_iret rfl (Nat.zero_le _) (Nat.zero_le _) ⟨_, rfl, w⟩ dX0_form_49
      · have w := w.2 h
        refine e_aload_n (n := 27) dX0_form_26 rfl 0 rfl ?_
        refine e_iload (n := 29) dX0_form_27 rfl 4 rfl ?_
        obtain ⟨fs_7, wo, w⟩ := w
        refine e_callV (n := 32) (As := [.int x4]) (st := []) okX0_isToken q404 q406 qs4 q57 q407 rfl wo rfl (by decide) (Nat.zero_le _) (Nat.zero_le _) rfl rfl (Nat.le_of_ble_eq_true rfl) dX0_form_29 rfl (ctX0_isToken w) (fun r9 σ9 hk => ?_)
        obtain ⟨v_6, rfl, hs9, w⟩ := hk
        rw [hs9]
        refine e_if_eq (n := 35) (tgt := 48) dX0_form_32 rfl (by decide) (fun h => ?_) (fun h => ?_)
        · have w := w.1 h
          refine e_iconst (n := 49) (v := (-1)) dX0_form_48 rfl (by decide) ?_
          exact e_iret rfl (Nat.zero_le _) (Nat.zero_le _) ⟨_, rfl, w⟩ dX0_form_49
        · have w := w.2 h
          refine e_iload (n := 37) dX0_form_35 rfl 5 rfl ?_
          refine e_i2l (n := 38) dX0_form_37 rfl ?_
          refine e_lconst (n := 39) (v := 1) dX0_form_38 rfl (by decide) ?_
          refine e_ldc2 (n := 42) q436 dX0_form_39 rfl ?_
          refine e_callS (n := 45) (As := [.long x5.toInt64, .long 1, .long 100]) (st := []) okX0_in q279 q280 q57 q281 (by decide) (Nat.zero_le _) (Nat.zero_le _) rfl rfl (Nat.le_of_ble_eq_true rfl) dX0_form_42 rfl (ctX0_in w) (fun r9 σ9 hk => ?_)
          obtain ⟨v_8, rfl, hs9, w⟩ := hk
          rw [hs9]
          refine e_if_ne (n := 48) (tgt := 50) dX0_form_45 rfl (by decide) (fun h => ?_) (fun h => ?_)
          · have w := w.2 h
            refine e_iload_n (n := 51) dX0_form_50 rfl 1 rfl ?_
            refine e_if_ne (n := 54) (tgt := 61) dX0_form_51 rfl (by decide) (fun h => ?_) (fun h => ?_)
            · have w := w.2 h
              refine e_aload_n (n := 62) dX0_form_61 rfl 0 rfl ?_
              refine e_cR (n := 65) w fw_X0_parted (gl_o q191) dX0_form_62 rfl (fun r_9 w => ?_)
              refine e_sub (lv' := [(0, .ref x0), (2, .int x2), (3, .int x3), (4, .int x4), (5, .int x5)]) [0, 2, 3, 4, 5] rfl ?_
              exact hX0_form_65 _ _ _ _ _ _ _ _ _ (Nat.zero_le _) (Nat.zero_le _) w
            · have w := w.1 h
              refine e_aload_n (n := 55) dX0_form_54 rfl 0 rfl ?_
              refine e_cR (n := 58) w fw_X0_stuck (gl_o q189) dX0_form_55 rfl (fun r_24 w => ?_)
              refine e_goto (n := 65) dX0_form_58 (by decide) ?_
              refine e_sub (lv' := [(0, .ref x0), (2, .int x2), (3, .int x3), (4, .int x4), (5, .int x5)]) [0, 2, 3, 4, 5] rfl ?_
              exact hX0_form_65 _ _ _ _ _ _ _ _ _ (Nat.zero_le _) (Nat.zero_le _) w
          · have w := w.1 h
            refine e_iconst (n := 49) (v := (-1)) dX0_form_48 rfl (by decide) ?_
            exact e_iret rfl (Nat.zero_le _) (Nat.zero_le _) ⟨_, rfl, w⟩ dX0_form_49
abbrev mX0_fences : gM := (yX0_fences, cX0_fences, 3, some .int)
theorem okX0_fences : g_ok mX0_fences 1 := ⟨by decide +kernel, by decide +kernel, by decide +kernel, by decide +kernel, by decide⟩
def wX0_fences_12 (Q : Int32 → gH → Prop)  (t0 : Int32) (x0 : Nat) (x1 : Int32) (σ : gH) : Prop := t_b x1 ∧ c_P σ [0] x0 10 (.int x1) (fun σ_2 => t_b 1 ∧ c_P σ_2 [0] x0 12 (.int 1) (fun σ_3 => Q t0 σ_3))
def wX0_fences (Q : Int32 → gH → Prop) (x0 : Nat) (x1 : Int32) (σ : gH) : Prop := c_I σ [0] x0 10 (fun v_1 => (v_1 = 0 → (wX0_fences_12 Q 0 x0 x1 σ)) ∧ (¬ v_1 = 0 → (wX0_fences_12 Q 1 x0 x1 σ)))
set_option maxHeartbeats 4000000 in
theorem hX0_fences_12 {Q : Int32 → gH → Prop}  (t0 : Int32) (x0 : Nat) (x1 : Int32) (σ : gH) (w : wX0_fences_12 Q t0 x0 x1 σ) : E mX0_fences 1 0 0 (g_z (c_Ki Q)) 0 0 12 [(0, .ref x0), (1, .int x1)] [.int t0] σ := by
  unfold wX0_fences_12 at w
  refine e_istore_n (n := 13) (lv' := [(0, .ref x0), (1, .int x1), (2, .int t0)]) [1, 2, 0] dX0_fences_12 rfl rfl rfl ?_
  refine e_aload_n (n := 14) dX0_fences_13 rfl 0 rfl ?_
  refine e_iload_n (n := 15) dX0_fences_14 rfl 1 rfl ?_
  obtain ⟨wb, w⟩ := w
  refine e_cP (n := 18) (ty := .boolean) w tyX0 tyX0_ok nmX0 in_X0 rfl rfl (gl_o q193) rfl rfl ⟨wb.nar, wb.fit⟩ dX0_fences_15 rfl (fun σ_2 w => ?_)
  refine e_aload_n (n := 19) dX0_fences_18 rfl 0 rfl ?_
  refine e_iconst (n := 20) (v := 1) dX0_fences_19 rfl (by decide) ?_
  obtain ⟨wb, w⟩ := w
  refine e_cP (n := 23) (ty := .boolean) w tyX0 tyX0_ok nmX0 in_X0 rfl rfl (gl_o q195) rfl rfl ⟨wb.nar, wb.fit⟩ dX0_fences_20 rfl (fun σ_3 w => ?_)
  refine e_iload_n (n := 24) dX0_fences_23 rfl 2 rfl ?_
  exact e_iret rfl (Nat.le_refl _) (Nat.le_refl _) ⟨_, rfl, w⟩ dX0_fences_24
set_option maxHeartbeats 4000000 in
theorem ctX0_fences {Q : Int32 → gH → Prop} {x0 : Nat} {x1 : Int32} {σ : gH} (w : wX0_fences Q x0 x1 σ) : CT mX0_fences 1 0 0 [.ref x0, .int x1] σ (c_Ki Q) := by
  refine CT.of (lv := [(0, .ref x0), (1, .int x1)]) okX0_fences.1 rfl rfl ?_
  unfold wX0_fences at w
  refine e_aload_n (n := 1) dX0_fences_0 rfl 0 rfl ?_
  refine e_cI (n := 4) w fw_X0_fences (gl_o q193) dX0_fences_1 rfl (fun v_1 w => ?_)
  refine e_if_eq (n := 7) (tgt := 11) dX0_fences_4 rfl (by decide) (fun h => ?_) (fun h => ?_)
  · have w := w.1 h
    refine e_iconst (n := 12) (v := 0) dX0_fences_11 rfl (by decide) ?_
    exact hX0_fences_12 _ _ _ _ w
  · have w := w.2 h
    refine e_iconst (n := 8) (v := 1) dX0_fences_7 rfl (by decide) ?_
    refine e_goto (n := 12) dX0_fences_8 (by decide) ?_
    exact hX0_fences_12 _ _ _ _ w
abbrev mX0_with : gM := (yX0_with, cX0_with, 4, some (.array .int))
theorem okX0_with : g_ok mX0_with 3 := ⟨by decide +kernel, by decide +kernel, by decide +kernel, by decide +kernel, by decide⟩
def wX0_with (Q : Option Nat → gH → Prop) (mc ms : Nat) (x0 : Option Nat) (x1 : Int32) (x2 : Int32) (σ : gH) : Prop := ∃ a_1 : Nat, x0 = some a_1 ∧ (c_len σ a_1 (fun v_2 => 0 + 1 ≤ mc ∧ 0 + (v_2 + 1).toNatClampNeg ≤ ms ∧ ¬ (v_2 + 1) < 0 ∧ (v_2 + 1).toNatClampNeg * 4 ≤ 536870912 ∧ c_new σ (.inl (0, (v_2 + 1).toNatClampNeg, .inl (fun _ => 0))) (fun q_4 σ_3 => c_copyI σ_3 a_1 0 q_4 0 x1 (fun σ_5 => c_sI σ_5 q_4 x1 x2 (fun σ_6 => c_len σ_6 a_1 (fun v_7 => c_copyI σ_6 a_1 x1 q_4 (x1 + 1) (v_7 - x1) (fun σ_8 => Q (some q_4) σ_8)))))))
set_option maxHeartbeats 4000000 in
theorem ctX0_with {Q : Option Nat → gH → Prop} {mc ms : Nat} {x0 : Option Nat} {x1 : Int32} {x2 : Int32} {σ : gH} (w : wX0_with Q mc ms x0 x1 x2 σ) : CT mX0_with 1 mc ms [va_rf x0, .int x1, .int x2] σ (c_Kr Q) := by
  refine CT.of (lv := [(0, va_rf x0), (1, .int x1), (2, .int x2)]) okX0_with.1 (by cases x0 <;> rfl) (by cases x0 <;> rfl) ?_
  unfold wX0_with at w
  refine e_aloadr_n (n := 1) (r := x0) dX0_with_0 rfl 0 rfl ?_
  obtain ⟨a_1, ha_1, w9a_1⟩ := w
  subst ha_1
  have w := w9a_1
  refine e_clen (n := 2) w dX0_with_1 rfl (fun v_2 w => ?_)
  refine e_iconst (n := 3) (v := 1) dX0_with_2 rfl (by decide) ?_
  refine e_iadd (n := 4) dX0_with_3 rfl ?_
  obtain ⟨hu1, hu2, w⟩ := w
  obtain ⟨wn, wb, w⟩ := w
  refine e_cnewI (n := 6) (z := v_2 + 1) w wn wb hu1 hu2 dX0_with_4 rfl (fun q_4 σ_3 w => ?_)
  refine e_astore_n (n := 7) (lv' := [(0, .ref a_1), (1, .int x1), (2, .int x2), (3, .ref q_4)]) [1, 2, 3, 0] dX0_with_6 rfl rfl rfl ?_
  refine e_aload_n (n := 8) dX0_with_7 rfl 0 rfl ?_
  refine e_iconst (n := 9) (v := 0) dX0_with_8 rfl (by decide) ?_
  refine e_aload_n (n := 10) dX0_with_9 rfl 3 rfl ?_
  refine e_iconst (n := 11) (v := 0) dX0_with_10 rfl (by decide) ?_
  refine e_iload_n (n := 12) dX0_with_11 rfl 1 rfl ?_
  refine e_ccopyI (n := 15) w q477 (by decide) rfl dX0_with_12 rfl (fun σ_5 w => ?_)
  refine e_aload_n (n := 16) dX0_with_15 rfl 3 rfl ?_
  refine e_iload_n (n := 17) dX0_with_16 rfl 1 rfl ?_
  refine e_iload_n (n := 18) dX0_with_17 rfl 2 rfl ?_
  refine e_csI (n := 19) w dX0_with_18 rfl (fun σ_6 w => ?_)
  refine e_aload_n (n := 20) dX0_with_19 rfl 0 rfl ?_
  refine e_iload_n (n := 21) dX0_with_20 rfl 1 rfl ?_
  refine e_aload_n (n := 22) dX0_with_21 rfl 3 rfl ?_
  refine e_iload_n (n := 23) dX0_with_22 rfl 1 rfl ?_
  refine e_iconst (n := 24) (v := 1) dX0_with_23 rfl (by decide) ?_
  refine e_iadd (n := 25) dX0_with_24 rfl ?_
  refine e_aload_n (n := 26) dX0_with_25 rfl 0 rfl ?_
  refine e_clen (n := 27) w dX0_with_26 rfl (fun v_7 w => ?_)
  refine e_iload_n (n := 28) dX0_with_27 rfl 1 rfl ?_
  refine e_isub (n := 29) dX0_with_28 rfl ?_
  refine e_ccopyI (n := 32) w q477 (by decide) rfl dX0_with_29 rfl (fun σ_8 w => ?_)
  refine e_aload_n (n := 33) dX0_with_32 rfl 3 rfl ?_
  exact e_aret (v := va_rf (some q_4)) rfl (Or.inr ⟨_, rfl⟩) (rf_or _) hu1 hu2 ⟨_, rfl, w⟩ dX0_with_33
abbrev mX0_put : gM := (yX0_put, cX0_put, 3, some .int)
theorem okX0_put : g_ok mX0_put 2 := ⟨by decide +kernel, by decide +kernel, by decide +kernel, by decide +kernel, by decide⟩
def wX0_put (Q : Int32 → gH → Prop) (mc ms : Nat) (x0 : Nat) (x1 : Int32) (x2 : Int32) (σ : gH) : Prop := c_R σ [0] x0 11 (fun r_1 => ∃ a_2 : Nat, r_1 = some a_2 ∧ (c_len σ a_2 (fun v_3 => wX0_in (fun (v_4 : Int32) => (v_4 = 0 → (Q (-1) σ)) ∧ (¬ v_4 = 0 → (∃ fs_6 : List Value, σ.2 x0 = some (.inr (0, fs_6)) ∧ (wX0_isToken (fun (v_5 : Int32) => (v_5 = 0 → (Q (-1) σ)) ∧ (¬ v_5 = 0 → (c_R σ [0] x0 11 (fun r_7 => ∃ a_8 : Nat, r_7 = some a_8 ∧ (c_len σ a_8 (fun v_9 => (v_9 = 10 → (Q (-2) σ)) ∧ (¬ v_9 = 10 → (c_R σ [0] x0 11 (fun r_10 => ∃ c_13 b_14 : Nat, 0 + c_13 ≤ mc ∧ 0 + b_14 ≤ ms ∧ wX0_with (fun (r_12 : Option Nat) (σ_11 : gH) => c_P σ_11 [0] x0 11 (va_rf r_12) (fun σ_15 => t_b 1 ∧ c_P σ_15 [0] x0 12 (.int 1) (fun σ_16 => c_R σ_16 [0] x0 11 (fun r_17 => ∃ a_18 : Nat, r_17 = some a_18 ∧ (c_len σ_16 a_18 (fun v_19 => Q v_19 σ_16)))))) c_13 b_14 r_10 x1 x2 σ))))))))) σ x0 x2)))) σ x1.toInt64 0 v_3.toInt64)))
set_option maxHeartbeats 4000000 in
theorem ctX0_put {Q : Int32 → gH → Prop} {mc ms : Nat} {x0 : Nat} {x1 : Int32} {x2 : Int32} {σ : gH} (w : wX0_put Q mc ms x0 x1 x2 σ) : CT mX0_put 3 mc ms [.ref x0, .int x1, .int x2] σ (c_Ki Q) := by
  refine CT.of (lv := [(0, .ref x0), (1, .int x1), (2, .int x2)]) okX0_put.1 rfl rfl ?_
  unfold wX0_put at w
  refine e_iload_n (n := 1) dX0_put_0 rfl 1 rfl ?_
  refine e_i2l (n := 2) dX0_put_1 rfl ?_
  refine e_lconst (n := 3) (v := 0) dX0_put_2 rfl (by decide) ?_
  refine e_aload_n (n := 4) dX0_put_3 rfl 0 rfl ?_
  refine e_cR (n := 7) w fw_X0_text (gl_o q194) dX0_put_4 rfl (fun r_1 w => ?_)
  obtain ⟨a_2, ha_2, w9a_2⟩ := w
  subst ha_2
  have w := w9a_2
  refine e_clen (n := 8) w dX0_put_7 rfl (fun v_3 w => ?_)
  refine e_i2l (n := 9) dX0_put_8 rfl ?_
  refine e_callS (n := 12) (As := [.long x1.toInt64, .long 0, .long v_3.toInt64]) (st := []) okX0_in q279 q280 q57 q281 (by decide) (Nat.zero_le _) (Nat.zero_le _) rfl rfl (Nat.le_of_ble_eq_true rfl) dX0_put_9 rfl (ctX0_in w) (fun r9 σ9 hk => ?_)
  obtain ⟨v_4, rfl, hs9, w⟩ := hk
  rw [hs9]
  refine e_if_eq (n := 15) (tgt := 23) dX0_put_12 rfl (by decide) (fun h => ?_) (fun h => ?_)
  · have w := w.1 h
    refine e_iconst (n := 24) (v := (-1)) dX0_put_23 rfl (by decide) ?_
    exact e_iret rfl (Nat.zero_le _) (Nat.zero_le _) ⟨_, rfl, w⟩ dX0_put_24
  · have w := w.2 h
    refine e_aload_n (n := 16) dX0_put_15 rfl 0 rfl ?_
    refine e_iload_n (n := 17) dX0_put_16 rfl 2 rfl ?_
    obtain ⟨fs_6, wo, w⟩ := w
    refine e_callV (n := 20) (As := [.int x2]) (st := []) okX0_isToken q404 q406 qs4 q57 q407 rfl wo rfl (by decide) (Nat.zero_le _) (Nat.zero_le _) rfl rfl (Nat.le_of_ble_eq_true rfl) dX0_put_17 rfl (ctX0_isToken w) (fun r9 σ9 hk => ?_)
    obtain ⟨v_5, rfl, hs9, w⟩ := hk
    rw [hs9]
    refine e_if_ne (n := 23) (tgt := 25) dX0_put_20 rfl (by decide) (fun h => ?_) (fun h => ?_)
    · have w := w.2 h
      refine e_aload_n (n := 26) dX0_put_25 rfl 0 rfl ?_
      refine e_cR (n := 29) w fw_X0_text (gl_o q194) dX0_put_26 rfl (fun r_7 w => ?_)
      obtain ⟨a_8, ha_8, w9a_8⟩ := w
      subst ha_8
      have w := w9a_8
      refine e_clen (n := 30) w dX0_put_29 rfl (fun v_9 w => ?_)
      refine e_bipush (n := 32) (v := 10) dX0_put_30 rfl (by decide) ?_
      refine e_icmp_ne (n := 35) (tgt := 38) dX0_put_32 rfl (by decide) (fun h => ?_) (fun h => ?_)
      · have w := w.2 h
        refine e_aload_n (n := 39) dX0_put_38 rfl 0 rfl ?_
        refine e_aload_n (n := 40) dX0_put_39 rfl 0 rfl ?_
        refine e_cR (n := 43) w fw_X0_text (gl_o q194) dX0_put_40 rfl (fun r_10 w => ?_)
        refine e_iload_n (n := 44) dX0_put_43 rfl 1 rfl ?_
        refine e_iload_n (n := 45) dX0_put_44 rfl 2 rfl ?_
        obtain ⟨c_13, b_14, hu1, hu2, w⟩ := w
        refine e_callS (n := 48) (As := [va_rf r_10, .int x1, .int x2]) (st := [.ref x0]) okX0_with q474 q475 q57 q476 (by decide) hu1 hu2 rfl rfl (Nat.le_of_ble_eq_true rfl) dX0_put_45 rfl (ctX0_with w) (fun r9 σ_11 hk => ?_)
        obtain ⟨r_12, rfl, w⟩ := hk
        refine e_cP (n := 51) (ty := (.array .int)) w tyX0 tyX0_ok nmX0 in_X0 rfl rfl (gl_o q194) rfl rfl (rf_narA _ r_12) dX0_put_48 rfl (fun σ_15 w => ?_)
        refine e_aload_n (n := 52) dX0_put_51 rfl 0 rfl ?_
        refine e_iconst (n := 53) (v := 1) dX0_put_52 rfl (by decide) ?_
        obtain ⟨wb, w⟩ := w
        refine e_cP (n := 56) (ty := .boolean) w tyX0 tyX0_ok nmX0 in_X0 rfl rfl (gl_o q195) rfl rfl ⟨wb.nar, wb.fit⟩ dX0_put_53 rfl (fun σ_16 w => ?_)
        refine e_aload_n (n := 57) dX0_put_56 rfl 0 rfl ?_
        refine e_cR (n := 60) w fw_X0_text (gl_o q194) dX0_put_57 rfl (fun r_17 w => ?_)
        obtain ⟨a_18, ha_18, w9a_18⟩ := w
        subst ha_18
        have w := w9a_18
        refine e_clen (n := 61) w dX0_put_60 rfl (fun v_19 w => ?_)
        exact e_iret rfl hu1 hu2 ⟨_, rfl, w⟩ dX0_put_61
      · have w := w.1 h
        refine e_bipush (n := 37) (v := (-2)) dX0_put_35 rfl (by decide) ?_
        exact e_iret rfl (Nat.zero_le _) (Nat.zero_le _) ⟨_, rfl, w⟩ dX0_put_37
    · have w := w.1 h
      refine e_iconst (n := 24) (v := (-1)) dX0_put_23 rfl (by decide) ?_
      exact e_iret rfl (Nat.zero_le _) (Nat.zero_le _) ⟨_, rfl, w⟩ dX0_put_24
abbrev mX0_take : gM := (yX0_take, cX0_take, 3, some .int)
theorem okX0_take : g_ok mX0_take 1 := ⟨by decide +kernel, by decide +kernel, by decide +kernel, by decide +kernel, by decide⟩
def wX0_take (Q : Int32 → gH → Prop) (mc ms : Nat) (x0 : Nat) (x1 : Int32) (σ : gH) : Prop := c_R σ [0] x0 11 (fun r_1 => ∃ a_2 : Nat, r_1 = some a_2 ∧ (c_len σ a_2 (fun v_3 => wX0_in (fun (v_4 : Int32) => (v_4 = 0 → (Q (-1) σ)) ∧ (¬ v_4 = 0 → (c_R σ [0] x0 11 (fun r_5 => ∃ a_6 : Nat, r_5 = some a_6 ∧ (c_len σ a_6 (fun v_7 => 0 + 1 ≤ mc ∧ 0 + (v_7 - 1).toNatClampNeg ≤ ms ∧ ¬ (v_7 - 1) < 0 ∧ (v_7 - 1).toNatClampNeg * 4 ≤ 536870912 ∧ c_new σ (.inl (0, (v_7 - 1).toNatClampNeg, .inl (fun _ => 0))) (fun q_9 σ_8 => c_R σ_8 [0] x0 11 (fun r_10 => ∃ a_11 : Nat, r_10 = some a_11 ∧ (c_copyI σ_8 a_11 0 q_9 0 x1 (fun σ_12 => c_R σ_12 [0] x0 11 (fun r_13 => c_len σ_12 q_9 (fun v_14 => ∃ a_15 : Nat, r_13 = some a_15 ∧ (c_copyI σ_12 a_15 (x1 + 1) q_9 x1 (v_14 - x1) (fun σ_16 => c_P σ_16 [0] x0 11 (va_rf (some q_9)) (fun σ_17 => t_b 1 ∧ c_P σ_17 [0] x0 12 (.int 1) (fun σ_18 => c_R σ_18 [0] x0 11 (fun r_19 => ∃ a_20 : Nat, r_19 = some a_20 ∧ (c_len σ_18 a_20 (fun v_21 => Q v_21 σ_18))))))))))))))))))) σ x1.toInt64 0 ((v_3 - 1).toInt64))))
set_option maxHeartbeats 4000000 in
theorem ctX0_take {Q : Int32 → gH → Prop} {mc ms : Nat} {x0 : Nat} {x1 : Int32} {σ : gH} (w : wX0_take Q mc ms x0 x1 σ) : CT mX0_take 2 mc ms [.ref x0, .int x1] σ (c_Ki Q) := by
  refine CT.of (lv := [(0, .ref x0), (1, .int x1)]) okX0_take.1 rfl rfl ?_
  unfold wX0_take at w
  refine e_iload_n (n := 1) dX0_take_0 rfl 1 rfl ?_
  refine e_i2l (n := 2) dX0_take_1 rfl ?_
  refine e_lconst (n := 3) (v := 0) dX0_take_2 rfl (by decide) ?_
  refine e_aload_n (n := 4) dX0_take_3 rfl 0 rfl ?_
  refine e_cR (n := 7) w fw_X0_text (gl_o q194) dX0_take_4 rfl (fun r_1 w => ?_)
  obtain ⟨a_2, ha_2, w9a_2⟩ := w
  subst ha_2
  have w := w9a_2
  refine e_clen (n := 8) w dX0_take_7 rfl (fun v_3 w => ?_)
  refine e_iconst (n := 9) (v := 1) dX0_take_8 rfl (by decide) ?_
  refine e_isub (n := 10) dX0_take_9 rfl ?_
  refine e_i2l (n := 11) dX0_take_10 rfl ?_
  refine e_callS (n := 14) (As := [.long x1.toInt64, .long 0, .long ((v_3 - 1).toInt64)]) (st := []) okX0_in q279 q280 q57 q281 (by decide) (Nat.zero_le _) (Nat.zero_le _) rfl rfl (Nat.le_of_ble_eq_true rfl) dX0_take_11 rfl (ctX0_in w) (fun r9 σ9 hk => ?_)
  obtain ⟨v_4, rfl, hs9, w⟩ := hk
  rw [hs9]
  refine e_if_ne (n := 17) (tgt := 19) dX0_take_14 rfl (by decide) (fun h => ?_) (fun h => ?_)
  · have w := w.2 h
    refine e_aload_n (n := 20) dX0_take_19 rfl 0 rfl ?_
    refine e_cR (n := 23) w fw_X0_text (gl_o q194) dX0_take_20 rfl (fun r_5 w => ?_)
    obtain ⟨a_6, ha_6, w9a_6⟩ := w
    subst ha_6
    have w := w9a_6
    refine e_clen (n := 24) w dX0_take_23 rfl (fun v_7 w => ?_)
    refine e_iconst (n := 25) (v := 1) dX0_take_24 rfl (by decide) ?_
    refine e_isub (n := 26) dX0_take_25 rfl ?_
    obtain ⟨hu1, hu2, w⟩ := w
    obtain ⟨wn, wb, w⟩ := w
    refine e_cnewI (n := 28) (z := v_7 - 1) w wn wb hu1 hu2 dX0_take_26 rfl (fun q_9 σ_8 w => ?_)
    refine e_astore_n (n := 29) (lv' := [(0, .ref x0), (1, .int x1), (2, .ref q_9)]) [1, 2, 0] dX0_take_28 rfl rfl rfl ?_
    refine e_aload_n (n := 30) dX0_take_29 rfl 0 rfl ?_
    refine e_cR (n := 33) w fw_X0_text (gl_o q194) dX0_take_30 rfl (fun r_10 w => ?_)
    refine e_iconst (n := 34) (v := 0) dX0_take_33 rfl (by decide) ?_
    refine e_aload_n (n := 35) dX0_take_34 rfl 2 rfl ?_
    refine e_iconst (n := 36) (v := 0) dX0_take_35 rfl (by decide) ?_
    refine e_iload_n (n := 37) dX0_take_36 rfl 1 rfl ?_
    obtain ⟨a_11, ha_11, w9a_11⟩ := w
    subst ha_11
    have w := w9a_11
    refine e_ccopyI (n := 40) w q477 (by decide) rfl dX0_take_37 rfl (fun σ_12 w => ?_)
    refine e_aload_n (n := 41) dX0_take_40 rfl 0 rfl ?_
    refine e_cR (n := 44) w fw_X0_text (gl_o q194) dX0_take_41 rfl (fun r_13 w => ?_)
    refine e_iload_n (n := 45) dX0_take_44 rfl 1 rfl ?_
    refine e_iconst (n := 46) (v := 1) dX0_take_45 rfl (by decide) ?_
    refine e_iadd (n := 47) dX0_take_46 rfl ?_
    refine e_aload_n (n := 48) dX0_take_47 rfl 2 rfl ?_
    refine e_iload_n (n := 49) dX0_take_48 rfl 1 rfl ?_
    refine e_aload_n (n := 50) dX0_take_49 rfl 2 rfl ?_
    refine e_clen (n := 51) w dX0_take_50 rfl (fun v_14 w => ?_)
    refine e_iload_n (n := 52) dX0_take_51 rfl 1 rfl ?_
    refine e_isub (n := 53) dX0_take_52 rfl ?_
    obtain ⟨a_15, ha_15, w9a_15⟩ := w
    subst ha_15
    have w := w9a_15
    refine e_ccopyI (n := 56) w q477 (by decide) rfl dX0_take_53 rfl (fun σ_16 w => ?_)
    refine e_aload_n (n := 57) dX0_take_56 rfl 0 rfl ?_
    refine e_aload_n (n := 58) dX0_take_57 rfl 2 rfl ?_
    refine e_cP (n := 61) (ty := (.array .int)) w tyX0 tyX0_ok nmX0 in_X0 rfl rfl (gl_o q194) rfl rfl (rf_narA _ (some q_9)) dX0_take_58 rfl (fun σ_17 w => ?_)
    refine e_aload_n (n := 62) dX0_take_61 rfl 0 rfl ?_
    refine e_iconst (n := 63) (v := 1) dX0_take_62 rfl (by decide) ?_
    obtain ⟨wb, w⟩ := w
    refine e_cP (n := 66) (ty := .boolean) w tyX0 tyX0_ok nmX0 in_X0 rfl rfl (gl_o q195) rfl rfl ⟨wb.nar, wb.fit⟩ dX0_take_63 rfl (fun σ_18 w => ?_)
    refine e_aload_n (n := 67) dX0_take_66 rfl 0 rfl ?_
    refine e_cR (n := 70) w fw_X0_text (gl_o q194) dX0_take_67 rfl (fun r_19 w => ?_)
    obtain ⟨a_20, ha_20, w9a_20⟩ := w
    subst ha_20
    have w := w9a_20
    refine e_clen (n := 71) w dX0_take_70 rfl (fun v_21 w => ?_)
    exact e_iret rfl hu1 hu2 ⟨_, rfl, w⟩ dX0_take_71
  · have w := w.1 h
    refine e_iconst (n := 18) (v := (-1)) dX0_take_17 rfl (by decide) ?_
    exact e_iret rfl (Nat.zero_le _) (Nat.zero_le _) ⟨_, rfl, w⟩ dX0_take_18
abbrev mX0_at : gM := (yX0_at, cX0_at, 2, some .int)
theorem okX0_at : g_ok mX0_at 1 := ⟨by decide +kernel, by decide +kernel, by decide +kernel, by decide +kernel, by decide⟩
def wX0_at (Q : Int32 → Prop) (σ : gH) (x0 : Nat) (x1 : Int32) : Prop := c_R σ [0] x0 11 (fun r_1 => ∃ a_2 : Nat, r_1 = some a_2 ∧ (c_len σ a_2 (fun v_3 => wX0_in (fun (v_4 : Int32) => (v_4 = 0 → (Q (-1))) ∧ (¬ v_4 = 0 → (c_R σ [0] x0 11 (fun r_5 => ∃ a_6 : Nat, r_5 = some a_6 ∧ (c_aI σ a_6 x1 (fun v_7 => Q v_7)))))) σ x1.toInt64 0 ((v_3 - 1).toInt64))))
set_option maxHeartbeats 4000000 in
theorem ctX0_at {Q : Int32 → Prop} {x0 : Nat} {x1 : Int32} {σ : gH} (w : wX0_at Q σ x0 x1) : CT mX0_at 2 0 0 [.ref x0, .int x1] σ (g_Pi σ Q) := by
  refine CT.of (lv := [(0, .ref x0), (1, .int x1)]) okX0_at.1 rfl rfl ?_
  unfold wX0_at at w
  refine e_iload_n (n := 1) dX0_at_0 rfl 1 rfl ?_
  refine e_i2l (n := 2) dX0_at_1 rfl ?_
  refine e_lconst (n := 3) (v := 0) dX0_at_2 rfl (by decide) ?_
  refine e_aload_n (n := 4) dX0_at_3 rfl 0 rfl ?_
  refine e_cR (n := 7) w fw_X0_text (gl_o q194) dX0_at_4 rfl (fun r_1 w => ?_)
  obtain ⟨a_2, ha_2, w9a_2⟩ := w
  subst ha_2
  have w := w9a_2
  refine e_clen (n := 8) w dX0_at_7 rfl (fun v_3 w => ?_)
  refine e_iconst (n := 9) (v := 1) dX0_at_8 rfl (by decide) ?_
  refine e_isub (n := 10) dX0_at_9 rfl ?_
  refine e_i2l (n := 11) dX0_at_10 rfl ?_
  refine e_callS (n := 14) (As := [.long x1.toInt64, .long 0, .long ((v_3 - 1).toInt64)]) (st := []) okX0_in q279 q280 q57 q281 (by decide) (Nat.le_refl _) (Nat.le_refl _) rfl rfl (Nat.le_of_ble_eq_true rfl) dX0_at_11 rfl (ctX0_in w) (fun r9 σ9 hk => ?_)
  obtain ⟨v_4, rfl, hs9, w⟩ := hk
  rw [hs9]
  refine e_if_eq (n := 17) (tgt := 26) dX0_at_14 rfl (by decide) (fun h => ?_) (fun h => ?_)
  · have w := w.1 h
    refine e_iconst (n := 27) (v := (-1)) dX0_at_26 rfl (by decide) ?_
    exact e_iret rfl (Nat.le_refl _) (Nat.le_refl _) ⟨_, rfl, rfl, w⟩ dX0_at_27
  · have w := w.2 h
    refine e_aload_n (n := 18) dX0_at_17 rfl 0 rfl ?_
    refine e_cR (n := 21) w fw_X0_text (gl_o q194) dX0_at_18 rfl (fun r_5 w => ?_)
    refine e_iload_n (n := 22) dX0_at_21 rfl 1 rfl ?_
    obtain ⟨a_6, ha_6, w9a_6⟩ := w
    subst ha_6
    have w := w9a_6
    refine e_caI (n := 23) w dX0_at_22 rfl (fun v_7 w => ?_)
    refine e_goto (n := 27) dX0_at_23 (by decide) ?_
    exact e_iret rfl (Nat.le_refl _) (Nat.le_refl _) ⟨_, rfl, rfl, w⟩ dX0_at_27
abbrev mX6_init : gM := (yX6_init, cX6_init, 5, none)
theorem okX6_init : g_ok mX6_init 4 := ⟨by decide +kernel, by decide +kernel, by decide +kernel, by decide +kernel, by decide⟩
theorem ff_X6_init_sort : ∀ ci ∈ [6], ∃ (C : String) (T : u_T) (N : Nat) (ty0 : Nat → FieldType), g_cl[ci]? = some (C, T, N) ∧ (∀ k, k < N → parseFieldDescriptor (T k).2.2.1 = some (ty0 k)) ∧ g_nm T N ∧ (∀ w ∈ u_ws C T N, w ∈ lw_all) ∧ Nat.ble (0 + 1) N = true ∧ Cond.fieldLink mX6_init.1.cls 7 (T 0).1 (T 0).2.1 (T 0).2.2.1 ∈ lw_all ∧ (T 0).2.2.2 = true ∧ (T 0).1 = mX6_init.1.cls ∧ ty0 0 = .int := by
  intro ci h
  simp only [List.mem_cons, List.not_mem_nil, or_false] at h
  subst h
  exact ⟨_, _, _, tyX6, rfl, tyX6_ok, gn_X6, in_X6, rfl, q500, rfl, rfl, rfl⟩
theorem ff_X6_init_from : ∀ ci ∈ [6], ∃ (C : String) (T : u_T) (N : Nat) (ty0 : Nat → FieldType), g_cl[ci]? = some (C, T, N) ∧ (∀ k, k < N → parseFieldDescriptor (T k).2.2.1 = some (ty0 k)) ∧ g_nm T N ∧ (∀ w ∈ u_ws C T N, w ∈ lw_all) ∧ Nat.ble (1 + 1) N = true ∧ Cond.fieldLink mX6_init.1.cls 13 (T 1).1 (T 1).2.1 (T 1).2.2.1 ∈ lw_all ∧ (T 1).2.2.2 = true ∧ (T 1).1 = mX6_init.1.cls ∧ ty0 1 = .int := by
  intro ci h
  simp only [List.mem_cons, List.not_mem_nil, or_false] at h
  subst h
  exact ⟨_, _, _, tyX6, rfl, tyX6_ok, gn_X6, in_X6, rfl, q502, rfl, rfl, rfl⟩
theorem ff_X6_init_to : ∀ ci ∈ [6], ∃ (C : String) (T : u_T) (N : Nat) (ty0 : Nat → FieldType), g_cl[ci]? = some (C, T, N) ∧ (∀ k, k < N → parseFieldDescriptor (T k).2.2.1 = some (ty0 k)) ∧ g_nm T N ∧ (∀ w ∈ u_ws C T N, w ∈ lw_all) ∧ Nat.ble (2 + 1) N = true ∧ Cond.fieldLink mX6_init.1.cls 16 (T 2).1 (T 2).2.1 (T 2).2.2.1 ∈ lw_all ∧ (T 2).2.2.2 = true ∧ (T 2).1 = mX6_init.1.cls ∧ ty0 2 = .int := by
  intro ci h
  simp only [List.mem_cons, List.not_mem_nil, or_false] at h
  subst h
  exact ⟨_, _, _, tyX6, rfl, tyX6_ok, gn_X6, in_X6, rfl, q504, rfl, rfl, rfl⟩
theorem ff_X6_init_without : ∀ ci ∈ [6], ∃ (C : String) (T : u_T) (N : Nat) (ty0 : Nat → FieldType), g_cl[ci]? = some (C, T, N) ∧ (∀ k, k < N → parseFieldDescriptor (T k).2.2.1 = some (ty0 k)) ∧ g_nm T N ∧ (∀ w ∈ u_ws C T N, w ∈ lw_all) ∧ Nat.ble (3 + 1) N = true ∧ Cond.fieldLink mX6_init.1.cls 19 (T 3).1 (T 3).2.1 (T 3).2.2.1 ∈ lw_all ∧ (T 3).2.2.2 = true ∧ (T 3).1 = mX6_init.1.cls ∧ ty0 3 = (.object "MendReader$Step") := by
  intro ci h
  simp only [List.mem_cons, List.not_mem_nil, or_false] at h
  subst h
  exact ⟨_, _, _, tyX6, rfl, tyX6_ok, gn_X6, in_X6, rfl, q506, rfl, rfl, rfl⟩
def wX6_init (Q : gH → Prop) (x0 : Nat) (x1 : Int32) (x2 : Int32) (x3 : Int32) (x4 : Option Nat) (σ : gH) : Prop := c_P σ [6] x0 0 (.int x1) (fun σ_1 => c_P σ_1 [6] x0 1 (.int x2) (fun σ_2 => c_P σ_2 [6] x0 2 (.int x3) (fun σ_3 => c_P σ_3 [6] x0 3 (va_rf x4) (fun σ_4 => Q σ_4))))
set_option maxHeartbeats 4000000 in
theorem ctX6_init {Q : gH → Prop} {x0 : Nat} {x1 : Int32} {x2 : Int32} {x3 : Int32} {x4 : Option Nat} {σ : gH} (w : wX6_init Q x0 x1 x2 x3 x4 σ) : CT mX6_init 1 0 0 [.ref x0, .int x1, .int x2, .int x3, va_rf x4] σ (c_Kv Q) := by
  refine CT.of (lv := [(0, .ref x0), (1, .int x1), (2, .int x2), (3, .int x3), (4, va_rf x4)]) okX6_init.1 (by cases x4 <;> rfl) (by cases x4 <;> rfl) ?_
  unfold wX6_init at w
  refine e_aload_n (n := 1) dX6_init_0 rfl 0 rfl ?_
  refine e_objInit (n := 4) q499 q99 q100 (by decide) (Nat.le_of_ble_eq_true rfl) dX6_init_1 rfl ?_
  refine e_aload_n (n := 5) dX6_init_4 rfl 0 rfl ?_
  refine e_iload_n (n := 6) dX6_init_5 rfl 1 rfl ?_
  refine e_cPF (n := 9) (ty := .int) w ff_X6_init_sort rfl ⟨rfl, rfl⟩ dX6_init_6 rfl (fun σ_1 w => ?_)
  refine e_aload_n (n := 10) dX6_init_9 rfl 0 rfl ?_
  refine e_iload_n (n := 11) dX6_init_10 rfl 2 rfl ?_
  refine e_cPF (n := 14) (ty := .int) w ff_X6_init_from rfl ⟨rfl, rfl⟩ dX6_init_11 rfl (fun σ_2 w => ?_)
  refine e_aload_n (n := 15) dX6_init_14 rfl 0 rfl ?_
  refine e_iload_n (n := 16) dX6_init_15 rfl 3 rfl ?_
  refine e_cPF (n := 19) (ty := .int) w ff_X6_init_to rfl ⟨rfl, rfl⟩ dX6_init_16 rfl (fun σ_3 w => ?_)
  refine e_aload_n (n := 20) dX6_init_19 rfl 0 rfl ?_
  refine e_aloadr (n := 22) (r := x4) dX6_init_20 rfl 4 rfl ?_
  refine e_cPF (n := 25) (ty := (.object "MendReader$Step")) w ff_X6_init_without rfl (rf_nar _ x4) dX6_init_22 rfl (fun σ_4 w => ?_)
  exact e_vret rfl (Nat.le_refl _) (Nat.le_refl _) ⟨rfl, w⟩ dX6_init_25
abbrev mX8_init : gM := (yX8_init, cX8_init, 7, none)
theorem okX8_init : g_ok mX8_init 6 := ⟨by decide +kernel, by decide +kernel, by decide +kernel, by decide +kernel, by decide⟩
theorem ff_X8_init_this_0 : ∀ ci ∈ [8, 9, 10, 11, 12, 13, 14, 15], ∃ (C : String) (T : u_T) (N : Nat) (ty0 : Nat → FieldType), g_cl[ci]? = some (C, T, N) ∧ (∀ k, k < N → parseFieldDescriptor (T k).2.2.1 = some (ty0 k)) ∧ g_nm T N ∧ (∀ w ∈ u_ws C T N, w ∈ lw_all) ∧ Nat.ble (5 + 1) N = true ∧ Cond.fieldLink mX8_init.1.cls 1 (T 5).1 (T 5).2.1 (T 5).2.2.1 ∈ lw_all ∧ (T 5).2.2.2 = true ∧ (T 5).1 = mX8_init.1.cls ∧ ty0 5 = (.object "MendReader") := by
  intro ci h
  simp only [List.mem_cons, List.not_mem_nil, or_false] at h
  rcases h with rfl | rfl | rfl | rfl | rfl | rfl | rfl | rfl
  · exact ⟨_, _, _, tyX8, rfl, tyX8_ok, gn_X8, in_X8, rfl, q579, rfl, rfl, rfl⟩
  · exact ⟨_, _, _, tyX9, rfl, tyX9_ok, gn_X9, in_X9, rfl, q579, rfl, rfl, rfl⟩
  · exact ⟨_, _, _, tyX10, rfl, tyX10_ok, gn_X10, in_X10, rfl, q579, rfl, rfl, rfl⟩
  · exact ⟨_, _, _, tyX11, rfl, tyX11_ok, gn_X11, in_X11, rfl, q579, rfl, rfl, rfl⟩
  · exact ⟨_, _, _, tyX12, rfl, tyX12_ok, gn_X12, in_X12, rfl, q579, rfl, rfl, rfl⟩
  · exact ⟨_, _, _, tyX13, rfl, tyX13_ok, gn_X13, in_X13, rfl, q579, rfl, rfl, rfl⟩
  · exact ⟨_, _, _, tyX14, rfl, tyX14_ok, gn_X14, in_X14, rfl, q579, rfl, rfl, rfl⟩
  · exact ⟨_, _, _, tyX15, rfl, tyX15_ok, gn_X15, in_X15, rfl, q579, rfl, rfl, rfl⟩
theorem ff_X8_init_chart : ∀ ci ∈ [8, 9, 10, 11, 12, 13, 14, 15], ∃ (C : String) (T : u_T) (N : Nat) (ty0 : Nat → FieldType), g_cl[ci]? = some (C, T, N) ∧ (∀ k, k < N → parseFieldDescriptor (T k).2.2.1 = some (ty0 k)) ∧ g_nm T N ∧ (∀ w ∈ u_ws C T N, w ∈ lw_all) ∧ Nat.ble (0 + 1) N = true ∧ Cond.fieldLink mX8_init.1.cls 13 (T 0).1 (T 0).2.1 (T 0).2.2.1 ∈ lw_all ∧ (T 0).2.2.2 = true ∧ (T 0).1 = mX8_init.1.cls ∧ ty0 0 = (.object "MendReader$Chart") := by
  intro ci h
  simp only [List.mem_cons, List.not_mem_nil, or_false] at h
  rcases h with rfl | rfl | rfl | rfl | rfl | rfl | rfl | rfl
  · exact ⟨_, _, _, tyX8, rfl, tyX8_ok, gn_X8, in_X8, rfl, q548, rfl, rfl, rfl⟩
  · exact ⟨_, _, _, tyX9, rfl, tyX9_ok, gn_X9, in_X9, rfl, q548, rfl, rfl, rfl⟩
  · exact ⟨_, _, _, tyX10, rfl, tyX10_ok, gn_X10, in_X10, rfl, q548, rfl, rfl, rfl⟩
  · exact ⟨_, _, _, tyX11, rfl, tyX11_ok, gn_X11, in_X11, rfl, q548, rfl, rfl, rfl⟩
  · exact ⟨_, _, _, tyX12, rfl, tyX12_ok, gn_X12, in_X12, rfl, q548, rfl, rfl, rfl⟩
  · exact ⟨_, _, _, tyX13, rfl, tyX13_ok, gn_X13, in_X13, rfl, q548, rfl, rfl, rfl⟩
  · exact ⟨_, _, _, tyX14, rfl, tyX14_ok, gn_X14, in_X14, rfl, q548, rfl, rfl, rfl⟩
  · exact ⟨_, _, _, tyX15, rfl, tyX15_ok, gn_X15, in_X15, rfl, q548, rfl, rfl, rfl⟩
theorem ff_X8_init_place : ∀ ci ∈ [8, 9, 10, 11, 12, 13, 14, 15], ∃ (C : String) (T : u_T) (N : Nat) (ty0 : Nat → FieldType), g_cl[ci]? = some (C, T, N) ∧ (∀ k, k < N → parseFieldDescriptor (T k).2.2.1 = some (ty0 k)) ∧ g_nm T N ∧ (∀ w ∈ u_ws C T N, w ∈ lw_all) ∧ Nat.ble (1 + 1) N = true ∧ Cond.fieldLink mX8_init.1.cls 17 (T 1).1 (T 1).2.1 (T 1).2.2.1 ∈ lw_all ∧ (T 1).2.2.2 = true ∧ (T 1).1 = mX8_init.1.cls ∧ ty0 1 = .int := by
  intro ci h
  simp only [List.mem_cons, List.not_mem_nil, or_false] at h
  rcases h with rfl | rfl | rfl | rfl | rfl | rfl | rfl | rfl
  · exact ⟨_, _, _, tyX8, rfl, tyX8_ok, gn_X8, in_X8, rfl, q555, rfl, rfl, rfl⟩
  · exact ⟨_, _, _, tyX9, rfl, tyX9_ok, gn_X9, in_X9, rfl, q555, rfl, rfl, rfl⟩
  · exact ⟨_, _, _, tyX10, rfl, tyX10_ok, gn_X10, in_X10, rfl, q555, rfl, rfl, rfl⟩
  · exact ⟨_, _, _, tyX11, rfl, tyX11_ok, gn_X11, in_X11, rfl, q555, rfl, rfl, rfl⟩
  · exact ⟨_, _, _, tyX12, rfl, tyX12_ok, gn_X12, in_X12, rfl, q555, rfl, rfl, rfl⟩
  · exact ⟨_, _, _, tyX13, rfl, tyX13_ok, gn_X13, in_X13, rfl, q555, rfl, rfl, rfl⟩
  · exact ⟨_, _, _, tyX14, rfl, tyX14_ok, gn_X14, in_X14, rfl, q555, rfl, rfl, rfl⟩
  · exact ⟨_, _, _, tyX15, rfl, tyX15_ok, gn_X15, in_X15, rfl, q555, rfl, rfl, rfl⟩
theorem ff_X8_init_from : ∀ ci ∈ [8, 9, 10, 11, 12, 13, 14, 15], ∃ (C : String) (T : u_T) (N : Nat) (ty0 : Nat → FieldType), g_cl[ci]? = some (C, T, N) ∧ (∀ k, k < N → parseFieldDescriptor (T k).2.2.1 = some (ty0 k)) ∧ g_nm T N ∧ (∀ w ∈ u_ws C T N, w ∈ lw_all) ∧ Nat.ble (2 + 1) N = true ∧ Cond.fieldLink mX8_init.1.cls 21 (T 2).1 (T 2).2.1 (T 2).2.2.1 ∈ lw_all ∧ (T 2).2.2.2 = true ∧ (T 2).1 = mX8_init.1.cls ∧ ty0 2 = .int := by
  intro ci h
  simp only [List.mem_cons, List.not_mem_nil, or_false] at h
  rcases h with rfl | rfl | rfl | rfl | rfl | rfl | rfl | rfl
  · exact ⟨_, _, _, tyX8, rfl, tyX8_ok, gn_X8, in_X8, rfl, q566, rfl, rfl, rfl⟩
  · exact ⟨_, _, _, tyX9, rfl, tyX9_ok, gn_X9, in_X9, rfl, q566, rfl, rfl, rfl⟩
  · exact ⟨_, _, _, tyX10, rfl, tyX10_ok, gn_X10, in_X10, rfl, q566, rfl, rfl, rfl⟩
  · exact ⟨_, _, _, tyX11, rfl, tyX11_ok, gn_X11, in_X11, rfl, q566, rfl, rfl, rfl⟩
  · exact ⟨_, _, _, tyX12, rfl, tyX12_ok, gn_X12, in_X12, rfl, q566, rfl, rfl, rfl⟩
  · exact ⟨_, _, _, tyX13, rfl, tyX13_ok, gn_X13, in_X13, rfl, q566, rfl, rfl, rfl⟩
  · exact ⟨_, _, _, tyX14, rfl, tyX14_ok, gn_X14, in_X14, rfl, q566, rfl, rfl, rfl⟩
  · exact ⟨_, _, _, tyX15, rfl, tyX15_ok, gn_X15, in_X15, rfl, q566, rfl, rfl, rfl⟩
theorem ff_X8_init_to : ∀ ci ∈ [8, 9, 10, 11, 12, 13, 14, 15], ∃ (C : String) (T : u_T) (N : Nat) (ty0 : Nat → FieldType), g_cl[ci]? = some (C, T, N) ∧ (∀ k, k < N → parseFieldDescriptor (T k).2.2.1 = some (ty0 k)) ∧ g_nm T N ∧ (∀ w ∈ u_ws C T N, w ∈ lw_all) ∧ Nat.ble (3 + 1) N = true ∧ Cond.fieldLink mX8_init.1.cls 24 (T 3).1 (T 3).2.1 (T 3).2.2.1 ∈ lw_all ∧ (T 3).2.2.2 = true ∧ (T 3).1 = mX8_init.1.cls ∧ ty0 3 = .int := by
  intro ci h
  simp only [List.mem_cons, List.not_mem_nil, or_false] at h
  rcases h with rfl | rfl | rfl | rfl | rfl | rfl | rfl | rfl
  · exact ⟨_, _, _, tyX8, rfl, tyX8_ok, gn_X8, in_X8, rfl, q569, rfl, rfl, rfl⟩
  · exact ⟨_, _, _, tyX9, rfl, tyX9_ok, gn_X9, in_X9, rfl, q569, rfl, rfl, rfl⟩
  · exact ⟨_, _, _, tyX10, rfl, tyX10_ok, gn_X10, in_X10, rfl, q569, rfl, rfl, rfl⟩
  · exact ⟨_, _, _, tyX11, rfl, tyX11_ok, gn_X11, in_X11, rfl, q569, rfl, rfl, rfl⟩
  · exact ⟨_, _, _, tyX12, rfl, tyX12_ok, gn_X12, in_X12, rfl, q569, rfl, rfl, rfl⟩
  · exact ⟨_, _, _, tyX13, rfl, tyX13_ok, gn_X13, in_X13, rfl, q569, rfl, rfl, rfl⟩
  · exact ⟨_, _, _, tyX14, rfl, tyX14_ok, gn_X14, in_X14, rfl, q569, rfl, rfl, rfl⟩
  · exact ⟨_, _, _, tyX15, rfl, tyX15_ok, gn_X15, in_X15, rfl, q569, rfl, rfl, rfl⟩
theorem ff_X8_init_token : ∀ ci ∈ [8, 9, 10, 11, 12, 13, 14, 15], ∃ (C : String) (T : u_T) (N : Nat) (ty0 : Nat → FieldType), g_cl[ci]? = some (C, T, N) ∧ (∀ k, k < N → parseFieldDescriptor (T k).2.2.1 = some (ty0 k)) ∧ g_nm T N ∧ (∀ w ∈ u_ws C T N, w ∈ lw_all) ∧ Nat.ble (4 + 1) N = true ∧ Cond.fieldLink mX8_init.1.cls 27 (T 4).1 (T 4).2.1 (T 4).2.2.1 ∈ lw_all ∧ (T 4).2.2.2 = true ∧ (T 4).1 = mX8_init.1.cls ∧ ty0 4 = .int := by
  intro ci h
  simp only [List.mem_cons, List.not_mem_nil, or_false] at h
  rcases h with rfl | rfl | rfl | rfl | rfl | rfl | rfl | rfl
  · exact ⟨_, _, _, tyX8, rfl, tyX8_ok, gn_X8, in_X8, rfl, q572, rfl, rfl, rfl⟩
  · exact ⟨_, _, _, tyX9, rfl, tyX9_ok, gn_X9, in_X9, rfl, q572, rfl, rfl, rfl⟩
  · exact ⟨_, _, _, tyX10, rfl, tyX10_ok, gn_X10, in_X10, rfl, q572, rfl, rfl, rfl⟩
  · exact ⟨_, _, _, tyX11, rfl, tyX11_ok, gn_X11, in_X11, rfl, q572, rfl, rfl, rfl⟩
  · exact ⟨_, _, _, tyX12, rfl, tyX12_ok, gn_X12, in_X12, rfl, q572, rfl, rfl, rfl⟩
  · exact ⟨_, _, _, tyX13, rfl, tyX13_ok, gn_X13, in_X13, rfl, q572, rfl, rfl, rfl⟩
  · exact ⟨_, _, _, tyX14, rfl, tyX14_ok, gn_X14, in_X14, rfl, q572, rfl, rfl, rfl⟩
  · exact ⟨_, _, _, tyX15, rfl, tyX15_ok, gn_X15, in_X15, rfl, q572, rfl, rfl, rfl⟩
def wX8_init (Q : gH → Prop) (x0 : Nat) (x1 : Option Nat) (x2 : Option Nat) (x3 : Int32) (x4 : Int32) (x5 : Int32) (x6 : Int32) (σ : gH) : Prop := c_P σ [8, 9, 10, 11, 12, 13, 14, 15] x0 5 (va_rf x1) (fun σ_1 => c_P σ_1 [8, 9, 10, 11, 12, 13, 14, 15] x0 0 (va_rf x2) (fun σ_2 => c_P σ_2 [8, 9, 10, 11, 12, 13, 14, 15] x0 1 (.int x3) (fun σ_3 => c_P σ_3 [8, 9, 10, 11, 12, 13, 14, 15] x0 2 (.int x4) (fun σ_4 => c_P σ_4 [8, 9, 10, 11, 12, 13, 14, 15] x0 3 (.int x5) (fun σ_5 => c_P σ_5 [8, 9, 10, 11, 12, 13, 14, 15] x0 4 (.int x6) (fun σ_6 => Q σ_6))))))
set_option maxHeartbeats 4000000 in
theorem ctX8_init {Q : gH → Prop} {x0 : Nat} {x1 : Option Nat} {x2 : Option Nat} {x3 : Int32} {x4 : Int32} {x5 : Int32} {x6 : Int32} {σ : gH} (w : wX8_init Q x0 x1 x2 x3 x4 x5 x6 σ) : CT mX8_init 1 0 0 [.ref x0, va_rf x1, va_rf x2, .int x3, .int x4, .int x5, .int x6] σ (c_Kv Q) := by
  refine CT.of (lv := [(0, .ref x0), (1, va_rf x1), (2, va_rf x2), (3, .int x3), (4, .int x4), (5, .int x5), (6, .int x6)]) okX8_init.1 (by cases x1 <;> cases x2 <;> rfl) (by cases x1 <;> cases x2 <;> rfl) ?_
  unfold wX8_init at w
  refine e_aload_n (n := 1) dX8_init_0 rfl 0 rfl ?_
  refine e_aloadr_n (n := 2) (r := x1) dX8_init_1 rfl 1 rfl ?_
  refine e_cPF (n := 5) (ty := (.object "MendReader")) w ff_X8_init_this_0 rfl (rf_nar _ x1) dX8_init_2 rfl (fun σ_1 w => ?_)
  refine e_aload_n (n := 6) dX8_init_5 rfl 0 rfl ?_
  refine e_objInit (n := 9) q546 q99 q100 (by decide) (Nat.le_of_ble_eq_true rfl) dX8_init_6 rfl ?_
  refine e_aload_n (n := 10) dX8_init_9 rfl 0 rfl ?_
  refine e_aloadr_n (n := 11) (r := x2) dX8_init_10 rfl 2 rfl ?_
  refine e_cPF (n := 14) (ty := (.object "MendReader$Chart")) w ff_X8_init_chart rfl (rf_nar _ x2) dX8_init_11 rfl (fun σ_2 w => ?_)
  refine e_aload_n (n := 15) dX8_init_14 rfl 0 rfl ?_
  refine e_iload_n (n := 16) dX8_init_15 rfl 3 rfl ?_
  refine e_cPF (n := 19) (ty := .int) w ff_X8_init_place rfl ⟨rfl, rfl⟩ dX8_init_16 rfl (fun σ_3 w => ?_)
  refine e_aload_n (n := 20) dX8_init_19 rfl 0 rfl ?_
  refine e_iload (n := 22) dX8_init_20 rfl 4 rfl ?_
  refine e_cPF (n := 25) (ty := .int) w ff_X8_init_from rfl ⟨rfl, rfl⟩ dX8_init_22 rfl (fun σ_4 w => ?_)
  refine e_aload_n (n := 26) dX8_init_25 rfl 0 rfl ?_
  refine e_iload (n := 28) dX8_init_26 rfl 5 rfl ?_
  refine e_cPF (n := 31) (ty := .int) w ff_X8_init_to rfl ⟨rfl, rfl⟩ dX8_init_28 rfl (fun σ_5 w => ?_)
  refine e_aload_n (n := 32) dX8_init_31 rfl 0 rfl ?_
  refine e_iload (n := 34) dX8_init_32 rfl 6 rfl ?_
  refine e_cPF (n := 37) (ty := .int) w ff_X8_init_token rfl ⟨rfl, rfl⟩ dX8_init_34 rfl (fun σ_6 w => ?_)
  exact e_vret rfl (Nat.le_refl _) (Nat.le_refl _) ⟨rfl, w⟩ dX8_init_37
abbrev mX9_init : gM := (yX9_init, cX9_init, 7, none)
theorem okX9_init : g_ok mX9_init 6 := ⟨by decide +kernel, by decide +kernel, by decide +kernel, by decide +kernel, by decide⟩
theorem ff_X9_init_this_0 : ∀ ci ∈ [9, 10, 11, 12, 13, 14, 15], ∃ (C : String) (T : u_T) (N : Nat) (ty0 : Nat → FieldType), g_cl[ci]? = some (C, T, N) ∧ (∀ k, k < N → parseFieldDescriptor (T k).2.2.1 = some (ty0 k)) ∧ g_nm T N ∧ (∀ w ∈ u_ws C T N, w ∈ lw_all) ∧ Nat.ble (6 + 1) N = true ∧ Cond.fieldLink mX9_init.1.cls 1 (T 6).1 (T 6).2.1 (T 6).2.2.1 ∈ lw_all ∧ (T 6).2.2.2 = true ∧ (T 6).1 = mX9_init.1.cls ∧ ty0 6 = (.object "MendReader") := by
  intro ci h
  simp only [List.mem_cons, List.not_mem_nil, or_false] at h
  rcases h with rfl | rfl | rfl | rfl | rfl | rfl | rfl
  · exact ⟨_, _, _, tyX9, rfl, tyX9_ok, gn_X9, in_X9, rfl, q547, rfl, rfl, rfl⟩
  · exact ⟨_, _, _, tyX10, rfl, tyX10_ok, gn_X10, in_X10, rfl, q547, rfl, rfl, rfl⟩
  · exact ⟨_, _, _, tyX11, rfl, tyX11_ok, gn_X11, in_X11, rfl, q547, rfl, rfl, rfl⟩
  · exact ⟨_, _, _, tyX12, rfl, tyX12_ok, gn_X12, in_X12, rfl, q547, rfl, rfl, rfl⟩
  · exact ⟨_, _, _, tyX13, rfl, tyX13_ok, gn_X13, in_X13, rfl, q547, rfl, rfl, rfl⟩
  · exact ⟨_, _, _, tyX14, rfl, tyX14_ok, gn_X14, in_X14, rfl, q547, rfl, rfl, rfl⟩
  · exact ⟨_, _, _, tyX15, rfl, tyX15_ok, gn_X15, in_X15, rfl, q547, rfl, rfl, rfl⟩
def wX9_init (Q : gH → Prop) (x0 : Nat) (x1 : Option Nat) (x2 : Option Nat) (x3 : Int32) (x4 : Int32) (x5 : Int32) (x6 : Int32) (σ : gH) : Prop := c_P σ [9, 10, 11, 12, 13, 14, 15] x0 6 (va_rf x1) (fun σ_1 => wX8_init (fun (σ_2 : gH) => Q σ_2) x0 x1 x2 x3 x4 x5 x6 σ_1)
set_option maxHeartbeats 4000000 in
theorem ctX9_init {Q : gH → Prop} {x0 : Nat} {x1 : Option Nat} {x2 : Option Nat} {x3 : Int32} {x4 : Int32} {x5 : Int32} {x6 : Int32} {σ : gH} (w : wX9_init Q x0 x1 x2 x3 x4 x5 x6 σ) : CT mX9_init 2 0 0 [.ref x0, va_rf x1, va_rf x2, .int x3, .int x4, .int x5, .int x6] σ (c_Kv Q) := by
  refine CT.of (lv := [(0, .ref x0), (1, va_rf x1), (2, va_rf x2), (3, .int x3), (4, .int x4), (5, .int x5), (6, .int x6)]) okX9_init.1 (by cases x1 <;> cases x2 <;> rfl) (by cases x1 <;> cases x2 <;> rfl) ?_
  unfold wX9_init at w
  refine e_aload_n (n := 1) dX9_init_0 rfl 0 rfl ?_
  refine e_aloadr_n (n := 2) (r := x1) dX9_init_1 rfl 1 rfl ?_
  refine e_cPF (n := 5) (ty := (.object "MendReader")) w ff_X9_init_this_0 rfl (rf_nar _ x1) dX9_init_2 rfl (fun σ_1 w => ?_)
  refine e_aload_n (n := 6) dX9_init_5 rfl 0 rfl ?_
  refine e_aloadr_n (n := 7) (r := x1) dX9_init_6 rfl 1 rfl ?_
  refine e_aloadr_n (n := 8) (r := x2) dX9_init_7 rfl 2 rfl ?_
  refine e_iload_n (n := 9) dX9_init_8 rfl 3 rfl ?_
  refine e_iload (n := 11) dX9_init_9 rfl 4 rfl ?_
  refine e_iload (n := 13) dX9_init_11 rfl 5 rfl ?_
  refine e_iload (n := 15) dX9_init_13 rfl 6 rfl ?_
  refine e_callI (n := 18) (As := [va_rf x1, va_rf x2, .int x3, .int x4, .int x5, .int x6]) (st := []) okX8_init rfl rfl q543 q544 q74 q545 (by decide) (Nat.le_refl _) (Nat.le_refl _) rfl rfl (Nat.le_of_ble_eq_true rfl) dX9_init_15 rfl (ctX8_init w) (fun r9 σ_2 hk => ?_)
  obtain ⟨rfl, w⟩ := hk
  exact e_vret rfl (Nat.le_refl _) (Nat.le_refl _) ⟨rfl, w⟩ dX9_init_18
abbrev mX8_kind : gM := (yX8_kind, cX8_kind, 1, some .int)
theorem okX8_kind : g_ok mX8_kind 0 := ⟨by decide +kernel, by decide +kernel, by decide +kernel, by decide +kernel, by decide⟩
def wX8_kind (Q : Int32 → Prop) (σ : gH) (x0 : Nat) : Prop := Q 0
set_option maxHeartbeats 4000000 in
theorem ctX8_kind {Q : Int32 → Prop} {x0 : Nat} {σ : gH} (w : wX8_kind Q σ x0) : CT mX8_kind 1 0 0 [.ref x0] σ (g_Pi σ Q) := by
  refine CT.of (lv := [(0, .ref x0)]) okX8_kind.1 rfl rfl ?_
  unfold wX8_kind at w
  refine e_iconst (n := 1) (v := 0) dX8_kind_0 rfl (by decide) ?_
  exact e_iret rfl (Nat.le_refl _) (Nat.le_refl _) ⟨_, rfl, rfl, w⟩ dX8_kind_1
abbrev mX9_kind : gM := (yX9_kind, cX9_kind, 1, some .int)
theorem okX9_kind : g_ok mX9_kind 0 := ⟨by decide +kernel, by decide +kernel, by decide +kernel, by decide +kernel, by decide⟩
def wX9_kind (Q : Int32 → Prop) (σ : gH) (x0 : Nat) : Prop := ∃ (ci_2 : Nat) (fs_3 : List Value), ci_2 ∈ [9, 10, 11, 12, 13, 14, 15] ∧ σ.2 x0 = some (.inr (ci_2, fs_3)) ∧ (wX8_kind (fun (v_1 : Int32) => Q (v_1 + 1)) σ x0)
set_option maxHeartbeats 4000000 in
theorem ctX9_kind {Q : Int32 → Prop} {x0 : Nat} {σ : gH} (w : wX9_kind Q σ x0) : CT mX9_kind 2 0 0 [.ref x0] σ (g_Pi σ Q) := by
  refine CT.of (lv := [(0, .ref x0)]) okX9_kind.1 rfl rfl ?_
  unfold wX9_kind at w
  refine e_aload_n (n := 1) dX9_kind_0 rfl 0 rfl ?_
  obtain ⟨ci_2, fs_3, wl, wo, w⟩ := w
  obtain ⟨Cq, Tq, Nq, hcq⟩ := g_clS bs_X9 wl
  refine e_callSU (n := 4) (As := []) (st := []) okX8_kind q614 q606 q594 q604 q74 q641 (by decide) wo hcq (by decide) (Nat.le_refl _) (Nat.le_refl _) rfl rfl rfl dX9_kind_1 rfl (ctX8_kind w) (fun r9 σ9 hk => ?_)
  obtain ⟨v_1, rfl, hs9, w⟩ := hk
  rw [hs9]
  refine e_iconst (n := 5) (v := 1) dX9_kind_4 rfl (by decide) ?_
  refine e_iadd (n := 6) dX9_kind_5 rfl ?_
  exact e_iret rfl (Nat.le_refl _) (Nat.le_refl _) ⟨_, rfl, rfl, w⟩ dX9_kind_6
abbrev mX10_kind : gM := (yX10_kind, cX10_kind, 1, some .int)
theorem okX10_kind : g_ok mX10_kind 0 := ⟨by decide +kernel, by decide +kernel, by decide +kernel, by decide +kernel, by decide⟩
def wX10_kind (Q : Int32 → Prop) (σ : gH) (x0 : Nat) : Prop := ∃ (ci_2 : Nat) (fs_3 : List Value), ci_2 ∈ [10, 11, 14, 15] ∧ σ.2 x0 = some (.inr (ci_2, fs_3)) ∧ (wX9_kind (fun (v_1 : Int32) => Q (v_1 + 1)) σ x0)
set_option maxHeartbeats 4000000 in
theorem ctX10_kind {Q : Int32 → Prop} {x0 : Nat} {σ : gH} (w : wX10_kind Q σ x0) : CT mX10_kind 3 0 0 [.ref x0] σ (g_Pi σ Q) := by
  refine CT.of (lv := [(0, .ref x0)]) okX10_kind.1 rfl rfl ?_
  unfold wX10_kind at w
  refine e_aload_n (n := 1) dX10_kind_0 rfl 0 rfl ?_
  obtain ⟨ci_2, fs_3, wl, wo, w⟩ := w
  obtain ⟨Cq, Tq, Nq, hcq⟩ := g_clS bs_X10 wl
  refine e_callSU (n := 4) (As := []) (st := []) okX9_kind q619 q1755 q620 q612 q75 q613 (by decide) wo hcq (by decide) (Nat.le_refl _) (Nat.le_refl _) rfl rfl rfl dX10_kind_1 rfl (ctX9_kind w) (fun r9 σ9 hk => ?_)
  obtain ⟨v_1, rfl, hs9, w⟩ := hk
  rw [hs9]
  refine e_iconst (n := 5) (v := 1) dX10_kind_4 rfl (by decide) ?_
  refine e_iadd (n := 6) dX10_kind_5 rfl ?_
  exact e_iret rfl (Nat.le_refl _) (Nat.le_refl _) ⟨_, rfl, rfl, w⟩ dX10_kind_6
abbrev mX11_kind : gM := (yX11_kind, cX11_kind, 1, some .int)
theorem okX11_kind : g_ok mX11_kind 0 := ⟨by decide +kernel, by decide +kernel, by decide +kernel, by decide +kernel, by decide⟩
def wX11_kind (Q : Int32 → Prop) (σ : gH) (x0 : Nat) : Prop := ∃ (ci_2 : Nat) (fs_3 : List Value), ci_2 ∈ [11, 15] ∧ σ.2 x0 = some (.inr (ci_2, fs_3)) ∧ (wX10_kind (fun (v_1 : Int32) => Q (v_1 + 2)) σ x0)
set_option maxHeartbeats 4000000 in
theorem ctX11_kind {Q : Int32 → Prop} {x0 : Nat} {σ : gH} (w : wX11_kind Q σ x0) : CT mX11_kind 4 0 0 [.ref x0] σ (g_Pi σ Q) := by
  refine CT.of (lv := [(0, .ref x0)]) okX11_kind.1 rfl rfl ?_
  unfold wX11_kind at w
  refine e_aload_n (n := 1) dX11_kind_0 rfl 0 rfl ?_
  obtain ⟨ci_2, fs_3, wl, wo, w⟩ := w
  obtain ⟨Cq, Tq, Nq, hcq⟩ := g_clS bs_X11 wl
  refine e_callSU (n := 4) (As := []) (st := []) okX10_kind q628 q1757 q629 q617 q76 q618 (by decide) wo hcq (by decide) (Nat.le_refl _) (Nat.le_refl _) rfl rfl rfl dX11_kind_1 rfl (ctX10_kind w) (fun r9 σ9 hk => ?_)
  obtain ⟨v_1, rfl, hs9, w⟩ := hk
  rw [hs9]
  refine e_iconst (n := 5) (v := 2) dX11_kind_4 rfl (by decide) ?_
  refine e_iadd (n := 6) dX11_kind_5 rfl ?_
  exact e_iret rfl (Nat.le_refl _) (Nat.le_refl _) ⟨_, rfl, rfl, w⟩ dX11_kind_6
abbrev mX12_kind : gM := (yX12_kind, cX12_kind, 1, some .int)
theorem okX12_kind : g_ok mX12_kind 0 := ⟨by decide +kernel, by decide +kernel, by decide +kernel, by decide +kernel, by decide⟩
def wX12_kind (Q : Int32 → Prop) (σ : gH) (x0 : Nat) : Prop := ∃ (ci_2 : Nat) (fs_3 : List Value), ci_2 ∈ [12, 13] ∧ σ.2 x0 = some (.inr (ci_2, fs_3)) ∧ (wX9_kind (fun (v_1 : Int32) => Q (v_1 + 5)) σ x0)
set_option maxHeartbeats 4000000 in
theorem ctX12_kind {Q : Int32 → Prop} {x0 : Nat} {σ : gH} (w : wX12_kind Q σ x0) : CT mX12_kind 3 0 0 [.ref x0] σ (g_Pi σ Q) := by
  refine CT.of (lv := [(0, .ref x0)]) okX12_kind.1 rfl rfl ?_
  unfold wX12_kind at w
  refine e_aload_n (n := 1) dX12_kind_0 rfl 0 rfl ?_
  obtain ⟨ci_2, fs_3, wl, wo, w⟩ := w
  obtain ⟨Cq, Tq, Nq, hcq⟩ := g_clS bs_X12 wl
  refine e_callSU (n := 4) (As := []) (st := []) okX9_kind q610 q1755 q611 q612 q75 q613 (by decide) wo hcq (by decide) (Nat.le_refl _) (Nat.le_refl _) rfl rfl rfl dX12_kind_1 rfl (ctX9_kind w) (fun r9 σ9 hk => ?_)
  obtain ⟨v_1, rfl, hs9, w⟩ := hk
  rw [hs9]
  refine e_iconst (n := 5) (v := 5) dX12_kind_4 rfl (by decide) ?_
  refine e_iadd (n := 6) dX12_kind_5 rfl ?_
  exact e_iret rfl (Nat.le_refl _) (Nat.le_refl _) ⟨_, rfl, rfl, w⟩ dX12_kind_6
abbrev mX13_kind : gM := (yX13_kind, cX13_kind, 1, some .int)
theorem okX13_kind : g_ok mX13_kind 0 := ⟨by decide +kernel, by decide +kernel, by decide +kernel, by decide +kernel, by decide⟩
def wX13_kind (Q : Int32 → Prop) (σ : gH) (x0 : Nat) : Prop := ∃ (ci_2 : Nat) (fs_3 : List Value), ci_2 ∈ [13] ∧ σ.2 x0 = some (.inr (ci_2, fs_3)) ∧ (wX12_kind (fun (v_1 : Int32) => Q (v_1 + 1)) σ x0)
set_option maxHeartbeats 4000000 in
theorem ctX13_kind {Q : Int32 → Prop} {x0 : Nat} {σ : gH} (w : wX13_kind Q σ x0) : CT mX13_kind 4 0 0 [.ref x0] σ (g_Pi σ Q) := by
  refine CT.of (lv := [(0, .ref x0)]) okX13_kind.1 rfl rfl ?_
  unfold wX13_kind at w
  refine e_aload_n (n := 1) dX13_kind_0 rfl 0 rfl ?_
  obtain ⟨ci_2, fs_3, wl, wo, w⟩ := w
  obtain ⟨Cq, Tq, Nq, hcq⟩ := g_clS bs_X13 wl
  refine e_callSU (n := 4) (As := []) (st := []) okX12_kind q633 q1758 q634 q608 q78 q609 (by decide) wo hcq (by decide) (Nat.le_refl _) (Nat.le_refl _) rfl rfl rfl dX13_kind_1 rfl (ctX12_kind w) (fun r9 σ9 hk => ?_)
  obtain ⟨v_1, rfl, hs9, w⟩ := hk
  rw [hs9]
  refine e_iconst (n := 5) (v := 1) dX13_kind_4 rfl (by decide) ?_
  refine e_iadd (n := 6) dX13_kind_5 rfl ?_
  exact e_iret rfl (Nat.le_refl _) (Nat.le_refl _) ⟨_, rfl, rfl, w⟩ dX13_kind_6
abbrev mX14_kind : gM := (yX14_kind, cX14_kind, 1, some .int)
theorem okX14_kind : g_ok mX14_kind 0 := ⟨by decide +kernel, by decide +kernel, by decide +kernel, by decide +kernel, by decide⟩
def wX14_kind (Q : Int32 → Prop) (σ : gH) (x0 : Nat) : Prop := ∃ (ci_2 : Nat) (fs_3 : List Value), ci_2 ∈ [14] ∧ σ.2 x0 = some (.inr (ci_2, fs_3)) ∧ (wX10_kind (fun (v_1 : Int32) => Q (v_1 + 1)) σ x0)
set_option maxHeartbeats 4000000 in
theorem ctX14_kind {Q : Int32 → Prop} {x0 : Nat} {σ : gH} (w : wX14_kind Q σ x0) : CT mX14_kind 4 0 0 [.ref x0] σ (g_Pi σ Q) := by
  refine CT.of (lv := [(0, .ref x0)]) okX14_kind.1 rfl rfl ?_
  unfold wX14_kind at w
  refine e_aload_n (n := 1) dX14_kind_0 rfl 0 rfl ?_
  obtain ⟨ci_2, fs_3, wl, wo, w⟩ := w
  obtain ⟨Cq, Tq, Nq, hcq⟩ := g_clS bs_X14 wl
  refine e_callSU (n := 4) (As := []) (st := []) okX10_kind q639 q1757 q640 q617 q76 q618 (by decide) wo hcq (by decide) (Nat.le_refl _) (Nat.le_refl _) rfl rfl rfl dX14_kind_1 rfl (ctX10_kind w) (fun r9 σ9 hk => ?_)
  obtain ⟨v_1, rfl, hs9, w⟩ := hk
  rw [hs9]
  refine e_iconst (n := 5) (v := 1) dX14_kind_4 rfl (by decide) ?_
  refine e_iadd (n := 6) dX14_kind_5 rfl ?_
  exact e_iret rfl (Nat.le_refl _) (Nat.le_refl _) ⟨_, rfl, rfl, w⟩ dX14_kind_6
abbrev mX15_kind : gM := (yX15_kind, cX15_kind, 1, some .int)
theorem okX15_kind : g_ok mX15_kind 0 := ⟨by decide +kernel, by decide +kernel, by decide +kernel, by decide +kernel, by decide⟩
def wX15_kind (Q : Int32 → Prop) (σ : gH) (x0 : Nat) : Prop := ∃ (ci_2 : Nat) (fs_3 : List Value), ci_2 ∈ [15] ∧ σ.2 x0 = some (.inr (ci_2, fs_3)) ∧ (wX11_kind (fun (v_1 : Int32) => Q (v_1 + 1)) σ x0)
set_option maxHeartbeats 4000000 in
theorem ctX15_kind {Q : Int32 → Prop} {x0 : Nat} {σ : gH} (w : wX15_kind Q σ x0) : CT mX15_kind 5 0 0 [.ref x0] σ (g_Pi σ Q) := by
  refine CT.of (lv := [(0, .ref x0)]) okX15_kind.1 rfl rfl ?_
  unfold wX15_kind at w
  refine e_aload_n (n := 1) dX15_kind_0 rfl 0 rfl ?_
  obtain ⟨ci_2, fs_3, wl, wo, w⟩ := w
  obtain ⟨Cq, Tq, Nq, hcq⟩ := g_clS bs_X15 wl
  refine e_callSU (n := 4) (As := []) (st := []) okX11_kind q624 q1756 q625 q626 q77 q627 (by decide) wo hcq (by decide) (Nat.le_refl _) (Nat.le_refl _) rfl rfl rfl dX15_kind_1 rfl (ctX11_kind w) (fun r9 σ9 hk => ?_)
  obtain ⟨v_1, rfl, hs9, w⟩ := hk
  rw [hs9]
  refine e_iconst (n := 5) (v := 1) dX15_kind_4 rfl (by decide) ?_
  refine e_iadd (n := 6) dX15_kind_5 rfl ?_
  exact e_iret rfl (Nat.le_refl _) (Nat.le_refl _) ⟨_, rfl, rfl, w⟩ dX15_kind_6
abbrev mX8_touchesFence : gM := (yX8_touchesFence, cX8_touchesFence, 1, some .boolean)
theorem okX8_touchesFence : g_ok mX8_touchesFence 0 := ⟨by decide +kernel, by decide +kernel, by decide +kernel, by decide +kernel, by decide⟩
def wX8_touchesFence (Q : Int32 → Prop) (σ : gH) (x0 : Nat) : Prop := Q 0
set_option maxHeartbeats 4000000 in
theorem ctX8_touchesFence {Q : Int32 → Prop} {x0 : Nat} {σ : gH} (w : wX8_touchesFence Q σ x0) : CT mX8_touchesFence 1 0 0 [.ref x0] σ (g_Pi σ Q) := by
  refine CT.of (lv := [(0, .ref x0)]) okX8_touchesFence.1 rfl rfl ?_
  unfold wX8_touchesFence at w
  refine e_iconst (n := 1) (v := 0) dX8_touchesFence_0 rfl (by decide) ?_
  exact e_zret rfl rfl (Nat.le_refl _) (Nat.le_refl _) ⟨_, rfl, rfl, w⟩ dX8_touchesFence_1
abbrev mX9_touchesFence : gM := (yX9_touchesFence, cX9_touchesFence, 1, some .boolean)
theorem okX9_touchesFence : g_ok mX9_touchesFence 0 := ⟨by decide +kernel, by decide +kernel, by decide +kernel, by decide +kernel, by decide⟩
def wX9_touchesFence (Q : Int32 → Prop) (σ : gH) (x0 : Nat) : Prop := c_R σ [9, 10, 11, 12, 13, 14, 15] x0 6 (fun r_1 => ∃ a_2 : Nat, r_1 = some a_2 ∧ (c_R σ [0] a_2 1 (fun r_3 => c_I σ [8, 9, 10, 11, 12, 13, 14, 15] x0 4 (fun v_4 => ∃ a_5 : Nat, r_3 = some a_5 ∧ (c_aZ σ a_5 v_4 (fun v_6 => t_b v_6 ∧ Q v_6))))))
set_option maxHeartbeats 4000000 in
theorem ctX9_touchesFence {Q : Int32 → Prop} {x0 : Nat} {σ : gH} (w : wX9_touchesFence Q σ x0) : CT mX9_touchesFence 1 0 0 [.ref x0] σ (g_Pi σ Q) := by
  refine CT.of (lv := [(0, .ref x0)]) okX9_touchesFence.1 rfl rfl ?_
  unfold wX9_touchesFence at w
  refine e_aload_n (n := 1) dX9_touchesFence_0 rfl 0 rfl ?_
  refine e_cR (n := 4) w fw_X9_this_0 (gl_o q547) dX9_touchesFence_1 rfl (fun r_1 w => ?_)
  obtain ⟨a_2, ha_2, w9a_2⟩ := w
  subst ha_2
  have w := w9a_2
  refine e_cR (n := 7) w fw_X0_isFence (gl_n q170) dX9_touchesFence_4 rfl (fun r_3 w => ?_)
  refine e_aload_n (n := 8) dX9_touchesFence_7 rfl 0 rfl ?_
  refine e_cI (n := 11) w fw_X8_token (gl_s q575 q576) dX9_touchesFence_8 rfl (fun v_4 w => ?_)
  obtain ⟨a_5, ha_5, w9a_5⟩ := w
  subst ha_5
  have w := w9a_5
  refine e_caZ (n := 12) w dX9_touchesFence_11 rfl (fun v_6 w => ?_)
  exact e_zret rfl w.1.nar (Nat.le_refl _) (Nat.le_refl _) ⟨_, rfl, rfl, w.2⟩ dX9_touchesFence_12
abbrev mX10_touchesFence : gM := (yX10_touchesFence, cX10_touchesFence, 1, some .boolean)
theorem okX10_touchesFence : g_ok mX10_touchesFence 0 := ⟨by decide +kernel, by decide +kernel, by decide +kernel, by decide +kernel, by decide⟩
def wX10_touchesFence_30 (Q : Int32 → Prop) (σ : gH)   : Prop := Q 1
def wX10_touchesFence (Q : Int32 → Prop) (σ : gH) (x0 : Nat) : Prop := ∃ (ci_13 : Nat) (fs_14 : List Value), ci_13 ∈ [10, 11, 14, 15] ∧ σ.2 x0 = some (.inr (ci_13, fs_14)) ∧ (wX9_touchesFence (fun (v_1 : Int32) => (v_1 = 0 → (c_R σ [10, 11, 14, 15] x0 7 (fun r_2 => ∃ a_3 : Nat, r_2 = some a_3 ∧ (c_R σ [0] a_3 1 (fun r_4 => c_R σ [8, 9, 10, 11, 12, 13, 14, 15] x0 0 (fun r_5 => ∃ a_6 : Nat, r_5 = some a_6 ∧ (c_R σ [7] a_6 0 (fun r_7 => c_I σ [8, 9, 10, 11, 12, 13, 14, 15] x0 1 (fun v_8 => ∃ a_9 : Nat, r_7 = some a_9 ∧ (c_aI σ a_9 v_8 (fun v_10 => ∃ a_11 : Nat, r_4 = some a_11 ∧ (c_aZ σ a_11 v_10 (fun v_12 => (v_12 = 0 → (Q 0)) ∧ (¬ v_12 = 0 → (wX10_touchesFence_30 Q σ))))))))))))))) ∧ (¬ v_1 = 0 → (wX10_touchesFence_30 Q σ))) σ x0)
set_option maxHeartbeats 4000000 in
theorem hX10_touchesFence_30 {Q : Int32 → Prop} {σ : gH}   (w : wX10_touchesFence_30 Q σ) : E mX10_touchesFence 2 0 0 (g_z (g_Pi σ Q)) 0 0 30 [] [] σ := by
  unfold wX10_touchesFence_30 at w
  refine e_iconst (n := 31) (v := 1) dX10_touchesFence_30 rfl (by decide) ?_
  refine e_goto (n := 35) dX10_touchesFence_31 (by decide) ?_
  exact e_zret rfl rfl (Nat.le_refl _) (Nat.le_refl _) ⟨_, rfl, rfl, w⟩ dX10_touchesFence_35
set_option maxHeartbeats 4000000 in
theorem ctX10_touchesFence {Q : Int32 → Prop} {x0 : Nat} {σ : gH} (w : wX10_touchesFence Q σ x0) : CT mX10_touchesFence 2 0 0 [.ref x0] σ (g_Pi σ Q) := by
  refine CT.of (lv := [(0, .ref x0)]) okX10_touchesFence.1 rfl rfl ?_
  unfold wX10_touchesFence at w
  refine e_aload_n (n := 1) dX10_touchesFence_0 rfl 0 rfl ?_
  obtain ⟨ci_13, fs_14, wl, wo, w⟩ := w
  obtain ⟨Cq, Tq, Nq, hcq⟩ := g_clS bs_X10 wl
  refine e_callSU (n := 4) (As := []) (st := []) okX9_touchesFence q653 q1759 q620 q647 q75 q648 (by decide) wo hcq (by decide) (Nat.le_refl _) (Nat.le_refl _) rfl rfl rfl dX10_touchesFence_1 rfl (ctX9_touchesFence w) (fun r9 σ9 hk => ?_)
  obtain ⟨v_1, rfl, hs9, w⟩ := hk
  rw [hs9]
  refine e_if_ne (n := 7) (tgt := 30) dX10_touchesFence_4 rfl (by decide) (fun h => ?_) (fun h => ?_)
  · have w := w.2 h
    refine e_sub (lv' := []) [] rfl ?_
    exact hX10_touchesFence_30  w
  · have w := w.1 h
    refine e_aload_n (n := 8) dX10_touchesFence_7 rfl 0 rfl ?_
    refine e_cR (n := 11) w fw_X10_this_0 (gl_o q762) dX10_touchesFence_8 rfl (fun r_2 w => ?_)
    obtain ⟨a_3, ha_3, w9a_3⟩ := w
    subst ha_3
    have w := w9a_3
    refine e_cR (n := 14) w fw_X0_isFence (gl_n q171) dX10_touchesFence_11 rfl (fun r_4 w => ?_)
    refine e_aload_n (n := 15) dX10_touchesFence_14 rfl 0 rfl ?_
    refine e_cR (n := 18) w fw_X8_chart (gl_s q551 q552) dX10_touchesFence_15 rfl (fun r_5 w => ?_)
    obtain ⟨a_6, ha_6, w9a_6⟩ := w
    subst ha_6
    have w := w9a_6
    refine e_cR (n := 21) w fw_X7_text (gl_n q920) dX10_touchesFence_18 rfl (fun r_7 w => ?_)
    refine e_aload_n (n := 22) dX10_touchesFence_21 rfl 0 rfl ?_
    refine e_cI (n := 25) w fw_X8_place (gl_s q559 q560) dX10_touchesFence_22 rfl (fun v_8 w => ?_)
    obtain ⟨a_9, ha_9, w9a_9⟩ := w
    subst ha_9
    have w := w9a_9
    refine e_caI (n := 26) w dX10_touchesFence_25 rfl (fun v_10 w => ?_)
    obtain ⟨a_11, ha_11, w9a_11⟩ := w
    subst ha_11
    have w := w9a_11
    refine e_caZ (n := 27) w dX10_touchesFence_26 rfl (fun v_12 w => ?_)
    refine e_if_eq (n := 30) (tgt := 34) dX10_touchesFence_27 rfl (by decide) (fun h => ?_) (fun h => ?_)
    · have w := w.1 h
      refine e_iconst (n := 35) (v := 0) dX10_touchesFence_34 rfl (by decide) ?_
      exact e_zret rfl rfl (Nat.le_refl _) (Nat.le_refl _) ⟨_, rfl, rfl, w⟩ dX10_touchesFence_35
    · have w := w.2 h
      refine e_sub (lv' := []) [] rfl ?_
      exact hX10_touchesFence_30  w
abbrev mX11_second : gM := (yX11_second, cX11_second, 1, some .int)
theorem okX11_second : g_ok mX11_second 0 := ⟨by decide +kernel, by decide +kernel, by decide +kernel, by decide +kernel, by decide⟩
def wX11_second (Q : Int32 → Prop) (σ : gH) (x0 : Nat) : Prop := c_R σ [11, 15] x0 8 (fun r_1 => ∃ a_2 : Nat, r_1 = some a_2 ∧ (c_I σ [5] a_2 1 (fun v_3 => Q v_3)))
set_option maxHeartbeats 4000000 in
theorem ctX11_second {Q : Int32 → Prop} {x0 : Nat} {σ : gH} (w : wX11_second Q σ x0) : CT mX11_second 1 0 0 [.ref x0] σ (g_Pi σ Q) := by
  refine CT.of (lv := [(0, .ref x0)]) okX11_second.1 rfl rfl ?_
  unfold wX11_second at w
  refine e_aload_n (n := 1) dX11_second_0 rfl 0 rfl ?_
  refine e_cR (n := 4) w fw_X11_form (gl_o q778) dX11_second_1 rfl (fun r_1 w => ?_)
  obtain ⟨a_2, ha_2, w9a_2⟩ := w
  subst ha_2
  have w := w9a_2
  refine e_cI (n := 7) w fw_X5_b (gl_n q450) dX11_second_4 rfl (fun v_3 w => ?_)
  exact e_iret rfl (Nat.le_refl _) (Nat.le_refl _) ⟨_, rfl, rfl, w⟩ dX11_second_7
abbrev mX15_second : gM := (yX15_second, cX15_second, 1, some .int)
theorem okX15_second : g_ok mX15_second 0 := ⟨by decide +kernel, by decide +kernel, by decide +kernel, by decide +kernel, by decide⟩
def wX15_second (Q : Int32 → Prop) (σ : gH) (x0 : Nat) : Prop := c_R σ [8, 9, 10, 11, 12, 13, 14, 15] x0 0 (fun r_1 => ∃ a_2 : Nat, r_1 = some a_2 ∧ (c_R σ [7] a_2 0 (fun r_3 => c_I σ [8, 9, 10, 11, 12, 13, 14, 15] x0 1 (fun v_4 => ∃ a_5 : Nat, r_3 = some a_5 ∧ (c_aI σ a_5 (v_4 + 1) (fun v_6 => Q v_6))))))
set_option maxHeartbeats 4000000 in
theorem ctX15_second {Q : Int32 → Prop} {x0 : Nat} {σ : gH} (w : wX15_second Q σ x0) : CT mX15_second 1 0 0 [.ref x0] σ (g_Pi σ Q) := by
  refine CT.of (lv := [(0, .ref x0)]) okX15_second.1 rfl rfl ?_
  unfold wX15_second at w
  refine e_aload_n (n := 1) dX15_second_0 rfl 0 rfl ?_
  refine e_cR (n := 4) w fw_X8_chart (gl_s q549 q550) dX15_second_1 rfl (fun r_1 w => ?_)
  obtain ⟨a_2, ha_2, w9a_2⟩ := w
  subst ha_2
  have w := w9a_2
  refine e_cR (n := 7) w fw_X7_text (gl_n q919) dX15_second_4 rfl (fun r_3 w => ?_)
  refine e_aload_n (n := 8) dX15_second_7 rfl 0 rfl ?_
  refine e_cI (n := 11) w fw_X8_place (gl_s q556 q557) dX15_second_8 rfl (fun v_4 w => ?_)
  refine e_iconst (n := 12) (v := 1) dX15_second_11 rfl (by decide) ?_
  refine e_iadd (n := 13) dX15_second_12 rfl ?_
  obtain ⟨a_5, ha_5, w9a_5⟩ := w
  subst ha_5
  have w := w9a_5
  refine e_caI (n := 14) w dX15_second_13 rfl (fun v_6 w => ?_)
  exact e_iret rfl (Nat.le_refl _) (Nat.le_refl _) ⟨_, rfl, rfl, w⟩ dX15_second_14
def vX11_second (σ : gH) (Q : Int32 → Prop) (a : Nat) : Prop := ∃ (ci : Nat) (fs : List Value), σ.2 a = some (.inr (ci, fs)) ∧ ((ci = 11 ∧ wX11_second Q σ a) ∨ (ci = 15 ∧ wX15_second Q σ a))
set_option maxHeartbeats 4000000 in
theorem evX11_second {M : gM} {d mc ms uc us pc n idx : Nat} {K : gZ} {lv : List (Nat × Value)} {st : List Value} {σ : gH} {Q : Int32 → Prop} {a : Nat} (w : vX11_second σ Q a) (hdep : 2 ≤ d) (hu1 : uc ≤ mc) (hu2 : us ≤ ms) (h1 : Cond.methodLink M.1.cls idx ⟨"MendReader$Stuck", "second", "()I"⟩ ∈ lw_all) (hroom : Nat.ble (st.map fun v => v.category).sum 8 = true) (hd : decode M.2.1 pc = .ok (.invokevirtual idx, 3)) (hp : pc + 3 = n) (kk : ∀ r, Q r → E M d mc ms K uc us n lv (.int r :: st) σ) : E M d mc ms K uc us pc lv (.ref a :: st) σ := by
  obtain ⟨ci, fs, wo, w⟩ := w
  rcases w with ⟨rfl, w⟩ | ⟨rfl, w⟩
  · refine e_callO (n := n) (As := []) (st := st) (x := ⟨"MendReader$Stuck", "second", "()I"⟩) okX11_second h1 q661 q659 q660 q659 q77 q665 q665 rfl (by decide) wo rfl (d' := 1) (by omega) hu1 hu2 rfl rfl hroom hd hp (ctX11_second w) (fun r9 σ9 hk => ?_)
    obtain ⟨r, rfl, hs9, w9⟩ := hk
    rw [hs9]
    exact kk r w9
  · refine e_callO (n := n) (As := []) (st := st) (x := ⟨"MendReader$Stuck", "second", "()I"⟩) okX15_second h1 q661 q659 q662 q663 q81 q664 q665 rfl (by decide) wo rfl (d' := 1) (by omega) hu1 hu2 rfl rfl hroom hd hp (ctX15_second w) (fun r9 σ9 hk => ?_)
    obtain ⟨r, rfl, hs9, w9⟩ := hk
    rw [hs9]
    exact kk r w9
abbrev mX11_touchesFence : gM := (yX11_touchesFence, cX11_touchesFence, 1, some .boolean)
theorem okX11_touchesFence : g_ok mX11_touchesFence 0 := ⟨by decide +kernel, by decide +kernel, by decide +kernel, by decide +kernel, by decide⟩
def wX11_touchesFence_22 (Q : Int32 → Prop) (σ : gH)   : Prop := Q 1
def wX11_touchesFence (Q : Int32 → Prop) (σ : gH) (x0 : Nat) : Prop := ∃ (ci_8 : Nat) (fs_9 : List Value), ci_8 ∈ [11, 15] ∧ σ.2 x0 = some (.inr (ci_8, fs_9)) ∧ (wX10_touchesFence (fun (v_1 : Int32) => (v_1 = 0 → (c_R σ [11, 15] x0 10 (fun r_2 => ∃ a_3 : Nat, r_2 = some a_3 ∧ (c_R σ [0] a_3 1 (fun r_4 => vX11_second σ (fun (v_5 : Int32) => ∃ a_6 : Nat, r_4 = some a_6 ∧ (c_aZ σ a_6 v_5 (fun v_7 => (v_7 = 0 → (Q 0)) ∧ (¬ v_7 = 0 → (wX11_touchesFence_22 Q σ))))) x0))))) ∧ (¬ v_1 = 0 → (wX11_touchesFence_22 Q σ))) σ x0)
set_option maxHeartbeats 4000000 in
theorem hX11_touchesFence_22 {Q : Int32 → Prop} {σ : gH}   (w : wX11_touchesFence_22 Q σ) : E mX11_touchesFence 3 0 0 (g_z (g_Pi σ Q)) 0 0 22 [] [] σ := by
  unfold wX11_touchesFence_22 at w
  refine e_iconst (n := 23) (v := 1) dX11_touchesFence_22 rfl (by decide) ?_
  refine e_goto (n := 27) dX11_touchesFence_23 (by decide) ?_
  exact e_zret rfl rfl (Nat.le_refl _) (Nat.le_refl _) ⟨_, rfl, rfl, w⟩ dX11_touchesFence_27
set_option maxHeartbeats 4000000 in
theorem ctX11_touchesFence {Q : Int32 → Prop} {x0 : Nat} {σ : gH} (w : wX11_touchesFence Q σ x0) : CT mX11_touchesFence 3 0 0 [.ref x0] σ (g_Pi σ Q) := by
  refine CT.of (lv := [(0, .ref x0)]) okX11_touchesFence.1 rfl rfl ?_
  unfold wX11_touchesFence at w
  refine e_aload_n (n := 1) dX11_touchesFence_0 rfl 0 rfl ?_
  obtain ⟨ci_8, fs_9, wl, wo, w⟩ := w
  obtain ⟨Cq, Tq, Nq, hcq⟩ := g_clS bs_X11 wl
  refine e_callSU (n := 4) (As := []) (st := []) okX10_touchesFence q657 q1760 q629 q651 q76 q652 (by decide) wo hcq (by decide) (Nat.le_refl _) (Nat.le_refl _) rfl rfl rfl dX11_touchesFence_1 rfl (ctX10_touchesFence w) (fun r9 σ9 hk => ?_)
  obtain ⟨v_1, rfl, hs9, w⟩ := hk
  rw [hs9]
  refine e_if_ne (n := 7) (tgt := 22) dX11_touchesFence_4 rfl (by decide) (fun h => ?_) (fun h => ?_)
  · have w := w.2 h
    refine e_sub (lv' := []) [] rfl ?_
    exact hX11_touchesFence_22  w
  · have w := w.1 h
    refine e_aload_n (n := 8) dX11_touchesFence_7 rfl 0 rfl ?_
    refine e_cR (n := 11) w fw_X11_this_0 (gl_o q780) dX11_touchesFence_8 rfl (fun r_2 w => ?_)
    obtain ⟨a_3, ha_3, w9a_3⟩ := w
    subst ha_3
    have w := w9a_3
    refine e_cR (n := 14) w fw_X0_isFence (gl_n q173) dX11_touchesFence_11 rfl (fun r_4 w => ?_)
    refine e_aload_n (n := 15) dX11_touchesFence_14 rfl 0 rfl ?_
    refine evX11_second (n := 18) (st := [va_rf r_4]) w (by decide) (Nat.le_refl _) (Nat.le_refl _) q658 (by cases r_4 <;> rfl) dX11_touchesFence_15 rfl (fun v_5 w => ?_)
    obtain ⟨a_6, ha_6, w9a_6⟩ := w
    subst ha_6
    have w := w9a_6
    refine e_caZ (n := 19) w dX11_touchesFence_18 rfl (fun v_7 w => ?_)
    refine e_if_eq (n := 22) (tgt := 26) dX11_touchesFence_19 rfl (by decide) (fun h => ?_) (fun h => ?_)
    · have w := w.1 h
      refine e_iconst (n := 27) (v := 0) dX11_touchesFence_26 rfl (by decide) ?_
      exact e_zret rfl rfl (Nat.le_refl _) (Nat.le_refl _) ⟨_, rfl, rfl, w⟩ dX11_touchesFence_27
    · have w := w.2 h
      refine e_sub (lv' := []) [] rfl ?_
      exact hX11_touchesFence_22  w
abbrev mX13_touchesFence : gM := (yX13_touchesFence, cX13_touchesFence, 3, some .boolean)
theorem okX13_touchesFence : g_ok mX13_touchesFence 0 := ⟨by decide +kernel, by decide +kernel, by decide +kernel, by decide +kernel, by decide⟩
def wX13_touchesFence_7 (Q : Int32 → Prop) (σ : gH) (k46 : Int32 → Prop) : Nat → Nat → Int32 → Int32 → Prop
  | 0 => fun _ _ _ => False
  | n + 1 => fun x0 x1 x2 => c_I σ [13] x0 8 (fun v_3 => (v_3 ≤ x2 → (k46 x1)) ∧ (¬ v_3 ≤ x2 → (c_R σ [13] x0 9 (fun r_4 => ∃ a_5 : Nat, r_4 = some a_5 ∧ (c_R σ [0] a_5 1 (fun r_6 => c_R σ [8, 9, 10, 11, 12, 13, 14, 15] x0 0 (fun r_7 => ∃ a_8 : Nat, r_7 = some a_8 ∧ (c_R σ [7] a_8 0 (fun r_9 => c_I σ [8, 9, 10, 11, 12, 13, 14, 15] x0 1 (fun v_10 => ∃ a_11 : Nat, r_9 = some a_11 ∧ (c_aI σ a_11 (v_10 + x2) (fun v_12 => ∃ a_13 : Nat, r_6 = some a_13 ∧ (c_aZ σ a_13 v_12 (fun v_14 => ∀ x1_15 : Int32, x1_15 = x1 ||| v_14 → (∀ x2_16 : Int32, x2_16 = x2 + 1 → (wX13_touchesFence_7 Q σ k46 n x0 x1_15 x2_16))))))))))))))))
def wX13_touchesFence (Q : Int32 → Prop) (σ : gH) (x0 : Nat) : Prop := ∃ (ci_17 : Nat) (fs_18 : List Value), ci_17 ∈ [13] ∧ σ.2 x0 = some (.inr (ci_17, fs_18)) ∧ (wX9_touchesFence (fun (v_1 : Int32) => ∃ fu : Nat, wX13_touchesFence_7 Q σ (fun (x1_2 : Int32) => t_b x1_2 ∧ Q x1_2) fu x0 v_1 1) σ x0)
set_option maxHeartbeats 4000000 in
theorem hX13_touchesFence_7 {Q : Int32 → Prop} {σ : gH} {k46 : Int32 → Prop} (hk46 : ∀ (x1 : Int32), k46 x1 → E mX13_touchesFence 2 0 0 (g_z (g_Pi σ Q)) 0 0 46 [(1, .int x1)] [] σ) : ∀ (n : Nat) (x0 : Nat) (x1 : Int32) (x2 : Int32), wX13_touchesFence_7 Q σ k46 n x0 x1 x2 → E mX13_touchesFence 2 0 0 (g_z (g_Pi σ Q)) 0 0 7 [(0, .ref x0), (1, .int x1), (2, .int x2)] [] σ := by
  intro n
  induction n with
  | zero =>
    intro _ _ _ w
    exact w.elim
  | succ n ih =>
    intro x0 x1 x2 w
    unfold wX13_touchesFence_7 at w
    refine e_iload_n (n := 8) dX13_touchesFence_7 rfl 2 rfl ?_
    refine e_aload_n (n := 9) dX13_touchesFence_8 rfl 0 rfl ?_
    refine e_cI (n := 12) w fw_X13_many (gl_o q817) dX13_touchesFence_9 rfl (fun v_3 w => ?_)
    refine e_icmp_ge (n := 15) (tgt := 46) dX13_touchesFence_12 rfl (by decide) (fun h => ?_) (fun h => ?_)
    · have w := w.1 h
      refine e_sub (lv' := [(1, .int x1)]) [1] rfl ?_
      exact hk46 _ w
    · have w := w.2 h
      refine e_iload_n (n := 16) dX13_touchesFence_15 rfl 1 rfl ?_
      refine e_aload_n (n := 17) dX13_touchesFence_16 rfl 0 rfl ?_
      refine e_cR (n := 20) w fw_X13_this_0 (gl_o q818) dX13_touchesFence_17 rfl (fun r_4 w => ?_)
      obtain ⟨a_5, ha_5, w9a_5⟩ := w
      subst ha_5
      have w := w9a_5
      refine e_cR (n := 23) w fw_X0_isFence (gl_n q172) dX13_touchesFence_20 rfl (fun r_6 w => ?_)
      refine e_aload_n (n := 24) dX13_touchesFence_23 rfl 0 rfl ?_
      refine e_cR (n := 27) w fw_X8_chart (gl_s q553 q554) dX13_touchesFence_24 rfl (fun r_7 w => ?_)
      obtain ⟨a_8, ha_8, w9a_8⟩ := w
      subst ha_8
      have w := w9a_8
      refine e_cR (n := 30) w fw_X7_text (gl_n q921) dX13_touchesFence_27 rfl (fun r_9 w => ?_)
      refine e_aload_n (n := 31) dX13_touchesFence_30 rfl 0 rfl ?_
      refine e_cI (n := 34) w fw_X8_place (gl_s q563 q564) dX13_touchesFence_31 rfl (fun v_10 w => ?_)
      refine e_iload_n (n := 35) dX13_touchesFence_34 rfl 2 rfl ?_
      refine e_iadd (n := 36) dX13_touchesFence_35 rfl ?_
      obtain ⟨a_11, ha_11, w9a_11⟩ := w
      subst ha_11
      have w := w9a_11
      refine e_caI (n := 37) w dX13_touchesFence_36 rfl (fun v_12 w => ?_)
      obtain ⟨a_13, ha_13, w9a_13⟩ := w
      subst ha_13
      have w := w9a_13
      refine e_caZ (n := 38) w dX13_touchesFence_37 rfl (fun v_14 w => ?_)
      refine e_ior (n := 39) dX13_touchesFence_38 rfl ?_
      refine e_topi (fun x1_15 hx1_15 => ?_)
      have w := w x1_15 hx1_15
      refine e_istore_n (n := 40) (lv' := [(0, .ref x0), (1, .int x1_15), (2, .int x2)]) [1, 0, 2] dX13_touchesFence_39 rfl rfl rfl ?_
      obtain ⟨x2_16, hx2_16⟩ : ∃ y : Int32, y = x2 + 1 := ⟨_, rfl⟩
      have w := w x2_16 hx2_16
      refine e_iinc (n := 43) (v := x2_16) (lv' := [(0, .ref x0), (1, .int x1_15), (2, .int x2_16)]) [1, 2, 0] dX13_touchesFence_40 rfl 2 rfl (by rw [hx2_16]; rfl) rfl rfl ?_
      refine e_goto (n := 7) dX13_touchesFence_43 (by decide) ?_
      exact ih _ _ _ w
set_option maxHeartbeats 4000000 in
theorem ctX13_touchesFence {Q : Int32 → Prop} {x0 : Nat} {σ : gH} (w : wX13_touchesFence Q σ x0) : CT mX13_touchesFence 2 0 0 [.ref x0] σ (g_Pi σ Q) := by
  refine CT.of (lv := [(0, .ref x0)]) okX13_touchesFence.1 rfl rfl ?_
  unfold wX13_touchesFence at w
  refine e_aload_n (n := 1) dX13_touchesFence_0 rfl 0 rfl ?_
  obtain ⟨ci_17, fs_18, wl, wo, w⟩ := w
  obtain ⟨Cq, Tq, Nq, hcq⟩ := g_clS bs_X13 wl
  refine e_callSU2 (xc := "MendReader$Extra") (n := 4) (As := []) (st := []) okX9_touchesFence q669 q670 q634 q611 q647 q75 q648 (by decide) wo hcq (by decide) (Nat.le_refl _) (Nat.le_refl _) rfl rfl rfl dX13_touchesFence_1 rfl (ctX9_touchesFence w) (fun r9 σ9 hk => ?_)
  obtain ⟨v_1, rfl, hs9, w⟩ := hk
  rw [hs9]
  refine e_istore_n (n := 5) (lv' := [(0, .ref x0), (1, .int v_1)]) [1, 0] dX13_touchesFence_4 rfl rfl rfl ?_
  refine e_iconst (n := 6) (v := 1) dX13_touchesFence_5 rfl (by decide) ?_
  refine e_istore_n (n := 7) (lv' := [(0, .ref x0), (1, .int v_1), (2, .int 1)]) [1, 2, 0] dX13_touchesFence_6 rfl rfl rfl ?_
  obtain ⟨fu, w⟩ := w
  refine hX13_touchesFence_7 (fun x1_2 w => ?_) fu _ _ _ w
  refine e_iload_n (n := 47) dX13_touchesFence_46 rfl 0 rfl ?_
  exact e_zret rfl w.1.nar (Nat.le_refl _) (Nat.le_refl _) ⟨_, rfl, rfl, w.2⟩ dX13_touchesFence_47
abbrev mX8_told : gM := (yX8_told, cX8_told, 1, some .int)
theorem okX8_told : g_ok mX8_told 0 := ⟨by decide +kernel, by decide +kernel, by decide +kernel, by decide +kernel, by decide⟩
def wX8_told (Q : Int32 → Prop) (σ : gH) (x0 : Nat) : Prop := Q 0
set_option maxHeartbeats 4000000 in
theorem ctX8_told {Q : Int32 → Prop} {x0 : Nat} {σ : gH} (w : wX8_told Q σ x0) : CT mX8_told 1 0 0 [.ref x0] σ (g_Pi σ Q) := by
  refine CT.of (lv := [(0, .ref x0)]) okX8_told.1 rfl rfl ?_
  unfold wX8_told at w
  refine e_iconst (n := 1) (v := 0) dX8_told_0 rfl (by decide) ?_
  exact e_iret rfl (Nat.le_refl _) (Nat.le_refl _) ⟨_, rfl, rfl, w⟩ dX8_told_1
abbrev mX9_told : gM := (yX9_told, cX9_told, 1, some .int)
theorem okX9_told : g_ok mX9_told 0 := ⟨by decide +kernel, by decide +kernel, by decide +kernel, by decide +kernel, by decide⟩
def wX9_told (Q : Int32 → Prop) (σ : gH) (x0 : Nat) : Prop := c_I σ [8, 9, 10, 11, 12, 13, 14, 15] x0 4 (fun v_1 => Q v_1)
set_option maxHeartbeats 4000000 in
theorem ctX9_told {Q : Int32 → Prop} {x0 : Nat} {σ : gH} (w : wX9_told Q σ x0) : CT mX9_told 1 0 0 [.ref x0] σ (g_Pi σ Q) := by
  refine CT.of (lv := [(0, .ref x0)]) okX9_told.1 rfl rfl ?_
  unfold wX9_told at w
  refine e_aload_n (n := 1) dX9_told_0 rfl 0 rfl ?_
  refine e_cI (n := 4) w fw_X8_token (gl_s q575 q576) dX9_told_1 rfl (fun v_1 w => ?_)
  exact e_iret rfl (Nat.le_refl _) (Nat.le_refl _) ⟨_, rfl, rfl, w⟩ dX9_told_4
abbrev mX11_told : gM := (yX11_told, cX11_told, 1, some .int)
theorem okX11_told : g_ok mX11_told 0 := ⟨by decide +kernel, by decide +kernel, by decide +kernel, by decide +kernel, by decide⟩
def wX11_told (Q : Int32 → Prop) (σ : gH) (x0 : Nat) : Prop := c_I σ [11, 15] x0 9 (fun v_1 => Q v_1)
set_option maxHeartbeats 4000000 in
theorem ctX11_told {Q : Int32 → Prop} {x0 : Nat} {σ : gH} (w : wX11_told Q σ x0) : CT mX11_told 1 0 0 [.ref x0] σ (g_Pi σ Q) := by
  refine CT.of (lv := [(0, .ref x0)]) okX11_told.1 rfl rfl ?_
  unfold wX11_told at w
  refine e_aload_n (n := 1) dX11_told_0 rfl 0 rfl ?_
  refine e_cI (n := 4) w fw_X11_number (gl_o q779) dX11_told_1 rfl (fun v_1 w => ?_)
  exact e_iret rfl (Nat.le_refl _) (Nat.le_refl _) ⟨_, rfl, rfl, w⟩ dX11_told_4
abbrev mX12_told : gM := (yX12_told, cX12_told, 1, some .int)
theorem okX12_told : g_ok mX12_told 0 := ⟨by decide +kernel, by decide +kernel, by decide +kernel, by decide +kernel, by decide⟩
def wX12_told (Q : Int32 → Prop) (σ : gH) (x0 : Nat) : Prop := Q 0
set_option maxHeartbeats 4000000 in
theorem ctX12_told {Q : Int32 → Prop} {x0 : Nat} {σ : gH} (w : wX12_told Q σ x0) : CT mX12_told 1 0 0 [.ref x0] σ (g_Pi σ Q) := by
  refine CT.of (lv := [(0, .ref x0)]) okX12_told.1 rfl rfl ?_
  unfold wX12_told at w
  refine e_iconst (n := 1) (v := 0) dX12_told_0 rfl (by decide) ?_
  exact e_iret rfl (Nat.le_refl _) (Nat.le_refl _) ⟨_, rfl, rfl, w⟩ dX12_told_1
abbrev mX13_told : gM := (yX13_told, cX13_told, 1, some .int)
theorem okX13_told : g_ok mX13_told 0 := ⟨by decide +kernel, by decide +kernel, by decide +kernel, by decide +kernel, by decide⟩
def wX13_told (Q : Int32 → Prop) (σ : gH) (x0 : Nat) : Prop := c_I σ [13] x0 8 (fun v_1 => Q v_1)
set_option maxHeartbeats 4000000 in
theorem ctX13_told {Q : Int32 → Prop} {x0 : Nat} {σ : gH} (w : wX13_told Q σ x0) : CT mX13_told 1 0 0 [.ref x0] σ (g_Pi σ Q) := by
  refine CT.of (lv := [(0, .ref x0)]) okX13_told.1 rfl rfl ?_
  unfold wX13_told at w
  refine e_aload_n (n := 1) dX13_told_0 rfl 0 rfl ?_
  refine e_cI (n := 4) w fw_X13_many (gl_o q817) dX13_told_1 rfl (fun v_1 w => ?_)
  exact e_iret rfl (Nat.le_refl _) (Nat.le_refl _) ⟨_, rfl, rfl, w⟩ dX13_told_4
abbrev mX14_told : gM := (yX14_told, cX14_told, 1, some .int)
theorem okX14_told : g_ok mX14_told 0 := ⟨by decide +kernel, by decide +kernel, by decide +kernel, by decide +kernel, by decide⟩
def wX14_told (Q : Int32 → Prop) (σ : gH) (x0 : Nat) : Prop := Q 0
set_option maxHeartbeats 4000000 in
theorem ctX14_told {Q : Int32 → Prop} {x0 : Nat} {σ : gH} (w : wX14_told Q σ x0) : CT mX14_told 1 0 0 [.ref x0] σ (g_Pi σ Q) := by
  refine CT.of (lv := [(0, .ref x0)]) okX14_told.1 rfl rfl ?_
  unfold wX14_told at w
  refine e_iconst (n := 1) (v := 0) dX14_told_0 rfl (by decide) ?_
  exact e_iret rfl (Nat.le_refl _) (Nat.le_refl _) ⟨_, rfl, rfl, w⟩ dX14_told_1
def vX8_kind (σ : gH) (Q : Int32 → Prop) (a : Nat) : Prop := ∃ (ci : Nat) (fs : List Value), σ.2 a = some (.inr (ci, fs)) ∧ ((ci = 8 ∧ wX8_kind Q σ a) ∨ (ci = 9 ∧ wX9_kind Q σ a) ∨ (ci = 10 ∧ wX10_kind Q σ a) ∨ (ci = 11 ∧ wX11_kind Q σ a) ∨ (ci = 12 ∧ wX12_kind Q σ a) ∨ (ci = 13 ∧ wX13_kind Q σ a) ∨ (ci = 14 ∧ wX14_kind Q σ a) ∨ (ci = 15 ∧ wX15_kind Q σ a))
set_option maxHeartbeats 4000000 in
theorem evX8_kind {M : gM} {d mc ms uc us pc n idx : Nat} {K : gZ} {lv : List (Nat × Value)} {st : List Value} {σ : gH} {Q : Int32 → Prop} {a : Nat} (w : vX8_kind σ Q a) (hdep : 6 ≤ d) (hu1 : uc ≤ mc) (hu2 : us ≤ ms) (h1 : Cond.methodLink M.1.cls idx ⟨"MendReader$Step", "kind", "()I"⟩ ∈ lw_all) (hroom : Nat.ble (st.map fun v => v.category).sum 8 = true) (hd : decode M.2.1 pc = .ok (.invokevirtual idx, 3)) (hp : pc + 3 = n) (kk : ∀ r, Q r → E M d mc ms K uc us n lv (.int r :: st) σ) : E M d mc ms K uc us pc lv (.ref a :: st) σ := by
  obtain ⟨ci, fs, wo, w⟩ := w
  rcases w with ⟨rfl, w⟩ | ⟨rfl, w⟩ | ⟨rfl, w⟩ | ⟨rfl, w⟩ | ⟨rfl, w⟩ | ⟨rfl, w⟩ | ⟨rfl, w⟩ | ⟨rfl, w⟩
  · refine e_callO (n := n) (As := []) (st := st) (x := ⟨"MendReader$Step", "kind", "()I"⟩) okX8_kind h1 q606 q604 q605 q604 q74 q641 q641 rfl (by decide) wo rfl (d' := 1) (by omega) hu1 hu2 rfl rfl hroom hd hp (ctX8_kind w) (fun r9 σ9 hk => ?_)
    obtain ⟨r, rfl, hs9, w9⟩ := hk
    rw [hs9]
    exact kk r w9
  · refine e_callO (n := n) (As := []) (st := st) (x := ⟨"MendReader$Step", "kind", "()I"⟩) okX9_kind h1 q606 q604 q615 q612 q75 q613 q641 rfl (by decide) wo rfl (d' := 2) (by omega) hu1 hu2 rfl rfl hroom hd hp (ctX9_kind w) (fun r9 σ9 hk => ?_)
    obtain ⟨r, rfl, hs9, w9⟩ := hk
    rw [hs9]
    exact kk r w9
  · refine e_callO (n := n) (As := []) (st := st) (x := ⟨"MendReader$Step", "kind", "()I"⟩) okX10_kind h1 q606 q604 q616 q617 q76 q618 q641 rfl (by decide) wo rfl (d' := 3) (by omega) hu1 hu2 rfl rfl hroom hd hp (ctX10_kind w) (fun r9 σ9 hk => ?_)
    obtain ⟨r, rfl, hs9, w9⟩ := hk
    rw [hs9]
    exact kk r w9
  · refine e_callO (n := n) (As := []) (st := st) (x := ⟨"MendReader$Step", "kind", "()I"⟩) okX11_kind h1 q606 q604 q635 q626 q77 q627 q641 rfl (by decide) wo rfl (d' := 4) (by omega) hu1 hu2 rfl rfl hroom hd hp (ctX11_kind w) (fun r9 σ9 hk => ?_)
    obtain ⟨r, rfl, hs9, w9⟩ := hk
    rw [hs9]
    exact kk r w9
  · refine e_callO (n := n) (As := []) (st := st) (x := ⟨"MendReader$Step", "kind", "()I"⟩) okX12_kind h1 q606 q604 q607 q608 q78 q609 q641 rfl (by decide) wo rfl (d' := 3) (by omega) hu1 hu2 rfl rfl hroom hd hp (ctX12_kind w) (fun r9 σ9 hk => ?_)
    obtain ⟨r, rfl, hs9, w9⟩ := hk
    rw [hs9]
    exact kk r w9
  · refine e_callO (n := n) (As := []) (st := st) (x := ⟨"MendReader$Step", "kind", "()I"⟩) okX13_kind h1 q606 q604 q630 q631 q79 q632 q641 rfl (by decide) wo rfl (d' := 4) (by omega) hu1 hu2 rfl rfl hroom hd hp (ctX13_kind w) (fun r9 σ9 hk => ?_)
    obtain ⟨r, rfl, hs9, w9⟩ := hk
    rw [hs9]
    exact kk r w9
  · refine e_callO (n := n) (As := []) (st := st) (x := ⟨"MendReader$Step", "kind", "()I"⟩) okX14_kind h1 q606 q604 q636 q637 q80 q638 q641 rfl (by decide) wo rfl (d' := 4) (by omega) hu1 hu2 rfl rfl hroom hd hp (ctX14_kind w) (fun r9 σ9 hk => ?_)
    obtain ⟨r, rfl, hs9, w9⟩ := hk
    rw [hs9]
    exact kk r w9
  · refine e_callO (n := n) (As := []) (st := st) (x := ⟨"MendReader$Step", "kind", "()I"⟩) okX15_kind h1 q606 q604 q621 q622 q81 q623 q641 rfl (by decide) wo rfl (d' := 5) (by omega) hu1 hu2 rfl rfl hroom hd hp (ctX15_kind w) (fun r9 σ9 hk => ?_)
    obtain ⟨r, rfl, hs9, w9⟩ := hk
    rw [hs9]
    exact kk r w9
def vX8_told (σ : gH) (Q : Int32 → Prop) (a : Nat) : Prop := ∃ (ci : Nat) (fs : List Value), σ.2 a = some (.inr (ci, fs)) ∧ ((ci = 8 ∧ wX8_told Q σ a) ∨ (ci = 9 ∧ wX9_told Q σ a) ∨ (ci = 10 ∧ wX9_told Q σ a) ∨ (ci = 11 ∧ wX11_told Q σ a) ∨ (ci = 12 ∧ wX12_told Q σ a) ∨ (ci = 13 ∧ wX13_told Q σ a) ∨ (ci = 14 ∧ wX14_told Q σ a) ∨ (ci = 15 ∧ wX11_told Q σ a))
set_option maxHeartbeats 4000000 in
theorem evX8_told {M : gM} {d mc ms uc us pc n idx : Nat} {K : gZ} {lv : List (Nat × Value)} {st : List Value} {σ : gH} {Q : Int32 → Prop} {a : Nat} (w : vX8_told σ Q a) (hdep : 2 ≤ d) (hu1 : uc ≤ mc) (hu2 : us ≤ ms) (h1 : Cond.methodLink M.1.cls idx ⟨"MendReader$Step", "told", "()I"⟩ ∈ lw_all) (hroom : Nat.ble (st.map fun v => v.category).sum 8 = true) (hd : decode M.2.1 pc = .ok (.invokevirtual idx, 3)) (hp : pc + 3 = n) (kk : ∀ r, Q r → E M d mc ms K uc us n lv (.int r :: st) σ) : E M d mc ms K uc us pc lv (.ref a :: st) σ := by
  obtain ⟨ci, fs, wo, w⟩ := w
  rcases w with ⟨rfl, w⟩ | ⟨rfl, w⟩ | ⟨rfl, w⟩ | ⟨rfl, w⟩ | ⟨rfl, w⟩ | ⟨rfl, w⟩ | ⟨rfl, w⟩ | ⟨rfl, w⟩
  · refine e_callO (n := n) (As := []) (st := st) (x := ⟨"MendReader$Step", "told", "()I"⟩) okX8_told h1 q683 q681 q682 q681 q74 q701 q701 rfl (by decide) wo rfl (d' := 1) (by omega) hu1 hu2 rfl rfl hroom hd hp (ctX8_told w) (fun r9 σ9 hk => ?_)
    obtain ⟨r, rfl, hs9, w9⟩ := hk
    rw [hs9]
    exact kk r w9
  · refine e_callO (n := n) (As := []) (st := st) (x := ⟨"MendReader$Step", "told", "()I"⟩) okX9_told h1 q683 q681 q687 q688 q75 q689 q701 rfl (by decide) wo rfl (d' := 1) (by omega) hu1 hu2 rfl rfl hroom hd hp (ctX9_told w) (fun r9 σ9 hk => ?_)
    obtain ⟨r, rfl, hs9, w9⟩ := hk
    rw [hs9]
    exact kk r w9
  · refine e_callO (n := n) (As := []) (st := st) (x := ⟨"MendReader$Step", "told", "()I"⟩) okX9_told h1 q683 q681 q690 q688 q75 q689 q701 rfl (by decide) wo rfl (d' := 1) (by omega) hu1 hu2 rfl rfl hroom hd hp (ctX9_told w) (fun r9 σ9 hk => ?_)
    obtain ⟨r, rfl, hs9, w9⟩ := hk
    rw [hs9]
    exact kk r w9
  · refine e_callO (n := n) (As := []) (st := st) (x := ⟨"MendReader$Step", "told", "()I"⟩) okX11_told h1 q683 q681 q697 q692 q77 q693 q701 rfl (by decide) wo rfl (d' := 1) (by omega) hu1 hu2 rfl rfl hroom hd hp (ctX11_told w) (fun r9 σ9 hk => ?_)
    obtain ⟨r, rfl, hs9, w9⟩ := hk
    rw [hs9]
    exact kk r w9
  · refine e_callO (n := n) (As := []) (st := st) (x := ⟨"MendReader$Step", "told", "()I"⟩) okX12_told h1 q683 q681 q684 q685 q78 q686 q701 rfl (by decide) wo rfl (d' := 1) (by omega) hu1 hu2 rfl rfl hroom hd hp (ctX12_told w) (fun r9 σ9 hk => ?_)
    obtain ⟨r, rfl, hs9, w9⟩ := hk
    rw [hs9]
    exact kk r w9
  · refine e_callO (n := n) (As := []) (st := st) (x := ⟨"MendReader$Step", "told", "()I"⟩) okX13_told h1 q683 q681 q694 q695 q79 q696 q701 rfl (by decide) wo rfl (d' := 1) (by omega) hu1 hu2 rfl rfl hroom hd hp (ctX13_told w) (fun r9 σ9 hk => ?_)
    obtain ⟨r, rfl, hs9, w9⟩ := hk
    rw [hs9]
    exact kk r w9
  · refine e_callO (n := n) (As := []) (st := st) (x := ⟨"MendReader$Step", "told", "()I"⟩) okX14_told h1 q683 q681 q698 q699 q80 q700 q701 rfl (by decide) wo rfl (d' := 1) (by omega) hu1 hu2 rfl rfl hroom hd hp (ctX14_told w) (fun r9 σ9 hk => ?_)
    obtain ⟨r, rfl, hs9, w9⟩ := hk
    rw [hs9]
    exact kk r w9
  · refine e_callO (n := n) (As := []) (st := st) (x := ⟨"MendReader$Step", "told", "()I"⟩) okX11_told h1 q683 q681 q691 q692 q77 q693 q701 rfl (by decide) wo rfl (d' := 1) (by omega) hu1 hu2 rfl rfl hroom hd hp (ctX11_told w) (fun r9 σ9 hk => ?_)
    obtain ⟨r, rfl, hs9, w9⟩ := hk
    rw [hs9]
    exact kk r w9
abbrev mX6_isWithout : gM := (yX6_isWithout, cX6_isWithout, 2, some .boolean)
theorem okX6_isWithout : g_ok mX6_isWithout 1 := ⟨by decide +kernel, by decide +kernel, by decide +kernel, by decide +kernel, by decide⟩
def wX6_isWithout (Q : Int32 → Prop) (σ : gH) (x0 : Nat) (x1 : Option Nat) : Prop := c_R σ [6] x0 3 (fun r_1 => (r_1 = none → (Q 0)) ∧ (¬ r_1 = none → (∃ a_2 : Nat, x1 = some a_2 ∧ (vX8_kind σ (fun (v_3 : Int32) => c_R σ [6] x0 3 (fun r_4 => ∃ a_5 : Nat, r_4 = some a_5 ∧ (vX8_kind σ (fun (v_6 : Int32) => (v_3 = v_6 → (c_I σ [8, 9, 10, 11, 12, 13, 14, 15] a_2 1 (fun v_7 => c_R σ [6] x0 3 (fun r_8 => ∃ a_9 : Nat, r_8 = some a_9 ∧ (c_I σ [8, 9, 10, 11, 12, 13, 14, 15] a_9 1 (fun v_10 => (v_7 = v_10 → (vX8_told σ (fun (v_11 : Int32) => c_R σ [6] x0 3 (fun r_12 => ∃ a_13 : Nat, r_12 = some a_13 ∧ (vX8_told σ (fun (v_14 : Int32) => (v_11 = v_14 → (Q 1)) ∧ (¬ v_11 = v_14 → (Q 0))) a_13))) a_2)) ∧ (¬ v_7 = v_10 → (Q 0)))))))) ∧ (¬ v_3 = v_6 → (Q 0))) a_5))) a_2))))
set_option maxHeartbeats 4000000 in
theorem ctX6_isWithout {Q : Int32 → Prop} {x0 : Nat} {x1 : Option Nat} {σ : gH} (w : wX6_isWithout Q σ x0 x1) : CT mX6_isWithout 6 0 0 [.ref x0, va_rf x1] σ (g_Pi σ Q) := by
  refine CT.of (lv := [(0, .ref x0), (1, va_rf x1)]) okX6_isWithout.1 (by cases x1 <;> rfl) (by cases x1 <;> rfl) ?_
  unfold wX6_isWithout at w
  refine e_aload_n (n := 1) dX6_isWithout_0 rfl 0 rfl ?_
  refine e_cR (n := 4) w fw_X6_without (gl_o q506) dX6_isWithout_1 rfl (fun r_1 w => ?_)
  refine e_ifnull (n := 7) (tgt := 53) (r := r_1) dX6_isWithout_4 rfl (by decide) (fun h => ?_) (fun h => ?_)
  · have w := w.1 h
    refine e_iconst (n := 54) (v := 0) dX6_isWithout_53 rfl (by decide) ?_
    exact e_zret rfl rfl (Nat.le_refl _) (Nat.le_refl _) ⟨_, rfl, rfl, w⟩ dX6_isWithout_54
  · have w := w.2 h
    refine e_aloadr_n (n := 8) (r := x1) dX6_isWithout_7 rfl 1 rfl ?_
    obtain ⟨a_2, ha_2, w9a_2⟩ := w
    subst ha_2
    have w := w9a_2
    refine evX8_kind (n := 11) (st := []) w (by decide) (Nat.le_refl _) (Nat.le_refl _) q679 rfl dX6_isWithout_8 rfl (fun v_3 w => ?_)
    refine e_aload_n (n := 12) dX6_isWithout_11 rfl 0 rfl ?_
    refine e_cR (n := 15) w fw_X6_without (gl_o q506) dX6_isWithout_12 rfl (fun r_4 w => ?_)
    obtain ⟨a_5, ha_5, w9a_5⟩ := w
    subst ha_5
    have w := w9a_5
    refine evX8_kind (n := 18) (st := [.int v_3]) w (by decide) (Nat.le_refl _) (Nat.le_refl _) q679 rfl dX6_isWithout_15 rfl (fun v_6 w => ?_)
    refine e_icmp_ne (n := 21) (tgt := 53) dX6_isWithout_18 rfl (by decide) (fun h => ?_) (fun h => ?_)
    · have w := w.2 h
      refine e_iconst (n := 54) (v := 0) dX6_isWithout_53 rfl (by decide) ?_
      exact e_zret rfl rfl (Nat.le_refl _) (Nat.le_refl _) ⟨_, rfl, rfl, w⟩ dX6_isWithout_54
    · have w := w.1 h
      refine e_aload_n (n := 22) dX6_isWithout_21 rfl 1 rfl ?_
      refine e_cI (n := 25) w fw_X8_place (gl_o q558) dX6_isWithout_22 rfl (fun v_7 w => ?_)
      refine e_aload_n (n := 26) dX6_isWithout_25 rfl 0 rfl ?_
      refine e_cR (n := 29) w fw_X6_without (gl_o q506) dX6_isWithout_26 rfl (fun r_8 w => ?_)
      obtain ⟨a_9, ha_9, w9a_9⟩ := w
      subst ha_9
      have w := w9a_9
      refine e_cI (n := 32) w fw_X8_place (gl_o q558) dX6_isWithout_29 rfl (fun v_10 w => ?_)
      refine e_icmp_ne (n := 35) (tgt := 53) dX6_isWithout_32 rfl (by decide) (fun h => ?_) (fun h => ?_)
      · have w := w.2 h
        refine e_iconst (n := 54) (v := 0) dX6_isWithout_53 rfl (by decide) ?_
        exact e_zret rfl rfl (Nat.le_refl _) (Nat.le_refl _) ⟨_, rfl, rfl, w⟩ dX6_isWithout_54
      · have w := w.1 h
        refine e_aload_n (n := 36) dX6_isWithout_35 rfl 1 rfl ?_
        refine evX8_told (n := 39) (st := []) w (by decide) (Nat.le_refl _) (Nat.le_refl _) q680 rfl dX6_isWithout_36 rfl (fun v_11 w => ?_)
        refine e_aload_n (n := 40) dX6_isWithout_39 rfl 0 rfl ?_
        refine e_cR (n := 43) w fw_X6_without (gl_o q506) dX6_isWithout_40 rfl (fun r_12 w => ?_)
        obtain ⟨a_13, ha_13, w9a_13⟩ := w
        subst ha_13
        have w := w9a_13
        refine evX8_told (n := 46) (st := [.int v_11]) w (by decide) (Nat.le_refl _) (Nat.le_refl _) q680 rfl dX6_isWithout_43 rfl (fun v_14 w => ?_)
        refine e_icmp_ne (n := 49) (tgt := 53) dX6_isWithout_46 rfl (by decide) (fun h => ?_) (fun h => ?_)
        · have w := w.2 h
          refine e_iconst (n := 54) (v := 0) dX6_isWithout_53 rfl (by decide) ?_
          exact e_zret rfl rfl (Nat.le_refl _) (Nat.le_refl _) ⟨_, rfl, rfl, w⟩ dX6_isWithout_54
        · have w := w.1 h
          refine e_iconst (n := 50) (v := 1) dX6_isWithout_49 rfl (by decide) ?_
          refine e_goto (n := 54) dX6_isWithout_50 (by decide) ?_
          exact e_zret rfl rfl (Nat.le_refl _) (Nat.le_refl _) ⟨_, rfl, rfl, w⟩ dX6_isWithout_54
abbrev mX8_first : gM := (yX8_first, cX8_first, 1, some .int)
theorem okX8_first : g_ok mX8_first 0 := ⟨by decide +kernel, by decide +kernel, by decide +kernel, by decide +kernel, by decide⟩
def wX8_first (Q : Int32 → Prop) (σ : gH) (x0 : Nat) : Prop := c_I σ [8, 9, 10, 11, 12, 13, 14, 15] x0 1 (fun v_1 => Q v_1)
set_option maxHeartbeats 4000000 in
theorem ctX8_first {Q : Int32 → Prop} {x0 : Nat} {σ : gH} (w : wX8_first Q σ x0) : CT mX8_first 1 0 0 [.ref x0] σ (g_Pi σ Q) := by
  refine CT.of (lv := [(0, .ref x0)]) okX8_first.1 rfl rfl ?_
  unfold wX8_first at w
  refine e_aload_n (n := 1) dX8_first_0 rfl 0 rfl ?_
  refine e_cI (n := 4) w fw_X8_place (gl_o q555) dX8_first_1 rfl (fun v_1 w => ?_)
  exact e_iret rfl (Nat.le_refl _) (Nat.le_refl _) ⟨_, rfl, rfl, w⟩ dX8_first_4
abbrev mX8_behind : gM := (yX8_behind, cX8_behind, 1, some .int)
theorem okX8_behind : g_ok mX8_behind 0 := ⟨by decide +kernel, by decide +kernel, by decide +kernel, by decide +kernel, by decide⟩
def wX8_behind (Q : Int32 → Prop) (σ : gH) (x0 : Nat) : Prop := c_I σ [8, 9, 10, 11, 12, 13, 14, 15] x0 1 (fun v_1 => Q v_1)
set_option maxHeartbeats 4000000 in
theorem ctX8_behind {Q : Int32 → Prop} {x0 : Nat} {σ : gH} (w : wX8_behind Q σ x0) : CT mX8_behind 1 0 0 [.ref x0] σ (g_Pi σ Q) := by
  refine CT.of (lv := [(0, .ref x0)]) okX8_behind.1 rfl rfl ?_
  unfold wX8_behind at w
  refine e_aload_n (n := 1) dX8_behind_0 rfl 0 rfl ?_
  refine e_cI (n := 4) w fw_X8_place (gl_o q555) dX8_behind_1 rfl (fun v_1 w => ?_)
  exact e_iret rfl (Nat.le_refl _) (Nat.le_refl _) ⟨_, rfl, rfl, w⟩ dX8_behind_4
abbrev mX10_behind : gM := (yX10_behind, cX10_behind, 1, some .int)
theorem okX10_behind : g_ok mX10_behind 0 := ⟨by decide +kernel, by decide +kernel, by decide +kernel, by decide +kernel, by decide⟩
def wX10_behind (Q : Int32 → Prop) (σ : gH) (x0 : Nat) : Prop := c_I σ [8, 9, 10, 11, 12, 13, 14, 15] x0 1 (fun v_1 => Q (v_1 + 1))
set_option maxHeartbeats 4000000 in
theorem ctX10_behind {Q : Int32 → Prop} {x0 : Nat} {σ : gH} (w : wX10_behind Q σ x0) : CT mX10_behind 1 0 0 [.ref x0] σ (g_Pi σ Q) := by
  refine CT.of (lv := [(0, .ref x0)]) okX10_behind.1 rfl rfl ?_
  unfold wX10_behind at w
  refine e_aload_n (n := 1) dX10_behind_0 rfl 0 rfl ?_
  refine e_cI (n := 4) w fw_X8_place (gl_s q559 q560) dX10_behind_1 rfl (fun v_1 w => ?_)
  refine e_iconst (n := 5) (v := 1) dX10_behind_4 rfl (by decide) ?_
  refine e_iadd (n := 6) dX10_behind_5 rfl ?_
  exact e_iret rfl (Nat.le_refl _) (Nat.le_refl _) ⟨_, rfl, rfl, w⟩ dX10_behind_6
abbrev mX12_behind : gM := (yX12_behind, cX12_behind, 1, some .int)
theorem okX12_behind : g_ok mX12_behind 0 := ⟨by decide +kernel, by decide +kernel, by decide +kernel, by decide +kernel, by decide⟩
def wX12_behind (Q : Int32 → Prop) (σ : gH) (x0 : Nat) : Prop := c_I σ [8, 9, 10, 11, 12, 13, 14, 15] x0 1 (fun v_1 => Q (v_1 + 1))
set_option maxHeartbeats 4000000 in
theorem ctX12_behind {Q : Int32 → Prop} {x0 : Nat} {σ : gH} (w : wX12_behind Q σ x0) : CT mX12_behind 1 0 0 [.ref x0] σ (g_Pi σ Q) := by
  refine CT.of (lv := [(0, .ref x0)]) okX12_behind.1 rfl rfl ?_
  unfold wX12_behind at w
  refine e_aload_n (n := 1) dX12_behind_0 rfl 0 rfl ?_
  refine e_cI (n := 4) w fw_X8_place (gl_s q561 q562) dX12_behind_1 rfl (fun v_1 w => ?_)
  refine e_iconst (n := 5) (v := 1) dX12_behind_4 rfl (by decide) ?_
  refine e_iadd (n := 6) dX12_behind_5 rfl ?_
  exact e_iret rfl (Nat.le_refl _) (Nat.le_refl _) ⟨_, rfl, rfl, w⟩ dX12_behind_6
abbrev mX13_behind : gM := (yX13_behind, cX13_behind, 1, some .int)
theorem okX13_behind : g_ok mX13_behind 0 := ⟨by decide +kernel, by decide +kernel, by decide +kernel, by decide +kernel, by decide⟩
def wX13_behind (Q : Int32 → Prop) (σ : gH) (x0 : Nat) : Prop := c_I σ [8, 9, 10, 11, 12, 13, 14, 15] x0 1 (fun v_1 => c_I σ [13] x0 8 (fun v_2 => Q (v_1 + v_2)))
set_option maxHeartbeats 4000000 in
theorem ctX13_behind {Q : Int32 → Prop} {x0 : Nat} {σ : gH} (w : wX13_behind Q σ x0) : CT mX13_behind 1 0 0 [.ref x0] σ (g_Pi σ Q) := by
  refine CT.of (lv := [(0, .ref x0)]) okX13_behind.1 rfl rfl ?_
  unfold wX13_behind at w
  refine e_aload_n (n := 1) dX13_behind_0 rfl 0 rfl ?_
  refine e_cI (n := 4) w fw_X8_place (gl_s q563 q564) dX13_behind_1 rfl (fun v_1 w => ?_)
  refine e_aload_n (n := 5) dX13_behind_4 rfl 0 rfl ?_
  refine e_cI (n := 8) w fw_X13_many (gl_o q817) dX13_behind_5 rfl (fun v_2 w => ?_)
  refine e_iadd (n := 9) dX13_behind_8 rfl ?_
  exact e_iret rfl (Nat.le_refl _) (Nat.le_refl _) ⟨_, rfl, rfl, w⟩ dX13_behind_9
abbrev mX14_behind : gM := (yX14_behind, cX14_behind, 1, some .int)
theorem okX14_behind : g_ok mX14_behind 0 := ⟨by decide +kernel, by decide +kernel, by decide +kernel, by decide +kernel, by decide⟩
def wX14_behind (Q : Int32 → Prop) (σ : gH) (x0 : Nat) : Prop := ∃ (ci_2 : Nat) (fs_3 : List Value), ci_2 ∈ [14] ∧ σ.2 x0 = some (.inr (ci_2, fs_3)) ∧ (wX10_behind (fun (v_1 : Int32) => Q (v_1 + 1)) σ x0)
set_option maxHeartbeats 4000000 in
theorem ctX14_behind {Q : Int32 → Prop} {x0 : Nat} {σ : gH} (w : wX14_behind Q σ x0) : CT mX14_behind 2 0 0 [.ref x0] σ (g_Pi σ Q) := by
  refine CT.of (lv := [(0, .ref x0)]) okX14_behind.1 rfl rfl ?_
  unfold wX14_behind at w
  refine e_aload_n (n := 1) dX14_behind_0 rfl 0 rfl ?_
  obtain ⟨ci_2, fs_3, wl, wo, w⟩ := w
  obtain ⟨Cq, Tq, Nq, hcq⟩ := g_clS bs_X14 wl
  refine e_callSU (n := 4) (As := []) (st := []) okX10_behind q738 q1761 q640 q723 q76 q724 (by decide) wo hcq (by decide) (Nat.le_refl _) (Nat.le_refl _) rfl rfl rfl dX14_behind_1 rfl (ctX10_behind w) (fun r9 σ9 hk => ?_)
  obtain ⟨v_1, rfl, hs9, w⟩ := hk
  rw [hs9]
  refine e_iconst (n := 5) (v := 1) dX14_behind_4 rfl (by decide) ?_
  refine e_iadd (n := 6) dX14_behind_5 rfl ?_
  exact e_iret rfl (Nat.le_refl _) (Nat.le_refl _) ⟨_, rfl, rfl, w⟩ dX14_behind_6
abbrev mX15_behind : gM := (yX15_behind, cX15_behind, 1, some .int)
theorem okX15_behind : g_ok mX15_behind 0 := ⟨by decide +kernel, by decide +kernel, by decide +kernel, by decide +kernel, by decide⟩
def wX15_behind (Q : Int32 → Prop) (σ : gH) (x0 : Nat) : Prop := ∃ (ci_2 : Nat) (fs_3 : List Value), ci_2 ∈ [15] ∧ σ.2 x0 = some (.inr (ci_2, fs_3)) ∧ (wX10_behind (fun (v_1 : Int32) => Q (v_1 + 1)) σ x0)
set_option maxHeartbeats 4000000 in
theorem ctX15_behind {Q : Int32 → Prop} {x0 : Nat} {σ : gH} (w : wX15_behind Q σ x0) : CT mX15_behind 2 0 0 [.ref x0] σ (g_Pi σ Q) := by
  refine CT.of (lv := [(0, .ref x0)]) okX15_behind.1 rfl rfl ?_
  unfold wX15_behind at w
  refine e_aload_n (n := 1) dX15_behind_0 rfl 0 rfl ?_
  obtain ⟨ci_2, fs_3, wl, wo, w⟩ := w
  obtain ⟨Cq, Tq, Nq, hcq⟩ := g_clS bs_X15 wl
  refine e_callSU2 (xc := "MendReader$Stuck") (n := 4) (As := []) (st := []) okX10_behind q728 q729 q625 q629 q723 q76 q724 (by decide) wo hcq (by decide) (Nat.le_refl _) (Nat.le_refl _) rfl rfl rfl dX15_behind_1 rfl (ctX10_behind w) (fun r9 σ9 hk => ?_)
  obtain ⟨v_1, rfl, hs9, w⟩ := hk
  rw [hs9]
  refine e_iconst (n := 5) (v := 1) dX15_behind_4 rfl (by decide) ?_
  refine e_iadd (n := 6) dX15_behind_5 rfl ?_
  exact e_iret rfl (Nat.le_refl _) (Nat.le_refl _) ⟨_, rfl, rfl, w⟩ dX15_behind_6
def vX8_behind (σ : gH) (Q : Int32 → Prop) (a : Nat) : Prop := ∃ (ci : Nat) (fs : List Value), σ.2 a = some (.inr (ci, fs)) ∧ ((ci = 8 ∧ wX8_behind Q σ a) ∨ (ci = 9 ∧ wX8_behind Q σ a) ∨ (ci = 10 ∧ wX10_behind Q σ a) ∨ (ci = 11 ∧ wX10_behind Q σ a) ∨ (ci = 12 ∧ wX12_behind Q σ a) ∨ (ci = 13 ∧ wX13_behind Q σ a) ∨ (ci = 14 ∧ wX14_behind Q σ a) ∨ (ci = 15 ∧ wX15_behind Q σ a))
set_option maxHeartbeats 4000000 in
theorem evX8_behind {M : gM} {d mc ms uc us pc n idx : Nat} {K : gZ} {lv : List (Nat × Value)} {st : List Value} {σ : gH} {Q : Int32 → Prop} {a : Nat} (w : vX8_behind σ Q a) (hdep : 3 ≤ d) (hu1 : uc ≤ mc) (hu2 : us ≤ ms) (h1 : Cond.methodLink M.1.cls idx ⟨"MendReader$Step", "behind", "()I"⟩ ∈ lw_all) (hroom : Nat.ble (st.map fun v => v.category).sum 8 = true) (hd : decode M.2.1 pc = .ok (.invokevirtual idx, 3)) (hp : pc + 3 = n) (kk : ∀ r, Q r → E M d mc ms K uc us n lv (.int r :: st) σ) : E M d mc ms K uc us pc lv (.ref a :: st) σ := by
  obtain ⟨ci, fs, wo, w⟩ := w
  rcases w with ⟨rfl, w⟩ | ⟨rfl, w⟩ | ⟨rfl, w⟩ | ⟨rfl, w⟩ | ⟨rfl, w⟩ | ⟨rfl, w⟩ | ⟨rfl, w⟩ | ⟨rfl, w⟩
  · refine e_callO (n := n) (As := []) (st := st) (x := ⟨"MendReader$Step", "behind", "()I"⟩) okX8_behind h1 q717 q715 q716 q715 q74 q739 q739 rfl (by decide) wo rfl (d' := 1) (by omega) hu1 hu2 rfl rfl hroom hd hp (ctX8_behind w) (fun r9 σ9 hk => ?_)
    obtain ⟨r, rfl, hs9, w9⟩ := hk
    rw [hs9]
    exact kk r w9
  · refine e_callO (n := n) (As := []) (st := st) (x := ⟨"MendReader$Step", "behind", "()I"⟩) okX8_behind h1 q717 q715 q721 q715 q74 q739 q739 rfl (by decide) wo rfl (d' := 1) (by omega) hu1 hu2 rfl rfl hroom hd hp (ctX8_behind w) (fun r9 σ9 hk => ?_)
    obtain ⟨r, rfl, hs9, w9⟩ := hk
    rw [hs9]
    exact kk r w9
  · refine e_callO (n := n) (As := []) (st := st) (x := ⟨"MendReader$Step", "behind", "()I"⟩) okX10_behind h1 q717 q715 q722 q723 q76 q724 q739 rfl (by decide) wo rfl (d' := 1) (by omega) hu1 hu2 rfl rfl hroom hd hp (ctX10_behind w) (fun r9 σ9 hk => ?_)
    obtain ⟨r, rfl, hs9, w9⟩ := hk
    rw [hs9]
    exact kk r w9
  · refine e_callO (n := n) (As := []) (st := st) (x := ⟨"MendReader$Step", "behind", "()I"⟩) okX10_behind h1 q717 q715 q734 q723 q76 q724 q739 rfl (by decide) wo rfl (d' := 1) (by omega) hu1 hu2 rfl rfl hroom hd hp (ctX10_behind w) (fun r9 σ9 hk => ?_)
    obtain ⟨r, rfl, hs9, w9⟩ := hk
    rw [hs9]
    exact kk r w9
  · refine e_callO (n := n) (As := []) (st := st) (x := ⟨"MendReader$Step", "behind", "()I"⟩) okX12_behind h1 q717 q715 q718 q719 q78 q720 q739 rfl (by decide) wo rfl (d' := 1) (by omega) hu1 hu2 rfl rfl hroom hd hp (ctX12_behind w) (fun r9 σ9 hk => ?_)
    obtain ⟨r, rfl, hs9, w9⟩ := hk
    rw [hs9]
    exact kk r w9
  · refine e_callO (n := n) (As := []) (st := st) (x := ⟨"MendReader$Step", "behind", "()I"⟩) okX13_behind h1 q717 q715 q731 q732 q79 q733 q739 rfl (by decide) wo rfl (d' := 1) (by omega) hu1 hu2 rfl rfl hroom hd hp (ctX13_behind w) (fun r9 σ9 hk => ?_)
    obtain ⟨r, rfl, hs9, w9⟩ := hk
    rw [hs9]
    exact kk r w9
  · refine e_callO (n := n) (As := []) (st := st) (x := ⟨"MendReader$Step", "behind", "()I"⟩) okX14_behind h1 q717 q715 q735 q736 q80 q737 q739 rfl (by decide) wo rfl (d' := 2) (by omega) hu1 hu2 rfl rfl hroom hd hp (ctX14_behind w) (fun r9 σ9 hk => ?_)
    obtain ⟨r, rfl, hs9, w9⟩ := hk
    rw [hs9]
    exact kk r w9
  · refine e_callO (n := n) (As := []) (st := st) (x := ⟨"MendReader$Step", "behind", "()I"⟩) okX15_behind h1 q717 q715 q725 q726 q81 q727 q739 rfl (by decide) wo rfl (d' := 2) (by omega) hu1 hu2 rfl rfl hroom hd hp (ctX15_behind w) (fun r9 σ9 hk => ?_)
    obtain ⟨r, rfl, hs9, w9⟩ := hk
    rw [hs9]
    exact kk r w9
def vX8_first (σ : gH) (Q : Int32 → Prop) (a : Nat) : Prop := ∃ (ci : Nat) (fs : List Value), σ.2 a = some (.inr (ci, fs)) ∧ ((ci = 8 ∧ wX8_first Q σ a) ∨ (ci = 9 ∧ wX8_first Q σ a) ∨ (ci = 10 ∧ wX8_first Q σ a) ∨ (ci = 11 ∧ wX8_first Q σ a) ∨ (ci = 12 ∧ wX8_first Q σ a) ∨ (ci = 13 ∧ wX8_first Q σ a) ∨ (ci = 14 ∧ wX8_first Q σ a) ∨ (ci = 15 ∧ wX8_first Q σ a))
set_option maxHeartbeats 4000000 in
theorem evX8_first {M : gM} {d mc ms uc us pc n idx : Nat} {K : gZ} {lv : List (Nat × Value)} {st : List Value} {σ : gH} {Q : Int32 → Prop} {a : Nat} (w : vX8_first σ Q a) (hdep : 2 ≤ d) (hu1 : uc ≤ mc) (hu2 : us ≤ ms) (h1 : Cond.methodLink M.1.cls idx ⟨"MendReader$Step", "first", "()I"⟩ ∈ lw_all) (hroom : Nat.ble (st.map fun v => v.category).sum 8 = true) (hd : decode M.2.1 pc = .ok (.invokevirtual idx, 3)) (hp : pc + 3 = n) (kk : ∀ r, Q r → E M d mc ms K uc us n lv (.int r :: st) σ) : E M d mc ms K uc us pc lv (.ref a :: st) σ := by
  obtain ⟨ci, fs, wo, w⟩ := w
  rcases w with ⟨rfl, w⟩ | ⟨rfl, w⟩ | ⟨rfl, w⟩ | ⟨rfl, w⟩ | ⟨rfl, w⟩ | ⟨rfl, w⟩ | ⟨rfl, w⟩ | ⟨rfl, w⟩
  · refine e_callO (n := n) (As := []) (st := st) (x := ⟨"MendReader$Step", "first", "()I"⟩) okX8_first h1 q705 q703 q704 q703 q74 q713 q713 rfl (by decide) wo rfl (d' := 1) (by omega) hu1 hu2 rfl rfl hroom hd hp (ctX8_first w) (fun r9 σ9 hk => ?_)
    obtain ⟨r, rfl, hs9, w9⟩ := hk
    rw [hs9]
    exact kk r w9
  · refine e_callO (n := n) (As := []) (st := st) (x := ⟨"MendReader$Step", "first", "()I"⟩) okX8_first h1 q705 q703 q707 q703 q74 q713 q713 rfl (by decide) wo rfl (d' := 1) (by omega) hu1 hu2 rfl rfl hroom hd hp (ctX8_first w) (fun r9 σ9 hk => ?_)
    obtain ⟨r, rfl, hs9, w9⟩ := hk
    rw [hs9]
    exact kk r w9
  · refine e_callO (n := n) (As := []) (st := st) (x := ⟨"MendReader$Step", "first", "()I"⟩) okX8_first h1 q705 q703 q708 q703 q74 q713 q713 rfl (by decide) wo rfl (d' := 1) (by omega) hu1 hu2 rfl rfl hroom hd hp (ctX8_first w) (fun r9 σ9 hk => ?_)
    obtain ⟨r, rfl, hs9, w9⟩ := hk
    rw [hs9]
    exact kk r w9
  · refine e_callO (n := n) (As := []) (st := st) (x := ⟨"MendReader$Step", "first", "()I"⟩) okX8_first h1 q705 q703 q711 q703 q74 q713 q713 rfl (by decide) wo rfl (d' := 1) (by omega) hu1 hu2 rfl rfl hroom hd hp (ctX8_first w) (fun r9 σ9 hk => ?_)
    obtain ⟨r, rfl, hs9, w9⟩ := hk
    rw [hs9]
    exact kk r w9
  · refine e_callO (n := n) (As := []) (st := st) (x := ⟨"MendReader$Step", "first", "()I"⟩) okX8_first h1 q705 q703 q706 q703 q74 q713 q713 rfl (by decide) wo rfl (d' := 1) (by omega) hu1 hu2 rfl rfl hroom hd hp (ctX8_first w) (fun r9 σ9 hk => ?_)
    obtain ⟨r, rfl, hs9, w9⟩ := hk
    rw [hs9]
    exact kk r w9
  · refine e_callO (n := n) (As := []) (st := st) (x := ⟨"MendReader$Step", "first", "()I"⟩) okX8_first h1 q705 q703 q710 q703 q74 q713 q713 rfl (by decide) wo rfl (d' := 1) (by omega) hu1 hu2 rfl rfl hroom hd hp (ctX8_first w) (fun r9 σ9 hk => ?_)
    obtain ⟨r, rfl, hs9, w9⟩ := hk
    rw [hs9]
    exact kk r w9
  · refine e_callO (n := n) (As := []) (st := st) (x := ⟨"MendReader$Step", "first", "()I"⟩) okX8_first h1 q705 q703 q712 q703 q74 q713 q713 rfl (by decide) wo rfl (d' := 1) (by omega) hu1 hu2 rfl rfl hroom hd hp (ctX8_first w) (fun r9 σ9 hk => ?_)
    obtain ⟨r, rfl, hs9, w9⟩ := hk
    rw [hs9]
    exact kk r w9
  · refine e_callO (n := n) (As := []) (st := st) (x := ⟨"MendReader$Step", "first", "()I"⟩) okX8_first h1 q705 q703 q709 q703 q74 q713 q713 rfl (by decide) wo rfl (d' := 1) (by omega) hu1 hu2 rfl rfl hroom hd hp (ctX8_first w) (fun r9 σ9 hk => ?_)
    obtain ⟨r, rfl, hs9, w9⟩ := hk
    rw [hs9]
    exact kk r w9
def vX8_touchesFence (σ : gH) (Q : Int32 → Prop) (a : Nat) : Prop := ∃ (ci : Nat) (fs : List Value), σ.2 a = some (.inr (ci, fs)) ∧ ((ci = 8 ∧ wX8_touchesFence Q σ a) ∨ (ci = 9 ∧ wX9_touchesFence Q σ a) ∨ (ci = 10 ∧ wX10_touchesFence Q σ a) ∨ (ci = 11 ∧ wX11_touchesFence Q σ a) ∨ (ci = 12 ∧ wX9_touchesFence Q σ a) ∨ (ci = 13 ∧ wX13_touchesFence Q σ a) ∨ (ci = 14 ∧ wX10_touchesFence Q σ a) ∨ (ci = 15 ∧ wX11_touchesFence Q σ a))
set_option maxHeartbeats 4000000 in
theorem evX8_touchesFence {M : gM} {d mc ms uc us pc n idx : Nat} {K : gZ} {lv : List (Nat × Value)} {st : List Value} {σ : gH} {Q : Int32 → Prop} {a : Nat} (w : vX8_touchesFence σ Q a) (hdep : 4 ≤ d) (hu1 : uc ≤ mc) (hu2 : us ≤ ms) (h1 : Cond.methodLink M.1.cls idx ⟨"MendReader$Step", "touchesFence", "()Z"⟩ ∈ lw_all) (hroom : Nat.ble (st.map fun v => v.category).sum 8 = true) (hd : decode M.2.1 pc = .ok (.invokevirtual idx, 3)) (hp : pc + 3 = n) (kk : ∀ r, Q r → E M d mc ms K uc us n lv (.int r :: st) σ) : E M d mc ms K uc us pc lv (.ref a :: st) σ := by
  obtain ⟨ci, fs, wo, w⟩ := w
  rcases w with ⟨rfl, w⟩ | ⟨rfl, w⟩ | ⟨rfl, w⟩ | ⟨rfl, w⟩ | ⟨rfl, w⟩ | ⟨rfl, w⟩ | ⟨rfl, w⟩ | ⟨rfl, w⟩
  · refine e_callO (n := n) (As := []) (st := st) (x := ⟨"MendReader$Step", "touchesFence", "()Z"⟩) okX8_touchesFence h1 q645 q643 q644 q643 q74 q674 q674 rfl (by decide) wo rfl (d' := 1) (by omega) hu1 hu2 rfl rfl hroom hd hp (ctX8_touchesFence w) (fun r9 σ9 hk => ?_)
    obtain ⟨r, rfl, hs9, w9⟩ := hk
    rw [hs9]
    exact kk r w9
  · refine e_callO (n := n) (As := []) (st := st) (x := ⟨"MendReader$Step", "touchesFence", "()Z"⟩) okX9_touchesFence h1 q645 q643 q649 q647 q75 q648 q674 rfl (by decide) wo rfl (d' := 1) (by omega) hu1 hu2 rfl rfl hroom hd hp (ctX9_touchesFence w) (fun r9 σ9 hk => ?_)
    obtain ⟨r, rfl, hs9, w9⟩ := hk
    rw [hs9]
    exact kk r w9
  · refine e_callO (n := n) (As := []) (st := st) (x := ⟨"MendReader$Step", "touchesFence", "()Z"⟩) okX10_touchesFence h1 q645 q643 q650 q651 q76 q652 q674 rfl (by decide) wo rfl (d' := 2) (by omega) hu1 hu2 rfl rfl hroom hd hp (ctX10_touchesFence w) (fun r9 σ9 hk => ?_)
    obtain ⟨r, rfl, hs9, w9⟩ := hk
    rw [hs9]
    exact kk r w9
  · refine e_callO (n := n) (As := []) (st := st) (x := ⟨"MendReader$Step", "touchesFence", "()Z"⟩) okX11_touchesFence h1 q645 q643 q672 q655 q77 q656 q674 rfl (by decide) wo rfl (d' := 3) (by omega) hu1 hu2 rfl rfl hroom hd hp (ctX11_touchesFence w) (fun r9 σ9 hk => ?_)
    obtain ⟨r, rfl, hs9, w9⟩ := hk
    rw [hs9]
    exact kk r w9
  · refine e_callO (n := n) (As := []) (st := st) (x := ⟨"MendReader$Step", "touchesFence", "()Z"⟩) okX9_touchesFence h1 q645 q643 q646 q647 q75 q648 q674 rfl (by decide) wo rfl (d' := 1) (by omega) hu1 hu2 rfl rfl hroom hd hp (ctX9_touchesFence w) (fun r9 σ9 hk => ?_)
    obtain ⟨r, rfl, hs9, w9⟩ := hk
    rw [hs9]
    exact kk r w9
  · refine e_callO (n := n) (As := []) (st := st) (x := ⟨"MendReader$Step", "touchesFence", "()Z"⟩) okX13_touchesFence h1 q645 q643 q666 q667 q79 q668 q674 rfl (by decide) wo rfl (d' := 2) (by omega) hu1 hu2 rfl rfl hroom hd hp (ctX13_touchesFence w) (fun r9 σ9 hk => ?_)
    obtain ⟨r, rfl, hs9, w9⟩ := hk
    rw [hs9]
    exact kk r w9
  · refine e_callO (n := n) (As := []) (st := st) (x := ⟨"MendReader$Step", "touchesFence", "()Z"⟩) okX10_touchesFence h1 q645 q643 q673 q651 q76 q652 q674 rfl (by decide) wo rfl (d' := 2) (by omega) hu1 hu2 rfl rfl hroom hd hp (ctX10_touchesFence w) (fun r9 σ9 hk => ?_)
    obtain ⟨r, rfl, hs9, w9⟩ := hk
    rw [hs9]
    exact kk r w9
  · refine e_callO (n := n) (As := []) (st := st) (x := ⟨"MendReader$Step", "touchesFence", "()Z"⟩) okX11_touchesFence h1 q645 q643 q654 q655 q77 q656 q674 rfl (by decide) wo rfl (d' := 3) (by omega) hu1 hu2 rfl rfl hroom hd hp (ctX11_touchesFence w) (fun r9 σ9 hk => ?_)
    obtain ⟨r, rfl, hs9, w9⟩ := hk
    rw [hs9]
    exact kk r w9
abbrev mX0_may : gM := (yX0_may, cX0_may, 5, some .boolean)
theorem okX0_may : g_ok mX0_may 3 := ⟨by decide +kernel, by decide +kernel, by decide +kernel, by decide +kernel, by decide⟩
def wX0_may_115 (Q : Int32 → Prop) (σ : gH)   : Prop := Q 1
def wX0_may_75 (Q : Int32 → Prop) (σ : gH)  (x1 : Option Nat) (x2 : Option Nat) : Prop := ∃ a_11 : Nat, x1 = some a_11 ∧ (∃ fs_13 : List Value, σ.2 a_11 = some (.inr (6, fs_13)) ∧ (wX6_isWithout (fun (v_12 : Int32) => (v_12 = 0 → (c_I σ [6] a_11 0 (fun v_14 => (v_14 = 1 → (∃ a_15 : Nat, x2 = some a_15 ∧ (vX8_first σ (fun (v_16 : Int32) => c_I σ [6] a_11 1 (fun v_17 => (v_16 < v_17 → (Q 0)) ∧ (¬ v_16 < v_17 → (vX8_behind σ (fun (v_18 : Int32) => c_I σ [6] a_11 2 (fun v_19 => (v_19 < v_18 → (Q 0)) ∧ (¬ v_19 < v_18 → (wX0_may_115 Q σ)))) a_15)))) a_15))) ∧ (¬ v_14 = 1 → (wX0_may_115 Q σ))))) ∧ (¬ v_12 = 0 → (Q 0))) σ a_11 x2))
def wX0_may_45 (Q : Int32 → Prop) (σ : gH)  (x0 : Nat) (x1 : Option Nat) (x2 : Option Nat) : Prop := ∃ a_7 : Nat, x1 = some a_7 ∧ (c_I σ [6] a_7 0 (fun v_8 => (v_8 = 2 → (Q 0)) ∧ (¬ v_8 = 2 → (c_I σ [6] a_7 0 (fun v_9 => (v_9 = 4 → (Q 0)) ∧ (¬ v_9 = 4 → (c_I σ [0] x0 10 (fun v_10 => (v_10 = 0 → (wX0_may_75 Q σ (some a_7) x2)) ∧ (¬ v_10 = 0 → (∃ a_20 : Nat, x2 = some a_20 ∧ (vX8_touchesFence σ (fun (v_21 : Int32) => (v_21 = 0 → (wX0_may_75 Q σ (some a_7) (some a_20))) ∧ (¬ v_21 = 0 → (Q 0))) a_20)))))))))))
def wX0_may_21 (Q : Int32 → Prop) (σ : gH)  (t0 : Int32) (x0 : Nat) (x1 : Option Nat) (x2 : Option Nat) : Prop := ∃ a_3 : Nat, x2 = some a_3 ∧ (vX8_kind σ (fun (v_4 : Int32) => (v_4 = 0 → (Q 1)) ∧ (¬ v_4 = 0 → (∃ a_5 : Nat, x1 = some a_5 ∧ (c_I σ [6] a_5 0 (fun v_6 => (v_6 ≤ 1 → (wX0_may_45 Q σ x0 (some a_5) (some a_3))) ∧ (¬ v_6 ≤ 1 → ((t0 = 0 → (wX0_may_45 Q σ x0 (some a_5) (some a_3))) ∧ (¬ t0 = 0 → (Q 1))))))))) a_3)
def wX0_may_20 (Q : Int32 → Prop) (σ : gH)  (x0 : Nat) (x1 : Option Nat) (x2 : Option Nat) : Prop := wX0_may_21 Q σ 0 x0 x1 x2
def wX0_may (Q : Int32 → Prop) (σ : gH) (x0 : Nat) (x1 : Option Nat) (x2 : Option Nat) (x3 : Int32) : Prop := ∃ a_1 : Nat, x2 = some a_1 ∧ (vX8_kind σ (fun (v_2 : Int32) => (v_2 = 1 → (c_I σ [8, 9, 10, 11, 12, 13, 14, 15] a_1 1 (fun v_22 => (v_22 = x3 → (wX0_may_21 Q σ 1 x0 x1 (some a_1))) ∧ (¬ v_22 = x3 → (wX0_may_20 Q σ x0 x1 (some a_1)))))) ∧ (¬ v_2 = 1 → (wX0_may_20 Q σ x0 x1 (some a_1)))) a_1)
set_option maxHeartbeats 4000000 in
theorem hX0_may_115 {Q : Int32 → Prop} {σ : gH}   (w : wX0_may_115 Q σ) : E mX0_may 7 0 0 (g_z (g_Pi σ Q)) 0 0 115 [] [] σ := by
  unfold wX0_may_115 at w
  refine e_iconst (n := 116) (v := 1) dX0_may_115 rfl (by decide) ?_
  refine e_goto (n := 120) dX0_may_116 (by decide) ?_
  exact e_zret rfl rfl (Nat.le_refl _) (Nat.le_refl _) ⟨_, rfl, rfl, w⟩ dX0_may_120
set_option maxHeartbeats 4000000 in
theorem hX0_may_75 {Q : Int32 → Prop} {σ : gH}  (x1 : Option Nat) (x2 : Option Nat) (w : wX0_may_75 Q σ x1 x2) : E mX0_may 7 0 0 (g_z (g_Pi σ Q)) 0 0 75 [(1, va_rf x1), (2, va_rf x2)] [] σ := by
  unfold wX0_may_75 at w
  refine e_aloadr_n (n := 76) (r := x1) dX0_may_75 rfl 0 rfl ?_
  refine e_aloadr_n (n := 77) (r := x2) dX0_may_76 rfl 1 rfl ?_
  obtain ⟨a_11, ha_11, w9a_11⟩ := w
  subst ha_11
  have w := w9a_11
  obtain ⟨fs_13, wo, w⟩ := w
  refine e_callVN (n := 80) (As := [va_rf x2]) (st := []) okX6_isWithout q675 q677 qs9 q72 q678 wo rfl (by decide) (Nat.le_refl _) (Nat.le_refl _) rfl rfl rfl dX0_may_77 rfl (ctX6_isWithout w) (fun r9 σ9 hk => ?_)
  obtain ⟨v_12, rfl, hs9, w⟩ := hk
  rw [hs9]
  refine e_if_eq (n := 83) (tgt := 85) dX0_may_80 rfl (by decide) (fun h => ?_) (fun h => ?_)
  · have w := w.1 h
    refine e_aload_n (n := 86) dX0_may_85 rfl 0 rfl ?_
    refine e_cI (n := 89) w fw_X6_sort (gl_n q501) dX0_may_86 rfl (fun v_14 w => ?_)
    refine e_iconst (n := 90) (v := 1) dX0_may_89 rfl (by decide) ?_
    refine e_icmp_ne (n := 93) (tgt := 115) dX0_may_90 rfl (by decide) (fun h => ?_) (fun h => ?_)
    · have w := w.2 h
      refine e_sub (lv' := []) [] rfl ?_
      exact hX0_may_115  w
    · have w := w.1 h
      refine e_aloadr_n (n := 94) (r := x2) dX0_may_93 rfl 1 rfl ?_
      obtain ⟨a_15, ha_15, w9a_15⟩ := w
      subst ha_15
      have w := w9a_15
      refine evX8_first (n := 97) (st := []) w (by decide) (Nat.le_refl _) (Nat.le_refl _) q702 rfl dX0_may_94 rfl (fun v_16 w => ?_)
      refine e_aload_n (n := 98) dX0_may_97 rfl 0 rfl ?_
      refine e_cI (n := 101) w fw_X6_from (gl_n q503) dX0_may_98 rfl (fun v_17 w => ?_)
      refine e_icmp_lt (n := 104) (tgt := 119) dX0_may_101 rfl (by decide) (fun h => ?_) (fun h => ?_)
      · have w := w.1 h
        refine e_iconst (n := 120) (v := 0) dX0_may_119 rfl (by decide) ?_
        exact e_zret rfl rfl (Nat.le_refl _) (Nat.le_refl _) ⟨_, rfl, rfl, w⟩ dX0_may_120
      · have w := w.2 h
        refine e_aload_n (n := 105) dX0_may_104 rfl 1 rfl ?_
        refine evX8_behind (n := 108) (st := []) w (by decide) (Nat.le_refl _) (Nat.le_refl _) q714 rfl dX0_may_105 rfl (fun v_18 w => ?_)
        refine e_aload_n (n := 109) dX0_may_108 rfl 0 rfl ?_
        refine e_cI (n := 112) w fw_X6_to (gl_n q505) dX0_may_109 rfl (fun v_19 w => ?_)
        refine e_icmp_gt (n := 115) (tgt := 119) dX0_may_112 rfl (by decide) (fun h => ?_) (fun h => ?_)
        · have w := w.1 h
          refine e_iconst (n := 120) (v := 0) dX0_may_119 rfl (by decide) ?_
          exact e_zret rfl rfl (Nat.le_refl _) (Nat.le_refl _) ⟨_, rfl, rfl, w⟩ dX0_may_120
        · have w := w.2 h
          refine e_sub (lv' := []) [] rfl ?_
          exact hX0_may_115  w
  · have w := w.2 h
    refine e_iconst (n := 84) (v := 0) dX0_may_83 rfl (by decide) ?_
    exact e_zret rfl rfl (Nat.le_refl _) (Nat.le_refl _) ⟨_, rfl, rfl, w⟩ dX0_may_84
set_option maxHeartbeats 4000000 in
theorem hX0_may_45 {Q : Int32 → Prop} {σ : gH}  (x0 : Nat) (x1 : Option Nat) (x2 : Option Nat) (w : wX0_may_45 Q σ x0 x1 x2) : E mX0_may 7 0 0 (g_z (g_Pi σ Q)) 0 0 45 [(0, .ref x0), (1, va_rf x1), (2, va_rf x2)] [] σ := by
  unfold wX0_may_45 at w
  refine e_aloadr_n (n := 46) (r := x1) dX0_may_45 rfl 1 rfl ?_
  obtain ⟨a_7, ha_7, w9a_7⟩ := w
  subst ha_7
  have w := w9a_7
  refine e_cI (n := 49) w fw_X6_sort (gl_n q501) dX0_may_46 rfl (fun v_8 w => ?_)
  refine e_iconst (n := 50) (v := 2) dX0_may_49 rfl (by decide) ?_
  refine e_icmp_eq (n := 53) (tgt := 83) dX0_may_50 rfl (by decide) (fun h => ?_) (fun h => ?_)
  · have w := w.1 h
    refine e_iconst (n := 84) (v := 0) dX0_may_83 rfl (by decide) ?_
    exact e_zret rfl rfl (Nat.le_refl _) (Nat.le_refl _) ⟨_, rfl, rfl, w⟩ dX0_may_84
  · have w := w.2 h
    refine e_aload_n (n := 54) dX0_may_53 rfl 1 rfl ?_
    refine e_cI (n := 57) w fw_X6_sort (gl_n q501) dX0_may_54 rfl (fun v_9 w => ?_)
    refine e_iconst (n := 58) (v := 4) dX0_may_57 rfl (by decide) ?_
    refine e_icmp_eq (n := 61) (tgt := 83) dX0_may_58 rfl (by decide) (fun h => ?_) (fun h => ?_)
    · have w := w.1 h
      refine e_iconst (n := 84) (v := 0) dX0_may_83 rfl (by decide) ?_
      exact e_zret rfl rfl (Nat.le_refl _) (Nat.le_refl _) ⟨_, rfl, rfl, w⟩ dX0_may_84
    · have w := w.2 h
      refine e_aload_n (n := 62) dX0_may_61 rfl 0 rfl ?_
      refine e_cI (n := 65) w fw_X0_fences (gl_o q193) dX0_may_62 rfl (fun v_10 w => ?_)
      refine e_if_eq (n := 68) (tgt := 75) dX0_may_65 rfl (by decide) (fun h => ?_) (fun h => ?_)
      · have w := w.1 h
        refine e_sub (lv' := [(1, va_rf (some a_7)), (2, va_rf x2)]) [1, 2] rfl ?_
        exact hX0_may_75 _ _ w
      · have w := w.2 h
        refine e_aloadr_n (n := 69) (r := x2) dX0_may_68 rfl 2 rfl ?_
        obtain ⟨a_20, ha_20, w9a_20⟩ := w
        subst ha_20
        have w := w9a_20
        refine evX8_touchesFence (n := 72) (st := []) w (by decide) (Nat.le_refl _) (Nat.le_refl _) q642 rfl dX0_may_69 rfl (fun v_21 w => ?_)
        refine e_if_ne (n := 75) (tgt := 83) dX0_may_72 rfl (by decide) (fun h => ?_) (fun h => ?_)
        · have w := w.2 h
          refine e_iconst (n := 84) (v := 0) dX0_may_83 rfl (by decide) ?_
          exact e_zret rfl rfl (Nat.le_refl _) (Nat.le_refl _) ⟨_, rfl, rfl, w⟩ dX0_may_84
        · have w := w.1 h
          refine e_sub (lv' := [(1, va_rf (some a_7)), (2, va_rf (some a_20))]) [1, 2] rfl ?_
          exact hX0_may_75 _ _ w
set_option maxHeartbeats 4000000 in
theorem hX0_may_21 {Q : Int32 → Prop} {σ : gH}  (t0 : Int32) (x0 : Nat) (x1 : Option Nat) (x2 : Option Nat) (w : wX0_may_21 Q σ t0 x0 x1 x2) : E mX0_may 7 0 0 (g_z (g_Pi σ Q)) 0 0 21 [(0, .ref x0), (1, va_rf x1), (2, va_rf x2)] [.int t0] σ := by
  unfold wX0_may_21 at w
  refine e_istore (n := 23) (lv' := [(0, .ref x0), (1, va_rf x1), (2, va_rf x2), (4, .int t0)]) [1, 2, 3, 0] dX0_may_21 rfl rfl rfl ?_
  refine e_aloadr_n (n := 24) (r := x2) dX0_may_23 rfl 2 rfl ?_
  obtain ⟨a_3, ha_3, w9a_3⟩ := w
  subst ha_3
  have w := w9a_3
  refine evX8_kind (n := 27) (st := []) w (by decide) (Nat.le_refl _) (Nat.le_refl _) q603 rfl dX0_may_24 rfl (fun v_4 w => ?_)
  refine e_if_eq (n := 30) (tgt := 43) dX0_may_27 rfl (by decide) (fun h => ?_) (fun h => ?_)
  · have w := w.1 h
    refine e_iconst (n := 44) (v := 1) dX0_may_43 rfl (by decide) ?_
    exact e_zret rfl rfl (Nat.le_refl _) (Nat.le_refl _) ⟨_, rfl, rfl, w⟩ dX0_may_44
  · have w := w.2 h
    refine e_aloadr_n (n := 31) (r := x1) dX0_may_30 rfl 1 rfl ?_
    obtain ⟨a_5, ha_5, w9a_5⟩ := w
    subst ha_5
    have w := w9a_5
    refine e_cI (n := 34) w fw_X6_sort (gl_n q501) dX0_may_31 rfl (fun v_6 w => ?_)
    refine e_iconst (n := 35) (v := 1) dX0_may_34 rfl (by decide) ?_
    refine e_icmp_le (n := 38) (tgt := 45) dX0_may_35 rfl (by decide) (fun h => ?_) (fun h => ?_)
    · have w := w.1 h
      refine e_sub (lv' := [(0, .ref x0), (1, va_rf (some a_5)), (2, va_rf (some a_3))]) [0, 1, 2] rfl ?_
      exact hX0_may_45 _ _ _ w
    · have w := w.2 h
      refine e_iload (n := 40) dX0_may_38 rfl 3 rfl ?_
      refine e_if_eq (n := 43) (tgt := 45) dX0_may_40 rfl (by decide) (fun h => ?_) (fun h => ?_)
      · have w := w.1 h
        refine e_sub (lv' := [(0, .ref x0), (1, va_rf (some a_5)), (2, va_rf (some a_3))]) [0, 1, 2] rfl ?_
        exact hX0_may_45 _ _ _ w
      · have w := w.2 h
        refine e_iconst (n := 44) (v := 1) dX0_may_43 rfl (by decide) ?_
        exact e_zret rfl rfl (Nat.le_refl _) (Nat.le_refl _) ⟨_, rfl, rfl, w⟩ dX0_may_44
set_option maxHeartbeats 4000000 in
theorem hX0_may_20 {Q : Int32 → Prop} {σ : gH}  (x0 : Nat) (x1 : Option Nat) (x2 : Option Nat) (w : wX0_may_20 Q σ x0 x1 x2) : E mX0_may 7 0 0 (g_z (g_Pi σ Q)) 0 0 20 [(0, .ref x0), (1, va_rf x1), (2, va_rf x2)] [] σ := by
  unfold wX0_may_20 at w
  refine e_iconst (n := 21) (v := 0) dX0_may_20 rfl (by decide) ?_
  exact hX0_may_21 _ _ _ _ w
set_option maxHeartbeats 4000000 in
theorem ctX0_may {Q : Int32 → Prop} {x0 : Nat} {x1 : Option Nat} {x2 : Option Nat} {x3 : Int32} {σ : gH} (w : wX0_may Q σ x0 x1 x2 x3) : CT mX0_may 7 0 0 [.ref x0, va_rf x1, va_rf x2, .int x3] σ (g_Pi σ Q) := by
  refine CT.of (lv := [(0, .ref x0), (1, va_rf x1), (2, va_rf x2), (3, .int x3)]) okX0_may.1 (by cases x1 <;> cases x2 <;> rfl) (by cases x1 <;> cases x2 <;> rfl) ?_
  unfold wX0_may at w
  refine e_aloadr_n (n := 1) (r := x2) dX0_may_0 rfl 2 rfl ?_
  obtain ⟨a_1, ha_1, w9a_1⟩ := w
  subst ha_1
  have w := w9a_1
  refine evX8_kind (n := 4) (st := []) w (by decide) (Nat.le_refl _) (Nat.le_refl _) q603 rfl dX0_may_1 rfl (fun v_2 w => ?_)
  refine e_iconst (n := 5) (v := 1) dX0_may_4 rfl (by decide) ?_
  refine e_icmp_ne (n := 8) (tgt := 20) dX0_may_5 rfl (by decide) (fun h => ?_) (fun h => ?_)
  · have w := w.2 h
    refine e_sub (lv' := [(0, .ref x0), (1, va_rf x1), (2, va_rf (some a_1))]) [0, 1, 2] rfl ?_
    exact hX0_may_20 _ _ _ w
  · have w := w.1 h
    refine e_aload_n (n := 9) dX0_may_8 rfl 2 rfl ?_
    refine e_cI (n := 12) w fw_X8_place (gl_o q565) dX0_may_9 rfl (fun v_22 w => ?_)
    refine e_iload_n (n := 13) dX0_may_12 rfl 3 rfl ?_
    refine e_icmp_ne (n := 16) (tgt := 20) dX0_may_13 rfl (by decide) (fun h => ?_) (fun h => ?_)
    · have w := w.2 h
      refine e_sub (lv' := [(0, .ref x0), (1, va_rf x1), (2, va_rf (some a_1))]) [0, 1, 2] rfl ?_
      exact hX0_may_20 _ _ _ w
    · have w := w.1 h
      refine e_iconst (n := 17) (v := 1) dX0_may_16 rfl (by decide) ?_
      refine e_goto (n := 21) dX0_may_17 (by decide) ?_
      refine e_sub (lv' := [(0, .ref x0), (1, va_rf x1), (2, va_rf (some a_1))]) [0, 1, 2] rfl ?_
      exact hX0_may_21 _ _ _ _ w
abbrev mX7_add : gM := (yX7_add, cX7_add, 2, none)
theorem okX7_add : g_ok mX7_add 1 := ⟨by decide +kernel, by decide +kernel, by decide +kernel, by decide +kernel, by decide⟩
def wX7_add (Q : gH → Prop) (mc ms : Nat) (x0 : Nat) (x1 : Option Nat) (σ : gH) : Prop := c_R σ [7] x0 12 (fun r_1 => c_R σ [7] x0 2 (fun r_2 => c_I σ [7] x0 1 (fun v_3 => ∃ a_4 : Nat, r_1 = some a_4 ∧ (∃ fs_6 : List Value, σ.2 a_4 = some (.inr (0, fs_6)) ∧ (wX0_may (fun (v_5 : Int32) => (v_5 = 0 → (Q σ)) ∧ (¬ v_5 = 0 → (c_R σ [7] x0 6 (fun r_7 => ∃ a_8 : Nat, r_7 = some a_8 ∧ (∃ fs_13 : List Value, σ.2 a_8 = some (.inr (18, fs_13)) ∧ ∃ c_11 b_12 : Nat, 0 + c_11 ≤ mc ∧ 0 + b_12 ≤ ms ∧ (wJ2_add (fun (v_10 : Int32) (σ_9 : gH) => Q σ_9) c_11 b_12 a_8 x1 σ)))))) σ a_4 r_2 x1 v_3)))))
set_option maxHeartbeats 4000000 in
theorem ctX7_add {Q : gH → Prop} {mc ms : Nat} {x0 : Nat} {x1 : Option Nat} {σ : gH} (w : wX7_add Q mc ms x0 x1 σ) : CT mX7_add 8 mc ms [.ref x0, va_rf x1] σ (c_Kv Q) := by
  refine CT.of (lv := [(0, .ref x0), (1, va_rf x1)]) okX7_add.1 (by cases x1 <;> rfl) (by cases x1 <;> rfl) ?_
  unfold wX7_add at w
  refine e_aload_n (n := 1) dX7_add_0 rfl 0 rfl ?_
  refine e_cR (n := 4) w fw_X7_this_0 (gl_o q947) dX7_add_1 rfl (fun r_1 w => ?_)
  refine e_aload_n (n := 5) dX7_add_4 rfl 0 rfl ?_
  refine e_cR (n := 8) w fw_X7_way (gl_o q925) dX7_add_5 rfl (fun r_2 w => ?_)
  refine e_aloadr_n (n := 9) (r := x1) dX7_add_8 rfl 1 rfl ?_
  refine e_aload_n (n := 10) dX7_add_9 rfl 0 rfl ?_
  refine e_cI (n := 13) w fw_X7_n (gl_o q922) dX7_add_10 rfl (fun v_3 w => ?_)
  obtain ⟨a_4, ha_4, w9a_4⟩ := w
  subst ha_4
  have w := w9a_4
  obtain ⟨fs_6, wo, w⟩ := w
  refine e_callVN (n := 16) (As := [va_rf r_2, va_rf x1, .int v_3]) (st := []) okX0_may q599 q601 qs8 q57 q602 wo rfl (by decide) (Nat.zero_le _) (Nat.zero_le _) rfl rfl rfl dX7_add_13 rfl (ctX0_may w) (fun r9 σ9 hk => ?_)
  obtain ⟨v_5, rfl, hs9, w⟩ := hk
  rw [hs9]
  refine e_if_eq (n := 19) (tgt := 30) dX7_add_16 rfl (by decide) (fun h => ?_) (fun h => ?_)
  · have w := w.1 h
    exact e_vret rfl (Nat.zero_le _) (Nat.zero_le _) ⟨rfl, w⟩ dX7_add_30
  · have w := w.2 h
    refine e_aload_n (n := 20) dX7_add_19 rfl 0 rfl ?_
    refine e_cR (n := 23) w fw_X7_steps (gl_o q934) dX7_add_20 rfl (fun r_7 w => ?_)
    refine e_aloadr_n (n := 24) (r := x1) dX7_add_23 rfl 1 rfl ?_
    obtain ⟨a_8, ha_8, w9a_8⟩ := w
    subst ha_8
    have w := w9a_8
    obtain ⟨fs_13, wo, w⟩ := w
    obtain ⟨c_11, b_12, hu1, hu2, w⟩ := w
    refine e_callF (n := 29) (As := [va_rf x1]) (st := []) okJ2_add q741 q329 q331 q60 q333 q328 q327 q332 q330 q286 rfl (by decide) wo rfl (by decide) hu1 hu2 rfl rfl rfl dX7_add_24 rfl (ctJ2_add w) (fun r9 σ_9 hk => ?_)
    obtain ⟨v_10, rfl, w⟩ := hk
    refine e_pop (n := 30) dX7_add_29 rfl rfl ?_
    exact e_vret rfl hu1 hu2 ⟨rfl, w⟩ dX7_add_30
abbrev mX10_init : gM := (yX10_init, cX10_init, 7, none)
theorem okX10_init : g_ok mX10_init 6 := ⟨by decide +kernel, by decide +kernel, by decide +kernel, by decide +kernel, by decide⟩
theorem ff_X10_init_this_0 : ∀ ci ∈ [10, 11, 14, 15], ∃ (C : String) (T : u_T) (N : Nat) (ty0 : Nat → FieldType), g_cl[ci]? = some (C, T, N) ∧ (∀ k, k < N → parseFieldDescriptor (T k).2.2.1 = some (ty0 k)) ∧ g_nm T N ∧ (∀ w ∈ u_ws C T N, w ∈ lw_all) ∧ Nat.ble (7 + 1) N = true ∧ Cond.fieldLink mX10_init.1.cls 1 (T 7).1 (T 7).2.1 (T 7).2.2.1 ∈ lw_all ∧ (T 7).2.2.2 = true ∧ (T 7).1 = mX10_init.1.cls ∧ ty0 7 = (.object "MendReader") := by
  intro ci h
  simp only [List.mem_cons, List.not_mem_nil, or_false] at h
  rcases h with rfl | rfl | rfl | rfl
  · exact ⟨_, _, _, tyX10, rfl, tyX10_ok, gn_X10, in_X10, rfl, q762, rfl, rfl, rfl⟩
  · exact ⟨_, _, _, tyX11, rfl, tyX11_ok, gn_X11, in_X11, rfl, q762, rfl, rfl, rfl⟩
  · exact ⟨_, _, _, tyX14, rfl, tyX14_ok, gn_X14, in_X14, rfl, q762, rfl, rfl, rfl⟩
  · exact ⟨_, _, _, tyX15, rfl, tyX15_ok, gn_X15, in_X15, rfl, q762, rfl, rfl, rfl⟩
def wX10_init (Q : gH → Prop) (x0 : Nat) (x1 : Option Nat) (x2 : Option Nat) (x3 : Int32) (x4 : Int32) (x5 : Int32) (x6 : Int32) (σ : gH) : Prop := c_P σ [10, 11, 14, 15] x0 7 (va_rf x1) (fun σ_1 => wX9_init (fun (σ_2 : gH) => Q σ_2) x0 x1 x2 x3 x4 x5 x6 σ_1)
set_option maxHeartbeats 4000000 in
theorem ctX10_init {Q : gH → Prop} {x0 : Nat} {x1 : Option Nat} {x2 : Option Nat} {x3 : Int32} {x4 : Int32} {x5 : Int32} {x6 : Int32} {σ : gH} (w : wX10_init Q x0 x1 x2 x3 x4 x5 x6 σ) : CT mX10_init 3 0 0 [.ref x0, va_rf x1, va_rf x2, .int x3, .int x4, .int x5, .int x6] σ (c_Kv Q) := by
  refine CT.of (lv := [(0, .ref x0), (1, va_rf x1), (2, va_rf x2), (3, .int x3), (4, .int x4), (5, .int x5), (6, .int x6)]) okX10_init.1 (by cases x1 <;> cases x2 <;> rfl) (by cases x1 <;> cases x2 <;> rfl) ?_
  unfold wX10_init at w
  refine e_aload_n (n := 1) dX10_init_0 rfl 0 rfl ?_
  refine e_aloadr_n (n := 2) (r := x1) dX10_init_1 rfl 1 rfl ?_
  refine e_cPF (n := 5) (ty := (.object "MendReader")) w ff_X10_init_this_0 rfl (rf_nar _ x1) dX10_init_2 rfl (fun σ_1 w => ?_)
  refine e_aload_n (n := 6) dX10_init_5 rfl 0 rfl ?_
  refine e_aloadr_n (n := 7) (r := x1) dX10_init_6 rfl 1 rfl ?_
  refine e_aloadr_n (n := 8) (r := x2) dX10_init_7 rfl 2 rfl ?_
  refine e_iload_n (n := 9) dX10_init_8 rfl 3 rfl ?_
  refine e_iload (n := 11) dX10_init_9 rfl 4 rfl ?_
  refine e_iload (n := 13) dX10_init_11 rfl 5 rfl ?_
  refine e_iload (n := 15) dX10_init_13 rfl 6 rfl ?_
  refine e_callI (n := 18) (As := [va_rf x1, va_rf x2, .int x3, .int x4, .int x5, .int x6]) (st := []) okX9_init rfl rfl q761 q541 q75 q542 (by decide) (Nat.le_refl _) (Nat.le_refl _) rfl rfl (Nat.le_of_ble_eq_true rfl) dX10_init_15 rfl (ctX9_init w) (fun r9 σ_2 hk => ?_)
  obtain ⟨rfl, w⟩ := hk
  exact e_vret rfl (Nat.le_refl _) (Nat.le_refl _) ⟨rfl, w⟩ dX10_init_18
abbrev mX11_init : gM := (yX11_init, cX11_init, 9, none)
theorem okX11_init : g_ok mX11_init 8 := ⟨by decide +kernel, by decide +kernel, by decide +kernel, by decide +kernel, by decide⟩
theorem ff_X11_init_this_0 : ∀ ci ∈ [11, 15], ∃ (C : String) (T : u_T) (N : Nat) (ty0 : Nat → FieldType), g_cl[ci]? = some (C, T, N) ∧ (∀ k, k < N → parseFieldDescriptor (T k).2.2.1 = some (ty0 k)) ∧ g_nm T N ∧ (∀ w ∈ u_ws C T N, w ∈ lw_all) ∧ Nat.ble (10 + 1) N = true ∧ Cond.fieldLink mX11_init.1.cls 1 (T 10).1 (T 10).2.1 (T 10).2.2.1 ∈ lw_all ∧ (T 10).2.2.2 = true ∧ (T 10).1 = mX11_init.1.cls ∧ ty0 10 = (.object "MendReader") := by
  intro ci h
  simp only [List.mem_cons, List.not_mem_nil, or_false] at h
  rcases h with rfl | rfl
  · exact ⟨_, _, _, tyX11, rfl, tyX11_ok, gn_X11, in_X11, rfl, q780, rfl, rfl, rfl⟩
  · exact ⟨_, _, _, tyX15, rfl, tyX15_ok, gn_X15, in_X15, rfl, q780, rfl, rfl, rfl⟩
theorem ff_X11_init_form : ∀ ci ∈ [11, 15], ∃ (C : String) (T : u_T) (N : Nat) (ty0 : Nat → FieldType), g_cl[ci]? = some (C, T, N) ∧ (∀ k, k < N → parseFieldDescriptor (T k).2.2.1 = some (ty0 k)) ∧ g_nm T N ∧ (∀ w ∈ u_ws C T N, w ∈ lw_all) ∧ Nat.ble (8 + 1) N = true ∧ Cond.fieldLink mX11_init.1.cls 13 (T 8).1 (T 8).2.1 (T 8).2.2.1 ∈ lw_all ∧ (T 8).2.2.2 = true ∧ (T 8).1 = mX11_init.1.cls ∧ ty0 8 = (.object "MendReader$Form") := by
  intro ci h
  simp only [List.mem_cons, List.not_mem_nil, or_false] at h
  rcases h with rfl | rfl
  · exact ⟨_, _, _, tyX11, rfl, tyX11_ok, gn_X11, in_X11, rfl, q778, rfl, rfl, rfl⟩
  · exact ⟨_, _, _, tyX15, rfl, tyX15_ok, gn_X15, in_X15, rfl, q778, rfl, rfl, rfl⟩
theorem ff_X11_init_number : ∀ ci ∈ [11, 15], ∃ (C : String) (T : u_T) (N : Nat) (ty0 : Nat → FieldType), g_cl[ci]? = some (C, T, N) ∧ (∀ k, k < N → parseFieldDescriptor (T k).2.2.1 = some (ty0 k)) ∧ g_nm T N ∧ (∀ w ∈ u_ws C T N, w ∈ lw_all) ∧ Nat.ble (9 + 1) N = true ∧ Cond.fieldLink mX11_init.1.cls 17 (T 9).1 (T 9).2.1 (T 9).2.2.1 ∈ lw_all ∧ (T 9).2.2.2 = true ∧ (T 9).1 = mX11_init.1.cls ∧ ty0 9 = .int := by
  intro ci h
  simp only [List.mem_cons, List.not_mem_nil, or_false] at h
  rcases h with rfl | rfl
  · exact ⟨_, _, _, tyX11, rfl, tyX11_ok, gn_X11, in_X11, rfl, q779, rfl, rfl, rfl⟩
  · exact ⟨_, _, _, tyX15, rfl, tyX15_ok, gn_X15, in_X15, rfl, q779, rfl, rfl, rfl⟩
def wX11_init (Q : gH → Prop) (x0 : Nat) (x1 : Option Nat) (x2 : Option Nat) (x3 : Int32) (x4 : Int32) (x5 : Int32) (x6 : Int32) (x7 : Option Nat) (x8 : Int32) (σ : gH) : Prop := c_P σ [11, 15] x0 10 (va_rf x1) (fun σ_1 => wX10_init (fun (σ_2 : gH) => c_P σ_2 [11, 15] x0 8 (va_rf x7) (fun σ_3 => c_P σ_3 [11, 15] x0 9 (.int x8) (fun σ_4 => Q σ_4))) x0 x1 x2 x3 x4 x5 x6 σ_1)
set_option maxHeartbeats 4000000 in
theorem ctX11_init {Q : gH → Prop} {x0 : Nat} {x1 : Option Nat} {x2 : Option Nat} {x3 : Int32} {x4 : Int32} {x5 : Int32} {x6 : Int32} {x7 : Option Nat} {x8 : Int32} {σ : gH} (w : wX11_init Q x0 x1 x2 x3 x4 x5 x6 x7 x8 σ) : CT mX11_init 4 0 0 [.ref x0, va_rf x1, va_rf x2, .int x3, .int x4, .int x5, .int x6, va_rf x7, .int x8] σ (c_Kv Q) := by
  refine CT.of (lv := [(0, .ref x0), (1, va_rf x1), (2, va_rf x2), (3, .int x3), (4, .int x4), (5, .int x5), (6, .int x6), (7, va_rf x7), (8, .int x8)]) okX11_init.1 (by cases x1 <;> cases x2 <;> cases x7 <;> rfl) (by cases x1 <;> cases x2 <;> cases x7 <;> rfl) ?_
  unfold wX11_init at w
  refine e_aload_n (n := 1) dX11_init_0 rfl 0 rfl ?_
  refine e_aloadr_n (n := 2) (r := x1) dX11_init_1 rfl 1 rfl ?_
  refine e_cPF (n := 5) (ty := (.object "MendReader")) w ff_X11_init_this_0 rfl (rf_nar _ x1) dX11_init_2 rfl (fun σ_1 w => ?_)
  refine e_aload_n (n := 6) dX11_init_5 rfl 0 rfl ?_
  refine e_aloadr_n (n := 7) (r := x1) dX11_init_6 rfl 1 rfl ?_
  refine e_aloadr_n (n := 8) (r := x2) dX11_init_7 rfl 2 rfl ?_
  refine e_iload_n (n := 9) dX11_init_8 rfl 3 rfl ?_
  refine e_iload (n := 11) dX11_init_9 rfl 4 rfl ?_
  refine e_iload (n := 13) dX11_init_11 rfl 5 rfl ?_
  refine e_iload (n := 15) dX11_init_13 rfl 6 rfl ?_
  refine e_callI (n := 18) (As := [va_rf x1, va_rf x2, .int x3, .int x4, .int x5, .int x6]) (st := []) okX10_init rfl rfl q777 q759 q76 q760 (by decide) (Nat.le_refl _) (Nat.le_refl _) rfl rfl (Nat.le_of_ble_eq_true rfl) dX11_init_15 rfl (ctX10_init w) (fun r9 σ_2 hk => ?_)
  obtain ⟨rfl, w⟩ := hk
  refine e_aload_n (n := 19) dX11_init_18 rfl 0 rfl ?_
  refine e_aloadr (n := 21) (r := x7) dX11_init_19 rfl 7 rfl ?_
  refine e_cPF (n := 24) (ty := (.object "MendReader$Form")) w ff_X11_init_form rfl (rf_nar _ x7) dX11_init_21 rfl (fun σ_3 w => ?_)
  refine e_aload_n (n := 25) dX11_init_24 rfl 0 rfl ?_
  refine e_iload (n := 27) dX11_init_25 rfl 8 rfl ?_
  refine e_cPF (n := 30) (ty := .int) w ff_X11_init_number rfl ⟨rfl, rfl⟩ dX11_init_27 rfl (fun σ_4 w => ?_)
  exact e_vret rfl (Nat.le_refl _) (Nat.le_refl _) ⟨rfl, w⟩ dX11_init_30
abbrev mX12_init : gM := (yX12_init, cX12_init, 6, none)
theorem okX12_init : g_ok mX12_init 5 := ⟨by decide +kernel, by decide +kernel, by decide +kernel, by decide +kernel, by decide⟩
theorem ff_X12_init_this_0 : ∀ ci ∈ [12, 13], ∃ (C : String) (T : u_T) (N : Nat) (ty0 : Nat → FieldType), g_cl[ci]? = some (C, T, N) ∧ (∀ k, k < N → parseFieldDescriptor (T k).2.2.1 = some (ty0 k)) ∧ g_nm T N ∧ (∀ w ∈ u_ws C T N, w ∈ lw_all) ∧ Nat.ble (7 + 1) N = true ∧ Cond.fieldLink mX12_init.1.cls 1 (T 7).1 (T 7).2.1 (T 7).2.2.1 ∈ lw_all ∧ (T 7).2.2.2 = true ∧ (T 7).1 = mX12_init.1.cls ∧ ty0 7 = (.object "MendReader") := by
  intro ci h
  simp only [List.mem_cons, List.not_mem_nil, or_false] at h
  rcases h with rfl | rfl
  · exact ⟨_, _, _, tyX12, rfl, tyX12_ok, gn_X12, in_X12, rfl, q801, rfl, rfl, rfl⟩
  · exact ⟨_, _, _, tyX13, rfl, tyX13_ok, gn_X13, in_X13, rfl, q801, rfl, rfl, rfl⟩
def wX12_init (Q : gH → Prop) (x0 : Nat) (x1 : Option Nat) (x2 : Option Nat) (x3 : Int32) (x4 : Int32) (x5 : Int32) (σ : gH) : Prop := c_P σ [12, 13] x0 7 (va_rf x1) (fun σ_1 => ∃ a_2 : Nat, x2 = some a_2 ∧ (c_R σ_1 [7] a_2 0 (fun r_3 => ∃ a_4 : Nat, r_3 = some a_4 ∧ (c_aI σ_1 a_4 x3 (fun v_5 => wX9_init (fun (σ_6 : gH) => Q σ_6) x0 x1 (some a_2) x3 x4 x5 v_5 σ_1)))))
set_option maxHeartbeats 4000000 in
theorem ctX12_init {Q : gH → Prop} {x0 : Nat} {x1 : Option Nat} {x2 : Option Nat} {x3 : Int32} {x4 : Int32} {x5 : Int32} {σ : gH} (w : wX12_init Q x0 x1 x2 x3 x4 x5 σ) : CT mX12_init 3 0 0 [.ref x0, va_rf x1, va_rf x2, .int x3, .int x4, .int x5] σ (c_Kv Q) := by
  refine CT.of (lv := [(0, .ref x0), (1, va_rf x1), (2, va_rf x2), (3, .int x3), (4, .int x4), (5, .int x5)]) okX12_init.1 (by cases x1 <;> cases x2 <;> rfl) (by cases x1 <;> cases x2 <;> rfl) ?_
  unfold wX12_init at w
  refine e_aload_n (n := 1) dX12_init_0 rfl 0 rfl ?_
  refine e_aloadr_n (n := 2) (r := x1) dX12_init_1 rfl 1 rfl ?_
  refine e_cPF (n := 5) (ty := (.object "MendReader")) w ff_X12_init_this_0 rfl (rf_nar _ x1) dX12_init_2 rfl (fun σ_1 w => ?_)
  refine e_aload_n (n := 6) dX12_init_5 rfl 0 rfl ?_
  refine e_aloadr_n (n := 7) (r := x1) dX12_init_6 rfl 1 rfl ?_
  refine e_aloadr_n (n := 8) (r := x2) dX12_init_7 rfl 2 rfl ?_
  refine e_iload_n (n := 9) dX12_init_8 rfl 3 rfl ?_
  refine e_iload (n := 11) dX12_init_9 rfl 4 rfl ?_
  refine e_iload (n := 13) dX12_init_11 rfl 5 rfl ?_
  refine e_aloadr_n (n := 14) (r := x2) dX12_init_13 rfl 2 rfl ?_
  obtain ⟨a_2, ha_2, w9a_2⟩ := w
  subst ha_2
  have w := w9a_2
  refine e_cR (n := 17) w fw_X7_text (gl_n q916) dX12_init_14 rfl (fun r_3 w => ?_)
  refine e_iload_n (n := 18) dX12_init_17 rfl 3 rfl ?_
  obtain ⟨a_4, ha_4, w9a_4⟩ := w
  subst ha_4
  have w := w9a_4
  refine e_caI (n := 19) w dX12_init_18 rfl (fun v_5 w => ?_)
  refine e_callI (n := 22) (As := [va_rf x1, va_rf (some a_2), .int x3, .int x4, .int x5, .int v_5]) (st := []) okX9_init rfl rfl q800 q541 q75 q542 (by decide) (Nat.le_refl _) (Nat.le_refl _) rfl rfl (Nat.le_of_ble_eq_true rfl) dX12_init_19 rfl (ctX9_init w) (fun r9 σ_6 hk => ?_)
  obtain ⟨rfl, w⟩ := hk
  exact e_vret rfl (Nat.le_refl _) (Nat.le_refl _) ⟨rfl, w⟩ dX12_init_22
abbrev mX13_init : gM := (yX13_init, cX13_init, 7, none)
theorem okX13_init : g_ok mX13_init 6 := ⟨by decide +kernel, by decide +kernel, by decide +kernel, by decide +kernel, by decide⟩
theorem ff_X13_init_this_0 : ∀ ci ∈ [13], ∃ (C : String) (T : u_T) (N : Nat) (ty0 : Nat → FieldType), g_cl[ci]? = some (C, T, N) ∧ (∀ k, k < N → parseFieldDescriptor (T k).2.2.1 = some (ty0 k)) ∧ g_nm T N ∧ (∀ w ∈ u_ws C T N, w ∈ lw_all) ∧ Nat.ble (9 + 1) N = true ∧ Cond.fieldLink mX13_init.1.cls 1 (T 9).1 (T 9).2.1 (T 9).2.2.1 ∈ lw_all ∧ (T 9).2.2.2 = true ∧ (T 9).1 = mX13_init.1.cls ∧ ty0 9 = (.object "MendReader") := by
  intro ci h
  simp only [List.mem_cons, List.not_mem_nil, or_false] at h
  subst h
  exact ⟨_, _, _, tyX13, rfl, tyX13_ok, gn_X13, in_X13, rfl, q818, rfl, rfl, rfl⟩
theorem ff_X13_init_many : ∀ ci ∈ [13], ∃ (C : String) (T : u_T) (N : Nat) (ty0 : Nat → FieldType), g_cl[ci]? = some (C, T, N) ∧ (∀ k, k < N → parseFieldDescriptor (T k).2.2.1 = some (ty0 k)) ∧ g_nm T N ∧ (∀ w ∈ u_ws C T N, w ∈ lw_all) ∧ Nat.ble (8 + 1) N = true ∧ Cond.fieldLink mX13_init.1.cls 13 (T 8).1 (T 8).2.1 (T 8).2.2.1 ∈ lw_all ∧ (T 8).2.2.2 = true ∧ (T 8).1 = mX13_init.1.cls ∧ ty0 8 = .int := by
  intro ci h
  simp only [List.mem_cons, List.not_mem_nil, or_false] at h
  subst h
  exact ⟨_, _, _, tyX13, rfl, tyX13_ok, gn_X13, in_X13, rfl, q817, rfl, rfl, rfl⟩
def wX13_init (Q : gH → Prop) (x0 : Nat) (x1 : Option Nat) (x2 : Option Nat) (x3 : Int32) (x4 : Int32) (x5 : Int32) (x6 : Int32) (σ : gH) : Prop := c_P σ [13] x0 9 (va_rf x1) (fun σ_1 => wX12_init (fun (σ_2 : gH) => c_P σ_2 [13] x0 8 (.int x6) (fun σ_3 => Q σ_3)) x0 x1 x2 x3 x4 x5 σ_1)
set_option maxHeartbeats 4000000 in
theorem ctX13_init {Q : gH → Prop} {x0 : Nat} {x1 : Option Nat} {x2 : Option Nat} {x3 : Int32} {x4 : Int32} {x5 : Int32} {x6 : Int32} {σ : gH} (w : wX13_init Q x0 x1 x2 x3 x4 x5 x6 σ) : CT mX13_init 4 0 0 [.ref x0, va_rf x1, va_rf x2, .int x3, .int x4, .int x5, .int x6] σ (c_Kv Q) := by
  refine CT.of (lv := [(0, .ref x0), (1, va_rf x1), (2, va_rf x2), (3, .int x3), (4, .int x4), (5, .int x5), (6, .int x6)]) okX13_init.1 (by cases x1 <;> cases x2 <;> rfl) (by cases x1 <;> cases x2 <;> rfl) ?_
  unfold wX13_init at w
  refine e_aload_n (n := 1) dX13_init_0 rfl 0 rfl ?_
  refine e_aloadr_n (n := 2) (r := x1) dX13_init_1 rfl 1 rfl ?_
  refine e_cPF (n := 5) (ty := (.object "MendReader")) w ff_X13_init_this_0 rfl (rf_nar _ x1) dX13_init_2 rfl (fun σ_1 w => ?_)
  refine e_aload_n (n := 6) dX13_init_5 rfl 0 rfl ?_
  refine e_aloadr_n (n := 7) (r := x1) dX13_init_6 rfl 1 rfl ?_
  refine e_aloadr_n (n := 8) (r := x2) dX13_init_7 rfl 2 rfl ?_
  refine e_iload_n (n := 9) dX13_init_8 rfl 3 rfl ?_
  refine e_iload (n := 11) dX13_init_9 rfl 4 rfl ?_
  refine e_iload (n := 13) dX13_init_11 rfl 5 rfl ?_
  refine e_callI (n := 16) (As := [va_rf x1, va_rf x2, .int x3, .int x4, .int x5]) (st := []) okX12_init rfl rfl q816 q798 q78 q799 (by decide) (Nat.le_refl _) (Nat.le_refl _) rfl rfl (Nat.le_of_ble_eq_true rfl) dX13_init_13 rfl (ctX12_init w) (fun r9 σ_2 hk => ?_)
  obtain ⟨rfl, w⟩ := hk
  refine e_aload_n (n := 17) dX13_init_16 rfl 0 rfl ?_
  refine e_iload (n := 19) dX13_init_17 rfl 6 rfl ?_
  refine e_cPF (n := 22) (ty := .int) w ff_X13_init_many rfl ⟨rfl, rfl⟩ dX13_init_19 rfl (fun σ_3 w => ?_)
  exact e_vret rfl (Nat.le_refl _) (Nat.le_refl _) ⟨rfl, w⟩ dX13_init_22
abbrev mX7_single : gM := (yX7_single, cX7_single, 6, none)
theorem okX7_single : g_ok mX7_single 2 := ⟨by decide +kernel, by decide +kernel, by decide +kernel, by decide +kernel, by decide⟩
def wX7_single_355 (Q : gH → Prop) (mc ms : Nat) (kh : Nat → Nat → Nat → Int32 → Int32 → gH → Prop) (k362 : Nat → Nat → gH → Prop) (uc : Nat) (us : Nat) (t0 : Option Nat) (t1 : Int32) (t2 : Option Nat) (x0 : Nat) (x1 : Int32) (x4 : Int32) (σ : gH) : Prop := ∃ a_56 : Nat, t0 = some a_56 ∧ (c_sR 7 [8, 9, 10, 11, 12, 13, 14, 15] σ a_56 t1 t2 (fun σ_57 => ∀ x4_58 : Int32, x4_58 = x4 + 1 → (kh uc us x0 x1 x4_58 σ_57)))
def wX7_single_278 (Q : gH → Prop) (mc ms : Nat) (k362 : Nat → Nat → gH → Prop) : Nat → Nat → Nat → Nat → Int32 → Int32 → gH → Prop
  | 0 => fun _ _ _ _ _ _ => False
  | n + 1 => fun uc us x0 x1 x4 σ => c_I σ [7] x0 1 (fun v_36 => (v_36 < x1 + x4 → (k362 uc us σ)) ∧ (¬ v_36 < x1 + x4 → (uc + 1 ≤ mc ∧ us + 10 ≤ ms ∧ c_new σ (.inr (13, [.null, .int 0, .int 0, .int 0, .int 0, .null, .null, .null, .int 0, .null])) (fun q_38 σ_37 => c_R σ_37 [7] x0 12 (fun r_39 => c_R σ_37 [7] x0 3 (fun r_40 => ∃ a_41 : Nat, r_40 = some a_41 ∧ (c_aI σ_37 a_41 x1 (fun v_42 => c_R σ_37 [7] x0 3 (fun r_43 => ∃ a_44 : Nat, r_43 = some a_44 ∧ (c_aI σ_37 a_44 (x1 + x4) (fun v_45 => wX13_init (fun (σ_46 : gH) => c_R σ_46 [7] x0 7 (fun r_47 => ∃ a_48 : Nat, r_47 = some a_48 ∧ (c_aR 8 σ_46 a_48 x1 (fun r_49 => c_R σ_46 [7] x0 12 (fun r_50 => c_R σ_46 [7] x0 2 (fun r_51 => c_I σ_46 [7] x0 1 (fun v_52 => ∃ a_53 : Nat, r_50 = some a_53 ∧ (∃ fs_55 : List Value, σ_46.2 a_53 = some (.inr (0, fs_55)) ∧ (wX0_may (fun (v_54 : Int32) => (v_54 = 0 → (wX7_single_355 Q mc ms (wX7_single_278 Q mc ms k362 n) k362 (uc + 1) (us + 10) r_49 x4 none x0 x1 x4 σ_46)) ∧ (¬ v_54 = 0 → (wX7_single_355 Q mc ms (wX7_single_278 Q mc ms k362 n) k362 (uc + 1) (us + 10) r_49 x4 (some q_38) x0 x1 x4 σ_46))) σ_46 a_53 r_51 (some q_38) v_52))))))))) q_38 r_39 (some x0) x1 v_42 v_45 x4 σ_37)))))))))))
def wX7_single_274 (Q : gH → Prop) (mc ms : Nat)  (uc : Nat) (us : Nat) (t0 : Option Nat) (t1 : Int32) (t2 : Option Nat) (x0 : Nat) (x1 : Int32) (σ : gH) : Prop := ∃ a_31 : Nat, t0 = some a_31 ∧ (c_sR 7 [8, 9, 10, 11, 12, 13, 14, 15] σ a_31 t1 t2 (fun σ_32 => ∃ fu : Nat, wX7_single_278 Q mc ms (fun (uc_34 : Nat) (us_35 : Nat) (σ_33 : gH) => Q σ_33) fu uc us x0 x1 2 σ_32))
def wX7_single_209 (Q : gH → Prop) (mc ms : Nat) (kh : Nat → Nat → Nat → Int32 → (Option Nat) → Int32 → gH → Prop) (k215 : Nat → Nat → Nat → Int32 → gH → Prop) (uc : Nat) (us : Nat) (x0 : Nat) (x1 : Int32) (x2 : Option Nat) (x3 : Int32) (σ : gH) : Prop := ∀ x3_76 : Int32, x3_76 = x3 + 1 → (kh uc us x0 x1 x2 x3_76 σ)
def wX7_single_94 (Q : gH → Prop) (mc ms : Nat) (k215 : Nat → Nat → Nat → Int32 → gH → Prop) : Nat → Nat → Nat → Nat → Int32 → (Option Nat) → Int32 → gH → Prop
  | 0 => fun _ _ _ _ _ _ _ => False
  | n + 1 => fun uc us x0 x1 x2 x3 σ => c_R σ [7] x0 12 (fun r_59 => ∃ a_60 : Nat, r_59 = some a_60 ∧ (c_R σ [0] a_60 8 (fun r_61 => ∃ a_62 : Nat, r_61 = some a_62 ∧ (∃ fs_64 : List Value, σ.2 a_62 = some (.inr (18, fs_64)) ∧ (wJ2_size (fun (v_63 : Int32) => (v_63 ≤ x3 → (k215 uc us x0 x1 σ)) ∧ (¬ v_63 ≤ x3 → (c_R σ [7] x0 12 (fun r_65 => ∃ a_66 : Nat, r_65 = some a_66 ∧ (c_R σ [0] a_66 8 (fun r_67 => ∃ a_68 : Nat, r_67 = some a_68 ∧ (∃ fs_70 : List Value, σ.2 a_68 = some (.inr (18, fs_70)) ∧ (wJ2_get (fun (r_69 : Option Nat) => c_cast σ [5] r_69 (∃ a_71 : Nat, r_69 = some a_71 ∧ (c_I σ [5] a_71 2 (fun v_72 => c_R σ [7] x0 0 (fun r_73 => ∃ a_74 : Nat, r_73 = some a_74 ∧ (c_aI σ a_74 x1 (fun v_75 => (v_72 = v_75 → (uc + 1 ≤ mc ∧ us + 11 ≤ ms ∧ c_new σ (.inr (11, [.null, .int 0, .int 0, .int 0, .int 0, .null, .null, .null, .null, .int 0, .null])) (fun q_78 σ_77 => c_R σ_77 [7] x0 12 (fun r_79 => c_R σ_77 [7] x0 3 (fun r_80 => ∃ a_81 : Nat, r_80 = some a_81 ∧ (c_aI σ_77 a_81 x1 (fun v_82 => ∃ a_83 : Nat, x2 = some a_83 ∧ (c_aI σ_77 a_83 x3 (fun v_84 => c_I σ_77 [5] a_71 0 (fun v_85 => wX11_init (fun (σ_86 : gH) => ∃ fs_90 : List Value, σ_86.2 x0 = some (.inr (7, fs_90)) ∧ ∃ c_88 b_89 : Nat, (uc + 1) + c_88 ≤ mc ∧ (us + 11) + b_89 ≤ ms ∧ (wX7_add (fun (σ_87 : gH) => ((uc + 1) + c_88) + 1 ≤ mc ∧ ((us + 11) + b_89) + 6 ≤ ms ∧ c_new σ_87 (.inr (8, [.null, .int 0, .int 0, .int 0, .int 0, .null])) (fun q_92 σ_91 => c_R σ_91 [7] x0 12 (fun r_93 => c_aI σ_91 a_83 x3 (fun v_94 => c_R σ_91 [7] x0 3 (fun r_95 => ∃ a_96 : Nat, r_95 = some a_96 ∧ (c_aI σ_91 a_96 (x1 + 1) (fun v_97 => c_I σ_91 [5] a_71 1 (fun v_98 => wX8_init (fun (σ_99 : gH) => ∃ fs_103 : List Value, σ_99.2 x0 = some (.inr (7, fs_103)) ∧ ∃ c_101 b_102 : Nat, (((uc + 1) + c_88) + 1) + c_101 ≤ mc ∧ (((us + 11) + b_89) + 6) + b_102 ≤ ms ∧ (wX7_add (fun (σ_100 : gH) => wX7_single_209 Q mc ms (wX7_single_94 Q mc ms k215 n) k215 ((((uc + 1) + c_88) + 1) + c_101) ((((us + 11) + b_89) + 6) + b_102) x0 x1 (some a_83) x3 σ_100) c_101 b_102 x0 (some q_92) σ_99)) q_92 r_93 (some x0) x1 v_94 v_97 v_98 σ_91)))))))) c_88 b_89 x0 (some q_78) σ_86)) q_78 r_79 (some x0) x1 v_82 v_84 v_85 (some a_71) x3 σ_77)))))))))) ∧ (¬ v_72 = v_75 → (wX7_single_209 Q mc ms (wX7_single_94 Q mc ms k215 n) k215 uc us x0 x1 x2 x3 σ))))))))) σ a_68 x3)))))))) σ a_62)))))
def wX7_single_83 (Q : gH → Prop) (mc ms : Nat) (kh : Nat → Nat → Nat → Int32 → (Option Nat) → Int32 → gH → Prop) (k92 : Nat → Nat → Nat → Int32 → (Option Nat) → gH → Prop) (uc : Nat) (us : Nat) (t0 : Nat) (t1 : Nat) (x0 : Nat) (x1 : Int32) (x2 : Option Nat) (x3 : Int32) (σ : gH) : Prop := ∃ fs_123 : List Value, σ.2 t0 = some (.inr (7, fs_123)) ∧ ∃ c_121 b_122 : Nat, uc + c_121 ≤ mc ∧ us + b_122 ≤ ms ∧ (wX7_add (fun (σ_120 : gH) => ∀ x3_124 : Int32, x3_124 = x3 + 1 → (kh (uc + c_121) (us + b_122) x0 x1 x2 x3_124 σ_120)) c_121 b_122 t0 (some t1) σ)
def wX7_single_2 (Q : gH → Prop) (mc ms : Nat) (k92 : Nat → Nat → Nat → Int32 → (Option Nat) → gH → Prop) : Nat → Nat → Nat → Nat → Int32 → (Option Nat) → Int32 → gH → Prop
  | 0 => fun _ _ _ _ _ _ _ => False
  | n + 1 => fun uc us x0 x1 x2 x3 σ => c_R σ [7] x0 12 (fun r_104 => ∃ a_105 : Nat, r_104 = some a_105 ∧ (c_I σ [0] a_105 0 (fun v_106 => (v_106 ≤ x3 → (k92 uc us x0 x1 x2 σ)) ∧ (¬ v_106 ≤ x3 → (c_R σ [7] x0 0 (fun r_107 => ∃ a_108 : Nat, r_107 = some a_108 ∧ (c_aI σ a_108 x1 (fun v_109 => (x3 = v_109 → (uc + 1 ≤ mc ∧ us + 6 ≤ ms ∧ c_new σ (.inr (8, [.null, .int 0, .int 0, .int 0, .int 0, .null])) (fun q_126 σ_125 => c_R σ_125 [7] x0 12 (fun r_127 => c_R σ_125 [7] x0 3 (fun r_128 => ∃ a_129 : Nat, r_128 = some a_129 ∧ (c_aI σ_125 a_129 x1 (fun v_130 => c_R σ_125 [7] x0 3 (fun r_131 => ∃ a_132 : Nat, r_131 = some a_132 ∧ (c_aI σ_125 a_132 (x1 + 1) (fun v_133 => wX8_init (fun (σ_134 : gH) => wX7_single_83 Q mc ms (wX7_single_2 Q mc ms k92 n) k92 (uc + 1) (us + 6) x0 q_126 x0 x1 x2 x3 σ_134) q_126 r_127 (some x0) x1 v_130 v_133 x3 σ_125)))))))))) ∧ (¬ x3 = v_109 → (uc + 1 ≤ mc ∧ us + 8 ≤ ms ∧ c_new σ (.inr (10, [.null, .int 0, .int 0, .int 0, .int 0, .null, .null, .null])) (fun q_111 σ_110 => c_R σ_110 [7] x0 12 (fun r_112 => c_R σ_110 [7] x0 3 (fun r_113 => ∃ a_114 : Nat, r_113 = some a_114 ∧ (c_aI σ_110 a_114 x1 (fun v_115 => c_R σ_110 [7] x0 3 (fun r_116 => ∃ a_117 : Nat, r_116 = some a_117 ∧ (c_aI σ_110 a_117 (x1 + 1) (fun v_118 => wX10_init (fun (σ_119 : gH) => wX7_single_83 Q mc ms (wX7_single_2 Q mc ms k92 n) k92 (uc + 1) (us + 8) x0 q_111 x0 x1 x2 x3 σ_119) q_111 r_112 (some x0) x1 v_115 v_118 x3 σ_110))))))))))))))))))
def wX7_single (Q : gH → Prop) (mc ms : Nat) (x0 : Nat) (x1 : Int32) (x2 : Option Nat) (σ : gH) : Prop := ∃ fu : Nat, wX7_single_2 Q mc ms (fun (uc_5 : Nat) (us_6 : Nat) (x0_1 : Nat) (x1_2 : Int32) (x2_3 : Option Nat) (σ_4 : gH) => ∃ fu : Nat, wX7_single_94 Q mc ms (fun (uc_10 : Nat) (us_11 : Nat) (x0_7 : Nat) (x1_8 : Int32) (σ_9 : gH) => uc_10 + 1 ≤ mc ∧ us_11 + 8 ≤ ms ∧ c_new σ_9 (.inr (12, [.null, .int 0, .int 0, .int 0, .int 0, .null, .null, .null])) (fun q_13 σ_12 => c_R σ_12 [7] x0_7 12 (fun r_14 => c_R σ_12 [7] x0_7 3 (fun r_15 => ∃ a_16 : Nat, r_15 = some a_16 ∧ (c_aI σ_12 a_16 x1_8 (fun v_17 => c_R σ_12 [7] x0_7 3 (fun r_18 => ∃ a_19 : Nat, r_18 = some a_19 ∧ (c_aI σ_12 a_19 (x1_8 + 1) (fun v_20 => wX12_init (fun (σ_21 : gH) => c_R σ_21 [7] x0_7 7 (fun r_22 => ∃ a_23 : Nat, r_22 = some a_23 ∧ (c_aR 8 σ_21 a_23 x1_8 (fun r_24 => c_R σ_21 [7] x0_7 12 (fun r_25 => c_R σ_21 [7] x0_7 2 (fun r_26 => c_I σ_21 [7] x0_7 1 (fun v_27 => ∃ a_28 : Nat, r_25 = some a_28 ∧ (∃ fs_30 : List Value, σ_21.2 a_28 = some (.inr (0, fs_30)) ∧ (wX0_may (fun (v_29 : Int32) => (v_29 = 0 → (wX7_single_274 Q mc ms (uc_10 + 1) (us_11 + 8) r_24 1 none x0_7 x1_8 σ_21)) ∧ (¬ v_29 = 0 → (wX7_single_274 Q mc ms (uc_10 + 1) (us_11 + 8) r_24 1 (some q_13) x0_7 x1_8 σ_21))) σ_21 a_28 r_26 (some q_13) v_27))))))))) q_13 r_14 (some x0_7) x1_8 v_17 v_20 σ_12))))))))) fu uc_5 us_6 x0_1 x1_2 x2_3 0 σ_4) fu 0 0 x0 x1 x2 0 σ
set_option maxHeartbeats 4000000 in
theorem hX7_single_355 {Q : gH → Prop} {mc ms : Nat} {kh : Nat → Nat → Nat → Int32 → Int32 → gH → Prop} (hkh : ∀ (uc : Nat) (us : Nat) (x0 : Nat) (x1 : Int32) (x4 : Int32) (σ : gH), uc ≤ mc → us ≤ ms → kh uc us x0 x1 x4 σ → E mX7_single 9 mc ms (g_z (c_Kv Q)) uc us 278 [(0, .ref x0), (1, .int x1), (4, .int x4)] [] σ) {k362 : Nat → Nat → gH → Prop} (hk362 : ∀ (uc : Nat) (us : Nat) (σ : gH), uc ≤ mc → us ≤ ms → k362 uc us σ → E mX7_single 9 mc ms (g_z (c_Kv Q)) uc us 362 [] [] σ) (uc : Nat) (us : Nat) (t0 : Option Nat) (t1 : Int32) (t2 : Option Nat) (x0 : Nat) (x1 : Int32) (x4 : Int32) (σ : gH) (hu1 : uc ≤ mc) (hu2 : us ≤ ms) (w : wX7_single_355 Q mc ms kh k362 uc us t0 t1 t2 x0 x1 x4 σ) : E mX7_single 9 mc ms (g_z (c_Kv Q)) uc us 355 [(0, .ref x0), (1, .int x1), (4, .int x4)] [va_rf t2, .int t1, va_rf t0] σ := by
  unfold wX7_single_355 at w
  obtain ⟨a_56, ha_56, w9a_56⟩ := w
  subst ha_56
  have w := w9a_56
  refine e_csR (n := 356) (r := t2) w tk_7 dX7_single_355 rfl (fun σ_57 w => ?_)
  obtain ⟨x4_58, hx4_58⟩ : ∃ y : Int32, y = x4 + 1 := ⟨_, rfl⟩
  have w := w x4_58 hx4_58
  refine e_iinc (n := 359) (v := x4_58) (lv' := [(0, .ref x0), (1, .int x1), (4, .int x4_58)]) [1, 2, 0] dX7_single_356 rfl 2 rfl (by rw [hx4_58]; rfl) rfl rfl ?_
  refine e_goto (n := 278) dX7_single_359 (by decide) ?_
  exact hkh _ _ _ _ _ _ hu1 hu2 w
set_option maxHeartbeats 4000000 in
theorem hX7_single_278 {Q : gH → Prop} {mc ms : Nat} {k362 : Nat → Nat → gH → Prop} (hk362 : ∀ (uc : Nat) (us : Nat) (σ : gH), uc ≤ mc → us ≤ ms → k362 uc us σ → E mX7_single 9 mc ms (g_z (c_Kv Q)) uc us 362 [] [] σ) : ∀ (n : Nat) (uc : Nat) (us : Nat) (x0 : Nat) (x1 : Int32) (x4 : Int32) (σ : gH) (hu1 : uc ≤ mc) (hu2 : us ≤ ms), wX7_single_278 Q mc ms k362 n uc us x0 x1 x4 σ → E mX7_single 9 mc ms (g_z (c_Kv Q)) uc us 278 [(0, .ref x0), (1, .int x1), (4, .int x4)] [] σ := by
  intro n
  induction n with
  | zero =>
    intro _ _ _ _ _ _ _ _ w
    exact w.elim
  | succ n ih =>
    intro uc us x0 x1 x4 σ hu1 hu2 w
    unfold wX7_single_278 at w
    refine e_iload_n (n := 279) dX7_single_278 rfl 1 rfl ?_
    refine e_iload (n := 281) dX7_single_279 rfl 2 rfl ?_
    refine e_iadd (n := 282) dX7_single_281 rfl ?_
    refine e_aload_n (n := 283) dX7_single_282 rfl 0 rfl ?_
    refine e_cI (n := 286) w fw_X7_n (gl_o q922) dX7_single_283 rfl (fun v_36 w => ?_)
    refine e_icmp_gt (n := 289) (tgt := 362) dX7_single_286 rfl (by decide) (fun h => ?_) (fun h => ?_)
    · have w := w.1 h
      refine e_sub (lv' := []) [] rfl ?_
      exact hk362 _ _ _ hu1 hu2 w
    · have w := w.2 h
      obtain ⟨hu1, hu2, w⟩ := w
      refine e_cnew (n := 292) w tyX13 tyX13_ok in_X13 rfl q811 q812 q79 (fun j hj => g_defX13 j hj) hu1 hu2 dX7_single_289 rfl (fun q_38 σ_37 w => ?_)
      refine e_dup (n := 293) dX7_single_292 rfl rfl ?_
      refine e_aload_n (n := 294) dX7_single_293 rfl 0 rfl ?_
      refine e_cR (n := 297) w fw_X7_this_0 (gl_o q947) dX7_single_294 rfl (fun r_39 w => ?_)
      refine e_aload_n (n := 298) dX7_single_297 rfl 0 rfl ?_
      refine e_iload_n (n := 299) dX7_single_298 rfl 1 rfl ?_
      refine e_aload_n (n := 300) dX7_single_299 rfl 0 rfl ?_
      refine e_cR (n := 303) w fw_X7_knot (gl_o q928) dX7_single_300 rfl (fun r_40 w => ?_)
      refine e_iload_n (n := 304) dX7_single_303 rfl 1 rfl ?_
      obtain ⟨a_41, ha_41, w9a_41⟩ := w
      subst ha_41
      have w := w9a_41
      refine e_caI (n := 305) w dX7_single_304 rfl (fun v_42 w => ?_)
      refine e_aload_n (n := 306) dX7_single_305 rfl 0 rfl ?_
      refine e_cR (n := 309) w fw_X7_knot (gl_o q928) dX7_single_306 rfl (fun r_43 w => ?_)
      refine e_iload_n (n := 310) dX7_single_309 rfl 1 rfl ?_
      refine e_iload (n := 312) dX7_single_310 rfl 2 rfl ?_
      refine e_iadd (n := 313) dX7_single_312 rfl ?_
      obtain ⟨a_44, ha_44, w9a_44⟩ := w
      subst ha_44
      have w := w9a_44
      refine e_caI (n := 314) w dX7_single_313 rfl (fun v_45 w => ?_)
      refine e_iload (n := 316) dX7_single_314 rfl 2 rfl ?_
      refine e_callI (n := 319) (As := [va_rf r_39, va_rf (some x0), .int x1, .int v_42, .int v_45, .int x4]) (st := [.ref q_38]) okX13_init rfl rfl q813 q814 q79 q815 (by decide) hu1 hu2 rfl rfl (Nat.le_of_ble_eq_true rfl) dX7_single_316 rfl (ctX13_init w) (fun r9 σ_46 hk => ?_)
      obtain ⟨rfl, w⟩ := hk
      refine e_astore (n := 321) (lv' := [(0, .ref x0), (1, .int x1), (4, .int x4), (5, .ref q_38)]) [1, 2, 3, 0] dX7_single_319 rfl rfl rfl ?_
      refine e_aload_n (n := 322) dX7_single_321 rfl 0 rfl ?_
      refine e_cR (n := 325) w fw_X7_skips (gl_o q936) dX7_single_322 rfl (fun r_47 w => ?_)
      refine e_iload_n (n := 326) dX7_single_325 rfl 1 rfl ?_
      obtain ⟨a_48, ha_48, w9a_48⟩ := w
      subst ha_48
      have w := w9a_48
      refine e_caR (n := 327) w (fun _ => rfl) rfl dX7_single_326 rfl (fun r_49 w => ?_)
      refine e_iload (n := 329) dX7_single_327 rfl 2 rfl ?_
      refine e_aload_n (n := 330) dX7_single_329 rfl 0 rfl ?_
      refine e_cR (n := 333) w fw_X7_this_0 (gl_o q947) dX7_single_330 rfl (fun r_50 w => ?_)
      refine e_aload_n (n := 334) dX7_single_333 rfl 0 rfl ?_
      refine e_cR (n := 337) w fw_X7_way (gl_o q925) dX7_single_334 rfl (fun r_51 w => ?_)
      refine e_aload (n := 339) dX7_single_337 rfl 3 rfl ?_
      refine e_aload_n (n := 340) dX7_single_339 rfl 0 rfl ?_
      refine e_cI (n := 343) w fw_X7_n (gl_o q922) dX7_single_340 rfl (fun v_52 w => ?_)
      obtain ⟨a_53, ha_53, w9a_53⟩ := w
      subst ha_53
      have w := w9a_53
      obtain ⟨fs_55, wo, w⟩ := w
      refine e_callVN (n := 346) (As := [va_rf r_51, va_rf (some q_38), .int v_52]) (st := [.int x4, va_rf r_49]) okX0_may q599 q601 qs8 q57 q602 wo rfl (by decide) hu1 hu2 rfl rfl (by cases r_49 <;> rfl) dX7_single_343 rfl (ctX0_may w) (fun r9 σ9 hk => ?_)
      obtain ⟨v_54, rfl, hs9, w⟩ := hk
      rw [hs9]
      refine e_if_eq (n := 349) (tgt := 354) dX7_single_346 rfl (by decide) (fun h => ?_) (fun h => ?_)
      · have w := w.1 h
        refine e_null (n := 355) dX7_single_354 rfl ?_
        refine e_sub (lv' := [(0, .ref x0), (1, .int x1), (4, .int x4)]) [0, 1, 2] rfl ?_
        exact hX7_single_355 ih hk362 _ _ _ _ _ _ _ _ _ hu1 hu2 w
      · have w := w.2 h
        refine e_aload (n := 351) dX7_single_349 rfl 3 rfl ?_
        refine e_goto (n := 355) dX7_single_351 (by decide) ?_
        refine e_sub (lv' := [(0, .ref x0), (1, .int x1), (4, .int x4)]) [0, 1, 2] rfl ?_
        exact hX7_single_355 ih hk362 _ _ _ _ _ _ _ _ _ hu1 hu2 w
set_option maxHeartbeats 4000000 in
theorem hX7_single_274 {Q : gH → Prop} {mc ms : Nat}  (uc : Nat) (us : Nat) (t0 : Option Nat) (t1 : Int32) (t2 : Option Nat) (x0 : Nat) (x1 : Int32) (σ : gH) (hu1 : uc ≤ mc) (hu2 : us ≤ ms) (w : wX7_single_274 Q mc ms uc us t0 t1 t2 x0 x1 σ) : E mX7_single 9 mc ms (g_z (c_Kv Q)) uc us 274 [(0, .ref x0), (1, .int x1)] [va_rf t2, .int t1, va_rf t0] σ := by
  unfold wX7_single_274 at w
  obtain ⟨a_31, ha_31, w9a_31⟩ := w
  subst ha_31
  have w := w9a_31
  refine e_csR (n := 275) (r := t2) w tk_7 dX7_single_274 rfl (fun σ_32 w => ?_)
  refine e_iconst (n := 276) (v := 2) dX7_single_275 rfl (by decide) ?_
  refine e_istore (n := 278) (lv' := [(0, .ref x0), (1, .int x1), (4, .int 2)]) [1, 2, 0] dX7_single_276 rfl rfl rfl ?_
  obtain ⟨fu, w⟩ := w
  refine hX7_single_278 (fun uc_34 us_35 σ_33 hu1 hu2 w => ?_) fu _ _ _ _ _ _ hu1 hu2 w
  exact e_vret rfl hu1 hu2 ⟨rfl, w⟩ dX7_single_362
set_option maxHeartbeats 4000000 in
theorem hX7_single_209 {Q : gH → Prop} {mc ms : Nat} {kh : Nat → Nat → Nat → Int32 → (Option Nat) → Int32 → gH → Prop} (hkh : ∀ (uc : Nat) (us : Nat) (x0 : Nat) (x1 : Int32) (x2 : Option Nat) (x3 : Int32) (σ : gH), uc ≤ mc → us ≤ ms → kh uc us x0 x1 x2 x3 σ → E mX7_single 9 mc ms (g_z (c_Kv Q)) uc us 94 [(0, .ref x0), (1, .int x1), (2, va_rf x2), (3, .int x3)] [] σ) {k215 : Nat → Nat → Nat → Int32 → gH → Prop} (hk215 : ∀ (uc : Nat) (us : Nat) (x0 : Nat) (x1 : Int32) (σ : gH), uc ≤ mc → us ≤ ms → k215 uc us x0 x1 σ → E mX7_single 9 mc ms (g_z (c_Kv Q)) uc us 215 [(0, .ref x0), (1, .int x1)] [] σ) (uc : Nat) (us : Nat) (x0 : Nat) (x1 : Int32) (x2 : Option Nat) (x3 : Int32) (σ : gH) (hu1 : uc ≤ mc) (hu2 : us ≤ ms) (w : wX7_single_209 Q mc ms kh k215 uc us x0 x1 x2 x3 σ) : E mX7_single 9 mc ms (g_z (c_Kv Q)) uc us 209 [(0, .ref x0), (1, .int x1), (2, va_rf x2), (3, .int x3)] [] σ := by
  unfold wX7_single_209 at w
  obtain ⟨x3_76, hx3_76⟩ : ∃ y : Int32, y = x3 + 1 := ⟨_, rfl⟩
  have w := w x3_76 hx3_76
  refine e_iinc (n := 212) (v := x3_76) (lv' := [(0, .ref x0), (1, .int x1), (2, va_rf x2), (3, .int x3_76)]) [1, 2, 3, 0] dX7_single_209 rfl 3 rfl (by rw [hx3_76]; rfl) rfl (by cases x2 <;> rfl) ?_
  refine e_goto (n := 94) dX7_single_212 (by decide) ?_
  exact hkh _ _ _ _ _ _ _ hu1 hu2 w
set_option maxHeartbeats 4000000 in
theorem hX7_single_94 {Q : gH → Prop} {mc ms : Nat} {k215 : Nat → Nat → Nat → Int32 → gH → Prop} (hk215 : ∀ (uc : Nat) (us : Nat) (x0 : Nat) (x1 : Int32) (σ : gH), uc ≤ mc → us ≤ ms → k215 uc us x0 x1 σ → E mX7_single 9 mc ms (g_z (c_Kv Q)) uc us 215 [(0, .ref x0), (1, .int x1)] [] σ) : ∀ (n : Nat) (uc : Nat) (us : Nat) (x0 : Nat) (x1 : Int32) (x2 : Option Nat) (x3 : Int32) (σ : gH) (hu1 : uc ≤ mc) (hu2 : us ≤ ms), wX7_single_94 Q mc ms k215 n uc us x0 x1 x2 x3 σ → E mX7_single 9 mc ms (g_z (c_Kv Q)) uc us 94 [(0, .ref x0), (1, .int x1), (2, va_rf x2), (3, .int x3)] [] σ := by
  intro n
  induction n with
  | zero =>
    intro _ _ _ _ _ _ _ _ _ w
    exact w.elim
  | succ n ih =>
    intro uc us x0 x1 x2 x3 σ hu1 hu2 w
    unfold wX7_single_94 at w
    refine e_iload_n (n := 95) dX7_single_94 rfl 3 rfl ?_
    refine e_aload_n (n := 96) dX7_single_95 rfl 0 rfl ?_
    refine e_cR (n := 99) w fw_X7_this_0 (gl_o q947) dX7_single_96 rfl (fun r_59 w => ?_)
    obtain ⟨a_60, ha_60, w9a_60⟩ := w
    subst ha_60
    have w := w9a_60
    refine e_cR (n := 102) w fw_X0_stuck (gl_n q190) dX7_single_99 rfl (fun r_61 w => ?_)
    obtain ⟨a_62, ha_62, w9a_62⟩ := w
    subst ha_62
    have w := w9a_62
    obtain ⟨fs_64, wo, w⟩ := w
    refine e_callF (n := 107) (As := []) (st := [.int x3]) okJ2_size q534 q287 q289 q60 q291 q285 q284 q290 q288 q286 rfl (by decide) wo rfl (by decide) hu1 hu2 rfl rfl rfl dX7_single_102 rfl (ctJ2_size w) (fun r9 σ9 hk => ?_)
    obtain ⟨v_63, rfl, hs9, w⟩ := hk
    rw [hs9]
    refine e_icmp_ge (n := 110) (tgt := 215) dX7_single_107 rfl (by decide) (fun h => ?_) (fun h => ?_)
    · have w := w.1 h
      refine e_sub (lv' := [(0, .ref x0), (1, .int x1)]) [0, 1] rfl ?_
      exact hk215 _ _ _ _ _ hu1 hu2 w
    · have w := w.2 h
      refine e_aload_n (n := 111) dX7_single_110 rfl 0 rfl ?_
      refine e_cR (n := 114) w fw_X7_this_0 (gl_o q947) dX7_single_111 rfl (fun r_65 w => ?_)
      obtain ⟨a_66, ha_66, w9a_66⟩ := w
      subst ha_66
      have w := w9a_66
      refine e_cR (n := 117) w fw_X0_stuck (gl_n q190) dX7_single_114 rfl (fun r_67 w => ?_)
      refine e_iload_n (n := 118) dX7_single_117 rfl 3 rfl ?_
      obtain ⟨a_68, ha_68, w9a_68⟩ := w
      subst ha_68
      have w := w9a_68
      obtain ⟨fs_70, wo, w⟩ := w
      refine e_callF (n := 123) (As := [.int x3]) (st := []) okJ2_get q536 q412 q414 q60 q416 q411 q410 q415 q413 q286 rfl (by decide) wo rfl (by decide) hu1 hu2 rfl rfl rfl dX7_single_118 rfl (ctJ2_get w) (fun r9 σ9 hk => ?_)
      obtain ⟨r_69, rfl, hs9, w⟩ := hk
      rw [hs9]
      refine e_ccast (n := 126) (r := r_69) w gc_X5 q537 dX7_single_123 rfl (fun w => ?_)
      refine e_astorer (n := 128) (r := r_69) (lv' := [(0, .ref x0), (1, .int x1), (2, va_rf x2), (3, .int x3), (4, va_rf r_69)]) [1, 2, 3, 4, 0] dX7_single_126 rfl rfl rfl ?_
      refine e_aloadr (n := 130) (r := r_69) dX7_single_128 rfl 4 rfl ?_
      obtain ⟨a_71, ha_71, w9a_71⟩ := w
      subst ha_71
      have w := w9a_71
      refine e_cI (n := 133) w fw_X5_c (gl_n q454) dX7_single_130 rfl (fun v_72 w => ?_)
      refine e_aload_n (n := 134) dX7_single_133 rfl 0 rfl ?_
      refine e_cR (n := 137) w fw_X7_text (gl_o q918) dX7_single_134 rfl (fun r_73 w => ?_)
      refine e_iload_n (n := 138) dX7_single_137 rfl 1 rfl ?_
      obtain ⟨a_74, ha_74, w9a_74⟩ := w
      subst ha_74
      have w := w9a_74
      refine e_caI (n := 139) w dX7_single_138 rfl (fun v_75 w => ?_)
      refine e_icmp_ne (n := 142) (tgt := 209) dX7_single_139 rfl (by decide) (fun h => ?_) (fun h => ?_)
      · have w := w.2 h
        refine e_sub (lv' := [(0, .ref x0), (1, .int x1), (2, va_rf x2), (3, .int x3)]) [0, 1, 2, 3] rfl ?_
        exact hX7_single_209 ih hk215 _ _ _ _ _ _ _ hu1 hu2 w
      · have w := w.1 h
        refine e_aload_n (n := 143) dX7_single_142 rfl 0 rfl ?_
        obtain ⟨hu1, hu2, w⟩ := w
        refine e_cnew (n := 146) w tyX11 tyX11_ok in_X11 rfl q772 q773 q77 (fun j hj => g_defX11 j hj) hu1 hu2 dX7_single_143 rfl (fun q_78 σ_77 w => ?_)
        refine e_dup (n := 147) dX7_single_146 rfl rfl ?_
        refine e_aload_n (n := 148) dX7_single_147 rfl 0 rfl ?_
        refine e_cR (n := 151) w fw_X7_this_0 (gl_o q947) dX7_single_148 rfl (fun r_79 w => ?_)
        refine e_aload_n (n := 152) dX7_single_151 rfl 0 rfl ?_
        refine e_iload_n (n := 153) dX7_single_152 rfl 1 rfl ?_
        refine e_aload_n (n := 154) dX7_single_153 rfl 0 rfl ?_
        refine e_cR (n := 157) w fw_X7_knot (gl_o q928) dX7_single_154 rfl (fun r_80 w => ?_)
        refine e_iload_n (n := 158) dX7_single_157 rfl 1 rfl ?_
        obtain ⟨a_81, ha_81, w9a_81⟩ := w
        subst ha_81
        have w := w9a_81
        refine e_caI (n := 159) w dX7_single_158 rfl (fun v_82 w => ?_)
        refine e_aloadr_n (n := 160) (r := x2) dX7_single_159 rfl 2 rfl ?_
        refine e_iload_n (n := 161) dX7_single_160 rfl 3 rfl ?_
        obtain ⟨a_83, ha_83, w9a_83⟩ := w
        subst ha_83
        have w := w9a_83
        refine e_caI (n := 162) w dX7_single_161 rfl (fun v_84 w => ?_)
        refine e_aload (n := 164) dX7_single_162 rfl 4 rfl ?_
        refine e_cI (n := 167) w fw_X5_a (gl_n q448) dX7_single_164 rfl (fun v_85 w => ?_)
        refine e_aload (n := 169) dX7_single_167 rfl 4 rfl ?_
        refine e_iload_n (n := 170) dX7_single_169 rfl 3 rfl ?_
        refine e_callI (n := 173) (As := [va_rf r_79, va_rf (some x0), .int x1, .int v_82, .int v_84, .int v_85, va_rf (some a_71), .int x3]) (st := [.ref q_78, .ref x0]) okX11_init rfl rfl q774 q775 q77 q776 (by decide) hu1 hu2 rfl rfl (Nat.le_of_ble_eq_true rfl) dX7_single_170 rfl (ctX11_init w) (fun r9 σ_86 hk => ?_)
        obtain ⟨rfl, w⟩ := hk
        obtain ⟨fs_90, wo, w⟩ := w
        obtain ⟨c_88, b_89, hu1, hu2, w⟩ := w
        refine e_callV (n := 176) (As := [va_rf (some q_78)]) (st := []) okX7_add q595 q597 qs7 q73 q598 rfl wo rfl (by decide) hu1 hu2 rfl rfl (Nat.le_of_ble_eq_true rfl) dX7_single_173 rfl (ctX7_add w) (fun r9 σ_87 hk => ?_)
        obtain ⟨rfl, w⟩ := hk
        refine e_aload_n (n := 177) dX7_single_176 rfl 0 rfl ?_
        obtain ⟨hu1, hu2, w⟩ := w
        refine e_cnew (n := 180) w tyX8 tyX8_ok in_X8 rfl q746 q747 q74 (fun j hj => g_defX8 j hj) hu1 hu2 dX7_single_177 rfl (fun q_92 σ_91 w => ?_)
        refine e_dup (n := 181) dX7_single_180 rfl rfl ?_
        refine e_aload_n (n := 182) dX7_single_181 rfl 0 rfl ?_
        refine e_cR (n := 185) w fw_X7_this_0 (gl_o q947) dX7_single_182 rfl (fun r_93 w => ?_)
        refine e_aload_n (n := 186) dX7_single_185 rfl 0 rfl ?_
        refine e_iload_n (n := 187) dX7_single_186 rfl 1 rfl ?_
        refine e_aload_n (n := 188) dX7_single_187 rfl 2 rfl ?_
        refine e_iload_n (n := 189) dX7_single_188 rfl 3 rfl ?_
        refine e_caI (n := 190) w dX7_single_189 rfl (fun v_94 w => ?_)
        refine e_aload_n (n := 191) dX7_single_190 rfl 0 rfl ?_
        refine e_cR (n := 194) w fw_X7_knot (gl_o q928) dX7_single_191 rfl (fun r_95 w => ?_)
        refine e_iload_n (n := 195) dX7_single_194 rfl 1 rfl ?_
        refine e_iconst (n := 196) (v := 1) dX7_single_195 rfl (by decide) ?_
        refine e_iadd (n := 197) dX7_single_196 rfl ?_
        obtain ⟨a_96, ha_96, w9a_96⟩ := w
        subst ha_96
        have w := w9a_96
        refine e_caI (n := 198) w dX7_single_197 rfl (fun v_97 w => ?_)
        refine e_aload (n := 200) dX7_single_198 rfl 4 rfl ?_
        refine e_cI (n := 203) w fw_X5_b (gl_n q451) dX7_single_200 rfl (fun v_98 w => ?_)
        refine e_callI (n := 206) (As := [va_rf r_93, va_rf (some x0), .int x1, .int v_94, .int v_97, .int v_98]) (st := [.ref q_92, .ref x0]) okX8_init rfl rfl q748 q544 q74 q545 (by decide) hu1 hu2 rfl rfl (Nat.le_of_ble_eq_true rfl) dX7_single_203 rfl (ctX8_init w) (fun r9 σ_99 hk => ?_)
        obtain ⟨rfl, w⟩ := hk
        obtain ⟨fs_103, wo, w⟩ := w
        obtain ⟨c_101, b_102, hu1, hu2, w⟩ := w
        refine e_callV (n := 209) (As := [va_rf (some q_92)]) (st := []) okX7_add q595 q597 qs7 q73 q598 rfl wo rfl (by decide) hu1 hu2 rfl rfl (Nat.le_of_ble_eq_true rfl) dX7_single_206 rfl (ctX7_add w) (fun r9 σ_100 hk => ?_)
        obtain ⟨rfl, w⟩ := hk
        refine e_sub (lv' := [(0, .ref x0), (1, .int x1), (2, va_rf (some a_83)), (3, .int x3)]) [0, 1, 2, 3] rfl ?_
        exact hX7_single_209 ih hk215 _ _ _ _ _ _ _ hu1 hu2 w
set_option maxHeartbeats 4000000 in
theorem hX7_single_83 {Q : gH → Prop} {mc ms : Nat} {kh : Nat → Nat → Nat → Int32 → (Option Nat) → Int32 → gH → Prop} (hkh : ∀ (uc : Nat) (us : Nat) (x0 : Nat) (x1 : Int32) (x2 : Option Nat) (x3 : Int32) (σ : gH), uc ≤ mc → us ≤ ms → kh uc us x0 x1 x2 x3 σ → E mX7_single 9 mc ms (g_z (c_Kv Q)) uc us 2 [(0, .ref x0), (1, .int x1), (2, va_rf x2), (3, .int x3)] [] σ) {k92 : Nat → Nat → Nat → Int32 → (Option Nat) → gH → Prop} (hk92 : ∀ (uc : Nat) (us : Nat) (x0 : Nat) (x1 : Int32) (x2 : Option Nat) (σ : gH), uc ≤ mc → us ≤ ms → k92 uc us x0 x1 x2 σ → E mX7_single 9 mc ms (g_z (c_Kv Q)) uc us 92 [(0, .ref x0), (1, .int x1), (2, va_rf x2)] [] σ) (uc : Nat) (us : Nat) (t0 : Nat) (t1 : Nat) (x0 : Nat) (x1 : Int32) (x2 : Option Nat) (x3 : Int32) (σ : gH) (hu1 : uc ≤ mc) (hu2 : us ≤ ms) (w : wX7_single_83 Q mc ms kh k92 uc us t0 t1 x0 x1 x2 x3 σ) : E mX7_single 9 mc ms (g_z (c_Kv Q)) uc us 83 [(0, .ref x0), (1, .int x1), (2, va_rf x2), (3, .int x3)] [.ref t1, .ref t0] σ := by
  unfold wX7_single_83 at w
  obtain ⟨fs_123, wo, w⟩ := w
  obtain ⟨c_121, b_122, hu1, hu2, w⟩ := w
  refine e_callV (n := 86) (As := [va_rf (some t1)]) (st := []) okX7_add q595 q597 qs7 q73 q598 rfl wo rfl (by decide) hu1 hu2 rfl rfl (Nat.le_of_ble_eq_true rfl) dX7_single_83 rfl (ctX7_add w) (fun r9 σ_120 hk => ?_)
  obtain ⟨rfl, w⟩ := hk
  obtain ⟨x3_124, hx3_124⟩ : ∃ y : Int32, y = x3 + 1 := ⟨_, rfl⟩
  have w := w x3_124 hx3_124
  refine e_iinc (n := 89) (v := x3_124) (lv' := [(0, .ref x0), (1, .int x1), (2, va_rf x2), (3, .int x3_124)]) [1, 2, 3, 0] dX7_single_86 rfl 3 rfl (by rw [hx3_124]; rfl) rfl (by cases x2 <;> rfl) ?_
  refine e_goto (n := 2) dX7_single_89 (by decide) ?_
  exact hkh _ _ _ _ _ _ _ hu1 hu2 w
set_option maxHeartbeats 4000000 in
theorem hX7_single_2 {Q : gH → Prop} {mc ms : Nat} {k92 : Nat → Nat → Nat → Int32 → (Option Nat) → gH → Prop} (hk92 : ∀ (uc : Nat) (us : Nat) (x0 : Nat) (x1 : Int32) (x2 : Option Nat) (σ : gH), uc ≤ mc → us ≤ ms → k92 uc us x0 x1 x2 σ → E mX7_single 9 mc ms (g_z (c_Kv Q)) uc us 92 [(0, .ref x0), (1, .int x1), (2, va_rf x2)] [] σ) : ∀ (n : Nat) (uc : Nat) (us : Nat) (x0 : Nat) (x1 : Int32) (x2 : Option Nat) (x3 : Int32) (σ : gH) (hu1 : uc ≤ mc) (hu2 : us ≤ ms), wX7_single_2 Q mc ms k92 n uc us x0 x1 x2 x3 σ → E mX7_single 9 mc ms (g_z (c_Kv Q)) uc us 2 [(0, .ref x0), (1, .int x1), (2, va_rf x2), (3, .int x3)] [] σ := by
  intro n
  induction n with
  | zero =>
    intro _ _ _ _ _ _ _ _ _ w
    exact w.elim
  | succ n ih =>
    intro uc us x0 x1 x2 x3 σ hu1 hu2 w
    unfold wX7_single_2 at w
    refine e_iload_n (n := 3) dX7_single_2 rfl 3 rfl ?_
    refine e_aload_n (n := 4) dX7_single_3 rfl 0 rfl ?_
    refine e_cR (n := 7) w fw_X7_this_0 (gl_o q947) dX7_single_4 rfl (fun r_104 w => ?_)
    obtain ⟨a_105, ha_105, w9a_105⟩ := w
    subst ha_105
    have w := w9a_105
    refine e_cI (n := 10) w fw_X0_tokens (gl_n q168) dX7_single_7 rfl (fun v_106 w => ?_)
    refine e_icmp_ge (n := 13) (tgt := 92) dX7_single_10 rfl (by decide) (fun h => ?_) (fun h => ?_)
    · have w := w.1 h
      refine e_sub (lv' := [(0, .ref x0), (1, .int x1), (2, va_rf x2)]) [0, 1, 2] rfl ?_
      exact hk92 _ _ _ _ _ _ hu1 hu2 w
    · have w := w.2 h
      refine e_aload_n (n := 14) dX7_single_13 rfl 0 rfl ?_
      refine e_iload_n (n := 15) dX7_single_14 rfl 3 rfl ?_
      refine e_aload_n (n := 16) dX7_single_15 rfl 0 rfl ?_
      refine e_cR (n := 19) w fw_X7_text (gl_o q918) dX7_single_16 rfl (fun r_107 w => ?_)
      refine e_iload_n (n := 20) dX7_single_19 rfl 1 rfl ?_
      obtain ⟨a_108, ha_108, w9a_108⟩ := w
      subst ha_108
      have w := w9a_108
      refine e_caI (n := 21) w dX7_single_20 rfl (fun v_109 w => ?_)
      refine e_icmp_ne (n := 24) (tgt := 55) dX7_single_21 rfl (by decide) (fun h => ?_) (fun h => ?_)
      · have w := w.2 h
        obtain ⟨hu1, hu2, w⟩ := w
        refine e_cnew (n := 58) w tyX10 tyX10_ok in_X10 rfl q756 q757 q76 (fun j hj => g_defX10 j hj) hu1 hu2 dX7_single_55 rfl (fun q_111 σ_110 w => ?_)
        refine e_dup (n := 59) dX7_single_58 rfl rfl ?_
        refine e_aload_n (n := 60) dX7_single_59 rfl 0 rfl ?_
        refine e_cR (n := 63) w fw_X7_this_0 (gl_o q947) dX7_single_60 rfl (fun r_112 w => ?_)
        refine e_aload_n (n := 64) dX7_single_63 rfl 0 rfl ?_
        refine e_iload_n (n := 65) dX7_single_64 rfl 1 rfl ?_
        refine e_aload_n (n := 66) dX7_single_65 rfl 0 rfl ?_
        refine e_cR (n := 69) w fw_X7_knot (gl_o q928) dX7_single_66 rfl (fun r_113 w => ?_)
        refine e_iload_n (n := 70) dX7_single_69 rfl 1 rfl ?_
        obtain ⟨a_114, ha_114, w9a_114⟩ := w
        subst ha_114
        have w := w9a_114
        refine e_caI (n := 71) w dX7_single_70 rfl (fun v_115 w => ?_)
        refine e_aload_n (n := 72) dX7_single_71 rfl 0 rfl ?_
        refine e_cR (n := 75) w fw_X7_knot (gl_o q928) dX7_single_72 rfl (fun r_116 w => ?_)
        refine e_iload_n (n := 76) dX7_single_75 rfl 1 rfl ?_
        refine e_iconst (n := 77) (v := 1) dX7_single_76 rfl (by decide) ?_
        refine e_iadd (n := 78) dX7_single_77 rfl ?_
        obtain ⟨a_117, ha_117, w9a_117⟩ := w
        subst ha_117
        have w := w9a_117
        refine e_caI (n := 79) w dX7_single_78 rfl (fun v_118 w => ?_)
        refine e_iload_n (n := 80) dX7_single_79 rfl 3 rfl ?_
        refine e_callI (n := 83) (As := [va_rf r_112, va_rf (some x0), .int x1, .int v_115, .int v_118, .int x3]) (st := [.ref q_111, .ref x0]) okX10_init rfl rfl q758 q759 q76 q760 (by decide) hu1 hu2 rfl rfl (Nat.le_of_ble_eq_true rfl) dX7_single_80 rfl (ctX10_init w) (fun r9 σ_119 hk => ?_)
        obtain ⟨rfl, w⟩ := hk
        exact hX7_single_83 ih hk92 _ _ _ _ _ _ _ _ _ hu1 hu2 w
      · have w := w.1 h
        obtain ⟨hu1, hu2, w⟩ := w
        refine e_cnew (n := 27) w tyX8 tyX8_ok in_X8 rfl q746 q747 q74 (fun j hj => g_defX8 j hj) hu1 hu2 dX7_single_24 rfl (fun q_126 σ_125 w => ?_)
        refine e_dup (n := 28) dX7_single_27 rfl rfl ?_
        refine e_aload_n (n := 29) dX7_single_28 rfl 0 rfl ?_
        refine e_cR (n := 32) w fw_X7_this_0 (gl_o q947) dX7_single_29 rfl (fun r_127 w => ?_)
        refine e_aload_n (n := 33) dX7_single_32 rfl 0 rfl ?_
        refine e_iload_n (n := 34) dX7_single_33 rfl 1 rfl ?_
        refine e_aload_n (n := 35) dX7_single_34 rfl 0 rfl ?_
        refine e_cR (n := 38) w fw_X7_knot (gl_o q928) dX7_single_35 rfl (fun r_128 w => ?_)
        refine e_iload_n (n := 39) dX7_single_38 rfl 1 rfl ?_
        obtain ⟨a_129, ha_129, w9a_129⟩ := w
        subst ha_129
        have w := w9a_129
        refine e_caI (n := 40) w dX7_single_39 rfl (fun v_130 w => ?_)
        refine e_aload_n (n := 41) dX7_single_40 rfl 0 rfl ?_
        refine e_cR (n := 44) w fw_X7_knot (gl_o q928) dX7_single_41 rfl (fun r_131 w => ?_)
        refine e_iload_n (n := 45) dX7_single_44 rfl 1 rfl ?_
        refine e_iconst (n := 46) (v := 1) dX7_single_45 rfl (by decide) ?_
        refine e_iadd (n := 47) dX7_single_46 rfl ?_
        obtain ⟨a_132, ha_132, w9a_132⟩ := w
        subst ha_132
        have w := w9a_132
        refine e_caI (n := 48) w dX7_single_47 rfl (fun v_133 w => ?_)
        refine e_iload_n (n := 49) dX7_single_48 rfl 3 rfl ?_
        refine e_callI (n := 52) (As := [va_rf r_127, va_rf (some x0), .int x1, .int v_130, .int v_133, .int x3]) (st := [.ref q_126, .ref x0]) okX8_init rfl rfl q748 q544 q74 q545 (by decide) hu1 hu2 rfl rfl (Nat.le_of_ble_eq_true rfl) dX7_single_49 rfl (ctX8_init w) (fun r9 σ_134 hk => ?_)
        obtain ⟨rfl, w⟩ := hk
        refine e_goto (n := 83) dX7_single_52 (by decide) ?_
        exact hX7_single_83 ih hk92 _ _ _ _ _ _ _ _ _ hu1 hu2 w
set_option maxHeartbeats 4000000 in
theorem ctX7_single {Q : gH → Prop} {mc ms : Nat} {x0 : Nat} {x1 : Int32} {x2 : Option Nat} {σ : gH} (w : wX7_single Q mc ms x0 x1 x2 σ) : CT mX7_single 9 mc ms [.ref x0, .int x1, va_rf x2] σ (c_Kv Q) := by
  refine CT.of (lv := [(0, .ref x0), (1, .int x1), (2, va_rf x2)]) okX7_single.1 (by cases x2 <;> rfl) (by cases x2 <;> rfl) ?_
  unfold wX7_single at w
  refine e_iconst (n := 1) (v := 0) dX7_single_0 rfl (by decide) ?_
  refine e_istore_n (n := 2) (lv' := [(0, .ref x0), (1, .int x1), (2, va_rf x2), (3, .int 0)]) [1, 2, 3, 0] dX7_single_1 rfl rfl (by cases x2 <;> rfl) ?_
  obtain ⟨fu, w⟩ := w
  refine hX7_single_2 (fun uc_5 us_6 x0_1 x1_2 x2_3 σ_4 hu1 hu2 w => ?_) fu _ _ _ _ _ _ _ (Nat.zero_le _) (Nat.zero_le _) w
  refine e_iconst (n := 93) (v := 0) dX7_single_92 rfl (by decide) ?_
  refine e_istore_n (n := 94) (lv' := [(0, .ref x0_1), (1, .int x1_2), (2, va_rf x2_3), (3, .int 0)]) [1, 2, 3, 0] dX7_single_93 rfl rfl (by cases x2_3 <;> rfl) ?_
  obtain ⟨fu, w⟩ := w
  refine hX7_single_94 (fun uc_10 us_11 x0_7 x1_8 σ_9 hu1 hu2 w => ?_) fu _ _ _ _ _ _ _ hu1 hu2 w
  obtain ⟨hu1, hu2, w⟩ := w
  refine e_cnew (n := 218) w tyX12 tyX12_ok in_X12 rfl q795 q796 q78 (fun j hj => g_defX12 j hj) hu1 hu2 dX7_single_215 rfl (fun q_13 σ_12 w => ?_)
  refine e_dup (n := 219) dX7_single_218 rfl rfl ?_
  refine e_aload_n (n := 220) dX7_single_219 rfl 0 rfl ?_
  refine e_cR (n := 223) w fw_X7_this_0 (gl_o q947) dX7_single_220 rfl (fun r_14 w => ?_)
  refine e_aload_n (n := 224) dX7_single_223 rfl 0 rfl ?_
  refine e_iload_n (n := 225) dX7_single_224 rfl 1 rfl ?_
  refine e_aload_n (n := 226) dX7_single_225 rfl 0 rfl ?_
  refine e_cR (n := 229) w fw_X7_knot (gl_o q928) dX7_single_226 rfl (fun r_15 w => ?_)
  refine e_iload_n (n := 230) dX7_single_229 rfl 1 rfl ?_
  obtain ⟨a_16, ha_16, w9a_16⟩ := w
  subst ha_16
  have w := w9a_16
  refine e_caI (n := 231) w dX7_single_230 rfl (fun v_17 w => ?_)
  refine e_aload_n (n := 232) dX7_single_231 rfl 0 rfl ?_
  refine e_cR (n := 235) w fw_X7_knot (gl_o q928) dX7_single_232 rfl (fun r_18 w => ?_)
  refine e_iload_n (n := 236) dX7_single_235 rfl 1 rfl ?_
  refine e_iconst (n := 237) (v := 1) dX7_single_236 rfl (by decide) ?_
  refine e_iadd (n := 238) dX7_single_237 rfl ?_
  obtain ⟨a_19, ha_19, w9a_19⟩ := w
  subst ha_19
  have w := w9a_19
  refine e_caI (n := 239) w dX7_single_238 rfl (fun v_20 w => ?_)
  refine e_callI (n := 242) (As := [va_rf r_14, va_rf (some x0_7), .int x1_8, .int v_17, .int v_20]) (st := [.ref q_13]) okX12_init rfl rfl q797 q798 q78 q799 (by decide) hu1 hu2 rfl rfl (Nat.le_of_ble_eq_true rfl) dX7_single_239 rfl (ctX12_init w) (fun r9 σ_21 hk => ?_)
  obtain ⟨rfl, w⟩ := hk
  refine e_astore_n (n := 243) (lv' := [(0, .ref x0_7), (1, .int x1_8), (3, .ref q_13)]) [1, 2, 0] dX7_single_242 rfl rfl rfl ?_
  refine e_aload_n (n := 244) dX7_single_243 rfl 0 rfl ?_
  refine e_cR (n := 247) w fw_X7_skips (gl_o q936) dX7_single_244 rfl (fun r_22 w => ?_)
  refine e_iload_n (n := 248) dX7_single_247 rfl 1 rfl ?_
  obtain ⟨a_23, ha_23, w9a_23⟩ := w
  subst ha_23
  have w := w9a_23
  refine e_caR (n := 249) w (fun _ => rfl) rfl dX7_single_248 rfl (fun r_24 w => ?_)
  refine e_iconst (n := 250) (v := 1) dX7_single_249 rfl (by decide) ?_
  refine e_aload_n (n := 251) dX7_single_250 rfl 0 rfl ?_
  refine e_cR (n := 254) w fw_X7_this_0 (gl_o q947) dX7_single_251 rfl (fun r_25 w => ?_)
  refine e_aload_n (n := 255) dX7_single_254 rfl 0 rfl ?_
  refine e_cR (n := 258) w fw_X7_way (gl_o q925) dX7_single_255 rfl (fun r_26 w => ?_)
  refine e_aload_n (n := 259) dX7_single_258 rfl 2 rfl ?_
  refine e_aload_n (n := 260) dX7_single_259 rfl 0 rfl ?_
  refine e_cI (n := 263) w fw_X7_n (gl_o q922) dX7_single_260 rfl (fun v_27 w => ?_)
  obtain ⟨a_28, ha_28, w9a_28⟩ := w
  subst ha_28
  have w := w9a_28
  obtain ⟨fs_30, wo, w⟩ := w
  refine e_callVN (n := 266) (As := [va_rf r_26, va_rf (some q_13), .int v_27]) (st := [.int 1, va_rf r_24]) okX0_may q599 q601 qs8 q57 q602 wo rfl (by decide) hu1 hu2 rfl rfl (by cases r_24 <;> rfl) dX7_single_263 rfl (ctX0_may w) (fun r9 σ9 hk => ?_)
  obtain ⟨v_29, rfl, hs9, w⟩ := hk
  rw [hs9]
  refine e_if_eq (n := 269) (tgt := 273) dX7_single_266 rfl (by decide) (fun h => ?_) (fun h => ?_)
  · have w := w.1 h
    refine e_null (n := 274) dX7_single_273 rfl ?_
    refine e_sub (lv' := [(0, .ref x0_7), (1, .int x1_8)]) [0, 1] rfl ?_
    exact hX7_single_274 _ _ _ _ _ _ _ _ hu1 hu2 w
  · have w := w.2 h
    refine e_aload_n (n := 270) dX7_single_269 rfl 2 rfl ?_
    refine e_goto (n := 274) dX7_single_270 (by decide) ?_
    refine e_sub (lv' := [(0, .ref x0_7), (1, .int x1_8)]) [0, 1] rfl ?_
    exact hX7_single_274 _ _ _ _ _ _ _ _ hu1 hu2 w
abbrev mX14_init : gM := (yX14_init, cX14_init, 6, none)
theorem okX14_init : g_ok mX14_init 5 := ⟨by decide +kernel, by decide +kernel, by decide +kernel, by decide +kernel, by decide⟩
theorem ff_X14_init_this_0 : ∀ ci ∈ [14], ∃ (C : String) (T : u_T) (N : Nat) (ty0 : Nat → FieldType), g_cl[ci]? = some (C, T, N) ∧ (∀ k, k < N → parseFieldDescriptor (T k).2.2.1 = some (ty0 k)) ∧ g_nm T N ∧ (∀ w ∈ u_ws C T N, w ∈ lw_all) ∧ Nat.ble (8 + 1) N = true ∧ Cond.fieldLink mX14_init.1.cls 1 (T 8).1 (T 8).2.1 (T 8).2.2.1 ∈ lw_all ∧ (T 8).2.2.2 = true ∧ (T 8).1 = mX14_init.1.cls ∧ ty0 8 = (.object "MendReader") := by
  intro ci h
  simp only [List.mem_cons, List.not_mem_nil, or_false] at h
  subst h
  exact ⟨_, _, _, tyX14, rfl, tyX14_ok, gn_X14, in_X14, rfl, q841, rfl, rfl, rfl⟩
def wX14_init (Q : gH → Prop) (x0 : Nat) (x1 : Option Nat) (x2 : Option Nat) (x3 : Int32) (x4 : Int32) (x5 : Int32) (σ : gH) : Prop := c_P σ [14] x0 8 (va_rf x1) (fun σ_1 => ∃ a_2 : Nat, x2 = some a_2 ∧ (c_R σ_1 [7] a_2 0 (fun r_3 => ∃ a_4 : Nat, r_3 = some a_4 ∧ (c_aI σ_1 a_4 (x3 + 1) (fun v_5 => wX10_init (fun (σ_6 : gH) => Q σ_6) x0 x1 (some a_2) x3 x4 x5 v_5 σ_1)))))
set_option maxHeartbeats 4000000 in
theorem ctX14_init {Q : gH → Prop} {x0 : Nat} {x1 : Option Nat} {x2 : Option Nat} {x3 : Int32} {x4 : Int32} {x5 : Int32} {σ : gH} (w : wX14_init Q x0 x1 x2 x3 x4 x5 σ) : CT mX14_init 4 0 0 [.ref x0, va_rf x1, va_rf x2, .int x3, .int x4, .int x5] σ (c_Kv Q) := by
  refine CT.of (lv := [(0, .ref x0), (1, va_rf x1), (2, va_rf x2), (3, .int x3), (4, .int x4), (5, .int x5)]) okX14_init.1 (by cases x1 <;> cases x2 <;> rfl) (by cases x1 <;> cases x2 <;> rfl) ?_
  unfold wX14_init at w
  refine e_aload_n (n := 1) dX14_init_0 rfl 0 rfl ?_
  refine e_aloadr_n (n := 2) (r := x1) dX14_init_1 rfl 1 rfl ?_
  refine e_cPF (n := 5) (ty := (.object "MendReader")) w ff_X14_init_this_0 rfl (rf_nar _ x1) dX14_init_2 rfl (fun σ_1 w => ?_)
  refine e_aload_n (n := 6) dX14_init_5 rfl 0 rfl ?_
  refine e_aloadr_n (n := 7) (r := x1) dX14_init_6 rfl 1 rfl ?_
  refine e_aloadr_n (n := 8) (r := x2) dX14_init_7 rfl 2 rfl ?_
  refine e_iload_n (n := 9) dX14_init_8 rfl 3 rfl ?_
  refine e_iload (n := 11) dX14_init_9 rfl 4 rfl ?_
  refine e_iload (n := 13) dX14_init_11 rfl 5 rfl ?_
  refine e_aloadr_n (n := 14) (r := x2) dX14_init_13 rfl 2 rfl ?_
  obtain ⟨a_2, ha_2, w9a_2⟩ := w
  subst ha_2
  have w := w9a_2
  refine e_cR (n := 17) w fw_X7_text (gl_n q917) dX14_init_14 rfl (fun r_3 w => ?_)
  refine e_iload_n (n := 18) dX14_init_17 rfl 3 rfl ?_
  refine e_iconst (n := 19) (v := 1) dX14_init_18 rfl (by decide) ?_
  refine e_iadd (n := 20) dX14_init_19 rfl ?_
  obtain ⟨a_4, ha_4, w9a_4⟩ := w
  subst ha_4
  have w := w9a_4
  refine e_caI (n := 21) w dX14_init_20 rfl (fun v_5 w => ?_)
  refine e_callI (n := 24) (As := [va_rf x1, va_rf (some a_2), .int x3, .int x4, .int x5, .int v_5]) (st := []) okX10_init rfl rfl q840 q759 q76 q760 (by decide) (Nat.le_refl _) (Nat.le_refl _) rfl rfl (Nat.le_of_ble_eq_true rfl) dX14_init_21 rfl (ctX10_init w) (fun r9 σ_6 hk => ?_)
  obtain ⟨rfl, w⟩ := hk
  exact e_vret rfl (Nat.le_refl _) (Nat.le_refl _) ⟨rfl, w⟩ dX14_init_24
abbrev mX15_init : gM := (yX15_init, cX15_init, 8, none)
theorem okX15_init : g_ok mX15_init 7 := ⟨by decide +kernel, by decide +kernel, by decide +kernel, by decide +kernel, by decide⟩
theorem ff_X15_init_this_0 : ∀ ci ∈ [15], ∃ (C : String) (T : u_T) (N : Nat) (ty0 : Nat → FieldType), g_cl[ci]? = some (C, T, N) ∧ (∀ k, k < N → parseFieldDescriptor (T k).2.2.1 = some (ty0 k)) ∧ g_nm T N ∧ (∀ w ∈ u_ws C T N, w ∈ lw_all) ∧ Nat.ble (11 + 1) N = true ∧ Cond.fieldLink mX15_init.1.cls 1 (T 11).1 (T 11).2.1 (T 11).2.2.1 ∈ lw_all ∧ (T 11).2.2.2 = true ∧ (T 11).1 = mX15_init.1.cls ∧ ty0 11 = (.object "MendReader") := by
  intro ci h
  simp only [List.mem_cons, List.not_mem_nil, or_false] at h
  subst h
  exact ⟨_, _, _, tyX15, rfl, tyX15_ok, gn_X15, in_X15, rfl, q858, rfl, rfl, rfl⟩
def wX15_init (Q : gH → Prop) (x0 : Nat) (x1 : Option Nat) (x2 : Option Nat) (x3 : Int32) (x4 : Int32) (x5 : Int32) (x6 : Option Nat) (x7 : Int32) (σ : gH) : Prop := c_P σ [15] x0 11 (va_rf x1) (fun σ_1 => ∃ a_2 : Nat, x6 = some a_2 ∧ (c_I σ_1 [5] a_2 2 (fun v_3 => wX11_init (fun (σ_4 : gH) => Q σ_4) x0 x1 x2 x3 x4 x5 v_3 (some a_2) x7 σ_1)))
set_option maxHeartbeats 4000000 in
theorem ctX15_init {Q : gH → Prop} {x0 : Nat} {x1 : Option Nat} {x2 : Option Nat} {x3 : Int32} {x4 : Int32} {x5 : Int32} {x6 : Option Nat} {x7 : Int32} {σ : gH} (w : wX15_init Q x0 x1 x2 x3 x4 x5 x6 x7 σ) : CT mX15_init 5 0 0 [.ref x0, va_rf x1, va_rf x2, .int x3, .int x4, .int x5, va_rf x6, .int x7] σ (c_Kv Q) := by
  refine CT.of (lv := [(0, .ref x0), (1, va_rf x1), (2, va_rf x2), (3, .int x3), (4, .int x4), (5, .int x5), (6, va_rf x6), (7, .int x7)]) okX15_init.1 (by cases x1 <;> cases x2 <;> cases x6 <;> rfl) (by cases x1 <;> cases x2 <;> cases x6 <;> rfl) ?_
  unfold wX15_init at w
  refine e_aload_n (n := 1) dX15_init_0 rfl 0 rfl ?_
  refine e_aloadr_n (n := 2) (r := x1) dX15_init_1 rfl 1 rfl ?_
  refine e_cPF (n := 5) (ty := (.object "MendReader")) w ff_X15_init_this_0 rfl (rf_nar _ x1) dX15_init_2 rfl (fun σ_1 w => ?_)
  refine e_aload_n (n := 6) dX15_init_5 rfl 0 rfl ?_
  refine e_aloadr_n (n := 7) (r := x1) dX15_init_6 rfl 1 rfl ?_
  refine e_aloadr_n (n := 8) (r := x2) dX15_init_7 rfl 2 rfl ?_
  refine e_iload_n (n := 9) dX15_init_8 rfl 3 rfl ?_
  refine e_iload (n := 11) dX15_init_9 rfl 4 rfl ?_
  refine e_iload (n := 13) dX15_init_11 rfl 5 rfl ?_
  refine e_aloadr (n := 15) (r := x6) dX15_init_13 rfl 6 rfl ?_
  obtain ⟨a_2, ha_2, w9a_2⟩ := w
  subst ha_2
  have w := w9a_2
  refine e_cI (n := 18) w fw_X5_c (gl_n q452) dX15_init_15 rfl (fun v_3 w => ?_)
  refine e_aload (n := 20) dX15_init_18 rfl 6 rfl ?_
  refine e_iload (n := 22) dX15_init_20 rfl 7 rfl ?_
  refine e_callI (n := 25) (As := [va_rf x1, va_rf x2, .int x3, .int x4, .int x5, .int v_3, va_rf (some a_2), .int x7]) (st := []) okX11_init rfl rfl q857 q775 q77 q776 (by decide) (Nat.le_refl _) (Nat.le_refl _) rfl rfl (Nat.le_of_ble_eq_true rfl) dX15_init_22 rfl (ctX11_init w) (fun r9 σ_4 hk => ?_)
  obtain ⟨rfl, w⟩ := hk
  exact e_vret rfl (Nat.le_refl _) (Nat.le_refl _) ⟨rfl, w⟩ dX15_init_25
abbrev mX7_pair : gM := (yX7_pair, cX7_pair, 5, none)
theorem okX7_pair : g_ok mX7_pair 2 := ⟨by decide +kernel, by decide +kernel, by decide +kernel, by decide +kernel, by decide⟩
def wX7_pair_173 (Q : gH → Prop) (mc ms : Nat) (kh : Nat → Nat → Nat → Int32 → Int32 → gH → Prop) (k179 : Nat → Nat → gH → Prop) (uc : Nat) (us : Nat) (x0 : Nat) (x1 : Int32) (x3 : Int32) (σ : gH) : Prop := ∀ x3_27 : Int32, x3_27 = x3 + 1 → (kh uc us x0 x1 x3_27 σ)
def wX7_pair_75 (Q : gH → Prop) (mc ms : Nat) (k179 : Nat → Nat → gH → Prop) : Nat → Nat → Nat → Nat → Int32 → Int32 → gH → Prop
  | 0 => fun _ _ _ _ _ _ => False
  | n + 1 => fun uc us x0 x1 x3 σ => c_R σ [7] x0 12 (fun r_10 => ∃ a_11 : Nat, r_10 = some a_11 ∧ (c_R σ [0] a_11 9 (fun r_12 => ∃ a_13 : Nat, r_12 = some a_13 ∧ (∃ fs_15 : List Value, σ.2 a_13 = some (.inr (18, fs_15)) ∧ (wJ2_size (fun (v_14 : Int32) => (v_14 ≤ x3 → (k179 uc us σ)) ∧ (¬ v_14 ≤ x3 → (c_R σ [7] x0 12 (fun r_16 => ∃ a_17 : Nat, r_16 = some a_17 ∧ (c_R σ [0] a_17 9 (fun r_18 => ∃ a_19 : Nat, r_18 = some a_19 ∧ (∃ fs_21 : List Value, σ.2 a_19 = some (.inr (18, fs_21)) ∧ (wJ2_get (fun (r_20 : Option Nat) => c_cast σ [5] r_20 (∃ a_22 : Nat, r_20 = some a_22 ∧ (c_I σ [5] a_22 0 (fun v_23 => c_R σ [7] x0 0 (fun r_24 => ∃ a_25 : Nat, r_24 = some a_25 ∧ (c_aI σ a_25 x1 (fun v_26 => (v_23 = v_26 → (c_I σ [5] a_22 1 (fun v_28 => c_R σ [7] x0 0 (fun r_29 => ∃ a_30 : Nat, r_29 = some a_30 ∧ (c_aI σ a_30 (x1 + 1) (fun v_31 => (v_28 = v_31 → (uc + 1 ≤ mc ∧ us + 12 ≤ ms ∧ c_new σ (.inr (15, [.null, .int 0, .int 0, .int 0, .int 0, .null, .null, .null, .null, .int 0, .null, .null])) (fun q_33 σ_32 => c_R σ_32 [7] x0 12 (fun r_34 => c_R σ_32 [7] x0 3 (fun r_35 => ∃ a_36 : Nat, r_35 = some a_36 ∧ (c_aI σ_32 a_36 x1 (fun v_37 => c_R σ_32 [7] x0 3 (fun r_38 => ∃ a_39 : Nat, r_38 = some a_39 ∧ (c_aI σ_32 a_39 (x1 + 2) (fun v_40 => wX15_init (fun (σ_41 : gH) => ∃ fs_45 : List Value, σ_41.2 x0 = some (.inr (7, fs_45)) ∧ ∃ c_43 b_44 : Nat, (uc + 1) + c_43 ≤ mc ∧ (us + 12) + b_44 ≤ ms ∧ (wX7_add (fun (σ_42 : gH) => wX7_pair_173 Q mc ms (wX7_pair_75 Q mc ms k179 n) k179 ((uc + 1) + c_43) ((us + 12) + b_44) x0 x1 x3 σ_42) c_43 b_44 x0 (some q_33) σ_41)) q_33 r_34 (some x0) x1 v_37 v_40 (some a_22) x3 σ_32)))))))))) ∧ (¬ v_28 = v_31 → (wX7_pair_173 Q mc ms (wX7_pair_75 Q mc ms k179 n) k179 uc us x0 x1 x3 σ)))))))) ∧ (¬ v_23 = v_26 → (wX7_pair_173 Q mc ms (wX7_pair_75 Q mc ms k179 n) k179 uc us x0 x1 x3 σ))))))))) σ a_19 x3)))))))) σ a_13)))))
def wX7_pair_73 (Q : gH → Prop) (mc ms : Nat)  (uc : Nat) (us : Nat) (x0 : Nat) (x1 : Int32) (σ : gH) : Prop := ∃ fu : Nat, wX7_pair_75 Q mc ms (fun (uc_8 : Nat) (us_9 : Nat) (σ_7 : gH) => Q σ_7) fu uc us x0 x1 0 σ
def wX7_pair (Q : gH → Prop) (mc ms : Nat) (x0 : Nat) (x1 : Int32) (x2 : Int32) (σ : gH) : Prop := c_R σ [7] x0 0 (fun r_1 => ∃ a_2 : Nat, r_1 = some a_2 ∧ (c_aI σ a_2 x1 (fun v_3 => c_R σ [7] x0 0 (fun r_4 => ∃ a_5 : Nat, r_4 = some a_5 ∧ (c_aI σ a_5 (x1 + 1) (fun v_6 => (v_3 = v_6 → (wX7_pair_73 Q mc ms 0 0 x0 x1 σ)) ∧ (¬ v_3 = v_6 → (0 + 1 ≤ mc ∧ 0 + 9 ≤ ms ∧ c_new σ (.inr (14, [.null, .int 0, .int 0, .int 0, .int 0, .null, .null, .null, .null])) (fun q_47 σ_46 => c_R σ_46 [7] x0 12 (fun r_48 => c_R σ_46 [7] x0 3 (fun r_49 => ∃ a_50 : Nat, r_49 = some a_50 ∧ (c_aI σ_46 a_50 x1 (fun v_51 => wX14_init (fun (σ_52 : gH) => ∃ fs_56 : List Value, σ_52.2 x0 = some (.inr (7, fs_56)) ∧ ∃ c_54 b_55 : Nat, (0 + 1) + c_54 ≤ mc ∧ (0 + 9) + b_55 ≤ ms ∧ (wX7_add (fun (σ_53 : gH) => ((0 + 1) + c_54) + 1 ≤ mc ∧ ((0 + 9) + b_55) + 6 ≤ ms ∧ c_new σ_53 (.inr (8, [.null, .int 0, .int 0, .int 0, .int 0, .null])) (fun q_58 σ_57 => c_R σ_57 [7] x0 12 (fun r_59 => c_R σ_57 [7] x0 3 (fun r_60 => ∃ a_61 : Nat, r_60 = some a_61 ∧ (c_aI σ_57 a_61 (x1 + 2) (fun v_62 => c_R σ_57 [7] x0 0 (fun r_63 => ∃ a_64 : Nat, r_63 = some a_64 ∧ (c_aI σ_57 a_64 x1 (fun v_65 => wX8_init (fun (σ_66 : gH) => ∃ fs_70 : List Value, σ_66.2 x0 = some (.inr (7, fs_70)) ∧ ∃ c_68 b_69 : Nat, (((0 + 1) + c_54) + 1) + c_68 ≤ mc ∧ (((0 + 9) + b_55) + 6) + b_69 ≤ ms ∧ (wX7_add (fun (σ_67 : gH) => wX7_pair_73 Q mc ms ((((0 + 1) + c_54) + 1) + c_68) ((((0 + 9) + b_55) + 6) + b_69) x0 x1 σ_67) c_68 b_69 x0 (some q_58) σ_66)) q_58 r_59 (some x0) x1 x2 v_62 v_65 σ_57))))))))) c_54 b_55 x0 (some q_47) σ_52)) q_47 r_48 (some x0) x1 v_51 x2 σ_46)))))))))))))
set_option maxHeartbeats 4000000 in
theorem hX7_pair_173 {Q : gH → Prop} {mc ms : Nat} {kh : Nat → Nat → Nat → Int32 → Int32 → gH → Prop} (hkh : ∀ (uc : Nat) (us : Nat) (x0 : Nat) (x1 : Int32) (x3 : Int32) (σ : gH), uc ≤ mc → us ≤ ms → kh uc us x0 x1 x3 σ → E mX7_pair 9 mc ms (g_z (c_Kv Q)) uc us 75 [(0, .ref x0), (1, .int x1), (3, .int x3)] [] σ) {k179 : Nat → Nat → gH → Prop} (hk179 : ∀ (uc : Nat) (us : Nat) (σ : gH), uc ≤ mc → us ≤ ms → k179 uc us σ → E mX7_pair 9 mc ms (g_z (c_Kv Q)) uc us 179 [] [] σ) (uc : Nat) (us : Nat) (x0 : Nat) (x1 : Int32) (x3 : Int32) (σ : gH) (hu1 : uc ≤ mc) (hu2 : us ≤ ms) (w : wX7_pair_173 Q mc ms kh k179 uc us x0 x1 x3 σ) : E mX7_pair 9 mc ms (g_z (c_Kv Q)) uc us 173 [(0, .ref x0), (1, .int x1), (3, .int x3)] [] σ := by
  unfold wX7_pair_173 at w
  obtain ⟨x3_27, hx3_27⟩ : ∃ y : Int32, y = x3 + 1 := ⟨_, rfl⟩
  have w := w x3_27 hx3_27
  refine e_iinc (n := 176) (v := x3_27) (lv' := [(0, .ref x0), (1, .int x1), (3, .int x3_27)]) [1, 2, 0] dX7_pair_173 rfl 2 rfl (by rw [hx3_27]; rfl) rfl rfl ?_
  refine e_goto (n := 75) dX7_pair_176 (by decide) ?_
  exact hkh _ _ _ _ _ _ hu1 hu2 w
set_option maxHeartbeats 4000000 in
theorem hX7_pair_75 {Q : gH → Prop} {mc ms : Nat} {k179 : Nat → Nat → gH → Prop} (hk179 : ∀ (uc : Nat) (us : Nat) (σ : gH), uc ≤ mc → us ≤ ms → k179 uc us σ → E mX7_pair 9 mc ms (g_z (c_Kv Q)) uc us 179 [] [] σ) : ∀ (n : Nat) (uc : Nat) (us : Nat) (x0 : Nat) (x1 : Int32) (x3 : Int32) (σ : gH) (hu1 : uc ≤ mc) (hu2 : us ≤ ms), wX7_pair_75 Q mc ms k179 n uc us x0 x1 x3 σ → E mX7_pair 9 mc ms (g_z (c_Kv Q)) uc us 75 [(0, .ref x0), (1, .int x1), (3, .int x3)] [] σ := by
  intro n
  induction n with
  | zero =>
    intro _ _ _ _ _ _ _ _ w
    exact w.elim
  | succ n ih =>
    intro uc us x0 x1 x3 σ hu1 hu2 w
    unfold wX7_pair_75 at w
    refine e_iload_n (n := 76) dX7_pair_75 rfl 2 rfl ?_
    refine e_aload_n (n := 77) dX7_pair_76 rfl 0 rfl ?_
    refine e_cR (n := 80) w fw_X7_this_0 (gl_o q947) dX7_pair_77 rfl (fun r_10 w => ?_)
    obtain ⟨a_11, ha_11, w9a_11⟩ := w
    subst ha_11
    have w := w9a_11
    refine e_cR (n := 83) w fw_X0_parted (gl_n q192) dX7_pair_80 rfl (fun r_12 w => ?_)
    obtain ⟨a_13, ha_13, w9a_13⟩ := w
    subst ha_13
    have w := w9a_13
    obtain ⟨fs_15, wo, w⟩ := w
    refine e_callF (n := 88) (As := []) (st := [.int x3]) okJ2_size q534 q287 q289 q60 q291 q285 q284 q290 q288 q286 rfl (by decide) wo rfl (by decide) hu1 hu2 rfl rfl rfl dX7_pair_83 rfl (ctJ2_size w) (fun r9 σ9 hk => ?_)
    obtain ⟨v_14, rfl, hs9, w⟩ := hk
    rw [hs9]
    refine e_icmp_ge (n := 91) (tgt := 179) dX7_pair_88 rfl (by decide) (fun h => ?_) (fun h => ?_)
    · have w := w.1 h
      refine e_sub (lv' := []) [] rfl ?_
      exact hk179 _ _ _ hu1 hu2 w
    · have w := w.2 h
      refine e_aload_n (n := 92) dX7_pair_91 rfl 0 rfl ?_
      refine e_cR (n := 95) w fw_X7_this_0 (gl_o q947) dX7_pair_92 rfl (fun r_16 w => ?_)
      obtain ⟨a_17, ha_17, w9a_17⟩ := w
      subst ha_17
      have w := w9a_17
      refine e_cR (n := 98) w fw_X0_parted (gl_n q192) dX7_pair_95 rfl (fun r_18 w => ?_)
      refine e_iload_n (n := 99) dX7_pair_98 rfl 2 rfl ?_
      obtain ⟨a_19, ha_19, w9a_19⟩ := w
      subst ha_19
      have w := w9a_19
      obtain ⟨fs_21, wo, w⟩ := w
      refine e_callF (n := 104) (As := [.int x3]) (st := []) okJ2_get q536 q412 q414 q60 q416 q411 q410 q415 q413 q286 rfl (by decide) wo rfl (by decide) hu1 hu2 rfl rfl rfl dX7_pair_99 rfl (ctJ2_get w) (fun r9 σ9 hk => ?_)
      obtain ⟨r_20, rfl, hs9, w⟩ := hk
      rw [hs9]
      refine e_ccast (n := 107) (r := r_20) w gc_X5 q537 dX7_pair_104 rfl (fun w => ?_)
      refine e_astorer (n := 109) (r := r_20) (lv' := [(0, .ref x0), (1, .int x1), (3, .int x3), (4, va_rf r_20)]) [1, 2, 3, 0] dX7_pair_107 rfl rfl rfl ?_
      refine e_aloadr (n := 111) (r := r_20) dX7_pair_109 rfl 3 rfl ?_
      obtain ⟨a_22, ha_22, w9a_22⟩ := w
      subst ha_22
      have w := w9a_22
      refine e_cI (n := 114) w fw_X5_a (gl_n q448) dX7_pair_111 rfl (fun v_23 w => ?_)
      refine e_aload_n (n := 115) dX7_pair_114 rfl 0 rfl ?_
      refine e_cR (n := 118) w fw_X7_text (gl_o q918) dX7_pair_115 rfl (fun r_24 w => ?_)
      refine e_iload_n (n := 119) dX7_pair_118 rfl 1 rfl ?_
      obtain ⟨a_25, ha_25, w9a_25⟩ := w
      subst ha_25
      have w := w9a_25
      refine e_caI (n := 120) w dX7_pair_119 rfl (fun v_26 w => ?_)
      refine e_icmp_ne (n := 123) (tgt := 173) dX7_pair_120 rfl (by decide) (fun h => ?_) (fun h => ?_)
      · have w := w.2 h
        refine e_sub (lv' := [(0, .ref x0), (1, .int x1), (3, .int x3)]) [0, 1, 2] rfl ?_
        exact hX7_pair_173 ih hk179 _ _ _ _ _ _ hu1 hu2 w
      · have w := w.1 h
        refine e_aload (n := 125) dX7_pair_123 rfl 3 rfl ?_
        refine e_cI (n := 128) w fw_X5_b (gl_n q451) dX7_pair_125 rfl (fun v_28 w => ?_)
        refine e_aload_n (n := 129) dX7_pair_128 rfl 0 rfl ?_
        refine e_cR (n := 132) w fw_X7_text (gl_o q918) dX7_pair_129 rfl (fun r_29 w => ?_)
        refine e_iload_n (n := 133) dX7_pair_132 rfl 1 rfl ?_
        refine e_iconst (n := 134) (v := 1) dX7_pair_133 rfl (by decide) ?_
        refine e_iadd (n := 135) dX7_pair_134 rfl ?_
        obtain ⟨a_30, ha_30, w9a_30⟩ := w
        subst ha_30
        have w := w9a_30
        refine e_caI (n := 136) w dX7_pair_135 rfl (fun v_31 w => ?_)
        refine e_icmp_ne (n := 139) (tgt := 173) dX7_pair_136 rfl (by decide) (fun h => ?_) (fun h => ?_)
        · have w := w.2 h
          refine e_sub (lv' := [(0, .ref x0), (1, .int x1), (3, .int x3)]) [0, 1, 2] rfl ?_
          exact hX7_pair_173 ih hk179 _ _ _ _ _ _ hu1 hu2 w
        · have w := w.1 h
          refine e_aload_n (n := 140) dX7_pair_139 rfl 0 rfl ?_
          obtain ⟨hu1, hu2, w⟩ := w
          refine e_cnew (n := 143) w tyX15 tyX15_ok in_X15 rfl q852 q853 q81 (fun j hj => g_defX15 j hj) hu1 hu2 dX7_pair_140 rfl (fun q_33 σ_32 w => ?_)
          refine e_dup (n := 144) dX7_pair_143 rfl rfl ?_
          refine e_aload_n (n := 145) dX7_pair_144 rfl 0 rfl ?_
          refine e_cR (n := 148) w fw_X7_this_0 (gl_o q947) dX7_pair_145 rfl (fun r_34 w => ?_)
          refine e_aload_n (n := 149) dX7_pair_148 rfl 0 rfl ?_
          refine e_iload_n (n := 150) dX7_pair_149 rfl 1 rfl ?_
          refine e_aload_n (n := 151) dX7_pair_150 rfl 0 rfl ?_
          refine e_cR (n := 154) w fw_X7_knot (gl_o q928) dX7_pair_151 rfl (fun r_35 w => ?_)
          refine e_iload_n (n := 155) dX7_pair_154 rfl 1 rfl ?_
          obtain ⟨a_36, ha_36, w9a_36⟩ := w
          subst ha_36
          have w := w9a_36
          refine e_caI (n := 156) w dX7_pair_155 rfl (fun v_37 w => ?_)
          refine e_aload_n (n := 157) dX7_pair_156 rfl 0 rfl ?_
          refine e_cR (n := 160) w fw_X7_knot (gl_o q928) dX7_pair_157 rfl (fun r_38 w => ?_)
          refine e_iload_n (n := 161) dX7_pair_160 rfl 1 rfl ?_
          refine e_iconst (n := 162) (v := 2) dX7_pair_161 rfl (by decide) ?_
          refine e_iadd (n := 163) dX7_pair_162 rfl ?_
          obtain ⟨a_39, ha_39, w9a_39⟩ := w
          subst ha_39
          have w := w9a_39
          refine e_caI (n := 164) w dX7_pair_163 rfl (fun v_40 w => ?_)
          refine e_aload (n := 166) dX7_pair_164 rfl 3 rfl ?_
          refine e_iload_n (n := 167) dX7_pair_166 rfl 2 rfl ?_
          refine e_callI (n := 170) (As := [va_rf r_34, va_rf (some x0), .int x1, .int v_37, .int v_40, va_rf (some a_22), .int x3]) (st := [.ref q_33, .ref x0]) okX15_init rfl rfl q854 q855 q81 q856 (by decide) hu1 hu2 rfl rfl (Nat.le_of_ble_eq_true rfl) dX7_pair_167 rfl (ctX15_init w) (fun r9 σ_41 hk => ?_)
          obtain ⟨rfl, w⟩ := hk
          obtain ⟨fs_45, wo, w⟩ := w
          obtain ⟨c_43, b_44, hu1, hu2, w⟩ := w
          refine e_callV (n := 173) (As := [va_rf (some q_33)]) (st := []) okX7_add q595 q597 qs7 q73 q598 rfl wo rfl (by decide) hu1 hu2 rfl rfl (Nat.le_of_ble_eq_true rfl) dX7_pair_170 rfl (ctX7_add w) (fun r9 σ_42 hk => ?_)
          obtain ⟨rfl, w⟩ := hk
          refine e_sub (lv' := [(0, .ref x0), (1, .int x1), (3, .int x3)]) [0, 1, 2] rfl ?_
          exact hX7_pair_173 ih hk179 _ _ _ _ _ _ hu1 hu2 w
set_option maxHeartbeats 4000000 in
theorem hX7_pair_73 {Q : gH → Prop} {mc ms : Nat}  (uc : Nat) (us : Nat) (x0 : Nat) (x1 : Int32) (σ : gH) (hu1 : uc ≤ mc) (hu2 : us ≤ ms) (w : wX7_pair_73 Q mc ms uc us x0 x1 σ) : E mX7_pair 9 mc ms (g_z (c_Kv Q)) uc us 73 [(0, .ref x0), (1, .int x1)] [] σ := by
  unfold wX7_pair_73 at w
  refine e_iconst (n := 74) (v := 0) dX7_pair_73 rfl (by decide) ?_
  refine e_istore_n (n := 75) (lv' := [(0, .ref x0), (1, .int x1), (3, .int 0)]) [1, 2, 0] dX7_pair_74 rfl rfl rfl ?_
  obtain ⟨fu, w⟩ := w
  refine hX7_pair_75 (fun uc_8 us_9 σ_7 hu1 hu2 w => ?_) fu _ _ _ _ _ _ hu1 hu2 w
  exact e_vret rfl hu1 hu2 ⟨rfl, w⟩ dX7_pair_179
set_option maxHeartbeats 4000000 in
theorem ctX7_pair {Q : gH → Prop} {mc ms : Nat} {x0 : Nat} {x1 : Int32} {x2 : Int32} {σ : gH} (w : wX7_pair Q mc ms x0 x1 x2 σ) : CT mX7_pair 9 mc ms [.ref x0, .int x1, .int x2] σ (c_Kv Q) := by
  refine CT.of (lv := [(0, .ref x0), (1, .int x1), (2, .int x2)]) okX7_pair.1 rfl rfl ?_
  unfold wX7_pair at w
  refine e_aload_n (n := 1) dX7_pair_0 rfl 0 rfl ?_
  refine e_cR (n := 4) w fw_X7_text (gl_o q918) dX7_pair_1 rfl (fun r_1 w => ?_)
  refine e_iload_n (n := 5) dX7_pair_4 rfl 1 rfl ?_
  obtain ⟨a_2, ha_2, w9a_2⟩ := w
  subst ha_2
  have w := w9a_2
  refine e_caI (n := 6) w dX7_pair_5 rfl (fun v_3 w => ?_)
  refine e_aload_n (n := 7) dX7_pair_6 rfl 0 rfl ?_
  refine e_cR (n := 10) w fw_X7_text (gl_o q918) dX7_pair_7 rfl (fun r_4 w => ?_)
  refine e_iload_n (n := 11) dX7_pair_10 rfl 1 rfl ?_
  refine e_iconst (n := 12) (v := 1) dX7_pair_11 rfl (by decide) ?_
  refine e_iadd (n := 13) dX7_pair_12 rfl ?_
  obtain ⟨a_5, ha_5, w9a_5⟩ := w
  subst ha_5
  have w := w9a_5
  refine e_caI (n := 14) w dX7_pair_13 rfl (fun v_6 w => ?_)
  refine e_icmp_eq (n := 17) (tgt := 73) dX7_pair_14 rfl (by decide) (fun h => ?_) (fun h => ?_)
  · have w := w.1 h
    refine e_sub (lv' := [(0, .ref x0), (1, .int x1)]) [0, 1] rfl ?_
    exact hX7_pair_73 _ _ _ _ _ (Nat.zero_le _) (Nat.zero_le _) w
  · have w := w.2 h
    refine e_aload_n (n := 18) dX7_pair_17 rfl 0 rfl ?_
    obtain ⟨hu1, hu2, w⟩ := w
    refine e_cnew (n := 21) w tyX14 tyX14_ok in_X14 rfl q835 q836 q80 (fun j hj => g_defX14 j hj) hu1 hu2 dX7_pair_18 rfl (fun q_47 σ_46 w => ?_)
    refine e_dup (n := 22) dX7_pair_21 rfl rfl ?_
    refine e_aload_n (n := 23) dX7_pair_22 rfl 0 rfl ?_
    refine e_cR (n := 26) w fw_X7_this_0 (gl_o q947) dX7_pair_23 rfl (fun r_48 w => ?_)
    refine e_aload_n (n := 27) dX7_pair_26 rfl 0 rfl ?_
    refine e_iload_n (n := 28) dX7_pair_27 rfl 1 rfl ?_
    refine e_aload_n (n := 29) dX7_pair_28 rfl 0 rfl ?_
    refine e_cR (n := 32) w fw_X7_knot (gl_o q928) dX7_pair_29 rfl (fun r_49 w => ?_)
    refine e_iload_n (n := 33) dX7_pair_32 rfl 1 rfl ?_
    obtain ⟨a_50, ha_50, w9a_50⟩ := w
    subst ha_50
    have w := w9a_50
    refine e_caI (n := 34) w dX7_pair_33 rfl (fun v_51 w => ?_)
    refine e_iload_n (n := 35) dX7_pair_34 rfl 2 rfl ?_
    refine e_callI (n := 38) (As := [va_rf r_48, va_rf (some x0), .int x1, .int v_51, .int x2]) (st := [.ref q_47, .ref x0]) okX14_init rfl rfl q837 q838 q80 q839 (by decide) hu1 hu2 rfl rfl (Nat.le_of_ble_eq_true rfl) dX7_pair_35 rfl (ctX14_init w) (fun r9 σ_52 hk => ?_)
    obtain ⟨rfl, w⟩ := hk
    obtain ⟨fs_56, wo, w⟩ := w
    obtain ⟨c_54, b_55, hu1, hu2, w⟩ := w
    refine e_callV (n := 41) (As := [va_rf (some q_47)]) (st := []) okX7_add q595 q597 qs7 q73 q598 rfl wo rfl (by decide) hu1 hu2 rfl rfl (Nat.le_of_ble_eq_true rfl) dX7_pair_38 rfl (ctX7_add w) (fun r9 σ_53 hk => ?_)
    obtain ⟨rfl, w⟩ := hk
    refine e_aload_n (n := 42) dX7_pair_41 rfl 0 rfl ?_
    obtain ⟨hu1, hu2, w⟩ := w
    refine e_cnew (n := 45) w tyX8 tyX8_ok in_X8 rfl q746 q747 q74 (fun j hj => g_defX8 j hj) hu1 hu2 dX7_pair_42 rfl (fun q_58 σ_57 w => ?_)
    refine e_dup (n := 46) dX7_pair_45 rfl rfl ?_
    refine e_aload_n (n := 47) dX7_pair_46 rfl 0 rfl ?_
    refine e_cR (n := 50) w fw_X7_this_0 (gl_o q947) dX7_pair_47 rfl (fun r_59 w => ?_)
    refine e_aload_n (n := 51) dX7_pair_50 rfl 0 rfl ?_
    refine e_iload_n (n := 52) dX7_pair_51 rfl 1 rfl ?_
    refine e_iload_n (n := 53) dX7_pair_52 rfl 2 rfl ?_
    refine e_aload_n (n := 54) dX7_pair_53 rfl 0 rfl ?_
    refine e_cR (n := 57) w fw_X7_knot (gl_o q928) dX7_pair_54 rfl (fun r_60 w => ?_)
    refine e_iload_n (n := 58) dX7_pair_57 rfl 1 rfl ?_
    refine e_iconst (n := 59) (v := 2) dX7_pair_58 rfl (by decide) ?_
    refine e_iadd (n := 60) dX7_pair_59 rfl ?_
    obtain ⟨a_61, ha_61, w9a_61⟩ := w
    subst ha_61
    have w := w9a_61
    refine e_caI (n := 61) w dX7_pair_60 rfl (fun v_62 w => ?_)
    refine e_aload_n (n := 62) dX7_pair_61 rfl 0 rfl ?_
    refine e_cR (n := 65) w fw_X7_text (gl_o q918) dX7_pair_62 rfl (fun r_63 w => ?_)
    refine e_iload_n (n := 66) dX7_pair_65 rfl 1 rfl ?_
    obtain ⟨a_64, ha_64, w9a_64⟩ := w
    subst ha_64
    have w := w9a_64
    refine e_caI (n := 67) w dX7_pair_66 rfl (fun v_65 w => ?_)
    refine e_callI (n := 70) (As := [va_rf r_59, va_rf (some x0), .int x1, .int x2, .int v_62, .int v_65]) (st := [.ref q_58, .ref x0]) okX8_init rfl rfl q748 q544 q74 q545 (by decide) hu1 hu2 rfl rfl (Nat.le_of_ble_eq_true rfl) dX7_pair_67 rfl (ctX8_init w) (fun r9 σ_66 hk => ?_)
    obtain ⟨rfl, w⟩ := hk
    obtain ⟨fs_70, wo, w⟩ := w
    obtain ⟨c_68, b_69, hu1, hu2, w⟩ := w
    refine e_callV (n := 73) (As := [va_rf (some q_58)]) (st := []) okX7_add q595 q597 qs7 q73 q598 rfl wo rfl (by decide) hu1 hu2 rfl rfl (Nat.le_of_ble_eq_true rfl) dX7_pair_70 rfl (ctX7_add w) (fun r9 σ_67 hk => ?_)
    obtain ⟨rfl, w⟩ := hk
    refine e_sub (lv' := [(0, .ref x0), (1, .int x1)]) [0, 1] rfl ?_
    exact hX7_pair_73 _ _ _ _ _ hu1 hu2 w
abbrev mX7_knots : gM := (yX7_knots, cX7_knots, 5, none)
theorem okX7_knots : g_ok mX7_knots 0 := ⟨by decide +kernel, by decide +kernel, by decide +kernel, by decide +kernel, by decide⟩
def wX7_knots_287 (Q : gH → Prop) (mc ms : Nat) (kh : Nat → Nat → Nat → Nat → Nat → Int32 → gH → Prop) (k293 : Nat → Nat → gH → Prop) (uc : Nat) (us : Nat) (x0 : Nat) (x1 : Nat) (x2 : Nat) (x3 : Int32) (σ : gH) : Prop := ∀ x3_24 : Int32, x3_24 = x3 + 1 → (kh uc us x0 x1 x2 x3_24 σ)
def wX7_knots_269 (Q : gH → Prop) (mc ms : Nat) (kh : Nat → Nat → Nat → Nat → Nat → Int32 → gH → Prop) (k293 : Nat → Nat → gH → Prop) (uc : Nat) (us : Nat) (x0 : Nat) (x1 : Nat) (x2 : Nat) (x3 : Int32) (σ : gH) : Prop := c_I σ [7] x0 1 (fun v_23 => (v_23 ≤ x3 + 1 → (wX7_knots_287 Q mc ms kh k293 uc us x0 x1 x2 x3 σ)) ∧ (¬ v_23 ≤ x3 + 1 → (c_aI σ x1 x3 (fun v_25 => ∃ fs_29 : List Value, σ.2 x0 = some (.inr (7, fs_29)) ∧ ∃ c_27 b_28 : Nat, uc + c_27 ≤ mc ∧ us + b_28 ≤ ms ∧ (wX7_pair (fun (σ_26 : gH) => wX7_knots_287 Q mc ms kh k293 (uc + c_27) (us + b_28) x0 x1 x2 x3 σ_26) c_27 b_28 x0 x3 v_25 σ)))))
def wX7_knots_204 (Q : gH → Prop) (mc ms : Nat) (k253 : Nat → Nat → Nat → Nat → Nat → Int32 → gH → Prop) : Nat → Nat → Nat → Nat → Nat → Nat → Int32 → Int32 → gH → Prop
  | 0 => fun _ _ _ _ _ _ _ _ => False
  | n + 1 => fun uc us x0 x1 x2 x3 x4 σ => c_R σ [7] x0 12 (fun r_35 => ∃ a_36 : Nat, r_35 = some a_36 ∧ (c_I σ [0] a_36 0 (fun v_37 => (v_37 ≤ x4 → (k253 uc us x0 x1 x2 x3 σ)) ∧ (¬ v_37 ≤ x4 → (uc + 1 ≤ mc ∧ us + 7 ≤ ms ∧ c_new σ (.inr (9, [.null, .int 0, .int 0, .int 0, .int 0, .null, .null])) (fun q_39 σ_38 => c_R σ_38 [7] x0 12 (fun r_40 => c_R σ_38 [7] x0 3 (fun r_41 => ∃ a_42 : Nat, r_41 = some a_42 ∧ (c_aI σ_38 a_42 x3 (fun v_43 => c_R σ_38 [7] x0 3 (fun r_44 => ∃ a_45 : Nat, r_44 = some a_45 ∧ (c_aI σ_38 a_45 x3 (fun v_46 => wX9_init (fun (σ_47 : gH) => ∃ fs_51 : List Value, σ_47.2 x0 = some (.inr (7, fs_51)) ∧ ∃ c_49 b_50 : Nat, (uc + 1) + c_49 ≤ mc ∧ (us + 7) + b_50 ≤ ms ∧ (wX7_add (fun (σ_48 : gH) => ∀ x4_52 : Int32, x4_52 = x4 + 1 → (wX7_knots_204 Q mc ms k253 n ((uc + 1) + c_49) ((us + 7) + b_50) x0 x1 x2 x3 x4_52 σ_48)) c_49 b_50 x0 (some q_39) σ_47)) q_39 r_40 (some x0) x3 v_43 v_46 x4 σ_38)))))))))))))
def wX7_knots_193 (Q : gH → Prop) (mc ms : Nat) (k293 : Nat → Nat → gH → Prop) : Nat → Nat → Nat → Nat → Nat → Nat → Int32 → gH → Prop
  | 0 => fun _ _ _ _ _ _ _ => False
  | n + 1 => fun uc us x0 x1 x2 x3 σ => c_I σ [7] x0 1 (fun v_14 => (v_14 < x3 → (k293 uc us σ)) ∧ (¬ v_14 < x3 → (∃ fu : Nat, wX7_knots_204 Q mc ms (fun (uc_20 : Nat) (us_21 : Nat) (x0_15 : Nat) (x1_16 : Nat) (x2_17 : Nat) (x3_18 : Int32) (σ_19 : gH) => c_I σ_19 [7] x0_15 1 (fun v_22 => (v_22 ≤ x3_18 → (wX7_knots_269 Q mc ms (wX7_knots_193 Q mc ms k293 n) k293 uc_20 us_21 x0_15 x1_16 x2_17 x3_18 σ_19)) ∧ (¬ v_22 ≤ x3_18 → (c_aR 3 σ_19 x2_17 x3_18 (fun r_30 => ∃ fs_34 : List Value, σ_19.2 x0_15 = some (.inr (7, fs_34)) ∧ ∃ c_32 b_33 : Nat, uc_20 + c_32 ≤ mc ∧ us_21 + b_33 ≤ ms ∧ (wX7_single (fun (σ_31 : gH) => wX7_knots_269 Q mc ms (wX7_knots_193 Q mc ms k293 n) k293 (uc_20 + c_32) (us_21 + b_33) x0_15 x1_16 x2_17 x3_18 σ_31) c_32 b_33 x0_15 x3_18 r_30 σ_19)))))) fu uc us x0 x1 x2 x3 0 σ)))
def wX7_knots_179 (Q : gH → Prop) (mc ms : Nat) (kh : Nat → Nat → Nat → Nat → Nat → Int32 → Int32 → gH → Prop) (k185 : Nat → Nat → Nat → Nat → Nat → Int32 → gH → Prop) (uc : Nat) (us : Nat) (x0 : Nat) (x1 : Nat) (x2 : Nat) (x3 : Int32) (x4 : Int32) (σ : gH) : Prop := ∀ x4_91 : Int32, x4_91 = x4 + 1 → (kh uc us x0 x1 x2 x3 x4_91 σ)
def wX7_knots_94 (Q : gH → Prop) (mc ms : Nat) (k185 : Nat → Nat → Nat → Nat → Nat → Int32 → gH → Prop) : Nat → Nat → Nat → Nat → Nat → Nat → Int32 → Int32 → gH → Prop
  | 0 => fun _ _ _ _ _ _ _ _ => False
  | n + 1 => fun uc us x0 x1 x2 x3 x4 σ => c_R σ [7] x0 12 (fun r_73 => ∃ a_74 : Nat, r_73 = some a_74 ∧ (c_R σ [0] a_74 8 (fun r_75 => ∃ a_76 : Nat, r_75 = some a_76 ∧ (∃ fs_78 : List Value, σ.2 a_76 = some (.inr (18, fs_78)) ∧ (wJ2_size (fun (v_77 : Int32) => (v_77 ≤ x4 → (k185 uc us x0 x1 x2 x3 σ)) ∧ (¬ v_77 ≤ x4 → (c_I σ [7] x0 1 (fun v_79 => (v_79 ≤ x3 → (k185 uc us x0 x1 x2 x3 σ)) ∧ (¬ v_79 ≤ x3 → (c_R σ [7] x0 12 (fun r_80 => ∃ a_81 : Nat, r_80 = some a_81 ∧ (c_R σ [0] a_81 8 (fun r_82 => ∃ a_83 : Nat, r_82 = some a_83 ∧ (∃ fs_85 : List Value, σ.2 a_83 = some (.inr (18, fs_85)) ∧ (wJ2_get (fun (r_84 : Option Nat) => c_cast σ [5] r_84 (∃ a_86 : Nat, r_84 = some a_86 ∧ (c_I σ [5] a_86 2 (fun v_87 => c_R σ [7] x0 0 (fun r_88 => ∃ a_89 : Nat, r_88 = some a_89 ∧ (c_aI σ a_89 x3 (fun v_90 => (v_87 = v_90 → (c_aR 3 σ x2 x3 (fun r_92 => c_I σ [7] x0 5 (fun v_93 => ∃ a_94 : Nat, r_92 = some a_94 ∧ (c_sI σ a_94 x4 v_93 (fun σ_95 => c_R σ_95 [7] x0 4 (fun r_96 => c_I σ_95 [7] x0 5 (fun v_97 => ∃ a_98 : Nat, r_96 = some a_98 ∧ (c_sI σ_95 a_98 v_97 (-4) (fun σ_99 => c_I σ_99 [7] x0 5 (fun v_100 => c_P σ_99 [7] x0 5 (.int (v_100 + 1)) (fun σ_101 => wX7_knots_179 Q mc ms (wX7_knots_94 Q mc ms k185 n) k185 uc us x0 x1 x2 x3 x4 σ_101)))))))))))) ∧ (¬ v_87 = v_90 → (wX7_knots_179 Q mc ms (wX7_knots_94 Q mc ms k185 n) k185 uc us x0 x1 x2 x3 x4 σ))))))))) σ a_83 x4))))))))))) σ a_76)))))
def wX7_knots_91 (Q : gH → Prop) (mc ms : Nat) (kh : Nat → Nat → Nat → Nat → Nat → Int32 → gH → Prop) (k191 : Nat → Nat → Nat → Nat → Nat → gH → Prop) (uc : Nat) (us : Nat) (x0 : Nat) (x1 : Nat) (x2 : Nat) (x3 : Int32) (σ : gH) : Prop := ∃ fu : Nat, wX7_knots_94 Q mc ms (fun (uc_70 : Nat) (us_71 : Nat) (x0_65 : Nat) (x1_66 : Nat) (x2_67 : Nat) (x3_68 : Int32) (σ_69 : gH) => ∀ x3_72 : Int32, x3_72 = x3_68 + 1 → (kh uc_70 us_71 x0_65 x1_66 x2_67 x3_72 σ_69)) fu uc us x0 x1 x2 x3 0 σ
def wX7_knots_15 (Q : gH → Prop) (mc ms : Nat) (k191 : Nat → Nat → Nat → Nat → Nat → gH → Prop) : Nat → Nat → Nat → Nat → Nat → Nat → Int32 → gH → Prop
  | 0 => fun _ _ _ _ _ _ _ => False
  | n + 1 => fun uc us x0 x1 x2 x3 σ => c_I σ [7] x0 1 (fun v_53 => (v_53 < x3 → (k191 uc us x0 x1 x2 σ)) ∧ (¬ v_53 < x3 → (c_R σ [7] x0 3 (fun r_54 => c_I σ [7] x0 5 (fun v_55 => ∃ a_56 : Nat, r_54 = some a_56 ∧ (c_sI σ a_56 x3 v_55 (fun σ_57 => c_R σ_57 [7] x0 4 (fun r_58 => c_I σ_57 [7] x0 5 (fun v_59 => ∃ a_60 : Nat, r_58 = some a_60 ∧ (c_sI σ_57 a_60 v_59 x3 (fun σ_61 => c_I σ_61 [7] x0 5 (fun v_62 => c_P σ_61 [7] x0 5 (.int (v_62 + 1)) (fun σ_63 => c_I σ_63 [7] x0 1 (fun v_64 => (v_64 ≤ x3 + 1 → (wX7_knots_91 Q mc ms (wX7_knots_15 Q mc ms k191 n) k191 uc us x0 x1 x2 x3 σ_63)) ∧ (¬ v_64 ≤ x3 + 1 → (c_I σ_63 [7] x0 5 (fun v_102 => c_sI σ_63 x1 x3 v_102 (fun σ_103 => c_R σ_103 [7] x0 4 (fun r_104 => c_I σ_103 [7] x0 5 (fun v_105 => ∃ a_106 : Nat, r_104 = some a_106 ∧ (c_sI σ_103 a_106 v_105 (-4) (fun σ_107 => c_I σ_107 [7] x0 5 (fun v_108 => c_P σ_107 [7] x0 5 (.int (v_108 + 1)) (fun σ_109 => wX7_knots_91 Q mc ms (wX7_knots_15 Q mc ms k191 n) k191 uc us x0 x1 x2 x3 σ_109))))))))))))))))))))))))
def wX7_knots (Q : gH → Prop) (mc ms : Nat) (x0 : Nat) (σ : gH) : Prop := 0 + 1 ≤ mc ∧ 0 + (12 : Int32).toNatClampNeg ≤ ms ∧ ¬ (12 : Int32) < 0 ∧ (12 : Int32).toNatClampNeg * 4 ≤ 536870912 ∧ c_new σ (.inl (0, (12 : Int32).toNatClampNeg, .inl (fun _ => 0))) (fun q_2 σ_1 => (0 + 1) + (1 + (12 : Int32).toNatClampNeg) ≤ mc ∧ (0 + (12 : Int32).toNatClampNeg) + ((12 : Int32).toNatClampNeg + (12 : Int32).toNatClampNeg * (3 : Int32).toNatClampNeg) ≤ ms ∧ c_m2 (12 : Int32).toNatClampNeg (3 : Int32).toNatClampNeg σ_1 3 (fun q_4 σ_3 => ∃ fu : Nat, wX7_knots_15 Q mc ms (fun (uc_9 : Nat) (us_10 : Nat) (x0_5 : Nat) (x1_6 : Nat) (x2_7 : Nat) (σ_8 : gH) => ∃ fu : Nat, wX7_knots_193 Q mc ms (fun (uc_12 : Nat) (us_13 : Nat) (σ_11 : gH) => Q σ_11) fu uc_9 us_10 x0_5 x1_6 x2_7 0 σ_8) fu ((0 + 1) + (1 + (12 : Int32).toNatClampNeg)) ((0 + (12 : Int32).toNatClampNeg) + ((12 : Int32).toNatClampNeg + (12 : Int32).toNatClampNeg * (3 : Int32).toNatClampNeg)) x0 q_2 q_4 0 σ_3))
set_option maxHeartbeats 4000000 in
theorem hX7_knots_287 {Q : gH → Prop} {mc ms : Nat} {kh : Nat → Nat → Nat → Nat → Nat → Int32 → gH → Prop} (hkh : ∀ (uc : Nat) (us : Nat) (x0 : Nat) (x1 : Nat) (x2 : Nat) (x3 : Int32) (σ : gH), uc ≤ mc → us ≤ ms → kh uc us x0 x1 x2 x3 σ → E mX7_knots 10 mc ms (g_z (c_Kv Q)) uc us 193 [(0, .ref x0), (1, .ref x1), (2, .ref x2), (3, .int x3)] [] σ) {k293 : Nat → Nat → gH → Prop} (hk293 : ∀ (uc : Nat) (us : Nat) (σ : gH), uc ≤ mc → us ≤ ms → k293 uc us σ → E mX7_knots 10 mc ms (g_z (c_Kv Q)) uc us 293 [] [] σ) (uc : Nat) (us : Nat) (x0 : Nat) (x1 : Nat) (x2 : Nat) (x3 : Int32) (σ : gH) (hu1 : uc ≤ mc) (hu2 : us ≤ ms) (w : wX7_knots_287 Q mc ms kh k293 uc us x0 x1 x2 x3 σ) : E mX7_knots 10 mc ms (g_z (c_Kv Q)) uc us 287 [(0, .ref x0), (1, .ref x1), (2, .ref x2), (3, .int x3)] [] σ := by
  unfold wX7_knots_287 at w
  obtain ⟨x3_24, hx3_24⟩ : ∃ y : Int32, y = x3 + 1 := ⟨_, rfl⟩
  have w := w x3_24 hx3_24
  refine e_iinc (n := 290) (v := x3_24) (lv' := [(0, .ref x0), (1, .ref x1), (2, .ref x2), (3, .int x3_24)]) [1, 2, 3, 0] dX7_knots_287 rfl 3 rfl (by rw [hx3_24]; rfl) rfl rfl ?_
  refine e_goto (n := 193) dX7_knots_290 (by decide) ?_
  exact hkh _ _ _ _ _ _ _ hu1 hu2 w
set_option maxHeartbeats 4000000 in
theorem hX7_knots_269 {Q : gH → Prop} {mc ms : Nat} {kh : Nat → Nat → Nat → Nat → Nat → Int32 → gH → Prop} (hkh : ∀ (uc : Nat) (us : Nat) (x0 : Nat) (x1 : Nat) (x2 : Nat) (x3 : Int32) (σ : gH), uc ≤ mc → us ≤ ms → kh uc us x0 x1 x2 x3 σ → E mX7_knots 10 mc ms (g_z (c_Kv Q)) uc us 193 [(0, .ref x0), (1, .ref x1), (2, .ref x2), (3, .int x3)] [] σ) {k293 : Nat → Nat → gH → Prop} (hk293 : ∀ (uc : Nat) (us : Nat) (σ : gH), uc ≤ mc → us ≤ ms → k293 uc us σ → E mX7_knots 10 mc ms (g_z (c_Kv Q)) uc us 293 [] [] σ) (uc : Nat) (us : Nat) (x0 : Nat) (x1 : Nat) (x2 : Nat) (x3 : Int32) (σ : gH) (hu1 : uc ≤ mc) (hu2 : us ≤ ms) (w : wX7_knots_269 Q mc ms kh k293 uc us x0 x1 x2 x3 σ) : E mX7_knots 10 mc ms (g_z (c_Kv Q)) uc us 269 [(0, .ref x0), (1, .ref x1), (2, .ref x2), (3, .int x3)] [] σ := by
  unfold wX7_knots_269 at w
  refine e_iload_n (n := 270) dX7_knots_269 rfl 3 rfl ?_
  refine e_iconst (n := 271) (v := 1) dX7_knots_270 rfl (by decide) ?_
  refine e_iadd (n := 272) dX7_knots_271 rfl ?_
  refine e_aload_n (n := 273) dX7_knots_272 rfl 0 rfl ?_
  refine e_cI (n := 276) w fw_X7_n (gl_o q922) dX7_knots_273 rfl (fun v_23 w => ?_)
  refine e_icmp_ge (n := 279) (tgt := 287) dX7_knots_276 rfl (by decide) (fun h => ?_) (fun h => ?_)
  · have w := w.1 h
    exact hX7_knots_287 hkh hk293 _ _ _ _ _ _ _ hu1 hu2 w
  · have w := w.2 h
    refine e_aload_n (n := 280) dX7_knots_279 rfl 0 rfl ?_
    refine e_iload_n (n := 281) dX7_knots_280 rfl 3 rfl ?_
    refine e_aload_n (n := 282) dX7_knots_281 rfl 1 rfl ?_
    refine e_iload_n (n := 283) dX7_knots_282 rfl 3 rfl ?_
    refine e_caI (n := 284) w dX7_knots_283 rfl (fun v_25 w => ?_)
    obtain ⟨fs_29, wo, w⟩ := w
    obtain ⟨c_27, b_28, hu1, hu2, w⟩ := w
    refine e_callV (n := 287) (As := [.int x3, .int v_25]) (st := []) okX7_pair q831 q833 qs11 q73 q834 rfl wo rfl (by decide) hu1 hu2 rfl rfl (Nat.le_of_ble_eq_true rfl) dX7_knots_284 rfl (ctX7_pair w) (fun r9 σ_26 hk => ?_)
    obtain ⟨rfl, w⟩ := hk
    exact hX7_knots_287 hkh hk293 _ _ _ _ _ _ _ hu1 hu2 w
set_option maxHeartbeats 4000000 in
theorem hX7_knots_204 {Q : gH → Prop} {mc ms : Nat} {k253 : Nat → Nat → Nat → Nat → Nat → Int32 → gH → Prop} (hk253 : ∀ (uc : Nat) (us : Nat) (x0 : Nat) (x1 : Nat) (x2 : Nat) (x3 : Int32) (σ : gH), uc ≤ mc → us ≤ ms → k253 uc us x0 x1 x2 x3 σ → E mX7_knots 10 mc ms (g_z (c_Kv Q)) uc us 253 [(0, .ref x0), (1, .ref x1), (2, .ref x2), (3, .int x3)] [] σ) : ∀ (n : Nat) (uc : Nat) (us : Nat) (x0 : Nat) (x1 : Nat) (x2 : Nat) (x3 : Int32) (x4 : Int32) (σ : gH) (hu1 : uc ≤ mc) (hu2 : us ≤ ms), wX7_knots_204 Q mc ms k253 n uc us x0 x1 x2 x3 x4 σ → E mX7_knots 10 mc ms (g_z (c_Kv Q)) uc us 204 [(0, .ref x0), (1, .ref x1), (2, .ref x2), (3, .int x3), (4, .int x4)] [] σ := by
  intro n
  induction n with
  | zero =>
    intro _ _ _ _ _ _ _ _ _ _ w
    exact w.elim
  | succ n ih =>
    intro uc us x0 x1 x2 x3 x4 σ hu1 hu2 w
    unfold wX7_knots_204 at w
    refine e_iload (n := 206) dX7_knots_204 rfl 4 rfl ?_
    refine e_aload_n (n := 207) dX7_knots_206 rfl 0 rfl ?_
    refine e_cR (n := 210) w fw_X7_this_0 (gl_o q947) dX7_knots_207 rfl (fun r_35 w => ?_)
    obtain ⟨a_36, ha_36, w9a_36⟩ := w
    subst ha_36
    have w := w9a_36
    refine e_cI (n := 213) w fw_X0_tokens (gl_n q168) dX7_knots_210 rfl (fun v_37 w => ?_)
    refine e_icmp_ge (n := 216) (tgt := 253) dX7_knots_213 rfl (by decide) (fun h => ?_) (fun h => ?_)
    · have w := w.1 h
      refine e_sub (lv' := [(0, .ref x0), (1, .ref x1), (2, .ref x2), (3, .int x3)]) [0, 1, 2, 3] rfl ?_
      exact hk253 _ _ _ _ _ _ _ hu1 hu2 w
    · have w := w.2 h
      refine e_aload_n (n := 217) dX7_knots_216 rfl 0 rfl ?_
      obtain ⟨hu1, hu2, w⟩ := w
      refine e_cnew (n := 220) w tyX9 tyX9_ok in_X9 rfl q538 q539 q75 (fun j hj => g_defX9 j hj) hu1 hu2 dX7_knots_217 rfl (fun q_39 σ_38 w => ?_)
      refine e_dup (n := 221) dX7_knots_220 rfl rfl ?_
      refine e_aload_n (n := 222) dX7_knots_221 rfl 0 rfl ?_
      refine e_cR (n := 225) w fw_X7_this_0 (gl_o q947) dX7_knots_222 rfl (fun r_40 w => ?_)
      refine e_aload_n (n := 226) dX7_knots_225 rfl 0 rfl ?_
      refine e_iload_n (n := 227) dX7_knots_226 rfl 3 rfl ?_
      refine e_aload_n (n := 228) dX7_knots_227 rfl 0 rfl ?_
      refine e_cR (n := 231) w fw_X7_knot (gl_o q928) dX7_knots_228 rfl (fun r_41 w => ?_)
      refine e_iload_n (n := 232) dX7_knots_231 rfl 3 rfl ?_
      obtain ⟨a_42, ha_42, w9a_42⟩ := w
      subst ha_42
      have w := w9a_42
      refine e_caI (n := 233) w dX7_knots_232 rfl (fun v_43 w => ?_)
      refine e_aload_n (n := 234) dX7_knots_233 rfl 0 rfl ?_
      refine e_cR (n := 237) w fw_X7_knot (gl_o q928) dX7_knots_234 rfl (fun r_44 w => ?_)
      refine e_iload_n (n := 238) dX7_knots_237 rfl 3 rfl ?_
      obtain ⟨a_45, ha_45, w9a_45⟩ := w
      subst ha_45
      have w := w9a_45
      refine e_caI (n := 239) w dX7_knots_238 rfl (fun v_46 w => ?_)
      refine e_iload (n := 241) dX7_knots_239 rfl 4 rfl ?_
      refine e_callI (n := 244) (As := [va_rf r_40, va_rf (some x0), .int x3, .int v_43, .int v_46, .int x4]) (st := [.ref q_39, .ref x0]) okX9_init rfl rfl q540 q541 q75 q542 (by decide) hu1 hu2 rfl rfl (Nat.le_of_ble_eq_true rfl) dX7_knots_241 rfl (ctX9_init w) (fun r9 σ_47 hk => ?_)
      obtain ⟨rfl, w⟩ := hk
      obtain ⟨fs_51, wo, w⟩ := w
      obtain ⟨c_49, b_50, hu1, hu2, w⟩ := w
      refine e_callV (n := 247) (As := [va_rf (some q_39)]) (st := []) okX7_add q595 q597 qs7 q73 q598 rfl wo rfl (by decide) hu1 hu2 rfl rfl (Nat.le_of_ble_eq_true rfl) dX7_knots_244 rfl (ctX7_add w) (fun r9 σ_48 hk => ?_)
      obtain ⟨rfl, w⟩ := hk
      obtain ⟨x4_52, hx4_52⟩ : ∃ y : Int32, y = x4 + 1 := ⟨_, rfl⟩
      have w := w x4_52 hx4_52
      refine e_iinc (n := 250) (v := x4_52) (lv' := [(0, .ref x0), (1, .ref x1), (2, .ref x2), (3, .int x3), (4, .int x4_52)]) [1, 2, 3, 4, 0] dX7_knots_247 rfl 4 rfl (by rw [hx4_52]; rfl) rfl rfl ?_
      refine e_goto (n := 204) dX7_knots_250 (by decide) ?_
      exact ih _ _ _ _ _ _ _ _ hu1 hu2 w
set_option maxHeartbeats 4000000 in
theorem hX7_knots_193 {Q : gH → Prop} {mc ms : Nat} {k293 : Nat → Nat → gH → Prop} (hk293 : ∀ (uc : Nat) (us : Nat) (σ : gH), uc ≤ mc → us ≤ ms → k293 uc us σ → E mX7_knots 10 mc ms (g_z (c_Kv Q)) uc us 293 [] [] σ) : ∀ (n : Nat) (uc : Nat) (us : Nat) (x0 : Nat) (x1 : Nat) (x2 : Nat) (x3 : Int32) (σ : gH) (hu1 : uc ≤ mc) (hu2 : us ≤ ms), wX7_knots_193 Q mc ms k293 n uc us x0 x1 x2 x3 σ → E mX7_knots 10 mc ms (g_z (c_Kv Q)) uc us 193 [(0, .ref x0), (1, .ref x1), (2, .ref x2), (3, .int x3)] [] σ := by
  intro n
  induction n with
  | zero =>
    intro _ _ _ _ _ _ _ _ _ w
    exact w.elim
  | succ n ih =>
    intro uc us x0 x1 x2 x3 σ hu1 hu2 w
    unfold wX7_knots_193 at w
    refine e_iload_n (n := 194) dX7_knots_193 rfl 3 rfl ?_
    refine e_aload_n (n := 195) dX7_knots_194 rfl 0 rfl ?_
    refine e_cI (n := 198) w fw_X7_n (gl_o q922) dX7_knots_195 rfl (fun v_14 w => ?_)
    refine e_icmp_gt (n := 201) (tgt := 293) dX7_knots_198 rfl (by decide) (fun h => ?_) (fun h => ?_)
    · have w := w.1 h
      refine e_sub (lv' := []) [] rfl ?_
      exact hk293 _ _ _ hu1 hu2 w
    · have w := w.2 h
      refine e_iconst (n := 202) (v := 0) dX7_knots_201 rfl (by decide) ?_
      refine e_istore (n := 204) (lv' := [(0, .ref x0), (1, .ref x1), (2, .ref x2), (3, .int x3), (4, .int 0)]) [1, 2, 3, 4, 0] dX7_knots_202 rfl rfl rfl ?_
      obtain ⟨fu, w⟩ := w
      refine hX7_knots_204 (fun uc_20 us_21 x0_15 x1_16 x2_17 x3_18 σ_19 hu1 hu2 w => ?_) fu _ _ _ _ _ _ _ _ hu1 hu2 w
      refine e_iload_n (n := 254) dX7_knots_253 rfl 3 rfl ?_
      refine e_aload_n (n := 255) dX7_knots_254 rfl 0 rfl ?_
      refine e_cI (n := 258) w fw_X7_n (gl_o q922) dX7_knots_255 rfl (fun v_22 w => ?_)
      refine e_icmp_ge (n := 261) (tgt := 269) dX7_knots_258 rfl (by decide) (fun h => ?_) (fun h => ?_)
      · have w := w.1 h
        exact hX7_knots_269 ih hk293 _ _ _ _ _ _ _ hu1 hu2 w
      · have w := w.2 h
        refine e_aload_n (n := 262) dX7_knots_261 rfl 0 rfl ?_
        refine e_iload_n (n := 263) dX7_knots_262 rfl 3 rfl ?_
        refine e_aload_n (n := 264) dX7_knots_263 rfl 2 rfl ?_
        refine e_iload_n (n := 265) dX7_knots_264 rfl 3 rfl ?_
        refine e_caR (n := 266) w (fun _ => rfl) rfl dX7_knots_265 rfl (fun r_30 w => ?_)
        obtain ⟨fs_34, wo, w⟩ := w
        obtain ⟨c_32, b_33, hu1, hu2, w⟩ := w
        refine e_callV (n := 269) (As := [.int x3_18, va_rf r_30]) (st := []) okX7_single q742 q744 qs10 q73 q745 rfl wo rfl (by decide) hu1 hu2 rfl rfl (Nat.le_of_ble_eq_true rfl) dX7_knots_266 rfl (ctX7_single w) (fun r9 σ_31 hk => ?_)
        obtain ⟨rfl, w⟩ := hk
        exact hX7_knots_269 ih hk293 _ _ _ _ _ _ _ hu1 hu2 w
set_option maxHeartbeats 4000000 in
theorem hX7_knots_179 {Q : gH → Prop} {mc ms : Nat} {kh : Nat → Nat → Nat → Nat → Nat → Int32 → Int32 → gH → Prop} (hkh : ∀ (uc : Nat) (us : Nat) (x0 : Nat) (x1 : Nat) (x2 : Nat) (x3 : Int32) (x4 : Int32) (σ : gH), uc ≤ mc → us ≤ ms → kh uc us x0 x1 x2 x3 x4 σ → E mX7_knots 10 mc ms (g_z (c_Kv Q)) uc us 94 [(0, .ref x0), (1, .ref x1), (2, .ref x2), (3, .int x3), (4, .int x4)] [] σ) {k185 : Nat → Nat → Nat → Nat → Nat → Int32 → gH → Prop} (hk185 : ∀ (uc : Nat) (us : Nat) (x0 : Nat) (x1 : Nat) (x2 : Nat) (x3 : Int32) (σ : gH), uc ≤ mc → us ≤ ms → k185 uc us x0 x1 x2 x3 σ → E mX7_knots 10 mc ms (g_z (c_Kv Q)) uc us 185 [(0, .ref x0), (1, .ref x1), (2, .ref x2), (3, .int x3)] [] σ) (uc : Nat) (us : Nat) (x0 : Nat) (x1 : Nat) (x2 : Nat) (x3 : Int32) (x4 : Int32) (σ : gH) (hu1 : uc ≤ mc) (hu2 : us ≤ ms) (w : wX7_knots_179 Q mc ms kh k185 uc us x0 x1 x2 x3 x4 σ) : E mX7_knots 10 mc ms (g_z (c_Kv Q)) uc us 179 [(0, .ref x0), (1, .ref x1), (2, .ref x2), (3, .int x3), (4, .int x4)] [] σ := by
  unfold wX7_knots_179 at w
  obtain ⟨x4_91, hx4_91⟩ : ∃ y : Int32, y = x4 + 1 := ⟨_, rfl⟩
  have w := w x4_91 hx4_91
  refine e_iinc (n := 182) (v := x4_91) (lv' := [(0, .ref x0), (1, .ref x1), (2, .ref x2), (3, .int x3), (4, .int x4_91)]) [1, 2, 3, 4, 0] dX7_knots_179 rfl 4 rfl (by rw [hx4_91]; rfl) rfl rfl ?_
  refine e_goto (n := 94) dX7_knots_182 (by decide) ?_
  exact hkh _ _ _ _ _ _ _ _ hu1 hu2 w
set_option maxHeartbeats 4000000 in
theorem hX7_knots_94 {Q : gH → Prop} {mc ms : Nat} {k185 : Nat → Nat → Nat → Nat → Nat → Int32 → gH → Prop} (hk185 : ∀ (uc : Nat) (us : Nat) (x0 : Nat) (x1 : Nat) (x2 : Nat) (x3 : Int32) (σ : gH), uc ≤ mc → us ≤ ms → k185 uc us x0 x1 x2 x3 σ → E mX7_knots 10 mc ms (g_z (c_Kv Q)) uc us 185 [(0, .ref x0), (1, .ref x1), (2, .ref x2), (3, .int x3)] [] σ) : ∀ (n : Nat) (uc : Nat) (us : Nat) (x0 : Nat) (x1 : Nat) (x2 : Nat) (x3 : Int32) (x4 : Int32) (σ : gH) (hu1 : uc ≤ mc) (hu2 : us ≤ ms), wX7_knots_94 Q mc ms k185 n uc us x0 x1 x2 x3 x4 σ → E mX7_knots 10 mc ms (g_z (c_Kv Q)) uc us 94 [(0, .ref x0), (1, .ref x1), (2, .ref x2), (3, .int x3), (4, .int x4)] [] σ := by
  intro n
  induction n with
  | zero =>
    intro _ _ _ _ _ _ _ _ _ _ w
    exact w.elim
  | succ n ih =>
    intro uc us x0 x1 x2 x3 x4 σ hu1 hu2 w
    unfold wX7_knots_94 at w
    refine e_iload (n := 96) dX7_knots_94 rfl 4 rfl ?_
    refine e_aload_n (n := 97) dX7_knots_96 rfl 0 rfl ?_
    refine e_cR (n := 100) w fw_X7_this_0 (gl_o q947) dX7_knots_97 rfl (fun r_73 w => ?_)
    obtain ⟨a_74, ha_74, w9a_74⟩ := w
    subst ha_74
    have w := w9a_74
    refine e_cR (n := 103) w fw_X0_stuck (gl_n q190) dX7_knots_100 rfl (fun r_75 w => ?_)
    obtain ⟨a_76, ha_76, w9a_76⟩ := w
    subst ha_76
    have w := w9a_76
    obtain ⟨fs_78, wo, w⟩ := w
    refine e_callF (n := 108) (As := []) (st := [.int x4]) okJ2_size q534 q287 q289 q60 q291 q285 q284 q290 q288 q286 rfl (by decide) wo rfl (by decide) hu1 hu2 rfl rfl rfl dX7_knots_103 rfl (ctJ2_size w) (fun r9 σ9 hk => ?_)
    obtain ⟨v_77, rfl, hs9, w⟩ := hk
    rw [hs9]
    refine e_icmp_ge (n := 111) (tgt := 185) dX7_knots_108 rfl (by decide) (fun h => ?_) (fun h => ?_)
    · have w := w.1 h
      refine e_sub (lv' := [(0, .ref x0), (1, .ref x1), (2, .ref x2), (3, .int x3)]) [0, 1, 2, 3] rfl ?_
      exact hk185 _ _ _ _ _ _ _ hu1 hu2 w
    · have w := w.2 h
      refine e_iload_n (n := 112) dX7_knots_111 rfl 3 rfl ?_
      refine e_aload_n (n := 113) dX7_knots_112 rfl 0 rfl ?_
      refine e_cI (n := 116) w fw_X7_n (gl_o q922) dX7_knots_113 rfl (fun v_79 w => ?_)
      refine e_icmp_ge (n := 119) (tgt := 185) dX7_knots_116 rfl (by decide) (fun h => ?_) (fun h => ?_)
      · have w := w.1 h
        refine e_sub (lv' := [(0, .ref x0), (1, .ref x1), (2, .ref x2), (3, .int x3)]) [0, 1, 2, 3] rfl ?_
        exact hk185 _ _ _ _ _ _ _ hu1 hu2 w
      · have w := w.2 h
        refine e_aload_n (n := 120) dX7_knots_119 rfl 0 rfl ?_
        refine e_cR (n := 123) w fw_X7_this_0 (gl_o q947) dX7_knots_120 rfl (fun r_80 w => ?_)
        obtain ⟨a_81, ha_81, w9a_81⟩ := w
        subst ha_81
        have w := w9a_81
        refine e_cR (n := 126) w fw_X0_stuck (gl_n q190) dX7_knots_123 rfl (fun r_82 w => ?_)
        refine e_iload (n := 128) dX7_knots_126 rfl 4 rfl ?_
        obtain ⟨a_83, ha_83, w9a_83⟩ := w
        subst ha_83
        have w := w9a_83
        obtain ⟨fs_85, wo, w⟩ := w
        refine e_callF (n := 133) (As := [.int x4]) (st := []) okJ2_get q536 q412 q414 q60 q416 q411 q410 q415 q413 q286 rfl (by decide) wo rfl (by decide) hu1 hu2 rfl rfl rfl dX7_knots_128 rfl (ctJ2_get w) (fun r9 σ9 hk => ?_)
        obtain ⟨r_84, rfl, hs9, w⟩ := hk
        rw [hs9]
        refine e_ccast (n := 136) (r := r_84) w gc_X5 q537 dX7_knots_133 rfl (fun w => ?_)
        obtain ⟨a_86, ha_86, w9a_86⟩ := w
        subst ha_86
        have w := w9a_86
        refine e_cI (n := 139) w fw_X5_c (gl_n q454) dX7_knots_136 rfl (fun v_87 w => ?_)
        refine e_aload_n (n := 140) dX7_knots_139 rfl 0 rfl ?_
        refine e_cR (n := 143) w fw_X7_text (gl_o q918) dX7_knots_140 rfl (fun r_88 w => ?_)
        refine e_iload_n (n := 144) dX7_knots_143 rfl 3 rfl ?_
        obtain ⟨a_89, ha_89, w9a_89⟩ := w
        subst ha_89
        have w := w9a_89
        refine e_caI (n := 145) w dX7_knots_144 rfl (fun v_90 w => ?_)
        refine e_icmp_ne (n := 148) (tgt := 179) dX7_knots_145 rfl (by decide) (fun h => ?_) (fun h => ?_)
        · have w := w.2 h
          exact hX7_knots_179 ih hk185 _ _ _ _ _ _ _ _ hu1 hu2 w
        · have w := w.1 h
          refine e_aload_n (n := 149) dX7_knots_148 rfl 2 rfl ?_
          refine e_iload_n (n := 150) dX7_knots_149 rfl 3 rfl ?_
          refine e_caR (n := 151) w (fun _ => rfl) rfl dX7_knots_150 rfl (fun r_92 w => ?_)
          refine e_iload (n := 153) dX7_knots_151 rfl 4 rfl ?_
          refine e_aload_n (n := 154) dX7_knots_153 rfl 0 rfl ?_
          refine e_cI (n := 157) w fw_X7_knots (gl_o q932) dX7_knots_154 rfl (fun v_93 w => ?_)
          obtain ⟨a_94, ha_94, w9a_94⟩ := w
          subst ha_94
          have w := w9a_94
          refine e_csI (n := 158) w dX7_knots_157 rfl (fun σ_95 w => ?_)
          refine e_aload_n (n := 159) dX7_knots_158 rfl 0 rfl ?_
          refine e_cR (n := 162) w fw_X7_mainOf (gl_o q930) dX7_knots_159 rfl (fun r_96 w => ?_)
          refine e_aload_n (n := 163) dX7_knots_162 rfl 0 rfl ?_
          refine e_cI (n := 166) w fw_X7_knots (gl_o q932) dX7_knots_163 rfl (fun v_97 w => ?_)
          refine e_bipush (n := 168) (v := (-4)) dX7_knots_166 rfl (by decide) ?_
          obtain ⟨a_98, ha_98, w9a_98⟩ := w
          subst ha_98
          have w := w9a_98
          refine e_csI (n := 169) w dX7_knots_168 rfl (fun σ_99 w => ?_)
          refine e_aload_n (n := 170) dX7_knots_169 rfl 0 rfl ?_
          refine e_dup (n := 171) dX7_knots_170 rfl rfl ?_
          refine e_cI (n := 174) w fw_X7_knots (gl_o q932) dX7_knots_171 rfl (fun v_100 w => ?_)
          refine e_iconst (n := 175) (v := 1) dX7_knots_174 rfl (by decide) ?_
          refine e_iadd (n := 176) dX7_knots_175 rfl ?_
          refine e_cP (n := 179) (ty := .int) w tyX7 tyX7_ok nmX7 in_X7 rfl rfl (gl_o q932) rfl rfl ⟨rfl, rfl⟩ dX7_knots_176 rfl (fun σ_101 w => ?_)
          exact hX7_knots_179 ih hk185 _ _ _ _ _ _ _ _ hu1 hu2 w
set_option maxHeartbeats 4000000 in
theorem hX7_knots_91 {Q : gH → Prop} {mc ms : Nat} {kh : Nat → Nat → Nat → Nat → Nat → Int32 → gH → Prop} (hkh : ∀ (uc : Nat) (us : Nat) (x0 : Nat) (x1 : Nat) (x2 : Nat) (x3 : Int32) (σ : gH), uc ≤ mc → us ≤ ms → kh uc us x0 x1 x2 x3 σ → E mX7_knots 10 mc ms (g_z (c_Kv Q)) uc us 15 [(0, .ref x0), (1, .ref x1), (2, .ref x2), (3, .int x3)] [] σ) {k191 : Nat → Nat → Nat → Nat → Nat → gH → Prop} (hk191 : ∀ (uc : Nat) (us : Nat) (x0 : Nat) (x1 : Nat) (x2 : Nat) (σ : gH), uc ≤ mc → us ≤ ms → k191 uc us x0 x1 x2 σ → E mX7_knots 10 mc ms (g_z (c_Kv Q)) uc us 191 [(0, .ref x0), (1, .ref x1), (2, .ref x2)] [] σ) (uc : Nat) (us : Nat) (x0 : Nat) (x1 : Nat) (x2 : Nat) (x3 : Int32) (σ : gH) (hu1 : uc ≤ mc) (hu2 : us ≤ ms) (w : wX7_knots_91 Q mc ms kh k191 uc us x0 x1 x2 x3 σ) : E mX7_knots 10 mc ms (g_z (c_Kv Q)) uc us 91 [(0, .ref x0), (1, .ref x1), (2, .ref x2), (3, .int x3)] [] σ := by
  unfold wX7_knots_91 at w
  refine e_iconst (n := 92) (v := 0) dX7_knots_91 rfl (by decide) ?_
  refine e_istore (n := 94) (lv' := [(0, .ref x0), (1, .ref x1), (2, .ref x2), (3, .int x3), (4, .int 0)]) [1, 2, 3, 4, 0] dX7_knots_92 rfl rfl rfl ?_
  obtain ⟨fu, w⟩ := w
  refine hX7_knots_94 (fun uc_70 us_71 x0_65 x1_66 x2_67 x3_68 σ_69 hu1 hu2 w => ?_) fu _ _ _ _ _ _ _ _ hu1 hu2 w
  obtain ⟨x3_72, hx3_72⟩ : ∃ y : Int32, y = x3_68 + 1 := ⟨_, rfl⟩
  have w := w x3_72 hx3_72
  refine e_iinc (n := 188) (v := x3_72) (lv' := [(0, .ref x0_65), (1, .ref x1_66), (2, .ref x2_67), (3, .int x3_72)]) [1, 2, 3, 0] dX7_knots_185 rfl 3 rfl (by rw [hx3_72]; rfl) rfl rfl ?_
  refine e_goto (n := 15) dX7_knots_188 (by decide) ?_
  exact hkh _ _ _ _ _ _ _ hu1 hu2 w
set_option maxHeartbeats 4000000 in
theorem hX7_knots_15 {Q : gH → Prop} {mc ms : Nat} {k191 : Nat → Nat → Nat → Nat → Nat → gH → Prop} (hk191 : ∀ (uc : Nat) (us : Nat) (x0 : Nat) (x1 : Nat) (x2 : Nat) (σ : gH), uc ≤ mc → us ≤ ms → k191 uc us x0 x1 x2 σ → E mX7_knots 10 mc ms (g_z (c_Kv Q)) uc us 191 [(0, .ref x0), (1, .ref x1), (2, .ref x2)] [] σ) : ∀ (n : Nat) (uc : Nat) (us : Nat) (x0 : Nat) (x1 : Nat) (x2 : Nat) (x3 : Int32) (σ : gH) (hu1 : uc ≤ mc) (hu2 : us ≤ ms), wX7_knots_15 Q mc ms k191 n uc us x0 x1 x2 x3 σ → E mX7_knots 10 mc ms (g_z (c_Kv Q)) uc us 15 [(0, .ref x0), (1, .ref x1), (2, .ref x2), (3, .int x3)] [] σ := by
  intro n
  induction n with
  | zero =>
    intro _ _ _ _ _ _ _ _ _ w
    exact w.elim
  | succ n ih =>
    intro uc us x0 x1 x2 x3 σ hu1 hu2 w
    unfold wX7_knots_15 at w
    refine e_iload_n (n := 16) dX7_knots_15 rfl 3 rfl ?_
    refine e_aload_n (n := 17) dX7_knots_16 rfl 0 rfl ?_
    refine e_cI (n := 20) w fw_X7_n (gl_o q922) dX7_knots_17 rfl (fun v_53 w => ?_)
    refine e_icmp_gt (n := 23) (tgt := 191) dX7_knots_20 rfl (by decide) (fun h => ?_) (fun h => ?_)
    · have w := w.1 h
      refine e_sub (lv' := [(0, .ref x0), (1, .ref x1), (2, .ref x2)]) [0, 1, 2] rfl ?_
      exact hk191 _ _ _ _ _ _ hu1 hu2 w
    · have w := w.2 h
      refine e_aload_n (n := 24) dX7_knots_23 rfl 0 rfl ?_
      refine e_cR (n := 27) w fw_X7_knot (gl_o q928) dX7_knots_24 rfl (fun r_54 w => ?_)
      refine e_iload_n (n := 28) dX7_knots_27 rfl 3 rfl ?_
      refine e_aload_n (n := 29) dX7_knots_28 rfl 0 rfl ?_
      refine e_cI (n := 32) w fw_X7_knots (gl_o q932) dX7_knots_29 rfl (fun v_55 w => ?_)
      obtain ⟨a_56, ha_56, w9a_56⟩ := w
      subst ha_56
      have w := w9a_56
      refine e_csI (n := 33) w dX7_knots_32 rfl (fun σ_57 w => ?_)
      refine e_aload_n (n := 34) dX7_knots_33 rfl 0 rfl ?_
      refine e_cR (n := 37) w fw_X7_mainOf (gl_o q930) dX7_knots_34 rfl (fun r_58 w => ?_)
      refine e_aload_n (n := 38) dX7_knots_37 rfl 0 rfl ?_
      refine e_cI (n := 41) w fw_X7_knots (gl_o q932) dX7_knots_38 rfl (fun v_59 w => ?_)
      refine e_iload_n (n := 42) dX7_knots_41 rfl 3 rfl ?_
      obtain ⟨a_60, ha_60, w9a_60⟩ := w
      subst ha_60
      have w := w9a_60
      refine e_csI (n := 43) w dX7_knots_42 rfl (fun σ_61 w => ?_)
      refine e_aload_n (n := 44) dX7_knots_43 rfl 0 rfl ?_
      refine e_dup (n := 45) dX7_knots_44 rfl rfl ?_
      refine e_cI (n := 48) w fw_X7_knots (gl_o q932) dX7_knots_45 rfl (fun v_62 w => ?_)
      refine e_iconst (n := 49) (v := 1) dX7_knots_48 rfl (by decide) ?_
      refine e_iadd (n := 50) dX7_knots_49 rfl ?_
      refine e_cP (n := 53) (ty := .int) w tyX7 tyX7_ok nmX7 in_X7 rfl rfl (gl_o q932) rfl rfl ⟨rfl, rfl⟩ dX7_knots_50 rfl (fun σ_63 w => ?_)
      refine e_iload_n (n := 54) dX7_knots_53 rfl 3 rfl ?_
      refine e_iconst (n := 55) (v := 1) dX7_knots_54 rfl (by decide) ?_
      refine e_iadd (n := 56) dX7_knots_55 rfl ?_
      refine e_aload_n (n := 57) dX7_knots_56 rfl 0 rfl ?_
      refine e_cI (n := 60) w fw_X7_n (gl_o q922) dX7_knots_57 rfl (fun v_64 w => ?_)
      refine e_icmp_ge (n := 63) (tgt := 91) dX7_knots_60 rfl (by decide) (fun h => ?_) (fun h => ?_)
      · have w := w.1 h
        exact hX7_knots_91 ih hk191 _ _ _ _ _ _ _ hu1 hu2 w
      · have w := w.2 h
        refine e_aload_n (n := 64) dX7_knots_63 rfl 1 rfl ?_
        refine e_iload_n (n := 65) dX7_knots_64 rfl 3 rfl ?_
        refine e_aload_n (n := 66) dX7_knots_65 rfl 0 rfl ?_
        refine e_cI (n := 69) w fw_X7_knots (gl_o q932) dX7_knots_66 rfl (fun v_102 w => ?_)
        refine e_csI (n := 70) w dX7_knots_69 rfl (fun σ_103 w => ?_)
        refine e_aload_n (n := 71) dX7_knots_70 rfl 0 rfl ?_
        refine e_cR (n := 74) w fw_X7_mainOf (gl_o q930) dX7_knots_71 rfl (fun r_104 w => ?_)
        refine e_aload_n (n := 75) dX7_knots_74 rfl 0 rfl ?_
        refine e_cI (n := 78) w fw_X7_knots (gl_o q932) dX7_knots_75 rfl (fun v_105 w => ?_)
        refine e_bipush (n := 80) (v := (-4)) dX7_knots_78 rfl (by decide) ?_
        obtain ⟨a_106, ha_106, w9a_106⟩ := w
        subst ha_106
        have w := w9a_106
        refine e_csI (n := 81) w dX7_knots_80 rfl (fun σ_107 w => ?_)
        refine e_aload_n (n := 82) dX7_knots_81 rfl 0 rfl ?_
        refine e_dup (n := 83) dX7_knots_82 rfl rfl ?_
        refine e_cI (n := 86) w fw_X7_knots (gl_o q932) dX7_knots_83 rfl (fun v_108 w => ?_)
        refine e_iconst (n := 87) (v := 1) dX7_knots_86 rfl (by decide) ?_
        refine e_iadd (n := 88) dX7_knots_87 rfl ?_
        refine e_cP (n := 91) (ty := .int) w tyX7 tyX7_ok nmX7 in_X7 rfl rfl (gl_o q932) rfl rfl ⟨rfl, rfl⟩ dX7_knots_88 rfl (fun σ_109 w => ?_)
        exact hX7_knots_91 ih hk191 _ _ _ _ _ _ _ hu1 hu2 w
set_option maxHeartbeats 4000000 in
theorem ctX7_knots {Q : gH → Prop} {mc ms : Nat} {x0 : Nat} {σ : gH} (w : wX7_knots Q mc ms x0 σ) : CT mX7_knots 10 mc ms [.ref x0] σ (c_Kv Q) := by
  refine CT.of (lv := [(0, .ref x0)]) okX7_knots.1 rfl rfl ?_
  unfold wX7_knots at w
  refine e_bipush (n := 2) (v := 12) dX7_knots_0 rfl (by decide) ?_
  obtain ⟨hu1, hu2, w⟩ := w
  obtain ⟨wn, wb, w⟩ := w
  refine e_cnewI (n := 4) (z := 12) w wn wb hu1 hu2 dX7_knots_2 rfl (fun q_2 σ_1 w => ?_)
  refine e_astore_n (n := 5) (lv' := [(0, .ref x0), (1, .ref q_2)]) [1, 0] dX7_knots_4 rfl rfl rfl ?_
  refine e_bipush (n := 7) (v := 12) dX7_knots_5 rfl (by decide) ?_
  refine e_iconst (n := 8) (v := 3) dX7_knots_7 rfl (by decide) ?_
  obtain ⟨hu1, hu2, w⟩ := w
  refine e_cm2_3 (n := 12) (N1 := 12) (N2 := 3) w (by decide) q532 hu1 hu2 dX7_knots_8 rfl (fun q_4 σ_3 w => ?_)
  refine e_astore_n (n := 13) (lv' := [(0, .ref x0), (1, .ref q_2), (2, .ref q_4)]) [1, 2, 0] dX7_knots_12 rfl rfl rfl ?_
  refine e_iconst (n := 14) (v := 0) dX7_knots_13 rfl (by decide) ?_
  refine e_istore_n (n := 15) (lv' := [(0, .ref x0), (1, .ref q_2), (2, .ref q_4), (3, .int 0)]) [1, 2, 3, 0] dX7_knots_14 rfl rfl rfl ?_
  obtain ⟨fu, w⟩ := w
  refine hX7_knots_15 (fun uc_9 us_10 x0_5 x1_6 x2_7 σ_8 hu1 hu2 w => ?_) fu _ _ _ _ _ _ _ hu1 hu2 w
  refine e_iconst (n := 192) (v := 0) dX7_knots_191 rfl (by decide) ?_
  refine e_istore_n (n := 193) (lv' := [(0, .ref x0_5), (1, .ref x1_6), (2, .ref x2_7), (3, .int 0)]) [1, 2, 3, 0] dX7_knots_192 rfl rfl rfl ?_
  obtain ⟨fu, w⟩ := w
  refine hX7_knots_193 (fun uc_12 us_13 σ_11 hu1 hu2 w => ?_) fu _ _ _ _ _ _ _ hu1 hu2 w
  exact e_vret rfl hu1 hu2 ⟨rfl, w⟩ dX7_knots_293
abbrev mX8_price : gM := (yX8_price, cX8_price, 1, some .int)
theorem okX8_price : g_ok mX8_price 0 := ⟨by decide +kernel, by decide +kernel, by decide +kernel, by decide +kernel, by decide⟩
def wX8_price (Q : Int32 → Prop) (σ : gH) (x0 : Nat) : Prop := Q 0
set_option maxHeartbeats 4000000 in
theorem ctX8_price {Q : Int32 → Prop} {x0 : Nat} {σ : gH} (w : wX8_price Q σ x0) : CT mX8_price 1 0 0 [.ref x0] σ (g_Pi σ Q) := by
  refine CT.of (lv := [(0, .ref x0)]) okX8_price.1 rfl rfl ?_
  unfold wX8_price at w
  refine e_iconst (n := 1) (v := 0) dX8_price_0 rfl (by decide) ?_
  exact e_iret rfl (Nat.le_refl _) (Nat.le_refl _) ⟨_, rfl, rfl, w⟩ dX8_price_1
abbrev mX9_price : gM := (yX9_price, cX9_price, 1, some .int)
theorem okX9_price : g_ok mX9_price 0 := ⟨by decide +kernel, by decide +kernel, by decide +kernel, by decide +kernel, by decide⟩
def wX9_price (Q : Int32 → Prop) (σ : gH) (x0 : Nat) : Prop := c_R σ [9, 10, 11, 12, 13, 14, 15] x0 6 (fun r_1 => ∃ a_2 : Nat, r_1 = some a_2 ∧ (c_R σ [0] a_2 2 (fun r_3 => ∃ a_4 : Nat, r_3 = some a_4 ∧ (c_aR 3 σ a_4 0 (fun r_5 => c_I σ [8, 9, 10, 11, 12, 13, 14, 15] x0 4 (fun v_6 => ∃ a_7 : Nat, r_5 = some a_7 ∧ (c_aI σ a_7 v_6 (fun v_8 => Q v_8))))))))
set_option maxHeartbeats 4000000 in
theorem ctX9_price {Q : Int32 → Prop} {x0 : Nat} {σ : gH} (w : wX9_price Q σ x0) : CT mX9_price 1 0 0 [.ref x0] σ (g_Pi σ Q) := by
  refine CT.of (lv := [(0, .ref x0)]) okX9_price.1 rfl rfl ?_
  unfold wX9_price at w
  refine e_aload_n (n := 1) dX9_price_0 rfl 0 rfl ?_
  refine e_cR (n := 4) w fw_X9_this_0 (gl_o q547) dX9_price_1 rfl (fun r_1 w => ?_)
  obtain ⟨a_2, ha_2, w9a_2⟩ := w
  subst ha_2
  have w := w9a_2
  refine e_cR (n := 7) w fw_X0_prices (gl_n q176) dX9_price_4 rfl (fun r_3 w => ?_)
  refine e_iconst (n := 8) (v := 0) dX9_price_7 rfl (by decide) ?_
  obtain ⟨a_4, ha_4, w9a_4⟩ := w
  subst ha_4
  have w := w9a_4
  refine e_caR (n := 9) w (fun _ => rfl) rfl dX9_price_8 rfl (fun r_5 w => ?_)
  refine e_aload_n (n := 10) dX9_price_9 rfl 0 rfl ?_
  refine e_cI (n := 13) w fw_X8_token (gl_s q575 q576) dX9_price_10 rfl (fun v_6 w => ?_)
  obtain ⟨a_7, ha_7, w9a_7⟩ := w
  subst ha_7
  have w := w9a_7
  refine e_caI (n := 14) w dX9_price_13 rfl (fun v_8 w => ?_)
  exact e_iret rfl (Nat.le_refl _) (Nat.le_refl _) ⟨_, rfl, rfl, w⟩ dX9_price_14
abbrev mX10_price : gM := (yX10_price, cX10_price, 1, some .int)
theorem okX10_price : g_ok mX10_price 0 := ⟨by decide +kernel, by decide +kernel, by decide +kernel, by decide +kernel, by decide⟩
def wX10_price (Q : Int32 → Prop) (σ : gH) (x0 : Nat) : Prop := c_R σ [10, 11, 14, 15] x0 7 (fun r_1 => ∃ a_2 : Nat, r_1 = some a_2 ∧ (c_R σ [0] a_2 2 (fun r_3 => ∃ a_4 : Nat, r_3 = some a_4 ∧ (c_aR 3 σ a_4 2 (fun r_5 => c_R σ [8, 9, 10, 11, 12, 13, 14, 15] x0 0 (fun r_6 => ∃ a_7 : Nat, r_6 = some a_7 ∧ (c_R σ [7] a_7 0 (fun r_8 => c_I σ [8, 9, 10, 11, 12, 13, 14, 15] x0 1 (fun v_9 => ∃ a_10 : Nat, r_8 = some a_10 ∧ (c_aI σ a_10 v_9 (fun v_11 => ∃ a_12 : Nat, r_5 = some a_12 ∧ (c_aI σ a_12 v_11 (fun v_13 => Q v_13)))))))))))))
set_option maxHeartbeats 4000000 in
theorem ctX10_price {Q : Int32 → Prop} {x0 : Nat} {σ : gH} (w : wX10_price Q σ x0) : CT mX10_price 1 0 0 [.ref x0] σ (g_Pi σ Q) := by
  refine CT.of (lv := [(0, .ref x0)]) okX10_price.1 rfl rfl ?_
  unfold wX10_price at w
  refine e_aload_n (n := 1) dX10_price_0 rfl 0 rfl ?_
  refine e_cR (n := 4) w fw_X10_this_0 (gl_o q762) dX10_price_1 rfl (fun r_1 w => ?_)
  obtain ⟨a_2, ha_2, w9a_2⟩ := w
  subst ha_2
  have w := w9a_2
  refine e_cR (n := 7) w fw_X0_prices (gl_n q177) dX10_price_4 rfl (fun r_3 w => ?_)
  refine e_iconst (n := 8) (v := 2) dX10_price_7 rfl (by decide) ?_
  obtain ⟨a_4, ha_4, w9a_4⟩ := w
  subst ha_4
  have w := w9a_4
  refine e_caR (n := 9) w (fun _ => rfl) rfl dX10_price_8 rfl (fun r_5 w => ?_)
  refine e_aload_n (n := 10) dX10_price_9 rfl 0 rfl ?_
  refine e_cR (n := 13) w fw_X8_chart (gl_s q551 q552) dX10_price_10 rfl (fun r_6 w => ?_)
  obtain ⟨a_7, ha_7, w9a_7⟩ := w
  subst ha_7
  have w := w9a_7
  refine e_cR (n := 16) w fw_X7_text (gl_n q920) dX10_price_13 rfl (fun r_8 w => ?_)
  refine e_aload_n (n := 17) dX10_price_16 rfl 0 rfl ?_
  refine e_cI (n := 20) w fw_X8_place (gl_s q559 q560) dX10_price_17 rfl (fun v_9 w => ?_)
  obtain ⟨a_10, ha_10, w9a_10⟩ := w
  subst ha_10
  have w := w9a_10
  refine e_caI (n := 21) w dX10_price_20 rfl (fun v_11 w => ?_)
  obtain ⟨a_12, ha_12, w9a_12⟩ := w
  subst ha_12
  have w := w9a_12
  refine e_caI (n := 22) w dX10_price_21 rfl (fun v_13 w => ?_)
  exact e_iret rfl (Nat.le_refl _) (Nat.le_refl _) ⟨_, rfl, rfl, w⟩ dX10_price_22
abbrev mX11_price : gM := (yX11_price, cX11_price, 1, some .int)
theorem okX11_price : g_ok mX11_price 0 := ⟨by decide +kernel, by decide +kernel, by decide +kernel, by decide +kernel, by decide⟩
def wX11_price (Q : Int32 → Prop) (σ : gH) (x0 : Nat) : Prop := c_R σ [11, 15] x0 8 (fun r_1 => ∃ a_2 : Nat, r_1 = some a_2 ∧ (c_I σ [5] a_2 3 (fun v_3 => Q v_3)))
set_option maxHeartbeats 4000000 in
theorem ctX11_price {Q : Int32 → Prop} {x0 : Nat} {σ : gH} (w : wX11_price Q σ x0) : CT mX11_price 1 0 0 [.ref x0] σ (g_Pi σ Q) := by
  refine CT.of (lv := [(0, .ref x0)]) okX11_price.1 rfl rfl ?_
  unfold wX11_price at w
  refine e_aload_n (n := 1) dX11_price_0 rfl 0 rfl ?_
  refine e_cR (n := 4) w fw_X11_form (gl_o q778) dX11_price_1 rfl (fun r_1 w => ?_)
  obtain ⟨a_2, ha_2, w9a_2⟩ := w
  subst ha_2
  have w := w9a_2
  refine e_cI (n := 7) w fw_X5_price (gl_n q456) dX11_price_4 rfl (fun v_3 w => ?_)
  exact e_iret rfl (Nat.le_refl _) (Nat.le_refl _) ⟨_, rfl, rfl, w⟩ dX11_price_7
abbrev mX12_price : gM := (yX12_price, cX12_price, 1, some .int)
theorem okX12_price : g_ok mX12_price 0 := ⟨by decide +kernel, by decide +kernel, by decide +kernel, by decide +kernel, by decide⟩
def wX12_price (Q : Int32 → Prop) (σ : gH) (x0 : Nat) : Prop := c_R σ [12, 13] x0 7 (fun r_1 => ∃ a_2 : Nat, r_1 = some a_2 ∧ (c_R σ [0] a_2 2 (fun r_3 => ∃ a_4 : Nat, r_3 = some a_4 ∧ (c_aR 3 σ a_4 1 (fun r_5 => c_I σ [8, 9, 10, 11, 12, 13, 14, 15] x0 4 (fun v_6 => ∃ a_7 : Nat, r_5 = some a_7 ∧ (c_aI σ a_7 v_6 (fun v_8 => Q v_8))))))))
set_option maxHeartbeats 4000000 in
theorem ctX12_price {Q : Int32 → Prop} {x0 : Nat} {σ : gH} (w : wX12_price Q σ x0) : CT mX12_price 1 0 0 [.ref x0] σ (g_Pi σ Q) := by
  refine CT.of (lv := [(0, .ref x0)]) okX12_price.1 rfl rfl ?_
  unfold wX12_price at w
  refine e_aload_n (n := 1) dX12_price_0 rfl 0 rfl ?_
  refine e_cR (n := 4) w fw_X12_this_0 (gl_o q801) dX12_price_1 rfl (fun r_1 w => ?_)
  obtain ⟨a_2, ha_2, w9a_2⟩ := w
  subst ha_2
  have w := w9a_2
  refine e_cR (n := 7) w fw_X0_prices (gl_n q175) dX12_price_4 rfl (fun r_3 w => ?_)
  refine e_iconst (n := 8) (v := 1) dX12_price_7 rfl (by decide) ?_
  obtain ⟨a_4, ha_4, w9a_4⟩ := w
  subst ha_4
  have w := w9a_4
  refine e_caR (n := 9) w (fun _ => rfl) rfl dX12_price_8 rfl (fun r_5 w => ?_)
  refine e_aload_n (n := 10) dX12_price_9 rfl 0 rfl ?_
  refine e_cI (n := 13) w fw_X8_token (gl_s q573 q574) dX12_price_10 rfl (fun v_6 w => ?_)
  obtain ⟨a_7, ha_7, w9a_7⟩ := w
  subst ha_7
  have w := w9a_7
  refine e_caI (n := 14) w dX12_price_13 rfl (fun v_8 w => ?_)
  exact e_iret rfl (Nat.le_refl _) (Nat.le_refl _) ⟨_, rfl, rfl, w⟩ dX12_price_14
abbrev mX13_price : gM := (yX13_price, cX13_price, 1, some .int)
theorem okX13_price : g_ok mX13_price 0 := ⟨by decide +kernel, by decide +kernel, by decide +kernel, by decide +kernel, by decide⟩
def wX13_price (Q : Int32 → Prop) (σ : gH) (x0 : Nat) : Prop := c_R σ [13] x0 9 (fun r_1 => ∃ a_2 : Nat, r_1 = some a_2 ∧ (c_I σ [0] a_2 4 (fun v_3 => c_I σ [13] x0 8 (fun v_4 => Q (v_3 + v_4)))))
set_option maxHeartbeats 4000000 in
theorem ctX13_price {Q : Int32 → Prop} {x0 : Nat} {σ : gH} (w : wX13_price Q σ x0) : CT mX13_price 1 0 0 [.ref x0] σ (g_Pi σ Q) := by
  refine CT.of (lv := [(0, .ref x0)]) okX13_price.1 rfl rfl ?_
  unfold wX13_price at w
  refine e_aload_n (n := 1) dX13_price_0 rfl 0 rfl ?_
  refine e_cR (n := 4) w fw_X13_this_0 (gl_o q818) dX13_price_1 rfl (fun r_1 w => ?_)
  obtain ⟨a_2, ha_2, w9a_2⟩ := w
  subst ha_2
  have w := w9a_2
  refine e_cI (n := 7) w fw_X0_runPrice (gl_n q181) dX13_price_4 rfl (fun v_3 w => ?_)
  refine e_aload_n (n := 8) dX13_price_7 rfl 0 rfl ?_
  refine e_cI (n := 11) w fw_X13_many (gl_o q817) dX13_price_8 rfl (fun v_4 w => ?_)
  refine e_iadd (n := 12) dX13_price_11 rfl ?_
  exact e_iret rfl (Nat.le_refl _) (Nat.le_refl _) ⟨_, rfl, rfl, w⟩ dX13_price_12
abbrev mX14_price : gM := (yX14_price, cX14_price, 1, some .int)
theorem okX14_price : g_ok mX14_price 0 := ⟨by decide +kernel, by decide +kernel, by decide +kernel, by decide +kernel, by decide⟩
def wX14_price (Q : Int32 → Prop) (σ : gH) (x0 : Nat) : Prop := c_R σ [14] x0 8 (fun r_1 => ∃ a_2 : Nat, r_1 = some a_2 ∧ (c_I σ [0] a_2 3 (fun v_3 => Q v_3)))
set_option maxHeartbeats 4000000 in
theorem ctX14_price {Q : Int32 → Prop} {x0 : Nat} {σ : gH} (w : wX14_price Q σ x0) : CT mX14_price 1 0 0 [.ref x0] σ (g_Pi σ Q) := by
  refine CT.of (lv := [(0, .ref x0)]) okX14_price.1 rfl rfl ?_
  unfold wX14_price at w
  refine e_aload_n (n := 1) dX14_price_0 rfl 0 rfl ?_
  refine e_cR (n := 4) w fw_X14_this_0 (gl_o q841) dX14_price_1 rfl (fun r_1 w => ?_)
  obtain ⟨a_2, ha_2, w9a_2⟩ := w
  subst ha_2
  have w := w9a_2
  refine e_cI (n := 7) w fw_X0_turnedPrice (gl_n q179) dX14_price_4 rfl (fun v_3 w => ?_)
  exact e_iret rfl (Nat.le_refl _) (Nat.le_refl _) ⟨_, rfl, rfl, w⟩ dX14_price_7
def vX8_price (σ : gH) (Q : Int32 → Prop) (a : Nat) : Prop := ∃ (ci : Nat) (fs : List Value), σ.2 a = some (.inr (ci, fs)) ∧ ((ci = 8 ∧ wX8_price Q σ a) ∨ (ci = 9 ∧ wX9_price Q σ a) ∨ (ci = 10 ∧ wX10_price Q σ a) ∨ (ci = 11 ∧ wX11_price Q σ a) ∨ (ci = 12 ∧ wX12_price Q σ a) ∨ (ci = 13 ∧ wX13_price Q σ a) ∨ (ci = 14 ∧ wX14_price Q σ a) ∨ (ci = 15 ∧ wX11_price Q σ a))
set_option maxHeartbeats 4000000 in
theorem evX8_price {M : gM} {d mc ms uc us pc n idx : Nat} {K : gZ} {lv : List (Nat × Value)} {st : List Value} {σ : gH} {Q : Int32 → Prop} {a : Nat} (w : vX8_price σ Q a) (hdep : 2 ≤ d) (hu1 : uc ≤ mc) (hu2 : us ≤ ms) (h1 : Cond.methodLink M.1.cls idx ⟨"MendReader$Step", "price", "()I"⟩ ∈ lw_all) (hroom : Nat.ble (st.map fun v => v.category).sum 8 = true) (hd : decode M.2.1 pc = .ok (.invokevirtual idx, 3)) (hp : pc + 3 = n) (kk : ∀ r, Q r → E M d mc ms K uc us n lv (.int r :: st) σ) : E M d mc ms K uc us pc lv (.ref a :: st) σ := by
  obtain ⟨ci, fs, wo, w⟩ := w
  rcases w with ⟨rfl, w⟩ | ⟨rfl, w⟩ | ⟨rfl, w⟩ | ⟨rfl, w⟩ | ⟨rfl, w⟩ | ⟨rfl, w⟩ | ⟨rfl, w⟩ | ⟨rfl, w⟩
  · refine e_callO (n := n) (As := []) (st := st) (x := ⟨"MendReader$Step", "price", "()I"⟩) okX8_price h1 q880 q878 q879 q878 q74 q900 q900 rfl (by decide) wo rfl (d' := 1) (by omega) hu1 hu2 rfl rfl hroom hd hp (ctX8_price w) (fun r9 σ9 hk => ?_)
    obtain ⟨r, rfl, hs9, w9⟩ := hk
    rw [hs9]
    exact kk r w9
  · refine e_callO (n := n) (As := []) (st := st) (x := ⟨"MendReader$Step", "price", "()I"⟩) okX9_price h1 q880 q878 q884 q885 q75 q886 q900 rfl (by decide) wo rfl (d' := 1) (by omega) hu1 hu2 rfl rfl hroom hd hp (ctX9_price w) (fun r9 σ9 hk => ?_)
    obtain ⟨r, rfl, hs9, w9⟩ := hk
    rw [hs9]
    exact kk r w9
  · refine e_callO (n := n) (As := []) (st := st) (x := ⟨"MendReader$Step", "price", "()I"⟩) okX10_price h1 q880 q878 q887 q888 q76 q889 q900 rfl (by decide) wo rfl (d' := 1) (by omega) hu1 hu2 rfl rfl hroom hd hp (ctX10_price w) (fun r9 σ9 hk => ?_)
    obtain ⟨r, rfl, hs9, w9⟩ := hk
    rw [hs9]
    exact kk r w9
  · refine e_callO (n := n) (As := []) (st := st) (x := ⟨"MendReader$Step", "price", "()I"⟩) okX11_price h1 q880 q878 q896 q891 q77 q892 q900 rfl (by decide) wo rfl (d' := 1) (by omega) hu1 hu2 rfl rfl hroom hd hp (ctX11_price w) (fun r9 σ9 hk => ?_)
    obtain ⟨r, rfl, hs9, w9⟩ := hk
    rw [hs9]
    exact kk r w9
  · refine e_callO (n := n) (As := []) (st := st) (x := ⟨"MendReader$Step", "price", "()I"⟩) okX12_price h1 q880 q878 q881 q882 q78 q883 q900 rfl (by decide) wo rfl (d' := 1) (by omega) hu1 hu2 rfl rfl hroom hd hp (ctX12_price w) (fun r9 σ9 hk => ?_)
    obtain ⟨r, rfl, hs9, w9⟩ := hk
    rw [hs9]
    exact kk r w9
  · refine e_callO (n := n) (As := []) (st := st) (x := ⟨"MendReader$Step", "price", "()I"⟩) okX13_price h1 q880 q878 q893 q894 q79 q895 q900 rfl (by decide) wo rfl (d' := 1) (by omega) hu1 hu2 rfl rfl hroom hd hp (ctX13_price w) (fun r9 σ9 hk => ?_)
    obtain ⟨r, rfl, hs9, w9⟩ := hk
    rw [hs9]
    exact kk r w9
  · refine e_callO (n := n) (As := []) (st := st) (x := ⟨"MendReader$Step", "price", "()I"⟩) okX14_price h1 q880 q878 q897 q898 q80 q899 q900 rfl (by decide) wo rfl (d' := 1) (by omega) hu1 hu2 rfl rfl hroom hd hp (ctX14_price w) (fun r9 σ9 hk => ?_)
    obtain ⟨r, rfl, hs9, w9⟩ := hk
    rw [hs9]
    exact kk r w9
  · refine e_callO (n := n) (As := []) (st := st) (x := ⟨"MendReader$Step", "price", "()I"⟩) okX11_price h1 q880 q878 q890 q891 q77 q892 q900 rfl (by decide) wo rfl (d' := 1) (by omega) hu1 hu2 rfl rfl hroom hd hp (ctX11_price w) (fun r9 σ9 hk => ?_)
    obtain ⟨r, rfl, hs9, w9⟩ := hk
    rw [hs9]
    exact kk r w9
abbrev mX7_skipping : gM := (yX7_skipping, cX7_skipping, 4, none)
theorem okX7_skipping : g_ok mX7_skipping 0 := ⟨by decide +kernel, by decide +kernel, by decide +kernel, by decide +kernel, by decide⟩
def wX7_skipping_100 (Q : gH → Prop) (kh : Nat → Int32 → Int32 → Int32 → gH → Prop) (k106 : Nat → Int32 → Int32 → gH → Prop) (x0 : Nat) (x1 : Int32) (x2 : Int32) (x3 : Int32) (σ : gH) : Prop := ∀ x3_28 : Int32, x3_28 = x3 + 1 → (kh x0 x1 x2 x3_28 σ)
def wX7_skipping_40 (Q : gH → Prop) (k106 : Nat → Int32 → Int32 → gH → Prop) : Nat → Nat → Int32 → Int32 → Int32 → gH → Prop
  | 0 => fun _ _ _ _ _ => False
  | n + 1 => fun x0 x1 x2 x3 σ => (x1 < x2 + x3 → (k106 x0 x1 x2 σ)) ∧ (¬ x1 < x2 + x3 → (c_R σ [7] x0 7 (fun r_23 => ∃ a_24 : Nat, r_23 = some a_24 ∧ (c_aR 8 σ a_24 x2 (fun r_25 => ∃ a_26 : Nat, r_25 = some a_26 ∧ (c_aR 7 σ a_26 x3 (fun r_27 => (r_27 = none → (wX7_skipping_100 Q (wX7_skipping_40 Q k106 n) k106 x0 x1 x2 x3 σ)) ∧ (¬ r_27 = none → (c_R σ [7] x0 8 (fun r_29 => ∃ a_30 : Nat, r_29 = some a_30 ∧ (c_aR 4 σ a_30 x2 (fun r_31 => c_R σ [7] x0 8 (fun r_32 => ∃ a_33 : Nat, r_32 = some a_33 ∧ (c_aR 4 σ a_33 x2 (fun r_34 => ∃ a_35 : Nat, r_34 = some a_35 ∧ (c_aJ σ a_35 x1 (fun v_36 => c_R σ [7] x0 7 (fun r_37 => ∃ a_38 : Nat, r_37 = some a_38 ∧ (c_aR 8 σ a_38 x2 (fun r_39 => ∃ a_40 : Nat, r_39 = some a_40 ∧ (c_aR 7 σ a_40 x3 (fun r_41 => ∃ a_42 : Nat, r_41 = some a_42 ∧ (vX8_price σ (fun (v_43 : Int32) => c_R σ [7] x0 8 (fun r_44 => ∃ a_45 : Nat, r_44 = some a_45 ∧ (c_aR 4 σ a_45 (x2 + x3) (fun r_46 => ∃ a_47 : Nat, r_46 = some a_47 ∧ (c_aJ σ a_47 x1 (fun v_48 => wJ4_min_2 (fun (v_49 : Int64) => ∃ a_50 : Nat, r_31 = some a_50 ∧ (c_sJ σ a_50 x1 v_49 (fun σ_51 => wX7_skipping_100 Q (wX7_skipping_40 Q k106 n) k106 x0 x1 x2 x3 σ_51))) σ v_36 (v_43.toInt64 + v_48))))))) a_42)))))))))))))))))))))))
def wX7_skipping_23 (Q : gH → Prop) (k112 : Nat → Int32 → gH → Prop) : Nat → Nat → Int32 → Int32 → gH → Prop
  | 0 => fun _ _ _ _ => False
  | n + 1 => fun x0 x1 x2 σ => (x2 < 0 → (k112 x0 x1 σ)) ∧ (¬ x2 < 0 → (c_R σ [7] x0 8 (fun r_13 => ∃ a_14 : Nat, r_13 = some a_14 ∧ (c_aR 4 σ a_14 x2 (fun r_15 => ∃ a_16 : Nat, r_15 = some a_16 ∧ (c_sJ σ a_16 x1 1152921504606846976 (fun σ_17 => ∃ fu : Nat, wX7_skipping_40 Q (fun (x0_18 : Nat) (x1_19 : Int32) (x2_20 : Int32) (σ_21 : gH) => ∀ x2_22 : Int32, x2_22 = x2_20 + (-1) → (wX7_skipping_23 Q k112 n x0_18 x1_19 x2_22 σ_21)) fu x0 x1 x2 1 σ_17)))))))
def wX7_skipping_2 (Q : gH → Prop) (k118 : gH → Prop) : Nat → Nat → Int32 → gH → Prop
  | 0 => fun _ _ _ => False
  | n + 1 => fun x0 x1 σ => c_I σ [7] x0 1 (fun v_2 => (v_2 < x1 → (k118 σ)) ∧ (¬ v_2 < x1 → (c_R σ [7] x0 8 (fun r_3 => ∃ a_4 : Nat, r_3 = some a_4 ∧ (c_aR 4 σ a_4 x1 (fun r_5 => ∃ a_6 : Nat, r_5 = some a_6 ∧ (c_sJ σ a_6 x1 0 (fun σ_7 => ∀ x2_8 : Int32, x2_8 = x1 - 1 → (∃ fu : Nat, wX7_skipping_23 Q (fun (x0_9 : Nat) (x1_10 : Int32) (σ_11 : gH) => ∀ x1_12 : Int32, x1_12 = x1_10 + 1 → (wX7_skipping_2 Q k118 n x0_9 x1_12 σ_11)) fu x0 x1 x2_8 σ_7)))))))))
def wX7_skipping (Q : gH → Prop) (x0 : Nat) (σ : gH) : Prop := ∃ fu : Nat, wX7_skipping_2 Q (fun (σ_1 : gH) => Q σ_1) fu x0 0 σ
set_option maxHeartbeats 4000000 in
theorem hX7_skipping_100 {Q : gH → Prop} {kh : Nat → Int32 → Int32 → Int32 → gH → Prop} (hkh : ∀ (x0 : Nat) (x1 : Int32) (x2 : Int32) (x3 : Int32) (σ : gH), kh x0 x1 x2 x3 σ → E mX7_skipping 2 0 0 (g_z (c_Kv Q)) 0 0 40 [(0, .ref x0), (1, .int x1), (2, .int x2), (3, .int x3)] [] σ) {k106 : Nat → Int32 → Int32 → gH → Prop} (hk106 : ∀ (x0 : Nat) (x1 : Int32) (x2 : Int32) (σ : gH), k106 x0 x1 x2 σ → E mX7_skipping 2 0 0 (g_z (c_Kv Q)) 0 0 106 [(0, .ref x0), (1, .int x1), (2, .int x2)] [] σ) (x0 : Nat) (x1 : Int32) (x2 : Int32) (x3 : Int32) (σ : gH) (w : wX7_skipping_100 Q kh k106 x0 x1 x2 x3 σ) : E mX7_skipping 2 0 0 (g_z (c_Kv Q)) 0 0 100 [(0, .ref x0), (1, .int x1), (2, .int x2), (3, .int x3)] [] σ := by
  unfold wX7_skipping_100 at w
  obtain ⟨x3_28, hx3_28⟩ : ∃ y : Int32, y = x3 + 1 := ⟨_, rfl⟩
  have w := w x3_28 hx3_28
  refine e_iinc (n := 103) (v := x3_28) (lv' := [(0, .ref x0), (1, .int x1), (2, .int x2), (3, .int x3_28)]) [1, 2, 3, 0] dX7_skipping_100 rfl 3 rfl (by rw [hx3_28]; rfl) rfl rfl ?_
  refine e_goto (n := 40) dX7_skipping_103 (by decide) ?_
  exact hkh _ _ _ _ _ w
set_option maxHeartbeats 4000000 in
theorem hX7_skipping_40 {Q : gH → Prop} {k106 : Nat → Int32 → Int32 → gH → Prop} (hk106 : ∀ (x0 : Nat) (x1 : Int32) (x2 : Int32) (σ : gH), k106 x0 x1 x2 σ → E mX7_skipping 2 0 0 (g_z (c_Kv Q)) 0 0 106 [(0, .ref x0), (1, .int x1), (2, .int x2)] [] σ) : ∀ (n : Nat) (x0 : Nat) (x1 : Int32) (x2 : Int32) (x3 : Int32) (σ : gH), wX7_skipping_40 Q k106 n x0 x1 x2 x3 σ → E mX7_skipping 2 0 0 (g_z (c_Kv Q)) 0 0 40 [(0, .ref x0), (1, .int x1), (2, .int x2), (3, .int x3)] [] σ := by
  intro n
  induction n with
  | zero =>
    intro _ _ _ _ _ w
    exact w.elim
  | succ n ih =>
    intro x0 x1 x2 x3 σ w
    unfold wX7_skipping_40 at w
    refine e_iload_n (n := 41) dX7_skipping_40 rfl 2 rfl ?_
    refine e_iload_n (n := 42) dX7_skipping_41 rfl 3 rfl ?_
    refine e_iadd (n := 43) dX7_skipping_42 rfl ?_
    refine e_iload_n (n := 44) dX7_skipping_43 rfl 1 rfl ?_
    refine e_icmp_gt (n := 47) (tgt := 106) dX7_skipping_44 rfl (by decide) (fun h => ?_) (fun h => ?_)
    · have w := w.1 h
      refine e_sub (lv' := [(0, .ref x0), (1, .int x1), (2, .int x2)]) [0, 1, 2] rfl ?_
      exact hk106 _ _ _ _ w
    · have w := w.2 h
      refine e_aload_n (n := 48) dX7_skipping_47 rfl 0 rfl ?_
      refine e_cR (n := 51) w fw_X7_skips (gl_o q936) dX7_skipping_48 rfl (fun r_23 w => ?_)
      refine e_iload_n (n := 52) dX7_skipping_51 rfl 2 rfl ?_
      obtain ⟨a_24, ha_24, w9a_24⟩ := w
      subst ha_24
      have w := w9a_24
      refine e_caR (n := 53) w (fun _ => rfl) rfl dX7_skipping_52 rfl (fun r_25 w => ?_)
      refine e_iload_n (n := 54) dX7_skipping_53 rfl 3 rfl ?_
      obtain ⟨a_26, ha_26, w9a_26⟩ := w
      subst ha_26
      have w := w9a_26
      refine e_caR (n := 55) w (fun _ => rfl) rfl dX7_skipping_54 rfl (fun r_27 w => ?_)
      refine e_ifnull (n := 58) (tgt := 100) (r := r_27) dX7_skipping_55 rfl (by decide) (fun h => ?_) (fun h => ?_)
      · have w := w.1 h
        exact hX7_skipping_100 ih hk106 _ _ _ _ _ w
      · have w := w.2 h
        refine e_aload_n (n := 59) dX7_skipping_58 rfl 0 rfl ?_
        refine e_cR (n := 62) w fw_X7_skipping (gl_o q938) dX7_skipping_59 rfl (fun r_29 w => ?_)
        refine e_iload_n (n := 63) dX7_skipping_62 rfl 2 rfl ?_
        obtain ⟨a_30, ha_30, w9a_30⟩ := w
        subst ha_30
        have w := w9a_30
        refine e_caR (n := 64) w (fun _ => rfl) rfl dX7_skipping_63 rfl (fun r_31 w => ?_)
        refine e_iload_n (n := 65) dX7_skipping_64 rfl 1 rfl ?_
        refine e_aload_n (n := 66) dX7_skipping_65 rfl 0 rfl ?_
        refine e_cR (n := 69) w fw_X7_skipping (gl_o q938) dX7_skipping_66 rfl (fun r_32 w => ?_)
        refine e_iload_n (n := 70) dX7_skipping_69 rfl 2 rfl ?_
        obtain ⟨a_33, ha_33, w9a_33⟩ := w
        subst ha_33
        have w := w9a_33
        refine e_caR (n := 71) w (fun _ => rfl) rfl dX7_skipping_70 rfl (fun r_34 w => ?_)
        refine e_iload_n (n := 72) dX7_skipping_71 rfl 1 rfl ?_
        obtain ⟨a_35, ha_35, w9a_35⟩ := w
        subst ha_35
        have w := w9a_35
        refine e_caJ (n := 73) w dX7_skipping_72 rfl (fun v_36 w => ?_)
        refine e_aload_n (n := 74) dX7_skipping_73 rfl 0 rfl ?_
        refine e_cR (n := 77) w fw_X7_skips (gl_o q936) dX7_skipping_74 rfl (fun r_37 w => ?_)
        refine e_iload_n (n := 78) dX7_skipping_77 rfl 2 rfl ?_
        obtain ⟨a_38, ha_38, w9a_38⟩ := w
        subst ha_38
        have w := w9a_38
        refine e_caR (n := 79) w (fun _ => rfl) rfl dX7_skipping_78 rfl (fun r_39 w => ?_)
        refine e_iload_n (n := 80) dX7_skipping_79 rfl 3 rfl ?_
        obtain ⟨a_40, ha_40, w9a_40⟩ := w
        subst ha_40
        have w := w9a_40
        refine e_caR (n := 81) w (fun _ => rfl) rfl dX7_skipping_80 rfl (fun r_41 w => ?_)
        obtain ⟨a_42, ha_42, w9a_42⟩ := w
        subst ha_42
        have w := w9a_42
        refine evX8_price (n := 84) (st := [.long v_36, .int x1, va_rf r_31]) w (by decide) (Nat.le_refl _) (Nat.le_refl _) q877 (by cases r_31 <;> rfl) dX7_skipping_81 rfl (fun v_43 w => ?_)
        refine e_i2l (n := 85) dX7_skipping_84 rfl ?_
        refine e_aload_n (n := 86) dX7_skipping_85 rfl 0 rfl ?_
        refine e_cR (n := 89) w fw_X7_skipping (gl_o q938) dX7_skipping_86 rfl (fun r_44 w => ?_)
        refine e_iload_n (n := 90) dX7_skipping_89 rfl 2 rfl ?_
        refine e_iload_n (n := 91) dX7_skipping_90 rfl 3 rfl ?_
        refine e_iadd (n := 92) dX7_skipping_91 rfl ?_
        obtain ⟨a_45, ha_45, w9a_45⟩ := w
        subst ha_45
        have w := w9a_45
        refine e_caR (n := 93) w (fun _ => rfl) rfl dX7_skipping_92 rfl (fun r_46 w => ?_)
        refine e_iload_n (n := 94) dX7_skipping_93 rfl 1 rfl ?_
        obtain ⟨a_47, ha_47, w9a_47⟩ := w
        subst ha_47
        have w := w9a_47
        refine e_caJ (n := 95) w dX7_skipping_94 rfl (fun v_48 w => ?_)
        refine e_ladd (n := 96) dX7_skipping_95 rfl ?_
        refine e_callS (n := 99) (As := [.long v_36, .long (v_43.toInt64 + v_48)]) (st := [.int x1, va_rf r_31]) okJ4_min_2 q901 q902 q66 q903 (by decide) (Nat.le_refl _) (Nat.le_refl _) rfl rfl (Nat.le_of_ble_eq_true (by cases r_31 <;> rfl)) dX7_skipping_96 rfl (ctJ4_min_2 w) (fun r9 σ9 hk => ?_)
        obtain ⟨v_49, rfl, hs9, w⟩ := hk
        rw [hs9]
        obtain ⟨a_50, ha_50, w9a_50⟩ := w
        subst ha_50
        have w := w9a_50
        refine e_csJ (n := 100) w dX7_skipping_99 rfl (fun σ_51 w => ?_)
        exact hX7_skipping_100 ih hk106 _ _ _ _ _ w
set_option maxHeartbeats 4000000 in
theorem hX7_skipping_23 {Q : gH → Prop} {k112 : Nat → Int32 → gH → Prop} (hk112 : ∀ (x0 : Nat) (x1 : Int32) (σ : gH), k112 x0 x1 σ → E mX7_skipping 2 0 0 (g_z (c_Kv Q)) 0 0 112 [(0, .ref x0), (1, .int x1)] [] σ) : ∀ (n : Nat) (x0 : Nat) (x1 : Int32) (x2 : Int32) (σ : gH), wX7_skipping_23 Q k112 n x0 x1 x2 σ → E mX7_skipping 2 0 0 (g_z (c_Kv Q)) 0 0 23 [(0, .ref x0), (1, .int x1), (2, .int x2)] [] σ := by
  intro n
  induction n with
  | zero =>
    intro _ _ _ _ w
    exact w.elim
  | succ n ih =>
    intro x0 x1 x2 σ w
    unfold wX7_skipping_23 at w
    refine e_iload_n (n := 24) dX7_skipping_23 rfl 2 rfl ?_
    refine e_if_lt (n := 27) (tgt := 112) dX7_skipping_24 rfl (by decide) (fun h => ?_) (fun h => ?_)
    · have w := w.1 h
      refine e_sub (lv' := [(0, .ref x0), (1, .int x1)]) [0, 1] rfl ?_
      exact hk112 _ _ _ w
    · have w := w.2 h
      refine e_aload_n (n := 28) dX7_skipping_27 rfl 0 rfl ?_
      refine e_cR (n := 31) w fw_X7_skipping (gl_o q938) dX7_skipping_28 rfl (fun r_13 w => ?_)
      refine e_iload_n (n := 32) dX7_skipping_31 rfl 2 rfl ?_
      obtain ⟨a_14, ha_14, w9a_14⟩ := w
      subst ha_14
      have w := w9a_14
      refine e_caR (n := 33) w (fun _ => rfl) rfl dX7_skipping_32 rfl (fun r_15 w => ?_)
      refine e_iload_n (n := 34) dX7_skipping_33 rfl 1 rfl ?_
      refine e_ldc2 (n := 37) q876 dX7_skipping_34 rfl ?_
      obtain ⟨a_16, ha_16, w9a_16⟩ := w
      subst ha_16
      have w := w9a_16
      refine e_csJ (n := 38) w dX7_skipping_37 rfl (fun σ_17 w => ?_)
      refine e_iconst (n := 39) (v := 1) dX7_skipping_38 rfl (by decide) ?_
      refine e_istore_n (n := 40) (lv' := [(0, .ref x0), (1, .int x1), (2, .int x2), (3, .int 1)]) [1, 2, 3, 0] dX7_skipping_39 rfl rfl rfl ?_
      obtain ⟨fu, w⟩ := w
      refine hX7_skipping_40 (fun x0_18 x1_19 x2_20 σ_21 w => ?_) fu _ _ _ _ _ w
      obtain ⟨x2_22, hx2_22⟩ : ∃ y : Int32, y = x2_20 + (-1) := ⟨_, rfl⟩
      have w := w x2_22 hx2_22
      refine e_iinc (n := 109) (v := x2_22) (lv' := [(0, .ref x0_18), (1, .int x1_19), (2, .int x2_22)]) [1, 2, 0] dX7_skipping_106 rfl 2 rfl (by rw [hx2_22]; rfl) rfl rfl ?_
      refine e_goto (n := 23) dX7_skipping_109 (by decide) ?_
      exact ih _ _ _ _ w
set_option maxHeartbeats 4000000 in
theorem hX7_skipping_2 {Q : gH → Prop} {k118 : gH → Prop} (hk118 : ∀ (σ : gH), k118 σ → E mX7_skipping 2 0 0 (g_z (c_Kv Q)) 0 0 118 [] [] σ) : ∀ (n : Nat) (x0 : Nat) (x1 : Int32) (σ : gH), wX7_skipping_2 Q k118 n x0 x1 σ → E mX7_skipping 2 0 0 (g_z (c_Kv Q)) 0 0 2 [(0, .ref x0), (1, .int x1)] [] σ := by
  intro n
  induction n with
  | zero =>
    intro _ _ _ w
    exact w.elim
  | succ n ih =>
    intro x0 x1 σ w
    unfold wX7_skipping_2 at w
    refine e_iload_n (n := 3) dX7_skipping_2 rfl 1 rfl ?_
    refine e_aload_n (n := 4) dX7_skipping_3 rfl 0 rfl ?_
    refine e_cI (n := 7) w fw_X7_n (gl_o q922) dX7_skipping_4 rfl (fun v_2 w => ?_)
    refine e_icmp_gt (n := 10) (tgt := 118) dX7_skipping_7 rfl (by decide) (fun h => ?_) (fun h => ?_)
    · have w := w.1 h
      refine e_sub (lv' := []) [] rfl ?_
      exact hk118 _ w
    · have w := w.2 h
      refine e_aload_n (n := 11) dX7_skipping_10 rfl 0 rfl ?_
      refine e_cR (n := 14) w fw_X7_skipping (gl_o q938) dX7_skipping_11 rfl (fun r_3 w => ?_)
      refine e_iload_n (n := 15) dX7_skipping_14 rfl 1 rfl ?_
      obtain ⟨a_4, ha_4, w9a_4⟩ := w
      subst ha_4
      have w := w9a_4
      refine e_caR (n := 16) w (fun _ => rfl) rfl dX7_skipping_15 rfl (fun r_5 w => ?_)
      refine e_iload_n (n := 17) dX7_skipping_16 rfl 1 rfl ?_
      refine e_lconst (n := 18) (v := 0) dX7_skipping_17 rfl (by decide) ?_
      obtain ⟨a_6, ha_6, w9a_6⟩ := w
      subst ha_6
      have w := w9a_6
      refine e_csJ (n := 19) w dX7_skipping_18 rfl (fun σ_7 w => ?_)
      refine e_iload_n (n := 20) dX7_skipping_19 rfl 1 rfl ?_
      refine e_iconst (n := 21) (v := 1) dX7_skipping_20 rfl (by decide) ?_
      refine e_isub (n := 22) dX7_skipping_21 rfl ?_
      refine e_topi (fun x2_8 hx2_8 => ?_)
      have w := w x2_8 hx2_8
      refine e_istore_n (n := 23) (lv' := [(0, .ref x0), (1, .int x1), (2, .int x2_8)]) [1, 2, 0] dX7_skipping_22 rfl rfl rfl ?_
      obtain ⟨fu, w⟩ := w
      refine hX7_skipping_23 (fun x0_9 x1_10 σ_11 w => ?_) fu _ _ _ _ w
      obtain ⟨x1_12, hx1_12⟩ : ∃ y : Int32, y = x1_10 + 1 := ⟨_, rfl⟩
      have w := w x1_12 hx1_12
      refine e_iinc (n := 115) (v := x1_12) (lv' := [(0, .ref x0_9), (1, .int x1_12)]) [1, 0] dX7_skipping_112 rfl 1 rfl (by rw [hx1_12]; rfl) rfl rfl ?_
      refine e_goto (n := 2) dX7_skipping_115 (by decide) ?_
      exact ih _ _ _ w
set_option maxHeartbeats 4000000 in
theorem ctX7_skipping {Q : gH → Prop} {x0 : Nat} {σ : gH} (w : wX7_skipping Q x0 σ) : CT mX7_skipping 2 0 0 [.ref x0] σ (c_Kv Q) := by
  refine CT.of (lv := [(0, .ref x0)]) okX7_skipping.1 rfl rfl ?_
  unfold wX7_skipping at w
  refine e_iconst (n := 1) (v := 0) dX7_skipping_0 rfl (by decide) ?_
  refine e_istore_n (n := 2) (lv' := [(0, .ref x0), (1, .int 0)]) [1, 0] dX7_skipping_1 rfl rfl rfl ?_
  obtain ⟨fu, w⟩ := w
  refine hX7_skipping_2 (fun σ_1 w => ?_) fu _ _ _ w
  exact e_vret rfl (Nat.le_refl _) (Nat.le_refl _) ⟨rfl, w⟩ dX7_skipping_118
abbrev mX7_upTo : gM := (yX7_upTo, cX7_upTo, 3, some .long)
theorem okX7_upTo : g_ok mX7_upTo 2 := ⟨by decide +kernel, by decide +kernel, by decide +kernel, by decide +kernel, by decide⟩
def wX7_upTo_67 (Q : Int64 → Prop) (σ : gH)   : Prop := Q 1152921504606846976
def wX7_upTo (Q : Int64 → Prop) (σ : gH) (x0 : Nat) (x1 : Int32) (x2 : Option Nat) : Prop := ∃ a_1 : Nat, x2 = some a_1 ∧ (c_I σ [8, 9, 10, 11, 12, 13, 14, 15] a_1 2 (fun v_2 => (x1 = v_2 → (Q 0)) ∧ (¬ x1 = v_2 → (c_R σ [7] x0 4 (fun r_3 => ∃ a_4 : Nat, r_3 = some a_4 ∧ (c_aI σ a_4 x1 (fun v_5 => (v_5 = (-4) → (wX7_upTo_67 Q σ)) ∧ (¬ v_5 = (-4) → (c_R σ [7] x0 4 (fun r_6 => c_I σ [8, 9, 10, 11, 12, 13, 14, 15] a_1 2 (fun v_7 => ∃ a_8 : Nat, r_6 = some a_8 ∧ (c_aI σ a_8 v_7 (fun v_9 => (v_9 = (-4) → (wX7_upTo_67 Q σ)) ∧ (¬ v_9 = (-4) → (c_I σ [8, 9, 10, 11, 12, 13, 14, 15] a_1 2 (fun v_10 => (v_10 ≤ x1 → (wX7_upTo_67 Q σ)) ∧ (¬ v_10 ≤ x1 → (c_R σ [7] x0 8 (fun r_11 => c_R σ [7] x0 4 (fun r_12 => ∃ a_13 : Nat, r_12 = some a_13 ∧ (c_aI σ a_13 x1 (fun v_14 => ∃ a_15 : Nat, r_11 = some a_15 ∧ (c_aR 4 σ a_15 v_14 (fun r_16 => c_R σ [7] x0 4 (fun r_17 => c_I σ [8, 9, 10, 11, 12, 13, 14, 15] a_1 2 (fun v_18 => ∃ a_19 : Nat, r_17 = some a_19 ∧ (c_aI σ a_19 v_18 (fun v_20 => ∃ a_21 : Nat, r_16 = some a_21 ∧ (c_aJ σ a_21 v_20 (fun v_22 => Q v_22))))))))))))))))))))))))))))))
set_option maxHeartbeats 4000000 in
theorem hX7_upTo_67 {Q : Int64 → Prop} {σ : gH}   (w : wX7_upTo_67 Q σ) : E mX7_upTo 1 0 0 (g_z (g_Pl σ Q)) 0 0 67 [] [] σ := by
  unfold wX7_upTo_67 at w
  refine e_ldc2 (n := 70) q876 dX7_upTo_67 rfl ?_
  exact e_lret rfl (Nat.le_refl _) (Nat.le_refl _) ⟨_, rfl, rfl, w⟩ dX7_upTo_70
set_option maxHeartbeats 4000000 in
theorem ctX7_upTo {Q : Int64 → Prop} {x0 : Nat} {x1 : Int32} {x2 : Option Nat} {σ : gH} (w : wX7_upTo Q σ x0 x1 x2) : CT mX7_upTo 1 0 0 [.ref x0, .int x1, va_rf x2] σ (g_Pl σ Q) := by
  refine CT.of (lv := [(0, .ref x0), (1, .int x1), (2, va_rf x2)]) okX7_upTo.1 (by cases x2 <;> rfl) (by cases x2 <;> rfl) ?_
  unfold wX7_upTo at w
  refine e_iload_n (n := 1) dX7_upTo_0 rfl 1 rfl ?_
  refine e_aloadr_n (n := 2) (r := x2) dX7_upTo_1 rfl 2 rfl ?_
  obtain ⟨a_1, ha_1, w9a_1⟩ := w
  subst ha_1
  have w := w9a_1
  refine e_cI (n := 5) w fw_X8_from (gl_o q568) dX7_upTo_2 rfl (fun v_2 w => ?_)
  refine e_icmp_ne (n := 8) (tgt := 10) dX7_upTo_5 rfl (by decide) (fun h => ?_) (fun h => ?_)
  · have w := w.2 h
    refine e_aload_n (n := 11) dX7_upTo_10 rfl 0 rfl ?_
    refine e_cR (n := 14) w fw_X7_mainOf (gl_o q930) dX7_upTo_11 rfl (fun r_3 w => ?_)
    refine e_iload_n (n := 15) dX7_upTo_14 rfl 1 rfl ?_
    obtain ⟨a_4, ha_4, w9a_4⟩ := w
    subst ha_4
    have w := w9a_4
    refine e_caI (n := 16) w dX7_upTo_15 rfl (fun v_5 w => ?_)
    refine e_bipush (n := 18) (v := (-4)) dX7_upTo_16 rfl (by decide) ?_
    refine e_icmp_eq (n := 21) (tgt := 67) dX7_upTo_18 rfl (by decide) (fun h => ?_) (fun h => ?_)
    · have w := w.1 h
      refine e_sub (lv' := []) [] rfl ?_
      exact hX7_upTo_67  w
    · have w := w.2 h
      refine e_aload_n (n := 22) dX7_upTo_21 rfl 0 rfl ?_
      refine e_cR (n := 25) w fw_X7_mainOf (gl_o q930) dX7_upTo_22 rfl (fun r_6 w => ?_)
      refine e_aload_n (n := 26) dX7_upTo_25 rfl 2 rfl ?_
      refine e_cI (n := 29) w fw_X8_from (gl_o q568) dX7_upTo_26 rfl (fun v_7 w => ?_)
      obtain ⟨a_8, ha_8, w9a_8⟩ := w
      subst ha_8
      have w := w9a_8
      refine e_caI (n := 30) w dX7_upTo_29 rfl (fun v_9 w => ?_)
      refine e_bipush (n := 32) (v := (-4)) dX7_upTo_30 rfl (by decide) ?_
      refine e_icmp_eq (n := 35) (tgt := 67) dX7_upTo_32 rfl (by decide) (fun h => ?_) (fun h => ?_)
      · have w := w.1 h
        refine e_sub (lv' := []) [] rfl ?_
        exact hX7_upTo_67  w
      · have w := w.2 h
        refine e_iload_n (n := 36) dX7_upTo_35 rfl 1 rfl ?_
        refine e_aload_n (n := 37) dX7_upTo_36 rfl 2 rfl ?_
        refine e_cI (n := 40) w fw_X8_from (gl_o q568) dX7_upTo_37 rfl (fun v_10 w => ?_)
        refine e_icmp_ge (n := 43) (tgt := 67) dX7_upTo_40 rfl (by decide) (fun h => ?_) (fun h => ?_)
        · have w := w.1 h
          refine e_sub (lv' := []) [] rfl ?_
          exact hX7_upTo_67  w
        · have w := w.2 h
          refine e_aload_n (n := 44) dX7_upTo_43 rfl 0 rfl ?_
          refine e_cR (n := 47) w fw_X7_skipping (gl_o q938) dX7_upTo_44 rfl (fun r_11 w => ?_)
          refine e_aload_n (n := 48) dX7_upTo_47 rfl 0 rfl ?_
          refine e_cR (n := 51) w fw_X7_mainOf (gl_o q930) dX7_upTo_48 rfl (fun r_12 w => ?_)
          refine e_iload_n (n := 52) dX7_upTo_51 rfl 1 rfl ?_
          obtain ⟨a_13, ha_13, w9a_13⟩ := w
          subst ha_13
          have w := w9a_13
          refine e_caI (n := 53) w dX7_upTo_52 rfl (fun v_14 w => ?_)
          obtain ⟨a_15, ha_15, w9a_15⟩ := w
          subst ha_15
          have w := w9a_15
          refine e_caR (n := 54) w (fun _ => rfl) rfl dX7_upTo_53 rfl (fun r_16 w => ?_)
          refine e_aload_n (n := 55) dX7_upTo_54 rfl 0 rfl ?_
          refine e_cR (n := 58) w fw_X7_mainOf (gl_o q930) dX7_upTo_55 rfl (fun r_17 w => ?_)
          refine e_aload_n (n := 59) dX7_upTo_58 rfl 2 rfl ?_
          refine e_cI (n := 62) w fw_X8_from (gl_o q568) dX7_upTo_59 rfl (fun v_18 w => ?_)
          obtain ⟨a_19, ha_19, w9a_19⟩ := w
          subst ha_19
          have w := w9a_19
          refine e_caI (n := 63) w dX7_upTo_62 rfl (fun v_20 w => ?_)
          obtain ⟨a_21, ha_21, w9a_21⟩ := w
          subst ha_21
          have w := w9a_21
          refine e_caJ (n := 64) w dX7_upTo_63 rfl (fun v_22 w => ?_)
          refine e_goto (n := 70) dX7_upTo_64 (by decide) ?_
          exact e_lret rfl (Nat.le_refl _) (Nat.le_refl _) ⟨_, rfl, rfl, w⟩ dX7_upTo_70
  · have w := w.1 h
    refine e_lconst (n := 9) (v := 0) dX7_upTo_8 rfl (by decide) ?_
    exact e_lret rfl (Nat.le_refl _) (Nat.le_refl _) ⟨_, rfl, rfl, w⟩ dX7_upTo_9
abbrev mX0_priceOf : gM := (yX0_priceOf, cX0_priceOf, 4, some .int)
theorem okX0_priceOf : g_ok mX0_priceOf 3 := ⟨by decide +kernel, by decide +kernel, by decide +kernel, by decide +kernel, by decide⟩
def wX0_priceOf_34 (Q : Int32 → Prop) (σ : gH)  (x1 : Option Nat) : Prop := ∃ a_3 : Nat, x1 = some a_3 ∧ (vX8_price σ (fun (v_4 : Int32) => Q v_4) a_3)
def wX0_priceOf_21 (Q : Int32 → Prop) (σ : gH)  (t0 : Int32) (x0 : Option Nat) (x1 : Option Nat) : Prop := (t0 = 0 → (wX0_priceOf_34 Q σ x1)) ∧ (¬ t0 = 0 → (∃ a_5 : Nat, x0 = some a_5 ∧ (c_I σ [6] a_5 0 (fun v_6 => (1 < v_6 → (c_I σ [6] a_5 0 (fun v_7 => (v_7 = 2 → (Q 1)) ∧ (¬ v_7 = 2 → (Q 0))))) ∧ (¬ 1 < v_6 → (wX0_priceOf_34 Q σ x1))))))
def wX0_priceOf_20 (Q : Int32 → Prop) (σ : gH)  (x0 : Option Nat) (x1 : Option Nat) : Prop := wX0_priceOf_21 Q σ 0 x0 x1
def wX0_priceOf (Q : Int32 → Prop) (σ : gH) (x0 : Option Nat) (x1 : Option Nat) (x2 : Int32) : Prop := ∃ a_1 : Nat, x1 = some a_1 ∧ (vX8_kind σ (fun (v_2 : Int32) => (v_2 = 1 → (c_I σ [8, 9, 10, 11, 12, 13, 14, 15] a_1 1 (fun v_8 => (v_8 = x2 → (wX0_priceOf_21 Q σ 1 x0 (some a_1))) ∧ (¬ v_8 = x2 → (wX0_priceOf_20 Q σ x0 (some a_1)))))) ∧ (¬ v_2 = 1 → (wX0_priceOf_20 Q σ x0 (some a_1)))) a_1)
set_option maxHeartbeats 4000000 in
theorem hX0_priceOf_34 {Q : Int32 → Prop} {σ : gH}  (x1 : Option Nat) (w : wX0_priceOf_34 Q σ x1) : E mX0_priceOf 6 0 0 (g_z (g_Pi σ Q)) 0 0 34 [(1, va_rf x1)] [] σ := by
  unfold wX0_priceOf_34 at w
  refine e_aloadr_n (n := 35) (r := x1) dX0_priceOf_34 rfl 0 rfl ?_
  obtain ⟨a_3, ha_3, w9a_3⟩ := w
  subst ha_3
  have w := w9a_3
  refine evX8_price (n := 38) (st := []) w (by decide) (Nat.le_refl _) (Nat.le_refl _) q915 rfl dX0_priceOf_35 rfl (fun v_4 w => ?_)
  refine e_goto (n := 54) dX0_priceOf_38 (by decide) ?_
  exact e_iret rfl (Nat.le_refl _) (Nat.le_refl _) ⟨_, rfl, rfl, w⟩ dX0_priceOf_54
set_option maxHeartbeats 4000000 in
theorem hX0_priceOf_21 {Q : Int32 → Prop} {σ : gH}  (t0 : Int32) (x0 : Option Nat) (x1 : Option Nat) (w : wX0_priceOf_21 Q σ t0 x0 x1) : E mX0_priceOf 6 0 0 (g_z (g_Pi σ Q)) 0 0 21 [(0, va_rf x0), (1, va_rf x1)] [.int t0] σ := by
  unfold wX0_priceOf_21 at w
  refine e_istore_n (n := 22) (lv' := [(0, va_rf x0), (1, va_rf x1), (3, .int t0)]) [1, 2, 0] dX0_priceOf_21 rfl rfl rfl ?_
  refine e_iload_n (n := 23) dX0_priceOf_22 rfl 2 rfl ?_
  refine e_if_eq (n := 26) (tgt := 34) dX0_priceOf_23 rfl (by decide) (fun h => ?_) (fun h => ?_)
  · have w := w.1 h
    refine e_sub (lv' := [(1, va_rf x1)]) [1] rfl ?_
    exact hX0_priceOf_34 _ w
  · have w := w.2 h
    refine e_aloadr_n (n := 27) (r := x0) dX0_priceOf_26 rfl 0 rfl ?_
    obtain ⟨a_5, ha_5, w9a_5⟩ := w
    subst ha_5
    have w := w9a_5
    refine e_cI (n := 30) w fw_X6_sort (gl_n q501) dX0_priceOf_27 rfl (fun v_6 w => ?_)
    refine e_iconst (n := 31) (v := 1) dX0_priceOf_30 rfl (by decide) ?_
    refine e_icmp_gt (n := 34) (tgt := 41) dX0_priceOf_31 rfl (by decide) (fun h => ?_) (fun h => ?_)
    · have w := w.1 h
      refine e_aload_n (n := 42) dX0_priceOf_41 rfl 0 rfl ?_
      refine e_cI (n := 45) w fw_X6_sort (gl_n q501) dX0_priceOf_42 rfl (fun v_7 w => ?_)
      refine e_iconst (n := 46) (v := 2) dX0_priceOf_45 rfl (by decide) ?_
      refine e_icmp_ne (n := 49) (tgt := 53) dX0_priceOf_46 rfl (by decide) (fun h => ?_) (fun h => ?_)
      · have w := w.2 h
        refine e_iconst (n := 54) (v := 0) dX0_priceOf_53 rfl (by decide) ?_
        exact e_iret rfl (Nat.le_refl _) (Nat.le_refl _) ⟨_, rfl, rfl, w⟩ dX0_priceOf_54
      · have w := w.1 h
        refine e_iconst (n := 50) (v := 1) dX0_priceOf_49 rfl (by decide) ?_
        refine e_goto (n := 54) dX0_priceOf_50 (by decide) ?_
        exact e_iret rfl (Nat.le_refl _) (Nat.le_refl _) ⟨_, rfl, rfl, w⟩ dX0_priceOf_54
    · have w := w.2 h
      refine e_sub (lv' := [(1, va_rf x1)]) [1] rfl ?_
      exact hX0_priceOf_34 _ w
set_option maxHeartbeats 4000000 in
theorem hX0_priceOf_20 {Q : Int32 → Prop} {σ : gH}  (x0 : Option Nat) (x1 : Option Nat) (w : wX0_priceOf_20 Q σ x0 x1) : E mX0_priceOf 6 0 0 (g_z (g_Pi σ Q)) 0 0 20 [(0, va_rf x0), (1, va_rf x1)] [] σ := by
  unfold wX0_priceOf_20 at w
  refine e_iconst (n := 21) (v := 0) dX0_priceOf_20 rfl (by decide) ?_
  exact hX0_priceOf_21 _ _ _ w
set_option maxHeartbeats 4000000 in
theorem ctX0_priceOf {Q : Int32 → Prop} {x0 : Option Nat} {x1 : Option Nat} {x2 : Int32} {σ : gH} (w : wX0_priceOf Q σ x0 x1 x2) : CT mX0_priceOf 6 0 0 [va_rf x0, va_rf x1, .int x2] σ (g_Pi σ Q) := by
  refine CT.of (lv := [(0, va_rf x0), (1, va_rf x1), (2, .int x2)]) okX0_priceOf.1 (by cases x0 <;> cases x1 <;> rfl) (by cases x0 <;> cases x1 <;> rfl) ?_
  unfold wX0_priceOf at w
  refine e_aloadr_n (n := 1) (r := x1) dX0_priceOf_0 rfl 1 rfl ?_
  obtain ⟨a_1, ha_1, w9a_1⟩ := w
  subst ha_1
  have w := w9a_1
  refine evX8_kind (n := 4) (st := []) w (by decide) (Nat.le_refl _) (Nat.le_refl _) q603 rfl dX0_priceOf_1 rfl (fun v_2 w => ?_)
  refine e_iconst (n := 5) (v := 1) dX0_priceOf_4 rfl (by decide) ?_
  refine e_icmp_ne (n := 8) (tgt := 20) dX0_priceOf_5 rfl (by decide) (fun h => ?_) (fun h => ?_)
  · have w := w.2 h
    refine e_sub (lv' := [(0, va_rf x0), (1, va_rf (some a_1))]) [0, 1] rfl ?_
    exact hX0_priceOf_20 _ _ w
  · have w := w.1 h
    refine e_aload_n (n := 9) dX0_priceOf_8 rfl 1 rfl ?_
    refine e_cI (n := 12) w fw_X8_place (gl_o q565) dX0_priceOf_9 rfl (fun v_8 w => ?_)
    refine e_iload_n (n := 13) dX0_priceOf_12 rfl 2 rfl ?_
    refine e_icmp_ne (n := 16) (tgt := 20) dX0_priceOf_13 rfl (by decide) (fun h => ?_) (fun h => ?_)
    · have w := w.2 h
      refine e_sub (lv' := [(0, va_rf x0), (1, va_rf (some a_1))]) [0, 1] rfl ?_
      exact hX0_priceOf_20 _ _ w
    · have w := w.1 h
      refine e_iconst (n := 17) (v := 1) dX0_priceOf_16 rfl (by decide) ?_
      refine e_goto (n := 21) dX0_priceOf_17 (by decide) ?_
      refine e_sub (lv' := [(0, va_rf x0), (1, va_rf (some a_1))]) [0, 1] rfl ?_
      exact hX0_priceOf_21 _ _ _ w
abbrev mX7_reading : gM := (yX7_reading, cX7_reading, 6, none)
theorem okX7_reading : g_ok mX7_reading 0 := ⟨by decide +kernel, by decide +kernel, by decide +kernel, by decide +kernel, by decide⟩
def wX7_reading_95 (Q : gH → Prop) (k168 : Nat → Int32 → gH → Prop) : Nat → Nat → Int32 → (Option Nat) → Int32 → gH → Prop
  | 0 => fun _ _ _ _ _ => False
  | n + 1 => fun x0 x1 x2 x3 σ => ∃ a_16 : Nat, x2 = some a_16 ∧ (c_I σ [8, 9, 10, 11, 12, 13, 14, 15] a_16 2 (fun v_17 => (v_17 < x3 → (k168 x0 x1 σ)) ∧ (¬ v_17 < x3 → (∃ fs_19 : List Value, σ.2 x0 = some (.inr (7, fs_19)) ∧ (wX7_upTo (fun (v_18 : Int64) => c_R σ [7] x0 2 (fun r_20 => c_I σ [7] x0 1 (fun v_21 => wX0_priceOf (fun (v_22 : Int32) => ∀ x4_23 : Int64, x4_23 = v_18 + v_22.toInt64 → (c_R σ [7] x0 9 (fun r_24 => c_I σ [8, 9, 10, 11, 12, 13, 14, 15] a_16 4 (fun v_25 => ∃ a_26 : Nat, r_24 = some a_26 ∧ (c_aR 5 σ a_26 v_25 (fun r_27 => ∃ a_28 : Nat, r_27 = some a_28 ∧ (c_aR 4 σ a_28 x3 (fun r_29 => c_I σ [8, 9, 10, 11, 12, 13, 14, 15] a_16 3 (fun v_30 => c_R σ [7] x0 9 (fun r_31 => c_I σ [8, 9, 10, 11, 12, 13, 14, 15] a_16 4 (fun v_32 => ∃ a_33 : Nat, r_31 = some a_33 ∧ (c_aR 5 σ a_33 v_32 (fun r_34 => ∃ a_35 : Nat, r_34 = some a_35 ∧ (c_aR 4 σ a_35 x3 (fun r_36 => c_I σ [8, 9, 10, 11, 12, 13, 14, 15] a_16 3 (fun v_37 => ∃ a_38 : Nat, r_36 = some a_38 ∧ (c_aJ σ a_38 v_37 (fun v_39 => wJ4_min_2 (fun (v_40 : Int64) => ∃ a_41 : Nat, r_29 = some a_41 ∧ (c_sJ σ a_41 v_30 v_40 (fun σ_42 => ∀ x3_43 : Int32, x3_43 = x3 + 1 → (wX7_reading_95 Q k168 n x0 x1 (some a_16) x3_43 σ_42)))) σ v_39 x4_23)))))))))))))))))) σ r_20 (some a_16) v_21))) σ x0 x3 (some a_16))))))
def wX7_reading_66 (Q : gH → Prop) (k174 : gH → Prop) : Nat → Nat → Int32 → gH → Prop
  | 0 => fun _ _ _ => False
  | n + 1 => fun x0 x1 σ => c_R σ [7] x0 6 (fun r_4 => ∃ a_5 : Nat, r_4 = some a_5 ∧ (∃ fs_7 : List Value, σ.2 a_5 = some (.inr (18, fs_7)) ∧ (wJ2_size (fun (v_6 : Int32) => (v_6 ≤ x1 → (k174 σ)) ∧ (¬ v_6 ≤ x1 → (c_R σ [7] x0 6 (fun r_8 => ∃ a_9 : Nat, r_8 = some a_9 ∧ (∃ fs_11 : List Value, σ.2 a_9 = some (.inr (18, fs_11)) ∧ (wJ2_get (fun (r_10 : Option Nat) => c_cast σ [8, 9, 10, 11, 12, 13, 14, 15] r_10 (∃ fu : Nat, wX7_reading_95 Q (fun (x0_12 : Nat) (x1_13 : Int32) (σ_14 : gH) => ∀ x1_15 : Int32, x1_15 = x1_13 + 1 → (wX7_reading_66 Q k174 n x0_12 x1_15 σ_14)) fu x0 x1 r_10 0 σ)) σ a_9 x1)))))) σ a_5)))
def wX7_reading_25 (Q : gH → Prop) (k52 : Nat → Int32 → Int32 → gH → Prop) : Nat → Nat → Int32 → Int32 → Int32 → gH → Prop
  | 0 => fun _ _ _ _ _ => False
  | n + 1 => fun x0 x1 x2 x3 σ => c_I σ [7] x0 5 (fun v_57 => (v_57 ≤ x3 → (k52 x0 x1 x2 σ)) ∧ (¬ v_57 ≤ x3 → (c_R σ [7] x0 9 (fun r_58 => ∃ a_59 : Nat, r_58 = some a_59 ∧ (c_aR 5 σ a_59 x1 (fun r_60 => ∃ a_61 : Nat, r_60 = some a_61 ∧ (c_aR 4 σ a_61 x2 (fun r_62 => ∃ a_63 : Nat, r_62 = some a_63 ∧ (c_sJ σ a_63 x3 1152921504606846976 (fun σ_64 => ∀ x3_65 : Int32, x3_65 = x3 + 1 → (wX7_reading_25 Q k52 n x0 x1 x2 x3_65 σ_64)))))))))))
def wX7_reading_15 (Q : gH → Prop) (k58 : Nat → Int32 → gH → Prop) : Nat → Nat → Int32 → Int32 → gH → Prop
  | 0 => fun _ _ _ _ => False
  | n + 1 => fun x0 x1 x2 σ => c_I σ [7] x0 5 (fun v_51 => (v_51 ≤ x2 → (k58 x0 x1 σ)) ∧ (¬ v_51 ≤ x2 → (∃ fu : Nat, wX7_reading_25 Q (fun (x0_52 : Nat) (x1_53 : Int32) (x2_54 : Int32) (σ_55 : gH) => ∀ x2_56 : Int32, x2_56 = x2_54 + 1 → (wX7_reading_15 Q k58 n x0_52 x1_53 x2_56 σ_55)) fu x0 x1 x2 0 σ)))
def wX7_reading_2 (Q : gH → Prop) (k64 : Nat → gH → Prop) : Nat → Nat → Int32 → gH → Prop
  | 0 => fun _ _ _ => False
  | n + 1 => fun x0 x1 σ => c_R σ [7] x0 12 (fun r_44 => ∃ a_45 : Nat, r_44 = some a_45 ∧ (c_I σ [0] a_45 0 (fun v_46 => (v_46 ≤ x1 → (k64 x0 σ)) ∧ (¬ v_46 ≤ x1 → (∃ fu : Nat, wX7_reading_15 Q (fun (x0_47 : Nat) (x1_48 : Int32) (σ_49 : gH) => ∀ x1_50 : Int32, x1_50 = x1_48 + 1 → (wX7_reading_2 Q k64 n x0_47 x1_50 σ_49)) fu x0 x1 0 σ)))))
def wX7_reading (Q : gH → Prop) (x0 : Nat) (σ : gH) : Prop := ∃ fu : Nat, wX7_reading_2 Q (fun (x0_1 : Nat) (σ_2 : gH) => ∃ fu : Nat, wX7_reading_66 Q (fun (σ_3 : gH) => Q σ_3) fu x0_1 0 σ_2) fu x0 0 σ
set_option maxHeartbeats 4000000 in
theorem hX7_reading_95 {Q : gH → Prop} {k168 : Nat → Int32 → gH → Prop} (hk168 : ∀ (x0 : Nat) (x1 : Int32) (σ : gH), k168 x0 x1 σ → E mX7_reading 7 0 0 (g_z (c_Kv Q)) 0 0 168 [(0, .ref x0), (1, .int x1)] [] σ) : ∀ (n : Nat) (x0 : Nat) (x1 : Int32) (x2 : Option Nat) (x3 : Int32) (σ : gH), wX7_reading_95 Q k168 n x0 x1 x2 x3 σ → E mX7_reading 7 0 0 (g_z (c_Kv Q)) 0 0 95 [(0, .ref x0), (1, .int x1), (2, va_rf x2), (3, .int x3)] [] σ := by
  intro n
  induction n with
  | zero =>
    intro _ _ _ _ _ w
    exact w.elim
  | succ n ih =>
    intro x0 x1 x2 x3 σ w
    unfold wX7_reading_95 at w
    refine e_iload_n (n := 96) dX7_reading_95 rfl 3 rfl ?_
    refine e_aloadr_n (n := 97) (r := x2) dX7_reading_96 rfl 2 rfl ?_
    obtain ⟨a_16, ha_16, w9a_16⟩ := w
    subst ha_16
    have w := w9a_16
    refine e_cI (n := 100) w fw_X8_from (gl_o q568) dX7_reading_97 rfl (fun v_17 w => ?_)
    refine e_icmp_gt (n := 103) (tgt := 168) dX7_reading_100 rfl (by decide) (fun h => ?_) (fun h => ?_)
    · have w := w.1 h
      refine e_sub (lv' := [(0, .ref x0), (1, .int x1)]) [0, 1] rfl ?_
      exact hk168 _ _ _ w
    · have w := w.2 h
      refine e_aload_n (n := 104) dX7_reading_103 rfl 0 rfl ?_
      refine e_iload_n (n := 105) dX7_reading_104 rfl 3 rfl ?_
      refine e_aload_n (n := 106) dX7_reading_105 rfl 2 rfl ?_
      obtain ⟨fs_19, wo, w⟩ := w
      refine e_callV (n := 109) (As := [.int x3, va_rf (some a_16)]) (st := []) okX7_upTo q908 q910 qs14 q73 q911 rfl wo rfl (by decide) (Nat.le_refl _) (Nat.le_refl _) rfl rfl (Nat.le_of_ble_eq_true rfl) dX7_reading_106 rfl (ctX7_upTo w) (fun r9 σ9 hk => ?_)
      obtain ⟨v_18, rfl, hs9, w⟩ := hk
      rw [hs9]
      refine e_aload_n (n := 110) dX7_reading_109 rfl 0 rfl ?_
      refine e_cR (n := 113) w fw_X7_way (gl_o q925) dX7_reading_110 rfl (fun r_20 w => ?_)
      refine e_aload_n (n := 114) dX7_reading_113 rfl 2 rfl ?_
      refine e_aload_n (n := 115) dX7_reading_114 rfl 0 rfl ?_
      refine e_cI (n := 118) w fw_X7_n (gl_o q922) dX7_reading_115 rfl (fun v_21 w => ?_)
      refine e_callSN (n := 121) (As := [va_rf r_20, va_rf (some a_16), .int v_21]) (st := [.long v_18]) okX0_priceOf q912 q913 q57 q914 (by decide) (Nat.le_refl _) (Nat.le_refl _) rfl rfl rfl dX7_reading_118 rfl (ctX0_priceOf w) (fun r9 σ9 hk => ?_)
      obtain ⟨v_22, rfl, hs9, w⟩ := hk
      rw [hs9]
      refine e_i2l (n := 122) dX7_reading_121 rfl ?_
      refine e_ladd (n := 123) dX7_reading_122 rfl ?_
      refine e_topl (fun x4_23 hx4_23 => ?_)
      have w := w x4_23 hx4_23
      refine e_lstore (n := 125) (lv' := [(0, .ref x0), (1, .int x1), (2, .ref a_16), (3, .int x3), (4, .long x4_23)]) [1, 2, 3, 4, 0] dX7_reading_123 rfl rfl rfl ?_
      refine e_aload_n (n := 126) dX7_reading_125 rfl 0 rfl ?_
      refine e_cR (n := 129) w fw_X7_read (gl_o q941) dX7_reading_126 rfl (fun r_24 w => ?_)
      refine e_aload_n (n := 130) dX7_reading_129 rfl 2 rfl ?_
      refine e_cI (n := 133) w fw_X8_token (gl_o q578) dX7_reading_130 rfl (fun v_25 w => ?_)
      obtain ⟨a_26, ha_26, w9a_26⟩ := w
      subst ha_26
      have w := w9a_26
      refine e_caR (n := 134) w (fun _ => rfl) rfl dX7_reading_133 rfl (fun r_27 w => ?_)
      refine e_iload_n (n := 135) dX7_reading_134 rfl 3 rfl ?_
      obtain ⟨a_28, ha_28, w9a_28⟩ := w
      subst ha_28
      have w := w9a_28
      refine e_caR (n := 136) w (fun _ => rfl) rfl dX7_reading_135 rfl (fun r_29 w => ?_)
      refine e_aload_n (n := 137) dX7_reading_136 rfl 2 rfl ?_
      refine e_cI (n := 140) w fw_X8_to (gl_o q571) dX7_reading_137 rfl (fun v_30 w => ?_)
      refine e_aload_n (n := 141) dX7_reading_140 rfl 0 rfl ?_
      refine e_cR (n := 144) w fw_X7_read (gl_o q941) dX7_reading_141 rfl (fun r_31 w => ?_)
      refine e_aload_n (n := 145) dX7_reading_144 rfl 2 rfl ?_
      refine e_cI (n := 148) w fw_X8_token (gl_o q578) dX7_reading_145 rfl (fun v_32 w => ?_)
      obtain ⟨a_33, ha_33, w9a_33⟩ := w
      subst ha_33
      have w := w9a_33
      refine e_caR (n := 149) w (fun _ => rfl) rfl dX7_reading_148 rfl (fun r_34 w => ?_)
      refine e_iload_n (n := 150) dX7_reading_149 rfl 3 rfl ?_
      obtain ⟨a_35, ha_35, w9a_35⟩ := w
      subst ha_35
      have w := w9a_35
      refine e_caR (n := 151) w (fun _ => rfl) rfl dX7_reading_150 rfl (fun r_36 w => ?_)
      refine e_aload_n (n := 152) dX7_reading_151 rfl 2 rfl ?_
      refine e_cI (n := 155) w fw_X8_to (gl_o q571) dX7_reading_152 rfl (fun v_37 w => ?_)
      obtain ⟨a_38, ha_38, w9a_38⟩ := w
      subst ha_38
      have w := w9a_38
      refine e_caJ (n := 156) w dX7_reading_155 rfl (fun v_39 w => ?_)
      refine e_lload (n := 158) dX7_reading_156 rfl 4 rfl ?_
      refine e_callS (n := 161) (As := [.long v_39, .long x4_23]) (st := [.int v_30, va_rf r_29]) okJ4_min_2 q901 q902 q66 q903 (by decide) (Nat.le_refl _) (Nat.le_refl _) rfl rfl (Nat.le_of_ble_eq_true (by cases r_29 <;> rfl)) dX7_reading_158 rfl (ctJ4_min_2 w) (fun r9 σ9 hk => ?_)
      obtain ⟨v_40, rfl, hs9, w⟩ := hk
      rw [hs9]
      obtain ⟨a_41, ha_41, w9a_41⟩ := w
      subst ha_41
      have w := w9a_41
      refine e_csJ (n := 162) w dX7_reading_161 rfl (fun σ_42 w => ?_)
      obtain ⟨x3_43, hx3_43⟩ : ∃ y : Int32, y = x3 + 1 := ⟨_, rfl⟩
      have w := w x3_43 hx3_43
      refine e_iinc (n := 165) (v := x3_43) (lv' := [(0, .ref x0), (1, .int x1), (2, .ref a_16), (3, .int x3_43), (4, .long x4_23)]) [1, 2, 3, 0, 4] dX7_reading_162 rfl 3 rfl (by rw [hx3_43]; rfl) rfl rfl ?_
      refine e_goto (n := 95) dX7_reading_165 (by decide) ?_
      refine e_sub (lv' := [(0, .ref x0), (1, .int x1), (2, va_rf (some a_16)), (3, .int x3_43)]) [0, 1, 2, 3] rfl ?_
      exact ih _ _ _ _ _ w
set_option maxHeartbeats 4000000 in
theorem hX7_reading_66 {Q : gH → Prop} {k174 : gH → Prop} (hk174 : ∀ (σ : gH), k174 σ → E mX7_reading 7 0 0 (g_z (c_Kv Q)) 0 0 174 [] [] σ) : ∀ (n : Nat) (x0 : Nat) (x1 : Int32) (σ : gH), wX7_reading_66 Q k174 n x0 x1 σ → E mX7_reading 7 0 0 (g_z (c_Kv Q)) 0 0 66 [(0, .ref x0), (1, .int x1)] [] σ := by
  intro n
  induction n with
  | zero =>
    intro _ _ _ w
    exact w.elim
  | succ n ih =>
    intro x0 x1 σ w
    unfold wX7_reading_66 at w
    refine e_iload_n (n := 67) dX7_reading_66 rfl 1 rfl ?_
    refine e_aload_n (n := 68) dX7_reading_67 rfl 0 rfl ?_
    refine e_cR (n := 71) w fw_X7_steps (gl_o q934) dX7_reading_68 rfl (fun r_4 w => ?_)
    obtain ⟨a_5, ha_5, w9a_5⟩ := w
    subst ha_5
    have w := w9a_5
    obtain ⟨fs_7, wo, w⟩ := w
    refine e_callF (n := 76) (As := []) (st := [.int x1]) okJ2_size q534 q287 q289 q60 q291 q285 q284 q290 q288 q286 rfl (by decide) wo rfl (by decide) (Nat.le_refl _) (Nat.le_refl _) rfl rfl rfl dX7_reading_71 rfl (ctJ2_size w) (fun r9 σ9 hk => ?_)
    obtain ⟨v_6, rfl, hs9, w⟩ := hk
    rw [hs9]
    refine e_icmp_ge (n := 79) (tgt := 174) dX7_reading_76 rfl (by decide) (fun h => ?_) (fun h => ?_)
    · have w := w.1 h
      refine e_sub (lv' := []) [] rfl ?_
      exact hk174 _ w
    · have w := w.2 h
      refine e_aload_n (n := 80) dX7_reading_79 rfl 0 rfl ?_
      refine e_cR (n := 83) w fw_X7_steps (gl_o q934) dX7_reading_80 rfl (fun r_8 w => ?_)
      refine e_iload_n (n := 84) dX7_reading_83 rfl 1 rfl ?_
      obtain ⟨a_9, ha_9, w9a_9⟩ := w
      subst ha_9
      have w := w9a_9
      obtain ⟨fs_11, wo, w⟩ := w
      refine e_callF (n := 89) (As := [.int x1]) (st := []) okJ2_get q536 q412 q414 q60 q416 q411 q410 q415 q413 q286 rfl (by decide) wo rfl (by decide) (Nat.le_refl _) (Nat.le_refl _) rfl rfl rfl dX7_reading_84 rfl (ctJ2_get w) (fun r9 σ9 hk => ?_)
      obtain ⟨r_10, rfl, hs9, w⟩ := hk
      rw [hs9]
      refine e_ccast (n := 92) (r := r_10) w gc_X8 q746 dX7_reading_89 rfl (fun w => ?_)
      refine e_astorer_n (n := 93) (r := r_10) (lv' := [(0, .ref x0), (1, .int x1), (2, va_rf r_10)]) [1, 2, 0] dX7_reading_92 rfl rfl rfl ?_
      refine e_iconst (n := 94) (v := 0) dX7_reading_93 rfl (by decide) ?_
      refine e_istore_n (n := 95) (lv' := [(0, .ref x0), (1, .int x1), (2, va_rf r_10), (3, .int 0)]) [1, 2, 3, 0] dX7_reading_94 rfl rfl (by cases r_10 <;> rfl) ?_
      obtain ⟨fu, w⟩ := w
      refine hX7_reading_95 (fun x0_12 x1_13 σ_14 w => ?_) fu _ _ _ _ _ w
      obtain ⟨x1_15, hx1_15⟩ : ∃ y : Int32, y = x1_13 + 1 := ⟨_, rfl⟩
      have w := w x1_15 hx1_15
      refine e_iinc (n := 171) (v := x1_15) (lv' := [(0, .ref x0_12), (1, .int x1_15)]) [1, 0] dX7_reading_168 rfl 1 rfl (by rw [hx1_15]; rfl) rfl rfl ?_
      refine e_goto (n := 66) dX7_reading_171 (by decide) ?_
      exact ih _ _ _ w
set_option maxHeartbeats 4000000 in
theorem hX7_reading_25 {Q : gH → Prop} {k52 : Nat → Int32 → Int32 → gH → Prop} (hk52 : ∀ (x0 : Nat) (x1 : Int32) (x2 : Int32) (σ : gH), k52 x0 x1 x2 σ → E mX7_reading 7 0 0 (g_z (c_Kv Q)) 0 0 52 [(0, .ref x0), (1, .int x1), (2, .int x2)] [] σ) : ∀ (n : Nat) (x0 : Nat) (x1 : Int32) (x2 : Int32) (x3 : Int32) (σ : gH), wX7_reading_25 Q k52 n x0 x1 x2 x3 σ → E mX7_reading 7 0 0 (g_z (c_Kv Q)) 0 0 25 [(0, .ref x0), (1, .int x1), (2, .int x2), (3, .int x3)] [] σ := by
  intro n
  induction n with
  | zero =>
    intro _ _ _ _ _ w
    exact w.elim
  | succ n ih =>
    intro x0 x1 x2 x3 σ w
    unfold wX7_reading_25 at w
    refine e_iload_n (n := 26) dX7_reading_25 rfl 3 rfl ?_
    refine e_aload_n (n := 27) dX7_reading_26 rfl 0 rfl ?_
    refine e_cI (n := 30) w fw_X7_knots (gl_o q932) dX7_reading_27 rfl (fun v_57 w => ?_)
    refine e_icmp_ge (n := 33) (tgt := 52) dX7_reading_30 rfl (by decide) (fun h => ?_) (fun h => ?_)
    · have w := w.1 h
      refine e_sub (lv' := [(0, .ref x0), (1, .int x1), (2, .int x2)]) [0, 1, 2] rfl ?_
      exact hk52 _ _ _ _ w
    · have w := w.2 h
      refine e_aload_n (n := 34) dX7_reading_33 rfl 0 rfl ?_
      refine e_cR (n := 37) w fw_X7_read (gl_o q941) dX7_reading_34 rfl (fun r_58 w => ?_)
      refine e_iload_n (n := 38) dX7_reading_37 rfl 1 rfl ?_
      obtain ⟨a_59, ha_59, w9a_59⟩ := w
      subst ha_59
      have w := w9a_59
      refine e_caR (n := 39) w (fun _ => rfl) rfl dX7_reading_38 rfl (fun r_60 w => ?_)
      refine e_iload_n (n := 40) dX7_reading_39 rfl 2 rfl ?_
      obtain ⟨a_61, ha_61, w9a_61⟩ := w
      subst ha_61
      have w := w9a_61
      refine e_caR (n := 41) w (fun _ => rfl) rfl dX7_reading_40 rfl (fun r_62 w => ?_)
      refine e_iload_n (n := 42) dX7_reading_41 rfl 3 rfl ?_
      refine e_ldc2 (n := 45) q876 dX7_reading_42 rfl ?_
      obtain ⟨a_63, ha_63, w9a_63⟩ := w
      subst ha_63
      have w := w9a_63
      refine e_csJ (n := 46) w dX7_reading_45 rfl (fun σ_64 w => ?_)
      obtain ⟨x3_65, hx3_65⟩ : ∃ y : Int32, y = x3 + 1 := ⟨_, rfl⟩
      have w := w x3_65 hx3_65
      refine e_iinc (n := 49) (v := x3_65) (lv' := [(0, .ref x0), (1, .int x1), (2, .int x2), (3, .int x3_65)]) [1, 2, 3, 0] dX7_reading_46 rfl 3 rfl (by rw [hx3_65]; rfl) rfl rfl ?_
      refine e_goto (n := 25) dX7_reading_49 (by decide) ?_
      exact ih _ _ _ _ _ w
set_option maxHeartbeats 4000000 in
theorem hX7_reading_15 {Q : gH → Prop} {k58 : Nat → Int32 → gH → Prop} (hk58 : ∀ (x0 : Nat) (x1 : Int32) (σ : gH), k58 x0 x1 σ → E mX7_reading 7 0 0 (g_z (c_Kv Q)) 0 0 58 [(0, .ref x0), (1, .int x1)] [] σ) : ∀ (n : Nat) (x0 : Nat) (x1 : Int32) (x2 : Int32) (σ : gH), wX7_reading_15 Q k58 n x0 x1 x2 σ → E mX7_reading 7 0 0 (g_z (c_Kv Q)) 0 0 15 [(0, .ref x0), (1, .int x1), (2, .int x2)] [] σ := by
  intro n
  induction n with
  | zero =>
    intro _ _ _ _ w
    exact w.elim
  | succ n ih =>
    intro x0 x1 x2 σ w
    unfold wX7_reading_15 at w
    refine e_iload_n (n := 16) dX7_reading_15 rfl 2 rfl ?_
    refine e_aload_n (n := 17) dX7_reading_16 rfl 0 rfl ?_
    refine e_cI (n := 20) w fw_X7_knots (gl_o q932) dX7_reading_17 rfl (fun v_51 w => ?_)
    refine e_icmp_ge (n := 23) (tgt := 58) dX7_reading_20 rfl (by decide) (fun h => ?_) (fun h => ?_)
    · have w := w.1 h
      refine e_sub (lv' := [(0, .ref x0), (1, .int x1)]) [0, 1] rfl ?_
      exact hk58 _ _ _ w
    · have w := w.2 h
      refine e_iconst (n := 24) (v := 0) dX7_reading_23 rfl (by decide) ?_
      refine e_istore_n (n := 25) (lv' := [(0, .ref x0), (1, .int x1), (2, .int x2), (3, .int 0)]) [1, 2, 3, 0] dX7_reading_24 rfl rfl rfl ?_
      obtain ⟨fu, w⟩ := w
      refine hX7_reading_25 (fun x0_52 x1_53 x2_54 σ_55 w => ?_) fu _ _ _ _ _ w
      obtain ⟨x2_56, hx2_56⟩ : ∃ y : Int32, y = x2_54 + 1 := ⟨_, rfl⟩
      have w := w x2_56 hx2_56
      refine e_iinc (n := 55) (v := x2_56) (lv' := [(0, .ref x0_52), (1, .int x1_53), (2, .int x2_56)]) [1, 2, 0] dX7_reading_52 rfl 2 rfl (by rw [hx2_56]; rfl) rfl rfl ?_
      refine e_goto (n := 15) dX7_reading_55 (by decide) ?_
      exact ih _ _ _ _ w
set_option maxHeartbeats 4000000 in
theorem hX7_reading_2 {Q : gH → Prop} {k64 : Nat → gH → Prop} (hk64 : ∀ (x0 : Nat) (σ : gH), k64 x0 σ → E mX7_reading 7 0 0 (g_z (c_Kv Q)) 0 0 64 [(0, .ref x0)] [] σ) : ∀ (n : Nat) (x0 : Nat) (x1 : Int32) (σ : gH), wX7_reading_2 Q k64 n x0 x1 σ → E mX7_reading 7 0 0 (g_z (c_Kv Q)) 0 0 2 [(0, .ref x0), (1, .int x1)] [] σ := by
  intro n
  induction n with
  | zero =>
    intro _ _ _ w
    exact w.elim
  | succ n ih =>
    intro x0 x1 σ w
    unfold wX7_reading_2 at w
    refine e_iload_n (n := 3) dX7_reading_2 rfl 1 rfl ?_
    refine e_aload_n (n := 4) dX7_reading_3 rfl 0 rfl ?_
    refine e_cR (n := 7) w fw_X7_this_0 (gl_o q947) dX7_reading_4 rfl (fun r_44 w => ?_)
    obtain ⟨a_45, ha_45, w9a_45⟩ := w
    subst ha_45
    have w := w9a_45
    refine e_cI (n := 10) w fw_X0_tokens (gl_n q168) dX7_reading_7 rfl (fun v_46 w => ?_)
    refine e_icmp_ge (n := 13) (tgt := 64) dX7_reading_10 rfl (by decide) (fun h => ?_) (fun h => ?_)
    · have w := w.1 h
      refine e_sub (lv' := [(0, .ref x0)]) [0] rfl ?_
      exact hk64 _ _ w
    · have w := w.2 h
      refine e_iconst (n := 14) (v := 0) dX7_reading_13 rfl (by decide) ?_
      refine e_istore_n (n := 15) (lv' := [(0, .ref x0), (1, .int x1), (2, .int 0)]) [1, 2, 0] dX7_reading_14 rfl rfl rfl ?_
      obtain ⟨fu, w⟩ := w
      refine hX7_reading_15 (fun x0_47 x1_48 σ_49 w => ?_) fu _ _ _ _ w
      obtain ⟨x1_50, hx1_50⟩ : ∃ y : Int32, y = x1_48 + 1 := ⟨_, rfl⟩
      have w := w x1_50 hx1_50
      refine e_iinc (n := 61) (v := x1_50) (lv' := [(0, .ref x0_47), (1, .int x1_50)]) [1, 0] dX7_reading_58 rfl 1 rfl (by rw [hx1_50]; rfl) rfl rfl ?_
      refine e_goto (n := 2) dX7_reading_61 (by decide) ?_
      exact ih _ _ _ w
set_option maxHeartbeats 4000000 in
theorem ctX7_reading {Q : gH → Prop} {x0 : Nat} {σ : gH} (w : wX7_reading Q x0 σ) : CT mX7_reading 7 0 0 [.ref x0] σ (c_Kv Q) := by
  refine CT.of (lv := [(0, .ref x0)]) okX7_reading.1 rfl rfl ?_
  unfold wX7_reading at w
  refine e_iconst (n := 1) (v := 0) dX7_reading_0 rfl (by decide) ?_
  refine e_istore_n (n := 2) (lv' := [(0, .ref x0), (1, .int 0)]) [1, 0] dX7_reading_1 rfl rfl rfl ?_
  obtain ⟨fu, w⟩ := w
  refine hX7_reading_2 (fun x0_1 σ_2 w => ?_) fu _ _ _ w
  refine e_iconst (n := 65) (v := 0) dX7_reading_64 rfl (by decide) ?_
  refine e_istore_n (n := 66) (lv' := [(0, .ref x0_1), (1, .int 0)]) [1, 0] dX7_reading_65 rfl rfl rfl ?_
  obtain ⟨fu, w⟩ := w
  refine hX7_reading_66 (fun σ_3 w => ?_) fu _ _ _ w
  exact e_vret rfl (Nat.le_refl _) (Nat.le_refl _) ⟨rfl, w⟩ dX7_reading_174
abbrev mX7_init : gM := (yX7_init, cX7_init, 4, none)
theorem okX7_init : g_ok mX7_init 3 := ⟨by decide +kernel, by decide +kernel, by decide +kernel, by decide +kernel, by decide⟩
theorem ff_X7_init_this_0 : ∀ ci ∈ [7], ∃ (C : String) (T : u_T) (N : Nat) (ty0 : Nat → FieldType), g_cl[ci]? = some (C, T, N) ∧ (∀ k, k < N → parseFieldDescriptor (T k).2.2.1 = some (ty0 k)) ∧ g_nm T N ∧ (∀ w ∈ u_ws C T N, w ∈ lw_all) ∧ Nat.ble (12 + 1) N = true ∧ Cond.fieldLink mX7_init.1.cls 3 (T 12).1 (T 12).2.1 (T 12).2.2.1 ∈ lw_all ∧ (T 12).2.2.2 = true ∧ (T 12).1 = mX7_init.1.cls ∧ ty0 12 = (.object "MendReader") := by
  intro ci h
  simp only [List.mem_cons, List.not_mem_nil, or_false] at h
  subst h
  exact ⟨_, _, _, tyX7, rfl, tyX7_ok, gn_X7, in_X7, rfl, q947, rfl, rfl, rfl⟩
theorem ff_X7_init_knot : ∀ ci ∈ [7], ∃ (C : String) (T : u_T) (N : Nat) (ty0 : Nat → FieldType), g_cl[ci]? = some (C, T, N) ∧ (∀ k, k < N → parseFieldDescriptor (T k).2.2.1 = some (ty0 k)) ∧ g_nm T N ∧ (∀ w ∈ u_ws C T N, w ∈ lw_all) ∧ Nat.ble (3 + 1) N = true ∧ Cond.fieldLink mX7_init.1.cls 15 (T 3).1 (T 3).2.1 (T 3).2.2.1 ∈ lw_all ∧ (T 3).2.2.2 = true ∧ (T 3).1 = mX7_init.1.cls ∧ ty0 3 = (.array .int) := by
  intro ci h
  simp only [List.mem_cons, List.not_mem_nil, or_false] at h
  subst h
  exact ⟨_, _, _, tyX7, rfl, tyX7_ok, gn_X7, in_X7, rfl, q928, rfl, rfl, rfl⟩
theorem ff_X7_init_mainOf : ∀ ci ∈ [7], ∃ (C : String) (T : u_T) (N : Nat) (ty0 : Nat → FieldType), g_cl[ci]? = some (C, T, N) ∧ (∀ k, k < N → parseFieldDescriptor (T k).2.2.1 = some (ty0 k)) ∧ g_nm T N ∧ (∀ w ∈ u_ws C T N, w ∈ lw_all) ∧ Nat.ble (4 + 1) N = true ∧ Cond.fieldLink mX7_init.1.cls 19 (T 4).1 (T 4).2.1 (T 4).2.2.1 ∈ lw_all ∧ (T 4).2.2.2 = true ∧ (T 4).1 = mX7_init.1.cls ∧ ty0 4 = (.array .int) := by
  intro ci h
  simp only [List.mem_cons, List.not_mem_nil, or_false] at h
  subst h
  exact ⟨_, _, _, tyX7, rfl, tyX7_ok, gn_X7, in_X7, rfl, q930, rfl, rfl, rfl⟩
theorem ff_X7_init_steps : ∀ ci ∈ [7], ∃ (C : String) (T : u_T) (N : Nat) (ty0 : Nat → FieldType), g_cl[ci]? = some (C, T, N) ∧ (∀ k, k < N → parseFieldDescriptor (T k).2.2.1 = some (ty0 k)) ∧ g_nm T N ∧ (∀ w ∈ u_ws C T N, w ∈ lw_all) ∧ Nat.ble (6 + 1) N = true ∧ Cond.fieldLink mX7_init.1.cls 25 (T 6).1 (T 6).2.1 (T 6).2.2.1 ∈ lw_all ∧ (T 6).2.2.2 = true ∧ (T 6).1 = mX7_init.1.cls ∧ ty0 6 = (.object "java/util/List") := by
  intro ci h
  simp only [List.mem_cons, List.not_mem_nil, or_false] at h
  subst h
  exact ⟨_, _, _, tyX7, rfl, tyX7_ok, gn_X7, in_X7, rfl, q934, rfl, rfl, rfl⟩
theorem ff_X7_init_skips : ∀ ci ∈ [7], ∃ (C : String) (T : u_T) (N : Nat) (ty0 : Nat → FieldType), g_cl[ci]? = some (C, T, N) ∧ (∀ k, k < N → parseFieldDescriptor (T k).2.2.1 = some (ty0 k)) ∧ g_nm T N ∧ (∀ w ∈ u_ws C T N, w ∈ lw_all) ∧ Nat.ble (7 + 1) N = true ∧ Cond.fieldLink mX7_init.1.cls 31 (T 7).1 (T 7).2.1 (T 7).2.2.1 ∈ lw_all ∧ (T 7).2.2.2 = true ∧ (T 7).1 = mX7_init.1.cls ∧ ty0 7 = (.array (.array (.object "MendReader$Step"))) := by
  intro ci h
  simp only [List.mem_cons, List.not_mem_nil, or_false] at h
  subst h
  exact ⟨_, _, _, tyX7, rfl, tyX7_ok, gn_X7, in_X7, rfl, q936, rfl, rfl, rfl⟩
theorem ff_X7_init_skipping : ∀ ci ∈ [7], ∃ (C : String) (T : u_T) (N : Nat) (ty0 : Nat → FieldType), g_cl[ci]? = some (C, T, N) ∧ (∀ k, k < N → parseFieldDescriptor (T k).2.2.1 = some (ty0 k)) ∧ g_nm T N ∧ (∀ w ∈ u_ws C T N, w ∈ lw_all) ∧ Nat.ble (8 + 1) N = true ∧ Cond.fieldLink mX7_init.1.cls 36 (T 8).1 (T 8).2.1 (T 8).2.2.1 ∈ lw_all ∧ (T 8).2.2.2 = true ∧ (T 8).1 = mX7_init.1.cls ∧ ty0 8 = (.array (.array .long)) := by
  intro ci h
  simp only [List.mem_cons, List.not_mem_nil, or_false] at h
  subst h
  exact ⟨_, _, _, tyX7, rfl, tyX7_ok, gn_X7, in_X7, rfl, q938, rfl, rfl, rfl⟩
theorem ff_X7_init_read : ∀ ci ∈ [7], ∃ (C : String) (T : u_T) (N : Nat) (ty0 : Nat → FieldType), g_cl[ci]? = some (C, T, N) ∧ (∀ k, k < N → parseFieldDescriptor (T k).2.2.1 = some (ty0 k)) ∧ g_nm T N ∧ (∀ w ∈ u_ws C T N, w ∈ lw_all) ∧ Nat.ble (9 + 1) N = true ∧ Cond.fieldLink mX7_init.1.cls 43 (T 9).1 (T 9).2.1 (T 9).2.2.1 ∈ lw_all ∧ (T 9).2.2.2 = true ∧ (T 9).1 = mX7_init.1.cls ∧ ty0 9 = (.array (.array (.array .long))) := by
  intro ci h
  simp only [List.mem_cons, List.not_mem_nil, or_false] at h
  subst h
  exact ⟨_, _, _, tyX7, rfl, tyX7_ok, gn_X7, in_X7, rfl, q941, rfl, rfl, rfl⟩
theorem ff_X7_init_tree : ∀ ci ∈ [7], ∃ (C : String) (T : u_T) (N : Nat) (ty0 : Nat → FieldType), g_cl[ci]? = some (C, T, N) ∧ (∀ k, k < N → parseFieldDescriptor (T k).2.2.1 = some (ty0 k)) ∧ g_nm T N ∧ (∀ w ∈ u_ws C T N, w ∈ lw_all) ∧ Nat.ble (10 + 1) N = true ∧ Cond.fieldLink mX7_init.1.cls 49 (T 10).1 (T 10).2.1 (T 10).2.2.1 ∈ lw_all ∧ (T 10).2.2.2 = true ∧ (T 10).1 = mX7_init.1.cls ∧ ty0 10 = (.array (.array (.array .long))) := by
  intro ci h
  simp only [List.mem_cons, List.not_mem_nil, or_false] at h
  subst h
  exact ⟨_, _, _, tyX7, rfl, tyX7_ok, gn_X7, in_X7, rfl, q943, rfl, rfl, rfl⟩
theorem ff_X7_init_rest : ∀ ci ∈ [7], ∃ (C : String) (T : u_T) (N : Nat) (ty0 : Nat → FieldType), g_cl[ci]? = some (C, T, N) ∧ (∀ k, k < N → parseFieldDescriptor (T k).2.2.1 = some (ty0 k)) ∧ g_nm T N ∧ (∀ w ∈ u_ws C T N, w ∈ lw_all) ∧ Nat.ble (11 + 1) N = true ∧ Cond.fieldLink mX7_init.1.cls 55 (T 11).1 (T 11).2.1 (T 11).2.2.1 ∈ lw_all ∧ (T 11).2.2.2 = true ∧ (T 11).1 = mX7_init.1.cls ∧ ty0 11 = (.array (.array (.array .long))) := by
  intro ci h
  simp only [List.mem_cons, List.not_mem_nil, or_false] at h
  subst h
  exact ⟨_, _, _, tyX7, rfl, tyX7_ok, gn_X7, in_X7, rfl, q946, rfl, rfl, rfl⟩
theorem ff_X7_init_text : ∀ ci ∈ [7], ∃ (C : String) (T : u_T) (N : Nat) (ty0 : Nat → FieldType), g_cl[ci]? = some (C, T, N) ∧ (∀ k, k < N → parseFieldDescriptor (T k).2.2.1 = some (ty0 k)) ∧ g_nm T N ∧ (∀ w ∈ u_ws C T N, w ∈ lw_all) ∧ Nat.ble (0 + 1) N = true ∧ Cond.fieldLink mX7_init.1.cls 58 (T 0).1 (T 0).2.1 (T 0).2.2.1 ∈ lw_all ∧ (T 0).2.2.2 = true ∧ (T 0).1 = mX7_init.1.cls ∧ ty0 0 = (.array .int) := by
  intro ci h
  simp only [List.mem_cons, List.not_mem_nil, or_false] at h
  subst h
  exact ⟨_, _, _, tyX7, rfl, tyX7_ok, gn_X7, in_X7, rfl, q918, rfl, rfl, rfl⟩
theorem ff_X7_init_way : ∀ ci ∈ [7], ∃ (C : String) (T : u_T) (N : Nat) (ty0 : Nat → FieldType), g_cl[ci]? = some (C, T, N) ∧ (∀ k, k < N → parseFieldDescriptor (T k).2.2.1 = some (ty0 k)) ∧ g_nm T N ∧ (∀ w ∈ u_ws C T N, w ∈ lw_all) ∧ Nat.ble (2 + 1) N = true ∧ Cond.fieldLink mX7_init.1.cls 61 (T 2).1 (T 2).2.1 (T 2).2.2.1 ∈ lw_all ∧ (T 2).2.2.2 = true ∧ (T 2).1 = mX7_init.1.cls ∧ ty0 2 = (.object "MendReader$Way") := by
  intro ci h
  simp only [List.mem_cons, List.not_mem_nil, or_false] at h
  subst h
  exact ⟨_, _, _, tyX7, rfl, tyX7_ok, gn_X7, in_X7, rfl, q925, rfl, rfl, rfl⟩
theorem ff_X7_init_n : ∀ ci ∈ [7], ∃ (C : String) (T : u_T) (N : Nat) (ty0 : Nat → FieldType), g_cl[ci]? = some (C, T, N) ∧ (∀ k, k < N → parseFieldDescriptor (T k).2.2.1 = some (ty0 k)) ∧ g_nm T N ∧ (∀ w ∈ u_ws C T N, w ∈ lw_all) ∧ Nat.ble (1 + 1) N = true ∧ Cond.fieldLink mX7_init.1.cls 65 (T 1).1 (T 1).2.1 (T 1).2.2.1 ∈ lw_all ∧ (T 1).2.2.2 = true ∧ (T 1).1 = mX7_init.1.cls ∧ ty0 1 = .int := by
  intro ci h
  simp only [List.mem_cons, List.not_mem_nil, or_false] at h
  subst h
  exact ⟨_, _, _, tyX7, rfl, tyX7_ok, gn_X7, in_X7, rfl, q922, rfl, rfl, rfl⟩
def wX7_init (Q : gH → Prop) (mc ms : Nat) (x0 : Nat) (x1 : Option Nat) (x2 : Option Nat) (x3 : Option Nat) (σ : gH) : Prop := c_P σ [7] x0 12 (va_rf x1) (fun σ_1 => 0 + 1 ≤ mc ∧ 0 + (12 : Int32).toNatClampNeg ≤ ms ∧ ¬ (12 : Int32) < 0 ∧ (12 : Int32).toNatClampNeg * 4 ≤ 536870912 ∧ c_new σ_1 (.inl (0, (12 : Int32).toNatClampNeg, .inl (fun _ => 0))) (fun q_3 σ_2 => c_P σ_2 [7] x0 3 (va_rf (some q_3)) (fun σ_4 => (0 + 1) + 1 ≤ mc ∧ (0 + (12 : Int32).toNatClampNeg) + (55 : Int32).toNatClampNeg ≤ ms ∧ ¬ (55 : Int32) < 0 ∧ (55 : Int32).toNatClampNeg * 4 ≤ 536870912 ∧ c_new σ_4 (.inl (0, (55 : Int32).toNatClampNeg, .inl (fun _ => 0))) (fun q_6 σ_5 => c_P σ_5 [7] x0 4 (va_rf (some q_6)) (fun σ_7 => ((0 + 1) + 1) + 1 ≤ mc ∧ ((0 + (12 : Int32).toNatClampNeg) + (55 : Int32).toNatClampNeg) + 3 ≤ ms ∧ c_new σ_7 (.inr (18, [.int 0, .null, .int 0])) (fun q_9 σ_8 => wJ2_init (fun (σ_10 : gH) => c_P σ_10 [7] x0 6 (va_rf (some q_9)) (fun σ_11 => (((0 + 1) + 1) + 1) + (1 + (12 : Int32).toNatClampNeg) ≤ mc ∧ (((0 + (12 : Int32).toNatClampNeg) + (55 : Int32).toNatClampNeg) + 3) + ((12 : Int32).toNatClampNeg + (12 : Int32).toNatClampNeg * (12 : Int32).toNatClampNeg) ≤ ms ∧ c_m2 (12 : Int32).toNatClampNeg (12 : Int32).toNatClampNeg σ_11 8 (fun q_13 σ_12 => c_P σ_12 [7] x0 7 (va_rf (some q_13)) (fun σ_14 => ((((0 + 1) + 1) + 1) + (1 + (12 : Int32).toNatClampNeg)) + (1 + (12 : Int32).toNatClampNeg) ≤ mc ∧ ((((0 + (12 : Int32).toNatClampNeg) + (55 : Int32).toNatClampNeg) + 3) + ((12 : Int32).toNatClampNeg + (12 : Int32).toNatClampNeg * (12 : Int32).toNatClampNeg)) + ((12 : Int32).toNatClampNeg + (12 : Int32).toNatClampNeg * (12 : Int32).toNatClampNeg) ≤ ms ∧ c_m2 (12 : Int32).toNatClampNeg (12 : Int32).toNatClampNeg σ_14 4 (fun q_16 σ_15 => c_P σ_15 [7] x0 8 (va_rf (some q_16)) (fun σ_17 => c_R σ_17 [7] x0 12 (fun r_18 => ∃ a_19 : Nat, r_18 = some a_19 ∧ (c_R σ_17 [0] a_19 13 (fun r_20 => c_P σ_17 [7] x0 9 (va_rf r_20) (fun σ_21 => c_R σ_21 [7] x0 12 (fun r_22 => ∃ a_23 : Nat, r_22 = some a_23 ∧ (c_R σ_21 [0] a_23 14 (fun r_24 => c_P σ_21 [7] x0 10 (va_rf r_24) (fun σ_25 => c_R σ_25 [7] x0 12 (fun r_26 => ∃ a_27 : Nat, r_26 = some a_27 ∧ (c_R σ_25 [0] a_27 15 (fun r_28 => c_P σ_25 [7] x0 11 (va_rf r_28) (fun σ_29 => c_P σ_29 [7] x0 0 (va_rf x2) (fun σ_30 => c_P σ_30 [7] x0 2 (va_rf x3) (fun σ_31 => ∃ a_32 : Nat, x2 = some a_32 ∧ (c_len σ_31 a_32 (fun v_33 => c_P σ_31 [7] x0 1 (.int v_33) (fun σ_34 => ∃ fs_38 : List Value, σ_34.2 x0 = some (.inr (7, fs_38)) ∧ ∃ c_36 b_37 : Nat, (((((0 + 1) + 1) + 1) + (1 + (12 : Int32).toNatClampNeg)) + (1 + (12 : Int32).toNatClampNeg)) + c_36 ≤ mc ∧ (((((0 + (12 : Int32).toNatClampNeg) + (55 : Int32).toNatClampNeg) + 3) + ((12 : Int32).toNatClampNeg + (12 : Int32).toNatClampNeg * (12 : Int32).toNatClampNeg)) + ((12 : Int32).toNatClampNeg + (12 : Int32).toNatClampNeg * (12 : Int32).toNatClampNeg)) + b_37 ≤ ms ∧ (wX7_knots (fun (σ_35 : gH) => ∃ fs_40 : List Value, σ_35.2 x0 = some (.inr (7, fs_40)) ∧ (wX7_skipping (fun (σ_39 : gH) => ∃ fs_42 : List Value, σ_39.2 x0 = some (.inr (7, fs_42)) ∧ (wX7_reading (fun (σ_41 : gH) => Q σ_41) x0 σ_39)) x0 σ_35)) c_36 b_37 x0 σ_34)))))))))))))))))))))))) q_9 σ_8))))))
set_option maxHeartbeats 4000000 in
theorem ctX7_init {Q : gH → Prop} {mc ms : Nat} {x0 : Nat} {x1 : Option Nat} {x2 : Option Nat} {x3 : Option Nat} {σ : gH} (w : wX7_init Q mc ms x0 x1 x2 x3 σ) : CT mX7_init 11 mc ms [.ref x0, va_rf x1, va_rf x2, va_rf x3] σ (c_Kv Q) := by
  refine CT.of (lv := [(0, .ref x0), (1, va_rf x1), (2, va_rf x2), (3, va_rf x3)]) okX7_init.1 (by cases x1 <;> cases x2 <;> cases x3 <;> rfl) (by cases x1 <;> cases x2 <;> cases x3 <;> rfl) ?_
  unfold wX7_init at w
  refine e_aload_n (n := 1) dX7_init_0 rfl 0 rfl ?_
  refine e_aloadr_n (n := 2) (r := x1) dX7_init_1 rfl 1 rfl ?_
  refine e_cPF (n := 5) (ty := (.object "MendReader")) w ff_X7_init_this_0 rfl (rf_nar _ x1) dX7_init_2 rfl (fun σ_1 w => ?_)
  refine e_aload_n (n := 6) dX7_init_5 rfl 0 rfl ?_
  refine e_objInit (n := 9) q521 q99 q100 (by decide) (Nat.le_of_ble_eq_true rfl) dX7_init_6 rfl ?_
  refine e_aload_n (n := 10) dX7_init_9 rfl 0 rfl ?_
  refine e_bipush (n := 12) (v := 12) dX7_init_10 rfl (by decide) ?_
  obtain ⟨hu1, hu2, w⟩ := w
  obtain ⟨wn, wb, w⟩ := w
  refine e_cnewI (n := 14) (z := 12) w wn wb hu1 hu2 dX7_init_12 rfl (fun q_3 σ_2 w => ?_)
  refine e_cPF (n := 17) (ty := (.array .int)) w ff_X7_init_knot rfl (rf_narA _ (some q_3)) dX7_init_14 rfl (fun σ_4 w => ?_)
  refine e_aload_n (n := 18) dX7_init_17 rfl 0 rfl ?_
  refine e_bipush (n := 20) (v := 55) dX7_init_18 rfl (by decide) ?_
  obtain ⟨hu1, hu2, w⟩ := w
  obtain ⟨wn, wb, w⟩ := w
  refine e_cnewI (n := 22) (z := 55) w wn wb hu1 hu2 dX7_init_20 rfl (fun q_6 σ_5 w => ?_)
  refine e_cPF (n := 25) (ty := (.array .int)) w ff_X7_init_mainOf rfl (rf_narA _ (some q_6)) dX7_init_22 rfl (fun σ_7 w => ?_)
  refine e_aload_n (n := 26) dX7_init_25 rfl 0 rfl ?_
  obtain ⟨hu1, hu2, w⟩ := w
  refine e_cnew (n := 29) w tyJ2 tyJ2_ok in_J2 rfl q522 q104 q60 (fun j hj => g_defJ2 j hj) hu1 hu2 dX7_init_26 rfl (fun q_9 σ_8 w => ?_)
  refine e_dup (n := 30) dX7_init_29 rfl rfl ?_
  refine e_callI (n := 33) (As := []) (st := [.ref q_9, .ref x0]) okJ2_init rfl rfl q523 q106 q60 q107 (by decide) hu1 hu2 rfl rfl (Nat.le_of_ble_eq_true rfl) dX7_init_30 rfl (ctJ2_init w) (fun r9 σ_10 hk => ?_)
  obtain ⟨rfl, w⟩ := hk
  refine e_cPF (n := 36) (ty := (.object "java/util/List")) w ff_X7_init_steps rfl (rf_nar _ (some q_9)) dX7_init_33 rfl (fun σ_11 w => ?_)
  refine e_aload_n (n := 37) dX7_init_36 rfl 0 rfl ?_
  refine e_bipush (n := 39) (v := 12) dX7_init_37 rfl (by decide) ?_
  refine e_bipush (n := 41) (v := 12) dX7_init_39 rfl (by decide) ?_
  obtain ⟨hu1, hu2, w⟩ := w
  refine e_cm2_8 (n := 45) (N1 := 12) (N2 := 12) w (by decide) q524 hu1 hu2 dX7_init_41 rfl (fun q_13 σ_12 w => ?_)
  refine e_cPF (n := 48) (ty := (.array (.array (.object "MendReader$Step")))) w ff_X7_init_skips rfl (rf_narA _ (some q_13)) dX7_init_45 rfl (fun σ_14 w => ?_)
  refine e_aload_n (n := 49) dX7_init_48 rfl 0 rfl ?_
  refine e_bipush (n := 51) (v := 12) dX7_init_49 rfl (by decide) ?_
  refine e_bipush (n := 53) (v := 12) dX7_init_51 rfl (by decide) ?_
  obtain ⟨hu1, hu2, w⟩ := w
  refine e_cm2_4 (n := 57) (N1 := 12) (N2 := 12) w (by decide) q527 hu1 hu2 dX7_init_53 rfl (fun q_16 σ_15 w => ?_)
  refine e_cPF (n := 60) (ty := (.array (.array .long))) w ff_X7_init_skipping rfl (rf_narA _ (some q_16)) dX7_init_57 rfl (fun σ_17 w => ?_)
  refine e_aload_n (n := 61) dX7_init_60 rfl 0 rfl ?_
  refine e_aload_n (n := 62) dX7_init_61 rfl 0 rfl ?_
  refine e_cR (n := 65) w fw_X7_this_0 (gl_o q947) dX7_init_62 rfl (fun r_18 w => ?_)
  obtain ⟨a_19, ha_19, w9a_19⟩ := w
  subst ha_19
  have w := w9a_19
  refine e_cR (n := 68) w fw_X0_readCells (gl_n q196) dX7_init_65 rfl (fun r_20 w => ?_)
  refine e_cPF (n := 71) (ty := (.array (.array (.array .long)))) w ff_X7_init_read rfl (rf_narA _ r_20) dX7_init_68 rfl (fun σ_21 w => ?_)
  refine e_aload_n (n := 72) dX7_init_71 rfl 0 rfl ?_
  refine e_aload_n (n := 73) dX7_init_72 rfl 0 rfl ?_
  refine e_cR (n := 76) w fw_X7_this_0 (gl_o q947) dX7_init_73 rfl (fun r_22 w => ?_)
  obtain ⟨a_23, ha_23, w9a_23⟩ := w
  subst ha_23
  have w := w9a_23
  refine e_cR (n := 79) w fw_X0_treeCells (gl_n q198) dX7_init_76 rfl (fun r_24 w => ?_)
  refine e_cPF (n := 82) (ty := (.array (.array (.array .long)))) w ff_X7_init_tree rfl (rf_narA _ r_24) dX7_init_79 rfl (fun σ_25 w => ?_)
  refine e_aload_n (n := 83) dX7_init_82 rfl 0 rfl ?_
  refine e_aload_n (n := 84) dX7_init_83 rfl 0 rfl ?_
  refine e_cR (n := 87) w fw_X7_this_0 (gl_o q947) dX7_init_84 rfl (fun r_26 w => ?_)
  obtain ⟨a_27, ha_27, w9a_27⟩ := w
  subst ha_27
  have w := w9a_27
  refine e_cR (n := 90) w fw_X0_restCells (gl_n q200) dX7_init_87 rfl (fun r_28 w => ?_)
  refine e_cPF (n := 93) (ty := (.array (.array (.array .long)))) w ff_X7_init_rest rfl (rf_narA _ r_28) dX7_init_90 rfl (fun σ_29 w => ?_)
  refine e_aload_n (n := 94) dX7_init_93 rfl 0 rfl ?_
  refine e_aloadr_n (n := 95) (r := x2) dX7_init_94 rfl 2 rfl ?_
  refine e_cPF (n := 98) (ty := (.array .int)) w ff_X7_init_text rfl (rf_narA _ x2) dX7_init_95 rfl (fun σ_30 w => ?_)
  refine e_aload_n (n := 99) dX7_init_98 rfl 0 rfl ?_
  refine e_aloadr_n (n := 100) (r := x3) dX7_init_99 rfl 3 rfl ?_
  refine e_cPF (n := 103) (ty := (.object "MendReader$Way")) w ff_X7_init_way rfl (rf_nar _ x3) dX7_init_100 rfl (fun σ_31 w => ?_)
  refine e_aload_n (n := 104) dX7_init_103 rfl 0 rfl ?_
  refine e_aloadr_n (n := 105) (r := x2) dX7_init_104 rfl 2 rfl ?_
  obtain ⟨a_32, ha_32, w9a_32⟩ := w
  subst ha_32
  have w := w9a_32
  refine e_clen (n := 106) w dX7_init_105 rfl (fun v_33 w => ?_)
  refine e_cPF (n := 109) (ty := .int) w ff_X7_init_n rfl ⟨rfl, rfl⟩ dX7_init_106 rfl (fun σ_34 w => ?_)
  refine e_aload_n (n := 110) dX7_init_109 rfl 0 rfl ?_
  obtain ⟨fs_38, wo, w⟩ := w
  obtain ⟨c_36, b_37, hu1, hu2, w⟩ := w
  refine e_callV (n := 113) (As := []) (st := []) okX7_knots q528 q530 qs6 q73 q531 rfl wo rfl (by decide) hu1 hu2 rfl rfl (Nat.le_of_ble_eq_true rfl) dX7_init_110 rfl (ctX7_knots w) (fun r9 σ_35 hk => ?_)
  obtain ⟨rfl, w⟩ := hk
  refine e_aload_n (n := 114) dX7_init_113 rfl 0 rfl ?_
  obtain ⟨fs_40, wo, w⟩ := w
  refine e_callV (n := 117) (As := []) (st := []) okX7_skipping q872 q874 qs12 q73 q875 rfl wo rfl (by decide) hu1 hu2 rfl rfl (Nat.le_of_ble_eq_true rfl) dX7_init_114 rfl (ctX7_skipping w) (fun r9 σ_39 hk => ?_)
  obtain ⟨rfl, w⟩ := hk
  refine e_aload_n (n := 118) dX7_init_117 rfl 0 rfl ?_
  obtain ⟨fs_42, wo, w⟩ := w
  refine e_callV (n := 121) (As := []) (st := []) okX7_reading q904 q906 qs13 q73 q907 rfl wo rfl (by decide) hu1 hu2 rfl rfl (Nat.le_of_ble_eq_true rfl) dX7_init_118 rfl (ctX7_reading w) (fun r9 σ_41 hk => ?_)
  obtain ⟨rfl, w⟩ := hk
  exact e_vret rfl hu1 hu2 ⟨rfl, w⟩ dX7_init_121
abbrev mX7_rest : gM := (yX7_rest, cX7_rest, 3, some (.array (.array .long)))
theorem okX7_rest : g_ok mX7_rest 2 := ⟨by decide +kernel, by decide +kernel, by decide +kernel, by decide +kernel, by decide⟩
def wX7_rest (Q : Option Nat → Prop) (σ : gH) (x0 : Nat) (x1 : Option Nat) (x2 : Int32) : Prop := c_R σ [7] x0 11 (fun r_1 => ∃ a_2 : Nat, x1 = some a_2 ∧ (c_I σ [4] a_2 0 (fun v_3 => ∃ a_4 : Nat, r_1 = some a_4 ∧ (c_aR 5 σ a_4 ((4 * v_3) + x2) (fun r_5 => Q r_5)))))
set_option maxHeartbeats 4000000 in
theorem ctX7_rest {Q : Option Nat → Prop} {x0 : Nat} {x1 : Option Nat} {x2 : Int32} {σ : gH} (w : wX7_rest Q σ x0 x1 x2) : CT mX7_rest 1 0 0 [.ref x0, va_rf x1, .int x2] σ (g_Pr σ Q) := by
  refine CT.of (lv := [(0, .ref x0), (1, va_rf x1), (2, .int x2)]) okX7_rest.1 (by cases x1 <;> rfl) (by cases x1 <;> rfl) ?_
  unfold wX7_rest at w
  refine e_aload_n (n := 1) dX7_rest_0 rfl 0 rfl ?_
  refine e_cR (n := 4) w fw_X7_rest (gl_o q946) dX7_rest_1 rfl (fun r_1 w => ?_)
  refine e_iconst (n := 5) (v := 4) dX7_rest_4 rfl (by decide) ?_
  refine e_aloadr_n (n := 6) (r := x1) dX7_rest_5 rfl 1 rfl ?_
  obtain ⟨a_2, ha_2, w9a_2⟩ := w
  subst ha_2
  have w := w9a_2
  refine e_cI (n := 9) w fw_X4_number (gl_n q299) dX7_rest_6 rfl (fun v_3 w => ?_)
  refine e_imul (n := 10) dX7_rest_9 rfl ?_
  refine e_iload_n (n := 11) dX7_rest_10 rfl 2 rfl ?_
  refine e_iadd (n := 12) dX7_rest_11 rfl ?_
  obtain ⟨a_4, ha_4, w9a_4⟩ := w
  subst ha_4
  have w := w9a_4
  refine e_caR (n := 13) w (fun _ => rfl) rfl dX7_rest_12 rfl (fun r_5 w => ?_)
  exact e_aret (v := va_rf r_5) rfl (Or.inr ⟨_, rfl⟩) (rf_or _) (Nat.le_refl _) (Nat.le_refl _) ⟨_, rfl, rfl, w⟩ dX7_rest_13
abbrev mX7_symbol : gM := (yX7_symbol, cX7_symbol, 7, some .long)
theorem okX7_symbol : g_ok mX7_symbol 4 := ⟨by decide +kernel, by decide +kernel, by decide +kernel, by decide +kernel, by decide⟩
def wX7_symbol (Q : Int64 → Prop) (σ : gH) (x0 : Nat) (x1 : Option Nat) (x2 : Int32) (x3 : Int32) (x4 : Int32) : Prop := ∃ a_1 : Nat, x1 = some a_1 ∧ (c_R σ [4] a_1 2 (fun r_2 => ∃ a_3 : Nat, r_2 = some a_3 ∧ (c_aI σ a_3 x2 (fun v_4 => (v_4 = 1 → (c_R σ [7] x0 10 (fun r_15 => c_R σ [4] a_1 3 (fun r_16 => ∃ a_17 : Nat, r_16 = some a_17 ∧ (c_aI σ a_17 x2 (fun v_18 => ∃ a_19 : Nat, r_15 = some a_19 ∧ (c_aR 5 σ a_19 v_18 (fun r_20 => ∃ a_21 : Nat, r_20 = some a_21 ∧ (c_aR 4 σ a_21 x3 (fun r_22 => ∃ a_23 : Nat, r_22 = some a_23 ∧ (c_aJ σ a_23 x4 (fun v_24 => Q v_24)))))))))))) ∧ (¬ v_4 = 1 → (c_R σ [7] x0 9 (fun r_5 => c_R σ [4] a_1 3 (fun r_6 => ∃ a_7 : Nat, r_6 = some a_7 ∧ (c_aI σ a_7 x2 (fun v_8 => ∃ a_9 : Nat, r_5 = some a_9 ∧ (c_aR 5 σ a_9 v_8 (fun r_10 => ∃ a_11 : Nat, r_10 = some a_11 ∧ (c_aR 4 σ a_11 x3 (fun r_12 => ∃ a_13 : Nat, r_12 = some a_13 ∧ (c_aJ σ a_13 x4 (fun v_14 => (v_14 < 1152921504606846976 → (Q (v_14 * 16777216))) ∧ (¬ v_14 < 1152921504606846976 → (Q 1152921504606846976))))))))))))))))))
set_option maxHeartbeats 4000000 in
theorem ctX7_symbol {Q : Int64 → Prop} {x0 : Nat} {x1 : Option Nat} {x2 : Int32} {x3 : Int32} {x4 : Int32} {σ : gH} (w : wX7_symbol Q σ x0 x1 x2 x3 x4) : CT mX7_symbol 1 0 0 [.ref x0, va_rf x1, .int x2, .int x3, .int x4] σ (g_Pl σ Q) := by
  refine CT.of (lv := [(0, .ref x0), (1, va_rf x1), (2, .int x2), (3, .int x3), (4, .int x4)]) okX7_symbol.1 (by cases x1 <;> rfl) (by cases x1 <;> rfl) ?_
  unfold wX7_symbol at w
  refine e_aloadr_n (n := 1) (r := x1) dX7_symbol_0 rfl 1 rfl ?_
  obtain ⟨a_1, ha_1, w9a_1⟩ := w
  subst ha_1
  have w := w9a_1
  refine e_cR (n := 4) w fw_X4_sorts (gl_n q306) dX7_symbol_1 rfl (fun r_2 w => ?_)
  refine e_iload_n (n := 5) dX7_symbol_4 rfl 2 rfl ?_
  obtain ⟨a_3, ha_3, w9a_3⟩ := w
  subst ha_3
  have w := w9a_3
  refine e_caI (n := 6) w dX7_symbol_5 rfl (fun v_4 w => ?_)
  refine e_iconst (n := 7) (v := 1) dX7_symbol_6 rfl (by decide) ?_
  refine e_icmp_ne (n := 10) (tgt := 27) dX7_symbol_7 rfl (by decide) (fun h => ?_) (fun h => ?_)
  · have w := w.2 h
    refine e_aload_n (n := 28) dX7_symbol_27 rfl 0 rfl ?_
    refine e_cR (n := 31) w fw_X7_read (gl_o q941) dX7_symbol_28 rfl (fun r_5 w => ?_)
    refine e_aload_n (n := 32) dX7_symbol_31 rfl 1 rfl ?_
    refine e_cR (n := 35) w fw_X4_which (gl_n q310) dX7_symbol_32 rfl (fun r_6 w => ?_)
    refine e_iload_n (n := 36) dX7_symbol_35 rfl 2 rfl ?_
    obtain ⟨a_7, ha_7, w9a_7⟩ := w
    subst ha_7
    have w := w9a_7
    refine e_caI (n := 37) w dX7_symbol_36 rfl (fun v_8 w => ?_)
    obtain ⟨a_9, ha_9, w9a_9⟩ := w
    subst ha_9
    have w := w9a_9
    refine e_caR (n := 38) w (fun _ => rfl) rfl dX7_symbol_37 rfl (fun r_10 w => ?_)
    refine e_iload_n (n := 39) dX7_symbol_38 rfl 3 rfl ?_
    obtain ⟨a_11, ha_11, w9a_11⟩ := w
    subst ha_11
    have w := w9a_11
    refine e_caR (n := 40) w (fun _ => rfl) rfl dX7_symbol_39 rfl (fun r_12 w => ?_)
    refine e_iload (n := 42) dX7_symbol_40 rfl 4 rfl ?_
    obtain ⟨a_13, ha_13, w9a_13⟩ := w
    subst ha_13
    have w := w9a_13
    refine e_caJ (n := 43) w dX7_symbol_42 rfl (fun v_14 w => ?_)
    refine e_lstore (n := 45) (lv' := [(0, .ref x0), (1, .ref a_1), (2, .int x2), (3, .int x3), (4, .int x4), (5, .long v_14)]) [1, 2, 3, 4, 5, 0] dX7_symbol_43 rfl rfl rfl ?_
    refine e_lload (n := 47) dX7_symbol_45 rfl 5 rfl ?_
    refine e_ldc2 (n := 50) q876 dX7_symbol_47 rfl ?_
    refine e_lcmp_lt (n := 54) (tgt := 60) dX7_symbol_50 dX7_symbol_51 rfl (by decide) (fun h => ?_) (fun h => ?_)
    · have w := w.1 h
      refine e_lload (n := 62) dX7_symbol_60 rfl 5 rfl ?_
      refine e_ldc2 (n := 65) q992 dX7_symbol_62 rfl ?_
      refine e_lmul (n := 66) dX7_symbol_65 rfl ?_
      exact e_lret rfl (Nat.le_refl _) (Nat.le_refl _) ⟨_, rfl, rfl, w⟩ dX7_symbol_66
    · have w := w.2 h
      refine e_ldc2 (n := 57) q876 dX7_symbol_54 rfl ?_
      refine e_goto (n := 66) dX7_symbol_57 (by decide) ?_
      exact e_lret rfl (Nat.le_refl _) (Nat.le_refl _) ⟨_, rfl, rfl, w⟩ dX7_symbol_66
  · have w := w.1 h
    refine e_aload_n (n := 11) dX7_symbol_10 rfl 0 rfl ?_
    refine e_cR (n := 14) w fw_X7_tree (gl_o q943) dX7_symbol_11 rfl (fun r_15 w => ?_)
    refine e_aload_n (n := 15) dX7_symbol_14 rfl 1 rfl ?_
    refine e_cR (n := 18) w fw_X4_which (gl_n q310) dX7_symbol_15 rfl (fun r_16 w => ?_)
    refine e_iload_n (n := 19) dX7_symbol_18 rfl 2 rfl ?_
    obtain ⟨a_17, ha_17, w9a_17⟩ := w
    subst ha_17
    have w := w9a_17
    refine e_caI (n := 20) w dX7_symbol_19 rfl (fun v_18 w => ?_)
    obtain ⟨a_19, ha_19, w9a_19⟩ := w
    subst ha_19
    have w := w9a_19
    refine e_caR (n := 21) w (fun _ => rfl) rfl dX7_symbol_20 rfl (fun r_20 w => ?_)
    refine e_iload_n (n := 22) dX7_symbol_21 rfl 3 rfl ?_
    obtain ⟨a_21, ha_21, w9a_21⟩ := w
    subst ha_21
    have w := w9a_21
    refine e_caR (n := 23) w (fun _ => rfl) rfl dX7_symbol_22 rfl (fun r_22 w => ?_)
    refine e_iload (n := 25) dX7_symbol_23 rfl 4 rfl ?_
    obtain ⟨a_23, ha_23, w9a_23⟩ := w
    subst ha_23
    have w := w9a_23
    refine e_caJ (n := 26) w dX7_symbol_25 rfl (fun v_24 w => ?_)
    exact e_lret rfl (Nat.le_refl _) (Nat.le_refl _) ⟨_, rfl, rfl, w⟩ dX7_symbol_26
abbrev mX7_lessens : gM := (yX7_lessens, cX7_lessens, 8, some .boolean)
theorem okX7_lessens : g_ok mX7_lessens 3 := ⟨by decide +kernel, by decide +kernel, by decide +kernel, by decide +kernel, by decide⟩
def wX7_lessens_167 (Q : Int32 → gH → Prop)  (x6 : Int32) (σ : gH) : Prop := t_b x6 ∧ Q x6 σ
def wX7_lessens_145 (Q : Int32 → gH → Prop)  (t0 : Int32) (x0 : Nat) (x1 : Option Nat) (x2 : Int32) (x3 : Int32) (x4 : Int64) (σ : gH) : Prop := (t0 = 0 → (wX7_lessens_167 Q t0 σ)) ∧ (¬ t0 = 0 → (c_R σ [7] x0 10 (fun r_25 => ∃ a_26 : Nat, x1 = some a_26 ∧ (c_I σ [4] a_26 1 (fun v_27 => ∃ a_28 : Nat, r_25 = some a_28 ∧ (c_aR 5 σ a_28 v_27 (fun r_29 => ∃ a_30 : Nat, r_29 = some a_30 ∧ (c_aR 4 σ a_30 x2 (fun r_31 => ∃ a_32 : Nat, r_31 = some a_32 ∧ (c_sJ σ a_32 x3 x4 (fun σ_33 => wX7_lessens_167 Q t0 σ_33)))))))))))
def wX7_lessens_144 (Q : Int32 → gH → Prop)  (x0 : Nat) (x1 : Option Nat) (x2 : Int32) (x3 : Int32) (x4 : Int64) (σ : gH) : Prop := wX7_lessens_145 Q 0 x0 x1 x2 x3 x4 σ
def wX7_lessens_29 (Q : Int32 → gH → Prop) (k73 : Nat → (Option Nat) → Int32 → Int32 → Int32 → Int64 → gH → Prop) : Nat → Nat → (Option Nat) → Int32 → Int32 → Int32 → Int64 → Int32 → gH → Prop
  | 0 => fun _ _ _ _ _ _ _ _ => False
  | n + 1 => fun x0 x1 x2 x3 x4 x5 x7 σ => (x3 < x7 → (k73 x0 x1 x2 x3 x4 x5 σ)) ∧ (¬ x3 < x7 → (∃ fs_56 : List Value, σ.2 x0 = some (.inr (7, fs_56)) ∧ (wX7_symbol (fun (v_55 : Int64) => ∃ fs_58 : List Value, σ.2 x0 = some (.inr (7, fs_58)) ∧ (wX7_rest (fun (r_57 : Option Nat) => ∃ a_59 : Nat, r_57 = some a_59 ∧ (c_aR 4 σ a_59 x7 (fun r_60 => ∃ a_61 : Nat, r_60 = some a_61 ∧ (c_aJ σ a_61 x3 (fun v_62 => wJ4_min_2 (fun (v_63 : Int64) => ∀ x7_64 : Int32, x7_64 = x7 + 1 → (wX7_lessens_29 Q k73 n x0 x1 x2 x3 x4 v_63 x7_64 σ)) σ x5 (v_55 + v_62)))))) σ x0 x1 (x4 + 1))) σ x0 x1 x4 x2 x7)))
def wX7_lessens_8 (Q : Int32 → gH → Prop) (k98 : Nat → (Option Nat) → Int32 → Int32 → gH → Prop) : Nat → Nat → (Option Nat) → Int32 → Int32 → Int32 → gH → Prop
  | 0 => fun _ _ _ _ _ _ => False
  | n + 1 => fun x0 x1 x2 x3 x4 σ => (x4 < 0 → (k98 x0 x1 x2 x3 σ)) ∧ (¬ x4 < 0 → (∃ fs_35 : List Value, σ.2 x0 = some (.inr (7, fs_35)) ∧ (wX7_rest (fun (r_34 : Option Nat) => ∃ a_36 : Nat, r_34 = some a_36 ∧ (c_aR 4 σ a_36 x2 (fun r_37 => ∃ a_38 : Nat, r_37 = some a_38 ∧ (c_aJ σ a_38 x3 (fun v_39 => ∃ fu : Nat, wX7_lessens_29 Q (fun (x0_40 : Nat) (x1_41 : Option Nat) (x2_42 : Int32) (x3_43 : Int32) (x4_44 : Int32) (x5_45 : Int64) (σ_46 : gH) => ∃ fs_48 : List Value, σ_46.2 x0_40 = some (.inr (7, fs_48)) ∧ (wX7_rest (fun (r_47 : Option Nat) => ∃ a_49 : Nat, r_47 = some a_49 ∧ (c_aR 4 σ_46 a_49 x2_42 (fun r_50 => wJ4_min_2 (fun (v_51 : Int64) => ∃ a_52 : Nat, r_50 = some a_52 ∧ (c_sJ σ_46 a_52 x3_43 v_51 (fun σ_53 => ∀ x4_54 : Int32, x4_54 = x4_44 + (-1) → (wX7_lessens_8 Q k98 n x0_40 x1_41 x2_42 x3_43 x4_54 σ_53)))) σ_46 x5_45 1152921504606846976))) σ_46 x0_40 x1_41 x4_44)) fu x0 x1 x2 x3 x4 v_39 x2 σ))))) σ x0 x1 x4)))
def wX7_lessens (Q : Int32 → gH → Prop) (x0 : Nat) (x1 : Option Nat) (x2 : Int32) (x3 : Int32) (σ : gH) : Prop := ∃ a_1 : Nat, x1 = some a_1 ∧ (c_I σ [4] a_1 4 (fun v_2 => ∀ x4_3 : Int32, x4_3 = v_2 - 1 → (∃ fu : Nat, wX7_lessens_8 Q (fun (x0_4 : Nat) (x1_5 : Option Nat) (x2_6 : Int32) (x3_7 : Int32) (σ_8 : gH) => ∃ fs_10 : List Value, σ_8.2 x0_4 = some (.inr (7, fs_10)) ∧ (wX7_rest (fun (r_9 : Option Nat) => ∃ a_11 : Nat, r_9 = some a_11 ∧ (c_aR 4 σ_8 a_11 x2_6 (fun r_12 => ∃ a_13 : Nat, r_12 = some a_13 ∧ (c_aJ σ_8 a_13 x3_7 (fun v_14 => ∀ x4_15 : Int64, x4_15 = v_14 + 1 → (c_R σ_8 [7] x0_4 10 (fun r_16 => ∃ a_17 : Nat, x1_5 = some a_17 ∧ (c_I σ_8 [4] a_17 1 (fun v_18 => ∃ a_19 : Nat, r_16 = some a_19 ∧ (c_aR 5 σ_8 a_19 v_18 (fun r_20 => ∃ a_21 : Nat, r_20 = some a_21 ∧ (c_aR 4 σ_8 a_21 x2_6 (fun r_22 => ∃ a_23 : Nat, r_22 = some a_23 ∧ (c_aJ σ_8 a_23 x3_7 (fun v_24 => (v_24 ≤ x4_15 → (wX7_lessens_144 Q x0_4 (some a_17) x2_6 x3_7 x4_15 σ_8)) ∧ (¬ v_24 ≤ x4_15 → ((1152921504606846976 ≤ x4_15 → (wX7_lessens_144 Q x0_4 (some a_17) x2_6 x3_7 x4_15 σ_8)) ∧ (¬ 1152921504606846976 ≤ x4_15 → (wX7_lessens_145 Q 1 x0_4 (some a_17) x2_6 x3_7 x4_15 σ_8))))))))))))))))))) σ_8 x0_4 x1_5 0)) fu x0 (some a_1) x2 x3 x4_3 σ)))
set_option maxHeartbeats 4000000 in
theorem hX7_lessens_167 {Q : Int32 → gH → Prop}  (x6 : Int32) (σ : gH) (w : wX7_lessens_167 Q x6 σ) : E mX7_lessens 2 0 0 (g_z (c_Ki Q)) 0 0 167 [(6, .int x6)] [] σ := by
  unfold wX7_lessens_167 at w
  refine e_iload (n := 169) dX7_lessens_167 rfl 0 rfl ?_
  exact e_zret rfl w.1.nar (Nat.le_refl _) (Nat.le_refl _) ⟨_, rfl, w.2⟩ dX7_lessens_169
set_option maxHeartbeats 4000000 in
theorem hX7_lessens_145 {Q : Int32 → gH → Prop}  (t0 : Int32) (x0 : Nat) (x1 : Option Nat) (x2 : Int32) (x3 : Int32) (x4 : Int64) (σ : gH) (w : wX7_lessens_145 Q t0 x0 x1 x2 x3 x4 σ) : E mX7_lessens 2 0 0 (g_z (c_Ki Q)) 0 0 145 [(0, .ref x0), (1, va_rf x1), (2, .int x2), (3, .int x3), (4, .long x4)] [.int t0] σ := by
  unfold wX7_lessens_145 at w
  refine e_istore (n := 147) (lv' := [(0, .ref x0), (1, va_rf x1), (2, .int x2), (3, .int x3), (4, .long x4), (6, .int t0)]) [1, 2, 3, 4, 5, 0] dX7_lessens_145 rfl rfl rfl ?_
  refine e_iload (n := 149) dX7_lessens_147 rfl 5 rfl ?_
  refine e_if_eq (n := 152) (tgt := 167) dX7_lessens_149 rfl (by decide) (fun h => ?_) (fun h => ?_)
  · have w := w.1 h
    refine e_sub (lv' := [(6, .int t0)]) [5] rfl ?_
    exact hX7_lessens_167 _ _ w
  · have w := w.2 h
    refine e_aload_n (n := 153) dX7_lessens_152 rfl 0 rfl ?_
    refine e_cR (n := 156) w fw_X7_tree (gl_o q943) dX7_lessens_153 rfl (fun r_25 w => ?_)
    refine e_aloadr_n (n := 157) (r := x1) dX7_lessens_156 rfl 1 rfl ?_
    obtain ⟨a_26, ha_26, w9a_26⟩ := w
    subst ha_26
    have w := w9a_26
    refine e_cI (n := 160) w fw_X4_name (gl_n q302) dX7_lessens_157 rfl (fun v_27 w => ?_)
    obtain ⟨a_28, ha_28, w9a_28⟩ := w
    subst ha_28
    have w := w9a_28
    refine e_caR (n := 161) w (fun _ => rfl) rfl dX7_lessens_160 rfl (fun r_29 w => ?_)
    refine e_iload_n (n := 162) dX7_lessens_161 rfl 2 rfl ?_
    obtain ⟨a_30, ha_30, w9a_30⟩ := w
    subst ha_30
    have w := w9a_30
    refine e_caR (n := 163) w (fun _ => rfl) rfl dX7_lessens_162 rfl (fun r_31 w => ?_)
    refine e_iload_n (n := 164) dX7_lessens_163 rfl 3 rfl ?_
    refine e_lload (n := 166) dX7_lessens_164 rfl 4 rfl ?_
    obtain ⟨a_32, ha_32, w9a_32⟩ := w
    subst ha_32
    have w := w9a_32
    refine e_csJ (n := 167) w dX7_lessens_166 rfl (fun σ_33 w => ?_)
    refine e_sub (lv' := [(6, .int t0)]) [5] rfl ?_
    exact hX7_lessens_167 _ _ w
set_option maxHeartbeats 4000000 in
theorem hX7_lessens_144 {Q : Int32 → gH → Prop}  (x0 : Nat) (x1 : Option Nat) (x2 : Int32) (x3 : Int32) (x4 : Int64) (σ : gH) (w : wX7_lessens_144 Q x0 x1 x2 x3 x4 σ) : E mX7_lessens 2 0 0 (g_z (c_Ki Q)) 0 0 144 [(0, .ref x0), (1, va_rf x1), (2, .int x2), (3, .int x3), (4, .long x4)] [] σ := by
  unfold wX7_lessens_144 at w
  refine e_iconst (n := 145) (v := 0) dX7_lessens_144 rfl (by decide) ?_
  exact hX7_lessens_145 _ _ _ _ _ _ _ w
set_option maxHeartbeats 4000000 in
theorem hX7_lessens_29 {Q : Int32 → gH → Prop} {k73 : Nat → (Option Nat) → Int32 → Int32 → Int32 → Int64 → gH → Prop} (hk73 : ∀ (x0 : Nat) (x1 : Option Nat) (x2 : Int32) (x3 : Int32) (x4 : Int32) (x5 : Int64) (σ : gH), k73 x0 x1 x2 x3 x4 x5 σ → E mX7_lessens 2 0 0 (g_z (c_Ki Q)) 0 0 73 [(0, .ref x0), (1, va_rf x1), (2, .int x2), (3, .int x3), (4, .int x4), (5, .long x5)] [] σ) : ∀ (n : Nat) (x0 : Nat) (x1 : Option Nat) (x2 : Int32) (x3 : Int32) (x4 : Int32) (x5 : Int64) (x7 : Int32) (σ : gH), wX7_lessens_29 Q k73 n x0 x1 x2 x3 x4 x5 x7 σ → E mX7_lessens 2 0 0 (g_z (c_Ki Q)) 0 0 29 [(0, .ref x0), (1, va_rf x1), (2, .int x2), (3, .int x3), (4, .int x4), (5, .long x5), (7, .int x7)] [] σ := by
  intro n
  induction n with
  | zero =>
    intro _ _ _ _ _ _ _ _ w
    exact w.elim
  | succ n ih =>
    intro x0 x1 x2 x3 x4 x5 x7 σ w
    unfold wX7_lessens_29 at w
    refine e_iload (n := 31) dX7_lessens_29 rfl 6 rfl ?_
    refine e_iload_n (n := 32) dX7_lessens_31 rfl 3 rfl ?_
    refine e_icmp_gt (n := 35) (tgt := 73) dX7_lessens_32 rfl (by decide) (fun h => ?_) (fun h => ?_)
    · have w := w.1 h
      refine e_sub (lv' := [(0, .ref x0), (1, va_rf x1), (2, .int x2), (3, .int x3), (4, .int x4), (5, .long x5)]) [0, 1, 2, 3, 4, 5] rfl ?_
      exact hk73 _ _ _ _ _ _ _ w
    · have w := w.2 h
      refine e_lload (n := 37) dX7_lessens_35 rfl 5 rfl ?_
      refine e_aload_n (n := 38) dX7_lessens_37 rfl 0 rfl ?_
      refine e_aloadr_n (n := 39) (r := x1) dX7_lessens_38 rfl 1 rfl ?_
      refine e_iload (n := 41) dX7_lessens_39 rfl 4 rfl ?_
      refine e_iload_n (n := 42) dX7_lessens_41 rfl 2 rfl ?_
      refine e_iload (n := 44) dX7_lessens_42 rfl 6 rfl ?_
      obtain ⟨fs_56, wo, w⟩ := w
      refine e_callV (n := 47) (As := [va_rf x1, .int x4, .int x2, .int x7]) (st := [.long x5]) okX7_symbol q988 q990 qs17 q73 q991 rfl wo rfl (by decide) (Nat.le_refl _) (Nat.le_refl _) rfl rfl (Nat.le_of_ble_eq_true rfl) dX7_lessens_44 rfl (ctX7_symbol w) (fun r9 σ9 hk => ?_)
      obtain ⟨v_55, rfl, hs9, w⟩ := hk
      rw [hs9]
      refine e_aload_n (n := 48) dX7_lessens_47 rfl 0 rfl ?_
      refine e_aloadr_n (n := 49) (r := x1) dX7_lessens_48 rfl 1 rfl ?_
      refine e_iload (n := 51) dX7_lessens_49 rfl 4 rfl ?_
      refine e_iconst (n := 52) (v := 1) dX7_lessens_51 rfl (by decide) ?_
      refine e_iadd (n := 53) dX7_lessens_52 rfl ?_
      obtain ⟨fs_58, wo, w⟩ := w
      refine e_callV (n := 56) (As := [va_rf x1, .int (x4 + 1)]) (st := [.long v_55, .long x5]) okX7_rest q980 q982 qs15 q73 q983 rfl wo rfl (by decide) (Nat.le_refl _) (Nat.le_refl _) rfl rfl (Nat.le_of_ble_eq_true rfl) dX7_lessens_53 rfl (ctX7_rest w) (fun r9 σ9 hk => ?_)
      obtain ⟨r_57, rfl, hs9, w⟩ := hk
      rw [hs9]
      refine e_iload (n := 58) dX7_lessens_56 rfl 6 rfl ?_
      obtain ⟨a_59, ha_59, w9a_59⟩ := w
      subst ha_59
      have w := w9a_59
      refine e_caR (n := 59) w (fun _ => rfl) rfl dX7_lessens_58 rfl (fun r_60 w => ?_)
      refine e_iload_n (n := 60) dX7_lessens_59 rfl 3 rfl ?_
      obtain ⟨a_61, ha_61, w9a_61⟩ := w
      subst ha_61
      have w := w9a_61
      refine e_caJ (n := 61) w dX7_lessens_60 rfl (fun v_62 w => ?_)
      refine e_ladd (n := 62) dX7_lessens_61 rfl ?_
      refine e_callS (n := 65) (As := [.long x5, .long (v_55 + v_62)]) (st := []) okJ4_min_2 q901 q902 q66 q903 (by decide) (Nat.le_refl _) (Nat.le_refl _) rfl rfl (Nat.le_of_ble_eq_true rfl) dX7_lessens_62 rfl (ctJ4_min_2 w) (fun r9 σ9 hk => ?_)
      obtain ⟨v_63, rfl, hs9, w⟩ := hk
      rw [hs9]
      refine e_lstore (n := 67) (lv' := [(0, .ref x0), (1, va_rf x1), (2, .int x2), (3, .int x3), (4, .int x4), (5, .long v_63), (7, .int x7)]) [1, 2, 3, 4, 5, 0, 6] dX7_lessens_65 rfl rfl rfl ?_
      obtain ⟨x7_64, hx7_64⟩ : ∃ y : Int32, y = x7 + 1 := ⟨_, rfl⟩
      have w := w x7_64 hx7_64
      refine e_iinc (n := 70) (v := x7_64) (lv' := [(0, .ref x0), (1, va_rf x1), (2, .int x2), (3, .int x3), (4, .int x4), (5, .long v_63), (7, .int x7_64)]) [1, 2, 3, 4, 5, 6, 0] dX7_lessens_67 rfl 6 rfl (by rw [hx7_64]; rfl) rfl rfl ?_
      refine e_goto (n := 29) dX7_lessens_70 (by decide) ?_
      exact ih _ _ _ _ _ _ _ _ w
set_option maxHeartbeats 4000000 in
theorem hX7_lessens_8 {Q : Int32 → gH → Prop} {k98 : Nat → (Option Nat) → Int32 → Int32 → gH → Prop} (hk98 : ∀ (x0 : Nat) (x1 : Option Nat) (x2 : Int32) (x3 : Int32) (σ : gH), k98 x0 x1 x2 x3 σ → E mX7_lessens 2 0 0 (g_z (c_Ki Q)) 0 0 98 [(0, .ref x0), (1, va_rf x1), (2, .int x2), (3, .int x3)] [] σ) : ∀ (n : Nat) (x0 : Nat) (x1 : Option Nat) (x2 : Int32) (x3 : Int32) (x4 : Int32) (σ : gH), wX7_lessens_8 Q k98 n x0 x1 x2 x3 x4 σ → E mX7_lessens 2 0 0 (g_z (c_Ki Q)) 0 0 8 [(0, .ref x0), (1, va_rf x1), (2, .int x2), (3, .int x3), (4, .int x4)] [] σ := by
  intro n
  induction n with
  | zero =>
    intro _ _ _ _ _ _ w
    exact w.elim
  | succ n ih =>
    intro x0 x1 x2 x3 x4 σ w
    unfold wX7_lessens_8 at w
    refine e_iload (n := 10) dX7_lessens_8 rfl 4 rfl ?_
    refine e_if_lt (n := 13) (tgt := 98) dX7_lessens_10 rfl (by decide) (fun h => ?_) (fun h => ?_)
    · have w := w.1 h
      refine e_sub (lv' := [(0, .ref x0), (1, va_rf x1), (2, .int x2), (3, .int x3)]) [0, 1, 2, 3] rfl ?_
      exact hk98 _ _ _ _ _ w
    · have w := w.2 h
      refine e_aload_n (n := 14) dX7_lessens_13 rfl 0 rfl ?_
      refine e_aloadr_n (n := 15) (r := x1) dX7_lessens_14 rfl 1 rfl ?_
      refine e_iload (n := 17) dX7_lessens_15 rfl 4 rfl ?_
      obtain ⟨fs_35, wo, w⟩ := w
      refine e_callV (n := 20) (As := [va_rf x1, .int x4]) (st := []) okX7_rest q980 q982 qs15 q73 q983 rfl wo rfl (by decide) (Nat.le_refl _) (Nat.le_refl _) rfl rfl (Nat.le_of_ble_eq_true rfl) dX7_lessens_17 rfl (ctX7_rest w) (fun r9 σ9 hk => ?_)
      obtain ⟨r_34, rfl, hs9, w⟩ := hk
      rw [hs9]
      refine e_iload_n (n := 21) dX7_lessens_20 rfl 2 rfl ?_
      obtain ⟨a_36, ha_36, w9a_36⟩ := w
      subst ha_36
      have w := w9a_36
      refine e_caR (n := 22) w (fun _ => rfl) rfl dX7_lessens_21 rfl (fun r_37 w => ?_)
      refine e_iload_n (n := 23) dX7_lessens_22 rfl 3 rfl ?_
      obtain ⟨a_38, ha_38, w9a_38⟩ := w
      subst ha_38
      have w := w9a_38
      refine e_caJ (n := 24) w dX7_lessens_23 rfl (fun v_39 w => ?_)
      refine e_lstore (n := 26) (lv' := [(0, .ref x0), (1, va_rf x1), (2, .int x2), (3, .int x3), (4, .int x4), (5, .long v_39)]) [1, 2, 3, 4, 5, 0] dX7_lessens_24 rfl rfl rfl ?_
      refine e_iload_n (n := 27) dX7_lessens_26 rfl 2 rfl ?_
      refine e_istore (n := 29) (lv' := [(0, .ref x0), (1, va_rf x1), (2, .int x2), (3, .int x3), (4, .int x4), (5, .long v_39), (7, .int x2)]) [1, 2, 3, 4, 5, 6, 0] dX7_lessens_27 rfl rfl rfl ?_
      obtain ⟨fu, w⟩ := w
      refine hX7_lessens_29 (fun x0_40 x1_41 x2_42 x3_43 x4_44 x5_45 σ_46 w => ?_) fu _ _ _ _ _ _ _ _ w
      refine e_aload_n (n := 74) dX7_lessens_73 rfl 0 rfl ?_
      refine e_aloadr_n (n := 75) (r := x1_41) dX7_lessens_74 rfl 1 rfl ?_
      refine e_iload (n := 77) dX7_lessens_75 rfl 4 rfl ?_
      obtain ⟨fs_48, wo, w⟩ := w
      refine e_callV (n := 80) (As := [va_rf x1_41, .int x4_44]) (st := []) okX7_rest q980 q982 qs15 q73 q983 rfl wo rfl (by decide) (Nat.le_refl _) (Nat.le_refl _) rfl rfl (Nat.le_of_ble_eq_true rfl) dX7_lessens_77 rfl (ctX7_rest w) (fun r9 σ9 hk => ?_)
      obtain ⟨r_47, rfl, hs9, w⟩ := hk
      rw [hs9]
      refine e_iload_n (n := 81) dX7_lessens_80 rfl 2 rfl ?_
      obtain ⟨a_49, ha_49, w9a_49⟩ := w
      subst ha_49
      have w := w9a_49
      refine e_caR (n := 82) w (fun _ => rfl) rfl dX7_lessens_81 rfl (fun r_50 w => ?_)
      refine e_iload_n (n := 83) dX7_lessens_82 rfl 3 rfl ?_
      refine e_lload (n := 85) dX7_lessens_83 rfl 5 rfl ?_
      refine e_ldc2 (n := 88) q876 dX7_lessens_85 rfl ?_
      refine e_callS (n := 91) (As := [.long x5_45, .long 1152921504606846976]) (st := [.int x3_43, va_rf r_50]) okJ4_min_2 q901 q902 q66 q903 (by decide) (Nat.le_refl _) (Nat.le_refl _) rfl rfl (Nat.le_of_ble_eq_true (by cases r_50 <;> rfl)) dX7_lessens_88 rfl (ctJ4_min_2 w) (fun r9 σ9 hk => ?_)
      obtain ⟨v_51, rfl, hs9, w⟩ := hk
      rw [hs9]
      obtain ⟨a_52, ha_52, w9a_52⟩ := w
      subst ha_52
      have w := w9a_52
      refine e_csJ (n := 92) w dX7_lessens_91 rfl (fun σ_53 w => ?_)
      obtain ⟨x4_54, hx4_54⟩ : ∃ y : Int32, y = x4_44 + (-1) := ⟨_, rfl⟩
      have w := w x4_54 hx4_54
      refine e_iinc (n := 95) (v := x4_54) (lv' := [(0, .ref x0_40), (1, va_rf x1_41), (2, .int x2_42), (3, .int x3_43), (4, .int x4_54), (5, .long x5_45)]) [1, 2, 3, 4, 0, 5] dX7_lessens_92 rfl 4 rfl (by rw [hx4_54]; rfl) rfl rfl ?_
      refine e_goto (n := 8) dX7_lessens_95 (by decide) ?_
      refine e_sub (lv' := [(0, .ref x0_40), (1, va_rf x1_41), (2, .int x2_42), (3, .int x3_43), (4, .int x4_54)]) [0, 1, 2, 3, 4] rfl ?_
      exact ih _ _ _ _ _ _ w
set_option maxHeartbeats 4000000 in
theorem ctX7_lessens {Q : Int32 → gH → Prop} {x0 : Nat} {x1 : Option Nat} {x2 : Int32} {x3 : Int32} {σ : gH} (w : wX7_lessens Q x0 x1 x2 x3 σ) : CT mX7_lessens 2 0 0 [.ref x0, va_rf x1, .int x2, .int x3] σ (c_Ki Q) := by
  refine CT.of (lv := [(0, .ref x0), (1, va_rf x1), (2, .int x2), (3, .int x3)]) okX7_lessens.1 (by cases x1 <;> rfl) (by cases x1 <;> rfl) ?_
  unfold wX7_lessens at w
  refine e_aloadr_n (n := 1) (r := x1) dX7_lessens_0 rfl 1 rfl ?_
  obtain ⟨a_1, ha_1, w9a_1⟩ := w
  subst ha_1
  have w := w9a_1
  refine e_cI (n := 4) w fw_X4_size (gl_n q313) dX7_lessens_1 rfl (fun v_2 w => ?_)
  refine e_iconst (n := 5) (v := 1) dX7_lessens_4 rfl (by decide) ?_
  refine e_isub (n := 6) dX7_lessens_5 rfl ?_
  refine e_topi (fun x4_3 hx4_3 => ?_)
  have w := w x4_3 hx4_3
  refine e_istore (n := 8) (lv' := [(0, .ref x0), (1, .ref a_1), (2, .int x2), (3, .int x3), (4, .int x4_3)]) [1, 2, 3, 4, 0] dX7_lessens_6 rfl rfl rfl ?_
  obtain ⟨fu, w⟩ := w
  refine e_sub (lv' := [(0, .ref x0), (1, va_rf (some a_1)), (2, .int x2), (3, .int x3), (4, .int x4_3)]) [0, 1, 2, 3, 4] rfl ?_
  refine hX7_lessens_8 (fun x0_4 x1_5 x2_6 x3_7 σ_8 w => ?_) fu _ _ _ _ _ _ w
  refine e_aload_n (n := 99) dX7_lessens_98 rfl 0 rfl ?_
  refine e_aloadr_n (n := 100) (r := x1_5) dX7_lessens_99 rfl 1 rfl ?_
  refine e_iconst (n := 101) (v := 0) dX7_lessens_100 rfl (by decide) ?_
  obtain ⟨fs_10, wo, w⟩ := w
  refine e_callV (n := 104) (As := [va_rf x1_5, .int 0]) (st := []) okX7_rest q980 q982 qs15 q73 q983 rfl wo rfl (by decide) (Nat.le_refl _) (Nat.le_refl _) rfl rfl (Nat.le_of_ble_eq_true rfl) dX7_lessens_101 rfl (ctX7_rest w) (fun r9 σ9 hk => ?_)
  obtain ⟨r_9, rfl, hs9, w⟩ := hk
  rw [hs9]
  refine e_iload_n (n := 105) dX7_lessens_104 rfl 2 rfl ?_
  obtain ⟨a_11, ha_11, w9a_11⟩ := w
  subst ha_11
  have w := w9a_11
  refine e_caR (n := 106) w (fun _ => rfl) rfl dX7_lessens_105 rfl (fun r_12 w => ?_)
  refine e_iload_n (n := 107) dX7_lessens_106 rfl 3 rfl ?_
  obtain ⟨a_13, ha_13, w9a_13⟩ := w
  subst ha_13
  have w := w9a_13
  refine e_caJ (n := 108) w dX7_lessens_107 rfl (fun v_14 w => ?_)
  refine e_lconst (n := 109) (v := 1) dX7_lessens_108 rfl (by decide) ?_
  refine e_ladd (n := 110) dX7_lessens_109 rfl ?_
  refine e_topl (fun x4_15 hx4_15 => ?_)
  have w := w x4_15 hx4_15
  refine e_lstore (n := 112) (lv' := [(0, .ref x0_4), (1, va_rf x1_5), (2, .int x2_6), (3, .int x3_7), (4, .long x4_15)]) [1, 2, 3, 4, 0] dX7_lessens_110 rfl rfl rfl ?_
  refine e_lload (n := 114) dX7_lessens_112 rfl 4 rfl ?_
  refine e_aload_n (n := 115) dX7_lessens_114 rfl 0 rfl ?_
  refine e_cR (n := 118) w fw_X7_tree (gl_o q943) dX7_lessens_115 rfl (fun r_16 w => ?_)
  refine e_aloadr_n (n := 119) (r := x1_5) dX7_lessens_118 rfl 1 rfl ?_
  obtain ⟨a_17, ha_17, w9a_17⟩ := w
  subst ha_17
  have w := w9a_17
  refine e_cI (n := 122) w fw_X4_name (gl_n q302) dX7_lessens_119 rfl (fun v_18 w => ?_)
  obtain ⟨a_19, ha_19, w9a_19⟩ := w
  subst ha_19
  have w := w9a_19
  refine e_caR (n := 123) w (fun _ => rfl) rfl dX7_lessens_122 rfl (fun r_20 w => ?_)
  refine e_iload_n (n := 124) dX7_lessens_123 rfl 2 rfl ?_
  obtain ⟨a_21, ha_21, w9a_21⟩ := w
  subst ha_21
  have w := w9a_21
  refine e_caR (n := 125) w (fun _ => rfl) rfl dX7_lessens_124 rfl (fun r_22 w => ?_)
  refine e_iload_n (n := 126) dX7_lessens_125 rfl 3 rfl ?_
  obtain ⟨a_23, ha_23, w9a_23⟩ := w
  subst ha_23
  have w := w9a_23
  refine e_caJ (n := 127) w dX7_lessens_126 rfl (fun v_24 w => ?_)
  refine e_lcmp_ge (n := 131) (tgt := 144) dX7_lessens_127 dX7_lessens_128 rfl (by decide) (fun h => ?_) (fun h => ?_)
  · have w := w.1 h
    refine e_sub (lv' := [(0, .ref x0_4), (1, va_rf (some a_17)), (2, .int x2_6), (3, .int x3_7), (4, .long x4_15)]) [0, 1, 2, 3, 4] rfl ?_
    exact hX7_lessens_144 _ _ _ _ _ _ w
  · have w := w.2 h
    refine e_lload (n := 133) dX7_lessens_131 rfl 4 rfl ?_
    refine e_ldc2 (n := 136) q876 dX7_lessens_133 rfl ?_
    refine e_lcmp_ge (n := 140) (tgt := 144) dX7_lessens_136 dX7_lessens_137 rfl (by decide) (fun h => ?_) (fun h => ?_)
    · have w := w.1 h
      refine e_sub (lv' := [(0, .ref x0_4), (1, va_rf (some a_17)), (2, .int x2_6), (3, .int x3_7), (4, .long x4_15)]) [0, 1, 2, 3, 4] rfl ?_
      exact hX7_lessens_144 _ _ _ _ _ _ w
    · have w := w.2 h
      refine e_iconst (n := 141) (v := 1) dX7_lessens_140 rfl (by decide) ?_
      refine e_goto (n := 145) dX7_lessens_141 (by decide) ?_
      refine e_sub (lv' := [(0, .ref x0_4), (1, va_rf (some a_17)), (2, .int x2_6), (3, .int x3_7), (4, .long x4_15)]) [0, 1, 2, 3, 4] rfl ?_
      exact hX7_lessens_145 _ _ _ _ _ _ _ w
abbrev mX7_fill : gM := (yX7_fill, cX7_fill, 6, none)
theorem okX7_fill : g_ok mX7_fill 0 := ⟨by decide +kernel, by decide +kernel, by decide +kernel, by decide +kernel, by decide⟩
def wX7_fill_159 (Q : gH → Prop) (k208 : Nat → Int32 → Int32 → Int32 → gH → Prop) : Nat → Nat → Int32 → Int32 → Int32 → Int32 → gH → Prop
  | 0 => fun _ _ _ _ _ _ => False
  | n + 1 => fun x0 x1 x2 x3 x4 σ => c_R σ [7] x0 12 (fun r_27 => ∃ a_28 : Nat, r_27 = some a_28 ∧ (c_R σ [0] a_28 7 (fun r_29 => ∃ a_30 : Nat, r_29 = some a_30 ∧ (∃ fs_32 : List Value, σ.2 a_30 = some (.inr (18, fs_32)) ∧ (wJ2_size (fun (v_31 : Int32) => (v_31 ≤ x4 → (k208 x0 x1 x2 x3 σ)) ∧ (¬ v_31 ≤ x4 → (c_R σ [7] x0 12 (fun r_33 => ∃ a_34 : Nat, r_33 = some a_34 ∧ (c_R σ [0] a_34 7 (fun r_35 => ∃ a_36 : Nat, r_35 = some a_36 ∧ (∃ fs_38 : List Value, σ.2 a_36 = some (.inr (18, fs_38)) ∧ (wJ2_get (fun (r_37 : Option Nat) => c_cast σ [4] r_37 (∃ fs_41 : List Value, σ.2 x0 = some (.inr (7, fs_41)) ∧ (wX7_lessens (fun (v_40 : Int32) (σ_39 : gH) => ∀ x3_42 : Int32, x3_42 = x3 ||| v_40 → (∀ x4_43 : Int32, x4_43 = x4 + 1 → (wX7_fill_159 Q k208 n x0 x1 x2 x3_42 x4_43 σ_39))) x0 r_37 x1 x2 σ))) σ a_36 x4)))))))) σ a_30)))))
def wX7_fill_150 (Q : gH → Prop) (k211 : Nat → Int32 → Int32 → gH → Prop) : Nat → Nat → Int32 → Int32 → Int32 → gH → Prop
  | 0 => fun _ _ _ _ _ => False
  | n + 1 => fun x0 x1 x2 x3 σ => (x3 = 0 → (k211 x0 x1 x2 σ)) ∧ (¬ x3 = 0 → (∃ fu : Nat, wX7_fill_159 Q (fun (x0_22 : Nat) (x1_23 : Int32) (x2_24 : Int32) (x3_25 : Int32) (σ_26 : gH) => wX7_fill_150 Q k211 n x0_22 x1_23 x2_24 x3_25 σ_26) fu x0 x1 x2 0 0 σ))
def wX7_fill_135 (Q : gH → Prop) (kh : Nat → Int32 → Int32 → Int32 → (Option Nat) → Int32 → gH → Prop) (k142 : Nat → Int32 → Int32 → Int32 → gH → Prop) (t0 : Option Nat) (t1 : Int32) (t2 : Int64) (x0 : Nat) (x1 : Int32) (x2 : Int32) (x3 : Int32) (x4 : Option Nat) (x5 : Int32) (σ : gH) : Prop := ∃ a_69 : Nat, t0 = some a_69 ∧ (c_sJ σ a_69 t1 t2 (fun σ_70 => ∀ x5_71 : Int32, x5_71 = x5 + 1 → (kh x0 x1 x2 x3 x4 x5_71 σ_70)))
def wX7_fill_132 (Q : gH → Prop) (kh : Nat → Int32 → Int32 → Int32 → (Option Nat) → Int32 → gH → Prop) (k142 : Nat → Int32 → Int32 → Int32 → gH → Prop) (t0 : Option Nat) (t1 : Int32) (x0 : Nat) (x1 : Int32) (x2 : Int32) (x3 : Int32) (x4 : Option Nat) (x5 : Int32) (σ : gH) : Prop := wX7_fill_135 Q kh k142 t0 t1 1152921504606846976 x0 x1 x2 x3 x4 x5 σ
def wX7_fill_92 (Q : gH → Prop) (k142 : Nat → Int32 → Int32 → Int32 → gH → Prop) : Nat → Nat → Int32 → Int32 → Int32 → (Option Nat) → Int32 → gH → Prop
  | 0 => fun _ _ _ _ _ _ _ => False
  | n + 1 => fun x0 x1 x2 x3 x4 x5 σ => ∃ a_62 : Nat, x4 = some a_62 ∧ (c_I σ [4] a_62 4 (fun v_63 => (v_63 < x5 → (k142 x0 x1 x2 x3 σ)) ∧ (¬ v_63 < x5 → (∃ fs_65 : List Value, σ.2 x0 = some (.inr (7, fs_65)) ∧ (wX7_rest (fun (r_64 : Option Nat) => ∃ a_66 : Nat, r_64 = some a_66 ∧ (c_aR 4 σ a_66 x1 (fun r_67 => c_I σ [4] a_62 4 (fun v_68 => (x5 = v_68 → ((x1 = x2 → (wX7_fill_135 Q (wX7_fill_92 Q k142 n) k142 r_67 x2 0 x0 x1 x2 x3 (some a_62) x5 σ)) ∧ (¬ x1 = x2 → (wX7_fill_132 Q (wX7_fill_92 Q k142 n) k142 r_67 x2 x0 x1 x2 x3 (some a_62) x5 σ)))) ∧ (¬ x5 = v_68 → (wX7_fill_132 Q (wX7_fill_92 Q k142 n) k142 r_67 x2 x0 x1 x2 x3 (some a_62) x5 σ)))))) σ x0 (some a_62) x5)))))
def wX7_fill_55 (Q : gH → Prop) (k148 : Nat → Int32 → Int32 → gH → Prop) : Nat → Nat → Int32 → Int32 → Int32 → gH → Prop
  | 0 => fun _ _ _ _ _ => False
  | n + 1 => fun x0 x1 x2 x3 σ => c_R σ [7] x0 12 (fun r_44 => ∃ a_45 : Nat, r_44 = some a_45 ∧ (c_R σ [0] a_45 7 (fun r_46 => ∃ a_47 : Nat, r_46 = some a_47 ∧ (∃ fs_49 : List Value, σ.2 a_47 = some (.inr (18, fs_49)) ∧ (wJ2_size (fun (v_48 : Int32) => (v_48 ≤ x3 → (k148 x0 x1 x2 σ)) ∧ (¬ v_48 ≤ x3 → (c_R σ [7] x0 12 (fun r_50 => ∃ a_51 : Nat, r_50 = some a_51 ∧ (c_R σ [0] a_51 7 (fun r_52 => ∃ a_53 : Nat, r_52 = some a_53 ∧ (∃ fs_55 : List Value, σ.2 a_53 = some (.inr (18, fs_55)) ∧ (wJ2_get (fun (r_54 : Option Nat) => c_cast σ [4] r_54 (∃ fu : Nat, wX7_fill_92 Q (fun (x0_56 : Nat) (x1_57 : Int32) (x2_58 : Int32) (x3_59 : Int32) (σ_60 : gH) => ∀ x3_61 : Int32, x3_61 = x3_59 + 1 → (wX7_fill_55 Q k148 n x0_56 x1_57 x2_58 x3_61 σ_60)) fu x0 x1 x2 x3 r_54 0 σ)) σ a_53 x3)))))))) σ a_47)))))
def wX7_fill_23 (Q : gH → Prop) (k53 : Nat → Int32 → Int32 → gH → Prop) : Nat → Nat → Int32 → Int32 → Int32 → gH → Prop
  | 0 => fun _ _ _ _ _ => False
  | n + 1 => fun x0 x1 x2 x3 σ => c_R σ [7] x0 12 (fun r_72 => ∃ a_73 : Nat, r_72 = some a_73 ∧ (c_I σ [0] a_73 5 (fun v_74 => (v_74 ≤ x3 → (k53 x0 x1 x2 σ)) ∧ (¬ v_74 ≤ x3 → (c_R σ [7] x0 10 (fun r_75 => ∃ a_76 : Nat, r_75 = some a_76 ∧ (c_aR 5 σ a_76 x3 (fun r_77 => ∃ a_78 : Nat, r_77 = some a_78 ∧ (c_aR 4 σ a_78 x1 (fun r_79 => ∃ a_80 : Nat, r_79 = some a_80 ∧ (c_sJ σ a_80 x2 1152921504606846976 (fun σ_81 => ∀ x3_82 : Int32, x3_82 = x3 + 1 → (wX7_fill_23 Q k53 n x0 x1 x2 x3_82 σ_81)))))))))))))
def wX7_fill_13 (Q : gH → Prop) (k217 : Nat → Int32 → gH → Prop) : Nat → Nat → Int32 → Int32 → gH → Prop
  | 0 => fun _ _ _ _ => False
  | n + 1 => fun x0 x1 x2 σ => c_I σ [7] x0 5 (fun v_8 => (v_8 ≤ x2 → (k217 x0 x1 σ)) ∧ (¬ v_8 ≤ x2 → (∃ fu : Nat, wX7_fill_23 Q (fun (x0_9 : Nat) (x1_10 : Int32) (x2_11 : Int32) (σ_12 : gH) => ∃ fu : Nat, wX7_fill_55 Q (fun (x0_13 : Nat) (x1_14 : Int32) (x2_15 : Int32) (σ_16 : gH) => ∃ fu : Nat, wX7_fill_150 Q (fun (x0_17 : Nat) (x1_18 : Int32) (x2_19 : Int32) (σ_20 : gH) => ∀ x2_21 : Int32, x2_21 = x2_19 + 1 → (wX7_fill_13 Q k217 n x0_17 x1_18 x2_21 σ_20)) fu x0_13 x1_14 x2_15 1 σ_16) fu x0_9 x1_10 x2_11 0 σ_12) fu x0 x1 x2 0 σ)))
def wX7_fill_7 (Q : gH → Prop) (k223 : gH → Prop) : Nat → Nat → Int32 → gH → Prop
  | 0 => fun _ _ _ => False
  | n + 1 => fun x0 x1 σ => (x1 < 0 → (k223 σ)) ∧ (¬ x1 < 0 → (∃ fu : Nat, wX7_fill_13 Q (fun (x0_4 : Nat) (x1_5 : Int32) (σ_6 : gH) => ∀ x1_7 : Int32, x1_7 = x1_5 + (-1) → (wX7_fill_7 Q k223 n x0_4 x1_7 σ_6)) fu x0 x1 x1 σ))
def wX7_fill (Q : gH → Prop) (x0 : Nat) (σ : gH) : Prop := c_I σ [7] x0 5 (fun v_1 => ∀ x1_2 : Int32, x1_2 = v_1 - 1 → (∃ fu : Nat, wX7_fill_7 Q (fun (σ_3 : gH) => Q σ_3) fu x0 x1_2 σ))
set_option maxHeartbeats 4000000 in
theorem hX7_fill_159 {Q : gH → Prop} {k208 : Nat → Int32 → Int32 → Int32 → gH → Prop} (hk208 : ∀ (x0 : Nat) (x1 : Int32) (x2 : Int32) (x3 : Int32) (σ : gH), k208 x0 x1 x2 x3 σ → E mX7_fill 4 0 0 (g_z (c_Kv Q)) 0 0 208 [(0, .ref x0), (1, .int x1), (2, .int x2), (3, .int x3)] [] σ) : ∀ (n : Nat) (x0 : Nat) (x1 : Int32) (x2 : Int32) (x3 : Int32) (x4 : Int32) (σ : gH), wX7_fill_159 Q k208 n x0 x1 x2 x3 x4 σ → E mX7_fill 4 0 0 (g_z (c_Kv Q)) 0 0 159 [(0, .ref x0), (1, .int x1), (2, .int x2), (3, .int x3), (4, .int x4)] [] σ := by
  intro n
  induction n with
  | zero =>
    intro _ _ _ _ _ _ w
    exact w.elim
  | succ n ih =>
    intro x0 x1 x2 x3 x4 σ w
    unfold wX7_fill_159 at w
    refine e_iload (n := 161) dX7_fill_159 rfl 4 rfl ?_
    refine e_aload_n (n := 162) dX7_fill_161 rfl 0 rfl ?_
    refine e_cR (n := 165) w fw_X7_this_0 (gl_o q947) dX7_fill_162 rfl (fun r_27 w => ?_)
    obtain ⟨a_28, ha_28, w9a_28⟩ := w
    subst ha_28
    have w := w9a_28
    refine e_cR (n := 168) w fw_X0_rules (gl_n q188) dX7_fill_165 rfl (fun r_29 w => ?_)
    obtain ⟨a_30, ha_30, w9a_30⟩ := w
    subst ha_30
    have w := w9a_30
    obtain ⟨fs_32, wo, w⟩ := w
    refine e_callF (n := 173) (As := []) (st := [.int x4]) okJ2_size q534 q287 q289 q60 q291 q285 q284 q290 q288 q286 rfl (by decide) wo rfl (by decide) (Nat.le_refl _) (Nat.le_refl _) rfl rfl rfl dX7_fill_168 rfl (ctJ2_size w) (fun r9 σ9 hk => ?_)
    obtain ⟨v_31, rfl, hs9, w⟩ := hk
    rw [hs9]
    refine e_icmp_ge (n := 176) (tgt := 208) dX7_fill_173 rfl (by decide) (fun h => ?_) (fun h => ?_)
    · have w := w.1 h
      refine e_sub (lv' := [(0, .ref x0), (1, .int x1), (2, .int x2), (3, .int x3)]) [0, 1, 2, 3] rfl ?_
      exact hk208 _ _ _ _ _ w
    · have w := w.2 h
      refine e_iload_n (n := 177) dX7_fill_176 rfl 3 rfl ?_
      refine e_aload_n (n := 178) dX7_fill_177 rfl 0 rfl ?_
      refine e_aload_n (n := 179) dX7_fill_178 rfl 0 rfl ?_
      refine e_cR (n := 182) w fw_X7_this_0 (gl_o q947) dX7_fill_179 rfl (fun r_33 w => ?_)
      obtain ⟨a_34, ha_34, w9a_34⟩ := w
      subst ha_34
      have w := w9a_34
      refine e_cR (n := 185) w fw_X0_rules (gl_n q188) dX7_fill_182 rfl (fun r_35 w => ?_)
      refine e_iload (n := 187) dX7_fill_185 rfl 4 rfl ?_
      obtain ⟨a_36, ha_36, w9a_36⟩ := w
      subst ha_36
      have w := w9a_36
      obtain ⟨fs_38, wo, w⟩ := w
      refine e_callF (n := 192) (As := [.int x4]) (st := [.ref x0, .int x3]) okJ2_get q536 q412 q414 q60 q416 q411 q410 q415 q413 q286 rfl (by decide) wo rfl (by decide) (Nat.le_refl _) (Nat.le_refl _) rfl rfl rfl dX7_fill_187 rfl (ctJ2_get w) (fun r9 σ9 hk => ?_)
      obtain ⟨r_37, rfl, hs9, w⟩ := hk
      rw [hs9]
      refine e_ccast (n := 195) (r := r_37) w gc_X4 q979 dX7_fill_192 rfl (fun w => ?_)
      refine e_iload_n (n := 196) dX7_fill_195 rfl 1 rfl ?_
      refine e_iload_n (n := 197) dX7_fill_196 rfl 2 rfl ?_
      obtain ⟨fs_41, wo, w⟩ := w
      refine e_callV (n := 200) (As := [va_rf r_37, .int x1, .int x2]) (st := [.int x3]) okX7_lessens q984 q986 qs16 q73 q987 rfl wo rfl (by decide) (Nat.le_refl _) (Nat.le_refl _) rfl rfl (Nat.le_of_ble_eq_true rfl) dX7_fill_197 rfl (ctX7_lessens w) (fun r9 σ_39 hk => ?_)
      obtain ⟨v_40, rfl, w⟩ := hk
      refine e_ior (n := 201) dX7_fill_200 rfl ?_
      refine e_topi (fun x3_42 hx3_42 => ?_)
      have w := w x3_42 hx3_42
      refine e_istore_n (n := 202) (lv' := [(0, .ref x0), (1, .int x1), (2, .int x2), (3, .int x3_42), (4, .int x4)]) [1, 2, 3, 0, 4] dX7_fill_201 rfl rfl rfl ?_
      obtain ⟨x4_43, hx4_43⟩ : ∃ y : Int32, y = x4 + 1 := ⟨_, rfl⟩
      have w := w x4_43 hx4_43
      refine e_iinc (n := 205) (v := x4_43) (lv' := [(0, .ref x0), (1, .int x1), (2, .int x2), (3, .int x3_42), (4, .int x4_43)]) [1, 2, 3, 4, 0] dX7_fill_202 rfl 4 rfl (by rw [hx4_43]; rfl) rfl rfl ?_
      refine e_goto (n := 159) dX7_fill_205 (by decide) ?_
      exact ih _ _ _ _ _ _ w
set_option maxHeartbeats 4000000 in
theorem hX7_fill_150 {Q : gH → Prop} {k211 : Nat → Int32 → Int32 → gH → Prop} (hk211 : ∀ (x0 : Nat) (x1 : Int32) (x2 : Int32) (σ : gH), k211 x0 x1 x2 σ → E mX7_fill 4 0 0 (g_z (c_Kv Q)) 0 0 211 [(0, .ref x0), (1, .int x1), (2, .int x2)] [] σ) : ∀ (n : Nat) (x0 : Nat) (x1 : Int32) (x2 : Int32) (x3 : Int32) (σ : gH), wX7_fill_150 Q k211 n x0 x1 x2 x3 σ → E mX7_fill 4 0 0 (g_z (c_Kv Q)) 0 0 150 [(0, .ref x0), (1, .int x1), (2, .int x2), (3, .int x3)] [] σ := by
  intro n
  induction n with
  | zero =>
    intro _ _ _ _ _ w
    exact w.elim
  | succ n ih =>
    intro x0 x1 x2 x3 σ w
    unfold wX7_fill_150 at w
    refine e_iload_n (n := 151) dX7_fill_150 rfl 3 rfl ?_
    refine e_if_eq (n := 154) (tgt := 211) dX7_fill_151 rfl (by decide) (fun h => ?_) (fun h => ?_)
    · have w := w.1 h
      refine e_sub (lv' := [(0, .ref x0), (1, .int x1), (2, .int x2)]) [0, 1, 2] rfl ?_
      exact hk211 _ _ _ _ w
    · have w := w.2 h
      refine e_iconst (n := 155) (v := 0) dX7_fill_154 rfl (by decide) ?_
      refine e_istore_n (n := 156) (lv' := [(0, .ref x0), (1, .int x1), (2, .int x2), (3, .int 0)]) [1, 2, 3, 0] dX7_fill_155 rfl rfl rfl ?_
      refine e_iconst (n := 157) (v := 0) dX7_fill_156 rfl (by decide) ?_
      refine e_istore (n := 159) (lv' := [(0, .ref x0), (1, .int x1), (2, .int x2), (3, .int 0), (4, .int 0)]) [1, 2, 3, 4, 0] dX7_fill_157 rfl rfl rfl ?_
      obtain ⟨fu, w⟩ := w
      refine hX7_fill_159 (fun x0_22 x1_23 x2_24 x3_25 σ_26 w => ?_) fu _ _ _ _ _ _ w
      refine e_goto (n := 150) dX7_fill_208 (by decide) ?_
      exact ih _ _ _ _ _ w
set_option maxHeartbeats 4000000 in
theorem hX7_fill_135 {Q : gH → Prop} {kh : Nat → Int32 → Int32 → Int32 → (Option Nat) → Int32 → gH → Prop} (hkh : ∀ (x0 : Nat) (x1 : Int32) (x2 : Int32) (x3 : Int32) (x4 : Option Nat) (x5 : Int32) (σ : gH), kh x0 x1 x2 x3 x4 x5 σ → E mX7_fill 4 0 0 (g_z (c_Kv Q)) 0 0 92 [(0, .ref x0), (1, .int x1), (2, .int x2), (3, .int x3), (4, va_rf x4), (5, .int x5)] [] σ) {k142 : Nat → Int32 → Int32 → Int32 → gH → Prop} (hk142 : ∀ (x0 : Nat) (x1 : Int32) (x2 : Int32) (x3 : Int32) (σ : gH), k142 x0 x1 x2 x3 σ → E mX7_fill 4 0 0 (g_z (c_Kv Q)) 0 0 142 [(0, .ref x0), (1, .int x1), (2, .int x2), (3, .int x3)] [] σ) (t0 : Option Nat) (t1 : Int32) (t2 : Int64) (x0 : Nat) (x1 : Int32) (x2 : Int32) (x3 : Int32) (x4 : Option Nat) (x5 : Int32) (σ : gH) (w : wX7_fill_135 Q kh k142 t0 t1 t2 x0 x1 x2 x3 x4 x5 σ) : E mX7_fill 4 0 0 (g_z (c_Kv Q)) 0 0 135 [(0, .ref x0), (1, .int x1), (2, .int x2), (3, .int x3), (4, va_rf x4), (5, .int x5)] [.long t2, .int t1, va_rf t0] σ := by
  unfold wX7_fill_135 at w
  obtain ⟨a_69, ha_69, w9a_69⟩ := w
  subst ha_69
  have w := w9a_69
  refine e_csJ (n := 136) w dX7_fill_135 rfl (fun σ_70 w => ?_)
  obtain ⟨x5_71, hx5_71⟩ : ∃ y : Int32, y = x5 + 1 := ⟨_, rfl⟩
  have w := w x5_71 hx5_71
  refine e_iinc (n := 139) (v := x5_71) (lv' := [(0, .ref x0), (1, .int x1), (2, .int x2), (3, .int x3), (4, va_rf x4), (5, .int x5_71)]) [1, 2, 3, 4, 5, 0] dX7_fill_136 rfl 5 rfl (by rw [hx5_71]; rfl) rfl (by cases x4 <;> rfl) ?_
  refine e_goto (n := 92) dX7_fill_139 (by decide) ?_
  exact hkh _ _ _ _ _ _ _ w
set_option maxHeartbeats 4000000 in
theorem hX7_fill_132 {Q : gH → Prop} {kh : Nat → Int32 → Int32 → Int32 → (Option Nat) → Int32 → gH → Prop} (hkh : ∀ (x0 : Nat) (x1 : Int32) (x2 : Int32) (x3 : Int32) (x4 : Option Nat) (x5 : Int32) (σ : gH), kh x0 x1 x2 x3 x4 x5 σ → E mX7_fill 4 0 0 (g_z (c_Kv Q)) 0 0 92 [(0, .ref x0), (1, .int x1), (2, .int x2), (3, .int x3), (4, va_rf x4), (5, .int x5)] [] σ) {k142 : Nat → Int32 → Int32 → Int32 → gH → Prop} (hk142 : ∀ (x0 : Nat) (x1 : Int32) (x2 : Int32) (x3 : Int32) (σ : gH), k142 x0 x1 x2 x3 σ → E mX7_fill 4 0 0 (g_z (c_Kv Q)) 0 0 142 [(0, .ref x0), (1, .int x1), (2, .int x2), (3, .int x3)] [] σ) (t0 : Option Nat) (t1 : Int32) (x0 : Nat) (x1 : Int32) (x2 : Int32) (x3 : Int32) (x4 : Option Nat) (x5 : Int32) (σ : gH) (w : wX7_fill_132 Q kh k142 t0 t1 x0 x1 x2 x3 x4 x5 σ) : E mX7_fill 4 0 0 (g_z (c_Kv Q)) 0 0 132 [(0, .ref x0), (1, .int x1), (2, .int x2), (3, .int x3), (4, va_rf x4), (5, .int x5)] [.int t1, va_rf t0] σ := by
  unfold wX7_fill_132 at w
  refine e_ldc2 (n := 135) q876 dX7_fill_132 rfl ?_
  exact hX7_fill_135 hkh hk142 _ _ _ _ _ _ _ _ _ _ w
set_option maxHeartbeats 4000000 in
theorem hX7_fill_92 {Q : gH → Prop} {k142 : Nat → Int32 → Int32 → Int32 → gH → Prop} (hk142 : ∀ (x0 : Nat) (x1 : Int32) (x2 : Int32) (x3 : Int32) (σ : gH), k142 x0 x1 x2 x3 σ → E mX7_fill 4 0 0 (g_z (c_Kv Q)) 0 0 142 [(0, .ref x0), (1, .int x1), (2, .int x2), (3, .int x3)] [] σ) : ∀ (n : Nat) (x0 : Nat) (x1 : Int32) (x2 : Int32) (x3 : Int32) (x4 : Option Nat) (x5 : Int32) (σ : gH), wX7_fill_92 Q k142 n x0 x1 x2 x3 x4 x5 σ → E mX7_fill 4 0 0 (g_z (c_Kv Q)) 0 0 92 [(0, .ref x0), (1, .int x1), (2, .int x2), (3, .int x3), (4, va_rf x4), (5, .int x5)] [] σ := by
  intro n
  induction n with
  | zero =>
    intro _ _ _ _ _ _ _ w
    exact w.elim
  | succ n ih =>
    intro x0 x1 x2 x3 x4 x5 σ w
    unfold wX7_fill_92 at w
    refine e_iload (n := 94) dX7_fill_92 rfl 5 rfl ?_
    refine e_aloadr (n := 96) (r := x4) dX7_fill_94 rfl 4 rfl ?_
    obtain ⟨a_62, ha_62, w9a_62⟩ := w
    subst ha_62
    have w := w9a_62
    refine e_cI (n := 99) w fw_X4_size (gl_n q313) dX7_fill_96 rfl (fun v_63 w => ?_)
    refine e_icmp_gt (n := 102) (tgt := 142) dX7_fill_99 rfl (by decide) (fun h => ?_) (fun h => ?_)
    · have w := w.1 h
      refine e_sub (lv' := [(0, .ref x0), (1, .int x1), (2, .int x2), (3, .int x3)]) [0, 1, 2, 3] rfl ?_
      exact hk142 _ _ _ _ _ w
    · have w := w.2 h
      refine e_aload_n (n := 103) dX7_fill_102 rfl 0 rfl ?_
      refine e_aload (n := 105) dX7_fill_103 rfl 4 rfl ?_
      refine e_iload (n := 107) dX7_fill_105 rfl 5 rfl ?_
      obtain ⟨fs_65, wo, w⟩ := w
      refine e_callV (n := 110) (As := [va_rf (some a_62), .int x5]) (st := []) okX7_rest q980 q982 qs15 q73 q983 rfl wo rfl (by decide) (Nat.le_refl _) (Nat.le_refl _) rfl rfl (Nat.le_of_ble_eq_true rfl) dX7_fill_107 rfl (ctX7_rest w) (fun r9 σ9 hk => ?_)
      obtain ⟨r_64, rfl, hs9, w⟩ := hk
      rw [hs9]
      refine e_iload_n (n := 111) dX7_fill_110 rfl 1 rfl ?_
      obtain ⟨a_66, ha_66, w9a_66⟩ := w
      subst ha_66
      have w := w9a_66
      refine e_caR (n := 112) w (fun _ => rfl) rfl dX7_fill_111 rfl (fun r_67 w => ?_)
      refine e_iload_n (n := 113) dX7_fill_112 rfl 2 rfl ?_
      refine e_iload (n := 115) dX7_fill_113 rfl 5 rfl ?_
      refine e_aload (n := 117) dX7_fill_115 rfl 4 rfl ?_
      refine e_cI (n := 120) w fw_X4_size (gl_n q313) dX7_fill_117 rfl (fun v_68 w => ?_)
      refine e_icmp_ne (n := 123) (tgt := 132) dX7_fill_120 rfl (by decide) (fun h => ?_) (fun h => ?_)
      · have w := w.2 h
        refine e_sub (lv' := [(0, .ref x0), (1, .int x1), (2, .int x2), (3, .int x3), (4, va_rf (some a_62)), (5, .int x5)]) [0, 1, 2, 3, 4, 5] rfl ?_
        exact hX7_fill_132 ih hk142 _ _ _ _ _ _ _ _ _ w
      · have w := w.1 h
        refine e_iload_n (n := 124) dX7_fill_123 rfl 1 rfl ?_
        refine e_iload_n (n := 125) dX7_fill_124 rfl 2 rfl ?_
        refine e_icmp_ne (n := 128) (tgt := 132) dX7_fill_125 rfl (by decide) (fun h => ?_) (fun h => ?_)
        · have w := w.2 h
          refine e_sub (lv' := [(0, .ref x0), (1, .int x1), (2, .int x2), (3, .int x3), (4, va_rf (some a_62)), (5, .int x5)]) [0, 1, 2, 3, 4, 5] rfl ?_
          exact hX7_fill_132 ih hk142 _ _ _ _ _ _ _ _ _ w
        · have w := w.1 h
          refine e_lconst (n := 129) (v := 0) dX7_fill_128 rfl (by decide) ?_
          refine e_goto (n := 135) dX7_fill_129 (by decide) ?_
          refine e_sub (lv' := [(0, .ref x0), (1, .int x1), (2, .int x2), (3, .int x3), (4, va_rf (some a_62)), (5, .int x5)]) [0, 1, 2, 3, 4, 5] rfl ?_
          exact hX7_fill_135 ih hk142 _ _ _ _ _ _ _ _ _ _ w
set_option maxHeartbeats 4000000 in
theorem hX7_fill_55 {Q : gH → Prop} {k148 : Nat → Int32 → Int32 → gH → Prop} (hk148 : ∀ (x0 : Nat) (x1 : Int32) (x2 : Int32) (σ : gH), k148 x0 x1 x2 σ → E mX7_fill 4 0 0 (g_z (c_Kv Q)) 0 0 148 [(0, .ref x0), (1, .int x1), (2, .int x2)] [] σ) : ∀ (n : Nat) (x0 : Nat) (x1 : Int32) (x2 : Int32) (x3 : Int32) (σ : gH), wX7_fill_55 Q k148 n x0 x1 x2 x3 σ → E mX7_fill 4 0 0 (g_z (c_Kv Q)) 0 0 55 [(0, .ref x0), (1, .int x1), (2, .int x2), (3, .int x3)] [] σ := by
  intro n
  induction n with
  | zero =>
    intro _ _ _ _ _ w
    exact w.elim
  | succ n ih =>
    intro x0 x1 x2 x3 σ w
    unfold wX7_fill_55 at w
    refine e_iload_n (n := 56) dX7_fill_55 rfl 3 rfl ?_
    refine e_aload_n (n := 57) dX7_fill_56 rfl 0 rfl ?_
    refine e_cR (n := 60) w fw_X7_this_0 (gl_o q947) dX7_fill_57 rfl (fun r_44 w => ?_)
    obtain ⟨a_45, ha_45, w9a_45⟩ := w
    subst ha_45
    have w := w9a_45
    refine e_cR (n := 63) w fw_X0_rules (gl_n q188) dX7_fill_60 rfl (fun r_46 w => ?_)
    obtain ⟨a_47, ha_47, w9a_47⟩ := w
    subst ha_47
    have w := w9a_47
    obtain ⟨fs_49, wo, w⟩ := w
    refine e_callF (n := 68) (As := []) (st := [.int x3]) okJ2_size q534 q287 q289 q60 q291 q285 q284 q290 q288 q286 rfl (by decide) wo rfl (by decide) (Nat.le_refl _) (Nat.le_refl _) rfl rfl rfl dX7_fill_63 rfl (ctJ2_size w) (fun r9 σ9 hk => ?_)
    obtain ⟨v_48, rfl, hs9, w⟩ := hk
    rw [hs9]
    refine e_icmp_ge (n := 71) (tgt := 148) dX7_fill_68 rfl (by decide) (fun h => ?_) (fun h => ?_)
    · have w := w.1 h
      refine e_sub (lv' := [(0, .ref x0), (1, .int x1), (2, .int x2)]) [0, 1, 2] rfl ?_
      exact hk148 _ _ _ _ w
    · have w := w.2 h
      refine e_aload_n (n := 72) dX7_fill_71 rfl 0 rfl ?_
      refine e_cR (n := 75) w fw_X7_this_0 (gl_o q947) dX7_fill_72 rfl (fun r_50 w => ?_)
      obtain ⟨a_51, ha_51, w9a_51⟩ := w
      subst ha_51
      have w := w9a_51
      refine e_cR (n := 78) w fw_X0_rules (gl_n q188) dX7_fill_75 rfl (fun r_52 w => ?_)
      refine e_iload_n (n := 79) dX7_fill_78 rfl 3 rfl ?_
      obtain ⟨a_53, ha_53, w9a_53⟩ := w
      subst ha_53
      have w := w9a_53
      obtain ⟨fs_55, wo, w⟩ := w
      refine e_callF (n := 84) (As := [.int x3]) (st := []) okJ2_get q536 q412 q414 q60 q416 q411 q410 q415 q413 q286 rfl (by decide) wo rfl (by decide) (Nat.le_refl _) (Nat.le_refl _) rfl rfl rfl dX7_fill_79 rfl (ctJ2_get w) (fun r9 σ9 hk => ?_)
      obtain ⟨r_54, rfl, hs9, w⟩ := hk
      rw [hs9]
      refine e_ccast (n := 87) (r := r_54) w gc_X4 q979 dX7_fill_84 rfl (fun w => ?_)
      refine e_astorer (n := 89) (r := r_54) (lv' := [(0, .ref x0), (1, .int x1), (2, .int x2), (3, .int x3), (4, va_rf r_54)]) [1, 2, 3, 4, 0] dX7_fill_87 rfl rfl rfl ?_
      refine e_iconst (n := 90) (v := 0) dX7_fill_89 rfl (by decide) ?_
      refine e_istore (n := 92) (lv' := [(0, .ref x0), (1, .int x1), (2, .int x2), (3, .int x3), (4, va_rf r_54), (5, .int 0)]) [1, 2, 3, 4, 5, 0] dX7_fill_90 rfl rfl (by cases r_54 <;> rfl) ?_
      obtain ⟨fu, w⟩ := w
      refine hX7_fill_92 (fun x0_56 x1_57 x2_58 x3_59 σ_60 w => ?_) fu _ _ _ _ _ _ _ w
      obtain ⟨x3_61, hx3_61⟩ : ∃ y : Int32, y = x3_59 + 1 := ⟨_, rfl⟩
      have w := w x3_61 hx3_61
      refine e_iinc (n := 145) (v := x3_61) (lv' := [(0, .ref x0_56), (1, .int x1_57), (2, .int x2_58), (3, .int x3_61)]) [1, 2, 3, 0] dX7_fill_142 rfl 3 rfl (by rw [hx3_61]; rfl) rfl rfl ?_
      refine e_goto (n := 55) dX7_fill_145 (by decide) ?_
      exact ih _ _ _ _ _ w
set_option maxHeartbeats 4000000 in
theorem hX7_fill_23 {Q : gH → Prop} {k53 : Nat → Int32 → Int32 → gH → Prop} (hk53 : ∀ (x0 : Nat) (x1 : Int32) (x2 : Int32) (σ : gH), k53 x0 x1 x2 σ → E mX7_fill 4 0 0 (g_z (c_Kv Q)) 0 0 53 [(0, .ref x0), (1, .int x1), (2, .int x2)] [] σ) : ∀ (n : Nat) (x0 : Nat) (x1 : Int32) (x2 : Int32) (x3 : Int32) (σ : gH), wX7_fill_23 Q k53 n x0 x1 x2 x3 σ → E mX7_fill 4 0 0 (g_z (c_Kv Q)) 0 0 23 [(0, .ref x0), (1, .int x1), (2, .int x2), (3, .int x3)] [] σ := by
  intro n
  induction n with
  | zero =>
    intro _ _ _ _ _ w
    exact w.elim
  | succ n ih =>
    intro x0 x1 x2 x3 σ w
    unfold wX7_fill_23 at w
    refine e_iload_n (n := 24) dX7_fill_23 rfl 3 rfl ?_
    refine e_aload_n (n := 25) dX7_fill_24 rfl 0 rfl ?_
    refine e_cR (n := 28) w fw_X7_this_0 (gl_o q947) dX7_fill_25 rfl (fun r_72 w => ?_)
    obtain ⟨a_73, ha_73, w9a_73⟩ := w
    subst ha_73
    have w := w9a_73
    refine e_cI (n := 31) w fw_X0_names (gl_n q183) dX7_fill_28 rfl (fun v_74 w => ?_)
    refine e_icmp_ge (n := 34) (tgt := 53) dX7_fill_31 rfl (by decide) (fun h => ?_) (fun h => ?_)
    · have w := w.1 h
      refine e_sub (lv' := [(0, .ref x0), (1, .int x1), (2, .int x2)]) [0, 1, 2] rfl ?_
      exact hk53 _ _ _ _ w
    · have w := w.2 h
      refine e_aload_n (n := 35) dX7_fill_34 rfl 0 rfl ?_
      refine e_cR (n := 38) w fw_X7_tree (gl_o q943) dX7_fill_35 rfl (fun r_75 w => ?_)
      refine e_iload_n (n := 39) dX7_fill_38 rfl 3 rfl ?_
      obtain ⟨a_76, ha_76, w9a_76⟩ := w
      subst ha_76
      have w := w9a_76
      refine e_caR (n := 40) w (fun _ => rfl) rfl dX7_fill_39 rfl (fun r_77 w => ?_)
      refine e_iload_n (n := 41) dX7_fill_40 rfl 1 rfl ?_
      obtain ⟨a_78, ha_78, w9a_78⟩ := w
      subst ha_78
      have w := w9a_78
      refine e_caR (n := 42) w (fun _ => rfl) rfl dX7_fill_41 rfl (fun r_79 w => ?_)
      refine e_iload_n (n := 43) dX7_fill_42 rfl 2 rfl ?_
      refine e_ldc2 (n := 46) q876 dX7_fill_43 rfl ?_
      obtain ⟨a_80, ha_80, w9a_80⟩ := w
      subst ha_80
      have w := w9a_80
      refine e_csJ (n := 47) w dX7_fill_46 rfl (fun σ_81 w => ?_)
      obtain ⟨x3_82, hx3_82⟩ : ∃ y : Int32, y = x3 + 1 := ⟨_, rfl⟩
      have w := w x3_82 hx3_82
      refine e_iinc (n := 50) (v := x3_82) (lv' := [(0, .ref x0), (1, .int x1), (2, .int x2), (3, .int x3_82)]) [1, 2, 3, 0] dX7_fill_47 rfl 3 rfl (by rw [hx3_82]; rfl) rfl rfl ?_
      refine e_goto (n := 23) dX7_fill_50 (by decide) ?_
      exact ih _ _ _ _ _ w
set_option maxHeartbeats 4000000 in
theorem hX7_fill_13 {Q : gH → Prop} {k217 : Nat → Int32 → gH → Prop} (hk217 : ∀ (x0 : Nat) (x1 : Int32) (σ : gH), k217 x0 x1 σ → E mX7_fill 4 0 0 (g_z (c_Kv Q)) 0 0 217 [(0, .ref x0), (1, .int x1)] [] σ) : ∀ (n : Nat) (x0 : Nat) (x1 : Int32) (x2 : Int32) (σ : gH), wX7_fill_13 Q k217 n x0 x1 x2 σ → E mX7_fill 4 0 0 (g_z (c_Kv Q)) 0 0 13 [(0, .ref x0), (1, .int x1), (2, .int x2)] [] σ := by
  intro n
  induction n with
  | zero =>
    intro _ _ _ _ w
    exact w.elim
  | succ n ih =>
    intro x0 x1 x2 σ w
    unfold wX7_fill_13 at w
    refine e_iload_n (n := 14) dX7_fill_13 rfl 2 rfl ?_
    refine e_aload_n (n := 15) dX7_fill_14 rfl 0 rfl ?_
    refine e_cI (n := 18) w fw_X7_knots (gl_o q932) dX7_fill_15 rfl (fun v_8 w => ?_)
    refine e_icmp_ge (n := 21) (tgt := 217) dX7_fill_18 rfl (by decide) (fun h => ?_) (fun h => ?_)
    · have w := w.1 h
      refine e_sub (lv' := [(0, .ref x0), (1, .int x1)]) [0, 1] rfl ?_
      exact hk217 _ _ _ w
    · have w := w.2 h
      refine e_iconst (n := 22) (v := 0) dX7_fill_21 rfl (by decide) ?_
      refine e_istore_n (n := 23) (lv' := [(0, .ref x0), (1, .int x1), (2, .int x2), (3, .int 0)]) [1, 2, 3, 0] dX7_fill_22 rfl rfl rfl ?_
      obtain ⟨fu, w⟩ := w
      refine hX7_fill_23 (fun x0_9 x1_10 x2_11 σ_12 w => ?_) fu _ _ _ _ _ w
      refine e_iconst (n := 54) (v := 0) dX7_fill_53 rfl (by decide) ?_
      refine e_istore_n (n := 55) (lv' := [(0, .ref x0_9), (1, .int x1_10), (2, .int x2_11), (3, .int 0)]) [1, 2, 3, 0] dX7_fill_54 rfl rfl rfl ?_
      obtain ⟨fu, w⟩ := w
      refine hX7_fill_55 (fun x0_13 x1_14 x2_15 σ_16 w => ?_) fu _ _ _ _ _ w
      refine e_iconst (n := 149) (v := 1) dX7_fill_148 rfl (by decide) ?_
      refine e_istore_n (n := 150) (lv' := [(0, .ref x0_13), (1, .int x1_14), (2, .int x2_15), (3, .int 1)]) [1, 2, 3, 0] dX7_fill_149 rfl rfl rfl ?_
      obtain ⟨fu, w⟩ := w
      refine hX7_fill_150 (fun x0_17 x1_18 x2_19 σ_20 w => ?_) fu _ _ _ _ _ w
      obtain ⟨x2_21, hx2_21⟩ : ∃ y : Int32, y = x2_19 + 1 := ⟨_, rfl⟩
      have w := w x2_21 hx2_21
      refine e_iinc (n := 214) (v := x2_21) (lv' := [(0, .ref x0_17), (1, .int x1_18), (2, .int x2_21)]) [1, 2, 0] dX7_fill_211 rfl 2 rfl (by rw [hx2_21]; rfl) rfl rfl ?_
      refine e_goto (n := 13) dX7_fill_214 (by decide) ?_
      exact ih _ _ _ _ w
set_option maxHeartbeats 4000000 in
theorem hX7_fill_7 {Q : gH → Prop} {k223 : gH → Prop} (hk223 : ∀ (σ : gH), k223 σ → E mX7_fill 4 0 0 (g_z (c_Kv Q)) 0 0 223 [] [] σ) : ∀ (n : Nat) (x0 : Nat) (x1 : Int32) (σ : gH), wX7_fill_7 Q k223 n x0 x1 σ → E mX7_fill 4 0 0 (g_z (c_Kv Q)) 0 0 7 [(0, .ref x0), (1, .int x1)] [] σ := by
  intro n
  induction n with
  | zero =>
    intro _ _ _ w
    exact w.elim
  | succ n ih =>
    intro x0 x1 σ w
    unfold wX7_fill_7 at w
    refine e_iload_n (n := 8) dX7_fill_7 rfl 1 rfl ?_
    refine e_if_lt (n := 11) (tgt := 223) dX7_fill_8 rfl (by decide) (fun h => ?_) (fun h => ?_)
    · have w := w.1 h
      refine e_sub (lv' := []) [] rfl ?_
      exact hk223 _ w
    · have w := w.2 h
      refine e_iload_n (n := 12) dX7_fill_11 rfl 1 rfl ?_
      refine e_istore_n (n := 13) (lv' := [(0, .ref x0), (1, .int x1), (2, .int x1)]) [1, 2, 0] dX7_fill_12 rfl rfl rfl ?_
      obtain ⟨fu, w⟩ := w
      refine hX7_fill_13 (fun x0_4 x1_5 σ_6 w => ?_) fu _ _ _ _ w
      obtain ⟨x1_7, hx1_7⟩ : ∃ y : Int32, y = x1_5 + (-1) := ⟨_, rfl⟩
      have w := w x1_7 hx1_7
      refine e_iinc (n := 220) (v := x1_7) (lv' := [(0, .ref x0_4), (1, .int x1_7)]) [1, 0] dX7_fill_217 rfl 1 rfl (by rw [hx1_7]; rfl) rfl rfl ?_
      refine e_goto (n := 7) dX7_fill_220 (by decide) ?_
      exact ih _ _ _ w
set_option maxHeartbeats 4000000 in
theorem ctX7_fill {Q : gH → Prop} {x0 : Nat} {σ : gH} (w : wX7_fill Q x0 σ) : CT mX7_fill 4 0 0 [.ref x0] σ (c_Kv Q) := by
  refine CT.of (lv := [(0, .ref x0)]) okX7_fill.1 rfl rfl ?_
  unfold wX7_fill at w
  refine e_aload_n (n := 1) dX7_fill_0 rfl 0 rfl ?_
  refine e_cI (n := 4) w fw_X7_knots (gl_o q932) dX7_fill_1 rfl (fun v_1 w => ?_)
  refine e_iconst (n := 5) (v := 1) dX7_fill_4 rfl (by decide) ?_
  refine e_isub (n := 6) dX7_fill_5 rfl ?_
  refine e_topi (fun x1_2 hx1_2 => ?_)
  have w := w x1_2 hx1_2
  refine e_istore_n (n := 7) (lv' := [(0, .ref x0), (1, .int x1_2)]) [1, 0] dX7_fill_6 rfl rfl rfl ?_
  obtain ⟨fu, w⟩ := w
  refine hX7_fill_7 (fun σ_3 w => ?_) fu _ _ _ w
  exact e_vret rfl (Nat.le_refl _) (Nat.le_refl _) ⟨rfl, w⟩ dX7_fill_223
abbrev mX7_best : gM := (yX7_best, cX7_best, 7, some .int)
theorem okX7_best : g_ok mX7_best 0 := ⟨by decide +kernel, by decide +kernel, by decide +kernel, by decide +kernel, by decide⟩
def wX7_best_123 (Q : Int32 → Prop) (σ : gH) (kh : Nat → Int32 → Int64 → Int32 → Prop) (k129 : Int32 → Prop) (x0 : Nat) (x1 : Int32) (x2 : Int64) (x4 : Int32) : Prop := ∀ x4_19 : Int32, x4_19 = x4 + 1 → (kh x0 x1 x2 x4_19)
def wX7_best_10 (Q : Int32 → Prop) (σ : gH) (k129 : Int32 → Prop) : Nat → Nat → Int32 → Int64 → Int32 → Prop
  | 0 => fun _ _ _ _ => False
  | n + 1 => fun x0 x1 x2 x4 => c_I σ [7] x0 1 (fun v_2 => (v_2 < x4 → (k129 x1)) ∧ (¬ v_2 < x4 → (c_R σ [7] x0 10 (fun r_3 => c_R σ [7] x0 12 (fun r_4 => ∃ a_5 : Nat, r_4 = some a_5 ∧ (c_I σ [0] a_5 6 (fun v_6 => ∃ a_7 : Nat, r_3 = some a_7 ∧ (c_aR 5 σ a_7 v_6 (fun r_8 => c_R σ [7] x0 3 (fun r_9 => ∃ a_10 : Nat, r_9 = some a_10 ∧ (c_aI σ a_10 0 (fun v_11 => ∃ a_12 : Nat, r_8 = some a_12 ∧ (c_aR 4 σ a_12 v_11 (fun r_13 => c_R σ [7] x0 3 (fun r_14 => ∃ a_15 : Nat, r_14 = some a_15 ∧ (c_aI σ a_15 x4 (fun v_16 => ∃ a_17 : Nat, r_13 = some a_17 ∧ (c_aJ σ a_17 v_16 (fun v_18 => (1152921504606846976 ≤ v_18 → (wX7_best_123 Q σ (wX7_best_10 Q σ k129 n) k129 x0 x1 x2 x4)) ∧ (¬ 1152921504606846976 ≤ v_18 → (c_R σ [7] x0 8 (fun r_20 => ∃ a_21 : Nat, r_20 = some a_21 ∧ (c_aR 4 σ a_21 x4 (fun r_22 => c_I σ [7] x0 1 (fun v_23 => ∃ a_24 : Nat, r_22 = some a_24 ∧ (c_aJ σ a_24 v_23 (fun v_25 => (1152921504606846976 ≤ v_25 → (wX7_best_123 Q σ (wX7_best_10 Q σ k129 n) k129 x0 x1 x2 x4)) ∧ (¬ 1152921504606846976 ≤ v_25 → (c_R σ [7] x0 8 (fun r_26 => ∃ a_27 : Nat, r_26 = some a_27 ∧ (c_aR 4 σ a_27 x4 (fun r_28 => c_I σ [7] x0 1 (fun v_29 => ∃ a_30 : Nat, r_28 = some a_30 ∧ (c_aJ σ a_30 v_29 (fun v_31 => (x2 ≤ v_18 + (v_31 * 16777216) → (wX7_best_123 Q σ (wX7_best_10 Q σ k129 n) k129 x0 x1 x2 x4)) ∧ (¬ x2 ≤ v_18 + (v_31 * 16777216) → (c_R σ [7] x0 8 (fun r_32 => ∃ a_33 : Nat, r_32 = some a_33 ∧ (c_aR 4 σ a_33 x4 (fun r_34 => c_I σ [7] x0 1 (fun v_35 => ∃ a_36 : Nat, r_34 = some a_36 ∧ (c_aJ σ a_36 v_35 (fun v_37 => ∀ x2_38 : Int64, x2_38 = v_18 + (v_37 * 16777216) → (wX7_best_123 Q σ (wX7_best_10 Q σ k129 n) k129 x0 x4 x2_38 x4))))))))))))))))))))))))))))))))))))))))))))
def wX7_best (Q : Int32 → Prop) (σ : gH) (x0 : Nat) : Prop := ∃ fu : Nat, wX7_best_10 Q σ (fun (x1_1 : Int32) => Q x1_1) fu x0 (-4) 1152921504606846976 0
set_option maxHeartbeats 4000000 in
theorem hX7_best_123 {Q : Int32 → Prop} {σ : gH} {kh : Nat → Int32 → Int64 → Int32 → Prop} (hkh : ∀ (x0 : Nat) (x1 : Int32) (x2 : Int64) (x4 : Int32), kh x0 x1 x2 x4 → E mX7_best 1 0 0 (g_z (g_Pi σ Q)) 0 0 10 [(0, .ref x0), (1, .int x1), (2, .long x2), (4, .int x4)] [] σ) {k129 : Int32 → Prop} (hk129 : ∀ (x1 : Int32), k129 x1 → E mX7_best 1 0 0 (g_z (g_Pi σ Q)) 0 0 129 [(1, .int x1)] [] σ) (x0 : Nat) (x1 : Int32) (x2 : Int64) (x4 : Int32) (w : wX7_best_123 Q σ kh k129 x0 x1 x2 x4) : E mX7_best 1 0 0 (g_z (g_Pi σ Q)) 0 0 123 [(0, .ref x0), (1, .int x1), (2, .long x2), (4, .int x4)] [] σ := by
  unfold wX7_best_123 at w
  obtain ⟨x4_19, hx4_19⟩ : ∃ y : Int32, y = x4 + 1 := ⟨_, rfl⟩
  have w := w x4_19 hx4_19
  refine e_iinc (n := 126) (v := x4_19) (lv' := [(0, .ref x0), (1, .int x1), (2, .long x2), (4, .int x4_19)]) [1, 2, 3, 0] dX7_best_123 rfl 3 rfl (by rw [hx4_19]; rfl) rfl rfl ?_
  refine e_goto (n := 10) dX7_best_126 (by decide) ?_
  exact hkh _ _ _ _ w
set_option maxHeartbeats 4000000 in
theorem hX7_best_10 {Q : Int32 → Prop} {σ : gH} {k129 : Int32 → Prop} (hk129 : ∀ (x1 : Int32), k129 x1 → E mX7_best 1 0 0 (g_z (g_Pi σ Q)) 0 0 129 [(1, .int x1)] [] σ) : ∀ (n : Nat) (x0 : Nat) (x1 : Int32) (x2 : Int64) (x4 : Int32), wX7_best_10 Q σ k129 n x0 x1 x2 x4 → E mX7_best 1 0 0 (g_z (g_Pi σ Q)) 0 0 10 [(0, .ref x0), (1, .int x1), (2, .long x2), (4, .int x4)] [] σ := by
  intro n
  induction n with
  | zero =>
    intro _ _ _ _ w
    exact w.elim
  | succ n ih =>
    intro x0 x1 x2 x4 w
    unfold wX7_best_10 at w
    refine e_iload (n := 12) dX7_best_10 rfl 3 rfl ?_
    refine e_aload_n (n := 13) dX7_best_12 rfl 0 rfl ?_
    refine e_cI (n := 16) w fw_X7_n (gl_o q922) dX7_best_13 rfl (fun v_2 w => ?_)
    refine e_icmp_gt (n := 19) (tgt := 129) dX7_best_16 rfl (by decide) (fun h => ?_) (fun h => ?_)
    · have w := w.1 h
      refine e_sub (lv' := [(1, .int x1)]) [1] rfl ?_
      exact hk129 _ w
    · have w := w.2 h
      refine e_aload_n (n := 20) dX7_best_19 rfl 0 rfl ?_
      refine e_cR (n := 23) w fw_X7_tree (gl_o q943) dX7_best_20 rfl (fun r_3 w => ?_)
      refine e_aload_n (n := 24) dX7_best_23 rfl 0 rfl ?_
      refine e_cR (n := 27) w fw_X7_this_0 (gl_o q947) dX7_best_24 rfl (fun r_4 w => ?_)
      obtain ⟨a_5, ha_5, w9a_5⟩ := w
      subst ha_5
      have w := w9a_5
      refine e_cI (n := 30) w fw_X0_start (gl_n q185) dX7_best_27 rfl (fun v_6 w => ?_)
      obtain ⟨a_7, ha_7, w9a_7⟩ := w
      subst ha_7
      have w := w9a_7
      refine e_caR (n := 31) w (fun _ => rfl) rfl dX7_best_30 rfl (fun r_8 w => ?_)
      refine e_aload_n (n := 32) dX7_best_31 rfl 0 rfl ?_
      refine e_cR (n := 35) w fw_X7_knot (gl_o q928) dX7_best_32 rfl (fun r_9 w => ?_)
      refine e_iconst (n := 36) (v := 0) dX7_best_35 rfl (by decide) ?_
      obtain ⟨a_10, ha_10, w9a_10⟩ := w
      subst ha_10
      have w := w9a_10
      refine e_caI (n := 37) w dX7_best_36 rfl (fun v_11 w => ?_)
      obtain ⟨a_12, ha_12, w9a_12⟩ := w
      subst ha_12
      have w := w9a_12
      refine e_caR (n := 38) w (fun _ => rfl) rfl dX7_best_37 rfl (fun r_13 w => ?_)
      refine e_aload_n (n := 39) dX7_best_38 rfl 0 rfl ?_
      refine e_cR (n := 42) w fw_X7_knot (gl_o q928) dX7_best_39 rfl (fun r_14 w => ?_)
      refine e_iload (n := 44) dX7_best_42 rfl 3 rfl ?_
      obtain ⟨a_15, ha_15, w9a_15⟩ := w
      subst ha_15
      have w := w9a_15
      refine e_caI (n := 45) w dX7_best_44 rfl (fun v_16 w => ?_)
      obtain ⟨a_17, ha_17, w9a_17⟩ := w
      subst ha_17
      have w := w9a_17
      refine e_caJ (n := 46) w dX7_best_45 rfl (fun v_18 w => ?_)
      refine e_lstore (n := 48) (lv' := [(0, .ref x0), (1, .int x1), (2, .long x2), (4, .int x4), (5, .long v_18)]) [1, 2, 3, 4, 0] dX7_best_46 rfl rfl rfl ?_
      refine e_lload (n := 50) dX7_best_48 rfl 4 rfl ?_
      refine e_ldc2 (n := 53) q876 dX7_best_50 rfl ?_
      refine e_lcmp_ge (n := 57) (tgt := 123) dX7_best_53 dX7_best_54 rfl (by decide) (fun h => ?_) (fun h => ?_)
      · have w := w.1 h
        refine e_sub (lv' := [(0, .ref x0), (1, .int x1), (2, .long x2), (4, .int x4)]) [0, 1, 2, 3] rfl ?_
        exact hX7_best_123 ih hk129 _ _ _ _ w
      · have w := w.2 h
        refine e_aload_n (n := 58) dX7_best_57 rfl 0 rfl ?_
        refine e_cR (n := 61) w fw_X7_skipping (gl_o q938) dX7_best_58 rfl (fun r_20 w => ?_)
        refine e_iload (n := 63) dX7_best_61 rfl 3 rfl ?_
        obtain ⟨a_21, ha_21, w9a_21⟩ := w
        subst ha_21
        have w := w9a_21
        refine e_caR (n := 64) w (fun _ => rfl) rfl dX7_best_63 rfl (fun r_22 w => ?_)
        refine e_aload_n (n := 65) dX7_best_64 rfl 0 rfl ?_
        refine e_cI (n := 68) w fw_X7_n (gl_o q922) dX7_best_65 rfl (fun v_23 w => ?_)
        obtain ⟨a_24, ha_24, w9a_24⟩ := w
        subst ha_24
        have w := w9a_24
        refine e_caJ (n := 69) w dX7_best_68 rfl (fun v_25 w => ?_)
        refine e_ldc2 (n := 72) q876 dX7_best_69 rfl ?_
        refine e_lcmp_ge (n := 76) (tgt := 123) dX7_best_72 dX7_best_73 rfl (by decide) (fun h => ?_) (fun h => ?_)
        · have w := w.1 h
          refine e_sub (lv' := [(0, .ref x0), (1, .int x1), (2, .long x2), (4, .int x4)]) [0, 1, 2, 3] rfl ?_
          exact hX7_best_123 ih hk129 _ _ _ _ w
        · have w := w.2 h
          refine e_lload (n := 78) dX7_best_76 rfl 4 rfl ?_
          refine e_aload_n (n := 79) dX7_best_78 rfl 0 rfl ?_
          refine e_cR (n := 82) w fw_X7_skipping (gl_o q938) dX7_best_79 rfl (fun r_26 w => ?_)
          refine e_iload (n := 84) dX7_best_82 rfl 3 rfl ?_
          obtain ⟨a_27, ha_27, w9a_27⟩ := w
          subst ha_27
          have w := w9a_27
          refine e_caR (n := 85) w (fun _ => rfl) rfl dX7_best_84 rfl (fun r_28 w => ?_)
          refine e_aload_n (n := 86) dX7_best_85 rfl 0 rfl ?_
          refine e_cI (n := 89) w fw_X7_n (gl_o q922) dX7_best_86 rfl (fun v_29 w => ?_)
          obtain ⟨a_30, ha_30, w9a_30⟩ := w
          subst ha_30
          have w := w9a_30
          refine e_caJ (n := 90) w dX7_best_89 rfl (fun v_31 w => ?_)
          refine e_ldc2 (n := 93) q992 dX7_best_90 rfl ?_
          refine e_lmul (n := 94) dX7_best_93 rfl ?_
          refine e_ladd (n := 95) dX7_best_94 rfl ?_
          refine e_lload_n (n := 96) dX7_best_95 rfl 2 rfl ?_
          refine e_lcmp_ge (n := 100) (tgt := 123) dX7_best_96 dX7_best_97 rfl (by decide) (fun h => ?_) (fun h => ?_)
          · have w := w.1 h
            refine e_sub (lv' := [(0, .ref x0), (1, .int x1), (2, .long x2), (4, .int x4)]) [0, 1, 2, 3] rfl ?_
            exact hX7_best_123 ih hk129 _ _ _ _ w
          · have w := w.2 h
            refine e_lload (n := 102) dX7_best_100 rfl 4 rfl ?_
            refine e_aload_n (n := 103) dX7_best_102 rfl 0 rfl ?_
            refine e_cR (n := 106) w fw_X7_skipping (gl_o q938) dX7_best_103 rfl (fun r_32 w => ?_)
            refine e_iload (n := 108) dX7_best_106 rfl 3 rfl ?_
            obtain ⟨a_33, ha_33, w9a_33⟩ := w
            subst ha_33
            have w := w9a_33
            refine e_caR (n := 109) w (fun _ => rfl) rfl dX7_best_108 rfl (fun r_34 w => ?_)
            refine e_aload_n (n := 110) dX7_best_109 rfl 0 rfl ?_
            refine e_cI (n := 113) w fw_X7_n (gl_o q922) dX7_best_110 rfl (fun v_35 w => ?_)
            obtain ⟨a_36, ha_36, w9a_36⟩ := w
            subst ha_36
            have w := w9a_36
            refine e_caJ (n := 114) w dX7_best_113 rfl (fun v_37 w => ?_)
            refine e_ldc2 (n := 117) q992 dX7_best_114 rfl ?_
            refine e_lmul (n := 118) dX7_best_117 rfl ?_
            refine e_ladd (n := 119) dX7_best_118 rfl ?_
            refine e_topl (fun x2_38 hx2_38 => ?_)
            have w := w x2_38 hx2_38
            refine e_lstore_n (n := 120) (lv' := [(0, .ref x0), (1, .int x1), (2, .long x2_38), (4, .int x4), (5, .long v_18)]) [1, 2, 0, 3, 4] dX7_best_119 rfl rfl rfl ?_
            refine e_iload (n := 122) dX7_best_120 rfl 3 rfl ?_
            refine e_istore_n (n := 123) (lv' := [(0, .ref x0), (1, .int x4), (2, .long x2_38), (4, .int x4), (5, .long v_18)]) [1, 0, 2, 3, 4] dX7_best_122 rfl rfl rfl ?_
            refine e_sub (lv' := [(0, .ref x0), (1, .int x4), (2, .long x2_38), (4, .int x4)]) [0, 1, 2, 3] rfl ?_
            exact hX7_best_123 ih hk129 _ _ _ _ w
set_option maxHeartbeats 4000000 in
theorem ctX7_best {Q : Int32 → Prop} {x0 : Nat} {σ : gH} (w : wX7_best Q σ x0) : CT mX7_best 1 0 0 [.ref x0] σ (g_Pi σ Q) := by
  refine CT.of (lv := [(0, .ref x0)]) okX7_best.1 rfl rfl ?_
  unfold wX7_best at w
  refine e_bipush (n := 2) (v := (-4)) dX7_best_0 rfl (by decide) ?_
  refine e_istore_n (n := 3) (lv' := [(0, .ref x0), (1, .int (-4))]) [1, 0] dX7_best_2 rfl rfl rfl ?_
  refine e_ldc2 (n := 6) q876 dX7_best_3 rfl ?_
  refine e_lstore_n (n := 7) (lv' := [(0, .ref x0), (1, .int (-4)), (2, .long 1152921504606846976)]) [1, 2, 0] dX7_best_6 rfl rfl rfl ?_
  refine e_iconst (n := 8) (v := 0) dX7_best_7 rfl (by decide) ?_
  refine e_istore (n := 10) (lv' := [(0, .ref x0), (1, .int (-4)), (2, .long 1152921504606846976), (4, .int 0)]) [1, 2, 3, 0] dX7_best_8 rfl rfl rfl ?_
  obtain ⟨fu, w⟩ := w
  refine hX7_best_10 (fun x1_1 w => ?_) fu _ _ _ _ w
  refine e_iload_n (n := 130) dX7_best_129 rfl 0 rfl ?_
  exact e_iret rfl (Nat.le_refl _) (Nat.le_refl _) ⟨_, rfl, rfl, w⟩ dX7_best_130
abbrev mX16_init : gM := (yX16_init, cX16_init, 3, none)
theorem okX16_init : g_ok mX16_init 2 := ⟨by decide +kernel, by decide +kernel, by decide +kernel, by decide +kernel, by decide⟩
theorem ff_X16_init_this_0 : ∀ ci ∈ [16], ∃ (C : String) (T : u_T) (N : Nat) (ty0 : Nat → FieldType), g_cl[ci]? = some (C, T, N) ∧ (∀ k, k < N → parseFieldDescriptor (T k).2.2.1 = some (ty0 k)) ∧ g_nm T N ∧ (∀ w ∈ u_ws C T N, w ∈ lw_all) ∧ Nat.ble (1 + 1) N = true ∧ Cond.fieldLink mX16_init.1.cls 1 (T 1).1 (T 1).2.1 (T 1).2.2.1 ∈ lw_all ∧ (T 1).2.2.2 = true ∧ (T 1).1 = mX16_init.1.cls ∧ ty0 1 = (.object "MendReader") := by
  intro ci h
  simp only [List.mem_cons, List.not_mem_nil, or_false] at h
  subst h
  exact ⟨_, _, _, tyX16, rfl, tyX16_ok, gn_X16, in_X16, rfl, q1014, rfl, rfl, rfl⟩
theorem ff_X16_init_chart : ∀ ci ∈ [16], ∃ (C : String) (T : u_T) (N : Nat) (ty0 : Nat → FieldType), g_cl[ci]? = some (C, T, N) ∧ (∀ k, k < N → parseFieldDescriptor (T k).2.2.1 = some (ty0 k)) ∧ g_nm T N ∧ (∀ w ∈ u_ws C T N, w ∈ lw_all) ∧ Nat.ble (0 + 1) N = true ∧ Cond.fieldLink mX16_init.1.cls 13 (T 0).1 (T 0).2.1 (T 0).2.2.1 ∈ lw_all ∧ (T 0).2.2.2 = true ∧ (T 0).1 = mX16_init.1.cls ∧ ty0 0 = (.object "MendReader$Chart") := by
  intro ci h
  simp only [List.mem_cons, List.not_mem_nil, or_false] at h
  subst h
  exact ⟨_, _, _, tyX16, rfl, tyX16_ok, gn_X16, in_X16, rfl, q1013, rfl, rfl, rfl⟩
def wX16_init (Q : gH → Prop) (x0 : Nat) (x1 : Option Nat) (x2 : Option Nat) (σ : gH) : Prop := c_P σ [16] x0 1 (va_rf x1) (fun σ_1 => c_P σ_1 [16] x0 0 (va_rf x2) (fun σ_2 => Q σ_2))
set_option maxHeartbeats 4000000 in
theorem ctX16_init {Q : gH → Prop} {x0 : Nat} {x1 : Option Nat} {x2 : Option Nat} {σ : gH} (w : wX16_init Q x0 x1 x2 σ) : CT mX16_init 1 0 0 [.ref x0, va_rf x1, va_rf x2] σ (c_Kv Q) := by
  refine CT.of (lv := [(0, .ref x0), (1, va_rf x1), (2, va_rf x2)]) okX16_init.1 (by cases x1 <;> cases x2 <;> rfl) (by cases x1 <;> cases x2 <;> rfl) ?_
  unfold wX16_init at w
  refine e_aload_n (n := 1) dX16_init_0 rfl 0 rfl ?_
  refine e_aloadr_n (n := 2) (r := x1) dX16_init_1 rfl 1 rfl ?_
  refine e_cPF (n := 5) (ty := (.object "MendReader")) w ff_X16_init_this_0 rfl (rf_nar _ x1) dX16_init_2 rfl (fun σ_1 w => ?_)
  refine e_aload_n (n := 6) dX16_init_5 rfl 0 rfl ?_
  refine e_objInit (n := 9) q1012 q99 q100 (by decide) (Nat.le_of_ble_eq_true rfl) dX16_init_6 rfl ?_
  refine e_aload_n (n := 10) dX16_init_9 rfl 0 rfl ?_
  refine e_aloadr_n (n := 11) (r := x2) dX16_init_10 rfl 2 rfl ?_
  refine e_cPF (n := 14) (ty := (.object "MendReader$Chart")) w ff_X16_init_chart rfl (rf_nar _ x2) dX16_init_11 rfl (fun σ_2 w => ?_)
  exact e_vret rfl (Nat.le_refl _) (Nat.le_refl _) ⟨rfl, w⟩ dX16_init_14
abbrev mX8_form : gM := (yX8_form, cX8_form, 1, some .int)
theorem okX8_form : g_ok mX8_form 0 := ⟨by decide +kernel, by decide +kernel, by decide +kernel, by decide +kernel, by decide⟩
def wX8_form (Q : Int32 → Prop) (σ : gH) (x0 : Nat) : Prop := Q 0
set_option maxHeartbeats 4000000 in
theorem ctX8_form {Q : Int32 → Prop} {x0 : Nat} {σ : gH} (w : wX8_form Q σ x0) : CT mX8_form 1 0 0 [.ref x0] σ (g_Pi σ Q) := by
  refine CT.of (lv := [(0, .ref x0)]) okX8_form.1 rfl rfl ?_
  unfold wX8_form at w
  refine e_iconst (n := 1) (v := 0) dX8_form_0 rfl (by decide) ?_
  exact e_iret rfl (Nat.le_refl _) (Nat.le_refl _) ⟨_, rfl, rfl, w⟩ dX8_form_1
abbrev mX11_form : gM := (yX11_form, cX11_form, 1, some .int)
theorem okX11_form : g_ok mX11_form 0 := ⟨by decide +kernel, by decide +kernel, by decide +kernel, by decide +kernel, by decide⟩
def wX11_form (Q : Int32 → Prop) (σ : gH) (x0 : Nat) : Prop := c_I σ [11, 15] x0 9 (fun v_1 => Q v_1)
set_option maxHeartbeats 4000000 in
theorem ctX11_form {Q : Int32 → Prop} {x0 : Nat} {σ : gH} (w : wX11_form Q σ x0) : CT mX11_form 1 0 0 [.ref x0] σ (g_Pi σ Q) := by
  refine CT.of (lv := [(0, .ref x0)]) okX11_form.1 rfl rfl ?_
  unfold wX11_form at w
  refine e_aload_n (n := 1) dX11_form_0 rfl 0 rfl ?_
  refine e_cI (n := 4) w fw_X11_number (gl_o q779) dX11_form_1 rfl (fun v_1 w => ?_)
  exact e_iret rfl (Nat.le_refl _) (Nat.le_refl _) ⟨_, rfl, rfl, w⟩ dX11_form_4
def vX8_form (σ : gH) (Q : Int32 → Prop) (a : Nat) : Prop := ∃ (ci : Nat) (fs : List Value), σ.2 a = some (.inr (ci, fs)) ∧ ((ci = 8 ∧ wX8_form Q σ a) ∨ (ci = 9 ∧ wX8_form Q σ a) ∨ (ci = 10 ∧ wX8_form Q σ a) ∨ (ci = 11 ∧ wX11_form Q σ a) ∨ (ci = 12 ∧ wX8_form Q σ a) ∨ (ci = 13 ∧ wX8_form Q σ a) ∨ (ci = 14 ∧ wX8_form Q σ a) ∨ (ci = 15 ∧ wX11_form Q σ a))
set_option maxHeartbeats 4000000 in
theorem evX8_form {M : gM} {d mc ms uc us pc n idx : Nat} {K : gZ} {lv : List (Nat × Value)} {st : List Value} {σ : gH} {Q : Int32 → Prop} {a : Nat} (w : vX8_form σ Q a) (hdep : 2 ≤ d) (hu1 : uc ≤ mc) (hu2 : us ≤ ms) (h1 : Cond.methodLink M.1.cls idx ⟨"MendReader$Step", "form", "()I"⟩ ∈ lw_all) (hroom : Nat.ble (st.map fun v => v.category).sum 8 = true) (hd : decode M.2.1 pc = .ok (.invokevirtual idx, 3)) (hp : pc + 3 = n) (kk : ∀ r, Q r → E M d mc ms K uc us n lv (.int r :: st) σ) : E M d mc ms K uc us pc lv (.ref a :: st) σ := by
  obtain ⟨ci, fs, wo, w⟩ := w
  rcases w with ⟨rfl, w⟩ | ⟨rfl, w⟩ | ⟨rfl, w⟩ | ⟨rfl, w⟩ | ⟨rfl, w⟩ | ⟨rfl, w⟩ | ⟨rfl, w⟩ | ⟨rfl, w⟩
  · refine e_callO (n := n) (As := []) (st := st) (x := ⟨"MendReader$Step", "form", "()I"⟩) okX8_form h1 q1046 q1044 q1045 q1044 q74 q1056 q1056 rfl (by decide) wo rfl (d' := 1) (by omega) hu1 hu2 rfl rfl hroom hd hp (ctX8_form w) (fun r9 σ9 hk => ?_)
    obtain ⟨r, rfl, hs9, w9⟩ := hk
    rw [hs9]
    exact kk r w9
  · refine e_callO (n := n) (As := []) (st := st) (x := ⟨"MendReader$Step", "form", "()I"⟩) okX8_form h1 q1046 q1044 q1048 q1044 q74 q1056 q1056 rfl (by decide) wo rfl (d' := 1) (by omega) hu1 hu2 rfl rfl hroom hd hp (ctX8_form w) (fun r9 σ9 hk => ?_)
    obtain ⟨r, rfl, hs9, w9⟩ := hk
    rw [hs9]
    exact kk r w9
  · refine e_callO (n := n) (As := []) (st := st) (x := ⟨"MendReader$Step", "form", "()I"⟩) okX8_form h1 q1046 q1044 q1049 q1044 q74 q1056 q1056 rfl (by decide) wo rfl (d' := 1) (by omega) hu1 hu2 rfl rfl hroom hd hp (ctX8_form w) (fun r9 σ9 hk => ?_)
    obtain ⟨r, rfl, hs9, w9⟩ := hk
    rw [hs9]
    exact kk r w9
  · refine e_callO (n := n) (As := []) (st := st) (x := ⟨"MendReader$Step", "form", "()I"⟩) okX11_form h1 q1046 q1044 q1054 q1051 q77 q1052 q1056 rfl (by decide) wo rfl (d' := 1) (by omega) hu1 hu2 rfl rfl hroom hd hp (ctX11_form w) (fun r9 σ9 hk => ?_)
    obtain ⟨r, rfl, hs9, w9⟩ := hk
    rw [hs9]
    exact kk r w9
  · refine e_callO (n := n) (As := []) (st := st) (x := ⟨"MendReader$Step", "form", "()I"⟩) okX8_form h1 q1046 q1044 q1047 q1044 q74 q1056 q1056 rfl (by decide) wo rfl (d' := 1) (by omega) hu1 hu2 rfl rfl hroom hd hp (ctX8_form w) (fun r9 σ9 hk => ?_)
    obtain ⟨r, rfl, hs9, w9⟩ := hk
    rw [hs9]
    exact kk r w9
  · refine e_callO (n := n) (As := []) (st := st) (x := ⟨"MendReader$Step", "form", "()I"⟩) okX8_form h1 q1046 q1044 q1053 q1044 q74 q1056 q1056 rfl (by decide) wo rfl (d' := 1) (by omega) hu1 hu2 rfl rfl hroom hd hp (ctX8_form w) (fun r9 σ9 hk => ?_)
    obtain ⟨r, rfl, hs9, w9⟩ := hk
    rw [hs9]
    exact kk r w9
  · refine e_callO (n := n) (As := []) (st := st) (x := ⟨"MendReader$Step", "form", "()I"⟩) okX8_form h1 q1046 q1044 q1055 q1044 q74 q1056 q1056 rfl (by decide) wo rfl (d' := 1) (by omega) hu1 hu2 rfl rfl hroom hd hp (ctX8_form w) (fun r9 σ9 hk => ?_)
    obtain ⟨r, rfl, hs9, w9⟩ := hk
    rw [hs9]
    exact kk r w9
  · refine e_callO (n := n) (As := []) (st := st) (x := ⟨"MendReader$Step", "form", "()I"⟩) okX11_form h1 q1046 q1044 q1050 q1051 q77 q1052 q1056 rfl (by decide) wo rfl (d' := 1) (by omega) hu1 hu2 rfl rfl hroom hd hp (ctX11_form w) (fun r9 σ9 hk => ?_)
    obtain ⟨r, rfl, hs9, w9⟩ := hk
    rw [hs9]
    exact kk r w9
abbrev mX16_isAhead : gM := (yX16_isAhead, cX16_isAhead, 3, some .boolean)
theorem okX16_isAhead : g_ok mX16_isAhead 2 := ⟨by decide +kernel, by decide +kernel, by decide +kernel, by decide +kernel, by decide⟩
def wX16_isAhead (Q : Int32 → Prop) (σ : gH) (x0 : Nat) (x1 : Option Nat) (x2 : Option Nat) : Prop := ∃ a_1 : Nat, x1 = some a_1 ∧ (c_I σ [8, 9, 10, 11, 12, 13, 14, 15] a_1 2 (fun v_2 => ∃ a_3 : Nat, x2 = some a_3 ∧ (c_I σ [8, 9, 10, 11, 12, 13, 14, 15] a_3 2 (fun v_4 => (v_2 = v_4 → (vX8_kind σ (fun (v_5 : Int32) => vX8_kind σ (fun (v_6 : Int32) => (v_5 = v_6 → (vX8_form σ (fun (v_7 : Int32) => vX8_form σ (fun (v_8 : Int32) => (v_8 ≤ v_7 → (Q 0)) ∧ (¬ v_8 ≤ v_7 → (Q 1))) a_3) a_1)) ∧ (¬ v_5 = v_6 → (vX8_kind σ (fun (v_9 : Int32) => vX8_kind σ (fun (v_10 : Int32) => (v_10 ≤ v_9 → (Q 0)) ∧ (¬ v_10 ≤ v_9 → (Q 1))) a_3) a_1))) a_3) a_1)) ∧ (¬ v_2 = v_4 → (c_I σ [8, 9, 10, 11, 12, 13, 14, 15] a_1 2 (fun v_11 => c_I σ [8, 9, 10, 11, 12, 13, 14, 15] a_3 2 (fun v_12 => (v_12 ≤ v_11 → (Q 0)) ∧ (¬ v_12 ≤ v_11 → (Q 1))))))))))
set_option maxHeartbeats 4000000 in
theorem ctX16_isAhead {Q : Int32 → Prop} {x0 : Nat} {x1 : Option Nat} {x2 : Option Nat} {σ : gH} (w : wX16_isAhead Q σ x0 x1 x2) : CT mX16_isAhead 6 0 0 [.ref x0, va_rf x1, va_rf x2] σ (g_Pi σ Q) := by
  refine CT.of (lv := [(0, .ref x0), (1, va_rf x1), (2, va_rf x2)]) okX16_isAhead.1 (by cases x1 <;> cases x2 <;> rfl) (by cases x1 <;> cases x2 <;> rfl) ?_
  unfold wX16_isAhead at w
  refine e_aloadr_n (n := 1) (r := x1) dX16_isAhead_0 rfl 1 rfl ?_
  obtain ⟨a_1, ha_1, w9a_1⟩ := w
  subst ha_1
  have w := w9a_1
  refine e_cI (n := 4) w fw_X8_from (gl_o q567) dX16_isAhead_1 rfl (fun v_2 w => ?_)
  refine e_aloadr_n (n := 5) (r := x2) dX16_isAhead_4 rfl 2 rfl ?_
  obtain ⟨a_3, ha_3, w9a_3⟩ := w
  subst ha_3
  have w := w9a_3
  refine e_cI (n := 8) w fw_X8_from (gl_o q567) dX16_isAhead_5 rfl (fun v_4 w => ?_)
  refine e_icmp_eq (n := 11) (tgt := 30) dX16_isAhead_8 rfl (by decide) (fun h => ?_) (fun h => ?_)
  · have w := w.1 h
    refine e_aload_n (n := 31) dX16_isAhead_30 rfl 1 rfl ?_
    refine evX8_kind (n := 34) (st := []) w (by decide) (Nat.le_refl _) (Nat.le_refl _) q1042 rfl dX16_isAhead_31 rfl (fun v_5 w => ?_)
    refine e_aload_n (n := 35) dX16_isAhead_34 rfl 2 rfl ?_
    refine evX8_kind (n := 38) (st := [.int v_5]) w (by decide) (Nat.le_refl _) (Nat.le_refl _) q1042 rfl dX16_isAhead_35 rfl (fun v_6 w => ?_)
    refine e_icmp_eq (n := 41) (tgt := 60) dX16_isAhead_38 rfl (by decide) (fun h => ?_) (fun h => ?_)
    · have w := w.1 h
      refine e_aload_n (n := 61) dX16_isAhead_60 rfl 1 rfl ?_
      refine evX8_form (n := 64) (st := []) w (by decide) (Nat.le_refl _) (Nat.le_refl _) q1043 rfl dX16_isAhead_61 rfl (fun v_7 w => ?_)
      refine e_aload_n (n := 65) dX16_isAhead_64 rfl 2 rfl ?_
      refine evX8_form (n := 68) (st := [.int v_7]) w (by decide) (Nat.le_refl _) (Nat.le_refl _) q1043 rfl dX16_isAhead_65 rfl (fun v_8 w => ?_)
      refine e_icmp_ge (n := 71) (tgt := 75) dX16_isAhead_68 rfl (by decide) (fun h => ?_) (fun h => ?_)
      · have w := w.1 h
        refine e_iconst (n := 76) (v := 0) dX16_isAhead_75 rfl (by decide) ?_
        exact e_zret rfl rfl (Nat.le_refl _) (Nat.le_refl _) ⟨_, rfl, rfl, w⟩ dX16_isAhead_76
      · have w := w.2 h
        refine e_iconst (n := 72) (v := 1) dX16_isAhead_71 rfl (by decide) ?_
        refine e_goto (n := 76) dX16_isAhead_72 (by decide) ?_
        exact e_zret rfl rfl (Nat.le_refl _) (Nat.le_refl _) ⟨_, rfl, rfl, w⟩ dX16_isAhead_76
    · have w := w.2 h
      refine e_aload_n (n := 42) dX16_isAhead_41 rfl 1 rfl ?_
      refine evX8_kind (n := 45) (st := []) w (by decide) (Nat.le_refl _) (Nat.le_refl _) q1042 rfl dX16_isAhead_42 rfl (fun v_9 w => ?_)
      refine e_aload_n (n := 46) dX16_isAhead_45 rfl 2 rfl ?_
      refine evX8_kind (n := 49) (st := [.int v_9]) w (by decide) (Nat.le_refl _) (Nat.le_refl _) q1042 rfl dX16_isAhead_46 rfl (fun v_10 w => ?_)
      refine e_icmp_ge (n := 52) (tgt := 56) dX16_isAhead_49 rfl (by decide) (fun h => ?_) (fun h => ?_)
      · have w := w.1 h
        refine e_iconst (n := 57) (v := 0) dX16_isAhead_56 rfl (by decide) ?_
        refine e_goto (n := 76) dX16_isAhead_57 (by decide) ?_
        exact e_zret rfl rfl (Nat.le_refl _) (Nat.le_refl _) ⟨_, rfl, rfl, w⟩ dX16_isAhead_76
      · have w := w.2 h
        refine e_iconst (n := 53) (v := 1) dX16_isAhead_52 rfl (by decide) ?_
        refine e_goto (n := 76) dX16_isAhead_53 (by decide) ?_
        exact e_zret rfl rfl (Nat.le_refl _) (Nat.le_refl _) ⟨_, rfl, rfl, w⟩ dX16_isAhead_76
  · have w := w.2 h
    refine e_aload_n (n := 12) dX16_isAhead_11 rfl 1 rfl ?_
    refine e_cI (n := 15) w fw_X8_from (gl_o q567) dX16_isAhead_12 rfl (fun v_11 w => ?_)
    refine e_aload_n (n := 16) dX16_isAhead_15 rfl 2 rfl ?_
    refine e_cI (n := 19) w fw_X8_from (gl_o q567) dX16_isAhead_16 rfl (fun v_12 w => ?_)
    refine e_icmp_ge (n := 22) (tgt := 26) dX16_isAhead_19 rfl (by decide) (fun h => ?_) (fun h => ?_)
    · have w := w.1 h
      refine e_iconst (n := 27) (v := 0) dX16_isAhead_26 rfl (by decide) ?_
      refine e_goto (n := 76) dX16_isAhead_27 (by decide) ?_
      exact e_zret rfl rfl (Nat.le_refl _) (Nat.le_refl _) ⟨_, rfl, rfl, w⟩ dX16_isAhead_76
    · have w := w.2 h
      refine e_iconst (n := 23) (v := 1) dX16_isAhead_22 rfl (by decide) ?_
      refine e_goto (n := 76) dX16_isAhead_23 (by decide) ?_
      exact e_zret rfl rfl (Nat.le_refl _) (Nat.le_refl _) ⟨_, rfl, rfl, w⟩ dX16_isAhead_76
abbrev mX16_skip : gM := (yX16_skip, cX16_skip, 5, none)
theorem okX16_skip : g_ok mX16_skip 2 := ⟨by decide +kernel, by decide +kernel, by decide +kernel, by decide +kernel, by decide⟩
def wX16_skip_71 (Q : gH → Prop) (mc ms : Nat) (kh : Nat → Nat → Nat → Int32 → Int32 → Int32 → gH → Prop) (k77 : Nat → Nat → Nat → Int32 → Int32 → Int32 → gH → Prop) (uc : Nat) (us : Nat) (x0 : Nat) (x2 : Int32) (x3 : Int32) (x4 : Int32) (σ : gH) : Prop := ∀ x4_35 : Int32, x4_35 = x4 + 1 → (kh uc us x0 x2 x3 x4_35 σ)
def wX16_skip_10 (Q : gH → Prop) (mc ms : Nat) (k77 : Nat → Nat → Nat → Int32 → Int32 → Int32 → gH → Prop) : Nat → Nat → Nat → Nat → Int32 → Int32 → Int32 → gH → Prop
  | 0 => fun _ _ _ _ _ _ _ => False
  | n + 1 => fun uc us x0 x2 x3 x4 σ => c_R σ [16] x0 0 (fun r_28 => ∃ a_29 : Nat, r_28 = some a_29 ∧ (c_R σ [7] a_29 7 (fun r_30 => ∃ a_31 : Nat, r_30 = some a_31 ∧ (c_aR 8 σ a_31 x3 (fun r_32 => ∃ a_33 : Nat, r_32 = some a_33 ∧ (c_aR 7 σ a_33 x4 (fun r_34 => (r_34 = none → (wX16_skip_71 Q mc ms (wX16_skip_10 Q mc ms k77 n) k77 uc us x0 x2 x3 x4 σ)) ∧ (¬ r_34 = none → (c_R σ [16] x0 0 (fun r_36 => ∃ a_37 : Nat, r_36 = some a_37 ∧ (c_R σ [7] a_37 7 (fun r_38 => ∃ a_39 : Nat, r_38 = some a_39 ∧ (c_aR 8 σ a_39 x3 (fun r_40 => ∃ a_41 : Nat, r_40 = some a_41 ∧ (c_aR 7 σ a_41 x4 (fun r_42 => ∃ a_43 : Nat, r_42 = some a_43 ∧ (vX8_price σ (fun (v_44 : Int32) => c_R σ [16] x0 0 (fun r_45 => ∃ a_46 : Nat, r_45 = some a_46 ∧ (c_R σ [7] a_46 8 (fun r_47 => ∃ a_48 : Nat, r_47 = some a_48 ∧ (c_aR 4 σ a_48 (x3 + x4) (fun r_49 => ∃ a_50 : Nat, r_49 = some a_50 ∧ (c_aJ σ a_50 x2 (fun v_51 => c_R σ [16] x0 0 (fun r_52 => ∃ a_53 : Nat, r_52 = some a_53 ∧ (c_R σ [7] a_53 8 (fun r_54 => ∃ a_55 : Nat, r_54 = some a_55 ∧ (c_aR 4 σ a_55 x3 (fun r_56 => ∃ a_57 : Nat, r_56 = some a_57 ∧ (c_aJ σ a_57 x2 (fun v_58 => (v_44.toInt64 + v_51 = v_58 → (k77 uc us x0 x2 x3 x4 σ)) ∧ (¬ v_44.toInt64 + v_51 = v_58 → (wX16_skip_71 Q mc ms (wX16_skip_10 Q mc ms k77 n) k77 uc us x0 x2 x3 x4 σ))))))))))))))))) a_43)))))))))))))))))
def wX16_skip_2 (Q : gH → Prop) (mc ms : Nat) (k110 : Nat → Nat → gH → Prop) : Nat → Nat → Nat → Nat → Int32 → Int32 → gH → Prop
  | 0 => fun _ _ _ _ _ _ => False
  | n + 1 => fun uc us x0 x2 x3 σ => (x2 ≤ x3 → (k110 uc us σ)) ∧ (¬ x2 ≤ x3 → (∃ fu : Nat, wX16_skip_10 Q mc ms (fun (uc_9 : Nat) (us_10 : Nat) (x0_4 : Nat) (x2_5 : Int32) (x3_6 : Int32) (x4_7 : Int32) (σ_8 : gH) => c_R σ_8 [16] x0_4 1 (fun r_11 => ∃ a_12 : Nat, r_11 = some a_12 ∧ (c_R σ_8 [0] a_12 19 (fun r_13 => c_R σ_8 [16] x0_4 0 (fun r_14 => ∃ a_15 : Nat, r_14 = some a_15 ∧ (c_R σ_8 [7] a_15 7 (fun r_16 => ∃ a_17 : Nat, r_16 = some a_17 ∧ (c_aR 8 σ_8 a_17 x3_6 (fun r_18 => ∃ a_19 : Nat, r_18 = some a_19 ∧ (c_aR 7 σ_8 a_19 x4_7 (fun r_20 => ∃ a_21 : Nat, r_13 = some a_21 ∧ (∃ fs_26 : List Value, σ_8.2 a_21 = some (.inr (18, fs_26)) ∧ ∃ c_24 b_25 : Nat, uc_9 + c_24 ≤ mc ∧ us_10 + b_25 ≤ ms ∧ (wJ2_add (fun (v_23 : Int32) (σ_22 : gH) => ∀ x3_27 : Int32, x3_27 = x3_6 + x4_7 → (wX16_skip_2 Q mc ms k110 n (uc_9 + c_24) (us_10 + b_25) x0_4 x2_5 x3_27 σ_22)) c_24 b_25 a_21 r_20 σ_8))))))))))))) fu uc us x0 x2 x3 1 σ))
def wX16_skip (Q : gH → Prop) (mc ms : Nat) (x0 : Nat) (x1 : Int32) (x2 : Int32) (σ : gH) : Prop := ∃ fu : Nat, wX16_skip_2 Q mc ms (fun (uc_2 : Nat) (us_3 : Nat) (σ_1 : gH) => Q σ_1) fu 0 0 x0 x2 x1 σ
set_option maxHeartbeats 4000000 in
theorem hX16_skip_71 {Q : gH → Prop} {mc ms : Nat} {kh : Nat → Nat → Nat → Int32 → Int32 → Int32 → gH → Prop} (hkh : ∀ (uc : Nat) (us : Nat) (x0 : Nat) (x2 : Int32) (x3 : Int32) (x4 : Int32) (σ : gH), uc ≤ mc → us ≤ ms → kh uc us x0 x2 x3 x4 σ → E mX16_skip 8 mc ms (g_z (c_Kv Q)) uc us 10 [(0, .ref x0), (2, .int x2), (3, .int x3), (4, .int x4)] [] σ) {k77 : Nat → Nat → Nat → Int32 → Int32 → Int32 → gH → Prop} (hk77 : ∀ (uc : Nat) (us : Nat) (x0 : Nat) (x2 : Int32) (x3 : Int32) (x4 : Int32) (σ : gH), uc ≤ mc → us ≤ ms → k77 uc us x0 x2 x3 x4 σ → E mX16_skip 8 mc ms (g_z (c_Kv Q)) uc us 77 [(0, .ref x0), (2, .int x2), (3, .int x3), (4, .int x4)] [] σ) (uc : Nat) (us : Nat) (x0 : Nat) (x2 : Int32) (x3 : Int32) (x4 : Int32) (σ : gH) (hu1 : uc ≤ mc) (hu2 : us ≤ ms) (w : wX16_skip_71 Q mc ms kh k77 uc us x0 x2 x3 x4 σ) : E mX16_skip 8 mc ms (g_z (c_Kv Q)) uc us 71 [(0, .ref x0), (2, .int x2), (3, .int x3), (4, .int x4)] [] σ := by
  unfold wX16_skip_71 at w
  obtain ⟨x4_35, hx4_35⟩ : ∃ y : Int32, y = x4 + 1 := ⟨_, rfl⟩
  have w := w x4_35 hx4_35
  refine e_iinc (n := 74) (v := x4_35) (lv' := [(0, .ref x0), (2, .int x2), (3, .int x3), (4, .int x4_35)]) [1, 2, 3, 0] dX16_skip_71 rfl 3 rfl (by rw [hx4_35]; rfl) rfl rfl ?_
  refine e_goto (n := 10) dX16_skip_74 (by decide) ?_
  exact hkh _ _ _ _ _ _ _ hu1 hu2 w
set_option maxHeartbeats 4000000 in
theorem hX16_skip_10 {Q : gH → Prop} {mc ms : Nat} {k77 : Nat → Nat → Nat → Int32 → Int32 → Int32 → gH → Prop} (hk77 : ∀ (uc : Nat) (us : Nat) (x0 : Nat) (x2 : Int32) (x3 : Int32) (x4 : Int32) (σ : gH), uc ≤ mc → us ≤ ms → k77 uc us x0 x2 x3 x4 σ → E mX16_skip 8 mc ms (g_z (c_Kv Q)) uc us 77 [(0, .ref x0), (2, .int x2), (3, .int x3), (4, .int x4)] [] σ) : ∀ (n : Nat) (uc : Nat) (us : Nat) (x0 : Nat) (x2 : Int32) (x3 : Int32) (x4 : Int32) (σ : gH) (hu1 : uc ≤ mc) (hu2 : us ≤ ms), wX16_skip_10 Q mc ms k77 n uc us x0 x2 x3 x4 σ → E mX16_skip 8 mc ms (g_z (c_Kv Q)) uc us 10 [(0, .ref x0), (2, .int x2), (3, .int x3), (4, .int x4)] [] σ := by
  intro n
  induction n with
  | zero =>
    intro _ _ _ _ _ _ _ _ _ w
    exact w.elim
  | succ n ih =>
    intro uc us x0 x2 x3 x4 σ hu1 hu2 w
    unfold wX16_skip_10 at w
    refine e_aload_n (n := 11) dX16_skip_10 rfl 0 rfl ?_
    refine e_cR (n := 14) w fw_X16_chart (gl_o q1013) dX16_skip_11 rfl (fun r_28 w => ?_)
    obtain ⟨a_29, ha_29, w9a_29⟩ := w
    subst ha_29
    have w := w9a_29
    refine e_cR (n := 17) w fw_X7_skips (gl_n q937) dX16_skip_14 rfl (fun r_30 w => ?_)
    refine e_iload_n (n := 18) dX16_skip_17 rfl 2 rfl ?_
    obtain ⟨a_31, ha_31, w9a_31⟩ := w
    subst ha_31
    have w := w9a_31
    refine e_caR (n := 19) w (fun _ => rfl) rfl dX16_skip_18 rfl (fun r_32 w => ?_)
    refine e_iload (n := 21) dX16_skip_19 rfl 3 rfl ?_
    obtain ⟨a_33, ha_33, w9a_33⟩ := w
    subst ha_33
    have w := w9a_33
    refine e_caR (n := 22) w (fun _ => rfl) rfl dX16_skip_21 rfl (fun r_34 w => ?_)
    refine e_ifnull (n := 25) (tgt := 71) (r := r_34) dX16_skip_22 rfl (by decide) (fun h => ?_) (fun h => ?_)
    · have w := w.1 h
      exact hX16_skip_71 ih hk77 _ _ _ _ _ _ _ hu1 hu2 w
    · have w := w.2 h
      refine e_aload_n (n := 26) dX16_skip_25 rfl 0 rfl ?_
      refine e_cR (n := 29) w fw_X16_chart (gl_o q1013) dX16_skip_26 rfl (fun r_36 w => ?_)
      obtain ⟨a_37, ha_37, w9a_37⟩ := w
      subst ha_37
      have w := w9a_37
      refine e_cR (n := 32) w fw_X7_skips (gl_n q937) dX16_skip_29 rfl (fun r_38 w => ?_)
      refine e_iload_n (n := 33) dX16_skip_32 rfl 2 rfl ?_
      obtain ⟨a_39, ha_39, w9a_39⟩ := w
      subst ha_39
      have w := w9a_39
      refine e_caR (n := 34) w (fun _ => rfl) rfl dX16_skip_33 rfl (fun r_40 w => ?_)
      refine e_iload (n := 36) dX16_skip_34 rfl 3 rfl ?_
      obtain ⟨a_41, ha_41, w9a_41⟩ := w
      subst ha_41
      have w := w9a_41
      refine e_caR (n := 37) w (fun _ => rfl) rfl dX16_skip_36 rfl (fun r_42 w => ?_)
      obtain ⟨a_43, ha_43, w9a_43⟩ := w
      subst ha_43
      have w := w9a_43
      refine evX8_price (n := 40) (st := []) w (by decide) hu1 hu2 q1061 rfl dX16_skip_37 rfl (fun v_44 w => ?_)
      refine e_i2l (n := 41) dX16_skip_40 rfl ?_
      refine e_aload_n (n := 42) dX16_skip_41 rfl 0 rfl ?_
      refine e_cR (n := 45) w fw_X16_chart (gl_o q1013) dX16_skip_42 rfl (fun r_45 w => ?_)
      obtain ⟨a_46, ha_46, w9a_46⟩ := w
      subst ha_46
      have w := w9a_46
      refine e_cR (n := 48) w fw_X7_skipping (gl_n q939) dX16_skip_45 rfl (fun r_47 w => ?_)
      refine e_iload_n (n := 49) dX16_skip_48 rfl 2 rfl ?_
      refine e_iload (n := 51) dX16_skip_49 rfl 3 rfl ?_
      refine e_iadd (n := 52) dX16_skip_51 rfl ?_
      obtain ⟨a_48, ha_48, w9a_48⟩ := w
      subst ha_48
      have w := w9a_48
      refine e_caR (n := 53) w (fun _ => rfl) rfl dX16_skip_52 rfl (fun r_49 w => ?_)
      refine e_iload_n (n := 54) dX16_skip_53 rfl 1 rfl ?_
      obtain ⟨a_50, ha_50, w9a_50⟩ := w
      subst ha_50
      have w := w9a_50
      refine e_caJ (n := 55) w dX16_skip_54 rfl (fun v_51 w => ?_)
      refine e_ladd (n := 56) dX16_skip_55 rfl ?_
      refine e_aload_n (n := 57) dX16_skip_56 rfl 0 rfl ?_
      refine e_cR (n := 60) w fw_X16_chart (gl_o q1013) dX16_skip_57 rfl (fun r_52 w => ?_)
      obtain ⟨a_53, ha_53, w9a_53⟩ := w
      subst ha_53
      have w := w9a_53
      refine e_cR (n := 63) w fw_X7_skipping (gl_n q939) dX16_skip_60 rfl (fun r_54 w => ?_)
      refine e_iload_n (n := 64) dX16_skip_63 rfl 2 rfl ?_
      obtain ⟨a_55, ha_55, w9a_55⟩ := w
      subst ha_55
      have w := w9a_55
      refine e_caR (n := 65) w (fun _ => rfl) rfl dX16_skip_64 rfl (fun r_56 w => ?_)
      refine e_iload_n (n := 66) dX16_skip_65 rfl 1 rfl ?_
      obtain ⟨a_57, ha_57, w9a_57⟩ := w
      subst ha_57
      have w := w9a_57
      refine e_caJ (n := 67) w dX16_skip_66 rfl (fun v_58 w => ?_)
      refine e_lcmp_eq (n := 71) (tgt := 77) dX16_skip_67 dX16_skip_68 rfl (by decide) (fun h => ?_) (fun h => ?_)
      · have w := w.1 h
        exact hk77 _ _ _ _ _ _ _ hu1 hu2 w
      · have w := w.2 h
        exact hX16_skip_71 ih hk77 _ _ _ _ _ _ _ hu1 hu2 w
set_option maxHeartbeats 4000000 in
theorem hX16_skip_2 {Q : gH → Prop} {mc ms : Nat} {k110 : Nat → Nat → gH → Prop} (hk110 : ∀ (uc : Nat) (us : Nat) (σ : gH), uc ≤ mc → us ≤ ms → k110 uc us σ → E mX16_skip 8 mc ms (g_z (c_Kv Q)) uc us 110 [] [] σ) : ∀ (n : Nat) (uc : Nat) (us : Nat) (x0 : Nat) (x2 : Int32) (x3 : Int32) (σ : gH) (hu1 : uc ≤ mc) (hu2 : us ≤ ms), wX16_skip_2 Q mc ms k110 n uc us x0 x2 x3 σ → E mX16_skip 8 mc ms (g_z (c_Kv Q)) uc us 2 [(0, .ref x0), (2, .int x2), (3, .int x3)] [] σ := by
  intro n
  induction n with
  | zero =>
    intro _ _ _ _ _ _ _ _ w
    exact w.elim
  | succ n ih =>
    intro uc us x0 x2 x3 σ hu1 hu2 w
    unfold wX16_skip_2 at w
    refine e_iload_n (n := 3) dX16_skip_2 rfl 2 rfl ?_
    refine e_iload_n (n := 4) dX16_skip_3 rfl 1 rfl ?_
    refine e_icmp_ge (n := 7) (tgt := 110) dX16_skip_4 rfl (by decide) (fun h => ?_) (fun h => ?_)
    · have w := w.1 h
      refine e_sub (lv' := []) [] rfl ?_
      exact hk110 _ _ _ hu1 hu2 w
    · have w := w.2 h
      refine e_iconst (n := 8) (v := 1) dX16_skip_7 rfl (by decide) ?_
      refine e_istore (n := 10) (lv' := [(0, .ref x0), (2, .int x2), (3, .int x3), (4, .int 1)]) [1, 2, 3, 0] dX16_skip_8 rfl rfl rfl ?_
      obtain ⟨fu, w⟩ := w
      refine hX16_skip_10 (fun uc_9 us_10 x0_4 x2_5 x3_6 x4_7 σ_8 hu1 hu2 w => ?_) fu _ _ _ _ _ _ _ hu1 hu2 w
      refine e_aload_n (n := 78) dX16_skip_77 rfl 0 rfl ?_
      refine e_cR (n := 81) w fw_X16_this_0 (gl_o q1014) dX16_skip_78 rfl (fun r_11 w => ?_)
      obtain ⟨a_12, ha_12, w9a_12⟩ := w
      subst ha_12
      have w := w9a_12
      refine e_cR (n := 84) w fw_X0_slips (gl_n q206) dX16_skip_81 rfl (fun r_13 w => ?_)
      refine e_aload_n (n := 85) dX16_skip_84 rfl 0 rfl ?_
      refine e_cR (n := 88) w fw_X16_chart (gl_o q1013) dX16_skip_85 rfl (fun r_14 w => ?_)
      obtain ⟨a_15, ha_15, w9a_15⟩ := w
      subst ha_15
      have w := w9a_15
      refine e_cR (n := 91) w fw_X7_skips (gl_n q937) dX16_skip_88 rfl (fun r_16 w => ?_)
      refine e_iload_n (n := 92) dX16_skip_91 rfl 2 rfl ?_
      obtain ⟨a_17, ha_17, w9a_17⟩ := w
      subst ha_17
      have w := w9a_17
      refine e_caR (n := 93) w (fun _ => rfl) rfl dX16_skip_92 rfl (fun r_18 w => ?_)
      refine e_iload (n := 95) dX16_skip_93 rfl 3 rfl ?_
      obtain ⟨a_19, ha_19, w9a_19⟩ := w
      subst ha_19
      have w := w9a_19
      refine e_caR (n := 96) w (fun _ => rfl) rfl dX16_skip_95 rfl (fun r_20 w => ?_)
      obtain ⟨a_21, ha_21, w9a_21⟩ := w
      subst ha_21
      have w := w9a_21
      obtain ⟨fs_26, wo, w⟩ := w
      obtain ⟨c_24, b_25, hu1, hu2, w⟩ := w
      refine e_callF (n := 101) (As := [va_rf r_20]) (st := []) okJ2_add q1063 q329 q331 q60 q333 q328 q327 q332 q330 q286 rfl (by decide) wo rfl (by decide) hu1 hu2 rfl rfl rfl dX16_skip_96 rfl (ctJ2_add w) (fun r9 σ_22 hk => ?_)
      obtain ⟨v_23, rfl, w⟩ := hk
      refine e_pop (n := 102) dX16_skip_101 rfl rfl ?_
      refine e_iload_n (n := 103) dX16_skip_102 rfl 2 rfl ?_
      refine e_iload (n := 105) dX16_skip_103 rfl 3 rfl ?_
      refine e_iadd (n := 106) dX16_skip_105 rfl ?_
      refine e_topi (fun x3_27 hx3_27 => ?_)
      have w := w x3_27 hx3_27
      refine e_istore_n (n := 107) (lv' := [(0, .ref x0_4), (2, .int x2_5), (3, .int x3_27), (4, .int x4_7)]) [1, 2, 0, 3] dX16_skip_106 rfl rfl rfl ?_
      refine e_goto (n := 2) dX16_skip_107 (by decide) ?_
      refine e_sub (lv' := [(0, .ref x0_4), (2, .int x2_5), (3, .int x3_27)]) [0, 1, 2] rfl ?_
      exact ih _ _ _ _ _ _ hu1 hu2 w
set_option maxHeartbeats 4000000 in
theorem ctX16_skip {Q : gH → Prop} {mc ms : Nat} {x0 : Nat} {x1 : Int32} {x2 : Int32} {σ : gH} (w : wX16_skip Q mc ms x0 x1 x2 σ) : CT mX16_skip 8 mc ms [.ref x0, .int x1, .int x2] σ (c_Kv Q) := by
  refine CT.of (lv := [(0, .ref x0), (1, .int x1), (2, .int x2)]) okX16_skip.1 rfl rfl ?_
  unfold wX16_skip at w
  refine e_iload_n (n := 1) dX16_skip_0 rfl 1 rfl ?_
  refine e_istore_n (n := 2) (lv' := [(0, .ref x0), (1, .int x1), (2, .int x2), (3, .int x1)]) [1, 2, 3, 0] dX16_skip_1 rfl rfl rfl ?_
  obtain ⟨fu, w⟩ := w
  refine e_sub (lv' := [(0, .ref x0), (2, .int x2), (3, .int x1)]) [0, 2, 3] rfl ?_
  refine hX16_skip_2 (fun uc_2 us_3 σ_1 hu1 hu2 w => ?_) fu _ _ _ _ _ _ (Nat.zero_le _) (Nat.zero_le _) w
  exact e_vret rfl hu1 hu2 ⟨rfl, w⟩ dX16_skip_110
abbrev mX16_read : gM := (yX16_read, cX16_read, 8, none)
theorem okX16_read : g_ok mX16_read 3 := ⟨by decide +kernel, by decide +kernel, by decide +kernel, by decide +kernel, by decide⟩
def wX16_read_213 (Q : gH → Prop) (mc ms : Nat)  (uc : Nat) (us : Nat) (x0 : Nat) (x1 : Int32) (σ : gH) : Prop := c_R σ [16] x0 1 (fun r_12 => ∃ a_13 : Nat, r_12 = some a_13 ∧ (c_R σ [0] a_13 21 (fun r_14 => c_R σ [16] x0 1 (fun r_15 => ∃ a_16 : Nat, r_15 = some a_16 ∧ (c_I σ [0] a_16 22 (fun v_17 => ∃ a_18 : Nat, r_14 = some a_18 ∧ (c_sI σ a_18 v_17 x1 (fun σ_19 => c_R σ_19 [16] x0 1 (fun r_20 => ∃ a_21 : Nat, r_20 = some a_21 ∧ (c_I σ_19 [0] a_21 22 (fun v_22 => c_P σ_19 [0] a_21 22 (.int (v_22 + 1)) (fun σ_23 => Q σ_23))))))))))))
def wX16_read_190 (Q : gH → Prop) (mc ms : Nat)  (uc : Nat) (us : Nat) (x0 : Nat) (x1 : Int32) (x4 : Option Nat) (σ : gH) : Prop := ∃ a_10 : Nat, x4 = some a_10 ∧ (vX8_kind σ (fun (v_11 : Int32) => (v_11 ≤ 0 → (wX16_read_213 Q mc ms uc us x0 x1 σ)) ∧ (¬ v_11 ≤ 0 → (c_R σ [16] x0 1 (fun r_24 => ∃ a_25 : Nat, r_24 = some a_25 ∧ (c_R σ [0] a_25 19 (fun r_26 => ∃ a_27 : Nat, r_26 = some a_27 ∧ (∃ fs_32 : List Value, σ.2 a_27 = some (.inr (18, fs_32)) ∧ ∃ c_30 b_31 : Nat, uc + c_30 ≤ mc ∧ us + b_31 ≤ ms ∧ (wJ2_add (fun (v_29 : Int32) (σ_28 : gH) => wX16_read_213 Q mc ms (uc + c_30) (us + b_31) x0 x1 σ_28) c_30 b_31 a_27 (some a_10) σ)))))))) a_10)
def wX16_read_149 (Q : gH → Prop) (mc ms : Nat) (kh : Nat → Nat → Nat → Int32 → Int32 → Int32 → (Option Nat) → Int32 → gH → Prop) (k155 : Nat → Nat → Nat → Int32 → Int32 → (Option Nat) → gH → Prop) (uc : Nat) (us : Nat) (x0 : Nat) (x1 : Int32) (x2 : Int32) (x3 : Int32) (x4 : Option Nat) (x5 : Int32) (σ : gH) : Prop := ∀ x5_62 : Int32, x5_62 = x5 + 1 → (kh uc us x0 x1 x2 x3 x4 x5_62 σ)
def wX16_read_145 (Q : gH → Prop) (mc ms : Nat) (kh : Nat → Nat → Nat → Int32 → Int32 → Int32 → (Option Nat) → Int32 → gH → Prop) (k155 : Nat → Nat → Nat → Int32 → Int32 → (Option Nat) → gH → Prop) (uc : Nat) (us : Nat) (x0 : Nat) (x1 : Int32) (x2 : Int32) (x3 : Int32) (x5 : Int32) (x6 : Option Nat) (σ : gH) : Prop := wX16_read_149 Q mc ms kh k155 uc us x0 x1 x2 x3 x6 x5 σ
def wX16_read_122 (Q : gH → Prop) (mc ms : Nat) (kh : Nat → Nat → Nat → Int32 → Int32 → Int32 → (Option Nat) → Int32 → gH → Prop) (k155 : Nat → Nat → Nat → Int32 → Int32 → (Option Nat) → gH → Prop) (uc : Nat) (us : Nat) (t0 : Int32) (x0 : Nat) (x1 : Int32) (x2 : Int32) (x3 : Int32) (x4 : Option Nat) (x5 : Int32) (x6 : Option Nat) (σ : gH) : Prop := (t0 = 0 → (wX16_read_149 Q mc ms kh k155 uc us x0 x1 x2 x3 x4 x5 σ)) ∧ (¬ t0 = 0 → ((x4 = none → (wX16_read_145 Q mc ms kh k155 uc us x0 x1 x2 x3 x5 x6 σ)) ∧ (¬ x4 = none → (∃ fs_64 : List Value, σ.2 x0 = some (.inr (16, fs_64)) ∧ (wX16_isAhead (fun (v_63 : Int32) => (v_63 = 0 → (wX16_read_149 Q mc ms kh k155 uc us x0 x1 x2 x3 x4 x5 σ)) ∧ (¬ v_63 = 0 → (wX16_read_145 Q mc ms kh k155 uc us x0 x1 x2 x3 x5 x6 σ))) σ x0 x6 x4)))))
def wX16_read_121 (Q : gH → Prop) (mc ms : Nat) (kh : Nat → Nat → Nat → Int32 → Int32 → Int32 → (Option Nat) → Int32 → gH → Prop) (k155 : Nat → Nat → Nat → Int32 → Int32 → (Option Nat) → gH → Prop) (uc : Nat) (us : Nat) (x0 : Nat) (x1 : Int32) (x2 : Int32) (x3 : Int32) (x4 : Option Nat) (x5 : Int32) (x6 : Option Nat) (σ : gH) : Prop := wX16_read_122 Q mc ms kh k155 uc us 0 x0 x1 x2 x3 x4 x5 x6 σ
def wX16_read_6 (Q : gH → Prop) (mc ms : Nat) (k155 : Nat → Nat → Nat → Int32 → Int32 → (Option Nat) → gH → Prop) : Nat → Nat → Nat → Nat → Int32 → Int32 → Int32 → (Option Nat) → Int32 → gH → Prop
  | 0 => fun _ _ _ _ _ _ _ _ _ => False
  | n + 1 => fun uc us x0 x1 x2 x3 x4 x5 σ => c_R σ [16] x0 0 (fun r_48 => ∃ a_49 : Nat, r_48 = some a_49 ∧ (c_R σ [7] a_49 6 (fun r_50 => ∃ a_51 : Nat, r_50 = some a_51 ∧ (∃ fs_53 : List Value, σ.2 a_51 = some (.inr (18, fs_53)) ∧ (wJ2_size (fun (v_52 : Int32) => (v_52 ≤ x5 → (k155 uc us x0 x1 x2 x4 σ)) ∧ (¬ v_52 ≤ x5 → (c_R σ [16] x0 0 (fun r_54 => ∃ a_55 : Nat, r_54 = some a_55 ∧ (c_R σ [7] a_55 6 (fun r_56 => ∃ a_57 : Nat, r_56 = some a_57 ∧ (∃ fs_59 : List Value, σ.2 a_57 = some (.inr (18, fs_59)) ∧ (wJ2_get (fun (r_58 : Option Nat) => c_cast σ [8, 9, 10, 11, 12, 13, 14, 15] r_58 (∃ a_60 : Nat, r_58 = some a_60 ∧ (c_I σ [8, 9, 10, 11, 12, 13, 14, 15] a_60 4 (fun v_61 => (v_61 = x1 → (c_I σ [8, 9, 10, 11, 12, 13, 14, 15] a_60 3 (fun v_65 => (v_65 = x3 → (c_I σ [8, 9, 10, 11, 12, 13, 14, 15] a_60 2 (fun v_66 => (v_66 < x2 → (wX16_read_121 Q mc ms (wX16_read_6 Q mc ms k155 n) k155 uc us x0 x1 x2 x3 x4 x5 (some a_60) σ)) ∧ (¬ v_66 < x2 → (c_R σ [16] x0 0 (fun r_67 => ∃ a_68 : Nat, r_67 = some a_68 ∧ (∃ fs_70 : List Value, σ.2 a_68 = some (.inr (7, fs_70)) ∧ (wX7_upTo (fun (v_69 : Int64) => c_R σ [16] x0 0 (fun r_71 => ∃ a_72 : Nat, r_71 = some a_72 ∧ (c_R σ [7] a_72 2 (fun r_73 => c_R σ [16] x0 0 (fun r_74 => ∃ a_75 : Nat, r_74 = some a_75 ∧ (c_I σ [7] a_75 1 (fun v_76 => wX0_priceOf (fun (v_77 : Int32) => c_R σ [16] x0 0 (fun r_78 => ∃ a_79 : Nat, r_78 = some a_79 ∧ (c_R σ [7] a_79 9 (fun r_80 => ∃ a_81 : Nat, r_80 = some a_81 ∧ (c_aR 5 σ a_81 x1 (fun r_82 => ∃ a_83 : Nat, r_82 = some a_83 ∧ (c_aR 4 σ a_83 x2 (fun r_84 => ∃ a_85 : Nat, r_84 = some a_85 ∧ (c_aJ σ a_85 x3 (fun v_86 => (v_69 + v_77.toInt64 = v_86 → (wX16_read_122 Q mc ms (wX16_read_6 Q mc ms k155 n) k155 uc us 1 x0 x1 x2 x3 x4 x5 (some a_60) σ)) ∧ (¬ v_69 + v_77.toInt64 = v_86 → (wX16_read_121 Q mc ms (wX16_read_6 Q mc ms k155 n) k155 uc us x0 x1 x2 x3 x4 x5 (some a_60) σ)))))))))))) σ r_73 (some a_60) v_76))))))) σ a_68 x2 (some a_60))))))))) ∧ (¬ v_65 = x3 → (wX16_read_121 Q mc ms (wX16_read_6 Q mc ms k155 n) k155 uc us x0 x1 x2 x3 x4 x5 (some a_60) σ))))) ∧ (¬ v_61 = x1 → (wX16_read_121 Q mc ms (wX16_read_6 Q mc ms k155 n) k155 uc us x0 x1 x2 x3 x4 x5 (some a_60) σ)))))) σ a_57 x5)))))))) σ a_51)))))
def wX16_read (Q : gH → Prop) (mc ms : Nat) (x0 : Nat) (x1 : Int32) (x2 : Int32) (x3 : Int32) (σ : gH) : Prop := ∃ fu : Nat, wX16_read_6 Q mc ms (fun (uc_6 : Nat) (us_7 : Nat) (x0_1 : Nat) (x1_2 : Int32) (x2_3 : Int32) (x4_4 : Option Nat) (σ_5 : gH) => ∃ a_8 : Nat, x4_4 = some a_8 ∧ (c_I σ_5 [8, 9, 10, 11, 12, 13, 14, 15] a_8 2 (fun v_9 => (v_9 = x2_3 → (wX16_read_190 Q mc ms uc_6 us_7 x0_1 x1_2 (some a_8) σ_5)) ∧ (¬ v_9 = x2_3 → (c_R σ_5 [16] x0_1 0 (fun r_33 => ∃ a_34 : Nat, r_33 = some a_34 ∧ (c_R σ_5 [7] a_34 4 (fun r_35 => ∃ a_36 : Nat, r_35 = some a_36 ∧ (c_aI σ_5 a_36 x2_3 (fun v_37 => c_R σ_5 [16] x0_1 0 (fun r_38 => ∃ a_39 : Nat, r_38 = some a_39 ∧ (c_R σ_5 [7] a_39 4 (fun r_40 => c_I σ_5 [8, 9, 10, 11, 12, 13, 14, 15] a_8 2 (fun v_41 => ∃ a_42 : Nat, r_40 = some a_42 ∧ (c_aI σ_5 a_42 v_41 (fun v_43 => ∃ fs_47 : List Value, σ_5.2 x0_1 = some (.inr (16, fs_47)) ∧ ∃ c_45 b_46 : Nat, uc_6 + c_45 ≤ mc ∧ us_7 + b_46 ≤ ms ∧ (wX16_skip (fun (σ_44 : gH) => wX16_read_190 Q mc ms (uc_6 + c_45) (us_7 + b_46) x0_1 x1_2 (some a_8) σ_44) c_45 b_46 x0_1 v_37 v_43 σ_5))))))))))))))))) fu 0 0 x0 x1 x2 x3 none 0 σ
set_option maxHeartbeats 4000000 in
theorem hX16_read_213 {Q : gH → Prop} {mc ms : Nat}  (uc : Nat) (us : Nat) (x0 : Nat) (x1 : Int32) (σ : gH) (hu1 : uc ≤ mc) (hu2 : us ≤ ms) (w : wX16_read_213 Q mc ms uc us x0 x1 σ) : E mX16_read 9 mc ms (g_z (c_Kv Q)) uc us 213 [(0, .ref x0), (1, .int x1)] [] σ := by
  unfold wX16_read_213 at w
  refine e_aload_n (n := 214) dX16_read_213 rfl 0 rfl ?_
  refine e_cR (n := 217) w fw_X16_this_0 (gl_o q1014) dX16_read_214 rfl (fun r_12 w => ?_)
  obtain ⟨a_13, ha_13, w9a_13⟩ := w
  subst ha_13
  have w := w9a_13
  refine e_cR (n := 220) w fw_X0_words (gl_n q210) dX16_read_217 rfl (fun r_14 w => ?_)
  refine e_aload_n (n := 221) dX16_read_220 rfl 0 rfl ?_
  refine e_cR (n := 224) w fw_X16_this_0 (gl_o q1014) dX16_read_221 rfl (fun r_15 w => ?_)
  obtain ⟨a_16, ha_16, w9a_16⟩ := w
  subst ha_16
  have w := w9a_16
  refine e_cI (n := 227) w fw_X0_wordMany (gl_n q211) dX16_read_224 rfl (fun v_17 w => ?_)
  refine e_iload_n (n := 228) dX16_read_227 rfl 1 rfl ?_
  obtain ⟨a_18, ha_18, w9a_18⟩ := w
  subst ha_18
  have w := w9a_18
  refine e_csI (n := 229) w dX16_read_228 rfl (fun σ_19 w => ?_)
  refine e_aload_n (n := 230) dX16_read_229 rfl 0 rfl ?_
  refine e_cR (n := 233) w fw_X16_this_0 (gl_o q1014) dX16_read_230 rfl (fun r_20 w => ?_)
  refine e_dup (n := 234) dX16_read_233 rfl (rf_c1 _) ?_
  obtain ⟨a_21, ha_21, w9a_21⟩ := w
  subst ha_21
  have w := w9a_21
  refine e_cI (n := 237) w fw_X0_wordMany (gl_n q211) dX16_read_234 rfl (fun v_22 w => ?_)
  refine e_iconst (n := 238) (v := 1) dX16_read_237 rfl (by decide) ?_
  refine e_iadd (n := 239) dX16_read_238 rfl ?_
  refine e_cP (n := 242) (ty := .int) w tyX0 tyX0_ok nmX0 in_X0 rfl rfl (gl_n q211) rfl rfl ⟨rfl, rfl⟩ dX16_read_239 rfl (fun σ_23 w => ?_)
  exact e_vret rfl hu1 hu2 ⟨rfl, w⟩ dX16_read_242
set_option maxHeartbeats 4000000 in
theorem hX16_read_190 {Q : gH → Prop} {mc ms : Nat}  (uc : Nat) (us : Nat) (x0 : Nat) (x1 : Int32) (x4 : Option Nat) (σ : gH) (hu1 : uc ≤ mc) (hu2 : us ≤ ms) (w : wX16_read_190 Q mc ms uc us x0 x1 x4 σ) : E mX16_read 9 mc ms (g_z (c_Kv Q)) uc us 190 [(0, .ref x0), (1, .int x1), (4, va_rf x4)] [] σ := by
  unfold wX16_read_190 at w
  refine e_aloadr (n := 192) (r := x4) dX16_read_190 rfl 2 rfl ?_
  obtain ⟨a_10, ha_10, w9a_10⟩ := w
  subst ha_10
  have w := w9a_10
  refine evX8_kind (n := 195) (st := []) w (by decide) hu1 hu2 q1042 rfl dX16_read_192 rfl (fun v_11 w => ?_)
  refine e_if_le (n := 198) (tgt := 213) dX16_read_195 rfl (by decide) (fun h => ?_) (fun h => ?_)
  · have w := w.1 h
    refine e_sub (lv' := [(0, .ref x0), (1, .int x1)]) [0, 1] rfl ?_
    exact hX16_read_213 _ _ _ _ _ hu1 hu2 w
  · have w := w.2 h
    refine e_aload_n (n := 199) dX16_read_198 rfl 0 rfl ?_
    refine e_cR (n := 202) w fw_X16_this_0 (gl_o q1014) dX16_read_199 rfl (fun r_24 w => ?_)
    obtain ⟨a_25, ha_25, w9a_25⟩ := w
    subst ha_25
    have w := w9a_25
    refine e_cR (n := 205) w fw_X0_slips (gl_n q206) dX16_read_202 rfl (fun r_26 w => ?_)
    refine e_aload (n := 207) dX16_read_205 rfl 2 rfl ?_
    obtain ⟨a_27, ha_27, w9a_27⟩ := w
    subst ha_27
    have w := w9a_27
    obtain ⟨fs_32, wo, w⟩ := w
    obtain ⟨c_30, b_31, hu1, hu2, w⟩ := w
    refine e_callF (n := 212) (As := [va_rf (some a_10)]) (st := []) okJ2_add q1063 q329 q331 q60 q333 q328 q327 q332 q330 q286 rfl (by decide) wo rfl (by decide) hu1 hu2 rfl rfl rfl dX16_read_207 rfl (ctJ2_add w) (fun r9 σ_28 hk => ?_)
    obtain ⟨v_29, rfl, w⟩ := hk
    refine e_pop (n := 213) dX16_read_212 rfl rfl ?_
    refine e_sub (lv' := [(0, .ref x0), (1, .int x1)]) [0, 1] rfl ?_
    exact hX16_read_213 _ _ _ _ _ hu1 hu2 w
set_option maxHeartbeats 4000000 in
theorem hX16_read_149 {Q : gH → Prop} {mc ms : Nat} {kh : Nat → Nat → Nat → Int32 → Int32 → Int32 → (Option Nat) → Int32 → gH → Prop} (hkh : ∀ (uc : Nat) (us : Nat) (x0 : Nat) (x1 : Int32) (x2 : Int32) (x3 : Int32) (x4 : Option Nat) (x5 : Int32) (σ : gH), uc ≤ mc → us ≤ ms → kh uc us x0 x1 x2 x3 x4 x5 σ → E mX16_read 9 mc ms (g_z (c_Kv Q)) uc us 6 [(0, .ref x0), (1, .int x1), (2, .int x2), (3, .int x3), (4, va_rf x4), (5, .int x5)] [] σ) {k155 : Nat → Nat → Nat → Int32 → Int32 → (Option Nat) → gH → Prop} (hk155 : ∀ (uc : Nat) (us : Nat) (x0 : Nat) (x1 : Int32) (x2 : Int32) (x4 : Option Nat) (σ : gH), uc ≤ mc → us ≤ ms → k155 uc us x0 x1 x2 x4 σ → E mX16_read 9 mc ms (g_z (c_Kv Q)) uc us 155 [(0, .ref x0), (1, .int x1), (2, .int x2), (4, va_rf x4)] [] σ) (uc : Nat) (us : Nat) (x0 : Nat) (x1 : Int32) (x2 : Int32) (x3 : Int32) (x4 : Option Nat) (x5 : Int32) (σ : gH) (hu1 : uc ≤ mc) (hu2 : us ≤ ms) (w : wX16_read_149 Q mc ms kh k155 uc us x0 x1 x2 x3 x4 x5 σ) : E mX16_read 9 mc ms (g_z (c_Kv Q)) uc us 149 [(0, .ref x0), (1, .int x1), (2, .int x2), (3, .int x3), (4, va_rf x4), (5, .int x5)] [] σ := by
  unfold wX16_read_149 at w
  obtain ⟨x5_62, hx5_62⟩ : ∃ y : Int32, y = x5 + 1 := ⟨_, rfl⟩
  have w := w x5_62 hx5_62
  refine e_iinc (n := 152) (v := x5_62) (lv' := [(0, .ref x0), (1, .int x1), (2, .int x2), (3, .int x3), (4, va_rf x4), (5, .int x5_62)]) [1, 2, 3, 4, 5, 0] dX16_read_149 rfl 5 rfl (by rw [hx5_62]; rfl) rfl (by cases x4 <;> rfl) ?_
  refine e_goto (n := 6) dX16_read_152 (by decide) ?_
  exact hkh _ _ _ _ _ _ _ _ _ hu1 hu2 w
set_option maxHeartbeats 4000000 in
theorem hX16_read_145 {Q : gH → Prop} {mc ms : Nat} {kh : Nat → Nat → Nat → Int32 → Int32 → Int32 → (Option Nat) → Int32 → gH → Prop} (hkh : ∀ (uc : Nat) (us : Nat) (x0 : Nat) (x1 : Int32) (x2 : Int32) (x3 : Int32) (x4 : Option Nat) (x5 : Int32) (σ : gH), uc ≤ mc → us ≤ ms → kh uc us x0 x1 x2 x3 x4 x5 σ → E mX16_read 9 mc ms (g_z (c_Kv Q)) uc us 6 [(0, .ref x0), (1, .int x1), (2, .int x2), (3, .int x3), (4, va_rf x4), (5, .int x5)] [] σ) {k155 : Nat → Nat → Nat → Int32 → Int32 → (Option Nat) → gH → Prop} (hk155 : ∀ (uc : Nat) (us : Nat) (x0 : Nat) (x1 : Int32) (x2 : Int32) (x4 : Option Nat) (σ : gH), uc ≤ mc → us ≤ ms → k155 uc us x0 x1 x2 x4 σ → E mX16_read 9 mc ms (g_z (c_Kv Q)) uc us 155 [(0, .ref x0), (1, .int x1), (2, .int x2), (4, va_rf x4)] [] σ) (uc : Nat) (us : Nat) (x0 : Nat) (x1 : Int32) (x2 : Int32) (x3 : Int32) (x5 : Int32) (x6 : Option Nat) (σ : gH) (hu1 : uc ≤ mc) (hu2 : us ≤ ms) (w : wX16_read_145 Q mc ms kh k155 uc us x0 x1 x2 x3 x5 x6 σ) : E mX16_read 9 mc ms (g_z (c_Kv Q)) uc us 145 [(0, .ref x0), (1, .int x1), (2, .int x2), (3, .int x3), (5, .int x5), (6, va_rf x6)] [] σ := by
  unfold wX16_read_145 at w
  refine e_aloadr (n := 147) (r := x6) dX16_read_145 rfl 5 rfl ?_
  refine e_astorer (n := 149) (r := x6) (lv' := [(0, .ref x0), (1, .int x1), (2, .int x2), (3, .int x3), (4, va_rf x6), (5, .int x5), (6, va_rf x6)]) [1, 2, 3, 4, 0, 5, 6] dX16_read_147 rfl rfl rfl ?_
  refine e_sub (lv' := [(0, .ref x0), (1, .int x1), (2, .int x2), (3, .int x3), (4, va_rf x6), (5, .int x5)]) [0, 1, 2, 3, 4, 5] rfl ?_
  exact hX16_read_149 hkh hk155 _ _ _ _ _ _ _ _ _ hu1 hu2 w
set_option maxHeartbeats 4000000 in
theorem hX16_read_122 {Q : gH → Prop} {mc ms : Nat} {kh : Nat → Nat → Nat → Int32 → Int32 → Int32 → (Option Nat) → Int32 → gH → Prop} (hkh : ∀ (uc : Nat) (us : Nat) (x0 : Nat) (x1 : Int32) (x2 : Int32) (x3 : Int32) (x4 : Option Nat) (x5 : Int32) (σ : gH), uc ≤ mc → us ≤ ms → kh uc us x0 x1 x2 x3 x4 x5 σ → E mX16_read 9 mc ms (g_z (c_Kv Q)) uc us 6 [(0, .ref x0), (1, .int x1), (2, .int x2), (3, .int x3), (4, va_rf x4), (5, .int x5)] [] σ) {k155 : Nat → Nat → Nat → Int32 → Int32 → (Option Nat) → gH → Prop} (hk155 : ∀ (uc : Nat) (us : Nat) (x0 : Nat) (x1 : Int32) (x2 : Int32) (x4 : Option Nat) (σ : gH), uc ≤ mc → us ≤ ms → k155 uc us x0 x1 x2 x4 σ → E mX16_read 9 mc ms (g_z (c_Kv Q)) uc us 155 [(0, .ref x0), (1, .int x1), (2, .int x2), (4, va_rf x4)] [] σ) (uc : Nat) (us : Nat) (t0 : Int32) (x0 : Nat) (x1 : Int32) (x2 : Int32) (x3 : Int32) (x4 : Option Nat) (x5 : Int32) (x6 : Option Nat) (σ : gH) (hu1 : uc ≤ mc) (hu2 : us ≤ ms) (w : wX16_read_122 Q mc ms kh k155 uc us t0 x0 x1 x2 x3 x4 x5 x6 σ) : E mX16_read 9 mc ms (g_z (c_Kv Q)) uc us 122 [(0, .ref x0), (1, .int x1), (2, .int x2), (3, .int x3), (4, va_rf x4), (5, .int x5), (6, va_rf x6)] [.int t0] σ := by
  unfold wX16_read_122 at w
  refine e_istore (n := 124) (lv' := [(0, .ref x0), (1, .int x1), (2, .int x2), (3, .int x3), (4, va_rf x4), (5, .int x5), (6, va_rf x6), (7, .int t0)]) [1, 2, 3, 4, 5, 6, 7, 0] dX16_read_122 rfl rfl (by cases x6 <;> rfl) ?_
  refine e_iload (n := 126) dX16_read_124 rfl 7 rfl ?_
  refine e_if_eq (n := 129) (tgt := 149) dX16_read_126 rfl (by decide) (fun h => ?_) (fun h => ?_)
  · have w := w.1 h
    refine e_sub (lv' := [(0, .ref x0), (1, .int x1), (2, .int x2), (3, .int x3), (4, va_rf x4), (5, .int x5)]) [0, 1, 2, 3, 4, 5] rfl ?_
    exact hX16_read_149 hkh hk155 _ _ _ _ _ _ _ _ _ hu1 hu2 w
  · have w := w.2 h
    refine e_aloadr (n := 131) (r := x4) dX16_read_129 rfl 4 rfl ?_
    refine e_ifnull (n := 134) (tgt := 145) (r := x4) dX16_read_131 rfl (by decide) (fun h => ?_) (fun h => ?_)
    · have w := w.1 h
      refine e_sub (lv' := [(0, .ref x0), (1, .int x1), (2, .int x2), (3, .int x3), (5, .int x5), (6, va_rf x6)]) [0, 1, 2, 3, 5, 6] rfl ?_
      exact hX16_read_145 hkh hk155 _ _ _ _ _ _ _ _ _ hu1 hu2 w
    · have w := w.2 h
      refine e_aload_n (n := 135) dX16_read_134 rfl 0 rfl ?_
      refine e_aloadr (n := 137) (r := x6) dX16_read_135 rfl 6 rfl ?_
      refine e_aloadr (n := 139) (r := x4) dX16_read_137 rfl 4 rfl ?_
      obtain ⟨fs_64, wo, w⟩ := w
      refine e_callV (n := 142) (As := [va_rf x6, va_rf x4]) (st := []) okX16_isAhead q1038 q1040 qs18 q82 q1041 rfl wo rfl (by decide) hu1 hu2 rfl rfl (Nat.le_of_ble_eq_true rfl) dX16_read_139 rfl (ctX16_isAhead w) (fun r9 σ9 hk => ?_)
      obtain ⟨v_63, rfl, hs9, w⟩ := hk
      rw [hs9]
      refine e_if_eq (n := 145) (tgt := 149) dX16_read_142 rfl (by decide) (fun h => ?_) (fun h => ?_)
      · have w := w.1 h
        refine e_sub (lv' := [(0, .ref x0), (1, .int x1), (2, .int x2), (3, .int x3), (4, va_rf x4), (5, .int x5)]) [0, 1, 2, 3, 4, 5] rfl ?_
        exact hX16_read_149 hkh hk155 _ _ _ _ _ _ _ _ _ hu1 hu2 w
      · have w := w.2 h
        refine e_sub (lv' := [(0, .ref x0), (1, .int x1), (2, .int x2), (3, .int x3), (5, .int x5), (6, va_rf x6)]) [0, 1, 2, 3, 5, 6] rfl ?_
        exact hX16_read_145 hkh hk155 _ _ _ _ _ _ _ _ _ hu1 hu2 w
set_option maxHeartbeats 4000000 in
theorem hX16_read_121 {Q : gH → Prop} {mc ms : Nat} {kh : Nat → Nat → Nat → Int32 → Int32 → Int32 → (Option Nat) → Int32 → gH → Prop} (hkh : ∀ (uc : Nat) (us : Nat) (x0 : Nat) (x1 : Int32) (x2 : Int32) (x3 : Int32) (x4 : Option Nat) (x5 : Int32) (σ : gH), uc ≤ mc → us ≤ ms → kh uc us x0 x1 x2 x3 x4 x5 σ → E mX16_read 9 mc ms (g_z (c_Kv Q)) uc us 6 [(0, .ref x0), (1, .int x1), (2, .int x2), (3, .int x3), (4, va_rf x4), (5, .int x5)] [] σ) {k155 : Nat → Nat → Nat → Int32 → Int32 → (Option Nat) → gH → Prop} (hk155 : ∀ (uc : Nat) (us : Nat) (x0 : Nat) (x1 : Int32) (x2 : Int32) (x4 : Option Nat) (σ : gH), uc ≤ mc → us ≤ ms → k155 uc us x0 x1 x2 x4 σ → E mX16_read 9 mc ms (g_z (c_Kv Q)) uc us 155 [(0, .ref x0), (1, .int x1), (2, .int x2), (4, va_rf x4)] [] σ) (uc : Nat) (us : Nat) (x0 : Nat) (x1 : Int32) (x2 : Int32) (x3 : Int32) (x4 : Option Nat) (x5 : Int32) (x6 : Option Nat) (σ : gH) (hu1 : uc ≤ mc) (hu2 : us ≤ ms) (w : wX16_read_121 Q mc ms kh k155 uc us x0 x1 x2 x3 x4 x5 x6 σ) : E mX16_read 9 mc ms (g_z (c_Kv Q)) uc us 121 [(0, .ref x0), (1, .int x1), (2, .int x2), (3, .int x3), (4, va_rf x4), (5, .int x5), (6, va_rf x6)] [] σ := by
  unfold wX16_read_121 at w
  refine e_iconst (n := 122) (v := 0) dX16_read_121 rfl (by decide) ?_
  exact hX16_read_122 hkh hk155 _ _ _ _ _ _ _ _ _ _ _ hu1 hu2 w
set_option maxHeartbeats 4000000 in
theorem hX16_read_6 {Q : gH → Prop} {mc ms : Nat} {k155 : Nat → Nat → Nat → Int32 → Int32 → (Option Nat) → gH → Prop} (hk155 : ∀ (uc : Nat) (us : Nat) (x0 : Nat) (x1 : Int32) (x2 : Int32) (x4 : Option Nat) (σ : gH), uc ≤ mc → us ≤ ms → k155 uc us x0 x1 x2 x4 σ → E mX16_read 9 mc ms (g_z (c_Kv Q)) uc us 155 [(0, .ref x0), (1, .int x1), (2, .int x2), (4, va_rf x4)] [] σ) : ∀ (n : Nat) (uc : Nat) (us : Nat) (x0 : Nat) (x1 : Int32) (x2 : Int32) (x3 : Int32) (x4 : Option Nat) (x5 : Int32) (σ : gH) (hu1 : uc ≤ mc) (hu2 : us ≤ ms), wX16_read_6 Q mc ms k155 n uc us x0 x1 x2 x3 x4 x5 σ → E mX16_read 9 mc ms (g_z (c_Kv Q)) uc us 6 [(0, .ref x0), (1, .int x1), (2, .int x2), (3, .int x3), (4, va_rf x4), (5, .int x5)] [] σ := by
  intro n
  induction n with
  | zero =>
    intro _ _ _ _ _ _ _ _ _ _ _ w
    exact w.elim
  | succ n ih =>
    intro uc us x0 x1 x2 x3 x4 x5 σ hu1 hu2 w
    unfold wX16_read_6 at w
    refine e_iload (n := 8) dX16_read_6 rfl 5 rfl ?_
    refine e_aload_n (n := 9) dX16_read_8 rfl 0 rfl ?_
    refine e_cR (n := 12) w fw_X16_chart (gl_o q1013) dX16_read_9 rfl (fun r_48 w => ?_)
    obtain ⟨a_49, ha_49, w9a_49⟩ := w
    subst ha_49
    have w := w9a_49
    refine e_cR (n := 15) w fw_X7_steps (gl_n q935) dX16_read_12 rfl (fun r_50 w => ?_)
    obtain ⟨a_51, ha_51, w9a_51⟩ := w
    subst ha_51
    have w := w9a_51
    obtain ⟨fs_53, wo, w⟩ := w
    refine e_callF (n := 20) (As := []) (st := [.int x5]) okJ2_size q1034 q287 q289 q60 q291 q285 q284 q290 q288 q286 rfl (by decide) wo rfl (by decide) hu1 hu2 rfl rfl rfl dX16_read_15 rfl (ctJ2_size w) (fun r9 σ9 hk => ?_)
    obtain ⟨v_52, rfl, hs9, w⟩ := hk
    rw [hs9]
    refine e_icmp_ge (n := 23) (tgt := 155) dX16_read_20 rfl (by decide) (fun h => ?_) (fun h => ?_)
    · have w := w.1 h
      refine e_sub (lv' := [(0, .ref x0), (1, .int x1), (2, .int x2), (4, va_rf x4)]) [0, 1, 2, 4] rfl ?_
      exact hk155 _ _ _ _ _ _ _ hu1 hu2 w
    · have w := w.2 h
      refine e_aload_n (n := 24) dX16_read_23 rfl 0 rfl ?_
      refine e_cR (n := 27) w fw_X16_chart (gl_o q1013) dX16_read_24 rfl (fun r_54 w => ?_)
      obtain ⟨a_55, ha_55, w9a_55⟩ := w
      subst ha_55
      have w := w9a_55
      refine e_cR (n := 30) w fw_X7_steps (gl_n q935) dX16_read_27 rfl (fun r_56 w => ?_)
      refine e_iload (n := 32) dX16_read_30 rfl 5 rfl ?_
      obtain ⟨a_57, ha_57, w9a_57⟩ := w
      subst ha_57
      have w := w9a_57
      obtain ⟨fs_59, wo, w⟩ := w
      refine e_callF (n := 37) (As := [.int x5]) (st := []) okJ2_get q1025 q412 q414 q60 q416 q411 q410 q415 q413 q286 rfl (by decide) wo rfl (by decide) hu1 hu2 rfl rfl rfl dX16_read_32 rfl (ctJ2_get w) (fun r9 σ9 hk => ?_)
      obtain ⟨r_58, rfl, hs9, w⟩ := hk
      rw [hs9]
      refine e_ccast (n := 40) (r := r_58) w gc_X8 q1035 dX16_read_37 rfl (fun w => ?_)
      refine e_astorer (n := 42) (r := r_58) (lv' := [(0, .ref x0), (1, .int x1), (2, .int x2), (3, .int x3), (4, va_rf x4), (5, .int x5), (6, va_rf r_58)]) [1, 2, 3, 4, 5, 6, 0] dX16_read_40 rfl rfl rfl ?_
      refine e_aloadr (n := 44) (r := r_58) dX16_read_42 rfl 6 rfl ?_
      obtain ⟨a_60, ha_60, w9a_60⟩ := w
      subst ha_60
      have w := w9a_60
      refine e_cI (n := 47) w fw_X8_token (gl_o q577) dX16_read_44 rfl (fun v_61 w => ?_)
      refine e_iload_n (n := 48) dX16_read_47 rfl 1 rfl ?_
      refine e_icmp_ne (n := 51) (tgt := 121) dX16_read_48 rfl (by decide) (fun h => ?_) (fun h => ?_)
      · have w := w.2 h
        refine e_sub (lv' := [(0, .ref x0), (1, .int x1), (2, .int x2), (3, .int x3), (4, va_rf x4), (5, .int x5), (6, va_rf (some a_60))]) [0, 1, 2, 3, 4, 5, 6] rfl ?_
        exact hX16_read_121 ih hk155 _ _ _ _ _ _ _ _ _ _ hu1 hu2 w
      · have w := w.1 h
        refine e_aload (n := 53) dX16_read_51 rfl 6 rfl ?_
        refine e_cI (n := 56) w fw_X8_to (gl_o q570) dX16_read_53 rfl (fun v_65 w => ?_)
        refine e_iload_n (n := 57) dX16_read_56 rfl 3 rfl ?_
        refine e_icmp_ne (n := 60) (tgt := 121) dX16_read_57 rfl (by decide) (fun h => ?_) (fun h => ?_)
        · have w := w.2 h
          refine e_sub (lv' := [(0, .ref x0), (1, .int x1), (2, .int x2), (3, .int x3), (4, va_rf x4), (5, .int x5), (6, va_rf (some a_60))]) [0, 1, 2, 3, 4, 5, 6] rfl ?_
          exact hX16_read_121 ih hk155 _ _ _ _ _ _ _ _ _ _ hu1 hu2 w
        · have w := w.1 h
          refine e_iload_n (n := 61) dX16_read_60 rfl 2 rfl ?_
          refine e_aload (n := 63) dX16_read_61 rfl 6 rfl ?_
          refine e_cI (n := 66) w fw_X8_from (gl_o q567) dX16_read_63 rfl (fun v_66 w => ?_)
          refine e_icmp_gt (n := 69) (tgt := 121) dX16_read_66 rfl (by decide) (fun h => ?_) (fun h => ?_)
          · have w := w.1 h
            refine e_sub (lv' := [(0, .ref x0), (1, .int x1), (2, .int x2), (3, .int x3), (4, va_rf x4), (5, .int x5), (6, va_rf (some a_60))]) [0, 1, 2, 3, 4, 5, 6] rfl ?_
            exact hX16_read_121 ih hk155 _ _ _ _ _ _ _ _ _ _ hu1 hu2 w
          · have w := w.2 h
            refine e_aload_n (n := 70) dX16_read_69 rfl 0 rfl ?_
            refine e_cR (n := 73) w fw_X16_chart (gl_o q1013) dX16_read_70 rfl (fun r_67 w => ?_)
            refine e_iload_n (n := 74) dX16_read_73 rfl 2 rfl ?_
            refine e_aload (n := 76) dX16_read_74 rfl 6 rfl ?_
            obtain ⟨a_68, ha_68, w9a_68⟩ := w
            subst ha_68
            have w := w9a_68
            obtain ⟨fs_70, wo, w⟩ := w
            refine e_callVN (n := 79) (As := [.int x2, va_rf (some a_60)]) (st := []) okX7_upTo q1036 q910 qs14 q73 q911 wo rfl (by decide) hu1 hu2 rfl rfl rfl dX16_read_76 rfl (ctX7_upTo w) (fun r9 σ9 hk => ?_)
            obtain ⟨v_69, rfl, hs9, w⟩ := hk
            rw [hs9]
            refine e_aload_n (n := 80) dX16_read_79 rfl 0 rfl ?_
            refine e_cR (n := 83) w fw_X16_chart (gl_o q1013) dX16_read_80 rfl (fun r_71 w => ?_)
            obtain ⟨a_72, ha_72, w9a_72⟩ := w
            subst ha_72
            have w := w9a_72
            refine e_cR (n := 86) w fw_X7_way (gl_n q926) dX16_read_83 rfl (fun r_73 w => ?_)
            refine e_aload (n := 88) dX16_read_86 rfl 6 rfl ?_
            refine e_aload_n (n := 89) dX16_read_88 rfl 0 rfl ?_
            refine e_cR (n := 92) w fw_X16_chart (gl_o q1013) dX16_read_89 rfl (fun r_74 w => ?_)
            obtain ⟨a_75, ha_75, w9a_75⟩ := w
            subst ha_75
            have w := w9a_75
            refine e_cI (n := 95) w fw_X7_n (gl_n q923) dX16_read_92 rfl (fun v_76 w => ?_)
            refine e_callSN (n := 98) (As := [va_rf r_73, va_rf (some a_60), .int v_76]) (st := [.long v_69]) okX0_priceOf q1037 q913 q57 q914 (by decide) hu1 hu2 rfl rfl rfl dX16_read_95 rfl (ctX0_priceOf w) (fun r9 σ9 hk => ?_)
            obtain ⟨v_77, rfl, hs9, w⟩ := hk
            rw [hs9]
            refine e_i2l (n := 99) dX16_read_98 rfl ?_
            refine e_ladd (n := 100) dX16_read_99 rfl ?_
            refine e_aload_n (n := 101) dX16_read_100 rfl 0 rfl ?_
            refine e_cR (n := 104) w fw_X16_chart (gl_o q1013) dX16_read_101 rfl (fun r_78 w => ?_)
            obtain ⟨a_79, ha_79, w9a_79⟩ := w
            subst ha_79
            have w := w9a_79
            refine e_cR (n := 107) w fw_X7_read (gl_n q942) dX16_read_104 rfl (fun r_80 w => ?_)
            refine e_iload_n (n := 108) dX16_read_107 rfl 1 rfl ?_
            obtain ⟨a_81, ha_81, w9a_81⟩ := w
            subst ha_81
            have w := w9a_81
            refine e_caR (n := 109) w (fun _ => rfl) rfl dX16_read_108 rfl (fun r_82 w => ?_)
            refine e_iload_n (n := 110) dX16_read_109 rfl 2 rfl ?_
            obtain ⟨a_83, ha_83, w9a_83⟩ := w
            subst ha_83
            have w := w9a_83
            refine e_caR (n := 111) w (fun _ => rfl) rfl dX16_read_110 rfl (fun r_84 w => ?_)
            refine e_iload_n (n := 112) dX16_read_111 rfl 3 rfl ?_
            obtain ⟨a_85, ha_85, w9a_85⟩ := w
            subst ha_85
            have w := w9a_85
            refine e_caJ (n := 113) w dX16_read_112 rfl (fun v_86 w => ?_)
            refine e_lcmp_ne (n := 117) (tgt := 121) dX16_read_113 dX16_read_114 rfl (by decide) (fun h => ?_) (fun h => ?_)
            · have w := w.2 h
              refine e_sub (lv' := [(0, .ref x0), (1, .int x1), (2, .int x2), (3, .int x3), (4, va_rf x4), (5, .int x5), (6, va_rf (some a_60))]) [0, 1, 2, 3, 4, 5, 6] rfl ?_
              exact hX16_read_121 ih hk155 _ _ _ _ _ _ _ _ _ _ hu1 hu2 w
            · have w := w.1 h
              refine e_iconst (n := 118) (v := 1) dX16_read_117 rfl (by decide) ?_
              refine e_goto (n := 122) dX16_read_118 (by decide) ?_
              refine e_sub (lv' := [(0, .ref x0), (1, .int x1), (2, .int x2), (3, .int x3), (4, va_rf x4), (5, .int x5), (6, va_rf (some a_60))]) [0, 1, 2, 3, 4, 5, 6] rfl ?_
              exact hX16_read_122 ih hk155 _ _ _ _ _ _ _ _ _ _ _ hu1 hu2 w
set_option maxHeartbeats 4000000 in
theorem ctX16_read {Q : gH → Prop} {mc ms : Nat} {x0 : Nat} {x1 : Int32} {x2 : Int32} {x3 : Int32} {σ : gH} (w : wX16_read Q mc ms x0 x1 x2 x3 σ) : CT mX16_read 9 mc ms [.ref x0, .int x1, .int x2, .int x3] σ (c_Kv Q) := by
  refine CT.of (lv := [(0, .ref x0), (1, .int x1), (2, .int x2), (3, .int x3)]) okX16_read.1 rfl rfl ?_
  unfold wX16_read at w
  refine e_null (n := 1) dX16_read_0 rfl ?_
  refine e_astorer (n := 3) (r := none) (lv' := [(0, .ref x0), (1, .int x1), (2, .int x2), (3, .int x3), (4, va_rf none)]) [1, 2, 3, 4, 0] dX16_read_1 rfl rfl rfl ?_
  refine e_iconst (n := 4) (v := 0) dX16_read_3 rfl (by decide) ?_
  refine e_istore (n := 6) (lv' := [(0, .ref x0), (1, .int x1), (2, .int x2), (3, .int x3), (4, va_rf none), (5, .int 0)]) [1, 2, 3, 4, 5, 0] dX16_read_4 rfl rfl rfl ?_
  obtain ⟨fu, w⟩ := w
  refine hX16_read_6 (fun uc_6 us_7 x0_1 x1_2 x2_3 x4_4 σ_5 hu1 hu2 w => ?_) fu _ _ _ _ _ _ _ _ _ (Nat.zero_le _) (Nat.zero_le _) w
  refine e_aloadr (n := 157) (r := x4_4) dX16_read_155 rfl 3 rfl ?_
  obtain ⟨a_8, ha_8, w9a_8⟩ := w
  subst ha_8
  have w := w9a_8
  refine e_cI (n := 160) w fw_X8_from (gl_o q567) dX16_read_157 rfl (fun v_9 w => ?_)
  refine e_iload_n (n := 161) dX16_read_160 rfl 2 rfl ?_
  refine e_icmp_eq (n := 164) (tgt := 190) dX16_read_161 rfl (by decide) (fun h => ?_) (fun h => ?_)
  · have w := w.1 h
    refine e_sub (lv' := [(0, .ref x0_1), (1, .int x1_2), (4, va_rf (some a_8))]) [0, 1, 3] rfl ?_
    exact hX16_read_190 _ _ _ _ _ _ hu1 hu2 w
  · have w := w.2 h
    refine e_aload_n (n := 165) dX16_read_164 rfl 0 rfl ?_
    refine e_aload_n (n := 166) dX16_read_165 rfl 0 rfl ?_
    refine e_cR (n := 169) w fw_X16_chart (gl_o q1013) dX16_read_166 rfl (fun r_33 w => ?_)
    obtain ⟨a_34, ha_34, w9a_34⟩ := w
    subst ha_34
    have w := w9a_34
    refine e_cR (n := 172) w fw_X7_mainOf (gl_n q931) dX16_read_169 rfl (fun r_35 w => ?_)
    refine e_iload_n (n := 173) dX16_read_172 rfl 2 rfl ?_
    obtain ⟨a_36, ha_36, w9a_36⟩ := w
    subst ha_36
    have w := w9a_36
    refine e_caI (n := 174) w dX16_read_173 rfl (fun v_37 w => ?_)
    refine e_aload_n (n := 175) dX16_read_174 rfl 0 rfl ?_
    refine e_cR (n := 178) w fw_X16_chart (gl_o q1013) dX16_read_175 rfl (fun r_38 w => ?_)
    obtain ⟨a_39, ha_39, w9a_39⟩ := w
    subst ha_39
    have w := w9a_39
    refine e_cR (n := 181) w fw_X7_mainOf (gl_n q931) dX16_read_178 rfl (fun r_40 w => ?_)
    refine e_aload (n := 183) dX16_read_181 rfl 3 rfl ?_
    refine e_cI (n := 186) w fw_X8_from (gl_o q567) dX16_read_183 rfl (fun v_41 w => ?_)
    obtain ⟨a_42, ha_42, w9a_42⟩ := w
    subst ha_42
    have w := w9a_42
    refine e_caI (n := 187) w dX16_read_186 rfl (fun v_43 w => ?_)
    obtain ⟨fs_47, wo, w⟩ := w
    obtain ⟨c_45, b_46, hu1, hu2, w⟩ := w
    refine e_callV (n := 190) (As := [.int v_37, .int v_43]) (st := []) okX16_skip q1057 q1058 q1059 q82 q1060 rfl wo rfl (by decide) hu1 hu2 rfl rfl (Nat.le_of_ble_eq_true rfl) dX16_read_187 rfl (ctX16_skip w) (fun r9 σ_44 hk => ?_)
    obtain ⟨rfl, w⟩ := hk
    refine e_sub (lv' := [(0, .ref x0_1), (1, .int x1_2), (4, va_rf (some a_8))]) [0, 1, 3] rfl ?_
    exact hX16_read_190 _ _ _ _ _ _ hu1 hu2 w
abbrev mX16_grow : gM := (yX16_grow, cX16_grow, 11, none)
theorem okX16_grow : g_ok mX16_grow 4 := ⟨by decide +kernel, by decide +kernel, by decide +kernel, by decide +kernel, by decide⟩
def wX16_grow_328 (g : (gH → Prop) → Nat → Nat → Nat → Int32 → Int32 → Int32 → Int32 → gH → Prop) (Q : gH → Prop) (mc ms : Nat) (kh : Nat → Nat → Nat → Int32 → (Option Nat) → Int32 → Int32 → Int32 → gH → Prop) (k338 : Nat → Nat → Nat → Int32 → gH → Prop) (uc : Nat) (us : Nat) (x0 : Nat) (x3 : Int32) (x6 : Option Nat) (x7 : Int32) (x9 : Int32) (x10 : Int32) (σ : gH) : Prop := ∀ x9_115 : Int32, x9_115 = x9 + 1 → (kh uc us x0 x3 x6 x7 x10 x9_115 σ)
def wX16_grow_220 (g : (gH → Prop) → Nat → Nat → Nat → Int32 → Int32 → Int32 → Int32 → gH → Prop) (Q : gH → Prop) (mc ms : Nat) (k280 : Nat → Nat → Nat → Int32 → (Option Nat) → Int32 → Int32 → Int32 → Int32 → gH → Prop) : Nat → Nat → Nat → Nat → Int32 → (Option Nat) → Int32 → Int32 → Int32 → Int32 → gH → Prop
  | 0 => fun _ _ _ _ _ _ _ _ _ _ => False
  | n + 1 => fun uc us x0 x3 x6 x7 x8 x9 x10 σ => c_R σ [16] x0 0 (fun r_123 => ∃ a_124 : Nat, r_123 = some a_124 ∧ (∃ fs_126 : List Value, σ.2 a_124 = some (.inr (7, fs_126)) ∧ (wX7_symbol (fun (v_125 : Int64) => c_R σ [16] x0 0 (fun r_127 => ∃ a_128 : Nat, r_127 = some a_128 ∧ (∃ fs_130 : List Value, σ.2 a_128 = some (.inr (7, fs_130)) ∧ (wX7_rest (fun (r_129 : Option Nat) => ∃ a_131 : Nat, r_129 = some a_131 ∧ (c_aR 4 σ a_131 x10 (fun r_132 => ∃ a_133 : Nat, r_132 = some a_133 ∧ (c_aJ σ a_133 x3 (fun v_134 => c_R σ [16] x0 0 (fun r_135 => ∃ a_136 : Nat, r_135 = some a_136 ∧ (∃ fs_138 : List Value, σ.2 a_136 = some (.inr (7, fs_138)) ∧ (wX7_rest (fun (r_137 : Option Nat) => ∃ a_139 : Nat, r_137 = some a_139 ∧ (c_aR 4 σ a_139 x8 (fun r_140 => ∃ a_141 : Nat, r_140 = some a_141 ∧ (c_aJ σ a_141 x3 (fun v_142 => (v_125 + v_134 = v_142 → (k280 uc us x0 x3 x6 x7 x8 x9 x10 σ)) ∧ (¬ v_125 + v_134 = v_142 → (∀ x10_143 : Int32, x10_143 = x10 + 1 → (wX16_grow_220 g Q mc ms k280 n uc us x0 x3 x6 x7 x8 x9 x10_143 σ)))))))) σ a_136 x6 x9)))))))) σ a_128 x6 (x9 + 1))))) σ a_124 x6 x9 x8 x10)))
def wX16_grow_206 (g : (gH → Prop) → Nat → Nat → Nat → Int32 → Int32 → Int32 → Int32 → gH → Prop) (Q : gH → Prop) (mc ms : Nat) (k338 : Nat → Nat → Nat → Int32 → gH → Prop) : Nat → Nat → Nat → Nat → Int32 → (Option Nat) → Int32 → Int32 → Int32 → gH → Prop
  | 0 => fun _ _ _ _ _ _ _ _ _ => False
  | n + 1 => fun uc us x0 x3 x6 x7 x8 x9 σ => ∃ a_92 : Nat, x6 = some a_92 ∧ (c_I σ [4] a_92 4 (fun v_93 => (v_93 ≤ x9 → (k338 uc us x0 x7 σ)) ∧ (¬ v_93 ≤ x9 → (∃ fu : Nat, wX16_grow_220 g Q mc ms (fun (uc_102 : Nat) (us_103 : Nat) (x0_94 : Nat) (x3_95 : Int32) (x6_96 : Option Nat) (x7_97 : Int32) (x8_98 : Int32) (x9_99 : Int32) (x10_100 : Int32) (σ_101 : gH) => ∃ a_104 : Nat, x6_96 = some a_104 ∧ (c_R σ_101 [4] a_104 2 (fun r_105 => ∃ a_106 : Nat, r_105 = some a_106 ∧ (c_aI σ_101 a_106 x9_99 (fun v_107 => (v_107 = 0 → (c_R σ_101 [4] a_104 3 (fun r_116 => ∃ a_117 : Nat, r_116 = some a_117 ∧ (c_aI σ_101 a_117 x9_99 (fun v_118 => ∃ fs_122 : List Value, σ_101.2 x0_94 = some (.inr (16, fs_122)) ∧ ∃ c_120 b_121 : Nat, uc_102 + c_120 ≤ mc ∧ us_103 + b_121 ≤ ms ∧ (wX16_read (fun (σ_119 : gH) => wX16_grow_328 g Q mc ms (wX16_grow_206 g Q mc ms k338 n) k338 (uc_102 + c_120) (us_103 + b_121) x0_94 x3_95 (some a_104) x7_97 x9_99 x10_100 σ_119) c_120 b_121 x0_94 v_118 x8_98 x10_100 σ_101)))))) ∧ (¬ v_107 = 0 → (c_R σ_101 [4] a_104 3 (fun r_108 => ∃ a_109 : Nat, r_108 = some a_109 ∧ (c_aI σ_101 a_109 x9_99 (fun v_110 => ∃ fs_114 : List Value, σ_101.2 x0_94 = some (.inr (16, fs_114)) ∧ ∃ c_112 b_113 : Nat, uc_102 + c_112 ≤ mc ∧ us_103 + b_113 ≤ ms ∧ (g (fun (σ_111 : gH) => wX16_grow_328 g Q mc ms (wX16_grow_206 g Q mc ms k338 n) k338 (uc_102 + c_112) (us_103 + b_113) x0_94 x3_95 (some a_104) x7_97 x9_99 x10_100 σ_111) c_112 b_113 x0_94 v_110 x8_98 x10_100 x7_97 σ_101))))))))))) fu uc us x0 x3 (some a_92) x7 x8 x9 x8 σ))))
def wX16_grow_75 (g : (gH → Prop) → Nat → Nat → Nat → Int32 → Int32 → Int32 → Int32 → gH → Prop) (Q : gH → Prop) (mc ms : Nat) (kh : Nat → Nat → Nat → Int32 → Int32 → Int32 → Int32 → Int32 → gH → Prop) (k81 : Nat → Nat → Nat → Int32 → Int32 → Int32 → Int32 → Int32 → gH → Prop) (uc : Nat) (us : Nat) (x0 : Nat) (x1 : Int32) (x2 : Int32) (x3 : Int32) (x4 : Int32) (x5 : Int32) (σ : gH) : Prop := ∀ x5_152 : Int32, x5_152 = x5 + 1 → (kh uc us x0 x1 x2 x3 x4 x5_152 σ)
def wX16_grow_3 (g : (gH → Prop) → Nat → Nat → Nat → Int32 → Int32 → Int32 → Int32 → gH → Prop) (Q : gH → Prop) (mc ms : Nat) (k81 : Nat → Nat → Nat → Int32 → Int32 → Int32 → Int32 → Int32 → gH → Prop) : Nat → Nat → Nat → Nat → Int32 → Int32 → Int32 → Int32 → Int32 → gH → Prop
  | 0 => fun _ _ _ _ _ _ _ _ _ => False
  | n + 1 => fun uc us x0 x1 x2 x3 x4 x5 σ => c_R σ [16] x0 1 (fun r_144 => ∃ a_145 : Nat, r_144 = some a_145 ∧ (c_R σ [0] a_145 7 (fun r_146 => ∃ a_147 : Nat, r_146 = some a_147 ∧ (∃ fs_149 : List Value, σ.2 a_147 = some (.inr (18, fs_149)) ∧ (wJ2_get (fun (r_148 : Option Nat) => c_cast σ [4] r_148 (∃ a_150 : Nat, r_148 = some a_150 ∧ (c_I σ [4] a_150 1 (fun v_151 => (v_151 = x1 → (c_R σ [16] x0 0 (fun r_153 => c_R σ [16] x0 1 (fun r_154 => ∃ a_155 : Nat, r_154 = some a_155 ∧ (c_R σ [0] a_155 7 (fun r_156 => ∃ a_157 : Nat, r_156 = some a_157 ∧ (∃ fs_159 : List Value, σ.2 a_157 = some (.inr (18, fs_159)) ∧ (wJ2_get (fun (r_158 : Option Nat) => c_cast σ [4] r_158 (∃ a_160 : Nat, r_153 = some a_160 ∧ (∃ fs_162 : List Value, σ.2 a_160 = some (.inr (7, fs_162)) ∧ (wX7_rest (fun (r_161 : Option Nat) => ∃ a_163 : Nat, r_161 = some a_163 ∧ (c_aR 4 σ a_163 x2 (fun r_164 => ∃ a_165 : Nat, r_164 = some a_165 ∧ (c_aJ σ a_165 x3 (fun v_166 => c_R σ [16] x0 0 (fun r_167 => ∃ a_168 : Nat, r_167 = some a_168 ∧ (c_R σ [7] a_168 10 (fun r_169 => ∃ a_170 : Nat, r_169 = some a_170 ∧ (c_aR 5 σ a_170 x1 (fun r_171 => ∃ a_172 : Nat, r_171 = some a_172 ∧ (c_aR 4 σ a_172 x2 (fun r_173 => ∃ a_174 : Nat, r_173 = some a_174 ∧ (c_aJ σ a_174 x3 (fun v_175 => (v_166 + 1 = v_175 → (k81 uc us x0 x1 x2 x3 x4 x5 σ)) ∧ (¬ v_166 + 1 = v_175 → (wX16_grow_75 g Q mc ms (wX16_grow_3 g Q mc ms k81 n) k81 uc us x0 x1 x2 x3 x4 x5 σ)))))))))))))))) σ a_160 r_158 0)))) σ a_157 x5)))))))) ∧ (¬ v_151 = x1 → (wX16_grow_75 g Q mc ms (wX16_grow_3 g Q mc ms k81 n) k81 uc us x0 x1 x2 x3 x4 x5 σ)))))) σ a_147 x5)))))
def wX16_grow_body (g : (gH → Prop) → Nat → Nat → Nat → Int32 → Int32 → Int32 → Int32 → gH → Prop) (Q : gH → Prop) (mc ms : Nat) (x0 : Nat) (x1 : Int32) (x2 : Int32) (x3 : Int32) (x4 : Int32) (σ : gH) : Prop := ∃ fu : Nat, wX16_grow_3 g Q mc ms (fun (uc_8 : Nat) (us_9 : Nat) (x0_1 : Nat) (x1_2 : Int32) (x2_3 : Int32) (x3_4 : Int32) (x4_5 : Int32) (x5_6 : Int32) (σ_7 : gH) => c_R σ_7 [16] x0_1 1 (fun r_10 => ∃ a_11 : Nat, r_10 = some a_11 ∧ (c_R σ_7 [0] a_11 7 (fun r_12 => ∃ a_13 : Nat, r_12 = some a_13 ∧ (∃ fs_15 : List Value, σ_7.2 a_13 = some (.inr (18, fs_15)) ∧ (wJ2_get (fun (r_14 : Option Nat) => c_cast σ_7 [4] r_14 (c_R σ_7 [16] x0_1 1 (fun r_16 => ∃ a_17 : Nat, r_16 = some a_17 ∧ (c_R σ_7 [0] a_17 18 (fun r_18 => ∃ a_19 : Nat, r_18 = some a_19 ∧ (c_I σ_7 [1] a_19 1 (fun v_20 => c_R σ_7 [16] x0_1 1 (fun r_21 => ∃ a_22 : Nat, r_21 = some a_22 ∧ (c_R σ_7 [0] a_22 18 (fun r_23 => ∃ a_24 : Nat, r_23 = some a_24 ∧ (c_I σ_7 [1] a_24 1 (fun v_25 => c_P σ_7 [1] a_24 1 (.int (v_25 + 1)) (fun σ_26 => c_R σ_26 [16] x0_1 1 (fun r_27 => ∃ a_28 : Nat, r_27 = some a_28 ∧ (c_R σ_26 [0] a_28 18 (fun r_29 => ∃ a_30 : Nat, r_29 = some a_30 ∧ (c_R σ_26 [1] a_30 0 (fun r_31 => ∃ a_32 : Nat, r_31 = some a_32 ∧ (c_aR 3 σ_26 a_32 0 (fun r_33 => ∃ a_34 : Nat, r_33 = some a_34 ∧ (c_sI σ_26 a_34 v_20 x1_2 (fun σ_35 => c_R σ_35 [16] x0_1 1 (fun r_36 => ∃ a_37 : Nat, r_36 = some a_37 ∧ (c_R σ_35 [0] a_37 18 (fun r_38 => ∃ a_39 : Nat, r_38 = some a_39 ∧ (c_R σ_35 [1] a_39 0 (fun r_40 => ∃ a_41 : Nat, r_40 = some a_41 ∧ (c_aR 3 σ_35 a_41 1 (fun r_42 => ∃ a_43 : Nat, r_42 = some a_43 ∧ (c_sI σ_35 a_43 v_20 x5_6 (fun σ_44 => c_R σ_44 [16] x0_1 1 (fun r_45 => ∃ a_46 : Nat, r_45 = some a_46 ∧ (c_R σ_44 [0] a_46 18 (fun r_47 => ∃ a_48 : Nat, r_47 = some a_48 ∧ (c_R σ_44 [1] a_48 0 (fun r_49 => ∃ a_50 : Nat, r_49 = some a_50 ∧ (c_aR 3 σ_44 a_50 2 (fun r_51 => ∃ a_52 : Nat, r_51 = some a_52 ∧ (c_sI σ_44 a_52 v_20 x4_5 (fun σ_53 => c_R σ_53 [16] x0_1 1 (fun r_54 => ∃ a_55 : Nat, r_54 = some a_55 ∧ (c_R σ_53 [0] a_55 18 (fun r_56 => ∃ a_57 : Nat, r_56 = some a_57 ∧ (c_R σ_53 [1] a_57 0 (fun r_58 => ∃ a_59 : Nat, r_58 = some a_59 ∧ (c_aR 3 σ_53 a_59 3 (fun r_60 => c_R σ_53 [16] x0_1 1 (fun r_61 => ∃ a_62 : Nat, r_61 = some a_62 ∧ (c_I σ_53 [0] a_62 22 (fun v_63 => ∃ a_64 : Nat, r_60 = some a_64 ∧ (c_sI σ_53 a_64 v_20 v_63 (fun σ_65 => ∃ fu : Nat, wX16_grow_206 g Q mc ms (fun (uc_69 : Nat) (us_70 : Nat) (x0_66 : Nat) (x7_67 : Int32) (σ_68 : gH) => c_R σ_68 [16] x0_66 1 (fun r_71 => ∃ a_72 : Nat, r_71 = some a_72 ∧ (c_R σ_68 [0] a_72 18 (fun r_73 => ∃ a_74 : Nat, r_73 = some a_74 ∧ (c_R σ_68 [1] a_74 0 (fun r_75 => ∃ a_76 : Nat, r_75 = some a_76 ∧ (c_aR 3 σ_68 a_76 4 (fun r_77 => c_R σ_68 [16] x0_66 1 (fun r_78 => ∃ a_79 : Nat, r_78 = some a_79 ∧ (c_I σ_68 [0] a_79 22 (fun v_80 => c_R σ_68 [16] x0_66 1 (fun r_81 => ∃ a_82 : Nat, r_81 = some a_82 ∧ (c_R σ_68 [0] a_82 18 (fun r_83 => ∃ a_84 : Nat, r_83 = some a_84 ∧ (c_R σ_68 [1] a_84 0 (fun r_85 => ∃ a_86 : Nat, r_85 = some a_86 ∧ (c_aR 3 σ_68 a_86 3 (fun r_87 => ∃ a_88 : Nat, r_87 = some a_88 ∧ (c_aI σ_68 a_88 x7_67 (fun v_89 => ∃ a_90 : Nat, r_77 = some a_90 ∧ (c_sI σ_68 a_90 x7_67 (v_80 - v_89) (fun σ_91 => Q σ_91)))))))))))))))))))))) fu uc_8 us_9 x0_1 x3_4 r_14 v_20 x2_3 0 σ_65)))))))))))))))))))))))))))))))))))))))))))))))))))) σ_7 a_13 x5_6)))))) fu 0 0 x0 x1 x2 x3 x4 0 σ
set_option maxHeartbeats 4000000 in
theorem hX16_grow_328 {d : Nat} (hd9 : 10 ≤ d) {g : (gH → Prop) → Nat → Nat → Nat → Int32 → Int32 → Int32 → Int32 → gH → Prop} (hg : ∀ {Q : gH → Prop} {mc ms x0 : Nat} {x1 x2 x3 x4 : Int32} {σ : gH}, g Q mc ms x0 x1 x2 x3 x4 σ → CT mX16_grow (d - 1) mc ms [.ref x0, .int x1, .int x2, .int x3, .int x4] σ (c_Kv Q)) {Q : gH → Prop} {mc ms : Nat} {kh : Nat → Nat → Nat → Int32 → (Option Nat) → Int32 → Int32 → Int32 → gH → Prop} (hkh : ∀ (uc : Nat) (us : Nat) (x0 : Nat) (x3 : Int32) (x6 : Option Nat) (x7 : Int32) (x8 : Int32) (x9 : Int32) (σ : gH), uc ≤ mc → us ≤ ms → kh uc us x0 x3 x6 x7 x8 x9 σ → E mX16_grow d mc ms (g_z (c_Kv Q)) uc us 206 [(0, .ref x0), (3, .int x3), (6, va_rf x6), (7, .int x7), (8, .int x8), (9, .int x9)] [] σ) {k338 : Nat → Nat → Nat → Int32 → gH → Prop} (hk338 : ∀ (uc : Nat) (us : Nat) (x0 : Nat) (x7 : Int32) (σ : gH), uc ≤ mc → us ≤ ms → k338 uc us x0 x7 σ → E mX16_grow d mc ms (g_z (c_Kv Q)) uc us 338 [(0, .ref x0), (7, .int x7)] [] σ) (uc : Nat) (us : Nat) (x0 : Nat) (x3 : Int32) (x6 : Option Nat) (x7 : Int32) (x9 : Int32) (x10 : Int32) (σ : gH) (hu1 : uc ≤ mc) (hu2 : us ≤ ms) (w : wX16_grow_328 g Q mc ms kh k338 uc us x0 x3 x6 x7 x9 x10 σ) : E mX16_grow d mc ms (g_z (c_Kv Q)) uc us 328 [(0, .ref x0), (3, .int x3), (6, va_rf x6), (7, .int x7), (9, .int x9), (10, .int x10)] [] σ := by
  unfold wX16_grow_328 at w
  refine e_iload (n := 330) dX16_grow_328 rfl 5 rfl ?_
  refine e_istore (n := 332) (lv' := [(0, .ref x0), (3, .int x3), (6, va_rf x6), (7, .int x7), (8, .int x10), (9, .int x9), (10, .int x10)]) [1, 2, 3, 4, 0, 5, 6] dX16_grow_330 rfl rfl rfl ?_
  obtain ⟨x9_115, hx9_115⟩ : ∃ y : Int32, y = x9 + 1 := ⟨_, rfl⟩
  have w := w x9_115 hx9_115
  refine e_iinc (n := 335) (v := x9_115) (lv' := [(0, .ref x0), (3, .int x3), (6, va_rf x6), (7, .int x7), (8, .int x10), (9, .int x9_115), (10, .int x10)]) [1, 2, 3, 4, 5, 0, 6] dX16_grow_332 rfl 5 rfl (by rw [hx9_115]; rfl) rfl rfl ?_
  refine e_goto (n := 206) dX16_grow_335 (by decide) ?_
  refine e_sub (lv' := [(0, .ref x0), (3, .int x3), (6, va_rf x6), (7, .int x7), (8, .int x10), (9, .int x9_115)]) [0, 1, 2, 3, 4, 5] rfl ?_
  exact hkh _ _ _ _ _ _ _ _ _ hu1 hu2 w
set_option maxHeartbeats 4000000 in
theorem hX16_grow_220 {d : Nat} (hd9 : 10 ≤ d) {g : (gH → Prop) → Nat → Nat → Nat → Int32 → Int32 → Int32 → Int32 → gH → Prop} (hg : ∀ {Q : gH → Prop} {mc ms x0 : Nat} {x1 x2 x3 x4 : Int32} {σ : gH}, g Q mc ms x0 x1 x2 x3 x4 σ → CT mX16_grow (d - 1) mc ms [.ref x0, .int x1, .int x2, .int x3, .int x4] σ (c_Kv Q)) {Q : gH → Prop} {mc ms : Nat} {k280 : Nat → Nat → Nat → Int32 → (Option Nat) → Int32 → Int32 → Int32 → Int32 → gH → Prop} (hk280 : ∀ (uc : Nat) (us : Nat) (x0 : Nat) (x3 : Int32) (x6 : Option Nat) (x7 : Int32) (x8 : Int32) (x9 : Int32) (x10 : Int32) (σ : gH), uc ≤ mc → us ≤ ms → k280 uc us x0 x3 x6 x7 x8 x9 x10 σ → E mX16_grow d mc ms (g_z (c_Kv Q)) uc us 280 [(0, .ref x0), (3, .int x3), (6, va_rf x6), (7, .int x7), (8, .int x8), (9, .int x9), (10, .int x10)] [] σ) : ∀ (n : Nat) (uc : Nat) (us : Nat) (x0 : Nat) (x3 : Int32) (x6 : Option Nat) (x7 : Int32) (x8 : Int32) (x9 : Int32) (x10 : Int32) (σ : gH) (hu1 : uc ≤ mc) (hu2 : us ≤ ms), wX16_grow_220 g Q mc ms k280 n uc us x0 x3 x6 x7 x8 x9 x10 σ → E mX16_grow d mc ms (g_z (c_Kv Q)) uc us 220 [(0, .ref x0), (3, .int x3), (6, va_rf x6), (7, .int x7), (8, .int x8), (9, .int x9), (10, .int x10)] [] σ := by
  intro n
  induction n with
  | zero =>
    intro _ _ _ _ _ _ _ _ _ _ _ _ w
    exact w.elim
  | succ n ih =>
    intro uc us x0 x3 x6 x7 x8 x9 x10 σ hu1 hu2 w
    unfold wX16_grow_220 at w
    refine e_aload_n (n := 221) dX16_grow_220 rfl 0 rfl ?_
    refine e_cR (n := 224) w fw_X16_chart (gl_o q1013) dX16_grow_221 rfl (fun r_123 w => ?_)
    refine e_aloadr (n := 226) (r := x6) dX16_grow_224 rfl 2 rfl ?_
    refine e_iload (n := 228) dX16_grow_226 rfl 5 rfl ?_
    refine e_iload (n := 230) dX16_grow_228 rfl 4 rfl ?_
    refine e_iload (n := 232) dX16_grow_230 rfl 6 rfl ?_
    obtain ⟨a_124, ha_124, w9a_124⟩ := w
    subst ha_124
    have w := w9a_124
    obtain ⟨fs_126, wo, w⟩ := w
    refine e_callVN (n := 235) (As := [va_rf x6, .int x9, .int x8, .int x10]) (st := []) okX7_symbol q1028 q990 qs17 q73 q991 wo rfl (by omega) hu1 hu2 rfl rfl rfl dX16_grow_232 rfl (ctX7_symbol w) (fun r9 σ9 hk => ?_)
    obtain ⟨v_125, rfl, hs9, w⟩ := hk
    rw [hs9]
    refine e_aload_n (n := 236) dX16_grow_235 rfl 0 rfl ?_
    refine e_cR (n := 239) w fw_X16_chart (gl_o q1013) dX16_grow_236 rfl (fun r_127 w => ?_)
    refine e_aloadr (n := 241) (r := x6) dX16_grow_239 rfl 2 rfl ?_
    refine e_iload (n := 243) dX16_grow_241 rfl 5 rfl ?_
    refine e_iconst (n := 244) (v := 1) dX16_grow_243 rfl (by decide) ?_
    refine e_iadd (n := 245) dX16_grow_244 rfl ?_
    obtain ⟨a_128, ha_128, w9a_128⟩ := w
    subst ha_128
    have w := w9a_128
    obtain ⟨fs_130, wo, w⟩ := w
    refine e_callVN (n := 248) (As := [va_rf x6, .int (x9 + 1)]) (st := [.long v_125]) okX7_rest q1027 q982 qs15 q73 q983 wo rfl (by omega) hu1 hu2 rfl rfl rfl dX16_grow_245 rfl (ctX7_rest w) (fun r9 σ9 hk => ?_)
    obtain ⟨r_129, rfl, hs9, w⟩ := hk
    rw [hs9]
    refine e_iload (n := 250) dX16_grow_248 rfl 6 rfl ?_
    obtain ⟨a_131, ha_131, w9a_131⟩ := w
    subst ha_131
    have w := w9a_131
    refine e_caR (n := 251) w (fun _ => rfl) rfl dX16_grow_250 rfl (fun r_132 w => ?_)
    refine e_iload_n (n := 252) dX16_grow_251 rfl 1 rfl ?_
    obtain ⟨a_133, ha_133, w9a_133⟩ := w
    subst ha_133
    have w := w9a_133
    refine e_caJ (n := 253) w dX16_grow_252 rfl (fun v_134 w => ?_)
    refine e_ladd (n := 254) dX16_grow_253 rfl ?_
    refine e_aload_n (n := 255) dX16_grow_254 rfl 0 rfl ?_
    refine e_cR (n := 258) w fw_X16_chart (gl_o q1013) dX16_grow_255 rfl (fun r_135 w => ?_)
    refine e_aloadr (n := 260) (r := x6) dX16_grow_258 rfl 2 rfl ?_
    refine e_iload (n := 262) dX16_grow_260 rfl 5 rfl ?_
    obtain ⟨a_136, ha_136, w9a_136⟩ := w
    subst ha_136
    have w := w9a_136
    obtain ⟨fs_138, wo, w⟩ := w
    refine e_callVN (n := 265) (As := [va_rf x6, .int x9]) (st := [.long (v_125 + v_134)]) okX7_rest q1027 q982 qs15 q73 q983 wo rfl (by omega) hu1 hu2 rfl rfl rfl dX16_grow_262 rfl (ctX7_rest w) (fun r9 σ9 hk => ?_)
    obtain ⟨r_137, rfl, hs9, w⟩ := hk
    rw [hs9]
    refine e_iload (n := 267) dX16_grow_265 rfl 4 rfl ?_
    obtain ⟨a_139, ha_139, w9a_139⟩ := w
    subst ha_139
    have w := w9a_139
    refine e_caR (n := 268) w (fun _ => rfl) rfl dX16_grow_267 rfl (fun r_140 w => ?_)
    refine e_iload_n (n := 269) dX16_grow_268 rfl 1 rfl ?_
    obtain ⟨a_141, ha_141, w9a_141⟩ := w
    subst ha_141
    have w := w9a_141
    refine e_caJ (n := 270) w dX16_grow_269 rfl (fun v_142 w => ?_)
    refine e_lcmp_eq (n := 274) (tgt := 280) dX16_grow_270 dX16_grow_271 rfl (by decide) (fun h => ?_) (fun h => ?_)
    · have w := w.1 h
      exact hk280 _ _ _ _ _ _ _ _ _ _ hu1 hu2 w
    · have w := w.2 h
      obtain ⟨x10_143, hx10_143⟩ : ∃ y : Int32, y = x10 + 1 := ⟨_, rfl⟩
      have w := w x10_143 hx10_143
      refine e_iinc (n := 277) (v := x10_143) (lv' := [(0, .ref x0), (3, .int x3), (6, va_rf x6), (7, .int x7), (8, .int x8), (9, .int x9), (10, .int x10_143)]) [1, 2, 3, 4, 5, 6, 0] dX16_grow_274 rfl 6 rfl (by rw [hx10_143]; rfl) rfl rfl ?_
      refine e_goto (n := 220) dX16_grow_277 (by decide) ?_
      exact ih _ _ _ _ _ _ _ _ _ _ hu1 hu2 w
set_option maxHeartbeats 4000000 in
theorem hX16_grow_206 {d : Nat} (hd9 : 10 ≤ d) {g : (gH → Prop) → Nat → Nat → Nat → Int32 → Int32 → Int32 → Int32 → gH → Prop} (hg : ∀ {Q : gH → Prop} {mc ms x0 : Nat} {x1 x2 x3 x4 : Int32} {σ : gH}, g Q mc ms x0 x1 x2 x3 x4 σ → CT mX16_grow (d - 1) mc ms [.ref x0, .int x1, .int x2, .int x3, .int x4] σ (c_Kv Q)) {Q : gH → Prop} {mc ms : Nat} {k338 : Nat → Nat → Nat → Int32 → gH → Prop} (hk338 : ∀ (uc : Nat) (us : Nat) (x0 : Nat) (x7 : Int32) (σ : gH), uc ≤ mc → us ≤ ms → k338 uc us x0 x7 σ → E mX16_grow d mc ms (g_z (c_Kv Q)) uc us 338 [(0, .ref x0), (7, .int x7)] [] σ) : ∀ (n : Nat) (uc : Nat) (us : Nat) (x0 : Nat) (x3 : Int32) (x6 : Option Nat) (x7 : Int32) (x8 : Int32) (x9 : Int32) (σ : gH) (hu1 : uc ≤ mc) (hu2 : us ≤ ms), wX16_grow_206 g Q mc ms k338 n uc us x0 x3 x6 x7 x8 x9 σ → E mX16_grow d mc ms (g_z (c_Kv Q)) uc us 206 [(0, .ref x0), (3, .int x3), (6, va_rf x6), (7, .int x7), (8, .int x8), (9, .int x9)] [] σ := by
  intro n
  induction n with
  | zero =>
    intro _ _ _ _ _ _ _ _ _ _ _ w
    exact w.elim
  | succ n ih =>
    intro uc us x0 x3 x6 x7 x8 x9 σ hu1 hu2 w
    unfold wX16_grow_206 at w
    refine e_iload (n := 208) dX16_grow_206 rfl 5 rfl ?_
    refine e_aloadr (n := 210) (r := x6) dX16_grow_208 rfl 2 rfl ?_
    obtain ⟨a_92, ha_92, w9a_92⟩ := w
    subst ha_92
    have w := w9a_92
    refine e_cI (n := 213) w fw_X4_size (gl_n q311) dX16_grow_210 rfl (fun v_93 w => ?_)
    refine e_icmp_ge (n := 216) (tgt := 338) dX16_grow_213 rfl (by decide) (fun h => ?_) (fun h => ?_)
    · have w := w.1 h
      refine e_sub (lv' := [(0, .ref x0), (7, .int x7)]) [0, 3] rfl ?_
      exact hk338 _ _ _ _ _ hu1 hu2 w
    · have w := w.2 h
      refine e_iload (n := 218) dX16_grow_216 rfl 4 rfl ?_
      refine e_istore (n := 220) (lv' := [(0, .ref x0), (3, .int x3), (6, .ref a_92), (7, .int x7), (8, .int x8), (9, .int x9), (10, .int x8)]) [1, 2, 3, 4, 5, 6, 0] dX16_grow_218 rfl rfl rfl ?_
      obtain ⟨fu, w⟩ := w
      refine e_sub (lv' := [(0, .ref x0), (3, .int x3), (6, va_rf (some a_92)), (7, .int x7), (8, .int x8), (9, .int x9), (10, .int x8)]) [0, 1, 2, 3, 4, 5, 6] rfl ?_
      refine hX16_grow_220 hd9 hg (fun uc_102 us_103 x0_94 x3_95 x6_96 x7_97 x8_98 x9_99 x10_100 σ_101 hu1 hu2 w => ?_) fu _ _ _ _ _ _ _ _ _ _ hu1 hu2 w
      refine e_aloadr (n := 282) (r := x6_96) dX16_grow_280 rfl 2 rfl ?_
      obtain ⟨a_104, ha_104, w9a_104⟩ := w
      subst ha_104
      have w := w9a_104
      refine e_cR (n := 285) w fw_X4_sorts (gl_n q304) dX16_grow_282 rfl (fun r_105 w => ?_)
      refine e_iload (n := 287) dX16_grow_285 rfl 5 rfl ?_
      obtain ⟨a_106, ha_106, w9a_106⟩ := w
      subst ha_106
      have w := w9a_106
      refine e_caI (n := 288) w dX16_grow_287 rfl (fun v_107 w => ?_)
      refine e_if_ne (n := 291) (tgt := 310) dX16_grow_288 rfl (by decide) (fun h => ?_) (fun h => ?_)
      · have w := w.2 h
        refine e_aload_n (n := 311) dX16_grow_310 rfl 0 rfl ?_
        refine e_aload (n := 313) dX16_grow_311 rfl 2 rfl ?_
        refine e_cR (n := 316) w fw_X4_which (gl_n q308) dX16_grow_313 rfl (fun r_108 w => ?_)
        refine e_iload (n := 318) dX16_grow_316 rfl 5 rfl ?_
        obtain ⟨a_109, ha_109, w9a_109⟩ := w
        subst ha_109
        have w := w9a_109
        refine e_caI (n := 319) w dX16_grow_318 rfl (fun v_110 w => ?_)
        refine e_iload (n := 321) dX16_grow_319 rfl 4 rfl ?_
        refine e_iload (n := 323) dX16_grow_321 rfl 6 rfl ?_
        refine e_iload (n := 325) dX16_grow_323 rfl 3 rfl ?_
        obtain ⟨fs_114, wo, w⟩ := w
        obtain ⟨c_112, b_113, hu1, hu2, w⟩ := w
        refine e_callV (n := 328) (As := [.int v_110, .int x8_98, .int x10_100, .int x7_97]) (st := []) okX16_grow q1064 q1021 q1022 q82 q1023 rfl wo rfl (by omega) hu1 hu2 rfl rfl (Nat.le_of_ble_eq_true rfl) dX16_grow_325 rfl (hg w) (fun r9 σ_111 hk => ?_)
        obtain ⟨rfl, w⟩ := hk
        refine e_sub (lv' := [(0, .ref x0_94), (3, .int x3_95), (6, va_rf (some a_104)), (7, .int x7_97), (9, .int x9_99), (10, .int x10_100)]) [0, 1, 2, 3, 5, 6] rfl ?_
        exact hX16_grow_328 hd9 hg ih hk338 _ _ _ _ _ _ _ _ _ hu1 hu2 w
      · have w := w.1 h
        refine e_aload_n (n := 292) dX16_grow_291 rfl 0 rfl ?_
        refine e_aload (n := 294) dX16_grow_292 rfl 2 rfl ?_
        refine e_cR (n := 297) w fw_X4_which (gl_n q308) dX16_grow_294 rfl (fun r_116 w => ?_)
        refine e_iload (n := 299) dX16_grow_297 rfl 5 rfl ?_
        obtain ⟨a_117, ha_117, w9a_117⟩ := w
        subst ha_117
        have w := w9a_117
        refine e_caI (n := 300) w dX16_grow_299 rfl (fun v_118 w => ?_)
        refine e_iload (n := 302) dX16_grow_300 rfl 4 rfl ?_
        refine e_iload (n := 304) dX16_grow_302 rfl 6 rfl ?_
        obtain ⟨fs_122, wo, w⟩ := w
        obtain ⟨c_120, b_121, hu1, hu2, w⟩ := w
        refine e_callV (n := 307) (As := [.int v_118, .int x8_98, .int x10_100]) (st := []) okX16_read q1029 q1030 q1031 q82 q1032 rfl wo rfl (by omega) hu1 hu2 rfl rfl (Nat.le_of_ble_eq_true rfl) dX16_grow_304 rfl (ctX16_read w) (fun r9 σ_119 hk => ?_)
        obtain ⟨rfl, w⟩ := hk
        refine e_goto (n := 328) dX16_grow_307 (by decide) ?_
        refine e_sub (lv' := [(0, .ref x0_94), (3, .int x3_95), (6, va_rf (some a_104)), (7, .int x7_97), (9, .int x9_99), (10, .int x10_100)]) [0, 1, 2, 3, 5, 6] rfl ?_
        exact hX16_grow_328 hd9 hg ih hk338 _ _ _ _ _ _ _ _ _ hu1 hu2 w
set_option maxHeartbeats 4000000 in
theorem hX16_grow_75 {d : Nat} (hd9 : 10 ≤ d) {g : (gH → Prop) → Nat → Nat → Nat → Int32 → Int32 → Int32 → Int32 → gH → Prop} (hg : ∀ {Q : gH → Prop} {mc ms x0 : Nat} {x1 x2 x3 x4 : Int32} {σ : gH}, g Q mc ms x0 x1 x2 x3 x4 σ → CT mX16_grow (d - 1) mc ms [.ref x0, .int x1, .int x2, .int x3, .int x4] σ (c_Kv Q)) {Q : gH → Prop} {mc ms : Nat} {kh : Nat → Nat → Nat → Int32 → Int32 → Int32 → Int32 → Int32 → gH → Prop} (hkh : ∀ (uc : Nat) (us : Nat) (x0 : Nat) (x1 : Int32) (x2 : Int32) (x3 : Int32) (x4 : Int32) (x5 : Int32) (σ : gH), uc ≤ mc → us ≤ ms → kh uc us x0 x1 x2 x3 x4 x5 σ → E mX16_grow d mc ms (g_z (c_Kv Q)) uc us 3 [(0, .ref x0), (1, .int x1), (2, .int x2), (3, .int x3), (4, .int x4), (5, .int x5)] [] σ) {k81 : Nat → Nat → Nat → Int32 → Int32 → Int32 → Int32 → Int32 → gH → Prop} (hk81 : ∀ (uc : Nat) (us : Nat) (x0 : Nat) (x1 : Int32) (x2 : Int32) (x3 : Int32) (x4 : Int32) (x5 : Int32) (σ : gH), uc ≤ mc → us ≤ ms → k81 uc us x0 x1 x2 x3 x4 x5 σ → E mX16_grow d mc ms (g_z (c_Kv Q)) uc us 81 [(0, .ref x0), (1, .int x1), (2, .int x2), (3, .int x3), (4, .int x4), (5, .int x5)] [] σ) (uc : Nat) (us : Nat) (x0 : Nat) (x1 : Int32) (x2 : Int32) (x3 : Int32) (x4 : Int32) (x5 : Int32) (σ : gH) (hu1 : uc ≤ mc) (hu2 : us ≤ ms) (w : wX16_grow_75 g Q mc ms kh k81 uc us x0 x1 x2 x3 x4 x5 σ) : E mX16_grow d mc ms (g_z (c_Kv Q)) uc us 75 [(0, .ref x0), (1, .int x1), (2, .int x2), (3, .int x3), (4, .int x4), (5, .int x5)] [] σ := by
  unfold wX16_grow_75 at w
  obtain ⟨x5_152, hx5_152⟩ : ∃ y : Int32, y = x5 + 1 := ⟨_, rfl⟩
  have w := w x5_152 hx5_152
  refine e_iinc (n := 78) (v := x5_152) (lv' := [(0, .ref x0), (1, .int x1), (2, .int x2), (3, .int x3), (4, .int x4), (5, .int x5_152)]) [1, 2, 3, 4, 5, 0] dX16_grow_75 rfl 5 rfl (by rw [hx5_152]; rfl) rfl rfl ?_
  refine e_goto (n := 3) dX16_grow_78 (by decide) ?_
  exact hkh _ _ _ _ _ _ _ _ _ hu1 hu2 w
set_option maxHeartbeats 4000000 in
theorem hX16_grow_3 {d : Nat} (hd9 : 10 ≤ d) {g : (gH → Prop) → Nat → Nat → Nat → Int32 → Int32 → Int32 → Int32 → gH → Prop} (hg : ∀ {Q : gH → Prop} {mc ms x0 : Nat} {x1 x2 x3 x4 : Int32} {σ : gH}, g Q mc ms x0 x1 x2 x3 x4 σ → CT mX16_grow (d - 1) mc ms [.ref x0, .int x1, .int x2, .int x3, .int x4] σ (c_Kv Q)) {Q : gH → Prop} {mc ms : Nat} {k81 : Nat → Nat → Nat → Int32 → Int32 → Int32 → Int32 → Int32 → gH → Prop} (hk81 : ∀ (uc : Nat) (us : Nat) (x0 : Nat) (x1 : Int32) (x2 : Int32) (x3 : Int32) (x4 : Int32) (x5 : Int32) (σ : gH), uc ≤ mc → us ≤ ms → k81 uc us x0 x1 x2 x3 x4 x5 σ → E mX16_grow d mc ms (g_z (c_Kv Q)) uc us 81 [(0, .ref x0), (1, .int x1), (2, .int x2), (3, .int x3), (4, .int x4), (5, .int x5)] [] σ) : ∀ (n : Nat) (uc : Nat) (us : Nat) (x0 : Nat) (x1 : Int32) (x2 : Int32) (x3 : Int32) (x4 : Int32) (x5 : Int32) (σ : gH) (hu1 : uc ≤ mc) (hu2 : us ≤ ms), wX16_grow_3 g Q mc ms k81 n uc us x0 x1 x2 x3 x4 x5 σ → E mX16_grow d mc ms (g_z (c_Kv Q)) uc us 3 [(0, .ref x0), (1, .int x1), (2, .int x2), (3, .int x3), (4, .int x4), (5, .int x5)] [] σ := by
  intro n
  induction n with
  | zero =>
    intro _ _ _ _ _ _ _ _ _ _ _ w
    exact w.elim
  | succ n ih =>
    intro uc us x0 x1 x2 x3 x4 x5 σ hu1 hu2 w
    unfold wX16_grow_3 at w
    refine e_aload_n (n := 4) dX16_grow_3 rfl 0 rfl ?_
    refine e_cR (n := 7) w fw_X16_this_0 (gl_o q1014) dX16_grow_4 rfl (fun r_144 w => ?_)
    obtain ⟨a_145, ha_145, w9a_145⟩ := w
    subst ha_145
    have w := w9a_145
    refine e_cR (n := 10) w fw_X0_rules (gl_n q187) dX16_grow_7 rfl (fun r_146 w => ?_)
    refine e_iload (n := 12) dX16_grow_10 rfl 5 rfl ?_
    obtain ⟨a_147, ha_147, w9a_147⟩ := w
    subst ha_147
    have w := w9a_147
    obtain ⟨fs_149, wo, w⟩ := w
    refine e_callF (n := 17) (As := [.int x5]) (st := []) okJ2_get q1025 q412 q414 q60 q416 q411 q410 q415 q413 q286 rfl (by decide) wo rfl (by omega) hu1 hu2 rfl rfl rfl dX16_grow_12 rfl (ctJ2_get w) (fun r9 σ9 hk => ?_)
    obtain ⟨r_148, rfl, hs9, w⟩ := hk
    rw [hs9]
    refine e_ccast (n := 20) (r := r_148) w gc_X4 q1026 dX16_grow_17 rfl (fun w => ?_)
    obtain ⟨a_150, ha_150, w9a_150⟩ := w
    subst ha_150
    have w := w9a_150
    refine e_cI (n := 23) w fw_X4_name (gl_n q301) dX16_grow_20 rfl (fun v_151 w => ?_)
    refine e_iload_n (n := 24) dX16_grow_23 rfl 1 rfl ?_
    refine e_icmp_ne (n := 27) (tgt := 75) dX16_grow_24 rfl (by decide) (fun h => ?_) (fun h => ?_)
    · have w := w.2 h
      exact hX16_grow_75 hd9 hg ih hk81 _ _ _ _ _ _ _ _ _ hu1 hu2 w
    · have w := w.1 h
      refine e_aload_n (n := 28) dX16_grow_27 rfl 0 rfl ?_
      refine e_cR (n := 31) w fw_X16_chart (gl_o q1013) dX16_grow_28 rfl (fun r_153 w => ?_)
      refine e_aload_n (n := 32) dX16_grow_31 rfl 0 rfl ?_
      refine e_cR (n := 35) w fw_X16_this_0 (gl_o q1014) dX16_grow_32 rfl (fun r_154 w => ?_)
      obtain ⟨a_155, ha_155, w9a_155⟩ := w
      subst ha_155
      have w := w9a_155
      refine e_cR (n := 38) w fw_X0_rules (gl_n q187) dX16_grow_35 rfl (fun r_156 w => ?_)
      refine e_iload (n := 40) dX16_grow_38 rfl 5 rfl ?_
      obtain ⟨a_157, ha_157, w9a_157⟩ := w
      subst ha_157
      have w := w9a_157
      obtain ⟨fs_159, wo, w⟩ := w
      refine e_callF (n := 45) (As := [.int x5]) (st := [va_rf r_153]) okJ2_get q1025 q412 q414 q60 q416 q411 q410 q415 q413 q286 rfl (by decide) wo rfl (by omega) hu1 hu2 rfl rfl (by cases r_153 <;> rfl) dX16_grow_40 rfl (ctJ2_get w) (fun r9 σ9 hk => ?_)
      obtain ⟨r_158, rfl, hs9, w⟩ := hk
      rw [hs9]
      refine e_ccast (n := 48) (r := r_158) w gc_X4 q1026 dX16_grow_45 rfl (fun w => ?_)
      refine e_iconst (n := 49) (v := 0) dX16_grow_48 rfl (by decide) ?_
      obtain ⟨a_160, ha_160, w9a_160⟩ := w
      subst ha_160
      have w := w9a_160
      obtain ⟨fs_162, wo, w⟩ := w
      refine e_callVN (n := 52) (As := [va_rf r_158, .int 0]) (st := []) okX7_rest q1027 q982 qs15 q73 q983 wo rfl (by omega) hu1 hu2 rfl rfl rfl dX16_grow_49 rfl (ctX7_rest w) (fun r9 σ9 hk => ?_)
      obtain ⟨r_161, rfl, hs9, w⟩ := hk
      rw [hs9]
      refine e_iload_n (n := 53) dX16_grow_52 rfl 2 rfl ?_
      obtain ⟨a_163, ha_163, w9a_163⟩ := w
      subst ha_163
      have w := w9a_163
      refine e_caR (n := 54) w (fun _ => rfl) rfl dX16_grow_53 rfl (fun r_164 w => ?_)
      refine e_iload_n (n := 55) dX16_grow_54 rfl 3 rfl ?_
      obtain ⟨a_165, ha_165, w9a_165⟩ := w
      subst ha_165
      have w := w9a_165
      refine e_caJ (n := 56) w dX16_grow_55 rfl (fun v_166 w => ?_)
      refine e_lconst (n := 57) (v := 1) dX16_grow_56 rfl (by decide) ?_
      refine e_ladd (n := 58) dX16_grow_57 rfl ?_
      refine e_aload_n (n := 59) dX16_grow_58 rfl 0 rfl ?_
      refine e_cR (n := 62) w fw_X16_chart (gl_o q1013) dX16_grow_59 rfl (fun r_167 w => ?_)
      obtain ⟨a_168, ha_168, w9a_168⟩ := w
      subst ha_168
      have w := w9a_168
      refine e_cR (n := 65) w fw_X7_tree (gl_n q944) dX16_grow_62 rfl (fun r_169 w => ?_)
      refine e_iload_n (n := 66) dX16_grow_65 rfl 1 rfl ?_
      obtain ⟨a_170, ha_170, w9a_170⟩ := w
      subst ha_170
      have w := w9a_170
      refine e_caR (n := 67) w (fun _ => rfl) rfl dX16_grow_66 rfl (fun r_171 w => ?_)
      refine e_iload_n (n := 68) dX16_grow_67 rfl 2 rfl ?_
      obtain ⟨a_172, ha_172, w9a_172⟩ := w
      subst ha_172
      have w := w9a_172
      refine e_caR (n := 69) w (fun _ => rfl) rfl dX16_grow_68 rfl (fun r_173 w => ?_)
      refine e_iload_n (n := 70) dX16_grow_69 rfl 3 rfl ?_
      obtain ⟨a_174, ha_174, w9a_174⟩ := w
      subst ha_174
      have w := w9a_174
      refine e_caJ (n := 71) w dX16_grow_70 rfl (fun v_175 w => ?_)
      refine e_lcmp_eq (n := 75) (tgt := 81) dX16_grow_71 dX16_grow_72 rfl (by decide) (fun h => ?_) (fun h => ?_)
      · have w := w.1 h
        exact hk81 _ _ _ _ _ _ _ _ _ hu1 hu2 w
      · have w := w.2 h
        exact hX16_grow_75 hd9 hg ih hk81 _ _ _ _ _ _ _ _ _ hu1 hu2 w
set_option maxHeartbeats 4000000 in
theorem ctX16_grow_body {d : Nat} (hd9 : 10 ≤ d) {g : (gH → Prop) → Nat → Nat → Nat → Int32 → Int32 → Int32 → Int32 → gH → Prop} (hg : ∀ {Q : gH → Prop} {mc ms x0 : Nat} {x1 x2 x3 x4 : Int32} {σ : gH}, g Q mc ms x0 x1 x2 x3 x4 σ → CT mX16_grow (d - 1) mc ms [.ref x0, .int x1, .int x2, .int x3, .int x4] σ (c_Kv Q)) {Q : gH → Prop} {mc ms : Nat} {x0 : Nat} {x1 : Int32} {x2 : Int32} {x3 : Int32} {x4 : Int32} {σ : gH} (w : wX16_grow_body g Q mc ms x0 x1 x2 x3 x4 σ) : CT mX16_grow d mc ms [.ref x0, .int x1, .int x2, .int x3, .int x4] σ (c_Kv Q) := by
  refine CT.of (lv := [(0, .ref x0), (1, .int x1), (2, .int x2), (3, .int x3), (4, .int x4)]) okX16_grow.1 rfl rfl ?_
  unfold wX16_grow_body at w
  refine e_iconst (n := 1) (v := 0) dX16_grow_0 rfl (by decide) ?_
  refine e_istore (n := 3) (lv' := [(0, .ref x0), (1, .int x1), (2, .int x2), (3, .int x3), (4, .int x4), (5, .int 0)]) [1, 2, 3, 4, 5, 0] dX16_grow_1 rfl rfl rfl ?_
  obtain ⟨fu, w⟩ := w
  refine hX16_grow_3 hd9 hg (fun uc_8 us_9 x0_1 x1_2 x2_3 x3_4 x4_5 x5_6 σ_7 hu1 hu2 w => ?_) fu _ _ _ _ _ _ _ _ _ (Nat.zero_le _) (Nat.zero_le _) w
  refine e_aload_n (n := 82) dX16_grow_81 rfl 0 rfl ?_
  refine e_cR (n := 85) w fw_X16_this_0 (gl_o q1014) dX16_grow_82 rfl (fun r_10 w => ?_)
  obtain ⟨a_11, ha_11, w9a_11⟩ := w
  subst ha_11
  have w := w9a_11
  refine e_cR (n := 88) w fw_X0_rules (gl_n q187) dX16_grow_85 rfl (fun r_12 w => ?_)
  refine e_iload (n := 90) dX16_grow_88 rfl 5 rfl ?_
  obtain ⟨a_13, ha_13, w9a_13⟩ := w
  subst ha_13
  have w := w9a_13
  obtain ⟨fs_15, wo, w⟩ := w
  refine e_callF (n := 95) (As := [.int x5_6]) (st := []) okJ2_get q1025 q412 q414 q60 q416 q411 q410 q415 q413 q286 rfl (by decide) wo rfl (by omega) hu1 hu2 rfl rfl rfl dX16_grow_90 rfl (ctJ2_get w) (fun r9 σ9 hk => ?_)
  obtain ⟨r_14, rfl, hs9, w⟩ := hk
  rw [hs9]
  refine e_ccast (n := 98) (r := r_14) w gc_X4 q1026 dX16_grow_95 rfl (fun w => ?_)
  refine e_astorer (n := 100) (r := r_14) (lv' := [(0, .ref x0_1), (1, .int x1_2), (2, .int x2_3), (3, .int x3_4), (4, .int x4_5), (5, .int x5_6), (6, va_rf r_14)]) [1, 2, 3, 4, 5, 6, 0] dX16_grow_98 rfl rfl rfl ?_
  refine e_aload_n (n := 101) dX16_grow_100 rfl 0 rfl ?_
  refine e_cR (n := 104) w fw_X16_this_0 (gl_o q1014) dX16_grow_101 rfl (fun r_16 w => ?_)
  obtain ⟨a_17, ha_17, w9a_17⟩ := w
  subst ha_17
  have w := w9a_17
  refine e_cR (n := 107) w fw_X0_tree (gl_n q205) dX16_grow_104 rfl (fun r_18 w => ?_)
  obtain ⟨a_19, ha_19, w9a_19⟩ := w
  subst ha_19
  have w := w9a_19
  refine e_cI (n := 110) w fw_X1_size (gl_n q145) dX16_grow_107 rfl (fun v_20 w => ?_)
  refine e_istore (n := 112) (lv' := [(0, .ref x0_1), (1, .int x1_2), (2, .int x2_3), (3, .int x3_4), (4, .int x4_5), (5, .int x5_6), (6, va_rf r_14), (7, .int v_20)]) [1, 2, 3, 4, 5, 6, 7, 0] dX16_grow_110 rfl rfl (by cases r_14 <;> rfl) ?_
  refine e_aload_n (n := 113) dX16_grow_112 rfl 0 rfl ?_
  refine e_cR (n := 116) w fw_X16_this_0 (gl_o q1014) dX16_grow_113 rfl (fun r_21 w => ?_)
  obtain ⟨a_22, ha_22, w9a_22⟩ := w
  subst ha_22
  have w := w9a_22
  refine e_cR (n := 119) w fw_X0_tree (gl_n q205) dX16_grow_116 rfl (fun r_23 w => ?_)
  refine e_dup (n := 120) dX16_grow_119 rfl (rf_c1 _) ?_
  obtain ⟨a_24, ha_24, w9a_24⟩ := w
  subst ha_24
  have w := w9a_24
  refine e_cI (n := 123) w fw_X1_size (gl_n q145) dX16_grow_120 rfl (fun v_25 w => ?_)
  refine e_iconst (n := 124) (v := 1) dX16_grow_123 rfl (by decide) ?_
  refine e_iadd (n := 125) dX16_grow_124 rfl ?_
  refine e_cP (n := 128) (ty := .int) w tyX1 tyX1_ok nmX1 in_X1 rfl rfl (gl_n q145) rfl rfl ⟨rfl, rfl⟩ dX16_grow_125 rfl (fun σ_26 w => ?_)
  refine e_aload_n (n := 129) dX16_grow_128 rfl 0 rfl ?_
  refine e_cR (n := 132) w fw_X16_this_0 (gl_o q1014) dX16_grow_129 rfl (fun r_27 w => ?_)
  obtain ⟨a_28, ha_28, w9a_28⟩ := w
  subst ha_28
  have w := w9a_28
  refine e_cR (n := 135) w fw_X0_tree (gl_n q205) dX16_grow_132 rfl (fun r_29 w => ?_)
  obtain ⟨a_30, ha_30, w9a_30⟩ := w
  subst ha_30
  have w := w9a_30
  refine e_cR (n := 138) w fw_X1_cells (gl_n q142) dX16_grow_135 rfl (fun r_31 w => ?_)
  refine e_iconst (n := 139) (v := 0) dX16_grow_138 rfl (by decide) ?_
  obtain ⟨a_32, ha_32, w9a_32⟩ := w
  subst ha_32
  have w := w9a_32
  refine e_caR (n := 140) w (fun _ => rfl) rfl dX16_grow_139 rfl (fun r_33 w => ?_)
  refine e_iload (n := 142) dX16_grow_140 rfl 7 rfl ?_
  refine e_iload_n (n := 143) dX16_grow_142 rfl 1 rfl ?_
  obtain ⟨a_34, ha_34, w9a_34⟩ := w
  subst ha_34
  have w := w9a_34
  refine e_csI (n := 144) w dX16_grow_143 rfl (fun σ_35 w => ?_)
  refine e_aload_n (n := 145) dX16_grow_144 rfl 0 rfl ?_
  refine e_cR (n := 148) w fw_X16_this_0 (gl_o q1014) dX16_grow_145 rfl (fun r_36 w => ?_)
  obtain ⟨a_37, ha_37, w9a_37⟩ := w
  subst ha_37
  have w := w9a_37
  refine e_cR (n := 151) w fw_X0_tree (gl_n q205) dX16_grow_148 rfl (fun r_38 w => ?_)
  obtain ⟨a_39, ha_39, w9a_39⟩ := w
  subst ha_39
  have w := w9a_39
  refine e_cR (n := 154) w fw_X1_cells (gl_n q142) dX16_grow_151 rfl (fun r_40 w => ?_)
  refine e_iconst (n := 155) (v := 1) dX16_grow_154 rfl (by decide) ?_
  obtain ⟨a_41, ha_41, w9a_41⟩ := w
  subst ha_41
  have w := w9a_41
  refine e_caR (n := 156) w (fun _ => rfl) rfl dX16_grow_155 rfl (fun r_42 w => ?_)
  refine e_iload (n := 158) dX16_grow_156 rfl 7 rfl ?_
  refine e_iload (n := 160) dX16_grow_158 rfl 5 rfl ?_
  obtain ⟨a_43, ha_43, w9a_43⟩ := w
  subst ha_43
  have w := w9a_43
  refine e_csI (n := 161) w dX16_grow_160 rfl (fun σ_44 w => ?_)
  refine e_aload_n (n := 162) dX16_grow_161 rfl 0 rfl ?_
  refine e_cR (n := 165) w fw_X16_this_0 (gl_o q1014) dX16_grow_162 rfl (fun r_45 w => ?_)
  obtain ⟨a_46, ha_46, w9a_46⟩ := w
  subst ha_46
  have w := w9a_46
  refine e_cR (n := 168) w fw_X0_tree (gl_n q205) dX16_grow_165 rfl (fun r_47 w => ?_)
  obtain ⟨a_48, ha_48, w9a_48⟩ := w
  subst ha_48
  have w := w9a_48
  refine e_cR (n := 171) w fw_X1_cells (gl_n q142) dX16_grow_168 rfl (fun r_49 w => ?_)
  refine e_iconst (n := 172) (v := 2) dX16_grow_171 rfl (by decide) ?_
  obtain ⟨a_50, ha_50, w9a_50⟩ := w
  subst ha_50
  have w := w9a_50
  refine e_caR (n := 173) w (fun _ => rfl) rfl dX16_grow_172 rfl (fun r_51 w => ?_)
  refine e_iload (n := 175) dX16_grow_173 rfl 7 rfl ?_
  refine e_iload (n := 177) dX16_grow_175 rfl 4 rfl ?_
  obtain ⟨a_52, ha_52, w9a_52⟩ := w
  subst ha_52
  have w := w9a_52
  refine e_csI (n := 178) w dX16_grow_177 rfl (fun σ_53 w => ?_)
  refine e_aload_n (n := 179) dX16_grow_178 rfl 0 rfl ?_
  refine e_cR (n := 182) w fw_X16_this_0 (gl_o q1014) dX16_grow_179 rfl (fun r_54 w => ?_)
  obtain ⟨a_55, ha_55, w9a_55⟩ := w
  subst ha_55
  have w := w9a_55
  refine e_cR (n := 185) w fw_X0_tree (gl_n q205) dX16_grow_182 rfl (fun r_56 w => ?_)
  obtain ⟨a_57, ha_57, w9a_57⟩ := w
  subst ha_57
  have w := w9a_57
  refine e_cR (n := 188) w fw_X1_cells (gl_n q142) dX16_grow_185 rfl (fun r_58 w => ?_)
  refine e_iconst (n := 189) (v := 3) dX16_grow_188 rfl (by decide) ?_
  obtain ⟨a_59, ha_59, w9a_59⟩ := w
  subst ha_59
  have w := w9a_59
  refine e_caR (n := 190) w (fun _ => rfl) rfl dX16_grow_189 rfl (fun r_60 w => ?_)
  refine e_iload (n := 192) dX16_grow_190 rfl 7 rfl ?_
  refine e_aload_n (n := 193) dX16_grow_192 rfl 0 rfl ?_
  refine e_cR (n := 196) w fw_X16_this_0 (gl_o q1014) dX16_grow_193 rfl (fun r_61 w => ?_)
  obtain ⟨a_62, ha_62, w9a_62⟩ := w
  subst ha_62
  have w := w9a_62
  refine e_cI (n := 199) w fw_X0_wordMany (gl_n q211) dX16_grow_196 rfl (fun v_63 w => ?_)
  obtain ⟨a_64, ha_64, w9a_64⟩ := w
  subst ha_64
  have w := w9a_64
  refine e_csI (n := 200) w dX16_grow_199 rfl (fun σ_65 w => ?_)
  refine e_iload_n (n := 201) dX16_grow_200 rfl 2 rfl ?_
  refine e_istore (n := 203) (lv' := [(0, .ref x0_1), (1, .int x1_2), (2, .int x2_3), (3, .int x3_4), (4, .int x4_5), (5, .int x5_6), (6, va_rf r_14), (7, .int v_20), (8, .int x2_3)]) [1, 2, 3, 4, 5, 6, 7, 8, 0] dX16_grow_201 rfl rfl rfl ?_
  refine e_iconst (n := 204) (v := 0) dX16_grow_203 rfl (by decide) ?_
  refine e_istore (n := 206) (lv' := [(0, .ref x0_1), (1, .int x1_2), (2, .int x2_3), (3, .int x3_4), (4, .int x4_5), (5, .int x5_6), (6, va_rf r_14), (7, .int v_20), (8, .int x2_3), (9, .int 0)]) [1, 2, 3, 4, 5, 6, 7, 8, 9, 0] dX16_grow_204 rfl rfl rfl ?_
  obtain ⟨fu, w⟩ := w
  refine e_sub (lv' := [(0, .ref x0_1), (3, .int x3_4), (6, va_rf r_14), (7, .int v_20), (8, .int x2_3), (9, .int 0)]) [0, 3, 6, 7, 8, 9] rfl ?_
  refine hX16_grow_206 hd9 hg (fun uc_69 us_70 x0_66 x7_67 σ_68 hu1 hu2 w => ?_) fu _ _ _ _ _ _ _ _ _ hu1 hu2 w
  refine e_aload_n (n := 339) dX16_grow_338 rfl 0 rfl ?_
  refine e_cR (n := 342) w fw_X16_this_0 (gl_o q1014) dX16_grow_339 rfl (fun r_71 w => ?_)
  obtain ⟨a_72, ha_72, w9a_72⟩ := w
  subst ha_72
  have w := w9a_72
  refine e_cR (n := 345) w fw_X0_tree (gl_n q205) dX16_grow_342 rfl (fun r_73 w => ?_)
  obtain ⟨a_74, ha_74, w9a_74⟩ := w
  subst ha_74
  have w := w9a_74
  refine e_cR (n := 348) w fw_X1_cells (gl_n q142) dX16_grow_345 rfl (fun r_75 w => ?_)
  refine e_iconst (n := 349) (v := 4) dX16_grow_348 rfl (by decide) ?_
  obtain ⟨a_76, ha_76, w9a_76⟩ := w
  subst ha_76
  have w := w9a_76
  refine e_caR (n := 350) w (fun _ => rfl) rfl dX16_grow_349 rfl (fun r_77 w => ?_)
  refine e_iload (n := 352) dX16_grow_350 rfl 1 rfl ?_
  refine e_aload_n (n := 353) dX16_grow_352 rfl 0 rfl ?_
  refine e_cR (n := 356) w fw_X16_this_0 (gl_o q1014) dX16_grow_353 rfl (fun r_78 w => ?_)
  obtain ⟨a_79, ha_79, w9a_79⟩ := w
  subst ha_79
  have w := w9a_79
  refine e_cI (n := 359) w fw_X0_wordMany (gl_n q211) dX16_grow_356 rfl (fun v_80 w => ?_)
  refine e_aload_n (n := 360) dX16_grow_359 rfl 0 rfl ?_
  refine e_cR (n := 363) w fw_X16_this_0 (gl_o q1014) dX16_grow_360 rfl (fun r_81 w => ?_)
  obtain ⟨a_82, ha_82, w9a_82⟩ := w
  subst ha_82
  have w := w9a_82
  refine e_cR (n := 366) w fw_X0_tree (gl_n q205) dX16_grow_363 rfl (fun r_83 w => ?_)
  obtain ⟨a_84, ha_84, w9a_84⟩ := w
  subst ha_84
  have w := w9a_84
  refine e_cR (n := 369) w fw_X1_cells (gl_n q142) dX16_grow_366 rfl (fun r_85 w => ?_)
  refine e_iconst (n := 370) (v := 3) dX16_grow_369 rfl (by decide) ?_
  obtain ⟨a_86, ha_86, w9a_86⟩ := w
  subst ha_86
  have w := w9a_86
  refine e_caR (n := 371) w (fun _ => rfl) rfl dX16_grow_370 rfl (fun r_87 w => ?_)
  refine e_iload (n := 373) dX16_grow_371 rfl 1 rfl ?_
  obtain ⟨a_88, ha_88, w9a_88⟩ := w
  subst ha_88
  have w := w9a_88
  refine e_caI (n := 374) w dX16_grow_373 rfl (fun v_89 w => ?_)
  refine e_isub (n := 375) dX16_grow_374 rfl ?_
  obtain ⟨a_90, ha_90, w9a_90⟩ := w
  subst ha_90
  have w := w9a_90
  refine e_csI (n := 376) w dX16_grow_375 rfl (fun σ_91 w => ?_)
  exact e_vret rfl hu1 hu2 ⟨rfl, w⟩ dX16_grow_376
def wX16_grow_n : Nat → (gH → Prop) → Nat → Nat → Nat → Int32 → Int32 → Int32 → Int32 → gH → Prop
  | 0 => fun _ _ _ _ _ _ _ _ _ => False
  | n + 1 => fun Q mc ms x0 x1 x2 x3 x4 σ => wX16_grow_body (wX16_grow_n n) Q mc ms x0 x1 x2 x3 x4 σ
def wX16_grow (Q : gH → Prop) (mc ms : Nat) (x0 : Nat) (x1 : Int32) (x2 : Int32) (x3 : Int32) (x4 : Int32) (σ : gH) : Prop := ∃ n : Nat, n ≤ 101 ∧ wX16_grow_n n Q mc ms x0 x1 x2 x3 x4 σ
theorem ctX16_grow_n : ∀ (n d : Nat), 10 + n ≤ d → ∀ {Q : gH → Prop} {mc ms : Nat} {x0 : Nat} {x1 : Int32} {x2 : Int32} {x3 : Int32} {x4 : Int32} {σ : gH}, wX16_grow_n n Q mc ms x0 x1 x2 x3 x4 σ → CT mX16_grow d mc ms [.ref x0, .int x1, .int x2, .int x3, .int x4] σ (c_Kv Q) := by
  intro n
  induction n with
  | zero =>
    intro d _ Q mc ms x0 x1 x2 x3 x4 σ w
    exact w.elim
  | succ n ih =>
    intro d hd Q mc ms x0 x1 x2 x3 x4 σ w
    exact ctX16_grow_body (by omega) (fun w => ih (d - 1) (by omega) w) w
theorem ctX16_grow {d : Nat} (hd : 111 ≤ d) {Q : gH → Prop} {mc ms : Nat} {x0 : Nat} {x1 : Int32} {x2 : Int32} {x3 : Int32} {x4 : Int32} {σ : gH} (w : wX16_grow Q mc ms x0 x1 x2 x3 x4 σ) : CT mX16_grow d mc ms [.ref x0, .int x1, .int x2, .int x3, .int x4] σ (c_Kv Q) := by
  obtain ⟨n, hn, w⟩ := w
  exact ctX16_grow_n n d (by omega) w
abbrev mX0_slipRows : gM := (yX0_slipRows, cX0_slipRows, 6, some (.object "MendReader$Slips"))
theorem okX0_slipRows : g_ok mX0_slipRows 1 := ⟨by decide +kernel, by decide +kernel, by decide +kernel, by decide +kernel, by decide⟩
def wX0_slipRows_124 (Q : Option Nat → gH → Prop) (mc ms : Nat) (kh : Nat → Nat → Nat → (Option Nat) → Nat → Int32 → Int32 → gH → Prop) (k131 : Nat → Nat → Nat → (Option Nat) → Nat → Int32 → gH → Prop) (uc : Nat) (us : Nat) (t0 : Option Nat) (t1 : Int32) (t2 : Int32) (x0 : Nat) (x1 : Option Nat) (x2 : Nat) (x3 : Int32) (x4 : Int32) (σ : gH) : Prop := ∃ a_42 : Nat, t0 = some a_42 ∧ (c_sI σ a_42 t1 t2 (fun σ_43 => ∀ x4_44 : Int32, x4_44 = x4 + 1 → (kh uc us x0 x1 x2 x3 x4_44 σ_43)))
def wX0_slipRows_35 (Q : Option Nat → gH → Prop) (mc ms : Nat) (k131 : Nat → Nat → Nat → (Option Nat) → Nat → Int32 → gH → Prop) : Nat → Nat → Nat → Nat → (Option Nat) → Nat → Int32 → Int32 → gH → Prop
  | 0 => fun _ _ _ _ _ _ _ _ => False
  | n + 1 => fun uc us x0 x1 x2 x3 x4 σ => c_R σ [0] x0 19 (fun r_27 => ∃ a_28 : Nat, r_27 = some a_28 ∧ (∃ fs_30 : List Value, σ.2 a_28 = some (.inr (18, fs_30)) ∧ (wJ2_size (fun (v_29 : Int32) => (v_29 ≤ x4 → (k131 uc us x0 x1 x2 x3 σ)) ∧ (¬ v_29 ≤ x4 → (c_R σ [0] x0 19 (fun r_31 => ∃ a_32 : Nat, r_31 = some a_32 ∧ (∃ fs_34 : List Value, σ.2 a_32 = some (.inr (18, fs_34)) ∧ (wJ2_get (fun (r_33 : Option Nat) => c_cast σ [8, 9, 10, 11, 12, 13, 14, 15] r_33 (c_R σ [2] x2 0 (fun r_35 => ∃ a_36 : Nat, r_35 = some a_36 ∧ (c_aR 3 σ a_36 x3 (fun r_37 => (x3 = 0 → (∃ a_49 : Nat, r_33 = some a_49 ∧ (vX8_kind σ (fun (v_50 : Int32) => wX0_slipRows_124 Q mc ms (wX0_slipRows_35 Q mc ms k131 n) k131 uc us r_37 x4 v_50 x0 x1 x2 x3 x4 σ) a_49))) ∧ (¬ x3 = 0 → ((x3 = 1 → (∃ a_47 : Nat, r_33 = some a_47 ∧ (c_I σ [8, 9, 10, 11, 12, 13, 14, 15] a_47 1 (fun v_48 => wX0_slipRows_124 Q mc ms (wX0_slipRows_35 Q mc ms k131 n) k131 uc us r_37 x4 v_48 x0 x1 x2 x3 x4 σ)))) ∧ (¬ x3 = 1 → ((x3 = 2 → (∃ a_45 : Nat, r_33 = some a_45 ∧ (vX8_told σ (fun (v_46 : Int32) => wX0_slipRows_124 Q mc ms (wX0_slipRows_35 Q mc ms k131 n) k131 uc us r_37 x4 v_46 x0 x1 x2 x3 x4 σ) a_45))) ∧ (¬ x3 = 2 → (∃ a_38 : Nat, x1 = some a_38 ∧ (c_R σ [7] a_38 2 (fun r_39 => c_I σ [7] a_38 1 (fun v_40 => wX0_priceOf (fun (v_41 : Int32) => wX0_slipRows_124 Q mc ms (wX0_slipRows_35 Q mc ms k131 n) k131 uc us r_37 x4 v_41 x0 (some a_38) x2 x3 x4 σ) σ r_39 r_33 v_40)))))))))))))) σ a_32 x4)))))) σ a_28)))
def wX0_slipRows_10 (Q : Option Nat → gH → Prop) (mc ms : Nat) (k137 : Nat → Nat → Nat → gH → Prop) : Nat → Nat → Nat → Nat → (Option Nat) → Nat → Int32 → gH → Prop
  | 0 => fun _ _ _ _ _ _ _ => False
  | n + 1 => fun uc us x0 x1 x2 x3 σ => (4 ≤ x3 → (k137 uc us x2 σ)) ∧ (¬ 4 ≤ x3 → (c_R σ [2] x2 0 (fun r_10 => c_R σ [0] x0 19 (fun r_11 => ∃ a_12 : Nat, r_11 = some a_12 ∧ (∃ fs_14 : List Value, σ.2 a_12 = some (.inr (18, fs_14)) ∧ (wJ2_size (fun (v_13 : Int32) => uc + 1 ≤ mc ∧ us + v_13.toNatClampNeg ≤ ms ∧ ¬ v_13 < 0 ∧ v_13.toNatClampNeg * 4 ≤ 536870912 ∧ c_new σ (.inl (0, v_13.toNatClampNeg, .inl (fun _ => 0))) (fun q_16 σ_15 => ∃ a_17 : Nat, r_10 = some a_17 ∧ (c_sA σ_15 a_17 x3 q_16 (fun σ_18 => ∃ fu : Nat, wX0_slipRows_35 Q mc ms (fun (uc_24 : Nat) (us_25 : Nat) (x0_19 : Nat) (x1_20 : Option Nat) (x2_21 : Nat) (x3_22 : Int32) (σ_23 : gH) => ∀ x3_26 : Int32, x3_26 = x3_22 + 1 → (wX0_slipRows_10 Q mc ms k137 n uc_24 us_25 x0_19 x1_20 x2_21 x3_26 σ_23)) fu (uc + 1) (us + v_13.toNatClampNeg) x0 x1 x2 x3 0 σ_18)))) σ a_12))))))
def wX0_slipRows (Q : Option Nat → gH → Prop) (mc ms : Nat) (x0 : Nat) (x1 : Option Nat) (σ : gH) : Prop := 0 + 1 ≤ mc ∧ 0 + 1 ≤ ms ∧ c_new σ (.inr (2, [.null])) (fun q_2 σ_1 => ∃ c_4 b_5 : Nat, (0 + 1) + c_4 ≤ mc ∧ (0 + 1) + b_5 ≤ ms ∧ wX2_init (fun (σ_3 : gH) => ∃ fu : Nat, wX0_slipRows_10 Q mc ms (fun (uc_8 : Nat) (us_9 : Nat) (x2_6 : Nat) (σ_7 : gH) => Q (some x2_6) σ_7) fu ((0 + 1) + c_4) ((0 + 1) + b_5) x0 x1 q_2 0 σ_3) c_4 b_5 q_2 σ_1)
set_option maxHeartbeats 4000000 in
theorem hX0_slipRows_124 {Q : Option Nat → gH → Prop} {mc ms : Nat} {kh : Nat → Nat → Nat → (Option Nat) → Nat → Int32 → Int32 → gH → Prop} (hkh : ∀ (uc : Nat) (us : Nat) (x0 : Nat) (x1 : Option Nat) (x2 : Nat) (x3 : Int32) (x4 : Int32) (σ : gH), uc ≤ mc → us ≤ ms → kh uc us x0 x1 x2 x3 x4 σ → E mX0_slipRows 7 mc ms (g_z (c_Kr Q)) uc us 35 [(0, .ref x0), (1, va_rf x1), (2, .ref x2), (3, .int x3), (4, .int x4)] [] σ) {k131 : Nat → Nat → Nat → (Option Nat) → Nat → Int32 → gH → Prop} (hk131 : ∀ (uc : Nat) (us : Nat) (x0 : Nat) (x1 : Option Nat) (x2 : Nat) (x3 : Int32) (σ : gH), uc ≤ mc → us ≤ ms → k131 uc us x0 x1 x2 x3 σ → E mX0_slipRows 7 mc ms (g_z (c_Kr Q)) uc us 131 [(0, .ref x0), (1, va_rf x1), (2, .ref x2), (3, .int x3)] [] σ) (uc : Nat) (us : Nat) (t0 : Option Nat) (t1 : Int32) (t2 : Int32) (x0 : Nat) (x1 : Option Nat) (x2 : Nat) (x3 : Int32) (x4 : Int32) (σ : gH) (hu1 : uc ≤ mc) (hu2 : us ≤ ms) (w : wX0_slipRows_124 Q mc ms kh k131 uc us t0 t1 t2 x0 x1 x2 x3 x4 σ) : E mX0_slipRows 7 mc ms (g_z (c_Kr Q)) uc us 124 [(0, .ref x0), (1, va_rf x1), (2, .ref x2), (3, .int x3), (4, .int x4)] [.int t2, .int t1, va_rf t0] σ := by
  unfold wX0_slipRows_124 at w
  obtain ⟨a_42, ha_42, w9a_42⟩ := w
  subst ha_42
  have w := w9a_42
  refine e_csI (n := 125) w dX0_slipRows_124 rfl (fun σ_43 w => ?_)
  obtain ⟨x4_44, hx4_44⟩ : ∃ y : Int32, y = x4 + 1 := ⟨_, rfl⟩
  have w := w x4_44 hx4_44
  refine e_iinc (n := 128) (v := x4_44) (lv' := [(0, .ref x0), (1, va_rf x1), (2, .ref x2), (3, .int x3), (4, .int x4_44)]) [1, 2, 3, 4, 0] dX0_slipRows_125 rfl 4 rfl (by rw [hx4_44]; rfl) rfl rfl ?_
  refine e_goto (n := 35) dX0_slipRows_128 (by decide) ?_
  exact hkh _ _ _ _ _ _ _ _ hu1 hu2 w
set_option maxHeartbeats 4000000 in
theorem hX0_slipRows_35 {Q : Option Nat → gH → Prop} {mc ms : Nat} {k131 : Nat → Nat → Nat → (Option Nat) → Nat → Int32 → gH → Prop} (hk131 : ∀ (uc : Nat) (us : Nat) (x0 : Nat) (x1 : Option Nat) (x2 : Nat) (x3 : Int32) (σ : gH), uc ≤ mc → us ≤ ms → k131 uc us x0 x1 x2 x3 σ → E mX0_slipRows 7 mc ms (g_z (c_Kr Q)) uc us 131 [(0, .ref x0), (1, va_rf x1), (2, .ref x2), (3, .int x3)] [] σ) : ∀ (n : Nat) (uc : Nat) (us : Nat) (x0 : Nat) (x1 : Option Nat) (x2 : Nat) (x3 : Int32) (x4 : Int32) (σ : gH) (hu1 : uc ≤ mc) (hu2 : us ≤ ms), wX0_slipRows_35 Q mc ms k131 n uc us x0 x1 x2 x3 x4 σ → E mX0_slipRows 7 mc ms (g_z (c_Kr Q)) uc us 35 [(0, .ref x0), (1, va_rf x1), (2, .ref x2), (3, .int x3), (4, .int x4)] [] σ := by
  intro n
  induction n with
  | zero =>
    intro _ _ _ _ _ _ _ _ _ _ w
    exact w.elim
  | succ n ih =>
    intro uc us x0 x1 x2 x3 x4 σ hu1 hu2 w
    unfold wX0_slipRows_35 at w
    refine e_iload (n := 37) dX0_slipRows_35 rfl 4 rfl ?_
    refine e_aload_n (n := 38) dX0_slipRows_37 rfl 0 rfl ?_
    refine e_cR (n := 41) w fw_X0_slips (gl_o q207) dX0_slipRows_38 rfl (fun r_27 w => ?_)
    obtain ⟨a_28, ha_28, w9a_28⟩ := w
    subst ha_28
    have w := w9a_28
    obtain ⟨fs_30, wo, w⟩ := w
    refine e_callF (n := 46) (As := []) (st := [.int x4]) okJ2_size q283 q287 q289 q60 q291 q285 q284 q290 q288 q286 rfl (by decide) wo rfl (by decide) hu1 hu2 rfl rfl rfl dX0_slipRows_41 rfl (ctJ2_size w) (fun r9 σ9 hk => ?_)
    obtain ⟨v_29, rfl, hs9, w⟩ := hk
    rw [hs9]
    refine e_icmp_ge (n := 49) (tgt := 131) dX0_slipRows_46 rfl (by decide) (fun h => ?_) (fun h => ?_)
    · have w := w.1 h
      refine e_sub (lv' := [(0, .ref x0), (1, va_rf x1), (2, .ref x2), (3, .int x3)]) [0, 1, 2, 3] rfl ?_
      exact hk131 _ _ _ _ _ _ _ hu1 hu2 w
    · have w := w.2 h
      refine e_aload_n (n := 50) dX0_slipRows_49 rfl 0 rfl ?_
      refine e_cR (n := 53) w fw_X0_slips (gl_o q207) dX0_slipRows_50 rfl (fun r_31 w => ?_)
      refine e_iload (n := 55) dX0_slipRows_53 rfl 4 rfl ?_
      obtain ⟨a_32, ha_32, w9a_32⟩ := w
      subst ha_32
      have w := w9a_32
      obtain ⟨fs_34, wo, w⟩ := w
      refine e_callF (n := 60) (As := [.int x4]) (st := []) okJ2_get q409 q412 q414 q60 q416 q411 q410 q415 q413 q286 rfl (by decide) wo rfl (by decide) hu1 hu2 rfl rfl rfl dX0_slipRows_55 rfl (ctJ2_get w) (fun r9 σ9 hk => ?_)
      obtain ⟨r_33, rfl, hs9, w⟩ := hk
      rw [hs9]
      refine e_ccast (n := 63) (r := r_33) w gc_X8 q1070 dX0_slipRows_60 rfl (fun w => ?_)
      refine e_astorer (n := 65) (r := r_33) (lv' := [(0, .ref x0), (1, va_rf x1), (2, .ref x2), (3, .int x3), (4, .int x4), (5, va_rf r_33)]) [1, 2, 3, 4, 5, 0] dX0_slipRows_63 rfl rfl rfl ?_
      refine e_aload_n (n := 66) dX0_slipRows_65 rfl 2 rfl ?_
      refine e_cR (n := 69) w fw_X2_cells (gl_n q161) dX0_slipRows_66 rfl (fun r_35 w => ?_)
      refine e_iload_n (n := 70) dX0_slipRows_69 rfl 3 rfl ?_
      obtain ⟨a_36, ha_36, w9a_36⟩ := w
      subst ha_36
      have w := w9a_36
      refine e_caR (n := 71) w (fun _ => rfl) rfl dX0_slipRows_70 rfl (fun r_37 w => ?_)
      refine e_iload (n := 73) dX0_slipRows_71 rfl 4 rfl ?_
      refine e_iload_n (n := 74) dX0_slipRows_73 rfl 3 rfl ?_
      refine e_if_ne (n := 77) (tgt := 85) dX0_slipRows_74 rfl (by decide) (fun h => ?_) (fun h => ?_)
      · have w := w.2 h
        refine e_iload_n (n := 86) dX0_slipRows_85 rfl 3 rfl ?_
        refine e_iconst (n := 87) (v := 1) dX0_slipRows_86 rfl (by decide) ?_
        refine e_icmp_ne (n := 90) (tgt := 98) dX0_slipRows_87 rfl (by decide) (fun h => ?_) (fun h => ?_)
        · have w := w.2 h
          refine e_iload_n (n := 99) dX0_slipRows_98 rfl 3 rfl ?_
          refine e_iconst (n := 100) (v := 2) dX0_slipRows_99 rfl (by decide) ?_
          refine e_icmp_ne (n := 103) (tgt := 111) dX0_slipRows_100 rfl (by decide) (fun h => ?_) (fun h => ?_)
          · have w := w.2 h
            refine e_aloadr_n (n := 112) (r := x1) dX0_slipRows_111 rfl 1 rfl ?_
            obtain ⟨a_38, ha_38, w9a_38⟩ := w
            subst ha_38
            have w := w9a_38
            refine e_cR (n := 115) w fw_X7_way (gl_n q927) dX0_slipRows_112 rfl (fun r_39 w => ?_)
            refine e_aloadr (n := 117) (r := r_33) dX0_slipRows_115 rfl 5 rfl ?_
            refine e_aload_n (n := 118) dX0_slipRows_117 rfl 1 rfl ?_
            refine e_cI (n := 121) w fw_X7_n (gl_n q924) dX0_slipRows_118 rfl (fun v_40 w => ?_)
            refine e_callS (n := 124) (As := [va_rf r_39, va_rf r_33, .int v_40]) (st := [.int x4, va_rf r_37]) okX0_priceOf q1072 q913 q57 q914 (by decide) hu1 hu2 rfl rfl (Nat.le_of_ble_eq_true (by cases r_37 <;> rfl)) dX0_slipRows_121 rfl (ctX0_priceOf w) (fun r9 σ9 hk => ?_)
            obtain ⟨v_41, rfl, hs9, w⟩ := hk
            rw [hs9]
            refine e_sub (lv' := [(0, .ref x0), (1, va_rf (some a_38)), (2, .ref x2), (3, .int x3), (4, .int x4)]) [0, 1, 2, 3, 4] rfl ?_
            exact hX0_slipRows_124 ih hk131 _ _ _ _ _ _ _ _ _ _ _ hu1 hu2 w
          · have w := w.1 h
            refine e_aloadr (n := 105) (r := r_33) dX0_slipRows_103 rfl 5 rfl ?_
            obtain ⟨a_45, ha_45, w9a_45⟩ := w
            subst ha_45
            have w := w9a_45
            refine evX8_told (n := 108) (st := [.int x4, va_rf r_37]) w (by decide) hu1 hu2 q1071 (by cases r_37 <;> rfl) dX0_slipRows_105 rfl (fun v_46 w => ?_)
            refine e_goto (n := 124) dX0_slipRows_108 (by decide) ?_
            refine e_sub (lv' := [(0, .ref x0), (1, va_rf x1), (2, .ref x2), (3, .int x3), (4, .int x4)]) [0, 1, 2, 3, 4] rfl ?_
            exact hX0_slipRows_124 ih hk131 _ _ _ _ _ _ _ _ _ _ _ hu1 hu2 w
        · have w := w.1 h
          refine e_aloadr (n := 92) (r := r_33) dX0_slipRows_90 rfl 5 rfl ?_
          obtain ⟨a_47, ha_47, w9a_47⟩ := w
          subst ha_47
          have w := w9a_47
          refine e_cI (n := 95) w fw_X8_place (gl_o q565) dX0_slipRows_92 rfl (fun v_48 w => ?_)
          refine e_goto (n := 124) dX0_slipRows_95 (by decide) ?_
          refine e_sub (lv' := [(0, .ref x0), (1, va_rf x1), (2, .ref x2), (3, .int x3), (4, .int x4)]) [0, 1, 2, 3, 4] rfl ?_
          exact hX0_slipRows_124 ih hk131 _ _ _ _ _ _ _ _ _ _ _ hu1 hu2 w
      · have w := w.1 h
        refine e_aloadr (n := 79) (r := r_33) dX0_slipRows_77 rfl 5 rfl ?_
        obtain ⟨a_49, ha_49, w9a_49⟩ := w
        subst ha_49
        have w := w9a_49
        refine evX8_kind (n := 82) (st := [.int x4, va_rf r_37]) w (by decide) hu1 hu2 q603 (by cases r_37 <;> rfl) dX0_slipRows_79 rfl (fun v_50 w => ?_)
        refine e_goto (n := 124) dX0_slipRows_82 (by decide) ?_
        refine e_sub (lv' := [(0, .ref x0), (1, va_rf x1), (2, .ref x2), (3, .int x3), (4, .int x4)]) [0, 1, 2, 3, 4] rfl ?_
        exact hX0_slipRows_124 ih hk131 _ _ _ _ _ _ _ _ _ _ _ hu1 hu2 w
set_option maxHeartbeats 4000000 in
theorem hX0_slipRows_10 {Q : Option Nat → gH → Prop} {mc ms : Nat} {k137 : Nat → Nat → Nat → gH → Prop} (hk137 : ∀ (uc : Nat) (us : Nat) (x2 : Nat) (σ : gH), uc ≤ mc → us ≤ ms → k137 uc us x2 σ → E mX0_slipRows 7 mc ms (g_z (c_Kr Q)) uc us 137 [(2, .ref x2)] [] σ) : ∀ (n : Nat) (uc : Nat) (us : Nat) (x0 : Nat) (x1 : Option Nat) (x2 : Nat) (x3 : Int32) (σ : gH) (hu1 : uc ≤ mc) (hu2 : us ≤ ms), wX0_slipRows_10 Q mc ms k137 n uc us x0 x1 x2 x3 σ → E mX0_slipRows 7 mc ms (g_z (c_Kr Q)) uc us 10 [(0, .ref x0), (1, va_rf x1), (2, .ref x2), (3, .int x3)] [] σ := by
  intro n
  induction n with
  | zero =>
    intro _ _ _ _ _ _ _ _ _ w
    exact w.elim
  | succ n ih =>
    intro uc us x0 x1 x2 x3 σ hu1 hu2 w
    unfold wX0_slipRows_10 at w
    refine e_iload_n (n := 11) dX0_slipRows_10 rfl 3 rfl ?_
    refine e_iconst (n := 12) (v := 4) dX0_slipRows_11 rfl (by decide) ?_
    refine e_icmp_ge (n := 15) (tgt := 137) dX0_slipRows_12 rfl (by decide) (fun h => ?_) (fun h => ?_)
    · have w := w.1 h
      refine e_sub (lv' := [(2, .ref x2)]) [2] rfl ?_
      exact hk137 _ _ _ _ hu1 hu2 w
    · have w := w.2 h
      refine e_aload_n (n := 16) dX0_slipRows_15 rfl 2 rfl ?_
      refine e_cR (n := 19) w fw_X2_cells (gl_n q161) dX0_slipRows_16 rfl (fun r_10 w => ?_)
      refine e_iload_n (n := 20) dX0_slipRows_19 rfl 3 rfl ?_
      refine e_aload_n (n := 21) dX0_slipRows_20 rfl 0 rfl ?_
      refine e_cR (n := 24) w fw_X0_slips (gl_o q207) dX0_slipRows_21 rfl (fun r_11 w => ?_)
      obtain ⟨a_12, ha_12, w9a_12⟩ := w
      subst ha_12
      have w := w9a_12
      obtain ⟨fs_14, wo, w⟩ := w
      refine e_callF (n := 29) (As := []) (st := [.int x3, va_rf r_10]) okJ2_size q283 q287 q289 q60 q291 q285 q284 q290 q288 q286 rfl (by decide) wo rfl (by decide) hu1 hu2 rfl rfl (by cases r_10 <;> rfl) dX0_slipRows_24 rfl (ctJ2_size w) (fun r9 σ9 hk => ?_)
      obtain ⟨v_13, rfl, hs9, w⟩ := hk
      rw [hs9]
      obtain ⟨hu1, hu2, w⟩ := w
      obtain ⟨wn, wb, w⟩ := w
      refine e_cnewI (n := 31) (z := v_13) w wn wb hu1 hu2 dX0_slipRows_29 rfl (fun q_16 σ_15 w => ?_)
      obtain ⟨a_17, ha_17, w9a_17⟩ := w
      subst ha_17
      have w := w9a_17
      refine e_csA (n := 32) w dX0_slipRows_31 rfl (fun σ_18 w => ?_)
      refine e_iconst (n := 33) (v := 0) dX0_slipRows_32 rfl (by decide) ?_
      refine e_istore (n := 35) (lv' := [(0, .ref x0), (1, va_rf x1), (2, .ref x2), (3, .int x3), (4, .int 0)]) [1, 2, 3, 4, 0] dX0_slipRows_33 rfl rfl rfl ?_
      obtain ⟨fu, w⟩ := w
      refine hX0_slipRows_35 (fun uc_24 us_25 x0_19 x1_20 x2_21 x3_22 σ_23 hu1 hu2 w => ?_) fu _ _ _ _ _ _ _ _ hu1 hu2 w
      obtain ⟨x3_26, hx3_26⟩ : ∃ y : Int32, y = x3_22 + 1 := ⟨_, rfl⟩
      have w := w x3_26 hx3_26
      refine e_iinc (n := 134) (v := x3_26) (lv' := [(0, .ref x0_19), (1, va_rf x1_20), (2, .ref x2_21), (3, .int x3_26)]) [1, 2, 3, 0] dX0_slipRows_131 rfl 3 rfl (by rw [hx3_26]; rfl) rfl rfl ?_
      refine e_goto (n := 10) dX0_slipRows_134 (by decide) ?_
      exact ih _ _ _ _ _ _ _ hu1 hu2 w
set_option maxHeartbeats 4000000 in
theorem ctX0_slipRows {Q : Option Nat → gH → Prop} {mc ms : Nat} {x0 : Nat} {x1 : Option Nat} {σ : gH} (w : wX0_slipRows Q mc ms x0 x1 σ) : CT mX0_slipRows 7 mc ms [.ref x0, va_rf x1] σ (c_Kr Q) := by
  refine CT.of (lv := [(0, .ref x0), (1, va_rf x1)]) okX0_slipRows.1 (by cases x1 <;> rfl) (by cases x1 <;> rfl) ?_
  unfold wX0_slipRows at w
  obtain ⟨hu1, hu2, w⟩ := w
  refine e_cnew (n := 3) w tyX2 tyX2_ok in_X2 rfl q153 q154 q62 (fun j hj => g_defX2 j hj) hu1 hu2 dX0_slipRows_0 rfl (fun q_2 σ_1 w => ?_)
  refine e_dup (n := 4) dX0_slipRows_3 rfl rfl ?_
  obtain ⟨c_4, b_5, hu1, hu2, w⟩ := w
  refine e_callIN (n := 7) (As := []) (st := [.ref q_2]) okX2_init rfl rfl q155 q156 q62 q157 (by decide) hu1 hu2 rfl rfl rfl dX0_slipRows_4 rfl (ctX2_init w) (fun r9 σ_3 hk => ?_)
  obtain ⟨rfl, w⟩ := hk
  refine e_astore_n (n := 8) (lv' := [(0, .ref x0), (1, va_rf x1), (2, .ref q_2)]) [1, 2, 0] dX0_slipRows_7 rfl rfl (by cases x1 <;> rfl) ?_
  refine e_iconst (n := 9) (v := 0) dX0_slipRows_8 rfl (by decide) ?_
  refine e_istore_n (n := 10) (lv' := [(0, .ref x0), (1, va_rf x1), (2, .ref q_2), (3, .int 0)]) [1, 2, 3, 0] dX0_slipRows_9 rfl rfl rfl ?_
  obtain ⟨fu, w⟩ := w
  refine hX0_slipRows_10 (fun uc_8 us_9 x2_6 σ_7 hu1 hu2 w => ?_) fu _ _ _ _ _ _ _ hu1 hu2 w
  refine e_aload_n (n := 138) dX0_slipRows_137 rfl 0 rfl ?_
  exact e_aret (v := va_rf (some x2_6)) rfl (Or.inl ⟨_, rfl⟩) (rf_or _) hu1 hu2 ⟨_, rfl, w⟩ dX0_slipRows_138
abbrev mX0_reads : gM := (yX0_reads, cX0_reads, 9, some .int)
theorem okX0_reads : g_ok mX0_reads 3 := ⟨by decide +kernel, by decide +kernel, by decide +kernel, by decide +kernel, by decide⟩
def wX0_reads_240 (Q : Int32 → gH → Prop) (mc ms : Nat)  (uc : Nat) (us : Nat) (x0 : Nat) (σ : gH) : Prop := c_I σ [0] x0 16 (fun v_59 => Q v_59 σ)
def wX0_reads (Q : Int32 → gH → Prop) (mc ms : Nat) (x0 : Nat) (x1 : Int32) (x2 : Int32) (x3 : Int32) (σ : gH) : Prop := c_I σ [0] x0 5 (fun v_1 => (v_1 = 0 → (Q (-3) σ)) ∧ (¬ v_1 = 0 → (0 + 1 ≤ mc ∧ 0 + 4 ≤ ms ∧ c_new σ (.inr (6, [.int 0, .int 0, .int 0, .null])) (fun q_3 σ_2 => wX6_init (fun (σ_4 : gH) => c_P σ_4 [0] x0 17 (va_rf (some q_3)) (fun σ_5 => (0 + 1) + 1 ≤ mc ∧ (0 + 4) + 13 ≤ ms ∧ c_new σ_5 (.inr (7, [.null, .int 0, .null, .null, .null, .int 0, .null, .null, .null, .null, .null, .null, .null])) (fun q_7 σ_6 => c_R σ_6 [0] x0 11 (fun r_8 => c_R σ_6 [0] x0 17 (fun r_9 => ∃ c_11 b_12 : Nat, ((0 + 1) + 1) + c_11 ≤ mc ∧ ((0 + 4) + 13) + b_12 ≤ ms ∧ wX7_init (fun (σ_10 : gH) => ∃ fs_14 : List Value, σ_10.2 q_7 = some (.inr (7, fs_14)) ∧ (wX7_fill (fun (σ_13 : gH) => c_R σ_13 [0] x0 19 (fun r_15 => ∃ a_16 : Nat, r_15 = some a_16 ∧ (∃ fs_18 : List Value, σ_13.2 a_16 = some (.inr (18, fs_18)) ∧ (wJ2_clear (fun (σ_17 : gH) => c_P σ_17 [0] x0 22 (.int 0) (fun σ_19 => (((0 + 1) + 1) + c_11) + 1 ≤ mc ∧ (((0 + 4) + 13) + b_12) + 2 ≤ ms ∧ c_new σ_19 (.inr (1, [.null, .int 0])) (fun q_21 σ_20 => ∃ c_23 b_24 : Nat, ((((0 + 1) + 1) + c_11) + 1) + c_23 ≤ mc ∧ ((((0 + 4) + 13) + b_12) + 2) + b_24 ≤ ms ∧ wX1_init (fun (σ_22 : gH) => c_P σ_22 [0] x0 18 (va_rf (some q_21)) (fun σ_25 => t_b 0 ∧ c_P σ_25 [0] x0 12 (.int 0) (fun σ_26 => (((((0 + 1) + 1) + c_11) + 1) + c_23) + 1 ≤ mc ∧ (((((0 + 4) + 13) + b_12) + 2) + b_24) + 1 ≤ ms ∧ c_new σ_26 (.inr (2, [.null])) (fun q_28 σ_27 => ∃ c_30 b_31 : Nat, ((((((0 + 1) + 1) + c_11) + 1) + c_23) + 1) + c_30 ≤ mc ∧ ((((((0 + 4) + 13) + b_12) + 2) + b_24) + 1) + b_31 ≤ ms ∧ wX2_init (fun (σ_29 : gH) => c_P σ_29 [0] x0 20 (va_rf (some q_28)) (fun σ_32 => ∃ fs_34 : List Value, σ_32.2 q_7 = some (.inr (7, fs_34)) ∧ (wX7_best (fun (v_33 : Int32) => c_P σ_32 [0] x0 16 (.int (-4)) (fun σ_35 => (v_33 = (-4) → (Q (-4) σ_35)) ∧ (¬ v_33 = (-4) → (c_R σ_35 [7] q_7 10 (fun r_36 => c_I σ_35 [0] x0 6 (fun v_37 => ∃ a_38 : Nat, r_36 = some a_38 ∧ (c_aR 5 σ_35 a_38 v_37 (fun r_39 => c_R σ_35 [7] q_7 3 (fun r_40 => ∃ a_41 : Nat, r_40 = some a_41 ∧ (c_aI σ_35 a_41 0 (fun v_42 => ∃ a_43 : Nat, r_39 = some a_43 ∧ (c_aR 4 σ_35 a_43 v_42 (fun r_44 => c_R σ_35 [7] q_7 3 (fun r_45 => ∃ a_46 : Nat, r_45 = some a_46 ∧ (c_aI σ_35 a_46 v_33 (fun v_47 => ∃ a_48 : Nat, r_44 = some a_48 ∧ (c_aJ σ_35 a_48 v_47 (fun v_49 => c_R σ_35 [7] q_7 8 (fun r_50 => ∃ a_51 : Nat, r_50 = some a_51 ∧ (c_aR 4 σ_35 a_51 v_33 (fun r_52 => c_R σ_35 [0] x0 11 (fun r_53 => ∃ a_54 : Nat, r_53 = some a_54 ∧ (c_len σ_35 a_54 (fun v_55 => ∃ a_56 : Nat, r_52 = some a_56 ∧ (c_aJ σ_35 a_56 v_55 (fun v_57 => c_P σ_35 [0] x0 16 (.int (((v_49 / 16777216) + v_57).toInt32)) (fun σ_58 => (100 < v_49 - v_49 / 16777216 * 16777216 → (wX0_reads_240 Q mc ms (((((((0 + 1) + 1) + c_11) + 1) + c_23) + 1) + c_30) (((((((0 + 4) + 13) + b_12) + 2) + b_24) + 1) + b_31) x0 σ_58)) ∧ (¬ 100 < v_49 - v_49 / 16777216 * 16777216 → ((((((((0 + 1) + 1) + c_11) + 1) + c_23) + 1) + c_30) + 1 ≤ mc ∧ (((((((0 + 4) + 13) + b_12) + 2) + b_24) + 1) + b_31) + 2 ≤ ms ∧ c_new σ_58 (.inr (16, [.null, .null])) (fun q_61 σ_60 => wX16_init (fun (σ_62 : gH) => c_I σ_62 [0] x0 6 (fun v_63 => c_R σ_62 [7] q_7 3 (fun r_64 => ∃ a_65 : Nat, r_64 = some a_65 ∧ (c_aI σ_62 a_65 0 (fun v_66 => c_R σ_62 [7] q_7 3 (fun r_67 => ∃ a_68 : Nat, r_67 = some a_68 ∧ (c_aI σ_62 a_68 v_33 (fun v_69 => ∃ fs_73 : List Value, σ_62.2 q_61 = some (.inr (16, fs_73)) ∧ ∃ c_71 b_72 : Nat, ((((((((0 + 1) + 1) + c_11) + 1) + c_23) + 1) + c_30) + 1) + c_71 ≤ mc ∧ ((((((((0 + 4) + 13) + b_12) + 2) + b_24) + 1) + b_31) + 2) + b_72 ≤ ms ∧ (wX16_grow (fun (σ_70 : gH) => c_R σ_70 [0] x0 11 (fun r_74 => ∃ a_75 : Nat, r_74 = some a_75 ∧ (c_len σ_70 a_75 (fun v_76 => ∃ fs_80 : List Value, σ_70.2 q_61 = some (.inr (16, fs_80)) ∧ ∃ c_78 b_79 : Nat, (((((((((0 + 1) + 1) + c_11) + 1) + c_23) + 1) + c_30) + 1) + c_71) + c_78 ≤ mc ∧ (((((((((0 + 4) + 13) + b_12) + 2) + b_24) + 1) + b_31) + 2) + b_72) + b_79 ≤ ms ∧ (wX16_skip (fun (σ_77 : gH) => ∃ fs_85 : List Value, σ_77.2 x0 = some (.inr (0, fs_85)) ∧ ∃ c_83 b_84 : Nat, ((((((((((0 + 1) + 1) + c_11) + 1) + c_23) + 1) + c_30) + 1) + c_71) + c_78) + c_83 ≤ mc ∧ ((((((((((0 + 4) + 13) + b_12) + 2) + b_24) + 1) + b_31) + 2) + b_72) + b_79) + b_84 ≤ ms ∧ (wX0_slipRows (fun (r_82 : Option Nat) (σ_81 : gH) => c_P σ_81 [0] x0 20 (va_rf r_82) (fun σ_86 => wX0_reads_240 Q mc ms (((((((((((0 + 1) + 1) + c_11) + 1) + c_23) + 1) + c_30) + 1) + c_71) + c_78) + c_83) (((((((((((0 + 4) + 13) + b_12) + 2) + b_24) + 1) + b_31) + 2) + b_72) + b_79) + b_84) x0 σ_86)) c_83 b_84 x0 (some q_7) σ_77)) c_78 b_79 q_61 v_33 v_76 σ_70))))) c_71 b_72 q_61 v_63 v_66 v_69 (-4) σ_62))))))))) q_61 (some x0) (some q_7) σ_60)))))))))))))))))))))))))))))) σ_32 q_7))) c_30 b_31 q_28 σ_27)))) c_23 b_24 q_21 σ_20))) a_16 σ_13)))) q_7 σ_10)) c_11 b_12 q_7 (some x0) r_8 r_9 σ_6))))) q_3 x1 x2 x3 none σ_2))))
set_option maxHeartbeats 4000000 in
theorem hX0_reads_240 {Q : Int32 → gH → Prop} {mc ms : Nat}  (uc : Nat) (us : Nat) (x0 : Nat) (σ : gH) (hu1 : uc ≤ mc) (hu2 : us ≤ ms) (w : wX0_reads_240 Q mc ms uc us x0 σ) : E mX0_reads 112 mc ms (g_z (c_Ki Q)) uc us 240 [(0, .ref x0)] [] σ := by
  unfold wX0_reads_240 at w
  refine e_aload_n (n := 241) dX0_reads_240 rfl 0 rfl ?_
  refine e_cI (n := 244) w fw_X0_price (gl_o q202) dX0_reads_241 rfl (fun v_59 w => ?_)
  exact e_iret rfl hu1 hu2 ⟨_, rfl, w⟩ dX0_reads_244
set_option maxHeartbeats 4000000 in
theorem ctX0_reads {Q : Int32 → gH → Prop} {mc ms : Nat} {x0 : Nat} {x1 : Int32} {x2 : Int32} {x3 : Int32} {σ : gH} (w : wX0_reads Q mc ms x0 x1 x2 x3 σ) : CT mX0_reads 112 mc ms [.ref x0, .int x1, .int x2, .int x3] σ (c_Ki Q) := by
  refine CT.of (lv := [(0, .ref x0), (1, .int x1), (2, .int x2), (3, .int x3)]) okX0_reads.1 rfl rfl ?_
  unfold wX0_reads at w
  refine e_aload_n (n := 1) dX0_reads_0 rfl 0 rfl ?_
  refine e_cI (n := 4) w fw_X0_names (gl_o q182) dX0_reads_1 rfl (fun v_1 w => ?_)
  refine e_if_ne (n := 7) (tgt := 10) dX0_reads_4 rfl (by decide) (fun h => ?_) (fun h => ?_)
  · have w := w.2 h
    refine e_aload_n (n := 11) dX0_reads_10 rfl 0 rfl ?_
    obtain ⟨hu1, hu2, w⟩ := w
    refine e_cnew (n := 14) w tyX6 tyX6_ok in_X6 rfl q494 q495 q72 (fun j hj => g_defX6 j hj) hu1 hu2 dX0_reads_11 rfl (fun q_3 σ_2 w => ?_)
    refine e_dup (n := 15) dX0_reads_14 rfl rfl ?_
    refine e_iload_n (n := 16) dX0_reads_15 rfl 1 rfl ?_
    refine e_iload_n (n := 17) dX0_reads_16 rfl 2 rfl ?_
    refine e_iload_n (n := 18) dX0_reads_17 rfl 3 rfl ?_
    refine e_null (n := 19) dX0_reads_18 rfl ?_
    refine e_callI (n := 22) (As := [.int x1, .int x2, .int x3, va_rf none]) (st := [.ref q_3, .ref x0]) okX6_init rfl rfl q496 q497 q72 q498 (by decide) hu1 hu2 rfl rfl (Nat.le_of_ble_eq_true rfl) dX0_reads_19 rfl (ctX6_init w) (fun r9 σ_4 hk => ?_)
    obtain ⟨rfl, w⟩ := hk
    refine e_cP (n := 25) (ty := (.object "MendReader$Way")) w tyX0 tyX0_ok nmX0 in_X0 rfl rfl (gl_o q203) rfl rfl (rf_nar _ (some q_3)) dX0_reads_22 rfl (fun σ_5 w => ?_)
    obtain ⟨hu1, hu2, w⟩ := w
    refine e_cnew (n := 28) w tyX7 tyX7_ok in_X7 rfl q516 q517 q73 (fun j hj => g_defX7 j hj) hu1 hu2 dX0_reads_25 rfl (fun q_7 σ_6 w => ?_)
    refine e_dup (n := 29) dX0_reads_28 rfl rfl ?_
    refine e_aload_n (n := 30) dX0_reads_29 rfl 0 rfl ?_
    refine e_aload_n (n := 31) dX0_reads_30 rfl 0 rfl ?_
    refine e_cR (n := 34) w fw_X0_text (gl_o q194) dX0_reads_31 rfl (fun r_8 w => ?_)
    refine e_aload_n (n := 35) dX0_reads_34 rfl 0 rfl ?_
    refine e_cR (n := 38) w fw_X0_way (gl_o q203) dX0_reads_35 rfl (fun r_9 w => ?_)
    obtain ⟨c_11, b_12, hu1, hu2, w⟩ := w
    refine e_callI (n := 41) (As := [va_rf (some x0), va_rf r_8, va_rf r_9]) (st := [.ref q_7]) okX7_init rfl rfl q518 q519 q73 q520 (by decide) hu1 hu2 rfl rfl (Nat.le_of_ble_eq_true rfl) dX0_reads_38 rfl (ctX7_init w) (fun r9 σ_10 hk => ?_)
    obtain ⟨rfl, w⟩ := hk
    refine e_astore (n := 43) (lv' := [(0, .ref x0), (1, .int x1), (2, .int x2), (3, .int x3), (4, .ref q_7)]) [1, 2, 3, 4, 0] dX0_reads_41 rfl rfl rfl ?_
    refine e_aload (n := 45) dX0_reads_43 rfl 4 rfl ?_
    obtain ⟨fs_14, wo, w⟩ := w
    refine e_callV (n := 48) (As := []) (st := []) okX7_fill q975 q976 q977 q73 q978 rfl wo rfl (by decide) hu1 hu2 rfl rfl (Nat.le_of_ble_eq_true rfl) dX0_reads_45 rfl (ctX7_fill w) (fun r9 σ_13 hk => ?_)
    obtain ⟨rfl, w⟩ := hk
    refine e_aload_n (n := 49) dX0_reads_48 rfl 0 rfl ?_
    refine e_cR (n := 52) w fw_X0_slips (gl_o q207) dX0_reads_49 rfl (fun r_15 w => ?_)
    obtain ⟨a_16, ha_16, w9a_16⟩ := w
    subst ha_16
    have w := w9a_16
    obtain ⟨fs_18, wo, w⟩ := w
    refine e_callF (n := 57) (As := []) (st := []) okJ2_clear q994 q997 q999 q60 q1001 q996 q995 q1000 q998 q286 rfl (by decide) wo rfl (by decide) hu1 hu2 rfl rfl rfl dX0_reads_52 rfl (ctJ2_clear w) (fun r9 σ_17 hk => ?_)
    obtain ⟨rfl, w⟩ := hk
    refine e_aload_n (n := 58) dX0_reads_57 rfl 0 rfl ?_
    refine e_iconst (n := 59) (v := 0) dX0_reads_58 rfl (by decide) ?_
    refine e_cP (n := 62) (ty := .int) w tyX0 tyX0_ok nmX0 in_X0 rfl rfl (gl_o q212) rfl rfl ⟨rfl, rfl⟩ dX0_reads_59 rfl (fun σ_19 w => ?_)
    refine e_aload_n (n := 63) dX0_reads_62 rfl 0 rfl ?_
    obtain ⟨hu1, hu2, w⟩ := w
    refine e_cnew (n := 66) w tyX1 tyX1_ok in_X1 rfl q134 q135 q61 (fun j hj => g_defX1 j hj) hu1 hu2 dX0_reads_63 rfl (fun q_21 σ_20 w => ?_)
    refine e_dup (n := 67) dX0_reads_66 rfl rfl ?_
    obtain ⟨c_23, b_24, hu1, hu2, w⟩ := w
    refine e_callIN (n := 70) (As := []) (st := [.ref q_21, .ref x0]) okX1_init rfl rfl q136 q137 q61 q138 (by decide) hu1 hu2 rfl rfl rfl dX0_reads_67 rfl (ctX1_init w) (fun r9 σ_22 hk => ?_)
    obtain ⟨rfl, w⟩ := hk
    refine e_cP (n := 73) (ty := (.object "MendReader$Tree")) w tyX0 tyX0_ok nmX0 in_X0 rfl rfl (gl_o q204) rfl rfl (rf_nar _ (some q_21)) dX0_reads_70 rfl (fun σ_25 w => ?_)
    refine e_aload_n (n := 74) dX0_reads_73 rfl 0 rfl ?_
    refine e_iconst (n := 75) (v := 0) dX0_reads_74 rfl (by decide) ?_
    obtain ⟨wb, w⟩ := w
    refine e_cP (n := 78) (ty := .boolean) w tyX0 tyX0_ok nmX0 in_X0 rfl rfl (gl_o q195) rfl rfl ⟨wb.nar, wb.fit⟩ dX0_reads_75 rfl (fun σ_26 w => ?_)
    refine e_aload_n (n := 79) dX0_reads_78 rfl 0 rfl ?_
    obtain ⟨hu1, hu2, w⟩ := w
    refine e_cnew (n := 82) w tyX2 tyX2_ok in_X2 rfl q153 q154 q62 (fun j hj => g_defX2 j hj) hu1 hu2 dX0_reads_79 rfl (fun q_28 σ_27 w => ?_)
    refine e_dup (n := 83) dX0_reads_82 rfl rfl ?_
    obtain ⟨c_30, b_31, hu1, hu2, w⟩ := w
    refine e_callIN (n := 86) (As := []) (st := [.ref q_28, .ref x0]) okX2_init rfl rfl q155 q156 q62 q157 (by decide) hu1 hu2 rfl rfl rfl dX0_reads_83 rfl (ctX2_init w) (fun r9 σ_29 hk => ?_)
    obtain ⟨rfl, w⟩ := hk
    refine e_cP (n := 89) (ty := (.object "MendReader$Slips")) w tyX0 tyX0_ok nmX0 in_X0 rfl rfl (gl_o q208) rfl rfl (rf_nar _ (some q_28)) dX0_reads_86 rfl (fun σ_32 w => ?_)
    refine e_aload (n := 91) dX0_reads_89 rfl 4 rfl ?_
    obtain ⟨fs_34, wo, w⟩ := w
    refine e_callV (n := 94) (As := []) (st := []) okX7_best q1002 q1003 q1004 q73 q1005 rfl wo rfl (by decide) hu1 hu2 rfl rfl (Nat.le_of_ble_eq_true rfl) dX0_reads_91 rfl (ctX7_best w) (fun r9 σ9 hk => ?_)
    obtain ⟨v_33, rfl, hs9, w⟩ := hk
    rw [hs9]
    refine e_istore (n := 96) (lv' := [(0, .ref x0), (1, .int x1), (2, .int x2), (3, .int x3), (4, .ref q_7), (5, .int v_33)]) [1, 2, 3, 4, 5, 0] dX0_reads_94 rfl rfl rfl ?_
    refine e_aload_n (n := 97) dX0_reads_96 rfl 0 rfl ?_
    refine e_bipush (n := 99) (v := (-4)) dX0_reads_97 rfl (by decide) ?_
    refine e_cP (n := 102) (ty := .int) w tyX0 tyX0_ok nmX0 in_X0 rfl rfl (gl_o q202) rfl rfl ⟨rfl, rfl⟩ dX0_reads_99 rfl (fun σ_35 w => ?_)
    refine e_iload (n := 104) dX0_reads_102 rfl 5 rfl ?_
    refine e_bipush (n := 106) (v := (-4)) dX0_reads_104 rfl (by decide) ?_
    refine e_icmp_ne (n := 109) (tgt := 112) dX0_reads_106 rfl (by decide) (fun h => ?_) (fun h => ?_)
    · have w := w.2 h
      refine e_aload (n := 114) dX0_reads_112 rfl 4 rfl ?_
      refine e_cR (n := 117) w fw_X7_tree (gl_n q945) dX0_reads_114 rfl (fun r_36 w => ?_)
      refine e_aload_n (n := 118) dX0_reads_117 rfl 0 rfl ?_
      refine e_cI (n := 121) w fw_X0_start (gl_o q184) dX0_reads_118 rfl (fun v_37 w => ?_)
      obtain ⟨a_38, ha_38, w9a_38⟩ := w
      subst ha_38
      have w := w9a_38
      refine e_caR (n := 122) w (fun _ => rfl) rfl dX0_reads_121 rfl (fun r_39 w => ?_)
      refine e_aload (n := 124) dX0_reads_122 rfl 4 rfl ?_
      refine e_cR (n := 127) w fw_X7_knot (gl_n q929) dX0_reads_124 rfl (fun r_40 w => ?_)
      refine e_iconst (n := 128) (v := 0) dX0_reads_127 rfl (by decide) ?_
      obtain ⟨a_41, ha_41, w9a_41⟩ := w
      subst ha_41
      have w := w9a_41
      refine e_caI (n := 129) w dX0_reads_128 rfl (fun v_42 w => ?_)
      obtain ⟨a_43, ha_43, w9a_43⟩ := w
      subst ha_43
      have w := w9a_43
      refine e_caR (n := 130) w (fun _ => rfl) rfl dX0_reads_129 rfl (fun r_44 w => ?_)
      refine e_aload (n := 132) dX0_reads_130 rfl 4 rfl ?_
      refine e_cR (n := 135) w fw_X7_knot (gl_n q929) dX0_reads_132 rfl (fun r_45 w => ?_)
      refine e_iload (n := 137) dX0_reads_135 rfl 5 rfl ?_
      obtain ⟨a_46, ha_46, w9a_46⟩ := w
      subst ha_46
      have w := w9a_46
      refine e_caI (n := 138) w dX0_reads_137 rfl (fun v_47 w => ?_)
      obtain ⟨a_48, ha_48, w9a_48⟩ := w
      subst ha_48
      have w := w9a_48
      refine e_caJ (n := 139) w dX0_reads_138 rfl (fun v_49 w => ?_)
      refine e_lstore (n := 141) (lv' := [(0, .ref x0), (1, .int x1), (2, .int x2), (3, .int x3), (4, .ref q_7), (5, .int v_33), (6, .long v_49)]) [1, 2, 3, 4, 5, 6, 0] dX0_reads_139 rfl rfl rfl ?_
      refine e_aload_n (n := 142) dX0_reads_141 rfl 0 rfl ?_
      refine e_lload (n := 144) dX0_reads_142 rfl 6 rfl ?_
      refine e_ldc2 (n := 147) q1006 dX0_reads_144 rfl ?_
      refine e_ldiv (n := 148) (by decide) dX0_reads_147 rfl ?_
      refine e_aload (n := 150) dX0_reads_148 rfl 4 rfl ?_
      refine e_cR (n := 153) w fw_X7_skipping (gl_n q940) dX0_reads_150 rfl (fun r_50 w => ?_)
      refine e_iload (n := 155) dX0_reads_153 rfl 5 rfl ?_
      obtain ⟨a_51, ha_51, w9a_51⟩ := w
      subst ha_51
      have w := w9a_51
      refine e_caR (n := 156) w (fun _ => rfl) rfl dX0_reads_155 rfl (fun r_52 w => ?_)
      refine e_aload_n (n := 157) dX0_reads_156 rfl 0 rfl ?_
      refine e_cR (n := 160) w fw_X0_text (gl_o q194) dX0_reads_157 rfl (fun r_53 w => ?_)
      obtain ⟨a_54, ha_54, w9a_54⟩ := w
      subst ha_54
      have w := w9a_54
      refine e_clen (n := 161) w dX0_reads_160 rfl (fun v_55 w => ?_)
      obtain ⟨a_56, ha_56, w9a_56⟩ := w
      subst ha_56
      have w := w9a_56
      refine e_caJ (n := 162) w dX0_reads_161 rfl (fun v_57 w => ?_)
      refine e_ladd (n := 163) dX0_reads_162 rfl ?_
      refine e_l2i (n := 164) dX0_reads_163 rfl ?_
      refine e_cP (n := 167) (ty := .int) w tyX0 tyX0_ok nmX0 in_X0 rfl rfl (gl_o q202) rfl rfl ⟨rfl, rfl⟩ dX0_reads_164 rfl (fun σ_58 w => ?_)
      refine e_lload (n := 169) dX0_reads_167 rfl 6 rfl ?_
      refine e_ldc2 (n := 172) q1006 dX0_reads_169 rfl ?_
      refine e_lrem (n := 173) (by decide) dX0_reads_172 rfl ?_
      refine e_ldc2 (n := 176) q436 dX0_reads_173 rfl ?_
      refine e_lcmp_gt (n := 180) (tgt := 240) dX0_reads_176 dX0_reads_177 rfl (by decide) (fun h => ?_) (fun h => ?_)
      · have w := w.1 h
        refine e_sub (lv' := [(0, .ref x0)]) [0] rfl ?_
        exact hX0_reads_240 _ _ _ _ hu1 hu2 w
      · have w := w.2 h
        obtain ⟨hu1, hu2, w⟩ := w
        refine e_cnew (n := 183) w tyX16 tyX16_ok in_X16 rfl q1007 q1008 q82 (fun j hj => g_defX16 j hj) hu1 hu2 dX0_reads_180 rfl (fun q_61 σ_60 w => ?_)
        refine e_dup (n := 184) dX0_reads_183 rfl rfl ?_
        refine e_aload_n (n := 185) dX0_reads_184 rfl 0 rfl ?_
        refine e_aload (n := 187) dX0_reads_185 rfl 4 rfl ?_
        refine e_callI (n := 190) (As := [va_rf (some x0), va_rf (some q_7)]) (st := [.ref q_61]) okX16_init rfl rfl q1009 q1010 q82 q1011 (by decide) hu1 hu2 rfl rfl (Nat.le_of_ble_eq_true rfl) dX0_reads_187 rfl (ctX16_init w) (fun r9 σ_62 hk => ?_)
        obtain ⟨rfl, w⟩ := hk
        refine e_astore (n := 192) (lv' := [(0, .ref x0), (1, .int x1), (2, .int x2), (3, .int x3), (4, .ref q_7), (5, .int v_33), (6, .long v_49), (8, .ref q_61)]) [1, 2, 3, 4, 5, 6, 7, 0] dX0_reads_190 rfl rfl rfl ?_
        refine e_aload (n := 194) dX0_reads_192 rfl 7 rfl ?_
        refine e_aload_n (n := 195) dX0_reads_194 rfl 0 rfl ?_
        refine e_cI (n := 198) w fw_X0_start (gl_o q184) dX0_reads_195 rfl (fun v_63 w => ?_)
        refine e_aload (n := 200) dX0_reads_198 rfl 4 rfl ?_
        refine e_cR (n := 203) w fw_X7_knot (gl_n q929) dX0_reads_200 rfl (fun r_64 w => ?_)
        refine e_iconst (n := 204) (v := 0) dX0_reads_203 rfl (by decide) ?_
        obtain ⟨a_65, ha_65, w9a_65⟩ := w
        subst ha_65
        have w := w9a_65
        refine e_caI (n := 205) w dX0_reads_204 rfl (fun v_66 w => ?_)
        refine e_aload (n := 207) dX0_reads_205 rfl 4 rfl ?_
        refine e_cR (n := 210) w fw_X7_knot (gl_n q929) dX0_reads_207 rfl (fun r_67 w => ?_)
        refine e_iload (n := 212) dX0_reads_210 rfl 5 rfl ?_
        obtain ⟨a_68, ha_68, w9a_68⟩ := w
        subst ha_68
        have w := w9a_68
        refine e_caI (n := 213) w dX0_reads_212 rfl (fun v_69 w => ?_)
        refine e_bipush (n := 215) (v := (-4)) dX0_reads_213 rfl (by decide) ?_
        obtain ⟨fs_73, wo, w⟩ := w
        obtain ⟨c_71, b_72, hu1, hu2, w⟩ := w
        refine e_callV (n := 218) (As := [.int v_63, .int v_66, .int v_69, .int (-4)]) (st := []) okX16_grow q1020 q1021 q1022 q82 q1023 rfl wo rfl (by decide) hu1 hu2 rfl rfl (Nat.le_of_ble_eq_true rfl) dX0_reads_215 rfl (ctX16_grow (d := 111) (by decide) w) (fun r9 σ_70 hk => ?_)
        obtain ⟨rfl, w⟩ := hk
        refine e_aload (n := 220) dX0_reads_218 rfl 7 rfl ?_
        refine e_iload (n := 222) dX0_reads_220 rfl 5 rfl ?_
        refine e_aload_n (n := 223) dX0_reads_222 rfl 0 rfl ?_
        refine e_cR (n := 226) w fw_X0_text (gl_o q194) dX0_reads_223 rfl (fun r_74 w => ?_)
        obtain ⟨a_75, ha_75, w9a_75⟩ := w
        subst ha_75
        have w := w9a_75
        refine e_clen (n := 227) w dX0_reads_226 rfl (fun v_76 w => ?_)
        obtain ⟨fs_80, wo, w⟩ := w
        obtain ⟨c_78, b_79, hu1, hu2, w⟩ := w
        refine e_callV (n := 230) (As := [.int v_33, .int v_76]) (st := []) okX16_skip q1065 q1058 q1059 q82 q1060 rfl wo rfl (by decide) hu1 hu2 rfl rfl (Nat.le_of_ble_eq_true rfl) dX0_reads_227 rfl (ctX16_skip w) (fun r9 σ_77 hk => ?_)
        obtain ⟨rfl, w⟩ := hk
        refine e_aload_n (n := 231) dX0_reads_230 rfl 0 rfl ?_
        refine e_aload_n (n := 232) dX0_reads_231 rfl 0 rfl ?_
        refine e_aload (n := 234) dX0_reads_232 rfl 4 rfl ?_
        obtain ⟨fs_85, wo, w⟩ := w
        obtain ⟨c_83, b_84, hu1, hu2, w⟩ := w
        refine e_callV (n := 237) (As := [va_rf (some q_7)]) (st := [.ref x0]) okX0_slipRows q1066 q1068 qs19 q57 q1069 rfl wo rfl (by decide) hu1 hu2 rfl rfl (Nat.le_of_ble_eq_true rfl) dX0_reads_234 rfl (ctX0_slipRows w) (fun r9 σ_81 hk => ?_)
        obtain ⟨r_82, rfl, w⟩ := hk
        refine e_cP (n := 240) (ty := (.object "MendReader$Slips")) w tyX0 tyX0_ok nmX0 in_X0 rfl rfl (gl_o q208) rfl rfl (rf_nar _ r_82) dX0_reads_237 rfl (fun σ_86 w => ?_)
        refine e_sub (lv' := [(0, .ref x0)]) [0] rfl ?_
        exact hX0_reads_240 _ _ _ _ hu1 hu2 w
    · have w := w.1 h
      refine e_bipush (n := 111) (v := (-4)) dX0_reads_109 rfl (by decide) ?_
      exact e_iret rfl hu1 hu2 ⟨_, rfl, w⟩ dX0_reads_111
  · have w := w.1 h
    refine e_bipush (n := 9) (v := (-3)) dX0_reads_7 rfl (by decide) ?_
    exact e_iret rfl (Nat.zero_le _) (Nat.zero_le _) ⟨_, rfl, w⟩ dX0_reads_9
abbrev mX0_read : gM := (yX0_read, cX0_read, 1, some .int)
theorem okX0_read : g_ok mX0_read 0 := ⟨by decide +kernel, by decide +kernel, by decide +kernel, by decide +kernel, by decide⟩
def wX0_read (Q : Int32 → gH → Prop) (mc ms : Nat) (x0 : Nat) (σ : gH) : Prop := ∃ fs_5 : List Value, σ.2 x0 = some (.inr (0, fs_5)) ∧ ∃ c_3 b_4 : Nat, 0 + c_3 ≤ mc ∧ 0 + b_4 ≤ ms ∧ (wX0_reads (fun (v_2 : Int32) (σ_1 : gH) => Q v_2 σ_1) c_3 b_4 x0 0 0 0 σ)
set_option maxHeartbeats 4000000 in
theorem ctX0_read {Q : Int32 → gH → Prop} {mc ms : Nat} {x0 : Nat} {σ : gH} (w : wX0_read Q mc ms x0 σ) : CT mX0_read 113 mc ms [.ref x0] σ (c_Ki Q) := by
  refine CT.of (lv := [(0, .ref x0)]) okX0_read.1 rfl rfl ?_
  unfold wX0_read at w
  refine e_aload_n (n := 1) dX0_read_0 rfl 0 rfl ?_
  refine e_iconst (n := 2) (v := 0) dX0_read_1 rfl (by decide) ?_
  refine e_iconst (n := 3) (v := 0) dX0_read_2 rfl (by decide) ?_
  refine e_iconst (n := 4) (v := 0) dX0_read_3 rfl (by decide) ?_
  obtain ⟨fs_5, wo, w⟩ := w
  obtain ⟨c_3, b_4, hu1, hu2, w⟩ := w
  refine e_callV (n := 7) (As := [.int 0, .int 0, .int 0]) (st := []) okX0_reads q490 q492 qs5 q57 q493 rfl wo rfl (by decide) hu1 hu2 rfl rfl (Nat.le_of_ble_eq_true rfl) dX0_read_4 rfl (ctX0_reads w) (fun r9 σ_1 hk => ?_)
  obtain ⟨v_2, rfl, w⟩ := hk
  exact e_iret rfl hu1 hu2 ⟨_, rfl, w⟩ dX0_read_7
abbrev mX0_only : gM := (yX0_only, cX0_only, 3, some .int)
theorem okX0_only : g_ok mX0_only 2 := ⟨by decide +kernel, by decide +kernel, by decide +kernel, by decide +kernel, by decide⟩
def wX0_only (Q : Int32 → gH → Prop) (mc ms : Nat) (x0 : Nat) (x1 : Int32) (x2 : Int32) (σ : gH) : Prop := wX0_in (fun (v_1 : Int32) => (v_1 = 0 → (Q (-1) σ)) ∧ (¬ v_1 = 0 → (c_R σ [0] x0 11 (fun r_2 => ∃ a_3 : Nat, r_2 = some a_3 ∧ (c_len σ a_3 (fun v_4 => (v_4 < x2 → (Q (-1) σ)) ∧ (¬ v_4 < x2 → (∃ fs_9 : List Value, σ.2 x0 = some (.inr (0, fs_9)) ∧ ∃ c_7 b_8 : Nat, 0 + c_7 ≤ mc ∧ 0 + b_8 ≤ ms ∧ (wX0_reads (fun (v_6 : Int32) (σ_5 : gH) => Q v_6 σ_5) c_7 b_8 x0 1 x1 x2 σ))))))))) σ x1.toInt64 0 x2.toInt64
set_option maxHeartbeats 4000000 in
theorem ctX0_only {Q : Int32 → gH → Prop} {mc ms : Nat} {x0 : Nat} {x1 : Int32} {x2 : Int32} {σ : gH} (w : wX0_only Q mc ms x0 x1 x2 σ) : CT mX0_only 113 mc ms [.ref x0, .int x1, .int x2] σ (c_Ki Q) := by
  refine CT.of (lv := [(0, .ref x0), (1, .int x1), (2, .int x2)]) okX0_only.1 rfl rfl ?_
  unfold wX0_only at w
  refine e_iload_n (n := 1) dX0_only_0 rfl 1 rfl ?_
  refine e_i2l (n := 2) dX0_only_1 rfl ?_
  refine e_lconst (n := 3) (v := 0) dX0_only_2 rfl (by decide) ?_
  refine e_iload_n (n := 4) dX0_only_3 rfl 2 rfl ?_
  refine e_i2l (n := 5) dX0_only_4 rfl ?_
  refine e_callS (n := 8) (As := [.long x1.toInt64, .long 0, .long x2.toInt64]) (st := []) okX0_in q279 q280 q57 q281 (by decide) (Nat.zero_le _) (Nat.zero_le _) rfl rfl (Nat.le_of_ble_eq_true rfl) dX0_only_5 rfl (ctX0_in w) (fun r9 σ9 hk => ?_)
  obtain ⟨v_1, rfl, hs9, w⟩ := hk
  rw [hs9]
  refine e_if_eq (n := 11) (tgt := 30) dX0_only_8 rfl (by decide) (fun h => ?_) (fun h => ?_)
  · have w := w.1 h
    refine e_iconst (n := 31) (v := (-1)) dX0_only_30 rfl (by decide) ?_
    exact e_iret rfl (Nat.zero_le _) (Nat.zero_le _) ⟨_, rfl, w⟩ dX0_only_31
  · have w := w.2 h
    refine e_iload_n (n := 12) dX0_only_11 rfl 2 rfl ?_
    refine e_aload_n (n := 13) dX0_only_12 rfl 0 rfl ?_
    refine e_cR (n := 16) w fw_X0_text (gl_o q194) dX0_only_13 rfl (fun r_2 w => ?_)
    obtain ⟨a_3, ha_3, w9a_3⟩ := w
    subst ha_3
    have w := w9a_3
    refine e_clen (n := 17) w dX0_only_16 rfl (fun v_4 w => ?_)
    refine e_icmp_gt (n := 20) (tgt := 30) dX0_only_17 rfl (by decide) (fun h => ?_) (fun h => ?_)
    · have w := w.1 h
      refine e_iconst (n := 31) (v := (-1)) dX0_only_30 rfl (by decide) ?_
      exact e_iret rfl (Nat.zero_le _) (Nat.zero_le _) ⟨_, rfl, w⟩ dX0_only_31
    · have w := w.2 h
      refine e_aload_n (n := 21) dX0_only_20 rfl 0 rfl ?_
      refine e_iconst (n := 22) (v := 1) dX0_only_21 rfl (by decide) ?_
      refine e_iload_n (n := 23) dX0_only_22 rfl 1 rfl ?_
      refine e_iload_n (n := 24) dX0_only_23 rfl 2 rfl ?_
      obtain ⟨fs_9, wo, w⟩ := w
      obtain ⟨c_7, b_8, hu1, hu2, w⟩ := w
      refine e_callV (n := 27) (As := [.int 1, .int x1, .int x2]) (st := []) okX0_reads q490 q492 qs5 q57 q493 rfl wo rfl (by decide) hu1 hu2 rfl rfl (Nat.le_of_ble_eq_true rfl) dX0_only_24 rfl (ctX0_reads w) (fun r9 σ_5 hk => ?_)
      obtain ⟨v_6, rfl, w⟩ := hk
      refine e_goto (n := 31) dX0_only_27 (by decide) ?_
      exact e_iret rfl hu1 hu2 ⟨_, rfl, w⟩ dX0_only_31
abbrev mX0_complete : gM := (yX0_complete, cX0_complete, 1, some .int)
theorem okX0_complete : g_ok mX0_complete 0 := ⟨by decide +kernel, by decide +kernel, by decide +kernel, by decide +kernel, by decide⟩
def wX0_complete (Q : Int32 → gH → Prop) (mc ms : Nat) (x0 : Nat) (σ : gH) : Prop := ∃ fs_5 : List Value, σ.2 x0 = some (.inr (0, fs_5)) ∧ ∃ c_3 b_4 : Nat, 0 + c_3 ≤ mc ∧ 0 + b_4 ≤ ms ∧ (wX0_reads (fun (v_2 : Int32) (σ_1 : gH) => Q v_2 σ_1) c_3 b_4 x0 2 0 0 σ)
set_option maxHeartbeats 4000000 in
theorem ctX0_complete {Q : Int32 → gH → Prop} {mc ms : Nat} {x0 : Nat} {σ : gH} (w : wX0_complete Q mc ms x0 σ) : CT mX0_complete 113 mc ms [.ref x0] σ (c_Ki Q) := by
  refine CT.of (lv := [(0, .ref x0)]) okX0_complete.1 rfl rfl ?_
  unfold wX0_complete at w
  refine e_aload_n (n := 1) dX0_complete_0 rfl 0 rfl ?_
  refine e_iconst (n := 2) (v := 2) dX0_complete_1 rfl (by decide) ?_
  refine e_iconst (n := 3) (v := 0) dX0_complete_2 rfl (by decide) ?_
  refine e_iconst (n := 4) (v := 0) dX0_complete_3 rfl (by decide) ?_
  obtain ⟨fs_5, wo, w⟩ := w
  obtain ⟨c_3, b_4, hu1, hu2, w⟩ := w
  refine e_callV (n := 7) (As := [.int 2, .int 0, .int 0]) (st := []) okX0_reads q490 q492 qs5 q57 q493 rfl wo rfl (by decide) hu1 hu2 rfl rfl (Nat.le_of_ble_eq_true rfl) dX0_complete_4 rfl (ctX0_reads w) (fun r9 σ_1 hk => ?_)
  obtain ⟨v_2, rfl, w⟩ := hk
  exact e_iret rfl hu1 hu2 ⟨_, rfl, w⟩ dX0_complete_7
abbrev mX0_begins : gM := (yX0_begins, cX0_begins, 1, some .int)
theorem okX0_begins : g_ok mX0_begins 0 := ⟨by decide +kernel, by decide +kernel, by decide +kernel, by decide +kernel, by decide⟩
def wX0_begins (Q : Int32 → gH → Prop) (mc ms : Nat) (x0 : Nat) (σ : gH) : Prop := ∃ fs_5 : List Value, σ.2 x0 = some (.inr (0, fs_5)) ∧ ∃ c_3 b_4 : Nat, 0 + c_3 ≤ mc ∧ 0 + b_4 ≤ ms ∧ (wX0_reads (fun (v_2 : Int32) (σ_1 : gH) => Q v_2 σ_1) c_3 b_4 x0 3 0 0 σ)
set_option maxHeartbeats 4000000 in
theorem ctX0_begins {Q : Int32 → gH → Prop} {mc ms : Nat} {x0 : Nat} {σ : gH} (w : wX0_begins Q mc ms x0 σ) : CT mX0_begins 113 mc ms [.ref x0] σ (c_Ki Q) := by
  refine CT.of (lv := [(0, .ref x0)]) okX0_begins.1 rfl rfl ?_
  unfold wX0_begins at w
  refine e_aload_n (n := 1) dX0_begins_0 rfl 0 rfl ?_
  refine e_iconst (n := 2) (v := 3) dX0_begins_1 rfl (by decide) ?_
  refine e_iconst (n := 3) (v := 0) dX0_begins_2 rfl (by decide) ?_
  refine e_iconst (n := 4) (v := 0) dX0_begins_3 rfl (by decide) ?_
  obtain ⟨fs_5, wo, w⟩ := w
  obtain ⟨c_3, b_4, hu1, hu2, w⟩ := w
  refine e_callV (n := 7) (As := [.int 3, .int 0, .int 0]) (st := []) okX0_reads q490 q492 qs5 q57 q493 rfl wo rfl (by decide) hu1 hu2 rfl rfl (Nat.le_of_ble_eq_true rfl) dX0_begins_4 rfl (ctX0_reads w) (fun r9 σ_1 hk => ?_)
  obtain ⟨v_2, rfl, w⟩ := hk
  exact e_iret rfl hu1 hu2 ⟨_, rfl, w⟩ dX0_begins_7
abbrev mX0_wanted : gM := (yX0_wanted, cX0_wanted, 3, some .int)
theorem okX0_wanted : g_ok mX0_wanted 1 := ⟨by decide +kernel, by decide +kernel, by decide +kernel, by decide +kernel, by decide⟩
def wX0_wanted (Q : Int32 → gH → Prop) (mc ms : Nat) (x0 : Nat) (x1 : Int32) (σ : gH) : Prop := ∃ fs_2 : List Value, σ.2 x0 = some (.inr (0, fs_2)) ∧ (wX0_isToken (fun (v_1 : Int32) => (v_1 = 0 → (Q (-1) σ)) ∧ (¬ v_1 = 0 → (c_I σ [0] x0 5 (fun v_3 => (v_3 = 0 → (Q (-3) σ)) ∧ (¬ v_3 = 0 → (0 + 1 ≤ mc ∧ 0 + 13 ≤ ms ∧ c_new σ (.inr (7, [.null, .int 0, .null, .null, .null, .int 0, .null, .null, .null, .null, .null, .null, .null])) (fun q_5 σ_4 => c_R σ_4 [0] x0 11 (fun r_6 => c_R σ_4 [0] x0 11 (fun r_7 => ∃ a_8 : Nat, r_7 = some a_8 ∧ (c_len σ_4 a_8 (fun v_9 => ∃ c_12 b_13 : Nat, (0 + 1) + c_12 ≤ mc ∧ (0 + 13) + b_13 ≤ ms ∧ wX0_with (fun (r_11 : Option Nat) (σ_10 : gH) => ((0 + 1) + c_12) + 1 ≤ mc ∧ ((0 + 13) + b_13) + 4 ≤ ms ∧ c_new σ_10 (.inr (6, [.int 0, .int 0, .int 0, .null])) (fun q_15 σ_14 => wX6_init (fun (σ_16 : gH) => ∃ c_18 b_19 : Nat, (((0 + 1) + c_12) + 1) + c_18 ≤ mc ∧ (((0 + 13) + b_13) + 4) + b_19 ≤ ms ∧ wX7_init (fun (σ_17 : gH) => ∃ fs_21 : List Value, σ_17.2 q_5 = some (.inr (7, fs_21)) ∧ (wX7_fill (fun (σ_20 : gH) => ∃ fs_23 : List Value, σ_20.2 q_5 = some (.inr (7, fs_23)) ∧ (wX7_best (fun (v_22 : Int32) => (v_22 = (-4) → (Q 0 σ_20)) ∧ (¬ v_22 = (-4) → (Q 1 σ_20))) σ_20 q_5)) q_5 σ_17)) c_18 b_19 q_5 (some x0) r_11 (some q_15) σ_16) q_15 4 0 0 none σ_14)) c_12 b_13 r_6 v_9 x1 σ_4))))))))))) σ x0 x1)
set_option maxHeartbeats 4000000 in
theorem ctX0_wanted {Q : Int32 → gH → Prop} {mc ms : Nat} {x0 : Nat} {x1 : Int32} {σ : gH} (w : wX0_wanted Q mc ms x0 x1 σ) : CT mX0_wanted 12 mc ms [.ref x0, .int x1] σ (c_Ki Q) := by
  refine CT.of (lv := [(0, .ref x0), (1, .int x1)]) okX0_wanted.1 rfl rfl ?_
  unfold wX0_wanted at w
  refine e_aload_n (n := 1) dX0_wanted_0 rfl 0 rfl ?_
  refine e_iload_n (n := 2) dX0_wanted_1 rfl 1 rfl ?_
  obtain ⟨fs_2, wo, w⟩ := w
  refine e_callV (n := 5) (As := [.int x1]) (st := []) okX0_isToken q404 q406 qs4 q57 q407 rfl wo rfl (by decide) (Nat.zero_le _) (Nat.zero_le _) rfl rfl (Nat.le_of_ble_eq_true rfl) dX0_wanted_2 rfl (ctX0_isToken w) (fun r9 σ9 hk => ?_)
  obtain ⟨v_1, rfl, hs9, w⟩ := hk
  rw [hs9]
  refine e_if_ne (n := 8) (tgt := 10) dX0_wanted_5 rfl (by decide) (fun h => ?_) (fun h => ?_)
  · have w := w.2 h
    refine e_aload_n (n := 11) dX0_wanted_10 rfl 0 rfl ?_
    refine e_cI (n := 14) w fw_X0_names (gl_o q182) dX0_wanted_11 rfl (fun v_3 w => ?_)
    refine e_if_ne (n := 17) (tgt := 20) dX0_wanted_14 rfl (by decide) (fun h => ?_) (fun h => ?_)
    · have w := w.2 h
      obtain ⟨hu1, hu2, w⟩ := w
      refine e_cnew (n := 23) w tyX7 tyX7_ok in_X7 rfl q516 q517 q73 (fun j hj => g_defX7 j hj) hu1 hu2 dX0_wanted_20 rfl (fun q_5 σ_4 w => ?_)
      refine e_dup (n := 24) dX0_wanted_23 rfl rfl ?_
      refine e_aload_n (n := 25) dX0_wanted_24 rfl 0 rfl ?_
      refine e_aload_n (n := 26) dX0_wanted_25 rfl 0 rfl ?_
      refine e_cR (n := 29) w fw_X0_text (gl_o q194) dX0_wanted_26 rfl (fun r_6 w => ?_)
      refine e_aload_n (n := 30) dX0_wanted_29 rfl 0 rfl ?_
      refine e_cR (n := 33) w fw_X0_text (gl_o q194) dX0_wanted_30 rfl (fun r_7 w => ?_)
      obtain ⟨a_8, ha_8, w9a_8⟩ := w
      subst ha_8
      have w := w9a_8
      refine e_clen (n := 34) w dX0_wanted_33 rfl (fun v_9 w => ?_)
      refine e_iload_n (n := 35) dX0_wanted_34 rfl 1 rfl ?_
      obtain ⟨c_12, b_13, hu1, hu2, w⟩ := w
      refine e_callS (n := 38) (As := [va_rf r_6, .int v_9, .int x1]) (st := [.ref x0, .ref q_5, .ref q_5]) okX0_with q474 q475 q57 q476 (by decide) hu1 hu2 rfl rfl (Nat.le_of_ble_eq_true rfl) dX0_wanted_35 rfl (ctX0_with w) (fun r9 σ_10 hk => ?_)
      obtain ⟨r_11, rfl, w⟩ := hk
      obtain ⟨hu1, hu2, w⟩ := w
      refine e_cnew (n := 41) w tyX6 tyX6_ok in_X6 rfl q494 q495 q72 (fun j hj => g_defX6 j hj) hu1 hu2 dX0_wanted_38 rfl (fun q_15 σ_14 w => ?_)
      refine e_dup (n := 42) dX0_wanted_41 rfl rfl ?_
      refine e_iconst (n := 43) (v := 4) dX0_wanted_42 rfl (by decide) ?_
      refine e_iconst (n := 44) (v := 0) dX0_wanted_43 rfl (by decide) ?_
      refine e_iconst (n := 45) (v := 0) dX0_wanted_44 rfl (by decide) ?_
      refine e_null (n := 46) dX0_wanted_45 rfl ?_
      refine e_callI (n := 49) (As := [.int 4, .int 0, .int 0, va_rf none]) (st := [.ref q_15, va_rf r_11, .ref x0, .ref q_5, .ref q_5]) okX6_init rfl rfl q496 q497 q72 q498 (by decide) hu1 hu2 rfl rfl (Nat.le_of_ble_eq_true (by cases r_11 <;> rfl)) dX0_wanted_46 rfl (ctX6_init w) (fun r9 σ_16 hk => ?_)
      obtain ⟨rfl, w⟩ := hk
      obtain ⟨c_18, b_19, hu1, hu2, w⟩ := w
      refine e_callI (n := 52) (As := [va_rf (some x0), va_rf r_11, va_rf (some q_15)]) (st := [.ref q_5]) okX7_init rfl rfl q518 q519 q73 q520 (by decide) hu1 hu2 rfl rfl (Nat.le_of_ble_eq_true rfl) dX0_wanted_49 rfl (ctX7_init w) (fun r9 σ_17 hk => ?_)
      obtain ⟨rfl, w⟩ := hk
      refine e_astore_n (n := 53) (lv' := [(0, .ref x0), (1, .int x1), (2, .ref q_5)]) [1, 2, 0] dX0_wanted_52 rfl rfl rfl ?_
      refine e_aload_n (n := 54) dX0_wanted_53 rfl 2 rfl ?_
      obtain ⟨fs_21, wo, w⟩ := w
      refine e_callV (n := 57) (As := []) (st := []) okX7_fill q975 q976 q977 q73 q978 rfl wo rfl (by decide) hu1 hu2 rfl rfl (Nat.le_of_ble_eq_true rfl) dX0_wanted_54 rfl (ctX7_fill w) (fun r9 σ_20 hk => ?_)
      obtain ⟨rfl, w⟩ := hk
      refine e_aload_n (n := 58) dX0_wanted_57 rfl 2 rfl ?_
      obtain ⟨fs_23, wo, w⟩ := w
      refine e_callV (n := 61) (As := []) (st := []) okX7_best q1002 q1003 q1004 q73 q1005 rfl wo rfl (by decide) hu1 hu2 rfl rfl (Nat.le_of_ble_eq_true rfl) dX0_wanted_58 rfl (ctX7_best w) (fun r9 σ9 hk => ?_)
      obtain ⟨v_22, rfl, hs9, w⟩ := hk
      rw [hs9]
      refine e_bipush (n := 63) (v := (-4)) dX0_wanted_61 rfl (by decide) ?_
      refine e_icmp_ne (n := 66) (tgt := 70) dX0_wanted_63 rfl (by decide) (fun h => ?_) (fun h => ?_)
      · have w := w.2 h
        refine e_iconst (n := 71) (v := 1) dX0_wanted_70 rfl (by decide) ?_
        exact e_iret rfl hu1 hu2 ⟨_, rfl, w⟩ dX0_wanted_71
      · have w := w.1 h
        refine e_iconst (n := 67) (v := 0) dX0_wanted_66 rfl (by decide) ?_
        refine e_goto (n := 71) dX0_wanted_67 (by decide) ?_
        exact e_iret rfl hu1 hu2 ⟨_, rfl, w⟩ dX0_wanted_71
    · have w := w.1 h
      refine e_bipush (n := 19) (v := (-3)) dX0_wanted_17 rfl (by decide) ?_
      exact e_iret rfl (Nat.zero_le _) (Nat.zero_le _) ⟨_, rfl, w⟩ dX0_wanted_19
  · have w := w.1 h
    refine e_iconst (n := 9) (v := (-1)) dX0_wanted_8 rfl (by decide) ?_
    exact e_iret rfl (Nat.zero_le _) (Nat.zero_le _) ⟨_, rfl, w⟩ dX0_wanted_9
abbrev mX0_stretch : gM := (yX0_stretch, cX0_stretch, 7, some .int)
theorem okX0_stretch : g_ok mX0_stretch 3 := ⟨by decide +kernel, by decide +kernel, by decide +kernel, by decide +kernel, by decide⟩
def wX0_stretch (Q : Int32 → gH → Prop) (mc ms : Nat) (x0 : Nat) (x1 : Int32) (x2 : Int32) (x3 : Int32) (σ : gH) : Prop := ∃ fs_2 : List Value, σ.2 x0 = some (.inr (0, fs_2)) ∧ (wX0_isName (fun (v_1 : Int32) => (v_1 = 0 → (Q (-1) σ)) ∧ (¬ v_1 = 0 → (wX0_in (fun (v_3 : Int32) => (v_3 = 0 → (Q (-1) σ)) ∧ (¬ v_3 = 0 → (c_R σ [0] x0 11 (fun r_4 => ∃ a_5 : Nat, r_4 = some a_5 ∧ (c_len σ a_5 (fun v_6 => (x3 ≤ v_6 → (0 + 1 ≤ mc ∧ 0 + 13 ≤ ms ∧ c_new σ (.inr (7, [.null, .int 0, .null, .null, .null, .int 0, .null, .null, .null, .null, .null, .null, .null])) (fun q_8 σ_7 => c_R σ_7 [0] x0 11 (fun r_9 => (0 + 1) + 1 ≤ mc ∧ (0 + 13) + 4 ≤ ms ∧ c_new σ_7 (.inr (6, [.int 0, .int 0, .int 0, .null])) (fun q_11 σ_10 => wX6_init (fun (σ_12 : gH) => ∃ c_14 b_15 : Nat, ((0 + 1) + 1) + c_14 ≤ mc ∧ ((0 + 13) + 4) + b_15 ≤ ms ∧ wX7_init (fun (σ_13 : gH) => ∃ fs_17 : List Value, σ_13.2 q_8 = some (.inr (7, fs_17)) ∧ (wX7_fill (fun (σ_16 : gH) => c_R σ_16 [7] q_8 10 (fun r_18 => ∃ a_19 : Nat, r_18 = some a_19 ∧ (c_aR 5 σ_16 a_19 x1 (fun r_20 => c_R σ_16 [7] q_8 3 (fun r_21 => ∃ a_22 : Nat, r_21 = some a_22 ∧ (c_aI σ_16 a_22 x2 (fun v_23 => ∃ a_24 : Nat, r_20 = some a_24 ∧ (c_aR 4 σ_16 a_24 v_23 (fun r_25 => c_R σ_16 [7] q_8 3 (fun r_26 => ∃ a_27 : Nat, r_26 = some a_27 ∧ (c_aI σ_16 a_27 x3 (fun v_28 => ∃ a_29 : Nat, r_25 = some a_29 ∧ (c_aJ σ_16 a_29 v_28 (fun v_30 => (v_30 < 1152921504606846976 → (Q ((v_30 / 16777216).toInt32) σ_16)) ∧ (¬ v_30 < 1152921504606846976 → (Q (-4) σ_16)))))))))))))))) q_8 σ_13)) c_14 b_15 q_8 (some x0) r_9 (some q_11) σ_12) q_11 0 0 0 none σ_10))))) ∧ (¬ x3 ≤ v_6 → (Q (-1) σ)))))))) σ x2.toInt64 0 x3.toInt64))) σ x0 x1)
set_option maxHeartbeats 4000000 in
theorem ctX0_stretch {Q : Int32 → gH → Prop} {mc ms : Nat} {x0 : Nat} {x1 : Int32} {x2 : Int32} {x3 : Int32} {σ : gH} (w : wX0_stretch Q mc ms x0 x1 x2 x3 σ) : CT mX0_stretch 12 mc ms [.ref x0, .int x1, .int x2, .int x3] σ (c_Ki Q) := by
  refine CT.of (lv := [(0, .ref x0), (1, .int x1), (2, .int x2), (3, .int x3)]) okX0_stretch.1 rfl rfl ?_
  unfold wX0_stretch at w
  refine e_aload_n (n := 1) dX0_stretch_0 rfl 0 rfl ?_
  refine e_iload_n (n := 2) dX0_stretch_1 rfl 1 rfl ?_
  obtain ⟨fs_2, wo, w⟩ := w
  refine e_callV (n := 5) (As := [.int x1]) (st := []) okX0_isName q275 q277 qs0 q57 q278 rfl wo rfl (by decide) (Nat.zero_le _) (Nat.zero_le _) rfl rfl (Nat.le_of_ble_eq_true rfl) dX0_stretch_2 rfl (ctX0_isName w) (fun r9 σ9 hk => ?_)
  obtain ⟨v_1, rfl, hs9, w⟩ := hk
  rw [hs9]
  refine e_if_eq (n := 8) (tgt := 28) dX0_stretch_5 rfl (by decide) (fun h => ?_) (fun h => ?_)
  · have w := w.1 h
    refine e_iconst (n := 29) (v := (-1)) dX0_stretch_28 rfl (by decide) ?_
    exact e_iret rfl (Nat.zero_le _) (Nat.zero_le _) ⟨_, rfl, w⟩ dX0_stretch_29
  · have w := w.2 h
    refine e_iload_n (n := 9) dX0_stretch_8 rfl 2 rfl ?_
    refine e_i2l (n := 10) dX0_stretch_9 rfl ?_
    refine e_lconst (n := 11) (v := 0) dX0_stretch_10 rfl (by decide) ?_
    refine e_iload_n (n := 12) dX0_stretch_11 rfl 3 rfl ?_
    refine e_i2l (n := 13) dX0_stretch_12 rfl ?_
    refine e_callS (n := 16) (As := [.long x2.toInt64, .long 0, .long x3.toInt64]) (st := []) okX0_in q279 q280 q57 q281 (by decide) (Nat.zero_le _) (Nat.zero_le _) rfl rfl (Nat.le_of_ble_eq_true rfl) dX0_stretch_13 rfl (ctX0_in w) (fun r9 σ9 hk => ?_)
    obtain ⟨v_3, rfl, hs9, w⟩ := hk
    rw [hs9]
    refine e_if_eq (n := 19) (tgt := 28) dX0_stretch_16 rfl (by decide) (fun h => ?_) (fun h => ?_)
    · have w := w.1 h
      refine e_iconst (n := 29) (v := (-1)) dX0_stretch_28 rfl (by decide) ?_
      exact e_iret rfl (Nat.zero_le _) (Nat.zero_le _) ⟨_, rfl, w⟩ dX0_stretch_29
    · have w := w.2 h
      refine e_iload_n (n := 20) dX0_stretch_19 rfl 3 rfl ?_
      refine e_aload_n (n := 21) dX0_stretch_20 rfl 0 rfl ?_
      refine e_cR (n := 24) w fw_X0_text (gl_o q194) dX0_stretch_21 rfl (fun r_4 w => ?_)
      obtain ⟨a_5, ha_5, w9a_5⟩ := w
      subst ha_5
      have w := w9a_5
      refine e_clen (n := 25) w dX0_stretch_24 rfl (fun v_6 w => ?_)
      refine e_icmp_le (n := 28) (tgt := 30) dX0_stretch_25 rfl (by decide) (fun h => ?_) (fun h => ?_)
      · have w := w.1 h
        obtain ⟨hu1, hu2, w⟩ := w
        refine e_cnew (n := 33) w tyX7 tyX7_ok in_X7 rfl q516 q517 q73 (fun j hj => g_defX7 j hj) hu1 hu2 dX0_stretch_30 rfl (fun q_8 σ_7 w => ?_)
        refine e_dup (n := 34) dX0_stretch_33 rfl rfl ?_
        refine e_aload_n (n := 35) dX0_stretch_34 rfl 0 rfl ?_
        refine e_aload_n (n := 36) dX0_stretch_35 rfl 0 rfl ?_
        refine e_cR (n := 39) w fw_X0_text (gl_o q194) dX0_stretch_36 rfl (fun r_9 w => ?_)
        obtain ⟨hu1, hu2, w⟩ := w
        refine e_cnew (n := 42) w tyX6 tyX6_ok in_X6 rfl q494 q495 q72 (fun j hj => g_defX6 j hj) hu1 hu2 dX0_stretch_39 rfl (fun q_11 σ_10 w => ?_)
        refine e_dup (n := 43) dX0_stretch_42 rfl rfl ?_
        refine e_iconst (n := 44) (v := 0) dX0_stretch_43 rfl (by decide) ?_
        refine e_iconst (n := 45) (v := 0) dX0_stretch_44 rfl (by decide) ?_
        refine e_iconst (n := 46) (v := 0) dX0_stretch_45 rfl (by decide) ?_
        refine e_null (n := 47) dX0_stretch_46 rfl ?_
        refine e_callI (n := 50) (As := [.int 0, .int 0, .int 0, va_rf none]) (st := [.ref q_11, va_rf r_9, .ref x0, .ref q_8, .ref q_8]) okX6_init rfl rfl q496 q497 q72 q498 (by decide) hu1 hu2 rfl rfl (Nat.le_of_ble_eq_true (by cases r_9 <;> rfl)) dX0_stretch_47 rfl (ctX6_init w) (fun r9 σ_12 hk => ?_)
        obtain ⟨rfl, w⟩ := hk
        obtain ⟨c_14, b_15, hu1, hu2, w⟩ := w
        refine e_callI (n := 53) (As := [va_rf (some x0), va_rf r_9, va_rf (some q_11)]) (st := [.ref q_8]) okX7_init rfl rfl q518 q519 q73 q520 (by decide) hu1 hu2 rfl rfl (Nat.le_of_ble_eq_true rfl) dX0_stretch_50 rfl (ctX7_init w) (fun r9 σ_13 hk => ?_)
        obtain ⟨rfl, w⟩ := hk
        refine e_astore (n := 55) (lv' := [(0, .ref x0), (1, .int x1), (2, .int x2), (3, .int x3), (4, .ref q_8)]) [1, 2, 3, 4, 0] dX0_stretch_53 rfl rfl rfl ?_
        refine e_aload (n := 57) dX0_stretch_55 rfl 4 rfl ?_
        obtain ⟨fs_17, wo, w⟩ := w
        refine e_callV (n := 60) (As := []) (st := []) okX7_fill q975 q976 q977 q73 q978 rfl wo rfl (by decide) hu1 hu2 rfl rfl (Nat.le_of_ble_eq_true rfl) dX0_stretch_57 rfl (ctX7_fill w) (fun r9 σ_16 hk => ?_)
        obtain ⟨rfl, w⟩ := hk
        refine e_aload (n := 62) dX0_stretch_60 rfl 4 rfl ?_
        refine e_cR (n := 65) w fw_X7_tree (gl_n q945) dX0_stretch_62 rfl (fun r_18 w => ?_)
        refine e_iload_n (n := 66) dX0_stretch_65 rfl 1 rfl ?_
        obtain ⟨a_19, ha_19, w9a_19⟩ := w
        subst ha_19
        have w := w9a_19
        refine e_caR (n := 67) w (fun _ => rfl) rfl dX0_stretch_66 rfl (fun r_20 w => ?_)
        refine e_aload (n := 69) dX0_stretch_67 rfl 4 rfl ?_
        refine e_cR (n := 72) w fw_X7_knot (gl_n q929) dX0_stretch_69 rfl (fun r_21 w => ?_)
        refine e_iload_n (n := 73) dX0_stretch_72 rfl 2 rfl ?_
        obtain ⟨a_22, ha_22, w9a_22⟩ := w
        subst ha_22
        have w := w9a_22
        refine e_caI (n := 74) w dX0_stretch_73 rfl (fun v_23 w => ?_)
        obtain ⟨a_24, ha_24, w9a_24⟩ := w
        subst ha_24
        have w := w9a_24
        refine e_caR (n := 75) w (fun _ => rfl) rfl dX0_stretch_74 rfl (fun r_25 w => ?_)
        refine e_aload (n := 77) dX0_stretch_75 rfl 4 rfl ?_
        refine e_cR (n := 80) w fw_X7_knot (gl_n q929) dX0_stretch_77 rfl (fun r_26 w => ?_)
        refine e_iload_n (n := 81) dX0_stretch_80 rfl 3 rfl ?_
        obtain ⟨a_27, ha_27, w9a_27⟩ := w
        subst ha_27
        have w := w9a_27
        refine e_caI (n := 82) w dX0_stretch_81 rfl (fun v_28 w => ?_)
        obtain ⟨a_29, ha_29, w9a_29⟩ := w
        subst ha_29
        have w := w9a_29
        refine e_caJ (n := 83) w dX0_stretch_82 rfl (fun v_30 w => ?_)
        refine e_lstore (n := 85) (lv' := [(0, .ref x0), (1, .int x1), (2, .int x2), (3, .int x3), (4, .ref q_8), (5, .long v_30)]) [1, 2, 3, 4, 5, 0] dX0_stretch_83 rfl rfl rfl ?_
        refine e_lload (n := 87) dX0_stretch_85 rfl 5 rfl ?_
        refine e_ldc2 (n := 90) q1093 dX0_stretch_87 rfl ?_
        refine e_lcmp_lt (n := 94) (tgt := 99) dX0_stretch_90 dX0_stretch_91 rfl (by decide) (fun h => ?_) (fun h => ?_)
        · have w := w.1 h
          refine e_lload (n := 101) dX0_stretch_99 rfl 5 rfl ?_
          refine e_ldc2 (n := 104) q1006 dX0_stretch_101 rfl ?_
          refine e_ldiv (n := 105) (by decide) dX0_stretch_104 rfl ?_
          refine e_l2i (n := 106) dX0_stretch_105 rfl ?_
          exact e_iret rfl hu1 hu2 ⟨_, rfl, w⟩ dX0_stretch_106
        · have w := w.2 h
          refine e_bipush (n := 96) (v := (-4)) dX0_stretch_94 rfl (by decide) ?_
          refine e_goto (n := 106) dX0_stretch_96 (by decide) ?_
          exact e_iret rfl hu1 hu2 ⟨_, rfl, w⟩ dX0_stretch_106
      · have w := w.2 h
        refine e_iconst (n := 29) (v := (-1)) dX0_stretch_28 rfl (by decide) ?_
        exact e_iret rfl (Nat.zero_le _) (Nat.zero_le _) ⟨_, rfl, w⟩ dX0_stretch_29
abbrev mX0_told : gM := (yX0_told, cX0_told, 2, some .int)
theorem okX0_told : g_ok mX0_told 1 := ⟨by decide +kernel, by decide +kernel, by decide +kernel, by decide +kernel, by decide⟩
def wX0_told (Q : Int32 → Prop) (σ : gH) (x0 : Nat) (x1 : Int32) : Prop := (x1 = 0 → (c_I σ [0] x0 16 (fun v_1 => Q v_1))) ∧ (¬ x1 = 0 → (x1 = 1 → (c_R σ [0] x0 19 (fun r_2 => ∃ a_3 : Nat, r_2 = some a_3 ∧ (∃ fs_5 : List Value, σ.2 a_3 = some (.inr (18, fs_5)) ∧ (wJ2_size (fun (v_4 : Int32) => Q v_4) σ a_3))))) ∧ (¬ x1 = 1 → (x1 = 2 → (c_I σ [0] x0 22 (fun v_6 => Q v_6))) ∧ (¬ x1 = 2 → (x1 = 3 → (c_R σ [0] x0 18 (fun r_7 => ∃ a_8 : Nat, r_7 = some a_8 ∧ (c_I σ [1] a_8 1 (fun v_9 => Q v_9))))) ∧ (¬ x1 = 3 → (x1 = 4 → (c_R σ [0] x0 17 (fun r_10 => (r_10 = none → (Q (-4))) ∧ (¬ r_10 = none → (c_R σ [0] x0 17 (fun r_11 => ∃ a_12 : Nat, r_11 = some a_12 ∧ (c_I σ [6] a_12 0 (fun v_13 => Q v_13)))))))) ∧ (¬ x1 = 4 → (Q (-1)))))))
set_option maxHeartbeats 4000000 in
theorem ctX0_told {Q : Int32 → Prop} {x0 : Nat} {x1 : Int32} {σ : gH} (w : wX0_told Q σ x0 x1) : CT mX0_told 2 0 0 [.ref x0, .int x1] σ (g_Pi σ Q) := by
  refine CT.of (lv := [(0, .ref x0), (1, .int x1)]) okX0_told.1 rfl rfl ?_
  unfold wX0_told at w
  refine e_iload_n (n := 1) dX0_told_0 rfl 1 rfl ?_
  by_cases h0 : x1 = 0
  · have w := w.1 h0
    refine e_tableIn (tgt := 36) dX0_told_1 (by rw [h0]; decide) (by rw [h0]; decide) (by rw [h0]; rfl) (by decide) ?_
    refine e_aload_n (n := 37) dX0_told_36 rfl 0 rfl ?_
    refine e_cI (n := 40) w fw_X0_price (gl_o q202) dX0_told_37 rfl (fun v_1 w => ?_)
    exact e_iret rfl (Nat.le_refl _) (Nat.le_refl _) ⟨_, rfl, rfl, w⟩ dX0_told_40
  · have w := w.2 h0
    by_cases h1 : x1 = 1
    · have w := w.1 h1
      refine e_tableIn (tgt := 41) dX0_told_1 (by rw [h1]; decide) (by rw [h1]; decide) (by rw [h1]; rfl) (by decide) ?_
      refine e_aload_n (n := 42) dX0_told_41 rfl 0 rfl ?_
      refine e_cR (n := 45) w fw_X0_slips (gl_o q207) dX0_told_42 rfl (fun r_2 w => ?_)
      obtain ⟨a_3, ha_3, w9a_3⟩ := w
      subst ha_3
      have w := w9a_3
      obtain ⟨fs_5, wo, w⟩ := w
      refine e_callF (n := 50) (As := []) (st := []) okJ2_size q283 q287 q289 q60 q291 q285 q284 q290 q288 q286 rfl (by decide) wo rfl (by decide) (Nat.le_refl _) (Nat.le_refl _) rfl rfl rfl dX0_told_45 rfl (ctJ2_size w) (fun r9 σ9 hk => ?_)
      obtain ⟨v_4, rfl, hs9, w⟩ := hk
      rw [hs9]
      exact e_iret rfl (Nat.le_refl _) (Nat.le_refl _) ⟨_, rfl, rfl, w⟩ dX0_told_50
    · have w := w.2 h1
      by_cases h2 : x1 = 2
      · have w := w.1 h2
        refine e_tableIn (tgt := 51) dX0_told_1 (by rw [h2]; decide) (by rw [h2]; decide) (by rw [h2]; rfl) (by decide) ?_
        refine e_aload_n (n := 52) dX0_told_51 rfl 0 rfl ?_
        refine e_cI (n := 55) w fw_X0_wordMany (gl_o q212) dX0_told_52 rfl (fun v_6 w => ?_)
        exact e_iret rfl (Nat.le_refl _) (Nat.le_refl _) ⟨_, rfl, rfl, w⟩ dX0_told_55
      · have w := w.2 h2
        by_cases h3 : x1 = 3
        · have w := w.1 h3
          refine e_tableIn (tgt := 56) dX0_told_1 (by rw [h3]; decide) (by rw [h3]; decide) (by rw [h3]; rfl) (by decide) ?_
          refine e_aload_n (n := 57) dX0_told_56 rfl 0 rfl ?_
          refine e_cR (n := 60) w fw_X0_tree (gl_o q204) dX0_told_57 rfl (fun r_7 w => ?_)
          obtain ⟨a_8, ha_8, w9a_8⟩ := w
          subst ha_8
          have w := w9a_8
          refine e_cI (n := 63) w fw_X1_size (gl_n q146) dX0_told_60 rfl (fun v_9 w => ?_)
          exact e_iret rfl (Nat.le_refl _) (Nat.le_refl _) ⟨_, rfl, rfl, w⟩ dX0_told_63
        · have w := w.2 h3
          by_cases h4 : x1 = 4
          · have w := w.1 h4
            refine e_tableIn (tgt := 64) dX0_told_1 (by rw [h4]; decide) (by rw [h4]; decide) (by rw [h4]; rfl) (by decide) ?_
            refine e_aload_n (n := 65) dX0_told_64 rfl 0 rfl ?_
            refine e_cR (n := 68) w fw_X0_way (gl_o q203) dX0_told_65 rfl (fun r_10 w => ?_)
            refine e_ifnonnull (n := 71) (tgt := 76) (r := r_10) dX0_told_68 rfl (by decide) (fun h => ?_) (fun h => ?_)
            · have w := w.2 h
              refine e_aload_n (n := 77) dX0_told_76 rfl 0 rfl ?_
              refine e_cR (n := 80) w fw_X0_way (gl_o q203) dX0_told_77 rfl (fun r_11 w => ?_)
              obtain ⟨a_12, ha_12, w9a_12⟩ := w
              subst ha_12
              have w := w9a_12
              refine e_cI (n := 83) w fw_X6_sort (gl_n q501) dX0_told_80 rfl (fun v_13 w => ?_)
              exact e_iret rfl (Nat.le_refl _) (Nat.le_refl _) ⟨_, rfl, rfl, w⟩ dX0_told_83
            · have w := w.1 h
              refine e_bipush (n := 73) (v := (-4)) dX0_told_71 rfl (by decide) ?_
              refine e_goto (n := 83) dX0_told_73 (by decide) ?_
              exact e_iret rfl (Nat.le_refl _) (Nat.le_refl _) ⟨_, rfl, rfl, w⟩ dX0_told_83
          · have w := w.2 h4
            have g0 : ¬ x1.toInt = 0 := fun z => h0 (Int32.toInt_inj.mp (z.trans (by decide)))
            have g1 : ¬ x1.toInt = 1 := fun z => h1 (Int32.toInt_inj.mp (z.trans (by decide)))
            have g2 : ¬ x1.toInt = 2 := fun z => h2 (Int32.toInt_inj.mp (z.trans (by decide)))
            have g3 : ¬ x1.toInt = 3 := fun z => h3 (Int32.toInt_inj.mp (z.trans (by decide)))
            have g4 : ¬ x1.toInt = 4 := fun z => h4 (Int32.toInt_inj.mp (z.trans (by decide)))
            refine e_tableOut (tgt := 84) dX0_told_1 (by omega) (by decide) ?_
            refine e_iconst (n := 85) (v := (-1)) dX0_told_84 rfl (by decide) ?_
            exact e_iret rfl (Nat.le_refl _) (Nat.le_refl _) ⟨_, rfl, rfl, w⟩ dX0_told_85
abbrev mX0_slip : gM := (yX0_slip, cX0_slip, 3, some .int)
theorem okX0_slip : g_ok mX0_slip 2 := ⟨by decide +kernel, by decide +kernel, by decide +kernel, by decide +kernel, by decide⟩
def wX0_slip (Q : Int32 → Prop) (σ : gH) (x0 : Nat) (x1 : Int32) (x2 : Int32) : Prop := c_R σ [0] x0 19 (fun r_1 => ∃ a_2 : Nat, r_1 = some a_2 ∧ (∃ fs_4 : List Value, σ.2 a_2 = some (.inr (18, fs_4)) ∧ (wJ2_size (fun (v_3 : Int32) => wX0_in (fun (v_5 : Int32) => (v_5 = 0 → (Q (-1))) ∧ (¬ v_5 = 0 → (wX0_in (fun (v_6 : Int32) => (v_6 = 0 → (Q (-1))) ∧ (¬ v_6 = 0 → (c_R σ [0] x0 20 (fun r_7 => ∃ a_8 : Nat, r_7 = some a_8 ∧ (c_R σ [2] a_8 0 (fun r_9 => ∃ a_10 : Nat, r_9 = some a_10 ∧ (c_aR 3 σ a_10 x2 (fun r_11 => ∃ a_12 : Nat, r_11 = some a_12 ∧ (c_aI σ a_12 x1 (fun v_13 => Q v_13)))))))))) σ x2.toInt64 0 3))) σ x1.toInt64 0 ((v_3 - 1).toInt64)) σ a_2)))
set_option maxHeartbeats 4000000 in
theorem ctX0_slip {Q : Int32 → Prop} {x0 : Nat} {x1 : Int32} {x2 : Int32} {σ : gH} (w : wX0_slip Q σ x0 x1 x2) : CT mX0_slip 2 0 0 [.ref x0, .int x1, .int x2] σ (g_Pi σ Q) := by
  refine CT.of (lv := [(0, .ref x0), (1, .int x1), (2, .int x2)]) okX0_slip.1 rfl rfl ?_
  unfold wX0_slip at w
  refine e_iload_n (n := 1) dX0_slip_0 rfl 1 rfl ?_
  refine e_i2l (n := 2) dX0_slip_1 rfl ?_
  refine e_lconst (n := 3) (v := 0) dX0_slip_2 rfl (by decide) ?_
  refine e_aload_n (n := 4) dX0_slip_3 rfl 0 rfl ?_
  refine e_cR (n := 7) w fw_X0_slips (gl_o q207) dX0_slip_4 rfl (fun r_1 w => ?_)
  obtain ⟨a_2, ha_2, w9a_2⟩ := w
  subst ha_2
  have w := w9a_2
  obtain ⟨fs_4, wo, w⟩ := w
  refine e_callF (n := 12) (As := []) (st := [.long 0, .long x1.toInt64]) okJ2_size q283 q287 q289 q60 q291 q285 q284 q290 q288 q286 rfl (by decide) wo rfl (by decide) (Nat.le_refl _) (Nat.le_refl _) rfl rfl rfl dX0_slip_7 rfl (ctJ2_size w) (fun r9 σ9 hk => ?_)
  obtain ⟨v_3, rfl, hs9, w⟩ := hk
  rw [hs9]
  refine e_iconst (n := 13) (v := 1) dX0_slip_12 rfl (by decide) ?_
  refine e_isub (n := 14) dX0_slip_13 rfl ?_
  refine e_i2l (n := 15) dX0_slip_14 rfl ?_
  refine e_callS (n := 18) (As := [.long x1.toInt64, .long 0, .long ((v_3 - 1).toInt64)]) (st := []) okX0_in q279 q280 q57 q281 (by decide) (Nat.le_refl _) (Nat.le_refl _) rfl rfl (Nat.le_of_ble_eq_true rfl) dX0_slip_15 rfl (ctX0_in w) (fun r9 σ9 hk => ?_)
  obtain ⟨v_5, rfl, hs9, w⟩ := hk
  rw [hs9]
  refine e_if_eq (n := 21) (tgt := 33) dX0_slip_18 rfl (by decide) (fun h => ?_) (fun h => ?_)
  · have w := w.1 h
    refine e_iconst (n := 34) (v := (-1)) dX0_slip_33 rfl (by decide) ?_
    exact e_iret rfl (Nat.le_refl _) (Nat.le_refl _) ⟨_, rfl, rfl, w⟩ dX0_slip_34
  · have w := w.2 h
    refine e_iload_n (n := 22) dX0_slip_21 rfl 2 rfl ?_
    refine e_i2l (n := 23) dX0_slip_22 rfl ?_
    refine e_lconst (n := 24) (v := 0) dX0_slip_23 rfl (by decide) ?_
    refine e_ldc2 (n := 27) q1102 dX0_slip_24 rfl ?_
    refine e_callS (n := 30) (As := [.long x2.toInt64, .long 0, .long 3]) (st := []) okX0_in q279 q280 q57 q281 (by decide) (Nat.le_refl _) (Nat.le_refl _) rfl rfl (Nat.le_of_ble_eq_true rfl) dX0_slip_27 rfl (ctX0_in w) (fun r9 σ9 hk => ?_)
    obtain ⟨v_6, rfl, hs9, w⟩ := hk
    rw [hs9]
    refine e_if_ne (n := 33) (tgt := 35) dX0_slip_30 rfl (by decide) (fun h => ?_) (fun h => ?_)
    · have w := w.2 h
      refine e_aload_n (n := 36) dX0_slip_35 rfl 0 rfl ?_
      refine e_cR (n := 39) w fw_X0_latest (gl_o q208) dX0_slip_36 rfl (fun r_7 w => ?_)
      obtain ⟨a_8, ha_8, w9a_8⟩ := w
      subst ha_8
      have w := w9a_8
      refine e_cR (n := 42) w fw_X2_cells (gl_n q161) dX0_slip_39 rfl (fun r_9 w => ?_)
      refine e_iload_n (n := 43) dX0_slip_42 rfl 2 rfl ?_
      obtain ⟨a_10, ha_10, w9a_10⟩ := w
      subst ha_10
      have w := w9a_10
      refine e_caR (n := 44) w (fun _ => rfl) rfl dX0_slip_43 rfl (fun r_11 w => ?_)
      refine e_iload_n (n := 45) dX0_slip_44 rfl 1 rfl ?_
      obtain ⟨a_12, ha_12, w9a_12⟩ := w
      subst ha_12
      have w := w9a_12
      refine e_caI (n := 46) w dX0_slip_45 rfl (fun v_13 w => ?_)
      exact e_iret rfl (Nat.le_refl _) (Nat.le_refl _) ⟨_, rfl, rfl, w⟩ dX0_slip_46
    · have w := w.1 h
      refine e_iconst (n := 34) (v := (-1)) dX0_slip_33 rfl (by decide) ?_
      exact e_iret rfl (Nat.le_refl _) (Nat.le_refl _) ⟨_, rfl, rfl, w⟩ dX0_slip_34
abbrev mX0_word : gM := (yX0_word, cX0_word, 2, some .int)
theorem okX0_word : g_ok mX0_word 1 := ⟨by decide +kernel, by decide +kernel, by decide +kernel, by decide +kernel, by decide⟩
def wX0_word (Q : Int32 → Prop) (σ : gH) (x0 : Nat) (x1 : Int32) : Prop := c_I σ [0] x0 22 (fun v_1 => wX0_in (fun (v_2 : Int32) => (v_2 = 0 → (Q (-1))) ∧ (¬ v_2 = 0 → (c_R σ [0] x0 21 (fun r_3 => ∃ a_4 : Nat, r_3 = some a_4 ∧ (c_aI σ a_4 x1 (fun v_5 => Q v_5)))))) σ x1.toInt64 0 ((v_1 - 1).toInt64))
set_option maxHeartbeats 4000000 in
theorem ctX0_word {Q : Int32 → Prop} {x0 : Nat} {x1 : Int32} {σ : gH} (w : wX0_word Q σ x0 x1) : CT mX0_word 2 0 0 [.ref x0, .int x1] σ (g_Pi σ Q) := by
  refine CT.of (lv := [(0, .ref x0), (1, .int x1)]) okX0_word.1 rfl rfl ?_
  unfold wX0_word at w
  refine e_iload_n (n := 1) dX0_word_0 rfl 1 rfl ?_
  refine e_i2l (n := 2) dX0_word_1 rfl ?_
  refine e_lconst (n := 3) (v := 0) dX0_word_2 rfl (by decide) ?_
  refine e_aload_n (n := 4) dX0_word_3 rfl 0 rfl ?_
  refine e_cI (n := 7) w fw_X0_wordMany (gl_o q212) dX0_word_4 rfl (fun v_1 w => ?_)
  refine e_iconst (n := 8) (v := 1) dX0_word_7 rfl (by decide) ?_
  refine e_isub (n := 9) dX0_word_8 rfl ?_
  refine e_i2l (n := 10) dX0_word_9 rfl ?_
  refine e_callS (n := 13) (As := [.long x1.toInt64, .long 0, .long ((v_1 - 1).toInt64)]) (st := []) okX0_in q279 q280 q57 q281 (by decide) (Nat.le_refl _) (Nat.le_refl _) rfl rfl (Nat.le_of_ble_eq_true rfl) dX0_word_10 rfl (ctX0_in w) (fun r9 σ9 hk => ?_)
  obtain ⟨v_2, rfl, hs9, w⟩ := hk
  rw [hs9]
  refine e_if_eq (n := 16) (tgt := 25) dX0_word_13 rfl (by decide) (fun h => ?_) (fun h => ?_)
  · have w := w.1 h
    refine e_iconst (n := 26) (v := (-1)) dX0_word_25 rfl (by decide) ?_
    exact e_iret rfl (Nat.le_refl _) (Nat.le_refl _) ⟨_, rfl, rfl, w⟩ dX0_word_26
  · have w := w.2 h
    refine e_aload_n (n := 17) dX0_word_16 rfl 0 rfl ?_
    refine e_cR (n := 20) w fw_X0_words (gl_o q209) dX0_word_17 rfl (fun r_3 w => ?_)
    refine e_iload_n (n := 21) dX0_word_20 rfl 1 rfl ?_
    obtain ⟨a_4, ha_4, w9a_4⟩ := w
    subst ha_4
    have w := w9a_4
    refine e_caI (n := 22) w dX0_word_21 rfl (fun v_5 w => ?_)
    refine e_goto (n := 26) dX0_word_22 (by decide) ?_
    exact e_iret rfl (Nat.le_refl _) (Nat.le_refl _) ⟨_, rfl, rfl, w⟩ dX0_word_26
abbrev mX0_node : gM := (yX0_node, cX0_node, 3, some .int)
theorem okX0_node : g_ok mX0_node 2 := ⟨by decide +kernel, by decide +kernel, by decide +kernel, by decide +kernel, by decide⟩
def wX0_node (Q : Int32 → Prop) (σ : gH) (x0 : Nat) (x1 : Int32) (x2 : Int32) : Prop := c_R σ [0] x0 18 (fun r_1 => ∃ a_2 : Nat, r_1 = some a_2 ∧ (c_I σ [1] a_2 1 (fun v_3 => wX0_in (fun (v_4 : Int32) => (v_4 = 0 → (Q (-1))) ∧ (¬ v_4 = 0 → (wX0_in (fun (v_5 : Int32) => (v_5 = 0 → (Q (-1))) ∧ (¬ v_5 = 0 → (c_R σ [0] x0 18 (fun r_6 => ∃ a_7 : Nat, r_6 = some a_7 ∧ (c_R σ [1] a_7 0 (fun r_8 => ∃ a_9 : Nat, r_8 = some a_9 ∧ (c_aR 3 σ a_9 x2 (fun r_10 => ∃ a_11 : Nat, r_10 = some a_11 ∧ (c_aI σ a_11 x1 (fun v_12 => Q v_12)))))))))) σ x2.toInt64 0 4))) σ x1.toInt64 0 ((v_3 - 1).toInt64))))
set_option maxHeartbeats 4000000 in
theorem ctX0_node {Q : Int32 → Prop} {x0 : Nat} {x1 : Int32} {x2 : Int32} {σ : gH} (w : wX0_node Q σ x0 x1 x2) : CT mX0_node 2 0 0 [.ref x0, .int x1, .int x2] σ (g_Pi σ Q) := by
  refine CT.of (lv := [(0, .ref x0), (1, .int x1), (2, .int x2)]) okX0_node.1 rfl rfl ?_
  unfold wX0_node at w
  refine e_iload_n (n := 1) dX0_node_0 rfl 1 rfl ?_
  refine e_i2l (n := 2) dX0_node_1 rfl ?_
  refine e_lconst (n := 3) (v := 0) dX0_node_2 rfl (by decide) ?_
  refine e_aload_n (n := 4) dX0_node_3 rfl 0 rfl ?_
  refine e_cR (n := 7) w fw_X0_tree (gl_o q204) dX0_node_4 rfl (fun r_1 w => ?_)
  obtain ⟨a_2, ha_2, w9a_2⟩ := w
  subst ha_2
  have w := w9a_2
  refine e_cI (n := 10) w fw_X1_size (gl_n q146) dX0_node_7 rfl (fun v_3 w => ?_)
  refine e_iconst (n := 11) (v := 1) dX0_node_10 rfl (by decide) ?_
  refine e_isub (n := 12) dX0_node_11 rfl ?_
  refine e_i2l (n := 13) dX0_node_12 rfl ?_
  refine e_callS (n := 16) (As := [.long x1.toInt64, .long 0, .long ((v_3 - 1).toInt64)]) (st := []) okX0_in q279 q280 q57 q281 (by decide) (Nat.le_refl _) (Nat.le_refl _) rfl rfl (Nat.le_of_ble_eq_true rfl) dX0_node_13 rfl (ctX0_in w) (fun r9 σ9 hk => ?_)
  obtain ⟨v_4, rfl, hs9, w⟩ := hk
  rw [hs9]
  refine e_if_eq (n := 19) (tgt := 45) dX0_node_16 rfl (by decide) (fun h => ?_) (fun h => ?_)
  · have w := w.1 h
    refine e_iconst (n := 46) (v := (-1)) dX0_node_45 rfl (by decide) ?_
    exact e_iret rfl (Nat.le_refl _) (Nat.le_refl _) ⟨_, rfl, rfl, w⟩ dX0_node_46
  · have w := w.2 h
    refine e_iload_n (n := 20) dX0_node_19 rfl 2 rfl ?_
    refine e_i2l (n := 21) dX0_node_20 rfl ?_
    refine e_lconst (n := 22) (v := 0) dX0_node_21 rfl (by decide) ?_
    refine e_ldc2 (n := 25) q435 dX0_node_22 rfl ?_
    refine e_callS (n := 28) (As := [.long x2.toInt64, .long 0, .long 4]) (st := []) okX0_in q279 q280 q57 q281 (by decide) (Nat.le_refl _) (Nat.le_refl _) rfl rfl (Nat.le_of_ble_eq_true rfl) dX0_node_25 rfl (ctX0_in w) (fun r9 σ9 hk => ?_)
    obtain ⟨v_5, rfl, hs9, w⟩ := hk
    rw [hs9]
    refine e_if_eq (n := 31) (tgt := 45) dX0_node_28 rfl (by decide) (fun h => ?_) (fun h => ?_)
    · have w := w.1 h
      refine e_iconst (n := 46) (v := (-1)) dX0_node_45 rfl (by decide) ?_
      exact e_iret rfl (Nat.le_refl _) (Nat.le_refl _) ⟨_, rfl, rfl, w⟩ dX0_node_46
    · have w := w.2 h
      refine e_aload_n (n := 32) dX0_node_31 rfl 0 rfl ?_
      refine e_cR (n := 35) w fw_X0_tree (gl_o q204) dX0_node_32 rfl (fun r_6 w => ?_)
      obtain ⟨a_7, ha_7, w9a_7⟩ := w
      subst ha_7
      have w := w9a_7
      refine e_cR (n := 38) w fw_X1_cells (gl_n q143) dX0_node_35 rfl (fun r_8 w => ?_)
      refine e_iload_n (n := 39) dX0_node_38 rfl 2 rfl ?_
      obtain ⟨a_9, ha_9, w9a_9⟩ := w
      subst ha_9
      have w := w9a_9
      refine e_caR (n := 40) w (fun _ => rfl) rfl dX0_node_39 rfl (fun r_10 w => ?_)
      refine e_iload_n (n := 41) dX0_node_40 rfl 1 rfl ?_
      obtain ⟨a_11, ha_11, w9a_11⟩ := w
      subst ha_11
      have w := w9a_11
      refine e_caI (n := 42) w dX0_node_41 rfl (fun v_12 w => ?_)
      refine e_goto (n := 46) dX0_node_42 (by decide) ?_
      exact e_iret rfl (Nat.le_refl _) (Nat.le_refl _) ⟨_, rfl, rfl, w⟩ dX0_node_46
abbrev mX0_sure : gM := (yX0_sure, cX0_sure, 6, some .int)
theorem okX0_sure : g_ok mX0_sure 1 := ⟨by decide +kernel, by decide +kernel, by decide +kernel, by decide +kernel, by decide⟩
def wX0_sure (Q : Int32 → gH → Prop) (mc ms : Nat) (x0 : Nat) (x1 : Int32) (σ : gH) : Prop := c_R σ [0] x0 19 (fun r_1 => ∃ a_2 : Nat, r_1 = some a_2 ∧ (∃ fs_4 : List Value, σ.2 a_2 = some (.inr (18, fs_4)) ∧ (wJ2_size (fun (v_3 : Int32) => wX0_in (fun (v_5 : Int32) => (v_5 = 0 → (Q (-1) σ)) ∧ (¬ v_5 = 0 → (c_I σ [0] x0 12 (fun v_6 => (v_6 = 0 → (c_R σ [0] x0 17 (fun r_7 => ∃ a_8 : Nat, r_7 = some a_8 ∧ (c_I σ [6] a_8 0 (fun v_9 => (v_9 ≤ 1 → (0 + 1 ≤ mc ∧ 0 + 13 ≤ ms ∧ c_new σ (.inr (7, [.null, .int 0, .null, .null, .null, .int 0, .null, .null, .null, .null, .null, .null, .null])) (fun q_11 σ_10 => c_R σ_10 [0] x0 11 (fun r_12 => (0 + 1) + 1 ≤ mc ∧ (0 + 13) + 4 ≤ ms ∧ c_new σ_10 (.inr (6, [.int 0, .int 0, .int 0, .null])) (fun q_14 σ_13 => c_R σ_13 [0] x0 17 (fun r_15 => ∃ a_16 : Nat, r_15 = some a_16 ∧ (c_I σ_13 [6] a_16 0 (fun v_17 => c_R σ_13 [0] x0 17 (fun r_18 => ∃ a_19 : Nat, r_18 = some a_19 ∧ (c_I σ_13 [6] a_19 1 (fun v_20 => c_R σ_13 [0] x0 17 (fun r_21 => ∃ a_22 : Nat, r_21 = some a_22 ∧ (c_I σ_13 [6] a_22 2 (fun v_23 => c_R σ_13 [0] x0 19 (fun r_24 => ∃ a_25 : Nat, r_24 = some a_25 ∧ (∃ fs_27 : List Value, σ_13.2 a_25 = some (.inr (18, fs_27)) ∧ (wJ2_get (fun (r_26 : Option Nat) => c_cast σ_13 [8, 9, 10, 11, 12, 13, 14, 15] r_26 (wX6_init (fun (σ_28 : gH) => ∃ c_30 b_31 : Nat, ((0 + 1) + 1) + c_30 ≤ mc ∧ ((0 + 13) + 4) + b_31 ≤ ms ∧ wX7_init (fun (σ_29 : gH) => ∃ fs_33 : List Value, σ_29.2 q_11 = some (.inr (7, fs_33)) ∧ (wX7_fill (fun (σ_32 : gH) => ∃ fs_35 : List Value, σ_32.2 q_11 = some (.inr (7, fs_35)) ∧ (wX7_best (fun (v_34 : Int32) => (v_34 = (-4) → (Q 1 σ_32)) ∧ (¬ v_34 = (-4) → (c_R σ_32 [7] q_11 10 (fun r_36 => c_I σ_32 [0] x0 6 (fun v_37 => ∃ a_38 : Nat, r_36 = some a_38 ∧ (c_aR 5 σ_32 a_38 v_37 (fun r_39 => c_R σ_32 [7] q_11 3 (fun r_40 => ∃ a_41 : Nat, r_40 = some a_41 ∧ (c_aI σ_32 a_41 0 (fun v_42 => ∃ a_43 : Nat, r_39 = some a_43 ∧ (c_aR 4 σ_32 a_43 v_42 (fun r_44 => c_R σ_32 [7] q_11 3 (fun r_45 => ∃ a_46 : Nat, r_45 = some a_46 ∧ (c_aI σ_32 a_46 v_34 (fun v_47 => ∃ a_48 : Nat, r_44 = some a_48 ∧ (c_aJ σ_32 a_48 v_47 (fun v_49 => c_R σ_32 [7] q_11 8 (fun r_50 => ∃ a_51 : Nat, r_50 = some a_51 ∧ (c_aR 4 σ_32 a_51 v_34 (fun r_52 => c_R σ_32 [0] x0 11 (fun r_53 => ∃ a_54 : Nat, r_53 = some a_54 ∧ (c_len σ_32 a_54 (fun v_55 => ∃ a_56 : Nat, r_52 = some a_56 ∧ (c_aJ σ_32 a_56 v_55 (fun v_57 => c_I σ_32 [0] x0 16 (fun v_58 => ((v_49 / 16777216) + v_57 ≤ v_58.toInt64 → (Q 0 σ_32)) ∧ (¬ (v_49 / 16777216) + v_57 ≤ v_58.toInt64 → (Q 1 σ_32)))))))))))))))))))))))))))) σ_32 q_11)) q_11 σ_29)) c_30 b_31 q_11 (some x0) r_12 (some q_14) σ_28) q_14 v_17 v_20 v_23 r_26 σ_13)) σ_13 a_25 x1))))))))))))))))) ∧ (¬ v_9 ≤ 1 → (Q (-3) σ))))))) ∧ (¬ v_6 = 0 → (Q (-3) σ)))))) σ x1.toInt64 0 ((v_3 - 1).toInt64)) σ a_2)))
set_option maxHeartbeats 4000000 in
theorem ctX0_sure {Q : Int32 → gH → Prop} {mc ms : Nat} {x0 : Nat} {x1 : Int32} {σ : gH} (w : wX0_sure Q mc ms x0 x1 σ) : CT mX0_sure 12 mc ms [.ref x0, .int x1] σ (c_Ki Q) := by
  refine CT.of (lv := [(0, .ref x0), (1, .int x1)]) okX0_sure.1 rfl rfl ?_
  unfold wX0_sure at w
  refine e_iload_n (n := 1) dX0_sure_0 rfl 1 rfl ?_
  refine e_i2l (n := 2) dX0_sure_1 rfl ?_
  refine e_lconst (n := 3) (v := 0) dX0_sure_2 rfl (by decide) ?_
  refine e_aload_n (n := 4) dX0_sure_3 rfl 0 rfl ?_
  refine e_cR (n := 7) w fw_X0_slips (gl_o q207) dX0_sure_4 rfl (fun r_1 w => ?_)
  obtain ⟨a_2, ha_2, w9a_2⟩ := w
  subst ha_2
  have w := w9a_2
  obtain ⟨fs_4, wo, w⟩ := w
  refine e_callF (n := 12) (As := []) (st := [.long 0, .long x1.toInt64]) okJ2_size q283 q287 q289 q60 q291 q285 q284 q290 q288 q286 rfl (by decide) wo rfl (by decide) (Nat.zero_le _) (Nat.zero_le _) rfl rfl rfl dX0_sure_7 rfl (ctJ2_size w) (fun r9 σ9 hk => ?_)
  obtain ⟨v_3, rfl, hs9, w⟩ := hk
  rw [hs9]
  refine e_iconst (n := 13) (v := 1) dX0_sure_12 rfl (by decide) ?_
  refine e_isub (n := 14) dX0_sure_13 rfl ?_
  refine e_i2l (n := 15) dX0_sure_14 rfl ?_
  refine e_callS (n := 18) (As := [.long x1.toInt64, .long 0, .long ((v_3 - 1).toInt64)]) (st := []) okX0_in q279 q280 q57 q281 (by decide) (Nat.zero_le _) (Nat.zero_le _) rfl rfl (Nat.le_of_ble_eq_true rfl) dX0_sure_15 rfl (ctX0_in w) (fun r9 σ9 hk => ?_)
  obtain ⟨v_5, rfl, hs9, w⟩ := hk
  rw [hs9]
  refine e_if_ne (n := 21) (tgt := 23) dX0_sure_18 rfl (by decide) (fun h => ?_) (fun h => ?_)
  · have w := w.2 h
    refine e_aload_n (n := 24) dX0_sure_23 rfl 0 rfl ?_
    refine e_cI (n := 27) w fw_X0_changed (gl_o q195) dX0_sure_24 rfl (fun v_6 w => ?_)
    refine e_if_ne (n := 30) (tgt := 41) dX0_sure_27 rfl (by decide) (fun h => ?_) (fun h => ?_)
    · have w := w.2 h
      refine e_bipush (n := 43) (v := (-3)) dX0_sure_41 rfl (by decide) ?_
      exact e_iret rfl (Nat.zero_le _) (Nat.zero_le _) ⟨_, rfl, w⟩ dX0_sure_43
    · have w := w.1 h
      refine e_aload_n (n := 31) dX0_sure_30 rfl 0 rfl ?_
      refine e_cR (n := 34) w fw_X0_way (gl_o q203) dX0_sure_31 rfl (fun r_7 w => ?_)
      obtain ⟨a_8, ha_8, w9a_8⟩ := w
      subst ha_8
      have w := w9a_8
      refine e_cI (n := 37) w fw_X6_sort (gl_n q501) dX0_sure_34 rfl (fun v_9 w => ?_)
      refine e_iconst (n := 38) (v := 1) dX0_sure_37 rfl (by decide) ?_
      refine e_icmp_le (n := 41) (tgt := 44) dX0_sure_38 rfl (by decide) (fun h => ?_) (fun h => ?_)
      · have w := w.1 h
        obtain ⟨hu1, hu2, w⟩ := w
        refine e_cnew (n := 47) w tyX7 tyX7_ok in_X7 rfl q516 q517 q73 (fun j hj => g_defX7 j hj) hu1 hu2 dX0_sure_44 rfl (fun q_11 σ_10 w => ?_)
        refine e_dup (n := 48) dX0_sure_47 rfl rfl ?_
        refine e_aload_n (n := 49) dX0_sure_48 rfl 0 rfl ?_
        refine e_aload_n (n := 50) dX0_sure_49 rfl 0 rfl ?_
        refine e_cR (n := 53) w fw_X0_text (gl_o q194) dX0_sure_50 rfl (fun r_12 w => ?_)
        obtain ⟨hu1, hu2, w⟩ := w
        refine e_cnew (n := 56) w tyX6 tyX6_ok in_X6 rfl q494 q495 q72 (fun j hj => g_defX6 j hj) hu1 hu2 dX0_sure_53 rfl (fun q_14 σ_13 w => ?_)
        refine e_dup (n := 57) dX0_sure_56 rfl rfl ?_
        refine e_aload_n (n := 58) dX0_sure_57 rfl 0 rfl ?_
        refine e_cR (n := 61) w fw_X0_way (gl_o q203) dX0_sure_58 rfl (fun r_15 w => ?_)
        obtain ⟨a_16, ha_16, w9a_16⟩ := w
        subst ha_16
        have w := w9a_16
        refine e_cI (n := 64) w fw_X6_sort (gl_n q501) dX0_sure_61 rfl (fun v_17 w => ?_)
        refine e_aload_n (n := 65) dX0_sure_64 rfl 0 rfl ?_
        refine e_cR (n := 68) w fw_X0_way (gl_o q203) dX0_sure_65 rfl (fun r_18 w => ?_)
        obtain ⟨a_19, ha_19, w9a_19⟩ := w
        subst ha_19
        have w := w9a_19
        refine e_cI (n := 71) w fw_X6_from (gl_n q503) dX0_sure_68 rfl (fun v_20 w => ?_)
        refine e_aload_n (n := 72) dX0_sure_71 rfl 0 rfl ?_
        refine e_cR (n := 75) w fw_X0_way (gl_o q203) dX0_sure_72 rfl (fun r_21 w => ?_)
        obtain ⟨a_22, ha_22, w9a_22⟩ := w
        subst ha_22
        have w := w9a_22
        refine e_cI (n := 78) w fw_X6_to (gl_n q505) dX0_sure_75 rfl (fun v_23 w => ?_)
        refine e_aload_n (n := 79) dX0_sure_78 rfl 0 rfl ?_
        refine e_cR (n := 82) w fw_X0_slips (gl_o q207) dX0_sure_79 rfl (fun r_24 w => ?_)
        refine e_iload_n (n := 83) dX0_sure_82 rfl 1 rfl ?_
        obtain ⟨a_25, ha_25, w9a_25⟩ := w
        subst ha_25
        have w := w9a_25
        obtain ⟨fs_27, wo, w⟩ := w
        refine e_callFW (n := 88) (As := [.int x1]) (st := [.int v_23, .int v_20, .int v_17, .ref q_14, .ref q_14, va_rf r_12, .ref x0, .ref q_11, .ref q_11]) okJ2_get q409 q412 q414 q60 q416 q411 q410 q415 q413 q286 rfl (by decide) wo rfl (by decide) hu1 hu2 rfl rfl (by cases r_12 <;> rfl) (by decide) dX0_sure_83 rfl (ctJ2_get w) (fun r9 σ9 hk => ?_)
        obtain ⟨r_26, rfl, hs9, w⟩ := hk
        rw [hs9]
        refine e_ccast (n := 91) (r := r_26) w gc_X8 q1070 dX0_sure_88 rfl (fun w => ?_)
        refine e_callI (n := 94) (As := [.int v_17, .int v_20, .int v_23, va_rf r_26]) (st := [.ref q_14, va_rf r_12, .ref x0, .ref q_11, .ref q_11]) okX6_init rfl rfl q496 q497 q72 q498 (by decide) hu1 hu2 rfl rfl (Nat.le_of_ble_eq_true (by cases r_12 <;> rfl)) dX0_sure_91 rfl (ctX6_init w) (fun r9 σ_28 hk => ?_)
        obtain ⟨rfl, w⟩ := hk
        obtain ⟨c_30, b_31, hu1, hu2, w⟩ := w
        refine e_callI (n := 97) (As := [va_rf (some x0), va_rf r_12, va_rf (some q_14)]) (st := [.ref q_11]) okX7_init rfl rfl q518 q519 q73 q520 (by decide) hu1 hu2 rfl rfl (Nat.le_of_ble_eq_true rfl) dX0_sure_94 rfl (ctX7_init w) (fun r9 σ_29 hk => ?_)
        obtain ⟨rfl, w⟩ := hk
        refine e_astore_n (n := 98) (lv' := [(0, .ref x0), (1, .int x1), (2, .ref q_11)]) [1, 2, 0] dX0_sure_97 rfl rfl rfl ?_
        refine e_aload_n (n := 99) dX0_sure_98 rfl 2 rfl ?_
        obtain ⟨fs_33, wo, w⟩ := w
        refine e_callV (n := 102) (As := []) (st := []) okX7_fill q975 q976 q977 q73 q978 rfl wo rfl (by decide) hu1 hu2 rfl rfl (Nat.le_of_ble_eq_true rfl) dX0_sure_99 rfl (ctX7_fill w) (fun r9 σ_32 hk => ?_)
        obtain ⟨rfl, w⟩ := hk
        refine e_aload_n (n := 103) dX0_sure_102 rfl 2 rfl ?_
        obtain ⟨fs_35, wo, w⟩ := w
        refine e_callV (n := 106) (As := []) (st := []) okX7_best q1002 q1003 q1004 q73 q1005 rfl wo rfl (by decide) hu1 hu2 rfl rfl (Nat.le_of_ble_eq_true rfl) dX0_sure_103 rfl (ctX7_best w) (fun r9 σ9 hk => ?_)
        obtain ⟨v_34, rfl, hs9, w⟩ := hk
        rw [hs9]
        refine e_istore_n (n := 107) (lv' := [(0, .ref x0), (1, .int x1), (2, .ref q_11), (3, .int v_34)]) [1, 2, 3, 0] dX0_sure_106 rfl rfl rfl ?_
        refine e_iload_n (n := 108) dX0_sure_107 rfl 3 rfl ?_
        refine e_bipush (n := 110) (v := (-4)) dX0_sure_108 rfl (by decide) ?_
        refine e_icmp_ne (n := 113) (tgt := 115) dX0_sure_110 rfl (by decide) (fun h => ?_) (fun h => ?_)
        · have w := w.2 h
          refine e_aload_n (n := 116) dX0_sure_115 rfl 2 rfl ?_
          refine e_cR (n := 119) w fw_X7_tree (gl_n q945) dX0_sure_116 rfl (fun r_36 w => ?_)
          refine e_aload_n (n := 120) dX0_sure_119 rfl 0 rfl ?_
          refine e_cI (n := 123) w fw_X0_start (gl_o q184) dX0_sure_120 rfl (fun v_37 w => ?_)
          obtain ⟨a_38, ha_38, w9a_38⟩ := w
          subst ha_38
          have w := w9a_38
          refine e_caR (n := 124) w (fun _ => rfl) rfl dX0_sure_123 rfl (fun r_39 w => ?_)
          refine e_aload_n (n := 125) dX0_sure_124 rfl 2 rfl ?_
          refine e_cR (n := 128) w fw_X7_knot (gl_n q929) dX0_sure_125 rfl (fun r_40 w => ?_)
          refine e_iconst (n := 129) (v := 0) dX0_sure_128 rfl (by decide) ?_
          obtain ⟨a_41, ha_41, w9a_41⟩ := w
          subst ha_41
          have w := w9a_41
          refine e_caI (n := 130) w dX0_sure_129 rfl (fun v_42 w => ?_)
          obtain ⟨a_43, ha_43, w9a_43⟩ := w
          subst ha_43
          have w := w9a_43
          refine e_caR (n := 131) w (fun _ => rfl) rfl dX0_sure_130 rfl (fun r_44 w => ?_)
          refine e_aload_n (n := 132) dX0_sure_131 rfl 2 rfl ?_
          refine e_cR (n := 135) w fw_X7_knot (gl_n q929) dX0_sure_132 rfl (fun r_45 w => ?_)
          refine e_iload_n (n := 136) dX0_sure_135 rfl 3 rfl ?_
          obtain ⟨a_46, ha_46, w9a_46⟩ := w
          subst ha_46
          have w := w9a_46
          refine e_caI (n := 137) w dX0_sure_136 rfl (fun v_47 w => ?_)
          obtain ⟨a_48, ha_48, w9a_48⟩ := w
          subst ha_48
          have w := w9a_48
          refine e_caJ (n := 138) w dX0_sure_137 rfl (fun v_49 w => ?_)
          refine e_lstore (n := 140) (lv' := [(0, .ref x0), (1, .int x1), (2, .ref q_11), (3, .int v_34), (4, .long v_49)]) [1, 2, 3, 4, 0] dX0_sure_138 rfl rfl rfl ?_
          refine e_lload (n := 142) dX0_sure_140 rfl 4 rfl ?_
          refine e_ldc2 (n := 145) q1006 dX0_sure_142 rfl ?_
          refine e_ldiv (n := 146) (by decide) dX0_sure_145 rfl ?_
          refine e_aload_n (n := 147) dX0_sure_146 rfl 2 rfl ?_
          refine e_cR (n := 150) w fw_X7_skipping (gl_n q940) dX0_sure_147 rfl (fun r_50 w => ?_)
          refine e_iload_n (n := 151) dX0_sure_150 rfl 3 rfl ?_
          obtain ⟨a_51, ha_51, w9a_51⟩ := w
          subst ha_51
          have w := w9a_51
          refine e_caR (n := 152) w (fun _ => rfl) rfl dX0_sure_151 rfl (fun r_52 w => ?_)
          refine e_aload_n (n := 153) dX0_sure_152 rfl 0 rfl ?_
          refine e_cR (n := 156) w fw_X0_text (gl_o q194) dX0_sure_153 rfl (fun r_53 w => ?_)
          obtain ⟨a_54, ha_54, w9a_54⟩ := w
          subst ha_54
          have w := w9a_54
          refine e_clen (n := 157) w dX0_sure_156 rfl (fun v_55 w => ?_)
          obtain ⟨a_56, ha_56, w9a_56⟩ := w
          subst ha_56
          have w := w9a_56
          refine e_caJ (n := 158) w dX0_sure_157 rfl (fun v_57 w => ?_)
          refine e_ladd (n := 159) dX0_sure_158 rfl ?_
          refine e_aload_n (n := 160) dX0_sure_159 rfl 0 rfl ?_
          refine e_cI (n := 163) w fw_X0_price (gl_o q202) dX0_sure_160 rfl (fun v_58 w => ?_)
          refine e_i2l (n := 164) dX0_sure_163 rfl ?_
          refine e_lcmp_le (n := 168) (tgt := 172) dX0_sure_164 dX0_sure_165 rfl (by decide) (fun h => ?_) (fun h => ?_)
          · have w := w.1 h
            refine e_iconst (n := 173) (v := 0) dX0_sure_172 rfl (by decide) ?_
            exact e_iret rfl hu1 hu2 ⟨_, rfl, w⟩ dX0_sure_173
          · have w := w.2 h
            refine e_iconst (n := 169) (v := 1) dX0_sure_168 rfl (by decide) ?_
            refine e_goto (n := 173) dX0_sure_169 (by decide) ?_
            exact e_iret rfl hu1 hu2 ⟨_, rfl, w⟩ dX0_sure_173
        · have w := w.1 h
          refine e_iconst (n := 114) (v := 1) dX0_sure_113 rfl (by decide) ?_
          exact e_iret rfl hu1 hu2 ⟨_, rfl, w⟩ dX0_sure_114
      · have w := w.2 h
        refine e_bipush (n := 43) (v := (-3)) dX0_sure_41 rfl (by decide) ?_
        exact e_iret rfl (Nat.zero_le _) (Nat.zero_le _) ⟨_, rfl, w⟩ dX0_sure_43
  · have w := w.1 h
    refine e_iconst (n := 22) (v := (-1)) dX0_sure_21 rfl (by decide) ?_
    exact e_iret rfl (Nat.zero_le _) (Nat.zero_le _) ⟨_, rfl, w⟩ dX0_sure_22
abbrev mX0_isShelf : gM := (yX0_isShelf, cX0_isShelf, 2, some .boolean)
theorem okX0_isShelf : g_ok mX0_isShelf 1 := ⟨by decide +kernel, by decide +kernel, by decide +kernel, by decide +kernel, by decide⟩
def wX0_isShelf (Q : Int32 → Prop) (σ : gH) (x0 : Nat) (x1 : Int32) : Prop := wX0_in (fun (v_1 : Int32) => t_b v_1 ∧ Q v_1) σ x1.toInt64 0 5
set_option maxHeartbeats 4000000 in
theorem ctX0_isShelf {Q : Int32 → Prop} {x0 : Nat} {x1 : Int32} {σ : gH} (w : wX0_isShelf Q σ x0 x1) : CT mX0_isShelf 2 0 0 [.ref x0, .int x1] σ (g_Pi σ Q) := by
  refine CT.of (lv := [(0, .ref x0), (1, .int x1)]) okX0_isShelf.1 rfl rfl ?_
  unfold wX0_isShelf at w
  refine e_iload_n (n := 1) dX0_isShelf_0 rfl 1 rfl ?_
  refine e_i2l (n := 2) dX0_isShelf_1 rfl ?_
  refine e_lconst (n := 3) (v := 0) dX0_isShelf_2 rfl (by decide) ?_
  refine e_ldc2 (n := 6) q1123 dX0_isShelf_3 rfl ?_
  refine e_callS (n := 9) (As := [.long x1.toInt64, .long 0, .long 5]) (st := []) okX0_in q279 q280 q57 q281 (by decide) (Nat.le_refl _) (Nat.le_refl _) rfl rfl (Nat.le_of_ble_eq_true rfl) dX0_isShelf_6 rfl (ctX0_in w) (fun r9 σ9 hk => ?_)
  obtain ⟨v_1, rfl, hs9, w⟩ := hk
  rw [hs9]
  exact e_zret rfl w.1.nar (Nat.le_refl _) (Nat.le_refl _) ⟨_, rfl, rfl, w.2⟩ dX0_isShelf_9
abbrev mX17_init : gM := (yX17_init, cX17_init, 1, none)
theorem okX17_init : g_ok mX17_init 0 := ⟨by decide +kernel, by decide +kernel, by decide +kernel, by decide +kernel, by decide⟩
def wX17_init (Q : gH → Prop) (x0 : Nat) (σ : gH) : Prop := Q σ
set_option maxHeartbeats 4000000 in
theorem ctX17_init {Q : gH → Prop} {x0 : Nat} {σ : gH} (w : wX17_init Q x0 σ) : CT mX17_init 1 0 0 [.ref x0] σ (c_Kv Q) := by
  refine CT.of (lv := [(0, .ref x0)]) okX17_init.1 rfl rfl ?_
  unfold wX17_init at w
  refine e_aload_n (n := 1) dX17_init_0 rfl 0 rfl ?_
  refine e_objInit (n := 4) q1132 q99 q100 (by decide) (Nat.le_of_ble_eq_true rfl) dX17_init_1 rfl ?_
  exact e_vret rfl (Nat.le_refl _) (Nat.le_refl _) ⟨rfl, w⟩ dX17_init_4
abbrev mX0_shelf : gM := (yX0_shelf, cX0_shelf, 2, some (.object "MendReader$Shelf"))
theorem okX0_shelf : g_ok mX0_shelf 1 := ⟨by decide +kernel, by decide +kernel, by decide +kernel, by decide +kernel, by decide⟩
def wX0_shelf_22 (Q : Option Nat → gH → Prop) (mc ms : Nat)  (uc : Nat) (us : Nat) (x0 : Nat) (x1 : Int32) (σ : gH) : Prop := c_R σ [0] x0 23 (fun r_4 => ∃ a_5 : Nat, r_4 = some a_5 ∧ (c_aR 6 σ a_5 x1 (fun r_6 => Q r_6 σ)))
def wX0_shelf (Q : Option Nat → gH → Prop) (mc ms : Nat) (x0 : Nat) (x1 : Int32) (σ : gH) : Prop := c_R σ [0] x0 23 (fun r_1 => ∃ a_2 : Nat, r_1 = some a_2 ∧ (c_aR 6 σ a_2 x1 (fun r_3 => (r_3 = none → (c_R σ [0] x0 23 (fun r_7 => 0 + 1 ≤ mc ∧ 0 + 1 ≤ ms ∧ c_new σ (.inr (17, [.null])) (fun q_9 σ_8 => wX17_init (fun (σ_10 : gH) => ∃ a_11 : Nat, r_7 = some a_11 ∧ (c_sR 6 [17] σ_10 a_11 x1 (some q_9) (fun σ_12 => wX0_shelf_22 Q mc ms (0 + 1) (0 + 1) x0 x1 σ_12))) q_9 σ_8)))) ∧ (¬ r_3 = none → (wX0_shelf_22 Q mc ms 0 0 x0 x1 σ)))))
set_option maxHeartbeats 4000000 in
theorem hX0_shelf_22 {Q : Option Nat → gH → Prop} {mc ms : Nat}  (uc : Nat) (us : Nat) (x0 : Nat) (x1 : Int32) (σ : gH) (hu1 : uc ≤ mc) (hu2 : us ≤ ms) (w : wX0_shelf_22 Q mc ms uc us x0 x1 σ) : E mX0_shelf 2 mc ms (g_z (c_Kr Q)) uc us 22 [(0, .ref x0), (1, .int x1)] [] σ := by
  unfold wX0_shelf_22 at w
  refine e_aload_n (n := 23) dX0_shelf_22 rfl 0 rfl ?_
  refine e_cR (n := 26) w fw_X0_shelves (gl_o q213) dX0_shelf_23 rfl (fun r_4 w => ?_)
  refine e_iload_n (n := 27) dX0_shelf_26 rfl 1 rfl ?_
  obtain ⟨a_5, ha_5, w9a_5⟩ := w
  subst ha_5
  have w := w9a_5
  refine e_caR (n := 28) w (fun _ => rfl) rfl dX0_shelf_27 rfl (fun r_6 w => ?_)
  exact e_aret (v := va_rf r_6) rfl (Or.inl ⟨_, rfl⟩) (rf_or _) hu1 hu2 ⟨_, rfl, w⟩ dX0_shelf_28
set_option maxHeartbeats 4000000 in
theorem ctX0_shelf {Q : Option Nat → gH → Prop} {mc ms : Nat} {x0 : Nat} {x1 : Int32} {σ : gH} (w : wX0_shelf Q mc ms x0 x1 σ) : CT mX0_shelf 2 mc ms [.ref x0, .int x1] σ (c_Kr Q) := by
  refine CT.of (lv := [(0, .ref x0), (1, .int x1)]) okX0_shelf.1 rfl rfl ?_
  unfold wX0_shelf at w
  refine e_aload_n (n := 1) dX0_shelf_0 rfl 0 rfl ?_
  refine e_cR (n := 4) w fw_X0_shelves (gl_o q213) dX0_shelf_1 rfl (fun r_1 w => ?_)
  refine e_iload_n (n := 5) dX0_shelf_4 rfl 1 rfl ?_
  obtain ⟨a_2, ha_2, w9a_2⟩ := w
  subst ha_2
  have w := w9a_2
  refine e_caR (n := 6) w (fun _ => rfl) rfl dX0_shelf_5 rfl (fun r_3 w => ?_)
  refine e_ifnonnull (n := 9) (tgt := 22) (r := r_3) dX0_shelf_6 rfl (by decide) (fun h => ?_) (fun h => ?_)
  · have w := w.2 h
    exact hX0_shelf_22 _ _ _ _ _ (Nat.zero_le _) (Nat.zero_le _) w
  · have w := w.1 h
    refine e_aload_n (n := 10) dX0_shelf_9 rfl 0 rfl ?_
    refine e_cR (n := 13) w fw_X0_shelves (gl_o q213) dX0_shelf_10 rfl (fun r_7 w => ?_)
    refine e_iload_n (n := 14) dX0_shelf_13 rfl 1 rfl ?_
    obtain ⟨hu1, hu2, w⟩ := w
    refine e_cnew (n := 17) w tyX17 tyX17_ok in_X17 rfl q165 q1128 q89 (fun j hj => g_defX17 j hj) hu1 hu2 dX0_shelf_14 rfl (fun q_9 σ_8 w => ?_)
    refine e_dup (n := 18) dX0_shelf_17 rfl rfl ?_
    refine e_callIN (n := 21) (As := []) (st := [.ref q_9, .int x1, va_rf r_7]) okX17_init rfl rfl q1129 q1130 q89 q1131 (by decide) hu1 hu2 rfl rfl (by cases r_7 <;> rfl) dX0_shelf_18 rfl (ctX17_init w) (fun r9 σ_10 hk => ?_)
    obtain ⟨rfl, w⟩ := hk
    obtain ⟨a_11, ha_11, w9a_11⟩ := w
    subst ha_11
    have w := w9a_11
    refine e_csR (n := 22) (r := some q_9) w tk_6 dX0_shelf_21 rfl (fun σ_12 w => ?_)
    exact hX0_shelf_22 _ _ _ _ _ hu1 hu2 w
abbrev mX0_cut : gM := (yX0_cut, cX0_cut, 3, some (.array .int))
theorem okX0_cut : g_ok mX0_cut 2 := ⟨by decide +kernel, by decide +kernel, by decide +kernel, by decide +kernel, by decide⟩
def wX0_cut (Q : Option Nat → gH → Prop) (mc ms : Nat) (x0 : Option Nat) (x1 : Int32) (σ : gH) : Prop := 0 + 1 ≤ mc ∧ 0 + x1.toNatClampNeg ≤ ms ∧ ¬ x1 < 0 ∧ x1.toNatClampNeg * 4 ≤ 536870912 ∧ c_new σ (.inl (0, x1.toNatClampNeg, .inl (fun _ => 0))) (fun q_2 σ_1 => ∃ a_3 : Nat, x0 = some a_3 ∧ (c_copyI σ_1 a_3 0 q_2 0 x1 (fun σ_4 => Q (some q_2) σ_4)))
set_option maxHeartbeats 4000000 in
theorem ctX0_cut {Q : Option Nat → gH → Prop} {mc ms : Nat} {x0 : Option Nat} {x1 : Int32} {σ : gH} (w : wX0_cut Q mc ms x0 x1 σ) : CT mX0_cut 1 mc ms [va_rf x0, .int x1] σ (c_Kr Q) := by
  refine CT.of (lv := [(0, va_rf x0), (1, .int x1)]) okX0_cut.1 (by cases x0 <;> rfl) (by cases x0 <;> rfl) ?_
  unfold wX0_cut at w
  refine e_iload_n (n := 1) dX0_cut_0 rfl 1 rfl ?_
  obtain ⟨hu1, hu2, w⟩ := w
  obtain ⟨wn, wb, w⟩ := w
  refine e_cnewI (n := 3) (z := x1) w wn wb hu1 hu2 dX0_cut_1 rfl (fun q_2 σ_1 w => ?_)
  refine e_astore_n (n := 4) (lv' := [(0, va_rf x0), (1, .int x1), (2, .ref q_2)]) [1, 2, 0] dX0_cut_3 rfl rfl rfl ?_
  refine e_aloadr_n (n := 5) (r := x0) dX0_cut_4 rfl 0 rfl ?_
  refine e_iconst (n := 6) (v := 0) dX0_cut_5 rfl (by decide) ?_
  refine e_aload_n (n := 7) dX0_cut_6 rfl 2 rfl ?_
  refine e_iconst (n := 8) (v := 0) dX0_cut_7 rfl (by decide) ?_
  refine e_iload_n (n := 9) dX0_cut_8 rfl 1 rfl ?_
  obtain ⟨a_3, ha_3, w9a_3⟩ := w
  subst ha_3
  have w := w9a_3
  refine e_ccopyI (n := 12) w q477 (by decide) rfl dX0_cut_9 rfl (fun σ_4 w => ?_)
  refine e_aload_n (n := 13) dX0_cut_12 rfl 2 rfl ?_
  exact e_aret (v := va_rf (some q_2)) rfl (Or.inr ⟨_, rfl⟩) (rf_or _) hu1 hu2 ⟨_, rfl, w⟩ dX0_cut_13
abbrev mX1_twin : gM := (yX1_twin, cX1_twin, 3, some (.object "MendReader$Tree"))
theorem okX1_twin : g_ok mX1_twin 0 := ⟨by decide +kernel, by decide +kernel, by decide +kernel, by decide +kernel, by decide⟩
def wX1_twin_18 (Q : Option Nat → gH → Prop) (mc ms : Nat) (k48 : Nat → Nat → Nat → gH → Prop) : Nat → Nat → Nat → Nat → Nat → Int32 → gH → Prop
  | 0 => fun _ _ _ _ _ _ => False
  | n + 1 => fun uc us x0 x1 x2 σ => (5 ≤ x2 → (k48 uc us x1 σ)) ∧ (¬ 5 ≤ x2 → (c_R σ [1] x1 0 (fun r_12 => c_R σ [1] x0 0 (fun r_13 => ∃ a_14 : Nat, r_13 = some a_14 ∧ (c_aR 3 σ a_14 x2 (fun r_15 => c_I σ [1] x0 1 (fun v_16 => ∃ c_19 b_20 : Nat, uc + c_19 ≤ mc ∧ us + b_20 ≤ ms ∧ wX0_cut (fun (r_18 : Option Nat) (σ_17 : gH) => ∃ a_21 : Nat, r_12 = some a_21 ∧ (∃ a_23 : Nat, r_18 = some a_23 ∧ (c_sA σ_17 a_21 x2 a_23 (fun σ_22 => ∀ x2_24 : Int32, x2_24 = x2 + 1 → (wX1_twin_18 Q mc ms k48 n (uc + c_19) (us + b_20) x0 x1 x2_24 σ_22))))) c_19 b_20 r_15 v_16 σ)))))))
def wX1_twin (Q : Option Nat → gH → Prop) (mc ms : Nat) (x0 : Nat) (σ : gH) : Prop := 0 + 1 ≤ mc ∧ 0 + 2 ≤ ms ∧ c_new σ (.inr (1, [.null, .int 0])) (fun q_2 σ_1 => ∃ c_4 b_5 : Nat, (0 + 1) + c_4 ≤ mc ∧ (0 + 2) + b_5 ≤ ms ∧ wX1_init (fun (σ_3 : gH) => c_I σ_3 [1] x0 1 (fun v_6 => c_P σ_3 [1] q_2 1 (.int v_6) (fun σ_7 => ∃ fu : Nat, wX1_twin_18 Q mc ms (fun (uc_10 : Nat) (us_11 : Nat) (x1_8 : Nat) (σ_9 : gH) => Q (some x1_8) σ_9) fu ((0 + 1) + c_4) ((0 + 2) + b_5) x0 q_2 0 σ_7))) c_4 b_5 q_2 σ_1)
set_option maxHeartbeats 4000000 in
theorem hX1_twin_18 {Q : Option Nat → gH → Prop} {mc ms : Nat} {k48 : Nat → Nat → Nat → gH → Prop} (hk48 : ∀ (uc : Nat) (us : Nat) (x1 : Nat) (σ : gH), uc ≤ mc → us ≤ ms → k48 uc us x1 σ → E mX1_twin 2 mc ms (g_z (c_Kr Q)) uc us 48 [(1, .ref x1)] [] σ) : ∀ (n : Nat) (uc : Nat) (us : Nat) (x0 : Nat) (x1 : Nat) (x2 : Int32) (σ : gH) (hu1 : uc ≤ mc) (hu2 : us ≤ ms), wX1_twin_18 Q mc ms k48 n uc us x0 x1 x2 σ → E mX1_twin 2 mc ms (g_z (c_Kr Q)) uc us 18 [(0, .ref x0), (1, .ref x1), (2, .int x2)] [] σ := by
  intro n
  induction n with
  | zero =>
    intro _ _ _ _ _ _ _ _ w
    exact w.elim
  | succ n ih =>
    intro uc us x0 x1 x2 σ hu1 hu2 w
    unfold wX1_twin_18 at w
    refine e_iload_n (n := 19) dX1_twin_18 rfl 2 rfl ?_
    refine e_iconst (n := 20) (v := 5) dX1_twin_19 rfl (by decide) ?_
    refine e_icmp_ge (n := 23) (tgt := 48) dX1_twin_20 rfl (by decide) (fun h => ?_) (fun h => ?_)
    · have w := w.1 h
      refine e_sub (lv' := [(1, .ref x1)]) [1] rfl ?_
      exact hk48 _ _ _ _ hu1 hu2 w
    · have w := w.2 h
      refine e_aload_n (n := 24) dX1_twin_23 rfl 1 rfl ?_
      refine e_cR (n := 27) w fw_X1_cells (gl_o q141) dX1_twin_24 rfl (fun r_12 w => ?_)
      refine e_iload_n (n := 28) dX1_twin_27 rfl 2 rfl ?_
      refine e_aload_n (n := 29) dX1_twin_28 rfl 0 rfl ?_
      refine e_cR (n := 32) w fw_X1_cells (gl_o q141) dX1_twin_29 rfl (fun r_13 w => ?_)
      refine e_iload_n (n := 33) dX1_twin_32 rfl 2 rfl ?_
      obtain ⟨a_14, ha_14, w9a_14⟩ := w
      subst ha_14
      have w := w9a_14
      refine e_caR (n := 34) w (fun _ => rfl) rfl dX1_twin_33 rfl (fun r_15 w => ?_)
      refine e_aload_n (n := 35) dX1_twin_34 rfl 0 rfl ?_
      refine e_cI (n := 38) w fw_X1_size (gl_o q144) dX1_twin_35 rfl (fun v_16 w => ?_)
      obtain ⟨c_19, b_20, hu1, hu2, w⟩ := w
      refine e_callSN (n := 41) (As := [va_rf r_15, .int v_16]) (st := [.int x2, va_rf r_12]) okX0_cut q1146 q1138 q57 q1139 (by decide) hu1 hu2 rfl rfl (by cases r_12 <;> rfl) dX1_twin_38 rfl (ctX0_cut w) (fun r9 σ_17 hk => ?_)
      obtain ⟨r_18, rfl, w⟩ := hk
      obtain ⟨a_21, ha_21, w9a_21⟩ := w
      subst ha_21
      have w := w9a_21
      obtain ⟨a_23, ha_23, w9a_23⟩ := w
      subst ha_23
      have w := w9a_23
      refine e_csA (n := 42) w dX1_twin_41 rfl (fun σ_22 w => ?_)
      obtain ⟨x2_24, hx2_24⟩ : ∃ y : Int32, y = x2 + 1 := ⟨_, rfl⟩
      have w := w x2_24 hx2_24
      refine e_iinc (n := 45) (v := x2_24) (lv' := [(0, .ref x0), (1, .ref x1), (2, .int x2_24)]) [1, 2, 0] dX1_twin_42 rfl 2 rfl (by rw [hx2_24]; rfl) rfl rfl ?_
      refine e_goto (n := 18) dX1_twin_45 (by decide) ?_
      exact ih _ _ _ _ _ _ hu1 hu2 w
set_option maxHeartbeats 4000000 in
theorem ctX1_twin {Q : Option Nat → gH → Prop} {mc ms : Nat} {x0 : Nat} {σ : gH} (w : wX1_twin Q mc ms x0 σ) : CT mX1_twin 2 mc ms [.ref x0] σ (c_Kr Q) := by
  refine CT.of (lv := [(0, .ref x0)]) okX1_twin.1 rfl rfl ?_
  unfold wX1_twin at w
  obtain ⟨hu1, hu2, w⟩ := w
  refine e_cnew (n := 3) w tyX1 tyX1_ok in_X1 rfl q1144 q135 q61 (fun j hj => g_defX1 j hj) hu1 hu2 dX1_twin_0 rfl (fun q_2 σ_1 w => ?_)
  refine e_dup (n := 4) dX1_twin_3 rfl rfl ?_
  obtain ⟨c_4, b_5, hu1, hu2, w⟩ := w
  refine e_callI (n := 7) (As := []) (st := [.ref q_2]) okX1_init rfl rfl q1145 q137 q61 q138 (by decide) hu1 hu2 rfl rfl (Nat.le_of_ble_eq_true rfl) dX1_twin_4 rfl (ctX1_init w) (fun r9 σ_3 hk => ?_)
  obtain ⟨rfl, w⟩ := hk
  refine e_astore_n (n := 8) (lv' := [(0, .ref x0), (1, .ref q_2)]) [1, 0] dX1_twin_7 rfl rfl rfl ?_
  refine e_aload_n (n := 9) dX1_twin_8 rfl 1 rfl ?_
  refine e_aload_n (n := 10) dX1_twin_9 rfl 0 rfl ?_
  refine e_cI (n := 13) w fw_X1_size (gl_o q144) dX1_twin_10 rfl (fun v_6 w => ?_)
  refine e_cP (n := 16) (ty := .int) w tyX1 tyX1_ok nmX1 in_X1 rfl rfl (gl_o q144) rfl rfl ⟨rfl, rfl⟩ dX1_twin_13 rfl (fun σ_7 w => ?_)
  refine e_iconst (n := 17) (v := 0) dX1_twin_16 rfl (by decide) ?_
  refine e_istore_n (n := 18) (lv' := [(0, .ref x0), (1, .ref q_2), (2, .int 0)]) [1, 2, 0] dX1_twin_17 rfl rfl rfl ?_
  obtain ⟨fu, w⟩ := w
  refine hX1_twin_18 (fun uc_10 us_11 x1_8 σ_9 hu1 hu2 w => ?_) fu _ _ _ _ _ _ hu1 hu2 w
  refine e_aload_n (n := 49) dX1_twin_48 rfl 0 rfl ?_
  exact e_aret (v := va_rf (some x1_8)) rfl (Or.inl ⟨_, rfl⟩) (rf_or _) hu1 hu2 ⟨_, rfl, w⟩ dX1_twin_49
abbrev mX0_shelve : gM := (yX0_shelve, cX0_shelve, 3, some .int)
theorem okX0_shelve : g_ok mX0_shelve 2 := ⟨by decide +kernel, by decide +kernel, by decide +kernel, by decide +kernel, by decide⟩
def wX0_shelve_109 (Q : Int32 → gH → Prop) (mc ms : Nat)  (uc : Nat) (us : Nat) (t0 : Option Nat) (t1 : Option Nat) (σ : gH) : Prop := ∃ a_11 : Nat, t0 = some a_11 ∧ (c_P σ [17] a_11 0 (va_rf t1) (fun σ_12 => Q 1 σ_12))
def wX0_shelve_46 (Q : Int32 → gH → Prop) (mc ms : Nat)  (uc : Nat) (us : Nat) (x0 : Nat) (x1 : Int32) (x2 : Int32) (σ : gH) : Prop := ∃ fs_9 : List Value, σ.2 x0 = some (.inr (0, fs_9)) ∧ ∃ c_7 b_8 : Nat, uc + c_7 ≤ mc ∧ us + b_8 ≤ ms ∧ (wX0_shelf (fun (r_6 : Option Nat) (σ_5 : gH) => (x2 = 0 → (wX0_shelve_109 Q mc ms (uc + c_7) (us + b_8) r_6 none σ_5)) ∧ (¬ x2 = 0 → ((x2 = 1 → (c_R σ_5 [0] x0 21 (fun r_21 => c_I σ_5 [0] x0 22 (fun v_22 => ∃ c_25 b_26 : Nat, (uc + c_7) + c_25 ≤ mc ∧ (us + b_8) + b_26 ≤ ms ∧ wX0_cut (fun (r_24 : Option Nat) (σ_23 : gH) => wX0_shelve_109 Q mc ms ((uc + c_7) + c_25) ((us + b_8) + b_26) r_6 r_24 σ_23) c_25 b_26 r_21 v_22 σ_5)))) ∧ (¬ x2 = 1 → ((x2 = 2 → (c_R σ_5 [0] x0 18 (fun r_14 => ∃ a_15 : Nat, r_14 = some a_15 ∧ (∃ fs_20 : List Value, σ_5.2 a_15 = some (.inr (1, fs_20)) ∧ ∃ c_18 b_19 : Nat, (uc + c_7) + c_18 ≤ mc ∧ (us + b_8) + b_19 ≤ ms ∧ (wX1_twin (fun (r_17 : Option Nat) (σ_16 : gH) => wX0_shelve_109 Q mc ms ((uc + c_7) + c_18) ((us + b_8) + b_19) r_6 r_17 σ_16) c_18 b_19 a_15 σ_5))))) ∧ (¬ x2 = 2 → ((x2 = 3 → (c_R σ_5 [0] x0 20 (fun r_13 => wX0_shelve_109 Q mc ms (uc + c_7) (us + b_8) r_6 r_13 σ_5))) ∧ (¬ x2 = 3 → (c_R σ_5 [0] x0 11 (fun r_10 => wX0_shelve_109 Q mc ms (uc + c_7) (us + b_8) r_6 r_10 σ_5)))))))))) c_7 b_8 x0 x1 σ)
def wX0_shelve (Q : Int32 → gH → Prop) (mc ms : Nat) (x0 : Nat) (x1 : Int32) (x2 : Int32) (σ : gH) : Prop := ∃ fs_2 : List Value, σ.2 x0 = some (.inr (0, fs_2)) ∧ (wX0_isShelf (fun (v_1 : Int32) => (v_1 = 0 → (Q (-1) σ)) ∧ (¬ v_1 = 0 → (wX0_in (fun (v_3 : Int32) => (v_3 = 0 → (Q (-1) σ)) ∧ (¬ v_3 = 0 → (wX0_in (fun (v_4 : Int32) => (v_4 = 0 → (wX0_shelve_46 Q mc ms 0 0 x0 x1 x2 σ)) ∧ (¬ v_4 = 0 → (c_I σ [0] x0 16 (fun v_27 => (v_27 = (-4) → (Q (-3) σ)) ∧ (¬ v_27 = (-4) → (wX0_shelve_46 Q mc ms 0 0 x0 x1 x2 σ)))))) σ x2.toInt64 1 3))) σ x2.toInt64 0 4))) σ x0 x1)
set_option maxHeartbeats 4000000 in
theorem hX0_shelve_109 {Q : Int32 → gH → Prop} {mc ms : Nat}  (uc : Nat) (us : Nat) (t0 : Option Nat) (t1 : Option Nat) (σ : gH) (hu1 : uc ≤ mc) (hu2 : us ≤ ms) (w : wX0_shelve_109 Q mc ms uc us t0 t1 σ) : E mX0_shelve 3 mc ms (g_z (c_Ki Q)) uc us 109 [] [va_rf t1, va_rf t0] σ := by
  unfold wX0_shelve_109 at w
  obtain ⟨a_11, ha_11, w9a_11⟩ := w
  subst ha_11
  have w := w9a_11
  refine e_cP (n := 112) (ty := (.object "java/lang/Object")) w tyX17 tyX17_ok nmX17 in_X17 rfl rfl (gl_n q1133) rfl rfl (rf_nar _ t1) dX0_shelve_109 rfl (fun σ_12 w => ?_)
  refine e_iconst (n := 113) (v := 1) dX0_shelve_112 rfl (by decide) ?_
  exact e_iret rfl hu1 hu2 ⟨_, rfl, w⟩ dX0_shelve_113
set_option maxHeartbeats 4000000 in
theorem hX0_shelve_46 {Q : Int32 → gH → Prop} {mc ms : Nat}  (uc : Nat) (us : Nat) (x0 : Nat) (x1 : Int32) (x2 : Int32) (σ : gH) (hu1 : uc ≤ mc) (hu2 : us ≤ ms) (w : wX0_shelve_46 Q mc ms uc us x0 x1 x2 σ) : E mX0_shelve 3 mc ms (g_z (c_Ki Q)) uc us 46 [(0, .ref x0), (1, .int x1), (2, .int x2)] [] σ := by
  unfold wX0_shelve_46 at w
  refine e_aload_n (n := 47) dX0_shelve_46 rfl 0 rfl ?_
  refine e_iload_n (n := 48) dX0_shelve_47 rfl 1 rfl ?_
  obtain ⟨fs_9, wo, w⟩ := w
  obtain ⟨c_7, b_8, hu1, hu2, w⟩ := w
  refine e_callV (n := 51) (As := [.int x1]) (st := []) okX0_shelf q1124 q1126 qs21 q57 q1127 rfl wo rfl (by decide) hu1 hu2 rfl rfl (Nat.le_of_ble_eq_true rfl) dX0_shelve_48 rfl (ctX0_shelf w) (fun r9 σ_5 hk => ?_)
  obtain ⟨r_6, rfl, w⟩ := hk
  refine e_iload_n (n := 52) dX0_shelve_51 rfl 2 rfl ?_
  refine e_if_ne (n := 55) (tgt := 59) dX0_shelve_52 rfl (by decide) (fun h => ?_) (fun h => ?_)
  · have w := w.2 h
    refine e_iload_n (n := 60) dX0_shelve_59 rfl 2 rfl ?_
    refine e_iconst (n := 61) (v := 1) dX0_shelve_60 rfl (by decide) ?_
    refine e_icmp_ne (n := 64) (tgt := 78) dX0_shelve_61 rfl (by decide) (fun h => ?_) (fun h => ?_)
    · have w := w.2 h
      refine e_iload_n (n := 79) dX0_shelve_78 rfl 2 rfl ?_
      refine e_iconst (n := 80) (v := 2) dX0_shelve_79 rfl (by decide) ?_
      refine e_icmp_ne (n := 83) (tgt := 93) dX0_shelve_80 rfl (by decide) (fun h => ?_) (fun h => ?_)
      · have w := w.2 h
        refine e_iload_n (n := 94) dX0_shelve_93 rfl 2 rfl ?_
        refine e_iconst (n := 95) (v := 3) dX0_shelve_94 rfl (by decide) ?_
        refine e_icmp_ne (n := 98) (tgt := 105) dX0_shelve_95 rfl (by decide) (fun h => ?_) (fun h => ?_)
        · have w := w.2 h
          refine e_aload_n (n := 106) dX0_shelve_105 rfl 0 rfl ?_
          refine e_cR (n := 109) w fw_X0_text (gl_o q194) dX0_shelve_106 rfl (fun r_10 w => ?_)
          refine e_sub (lv' := []) [] rfl ?_
          exact hX0_shelve_109 _ _ _ _ _ hu1 hu2 w
        · have w := w.1 h
          refine e_aload_n (n := 99) dX0_shelve_98 rfl 0 rfl ?_
          refine e_cR (n := 102) w fw_X0_latest (gl_o q208) dX0_shelve_99 rfl (fun r_13 w => ?_)
          refine e_goto (n := 109) dX0_shelve_102 (by decide) ?_
          refine e_sub (lv' := []) [] rfl ?_
          exact hX0_shelve_109 _ _ _ _ _ hu1 hu2 w
      · have w := w.1 h
        refine e_aload_n (n := 84) dX0_shelve_83 rfl 0 rfl ?_
        refine e_cR (n := 87) w fw_X0_tree (gl_o q204) dX0_shelve_84 rfl (fun r_14 w => ?_)
        obtain ⟨a_15, ha_15, w9a_15⟩ := w
        subst ha_15
        have w := w9a_15
        obtain ⟨fs_20, wo, w⟩ := w
        obtain ⟨c_18, b_19, hu1, hu2, w⟩ := w
        refine e_callV (n := 90) (As := []) (st := [va_rf r_6]) okX1_twin q1140 q1141 q1142 q61 q1143 rfl wo rfl (by decide) hu1 hu2 rfl rfl (Nat.le_of_ble_eq_true (by cases r_6 <;> rfl)) dX0_shelve_87 rfl (ctX1_twin w) (fun r9 σ_16 hk => ?_)
        obtain ⟨r_17, rfl, w⟩ := hk
        refine e_goto (n := 109) dX0_shelve_90 (by decide) ?_
        refine e_sub (lv' := []) [] rfl ?_
        exact hX0_shelve_109 _ _ _ _ _ hu1 hu2 w
    · have w := w.1 h
      refine e_aload_n (n := 65) dX0_shelve_64 rfl 0 rfl ?_
      refine e_cR (n := 68) w fw_X0_words (gl_o q209) dX0_shelve_65 rfl (fun r_21 w => ?_)
      refine e_aload_n (n := 69) dX0_shelve_68 rfl 0 rfl ?_
      refine e_cI (n := 72) w fw_X0_wordMany (gl_o q212) dX0_shelve_69 rfl (fun v_22 w => ?_)
      obtain ⟨c_25, b_26, hu1, hu2, w⟩ := w
      refine e_callS (n := 75) (As := [va_rf r_21, .int v_22]) (st := [va_rf r_6]) okX0_cut q1137 q1138 q57 q1139 (by decide) hu1 hu2 rfl rfl (Nat.le_of_ble_eq_true (by cases r_6 <;> rfl)) dX0_shelve_72 rfl (ctX0_cut w) (fun r9 σ_23 hk => ?_)
      obtain ⟨r_24, rfl, w⟩ := hk
      refine e_goto (n := 109) dX0_shelve_75 (by decide) ?_
      refine e_sub (lv' := []) [] rfl ?_
      exact hX0_shelve_109 _ _ _ _ _ hu1 hu2 w
  · have w := w.1 h
    refine e_null (n := 56) dX0_shelve_55 rfl ?_
    refine e_goto (n := 109) dX0_shelve_56 (by decide) ?_
    refine e_sub (lv' := []) [] rfl ?_
    exact hX0_shelve_109 _ _ _ _ _ hu1 hu2 w
set_option maxHeartbeats 4000000 in
theorem ctX0_shelve {Q : Int32 → gH → Prop} {mc ms : Nat} {x0 : Nat} {x1 : Int32} {x2 : Int32} {σ : gH} (w : wX0_shelve Q mc ms x0 x1 x2 σ) : CT mX0_shelve 3 mc ms [.ref x0, .int x1, .int x2] σ (c_Ki Q) := by
  refine CT.of (lv := [(0, .ref x0), (1, .int x1), (2, .int x2)]) okX0_shelve.1 rfl rfl ?_
  unfold wX0_shelve at w
  refine e_aload_n (n := 1) dX0_shelve_0 rfl 0 rfl ?_
  refine e_iload_n (n := 2) dX0_shelve_1 rfl 1 rfl ?_
  obtain ⟨fs_2, wo, w⟩ := w
  refine e_callV (n := 5) (As := [.int x1]) (st := []) okX0_isShelf q1119 q1121 qs20 q57 q1122 rfl wo rfl (by decide) (Nat.zero_le _) (Nat.zero_le _) rfl rfl (Nat.le_of_ble_eq_true rfl) dX0_shelve_2 rfl (ctX0_isShelf w) (fun r9 σ9 hk => ?_)
  obtain ⟨v_1, rfl, hs9, w⟩ := hk
  rw [hs9]
  refine e_if_eq (n := 8) (tgt := 20) dX0_shelve_5 rfl (by decide) (fun h => ?_) (fun h => ?_)
  · have w := w.1 h
    refine e_iconst (n := 21) (v := (-1)) dX0_shelve_20 rfl (by decide) ?_
    exact e_iret rfl (Nat.zero_le _) (Nat.zero_le _) ⟨_, rfl, w⟩ dX0_shelve_21
  · have w := w.2 h
    refine e_iload_n (n := 9) dX0_shelve_8 rfl 2 rfl ?_
    refine e_i2l (n := 10) dX0_shelve_9 rfl ?_
    refine e_lconst (n := 11) (v := 0) dX0_shelve_10 rfl (by decide) ?_
    refine e_ldc2 (n := 14) q435 dX0_shelve_11 rfl ?_
    refine e_callS (n := 17) (As := [.long x2.toInt64, .long 0, .long 4]) (st := []) okX0_in q279 q280 q57 q281 (by decide) (Nat.zero_le _) (Nat.zero_le _) rfl rfl (Nat.le_of_ble_eq_true rfl) dX0_shelve_14 rfl (ctX0_in w) (fun r9 σ9 hk => ?_)
    obtain ⟨v_3, rfl, hs9, w⟩ := hk
    rw [hs9]
    refine e_if_ne (n := 20) (tgt := 22) dX0_shelve_17 rfl (by decide) (fun h => ?_) (fun h => ?_)
    · have w := w.2 h
      refine e_iload_n (n := 23) dX0_shelve_22 rfl 2 rfl ?_
      refine e_i2l (n := 24) dX0_shelve_23 rfl ?_
      refine e_lconst (n := 25) (v := 1) dX0_shelve_24 rfl (by decide) ?_
      refine e_ldc2 (n := 28) q1102 dX0_shelve_25 rfl ?_
      refine e_callS (n := 31) (As := [.long x2.toInt64, .long 1, .long 3]) (st := []) okX0_in q279 q280 q57 q281 (by decide) (Nat.zero_le _) (Nat.zero_le _) rfl rfl (Nat.le_of_ble_eq_true rfl) dX0_shelve_28 rfl (ctX0_in w) (fun r9 σ9 hk => ?_)
      obtain ⟨v_4, rfl, hs9, w⟩ := hk
      rw [hs9]
      refine e_if_eq (n := 34) (tgt := 46) dX0_shelve_31 rfl (by decide) (fun h => ?_) (fun h => ?_)
      · have w := w.1 h
        exact hX0_shelve_46 _ _ _ _ _ _ (Nat.zero_le _) (Nat.zero_le _) w
      · have w := w.2 h
        refine e_aload_n (n := 35) dX0_shelve_34 rfl 0 rfl ?_
        refine e_cI (n := 38) w fw_X0_price (gl_o q202) dX0_shelve_35 rfl (fun v_27 w => ?_)
        refine e_bipush (n := 40) (v := (-4)) dX0_shelve_38 rfl (by decide) ?_
        refine e_icmp_ne (n := 43) (tgt := 46) dX0_shelve_40 rfl (by decide) (fun h => ?_) (fun h => ?_)
        · have w := w.2 h
          exact hX0_shelve_46 _ _ _ _ _ _ (Nat.zero_le _) (Nat.zero_le _) w
        · have w := w.1 h
          refine e_bipush (n := 45) (v := (-3)) dX0_shelve_43 rfl (by decide) ?_
          exact e_iret rfl (Nat.zero_le _) (Nat.zero_le _) ⟨_, rfl, w⟩ dX0_shelve_45
    · have w := w.1 h
      refine e_iconst (n := 21) (v := (-1)) dX0_shelve_20 rfl (by decide) ?_
      exact e_iret rfl (Nat.zero_le _) (Nat.zero_le _) ⟨_, rfl, w⟩ dX0_shelve_21
abbrev mX7_along : gM := (yX7_along, cX7_along, 7, some .long)
theorem okX7_along : g_ok mX7_along 1 := ⟨by decide +kernel, by decide +kernel, by decide +kernel, by decide +kernel, by decide⟩
def wX7_along_145 (Q : Int64 → gH → Prop) (mc ms : Nat) (k187 : Nat → Nat → Int64 → gH → Prop) : Nat → Nat → Nat → Nat → Nat → Int64 → Int32 → gH → Prop
  | 0 => fun _ _ _ _ _ _ _ => False
  | n + 1 => fun uc us x0 x2 x3 x5 σ => c_I σ [7] x0 1 (fun v_18 => (v_18 < x5 → (k187 uc us x3 σ)) ∧ (¬ v_18 < x5 → (c_R σ [7] x0 3 (fun r_19 => ∃ a_20 : Nat, r_19 = some a_20 ∧ (c_aI σ a_20 x5 (fun v_21 => c_aJ σ x2 v_21 (fun v_22 => c_R σ [7] x0 8 (fun r_23 => ∃ a_24 : Nat, r_23 = some a_24 ∧ (c_aR 4 σ a_24 x5 (fun r_25 => c_I σ [7] x0 1 (fun v_26 => ∃ a_27 : Nat, r_25 = some a_27 ∧ (c_aJ σ a_27 v_26 (fun v_28 => wJ4_min_2 (fun (v_29 : Int64) => ∀ x5_30 : Int32, x5_30 = x5 + 1 → (wX7_along_145 Q mc ms k187 n uc us x0 x2 v_29 x5_30 σ)) σ x3 (v_22 + v_28))))))))))))))
def wX7_along_78 (Q : Int64 → gH → Prop) (mc ms : Nat) (k123 : Nat → Nat → Nat → (Option Nat) → Nat → Int32 → Nat → Int32 → gH → Prop) : Nat → Nat → Nat → Nat → (Option Nat) → Nat → Int32 → Nat → Int32 → Int32 → gH → Prop
  | 0 => fun _ _ _ _ _ _ _ _ _ _ => False
  | n + 1 => fun uc us x0 x1 x2 x3 x4 x5 x6 σ => (x5 < x6 → (k123 uc us x0 x1 x2 x3 x4 x5 σ)) ∧ (¬ x5 < x6 → (c_aJ σ x4 x5 (fun v_55 => c_aJ σ x2 x6 (fun v_56 => c_R σ [7] x0 9 (fun r_57 => ∃ a_58 : Nat, x1 = some a_58 ∧ (c_aI σ a_58 x3 (fun v_59 => ∃ a_60 : Nat, r_57 = some a_60 ∧ (c_aR 5 σ a_60 v_59 (fun r_61 => ∃ a_62 : Nat, r_61 = some a_62 ∧ (c_aR 4 σ a_62 x6 (fun r_63 => ∃ a_64 : Nat, r_63 = some a_64 ∧ (c_aJ σ a_64 x5 (fun v_65 => wJ4_min_2 (fun (v_66 : Int64) => c_sJ σ x4 x5 v_66 (fun σ_67 => ∀ x6_68 : Int32, x6_68 = x6 + 1 → (wX7_along_78 Q mc ms k123 n uc us x0 (some a_58) x2 x3 x4 x5 x6_68 σ_67))) σ v_55 (v_56 + v_65))))))))))))))
def wX7_along_58 (Q : Int64 → gH → Prop) (mc ms : Nat) (k129 : Nat → Nat → Nat → (Option Nat) → Int32 → Nat → gH → Prop) : Nat → Nat → Nat → Nat → (Option Nat) → Nat → Int32 → Nat → Int32 → gH → Prop
  | 0 => fun _ _ _ _ _ _ _ _ _ => False
  | n + 1 => fun uc us x0 x1 x2 x3 x4 x5 σ => c_I σ [7] x0 5 (fun v_43 => (v_43 ≤ x5 → (k129 uc us x0 x1 x3 x4 σ)) ∧ (¬ v_43 ≤ x5 → (c_sJ σ x4 x5 1152921504606846976 (fun σ_44 => ∃ fu : Nat, wX7_along_78 Q mc ms (fun (uc_52 : Nat) (us_53 : Nat) (x0_45 : Nat) (x1_46 : Option Nat) (x2_47 : Nat) (x3_48 : Int32) (x4_49 : Nat) (x5_50 : Int32) (σ_51 : gH) => ∀ x5_54 : Int32, x5_54 = x5_50 + 1 → (wX7_along_58 Q mc ms k129 n uc_52 us_53 x0_45 x1_46 x2_47 x3_48 x4_49 x5_54 σ_51)) fu uc us x0 x1 x2 x3 x4 x5 0 σ_44))))
def wX7_along_43 (Q : Int64 → gH → Prop) (mc ms : Nat) (k138 : Nat → Nat → Nat → Nat → gH → Prop) : Nat → Nat → Nat → Nat → (Option Nat) → Nat → Int32 → gH → Prop
  | 0 => fun _ _ _ _ _ _ _ => False
  | n + 1 => fun uc us x0 x1 x2 x3 σ => ∃ a_31 : Nat, x1 = some a_31 ∧ (c_len σ a_31 (fun v_32 => (v_32 ≤ x3 → (k138 uc us x0 x2 σ)) ∧ (¬ v_32 ≤ x3 → (uc + 1 ≤ mc ∧ us + (55 : Int32).toNatClampNeg ≤ ms ∧ ¬ (55 : Int32) < 0 ∧ (55 : Int32).toNatClampNeg * 8 ≤ 536870912 ∧ c_new σ (.inl (1, (55 : Int32).toNatClampNeg, .inr (.inl (fun _ => 0)))) (fun q_34 σ_33 => ∃ fu : Nat, wX7_along_58 Q mc ms (fun (uc_40 : Nat) (us_41 : Nat) (x0_35 : Nat) (x1_36 : Option Nat) (x3_37 : Int32) (x4_38 : Nat) (σ_39 : gH) => ∀ x3_42 : Int32, x3_42 = x3_37 + 1 → (wX7_along_43 Q mc ms k138 n uc_40 us_41 x0_35 x1_36 x4_38 x3_42 σ_39)) fu (uc + 1) (us + (55 : Int32).toNatClampNeg) x0 (some a_31) x2 x3 q_34 0 σ_33)))))
def wX7_along_34 (Q : Int64 → gH → Prop) (mc ms : Nat) (kh : Nat → Nat → Nat → (Option Nat) → Nat → Int32 → gH → Prop) (k41 : Nat → Nat → Nat → (Option Nat) → Nat → gH → Prop) (uc : Nat) (us : Nat) (t0 : Nat) (t1 : Int32) (t2 : Int64) (x0 : Nat) (x1 : Option Nat) (x2 : Nat) (x3 : Int32) (σ : gH) : Prop := c_sJ σ t0 t1 t2 (fun σ_73 => ∀ x3_74 : Int32, x3_74 = x3 + 1 → (kh uc us x0 x1 x2 x3_74 σ_73))
def wX7_along_7 (Q : Int64 → gH → Prop) (mc ms : Nat) (k41 : Nat → Nat → Nat → (Option Nat) → Nat → gH → Prop) : Nat → Nat → Nat → Nat → (Option Nat) → Nat → Int32 → gH → Prop
  | 0 => fun _ _ _ _ _ _ _ => False
  | n + 1 => fun uc us x0 x1 x2 x3 σ => c_I σ [7] x0 5 (fun v_69 => (v_69 ≤ x3 → (k41 uc us x0 x1 x2 σ)) ∧ (¬ v_69 ≤ x3 → (c_R σ [7] x0 3 (fun r_70 => ∃ a_71 : Nat, r_70 = some a_71 ∧ (c_aI σ a_71 0 (fun v_72 => (x3 = v_72 → (wX7_along_34 Q mc ms (wX7_along_7 Q mc ms k41 n) k41 uc us x2 x3 0 x0 x1 x2 x3 σ)) ∧ (¬ x3 = v_72 → (wX7_along_34 Q mc ms (wX7_along_7 Q mc ms k41 n) k41 uc us x2 x3 1152921504606846976 x0 x1 x2 x3 σ))))))))
def wX7_along (Q : Int64 → gH → Prop) (mc ms : Nat) (x0 : Nat) (x1 : Option Nat) (σ : gH) : Prop := 0 + 1 ≤ mc ∧ 0 + (55 : Int32).toNatClampNeg ≤ ms ∧ ¬ (55 : Int32) < 0 ∧ (55 : Int32).toNatClampNeg * 8 ≤ 536870912 ∧ c_new σ (.inl (1, (55 : Int32).toNatClampNeg, .inr (.inl (fun _ => 0)))) (fun q_2 σ_1 => ∃ fu : Nat, wX7_along_7 Q mc ms (fun (uc_7 : Nat) (us_8 : Nat) (x0_3 : Nat) (x1_4 : Option Nat) (x2_5 : Nat) (σ_6 : gH) => ∃ fu : Nat, wX7_along_43 Q mc ms (fun (uc_12 : Nat) (us_13 : Nat) (x0_9 : Nat) (x2_10 : Nat) (σ_11 : gH) => ∃ fu : Nat, wX7_along_145 Q mc ms (fun (uc_16 : Nat) (us_17 : Nat) (x3_14 : Int64) (σ_15 : gH) => Q x3_14 σ_15) fu uc_12 us_13 x0_9 x2_10 1152921504606846976 0 σ_11) fu uc_7 us_8 x0_3 x1_4 x2_5 0 σ_6) fu (0 + 1) (0 + (55 : Int32).toNatClampNeg) x0 x1 q_2 0 σ_1)
set_option maxHeartbeats 4000000 in
theorem hX7_along_145 {Q : Int64 → gH → Prop} {mc ms : Nat} {k187 : Nat → Nat → Int64 → gH → Prop} (hk187 : ∀ (uc : Nat) (us : Nat) (x3 : Int64) (σ : gH), uc ≤ mc → us ≤ ms → k187 uc us x3 σ → E mX7_along 2 mc ms (g_z (c_Kl Q)) uc us 187 [(3, .long x3)] [] σ) : ∀ (n : Nat) (uc : Nat) (us : Nat) (x0 : Nat) (x2 : Nat) (x3 : Int64) (x5 : Int32) (σ : gH) (hu1 : uc ≤ mc) (hu2 : us ≤ ms), wX7_along_145 Q mc ms k187 n uc us x0 x2 x3 x5 σ → E mX7_along 2 mc ms (g_z (c_Kl Q)) uc us 145 [(0, .ref x0), (2, .ref x2), (3, .long x3), (5, .int x5)] [] σ := by
  intro n
  induction n with
  | zero =>
    intro _ _ _ _ _ _ _ _ _ w
    exact w.elim
  | succ n ih =>
    intro uc us x0 x2 x3 x5 σ hu1 hu2 w
    unfold wX7_along_145 at w
    refine e_iload (n := 147) dX7_along_145 rfl 3 rfl ?_
    refine e_aload_n (n := 148) dX7_along_147 rfl 0 rfl ?_
    refine e_cI (n := 151) w fw_X7_n (gl_o q922) dX7_along_148 rfl (fun v_18 w => ?_)
    refine e_icmp_gt (n := 154) (tgt := 187) dX7_along_151 rfl (by decide) (fun h => ?_) (fun h => ?_)
    · have w := w.1 h
      refine e_sub (lv' := [(3, .long x3)]) [2] rfl ?_
      exact hk187 _ _ _ _ hu1 hu2 w
    · have w := w.2 h
      refine e_lload_n (n := 155) dX7_along_154 rfl 2 rfl ?_
      refine e_aload_n (n := 156) dX7_along_155 rfl 1 rfl ?_
      refine e_aload_n (n := 157) dX7_along_156 rfl 0 rfl ?_
      refine e_cR (n := 160) w fw_X7_knot (gl_o q928) dX7_along_157 rfl (fun r_19 w => ?_)
      refine e_iload (n := 162) dX7_along_160 rfl 3 rfl ?_
      obtain ⟨a_20, ha_20, w9a_20⟩ := w
      subst ha_20
      have w := w9a_20
      refine e_caI (n := 163) w dX7_along_162 rfl (fun v_21 w => ?_)
      refine e_caJ (n := 164) w dX7_along_163 rfl (fun v_22 w => ?_)
      refine e_aload_n (n := 165) dX7_along_164 rfl 0 rfl ?_
      refine e_cR (n := 168) w fw_X7_skipping (gl_o q938) dX7_along_165 rfl (fun r_23 w => ?_)
      refine e_iload (n := 170) dX7_along_168 rfl 3 rfl ?_
      obtain ⟨a_24, ha_24, w9a_24⟩ := w
      subst ha_24
      have w := w9a_24
      refine e_caR (n := 171) w (fun _ => rfl) rfl dX7_along_170 rfl (fun r_25 w => ?_)
      refine e_aload_n (n := 172) dX7_along_171 rfl 0 rfl ?_
      refine e_cI (n := 175) w fw_X7_n (gl_o q922) dX7_along_172 rfl (fun v_26 w => ?_)
      obtain ⟨a_27, ha_27, w9a_27⟩ := w
      subst ha_27
      have w := w9a_27
      refine e_caJ (n := 176) w dX7_along_175 rfl (fun v_28 w => ?_)
      refine e_ladd (n := 177) dX7_along_176 rfl ?_
      refine e_callS (n := 180) (As := [.long x3, .long (v_22 + v_28)]) (st := []) okJ4_min_2 q901 q902 q66 q903 (by decide) hu1 hu2 rfl rfl (Nat.le_of_ble_eq_true rfl) dX7_along_177 rfl (ctJ4_min_2 w) (fun r9 σ9 hk => ?_)
      obtain ⟨v_29, rfl, hs9, w⟩ := hk
      rw [hs9]
      refine e_lstore_n (n := 181) (lv' := [(0, .ref x0), (2, .ref x2), (3, .long v_29), (5, .int x5)]) [1, 2, 0, 3] dX7_along_180 rfl rfl rfl ?_
      obtain ⟨x5_30, hx5_30⟩ : ∃ y : Int32, y = x5 + 1 := ⟨_, rfl⟩
      have w := w x5_30 hx5_30
      refine e_iinc (n := 184) (v := x5_30) (lv' := [(0, .ref x0), (2, .ref x2), (3, .long v_29), (5, .int x5_30)]) [1, 2, 3, 0] dX7_along_181 rfl 3 rfl (by rw [hx5_30]; rfl) rfl rfl ?_
      refine e_goto (n := 145) dX7_along_184 (by decide) ?_
      exact ih _ _ _ _ _ _ _ hu1 hu2 w
set_option maxHeartbeats 4000000 in
theorem hX7_along_78 {Q : Int64 → gH → Prop} {mc ms : Nat} {k123 : Nat → Nat → Nat → (Option Nat) → Nat → Int32 → Nat → Int32 → gH → Prop} (hk123 : ∀ (uc : Nat) (us : Nat) (x0 : Nat) (x1 : Option Nat) (x2 : Nat) (x3 : Int32) (x4 : Nat) (x5 : Int32) (σ : gH), uc ≤ mc → us ≤ ms → k123 uc us x0 x1 x2 x3 x4 x5 σ → E mX7_along 2 mc ms (g_z (c_Kl Q)) uc us 123 [(0, .ref x0), (1, va_rf x1), (2, .ref x2), (3, .int x3), (4, .ref x4), (5, .int x5)] [] σ) : ∀ (n : Nat) (uc : Nat) (us : Nat) (x0 : Nat) (x1 : Option Nat) (x2 : Nat) (x3 : Int32) (x4 : Nat) (x5 : Int32) (x6 : Int32) (σ : gH) (hu1 : uc ≤ mc) (hu2 : us ≤ ms), wX7_along_78 Q mc ms k123 n uc us x0 x1 x2 x3 x4 x5 x6 σ → E mX7_along 2 mc ms (g_z (c_Kl Q)) uc us 78 [(0, .ref x0), (1, va_rf x1), (2, .ref x2), (3, .int x3), (4, .ref x4), (5, .int x5), (6, .int x6)] [] σ := by
  intro n
  induction n with
  | zero =>
    intro _ _ _ _ _ _ _ _ _ _ _ _ w
    exact w.elim
  | succ n ih =>
    intro uc us x0 x1 x2 x3 x4 x5 x6 σ hu1 hu2 w
    unfold wX7_along_78 at w
    refine e_iload (n := 80) dX7_along_78 rfl 6 rfl ?_
    refine e_iload (n := 82) dX7_along_80 rfl 5 rfl ?_
    refine e_icmp_gt (n := 85) (tgt := 123) dX7_along_82 rfl (by decide) (fun h => ?_) (fun h => ?_)
    · have w := w.1 h
      refine e_sub (lv' := [(0, .ref x0), (1, va_rf x1), (2, .ref x2), (3, .int x3), (4, .ref x4), (5, .int x5)]) [0, 1, 2, 3, 4, 5] rfl ?_
      exact hk123 _ _ _ _ _ _ _ _ _ hu1 hu2 w
    · have w := w.2 h
      refine e_aload (n := 87) dX7_along_85 rfl 4 rfl ?_
      refine e_iload (n := 89) dX7_along_87 rfl 5 rfl ?_
      refine e_aload (n := 91) dX7_along_89 rfl 4 rfl ?_
      refine e_iload (n := 93) dX7_along_91 rfl 5 rfl ?_
      refine e_caJ (n := 94) w dX7_along_93 rfl (fun v_55 w => ?_)
      refine e_aload_n (n := 95) dX7_along_94 rfl 2 rfl ?_
      refine e_iload (n := 97) dX7_along_95 rfl 6 rfl ?_
      refine e_caJ (n := 98) w dX7_along_97 rfl (fun v_56 w => ?_)
      refine e_aload_n (n := 99) dX7_along_98 rfl 0 rfl ?_
      refine e_cR (n := 102) w fw_X7_read (gl_o q941) dX7_along_99 rfl (fun r_57 w => ?_)
      refine e_aloadr_n (n := 103) (r := x1) dX7_along_102 rfl 1 rfl ?_
      refine e_iload_n (n := 104) dX7_along_103 rfl 3 rfl ?_
      obtain ⟨a_58, ha_58, w9a_58⟩ := w
      subst ha_58
      have w := w9a_58
      refine e_caI (n := 105) w dX7_along_104 rfl (fun v_59 w => ?_)
      obtain ⟨a_60, ha_60, w9a_60⟩ := w
      subst ha_60
      have w := w9a_60
      refine e_caR (n := 106) w (fun _ => rfl) rfl dX7_along_105 rfl (fun r_61 w => ?_)
      refine e_iload (n := 108) dX7_along_106 rfl 6 rfl ?_
      obtain ⟨a_62, ha_62, w9a_62⟩ := w
      subst ha_62
      have w := w9a_62
      refine e_caR (n := 109) w (fun _ => rfl) rfl dX7_along_108 rfl (fun r_63 w => ?_)
      refine e_iload (n := 111) dX7_along_109 rfl 5 rfl ?_
      obtain ⟨a_64, ha_64, w9a_64⟩ := w
      subst ha_64
      have w := w9a_64
      refine e_caJ (n := 112) w dX7_along_111 rfl (fun v_65 w => ?_)
      refine e_ladd (n := 113) dX7_along_112 rfl ?_
      refine e_callS (n := 116) (As := [.long v_55, .long (v_56 + v_65)]) (st := [.int x5, .ref x4]) okJ4_min_2 q901 q902 q66 q903 (by decide) hu1 hu2 rfl rfl (Nat.le_of_ble_eq_true rfl) dX7_along_113 rfl (ctJ4_min_2 w) (fun r9 σ9 hk => ?_)
      obtain ⟨v_66, rfl, hs9, w⟩ := hk
      rw [hs9]
      refine e_csJ (n := 117) w dX7_along_116 rfl (fun σ_67 w => ?_)
      obtain ⟨x6_68, hx6_68⟩ : ∃ y : Int32, y = x6 + 1 := ⟨_, rfl⟩
      have w := w x6_68 hx6_68
      refine e_iinc (n := 120) (v := x6_68) (lv' := [(0, .ref x0), (1, .ref a_58), (2, .ref x2), (3, .int x3), (4, .ref x4), (5, .int x5), (6, .int x6_68)]) [1, 2, 3, 4, 5, 6, 0] dX7_along_117 rfl 6 rfl (by rw [hx6_68]; rfl) rfl rfl ?_
      refine e_goto (n := 78) dX7_along_120 (by decide) ?_
      refine e_sub (lv' := [(0, .ref x0), (1, va_rf (some a_58)), (2, .ref x2), (3, .int x3), (4, .ref x4), (5, .int x5), (6, .int x6_68)]) [0, 1, 2, 3, 4, 5, 6] rfl ?_
      exact ih _ _ _ _ _ _ _ _ _ _ hu1 hu2 w
set_option maxHeartbeats 4000000 in
theorem hX7_along_58 {Q : Int64 → gH → Prop} {mc ms : Nat} {k129 : Nat → Nat → Nat → (Option Nat) → Int32 → Nat → gH → Prop} (hk129 : ∀ (uc : Nat) (us : Nat) (x0 : Nat) (x1 : Option Nat) (x3 : Int32) (x4 : Nat) (σ : gH), uc ≤ mc → us ≤ ms → k129 uc us x0 x1 x3 x4 σ → E mX7_along 2 mc ms (g_z (c_Kl Q)) uc us 129 [(0, .ref x0), (1, va_rf x1), (3, .int x3), (4, .ref x4)] [] σ) : ∀ (n : Nat) (uc : Nat) (us : Nat) (x0 : Nat) (x1 : Option Nat) (x2 : Nat) (x3 : Int32) (x4 : Nat) (x5 : Int32) (σ : gH) (hu1 : uc ≤ mc) (hu2 : us ≤ ms), wX7_along_58 Q mc ms k129 n uc us x0 x1 x2 x3 x4 x5 σ → E mX7_along 2 mc ms (g_z (c_Kl Q)) uc us 58 [(0, .ref x0), (1, va_rf x1), (2, .ref x2), (3, .int x3), (4, .ref x4), (5, .int x5)] [] σ := by
  intro n
  induction n with
  | zero =>
    intro _ _ _ _ _ _ _ _ _ _ _ w
    exact w.elim
  | succ n ih =>
    intro uc us x0 x1 x2 x3 x4 x5 σ hu1 hu2 w
    unfold wX7_along_58 at w
    refine e_iload (n := 60) dX7_along_58 rfl 5 rfl ?_
    refine e_aload_n (n := 61) dX7_along_60 rfl 0 rfl ?_
    refine e_cI (n := 64) w fw_X7_knots (gl_o q932) dX7_along_61 rfl (fun v_43 w => ?_)
    refine e_icmp_ge (n := 67) (tgt := 129) dX7_along_64 rfl (by decide) (fun h => ?_) (fun h => ?_)
    · have w := w.1 h
      refine e_sub (lv' := [(0, .ref x0), (1, va_rf x1), (3, .int x3), (4, .ref x4)]) [0, 1, 3, 4] rfl ?_
      exact hk129 _ _ _ _ _ _ _ hu1 hu2 w
    · have w := w.2 h
      refine e_aload (n := 69) dX7_along_67 rfl 4 rfl ?_
      refine e_iload (n := 71) dX7_along_69 rfl 5 rfl ?_
      refine e_ldc2 (n := 74) q876 dX7_along_71 rfl ?_
      refine e_csJ (n := 75) w dX7_along_74 rfl (fun σ_44 w => ?_)
      refine e_iconst (n := 76) (v := 0) dX7_along_75 rfl (by decide) ?_
      refine e_istore (n := 78) (lv' := [(0, .ref x0), (1, va_rf x1), (2, .ref x2), (3, .int x3), (4, .ref x4), (5, .int x5), (6, .int 0)]) [1, 2, 3, 4, 5, 6, 0] dX7_along_76 rfl rfl rfl ?_
      obtain ⟨fu, w⟩ := w
      refine hX7_along_78 (fun uc_52 us_53 x0_45 x1_46 x2_47 x3_48 x4_49 x5_50 σ_51 hu1 hu2 w => ?_) fu _ _ _ _ _ _ _ _ _ _ hu1 hu2 w
      obtain ⟨x5_54, hx5_54⟩ : ∃ y : Int32, y = x5_50 + 1 := ⟨_, rfl⟩
      have w := w x5_54 hx5_54
      refine e_iinc (n := 126) (v := x5_54) (lv' := [(0, .ref x0_45), (1, va_rf x1_46), (2, .ref x2_47), (3, .int x3_48), (4, .ref x4_49), (5, .int x5_54)]) [1, 2, 3, 4, 5, 0] dX7_along_123 rfl 5 rfl (by rw [hx5_54]; rfl) rfl rfl ?_
      refine e_goto (n := 58) dX7_along_126 (by decide) ?_
      exact ih _ _ _ _ _ _ _ _ _ hu1 hu2 w
set_option maxHeartbeats 4000000 in
theorem hX7_along_43 {Q : Int64 → gH → Prop} {mc ms : Nat} {k138 : Nat → Nat → Nat → Nat → gH → Prop} (hk138 : ∀ (uc : Nat) (us : Nat) (x0 : Nat) (x2 : Nat) (σ : gH), uc ≤ mc → us ≤ ms → k138 uc us x0 x2 σ → E mX7_along 2 mc ms (g_z (c_Kl Q)) uc us 138 [(0, .ref x0), (2, .ref x2)] [] σ) : ∀ (n : Nat) (uc : Nat) (us : Nat) (x0 : Nat) (x1 : Option Nat) (x2 : Nat) (x3 : Int32) (σ : gH) (hu1 : uc ≤ mc) (hu2 : us ≤ ms), wX7_along_43 Q mc ms k138 n uc us x0 x1 x2 x3 σ → E mX7_along 2 mc ms (g_z (c_Kl Q)) uc us 43 [(0, .ref x0), (1, va_rf x1), (2, .ref x2), (3, .int x3)] [] σ := by
  intro n
  induction n with
  | zero =>
    intro _ _ _ _ _ _ _ _ _ w
    exact w.elim
  | succ n ih =>
    intro uc us x0 x1 x2 x3 σ hu1 hu2 w
    unfold wX7_along_43 at w
    refine e_iload_n (n := 44) dX7_along_43 rfl 3 rfl ?_
    refine e_aloadr_n (n := 45) (r := x1) dX7_along_44 rfl 1 rfl ?_
    obtain ⟨a_31, ha_31, w9a_31⟩ := w
    subst ha_31
    have w := w9a_31
    refine e_clen (n := 46) w dX7_along_45 rfl (fun v_32 w => ?_)
    refine e_icmp_ge (n := 49) (tgt := 138) dX7_along_46 rfl (by decide) (fun h => ?_) (fun h => ?_)
    · have w := w.1 h
      refine e_sub (lv' := [(0, .ref x0), (2, .ref x2)]) [0, 2] rfl ?_
      exact hk138 _ _ _ _ _ hu1 hu2 w
    · have w := w.2 h
      refine e_bipush (n := 51) (v := 55) dX7_along_49 rfl (by decide) ?_
      obtain ⟨hu1, hu2, w⟩ := w
      obtain ⟨wn, wb, w⟩ := w
      refine e_cnewJ (n := 53) (z := 55) w wn wb hu1 hu2 dX7_along_51 rfl (fun q_34 σ_33 w => ?_)
      refine e_astore (n := 55) (lv' := [(0, .ref x0), (1, .ref a_31), (2, .ref x2), (3, .int x3), (4, .ref q_34)]) [1, 2, 3, 4, 0] dX7_along_53 rfl rfl rfl ?_
      refine e_iconst (n := 56) (v := 0) dX7_along_55 rfl (by decide) ?_
      refine e_istore (n := 58) (lv' := [(0, .ref x0), (1, .ref a_31), (2, .ref x2), (3, .int x3), (4, .ref q_34), (5, .int 0)]) [1, 2, 3, 4, 5, 0] dX7_along_56 rfl rfl rfl ?_
      obtain ⟨fu, w⟩ := w
      refine e_sub (lv' := [(0, .ref x0), (1, va_rf (some a_31)), (2, .ref x2), (3, .int x3), (4, .ref q_34), (5, .int 0)]) [0, 1, 2, 3, 4, 5] rfl ?_
      refine hX7_along_58 (fun uc_40 us_41 x0_35 x1_36 x3_37 x4_38 σ_39 hu1 hu2 w => ?_) fu _ _ _ _ _ _ _ _ _ hu1 hu2 w
      refine e_aload (n := 131) dX7_along_129 rfl 3 rfl ?_
      refine e_astore_n (n := 132) (lv' := [(0, .ref x0_35), (1, va_rf x1_36), (2, .ref x4_38), (3, .int x3_37), (4, .ref x4_38)]) [1, 2, 0, 3, 4] dX7_along_131 rfl rfl (by cases x1_36 <;> rfl) ?_
      obtain ⟨x3_42, hx3_42⟩ : ∃ y : Int32, y = x3_37 + 1 := ⟨_, rfl⟩
      have w := w x3_42 hx3_42
      refine e_iinc (n := 135) (v := x3_42) (lv' := [(0, .ref x0_35), (1, va_rf x1_36), (2, .ref x4_38), (3, .int x3_42), (4, .ref x4_38)]) [1, 2, 3, 0, 4] dX7_along_132 rfl 3 rfl (by rw [hx3_42]; rfl) rfl rfl ?_
      refine e_goto (n := 43) dX7_along_135 (by decide) ?_
      refine e_sub (lv' := [(0, .ref x0_35), (1, va_rf x1_36), (2, .ref x4_38), (3, .int x3_42)]) [0, 1, 2, 3] rfl ?_
      exact ih _ _ _ _ _ _ _ hu1 hu2 w
set_option maxHeartbeats 4000000 in
theorem hX7_along_34 {Q : Int64 → gH → Prop} {mc ms : Nat} {kh : Nat → Nat → Nat → (Option Nat) → Nat → Int32 → gH → Prop} (hkh : ∀ (uc : Nat) (us : Nat) (x0 : Nat) (x1 : Option Nat) (x2 : Nat) (x3 : Int32) (σ : gH), uc ≤ mc → us ≤ ms → kh uc us x0 x1 x2 x3 σ → E mX7_along 2 mc ms (g_z (c_Kl Q)) uc us 7 [(0, .ref x0), (1, va_rf x1), (2, .ref x2), (3, .int x3)] [] σ) {k41 : Nat → Nat → Nat → (Option Nat) → Nat → gH → Prop} (hk41 : ∀ (uc : Nat) (us : Nat) (x0 : Nat) (x1 : Option Nat) (x2 : Nat) (σ : gH), uc ≤ mc → us ≤ ms → k41 uc us x0 x1 x2 σ → E mX7_along 2 mc ms (g_z (c_Kl Q)) uc us 41 [(0, .ref x0), (1, va_rf x1), (2, .ref x2)] [] σ) (uc : Nat) (us : Nat) (t0 : Nat) (t1 : Int32) (t2 : Int64) (x0 : Nat) (x1 : Option Nat) (x2 : Nat) (x3 : Int32) (σ : gH) (hu1 : uc ≤ mc) (hu2 : us ≤ ms) (w : wX7_along_34 Q mc ms kh k41 uc us t0 t1 t2 x0 x1 x2 x3 σ) : E mX7_along 2 mc ms (g_z (c_Kl Q)) uc us 34 [(0, .ref x0), (1, va_rf x1), (2, .ref x2), (3, .int x3)] [.long t2, .int t1, .ref t0] σ := by
  unfold wX7_along_34 at w
  refine e_csJ (n := 35) w dX7_along_34 rfl (fun σ_73 w => ?_)
  obtain ⟨x3_74, hx3_74⟩ : ∃ y : Int32, y = x3 + 1 := ⟨_, rfl⟩
  have w := w x3_74 hx3_74
  refine e_iinc (n := 38) (v := x3_74) (lv' := [(0, .ref x0), (1, va_rf x1), (2, .ref x2), (3, .int x3_74)]) [1, 2, 3, 0] dX7_along_35 rfl 3 rfl (by rw [hx3_74]; rfl) rfl rfl ?_
  refine e_goto (n := 7) dX7_along_38 (by decide) ?_
  exact hkh _ _ _ _ _ _ _ hu1 hu2 w
set_option maxHeartbeats 4000000 in
theorem hX7_along_7 {Q : Int64 → gH → Prop} {mc ms : Nat} {k41 : Nat → Nat → Nat → (Option Nat) → Nat → gH → Prop} (hk41 : ∀ (uc : Nat) (us : Nat) (x0 : Nat) (x1 : Option Nat) (x2 : Nat) (σ : gH), uc ≤ mc → us ≤ ms → k41 uc us x0 x1 x2 σ → E mX7_along 2 mc ms (g_z (c_Kl Q)) uc us 41 [(0, .ref x0), (1, va_rf x1), (2, .ref x2)] [] σ) : ∀ (n : Nat) (uc : Nat) (us : Nat) (x0 : Nat) (x1 : Option Nat) (x2 : Nat) (x3 : Int32) (σ : gH) (hu1 : uc ≤ mc) (hu2 : us ≤ ms), wX7_along_7 Q mc ms k41 n uc us x0 x1 x2 x3 σ → E mX7_along 2 mc ms (g_z (c_Kl Q)) uc us 7 [(0, .ref x0), (1, va_rf x1), (2, .ref x2), (3, .int x3)] [] σ := by
  intro n
  induction n with
  | zero =>
    intro _ _ _ _ _ _ _ _ _ w
    exact w.elim
  | succ n ih =>
    intro uc us x0 x1 x2 x3 σ hu1 hu2 w
    unfold wX7_along_7 at w
    refine e_iload_n (n := 8) dX7_along_7 rfl 3 rfl ?_
    refine e_aload_n (n := 9) dX7_along_8 rfl 0 rfl ?_
    refine e_cI (n := 12) w fw_X7_knots (gl_o q932) dX7_along_9 rfl (fun v_69 w => ?_)
    refine e_icmp_ge (n := 15) (tgt := 41) dX7_along_12 rfl (by decide) (fun h => ?_) (fun h => ?_)
    · have w := w.1 h
      refine e_sub (lv' := [(0, .ref x0), (1, va_rf x1), (2, .ref x2)]) [0, 1, 2] rfl ?_
      exact hk41 _ _ _ _ _ _ hu1 hu2 w
    · have w := w.2 h
      refine e_aload_n (n := 16) dX7_along_15 rfl 2 rfl ?_
      refine e_iload_n (n := 17) dX7_along_16 rfl 3 rfl ?_
      refine e_iload_n (n := 18) dX7_along_17 rfl 3 rfl ?_
      refine e_aload_n (n := 19) dX7_along_18 rfl 0 rfl ?_
      refine e_cR (n := 22) w fw_X7_knot (gl_o q928) dX7_along_19 rfl (fun r_70 w => ?_)
      refine e_iconst (n := 23) (v := 0) dX7_along_22 rfl (by decide) ?_
      obtain ⟨a_71, ha_71, w9a_71⟩ := w
      subst ha_71
      have w := w9a_71
      refine e_caI (n := 24) w dX7_along_23 rfl (fun v_72 w => ?_)
      refine e_icmp_ne (n := 27) (tgt := 31) dX7_along_24 rfl (by decide) (fun h => ?_) (fun h => ?_)
      · have w := w.2 h
        refine e_ldc2 (n := 34) q876 dX7_along_31 rfl ?_
        exact hX7_along_34 ih hk41 _ _ _ _ _ _ _ _ _ _ hu1 hu2 w
      · have w := w.1 h
        refine e_lconst (n := 28) (v := 0) dX7_along_27 rfl (by decide) ?_
        refine e_goto (n := 34) dX7_along_28 (by decide) ?_
        exact hX7_along_34 ih hk41 _ _ _ _ _ _ _ _ _ _ hu1 hu2 w
set_option maxHeartbeats 4000000 in
theorem ctX7_along {Q : Int64 → gH → Prop} {mc ms : Nat} {x0 : Nat} {x1 : Option Nat} {σ : gH} (w : wX7_along Q mc ms x0 x1 σ) : CT mX7_along 2 mc ms [.ref x0, va_rf x1] σ (c_Kl Q) := by
  refine CT.of (lv := [(0, .ref x0), (1, va_rf x1)]) okX7_along.1 (by cases x1 <;> rfl) (by cases x1 <;> rfl) ?_
  unfold wX7_along at w
  refine e_bipush (n := 2) (v := 55) dX7_along_0 rfl (by decide) ?_
  obtain ⟨hu1, hu2, w⟩ := w
  obtain ⟨wn, wb, w⟩ := w
  refine e_cnewJ (n := 4) (z := 55) w wn wb hu1 hu2 dX7_along_2 rfl (fun q_2 σ_1 w => ?_)
  refine e_astore_n (n := 5) (lv' := [(0, .ref x0), (1, va_rf x1), (2, .ref q_2)]) [1, 2, 0] dX7_along_4 rfl rfl (by cases x1 <;> rfl) ?_
  refine e_iconst (n := 6) (v := 0) dX7_along_5 rfl (by decide) ?_
  refine e_istore_n (n := 7) (lv' := [(0, .ref x0), (1, va_rf x1), (2, .ref q_2), (3, .int 0)]) [1, 2, 3, 0] dX7_along_6 rfl rfl rfl ?_
  obtain ⟨fu, w⟩ := w
  refine hX7_along_7 (fun uc_7 us_8 x0_3 x1_4 x2_5 σ_6 hu1 hu2 w => ?_) fu _ _ _ _ _ _ _ hu1 hu2 w
  refine e_iconst (n := 42) (v := 0) dX7_along_41 rfl (by decide) ?_
  refine e_istore_n (n := 43) (lv' := [(0, .ref x0_3), (1, va_rf x1_4), (2, .ref x2_5), (3, .int 0)]) [1, 2, 3, 0] dX7_along_42 rfl rfl rfl ?_
  obtain ⟨fu, w⟩ := w
  refine hX7_along_43 (fun uc_12 us_13 x0_9 x2_10 σ_11 hu1 hu2 w => ?_) fu _ _ _ _ _ _ _ hu1 hu2 w
  refine e_ldc2 (n := 141) q876 dX7_along_138 rfl ?_
  refine e_lstore_n (n := 142) (lv' := [(0, .ref x0_9), (2, .ref x2_10), (3, .long 1152921504606846976)]) [1, 2, 0] dX7_along_141 rfl rfl rfl ?_
  refine e_iconst (n := 143) (v := 0) dX7_along_142 rfl (by decide) ?_
  refine e_istore (n := 145) (lv' := [(0, .ref x0_9), (2, .ref x2_10), (3, .long 1152921504606846976), (5, .int 0)]) [1, 2, 3, 0] dX7_along_143 rfl rfl rfl ?_
  obtain ⟨fu, w⟩ := w
  refine hX7_along_145 (fun uc_16 us_17 x3_14 σ_15 hu1 hu2 w => ?_) fu _ _ _ _ _ _ _ hu1 hu2 w
  refine e_lload_n (n := 188) dX7_along_187 rfl 0 rfl ?_
  exact e_lret rfl hu1 hu2 ⟨_, rfl, w⟩ dX7_along_188
abbrev mX0_count : gM := (yX0_count, cX0_count, 2, some .int)
theorem okX0_count : g_ok mX0_count 1 := ⟨by decide +kernel, by decide +kernel, by decide +kernel, by decide +kernel, by decide⟩
def wX0_count (Q : Int32 → gH → Prop) (mc ms : Nat) (x0 : Nat) (x1 : Int32) (σ : gH) : Prop := (x1 = 0 → (c_I σ [0] x0 0 (fun v_1 => Q v_1 σ))) ∧ (¬ x1 = 0 → (x1 = 1 → (c_I σ [0] x0 5 (fun v_2 => Q v_2 σ))) ∧ (¬ x1 = 1 → (x1 = 2 → (c_R σ [0] x0 7 (fun r_3 => ∃ a_4 : Nat, r_3 = some a_4 ∧ (∃ fs_6 : List Value, σ.2 a_4 = some (.inr (18, fs_6)) ∧ (wJ2_size (fun (v_5 : Int32) => Q v_5 σ) σ a_4))))) ∧ (¬ x1 = 2 → (x1 = 3 → (c_R σ [0] x0 8 (fun r_7 => ∃ a_8 : Nat, r_7 = some a_8 ∧ (∃ fs_10 : List Value, σ.2 a_8 = some (.inr (18, fs_10)) ∧ (wJ2_size (fun (v_9 : Int32) => Q v_9 σ) σ a_8))))) ∧ (¬ x1 = 3 → (x1 = 4 → (c_R σ [0] x0 9 (fun r_11 => ∃ a_12 : Nat, r_11 = some a_12 ∧ (∃ fs_14 : List Value, σ.2 a_12 = some (.inr (18, fs_14)) ∧ (wJ2_size (fun (v_13 : Int32) => Q v_13 σ) σ a_12))))) ∧ (¬ x1 = 4 → (x1 = 5 → (c_R σ [0] x0 11 (fun r_15 => ∃ a_16 : Nat, r_15 = some a_16 ∧ (c_len σ a_16 (fun v_17 => Q v_17 σ))))) ∧ (¬ x1 = 5 → (x1 = 6 → (0 + 1 ≤ mc ∧ 0 + 13 ≤ ms ∧ c_new σ (.inr (7, [.null, .int 0, .null, .null, .null, .int 0, .null, .null, .null, .null, .null, .null, .null])) (fun q_19 σ_18 => c_R σ_18 [0] x0 11 (fun r_20 => (0 + 1) + 1 ≤ mc ∧ (0 + 13) + 4 ≤ ms ∧ c_new σ_18 (.inr (6, [.int 0, .int 0, .int 0, .null])) (fun q_22 σ_21 => wX6_init (fun (σ_23 : gH) => ∃ c_25 b_26 : Nat, ((0 + 1) + 1) + c_25 ≤ mc ∧ ((0 + 13) + 4) + b_26 ≤ ms ∧ wX7_init (fun (σ_24 : gH) => c_I σ_24 [7] q_19 5 (fun v_27 => Q v_27 σ_24)) c_25 b_26 q_19 (some x0) r_20 (some q_22) σ_23) q_22 0 0 0 none σ_21))))) ∧ (¬ x1 = 6 → (Q (-1) σ))))))))
set_option maxHeartbeats 4000000 in
theorem ctX0_count {Q : Int32 → gH → Prop} {mc ms : Nat} {x0 : Nat} {x1 : Int32} {σ : gH} (w : wX0_count Q mc ms x0 x1 σ) : CT mX0_count 12 mc ms [.ref x0, .int x1] σ (c_Ki Q) := by
  refine CT.of (lv := [(0, .ref x0), (1, .int x1)]) okX0_count.1 rfl rfl ?_
  unfold wX0_count at w
  refine e_iload_n (n := 1) dX0_count_0 rfl 1 rfl ?_
  by_cases h0 : x1 = 0
  · have w := w.1 h0
    refine e_tableIn (tgt := 44) dX0_count_1 (by rw [h0]; decide) (by rw [h0]; decide) (by rw [h0]; rfl) (by decide) ?_
    refine e_aload_n (n := 45) dX0_count_44 rfl 0 rfl ?_
    refine e_cI (n := 48) w fw_X0_tokens (gl_o q167) dX0_count_45 rfl (fun v_1 w => ?_)
    exact e_iret rfl (Nat.zero_le _) (Nat.zero_le _) ⟨_, rfl, w⟩ dX0_count_48
  · have w := w.2 h0
    by_cases h1 : x1 = 1
    · have w := w.1 h1
      refine e_tableIn (tgt := 49) dX0_count_1 (by rw [h1]; decide) (by rw [h1]; decide) (by rw [h1]; rfl) (by decide) ?_
      refine e_aload_n (n := 50) dX0_count_49 rfl 0 rfl ?_
      refine e_cI (n := 53) w fw_X0_names (gl_o q182) dX0_count_50 rfl (fun v_2 w => ?_)
      exact e_iret rfl (Nat.zero_le _) (Nat.zero_le _) ⟨_, rfl, w⟩ dX0_count_53
    · have w := w.2 h1
      by_cases h2 : x1 = 2
      · have w := w.1 h2
        refine e_tableIn (tgt := 54) dX0_count_1 (by rw [h2]; decide) (by rw [h2]; decide) (by rw [h2]; rfl) (by decide) ?_
        refine e_aload_n (n := 55) dX0_count_54 rfl 0 rfl ?_
        refine e_cR (n := 58) w fw_X0_rules (gl_o q186) dX0_count_55 rfl (fun r_3 w => ?_)
        obtain ⟨a_4, ha_4, w9a_4⟩ := w
        subst ha_4
        have w := w9a_4
        obtain ⟨fs_6, wo, w⟩ := w
        refine e_callF (n := 63) (As := []) (st := []) okJ2_size q283 q287 q289 q60 q291 q285 q284 q290 q288 q286 rfl (by decide) wo rfl (by decide) (Nat.zero_le _) (Nat.zero_le _) rfl rfl rfl dX0_count_58 rfl (ctJ2_size w) (fun r9 σ9 hk => ?_)
        obtain ⟨v_5, rfl, hs9, w⟩ := hk
        rw [hs9]
        exact e_iret rfl (Nat.zero_le _) (Nat.zero_le _) ⟨_, rfl, w⟩ dX0_count_63
      · have w := w.2 h2
        by_cases h3 : x1 = 3
        · have w := w.1 h3
          refine e_tableIn (tgt := 64) dX0_count_1 (by rw [h3]; decide) (by rw [h3]; decide) (by rw [h3]; rfl) (by decide) ?_
          refine e_aload_n (n := 65) dX0_count_64 rfl 0 rfl ?_
          refine e_cR (n := 68) w fw_X0_stuck (gl_o q189) dX0_count_65 rfl (fun r_7 w => ?_)
          obtain ⟨a_8, ha_8, w9a_8⟩ := w
          subst ha_8
          have w := w9a_8
          obtain ⟨fs_10, wo, w⟩ := w
          refine e_callF (n := 73) (As := []) (st := []) okJ2_size q283 q287 q289 q60 q291 q285 q284 q290 q288 q286 rfl (by decide) wo rfl (by decide) (Nat.zero_le _) (Nat.zero_le _) rfl rfl rfl dX0_count_68 rfl (ctJ2_size w) (fun r9 σ9 hk => ?_)
          obtain ⟨v_9, rfl, hs9, w⟩ := hk
          rw [hs9]
          exact e_iret rfl (Nat.zero_le _) (Nat.zero_le _) ⟨_, rfl, w⟩ dX0_count_73
        · have w := w.2 h3
          by_cases h4 : x1 = 4
          · have w := w.1 h4
            refine e_tableIn (tgt := 74) dX0_count_1 (by rw [h4]; decide) (by rw [h4]; decide) (by rw [h4]; rfl) (by decide) ?_
            refine e_aload_n (n := 75) dX0_count_74 rfl 0 rfl ?_
            refine e_cR (n := 78) w fw_X0_parted (gl_o q191) dX0_count_75 rfl (fun r_11 w => ?_)
            obtain ⟨a_12, ha_12, w9a_12⟩ := w
            subst ha_12
            have w := w9a_12
            obtain ⟨fs_14, wo, w⟩ := w
            refine e_callF (n := 83) (As := []) (st := []) okJ2_size q283 q287 q289 q60 q291 q285 q284 q290 q288 q286 rfl (by decide) wo rfl (by decide) (Nat.zero_le _) (Nat.zero_le _) rfl rfl rfl dX0_count_78 rfl (ctJ2_size w) (fun r9 σ9 hk => ?_)
            obtain ⟨v_13, rfl, hs9, w⟩ := hk
            rw [hs9]
            exact e_iret rfl (Nat.zero_le _) (Nat.zero_le _) ⟨_, rfl, w⟩ dX0_count_83
          · have w := w.2 h4
            by_cases h5 : x1 = 5
            · have w := w.1 h5
              refine e_tableIn (tgt := 84) dX0_count_1 (by rw [h5]; decide) (by rw [h5]; decide) (by rw [h5]; rfl) (by decide) ?_
              refine e_aload_n (n := 85) dX0_count_84 rfl 0 rfl ?_
              refine e_cR (n := 88) w fw_X0_text (gl_o q194) dX0_count_85 rfl (fun r_15 w => ?_)
              obtain ⟨a_16, ha_16, w9a_16⟩ := w
              subst ha_16
              have w := w9a_16
              refine e_clen (n := 89) w dX0_count_88 rfl (fun v_17 w => ?_)
              exact e_iret rfl (Nat.zero_le _) (Nat.zero_le _) ⟨_, rfl, w⟩ dX0_count_89
            · have w := w.2 h5
              by_cases h6 : x1 = 6
              · have w := w.1 h6
                refine e_tableIn (tgt := 90) dX0_count_1 (by rw [h6]; decide) (by rw [h6]; decide) (by rw [h6]; rfl) (by decide) ?_
                obtain ⟨hu1, hu2, w⟩ := w
                refine e_cnew (n := 93) w tyX7 tyX7_ok in_X7 rfl q516 q517 q73 (fun j hj => g_defX7 j hj) hu1 hu2 dX0_count_90 rfl (fun q_19 σ_18 w => ?_)
                refine e_dup (n := 94) dX0_count_93 rfl rfl ?_
                refine e_aload_n (n := 95) dX0_count_94 rfl 0 rfl ?_
                refine e_aload_n (n := 96) dX0_count_95 rfl 0 rfl ?_
                refine e_cR (n := 99) w fw_X0_text (gl_o q194) dX0_count_96 rfl (fun r_20 w => ?_)
                obtain ⟨hu1, hu2, w⟩ := w
                refine e_cnew (n := 102) w tyX6 tyX6_ok in_X6 rfl q494 q495 q72 (fun j hj => g_defX6 j hj) hu1 hu2 dX0_count_99 rfl (fun q_22 σ_21 w => ?_)
                refine e_dup (n := 103) dX0_count_102 rfl rfl ?_
                refine e_iconst (n := 104) (v := 0) dX0_count_103 rfl (by decide) ?_
                refine e_iconst (n := 105) (v := 0) dX0_count_104 rfl (by decide) ?_
                refine e_iconst (n := 106) (v := 0) dX0_count_105 rfl (by decide) ?_
                refine e_null (n := 107) dX0_count_106 rfl ?_
                refine e_callI (n := 110) (As := [.int 0, .int 0, .int 0, va_rf none]) (st := [.ref q_22, va_rf r_20, .ref x0, .ref q_19, .ref q_19]) okX6_init rfl rfl q496 q497 q72 q498 (by decide) hu1 hu2 rfl rfl (Nat.le_of_ble_eq_true (by cases r_20 <;> rfl)) dX0_count_107 rfl (ctX6_init w) (fun r9 σ_23 hk => ?_)
                obtain ⟨rfl, w⟩ := hk
                obtain ⟨c_25, b_26, hu1, hu2, w⟩ := w
                refine e_callI (n := 113) (As := [va_rf (some x0), va_rf r_20, va_rf (some q_22)]) (st := [.ref q_19]) okX7_init rfl rfl q518 q519 q73 q520 (by decide) hu1 hu2 rfl rfl (Nat.le_of_ble_eq_true rfl) dX0_count_110 rfl (ctX7_init w) (fun r9 σ_24 hk => ?_)
                obtain ⟨rfl, w⟩ := hk
                refine e_cI (n := 116) w fw_X7_knots (gl_n q933) dX0_count_113 rfl (fun v_27 w => ?_)
                exact e_iret rfl hu1 hu2 ⟨_, rfl, w⟩ dX0_count_116
              · have w := w.2 h6
                have g0 : ¬ x1.toInt = 0 := fun z => h0 (Int32.toInt_inj.mp (z.trans (by decide)))
                have g1 : ¬ x1.toInt = 1 := fun z => h1 (Int32.toInt_inj.mp (z.trans (by decide)))
                have g2 : ¬ x1.toInt = 2 := fun z => h2 (Int32.toInt_inj.mp (z.trans (by decide)))
                have g3 : ¬ x1.toInt = 3 := fun z => h3 (Int32.toInt_inj.mp (z.trans (by decide)))
                have g4 : ¬ x1.toInt = 4 := fun z => h4 (Int32.toInt_inj.mp (z.trans (by decide)))
                have g5 : ¬ x1.toInt = 5 := fun z => h5 (Int32.toInt_inj.mp (z.trans (by decide)))
                have g6 : ¬ x1.toInt = 6 := fun z => h6 (Int32.toInt_inj.mp (z.trans (by decide)))
                refine e_tableOut (tgt := 117) dX0_count_1 (by omega) (by decide) ?_
                refine e_iconst (n := 118) (v := (-1)) dX0_count_117 rfl (by decide) ?_
                exact e_iret rfl (Nat.zero_le _) (Nat.zero_le _) ⟨_, rfl, w⟩ dX0_count_118
