/-! the methods that throw and catch, and those that call them -/
set_option maxRecDepth 100000
abbrev mX0_act : gM := (yX0_act, cX0_act, 7, some .int)
theorem okX0_act : g_ok mX0_act 4 := ⟨by decide +kernel, by decide +kernel, by decide +kernel, by decide +kernel, by decide⟩
set_option maxHeartbeats 4000000 in
theorem hdX0_act_69_C : g_Hd mX0_act [(10, 78, 79, 291), (10, 78, 84, 293), (10, 78, 89, 295), (10, 78, 94, 297)] 69 "java/lang/ClassCastException" 89 := by
  refine ⟨[((10, 78, 79, 291), "java/lang/NullPointerException"), ((10, 78, 84, 293), "java/lang/IndexOutOfBoundsException")], ((10, 78, 89, 295), "java/lang/ClassCastException"), [(10, 78, 94, 297)], rfl, rfl, ?_, by decide, by decide, q1270, q1282⟩
  intro q hq
  simp only [List.mem_cons, List.not_mem_nil, or_false] at hq
  rcases hq with rfl | rfl
  · exact ⟨by decide, by decide, q1155, by decide +kernel⟩
  · exact ⟨by decide, by decide, q1237, by decide +kernel⟩
set_option maxHeartbeats 4000000 in
theorem hdX0_act_75_N : g_Hd mX0_act [(10, 78, 79, 291), (10, 78, 84, 293), (10, 78, 89, 295), (10, 78, 94, 297)] 75 "java/lang/NullPointerException" 79 := by
  refine ⟨[], ((10, 78, 79, 291), "java/lang/NullPointerException"), [(10, 78, 84, 293), (10, 78, 89, 295), (10, 78, 94, 297)], rfl, rfl, ?_, by decide, by decide, q1155, q1221⟩
  intro q hq
  simp only [List.mem_cons, List.not_mem_nil, or_false] at hq

set_option maxHeartbeats 4000000 in
theorem hdX0_act_75_I : g_Hd mX0_act [(10, 78, 79, 291), (10, 78, 84, 293), (10, 78, 89, 295), (10, 78, 94, 297)] 75 "java/lang/ArrayIndexOutOfBoundsException" 84 := by
  refine ⟨[((10, 78, 79, 291), "java/lang/NullPointerException")], ((10, 78, 84, 293), "java/lang/IndexOutOfBoundsException"), [(10, 78, 89, 295), (10, 78, 94, 297)], rfl, rfl, ?_, by decide, by decide, q1237, q1763⟩
  intro q hq
  simp only [List.mem_cons, List.not_mem_nil, or_false] at hq
  subst hq
  exact ⟨by decide, by decide, q1155, by decide +kernel⟩
set_option maxHeartbeats 4000000 in
theorem hdX0_act_75_Z : g_Hd mX0_act [(10, 78, 79, 291), (10, 78, 84, 293), (10, 78, 89, 295), (10, 78, 94, 297)] 75 "java/lang/NegativeArraySizeException" 94 := by
  refine ⟨[((10, 78, 79, 291), "java/lang/NullPointerException"), ((10, 78, 84, 293), "java/lang/IndexOutOfBoundsException"), ((10, 78, 89, 295), "java/lang/ClassCastException")], ((10, 78, 94, 297), "java/lang/NegativeArraySizeException"), [], rfl, rfl, ?_, by decide, by decide, q1284, q1296⟩
  intro q hq
  simp only [List.mem_cons, List.not_mem_nil, or_false] at hq
  rcases hq with rfl | rfl | rfl
  · exact ⟨by decide, by decide, q1155, by decide +kernel⟩
  · exact ⟨by decide, by decide, q1237, by decide +kernel⟩
  · exact ⟨by decide, by decide, q1270, by decide +kernel⟩
set_option maxHeartbeats 4000000 in
theorem hdX0_act_52_C : g_Hd mX0_act [(10, 78, 79, 291), (10, 78, 84, 293), (10, 78, 89, 295), (10, 78, 94, 297)] 52 "java/lang/ClassCastException" 89 := by
  refine ⟨[((10, 78, 79, 291), "java/lang/NullPointerException"), ((10, 78, 84, 293), "java/lang/IndexOutOfBoundsException")], ((10, 78, 89, 295), "java/lang/ClassCastException"), [(10, 78, 94, 297)], rfl, rfl, ?_, by decide, by decide, q1270, q1282⟩
  intro q hq
  simp only [List.mem_cons, List.not_mem_nil, or_false] at hq
  rcases hq with rfl | rfl
  · exact ⟨by decide, by decide, q1155, by decide +kernel⟩
  · exact ⟨by decide, by decide, q1237, by decide +kernel⟩
set_option maxHeartbeats 4000000 in
theorem hdX0_act_55_N : g_Hd mX0_act [(10, 78, 79, 291), (10, 78, 84, 293), (10, 78, 89, 295), (10, 78, 94, 297)] 55 "java/lang/NullPointerException" 79 := by
  refine ⟨[], ((10, 78, 79, 291), "java/lang/NullPointerException"), [(10, 78, 84, 293), (10, 78, 89, 295), (10, 78, 94, 297)], rfl, rfl, ?_, by decide, by decide, q1155, q1221⟩
  intro q hq
  simp only [List.mem_cons, List.not_mem_nil, or_false] at hq

set_option maxHeartbeats 4000000 in
theorem hdX0_act_62_I : g_Hd mX0_act [(10, 78, 79, 291), (10, 78, 84, 293), (10, 78, 89, 295), (10, 78, 94, 297)] 62 "java/lang/ArrayIndexOutOfBoundsException" 84 := by
  refine ⟨[((10, 78, 79, 291), "java/lang/NullPointerException")], ((10, 78, 84, 293), "java/lang/IndexOutOfBoundsException"), [(10, 78, 89, 295), (10, 78, 94, 297)], rfl, rfl, ?_, by decide, by decide, q1237, q1763⟩
  intro q hq
  simp only [List.mem_cons, List.not_mem_nil, or_false] at hq
  subst hq
  exact ⟨by decide, by decide, q1155, by decide +kernel⟩
set_option maxHeartbeats 4000000 in
theorem hdX0_act_31_C : g_Hd mX0_act [(10, 78, 79, 291), (10, 78, 84, 293), (10, 78, 89, 295), (10, 78, 94, 297)] 31 "java/lang/ClassCastException" 89 := by
  refine ⟨[((10, 78, 79, 291), "java/lang/NullPointerException"), ((10, 78, 84, 293), "java/lang/IndexOutOfBoundsException")], ((10, 78, 89, 295), "java/lang/ClassCastException"), [(10, 78, 94, 297)], rfl, rfl, ?_, by decide, by decide, q1270, q1282⟩
  intro q hq
  simp only [List.mem_cons, List.not_mem_nil, or_false] at hq
  rcases hq with rfl | rfl
  · exact ⟨by decide, by decide, q1155, by decide +kernel⟩
  · exact ⟨by decide, by decide, q1237, by decide +kernel⟩
set_option maxHeartbeats 4000000 in
theorem hdX0_act_34_N : g_Hd mX0_act [(10, 78, 79, 291), (10, 78, 84, 293), (10, 78, 89, 295), (10, 78, 94, 297)] 34 "java/lang/NullPointerException" 79 := by
  refine ⟨[], ((10, 78, 79, 291), "java/lang/NullPointerException"), [(10, 78, 84, 293), (10, 78, 89, 295), (10, 78, 94, 297)], rfl, rfl, ?_, by decide, by decide, q1155, q1221⟩
  intro q hq
  simp only [List.mem_cons, List.not_mem_nil, or_false] at hq

set_option maxHeartbeats 4000000 in
theorem hdX0_act_41_I : g_Hd mX0_act [(10, 78, 79, 291), (10, 78, 84, 293), (10, 78, 89, 295), (10, 78, 94, 297)] 41 "java/lang/ArrayIndexOutOfBoundsException" 84 := by
  refine ⟨[((10, 78, 79, 291), "java/lang/NullPointerException")], ((10, 78, 84, 293), "java/lang/IndexOutOfBoundsException"), [(10, 78, 89, 295), (10, 78, 94, 297)], rfl, rfl, ?_, by decide, by decide, q1237, q1763⟩
  intro q hq
  simp only [List.mem_cons, List.not_mem_nil, or_false] at hq
  subst hq
  exact ⟨by decide, by decide, q1155, by decide +kernel⟩
set_option maxHeartbeats 4000000 in
theorem hdX0_act_16_C : g_Hd mX0_act [(10, 78, 79, 291), (10, 78, 84, 293), (10, 78, 89, 295), (10, 78, 94, 297)] 16 "java/lang/ClassCastException" 89 := by
  refine ⟨[((10, 78, 79, 291), "java/lang/NullPointerException"), ((10, 78, 84, 293), "java/lang/IndexOutOfBoundsException")], ((10, 78, 89, 295), "java/lang/ClassCastException"), [(10, 78, 94, 297)], rfl, rfl, ?_, by decide, by decide, q1270, q1282⟩
  intro q hq
  simp only [List.mem_cons, List.not_mem_nil, or_false] at hq
  rcases hq with rfl | rfl
  · exact ⟨by decide, by decide, q1155, by decide +kernel⟩
  · exact ⟨by decide, by decide, q1237, by decide +kernel⟩
set_option maxHeartbeats 4000000 in
theorem hdX0_act_20_N : g_Hd mX0_act [(10, 78, 79, 291), (10, 78, 84, 293), (10, 78, 89, 295), (10, 78, 94, 297)] 20 "java/lang/NullPointerException" 79 := by
  refine ⟨[], ((10, 78, 79, 291), "java/lang/NullPointerException"), [(10, 78, 84, 293), (10, 78, 89, 295), (10, 78, 94, 297)], rfl, rfl, ?_, by decide, by decide, q1155, q1221⟩
  intro q hq
  simp only [List.mem_cons, List.not_mem_nil, or_false] at hq

set_option maxHeartbeats 4000000 in
theorem hdX0_act_20_I : g_Hd mX0_act [(10, 78, 79, 291), (10, 78, 84, 293), (10, 78, 89, 295), (10, 78, 94, 297)] 20 "java/lang/ArrayIndexOutOfBoundsException" 84 := by
  refine ⟨[((10, 78, 79, 291), "java/lang/NullPointerException")], ((10, 78, 84, 293), "java/lang/IndexOutOfBoundsException"), [(10, 78, 89, 295), (10, 78, 94, 297)], rfl, rfl, ?_, by decide, by decide, q1237, q1763⟩
  intro q hq
  simp only [List.mem_cons, List.not_mem_nil, or_false] at hq
  subst hq
  exact ⟨by decide, by decide, q1155, by decide +kernel⟩
def wX0_act (Q : Int32 → gH → Prop) (mc ms : Nat) (x0 : Nat) (x1 : Int32) (x2 : Int32) (x3 : Int32) (x4 : Int32) (σ : gH) : Prop := ∃ fs_5 : List Value, σ.2 x0 = some (.inr (0, fs_5)) ∧ ∃ c_3 b_4 : Nat, 0 + c_3 ≤ mc ∧ 0 + b_4 ≤ ms ∧ (wX0_shelf (fun (r_2 : Option Nat) (σ_1 : gH) => ∃ a_6 : Nat, r_2 = some a_6 ∧ (c_R σ_1 [17] a_6 0 (fun r_7 => (x2 = 0 → (c_castX σ_1 0 r_7 (0 + c_3) (0 + b_4) mc ms (c_nul r_7 (0 + c_3) (0 + b_4) mc ms (fun a_26 => c_aIX σ_1 a_26 x3 (0 + c_3) (0 + b_4) mc ms (fun v_27 => Q v_27 σ_1) (Q (-12) σ_1)) (Q (-11) σ_1)) (Q (-13) σ_1))) ∧ (¬ x2 = 0 → ((x2 = 1 → (c_castX σ_1 1 r_7 (0 + c_3) (0 + b_4) mc ms (c_nul r_7 (0 + c_3) (0 + b_4) mc ms (fun a_20 => c_R σ_1 [1] a_20 0 (fun r_21 => ∃ a_22 : Nat, r_21 = some a_22 ∧ (c_aR 3 σ_1 a_22 x4 (fun r_23 => ∃ a_24 : Nat, r_23 = some a_24 ∧ (c_aIX σ_1 a_24 x3 (0 + c_3) (0 + b_4) mc ms (fun v_25 => Q v_25 σ_1) (Q (-12) σ_1)))))) (Q (-11) σ_1)) (Q (-13) σ_1))) ∧ (¬ x2 = 1 → ((x2 = 2 → (c_castX σ_1 2 r_7 (0 + c_3) (0 + b_4) mc ms (c_nul r_7 (0 + c_3) (0 + b_4) mc ms (fun a_14 => c_R σ_1 [2] a_14 0 (fun r_15 => ∃ a_16 : Nat, r_15 = some a_16 ∧ (c_aR 3 σ_1 a_16 x4 (fun r_17 => ∃ a_18 : Nat, r_17 = some a_18 ∧ (c_aIX σ_1 a_18 x3 (0 + c_3) (0 + b_4) mc ms (fun v_19 => Q v_19 σ_1) (Q (-12) σ_1)))))) (Q (-11) σ_1)) (Q (-13) σ_1))) ∧ (¬ x2 = 2 → (c_castX σ_1 0 r_7 (0 + c_3) (0 + b_4) mc ms (∃ (c_8 b_9 : Nat) (fs_10 : List Value), (0 + c_3) + c_8 ≤ mc ∧ (0 + b_4) + b_9 ≤ ms ∧ σ_1.2 x0 = some (.inr (0, fs_10)) ∧ wX0_pasted (fun (v_11 : Int32) (σ_12 : gH) => Q v_11 σ_12) (fun (cls9 : String) (σ_13 : gH) => (cls9 = "java/lang/NullPointerException" ∧ (Q (-11) σ_13)) ∨ (cls9 = "java/lang/ArrayIndexOutOfBoundsException" ∧ (Q (-12) σ_13)) ∨ (cls9 = "java/lang/NegativeArraySizeException" ∧ (Q (-14) σ_13))) c_8 b_9 x0 r_7 x3 x4 σ_1) (Q (-13) σ_1)))))))))) c_3 b_4 x0 x1 σ)
set_option maxHeartbeats 4000000 in
theorem ctX0_act {Q : Int32 → gH → Prop} {mc ms : Nat} {x0 : Nat} {x1 : Int32} {x2 : Int32} {x3 : Int32} {x4 : Int32} {σ : gH} (w : wX0_act Q mc ms x0 x1 x2 x3 x4 σ) : CTW mX0_act [(10, 78, 79, 291), (10, 78, 84, 293), (10, 78, 89, 295), (10, 78, 94, 297)] 301 mc ms [.ref x0, .int x1, .int x2, .int x3, .int x4] σ (c_Ki Q) := by
  refine CTW.of (lv := [(0, .ref x0), (1, .int x1), (2, .int x2), (3, .int x3), (4, .int x4)]) (by decide +kernel) rfl rfl ?_
  unfold wX0_act at w
  refine e_aload_n (n := 1) dX0_act_0 rfl 0 rfl ?_
  refine e_iload_n (n := 2) dX0_act_1 rfl 1 rfl ?_
  obtain ⟨fs_5, wo, w⟩ := w
  obtain ⟨c_3, b_4, hu1, hu2, w⟩ := w
  refine e_callV (n := 5) (As := [.int x1]) (st := []) okX0_shelf q1124 q1126 qs21 q57 q1127 rfl wo rfl (by decide) hu1 hu2 rfl rfl (Nat.le_of_ble_eq_true rfl) dX0_act_2 rfl (ctX0_shelf w) (fun r9 σ_1 hk => ?_)
  obtain ⟨r_2, rfl, w⟩ := hk
  obtain ⟨a_6, ha_6, w9a_6⟩ := w
  subst ha_6
  have w := w9a_6
  refine e_cR (n := 8) w fw_X17_thing (gl_n q1133) dX0_act_5 rfl (fun r_7 w => ?_)
  refine e_astorer (n := 10) (r := r_7) (lv' := [(0, .ref x0), (1, .int x1), (2, .int x2), (3, .int x3), (4, .int x4), (5, va_rf r_7)]) [1, 2, 3, 4, 5, 0] dX0_act_8 rfl rfl rfl ?_
  refine e_iload_n (n := 11) dX0_act_10 rfl 2 rfl ?_
  refine e_if_ne (n := 14) (tgt := 24) dX0_act_11 rfl (by decide) (fun h => ?_) (fun h => ?_)
  · have w := w.2 h
    refine e_iload_n (n := 25) dX0_act_24 rfl 2 rfl ?_
    refine e_iconst (n := 26) (v := 1) dX0_act_25 rfl (by decide) ?_
    refine e_icmp_ne (n := 29) (tgt := 45) dX0_act_26 rfl (by decide) (fun h => ?_) (fun h => ?_)
    · have w := w.2 h
      refine e_iload_n (n := 46) dX0_act_45 rfl 2 rfl ?_
      refine e_iconst (n := 47) (v := 2) dX0_act_46 rfl (by decide) ?_
      refine e_icmp_ne (n := 50) (tgt := 66) dX0_act_47 rfl (by decide) (fun h => ?_) (fun h => ?_)
      · have w := w.2 h
        refine e_aload_n (n := 67) dX0_act_66 rfl 0 rfl ?_
        refine e_aloadr (n := 69) (r := r_7) dX0_act_67 rfl 5 rfl ?_
        refine e_castX (n := 72) (r := r_7) w (by decide) q1298 q1154 hdX0_act_69_C (by decide) (fun _ _ => Nat.le_of_ble_eq_true rfl) dX0_act_69 rfl (fun w => ?_) (fun w hu1 hu2 q9 => ?_)
        · refine e_iload_n (n := 73) dX0_act_72 rfl 3 rfl ?_
          refine e_iload (n := 75) dX0_act_73 rfl 4 rfl ?_
          obtain ⟨c_8, b_9, fs_10, hu1, hu2, wo, w⟩ := w
          refine e_callX (n := 78) (As := [va_rf r_7, .int x3, .int x4]) (st := []) okX0_pasted q1299 q1301 qs25 q57 q1302 rfl q1154 wo rfl (by decide) hu1 hu2 rfl rfl (Nat.le_of_ble_eq_true rfl) dX0_act_75 rfl (ctX0_pasted w) (fun r9 σ_12 hk => ?_) (fun cls9 σ_13 hk => ?_)
          · obtain ⟨v_11, rfl, w⟩ := hk
            exact e_iret rfl hu1 hu2 ⟨_, rfl, w⟩ dX0_act_78
          · rcases hk with ⟨rfl, w⟩ | ⟨rfl, w⟩ | ⟨rfl, w⟩
            · refine ⟨79, hdX0_act_75_N, fun q9 => ?_⟩
              refine e_astore (n := 81) (lv' := [(0, .ref x0), (1, .int x1), (2, .int x2), (3, .int x3), (4, .int x4), (5, va_rf r_7), (6, .ref q9)]) [1, 2, 3, 4, 5, 6, 0] dX0_act_79 rfl rfl (by cases r_7 <;> rfl) ?_
              refine e_bipush (n := 83) (v := (-11)) dX0_act_81 rfl (by decide) ?_
              exact e_iret rfl hu1 hu2 ⟨_, rfl, w⟩ dX0_act_83
            · refine ⟨84, hdX0_act_75_I, fun q9 => ?_⟩
              refine e_astore (n := 86) (lv' := [(0, .ref x0), (1, .int x1), (2, .int x2), (3, .int x3), (4, .int x4), (5, va_rf r_7), (6, .ref q9)]) [1, 2, 3, 4, 5, 6, 0] dX0_act_84 rfl rfl (by cases r_7 <;> rfl) ?_
              refine e_bipush (n := 88) (v := (-12)) dX0_act_86 rfl (by decide) ?_
              exact e_iret rfl hu1 hu2 ⟨_, rfl, w⟩ dX0_act_88
            · refine ⟨94, hdX0_act_75_Z, fun q9 => ?_⟩
              refine e_astore (n := 96) (lv' := [(0, .ref x0), (1, .int x1), (2, .int x2), (3, .int x3), (4, .int x4), (5, va_rf r_7), (6, .ref q9)]) [1, 2, 3, 4, 5, 6, 0] dX0_act_94 rfl rfl (by cases r_7 <;> rfl) ?_
              refine e_bipush (n := 98) (v := (-14)) dX0_act_96 rfl (by decide) ?_
              exact e_iret rfl hu1 hu2 ⟨_, rfl, w⟩ dX0_act_98
        · refine e_astore (n := 91) (lv' := [(0, .ref x0), (1, .int x1), (2, .int x2), (3, .int x3), (4, .int x4), (5, va_rf r_7), (6, .ref q9)]) [1, 2, 3, 4, 5, 6, 0] dX0_act_89 rfl rfl (by cases r_7 <;> rfl) ?_
          refine e_bipush (n := 93) (v := (-13)) dX0_act_91 rfl (by decide) ?_
          exact e_iret rfl hu1 hu2 ⟨_, rfl, w⟩ dX0_act_93
      · have w := w.1 h
        refine e_aloadr (n := 52) (r := r_7) dX0_act_50 rfl 5 rfl ?_
        refine e_castX (n := 55) (r := r_7) w (by decide) q153 q1154 hdX0_act_52_C (by decide) (fun _ _ => Nat.le_of_ble_eq_true rfl) dX0_act_52 rfl (fun w => ?_) (fun w hu1 hu2 q9 => ?_)
        · obtain ⟨w8, w9⟩ := w
          rcases r_7 with _ | a_14
          · obtain ⟨hu1, hu2, w⟩ := w8 rfl
            refine e_hdN (rest := []) q1154 hdX0_act_55_N (rs_getN q161 q162 dX0_act_55) hu1 hu2 (by decide) (Nat.le_of_ble_eq_true rfl) (fun q9 => ?_)
            refine e_astore (n := 81) (lv' := [(0, .ref x0), (1, .int x1), (2, .int x2), (3, .int x3), (4, .int x4), (5, va_rf none), (6, .ref q9)]) [1, 2, 3, 4, 5, 6, 0] dX0_act_79 rfl rfl rfl ?_
            refine e_bipush (n := 83) (v := (-11)) dX0_act_81 rfl (by decide) ?_
            exact e_iret rfl hu1 hu2 ⟨_, rfl, w⟩ dX0_act_83
          have w := w9 a_14 rfl
          refine e_cR (n := 58) w fw_X2_cells (gl_n q161) dX0_act_55 rfl (fun r_15 w => ?_)
          refine e_iload (n := 60) dX0_act_58 rfl 4 rfl ?_
          obtain ⟨a_16, ha_16, w9a_16⟩ := w
          subst ha_16
          have w := w9a_16
          refine e_caR (n := 61) w (fun _ => rfl) rfl dX0_act_60 rfl (fun r_17 w => ?_)
          refine e_iload_n (n := 62) dX0_act_61 rfl 3 rfl ?_
          obtain ⟨a_18, ha_18, w9a_18⟩ := w
          subst ha_18
          have w := w9a_18
          refine e_caIX (n := 63) w q1154 hdX0_act_62_I (by decide) (Nat.le_of_ble_eq_true rfl) dX0_act_62 rfl (fun v_19 w => ?_) (fun w hu1 hu2 q9 => ?_)
          · refine e_goto (n := 78) dX0_act_63 (by decide) ?_
            exact e_iret rfl hu1 hu2 ⟨_, rfl, w⟩ dX0_act_78
          · refine e_astore (n := 86) (lv' := [(0, .ref x0), (1, .int x1), (2, .int x2), (3, .int x3), (4, .int x4), (5, .ref a_14), (6, .ref q9)]) [1, 2, 3, 4, 5, 6, 0] dX0_act_84 rfl rfl rfl ?_
            refine e_bipush (n := 88) (v := (-12)) dX0_act_86 rfl (by decide) ?_
            exact e_iret rfl hu1 hu2 ⟨_, rfl, w⟩ dX0_act_88
        · refine e_astore (n := 91) (lv' := [(0, .ref x0), (1, .int x1), (2, .int x2), (3, .int x3), (4, .int x4), (5, va_rf r_7), (6, .ref q9)]) [1, 2, 3, 4, 5, 6, 0] dX0_act_89 rfl rfl (by cases r_7 <;> rfl) ?_
          refine e_bipush (n := 93) (v := (-13)) dX0_act_91 rfl (by decide) ?_
          exact e_iret rfl hu1 hu2 ⟨_, rfl, w⟩ dX0_act_93
    · have w := w.1 h
      refine e_aloadr (n := 31) (r := r_7) dX0_act_29 rfl 5 rfl ?_
      refine e_castX (n := 34) (r := r_7) w (by decide) q134 q1154 hdX0_act_31_C (by decide) (fun _ _ => Nat.le_of_ble_eq_true rfl) dX0_act_31 rfl (fun w => ?_) (fun w hu1 hu2 q9 => ?_)
      · obtain ⟨w8, w9⟩ := w
        rcases r_7 with _ | a_20
        · obtain ⟨hu1, hu2, w⟩ := w8 rfl
          refine e_hdN (rest := []) q1154 hdX0_act_34_N (rs_getN q143 q147 dX0_act_34) hu1 hu2 (by decide) (Nat.le_of_ble_eq_true rfl) (fun q9 => ?_)
          refine e_astore (n := 81) (lv' := [(0, .ref x0), (1, .int x1), (2, .int x2), (3, .int x3), (4, .int x4), (5, va_rf none), (6, .ref q9)]) [1, 2, 3, 4, 5, 6, 0] dX0_act_79 rfl rfl rfl ?_
          refine e_bipush (n := 83) (v := (-11)) dX0_act_81 rfl (by decide) ?_
          exact e_iret rfl hu1 hu2 ⟨_, rfl, w⟩ dX0_act_83
        have w := w9 a_20 rfl
        refine e_cR (n := 37) w fw_X1_cells (gl_n q143) dX0_act_34 rfl (fun r_21 w => ?_)
        refine e_iload (n := 39) dX0_act_37 rfl 4 rfl ?_
        obtain ⟨a_22, ha_22, w9a_22⟩ := w
        subst ha_22
        have w := w9a_22
        refine e_caR (n := 40) w (fun _ => rfl) rfl dX0_act_39 rfl (fun r_23 w => ?_)
        refine e_iload_n (n := 41) dX0_act_40 rfl 3 rfl ?_
        obtain ⟨a_24, ha_24, w9a_24⟩ := w
        subst ha_24
        have w := w9a_24
        refine e_caIX (n := 42) w q1154 hdX0_act_41_I (by decide) (Nat.le_of_ble_eq_true rfl) dX0_act_41 rfl (fun v_25 w => ?_) (fun w hu1 hu2 q9 => ?_)
        · refine e_goto (n := 78) dX0_act_42 (by decide) ?_
          exact e_iret rfl hu1 hu2 ⟨_, rfl, w⟩ dX0_act_78
        · refine e_astore (n := 86) (lv' := [(0, .ref x0), (1, .int x1), (2, .int x2), (3, .int x3), (4, .int x4), (5, .ref a_20), (6, .ref q9)]) [1, 2, 3, 4, 5, 6, 0] dX0_act_84 rfl rfl rfl ?_
          refine e_bipush (n := 88) (v := (-12)) dX0_act_86 rfl (by decide) ?_
          exact e_iret rfl hu1 hu2 ⟨_, rfl, w⟩ dX0_act_88
      · refine e_astore (n := 91) (lv' := [(0, .ref x0), (1, .int x1), (2, .int x2), (3, .int x3), (4, .int x4), (5, va_rf r_7), (6, .ref q9)]) [1, 2, 3, 4, 5, 6, 0] dX0_act_89 rfl rfl (by cases r_7 <;> rfl) ?_
        refine e_bipush (n := 93) (v := (-13)) dX0_act_91 rfl (by decide) ?_
        exact e_iret rfl hu1 hu2 ⟨_, rfl, w⟩ dX0_act_93
  · have w := w.1 h
    refine e_aloadr (n := 16) (r := r_7) dX0_act_14 rfl 5 rfl ?_
    refine e_castX (n := 19) (r := r_7) w (by decide) q1298 q1154 hdX0_act_16_C (by decide) (fun _ _ => Nat.le_of_ble_eq_true rfl) dX0_act_16 rfl (fun w => ?_) (fun w hu1 hu2 q9 => ?_)
    · refine e_iload_n (n := 20) dX0_act_19 rfl 3 rfl ?_
      obtain ⟨w8, w9⟩ := w
      rcases r_7 with _ | a_26
      · obtain ⟨hu1, hu2, w⟩ := w8 rfl
        refine e_hdN (rest := []) q1154 hdX0_act_20_N (rs_ialdN dX0_act_20) hu1 hu2 (by decide) (Nat.le_of_ble_eq_true rfl) (fun q9 => ?_)
        refine e_astore (n := 81) (lv' := [(0, .ref x0), (1, .int x1), (2, .int x2), (3, .int x3), (4, .int x4), (5, va_rf none), (6, .ref q9)]) [1, 2, 3, 4, 5, 6, 0] dX0_act_79 rfl rfl rfl ?_
        refine e_bipush (n := 83) (v := (-11)) dX0_act_81 rfl (by decide) ?_
        exact e_iret rfl hu1 hu2 ⟨_, rfl, w⟩ dX0_act_83
      have w := w9 a_26 rfl
      refine e_caIX (n := 21) w q1154 hdX0_act_20_I (by decide) (Nat.le_of_ble_eq_true rfl) dX0_act_20 rfl (fun v_27 w => ?_) (fun w hu1 hu2 q9 => ?_)
      · refine e_goto (n := 78) dX0_act_21 (by decide) ?_
        exact e_iret rfl hu1 hu2 ⟨_, rfl, w⟩ dX0_act_78
      · refine e_astore (n := 86) (lv' := [(0, .ref x0), (1, .int x1), (2, .int x2), (3, .int x3), (4, .int x4), (5, .ref a_26), (6, .ref q9)]) [1, 2, 3, 4, 5, 6, 0] dX0_act_84 rfl rfl rfl ?_
        refine e_bipush (n := 88) (v := (-12)) dX0_act_86 rfl (by decide) ?_
        exact e_iret rfl hu1 hu2 ⟨_, rfl, w⟩ dX0_act_88
    · refine e_astore (n := 91) (lv' := [(0, .ref x0), (1, .int x1), (2, .int x2), (3, .int x3), (4, .int x4), (5, va_rf r_7), (6, .ref q9)]) [1, 2, 3, 4, 5, 6, 0] dX0_act_89 rfl rfl (by cases r_7 <;> rfl) ?_
      refine e_bipush (n := 93) (v := (-13)) dX0_act_91 rfl (by decide) ?_
      exact e_iret rfl hu1 hu2 ⟨_, rfl, w⟩ dX0_act_93
abbrev mX0_rowAt : gM := (yX0_rowAt, cX0_rowAt, 3, some .int)
theorem okX0_rowAt : g_ok mX0_rowAt 2 := ⟨by decide +kernel, by decide +kernel, by decide +kernel, by decide +kernel, by decide⟩
def wX0_rowAt (Q : Int32 → gH → Prop) (mc ms : Nat) (x0 : Nat) (x1 : Int32) (x2 : Int32) (σ : gH) : Prop := ∃ fs_2 : List Value, σ.2 x0 = some (.inr (0, fs_2)) ∧ (wX0_isShelf (fun (v_1 : Int32) => (v_1 = 0 → (Q (-1) σ)) ∧ (¬ v_1 = 0 → (∃ fs_7 : List Value, σ.2 x0 = some (.inr (0, fs_7)) ∧ ∃ c_5 b_6 : Nat, 0 + c_5 ≤ mc ∧ 0 + b_6 ≤ ms ∧ (wX0_act (fun (v_4 : Int32) (σ_3 : gH) => Q v_4 σ_3) c_5 b_6 x0 x1 0 x2 0 σ)))) σ x0 x1)
set_option maxHeartbeats 4000000 in
theorem ctX0_rowAt {Q : Int32 → gH → Prop} {mc ms : Nat} {x0 : Nat} {x1 : Int32} {x2 : Int32} {σ : gH} (w : wX0_rowAt Q mc ms x0 x1 x2 σ) : CT mX0_rowAt 302 mc ms [.ref x0, .int x1, .int x2] σ (c_Ki Q) := by
  refine CT.of (lv := [(0, .ref x0), (1, .int x1), (2, .int x2)]) okX0_rowAt.1 rfl rfl ?_
  unfold wX0_rowAt at w
  refine e_aload_n (n := 1) dX0_rowAt_0 rfl 0 rfl ?_
  refine e_iload_n (n := 2) dX0_rowAt_1 rfl 1 rfl ?_
  obtain ⟨fs_2, wo, w⟩ := w
  refine e_callV (n := 5) (As := [.int x1]) (st := []) okX0_isShelf q1119 q1121 qs20 q57 q1122 rfl wo rfl (by decide) (Nat.zero_le _) (Nat.zero_le _) rfl rfl (Nat.le_of_ble_eq_true rfl) dX0_rowAt_2 rfl (ctX0_isShelf w) (fun r9 σ9 hk => ?_)
  obtain ⟨v_1, rfl, hs9, w⟩ := hk
  rw [hs9]
  refine e_if_eq (n := 8) (tgt := 19) dX0_rowAt_5 rfl (by decide) (fun h => ?_) (fun h => ?_)
  · have w := w.1 h
    refine e_iconst (n := 20) (v := (-1)) dX0_rowAt_19 rfl (by decide) ?_
    exact e_iret rfl (Nat.zero_le _) (Nat.zero_le _) ⟨_, rfl, w⟩ dX0_rowAt_20
  · have w := w.2 h
    refine e_aload_n (n := 9) dX0_rowAt_8 rfl 0 rfl ?_
    refine e_iload_n (n := 10) dX0_rowAt_9 rfl 1 rfl ?_
    refine e_iconst (n := 11) (v := 0) dX0_rowAt_10 rfl (by decide) ?_
    refine e_iload_n (n := 12) dX0_rowAt_11 rfl 2 rfl ?_
    refine e_iconst (n := 13) (v := 0) dX0_rowAt_12 rfl (by decide) ?_
    obtain ⟨fs_7, wo, w⟩ := w
    obtain ⟨c_5, b_6, hu1, hu2, w⟩ := w
    refine e_callW (n := 16) (As := [.int x1, .int 0, .int x2, .int 0]) (st := []) okX0_act q1151 q1153 qs22 q57 q1154 rfl wo rfl (by decide) hu1 hu2 rfl rfl (Nat.le_of_ble_eq_true rfl) dX0_rowAt_13 rfl (ctX0_act w) (fun r9 σ_3 hk => ?_)
    obtain ⟨v_4, rfl, w⟩ := hk
    refine e_goto (n := 20) dX0_rowAt_16 (by decide) ?_
    exact e_iret rfl hu1 hu2 ⟨_, rfl, w⟩ dX0_rowAt_20
abbrev mX0_treeAt : gM := (yX0_treeAt, cX0_treeAt, 4, some .int)
theorem okX0_treeAt : g_ok mX0_treeAt 3 := ⟨by decide +kernel, by decide +kernel, by decide +kernel, by decide +kernel, by decide⟩
def wX0_treeAt (Q : Int32 → gH → Prop) (mc ms : Nat) (x0 : Nat) (x1 : Int32) (x2 : Int32) (x3 : Int32) (σ : gH) : Prop := ∃ fs_2 : List Value, σ.2 x0 = some (.inr (0, fs_2)) ∧ (wX0_isShelf (fun (v_1 : Int32) => (v_1 = 0 → (Q (-1) σ)) ∧ (¬ v_1 = 0 → (wX0_in (fun (v_3 : Int32) => (v_3 = 0 → (Q (-1) σ)) ∧ (¬ v_3 = 0 → (∃ fs_8 : List Value, σ.2 x0 = some (.inr (0, fs_8)) ∧ ∃ c_6 b_7 : Nat, 0 + c_6 ≤ mc ∧ 0 + b_7 ≤ ms ∧ (wX0_act (fun (v_5 : Int32) (σ_4 : gH) => Q v_5 σ_4) c_6 b_7 x0 x1 1 x2 x3 σ)))) σ x3.toInt64 0 4))) σ x0 x1)
set_option maxHeartbeats 4000000 in
theorem ctX0_treeAt {Q : Int32 → gH → Prop} {mc ms : Nat} {x0 : Nat} {x1 : Int32} {x2 : Int32} {x3 : Int32} {σ : gH} (w : wX0_treeAt Q mc ms x0 x1 x2 x3 σ) : CT mX0_treeAt 302 mc ms [.ref x0, .int x1, .int x2, .int x3] σ (c_Ki Q) := by
  refine CT.of (lv := [(0, .ref x0), (1, .int x1), (2, .int x2), (3, .int x3)]) okX0_treeAt.1 rfl rfl ?_
  unfold wX0_treeAt at w
  refine e_aload_n (n := 1) dX0_treeAt_0 rfl 0 rfl ?_
  refine e_iload_n (n := 2) dX0_treeAt_1 rfl 1 rfl ?_
  obtain ⟨fs_2, wo, w⟩ := w
  refine e_callV (n := 5) (As := [.int x1]) (st := []) okX0_isShelf q1119 q1121 qs20 q57 q1122 rfl wo rfl (by decide) (Nat.zero_le _) (Nat.zero_le _) rfl rfl (Nat.le_of_ble_eq_true rfl) dX0_treeAt_2 rfl (ctX0_isShelf w) (fun r9 σ9 hk => ?_)
  obtain ⟨v_1, rfl, hs9, w⟩ := hk
  rw [hs9]
  refine e_if_eq (n := 8) (tgt := 31) dX0_treeAt_5 rfl (by decide) (fun h => ?_) (fun h => ?_)
  · have w := w.1 h
    refine e_iconst (n := 32) (v := (-1)) dX0_treeAt_31 rfl (by decide) ?_
    exact e_iret rfl (Nat.zero_le _) (Nat.zero_le _) ⟨_, rfl, w⟩ dX0_treeAt_32
  · have w := w.2 h
    refine e_iload_n (n := 9) dX0_treeAt_8 rfl 3 rfl ?_
    refine e_i2l (n := 10) dX0_treeAt_9 rfl ?_
    refine e_lconst (n := 11) (v := 0) dX0_treeAt_10 rfl (by decide) ?_
    refine e_ldc2 (n := 14) q435 dX0_treeAt_11 rfl ?_
    refine e_callS (n := 17) (As := [.long x3.toInt64, .long 0, .long 4]) (st := []) okX0_in q279 q280 q57 q281 (by decide) (Nat.zero_le _) (Nat.zero_le _) rfl rfl (Nat.le_of_ble_eq_true rfl) dX0_treeAt_14 rfl (ctX0_in w) (fun r9 σ9 hk => ?_)
    obtain ⟨v_3, rfl, hs9, w⟩ := hk
    rw [hs9]
    refine e_if_eq (n := 20) (tgt := 31) dX0_treeAt_17 rfl (by decide) (fun h => ?_) (fun h => ?_)
    · have w := w.1 h
      refine e_iconst (n := 32) (v := (-1)) dX0_treeAt_31 rfl (by decide) ?_
      exact e_iret rfl (Nat.zero_le _) (Nat.zero_le _) ⟨_, rfl, w⟩ dX0_treeAt_32
    · have w := w.2 h
      refine e_aload_n (n := 21) dX0_treeAt_20 rfl 0 rfl ?_
      refine e_iload_n (n := 22) dX0_treeAt_21 rfl 1 rfl ?_
      refine e_iconst (n := 23) (v := 1) dX0_treeAt_22 rfl (by decide) ?_
      refine e_iload_n (n := 24) dX0_treeAt_23 rfl 2 rfl ?_
      refine e_iload_n (n := 25) dX0_treeAt_24 rfl 3 rfl ?_
      obtain ⟨fs_8, wo, w⟩ := w
      obtain ⟨c_6, b_7, hu1, hu2, w⟩ := w
      refine e_callW (n := 28) (As := [.int x1, .int 1, .int x2, .int x3]) (st := []) okX0_act q1151 q1153 qs22 q57 q1154 rfl wo rfl (by decide) hu1 hu2 rfl rfl (Nat.le_of_ble_eq_true rfl) dX0_treeAt_25 rfl (ctX0_act w) (fun r9 σ_4 hk => ?_)
      obtain ⟨v_5, rfl, w⟩ := hk
      refine e_goto (n := 32) dX0_treeAt_28 (by decide) ?_
      exact e_iret rfl hu1 hu2 ⟨_, rfl, w⟩ dX0_treeAt_32
abbrev mX0_slipAt : gM := (yX0_slipAt, cX0_slipAt, 4, some .int)
theorem okX0_slipAt : g_ok mX0_slipAt 3 := ⟨by decide +kernel, by decide +kernel, by decide +kernel, by decide +kernel, by decide⟩
def wX0_slipAt (Q : Int32 → gH → Prop) (mc ms : Nat) (x0 : Nat) (x1 : Int32) (x2 : Int32) (x3 : Int32) (σ : gH) : Prop := ∃ fs_2 : List Value, σ.2 x0 = some (.inr (0, fs_2)) ∧ (wX0_isShelf (fun (v_1 : Int32) => (v_1 = 0 → (Q (-1) σ)) ∧ (¬ v_1 = 0 → (wX0_in (fun (v_3 : Int32) => (v_3 = 0 → (Q (-1) σ)) ∧ (¬ v_3 = 0 → (∃ fs_8 : List Value, σ.2 x0 = some (.inr (0, fs_8)) ∧ ∃ c_6 b_7 : Nat, 0 + c_6 ≤ mc ∧ 0 + b_7 ≤ ms ∧ (wX0_act (fun (v_5 : Int32) (σ_4 : gH) => Q v_5 σ_4) c_6 b_7 x0 x1 2 x2 x3 σ)))) σ x3.toInt64 0 3))) σ x0 x1)
set_option maxHeartbeats 4000000 in
theorem ctX0_slipAt {Q : Int32 → gH → Prop} {mc ms : Nat} {x0 : Nat} {x1 : Int32} {x2 : Int32} {x3 : Int32} {σ : gH} (w : wX0_slipAt Q mc ms x0 x1 x2 x3 σ) : CT mX0_slipAt 302 mc ms [.ref x0, .int x1, .int x2, .int x3] σ (c_Ki Q) := by
  refine CT.of (lv := [(0, .ref x0), (1, .int x1), (2, .int x2), (3, .int x3)]) okX0_slipAt.1 rfl rfl ?_
  unfold wX0_slipAt at w
  refine e_aload_n (n := 1) dX0_slipAt_0 rfl 0 rfl ?_
  refine e_iload_n (n := 2) dX0_slipAt_1 rfl 1 rfl ?_
  obtain ⟨fs_2, wo, w⟩ := w
  refine e_callV (n := 5) (As := [.int x1]) (st := []) okX0_isShelf q1119 q1121 qs20 q57 q1122 rfl wo rfl (by decide) (Nat.zero_le _) (Nat.zero_le _) rfl rfl (Nat.le_of_ble_eq_true rfl) dX0_slipAt_2 rfl (ctX0_isShelf w) (fun r9 σ9 hk => ?_)
  obtain ⟨v_1, rfl, hs9, w⟩ := hk
  rw [hs9]
  refine e_if_eq (n := 8) (tgt := 31) dX0_slipAt_5 rfl (by decide) (fun h => ?_) (fun h => ?_)
  · have w := w.1 h
    refine e_iconst (n := 32) (v := (-1)) dX0_slipAt_31 rfl (by decide) ?_
    exact e_iret rfl (Nat.zero_le _) (Nat.zero_le _) ⟨_, rfl, w⟩ dX0_slipAt_32
  · have w := w.2 h
    refine e_iload_n (n := 9) dX0_slipAt_8 rfl 3 rfl ?_
    refine e_i2l (n := 10) dX0_slipAt_9 rfl ?_
    refine e_lconst (n := 11) (v := 0) dX0_slipAt_10 rfl (by decide) ?_
    refine e_ldc2 (n := 14) q1102 dX0_slipAt_11 rfl ?_
    refine e_callS (n := 17) (As := [.long x3.toInt64, .long 0, .long 3]) (st := []) okX0_in q279 q280 q57 q281 (by decide) (Nat.zero_le _) (Nat.zero_le _) rfl rfl (Nat.le_of_ble_eq_true rfl) dX0_slipAt_14 rfl (ctX0_in w) (fun r9 σ9 hk => ?_)
    obtain ⟨v_3, rfl, hs9, w⟩ := hk
    rw [hs9]
    refine e_if_eq (n := 20) (tgt := 31) dX0_slipAt_17 rfl (by decide) (fun h => ?_) (fun h => ?_)
    · have w := w.1 h
      refine e_iconst (n := 32) (v := (-1)) dX0_slipAt_31 rfl (by decide) ?_
      exact e_iret rfl (Nat.zero_le _) (Nat.zero_le _) ⟨_, rfl, w⟩ dX0_slipAt_32
    · have w := w.2 h
      refine e_aload_n (n := 21) dX0_slipAt_20 rfl 0 rfl ?_
      refine e_iload_n (n := 22) dX0_slipAt_21 rfl 1 rfl ?_
      refine e_iconst (n := 23) (v := 2) dX0_slipAt_22 rfl (by decide) ?_
      refine e_iload_n (n := 24) dX0_slipAt_23 rfl 2 rfl ?_
      refine e_iload_n (n := 25) dX0_slipAt_24 rfl 3 rfl ?_
      obtain ⟨fs_8, wo, w⟩ := w
      obtain ⟨c_6, b_7, hu1, hu2, w⟩ := w
      refine e_callW (n := 28) (As := [.int x1, .int 2, .int x2, .int x3]) (st := []) okX0_act q1151 q1153 qs22 q57 q1154 rfl wo rfl (by decide) hu1 hu2 rfl rfl (Nat.le_of_ble_eq_true rfl) dX0_slipAt_25 rfl (ctX0_act w) (fun r9 σ_4 hk => ?_)
      obtain ⟨v_5, rfl, w⟩ := hk
      refine e_goto (n := 32) dX0_slipAt_28 (by decide) ?_
      exact e_iret rfl hu1 hu2 ⟨_, rfl, w⟩ dX0_slipAt_32
abbrev mX0_paste : gM := (yX0_paste, cX0_paste, 4, some .int)
theorem okX0_paste : g_ok mX0_paste 3 := ⟨by decide +kernel, by decide +kernel, by decide +kernel, by decide +kernel, by decide⟩
def wX0_paste (Q : Int32 → gH → Prop) (mc ms : Nat) (x0 : Nat) (x1 : Int32) (x2 : Int32) (x3 : Int32) (σ : gH) : Prop := ∃ fs_2 : List Value, σ.2 x0 = some (.inr (0, fs_2)) ∧ (wX0_isShelf (fun (v_1 : Int32) => (v_1 = 0 → (Q (-1) σ)) ∧ (¬ v_1 = 0 → ((x3 ≤ 10 → (∃ fs_7 : List Value, σ.2 x0 = some (.inr (0, fs_7)) ∧ ∃ c_5 b_6 : Nat, 0 + c_5 ≤ mc ∧ 0 + b_6 ≤ ms ∧ (wX0_act (fun (v_4 : Int32) (σ_3 : gH) => Q v_4 σ_3) c_5 b_6 x0 x1 3 x2 x3 σ))) ∧ (¬ x3 ≤ 10 → (Q (-2) σ))))) σ x0 x1)
set_option maxHeartbeats 4000000 in
theorem ctX0_paste {Q : Int32 → gH → Prop} {mc ms : Nat} {x0 : Nat} {x1 : Int32} {x2 : Int32} {x3 : Int32} {σ : gH} (w : wX0_paste Q mc ms x0 x1 x2 x3 σ) : CT mX0_paste 302 mc ms [.ref x0, .int x1, .int x2, .int x3] σ (c_Ki Q) := by
  refine CT.of (lv := [(0, .ref x0), (1, .int x1), (2, .int x2), (3, .int x3)]) okX0_paste.1 rfl rfl ?_
  unfold wX0_paste at w
  refine e_aload_n (n := 1) dX0_paste_0 rfl 0 rfl ?_
  refine e_iload_n (n := 2) dX0_paste_1 rfl 1 rfl ?_
  obtain ⟨fs_2, wo, w⟩ := w
  refine e_callV (n := 5) (As := [.int x1]) (st := []) okX0_isShelf q1119 q1121 qs20 q57 q1122 rfl wo rfl (by decide) (Nat.zero_le _) (Nat.zero_le _) rfl rfl (Nat.le_of_ble_eq_true rfl) dX0_paste_2 rfl (ctX0_isShelf w) (fun r9 σ9 hk => ?_)
  obtain ⟨v_1, rfl, hs9, w⟩ := hk
  rw [hs9]
  refine e_if_ne (n := 8) (tgt := 10) dX0_paste_5 rfl (by decide) (fun h => ?_) (fun h => ?_)
  · have w := w.2 h
    refine e_iload_n (n := 11) dX0_paste_10 rfl 3 rfl ?_
    refine e_bipush (n := 13) (v := 10) dX0_paste_11 rfl (by decide) ?_
    refine e_icmp_le (n := 16) (tgt := 21) dX0_paste_13 rfl (by decide) (fun h => ?_) (fun h => ?_)
    · have w := w.1 h
      refine e_aload_n (n := 22) dX0_paste_21 rfl 0 rfl ?_
      refine e_iload_n (n := 23) dX0_paste_22 rfl 1 rfl ?_
      refine e_iconst (n := 24) (v := 3) dX0_paste_23 rfl (by decide) ?_
      refine e_iload_n (n := 25) dX0_paste_24 rfl 2 rfl ?_
      refine e_iload_n (n := 26) dX0_paste_25 rfl 3 rfl ?_
      obtain ⟨fs_7, wo, w⟩ := w
      obtain ⟨c_5, b_6, hu1, hu2, w⟩ := w
      refine e_callW (n := 29) (As := [.int x1, .int 3, .int x2, .int x3]) (st := []) okX0_act q1151 q1153 qs22 q57 q1154 rfl wo rfl (by decide) hu1 hu2 rfl rfl (Nat.le_of_ble_eq_true rfl) dX0_paste_26 rfl (ctX0_act w) (fun r9 σ_3 hk => ?_)
      obtain ⟨v_4, rfl, w⟩ := hk
      exact e_iret rfl hu1 hu2 ⟨_, rfl, w⟩ dX0_paste_29
    · have w := w.2 h
      refine e_bipush (n := 18) (v := (-2)) dX0_paste_16 rfl (by decide) ?_
      refine e_goto (n := 29) dX0_paste_18 (by decide) ?_
      exact e_iret rfl (Nat.zero_le _) (Nat.zero_le _) ⟨_, rfl, w⟩ dX0_paste_29
  · have w := w.1 h
    refine e_iconst (n := 9) (v := (-1)) dX0_paste_8 rfl (by decide) ?_
    exact e_iret rfl (Nat.zero_le _) (Nat.zero_le _) ⟨_, rfl, w⟩ dX0_paste_9
abbrev mX0_distance : gM := (yX0_distance, cX0_distance, 6, some .int)
theorem okX0_distance : g_ok mX0_distance 1 := ⟨by decide +kernel, by decide +kernel, by decide +kernel, by decide +kernel, by decide⟩
set_option maxHeartbeats 4000000 in
theorem hdX0_distance_18_C : g_Hd mX0_distance [(10, 75, 76, 291), (10, 75, 80, 295)] 18 "java/lang/ClassCastException" 80 := by
  refine ⟨[((10, 75, 76, 291), "java/lang/NullPointerException")], ((10, 75, 80, 295), "java/lang/ClassCastException"), [], rfl, rfl, ?_, by decide, by decide, q1270, q1282⟩
  intro q hq
  simp only [List.mem_cons, List.not_mem_nil, or_false] at hq
  subst hq
  exact ⟨by decide, by decide, q1155, by decide +kernel⟩
set_option maxHeartbeats 4000000 in
theorem hdX0_distance_23_N : g_Hd mX0_distance [(10, 75, 76, 291), (10, 75, 80, 295)] 23 "java/lang/NullPointerException" 76 := by
  refine ⟨[], ((10, 75, 76, 291), "java/lang/NullPointerException"), [(10, 75, 80, 295)], rfl, rfl, ?_, by decide, by decide, q1155, q1221⟩
  intro q hq
  simp only [List.mem_cons, List.not_mem_nil, or_false] at hq

def wX0_distance (Q : Int32 → gH → Prop) (mc ms : Nat) (x0 : Nat) (x1 : Int32) (σ : gH) : Prop := ∃ fs_2 : List Value, σ.2 x0 = some (.inr (0, fs_2)) ∧ (wX0_isShelf (fun (v_1 : Int32) => (v_1 = 0 → (Q (-1) σ)) ∧ (¬ v_1 = 0 → (∃ fs_7 : List Value, σ.2 x0 = some (.inr (0, fs_7)) ∧ ∃ c_5 b_6 : Nat, 0 + c_5 ≤ mc ∧ 0 + b_6 ≤ ms ∧ (wX0_shelf (fun (r_4 : Option Nat) (σ_3 : gH) => ∃ a_8 : Nat, r_4 = some a_8 ∧ (c_R σ_3 [17] a_8 0 (fun r_9 => c_castX σ_3 0 r_9 (0 + c_5) (0 + b_6) mc ms (c_nul r_9 (0 + c_5) (0 + b_6) mc ms (fun a_10 => c_len σ_3 a_10 (fun v_11 => (0 + c_5) + 1 ≤ mc ∧ (0 + b_6) + 13 ≤ ms ∧ c_new σ_3 (.inr (7, [.null, .int 0, .null, .null, .null, .int 0, .null, .null, .null, .null, .null, .null, .null])) (fun q_13 σ_12 => c_R σ_12 [0] x0 11 (fun r_14 => ((0 + c_5) + 1) + 1 ≤ mc ∧ ((0 + b_6) + 13) + 4 ≤ ms ∧ c_new σ_12 (.inr (6, [.int 0, .int 0, .int 0, .null])) (fun q_16 σ_15 => wX6_init (fun (σ_17 : gH) => ∃ c_19 b_20 : Nat, (((0 + c_5) + 1) + 1) + c_19 ≤ mc ∧ (((0 + b_6) + 13) + 4) + b_20 ≤ ms ∧ wX7_init (fun (σ_18 : gH) => ∃ c_23 b_24 : Nat, ((((0 + c_5) + 1) + 1) + c_19) + c_23 ≤ mc ∧ ((((0 + b_6) + 13) + 4) + b_20) + b_24 ≤ ms ∧ wX0_cut (fun (r_22 : Option Nat) (σ_21 : gH) => ∃ fs_29 : List Value, σ_21.2 q_13 = some (.inr (7, fs_29)) ∧ ∃ c_27 b_28 : Nat, (((((0 + c_5) + 1) + 1) + c_19) + c_23) + c_27 ≤ mc ∧ (((((0 + b_6) + 13) + 4) + b_20) + b_24) + b_28 ≤ ms ∧ (wX7_along (fun (v_26 : Int64) (σ_25 : gH) => (v_26 < 1152921504606846976 → (Q v_26.toInt32 σ_25)) ∧ (¬ v_26 < 1152921504606846976 → (Q (-4) σ_25))) c_27 b_28 q_13 r_22 σ_21)) c_23 b_24 (some a_10) v_11 σ_18) c_19 b_20 q_13 (some x0) r_14 (some q_16) σ_17) q_16 0 0 0 none σ_15))))) (Q (-11) σ_3)) (Q (-13) σ_3)))) c_5 b_6 x0 x1 σ)))) σ x0 x1)
set_option maxHeartbeats 4000000 in
theorem ctX0_distance {Q : Int32 → gH → Prop} {mc ms : Nat} {x0 : Nat} {x1 : Int32} {σ : gH} (w : wX0_distance Q mc ms x0 x1 σ) : CTW mX0_distance [(10, 75, 76, 291), (10, 75, 80, 295)] 301 mc ms [.ref x0, .int x1] σ (c_Ki Q) := by
  refine CTW.of (lv := [(0, .ref x0), (1, .int x1)]) (by decide +kernel) rfl rfl ?_
  unfold wX0_distance at w
  refine e_aload_n (n := 1) dX0_distance_0 rfl 0 rfl ?_
  refine e_iload_n (n := 2) dX0_distance_1 rfl 1 rfl ?_
  obtain ⟨fs_2, wo, w⟩ := w
  refine e_callV (n := 5) (As := [.int x1]) (st := []) okX0_isShelf q1119 q1121 qs20 q57 q1122 rfl wo rfl (by decide) (Nat.zero_le _) (Nat.zero_le _) rfl rfl (Nat.le_of_ble_eq_true rfl) dX0_distance_2 rfl (ctX0_isShelf w) (fun r9 σ9 hk => ?_)
  obtain ⟨v_1, rfl, hs9, w⟩ := hk
  rw [hs9]
  refine e_if_ne (n := 8) (tgt := 10) dX0_distance_5 rfl (by decide) (fun h => ?_) (fun h => ?_)
  · have w := w.2 h
    refine e_aload_n (n := 11) dX0_distance_10 rfl 0 rfl ?_
    refine e_iload_n (n := 12) dX0_distance_11 rfl 1 rfl ?_
    obtain ⟨fs_7, wo, w⟩ := w
    obtain ⟨c_5, b_6, hu1, hu2, w⟩ := w
    refine e_callV (n := 15) (As := [.int x1]) (st := []) okX0_shelf q1124 q1126 qs21 q57 q1127 rfl wo rfl (by decide) hu1 hu2 rfl rfl (Nat.le_of_ble_eq_true rfl) dX0_distance_12 rfl (ctX0_shelf w) (fun r9 σ_3 hk => ?_)
    obtain ⟨r_4, rfl, w⟩ := hk
    obtain ⟨a_8, ha_8, w9a_8⟩ := w
    subst ha_8
    have w := w9a_8
    refine e_cR (n := 18) w fw_X17_thing (gl_n q1133) dX0_distance_15 rfl (fun r_9 w => ?_)
    refine e_castX (n := 21) (r := r_9) w (by decide) q1298 q1318 hdX0_distance_18_C (by decide) (fun _ _ => Nat.le_of_ble_eq_true rfl) dX0_distance_18 rfl (fun w => ?_) (fun w hu1 hu2 q9 => ?_)
    · refine e_astorer_n (n := 22) (r := r_9) (lv' := [(0, .ref x0), (1, .int x1), (2, va_rf r_9)]) [1, 2, 0] dX0_distance_21 rfl rfl rfl ?_
      refine e_aloadr_n (n := 23) (r := r_9) dX0_distance_22 rfl 2 rfl ?_
      obtain ⟨w8, w9⟩ := w
      rcases r_9 with _ | a_10
      · obtain ⟨hu1, hu2, w⟩ := w8 rfl
        refine e_hdN (rest := []) q1318 hdX0_distance_23_N (rs_alenN dX0_distance_23) hu1 hu2 (by decide) (Nat.le_of_ble_eq_true rfl) (fun q9 => ?_)
        refine e_astore_n (n := 77) (lv' := [(0, .ref x0), (1, .int x1), (2, .ref q9)]) [1, 2, 0] dX0_distance_76 rfl rfl rfl ?_
        refine e_bipush (n := 79) (v := (-11)) dX0_distance_77 rfl (by decide) ?_
        exact e_iret rfl hu1 hu2 ⟨_, rfl, w⟩ dX0_distance_79
      have w := w9 a_10 rfl
      refine e_clen (n := 24) w dX0_distance_23 rfl (fun v_11 w => ?_)
      refine e_istore_n (n := 25) (lv' := [(0, .ref x0), (1, .int x1), (2, .ref a_10), (3, .int v_11)]) [1, 2, 3, 0] dX0_distance_24 rfl rfl rfl ?_
      obtain ⟨hu1, hu2, w⟩ := w
      refine e_cnew (n := 28) w tyX7 tyX7_ok in_X7 rfl q516 q517 q73 (fun j hj => g_defX7 j hj) hu1 hu2 dX0_distance_25 rfl (fun q_13 σ_12 w => ?_)
      refine e_dup (n := 29) dX0_distance_28 rfl rfl ?_
      refine e_aload_n (n := 30) dX0_distance_29 rfl 0 rfl ?_
      refine e_aload_n (n := 31) dX0_distance_30 rfl 0 rfl ?_
      refine e_cR (n := 34) w fw_X0_text (gl_o q194) dX0_distance_31 rfl (fun r_14 w => ?_)
      obtain ⟨hu1, hu2, w⟩ := w
      refine e_cnew (n := 37) w tyX6 tyX6_ok in_X6 rfl q494 q495 q72 (fun j hj => g_defX6 j hj) hu1 hu2 dX0_distance_34 rfl (fun q_16 σ_15 w => ?_)
      refine e_dup (n := 38) dX0_distance_37 rfl rfl ?_
      refine e_iconst (n := 39) (v := 0) dX0_distance_38 rfl (by decide) ?_
      refine e_iconst (n := 40) (v := 0) dX0_distance_39 rfl (by decide) ?_
      refine e_iconst (n := 41) (v := 0) dX0_distance_40 rfl (by decide) ?_
      refine e_null (n := 42) dX0_distance_41 rfl ?_
      refine e_callI (n := 45) (As := [.int 0, .int 0, .int 0, va_rf none]) (st := [.ref q_16, va_rf r_14, .ref x0, .ref q_13, .ref q_13]) okX6_init rfl rfl q496 q497 q72 q498 (by decide) hu1 hu2 rfl rfl (Nat.le_of_ble_eq_true (by cases r_14 <;> rfl)) dX0_distance_42 rfl (ctX6_init w) (fun r9 σ_17 hk => ?_)
      obtain ⟨rfl, w⟩ := hk
      obtain ⟨c_19, b_20, hu1, hu2, w⟩ := w
      refine e_callI (n := 48) (As := [va_rf (some x0), va_rf r_14, va_rf (some q_16)]) (st := [.ref q_13]) okX7_init rfl rfl q518 q519 q73 q520 (by decide) hu1 hu2 rfl rfl (Nat.le_of_ble_eq_true rfl) dX0_distance_45 rfl (ctX7_init w) (fun r9 σ_18 hk => ?_)
      obtain ⟨rfl, w⟩ := hk
      refine e_aload_n (n := 49) dX0_distance_48 rfl 2 rfl ?_
      refine e_iload_n (n := 50) dX0_distance_49 rfl 3 rfl ?_
      obtain ⟨c_23, b_24, hu1, hu2, w⟩ := w
      refine e_callS (n := 53) (As := [va_rf (some a_10), .int v_11]) (st := [.ref q_13]) okX0_cut q1137 q1138 q57 q1139 (by decide) hu1 hu2 rfl rfl (Nat.le_of_ble_eq_true rfl) dX0_distance_50 rfl (ctX0_cut w) (fun r9 σ_21 hk => ?_)
      obtain ⟨r_22, rfl, w⟩ := hk
      obtain ⟨fs_29, wo, w⟩ := w
      obtain ⟨c_27, b_28, hu1, hu2, w⟩ := w
      refine e_callV (n := 56) (As := [va_rf r_22]) (st := []) okX7_along q1319 q1320 q1321 q73 q1322 rfl wo rfl (by decide) hu1 hu2 rfl rfl (Nat.le_of_ble_eq_true rfl) dX0_distance_53 rfl (ctX7_along w) (fun r9 σ_25 hk => ?_)
      obtain ⟨v_26, rfl, w⟩ := hk
      refine e_lstore (n := 58) (lv' := [(0, .ref x0), (1, .int x1), (2, .ref a_10), (3, .int v_11), (4, .long v_26)]) [1, 2, 3, 4, 0] dX0_distance_56 rfl rfl rfl ?_
      refine e_lload (n := 60) dX0_distance_58 rfl 4 rfl ?_
      refine e_ldc2 (n := 63) q1093 dX0_distance_60 rfl ?_
      refine e_lcmp_lt (n := 67) (tgt := 72) dX0_distance_63 dX0_distance_64 rfl (by decide) (fun h => ?_) (fun h => ?_)
      · have w := w.1 h
        refine e_lload (n := 74) dX0_distance_72 rfl 4 rfl ?_
        refine e_l2i (n := 75) dX0_distance_74 rfl ?_
        exact e_iret rfl hu1 hu2 ⟨_, rfl, w⟩ dX0_distance_75
      · have w := w.2 h
        refine e_bipush (n := 69) (v := (-4)) dX0_distance_67 rfl (by decide) ?_
        refine e_goto (n := 75) dX0_distance_69 (by decide) ?_
        exact e_iret rfl hu1 hu2 ⟨_, rfl, w⟩ dX0_distance_75
    · refine e_astore_n (n := 81) (lv' := [(0, .ref x0), (1, .int x1), (2, .ref q9)]) [1, 2, 0] dX0_distance_80 rfl rfl rfl ?_
      refine e_bipush (n := 83) (v := (-13)) dX0_distance_81 rfl (by decide) ?_
      exact e_iret rfl hu1 hu2 ⟨_, rfl, w⟩ dX0_distance_83
  · have w := w.1 h
    refine e_iconst (n := 9) (v := (-1)) dX0_distance_8 rfl (by decide) ?_
    exact e_iret rfl (Nat.zero_le _) (Nat.zero_le _) ⟨_, rfl, w⟩ dX0_distance_9
