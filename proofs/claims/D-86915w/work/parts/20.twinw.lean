set_option maxRecDepth 100000
abbrev mX3_token : gM := (yX3_token, cX3_token, 2, some .int)
theorem okX3_token : g_ok mX3_token 1 := ⟨by decide +kernel, by decide +kernel, by decide +kernel, by decide +kernel, by decide⟩
def wX3_token (Q : Int32 → TS → Prop) (x1 : Int32) (s : TS) : Prop := (s.1 0 = 12 → (Q (-2) s)) ∧ (¬ s.1 0 = 12 → (t_b x1 ∧ vp_in (s.1 0) 12 ∧ ∀ s_1 : TS, s_1 = tA s 1 (s.1 0).toNatClampNeg x1 → (vp_in (s_1.1 0) 36 ∧ ∀ s_2 : TS, s_2 = tA s_1 2 (s_1.1 0).toNatClampNeg 10 → (vp_in (12 + (s_2.1 0)) 36 ∧ ∀ s_3 : TS, s_3 = tA s_2 2 (12 + (s_2.1 0)).toNatClampNeg 10 → (vp_in (24 + (s_3.1 0)) 36 ∧ ∀ s_4 : TS, s_4 = tA s_3 2 (24 + (s_3.1 0)).toNatClampNeg 12 → (∀ s_5 : TS, s_5 = tI s_4 0 ((s_4.1 0) + 1) → (t_b 0 ∧ ∀ s_6 : TS, s_6 = tI s_5 16 0 → (Q ((s_6.1 0) - 1) s_6))))))))
set_option maxHeartbeats 4000000 in
theorem ctX3_token {o : Nat} {ad : Nat → Nat} (ok : t_ok o ad) {Q : Int32 → TS → Prop} {x1 : Int32} {s : TS} (w : wX3_token Q x1 s) : CT mX3_token 1 0 0 [.ref o, .int x1] (t_map o ad s) (t_Ki o ad Q) := by
  refine CT.of (lv := [(0, .ref o), (1, .int x1)]) okX3_token.1 rfl rfl ?_
  unfold wX3_token at w
  refine e_aload_n (n := 1) dX3_token_0 rfl 0 rfl ?_
  refine t_getI (n := 4) 0 rfl rfl q1334 dX3_token_1 rfl ?_
  refine e_bipush (n := 6) (v := 12) dX3_token_4 rfl (by decide) ?_
  refine e_icmp_ne (n := 9) (tgt := 12) dX3_token_6 rfl (by decide) (fun h => ?_) (fun h => ?_)
  · have w := w.2 h
    refine e_aload_n (n := 13) dX3_token_12 rfl 0 rfl ?_
    refine t_getR (n := 16) 1 rfl (by decide) q1335 dX3_token_13 rfl ?_
    refine e_aload_n (n := 17) dX3_token_16 rfl 0 rfl ?_
    refine t_getI (n := 20) 0 rfl rfl q1334 dX3_token_17 rfl ?_
    refine e_iload_n (n := 21) dX3_token_20 rfl 1 rfl ?_
    obtain ⟨wb, wi, w⟩ := w
    refine t_zast (n := 22) wb ok 1 rfl rfl (N := 12) rfl wi dX3_token_21 rfl (fun s_1 hs_1 => ?_)
    have w := w s_1 hs_1
    refine e_aload_n (n := 23) dX3_token_22 rfl 0 rfl ?_
    refine t_getR (n := 26) 2 rfl (by decide) q1336 dX3_token_23 rfl ?_
    refine e_aload_n (n := 27) dX3_token_26 rfl 0 rfl ?_
    refine t_getI (n := 30) 0 rfl rfl q1334 dX3_token_27 rfl ?_
    refine e_bipush (n := 32) (v := 10) dX3_token_30 rfl (by decide) ?_
    obtain ⟨wi, w⟩ := w
    refine t_iast (n := 33) ok 2 rfl rfl (N := 36) rfl wi dX3_token_32 rfl (fun s_2 hs_2 => ?_)
    have w := w s_2 hs_2
    refine e_aload_n (n := 34) dX3_token_33 rfl 0 rfl ?_
    refine t_getR (n := 37) 2 rfl (by decide) q1336 dX3_token_34 rfl ?_
    refine e_bipush (n := 39) (v := 12) dX3_token_37 rfl (by decide) ?_
    refine e_aload_n (n := 40) dX3_token_39 rfl 0 rfl ?_
    refine t_getI (n := 43) 0 rfl rfl q1334 dX3_token_40 rfl ?_
    refine e_iadd (n := 44) dX3_token_43 rfl ?_
    refine e_bipush (n := 46) (v := 10) dX3_token_44 rfl (by decide) ?_
    obtain ⟨wi, w⟩ := w
    refine t_iast (n := 47) ok 2 rfl rfl (N := 36) rfl wi dX3_token_46 rfl (fun s_3 hs_3 => ?_)
    have w := w s_3 hs_3
    refine e_aload_n (n := 48) dX3_token_47 rfl 0 rfl ?_
    refine t_getR (n := 51) 2 rfl (by decide) q1336 dX3_token_48 rfl ?_
    refine e_bipush (n := 53) (v := 24) dX3_token_51 rfl (by decide) ?_
    refine e_aload_n (n := 54) dX3_token_53 rfl 0 rfl ?_
    refine t_getI (n := 57) 0 rfl rfl q1334 dX3_token_54 rfl ?_
    refine e_iadd (n := 58) dX3_token_57 rfl ?_
    refine e_bipush (n := 60) (v := 12) dX3_token_58 rfl (by decide) ?_
    obtain ⟨wi, w⟩ := w
    refine t_iast (n := 61) ok 2 rfl rfl (N := 36) rfl wi dX3_token_60 rfl (fun s_4 hs_4 => ?_)
    have w := w s_4 hs_4
    refine e_aload_n (n := 62) dX3_token_61 rfl 0 rfl ?_
    refine e_dup (n := 63) dX3_token_62 rfl rfl ?_
    refine t_getI (n := 66) 0 rfl rfl q1334 dX3_token_63 rfl ?_
    refine e_iconst (n := 67) (v := 1) dX3_token_66 rfl (by decide) ?_
    refine e_iadd (n := 68) dX3_token_67 rfl ?_
    refine t_putI (n := 71) 0 rfl rfl rfl rfl q1334 dX3_token_68 rfl (fun s_5 hs_5 => ?_)
    have w := w s_5 hs_5
    refine e_aload_n (n := 72) dX3_token_71 rfl 0 rfl ?_
    refine e_iconst (n := 73) (v := 0) dX3_token_72 rfl (by decide) ?_
    obtain ⟨wb, w⟩ := w
    refine t_putZ (n := 76) wb 16 rfl rfl rfl rfl q1350 dX3_token_73 rfl (fun s_6 hs_6 => ?_)
    have w := w s_6 hs_6
    refine e_aload_n (n := 77) dX3_token_76 rfl 0 rfl ?_
    refine t_getI (n := 80) 0 rfl rfl q1334 dX3_token_77 rfl ?_
    refine e_iconst (n := 81) (v := 1) dX3_token_80 rfl (by decide) ?_
    refine e_isub (n := 82) dX3_token_81 rfl ?_
    exact e_iret rfl (Nat.le_refl _) (Nat.le_refl _) ⟨_, _, rfl, rfl, w⟩ dX3_token_82
  · have w := w.1 h
    refine e_bipush (n := 11) (v := (-2)) dX3_token_9 rfl (by decide) ?_
    exact e_iret rfl (Nat.le_refl _) (Nat.le_refl _) ⟨_, _, rfl, rfl, w⟩ dX3_token_11
abbrev mX3_name : gM := (yX3_name, cX3_name, 1, some .int)
theorem okX3_name : g_ok mX3_name 0 := ⟨by decide +kernel, by decide +kernel, by decide +kernel, by decide +kernel, by decide⟩
def wX3_name (Q : Int32 → TS → Prop)  (s : TS) : Prop := (s.1 5 = 8 → (Q (-2) s)) ∧ (¬ s.1 5 = 8 → (∀ s_1 : TS, s_1 = tI s 5 ((s.1 5) + 1) → (t_b 0 ∧ ∀ s_2 : TS, s_2 = tI s_1 16 0 → (Q ((s_2.1 5) - 1) s_2))))
set_option maxHeartbeats 4000000 in
theorem ctX3_name {o : Nat} {ad : Nat → Nat} (ok : t_ok o ad) {Q : Int32 → TS → Prop}  {s : TS} (w : wX3_name Q  s) : CT mX3_name 1 0 0 [.ref o] (t_map o ad s) (t_Ki o ad Q) := by
  refine CT.of (lv := [(0, .ref o)]) okX3_name.1 rfl rfl ?_
  unfold wX3_name at w
  refine e_aload_n (n := 1) dX3_name_0 rfl 0 rfl ?_
  refine t_getI (n := 4) 5 rfl rfl q1339 dX3_name_1 rfl ?_
  refine e_bipush (n := 6) (v := 8) dX3_name_4 rfl (by decide) ?_
  refine e_icmp_ne (n := 9) (tgt := 12) dX3_name_6 rfl (by decide) (fun h => ?_) (fun h => ?_)
  · have w := w.2 h
    refine e_aload_n (n := 13) dX3_name_12 rfl 0 rfl ?_
    refine e_dup (n := 14) dX3_name_13 rfl rfl ?_
    refine t_getI (n := 17) 5 rfl rfl q1339 dX3_name_14 rfl ?_
    refine e_iconst (n := 18) (v := 1) dX3_name_17 rfl (by decide) ?_
    refine e_iadd (n := 19) dX3_name_18 rfl ?_
    refine t_putI (n := 22) 5 rfl rfl rfl rfl q1339 dX3_name_19 rfl (fun s_1 hs_1 => ?_)
    have w := w s_1 hs_1
    refine e_aload_n (n := 23) dX3_name_22 rfl 0 rfl ?_
    refine e_iconst (n := 24) (v := 0) dX3_name_23 rfl (by decide) ?_
    obtain ⟨wb, w⟩ := w
    refine t_putZ (n := 27) wb 16 rfl rfl rfl rfl q1350 dX3_name_24 rfl (fun s_2 hs_2 => ?_)
    have w := w s_2 hs_2
    refine e_aload_n (n := 28) dX3_name_27 rfl 0 rfl ?_
    refine t_getI (n := 31) 5 rfl rfl q1339 dX3_name_28 rfl ?_
    refine e_iconst (n := 32) (v := 1) dX3_name_31 rfl (by decide) ?_
    refine e_isub (n := 33) dX3_name_32 rfl ?_
    exact e_iret rfl (Nat.le_refl _) (Nat.le_refl _) ⟨_, _, rfl, rfl, w⟩ dX3_name_33
  · have w := w.1 h
    refine e_bipush (n := 11) (v := (-2)) dX3_name_9 rfl (by decide) ?_
    exact e_iret rfl (Nat.le_refl _) (Nat.le_refl _) ⟨_, _, rfl, rfl, w⟩ dX3_name_11
abbrev mX3_in : gM := (yX3_in, cX3_in, 6, some .boolean)
theorem okX3_in : g_ok mX3_in 3 := ⟨by decide +kernel, by decide +kernel, by decide +kernel, by decide +kernel, by decide⟩
def wX3_in (Q : Int32 → Prop) (x0 : Int64) (x2 : Int64) (x4 : Int64) : Prop := (x0 < x2 → (Q 0)) ∧ (¬ x0 < x2 → ((x4 < x0 → (Q 0)) ∧ (¬ x4 < x0 → (Q 1))))
set_option maxHeartbeats 4000000 in
theorem ctX3_in {σ : gH} {Q : Int32 → Prop} {x0 : Int64} {x2 : Int64} {x4 : Int64} (w : wX3_in Q x0 x2 x4) : CT mX3_in 1 0 0 [.long x0, .long x2, .long x4] σ (g_Pi σ Q) := by
  refine CT.of (lv := [(0, .long x0), (2, .long x2), (4, .long x4)]) okX3_in.1 rfl rfl ?_
  have ok : True := trivial
  unfold wX3_in at w
  refine e_lload_n (n := 1) dX3_in_0 rfl 0 rfl ?_
  refine e_lload_n (n := 2) dX3_in_1 rfl 1 rfl ?_
  refine e_lcmp_lt (n := 6) (tgt := 17) dX3_in_2 dX3_in_3 rfl (by decide) (fun h => ?_) (fun h => ?_)
  · have w := w.1 h
    refine e_iconst (n := 18) (v := 0) dX3_in_17 rfl (by decide) ?_
    exact e_zret rfl rfl (Nat.le_refl _) (Nat.le_refl _) ⟨_, rfl, rfl, w⟩ dX3_in_18
  · have w := w.2 h
    refine e_lload_n (n := 7) dX3_in_6 rfl 0 rfl ?_
    refine e_lload (n := 9) dX3_in_7 rfl 2 rfl ?_
    refine e_lcmp_gt (n := 13) (tgt := 17) dX3_in_9 dX3_in_10 rfl (by decide) (fun h => ?_) (fun h => ?_)
    · have w := w.1 h
      refine e_iconst (n := 18) (v := 0) dX3_in_17 rfl (by decide) ?_
      exact e_zret rfl rfl (Nat.le_refl _) (Nat.le_refl _) ⟨_, rfl, rfl, w⟩ dX3_in_18
    · have w := w.2 h
      refine e_iconst (n := 14) (v := 1) dX3_in_13 rfl (by decide) ?_
      refine e_goto (n := 18) dX3_in_14 (by decide) ?_
      exact e_zret rfl rfl (Nat.le_refl _) (Nat.le_refl _) ⟨_, rfl, rfl, w⟩ dX3_in_18
abbrev mX3_isName : gM := (yX3_isName, cX3_isName, 2, some .boolean)
theorem okX3_isName : g_ok mX3_isName 1 := ⟨by decide +kernel, by decide +kernel, by decide +kernel, by decide +kernel, by decide⟩
def wX3_isName (Q : Int32 → TS → Prop) (x1 : Int32) (s : TS) : Prop := wX3_in (fun (r_1 : Int32) => t_b r_1 ∧ Q r_1 s) (x1.toInt64) 0 (((s.1 5) - 1).toInt64)
set_option maxHeartbeats 4000000 in
theorem ctX3_isName {o : Nat} {ad : Nat → Nat} (ok : t_ok o ad) {Q : Int32 → TS → Prop} {x1 : Int32} {s : TS} (w : wX3_isName Q x1 s) : CT mX3_isName 2 0 0 [.ref o, .int x1] (t_map o ad s) (t_Ki o ad Q) := by
  refine CT.of (lv := [(0, .ref o), (1, .int x1)]) okX3_isName.1 rfl rfl ?_
  unfold wX3_isName at w
  refine e_iload_n (n := 1) dX3_isName_0 rfl 1 rfl ?_
  refine e_i2l (n := 2) dX3_isName_1 rfl ?_
  refine e_lconst (n := 3) (v := 0) dX3_isName_2 rfl (by decide) ?_
  refine e_aload_n (n := 4) dX3_isName_3 rfl 0 rfl ?_
  refine t_getI (n := 7) 5 rfl rfl q1339 dX3_isName_4 rfl ?_
  refine e_iconst (n := 8) (v := 1) dX3_isName_7 rfl (by decide) ?_
  refine e_isub (n := 9) dX3_isName_8 rfl ?_
  refine e_i2l (n := 10) dX3_isName_9 rfl ?_
  refine t_callS (n := 13) (As := [.long (x1.toInt64), .long 0, .long (((s.1 5) - 1).toInt64)]) (st := []) okX3_in q1519 q1520 q63 q1521 (by decide) (Nat.le_refl _) (Nat.le_refl _) rfl rfl rfl dX3_isName_10 rfl (ctX3_in w) (fun r9 σ9 hk => ?_)
  obtain ⟨r_1, rfl, rfl, w⟩ := hk
  exact e_zret rfl w.1.nar (Nat.le_refl _) (Nat.le_refl _) ⟨_, _, rfl, rfl, w.2⟩ dX3_isName_13
abbrev mX3_rule : gM := (yX3_rule, cX3_rule, 2, some .int)
theorem okX3_rule : g_ok mX3_rule 1 := ⟨by decide +kernel, by decide +kernel, by decide +kernel, by decide +kernel, by decide⟩
def wX3_rule (Q : Int32 → TS → Prop) (x1 : Int32) (s : TS) : Prop := wX3_isName (fun (r_2 : Int32) (s_1 : TS) => (r_2 = 0 → (Q (-1) s_1)) ∧ (¬ r_2 = 0 → ((s_1.1 7 = 24 → (Q (-2) s_1)) ∧ (¬ s_1.1 7 = 24 → (vp_in (s_1.1 7) 24 ∧ ∀ s_3 : TS, s_3 = tA s_1 8 (s_1.1 7).toNatClampNeg x1 → (vp_in (s_3.1 7) 24 ∧ ∀ s_4 : TS, s_4 = tA s_3 9 (s_3.1 7).toNatClampNeg 0 → (∀ s_5 : TS, s_5 = tI s_4 7 ((s_4.1 7) + 1) → (t_b 0 ∧ ∀ s_6 : TS, s_6 = tI s_5 16 0 → (Q ((s_6.1 7) - 1) s_6))))))))) x1 s
set_option maxHeartbeats 4000000 in
theorem ctX3_rule {o : Nat} {ad : Nat → Nat} (ok : t_ok o ad) {Q : Int32 → TS → Prop} {x1 : Int32} {s : TS} (w : wX3_rule Q x1 s) : CT mX3_rule 3 0 0 [.ref o, .int x1] (t_map o ad s) (t_Ki o ad Q) := by
  refine CT.of (lv := [(0, .ref o), (1, .int x1)]) okX3_rule.1 rfl rfl ?_
  unfold wX3_rule at w
  refine e_aload_n (n := 1) dX3_rule_0 rfl 0 rfl ?_
  refine e_iload_n (n := 2) dX3_rule_1 rfl 1 rfl ?_
  refine t_callV (n := 5) (As := [.int x1]) (st := []) okX3_isName q1515 q1517 qs26 q1518 rfl (by decide) (Nat.le_refl _) (Nat.le_refl _) rfl rfl rfl dX3_rule_2 rfl (ctX3_isName ok w) (fun r9 σ9 hk => ?_)
  obtain ⟨r_2, s_1, rfl, rfl, w⟩ := hk
  refine e_if_ne (n := 8) (tgt := 10) dX3_rule_5 rfl (by decide) (fun h => ?_) (fun h => ?_)
  · have w := w.2 h
    refine e_aload_n (n := 11) dX3_rule_10 rfl 0 rfl ?_
    refine t_getI (n := 14) 7 rfl rfl q1341 dX3_rule_11 rfl ?_
    refine e_bipush (n := 16) (v := 24) dX3_rule_14 rfl (by decide) ?_
    refine e_icmp_ne (n := 19) (tgt := 22) dX3_rule_16 rfl (by decide) (fun h => ?_) (fun h => ?_)
    · have w := w.2 h
      refine e_aload_n (n := 23) dX3_rule_22 rfl 0 rfl ?_
      refine t_getR (n := 26) 8 rfl (by decide) q1342 dX3_rule_23 rfl ?_
      refine e_aload_n (n := 27) dX3_rule_26 rfl 0 rfl ?_
      refine t_getI (n := 30) 7 rfl rfl q1341 dX3_rule_27 rfl ?_
      refine e_iload_n (n := 31) dX3_rule_30 rfl 1 rfl ?_
      obtain ⟨wi, w⟩ := w
      refine t_iast (n := 32) ok 8 rfl rfl (N := 24) rfl wi dX3_rule_31 rfl (fun s_3 hs_3 => ?_)
      have w := w s_3 hs_3
      refine e_aload_n (n := 33) dX3_rule_32 rfl 0 rfl ?_
      refine t_getR (n := 36) 9 rfl (by decide) q1343 dX3_rule_33 rfl ?_
      refine e_aload_n (n := 37) dX3_rule_36 rfl 0 rfl ?_
      refine t_getI (n := 40) 7 rfl rfl q1341 dX3_rule_37 rfl ?_
      refine e_iconst (n := 41) (v := 0) dX3_rule_40 rfl (by decide) ?_
      obtain ⟨wi, w⟩ := w
      refine t_iast (n := 42) ok 9 rfl rfl (N := 24) rfl wi dX3_rule_41 rfl (fun s_4 hs_4 => ?_)
      have w := w s_4 hs_4
      refine e_aload_n (n := 43) dX3_rule_42 rfl 0 rfl ?_
      refine e_dup (n := 44) dX3_rule_43 rfl rfl ?_
      refine t_getI (n := 47) 7 rfl rfl q1341 dX3_rule_44 rfl ?_
      refine e_iconst (n := 48) (v := 1) dX3_rule_47 rfl (by decide) ?_
      refine e_iadd (n := 49) dX3_rule_48 rfl ?_
      refine t_putI (n := 52) 7 rfl rfl rfl rfl q1341 dX3_rule_49 rfl (fun s_5 hs_5 => ?_)
      have w := w s_5 hs_5
      refine e_aload_n (n := 53) dX3_rule_52 rfl 0 rfl ?_
      refine e_iconst (n := 54) (v := 0) dX3_rule_53 rfl (by decide) ?_
      obtain ⟨wb, w⟩ := w
      refine t_putZ (n := 57) wb 16 rfl rfl rfl rfl q1350 dX3_rule_54 rfl (fun s_6 hs_6 => ?_)
      have w := w s_6 hs_6
      refine e_aload_n (n := 58) dX3_rule_57 rfl 0 rfl ?_
      refine t_getI (n := 61) 7 rfl rfl q1341 dX3_rule_58 rfl ?_
      refine e_iconst (n := 62) (v := 1) dX3_rule_61 rfl (by decide) ?_
      refine e_isub (n := 63) dX3_rule_62 rfl ?_
      exact e_iret rfl (Nat.le_refl _) (Nat.le_refl _) ⟨_, _, rfl, rfl, w⟩ dX3_rule_63
    · have w := w.1 h
      refine e_bipush (n := 21) (v := (-2)) dX3_rule_19 rfl (by decide) ?_
      exact e_iret rfl (Nat.le_refl _) (Nat.le_refl _) ⟨_, _, rfl, rfl, w⟩ dX3_rule_21
  · have w := w.1 h
    refine e_iconst (n := 9) (v := (-1)) dX3_rule_8 rfl (by decide) ?_
    exact e_iret rfl (Nat.le_refl _) (Nat.le_refl _) ⟨_, _, rfl, rfl, w⟩ dX3_rule_9
abbrev mX3_isToken : gM := (yX3_isToken, cX3_isToken, 2, some .boolean)
theorem okX3_isToken : g_ok mX3_isToken 1 := ⟨by decide +kernel, by decide +kernel, by decide +kernel, by decide +kernel, by decide⟩
def wX3_isToken (Q : Int32 → TS → Prop) (x1 : Int32) (s : TS) : Prop := wX3_in (fun (r_1 : Int32) => t_b r_1 ∧ Q r_1 s) (x1.toInt64) 0 (((s.1 0) - 1).toInt64)
set_option maxHeartbeats 4000000 in
theorem ctX3_isToken {o : Nat} {ad : Nat → Nat} (ok : t_ok o ad) {Q : Int32 → TS → Prop} {x1 : Int32} {s : TS} (w : wX3_isToken Q x1 s) : CT mX3_isToken 2 0 0 [.ref o, .int x1] (t_map o ad s) (t_Ki o ad Q) := by
  refine CT.of (lv := [(0, .ref o), (1, .int x1)]) okX3_isToken.1 rfl rfl ?_
  unfold wX3_isToken at w
  refine e_iload_n (n := 1) dX3_isToken_0 rfl 1 rfl ?_
  refine e_i2l (n := 2) dX3_isToken_1 rfl ?_
  refine e_lconst (n := 3) (v := 0) dX3_isToken_2 rfl (by decide) ?_
  refine e_aload_n (n := 4) dX3_isToken_3 rfl 0 rfl ?_
  refine t_getI (n := 7) 0 rfl rfl q1334 dX3_isToken_4 rfl ?_
  refine e_iconst (n := 8) (v := 1) dX3_isToken_7 rfl (by decide) ?_
  refine e_isub (n := 9) dX3_isToken_8 rfl ?_
  refine e_i2l (n := 10) dX3_isToken_9 rfl ?_
  refine t_callS (n := 13) (As := [.long (x1.toInt64), .long 0, .long (((s.1 0) - 1).toInt64)]) (st := []) okX3_in q1519 q1520 q63 q1521 (by decide) (Nat.le_refl _) (Nat.le_refl _) rfl rfl rfl dX3_isToken_10 rfl (ctX3_in w) (fun r9 σ9 hk => ?_)
  obtain ⟨r_1, rfl, rfl, w⟩ := hk
  exact e_zret rfl w.1.nar (Nat.le_refl _) (Nat.le_refl _) ⟨_, _, rfl, rfl, w.2⟩ dX3_isToken_13
abbrev mX3_symbol : gM := (yX3_symbol, cX3_symbol, 4, some .int)
theorem okX3_symbol : g_ok mX3_symbol 3 := ⟨by decide +kernel, by decide +kernel, by decide +kernel, by decide +kernel, by decide⟩
def wX3_symbol_89 (Q : Int32 → TS → Prop)  (t1 : Int32) (t2 : Int32) (x1 : Int32) (s : TS) : Prop := vp_in t1 72 ∧ ∀ s_4 : TS, s_4 = tA s 10 t1.toNatClampNeg t2 → (vp_in x1 24 ∧ (vp_in x1 24 ∧ ∀ s_5 : TS, s_5 = tA s_4 9 x1.toNatClampNeg ((s_4.2.1 9 x1.toNatClampNeg) + 1) → (t_b 0 ∧ ∀ s_6 : TS, s_6 = tI s_5 16 0 → (vp_in x1 24 ∧ (Q (s_6.2.1 9 x1.toNatClampNeg) s_6)))))
def wX3_symbol_50 (Q : Int32 → TS → Prop)  (x1 : Int32) (x2 : Int32) (x3 : Int32) (s : TS) : Prop := vp_in x1 24 ∧ ((s.2.1 9 x1.toNatClampNeg = 3 → (Q (-2) s)) ∧ (¬ s.2.1 9 x1.toNatClampNeg = 3 → (vp_in x1 24 ∧ ((x2 = 0 → (wX3_symbol_89 Q ((3 * x1) + (s.2.1 9 x1.toNatClampNeg)) x3 x1 s)) ∧ (¬ x2 = 0 → (wX3_symbol_89 Q ((3 * x1) + (s.2.1 9 x1.toNatClampNeg)) (100 + x3) x1 s))))))
def wX3_symbol_25 (Q : Int32 → TS → Prop)  (x1 : Int32) (x2 : Int32) (x3 : Int32) (s : TS) : Prop := (x2 = 0 → (wX3_isToken (fun (r_8 : Int32) (s_7 : TS) => (r_8 = 0 → (Q (-1) s_7)) ∧ (¬ r_8 = 0 → (wX3_symbol_50 Q x1 x2 x3 s_7))) x3 s)) ∧ (¬ x2 = 0 → (wX3_isName (fun (r_3 : Int32) (s_2 : TS) => (r_3 = 0 → (Q (-1) s_2)) ∧ (¬ r_3 = 0 → (wX3_symbol_50 Q x1 x2 x3 s_2))) x3 s))
def wX3_symbol (Q : Int32 → TS → Prop) (x1 : Int32) (x2 : Int32) (x3 : Int32) (s : TS) : Prop := wX3_in (fun (r_1 : Int32) => (r_1 = 0 → (Q (-1) s)) ∧ (¬ r_1 = 0 → ((x2 = 0 → (wX3_symbol_25 Q x1 x2 x3 s)) ∧ (¬ x2 = 0 → ((x2 = 1 → (wX3_symbol_25 Q x1 x2 x3 s)) ∧ (¬ x2 = 1 → (Q (-1) s))))))) (x1.toInt64) 0 (((s.1 7) - 1).toInt64)
set_option maxHeartbeats 4000000 in
theorem hX3_symbol_89 {o : Nat} {ad : Nat → Nat} (ok : t_ok o ad) {Q : Int32 → TS → Prop}  (t1 : Int32) (t2 : Int32) (x1 : Int32) (s : TS) (w : wX3_symbol_89 Q t1 t2 x1 s) : E mX3_symbol 3 0 0 (g_z (t_Ki o ad Q)) 0 0 89 [(0, .ref o), (1, .int x1)] [.int t2, .int t1, .ref (ad 10)] (t_map o ad s) := by
  unfold wX3_symbol_89 at w
  obtain ⟨wi, w⟩ := w
  refine t_iast (n := 90) ok 10 rfl rfl (N := 72) rfl wi dX3_symbol_89 rfl (fun s_4 hs_4 => ?_)
  have w := w s_4 hs_4
  refine e_aload_n (n := 91) dX3_symbol_90 rfl 0 rfl ?_
  refine t_getR (n := 94) 9 rfl (by decide) q1343 dX3_symbol_91 rfl ?_
  refine e_iload_n (n := 95) dX3_symbol_94 rfl 1 rfl ?_
  refine e_dup2_11 (n := 96) dX3_symbol_95 rfl rfl rfl ?_
  obtain ⟨wi, w⟩ := w
  refine t_iald (n := 97) ok 9 rfl rfl (N := 24) rfl wi dX3_symbol_96 rfl ?_
  refine e_iconst (n := 98) (v := 1) dX3_symbol_97 rfl (by decide) ?_
  refine e_iadd (n := 99) dX3_symbol_98 rfl ?_
  obtain ⟨wi, w⟩ := w
  refine t_iast (n := 100) ok 9 rfl rfl (N := 24) rfl wi dX3_symbol_99 rfl (fun s_5 hs_5 => ?_)
  have w := w s_5 hs_5
  refine e_aload_n (n := 101) dX3_symbol_100 rfl 0 rfl ?_
  refine e_iconst (n := 102) (v := 0) dX3_symbol_101 rfl (by decide) ?_
  obtain ⟨wb, w⟩ := w
  refine t_putZ (n := 105) wb 16 rfl rfl rfl rfl q1350 dX3_symbol_102 rfl (fun s_6 hs_6 => ?_)
  have w := w s_6 hs_6
  refine e_aload_n (n := 106) dX3_symbol_105 rfl 0 rfl ?_
  refine t_getR (n := 109) 9 rfl (by decide) q1343 dX3_symbol_106 rfl ?_
  refine e_iload_n (n := 110) dX3_symbol_109 rfl 1 rfl ?_
  obtain ⟨wi, w⟩ := w
  refine t_iald (n := 111) ok 9 rfl rfl (N := 24) rfl wi dX3_symbol_110 rfl ?_
  exact e_iret rfl (Nat.le_refl _) (Nat.le_refl _) ⟨_, _, rfl, rfl, w⟩ dX3_symbol_111
set_option maxHeartbeats 4000000 in
theorem hX3_symbol_50 {o : Nat} {ad : Nat → Nat} (ok : t_ok o ad) {Q : Int32 → TS → Prop}  (x1 : Int32) (x2 : Int32) (x3 : Int32) (s : TS) (w : wX3_symbol_50 Q x1 x2 x3 s) : E mX3_symbol 3 0 0 (g_z (t_Ki o ad Q)) 0 0 50 [(0, .ref o), (1, .int x1), (2, .int x2), (3, .int x3)] [] (t_map o ad s) := by
  unfold wX3_symbol_50 at w
  refine e_aload_n (n := 51) dX3_symbol_50 rfl 0 rfl ?_
  refine t_getR (n := 54) 9 rfl (by decide) q1343 dX3_symbol_51 rfl ?_
  refine e_iload_n (n := 55) dX3_symbol_54 rfl 1 rfl ?_
  obtain ⟨wi, w⟩ := w
  refine t_iald (n := 56) ok 9 rfl rfl (N := 24) rfl wi dX3_symbol_55 rfl ?_
  refine e_iconst (n := 57) (v := 3) dX3_symbol_56 rfl (by decide) ?_
  refine e_icmp_ne (n := 60) (tgt := 63) dX3_symbol_57 rfl (by decide) (fun h => ?_) (fun h => ?_)
  · have w := w.2 h
    refine e_aload_n (n := 64) dX3_symbol_63 rfl 0 rfl ?_
    refine t_getR (n := 67) 10 rfl (by decide) q1344 dX3_symbol_64 rfl ?_
    refine e_iconst (n := 68) (v := 3) dX3_symbol_67 rfl (by decide) ?_
    refine e_iload_n (n := 69) dX3_symbol_68 rfl 1 rfl ?_
    refine e_imul (n := 70) dX3_symbol_69 rfl ?_
    refine e_aload_n (n := 71) dX3_symbol_70 rfl 0 rfl ?_
    refine t_getR (n := 74) 9 rfl (by decide) q1343 dX3_symbol_71 rfl ?_
    refine e_iload_n (n := 75) dX3_symbol_74 rfl 1 rfl ?_
    obtain ⟨wi, w⟩ := w
    refine t_iald (n := 76) ok 9 rfl rfl (N := 24) rfl wi dX3_symbol_75 rfl ?_
    refine e_iadd (n := 77) dX3_symbol_76 rfl ?_
    refine e_iload_n (n := 78) dX3_symbol_77 rfl 2 rfl ?_
    refine e_if_ne (n := 81) (tgt := 85) dX3_symbol_78 rfl (by decide) (fun h => ?_) (fun h => ?_)
    · have w := w.2 h
      refine e_bipush (n := 87) (v := 100) dX3_symbol_85 rfl (by decide) ?_
      refine e_iload_n (n := 88) dX3_symbol_87 rfl 3 rfl ?_
      refine e_iadd (n := 89) dX3_symbol_88 rfl ?_
      refine e_sub (lv' := [(0, .ref o), (1, .int x1)]) [0, 1] rfl ?_
      exact hX3_symbol_89 ok _ _ _ _ w
    · have w := w.1 h
      refine e_iload_n (n := 82) dX3_symbol_81 rfl 3 rfl ?_
      refine e_goto (n := 89) dX3_symbol_82 (by decide) ?_
      refine e_sub (lv' := [(0, .ref o), (1, .int x1)]) [0, 1] rfl ?_
      exact hX3_symbol_89 ok _ _ _ _ w
  · have w := w.1 h
    refine e_bipush (n := 62) (v := (-2)) dX3_symbol_60 rfl (by decide) ?_
    exact e_iret rfl (Nat.le_refl _) (Nat.le_refl _) ⟨_, _, rfl, rfl, w⟩ dX3_symbol_62
set_option maxHeartbeats 4000000 in
theorem hX3_symbol_25 {o : Nat} {ad : Nat → Nat} (ok : t_ok o ad) {Q : Int32 → TS → Prop}  (x1 : Int32) (x2 : Int32) (x3 : Int32) (s : TS) (w : wX3_symbol_25 Q x1 x2 x3 s) : E mX3_symbol 3 0 0 (g_z (t_Ki o ad Q)) 0 0 25 [(0, .ref o), (1, .int x1), (2, .int x2), (3, .int x3)] [] (t_map o ad s) := by
  unfold wX3_symbol_25 at w
  refine e_iload_n (n := 26) dX3_symbol_25 rfl 2 rfl ?_
  refine e_if_ne (n := 29) (tgt := 40) dX3_symbol_26 rfl (by decide) (fun h => ?_) (fun h => ?_)
  · have w := w.2 h
    refine e_aload_n (n := 41) dX3_symbol_40 rfl 0 rfl ?_
    refine e_iload_n (n := 42) dX3_symbol_41 rfl 3 rfl ?_
    refine t_callV (n := 45) (As := [.int x3]) (st := []) okX3_isName q1515 q1517 qs26 q1518 rfl (by decide) (Nat.le_refl _) (Nat.le_refl _) rfl rfl rfl dX3_symbol_42 rfl (ctX3_isName ok w) (fun r9 σ9 hk => ?_)
    obtain ⟨r_3, s_2, rfl, rfl, w⟩ := hk
    refine e_if_ne (n := 48) (tgt := 50) dX3_symbol_45 rfl (by decide) (fun h => ?_) (fun h => ?_)
    · have w := w.2 h
      exact hX3_symbol_50 ok _ _ _ _ w
    · have w := w.1 h
      refine e_iconst (n := 49) (v := (-1)) dX3_symbol_48 rfl (by decide) ?_
      exact e_iret rfl (Nat.le_refl _) (Nat.le_refl _) ⟨_, _, rfl, rfl, w⟩ dX3_symbol_49
  · have w := w.1 h
    refine e_aload_n (n := 30) dX3_symbol_29 rfl 0 rfl ?_
    refine e_iload_n (n := 31) dX3_symbol_30 rfl 3 rfl ?_
    refine t_callV (n := 34) (As := [.int x3]) (st := []) okX3_isToken q1526 q1528 qs27 q1529 rfl (by decide) (Nat.le_refl _) (Nat.le_refl _) rfl rfl rfl dX3_symbol_31 rfl (ctX3_isToken ok w) (fun r9 σ9 hk => ?_)
    obtain ⟨r_8, s_7, rfl, rfl, w⟩ := hk
    refine e_if_ne (n := 37) (tgt := 50) dX3_symbol_34 rfl (by decide) (fun h => ?_) (fun h => ?_)
    · have w := w.2 h
      exact hX3_symbol_50 ok _ _ _ _ w
    · have w := w.1 h
      refine e_goto (n := 48) dX3_symbol_37 (by decide) ?_
      refine e_iconst (n := 49) (v := (-1)) dX3_symbol_48 rfl (by decide) ?_
      exact e_iret rfl (Nat.le_refl _) (Nat.le_refl _) ⟨_, _, rfl, rfl, w⟩ dX3_symbol_49
set_option maxHeartbeats 4000000 in
theorem ctX3_symbol {o : Nat} {ad : Nat → Nat} (ok : t_ok o ad) {Q : Int32 → TS → Prop} {x1 : Int32} {x2 : Int32} {x3 : Int32} {s : TS} (w : wX3_symbol Q x1 x2 x3 s) : CT mX3_symbol 3 0 0 [.ref o, .int x1, .int x2, .int x3] (t_map o ad s) (t_Ki o ad Q) := by
  refine CT.of (lv := [(0, .ref o), (1, .int x1), (2, .int x2), (3, .int x3)]) okX3_symbol.1 rfl rfl ?_
  unfold wX3_symbol at w
  refine e_iload_n (n := 1) dX3_symbol_0 rfl 1 rfl ?_
  refine e_i2l (n := 2) dX3_symbol_1 rfl ?_
  refine e_lconst (n := 3) (v := 0) dX3_symbol_2 rfl (by decide) ?_
  refine e_aload_n (n := 4) dX3_symbol_3 rfl 0 rfl ?_
  refine t_getI (n := 7) 7 rfl rfl q1341 dX3_symbol_4 rfl ?_
  refine e_iconst (n := 8) (v := 1) dX3_symbol_7 rfl (by decide) ?_
  refine e_isub (n := 9) dX3_symbol_8 rfl ?_
  refine e_i2l (n := 10) dX3_symbol_9 rfl ?_
  refine t_callS (n := 13) (As := [.long (x1.toInt64), .long 0, .long (((s.1 7) - 1).toInt64)]) (st := []) okX3_in q1519 q1520 q63 q1521 (by decide) (Nat.le_refl _) (Nat.le_refl _) rfl rfl rfl dX3_symbol_10 rfl (ctX3_in w) (fun r9 σ9 hk => ?_)
  obtain ⟨r_1, rfl, rfl, w⟩ := hk
  refine e_if_eq (n := 16) (tgt := 48) dX3_symbol_13 rfl (by decide) (fun h => ?_) (fun h => ?_)
  · have w := w.1 h
    refine e_iconst (n := 49) (v := (-1)) dX3_symbol_48 rfl (by decide) ?_
    exact e_iret rfl (Nat.le_refl _) (Nat.le_refl _) ⟨_, _, rfl, rfl, w⟩ dX3_symbol_49
  · have w := w.2 h
    refine e_iload_n (n := 17) dX3_symbol_16 rfl 2 rfl ?_
    refine e_if_eq (n := 20) (tgt := 25) dX3_symbol_17 rfl (by decide) (fun h => ?_) (fun h => ?_)
    · have w := w.1 h
      exact hX3_symbol_25 ok _ _ _ _ w
    · have w := w.2 h
      refine e_iload_n (n := 21) dX3_symbol_20 rfl 2 rfl ?_
      refine e_iconst (n := 22) (v := 1) dX3_symbol_21 rfl (by decide) ?_
      refine e_icmp_ne (n := 25) (tgt := 48) dX3_symbol_22 rfl (by decide) (fun h => ?_) (fun h => ?_)
      · have w := w.2 h
        refine e_iconst (n := 49) (v := (-1)) dX3_symbol_48 rfl (by decide) ?_
        exact e_iret rfl (Nat.le_refl _) (Nat.le_refl _) ⟨_, _, rfl, rfl, w⟩ dX3_symbol_49
      · have w := w.1 h
        exact hX3_symbol_25 ok _ _ _ _ w
abbrev mX3_start : gM := (yX3_start, cX3_start, 3, some .int)
theorem okX3_start : g_ok mX3_start 1 := ⟨by decide +kernel, by decide +kernel, by decide +kernel, by decide +kernel, by decide⟩
def wX3_start (Q : Int32 → TS → Prop) (x1 : Int32) (s : TS) : Prop := wX3_isName (fun (r_2 : Int32) (s_1 : TS) => (r_2 = 0 → (Q (-1) s_1)) ∧ (¬ r_2 = 0 → (∀ x2_3 : Int32, x2_3 = s_1.1 6 → (∀ s_4 : TS, s_4 = tI s_1 6 x1 → (t_b 0 ∧ ∀ s_5 : TS, s_5 = tI s_4 16 0 → (Q x2_3 s_5)))))) x1 s
set_option maxHeartbeats 4000000 in
theorem ctX3_start {o : Nat} {ad : Nat → Nat} (ok : t_ok o ad) {Q : Int32 → TS → Prop} {x1 : Int32} {s : TS} (w : wX3_start Q x1 s) : CT mX3_start 3 0 0 [.ref o, .int x1] (t_map o ad s) (t_Ki o ad Q) := by
  refine CT.of (lv := [(0, .ref o), (1, .int x1)]) okX3_start.1 rfl rfl ?_
  unfold wX3_start at w
  refine e_aload_n (n := 1) dX3_start_0 rfl 0 rfl ?_
  refine e_iload_n (n := 2) dX3_start_1 rfl 1 rfl ?_
  refine t_callV (n := 5) (As := [.int x1]) (st := []) okX3_isName q1515 q1517 qs26 q1518 rfl (by decide) (Nat.le_refl _) (Nat.le_refl _) rfl rfl rfl dX3_start_2 rfl (ctX3_isName ok w) (fun r9 σ9 hk => ?_)
  obtain ⟨r_2, s_1, rfl, rfl, w⟩ := hk
  refine e_if_ne (n := 8) (tgt := 10) dX3_start_5 rfl (by decide) (fun h => ?_) (fun h => ?_)
  · have w := w.2 h
    refine e_aload_n (n := 11) dX3_start_10 rfl 0 rfl ?_
    refine t_getI (n := 14) 6 rfl rfl q1340 dX3_start_11 rfl ?_
    refine e_topi (fun x2_3 hx2_3 => ?_)
    have w := w x2_3 hx2_3
    refine e_istore_n (n := 15) (lv' := [(0, .ref o), (1, .int x1), (2, .int x2_3)]) [1, 2, 0] dX3_start_14 rfl rfl rfl ?_
    refine e_aload_n (n := 16) dX3_start_15 rfl 0 rfl ?_
    refine e_iload_n (n := 17) dX3_start_16 rfl 1 rfl ?_
    refine t_putI (n := 20) 6 rfl rfl rfl rfl q1340 dX3_start_17 rfl (fun s_4 hs_4 => ?_)
    have w := w s_4 hs_4
    refine e_aload_n (n := 21) dX3_start_20 rfl 0 rfl ?_
    refine e_iconst (n := 22) (v := 0) dX3_start_21 rfl (by decide) ?_
    obtain ⟨wb, w⟩ := w
    refine t_putZ (n := 25) wb 16 rfl rfl rfl rfl q1350 dX3_start_22 rfl (fun s_5 hs_5 => ?_)
    have w := w s_5 hs_5
    refine e_iload_n (n := 26) dX3_start_25 rfl 2 rfl ?_
    exact e_iret rfl (Nat.le_refl _) (Nat.le_refl _) ⟨_, _, rfl, rfl, w⟩ dX3_start_26
  · have w := w.1 h
    refine e_iconst (n := 9) (v := (-1)) dX3_start_8 rfl (by decide) ?_
    exact e_iret rfl (Nat.le_refl _) (Nat.le_refl _) ⟨_, _, rfl, rfl, w⟩ dX3_start_9
abbrev mX3_price : gM := (yX3_price, cX3_price, 5, some .int)
theorem okX3_price : g_ok mX3_price 3 := ⟨by decide +kernel, by decide +kernel, by decide +kernel, by decide +kernel, by decide⟩
def wX3_price_114 (Q : Int32 → TS → Prop)  (x4 : Int32) (s : TS) : Prop := Q x4 s
def wX3_price_46 (Q : Int32 → TS → Prop)  (x1 : Int32) (x2 : Int32) (x3 : Int32) (s : TS) : Prop := t_b 0 ∧ ∀ s_3 : TS, s_3 = tI s 16 0 → ((3 ≤ x1 → ((x1 = 3 → (∀ x4_6 : Int32, x4_6 = s_3.1 3 → (∀ s_7 : TS, s_7 = tI s_3 3 x3 → (wX3_price_114 Q x4_6 s_7)))) ∧ (¬ x1 = 3 → (∀ x4_4 : Int32, x4_4 = s_3.1 4 → (∀ s_5 : TS, s_5 = tI s_3 4 x3 → (wX3_price_114 Q x4_4 s_5)))))) ∧ (¬ 3 ≤ x1 → (vp_in ((12 * x1) + x2) 36 ∧ (∀ x4_8 : Int32, x4_8 = s_3.2.1 2 ((12 * x1) + x2).toNatClampNeg → (vp_in ((12 * x1) + x2) 36 ∧ ∀ s_9 : TS, s_9 = tA s_3 2 ((12 * x1) + x2).toNatClampNeg x3 → (wX3_price_114 Q x4_8 s_9))))))
def wX3_price (Q : Int32 → TS → Prop) (x1 : Int32) (x2 : Int32) (x3 : Int32) (s : TS) : Prop := wX3_in (fun (r_1 : Int32) => (r_1 = 0 → (Q (-1) s)) ∧ (¬ r_1 = 0 → (wX3_in (fun (r_2 : Int32) => (r_2 = 0 → (Q (-1) s)) ∧ (¬ r_2 = 0 → ((3 ≤ x1 → ((x2 = 0 → (wX3_price_46 Q x1 x2 x3 s)) ∧ (¬ x2 = 0 → (Q (-1) s)))) ∧ (¬ 3 ≤ x1 → (wX3_isToken (fun (r_11 : Int32) (s_10 : TS) => (r_11 = 0 → (Q (-1) s_10)) ∧ (¬ r_11 = 0 → (wX3_price_46 Q x1 x2 x3 s_10))) x2 s))))) (x1.toInt64) 0 4))) (x3.toInt64) 1 100
set_option maxHeartbeats 4000000 in
theorem hX3_price_114 {o : Nat} {ad : Nat → Nat} (ok : t_ok o ad) {Q : Int32 → TS → Prop}  (x4 : Int32) (s : TS) (w : wX3_price_114 Q x4 s) : E mX3_price 3 0 0 (g_z (t_Ki o ad Q)) 0 0 114 [(4, .int x4)] [] (t_map o ad s) := by
  unfold wX3_price_114 at w
  refine e_iload (n := 116) dX3_price_114 rfl 0 rfl ?_
  exact e_iret rfl (Nat.le_refl _) (Nat.le_refl _) ⟨_, _, rfl, rfl, w⟩ dX3_price_116
set_option maxHeartbeats 4000000 in
theorem hX3_price_46 {o : Nat} {ad : Nat → Nat} (ok : t_ok o ad) {Q : Int32 → TS → Prop}  (x1 : Int32) (x2 : Int32) (x3 : Int32) (s : TS) (w : wX3_price_46 Q x1 x2 x3 s) : E mX3_price 3 0 0 (g_z (t_Ki o ad Q)) 0 0 46 [(0, .ref o), (1, .int x1), (2, .int x2), (3, .int x3)] [] (t_map o ad s) := by
  unfold wX3_price_46 at w
  refine e_aload_n (n := 47) dX3_price_46 rfl 0 rfl ?_
  refine e_iconst (n := 48) (v := 0) dX3_price_47 rfl (by decide) ?_
  obtain ⟨wb, w⟩ := w
  refine t_putZ (n := 51) wb 16 rfl rfl rfl rfl q1350 dX3_price_48 rfl (fun s_3 hs_3 => ?_)
  have w := w s_3 hs_3
  refine e_iload_n (n := 52) dX3_price_51 rfl 1 rfl ?_
  refine e_iconst (n := 53) (v := 3) dX3_price_52 rfl (by decide) ?_
  refine e_icmp_ge (n := 56) (tgt := 84) dX3_price_53 rfl (by decide) (fun h => ?_) (fun h => ?_)
  · have w := w.1 h
    refine e_iload_n (n := 85) dX3_price_84 rfl 1 rfl ?_
    refine e_iconst (n := 86) (v := 3) dX3_price_85 rfl (by decide) ?_
    refine e_icmp_ne (n := 89) (tgt := 103) dX3_price_86 rfl (by decide) (fun h => ?_) (fun h => ?_)
    · have w := w.2 h
      refine e_aload_n (n := 104) dX3_price_103 rfl 0 rfl ?_
      refine t_getI (n := 107) 4 rfl rfl q1338 dX3_price_104 rfl ?_
      refine e_topi (fun x4_4 hx4_4 => ?_)
      have w := w x4_4 hx4_4
      refine e_istore (n := 109) (lv' := [(0, .ref o), (1, .int x1), (2, .int x2), (3, .int x3), (4, .int x4_4)]) [1, 2, 3, 4, 0] dX3_price_107 rfl rfl rfl ?_
      refine e_aload_n (n := 110) dX3_price_109 rfl 0 rfl ?_
      refine e_iload_n (n := 111) dX3_price_110 rfl 3 rfl ?_
      refine t_putI (n := 114) 4 rfl rfl rfl rfl q1338 dX3_price_111 rfl (fun s_5 hs_5 => ?_)
      have w := w s_5 hs_5
      refine e_sub (lv' := [(4, .int x4_4)]) [4] rfl ?_
      exact hX3_price_114 ok _ _ w
    · have w := w.1 h
      refine e_aload_n (n := 90) dX3_price_89 rfl 0 rfl ?_
      refine t_getI (n := 93) 3 rfl rfl q1337 dX3_price_90 rfl ?_
      refine e_topi (fun x4_6 hx4_6 => ?_)
      have w := w x4_6 hx4_6
      refine e_istore (n := 95) (lv' := [(0, .ref o), (1, .int x1), (2, .int x2), (3, .int x3), (4, .int x4_6)]) [1, 2, 3, 4, 0] dX3_price_93 rfl rfl rfl ?_
      refine e_aload_n (n := 96) dX3_price_95 rfl 0 rfl ?_
      refine e_iload_n (n := 97) dX3_price_96 rfl 3 rfl ?_
      refine t_putI (n := 100) 3 rfl rfl rfl rfl q1337 dX3_price_97 rfl (fun s_7 hs_7 => ?_)
      have w := w s_7 hs_7
      refine e_goto (n := 114) dX3_price_100 (by decide) ?_
      refine e_sub (lv' := [(4, .int x4_6)]) [4] rfl ?_
      exact hX3_price_114 ok _ _ w
  · have w := w.2 h
    refine e_aload_n (n := 57) dX3_price_56 rfl 0 rfl ?_
    refine t_getR (n := 60) 2 rfl (by decide) q1336 dX3_price_57 rfl ?_
    refine e_bipush (n := 62) (v := 12) dX3_price_60 rfl (by decide) ?_
    refine e_iload_n (n := 63) dX3_price_62 rfl 1 rfl ?_
    refine e_imul (n := 64) dX3_price_63 rfl ?_
    refine e_iload_n (n := 65) dX3_price_64 rfl 2 rfl ?_
    refine e_iadd (n := 66) dX3_price_65 rfl ?_
    obtain ⟨wi, w⟩ := w
    refine t_iald (n := 67) ok 2 rfl rfl (N := 36) rfl wi dX3_price_66 rfl ?_
    refine e_topi (fun x4_8 hx4_8 => ?_)
    have w := w x4_8 hx4_8
    refine e_istore (n := 69) (lv' := [(0, .ref o), (1, .int x1), (2, .int x2), (3, .int x3), (4, .int x4_8)]) [1, 2, 3, 4, 0] dX3_price_67 rfl rfl rfl ?_
    refine e_aload_n (n := 70) dX3_price_69 rfl 0 rfl ?_
    refine t_getR (n := 73) 2 rfl (by decide) q1336 dX3_price_70 rfl ?_
    refine e_bipush (n := 75) (v := 12) dX3_price_73 rfl (by decide) ?_
    refine e_iload_n (n := 76) dX3_price_75 rfl 1 rfl ?_
    refine e_imul (n := 77) dX3_price_76 rfl ?_
    refine e_iload_n (n := 78) dX3_price_77 rfl 2 rfl ?_
    refine e_iadd (n := 79) dX3_price_78 rfl ?_
    refine e_iload_n (n := 80) dX3_price_79 rfl 3 rfl ?_
    obtain ⟨wi, w⟩ := w
    refine t_iast (n := 81) ok 2 rfl rfl (N := 36) rfl wi dX3_price_80 rfl (fun s_9 hs_9 => ?_)
    have w := w s_9 hs_9
    refine e_goto (n := 114) dX3_price_81 (by decide) ?_
    refine e_sub (lv' := [(4, .int x4_8)]) [4] rfl ?_
    exact hX3_price_114 ok _ _ w
set_option maxHeartbeats 4000000 in
theorem ctX3_price {o : Nat} {ad : Nat → Nat} (ok : t_ok o ad) {Q : Int32 → TS → Prop} {x1 : Int32} {x2 : Int32} {x3 : Int32} {s : TS} (w : wX3_price Q x1 x2 x3 s) : CT mX3_price 3 0 0 [.ref o, .int x1, .int x2, .int x3] (t_map o ad s) (t_Ki o ad Q) := by
  refine CT.of (lv := [(0, .ref o), (1, .int x1), (2, .int x2), (3, .int x3)]) okX3_price.1 rfl rfl ?_
  unfold wX3_price at w
  refine e_iload_n (n := 1) dX3_price_0 rfl 3 rfl ?_
  refine e_i2l (n := 2) dX3_price_1 rfl ?_
  refine e_lconst (n := 3) (v := 1) dX3_price_2 rfl (by decide) ?_
  refine e_ldc2 (n := 6) q1538 dX3_price_3 rfl ?_
  refine t_callS (n := 9) (As := [.long (x3.toInt64), .long 1, .long 100]) (st := []) okX3_in q1519 q1520 q63 q1521 (by decide) (Nat.le_refl _) (Nat.le_refl _) rfl rfl rfl dX3_price_6 rfl (ctX3_in w) (fun r9 σ9 hk => ?_)
  obtain ⟨r_1, rfl, rfl, w⟩ := hk
  refine e_if_eq (n := 12) (tgt := 44) dX3_price_9 rfl (by decide) (fun h => ?_) (fun h => ?_)
  · have w := w.1 h
    refine e_iconst (n := 45) (v := (-1)) dX3_price_44 rfl (by decide) ?_
    exact e_iret rfl (Nat.le_refl _) (Nat.le_refl _) ⟨_, _, rfl, rfl, w⟩ dX3_price_45
  · have w := w.2 h
    refine e_iload_n (n := 13) dX3_price_12 rfl 1 rfl ?_
    refine e_i2l (n := 14) dX3_price_13 rfl ?_
    refine e_lconst (n := 15) (v := 0) dX3_price_14 rfl (by decide) ?_
    refine e_ldc2 (n := 18) q1539 dX3_price_15 rfl ?_
    refine t_callS (n := 21) (As := [.long (x1.toInt64), .long 0, .long 4]) (st := []) okX3_in q1519 q1520 q63 q1521 (by decide) (Nat.le_refl _) (Nat.le_refl _) rfl rfl rfl dX3_price_18 rfl (ctX3_in w) (fun r9 σ9 hk => ?_)
    obtain ⟨r_2, rfl, rfl, w⟩ := hk
    refine e_if_eq (n := 24) (tgt := 44) dX3_price_21 rfl (by decide) (fun h => ?_) (fun h => ?_)
    · have w := w.1 h
      refine e_iconst (n := 45) (v := (-1)) dX3_price_44 rfl (by decide) ?_
      exact e_iret rfl (Nat.le_refl _) (Nat.le_refl _) ⟨_, _, rfl, rfl, w⟩ dX3_price_45
    · have w := w.2 h
      refine e_iload_n (n := 25) dX3_price_24 rfl 1 rfl ?_
      refine e_iconst (n := 26) (v := 3) dX3_price_25 rfl (by decide) ?_
      refine e_icmp_ge (n := 29) (tgt := 40) dX3_price_26 rfl (by decide) (fun h => ?_) (fun h => ?_)
      · have w := w.1 h
        refine e_iload_n (n := 41) dX3_price_40 rfl 2 rfl ?_
        refine e_if_eq (n := 44) (tgt := 46) dX3_price_41 rfl (by decide) (fun h => ?_) (fun h => ?_)
        · have w := w.1 h
          exact hX3_price_46 ok _ _ _ _ w
        · have w := w.2 h
          refine e_iconst (n := 45) (v := (-1)) dX3_price_44 rfl (by decide) ?_
          exact e_iret rfl (Nat.le_refl _) (Nat.le_refl _) ⟨_, _, rfl, rfl, w⟩ dX3_price_45
      · have w := w.2 h
        refine e_aload_n (n := 30) dX3_price_29 rfl 0 rfl ?_
        refine e_iload_n (n := 31) dX3_price_30 rfl 2 rfl ?_
        refine t_callV (n := 34) (As := [.int x2]) (st := []) okX3_isToken q1526 q1528 qs27 q1529 rfl (by decide) (Nat.le_refl _) (Nat.le_refl _) rfl rfl rfl dX3_price_31 rfl (ctX3_isToken ok w) (fun r9 σ9 hk => ?_)
        obtain ⟨r_11, s_10, rfl, rfl, w⟩ := hk
        refine e_if_ne (n := 37) (tgt := 46) dX3_price_34 rfl (by decide) (fun h => ?_) (fun h => ?_)
        · have w := w.2 h
          exact hX3_price_46 ok _ _ _ _ w
        · have w := w.1 h
          refine e_goto (n := 44) dX3_price_37 (by decide) ?_
          refine e_iconst (n := 45) (v := (-1)) dX3_price_44 rfl (by decide) ?_
          exact e_iret rfl (Nat.le_refl _) (Nat.le_refl _) ⟨_, _, rfl, rfl, w⟩ dX3_price_45
abbrev mX3_form : gM := (yX3_form, cX3_form, 7, some .int)
theorem okX3_form : g_ok mX3_form 5 := ⟨by decide +kernel, by decide +kernel, by decide +kernel, by decide +kernel, by decide⟩
def wX3_form_9 (Q : Int32 → TS → Prop)  (x1 : Int32) (x2 : Int32) (x3 : Int32) (x4 : Int32) (x5 : Int32) (s : TS) : Prop := wX3_isToken (fun (r_2 : Int32) (s_1 : TS) => (r_2 = 0 → (Q (-1) s_1)) ∧ (¬ r_2 = 0 → (wX3_isToken (fun (r_4 : Int32) (s_3 : TS) => (r_4 = 0 → (Q (-1) s_3)) ∧ (¬ r_4 = 0 → (wX3_isToken (fun (r_6 : Int32) (s_5 : TS) => (r_6 = 0 → (Q (-1) s_5)) ∧ (¬ r_6 = 0 → (wX3_in (fun (r_7 : Int32) => (r_7 = 0 → (Q (-1) s_5)) ∧ (¬ r_7 = 0 → (vp_in x1 2 ∧ ((s_5.2.1 11 x1.toNatClampNeg = 3 → (Q (-2) s_5)) ∧ (¬ s_5.2.1 11 x1.toNatClampNeg = 3 → (vp_in x1 2 ∧ (∀ x6_8 : Int32, x6_8 = (12 * x1) + (4 * (s_5.2.1 11 x1.toNatClampNeg)) → (vp_in x6_8 24 ∧ ∀ s_9 : TS, s_9 = tA s_5 12 x6_8.toNatClampNeg x2 → (vp_in (x6_8 + 1) 24 ∧ ∀ s_10 : TS, s_10 = tA s_9 12 (x6_8 + 1).toNatClampNeg x3 → (vp_in (x6_8 + 2) 24 ∧ ∀ s_11 : TS, s_11 = tA s_10 12 (x6_8 + 2).toNatClampNeg x4 → (vp_in (x6_8 + 3) 24 ∧ ∀ s_12 : TS, s_12 = tA s_11 12 (x6_8 + 3).toNatClampNeg x5 → (vp_in x1 2 ∧ (vp_in x1 2 ∧ ∀ s_13 : TS, s_13 = tA s_12 11 x1.toNatClampNeg ((s_12.2.1 11 x1.toNatClampNeg) + 1) → (t_b 0 ∧ ∀ s_14 : TS, s_14 = tI s_13 16 0 → (vp_in x1 2 ∧ (Q ((s_14.2.1 11 x1.toNatClampNeg) - 1) s_14)))))))))))))))) (x5.toInt64) 1 100))) x4 s_3))) x3 s_1))) x2 s
def wX3_form (Q : Int32 → TS → Prop) (x1 : Int32) (x2 : Int32) (x3 : Int32) (x4 : Int32) (x5 : Int32) (s : TS) : Prop := (x1 = 0 → (wX3_form_9 Q x1 x2 x3 x4 x5 s)) ∧ (¬ x1 = 0 → ((x1 = 1 → (wX3_form_9 Q x1 x2 x3 x4 x5 s)) ∧ (¬ x1 = 1 → (Q (-1) s))))
set_option maxHeartbeats 4000000 in
theorem hX3_form_9 {o : Nat} {ad : Nat → Nat} (ok : t_ok o ad) {Q : Int32 → TS → Prop}  (x1 : Int32) (x2 : Int32) (x3 : Int32) (x4 : Int32) (x5 : Int32) (s : TS) (w : wX3_form_9 Q x1 x2 x3 x4 x5 s) : E mX3_form 3 0 0 (g_z (t_Ki o ad Q)) 0 0 9 [(0, .ref o), (1, .int x1), (2, .int x2), (3, .int x3), (4, .int x4), (5, .int x5)] [] (t_map o ad s) := by
  unfold wX3_form_9 at w
  refine e_aload_n (n := 10) dX3_form_9 rfl 0 rfl ?_
  refine e_iload_n (n := 11) dX3_form_10 rfl 2 rfl ?_
  refine t_callV (n := 14) (As := [.int x2]) (st := []) okX3_isToken q1526 q1528 qs27 q1529 rfl (by decide) (Nat.le_refl _) (Nat.le_refl _) rfl rfl rfl dX3_form_11 rfl (ctX3_isToken ok w) (fun r9 σ9 hk => ?_)
  obtain ⟨r_2, s_1, rfl, rfl, w⟩ := hk
  refine e_if_eq (n := 17) (tgt := 47) dX3_form_14 rfl (by decide) (fun h => ?_) (fun h => ?_)
  · have w := w.1 h
    refine e_iconst (n := 48) (v := (-1)) dX3_form_47 rfl (by decide) ?_
    exact e_iret rfl (Nat.le_refl _) (Nat.le_refl _) ⟨_, _, rfl, rfl, w⟩ dX3_form_48
  · have w := w.2 h
    refine e_aload_n (n := 18) dX3_form_17 rfl 0 rfl ?_
    refine e_iload_n (n := 19) dX3_form_18 rfl 3 rfl ?_
    refine t_callV (n := 22) (As := [.int x3]) (st := []) okX3_isToken q1526 q1528 qs27 q1529 rfl (by decide) (Nat.le_refl _) (Nat.le_refl _) rfl rfl rfl dX3_form_19 rfl (ctX3_isToken ok w) (fun r9 σ9 hk => ?_)
    obtain ⟨r_4, s_3, rfl, rfl, w⟩ := hk
    refine e_if_eq (n := 25) (tgt := 47) dX3_form_22 rfl (by decide) (fun h => ?_) (fun h => ?_)
    · have w := w.1 h
      refine e_iconst (n := 48) (v := (-1)) dX3_form_47 rfl (by decide) ?_
      exact e_iret rfl (Nat.le_refl _) (Nat.le_refl _) ⟨_, _, rfl, rfl, w⟩ dX3_form_48
    · have w := w.2 h
      refine e_aload_n (n := 26) dX3_form_25 rfl 0 rfl ?_
      refine e_iload (n := 28) dX3_form_26 rfl 4 rfl ?_
      refine t_callV (n := 31) (As := [.int x4]) (st := []) okX3_isToken q1526 q1528 qs27 q1529 rfl (by decide) (Nat.le_refl _) (Nat.le_refl _) rfl rfl rfl dX3_form_28 rfl (ctX3_isToken ok w) (fun r9 σ9 hk => ?_)
      obtain ⟨r_6, s_5, rfl, rfl, w⟩ := hk
      refine e_if_eq (n := 34) (tgt := 47) dX3_form_31 rfl (by decide) (fun h => ?_) (fun h => ?_)
      · have w := w.1 h
        refine e_iconst (n := 48) (v := (-1)) dX3_form_47 rfl (by decide) ?_
        exact e_iret rfl (Nat.le_refl _) (Nat.le_refl _) ⟨_, _, rfl, rfl, w⟩ dX3_form_48
      · have w := w.2 h
        refine e_iload (n := 36) dX3_form_34 rfl 5 rfl ?_
        refine e_i2l (n := 37) dX3_form_36 rfl ?_
        refine e_lconst (n := 38) (v := 1) dX3_form_37 rfl (by decide) ?_
        refine e_ldc2 (n := 41) q1538 dX3_form_38 rfl ?_
        refine t_callS (n := 44) (As := [.long (x5.toInt64), .long 1, .long 100]) (st := []) okX3_in q1519 q1520 q63 q1521 (by decide) (Nat.le_refl _) (Nat.le_refl _) rfl rfl rfl dX3_form_41 rfl (ctX3_in w) (fun r9 σ9 hk => ?_)
        obtain ⟨r_7, rfl, rfl, w⟩ := hk
        refine e_if_ne (n := 47) (tgt := 49) dX3_form_44 rfl (by decide) (fun h => ?_) (fun h => ?_)
        · have w := w.2 h
          refine e_aload_n (n := 50) dX3_form_49 rfl 0 rfl ?_
          refine t_getR (n := 53) 11 rfl (by decide) q1345 dX3_form_50 rfl ?_
          refine e_iload_n (n := 54) dX3_form_53 rfl 1 rfl ?_
          obtain ⟨wi, w⟩ := w
          refine t_iald (n := 55) ok 11 rfl rfl (N := 2) rfl wi dX3_form_54 rfl ?_
          refine e_iconst (n := 56) (v := 3) dX3_form_55 rfl (by decide) ?_
          refine e_icmp_ne (n := 59) (tgt := 62) dX3_form_56 rfl (by decide) (fun h => ?_) (fun h => ?_)
          · have w := w.2 h
            refine e_bipush (n := 64) (v := 12) dX3_form_62 rfl (by decide) ?_
            refine e_iload_n (n := 65) dX3_form_64 rfl 1 rfl ?_
            refine e_imul (n := 66) dX3_form_65 rfl ?_
            refine e_iconst (n := 67) (v := 4) dX3_form_66 rfl (by decide) ?_
            refine e_aload_n (n := 68) dX3_form_67 rfl 0 rfl ?_
            refine t_getR (n := 71) 11 rfl (by decide) q1345 dX3_form_68 rfl ?_
            refine e_iload_n (n := 72) dX3_form_71 rfl 1 rfl ?_
            obtain ⟨wi, w⟩ := w
            refine t_iald (n := 73) ok 11 rfl rfl (N := 2) rfl wi dX3_form_72 rfl ?_
            refine e_imul (n := 74) dX3_form_73 rfl ?_
            refine e_iadd (n := 75) dX3_form_74 rfl ?_
            refine e_topi (fun x6_8 hx6_8 => ?_)
            have w := w x6_8 hx6_8
            refine e_istore (n := 77) (lv' := [(0, .ref o), (1, .int x1), (2, .int x2), (3, .int x3), (4, .int x4), (5, .int x5), (6, .int x6_8)]) [1, 2, 3, 4, 5, 6, 0] dX3_form_75 rfl rfl rfl ?_
            refine e_aload_n (n := 78) dX3_form_77 rfl 0 rfl ?_
            refine t_getR (n := 81) 12 rfl (by decide) q1346 dX3_form_78 rfl ?_
            refine e_iload (n := 83) dX3_form_81 rfl 6 rfl ?_
            refine e_iload_n (n := 84) dX3_form_83 rfl 2 rfl ?_
            obtain ⟨wi, w⟩ := w
            refine t_iast (n := 85) ok 12 rfl rfl (N := 24) rfl wi dX3_form_84 rfl (fun s_9 hs_9 => ?_)
            have w := w s_9 hs_9
            refine e_aload_n (n := 86) dX3_form_85 rfl 0 rfl ?_
            refine t_getR (n := 89) 12 rfl (by decide) q1346 dX3_form_86 rfl ?_
            refine e_iload (n := 91) dX3_form_89 rfl 6 rfl ?_
            refine e_iconst (n := 92) (v := 1) dX3_form_91 rfl (by decide) ?_
            refine e_iadd (n := 93) dX3_form_92 rfl ?_
            refine e_iload_n (n := 94) dX3_form_93 rfl 3 rfl ?_
            obtain ⟨wi, w⟩ := w
            refine t_iast (n := 95) ok 12 rfl rfl (N := 24) rfl wi dX3_form_94 rfl (fun s_10 hs_10 => ?_)
            have w := w s_10 hs_10
            refine e_aload_n (n := 96) dX3_form_95 rfl 0 rfl ?_
            refine t_getR (n := 99) 12 rfl (by decide) q1346 dX3_form_96 rfl ?_
            refine e_iload (n := 101) dX3_form_99 rfl 6 rfl ?_
            refine e_iconst (n := 102) (v := 2) dX3_form_101 rfl (by decide) ?_
            refine e_iadd (n := 103) dX3_form_102 rfl ?_
            refine e_iload (n := 105) dX3_form_103 rfl 4 rfl ?_
            obtain ⟨wi, w⟩ := w
            refine t_iast (n := 106) ok 12 rfl rfl (N := 24) rfl wi dX3_form_105 rfl (fun s_11 hs_11 => ?_)
            have w := w s_11 hs_11
            refine e_aload_n (n := 107) dX3_form_106 rfl 0 rfl ?_
            refine t_getR (n := 110) 12 rfl (by decide) q1346 dX3_form_107 rfl ?_
            refine e_iload (n := 112) dX3_form_110 rfl 6 rfl ?_
            refine e_iconst (n := 113) (v := 3) dX3_form_112 rfl (by decide) ?_
            refine e_iadd (n := 114) dX3_form_113 rfl ?_
            refine e_iload (n := 116) dX3_form_114 rfl 5 rfl ?_
            obtain ⟨wi, w⟩ := w
            refine t_iast (n := 117) ok 12 rfl rfl (N := 24) rfl wi dX3_form_116 rfl (fun s_12 hs_12 => ?_)
            have w := w s_12 hs_12
            refine e_aload_n (n := 118) dX3_form_117 rfl 0 rfl ?_
            refine t_getR (n := 121) 11 rfl (by decide) q1345 dX3_form_118 rfl ?_
            refine e_iload_n (n := 122) dX3_form_121 rfl 1 rfl ?_
            refine e_dup2_11 (n := 123) dX3_form_122 rfl rfl rfl ?_
            obtain ⟨wi, w⟩ := w
            refine t_iald (n := 124) ok 11 rfl rfl (N := 2) rfl wi dX3_form_123 rfl ?_
            refine e_iconst (n := 125) (v := 1) dX3_form_124 rfl (by decide) ?_
            refine e_iadd (n := 126) dX3_form_125 rfl ?_
            obtain ⟨wi, w⟩ := w
            refine t_iast (n := 127) ok 11 rfl rfl (N := 2) rfl wi dX3_form_126 rfl (fun s_13 hs_13 => ?_)
            have w := w s_13 hs_13
            refine e_aload_n (n := 128) dX3_form_127 rfl 0 rfl ?_
            refine e_iconst (n := 129) (v := 0) dX3_form_128 rfl (by decide) ?_
            obtain ⟨wb, w⟩ := w
            refine t_putZ (n := 132) wb 16 rfl rfl rfl rfl q1350 dX3_form_129 rfl (fun s_14 hs_14 => ?_)
            have w := w s_14 hs_14
            refine e_aload_n (n := 133) dX3_form_132 rfl 0 rfl ?_
            refine t_getR (n := 136) 11 rfl (by decide) q1345 dX3_form_133 rfl ?_
            refine e_iload_n (n := 137) dX3_form_136 rfl 1 rfl ?_
            obtain ⟨wi, w⟩ := w
            refine t_iald (n := 138) ok 11 rfl rfl (N := 2) rfl wi dX3_form_137 rfl ?_
            refine e_iconst (n := 139) (v := 1) dX3_form_138 rfl (by decide) ?_
            refine e_isub (n := 140) dX3_form_139 rfl ?_
            exact e_iret rfl (Nat.le_refl _) (Nat.le_refl _) ⟨_, _, rfl, rfl, w⟩ dX3_form_140
          · have w := w.1 h
            refine e_bipush (n := 61) (v := (-2)) dX3_form_59 rfl (by decide) ?_
            exact e_iret rfl (Nat.le_refl _) (Nat.le_refl _) ⟨_, _, rfl, rfl, w⟩ dX3_form_61
        · have w := w.1 h
          refine e_iconst (n := 48) (v := (-1)) dX3_form_47 rfl (by decide) ?_
          exact e_iret rfl (Nat.le_refl _) (Nat.le_refl _) ⟨_, _, rfl, rfl, w⟩ dX3_form_48
set_option maxHeartbeats 4000000 in
theorem ctX3_form {o : Nat} {ad : Nat → Nat} (ok : t_ok o ad) {Q : Int32 → TS → Prop} {x1 : Int32} {x2 : Int32} {x3 : Int32} {x4 : Int32} {x5 : Int32} {s : TS} (w : wX3_form Q x1 x2 x3 x4 x5 s) : CT mX3_form 3 0 0 [.ref o, .int x1, .int x2, .int x3, .int x4, .int x5] (t_map o ad s) (t_Ki o ad Q) := by
  refine CT.of (lv := [(0, .ref o), (1, .int x1), (2, .int x2), (3, .int x3), (4, .int x4), (5, .int x5)]) okX3_form.1 rfl rfl ?_
  unfold wX3_form at w
  refine e_iload_n (n := 1) dX3_form_0 rfl 1 rfl ?_
  refine e_if_eq (n := 4) (tgt := 9) dX3_form_1 rfl (by decide) (fun h => ?_) (fun h => ?_)
  · have w := w.1 h
    exact hX3_form_9 ok _ _ _ _ _ _ w
  · have w := w.2 h
    refine e_iload_n (n := 5) dX3_form_4 rfl 1 rfl ?_
    refine e_iconst (n := 6) (v := 1) dX3_form_5 rfl (by decide) ?_
    refine e_icmp_ne (n := 9) (tgt := 47) dX3_form_6 rfl (by decide) (fun h => ?_) (fun h => ?_)
    · have w := w.2 h
      refine e_iconst (n := 48) (v := (-1)) dX3_form_47 rfl (by decide) ?_
      exact e_iret rfl (Nat.le_refl _) (Nat.le_refl _) ⟨_, _, rfl, rfl, w⟩ dX3_form_48
    · have w := w.1 h
      exact hX3_form_9 ok _ _ _ _ _ _ w
abbrev mX3_fences : gM := (yX3_fences, cX3_fences, 3, some .int)
theorem okX3_fences : g_ok mX3_fences 1 := ⟨by decide +kernel, by decide +kernel, by decide +kernel, by decide +kernel, by decide⟩
def wX3_fences_12 (Q : Int32 → TS → Prop)  (t0 : Int32) (x1 : Int32) (s : TS) : Prop := t_b x1 ∧ ∀ s_1 : TS, s_1 = tI s 13 x1 → (t_b 0 ∧ ∀ s_2 : TS, s_2 = tI s_1 16 0 → (Q t0 s_2))
def wX3_fences (Q : Int32 → TS → Prop) (x1 : Int32) (s : TS) : Prop := (s.1 13 = 0 → (wX3_fences_12 Q 0 x1 s)) ∧ (¬ s.1 13 = 0 → (wX3_fences_12 Q 1 x1 s))
set_option maxHeartbeats 4000000 in
theorem hX3_fences_12 {o : Nat} {ad : Nat → Nat} (ok : t_ok o ad) {Q : Int32 → TS → Prop}  (t0 : Int32) (x1 : Int32) (s : TS) (w : wX3_fences_12 Q t0 x1 s) : E mX3_fences 1 0 0 (g_z (t_Ki o ad Q)) 0 0 12 [(0, .ref o), (1, .int x1)] [.int t0] (t_map o ad s) := by
  unfold wX3_fences_12 at w
  refine e_istore_n (n := 13) (lv' := [(0, .ref o), (1, .int x1), (2, .int t0)]) [1, 2, 0] dX3_fences_12 rfl rfl rfl ?_
  refine e_aload_n (n := 14) dX3_fences_13 rfl 0 rfl ?_
  refine e_iload_n (n := 15) dX3_fences_14 rfl 1 rfl ?_
  obtain ⟨wb, w⟩ := w
  refine t_putZ (n := 18) wb 13 rfl rfl rfl rfl q1347 dX3_fences_15 rfl (fun s_1 hs_1 => ?_)
  have w := w s_1 hs_1
  refine e_aload_n (n := 19) dX3_fences_18 rfl 0 rfl ?_
  refine e_iconst (n := 20) (v := 0) dX3_fences_19 rfl (by decide) ?_
  obtain ⟨wb, w⟩ := w
  refine t_putZ (n := 23) wb 16 rfl rfl rfl rfl q1350 dX3_fences_20 rfl (fun s_2 hs_2 => ?_)
  have w := w s_2 hs_2
  refine e_iload_n (n := 24) dX3_fences_23 rfl 2 rfl ?_
  exact e_iret rfl (Nat.le_refl _) (Nat.le_refl _) ⟨_, _, rfl, rfl, w⟩ dX3_fences_24
set_option maxHeartbeats 4000000 in
theorem ctX3_fences {o : Nat} {ad : Nat → Nat} (ok : t_ok o ad) {Q : Int32 → TS → Prop} {x1 : Int32} {s : TS} (w : wX3_fences Q x1 s) : CT mX3_fences 1 0 0 [.ref o, .int x1] (t_map o ad s) (t_Ki o ad Q) := by
  refine CT.of (lv := [(0, .ref o), (1, .int x1)]) okX3_fences.1 rfl rfl ?_
  unfold wX3_fences at w
  refine e_aload_n (n := 1) dX3_fences_0 rfl 0 rfl ?_
  refine t_getI (n := 4) 13 rfl rfl q1347 dX3_fences_1 rfl ?_
  refine e_if_eq (n := 7) (tgt := 11) dX3_fences_4 rfl (by decide) (fun h => ?_) (fun h => ?_)
  · have w := w.1 h
    refine e_iconst (n := 12) (v := 0) dX3_fences_11 rfl (by decide) ?_
    exact hX3_fences_12 ok _ _ _ w
  · have w := w.2 h
    refine e_iconst (n := 8) (v := 1) dX3_fences_7 rfl (by decide) ?_
    refine e_goto (n := 12) dX3_fences_8 (by decide) ?_
    exact hX3_fences_12 ok _ _ _ w
abbrev mX3_put : gM := (yX3_put, cX3_put, 4, some .int)
theorem okX3_put : g_ok mX3_put 2 := ⟨by decide +kernel, by decide +kernel, by decide +kernel, by decide +kernel, by decide⟩
def wX3_put_41 (Q : Int32 → TS → Prop) (k66 : Int32 → Int32 → TS → Prop) : Nat → Int32 → Int32 → Int32 → TS → Prop
  | 0 => fun _ _ _ _ => False
  | n + 1 => fun x1 x2 x3 s => (x3 ≤ x1 → (k66 x1 x2 s)) ∧ (¬ x3 ≤ x1 → (vp_in (x3 - 1) 11 ∧ (vp_in x3 11 ∧ ∀ s_11 : TS, s_11 = tA s 15 x3.toNatClampNeg (s.2.1 15 (x3 - 1).toNatClampNeg) → (∀ x3_12 : Int32, x3_12 = x3 + (-1) → (wX3_put_41 Q k66 n x1 x2 x3_12 s_11)))))
def wX3_put (Q : Int32 → TS → Prop) (x1 : Int32) (x2 : Int32) (s : TS) : Prop := wX3_in (fun (r_1 : Int32) => (r_1 = 0 → (Q (-1) s)) ∧ (¬ r_1 = 0 → (wX3_isToken (fun (r_3 : Int32) (s_2 : TS) => (r_3 = 0 → (Q (-1) s_2)) ∧ (¬ r_3 = 0 → ((s_2.1 14 = 10 → (Q (-2) s_2)) ∧ (¬ s_2.1 14 = 10 → (∀ x3_4 : Int32, x3_4 = s_2.1 14 → (∃ fu : Nat, wX3_put_41 Q (fun (x1_5 : Int32) (x2_6 : Int32) (s_7 : TS) => vp_in x1_5 11 ∧ ∀ s_8 : TS, s_8 = tA s_7 15 x1_5.toNatClampNeg x2_6 → (∀ s_9 : TS, s_9 = tI s_8 14 ((s_8.1 14) + 1) → (t_b 0 ∧ ∀ s_10 : TS, s_10 = tI s_9 16 0 → (Q (s_10.1 14) s_10)))) fu x1 x2 x3_4 s_2)))))) x2 s))) (x1.toInt64) 0 ((s.1 14).toInt64)
set_option maxHeartbeats 4000000 in
theorem hX3_put_41 {o : Nat} {ad : Nat → Nat} (ok : t_ok o ad) {Q : Int32 → TS → Prop} {k66 : Int32 → Int32 → TS → Prop} (hk66 : ∀ (x1 : Int32) (x2 : Int32) (s : TS), k66 x1 x2 s → E mX3_put 3 0 0 (g_z (t_Ki o ad Q)) 0 0 66 [(0, .ref o), (1, .int x1), (2, .int x2)] [] (t_map o ad s)) : ∀ (n : Nat) (x1 : Int32) (x2 : Int32) (x3 : Int32) (s : TS), wX3_put_41 Q k66 n x1 x2 x3 s → E mX3_put 3 0 0 (g_z (t_Ki o ad Q)) 0 0 41 [(0, .ref o), (1, .int x1), (2, .int x2), (3, .int x3)] [] (t_map o ad s) := by
  intro n
  induction n with
  | zero =>
    intro _ _ _ _ w
    exact w.elim
  | succ n ih =>
    intro x1 x2 x3 s w
    unfold wX3_put_41 at w
    refine e_iload_n (n := 42) dX3_put_41 rfl 3 rfl ?_
    refine e_iload_n (n := 43) dX3_put_42 rfl 1 rfl ?_
    refine e_icmp_le (n := 46) (tgt := 66) dX3_put_43 rfl (by decide) (fun h => ?_) (fun h => ?_)
    · have w := w.1 h
      refine e_sub (lv' := [(0, .ref o), (1, .int x1), (2, .int x2)]) [0, 1, 2] rfl ?_
      exact hk66 _ _ _ w
    · have w := w.2 h
      refine e_aload_n (n := 47) dX3_put_46 rfl 0 rfl ?_
      refine t_getR (n := 50) 15 rfl (by decide) q1349 dX3_put_47 rfl ?_
      refine e_iload_n (n := 51) dX3_put_50 rfl 3 rfl ?_
      refine e_aload_n (n := 52) dX3_put_51 rfl 0 rfl ?_
      refine t_getR (n := 55) 15 rfl (by decide) q1349 dX3_put_52 rfl ?_
      refine e_iload_n (n := 56) dX3_put_55 rfl 3 rfl ?_
      refine e_iconst (n := 57) (v := 1) dX3_put_56 rfl (by decide) ?_
      refine e_isub (n := 58) dX3_put_57 rfl ?_
      obtain ⟨wi, w⟩ := w
      refine t_iald (n := 59) ok 15 rfl rfl (N := 11) rfl wi dX3_put_58 rfl ?_
      obtain ⟨wi, w⟩ := w
      refine t_iast (n := 60) ok 15 rfl rfl (N := 11) rfl wi dX3_put_59 rfl (fun s_11 hs_11 => ?_)
      have w := w s_11 hs_11
      obtain ⟨x3_12, hx3_12⟩ : ∃ y : Int32, y = x3 + (-1) := ⟨_, rfl⟩
      have w := w x3_12 hx3_12
      refine e_iinc (n := 63) (v := x3_12) (lv' := [(0, .ref o), (1, .int x1), (2, .int x2), (3, .int x3_12)]) [1, 2, 3, 0] dX3_put_60 rfl 3 rfl (by rw [hx3_12]; rfl) rfl rfl ?_
      refine e_goto (n := 41) dX3_put_63 (by decide) ?_
      exact ih _ _ _ _ w
set_option maxHeartbeats 4000000 in
theorem ctX3_put {o : Nat} {ad : Nat → Nat} (ok : t_ok o ad) {Q : Int32 → TS → Prop} {x1 : Int32} {x2 : Int32} {s : TS} (w : wX3_put Q x1 x2 s) : CT mX3_put 3 0 0 [.ref o, .int x1, .int x2] (t_map o ad s) (t_Ki o ad Q) := by
  refine CT.of (lv := [(0, .ref o), (1, .int x1), (2, .int x2)]) okX3_put.1 rfl rfl ?_
  unfold wX3_put at w
  refine e_iload_n (n := 1) dX3_put_0 rfl 1 rfl ?_
  refine e_i2l (n := 2) dX3_put_1 rfl ?_
  refine e_lconst (n := 3) (v := 0) dX3_put_2 rfl (by decide) ?_
  refine e_aload_n (n := 4) dX3_put_3 rfl 0 rfl ?_
  refine t_getI (n := 7) 14 rfl rfl q1348 dX3_put_4 rfl ?_
  refine e_i2l (n := 8) dX3_put_7 rfl ?_
  refine t_callS (n := 11) (As := [.long (x1.toInt64), .long 0, .long ((s.1 14).toInt64)]) (st := []) okX3_in q1519 q1520 q63 q1521 (by decide) (Nat.le_refl _) (Nat.le_refl _) rfl rfl rfl dX3_put_8 rfl (ctX3_in w) (fun r9 σ9 hk => ?_)
  obtain ⟨r_1, rfl, rfl, w⟩ := hk
  refine e_if_eq (n := 14) (tgt := 22) dX3_put_11 rfl (by decide) (fun h => ?_) (fun h => ?_)
  · have w := w.1 h
    refine e_iconst (n := 23) (v := (-1)) dX3_put_22 rfl (by decide) ?_
    exact e_iret rfl (Nat.le_refl _) (Nat.le_refl _) ⟨_, _, rfl, rfl, w⟩ dX3_put_23
  · have w := w.2 h
    refine e_aload_n (n := 15) dX3_put_14 rfl 0 rfl ?_
    refine e_iload_n (n := 16) dX3_put_15 rfl 2 rfl ?_
    refine t_callV (n := 19) (As := [.int x2]) (st := []) okX3_isToken q1526 q1528 qs27 q1529 rfl (by decide) (Nat.le_refl _) (Nat.le_refl _) rfl rfl rfl dX3_put_16 rfl (ctX3_isToken ok w) (fun r9 σ9 hk => ?_)
    obtain ⟨r_3, s_2, rfl, rfl, w⟩ := hk
    refine e_if_ne (n := 22) (tgt := 24) dX3_put_19 rfl (by decide) (fun h => ?_) (fun h => ?_)
    · have w := w.2 h
      refine e_aload_n (n := 25) dX3_put_24 rfl 0 rfl ?_
      refine t_getI (n := 28) 14 rfl rfl q1348 dX3_put_25 rfl ?_
      refine e_bipush (n := 30) (v := 10) dX3_put_28 rfl (by decide) ?_
      refine e_icmp_ne (n := 33) (tgt := 36) dX3_put_30 rfl (by decide) (fun h => ?_) (fun h => ?_)
      · have w := w.2 h
        refine e_aload_n (n := 37) dX3_put_36 rfl 0 rfl ?_
        refine t_getI (n := 40) 14 rfl rfl q1348 dX3_put_37 rfl ?_
        refine e_topi (fun x3_4 hx3_4 => ?_)
        have w := w x3_4 hx3_4
        refine e_istore_n (n := 41) (lv' := [(0, .ref o), (1, .int x1), (2, .int x2), (3, .int x3_4)]) [1, 2, 3, 0] dX3_put_40 rfl rfl rfl ?_
        obtain ⟨fu, w⟩ := w
        refine hX3_put_41 ok (fun x1_5 x2_6 s_7 w => ?_) fu _ _ _ _ w
        refine e_aload_n (n := 67) dX3_put_66 rfl 0 rfl ?_
        refine t_getR (n := 70) 15 rfl (by decide) q1349 dX3_put_67 rfl ?_
        refine e_iload_n (n := 71) dX3_put_70 rfl 1 rfl ?_
        refine e_iload_n (n := 72) dX3_put_71 rfl 2 rfl ?_
        obtain ⟨wi, w⟩ := w
        refine t_iast (n := 73) ok 15 rfl rfl (N := 11) rfl wi dX3_put_72 rfl (fun s_8 hs_8 => ?_)
        have w := w s_8 hs_8
        refine e_aload_n (n := 74) dX3_put_73 rfl 0 rfl ?_
        refine e_dup (n := 75) dX3_put_74 rfl rfl ?_
        refine t_getI (n := 78) 14 rfl rfl q1348 dX3_put_75 rfl ?_
        refine e_iconst (n := 79) (v := 1) dX3_put_78 rfl (by decide) ?_
        refine e_iadd (n := 80) dX3_put_79 rfl ?_
        refine t_putI (n := 83) 14 rfl rfl rfl rfl q1348 dX3_put_80 rfl (fun s_9 hs_9 => ?_)
        have w := w s_9 hs_9
        refine e_aload_n (n := 84) dX3_put_83 rfl 0 rfl ?_
        refine e_iconst (n := 85) (v := 0) dX3_put_84 rfl (by decide) ?_
        obtain ⟨wb, w⟩ := w
        refine t_putZ (n := 88) wb 16 rfl rfl rfl rfl q1350 dX3_put_85 rfl (fun s_10 hs_10 => ?_)
        have w := w s_10 hs_10
        refine e_aload_n (n := 89) dX3_put_88 rfl 0 rfl ?_
        refine t_getI (n := 92) 14 rfl rfl q1348 dX3_put_89 rfl ?_
        exact e_iret rfl (Nat.le_refl _) (Nat.le_refl _) ⟨_, _, rfl, rfl, w⟩ dX3_put_92
      · have w := w.1 h
        refine e_bipush (n := 35) (v := (-2)) dX3_put_33 rfl (by decide) ?_
        exact e_iret rfl (Nat.le_refl _) (Nat.le_refl _) ⟨_, _, rfl, rfl, w⟩ dX3_put_35
    · have w := w.1 h
      refine e_iconst (n := 23) (v := (-1)) dX3_put_22 rfl (by decide) ?_
      exact e_iret rfl (Nat.le_refl _) (Nat.le_refl _) ⟨_, _, rfl, rfl, w⟩ dX3_put_23
abbrev mX3_take : gM := (yX3_take, cX3_take, 3, some .int)
theorem okX3_take : g_ok mX3_take 1 := ⟨by decide +kernel, by decide +kernel, by decide +kernel, by decide +kernel, by decide⟩
def wX3_take_30 (Q : Int32 → TS → Prop) (k58 : TS → Prop) : Nat → Int32 → TS → Prop
  | 0 => fun _ _ => False
  | n + 1 => fun x2 s => (s.1 14 ≤ x2 → (k58 s)) ∧ (¬ s.1 14 ≤ x2 → (vp_in (x2 + 1) 11 ∧ (vp_in x2 11 ∧ ∀ s_5 : TS, s_5 = tA s 15 x2.toNatClampNeg (s.2.1 15 (x2 + 1).toNatClampNeg) → (∀ x2_6 : Int32, x2_6 = x2 + 1 → (wX3_take_30 Q k58 n x2_6 s_5)))))
def wX3_take (Q : Int32 → TS → Prop) (x1 : Int32) (s : TS) : Prop := wX3_in (fun (r_1 : Int32) => (r_1 = 0 → (Q (-1) s)) ∧ (¬ r_1 = 0 → (∀ s_2 : TS, s_2 = tI s 14 ((s.1 14) - 1) → (∃ fu : Nat, wX3_take_30 Q (fun  (s_3 : TS) => t_b 0 ∧ ∀ s_4 : TS, s_4 = tI s_3 16 0 → (Q (s_4.1 14) s_4)) fu x1 s_2)))) (x1.toInt64) 0 (((s.1 14) - 1).toInt64)
set_option maxHeartbeats 4000000 in
theorem hX3_take_30 {o : Nat} {ad : Nat → Nat} (ok : t_ok o ad) {Q : Int32 → TS → Prop} {k58 : TS → Prop} (hk58 : ∀  (s : TS), k58 s → E mX3_take 2 0 0 (g_z (t_Ki o ad Q)) 0 0 58 [(0, .ref o)] [] (t_map o ad s)) : ∀ (n : Nat) (x2 : Int32) (s : TS), wX3_take_30 Q k58 n x2 s → E mX3_take 2 0 0 (g_z (t_Ki o ad Q)) 0 0 30 [(0, .ref o), (2, .int x2)] [] (t_map o ad s) := by
  intro n
  induction n with
  | zero =>
    intro _ _ w
    exact w.elim
  | succ n ih =>
    intro x2 s w
    unfold wX3_take_30 at w
    refine e_iload_n (n := 31) dX3_take_30 rfl 1 rfl ?_
    refine e_aload_n (n := 32) dX3_take_31 rfl 0 rfl ?_
    refine t_getI (n := 35) 14 rfl rfl q1348 dX3_take_32 rfl ?_
    refine e_icmp_ge (n := 38) (tgt := 58) dX3_take_35 rfl (by decide) (fun h => ?_) (fun h => ?_)
    · have w := w.1 h
      refine e_sub (lv' := [(0, .ref o)]) [0] rfl ?_
      exact hk58 _ w
    · have w := w.2 h
      refine e_aload_n (n := 39) dX3_take_38 rfl 0 rfl ?_
      refine t_getR (n := 42) 15 rfl (by decide) q1349 dX3_take_39 rfl ?_
      refine e_iload_n (n := 43) dX3_take_42 rfl 1 rfl ?_
      refine e_aload_n (n := 44) dX3_take_43 rfl 0 rfl ?_
      refine t_getR (n := 47) 15 rfl (by decide) q1349 dX3_take_44 rfl ?_
      refine e_iload_n (n := 48) dX3_take_47 rfl 1 rfl ?_
      refine e_iconst (n := 49) (v := 1) dX3_take_48 rfl (by decide) ?_
      refine e_iadd (n := 50) dX3_take_49 rfl ?_
      obtain ⟨wi, w⟩ := w
      refine t_iald (n := 51) ok 15 rfl rfl (N := 11) rfl wi dX3_take_50 rfl ?_
      obtain ⟨wi, w⟩ := w
      refine t_iast (n := 52) ok 15 rfl rfl (N := 11) rfl wi dX3_take_51 rfl (fun s_5 hs_5 => ?_)
      have w := w s_5 hs_5
      obtain ⟨x2_6, hx2_6⟩ : ∃ y : Int32, y = x2 + 1 := ⟨_, rfl⟩
      have w := w x2_6 hx2_6
      refine e_iinc (n := 55) (v := x2_6) (lv' := [(0, .ref o), (2, .int x2_6)]) [1, 0] dX3_take_52 rfl 1 rfl (by rw [hx2_6]; rfl) rfl rfl ?_
      refine e_goto (n := 30) dX3_take_55 (by decide) ?_
      exact ih _ _ w
set_option maxHeartbeats 4000000 in
theorem ctX3_take {o : Nat} {ad : Nat → Nat} (ok : t_ok o ad) {Q : Int32 → TS → Prop} {x1 : Int32} {s : TS} (w : wX3_take Q x1 s) : CT mX3_take 2 0 0 [.ref o, .int x1] (t_map o ad s) (t_Ki o ad Q) := by
  refine CT.of (lv := [(0, .ref o), (1, .int x1)]) okX3_take.1 rfl rfl ?_
  unfold wX3_take at w
  refine e_iload_n (n := 1) dX3_take_0 rfl 1 rfl ?_
  refine e_i2l (n := 2) dX3_take_1 rfl ?_
  refine e_lconst (n := 3) (v := 0) dX3_take_2 rfl (by decide) ?_
  refine e_aload_n (n := 4) dX3_take_3 rfl 0 rfl ?_
  refine t_getI (n := 7) 14 rfl rfl q1348 dX3_take_4 rfl ?_
  refine e_iconst (n := 8) (v := 1) dX3_take_7 rfl (by decide) ?_
  refine e_isub (n := 9) dX3_take_8 rfl ?_
  refine e_i2l (n := 10) dX3_take_9 rfl ?_
  refine t_callS (n := 13) (As := [.long (x1.toInt64), .long 0, .long (((s.1 14) - 1).toInt64)]) (st := []) okX3_in q1519 q1520 q63 q1521 (by decide) (Nat.le_refl _) (Nat.le_refl _) rfl rfl rfl dX3_take_10 rfl (ctX3_in w) (fun r9 σ9 hk => ?_)
  obtain ⟨r_1, rfl, rfl, w⟩ := hk
  refine e_if_ne (n := 16) (tgt := 18) dX3_take_13 rfl (by decide) (fun h => ?_) (fun h => ?_)
  · have w := w.2 h
    refine e_aload_n (n := 19) dX3_take_18 rfl 0 rfl ?_
    refine e_dup (n := 20) dX3_take_19 rfl rfl ?_
    refine t_getI (n := 23) 14 rfl rfl q1348 dX3_take_20 rfl ?_
    refine e_iconst (n := 24) (v := 1) dX3_take_23 rfl (by decide) ?_
    refine e_isub (n := 25) dX3_take_24 rfl ?_
    refine t_putI (n := 28) 14 rfl rfl rfl rfl q1348 dX3_take_25 rfl (fun s_2 hs_2 => ?_)
    have w := w s_2 hs_2
    refine e_iload_n (n := 29) dX3_take_28 rfl 1 rfl ?_
    refine e_istore_n (n := 30) (lv' := [(0, .ref o), (1, .int x1), (2, .int x1)]) [1, 2, 0] dX3_take_29 rfl rfl rfl ?_
    obtain ⟨fu, w⟩ := w
    refine e_sub (lv' := [(0, .ref o), (2, .int x1)]) [0, 2] rfl ?_
    refine hX3_take_30 ok (fun s_3 w => ?_) fu _ _ w
    refine e_aload_n (n := 59) dX3_take_58 rfl 0 rfl ?_
    refine e_iconst (n := 60) (v := 0) dX3_take_59 rfl (by decide) ?_
    obtain ⟨wb, w⟩ := w
    refine t_putZ (n := 63) wb 16 rfl rfl rfl rfl q1350 dX3_take_60 rfl (fun s_4 hs_4 => ?_)
    have w := w s_4 hs_4
    refine e_aload_n (n := 64) dX3_take_63 rfl 0 rfl ?_
    refine t_getI (n := 67) 14 rfl rfl q1348 dX3_take_64 rfl ?_
    exact e_iret rfl (Nat.le_refl _) (Nat.le_refl _) ⟨_, _, rfl, rfl, w⟩ dX3_take_67
  · have w := w.1 h
    refine e_iconst (n := 17) (v := (-1)) dX3_take_16 rfl (by decide) ?_
    exact e_iret rfl (Nat.le_refl _) (Nat.le_refl _) ⟨_, _, rfl, rfl, w⟩ dX3_take_17
abbrev mX3_at : gM := (yX3_at, cX3_at, 2, some .int)
theorem okX3_at : g_ok mX3_at 1 := ⟨by decide +kernel, by decide +kernel, by decide +kernel, by decide +kernel, by decide⟩
def wX3_at (Q : Int32 → TS → Prop) (x1 : Int32) (s : TS) : Prop := wX3_in (fun (r_1 : Int32) => (r_1 = 0 → (Q (-1) s)) ∧ (¬ r_1 = 0 → (vp_in x1 11 ∧ (Q (s.2.1 15 x1.toNatClampNeg) s)))) (x1.toInt64) 0 (((s.1 14) - 1).toInt64)
set_option maxHeartbeats 4000000 in
theorem ctX3_at {o : Nat} {ad : Nat → Nat} (ok : t_ok o ad) {Q : Int32 → TS → Prop} {x1 : Int32} {s : TS} (w : wX3_at Q x1 s) : CT mX3_at 2 0 0 [.ref o, .int x1] (t_map o ad s) (t_Ki o ad Q) := by
  refine CT.of (lv := [(0, .ref o), (1, .int x1)]) okX3_at.1 rfl rfl ?_
  unfold wX3_at at w
  refine e_iload_n (n := 1) dX3_at_0 rfl 1 rfl ?_
  refine e_i2l (n := 2) dX3_at_1 rfl ?_
  refine e_lconst (n := 3) (v := 0) dX3_at_2 rfl (by decide) ?_
  refine e_aload_n (n := 4) dX3_at_3 rfl 0 rfl ?_
  refine t_getI (n := 7) 14 rfl rfl q1348 dX3_at_4 rfl ?_
  refine e_iconst (n := 8) (v := 1) dX3_at_7 rfl (by decide) ?_
  refine e_isub (n := 9) dX3_at_8 rfl ?_
  refine e_i2l (n := 10) dX3_at_9 rfl ?_
  refine t_callS (n := 13) (As := [.long (x1.toInt64), .long 0, .long (((s.1 14) - 1).toInt64)]) (st := []) okX3_in q1519 q1520 q63 q1521 (by decide) (Nat.le_refl _) (Nat.le_refl _) rfl rfl rfl dX3_at_10 rfl (ctX3_in w) (fun r9 σ9 hk => ?_)
  obtain ⟨r_1, rfl, rfl, w⟩ := hk
  refine e_if_eq (n := 16) (tgt := 25) dX3_at_13 rfl (by decide) (fun h => ?_) (fun h => ?_)
  · have w := w.1 h
    refine e_iconst (n := 26) (v := (-1)) dX3_at_25 rfl (by decide) ?_
    exact e_iret rfl (Nat.le_refl _) (Nat.le_refl _) ⟨_, _, rfl, rfl, w⟩ dX3_at_26
  · have w := w.2 h
    refine e_aload_n (n := 17) dX3_at_16 rfl 0 rfl ?_
    refine t_getR (n := 20) 15 rfl (by decide) q1349 dX3_at_17 rfl ?_
    refine e_iload_n (n := 21) dX3_at_20 rfl 1 rfl ?_
    obtain ⟨wi, w⟩ := w
    refine t_iald (n := 22) ok 15 rfl rfl (N := 11) rfl wi dX3_at_21 rfl ?_
    refine e_goto (n := 26) dX3_at_22 (by decide) ?_
    exact e_iret rfl (Nat.le_refl _) (Nat.le_refl _) ⟨_, _, rfl, rfl, w⟩ dX3_at_26
abbrev mX3_knot : gM := (yX3_knot, cX3_knot, 4, none)
theorem okX3_knot : g_ok mX3_knot 3 := ⟨by decide +kernel, by decide +kernel, by decide +kernel, by decide +kernel, by decide⟩
def wX3_knot (Q : TS → Prop) (x1 : Int32) (x2 : Int32) (x3 : Int32) (s : TS) : Prop := vp_in (s.1 28) 52 ∧ ∀ s_1 : TS, s_1 = tA s 29 (s.1 28).toNatClampNeg x1 → (vp_in (s_1.1 28) 52 ∧ ∀ s_2 : TS, s_2 = tA s_1 30 (s_1.1 28).toNatClampNeg x2 → (vp_in (s_2.1 28) 52 ∧ ∀ s_3 : TS, s_3 = tA s_2 31 (s_2.1 28).toNatClampNeg x3 → (∀ s_4 : TS, s_4 = tI s_3 28 ((s_3.1 28) + 1) → (Q s_4))))
set_option maxHeartbeats 4000000 in
theorem ctX3_knot {o : Nat} {ad : Nat → Nat} (ok : t_ok o ad) {Q : TS → Prop} {x1 : Int32} {x2 : Int32} {x3 : Int32} {s : TS} (w : wX3_knot Q x1 x2 x3 s) : CT mX3_knot 1 0 0 [.ref o, .int x1, .int x2, .int x3] (t_map o ad s) (t_Kv o ad Q) := by
  refine CT.of (lv := [(0, .ref o), (1, .int x1), (2, .int x2), (3, .int x3)]) okX3_knot.1 rfl rfl ?_
  unfold wX3_knot at w
  refine e_aload_n (n := 1) dX3_knot_0 rfl 0 rfl ?_
  refine t_getR (n := 4) 29 rfl (by decide) q1363 dX3_knot_1 rfl ?_
  refine e_aload_n (n := 5) dX3_knot_4 rfl 0 rfl ?_
  refine t_getI (n := 8) 28 rfl rfl q1362 dX3_knot_5 rfl ?_
  refine e_iload_n (n := 9) dX3_knot_8 rfl 1 rfl ?_
  obtain ⟨wi, w⟩ := w
  refine t_iast (n := 10) ok 29 rfl rfl (N := 52) rfl wi dX3_knot_9 rfl (fun s_1 hs_1 => ?_)
  have w := w s_1 hs_1
  refine e_aload_n (n := 11) dX3_knot_10 rfl 0 rfl ?_
  refine t_getR (n := 14) 30 rfl (by decide) q1364 dX3_knot_11 rfl ?_
  refine e_aload_n (n := 15) dX3_knot_14 rfl 0 rfl ?_
  refine t_getI (n := 18) 28 rfl rfl q1362 dX3_knot_15 rfl ?_
  refine e_iload_n (n := 19) dX3_knot_18 rfl 2 rfl ?_
  obtain ⟨wi, w⟩ := w
  refine t_iast (n := 20) ok 30 rfl rfl (N := 52) rfl wi dX3_knot_19 rfl (fun s_2 hs_2 => ?_)
  have w := w s_2 hs_2
  refine e_aload_n (n := 21) dX3_knot_20 rfl 0 rfl ?_
  refine t_getR (n := 24) 31 rfl (by decide) q1365 dX3_knot_21 rfl ?_
  refine e_aload_n (n := 25) dX3_knot_24 rfl 0 rfl ?_
  refine t_getI (n := 28) 28 rfl rfl q1362 dX3_knot_25 rfl ?_
  refine e_iload_n (n := 29) dX3_knot_28 rfl 3 rfl ?_
  obtain ⟨wi, w⟩ := w
  refine t_iast (n := 30) ok 31 rfl rfl (N := 52) rfl wi dX3_knot_29 rfl (fun s_3 hs_3 => ?_)
  have w := w s_3 hs_3
  refine e_aload_n (n := 31) dX3_knot_30 rfl 0 rfl ?_
  refine e_dup (n := 32) dX3_knot_31 rfl rfl ?_
  refine t_getI (n := 35) 28 rfl rfl q1362 dX3_knot_32 rfl ?_
  refine e_iconst (n := 36) (v := 1) dX3_knot_35 rfl (by decide) ?_
  refine e_iadd (n := 37) dX3_knot_36 rfl ?_
  refine t_putI (n := 40) 28 rfl rfl rfl rfl q1362 dX3_knot_37 rfl (fun s_4 hs_4 => ?_)
  have w := w s_4 hs_4
  exact e_vret rfl (Nat.le_refl _) (Nat.le_refl _) ⟨_, rfl, rfl, w⟩ dX3_knot_40
abbrev mX3_layKnots : gM := (yX3_layKnots, cX3_layKnots, 5, none)
theorem okX3_layKnots : g_ok mX3_layKnots 1 := ⟨by decide +kernel, by decide +kernel, by decide +kernel, by decide +kernel, by decide⟩
def wX3_layKnots_120 (Q : TS → Prop) (kh : Int32 → Int32 → Int32 → Int32 → TS → Prop) (k126 : Int32 → Int32 → TS → Prop) (x1 : Int32) (x2 : Int32) (x3 : Int32) (x4 : Int32) (s : TS) : Prop := ∀ x4_9 : Int32, x4_9 = x4 + 1 → (kh x1 x2 x3 x4_9 s)
def wX3_layKnots_72 (Q : TS → Prop) (k126 : Int32 → Int32 → TS → Prop) : Nat → Int32 → Int32 → Int32 → Int32 → TS → Prop
  | 0 => fun _ _ _ _ _ => False
  | n + 1 => fun x1 x2 x3 x4 s => vp_in 0 2 ∧ ((s.2.1 11 0 ≤ x4 → (k126 x1 x2 s)) ∧ (¬ s.2.1 11 0 ≤ x4 → ((x1 ≤ x2 → (k126 x1 x2 s)) ∧ (¬ x1 ≤ x2 → ((x3 = 0 → (vp_in ((4 * x4) + 2) 24 ∧ (vp_in x2 11 ∧ ((s.2.1 12 ((4 * x4) + 2).toNatClampNeg = s.2.1 15 x2.toNatClampNeg → (wX3_knot (fun (s_10 : TS) => wX3_layKnots_120 Q (wX3_layKnots_72 Q k126 n) k126 x1 x2 x3 x4 s_10) 2 x2 x4 s)) ∧ (¬ s.2.1 12 ((4 * x4) + 2).toNatClampNeg = s.2.1 15 x2.toNatClampNeg → (wX3_layKnots_120 Q (wX3_layKnots_72 Q k126 n) k126 x1 x2 x3 x4 s)))))) ∧ (¬ x3 = 0 → (k126 x1 x2 s)))))))
def wX3_layKnots_69 (Q : TS → Prop) (kh : Int32 → Int32 → TS → Prop) (k132 : TS → Prop) (x1 : Int32) (x2 : Int32) (x3 : Int32) (s : TS) : Prop := ∃ fu : Nat, wX3_layKnots_72 Q (fun (x1_5 : Int32) (x2_6 : Int32) (s_7 : TS) => ∀ x2_8 : Int32, x2_8 = x2_6 + 1 → (kh x1_5 x2_8 s_7)) fu x1 x2 x3 0 s
def wX3_layKnots_50 (Q : TS → Prop) (kh : Int32 → Int32 → TS → Prop) (k132 : TS → Prop) (t0 : Int32) (x1 : Int32) (x2 : Int32) (s : TS) : Prop := (x1 - 1 ≤ x2 → (wX3_layKnots_69 Q kh k132 x1 x2 t0 s)) ∧ (¬ x1 - 1 ≤ x2 → ((t0 = 0 → (wX3_knot (fun (s_11 : TS) => wX3_layKnots_69 Q kh k132 x1 x2 t0 s_11) 1 x2 0 s)) ∧ (¬ t0 = 0 → (wX3_layKnots_69 Q kh k132 x1 x2 t0 s))))
def wX3_layKnots_45 (Q : TS → Prop) (kh : Int32 → Int32 → TS → Prop) (k132 : TS → Prop) (x1 : Int32) (x2 : Int32) (s : TS) : Prop := wX3_layKnots_50 Q kh k132 1 x1 x2 s
def wX3_layKnots_7 (Q : TS → Prop) (k132 : TS → Prop) : Nat → Int32 → Int32 → TS → Prop
  | 0 => fun _ _ _ => False
  | n + 1 => fun x1 x2 s => (x1 < x2 → (k132 s)) ∧ (¬ x1 < x2 → (vp_in x2 12 ∧ ∀ s_3 : TS, s_3 = tA s 32 x2.toNatClampNeg (s.1 28) → (wX3_knot (fun (s_4 : TS) => (s_4.1 33 = 2 → (wX3_layKnots_45 Q (wX3_layKnots_7 Q k132 n) k132 x1 x2 s_4)) ∧ (¬ s_4.1 33 = 2 → ((s_4.1 33 = 4 → (wX3_layKnots_45 Q (wX3_layKnots_7 Q k132 n) k132 x1 x2 s_4)) ∧ (¬ s_4.1 33 = 4 → (wX3_layKnots_50 Q (wX3_layKnots_7 Q k132 n) k132 0 x1 x2 s_4))))) 0 x2 0 s_3)))
def wX3_layKnots (Q : TS → Prop) (x1 : Int32) (s : TS) : Prop := ∀ s_1 : TS, s_1 = tI s 28 0 → (∃ fu : Nat, wX3_layKnots_7 Q (fun  (s_2 : TS) => Q s_2) fu x1 0 s_1)
set_option maxHeartbeats 4000000 in
theorem hX3_layKnots_120 {o : Nat} {ad : Nat → Nat} (ok : t_ok o ad) {Q : TS → Prop} {kh : Int32 → Int32 → Int32 → Int32 → TS → Prop} (hkh : ∀ (x1 : Int32) (x2 : Int32) (x3 : Int32) (x4 : Int32) (s : TS), kh x1 x2 x3 x4 s → E mX3_layKnots 2 0 0 (g_z (t_Kv o ad Q)) 0 0 72 [(0, .ref o), (1, .int x1), (2, .int x2), (3, .int x3), (4, .int x4)] [] (t_map o ad s)) {k126 : Int32 → Int32 → TS → Prop} (hk126 : ∀ (x1 : Int32) (x2 : Int32) (s : TS), k126 x1 x2 s → E mX3_layKnots 2 0 0 (g_z (t_Kv o ad Q)) 0 0 126 [(0, .ref o), (1, .int x1), (2, .int x2)] [] (t_map o ad s)) (x1 : Int32) (x2 : Int32) (x3 : Int32) (x4 : Int32) (s : TS) (w : wX3_layKnots_120 Q kh k126 x1 x2 x3 x4 s) : E mX3_layKnots 2 0 0 (g_z (t_Kv o ad Q)) 0 0 120 [(0, .ref o), (1, .int x1), (2, .int x2), (3, .int x3), (4, .int x4)] [] (t_map o ad s) := by
  unfold wX3_layKnots_120 at w
  obtain ⟨x4_9, hx4_9⟩ : ∃ y : Int32, y = x4 + 1 := ⟨_, rfl⟩
  have w := w x4_9 hx4_9
  refine e_iinc (n := 123) (v := x4_9) (lv' := [(0, .ref o), (1, .int x1), (2, .int x2), (3, .int x3), (4, .int x4_9)]) [1, 2, 3, 4, 0] dX3_layKnots_120 rfl 4 rfl (by rw [hx4_9]; rfl) rfl rfl ?_
  refine e_goto (n := 72) dX3_layKnots_123 (by decide) ?_
  exact hkh _ _ _ _ _ w
set_option maxHeartbeats 4000000 in
theorem hX3_layKnots_72 {o : Nat} {ad : Nat → Nat} (ok : t_ok o ad) {Q : TS → Prop} {k126 : Int32 → Int32 → TS → Prop} (hk126 : ∀ (x1 : Int32) (x2 : Int32) (s : TS), k126 x1 x2 s → E mX3_layKnots 2 0 0 (g_z (t_Kv o ad Q)) 0 0 126 [(0, .ref o), (1, .int x1), (2, .int x2)] [] (t_map o ad s)) : ∀ (n : Nat) (x1 : Int32) (x2 : Int32) (x3 : Int32) (x4 : Int32) (s : TS), wX3_layKnots_72 Q k126 n x1 x2 x3 x4 s → E mX3_layKnots 2 0 0 (g_z (t_Kv o ad Q)) 0 0 72 [(0, .ref o), (1, .int x1), (2, .int x2), (3, .int x3), (4, .int x4)] [] (t_map o ad s) := by
  intro n
  induction n with
  | zero =>
    intro _ _ _ _ _ w
    exact w.elim
  | succ n ih =>
    intro x1 x2 x3 x4 s w
    unfold wX3_layKnots_72 at w
    refine e_iload (n := 74) dX3_layKnots_72 rfl 4 rfl ?_
    refine e_aload_n (n := 75) dX3_layKnots_74 rfl 0 rfl ?_
    refine t_getR (n := 78) 11 rfl (by decide) q1345 dX3_layKnots_75 rfl ?_
    refine e_iconst (n := 79) (v := 0) dX3_layKnots_78 rfl (by decide) ?_
    obtain ⟨wi, w⟩ := w
    refine t_iald (n := 80) ok 11 rfl rfl (N := 2) rfl wi dX3_layKnots_79 rfl ?_
    refine e_icmp_ge (n := 83) (tgt := 126) dX3_layKnots_80 rfl (by decide) (fun h => ?_) (fun h => ?_)
    · have w := w.1 h
      refine e_sub (lv' := [(0, .ref o), (1, .int x1), (2, .int x2)]) [0, 1, 2] rfl ?_
      exact hk126 _ _ _ w
    · have w := w.2 h
      refine e_iload_n (n := 84) dX3_layKnots_83 rfl 2 rfl ?_
      refine e_iload_n (n := 85) dX3_layKnots_84 rfl 1 rfl ?_
      refine e_icmp_ge (n := 88) (tgt := 126) dX3_layKnots_85 rfl (by decide) (fun h => ?_) (fun h => ?_)
      · have w := w.1 h
        refine e_sub (lv' := [(0, .ref o), (1, .int x1), (2, .int x2)]) [0, 1, 2] rfl ?_
        exact hk126 _ _ _ w
      · have w := w.2 h
        refine e_iload_n (n := 89) dX3_layKnots_88 rfl 3 rfl ?_
        refine e_if_ne (n := 92) (tgt := 126) dX3_layKnots_89 rfl (by decide) (fun h => ?_) (fun h => ?_)
        · have w := w.2 h
          refine e_sub (lv' := [(0, .ref o), (1, .int x1), (2, .int x2)]) [0, 1, 2] rfl ?_
          exact hk126 _ _ _ w
        · have w := w.1 h
          refine e_aload_n (n := 93) dX3_layKnots_92 rfl 0 rfl ?_
          refine t_getR (n := 96) 12 rfl (by decide) q1346 dX3_layKnots_93 rfl ?_
          refine e_iconst (n := 97) (v := 4) dX3_layKnots_96 rfl (by decide) ?_
          refine e_iload (n := 99) dX3_layKnots_97 rfl 4 rfl ?_
          refine e_imul (n := 100) dX3_layKnots_99 rfl ?_
          refine e_iconst (n := 101) (v := 2) dX3_layKnots_100 rfl (by decide) ?_
          refine e_iadd (n := 102) dX3_layKnots_101 rfl ?_
          obtain ⟨wi, w⟩ := w
          refine t_iald (n := 103) ok 12 rfl rfl (N := 24) rfl wi dX3_layKnots_102 rfl ?_
          refine e_aload_n (n := 104) dX3_layKnots_103 rfl 0 rfl ?_
          refine t_getR (n := 107) 15 rfl (by decide) q1349 dX3_layKnots_104 rfl ?_
          refine e_iload_n (n := 108) dX3_layKnots_107 rfl 2 rfl ?_
          obtain ⟨wi, w⟩ := w
          refine t_iald (n := 109) ok 15 rfl rfl (N := 11) rfl wi dX3_layKnots_108 rfl ?_
          refine e_icmp_ne (n := 112) (tgt := 120) dX3_layKnots_109 rfl (by decide) (fun h => ?_) (fun h => ?_)
          · have w := w.2 h
            exact hX3_layKnots_120 ok ih hk126 _ _ _ _ _ w
          · have w := w.1 h
            refine e_aload_n (n := 113) dX3_layKnots_112 rfl 0 rfl ?_
            refine e_iconst (n := 114) (v := 2) dX3_layKnots_113 rfl (by decide) ?_
            refine e_iload_n (n := 115) dX3_layKnots_114 rfl 2 rfl ?_
            refine e_iload (n := 117) dX3_layKnots_115 rfl 4 rfl ?_
            refine t_callV (n := 120) (As := [.int 2, .int x2, .int x4]) (st := []) okX3_knot q1580 q1582 qs32 q1583 rfl (by decide) (Nat.le_refl _) (Nat.le_refl _) rfl rfl rfl dX3_layKnots_117 rfl (ctX3_knot ok w) (fun r9 σ9 hk => ?_)
            obtain ⟨s_10, rfl, rfl, w⟩ := hk
            exact hX3_layKnots_120 ok ih hk126 _ _ _ _ _ w
set_option maxHeartbeats 4000000 in
theorem hX3_layKnots_69 {o : Nat} {ad : Nat → Nat} (ok : t_ok o ad) {Q : TS → Prop} {kh : Int32 → Int32 → TS → Prop} (hkh : ∀ (x1 : Int32) (x2 : Int32) (s : TS), kh x1 x2 s → E mX3_layKnots 2 0 0 (g_z (t_Kv o ad Q)) 0 0 7 [(0, .ref o), (1, .int x1), (2, .int x2)] [] (t_map o ad s)) {k132 : TS → Prop} (hk132 : ∀  (s : TS), k132 s → E mX3_layKnots 2 0 0 (g_z (t_Kv o ad Q)) 0 0 132 [] [] (t_map o ad s)) (x1 : Int32) (x2 : Int32) (x3 : Int32) (s : TS) (w : wX3_layKnots_69 Q kh k132 x1 x2 x3 s) : E mX3_layKnots 2 0 0 (g_z (t_Kv o ad Q)) 0 0 69 [(0, .ref o), (1, .int x1), (2, .int x2), (3, .int x3)] [] (t_map o ad s) := by
  unfold wX3_layKnots_69 at w
  refine e_iconst (n := 70) (v := 0) dX3_layKnots_69 rfl (by decide) ?_
  refine e_istore (n := 72) (lv' := [(0, .ref o), (1, .int x1), (2, .int x2), (3, .int x3), (4, .int 0)]) [1, 2, 3, 4, 0] dX3_layKnots_70 rfl rfl rfl ?_
  obtain ⟨fu, w⟩ := w
  refine hX3_layKnots_72 ok (fun x1_5 x2_6 s_7 w => ?_) fu _ _ _ _ _ w
  obtain ⟨x2_8, hx2_8⟩ : ∃ y : Int32, y = x2_6 + 1 := ⟨_, rfl⟩
  have w := w x2_8 hx2_8
  refine e_iinc (n := 129) (v := x2_8) (lv' := [(0, .ref o), (1, .int x1_5), (2, .int x2_8)]) [1, 2, 0] dX3_layKnots_126 rfl 2 rfl (by rw [hx2_8]; rfl) rfl rfl ?_
  refine e_goto (n := 7) dX3_layKnots_129 (by decide) ?_
  exact hkh _ _ _ w
set_option maxHeartbeats 4000000 in
theorem hX3_layKnots_50 {o : Nat} {ad : Nat → Nat} (ok : t_ok o ad) {Q : TS → Prop} {kh : Int32 → Int32 → TS → Prop} (hkh : ∀ (x1 : Int32) (x2 : Int32) (s : TS), kh x1 x2 s → E mX3_layKnots 2 0 0 (g_z (t_Kv o ad Q)) 0 0 7 [(0, .ref o), (1, .int x1), (2, .int x2)] [] (t_map o ad s)) {k132 : TS → Prop} (hk132 : ∀  (s : TS), k132 s → E mX3_layKnots 2 0 0 (g_z (t_Kv o ad Q)) 0 0 132 [] [] (t_map o ad s)) (t0 : Int32) (x1 : Int32) (x2 : Int32) (s : TS) (w : wX3_layKnots_50 Q kh k132 t0 x1 x2 s) : E mX3_layKnots 2 0 0 (g_z (t_Kv o ad Q)) 0 0 50 [(0, .ref o), (1, .int x1), (2, .int x2)] [.int t0] (t_map o ad s) := by
  unfold wX3_layKnots_50 at w
  refine e_istore_n (n := 51) (lv' := [(0, .ref o), (1, .int x1), (2, .int x2), (3, .int t0)]) [1, 2, 3, 0] dX3_layKnots_50 rfl rfl rfl ?_
  refine e_iload_n (n := 52) dX3_layKnots_51 rfl 2 rfl ?_
  refine e_iload_n (n := 53) dX3_layKnots_52 rfl 1 rfl ?_
  refine e_iconst (n := 54) (v := 1) dX3_layKnots_53 rfl (by decide) ?_
  refine e_isub (n := 55) dX3_layKnots_54 rfl ?_
  refine e_icmp_ge (n := 58) (tgt := 69) dX3_layKnots_55 rfl (by decide) (fun h => ?_) (fun h => ?_)
  · have w := w.1 h
    exact hX3_layKnots_69 ok hkh hk132 _ _ _ _ w
  · have w := w.2 h
    refine e_iload_n (n := 59) dX3_layKnots_58 rfl 3 rfl ?_
    refine e_if_ne (n := 62) (tgt := 69) dX3_layKnots_59 rfl (by decide) (fun h => ?_) (fun h => ?_)
    · have w := w.2 h
      exact hX3_layKnots_69 ok hkh hk132 _ _ _ _ w
    · have w := w.1 h
      refine e_aload_n (n := 63) dX3_layKnots_62 rfl 0 rfl ?_
      refine e_iconst (n := 64) (v := 1) dX3_layKnots_63 rfl (by decide) ?_
      refine e_iload_n (n := 65) dX3_layKnots_64 rfl 2 rfl ?_
      refine e_iconst (n := 66) (v := 0) dX3_layKnots_65 rfl (by decide) ?_
      refine t_callV (n := 69) (As := [.int 1, .int x2, .int 0]) (st := []) okX3_knot q1580 q1582 qs32 q1583 rfl (by decide) (Nat.le_refl _) (Nat.le_refl _) rfl rfl rfl dX3_layKnots_66 rfl (ctX3_knot ok w) (fun r9 σ9 hk => ?_)
      obtain ⟨s_11, rfl, rfl, w⟩ := hk
      exact hX3_layKnots_69 ok hkh hk132 _ _ _ _ w
set_option maxHeartbeats 4000000 in
theorem hX3_layKnots_45 {o : Nat} {ad : Nat → Nat} (ok : t_ok o ad) {Q : TS → Prop} {kh : Int32 → Int32 → TS → Prop} (hkh : ∀ (x1 : Int32) (x2 : Int32) (s : TS), kh x1 x2 s → E mX3_layKnots 2 0 0 (g_z (t_Kv o ad Q)) 0 0 7 [(0, .ref o), (1, .int x1), (2, .int x2)] [] (t_map o ad s)) {k132 : TS → Prop} (hk132 : ∀  (s : TS), k132 s → E mX3_layKnots 2 0 0 (g_z (t_Kv o ad Q)) 0 0 132 [] [] (t_map o ad s)) (x1 : Int32) (x2 : Int32) (s : TS) (w : wX3_layKnots_45 Q kh k132 x1 x2 s) : E mX3_layKnots 2 0 0 (g_z (t_Kv o ad Q)) 0 0 45 [(0, .ref o), (1, .int x1), (2, .int x2)] [] (t_map o ad s) := by
  unfold wX3_layKnots_45 at w
  refine e_iconst (n := 46) (v := 1) dX3_layKnots_45 rfl (by decide) ?_
  refine e_goto (n := 50) dX3_layKnots_46 (by decide) ?_
  exact hX3_layKnots_50 ok hkh hk132 _ _ _ _ w
set_option maxHeartbeats 4000000 in
theorem hX3_layKnots_7 {o : Nat} {ad : Nat → Nat} (ok : t_ok o ad) {Q : TS → Prop} {k132 : TS → Prop} (hk132 : ∀  (s : TS), k132 s → E mX3_layKnots 2 0 0 (g_z (t_Kv o ad Q)) 0 0 132 [] [] (t_map o ad s)) : ∀ (n : Nat) (x1 : Int32) (x2 : Int32) (s : TS), wX3_layKnots_7 Q k132 n x1 x2 s → E mX3_layKnots 2 0 0 (g_z (t_Kv o ad Q)) 0 0 7 [(0, .ref o), (1, .int x1), (2, .int x2)] [] (t_map o ad s) := by
  intro n
  induction n with
  | zero =>
    intro _ _ _ w
    exact w.elim
  | succ n ih =>
    intro x1 x2 s w
    unfold wX3_layKnots_7 at w
    refine e_iload_n (n := 8) dX3_layKnots_7 rfl 2 rfl ?_
    refine e_iload_n (n := 9) dX3_layKnots_8 rfl 1 rfl ?_
    refine e_icmp_gt (n := 12) (tgt := 132) dX3_layKnots_9 rfl (by decide) (fun h => ?_) (fun h => ?_)
    · have w := w.1 h
      refine e_sub (lv' := []) [] rfl ?_
      exact hk132 _ w
    · have w := w.2 h
      refine e_aload_n (n := 13) dX3_layKnots_12 rfl 0 rfl ?_
      refine t_getR (n := 16) 32 rfl (by decide) q1366 dX3_layKnots_13 rfl ?_
      refine e_iload_n (n := 17) dX3_layKnots_16 rfl 2 rfl ?_
      refine e_aload_n (n := 18) dX3_layKnots_17 rfl 0 rfl ?_
      refine t_getI (n := 21) 28 rfl rfl q1362 dX3_layKnots_18 rfl ?_
      obtain ⟨wi, w⟩ := w
      refine t_iast (n := 22) ok 32 rfl rfl (N := 12) rfl wi dX3_layKnots_21 rfl (fun s_3 hs_3 => ?_)
      have w := w s_3 hs_3
      refine e_aload_n (n := 23) dX3_layKnots_22 rfl 0 rfl ?_
      refine e_iconst (n := 24) (v := 0) dX3_layKnots_23 rfl (by decide) ?_
      refine e_iload_n (n := 25) dX3_layKnots_24 rfl 2 rfl ?_
      refine e_iconst (n := 26) (v := 0) dX3_layKnots_25 rfl (by decide) ?_
      refine t_callV (n := 29) (As := [.int 0, .int x2, .int 0]) (st := []) okX3_knot q1580 q1582 qs32 q1583 rfl (by decide) (Nat.le_refl _) (Nat.le_refl _) rfl rfl rfl dX3_layKnots_26 rfl (ctX3_knot ok w) (fun r9 σ9 hk => ?_)
      obtain ⟨s_4, rfl, rfl, w⟩ := hk
      refine e_aload_n (n := 30) dX3_layKnots_29 rfl 0 rfl ?_
      refine t_getI (n := 33) 33 rfl rfl q1367 dX3_layKnots_30 rfl ?_
      refine e_iconst (n := 34) (v := 2) dX3_layKnots_33 rfl (by decide) ?_
      refine e_icmp_eq (n := 37) (tgt := 45) dX3_layKnots_34 rfl (by decide) (fun h => ?_) (fun h => ?_)
      · have w := w.1 h
        exact hX3_layKnots_45 ok ih hk132 _ _ _ w
      · have w := w.2 h
        refine e_aload_n (n := 38) dX3_layKnots_37 rfl 0 rfl ?_
        refine t_getI (n := 41) 33 rfl rfl q1367 dX3_layKnots_38 rfl ?_
        refine e_iconst (n := 42) (v := 4) dX3_layKnots_41 rfl (by decide) ?_
        refine e_icmp_ne (n := 45) (tgt := 49) dX3_layKnots_42 rfl (by decide) (fun h => ?_) (fun h => ?_)
        · have w := w.2 h
          refine e_iconst (n := 50) (v := 0) dX3_layKnots_49 rfl (by decide) ?_
          exact hX3_layKnots_50 ok ih hk132 _ _ _ _ w
        · have w := w.1 h
          exact hX3_layKnots_45 ok ih hk132 _ _ _ w
set_option maxHeartbeats 4000000 in
theorem ctX3_layKnots {o : Nat} {ad : Nat → Nat} (ok : t_ok o ad) {Q : TS → Prop} {x1 : Int32} {s : TS} (w : wX3_layKnots Q x1 s) : CT mX3_layKnots 2 0 0 [.ref o, .int x1] (t_map o ad s) (t_Kv o ad Q) := by
  refine CT.of (lv := [(0, .ref o), (1, .int x1)]) okX3_layKnots.1 rfl rfl ?_
  unfold wX3_layKnots at w
  refine e_aload_n (n := 1) dX3_layKnots_0 rfl 0 rfl ?_
  refine e_iconst (n := 2) (v := 0) dX3_layKnots_1 rfl (by decide) ?_
  refine t_putI (n := 5) 28 rfl rfl rfl rfl q1362 dX3_layKnots_2 rfl (fun s_1 hs_1 => ?_)
  have w := w s_1 hs_1
  refine e_iconst (n := 6) (v := 0) dX3_layKnots_5 rfl (by decide) ?_
  refine e_istore_n (n := 7) (lv' := [(0, .ref o), (1, .int x1), (2, .int 0)]) [1, 2, 0] dX3_layKnots_6 rfl rfl rfl ?_
  obtain ⟨fu, w⟩ := w
  refine hX3_layKnots_7 ok (fun s_2 w => ?_) fu _ _ _ w
  exact e_vret rfl (Nat.le_refl _) (Nat.le_refl _) ⟨_, rfl, rfl, w⟩ dX3_layKnots_132
abbrev mX3_isFenced : gM := (yX3_isFenced, cX3_isFenced, 2, some .boolean)
theorem okX3_isFenced : g_ok mX3_isFenced 1 := ⟨by decide +kernel, by decide +kernel, by decide +kernel, by decide +kernel, by decide⟩
def wX3_isFenced (Q : Int32 → TS → Prop) (x1 : Int32) (s : TS) : Prop := (s.1 13 = 0 → (Q 0 s)) ∧ (¬ s.1 13 = 0 → (vp_in x1 12 ∧ ((s.2.1 1 x1.toNatClampNeg = 0 → (Q 0 s)) ∧ (¬ s.2.1 1 x1.toNatClampNeg = 0 → (Q 1 s)))))
set_option maxHeartbeats 4000000 in
theorem ctX3_isFenced {o : Nat} {ad : Nat → Nat} (ok : t_ok o ad) {Q : Int32 → TS → Prop} {x1 : Int32} {s : TS} (w : wX3_isFenced Q x1 s) : CT mX3_isFenced 1 0 0 [.ref o, .int x1] (t_map o ad s) (t_Ki o ad Q) := by
  refine CT.of (lv := [(0, .ref o), (1, .int x1)]) okX3_isFenced.1 rfl rfl ?_
  unfold wX3_isFenced at w
  refine e_aload_n (n := 1) dX3_isFenced_0 rfl 0 rfl ?_
  refine t_getI (n := 4) 13 rfl rfl q1347 dX3_isFenced_1 rfl ?_
  refine e_if_eq (n := 7) (tgt := 20) dX3_isFenced_4 rfl (by decide) (fun h => ?_) (fun h => ?_)
  · have w := w.1 h
    refine e_iconst (n := 21) (v := 0) dX3_isFenced_20 rfl (by decide) ?_
    exact e_zret rfl rfl (Nat.le_refl _) (Nat.le_refl _) ⟨_, _, rfl, rfl, w⟩ dX3_isFenced_21
  · have w := w.2 h
    refine e_aload_n (n := 8) dX3_isFenced_7 rfl 0 rfl ?_
    refine t_getR (n := 11) 1 rfl (by decide) q1335 dX3_isFenced_8 rfl ?_
    refine e_iload_n (n := 12) dX3_isFenced_11 rfl 1 rfl ?_
    obtain ⟨wi, w⟩ := w
    refine t_zald (n := 13) ok 1 rfl rfl (N := 12) rfl wi dX3_isFenced_12 rfl ?_
    refine e_if_eq (n := 16) (tgt := 20) dX3_isFenced_13 rfl (by decide) (fun h => ?_) (fun h => ?_)
    · have w := w.1 h
      refine e_iconst (n := 21) (v := 0) dX3_isFenced_20 rfl (by decide) ?_
      exact e_zret rfl rfl (Nat.le_refl _) (Nat.le_refl _) ⟨_, _, rfl, rfl, w⟩ dX3_isFenced_21
    · have w := w.2 h
      refine e_iconst (n := 17) (v := 1) dX3_isFenced_16 rfl (by decide) ?_
      refine e_goto (n := 21) dX3_isFenced_17 (by decide) ?_
      exact e_zret rfl rfl (Nat.le_refl _) (Nat.le_refl _) ⟨_, _, rfl, rfl, w⟩ dX3_isFenced_21
abbrev mX3_mayBe : gM := (yX3_mayBe, cX3_mayBe, 7, some .boolean)
theorem okX3_mayBe : g_ok mX3_mayBe 4 := ⟨by decide +kernel, by decide +kernel, by decide +kernel, by decide +kernel, by decide⟩
def wX3_mayBe_120 (Q : Int32 → TS → Prop)   (s : TS) : Prop := Q 1 s
def wX3_mayBe_81 (Q : Int32 → TS → Prop) (kh : Int32 → Int32 → Int32 → Int32 → TS → Prop) (k89 : Int32 → Int32 → Int32 → TS → Prop) (t0 : Int32) (x2 : Int32) (x3 : Int32) (x6 : Int32) (s : TS) : Prop := ∀ x6_5 : Int32, x6_5 = x6 + 1 → (kh x2 x3 t0 x6_5 s)
def wX3_mayBe_80 (Q : Int32 → TS → Prop) (kh : Int32 → Int32 → Int32 → Int32 → TS → Prop) (k89 : Int32 → Int32 → Int32 → TS → Prop) (x2 : Int32) (x3 : Int32) (x6 : Int32) (s : TS) : Prop := wX3_mayBe_81 Q kh k89 0 x2 x3 x6 s
def wX3_mayBe_49 (Q : Int32 → TS → Prop) (k89 : Int32 → Int32 → Int32 → TS → Prop) : Nat → Int32 → Int32 → Int32 → Int32 → TS → Prop
  | 0 => fun _ _ _ _ _ => False
  | n + 1 => fun x2 x3 x5 x6 s => (x2 + x3 ≤ x6 → (k89 x2 x3 x5 s)) ∧ (¬ x2 + x3 ≤ x6 → ((x5 = 0 → (wX3_mayBe_80 Q (wX3_mayBe_49 Q k89 n) k89 x2 x3 x6 s)) ∧ (¬ x5 = 0 → (vp_in x6 11 ∧ (wX3_isFenced (fun (r_7 : Int32) (s_6 : TS) => (r_7 = 0 → (wX3_mayBe_81 Q (wX3_mayBe_49 Q k89 n) k89 1 x2 x3 x6 s_6)) ∧ (¬ r_7 = 0 → (wX3_mayBe_80 Q (wX3_mayBe_49 Q k89 n) k89 x2 x3 x6 s_6))) (s.2.1 15 x6.toNatClampNeg) s)))))
def wX3_mayBe_43 (Q : Int32 → TS → Prop)  (x2 : Int32) (x3 : Int32) (s : TS) : Prop := ∃ fu : Nat, wX3_mayBe_49 Q (fun (x2_1 : Int32) (x3_2 : Int32) (x5_3 : Int32) (s_4 : TS) => (x5_3 = 0 → (Q 0 s_4)) ∧ (¬ x5_3 = 0 → ((s_4.1 33 = 1 → ((x2_1 < s_4.1 18 → (Q 0 s_4)) ∧ (¬ x2_1 < s_4.1 18 → ((s_4.1 19 < x2_1 + x3_2 → (Q 0 s_4)) ∧ (¬ s_4.1 19 < x2_1 + x3_2 → (wX3_mayBe_120 Q s_4)))))) ∧ (¬ s_4.1 33 = 1 → (wX3_mayBe_120 Q s_4))))) fu x2 x3 1 x2 s
def wX3_mayBe (Q : Int32 → TS → Prop) (x1 : Int32) (x2 : Int32) (x3 : Int32) (x4 : Int32) (s : TS) : Prop := (s.1 33 = 2 → (Q 0 s)) ∧ (¬ s.1 33 = 2 → ((s.1 33 = 4 → (Q 0 s)) ∧ (¬ s.1 33 = 4 → ((x1 = s.1 35 → ((x2 = s.1 36 → ((x4 = s.1 37 → (Q 0 s)) ∧ (¬ x4 = s.1 37 → (wX3_mayBe_43 Q x2 x3 s)))) ∧ (¬ x2 = s.1 36 → (wX3_mayBe_43 Q x2 x3 s)))) ∧ (¬ x1 = s.1 35 → (wX3_mayBe_43 Q x2 x3 s))))))
set_option maxHeartbeats 4000000 in
theorem hX3_mayBe_120 {o : Nat} {ad : Nat → Nat} (ok : t_ok o ad) {Q : Int32 → TS → Prop}   (s : TS) (w : wX3_mayBe_120 Q s) : E mX3_mayBe 2 0 0 (g_z (t_Ki o ad Q)) 0 0 120 [] [] (t_map o ad s) := by
  unfold wX3_mayBe_120 at w
  refine e_iconst (n := 121) (v := 1) dX3_mayBe_120 rfl (by decide) ?_
  refine e_goto (n := 125) dX3_mayBe_121 (by decide) ?_
  exact e_zret rfl rfl (Nat.le_refl _) (Nat.le_refl _) ⟨_, _, rfl, rfl, w⟩ dX3_mayBe_125
set_option maxHeartbeats 4000000 in
theorem hX3_mayBe_81 {o : Nat} {ad : Nat → Nat} (ok : t_ok o ad) {Q : Int32 → TS → Prop} {kh : Int32 → Int32 → Int32 → Int32 → TS → Prop} (hkh : ∀ (x2 : Int32) (x3 : Int32) (x5 : Int32) (x6 : Int32) (s : TS), kh x2 x3 x5 x6 s → E mX3_mayBe 2 0 0 (g_z (t_Ki o ad Q)) 0 0 49 [(0, .ref o), (2, .int x2), (3, .int x3), (5, .int x5), (6, .int x6)] [] (t_map o ad s)) {k89 : Int32 → Int32 → Int32 → TS → Prop} (hk89 : ∀ (x2 : Int32) (x3 : Int32) (x5 : Int32) (s : TS), k89 x2 x3 x5 s → E mX3_mayBe 2 0 0 (g_z (t_Ki o ad Q)) 0 0 89 [(0, .ref o), (2, .int x2), (3, .int x3), (5, .int x5)] [] (t_map o ad s)) (t0 : Int32) (x2 : Int32) (x3 : Int32) (x6 : Int32) (s : TS) (w : wX3_mayBe_81 Q kh k89 t0 x2 x3 x6 s) : E mX3_mayBe 2 0 0 (g_z (t_Ki o ad Q)) 0 0 81 [(0, .ref o), (2, .int x2), (3, .int x3), (6, .int x6)] [.int t0] (t_map o ad s) := by
  unfold wX3_mayBe_81 at w
  refine e_istore (n := 83) (lv' := [(0, .ref o), (2, .int x2), (3, .int x3), (5, .int t0), (6, .int x6)]) [1, 2, 3, 0, 4] dX3_mayBe_81 rfl rfl rfl ?_
  obtain ⟨x6_5, hx6_5⟩ : ∃ y : Int32, y = x6 + 1 := ⟨_, rfl⟩
  have w := w x6_5 hx6_5
  refine e_iinc (n := 86) (v := x6_5) (lv' := [(0, .ref o), (2, .int x2), (3, .int x3), (5, .int t0), (6, .int x6_5)]) [1, 2, 3, 4, 0] dX3_mayBe_83 rfl 4 rfl (by rw [hx6_5]; rfl) rfl rfl ?_
  refine e_goto (n := 49) dX3_mayBe_86 (by decide) ?_
  exact hkh _ _ _ _ _ w
set_option maxHeartbeats 4000000 in
theorem hX3_mayBe_80 {o : Nat} {ad : Nat → Nat} (ok : t_ok o ad) {Q : Int32 → TS → Prop} {kh : Int32 → Int32 → Int32 → Int32 → TS → Prop} (hkh : ∀ (x2 : Int32) (x3 : Int32) (x5 : Int32) (x6 : Int32) (s : TS), kh x2 x3 x5 x6 s → E mX3_mayBe 2 0 0 (g_z (t_Ki o ad Q)) 0 0 49 [(0, .ref o), (2, .int x2), (3, .int x3), (5, .int x5), (6, .int x6)] [] (t_map o ad s)) {k89 : Int32 → Int32 → Int32 → TS → Prop} (hk89 : ∀ (x2 : Int32) (x3 : Int32) (x5 : Int32) (s : TS), k89 x2 x3 x5 s → E mX3_mayBe 2 0 0 (g_z (t_Ki o ad Q)) 0 0 89 [(0, .ref o), (2, .int x2), (3, .int x3), (5, .int x5)] [] (t_map o ad s)) (x2 : Int32) (x3 : Int32) (x6 : Int32) (s : TS) (w : wX3_mayBe_80 Q kh k89 x2 x3 x6 s) : E mX3_mayBe 2 0 0 (g_z (t_Ki o ad Q)) 0 0 80 [(0, .ref o), (2, .int x2), (3, .int x3), (6, .int x6)] [] (t_map o ad s) := by
  unfold wX3_mayBe_80 at w
  refine e_iconst (n := 81) (v := 0) dX3_mayBe_80 rfl (by decide) ?_
  exact hX3_mayBe_81 ok hkh hk89 _ _ _ _ _ w
set_option maxHeartbeats 4000000 in
theorem hX3_mayBe_49 {o : Nat} {ad : Nat → Nat} (ok : t_ok o ad) {Q : Int32 → TS → Prop} {k89 : Int32 → Int32 → Int32 → TS → Prop} (hk89 : ∀ (x2 : Int32) (x3 : Int32) (x5 : Int32) (s : TS), k89 x2 x3 x5 s → E mX3_mayBe 2 0 0 (g_z (t_Ki o ad Q)) 0 0 89 [(0, .ref o), (2, .int x2), (3, .int x3), (5, .int x5)] [] (t_map o ad s)) : ∀ (n : Nat) (x2 : Int32) (x3 : Int32) (x5 : Int32) (x6 : Int32) (s : TS), wX3_mayBe_49 Q k89 n x2 x3 x5 x6 s → E mX3_mayBe 2 0 0 (g_z (t_Ki o ad Q)) 0 0 49 [(0, .ref o), (2, .int x2), (3, .int x3), (5, .int x5), (6, .int x6)] [] (t_map o ad s) := by
  intro n
  induction n with
  | zero =>
    intro _ _ _ _ _ w
    exact w.elim
  | succ n ih =>
    intro x2 x3 x5 x6 s w
    unfold wX3_mayBe_49 at w
    refine e_iload (n := 51) dX3_mayBe_49 rfl 4 rfl ?_
    refine e_iload_n (n := 52) dX3_mayBe_51 rfl 1 rfl ?_
    refine e_iload_n (n := 53) dX3_mayBe_52 rfl 2 rfl ?_
    refine e_iadd (n := 54) dX3_mayBe_53 rfl ?_
    refine e_icmp_ge (n := 57) (tgt := 89) dX3_mayBe_54 rfl (by decide) (fun h => ?_) (fun h => ?_)
    · have w := w.1 h
      refine e_sub (lv' := [(0, .ref o), (2, .int x2), (3, .int x3), (5, .int x5)]) [0, 1, 2, 3] rfl ?_
      exact hk89 _ _ _ _ w
    · have w := w.2 h
      refine e_iload (n := 59) dX3_mayBe_57 rfl 3 rfl ?_
      refine e_if_eq (n := 62) (tgt := 80) dX3_mayBe_59 rfl (by decide) (fun h => ?_) (fun h => ?_)
      · have w := w.1 h
        refine e_sub (lv' := [(0, .ref o), (2, .int x2), (3, .int x3), (6, .int x6)]) [0, 1, 2, 4] rfl ?_
        exact hX3_mayBe_80 ok ih hk89 _ _ _ _ w
      · have w := w.2 h
        refine e_aload_n (n := 63) dX3_mayBe_62 rfl 0 rfl ?_
        refine e_aload_n (n := 64) dX3_mayBe_63 rfl 0 rfl ?_
        refine t_getR (n := 67) 15 rfl (by decide) q1349 dX3_mayBe_64 rfl ?_
        refine e_iload (n := 69) dX3_mayBe_67 rfl 4 rfl ?_
        obtain ⟨wi, w⟩ := w
        refine t_iald (n := 70) ok 15 rfl rfl (N := 11) rfl wi dX3_mayBe_69 rfl ?_
        refine t_callV (n := 73) (As := [.int (s.2.1 15 x6.toNatClampNeg)]) (st := []) okX3_isFenced q1597 q1599 qs36 q1600 rfl (by decide) (Nat.le_refl _) (Nat.le_refl _) rfl rfl rfl dX3_mayBe_70 rfl (ctX3_isFenced ok w) (fun r9 σ9 hk => ?_)
        obtain ⟨r_7, s_6, rfl, rfl, w⟩ := hk
        refine e_if_ne (n := 76) (tgt := 80) dX3_mayBe_73 rfl (by decide) (fun h => ?_) (fun h => ?_)
        · have w := w.2 h
          refine e_sub (lv' := [(0, .ref o), (2, .int x2), (3, .int x3), (6, .int x6)]) [0, 1, 2, 4] rfl ?_
          exact hX3_mayBe_80 ok ih hk89 _ _ _ _ w
        · have w := w.1 h
          refine e_iconst (n := 77) (v := 1) dX3_mayBe_76 rfl (by decide) ?_
          refine e_goto (n := 81) dX3_mayBe_77 (by decide) ?_
          refine e_sub (lv' := [(0, .ref o), (2, .int x2), (3, .int x3), (6, .int x6)]) [0, 1, 2, 4] rfl ?_
          exact hX3_mayBe_81 ok ih hk89 _ _ _ _ _ w
set_option maxHeartbeats 4000000 in
theorem hX3_mayBe_43 {o : Nat} {ad : Nat → Nat} (ok : t_ok o ad) {Q : Int32 → TS → Prop}  (x2 : Int32) (x3 : Int32) (s : TS) (w : wX3_mayBe_43 Q x2 x3 s) : E mX3_mayBe 2 0 0 (g_z (t_Ki o ad Q)) 0 0 43 [(0, .ref o), (2, .int x2), (3, .int x3)] [] (t_map o ad s) := by
  unfold wX3_mayBe_43 at w
  refine e_iconst (n := 44) (v := 1) dX3_mayBe_43 rfl (by decide) ?_
  refine e_istore (n := 46) (lv' := [(0, .ref o), (2, .int x2), (3, .int x3), (5, .int 1)]) [1, 2, 3, 0] dX3_mayBe_44 rfl rfl rfl ?_
  refine e_iload_n (n := 47) dX3_mayBe_46 rfl 1 rfl ?_
  refine e_istore (n := 49) (lv' := [(0, .ref o), (2, .int x2), (3, .int x3), (5, .int 1), (6, .int x2)]) [1, 2, 3, 4, 0] dX3_mayBe_47 rfl rfl rfl ?_
  obtain ⟨fu, w⟩ := w
  refine hX3_mayBe_49 ok (fun x2_1 x3_2 x5_3 s_4 w => ?_) fu _ _ _ _ _ w
  refine e_iload (n := 91) dX3_mayBe_89 rfl 3 rfl ?_
  refine e_if_eq (n := 94) (tgt := 124) dX3_mayBe_91 rfl (by decide) (fun h => ?_) (fun h => ?_)
  · have w := w.1 h
    refine e_iconst (n := 125) (v := 0) dX3_mayBe_124 rfl (by decide) ?_
    exact e_zret rfl rfl (Nat.le_refl _) (Nat.le_refl _) ⟨_, _, rfl, rfl, w⟩ dX3_mayBe_125
  · have w := w.2 h
    refine e_aload_n (n := 95) dX3_mayBe_94 rfl 0 rfl ?_
    refine t_getI (n := 98) 33 rfl rfl q1367 dX3_mayBe_95 rfl ?_
    refine e_iconst (n := 99) (v := 1) dX3_mayBe_98 rfl (by decide) ?_
    refine e_icmp_ne (n := 102) (tgt := 120) dX3_mayBe_99 rfl (by decide) (fun h => ?_) (fun h => ?_)
    · have w := w.2 h
      refine e_sub (lv' := []) [] rfl ?_
      exact hX3_mayBe_120 ok _ w
    · have w := w.1 h
      refine e_iload_n (n := 103) dX3_mayBe_102 rfl 1 rfl ?_
      refine e_aload_n (n := 104) dX3_mayBe_103 rfl 0 rfl ?_
      refine t_getI (n := 107) 18 rfl rfl q1352 dX3_mayBe_104 rfl ?_
      refine e_icmp_lt (n := 110) (tgt := 124) dX3_mayBe_107 rfl (by decide) (fun h => ?_) (fun h => ?_)
      · have w := w.1 h
        refine e_iconst (n := 125) (v := 0) dX3_mayBe_124 rfl (by decide) ?_
        exact e_zret rfl rfl (Nat.le_refl _) (Nat.le_refl _) ⟨_, _, rfl, rfl, w⟩ dX3_mayBe_125
      · have w := w.2 h
        refine e_iload_n (n := 111) dX3_mayBe_110 rfl 1 rfl ?_
        refine e_iload_n (n := 112) dX3_mayBe_111 rfl 2 rfl ?_
        refine e_iadd (n := 113) dX3_mayBe_112 rfl ?_
        refine e_aload_n (n := 114) dX3_mayBe_113 rfl 0 rfl ?_
        refine t_getI (n := 117) 19 rfl rfl q1353 dX3_mayBe_114 rfl ?_
        refine e_icmp_gt (n := 120) (tgt := 124) dX3_mayBe_117 rfl (by decide) (fun h => ?_) (fun h => ?_)
        · have w := w.1 h
          refine e_iconst (n := 125) (v := 0) dX3_mayBe_124 rfl (by decide) ?_
          exact e_zret rfl rfl (Nat.le_refl _) (Nat.le_refl _) ⟨_, _, rfl, rfl, w⟩ dX3_mayBe_125
        · have w := w.2 h
          refine e_sub (lv' := []) [] rfl ?_
          exact hX3_mayBe_120 ok _ w
set_option maxHeartbeats 4000000 in
theorem ctX3_mayBe {o : Nat} {ad : Nat → Nat} (ok : t_ok o ad) {Q : Int32 → TS → Prop} {x1 : Int32} {x2 : Int32} {x3 : Int32} {x4 : Int32} {s : TS} (w : wX3_mayBe Q x1 x2 x3 x4 s) : CT mX3_mayBe 2 0 0 [.ref o, .int x1, .int x2, .int x3, .int x4] (t_map o ad s) (t_Ki o ad Q) := by
  refine CT.of (lv := [(0, .ref o), (1, .int x1), (2, .int x2), (3, .int x3), (4, .int x4)]) okX3_mayBe.1 rfl rfl ?_
  unfold wX3_mayBe at w
  refine e_aload_n (n := 1) dX3_mayBe_0 rfl 0 rfl ?_
  refine t_getI (n := 4) 33 rfl rfl q1367 dX3_mayBe_1 rfl ?_
  refine e_iconst (n := 5) (v := 2) dX3_mayBe_4 rfl (by decide) ?_
  refine e_icmp_eq (n := 8) (tgt := 41) dX3_mayBe_5 rfl (by decide) (fun h => ?_) (fun h => ?_)
  · have w := w.1 h
    refine e_iconst (n := 42) (v := 0) dX3_mayBe_41 rfl (by decide) ?_
    exact e_zret rfl rfl (Nat.le_refl _) (Nat.le_refl _) ⟨_, _, rfl, rfl, w⟩ dX3_mayBe_42
  · have w := w.2 h
    refine e_aload_n (n := 9) dX3_mayBe_8 rfl 0 rfl ?_
    refine t_getI (n := 12) 33 rfl rfl q1367 dX3_mayBe_9 rfl ?_
    refine e_iconst (n := 13) (v := 4) dX3_mayBe_12 rfl (by decide) ?_
    refine e_icmp_eq (n := 16) (tgt := 41) dX3_mayBe_13 rfl (by decide) (fun h => ?_) (fun h => ?_)
    · have w := w.1 h
      refine e_iconst (n := 42) (v := 0) dX3_mayBe_41 rfl (by decide) ?_
      exact e_zret rfl rfl (Nat.le_refl _) (Nat.le_refl _) ⟨_, _, rfl, rfl, w⟩ dX3_mayBe_42
    · have w := w.2 h
      refine e_iload_n (n := 17) dX3_mayBe_16 rfl 1 rfl ?_
      refine e_aload_n (n := 18) dX3_mayBe_17 rfl 0 rfl ?_
      refine t_getI (n := 21) 35 rfl rfl q1369 dX3_mayBe_18 rfl ?_
      refine e_icmp_ne (n := 24) (tgt := 43) dX3_mayBe_21 rfl (by decide) (fun h => ?_) (fun h => ?_)
      · have w := w.2 h
        refine e_sub (lv' := [(0, .ref o), (2, .int x2), (3, .int x3)]) [0, 2, 3] rfl ?_
        exact hX3_mayBe_43 ok _ _ _ w
      · have w := w.1 h
        refine e_iload_n (n := 25) dX3_mayBe_24 rfl 2 rfl ?_
        refine e_aload_n (n := 26) dX3_mayBe_25 rfl 0 rfl ?_
        refine t_getI (n := 29) 36 rfl rfl q1370 dX3_mayBe_26 rfl ?_
        refine e_icmp_ne (n := 32) (tgt := 43) dX3_mayBe_29 rfl (by decide) (fun h => ?_) (fun h => ?_)
        · have w := w.2 h
          refine e_sub (lv' := [(0, .ref o), (2, .int x2), (3, .int x3)]) [0, 2, 3] rfl ?_
          exact hX3_mayBe_43 ok _ _ _ w
        · have w := w.1 h
          refine e_iload (n := 34) dX3_mayBe_32 rfl 4 rfl ?_
          refine e_aload_n (n := 35) dX3_mayBe_34 rfl 0 rfl ?_
          refine t_getI (n := 38) 37 rfl rfl q1371 dX3_mayBe_35 rfl ?_
          refine e_icmp_ne (n := 41) (tgt := 43) dX3_mayBe_38 rfl (by decide) (fun h => ?_) (fun h => ?_)
          · have w := w.2 h
            refine e_sub (lv' := [(0, .ref o), (2, .int x2), (3, .int x3)]) [0, 2, 3] rfl ?_
            exact hX3_mayBe_43 ok _ _ _ w
          · have w := w.1 h
            refine e_iconst (n := 42) (v := 0) dX3_mayBe_41 rfl (by decide) ?_
            exact e_zret rfl rfl (Nat.le_refl _) (Nat.le_refl _) ⟨_, _, rfl, rfl, w⟩ dX3_mayBe_42
abbrev mX3_skipPrice : gM := (yX3_skipPrice, cX3_skipPrice, 3, some .int)
theorem okX3_skipPrice : g_ok mX3_skipPrice 2 := ⟨by decide +kernel, by decide +kernel, by decide +kernel, by decide +kernel, by decide⟩
def wX3_skipPrice_25 (Q : Int32 → TS → Prop)  (t1 : Int32) (t2 : Int32) (t3 : Int32) (t4 : Int32) (x1 : Int32) (x2 : Int32) (s : TS) : Prop := wX3_mayBe (fun (r_2 : Int32) (s_1 : TS) => (r_2 = 0 → (Q 1000000000 s_1)) ∧ (¬ r_2 = 0 → ((x2 = 1 → (vp_in x1 11 ∧ (vp_in (12 + (s_1.2.1 15 x1.toNatClampNeg)) 36 ∧ (Q (s_1.2.1 2 (12 + (s_1.2.1 15 x1.toNatClampNeg)).toNatClampNeg) s_1)))) ∧ (¬ x2 = 1 → (Q ((s_1.1 4) + x2) s_1))))) t1 t2 t3 t4 s
def wX3_skipPrice_13 (Q : Int32 → TS → Prop)  (t1 : Int32) (x1 : Int32) (x2 : Int32) (s : TS) : Prop := (x2 = 1 → (wX3_skipPrice_25 Q t1 x1 x2 0 x1 x2 s)) ∧ (¬ x2 = 1 → (wX3_skipPrice_25 Q t1 x1 x2 x2 x1 x2 s))
def wX3_skipPrice (Q : Int32 → TS → Prop) (x1 : Int32) (x2 : Int32) (s : TS) : Prop := (x2 = 1 → (wX3_skipPrice_13 Q 6 x1 x2 s)) ∧ (¬ x2 = 1 → (wX3_skipPrice_13 Q 7 x1 x2 s))
set_option maxHeartbeats 4000000 in
theorem hX3_skipPrice_25 {o : Nat} {ad : Nat → Nat} (ok : t_ok o ad) {Q : Int32 → TS → Prop}  (t1 : Int32) (t2 : Int32) (t3 : Int32) (t4 : Int32) (x1 : Int32) (x2 : Int32) (s : TS) (w : wX3_skipPrice_25 Q t1 t2 t3 t4 x1 x2 s) : E mX3_skipPrice 3 0 0 (g_z (t_Ki o ad Q)) 0 0 25 [(0, .ref o), (1, .int x1), (2, .int x2)] [.int t4, .int t3, .int t2, .int t1, .ref o] (t_map o ad s) := by
  unfold wX3_skipPrice_25 at w
  refine t_callV (n := 28) (As := [.int t1, .int t2, .int t3, .int t4]) (st := []) okX3_mayBe q1593 q1595 qs35 q1596 rfl (by decide) (Nat.le_refl _) (Nat.le_refl _) rfl rfl rfl dX3_skipPrice_25 rfl (ctX3_mayBe ok w) (fun r9 σ9 hk => ?_)
  obtain ⟨r_2, s_1, rfl, rfl, w⟩ := hk
  refine e_if_ne (n := 31) (tgt := 34) dX3_skipPrice_28 rfl (by decide) (fun h => ?_) (fun h => ?_)
  · have w := w.2 h
    refine e_iload_n (n := 35) dX3_skipPrice_34 rfl 2 rfl ?_
    refine e_iconst (n := 36) (v := 1) dX3_skipPrice_35 rfl (by decide) ?_
    refine e_icmp_ne (n := 39) (tgt := 56) dX3_skipPrice_36 rfl (by decide) (fun h => ?_) (fun h => ?_)
    · have w := w.2 h
      refine e_aload_n (n := 57) dX3_skipPrice_56 rfl 0 rfl ?_
      refine t_getI (n := 60) 4 rfl rfl q1338 dX3_skipPrice_57 rfl ?_
      refine e_iload_n (n := 61) dX3_skipPrice_60 rfl 2 rfl ?_
      refine e_iadd (n := 62) dX3_skipPrice_61 rfl ?_
      exact e_iret rfl (Nat.le_refl _) (Nat.le_refl _) ⟨_, _, rfl, rfl, w⟩ dX3_skipPrice_62
    · have w := w.1 h
      refine e_aload_n (n := 40) dX3_skipPrice_39 rfl 0 rfl ?_
      refine t_getR (n := 43) 2 rfl (by decide) q1336 dX3_skipPrice_40 rfl ?_
      refine e_bipush (n := 45) (v := 12) dX3_skipPrice_43 rfl (by decide) ?_
      refine e_aload_n (n := 46) dX3_skipPrice_45 rfl 0 rfl ?_
      refine t_getR (n := 49) 15 rfl (by decide) q1349 dX3_skipPrice_46 rfl ?_
      refine e_iload_n (n := 50) dX3_skipPrice_49 rfl 1 rfl ?_
      obtain ⟨wi, w⟩ := w
      refine t_iald (n := 51) ok 15 rfl rfl (N := 11) rfl wi dX3_skipPrice_50 rfl ?_
      refine e_iadd (n := 52) dX3_skipPrice_51 rfl ?_
      obtain ⟨wi, w⟩ := w
      refine t_iald (n := 53) ok 2 rfl rfl (N := 36) rfl wi dX3_skipPrice_52 rfl ?_
      refine e_goto (n := 62) dX3_skipPrice_53 (by decide) ?_
      exact e_iret rfl (Nat.le_refl _) (Nat.le_refl _) ⟨_, _, rfl, rfl, w⟩ dX3_skipPrice_62
  · have w := w.1 h
    refine e_ldc (n := 33) q1588 dX3_skipPrice_31 rfl ?_
    exact e_iret rfl (Nat.le_refl _) (Nat.le_refl _) ⟨_, _, rfl, rfl, w⟩ dX3_skipPrice_33
set_option maxHeartbeats 4000000 in
theorem hX3_skipPrice_13 {o : Nat} {ad : Nat → Nat} (ok : t_ok o ad) {Q : Int32 → TS → Prop}  (t1 : Int32) (x1 : Int32) (x2 : Int32) (s : TS) (w : wX3_skipPrice_13 Q t1 x1 x2 s) : E mX3_skipPrice 3 0 0 (g_z (t_Ki o ad Q)) 0 0 13 [(0, .ref o), (1, .int x1), (2, .int x2)] [.int t1, .ref o] (t_map o ad s) := by
  unfold wX3_skipPrice_13 at w
  refine e_iload_n (n := 14) dX3_skipPrice_13 rfl 1 rfl ?_
  refine e_iload_n (n := 15) dX3_skipPrice_14 rfl 2 rfl ?_
  refine e_iload_n (n := 16) dX3_skipPrice_15 rfl 2 rfl ?_
  refine e_iconst (n := 17) (v := 1) dX3_skipPrice_16 rfl (by decide) ?_
  refine e_icmp_ne (n := 20) (tgt := 24) dX3_skipPrice_17 rfl (by decide) (fun h => ?_) (fun h => ?_)
  · have w := w.2 h
    refine e_iload_n (n := 25) dX3_skipPrice_24 rfl 2 rfl ?_
    exact hX3_skipPrice_25 ok _ _ _ _ _ _ _ w
  · have w := w.1 h
    refine e_iconst (n := 21) (v := 0) dX3_skipPrice_20 rfl (by decide) ?_
    refine e_goto (n := 25) dX3_skipPrice_21 (by decide) ?_
    exact hX3_skipPrice_25 ok _ _ _ _ _ _ _ w
set_option maxHeartbeats 4000000 in
theorem ctX3_skipPrice {o : Nat} {ad : Nat → Nat} (ok : t_ok o ad) {Q : Int32 → TS → Prop} {x1 : Int32} {x2 : Int32} {s : TS} (w : wX3_skipPrice Q x1 x2 s) : CT mX3_skipPrice 3 0 0 [.ref o, .int x1, .int x2] (t_map o ad s) (t_Ki o ad Q) := by
  refine CT.of (lv := [(0, .ref o), (1, .int x1), (2, .int x2)]) okX3_skipPrice.1 rfl rfl ?_
  unfold wX3_skipPrice at w
  refine e_aload_n (n := 1) dX3_skipPrice_0 rfl 0 rfl ?_
  refine e_iload_n (n := 2) dX3_skipPrice_1 rfl 2 rfl ?_
  refine e_iconst (n := 3) (v := 1) dX3_skipPrice_2 rfl (by decide) ?_
  refine e_icmp_ne (n := 6) (tgt := 11) dX3_skipPrice_3 rfl (by decide) (fun h => ?_) (fun h => ?_)
  · have w := w.2 h
    refine e_bipush (n := 13) (v := 7) dX3_skipPrice_11 rfl (by decide) ?_
    exact hX3_skipPrice_13 ok _ _ _ _ w
  · have w := w.1 h
    refine e_bipush (n := 8) (v := 6) dX3_skipPrice_6 rfl (by decide) ?_
    refine e_goto (n := 13) dX3_skipPrice_8 (by decide) ?_
    exact hX3_skipPrice_13 ok _ _ _ _ w
abbrev mX3_laySkips : gM := (yX3_laySkips, cX3_laySkips, 6, none)
theorem okX3_laySkips : g_ok mX3_laySkips 0 := ⟨by decide +kernel, by decide +kernel, by decide +kernel, by decide +kernel, by decide⟩
def wX3_laySkips_158 (Q : TS → Prop) (kh : Int32 → Int32 → Int32 → TS → Prop) (k164 : Int32 → Int32 → TS → Prop) (x1 : Int32) (x2 : Int32) (x3 : Int32) (s : TS) : Prop := ∀ x3_15 : Int32, x3_15 = x3 + 1 → (kh x1 x2 x3_15 s)
def wX3_laySkips_102 (Q : TS → Prop) (kh : Int32 → Int32 → Int32 → TS → Prop) (k164 : Int32 → Int32 → TS → Prop) (t0 : Int32) (x1 : Int32) (x2 : Int32) (x3 : Int32) (x4 : Int32) (s : TS) : Prop := (t0 = 1000000000 → (wX3_laySkips_158 Q kh k164 x1 x2 x3 s)) ∧ (¬ t0 = 1000000000 → (vp_in ((12 * x2) + x1) 144 ∧ ((s.2.1 38 ((12 * x2) + x1).toNatClampNeg ≤ t0 + x4 → (wX3_laySkips_158 Q kh k164 x1 x2 x3 s)) ∧ (¬ s.2.1 38 ((12 * x2) + x1).toNatClampNeg ≤ t0 + x4 → (vp_in ((12 * x2) + x1) 144 ∧ ∀ s_16 : TS, s_16 = tA s 38 ((12 * x2) + x1).toNatClampNeg (t0 + x4) → (vp_in ((12 * x2) + x1) 144 ∧ ∀ s_17 : TS, s_17 = tA s_16 39 ((12 * x2) + x1).toNatClampNeg x3 → (wX3_laySkips_158 Q kh k164 x1 x2 x3 s_17)))))))
def wX3_laySkips_62 (Q : TS → Prop) (k164 : Int32 → Int32 → TS → Prop) : Nat → Int32 → Int32 → Int32 → TS → Prop
  | 0 => fun _ _ _ _ => False
  | n + 1 => fun x1 x2 x3 s => (x1 < x2 + x3 → (k164 x1 x2 s)) ∧ (¬ x1 < x2 + x3 → (vp_in ((12 * (x2 + x3)) + x1) 144 ∧ (∀ x4_12 : Int32, x4_12 = s.2.1 38 ((12 * (x2 + x3)) + x1).toNatClampNeg → ((x4_12 = 1000000000 → (wX3_laySkips_102 Q (wX3_laySkips_62 Q k164 n) k164 1000000000 x1 x2 x3 x4_12 s)) ∧ (¬ x4_12 = 1000000000 → (wX3_skipPrice (fun (r_14 : Int32) (s_13 : TS) => wX3_laySkips_102 Q (wX3_laySkips_62 Q k164 n) k164 r_14 x1 x2 x3 x4_12 s_13) x2 x3 s))))))
def wX3_laySkips_56 (Q : TS → Prop) (k170 : Int32 → TS → Prop) : Nat → Int32 → Int32 → TS → Prop
  | 0 => fun _ _ _ => False
  | n + 1 => fun x1 x2 s => (x2 < 0 → (k170 x1 s)) ∧ (¬ x2 < 0 → (∃ fu : Nat, wX3_laySkips_62 Q (fun (x1_8 : Int32) (x2_9 : Int32) (s_10 : TS) => ∀ x2_11 : Int32, x2_11 = x2_9 + (-1) → (wX3_laySkips_56 Q k170 n x1_8 x2_11 s_10)) fu x1 x2 1 s))
def wX3_laySkips_32 (Q : TS → Prop) (k176 : TS → Prop) : Nat → Int32 → TS → Prop
  | 0 => fun _ _ => False
  | n + 1 => fun x1 s => (s.1 34 < x1 → (k176 s)) ∧ (¬ s.1 34 < x1 → (vp_in ((12 * x1) + x1) 144 ∧ ∀ s_3 : TS, s_3 = tA s 38 ((12 * x1) + x1).toNatClampNeg 0 → (∀ x2_4 : Int32, x2_4 = x1 - 1 → (∃ fu : Nat, wX3_laySkips_56 Q (fun (x1_5 : Int32) (s_6 : TS) => ∀ x1_7 : Int32, x1_7 = x1_5 + 1 → (wX3_laySkips_32 Q k176 n x1_7 s_6)) fu x1 x2_4 s_3))))
def wX3_laySkips_2 (Q : TS → Prop) (k30 : TS → Prop) : Nat → Int32 → TS → Prop
  | 0 => fun _ _ => False
  | n + 1 => fun x1 s => (144 ≤ x1 → (k30 s)) ∧ (¬ 144 ≤ x1 → (vp_in x1 144 ∧ ∀ s_18 : TS, s_18 = tA s 38 x1.toNatClampNeg 1000000000 → (vp_in x1 144 ∧ ∀ s_19 : TS, s_19 = tA s_18 39 x1.toNatClampNeg 0 → (∀ x1_20 : Int32, x1_20 = x1 + 1 → (wX3_laySkips_2 Q k30 n x1_20 s_19)))))
def wX3_laySkips (Q : TS → Prop)  (s : TS) : Prop := ∃ fu : Nat, wX3_laySkips_2 Q (fun  (s_1 : TS) => ∃ fu : Nat, wX3_laySkips_32 Q (fun  (s_2 : TS) => Q s_2) fu 0 s_1) fu 0 s
set_option maxHeartbeats 4000000 in
theorem hX3_laySkips_158 {o : Nat} {ad : Nat → Nat} (ok : t_ok o ad) {Q : TS → Prop} {kh : Int32 → Int32 → Int32 → TS → Prop} (hkh : ∀ (x1 : Int32) (x2 : Int32) (x3 : Int32) (s : TS), kh x1 x2 x3 s → E mX3_laySkips 4 0 0 (g_z (t_Kv o ad Q)) 0 0 62 [(0, .ref o), (1, .int x1), (2, .int x2), (3, .int x3)] [] (t_map o ad s)) {k164 : Int32 → Int32 → TS → Prop} (hk164 : ∀ (x1 : Int32) (x2 : Int32) (s : TS), k164 x1 x2 s → E mX3_laySkips 4 0 0 (g_z (t_Kv o ad Q)) 0 0 164 [(0, .ref o), (1, .int x1), (2, .int x2)] [] (t_map o ad s)) (x1 : Int32) (x2 : Int32) (x3 : Int32) (s : TS) (w : wX3_laySkips_158 Q kh k164 x1 x2 x3 s) : E mX3_laySkips 4 0 0 (g_z (t_Kv o ad Q)) 0 0 158 [(0, .ref o), (1, .int x1), (2, .int x2), (3, .int x3)] [] (t_map o ad s) := by
  unfold wX3_laySkips_158 at w
  obtain ⟨x3_15, hx3_15⟩ : ∃ y : Int32, y = x3 + 1 := ⟨_, rfl⟩
  have w := w x3_15 hx3_15
  refine e_iinc (n := 161) (v := x3_15) (lv' := [(0, .ref o), (1, .int x1), (2, .int x2), (3, .int x3_15)]) [1, 2, 3, 0] dX3_laySkips_158 rfl 3 rfl (by rw [hx3_15]; rfl) rfl rfl ?_
  refine e_goto (n := 62) dX3_laySkips_161 (by decide) ?_
  exact hkh _ _ _ _ w
set_option maxHeartbeats 4000000 in
theorem hX3_laySkips_102 {o : Nat} {ad : Nat → Nat} (ok : t_ok o ad) {Q : TS → Prop} {kh : Int32 → Int32 → Int32 → TS → Prop} (hkh : ∀ (x1 : Int32) (x2 : Int32) (x3 : Int32) (s : TS), kh x1 x2 x3 s → E mX3_laySkips 4 0 0 (g_z (t_Kv o ad Q)) 0 0 62 [(0, .ref o), (1, .int x1), (2, .int x2), (3, .int x3)] [] (t_map o ad s)) {k164 : Int32 → Int32 → TS → Prop} (hk164 : ∀ (x1 : Int32) (x2 : Int32) (s : TS), k164 x1 x2 s → E mX3_laySkips 4 0 0 (g_z (t_Kv o ad Q)) 0 0 164 [(0, .ref o), (1, .int x1), (2, .int x2)] [] (t_map o ad s)) (t0 : Int32) (x1 : Int32) (x2 : Int32) (x3 : Int32) (x4 : Int32) (s : TS) (w : wX3_laySkips_102 Q kh k164 t0 x1 x2 x3 x4 s) : E mX3_laySkips 4 0 0 (g_z (t_Kv o ad Q)) 0 0 102 [(0, .ref o), (1, .int x1), (2, .int x2), (3, .int x3), (4, .int x4)] [.int t0] (t_map o ad s) := by
  unfold wX3_laySkips_102 at w
  refine e_istore (n := 104) (lv' := [(0, .ref o), (1, .int x1), (2, .int x2), (3, .int x3), (4, .int x4), (5, .int t0)]) [1, 2, 3, 4, 5, 0] dX3_laySkips_102 rfl rfl rfl ?_
  refine e_iload (n := 106) dX3_laySkips_104 rfl 5 rfl ?_
  refine e_ldc (n := 108) q1588 dX3_laySkips_106 rfl ?_
  refine e_icmp_eq (n := 111) (tgt := 158) dX3_laySkips_108 rfl (by decide) (fun h => ?_) (fun h => ?_)
  · have w := w.1 h
    refine e_sub (lv' := [(0, .ref o), (1, .int x1), (2, .int x2), (3, .int x3)]) [0, 1, 2, 3] rfl ?_
    exact hX3_laySkips_158 ok hkh hk164 _ _ _ _ w
  · have w := w.2 h
    refine e_iload (n := 113) dX3_laySkips_111 rfl 5 rfl ?_
    refine e_iload (n := 115) dX3_laySkips_113 rfl 4 rfl ?_
    refine e_iadd (n := 116) dX3_laySkips_115 rfl ?_
    refine e_aload_n (n := 117) dX3_laySkips_116 rfl 0 rfl ?_
    refine t_getR (n := 120) 38 rfl (by decide) q1372 dX3_laySkips_117 rfl ?_
    refine e_bipush (n := 122) (v := 12) dX3_laySkips_120 rfl (by decide) ?_
    refine e_iload_n (n := 123) dX3_laySkips_122 rfl 2 rfl ?_
    refine e_imul (n := 124) dX3_laySkips_123 rfl ?_
    refine e_iload_n (n := 125) dX3_laySkips_124 rfl 1 rfl ?_
    refine e_iadd (n := 126) dX3_laySkips_125 rfl ?_
    obtain ⟨wi, w⟩ := w
    refine t_iald (n := 127) ok 38 rfl rfl (N := 144) rfl wi dX3_laySkips_126 rfl ?_
    refine e_icmp_ge (n := 130) (tgt := 158) dX3_laySkips_127 rfl (by decide) (fun h => ?_) (fun h => ?_)
    · have w := w.1 h
      refine e_sub (lv' := [(0, .ref o), (1, .int x1), (2, .int x2), (3, .int x3)]) [0, 1, 2, 3] rfl ?_
      exact hX3_laySkips_158 ok hkh hk164 _ _ _ _ w
    · have w := w.2 h
      refine e_aload_n (n := 131) dX3_laySkips_130 rfl 0 rfl ?_
      refine t_getR (n := 134) 38 rfl (by decide) q1372 dX3_laySkips_131 rfl ?_
      refine e_bipush (n := 136) (v := 12) dX3_laySkips_134 rfl (by decide) ?_
      refine e_iload_n (n := 137) dX3_laySkips_136 rfl 2 rfl ?_
      refine e_imul (n := 138) dX3_laySkips_137 rfl ?_
      refine e_iload_n (n := 139) dX3_laySkips_138 rfl 1 rfl ?_
      refine e_iadd (n := 140) dX3_laySkips_139 rfl ?_
      refine e_iload (n := 142) dX3_laySkips_140 rfl 5 rfl ?_
      refine e_iload (n := 144) dX3_laySkips_142 rfl 4 rfl ?_
      refine e_iadd (n := 145) dX3_laySkips_144 rfl ?_
      obtain ⟨wi, w⟩ := w
      refine t_iast (n := 146) ok 38 rfl rfl (N := 144) rfl wi dX3_laySkips_145 rfl (fun s_16 hs_16 => ?_)
      have w := w s_16 hs_16
      refine e_aload_n (n := 147) dX3_laySkips_146 rfl 0 rfl ?_
      refine t_getR (n := 150) 39 rfl (by decide) q1373 dX3_laySkips_147 rfl ?_
      refine e_bipush (n := 152) (v := 12) dX3_laySkips_150 rfl (by decide) ?_
      refine e_iload_n (n := 153) dX3_laySkips_152 rfl 2 rfl ?_
      refine e_imul (n := 154) dX3_laySkips_153 rfl ?_
      refine e_iload_n (n := 155) dX3_laySkips_154 rfl 1 rfl ?_
      refine e_iadd (n := 156) dX3_laySkips_155 rfl ?_
      refine e_iload_n (n := 157) dX3_laySkips_156 rfl 3 rfl ?_
      obtain ⟨wi, w⟩ := w
      refine t_iast (n := 158) ok 39 rfl rfl (N := 144) rfl wi dX3_laySkips_157 rfl (fun s_17 hs_17 => ?_)
      have w := w s_17 hs_17
      refine e_sub (lv' := [(0, .ref o), (1, .int x1), (2, .int x2), (3, .int x3)]) [0, 1, 2, 3] rfl ?_
      exact hX3_laySkips_158 ok hkh hk164 _ _ _ _ w
set_option maxHeartbeats 4000000 in
theorem hX3_laySkips_62 {o : Nat} {ad : Nat → Nat} (ok : t_ok o ad) {Q : TS → Prop} {k164 : Int32 → Int32 → TS → Prop} (hk164 : ∀ (x1 : Int32) (x2 : Int32) (s : TS), k164 x1 x2 s → E mX3_laySkips 4 0 0 (g_z (t_Kv o ad Q)) 0 0 164 [(0, .ref o), (1, .int x1), (2, .int x2)] [] (t_map o ad s)) : ∀ (n : Nat) (x1 : Int32) (x2 : Int32) (x3 : Int32) (s : TS), wX3_laySkips_62 Q k164 n x1 x2 x3 s → E mX3_laySkips 4 0 0 (g_z (t_Kv o ad Q)) 0 0 62 [(0, .ref o), (1, .int x1), (2, .int x2), (3, .int x3)] [] (t_map o ad s) := by
  intro n
  induction n with
  | zero =>
    intro _ _ _ _ w
    exact w.elim
  | succ n ih =>
    intro x1 x2 x3 s w
    unfold wX3_laySkips_62 at w
    refine e_iload_n (n := 63) dX3_laySkips_62 rfl 2 rfl ?_
    refine e_iload_n (n := 64) dX3_laySkips_63 rfl 3 rfl ?_
    refine e_iadd (n := 65) dX3_laySkips_64 rfl ?_
    refine e_iload_n (n := 66) dX3_laySkips_65 rfl 1 rfl ?_
    refine e_icmp_gt (n := 69) (tgt := 164) dX3_laySkips_66 rfl (by decide) (fun h => ?_) (fun h => ?_)
    · have w := w.1 h
      refine e_sub (lv' := [(0, .ref o), (1, .int x1), (2, .int x2)]) [0, 1, 2] rfl ?_
      exact hk164 _ _ _ w
    · have w := w.2 h
      refine e_aload_n (n := 70) dX3_laySkips_69 rfl 0 rfl ?_
      refine t_getR (n := 73) 38 rfl (by decide) q1372 dX3_laySkips_70 rfl ?_
      refine e_bipush (n := 75) (v := 12) dX3_laySkips_73 rfl (by decide) ?_
      refine e_iload_n (n := 76) dX3_laySkips_75 rfl 2 rfl ?_
      refine e_iload_n (n := 77) dX3_laySkips_76 rfl 3 rfl ?_
      refine e_iadd (n := 78) dX3_laySkips_77 rfl ?_
      refine e_imul (n := 79) dX3_laySkips_78 rfl ?_
      refine e_iload_n (n := 80) dX3_laySkips_79 rfl 1 rfl ?_
      refine e_iadd (n := 81) dX3_laySkips_80 rfl ?_
      obtain ⟨wi, w⟩ := w
      refine t_iald (n := 82) ok 38 rfl rfl (N := 144) rfl wi dX3_laySkips_81 rfl ?_
      refine e_topi (fun x4_12 hx4_12 => ?_)
      have w := w x4_12 hx4_12
      refine e_istore (n := 84) (lv' := [(0, .ref o), (1, .int x1), (2, .int x2), (3, .int x3), (4, .int x4_12)]) [1, 2, 3, 4, 0] dX3_laySkips_82 rfl rfl rfl ?_
      refine e_iload (n := 86) dX3_laySkips_84 rfl 4 rfl ?_
      refine e_ldc (n := 88) q1588 dX3_laySkips_86 rfl ?_
      refine e_icmp_ne (n := 91) (tgt := 96) dX3_laySkips_88 rfl (by decide) (fun h => ?_) (fun h => ?_)
      · have w := w.2 h
        refine e_aload_n (n := 97) dX3_laySkips_96 rfl 0 rfl ?_
        refine e_iload_n (n := 98) dX3_laySkips_97 rfl 2 rfl ?_
        refine e_iload_n (n := 99) dX3_laySkips_98 rfl 3 rfl ?_
        refine t_callV (n := 102) (As := [.int x2, .int x3]) (st := []) okX3_skipPrice q1589 q1591 qs34 q1592 rfl (by decide) (Nat.le_refl _) (Nat.le_refl _) rfl rfl rfl dX3_laySkips_99 rfl (ctX3_skipPrice ok w) (fun r9 σ9 hk => ?_)
        obtain ⟨r_14, s_13, rfl, rfl, w⟩ := hk
        exact hX3_laySkips_102 ok ih hk164 _ _ _ _ _ _ w
      · have w := w.1 h
        refine e_ldc (n := 93) q1588 dX3_laySkips_91 rfl ?_
        refine e_goto (n := 102) dX3_laySkips_93 (by decide) ?_
        exact hX3_laySkips_102 ok ih hk164 _ _ _ _ _ _ w
set_option maxHeartbeats 4000000 in
theorem hX3_laySkips_56 {o : Nat} {ad : Nat → Nat} (ok : t_ok o ad) {Q : TS → Prop} {k170 : Int32 → TS → Prop} (hk170 : ∀ (x1 : Int32) (s : TS), k170 x1 s → E mX3_laySkips 4 0 0 (g_z (t_Kv o ad Q)) 0 0 170 [(0, .ref o), (1, .int x1)] [] (t_map o ad s)) : ∀ (n : Nat) (x1 : Int32) (x2 : Int32) (s : TS), wX3_laySkips_56 Q k170 n x1 x2 s → E mX3_laySkips 4 0 0 (g_z (t_Kv o ad Q)) 0 0 56 [(0, .ref o), (1, .int x1), (2, .int x2)] [] (t_map o ad s) := by
  intro n
  induction n with
  | zero =>
    intro _ _ _ w
    exact w.elim
  | succ n ih =>
    intro x1 x2 s w
    unfold wX3_laySkips_56 at w
    refine e_iload_n (n := 57) dX3_laySkips_56 rfl 2 rfl ?_
    refine e_if_lt (n := 60) (tgt := 170) dX3_laySkips_57 rfl (by decide) (fun h => ?_) (fun h => ?_)
    · have w := w.1 h
      refine e_sub (lv' := [(0, .ref o), (1, .int x1)]) [0, 1] rfl ?_
      exact hk170 _ _ w
    · have w := w.2 h
      refine e_iconst (n := 61) (v := 1) dX3_laySkips_60 rfl (by decide) ?_
      refine e_istore_n (n := 62) (lv' := [(0, .ref o), (1, .int x1), (2, .int x2), (3, .int 1)]) [1, 2, 3, 0] dX3_laySkips_61 rfl rfl rfl ?_
      obtain ⟨fu, w⟩ := w
      refine hX3_laySkips_62 ok (fun x1_8 x2_9 s_10 w => ?_) fu _ _ _ _ w
      obtain ⟨x2_11, hx2_11⟩ : ∃ y : Int32, y = x2_9 + (-1) := ⟨_, rfl⟩
      have w := w x2_11 hx2_11
      refine e_iinc (n := 167) (v := x2_11) (lv' := [(0, .ref o), (1, .int x1_8), (2, .int x2_11)]) [1, 2, 0] dX3_laySkips_164 rfl 2 rfl (by rw [hx2_11]; rfl) rfl rfl ?_
      refine e_goto (n := 56) dX3_laySkips_167 (by decide) ?_
      exact ih _ _ _ w
set_option maxHeartbeats 4000000 in
theorem hX3_laySkips_32 {o : Nat} {ad : Nat → Nat} (ok : t_ok o ad) {Q : TS → Prop} {k176 : TS → Prop} (hk176 : ∀  (s : TS), k176 s → E mX3_laySkips 4 0 0 (g_z (t_Kv o ad Q)) 0 0 176 [] [] (t_map o ad s)) : ∀ (n : Nat) (x1 : Int32) (s : TS), wX3_laySkips_32 Q k176 n x1 s → E mX3_laySkips 4 0 0 (g_z (t_Kv o ad Q)) 0 0 32 [(0, .ref o), (1, .int x1)] [] (t_map o ad s) := by
  intro n
  induction n with
  | zero =>
    intro _ _ w
    exact w.elim
  | succ n ih =>
    intro x1 s w
    unfold wX3_laySkips_32 at w
    refine e_iload_n (n := 33) dX3_laySkips_32 rfl 1 rfl ?_
    refine e_aload_n (n := 34) dX3_laySkips_33 rfl 0 rfl ?_
    refine t_getI (n := 37) 34 rfl rfl q1368 dX3_laySkips_34 rfl ?_
    refine e_icmp_gt (n := 40) (tgt := 176) dX3_laySkips_37 rfl (by decide) (fun h => ?_) (fun h => ?_)
    · have w := w.1 h
      refine e_sub (lv' := []) [] rfl ?_
      exact hk176 _ w
    · have w := w.2 h
      refine e_aload_n (n := 41) dX3_laySkips_40 rfl 0 rfl ?_
      refine t_getR (n := 44) 38 rfl (by decide) q1372 dX3_laySkips_41 rfl ?_
      refine e_bipush (n := 46) (v := 12) dX3_laySkips_44 rfl (by decide) ?_
      refine e_iload_n (n := 47) dX3_laySkips_46 rfl 1 rfl ?_
      refine e_imul (n := 48) dX3_laySkips_47 rfl ?_
      refine e_iload_n (n := 49) dX3_laySkips_48 rfl 1 rfl ?_
      refine e_iadd (n := 50) dX3_laySkips_49 rfl ?_
      refine e_iconst (n := 51) (v := 0) dX3_laySkips_50 rfl (by decide) ?_
      obtain ⟨wi, w⟩ := w
      refine t_iast (n := 52) ok 38 rfl rfl (N := 144) rfl wi dX3_laySkips_51 rfl (fun s_3 hs_3 => ?_)
      have w := w s_3 hs_3
      refine e_iload_n (n := 53) dX3_laySkips_52 rfl 1 rfl ?_
      refine e_iconst (n := 54) (v := 1) dX3_laySkips_53 rfl (by decide) ?_
      refine e_isub (n := 55) dX3_laySkips_54 rfl ?_
      refine e_topi (fun x2_4 hx2_4 => ?_)
      have w := w x2_4 hx2_4
      refine e_istore_n (n := 56) (lv' := [(0, .ref o), (1, .int x1), (2, .int x2_4)]) [1, 2, 0] dX3_laySkips_55 rfl rfl rfl ?_
      obtain ⟨fu, w⟩ := w
      refine hX3_laySkips_56 ok (fun x1_5 s_6 w => ?_) fu _ _ _ w
      obtain ⟨x1_7, hx1_7⟩ : ∃ y : Int32, y = x1_5 + 1 := ⟨_, rfl⟩
      have w := w x1_7 hx1_7
      refine e_iinc (n := 173) (v := x1_7) (lv' := [(0, .ref o), (1, .int x1_7)]) [1, 0] dX3_laySkips_170 rfl 1 rfl (by rw [hx1_7]; rfl) rfl rfl ?_
      refine e_goto (n := 32) dX3_laySkips_173 (by decide) ?_
      exact ih _ _ w
set_option maxHeartbeats 4000000 in
theorem hX3_laySkips_2 {o : Nat} {ad : Nat → Nat} (ok : t_ok o ad) {Q : TS → Prop} {k30 : TS → Prop} (hk30 : ∀  (s : TS), k30 s → E mX3_laySkips 4 0 0 (g_z (t_Kv o ad Q)) 0 0 30 [(0, .ref o)] [] (t_map o ad s)) : ∀ (n : Nat) (x1 : Int32) (s : TS), wX3_laySkips_2 Q k30 n x1 s → E mX3_laySkips 4 0 0 (g_z (t_Kv o ad Q)) 0 0 2 [(0, .ref o), (1, .int x1)] [] (t_map o ad s) := by
  intro n
  induction n with
  | zero =>
    intro _ _ w
    exact w.elim
  | succ n ih =>
    intro x1 s w
    unfold wX3_laySkips_2 at w
    refine e_iload_n (n := 3) dX3_laySkips_2 rfl 1 rfl ?_
    refine e_sipush (n := 6) (v := 144) dX3_laySkips_3 rfl (by decide) ?_
    refine e_icmp_ge (n := 9) (tgt := 30) dX3_laySkips_6 rfl (by decide) (fun h => ?_) (fun h => ?_)
    · have w := w.1 h
      refine e_sub (lv' := [(0, .ref o)]) [0] rfl ?_
      exact hk30 _ w
    · have w := w.2 h
      refine e_aload_n (n := 10) dX3_laySkips_9 rfl 0 rfl ?_
      refine t_getR (n := 13) 38 rfl (by decide) q1372 dX3_laySkips_10 rfl ?_
      refine e_iload_n (n := 14) dX3_laySkips_13 rfl 1 rfl ?_
      refine e_ldc (n := 16) q1588 dX3_laySkips_14 rfl ?_
      obtain ⟨wi, w⟩ := w
      refine t_iast (n := 17) ok 38 rfl rfl (N := 144) rfl wi dX3_laySkips_16 rfl (fun s_18 hs_18 => ?_)
      have w := w s_18 hs_18
      refine e_aload_n (n := 18) dX3_laySkips_17 rfl 0 rfl ?_
      refine t_getR (n := 21) 39 rfl (by decide) q1373 dX3_laySkips_18 rfl ?_
      refine e_iload_n (n := 22) dX3_laySkips_21 rfl 1 rfl ?_
      refine e_iconst (n := 23) (v := 0) dX3_laySkips_22 rfl (by decide) ?_
      obtain ⟨wi, w⟩ := w
      refine t_iast (n := 24) ok 39 rfl rfl (N := 144) rfl wi dX3_laySkips_23 rfl (fun s_19 hs_19 => ?_)
      have w := w s_19 hs_19
      obtain ⟨x1_20, hx1_20⟩ : ∃ y : Int32, y = x1 + 1 := ⟨_, rfl⟩
      have w := w x1_20 hx1_20
      refine e_iinc (n := 27) (v := x1_20) (lv' := [(0, .ref o), (1, .int x1_20)]) [1, 0] dX3_laySkips_24 rfl 1 rfl (by rw [hx1_20]; rfl) rfl rfl ?_
      refine e_goto (n := 2) dX3_laySkips_27 (by decide) ?_
      exact ih _ _ w
set_option maxHeartbeats 4000000 in
theorem ctX3_laySkips {o : Nat} {ad : Nat → Nat} (ok : t_ok o ad) {Q : TS → Prop}  {s : TS} (w : wX3_laySkips Q  s) : CT mX3_laySkips 4 0 0 [.ref o] (t_map o ad s) (t_Kv o ad Q) := by
  refine CT.of (lv := [(0, .ref o)]) okX3_laySkips.1 rfl rfl ?_
  unfold wX3_laySkips at w
  refine e_iconst (n := 1) (v := 0) dX3_laySkips_0 rfl (by decide) ?_
  refine e_istore_n (n := 2) (lv' := [(0, .ref o), (1, .int 0)]) [1, 0] dX3_laySkips_1 rfl rfl rfl ?_
  obtain ⟨fu, w⟩ := w
  refine hX3_laySkips_2 ok (fun s_1 w => ?_) fu _ _ w
  refine e_iconst (n := 31) (v := 0) dX3_laySkips_30 rfl (by decide) ?_
  refine e_istore_n (n := 32) (lv' := [(0, .ref o), (1, .int 0)]) [1, 0] dX3_laySkips_31 rfl rfl rfl ?_
  obtain ⟨fu, w⟩ := w
  refine hX3_laySkips_32 ok (fun s_2 w => ?_) fu _ _ w
  exact e_vret rfl (Nat.le_refl _) (Nat.le_refl _) ⟨_, rfl, rfl, w⟩ dX3_laySkips_176
abbrev mX3_lostPrice : gM := (yX3_lostPrice, cX3_lostPrice, 4, some .int)
theorem okX3_lostPrice : g_ok mX3_lostPrice 2 := ⟨by decide +kernel, by decide +kernel, by decide +kernel, by decide +kernel, by decide⟩
def wX3_lostPrice_119 (Q : Int32 → TS → Prop)  (t0 : Int32) (x2 : Int32) (s : TS) : Prop := (t0 = 0 → (Q 1000000000 s)) ∧ (¬ t0 = 0 → (vp_in x2 36 ∧ (Q (s.2.1 2 x2.toNatClampNeg) s)))
def wX3_lostPrice_118 (Q : Int32 → TS → Prop)  (x2 : Int32) (s : TS) : Prop := wX3_lostPrice_119 Q 0 x2 s
def wX3_lostPrice_114 (Q : Int32 → TS → Prop)  (x2 : Int32) (s : TS) : Prop := wX3_lostPrice_119 Q 1 x2 s
def wX3_lostPrice_90 (Q : Int32 → TS → Prop)  (x1 : Int32) (x2 : Int32) (s : TS) : Prop := (s.1 35 = 1 → ((s.1 36 = x1 → ((s.1 37 = x2 → (wX3_lostPrice_118 Q x2 s)) ∧ (¬ s.1 37 = x2 → (wX3_lostPrice_114 Q x2 s)))) ∧ (¬ s.1 36 = x1 → (wX3_lostPrice_114 Q x2 s)))) ∧ (¬ s.1 35 = 1 → (wX3_lostPrice_114 Q x2 s))
def wX3_lostPrice_51 (Q : Int32 → TS → Prop)  (t0 : Int32) (x1 : Int32) (x2 : Int32) (s : TS) : Prop := (t0 = 0 → (wX3_lostPrice_118 Q x2 s)) ∧ (¬ t0 = 0 → (wX3_isFenced (fun (r_2 : Int32) (s_1 : TS) => (r_2 = 0 → ((s_1.1 33 = 1 → (wX3_in (fun (r_3 : Int32) => (r_3 = 0 → (wX3_lostPrice_118 Q x2 s_1)) ∧ (¬ r_3 = 0 → (wX3_lostPrice_90 Q x1 x2 s_1))) (x1.toInt64) ((s_1.1 18).toInt64) ((s_1.1 19).toInt64))) ∧ (¬ s_1.1 33 = 1 → (wX3_lostPrice_90 Q x1 x2 s_1)))) ∧ (¬ r_2 = 0 → (wX3_lostPrice_118 Q x2 s_1))) x2 s))
def wX3_lostPrice_46 (Q : Int32 → TS → Prop)  (x1 : Int32) (x2 : Int32) (s : TS) : Prop := wX3_lostPrice_51 Q 1 x1 x2 s
def wX3_lostPrice_30 (Q : Int32 → TS → Prop)  (x1 : Int32) (x2 : Int32) (s : TS) : Prop := (s.1 33 < 2 → (wX3_lostPrice_46 Q x1 x2 s)) ∧ (¬ s.1 33 < 2 → ((s.1 33 = 3 → (wX3_lostPrice_46 Q x1 x2 s)) ∧ (¬ s.1 33 = 3 → (wX3_lostPrice_51 Q 0 x1 x2 s))))
def wX3_lostPrice (Q : Int32 → TS → Prop) (x1 : Int32) (x2 : Int32) (s : TS) : Prop := (x1 = s.1 34 → ((s.1 33 ≤ 1 → (wX3_lostPrice_30 Q x1 x2 s)) ∧ (¬ s.1 33 ≤ 1 → ((s.1 33 = 2 → (Q 1 s)) ∧ (¬ s.1 33 = 2 → (Q 0 s)))))) ∧ (¬ x1 = s.1 34 → (wX3_lostPrice_30 Q x1 x2 s))
set_option maxHeartbeats 4000000 in
theorem hX3_lostPrice_119 {o : Nat} {ad : Nat → Nat} (ok : t_ok o ad) {Q : Int32 → TS → Prop}  (t0 : Int32) (x2 : Int32) (s : TS) (w : wX3_lostPrice_119 Q t0 x2 s) : E mX3_lostPrice 2 0 0 (g_z (t_Ki o ad Q)) 0 0 119 [(0, .ref o), (2, .int x2)] [.int t0] (t_map o ad s) := by
  unfold wX3_lostPrice_119 at w
  refine e_istore_n (n := 120) (lv' := [(0, .ref o), (2, .int x2), (3, .int t0)]) [1, 2, 0] dX3_lostPrice_119 rfl rfl rfl ?_
  refine e_iload_n (n := 121) dX3_lostPrice_120 rfl 2 rfl ?_
  refine e_if_eq (n := 124) (tgt := 133) dX3_lostPrice_121 rfl (by decide) (fun h => ?_) (fun h => ?_)
  · have w := w.1 h
    refine e_ldc (n := 135) q1588 dX3_lostPrice_133 rfl ?_
    exact e_iret rfl (Nat.le_refl _) (Nat.le_refl _) ⟨_, _, rfl, rfl, w⟩ dX3_lostPrice_135
  · have w := w.2 h
    refine e_aload_n (n := 125) dX3_lostPrice_124 rfl 0 rfl ?_
    refine t_getR (n := 128) 2 rfl (by decide) q1336 dX3_lostPrice_125 rfl ?_
    refine e_iload_n (n := 129) dX3_lostPrice_128 rfl 1 rfl ?_
    obtain ⟨wi, w⟩ := w
    refine t_iald (n := 130) ok 2 rfl rfl (N := 36) rfl wi dX3_lostPrice_129 rfl ?_
    refine e_goto (n := 135) dX3_lostPrice_130 (by decide) ?_
    exact e_iret rfl (Nat.le_refl _) (Nat.le_refl _) ⟨_, _, rfl, rfl, w⟩ dX3_lostPrice_135
set_option maxHeartbeats 4000000 in
theorem hX3_lostPrice_118 {o : Nat} {ad : Nat → Nat} (ok : t_ok o ad) {Q : Int32 → TS → Prop}  (x2 : Int32) (s : TS) (w : wX3_lostPrice_118 Q x2 s) : E mX3_lostPrice 2 0 0 (g_z (t_Ki o ad Q)) 0 0 118 [(0, .ref o), (2, .int x2)] [] (t_map o ad s) := by
  unfold wX3_lostPrice_118 at w
  refine e_iconst (n := 119) (v := 0) dX3_lostPrice_118 rfl (by decide) ?_
  exact hX3_lostPrice_119 ok _ _ _ w
set_option maxHeartbeats 4000000 in
theorem hX3_lostPrice_114 {o : Nat} {ad : Nat → Nat} (ok : t_ok o ad) {Q : Int32 → TS → Prop}  (x2 : Int32) (s : TS) (w : wX3_lostPrice_114 Q x2 s) : E mX3_lostPrice 2 0 0 (g_z (t_Ki o ad Q)) 0 0 114 [(0, .ref o), (2, .int x2)] [] (t_map o ad s) := by
  unfold wX3_lostPrice_114 at w
  refine e_iconst (n := 115) (v := 1) dX3_lostPrice_114 rfl (by decide) ?_
  refine e_goto (n := 119) dX3_lostPrice_115 (by decide) ?_
  exact hX3_lostPrice_119 ok _ _ _ w
set_option maxHeartbeats 4000000 in
theorem hX3_lostPrice_90 {o : Nat} {ad : Nat → Nat} (ok : t_ok o ad) {Q : Int32 → TS → Prop}  (x1 : Int32) (x2 : Int32) (s : TS) (w : wX3_lostPrice_90 Q x1 x2 s) : E mX3_lostPrice 2 0 0 (g_z (t_Ki o ad Q)) 0 0 90 [(0, .ref o), (1, .int x1), (2, .int x2)] [] (t_map o ad s) := by
  unfold wX3_lostPrice_90 at w
  refine e_aload_n (n := 91) dX3_lostPrice_90 rfl 0 rfl ?_
  refine t_getI (n := 94) 35 rfl rfl q1369 dX3_lostPrice_91 rfl ?_
  refine e_iconst (n := 95) (v := 1) dX3_lostPrice_94 rfl (by decide) ?_
  refine e_icmp_ne (n := 98) (tgt := 114) dX3_lostPrice_95 rfl (by decide) (fun h => ?_) (fun h => ?_)
  · have w := w.2 h
    refine e_sub (lv' := [(0, .ref o), (2, .int x2)]) [0, 2] rfl ?_
    exact hX3_lostPrice_114 ok _ _ w
  · have w := w.1 h
    refine e_aload_n (n := 99) dX3_lostPrice_98 rfl 0 rfl ?_
    refine t_getI (n := 102) 36 rfl rfl q1370 dX3_lostPrice_99 rfl ?_
    refine e_iload_n (n := 103) dX3_lostPrice_102 rfl 1 rfl ?_
    refine e_icmp_ne (n := 106) (tgt := 114) dX3_lostPrice_103 rfl (by decide) (fun h => ?_) (fun h => ?_)
    · have w := w.2 h
      refine e_sub (lv' := [(0, .ref o), (2, .int x2)]) [0, 2] rfl ?_
      exact hX3_lostPrice_114 ok _ _ w
    · have w := w.1 h
      refine e_aload_n (n := 107) dX3_lostPrice_106 rfl 0 rfl ?_
      refine t_getI (n := 110) 37 rfl rfl q1371 dX3_lostPrice_107 rfl ?_
      refine e_iload_n (n := 111) dX3_lostPrice_110 rfl 2 rfl ?_
      refine e_icmp_eq (n := 114) (tgt := 118) dX3_lostPrice_111 rfl (by decide) (fun h => ?_) (fun h => ?_)
      · have w := w.1 h
        refine e_sub (lv' := [(0, .ref o), (2, .int x2)]) [0, 2] rfl ?_
        exact hX3_lostPrice_118 ok _ _ w
      · have w := w.2 h
        refine e_sub (lv' := [(0, .ref o), (2, .int x2)]) [0, 2] rfl ?_
        exact hX3_lostPrice_114 ok _ _ w
set_option maxHeartbeats 4000000 in
theorem hX3_lostPrice_51 {o : Nat} {ad : Nat → Nat} (ok : t_ok o ad) {Q : Int32 → TS → Prop}  (t0 : Int32) (x1 : Int32) (x2 : Int32) (s : TS) (w : wX3_lostPrice_51 Q t0 x1 x2 s) : E mX3_lostPrice 2 0 0 (g_z (t_Ki o ad Q)) 0 0 51 [(0, .ref o), (1, .int x1), (2, .int x2)] [.int t0] (t_map o ad s) := by
  unfold wX3_lostPrice_51 at w
  refine e_istore_n (n := 52) (lv' := [(0, .ref o), (1, .int x1), (2, .int x2), (3, .int t0)]) [1, 2, 3, 0] dX3_lostPrice_51 rfl rfl rfl ?_
  refine e_iload_n (n := 53) dX3_lostPrice_52 rfl 3 rfl ?_
  refine e_if_eq (n := 56) (tgt := 118) dX3_lostPrice_53 rfl (by decide) (fun h => ?_) (fun h => ?_)
  · have w := w.1 h
    refine e_sub (lv' := [(0, .ref o), (2, .int x2)]) [0, 2] rfl ?_
    exact hX3_lostPrice_118 ok _ _ w
  · have w := w.2 h
    refine e_aload_n (n := 57) dX3_lostPrice_56 rfl 0 rfl ?_
    refine e_iload_n (n := 58) dX3_lostPrice_57 rfl 2 rfl ?_
    refine t_callV (n := 61) (As := [.int x2]) (st := []) okX3_isFenced q1597 q1599 qs36 q1600 rfl (by decide) (Nat.le_refl _) (Nat.le_refl _) rfl rfl rfl dX3_lostPrice_58 rfl (ctX3_isFenced ok w) (fun r9 σ9 hk => ?_)
    obtain ⟨r_2, s_1, rfl, rfl, w⟩ := hk
    refine e_if_ne (n := 64) (tgt := 118) dX3_lostPrice_61 rfl (by decide) (fun h => ?_) (fun h => ?_)
    · have w := w.2 h
      refine e_sub (lv' := [(0, .ref o), (2, .int x2)]) [0, 2] rfl ?_
      exact hX3_lostPrice_118 ok _ _ w
    · have w := w.1 h
      refine e_aload_n (n := 65) dX3_lostPrice_64 rfl 0 rfl ?_
      refine t_getI (n := 68) 33 rfl rfl q1367 dX3_lostPrice_65 rfl ?_
      refine e_iconst (n := 69) (v := 1) dX3_lostPrice_68 rfl (by decide) ?_
      refine e_icmp_ne (n := 72) (tgt := 90) dX3_lostPrice_69 rfl (by decide) (fun h => ?_) (fun h => ?_)
      · have w := w.2 h
        refine e_sub (lv' := [(0, .ref o), (1, .int x1), (2, .int x2)]) [0, 1, 2] rfl ?_
        exact hX3_lostPrice_90 ok _ _ _ w
      · have w := w.1 h
        refine e_iload_n (n := 73) dX3_lostPrice_72 rfl 1 rfl ?_
        refine e_i2l (n := 74) dX3_lostPrice_73 rfl ?_
        refine e_aload_n (n := 75) dX3_lostPrice_74 rfl 0 rfl ?_
        refine t_getI (n := 78) 18 rfl rfl q1352 dX3_lostPrice_75 rfl ?_
        refine e_i2l (n := 79) dX3_lostPrice_78 rfl ?_
        refine e_aload_n (n := 80) dX3_lostPrice_79 rfl 0 rfl ?_
        refine t_getI (n := 83) 19 rfl rfl q1353 dX3_lostPrice_80 rfl ?_
        refine e_i2l (n := 84) dX3_lostPrice_83 rfl ?_
        refine t_callS (n := 87) (As := [.long (x1.toInt64), .long ((s_1.1 18).toInt64), .long ((s_1.1 19).toInt64)]) (st := []) okX3_in q1519 q1520 q63 q1521 (by decide) (Nat.le_refl _) (Nat.le_refl _) rfl rfl rfl dX3_lostPrice_84 rfl (ctX3_in w) (fun r9 σ9 hk => ?_)
        obtain ⟨r_3, rfl, rfl, w⟩ := hk
        refine e_if_eq (n := 90) (tgt := 118) dX3_lostPrice_87 rfl (by decide) (fun h => ?_) (fun h => ?_)
        · have w := w.1 h
          refine e_sub (lv' := [(0, .ref o), (2, .int x2)]) [0, 2] rfl ?_
          exact hX3_lostPrice_118 ok _ _ w
        · have w := w.2 h
          refine e_sub (lv' := [(0, .ref o), (1, .int x1), (2, .int x2)]) [0, 1, 2] rfl ?_
          exact hX3_lostPrice_90 ok _ _ _ w
set_option maxHeartbeats 4000000 in
theorem hX3_lostPrice_46 {o : Nat} {ad : Nat → Nat} (ok : t_ok o ad) {Q : Int32 → TS → Prop}  (x1 : Int32) (x2 : Int32) (s : TS) (w : wX3_lostPrice_46 Q x1 x2 s) : E mX3_lostPrice 2 0 0 (g_z (t_Ki o ad Q)) 0 0 46 [(0, .ref o), (1, .int x1), (2, .int x2)] [] (t_map o ad s) := by
  unfold wX3_lostPrice_46 at w
  refine e_iconst (n := 47) (v := 1) dX3_lostPrice_46 rfl (by decide) ?_
  refine e_goto (n := 51) dX3_lostPrice_47 (by decide) ?_
  exact hX3_lostPrice_51 ok _ _ _ _ w
set_option maxHeartbeats 4000000 in
theorem hX3_lostPrice_30 {o : Nat} {ad : Nat → Nat} (ok : t_ok o ad) {Q : Int32 → TS → Prop}  (x1 : Int32) (x2 : Int32) (s : TS) (w : wX3_lostPrice_30 Q x1 x2 s) : E mX3_lostPrice 2 0 0 (g_z (t_Ki o ad Q)) 0 0 30 [(0, .ref o), (1, .int x1), (2, .int x2)] [] (t_map o ad s) := by
  unfold wX3_lostPrice_30 at w
  refine e_aload_n (n := 31) dX3_lostPrice_30 rfl 0 rfl ?_
  refine t_getI (n := 34) 33 rfl rfl q1367 dX3_lostPrice_31 rfl ?_
  refine e_iconst (n := 35) (v := 2) dX3_lostPrice_34 rfl (by decide) ?_
  refine e_icmp_lt (n := 38) (tgt := 46) dX3_lostPrice_35 rfl (by decide) (fun h => ?_) (fun h => ?_)
  · have w := w.1 h
    exact hX3_lostPrice_46 ok _ _ _ w
  · have w := w.2 h
    refine e_aload_n (n := 39) dX3_lostPrice_38 rfl 0 rfl ?_
    refine t_getI (n := 42) 33 rfl rfl q1367 dX3_lostPrice_39 rfl ?_
    refine e_iconst (n := 43) (v := 3) dX3_lostPrice_42 rfl (by decide) ?_
    refine e_icmp_ne (n := 46) (tgt := 50) dX3_lostPrice_43 rfl (by decide) (fun h => ?_) (fun h => ?_)
    · have w := w.2 h
      refine e_iconst (n := 51) (v := 0) dX3_lostPrice_50 rfl (by decide) ?_
      exact hX3_lostPrice_51 ok _ _ _ _ w
    · have w := w.1 h
      exact hX3_lostPrice_46 ok _ _ _ w
set_option maxHeartbeats 4000000 in
theorem ctX3_lostPrice {o : Nat} {ad : Nat → Nat} (ok : t_ok o ad) {Q : Int32 → TS → Prop} {x1 : Int32} {x2 : Int32} {s : TS} (w : wX3_lostPrice Q x1 x2 s) : CT mX3_lostPrice 2 0 0 [.ref o, .int x1, .int x2] (t_map o ad s) (t_Ki o ad Q) := by
  refine CT.of (lv := [(0, .ref o), (1, .int x1), (2, .int x2)]) okX3_lostPrice.1 rfl rfl ?_
  unfold wX3_lostPrice at w
  refine e_iload_n (n := 1) dX3_lostPrice_0 rfl 1 rfl ?_
  refine e_aload_n (n := 2) dX3_lostPrice_1 rfl 0 rfl ?_
  refine t_getI (n := 5) 34 rfl rfl q1368 dX3_lostPrice_2 rfl ?_
  refine e_icmp_ne (n := 8) (tgt := 30) dX3_lostPrice_5 rfl (by decide) (fun h => ?_) (fun h => ?_)
  · have w := w.2 h
    exact hX3_lostPrice_30 ok _ _ _ w
  · have w := w.1 h
    refine e_aload_n (n := 9) dX3_lostPrice_8 rfl 0 rfl ?_
    refine t_getI (n := 12) 33 rfl rfl q1367 dX3_lostPrice_9 rfl ?_
    refine e_iconst (n := 13) (v := 1) dX3_lostPrice_12 rfl (by decide) ?_
    refine e_icmp_le (n := 16) (tgt := 30) dX3_lostPrice_13 rfl (by decide) (fun h => ?_) (fun h => ?_)
    · have w := w.1 h
      exact hX3_lostPrice_30 ok _ _ _ w
    · have w := w.2 h
      refine e_aload_n (n := 17) dX3_lostPrice_16 rfl 0 rfl ?_
      refine t_getI (n := 20) 33 rfl rfl q1367 dX3_lostPrice_17 rfl ?_
      refine e_iconst (n := 21) (v := 2) dX3_lostPrice_20 rfl (by decide) ?_
      refine e_icmp_ne (n := 24) (tgt := 28) dX3_lostPrice_21 rfl (by decide) (fun h => ?_) (fun h => ?_)
      · have w := w.2 h
        refine e_iconst (n := 29) (v := 0) dX3_lostPrice_28 rfl (by decide) ?_
        exact e_iret rfl (Nat.le_refl _) (Nat.le_refl _) ⟨_, _, rfl, rfl, w⟩ dX3_lostPrice_29
      · have w := w.1 h
        refine e_iconst (n := 25) (v := 1) dX3_lostPrice_24 rfl (by decide) ?_
        refine e_goto (n := 29) dX3_lostPrice_25 (by decide) ?_
        exact e_iret rfl (Nat.le_refl _) (Nat.le_refl _) ⟨_, _, rfl, rfl, w⟩ dX3_lostPrice_29
abbrev mX3_readBy : gM := (yX3_readBy, cX3_readBy, 10, none)
theorem okX3_readBy : g_ok mX3_readBy 7 := ⟨by decide +kernel, by decide +kernel, by decide +kernel, by decide +kernel, by decide⟩
def wX3_readBy_111 (Q : TS → Prop)  (x3 : Int32) (x5 : Int32) (x6 : Int32) (x7 : Int32) (x8 : Int32) (x9 : Int32) (s : TS) : Prop := (x9 = 0 → (Q s)) ∧ (¬ x9 = 0 → (vp_in x8 32448 ∧ ∀ s_2 : TS, s_2 = tA s 40 x8.toNatClampNeg x5 → (vp_in x8 32448 ∧ ∀ s_3 : TS, s_3 = tA s_2 41 x8.toNatClampNeg x3 → (vp_in x8 32448 ∧ ∀ s_4 : TS, s_4 = tA s_3 42 x8.toNatClampNeg x6 → (vp_in x8 32448 ∧ ∀ s_5 : TS, s_5 = tA s_4 43 x8.toNatClampNeg x7 → (Q s_5))))))
def wX3_readBy_109 (Q : TS → Prop)  (t0 : Int32) (x3 : Int32) (x5 : Int32) (x6 : Int32) (x7 : Int32) (x8 : Int32) (s : TS) : Prop := wX3_readBy_111 Q x3 x5 x6 x7 x8 t0 s
def wX3_readBy_104 (Q : TS → Prop)  (x3 : Int32) (x5 : Int32) (x6 : Int32) (x7 : Int32) (x8 : Int32) (s : TS) : Prop := wX3_readBy_109 Q 1 x3 x5 x6 x7 x8 s
def wX3_readBy_108 (Q : TS → Prop)  (x3 : Int32) (x5 : Int32) (x6 : Int32) (x7 : Int32) (x8 : Int32) (s : TS) : Prop := wX3_readBy_109 Q 0 x3 x5 x6 x7 x8 s
def wX3_readBy_32 (Q : TS → Prop)  (t0 : Int32) (x3 : Int32) (x5 : Int32) (x6 : Int32) (x7 : Int32) (x8 : Int32) (s : TS) : Prop := vp_in x8 32448 ∧ ((x5 = s.2.1 40 x8.toNatClampNeg → (vp_in x8 32448 ∧ ((x3 < s.2.1 41 x8.toNatClampNeg → (wX3_readBy_104 Q x3 x5 x6 x7 x8 s)) ∧ (¬ x3 < s.2.1 41 x8.toNatClampNeg → (vp_in x8 32448 ∧ ((x3 = s.2.1 41 x8.toNatClampNeg → (vp_in x8 32448 ∧ ((x6 < s.2.1 42 x8.toNatClampNeg → (wX3_readBy_104 Q x3 x5 x6 x7 x8 s)) ∧ (¬ x6 < s.2.1 42 x8.toNatClampNeg → (vp_in x8 32448 ∧ ((x6 = s.2.1 42 x8.toNatClampNeg → (vp_in x8 32448 ∧ ((s.2.1 43 x8.toNatClampNeg ≤ x7 → (wX3_readBy_108 Q x3 x5 x6 x7 x8 s)) ∧ (¬ s.2.1 43 x8.toNatClampNeg ≤ x7 → (wX3_readBy_104 Q x3 x5 x6 x7 x8 s))))) ∧ (¬ x6 = s.2.1 42 x8.toNatClampNeg → (wX3_readBy_108 Q x3 x5 x6 x7 x8 s)))))))) ∧ (¬ x3 = s.2.1 41 x8.toNatClampNeg → (wX3_readBy_108 Q x3 x5 x6 x7 x8 s)))))))) ∧ (¬ x5 = s.2.1 40 x8.toNatClampNeg → (wX3_readBy_111 Q x3 x5 x6 x7 x8 t0 s)))
def wX3_readBy (Q : TS → Prop) (x1 : Int32) (x2 : Int32) (x3 : Int32) (x4 : Int32) (x5 : Int32) (x6 : Int32) (x7 : Int32) (s : TS) : Prop := ∀ x8_1 : Int32, x8_1 = ((2704 * x1) + (52 * x2)) + x4 → (vp_in x8_1 32448 ∧ ((s.2.1 40 x8_1.toNatClampNeg ≤ x5 → (wX3_readBy_32 Q 0 x3 x5 x6 x7 x8_1 s)) ∧ (¬ s.2.1 40 x8_1.toNatClampNeg ≤ x5 → (wX3_readBy_32 Q 1 x3 x5 x6 x7 x8_1 s))))
set_option maxHeartbeats 4000000 in
theorem hX3_readBy_111 {o : Nat} {ad : Nat → Nat} (ok : t_ok o ad) {Q : TS → Prop}  (x3 : Int32) (x5 : Int32) (x6 : Int32) (x7 : Int32) (x8 : Int32) (x9 : Int32) (s : TS) (w : wX3_readBy_111 Q x3 x5 x6 x7 x8 x9 s) : E mX3_readBy 1 0 0 (g_z (t_Kv o ad Q)) 0 0 111 [(0, .ref o), (3, .int x3), (5, .int x5), (6, .int x6), (7, .int x7), (8, .int x8), (9, .int x9)] [] (t_map o ad s) := by
  unfold wX3_readBy_111 at w
  refine e_iload (n := 113) dX3_readBy_111 rfl 6 rfl ?_
  refine e_if_eq (n := 116) (tgt := 151) dX3_readBy_113 rfl (by decide) (fun h => ?_) (fun h => ?_)
  · have w := w.1 h
    exact e_vret rfl (Nat.le_refl _) (Nat.le_refl _) ⟨_, rfl, rfl, w⟩ dX3_readBy_151
  · have w := w.2 h
    refine e_aload_n (n := 117) dX3_readBy_116 rfl 0 rfl ?_
    refine t_getR (n := 120) 40 rfl (by decide) q1374 dX3_readBy_117 rfl ?_
    refine e_iload (n := 122) dX3_readBy_120 rfl 5 rfl ?_
    refine e_iload (n := 124) dX3_readBy_122 rfl 2 rfl ?_
    obtain ⟨wi, w⟩ := w
    refine t_iast (n := 125) ok 40 rfl rfl (N := 32448) rfl wi dX3_readBy_124 rfl (fun s_2 hs_2 => ?_)
    have w := w s_2 hs_2
    refine e_aload_n (n := 126) dX3_readBy_125 rfl 0 rfl ?_
    refine t_getR (n := 129) 41 rfl (by decide) q1375 dX3_readBy_126 rfl ?_
    refine e_iload (n := 131) dX3_readBy_129 rfl 5 rfl ?_
    refine e_iload_n (n := 132) dX3_readBy_131 rfl 1 rfl ?_
    obtain ⟨wi, w⟩ := w
    refine t_iast (n := 133) ok 41 rfl rfl (N := 32448) rfl wi dX3_readBy_132 rfl (fun s_3 hs_3 => ?_)
    have w := w s_3 hs_3
    refine e_aload_n (n := 134) dX3_readBy_133 rfl 0 rfl ?_
    refine t_getR (n := 137) 42 rfl (by decide) q1376 dX3_readBy_134 rfl ?_
    refine e_iload (n := 139) dX3_readBy_137 rfl 5 rfl ?_
    refine e_iload (n := 141) dX3_readBy_139 rfl 3 rfl ?_
    obtain ⟨wi, w⟩ := w
    refine t_iast (n := 142) ok 42 rfl rfl (N := 32448) rfl wi dX3_readBy_141 rfl (fun s_4 hs_4 => ?_)
    have w := w s_4 hs_4
    refine e_aload_n (n := 143) dX3_readBy_142 rfl 0 rfl ?_
    refine t_getR (n := 146) 43 rfl (by decide) q1377 dX3_readBy_143 rfl ?_
    refine e_iload (n := 148) dX3_readBy_146 rfl 5 rfl ?_
    refine e_iload (n := 150) dX3_readBy_148 rfl 4 rfl ?_
    obtain ⟨wi, w⟩ := w
    refine t_iast (n := 151) ok 43 rfl rfl (N := 32448) rfl wi dX3_readBy_150 rfl (fun s_5 hs_5 => ?_)
    have w := w s_5 hs_5
    exact e_vret rfl (Nat.le_refl _) (Nat.le_refl _) ⟨_, rfl, rfl, w⟩ dX3_readBy_151
set_option maxHeartbeats 4000000 in
theorem hX3_readBy_109 {o : Nat} {ad : Nat → Nat} (ok : t_ok o ad) {Q : TS → Prop}  (t0 : Int32) (x3 : Int32) (x5 : Int32) (x6 : Int32) (x7 : Int32) (x8 : Int32) (s : TS) (w : wX3_readBy_109 Q t0 x3 x5 x6 x7 x8 s) : E mX3_readBy 1 0 0 (g_z (t_Kv o ad Q)) 0 0 109 [(0, .ref o), (3, .int x3), (5, .int x5), (6, .int x6), (7, .int x7), (8, .int x8)] [.int t0] (t_map o ad s) := by
  unfold wX3_readBy_109 at w
  refine e_istore (n := 111) (lv' := [(0, .ref o), (3, .int x3), (5, .int x5), (6, .int x6), (7, .int x7), (8, .int x8), (9, .int t0)]) [1, 2, 3, 4, 5, 6, 0] dX3_readBy_109 rfl rfl rfl ?_
  exact hX3_readBy_111 ok _ _ _ _ _ _ _ w
set_option maxHeartbeats 4000000 in
theorem hX3_readBy_104 {o : Nat} {ad : Nat → Nat} (ok : t_ok o ad) {Q : TS → Prop}  (x3 : Int32) (x5 : Int32) (x6 : Int32) (x7 : Int32) (x8 : Int32) (s : TS) (w : wX3_readBy_104 Q x3 x5 x6 x7 x8 s) : E mX3_readBy 1 0 0 (g_z (t_Kv o ad Q)) 0 0 104 [(0, .ref o), (3, .int x3), (5, .int x5), (6, .int x6), (7, .int x7), (8, .int x8)] [] (t_map o ad s) := by
  unfold wX3_readBy_104 at w
  refine e_iconst (n := 105) (v := 1) dX3_readBy_104 rfl (by decide) ?_
  refine e_goto (n := 109) dX3_readBy_105 (by decide) ?_
  exact hX3_readBy_109 ok _ _ _ _ _ _ _ w
set_option maxHeartbeats 4000000 in
theorem hX3_readBy_108 {o : Nat} {ad : Nat → Nat} (ok : t_ok o ad) {Q : TS → Prop}  (x3 : Int32) (x5 : Int32) (x6 : Int32) (x7 : Int32) (x8 : Int32) (s : TS) (w : wX3_readBy_108 Q x3 x5 x6 x7 x8 s) : E mX3_readBy 1 0 0 (g_z (t_Kv o ad Q)) 0 0 108 [(0, .ref o), (3, .int x3), (5, .int x5), (6, .int x6), (7, .int x7), (8, .int x8)] [] (t_map o ad s) := by
  unfold wX3_readBy_108 at w
  refine e_iconst (n := 109) (v := 0) dX3_readBy_108 rfl (by decide) ?_
  exact hX3_readBy_109 ok _ _ _ _ _ _ _ w
set_option maxHeartbeats 4000000 in
theorem hX3_readBy_32 {o : Nat} {ad : Nat → Nat} (ok : t_ok o ad) {Q : TS → Prop}  (t0 : Int32) (x3 : Int32) (x5 : Int32) (x6 : Int32) (x7 : Int32) (x8 : Int32) (s : TS) (w : wX3_readBy_32 Q t0 x3 x5 x6 x7 x8 s) : E mX3_readBy 1 0 0 (g_z (t_Kv o ad Q)) 0 0 32 [(0, .ref o), (3, .int x3), (5, .int x5), (6, .int x6), (7, .int x7), (8, .int x8)] [.int t0] (t_map o ad s) := by
  unfold wX3_readBy_32 at w
  refine e_istore (n := 34) (lv' := [(0, .ref o), (3, .int x3), (5, .int x5), (6, .int x6), (7, .int x7), (8, .int x8), (9, .int t0)]) [1, 2, 3, 4, 5, 6, 0] dX3_readBy_32 rfl rfl rfl ?_
  refine e_iload (n := 36) dX3_readBy_34 rfl 2 rfl ?_
  refine e_aload_n (n := 37) dX3_readBy_36 rfl 0 rfl ?_
  refine t_getR (n := 40) 40 rfl (by decide) q1374 dX3_readBy_37 rfl ?_
  refine e_iload (n := 42) dX3_readBy_40 rfl 5 rfl ?_
  obtain ⟨wi, w⟩ := w
  refine t_iald (n := 43) ok 40 rfl rfl (N := 32448) rfl wi dX3_readBy_42 rfl ?_
  refine e_icmp_ne (n := 46) (tgt := 111) dX3_readBy_43 rfl (by decide) (fun h => ?_) (fun h => ?_)
  · have w := w.2 h
    exact hX3_readBy_111 ok _ _ _ _ _ _ _ w
  · have w := w.1 h
    refine e_iload_n (n := 47) dX3_readBy_46 rfl 1 rfl ?_
    refine e_aload_n (n := 48) dX3_readBy_47 rfl 0 rfl ?_
    refine t_getR (n := 51) 41 rfl (by decide) q1375 dX3_readBy_48 rfl ?_
    refine e_iload (n := 53) dX3_readBy_51 rfl 5 rfl ?_
    obtain ⟨wi, w⟩ := w
    refine t_iald (n := 54) ok 41 rfl rfl (N := 32448) rfl wi dX3_readBy_53 rfl ?_
    refine e_icmp_lt (n := 57) (tgt := 104) dX3_readBy_54 rfl (by decide) (fun h => ?_) (fun h => ?_)
    · have w := w.1 h
      refine e_sub (lv' := [(0, .ref o), (3, .int x3), (5, .int x5), (6, .int x6), (7, .int x7), (8, .int x8)]) [0, 1, 2, 3, 4, 5] rfl ?_
      exact hX3_readBy_104 ok _ _ _ _ _ _ w
    · have w := w.2 h
      refine e_iload_n (n := 58) dX3_readBy_57 rfl 1 rfl ?_
      refine e_aload_n (n := 59) dX3_readBy_58 rfl 0 rfl ?_
      refine t_getR (n := 62) 41 rfl (by decide) q1375 dX3_readBy_59 rfl ?_
      refine e_iload (n := 64) dX3_readBy_62 rfl 5 rfl ?_
      obtain ⟨wi, w⟩ := w
      refine t_iald (n := 65) ok 41 rfl rfl (N := 32448) rfl wi dX3_readBy_64 rfl ?_
      refine e_icmp_ne (n := 68) (tgt := 108) dX3_readBy_65 rfl (by decide) (fun h => ?_) (fun h => ?_)
      · have w := w.2 h
        refine e_sub (lv' := [(0, .ref o), (3, .int x3), (5, .int x5), (6, .int x6), (7, .int x7), (8, .int x8)]) [0, 1, 2, 3, 4, 5] rfl ?_
        exact hX3_readBy_108 ok _ _ _ _ _ _ w
      · have w := w.1 h
        refine e_iload (n := 70) dX3_readBy_68 rfl 3 rfl ?_
        refine e_aload_n (n := 71) dX3_readBy_70 rfl 0 rfl ?_
        refine t_getR (n := 74) 42 rfl (by decide) q1376 dX3_readBy_71 rfl ?_
        refine e_iload (n := 76) dX3_readBy_74 rfl 5 rfl ?_
        obtain ⟨wi, w⟩ := w
        refine t_iald (n := 77) ok 42 rfl rfl (N := 32448) rfl wi dX3_readBy_76 rfl ?_
        refine e_icmp_lt (n := 80) (tgt := 104) dX3_readBy_77 rfl (by decide) (fun h => ?_) (fun h => ?_)
        · have w := w.1 h
          refine e_sub (lv' := [(0, .ref o), (3, .int x3), (5, .int x5), (6, .int x6), (7, .int x7), (8, .int x8)]) [0, 1, 2, 3, 4, 5] rfl ?_
          exact hX3_readBy_104 ok _ _ _ _ _ _ w
        · have w := w.2 h
          refine e_iload (n := 82) dX3_readBy_80 rfl 3 rfl ?_
          refine e_aload_n (n := 83) dX3_readBy_82 rfl 0 rfl ?_
          refine t_getR (n := 86) 42 rfl (by decide) q1376 dX3_readBy_83 rfl ?_
          refine e_iload (n := 88) dX3_readBy_86 rfl 5 rfl ?_
          obtain ⟨wi, w⟩ := w
          refine t_iald (n := 89) ok 42 rfl rfl (N := 32448) rfl wi dX3_readBy_88 rfl ?_
          refine e_icmp_ne (n := 92) (tgt := 108) dX3_readBy_89 rfl (by decide) (fun h => ?_) (fun h => ?_)
          · have w := w.2 h
            refine e_sub (lv' := [(0, .ref o), (3, .int x3), (5, .int x5), (6, .int x6), (7, .int x7), (8, .int x8)]) [0, 1, 2, 3, 4, 5] rfl ?_
            exact hX3_readBy_108 ok _ _ _ _ _ _ w
          · have w := w.1 h
            refine e_iload (n := 94) dX3_readBy_92 rfl 4 rfl ?_
            refine e_aload_n (n := 95) dX3_readBy_94 rfl 0 rfl ?_
            refine t_getR (n := 98) 43 rfl (by decide) q1377 dX3_readBy_95 rfl ?_
            refine e_iload (n := 100) dX3_readBy_98 rfl 5 rfl ?_
            obtain ⟨wi, w⟩ := w
            refine t_iald (n := 101) ok 43 rfl rfl (N := 32448) rfl wi dX3_readBy_100 rfl ?_
            refine e_icmp_ge (n := 104) (tgt := 108) dX3_readBy_101 rfl (by decide) (fun h => ?_) (fun h => ?_)
            · have w := w.1 h
              refine e_sub (lv' := [(0, .ref o), (3, .int x3), (5, .int x5), (6, .int x6), (7, .int x7), (8, .int x8)]) [0, 1, 2, 3, 4, 5] rfl ?_
              exact hX3_readBy_108 ok _ _ _ _ _ _ w
            · have w := w.2 h
              refine e_sub (lv' := [(0, .ref o), (3, .int x3), (5, .int x5), (6, .int x6), (7, .int x7), (8, .int x8)]) [0, 1, 2, 3, 4, 5] rfl ?_
              exact hX3_readBy_104 ok _ _ _ _ _ _ w
set_option maxHeartbeats 4000000 in
theorem ctX3_readBy {o : Nat} {ad : Nat → Nat} (ok : t_ok o ad) {Q : TS → Prop} {x1 : Int32} {x2 : Int32} {x3 : Int32} {x4 : Int32} {x5 : Int32} {x6 : Int32} {x7 : Int32} {s : TS} (w : wX3_readBy Q x1 x2 x3 x4 x5 x6 x7 s) : CT mX3_readBy 1 0 0 [.ref o, .int x1, .int x2, .int x3, .int x4, .int x5, .int x6, .int x7] (t_map o ad s) (t_Kv o ad Q) := by
  refine CT.of (lv := [(0, .ref o), (1, .int x1), (2, .int x2), (3, .int x3), (4, .int x4), (5, .int x5), (6, .int x6), (7, .int x7)]) okX3_readBy.1 rfl rfl ?_
  unfold wX3_readBy at w
  refine e_sipush (n := 3) (v := 2704) dX3_readBy_0 rfl (by decide) ?_
  refine e_iload_n (n := 4) dX3_readBy_3 rfl 1 rfl ?_
  refine e_imul (n := 5) dX3_readBy_4 rfl ?_
  refine e_bipush (n := 7) (v := 52) dX3_readBy_5 rfl (by decide) ?_
  refine e_iload_n (n := 8) dX3_readBy_7 rfl 2 rfl ?_
  refine e_imul (n := 9) dX3_readBy_8 rfl ?_
  refine e_iadd (n := 10) dX3_readBy_9 rfl ?_
  refine e_iload (n := 12) dX3_readBy_10 rfl 4 rfl ?_
  refine e_iadd (n := 13) dX3_readBy_12 rfl ?_
  refine e_topi (fun x8_1 hx8_1 => ?_)
  have w := w x8_1 hx8_1
  refine e_istore (n := 15) (lv' := [(0, .ref o), (1, .int x1), (2, .int x2), (3, .int x3), (4, .int x4), (5, .int x5), (6, .int x6), (7, .int x7), (8, .int x8_1)]) [1, 2, 3, 4, 5, 6, 7, 8, 0] dX3_readBy_13 rfl rfl rfl ?_
  refine e_iload (n := 17) dX3_readBy_15 rfl 5 rfl ?_
  refine e_aload_n (n := 18) dX3_readBy_17 rfl 0 rfl ?_
  refine t_getR (n := 21) 40 rfl (by decide) q1374 dX3_readBy_18 rfl ?_
  refine e_iload (n := 23) dX3_readBy_21 rfl 8 rfl ?_
  obtain ⟨wi, w⟩ := w
  refine t_iald (n := 24) ok 40 rfl rfl (N := 32448) rfl wi dX3_readBy_23 rfl ?_
  refine e_icmp_ge (n := 27) (tgt := 31) dX3_readBy_24 rfl (by decide) (fun h => ?_) (fun h => ?_)
  · have w := w.1 h
    refine e_iconst (n := 32) (v := 0) dX3_readBy_31 rfl (by decide) ?_
    refine e_sub (lv' := [(0, .ref o), (3, .int x3), (5, .int x5), (6, .int x6), (7, .int x7), (8, .int x8_1)]) [0, 3, 5, 6, 7, 8] rfl ?_
    exact hX3_readBy_32 ok _ _ _ _ _ _ _ w
  · have w := w.2 h
    refine e_iconst (n := 28) (v := 1) dX3_readBy_27 rfl (by decide) ?_
    refine e_goto (n := 32) dX3_readBy_28 (by decide) ?_
    refine e_sub (lv' := [(0, .ref o), (3, .int x3), (5, .int x5), (6, .int x6), (7, .int x7), (8, .int x8_1)]) [0, 3, 5, 6, 7, 8] rfl ?_
    exact hX3_readBy_32 ok _ _ _ _ _ _ _ w
abbrev mX3_step : gM := (yX3_step, cX3_step, 9, none)
theorem okX3_step : g_ok mX3_step 6 := ⟨by decide +kernel, by decide +kernel, by decide +kernel, by decide +kernel, by decide⟩
def wX3_step_87 (Q : TS → Prop) (kh : Int32 → Int32 → Int32 → Int32 → Int32 → Int32 → Int32 → TS → Prop) (k93 : TS → Prop) (x1 : Int32) (x2 : Int32) (x3 : Int32) (x4 : Int32) (x5 : Int32) (x6 : Int32) (x7 : Int32) (s : TS) : Prop := ∀ x7_3 : Int32, x7_3 = x7 + 1 → (kh x1 x2 x3 x4 x5 x6 x7_3 s)
def wX3_step_27 (Q : TS → Prop) (k93 : TS → Prop) : Nat → Int32 → Int32 → Int32 → Int32 → Int32 → Int32 → Int32 → TS → Prop
  | 0 => fun _ _ _ _ _ _ _ _ => False
  | n + 1 => fun x1 x2 x3 x4 x5 x6 x7 s => vp_in x2 52 ∧ ((s.2.1 30 x2.toNatClampNeg < x7 → (k93 s)) ∧ (¬ s.2.1 30 x2.toNatClampNeg < x7 → (vp_in x2 52 ∧ (vp_in ((12 * x7) + (s.2.1 30 x2.toNatClampNeg)) 144 ∧ (∀ x8_2 : Int32, x8_2 = s.2.1 38 ((12 * x7) + (s.2.1 30 x2.toNatClampNeg)).toNatClampNeg → ((x8_2 = 1000000000 → (wX3_step_87 Q (wX3_step_27 Q k93 n) k93 x1 x2 x3 x4 x5 x6 x7 s)) ∧ (¬ x8_2 = 1000000000 → (vp_in x7 12 ∧ (wX3_readBy (fun (s_4 : TS) => wX3_step_87 Q (wX3_step_27 Q k93 n) k93 x1 x2 x3 x4 x5 x6 x7 s_4) x1 (s.2.1 32 x7.toNatClampNeg) x2 x3 (x8_2 + x4) x5 x6 s)))))))))
def wX3_step (Q : TS → Prop) (x1 : Int32) (x2 : Int32) (x3 : Int32) (x4 : Int32) (x5 : Int32) (x6 : Int32) (s : TS) : Prop := vp_in x2 52 ∧ ((s.2.1 29 x2.toNatClampNeg ≤ 0 → (∃ fu : Nat, wX3_step_27 Q (fun  (s_1 : TS) => Q s_1) fu x1 x2 x3 x4 x5 x6 0 s)) ∧ (¬ s.2.1 29 x2.toNatClampNeg ≤ 0 → (wX3_readBy (fun (s_5 : TS) => Q s_5) x1 x2 x2 x3 x4 x5 x6 s)))
set_option maxHeartbeats 4000000 in
theorem hX3_step_87 {o : Nat} {ad : Nat → Nat} (ok : t_ok o ad) {Q : TS → Prop} {kh : Int32 → Int32 → Int32 → Int32 → Int32 → Int32 → Int32 → TS → Prop} (hkh : ∀ (x1 : Int32) (x2 : Int32) (x3 : Int32) (x4 : Int32) (x5 : Int32) (x6 : Int32) (x7 : Int32) (s : TS), kh x1 x2 x3 x4 x5 x6 x7 s → E mX3_step 2 0 0 (g_z (t_Kv o ad Q)) 0 0 27 [(0, .ref o), (1, .int x1), (2, .int x2), (3, .int x3), (4, .int x4), (5, .int x5), (6, .int x6), (7, .int x7)] [] (t_map o ad s)) {k93 : TS → Prop} (hk93 : ∀  (s : TS), k93 s → E mX3_step 2 0 0 (g_z (t_Kv o ad Q)) 0 0 93 [] [] (t_map o ad s)) (x1 : Int32) (x2 : Int32) (x3 : Int32) (x4 : Int32) (x5 : Int32) (x6 : Int32) (x7 : Int32) (s : TS) (w : wX3_step_87 Q kh k93 x1 x2 x3 x4 x5 x6 x7 s) : E mX3_step 2 0 0 (g_z (t_Kv o ad Q)) 0 0 87 [(0, .ref o), (1, .int x1), (2, .int x2), (3, .int x3), (4, .int x4), (5, .int x5), (6, .int x6), (7, .int x7)] [] (t_map o ad s) := by
  unfold wX3_step_87 at w
  obtain ⟨x7_3, hx7_3⟩ : ∃ y : Int32, y = x7 + 1 := ⟨_, rfl⟩
  have w := w x7_3 hx7_3
  refine e_iinc (n := 90) (v := x7_3) (lv' := [(0, .ref o), (1, .int x1), (2, .int x2), (3, .int x3), (4, .int x4), (5, .int x5), (6, .int x6), (7, .int x7_3)]) [1, 2, 3, 4, 5, 6, 7, 0] dX3_step_87 rfl 7 rfl (by rw [hx7_3]; rfl) rfl rfl ?_
  refine e_goto (n := 27) dX3_step_90 (by decide) ?_
  exact hkh _ _ _ _ _ _ _ _ w
set_option maxHeartbeats 4000000 in
theorem hX3_step_27 {o : Nat} {ad : Nat → Nat} (ok : t_ok o ad) {Q : TS → Prop} {k93 : TS → Prop} (hk93 : ∀  (s : TS), k93 s → E mX3_step 2 0 0 (g_z (t_Kv o ad Q)) 0 0 93 [] [] (t_map o ad s)) : ∀ (n : Nat) (x1 : Int32) (x2 : Int32) (x3 : Int32) (x4 : Int32) (x5 : Int32) (x6 : Int32) (x7 : Int32) (s : TS), wX3_step_27 Q k93 n x1 x2 x3 x4 x5 x6 x7 s → E mX3_step 2 0 0 (g_z (t_Kv o ad Q)) 0 0 27 [(0, .ref o), (1, .int x1), (2, .int x2), (3, .int x3), (4, .int x4), (5, .int x5), (6, .int x6), (7, .int x7)] [] (t_map o ad s) := by
  intro n
  induction n with
  | zero =>
    intro _ _ _ _ _ _ _ _ w
    exact w.elim
  | succ n ih =>
    intro x1 x2 x3 x4 x5 x6 x7 s w
    unfold wX3_step_27 at w
    refine e_iload (n := 29) dX3_step_27 rfl 7 rfl ?_
    refine e_aload_n (n := 30) dX3_step_29 rfl 0 rfl ?_
    refine t_getR (n := 33) 30 rfl (by decide) q1364 dX3_step_30 rfl ?_
    refine e_iload_n (n := 34) dX3_step_33 rfl 2 rfl ?_
    obtain ⟨wi, w⟩ := w
    refine t_iald (n := 35) ok 30 rfl rfl (N := 52) rfl wi dX3_step_34 rfl ?_
    refine e_icmp_gt (n := 38) (tgt := 93) dX3_step_35 rfl (by decide) (fun h => ?_) (fun h => ?_)
    · have w := w.1 h
      refine e_sub (lv' := []) [] rfl ?_
      exact hk93 _ w
    · have w := w.2 h
      refine e_aload_n (n := 39) dX3_step_38 rfl 0 rfl ?_
      refine t_getR (n := 42) 38 rfl (by decide) q1372 dX3_step_39 rfl ?_
      refine e_bipush (n := 44) (v := 12) dX3_step_42 rfl (by decide) ?_
      refine e_iload (n := 46) dX3_step_44 rfl 7 rfl ?_
      refine e_imul (n := 47) dX3_step_46 rfl ?_
      refine e_aload_n (n := 48) dX3_step_47 rfl 0 rfl ?_
      refine t_getR (n := 51) 30 rfl (by decide) q1364 dX3_step_48 rfl ?_
      refine e_iload_n (n := 52) dX3_step_51 rfl 2 rfl ?_
      obtain ⟨wi, w⟩ := w
      refine t_iald (n := 53) ok 30 rfl rfl (N := 52) rfl wi dX3_step_52 rfl ?_
      refine e_iadd (n := 54) dX3_step_53 rfl ?_
      obtain ⟨wi, w⟩ := w
      refine t_iald (n := 55) ok 38 rfl rfl (N := 144) rfl wi dX3_step_54 rfl ?_
      refine e_topi (fun x8_2 hx8_2 => ?_)
      have w := w x8_2 hx8_2
      refine e_istore (n := 57) (lv' := [(0, .ref o), (1, .int x1), (2, .int x2), (3, .int x3), (4, .int x4), (5, .int x5), (6, .int x6), (7, .int x7), (8, .int x8_2)]) [1, 2, 3, 4, 5, 6, 7, 8, 0] dX3_step_55 rfl rfl rfl ?_
      refine e_iload (n := 59) dX3_step_57 rfl 8 rfl ?_
      refine e_ldc (n := 61) q1588 dX3_step_59 rfl ?_
      refine e_icmp_eq (n := 64) (tgt := 87) dX3_step_61 rfl (by decide) (fun h => ?_) (fun h => ?_)
      · have w := w.1 h
        refine e_sub (lv' := [(0, .ref o), (1, .int x1), (2, .int x2), (3, .int x3), (4, .int x4), (5, .int x5), (6, .int x6), (7, .int x7)]) [0, 1, 2, 3, 4, 5, 6, 7] rfl ?_
        exact hX3_step_87 ok ih hk93 _ _ _ _ _ _ _ _ w
      · have w := w.2 h
        refine e_aload_n (n := 65) dX3_step_64 rfl 0 rfl ?_
        refine e_iload_n (n := 66) dX3_step_65 rfl 1 rfl ?_
        refine e_aload_n (n := 67) dX3_step_66 rfl 0 rfl ?_
        refine t_getR (n := 70) 32 rfl (by decide) q1366 dX3_step_67 rfl ?_
        refine e_iload (n := 72) dX3_step_70 rfl 7 rfl ?_
        obtain ⟨wi, w⟩ := w
        refine t_iald (n := 73) ok 32 rfl rfl (N := 12) rfl wi dX3_step_72 rfl ?_
        refine e_iload_n (n := 74) dX3_step_73 rfl 2 rfl ?_
        refine e_iload_n (n := 75) dX3_step_74 rfl 3 rfl ?_
        refine e_iload (n := 77) dX3_step_75 rfl 8 rfl ?_
        refine e_iload (n := 79) dX3_step_77 rfl 4 rfl ?_
        refine e_iadd (n := 80) dX3_step_79 rfl ?_
        refine e_iload (n := 82) dX3_step_80 rfl 5 rfl ?_
        refine e_iload (n := 84) dX3_step_82 rfl 6 rfl ?_
        refine t_callV (n := 87) (As := [.int x1, .int (s.2.1 32 x7.toNatClampNeg), .int x2, .int x3, .int (x8_2 + x4), .int x5, .int x6]) (st := []) okX3_readBy q1613 q1615 qs40 q1616 rfl (by decide) (Nat.le_refl _) (Nat.le_refl _) rfl rfl rfl dX3_step_84 rfl (ctX3_readBy ok w) (fun r9 σ9 hk => ?_)
        obtain ⟨s_4, rfl, rfl, w⟩ := hk
        refine e_sub (lv' := [(0, .ref o), (1, .int x1), (2, .int x2), (3, .int x3), (4, .int x4), (5, .int x5), (6, .int x6), (7, .int x7)]) [0, 1, 2, 3, 4, 5, 6, 7] rfl ?_
        exact hX3_step_87 ok ih hk93 _ _ _ _ _ _ _ _ w
set_option maxHeartbeats 4000000 in
theorem ctX3_step {o : Nat} {ad : Nat → Nat} (ok : t_ok o ad) {Q : TS → Prop} {x1 : Int32} {x2 : Int32} {x3 : Int32} {x4 : Int32} {x5 : Int32} {x6 : Int32} {s : TS} (w : wX3_step Q x1 x2 x3 x4 x5 x6 s) : CT mX3_step 2 0 0 [.ref o, .int x1, .int x2, .int x3, .int x4, .int x5, .int x6] (t_map o ad s) (t_Kv o ad Q) := by
  refine CT.of (lv := [(0, .ref o), (1, .int x1), (2, .int x2), (3, .int x3), (4, .int x4), (5, .int x5), (6, .int x6)]) okX3_step.1 rfl rfl ?_
  unfold wX3_step at w
  refine e_aload_n (n := 1) dX3_step_0 rfl 0 rfl ?_
  refine t_getR (n := 4) 29 rfl (by decide) q1363 dX3_step_1 rfl ?_
  refine e_iload_n (n := 5) dX3_step_4 rfl 2 rfl ?_
  obtain ⟨wi, w⟩ := w
  refine t_iald (n := 6) ok 29 rfl rfl (N := 52) rfl wi dX3_step_5 rfl ?_
  refine e_if_le (n := 9) (tgt := 24) dX3_step_6 rfl (by decide) (fun h => ?_) (fun h => ?_)
  · have w := w.1 h
    refine e_iconst (n := 25) (v := 0) dX3_step_24 rfl (by decide) ?_
    refine e_istore (n := 27) (lv' := [(0, .ref o), (1, .int x1), (2, .int x2), (3, .int x3), (4, .int x4), (5, .int x5), (6, .int x6), (7, .int 0)]) [1, 2, 3, 4, 5, 6, 7, 0] dX3_step_25 rfl rfl rfl ?_
    obtain ⟨fu, w⟩ := w
    refine hX3_step_27 ok (fun s_1 w => ?_) fu _ _ _ _ _ _ _ _ w
    exact e_vret rfl (Nat.le_refl _) (Nat.le_refl _) ⟨_, rfl, rfl, w⟩ dX3_step_93
  · have w := w.2 h
    refine e_aload_n (n := 10) dX3_step_9 rfl 0 rfl ?_
    refine e_iload_n (n := 11) dX3_step_10 rfl 1 rfl ?_
    refine e_iload_n (n := 12) dX3_step_11 rfl 2 rfl ?_
    refine e_iload_n (n := 13) dX3_step_12 rfl 2 rfl ?_
    refine e_iload_n (n := 14) dX3_step_13 rfl 3 rfl ?_
    refine e_iload (n := 16) dX3_step_14 rfl 4 rfl ?_
    refine e_iload (n := 18) dX3_step_16 rfl 5 rfl ?_
    refine e_iload (n := 20) dX3_step_18 rfl 6 rfl ?_
    refine t_callV (n := 23) (As := [.int x1, .int x2, .int x2, .int x3, .int x4, .int x5, .int x6]) (st := []) okX3_readBy q1613 q1615 qs40 q1616 rfl (by decide) (Nat.le_refl _) (Nat.le_refl _) rfl rfl rfl dX3_step_20 rfl (ctX3_readBy ok w) (fun r9 σ9 hk => ?_)
    obtain ⟨s_5, rfl, rfl, w⟩ := hk
    exact e_vret rfl (Nat.le_refl _) (Nat.le_refl _) ⟨_, rfl, rfl, w⟩ dX3_step_23
abbrev mX3_specialAt : gM := (yX3_specialAt, cX3_specialAt, 5, some .int)
theorem okX3_specialAt : g_ok mX3_specialAt 3 := ⟨by decide +kernel, by decide +kernel, by decide +kernel, by decide +kernel, by decide⟩
def wX3_specialAt_36 (Q : Int32 → TS → Prop) (kh : Int32 → Int32 → Int32 → Int32 → TS → Prop) (k42 : Int32 → TS → Prop) (x1 : Int32) (x2 : Int32) (x3 : Int32) (x4 : Int32) (s : TS) : Prop := ∀ x4_3 : Int32, x4_3 = x4 + 1 → (kh x1 x2 x3 x4_3 s)
def wX3_specialAt_3 (Q : Int32 → TS → Prop) (k42 : Int32 → TS → Prop) : Nat → Int32 → Int32 → Int32 → Int32 → TS → Prop
  | 0 => fun _ _ _ _ _ => False
  | n + 1 => fun x1 x2 x3 x4 s => vp_in x4 52 ∧ ((s.2.1 29 x4.toNatClampNeg = x1 → (vp_in x4 52 ∧ ((s.2.1 30 x4.toNatClampNeg = x2 → (vp_in x4 52 ∧ ((s.2.1 31 x4.toNatClampNeg = x3 → (k42 x4 s)) ∧ (¬ s.2.1 31 x4.toNatClampNeg = x3 → (wX3_specialAt_36 Q (wX3_specialAt_3 Q k42 n) k42 x1 x2 x3 x4 s))))) ∧ (¬ s.2.1 30 x4.toNatClampNeg = x2 → (wX3_specialAt_36 Q (wX3_specialAt_3 Q k42 n) k42 x1 x2 x3 x4 s))))) ∧ (¬ s.2.1 29 x4.toNatClampNeg = x1 → (wX3_specialAt_36 Q (wX3_specialAt_3 Q k42 n) k42 x1 x2 x3 x4 s)))
def wX3_specialAt (Q : Int32 → TS → Prop) (x1 : Int32) (x2 : Int32) (x3 : Int32) (s : TS) : Prop := ∃ fu : Nat, wX3_specialAt_3 Q (fun (x4_1 : Int32) (s_2 : TS) => Q x4_1 s_2) fu x1 x2 x3 0 s
set_option maxHeartbeats 4000000 in
theorem hX3_specialAt_36 {o : Nat} {ad : Nat → Nat} (ok : t_ok o ad) {Q : Int32 → TS → Prop} {kh : Int32 → Int32 → Int32 → Int32 → TS → Prop} (hkh : ∀ (x1 : Int32) (x2 : Int32) (x3 : Int32) (x4 : Int32) (s : TS), kh x1 x2 x3 x4 s → E mX3_specialAt 1 0 0 (g_z (t_Ki o ad Q)) 0 0 3 [(0, .ref o), (1, .int x1), (2, .int x2), (3, .int x3), (4, .int x4)] [] (t_map o ad s)) {k42 : Int32 → TS → Prop} (hk42 : ∀ (x4 : Int32) (s : TS), k42 x4 s → E mX3_specialAt 1 0 0 (g_z (t_Ki o ad Q)) 0 0 42 [(4, .int x4)] [] (t_map o ad s)) (x1 : Int32) (x2 : Int32) (x3 : Int32) (x4 : Int32) (s : TS) (w : wX3_specialAt_36 Q kh k42 x1 x2 x3 x4 s) : E mX3_specialAt 1 0 0 (g_z (t_Ki o ad Q)) 0 0 36 [(0, .ref o), (1, .int x1), (2, .int x2), (3, .int x3), (4, .int x4)] [] (t_map o ad s) := by
  unfold wX3_specialAt_36 at w
  obtain ⟨x4_3, hx4_3⟩ : ∃ y : Int32, y = x4 + 1 := ⟨_, rfl⟩
  have w := w x4_3 hx4_3
  refine e_iinc (n := 39) (v := x4_3) (lv' := [(0, .ref o), (1, .int x1), (2, .int x2), (3, .int x3), (4, .int x4_3)]) [1, 2, 3, 4, 0] dX3_specialAt_36 rfl 4 rfl (by rw [hx4_3]; rfl) rfl rfl ?_
  refine e_goto (n := 3) dX3_specialAt_39 (by decide) ?_
  exact hkh _ _ _ _ _ w
set_option maxHeartbeats 4000000 in
theorem hX3_specialAt_3 {o : Nat} {ad : Nat → Nat} (ok : t_ok o ad) {Q : Int32 → TS → Prop} {k42 : Int32 → TS → Prop} (hk42 : ∀ (x4 : Int32) (s : TS), k42 x4 s → E mX3_specialAt 1 0 0 (g_z (t_Ki o ad Q)) 0 0 42 [(4, .int x4)] [] (t_map o ad s)) : ∀ (n : Nat) (x1 : Int32) (x2 : Int32) (x3 : Int32) (x4 : Int32) (s : TS), wX3_specialAt_3 Q k42 n x1 x2 x3 x4 s → E mX3_specialAt 1 0 0 (g_z (t_Ki o ad Q)) 0 0 3 [(0, .ref o), (1, .int x1), (2, .int x2), (3, .int x3), (4, .int x4)] [] (t_map o ad s) := by
  intro n
  induction n with
  | zero =>
    intro _ _ _ _ _ w
    exact w.elim
  | succ n ih =>
    intro x1 x2 x3 x4 s w
    unfold wX3_specialAt_3 at w
    refine e_aload_n (n := 4) dX3_specialAt_3 rfl 0 rfl ?_
    refine t_getR (n := 7) 29 rfl (by decide) q1363 dX3_specialAt_4 rfl ?_
    refine e_iload (n := 9) dX3_specialAt_7 rfl 4 rfl ?_
    obtain ⟨wi, w⟩ := w
    refine t_iald (n := 10) ok 29 rfl rfl (N := 52) rfl wi dX3_specialAt_9 rfl ?_
    refine e_iload_n (n := 11) dX3_specialAt_10 rfl 1 rfl ?_
    refine e_icmp_ne (n := 14) (tgt := 36) dX3_specialAt_11 rfl (by decide) (fun h => ?_) (fun h => ?_)
    · have w := w.2 h
      exact hX3_specialAt_36 ok ih hk42 _ _ _ _ _ w
    · have w := w.1 h
      refine e_aload_n (n := 15) dX3_specialAt_14 rfl 0 rfl ?_
      refine t_getR (n := 18) 30 rfl (by decide) q1364 dX3_specialAt_15 rfl ?_
      refine e_iload (n := 20) dX3_specialAt_18 rfl 4 rfl ?_
      obtain ⟨wi, w⟩ := w
      refine t_iald (n := 21) ok 30 rfl rfl (N := 52) rfl wi dX3_specialAt_20 rfl ?_
      refine e_iload_n (n := 22) dX3_specialAt_21 rfl 2 rfl ?_
      refine e_icmp_ne (n := 25) (tgt := 36) dX3_specialAt_22 rfl (by decide) (fun h => ?_) (fun h => ?_)
      · have w := w.2 h
        exact hX3_specialAt_36 ok ih hk42 _ _ _ _ _ w
      · have w := w.1 h
        refine e_aload_n (n := 26) dX3_specialAt_25 rfl 0 rfl ?_
        refine t_getR (n := 29) 31 rfl (by decide) q1365 dX3_specialAt_26 rfl ?_
        refine e_iload (n := 31) dX3_specialAt_29 rfl 4 rfl ?_
        obtain ⟨wi, w⟩ := w
        refine t_iald (n := 32) ok 31 rfl rfl (N := 52) rfl wi dX3_specialAt_31 rfl ?_
        refine e_iload_n (n := 33) dX3_specialAt_32 rfl 3 rfl ?_
        refine e_icmp_eq (n := 36) (tgt := 42) dX3_specialAt_33 rfl (by decide) (fun h => ?_) (fun h => ?_)
        · have w := w.1 h
          refine e_sub (lv' := [(4, .int x4)]) [4] rfl ?_
          exact hk42 _ _ w
        · have w := w.2 h
          exact hX3_specialAt_36 ok ih hk42 _ _ _ _ _ w
set_option maxHeartbeats 4000000 in
theorem ctX3_specialAt {o : Nat} {ad : Nat → Nat} (ok : t_ok o ad) {Q : Int32 → TS → Prop} {x1 : Int32} {x2 : Int32} {x3 : Int32} {s : TS} (w : wX3_specialAt Q x1 x2 x3 s) : CT mX3_specialAt 1 0 0 [.ref o, .int x1, .int x2, .int x3] (t_map o ad s) (t_Ki o ad Q) := by
  refine CT.of (lv := [(0, .ref o), (1, .int x1), (2, .int x2), (3, .int x3)]) okX3_specialAt.1 rfl rfl ?_
  unfold wX3_specialAt at w
  refine e_iconst (n := 1) (v := 0) dX3_specialAt_0 rfl (by decide) ?_
  refine e_istore (n := 3) (lv' := [(0, .ref o), (1, .int x1), (2, .int x2), (3, .int x3), (4, .int 0)]) [1, 2, 3, 4, 0] dX3_specialAt_1 rfl rfl rfl ?_
  obtain ⟨fu, w⟩ := w
  refine hX3_specialAt_3 ok (fun x4_1 s_2 w => ?_) fu _ _ _ _ _ w
  refine e_iload (n := 44) dX3_specialAt_42 rfl 0 rfl ?_
  exact e_iret rfl (Nat.le_refl _) (Nat.le_refl _) ⟨_, _, rfl, rfl, w⟩ dX3_specialAt_44
abbrev mX3_laySteps : gM := (yX3_laySteps, cX3_laySteps, 7, none)
theorem okX3_laySteps : g_ok mX3_laySteps 1 := ⟨by decide +kernel, by decide +kernel, by decide +kernel, by decide +kernel, by decide⟩
def wX3_laySteps_540 (Q : TS → Prop) (kh : Int32 → Int32 → Int32 → Int32 → Int32 → TS → Prop) (k546 : TS → Prop) (x1 : Int32) (x2 : Int32) (x3 : Int32) (x4 : Int32) (x5 : Int32) (s : TS) : Prop := ∀ x5_18 : Int32, x5_18 = x5 + 1 → (kh x1 x2 x3 x4 x5_18 s)
def wX3_laySteps_433 (Q : TS → Prop) (k546 : TS → Prop) : Nat → Int32 → Int32 → Int32 → Int32 → Int32 → TS → Prop
  | 0 => fun _ _ _ _ _ _ => False
  | n + 1 => fun x1 x2 x3 x4 x5 s => vp_in 1 2 ∧ ((s.2.1 11 1 ≤ x5 → (k546 s)) ∧ (¬ s.2.1 11 1 ≤ x5 → (∀ x6_17 : Int32, x6_17 = 12 + (4 * x5) → (vp_in x6_17 24 ∧ ((s.2.1 12 x6_17.toNatClampNeg = x3 → (vp_in (x6_17 + 1) 24 ∧ ((s.2.1 12 (x6_17 + 1).toNatClampNeg = x4 → (vp_in (x6_17 + 2) 24 ∧ (wX3_isFenced (fun (r_20 : Int32) (s_19 : TS) => (r_20 = 0 → (wX3_mayBe (fun (r_22 : Int32) (s_21 : TS) => (r_22 = 0 → (wX3_laySteps_540 Q (wX3_laySteps_433 Q k546 n) k546 x1 x2 x3 x4 x5 s_21)) ∧ (¬ r_22 = 0 → (vp_in (x6_17 + 2) 24 ∧ (vp_in (x1 + 2) 12 ∧ (vp_in (x6_17 + 3) 24 ∧ (wX3_step (fun (s_23 : TS) => wX3_laySteps_540 Q (wX3_laySteps_433 Q k546 n) k546 x1 x2 x3 x4 x5 s_23) (s_21.2.1 12 (x6_17 + 2).toNatClampNeg) x2 (s_21.2.1 32 (x1 + 2).toNatClampNeg) (s_21.2.1 12 (x6_17 + 3).toNatClampNeg) 5 x5 s_21)))))) 5 x1 2 x5 s_19)) ∧ (¬ r_20 = 0 → (wX3_laySteps_540 Q (wX3_laySteps_433 Q k546 n) k546 x1 x2 x3 x4 x5 s_19))) (s.2.1 12 (x6_17 + 2).toNatClampNeg) s))) ∧ (¬ s.2.1 12 (x6_17 + 1).toNatClampNeg = x4 → (wX3_laySteps_540 Q (wX3_laySteps_433 Q k546 n) k546 x1 x2 x3 x4 x5 s))))) ∧ (¬ s.2.1 12 x6_17.toNatClampNeg = x3 → (wX3_laySteps_540 Q (wX3_laySteps_433 Q k546 n) k546 x1 x2 x3 x4 x5 s)))))))
def wX3_laySteps_430 (Q : TS → Prop)  (x1 : Int32) (x2 : Int32) (x3 : Int32) (x4 : Int32) (s : TS) : Prop := ∃ fu : Nat, wX3_laySteps_433 Q (fun  (s_16 : TS) => Q s_16) fu x1 x2 x3 x4 0 s
def wX3_laySteps_385 (Q : TS → Prop)  (x1 : Int32) (x2 : Int32) (x3 : Int32) (x4 : Int32) (s : TS) : Prop := (x4 = x3 → (wX3_laySteps_430 Q x1 x2 x3 x4 s)) ∧ (¬ x4 = x3 → ((s.1 33 = 2 → (wX3_laySteps_430 Q x1 x2 x3 x4 s)) ∧ (¬ s.1 33 = 2 → ((s.1 33 = 4 → (wX3_laySteps_430 Q x1 x2 x3 x4 s)) ∧ (¬ s.1 33 = 4 → (wX3_specialAt (fun (r_25 : Int32) (s_24 : TS) => vp_in (x1 + 2) 12 ∧ (wX3_step (fun (s_26 : TS) => wX3_laySteps_430 Q x1 x2 x3 x4 s_26) x3 r_25 (s_24.2.1 32 (x1 + 2).toNatClampNeg) 0 0 0 s_24)) 1 x1 0 s))))))
def wX3_laySteps_321 (Q : TS → Prop) (kh : Int32 → Int32 → Int32 → Int32 → TS → Prop) (k327 : Int32 → Int32 → Int32 → TS → Prop) (x1 : Int32) (x2 : Int32) (x3 : Int32) (x4 : Int32) (s : TS) : Prop := ∀ x4_34 : Int32, x4_34 = x4 + 1 → (kh x1 x2 x3 x4_34 s)
def wX3_laySteps_265 (Q : TS → Prop) (kh : Int32 → Int32 → Int32 → Int32 → TS → Prop) (k327 : Int32 → Int32 → Int32 → TS → Prop) (x1 : Int32) (x2 : Int32) (x3 : Int32) (x4 : Int32) (x6 : Int32) (s : TS) : Prop := vp_in ((4 * x4) + 2) 24 ∧ ((s.2.1 12 ((4 * x4) + 2).toNatClampNeg = x3 → ((s.1 33 = 2 → (wX3_laySteps_321 Q kh k327 x1 x2 x3 x4 s)) ∧ (¬ s.1 33 = 2 → ((s.1 33 = 4 → (wX3_laySteps_321 Q kh k327 x1 x2 x3 x4 s)) ∧ (¬ s.1 33 = 4 → (wX3_specialAt (fun (r_36 : Int32) (s_35 : TS) => vp_in (x1 + 1) 12 ∧ (wX3_step (fun (s_37 : TS) => wX3_laySteps_321 Q kh k327 x1 x2 x3 x4 s_37) x6 r_36 (s_35.2.1 32 (x1 + 1).toNatClampNeg) 0 0 0 s_35)) 2 x1 x4 s)))))) ∧ (¬ s.2.1 12 ((4 * x4) + 2).toNatClampNeg = x3 → (wX3_laySteps_321 Q kh k327 x1 x2 x3 x4 s)))
def wX3_laySteps_156 (Q : TS → Prop) (k327 : Int32 → Int32 → Int32 → TS → Prop) : Nat → Int32 → Int32 → Int32 → Int32 → TS → Prop
  | 0 => fun _ _ _ _ _ => False
  | n + 1 => fun x1 x2 x3 x4 s => vp_in 0 2 ∧ ((s.2.1 11 0 ≤ x4 → (k327 x1 x2 x3 s)) ∧ (¬ s.2.1 11 0 ≤ x4 → (vp_in (4 * x4) 24 ∧ (∀ x5_32 : Int32, x5_32 = s.2.1 12 (4 * x4).toNatClampNeg → (vp_in ((4 * x4) + 1) 24 ∧ (∀ x6_33 : Int32, x6_33 = s.2.1 12 ((4 * x4) + 1).toNatClampNeg → (vp_in ((4 * x4) + 2) 24 ∧ ((s.2.1 12 ((4 * x4) + 2).toNatClampNeg = x3 → (wX3_isFenced (fun (r_39 : Int32) (s_38 : TS) => (r_39 = 0 → (wX3_isFenced (fun (r_41 : Int32) (s_40 : TS) => (r_41 = 0 → (wX3_mayBe (fun (r_43 : Int32) (s_42 : TS) => (r_43 = 0 → (wX3_laySteps_265 Q (wX3_laySteps_156 Q k327 n) k327 x1 x2 x3 x4 x6_33 s_42)) ∧ (¬ r_43 = 0 → (wX3_specialAt (fun (r_45 : Int32) (s_44 : TS) => vp_in ((4 * x4) + 3) 24 ∧ (wX3_step (fun (s_46 : TS) => wX3_laySteps_265 Q (wX3_laySteps_156 Q k327 n) k327 x1 x2 x3 x4 x6_33 s_46) x5_32 x2 r_45 (s_44.2.1 12 ((4 * x4) + 3).toNatClampNeg) 4 x4 s_44)) 2 x1 x4 s_42))) 4 x1 1 x4 s_40)) ∧ (¬ r_41 = 0 → (wX3_laySteps_265 Q (wX3_laySteps_156 Q k327 n) k327 x1 x2 x3 x4 x6_33 s_40))) x6_33 s_38)) ∧ (¬ r_39 = 0 → (wX3_laySteps_265 Q (wX3_laySteps_156 Q k327 n) k327 x1 x2 x3 x4 x6_33 s_38))) x5_32 s)) ∧ (¬ s.2.1 12 ((4 * x4) + 2).toNatClampNeg = x3 → (wX3_laySteps_265 Q (wX3_laySteps_156 Q k327 n) k327 x1 x2 x3 x4 x6_33 s))))))))))
def wX3_laySteps_147 (Q : TS → Prop) (kh : Int32 → Int32 → Int32 → Int32 → TS → Prop) (k153 : Int32 → Int32 → Int32 → TS → Prop) (x1 : Int32) (x2 : Int32) (x3 : Int32) (x4 : Int32) (s : TS) : Prop := ∀ x4_47 : Int32, x4_47 = x4 + 1 → (kh x1 x2 x3 x4_47 s)
def wX3_laySteps_85 (Q : TS → Prop) (k153 : Int32 → Int32 → Int32 → TS → Prop) : Nat → Int32 → Int32 → Int32 → Int32 → TS → Prop
  | 0 => fun _ _ _ _ _ => False
  | n + 1 => fun x1 x2 x3 x4 s => (s.1 0 ≤ x4 → (k153 x1 x2 x3 s)) ∧ (¬ s.1 0 ≤ x4 → ((x4 = x3 → (wX3_laySteps_147 Q (wX3_laySteps_85 Q k153 n) k153 x1 x2 x3 x4 s)) ∧ (¬ x4 = x3 → (wX3_isFenced (fun (r_49 : Int32) (s_48 : TS) => (r_49 = 0 → (wX3_mayBe (fun (r_51 : Int32) (s_50 : TS) => (r_51 = 0 → (wX3_laySteps_147 Q (wX3_laySteps_85 Q k153 n) k153 x1 x2 x3 x4 s_50)) ∧ (¬ r_51 = 0 → (vp_in (x1 + 1) 12 ∧ (vp_in (24 + x3) 36 ∧ (wX3_step (fun (s_52 : TS) => wX3_laySteps_147 Q (wX3_laySteps_85 Q k153 n) k153 x1 x2 x3 x4 s_52) x4 x2 (s_50.2.1 32 (x1 + 1).toNatClampNeg) (s_50.2.1 2 (24 + x3).toNatClampNeg) 2 0 s_50))))) 2 x1 1 x4 s_48)) ∧ (¬ r_49 = 0 → (wX3_laySteps_147 Q (wX3_laySteps_85 Q k153 n) k153 x1 x2 x3 x4 s_48))) x4 s))))
def wX3_laySteps_43 (Q : TS → Prop) (kh : Int32 → Int32 → Int32 → TS → Prop) (k49 : Int32 → Int32 → TS → Prop) (x1 : Int32) (x2 : Int32) (x3 : Int32) (s : TS) : Prop := ∀ x3_55 : Int32, x3_55 = x3 + 1 → (kh x1 x2 x3_55 s)
def wX3_laySteps_9 (Q : TS → Prop) (k49 : Int32 → Int32 → TS → Prop) : Nat → Int32 → Int32 → Int32 → TS → Prop
  | 0 => fun _ _ _ _ => False
  | n + 1 => fun x1 x2 x3 s => (s.1 0 ≤ x3 → (k49 x1 x2 s)) ∧ (¬ s.1 0 ≤ x3 → (wX3_lostPrice (fun (r_54 : Int32) (s_53 : TS) => (r_54 = 1000000000 → (wX3_laySteps_43 Q (wX3_laySteps_9 Q k49 n) k49 x1 x2 x3 s_53)) ∧ (¬ r_54 = 1000000000 → (wX3_step (fun (s_56 : TS) => wX3_laySteps_43 Q (wX3_laySteps_9 Q k49 n) k49 x1 x2 x3 s_56) x3 x2 x2 r_54 1 0 s_53))) x1 x3 s))
def wX3_laySteps (Q : TS → Prop) (x1 : Int32) (s : TS) : Prop := vp_in x1 12 ∧ (∀ x2_1 : Int32, x2_1 = s.2.1 32 x1.toNatClampNeg → (∃ fu : Nat, wX3_laySteps_9 Q (fun (x1_2 : Int32) (x2_3 : Int32) (s_4 : TS) => (x1_2 = s_4.1 34 → (Q s_4)) ∧ (¬ x1_2 = s_4.1 34 → (vp_in x1_2 11 ∧ (∀ x3_5 : Int32, x3_5 = s_4.2.1 15 x1_2.toNatClampNeg → (vp_in (x1_2 + 1) 12 ∧ (wX3_step (fun (s_6 : TS) => ∃ fu : Nat, wX3_laySteps_85 Q (fun (x1_7 : Int32) (x2_8 : Int32) (x3_9 : Int32) (s_10 : TS) => ∃ fu : Nat, wX3_laySteps_156 Q (fun (x1_11 : Int32) (x2_12 : Int32) (x3_13 : Int32) (s_14 : TS) => (x1_11 + 1 = s_14.1 34 → (Q s_14)) ∧ (¬ x1_11 + 1 = s_14.1 34 → (vp_in (x1_11 + 1) 11 ∧ (∀ x4_15 : Int32, x4_15 = s_14.2.1 15 (x1_11 + 1).toNatClampNeg → ((x4_15 = x3_13 → (wX3_laySteps_385 Q x1_11 x2_12 x3_13 x4_15 s_14)) ∧ (¬ x4_15 = x3_13 → (wX3_mayBe (fun (r_28 : Int32) (s_27 : TS) => (r_28 = 0 → (wX3_laySteps_385 Q x1_11 x2_12 x3_13 x4_15 s_27)) ∧ (¬ r_28 = 0 → (wX3_specialAt (fun (r_30 : Int32) (s_29 : TS) => wX3_step (fun (s_31 : TS) => wX3_laySteps_385 Q x1_11 x2_12 x3_13 x4_15 s_31) x4_15 x2_12 r_30 (s_29.1 3) 3 0 s_29) 1 x1_11 0 s_27))) 3 x1_11 2 0 s_14))))))) fu x1_7 x2_8 x3_9 0 s_10) fu x1_2 x2_3 x3_5 0 s_6) x3_5 x2_3 (s_4.2.1 32 (x1_2 + 1).toNatClampNeg) 0 0 0 s_4)))))) fu x1 x2_1 0 s))
set_option maxHeartbeats 4000000 in
theorem hX3_laySteps_540 {o : Nat} {ad : Nat → Nat} (ok : t_ok o ad) {Q : TS → Prop} {kh : Int32 → Int32 → Int32 → Int32 → Int32 → TS → Prop} (hkh : ∀ (x1 : Int32) (x2 : Int32) (x3 : Int32) (x4 : Int32) (x5 : Int32) (s : TS), kh x1 x2 x3 x4 x5 s → E mX3_laySteps 3 0 0 (g_z (t_Kv o ad Q)) 0 0 433 [(0, .ref o), (1, .int x1), (2, .int x2), (3, .int x3), (4, .int x4), (5, .int x5)] [] (t_map o ad s)) {k546 : TS → Prop} (hk546 : ∀  (s : TS), k546 s → E mX3_laySteps 3 0 0 (g_z (t_Kv o ad Q)) 0 0 546 [] [] (t_map o ad s)) (x1 : Int32) (x2 : Int32) (x3 : Int32) (x4 : Int32) (x5 : Int32) (s : TS) (w : wX3_laySteps_540 Q kh k546 x1 x2 x3 x4 x5 s) : E mX3_laySteps 3 0 0 (g_z (t_Kv o ad Q)) 0 0 540 [(0, .ref o), (1, .int x1), (2, .int x2), (3, .int x3), (4, .int x4), (5, .int x5)] [] (t_map o ad s) := by
  unfold wX3_laySteps_540 at w
  obtain ⟨x5_18, hx5_18⟩ : ∃ y : Int32, y = x5 + 1 := ⟨_, rfl⟩
  have w := w x5_18 hx5_18
  refine e_iinc (n := 543) (v := x5_18) (lv' := [(0, .ref o), (1, .int x1), (2, .int x2), (3, .int x3), (4, .int x4), (5, .int x5_18)]) [1, 2, 3, 4, 5, 0] dX3_laySteps_540 rfl 5 rfl (by rw [hx5_18]; rfl) rfl rfl ?_
  refine e_goto (n := 433) dX3_laySteps_543 (by decide) ?_
  exact hkh _ _ _ _ _ _ w
set_option maxHeartbeats 4000000 in
theorem hX3_laySteps_433 {o : Nat} {ad : Nat → Nat} (ok : t_ok o ad) {Q : TS → Prop} {k546 : TS → Prop} (hk546 : ∀  (s : TS), k546 s → E mX3_laySteps 3 0 0 (g_z (t_Kv o ad Q)) 0 0 546 [] [] (t_map o ad s)) : ∀ (n : Nat) (x1 : Int32) (x2 : Int32) (x3 : Int32) (x4 : Int32) (x5 : Int32) (s : TS), wX3_laySteps_433 Q k546 n x1 x2 x3 x4 x5 s → E mX3_laySteps 3 0 0 (g_z (t_Kv o ad Q)) 0 0 433 [(0, .ref o), (1, .int x1), (2, .int x2), (3, .int x3), (4, .int x4), (5, .int x5)] [] (t_map o ad s) := by
  intro n
  induction n with
  | zero =>
    intro _ _ _ _ _ _ w
    exact w.elim
  | succ n ih =>
    intro x1 x2 x3 x4 x5 s w
    unfold wX3_laySteps_433 at w
    refine e_iload (n := 435) dX3_laySteps_433 rfl 5 rfl ?_
    refine e_aload_n (n := 436) dX3_laySteps_435 rfl 0 rfl ?_
    refine t_getR (n := 439) 11 rfl (by decide) q1345 dX3_laySteps_436 rfl ?_
    refine e_iconst (n := 440) (v := 1) dX3_laySteps_439 rfl (by decide) ?_
    obtain ⟨wi, w⟩ := w
    refine t_iald (n := 441) ok 11 rfl rfl (N := 2) rfl wi dX3_laySteps_440 rfl ?_
    refine e_icmp_ge (n := 444) (tgt := 546) dX3_laySteps_441 rfl (by decide) (fun h => ?_) (fun h => ?_)
    · have w := w.1 h
      refine e_sub (lv' := []) [] rfl ?_
      exact hk546 _ w
    · have w := w.2 h
      refine e_bipush (n := 446) (v := 12) dX3_laySteps_444 rfl (by decide) ?_
      refine e_iconst (n := 447) (v := 4) dX3_laySteps_446 rfl (by decide) ?_
      refine e_iload (n := 449) dX3_laySteps_447 rfl 5 rfl ?_
      refine e_imul (n := 450) dX3_laySteps_449 rfl ?_
      refine e_iadd (n := 451) dX3_laySteps_450 rfl ?_
      refine e_topi (fun x6_17 hx6_17 => ?_)
      have w := w x6_17 hx6_17
      refine e_istore (n := 453) (lv' := [(0, .ref o), (1, .int x1), (2, .int x2), (3, .int x3), (4, .int x4), (5, .int x5), (6, .int x6_17)]) [1, 2, 3, 4, 5, 6, 0] dX3_laySteps_451 rfl rfl rfl ?_
      refine e_aload_n (n := 454) dX3_laySteps_453 rfl 0 rfl ?_
      refine t_getR (n := 457) 12 rfl (by decide) q1346 dX3_laySteps_454 rfl ?_
      refine e_iload (n := 459) dX3_laySteps_457 rfl 6 rfl ?_
      obtain ⟨wi, w⟩ := w
      refine t_iald (n := 460) ok 12 rfl rfl (N := 24) rfl wi dX3_laySteps_459 rfl ?_
      refine e_iload_n (n := 461) dX3_laySteps_460 rfl 3 rfl ?_
      refine e_icmp_ne (n := 464) (tgt := 540) dX3_laySteps_461 rfl (by decide) (fun h => ?_) (fun h => ?_)
      · have w := w.2 h
        refine e_sub (lv' := [(0, .ref o), (1, .int x1), (2, .int x2), (3, .int x3), (4, .int x4), (5, .int x5)]) [0, 1, 2, 3, 4, 5] rfl ?_
        exact hX3_laySteps_540 ok ih hk546 _ _ _ _ _ _ w
      · have w := w.1 h
        refine e_aload_n (n := 465) dX3_laySteps_464 rfl 0 rfl ?_
        refine t_getR (n := 468) 12 rfl (by decide) q1346 dX3_laySteps_465 rfl ?_
        refine e_iload (n := 470) dX3_laySteps_468 rfl 6 rfl ?_
        refine e_iconst (n := 471) (v := 1) dX3_laySteps_470 rfl (by decide) ?_
        refine e_iadd (n := 472) dX3_laySteps_471 rfl ?_
        obtain ⟨wi, w⟩ := w
        refine t_iald (n := 473) ok 12 rfl rfl (N := 24) rfl wi dX3_laySteps_472 rfl ?_
        refine e_iload (n := 475) dX3_laySteps_473 rfl 4 rfl ?_
        refine e_icmp_ne (n := 478) (tgt := 540) dX3_laySteps_475 rfl (by decide) (fun h => ?_) (fun h => ?_)
        · have w := w.2 h
          refine e_sub (lv' := [(0, .ref o), (1, .int x1), (2, .int x2), (3, .int x3), (4, .int x4), (5, .int x5)]) [0, 1, 2, 3, 4, 5] rfl ?_
          exact hX3_laySteps_540 ok ih hk546 _ _ _ _ _ _ w
        · have w := w.1 h
          refine e_aload_n (n := 479) dX3_laySteps_478 rfl 0 rfl ?_
          refine e_aload_n (n := 480) dX3_laySteps_479 rfl 0 rfl ?_
          refine t_getR (n := 483) 12 rfl (by decide) q1346 dX3_laySteps_480 rfl ?_
          refine e_iload (n := 485) dX3_laySteps_483 rfl 6 rfl ?_
          refine e_iconst (n := 486) (v := 2) dX3_laySteps_485 rfl (by decide) ?_
          refine e_iadd (n := 487) dX3_laySteps_486 rfl ?_
          obtain ⟨wi, w⟩ := w
          refine t_iald (n := 488) ok 12 rfl rfl (N := 24) rfl wi dX3_laySteps_487 rfl ?_
          refine t_callV (n := 491) (As := [.int (s.2.1 12 (x6_17 + 2).toNatClampNeg)]) (st := []) okX3_isFenced q1597 q1599 qs36 q1600 rfl (by decide) (Nat.le_refl _) (Nat.le_refl _) rfl rfl rfl dX3_laySteps_488 rfl (ctX3_isFenced ok w) (fun r9 σ9 hk => ?_)
          obtain ⟨r_20, s_19, rfl, rfl, w⟩ := hk
          refine e_if_ne (n := 494) (tgt := 540) dX3_laySteps_491 rfl (by decide) (fun h => ?_) (fun h => ?_)
          · have w := w.2 h
            refine e_sub (lv' := [(0, .ref o), (1, .int x1), (2, .int x2), (3, .int x3), (4, .int x4), (5, .int x5)]) [0, 1, 2, 3, 4, 5] rfl ?_
            exact hX3_laySteps_540 ok ih hk546 _ _ _ _ _ _ w
          · have w := w.1 h
            refine e_aload_n (n := 495) dX3_laySteps_494 rfl 0 rfl ?_
            refine e_iconst (n := 496) (v := 5) dX3_laySteps_495 rfl (by decide) ?_
            refine e_iload_n (n := 497) dX3_laySteps_496 rfl 1 rfl ?_
            refine e_iconst (n := 498) (v := 2) dX3_laySteps_497 rfl (by decide) ?_
            refine e_iload (n := 500) dX3_laySteps_498 rfl 5 rfl ?_
            refine t_callV (n := 503) (As := [.int 5, .int x1, .int 2, .int x5]) (st := []) okX3_mayBe q1593 q1595 qs35 q1596 rfl (by decide) (Nat.le_refl _) (Nat.le_refl _) rfl rfl rfl dX3_laySteps_500 rfl (ctX3_mayBe ok w) (fun r9 σ9 hk => ?_)
            obtain ⟨r_22, s_21, rfl, rfl, w⟩ := hk
            refine e_if_eq (n := 506) (tgt := 540) dX3_laySteps_503 rfl (by decide) (fun h => ?_) (fun h => ?_)
            · have w := w.1 h
              refine e_sub (lv' := [(0, .ref o), (1, .int x1), (2, .int x2), (3, .int x3), (4, .int x4), (5, .int x5)]) [0, 1, 2, 3, 4, 5] rfl ?_
              exact hX3_laySteps_540 ok ih hk546 _ _ _ _ _ _ w
            · have w := w.2 h
              refine e_aload_n (n := 507) dX3_laySteps_506 rfl 0 rfl ?_
              refine e_aload_n (n := 508) dX3_laySteps_507 rfl 0 rfl ?_
              refine t_getR (n := 511) 12 rfl (by decide) q1346 dX3_laySteps_508 rfl ?_
              refine e_iload (n := 513) dX3_laySteps_511 rfl 6 rfl ?_
              refine e_iconst (n := 514) (v := 2) dX3_laySteps_513 rfl (by decide) ?_
              refine e_iadd (n := 515) dX3_laySteps_514 rfl ?_
              obtain ⟨wi, w⟩ := w
              refine t_iald (n := 516) ok 12 rfl rfl (N := 24) rfl wi dX3_laySteps_515 rfl ?_
              refine e_iload_n (n := 517) dX3_laySteps_516 rfl 2 rfl ?_
              refine e_aload_n (n := 518) dX3_laySteps_517 rfl 0 rfl ?_
              refine t_getR (n := 521) 32 rfl (by decide) q1366 dX3_laySteps_518 rfl ?_
              refine e_iload_n (n := 522) dX3_laySteps_521 rfl 1 rfl ?_
              refine e_iconst (n := 523) (v := 2) dX3_laySteps_522 rfl (by decide) ?_
              refine e_iadd (n := 524) dX3_laySteps_523 rfl ?_
              obtain ⟨wi, w⟩ := w
              refine t_iald (n := 525) ok 32 rfl rfl (N := 12) rfl wi dX3_laySteps_524 rfl ?_
              refine e_aload_n (n := 526) dX3_laySteps_525 rfl 0 rfl ?_
              refine t_getR (n := 529) 12 rfl (by decide) q1346 dX3_laySteps_526 rfl ?_
              refine e_iload (n := 531) dX3_laySteps_529 rfl 6 rfl ?_
              refine e_iconst (n := 532) (v := 3) dX3_laySteps_531 rfl (by decide) ?_
              refine e_iadd (n := 533) dX3_laySteps_532 rfl ?_
              obtain ⟨wi, w⟩ := w
              refine t_iald (n := 534) ok 12 rfl rfl (N := 24) rfl wi dX3_laySteps_533 rfl ?_
              refine e_iconst (n := 535) (v := 5) dX3_laySteps_534 rfl (by decide) ?_
              refine e_iload (n := 537) dX3_laySteps_535 rfl 5 rfl ?_
              refine t_callV (n := 540) (As := [.int (s_21.2.1 12 (x6_17 + 2).toNatClampNeg), .int x2, .int (s_21.2.1 32 (x1 + 2).toNatClampNeg), .int (s_21.2.1 12 (x6_17 + 3).toNatClampNeg), .int 5, .int x5]) (st := []) okX3_step q1609 q1611 qs39 q1612 rfl (by decide) (Nat.le_refl _) (Nat.le_refl _) rfl rfl rfl dX3_laySteps_537 rfl (ctX3_step ok w) (fun r9 σ9 hk => ?_)
              obtain ⟨s_23, rfl, rfl, w⟩ := hk
              refine e_sub (lv' := [(0, .ref o), (1, .int x1), (2, .int x2), (3, .int x3), (4, .int x4), (5, .int x5)]) [0, 1, 2, 3, 4, 5] rfl ?_
              exact hX3_laySteps_540 ok ih hk546 _ _ _ _ _ _ w
set_option maxHeartbeats 4000000 in
theorem hX3_laySteps_430 {o : Nat} {ad : Nat → Nat} (ok : t_ok o ad) {Q : TS → Prop}  (x1 : Int32) (x2 : Int32) (x3 : Int32) (x4 : Int32) (s : TS) (w : wX3_laySteps_430 Q x1 x2 x3 x4 s) : E mX3_laySteps 3 0 0 (g_z (t_Kv o ad Q)) 0 0 430 [(0, .ref o), (1, .int x1), (2, .int x2), (3, .int x3), (4, .int x4)] [] (t_map o ad s) := by
  unfold wX3_laySteps_430 at w
  refine e_iconst (n := 431) (v := 0) dX3_laySteps_430 rfl (by decide) ?_
  refine e_istore (n := 433) (lv' := [(0, .ref o), (1, .int x1), (2, .int x2), (3, .int x3), (4, .int x4), (5, .int 0)]) [1, 2, 3, 4, 5, 0] dX3_laySteps_431 rfl rfl rfl ?_
  obtain ⟨fu, w⟩ := w
  refine hX3_laySteps_433 ok (fun s_16 w => ?_) fu _ _ _ _ _ _ w
  exact e_vret rfl (Nat.le_refl _) (Nat.le_refl _) ⟨_, rfl, rfl, w⟩ dX3_laySteps_546
set_option maxHeartbeats 4000000 in
theorem hX3_laySteps_385 {o : Nat} {ad : Nat → Nat} (ok : t_ok o ad) {Q : TS → Prop}  (x1 : Int32) (x2 : Int32) (x3 : Int32) (x4 : Int32) (s : TS) (w : wX3_laySteps_385 Q x1 x2 x3 x4 s) : E mX3_laySteps 3 0 0 (g_z (t_Kv o ad Q)) 0 0 385 [(0, .ref o), (1, .int x1), (2, .int x2), (3, .int x3), (4, .int x4)] [] (t_map o ad s) := by
  unfold wX3_laySteps_385 at w
  refine e_iload (n := 387) dX3_laySteps_385 rfl 4 rfl ?_
  refine e_iload_n (n := 388) dX3_laySteps_387 rfl 3 rfl ?_
  refine e_icmp_eq (n := 391) (tgt := 430) dX3_laySteps_388 rfl (by decide) (fun h => ?_) (fun h => ?_)
  · have w := w.1 h
    exact hX3_laySteps_430 ok _ _ _ _ _ w
  · have w := w.2 h
    refine e_aload_n (n := 392) dX3_laySteps_391 rfl 0 rfl ?_
    refine t_getI (n := 395) 33 rfl rfl q1367 dX3_laySteps_392 rfl ?_
    refine e_iconst (n := 396) (v := 2) dX3_laySteps_395 rfl (by decide) ?_
    refine e_icmp_eq (n := 399) (tgt := 430) dX3_laySteps_396 rfl (by decide) (fun h => ?_) (fun h => ?_)
    · have w := w.1 h
      exact hX3_laySteps_430 ok _ _ _ _ _ w
    · have w := w.2 h
      refine e_aload_n (n := 400) dX3_laySteps_399 rfl 0 rfl ?_
      refine t_getI (n := 403) 33 rfl rfl q1367 dX3_laySteps_400 rfl ?_
      refine e_iconst (n := 404) (v := 4) dX3_laySteps_403 rfl (by decide) ?_
      refine e_icmp_eq (n := 407) (tgt := 430) dX3_laySteps_404 rfl (by decide) (fun h => ?_) (fun h => ?_)
      · have w := w.1 h
        exact hX3_laySteps_430 ok _ _ _ _ _ w
      · have w := w.2 h
        refine e_aload_n (n := 408) dX3_laySteps_407 rfl 0 rfl ?_
        refine e_iload_n (n := 409) dX3_laySteps_408 rfl 3 rfl ?_
        refine e_aload_n (n := 410) dX3_laySteps_409 rfl 0 rfl ?_
        refine e_iconst (n := 411) (v := 1) dX3_laySteps_410 rfl (by decide) ?_
        refine e_iload_n (n := 412) dX3_laySteps_411 rfl 1 rfl ?_
        refine e_iconst (n := 413) (v := 0) dX3_laySteps_412 rfl (by decide) ?_
        refine t_callV (n := 416) (As := [.int 1, .int x1, .int 0]) (st := [.int x3, .ref o]) okX3_specialAt q1617 q1619 qs41 q1620 rfl (by decide) (Nat.le_refl _) (Nat.le_refl _) rfl rfl rfl dX3_laySteps_413 rfl (ctX3_specialAt ok w) (fun r9 σ9 hk => ?_)
        obtain ⟨r_25, s_24, rfl, rfl, w⟩ := hk
        refine e_aload_n (n := 417) dX3_laySteps_416 rfl 0 rfl ?_
        refine t_getR (n := 420) 32 rfl (by decide) q1366 dX3_laySteps_417 rfl ?_
        refine e_iload_n (n := 421) dX3_laySteps_420 rfl 1 rfl ?_
        refine e_iconst (n := 422) (v := 2) dX3_laySteps_421 rfl (by decide) ?_
        refine e_iadd (n := 423) dX3_laySteps_422 rfl ?_
        obtain ⟨wi, w⟩ := w
        refine t_iald (n := 424) ok 32 rfl rfl (N := 12) rfl wi dX3_laySteps_423 rfl ?_
        refine e_iconst (n := 425) (v := 0) dX3_laySteps_424 rfl (by decide) ?_
        refine e_iconst (n := 426) (v := 0) dX3_laySteps_425 rfl (by decide) ?_
        refine e_iconst (n := 427) (v := 0) dX3_laySteps_426 rfl (by decide) ?_
        refine t_callV (n := 430) (As := [.int x3, .int r_25, .int (s_24.2.1 32 (x1 + 2).toNatClampNeg), .int 0, .int 0, .int 0]) (st := []) okX3_step q1609 q1611 qs39 q1612 rfl (by decide) (Nat.le_refl _) (Nat.le_refl _) rfl rfl rfl dX3_laySteps_427 rfl (ctX3_step ok w) (fun r9 σ9 hk => ?_)
        obtain ⟨s_26, rfl, rfl, w⟩ := hk
        exact hX3_laySteps_430 ok _ _ _ _ _ w
set_option maxHeartbeats 4000000 in
theorem hX3_laySteps_321 {o : Nat} {ad : Nat → Nat} (ok : t_ok o ad) {Q : TS → Prop} {kh : Int32 → Int32 → Int32 → Int32 → TS → Prop} (hkh : ∀ (x1 : Int32) (x2 : Int32) (x3 : Int32) (x4 : Int32) (s : TS), kh x1 x2 x3 x4 s → E mX3_laySteps 3 0 0 (g_z (t_Kv o ad Q)) 0 0 156 [(0, .ref o), (1, .int x1), (2, .int x2), (3, .int x3), (4, .int x4)] [] (t_map o ad s)) {k327 : Int32 → Int32 → Int32 → TS → Prop} (hk327 : ∀ (x1 : Int32) (x2 : Int32) (x3 : Int32) (s : TS), k327 x1 x2 x3 s → E mX3_laySteps 3 0 0 (g_z (t_Kv o ad Q)) 0 0 327 [(0, .ref o), (1, .int x1), (2, .int x2), (3, .int x3)] [] (t_map o ad s)) (x1 : Int32) (x2 : Int32) (x3 : Int32) (x4 : Int32) (s : TS) (w : wX3_laySteps_321 Q kh k327 x1 x2 x3 x4 s) : E mX3_laySteps 3 0 0 (g_z (t_Kv o ad Q)) 0 0 321 [(0, .ref o), (1, .int x1), (2, .int x2), (3, .int x3), (4, .int x4)] [] (t_map o ad s) := by
  unfold wX3_laySteps_321 at w
  obtain ⟨x4_34, hx4_34⟩ : ∃ y : Int32, y = x4 + 1 := ⟨_, rfl⟩
  have w := w x4_34 hx4_34
  refine e_iinc (n := 324) (v := x4_34) (lv' := [(0, .ref o), (1, .int x1), (2, .int x2), (3, .int x3), (4, .int x4_34)]) [1, 2, 3, 4, 0] dX3_laySteps_321 rfl 4 rfl (by rw [hx4_34]; rfl) rfl rfl ?_
  refine e_goto (n := 156) dX3_laySteps_324 (by decide) ?_
  exact hkh _ _ _ _ _ w
set_option maxHeartbeats 4000000 in
theorem hX3_laySteps_265 {o : Nat} {ad : Nat → Nat} (ok : t_ok o ad) {Q : TS → Prop} {kh : Int32 → Int32 → Int32 → Int32 → TS → Prop} (hkh : ∀ (x1 : Int32) (x2 : Int32) (x3 : Int32) (x4 : Int32) (s : TS), kh x1 x2 x3 x4 s → E mX3_laySteps 3 0 0 (g_z (t_Kv o ad Q)) 0 0 156 [(0, .ref o), (1, .int x1), (2, .int x2), (3, .int x3), (4, .int x4)] [] (t_map o ad s)) {k327 : Int32 → Int32 → Int32 → TS → Prop} (hk327 : ∀ (x1 : Int32) (x2 : Int32) (x3 : Int32) (s : TS), k327 x1 x2 x3 s → E mX3_laySteps 3 0 0 (g_z (t_Kv o ad Q)) 0 0 327 [(0, .ref o), (1, .int x1), (2, .int x2), (3, .int x3)] [] (t_map o ad s)) (x1 : Int32) (x2 : Int32) (x3 : Int32) (x4 : Int32) (x6 : Int32) (s : TS) (w : wX3_laySteps_265 Q kh k327 x1 x2 x3 x4 x6 s) : E mX3_laySteps 3 0 0 (g_z (t_Kv o ad Q)) 0 0 265 [(0, .ref o), (1, .int x1), (2, .int x2), (3, .int x3), (4, .int x4), (6, .int x6)] [] (t_map o ad s) := by
  unfold wX3_laySteps_265 at w
  refine e_aload_n (n := 266) dX3_laySteps_265 rfl 0 rfl ?_
  refine t_getR (n := 269) 12 rfl (by decide) q1346 dX3_laySteps_266 rfl ?_
  refine e_iconst (n := 270) (v := 4) dX3_laySteps_269 rfl (by decide) ?_
  refine e_iload (n := 272) dX3_laySteps_270 rfl 4 rfl ?_
  refine e_imul (n := 273) dX3_laySteps_272 rfl ?_
  refine e_iconst (n := 274) (v := 2) dX3_laySteps_273 rfl (by decide) ?_
  refine e_iadd (n := 275) dX3_laySteps_274 rfl ?_
  obtain ⟨wi, w⟩ := w
  refine t_iald (n := 276) ok 12 rfl rfl (N := 24) rfl wi dX3_laySteps_275 rfl ?_
  refine e_iload_n (n := 277) dX3_laySteps_276 rfl 3 rfl ?_
  refine e_icmp_ne (n := 280) (tgt := 321) dX3_laySteps_277 rfl (by decide) (fun h => ?_) (fun h => ?_)
  · have w := w.2 h
    refine e_sub (lv' := [(0, .ref o), (1, .int x1), (2, .int x2), (3, .int x3), (4, .int x4)]) [0, 1, 2, 3, 4] rfl ?_
    exact hX3_laySteps_321 ok hkh hk327 _ _ _ _ _ w
  · have w := w.1 h
    refine e_aload_n (n := 281) dX3_laySteps_280 rfl 0 rfl ?_
    refine t_getI (n := 284) 33 rfl rfl q1367 dX3_laySteps_281 rfl ?_
    refine e_iconst (n := 285) (v := 2) dX3_laySteps_284 rfl (by decide) ?_
    refine e_icmp_eq (n := 288) (tgt := 321) dX3_laySteps_285 rfl (by decide) (fun h => ?_) (fun h => ?_)
    · have w := w.1 h
      refine e_sub (lv' := [(0, .ref o), (1, .int x1), (2, .int x2), (3, .int x3), (4, .int x4)]) [0, 1, 2, 3, 4] rfl ?_
      exact hX3_laySteps_321 ok hkh hk327 _ _ _ _ _ w
    · have w := w.2 h
      refine e_aload_n (n := 289) dX3_laySteps_288 rfl 0 rfl ?_
      refine t_getI (n := 292) 33 rfl rfl q1367 dX3_laySteps_289 rfl ?_
      refine e_iconst (n := 293) (v := 4) dX3_laySteps_292 rfl (by decide) ?_
      refine e_icmp_eq (n := 296) (tgt := 321) dX3_laySteps_293 rfl (by decide) (fun h => ?_) (fun h => ?_)
      · have w := w.1 h
        refine e_sub (lv' := [(0, .ref o), (1, .int x1), (2, .int x2), (3, .int x3), (4, .int x4)]) [0, 1, 2, 3, 4] rfl ?_
        exact hX3_laySteps_321 ok hkh hk327 _ _ _ _ _ w
      · have w := w.2 h
        refine e_aload_n (n := 297) dX3_laySteps_296 rfl 0 rfl ?_
        refine e_iload (n := 299) dX3_laySteps_297 rfl 5 rfl ?_
        refine e_aload_n (n := 300) dX3_laySteps_299 rfl 0 rfl ?_
        refine e_iconst (n := 301) (v := 2) dX3_laySteps_300 rfl (by decide) ?_
        refine e_iload_n (n := 302) dX3_laySteps_301 rfl 1 rfl ?_
        refine e_iload (n := 304) dX3_laySteps_302 rfl 4 rfl ?_
        refine t_callV (n := 307) (As := [.int 2, .int x1, .int x4]) (st := [.int x6, .ref o]) okX3_specialAt q1617 q1619 qs41 q1620 rfl (by decide) (Nat.le_refl _) (Nat.le_refl _) rfl rfl rfl dX3_laySteps_304 rfl (ctX3_specialAt ok w) (fun r9 σ9 hk => ?_)
        obtain ⟨r_36, s_35, rfl, rfl, w⟩ := hk
        refine e_aload_n (n := 308) dX3_laySteps_307 rfl 0 rfl ?_
        refine t_getR (n := 311) 32 rfl (by decide) q1366 dX3_laySteps_308 rfl ?_
        refine e_iload_n (n := 312) dX3_laySteps_311 rfl 1 rfl ?_
        refine e_iconst (n := 313) (v := 1) dX3_laySteps_312 rfl (by decide) ?_
        refine e_iadd (n := 314) dX3_laySteps_313 rfl ?_
        obtain ⟨wi, w⟩ := w
        refine t_iald (n := 315) ok 32 rfl rfl (N := 12) rfl wi dX3_laySteps_314 rfl ?_
        refine e_iconst (n := 316) (v := 0) dX3_laySteps_315 rfl (by decide) ?_
        refine e_iconst (n := 317) (v := 0) dX3_laySteps_316 rfl (by decide) ?_
        refine e_iconst (n := 318) (v := 0) dX3_laySteps_317 rfl (by decide) ?_
        refine t_callV (n := 321) (As := [.int x6, .int r_36, .int (s_35.2.1 32 (x1 + 1).toNatClampNeg), .int 0, .int 0, .int 0]) (st := []) okX3_step q1609 q1611 qs39 q1612 rfl (by decide) (Nat.le_refl _) (Nat.le_refl _) rfl rfl rfl dX3_laySteps_318 rfl (ctX3_step ok w) (fun r9 σ9 hk => ?_)
        obtain ⟨s_37, rfl, rfl, w⟩ := hk
        refine e_sub (lv' := [(0, .ref o), (1, .int x1), (2, .int x2), (3, .int x3), (4, .int x4)]) [0, 1, 2, 3, 4] rfl ?_
        exact hX3_laySteps_321 ok hkh hk327 _ _ _ _ _ w
set_option maxHeartbeats 4000000 in
theorem hX3_laySteps_156 {o : Nat} {ad : Nat → Nat} (ok : t_ok o ad) {Q : TS → Prop} {k327 : Int32 → Int32 → Int32 → TS → Prop} (hk327 : ∀ (x1 : Int32) (x2 : Int32) (x3 : Int32) (s : TS), k327 x1 x2 x3 s → E mX3_laySteps 3 0 0 (g_z (t_Kv o ad Q)) 0 0 327 [(0, .ref o), (1, .int x1), (2, .int x2), (3, .int x3)] [] (t_map o ad s)) : ∀ (n : Nat) (x1 : Int32) (x2 : Int32) (x3 : Int32) (x4 : Int32) (s : TS), wX3_laySteps_156 Q k327 n x1 x2 x3 x4 s → E mX3_laySteps 3 0 0 (g_z (t_Kv o ad Q)) 0 0 156 [(0, .ref o), (1, .int x1), (2, .int x2), (3, .int x3), (4, .int x4)] [] (t_map o ad s) := by
  intro n
  induction n with
  | zero =>
    intro _ _ _ _ _ w
    exact w.elim
  | succ n ih =>
    intro x1 x2 x3 x4 s w
    unfold wX3_laySteps_156 at w
    refine e_iload (n := 158) dX3_laySteps_156 rfl 4 rfl ?_
    refine e_aload_n (n := 159) dX3_laySteps_158 rfl 0 rfl ?_
    refine t_getR (n := 162) 11 rfl (by decide) q1345 dX3_laySteps_159 rfl ?_
    refine e_iconst (n := 163) (v := 0) dX3_laySteps_162 rfl (by decide) ?_
    obtain ⟨wi, w⟩ := w
    refine t_iald (n := 164) ok 11 rfl rfl (N := 2) rfl wi dX3_laySteps_163 rfl ?_
    refine e_icmp_ge (n := 167) (tgt := 327) dX3_laySteps_164 rfl (by decide) (fun h => ?_) (fun h => ?_)
    · have w := w.1 h
      refine e_sub (lv' := [(0, .ref o), (1, .int x1), (2, .int x2), (3, .int x3)]) [0, 1, 2, 3] rfl ?_
      exact hk327 _ _ _ _ w
    · have w := w.2 h
      refine e_aload_n (n := 168) dX3_laySteps_167 rfl 0 rfl ?_
      refine t_getR (n := 171) 12 rfl (by decide) q1346 dX3_laySteps_168 rfl ?_
      refine e_iconst (n := 172) (v := 4) dX3_laySteps_171 rfl (by decide) ?_
      refine e_iload (n := 174) dX3_laySteps_172 rfl 4 rfl ?_
      refine e_imul (n := 175) dX3_laySteps_174 rfl ?_
      obtain ⟨wi, w⟩ := w
      refine t_iald (n := 176) ok 12 rfl rfl (N := 24) rfl wi dX3_laySteps_175 rfl ?_
      refine e_topi (fun x5_32 hx5_32 => ?_)
      have w := w x5_32 hx5_32
      refine e_istore (n := 178) (lv' := [(0, .ref o), (1, .int x1), (2, .int x2), (3, .int x3), (4, .int x4), (5, .int x5_32)]) [1, 2, 3, 4, 5, 0] dX3_laySteps_176 rfl rfl rfl ?_
      refine e_aload_n (n := 179) dX3_laySteps_178 rfl 0 rfl ?_
      refine t_getR (n := 182) 12 rfl (by decide) q1346 dX3_laySteps_179 rfl ?_
      refine e_iconst (n := 183) (v := 4) dX3_laySteps_182 rfl (by decide) ?_
      refine e_iload (n := 185) dX3_laySteps_183 rfl 4 rfl ?_
      refine e_imul (n := 186) dX3_laySteps_185 rfl ?_
      refine e_iconst (n := 187) (v := 1) dX3_laySteps_186 rfl (by decide) ?_
      refine e_iadd (n := 188) dX3_laySteps_187 rfl ?_
      obtain ⟨wi, w⟩ := w
      refine t_iald (n := 189) ok 12 rfl rfl (N := 24) rfl wi dX3_laySteps_188 rfl ?_
      refine e_topi (fun x6_33 hx6_33 => ?_)
      have w := w x6_33 hx6_33
      refine e_istore (n := 191) (lv' := [(0, .ref o), (1, .int x1), (2, .int x2), (3, .int x3), (4, .int x4), (5, .int x5_32), (6, .int x6_33)]) [1, 2, 3, 4, 5, 6, 0] dX3_laySteps_189 rfl rfl rfl ?_
      refine e_aload_n (n := 192) dX3_laySteps_191 rfl 0 rfl ?_
      refine t_getR (n := 195) 12 rfl (by decide) q1346 dX3_laySteps_192 rfl ?_
      refine e_iconst (n := 196) (v := 4) dX3_laySteps_195 rfl (by decide) ?_
      refine e_iload (n := 198) dX3_laySteps_196 rfl 4 rfl ?_
      refine e_imul (n := 199) dX3_laySteps_198 rfl ?_
      refine e_iconst (n := 200) (v := 2) dX3_laySteps_199 rfl (by decide) ?_
      refine e_iadd (n := 201) dX3_laySteps_200 rfl ?_
      obtain ⟨wi, w⟩ := w
      refine t_iald (n := 202) ok 12 rfl rfl (N := 24) rfl wi dX3_laySteps_201 rfl ?_
      refine e_iload_n (n := 203) dX3_laySteps_202 rfl 3 rfl ?_
      refine e_icmp_ne (n := 206) (tgt := 265) dX3_laySteps_203 rfl (by decide) (fun h => ?_) (fun h => ?_)
      · have w := w.2 h
        refine e_sub (lv' := [(0, .ref o), (1, .int x1), (2, .int x2), (3, .int x3), (4, .int x4), (6, .int x6_33)]) [0, 1, 2, 3, 4, 6] rfl ?_
        exact hX3_laySteps_265 ok ih hk327 _ _ _ _ _ _ w
      · have w := w.1 h
        refine e_aload_n (n := 207) dX3_laySteps_206 rfl 0 rfl ?_
        refine e_iload (n := 209) dX3_laySteps_207 rfl 5 rfl ?_
        refine t_callV (n := 212) (As := [.int x5_32]) (st := []) okX3_isFenced q1597 q1599 qs36 q1600 rfl (by decide) (Nat.le_refl _) (Nat.le_refl _) rfl rfl rfl dX3_laySteps_209 rfl (ctX3_isFenced ok w) (fun r9 σ9 hk => ?_)
        obtain ⟨r_39, s_38, rfl, rfl, w⟩ := hk
        refine e_if_ne (n := 215) (tgt := 265) dX3_laySteps_212 rfl (by decide) (fun h => ?_) (fun h => ?_)
        · have w := w.2 h
          refine e_sub (lv' := [(0, .ref o), (1, .int x1), (2, .int x2), (3, .int x3), (4, .int x4), (6, .int x6_33)]) [0, 1, 2, 3, 4, 6] rfl ?_
          exact hX3_laySteps_265 ok ih hk327 _ _ _ _ _ _ w
        · have w := w.1 h
          refine e_aload_n (n := 216) dX3_laySteps_215 rfl 0 rfl ?_
          refine e_iload (n := 218) dX3_laySteps_216 rfl 6 rfl ?_
          refine t_callV (n := 221) (As := [.int x6_33]) (st := []) okX3_isFenced q1597 q1599 qs36 q1600 rfl (by decide) (Nat.le_refl _) (Nat.le_refl _) rfl rfl rfl dX3_laySteps_218 rfl (ctX3_isFenced ok w) (fun r9 σ9 hk => ?_)
          obtain ⟨r_41, s_40, rfl, rfl, w⟩ := hk
          refine e_if_ne (n := 224) (tgt := 265) dX3_laySteps_221 rfl (by decide) (fun h => ?_) (fun h => ?_)
          · have w := w.2 h
            refine e_sub (lv' := [(0, .ref o), (1, .int x1), (2, .int x2), (3, .int x3), (4, .int x4), (6, .int x6_33)]) [0, 1, 2, 3, 4, 6] rfl ?_
            exact hX3_laySteps_265 ok ih hk327 _ _ _ _ _ _ w
          · have w := w.1 h
            refine e_aload_n (n := 225) dX3_laySteps_224 rfl 0 rfl ?_
            refine e_iconst (n := 226) (v := 4) dX3_laySteps_225 rfl (by decide) ?_
            refine e_iload_n (n := 227) dX3_laySteps_226 rfl 1 rfl ?_
            refine e_iconst (n := 228) (v := 1) dX3_laySteps_227 rfl (by decide) ?_
            refine e_iload (n := 230) dX3_laySteps_228 rfl 4 rfl ?_
            refine t_callV (n := 233) (As := [.int 4, .int x1, .int 1, .int x4]) (st := []) okX3_mayBe q1593 q1595 qs35 q1596 rfl (by decide) (Nat.le_refl _) (Nat.le_refl _) rfl rfl rfl dX3_laySteps_230 rfl (ctX3_mayBe ok w) (fun r9 σ9 hk => ?_)
            obtain ⟨r_43, s_42, rfl, rfl, w⟩ := hk
            refine e_if_eq (n := 236) (tgt := 265) dX3_laySteps_233 rfl (by decide) (fun h => ?_) (fun h => ?_)
            · have w := w.1 h
              refine e_sub (lv' := [(0, .ref o), (1, .int x1), (2, .int x2), (3, .int x3), (4, .int x4), (6, .int x6_33)]) [0, 1, 2, 3, 4, 6] rfl ?_
              exact hX3_laySteps_265 ok ih hk327 _ _ _ _ _ _ w
            · have w := w.2 h
              refine e_aload_n (n := 237) dX3_laySteps_236 rfl 0 rfl ?_
              refine e_iload (n := 239) dX3_laySteps_237 rfl 5 rfl ?_
              refine e_iload_n (n := 240) dX3_laySteps_239 rfl 2 rfl ?_
              refine e_aload_n (n := 241) dX3_laySteps_240 rfl 0 rfl ?_
              refine e_iconst (n := 242) (v := 2) dX3_laySteps_241 rfl (by decide) ?_
              refine e_iload_n (n := 243) dX3_laySteps_242 rfl 1 rfl ?_
              refine e_iload (n := 245) dX3_laySteps_243 rfl 4 rfl ?_
              refine t_callV (n := 248) (As := [.int 2, .int x1, .int x4]) (st := [.int x2, .int x5_32, .ref o]) okX3_specialAt q1617 q1619 qs41 q1620 rfl (by decide) (Nat.le_refl _) (Nat.le_refl _) rfl rfl rfl dX3_laySteps_245 rfl (ctX3_specialAt ok w) (fun r9 σ9 hk => ?_)
              obtain ⟨r_45, s_44, rfl, rfl, w⟩ := hk
              refine e_aload_n (n := 249) dX3_laySteps_248 rfl 0 rfl ?_
              refine t_getR (n := 252) 12 rfl (by decide) q1346 dX3_laySteps_249 rfl ?_
              refine e_iconst (n := 253) (v := 4) dX3_laySteps_252 rfl (by decide) ?_
              refine e_iload (n := 255) dX3_laySteps_253 rfl 4 rfl ?_
              refine e_imul (n := 256) dX3_laySteps_255 rfl ?_
              refine e_iconst (n := 257) (v := 3) dX3_laySteps_256 rfl (by decide) ?_
              refine e_iadd (n := 258) dX3_laySteps_257 rfl ?_
              obtain ⟨wi, w⟩ := w
              refine t_iald (n := 259) ok 12 rfl rfl (N := 24) rfl wi dX3_laySteps_258 rfl ?_
              refine e_iconst (n := 260) (v := 4) dX3_laySteps_259 rfl (by decide) ?_
              refine e_iload (n := 262) dX3_laySteps_260 rfl 4 rfl ?_
              refine t_callV (n := 265) (As := [.int x5_32, .int x2, .int r_45, .int (s_44.2.1 12 ((4 * x4) + 3).toNatClampNeg), .int 4, .int x4]) (st := []) okX3_step q1609 q1611 qs39 q1612 rfl (by decide) (Nat.le_refl _) (Nat.le_refl _) rfl rfl rfl dX3_laySteps_262 rfl (ctX3_step ok w) (fun r9 σ9 hk => ?_)
              obtain ⟨s_46, rfl, rfl, w⟩ := hk
              refine e_sub (lv' := [(0, .ref o), (1, .int x1), (2, .int x2), (3, .int x3), (4, .int x4), (6, .int x6_33)]) [0, 1, 2, 3, 4, 6] rfl ?_
              exact hX3_laySteps_265 ok ih hk327 _ _ _ _ _ _ w
set_option maxHeartbeats 4000000 in
theorem hX3_laySteps_147 {o : Nat} {ad : Nat → Nat} (ok : t_ok o ad) {Q : TS → Prop} {kh : Int32 → Int32 → Int32 → Int32 → TS → Prop} (hkh : ∀ (x1 : Int32) (x2 : Int32) (x3 : Int32) (x4 : Int32) (s : TS), kh x1 x2 x3 x4 s → E mX3_laySteps 3 0 0 (g_z (t_Kv o ad Q)) 0 0 85 [(0, .ref o), (1, .int x1), (2, .int x2), (3, .int x3), (4, .int x4)] [] (t_map o ad s)) {k153 : Int32 → Int32 → Int32 → TS → Prop} (hk153 : ∀ (x1 : Int32) (x2 : Int32) (x3 : Int32) (s : TS), k153 x1 x2 x3 s → E mX3_laySteps 3 0 0 (g_z (t_Kv o ad Q)) 0 0 153 [(0, .ref o), (1, .int x1), (2, .int x2), (3, .int x3)] [] (t_map o ad s)) (x1 : Int32) (x2 : Int32) (x3 : Int32) (x4 : Int32) (s : TS) (w : wX3_laySteps_147 Q kh k153 x1 x2 x3 x4 s) : E mX3_laySteps 3 0 0 (g_z (t_Kv o ad Q)) 0 0 147 [(0, .ref o), (1, .int x1), (2, .int x2), (3, .int x3), (4, .int x4)] [] (t_map o ad s) := by
  unfold wX3_laySteps_147 at w
  obtain ⟨x4_47, hx4_47⟩ : ∃ y : Int32, y = x4 + 1 := ⟨_, rfl⟩
  have w := w x4_47 hx4_47
  refine e_iinc (n := 150) (v := x4_47) (lv' := [(0, .ref o), (1, .int x1), (2, .int x2), (3, .int x3), (4, .int x4_47)]) [1, 2, 3, 4, 0] dX3_laySteps_147 rfl 4 rfl (by rw [hx4_47]; rfl) rfl rfl ?_
  refine e_goto (n := 85) dX3_laySteps_150 (by decide) ?_
  exact hkh _ _ _ _ _ w
set_option maxHeartbeats 4000000 in
theorem hX3_laySteps_85 {o : Nat} {ad : Nat → Nat} (ok : t_ok o ad) {Q : TS → Prop} {k153 : Int32 → Int32 → Int32 → TS → Prop} (hk153 : ∀ (x1 : Int32) (x2 : Int32) (x3 : Int32) (s : TS), k153 x1 x2 x3 s → E mX3_laySteps 3 0 0 (g_z (t_Kv o ad Q)) 0 0 153 [(0, .ref o), (1, .int x1), (2, .int x2), (3, .int x3)] [] (t_map o ad s)) : ∀ (n : Nat) (x1 : Int32) (x2 : Int32) (x3 : Int32) (x4 : Int32) (s : TS), wX3_laySteps_85 Q k153 n x1 x2 x3 x4 s → E mX3_laySteps 3 0 0 (g_z (t_Kv o ad Q)) 0 0 85 [(0, .ref o), (1, .int x1), (2, .int x2), (3, .int x3), (4, .int x4)] [] (t_map o ad s) := by
  intro n
  induction n with
  | zero =>
    intro _ _ _ _ _ w
    exact w.elim
  | succ n ih =>
    intro x1 x2 x3 x4 s w
    unfold wX3_laySteps_85 at w
    refine e_iload (n := 87) dX3_laySteps_85 rfl 4 rfl ?_
    refine e_aload_n (n := 88) dX3_laySteps_87 rfl 0 rfl ?_
    refine t_getI (n := 91) 0 rfl rfl q1334 dX3_laySteps_88 rfl ?_
    refine e_icmp_ge (n := 94) (tgt := 153) dX3_laySteps_91 rfl (by decide) (fun h => ?_) (fun h => ?_)
    · have w := w.1 h
      refine e_sub (lv' := [(0, .ref o), (1, .int x1), (2, .int x2), (3, .int x3)]) [0, 1, 2, 3] rfl ?_
      exact hk153 _ _ _ _ w
    · have w := w.2 h
      refine e_iload (n := 96) dX3_laySteps_94 rfl 4 rfl ?_
      refine e_iload_n (n := 97) dX3_laySteps_96 rfl 3 rfl ?_
      refine e_icmp_eq (n := 100) (tgt := 147) dX3_laySteps_97 rfl (by decide) (fun h => ?_) (fun h => ?_)
      · have w := w.1 h
        exact hX3_laySteps_147 ok ih hk153 _ _ _ _ _ w
      · have w := w.2 h
        refine e_aload_n (n := 101) dX3_laySteps_100 rfl 0 rfl ?_
        refine e_iload (n := 103) dX3_laySteps_101 rfl 4 rfl ?_
        refine t_callV (n := 106) (As := [.int x4]) (st := []) okX3_isFenced q1597 q1599 qs36 q1600 rfl (by decide) (Nat.le_refl _) (Nat.le_refl _) rfl rfl rfl dX3_laySteps_103 rfl (ctX3_isFenced ok w) (fun r9 σ9 hk => ?_)
        obtain ⟨r_49, s_48, rfl, rfl, w⟩ := hk
        refine e_if_ne (n := 109) (tgt := 147) dX3_laySteps_106 rfl (by decide) (fun h => ?_) (fun h => ?_)
        · have w := w.2 h
          exact hX3_laySteps_147 ok ih hk153 _ _ _ _ _ w
        · have w := w.1 h
          refine e_aload_n (n := 110) dX3_laySteps_109 rfl 0 rfl ?_
          refine e_iconst (n := 111) (v := 2) dX3_laySteps_110 rfl (by decide) ?_
          refine e_iload_n (n := 112) dX3_laySteps_111 rfl 1 rfl ?_
          refine e_iconst (n := 113) (v := 1) dX3_laySteps_112 rfl (by decide) ?_
          refine e_iload (n := 115) dX3_laySteps_113 rfl 4 rfl ?_
          refine t_callV (n := 118) (As := [.int 2, .int x1, .int 1, .int x4]) (st := []) okX3_mayBe q1593 q1595 qs35 q1596 rfl (by decide) (Nat.le_refl _) (Nat.le_refl _) rfl rfl rfl dX3_laySteps_115 rfl (ctX3_mayBe ok w) (fun r9 σ9 hk => ?_)
          obtain ⟨r_51, s_50, rfl, rfl, w⟩ := hk
          refine e_if_eq (n := 121) (tgt := 147) dX3_laySteps_118 rfl (by decide) (fun h => ?_) (fun h => ?_)
          · have w := w.1 h
            exact hX3_laySteps_147 ok ih hk153 _ _ _ _ _ w
          · have w := w.2 h
            refine e_aload_n (n := 122) dX3_laySteps_121 rfl 0 rfl ?_
            refine e_iload (n := 124) dX3_laySteps_122 rfl 4 rfl ?_
            refine e_iload_n (n := 125) dX3_laySteps_124 rfl 2 rfl ?_
            refine e_aload_n (n := 126) dX3_laySteps_125 rfl 0 rfl ?_
            refine t_getR (n := 129) 32 rfl (by decide) q1366 dX3_laySteps_126 rfl ?_
            refine e_iload_n (n := 130) dX3_laySteps_129 rfl 1 rfl ?_
            refine e_iconst (n := 131) (v := 1) dX3_laySteps_130 rfl (by decide) ?_
            refine e_iadd (n := 132) dX3_laySteps_131 rfl ?_
            obtain ⟨wi, w⟩ := w
            refine t_iald (n := 133) ok 32 rfl rfl (N := 12) rfl wi dX3_laySteps_132 rfl ?_
            refine e_aload_n (n := 134) dX3_laySteps_133 rfl 0 rfl ?_
            refine t_getR (n := 137) 2 rfl (by decide) q1336 dX3_laySteps_134 rfl ?_
            refine e_bipush (n := 139) (v := 24) dX3_laySteps_137 rfl (by decide) ?_
            refine e_iload_n (n := 140) dX3_laySteps_139 rfl 3 rfl ?_
            refine e_iadd (n := 141) dX3_laySteps_140 rfl ?_
            obtain ⟨wi, w⟩ := w
            refine t_iald (n := 142) ok 2 rfl rfl (N := 36) rfl wi dX3_laySteps_141 rfl ?_
            refine e_iconst (n := 143) (v := 2) dX3_laySteps_142 rfl (by decide) ?_
            refine e_iconst (n := 144) (v := 0) dX3_laySteps_143 rfl (by decide) ?_
            refine t_callV (n := 147) (As := [.int x4, .int x2, .int (s_50.2.1 32 (x1 + 1).toNatClampNeg), .int (s_50.2.1 2 (24 + x3).toNatClampNeg), .int 2, .int 0]) (st := []) okX3_step q1609 q1611 qs39 q1612 rfl (by decide) (Nat.le_refl _) (Nat.le_refl _) rfl rfl rfl dX3_laySteps_144 rfl (ctX3_step ok w) (fun r9 σ9 hk => ?_)
            obtain ⟨s_52, rfl, rfl, w⟩ := hk
            exact hX3_laySteps_147 ok ih hk153 _ _ _ _ _ w
set_option maxHeartbeats 4000000 in
theorem hX3_laySteps_43 {o : Nat} {ad : Nat → Nat} (ok : t_ok o ad) {Q : TS → Prop} {kh : Int32 → Int32 → Int32 → TS → Prop} (hkh : ∀ (x1 : Int32) (x2 : Int32) (x3 : Int32) (s : TS), kh x1 x2 x3 s → E mX3_laySteps 3 0 0 (g_z (t_Kv o ad Q)) 0 0 9 [(0, .ref o), (1, .int x1), (2, .int x2), (3, .int x3)] [] (t_map o ad s)) {k49 : Int32 → Int32 → TS → Prop} (hk49 : ∀ (x1 : Int32) (x2 : Int32) (s : TS), k49 x1 x2 s → E mX3_laySteps 3 0 0 (g_z (t_Kv o ad Q)) 0 0 49 [(0, .ref o), (1, .int x1), (2, .int x2)] [] (t_map o ad s)) (x1 : Int32) (x2 : Int32) (x3 : Int32) (s : TS) (w : wX3_laySteps_43 Q kh k49 x1 x2 x3 s) : E mX3_laySteps 3 0 0 (g_z (t_Kv o ad Q)) 0 0 43 [(0, .ref o), (1, .int x1), (2, .int x2), (3, .int x3)] [] (t_map o ad s) := by
  unfold wX3_laySteps_43 at w
  obtain ⟨x3_55, hx3_55⟩ : ∃ y : Int32, y = x3 + 1 := ⟨_, rfl⟩
  have w := w x3_55 hx3_55
  refine e_iinc (n := 46) (v := x3_55) (lv' := [(0, .ref o), (1, .int x1), (2, .int x2), (3, .int x3_55)]) [1, 2, 3, 0] dX3_laySteps_43 rfl 3 rfl (by rw [hx3_55]; rfl) rfl rfl ?_
  refine e_goto (n := 9) dX3_laySteps_46 (by decide) ?_
  exact hkh _ _ _ _ w
set_option maxHeartbeats 4000000 in
theorem hX3_laySteps_9 {o : Nat} {ad : Nat → Nat} (ok : t_ok o ad) {Q : TS → Prop} {k49 : Int32 → Int32 → TS → Prop} (hk49 : ∀ (x1 : Int32) (x2 : Int32) (s : TS), k49 x1 x2 s → E mX3_laySteps 3 0 0 (g_z (t_Kv o ad Q)) 0 0 49 [(0, .ref o), (1, .int x1), (2, .int x2)] [] (t_map o ad s)) : ∀ (n : Nat) (x1 : Int32) (x2 : Int32) (x3 : Int32) (s : TS), wX3_laySteps_9 Q k49 n x1 x2 x3 s → E mX3_laySteps 3 0 0 (g_z (t_Kv o ad Q)) 0 0 9 [(0, .ref o), (1, .int x1), (2, .int x2), (3, .int x3)] [] (t_map o ad s) := by
  intro n
  induction n with
  | zero =>
    intro _ _ _ _ w
    exact w.elim
  | succ n ih =>
    intro x1 x2 x3 s w
    unfold wX3_laySteps_9 at w
    refine e_iload_n (n := 10) dX3_laySteps_9 rfl 3 rfl ?_
    refine e_aload_n (n := 11) dX3_laySteps_10 rfl 0 rfl ?_
    refine t_getI (n := 14) 0 rfl rfl q1334 dX3_laySteps_11 rfl ?_
    refine e_icmp_ge (n := 17) (tgt := 49) dX3_laySteps_14 rfl (by decide) (fun h => ?_) (fun h => ?_)
    · have w := w.1 h
      refine e_sub (lv' := [(0, .ref o), (1, .int x1), (2, .int x2)]) [0, 1, 2] rfl ?_
      exact hk49 _ _ _ w
    · have w := w.2 h
      refine e_aload_n (n := 18) dX3_laySteps_17 rfl 0 rfl ?_
      refine e_iload_n (n := 19) dX3_laySteps_18 rfl 1 rfl ?_
      refine e_iload_n (n := 20) dX3_laySteps_19 rfl 3 rfl ?_
      refine t_callV (n := 23) (As := [.int x1, .int x3]) (st := []) okX3_lostPrice q1605 q1607 qs38 q1608 rfl (by decide) (Nat.le_refl _) (Nat.le_refl _) rfl rfl rfl dX3_laySteps_20 rfl (ctX3_lostPrice ok w) (fun r9 σ9 hk => ?_)
      obtain ⟨r_54, s_53, rfl, rfl, w⟩ := hk
      refine e_istore (n := 25) (lv' := [(0, .ref o), (1, .int x1), (2, .int x2), (3, .int x3), (4, .int r_54)]) [1, 2, 3, 4, 0] dX3_laySteps_23 rfl rfl rfl ?_
      refine e_iload (n := 27) dX3_laySteps_25 rfl 4 rfl ?_
      refine e_ldc (n := 29) q1588 dX3_laySteps_27 rfl ?_
      refine e_icmp_eq (n := 32) (tgt := 43) dX3_laySteps_29 rfl (by decide) (fun h => ?_) (fun h => ?_)
      · have w := w.1 h
        refine e_sub (lv' := [(0, .ref o), (1, .int x1), (2, .int x2), (3, .int x3)]) [0, 1, 2, 3] rfl ?_
        exact hX3_laySteps_43 ok ih hk49 _ _ _ _ w
      · have w := w.2 h
        refine e_aload_n (n := 33) dX3_laySteps_32 rfl 0 rfl ?_
        refine e_iload_n (n := 34) dX3_laySteps_33 rfl 3 rfl ?_
        refine e_iload_n (n := 35) dX3_laySteps_34 rfl 2 rfl ?_
        refine e_iload_n (n := 36) dX3_laySteps_35 rfl 2 rfl ?_
        refine e_iload (n := 38) dX3_laySteps_36 rfl 4 rfl ?_
        refine e_iconst (n := 39) (v := 1) dX3_laySteps_38 rfl (by decide) ?_
        refine e_iconst (n := 40) (v := 0) dX3_laySteps_39 rfl (by decide) ?_
        refine t_callV (n := 43) (As := [.int x3, .int x2, .int x2, .int r_54, .int 1, .int 0]) (st := []) okX3_step q1609 q1611 qs39 q1612 rfl (by decide) (Nat.le_refl _) (Nat.le_refl _) rfl rfl rfl dX3_laySteps_40 rfl (ctX3_step ok w) (fun r9 σ9 hk => ?_)
        obtain ⟨s_56, rfl, rfl, w⟩ := hk
        refine e_sub (lv' := [(0, .ref o), (1, .int x1), (2, .int x2), (3, .int x3)]) [0, 1, 2, 3] rfl ?_
        exact hX3_laySteps_43 ok ih hk49 _ _ _ _ w
set_option maxHeartbeats 4000000 in
theorem ctX3_laySteps {o : Nat} {ad : Nat → Nat} (ok : t_ok o ad) {Q : TS → Prop} {x1 : Int32} {s : TS} (w : wX3_laySteps Q x1 s) : CT mX3_laySteps 3 0 0 [.ref o, .int x1] (t_map o ad s) (t_Kv o ad Q) := by
  refine CT.of (lv := [(0, .ref o), (1, .int x1)]) okX3_laySteps.1 rfl rfl ?_
  unfold wX3_laySteps at w
  refine e_aload_n (n := 1) dX3_laySteps_0 rfl 0 rfl ?_
  refine t_getR (n := 4) 32 rfl (by decide) q1366 dX3_laySteps_1 rfl ?_
  refine e_iload_n (n := 5) dX3_laySteps_4 rfl 1 rfl ?_
  obtain ⟨wi, w⟩ := w
  refine t_iald (n := 6) ok 32 rfl rfl (N := 12) rfl wi dX3_laySteps_5 rfl ?_
  refine e_topi (fun x2_1 hx2_1 => ?_)
  have w := w x2_1 hx2_1
  refine e_istore_n (n := 7) (lv' := [(0, .ref o), (1, .int x1), (2, .int x2_1)]) [1, 2, 0] dX3_laySteps_6 rfl rfl rfl ?_
  refine e_iconst (n := 8) (v := 0) dX3_laySteps_7 rfl (by decide) ?_
  refine e_istore_n (n := 9) (lv' := [(0, .ref o), (1, .int x1), (2, .int x2_1), (3, .int 0)]) [1, 2, 3, 0] dX3_laySteps_8 rfl rfl rfl ?_
  obtain ⟨fu, w⟩ := w
  refine hX3_laySteps_9 ok (fun x1_2 x2_3 s_4 w => ?_) fu _ _ _ _ w
  refine e_iload_n (n := 50) dX3_laySteps_49 rfl 1 rfl ?_
  refine e_aload_n (n := 51) dX3_laySteps_50 rfl 0 rfl ?_
  refine t_getI (n := 54) 34 rfl rfl q1368 dX3_laySteps_51 rfl ?_
  refine e_icmp_ne (n := 57) (tgt := 58) dX3_laySteps_54 rfl (by decide) (fun h => ?_) (fun h => ?_)
  · have w := w.2 h
    refine e_aload_n (n := 59) dX3_laySteps_58 rfl 0 rfl ?_
    refine t_getR (n := 62) 15 rfl (by decide) q1349 dX3_laySteps_59 rfl ?_
    refine e_iload_n (n := 63) dX3_laySteps_62 rfl 1 rfl ?_
    obtain ⟨wi, w⟩ := w
    refine t_iald (n := 64) ok 15 rfl rfl (N := 11) rfl wi dX3_laySteps_63 rfl ?_
    refine e_topi (fun x3_5 hx3_5 => ?_)
    have w := w x3_5 hx3_5
    refine e_istore_n (n := 65) (lv' := [(0, .ref o), (1, .int x1_2), (2, .int x2_3), (3, .int x3_5)]) [1, 2, 3, 0] dX3_laySteps_64 rfl rfl rfl ?_
    refine e_aload_n (n := 66) dX3_laySteps_65 rfl 0 rfl ?_
    refine e_iload_n (n := 67) dX3_laySteps_66 rfl 3 rfl ?_
    refine e_iload_n (n := 68) dX3_laySteps_67 rfl 2 rfl ?_
    refine e_aload_n (n := 69) dX3_laySteps_68 rfl 0 rfl ?_
    refine t_getR (n := 72) 32 rfl (by decide) q1366 dX3_laySteps_69 rfl ?_
    refine e_iload_n (n := 73) dX3_laySteps_72 rfl 1 rfl ?_
    refine e_iconst (n := 74) (v := 1) dX3_laySteps_73 rfl (by decide) ?_
    refine e_iadd (n := 75) dX3_laySteps_74 rfl ?_
    obtain ⟨wi, w⟩ := w
    refine t_iald (n := 76) ok 32 rfl rfl (N := 12) rfl wi dX3_laySteps_75 rfl ?_
    refine e_iconst (n := 77) (v := 0) dX3_laySteps_76 rfl (by decide) ?_
    refine e_iconst (n := 78) (v := 0) dX3_laySteps_77 rfl (by decide) ?_
    refine e_iconst (n := 79) (v := 0) dX3_laySteps_78 rfl (by decide) ?_
    refine t_callV (n := 82) (As := [.int x3_5, .int x2_3, .int (s_4.2.1 32 (x1_2 + 1).toNatClampNeg), .int 0, .int 0, .int 0]) (st := []) okX3_step q1609 q1611 qs39 q1612 rfl (by decide) (Nat.le_refl _) (Nat.le_refl _) rfl rfl rfl dX3_laySteps_79 rfl (ctX3_step ok w) (fun r9 σ9 hk => ?_)
    obtain ⟨s_6, rfl, rfl, w⟩ := hk
    refine e_iconst (n := 83) (v := 0) dX3_laySteps_82 rfl (by decide) ?_
    refine e_istore (n := 85) (lv' := [(0, .ref o), (1, .int x1_2), (2, .int x2_3), (3, .int x3_5), (4, .int 0)]) [1, 2, 3, 4, 0] dX3_laySteps_83 rfl rfl rfl ?_
    obtain ⟨fu, w⟩ := w
    refine hX3_laySteps_85 ok (fun x1_7 x2_8 x3_9 s_10 w => ?_) fu _ _ _ _ _ w
    refine e_iconst (n := 154) (v := 0) dX3_laySteps_153 rfl (by decide) ?_
    refine e_istore (n := 156) (lv' := [(0, .ref o), (1, .int x1_7), (2, .int x2_8), (3, .int x3_9), (4, .int 0)]) [1, 2, 3, 4, 0] dX3_laySteps_154 rfl rfl rfl ?_
    obtain ⟨fu, w⟩ := w
    refine hX3_laySteps_156 ok (fun x1_11 x2_12 x3_13 s_14 w => ?_) fu _ _ _ _ _ w
    refine e_iload_n (n := 328) dX3_laySteps_327 rfl 1 rfl ?_
    refine e_iconst (n := 329) (v := 1) dX3_laySteps_328 rfl (by decide) ?_
    refine e_iadd (n := 330) dX3_laySteps_329 rfl ?_
    refine e_aload_n (n := 331) dX3_laySteps_330 rfl 0 rfl ?_
    refine t_getI (n := 334) 34 rfl rfl q1368 dX3_laySteps_331 rfl ?_
    refine e_icmp_ne (n := 337) (tgt := 338) dX3_laySteps_334 rfl (by decide) (fun h => ?_) (fun h => ?_)
    · have w := w.2 h
      refine e_aload_n (n := 339) dX3_laySteps_338 rfl 0 rfl ?_
      refine t_getR (n := 342) 15 rfl (by decide) q1349 dX3_laySteps_339 rfl ?_
      refine e_iload_n (n := 343) dX3_laySteps_342 rfl 1 rfl ?_
      refine e_iconst (n := 344) (v := 1) dX3_laySteps_343 rfl (by decide) ?_
      refine e_iadd (n := 345) dX3_laySteps_344 rfl ?_
      obtain ⟨wi, w⟩ := w
      refine t_iald (n := 346) ok 15 rfl rfl (N := 11) rfl wi dX3_laySteps_345 rfl ?_
      refine e_topi (fun x4_15 hx4_15 => ?_)
      have w := w x4_15 hx4_15
      refine e_istore (n := 348) (lv' := [(0, .ref o), (1, .int x1_11), (2, .int x2_12), (3, .int x3_13), (4, .int x4_15)]) [1, 2, 3, 4, 0] dX3_laySteps_346 rfl rfl rfl ?_
      refine e_iload (n := 350) dX3_laySteps_348 rfl 4 rfl ?_
      refine e_iload_n (n := 351) dX3_laySteps_350 rfl 3 rfl ?_
      refine e_icmp_eq (n := 354) (tgt := 385) dX3_laySteps_351 rfl (by decide) (fun h => ?_) (fun h => ?_)
      · have w := w.1 h
        exact hX3_laySteps_385 ok _ _ _ _ _ w
      · have w := w.2 h
        refine e_aload_n (n := 355) dX3_laySteps_354 rfl 0 rfl ?_
        refine e_iconst (n := 356) (v := 3) dX3_laySteps_355 rfl (by decide) ?_
        refine e_iload_n (n := 357) dX3_laySteps_356 rfl 1 rfl ?_
        refine e_iconst (n := 358) (v := 2) dX3_laySteps_357 rfl (by decide) ?_
        refine e_iconst (n := 359) (v := 0) dX3_laySteps_358 rfl (by decide) ?_
        refine t_callV (n := 362) (As := [.int 3, .int x1_11, .int 2, .int 0]) (st := []) okX3_mayBe q1593 q1595 qs35 q1596 rfl (by decide) (Nat.le_refl _) (Nat.le_refl _) rfl rfl rfl dX3_laySteps_359 rfl (ctX3_mayBe ok w) (fun r9 σ9 hk => ?_)
        obtain ⟨r_28, s_27, rfl, rfl, w⟩ := hk
        refine e_if_eq (n := 365) (tgt := 385) dX3_laySteps_362 rfl (by decide) (fun h => ?_) (fun h => ?_)
        · have w := w.1 h
          exact hX3_laySteps_385 ok _ _ _ _ _ w
        · have w := w.2 h
          refine e_aload_n (n := 366) dX3_laySteps_365 rfl 0 rfl ?_
          refine e_iload (n := 368) dX3_laySteps_366 rfl 4 rfl ?_
          refine e_iload_n (n := 369) dX3_laySteps_368 rfl 2 rfl ?_
          refine e_aload_n (n := 370) dX3_laySteps_369 rfl 0 rfl ?_
          refine e_iconst (n := 371) (v := 1) dX3_laySteps_370 rfl (by decide) ?_
          refine e_iload_n (n := 372) dX3_laySteps_371 rfl 1 rfl ?_
          refine e_iconst (n := 373) (v := 0) dX3_laySteps_372 rfl (by decide) ?_
          refine t_callV (n := 376) (As := [.int 1, .int x1_11, .int 0]) (st := [.int x2_12, .int x4_15, .ref o]) okX3_specialAt q1617 q1619 qs41 q1620 rfl (by decide) (Nat.le_refl _) (Nat.le_refl _) rfl rfl rfl dX3_laySteps_373 rfl (ctX3_specialAt ok w) (fun r9 σ9 hk => ?_)
          obtain ⟨r_30, s_29, rfl, rfl, w⟩ := hk
          refine e_aload_n (n := 377) dX3_laySteps_376 rfl 0 rfl ?_
          refine t_getI (n := 380) 3 rfl rfl q1337 dX3_laySteps_377 rfl ?_
          refine e_iconst (n := 381) (v := 3) dX3_laySteps_380 rfl (by decide) ?_
          refine e_iconst (n := 382) (v := 0) dX3_laySteps_381 rfl (by decide) ?_
          refine t_callV (n := 385) (As := [.int x4_15, .int x2_12, .int r_30, .int (s_29.1 3), .int 3, .int 0]) (st := []) okX3_step q1609 q1611 qs39 q1612 rfl (by decide) (Nat.le_refl _) (Nat.le_refl _) rfl rfl rfl dX3_laySteps_382 rfl (ctX3_step ok w) (fun r9 σ9 hk => ?_)
          obtain ⟨s_31, rfl, rfl, w⟩ := hk
          exact hX3_laySteps_385 ok _ _ _ _ _ w
    · have w := w.1 h
      exact e_vret rfl (Nat.le_refl _) (Nat.le_refl _) ⟨_, rfl, rfl, w⟩ dX3_laySteps_337
  · have w := w.1 h
    exact e_vret rfl (Nat.le_refl _) (Nat.le_refl _) ⟨_, rfl, rfl, w⟩ dX3_laySteps_57
abbrev mX3_layReads : gM := (yX3_layReads, cX3_layReads, 3, none)
theorem okX3_layReads : g_ok mX3_layReads 1 := ⟨by decide +kernel, by decide +kernel, by decide +kernel, by decide +kernel, by decide⟩
def wX3_layReads_44 (Q : TS → Prop) (k60 : TS → Prop) : Nat → Int32 → Int32 → TS → Prop
  | 0 => fun _ _ _ => False
  | n + 1 => fun x1 x2 s => (x1 < x2 → (k60 s)) ∧ (¬ x1 < x2 → (wX3_laySteps (fun (s_7 : TS) => ∀ x2_8 : Int32, x2_8 = x2 + 1 → (wX3_layReads_44 Q k60 n x1 x2_8 s_7)) x2 s))
def wX3_layReads_16 (Q : TS → Prop) (k42 : Int32 → TS → Prop) : Nat → Int32 → Int32 → TS → Prop
  | 0 => fun _ _ _ => False
  | n + 1 => fun x1 x2 s => (2704 * (s.1 0) ≤ x2 → (k42 x1 s)) ∧ (¬ 2704 * (s.1 0) ≤ x2 → (vp_in x2 32448 ∧ ∀ s_9 : TS, s_9 = tA s 40 x2.toNatClampNeg 1000000000 → (∀ x2_10 : Int32, x2_10 = x2 + 1 → (wX3_layReads_16 Q k42 n x1 x2_10 s_9))))
def wX3_layReads (Q : TS → Prop) (x1 : Int32) (s : TS) : Prop := ∀ s_1 : TS, s_1 = tI s 34 x1 → (wX3_layKnots (fun (s_2 : TS) => wX3_laySkips (fun (s_3 : TS) => ∃ fu : Nat, wX3_layReads_16 Q (fun (x1_4 : Int32) (s_5 : TS) => ∃ fu : Nat, wX3_layReads_44 Q (fun  (s_6 : TS) => Q s_6) fu x1_4 0 s_5) fu x1 0 s_3) s_2) x1 s_1)
set_option maxHeartbeats 4000000 in
theorem hX3_layReads_44 {o : Nat} {ad : Nat → Nat} (ok : t_ok o ad) {Q : TS → Prop} {k60 : TS → Prop} (hk60 : ∀  (s : TS), k60 s → E mX3_layReads 5 0 0 (g_z (t_Kv o ad Q)) 0 0 60 [] [] (t_map o ad s)) : ∀ (n : Nat) (x1 : Int32) (x2 : Int32) (s : TS), wX3_layReads_44 Q k60 n x1 x2 s → E mX3_layReads 5 0 0 (g_z (t_Kv o ad Q)) 0 0 44 [(0, .ref o), (1, .int x1), (2, .int x2)] [] (t_map o ad s) := by
  intro n
  induction n with
  | zero =>
    intro _ _ _ w
    exact w.elim
  | succ n ih =>
    intro x1 x2 s w
    unfold wX3_layReads_44 at w
    refine e_iload_n (n := 45) dX3_layReads_44 rfl 2 rfl ?_
    refine e_iload_n (n := 46) dX3_layReads_45 rfl 1 rfl ?_
    refine e_icmp_gt (n := 49) (tgt := 60) dX3_layReads_46 rfl (by decide) (fun h => ?_) (fun h => ?_)
    · have w := w.1 h
      refine e_sub (lv' := []) [] rfl ?_
      exact hk60 _ w
    · have w := w.2 h
      refine e_aload_n (n := 50) dX3_layReads_49 rfl 0 rfl ?_
      refine e_iload_n (n := 51) dX3_layReads_50 rfl 2 rfl ?_
      refine t_callV (n := 54) (As := [.int x2]) (st := []) okX3_laySteps q1601 q1603 qs37 q1604 rfl (by decide) (Nat.le_refl _) (Nat.le_refl _) rfl rfl rfl dX3_layReads_51 rfl (ctX3_laySteps ok w) (fun r9 σ9 hk => ?_)
      obtain ⟨s_7, rfl, rfl, w⟩ := hk
      obtain ⟨x2_8, hx2_8⟩ : ∃ y : Int32, y = x2 + 1 := ⟨_, rfl⟩
      have w := w x2_8 hx2_8
      refine e_iinc (n := 57) (v := x2_8) (lv' := [(0, .ref o), (1, .int x1), (2, .int x2_8)]) [1, 2, 0] dX3_layReads_54 rfl 2 rfl (by rw [hx2_8]; rfl) rfl rfl ?_
      refine e_goto (n := 44) dX3_layReads_57 (by decide) ?_
      exact ih _ _ _ w
set_option maxHeartbeats 4000000 in
theorem hX3_layReads_16 {o : Nat} {ad : Nat → Nat} (ok : t_ok o ad) {Q : TS → Prop} {k42 : Int32 → TS → Prop} (hk42 : ∀ (x1 : Int32) (s : TS), k42 x1 s → E mX3_layReads 5 0 0 (g_z (t_Kv o ad Q)) 0 0 42 [(0, .ref o), (1, .int x1)] [] (t_map o ad s)) : ∀ (n : Nat) (x1 : Int32) (x2 : Int32) (s : TS), wX3_layReads_16 Q k42 n x1 x2 s → E mX3_layReads 5 0 0 (g_z (t_Kv o ad Q)) 0 0 16 [(0, .ref o), (1, .int x1), (2, .int x2)] [] (t_map o ad s) := by
  intro n
  induction n with
  | zero =>
    intro _ _ _ w
    exact w.elim
  | succ n ih =>
    intro x1 x2 s w
    unfold wX3_layReads_16 at w
    refine e_iload_n (n := 17) dX3_layReads_16 rfl 2 rfl ?_
    refine e_sipush (n := 20) (v := 2704) dX3_layReads_17 rfl (by decide) ?_
    refine e_aload_n (n := 21) dX3_layReads_20 rfl 0 rfl ?_
    refine t_getI (n := 24) 0 rfl rfl q1334 dX3_layReads_21 rfl ?_
    refine e_imul (n := 25) dX3_layReads_24 rfl ?_
    refine e_icmp_ge (n := 28) (tgt := 42) dX3_layReads_25 rfl (by decide) (fun h => ?_) (fun h => ?_)
    · have w := w.1 h
      refine e_sub (lv' := [(0, .ref o), (1, .int x1)]) [0, 1] rfl ?_
      exact hk42 _ _ w
    · have w := w.2 h
      refine e_aload_n (n := 29) dX3_layReads_28 rfl 0 rfl ?_
      refine t_getR (n := 32) 40 rfl (by decide) q1374 dX3_layReads_29 rfl ?_
      refine e_iload_n (n := 33) dX3_layReads_32 rfl 2 rfl ?_
      refine e_ldc (n := 35) q1588 dX3_layReads_33 rfl ?_
      obtain ⟨wi, w⟩ := w
      refine t_iast (n := 36) ok 40 rfl rfl (N := 32448) rfl wi dX3_layReads_35 rfl (fun s_9 hs_9 => ?_)
      have w := w s_9 hs_9
      obtain ⟨x2_10, hx2_10⟩ : ∃ y : Int32, y = x2 + 1 := ⟨_, rfl⟩
      have w := w x2_10 hx2_10
      refine e_iinc (n := 39) (v := x2_10) (lv' := [(0, .ref o), (1, .int x1), (2, .int x2_10)]) [1, 2, 0] dX3_layReads_36 rfl 2 rfl (by rw [hx2_10]; rfl) rfl rfl ?_
      refine e_goto (n := 16) dX3_layReads_39 (by decide) ?_
      exact ih _ _ _ w
set_option maxHeartbeats 4000000 in
theorem ctX3_layReads {o : Nat} {ad : Nat → Nat} (ok : t_ok o ad) {Q : TS → Prop} {x1 : Int32} {s : TS} (w : wX3_layReads Q x1 s) : CT mX3_layReads 5 0 0 [.ref o, .int x1] (t_map o ad s) (t_Kv o ad Q) := by
  refine CT.of (lv := [(0, .ref o), (1, .int x1)]) okX3_layReads.1 rfl rfl ?_
  unfold wX3_layReads at w
  refine e_aload_n (n := 1) dX3_layReads_0 rfl 0 rfl ?_
  refine e_iload_n (n := 2) dX3_layReads_1 rfl 1 rfl ?_
  refine t_putI (n := 5) 34 rfl rfl rfl rfl q1368 dX3_layReads_2 rfl (fun s_1 hs_1 => ?_)
  have w := w s_1 hs_1
  refine e_aload_n (n := 6) dX3_layReads_5 rfl 0 rfl ?_
  refine e_iload_n (n := 7) dX3_layReads_6 rfl 1 rfl ?_
  refine t_callV (n := 10) (As := [.int x1]) (st := []) okX3_layKnots q1576 q1578 qs31 q1579 rfl (by decide) (Nat.le_refl _) (Nat.le_refl _) rfl rfl rfl dX3_layReads_7 rfl (ctX3_layKnots ok w) (fun r9 σ9 hk => ?_)
  obtain ⟨s_2, rfl, rfl, w⟩ := hk
  refine e_aload_n (n := 11) dX3_layReads_10 rfl 0 rfl ?_
  refine t_callV (n := 14) (As := []) (st := []) okX3_laySkips q1584 q1586 qs33 q1587 rfl (by decide) (Nat.le_refl _) (Nat.le_refl _) rfl rfl rfl dX3_layReads_11 rfl (ctX3_laySkips ok w) (fun r9 σ9 hk => ?_)
  obtain ⟨s_3, rfl, rfl, w⟩ := hk
  refine e_iconst (n := 15) (v := 0) dX3_layReads_14 rfl (by decide) ?_
  refine e_istore_n (n := 16) (lv' := [(0, .ref o), (1, .int x1), (2, .int 0)]) [1, 2, 0] dX3_layReads_15 rfl rfl rfl ?_
  obtain ⟨fu, w⟩ := w
  refine hX3_layReads_16 ok (fun x1_4 s_5 w => ?_) fu _ _ _ w
  refine e_iconst (n := 43) (v := 0) dX3_layReads_42 rfl (by decide) ?_
  refine e_istore_n (n := 44) (lv' := [(0, .ref o), (1, .int x1_4), (2, .int 0)]) [1, 2, 0] dX3_layReads_43 rfl rfl rfl ?_
  obtain ⟨fu, w⟩ := w
  refine hX3_layReads_44 ok (fun s_6 w => ?_) fu _ _ _ w
  exact e_vret rfl (Nat.le_refl _) (Nat.le_refl _) ⟨_, rfl, rfl, w⟩ dX3_layReads_60
abbrev mX3_cost : gM := (yX3_cost, cX3_cost, 5, some .long)
theorem okX3_cost : g_ok mX3_cost 3 := ⟨by decide +kernel, by decide +kernel, by decide +kernel, by decide +kernel, by decide⟩
def wX3_cost (Q : Int64 → TS → Prop) (x1 : Int32) (x2 : Int32) (x3 : Int32) (s : TS) : Prop := (x1 < 100 → (vp_in (((2704 * x1) + (52 * x2)) + x3) 32448 ∧ (∀ x4_1 : Int32, x4_1 = s.2.1 40 (((2704 * x1) + (52 * x2)) + x3).toNatClampNeg → ((x4_1 = 1000000000 → (Q 1152921504606846976 s)) ∧ (¬ x4_1 = 1000000000 → (Q (4294967296 * (x4_1.toInt64)) s)))))) ∧ (¬ x1 < 100 → (vp_in (((2704 * (x1 - 100)) + (52 * x2)) + x3) 21632 ∧ (Q (s.2.2 44 (((2704 * (x1 - 100)) + (52 * x2)) + x3).toNatClampNeg) s)))
set_option maxHeartbeats 4000000 in
theorem ctX3_cost {o : Nat} {ad : Nat → Nat} (ok : t_ok o ad) {Q : Int64 → TS → Prop} {x1 : Int32} {x2 : Int32} {x3 : Int32} {s : TS} (w : wX3_cost Q x1 x2 x3 s) : CT mX3_cost 1 0 0 [.ref o, .int x1, .int x2, .int x3] (t_map o ad s) (t_Kl o ad Q) := by
  refine CT.of (lv := [(0, .ref o), (1, .int x1), (2, .int x2), (3, .int x3)]) okX3_cost.1 rfl rfl ?_
  unfold wX3_cost at w
  refine e_iload_n (n := 1) dX3_cost_0 rfl 1 rfl ?_
  refine e_bipush (n := 3) (v := 100) dX3_cost_1 rfl (by decide) ?_
  refine e_icmp_lt (n := 6) (tgt := 27) dX3_cost_3 rfl (by decide) (fun h => ?_) (fun h => ?_)
  · have w := w.1 h
    refine e_aload_n (n := 28) dX3_cost_27 rfl 0 rfl ?_
    refine t_getR (n := 31) 40 rfl (by decide) q1374 dX3_cost_28 rfl ?_
    refine e_sipush (n := 34) (v := 2704) dX3_cost_31 rfl (by decide) ?_
    refine e_iload_n (n := 35) dX3_cost_34 rfl 1 rfl ?_
    refine e_imul (n := 36) dX3_cost_35 rfl ?_
    refine e_bipush (n := 38) (v := 52) dX3_cost_36 rfl (by decide) ?_
    refine e_iload_n (n := 39) dX3_cost_38 rfl 2 rfl ?_
    refine e_imul (n := 40) dX3_cost_39 rfl ?_
    refine e_iadd (n := 41) dX3_cost_40 rfl ?_
    refine e_iload_n (n := 42) dX3_cost_41 rfl 3 rfl ?_
    refine e_iadd (n := 43) dX3_cost_42 rfl ?_
    obtain ⟨wi, w⟩ := w
    refine t_iald (n := 44) ok 40 rfl rfl (N := 32448) rfl wi dX3_cost_43 rfl ?_
    refine e_topi (fun x4_1 hx4_1 => ?_)
    have w := w x4_1 hx4_1
    refine e_istore (n := 46) (lv' := [(0, .ref o), (1, .int x1), (2, .int x2), (3, .int x3), (4, .int x4_1)]) [1, 2, 3, 4, 0] dX3_cost_44 rfl rfl rfl ?_
    refine e_iload (n := 48) dX3_cost_46 rfl 4 rfl ?_
    refine e_ldc (n := 50) q1588 dX3_cost_48 rfl ?_
    refine e_icmp_ne (n := 53) (tgt := 59) dX3_cost_50 rfl (by decide) (fun h => ?_) (fun h => ?_)
    · have w := w.2 h
      refine e_ldc2 (n := 62) q1638 dX3_cost_59 rfl ?_
      refine e_iload (n := 64) dX3_cost_62 rfl 4 rfl ?_
      refine e_i2l (n := 65) dX3_cost_64 rfl ?_
      refine e_lmul (n := 66) dX3_cost_65 rfl ?_
      exact e_lret rfl (Nat.le_refl _) (Nat.le_refl _) ⟨_, _, rfl, rfl, w⟩ dX3_cost_66
    · have w := w.1 h
      refine e_ldc2 (n := 56) q1625 dX3_cost_53 rfl ?_
      refine e_goto (n := 66) dX3_cost_56 (by decide) ?_
      exact e_lret rfl (Nat.le_refl _) (Nat.le_refl _) ⟨_, _, rfl, rfl, w⟩ dX3_cost_66
  · have w := w.2 h
    refine e_aload_n (n := 7) dX3_cost_6 rfl 0 rfl ?_
    refine t_getR (n := 10) 44 rfl (by decide) q1378 dX3_cost_7 rfl ?_
    refine e_sipush (n := 13) (v := 2704) dX3_cost_10 rfl (by decide) ?_
    refine e_iload_n (n := 14) dX3_cost_13 rfl 1 rfl ?_
    refine e_bipush (n := 16) (v := 100) dX3_cost_14 rfl (by decide) ?_
    refine e_isub (n := 17) dX3_cost_16 rfl ?_
    refine e_imul (n := 18) dX3_cost_17 rfl ?_
    refine e_bipush (n := 20) (v := 52) dX3_cost_18 rfl (by decide) ?_
    refine e_iload_n (n := 21) dX3_cost_20 rfl 2 rfl ?_
    refine e_imul (n := 22) dX3_cost_21 rfl ?_
    refine e_iadd (n := 23) dX3_cost_22 rfl ?_
    refine e_iload_n (n := 24) dX3_cost_23 rfl 3 rfl ?_
    refine e_iadd (n := 25) dX3_cost_24 rfl ?_
    obtain ⟨wi, w⟩ := w
    refine t_lald (n := 26) ok 44 rfl rfl (N := 21632) rfl wi dX3_cost_25 rfl ?_
    exact e_lret rfl (Nat.le_refl _) (Nat.le_refl _) ⟨_, _, rfl, rfl, w⟩ dX3_cost_26
abbrev mX3_sum : gM := (yX3_sum, cX3_sum, 4, some .long)
theorem okX3_sum : g_ok mX3_sum 2 := ⟨by decide +kernel, by decide +kernel, by decide +kernel, by decide +kernel, by decide⟩
def wX3_sum_16 (Q : Int64 → Prop)   : Prop := Q 1152921504606846976
def wX3_sum (Q : Int64 → Prop) (x0 : Int64) (x2 : Int64) : Prop := (1152921504606846976 ≤ x0 → (wX3_sum_16 Q)) ∧ (¬ 1152921504606846976 ≤ x0 → ((x2 < 1152921504606846976 → (Q (x0 + x2))) ∧ (¬ x2 < 1152921504606846976 → (wX3_sum_16 Q))))
set_option maxHeartbeats 4000000 in
theorem hX3_sum_16 {σ : gH} (ok : True) {Q : Int64 → Prop}   (w : wX3_sum_16 Q) : E mX3_sum 1 0 0 (g_z (g_Pl σ Q)) 0 0 16 [] [] σ := by
  unfold wX3_sum_16 at w
  refine e_ldc2 (n := 19) q1625 dX3_sum_16 rfl ?_
  refine e_goto (n := 25) dX3_sum_19 (by decide) ?_
  exact e_lret rfl (Nat.le_refl _) (Nat.le_refl _) ⟨_, rfl, rfl, w⟩ dX3_sum_25
set_option maxHeartbeats 4000000 in
theorem ctX3_sum {σ : gH} {Q : Int64 → Prop} {x0 : Int64} {x2 : Int64} (w : wX3_sum Q x0 x2) : CT mX3_sum 1 0 0 [.long x0, .long x2] σ (g_Pl σ Q) := by
  refine CT.of (lv := [(0, .long x0), (2, .long x2)]) okX3_sum.1 rfl rfl ?_
  have ok : True := trivial
  unfold wX3_sum at w
  refine e_lload_n (n := 1) dX3_sum_0 rfl 0 rfl ?_
  refine e_ldc2 (n := 4) q1625 dX3_sum_1 rfl ?_
  refine e_lcmp_ge (n := 8) (tgt := 16) dX3_sum_4 dX3_sum_5 rfl (by decide) (fun h => ?_) (fun h => ?_)
  · have w := w.1 h
    refine e_sub (lv' := []) [] rfl ?_
    exact hX3_sum_16 ok  w
  · have w := w.2 h
    refine e_lload_n (n := 9) dX3_sum_8 rfl 1 rfl ?_
    refine e_ldc2 (n := 12) q1625 dX3_sum_9 rfl ?_
    refine e_lcmp_lt (n := 16) (tgt := 22) dX3_sum_12 dX3_sum_13 rfl (by decide) (fun h => ?_) (fun h => ?_)
    · have w := w.1 h
      refine e_lload_n (n := 23) dX3_sum_22 rfl 0 rfl ?_
      refine e_lload_n (n := 24) dX3_sum_23 rfl 1 rfl ?_
      refine e_ladd (n := 25) dX3_sum_24 rfl ?_
      exact e_lret rfl (Nat.le_refl _) (Nat.le_refl _) ⟨_, rfl, rfl, w⟩ dX3_sum_25
    · have w := w.2 h
      refine e_sub (lv' := []) [] rfl ?_
      exact hX3_sum_16 ok  w
abbrev mX3_both : gM := (yX3_both, cX3_both, 10, some .long)
theorem okX3_both : g_ok mX3_both 4 := ⟨by decide +kernel, by decide +kernel, by decide +kernel, by decide +kernel, by decide⟩
def wX3_both_52 (Q : Int64 → TS → Prop) (kh : Int32 → Int32 → Int32 → Int32 → Int64 → Int32 → TS → Prop) (k60 : Int64 → TS → Prop) (t0 : Int64) (x1 : Int32) (x2 : Int32) (x3 : Int32) (x4 : Int32) (x7 : Int32) (s : TS) : Prop := ∀ x7_8 : Int32, x7_8 = x7 + 1 → (kh x1 x2 x3 x4 t0 x7_8 s)
def wX3_both_8 (Q : Int64 → TS → Prop) (k60 : Int64 → TS → Prop) : Nat → Int32 → Int32 → Int32 → Int32 → Int64 → Int32 → TS → Prop
  | 0 => fun _ _ _ _ _ _ _ => False
  | n + 1 => fun x1 x2 x3 x4 x5 x7 s => (x4 < x7 → (k60 x5 s)) ∧ (¬ x4 < x7 → (wX3_cost (fun (r_4 : Int64) (s_3 : TS) => wX3_cost (fun (r_6 : Int64) (s_5 : TS) => wX3_sum (fun (r_7 : Int64) => (x5 ≤ r_7 → (wX3_both_52 Q (wX3_both_8 Q k60 n) k60 x5 x1 x2 x3 x4 x7 s_5)) ∧ (¬ x5 ≤ r_7 → (wX3_both_52 Q (wX3_both_8 Q k60 n) k60 r_7 x1 x2 x3 x4 x7 s_5))) r_4 r_6) x2 x7 x4 s_3) x1 x3 x7 s))
def wX3_both (Q : Int64 → TS → Prop) (x1 : Int32) (x2 : Int32) (x3 : Int32) (x4 : Int32) (s : TS) : Prop := ∃ fu : Nat, wX3_both_8 Q (fun (x5_1 : Int64) (s_2 : TS) => Q x5_1 s_2) fu x1 x2 x3 x4 1152921504606846976 x3 s
set_option maxHeartbeats 4000000 in
theorem hX3_both_52 {o : Nat} {ad : Nat → Nat} (ok : t_ok o ad) {Q : Int64 → TS → Prop} {kh : Int32 → Int32 → Int32 → Int32 → Int64 → Int32 → TS → Prop} (hkh : ∀ (x1 : Int32) (x2 : Int32) (x3 : Int32) (x4 : Int32) (x5 : Int64) (x7 : Int32) (s : TS), kh x1 x2 x3 x4 x5 x7 s → E mX3_both 2 0 0 (g_z (t_Kl o ad Q)) 0 0 8 [(0, .ref o), (1, .int x1), (2, .int x2), (3, .int x3), (4, .int x4), (5, .long x5), (7, .int x7)] [] (t_map o ad s)) {k60 : Int64 → TS → Prop} (hk60 : ∀ (x5 : Int64) (s : TS), k60 x5 s → E mX3_both 2 0 0 (g_z (t_Kl o ad Q)) 0 0 60 [(5, .long x5)] [] (t_map o ad s)) (t0 : Int64) (x1 : Int32) (x2 : Int32) (x3 : Int32) (x4 : Int32) (x7 : Int32) (s : TS) (w : wX3_both_52 Q kh k60 t0 x1 x2 x3 x4 x7 s) : E mX3_both 2 0 0 (g_z (t_Kl o ad Q)) 0 0 52 [(0, .ref o), (1, .int x1), (2, .int x2), (3, .int x3), (4, .int x4), (7, .int x7)] [.long t0] (t_map o ad s) := by
  unfold wX3_both_52 at w
  refine e_lstore (n := 54) (lv' := [(0, .ref o), (1, .int x1), (2, .int x2), (3, .int x3), (4, .int x4), (5, .long t0), (7, .int x7)]) [1, 2, 3, 4, 5, 0, 6] dX3_both_52 rfl rfl rfl ?_
  obtain ⟨x7_8, hx7_8⟩ : ∃ y : Int32, y = x7 + 1 := ⟨_, rfl⟩
  have w := w x7_8 hx7_8
  refine e_iinc (n := 57) (v := x7_8) (lv' := [(0, .ref o), (1, .int x1), (2, .int x2), (3, .int x3), (4, .int x4), (5, .long t0), (7, .int x7_8)]) [1, 2, 3, 4, 5, 6, 0] dX3_both_54 rfl 6 rfl (by rw [hx7_8]; rfl) rfl rfl ?_
  refine e_goto (n := 8) dX3_both_57 (by decide) ?_
  exact hkh _ _ _ _ _ _ _ w
set_option maxHeartbeats 4000000 in
theorem hX3_both_8 {o : Nat} {ad : Nat → Nat} (ok : t_ok o ad) {Q : Int64 → TS → Prop} {k60 : Int64 → TS → Prop} (hk60 : ∀ (x5 : Int64) (s : TS), k60 x5 s → E mX3_both 2 0 0 (g_z (t_Kl o ad Q)) 0 0 60 [(5, .long x5)] [] (t_map o ad s)) : ∀ (n : Nat) (x1 : Int32) (x2 : Int32) (x3 : Int32) (x4 : Int32) (x5 : Int64) (x7 : Int32) (s : TS), wX3_both_8 Q k60 n x1 x2 x3 x4 x5 x7 s → E mX3_both 2 0 0 (g_z (t_Kl o ad Q)) 0 0 8 [(0, .ref o), (1, .int x1), (2, .int x2), (3, .int x3), (4, .int x4), (5, .long x5), (7, .int x7)] [] (t_map o ad s) := by
  intro n
  induction n with
  | zero =>
    intro _ _ _ _ _ _ _ w
    exact w.elim
  | succ n ih =>
    intro x1 x2 x3 x4 x5 x7 s w
    unfold wX3_both_8 at w
    refine e_iload (n := 10) dX3_both_8 rfl 6 rfl ?_
    refine e_iload (n := 12) dX3_both_10 rfl 4 rfl ?_
    refine e_icmp_gt (n := 15) (tgt := 60) dX3_both_12 rfl (by decide) (fun h => ?_) (fun h => ?_)
    · have w := w.1 h
      refine e_sub (lv' := [(5, .long x5)]) [5] rfl ?_
      exact hk60 _ _ w
    · have w := w.2 h
      refine e_aload_n (n := 16) dX3_both_15 rfl 0 rfl ?_
      refine e_iload_n (n := 17) dX3_both_16 rfl 1 rfl ?_
      refine e_iload_n (n := 18) dX3_both_17 rfl 3 rfl ?_
      refine e_iload (n := 20) dX3_both_18 rfl 6 rfl ?_
      refine t_callV (n := 23) (As := [.int x1, .int x3, .int x7]) (st := []) okX3_cost q1634 q1636 qs45 q1637 rfl (by decide) (Nat.le_refl _) (Nat.le_refl _) rfl rfl rfl dX3_both_20 rfl (ctX3_cost ok w) (fun r9 σ9 hk => ?_)
      obtain ⟨r_4, s_3, rfl, rfl, w⟩ := hk
      refine e_aload_n (n := 24) dX3_both_23 rfl 0 rfl ?_
      refine e_iload_n (n := 25) dX3_both_24 rfl 2 rfl ?_
      refine e_iload (n := 27) dX3_both_25 rfl 6 rfl ?_
      refine e_iload (n := 29) dX3_both_27 rfl 4 rfl ?_
      refine t_callV (n := 32) (As := [.int x2, .int x7, .int x4]) (st := [.long r_4]) okX3_cost q1634 q1636 qs45 q1637 rfl (by decide) (Nat.le_refl _) (Nat.le_refl _) rfl rfl rfl dX3_both_29 rfl (ctX3_cost ok w) (fun r9 σ9 hk => ?_)
      obtain ⟨r_6, s_5, rfl, rfl, w⟩ := hk
      refine t_callS (n := 35) (As := [.long r_4, .long r_6]) (st := []) okX3_sum q1643 q1644 q63 q1645 (by decide) (Nat.le_refl _) (Nat.le_refl _) rfl rfl rfl dX3_both_32 rfl (ctX3_sum w) (fun r9 σ9 hk => ?_)
      obtain ⟨r_7, rfl, rfl, w⟩ := hk
      refine e_lstore (n := 37) (lv' := [(0, .ref o), (1, .int x1), (2, .int x2), (3, .int x3), (4, .int x4), (5, .long x5), (7, .int x7), (8, .long r_7)]) [1, 2, 3, 4, 5, 6, 7, 0] dX3_both_35 rfl rfl rfl ?_
      refine e_lload (n := 39) dX3_both_37 rfl 7 rfl ?_
      refine e_lload (n := 41) dX3_both_39 rfl 5 rfl ?_
      refine e_lcmp_ge (n := 45) (tgt := 50) dX3_both_41 dX3_both_42 rfl (by decide) (fun h => ?_) (fun h => ?_)
      · have w := w.1 h
        refine e_lload (n := 52) dX3_both_50 rfl 5 rfl ?_
        refine e_sub (lv' := [(0, .ref o), (1, .int x1), (2, .int x2), (3, .int x3), (4, .int x4), (7, .int x7)]) [0, 1, 2, 3, 4, 6] rfl ?_
        exact hX3_both_52 ok ih hk60 _ _ _ _ _ _ _ w
      · have w := w.2 h
        refine e_lload (n := 47) dX3_both_45 rfl 7 rfl ?_
        refine e_goto (n := 52) dX3_both_47 (by decide) ?_
        refine e_sub (lv' := [(0, .ref o), (1, .int x1), (2, .int x2), (3, .int x3), (4, .int x4), (7, .int x7)]) [0, 1, 2, 3, 4, 6] rfl ?_
        exact hX3_both_52 ok ih hk60 _ _ _ _ _ _ _ w
set_option maxHeartbeats 4000000 in
theorem ctX3_both {o : Nat} {ad : Nat → Nat} (ok : t_ok o ad) {Q : Int64 → TS → Prop} {x1 : Int32} {x2 : Int32} {x3 : Int32} {x4 : Int32} {s : TS} (w : wX3_both Q x1 x2 x3 x4 s) : CT mX3_both 2 0 0 [.ref o, .int x1, .int x2, .int x3, .int x4] (t_map o ad s) (t_Kl o ad Q) := by
  refine CT.of (lv := [(0, .ref o), (1, .int x1), (2, .int x2), (3, .int x3), (4, .int x4)]) okX3_both.1 rfl rfl ?_
  unfold wX3_both at w
  refine e_ldc2 (n := 3) q1625 dX3_both_0 rfl ?_
  refine e_lstore (n := 5) (lv' := [(0, .ref o), (1, .int x1), (2, .int x2), (3, .int x3), (4, .int x4), (5, .long 1152921504606846976)]) [1, 2, 3, 4, 5, 0] dX3_both_3 rfl rfl rfl ?_
  refine e_iload_n (n := 6) dX3_both_5 rfl 3 rfl ?_
  refine e_istore (n := 8) (lv' := [(0, .ref o), (1, .int x1), (2, .int x2), (3, .int x3), (4, .int x4), (5, .long 1152921504606846976), (7, .int x3)]) [1, 2, 3, 4, 5, 6, 0] dX3_both_6 rfl rfl rfl ?_
  obtain ⟨fu, w⟩ := w
  refine hX3_both_8 ok (fun x5_1 s_2 w => ?_) fu _ _ _ _ _ _ _ w
  refine e_lload (n := 62) dX3_both_60 rfl 0 rfl ?_
  exact e_lret rfl (Nat.le_refl _) (Nat.le_refl _) ⟨_, _, rfl, rfl, w⟩ dX3_both_62
abbrev mX3_ruleCost : gM := (yX3_ruleCost, cX3_ruleCost, 12, some .long)
theorem okX3_ruleCost : g_ok mX3_ruleCost 3 := ⟨by decide +kernel, by decide +kernel, by decide +kernel, by decide +kernel, by decide⟩
def wX3_ruleCost_170 (Q : Int64 → TS → Prop) (kh : Int32 → Int32 → Int32 → Int64 → Int32 → TS → Prop) (k178 : Int64 → TS → Prop) (t0 : Int64) (x1 : Int32) (x2 : Int32) (x3 : Int32) (x9 : Int32) (s : TS) : Prop := ∀ x9_10 : Int32, x9_10 = x9 + 1 → (kh x1 x2 x3 t0 x9_10 s)
def wX3_ruleCost_109 (Q : Int64 → TS → Prop) (k178 : Int64 → TS → Prop) : Nat → Int32 → Int32 → Int32 → Int64 → Int32 → TS → Prop
  | 0 => fun _ _ _ _ _ _ => False
  | n + 1 => fun x1 x2 x3 x7 x9 s => (x3 < x9 → (k178 x7 s)) ∧ (¬ x3 < x9 → (vp_in (((2704 * x1) + (52 * x2)) + x9) 64896 ∧ (vp_in ((3 * x1) + 2) 72 ∧ (wX3_cost (fun (r_8 : Int64) (s_7 : TS) => wX3_sum (fun (r_9 : Int64) => (x7 ≤ r_9 → (wX3_ruleCost_170 Q (wX3_ruleCost_109 Q k178 n) k178 x7 x1 x2 x3 x9 s_7)) ∧ (¬ x7 ≤ r_9 → (wX3_ruleCost_170 Q (wX3_ruleCost_109 Q k178 n) k178 r_9 x1 x2 x3 x9 s_7))) (s.2.2 45 (((2704 * x1) + (52 * x2)) + x9).toNatClampNeg) r_8) (s.2.1 10 ((3 * x1) + 2).toNatClampNeg) x9 x3 s))))
def wX3_ruleCost (Q : Int64 → TS → Prop) (x1 : Int32) (x2 : Int32) (x3 : Int32) (s : TS) : Prop := vp_in x1 24 ∧ (∀ x4_1 : Int32, x4_1 = s.2.1 9 x1.toNatClampNeg → ((x4_1 = 0 → ((x2 = x3 → (Q 0 s)) ∧ (¬ x2 = x3 → (Q 1152921504606846976 s)))) ∧ (¬ x4_1 = 0 → ((x4_1 = 1 → (vp_in (3 * x1) 72 ∧ (wX3_cost (fun (r_12 : Int64) (s_11 : TS) => Q r_12 s_11) (s.2.1 10 (3 * x1).toNatClampNeg) x2 x3 s))) ∧ (¬ x4_1 = 1 → (vp_in (3 * x1) 72 ∧ (vp_in ((3 * x1) + 1) 72 ∧ (wX3_both (fun (r_3 : Int64) (s_2 : TS) => (x4_1 = 2 → (Q r_3 s_2)) ∧ (¬ x4_1 = 2 → (vp_in (((2704 * x1) + (52 * x2)) + x3) 64896 ∧ ∀ s_4 : TS, s_4 = tL s_2 45 (((2704 * x1) + (52 * x2)) + x3).toNatClampNeg r_3 → (∃ fu : Nat, wX3_ruleCost_109 Q (fun (x7_5 : Int64) (s_6 : TS) => Q x7_5 s_6) fu x1 x2 x3 1152921504606846976 x2 s_4)))) (s.2.1 10 (3 * x1).toNatClampNeg) (s.2.1 10 ((3 * x1) + 1).toNatClampNeg) x2 x3 s))))))))
set_option maxHeartbeats 4000000 in
theorem hX3_ruleCost_170 {o : Nat} {ad : Nat → Nat} (ok : t_ok o ad) {Q : Int64 → TS → Prop} {kh : Int32 → Int32 → Int32 → Int64 → Int32 → TS → Prop} (hkh : ∀ (x1 : Int32) (x2 : Int32) (x3 : Int32) (x7 : Int64) (x9 : Int32) (s : TS), kh x1 x2 x3 x7 x9 s → E mX3_ruleCost 3 0 0 (g_z (t_Kl o ad Q)) 0 0 109 [(0, .ref o), (1, .int x1), (2, .int x2), (3, .int x3), (7, .long x7), (9, .int x9)] [] (t_map o ad s)) {k178 : Int64 → TS → Prop} (hk178 : ∀ (x7 : Int64) (s : TS), k178 x7 s → E mX3_ruleCost 3 0 0 (g_z (t_Kl o ad Q)) 0 0 178 [(7, .long x7)] [] (t_map o ad s)) (t0 : Int64) (x1 : Int32) (x2 : Int32) (x3 : Int32) (x9 : Int32) (s : TS) (w : wX3_ruleCost_170 Q kh k178 t0 x1 x2 x3 x9 s) : E mX3_ruleCost 3 0 0 (g_z (t_Kl o ad Q)) 0 0 170 [(0, .ref o), (1, .int x1), (2, .int x2), (3, .int x3), (9, .int x9)] [.long t0] (t_map o ad s) := by
  unfold wX3_ruleCost_170 at w
  refine e_lstore (n := 172) (lv' := [(0, .ref o), (1, .int x1), (2, .int x2), (3, .int x3), (7, .long t0), (9, .int x9)]) [1, 2, 3, 4, 0, 5] dX3_ruleCost_170 rfl rfl rfl ?_
  obtain ⟨x9_10, hx9_10⟩ : ∃ y : Int32, y = x9 + 1 := ⟨_, rfl⟩
  have w := w x9_10 hx9_10
  refine e_iinc (n := 175) (v := x9_10) (lv' := [(0, .ref o), (1, .int x1), (2, .int x2), (3, .int x3), (7, .long t0), (9, .int x9_10)]) [1, 2, 3, 4, 5, 0] dX3_ruleCost_172 rfl 5 rfl (by rw [hx9_10]; rfl) rfl rfl ?_
  refine e_goto (n := 109) dX3_ruleCost_175 (by decide) ?_
  exact hkh _ _ _ _ _ _ w
set_option maxHeartbeats 4000000 in
theorem hX3_ruleCost_109 {o : Nat} {ad : Nat → Nat} (ok : t_ok o ad) {Q : Int64 → TS → Prop} {k178 : Int64 → TS → Prop} (hk178 : ∀ (x7 : Int64) (s : TS), k178 x7 s → E mX3_ruleCost 3 0 0 (g_z (t_Kl o ad Q)) 0 0 178 [(7, .long x7)] [] (t_map o ad s)) : ∀ (n : Nat) (x1 : Int32) (x2 : Int32) (x3 : Int32) (x7 : Int64) (x9 : Int32) (s : TS), wX3_ruleCost_109 Q k178 n x1 x2 x3 x7 x9 s → E mX3_ruleCost 3 0 0 (g_z (t_Kl o ad Q)) 0 0 109 [(0, .ref o), (1, .int x1), (2, .int x2), (3, .int x3), (7, .long x7), (9, .int x9)] [] (t_map o ad s) := by
  intro n
  induction n with
  | zero =>
    intro _ _ _ _ _ _ w
    exact w.elim
  | succ n ih =>
    intro x1 x2 x3 x7 x9 s w
    unfold wX3_ruleCost_109 at w
    refine e_iload (n := 111) dX3_ruleCost_109 rfl 5 rfl ?_
    refine e_iload_n (n := 112) dX3_ruleCost_111 rfl 3 rfl ?_
    refine e_icmp_gt (n := 115) (tgt := 178) dX3_ruleCost_112 rfl (by decide) (fun h => ?_) (fun h => ?_)
    · have w := w.1 h
      refine e_sub (lv' := [(7, .long x7)]) [4] rfl ?_
      exact hk178 _ _ w
    · have w := w.2 h
      refine e_aload_n (n := 116) dX3_ruleCost_115 rfl 0 rfl ?_
      refine t_getR (n := 119) 45 rfl (by decide) q1379 dX3_ruleCost_116 rfl ?_
      refine e_sipush (n := 122) (v := 2704) dX3_ruleCost_119 rfl (by decide) ?_
      refine e_iload_n (n := 123) dX3_ruleCost_122 rfl 1 rfl ?_
      refine e_imul (n := 124) dX3_ruleCost_123 rfl ?_
      refine e_bipush (n := 126) (v := 52) dX3_ruleCost_124 rfl (by decide) ?_
      refine e_iload_n (n := 127) dX3_ruleCost_126 rfl 2 rfl ?_
      refine e_imul (n := 128) dX3_ruleCost_127 rfl ?_
      refine e_iadd (n := 129) dX3_ruleCost_128 rfl ?_
      refine e_iload (n := 131) dX3_ruleCost_129 rfl 5 rfl ?_
      refine e_iadd (n := 132) dX3_ruleCost_131 rfl ?_
      obtain ⟨wi, w⟩ := w
      refine t_lald (n := 133) ok 45 rfl rfl (N := 64896) rfl wi dX3_ruleCost_132 rfl ?_
      refine e_aload_n (n := 134) dX3_ruleCost_133 rfl 0 rfl ?_
      refine e_aload_n (n := 135) dX3_ruleCost_134 rfl 0 rfl ?_
      refine t_getR (n := 138) 10 rfl (by decide) q1344 dX3_ruleCost_135 rfl ?_
      refine e_iconst (n := 139) (v := 3) dX3_ruleCost_138 rfl (by decide) ?_
      refine e_iload_n (n := 140) dX3_ruleCost_139 rfl 1 rfl ?_
      refine e_imul (n := 141) dX3_ruleCost_140 rfl ?_
      refine e_iconst (n := 142) (v := 2) dX3_ruleCost_141 rfl (by decide) ?_
      refine e_iadd (n := 143) dX3_ruleCost_142 rfl ?_
      obtain ⟨wi, w⟩ := w
      refine t_iald (n := 144) ok 10 rfl rfl (N := 72) rfl wi dX3_ruleCost_143 rfl ?_
      refine e_iload (n := 146) dX3_ruleCost_144 rfl 5 rfl ?_
      refine e_iload_n (n := 147) dX3_ruleCost_146 rfl 3 rfl ?_
      refine t_callV (n := 150) (As := [.int (s.2.1 10 ((3 * x1) + 2).toNatClampNeg), .int x9, .int x3]) (st := [.long (s.2.2 45 (((2704 * x1) + (52 * x2)) + x9).toNatClampNeg)]) okX3_cost q1634 q1636 qs45 q1637 rfl (by decide) (Nat.le_refl _) (Nat.le_refl _) rfl rfl rfl dX3_ruleCost_147 rfl (ctX3_cost ok w) (fun r9 σ9 hk => ?_)
      obtain ⟨r_8, s_7, rfl, rfl, w⟩ := hk
      refine t_callS (n := 153) (As := [.long (s.2.2 45 (((2704 * x1) + (52 * x2)) + x9).toNatClampNeg), .long r_8]) (st := []) okX3_sum q1643 q1644 q63 q1645 (by decide) (Nat.le_refl _) (Nat.le_refl _) rfl rfl rfl dX3_ruleCost_150 rfl (ctX3_sum w) (fun r9 σ9 hk => ?_)
      obtain ⟨r_9, rfl, rfl, w⟩ := hk
      refine e_lstore (n := 155) (lv' := [(0, .ref o), (1, .int x1), (2, .int x2), (3, .int x3), (7, .long x7), (9, .int x9), (10, .long r_9)]) [1, 2, 3, 4, 5, 6, 0] dX3_ruleCost_153 rfl rfl rfl ?_
      refine e_lload (n := 157) dX3_ruleCost_155 rfl 6 rfl ?_
      refine e_lload (n := 159) dX3_ruleCost_157 rfl 4 rfl ?_
      refine e_lcmp_ge (n := 163) (tgt := 168) dX3_ruleCost_159 dX3_ruleCost_160 rfl (by decide) (fun h => ?_) (fun h => ?_)
      · have w := w.1 h
        refine e_lload (n := 170) dX3_ruleCost_168 rfl 4 rfl ?_
        refine e_sub (lv' := [(0, .ref o), (1, .int x1), (2, .int x2), (3, .int x3), (9, .int x9)]) [0, 1, 2, 3, 5] rfl ?_
        exact hX3_ruleCost_170 ok ih hk178 _ _ _ _ _ _ w
      · have w := w.2 h
        refine e_lload (n := 165) dX3_ruleCost_163 rfl 6 rfl ?_
        refine e_goto (n := 170) dX3_ruleCost_165 (by decide) ?_
        refine e_sub (lv' := [(0, .ref o), (1, .int x1), (2, .int x2), (3, .int x3), (9, .int x9)]) [0, 1, 2, 3, 5] rfl ?_
        exact hX3_ruleCost_170 ok ih hk178 _ _ _ _ _ _ w
set_option maxHeartbeats 4000000 in
theorem ctX3_ruleCost {o : Nat} {ad : Nat → Nat} (ok : t_ok o ad) {Q : Int64 → TS → Prop} {x1 : Int32} {x2 : Int32} {x3 : Int32} {s : TS} (w : wX3_ruleCost Q x1 x2 x3 s) : CT mX3_ruleCost 3 0 0 [.ref o, .int x1, .int x2, .int x3] (t_map o ad s) (t_Kl o ad Q) := by
  refine CT.of (lv := [(0, .ref o), (1, .int x1), (2, .int x2), (3, .int x3)]) okX3_ruleCost.1 rfl rfl ?_
  unfold wX3_ruleCost at w
  refine e_aload_n (n := 1) dX3_ruleCost_0 rfl 0 rfl ?_
  refine t_getR (n := 4) 9 rfl (by decide) q1343 dX3_ruleCost_1 rfl ?_
  refine e_iload_n (n := 5) dX3_ruleCost_4 rfl 1 rfl ?_
  obtain ⟨wi, w⟩ := w
  refine t_iald (n := 6) ok 9 rfl rfl (N := 24) rfl wi dX3_ruleCost_5 rfl ?_
  refine e_topi (fun x4_1 hx4_1 => ?_)
  have w := w x4_1 hx4_1
  refine e_istore (n := 8) (lv' := [(0, .ref o), (1, .int x1), (2, .int x2), (3, .int x3), (4, .int x4_1)]) [1, 2, 3, 4, 0] dX3_ruleCost_6 rfl rfl rfl ?_
  refine e_iload (n := 10) dX3_ruleCost_8 rfl 4 rfl ?_
  refine e_if_ne (n := 13) (tgt := 26) dX3_ruleCost_10 rfl (by decide) (fun h => ?_) (fun h => ?_)
  · have w := w.2 h
    refine e_iload (n := 28) dX3_ruleCost_26 rfl 4 rfl ?_
    refine e_iconst (n := 29) (v := 1) dX3_ruleCost_28 rfl (by decide) ?_
    refine e_icmp_ne (n := 32) (tgt := 47) dX3_ruleCost_29 rfl (by decide) (fun h => ?_) (fun h => ?_)
    · have w := w.2 h
      refine e_aload_n (n := 48) dX3_ruleCost_47 rfl 0 rfl ?_
      refine e_aload_n (n := 49) dX3_ruleCost_48 rfl 0 rfl ?_
      refine t_getR (n := 52) 10 rfl (by decide) q1344 dX3_ruleCost_49 rfl ?_
      refine e_iconst (n := 53) (v := 3) dX3_ruleCost_52 rfl (by decide) ?_
      refine e_iload_n (n := 54) dX3_ruleCost_53 rfl 1 rfl ?_
      refine e_imul (n := 55) dX3_ruleCost_54 rfl ?_
      obtain ⟨wi, w⟩ := w
      refine t_iald (n := 56) ok 10 rfl rfl (N := 72) rfl wi dX3_ruleCost_55 rfl ?_
      refine e_aload_n (n := 57) dX3_ruleCost_56 rfl 0 rfl ?_
      refine t_getR (n := 60) 10 rfl (by decide) q1344 dX3_ruleCost_57 rfl ?_
      refine e_iconst (n := 61) (v := 3) dX3_ruleCost_60 rfl (by decide) ?_
      refine e_iload_n (n := 62) dX3_ruleCost_61 rfl 1 rfl ?_
      refine e_imul (n := 63) dX3_ruleCost_62 rfl ?_
      refine e_iconst (n := 64) (v := 1) dX3_ruleCost_63 rfl (by decide) ?_
      refine e_iadd (n := 65) dX3_ruleCost_64 rfl ?_
      obtain ⟨wi, w⟩ := w
      refine t_iald (n := 66) ok 10 rfl rfl (N := 72) rfl wi dX3_ruleCost_65 rfl ?_
      refine e_iload_n (n := 67) dX3_ruleCost_66 rfl 2 rfl ?_
      refine e_iload_n (n := 68) dX3_ruleCost_67 rfl 3 rfl ?_
      refine t_callV (n := 71) (As := [.int (s.2.1 10 (3 * x1).toNatClampNeg), .int (s.2.1 10 ((3 * x1) + 1).toNatClampNeg), .int x2, .int x3]) (st := []) okX3_both q1639 q1641 qs46 q1642 rfl (by decide) (Nat.le_refl _) (Nat.le_refl _) rfl rfl rfl dX3_ruleCost_68 rfl (ctX3_both ok w) (fun r9 σ9 hk => ?_)
      obtain ⟨r_3, s_2, rfl, rfl, w⟩ := hk
      refine e_lstore (n := 73) (lv' := [(0, .ref o), (1, .int x1), (2, .int x2), (3, .int x3), (4, .int x4_1), (5, .long r_3)]) [1, 2, 3, 4, 5, 0] dX3_ruleCost_71 rfl rfl rfl ?_
      refine e_iload (n := 75) dX3_ruleCost_73 rfl 4 rfl ?_
      refine e_iconst (n := 76) (v := 2) dX3_ruleCost_75 rfl (by decide) ?_
      refine e_icmp_ne (n := 79) (tgt := 82) dX3_ruleCost_76 rfl (by decide) (fun h => ?_) (fun h => ?_)
      · have w := w.2 h
        refine e_aload_n (n := 83) dX3_ruleCost_82 rfl 0 rfl ?_
        refine t_getR (n := 86) 45 rfl (by decide) q1379 dX3_ruleCost_83 rfl ?_
        refine e_sipush (n := 89) (v := 2704) dX3_ruleCost_86 rfl (by decide) ?_
        refine e_iload_n (n := 90) dX3_ruleCost_89 rfl 1 rfl ?_
        refine e_imul (n := 91) dX3_ruleCost_90 rfl ?_
        refine e_bipush (n := 93) (v := 52) dX3_ruleCost_91 rfl (by decide) ?_
        refine e_iload_n (n := 94) dX3_ruleCost_93 rfl 2 rfl ?_
        refine e_imul (n := 95) dX3_ruleCost_94 rfl ?_
        refine e_iadd (n := 96) dX3_ruleCost_95 rfl ?_
        refine e_iload_n (n := 97) dX3_ruleCost_96 rfl 3 rfl ?_
        refine e_iadd (n := 98) dX3_ruleCost_97 rfl ?_
        refine e_lload (n := 100) dX3_ruleCost_98 rfl 5 rfl ?_
        obtain ⟨wi, w⟩ := w
        refine t_last (n := 101) ok 45 rfl rfl (N := 64896) rfl wi dX3_ruleCost_100 rfl (fun s_4 hs_4 => ?_)
        have w := w s_4 hs_4
        refine e_ldc2 (n := 104) q1625 dX3_ruleCost_101 rfl ?_
        refine e_lstore (n := 106) (lv' := [(0, .ref o), (1, .int x1), (2, .int x2), (3, .int x3), (4, .int x4_1), (5, .long r_3), (7, .long 1152921504606846976)]) [1, 2, 3, 4, 5, 6, 0] dX3_ruleCost_104 rfl rfl rfl ?_
        refine e_iload_n (n := 107) dX3_ruleCost_106 rfl 2 rfl ?_
        refine e_istore (n := 109) (lv' := [(0, .ref o), (1, .int x1), (2, .int x2), (3, .int x3), (4, .int x4_1), (5, .long r_3), (7, .long 1152921504606846976), (9, .int x2)]) [1, 2, 3, 4, 5, 6, 7, 0] dX3_ruleCost_107 rfl rfl rfl ?_
        obtain ⟨fu, w⟩ := w
        refine e_sub (lv' := [(0, .ref o), (1, .int x1), (2, .int x2), (3, .int x3), (7, .long 1152921504606846976), (9, .int x2)]) [0, 1, 2, 3, 6, 7] rfl ?_
        refine hX3_ruleCost_109 ok (fun x7_5 s_6 w => ?_) fu _ _ _ _ _ _ w
        refine e_lload (n := 180) dX3_ruleCost_178 rfl 0 rfl ?_
        exact e_lret rfl (Nat.le_refl _) (Nat.le_refl _) ⟨_, _, rfl, rfl, w⟩ dX3_ruleCost_180
      · have w := w.1 h
        refine e_lload (n := 81) dX3_ruleCost_79 rfl 5 rfl ?_
        exact e_lret rfl (Nat.le_refl _) (Nat.le_refl _) ⟨_, _, rfl, rfl, w⟩ dX3_ruleCost_81
    · have w := w.1 h
      refine e_aload_n (n := 33) dX3_ruleCost_32 rfl 0 rfl ?_
      refine e_aload_n (n := 34) dX3_ruleCost_33 rfl 0 rfl ?_
      refine t_getR (n := 37) 10 rfl (by decide) q1344 dX3_ruleCost_34 rfl ?_
      refine e_iconst (n := 38) (v := 3) dX3_ruleCost_37 rfl (by decide) ?_
      refine e_iload_n (n := 39) dX3_ruleCost_38 rfl 1 rfl ?_
      refine e_imul (n := 40) dX3_ruleCost_39 rfl ?_
      obtain ⟨wi, w⟩ := w
      refine t_iald (n := 41) ok 10 rfl rfl (N := 72) rfl wi dX3_ruleCost_40 rfl ?_
      refine e_iload_n (n := 42) dX3_ruleCost_41 rfl 2 rfl ?_
      refine e_iload_n (n := 43) dX3_ruleCost_42 rfl 3 rfl ?_
      refine t_callV (n := 46) (As := [.int (s.2.1 10 (3 * x1).toNatClampNeg), .int x2, .int x3]) (st := []) okX3_cost q1634 q1636 qs45 q1637 rfl (by decide) (Nat.le_refl _) (Nat.le_refl _) rfl rfl rfl dX3_ruleCost_43 rfl (ctX3_cost ok w) (fun r9 σ9 hk => ?_)
      obtain ⟨r_12, s_11, rfl, rfl, w⟩ := hk
      exact e_lret rfl (Nat.le_refl _) (Nat.le_refl _) ⟨_, _, rfl, rfl, w⟩ dX3_ruleCost_46
  · have w := w.1 h
    refine e_iload_n (n := 14) dX3_ruleCost_13 rfl 2 rfl ?_
    refine e_iload_n (n := 15) dX3_ruleCost_14 rfl 3 rfl ?_
    refine e_icmp_ne (n := 18) (tgt := 22) dX3_ruleCost_15 rfl (by decide) (fun h => ?_) (fun h => ?_)
    · have w := w.2 h
      refine e_ldc2 (n := 25) q1625 dX3_ruleCost_22 rfl ?_
      exact e_lret rfl (Nat.le_refl _) (Nat.le_refl _) ⟨_, _, rfl, rfl, w⟩ dX3_ruleCost_25
    · have w := w.1 h
      refine e_lconst (n := 19) (v := 0) dX3_ruleCost_18 rfl (by decide) ?_
      refine e_goto (n := 25) dX3_ruleCost_19 (by decide) ?_
      exact e_lret rfl (Nat.le_refl _) (Nat.le_refl _) ⟨_, _, rfl, rfl, w⟩ dX3_ruleCost_25
abbrev mX3_settle : gM := (yX3_settle, cX3_settle, 8, none)
theorem okX3_settle : g_ok mX3_settle 2 := ⟨by decide +kernel, by decide +kernel, by decide +kernel, by decide +kernel, by decide⟩
def wX3_settle_78 (Q : TS → Prop) (kh : Int32 → Int32 → Int32 → Int32 → TS → Prop) (k84 : Int32 → Int32 → Int32 → TS → Prop) (x1 : Int32) (x2 : Int32) (x3 : Int32) (x4 : Int32) (s : TS) : Prop := ∀ x4_10 : Int32, x4_10 = x4 + 1 → (kh x1 x2 x3 x4_10 s)
def wX3_settle_11 (Q : TS → Prop) (k84 : Int32 → Int32 → Int32 → TS → Prop) : Nat → Int32 → Int32 → Int32 → Int32 → TS → Prop
  | 0 => fun _ _ _ _ _ => False
  | n + 1 => fun x1 x2 x3 x4 s => (s.1 7 ≤ x4 → (k84 x1 x2 x3 s)) ∧ (¬ s.1 7 ≤ x4 → (wX3_ruleCost (fun (r_7 : Int64) (s_6 : TS) => wX3_sum (fun (r_8 : Int64) => vp_in x4 24 ∧ (∀ x7_9 : Int32, x7_9 = ((2704 * (s_6.2.1 8 x4.toNatClampNeg)) + (52 * x1)) + x2 → (vp_in x7_9 21632 ∧ ((s_6.2.2 44 x7_9.toNatClampNeg ≤ r_8 → (wX3_settle_78 Q (wX3_settle_11 Q k84 n) k84 x1 x2 x3 x4 s_6)) ∧ (¬ s_6.2.2 44 x7_9.toNatClampNeg ≤ r_8 → (vp_in x7_9 21632 ∧ ∀ s_11 : TS, s_11 = tL s_6 44 x7_9.toNatClampNeg r_8 → (wX3_settle_78 Q (wX3_settle_11 Q k84 n) k84 x1 x2 1 x4 s_11))))))) r_7 1) x4 x1 x2 s))
def wX3_settle_2 (Q : TS → Prop) (k87 : TS → Prop) : Nat → Int32 → Int32 → Int32 → TS → Prop
  | 0 => fun _ _ _ _ => False
  | n + 1 => fun x1 x2 x3 s => (x3 = 0 → (k87 s)) ∧ (¬ x3 = 0 → (∃ fu : Nat, wX3_settle_11 Q (fun (x1_2 : Int32) (x2_3 : Int32) (x3_4 : Int32) (s_5 : TS) => wX3_settle_2 Q k87 n x1_2 x2_3 x3_4 s_5) fu x1 x2 0 0 s))
def wX3_settle (Q : TS → Prop) (x1 : Int32) (x2 : Int32) (s : TS) : Prop := ∃ fu : Nat, wX3_settle_2 Q (fun  (s_1 : TS) => Q s_1) fu x1 x2 1 s
set_option maxHeartbeats 4000000 in
theorem hX3_settle_78 {o : Nat} {ad : Nat → Nat} (ok : t_ok o ad) {Q : TS → Prop} {kh : Int32 → Int32 → Int32 → Int32 → TS → Prop} (hkh : ∀ (x1 : Int32) (x2 : Int32) (x3 : Int32) (x4 : Int32) (s : TS), kh x1 x2 x3 x4 s → E mX3_settle 4 0 0 (g_z (t_Kv o ad Q)) 0 0 11 [(0, .ref o), (1, .int x1), (2, .int x2), (3, .int x3), (4, .int x4)] [] (t_map o ad s)) {k84 : Int32 → Int32 → Int32 → TS → Prop} (hk84 : ∀ (x1 : Int32) (x2 : Int32) (x3 : Int32) (s : TS), k84 x1 x2 x3 s → E mX3_settle 4 0 0 (g_z (t_Kv o ad Q)) 0 0 84 [(0, .ref o), (1, .int x1), (2, .int x2), (3, .int x3)] [] (t_map o ad s)) (x1 : Int32) (x2 : Int32) (x3 : Int32) (x4 : Int32) (s : TS) (w : wX3_settle_78 Q kh k84 x1 x2 x3 x4 s) : E mX3_settle 4 0 0 (g_z (t_Kv o ad Q)) 0 0 78 [(0, .ref o), (1, .int x1), (2, .int x2), (3, .int x3), (4, .int x4)] [] (t_map o ad s) := by
  unfold wX3_settle_78 at w
  obtain ⟨x4_10, hx4_10⟩ : ∃ y : Int32, y = x4 + 1 := ⟨_, rfl⟩
  have w := w x4_10 hx4_10
  refine e_iinc (n := 81) (v := x4_10) (lv' := [(0, .ref o), (1, .int x1), (2, .int x2), (3, .int x3), (4, .int x4_10)]) [1, 2, 3, 4, 0] dX3_settle_78 rfl 4 rfl (by rw [hx4_10]; rfl) rfl rfl ?_
  refine e_goto (n := 11) dX3_settle_81 (by decide) ?_
  exact hkh _ _ _ _ _ w
set_option maxHeartbeats 4000000 in
theorem hX3_settle_11 {o : Nat} {ad : Nat → Nat} (ok : t_ok o ad) {Q : TS → Prop} {k84 : Int32 → Int32 → Int32 → TS → Prop} (hk84 : ∀ (x1 : Int32) (x2 : Int32) (x3 : Int32) (s : TS), k84 x1 x2 x3 s → E mX3_settle 4 0 0 (g_z (t_Kv o ad Q)) 0 0 84 [(0, .ref o), (1, .int x1), (2, .int x2), (3, .int x3)] [] (t_map o ad s)) : ∀ (n : Nat) (x1 : Int32) (x2 : Int32) (x3 : Int32) (x4 : Int32) (s : TS), wX3_settle_11 Q k84 n x1 x2 x3 x4 s → E mX3_settle 4 0 0 (g_z (t_Kv o ad Q)) 0 0 11 [(0, .ref o), (1, .int x1), (2, .int x2), (3, .int x3), (4, .int x4)] [] (t_map o ad s) := by
  intro n
  induction n with
  | zero =>
    intro _ _ _ _ _ w
    exact w.elim
  | succ n ih =>
    intro x1 x2 x3 x4 s w
    unfold wX3_settle_11 at w
    refine e_iload (n := 13) dX3_settle_11 rfl 4 rfl ?_
    refine e_aload_n (n := 14) dX3_settle_13 rfl 0 rfl ?_
    refine t_getI (n := 17) 7 rfl rfl q1341 dX3_settle_14 rfl ?_
    refine e_icmp_ge (n := 20) (tgt := 84) dX3_settle_17 rfl (by decide) (fun h => ?_) (fun h => ?_)
    · have w := w.1 h
      refine e_sub (lv' := [(0, .ref o), (1, .int x1), (2, .int x2), (3, .int x3)]) [0, 1, 2, 3] rfl ?_
      exact hk84 _ _ _ _ w
    · have w := w.2 h
      refine e_aload_n (n := 21) dX3_settle_20 rfl 0 rfl ?_
      refine e_iload (n := 23) dX3_settle_21 rfl 4 rfl ?_
      refine e_iload_n (n := 24) dX3_settle_23 rfl 1 rfl ?_
      refine e_iload_n (n := 25) dX3_settle_24 rfl 2 rfl ?_
      refine t_callV (n := 28) (As := [.int x4, .int x1, .int x2]) (st := []) okX3_ruleCost q1630 q1632 qs44 q1633 rfl (by decide) (Nat.le_refl _) (Nat.le_refl _) rfl rfl rfl dX3_settle_25 rfl (ctX3_ruleCost ok w) (fun r9 σ9 hk => ?_)
      obtain ⟨r_7, s_6, rfl, rfl, w⟩ := hk
      refine e_lconst (n := 29) (v := 1) dX3_settle_28 rfl (by decide) ?_
      refine t_callS (n := 32) (As := [.long r_7, .long 1]) (st := []) okX3_sum q1643 q1644 q63 q1645 (by decide) (Nat.le_refl _) (Nat.le_refl _) rfl rfl rfl dX3_settle_29 rfl (ctX3_sum w) (fun r9 σ9 hk => ?_)
      obtain ⟨r_8, rfl, rfl, w⟩ := hk
      refine e_lstore (n := 34) (lv' := [(0, .ref o), (1, .int x1), (2, .int x2), (3, .int x3), (4, .int x4), (5, .long r_8)]) [1, 2, 3, 4, 5, 0] dX3_settle_32 rfl rfl rfl ?_
      refine e_sipush (n := 37) (v := 2704) dX3_settle_34 rfl (by decide) ?_
      refine e_aload_n (n := 38) dX3_settle_37 rfl 0 rfl ?_
      refine t_getR (n := 41) 8 rfl (by decide) q1342 dX3_settle_38 rfl ?_
      refine e_iload (n := 43) dX3_settle_41 rfl 4 rfl ?_
      obtain ⟨wi, w⟩ := w
      refine t_iald (n := 44) ok 8 rfl rfl (N := 24) rfl wi dX3_settle_43 rfl ?_
      refine e_imul (n := 45) dX3_settle_44 rfl ?_
      refine e_bipush (n := 47) (v := 52) dX3_settle_45 rfl (by decide) ?_
      refine e_iload_n (n := 48) dX3_settle_47 rfl 1 rfl ?_
      refine e_imul (n := 49) dX3_settle_48 rfl ?_
      refine e_iadd (n := 50) dX3_settle_49 rfl ?_
      refine e_iload_n (n := 51) dX3_settle_50 rfl 2 rfl ?_
      refine e_iadd (n := 52) dX3_settle_51 rfl ?_
      refine e_topi (fun x7_9 hx7_9 => ?_)
      have w := w x7_9 hx7_9
      refine e_istore (n := 54) (lv' := [(0, .ref o), (1, .int x1), (2, .int x2), (3, .int x3), (4, .int x4), (5, .long r_8), (7, .int x7_9)]) [1, 2, 3, 4, 5, 6, 0] dX3_settle_52 rfl rfl rfl ?_
      refine e_lload (n := 56) dX3_settle_54 rfl 5 rfl ?_
      refine e_aload_n (n := 57) dX3_settle_56 rfl 0 rfl ?_
      refine t_getR (n := 60) 44 rfl (by decide) q1378 dX3_settle_57 rfl ?_
      refine e_iload (n := 62) dX3_settle_60 rfl 6 rfl ?_
      obtain ⟨wi, w⟩ := w
      refine t_lald (n := 63) ok 44 rfl rfl (N := 21632) rfl wi dX3_settle_62 rfl ?_
      refine e_lcmp_ge (n := 67) (tgt := 78) dX3_settle_63 dX3_settle_64 rfl (by decide) (fun h => ?_) (fun h => ?_)
      · have w := w.1 h
        refine e_sub (lv' := [(0, .ref o), (1, .int x1), (2, .int x2), (3, .int x3), (4, .int x4)]) [0, 1, 2, 3, 4] rfl ?_
        exact hX3_settle_78 ok ih hk84 _ _ _ _ _ w
      · have w := w.2 h
        refine e_aload_n (n := 68) dX3_settle_67 rfl 0 rfl ?_
        refine t_getR (n := 71) 44 rfl (by decide) q1378 dX3_settle_68 rfl ?_
        refine e_iload (n := 73) dX3_settle_71 rfl 6 rfl ?_
        refine e_lload (n := 75) dX3_settle_73 rfl 5 rfl ?_
        obtain ⟨wi, w⟩ := w
        refine t_last (n := 76) ok 44 rfl rfl (N := 21632) rfl wi dX3_settle_75 rfl (fun s_11 hs_11 => ?_)
        have w := w s_11 hs_11
        refine e_iconst (n := 77) (v := 1) dX3_settle_76 rfl (by decide) ?_
        refine e_istore_n (n := 78) (lv' := [(0, .ref o), (1, .int x1), (2, .int x2), (3, .int 1), (4, .int x4), (5, .long r_8), (7, .int x7_9)]) [1, 2, 3, 0, 4, 5, 6] dX3_settle_77 rfl rfl rfl ?_
        refine e_sub (lv' := [(0, .ref o), (1, .int x1), (2, .int x2), (3, .int 1), (4, .int x4)]) [0, 1, 2, 3, 4] rfl ?_
        exact hX3_settle_78 ok ih hk84 _ _ _ _ _ w
set_option maxHeartbeats 4000000 in
theorem hX3_settle_2 {o : Nat} {ad : Nat → Nat} (ok : t_ok o ad) {Q : TS → Prop} {k87 : TS → Prop} (hk87 : ∀  (s : TS), k87 s → E mX3_settle 4 0 0 (g_z (t_Kv o ad Q)) 0 0 87 [] [] (t_map o ad s)) : ∀ (n : Nat) (x1 : Int32) (x2 : Int32) (x3 : Int32) (s : TS), wX3_settle_2 Q k87 n x1 x2 x3 s → E mX3_settle 4 0 0 (g_z (t_Kv o ad Q)) 0 0 2 [(0, .ref o), (1, .int x1), (2, .int x2), (3, .int x3)] [] (t_map o ad s) := by
  intro n
  induction n with
  | zero =>
    intro _ _ _ _ w
    exact w.elim
  | succ n ih =>
    intro x1 x2 x3 s w
    unfold wX3_settle_2 at w
    refine e_iload_n (n := 3) dX3_settle_2 rfl 3 rfl ?_
    refine e_if_eq (n := 6) (tgt := 87) dX3_settle_3 rfl (by decide) (fun h => ?_) (fun h => ?_)
    · have w := w.1 h
      refine e_sub (lv' := []) [] rfl ?_
      exact hk87 _ w
    · have w := w.2 h
      refine e_iconst (n := 7) (v := 0) dX3_settle_6 rfl (by decide) ?_
      refine e_istore_n (n := 8) (lv' := [(0, .ref o), (1, .int x1), (2, .int x2), (3, .int 0)]) [1, 2, 3, 0] dX3_settle_7 rfl rfl rfl ?_
      refine e_iconst (n := 9) (v := 0) dX3_settle_8 rfl (by decide) ?_
      refine e_istore (n := 11) (lv' := [(0, .ref o), (1, .int x1), (2, .int x2), (3, .int 0), (4, .int 0)]) [1, 2, 3, 4, 0] dX3_settle_9 rfl rfl rfl ?_
      obtain ⟨fu, w⟩ := w
      refine hX3_settle_11 ok (fun x1_2 x2_3 x3_4 s_5 w => ?_) fu _ _ _ _ _ w
      refine e_goto (n := 2) dX3_settle_84 (by decide) ?_
      exact ih _ _ _ _ w
set_option maxHeartbeats 4000000 in
theorem ctX3_settle {o : Nat} {ad : Nat → Nat} (ok : t_ok o ad) {Q : TS → Prop} {x1 : Int32} {x2 : Int32} {s : TS} (w : wX3_settle Q x1 x2 s) : CT mX3_settle 4 0 0 [.ref o, .int x1, .int x2] (t_map o ad s) (t_Kv o ad Q) := by
  refine CT.of (lv := [(0, .ref o), (1, .int x1), (2, .int x2)]) okX3_settle.1 rfl rfl ?_
  unfold wX3_settle at w
  refine e_iconst (n := 1) (v := 1) dX3_settle_0 rfl (by decide) ?_
  refine e_istore_n (n := 2) (lv' := [(0, .ref o), (1, .int x1), (2, .int x2), (3, .int 1)]) [1, 2, 3, 0] dX3_settle_1 rfl rfl rfl ?_
  obtain ⟨fu, w⟩ := w
  refine hX3_settle_2 ok (fun s_1 w => ?_) fu _ _ _ _ w
  exact e_vret rfl (Nat.le_refl _) (Nat.le_refl _) ⟨_, rfl, rfl, w⟩ dX3_settle_87
abbrev mX3_layCosts : gM := (yX3_layCosts, cX3_layCosts, 3, none)
theorem okX3_layCosts : g_ok mX3_layCosts 0 := ⟨by decide +kernel, by decide +kernel, by decide +kernel, by decide +kernel, by decide⟩
def wX3_layCosts_41 (Q : TS → Prop) (k65 : Int32 → TS → Prop) : Nat → Int32 → Int32 → TS → Prop
  | 0 => fun _ _ _ => False
  | n + 1 => fun x1 x2 s => (s.1 28 ≤ x2 + x1 → (k65 x1 s)) ∧ (¬ s.1 28 ≤ x2 + x1 → (wX3_settle (fun (s_6 : TS) => ∀ x2_7 : Int32, x2_7 = x2 + 1 → (wX3_layCosts_41 Q k65 n x1 x2_7 s_6)) x2 (x2 + x1) s))
def wX3_layCosts_31 (Q : TS → Prop) (k71 : TS → Prop) : Nat → Int32 → TS → Prop
  | 0 => fun _ _ => False
  | n + 1 => fun x1 s => (s.1 28 ≤ x1 → (k71 s)) ∧ (¬ s.1 28 ≤ x1 → (∃ fu : Nat, wX3_layCosts_41 Q (fun (x1_3 : Int32) (s_4 : TS) => ∀ x1_5 : Int32, x1_5 = x1_3 + 1 → (wX3_layCosts_31 Q k71 n x1_5 s_4)) fu x1 0 s))
def wX3_layCosts_2 (Q : TS → Prop) (k29 : TS → Prop) : Nat → Int32 → TS → Prop
  | 0 => fun _ _ => False
  | n + 1 => fun x1 s => (2704 * (s.1 5) ≤ x1 → (k29 s)) ∧ (¬ 2704 * (s.1 5) ≤ x1 → (vp_in x1 21632 ∧ ∀ s_8 : TS, s_8 = tL s 44 x1.toNatClampNeg 1152921504606846976 → (∀ x1_9 : Int32, x1_9 = x1 + 1 → (wX3_layCosts_2 Q k29 n x1_9 s_8))))
def wX3_layCosts (Q : TS → Prop)  (s : TS) : Prop := ∃ fu : Nat, wX3_layCosts_2 Q (fun  (s_1 : TS) => ∃ fu : Nat, wX3_layCosts_31 Q (fun  (s_2 : TS) => Q s_2) fu 0 s_1) fu 0 s
set_option maxHeartbeats 4000000 in
theorem hX3_layCosts_41 {o : Nat} {ad : Nat → Nat} (ok : t_ok o ad) {Q : TS → Prop} {k65 : Int32 → TS → Prop} (hk65 : ∀ (x1 : Int32) (s : TS), k65 x1 s → E mX3_layCosts 5 0 0 (g_z (t_Kv o ad Q)) 0 0 65 [(0, .ref o), (1, .int x1)] [] (t_map o ad s)) : ∀ (n : Nat) (x1 : Int32) (x2 : Int32) (s : TS), wX3_layCosts_41 Q k65 n x1 x2 s → E mX3_layCosts 5 0 0 (g_z (t_Kv o ad Q)) 0 0 41 [(0, .ref o), (1, .int x1), (2, .int x2)] [] (t_map o ad s) := by
  intro n
  induction n with
  | zero =>
    intro _ _ _ w
    exact w.elim
  | succ n ih =>
    intro x1 x2 s w
    unfold wX3_layCosts_41 at w
    refine e_iload_n (n := 42) dX3_layCosts_41 rfl 2 rfl ?_
    refine e_iload_n (n := 43) dX3_layCosts_42 rfl 1 rfl ?_
    refine e_iadd (n := 44) dX3_layCosts_43 rfl ?_
    refine e_aload_n (n := 45) dX3_layCosts_44 rfl 0 rfl ?_
    refine t_getI (n := 48) 28 rfl rfl q1362 dX3_layCosts_45 rfl ?_
    refine e_icmp_ge (n := 51) (tgt := 65) dX3_layCosts_48 rfl (by decide) (fun h => ?_) (fun h => ?_)
    · have w := w.1 h
      refine e_sub (lv' := [(0, .ref o), (1, .int x1)]) [0, 1] rfl ?_
      exact hk65 _ _ w
    · have w := w.2 h
      refine e_aload_n (n := 52) dX3_layCosts_51 rfl 0 rfl ?_
      refine e_iload_n (n := 53) dX3_layCosts_52 rfl 2 rfl ?_
      refine e_iload_n (n := 54) dX3_layCosts_53 rfl 2 rfl ?_
      refine e_iload_n (n := 55) dX3_layCosts_54 rfl 1 rfl ?_
      refine e_iadd (n := 56) dX3_layCosts_55 rfl ?_
      refine t_callV (n := 59) (As := [.int x2, .int (x2 + x1)]) (st := []) okX3_settle q1626 q1628 qs43 q1629 rfl (by decide) (Nat.le_refl _) (Nat.le_refl _) rfl rfl rfl dX3_layCosts_56 rfl (ctX3_settle ok w) (fun r9 σ9 hk => ?_)
      obtain ⟨s_6, rfl, rfl, w⟩ := hk
      obtain ⟨x2_7, hx2_7⟩ : ∃ y : Int32, y = x2 + 1 := ⟨_, rfl⟩
      have w := w x2_7 hx2_7
      refine e_iinc (n := 62) (v := x2_7) (lv' := [(0, .ref o), (1, .int x1), (2, .int x2_7)]) [1, 2, 0] dX3_layCosts_59 rfl 2 rfl (by rw [hx2_7]; rfl) rfl rfl ?_
      refine e_goto (n := 41) dX3_layCosts_62 (by decide) ?_
      exact ih _ _ _ w
set_option maxHeartbeats 4000000 in
theorem hX3_layCosts_31 {o : Nat} {ad : Nat → Nat} (ok : t_ok o ad) {Q : TS → Prop} {k71 : TS → Prop} (hk71 : ∀  (s : TS), k71 s → E mX3_layCosts 5 0 0 (g_z (t_Kv o ad Q)) 0 0 71 [] [] (t_map o ad s)) : ∀ (n : Nat) (x1 : Int32) (s : TS), wX3_layCosts_31 Q k71 n x1 s → E mX3_layCosts 5 0 0 (g_z (t_Kv o ad Q)) 0 0 31 [(0, .ref o), (1, .int x1)] [] (t_map o ad s) := by
  intro n
  induction n with
  | zero =>
    intro _ _ w
    exact w.elim
  | succ n ih =>
    intro x1 s w
    unfold wX3_layCosts_31 at w
    refine e_iload_n (n := 32) dX3_layCosts_31 rfl 1 rfl ?_
    refine e_aload_n (n := 33) dX3_layCosts_32 rfl 0 rfl ?_
    refine t_getI (n := 36) 28 rfl rfl q1362 dX3_layCosts_33 rfl ?_
    refine e_icmp_ge (n := 39) (tgt := 71) dX3_layCosts_36 rfl (by decide) (fun h => ?_) (fun h => ?_)
    · have w := w.1 h
      refine e_sub (lv' := []) [] rfl ?_
      exact hk71 _ w
    · have w := w.2 h
      refine e_iconst (n := 40) (v := 0) dX3_layCosts_39 rfl (by decide) ?_
      refine e_istore_n (n := 41) (lv' := [(0, .ref o), (1, .int x1), (2, .int 0)]) [1, 2, 0] dX3_layCosts_40 rfl rfl rfl ?_
      obtain ⟨fu, w⟩ := w
      refine hX3_layCosts_41 ok (fun x1_3 s_4 w => ?_) fu _ _ _ w
      obtain ⟨x1_5, hx1_5⟩ : ∃ y : Int32, y = x1_3 + 1 := ⟨_, rfl⟩
      have w := w x1_5 hx1_5
      refine e_iinc (n := 68) (v := x1_5) (lv' := [(0, .ref o), (1, .int x1_5)]) [1, 0] dX3_layCosts_65 rfl 1 rfl (by rw [hx1_5]; rfl) rfl rfl ?_
      refine e_goto (n := 31) dX3_layCosts_68 (by decide) ?_
      exact ih _ _ w
set_option maxHeartbeats 4000000 in
theorem hX3_layCosts_2 {o : Nat} {ad : Nat → Nat} (ok : t_ok o ad) {Q : TS → Prop} {k29 : TS → Prop} (hk29 : ∀  (s : TS), k29 s → E mX3_layCosts 5 0 0 (g_z (t_Kv o ad Q)) 0 0 29 [(0, .ref o)] [] (t_map o ad s)) : ∀ (n : Nat) (x1 : Int32) (s : TS), wX3_layCosts_2 Q k29 n x1 s → E mX3_layCosts 5 0 0 (g_z (t_Kv o ad Q)) 0 0 2 [(0, .ref o), (1, .int x1)] [] (t_map o ad s) := by
  intro n
  induction n with
  | zero =>
    intro _ _ w
    exact w.elim
  | succ n ih =>
    intro x1 s w
    unfold wX3_layCosts_2 at w
    refine e_iload_n (n := 3) dX3_layCosts_2 rfl 1 rfl ?_
    refine e_sipush (n := 6) (v := 2704) dX3_layCosts_3 rfl (by decide) ?_
    refine e_aload_n (n := 7) dX3_layCosts_6 rfl 0 rfl ?_
    refine t_getI (n := 10) 5 rfl rfl q1339 dX3_layCosts_7 rfl ?_
    refine e_imul (n := 11) dX3_layCosts_10 rfl ?_
    refine e_icmp_ge (n := 14) (tgt := 29) dX3_layCosts_11 rfl (by decide) (fun h => ?_) (fun h => ?_)
    · have w := w.1 h
      refine e_sub (lv' := [(0, .ref o)]) [0] rfl ?_
      exact hk29 _ w
    · have w := w.2 h
      refine e_aload_n (n := 15) dX3_layCosts_14 rfl 0 rfl ?_
      refine t_getR (n := 18) 44 rfl (by decide) q1378 dX3_layCosts_15 rfl ?_
      refine e_iload_n (n := 19) dX3_layCosts_18 rfl 1 rfl ?_
      refine e_ldc2 (n := 22) q1625 dX3_layCosts_19 rfl ?_
      obtain ⟨wi, w⟩ := w
      refine t_last (n := 23) ok 44 rfl rfl (N := 21632) rfl wi dX3_layCosts_22 rfl (fun s_8 hs_8 => ?_)
      have w := w s_8 hs_8
      obtain ⟨x1_9, hx1_9⟩ : ∃ y : Int32, y = x1 + 1 := ⟨_, rfl⟩
      have w := w x1_9 hx1_9
      refine e_iinc (n := 26) (v := x1_9) (lv' := [(0, .ref o), (1, .int x1_9)]) [1, 0] dX3_layCosts_23 rfl 1 rfl (by rw [hx1_9]; rfl) rfl rfl ?_
      refine e_goto (n := 2) dX3_layCosts_26 (by decide) ?_
      exact ih _ _ w
set_option maxHeartbeats 4000000 in
theorem ctX3_layCosts {o : Nat} {ad : Nat → Nat} (ok : t_ok o ad) {Q : TS → Prop}  {s : TS} (w : wX3_layCosts Q  s) : CT mX3_layCosts 5 0 0 [.ref o] (t_map o ad s) (t_Kv o ad Q) := by
  refine CT.of (lv := [(0, .ref o)]) okX3_layCosts.1 rfl rfl ?_
  unfold wX3_layCosts at w
  refine e_iconst (n := 1) (v := 0) dX3_layCosts_0 rfl (by decide) ?_
  refine e_istore_n (n := 2) (lv' := [(0, .ref o), (1, .int 0)]) [1, 0] dX3_layCosts_1 rfl rfl rfl ?_
  obtain ⟨fu, w⟩ := w
  refine hX3_layCosts_2 ok (fun s_1 w => ?_) fu _ _ w
  refine e_iconst (n := 30) (v := 0) dX3_layCosts_29 rfl (by decide) ?_
  refine e_istore_n (n := 31) (lv' := [(0, .ref o), (1, .int 0)]) [1, 0] dX3_layCosts_30 rfl rfl rfl ?_
  obtain ⟨fu, w⟩ := w
  refine hX3_layCosts_31 ok (fun s_2 w => ?_) fu _ _ w
  exact e_vret rfl (Nat.le_refl _) (Nat.le_refl _) ⟨_, rfl, rfl, w⟩ dX3_layCosts_71
abbrev mX3_layAll : gM := (yX3_layAll, cX3_layAll, 3, none)
theorem okX3_layAll : g_ok mX3_layAll 2 := ⟨by decide +kernel, by decide +kernel, by decide +kernel, by decide +kernel, by decide⟩
def wX3_layAll (Q : TS → Prop) (x1 : Int32) (x2 : Int32) (s : TS) : Prop := ∀ s_1 : TS, s_1 = tI s 33 x1 → (wX3_layReads (fun (s_2 : TS) => wX3_layCosts (fun (s_3 : TS) => Q s_3) s_2) x2 s_1)
set_option maxHeartbeats 4000000 in
theorem ctX3_layAll {o : Nat} {ad : Nat → Nat} (ok : t_ok o ad) {Q : TS → Prop} {x1 : Int32} {x2 : Int32} {s : TS} (w : wX3_layAll Q x1 x2 s) : CT mX3_layAll 6 0 0 [.ref o, .int x1, .int x2] (t_map o ad s) (t_Kv o ad Q) := by
  refine CT.of (lv := [(0, .ref o), (1, .int x1), (2, .int x2)]) okX3_layAll.1 rfl rfl ?_
  unfold wX3_layAll at w
  refine e_aload_n (n := 1) dX3_layAll_0 rfl 0 rfl ?_
  refine e_iload_n (n := 2) dX3_layAll_1 rfl 1 rfl ?_
  refine t_putI (n := 5) 33 rfl rfl rfl rfl q1367 dX3_layAll_2 rfl (fun s_1 hs_1 => ?_)
  have w := w s_1 hs_1
  refine e_aload_n (n := 6) dX3_layAll_5 rfl 0 rfl ?_
  refine e_iload_n (n := 7) dX3_layAll_6 rfl 2 rfl ?_
  refine t_callV (n := 10) (As := [.int x2]) (st := []) okX3_layReads q1572 q1574 qs30 q1575 rfl (by decide) (Nat.le_refl _) (Nat.le_refl _) rfl rfl rfl dX3_layAll_7 rfl (ctX3_layReads ok w) (fun r9 σ9 hk => ?_)
  obtain ⟨s_2, rfl, rfl, w⟩ := hk
  refine e_aload_n (n := 11) dX3_layAll_10 rfl 0 rfl ?_
  refine t_callV (n := 14) (As := []) (st := []) okX3_layCosts q1621 q1623 qs42 q1624 rfl (by decide) (Nat.le_refl _) (Nat.le_refl _) rfl rfl rfl dX3_layAll_11 rfl (ctX3_layCosts ok w) (fun r9 σ9 hk => ?_)
  obtain ⟨s_3, rfl, rfl, w⟩ := hk
  exact e_vret rfl (Nat.le_refl _) (Nat.le_refl _) ⟨_, rfl, rfl, w⟩ dX3_layAll_14
abbrev mX3_mendingTo : gM := (yX3_mendingTo, cX3_mendingTo, 8, some .int)
theorem okX3_mendingTo : g_ok mX3_mendingTo 0 := ⟨by decide +kernel, by decide +kernel, by decide +kernel, by decide +kernel, by decide⟩
def wX3_mendingTo_100 (Q : Int32 → TS → Prop) (kh : Int32 → Int64 → Int32 → TS → Prop) (k106 : Int32 → TS → Prop) (x1 : Int32) (x2 : Int64) (x4 : Int32) (s : TS) : Prop := ∀ x4_5 : Int32, x4_5 = x4 + 1 → (kh x1 x2 x4_5 s)
def wX3_mendingTo_80 (Q : Int32 → TS → Prop) (kh : Int32 → Int64 → Int32 → TS → Prop) (k106 : Int32 → TS → Prop) (t0 : Int64) (x1 : Int32) (x2 : Int64) (x4 : Int32) (s : TS) : Prop := (x2 ≤ t0 → (wX3_mendingTo_100 Q kh k106 x1 x2 x4 s)) ∧ (¬ x2 ≤ t0 → (vp_in x4 12 ∧ (∀ x1_6 : Int32, x1_6 = s.2.1 32 x4.toNatClampNeg → (wX3_mendingTo_100 Q kh k106 x1_6 t0 x4 s))))
def wX3_mendingTo_10 (Q : Int32 → TS → Prop) (k106 : Int32 → TS → Prop) : Nat → Int32 → Int64 → Int32 → TS → Prop
  | 0 => fun _ _ _ _ => False
  | n + 1 => fun x1 x2 x4 s => (s.1 34 < x4 → (k106 x1 s)) ∧ (¬ s.1 34 < x4 → (vp_in ((12 * x4) + (s.1 34)) 144 ∧ (∀ x5_3 : Int32, x5_3 = s.2.1 38 ((12 * x4) + (s.1 34)).toNatClampNeg → ((x5_3 = 1000000000 → (wX3_mendingTo_80 Q (wX3_mendingTo_10 Q k106 n) k106 1152921504606846976 x1 x2 x4 s)) ∧ (¬ x5_3 = 1000000000 → (vp_in x4 12 ∧ (vp_in ((2704 * (s.1 6)) + (s.2.1 32 x4.toNatClampNeg)) 21632 ∧ (wX3_sum (fun (r_4 : Int64) => wX3_mendingTo_80 Q (wX3_mendingTo_10 Q k106 n) k106 r_4 x1 x2 x4 s) (s.2.2 44 ((2704 * (s.1 6)) + (s.2.1 32 x4.toNatClampNeg)).toNatClampNeg) (4294967296 * (x5_3.toInt64))))))))))
def wX3_mendingTo (Q : Int32 → TS → Prop)  (s : TS) : Prop := ∃ fu : Nat, wX3_mendingTo_10 Q (fun (x1_1 : Int32) (s_2 : TS) => Q x1_1 s_2) fu (-4) 1152921504606846976 0 s
set_option maxHeartbeats 4000000 in
theorem hX3_mendingTo_100 {o : Nat} {ad : Nat → Nat} (ok : t_ok o ad) {Q : Int32 → TS → Prop} {kh : Int32 → Int64 → Int32 → TS → Prop} (hkh : ∀ (x1 : Int32) (x2 : Int64) (x4 : Int32) (s : TS), kh x1 x2 x4 s → E mX3_mendingTo 2 0 0 (g_z (t_Ki o ad Q)) 0 0 10 [(0, .ref o), (1, .int x1), (2, .long x2), (4, .int x4)] [] (t_map o ad s)) {k106 : Int32 → TS → Prop} (hk106 : ∀ (x1 : Int32) (s : TS), k106 x1 s → E mX3_mendingTo 2 0 0 (g_z (t_Ki o ad Q)) 0 0 106 [(1, .int x1)] [] (t_map o ad s)) (x1 : Int32) (x2 : Int64) (x4 : Int32) (s : TS) (w : wX3_mendingTo_100 Q kh k106 x1 x2 x4 s) : E mX3_mendingTo 2 0 0 (g_z (t_Ki o ad Q)) 0 0 100 [(0, .ref o), (1, .int x1), (2, .long x2), (4, .int x4)] [] (t_map o ad s) := by
  unfold wX3_mendingTo_100 at w
  obtain ⟨x4_5, hx4_5⟩ : ∃ y : Int32, y = x4 + 1 := ⟨_, rfl⟩
  have w := w x4_5 hx4_5
  refine e_iinc (n := 103) (v := x4_5) (lv' := [(0, .ref o), (1, .int x1), (2, .long x2), (4, .int x4_5)]) [1, 2, 3, 0] dX3_mendingTo_100 rfl 3 rfl (by rw [hx4_5]; rfl) rfl rfl ?_
  refine e_goto (n := 10) dX3_mendingTo_103 (by decide) ?_
  exact hkh _ _ _ _ w
set_option maxHeartbeats 4000000 in
theorem hX3_mendingTo_80 {o : Nat} {ad : Nat → Nat} (ok : t_ok o ad) {Q : Int32 → TS → Prop} {kh : Int32 → Int64 → Int32 → TS → Prop} (hkh : ∀ (x1 : Int32) (x2 : Int64) (x4 : Int32) (s : TS), kh x1 x2 x4 s → E mX3_mendingTo 2 0 0 (g_z (t_Ki o ad Q)) 0 0 10 [(0, .ref o), (1, .int x1), (2, .long x2), (4, .int x4)] [] (t_map o ad s)) {k106 : Int32 → TS → Prop} (hk106 : ∀ (x1 : Int32) (s : TS), k106 x1 s → E mX3_mendingTo 2 0 0 (g_z (t_Ki o ad Q)) 0 0 106 [(1, .int x1)] [] (t_map o ad s)) (t0 : Int64) (x1 : Int32) (x2 : Int64) (x4 : Int32) (s : TS) (w : wX3_mendingTo_80 Q kh k106 t0 x1 x2 x4 s) : E mX3_mendingTo 2 0 0 (g_z (t_Ki o ad Q)) 0 0 80 [(0, .ref o), (1, .int x1), (2, .long x2), (4, .int x4)] [.long t0] (t_map o ad s) := by
  unfold wX3_mendingTo_80 at w
  refine e_lstore (n := 82) (lv' := [(0, .ref o), (1, .int x1), (2, .long x2), (4, .int x4), (6, .long t0)]) [1, 2, 3, 4, 0] dX3_mendingTo_80 rfl rfl rfl ?_
  refine e_lload (n := 84) dX3_mendingTo_82 rfl 4 rfl ?_
  refine e_lload_n (n := 85) dX3_mendingTo_84 rfl 2 rfl ?_
  refine e_lcmp_ge (n := 89) (tgt := 100) dX3_mendingTo_85 dX3_mendingTo_86 rfl (by decide) (fun h => ?_) (fun h => ?_)
  · have w := w.1 h
    refine e_sub (lv' := [(0, .ref o), (1, .int x1), (2, .long x2), (4, .int x4)]) [0, 1, 2, 3] rfl ?_
    exact hX3_mendingTo_100 ok hkh hk106 _ _ _ _ w
  · have w := w.2 h
    refine e_lload (n := 91) dX3_mendingTo_89 rfl 4 rfl ?_
    refine e_lstore_n (n := 92) (lv' := [(0, .ref o), (1, .int x1), (2, .long t0), (4, .int x4), (6, .long t0)]) [1, 2, 0, 3, 4] dX3_mendingTo_91 rfl rfl rfl ?_
    refine e_aload_n (n := 93) dX3_mendingTo_92 rfl 0 rfl ?_
    refine t_getR (n := 96) 32 rfl (by decide) q1366 dX3_mendingTo_93 rfl ?_
    refine e_iload (n := 98) dX3_mendingTo_96 rfl 3 rfl ?_
    obtain ⟨wi, w⟩ := w
    refine t_iald (n := 99) ok 32 rfl rfl (N := 12) rfl wi dX3_mendingTo_98 rfl ?_
    refine e_topi (fun x1_6 hx1_6 => ?_)
    have w := w x1_6 hx1_6
    refine e_istore_n (n := 100) (lv' := [(0, .ref o), (1, .int x1_6), (2, .long t0), (4, .int x4), (6, .long t0)]) [1, 0, 2, 3, 4] dX3_mendingTo_99 rfl rfl rfl ?_
    refine e_sub (lv' := [(0, .ref o), (1, .int x1_6), (2, .long t0), (4, .int x4)]) [0, 1, 2, 3] rfl ?_
    exact hX3_mendingTo_100 ok hkh hk106 _ _ _ _ w
set_option maxHeartbeats 4000000 in
theorem hX3_mendingTo_10 {o : Nat} {ad : Nat → Nat} (ok : t_ok o ad) {Q : Int32 → TS → Prop} {k106 : Int32 → TS → Prop} (hk106 : ∀ (x1 : Int32) (s : TS), k106 x1 s → E mX3_mendingTo 2 0 0 (g_z (t_Ki o ad Q)) 0 0 106 [(1, .int x1)] [] (t_map o ad s)) : ∀ (n : Nat) (x1 : Int32) (x2 : Int64) (x4 : Int32) (s : TS), wX3_mendingTo_10 Q k106 n x1 x2 x4 s → E mX3_mendingTo 2 0 0 (g_z (t_Ki o ad Q)) 0 0 10 [(0, .ref o), (1, .int x1), (2, .long x2), (4, .int x4)] [] (t_map o ad s) := by
  intro n
  induction n with
  | zero =>
    intro _ _ _ _ w
    exact w.elim
  | succ n ih =>
    intro x1 x2 x4 s w
    unfold wX3_mendingTo_10 at w
    refine e_iload (n := 12) dX3_mendingTo_10 rfl 3 rfl ?_
    refine e_aload_n (n := 13) dX3_mendingTo_12 rfl 0 rfl ?_
    refine t_getI (n := 16) 34 rfl rfl q1368 dX3_mendingTo_13 rfl ?_
    refine e_icmp_gt (n := 19) (tgt := 106) dX3_mendingTo_16 rfl (by decide) (fun h => ?_) (fun h => ?_)
    · have w := w.1 h
      refine e_sub (lv' := [(1, .int x1)]) [1] rfl ?_
      exact hk106 _ _ w
    · have w := w.2 h
      refine e_aload_n (n := 20) dX3_mendingTo_19 rfl 0 rfl ?_
      refine t_getR (n := 23) 38 rfl (by decide) q1372 dX3_mendingTo_20 rfl ?_
      refine e_bipush (n := 25) (v := 12) dX3_mendingTo_23 rfl (by decide) ?_
      refine e_iload (n := 27) dX3_mendingTo_25 rfl 3 rfl ?_
      refine e_imul (n := 28) dX3_mendingTo_27 rfl ?_
      refine e_aload_n (n := 29) dX3_mendingTo_28 rfl 0 rfl ?_
      refine t_getI (n := 32) 34 rfl rfl q1368 dX3_mendingTo_29 rfl ?_
      refine e_iadd (n := 33) dX3_mendingTo_32 rfl ?_
      obtain ⟨wi, w⟩ := w
      refine t_iald (n := 34) ok 38 rfl rfl (N := 144) rfl wi dX3_mendingTo_33 rfl ?_
      refine e_topi (fun x5_3 hx5_3 => ?_)
      have w := w x5_3 hx5_3
      refine e_istore (n := 36) (lv' := [(0, .ref o), (1, .int x1), (2, .long x2), (4, .int x4), (5, .int x5_3)]) [1, 2, 3, 4, 0] dX3_mendingTo_34 rfl rfl rfl ?_
      refine e_iload (n := 38) dX3_mendingTo_36 rfl 4 rfl ?_
      refine e_ldc (n := 40) q1588 dX3_mendingTo_38 rfl ?_
      refine e_icmp_ne (n := 43) (tgt := 49) dX3_mendingTo_40 rfl (by decide) (fun h => ?_) (fun h => ?_)
      · have w := w.2 h
        refine e_aload_n (n := 50) dX3_mendingTo_49 rfl 0 rfl ?_
        refine t_getR (n := 53) 44 rfl (by decide) q1378 dX3_mendingTo_50 rfl ?_
        refine e_sipush (n := 56) (v := 2704) dX3_mendingTo_53 rfl (by decide) ?_
        refine e_aload_n (n := 57) dX3_mendingTo_56 rfl 0 rfl ?_
        refine t_getI (n := 60) 6 rfl rfl q1340 dX3_mendingTo_57 rfl ?_
        refine e_imul (n := 61) dX3_mendingTo_60 rfl ?_
        refine e_aload_n (n := 62) dX3_mendingTo_61 rfl 0 rfl ?_
        refine t_getR (n := 65) 32 rfl (by decide) q1366 dX3_mendingTo_62 rfl ?_
        refine e_iload (n := 67) dX3_mendingTo_65 rfl 3 rfl ?_
        obtain ⟨wi, w⟩ := w
        refine t_iald (n := 68) ok 32 rfl rfl (N := 12) rfl wi dX3_mendingTo_67 rfl ?_
        refine e_iadd (n := 69) dX3_mendingTo_68 rfl ?_
        obtain ⟨wi, w⟩ := w
        refine t_lald (n := 70) ok 44 rfl rfl (N := 21632) rfl wi dX3_mendingTo_69 rfl ?_
        refine e_ldc2 (n := 73) q1638 dX3_mendingTo_70 rfl ?_
        refine e_iload (n := 75) dX3_mendingTo_73 rfl 4 rfl ?_
        refine e_i2l (n := 76) dX3_mendingTo_75 rfl ?_
        refine e_lmul (n := 77) dX3_mendingTo_76 rfl ?_
        refine t_callS (n := 80) (As := [.long (s.2.2 44 ((2704 * (s.1 6)) + (s.2.1 32 x4.toNatClampNeg)).toNatClampNeg), .long (4294967296 * (x5_3.toInt64))]) (st := []) okX3_sum q1643 q1644 q63 q1645 (by decide) (Nat.le_refl _) (Nat.le_refl _) rfl rfl rfl dX3_mendingTo_77 rfl (ctX3_sum w) (fun r9 σ9 hk => ?_)
        obtain ⟨r_4, rfl, rfl, w⟩ := hk
        refine e_sub (lv' := [(0, .ref o), (1, .int x1), (2, .long x2), (4, .int x4)]) [0, 1, 2, 3] rfl ?_
        exact hX3_mendingTo_80 ok ih hk106 _ _ _ _ _ w
      · have w := w.1 h
        refine e_ldc2 (n := 46) q1625 dX3_mendingTo_43 rfl ?_
        refine e_goto (n := 80) dX3_mendingTo_46 (by decide) ?_
        refine e_sub (lv' := [(0, .ref o), (1, .int x1), (2, .long x2), (4, .int x4)]) [0, 1, 2, 3] rfl ?_
        exact hX3_mendingTo_80 ok ih hk106 _ _ _ _ _ w
set_option maxHeartbeats 4000000 in
theorem ctX3_mendingTo {o : Nat} {ad : Nat → Nat} (ok : t_ok o ad) {Q : Int32 → TS → Prop}  {s : TS} (w : wX3_mendingTo Q  s) : CT mX3_mendingTo 2 0 0 [.ref o] (t_map o ad s) (t_Ki o ad Q) := by
  refine CT.of (lv := [(0, .ref o)]) okX3_mendingTo.1 rfl rfl ?_
  unfold wX3_mendingTo at w
  refine e_bipush (n := 2) (v := (-4)) dX3_mendingTo_0 rfl (by decide) ?_
  refine e_istore_n (n := 3) (lv' := [(0, .ref o), (1, .int (-4))]) [1, 0] dX3_mendingTo_2 rfl rfl rfl ?_
  refine e_ldc2 (n := 6) q1625 dX3_mendingTo_3 rfl ?_
  refine e_lstore_n (n := 7) (lv' := [(0, .ref o), (1, .int (-4)), (2, .long 1152921504606846976)]) [1, 2, 0] dX3_mendingTo_6 rfl rfl rfl ?_
  refine e_iconst (n := 8) (v := 0) dX3_mendingTo_7 rfl (by decide) ?_
  refine e_istore (n := 10) (lv' := [(0, .ref o), (1, .int (-4)), (2, .long 1152921504606846976), (4, .int 0)]) [1, 2, 3, 0] dX3_mendingTo_8 rfl rfl rfl ?_
  obtain ⟨fu, w⟩ := w
  refine hX3_mendingTo_10 ok (fun x1_1 s_2 w => ?_) fu _ _ _ _ w
  refine e_iload_n (n := 107) dX3_mendingTo_106 rfl 0 rfl ?_
  exact e_iret rfl (Nat.le_refl _) (Nat.le_refl _) ⟨_, _, rfl, rfl, w⟩ dX3_mendingTo_107
abbrev mX3_costOf : gM := (yX3_costOf, cX3_costOf, 2, some .long)
theorem okX3_costOf : g_ok mX3_costOf 1 := ⟨by decide +kernel, by decide +kernel, by decide +kernel, by decide +kernel, by decide⟩
def wX3_costOf (Q : Int64 → TS → Prop) (x1 : Int32) (s : TS) : Prop := vp_in ((2704 * (s.1 6)) + x1) 21632 ∧ (vp_in x1 52 ∧ (vp_in ((12 * (s.2.1 30 x1.toNatClampNeg)) + (s.1 34)) 144 ∧ (Q ((s.2.2 44 ((2704 * (s.1 6)) + x1).toNatClampNeg) + (4294967296 * ((s.2.1 38 ((12 * (s.2.1 30 x1.toNatClampNeg)) + (s.1 34)).toNatClampNeg).toInt64))) s)))
set_option maxHeartbeats 4000000 in
theorem ctX3_costOf {o : Nat} {ad : Nat → Nat} (ok : t_ok o ad) {Q : Int64 → TS → Prop} {x1 : Int32} {s : TS} (w : wX3_costOf Q x1 s) : CT mX3_costOf 1 0 0 [.ref o, .int x1] (t_map o ad s) (t_Kl o ad Q) := by
  refine CT.of (lv := [(0, .ref o), (1, .int x1)]) okX3_costOf.1 rfl rfl ?_
  unfold wX3_costOf at w
  refine e_aload_n (n := 1) dX3_costOf_0 rfl 0 rfl ?_
  refine t_getR (n := 4) 44 rfl (by decide) q1378 dX3_costOf_1 rfl ?_
  refine e_sipush (n := 7) (v := 2704) dX3_costOf_4 rfl (by decide) ?_
  refine e_aload_n (n := 8) dX3_costOf_7 rfl 0 rfl ?_
  refine t_getI (n := 11) 6 rfl rfl q1340 dX3_costOf_8 rfl ?_
  refine e_imul (n := 12) dX3_costOf_11 rfl ?_
  refine e_iload_n (n := 13) dX3_costOf_12 rfl 1 rfl ?_
  refine e_iadd (n := 14) dX3_costOf_13 rfl ?_
  obtain ⟨wi, w⟩ := w
  refine t_lald (n := 15) ok 44 rfl rfl (N := 21632) rfl wi dX3_costOf_14 rfl ?_
  refine e_ldc2 (n := 18) q1638 dX3_costOf_15 rfl ?_
  refine e_aload_n (n := 19) dX3_costOf_18 rfl 0 rfl ?_
  refine t_getR (n := 22) 38 rfl (by decide) q1372 dX3_costOf_19 rfl ?_
  refine e_bipush (n := 24) (v := 12) dX3_costOf_22 rfl (by decide) ?_
  refine e_aload_n (n := 25) dX3_costOf_24 rfl 0 rfl ?_
  refine t_getR (n := 28) 30 rfl (by decide) q1364 dX3_costOf_25 rfl ?_
  refine e_iload_n (n := 29) dX3_costOf_28 rfl 1 rfl ?_
  obtain ⟨wi, w⟩ := w
  refine t_iald (n := 30) ok 30 rfl rfl (N := 52) rfl wi dX3_costOf_29 rfl ?_
  refine e_imul (n := 31) dX3_costOf_30 rfl ?_
  refine e_aload_n (n := 32) dX3_costOf_31 rfl 0 rfl ?_
  refine t_getI (n := 35) 34 rfl rfl q1368 dX3_costOf_32 rfl ?_
  refine e_iadd (n := 36) dX3_costOf_35 rfl ?_
  obtain ⟨wi, w⟩ := w
  refine t_iald (n := 37) ok 38 rfl rfl (N := 144) rfl wi dX3_costOf_36 rfl ?_
  refine e_i2l (n := 38) dX3_costOf_37 rfl ?_
  refine e_lmul (n := 39) dX3_costOf_38 rfl ?_
  refine e_ladd (n := 40) dX3_costOf_39 rfl ?_
  exact e_lret rfl (Nat.le_refl _) (Nat.le_refl _) ⟨_, _, rfl, rfl, w⟩ dX3_costOf_40
abbrev mX3_push : gM := (yX3_push, cX3_push, 5, none)
theorem okX3_push : g_ok mX3_push 4 := ⟨by decide +kernel, by decide +kernel, by decide +kernel, by decide +kernel, by decide⟩
def wX3_push (Q : TS → Prop) (x1 : Int32) (x2 : Int32) (x3 : Int32) (x4 : Int32) (s : TS) : Prop := vp_in (s.1 46) 700 ∧ ∀ s_1 : TS, s_1 = tA s 47 (s.1 46).toNatClampNeg x1 → (vp_in (s_1.1 46) 700 ∧ ∀ s_2 : TS, s_2 = tA s_1 48 (s_1.1 46).toNatClampNeg x2 → (vp_in (s_2.1 46) 700 ∧ ∀ s_3 : TS, s_3 = tA s_2 49 (s_2.1 46).toNatClampNeg x3 → (vp_in (s_3.1 46) 700 ∧ ∀ s_4 : TS, s_4 = tA s_3 50 (s_3.1 46).toNatClampNeg x4 → (∀ s_5 : TS, s_5 = tI s_4 46 ((s_4.1 46) + 1) → (Q s_5)))))
set_option maxHeartbeats 4000000 in
theorem ctX3_push {o : Nat} {ad : Nat → Nat} (ok : t_ok o ad) {Q : TS → Prop} {x1 : Int32} {x2 : Int32} {x3 : Int32} {x4 : Int32} {s : TS} (w : wX3_push Q x1 x2 x3 x4 s) : CT mX3_push 1 0 0 [.ref o, .int x1, .int x2, .int x3, .int x4] (t_map o ad s) (t_Kv o ad Q) := by
  refine CT.of (lv := [(0, .ref o), (1, .int x1), (2, .int x2), (3, .int x3), (4, .int x4)]) okX3_push.1 rfl rfl ?_
  unfold wX3_push at w
  refine e_aload_n (n := 1) dX3_push_0 rfl 0 rfl ?_
  refine t_getR (n := 4) 47 rfl (by decide) q1381 dX3_push_1 rfl ?_
  refine e_aload_n (n := 5) dX3_push_4 rfl 0 rfl ?_
  refine t_getI (n := 8) 46 rfl rfl q1380 dX3_push_5 rfl ?_
  refine e_iload_n (n := 9) dX3_push_8 rfl 1 rfl ?_
  obtain ⟨wi, w⟩ := w
  refine t_iast (n := 10) ok 47 rfl rfl (N := 700) rfl wi dX3_push_9 rfl (fun s_1 hs_1 => ?_)
  have w := w s_1 hs_1
  refine e_aload_n (n := 11) dX3_push_10 rfl 0 rfl ?_
  refine t_getR (n := 14) 48 rfl (by decide) q1382 dX3_push_11 rfl ?_
  refine e_aload_n (n := 15) dX3_push_14 rfl 0 rfl ?_
  refine t_getI (n := 18) 46 rfl rfl q1380 dX3_push_15 rfl ?_
  refine e_iload_n (n := 19) dX3_push_18 rfl 2 rfl ?_
  obtain ⟨wi, w⟩ := w
  refine t_iast (n := 20) ok 48 rfl rfl (N := 700) rfl wi dX3_push_19 rfl (fun s_2 hs_2 => ?_)
  have w := w s_2 hs_2
  refine e_aload_n (n := 21) dX3_push_20 rfl 0 rfl ?_
  refine t_getR (n := 24) 49 rfl (by decide) q1383 dX3_push_21 rfl ?_
  refine e_aload_n (n := 25) dX3_push_24 rfl 0 rfl ?_
  refine t_getI (n := 28) 46 rfl rfl q1380 dX3_push_25 rfl ?_
  refine e_iload_n (n := 29) dX3_push_28 rfl 3 rfl ?_
  obtain ⟨wi, w⟩ := w
  refine t_iast (n := 30) ok 49 rfl rfl (N := 700) rfl wi dX3_push_29 rfl (fun s_3 hs_3 => ?_)
  have w := w s_3 hs_3
  refine e_aload_n (n := 31) dX3_push_30 rfl 0 rfl ?_
  refine t_getR (n := 34) 50 rfl (by decide) q1384 dX3_push_31 rfl ?_
  refine e_aload_n (n := 35) dX3_push_34 rfl 0 rfl ?_
  refine t_getI (n := 38) 46 rfl rfl q1380 dX3_push_35 rfl ?_
  refine e_iload (n := 40) dX3_push_38 rfl 4 rfl ?_
  obtain ⟨wi, w⟩ := w
  refine t_iast (n := 41) ok 50 rfl rfl (N := 700) rfl wi dX3_push_40 rfl (fun s_4 hs_4 => ?_)
  have w := w s_4 hs_4
  refine e_aload_n (n := 42) dX3_push_41 rfl 0 rfl ?_
  refine e_dup (n := 43) dX3_push_42 rfl rfl ?_
  refine t_getI (n := 46) 46 rfl rfl q1380 dX3_push_43 rfl ?_
  refine e_iconst (n := 47) (v := 1) dX3_push_46 rfl (by decide) ?_
  refine e_iadd (n := 48) dX3_push_47 rfl ?_
  refine t_putI (n := 51) 46 rfl rfl rfl rfl q1380 dX3_push_48 rfl (fun s_5 hs_5 => ?_)
  have w := w s_5 hs_5
  exact e_vret rfl (Nat.le_refl _) (Nat.le_refl _) ⟨_, rfl, rfl, w⟩ dX3_push_51
abbrev mX3_layName : gM := (yX3_layName, cX3_layName, 17, none)
theorem okX3_layName : g_ok mX3_layName 4 := ⟨by decide +kernel, by decide +kernel, by decide +kernel, by decide +kernel, by decide⟩
def wX3_layName_326 (Q : TS → Prop) (k360 : Int32 → Int32 → Int32 → Int32 → Int32 → Int32 → Int32 → Int32 → TS → Prop) : Nat → Int32 → Int32 → Int32 → Int32 → Int32 → Int32 → Int32 → Int64 → Int32 → TS → Prop
  | 0 => fun _ _ _ _ _ _ _ _ _ _ => False
  | n + 1 => fun x2 x3 x8 x10 x11 x12 x13 x14 x16 s => wX3_cost (fun (r_43 : Int64) (s_42 : TS) => wX3_cost (fun (r_45 : Int64) (s_44 : TS) => wX3_sum (fun (r_46 : Int64) => (r_46 = x14 → (k360 x2 x3 x8 x10 x11 x12 x13 x16 s_44)) ∧ (¬ r_46 = x14 → (∀ x16_47 : Int32, x16_47 = x16 + 1 → (wX3_layName_326 Q k360 n x2 x3 x8 x10 x11 x12 x13 x14 x16_47 s_44)))) r_43 r_45) x12 x16 x3 s_42) x11 x13 x16 s
def wX3_layName_274 (Q : TS → Prop) (k309 : Int32 → Int32 → Int32 → Int32 → Int32 → Int32 → Int32 → TS → Prop) : Nat → Int32 → Int32 → Int64 → Int32 → Int32 → Int32 → Int32 → Int32 → TS → Prop
  | 0 => fun _ _ _ _ _ _ _ _ _ => False
  | n + 1 => fun x2 x3 x5 x8 x10 x11 x12 x13 s => wX3_cost (fun (r_49 : Int64) (s_48 : TS) => wX3_both (fun (r_51 : Int64) (s_50 : TS) => wX3_sum (fun (r_52 : Int64) => (r_52 = x5 → (k309 x2 x3 x8 x10 x11 x12 x13 s_50)) ∧ (¬ r_52 = x5 → (∀ x13_53 : Int32, x13_53 = x13 + 1 → (wX3_layName_274 Q k309 n x2 x3 x5 x8 x10 x11 x12 x13_53 s_50)))) r_49 r_51) x11 x12 x13 x3 s_48) x10 x2 x13 s
def wX3_layName_194 (Q : TS → Prop) (k227 : Int32 → Int32 → Int32 → Int32 → Int32 → Int32 → TS → Prop) : Nat → Int32 → Int32 → Int64 → Int32 → Int32 → Int32 → Int32 → TS → Prop
  | 0 => fun _ _ _ _ _ _ _ _ => False
  | n + 1 => fun x2 x3 x5 x8 x10 x11 x12 s => wX3_cost (fun (r_64 : Int64) (s_63 : TS) => wX3_cost (fun (r_66 : Int64) (s_65 : TS) => wX3_sum (fun (r_67 : Int64) => (r_67 = x5 → (k227 x2 x3 x8 x10 x11 x12 s_65)) ∧ (¬ r_67 = x5 → (∀ x12_68 : Int32, x12_68 = x12 + 1 → (wX3_layName_194 Q k227 n x2 x3 x5 x8 x10 x11 x12_68 s_65)))) r_64 r_66) x11 x12 x3 s_63) x10 x2 x12 s
def wX3_layName_49 (Q : TS → Prop) (kh : Int32 → Int32 → Int32 → Int32 → Int64 → Int32 → TS → Prop) (k55 : Int32 → Int32 → Int32 → Int32 → Int64 → Int32 → TS → Prop) (x1 : Int32) (x2 : Int32) (x3 : Int32) (x4 : Int32) (x5 : Int64) (x7 : Int32) (s : TS) : Prop := ∀ x7_70 : Int32, x7_70 = x7 + 1 → (kh x1 x2 x3 x4 x5 x7_70 s)
def wX3_layName_24 (Q : TS → Prop) (k55 : Int32 → Int32 → Int32 → Int32 → Int64 → Int32 → TS → Prop) : Nat → Int32 → Int32 → Int32 → Int32 → Int64 → Int32 → TS → Prop
  | 0 => fun _ _ _ _ _ _ _ => False
  | n + 1 => fun x1 x2 x3 x4 x5 x7 s => vp_in x7 24 ∧ ((s.2.1 8 x7.toNatClampNeg = x1 → (wX3_ruleCost (fun (r_72 : Int64) (s_71 : TS) => (r_72 = x5 → (k55 x1 x2 x3 x4 x5 x7 s_71)) ∧ (¬ r_72 = x5 → (wX3_layName_49 Q (wX3_layName_24 Q k55 n) k55 x1 x2 x3 x4 x5 x7 s_71))) x7 x2 x3 s)) ∧ (¬ s.2.1 8 x7.toNatClampNeg = x1 → (wX3_layName_49 Q (wX3_layName_24 Q k55 n) k55 x1 x2 x3 x4 x5 x7 s)))
def wX3_layName (Q : TS → Prop) (x1 : Int32) (x2 : Int32) (x3 : Int32) (x4 : Int32) (s : TS) : Prop := vp_in (((2704 * x1) + (52 * x2)) + x3) 21632 ∧ (∀ x5_1 : Int64, x5_1 = (s.2.2 44 (((2704 * x1) + (52 * x2)) + x3).toNatClampNeg) - 1 → (∃ fu : Nat, wX3_layName_24 Q (fun (x1_2 : Int32) (x2_3 : Int32) (x3_4 : Int32) (x4_5 : Int32) (x5_6 : Int64) (x7_7 : Int32) (s_8 : TS) => ∀ x8_9 : Int32, x8_9 = s_8.1 26 → (vp_in (5 * x8_9) 520 ∧ ∀ s_10 : TS, s_10 = tA s_8 27 (5 * x8_9).toNatClampNeg x1_2 → (vp_in ((5 * x8_9) + 1) 520 ∧ ∀ s_11 : TS, s_11 = tA s_10 27 ((5 * x8_9) + 1).toNatClampNeg x7_7 → (vp_in ((5 * x8_9) + 2) 520 ∧ ∀ s_12 : TS, s_12 = tA s_11 27 ((5 * x8_9) + 2).toNatClampNeg x4_5 → (vp_in ((5 * x8_9) + 3) 520 ∧ ∀ s_13 : TS, s_13 = tA s_12 27 ((5 * x8_9) + 3).toNatClampNeg (s_12.1 24) → (∀ s_14 : TS, s_14 = tI s_13 26 ((s_13.1 26) + 1) → (wX3_push (fun (s_15 : TS) => vp_in x7_7 24 ∧ (∀ x9_16 : Int32, x9_16 = s_15.2.1 9 x7_7.toNatClampNeg → (vp_in (3 * x7_7) 72 ∧ (∀ x10_17 : Int32, x10_17 = s_15.2.1 10 (3 * x7_7).toNatClampNeg → (vp_in ((3 * x7_7) + 1) 72 ∧ (∀ x11_18 : Int32, x11_18 = s_15.2.1 10 ((3 * x7_7) + 1).toNatClampNeg → ((x9_16 = 1 → (wX3_push (fun (s_69 : TS) => Q s_69) x10_17 x2_3 x3_4 x8_9 s_15)) ∧ (¬ x9_16 = 1 → ((x9_16 = 2 → (∃ fu : Nat, wX3_layName_194 Q (fun (x2_54 : Int32) (x3_55 : Int32) (x8_56 : Int32) (x10_57 : Int32) (x11_58 : Int32) (x12_59 : Int32) (s_60 : TS) => wX3_push (fun (s_61 : TS) => wX3_push (fun (s_62 : TS) => Q s_62) x10_57 x2_54 x12_59 x8_56 s_61) x11_58 x12_59 x3_55 x8_56 s_60) fu x2_3 x3_4 x5_6 x8_9 x10_17 x11_18 x2_3 s_15)) ∧ (¬ x9_16 = 2 → ((x9_16 = 3 → (vp_in ((3 * x7_7) + 2) 72 ∧ (∀ x12_19 : Int32, x12_19 = s_15.2.1 10 ((3 * x7_7) + 2).toNatClampNeg → (∃ fu : Nat, wX3_layName_274 Q (fun (x2_20 : Int32) (x3_21 : Int32) (x8_22 : Int32) (x10_23 : Int32) (x11_24 : Int32) (x12_25 : Int32) (x13_26 : Int32) (s_27 : TS) => wX3_both (fun (r_29 : Int64) (s_28 : TS) => ∃ fu : Nat, wX3_layName_326 Q (fun (x2_30 : Int32) (x3_31 : Int32) (x8_32 : Int32) (x10_33 : Int32) (x11_34 : Int32) (x12_35 : Int32) (x13_36 : Int32) (x16_37 : Int32) (s_38 : TS) => wX3_push (fun (s_39 : TS) => wX3_push (fun (s_40 : TS) => wX3_push (fun (s_41 : TS) => Q s_41) x10_33 x2_30 x13_36 x8_32 s_40) x11_34 x13_36 x16_37 x8_32 s_39) x12_35 x16_37 x3_31 x8_32 s_38) fu x2_20 x3_21 x8_22 x10_23 x11_24 x12_25 x13_26 r_29 x13_26 s_28) x11_24 x12_25 x13_26 x3_21 s_27) fu x2_3 x3_4 x5_6 x8_9 x10_17 x11_18 x12_19 x2_3 s_15)))) ∧ (¬ x9_16 = 3 → (Q s_15))))))))))))) 200 0 0 x8_9 s_14))))))) fu x1 x2 x3 x4 x5_1 0 s))
set_option maxHeartbeats 4000000 in
theorem hX3_layName_326 {o : Nat} {ad : Nat → Nat} (ok : t_ok o ad) {Q : TS → Prop} {k360 : Int32 → Int32 → Int32 → Int32 → Int32 → Int32 → Int32 → Int32 → TS → Prop} (hk360 : ∀ (x2 : Int32) (x3 : Int32) (x8 : Int32) (x10 : Int32) (x11 : Int32) (x12 : Int32) (x13 : Int32) (x16 : Int32) (s : TS), k360 x2 x3 x8 x10 x11 x12 x13 x16 s → E mX3_layName 4 0 0 (g_z (t_Kv o ad Q)) 0 0 360 [(0, .ref o), (2, .int x2), (3, .int x3), (8, .int x8), (10, .int x10), (11, .int x11), (12, .int x12), (13, .int x13), (16, .int x16)] [] (t_map o ad s)) : ∀ (n : Nat) (x2 : Int32) (x3 : Int32) (x8 : Int32) (x10 : Int32) (x11 : Int32) (x12 : Int32) (x13 : Int32) (x14 : Int64) (x16 : Int32) (s : TS), wX3_layName_326 Q k360 n x2 x3 x8 x10 x11 x12 x13 x14 x16 s → E mX3_layName 4 0 0 (g_z (t_Kv o ad Q)) 0 0 326 [(0, .ref o), (2, .int x2), (3, .int x3), (8, .int x8), (10, .int x10), (11, .int x11), (12, .int x12), (13, .int x13), (14, .long x14), (16, .int x16)] [] (t_map o ad s) := by
  intro n
  induction n with
  | zero =>
    intro _ _ _ _ _ _ _ _ _ _ w
    exact w.elim
  | succ n ih =>
    intro x2 x3 x8 x10 x11 x12 x13 x14 x16 s w
    unfold wX3_layName_326 at w
    refine e_aload_n (n := 327) dX3_layName_326 rfl 0 rfl ?_
    refine e_iload (n := 329) dX3_layName_327 rfl 5 rfl ?_
    refine e_iload (n := 331) dX3_layName_329 rfl 7 rfl ?_
    refine e_iload (n := 333) dX3_layName_331 rfl 9 rfl ?_
    refine t_callV (n := 336) (As := [.int x11, .int x13, .int x16]) (st := []) okX3_cost q1634 q1636 qs45 q1637 rfl (by decide) (Nat.le_refl _) (Nat.le_refl _) rfl rfl rfl dX3_layName_333 rfl (ctX3_cost ok w) (fun r9 σ9 hk => ?_)
    obtain ⟨r_43, s_42, rfl, rfl, w⟩ := hk
    refine e_aload_n (n := 337) dX3_layName_336 rfl 0 rfl ?_
    refine e_iload (n := 339) dX3_layName_337 rfl 6 rfl ?_
    refine e_iload (n := 341) dX3_layName_339 rfl 9 rfl ?_
    refine e_iload_n (n := 342) dX3_layName_341 rfl 2 rfl ?_
    refine t_callV (n := 345) (As := [.int x12, .int x16, .int x3]) (st := [.long r_43]) okX3_cost q1634 q1636 qs45 q1637 rfl (by decide) (Nat.le_refl _) (Nat.le_refl _) rfl rfl rfl dX3_layName_342 rfl (ctX3_cost ok w) (fun r9 σ9 hk => ?_)
    obtain ⟨r_45, s_44, rfl, rfl, w⟩ := hk
    refine t_callS (n := 348) (As := [.long r_43, .long r_45]) (st := []) okX3_sum q1643 q1644 q63 q1645 (by decide) (Nat.le_refl _) (Nat.le_refl _) rfl rfl rfl dX3_layName_345 rfl (ctX3_sum w) (fun r9 σ9 hk => ?_)
    obtain ⟨r_46, rfl, rfl, w⟩ := hk
    refine e_lload (n := 350) dX3_layName_348 rfl 8 rfl ?_
    refine e_lcmp_eq (n := 354) (tgt := 360) dX3_layName_350 dX3_layName_351 rfl (by decide) (fun h => ?_) (fun h => ?_)
    · have w := w.1 h
      refine e_sub (lv' := [(0, .ref o), (2, .int x2), (3, .int x3), (8, .int x8), (10, .int x10), (11, .int x11), (12, .int x12), (13, .int x13), (16, .int x16)]) [0, 1, 2, 3, 4, 5, 6, 7, 9] rfl ?_
      exact hk360 _ _ _ _ _ _ _ _ _ w
    · have w := w.2 h
      obtain ⟨x16_47, hx16_47⟩ : ∃ y : Int32, y = x16 + 1 := ⟨_, rfl⟩
      have w := w x16_47 hx16_47
      refine e_iinc (n := 357) (v := x16_47) (lv' := [(0, .ref o), (2, .int x2), (3, .int x3), (8, .int x8), (10, .int x10), (11, .int x11), (12, .int x12), (13, .int x13), (14, .long x14), (16, .int x16_47)]) [1, 2, 3, 4, 5, 6, 7, 8, 9, 0] dX3_layName_354 rfl 9 rfl (by rw [hx16_47]; rfl) rfl rfl ?_
      refine e_goto (n := 326) dX3_layName_357 (by decide) ?_
      exact ih _ _ _ _ _ _ _ _ _ _ w
set_option maxHeartbeats 4000000 in
theorem hX3_layName_274 {o : Nat} {ad : Nat → Nat} (ok : t_ok o ad) {Q : TS → Prop} {k309 : Int32 → Int32 → Int32 → Int32 → Int32 → Int32 → Int32 → TS → Prop} (hk309 : ∀ (x2 : Int32) (x3 : Int32) (x8 : Int32) (x10 : Int32) (x11 : Int32) (x12 : Int32) (x13 : Int32) (s : TS), k309 x2 x3 x8 x10 x11 x12 x13 s → E mX3_layName 4 0 0 (g_z (t_Kv o ad Q)) 0 0 309 [(0, .ref o), (2, .int x2), (3, .int x3), (8, .int x8), (10, .int x10), (11, .int x11), (12, .int x12), (13, .int x13)] [] (t_map o ad s)) : ∀ (n : Nat) (x2 : Int32) (x3 : Int32) (x5 : Int64) (x8 : Int32) (x10 : Int32) (x11 : Int32) (x12 : Int32) (x13 : Int32) (s : TS), wX3_layName_274 Q k309 n x2 x3 x5 x8 x10 x11 x12 x13 s → E mX3_layName 4 0 0 (g_z (t_Kv o ad Q)) 0 0 274 [(0, .ref o), (2, .int x2), (3, .int x3), (5, .long x5), (8, .int x8), (10, .int x10), (11, .int x11), (12, .int x12), (13, .int x13)] [] (t_map o ad s) := by
  intro n
  induction n with
  | zero =>
    intro _ _ _ _ _ _ _ _ _ w
    exact w.elim
  | succ n ih =>
    intro x2 x3 x5 x8 x10 x11 x12 x13 s w
    unfold wX3_layName_274 at w
    refine e_aload_n (n := 275) dX3_layName_274 rfl 0 rfl ?_
    refine e_iload (n := 277) dX3_layName_275 rfl 5 rfl ?_
    refine e_iload_n (n := 278) dX3_layName_277 rfl 1 rfl ?_
    refine e_iload (n := 280) dX3_layName_278 rfl 8 rfl ?_
    refine t_callV (n := 283) (As := [.int x10, .int x2, .int x13]) (st := []) okX3_cost q1634 q1636 qs45 q1637 rfl (by decide) (Nat.le_refl _) (Nat.le_refl _) rfl rfl rfl dX3_layName_280 rfl (ctX3_cost ok w) (fun r9 σ9 hk => ?_)
    obtain ⟨r_49, s_48, rfl, rfl, w⟩ := hk
    refine e_aload_n (n := 284) dX3_layName_283 rfl 0 rfl ?_
    refine e_iload (n := 286) dX3_layName_284 rfl 6 rfl ?_
    refine e_iload (n := 288) dX3_layName_286 rfl 7 rfl ?_
    refine e_iload (n := 290) dX3_layName_288 rfl 8 rfl ?_
    refine e_iload_n (n := 291) dX3_layName_290 rfl 2 rfl ?_
    refine t_callV (n := 294) (As := [.int x11, .int x12, .int x13, .int x3]) (st := [.long r_49]) okX3_both q1639 q1641 qs46 q1642 rfl (by decide) (Nat.le_refl _) (Nat.le_refl _) rfl rfl rfl dX3_layName_291 rfl (ctX3_both ok w) (fun r9 σ9 hk => ?_)
    obtain ⟨r_51, s_50, rfl, rfl, w⟩ := hk
    refine t_callS (n := 297) (As := [.long r_49, .long r_51]) (st := []) okX3_sum q1643 q1644 q63 q1645 (by decide) (Nat.le_refl _) (Nat.le_refl _) rfl rfl rfl dX3_layName_294 rfl (ctX3_sum w) (fun r9 σ9 hk => ?_)
    obtain ⟨r_52, rfl, rfl, w⟩ := hk
    refine e_lload (n := 299) dX3_layName_297 rfl 3 rfl ?_
    refine e_lcmp_eq (n := 303) (tgt := 309) dX3_layName_299 dX3_layName_300 rfl (by decide) (fun h => ?_) (fun h => ?_)
    · have w := w.1 h
      refine e_sub (lv' := [(0, .ref o), (2, .int x2), (3, .int x3), (8, .int x8), (10, .int x10), (11, .int x11), (12, .int x12), (13, .int x13)]) [0, 1, 2, 4, 5, 6, 7, 8] rfl ?_
      exact hk309 _ _ _ _ _ _ _ _ w
    · have w := w.2 h
      obtain ⟨x13_53, hx13_53⟩ : ∃ y : Int32, y = x13 + 1 := ⟨_, rfl⟩
      have w := w x13_53 hx13_53
      refine e_iinc (n := 306) (v := x13_53) (lv' := [(0, .ref o), (2, .int x2), (3, .int x3), (5, .long x5), (8, .int x8), (10, .int x10), (11, .int x11), (12, .int x12), (13, .int x13_53)]) [1, 2, 3, 4, 5, 6, 7, 8, 0] dX3_layName_303 rfl 8 rfl (by rw [hx13_53]; rfl) rfl rfl ?_
      refine e_goto (n := 274) dX3_layName_306 (by decide) ?_
      exact ih _ _ _ _ _ _ _ _ _ w
set_option maxHeartbeats 4000000 in
theorem hX3_layName_194 {o : Nat} {ad : Nat → Nat} (ok : t_ok o ad) {Q : TS → Prop} {k227 : Int32 → Int32 → Int32 → Int32 → Int32 → Int32 → TS → Prop} (hk227 : ∀ (x2 : Int32) (x3 : Int32) (x8 : Int32) (x10 : Int32) (x11 : Int32) (x12 : Int32) (s : TS), k227 x2 x3 x8 x10 x11 x12 s → E mX3_layName 4 0 0 (g_z (t_Kv o ad Q)) 0 0 227 [(0, .ref o), (2, .int x2), (3, .int x3), (8, .int x8), (10, .int x10), (11, .int x11), (12, .int x12)] [] (t_map o ad s)) : ∀ (n : Nat) (x2 : Int32) (x3 : Int32) (x5 : Int64) (x8 : Int32) (x10 : Int32) (x11 : Int32) (x12 : Int32) (s : TS), wX3_layName_194 Q k227 n x2 x3 x5 x8 x10 x11 x12 s → E mX3_layName 4 0 0 (g_z (t_Kv o ad Q)) 0 0 194 [(0, .ref o), (2, .int x2), (3, .int x3), (5, .long x5), (8, .int x8), (10, .int x10), (11, .int x11), (12, .int x12)] [] (t_map o ad s) := by
  intro n
  induction n with
  | zero =>
    intro _ _ _ _ _ _ _ _ w
    exact w.elim
  | succ n ih =>
    intro x2 x3 x5 x8 x10 x11 x12 s w
    unfold wX3_layName_194 at w
    refine e_aload_n (n := 195) dX3_layName_194 rfl 0 rfl ?_
    refine e_iload (n := 197) dX3_layName_195 rfl 5 rfl ?_
    refine e_iload_n (n := 198) dX3_layName_197 rfl 1 rfl ?_
    refine e_iload (n := 200) dX3_layName_198 rfl 7 rfl ?_
    refine t_callV (n := 203) (As := [.int x10, .int x2, .int x12]) (st := []) okX3_cost q1634 q1636 qs45 q1637 rfl (by decide) (Nat.le_refl _) (Nat.le_refl _) rfl rfl rfl dX3_layName_200 rfl (ctX3_cost ok w) (fun r9 σ9 hk => ?_)
    obtain ⟨r_64, s_63, rfl, rfl, w⟩ := hk
    refine e_aload_n (n := 204) dX3_layName_203 rfl 0 rfl ?_
    refine e_iload (n := 206) dX3_layName_204 rfl 6 rfl ?_
    refine e_iload (n := 208) dX3_layName_206 rfl 7 rfl ?_
    refine e_iload_n (n := 209) dX3_layName_208 rfl 2 rfl ?_
    refine t_callV (n := 212) (As := [.int x11, .int x12, .int x3]) (st := [.long r_64]) okX3_cost q1634 q1636 qs45 q1637 rfl (by decide) (Nat.le_refl _) (Nat.le_refl _) rfl rfl rfl dX3_layName_209 rfl (ctX3_cost ok w) (fun r9 σ9 hk => ?_)
    obtain ⟨r_66, s_65, rfl, rfl, w⟩ := hk
    refine t_callS (n := 215) (As := [.long r_64, .long r_66]) (st := []) okX3_sum q1643 q1644 q63 q1645 (by decide) (Nat.le_refl _) (Nat.le_refl _) rfl rfl rfl dX3_layName_212 rfl (ctX3_sum w) (fun r9 σ9 hk => ?_)
    obtain ⟨r_67, rfl, rfl, w⟩ := hk
    refine e_lload (n := 217) dX3_layName_215 rfl 3 rfl ?_
    refine e_lcmp_eq (n := 221) (tgt := 227) dX3_layName_217 dX3_layName_218 rfl (by decide) (fun h => ?_) (fun h => ?_)
    · have w := w.1 h
      refine e_sub (lv' := [(0, .ref o), (2, .int x2), (3, .int x3), (8, .int x8), (10, .int x10), (11, .int x11), (12, .int x12)]) [0, 1, 2, 4, 5, 6, 7] rfl ?_
      exact hk227 _ _ _ _ _ _ _ w
    · have w := w.2 h
      obtain ⟨x12_68, hx12_68⟩ : ∃ y : Int32, y = x12 + 1 := ⟨_, rfl⟩
      have w := w x12_68 hx12_68
      refine e_iinc (n := 224) (v := x12_68) (lv' := [(0, .ref o), (2, .int x2), (3, .int x3), (5, .long x5), (8, .int x8), (10, .int x10), (11, .int x11), (12, .int x12_68)]) [1, 2, 3, 4, 5, 6, 7, 0] dX3_layName_221 rfl 7 rfl (by rw [hx12_68]; rfl) rfl rfl ?_
      refine e_goto (n := 194) dX3_layName_224 (by decide) ?_
      exact ih _ _ _ _ _ _ _ _ w
set_option maxHeartbeats 4000000 in
theorem hX3_layName_49 {o : Nat} {ad : Nat → Nat} (ok : t_ok o ad) {Q : TS → Prop} {kh : Int32 → Int32 → Int32 → Int32 → Int64 → Int32 → TS → Prop} (hkh : ∀ (x1 : Int32) (x2 : Int32) (x3 : Int32) (x4 : Int32) (x5 : Int64) (x7 : Int32) (s : TS), kh x1 x2 x3 x4 x5 x7 s → E mX3_layName 4 0 0 (g_z (t_Kv o ad Q)) 0 0 24 [(0, .ref o), (1, .int x1), (2, .int x2), (3, .int x3), (4, .int x4), (5, .long x5), (7, .int x7)] [] (t_map o ad s)) {k55 : Int32 → Int32 → Int32 → Int32 → Int64 → Int32 → TS → Prop} (hk55 : ∀ (x1 : Int32) (x2 : Int32) (x3 : Int32) (x4 : Int32) (x5 : Int64) (x7 : Int32) (s : TS), k55 x1 x2 x3 x4 x5 x7 s → E mX3_layName 4 0 0 (g_z (t_Kv o ad Q)) 0 0 55 [(0, .ref o), (1, .int x1), (2, .int x2), (3, .int x3), (4, .int x4), (5, .long x5), (7, .int x7)] [] (t_map o ad s)) (x1 : Int32) (x2 : Int32) (x3 : Int32) (x4 : Int32) (x5 : Int64) (x7 : Int32) (s : TS) (w : wX3_layName_49 Q kh k55 x1 x2 x3 x4 x5 x7 s) : E mX3_layName 4 0 0 (g_z (t_Kv o ad Q)) 0 0 49 [(0, .ref o), (1, .int x1), (2, .int x2), (3, .int x3), (4, .int x4), (5, .long x5), (7, .int x7)] [] (t_map o ad s) := by
  unfold wX3_layName_49 at w
  obtain ⟨x7_70, hx7_70⟩ : ∃ y : Int32, y = x7 + 1 := ⟨_, rfl⟩
  have w := w x7_70 hx7_70
  refine e_iinc (n := 52) (v := x7_70) (lv' := [(0, .ref o), (1, .int x1), (2, .int x2), (3, .int x3), (4, .int x4), (5, .long x5), (7, .int x7_70)]) [1, 2, 3, 4, 5, 6, 0] dX3_layName_49 rfl 6 rfl (by rw [hx7_70]; rfl) rfl rfl ?_
  refine e_goto (n := 24) dX3_layName_52 (by decide) ?_
  exact hkh _ _ _ _ _ _ _ w
set_option maxHeartbeats 4000000 in
theorem hX3_layName_24 {o : Nat} {ad : Nat → Nat} (ok : t_ok o ad) {Q : TS → Prop} {k55 : Int32 → Int32 → Int32 → Int32 → Int64 → Int32 → TS → Prop} (hk55 : ∀ (x1 : Int32) (x2 : Int32) (x3 : Int32) (x4 : Int32) (x5 : Int64) (x7 : Int32) (s : TS), k55 x1 x2 x3 x4 x5 x7 s → E mX3_layName 4 0 0 (g_z (t_Kv o ad Q)) 0 0 55 [(0, .ref o), (1, .int x1), (2, .int x2), (3, .int x3), (4, .int x4), (5, .long x5), (7, .int x7)] [] (t_map o ad s)) : ∀ (n : Nat) (x1 : Int32) (x2 : Int32) (x3 : Int32) (x4 : Int32) (x5 : Int64) (x7 : Int32) (s : TS), wX3_layName_24 Q k55 n x1 x2 x3 x4 x5 x7 s → E mX3_layName 4 0 0 (g_z (t_Kv o ad Q)) 0 0 24 [(0, .ref o), (1, .int x1), (2, .int x2), (3, .int x3), (4, .int x4), (5, .long x5), (7, .int x7)] [] (t_map o ad s) := by
  intro n
  induction n with
  | zero =>
    intro _ _ _ _ _ _ _ w
    exact w.elim
  | succ n ih =>
    intro x1 x2 x3 x4 x5 x7 s w
    unfold wX3_layName_24 at w
    refine e_aload_n (n := 25) dX3_layName_24 rfl 0 rfl ?_
    refine t_getR (n := 28) 8 rfl (by decide) q1342 dX3_layName_25 rfl ?_
    refine e_iload (n := 30) dX3_layName_28 rfl 6 rfl ?_
    obtain ⟨wi, w⟩ := w
    refine t_iald (n := 31) ok 8 rfl rfl (N := 24) rfl wi dX3_layName_30 rfl ?_
    refine e_iload_n (n := 32) dX3_layName_31 rfl 1 rfl ?_
    refine e_icmp_ne (n := 35) (tgt := 49) dX3_layName_32 rfl (by decide) (fun h => ?_) (fun h => ?_)
    · have w := w.2 h
      exact hX3_layName_49 ok ih hk55 _ _ _ _ _ _ _ w
    · have w := w.1 h
      refine e_aload_n (n := 36) dX3_layName_35 rfl 0 rfl ?_
      refine e_iload (n := 38) dX3_layName_36 rfl 6 rfl ?_
      refine e_iload_n (n := 39) dX3_layName_38 rfl 2 rfl ?_
      refine e_iload_n (n := 40) dX3_layName_39 rfl 3 rfl ?_
      refine t_callV (n := 43) (As := [.int x7, .int x2, .int x3]) (st := []) okX3_ruleCost q1630 q1632 qs44 q1633 rfl (by decide) (Nat.le_refl _) (Nat.le_refl _) rfl rfl rfl dX3_layName_40 rfl (ctX3_ruleCost ok w) (fun r9 σ9 hk => ?_)
      obtain ⟨r_72, s_71, rfl, rfl, w⟩ := hk
      refine e_lload (n := 45) dX3_layName_43 rfl 5 rfl ?_
      refine e_lcmp_eq (n := 49) (tgt := 55) dX3_layName_45 dX3_layName_46 rfl (by decide) (fun h => ?_) (fun h => ?_)
      · have w := w.1 h
        exact hk55 _ _ _ _ _ _ _ w
      · have w := w.2 h
        exact hX3_layName_49 ok ih hk55 _ _ _ _ _ _ _ w
set_option maxHeartbeats 4000000 in
theorem ctX3_layName {o : Nat} {ad : Nat → Nat} (ok : t_ok o ad) {Q : TS → Prop} {x1 : Int32} {x2 : Int32} {x3 : Int32} {x4 : Int32} {s : TS} (w : wX3_layName Q x1 x2 x3 x4 s) : CT mX3_layName 4 0 0 [.ref o, .int x1, .int x2, .int x3, .int x4] (t_map o ad s) (t_Kv o ad Q) := by
  refine CT.of (lv := [(0, .ref o), (1, .int x1), (2, .int x2), (3, .int x3), (4, .int x4)]) okX3_layName.1 rfl rfl ?_
  unfold wX3_layName at w
  refine e_aload_n (n := 1) dX3_layName_0 rfl 0 rfl ?_
  refine t_getR (n := 4) 44 rfl (by decide) q1378 dX3_layName_1 rfl ?_
  refine e_sipush (n := 7) (v := 2704) dX3_layName_4 rfl (by decide) ?_
  refine e_iload_n (n := 8) dX3_layName_7 rfl 1 rfl ?_
  refine e_imul (n := 9) dX3_layName_8 rfl ?_
  refine e_bipush (n := 11) (v := 52) dX3_layName_9 rfl (by decide) ?_
  refine e_iload_n (n := 12) dX3_layName_11 rfl 2 rfl ?_
  refine e_imul (n := 13) dX3_layName_12 rfl ?_
  refine e_iadd (n := 14) dX3_layName_13 rfl ?_
  refine e_iload_n (n := 15) dX3_layName_14 rfl 3 rfl ?_
  refine e_iadd (n := 16) dX3_layName_15 rfl ?_
  obtain ⟨wi, w⟩ := w
  refine t_lald (n := 17) ok 44 rfl rfl (N := 21632) rfl wi dX3_layName_16 rfl ?_
  refine e_lconst (n := 18) (v := 1) dX3_layName_17 rfl (by decide) ?_
  refine e_lsub (n := 19) dX3_layName_18 rfl ?_
  refine e_topl (fun x5_1 hx5_1 => ?_)
  have w := w x5_1 hx5_1
  refine e_lstore (n := 21) (lv' := [(0, .ref o), (1, .int x1), (2, .int x2), (3, .int x3), (4, .int x4), (5, .long x5_1)]) [1, 2, 3, 4, 5, 0] dX3_layName_19 rfl rfl rfl ?_
  refine e_iconst (n := 22) (v := 0) dX3_layName_21 rfl (by decide) ?_
  refine e_istore (n := 24) (lv' := [(0, .ref o), (1, .int x1), (2, .int x2), (3, .int x3), (4, .int x4), (5, .long x5_1), (7, .int 0)]) [1, 2, 3, 4, 5, 6, 0] dX3_layName_22 rfl rfl rfl ?_
  obtain ⟨fu, w⟩ := w
  refine hX3_layName_24 ok (fun x1_2 x2_3 x3_4 x4_5 x5_6 x7_7 s_8 w => ?_) fu _ _ _ _ _ _ _ w
  refine e_aload_n (n := 56) dX3_layName_55 rfl 0 rfl ?_
  refine t_getI (n := 59) 26 rfl rfl q1360 dX3_layName_56 rfl ?_
  refine e_topi (fun x8_9 hx8_9 => ?_)
  have w := w x8_9 hx8_9
  refine e_istore (n := 61) (lv' := [(0, .ref o), (1, .int x1_2), (2, .int x2_3), (3, .int x3_4), (4, .int x4_5), (5, .long x5_6), (7, .int x7_7), (8, .int x8_9)]) [1, 2, 3, 4, 5, 6, 7, 0] dX3_layName_59 rfl rfl rfl ?_
  refine e_aload_n (n := 62) dX3_layName_61 rfl 0 rfl ?_
  refine t_getR (n := 65) 27 rfl (by decide) q1361 dX3_layName_62 rfl ?_
  refine e_iconst (n := 66) (v := 5) dX3_layName_65 rfl (by decide) ?_
  refine e_iload (n := 68) dX3_layName_66 rfl 7 rfl ?_
  refine e_imul (n := 69) dX3_layName_68 rfl ?_
  refine e_iload_n (n := 70) dX3_layName_69 rfl 1 rfl ?_
  obtain ⟨wi, w⟩ := w
  refine t_iast (n := 71) ok 27 rfl rfl (N := 520) rfl wi dX3_layName_70 rfl (fun s_10 hs_10 => ?_)
  have w := w s_10 hs_10
  refine e_aload_n (n := 72) dX3_layName_71 rfl 0 rfl ?_
  refine t_getR (n := 75) 27 rfl (by decide) q1361 dX3_layName_72 rfl ?_
  refine e_iconst (n := 76) (v := 5) dX3_layName_75 rfl (by decide) ?_
  refine e_iload (n := 78) dX3_layName_76 rfl 7 rfl ?_
  refine e_imul (n := 79) dX3_layName_78 rfl ?_
  refine e_iconst (n := 80) (v := 1) dX3_layName_79 rfl (by decide) ?_
  refine e_iadd (n := 81) dX3_layName_80 rfl ?_
  refine e_iload (n := 83) dX3_layName_81 rfl 6 rfl ?_
  obtain ⟨wi, w⟩ := w
  refine t_iast (n := 84) ok 27 rfl rfl (N := 520) rfl wi dX3_layName_83 rfl (fun s_11 hs_11 => ?_)
  have w := w s_11 hs_11
  refine e_aload_n (n := 85) dX3_layName_84 rfl 0 rfl ?_
  refine t_getR (n := 88) 27 rfl (by decide) q1361 dX3_layName_85 rfl ?_
  refine e_iconst (n := 89) (v := 5) dX3_layName_88 rfl (by decide) ?_
  refine e_iload (n := 91) dX3_layName_89 rfl 7 rfl ?_
  refine e_imul (n := 92) dX3_layName_91 rfl ?_
  refine e_iconst (n := 93) (v := 2) dX3_layName_92 rfl (by decide) ?_
  refine e_iadd (n := 94) dX3_layName_93 rfl ?_
  refine e_iload (n := 96) dX3_layName_94 rfl 4 rfl ?_
  obtain ⟨wi, w⟩ := w
  refine t_iast (n := 97) ok 27 rfl rfl (N := 520) rfl wi dX3_layName_96 rfl (fun s_12 hs_12 => ?_)
  have w := w s_12 hs_12
  refine e_aload_n (n := 98) dX3_layName_97 rfl 0 rfl ?_
  refine t_getR (n := 101) 27 rfl (by decide) q1361 dX3_layName_98 rfl ?_
  refine e_iconst (n := 102) (v := 5) dX3_layName_101 rfl (by decide) ?_
  refine e_iload (n := 104) dX3_layName_102 rfl 7 rfl ?_
  refine e_imul (n := 105) dX3_layName_104 rfl ?_
  refine e_iconst (n := 106) (v := 3) dX3_layName_105 rfl (by decide) ?_
  refine e_iadd (n := 107) dX3_layName_106 rfl ?_
  refine e_aload_n (n := 108) dX3_layName_107 rfl 0 rfl ?_
  refine t_getI (n := 111) 24 rfl rfl q1358 dX3_layName_108 rfl ?_
  obtain ⟨wi, w⟩ := w
  refine t_iast (n := 112) ok 27 rfl rfl (N := 520) rfl wi dX3_layName_111 rfl (fun s_13 hs_13 => ?_)
  have w := w s_13 hs_13
  refine e_aload_n (n := 113) dX3_layName_112 rfl 0 rfl ?_
  refine e_dup (n := 114) dX3_layName_113 rfl rfl ?_
  refine t_getI (n := 117) 26 rfl rfl q1360 dX3_layName_114 rfl ?_
  refine e_iconst (n := 118) (v := 1) dX3_layName_117 rfl (by decide) ?_
  refine e_iadd (n := 119) dX3_layName_118 rfl ?_
  refine t_putI (n := 122) 26 rfl rfl rfl rfl q1360 dX3_layName_119 rfl (fun s_14 hs_14 => ?_)
  have w := w s_14 hs_14
  refine e_aload_n (n := 123) dX3_layName_122 rfl 0 rfl ?_
  refine e_sipush (n := 126) (v := 200) dX3_layName_123 rfl (by decide) ?_
  refine e_iconst (n := 127) (v := 0) dX3_layName_126 rfl (by decide) ?_
  refine e_iconst (n := 128) (v := 0) dX3_layName_127 rfl (by decide) ?_
  refine e_iload (n := 130) dX3_layName_128 rfl 7 rfl ?_
  refine t_callV (n := 133) (As := [.int 200, .int 0, .int 0, .int x8_9]) (st := []) okX3_push q1658 q1660 qs50 q1661 rfl (by decide) (Nat.le_refl _) (Nat.le_refl _) rfl rfl rfl dX3_layName_130 rfl (ctX3_push ok w) (fun r9 σ9 hk => ?_)
  obtain ⟨s_15, rfl, rfl, w⟩ := hk
  refine e_aload_n (n := 134) dX3_layName_133 rfl 0 rfl ?_
  refine t_getR (n := 137) 9 rfl (by decide) q1343 dX3_layName_134 rfl ?_
  refine e_iload (n := 139) dX3_layName_137 rfl 6 rfl ?_
  obtain ⟨wi, w⟩ := w
  refine t_iald (n := 140) ok 9 rfl rfl (N := 24) rfl wi dX3_layName_139 rfl ?_
  refine e_topi (fun x9_16 hx9_16 => ?_)
  have w := w x9_16 hx9_16
  refine e_istore (n := 142) (lv' := [(0, .ref o), (1, .int x1_2), (2, .int x2_3), (3, .int x3_4), (4, .int x4_5), (5, .long x5_6), (7, .int x7_7), (8, .int x8_9), (9, .int x9_16)]) [1, 2, 3, 4, 5, 6, 7, 8, 0] dX3_layName_140 rfl rfl rfl ?_
  refine e_aload_n (n := 143) dX3_layName_142 rfl 0 rfl ?_
  refine t_getR (n := 146) 10 rfl (by decide) q1344 dX3_layName_143 rfl ?_
  refine e_iconst (n := 147) (v := 3) dX3_layName_146 rfl (by decide) ?_
  refine e_iload (n := 149) dX3_layName_147 rfl 6 rfl ?_
  refine e_imul (n := 150) dX3_layName_149 rfl ?_
  obtain ⟨wi, w⟩ := w
  refine t_iald (n := 151) ok 10 rfl rfl (N := 72) rfl wi dX3_layName_150 rfl ?_
  refine e_topi (fun x10_17 hx10_17 => ?_)
  have w := w x10_17 hx10_17
  refine e_istore (n := 153) (lv' := [(0, .ref o), (1, .int x1_2), (2, .int x2_3), (3, .int x3_4), (4, .int x4_5), (5, .long x5_6), (7, .int x7_7), (8, .int x8_9), (9, .int x9_16), (10, .int x10_17)]) [1, 2, 3, 4, 5, 6, 7, 8, 9, 0] dX3_layName_151 rfl rfl rfl ?_
  refine e_aload_n (n := 154) dX3_layName_153 rfl 0 rfl ?_
  refine t_getR (n := 157) 10 rfl (by decide) q1344 dX3_layName_154 rfl ?_
  refine e_iconst (n := 158) (v := 3) dX3_layName_157 rfl (by decide) ?_
  refine e_iload (n := 160) dX3_layName_158 rfl 6 rfl ?_
  refine e_imul (n := 161) dX3_layName_160 rfl ?_
  refine e_iconst (n := 162) (v := 1) dX3_layName_161 rfl (by decide) ?_
  refine e_iadd (n := 163) dX3_layName_162 rfl ?_
  obtain ⟨wi, w⟩ := w
  refine t_iald (n := 164) ok 10 rfl rfl (N := 72) rfl wi dX3_layName_163 rfl ?_
  refine e_topi (fun x11_18 hx11_18 => ?_)
  have w := w x11_18 hx11_18
  refine e_istore (n := 166) (lv' := [(0, .ref o), (1, .int x1_2), (2, .int x2_3), (3, .int x3_4), (4, .int x4_5), (5, .long x5_6), (7, .int x7_7), (8, .int x8_9), (9, .int x9_16), (10, .int x10_17), (11, .int x11_18)]) [1, 2, 3, 4, 5, 6, 7, 8, 9, 10, 0] dX3_layName_164 rfl rfl rfl ?_
  refine e_iload (n := 168) dX3_layName_166 rfl 8 rfl ?_
  refine e_iconst (n := 169) (v := 1) dX3_layName_168 rfl (by decide) ?_
  refine e_icmp_ne (n := 172) (tgt := 185) dX3_layName_169 rfl (by decide) (fun h => ?_) (fun h => ?_)
  · have w := w.2 h
    refine e_iload (n := 187) dX3_layName_185 rfl 8 rfl ?_
    refine e_iconst (n := 188) (v := 2) dX3_layName_187 rfl (by decide) ?_
    refine e_icmp_ne (n := 191) (tgt := 252) dX3_layName_188 rfl (by decide) (fun h => ?_) (fun h => ?_)
    · have w := w.2 h
      refine e_iload (n := 254) dX3_layName_252 rfl 8 rfl ?_
      refine e_iconst (n := 255) (v := 3) dX3_layName_254 rfl (by decide) ?_
      refine e_icmp_ne (n := 258) (tgt := 394) dX3_layName_255 rfl (by decide) (fun h => ?_) (fun h => ?_)
      · have w := w.2 h
        exact e_vret rfl (Nat.le_refl _) (Nat.le_refl _) ⟨_, rfl, rfl, w⟩ dX3_layName_394
      · have w := w.1 h
        refine e_aload_n (n := 259) dX3_layName_258 rfl 0 rfl ?_
        refine t_getR (n := 262) 10 rfl (by decide) q1344 dX3_layName_259 rfl ?_
        refine e_iconst (n := 263) (v := 3) dX3_layName_262 rfl (by decide) ?_
        refine e_iload (n := 265) dX3_layName_263 rfl 6 rfl ?_
        refine e_imul (n := 266) dX3_layName_265 rfl ?_
        refine e_iconst (n := 267) (v := 2) dX3_layName_266 rfl (by decide) ?_
        refine e_iadd (n := 268) dX3_layName_267 rfl ?_
        obtain ⟨wi, w⟩ := w
        refine t_iald (n := 269) ok 10 rfl rfl (N := 72) rfl wi dX3_layName_268 rfl ?_
        refine e_topi (fun x12_19 hx12_19 => ?_)
        have w := w x12_19 hx12_19
        refine e_istore (n := 271) (lv' := [(0, .ref o), (1, .int x1_2), (2, .int x2_3), (3, .int x3_4), (4, .int x4_5), (5, .long x5_6), (7, .int x7_7), (8, .int x8_9), (9, .int x9_16), (10, .int x10_17), (11, .int x11_18), (12, .int x12_19)]) [1, 2, 3, 4, 5, 6, 7, 8, 9, 10, 11, 0] dX3_layName_269 rfl rfl rfl ?_
        refine e_iload_n (n := 272) dX3_layName_271 rfl 2 rfl ?_
        refine e_istore (n := 274) (lv' := [(0, .ref o), (1, .int x1_2), (2, .int x2_3), (3, .int x3_4), (4, .int x4_5), (5, .long x5_6), (7, .int x7_7), (8, .int x8_9), (9, .int x9_16), (10, .int x10_17), (11, .int x11_18), (12, .int x12_19), (13, .int x2_3)]) [1, 2, 3, 4, 5, 6, 7, 8, 9, 10, 11, 12, 0] dX3_layName_272 rfl rfl rfl ?_
        obtain ⟨fu, w⟩ := w
        refine e_sub (lv' := [(0, .ref o), (2, .int x2_3), (3, .int x3_4), (5, .long x5_6), (8, .int x8_9), (10, .int x10_17), (11, .int x11_18), (12, .int x12_19), (13, .int x2_3)]) [0, 2, 3, 5, 7, 9, 10, 11, 12] rfl ?_
        refine hX3_layName_274 ok (fun x2_20 x3_21 x8_22 x10_23 x11_24 x12_25 x13_26 s_27 w => ?_) fu _ _ _ _ _ _ _ _ _ w
        refine e_aload_n (n := 310) dX3_layName_309 rfl 0 rfl ?_
        refine e_iload (n := 312) dX3_layName_310 rfl 5 rfl ?_
        refine e_iload (n := 314) dX3_layName_312 rfl 6 rfl ?_
        refine e_iload (n := 316) dX3_layName_314 rfl 7 rfl ?_
        refine e_iload_n (n := 317) dX3_layName_316 rfl 2 rfl ?_
        refine t_callV (n := 320) (As := [.int x11_24, .int x12_25, .int x13_26, .int x3_21]) (st := []) okX3_both q1639 q1641 qs46 q1642 rfl (by decide) (Nat.le_refl _) (Nat.le_refl _) rfl rfl rfl dX3_layName_317 rfl (ctX3_both ok w) (fun r9 σ9 hk => ?_)
        obtain ⟨r_29, s_28, rfl, rfl, w⟩ := hk
        refine e_lstore (n := 322) (lv' := [(0, .ref o), (2, .int x2_20), (3, .int x3_21), (8, .int x8_22), (10, .int x10_23), (11, .int x11_24), (12, .int x12_25), (13, .int x13_26), (14, .long r_29)]) [1, 2, 3, 4, 5, 6, 7, 8, 0] dX3_layName_320 rfl rfl rfl ?_
        refine e_iload (n := 324) dX3_layName_322 rfl 7 rfl ?_
        refine e_istore (n := 326) (lv' := [(0, .ref o), (2, .int x2_20), (3, .int x3_21), (8, .int x8_22), (10, .int x10_23), (11, .int x11_24), (12, .int x12_25), (13, .int x13_26), (14, .long r_29), (16, .int x13_26)]) [1, 2, 3, 4, 5, 6, 7, 8, 9, 0] dX3_layName_324 rfl rfl rfl ?_
        obtain ⟨fu, w⟩ := w
        refine hX3_layName_326 ok (fun x2_30 x3_31 x8_32 x10_33 x11_34 x12_35 x13_36 x16_37 s_38 w => ?_) fu _ _ _ _ _ _ _ _ _ _ w
        refine e_aload_n (n := 361) dX3_layName_360 rfl 0 rfl ?_
        refine e_iload (n := 363) dX3_layName_361 rfl 6 rfl ?_
        refine e_iload (n := 365) dX3_layName_363 rfl 8 rfl ?_
        refine e_iload_n (n := 366) dX3_layName_365 rfl 2 rfl ?_
        refine e_iload (n := 368) dX3_layName_366 rfl 3 rfl ?_
        refine t_callV (n := 371) (As := [.int x12_35, .int x16_37, .int x3_31, .int x8_32]) (st := []) okX3_push q1658 q1660 qs50 q1661 rfl (by decide) (Nat.le_refl _) (Nat.le_refl _) rfl rfl rfl dX3_layName_368 rfl (ctX3_push ok w) (fun r9 σ9 hk => ?_)
        obtain ⟨s_39, rfl, rfl, w⟩ := hk
        refine e_aload_n (n := 372) dX3_layName_371 rfl 0 rfl ?_
        refine e_iload (n := 374) dX3_layName_372 rfl 5 rfl ?_
        refine e_iload (n := 376) dX3_layName_374 rfl 7 rfl ?_
        refine e_iload (n := 378) dX3_layName_376 rfl 8 rfl ?_
        refine e_iload (n := 380) dX3_layName_378 rfl 3 rfl ?_
        refine t_callV (n := 383) (As := [.int x11_34, .int x13_36, .int x16_37, .int x8_32]) (st := []) okX3_push q1658 q1660 qs50 q1661 rfl (by decide) (Nat.le_refl _) (Nat.le_refl _) rfl rfl rfl dX3_layName_380 rfl (ctX3_push ok w) (fun r9 σ9 hk => ?_)
        obtain ⟨s_40, rfl, rfl, w⟩ := hk
        refine e_aload_n (n := 384) dX3_layName_383 rfl 0 rfl ?_
        refine e_iload (n := 386) dX3_layName_384 rfl 4 rfl ?_
        refine e_iload_n (n := 387) dX3_layName_386 rfl 1 rfl ?_
        refine e_iload (n := 389) dX3_layName_387 rfl 7 rfl ?_
        refine e_iload (n := 391) dX3_layName_389 rfl 3 rfl ?_
        refine t_callV (n := 394) (As := [.int x10_33, .int x2_30, .int x13_36, .int x8_32]) (st := []) okX3_push q1658 q1660 qs50 q1661 rfl (by decide) (Nat.le_refl _) (Nat.le_refl _) rfl rfl rfl dX3_layName_391 rfl (ctX3_push ok w) (fun r9 σ9 hk => ?_)
        obtain ⟨s_41, rfl, rfl, w⟩ := hk
        exact e_vret rfl (Nat.le_refl _) (Nat.le_refl _) ⟨_, rfl, rfl, w⟩ dX3_layName_394
    · have w := w.1 h
      refine e_iload_n (n := 192) dX3_layName_191 rfl 2 rfl ?_
      refine e_istore (n := 194) (lv' := [(0, .ref o), (1, .int x1_2), (2, .int x2_3), (3, .int x3_4), (4, .int x4_5), (5, .long x5_6), (7, .int x7_7), (8, .int x8_9), (9, .int x9_16), (10, .int x10_17), (11, .int x11_18), (12, .int x2_3)]) [1, 2, 3, 4, 5, 6, 7, 8, 9, 10, 11, 0] dX3_layName_192 rfl rfl rfl ?_
      obtain ⟨fu, w⟩ := w
      refine e_sub (lv' := [(0, .ref o), (2, .int x2_3), (3, .int x3_4), (5, .long x5_6), (8, .int x8_9), (10, .int x10_17), (11, .int x11_18), (12, .int x2_3)]) [0, 2, 3, 5, 7, 9, 10, 11] rfl ?_
      refine hX3_layName_194 ok (fun x2_54 x3_55 x8_56 x10_57 x11_58 x12_59 s_60 w => ?_) fu _ _ _ _ _ _ _ _ w
      refine e_aload_n (n := 228) dX3_layName_227 rfl 0 rfl ?_
      refine e_iload (n := 230) dX3_layName_228 rfl 5 rfl ?_
      refine e_iload (n := 232) dX3_layName_230 rfl 6 rfl ?_
      refine e_iload_n (n := 233) dX3_layName_232 rfl 2 rfl ?_
      refine e_iload (n := 235) dX3_layName_233 rfl 3 rfl ?_
      refine t_callV (n := 238) (As := [.int x11_58, .int x12_59, .int x3_55, .int x8_56]) (st := []) okX3_push q1658 q1660 qs50 q1661 rfl (by decide) (Nat.le_refl _) (Nat.le_refl _) rfl rfl rfl dX3_layName_235 rfl (ctX3_push ok w) (fun r9 σ9 hk => ?_)
      obtain ⟨s_61, rfl, rfl, w⟩ := hk
      refine e_aload_n (n := 239) dX3_layName_238 rfl 0 rfl ?_
      refine e_iload (n := 241) dX3_layName_239 rfl 4 rfl ?_
      refine e_iload_n (n := 242) dX3_layName_241 rfl 1 rfl ?_
      refine e_iload (n := 244) dX3_layName_242 rfl 6 rfl ?_
      refine e_iload (n := 246) dX3_layName_244 rfl 3 rfl ?_
      refine t_callV (n := 249) (As := [.int x10_57, .int x2_54, .int x12_59, .int x8_56]) (st := []) okX3_push q1658 q1660 qs50 q1661 rfl (by decide) (Nat.le_refl _) (Nat.le_refl _) rfl rfl rfl dX3_layName_246 rfl (ctX3_push ok w) (fun r9 σ9 hk => ?_)
      obtain ⟨s_62, rfl, rfl, w⟩ := hk
      refine e_goto (n := 394) dX3_layName_249 (by decide) ?_
      exact e_vret rfl (Nat.le_refl _) (Nat.le_refl _) ⟨_, rfl, rfl, w⟩ dX3_layName_394
  · have w := w.1 h
    refine e_aload_n (n := 173) dX3_layName_172 rfl 0 rfl ?_
    refine e_iload (n := 175) dX3_layName_173 rfl 9 rfl ?_
    refine e_iload_n (n := 176) dX3_layName_175 rfl 2 rfl ?_
    refine e_iload_n (n := 177) dX3_layName_176 rfl 3 rfl ?_
    refine e_iload (n := 179) dX3_layName_177 rfl 7 rfl ?_
    refine t_callV (n := 182) (As := [.int x10_17, .int x2_3, .int x3_4, .int x8_9]) (st := []) okX3_push q1658 q1660 qs50 q1661 rfl (by decide) (Nat.le_refl _) (Nat.le_refl _) rfl rfl rfl dX3_layName_179 rfl (ctX3_push ok w) (fun r9 σ9 hk => ?_)
    obtain ⟨s_69, rfl, rfl, w⟩ := hk
    refine e_goto (n := 394) dX3_layName_182 (by decide) ?_
    exact e_vret rfl (Nat.le_refl _) (Nat.le_refl _) ⟨_, rfl, rfl, w⟩ dX3_layName_394
abbrev mX3_slip : gM := (yX3_slip, cX3_slip, 5, none)
theorem okX3_slip : g_ok mX3_slip 4 := ⟨by decide +kernel, by decide +kernel, by decide +kernel, by decide +kernel, by decide⟩
def wX3_slip (Q : TS → Prop) (x1 : Int32) (x2 : Int32) (x3 : Int32) (x4 : Int32) (s : TS) : Prop := vp_in (4 * (s.1 22)) 1600 ∧ ∀ s_1 : TS, s_1 = tA s 23 (4 * (s.1 22)).toNatClampNeg x1 → (vp_in ((4 * (s_1.1 22)) + 1) 1600 ∧ ∀ s_2 : TS, s_2 = tA s_1 23 ((4 * (s_1.1 22)) + 1).toNatClampNeg x2 → (vp_in ((4 * (s_2.1 22)) + 2) 1600 ∧ ∀ s_3 : TS, s_3 = tA s_2 23 ((4 * (s_2.1 22)) + 2).toNatClampNeg x3 → (vp_in ((4 * (s_3.1 22)) + 3) 1600 ∧ ∀ s_4 : TS, s_4 = tA s_3 23 ((4 * (s_3.1 22)) + 3).toNatClampNeg x4 → (∀ s_5 : TS, s_5 = tI s_4 22 ((s_4.1 22) + 1) → (Q s_5)))))
set_option maxHeartbeats 4000000 in
theorem ctX3_slip {o : Nat} {ad : Nat → Nat} (ok : t_ok o ad) {Q : TS → Prop} {x1 : Int32} {x2 : Int32} {x3 : Int32} {x4 : Int32} {s : TS} (w : wX3_slip Q x1 x2 x3 x4 s) : CT mX3_slip 1 0 0 [.ref o, .int x1, .int x2, .int x3, .int x4] (t_map o ad s) (t_Kv o ad Q) := by
  refine CT.of (lv := [(0, .ref o), (1, .int x1), (2, .int x2), (3, .int x3), (4, .int x4)]) okX3_slip.1 rfl rfl ?_
  unfold wX3_slip at w
  refine e_aload_n (n := 1) dX3_slip_0 rfl 0 rfl ?_
  refine t_getR (n := 4) 23 rfl (by decide) q1357 dX3_slip_1 rfl ?_
  refine e_iconst (n := 5) (v := 4) dX3_slip_4 rfl (by decide) ?_
  refine e_aload_n (n := 6) dX3_slip_5 rfl 0 rfl ?_
  refine t_getI (n := 9) 22 rfl rfl q1356 dX3_slip_6 rfl ?_
  refine e_imul (n := 10) dX3_slip_9 rfl ?_
  refine e_iload_n (n := 11) dX3_slip_10 rfl 1 rfl ?_
  obtain ⟨wi, w⟩ := w
  refine t_iast (n := 12) ok 23 rfl rfl (N := 1600) rfl wi dX3_slip_11 rfl (fun s_1 hs_1 => ?_)
  have w := w s_1 hs_1
  refine e_aload_n (n := 13) dX3_slip_12 rfl 0 rfl ?_
  refine t_getR (n := 16) 23 rfl (by decide) q1357 dX3_slip_13 rfl ?_
  refine e_iconst (n := 17) (v := 4) dX3_slip_16 rfl (by decide) ?_
  refine e_aload_n (n := 18) dX3_slip_17 rfl 0 rfl ?_
  refine t_getI (n := 21) 22 rfl rfl q1356 dX3_slip_18 rfl ?_
  refine e_imul (n := 22) dX3_slip_21 rfl ?_
  refine e_iconst (n := 23) (v := 1) dX3_slip_22 rfl (by decide) ?_
  refine e_iadd (n := 24) dX3_slip_23 rfl ?_
  refine e_iload_n (n := 25) dX3_slip_24 rfl 2 rfl ?_
  obtain ⟨wi, w⟩ := w
  refine t_iast (n := 26) ok 23 rfl rfl (N := 1600) rfl wi dX3_slip_25 rfl (fun s_2 hs_2 => ?_)
  have w := w s_2 hs_2
  refine e_aload_n (n := 27) dX3_slip_26 rfl 0 rfl ?_
  refine t_getR (n := 30) 23 rfl (by decide) q1357 dX3_slip_27 rfl ?_
  refine e_iconst (n := 31) (v := 4) dX3_slip_30 rfl (by decide) ?_
  refine e_aload_n (n := 32) dX3_slip_31 rfl 0 rfl ?_
  refine t_getI (n := 35) 22 rfl rfl q1356 dX3_slip_32 rfl ?_
  refine e_imul (n := 36) dX3_slip_35 rfl ?_
  refine e_iconst (n := 37) (v := 2) dX3_slip_36 rfl (by decide) ?_
  refine e_iadd (n := 38) dX3_slip_37 rfl ?_
  refine e_iload_n (n := 39) dX3_slip_38 rfl 3 rfl ?_
  obtain ⟨wi, w⟩ := w
  refine t_iast (n := 40) ok 23 rfl rfl (N := 1600) rfl wi dX3_slip_39 rfl (fun s_3 hs_3 => ?_)
  have w := w s_3 hs_3
  refine e_aload_n (n := 41) dX3_slip_40 rfl 0 rfl ?_
  refine t_getR (n := 44) 23 rfl (by decide) q1357 dX3_slip_41 rfl ?_
  refine e_iconst (n := 45) (v := 4) dX3_slip_44 rfl (by decide) ?_
  refine e_aload_n (n := 46) dX3_slip_45 rfl 0 rfl ?_
  refine t_getI (n := 49) 22 rfl rfl q1356 dX3_slip_46 rfl ?_
  refine e_imul (n := 50) dX3_slip_49 rfl ?_
  refine e_iconst (n := 51) (v := 3) dX3_slip_50 rfl (by decide) ?_
  refine e_iadd (n := 52) dX3_slip_51 rfl ?_
  refine e_iload (n := 54) dX3_slip_52 rfl 4 rfl ?_
  obtain ⟨wi, w⟩ := w
  refine t_iast (n := 55) ok 23 rfl rfl (N := 1600) rfl wi dX3_slip_54 rfl (fun s_4 hs_4 => ?_)
  have w := w s_4 hs_4
  refine e_aload_n (n := 56) dX3_slip_55 rfl 0 rfl ?_
  refine e_dup (n := 57) dX3_slip_56 rfl rfl ?_
  refine t_getI (n := 60) 22 rfl rfl q1356 dX3_slip_57 rfl ?_
  refine e_iconst (n := 61) (v := 1) dX3_slip_60 rfl (by decide) ?_
  refine e_iadd (n := 62) dX3_slip_61 rfl ?_
  refine t_putI (n := 65) 22 rfl rfl rfl rfl q1356 dX3_slip_62 rfl (fun s_5 hs_5 => ?_)
  have w := w s_5 hs_5
  exact e_vret rfl (Nat.le_refl _) (Nat.le_refl _) ⟨_, rfl, rfl, w⟩ dX3_slip_65
abbrev mX3_laySkipping : gM := (yX3_laySkipping, cX3_laySkipping, 5, none)
theorem okX3_laySkipping : g_ok mX3_laySkipping 2 := ⟨by decide +kernel, by decide +kernel, by decide +kernel, by decide +kernel, by decide⟩
def wX3_laySkipping_77 (Q : TS → Prop) (kh : Int32 → Int32 → TS → Prop) (k88 : TS → Prop) (t1 : Int32) (t2 : Int32) (t3 : Int32) (t4 : Int32) (x2 : Int32) (x3 : Int32) (x4 : Int32) (s : TS) : Prop := wX3_slip (fun (s_3 : TS) => ∀ x3_4 : Int32, x3_4 = x3 + x4 → (kh x2 x3_4 s_3)) t1 t2 t3 t4 s
def wX3_laySkipping_47 (Q : TS → Prop) (kh : Int32 → Int32 → TS → Prop) (k88 : TS → Prop) (t1 : Int32) (t2 : Int32) (t3 : Int32) (x2 : Int32) (x3 : Int32) (x4 : Int32) (s : TS) : Prop := (x4 = 1 → (vp_in x3 11 ∧ (vp_in (12 + (s.2.1 15 x3.toNatClampNeg)) 36 ∧ (wX3_laySkipping_77 Q kh k88 t1 t2 t3 (s.2.1 2 (12 + (s.2.1 15 x3.toNatClampNeg)).toNatClampNeg) x2 x3 x4 s)))) ∧ (¬ x4 = 1 → (wX3_laySkipping_77 Q kh k88 t1 t2 t3 ((s.1 4) + x4) x2 x3 x4 s))
def wX3_laySkipping_34 (Q : TS → Prop) (kh : Int32 → Int32 → TS → Prop) (k88 : TS → Prop) (t1 : Int32) (x2 : Int32) (x3 : Int32) (x4 : Int32) (s : TS) : Prop := (x4 = 1 → (wX3_laySkipping_47 Q kh k88 t1 x3 0 x2 x3 x4 s)) ∧ (¬ x4 = 1 → (wX3_laySkipping_47 Q kh k88 t1 x3 x4 x2 x3 x4 s))
def wX3_laySkipping_2 (Q : TS → Prop) (k88 : TS → Prop) : Nat → Int32 → Int32 → TS → Prop
  | 0 => fun _ _ _ => False
  | n + 1 => fun x2 x3 s => (x2 ≤ x3 → (k88 s)) ∧ (¬ x2 ≤ x3 → (vp_in ((12 * x3) + x2) 144 ∧ (∀ x4_2 : Int32, x4_2 = s.2.1 39 ((12 * x3) + x2).toNatClampNeg → ((x4_2 = 1 → (wX3_laySkipping_34 Q (wX3_laySkipping_2 Q k88 n) k88 6 x2 x3 x4_2 s)) ∧ (¬ x4_2 = 1 → (wX3_laySkipping_34 Q (wX3_laySkipping_2 Q k88 n) k88 7 x2 x3 x4_2 s))))))
def wX3_laySkipping (Q : TS → Prop) (x1 : Int32) (x2 : Int32) (s : TS) : Prop := ∃ fu : Nat, wX3_laySkipping_2 Q (fun  (s_1 : TS) => Q s_1) fu x2 x1 s
set_option maxHeartbeats 4000000 in
theorem hX3_laySkipping_77 {o : Nat} {ad : Nat → Nat} (ok : t_ok o ad) {Q : TS → Prop} {kh : Int32 → Int32 → TS → Prop} (hkh : ∀ (x2 : Int32) (x3 : Int32) (s : TS), kh x2 x3 s → E mX3_laySkipping 2 0 0 (g_z (t_Kv o ad Q)) 0 0 2 [(0, .ref o), (2, .int x2), (3, .int x3)] [] (t_map o ad s)) {k88 : TS → Prop} (hk88 : ∀  (s : TS), k88 s → E mX3_laySkipping 2 0 0 (g_z (t_Kv o ad Q)) 0 0 88 [] [] (t_map o ad s)) (t1 : Int32) (t2 : Int32) (t3 : Int32) (t4 : Int32) (x2 : Int32) (x3 : Int32) (x4 : Int32) (s : TS) (w : wX3_laySkipping_77 Q kh k88 t1 t2 t3 t4 x2 x3 x4 s) : E mX3_laySkipping 2 0 0 (g_z (t_Kv o ad Q)) 0 0 77 [(0, .ref o), (2, .int x2), (3, .int x3), (4, .int x4)] [.int t4, .int t3, .int t2, .int t1, .ref o] (t_map o ad s) := by
  unfold wX3_laySkipping_77 at w
  refine t_callV (n := 80) (As := [.int t1, .int t2, .int t3, .int t4]) (st := []) okX3_slip q1674 q1676 qs54 q1677 rfl (by decide) (Nat.le_refl _) (Nat.le_refl _) rfl rfl rfl dX3_laySkipping_77 rfl (ctX3_slip ok w) (fun r9 σ9 hk => ?_)
  obtain ⟨s_3, rfl, rfl, w⟩ := hk
  refine e_iload_n (n := 81) dX3_laySkipping_80 rfl 2 rfl ?_
  refine e_iload (n := 83) dX3_laySkipping_81 rfl 3 rfl ?_
  refine e_iadd (n := 84) dX3_laySkipping_83 rfl ?_
  refine e_topi (fun x3_4 hx3_4 => ?_)
  have w := w x3_4 hx3_4
  refine e_istore_n (n := 85) (lv' := [(0, .ref o), (2, .int x2), (3, .int x3_4), (4, .int x4)]) [1, 2, 0, 3] dX3_laySkipping_84 rfl rfl rfl ?_
  refine e_goto (n := 2) dX3_laySkipping_85 (by decide) ?_
  refine e_sub (lv' := [(0, .ref o), (2, .int x2), (3, .int x3_4)]) [0, 1, 2] rfl ?_
  exact hkh _ _ _ w
set_option maxHeartbeats 4000000 in
theorem hX3_laySkipping_47 {o : Nat} {ad : Nat → Nat} (ok : t_ok o ad) {Q : TS → Prop} {kh : Int32 → Int32 → TS → Prop} (hkh : ∀ (x2 : Int32) (x3 : Int32) (s : TS), kh x2 x3 s → E mX3_laySkipping 2 0 0 (g_z (t_Kv o ad Q)) 0 0 2 [(0, .ref o), (2, .int x2), (3, .int x3)] [] (t_map o ad s)) {k88 : TS → Prop} (hk88 : ∀  (s : TS), k88 s → E mX3_laySkipping 2 0 0 (g_z (t_Kv o ad Q)) 0 0 88 [] [] (t_map o ad s)) (t1 : Int32) (t2 : Int32) (t3 : Int32) (x2 : Int32) (x3 : Int32) (x4 : Int32) (s : TS) (w : wX3_laySkipping_47 Q kh k88 t1 t2 t3 x2 x3 x4 s) : E mX3_laySkipping 2 0 0 (g_z (t_Kv o ad Q)) 0 0 47 [(0, .ref o), (2, .int x2), (3, .int x3), (4, .int x4)] [.int t3, .int t2, .int t1, .ref o] (t_map o ad s) := by
  unfold wX3_laySkipping_47 at w
  refine e_iload (n := 49) dX3_laySkipping_47 rfl 3 rfl ?_
  refine e_iconst (n := 50) (v := 1) dX3_laySkipping_49 rfl (by decide) ?_
  refine e_icmp_ne (n := 53) (tgt := 70) dX3_laySkipping_50 rfl (by decide) (fun h => ?_) (fun h => ?_)
  · have w := w.2 h
    refine e_aload_n (n := 71) dX3_laySkipping_70 rfl 0 rfl ?_
    refine t_getI (n := 74) 4 rfl rfl q1338 dX3_laySkipping_71 rfl ?_
    refine e_iload (n := 76) dX3_laySkipping_74 rfl 3 rfl ?_
    refine e_iadd (n := 77) dX3_laySkipping_76 rfl ?_
    exact hX3_laySkipping_77 ok hkh hk88 _ _ _ _ _ _ _ _ w
  · have w := w.1 h
    refine e_aload_n (n := 54) dX3_laySkipping_53 rfl 0 rfl ?_
    refine t_getR (n := 57) 2 rfl (by decide) q1336 dX3_laySkipping_54 rfl ?_
    refine e_bipush (n := 59) (v := 12) dX3_laySkipping_57 rfl (by decide) ?_
    refine e_aload_n (n := 60) dX3_laySkipping_59 rfl 0 rfl ?_
    refine t_getR (n := 63) 15 rfl (by decide) q1349 dX3_laySkipping_60 rfl ?_
    refine e_iload_n (n := 64) dX3_laySkipping_63 rfl 2 rfl ?_
    obtain ⟨wi, w⟩ := w
    refine t_iald (n := 65) ok 15 rfl rfl (N := 11) rfl wi dX3_laySkipping_64 rfl ?_
    refine e_iadd (n := 66) dX3_laySkipping_65 rfl ?_
    obtain ⟨wi, w⟩ := w
    refine t_iald (n := 67) ok 2 rfl rfl (N := 36) rfl wi dX3_laySkipping_66 rfl ?_
    refine e_goto (n := 77) dX3_laySkipping_67 (by decide) ?_
    exact hX3_laySkipping_77 ok hkh hk88 _ _ _ _ _ _ _ _ w
set_option maxHeartbeats 4000000 in
theorem hX3_laySkipping_34 {o : Nat} {ad : Nat → Nat} (ok : t_ok o ad) {Q : TS → Prop} {kh : Int32 → Int32 → TS → Prop} (hkh : ∀ (x2 : Int32) (x3 : Int32) (s : TS), kh x2 x3 s → E mX3_laySkipping 2 0 0 (g_z (t_Kv o ad Q)) 0 0 2 [(0, .ref o), (2, .int x2), (3, .int x3)] [] (t_map o ad s)) {k88 : TS → Prop} (hk88 : ∀  (s : TS), k88 s → E mX3_laySkipping 2 0 0 (g_z (t_Kv o ad Q)) 0 0 88 [] [] (t_map o ad s)) (t1 : Int32) (x2 : Int32) (x3 : Int32) (x4 : Int32) (s : TS) (w : wX3_laySkipping_34 Q kh k88 t1 x2 x3 x4 s) : E mX3_laySkipping 2 0 0 (g_z (t_Kv o ad Q)) 0 0 34 [(0, .ref o), (2, .int x2), (3, .int x3), (4, .int x4)] [.int t1, .ref o] (t_map o ad s) := by
  unfold wX3_laySkipping_34 at w
  refine e_iload_n (n := 35) dX3_laySkipping_34 rfl 2 rfl ?_
  refine e_iload (n := 37) dX3_laySkipping_35 rfl 3 rfl ?_
  refine e_iconst (n := 38) (v := 1) dX3_laySkipping_37 rfl (by decide) ?_
  refine e_icmp_ne (n := 41) (tgt := 45) dX3_laySkipping_38 rfl (by decide) (fun h => ?_) (fun h => ?_)
  · have w := w.2 h
    refine e_iload (n := 47) dX3_laySkipping_45 rfl 3 rfl ?_
    exact hX3_laySkipping_47 ok hkh hk88 _ _ _ _ _ _ _ w
  · have w := w.1 h
    refine e_iconst (n := 42) (v := 0) dX3_laySkipping_41 rfl (by decide) ?_
    refine e_goto (n := 47) dX3_laySkipping_42 (by decide) ?_
    exact hX3_laySkipping_47 ok hkh hk88 _ _ _ _ _ _ _ w
set_option maxHeartbeats 4000000 in
theorem hX3_laySkipping_2 {o : Nat} {ad : Nat → Nat} (ok : t_ok o ad) {Q : TS → Prop} {k88 : TS → Prop} (hk88 : ∀  (s : TS), k88 s → E mX3_laySkipping 2 0 0 (g_z (t_Kv o ad Q)) 0 0 88 [] [] (t_map o ad s)) : ∀ (n : Nat) (x2 : Int32) (x3 : Int32) (s : TS), wX3_laySkipping_2 Q k88 n x2 x3 s → E mX3_laySkipping 2 0 0 (g_z (t_Kv o ad Q)) 0 0 2 [(0, .ref o), (2, .int x2), (3, .int x3)] [] (t_map o ad s) := by
  intro n
  induction n with
  | zero =>
    intro _ _ _ w
    exact w.elim
  | succ n ih =>
    intro x2 x3 s w
    unfold wX3_laySkipping_2 at w
    refine e_iload_n (n := 3) dX3_laySkipping_2 rfl 2 rfl ?_
    refine e_iload_n (n := 4) dX3_laySkipping_3 rfl 1 rfl ?_
    refine e_icmp_ge (n := 7) (tgt := 88) dX3_laySkipping_4 rfl (by decide) (fun h => ?_) (fun h => ?_)
    · have w := w.1 h
      refine e_sub (lv' := []) [] rfl ?_
      exact hk88 _ w
    · have w := w.2 h
      refine e_aload_n (n := 8) dX3_laySkipping_7 rfl 0 rfl ?_
      refine t_getR (n := 11) 39 rfl (by decide) q1373 dX3_laySkipping_8 rfl ?_
      refine e_bipush (n := 13) (v := 12) dX3_laySkipping_11 rfl (by decide) ?_
      refine e_iload_n (n := 14) dX3_laySkipping_13 rfl 2 rfl ?_
      refine e_imul (n := 15) dX3_laySkipping_14 rfl ?_
      refine e_iload_n (n := 16) dX3_laySkipping_15 rfl 1 rfl ?_
      refine e_iadd (n := 17) dX3_laySkipping_16 rfl ?_
      obtain ⟨wi, w⟩ := w
      refine t_iald (n := 18) ok 39 rfl rfl (N := 144) rfl wi dX3_laySkipping_17 rfl ?_
      refine e_topi (fun x4_2 hx4_2 => ?_)
      have w := w x4_2 hx4_2
      refine e_istore (n := 20) (lv' := [(0, .ref o), (2, .int x2), (3, .int x3), (4, .int x4_2)]) [1, 2, 3, 0] dX3_laySkipping_18 rfl rfl rfl ?_
      refine e_aload_n (n := 21) dX3_laySkipping_20 rfl 0 rfl ?_
      refine e_iload (n := 23) dX3_laySkipping_21 rfl 3 rfl ?_
      refine e_iconst (n := 24) (v := 1) dX3_laySkipping_23 rfl (by decide) ?_
      refine e_icmp_ne (n := 27) (tgt := 32) dX3_laySkipping_24 rfl (by decide) (fun h => ?_) (fun h => ?_)
      · have w := w.2 h
        refine e_bipush (n := 34) (v := 7) dX3_laySkipping_32 rfl (by decide) ?_
        exact hX3_laySkipping_34 ok ih hk88 _ _ _ _ _ w
      · have w := w.1 h
        refine e_bipush (n := 29) (v := 6) dX3_laySkipping_27 rfl (by decide) ?_
        refine e_goto (n := 34) dX3_laySkipping_29 (by decide) ?_
        exact hX3_laySkipping_34 ok ih hk88 _ _ _ _ _ w
set_option maxHeartbeats 4000000 in
theorem ctX3_laySkipping {o : Nat} {ad : Nat → Nat} (ok : t_ok o ad) {Q : TS → Prop} {x1 : Int32} {x2 : Int32} {s : TS} (w : wX3_laySkipping Q x1 x2 s) : CT mX3_laySkipping 2 0 0 [.ref o, .int x1, .int x2] (t_map o ad s) (t_Kv o ad Q) := by
  refine CT.of (lv := [(0, .ref o), (1, .int x1), (2, .int x2)]) okX3_laySkipping.1 rfl rfl ?_
  unfold wX3_laySkipping at w
  refine e_iload_n (n := 1) dX3_laySkipping_0 rfl 1 rfl ?_
  refine e_istore_n (n := 2) (lv' := [(0, .ref o), (1, .int x1), (2, .int x2), (3, .int x1)]) [1, 2, 3, 0] dX3_laySkipping_1 rfl rfl rfl ?_
  obtain ⟨fu, w⟩ := w
  refine e_sub (lv' := [(0, .ref o), (2, .int x2), (3, .int x1)]) [0, 2, 3] rfl ?_
  refine hX3_laySkipping_2 ok (fun s_1 w => ?_) fu _ _ _ w
  exact e_vret rfl (Nat.le_refl _) (Nat.le_refl _) ⟨_, rfl, rfl, w⟩ dX3_laySkipping_88
abbrev mX3_layToken : gM := (yX3_layToken, cX3_layToken, 9, none)
theorem okX3_layToken : g_ok mX3_layToken 3 := ⟨by decide +kernel, by decide +kernel, by decide +kernel, by decide +kernel, by decide⟩
def wX3_layToken_149 (Q : TS → Prop)  (x1 : Int32) (s : TS) : Prop := vp_in (s.1 24) 320 ∧ ∀ s_6 : TS, s_6 = tA s 25 (s.1 24).toNatClampNeg x1 → (∀ s_7 : TS, s_7 = tI s_6 24 ((s_6.1 24) + 1) → (Q s_7))
def wX3_layToken_144 (Q : TS → Prop)  (t1 : Int32) (t2 : Int32) (t3 : Int32) (x1 : Int32) (x8 : Int32) (s : TS) : Prop := wX3_slip (fun (s_8 : TS) => wX3_layToken_149 Q x1 s_8) t1 t2 t3 x8 s
def wX3_layToken_104 (Q : TS → Prop)  (t0 : Int32) (t1 : Int32) (x1 : Int32) (x4 : Int32) (x6 : Int32) (x7 : Int32) (s : TS) : Prop := ∀ x8_5 : Int32, x8_5 = t0 - t1 → ((x6 ≤ 0 → (wX3_layToken_149 Q x1 s)) ∧ (¬ x6 ≤ 0 → ((3 ≤ x6 → ((x6 = 3 → (wX3_layToken_144 Q x6 x7 0 x1 x8_5 s)) ∧ (¬ x6 = 3 → (vp_in x4 32448 ∧ (wX3_layToken_144 Q x6 x7 (s.2.1 43 x4.toNatClampNeg) x1 x8_5 s))))) ∧ (¬ 3 ≤ x6 → (wX3_layToken_144 Q x6 x7 x1 x1 x8_5 s)))))
def wX3_layToken_49 (Q : TS → Prop)  (x1 : Int32) (x2 : Int32) (x4 : Int32) (x5 : Int32) (s : TS) : Prop := vp_in x4 32448 ∧ (∀ x6_3 : Int32, x6_3 = s.2.1 42 x4.toNatClampNeg → (vp_in x5 52 ∧ (∀ x7_4 : Int32, x7_4 = s.2.1 30 x5.toNatClampNeg → (vp_in x4 32448 ∧ (vp_in x2 52 ∧ ((s.2.1 29 x2.toNatClampNeg = 0 → (vp_in x2 52 ∧ (vp_in ((12 * (s.2.1 30 x2.toNatClampNeg)) + x7_4) 144 ∧ (wX3_layToken_104 Q (s.2.1 40 x4.toNatClampNeg) (s.2.1 38 ((12 * (s.2.1 30 x2.toNatClampNeg)) + x7_4).toNatClampNeg) x1 x4 x6_3 x7_4 s)))) ∧ (¬ s.2.1 29 x2.toNatClampNeg = 0 → (wX3_layToken_104 Q (s.2.1 40 x4.toNatClampNeg) 0 x1 x4 x6_3 x7_4 s))))))))
def wX3_layToken (Q : TS → Prop) (x1 : Int32) (x2 : Int32) (x3 : Int32) (s : TS) : Prop := ∀ x4_1 : Int32, x4_1 = ((2704 * x1) + (52 * x2)) + x3 → (vp_in x4_1 32448 ∧ (∀ x5_2 : Int32, x5_2 = s.2.1 41 x4_1.toNatClampNeg → (vp_in x2 52 ∧ ((s.2.1 29 x2.toNatClampNeg = 0 → (vp_in x2 52 ∧ (vp_in x5_2 52 ∧ (wX3_laySkipping (fun (s_9 : TS) => wX3_layToken_49 Q x1 x2 x4_1 x5_2 s_9) (s.2.1 30 x2.toNatClampNeg) (s.2.1 30 x5_2.toNatClampNeg) s)))) ∧ (¬ s.2.1 29 x2.toNatClampNeg = 0 → (wX3_layToken_49 Q x1 x2 x4_1 x5_2 s))))))
set_option maxHeartbeats 4000000 in
theorem hX3_layToken_149 {o : Nat} {ad : Nat → Nat} (ok : t_ok o ad) {Q : TS → Prop}  (x1 : Int32) (s : TS) (w : wX3_layToken_149 Q x1 s) : E mX3_layToken 3 0 0 (g_z (t_Kv o ad Q)) 0 0 149 [(0, .ref o), (1, .int x1)] [] (t_map o ad s) := by
  unfold wX3_layToken_149 at w
  refine e_aload_n (n := 150) dX3_layToken_149 rfl 0 rfl ?_
  refine t_getR (n := 153) 25 rfl (by decide) q1359 dX3_layToken_150 rfl ?_
  refine e_aload_n (n := 154) dX3_layToken_153 rfl 0 rfl ?_
  refine t_getI (n := 157) 24 rfl rfl q1358 dX3_layToken_154 rfl ?_
  refine e_iload_n (n := 158) dX3_layToken_157 rfl 1 rfl ?_
  obtain ⟨wi, w⟩ := w
  refine t_iast (n := 159) ok 25 rfl rfl (N := 320) rfl wi dX3_layToken_158 rfl (fun s_6 hs_6 => ?_)
  have w := w s_6 hs_6
  refine e_aload_n (n := 160) dX3_layToken_159 rfl 0 rfl ?_
  refine e_dup (n := 161) dX3_layToken_160 rfl rfl ?_
  refine t_getI (n := 164) 24 rfl rfl q1358 dX3_layToken_161 rfl ?_
  refine e_iconst (n := 165) (v := 1) dX3_layToken_164 rfl (by decide) ?_
  refine e_iadd (n := 166) dX3_layToken_165 rfl ?_
  refine t_putI (n := 169) 24 rfl rfl rfl rfl q1358 dX3_layToken_166 rfl (fun s_7 hs_7 => ?_)
  have w := w s_7 hs_7
  exact e_vret rfl (Nat.le_refl _) (Nat.le_refl _) ⟨_, rfl, rfl, w⟩ dX3_layToken_169
set_option maxHeartbeats 4000000 in
theorem hX3_layToken_144 {o : Nat} {ad : Nat → Nat} (ok : t_ok o ad) {Q : TS → Prop}  (t1 : Int32) (t2 : Int32) (t3 : Int32) (x1 : Int32) (x8 : Int32) (s : TS) (w : wX3_layToken_144 Q t1 t2 t3 x1 x8 s) : E mX3_layToken 3 0 0 (g_z (t_Kv o ad Q)) 0 0 144 [(0, .ref o), (1, .int x1), (8, .int x8)] [.int t3, .int t2, .int t1, .ref o] (t_map o ad s) := by
  unfold wX3_layToken_144 at w
  refine e_iload (n := 146) dX3_layToken_144 rfl 2 rfl ?_
  refine t_callV (n := 149) (As := [.int t1, .int t2, .int t3, .int x8]) (st := []) okX3_slip q1674 q1676 qs54 q1677 rfl (by decide) (Nat.le_refl _) (Nat.le_refl _) rfl rfl rfl dX3_layToken_146 rfl (ctX3_slip ok w) (fun r9 σ9 hk => ?_)
  obtain ⟨s_8, rfl, rfl, w⟩ := hk
  refine e_sub (lv' := [(0, .ref o), (1, .int x1)]) [0, 1] rfl ?_
  exact hX3_layToken_149 ok _ _ w
set_option maxHeartbeats 4000000 in
theorem hX3_layToken_104 {o : Nat} {ad : Nat → Nat} (ok : t_ok o ad) {Q : TS → Prop}  (t0 : Int32) (t1 : Int32) (x1 : Int32) (x4 : Int32) (x6 : Int32) (x7 : Int32) (s : TS) (w : wX3_layToken_104 Q t0 t1 x1 x4 x6 x7 s) : E mX3_layToken 3 0 0 (g_z (t_Kv o ad Q)) 0 0 104 [(0, .ref o), (1, .int x1), (4, .int x4), (6, .int x6), (7, .int x7)] [.int t1, .int t0] (t_map o ad s) := by
  unfold wX3_layToken_104 at w
  refine e_isub (n := 105) dX3_layToken_104 rfl ?_
  refine e_topi (fun x8_5 hx8_5 => ?_)
  have w := w x8_5 hx8_5
  refine e_istore (n := 107) (lv' := [(0, .ref o), (1, .int x1), (4, .int x4), (6, .int x6), (7, .int x7), (8, .int x8_5)]) [1, 2, 3, 4, 5, 0] dX3_layToken_105 rfl rfl rfl ?_
  refine e_iload (n := 109) dX3_layToken_107 rfl 3 rfl ?_
  refine e_if_le (n := 112) (tgt := 149) dX3_layToken_109 rfl (by decide) (fun h => ?_) (fun h => ?_)
  · have w := w.1 h
    refine e_sub (lv' := [(0, .ref o), (1, .int x1)]) [0, 1] rfl ?_
    exact hX3_layToken_149 ok _ _ w
  · have w := w.2 h
    refine e_aload_n (n := 113) dX3_layToken_112 rfl 0 rfl ?_
    refine e_iload (n := 115) dX3_layToken_113 rfl 3 rfl ?_
    refine e_iload (n := 117) dX3_layToken_115 rfl 4 rfl ?_
    refine e_iload (n := 119) dX3_layToken_117 rfl 3 rfl ?_
    refine e_iconst (n := 120) (v := 3) dX3_layToken_119 rfl (by decide) ?_
    refine e_icmp_ge (n := 123) (tgt := 127) dX3_layToken_120 rfl (by decide) (fun h => ?_) (fun h => ?_)
    · have w := w.1 h
      refine e_iload (n := 129) dX3_layToken_127 rfl 3 rfl ?_
      refine e_iconst (n := 130) (v := 3) dX3_layToken_129 rfl (by decide) ?_
      refine e_icmp_ne (n := 133) (tgt := 137) dX3_layToken_130 rfl (by decide) (fun h => ?_) (fun h => ?_)
      · have w := w.2 h
        refine e_aload_n (n := 138) dX3_layToken_137 rfl 0 rfl ?_
        refine t_getR (n := 141) 43 rfl (by decide) q1377 dX3_layToken_138 rfl ?_
        refine e_iload (n := 143) dX3_layToken_141 rfl 2 rfl ?_
        obtain ⟨wi, w⟩ := w
        refine t_iald (n := 144) ok 43 rfl rfl (N := 32448) rfl wi dX3_layToken_143 rfl ?_
        refine e_sub (lv' := [(0, .ref o), (1, .int x1), (8, .int x8_5)]) [0, 1, 5] rfl ?_
        exact hX3_layToken_144 ok _ _ _ _ _ _ w
      · have w := w.1 h
        refine e_iconst (n := 134) (v := 0) dX3_layToken_133 rfl (by decide) ?_
        refine e_goto (n := 144) dX3_layToken_134 (by decide) ?_
        refine e_sub (lv' := [(0, .ref o), (1, .int x1), (8, .int x8_5)]) [0, 1, 5] rfl ?_
        exact hX3_layToken_144 ok _ _ _ _ _ _ w
    · have w := w.2 h
      refine e_iload_n (n := 124) dX3_layToken_123 rfl 1 rfl ?_
      refine e_goto (n := 144) dX3_layToken_124 (by decide) ?_
      refine e_sub (lv' := [(0, .ref o), (1, .int x1), (8, .int x8_5)]) [0, 1, 5] rfl ?_
      exact hX3_layToken_144 ok _ _ _ _ _ _ w
set_option maxHeartbeats 4000000 in
theorem hX3_layToken_49 {o : Nat} {ad : Nat → Nat} (ok : t_ok o ad) {Q : TS → Prop}  (x1 : Int32) (x2 : Int32) (x4 : Int32) (x5 : Int32) (s : TS) (w : wX3_layToken_49 Q x1 x2 x4 x5 s) : E mX3_layToken 3 0 0 (g_z (t_Kv o ad Q)) 0 0 49 [(0, .ref o), (1, .int x1), (2, .int x2), (4, .int x4), (5, .int x5)] [] (t_map o ad s) := by
  unfold wX3_layToken_49 at w
  refine e_aload_n (n := 50) dX3_layToken_49 rfl 0 rfl ?_
  refine t_getR (n := 53) 42 rfl (by decide) q1376 dX3_layToken_50 rfl ?_
  refine e_iload (n := 55) dX3_layToken_53 rfl 3 rfl ?_
  obtain ⟨wi, w⟩ := w
  refine t_iald (n := 56) ok 42 rfl rfl (N := 32448) rfl wi dX3_layToken_55 rfl ?_
  refine e_topi (fun x6_3 hx6_3 => ?_)
  have w := w x6_3 hx6_3
  refine e_istore (n := 58) (lv' := [(0, .ref o), (1, .int x1), (2, .int x2), (4, .int x4), (5, .int x5), (6, .int x6_3)]) [1, 2, 3, 4, 5, 0] dX3_layToken_56 rfl rfl rfl ?_
  refine e_aload_n (n := 59) dX3_layToken_58 rfl 0 rfl ?_
  refine t_getR (n := 62) 30 rfl (by decide) q1364 dX3_layToken_59 rfl ?_
  refine e_iload (n := 64) dX3_layToken_62 rfl 4 rfl ?_
  obtain ⟨wi, w⟩ := w
  refine t_iald (n := 65) ok 30 rfl rfl (N := 52) rfl wi dX3_layToken_64 rfl ?_
  refine e_topi (fun x7_4 hx7_4 => ?_)
  have w := w x7_4 hx7_4
  refine e_istore (n := 67) (lv' := [(0, .ref o), (1, .int x1), (2, .int x2), (4, .int x4), (5, .int x5), (6, .int x6_3), (7, .int x7_4)]) [1, 2, 3, 4, 5, 6, 0] dX3_layToken_65 rfl rfl rfl ?_
  refine e_aload_n (n := 68) dX3_layToken_67 rfl 0 rfl ?_
  refine t_getR (n := 71) 40 rfl (by decide) q1374 dX3_layToken_68 rfl ?_
  refine e_iload (n := 73) dX3_layToken_71 rfl 3 rfl ?_
  obtain ⟨wi, w⟩ := w
  refine t_iald (n := 74) ok 40 rfl rfl (N := 32448) rfl wi dX3_layToken_73 rfl ?_
  refine e_aload_n (n := 75) dX3_layToken_74 rfl 0 rfl ?_
  refine t_getR (n := 78) 29 rfl (by decide) q1363 dX3_layToken_75 rfl ?_
  refine e_iload_n (n := 79) dX3_layToken_78 rfl 2 rfl ?_
  obtain ⟨wi, w⟩ := w
  refine t_iald (n := 80) ok 29 rfl rfl (N := 52) rfl wi dX3_layToken_79 rfl ?_
  refine e_if_ne (n := 83) (tgt := 103) dX3_layToken_80 rfl (by decide) (fun h => ?_) (fun h => ?_)
  · have w := w.2 h
    refine e_iconst (n := 104) (v := 0) dX3_layToken_103 rfl (by decide) ?_
    refine e_sub (lv' := [(0, .ref o), (1, .int x1), (4, .int x4), (6, .int x6_3), (7, .int x7_4)]) [0, 1, 3, 5, 6] rfl ?_
    exact hX3_layToken_104 ok _ _ _ _ _ _ _ w
  · have w := w.1 h
    refine e_aload_n (n := 84) dX3_layToken_83 rfl 0 rfl ?_
    refine t_getR (n := 87) 38 rfl (by decide) q1372 dX3_layToken_84 rfl ?_
    refine e_bipush (n := 89) (v := 12) dX3_layToken_87 rfl (by decide) ?_
    refine e_aload_n (n := 90) dX3_layToken_89 rfl 0 rfl ?_
    refine t_getR (n := 93) 30 rfl (by decide) q1364 dX3_layToken_90 rfl ?_
    refine e_iload_n (n := 94) dX3_layToken_93 rfl 2 rfl ?_
    obtain ⟨wi, w⟩ := w
    refine t_iald (n := 95) ok 30 rfl rfl (N := 52) rfl wi dX3_layToken_94 rfl ?_
    refine e_imul (n := 96) dX3_layToken_95 rfl ?_
    refine e_iload (n := 98) dX3_layToken_96 rfl 6 rfl ?_
    refine e_iadd (n := 99) dX3_layToken_98 rfl ?_
    obtain ⟨wi, w⟩ := w
    refine t_iald (n := 100) ok 38 rfl rfl (N := 144) rfl wi dX3_layToken_99 rfl ?_
    refine e_goto (n := 104) dX3_layToken_100 (by decide) ?_
    refine e_sub (lv' := [(0, .ref o), (1, .int x1), (4, .int x4), (6, .int x6_3), (7, .int x7_4)]) [0, 1, 3, 5, 6] rfl ?_
    exact hX3_layToken_104 ok _ _ _ _ _ _ _ w
set_option maxHeartbeats 4000000 in
theorem ctX3_layToken {o : Nat} {ad : Nat → Nat} (ok : t_ok o ad) {Q : TS → Prop} {x1 : Int32} {x2 : Int32} {x3 : Int32} {s : TS} (w : wX3_layToken Q x1 x2 x3 s) : CT mX3_layToken 3 0 0 [.ref o, .int x1, .int x2, .int x3] (t_map o ad s) (t_Kv o ad Q) := by
  refine CT.of (lv := [(0, .ref o), (1, .int x1), (2, .int x2), (3, .int x3)]) okX3_layToken.1 rfl rfl ?_
  unfold wX3_layToken at w
  refine e_sipush (n := 3) (v := 2704) dX3_layToken_0 rfl (by decide) ?_
  refine e_iload_n (n := 4) dX3_layToken_3 rfl 1 rfl ?_
  refine e_imul (n := 5) dX3_layToken_4 rfl ?_
  refine e_bipush (n := 7) (v := 52) dX3_layToken_5 rfl (by decide) ?_
  refine e_iload_n (n := 8) dX3_layToken_7 rfl 2 rfl ?_
  refine e_imul (n := 9) dX3_layToken_8 rfl ?_
  refine e_iadd (n := 10) dX3_layToken_9 rfl ?_
  refine e_iload_n (n := 11) dX3_layToken_10 rfl 3 rfl ?_
  refine e_iadd (n := 12) dX3_layToken_11 rfl ?_
  refine e_topi (fun x4_1 hx4_1 => ?_)
  have w := w x4_1 hx4_1
  refine e_istore (n := 14) (lv' := [(0, .ref o), (1, .int x1), (2, .int x2), (3, .int x3), (4, .int x4_1)]) [1, 2, 3, 4, 0] dX3_layToken_12 rfl rfl rfl ?_
  refine e_aload_n (n := 15) dX3_layToken_14 rfl 0 rfl ?_
  refine t_getR (n := 18) 41 rfl (by decide) q1375 dX3_layToken_15 rfl ?_
  refine e_iload (n := 20) dX3_layToken_18 rfl 4 rfl ?_
  obtain ⟨wi, w⟩ := w
  refine t_iald (n := 21) ok 41 rfl rfl (N := 32448) rfl wi dX3_layToken_20 rfl ?_
  refine e_topi (fun x5_2 hx5_2 => ?_)
  have w := w x5_2 hx5_2
  refine e_istore (n := 23) (lv' := [(0, .ref o), (1, .int x1), (2, .int x2), (3, .int x3), (4, .int x4_1), (5, .int x5_2)]) [1, 2, 3, 4, 5, 0] dX3_layToken_21 rfl rfl rfl ?_
  refine e_aload_n (n := 24) dX3_layToken_23 rfl 0 rfl ?_
  refine t_getR (n := 27) 29 rfl (by decide) q1363 dX3_layToken_24 rfl ?_
  refine e_iload_n (n := 28) dX3_layToken_27 rfl 2 rfl ?_
  obtain ⟨wi, w⟩ := w
  refine t_iald (n := 29) ok 29 rfl rfl (N := 52) rfl wi dX3_layToken_28 rfl ?_
  refine e_if_ne (n := 32) (tgt := 49) dX3_layToken_29 rfl (by decide) (fun h => ?_) (fun h => ?_)
  · have w := w.2 h
    refine e_sub (lv' := [(0, .ref o), (1, .int x1), (2, .int x2), (4, .int x4_1), (5, .int x5_2)]) [0, 1, 2, 4, 5] rfl ?_
    exact hX3_layToken_49 ok _ _ _ _ _ w
  · have w := w.1 h
    refine e_aload_n (n := 33) dX3_layToken_32 rfl 0 rfl ?_
    refine e_aload_n (n := 34) dX3_layToken_33 rfl 0 rfl ?_
    refine t_getR (n := 37) 30 rfl (by decide) q1364 dX3_layToken_34 rfl ?_
    refine e_iload_n (n := 38) dX3_layToken_37 rfl 2 rfl ?_
    obtain ⟨wi, w⟩ := w
    refine t_iald (n := 39) ok 30 rfl rfl (N := 52) rfl wi dX3_layToken_38 rfl ?_
    refine e_aload_n (n := 40) dX3_layToken_39 rfl 0 rfl ?_
    refine t_getR (n := 43) 30 rfl (by decide) q1364 dX3_layToken_40 rfl ?_
    refine e_iload (n := 45) dX3_layToken_43 rfl 5 rfl ?_
    obtain ⟨wi, w⟩ := w
    refine t_iald (n := 46) ok 30 rfl rfl (N := 52) rfl wi dX3_layToken_45 rfl ?_
    refine t_callV (n := 49) (As := [.int (s.2.1 30 x2.toNatClampNeg), .int (s.2.1 30 x5_2.toNatClampNeg)]) (st := []) okX3_laySkipping q1670 q1672 qs53 q1673 rfl (by decide) (Nat.le_refl _) (Nat.le_refl _) rfl rfl rfl dX3_layToken_46 rfl (ctX3_laySkipping ok w) (fun r9 σ9 hk => ?_)
    obtain ⟨s_9, rfl, rfl, w⟩ := hk
    refine e_sub (lv' := [(0, .ref o), (1, .int x1), (2, .int x2), (4, .int x4_1), (5, .int x5_2)]) [0, 1, 2, 4, 5] rfl ?_
    exact hX3_layToken_49 ok _ _ _ _ _ w
abbrev mX3_layTree : gM := (yX3_layTree, cX3_layTree, 6, none)
theorem okX3_layTree : g_ok mX3_layTree 1 := ⟨by decide +kernel, by decide +kernel, by decide +kernel, by decide +kernel, by decide⟩
def wX3_layTree_161 (Q : TS → Prop) (kh : Int32 → TS → Prop) (k164 : Int32 → TS → Prop) (x1 : Int32) (s : TS) : Prop := kh x1 s
def wX3_layTree_35 (Q : TS → Prop) (k164 : Int32 → TS → Prop) : Nat → Int32 → TS → Prop
  | 0 => fun _ _ => False
  | n + 1 => fun x1 s => (s.1 46 ≤ 0 → (k164 x1 s)) ∧ (¬ s.1 46 ≤ 0 → (∀ s_9 : TS, s_9 = tI s 46 ((s.1 46) - 1) → (vp_in (s_9.1 46) 700 ∧ (∀ x2_10 : Int32, x2_10 = s_9.2.1 47 (s_9.1 46).toNatClampNeg → (vp_in (s_9.1 46) 700 ∧ (∀ x3_11 : Int32, x3_11 = s_9.2.1 48 (s_9.1 46).toNatClampNeg → (vp_in (s_9.1 46) 700 ∧ (∀ x4_12 : Int32, x4_12 = s_9.2.1 49 (s_9.1 46).toNatClampNeg → (vp_in (s_9.1 46) 700 ∧ (∀ x5_13 : Int32, x5_13 = s_9.2.1 50 (s_9.1 46).toNatClampNeg → ((x2_10 = 200 → (vp_in ((5 * x5_13) + 3) 520 ∧ (vp_in ((5 * x5_13) + 4) 520 ∧ ∀ s_16 : TS, s_16 = tA s_9 27 ((5 * x5_13) + 4).toNatClampNeg ((s_9.1 24) - (s_9.2.1 27 ((5 * x5_13) + 3).toNatClampNeg)) → (wX3_layTree_161 Q (wX3_layTree_35 Q k164 n) k164 x1 s_16)))) ∧ (¬ x2_10 = 200 → ((x2_10 < 100 → (wX3_layToken (fun (s_14 : TS) => wX3_layTree_161 Q (wX3_layTree_35 Q k164 n) k164 x1 s_14) x2_10 x3_11 x4_12 s_9)) ∧ (¬ x2_10 < 100 → (wX3_layName (fun (s_15 : TS) => wX3_layTree_161 Q (wX3_layTree_35 Q k164 n) k164 x1 s_15) (x2_10 - 100) x3_11 x4_12 x5_13 s_9)))))))))))))))
def wX3_layTree (Q : TS → Prop) (x1 : Int32) (s : TS) : Prop := ∀ s_1 : TS, s_1 = tI s 22 0 → (∀ s_2 : TS, s_2 = tI s_1 24 0 → (∀ s_3 : TS, s_3 = tI s_2 26 0 → (∀ s_4 : TS, s_4 = tI s_3 46 0 → (wX3_push (fun (s_5 : TS) => ∃ fu : Nat, wX3_layTree_35 Q (fun (x1_6 : Int32) (s_7 : TS) => vp_in x1_6 52 ∧ (wX3_laySkipping (fun (s_8 : TS) => Q s_8) (s_7.2.1 30 x1_6.toNatClampNeg) (s_7.1 34) s_7)) fu x1 s_5) (100 + (s_4.1 6)) 0 x1 (-4) s_4))))
set_option maxHeartbeats 4000000 in
theorem hX3_layTree_161 {o : Nat} {ad : Nat → Nat} (ok : t_ok o ad) {Q : TS → Prop} {kh : Int32 → TS → Prop} (hkh : ∀ (x1 : Int32) (s : TS), kh x1 s → E mX3_layTree 5 0 0 (g_z (t_Kv o ad Q)) 0 0 35 [(0, .ref o), (1, .int x1)] [] (t_map o ad s)) {k164 : Int32 → TS → Prop} (hk164 : ∀ (x1 : Int32) (s : TS), k164 x1 s → E mX3_layTree 5 0 0 (g_z (t_Kv o ad Q)) 0 0 164 [(0, .ref o), (1, .int x1)] [] (t_map o ad s)) (x1 : Int32) (s : TS) (w : wX3_layTree_161 Q kh k164 x1 s) : E mX3_layTree 5 0 0 (g_z (t_Kv o ad Q)) 0 0 161 [(0, .ref o), (1, .int x1)] [] (t_map o ad s) := by
  unfold wX3_layTree_161 at w
  refine e_goto (n := 35) dX3_layTree_161 (by decide) ?_
  exact hkh _ _ w
set_option maxHeartbeats 4000000 in
theorem hX3_layTree_35 {o : Nat} {ad : Nat → Nat} (ok : t_ok o ad) {Q : TS → Prop} {k164 : Int32 → TS → Prop} (hk164 : ∀ (x1 : Int32) (s : TS), k164 x1 s → E mX3_layTree 5 0 0 (g_z (t_Kv o ad Q)) 0 0 164 [(0, .ref o), (1, .int x1)] [] (t_map o ad s)) : ∀ (n : Nat) (x1 : Int32) (s : TS), wX3_layTree_35 Q k164 n x1 s → E mX3_layTree 5 0 0 (g_z (t_Kv o ad Q)) 0 0 35 [(0, .ref o), (1, .int x1)] [] (t_map o ad s) := by
  intro n
  induction n with
  | zero =>
    intro _ _ w
    exact w.elim
  | succ n ih =>
    intro x1 s w
    unfold wX3_layTree_35 at w
    refine e_aload_n (n := 36) dX3_layTree_35 rfl 0 rfl ?_
    refine t_getI (n := 39) 46 rfl rfl q1380 dX3_layTree_36 rfl ?_
    refine e_if_le (n := 42) (tgt := 164) dX3_layTree_39 rfl (by decide) (fun h => ?_) (fun h => ?_)
    · have w := w.1 h
      exact hk164 _ _ w
    · have w := w.2 h
      refine e_aload_n (n := 43) dX3_layTree_42 rfl 0 rfl ?_
      refine e_dup (n := 44) dX3_layTree_43 rfl rfl ?_
      refine t_getI (n := 47) 46 rfl rfl q1380 dX3_layTree_44 rfl ?_
      refine e_iconst (n := 48) (v := 1) dX3_layTree_47 rfl (by decide) ?_
      refine e_isub (n := 49) dX3_layTree_48 rfl ?_
      refine t_putI (n := 52) 46 rfl rfl rfl rfl q1380 dX3_layTree_49 rfl (fun s_9 hs_9 => ?_)
      have w := w s_9 hs_9
      refine e_aload_n (n := 53) dX3_layTree_52 rfl 0 rfl ?_
      refine t_getR (n := 56) 47 rfl (by decide) q1381 dX3_layTree_53 rfl ?_
      refine e_aload_n (n := 57) dX3_layTree_56 rfl 0 rfl ?_
      refine t_getI (n := 60) 46 rfl rfl q1380 dX3_layTree_57 rfl ?_
      obtain ⟨wi, w⟩ := w
      refine t_iald (n := 61) ok 47 rfl rfl (N := 700) rfl wi dX3_layTree_60 rfl ?_
      refine e_topi (fun x2_10 hx2_10 => ?_)
      have w := w x2_10 hx2_10
      refine e_istore_n (n := 62) (lv' := [(0, .ref o), (1, .int x1), (2, .int x2_10)]) [1, 2, 0] dX3_layTree_61 rfl rfl rfl ?_
      refine e_aload_n (n := 63) dX3_layTree_62 rfl 0 rfl ?_
      refine t_getR (n := 66) 48 rfl (by decide) q1382 dX3_layTree_63 rfl ?_
      refine e_aload_n (n := 67) dX3_layTree_66 rfl 0 rfl ?_
      refine t_getI (n := 70) 46 rfl rfl q1380 dX3_layTree_67 rfl ?_
      obtain ⟨wi, w⟩ := w
      refine t_iald (n := 71) ok 48 rfl rfl (N := 700) rfl wi dX3_layTree_70 rfl ?_
      refine e_topi (fun x3_11 hx3_11 => ?_)
      have w := w x3_11 hx3_11
      refine e_istore_n (n := 72) (lv' := [(0, .ref o), (1, .int x1), (2, .int x2_10), (3, .int x3_11)]) [1, 2, 3, 0] dX3_layTree_71 rfl rfl rfl ?_
      refine e_aload_n (n := 73) dX3_layTree_72 rfl 0 rfl ?_
      refine t_getR (n := 76) 49 rfl (by decide) q1383 dX3_layTree_73 rfl ?_
      refine e_aload_n (n := 77) dX3_layTree_76 rfl 0 rfl ?_
      refine t_getI (n := 80) 46 rfl rfl q1380 dX3_layTree_77 rfl ?_
      obtain ⟨wi, w⟩ := w
      refine t_iald (n := 81) ok 49 rfl rfl (N := 700) rfl wi dX3_layTree_80 rfl ?_
      refine e_topi (fun x4_12 hx4_12 => ?_)
      have w := w x4_12 hx4_12
      refine e_istore (n := 83) (lv' := [(0, .ref o), (1, .int x1), (2, .int x2_10), (3, .int x3_11), (4, .int x4_12)]) [1, 2, 3, 4, 0] dX3_layTree_81 rfl rfl rfl ?_
      refine e_aload_n (n := 84) dX3_layTree_83 rfl 0 rfl ?_
      refine t_getR (n := 87) 50 rfl (by decide) q1384 dX3_layTree_84 rfl ?_
      refine e_aload_n (n := 88) dX3_layTree_87 rfl 0 rfl ?_
      refine t_getI (n := 91) 46 rfl rfl q1380 dX3_layTree_88 rfl ?_
      obtain ⟨wi, w⟩ := w
      refine t_iald (n := 92) ok 50 rfl rfl (N := 700) rfl wi dX3_layTree_91 rfl ?_
      refine e_topi (fun x5_13 hx5_13 => ?_)
      have w := w x5_13 hx5_13
      refine e_istore (n := 94) (lv' := [(0, .ref o), (1, .int x1), (2, .int x2_10), (3, .int x3_11), (4, .int x4_12), (5, .int x5_13)]) [1, 2, 3, 4, 5, 0] dX3_layTree_92 rfl rfl rfl ?_
      refine e_iload_n (n := 95) dX3_layTree_94 rfl 2 rfl ?_
      refine e_sipush (n := 98) (v := 200) dX3_layTree_95 rfl (by decide) ?_
      refine e_icmp_ne (n := 101) (tgt := 131) dX3_layTree_98 rfl (by decide) (fun h => ?_) (fun h => ?_)
      · have w := w.2 h
        refine e_iload_n (n := 132) dX3_layTree_131 rfl 2 rfl ?_
        refine e_bipush (n := 134) (v := 100) dX3_layTree_132 rfl (by decide) ?_
        refine e_icmp_lt (n := 137) (tgt := 153) dX3_layTree_134 rfl (by decide) (fun h => ?_) (fun h => ?_)
        · have w := w.1 h
          refine e_aload_n (n := 154) dX3_layTree_153 rfl 0 rfl ?_
          refine e_iload_n (n := 155) dX3_layTree_154 rfl 2 rfl ?_
          refine e_iload_n (n := 156) dX3_layTree_155 rfl 3 rfl ?_
          refine e_iload (n := 158) dX3_layTree_156 rfl 4 rfl ?_
          refine t_callV (n := 161) (As := [.int x2_10, .int x3_11, .int x4_12]) (st := []) okX3_layToken q1666 q1668 qs52 q1669 rfl (by decide) (Nat.le_refl _) (Nat.le_refl _) rfl rfl rfl dX3_layTree_158 rfl (ctX3_layToken ok w) (fun r9 σ9 hk => ?_)
          obtain ⟨s_14, rfl, rfl, w⟩ := hk
          refine e_sub (lv' := [(0, .ref o), (1, .int x1)]) [0, 1] rfl ?_
          exact hX3_layTree_161 ok ih hk164 _ _ w
        · have w := w.2 h
          refine e_aload_n (n := 138) dX3_layTree_137 rfl 0 rfl ?_
          refine e_iload_n (n := 139) dX3_layTree_138 rfl 2 rfl ?_
          refine e_bipush (n := 141) (v := 100) dX3_layTree_139 rfl (by decide) ?_
          refine e_isub (n := 142) dX3_layTree_141 rfl ?_
          refine e_iload_n (n := 143) dX3_layTree_142 rfl 3 rfl ?_
          refine e_iload (n := 145) dX3_layTree_143 rfl 4 rfl ?_
          refine e_iload (n := 147) dX3_layTree_145 rfl 5 rfl ?_
          refine t_callV (n := 150) (As := [.int (x2_10 - 100), .int x3_11, .int x4_12, .int x5_13]) (st := []) okX3_layName q1662 q1664 qs51 q1665 rfl (by decide) (Nat.le_refl _) (Nat.le_refl _) rfl rfl rfl dX3_layTree_147 rfl (ctX3_layName ok w) (fun r9 σ9 hk => ?_)
          obtain ⟨s_15, rfl, rfl, w⟩ := hk
          refine e_goto (n := 161) dX3_layTree_150 (by decide) ?_
          refine e_sub (lv' := [(0, .ref o), (1, .int x1)]) [0, 1] rfl ?_
          exact hX3_layTree_161 ok ih hk164 _ _ w
      · have w := w.1 h
        refine e_aload_n (n := 102) dX3_layTree_101 rfl 0 rfl ?_
        refine t_getR (n := 105) 27 rfl (by decide) q1361 dX3_layTree_102 rfl ?_
        refine e_iconst (n := 106) (v := 5) dX3_layTree_105 rfl (by decide) ?_
        refine e_iload (n := 108) dX3_layTree_106 rfl 5 rfl ?_
        refine e_imul (n := 109) dX3_layTree_108 rfl ?_
        refine e_iconst (n := 110) (v := 4) dX3_layTree_109 rfl (by decide) ?_
        refine e_iadd (n := 111) dX3_layTree_110 rfl ?_
        refine e_aload_n (n := 112) dX3_layTree_111 rfl 0 rfl ?_
        refine t_getI (n := 115) 24 rfl rfl q1358 dX3_layTree_112 rfl ?_
        refine e_aload_n (n := 116) dX3_layTree_115 rfl 0 rfl ?_
        refine t_getR (n := 119) 27 rfl (by decide) q1361 dX3_layTree_116 rfl ?_
        refine e_iconst (n := 120) (v := 5) dX3_layTree_119 rfl (by decide) ?_
        refine e_iload (n := 122) dX3_layTree_120 rfl 5 rfl ?_
        refine e_imul (n := 123) dX3_layTree_122 rfl ?_
        refine e_iconst (n := 124) (v := 3) dX3_layTree_123 rfl (by decide) ?_
        refine e_iadd (n := 125) dX3_layTree_124 rfl ?_
        obtain ⟨wi, w⟩ := w
        refine t_iald (n := 126) ok 27 rfl rfl (N := 520) rfl wi dX3_layTree_125 rfl ?_
        refine e_isub (n := 127) dX3_layTree_126 rfl ?_
        obtain ⟨wi, w⟩ := w
        refine t_iast (n := 128) ok 27 rfl rfl (N := 520) rfl wi dX3_layTree_127 rfl (fun s_16 hs_16 => ?_)
        have w := w s_16 hs_16
        refine e_goto (n := 161) dX3_layTree_128 (by decide) ?_
        refine e_sub (lv' := [(0, .ref o), (1, .int x1)]) [0, 1] rfl ?_
        exact hX3_layTree_161 ok ih hk164 _ _ w
set_option maxHeartbeats 4000000 in
theorem ctX3_layTree {o : Nat} {ad : Nat → Nat} (ok : t_ok o ad) {Q : TS → Prop} {x1 : Int32} {s : TS} (w : wX3_layTree Q x1 s) : CT mX3_layTree 5 0 0 [.ref o, .int x1] (t_map o ad s) (t_Kv o ad Q) := by
  refine CT.of (lv := [(0, .ref o), (1, .int x1)]) okX3_layTree.1 rfl rfl ?_
  unfold wX3_layTree at w
  refine e_aload_n (n := 1) dX3_layTree_0 rfl 0 rfl ?_
  refine e_iconst (n := 2) (v := 0) dX3_layTree_1 rfl (by decide) ?_
  refine t_putI (n := 5) 22 rfl rfl rfl rfl q1356 dX3_layTree_2 rfl (fun s_1 hs_1 => ?_)
  have w := w s_1 hs_1
  refine e_aload_n (n := 6) dX3_layTree_5 rfl 0 rfl ?_
  refine e_iconst (n := 7) (v := 0) dX3_layTree_6 rfl (by decide) ?_
  refine t_putI (n := 10) 24 rfl rfl rfl rfl q1358 dX3_layTree_7 rfl (fun s_2 hs_2 => ?_)
  have w := w s_2 hs_2
  refine e_aload_n (n := 11) dX3_layTree_10 rfl 0 rfl ?_
  refine e_iconst (n := 12) (v := 0) dX3_layTree_11 rfl (by decide) ?_
  refine t_putI (n := 15) 26 rfl rfl rfl rfl q1360 dX3_layTree_12 rfl (fun s_3 hs_3 => ?_)
  have w := w s_3 hs_3
  refine e_aload_n (n := 16) dX3_layTree_15 rfl 0 rfl ?_
  refine e_iconst (n := 17) (v := 0) dX3_layTree_16 rfl (by decide) ?_
  refine t_putI (n := 20) 46 rfl rfl rfl rfl q1380 dX3_layTree_17 rfl (fun s_4 hs_4 => ?_)
  have w := w s_4 hs_4
  refine e_aload_n (n := 21) dX3_layTree_20 rfl 0 rfl ?_
  refine e_bipush (n := 23) (v := 100) dX3_layTree_21 rfl (by decide) ?_
  refine e_aload_n (n := 24) dX3_layTree_23 rfl 0 rfl ?_
  refine t_getI (n := 27) 6 rfl rfl q1340 dX3_layTree_24 rfl ?_
  refine e_iadd (n := 28) dX3_layTree_27 rfl ?_
  refine e_iconst (n := 29) (v := 0) dX3_layTree_28 rfl (by decide) ?_
  refine e_iload_n (n := 30) dX3_layTree_29 rfl 1 rfl ?_
  refine e_bipush (n := 32) (v := (-4)) dX3_layTree_30 rfl (by decide) ?_
  refine t_callV (n := 35) (As := [.int (100 + (s_4.1 6)), .int 0, .int x1, .int (-4)]) (st := []) okX3_push q1658 q1660 qs50 q1661 rfl (by decide) (Nat.le_refl _) (Nat.le_refl _) rfl rfl rfl dX3_layTree_32 rfl (ctX3_push ok w) (fun r9 σ9 hk => ?_)
  obtain ⟨s_5, rfl, rfl, w⟩ := hk
  obtain ⟨fu, w⟩ := w
  refine hX3_layTree_35 ok (fun x1_6 s_7 w => ?_) fu _ _ w
  refine e_aload_n (n := 165) dX3_layTree_164 rfl 0 rfl ?_
  refine e_aload_n (n := 166) dX3_layTree_165 rfl 0 rfl ?_
  refine t_getR (n := 169) 30 rfl (by decide) q1364 dX3_layTree_166 rfl ?_
  refine e_iload_n (n := 170) dX3_layTree_169 rfl 1 rfl ?_
  obtain ⟨wi, w⟩ := w
  refine t_iald (n := 171) ok 30 rfl rfl (N := 52) rfl wi dX3_layTree_170 rfl ?_
  refine e_aload_n (n := 172) dX3_layTree_171 rfl 0 rfl ?_
  refine t_getI (n := 175) 34 rfl rfl q1368 dX3_layTree_172 rfl ?_
  refine t_callV (n := 178) (As := [.int (s_7.2.1 30 x1_6.toNatClampNeg), .int (s_7.1 34)]) (st := []) okX3_laySkipping q1670 q1672 qs53 q1673 rfl (by decide) (Nat.le_refl _) (Nat.le_refl _) rfl rfl rfl dX3_layTree_175 rfl (ctX3_laySkipping ok w) (fun r9 σ9 hk => ?_)
  obtain ⟨s_8, rfl, rfl, w⟩ := hk
  exact e_vret rfl (Nat.le_refl _) (Nat.le_refl _) ⟨_, rfl, rfl, w⟩ dX3_layTree_178
abbrev mX3_mends : gM := (yX3_mends, cX3_mends, 5, some .int)
theorem okX3_mends : g_ok mX3_mends 1 := ⟨by decide +kernel, by decide +kernel, by decide +kernel, by decide +kernel, by decide⟩
def wX3_mends_109 (Q : Int32 → TS → Prop)   (s : TS) : Prop := Q (s.1 21) s
def wX3_mends_57 (Q : Int32 → TS → Prop)  (t1 : Int32) (x2 : Int32) (s : TS) : Prop := t_b t1 ∧ ∀ s_10 : TS, s_10 = tI s 20 t1 → (∀ s_11 : TS, s_11 = tI s_10 21 (-4) → ((s_11.1 20 = 0 → (Q (-4) s_11)) ∧ (¬ s_11.1 20 = 0 → (wX3_costOf (fun (r_13 : Int64) (s_12 : TS) => ∀ s_14 : TS, s_14 = tI s_12 21 ((r_13 / 4294967296).toInt32) → ((100 < r_13 - r_13 / 4294967296 * 4294967296 → (wX3_mends_109 Q s_14)) ∧ (¬ 100 < r_13 - r_13 / 4294967296 * 4294967296 → (wX3_layTree (fun (s_15 : TS) => wX3_mends_109 Q s_15) x2 s_14)))) x2 s_11))))
def wX3_mends (Q : Int32 → TS → Prop) (x1 : Int32) (s : TS) : Prop := ∀ s_1 : TS, s_1 = tI s 35 (-4) → (wX3_layAll (fun (s_2 : TS) => ∀ s_3 : TS, s_3 = tI s_2 17 x1 → (∀ s_4 : TS, s_4 = tI s_3 22 0 → (∀ s_5 : TS, s_5 = tI s_4 24 0 → (∀ s_6 : TS, s_6 = tI s_5 26 0 → (t_b 1 ∧ ∀ s_7 : TS, s_7 = tI s_6 16 1 → (wX3_mendingTo (fun (r_9 : Int32) (s_8 : TS) => (r_9 = (-4) → (wX3_mends_57 Q 0 r_9 s_8)) ∧ (¬ r_9 = (-4) → (wX3_mends_57 Q 1 r_9 s_8))) s_7)))))) x1 (s_1.1 14) s_1)
set_option maxHeartbeats 4000000 in
theorem hX3_mends_109 {o : Nat} {ad : Nat → Nat} (ok : t_ok o ad) {Q : Int32 → TS → Prop}   (s : TS) (w : wX3_mends_109 Q s) : E mX3_mends 7 0 0 (g_z (t_Ki o ad Q)) 0 0 109 [(0, .ref o)] [] (t_map o ad s) := by
  unfold wX3_mends_109 at w
  refine e_aload_n (n := 110) dX3_mends_109 rfl 0 rfl ?_
  refine t_getI (n := 113) 21 rfl rfl q1355 dX3_mends_110 rfl ?_
  exact e_iret rfl (Nat.le_refl _) (Nat.le_refl _) ⟨_, _, rfl, rfl, w⟩ dX3_mends_113
set_option maxHeartbeats 4000000 in
theorem hX3_mends_57 {o : Nat} {ad : Nat → Nat} (ok : t_ok o ad) {Q : Int32 → TS → Prop}  (t1 : Int32) (x2 : Int32) (s : TS) (w : wX3_mends_57 Q t1 x2 s) : E mX3_mends 7 0 0 (g_z (t_Ki o ad Q)) 0 0 57 [(0, .ref o), (2, .int x2)] [.int t1, .ref o] (t_map o ad s) := by
  unfold wX3_mends_57 at w
  obtain ⟨wb, w⟩ := w
  refine t_putZ (n := 60) wb 20 rfl rfl rfl rfl q1354 dX3_mends_57 rfl (fun s_10 hs_10 => ?_)
  have w := w s_10 hs_10
  refine e_aload_n (n := 61) dX3_mends_60 rfl 0 rfl ?_
  refine e_bipush (n := 63) (v := (-4)) dX3_mends_61 rfl (by decide) ?_
  refine t_putI (n := 66) 21 rfl rfl rfl rfl q1355 dX3_mends_63 rfl (fun s_11 hs_11 => ?_)
  have w := w s_11 hs_11
  refine e_aload_n (n := 67) dX3_mends_66 rfl 0 rfl ?_
  refine t_getI (n := 70) 20 rfl rfl q1354 dX3_mends_67 rfl ?_
  refine e_if_ne (n := 73) (tgt := 76) dX3_mends_70 rfl (by decide) (fun h => ?_) (fun h => ?_)
  · have w := w.2 h
    refine e_aload_n (n := 77) dX3_mends_76 rfl 0 rfl ?_
    refine e_iload_n (n := 78) dX3_mends_77 rfl 1 rfl ?_
    refine t_callV (n := 81) (As := [.int x2]) (st := []) okX3_costOf q1650 q1652 qs48 q1653 rfl (by decide) (Nat.le_refl _) (Nat.le_refl _) rfl rfl rfl dX3_mends_78 rfl (ctX3_costOf ok w) (fun r9 σ9 hk => ?_)
    obtain ⟨r_13, s_12, rfl, rfl, w⟩ := hk
    refine e_lstore_n (n := 82) (lv' := [(0, .ref o), (2, .int x2), (3, .long r_13)]) [1, 2, 0] dX3_mends_81 rfl rfl rfl ?_
    refine e_aload_n (n := 83) dX3_mends_82 rfl 0 rfl ?_
    refine e_lload_n (n := 84) dX3_mends_83 rfl 2 rfl ?_
    refine e_ldc2 (n := 87) q1638 dX3_mends_84 rfl ?_
    refine e_ldiv (n := 88) (by decide) dX3_mends_87 rfl ?_
    refine e_l2i (n := 89) dX3_mends_88 rfl ?_
    refine t_putI (n := 92) 21 rfl rfl rfl rfl q1355 dX3_mends_89 rfl (fun s_14 hs_14 => ?_)
    have w := w s_14 hs_14
    refine e_lload_n (n := 93) dX3_mends_92 rfl 2 rfl ?_
    refine e_ldc2 (n := 96) q1638 dX3_mends_93 rfl ?_
    refine e_lrem (n := 97) (by decide) dX3_mends_96 rfl ?_
    refine e_ldc2 (n := 100) q1538 dX3_mends_97 rfl ?_
    refine e_lcmp_gt (n := 104) (tgt := 109) dX3_mends_100 dX3_mends_101 rfl (by decide) (fun h => ?_) (fun h => ?_)
    · have w := w.1 h
      refine e_sub (lv' := [(0, .ref o)]) [0] rfl ?_
      exact hX3_mends_109 ok _ w
    · have w := w.2 h
      refine e_aload_n (n := 105) dX3_mends_104 rfl 0 rfl ?_
      refine e_iload_n (n := 106) dX3_mends_105 rfl 1 rfl ?_
      refine t_callV (n := 109) (As := [.int x2]) (st := []) okX3_layTree q1654 q1656 qs49 q1657 rfl (by decide) (Nat.le_refl _) (Nat.le_refl _) rfl rfl rfl dX3_mends_106 rfl (ctX3_layTree ok w) (fun r9 σ9 hk => ?_)
      obtain ⟨s_15, rfl, rfl, w⟩ := hk
      refine e_sub (lv' := [(0, .ref o)]) [0] rfl ?_
      exact hX3_mends_109 ok _ w
  · have w := w.1 h
    refine e_bipush (n := 75) (v := (-4)) dX3_mends_73 rfl (by decide) ?_
    exact e_iret rfl (Nat.le_refl _) (Nat.le_refl _) ⟨_, _, rfl, rfl, w⟩ dX3_mends_75
set_option maxHeartbeats 4000000 in
theorem ctX3_mends {o : Nat} {ad : Nat → Nat} (ok : t_ok o ad) {Q : Int32 → TS → Prop} {x1 : Int32} {s : TS} (w : wX3_mends Q x1 s) : CT mX3_mends 7 0 0 [.ref o, .int x1] (t_map o ad s) (t_Ki o ad Q) := by
  refine CT.of (lv := [(0, .ref o), (1, .int x1)]) okX3_mends.1 rfl rfl ?_
  unfold wX3_mends at w
  refine e_aload_n (n := 1) dX3_mends_0 rfl 0 rfl ?_
  refine e_bipush (n := 3) (v := (-4)) dX3_mends_1 rfl (by decide) ?_
  refine t_putI (n := 6) 35 rfl rfl rfl rfl q1369 dX3_mends_3 rfl (fun s_1 hs_1 => ?_)
  have w := w s_1 hs_1
  refine e_aload_n (n := 7) dX3_mends_6 rfl 0 rfl ?_
  refine e_iload_n (n := 8) dX3_mends_7 rfl 1 rfl ?_
  refine e_aload_n (n := 9) dX3_mends_8 rfl 0 rfl ?_
  refine t_getI (n := 12) 14 rfl rfl q1348 dX3_mends_9 rfl ?_
  refine t_callV (n := 15) (As := [.int x1, .int (s_1.1 14)]) (st := []) okX3_layAll q1568 q1570 qs29 q1571 rfl (by decide) (Nat.le_refl _) (Nat.le_refl _) rfl rfl rfl dX3_mends_12 rfl (ctX3_layAll ok w) (fun r9 σ9 hk => ?_)
  obtain ⟨s_2, rfl, rfl, w⟩ := hk
  refine e_aload_n (n := 16) dX3_mends_15 rfl 0 rfl ?_
  refine e_iload_n (n := 17) dX3_mends_16 rfl 1 rfl ?_
  refine t_putI (n := 20) 17 rfl rfl rfl rfl q1351 dX3_mends_17 rfl (fun s_3 hs_3 => ?_)
  have w := w s_3 hs_3
  refine e_aload_n (n := 21) dX3_mends_20 rfl 0 rfl ?_
  refine e_iconst (n := 22) (v := 0) dX3_mends_21 rfl (by decide) ?_
  refine t_putI (n := 25) 22 rfl rfl rfl rfl q1356 dX3_mends_22 rfl (fun s_4 hs_4 => ?_)
  have w := w s_4 hs_4
  refine e_aload_n (n := 26) dX3_mends_25 rfl 0 rfl ?_
  refine e_iconst (n := 27) (v := 0) dX3_mends_26 rfl (by decide) ?_
  refine t_putI (n := 30) 24 rfl rfl rfl rfl q1358 dX3_mends_27 rfl (fun s_5 hs_5 => ?_)
  have w := w s_5 hs_5
  refine e_aload_n (n := 31) dX3_mends_30 rfl 0 rfl ?_
  refine e_iconst (n := 32) (v := 0) dX3_mends_31 rfl (by decide) ?_
  refine t_putI (n := 35) 26 rfl rfl rfl rfl q1360 dX3_mends_32 rfl (fun s_6 hs_6 => ?_)
  have w := w s_6 hs_6
  refine e_aload_n (n := 36) dX3_mends_35 rfl 0 rfl ?_
  refine e_iconst (n := 37) (v := 1) dX3_mends_36 rfl (by decide) ?_
  obtain ⟨wb, w⟩ := w
  refine t_putZ (n := 40) wb 16 rfl rfl rfl rfl q1350 dX3_mends_37 rfl (fun s_7 hs_7 => ?_)
  have w := w s_7 hs_7
  refine e_aload_n (n := 41) dX3_mends_40 rfl 0 rfl ?_
  refine t_callV (n := 44) (As := []) (st := []) okX3_mendingTo q1646 q1648 qs47 q1649 rfl (by decide) (Nat.le_refl _) (Nat.le_refl _) rfl rfl rfl dX3_mends_41 rfl (ctX3_mendingTo ok w) (fun r9 σ9 hk => ?_)
  obtain ⟨r_9, s_8, rfl, rfl, w⟩ := hk
  refine e_istore_n (n := 45) (lv' := [(0, .ref o), (1, .int x1), (2, .int r_9)]) [1, 2, 0] dX3_mends_44 rfl rfl rfl ?_
  refine e_aload_n (n := 46) dX3_mends_45 rfl 0 rfl ?_
  refine e_iload_n (n := 47) dX3_mends_46 rfl 2 rfl ?_
  refine e_bipush (n := 49) (v := (-4)) dX3_mends_47 rfl (by decide) ?_
  refine e_icmp_eq (n := 52) (tgt := 56) dX3_mends_49 rfl (by decide) (fun h => ?_) (fun h => ?_)
  · have w := w.1 h
    refine e_iconst (n := 57) (v := 0) dX3_mends_56 rfl (by decide) ?_
    refine e_sub (lv' := [(0, .ref o), (2, .int r_9)]) [0, 2] rfl ?_
    exact hX3_mends_57 ok _ _ _ w
  · have w := w.2 h
    refine e_iconst (n := 53) (v := 1) dX3_mends_52 rfl (by decide) ?_
    refine e_goto (n := 57) dX3_mends_53 (by decide) ?_
    refine e_sub (lv' := [(0, .ref o), (2, .int r_9)]) [0, 2] rfl ?_
    exact hX3_mends_57 ok _ _ _ w
abbrev mX3_read : gM := (yX3_read, cX3_read, 1, some .int)
theorem okX3_read : g_ok mX3_read 0 := ⟨by decide +kernel, by decide +kernel, by decide +kernel, by decide +kernel, by decide⟩
def wX3_read (Q : Int32 → TS → Prop)  (s : TS) : Prop := (s.1 5 = 0 → (Q (-3) s)) ∧ (¬ s.1 5 = 0 → (wX3_mends (fun (r_2 : Int32) (s_1 : TS) => Q r_2 s_1) 0 s))
set_option maxHeartbeats 4000000 in
theorem ctX3_read {o : Nat} {ad : Nat → Nat} (ok : t_ok o ad) {Q : Int32 → TS → Prop}  {s : TS} (w : wX3_read Q  s) : CT mX3_read 8 0 0 [.ref o] (t_map o ad s) (t_Ki o ad Q) := by
  refine CT.of (lv := [(0, .ref o)]) okX3_read.1 rfl rfl ?_
  unfold wX3_read at w
  refine e_aload_n (n := 1) dX3_read_0 rfl 0 rfl ?_
  refine t_getI (n := 4) 5 rfl rfl q1339 dX3_read_1 rfl ?_
  refine e_if_ne (n := 7) (tgt := 12) dX3_read_4 rfl (by decide) (fun h => ?_) (fun h => ?_)
  · have w := w.2 h
    refine e_aload_n (n := 13) dX3_read_12 rfl 0 rfl ?_
    refine e_iconst (n := 14) (v := 0) dX3_read_13 rfl (by decide) ?_
    refine t_callV (n := 17) (As := [.int 0]) (st := []) okX3_mends q1564 q1566 qs28 q1567 rfl (by decide) (Nat.le_refl _) (Nat.le_refl _) rfl rfl rfl dX3_read_14 rfl (ctX3_mends ok w) (fun r9 σ9 hk => ?_)
    obtain ⟨r_2, s_1, rfl, rfl, w⟩ := hk
    exact e_iret rfl (Nat.le_refl _) (Nat.le_refl _) ⟨_, _, rfl, rfl, w⟩ dX3_read_17
  · have w := w.1 h
    refine e_bipush (n := 9) (v := (-3)) dX3_read_7 rfl (by decide) ?_
    refine e_goto (n := 17) dX3_read_9 (by decide) ?_
    exact e_iret rfl (Nat.le_refl _) (Nat.le_refl _) ⟨_, _, rfl, rfl, w⟩ dX3_read_17
abbrev mX3_only : gM := (yX3_only, cX3_only, 3, some .int)
theorem okX3_only : g_ok mX3_only 2 := ⟨by decide +kernel, by decide +kernel, by decide +kernel, by decide +kernel, by decide⟩
def wX3_only (Q : Int32 → TS → Prop) (x1 : Int32) (x2 : Int32) (s : TS) : Prop := (x1 < 0 → (Q (-1) s)) ∧ (¬ x1 < 0 → ((x2 < x1 → (Q (-1) s)) ∧ (¬ x2 < x1 → ((x2 ≤ s.1 14 → ((s.1 5 = 0 → (Q (-3) s)) ∧ (¬ s.1 5 = 0 → (∀ s_1 : TS, s_1 = tI s 18 x1 → (∀ s_2 : TS, s_2 = tI s_1 19 x2 → (wX3_mends (fun (r_4 : Int32) (s_3 : TS) => Q r_4 s_3) 1 s_2)))))) ∧ (¬ x2 ≤ s.1 14 → (Q (-1) s))))))
set_option maxHeartbeats 4000000 in
theorem ctX3_only {o : Nat} {ad : Nat → Nat} (ok : t_ok o ad) {Q : Int32 → TS → Prop} {x1 : Int32} {x2 : Int32} {s : TS} (w : wX3_only Q x1 x2 s) : CT mX3_only 8 0 0 [.ref o, .int x1, .int x2] (t_map o ad s) (t_Ki o ad Q) := by
  refine CT.of (lv := [(0, .ref o), (1, .int x1), (2, .int x2)]) okX3_only.1 rfl rfl ?_
  unfold wX3_only at w
  refine e_iload_n (n := 1) dX3_only_0 rfl 1 rfl ?_
  refine e_if_lt (n := 4) (tgt := 17) dX3_only_1 rfl (by decide) (fun h => ?_) (fun h => ?_)
  · have w := w.1 h
    refine e_iconst (n := 18) (v := (-1)) dX3_only_17 rfl (by decide) ?_
    exact e_iret rfl (Nat.le_refl _) (Nat.le_refl _) ⟨_, _, rfl, rfl, w⟩ dX3_only_18
  · have w := w.2 h
    refine e_iload_n (n := 5) dX3_only_4 rfl 1 rfl ?_
    refine e_iload_n (n := 6) dX3_only_5 rfl 2 rfl ?_
    refine e_icmp_gt (n := 9) (tgt := 17) dX3_only_6 rfl (by decide) (fun h => ?_) (fun h => ?_)
    · have w := w.1 h
      refine e_iconst (n := 18) (v := (-1)) dX3_only_17 rfl (by decide) ?_
      exact e_iret rfl (Nat.le_refl _) (Nat.le_refl _) ⟨_, _, rfl, rfl, w⟩ dX3_only_18
    · have w := w.2 h
      refine e_iload_n (n := 10) dX3_only_9 rfl 2 rfl ?_
      refine e_aload_n (n := 11) dX3_only_10 rfl 0 rfl ?_
      refine t_getI (n := 14) 14 rfl rfl q1348 dX3_only_11 rfl ?_
      refine e_icmp_le (n := 17) (tgt := 19) dX3_only_14 rfl (by decide) (fun h => ?_) (fun h => ?_)
      · have w := w.1 h
        refine e_aload_n (n := 20) dX3_only_19 rfl 0 rfl ?_
        refine t_getI (n := 23) 5 rfl rfl q1339 dX3_only_20 rfl ?_
        refine e_if_ne (n := 26) (tgt := 29) dX3_only_23 rfl (by decide) (fun h => ?_) (fun h => ?_)
        · have w := w.2 h
          refine e_aload_n (n := 30) dX3_only_29 rfl 0 rfl ?_
          refine e_iload_n (n := 31) dX3_only_30 rfl 1 rfl ?_
          refine t_putI (n := 34) 18 rfl rfl rfl rfl q1352 dX3_only_31 rfl (fun s_1 hs_1 => ?_)
          have w := w s_1 hs_1
          refine e_aload_n (n := 35) dX3_only_34 rfl 0 rfl ?_
          refine e_iload_n (n := 36) dX3_only_35 rfl 2 rfl ?_
          refine t_putI (n := 39) 19 rfl rfl rfl rfl q1353 dX3_only_36 rfl (fun s_2 hs_2 => ?_)
          have w := w s_2 hs_2
          refine e_aload_n (n := 40) dX3_only_39 rfl 0 rfl ?_
          refine e_iconst (n := 41) (v := 1) dX3_only_40 rfl (by decide) ?_
          refine t_callV (n := 44) (As := [.int 1]) (st := []) okX3_mends q1564 q1566 qs28 q1567 rfl (by decide) (Nat.le_refl _) (Nat.le_refl _) rfl rfl rfl dX3_only_41 rfl (ctX3_mends ok w) (fun r9 σ9 hk => ?_)
          obtain ⟨r_4, s_3, rfl, rfl, w⟩ := hk
          exact e_iret rfl (Nat.le_refl _) (Nat.le_refl _) ⟨_, _, rfl, rfl, w⟩ dX3_only_44
        · have w := w.1 h
          refine e_bipush (n := 28) (v := (-3)) dX3_only_26 rfl (by decide) ?_
          exact e_iret rfl (Nat.le_refl _) (Nat.le_refl _) ⟨_, _, rfl, rfl, w⟩ dX3_only_28
      · have w := w.2 h
        refine e_iconst (n := 18) (v := (-1)) dX3_only_17 rfl (by decide) ?_
        exact e_iret rfl (Nat.le_refl _) (Nat.le_refl _) ⟨_, _, rfl, rfl, w⟩ dX3_only_18
abbrev mX3_complete : gM := (yX3_complete, cX3_complete, 1, some .int)
theorem okX3_complete : g_ok mX3_complete 0 := ⟨by decide +kernel, by decide +kernel, by decide +kernel, by decide +kernel, by decide⟩
def wX3_complete (Q : Int32 → TS → Prop)  (s : TS) : Prop := (s.1 5 = 0 → (Q (-3) s)) ∧ (¬ s.1 5 = 0 → (wX3_mends (fun (r_2 : Int32) (s_1 : TS) => Q r_2 s_1) 2 s))
set_option maxHeartbeats 4000000 in
theorem ctX3_complete {o : Nat} {ad : Nat → Nat} (ok : t_ok o ad) {Q : Int32 → TS → Prop}  {s : TS} (w : wX3_complete Q  s) : CT mX3_complete 8 0 0 [.ref o] (t_map o ad s) (t_Ki o ad Q) := by
  refine CT.of (lv := [(0, .ref o)]) okX3_complete.1 rfl rfl ?_
  unfold wX3_complete at w
  refine e_aload_n (n := 1) dX3_complete_0 rfl 0 rfl ?_
  refine t_getI (n := 4) 5 rfl rfl q1339 dX3_complete_1 rfl ?_
  refine e_if_ne (n := 7) (tgt := 12) dX3_complete_4 rfl (by decide) (fun h => ?_) (fun h => ?_)
  · have w := w.2 h
    refine e_aload_n (n := 13) dX3_complete_12 rfl 0 rfl ?_
    refine e_iconst (n := 14) (v := 2) dX3_complete_13 rfl (by decide) ?_
    refine t_callV (n := 17) (As := [.int 2]) (st := []) okX3_mends q1564 q1566 qs28 q1567 rfl (by decide) (Nat.le_refl _) (Nat.le_refl _) rfl rfl rfl dX3_complete_14 rfl (ctX3_mends ok w) (fun r9 σ9 hk => ?_)
    obtain ⟨r_2, s_1, rfl, rfl, w⟩ := hk
    exact e_iret rfl (Nat.le_refl _) (Nat.le_refl _) ⟨_, _, rfl, rfl, w⟩ dX3_complete_17
  · have w := w.1 h
    refine e_bipush (n := 9) (v := (-3)) dX3_complete_7 rfl (by decide) ?_
    refine e_goto (n := 17) dX3_complete_9 (by decide) ?_
    exact e_iret rfl (Nat.le_refl _) (Nat.le_refl _) ⟨_, _, rfl, rfl, w⟩ dX3_complete_17
abbrev mX3_begins : gM := (yX3_begins, cX3_begins, 1, some .int)
theorem okX3_begins : g_ok mX3_begins 0 := ⟨by decide +kernel, by decide +kernel, by decide +kernel, by decide +kernel, by decide⟩
def wX3_begins (Q : Int32 → TS → Prop)  (s : TS) : Prop := (s.1 5 = 0 → (Q (-3) s)) ∧ (¬ s.1 5 = 0 → (wX3_mends (fun (r_2 : Int32) (s_1 : TS) => Q r_2 s_1) 3 s))
set_option maxHeartbeats 4000000 in
theorem ctX3_begins {o : Nat} {ad : Nat → Nat} (ok : t_ok o ad) {Q : Int32 → TS → Prop}  {s : TS} (w : wX3_begins Q  s) : CT mX3_begins 8 0 0 [.ref o] (t_map o ad s) (t_Ki o ad Q) := by
  refine CT.of (lv := [(0, .ref o)]) okX3_begins.1 rfl rfl ?_
  unfold wX3_begins at w
  refine e_aload_n (n := 1) dX3_begins_0 rfl 0 rfl ?_
  refine t_getI (n := 4) 5 rfl rfl q1339 dX3_begins_1 rfl ?_
  refine e_if_ne (n := 7) (tgt := 12) dX3_begins_4 rfl (by decide) (fun h => ?_) (fun h => ?_)
  · have w := w.2 h
    refine e_aload_n (n := 13) dX3_begins_12 rfl 0 rfl ?_
    refine e_iconst (n := 14) (v := 3) dX3_begins_13 rfl (by decide) ?_
    refine t_callV (n := 17) (As := [.int 3]) (st := []) okX3_mends q1564 q1566 qs28 q1567 rfl (by decide) (Nat.le_refl _) (Nat.le_refl _) rfl rfl rfl dX3_begins_14 rfl (ctX3_mends ok w) (fun r9 σ9 hk => ?_)
    obtain ⟨r_2, s_1, rfl, rfl, w⟩ := hk
    exact e_iret rfl (Nat.le_refl _) (Nat.le_refl _) ⟨_, _, rfl, rfl, w⟩ dX3_begins_17
  · have w := w.1 h
    refine e_bipush (n := 9) (v := (-3)) dX3_begins_7 rfl (by decide) ?_
    refine e_goto (n := 17) dX3_begins_9 (by decide) ?_
    exact e_iret rfl (Nat.le_refl _) (Nat.le_refl _) ⟨_, _, rfl, rfl, w⟩ dX3_begins_17
abbrev mX3_wanted : gM := (yX3_wanted, cX3_wanted, 2, some .int)
theorem okX3_wanted : g_ok mX3_wanted 1 := ⟨by decide +kernel, by decide +kernel, by decide +kernel, by decide +kernel, by decide⟩
def wX3_wanted (Q : Int32 → TS → Prop) (x1 : Int32) (s : TS) : Prop := wX3_isToken (fun (r_2 : Int32) (s_1 : TS) => (r_2 = 0 → (Q (-1) s_1)) ∧ (¬ r_2 = 0 → ((s_1.1 5 = 0 → (Q (-3) s_1)) ∧ (¬ s_1.1 5 = 0 → (∀ s_3 : TS, s_3 = tI s_1 35 (-4) → (vp_in (s_3.1 14) 11 ∧ ∀ s_4 : TS, s_4 = tA s_3 15 (s_3.1 14).toNatClampNeg x1 → (wX3_layAll (fun (s_5 : TS) => vp_in (s_5.1 34) 12 ∧ (vp_in ((2704 * (s_5.1 6)) + (s_5.2.1 32 (s_5.1 34).toNatClampNeg)) 21632 ∧ ((1152921504606846976 ≤ s_5.2.2 44 ((2704 * (s_5.1 6)) + (s_5.2.1 32 (s_5.1 34).toNatClampNeg)).toNatClampNeg → (Q 0 s_5)) ∧ (¬ 1152921504606846976 ≤ s_5.2.2 44 ((2704 * (s_5.1 6)) + (s_5.2.1 32 (s_5.1 34).toNatClampNeg)).toNatClampNeg → (Q 1 s_5))))) 4 ((s_4.1 14) + 1) s_4))))))) x1 s
set_option maxHeartbeats 4000000 in
theorem ctX3_wanted {o : Nat} {ad : Nat → Nat} (ok : t_ok o ad) {Q : Int32 → TS → Prop} {x1 : Int32} {s : TS} (w : wX3_wanted Q x1 s) : CT mX3_wanted 7 0 0 [.ref o, .int x1] (t_map o ad s) (t_Ki o ad Q) := by
  refine CT.of (lv := [(0, .ref o), (1, .int x1)]) okX3_wanted.1 rfl rfl ?_
  unfold wX3_wanted at w
  refine e_aload_n (n := 1) dX3_wanted_0 rfl 0 rfl ?_
  refine e_iload_n (n := 2) dX3_wanted_1 rfl 1 rfl ?_
  refine t_callV (n := 5) (As := [.int x1]) (st := []) okX3_isToken q1526 q1528 qs27 q1529 rfl (by decide) (Nat.le_refl _) (Nat.le_refl _) rfl rfl rfl dX3_wanted_2 rfl (ctX3_isToken ok w) (fun r9 σ9 hk => ?_)
  obtain ⟨r_2, s_1, rfl, rfl, w⟩ := hk
  refine e_if_ne (n := 8) (tgt := 10) dX3_wanted_5 rfl (by decide) (fun h => ?_) (fun h => ?_)
  · have w := w.2 h
    refine e_aload_n (n := 11) dX3_wanted_10 rfl 0 rfl ?_
    refine t_getI (n := 14) 5 rfl rfl q1339 dX3_wanted_11 rfl ?_
    refine e_if_ne (n := 17) (tgt := 20) dX3_wanted_14 rfl (by decide) (fun h => ?_) (fun h => ?_)
    · have w := w.2 h
      refine e_aload_n (n := 21) dX3_wanted_20 rfl 0 rfl ?_
      refine e_bipush (n := 23) (v := (-4)) dX3_wanted_21 rfl (by decide) ?_
      refine t_putI (n := 26) 35 rfl rfl rfl rfl q1369 dX3_wanted_23 rfl (fun s_3 hs_3 => ?_)
      have w := w s_3 hs_3
      refine e_aload_n (n := 27) dX3_wanted_26 rfl 0 rfl ?_
      refine t_getR (n := 30) 15 rfl (by decide) q1349 dX3_wanted_27 rfl ?_
      refine e_aload_n (n := 31) dX3_wanted_30 rfl 0 rfl ?_
      refine t_getI (n := 34) 14 rfl rfl q1348 dX3_wanted_31 rfl ?_
      refine e_iload_n (n := 35) dX3_wanted_34 rfl 1 rfl ?_
      obtain ⟨wi, w⟩ := w
      refine t_iast (n := 36) ok 15 rfl rfl (N := 11) rfl wi dX3_wanted_35 rfl (fun s_4 hs_4 => ?_)
      have w := w s_4 hs_4
      refine e_aload_n (n := 37) dX3_wanted_36 rfl 0 rfl ?_
      refine e_iconst (n := 38) (v := 4) dX3_wanted_37 rfl (by decide) ?_
      refine e_aload_n (n := 39) dX3_wanted_38 rfl 0 rfl ?_
      refine t_getI (n := 42) 14 rfl rfl q1348 dX3_wanted_39 rfl ?_
      refine e_iconst (n := 43) (v := 1) dX3_wanted_42 rfl (by decide) ?_
      refine e_iadd (n := 44) dX3_wanted_43 rfl ?_
      refine t_callV (n := 47) (As := [.int 4, .int ((s_4.1 14) + 1)]) (st := []) okX3_layAll q1568 q1570 qs29 q1571 rfl (by decide) (Nat.le_refl _) (Nat.le_refl _) rfl rfl rfl dX3_wanted_44 rfl (ctX3_layAll ok w) (fun r9 σ9 hk => ?_)
      obtain ⟨s_5, rfl, rfl, w⟩ := hk
      refine e_aload_n (n := 48) dX3_wanted_47 rfl 0 rfl ?_
      refine t_getR (n := 51) 44 rfl (by decide) q1378 dX3_wanted_48 rfl ?_
      refine e_sipush (n := 54) (v := 2704) dX3_wanted_51 rfl (by decide) ?_
      refine e_aload_n (n := 55) dX3_wanted_54 rfl 0 rfl ?_
      refine t_getI (n := 58) 6 rfl rfl q1340 dX3_wanted_55 rfl ?_
      refine e_imul (n := 59) dX3_wanted_58 rfl ?_
      refine e_aload_n (n := 60) dX3_wanted_59 rfl 0 rfl ?_
      refine t_getR (n := 63) 32 rfl (by decide) q1366 dX3_wanted_60 rfl ?_
      refine e_aload_n (n := 64) dX3_wanted_63 rfl 0 rfl ?_
      refine t_getI (n := 67) 34 rfl rfl q1368 dX3_wanted_64 rfl ?_
      obtain ⟨wi, w⟩ := w
      refine t_iald (n := 68) ok 32 rfl rfl (N := 12) rfl wi dX3_wanted_67 rfl ?_
      refine e_iadd (n := 69) dX3_wanted_68 rfl ?_
      obtain ⟨wi, w⟩ := w
      refine t_lald (n := 70) ok 44 rfl rfl (N := 21632) rfl wi dX3_wanted_69 rfl ?_
      refine e_ldc2 (n := 73) q1625 dX3_wanted_70 rfl ?_
      refine e_lcmp_ge (n := 77) (tgt := 81) dX3_wanted_73 dX3_wanted_74 rfl (by decide) (fun h => ?_) (fun h => ?_)
      · have w := w.1 h
        refine e_iconst (n := 82) (v := 0) dX3_wanted_81 rfl (by decide) ?_
        exact e_iret rfl (Nat.le_refl _) (Nat.le_refl _) ⟨_, _, rfl, rfl, w⟩ dX3_wanted_82
      · have w := w.2 h
        refine e_iconst (n := 78) (v := 1) dX3_wanted_77 rfl (by decide) ?_
        refine e_goto (n := 82) dX3_wanted_78 (by decide) ?_
        exact e_iret rfl (Nat.le_refl _) (Nat.le_refl _) ⟨_, _, rfl, rfl, w⟩ dX3_wanted_82
    · have w := w.1 h
      refine e_bipush (n := 19) (v := (-3)) dX3_wanted_17 rfl (by decide) ?_
      exact e_iret rfl (Nat.le_refl _) (Nat.le_refl _) ⟨_, _, rfl, rfl, w⟩ dX3_wanted_19
  · have w := w.1 h
    refine e_iconst (n := 9) (v := (-1)) dX3_wanted_8 rfl (by decide) ?_
    exact e_iret rfl (Nat.le_refl _) (Nat.le_refl _) ⟨_, _, rfl, rfl, w⟩ dX3_wanted_9
abbrev mX3_stretch : gM := (yX3_stretch, cX3_stretch, 6, some .int)
theorem okX3_stretch : g_ok mX3_stretch 3 := ⟨by decide +kernel, by decide +kernel, by decide +kernel, by decide +kernel, by decide⟩
def wX3_stretch (Q : Int32 → TS → Prop) (x1 : Int32) (x2 : Int32) (x3 : Int32) (s : TS) : Prop := wX3_isName (fun (r_2 : Int32) (s_1 : TS) => (r_2 = 0 → (Q (-1) s_1)) ∧ (¬ r_2 = 0 → ((x2 < 0 → (Q (-1) s_1)) ∧ (¬ x2 < 0 → ((x3 < x2 → (Q (-1) s_1)) ∧ (¬ x3 < x2 → ((x3 ≤ s_1.1 14 → (∀ s_3 : TS, s_3 = tI s_1 35 (-4) → (wX3_layAll (fun (s_4 : TS) => vp_in x2 12 ∧ (vp_in x3 12 ∧ (vp_in (((2704 * x1) + (52 * (s_4.2.1 32 x2.toNatClampNeg))) + (s_4.2.1 32 x3.toNatClampNeg)) 21632 ∧ (∀ x4_5 : Int64, x4_5 = s_4.2.2 44 (((2704 * x1) + (52 * (s_4.2.1 32 x2.toNatClampNeg))) + (s_4.2.1 32 x3.toNatClampNeg)).toNatClampNeg → ((x4_5 < 1152921504606846976 → (Q ((x4_5 / 4294967296).toInt32) s_4)) ∧ (¬ x4_5 < 1152921504606846976 → (Q (-4) s_4))))))) 0 (s_3.1 14) s_3))) ∧ (¬ x3 ≤ s_1.1 14 → (Q (-1) s_1))))))))) x1 s
set_option maxHeartbeats 4000000 in
theorem ctX3_stretch {o : Nat} {ad : Nat → Nat} (ok : t_ok o ad) {Q : Int32 → TS → Prop} {x1 : Int32} {x2 : Int32} {x3 : Int32} {s : TS} (w : wX3_stretch Q x1 x2 x3 s) : CT mX3_stretch 7 0 0 [.ref o, .int x1, .int x2, .int x3] (t_map o ad s) (t_Ki o ad Q) := by
  refine CT.of (lv := [(0, .ref o), (1, .int x1), (2, .int x2), (3, .int x3)]) okX3_stretch.1 rfl rfl ?_
  unfold wX3_stretch at w
  refine e_aload_n (n := 1) dX3_stretch_0 rfl 0 rfl ?_
  refine e_iload_n (n := 2) dX3_stretch_1 rfl 1 rfl ?_
  refine t_callV (n := 5) (As := [.int x1]) (st := []) okX3_isName q1515 q1517 qs26 q1518 rfl (by decide) (Nat.le_refl _) (Nat.le_refl _) rfl rfl rfl dX3_stretch_2 rfl (ctX3_isName ok w) (fun r9 σ9 hk => ?_)
  obtain ⟨r_2, s_1, rfl, rfl, w⟩ := hk
  refine e_if_eq (n := 8) (tgt := 25) dX3_stretch_5 rfl (by decide) (fun h => ?_) (fun h => ?_)
  · have w := w.1 h
    refine e_iconst (n := 26) (v := (-1)) dX3_stretch_25 rfl (by decide) ?_
    exact e_iret rfl (Nat.le_refl _) (Nat.le_refl _) ⟨_, _, rfl, rfl, w⟩ dX3_stretch_26
  · have w := w.2 h
    refine e_iload_n (n := 9) dX3_stretch_8 rfl 2 rfl ?_
    refine e_if_lt (n := 12) (tgt := 25) dX3_stretch_9 rfl (by decide) (fun h => ?_) (fun h => ?_)
    · have w := w.1 h
      refine e_iconst (n := 26) (v := (-1)) dX3_stretch_25 rfl (by decide) ?_
      exact e_iret rfl (Nat.le_refl _) (Nat.le_refl _) ⟨_, _, rfl, rfl, w⟩ dX3_stretch_26
    · have w := w.2 h
      refine e_iload_n (n := 13) dX3_stretch_12 rfl 2 rfl ?_
      refine e_iload_n (n := 14) dX3_stretch_13 rfl 3 rfl ?_
      refine e_icmp_gt (n := 17) (tgt := 25) dX3_stretch_14 rfl (by decide) (fun h => ?_) (fun h => ?_)
      · have w := w.1 h
        refine e_iconst (n := 26) (v := (-1)) dX3_stretch_25 rfl (by decide) ?_
        exact e_iret rfl (Nat.le_refl _) (Nat.le_refl _) ⟨_, _, rfl, rfl, w⟩ dX3_stretch_26
      · have w := w.2 h
        refine e_iload_n (n := 18) dX3_stretch_17 rfl 3 rfl ?_
        refine e_aload_n (n := 19) dX3_stretch_18 rfl 0 rfl ?_
        refine t_getI (n := 22) 14 rfl rfl q1348 dX3_stretch_19 rfl ?_
        refine e_icmp_le (n := 25) (tgt := 27) dX3_stretch_22 rfl (by decide) (fun h => ?_) (fun h => ?_)
        · have w := w.1 h
          refine e_aload_n (n := 28) dX3_stretch_27 rfl 0 rfl ?_
          refine e_bipush (n := 30) (v := (-4)) dX3_stretch_28 rfl (by decide) ?_
          refine t_putI (n := 33) 35 rfl rfl rfl rfl q1369 dX3_stretch_30 rfl (fun s_3 hs_3 => ?_)
          have w := w s_3 hs_3
          refine e_aload_n (n := 34) dX3_stretch_33 rfl 0 rfl ?_
          refine e_iconst (n := 35) (v := 0) dX3_stretch_34 rfl (by decide) ?_
          refine e_aload_n (n := 36) dX3_stretch_35 rfl 0 rfl ?_
          refine t_getI (n := 39) 14 rfl rfl q1348 dX3_stretch_36 rfl ?_
          refine t_callV (n := 42) (As := [.int 0, .int (s_3.1 14)]) (st := []) okX3_layAll q1568 q1570 qs29 q1571 rfl (by decide) (Nat.le_refl _) (Nat.le_refl _) rfl rfl rfl dX3_stretch_39 rfl (ctX3_layAll ok w) (fun r9 σ9 hk => ?_)
          obtain ⟨s_4, rfl, rfl, w⟩ := hk
          refine e_aload_n (n := 43) dX3_stretch_42 rfl 0 rfl ?_
          refine t_getR (n := 46) 44 rfl (by decide) q1378 dX3_stretch_43 rfl ?_
          refine e_sipush (n := 49) (v := 2704) dX3_stretch_46 rfl (by decide) ?_
          refine e_iload_n (n := 50) dX3_stretch_49 rfl 1 rfl ?_
          refine e_imul (n := 51) dX3_stretch_50 rfl ?_
          refine e_bipush (n := 53) (v := 52) dX3_stretch_51 rfl (by decide) ?_
          refine e_aload_n (n := 54) dX3_stretch_53 rfl 0 rfl ?_
          refine t_getR (n := 57) 32 rfl (by decide) q1366 dX3_stretch_54 rfl ?_
          refine e_iload_n (n := 58) dX3_stretch_57 rfl 2 rfl ?_
          obtain ⟨wi, w⟩ := w
          refine t_iald (n := 59) ok 32 rfl rfl (N := 12) rfl wi dX3_stretch_58 rfl ?_
          refine e_imul (n := 60) dX3_stretch_59 rfl ?_
          refine e_iadd (n := 61) dX3_stretch_60 rfl ?_
          refine e_aload_n (n := 62) dX3_stretch_61 rfl 0 rfl ?_
          refine t_getR (n := 65) 32 rfl (by decide) q1366 dX3_stretch_62 rfl ?_
          refine e_iload_n (n := 66) dX3_stretch_65 rfl 3 rfl ?_
          obtain ⟨wi, w⟩ := w
          refine t_iald (n := 67) ok 32 rfl rfl (N := 12) rfl wi dX3_stretch_66 rfl ?_
          refine e_iadd (n := 68) dX3_stretch_67 rfl ?_
          obtain ⟨wi, w⟩ := w
          refine t_lald (n := 69) ok 44 rfl rfl (N := 21632) rfl wi dX3_stretch_68 rfl ?_
          refine e_topl (fun x4_5 hx4_5 => ?_)
          have w := w x4_5 hx4_5
          refine e_lstore (n := 71) (lv' := [(0, .ref o), (1, .int x1), (2, .int x2), (3, .int x3), (4, .long x4_5)]) [1, 2, 3, 4, 0] dX3_stretch_69 rfl rfl rfl ?_
          refine e_lload (n := 73) dX3_stretch_71 rfl 4 rfl ?_
          refine e_ldc2 (n := 76) q1625 dX3_stretch_73 rfl ?_
          refine e_lcmp_lt (n := 80) (tgt := 85) dX3_stretch_76 dX3_stretch_77 rfl (by decide) (fun h => ?_) (fun h => ?_)
          · have w := w.1 h
            refine e_lload (n := 87) dX3_stretch_85 rfl 4 rfl ?_
            refine e_ldc2 (n := 90) q1638 dX3_stretch_87 rfl ?_
            refine e_ldiv (n := 91) (by decide) dX3_stretch_90 rfl ?_
            refine e_l2i (n := 92) dX3_stretch_91 rfl ?_
            exact e_iret rfl (Nat.le_refl _) (Nat.le_refl _) ⟨_, _, rfl, rfl, w⟩ dX3_stretch_92
          · have w := w.2 h
            refine e_bipush (n := 82) (v := (-4)) dX3_stretch_80 rfl (by decide) ?_
            refine e_goto (n := 92) dX3_stretch_82 (by decide) ?_
            exact e_iret rfl (Nat.le_refl _) (Nat.le_refl _) ⟨_, _, rfl, rfl, w⟩ dX3_stretch_92
        · have w := w.2 h
          refine e_iconst (n := 26) (v := (-1)) dX3_stretch_25 rfl (by decide) ?_
          exact e_iret rfl (Nat.le_refl _) (Nat.le_refl _) ⟨_, _, rfl, rfl, w⟩ dX3_stretch_26
abbrev mX3_isShelf : gM := (yX3_isShelf, cX3_isShelf, 1, some .boolean)
theorem okX3_isShelf : g_ok mX3_isShelf 1 := ⟨by decide +kernel, by decide +kernel, by decide +kernel, by decide +kernel, by decide⟩
def wX3_isShelf (Q : Int32 → Prop) (x0 : Int32) : Prop := wX3_in (fun (r_1 : Int32) => t_b r_1 ∧ Q r_1) (x0.toInt64) 0 5
set_option maxHeartbeats 4000000 in
theorem ctX3_isShelf {σ : gH} {Q : Int32 → Prop} {x0 : Int32} (w : wX3_isShelf Q x0) : CT mX3_isShelf 2 0 0 [.int x0] σ (g_Pi σ Q) := by
  refine CT.of (lv := [(0, .int x0)]) okX3_isShelf.1 rfl rfl ?_
  have ok : True := trivial
  unfold wX3_isShelf at w
  refine e_iload_n (n := 1) dX3_isShelf_0 rfl 0 rfl ?_
  refine e_i2l (n := 2) dX3_isShelf_1 rfl ?_
  refine e_lconst (n := 3) (v := 0) dX3_isShelf_2 rfl (by decide) ?_
  refine e_ldc2 (n := 6) q1705 dX3_isShelf_3 rfl ?_
  refine t_callS (n := 9) (As := [.long (x0.toInt64), .long 0, .long 5]) (st := []) okX3_in q1519 q1520 q63 q1521 (by decide) (Nat.le_refl _) (Nat.le_refl _) rfl rfl rfl dX3_isShelf_6 rfl (ctX3_in w) (fun r9 σ9 hk => ?_)
  obtain ⟨r_1, rfl, rfl, w⟩ := hk
  exact e_zret rfl w.1.nar (Nat.le_refl _) (Nat.le_refl _) ⟨_, rfl, rfl, w.2⟩ dX3_isShelf_9
abbrev mX3_shelve : gM := (yX3_shelve, cX3_shelve, 7, some .int)
theorem okX3_shelve : g_ok mX3_shelve 2 := ⟨by decide +kernel, by decide +kernel, by decide +kernel, by decide +kernel, by decide⟩
def wX3_shelve_222 (Q : Int32 → TS → Prop) (kh : Int32 → Int32 → Int32 → Int32 → TS → Prop) (k229 : TS → Prop) (t1 : Int32) (t2 : Int32) (x2 : Int32) (x3 : Int32) (x5 : Int32) (x6 : Int32) (s : TS) : Prop := vp_in t1 9600 ∧ ∀ s_8 : TS, s_8 = tA s 53 t1.toNatClampNeg t2 → (∀ x6_9 : Int32, x6_9 = x6 + 1 → (kh x2 x3 x5 x6_9 s_8))
def wX3_shelve_155 (Q : Int32 → TS → Prop) (k229 : TS → Prop) : Nat → Int32 → Int32 → Int32 → Int32 → TS → Prop
  | 0 => fun _ _ _ _ _ => False
  | n + 1 => fun x2 x3 x5 x6 s => (x5 ≤ x6 → (k229 s)) ∧ (¬ x5 ≤ x6 → ((x2 = 1 → (vp_in x6 320 ∧ (wX3_shelve_222 Q (wX3_shelve_155 Q k229 n) k229 (x3 + x6) (s.2.1 25 x6.toNatClampNeg) x2 x3 x5 x6 s))) ∧ (¬ x2 = 1 → ((x2 = 2 → (vp_in x6 520 ∧ (wX3_shelve_222 Q (wX3_shelve_155 Q k229 n) k229 (x3 + x6) (s.2.1 27 x6.toNatClampNeg) x2 x3 x5 x6 s))) ∧ (¬ x2 = 2 → ((x2 = 3 → (vp_in x6 1600 ∧ (wX3_shelve_222 Q (wX3_shelve_155 Q k229 n) k229 (x3 + x6) (s.2.1 23 x6.toNatClampNeg) x2 x3 x5 x6 s))) ∧ (¬ x2 = 3 → (vp_in x6 11 ∧ (wX3_shelve_222 Q (wX3_shelve_155 Q k229 n) k229 (x3 + x6) (s.2.1 15 x6.toNatClampNeg) x2 x3 x5 x6 s)))))))))
def wX3_shelve_150 (Q : Int32 → TS → Prop)  (t0 : Int32) (x2 : Int32) (x3 : Int32) (s : TS) : Prop := ∃ fu : Nat, wX3_shelve_155 Q (fun  (s_7 : TS) => Q 1 s_7) fu x2 x3 t0 0 s
def wX3_shelve_114 (Q : Int32 → TS → Prop)  (t0 : Int32) (x1 : Int32) (x2 : Int32) (x3 : Int32) (s : TS) : Prop := vp_in x1 6 ∧ ∀ s_6 : TS, s_6 = tA s 52 x1.toNatClampNeg t0 → ((x2 = 2 → (wX3_shelve_150 Q (5 * t0) x2 x3 s_6)) ∧ (¬ x2 = 2 → ((x2 = 3 → (wX3_shelve_150 Q (4 * t0) x2 x3 s_6)) ∧ (¬ x2 = 3 → (wX3_shelve_150 Q t0 x2 x3 s_6)))))
def wX3_shelve_64 (Q : Int32 → TS → Prop)  (t1 : Int32) (t2 : Int32) (x1 : Int32) (x2 : Int32) (x3 : Int32) (s : TS) : Prop := vp_in t1 6 ∧ ∀ s_5 : TS, s_5 = tA s 51 t1.toNatClampNeg t2 → ((x2 = 1 → (wX3_shelve_114 Q (s_5.1 24) x1 x2 x3 s_5)) ∧ (¬ x2 = 1 → ((x2 = 2 → (wX3_shelve_114 Q (s_5.1 26) x1 x2 x3 s_5)) ∧ (¬ x2 = 2 → ((x2 = 3 → (wX3_shelve_114 Q (s_5.1 22) x1 x2 x3 s_5)) ∧ (¬ x2 = 3 → ((x2 = 4 → (wX3_shelve_114 Q (s_5.1 14) x1 x2 x3 s_5)) ∧ (¬ x2 = 4 → (wX3_shelve_114 Q 0 x1 x2 x3 s_5)))))))))
def wX3_shelve_43 (Q : Int32 → TS → Prop)  (x1 : Int32) (x2 : Int32) (s : TS) : Prop := ∀ x3_4 : Int32, x3_4 = 1600 * x1 → ((x2 = 4 → (wX3_shelve_64 Q x1 1 x1 x2 x3_4 s)) ∧ (¬ x2 = 4 → (wX3_shelve_64 Q x1 x2 x1 x2 x3_4 s)))
def wX3_shelve (Q : Int32 → TS → Prop) (x1 : Int32) (x2 : Int32) (s : TS) : Prop := wX3_isShelf (fun (r_1 : Int32) => (r_1 = 0 → (Q (-1) s)) ∧ (¬ r_1 = 0 → (wX3_in (fun (r_2 : Int32) => (r_2 = 0 → (Q (-1) s)) ∧ (¬ r_2 = 0 → (wX3_in (fun (r_3 : Int32) => (r_3 = 0 → (wX3_shelve_43 Q x1 x2 s)) ∧ (¬ r_3 = 0 → ((s.1 20 = 0 → (Q (-3) s)) ∧ (¬ s.1 20 = 0 → (wX3_shelve_43 Q x1 x2 s))))) (x2.toInt64) 1 3))) (x2.toInt64) 0 4))) x1
set_option maxHeartbeats 4000000 in
theorem hX3_shelve_222 {o : Nat} {ad : Nat → Nat} (ok : t_ok o ad) {Q : Int32 → TS → Prop} {kh : Int32 → Int32 → Int32 → Int32 → TS → Prop} (hkh : ∀ (x2 : Int32) (x3 : Int32) (x5 : Int32) (x6 : Int32) (s : TS), kh x2 x3 x5 x6 s → E mX3_shelve 3 0 0 (g_z (t_Ki o ad Q)) 0 0 155 [(0, .ref o), (2, .int x2), (3, .int x3), (5, .int x5), (6, .int x6)] [] (t_map o ad s)) {k229 : TS → Prop} (hk229 : ∀  (s : TS), k229 s → E mX3_shelve 3 0 0 (g_z (t_Ki o ad Q)) 0 0 229 [] [] (t_map o ad s)) (t1 : Int32) (t2 : Int32) (x2 : Int32) (x3 : Int32) (x5 : Int32) (x6 : Int32) (s : TS) (w : wX3_shelve_222 Q kh k229 t1 t2 x2 x3 x5 x6 s) : E mX3_shelve 3 0 0 (g_z (t_Ki o ad Q)) 0 0 222 [(0, .ref o), (2, .int x2), (3, .int x3), (5, .int x5), (6, .int x6)] [.int t2, .int t1, .ref (ad 53)] (t_map o ad s) := by
  unfold wX3_shelve_222 at w
  obtain ⟨wi, w⟩ := w
  refine t_iast (n := 223) ok 53 rfl rfl (N := 9600) rfl wi dX3_shelve_222 rfl (fun s_8 hs_8 => ?_)
  have w := w s_8 hs_8
  obtain ⟨x6_9, hx6_9⟩ : ∃ y : Int32, y = x6 + 1 := ⟨_, rfl⟩
  have w := w x6_9 hx6_9
  refine e_iinc (n := 226) (v := x6_9) (lv' := [(0, .ref o), (2, .int x2), (3, .int x3), (5, .int x5), (6, .int x6_9)]) [1, 2, 3, 4, 0] dX3_shelve_223 rfl 4 rfl (by rw [hx6_9]; rfl) rfl rfl ?_
  refine e_goto (n := 155) dX3_shelve_226 (by decide) ?_
  exact hkh _ _ _ _ _ w
set_option maxHeartbeats 4000000 in
theorem hX3_shelve_155 {o : Nat} {ad : Nat → Nat} (ok : t_ok o ad) {Q : Int32 → TS → Prop} {k229 : TS → Prop} (hk229 : ∀  (s : TS), k229 s → E mX3_shelve 3 0 0 (g_z (t_Ki o ad Q)) 0 0 229 [] [] (t_map o ad s)) : ∀ (n : Nat) (x2 : Int32) (x3 : Int32) (x5 : Int32) (x6 : Int32) (s : TS), wX3_shelve_155 Q k229 n x2 x3 x5 x6 s → E mX3_shelve 3 0 0 (g_z (t_Ki o ad Q)) 0 0 155 [(0, .ref o), (2, .int x2), (3, .int x3), (5, .int x5), (6, .int x6)] [] (t_map o ad s) := by
  intro n
  induction n with
  | zero =>
    intro _ _ _ _ _ w
    exact w.elim
  | succ n ih =>
    intro x2 x3 x5 x6 s w
    unfold wX3_shelve_155 at w
    refine e_iload (n := 157) dX3_shelve_155 rfl 4 rfl ?_
    refine e_iload (n := 159) dX3_shelve_157 rfl 3 rfl ?_
    refine e_icmp_ge (n := 162) (tgt := 229) dX3_shelve_159 rfl (by decide) (fun h => ?_) (fun h => ?_)
    · have w := w.1 h
      refine e_sub (lv' := []) [] rfl ?_
      exact hk229 _ w
    · have w := w.2 h
      refine e_aload_n (n := 163) dX3_shelve_162 rfl 0 rfl ?_
      refine t_getR (n := 166) 53 rfl (by decide) q1387 dX3_shelve_163 rfl ?_
      refine e_iload_n (n := 167) dX3_shelve_166 rfl 2 rfl ?_
      refine e_iload (n := 169) dX3_shelve_167 rfl 4 rfl ?_
      refine e_iadd (n := 170) dX3_shelve_169 rfl ?_
      refine e_iload_n (n := 171) dX3_shelve_170 rfl 1 rfl ?_
      refine e_iconst (n := 172) (v := 1) dX3_shelve_171 rfl (by decide) ?_
      refine e_icmp_ne (n := 175) (tgt := 185) dX3_shelve_172 rfl (by decide) (fun h => ?_) (fun h => ?_)
      · have w := w.2 h
        refine e_iload_n (n := 186) dX3_shelve_185 rfl 1 rfl ?_
        refine e_iconst (n := 187) (v := 2) dX3_shelve_186 rfl (by decide) ?_
        refine e_icmp_ne (n := 190) (tgt := 200) dX3_shelve_187 rfl (by decide) (fun h => ?_) (fun h => ?_)
        · have w := w.2 h
          refine e_iload_n (n := 201) dX3_shelve_200 rfl 1 rfl ?_
          refine e_iconst (n := 202) (v := 3) dX3_shelve_201 rfl (by decide) ?_
          refine e_icmp_ne (n := 205) (tgt := 215) dX3_shelve_202 rfl (by decide) (fun h => ?_) (fun h => ?_)
          · have w := w.2 h
            refine e_aload_n (n := 216) dX3_shelve_215 rfl 0 rfl ?_
            refine t_getR (n := 219) 15 rfl (by decide) q1349 dX3_shelve_216 rfl ?_
            refine e_iload (n := 221) dX3_shelve_219 rfl 4 rfl ?_
            obtain ⟨wi, w⟩ := w
            refine t_iald (n := 222) ok 15 rfl rfl (N := 11) rfl wi dX3_shelve_221 rfl ?_
            exact hX3_shelve_222 ok ih hk229 _ _ _ _ _ _ _ w
          · have w := w.1 h
            refine e_aload_n (n := 206) dX3_shelve_205 rfl 0 rfl ?_
            refine t_getR (n := 209) 23 rfl (by decide) q1357 dX3_shelve_206 rfl ?_
            refine e_iload (n := 211) dX3_shelve_209 rfl 4 rfl ?_
            obtain ⟨wi, w⟩ := w
            refine t_iald (n := 212) ok 23 rfl rfl (N := 1600) rfl wi dX3_shelve_211 rfl ?_
            refine e_goto (n := 222) dX3_shelve_212 (by decide) ?_
            exact hX3_shelve_222 ok ih hk229 _ _ _ _ _ _ _ w
        · have w := w.1 h
          refine e_aload_n (n := 191) dX3_shelve_190 rfl 0 rfl ?_
          refine t_getR (n := 194) 27 rfl (by decide) q1361 dX3_shelve_191 rfl ?_
          refine e_iload (n := 196) dX3_shelve_194 rfl 4 rfl ?_
          obtain ⟨wi, w⟩ := w
          refine t_iald (n := 197) ok 27 rfl rfl (N := 520) rfl wi dX3_shelve_196 rfl ?_
          refine e_goto (n := 222) dX3_shelve_197 (by decide) ?_
          exact hX3_shelve_222 ok ih hk229 _ _ _ _ _ _ _ w
      · have w := w.1 h
        refine e_aload_n (n := 176) dX3_shelve_175 rfl 0 rfl ?_
        refine t_getR (n := 179) 25 rfl (by decide) q1359 dX3_shelve_176 rfl ?_
        refine e_iload (n := 181) dX3_shelve_179 rfl 4 rfl ?_
        obtain ⟨wi, w⟩ := w
        refine t_iald (n := 182) ok 25 rfl rfl (N := 320) rfl wi dX3_shelve_181 rfl ?_
        refine e_goto (n := 222) dX3_shelve_182 (by decide) ?_
        exact hX3_shelve_222 ok ih hk229 _ _ _ _ _ _ _ w
set_option maxHeartbeats 4000000 in
theorem hX3_shelve_150 {o : Nat} {ad : Nat → Nat} (ok : t_ok o ad) {Q : Int32 → TS → Prop}  (t0 : Int32) (x2 : Int32) (x3 : Int32) (s : TS) (w : wX3_shelve_150 Q t0 x2 x3 s) : E mX3_shelve 3 0 0 (g_z (t_Ki o ad Q)) 0 0 150 [(0, .ref o), (2, .int x2), (3, .int x3)] [.int t0] (t_map o ad s) := by
  unfold wX3_shelve_150 at w
  refine e_istore (n := 152) (lv' := [(0, .ref o), (2, .int x2), (3, .int x3), (5, .int t0)]) [1, 2, 3, 0] dX3_shelve_150 rfl rfl rfl ?_
  refine e_iconst (n := 153) (v := 0) dX3_shelve_152 rfl (by decide) ?_
  refine e_istore (n := 155) (lv' := [(0, .ref o), (2, .int x2), (3, .int x3), (5, .int t0), (6, .int 0)]) [1, 2, 3, 4, 0] dX3_shelve_153 rfl rfl rfl ?_
  obtain ⟨fu, w⟩ := w
  refine hX3_shelve_155 ok (fun s_7 w => ?_) fu _ _ _ _ _ w
  refine e_iconst (n := 230) (v := 1) dX3_shelve_229 rfl (by decide) ?_
  exact e_iret rfl (Nat.le_refl _) (Nat.le_refl _) ⟨_, _, rfl, rfl, w⟩ dX3_shelve_230
set_option maxHeartbeats 4000000 in
theorem hX3_shelve_114 {o : Nat} {ad : Nat → Nat} (ok : t_ok o ad) {Q : Int32 → TS → Prop}  (t0 : Int32) (x1 : Int32) (x2 : Int32) (x3 : Int32) (s : TS) (w : wX3_shelve_114 Q t0 x1 x2 x3 s) : E mX3_shelve 3 0 0 (g_z (t_Ki o ad Q)) 0 0 114 [(0, .ref o), (1, .int x1), (2, .int x2), (3, .int x3)] [.int t0] (t_map o ad s) := by
  unfold wX3_shelve_114 at w
  refine e_istore (n := 116) (lv' := [(0, .ref o), (1, .int x1), (2, .int x2), (3, .int x3), (4, .int t0)]) [1, 2, 3, 4, 0] dX3_shelve_114 rfl rfl rfl ?_
  refine e_aload_n (n := 117) dX3_shelve_116 rfl 0 rfl ?_
  refine t_getR (n := 120) 52 rfl (by decide) q1386 dX3_shelve_117 rfl ?_
  refine e_iload_n (n := 121) dX3_shelve_120 rfl 1 rfl ?_
  refine e_iload (n := 123) dX3_shelve_121 rfl 4 rfl ?_
  obtain ⟨wi, w⟩ := w
  refine t_iast (n := 124) ok 52 rfl rfl (N := 6) rfl wi dX3_shelve_123 rfl (fun s_6 hs_6 => ?_)
  have w := w s_6 hs_6
  refine e_iload_n (n := 125) dX3_shelve_124 rfl 2 rfl ?_
  refine e_iconst (n := 126) (v := 2) dX3_shelve_125 rfl (by decide) ?_
  refine e_icmp_ne (n := 129) (tgt := 136) dX3_shelve_126 rfl (by decide) (fun h => ?_) (fun h => ?_)
  · have w := w.2 h
    refine e_iload_n (n := 137) dX3_shelve_136 rfl 2 rfl ?_
    refine e_iconst (n := 138) (v := 3) dX3_shelve_137 rfl (by decide) ?_
    refine e_icmp_ne (n := 141) (tgt := 148) dX3_shelve_138 rfl (by decide) (fun h => ?_) (fun h => ?_)
    · have w := w.2 h
      refine e_iload (n := 150) dX3_shelve_148 rfl 4 rfl ?_
      refine e_sub (lv' := [(0, .ref o), (2, .int x2), (3, .int x3)]) [0, 2, 3] rfl ?_
      exact hX3_shelve_150 ok _ _ _ _ w
    · have w := w.1 h
      refine e_iconst (n := 142) (v := 4) dX3_shelve_141 rfl (by decide) ?_
      refine e_iload (n := 144) dX3_shelve_142 rfl 4 rfl ?_
      refine e_imul (n := 145) dX3_shelve_144 rfl ?_
      refine e_goto (n := 150) dX3_shelve_145 (by decide) ?_
      refine e_sub (lv' := [(0, .ref o), (2, .int x2), (3, .int x3)]) [0, 2, 3] rfl ?_
      exact hX3_shelve_150 ok _ _ _ _ w
  · have w := w.1 h
    refine e_iconst (n := 130) (v := 5) dX3_shelve_129 rfl (by decide) ?_
    refine e_iload (n := 132) dX3_shelve_130 rfl 4 rfl ?_
    refine e_imul (n := 133) dX3_shelve_132 rfl ?_
    refine e_goto (n := 150) dX3_shelve_133 (by decide) ?_
    refine e_sub (lv' := [(0, .ref o), (2, .int x2), (3, .int x3)]) [0, 2, 3] rfl ?_
    exact hX3_shelve_150 ok _ _ _ _ w
set_option maxHeartbeats 4000000 in
theorem hX3_shelve_64 {o : Nat} {ad : Nat → Nat} (ok : t_ok o ad) {Q : Int32 → TS → Prop}  (t1 : Int32) (t2 : Int32) (x1 : Int32) (x2 : Int32) (x3 : Int32) (s : TS) (w : wX3_shelve_64 Q t1 t2 x1 x2 x3 s) : E mX3_shelve 3 0 0 (g_z (t_Ki o ad Q)) 0 0 64 [(0, .ref o), (1, .int x1), (2, .int x2), (3, .int x3)] [.int t2, .int t1, .ref (ad 51)] (t_map o ad s) := by
  unfold wX3_shelve_64 at w
  obtain ⟨wi, w⟩ := w
  refine t_iast (n := 65) ok 51 rfl rfl (N := 6) rfl wi dX3_shelve_64 rfl (fun s_5 hs_5 => ?_)
  have w := w s_5 hs_5
  refine e_iload_n (n := 66) dX3_shelve_65 rfl 2 rfl ?_
  refine e_iconst (n := 67) (v := 1) dX3_shelve_66 rfl (by decide) ?_
  refine e_icmp_ne (n := 70) (tgt := 77) dX3_shelve_67 rfl (by decide) (fun h => ?_) (fun h => ?_)
  · have w := w.2 h
    refine e_iload_n (n := 78) dX3_shelve_77 rfl 2 rfl ?_
    refine e_iconst (n := 79) (v := 2) dX3_shelve_78 rfl (by decide) ?_
    refine e_icmp_ne (n := 82) (tgt := 89) dX3_shelve_79 rfl (by decide) (fun h => ?_) (fun h => ?_)
    · have w := w.2 h
      refine e_iload_n (n := 90) dX3_shelve_89 rfl 2 rfl ?_
      refine e_iconst (n := 91) (v := 3) dX3_shelve_90 rfl (by decide) ?_
      refine e_icmp_ne (n := 94) (tgt := 101) dX3_shelve_91 rfl (by decide) (fun h => ?_) (fun h => ?_)
      · have w := w.2 h
        refine e_iload_n (n := 102) dX3_shelve_101 rfl 2 rfl ?_
        refine e_iconst (n := 103) (v := 4) dX3_shelve_102 rfl (by decide) ?_
        refine e_icmp_ne (n := 106) (tgt := 113) dX3_shelve_103 rfl (by decide) (fun h => ?_) (fun h => ?_)
        · have w := w.2 h
          refine e_iconst (n := 114) (v := 0) dX3_shelve_113 rfl (by decide) ?_
          exact hX3_shelve_114 ok _ _ _ _ _ w
        · have w := w.1 h
          refine e_aload_n (n := 107) dX3_shelve_106 rfl 0 rfl ?_
          refine t_getI (n := 110) 14 rfl rfl q1348 dX3_shelve_107 rfl ?_
          refine e_goto (n := 114) dX3_shelve_110 (by decide) ?_
          exact hX3_shelve_114 ok _ _ _ _ _ w
      · have w := w.1 h
        refine e_aload_n (n := 95) dX3_shelve_94 rfl 0 rfl ?_
        refine t_getI (n := 98) 22 rfl rfl q1356 dX3_shelve_95 rfl ?_
        refine e_goto (n := 114) dX3_shelve_98 (by decide) ?_
        exact hX3_shelve_114 ok _ _ _ _ _ w
    · have w := w.1 h
      refine e_aload_n (n := 83) dX3_shelve_82 rfl 0 rfl ?_
      refine t_getI (n := 86) 26 rfl rfl q1360 dX3_shelve_83 rfl ?_
      refine e_goto (n := 114) dX3_shelve_86 (by decide) ?_
      exact hX3_shelve_114 ok _ _ _ _ _ w
  · have w := w.1 h
    refine e_aload_n (n := 71) dX3_shelve_70 rfl 0 rfl ?_
    refine t_getI (n := 74) 24 rfl rfl q1358 dX3_shelve_71 rfl ?_
    refine e_goto (n := 114) dX3_shelve_74 (by decide) ?_
    exact hX3_shelve_114 ok _ _ _ _ _ w
set_option maxHeartbeats 4000000 in
theorem hX3_shelve_43 {o : Nat} {ad : Nat → Nat} (ok : t_ok o ad) {Q : Int32 → TS → Prop}  (x1 : Int32) (x2 : Int32) (s : TS) (w : wX3_shelve_43 Q x1 x2 s) : E mX3_shelve 3 0 0 (g_z (t_Ki o ad Q)) 0 0 43 [(0, .ref o), (1, .int x1), (2, .int x2)] [] (t_map o ad s) := by
  unfold wX3_shelve_43 at w
  refine e_sipush (n := 46) (v := 1600) dX3_shelve_43 rfl (by decide) ?_
  refine e_iload_n (n := 47) dX3_shelve_46 rfl 1 rfl ?_
  refine e_imul (n := 48) dX3_shelve_47 rfl ?_
  refine e_topi (fun x3_4 hx3_4 => ?_)
  have w := w x3_4 hx3_4
  refine e_istore_n (n := 49) (lv' := [(0, .ref o), (1, .int x1), (2, .int x2), (3, .int x3_4)]) [1, 2, 3, 0] dX3_shelve_48 rfl rfl rfl ?_
  refine e_aload_n (n := 50) dX3_shelve_49 rfl 0 rfl ?_
  refine t_getR (n := 53) 51 rfl (by decide) q1385 dX3_shelve_50 rfl ?_
  refine e_iload_n (n := 54) dX3_shelve_53 rfl 1 rfl ?_
  refine e_iload_n (n := 55) dX3_shelve_54 rfl 2 rfl ?_
  refine e_iconst (n := 56) (v := 4) dX3_shelve_55 rfl (by decide) ?_
  refine e_icmp_ne (n := 59) (tgt := 63) dX3_shelve_56 rfl (by decide) (fun h => ?_) (fun h => ?_)
  · have w := w.2 h
    refine e_iload_n (n := 64) dX3_shelve_63 rfl 2 rfl ?_
    exact hX3_shelve_64 ok _ _ _ _ _ _ w
  · have w := w.1 h
    refine e_iconst (n := 60) (v := 1) dX3_shelve_59 rfl (by decide) ?_
    refine e_goto (n := 64) dX3_shelve_60 (by decide) ?_
    exact hX3_shelve_64 ok _ _ _ _ _ _ w
set_option maxHeartbeats 4000000 in
theorem ctX3_shelve {o : Nat} {ad : Nat → Nat} (ok : t_ok o ad) {Q : Int32 → TS → Prop} {x1 : Int32} {x2 : Int32} {s : TS} (w : wX3_shelve Q x1 x2 s) : CT mX3_shelve 3 0 0 [.ref o, .int x1, .int x2] (t_map o ad s) (t_Ki o ad Q) := by
  refine CT.of (lv := [(0, .ref o), (1, .int x1), (2, .int x2)]) okX3_shelve.1 rfl rfl ?_
  unfold wX3_shelve at w
  refine e_iload_n (n := 1) dX3_shelve_0 rfl 1 rfl ?_
  refine t_callS (n := 4) (As := [.int x1]) (st := []) okX3_isShelf q1702 q1703 q63 q1704 (by decide) (Nat.le_refl _) (Nat.le_refl _) rfl rfl rfl dX3_shelve_1 rfl (ctX3_isShelf w) (fun r9 σ9 hk => ?_)
  obtain ⟨r_1, rfl, rfl, w⟩ := hk
  refine e_if_eq (n := 7) (tgt := 19) dX3_shelve_4 rfl (by decide) (fun h => ?_) (fun h => ?_)
  · have w := w.1 h
    refine e_iconst (n := 20) (v := (-1)) dX3_shelve_19 rfl (by decide) ?_
    exact e_iret rfl (Nat.le_refl _) (Nat.le_refl _) ⟨_, _, rfl, rfl, w⟩ dX3_shelve_20
  · have w := w.2 h
    refine e_iload_n (n := 8) dX3_shelve_7 rfl 2 rfl ?_
    refine e_i2l (n := 9) dX3_shelve_8 rfl ?_
    refine e_lconst (n := 10) (v := 0) dX3_shelve_9 rfl (by decide) ?_
    refine e_ldc2 (n := 13) q1539 dX3_shelve_10 rfl ?_
    refine t_callS (n := 16) (As := [.long (x2.toInt64), .long 0, .long 4]) (st := []) okX3_in q1519 q1520 q63 q1521 (by decide) (Nat.le_refl _) (Nat.le_refl _) rfl rfl rfl dX3_shelve_13 rfl (ctX3_in w) (fun r9 σ9 hk => ?_)
    obtain ⟨r_2, rfl, rfl, w⟩ := hk
    refine e_if_ne (n := 19) (tgt := 21) dX3_shelve_16 rfl (by decide) (fun h => ?_) (fun h => ?_)
    · have w := w.2 h
      refine e_iload_n (n := 22) dX3_shelve_21 rfl 2 rfl ?_
      refine e_i2l (n := 23) dX3_shelve_22 rfl ?_
      refine e_lconst (n := 24) (v := 1) dX3_shelve_23 rfl (by decide) ?_
      refine e_ldc2 (n := 27) q1706 dX3_shelve_24 rfl ?_
      refine t_callS (n := 30) (As := [.long (x2.toInt64), .long 1, .long 3]) (st := []) okX3_in q1519 q1520 q63 q1521 (by decide) (Nat.le_refl _) (Nat.le_refl _) rfl rfl rfl dX3_shelve_27 rfl (ctX3_in w) (fun r9 σ9 hk => ?_)
      obtain ⟨r_3, rfl, rfl, w⟩ := hk
      refine e_if_eq (n := 33) (tgt := 43) dX3_shelve_30 rfl (by decide) (fun h => ?_) (fun h => ?_)
      · have w := w.1 h
        exact hX3_shelve_43 ok _ _ _ w
      · have w := w.2 h
        refine e_aload_n (n := 34) dX3_shelve_33 rfl 0 rfl ?_
        refine t_getI (n := 37) 20 rfl rfl q1354 dX3_shelve_34 rfl ?_
        refine e_if_ne (n := 40) (tgt := 43) dX3_shelve_37 rfl (by decide) (fun h => ?_) (fun h => ?_)
        · have w := w.2 h
          exact hX3_shelve_43 ok _ _ _ w
        · have w := w.1 h
          refine e_bipush (n := 42) (v := (-3)) dX3_shelve_40 rfl (by decide) ?_
          exact e_iret rfl (Nat.le_refl _) (Nat.le_refl _) ⟨_, _, rfl, rfl, w⟩ dX3_shelve_42
    · have w := w.1 h
      refine e_iconst (n := 20) (v := (-1)) dX3_shelve_19 rfl (by decide) ?_
      exact e_iret rfl (Nat.le_refl _) (Nat.le_refl _) ⟨_, _, rfl, rfl, w⟩ dX3_shelve_20
abbrev mX3_against : gM := (yX3_against, cX3_against, 3, some .int)
theorem okX3_against : g_ok mX3_against 2 := ⟨by decide +kernel, by decide +kernel, by decide +kernel, by decide +kernel, by decide⟩
def wX3_against (Q : Int32 → TS → Prop) (x1 : Int32) (x2 : Int32) (s : TS) : Prop := vp_in x1 6 ∧ ((s.2.1 51 x1.toNatClampNeg = 0 → (Q (-11) s)) ∧ (¬ s.2.1 51 x1.toNatClampNeg = 0 → (vp_in x1 6 ∧ ((s.2.1 51 x1.toNatClampNeg = x2 → (Q 0 s)) ∧ (¬ s.2.1 51 x1.toNatClampNeg = x2 → (Q (-13) s))))))
set_option maxHeartbeats 4000000 in
theorem ctX3_against {o : Nat} {ad : Nat → Nat} (ok : t_ok o ad) {Q : Int32 → TS → Prop} {x1 : Int32} {x2 : Int32} {s : TS} (w : wX3_against Q x1 x2 s) : CT mX3_against 1 0 0 [.ref o, .int x1, .int x2] (t_map o ad s) (t_Ki o ad Q) := by
  refine CT.of (lv := [(0, .ref o), (1, .int x1), (2, .int x2)]) okX3_against.1 rfl rfl ?_
  unfold wX3_against at w
  refine e_aload_n (n := 1) dX3_against_0 rfl 0 rfl ?_
  refine t_getR (n := 4) 51 rfl (by decide) q1385 dX3_against_1 rfl ?_
  refine e_iload_n (n := 5) dX3_against_4 rfl 1 rfl ?_
  obtain ⟨wi, w⟩ := w
  refine t_iald (n := 6) ok 51 rfl rfl (N := 6) rfl wi dX3_against_5 rfl ?_
  refine e_if_ne (n := 9) (tgt := 14) dX3_against_6 rfl (by decide) (fun h => ?_) (fun h => ?_)
  · have w := w.2 h
    refine e_aload_n (n := 15) dX3_against_14 rfl 0 rfl ?_
    refine t_getR (n := 18) 51 rfl (by decide) q1385 dX3_against_15 rfl ?_
    refine e_iload_n (n := 19) dX3_against_18 rfl 1 rfl ?_
    obtain ⟨wi, w⟩ := w
    refine t_iald (n := 20) ok 51 rfl rfl (N := 6) rfl wi dX3_against_19 rfl ?_
    refine e_iload_n (n := 21) dX3_against_20 rfl 2 rfl ?_
    refine e_icmp_eq (n := 24) (tgt := 29) dX3_against_21 rfl (by decide) (fun h => ?_) (fun h => ?_)
    · have w := w.1 h
      refine e_iconst (n := 30) (v := 0) dX3_against_29 rfl (by decide) ?_
      exact e_iret rfl (Nat.le_refl _) (Nat.le_refl _) ⟨_, _, rfl, rfl, w⟩ dX3_against_30
    · have w := w.2 h
      refine e_bipush (n := 26) (v := (-13)) dX3_against_24 rfl (by decide) ?_
      refine e_goto (n := 30) dX3_against_26 (by decide) ?_
      exact e_iret rfl (Nat.le_refl _) (Nat.le_refl _) ⟨_, _, rfl, rfl, w⟩ dX3_against_30
  · have w := w.1 h
    refine e_bipush (n := 11) (v := (-11)) dX3_against_9 rfl (by decide) ?_
    refine e_goto (n := 30) dX3_against_11 (by decide) ?_
    exact e_iret rfl (Nat.le_refl _) (Nat.le_refl _) ⟨_, _, rfl, rfl, w⟩ dX3_against_30
abbrev mX3_rowAt : gM := (yX3_rowAt, cX3_rowAt, 4, some .int)
theorem okX3_rowAt : g_ok mX3_rowAt 2 := ⟨by decide +kernel, by decide +kernel, by decide +kernel, by decide +kernel, by decide⟩
def wX3_rowAt (Q : Int32 → TS → Prop) (x1 : Int32) (x2 : Int32) (s : TS) : Prop := wX3_isShelf (fun (r_1 : Int32) => (r_1 = 0 → (Q (-1) s)) ∧ (¬ r_1 = 0 → (wX3_against (fun (r_3 : Int32) (s_2 : TS) => (0 ≤ r_3 → (vp_in x1 6 ∧ (wX3_in (fun (r_4 : Int32) => (r_4 = 0 → (Q (-12) s_2)) ∧ (¬ r_4 = 0 → (vp_in ((1600 * x1) + x2) 9600 ∧ (Q (s_2.2.1 53 ((1600 * x1) + x2).toNatClampNeg) s_2)))) (x2.toInt64) 0 (((s_2.2.1 52 x1.toNatClampNeg) - 1).toInt64)))) ∧ (¬ 0 ≤ r_3 → (Q r_3 s_2))) x1 1 s))) x1
set_option maxHeartbeats 4000000 in
theorem ctX3_rowAt {o : Nat} {ad : Nat → Nat} (ok : t_ok o ad) {Q : Int32 → TS → Prop} {x1 : Int32} {x2 : Int32} {s : TS} (w : wX3_rowAt Q x1 x2 s) : CT mX3_rowAt 3 0 0 [.ref o, .int x1, .int x2] (t_map o ad s) (t_Ki o ad Q) := by
  refine CT.of (lv := [(0, .ref o), (1, .int x1), (2, .int x2)]) okX3_rowAt.1 rfl rfl ?_
  unfold wX3_rowAt at w
  refine e_iload_n (n := 1) dX3_rowAt_0 rfl 1 rfl ?_
  refine t_callS (n := 4) (As := [.int x1]) (st := []) okX3_isShelf q1702 q1703 q63 q1704 (by decide) (Nat.le_refl _) (Nat.le_refl _) rfl rfl rfl dX3_rowAt_1 rfl (ctX3_isShelf w) (fun r9 σ9 hk => ?_)
  obtain ⟨r_1, rfl, rfl, w⟩ := hk
  refine e_if_ne (n := 7) (tgt := 9) dX3_rowAt_4 rfl (by decide) (fun h => ?_) (fun h => ?_)
  · have w := w.2 h
    refine e_aload_n (n := 10) dX3_rowAt_9 rfl 0 rfl ?_
    refine e_iload_n (n := 11) dX3_rowAt_10 rfl 1 rfl ?_
    refine e_iconst (n := 12) (v := 1) dX3_rowAt_11 rfl (by decide) ?_
    refine t_callV (n := 15) (As := [.int x1, .int 1]) (st := []) okX3_against q1711 q1713 qs55 q1714 rfl (by decide) (Nat.le_refl _) (Nat.le_refl _) rfl rfl rfl dX3_rowAt_12 rfl (ctX3_against ok w) (fun r9 σ9 hk => ?_)
    obtain ⟨r_3, s_2, rfl, rfl, w⟩ := hk
    refine e_istore_n (n := 16) (lv' := [(0, .ref o), (1, .int x1), (2, .int x2), (3, .int r_3)]) [1, 2, 3, 0] dX3_rowAt_15 rfl rfl rfl ?_
    refine e_iload_n (n := 17) dX3_rowAt_16 rfl 3 rfl ?_
    refine e_if_ge (n := 20) (tgt := 24) dX3_rowAt_17 rfl (by decide) (fun h => ?_) (fun h => ?_)
    · have w := w.1 h
      refine e_iload_n (n := 25) dX3_rowAt_24 rfl 2 rfl ?_
      refine e_i2l (n := 26) dX3_rowAt_25 rfl ?_
      refine e_lconst (n := 27) (v := 0) dX3_rowAt_26 rfl (by decide) ?_
      refine e_aload_n (n := 28) dX3_rowAt_27 rfl 0 rfl ?_
      refine t_getR (n := 31) 52 rfl (by decide) q1386 dX3_rowAt_28 rfl ?_
      refine e_iload_n (n := 32) dX3_rowAt_31 rfl 1 rfl ?_
      obtain ⟨wi, w⟩ := w
      refine t_iald (n := 33) ok 52 rfl rfl (N := 6) rfl wi dX3_rowAt_32 rfl ?_
      refine e_iconst (n := 34) (v := 1) dX3_rowAt_33 rfl (by decide) ?_
      refine e_isub (n := 35) dX3_rowAt_34 rfl ?_
      refine e_i2l (n := 36) dX3_rowAt_35 rfl ?_
      refine t_callS (n := 39) (As := [.long (x2.toInt64), .long 0, .long (((s_2.2.1 52 x1.toNatClampNeg) - 1).toInt64)]) (st := []) okX3_in q1519 q1520 q63 q1521 (by decide) (Nat.le_refl _) (Nat.le_refl _) rfl rfl rfl dX3_rowAt_36 rfl (ctX3_in w) (fun r9 σ9 hk => ?_)
      obtain ⟨r_4, rfl, rfl, w⟩ := hk
      refine e_if_eq (n := 42) (tgt := 57) dX3_rowAt_39 rfl (by decide) (fun h => ?_) (fun h => ?_)
      · have w := w.1 h
        refine e_bipush (n := 59) (v := (-12)) dX3_rowAt_57 rfl (by decide) ?_
        exact e_iret rfl (Nat.le_refl _) (Nat.le_refl _) ⟨_, _, rfl, rfl, w⟩ dX3_rowAt_59
      · have w := w.2 h
        refine e_aload_n (n := 43) dX3_rowAt_42 rfl 0 rfl ?_
        refine t_getR (n := 46) 53 rfl (by decide) q1387 dX3_rowAt_43 rfl ?_
        refine e_sipush (n := 49) (v := 1600) dX3_rowAt_46 rfl (by decide) ?_
        refine e_iload_n (n := 50) dX3_rowAt_49 rfl 1 rfl ?_
        refine e_imul (n := 51) dX3_rowAt_50 rfl ?_
        refine e_iload_n (n := 52) dX3_rowAt_51 rfl 2 rfl ?_
        refine e_iadd (n := 53) dX3_rowAt_52 rfl ?_
        obtain ⟨wi, w⟩ := w
        refine t_iald (n := 54) ok 53 rfl rfl (N := 9600) rfl wi dX3_rowAt_53 rfl ?_
        refine e_goto (n := 59) dX3_rowAt_54 (by decide) ?_
        exact e_iret rfl (Nat.le_refl _) (Nat.le_refl _) ⟨_, _, rfl, rfl, w⟩ dX3_rowAt_59
    · have w := w.2 h
      refine e_iload_n (n := 21) dX3_rowAt_20 rfl 3 rfl ?_
      refine e_goto (n := 59) dX3_rowAt_21 (by decide) ?_
      exact e_iret rfl (Nat.le_refl _) (Nat.le_refl _) ⟨_, _, rfl, rfl, w⟩ dX3_rowAt_59
  · have w := w.1 h
    refine e_iconst (n := 8) (v := (-1)) dX3_rowAt_7 rfl (by decide) ?_
    exact e_iret rfl (Nat.le_refl _) (Nat.le_refl _) ⟨_, _, rfl, rfl, w⟩ dX3_rowAt_8
abbrev mX3_treeAt : gM := (yX3_treeAt, cX3_treeAt, 5, some .int)
theorem okX3_treeAt : g_ok mX3_treeAt 3 := ⟨by decide +kernel, by decide +kernel, by decide +kernel, by decide +kernel, by decide⟩
def wX3_treeAt (Q : Int32 → TS → Prop) (x1 : Int32) (x2 : Int32) (x3 : Int32) (s : TS) : Prop := wX3_isShelf (fun (r_1 : Int32) => (r_1 = 0 → (Q (-1) s)) ∧ (¬ r_1 = 0 → (wX3_in (fun (r_2 : Int32) => (r_2 = 0 → (Q (-1) s)) ∧ (¬ r_2 = 0 → (wX3_against (fun (r_4 : Int32) (s_3 : TS) => (0 ≤ r_4 → (vp_in x1 6 ∧ (wX3_in (fun (r_5 : Int32) => (r_5 = 0 → (Q (-12) s_3)) ∧ (¬ r_5 = 0 → (vp_in (((1600 * x1) + (5 * x2)) + x3) 9600 ∧ (Q (s_3.2.1 53 (((1600 * x1) + (5 * x2)) + x3).toNatClampNeg) s_3)))) (x2.toInt64) 0 (((s_3.2.1 52 x1.toNatClampNeg) - 1).toInt64)))) ∧ (¬ 0 ≤ r_4 → (Q r_4 s_3))) x1 2 s))) (x3.toInt64) 0 4))) x1
set_option maxHeartbeats 4000000 in
theorem ctX3_treeAt {o : Nat} {ad : Nat → Nat} (ok : t_ok o ad) {Q : Int32 → TS → Prop} {x1 : Int32} {x2 : Int32} {x3 : Int32} {s : TS} (w : wX3_treeAt Q x1 x2 x3 s) : CT mX3_treeAt 3 0 0 [.ref o, .int x1, .int x2, .int x3] (t_map o ad s) (t_Ki o ad Q) := by
  refine CT.of (lv := [(0, .ref o), (1, .int x1), (2, .int x2), (3, .int x3)]) okX3_treeAt.1 rfl rfl ?_
  unfold wX3_treeAt at w
  refine e_iload_n (n := 1) dX3_treeAt_0 rfl 1 rfl ?_
  refine t_callS (n := 4) (As := [.int x1]) (st := []) okX3_isShelf q1702 q1703 q63 q1704 (by decide) (Nat.le_refl _) (Nat.le_refl _) rfl rfl rfl dX3_treeAt_1 rfl (ctX3_isShelf w) (fun r9 σ9 hk => ?_)
  obtain ⟨r_1, rfl, rfl, w⟩ := hk
  refine e_if_eq (n := 7) (tgt := 19) dX3_treeAt_4 rfl (by decide) (fun h => ?_) (fun h => ?_)
  · have w := w.1 h
    refine e_iconst (n := 20) (v := (-1)) dX3_treeAt_19 rfl (by decide) ?_
    exact e_iret rfl (Nat.le_refl _) (Nat.le_refl _) ⟨_, _, rfl, rfl, w⟩ dX3_treeAt_20
  · have w := w.2 h
    refine e_iload_n (n := 8) dX3_treeAt_7 rfl 3 rfl ?_
    refine e_i2l (n := 9) dX3_treeAt_8 rfl ?_
    refine e_lconst (n := 10) (v := 0) dX3_treeAt_9 rfl (by decide) ?_
    refine e_ldc2 (n := 13) q1539 dX3_treeAt_10 rfl ?_
    refine t_callS (n := 16) (As := [.long (x3.toInt64), .long 0, .long 4]) (st := []) okX3_in q1519 q1520 q63 q1521 (by decide) (Nat.le_refl _) (Nat.le_refl _) rfl rfl rfl dX3_treeAt_13 rfl (ctX3_in w) (fun r9 σ9 hk => ?_)
    obtain ⟨r_2, rfl, rfl, w⟩ := hk
    refine e_if_ne (n := 19) (tgt := 21) dX3_treeAt_16 rfl (by decide) (fun h => ?_) (fun h => ?_)
    · have w := w.2 h
      refine e_aload_n (n := 22) dX3_treeAt_21 rfl 0 rfl ?_
      refine e_iload_n (n := 23) dX3_treeAt_22 rfl 1 rfl ?_
      refine e_iconst (n := 24) (v := 2) dX3_treeAt_23 rfl (by decide) ?_
      refine t_callV (n := 27) (As := [.int x1, .int 2]) (st := []) okX3_against q1711 q1713 qs55 q1714 rfl (by decide) (Nat.le_refl _) (Nat.le_refl _) rfl rfl rfl dX3_treeAt_24 rfl (ctX3_against ok w) (fun r9 σ9 hk => ?_)
      obtain ⟨r_4, s_3, rfl, rfl, w⟩ := hk
      refine e_istore (n := 29) (lv' := [(0, .ref o), (1, .int x1), (2, .int x2), (3, .int x3), (4, .int r_4)]) [1, 2, 3, 4, 0] dX3_treeAt_27 rfl rfl rfl ?_
      refine e_iload (n := 31) dX3_treeAt_29 rfl 4 rfl ?_
      refine e_if_ge (n := 34) (tgt := 39) dX3_treeAt_31 rfl (by decide) (fun h => ?_) (fun h => ?_)
      · have w := w.1 h
        refine e_iload_n (n := 40) dX3_treeAt_39 rfl 2 rfl ?_
        refine e_i2l (n := 41) dX3_treeAt_40 rfl ?_
        refine e_lconst (n := 42) (v := 0) dX3_treeAt_41 rfl (by decide) ?_
        refine e_aload_n (n := 43) dX3_treeAt_42 rfl 0 rfl ?_
        refine t_getR (n := 46) 52 rfl (by decide) q1386 dX3_treeAt_43 rfl ?_
        refine e_iload_n (n := 47) dX3_treeAt_46 rfl 1 rfl ?_
        obtain ⟨wi, w⟩ := w
        refine t_iald (n := 48) ok 52 rfl rfl (N := 6) rfl wi dX3_treeAt_47 rfl ?_
        refine e_iconst (n := 49) (v := 1) dX3_treeAt_48 rfl (by decide) ?_
        refine e_isub (n := 50) dX3_treeAt_49 rfl ?_
        refine e_i2l (n := 51) dX3_treeAt_50 rfl ?_
        refine t_callS (n := 54) (As := [.long (x2.toInt64), .long 0, .long (((s_3.2.1 52 x1.toNatClampNeg) - 1).toInt64)]) (st := []) okX3_in q1519 q1520 q63 q1521 (by decide) (Nat.le_refl _) (Nat.le_refl _) rfl rfl rfl dX3_treeAt_51 rfl (ctX3_in w) (fun r9 σ9 hk => ?_)
        obtain ⟨r_5, rfl, rfl, w⟩ := hk
        refine e_if_eq (n := 57) (tgt := 76) dX3_treeAt_54 rfl (by decide) (fun h => ?_) (fun h => ?_)
        · have w := w.1 h
          refine e_bipush (n := 78) (v := (-12)) dX3_treeAt_76 rfl (by decide) ?_
          exact e_iret rfl (Nat.le_refl _) (Nat.le_refl _) ⟨_, _, rfl, rfl, w⟩ dX3_treeAt_78
        · have w := w.2 h
          refine e_aload_n (n := 58) dX3_treeAt_57 rfl 0 rfl ?_
          refine t_getR (n := 61) 53 rfl (by decide) q1387 dX3_treeAt_58 rfl ?_
          refine e_sipush (n := 64) (v := 1600) dX3_treeAt_61 rfl (by decide) ?_
          refine e_iload_n (n := 65) dX3_treeAt_64 rfl 1 rfl ?_
          refine e_imul (n := 66) dX3_treeAt_65 rfl ?_
          refine e_iconst (n := 67) (v := 5) dX3_treeAt_66 rfl (by decide) ?_
          refine e_iload_n (n := 68) dX3_treeAt_67 rfl 2 rfl ?_
          refine e_imul (n := 69) dX3_treeAt_68 rfl ?_
          refine e_iadd (n := 70) dX3_treeAt_69 rfl ?_
          refine e_iload_n (n := 71) dX3_treeAt_70 rfl 3 rfl ?_
          refine e_iadd (n := 72) dX3_treeAt_71 rfl ?_
          obtain ⟨wi, w⟩ := w
          refine t_iald (n := 73) ok 53 rfl rfl (N := 9600) rfl wi dX3_treeAt_72 rfl ?_
          refine e_goto (n := 78) dX3_treeAt_73 (by decide) ?_
          exact e_iret rfl (Nat.le_refl _) (Nat.le_refl _) ⟨_, _, rfl, rfl, w⟩ dX3_treeAt_78
      · have w := w.2 h
        refine e_iload (n := 36) dX3_treeAt_34 rfl 4 rfl ?_
        refine e_goto (n := 78) dX3_treeAt_36 (by decide) ?_
        exact e_iret rfl (Nat.le_refl _) (Nat.le_refl _) ⟨_, _, rfl, rfl, w⟩ dX3_treeAt_78
    · have w := w.1 h
      refine e_iconst (n := 20) (v := (-1)) dX3_treeAt_19 rfl (by decide) ?_
      exact e_iret rfl (Nat.le_refl _) (Nat.le_refl _) ⟨_, _, rfl, rfl, w⟩ dX3_treeAt_20
abbrev mX3_slipAt : gM := (yX3_slipAt, cX3_slipAt, 5, some .int)
theorem okX3_slipAt : g_ok mX3_slipAt 3 := ⟨by decide +kernel, by decide +kernel, by decide +kernel, by decide +kernel, by decide⟩
def wX3_slipAt (Q : Int32 → TS → Prop) (x1 : Int32) (x2 : Int32) (x3 : Int32) (s : TS) : Prop := wX3_isShelf (fun (r_1 : Int32) => (r_1 = 0 → (Q (-1) s)) ∧ (¬ r_1 = 0 → (wX3_in (fun (r_2 : Int32) => (r_2 = 0 → (Q (-1) s)) ∧ (¬ r_2 = 0 → (wX3_against (fun (r_4 : Int32) (s_3 : TS) => (0 ≤ r_4 → (vp_in x1 6 ∧ (wX3_in (fun (r_5 : Int32) => (r_5 = 0 → (Q (-12) s_3)) ∧ (¬ r_5 = 0 → (vp_in (((1600 * x1) + (4 * x2)) + x3) 9600 ∧ (Q (s_3.2.1 53 (((1600 * x1) + (4 * x2)) + x3).toNatClampNeg) s_3)))) (x2.toInt64) 0 (((s_3.2.1 52 x1.toNatClampNeg) - 1).toInt64)))) ∧ (¬ 0 ≤ r_4 → (Q r_4 s_3))) x1 3 s))) (x3.toInt64) 0 3))) x1
set_option maxHeartbeats 4000000 in
theorem ctX3_slipAt {o : Nat} {ad : Nat → Nat} (ok : t_ok o ad) {Q : Int32 → TS → Prop} {x1 : Int32} {x2 : Int32} {x3 : Int32} {s : TS} (w : wX3_slipAt Q x1 x2 x3 s) : CT mX3_slipAt 3 0 0 [.ref o, .int x1, .int x2, .int x3] (t_map o ad s) (t_Ki o ad Q) := by
  refine CT.of (lv := [(0, .ref o), (1, .int x1), (2, .int x2), (3, .int x3)]) okX3_slipAt.1 rfl rfl ?_
  unfold wX3_slipAt at w
  refine e_iload_n (n := 1) dX3_slipAt_0 rfl 1 rfl ?_
  refine t_callS (n := 4) (As := [.int x1]) (st := []) okX3_isShelf q1702 q1703 q63 q1704 (by decide) (Nat.le_refl _) (Nat.le_refl _) rfl rfl rfl dX3_slipAt_1 rfl (ctX3_isShelf w) (fun r9 σ9 hk => ?_)
  obtain ⟨r_1, rfl, rfl, w⟩ := hk
  refine e_if_eq (n := 7) (tgt := 19) dX3_slipAt_4 rfl (by decide) (fun h => ?_) (fun h => ?_)
  · have w := w.1 h
    refine e_iconst (n := 20) (v := (-1)) dX3_slipAt_19 rfl (by decide) ?_
    exact e_iret rfl (Nat.le_refl _) (Nat.le_refl _) ⟨_, _, rfl, rfl, w⟩ dX3_slipAt_20
  · have w := w.2 h
    refine e_iload_n (n := 8) dX3_slipAt_7 rfl 3 rfl ?_
    refine e_i2l (n := 9) dX3_slipAt_8 rfl ?_
    refine e_lconst (n := 10) (v := 0) dX3_slipAt_9 rfl (by decide) ?_
    refine e_ldc2 (n := 13) q1706 dX3_slipAt_10 rfl ?_
    refine t_callS (n := 16) (As := [.long (x3.toInt64), .long 0, .long 3]) (st := []) okX3_in q1519 q1520 q63 q1521 (by decide) (Nat.le_refl _) (Nat.le_refl _) rfl rfl rfl dX3_slipAt_13 rfl (ctX3_in w) (fun r9 σ9 hk => ?_)
    obtain ⟨r_2, rfl, rfl, w⟩ := hk
    refine e_if_ne (n := 19) (tgt := 21) dX3_slipAt_16 rfl (by decide) (fun h => ?_) (fun h => ?_)
    · have w := w.2 h
      refine e_aload_n (n := 22) dX3_slipAt_21 rfl 0 rfl ?_
      refine e_iload_n (n := 23) dX3_slipAt_22 rfl 1 rfl ?_
      refine e_iconst (n := 24) (v := 3) dX3_slipAt_23 rfl (by decide) ?_
      refine t_callV (n := 27) (As := [.int x1, .int 3]) (st := []) okX3_against q1711 q1713 qs55 q1714 rfl (by decide) (Nat.le_refl _) (Nat.le_refl _) rfl rfl rfl dX3_slipAt_24 rfl (ctX3_against ok w) (fun r9 σ9 hk => ?_)
      obtain ⟨r_4, s_3, rfl, rfl, w⟩ := hk
      refine e_istore (n := 29) (lv' := [(0, .ref o), (1, .int x1), (2, .int x2), (3, .int x3), (4, .int r_4)]) [1, 2, 3, 4, 0] dX3_slipAt_27 rfl rfl rfl ?_
      refine e_iload (n := 31) dX3_slipAt_29 rfl 4 rfl ?_
      refine e_if_ge (n := 34) (tgt := 39) dX3_slipAt_31 rfl (by decide) (fun h => ?_) (fun h => ?_)
      · have w := w.1 h
        refine e_iload_n (n := 40) dX3_slipAt_39 rfl 2 rfl ?_
        refine e_i2l (n := 41) dX3_slipAt_40 rfl ?_
        refine e_lconst (n := 42) (v := 0) dX3_slipAt_41 rfl (by decide) ?_
        refine e_aload_n (n := 43) dX3_slipAt_42 rfl 0 rfl ?_
        refine t_getR (n := 46) 52 rfl (by decide) q1386 dX3_slipAt_43 rfl ?_
        refine e_iload_n (n := 47) dX3_slipAt_46 rfl 1 rfl ?_
        obtain ⟨wi, w⟩ := w
        refine t_iald (n := 48) ok 52 rfl rfl (N := 6) rfl wi dX3_slipAt_47 rfl ?_
        refine e_iconst (n := 49) (v := 1) dX3_slipAt_48 rfl (by decide) ?_
        refine e_isub (n := 50) dX3_slipAt_49 rfl ?_
        refine e_i2l (n := 51) dX3_slipAt_50 rfl ?_
        refine t_callS (n := 54) (As := [.long (x2.toInt64), .long 0, .long (((s_3.2.1 52 x1.toNatClampNeg) - 1).toInt64)]) (st := []) okX3_in q1519 q1520 q63 q1521 (by decide) (Nat.le_refl _) (Nat.le_refl _) rfl rfl rfl dX3_slipAt_51 rfl (ctX3_in w) (fun r9 σ9 hk => ?_)
        obtain ⟨r_5, rfl, rfl, w⟩ := hk
        refine e_if_eq (n := 57) (tgt := 76) dX3_slipAt_54 rfl (by decide) (fun h => ?_) (fun h => ?_)
        · have w := w.1 h
          refine e_bipush (n := 78) (v := (-12)) dX3_slipAt_76 rfl (by decide) ?_
          exact e_iret rfl (Nat.le_refl _) (Nat.le_refl _) ⟨_, _, rfl, rfl, w⟩ dX3_slipAt_78
        · have w := w.2 h
          refine e_aload_n (n := 58) dX3_slipAt_57 rfl 0 rfl ?_
          refine t_getR (n := 61) 53 rfl (by decide) q1387 dX3_slipAt_58 rfl ?_
          refine e_sipush (n := 64) (v := 1600) dX3_slipAt_61 rfl (by decide) ?_
          refine e_iload_n (n := 65) dX3_slipAt_64 rfl 1 rfl ?_
          refine e_imul (n := 66) dX3_slipAt_65 rfl ?_
          refine e_iconst (n := 67) (v := 4) dX3_slipAt_66 rfl (by decide) ?_
          refine e_iload_n (n := 68) dX3_slipAt_67 rfl 2 rfl ?_
          refine e_imul (n := 69) dX3_slipAt_68 rfl ?_
          refine e_iadd (n := 70) dX3_slipAt_69 rfl ?_
          refine e_iload_n (n := 71) dX3_slipAt_70 rfl 3 rfl ?_
          refine e_iadd (n := 72) dX3_slipAt_71 rfl ?_
          obtain ⟨wi, w⟩ := w
          refine t_iald (n := 73) ok 53 rfl rfl (N := 9600) rfl wi dX3_slipAt_72 rfl ?_
          refine e_goto (n := 78) dX3_slipAt_73 (by decide) ?_
          exact e_iret rfl (Nat.le_refl _) (Nat.le_refl _) ⟨_, _, rfl, rfl, w⟩ dX3_slipAt_78
      · have w := w.2 h
        refine e_iload (n := 36) dX3_slipAt_34 rfl 4 rfl ?_
        refine e_goto (n := 78) dX3_slipAt_36 (by decide) ?_
        exact e_iret rfl (Nat.le_refl _) (Nat.le_refl _) ⟨_, _, rfl, rfl, w⟩ dX3_slipAt_78
    · have w := w.1 h
      refine e_iconst (n := 20) (v := (-1)) dX3_slipAt_19 rfl (by decide) ?_
      exact e_iret rfl (Nat.le_refl _) (Nat.le_refl _) ⟨_, _, rfl, rfl, w⟩ dX3_slipAt_20
abbrev mX3_paste : gM := (yX3_paste, cX3_paste, 6, some .int)
theorem okX3_paste : g_ok mX3_paste 3 := ⟨by decide +kernel, by decide +kernel, by decide +kernel, by decide +kernel, by decide⟩
def wX3_paste_68 (Q : Int32 → TS → Prop) (k102 : Int32 → TS → Prop) : Nat → Int32 → Int32 → Int32 → Int32 → TS → Prop
  | 0 => fun _ _ _ _ _ => False
  | n + 1 => fun x1 x2 x3 x5 s => (x3 ≤ x5 → (k102 x3 s)) ∧ (¬ x3 ≤ x5 → (vp_in (((1600 * x1) + x2) + x5) 9600 ∧ (vp_in x5 11 ∧ ∀ s_8 : TS, s_8 = tA s 15 x5.toNatClampNeg (s.2.1 53 (((1600 * x1) + x2) + x5).toNatClampNeg) → (∀ x5_9 : Int32, x5_9 = x5 + 1 → (wX3_paste_68 Q k102 n x1 x2 x3 x5_9 s_8)))))
def wX3_paste (Q : Int32 → TS → Prop) (x1 : Int32) (x2 : Int32) (x3 : Int32) (s : TS) : Prop := wX3_isShelf (fun (r_1 : Int32) => (r_1 = 0 → (Q (-1) s)) ∧ (¬ r_1 = 0 → ((x3 ≤ 10 → (wX3_against (fun (r_3 : Int32) (s_2 : TS) => (0 ≤ r_3 → ((0 ≤ x3 → ((x2 < 0 → (Q (-12) s_2)) ∧ (¬ x2 < 0 → (vp_in x1 6 ∧ ((x2 ≤ (s_2.2.1 52 x1.toNatClampNeg) - x3 → (∀ s_4 : TS, s_4 = tI s_2 14 x3 → (∃ fu : Nat, wX3_paste_68 Q (fun (x3_5 : Int32) (s_6 : TS) => t_b 0 ∧ ∀ s_7 : TS, s_7 = tI s_6 16 0 → (Q x3_5 s_7)) fu x1 x2 x3 0 s_4))) ∧ (¬ x2 ≤ (s_2.2.1 52 x1.toNatClampNeg) - x3 → (Q (-12) s_2))))))) ∧ (¬ 0 ≤ x3 → (Q (-14) s_2)))) ∧ (¬ 0 ≤ r_3 → (Q r_3 s_2))) x1 1 s)) ∧ (¬ x3 ≤ 10 → (Q (-2) s))))) x1
set_option maxHeartbeats 4000000 in
theorem hX3_paste_68 {o : Nat} {ad : Nat → Nat} (ok : t_ok o ad) {Q : Int32 → TS → Prop} {k102 : Int32 → TS → Prop} (hk102 : ∀ (x3 : Int32) (s : TS), k102 x3 s → E mX3_paste 3 0 0 (g_z (t_Ki o ad Q)) 0 0 102 [(0, .ref o), (3, .int x3)] [] (t_map o ad s)) : ∀ (n : Nat) (x1 : Int32) (x2 : Int32) (x3 : Int32) (x5 : Int32) (s : TS), wX3_paste_68 Q k102 n x1 x2 x3 x5 s → E mX3_paste 3 0 0 (g_z (t_Ki o ad Q)) 0 0 68 [(0, .ref o), (1, .int x1), (2, .int x2), (3, .int x3), (5, .int x5)] [] (t_map o ad s) := by
  intro n
  induction n with
  | zero =>
    intro _ _ _ _ _ w
    exact w.elim
  | succ n ih =>
    intro x1 x2 x3 x5 s w
    unfold wX3_paste_68 at w
    refine e_iload (n := 70) dX3_paste_68 rfl 4 rfl ?_
    refine e_iload_n (n := 71) dX3_paste_70 rfl 3 rfl ?_
    refine e_icmp_ge (n := 74) (tgt := 102) dX3_paste_71 rfl (by decide) (fun h => ?_) (fun h => ?_)
    · have w := w.1 h
      refine e_sub (lv' := [(0, .ref o), (3, .int x3)]) [0, 3] rfl ?_
      exact hk102 _ _ w
    · have w := w.2 h
      refine e_aload_n (n := 75) dX3_paste_74 rfl 0 rfl ?_
      refine t_getR (n := 78) 15 rfl (by decide) q1349 dX3_paste_75 rfl ?_
      refine e_iload (n := 80) dX3_paste_78 rfl 4 rfl ?_
      refine e_aload_n (n := 81) dX3_paste_80 rfl 0 rfl ?_
      refine t_getR (n := 84) 53 rfl (by decide) q1387 dX3_paste_81 rfl ?_
      refine e_sipush (n := 87) (v := 1600) dX3_paste_84 rfl (by decide) ?_
      refine e_iload_n (n := 88) dX3_paste_87 rfl 1 rfl ?_
      refine e_imul (n := 89) dX3_paste_88 rfl ?_
      refine e_iload_n (n := 90) dX3_paste_89 rfl 2 rfl ?_
      refine e_iadd (n := 91) dX3_paste_90 rfl ?_
      refine e_iload (n := 93) dX3_paste_91 rfl 4 rfl ?_
      refine e_iadd (n := 94) dX3_paste_93 rfl ?_
      obtain ⟨wi, w⟩ := w
      refine t_iald (n := 95) ok 53 rfl rfl (N := 9600) rfl wi dX3_paste_94 rfl ?_
      obtain ⟨wi, w⟩ := w
      refine t_iast (n := 96) ok 15 rfl rfl (N := 11) rfl wi dX3_paste_95 rfl (fun s_8 hs_8 => ?_)
      have w := w s_8 hs_8
      obtain ⟨x5_9, hx5_9⟩ : ∃ y : Int32, y = x5 + 1 := ⟨_, rfl⟩
      have w := w x5_9 hx5_9
      refine e_iinc (n := 99) (v := x5_9) (lv' := [(0, .ref o), (1, .int x1), (2, .int x2), (3, .int x3), (5, .int x5_9)]) [1, 2, 3, 4, 0] dX3_paste_96 rfl 4 rfl (by rw [hx5_9]; rfl) rfl rfl ?_
      refine e_goto (n := 68) dX3_paste_99 (by decide) ?_
      exact ih _ _ _ _ _ w
set_option maxHeartbeats 4000000 in
theorem ctX3_paste {o : Nat} {ad : Nat → Nat} (ok : t_ok o ad) {Q : Int32 → TS → Prop} {x1 : Int32} {x2 : Int32} {x3 : Int32} {s : TS} (w : wX3_paste Q x1 x2 x3 s) : CT mX3_paste 3 0 0 [.ref o, .int x1, .int x2, .int x3] (t_map o ad s) (t_Ki o ad Q) := by
  refine CT.of (lv := [(0, .ref o), (1, .int x1), (2, .int x2), (3, .int x3)]) okX3_paste.1 rfl rfl ?_
  unfold wX3_paste at w
  refine e_iload_n (n := 1) dX3_paste_0 rfl 1 rfl ?_
  refine t_callS (n := 4) (As := [.int x1]) (st := []) okX3_isShelf q1702 q1703 q63 q1704 (by decide) (Nat.le_refl _) (Nat.le_refl _) rfl rfl rfl dX3_paste_1 rfl (ctX3_isShelf w) (fun r9 σ9 hk => ?_)
  obtain ⟨r_1, rfl, rfl, w⟩ := hk
  refine e_if_ne (n := 7) (tgt := 9) dX3_paste_4 rfl (by decide) (fun h => ?_) (fun h => ?_)
  · have w := w.2 h
    refine e_iload_n (n := 10) dX3_paste_9 rfl 3 rfl ?_
    refine e_bipush (n := 12) (v := 10) dX3_paste_10 rfl (by decide) ?_
    refine e_icmp_le (n := 15) (tgt := 18) dX3_paste_12 rfl (by decide) (fun h => ?_) (fun h => ?_)
    · have w := w.1 h
      refine e_aload_n (n := 19) dX3_paste_18 rfl 0 rfl ?_
      refine e_iload_n (n := 20) dX3_paste_19 rfl 1 rfl ?_
      refine e_iconst (n := 21) (v := 1) dX3_paste_20 rfl (by decide) ?_
      refine t_callV (n := 24) (As := [.int x1, .int 1]) (st := []) okX3_against q1711 q1713 qs55 q1714 rfl (by decide) (Nat.le_refl _) (Nat.le_refl _) rfl rfl rfl dX3_paste_21 rfl (ctX3_against ok w) (fun r9 σ9 hk => ?_)
      obtain ⟨r_3, s_2, rfl, rfl, w⟩ := hk
      refine e_istore (n := 26) (lv' := [(0, .ref o), (1, .int x1), (2, .int x2), (3, .int x3), (4, .int r_3)]) [1, 2, 3, 4, 0] dX3_paste_24 rfl rfl rfl ?_
      refine e_iload (n := 28) dX3_paste_26 rfl 4 rfl ?_
      refine e_if_ge (n := 31) (tgt := 34) dX3_paste_28 rfl (by decide) (fun h => ?_) (fun h => ?_)
      · have w := w.1 h
        refine e_iload_n (n := 35) dX3_paste_34 rfl 3 rfl ?_
        refine e_if_ge (n := 38) (tgt := 41) dX3_paste_35 rfl (by decide) (fun h => ?_) (fun h => ?_)
        · have w := w.1 h
          refine e_iload_n (n := 42) dX3_paste_41 rfl 2 rfl ?_
          refine e_if_lt (n := 45) (tgt := 57) dX3_paste_42 rfl (by decide) (fun h => ?_) (fun h => ?_)
          · have w := w.1 h
            refine e_bipush (n := 59) (v := (-12)) dX3_paste_57 rfl (by decide) ?_
            exact e_iret rfl (Nat.le_refl _) (Nat.le_refl _) ⟨_, _, rfl, rfl, w⟩ dX3_paste_59
          · have w := w.2 h
            refine e_iload_n (n := 46) dX3_paste_45 rfl 2 rfl ?_
            refine e_aload_n (n := 47) dX3_paste_46 rfl 0 rfl ?_
            refine t_getR (n := 50) 52 rfl (by decide) q1386 dX3_paste_47 rfl ?_
            refine e_iload_n (n := 51) dX3_paste_50 rfl 1 rfl ?_
            obtain ⟨wi, w⟩ := w
            refine t_iald (n := 52) ok 52 rfl rfl (N := 6) rfl wi dX3_paste_51 rfl ?_
            refine e_iload_n (n := 53) dX3_paste_52 rfl 3 rfl ?_
            refine e_isub (n := 54) dX3_paste_53 rfl ?_
            refine e_icmp_le (n := 57) (tgt := 60) dX3_paste_54 rfl (by decide) (fun h => ?_) (fun h => ?_)
            · have w := w.1 h
              refine e_aload_n (n := 61) dX3_paste_60 rfl 0 rfl ?_
              refine e_iload_n (n := 62) dX3_paste_61 rfl 3 rfl ?_
              refine t_putI (n := 65) 14 rfl rfl rfl rfl q1348 dX3_paste_62 rfl (fun s_4 hs_4 => ?_)
              have w := w s_4 hs_4
              refine e_iconst (n := 66) (v := 0) dX3_paste_65 rfl (by decide) ?_
              refine e_istore (n := 68) (lv' := [(0, .ref o), (1, .int x1), (2, .int x2), (3, .int x3), (4, .int r_3), (5, .int 0)]) [1, 2, 3, 4, 5, 0] dX3_paste_66 rfl rfl rfl ?_
              obtain ⟨fu, w⟩ := w
              refine e_sub (lv' := [(0, .ref o), (1, .int x1), (2, .int x2), (3, .int x3), (5, .int 0)]) [0, 1, 2, 3, 5] rfl ?_
              refine hX3_paste_68 ok (fun x3_5 s_6 w => ?_) fu _ _ _ _ _ w
              refine e_aload_n (n := 103) dX3_paste_102 rfl 0 rfl ?_
              refine e_iconst (n := 104) (v := 0) dX3_paste_103 rfl (by decide) ?_
              obtain ⟨wb, w⟩ := w
              refine t_putZ (n := 107) wb 16 rfl rfl rfl rfl q1350 dX3_paste_104 rfl (fun s_7 hs_7 => ?_)
              have w := w s_7 hs_7
              refine e_iload_n (n := 108) dX3_paste_107 rfl 1 rfl ?_
              exact e_iret rfl (Nat.le_refl _) (Nat.le_refl _) ⟨_, _, rfl, rfl, w⟩ dX3_paste_108
            · have w := w.2 h
              refine e_bipush (n := 59) (v := (-12)) dX3_paste_57 rfl (by decide) ?_
              exact e_iret rfl (Nat.le_refl _) (Nat.le_refl _) ⟨_, _, rfl, rfl, w⟩ dX3_paste_59
        · have w := w.2 h
          refine e_bipush (n := 40) (v := (-14)) dX3_paste_38 rfl (by decide) ?_
          exact e_iret rfl (Nat.le_refl _) (Nat.le_refl _) ⟨_, _, rfl, rfl, w⟩ dX3_paste_40
      · have w := w.2 h
        refine e_iload (n := 33) dX3_paste_31 rfl 4 rfl ?_
        exact e_iret rfl (Nat.le_refl _) (Nat.le_refl _) ⟨_, _, rfl, rfl, w⟩ dX3_paste_33
    · have w := w.2 h
      refine e_bipush (n := 17) (v := (-2)) dX3_paste_15 rfl (by decide) ?_
      exact e_iret rfl (Nat.le_refl _) (Nat.le_refl _) ⟨_, _, rfl, rfl, w⟩ dX3_paste_17
  · have w := w.1 h
    refine e_iconst (n := 8) (v := (-1)) dX3_paste_7 rfl (by decide) ?_
    exact e_iret rfl (Nat.le_refl _) (Nat.le_refl _) ⟨_, _, rfl, rfl, w⟩ dX3_paste_8
abbrev mX3_distance : gM := (yX3_distance, cX3_distance, 8, some .int)
theorem okX3_distance : g_ok mX3_distance 1 := ⟨by decide +kernel, by decide +kernel, by decide +kernel, by decide +kernel, by decide⟩
def wX3_distance_336 (Q : Int32 → TS → Prop) (kh : Int32 → Int32 → TS → Prop) (k343 : Int32 → TS → Prop) (t0 : Int32) (x4 : Int32) (s : TS) : Prop := ∀ x4_14 : Int32, x4_14 = x4 + 1 → (kh t0 x4_14 s)
def wX3_distance_335 (Q : Int32 → TS → Prop) (kh : Int32 → Int32 → TS → Prop) (k343 : Int32 → TS → Prop) (x3 : Int32) (x4 : Int32) (s : TS) : Prop := wX3_distance_336 Q kh k343 x3 x4 s
def wX3_distance_264 (Q : Int32 → TS → Prop) (k343 : Int32 → TS → Prop) : Nat → Int32 → Int32 → TS → Prop
  | 0 => fun _ _ _ => False
  | n + 1 => fun x3 x4 s => (s.1 14 < x4 → (k343 x3 s)) ∧ (¬ s.1 14 < x4 → (vp_in ((12 * x4) + (s.1 14)) 144 ∧ (∀ x5_12 : Int32, x5_12 = s.2.1 38 ((12 * x4) + (s.1 14)).toNatClampNeg → (vp_in x4 12 ∧ (vp_in (s.2.1 32 x4.toNatClampNeg) 52 ∧ (∀ x6_13 : Int32, x6_13 = s.2.1 54 (s.2.1 32 x4.toNatClampNeg).toNatClampNeg → ((x5_12 = 1000000000 → (wX3_distance_335 Q (wX3_distance_264 Q k343 n) k343 x3 x4 s)) ∧ (¬ x5_12 = 1000000000 → ((x6_13 = 1000000000 → (wX3_distance_335 Q (wX3_distance_264 Q k343 n) k343 x3 x4 s)) ∧ (¬ x6_13 = 1000000000 → ((x3 ≤ x6_13 + x5_12 → (wX3_distance_335 Q (wX3_distance_264 Q k343 n) k343 x3 x4 s)) ∧ (¬ x3 ≤ x6_13 + x5_12 → (wX3_distance_336 Q (wX3_distance_264 Q k343 n) k343 (x6_13 + x5_12) x4 s)))))))))))))
def wX3_distance_223 (Q : Int32 → TS → Prop) (k252 : Int32 → Int32 → TS → Prop) : Nat → Int32 → Int32 → Int32 → TS → Prop
  | 0 => fun _ _ _ _ => False
  | n + 1 => fun x1 x3 x5 s => (s.1 28 ≤ x5 → (k252 x1 x3 s)) ∧ (¬ s.1 28 ≤ x5 → (vp_in x5 52 ∧ (vp_in x5 52 ∧ ∀ s_23 : TS, s_23 = tA s 54 x5.toNatClampNeg (s.2.1 55 x5.toNatClampNeg) → (∀ x5_24 : Int32, x5_24 = x5 + 1 → (wX3_distance_223 Q k252 n x1 x3 x5_24 s_23)))))
def wX3_distance_208 (Q : Int32 → TS → Prop) (kh : Int32 → Int32 → Int32 → Int32 → Int32 → TS → Prop) (k214 : Int32 → Int32 → Int32 → Int32 → TS → Prop) (x1 : Int32) (x3 : Int32) (x4 : Int32) (x5 : Int32) (x6 : Int32) (s : TS) : Prop := ∀ x6_33 : Int32, x6_33 = x6 + 1 → (kh x1 x3 x4 x5 x6_33 s)
def wX3_distance_123 (Q : Int32 → TS → Prop) (k214 : Int32 → Int32 → Int32 → Int32 → TS → Prop) : Nat → Int32 → Int32 → Int32 → Int32 → Int32 → TS → Prop
  | 0 => fun _ _ _ _ _ _ => False
  | n + 1 => fun x1 x3 x4 x5 x6 s => (x5 < x6 → (k214 x1 x3 x4 x5 s)) ∧ (¬ x5 < x6 → (vp_in (((2704 * x4) + (52 * x6)) + x5) 32448 ∧ (∀ x7_32 : Int32, x7_32 = s.2.1 40 (((2704 * x4) + (52 * x6)) + x5).toNatClampNeg → (vp_in x6 52 ∧ ((s.2.1 54 x6.toNatClampNeg = 1000000000 → (wX3_distance_208 Q (wX3_distance_123 Q k214 n) k214 x1 x3 x4 x5 x6 s)) ∧ (¬ s.2.1 54 x6.toNatClampNeg = 1000000000 → ((x7_32 = 1000000000 → (wX3_distance_208 Q (wX3_distance_123 Q k214 n) k214 x1 x3 x4 x5 x6 s)) ∧ (¬ x7_32 = 1000000000 → (vp_in x6 52 ∧ (vp_in x5 52 ∧ ((s.2.1 55 x5.toNatClampNeg ≤ (s.2.1 54 x6.toNatClampNeg) + x7_32 → (wX3_distance_208 Q (wX3_distance_123 Q k214 n) k214 x1 x3 x4 x5 x6 s)) ∧ (¬ s.2.1 55 x5.toNatClampNeg ≤ (s.2.1 54 x6.toNatClampNeg) + x7_32 → (vp_in x6 52 ∧ (vp_in x5 52 ∧ ∀ s_34 : TS, s_34 = tA s 55 x5.toNatClampNeg ((s.2.1 54 x6.toNatClampNeg) + x7_32) → (wX3_distance_208 Q (wX3_distance_123 Q k214 n) k214 x1 x3 x4 x5 x6 s_34)))))))))))))))
def wX3_distance_102 (Q : Int32 → TS → Prop) (k220 : Int32 → Int32 → TS → Prop) : Nat → Int32 → Int32 → Int32 → Int32 → TS → Prop
  | 0 => fun _ _ _ _ _ => False
  | n + 1 => fun x1 x3 x4 x5 s => (s.1 28 ≤ x5 → (k220 x1 x3 s)) ∧ (¬ s.1 28 ≤ x5 → (vp_in x5 52 ∧ ∀ s_25 : TS, s_25 = tA s 55 x5.toNatClampNeg 1000000000 → (∃ fu : Nat, wX3_distance_123 Q (fun (x1_26 : Int32) (x3_27 : Int32) (x4_28 : Int32) (x5_29 : Int32) (s_30 : TS) => ∀ x5_31 : Int32, x5_31 = x5_29 + 1 → (wX3_distance_102 Q k220 n x1_26 x3_27 x4_28 x5_31 s_30)) fu x1 x3 x4 x5 0 s_25)))
def wX3_distance_75 (Q : Int32 → TS → Prop) (k258 : TS → Prop) : Nat → Int32 → Int32 → TS → Prop
  | 0 => fun _ _ _ => False
  | n + 1 => fun x1 x3 s => vp_in x1 6 ∧ ((s.2.1 52 x1.toNatClampNeg ≤ x3 → (k258 s)) ∧ (¬ s.2.1 52 x1.toNatClampNeg ≤ x3 → (vp_in ((1600 * x1) + x3) 9600 ∧ (∀ x4_15 : Int32, x4_15 = s.2.1 53 ((1600 * x1) + x3).toNatClampNeg → (∃ fu : Nat, wX3_distance_102 Q (fun (x1_16 : Int32) (x3_17 : Int32) (s_18 : TS) => ∃ fu : Nat, wX3_distance_223 Q (fun (x1_19 : Int32) (x3_20 : Int32) (s_21 : TS) => ∀ x3_22 : Int32, x3_22 = x3_20 + 1 → (wX3_distance_75 Q k258 n x1_19 x3_22 s_21)) fu x1_16 x3_17 0 s_18) fu x1 x3 x4_15 0 s)))))
def wX3_distance_66 (Q : Int32 → TS → Prop) (kh : Int32 → Int32 → TS → Prop) (k73 : Int32 → TS → Prop) (t1 : Int32) (t2 : Int32) (x1 : Int32) (x3 : Int32) (s : TS) : Prop := vp_in t1 52 ∧ ∀ s_35 : TS, s_35 = tA s 54 t1.toNatClampNeg t2 → (∀ x3_36 : Int32, x3_36 = x3 + 1 → (kh x1 x3_36 s_35))
def wX3_distance_43 (Q : Int32 → TS → Prop) (k73 : Int32 → TS → Prop) : Nat → Int32 → Int32 → TS → Prop
  | 0 => fun _ _ _ => False
  | n + 1 => fun x1 x3 s => (s.1 28 ≤ x3 → (k73 x1 s)) ∧ (¬ s.1 28 ≤ x3 → ((x3 = 0 → (wX3_distance_66 Q (wX3_distance_43 Q k73 n) k73 x3 0 x1 x3 s)) ∧ (¬ x3 = 0 → (wX3_distance_66 Q (wX3_distance_43 Q k73 n) k73 x3 1000000000 x1 x3 s))))
def wX3_distance (Q : Int32 → TS → Prop) (x1 : Int32) (s : TS) : Prop := wX3_isShelf (fun (r_1 : Int32) => (r_1 = 0 → (Q (-1) s)) ∧ (¬ r_1 = 0 → (wX3_against (fun (r_3 : Int32) (s_2 : TS) => (0 ≤ r_3 → (∀ s_4 : TS, s_4 = tI s_2 35 (-4) → (∀ s_5 : TS, s_5 = tI s_4 33 0 → (wX3_layReads (fun (s_6 : TS) => ∃ fu : Nat, wX3_distance_43 Q (fun (x1_7 : Int32) (s_8 : TS) => ∃ fu : Nat, wX3_distance_75 Q (fun  (s_9 : TS) => ∃ fu : Nat, wX3_distance_264 Q (fun (x3_10 : Int32) (s_11 : TS) => (x3_10 = 1000000000 → (Q (-4) s_11)) ∧ (¬ x3_10 = 1000000000 → (Q x3_10 s_11))) fu 1000000000 0 s_9) fu x1_7 0 s_8) fu x1 0 s_6) (s_5.1 14) s_5)))) ∧ (¬ 0 ≤ r_3 → (Q r_3 s_2))) x1 1 s))) x1
set_option maxHeartbeats 4000000 in
theorem hX3_distance_336 {o : Nat} {ad : Nat → Nat} (ok : t_ok o ad) {Q : Int32 → TS → Prop} {kh : Int32 → Int32 → TS → Prop} (hkh : ∀ (x3 : Int32) (x4 : Int32) (s : TS), kh x3 x4 s → E mX3_distance 6 0 0 (g_z (t_Ki o ad Q)) 0 0 264 [(0, .ref o), (3, .int x3), (4, .int x4)] [] (t_map o ad s)) {k343 : Int32 → TS → Prop} (hk343 : ∀ (x3 : Int32) (s : TS), k343 x3 s → E mX3_distance 6 0 0 (g_z (t_Ki o ad Q)) 0 0 343 [(3, .int x3)] [] (t_map o ad s)) (t0 : Int32) (x4 : Int32) (s : TS) (w : wX3_distance_336 Q kh k343 t0 x4 s) : E mX3_distance 6 0 0 (g_z (t_Ki o ad Q)) 0 0 336 [(0, .ref o), (4, .int x4)] [.int t0] (t_map o ad s) := by
  unfold wX3_distance_336 at w
  refine e_istore_n (n := 337) (lv' := [(0, .ref o), (3, .int t0), (4, .int x4)]) [1, 0, 2] dX3_distance_336 rfl rfl rfl ?_
  obtain ⟨x4_14, hx4_14⟩ : ∃ y : Int32, y = x4 + 1 := ⟨_, rfl⟩
  have w := w x4_14 hx4_14
  refine e_iinc (n := 340) (v := x4_14) (lv' := [(0, .ref o), (3, .int t0), (4, .int x4_14)]) [1, 2, 0] dX3_distance_337 rfl 2 rfl (by rw [hx4_14]; rfl) rfl rfl ?_
  refine e_goto (n := 264) dX3_distance_340 (by decide) ?_
  exact hkh _ _ _ w
set_option maxHeartbeats 4000000 in
theorem hX3_distance_335 {o : Nat} {ad : Nat → Nat} (ok : t_ok o ad) {Q : Int32 → TS → Prop} {kh : Int32 → Int32 → TS → Prop} (hkh : ∀ (x3 : Int32) (x4 : Int32) (s : TS), kh x3 x4 s → E mX3_distance 6 0 0 (g_z (t_Ki o ad Q)) 0 0 264 [(0, .ref o), (3, .int x3), (4, .int x4)] [] (t_map o ad s)) {k343 : Int32 → TS → Prop} (hk343 : ∀ (x3 : Int32) (s : TS), k343 x3 s → E mX3_distance 6 0 0 (g_z (t_Ki o ad Q)) 0 0 343 [(3, .int x3)] [] (t_map o ad s)) (x3 : Int32) (x4 : Int32) (s : TS) (w : wX3_distance_335 Q kh k343 x3 x4 s) : E mX3_distance 6 0 0 (g_z (t_Ki o ad Q)) 0 0 335 [(0, .ref o), (3, .int x3), (4, .int x4)] [] (t_map o ad s) := by
  unfold wX3_distance_335 at w
  refine e_iload_n (n := 336) dX3_distance_335 rfl 1 rfl ?_
  refine e_sub (lv' := [(0, .ref o), (4, .int x4)]) [0, 2] rfl ?_
  exact hX3_distance_336 ok hkh hk343 _ _ _ w
set_option maxHeartbeats 4000000 in
theorem hX3_distance_264 {o : Nat} {ad : Nat → Nat} (ok : t_ok o ad) {Q : Int32 → TS → Prop} {k343 : Int32 → TS → Prop} (hk343 : ∀ (x3 : Int32) (s : TS), k343 x3 s → E mX3_distance 6 0 0 (g_z (t_Ki o ad Q)) 0 0 343 [(3, .int x3)] [] (t_map o ad s)) : ∀ (n : Nat) (x3 : Int32) (x4 : Int32) (s : TS), wX3_distance_264 Q k343 n x3 x4 s → E mX3_distance 6 0 0 (g_z (t_Ki o ad Q)) 0 0 264 [(0, .ref o), (3, .int x3), (4, .int x4)] [] (t_map o ad s) := by
  intro n
  induction n with
  | zero =>
    intro _ _ _ w
    exact w.elim
  | succ n ih =>
    intro x3 x4 s w
    unfold wX3_distance_264 at w
    refine e_iload (n := 266) dX3_distance_264 rfl 2 rfl ?_
    refine e_aload_n (n := 267) dX3_distance_266 rfl 0 rfl ?_
    refine t_getI (n := 270) 14 rfl rfl q1348 dX3_distance_267 rfl ?_
    refine e_icmp_gt (n := 273) (tgt := 343) dX3_distance_270 rfl (by decide) (fun h => ?_) (fun h => ?_)
    · have w := w.1 h
      refine e_sub (lv' := [(3, .int x3)]) [1] rfl ?_
      exact hk343 _ _ w
    · have w := w.2 h
      refine e_aload_n (n := 274) dX3_distance_273 rfl 0 rfl ?_
      refine t_getR (n := 277) 38 rfl (by decide) q1372 dX3_distance_274 rfl ?_
      refine e_bipush (n := 279) (v := 12) dX3_distance_277 rfl (by decide) ?_
      refine e_iload (n := 281) dX3_distance_279 rfl 2 rfl ?_
      refine e_imul (n := 282) dX3_distance_281 rfl ?_
      refine e_aload_n (n := 283) dX3_distance_282 rfl 0 rfl ?_
      refine t_getI (n := 286) 14 rfl rfl q1348 dX3_distance_283 rfl ?_
      refine e_iadd (n := 287) dX3_distance_286 rfl ?_
      obtain ⟨wi, w⟩ := w
      refine t_iald (n := 288) ok 38 rfl rfl (N := 144) rfl wi dX3_distance_287 rfl ?_
      refine e_topi (fun x5_12 hx5_12 => ?_)
      have w := w x5_12 hx5_12
      refine e_istore (n := 290) (lv' := [(0, .ref o), (3, .int x3), (4, .int x4), (5, .int x5_12)]) [1, 2, 3, 0] dX3_distance_288 rfl rfl rfl ?_
      refine e_aload_n (n := 291) dX3_distance_290 rfl 0 rfl ?_
      refine t_getR (n := 294) 54 rfl (by decide) q1388 dX3_distance_291 rfl ?_
      refine e_aload_n (n := 295) dX3_distance_294 rfl 0 rfl ?_
      refine t_getR (n := 298) 32 rfl (by decide) q1366 dX3_distance_295 rfl ?_
      refine e_iload (n := 300) dX3_distance_298 rfl 2 rfl ?_
      obtain ⟨wi, w⟩ := w
      refine t_iald (n := 301) ok 32 rfl rfl (N := 12) rfl wi dX3_distance_300 rfl ?_
      obtain ⟨wi, w⟩ := w
      refine t_iald (n := 302) ok 54 rfl rfl (N := 52) rfl wi dX3_distance_301 rfl ?_
      refine e_topi (fun x6_13 hx6_13 => ?_)
      have w := w x6_13 hx6_13
      refine e_istore (n := 304) (lv' := [(0, .ref o), (3, .int x3), (4, .int x4), (5, .int x5_12), (6, .int x6_13)]) [1, 2, 3, 4, 0] dX3_distance_302 rfl rfl rfl ?_
      refine e_iload (n := 306) dX3_distance_304 rfl 3 rfl ?_
      refine e_ldc (n := 308) q1588 dX3_distance_306 rfl ?_
      refine e_icmp_eq (n := 311) (tgt := 335) dX3_distance_308 rfl (by decide) (fun h => ?_) (fun h => ?_)
      · have w := w.1 h
        refine e_sub (lv' := [(0, .ref o), (3, .int x3), (4, .int x4)]) [0, 1, 2] rfl ?_
        exact hX3_distance_335 ok ih hk343 _ _ _ w
      · have w := w.2 h
        refine e_iload (n := 313) dX3_distance_311 rfl 4 rfl ?_
        refine e_ldc (n := 315) q1588 dX3_distance_313 rfl ?_
        refine e_icmp_eq (n := 318) (tgt := 335) dX3_distance_315 rfl (by decide) (fun h => ?_) (fun h => ?_)
        · have w := w.1 h
          refine e_sub (lv' := [(0, .ref o), (3, .int x3), (4, .int x4)]) [0, 1, 2] rfl ?_
          exact hX3_distance_335 ok ih hk343 _ _ _ w
        · have w := w.2 h
          refine e_iload (n := 320) dX3_distance_318 rfl 4 rfl ?_
          refine e_iload (n := 322) dX3_distance_320 rfl 3 rfl ?_
          refine e_iadd (n := 323) dX3_distance_322 rfl ?_
          refine e_iload_n (n := 324) dX3_distance_323 rfl 1 rfl ?_
          refine e_icmp_ge (n := 327) (tgt := 335) dX3_distance_324 rfl (by decide) (fun h => ?_) (fun h => ?_)
          · have w := w.1 h
            refine e_sub (lv' := [(0, .ref o), (3, .int x3), (4, .int x4)]) [0, 1, 2] rfl ?_
            exact hX3_distance_335 ok ih hk343 _ _ _ w
          · have w := w.2 h
            refine e_iload (n := 329) dX3_distance_327 rfl 4 rfl ?_
            refine e_iload (n := 331) dX3_distance_329 rfl 3 rfl ?_
            refine e_iadd (n := 332) dX3_distance_331 rfl ?_
            refine e_goto (n := 336) dX3_distance_332 (by decide) ?_
            refine e_sub (lv' := [(0, .ref o), (4, .int x4)]) [0, 2] rfl ?_
            exact hX3_distance_336 ok ih hk343 _ _ _ w
set_option maxHeartbeats 4000000 in
theorem hX3_distance_223 {o : Nat} {ad : Nat → Nat} (ok : t_ok o ad) {Q : Int32 → TS → Prop} {k252 : Int32 → Int32 → TS → Prop} (hk252 : ∀ (x1 : Int32) (x3 : Int32) (s : TS), k252 x1 x3 s → E mX3_distance 6 0 0 (g_z (t_Ki o ad Q)) 0 0 252 [(0, .ref o), (1, .int x1), (3, .int x3)] [] (t_map o ad s)) : ∀ (n : Nat) (x1 : Int32) (x3 : Int32) (x5 : Int32) (s : TS), wX3_distance_223 Q k252 n x1 x3 x5 s → E mX3_distance 6 0 0 (g_z (t_Ki o ad Q)) 0 0 223 [(0, .ref o), (1, .int x1), (3, .int x3), (5, .int x5)] [] (t_map o ad s) := by
  intro n
  induction n with
  | zero =>
    intro _ _ _ _ w
    exact w.elim
  | succ n ih =>
    intro x1 x3 x5 s w
    unfold wX3_distance_223 at w
    refine e_iload (n := 225) dX3_distance_223 rfl 3 rfl ?_
    refine e_aload_n (n := 226) dX3_distance_225 rfl 0 rfl ?_
    refine t_getI (n := 229) 28 rfl rfl q1362 dX3_distance_226 rfl ?_
    refine e_icmp_ge (n := 232) (tgt := 252) dX3_distance_229 rfl (by decide) (fun h => ?_) (fun h => ?_)
    · have w := w.1 h
      refine e_sub (lv' := [(0, .ref o), (1, .int x1), (3, .int x3)]) [0, 1, 2] rfl ?_
      exact hk252 _ _ _ w
    · have w := w.2 h
      refine e_aload_n (n := 233) dX3_distance_232 rfl 0 rfl ?_
      refine t_getR (n := 236) 54 rfl (by decide) q1388 dX3_distance_233 rfl ?_
      refine e_iload (n := 238) dX3_distance_236 rfl 3 rfl ?_
      refine e_aload_n (n := 239) dX3_distance_238 rfl 0 rfl ?_
      refine t_getR (n := 242) 55 rfl (by decide) q1389 dX3_distance_239 rfl ?_
      refine e_iload (n := 244) dX3_distance_242 rfl 3 rfl ?_
      obtain ⟨wi, w⟩ := w
      refine t_iald (n := 245) ok 55 rfl rfl (N := 52) rfl wi dX3_distance_244 rfl ?_
      obtain ⟨wi, w⟩ := w
      refine t_iast (n := 246) ok 54 rfl rfl (N := 52) rfl wi dX3_distance_245 rfl (fun s_23 hs_23 => ?_)
      have w := w s_23 hs_23
      obtain ⟨x5_24, hx5_24⟩ : ∃ y : Int32, y = x5 + 1 := ⟨_, rfl⟩
      have w := w x5_24 hx5_24
      refine e_iinc (n := 249) (v := x5_24) (lv' := [(0, .ref o), (1, .int x1), (3, .int x3), (5, .int x5_24)]) [1, 2, 3, 0] dX3_distance_246 rfl 3 rfl (by rw [hx5_24]; rfl) rfl rfl ?_
      refine e_goto (n := 223) dX3_distance_249 (by decide) ?_
      exact ih _ _ _ _ w
set_option maxHeartbeats 4000000 in
theorem hX3_distance_208 {o : Nat} {ad : Nat → Nat} (ok : t_ok o ad) {Q : Int32 → TS → Prop} {kh : Int32 → Int32 → Int32 → Int32 → Int32 → TS → Prop} (hkh : ∀ (x1 : Int32) (x3 : Int32) (x4 : Int32) (x5 : Int32) (x6 : Int32) (s : TS), kh x1 x3 x4 x5 x6 s → E mX3_distance 6 0 0 (g_z (t_Ki o ad Q)) 0 0 123 [(0, .ref o), (1, .int x1), (3, .int x3), (4, .int x4), (5, .int x5), (6, .int x6)] [] (t_map o ad s)) {k214 : Int32 → Int32 → Int32 → Int32 → TS → Prop} (hk214 : ∀ (x1 : Int32) (x3 : Int32) (x4 : Int32) (x5 : Int32) (s : TS), k214 x1 x3 x4 x5 s → E mX3_distance 6 0 0 (g_z (t_Ki o ad Q)) 0 0 214 [(0, .ref o), (1, .int x1), (3, .int x3), (4, .int x4), (5, .int x5)] [] (t_map o ad s)) (x1 : Int32) (x3 : Int32) (x4 : Int32) (x5 : Int32) (x6 : Int32) (s : TS) (w : wX3_distance_208 Q kh k214 x1 x3 x4 x5 x6 s) : E mX3_distance 6 0 0 (g_z (t_Ki o ad Q)) 0 0 208 [(0, .ref o), (1, .int x1), (3, .int x3), (4, .int x4), (5, .int x5), (6, .int x6)] [] (t_map o ad s) := by
  unfold wX3_distance_208 at w
  obtain ⟨x6_33, hx6_33⟩ : ∃ y : Int32, y = x6 + 1 := ⟨_, rfl⟩
  have w := w x6_33 hx6_33
  refine e_iinc (n := 211) (v := x6_33) (lv' := [(0, .ref o), (1, .int x1), (3, .int x3), (4, .int x4), (5, .int x5), (6, .int x6_33)]) [1, 2, 3, 4, 5, 0] dX3_distance_208 rfl 5 rfl (by rw [hx6_33]; rfl) rfl rfl ?_
  refine e_goto (n := 123) dX3_distance_211 (by decide) ?_
  exact hkh _ _ _ _ _ _ w
set_option maxHeartbeats 4000000 in
theorem hX3_distance_123 {o : Nat} {ad : Nat → Nat} (ok : t_ok o ad) {Q : Int32 → TS → Prop} {k214 : Int32 → Int32 → Int32 → Int32 → TS → Prop} (hk214 : ∀ (x1 : Int32) (x3 : Int32) (x4 : Int32) (x5 : Int32) (s : TS), k214 x1 x3 x4 x5 s → E mX3_distance 6 0 0 (g_z (t_Ki o ad Q)) 0 0 214 [(0, .ref o), (1, .int x1), (3, .int x3), (4, .int x4), (5, .int x5)] [] (t_map o ad s)) : ∀ (n : Nat) (x1 : Int32) (x3 : Int32) (x4 : Int32) (x5 : Int32) (x6 : Int32) (s : TS), wX3_distance_123 Q k214 n x1 x3 x4 x5 x6 s → E mX3_distance 6 0 0 (g_z (t_Ki o ad Q)) 0 0 123 [(0, .ref o), (1, .int x1), (3, .int x3), (4, .int x4), (5, .int x5), (6, .int x6)] [] (t_map o ad s) := by
  intro n
  induction n with
  | zero =>
    intro _ _ _ _ _ _ w
    exact w.elim
  | succ n ih =>
    intro x1 x3 x4 x5 x6 s w
    unfold wX3_distance_123 at w
    refine e_iload (n := 125) dX3_distance_123 rfl 5 rfl ?_
    refine e_iload (n := 127) dX3_distance_125 rfl 4 rfl ?_
    refine e_icmp_gt (n := 130) (tgt := 214) dX3_distance_127 rfl (by decide) (fun h => ?_) (fun h => ?_)
    · have w := w.1 h
      refine e_sub (lv' := [(0, .ref o), (1, .int x1), (3, .int x3), (4, .int x4), (5, .int x5)]) [0, 1, 2, 3, 4] rfl ?_
      exact hk214 _ _ _ _ _ w
    · have w := w.2 h
      refine e_aload_n (n := 131) dX3_distance_130 rfl 0 rfl ?_
      refine t_getR (n := 134) 40 rfl (by decide) q1374 dX3_distance_131 rfl ?_
      refine e_sipush (n := 137) (v := 2704) dX3_distance_134 rfl (by decide) ?_
      refine e_iload (n := 139) dX3_distance_137 rfl 3 rfl ?_
      refine e_imul (n := 140) dX3_distance_139 rfl ?_
      refine e_bipush (n := 142) (v := 52) dX3_distance_140 rfl (by decide) ?_
      refine e_iload (n := 144) dX3_distance_142 rfl 5 rfl ?_
      refine e_imul (n := 145) dX3_distance_144 rfl ?_
      refine e_iadd (n := 146) dX3_distance_145 rfl ?_
      refine e_iload (n := 148) dX3_distance_146 rfl 4 rfl ?_
      refine e_iadd (n := 149) dX3_distance_148 rfl ?_
      obtain ⟨wi, w⟩ := w
      refine t_iald (n := 150) ok 40 rfl rfl (N := 32448) rfl wi dX3_distance_149 rfl ?_
      refine e_topi (fun x7_32 hx7_32 => ?_)
      have w := w x7_32 hx7_32
      refine e_istore (n := 152) (lv' := [(0, .ref o), (1, .int x1), (3, .int x3), (4, .int x4), (5, .int x5), (6, .int x6), (7, .int x7_32)]) [1, 2, 3, 4, 5, 6, 0] dX3_distance_150 rfl rfl rfl ?_
      refine e_aload_n (n := 153) dX3_distance_152 rfl 0 rfl ?_
      refine t_getR (n := 156) 54 rfl (by decide) q1388 dX3_distance_153 rfl ?_
      refine e_iload (n := 158) dX3_distance_156 rfl 5 rfl ?_
      obtain ⟨wi, w⟩ := w
      refine t_iald (n := 159) ok 54 rfl rfl (N := 52) rfl wi dX3_distance_158 rfl ?_
      refine e_ldc (n := 161) q1588 dX3_distance_159 rfl ?_
      refine e_icmp_eq (n := 164) (tgt := 208) dX3_distance_161 rfl (by decide) (fun h => ?_) (fun h => ?_)
      · have w := w.1 h
        refine e_sub (lv' := [(0, .ref o), (1, .int x1), (3, .int x3), (4, .int x4), (5, .int x5), (6, .int x6)]) [0, 1, 2, 3, 4, 5] rfl ?_
        exact hX3_distance_208 ok ih hk214 _ _ _ _ _ _ w
      · have w := w.2 h
        refine e_iload (n := 166) dX3_distance_164 rfl 6 rfl ?_
        refine e_ldc (n := 168) q1588 dX3_distance_166 rfl ?_
        refine e_icmp_eq (n := 171) (tgt := 208) dX3_distance_168 rfl (by decide) (fun h => ?_) (fun h => ?_)
        · have w := w.1 h
          refine e_sub (lv' := [(0, .ref o), (1, .int x1), (3, .int x3), (4, .int x4), (5, .int x5), (6, .int x6)]) [0, 1, 2, 3, 4, 5] rfl ?_
          exact hX3_distance_208 ok ih hk214 _ _ _ _ _ _ w
        · have w := w.2 h
          refine e_aload_n (n := 172) dX3_distance_171 rfl 0 rfl ?_
          refine t_getR (n := 175) 54 rfl (by decide) q1388 dX3_distance_172 rfl ?_
          refine e_iload (n := 177) dX3_distance_175 rfl 5 rfl ?_
          obtain ⟨wi, w⟩ := w
          refine t_iald (n := 178) ok 54 rfl rfl (N := 52) rfl wi dX3_distance_177 rfl ?_
          refine e_iload (n := 180) dX3_distance_178 rfl 6 rfl ?_
          refine e_iadd (n := 181) dX3_distance_180 rfl ?_
          refine e_aload_n (n := 182) dX3_distance_181 rfl 0 rfl ?_
          refine t_getR (n := 185) 55 rfl (by decide) q1389 dX3_distance_182 rfl ?_
          refine e_iload (n := 187) dX3_distance_185 rfl 4 rfl ?_
          obtain ⟨wi, w⟩ := w
          refine t_iald (n := 188) ok 55 rfl rfl (N := 52) rfl wi dX3_distance_187 rfl ?_
          refine e_icmp_ge (n := 191) (tgt := 208) dX3_distance_188 rfl (by decide) (fun h => ?_) (fun h => ?_)
          · have w := w.1 h
            refine e_sub (lv' := [(0, .ref o), (1, .int x1), (3, .int x3), (4, .int x4), (5, .int x5), (6, .int x6)]) [0, 1, 2, 3, 4, 5] rfl ?_
            exact hX3_distance_208 ok ih hk214 _ _ _ _ _ _ w
          · have w := w.2 h
            refine e_aload_n (n := 192) dX3_distance_191 rfl 0 rfl ?_
            refine t_getR (n := 195) 55 rfl (by decide) q1389 dX3_distance_192 rfl ?_
            refine e_iload (n := 197) dX3_distance_195 rfl 4 rfl ?_
            refine e_aload_n (n := 198) dX3_distance_197 rfl 0 rfl ?_
            refine t_getR (n := 201) 54 rfl (by decide) q1388 dX3_distance_198 rfl ?_
            refine e_iload (n := 203) dX3_distance_201 rfl 5 rfl ?_
            obtain ⟨wi, w⟩ := w
            refine t_iald (n := 204) ok 54 rfl rfl (N := 52) rfl wi dX3_distance_203 rfl ?_
            refine e_iload (n := 206) dX3_distance_204 rfl 6 rfl ?_
            refine e_iadd (n := 207) dX3_distance_206 rfl ?_
            obtain ⟨wi, w⟩ := w
            refine t_iast (n := 208) ok 55 rfl rfl (N := 52) rfl wi dX3_distance_207 rfl (fun s_34 hs_34 => ?_)
            have w := w s_34 hs_34
            refine e_sub (lv' := [(0, .ref o), (1, .int x1), (3, .int x3), (4, .int x4), (5, .int x5), (6, .int x6)]) [0, 1, 2, 3, 4, 5] rfl ?_
            exact hX3_distance_208 ok ih hk214 _ _ _ _ _ _ w
set_option maxHeartbeats 4000000 in
theorem hX3_distance_102 {o : Nat} {ad : Nat → Nat} (ok : t_ok o ad) {Q : Int32 → TS → Prop} {k220 : Int32 → Int32 → TS → Prop} (hk220 : ∀ (x1 : Int32) (x3 : Int32) (s : TS), k220 x1 x3 s → E mX3_distance 6 0 0 (g_z (t_Ki o ad Q)) 0 0 220 [(0, .ref o), (1, .int x1), (3, .int x3)] [] (t_map o ad s)) : ∀ (n : Nat) (x1 : Int32) (x3 : Int32) (x4 : Int32) (x5 : Int32) (s : TS), wX3_distance_102 Q k220 n x1 x3 x4 x5 s → E mX3_distance 6 0 0 (g_z (t_Ki o ad Q)) 0 0 102 [(0, .ref o), (1, .int x1), (3, .int x3), (4, .int x4), (5, .int x5)] [] (t_map o ad s) := by
  intro n
  induction n with
  | zero =>
    intro _ _ _ _ _ w
    exact w.elim
  | succ n ih =>
    intro x1 x3 x4 x5 s w
    unfold wX3_distance_102 at w
    refine e_iload (n := 104) dX3_distance_102 rfl 4 rfl ?_
    refine e_aload_n (n := 105) dX3_distance_104 rfl 0 rfl ?_
    refine t_getI (n := 108) 28 rfl rfl q1362 dX3_distance_105 rfl ?_
    refine e_icmp_ge (n := 111) (tgt := 220) dX3_distance_108 rfl (by decide) (fun h => ?_) (fun h => ?_)
    · have w := w.1 h
      refine e_sub (lv' := [(0, .ref o), (1, .int x1), (3, .int x3)]) [0, 1, 2] rfl ?_
      exact hk220 _ _ _ w
    · have w := w.2 h
      refine e_aload_n (n := 112) dX3_distance_111 rfl 0 rfl ?_
      refine t_getR (n := 115) 55 rfl (by decide) q1389 dX3_distance_112 rfl ?_
      refine e_iload (n := 117) dX3_distance_115 rfl 4 rfl ?_
      refine e_ldc (n := 119) q1588 dX3_distance_117 rfl ?_
      obtain ⟨wi, w⟩ := w
      refine t_iast (n := 120) ok 55 rfl rfl (N := 52) rfl wi dX3_distance_119 rfl (fun s_25 hs_25 => ?_)
      have w := w s_25 hs_25
      refine e_iconst (n := 121) (v := 0) dX3_distance_120 rfl (by decide) ?_
      refine e_istore (n := 123) (lv' := [(0, .ref o), (1, .int x1), (3, .int x3), (4, .int x4), (5, .int x5), (6, .int 0)]) [1, 2, 3, 4, 5, 0] dX3_distance_121 rfl rfl rfl ?_
      obtain ⟨fu, w⟩ := w
      refine hX3_distance_123 ok (fun x1_26 x3_27 x4_28 x5_29 s_30 w => ?_) fu _ _ _ _ _ _ w
      obtain ⟨x5_31, hx5_31⟩ : ∃ y : Int32, y = x5_29 + 1 := ⟨_, rfl⟩
      have w := w x5_31 hx5_31
      refine e_iinc (n := 217) (v := x5_31) (lv' := [(0, .ref o), (1, .int x1_26), (3, .int x3_27), (4, .int x4_28), (5, .int x5_31)]) [1, 2, 3, 4, 0] dX3_distance_214 rfl 4 rfl (by rw [hx5_31]; rfl) rfl rfl ?_
      refine e_goto (n := 102) dX3_distance_217 (by decide) ?_
      exact ih _ _ _ _ _ w
set_option maxHeartbeats 4000000 in
theorem hX3_distance_75 {o : Nat} {ad : Nat → Nat} (ok : t_ok o ad) {Q : Int32 → TS → Prop} {k258 : TS → Prop} (hk258 : ∀  (s : TS), k258 s → E mX3_distance 6 0 0 (g_z (t_Ki o ad Q)) 0 0 258 [(0, .ref o)] [] (t_map o ad s)) : ∀ (n : Nat) (x1 : Int32) (x3 : Int32) (s : TS), wX3_distance_75 Q k258 n x1 x3 s → E mX3_distance 6 0 0 (g_z (t_Ki o ad Q)) 0 0 75 [(0, .ref o), (1, .int x1), (3, .int x3)] [] (t_map o ad s) := by
  intro n
  induction n with
  | zero =>
    intro _ _ _ w
    exact w.elim
  | succ n ih =>
    intro x1 x3 s w
    unfold wX3_distance_75 at w
    refine e_iload_n (n := 76) dX3_distance_75 rfl 2 rfl ?_
    refine e_aload_n (n := 77) dX3_distance_76 rfl 0 rfl ?_
    refine t_getR (n := 80) 52 rfl (by decide) q1386 dX3_distance_77 rfl ?_
    refine e_iload_n (n := 81) dX3_distance_80 rfl 1 rfl ?_
    obtain ⟨wi, w⟩ := w
    refine t_iald (n := 82) ok 52 rfl rfl (N := 6) rfl wi dX3_distance_81 rfl ?_
    refine e_icmp_ge (n := 85) (tgt := 258) dX3_distance_82 rfl (by decide) (fun h => ?_) (fun h => ?_)
    · have w := w.1 h
      refine e_sub (lv' := [(0, .ref o)]) [0] rfl ?_
      exact hk258 _ w
    · have w := w.2 h
      refine e_aload_n (n := 86) dX3_distance_85 rfl 0 rfl ?_
      refine t_getR (n := 89) 53 rfl (by decide) q1387 dX3_distance_86 rfl ?_
      refine e_sipush (n := 92) (v := 1600) dX3_distance_89 rfl (by decide) ?_
      refine e_iload_n (n := 93) dX3_distance_92 rfl 1 rfl ?_
      refine e_imul (n := 94) dX3_distance_93 rfl ?_
      refine e_iload_n (n := 95) dX3_distance_94 rfl 2 rfl ?_
      refine e_iadd (n := 96) dX3_distance_95 rfl ?_
      obtain ⟨wi, w⟩ := w
      refine t_iald (n := 97) ok 53 rfl rfl (N := 9600) rfl wi dX3_distance_96 rfl ?_
      refine e_topi (fun x4_15 hx4_15 => ?_)
      have w := w x4_15 hx4_15
      refine e_istore (n := 99) (lv' := [(0, .ref o), (1, .int x1), (3, .int x3), (4, .int x4_15)]) [1, 2, 3, 0] dX3_distance_97 rfl rfl rfl ?_
      refine e_iconst (n := 100) (v := 0) dX3_distance_99 rfl (by decide) ?_
      refine e_istore (n := 102) (lv' := [(0, .ref o), (1, .int x1), (3, .int x3), (4, .int x4_15), (5, .int 0)]) [1, 2, 3, 4, 0] dX3_distance_100 rfl rfl rfl ?_
      obtain ⟨fu, w⟩ := w
      refine hX3_distance_102 ok (fun x1_16 x3_17 s_18 w => ?_) fu _ _ _ _ _ w
      refine e_iconst (n := 221) (v := 0) dX3_distance_220 rfl (by decide) ?_
      refine e_istore (n := 223) (lv' := [(0, .ref o), (1, .int x1_16), (3, .int x3_17), (5, .int 0)]) [1, 2, 3, 0] dX3_distance_221 rfl rfl rfl ?_
      obtain ⟨fu, w⟩ := w
      refine hX3_distance_223 ok (fun x1_19 x3_20 s_21 w => ?_) fu _ _ _ _ w
      obtain ⟨x3_22, hx3_22⟩ : ∃ y : Int32, y = x3_20 + 1 := ⟨_, rfl⟩
      have w := w x3_22 hx3_22
      refine e_iinc (n := 255) (v := x3_22) (lv' := [(0, .ref o), (1, .int x1_19), (3, .int x3_22)]) [1, 2, 0] dX3_distance_252 rfl 2 rfl (by rw [hx3_22]; rfl) rfl rfl ?_
      refine e_goto (n := 75) dX3_distance_255 (by decide) ?_
      exact ih _ _ _ w
set_option maxHeartbeats 4000000 in
theorem hX3_distance_66 {o : Nat} {ad : Nat → Nat} (ok : t_ok o ad) {Q : Int32 → TS → Prop} {kh : Int32 → Int32 → TS → Prop} (hkh : ∀ (x1 : Int32) (x3 : Int32) (s : TS), kh x1 x3 s → E mX3_distance 6 0 0 (g_z (t_Ki o ad Q)) 0 0 43 [(0, .ref o), (1, .int x1), (3, .int x3)] [] (t_map o ad s)) {k73 : Int32 → TS → Prop} (hk73 : ∀ (x1 : Int32) (s : TS), k73 x1 s → E mX3_distance 6 0 0 (g_z (t_Ki o ad Q)) 0 0 73 [(0, .ref o), (1, .int x1)] [] (t_map o ad s)) (t1 : Int32) (t2 : Int32) (x1 : Int32) (x3 : Int32) (s : TS) (w : wX3_distance_66 Q kh k73 t1 t2 x1 x3 s) : E mX3_distance 6 0 0 (g_z (t_Ki o ad Q)) 0 0 66 [(0, .ref o), (1, .int x1), (3, .int x3)] [.int t2, .int t1, .ref (ad 54)] (t_map o ad s) := by
  unfold wX3_distance_66 at w
  obtain ⟨wi, w⟩ := w
  refine t_iast (n := 67) ok 54 rfl rfl (N := 52) rfl wi dX3_distance_66 rfl (fun s_35 hs_35 => ?_)
  have w := w s_35 hs_35
  obtain ⟨x3_36, hx3_36⟩ : ∃ y : Int32, y = x3 + 1 := ⟨_, rfl⟩
  have w := w x3_36 hx3_36
  refine e_iinc (n := 70) (v := x3_36) (lv' := [(0, .ref o), (1, .int x1), (3, .int x3_36)]) [1, 2, 0] dX3_distance_67 rfl 2 rfl (by rw [hx3_36]; rfl) rfl rfl ?_
  refine e_goto (n := 43) dX3_distance_70 (by decide) ?_
  exact hkh _ _ _ w
set_option maxHeartbeats 4000000 in
theorem hX3_distance_43 {o : Nat} {ad : Nat → Nat} (ok : t_ok o ad) {Q : Int32 → TS → Prop} {k73 : Int32 → TS → Prop} (hk73 : ∀ (x1 : Int32) (s : TS), k73 x1 s → E mX3_distance 6 0 0 (g_z (t_Ki o ad Q)) 0 0 73 [(0, .ref o), (1, .int x1)] [] (t_map o ad s)) : ∀ (n : Nat) (x1 : Int32) (x3 : Int32) (s : TS), wX3_distance_43 Q k73 n x1 x3 s → E mX3_distance 6 0 0 (g_z (t_Ki o ad Q)) 0 0 43 [(0, .ref o), (1, .int x1), (3, .int x3)] [] (t_map o ad s) := by
  intro n
  induction n with
  | zero =>
    intro _ _ _ w
    exact w.elim
  | succ n ih =>
    intro x1 x3 s w
    unfold wX3_distance_43 at w
    refine e_iload_n (n := 44) dX3_distance_43 rfl 2 rfl ?_
    refine e_aload_n (n := 45) dX3_distance_44 rfl 0 rfl ?_
    refine t_getI (n := 48) 28 rfl rfl q1362 dX3_distance_45 rfl ?_
    refine e_icmp_ge (n := 51) (tgt := 73) dX3_distance_48 rfl (by decide) (fun h => ?_) (fun h => ?_)
    · have w := w.1 h
      refine e_sub (lv' := [(0, .ref o), (1, .int x1)]) [0, 1] rfl ?_
      exact hk73 _ _ w
    · have w := w.2 h
      refine e_aload_n (n := 52) dX3_distance_51 rfl 0 rfl ?_
      refine t_getR (n := 55) 54 rfl (by decide) q1388 dX3_distance_52 rfl ?_
      refine e_iload_n (n := 56) dX3_distance_55 rfl 2 rfl ?_
      refine e_iload_n (n := 57) dX3_distance_56 rfl 2 rfl ?_
      refine e_if_ne (n := 60) (tgt := 64) dX3_distance_57 rfl (by decide) (fun h => ?_) (fun h => ?_)
      · have w := w.2 h
        refine e_ldc (n := 66) q1588 dX3_distance_64 rfl ?_
        exact hX3_distance_66 ok ih hk73 _ _ _ _ _ w
      · have w := w.1 h
        refine e_iconst (n := 61) (v := 0) dX3_distance_60 rfl (by decide) ?_
        refine e_goto (n := 66) dX3_distance_61 (by decide) ?_
        exact hX3_distance_66 ok ih hk73 _ _ _ _ _ w
set_option maxHeartbeats 4000000 in
theorem ctX3_distance {o : Nat} {ad : Nat → Nat} (ok : t_ok o ad) {Q : Int32 → TS → Prop} {x1 : Int32} {s : TS} (w : wX3_distance Q x1 s) : CT mX3_distance 6 0 0 [.ref o, .int x1] (t_map o ad s) (t_Ki o ad Q) := by
  refine CT.of (lv := [(0, .ref o), (1, .int x1)]) okX3_distance.1 rfl rfl ?_
  unfold wX3_distance at w
  refine e_iload_n (n := 1) dX3_distance_0 rfl 1 rfl ?_
  refine t_callS (n := 4) (As := [.int x1]) (st := []) okX3_isShelf q1702 q1703 q63 q1704 (by decide) (Nat.le_refl _) (Nat.le_refl _) rfl rfl rfl dX3_distance_1 rfl (ctX3_isShelf w) (fun r9 σ9 hk => ?_)
  obtain ⟨r_1, rfl, rfl, w⟩ := hk
  refine e_if_ne (n := 7) (tgt := 9) dX3_distance_4 rfl (by decide) (fun h => ?_) (fun h => ?_)
  · have w := w.2 h
    refine e_aload_n (n := 10) dX3_distance_9 rfl 0 rfl ?_
    refine e_iload_n (n := 11) dX3_distance_10 rfl 1 rfl ?_
    refine e_iconst (n := 12) (v := 1) dX3_distance_11 rfl (by decide) ?_
    refine t_callV (n := 15) (As := [.int x1, .int 1]) (st := []) okX3_against q1711 q1713 qs55 q1714 rfl (by decide) (Nat.le_refl _) (Nat.le_refl _) rfl rfl rfl dX3_distance_12 rfl (ctX3_against ok w) (fun r9 σ9 hk => ?_)
    obtain ⟨r_3, s_2, rfl, rfl, w⟩ := hk
    refine e_istore_n (n := 16) (lv' := [(0, .ref o), (1, .int x1), (2, .int r_3)]) [1, 2, 0] dX3_distance_15 rfl rfl rfl ?_
    refine e_iload_n (n := 17) dX3_distance_16 rfl 2 rfl ?_
    refine e_if_ge (n := 20) (tgt := 22) dX3_distance_17 rfl (by decide) (fun h => ?_) (fun h => ?_)
    · have w := w.1 h
      refine e_aload_n (n := 23) dX3_distance_22 rfl 0 rfl ?_
      refine e_bipush (n := 25) (v := (-4)) dX3_distance_23 rfl (by decide) ?_
      refine t_putI (n := 28) 35 rfl rfl rfl rfl q1369 dX3_distance_25 rfl (fun s_4 hs_4 => ?_)
      have w := w s_4 hs_4
      refine e_aload_n (n := 29) dX3_distance_28 rfl 0 rfl ?_
      refine e_iconst (n := 30) (v := 0) dX3_distance_29 rfl (by decide) ?_
      refine t_putI (n := 33) 33 rfl rfl rfl rfl q1367 dX3_distance_30 rfl (fun s_5 hs_5 => ?_)
      have w := w s_5 hs_5
      refine e_aload_n (n := 34) dX3_distance_33 rfl 0 rfl ?_
      refine e_aload_n (n := 35) dX3_distance_34 rfl 0 rfl ?_
      refine t_getI (n := 38) 14 rfl rfl q1348 dX3_distance_35 rfl ?_
      refine t_callV (n := 41) (As := [.int (s_5.1 14)]) (st := []) okX3_layReads q1572 q1574 qs30 q1575 rfl (by decide) (Nat.le_refl _) (Nat.le_refl _) rfl rfl rfl dX3_distance_38 rfl (ctX3_layReads ok w) (fun r9 σ9 hk => ?_)
      obtain ⟨s_6, rfl, rfl, w⟩ := hk
      refine e_iconst (n := 42) (v := 0) dX3_distance_41 rfl (by decide) ?_
      refine e_istore_n (n := 43) (lv' := [(0, .ref o), (1, .int x1), (2, .int r_3), (3, .int 0)]) [1, 2, 3, 0] dX3_distance_42 rfl rfl rfl ?_
      obtain ⟨fu, w⟩ := w
      refine e_sub (lv' := [(0, .ref o), (1, .int x1), (3, .int 0)]) [0, 1, 3] rfl ?_
      refine hX3_distance_43 ok (fun x1_7 s_8 w => ?_) fu _ _ _ w
      refine e_iconst (n := 74) (v := 0) dX3_distance_73 rfl (by decide) ?_
      refine e_istore_n (n := 75) (lv' := [(0, .ref o), (1, .int x1_7), (3, .int 0)]) [1, 2, 0] dX3_distance_74 rfl rfl rfl ?_
      obtain ⟨fu, w⟩ := w
      refine hX3_distance_75 ok (fun s_9 w => ?_) fu _ _ _ w
      refine e_ldc (n := 260) q1588 dX3_distance_258 rfl ?_
      refine e_istore_n (n := 261) (lv' := [(0, .ref o), (3, .int 1000000000)]) [1, 0] dX3_distance_260 rfl rfl rfl ?_
      refine e_iconst (n := 262) (v := 0) dX3_distance_261 rfl (by decide) ?_
      refine e_istore (n := 264) (lv' := [(0, .ref o), (3, .int 1000000000), (4, .int 0)]) [1, 2, 0] dX3_distance_262 rfl rfl rfl ?_
      obtain ⟨fu, w⟩ := w
      refine hX3_distance_264 ok (fun x3_10 s_11 w => ?_) fu _ _ _ w
      refine e_iload_n (n := 344) dX3_distance_343 rfl 0 rfl ?_
      refine e_ldc (n := 346) q1588 dX3_distance_344 rfl ?_
      refine e_icmp_ne (n := 349) (tgt := 354) dX3_distance_346 rfl (by decide) (fun h => ?_) (fun h => ?_)
      · have w := w.2 h
        refine e_iload_n (n := 355) dX3_distance_354 rfl 0 rfl ?_
        exact e_iret rfl (Nat.le_refl _) (Nat.le_refl _) ⟨_, _, rfl, rfl, w⟩ dX3_distance_355
      · have w := w.1 h
        refine e_bipush (n := 351) (v := (-4)) dX3_distance_349 rfl (by decide) ?_
        refine e_goto (n := 355) dX3_distance_351 (by decide) ?_
        exact e_iret rfl (Nat.le_refl _) (Nat.le_refl _) ⟨_, _, rfl, rfl, w⟩ dX3_distance_355
    · have w := w.2 h
      refine e_iload_n (n := 21) dX3_distance_20 rfl 2 rfl ?_
      exact e_iret rfl (Nat.le_refl _) (Nat.le_refl _) ⟨_, _, rfl, rfl, w⟩ dX3_distance_21
  · have w := w.1 h
    refine e_iconst (n := 8) (v := (-1)) dX3_distance_7 rfl (by decide) ?_
    exact e_iret rfl (Nat.le_refl _) (Nat.le_refl _) ⟨_, _, rfl, rfl, w⟩ dX3_distance_8
abbrev mX3_told : gM := (yX3_told, cX3_told, 2, some .int)
theorem okX3_told : g_ok mX3_told 1 := ⟨by decide +kernel, by decide +kernel, by decide +kernel, by decide +kernel, by decide⟩
def wX3_told (Q : Int32 → TS → Prop) (x1 : Int32) (s : TS) : Prop := (x1 = 0 → (Q (s.1 21) s)) ∧ (¬ x1 = 0 → (x1 = 1 → (Q (s.1 22) s)) ∧ (¬ x1 = 1 → (x1 = 2 → (Q (s.1 24) s)) ∧ (¬ x1 = 2 → (x1 = 3 → (Q (s.1 26) s)) ∧ (¬ x1 = 3 → (x1 = 4 → (Q (s.1 17) s)) ∧ (¬ x1 = 4 → (Q (-1) s))))))
set_option maxHeartbeats 4000000 in
theorem ctX3_told {o : Nat} {ad : Nat → Nat} (ok : t_ok o ad) {Q : Int32 → TS → Prop} {x1 : Int32} {s : TS} (w : wX3_told Q x1 s) : CT mX3_told 1 0 0 [.ref o, .int x1] (t_map o ad s) (t_Ki o ad Q) := by
  refine CT.of (lv := [(0, .ref o), (1, .int x1)]) okX3_told.1 rfl rfl ?_
  unfold wX3_told at w
  refine e_iload_n (n := 1) dX3_told_0 rfl 1 rfl ?_
  by_cases h0 : x1 = 0
  · have w := w.1 h0
    refine e_tableIn (tgt := 36) dX3_told_1 (by rw [h0]; decide) (by rw [h0]; decide) (by rw [h0]; rfl) (by decide) ?_
    refine e_aload_n (n := 37) dX3_told_36 rfl 0 rfl ?_
    refine t_getI (n := 40) 21 rfl rfl q1355 dX3_told_37 rfl ?_
    exact e_iret rfl (Nat.le_refl _) (Nat.le_refl _) ⟨_, _, rfl, rfl, w⟩ dX3_told_40
  · have w := w.2 h0
    by_cases h1 : x1 = 1
    · have w := w.1 h1
      refine e_tableIn (tgt := 41) dX3_told_1 (by rw [h1]; decide) (by rw [h1]; decide) (by rw [h1]; rfl) (by decide) ?_
      refine e_aload_n (n := 42) dX3_told_41 rfl 0 rfl ?_
      refine t_getI (n := 45) 22 rfl rfl q1356 dX3_told_42 rfl ?_
      exact e_iret rfl (Nat.le_refl _) (Nat.le_refl _) ⟨_, _, rfl, rfl, w⟩ dX3_told_45
    · have w := w.2 h1
      by_cases h2 : x1 = 2
      · have w := w.1 h2
        refine e_tableIn (tgt := 46) dX3_told_1 (by rw [h2]; decide) (by rw [h2]; decide) (by rw [h2]; rfl) (by decide) ?_
        refine e_aload_n (n := 47) dX3_told_46 rfl 0 rfl ?_
        refine t_getI (n := 50) 24 rfl rfl q1358 dX3_told_47 rfl ?_
        exact e_iret rfl (Nat.le_refl _) (Nat.le_refl _) ⟨_, _, rfl, rfl, w⟩ dX3_told_50
      · have w := w.2 h2
        by_cases h3 : x1 = 3
        · have w := w.1 h3
          refine e_tableIn (tgt := 51) dX3_told_1 (by rw [h3]; decide) (by rw [h3]; decide) (by rw [h3]; rfl) (by decide) ?_
          refine e_aload_n (n := 52) dX3_told_51 rfl 0 rfl ?_
          refine t_getI (n := 55) 26 rfl rfl q1360 dX3_told_52 rfl ?_
          exact e_iret rfl (Nat.le_refl _) (Nat.le_refl _) ⟨_, _, rfl, rfl, w⟩ dX3_told_55
        · have w := w.2 h3
          by_cases h4 : x1 = 4
          · have w := w.1 h4
            refine e_tableIn (tgt := 56) dX3_told_1 (by rw [h4]; decide) (by rw [h4]; decide) (by rw [h4]; rfl) (by decide) ?_
            refine e_aload_n (n := 57) dX3_told_56 rfl 0 rfl ?_
            refine t_getI (n := 60) 17 rfl rfl q1351 dX3_told_57 rfl ?_
            exact e_iret rfl (Nat.le_refl _) (Nat.le_refl _) ⟨_, _, rfl, rfl, w⟩ dX3_told_60
          · have w := w.2 h4
            have g0 : ¬ x1.toInt = 0 := fun z => h0 (Int32.toInt_inj.mp (z.trans (by decide)))
            have g1 : ¬ x1.toInt = 1 := fun z => h1 (Int32.toInt_inj.mp (z.trans (by decide)))
            have g2 : ¬ x1.toInt = 2 := fun z => h2 (Int32.toInt_inj.mp (z.trans (by decide)))
            have g3 : ¬ x1.toInt = 3 := fun z => h3 (Int32.toInt_inj.mp (z.trans (by decide)))
            have g4 : ¬ x1.toInt = 4 := fun z => h4 (Int32.toInt_inj.mp (z.trans (by decide)))
            refine e_tableOut (tgt := 61) dX3_told_1 (by omega) (by decide) ?_
            refine e_iconst (n := 62) (v := (-1)) dX3_told_61 rfl (by decide) ?_
            exact e_iret rfl (Nat.le_refl _) (Nat.le_refl _) ⟨_, _, rfl, rfl, w⟩ dX3_told_62
abbrev mX3_slip_2 : gM := (yX3_slip_2, cX3_slip_2, 3, some .int)
theorem okX3_slip_2 : g_ok mX3_slip_2 2 := ⟨by decide +kernel, by decide +kernel, by decide +kernel, by decide +kernel, by decide⟩
def wX3_slip_2 (Q : Int32 → TS → Prop) (x1 : Int32) (x2 : Int32) (s : TS) : Prop := wX3_in (fun (r_1 : Int32) => (r_1 = 0 → (Q (-1) s)) ∧ (¬ r_1 = 0 → (wX3_in (fun (r_2 : Int32) => (r_2 = 0 → (Q (-1) s)) ∧ (¬ r_2 = 0 → (vp_in ((4 * x1) + x2) 1600 ∧ (Q (s.2.1 23 ((4 * x1) + x2).toNatClampNeg) s)))) (x2.toInt64) 0 3))) (x1.toInt64) 0 (((s.1 22) - 1).toInt64)
set_option maxHeartbeats 4000000 in
theorem ctX3_slip_2 {o : Nat} {ad : Nat → Nat} (ok : t_ok o ad) {Q : Int32 → TS → Prop} {x1 : Int32} {x2 : Int32} {s : TS} (w : wX3_slip_2 Q x1 x2 s) : CT mX3_slip_2 2 0 0 [.ref o, .int x1, .int x2] (t_map o ad s) (t_Ki o ad Q) := by
  refine CT.of (lv := [(0, .ref o), (1, .int x1), (2, .int x2)]) okX3_slip_2.1 rfl rfl ?_
  unfold wX3_slip_2 at w
  refine e_iload_n (n := 1) dX3_slip_2_0 rfl 1 rfl ?_
  refine e_i2l (n := 2) dX3_slip_2_1 rfl ?_
  refine e_lconst (n := 3) (v := 0) dX3_slip_2_2 rfl (by decide) ?_
  refine e_aload_n (n := 4) dX3_slip_2_3 rfl 0 rfl ?_
  refine t_getI (n := 7) 22 rfl rfl q1356 dX3_slip_2_4 rfl ?_
  refine e_iconst (n := 8) (v := 1) dX3_slip_2_7 rfl (by decide) ?_
  refine e_isub (n := 9) dX3_slip_2_8 rfl ?_
  refine e_i2l (n := 10) dX3_slip_2_9 rfl ?_
  refine t_callS (n := 13) (As := [.long (x1.toInt64), .long 0, .long (((s.1 22) - 1).toInt64)]) (st := []) okX3_in q1519 q1520 q63 q1521 (by decide) (Nat.le_refl _) (Nat.le_refl _) rfl rfl rfl dX3_slip_2_10 rfl (ctX3_in w) (fun r9 σ9 hk => ?_)
  obtain ⟨r_1, rfl, rfl, w⟩ := hk
  refine e_if_eq (n := 16) (tgt := 41) dX3_slip_2_13 rfl (by decide) (fun h => ?_) (fun h => ?_)
  · have w := w.1 h
    refine e_iconst (n := 42) (v := (-1)) dX3_slip_2_41 rfl (by decide) ?_
    exact e_iret rfl (Nat.le_refl _) (Nat.le_refl _) ⟨_, _, rfl, rfl, w⟩ dX3_slip_2_42
  · have w := w.2 h
    refine e_iload_n (n := 17) dX3_slip_2_16 rfl 2 rfl ?_
    refine e_i2l (n := 18) dX3_slip_2_17 rfl ?_
    refine e_lconst (n := 19) (v := 0) dX3_slip_2_18 rfl (by decide) ?_
    refine e_ldc2 (n := 22) q1706 dX3_slip_2_19 rfl ?_
    refine t_callS (n := 25) (As := [.long (x2.toInt64), .long 0, .long 3]) (st := []) okX3_in q1519 q1520 q63 q1521 (by decide) (Nat.le_refl _) (Nat.le_refl _) rfl rfl rfl dX3_slip_2_22 rfl (ctX3_in w) (fun r9 σ9 hk => ?_)
    obtain ⟨r_2, rfl, rfl, w⟩ := hk
    refine e_if_eq (n := 28) (tgt := 41) dX3_slip_2_25 rfl (by decide) (fun h => ?_) (fun h => ?_)
    · have w := w.1 h
      refine e_iconst (n := 42) (v := (-1)) dX3_slip_2_41 rfl (by decide) ?_
      exact e_iret rfl (Nat.le_refl _) (Nat.le_refl _) ⟨_, _, rfl, rfl, w⟩ dX3_slip_2_42
    · have w := w.2 h
      refine e_aload_n (n := 29) dX3_slip_2_28 rfl 0 rfl ?_
      refine t_getR (n := 32) 23 rfl (by decide) q1357 dX3_slip_2_29 rfl ?_
      refine e_iconst (n := 33) (v := 4) dX3_slip_2_32 rfl (by decide) ?_
      refine e_iload_n (n := 34) dX3_slip_2_33 rfl 1 rfl ?_
      refine e_imul (n := 35) dX3_slip_2_34 rfl ?_
      refine e_iload_n (n := 36) dX3_slip_2_35 rfl 2 rfl ?_
      refine e_iadd (n := 37) dX3_slip_2_36 rfl ?_
      obtain ⟨wi, w⟩ := w
      refine t_iald (n := 38) ok 23 rfl rfl (N := 1600) rfl wi dX3_slip_2_37 rfl ?_
      refine e_goto (n := 42) dX3_slip_2_38 (by decide) ?_
      exact e_iret rfl (Nat.le_refl _) (Nat.le_refl _) ⟨_, _, rfl, rfl, w⟩ dX3_slip_2_42
abbrev mX3_word : gM := (yX3_word, cX3_word, 2, some .int)
theorem okX3_word : g_ok mX3_word 1 := ⟨by decide +kernel, by decide +kernel, by decide +kernel, by decide +kernel, by decide⟩
def wX3_word (Q : Int32 → TS → Prop) (x1 : Int32) (s : TS) : Prop := wX3_in (fun (r_1 : Int32) => (r_1 = 0 → (Q (-1) s)) ∧ (¬ r_1 = 0 → (vp_in x1 320 ∧ (Q (s.2.1 25 x1.toNatClampNeg) s)))) (x1.toInt64) 0 (((s.1 24) - 1).toInt64)
set_option maxHeartbeats 4000000 in
theorem ctX3_word {o : Nat} {ad : Nat → Nat} (ok : t_ok o ad) {Q : Int32 → TS → Prop} {x1 : Int32} {s : TS} (w : wX3_word Q x1 s) : CT mX3_word 2 0 0 [.ref o, .int x1] (t_map o ad s) (t_Ki o ad Q) := by
  refine CT.of (lv := [(0, .ref o), (1, .int x1)]) okX3_word.1 rfl rfl ?_
  unfold wX3_word at w
  refine e_iload_n (n := 1) dX3_word_0 rfl 1 rfl ?_
  refine e_i2l (n := 2) dX3_word_1 rfl ?_
  refine e_lconst (n := 3) (v := 0) dX3_word_2 rfl (by decide) ?_
  refine e_aload_n (n := 4) dX3_word_3 rfl 0 rfl ?_
  refine t_getI (n := 7) 24 rfl rfl q1358 dX3_word_4 rfl ?_
  refine e_iconst (n := 8) (v := 1) dX3_word_7 rfl (by decide) ?_
  refine e_isub (n := 9) dX3_word_8 rfl ?_
  refine e_i2l (n := 10) dX3_word_9 rfl ?_
  refine t_callS (n := 13) (As := [.long (x1.toInt64), .long 0, .long (((s.1 24) - 1).toInt64)]) (st := []) okX3_in q1519 q1520 q63 q1521 (by decide) (Nat.le_refl _) (Nat.le_refl _) rfl rfl rfl dX3_word_10 rfl (ctX3_in w) (fun r9 σ9 hk => ?_)
  obtain ⟨r_1, rfl, rfl, w⟩ := hk
  refine e_if_eq (n := 16) (tgt := 25) dX3_word_13 rfl (by decide) (fun h => ?_) (fun h => ?_)
  · have w := w.1 h
    refine e_iconst (n := 26) (v := (-1)) dX3_word_25 rfl (by decide) ?_
    exact e_iret rfl (Nat.le_refl _) (Nat.le_refl _) ⟨_, _, rfl, rfl, w⟩ dX3_word_26
  · have w := w.2 h
    refine e_aload_n (n := 17) dX3_word_16 rfl 0 rfl ?_
    refine t_getR (n := 20) 25 rfl (by decide) q1359 dX3_word_17 rfl ?_
    refine e_iload_n (n := 21) dX3_word_20 rfl 1 rfl ?_
    obtain ⟨wi, w⟩ := w
    refine t_iald (n := 22) ok 25 rfl rfl (N := 320) rfl wi dX3_word_21 rfl ?_
    refine e_goto (n := 26) dX3_word_22 (by decide) ?_
    exact e_iret rfl (Nat.le_refl _) (Nat.le_refl _) ⟨_, _, rfl, rfl, w⟩ dX3_word_26
abbrev mX3_node : gM := (yX3_node, cX3_node, 3, some .int)
theorem okX3_node : g_ok mX3_node 2 := ⟨by decide +kernel, by decide +kernel, by decide +kernel, by decide +kernel, by decide⟩
def wX3_node (Q : Int32 → TS → Prop) (x1 : Int32) (x2 : Int32) (s : TS) : Prop := wX3_in (fun (r_1 : Int32) => (r_1 = 0 → (Q (-1) s)) ∧ (¬ r_1 = 0 → (wX3_in (fun (r_2 : Int32) => (r_2 = 0 → (Q (-1) s)) ∧ (¬ r_2 = 0 → (vp_in ((5 * x1) + x2) 520 ∧ (Q (s.2.1 27 ((5 * x1) + x2).toNatClampNeg) s)))) (x2.toInt64) 0 4))) (x1.toInt64) 0 (((s.1 26) - 1).toInt64)
set_option maxHeartbeats 4000000 in
theorem ctX3_node {o : Nat} {ad : Nat → Nat} (ok : t_ok o ad) {Q : Int32 → TS → Prop} {x1 : Int32} {x2 : Int32} {s : TS} (w : wX3_node Q x1 x2 s) : CT mX3_node 2 0 0 [.ref o, .int x1, .int x2] (t_map o ad s) (t_Ki o ad Q) := by
  refine CT.of (lv := [(0, .ref o), (1, .int x1), (2, .int x2)]) okX3_node.1 rfl rfl ?_
  unfold wX3_node at w
  refine e_iload_n (n := 1) dX3_node_0 rfl 1 rfl ?_
  refine e_i2l (n := 2) dX3_node_1 rfl ?_
  refine e_lconst (n := 3) (v := 0) dX3_node_2 rfl (by decide) ?_
  refine e_aload_n (n := 4) dX3_node_3 rfl 0 rfl ?_
  refine t_getI (n := 7) 26 rfl rfl q1360 dX3_node_4 rfl ?_
  refine e_iconst (n := 8) (v := 1) dX3_node_7 rfl (by decide) ?_
  refine e_isub (n := 9) dX3_node_8 rfl ?_
  refine e_i2l (n := 10) dX3_node_9 rfl ?_
  refine t_callS (n := 13) (As := [.long (x1.toInt64), .long 0, .long (((s.1 26) - 1).toInt64)]) (st := []) okX3_in q1519 q1520 q63 q1521 (by decide) (Nat.le_refl _) (Nat.le_refl _) rfl rfl rfl dX3_node_10 rfl (ctX3_in w) (fun r9 σ9 hk => ?_)
  obtain ⟨r_1, rfl, rfl, w⟩ := hk
  refine e_if_eq (n := 16) (tgt := 41) dX3_node_13 rfl (by decide) (fun h => ?_) (fun h => ?_)
  · have w := w.1 h
    refine e_iconst (n := 42) (v := (-1)) dX3_node_41 rfl (by decide) ?_
    exact e_iret rfl (Nat.le_refl _) (Nat.le_refl _) ⟨_, _, rfl, rfl, w⟩ dX3_node_42
  · have w := w.2 h
    refine e_iload_n (n := 17) dX3_node_16 rfl 2 rfl ?_
    refine e_i2l (n := 18) dX3_node_17 rfl ?_
    refine e_lconst (n := 19) (v := 0) dX3_node_18 rfl (by decide) ?_
    refine e_ldc2 (n := 22) q1539 dX3_node_19 rfl ?_
    refine t_callS (n := 25) (As := [.long (x2.toInt64), .long 0, .long 4]) (st := []) okX3_in q1519 q1520 q63 q1521 (by decide) (Nat.le_refl _) (Nat.le_refl _) rfl rfl rfl dX3_node_22 rfl (ctX3_in w) (fun r9 σ9 hk => ?_)
    obtain ⟨r_2, rfl, rfl, w⟩ := hk
    refine e_if_eq (n := 28) (tgt := 41) dX3_node_25 rfl (by decide) (fun h => ?_) (fun h => ?_)
    · have w := w.1 h
      refine e_iconst (n := 42) (v := (-1)) dX3_node_41 rfl (by decide) ?_
      exact e_iret rfl (Nat.le_refl _) (Nat.le_refl _) ⟨_, _, rfl, rfl, w⟩ dX3_node_42
    · have w := w.2 h
      refine e_aload_n (n := 29) dX3_node_28 rfl 0 rfl ?_
      refine t_getR (n := 32) 27 rfl (by decide) q1361 dX3_node_29 rfl ?_
      refine e_iconst (n := 33) (v := 5) dX3_node_32 rfl (by decide) ?_
      refine e_iload_n (n := 34) dX3_node_33 rfl 1 rfl ?_
      refine e_imul (n := 35) dX3_node_34 rfl ?_
      refine e_iload_n (n := 36) dX3_node_35 rfl 2 rfl ?_
      refine e_iadd (n := 37) dX3_node_36 rfl ?_
      obtain ⟨wi, w⟩ := w
      refine t_iald (n := 38) ok 27 rfl rfl (N := 520) rfl wi dX3_node_37 rfl ?_
      refine e_goto (n := 42) dX3_node_38 (by decide) ?_
      exact e_iret rfl (Nat.le_refl _) (Nat.le_refl _) ⟨_, _, rfl, rfl, w⟩ dX3_node_42
abbrev mX3_sure : gM := (yX3_sure, cX3_sure, 3, some .int)
theorem okX3_sure : g_ok mX3_sure 1 := ⟨by decide +kernel, by decide +kernel, by decide +kernel, by decide +kernel, by decide⟩
def wX3_sure_116 (Q : Int32 → TS → Prop)   (s : TS) : Prop := Q 1 s
def wX3_sure (Q : Int32 → TS → Prop) (x1 : Int32) (s : TS) : Prop := wX3_in (fun (r_1 : Int32) => (r_1 = 0 → (Q (-1) s)) ∧ (¬ r_1 = 0 → ((s.1 16 = 0 → (Q (-3) s)) ∧ (¬ s.1 16 = 0 → ((s.1 17 ≤ 1 → (vp_in (4 * x1) 1600 ∧ (∀ s_2 : TS, s_2 = tI s 35 (s.2.1 23 (4 * x1).toNatClampNeg) → (vp_in ((4 * x1) + 1) 1600 ∧ (∀ s_3 : TS, s_3 = tI s_2 36 (s_2.2.1 23 ((4 * x1) + 1).toNatClampNeg) → (vp_in ((4 * x1) + 2) 1600 ∧ (∀ s_4 : TS, s_4 = tI s_3 37 (s_3.2.1 23 ((4 * x1) + 2).toNatClampNeg) → (wX3_layAll (fun (s_5 : TS) => wX3_mendingTo (fun (r_7 : Int32) (s_6 : TS) => (r_7 = (-4) → (wX3_sure_116 Q s_6)) ∧ (¬ r_7 = (-4) → (wX3_costOf (fun (r_9 : Int64) (s_8 : TS) => ((r_9 / 4294967296).toInt32 ≤ s_8.1 21 → (Q 0 s_8)) ∧ (¬ (r_9 / 4294967296).toInt32 ≤ s_8.1 21 → (wX3_sure_116 Q s_8))) r_7 s_6))) s_5) (s_4.1 17) (s_4.1 14) s_4)))))))) ∧ (¬ s.1 17 ≤ 1 → (Q (-3) s))))))) (x1.toInt64) 0 (((s.1 22) - 1).toInt64)
set_option maxHeartbeats 4000000 in
theorem hX3_sure_116 {o : Nat} {ad : Nat → Nat} (ok : t_ok o ad) {Q : Int32 → TS → Prop}   (s : TS) (w : wX3_sure_116 Q s) : E mX3_sure 7 0 0 (g_z (t_Ki o ad Q)) 0 0 116 [] [] (t_map o ad s) := by
  unfold wX3_sure_116 at w
  refine e_iconst (n := 117) (v := 1) dX3_sure_116 rfl (by decide) ?_
  refine e_goto (n := 121) dX3_sure_117 (by decide) ?_
  exact e_iret rfl (Nat.le_refl _) (Nat.le_refl _) ⟨_, _, rfl, rfl, w⟩ dX3_sure_121
set_option maxHeartbeats 4000000 in
theorem ctX3_sure {o : Nat} {ad : Nat → Nat} (ok : t_ok o ad) {Q : Int32 → TS → Prop} {x1 : Int32} {s : TS} (w : wX3_sure Q x1 s) : CT mX3_sure 7 0 0 [.ref o, .int x1] (t_map o ad s) (t_Ki o ad Q) := by
  refine CT.of (lv := [(0, .ref o), (1, .int x1)]) okX3_sure.1 rfl rfl ?_
  unfold wX3_sure at w
  refine e_iload_n (n := 1) dX3_sure_0 rfl 1 rfl ?_
  refine e_i2l (n := 2) dX3_sure_1 rfl ?_
  refine e_lconst (n := 3) (v := 0) dX3_sure_2 rfl (by decide) ?_
  refine e_aload_n (n := 4) dX3_sure_3 rfl 0 rfl ?_
  refine t_getI (n := 7) 22 rfl rfl q1356 dX3_sure_4 rfl ?_
  refine e_iconst (n := 8) (v := 1) dX3_sure_7 rfl (by decide) ?_
  refine e_isub (n := 9) dX3_sure_8 rfl ?_
  refine e_i2l (n := 10) dX3_sure_9 rfl ?_
  refine t_callS (n := 13) (As := [.long (x1.toInt64), .long 0, .long (((s.1 22) - 1).toInt64)]) (st := []) okX3_in q1519 q1520 q63 q1521 (by decide) (Nat.le_refl _) (Nat.le_refl _) rfl rfl rfl dX3_sure_10 rfl (ctX3_in w) (fun r9 σ9 hk => ?_)
  obtain ⟨r_1, rfl, rfl, w⟩ := hk
  refine e_if_ne (n := 16) (tgt := 18) dX3_sure_13 rfl (by decide) (fun h => ?_) (fun h => ?_)
  · have w := w.2 h
    refine e_aload_n (n := 19) dX3_sure_18 rfl 0 rfl ?_
    refine t_getI (n := 22) 16 rfl rfl q1350 dX3_sure_19 rfl ?_
    refine e_if_eq (n := 25) (tgt := 33) dX3_sure_22 rfl (by decide) (fun h => ?_) (fun h => ?_)
    · have w := w.1 h
      refine e_bipush (n := 35) (v := (-3)) dX3_sure_33 rfl (by decide) ?_
      exact e_iret rfl (Nat.le_refl _) (Nat.le_refl _) ⟨_, _, rfl, rfl, w⟩ dX3_sure_35
    · have w := w.2 h
      refine e_aload_n (n := 26) dX3_sure_25 rfl 0 rfl ?_
      refine t_getI (n := 29) 17 rfl rfl q1351 dX3_sure_26 rfl ?_
      refine e_iconst (n := 30) (v := 1) dX3_sure_29 rfl (by decide) ?_
      refine e_icmp_le (n := 33) (tgt := 36) dX3_sure_30 rfl (by decide) (fun h => ?_) (fun h => ?_)
      · have w := w.1 h
        refine e_aload_n (n := 37) dX3_sure_36 rfl 0 rfl ?_
        refine e_aload_n (n := 38) dX3_sure_37 rfl 0 rfl ?_
        refine t_getR (n := 41) 23 rfl (by decide) q1357 dX3_sure_38 rfl ?_
        refine e_iconst (n := 42) (v := 4) dX3_sure_41 rfl (by decide) ?_
        refine e_iload_n (n := 43) dX3_sure_42 rfl 1 rfl ?_
        refine e_imul (n := 44) dX3_sure_43 rfl ?_
        obtain ⟨wi, w⟩ := w
        refine t_iald (n := 45) ok 23 rfl rfl (N := 1600) rfl wi dX3_sure_44 rfl ?_
        refine t_putI (n := 48) 35 rfl rfl rfl rfl q1369 dX3_sure_45 rfl (fun s_2 hs_2 => ?_)
        have w := w s_2 hs_2
        refine e_aload_n (n := 49) dX3_sure_48 rfl 0 rfl ?_
        refine e_aload_n (n := 50) dX3_sure_49 rfl 0 rfl ?_
        refine t_getR (n := 53) 23 rfl (by decide) q1357 dX3_sure_50 rfl ?_
        refine e_iconst (n := 54) (v := 4) dX3_sure_53 rfl (by decide) ?_
        refine e_iload_n (n := 55) dX3_sure_54 rfl 1 rfl ?_
        refine e_imul (n := 56) dX3_sure_55 rfl ?_
        refine e_iconst (n := 57) (v := 1) dX3_sure_56 rfl (by decide) ?_
        refine e_iadd (n := 58) dX3_sure_57 rfl ?_
        obtain ⟨wi, w⟩ := w
        refine t_iald (n := 59) ok 23 rfl rfl (N := 1600) rfl wi dX3_sure_58 rfl ?_
        refine t_putI (n := 62) 36 rfl rfl rfl rfl q1370 dX3_sure_59 rfl (fun s_3 hs_3 => ?_)
        have w := w s_3 hs_3
        refine e_aload_n (n := 63) dX3_sure_62 rfl 0 rfl ?_
        refine e_aload_n (n := 64) dX3_sure_63 rfl 0 rfl ?_
        refine t_getR (n := 67) 23 rfl (by decide) q1357 dX3_sure_64 rfl ?_
        refine e_iconst (n := 68) (v := 4) dX3_sure_67 rfl (by decide) ?_
        refine e_iload_n (n := 69) dX3_sure_68 rfl 1 rfl ?_
        refine e_imul (n := 70) dX3_sure_69 rfl ?_
        refine e_iconst (n := 71) (v := 2) dX3_sure_70 rfl (by decide) ?_
        refine e_iadd (n := 72) dX3_sure_71 rfl ?_
        obtain ⟨wi, w⟩ := w
        refine t_iald (n := 73) ok 23 rfl rfl (N := 1600) rfl wi dX3_sure_72 rfl ?_
        refine t_putI (n := 76) 37 rfl rfl rfl rfl q1371 dX3_sure_73 rfl (fun s_4 hs_4 => ?_)
        have w := w s_4 hs_4
        refine e_aload_n (n := 77) dX3_sure_76 rfl 0 rfl ?_
        refine e_aload_n (n := 78) dX3_sure_77 rfl 0 rfl ?_
        refine t_getI (n := 81) 17 rfl rfl q1351 dX3_sure_78 rfl ?_
        refine e_aload_n (n := 82) dX3_sure_81 rfl 0 rfl ?_
        refine t_getI (n := 85) 14 rfl rfl q1348 dX3_sure_82 rfl ?_
        refine t_callV (n := 88) (As := [.int (s_4.1 17), .int (s_4.1 14)]) (st := []) okX3_layAll q1568 q1570 qs29 q1571 rfl (by decide) (Nat.le_refl _) (Nat.le_refl _) rfl rfl rfl dX3_sure_85 rfl (ctX3_layAll ok w) (fun r9 σ9 hk => ?_)
        obtain ⟨s_5, rfl, rfl, w⟩ := hk
        refine e_aload_n (n := 89) dX3_sure_88 rfl 0 rfl ?_
        refine t_callV (n := 92) (As := []) (st := []) okX3_mendingTo q1646 q1648 qs47 q1649 rfl (by decide) (Nat.le_refl _) (Nat.le_refl _) rfl rfl rfl dX3_sure_89 rfl (ctX3_mendingTo ok w) (fun r9 σ9 hk => ?_)
        obtain ⟨r_7, s_6, rfl, rfl, w⟩ := hk
        refine e_istore_n (n := 93) (lv' := [(0, .ref o), (1, .int x1), (2, .int r_7)]) [1, 2, 0] dX3_sure_92 rfl rfl rfl ?_
        refine e_iload_n (n := 94) dX3_sure_93 rfl 2 rfl ?_
        refine e_bipush (n := 96) (v := (-4)) dX3_sure_94 rfl (by decide) ?_
        refine e_icmp_eq (n := 99) (tgt := 116) dX3_sure_96 rfl (by decide) (fun h => ?_) (fun h => ?_)
        · have w := w.1 h
          refine e_sub (lv' := []) [] rfl ?_
          exact hX3_sure_116 ok _ w
        · have w := w.2 h
          refine e_aload_n (n := 100) dX3_sure_99 rfl 0 rfl ?_
          refine e_iload_n (n := 101) dX3_sure_100 rfl 2 rfl ?_
          refine t_callV (n := 104) (As := [.int r_7]) (st := []) okX3_costOf q1650 q1652 qs48 q1653 rfl (by decide) (Nat.le_refl _) (Nat.le_refl _) rfl rfl rfl dX3_sure_101 rfl (ctX3_costOf ok w) (fun r9 σ9 hk => ?_)
          obtain ⟨r_9, s_8, rfl, rfl, w⟩ := hk
          refine e_ldc2 (n := 107) q1638 dX3_sure_104 rfl ?_
          refine e_ldiv (n := 108) (by decide) dX3_sure_107 rfl ?_
          refine e_l2i (n := 109) dX3_sure_108 rfl ?_
          refine e_aload_n (n := 110) dX3_sure_109 rfl 0 rfl ?_
          refine t_getI (n := 113) 21 rfl rfl q1355 dX3_sure_110 rfl ?_
          refine e_icmp_le (n := 116) (tgt := 120) dX3_sure_113 rfl (by decide) (fun h => ?_) (fun h => ?_)
          · have w := w.1 h
            refine e_iconst (n := 121) (v := 0) dX3_sure_120 rfl (by decide) ?_
            exact e_iret rfl (Nat.le_refl _) (Nat.le_refl _) ⟨_, _, rfl, rfl, w⟩ dX3_sure_121
          · have w := w.2 h
            refine e_sub (lv' := []) [] rfl ?_
            exact hX3_sure_116 ok _ w
      · have w := w.2 h
        refine e_bipush (n := 35) (v := (-3)) dX3_sure_33 rfl (by decide) ?_
        exact e_iret rfl (Nat.le_refl _) (Nat.le_refl _) ⟨_, _, rfl, rfl, w⟩ dX3_sure_35
  · have w := w.1 h
    refine e_iconst (n := 17) (v := (-1)) dX3_sure_16 rfl (by decide) ?_
    exact e_iret rfl (Nat.le_refl _) (Nat.le_refl _) ⟨_, _, rfl, rfl, w⟩ dX3_sure_17
abbrev mX3_count : gM := (yX3_count, cX3_count, 5, some .int)
theorem okX3_count : g_ok mX3_count 1 := ⟨by decide +kernel, by decide +kernel, by decide +kernel, by decide +kernel, by decide⟩
def wX3_count_154 (Q : Int32 → TS → Prop) (kh : Int32 → Int32 → Int32 → TS → Prop) (k162 : Int32 → Int32 → TS → Prop) (t0 : Int32) (t1 : Int32) (x3 : Int32) (x4 : Int32) (s : TS) : Prop := ∀ x2_8 : Int32, x2_8 = t0 + t1 → (∀ x4_9 : Int32, x4_9 = x4 + 1 → (kh x2_8 x3 x4_9 s))
def wX3_count_117 (Q : Int32 → TS → Prop) (k162 : Int32 → Int32 → TS → Prop) : Nat → Int32 → Int32 → Int32 → TS → Prop
  | 0 => fun _ _ _ _ => False
  | n + 1 => fun x2 x3 x4 s => vp_in 0 2 ∧ ((s.2.1 11 0 ≤ x4 → (k162 x2 x3 s)) ∧ (¬ s.2.1 11 0 ≤ x4 → (vp_in ((4 * x4) + 2) 24 ∧ (vp_in x3 11 ∧ ((s.2.1 12 ((4 * x4) + 2).toNatClampNeg = s.2.1 15 x3.toNatClampNeg → (wX3_count_154 Q (wX3_count_117 Q k162 n) k162 x2 1 x3 x4 s)) ∧ (¬ s.2.1 12 ((4 * x4) + 2).toNatClampNeg = s.2.1 15 x3.toNatClampNeg → (wX3_count_154 Q (wX3_count_117 Q k162 n) k162 x2 0 x3 x4 s)))))))
def wX3_count_106 (Q : Int32 → TS → Prop) (k168 : Int32 → TS → Prop) : Nat → Int32 → Int32 → TS → Prop
  | 0 => fun _ _ _ => False
  | n + 1 => fun x2 x3 s => (s.1 14 ≤ x3 → (k168 x2 s)) ∧ (¬ s.1 14 ≤ x3 → (∃ fu : Nat, wX3_count_117 Q (fun (x2_4 : Int32) (x3_5 : Int32) (s_6 : TS) => ∀ x3_7 : Int32, x3_7 = x3_5 + 1 → (wX3_count_106 Q k168 n x2_4 x3_7 s_6)) fu x2 x3 0 s))
def wX3_count_102 (Q : Int32 → TS → Prop)  (t0 : Int32) (t1 : Int32) (s : TS) : Prop := ∀ x2_1 : Int32, x2_1 = t0 + t1 → (∃ fu : Nat, wX3_count_106 Q (fun (x2_2 : Int32) (s_3 : TS) => Q x2_2 s_3) fu x2_1 0 s)
def wX3_count (Q : Int32 → TS → Prop) (x1 : Int32) (s : TS) : Prop := (x1 = 0 → (Q (s.1 0) s)) ∧ (¬ x1 = 0 → (x1 = 1 → (Q (s.1 5) s)) ∧ (¬ x1 = 1 → (x1 = 2 → (Q (s.1 7) s)) ∧ (¬ x1 = 2 → (x1 = 3 → (vp_in 0 2 ∧ (Q (s.2.1 11 0) s))) ∧ (¬ x1 = 3 → (x1 = 4 → (vp_in 1 2 ∧ (Q (s.2.1 11 1) s))) ∧ (¬ x1 = 4 → (x1 = 5 → (Q (s.1 14) s)) ∧ (¬ x1 = 5 → (x1 = 6 → ((s.1 14 ≤ 1 → (wX3_count_102 Q ((s.1 14) + 1) 0 s)) ∧ (¬ s.1 14 ≤ 1 → (wX3_count_102 Q ((s.1 14) + 1) ((s.1 14) - 1) s)))) ∧ (¬ x1 = 6 → (Q (-1) s))))))))
set_option maxHeartbeats 4000000 in
theorem hX3_count_154 {o : Nat} {ad : Nat → Nat} (ok : t_ok o ad) {Q : Int32 → TS → Prop} {kh : Int32 → Int32 → Int32 → TS → Prop} (hkh : ∀ (x2 : Int32) (x3 : Int32) (x4 : Int32) (s : TS), kh x2 x3 x4 s → E mX3_count 1 0 0 (g_z (t_Ki o ad Q)) 0 0 117 [(0, .ref o), (2, .int x2), (3, .int x3), (4, .int x4)] [] (t_map o ad s)) {k162 : Int32 → Int32 → TS → Prop} (hk162 : ∀ (x2 : Int32) (x3 : Int32) (s : TS), k162 x2 x3 s → E mX3_count 1 0 0 (g_z (t_Ki o ad Q)) 0 0 162 [(0, .ref o), (2, .int x2), (3, .int x3)] [] (t_map o ad s)) (t0 : Int32) (t1 : Int32) (x3 : Int32) (x4 : Int32) (s : TS) (w : wX3_count_154 Q kh k162 t0 t1 x3 x4 s) : E mX3_count 1 0 0 (g_z (t_Ki o ad Q)) 0 0 154 [(0, .ref o), (3, .int x3), (4, .int x4)] [.int t1, .int t0] (t_map o ad s) := by
  unfold wX3_count_154 at w
  refine e_iadd (n := 155) dX3_count_154 rfl ?_
  refine e_topi (fun x2_8 hx2_8 => ?_)
  have w := w x2_8 hx2_8
  refine e_istore_n (n := 156) (lv' := [(0, .ref o), (2, .int x2_8), (3, .int x3), (4, .int x4)]) [1, 0, 2, 3] dX3_count_155 rfl rfl rfl ?_
  obtain ⟨x4_9, hx4_9⟩ : ∃ y : Int32, y = x4 + 1 := ⟨_, rfl⟩
  have w := w x4_9 hx4_9
  refine e_iinc (n := 159) (v := x4_9) (lv' := [(0, .ref o), (2, .int x2_8), (3, .int x3), (4, .int x4_9)]) [1, 2, 3, 0] dX3_count_156 rfl 3 rfl (by rw [hx4_9]; rfl) rfl rfl ?_
  refine e_goto (n := 117) dX3_count_159 (by decide) ?_
  exact hkh _ _ _ _ w
set_option maxHeartbeats 4000000 in
theorem hX3_count_117 {o : Nat} {ad : Nat → Nat} (ok : t_ok o ad) {Q : Int32 → TS → Prop} {k162 : Int32 → Int32 → TS → Prop} (hk162 : ∀ (x2 : Int32) (x3 : Int32) (s : TS), k162 x2 x3 s → E mX3_count 1 0 0 (g_z (t_Ki o ad Q)) 0 0 162 [(0, .ref o), (2, .int x2), (3, .int x3)] [] (t_map o ad s)) : ∀ (n : Nat) (x2 : Int32) (x3 : Int32) (x4 : Int32) (s : TS), wX3_count_117 Q k162 n x2 x3 x4 s → E mX3_count 1 0 0 (g_z (t_Ki o ad Q)) 0 0 117 [(0, .ref o), (2, .int x2), (3, .int x3), (4, .int x4)] [] (t_map o ad s) := by
  intro n
  induction n with
  | zero =>
    intro _ _ _ _ w
    exact w.elim
  | succ n ih =>
    intro x2 x3 x4 s w
    unfold wX3_count_117 at w
    refine e_iload (n := 119) dX3_count_117 rfl 3 rfl ?_
    refine e_aload_n (n := 120) dX3_count_119 rfl 0 rfl ?_
    refine t_getR (n := 123) 11 rfl (by decide) q1345 dX3_count_120 rfl ?_
    refine e_iconst (n := 124) (v := 0) dX3_count_123 rfl (by decide) ?_
    obtain ⟨wi, w⟩ := w
    refine t_iald (n := 125) ok 11 rfl rfl (N := 2) rfl wi dX3_count_124 rfl ?_
    refine e_icmp_ge (n := 128) (tgt := 162) dX3_count_125 rfl (by decide) (fun h => ?_) (fun h => ?_)
    · have w := w.1 h
      refine e_sub (lv' := [(0, .ref o), (2, .int x2), (3, .int x3)]) [0, 1, 2] rfl ?_
      exact hk162 _ _ _ w
    · have w := w.2 h
      refine e_iload_n (n := 129) dX3_count_128 rfl 1 rfl ?_
      refine e_aload_n (n := 130) dX3_count_129 rfl 0 rfl ?_
      refine t_getR (n := 133) 12 rfl (by decide) q1346 dX3_count_130 rfl ?_
      refine e_iconst (n := 134) (v := 4) dX3_count_133 rfl (by decide) ?_
      refine e_iload (n := 136) dX3_count_134 rfl 3 rfl ?_
      refine e_imul (n := 137) dX3_count_136 rfl ?_
      refine e_iconst (n := 138) (v := 2) dX3_count_137 rfl (by decide) ?_
      refine e_iadd (n := 139) dX3_count_138 rfl ?_
      obtain ⟨wi, w⟩ := w
      refine t_iald (n := 140) ok 12 rfl rfl (N := 24) rfl wi dX3_count_139 rfl ?_
      refine e_aload_n (n := 141) dX3_count_140 rfl 0 rfl ?_
      refine t_getR (n := 144) 15 rfl (by decide) q1349 dX3_count_141 rfl ?_
      refine e_iload_n (n := 145) dX3_count_144 rfl 2 rfl ?_
      obtain ⟨wi, w⟩ := w
      refine t_iald (n := 146) ok 15 rfl rfl (N := 11) rfl wi dX3_count_145 rfl ?_
      refine e_icmp_ne (n := 149) (tgt := 153) dX3_count_146 rfl (by decide) (fun h => ?_) (fun h => ?_)
      · have w := w.2 h
        refine e_iconst (n := 154) (v := 0) dX3_count_153 rfl (by decide) ?_
        refine e_sub (lv' := [(0, .ref o), (3, .int x3), (4, .int x4)]) [0, 2, 3] rfl ?_
        exact hX3_count_154 ok ih hk162 _ _ _ _ _ w
      · have w := w.1 h
        refine e_iconst (n := 150) (v := 1) dX3_count_149 rfl (by decide) ?_
        refine e_goto (n := 154) dX3_count_150 (by decide) ?_
        refine e_sub (lv' := [(0, .ref o), (3, .int x3), (4, .int x4)]) [0, 2, 3] rfl ?_
        exact hX3_count_154 ok ih hk162 _ _ _ _ _ w
set_option maxHeartbeats 4000000 in
theorem hX3_count_106 {o : Nat} {ad : Nat → Nat} (ok : t_ok o ad) {Q : Int32 → TS → Prop} {k168 : Int32 → TS → Prop} (hk168 : ∀ (x2 : Int32) (s : TS), k168 x2 s → E mX3_count 1 0 0 (g_z (t_Ki o ad Q)) 0 0 168 [(2, .int x2)] [] (t_map o ad s)) : ∀ (n : Nat) (x2 : Int32) (x3 : Int32) (s : TS), wX3_count_106 Q k168 n x2 x3 s → E mX3_count 1 0 0 (g_z (t_Ki o ad Q)) 0 0 106 [(0, .ref o), (2, .int x2), (3, .int x3)] [] (t_map o ad s) := by
  intro n
  induction n with
  | zero =>
    intro _ _ _ w
    exact w.elim
  | succ n ih =>
    intro x2 x3 s w
    unfold wX3_count_106 at w
    refine e_iload_n (n := 107) dX3_count_106 rfl 2 rfl ?_
    refine e_aload_n (n := 108) dX3_count_107 rfl 0 rfl ?_
    refine t_getI (n := 111) 14 rfl rfl q1348 dX3_count_108 rfl ?_
    refine e_icmp_ge (n := 114) (tgt := 168) dX3_count_111 rfl (by decide) (fun h => ?_) (fun h => ?_)
    · have w := w.1 h
      refine e_sub (lv' := [(2, .int x2)]) [1] rfl ?_
      exact hk168 _ _ w
    · have w := w.2 h
      refine e_iconst (n := 115) (v := 0) dX3_count_114 rfl (by decide) ?_
      refine e_istore (n := 117) (lv' := [(0, .ref o), (2, .int x2), (3, .int x3), (4, .int 0)]) [1, 2, 3, 0] dX3_count_115 rfl rfl rfl ?_
      obtain ⟨fu, w⟩ := w
      refine hX3_count_117 ok (fun x2_4 x3_5 s_6 w => ?_) fu _ _ _ _ w
      obtain ⟨x3_7, hx3_7⟩ : ∃ y : Int32, y = x3_5 + 1 := ⟨_, rfl⟩
      have w := w x3_7 hx3_7
      refine e_iinc (n := 165) (v := x3_7) (lv' := [(0, .ref o), (2, .int x2_4), (3, .int x3_7)]) [1, 2, 0] dX3_count_162 rfl 2 rfl (by rw [hx3_7]; rfl) rfl rfl ?_
      refine e_goto (n := 106) dX3_count_165 (by decide) ?_
      exact ih _ _ _ w
set_option maxHeartbeats 4000000 in
theorem hX3_count_102 {o : Nat} {ad : Nat → Nat} (ok : t_ok o ad) {Q : Int32 → TS → Prop}  (t0 : Int32) (t1 : Int32) (s : TS) (w : wX3_count_102 Q t0 t1 s) : E mX3_count 1 0 0 (g_z (t_Ki o ad Q)) 0 0 102 [(0, .ref o)] [.int t1, .int t0] (t_map o ad s) := by
  unfold wX3_count_102 at w
  refine e_iadd (n := 103) dX3_count_102 rfl ?_
  refine e_topi (fun x2_1 hx2_1 => ?_)
  have w := w x2_1 hx2_1
  refine e_istore_n (n := 104) (lv' := [(0, .ref o), (2, .int x2_1)]) [1, 0] dX3_count_103 rfl rfl rfl ?_
  refine e_iconst (n := 105) (v := 0) dX3_count_104 rfl (by decide) ?_
  refine e_istore_n (n := 106) (lv' := [(0, .ref o), (2, .int x2_1), (3, .int 0)]) [1, 2, 0] dX3_count_105 rfl rfl rfl ?_
  obtain ⟨fu, w⟩ := w
  refine hX3_count_106 ok (fun x2_2 s_3 w => ?_) fu _ _ _ w
  refine e_iload_n (n := 169) dX3_count_168 rfl 0 rfl ?_
  exact e_iret rfl (Nat.le_refl _) (Nat.le_refl _) ⟨_, _, rfl, rfl, w⟩ dX3_count_169
set_option maxHeartbeats 4000000 in
theorem ctX3_count {o : Nat} {ad : Nat → Nat} (ok : t_ok o ad) {Q : Int32 → TS → Prop} {x1 : Int32} {s : TS} (w : wX3_count Q x1 s) : CT mX3_count 1 0 0 [.ref o, .int x1] (t_map o ad s) (t_Ki o ad Q) := by
  refine CT.of (lv := [(0, .ref o), (1, .int x1)]) okX3_count.1 rfl rfl ?_
  unfold wX3_count at w
  refine e_iload_n (n := 1) dX3_count_0 rfl 1 rfl ?_
  by_cases h0 : x1 = 0
  · have w := w.1 h0
    refine e_tableIn (tgt := 44) dX3_count_1 (by rw [h0]; decide) (by rw [h0]; decide) (by rw [h0]; rfl) (by decide) ?_
    refine e_aload_n (n := 45) dX3_count_44 rfl 0 rfl ?_
    refine t_getI (n := 48) 0 rfl rfl q1334 dX3_count_45 rfl ?_
    exact e_iret rfl (Nat.le_refl _) (Nat.le_refl _) ⟨_, _, rfl, rfl, w⟩ dX3_count_48
  · have w := w.2 h0
    by_cases h1 : x1 = 1
    · have w := w.1 h1
      refine e_tableIn (tgt := 49) dX3_count_1 (by rw [h1]; decide) (by rw [h1]; decide) (by rw [h1]; rfl) (by decide) ?_
      refine e_aload_n (n := 50) dX3_count_49 rfl 0 rfl ?_
      refine t_getI (n := 53) 5 rfl rfl q1339 dX3_count_50 rfl ?_
      exact e_iret rfl (Nat.le_refl _) (Nat.le_refl _) ⟨_, _, rfl, rfl, w⟩ dX3_count_53
    · have w := w.2 h1
      by_cases h2 : x1 = 2
      · have w := w.1 h2
        refine e_tableIn (tgt := 54) dX3_count_1 (by rw [h2]; decide) (by rw [h2]; decide) (by rw [h2]; rfl) (by decide) ?_
        refine e_aload_n (n := 55) dX3_count_54 rfl 0 rfl ?_
        refine t_getI (n := 58) 7 rfl rfl q1341 dX3_count_55 rfl ?_
        exact e_iret rfl (Nat.le_refl _) (Nat.le_refl _) ⟨_, _, rfl, rfl, w⟩ dX3_count_58
      · have w := w.2 h2
        by_cases h3 : x1 = 3
        · have w := w.1 h3
          refine e_tableIn (tgt := 59) dX3_count_1 (by rw [h3]; decide) (by rw [h3]; decide) (by rw [h3]; rfl) (by decide) ?_
          refine e_aload_n (n := 60) dX3_count_59 rfl 0 rfl ?_
          refine t_getR (n := 63) 11 rfl (by decide) q1345 dX3_count_60 rfl ?_
          refine e_iconst (n := 64) (v := 0) dX3_count_63 rfl (by decide) ?_
          obtain ⟨wi, w⟩ := w
          refine t_iald (n := 65) ok 11 rfl rfl (N := 2) rfl wi dX3_count_64 rfl ?_
          exact e_iret rfl (Nat.le_refl _) (Nat.le_refl _) ⟨_, _, rfl, rfl, w⟩ dX3_count_65
        · have w := w.2 h3
          by_cases h4 : x1 = 4
          · have w := w.1 h4
            refine e_tableIn (tgt := 66) dX3_count_1 (by rw [h4]; decide) (by rw [h4]; decide) (by rw [h4]; rfl) (by decide) ?_
            refine e_aload_n (n := 67) dX3_count_66 rfl 0 rfl ?_
            refine t_getR (n := 70) 11 rfl (by decide) q1345 dX3_count_67 rfl ?_
            refine e_iconst (n := 71) (v := 1) dX3_count_70 rfl (by decide) ?_
            obtain ⟨wi, w⟩ := w
            refine t_iald (n := 72) ok 11 rfl rfl (N := 2) rfl wi dX3_count_71 rfl ?_
            exact e_iret rfl (Nat.le_refl _) (Nat.le_refl _) ⟨_, _, rfl, rfl, w⟩ dX3_count_72
          · have w := w.2 h4
            by_cases h5 : x1 = 5
            · have w := w.1 h5
              refine e_tableIn (tgt := 73) dX3_count_1 (by rw [h5]; decide) (by rw [h5]; decide) (by rw [h5]; rfl) (by decide) ?_
              refine e_aload_n (n := 74) dX3_count_73 rfl 0 rfl ?_
              refine t_getI (n := 77) 14 rfl rfl q1348 dX3_count_74 rfl ?_
              exact e_iret rfl (Nat.le_refl _) (Nat.le_refl _) ⟨_, _, rfl, rfl, w⟩ dX3_count_77
            · have w := w.2 h5
              by_cases h6 : x1 = 6
              · have w := w.1 h6
                refine e_tableIn (tgt := 78) dX3_count_1 (by rw [h6]; decide) (by rw [h6]; decide) (by rw [h6]; rfl) (by decide) ?_
                refine e_aload_n (n := 79) dX3_count_78 rfl 0 rfl ?_
                refine t_getI (n := 82) 14 rfl rfl q1348 dX3_count_79 rfl ?_
                refine e_iconst (n := 83) (v := 1) dX3_count_82 rfl (by decide) ?_
                refine e_iadd (n := 84) dX3_count_83 rfl ?_
                refine e_aload_n (n := 85) dX3_count_84 rfl 0 rfl ?_
                refine t_getI (n := 88) 14 rfl rfl q1348 dX3_count_85 rfl ?_
                refine e_iconst (n := 89) (v := 1) dX3_count_88 rfl (by decide) ?_
                refine e_icmp_le (n := 92) (tgt := 101) dX3_count_89 rfl (by decide) (fun h => ?_) (fun h => ?_)
                · have w := w.1 h
                  refine e_iconst (n := 102) (v := 0) dX3_count_101 rfl (by decide) ?_
                  refine e_sub (lv' := [(0, .ref o)]) [0] rfl ?_
                  exact hX3_count_102 ok _ _ _ w
                · have w := w.2 h
                  refine e_aload_n (n := 93) dX3_count_92 rfl 0 rfl ?_
                  refine t_getI (n := 96) 14 rfl rfl q1348 dX3_count_93 rfl ?_
                  refine e_iconst (n := 97) (v := 1) dX3_count_96 rfl (by decide) ?_
                  refine e_isub (n := 98) dX3_count_97 rfl ?_
                  refine e_goto (n := 102) dX3_count_98 (by decide) ?_
                  refine e_sub (lv' := [(0, .ref o)]) [0] rfl ?_
                  exact hX3_count_102 ok _ _ _ w
              · have w := w.2 h6
                have g0 : ¬ x1.toInt = 0 := fun z => h0 (Int32.toInt_inj.mp (z.trans (by decide)))
                have g1 : ¬ x1.toInt = 1 := fun z => h1 (Int32.toInt_inj.mp (z.trans (by decide)))
                have g2 : ¬ x1.toInt = 2 := fun z => h2 (Int32.toInt_inj.mp (z.trans (by decide)))
                have g3 : ¬ x1.toInt = 3 := fun z => h3 (Int32.toInt_inj.mp (z.trans (by decide)))
                have g4 : ¬ x1.toInt = 4 := fun z => h4 (Int32.toInt_inj.mp (z.trans (by decide)))
                have g5 : ¬ x1.toInt = 5 := fun z => h5 (Int32.toInt_inj.mp (z.trans (by decide)))
                have g6 : ¬ x1.toInt = 6 := fun z => h6 (Int32.toInt_inj.mp (z.trans (by decide)))
                refine e_tableOut (tgt := 170) dX3_count_1 (by omega) (by decide) ?_
                refine e_iconst (n := 171) (v := (-1)) dX3_count_170 rfl (by decide) ?_
                exact e_iret rfl (Nat.le_refl _) (Nat.le_refl _) ⟨_, _, rfl, rfl, w⟩ dX3_count_171
