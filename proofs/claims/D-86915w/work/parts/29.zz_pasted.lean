/-! MendReader.pasted: it may throw; its walk by hand -/
set_option maxRecDepth 100000
abbrev mX0_pasted : gM := (yX0_pasted, cX0_pasted, 5, some .int)
theorem okX0_pasted : g_ok mX0_pasted 3 := ⟨by decide +kernel, by decide +kernel, by decide +kernel, by decide +kernel, by decide⟩
/-- what pasted does with the row at a (N places), the place x2 and the length x3; Th: what is left when it throws -/
def wX0_pasted (Q : Int32 → gH → Prop) (Th : String → gH → Prop) (mc ms : Nat) (x0 : Nat) (x1 : Option Nat) (x2 : Int32) (x3 : Int32) (σ : gH) : Prop :=
  c_nul x1 0 0 mc ms (fun a => ∃ (N : Nat) (f : Nat → Int32), σ.2 a = some (.inl (0, N, .inl f)) ∧ N < 2147483648 ∧ (0 : Int32) ≤ nI N ∧ (x3 < 0 → 3 ≤ mc ∧ 54 ≤ ms ∧ Th "java/lang/NegativeArraySizeException" σ) ∧
    (¬ x3 < 0 → 1 ≤ mc ∧ x3.toNatClampNeg ≤ ms ∧ x3.toNatClampNeg * 4 ≤ 536870912 ∧ c_new σ (.inl (0, x3.toNatClampNeg, .inl (fun _ => 0))) (fun q σ1 => ((x2 < 0 ∨ (N : Int) < x2.toInt + x3.toInt) → 4 ≤ mc ∧ x3.toNatClampNeg + 410 ≤ ms ∧ Th "java/lang/ArrayIndexOutOfBoundsException" σ1) ∧
      (¬ (x2 < 0 ∨ (N : Int) < x2.toInt + x3.toInt) → ∀ σ2, σ2 = g_up σ1 q (.inl (0, x3.toNatClampNeg, .inl (va_cpy f (fun _ => 0) x2.toNatClampNeg 0 x3.toNatClampNeg))) → c_P σ2 [0] x0 11 (va_rf (some q)) (fun σ3 => c_P σ3 [0] x0 12 (.int 1) (fun σ4 => Q x3 σ4))))))
    (Th "java/lang/NullPointerException" σ)
set_option maxHeartbeats 4000000 in
theorem ctX0_pasted {Q : Int32 → gH → Prop} {Th : String → gH → Prop} {mc ms : Nat} {x0 : Nat} {x1 : Option Nat} {x2 : Int32} {x3 : Int32} {σ : gH} (w : wX0_pasted Q Th mc ms x0 x1 x2 x3 σ) : CTX mX0_pasted 300 mc ms [.ref x0, va_rf x1, .int x2, .int x3] σ (c_Ki Q) Th := by
  refine CTX.of (lv := [(0, .ref x0), (1, va_rf x1), (2, .int x2), (3, .int x3)]) okX0_pasted.1 (by cases x1 <;> rfl) (by cases x1 <;> rfl) ?_
  unfold wX0_pasted at w
  refine e_aloadr_n (n := 1) (r := x1) dX0_pasted_0 rfl 1 rfl ?_
  obtain ⟨w8, w9⟩ := w
  rcases x1 with _ | a
  · obtain ⟨hu1, hu2, w⟩ := w8 rfl
    exact e_throwN q1302 (rs_alenN dX0_pasted_1) hu1 hu2 (by decide) (by decide) w
  obtain ⟨N, f, hN, hN2, hpos, w1, w2⟩ := w9 a rfl
  refine e_alen (n := 2) (t := 0) (ty := .int) (fun _ => rfl) hN dX0_pasted_1 rfl ?_
  refine e_if_ge (n := 5) (tgt := 9) dX0_pasted_2 rfl (by decide) (fun h => ?_) (fun h => absurd hpos h)
  refine e_iload_n (n := 10) dX0_pasted_9 rfl 3 rfl ?_
  by_cases h3 : x3 < 0
  · obtain ⟨hu1, hu2, w⟩ := w1 h3
    exact e_throwM (names := ["java/lang/RuntimeException", "java/lang/Exception"]) (fun a b => g_atZ a b) (by decide) (by decide) rfl rfl (by decide) (by decide) q1302 (rs_neg h3 dX0_pasted_10) (by omega) (by omega) (by decide) (by decide) w
  obtain ⟨hu1, hu2, hb, w⟩ := w2 h3
  have w' : c_new σ (.inl (0, x3.toNatClampNeg, .inl (fun _ => 0))) (fun q σ1 => (σ.2 q = none ∧ σ1 = g_up σ q (.inl (0, x3.toNatClampNeg, .inl (fun _ => 0)))) ∧ _) := fun q σ1 h1 h2 => ⟨⟨h1, h2⟩, w q σ1 h1 h2⟩
  refine e_cnewI (n := 12) (z := x3) w' h3 hb (by omega) (by omega) dX0_pasted_10 rfl (fun q σ1 w => ?_)
  obtain ⟨⟨hq, hσ⟩, w⟩ := w
  have hne : ¬ a = q := fun z => by rw [z, hq] at hN; cases hN
  have ha : σ1.2 a = some (.inl (0, N, .inl f)) := by
    rw [hσ]
    show va_up σ.2 q _ a = _
    rw [va_up_ne _ _ hne]
    exact hN
  have hqq : σ1.2 q = some (.inl (0, x3.toNatClampNeg, .inl (fun _ => 0))) := by
    rw [hσ]
    show va_up σ.2 q _ q = _
    rw [va_up_self]
  refine e_astore (n := 14) (lv' := [(0, .ref x0), (1, .ref a), (2, .int x2), (3, .int x3), (4, .ref q)]) [1, 2, 3, 4, 0] dX0_pasted_12 rfl rfl rfl ?_
  refine e_aload_n (n := 15) dX0_pasted_14 rfl 1 rfl ?_
  refine e_iload_n (n := 16) dX0_pasted_15 rfl 2 rfl ?_
  refine e_aload (n := 18) dX0_pasted_16 rfl 4 rfl ?_
  refine e_iconst (n := 19) (v := 0) dX0_pasted_18 rfl (by decide) ?_
  refine e_iload_n (n := 20) dX0_pasted_19 rfl 3 rfl ?_
  by_cases hbad : x2 < 0 ∨ (N : Int) < x2.toInt + x3.toInt
  · obtain ⟨hu3, hu4, w⟩ := w.1 hbad
    exact e_throwC q1302 q477 q397 q396 q68 ha hqq (by decide) h3 hN2 hbad dX0_pasted_20 (by omega) (by omega) (by decide) (by decide) w
  have w := w.2 hbad
  have h2 : ¬ x2 < 0 := fun z => hbad (Or.inl z)
  have hle : x2.toNatClampNeg + x3.toNatClampNeg ≤ N := by
    have e2 : ¬ x2.toInt < 0 := fun z => h2 (Int32.lt_iff_toInt_lt.mpr z)
    have e3 : ¬ x3.toInt < 0 := fun z => h3 (Int32.lt_iff_toInt_lt.mpr z)
    have e4 : ¬ (N : Int) < x2.toInt + x3.toInt := fun z => hbad (Or.inr z)
    show x2.toInt.toNat + x3.toInt.toNat ≤ N
    omega
  refine e_copyi (n := 23) q477 q397 q396 q68 ha hqq h2 (by decide) h3 hle (by show 0 + _ ≤ _; omega) (by decide) rfl dX0_pasted_20 rfl ?_
  refine e_ret ?_
  have w := w _ rfl
  refine e_aload_n (n := 24) dX0_pasted_23 rfl 0 rfl ?_
  refine e_aload (n := 26) dX0_pasted_24 rfl 4 rfl ?_
  refine e_cP (n := 29) (ty := (.array .int)) w tyX0 tyX0_ok nmX0 in_X0 rfl rfl (gl_o q194) rfl rfl (rf_narA _ (some q)) dX0_pasted_26 rfl (fun σ3 w => ?_)
  refine e_aload_n (n := 30) dX0_pasted_29 rfl 0 rfl ?_
  refine e_iconst (n := 31) (v := 1) dX0_pasted_30 rfl (by decide) ?_
  refine e_cP (n := 34) (ty := .boolean) w tyX0 tyX0_ok nmX0 in_X0 rfl rfl (gl_o q195) rfl rfl ⟨by decide, by decide⟩ dX0_pasted_31 rfl (fun σ4 w => ?_)
  refine e_iload_n (n := 35) dX0_pasted_34 rfl 3 rfl ?_
  exact e_iret rfl (by omega) (by omega) ⟨_, rfl, w⟩ dX0_pasted_35
