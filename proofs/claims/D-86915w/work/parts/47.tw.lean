/-! PLAIN LAW, the twin: its words; which slips may be, their prices -/
set_option maxRecDepth 100000
theorem br_p {c A B : Prop} (h : c) (a : A) : (c → A) ∧ (¬ c → B) := ⟨fun _ => a, fun n => absurd h n⟩
theorem br_n {c A B : Prop} (h : ¬ c) (b : B) : (c → A) ∧ (¬ c → B) := ⟨fun n => absurd n h, fun _ => b⟩
theorem al_eq {α : Type} {e : α} {P : α → Prop} (h : P e) : ∀ y, y = e → P y := fun _ e => e ▸ h
theorem vp_nI {n N : Nat} (h : n < N) (hN : N < 2 ^ 31) : vp_in (nI n) N := pk_in n N h rfl hN
/-- all but the fields L stays -/
def tfr (L : List Nat) (s s' : TS) : Prop := ∀ k, k ∉ L → s'.1 k = s.1 k ∧ s'.2.1 k = s.2.1 k ∧ s'.2.2 k = s.2.2 k
theorem tfr.rf {L : List Nat} {s : TS} : tfr L s s := fun _ _ => ⟨rfl, rfl, rfl⟩
theorem tfr.tr {L : List Nat} {s s1 s2 : TS} (h : tfr L s s1) (g : tfr L s1 s2) : tfr L s s2 := fun k hk => ⟨(g k hk).1.trans (h k hk).1, (g k hk).2.1.trans (h k hk).2.1, (g k hk).2.2.trans (h k hk).2.2⟩
theorem tfr.sub {L L' : List Nat} {s s' : TS} (h : tfr L s s') (g : ∀ k ∈ L, k ∈ L') : tfr L' s s' := fun k hk => h k (fun z => hk (g k z))
theorem tfr.I {L : List Nat} {s s' : TS} (h : tfr L s s') {k : Nat} (hk : k ∈ L) (v : Int32) : tfr L s (tI s' k v) := fun j hj => by
  have : j ≠ k := fun e => hj (e ▸ hk)
  exact ⟨by show va_up s'.1 k v j = _; rw [va_up_ne _ _ this]; exact (h j hj).1, (h j hj).2⟩
theorem tfr.A {L : List Nat} {s s' : TS} (h : tfr L s s') {k : Nat} (hk : k ∈ L) (i : Nat) (v : Int32) : tfr L s (tA s' k i v) := fun j hj => by
  have : j ≠ k := fun e => hj (e ▸ hk)
  exact ⟨(h j hj).1, by show va_up s'.2.1 k _ j = _; rw [va_up_ne _ _ this]; exact (h j hj).2.1, (h j hj).2.2⟩
theorem tfr.L {L : List Nat} {s s' : TS} (h : tfr L s s') {k : Nat} (hk : k ∈ L) (i : Nat) (v : Int64) : tfr L s (tL s' k i v) := fun j hj => by
  have : j ≠ k := fun e => hj (e ▸ hk)
  exact ⟨(h j hj).1, (h j hj).2.1, by show va_up s'.2.2 k _ j = _; rw [va_up_ne _ _ this]; exact (h j hj).2.2⟩
theorem tfr.i {L : List Nat} {s s' : TS} (h : tfr L s s') (k : Nat) (hk : k ∉ L := by decide) : s'.1 k = s.1 k := (h k hk).1
theorem tfr.a {L : List Nat} {s s' : TS} (h : tfr L s s') (k : Nat) (hk : k ∉ L := by decide) : s'.2.1 k = s.2.1 k := (h k hk).2.1
theorem tfr.l {L : List Nat} {s s' : TS} (h : tfr L s s') (k : Nat) (hk : k ∉ L := by decide) : s'.2.2 k = s.2.2 k := (h k hk).2.2
theorem tI_i (s : TS) (k : Nat) (v : Int32) : (tI s k v).1 k = v := va_up_self _ _ _
theorem tI_ne (s : TS) {k j : Nat} (v : Int32) (h : j ≠ k) : (tI s k v).1 j = s.1 j := va_up_ne _ _ h
theorem tA_a (s : TS) (k i : Nat) (v : Int32) : (tA s k i v).2.1 k = va_up (s.2.1 k) i v := va_up_self _ _ _
theorem tA_ne (s : TS) {k j : Nat} (i : Nat) (v : Int32) (h : j ≠ k) : (tA s k i v).2.1 j = s.2.1 j := va_up_ne _ _ h
theorem tL_a (s : TS) (k i : Nat) (v : Int64) : (tL s k i v).2.2 k = va_up (s.2.2 k) i v := va_up_self _ _ _
theorem tL_ne (s : TS) {k j : Nat} (i : Nat) (v : Int64) (h : j ≠ k) : (tL s k i v).2.2 j = s.2.2 j := va_up_ne _ _ h
/-- the configuration as the twin's state has it -/
def tC (C : Cf) (s : TS) : Prop := (∀ k, k ∈ [0, 3, 4, 5, 6, 7, 13, 18, 19, 33, 34, 36, 37] → s.1 k = nI (C.1 k) ∧ C.1 k < 1000000) ∧ (((s.1 35 = nI (C.1 35) ∨ (s.1 35 = -4 ∧ C.1 35 = 0)) ∧ C.1 35 < 1000000) ∧
  (∀ t, t < C.1 0 → s.2.1 1 t = nI (C.2 1 t) ∧ C.2 1 t < 2) ∧ (∀ w t, w < 3 → t < C.1 0 → s.2.1 2 (12 * w + t) = nI (C.2 2 (12 * w + t))) ∧ (∀ r, r < C.1 7 → s.2.1 8 r = nI (C.2 8 r) ∧ s.2.1 9 r = nI (C.2 9 r) ∧ ∀ j, j < C.2 9 r → s.2.1 10 (3 * r + j) = nI (C.2 10 (3 * r + j))) ∧
  (∀ w, w < 2 → s.2.1 11 w = nI (C.2 11 w) ∧ ∀ f j, f < C.2 11 w → j < 4 → s.2.1 12 (12 * w + 4 * f + j) = nI (C.2 12 (12 * w + 4 * f + j))) ∧ (∀ i, i < C.1 34 → s.2.1 15 i = nI (C.2 15 i)))
theorem tC.mv {C : Cf} {s s' : TS} {L : List Nat} (h : tC C s) (m : tfr L s s') (hL : ∀ k ∈ [0, 3, 4, 5, 6, 7, 13, 18, 19, 33, 34, 36, 37, 35, 1, 2, 8, 9, 10, 11, 12, 15], k ∉ L) : tC C s' := by
  obtain ⟨h1, h2, h3, h4, h5, h6, h7⟩ := h
  refine ⟨fun k hk => ?_, ?_, ?_, ?_, ?_, ?_, ?_⟩
  · rw [(m k (hL k (by simp only [List.mem_cons, List.not_mem_nil, or_false] at hk ⊢; omega))).1]; exact h1 k hk
  · rw [(m 35 (hL 35 (by decide))).1]; exact h2
  · rw [(m 1 (hL 1 (by decide))).2.1]; exact h3
  · rw [(m 2 (hL 2 (by decide))).2.1]; exact h4
  · rw [(m 8 (hL 8 (by decide))).2.1, (m 9 (hL 9 (by decide))).2.1, (m 10 (hL 10 (by decide))).2.1]; exact h5
  · rw [(m 11 (hL 11 (by decide))).2.1, (m 12 (hL 12 (by decide))).2.1]; exact h6
  · rw [(m 15 (hL 15 (by decide))).2.1]; exact h7
theorem tC.i {C : Cf} {s : TS} (h : tC C s) (k : Nat) (hk : k ∈ [0, 3, 4, 5, 6, 7, 13, 18, 19, 33, 34, 36, 37] := by decide) : s.1 k = nI (C.1 k) := (h.1 k hk).1
theorem tC.b {C : Cf} {s : TS} (h : tC C s) (k : Nat) (hk : k ∈ [0, 3, 4, 5, 6, 7, 13, 18, 19, 33, 34, 36, 37] := by decide) : C.1 k < 1000000 := (h.1 k hk).2
theorem tC.fe {C : Cf} {s : TS} (h : tC C s) {t : Nat} (ht : t < C.1 0) : s.2.1 1 t = nI (C.2 1 t) := (h.2.2.1 t ht).1
theorem tC.pr {C : Cf} {s : TS} (h : tC C s) {w t : Nat} (hw : w < 3) (ht : t < C.1 0) : s.2.1 2 (12 * w + t) = nI (C.2 2 (12 * w + t)) := h.2.2.2.1 w t hw ht
theorem tC.tx {C : Cf} {s : TS} (h : tC C s) {i : Nat} (hi : i < C.1 34) : s.2.1 15 i = nI (C.2 15 i) := h.2.2.2.2.2.2 i hi
theorem tC.fn {C : Cf} {s : TS} (h : tC C s) {w : Nat} (hw : w < 2) : s.2.1 11 w = nI (C.2 11 w) := (h.2.2.2.2.2.1 w hw).1
theorem tC.fo {C : Cf} {s : TS} (h : tC C s) {w f j : Nat} (hw : w < 2) (hf : f < C.2 11 w) (hj : j < 4) : s.2.1 12 (12 * w + 4 * f + j) = nI (C.2 12 (12 * w + 4 * f + j)) := (h.2.2.2.2.2.1 w hw).2 f j hf hj
theorem tC.rn {C : Cf} {s : TS} (h : tC C s) {r : Nat} (hr : r < C.1 7) : s.2.1 8 r = nI (C.2 8 r) := (h.2.2.2.2.1 r hr).1
theorem tC.rm {C : Cf} {s : TS} (h : tC C s) {r : Nat} (hr : r < C.1 7) : s.2.1 9 r = nI (C.2 9 r) := (h.2.2.2.2.1 r hr).2.1
theorem tC.ys {C : Cf} {s : TS} (h : tC C s) {r j : Nat} (hr : r < C.1 7) (hj : j < C.2 9 r) : s.2.1 10 (3 * r + j) = nI (C.2 10 (3 * r + j)) := (h.2.2.2.2.1 r hr).2.2 j hj
theorem bool_f {b : Bool} (h : ¬ b = true) : b = false := by cases b with
  | false => rfl
  | true => exact absurd rfl h
section TWA
variable {C : Cf} {s : TS}
theorem tw_fen {Q : Int32 → TS → Prop} (ok : z_ok C) (h : tC C s) {t : Nat} (ht : t < C.1 0) (q0 : z_fen C t = false → Q 0 s) (q1 : z_fen C t = true → Q 1 s) : wX3_isFenced Q (nI t) s := by
  have o := ok.1
  unfold wX3_isFenced
  rw [h.i 13, nI_clamp (by omega), h.fe ht]
  refine pk_eq (C.1 13) 0 (fun e => q0 ?_) (fun e => ⟨vp_nI (by omega) (by decide), pk_eq (C.2 1 t) 0 (fun e2 => q0 ?_) (fun e2 => q1 ?_) rfl nI_0.symm (by have := (h.2.2.1 t ht).2; omega) (by decide)⟩) rfl nI_0.symm (by have := h.b 13; omega) (by decide)
  · unfold z_fen; rw [e]; rfl
  · unfold z_fen; rw [e2]; simp
  · unfold z_fen; simp [e, e2]
theorem tw_may {Q : Int32 → TS → Prop} (ok : z_ok C) (h : tC C s) {k i m w : Nat} (hk : 1 ≤ k) (hk2 : k < 100) (hw : w < 1000) (hm : i + m ≤ C.1 34) (q0 : z_may C k i m w = false → Q 0 s) (q1 : z_may C k i m w = true → Q 1 s) : wX3_mayBe Q (nI k) (nI i) (nI m) (nI w) s := by
  have o := ok.1
  have b33 := h.b 33
  have b36 := h.b 36
  have b37 := h.b 37
  have no : ¬ (z_pl C = false ∧ z_out C k i w = false ∧ (∀ d, d < m → z_fen C (C.2 15 (i + d)) = false) ∧ z_rg C i (i + m) = true) → Q 0 s := fun n => q0 (bool_f (fun z => n (z_may_iff.mp z)))
  unfold wX3_mayBe
  rw [h.i 33]
  refine pk_eq (C.1 33) 2 (fun e => no ?_) (fun e => ?_) rfl rfl (by omega) (by decide)
  · intro z; have := z.1; unfold z_pl at this; simp [e] at this
  refine pk_eq (C.1 33) 4 (fun e => no ?_) (fun e' => ?_) rfl rfl (by omega) (by decide)
  · intro z; have := z.1; unfold z_pl at this; simp [e] at this
  have pl : z_pl C = false := by unfold z_pl; simp [e, e']
  have body : z_out C k i w = false → wX3_mayBe_43 Q (nI i) (nI m) s := by
    intro ho
    unfold wX3_mayBe_43
    refine pk_loop (σ := Int32 × TS) (fun n j σ => wX3_mayBe_49 Q _ n (nI i) (nI m) σ.1 (nI j) σ.2) (fun j σ => i ≤ j ∧ σ.2 = s ∧ ((σ.1 = 1 ∧ ∀ d, i + d < j → z_fen C (C.2 15 (i + d)) = false) ∨ (σ.1 = 0 ∧ ∃ d, i + d < j ∧ d < m ∧ z_fen C (C.2 15 (i + d)) = true))) (i + m) i (1, s) (by omega) ⟨Nat.le_refl _, rfl, Or.inl ⟨rfl, fun d hd => by omega⟩⟩ ?_ ?_
    · rintro n ⟨f, s'⟩ ⟨-, rfl, hI⟩
      simp only [wX3_mayBe_49]
      rw [nI_add]
      refine br_p (nI_le (Nat.le_refl _) (by omega)) ?_
      rcases hI with ⟨rfl, hI⟩ | ⟨rfl, d, hd, hdm, hI⟩
      · refine br_n (by decide) ?_
        rw [h.i 33, h.i 18, h.i 19]
        have b18 := h.b 18
        have b19 := h.b 19
        refine pk_eq (C.1 33) 1 (fun e1 => ?_) (fun e1 => ?_) rfl rfl (by omega) (by decide)
        · refine pk_lt i (C.1 18) (fun e2 => no ?_) (fun e2 => ?_) rfl rfl (by omega) (by omega)
          · intro z; have := (z_rg_iff.mp z.2.2.2) e1; omega
          · refine pk_lt (C.1 19) (i + m) (fun e3 => no ?_) (fun e3 => q1 ?_) rfl rfl (by omega) (by omega)
            · intro z; have := (z_rg_iff.mp z.2.2.2) e1; omega
            · exact z_may_iff.mpr ⟨pl, ho, fun d hd => hI d (by omega), z_rg_iff.mpr (fun _ => ⟨e2, e3⟩)⟩
        · exact q1 (z_may_iff.mpr ⟨pl, ho, fun d hd => hI d (by omega), z_rg_iff.mpr (fun z => absurd z e1)⟩)
      · refine br_p rfl (no ?_)
        intro z
        rw [z.2.2.1 d hdm] at hI
        cases hI
    · rintro n j ⟨f, s'⟩ hj ⟨hij, rfl, hI⟩ hs
      simp only [wX3_mayBe_49]
      rw [nI_add]
      refine br_n (nI_ge hj (by omega)) ?_
      rcases hI with ⟨rfl, hI⟩ | ⟨rfl, d, hd, hdm, hI⟩
      · refine br_n (by decide) ⟨vp_nI (by omega) (by decide), ?_⟩
        rw [nI_clamp (by omega)]
        obtain ⟨d, rfl⟩ : ∃ d, j = i + d := ⟨j - i, by omega⟩
        rw [h.tx (by omega)]
        refine tw_fen ok h (ok.2.2.2.1 _ (by omega)) (fun hf => ?_) (fun hf => ?_)
        · refine br_p rfl ?_
          unfold wX3_mayBe_81
          rw [nI_1]
          refine al_eq (hs (1, s') ⟨by omega, rfl, Or.inl ⟨rfl, fun d' hd' => ?_⟩⟩)
          by_cases e9 : d' = d
          · rw [e9]; exact hf
          · exact hI d' (by omega)
        · refine br_n (by decide) ?_
          unfold wX3_mayBe_80 wX3_mayBe_81
          rw [nI_1]
          exact al_eq (hs (0, s') ⟨by omega, rfl, Or.inr ⟨rfl, d, by omega, by omega, hf⟩⟩)
      · refine br_p rfl ?_
        unfold wX3_mayBe_80 wX3_mayBe_81
        rw [nI_1]
        exact al_eq (hs (0, s') ⟨by omega, rfl, Or.inr ⟨rfl, d, by omega, hdm, hI⟩⟩)
  rw [h.i 36, h.i 37]
  have o35 := h.2.1
  have ho : ∀ hne : ¬ (k = C.1 35 ∧ i = C.1 36 ∧ w = C.1 37), wX3_mayBe_43 Q (nI i) (nI m) s := fun hne => body (bool_f (fun z => hne (z_out_iff.mp z)))
  have e35 : nI k = s.1 35 ↔ k = C.1 35 := by
    rcases o35.1 with e5 | ⟨e5, e6⟩
    · rw [e5]; exact nI_eq (by omega) (by omega)
    · rw [e5, e6]
      refine ⟨fun z => absurd z ?_, fun z => by omega⟩
      intro z
      have := congrArg Int32.toInt z
      rw [nI_toInt (by omega)] at this
      have h4 : (-4 : Int32).toInt = -4 := by decide
      omega
  by_cases e1 : k = C.1 35
  · refine br_p (e35.mpr e1) ?_
    refine pk_eq i (C.1 36) (fun e2 => ?_) (fun e2 => ho (by omega)) rfl rfl (by omega) (by omega)
    refine pk_eq w (C.1 37) (fun e3 => no ?_) (fun e3 => ho (by omega)) rfl rfl (by omega) (by omega)
    intro z
    rw [z_out_iff.mpr ⟨e1, e2, e3⟩] at z
    exact absurd z.2.1 (by decide)
  · exact br_n (fun z => e1 (e35.mp z)) (ho (by omega))
theorem tw_skipPrice {Q : Int32 → TS → Prop} (ok : z_ok C) (h : tC C s) {i m : Nat} (h1 : 1 ≤ m) (hm : i + m ≤ C.1 34) (q : Q (nI (z_sp C i m)) s) : wX3_skipPrice Q (nI i) (nI m) s := by
  have o := ok.1
  have o3 := ok.2.2.1
  have key : ∀ k w, (k = if m = 1 then 6 else 7) → (w = if m = 1 then 0 else m) → wX3_skipPrice_25 Q (nI k) (nI i) (nI m) (nI w) (nI i) (nI m) s := by
    intro k w hk hw
    unfold wX3_skipPrice_25
    have k8 : 1 ≤ k ∧ k < 100 := by
      by_cases e : m = 1
      · rw [if_pos e] at hk; omega
      · rw [if_neg e] at hk; omega
    have w8 : w < 1000 := by
      by_cases e : m = 1
      · rw [if_pos e] at hw; omega
      · rw [if_neg e] at hw; omega
    refine tw_may ok h k8.1 k8.2 w8 hm (fun e => br_p rfl ?_) (fun e => br_n (by decide) ?_)
    · have : z_sp C i m = 1000000000 := by unfold z_sp; rw [← hk, ← hw, e]; simp
      rw [this] at q
      exact q
    · have e2 : z_sp C i m = if m = 1 then C.2 2 (12 + C.2 15 i) else C.1 4 + m := by unfold z_sp; rw [← hk, ← hw, if_pos e]
      rw [e2] at q
      refine pk_eq m 1 (fun e3 => ?_) (fun e3 => ?_) rfl rfl (by omega) (by decide)
      · rw [if_pos e3] at q
        have ht := ok.2.2.2.1 i (by omega)
        rw [nI_clamp (by omega), h.tx (by omega), show (12 : Int32) = nI 12 from rfl, nI_add, nI_clamp (by omega)]
        refine ⟨vp_nI (by omega) (by decide), vp_nI (by omega) (by decide), ?_⟩
        have := h.pr (w := 1) (t := C.2 15 i) (by decide) ht
        rw [show 12 * 1 + C.2 15 i = 12 + C.2 15 i by omega] at this
        rw [this]
        exact q
      · rw [if_neg e3] at q
        rw [h.i 4, nI_add]
        exact q
  unfold wX3_skipPrice wX3_skipPrice_13
  refine pk_eq m 1 (fun e => ?_) (fun e => ?_) rfl rfl (by omega) (by decide)
  · refine br_p (by rw [e]; rfl) ?_
    exact key 6 0 (by rw [if_pos e]) (by rw [if_pos e])
  · refine br_n (fun z => e ((nI_eq (b := 1) (by omega) (by decide)).mp z)) ?_
    exact key 7 m (by rw [if_neg e]) (by rw [if_neg e])
theorem tw_lostPrice {Q : Int32 → TS → Prop} (ok : z_ok C) (h : tC C s) {i t : Nat} (hi : i ≤ C.1 34) (ht : t < C.1 0) (q : Q (nI (z_lp C i t)) s) : wX3_lostPrice Q (nI i) (nI t) s := by
  have o := ok.1
  have b33 := h.b 33
  have b36 := h.b 36
  have b37 := h.b 37
  have b18 := h.b 18
  have b19 := h.b 19
  unfold wX3_lostPrice
  rw [h.i 34, h.i 33]
  have rest : ¬ (i = C.1 34 ∧ 1 < C.1 33) → wX3_lostPrice_30 Q (nI i) (nI t) s := by
    intro hne
    have e1 : z_lp C i t = if (!z_pl C && !z_fen C t && (z_rg C i i && !z_out C 1 i t)) = true then C.2 2 t else 1000000000 := by unfold z_lp; rw [if_neg hne]
    rw [e1] at q
    have q0 : ¬ (z_pl C = false ∧ z_fen C t = false ∧ z_rg C i i = true ∧ z_out C 1 i t = false) → wX3_lostPrice_118 Q (nI t) s := by
      intro hn
      unfold wX3_lostPrice_118 wX3_lostPrice_119
      refine br_p rfl ?_
      rw [if_neg (fun z => hn (by simpa [and_assoc] using z))] at q
      exact q
    have q1 : (z_pl C = false ∧ z_fen C t = false ∧ z_rg C i i = true ∧ z_out C 1 i t = false) → wX3_lostPrice_114 Q (nI t) s := by
      intro hn
      unfold wX3_lostPrice_114 wX3_lostPrice_119
      refine br_n (by decide) ⟨vp_nI (by omega) (by decide), ?_⟩
      rw [if_pos (by simp [hn])] at q
      rw [nI_clamp (by omega)]
      have := h.pr (w := 0) (t := t) (by decide) ht
      rw [show 12 * 0 + t = t by omega] at this
      rw [this]
      exact q
    have b51 : z_pl C = false → wX3_lostPrice_46 Q (nI i) (nI t) s := by
      intro pl
      unfold wX3_lostPrice_46 wX3_lostPrice_51
      refine br_n (by decide) ?_
      refine tw_fen ok h ht (fun hf => br_p rfl ?_) (fun hf => br_n (by decide) (q0 (fun z => by rw [hf] at z; exact absurd z.2.1 (by decide))))
      have b90 : z_rg C i i = true → wX3_lostPrice_90 Q (nI i) (nI t) s := by
        intro rg
        unfold wX3_lostPrice_90
        rw [h.i 36, h.i 37]
        have e35 : s.1 35 = 1 ↔ 1 = C.1 35 := by
          rcases h.2.1.1 with e5 | ⟨e5, e6⟩
          · rw [e5]
            have := nI_eq (a := C.1 35) (b := 1) (by have := h.2.1.2; omega) (by decide)
            exact ⟨fun z => (this.mp z).symm, fun z => this.mpr z.symm⟩
          · rw [e5, e6]
            exact ⟨fun z => absurd z (by decide), fun z => by omega⟩
        by_cases e1 : 1 = C.1 35
        · refine br_p (e35.mpr e1) ?_
          refine pk_eq (C.1 36) i (fun e2 => ?_) (fun e2 => q1 ⟨pl, hf, rg, bool_f (fun z => e2 (z_out_iff.mp z).2.1.symm)⟩) rfl rfl (by omega) (by omega)
          refine pk_eq (C.1 37) t (fun e3 => q0 ?_) (fun e3 => q1 ⟨pl, hf, rg, bool_f (fun z => e3 (z_out_iff.mp z).2.2.symm)⟩) rfl rfl (by omega) (by omega)
          intro z
          rw [z_out_iff.mpr ⟨e1, e2.symm, e3.symm⟩] at z
          exact absurd z.2.2.2 (by decide)
        · exact br_n (fun z => e1 (e35.mp z)) (q1 ⟨pl, hf, rg, bool_f (fun z => e1 (z_out_iff.mp z).1)⟩)
      rw [h.i 33, h.i 18, h.i 19]
      refine pk_eq (C.1 33) 1 (fun e2 => ?_) (fun e2 => b90 (z_rg_iff.mpr (fun z => absurd z e2))) rfl rfl (by omega) (by decide)
      refine in_any3 (fun hin => br_n (by decide) (b90 ?_)) (fun hin => br_p rfl (q0 ?_))
      · rw [Int64.le_iff_toInt_le, Int64.le_iff_toInt_le, Int32.toInt_toInt64, Int32.toInt_toInt64, Int32.toInt_toInt64, nI_toInt (by omega), nI_toInt (by omega), nI_toInt (by omega)] at hin
        exact z_rg_iff.mpr (fun _ => by omega)
      · rw [Int64.le_iff_toInt_le, Int64.le_iff_toInt_le, Int32.toInt_toInt64, Int32.toInt_toInt64, Int32.toInt_toInt64, nI_toInt (by omega), nI_toInt (by omega), nI_toInt (by omega)] at hin
        intro z
        have := z_rg_iff.mp z.2.2.1 e2
        omega
    unfold wX3_lostPrice_30
    rw [h.i 33]
    refine pk_lt (C.1 33) 2 (fun e2 => b51 ?_) (fun e2 => ?_) rfl rfl (by omega) (by decide)
    · unfold z_pl; rw [show (C.1 33 == 2) = false by simp; omega, show (C.1 33 == 4) = false by simp; omega]; rfl
    refine pk_eq (C.1 33) 3 (fun e3 => b51 ?_) (fun e3 => ?_) rfl rfl (by omega) (by decide)
    · unfold z_pl; rw [e3]; rfl
    · unfold wX3_lostPrice_51
      refine br_p rfl (q0 (fun z => ?_))
      have : z_pl C = true := by
        have : C.1 33 = 2 ∨ C.1 33 = 4 := by omega
        unfold z_pl
        rcases this with e | e <;> rw [e] <;> rfl
      rw [this] at z
      exact absurd z.1 (by decide)
  refine pk_eq i (C.1 34) (fun e => ?_) (fun e => rest (by omega)) rfl rfl (by omega) (by omega)
  refine pk_le (C.1 33) 1 (fun e2 => rest (by omega)) (fun e2 => ?_) rfl rfl (by omega) (by decide)
  have e1 : z_lp C i t = if C.1 33 = 2 then 1 else 0 := by unfold z_lp; rw [if_pos ⟨e, e2⟩]
  rw [e1] at q
  refine pk_eq (C.1 33) 2 (fun e3 => ?_) (fun e3 => ?_) rfl rfl (by omega) (by decide)
  · rw [if_pos e3] at q; exact q
  · rw [if_neg e3] at q; rw [nI_0] at q; exact q
end TWA
