/-! PLAIN LAW: the knots, and the twin's rows of them -/
set_option maxRecDepth 100000
/-- the knots of place i -/
def z_kf1 (C : Cf) (pl : Bool) (i F : Nat) : List Nat := ((List.range F).filter (fun f => decide (i < C.1 34 ∧ pl = false ∧ C.2 12 (4 * f + 2) = C.2 15 i))).map (fun f => 5 * i + 2 + f)
def z_kt (C : Cf) (pl : Bool) (i : Nat) : List Nat := if i + 1 < C.1 34 ∧ pl = false then [5 * i + 1] else []
def z_kp (C : Cf) (pl : Bool) : Nat → List Nat
  | 0 => []
  | i + 1 => z_kp C pl i ++ [5 * i] ++ z_kt C pl i ++ z_kf1 C pl i (C.2 11 0)
def z_kl (C : Cf) (pl : Bool) : List Nat := z_kp C pl (C.1 34 + 1)
def z_at (L : List Nat) (p : Nat) : Nat := (L[p]?).getD 0
theorem z_at_app {L : List Nat} {l p : Nat} (h : p < L.length) : z_at (L ++ [l]) p = z_at L p := by unfold z_at; rw [List.getElem?_append_left h]
theorem z_at_appR {L M : List Nat} {p : Nat} (h : p < L.length) : z_at (L ++ M) p = z_at L p := by unfold z_at; rw [List.getElem?_append_left h]
theorem z_at_new {L : List Nat} {l : Nat} : z_at (L ++ [l]) L.length = l := by unfold z_at; simp
theorem z_at_mem {L : List Nat} {p : Nat} (h : p < L.length) : z_at L p ∈ L := by
  unfold z_at
  rw [List.getElem?_eq_getElem h]
  exact List.getElem_mem h
theorem z_at_of {L : List Nat} {l : Nat} (h : l ∈ L) : ∃ p, p < L.length ∧ z_at L p = l := by
  obtain ⟨p, hp, e⟩ := List.mem_iff_getElem.mp h
  exact ⟨p, hp, by unfold z_at; rw [List.getElem?_eq_getElem hp]; exact e⟩
theorem z_kf1_s (C : Cf) (pl : Bool) (i F : Nat) : z_kf1 C pl i (F + 1) = z_kf1 C pl i F ++ (if i < C.1 34 ∧ pl = false ∧ C.2 12 (4 * F + 2) = C.2 15 i then [5 * i + 2 + F] else []) := by
  unfold z_kf1
  rw [List.range_succ, List.filter_append, List.map_append]
  congr 1
  by_cases e : i < C.1 34 ∧ pl = false ∧ C.2 12 (4 * F + 2) = C.2 15 i
  · rw [if_pos e]; simp [e]
  · rw [if_neg e]; simp [List.filter_cons, e]
theorem z_kf1_len (C : Cf) (pl : Bool) (i F : Nat) : (z_kf1 C pl i F).length ≤ (if i < C.1 34 then F else 0) := by
  induction F with
  | zero => unfold z_kf1; simp
  | succ F ih =>
    rw [z_kf1_s, List.length_append]
    by_cases e : i < C.1 34
    · rw [if_pos e] at *
      have : (if i < C.1 34 ∧ pl = false ∧ C.2 12 (4 * F + 2) = C.2 15 i then [5 * i + 2 + F] else ([] : List Nat)).length ≤ 1 := by
        by_cases e2 : i < C.1 34 ∧ pl = false ∧ C.2 12 (4 * F + 2) = C.2 15 i
        · rw [if_pos e2]; simp
        · rw [if_neg e2]; simp
      omega
    · rw [if_neg e] at *
      rw [if_neg (fun z => e z.1)]
      simp only [List.length_nil]; omega
theorem z_kf1_mem {C : Cf} {pl : Bool} {i F l : Nat} : l ∈ z_kf1 C pl i F ↔ ∃ f, f < F ∧ l = 5 * i + 2 + f ∧ i < C.1 34 ∧ pl = false ∧ C.2 12 (4 * f + 2) = C.2 15 i := by
  unfold z_kf1
  simp only [List.mem_map, List.mem_filter, List.mem_range, decide_eq_true_eq]
  exact ⟨fun ⟨f, ⟨h1, h2⟩, h3⟩ => ⟨f, h1, h3.symm, h2⟩, fun ⟨f, h1, h3, h2⟩ => ⟨f, ⟨h1, h2⟩, h3.symm⟩⟩
theorem z_kt_mem {C : Cf} {pl : Bool} {i l : Nat} : l ∈ z_kt C pl i ↔ l = 5 * i + 1 ∧ i + 1 < C.1 34 ∧ pl = false := by
  unfold z_kt
  by_cases e : i + 1 < C.1 34 ∧ pl = false
  · rw [if_pos e]; simp [e]
  · rw [if_neg e]; exact ⟨fun h => absurd h List.not_mem_nil, fun h => absurd h.2 e⟩
theorem z_kt_len (C : Cf) (pl : Bool) (i : Nat) : (z_kt C pl i).length ≤ (if i + 1 < C.1 34 then 1 else 0) := by
  unfold z_kt
  by_cases e : i + 1 < C.1 34
  · rw [if_pos e]
    by_cases e2 : i + 1 < C.1 34 ∧ pl = false
    · rw [if_pos e2]; simp
    · rw [if_neg e2]; simp
  · rw [if_neg e, if_neg (fun z => e z.1)]; simp
theorem z_kp_mem {C : Cf} {pl : Bool} {l : Nat} : ∀ {n : Nat}, l ∈ z_kp C pl n ↔ ∃ i, i < n ∧ (l = 5 * i ∨ l ∈ z_kt C pl i ∨ l ∈ z_kf1 C pl i (C.2 11 0)) := by
  intro n
  induction n with
  | zero => simp [z_kp]
  | succ n ih =>
    simp only [z_kp, List.mem_append, List.mem_singleton, ih]
    constructor
    · rintro (((⟨i, h1, h2⟩ | h) | h) | h)
      · exact ⟨i, by omega, h2⟩
      · exact ⟨n, by omega, Or.inl h⟩
      · exact ⟨n, by omega, Or.inr (Or.inl h)⟩
      · exact ⟨n, by omega, Or.inr (Or.inr h)⟩
    · rintro ⟨i, h1, h2⟩
      by_cases e : i = n
      · subst e
        rcases h2 with h | h | h
        · exact Or.inl (Or.inl (Or.inr h))
        · exact Or.inl (Or.inr h)
        · exact Or.inr h
      · exact Or.inl (Or.inl (Or.inl ⟨i, by omega, h2⟩))
theorem z_kp_lt {C : Cf} (ok : z_ok C) {pl : Bool} {n l : Nat} (h : l ∈ z_kp C pl n) : l < 5 * n := by
  have o := ok.1
  obtain ⟨i, hi, h⟩ := z_kp_mem.mp h
  rcases h with h | h | h
  · omega
  · have := (z_kt_mem.mp h).1; omega
  · obtain ⟨f, h1, h2, -⟩ := z_kf1_mem.mp h; omega
theorem z_kf1_pw (C : Cf) (pl : Bool) (i F : Nat) : (z_kf1 C pl i F).Pairwise (· < ·) := by
  induction F with
  | zero => unfold z_kf1; simp
  | succ F ih =>
    rw [z_kf1_s]
    by_cases e : i < C.1 34 ∧ pl = false ∧ C.2 12 (4 * F + 2) = C.2 15 i
    · rw [if_pos e, List.pairwise_append]
      refine ⟨ih, by simp, fun a ha b hb => ?_⟩
      obtain ⟨f, h1, h2, -⟩ := z_kf1_mem.mp ha
      simp at hb
      omega
    · rw [if_neg e, List.append_nil]; exact ih
theorem z_kp_pw {C : Cf} (ok : z_ok C) (pl : Bool) : ∀ n : Nat, (z_kp C pl n).Pairwise (· < ·) := by
  intro n
  induction n with
  | zero => simp [z_kp]
  | succ n ih =>
    simp only [z_kp]
    rw [List.pairwise_append, List.pairwise_append, List.pairwise_append]
    refine ⟨⟨⟨ih, by simp, fun a ha b hb => ?_⟩, ?_, fun a ha b hb => ?_⟩, z_kf1_pw C pl n _, fun a ha b hb => ?_⟩
    · have := z_kp_lt ok ha
      simp at hb; omega
    · unfold z_kt
      by_cases e : n + 1 < C.1 34 ∧ pl = false
      · rw [if_pos e]; simp
      · rw [if_neg e]; simp
    · have h2 := (z_kt_mem.mp hb).1
      rcases List.mem_append.mp ha with h | h
      · have := z_kp_lt ok h; omega
      · simp at h; omega
    · obtain ⟨f, h1, h2, -⟩ := z_kf1_mem.mp hb
      rcases List.mem_append.mp ha with h | h
      · rcases List.mem_append.mp h with h | h
        · have := z_kp_lt ok h; omega
        · simp at h; omega
      · have := (z_kt_mem.mp h).1; omega
theorem z_kp_len {C : Cf} (ok : z_ok C) (pl : Bool) : ∀ n : Nat, n ≤ C.1 34 → (z_kp C pl n).length ≤ 5 * n ∧ (n = C.1 34 → (z_kp C pl n).length ≤ 5 * n - 1) := by
  have o := ok.1
  intro n
  induction n with
  | zero => intro _; simp [z_kp]
  | succ n ih =>
    intro hn
    have := ih (by omega)
    simp only [z_kp, List.length_append, List.length_singleton]
    have a := z_kt_len C pl n
    have b := z_kf1_len C pl n (C.2 11 0)
    rw [if_pos (by omega)] at b
    by_cases e : n + 1 < C.1 34
    · rw [if_pos e] at a; omega
    · rw [if_neg e] at a; omega
theorem z_kp_pre {C : Cf} {pl : Bool} : ∀ {n m : Nat}, n ≤ m → ∃ M, z_kp C pl m = z_kp C pl n ++ M := by
  intro n m h
  induction h with
  | refl => exact ⟨[], by simp⟩
  | step _ ih =>
    obtain ⟨M, e⟩ := ih
    simp only [z_kp, e]
    exact ⟨_, by rw [List.append_assoc, List.append_assoc, List.append_assoc]⟩
theorem z_kl_pl {C : Cf} (pl : Bool) (h : pl = true) : ∀ n : Nat, (z_kp C pl n).length = n := by
  intro n
  induction n with
  | zero => rfl
  | succ n ih =>
    simp only [z_kp, List.length_append, List.length_singleton, ih]
    have a : z_kt C pl n = [] := by unfold z_kt; rw [if_neg (fun z => by rw [h] at z; exact absurd z.2 (by decide))]
    have b : z_kf1 C pl n (C.2 11 0) = [] := by
      apply List.eq_nil_iff_forall_not_mem.mpr
      intro l hl
      obtain ⟨f, -, -, -, h2, -⟩ := z_kf1_mem.mp hl
      rw [h] at h2; cases h2
    rw [a, b]; simp
/-- the knots of a chart, with special ones or without -/
theorem z_kl_kn {C : Cf} (ok : z_ok C) {pl : Bool} (hpl : pl = false ∨ pl = z_pl C) : z_kn C (z_at (z_kl C pl)) (z_kl C pl).length := by
  have o := ok.1
  constructor
  · intro p q h1 h2
    have h3 : p < (z_kl C pl).length := by omega
    have := List.pairwise_iff_getElem.mp (show (z_kl C pl).Pairwise (· < ·) from z_kp_pw ok pl (C.1 34 + 1)) p q h3 h2 h1
    unfold z_at
    rw [List.getElem?_eq_getElem h3, List.getElem?_eq_getElem h2]
    exact this
  · intro t p m v hp h
    have hm : m ∈ z_kl C pl := by
      obtain ⟨k, i, fl, pr, fo, h1, h2, h3⟩ := h
      unfold z_kl
      rw [z_kp_mem]
      have np : ∀ k i m w, z_may C k i m w = true → pl = false := by
        intro k i m w hm
        rcases hpl with e | e
        · exact e
        · rw [e]; exact (z_may_iff.mp hm).1
      rcases h1 with h1 | h1 | h1 | h1 | h1 | h1 | h1 | h1
      · exact ⟨i, by omega, Or.inl (by omega)⟩
      · exact ⟨i + 1, by omega, Or.inl (by omega)⟩
      · exact ⟨i + 1, by omega, Or.inl (by omega)⟩
      · obtain ⟨-, g2, g3, g4, -, g6, -, -, -, g10, -⟩ := h1
        exact ⟨i, by omega, Or.inr (Or.inr (z_kf1_mem.mpr ⟨fo, g3, g6, g2, np _ _ _ _ g10, g4⟩))⟩
      · exact ⟨i + 1, by omega, Or.inl (by omega)⟩
      · obtain ⟨-, g2, g3, -, g5, -, -, g10, -⟩ := h1
        exact ⟨i, by omega, Or.inr (Or.inl (z_kt_mem.mpr ⟨g5, g2, np _ _ _ _ g10⟩))⟩
      · exact ⟨i + 2, by omega, Or.inl (by omega)⟩
      · exact ⟨i + 2, by omega, Or.inl (by omega)⟩
    obtain ⟨q, hq, e⟩ := z_at_of hm
    exact ⟨q, hq, e.symm⟩
/-! the twin's rows -/
def z_srt (l : Nat) : Nat := if l % 5 = 0 then 0 else if l % 5 = 1 then 1 else 2
def tKp (s : TS) (L : List Nat) (n : Nat) : Prop := s.1 28 = nI L.length ∧ (∀ p, p < L.length → s.2.1 29 p = nI (z_srt (z_at L p)) ∧ s.2.1 30 p = nI (z_at L p / 5) ∧ s.2.1 31 p = nI (z_at L p % 5 - 2)) ∧ ∀ i, i < n → ∃ p, p < L.length ∧ s.2.1 32 i = nI p ∧ z_at L p = 5 * i
def tKn (C : Cf) (s : TS) : Prop := tKp s (z_kl C (z_pl C)) (C.1 34 + 1)
theorem tKp.mv {s s' : TS} {L : List Nat} {n : Nat} {T : List Nat} (h : tKp s L n) (m : tfr T s s') (hT : ∀ k ∈ [28, 29, 30, 31, 32], k ∉ T) : tKp s' L n := by
  unfold tKp at *
  rw [m.i 28 (hT _ (by decide)), m.a 29 (hT _ (by decide)), m.a 30 (hT _ (by decide)), m.a 31 (hT _ (by decide)), m.a 32 (hT _ (by decide))]
  exact h
theorem tw_knot {Q : TS → Prop} {s : TS} {L : List Nat} {n a b c l : Nat} (h : tKp s L n) (hL : L.length < 52) (ha : a = z_srt l) (hb : b = l / 5) (hc : c = l % 5 - 2) (q : ∀ s', tfr [28, 29, 30, 31] s s' → tKp s' (L ++ [l]) n → Q s') : wX3_knot Q (nI a) (nI b) (nI c) s := by
  obtain ⟨h1, h2, h3⟩ := h
  unfold wX3_knot
  rw [h1]
  refine ⟨vp_nI hL (by decide), al_eq ?_⟩
  rw [show (tA s 29 (nI L.length).toNatClampNeg (nI a)).1 28 = s.1 28 from rfl, h1]
  refine ⟨vp_nI hL (by decide), al_eq ?_⟩
  rw [show (tA (tA s 29 (nI L.length).toNatClampNeg (nI a)) 30 (nI L.length).toNatClampNeg (nI b)).1 28 = s.1 28 from rfl, h1]
  refine ⟨vp_nI hL (by decide), al_eq (al_eq (q _ ((((tfr.rf.A (by decide) _ _).A (by decide) _ _).A (by decide) _ _).I (by decide) _) ⟨?_, ?_, ?_⟩))⟩
  · rw [tI_i, show (tA (tA (tA s 29 (nI L.length).toNatClampNeg (nI a)) 30 (nI L.length).toNatClampNeg (nI b)) 31 (nI L.length).toNatClampNeg (nI c)).1 28 = s.1 28 from rfl, h1, nI_1, List.length_append]
    rfl
  · intro p hp
    rw [List.length_append, List.length_singleton] at hp
    have e29 : (tI (tA (tA (tA s 29 (nI L.length).toNatClampNeg (nI a)) 30 (nI L.length).toNatClampNeg (nI b)) 31 (nI L.length).toNatClampNeg (nI c)) 28 ((tA (tA (tA s 29 (nI L.length).toNatClampNeg (nI a)) 30 (nI L.length).toNatClampNeg (nI b)) 31 (nI L.length).toNatClampNeg (nI c)).1 28 + 1)).2.1 29 = va_up (s.2.1 29) (nI L.length).toNatClampNeg (nI a) := rfl
    have e30 : (tI (tA (tA (tA s 29 (nI L.length).toNatClampNeg (nI a)) 30 (nI L.length).toNatClampNeg (nI b)) 31 (nI L.length).toNatClampNeg (nI c)) 28 ((tA (tA (tA s 29 (nI L.length).toNatClampNeg (nI a)) 30 (nI L.length).toNatClampNeg (nI b)) 31 (nI L.length).toNatClampNeg (nI c)).1 28 + 1)).2.1 30 = va_up (s.2.1 30) (nI L.length).toNatClampNeg (nI b) := rfl
    have e31 : (tI (tA (tA (tA s 29 (nI L.length).toNatClampNeg (nI a)) 30 (nI L.length).toNatClampNeg (nI b)) 31 (nI L.length).toNatClampNeg (nI c)) 28 ((tA (tA (tA s 29 (nI L.length).toNatClampNeg (nI a)) 30 (nI L.length).toNatClampNeg (nI b)) 31 (nI L.length).toNatClampNeg (nI c)).1 28 + 1)).2.1 31 = va_up (s.2.1 31) (nI L.length).toNatClampNeg (nI c) := rfl
    rw [e29, e30, e31, nI_clamp (by omega)]
    by_cases e : p = L.length
    · subst e
      rw [va_up_self, va_up_self, va_up_self, z_at_new, ha, hb, hc]
      exact ⟨rfl, rfl, rfl⟩
    · rw [va_up_ne _ _ e, va_up_ne _ _ e, va_up_ne _ _ e, z_at_app (by omega)]
      exact h2 p (by omega)
  · intro i hi
    obtain ⟨p, p1, p2, p3⟩ := h3 i hi
    exact ⟨p, by rw [List.length_append, List.length_singleton]; omega, p2, by rw [z_at_app p1]; exact p3⟩
theorem tw_layKnots {C : Cf} {Q : TS → Prop} {s : TS} (ok : z_ok C) (h : tC C s) (q : ∀ s', tfr [28, 29, 30, 31, 32] s s' → tKn C s' → Q s') : wX3_layKnots Q (nI (C.1 34)) s := by
  have o := ok.1
  have b33 := h.b 33
  unfold wX3_layKnots
  refine al_eq ?_
  have lenb : ∀ i, i ≤ C.1 34 → (z_kp C (z_pl C) i).length ≤ 50 ∧ (i < C.1 34 → (z_kp C (z_pl C) i).length ≤ 45 ∨ z_pl C = true) := by
    intro i hi
    cases e : z_pl C with
    | true =>
      have := z_kl_pl (C := C) true rfl i
      exact ⟨by omega, fun _ => Or.inr rfl⟩
    | false =>
      have := z_kp_len ok false i hi
      have := o.2.2.2.2.2.2.2 e
      exact ⟨by omega, fun _ => Or.inl (by omega)⟩
  refine pk_loop (σ := TS) (fun n i s' => wX3_layKnots_7 Q _ n (nI (C.1 34)) (nI i) s') (fun i s' => tfr [28, 29, 30, 31, 32] s s' ∧ tKp s' (z_kp C (z_pl C) i) i) (C.1 34 + 1) 0 _ (by omega) ⟨tfr.rf.I (by decide) _, ⟨rfl, fun p hp => absurd hp (by simp [z_kp]), fun i hi => by omega⟩⟩ ?_ ?_
  · rintro n s1 ⟨m1, m2⟩
    simp only [wX3_layKnots_7]
    exact br_p (nI_lt (by omega) (by omega)) (q s1 m1 m2)
  · rintro n i s1 hi ⟨m1, m2⟩ hs
    simp only [wX3_layKnots_7]
    have lb := lenb i (by omega)
    refine br_n (nI_nlt (by omega) (by omega)) ⟨vp_nI (by omega) (by decide), al_eq ?_⟩
    rw [nI_clamp (by omega), m2.1]
    have m3 : tKp (tA s1 32 i (nI (z_kp C (z_pl C) i).length)) (z_kp C (z_pl C) i) i := by
      refine ⟨m2.1, m2.2.1, fun i' hi' => ?_⟩
      rw [tA_a, va_up_ne _ _ (by omega)]
      exact m2.2.2 i' hi'
    rw [← nI_0]
    refine tw_knot (l := 5 * i) m3 (by omega) (by unfold z_srt; rw [if_pos (by omega)]) (by omega) (by omega) (fun s2 g1 g2 => ?_)
    have g3 : tKp s2 (z_kp C (z_pl C) i ++ [5 * i]) (i + 1) := by
      refine ⟨g2.1, g2.2.1, fun i' hi' => ?_⟩
      by_cases e : i' = i
      · subst e
        refine ⟨(z_kp C (z_pl C) i').length, by simp, ?_, z_at_new⟩
        rw [g1.a 32, tA_a, va_up_self]
      · exact g2.2.2 i' (by omega)
    have m5 : tfr [28, 29, 30, 31, 32] s s2 := (m1.A (by decide) _ _).tr (g1.sub (by decide))
    have h2 := h.mv m5 (by decide)
    rw [h2.i 33]
    -- the forms
    have forms : ∀ s3 (t0 : Int32) (L : List Nat), tfr [28, 29, 30, 31, 32] s s3 → tKp s3 L (i + 1) → L.length ≤ 47 ∨ z_pl C = true → L = z_kp C (z_pl C) i ++ [5 * i] ++ z_kt C (z_pl C) i → (t0 = 0 ∧ z_pl C = false ∨ t0 = 1 ∧ z_pl C = true) → wX3_layKnots_69 Q (wX3_layKnots_7 Q (fun s_2 => Q s_2) n) (fun s_2 => Q s_2) (nI (C.1 34)) (nI i) t0 s3 := by
      intro s3 t0 L n1 n2 n3 n4 n5
      unfold wX3_layKnots_69
      have fin : ∀ s4, tfr [28, 29, 30, 31, 32] s s4 → tKp s4 (z_kp C (z_pl C) (i + 1)) (i + 1) → ∀ x2_8 : Int32, x2_8 = nI i + 1 → wX3_layKnots_7 Q (fun s_2 => Q s_2) n (nI (C.1 34)) x2_8 s4 := by
        intro s4 l1 l2
        rw [nI_1]
        exact al_eq (hs s4 ⟨l1, l2⟩)
      refine pk_loop (σ := TS) (fun n f s' => wX3_layKnots_72 Q _ n (nI (C.1 34)) (nI i) t0 (nI f) s') (fun f s' => tfr [28, 29, 30, 31, 32] s s' ∧ tKp s' (L ++ z_kf1 C (z_pl C) i f) (i + 1)) (C.2 11 0) 0 s3 (by omega) ⟨n1, by rw [show z_kf1 C (z_pl C) i 0 = [] by unfold z_kf1; rfl, List.append_nil]; exact n2⟩ ?_ ?_
      · rintro n s4 ⟨l1, l2⟩
        simp only [wX3_layKnots_72]
        rw [(h.mv l1 (by decide)).fn (by decide)]
        refine ⟨vp_nI (n := 0) (by decide) (by decide), br_p (nI_le (Nat.le_refl _) (by omega)) (fin s4 l1 ?_)⟩
        rw [n4] at l2
        exact l2
      · rintro n' f s4 hf ⟨l1, l2⟩ hs4
        simp only [wX3_layKnots_72]
        have h4 := h.mv l1 (by decide)
        rw [h4.fn (by decide)]
        have stop : ¬ (i < C.1 34 ∧ z_pl C = false) → tKp s4 (z_kp C (z_pl C) (i + 1)) (i + 1) := by
          intro hn
          have e1 : ∀ F, z_kf1 C (z_pl C) i F = [] := fun F => List.eq_nil_iff_forall_not_mem.mpr (fun l hl => by
            obtain ⟨f, -, -, a1, a2, -⟩ := z_kf1_mem.mp hl
            exact hn ⟨a1, a2⟩)
          simp only [z_kp]
          rw [e1]
          rw [e1, n4] at l2
          exact l2
        refine ⟨vp_nI (n := 0) (by decide) (by decide), br_n (nI_ge hf (by omega)) ?_⟩
        refine pk_le (C.1 34) i (fun e => fin s4 l1 (stop (by omega))) (fun e => ?_) rfl rfl (by omega) (by omega)
        rcases n5 with ⟨rfl, n5⟩ | ⟨rfl, n5⟩
        · refine br_p rfl ?_
          simp only [k4, pk_mul]
          rw [show nI (4 * f) + 2 = nI (4 * f + 2) from nI_add _ 2]
          refine ⟨vp_nI (by omega) (by decide), vp_nI (by omega) (by decide), ?_⟩
          rw [nI_clamp (by omega), nI_clamp (by omega), h4.tx e]
          have hf2 := h4.fo (w := 0) (f := f) (j := 2) (by decide) hf (by decide)
          rw [show 12 * 0 + 4 * f + 2 = 4 * f + 2 by omega] at hf2
          rw [hf2]
          have bt := ok.2.2.2.1 i e
          have bf := (ok.2.2.2.2.2 0 f (by decide) hf).1 2 (by decide)
          rw [show 12 * 0 + 4 * f + 2 = 4 * f + 2 by omega] at bf
          have nx : ∀ s5, tfr [28, 29, 30, 31, 32] s s5 → tKp s5 (L ++ z_kf1 C (z_pl C) i (f + 1)) (i + 1) → wX3_layKnots_120 Q (wX3_layKnots_72 Q (fun x1_5 x2_6 s_7 => ∀ x2_8 : Int32, x2_8 = x2_6 + 1 → wX3_layKnots_7 Q (fun s_2 => Q s_2) n x1_5 x2_8 s_7) n') (fun x1_5 x2_6 s_7 => ∀ x2_8 : Int32, x2_8 = x2_6 + 1 → wX3_layKnots_7 Q (fun s_2 => Q s_2) n x1_5 x2_8 s_7) (nI (C.1 34)) (nI i) 0 (nI f) s5 := by
            intro s5 p1 p2
            unfold wX3_layKnots_120
            rw [nI_1]
            exact al_eq (hs4 s5 ⟨p1, p2⟩)
          refine pk_eq (C.2 12 (4 * f + 2)) (C.2 15 i) (fun e2 => ?_) (fun e2 => nx s4 l1 ?_) rfl rfl (by omega) (by omega)
          · rw [show (2 : Int32) = nI 2 from rfl]
            have k1 := z_kf1_len C (z_pl C) i f
            rw [if_pos e] at k1
            refine tw_knot (l := 5 * i + 2 + f) l2 ?_ (by unfold z_srt; rw [if_neg (by omega), if_neg (by omega)]) (by omega) (by omega) (fun s5 p1 p2 => nx s5 (l1.tr (p1.sub (by decide))) ?_)
            · rw [List.length_append]
              rcases n3 with n3 | n3
              · omega
              · rw [n5] at n3; cases n3
            · rw [z_kf1_s, if_pos ⟨e, n5, e2⟩, ← List.append_assoc]
              exact p2
          · rw [z_kf1_s, if_neg (fun z => e2 z.2.2), List.append_nil]
            exact l2
        · exact br_n (by decide) (fin s4 l1 (stop (by rw [n5]; simp)))
    have turn : ∀ (t0 : Int32), (t0 = 0 ∧ z_pl C = false ∨ t0 = 1 ∧ z_pl C = true) → wX3_layKnots_50 Q (wX3_layKnots_7 Q (fun s_2 => Q s_2) n) (fun s_2 => Q s_2) t0 (nI (C.1 34)) (nI i) s2 := by
      intro t0 n5
      unfold wX3_layKnots_50
      have hl : (z_kp C (z_pl C) i ++ [5 * i]).length ≤ 46 ∨ z_pl C = true ∨ ¬ i < C.1 34 := by
        rw [List.length_append, List.length_singleton]
        by_cases e : i < C.1 34
        · rcases lb.2 e with z | z
          · exact Or.inl (by omega)
          · exact Or.inr (Or.inl z)
        · exact Or.inr (Or.inr e)
      have none : ¬ (i + 1 < C.1 34 ∧ z_pl C = false) → wX3_layKnots_69 Q (wX3_layKnots_7 Q (fun s_2 => Q s_2) n) (fun s_2 => Q s_2) (nI (C.1 34)) (nI i) t0 s2 := by
        intro hn
        have e1 : z_kt C (z_pl C) i = [] := by unfold z_kt; rw [if_neg hn]
        by_cases e : i < C.1 34
        · refine forms s2 t0 _ m5 g3 ?_ (by rw [e1, List.append_nil]) n5
          rcases hl with z | z | z
          · exact Or.inl (by omega)
          · exact Or.inr z
          · exact absurd e z
        · -- at the end nothing is added
          have e3 : z_kp C (z_pl C) (i + 1) = z_kp C (z_pl C) i ++ [5 * i] := by
            simp only [z_kp]
            rw [e1, List.append_nil, show z_kf1 C (z_pl C) i (C.2 11 0) = [] from List.eq_nil_iff_forall_not_mem.mpr (fun l hl => by
              obtain ⟨f, -, -, a1, -⟩ := z_kf1_mem.mp hl
              exact e a1), List.append_nil]
          unfold wX3_layKnots_69
          refine ⟨1, ?_⟩
          simp only [wX3_layKnots_72]
          rw [h2.fn (by decide)]
          have fin : ∀ x2_8 : Int32, x2_8 = nI i + 1 → wX3_layKnots_7 Q (fun s_2 => Q s_2) n (nI (C.1 34)) x2_8 s2 := by
            rw [nI_1]
            exact al_eq (hs s2 ⟨m5, by rw [e3]; exact g3⟩)
          refine ⟨vp_nI (n := 0) (by decide) (by decide), fun _ => fin, fun _ => ⟨fun _ => fin, fun z => absurd (nI_le (by omega) (by omega)) z⟩⟩
      by_cases e : i + 1 < C.1 34
      · refine br_n ?_ ?_
        · obtain ⟨j, hj⟩ : ∃ j, C.1 34 = j + 1 := ⟨C.1 34 - 1, by omega⟩
          rw [hj, nI_pred]
          exact nI_ge (by omega) (by omega)
        · rcases n5 with ⟨rfl, n5⟩ | ⟨rfl, n5⟩
          · refine br_p rfl ?_
            rw [show (1 : Int32) = nI 1 from rfl, ← nI_0]
            refine tw_knot (l := 5 * i + 1) g3 ?_ (by unfold z_srt; rw [if_neg (by omega), if_pos (by omega)]) (by omega) (by omega) (fun s3 p1 p2 => ?_)
            · rcases hl with z | z | z
              · omega
              · rw [n5] at z; cases z
              · omega
            · rw [nI_0]
              refine forms s3 0 _ (m5.tr (p1.sub (by decide))) p2 ?_ (by unfold z_kt; rw [if_pos ⟨e, n5⟩]) (Or.inl ⟨rfl, n5⟩)
              rcases hl with z | z | z
              · left
                rw [List.length_append, List.length_singleton]; omega
              · exact Or.inr z
              · omega
          · exact br_n (by decide) (none (fun z => by rw [n5] at z; exact absurd z.2 (by decide)))
      · refine br_p ?_ (none (fun z => e z.1))
        rw [Int32.le_iff_toInt_le, n1_toInt (by omega), nI_toInt (by omega)]
        omega
    have plT : C.1 33 = 2 ∨ C.1 33 = 4 → z_pl C = true := by
      intro z
      unfold z_pl
      rcases z with e | e <;> rw [e] <;> rfl
    refine pk_eq (C.1 33) 2 (fun e => ?_) (fun e => ?_) rfl rfl (by omega) (by decide)
    · unfold wX3_layKnots_45
      exact turn 1 (Or.inr ⟨rfl, plT (Or.inl e)⟩)
    refine pk_eq (C.1 33) 4 (fun e2 => ?_) (fun e2 => ?_) rfl rfl (by omega) (by decide)
    · unfold wX3_layKnots_45
      exact turn 1 (Or.inr ⟨rfl, plT (Or.inr e2)⟩)
    · exact turn 0 (Or.inl ⟨rfl, by unfold z_pl; simp [e, e2]⟩)
