/-! PLAIN LAW: the words that a walk lays are tokens -/
set_option maxRecDepth 100000
def yWd (C : Cf) (st : St) : Prop := ∀ i, i < st.1.2.1 → ∃ t, t < C.1 0 ∧ st.2.2.1 i = nI t
theorem yWd.wd {C : Cf} {st : St} {t : Nat} (h : yWd C st) (ht : t < C.1 0) : yWd C (y_wd t st) := by
  intro i hi
  have hi' : i < st.1.2.1 + 1 := hi
  show ∃ t', t' < C.1 0 ∧ va_up st.2.2.1 st.1.2.1 (nI t) i = nI t'
  by_cases e : i = st.1.2.1
  · subst e; exact ⟨t, ht, va_up_self _ _ _⟩
  · rw [va_up_ne _ _ e]; exact h i (by omega)
theorem yWd.sk {C : Cf} (j : Nat) : ∀ (f i : Nat) {st : St}, yWd C st → yWd C (y_sk C j f i st) := by
  intro f
  induction f with
  | zero => intro i st h; exact h
  | succ f ih =>
    intro i st h
    unfold y_sk
    by_cases e : i < j
    · rw [if_pos e]; exact ih _ (show yWd C (y_sl _ _ _ _ st) from h)
    · rw [if_neg e]; exact h
theorem yWd.tk {C : Cf} {t l q : Nat} {st : St} (h : yWd C st) (ht : t < C.1 0) : yWd C (y_tk C t l q st) := by
  have key : yWd C (if l = z_b1 C t l q then st else y_sk C (z_b1 C t l q / 5) 12 (l / 5) st) := by
    by_cases e : l = z_b1 C t l q
    · rw [if_pos e]; exact h
    · rw [if_neg e]; exact h.sk _ _ _
  unfold y_tk
  refine yWd.wd ?_ ht
  by_cases e : z_b2 C t l q = 0
  · rw [if_pos e]; exact key
  · rw [if_neg e]; exact key
theorem z_yl_tok {C : Cf} (ok : z_ok C) {r y : Nat} (hr : r < C.1 7) (hy : y ∈ z_yl C r) (h : y < 100) : y < C.1 0 := by
  unfold z_yl at hy
  rw [List.mem_map] at hy
  obtain ⟨j, hj, rfl⟩ := hy
  rw [List.mem_range] at hj
  have := (ok.2.2.2.2.1 r hr).2.2 j hj
  omega
theorem yWd.nm {C : Cf} (ok : z_ok C) : ∀ f x l q par st pr sz, sz ≤ f → z_Mb C (z_tk C) 16777216 x l q pr sz → yWd C st → yWd C (y_nm C f x l q par st) := by
  intro f
  induction f with
  | zero =>
    intro x l q par st pr sz h1 h2 h3
    have := (z_D_nm ok h2.1).2
    omega
  | succ f ih =>
    intro x l q par st pr sz h1 h2 h3
    obtain ⟨r1, r2, z, rfl, r3⟩ := z_ru_at ok h2
    have key : ∀ (ys : List Nat) l q pr z st, ys.length ≤ 3 → (∀ y ∈ ys, y < 100 → y < C.1 0) → z ≤ f → z_Ms C (z_tk C) 16777216 ys l q pr z → yWd C st → ∀ node, yWd C (y_sq C (y_nm C f) node ys l q st) := by
      intro ys
      induction ys with
      | nil => intro l q pr z st _ _ _ _ hs node; exact hs
      | cons y ys ihy =>
        intro l q pr z st hl ht hz w hs node
        obtain ⟨a, b, c, d, w1, w2, rfl, rfl⟩ := z_sl_at ok hl w
        have hl' : ys.length ≤ 3 := by rw [List.length_cons] at hl; omega
        have ht' : ∀ y' ∈ ys, y' < 100 → y' < C.1 0 := fun y' h' => ht y' (List.mem_cons_of_mem _ h')
        simp only [y_sq]
        by_cases e : y < 100
        · rw [if_pos e]
          exact ihy _ q c d _ hl' ht' (by omega) w2 (hs.tk (ht y List.mem_cons_self e)) node
        · rw [if_neg e]
          have w1' := (z_My_nm w1).resolve_left (fun z => e z.1)
          exact ihy _ q c d _ hl' ht' (by omega) w2 (ih (y - 100) l (z_sl C y ys l q) (nI node) st a b (by omega) w1'.2 hs) node
    simp only [y_nm]
    exact key (z_yl C (z_ru C x l q)) l q pr z (y_no x (z_ru C x l q) par st) (z_yl_ok ok r1).1 (fun y hy h => z_yl_tok ok r1 hy h) (by omega) r3 h3 st.1.2.2
