/-! PLAIN LAW: the walk over two triples of arrays -/
set_option maxRecDepth 100000
def yQ (op : Nat → Prop) (a b : St) : Prop := a.1 = b.1 ∧ (∀ i, i < 4 * a.1.1 → a.2.1 i = b.2.1 i) ∧ (∀ i, i < a.1.2.1 → a.2.2.1 i = b.2.2.1 i) ∧ ∀ i w, i < a.1.2.2 → w < 5 → (w = 4 → ¬ op i) → a.2.2.2 (5 * i + w) = b.2.2.2 (5 * i + w)
theorem va_up_q {α : Type} {f g : Nat → α} {n j : Nat} {v : α} (h : j ≠ n → f j = g j) : va_up f n v j = va_up g n v j := by
  by_cases e : j = n
  · subst e; rw [va_up_self, va_up_self]
  · rw [va_up_ne _ _ e, va_up_ne _ _ e]; exact h e
theorem yQ.sl {op : Nat → Prop} {a b : St} (h : yQ op a b) (k i w pr : Nat) : yQ op (y_sl k i w pr a) (y_sl k i w pr b) := by
  obtain ⟨h1, h2, h3, h4⟩ := h
  refine ⟨?_, fun j hj => ?_, h3, h4⟩
  · show (a.1.1 + 1, a.1.2) = (b.1.1 + 1, b.1.2)
    rw [h1]
  · have hj' : j < 4 * (a.1.1 + 1) := hj
    show va_up (va_up (va_up (va_up a.2.1 (4 * a.1.1) (nI k)) (4 * a.1.1 + 1) (nI i)) (4 * a.1.1 + 2) (nI w)) (4 * a.1.1 + 3) (nI pr) j = va_up (va_up (va_up (va_up b.2.1 (4 * b.1.1) (nI k)) (4 * b.1.1 + 1) (nI i)) (4 * b.1.1 + 2) (nI w)) (4 * b.1.1 + 3) (nI pr) j
    rw [← h1]
    exact va_up_q (fun e1 => va_up_q (fun e2 => va_up_q (fun e3 => va_up_q (fun e4 => h2 j (by omega)))))
theorem yQ.wd {op : Nat → Prop} {a b : St} (h : yQ op a b) (t : Nat) : yQ op (y_wd t a) (y_wd t b) := by
  obtain ⟨h1, h2, h3, h4⟩ := h
  refine ⟨?_, h2, fun j hj => ?_, h4⟩
  · show (a.1.1, a.1.2.1 + 1, a.1.2.2) = (b.1.1, b.1.2.1 + 1, b.1.2.2)
    rw [h1]
  · have hj' : j < a.1.2.1 + 1 := hj
    show va_up a.2.2.1 a.1.2.1 (nI t) j = va_up b.2.2.1 b.1.2.1 (nI t) j
    rw [← h1]
    exact va_up_q (fun e => h3 j (by omega))
theorem yQ.no {op : Nat → Prop} {a b : St} (h : yQ op a b) (x r : Nat) (par : Int32) : yQ (fun i => op i ∨ i = a.1.2.2) (y_no x r par a) (y_no x r par b) := by
  obtain ⟨h1, h2, h3, h4⟩ := h
  refine ⟨?_, h2, h3, fun i w hi hw ho => ?_⟩
  · show (a.1.1, a.1.2.1, a.1.2.2 + 1) = (b.1.1, b.1.2.1, b.1.2.2 + 1)
    rw [h1]
  · have hi' : i < a.1.2.2 + 1 := hi
    show va_up (va_up (va_up (va_up a.2.2.2 (5 * a.1.2.2) (nI x)) (5 * a.1.2.2 + 1) (nI r)) (5 * a.1.2.2 + 2) par) (5 * a.1.2.2 + 3) (nI a.1.2.1) (5 * i + w) = va_up (va_up (va_up (va_up b.2.2.2 (5 * b.1.2.2) (nI x)) (5 * b.1.2.2 + 1) (nI r)) (5 * b.1.2.2 + 2) par) (5 * b.1.2.2 + 3) (nI b.1.2.1) (5 * i + w)
    rw [← h1]
    refine va_up_q (fun e1 => va_up_q (fun e2 => va_up_q (fun e3 => va_up_q (fun e4 => ?_))))
    by_cases ei : i = a.1.2.2
    · have : w = 4 := by omega
      exact absurd (Or.inr ei) (ho this)
    · exact h4 i w (by omega) hw (fun z y => ho z (Or.inl y))
theorem yQ.ne {op : Nat → Prop} {a b : St} {node : Nat} (h : yQ (fun i => op i ∨ i = node) a b) (hn : node < a.1.2.2) : yQ op (y_ne node a) (y_ne node b) := by
  obtain ⟨h1, h2, h3, h4⟩ := h
  refine ⟨h1, h2, h3, fun i w hi hw ho => ?_⟩
  show va_up a.2.2.2 (5 * node + 4) (nI a.1.2.1 - a.2.2.2 (5 * node + 3)) (5 * i + w) = va_up b.2.2.2 (5 * node + 4) (nI b.1.2.1 - b.2.2.2 (5 * node + 3)) (5 * i + w)
  rw [← h1, ← h4 node 3 hn (by decide) (fun z => by omega)]
  refine va_up_q (fun e => h4 i w hi hw (fun z y => ?_))
  rcases y with y | y
  · exact ho z y
  · subst y z
    exact e rfl
theorem yQ.sk {op : Nat → Prop} (C : Cf) (j : Nat) : ∀ (f i : Nat) {a b : St}, yQ op a b → yQ op (y_sk C j f i a) (y_sk C j f i b) := by
  intro f
  induction f with
  | zero => intro i a b h; exact h
  | succ f ih =>
    intro i a b h
    unfold y_sk
    by_cases e : i < j
    · rw [if_pos e, if_pos e]; exact ih _ (h.sl _ _ _ _)
    · rw [if_neg e, if_neg e]; exact h
theorem yQ.tk {op : Nat → Prop} (C : Cf) (t l q : Nat) {a b : St} (h : yQ op a b) : yQ op (y_tk C t l q a) (y_tk C t l q b) := by
  have key : yQ op (if l = z_b1 C t l q then a else y_sk C (z_b1 C t l q / 5) 12 (l / 5) a) (if l = z_b1 C t l q then b else y_sk C (z_b1 C t l q / 5) 12 (l / 5) b) := by
    by_cases e : l = z_b1 C t l q
    · rw [if_pos e, if_pos e]; exact h
    · rw [if_neg e, if_neg e]; exact h.sk C _ _ _
  unfold y_tk
  refine yQ.wd ?_ t
  by_cases e : z_b2 C t l q = 0
  · rw [if_pos e, if_pos e]; exact key
  · rw [if_neg e, if_neg e]; exact key.sl _ _ _ _
theorem y_sk_nd (C : Cf) (j : Nat) : ∀ (f i : Nat) (st : St), (y_sk C j f i st).1.2.2 = st.1.2.2 := by
  intro f
  induction f with
  | zero => intro i st; rfl
  | succ f ih =>
    intro i st
    unfold y_sk
    by_cases e : i < j
    · rw [if_pos e, ih]; rfl
    · rw [if_neg e]
theorem y_tk_nd (C : Cf) (t l q : Nat) (st : St) : (y_tk C t l q st).1.2.2 = st.1.2.2 := by
  have key : (if l = z_b1 C t l q then st else y_sk C (z_b1 C t l q / 5) 12 (l / 5) st).1.2.2 = st.1.2.2 := by
    by_cases e : l = z_b1 C t l q
    · rw [if_pos e]
    · rw [if_neg e]; exact y_sk_nd C _ _ _ _
  unfold y_tk
  generalize (if l = z_b1 C t l q then st else y_sk C (z_b1 C t l q / 5) 12 (l / 5) st) = S at key ⊢
  by_cases e : z_b2 C t l q = 0
  · rw [if_pos e]; exact key
  · rw [if_neg e]; exact key
theorem y_sq_nd (C : Cf) {g : Nat → Nat → Nat → Int32 → St → St} (hg : ∀ x l q par st, st.1.2.2 ≤ (g x l q par st).1.2.2) (node : Nat) : ∀ (ys : List Nat) (l q : Nat) (st : St), st.1.2.2 ≤ (y_sq C g node ys l q st).1.2.2 := by
  intro ys
  induction ys with
  | nil => intro l q st; exact Nat.le_refl _
  | cons y ys ih =>
    intro l q st
    unfold y_sq
    by_cases e : y < 100
    · rw [if_pos e]
      exact Nat.le_trans (Nat.le_of_eq (y_tk_nd C _ _ _ _).symm) (ih _ _ _)
    · rw [if_neg e]
      exact Nat.le_trans (hg _ _ _ _ _) (ih _ _ _)
theorem y_nm_nd (C : Cf) : ∀ (f x l q : Nat) (par : Int32) (st : St), st.1.2.2 ≤ (y_nm C f x l q par st).1.2.2 := by
  intro f
  induction f with
  | zero => intro x l q par st; exact Nat.le_refl _
  | succ f ih =>
    intro x l q par st
    simp only [y_nm]
    have := y_sq_nd C ih st.1.2.2 (z_yl C (z_ru C x l q)) l q (y_no x (z_ru C x l q) par st)
    have e : (y_no x (z_ru C x l q) par st).1.2.2 = st.1.2.2 + 1 := rfl
    show st.1.2.2 ≤ (y_sq C (y_nm C f) st.1.2.2 (z_yl C (z_ru C x l q)) l q (y_no x (z_ru C x l q) par st)).1.2.2
    omega
theorem yQ.sq {op : Nat → Prop} (C : Cf) {g : Nat → Nat → Nat → Int32 → St → St} (hg : ∀ x l q par a b, yQ op a b → yQ op (g x l q par a) (g x l q par b)) (node : Nat) : ∀ (ys : List Nat) (l q : Nat) {a b : St}, yQ op a b → yQ op (y_sq C g node ys l q a) (y_sq C g node ys l q b) := by
  intro ys
  induction ys with
  | nil => intro l q a b h; exact h
  | cons y ys ih =>
    intro l q a b h
    unfold y_sq
    by_cases e : y < 100
    · rw [if_pos e, if_pos e]; exact ih _ _ (h.tk C _ _ _)
    · rw [if_neg e, if_neg e]; exact ih _ _ (hg _ _ _ _ _ _ h)
theorem yQ.nm (C : Cf) : ∀ (f x l q : Nat) (par : Int32) (op : Nat → Prop) (a b : St), yQ op a b → yQ op (y_nm C f x l q par a) (y_nm C f x l q par b) := by
  intro f
  induction f with
  | zero => intro x l q par op a b h; exact h
  | succ f ih =>
    intro x l q par op a b h
    simp only [y_nm]
    have e : b.1.2.2 = a.1.2.2 := by rw [h.1]
    rw [e]
    refine yQ.ne (yQ.sq C (fun x l q par a b h => ih x l q par _ a b h) a.1.2.2 (z_yl C (z_ru C x l q)) l q (h.no x (z_ru C x l q) par)) ?_
    have := y_sq_nd C (y_nm_nd C f) a.1.2.2 (z_yl C (z_ru C x l q)) l q (y_no x (z_ru C x l q) par a)
    have e : (y_no x (z_ru C x l q) par a).1.2.2 = a.1.2.2 + 1 := rfl
    omega
/-- the walk from two empty states -/
theorem y_par (C : Cf) (f x l q i j : Nat) (par : Int32) (A B : (Nat → Int32) × (Nat → Int32) × (Nat → Int32)) : yQ (fun _ => False) (y_sk C j 12 i (y_nm C f x l q par ((0, 0, 0), A))) (y_sk C j 12 i (y_nm C f x l q par ((0, 0, 0), B))) :=
  yQ.sk C j 12 i (yQ.nm C f x l q par _ _ _ ⟨rfl, fun i hi => absurd hi (by show ¬ i < 4 * 0; omega), fun i hi => absurd hi (by show ¬ i < 0; omega), fun i w hi => absurd hi (by show ¬ i < 0; omega)⟩)
