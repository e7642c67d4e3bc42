/-! PLAIN LAW, the component's world against the twin's state -/
set_option maxRecDepth 100000
abbrev cI (N : Nat) (f : Nat → Int32) : gCell := .inl (0, N, .inl f)
abbrev cZ (N : Nat) (f : Nat → Int32) : gCell := .inl (2, N, .inl f)
abbrev cJ (N : Nat) (f : Nat → Int64) : gCell := .inl (1, N, .inr (.inl f))
abbrev cQ (t N : Nat) (f : Nat → Option Nat) : gCell := .inl (t, N, .inr (.inr (.inr (.inr f))))
abbrev cO (ci : Nat) (fs : List Value) : gCell := .inr (ci, fs)
def ck (c : gCell) : Nat × Nat × Nat := match c with
  | .inl (t, N, _) => (0, t, N)
  | .inr (ci, _) => (1, ci, 0)
/-- cell c lies at a, and a has the owner t -/
def hat (ow : Nat → Nat) (σ : gH) (a t : Nat) (c : gCell) : Prop := σ.2 a = some c ∧ ow a = t
/-- from (ow, σ) to (ow', σ'): what lies at owners outside T stays -/
def hmv (T : List Nat) (ow : Nat → Nat) (σ : gH) (ow' : Nat → Nat) (σ' : gH) : Prop := σ'.1 = σ.1 ∧ ∀ b c, σ.2 b = some c → ow' b = ow b ∧ (∃ c', σ'.2 b = some c' ∧ ck c' = ck c) ∧ (ow b ∉ T → σ'.2 b = some c)
theorem hmv.rf {T : List Nat} {ow : Nat → Nat} {σ : gH} : hmv T ow σ ow σ := ⟨rfl, fun _ c h => ⟨rfl, ⟨c, h, rfl⟩, fun _ => h⟩⟩
theorem hmv.sub {T T' : List Nat} {ow ow' : Nat → Nat} {σ σ' : gH} (m : hmv T ow σ ow' σ') (h : ∀ t ∈ T, t ∈ T') : hmv T' ow σ ow' σ' := ⟨m.1, fun b c hb => ⟨(m.2 b c hb).1, (m.2 b c hb).2.1, fun hn => (m.2 b c hb).2.2 (fun q => hn (h _ q))⟩⟩
theorem hmv.tr {T : List Nat} {ow ow1 ow2 : Nat → Nat} {σ σ1 σ2 : gH} (m : hmv T ow σ ow1 σ1) (m2 : hmv T ow1 σ1 ow2 σ2) : hmv T ow σ ow2 σ2 := by
  refine ⟨m2.1.trans m.1, fun b c hb => ?_⟩
  obtain ⟨h1, ⟨c1, h2, h3⟩, h4⟩ := m.2 b c hb
  obtain ⟨g1, ⟨c2, g2, g3⟩, g4⟩ := m2.2 b c1 h2
  refine ⟨g1.trans h1, ⟨c2, g2, g3.trans h3⟩, fun hn => ?_⟩
  have e := h4 hn
  rw [h2] at e
  cases e
  exact g4 (by rw [h1]; exact hn)
theorem hat.mv {T : List Nat} {ow ow' : Nat → Nat} {σ σ' : gH} {a t : Nat} {c : gCell} (h : hat ow σ a t c) (m : hmv T ow σ ow' σ') (ht : t ∉ T) : hat ow' σ' a t c := by
  obtain ⟨h1, rfl⟩ := h
  have := m.2 a c h1
  exact ⟨this.2.2 ht, this.1⟩
theorem hat.own {T : List Nat} {ow ow' : Nat → Nat} {σ σ' : gH} {a t : Nat} {c c' : gCell} (h : hat ow σ a t c) (m : hmv T ow σ ow' σ') (h' : σ'.2 a = some c') : hat ow' σ' a t c' := by
  obtain ⟨h1, rfl⟩ := h
  exact ⟨h', (m.2 a c h1).1⟩
theorem hmv.up {T : List Nat} {ow ow' : Nat → Nat} {σ σ' : gH} (m : hmv T ow σ ow' σ') {a t : Nat} {c e : gCell} (h : hat ow' σ' a t c) (ht : t ∈ T) (hk : ck e = ck c) : hmv T ow σ ow' (g_up σ' a e) := by
  refine ⟨m.1, fun b x hb => ⟨(m.2 b x hb).1, ?_, fun hn => ?_⟩⟩
  · obtain ⟨c', h1, h2⟩ := (m.2 b x hb).2.1
    by_cases e2 : b = a
    · subst e2
      rw [h.1] at h1
      cases h1
      exact ⟨e, g_up_same _ _ _, hk.trans h2⟩
    · exact ⟨c', by rw [g_up_ne e2]; exact h1, h2⟩
  · have hb' := (m.2 b x hb).2.2 hn
    have : b ≠ a := by
      intro e2
      subst e2
      rw [← (m.2 b x hb).1, h.2] at hn
      exact hn ht
    rw [g_up_ne this]
    exact hb'
theorem hmv.new {T : List Nat} {ow ow' : Nat → Nat} {σ σ' : gH} (m : hmv T ow σ ow' σ') {q : Nat} (t : Nat) {e : gCell} (h : σ'.2 q = none) : hmv T ow σ (va_up ow' q t) (g_up σ' q e) := by
  refine ⟨m.1, fun b x hb => ?_⟩
  obtain ⟨h1, ⟨c', h2, h3⟩, h4⟩ := m.2 b x hb
  have hne : b ≠ q := fun e2 => by rw [e2, h] at h2; cases h2
  refine ⟨by rw [va_up_ne _ _ hne]; exact h1, ⟨c', by rw [g_up_ne hne]; exact h2, h3⟩, fun hn => ?_⟩
  rw [g_up_ne hne]
  exact h4 hn
theorem hat.ne {ow : Nat → Nat} {σ : gH} {a b t u : Nat} {c e : gCell} (h : hat ow σ a t c) (g : hat ow σ b u e) (n : t ≠ u) : a ≠ b := fun q => n (by rw [← h.2, ← g.2, q])
theorem hat.ne2 {ow : Nat → Nat} {σ : gH} {a b t u : Nat} {c e : gCell} (h : hat ow σ a t c) (g : hat ow σ b u e) (n : ck c ≠ ck e) : a ≠ b := fun q => by
  subst q
  have := h.1.symm.trans g.1
  cases this
  exact n rfl
theorem hat.up {ow : Nat → Nat} {σ : gH} {a b t u : Nat} {c e x : gCell} (h : hat ow σ a t c) (g : hat ow σ b u e) (n : t ≠ u) : hat ow (g_up σ b x) a t c := ⟨by rw [g_up_ne (h.ne g n)]; exact h.1, h.2⟩
theorem hat.up2 {ow : Nat → Nat} {σ : gH} {a b t u : Nat} {c e x : gCell} (h : hat ow σ a t c) (g : hat ow σ b u e) (n : ck c ≠ ck e) : hat ow (g_up σ b x) a t c := ⟨by rw [g_up_ne (h.ne2 g n)]; exact h.1, h.2⟩
theorem hat.set {ow : Nat → Nat} {σ : gH} {a t : Nat} {c x : gCell} (h : hat ow σ a t c) : hat ow (g_up σ a x) a t x := ⟨g_up_same _ _ _, h.2⟩
theorem hat.fresh {ow : Nat → Nat} {σ : gH} {a t u q : Nat} {c x : gCell} (h : hat ow σ a t c) (g : σ.2 q = none) : hat (va_up ow q u) (g_up σ q x) a t c := by
  have : a ≠ q := fun e => by
    have := h.1
    rw [e, g] at this
    cases this
  exact ⟨by rw [g_up_ne this]; exact h.1, by rw [va_up_ne _ _ this]; exact h.2⟩
theorem hat.nw {ow : Nat → Nat} {σ : gH} {q : Nat} (t : Nat) {x : gCell} : hat (va_up ow q t) (g_up σ q x) q t x := ⟨g_up_same _ _ _, va_up_self _ _ _⟩
theorem hat.nn {ow : Nat → Nat} {σ : gH} {a t q : Nat} {c : gCell} (h : hat ow σ a t c) (g : σ.2 q = none) : a ≠ q := fun e => by
  have := h.1
  rw [e, g] at this
  cases this
/-! the pieces -/
/-- the fields of the object: k says where what lies, wy the way, ch whether it's changed -/
def r_fs (s : TS) (k : Nat → Nat) (ch : Int32) (wy : Option Nat) : List Value := [.int (s.1 0), .ref (k 1), .ref (k 2), .int (s.1 3), .int (s.1 4), .int (s.1 5), .int (s.1 6), .ref (k 7), .ref (k 8), .ref (k 9), .int (s.1 13), .ref (k 11), .int ch, .ref (k 13), .ref (k 14), .ref (k 15), .int (s.1 21), va_rf wy, .ref (k 18), .ref (k 19), .ref (k 20), .ref (k 21), .int (s.1 24), .ref (k 23)]
def r_fence (ow : Nat → Nat) (σ : gH) (F : Nat → Int32) (a : Nat) : Prop := ∃ f, hat ow σ a 2 (cZ 12 f) ∧ ∀ t, t < 12 → f t = F t
def r_price (ow : Nat → Nat) (σ : gH) (P : Nat → Int32) (a : Nat) : Prop := ∃ pf, hat ow σ a 3 (cQ 3 3 pf) ∧ ∀ w, w < 3 → ∃ b g, pf w = some b ∧ hat ow σ b (4 + w) (cI 12 g) ∧ ∀ t, t < 12 → g t = P (12 * w + t)
/-- a list: at l, n things x, in an array of at most cap places -/
def r_list (ow : Nat → Nat) (σ : gH) (l tl te cap n : Nat) (x : Nat → Nat) : Prop := ∃ (m : Int32) (e : Nat), hat ow σ l tl (cO 18 [.int m, .ref e, .int (nI n)]) ∧ ((e = σ.1.1 ∧ n = 0) ∨ ∃ N f, hat ow σ e te (cQ 9 N f) ∧ n ≤ N ∧ 10 ≤ N ∧ N ≤ cap ∧ ∀ i, i < n → f i = some (x i))
def r_rule (ow : Nat → Nat) (σ : gH) (RN RM SY : Nat → Int32) (r a : Nat) : Prop := ∃ so wh f g, hat ow σ a (20 + r) (cO 4 [.int (nI r), .int (RN r), .ref so, .ref wh, .int (RM r)]) ∧ hat ow σ so (50 + r) (cI 3 f) ∧ hat ow σ wh (80 + r) (cI 3 g) ∧ ∀ j, j < (RM r).toNatClampNeg → (f j = 0 ∧ g j = SY (3 * r + j) ∧ SY (3 * r + j) < 100) ∨ (f j = 1 ∧ 100 + g j = SY (3 * r + j) ∧ ¬ SY (3 * r + j) < 100)
def r_rules (ow : Nat → Nat) (σ : gH) (n : Nat) (RN RM SY : Nat → Int32) (a : Nat) (ru : Nat → Nat) : Prop := r_list ow σ a 10 14 100 n ru ∧ ∀ r, r < n → r_rule ow σ RN RM SY r (ru r)
def r_form (ow : Nat → Nat) (σ : gH) (FR : Nat → Int32) (w i a : Nat) : Prop := hat ow σ a 0 (cO 5 [.int (FR (12 * w + 4 * i)), .int (FR (12 * w + 4 * i + 1)), .int (FR (12 * w + 4 * i + 2)), .int (FR (12 * w + 4 * i + 3))])
def r_forms (ow : Nat → Nat) (σ : gH) (n : Nat) (FR : Nat → Int32) (a w : Nat) (fo : Nat → Nat) : Prop := r_list ow σ a (11 + w) (15 + w) 100 n fo ∧ ∀ i, i < n → r_form ow σ FR w i (fo i)
/-- a row of n ints -/
def r_row (ow : Nat → Nat) (σ : gH) (a t n : Nat) (g : Nat → Int32) : Prop := ∃ f, hat ow σ a t (cI n f) ∧ ∀ i, i < n → f i = g i
def r_words (ow : Nat → Nat) (σ : gH) (a n : Nat) (g : Nat → Int32) : Prop := ∃ f, hat ow σ a 7 (cI 300 f) ∧ ∀ i, i < n → f i = g i
def r_cube (ow : Nat → Nat) (σ : gH) (a n1 tag : Nat) (X : Nat → Nat → Nat → Int64) : Prop := ∃ f, hat ow σ a 0 (cQ 5 n1 f) ∧ ∀ i, i < n1 → ∃ c g, f i = some c ∧ hat ow σ c 0 (cQ 4 55 g) ∧ ∀ p, p < 55 → ∃ d, g p = some d ∧ hat ow σ d (tag + 55 * i + p) (cJ 55 (X i p))
def r_way (ow : Nat → Nat) (σ : gH) (wh fr to : Int32) (wy : Option Nat) : Prop := (wy = none ∧ wh = -4) ∨ ∃ w fr' to', wy = some w ∧ ¬ wh < 0 ∧ hat ow σ w 0 (cO 6 [.int wh, .int fr', .int to', .null]) ∧ (wh = 1 → fr' = fr ∧ to' = to)
/-- a tree: nodes n, rows of N places, what is in them -/
def r_tree (ow : Nat → Nat) (σ : gH) (a t n N : Nat) (g : Nat → Int32) : Prop := ∃ tc f, hat ow σ a t (cO 1 [.ref tc, .int (nI n)]) ∧ hat ow σ tc (if t = 0 then 0 else t + 1) (cQ 3 5 f) ∧ ∀ w, w < 5 → ∃ b h, f w = some b ∧ hat ow σ b (if t = 0 then 0 else t + 2 + w) (cI N h) ∧ ∀ i, i < n → h i = g (5 * i + w)
def r_slips (ow : Nat → Nat) (σ : gH) (a n : Nat) (g : Nat → Int32) : Prop := ∃ tc f, hat ow σ a 0 (cO 2 [.ref tc]) ∧ hat ow σ tc 0 (cQ 3 4 f) ∧ ∀ w, w < 4 → ∃ b h, f w = some b ∧ hat ow σ b 0 (cI n h) ∧ ∀ i, i < n → h i = g (4 * i + w)
def k_kind (ci : Nat) : Int32 := match ci with
  | 9 => 1 | 10 => 2 | 11 => 4 | 12 => 6 | 13 => 7 | 14 => 3 | 15 => 5 | _ => 0
/-- a slip that was told: its sort, its place, what it tells -/
def r_slip (ow : Nat → Nat) (σ : gH) (a : Nat) (kd pl tl : Int32) : Prop := ∃ ci fs, hat ow σ a 0 (cO ci fs) ∧ 9 ≤ ci ∧ ci ≤ 15 ∧ k_kind ci = kd ∧ fs[1]? = some (.int pl) ∧ (if ci = 12 ∨ ci = 14 then tl = 0 else fs[if ci = 13 then 8 else if ci = 11 ∨ ci = 15 then 9 else 4]? = some (.int tl)) ∧ vp_in pl 1000000 ∧ vp_in tl 1000000
def r_told (ow : Nat → Nat) (σ : gH) (a n : Nat) (g : Nat → Int32) : Prop := ∃ sl, r_list ow σ a 13 17 1000 n sl ∧ ∀ i, i < n → r_slip ow σ (sl i) (g (4 * i)) (g (4 * i + 1)) (g (4 * i + 2))
/-- what lies on a shelf -/
def r_thing (ow : Nat → Nat) (σ : gH) (th : Option Nat) (kd : Int32) (n : Nat) (g : Nat → Int32) : Prop := (th = none ∧ kd = 0) ∨ ∃ a, th = some a ∧ ((kd = 1 ∧ r_row ow σ a 0 n g) ∨ (kd = 2 ∧ r_tree ow σ a 0 n n g) ∨ (kd = 3 ∧ r_slips ow σ a n g))
def r_shelf (ow : Nat → Nat) (σ : gH) (SK SM SR : Nat → Int32) (j : Nat) (r : Option Nat) : Prop := (r = none ∧ SK j = 0) ∨ ∃ a th, r = some a ∧ hat ow σ a (111 + j) (cO 17 [va_rf th]) ∧ r_thing ow σ th (SK j) (SM j).toNatClampNeg (fun i => SR (1600 * j + i))
def r_shelves (ow : Nat → Nat) (σ : gH) (SK SM SR : Nat → Int32) (a : Nat) : Prop := ∃ f, hat ow σ a 110 (cQ 6 6 f) ∧ ∀ j, j < 6 → r_shelf ow σ SK SM SR j (f j)
/-! what holds of the twin's state -/
def v_tok (n : Int32) (F P : Nat → Int32) : Prop := vp_in n 13 ∧ ∀ t, t < n.toNatClampNeg → t_b (F t) ∧ ∀ w, w < 3 → vp_in (P (12 * w + t)) 101 ∧ P (12 * w + t) ≠ 0
def v_pr (a b : Int32) : Prop := (vp_in a 101 ∧ a ≠ 0) ∧ vp_in b 101 ∧ b ≠ 0
def v_nam (n st : Int32) : Prop := vp_in n 9 ∧ (n = 0 → st = 0) ∧ (n ≠ 0 → vp_in st n.toNatClampNeg)
def v_rul (nt nn n : Int32) (RN RM SY : Nat → Int32) : Prop := vp_in n 25 ∧ ∀ r, r < n.toNatClampNeg → vp_in (RN r) nn.toNatClampNeg ∧ vp_in (RM r) 4 ∧ ∀ j, j < (RM r).toNatClampNeg → vp_in (SY (3 * r + j)) nt.toNatClampNeg ∨ ∃ y, vp_in y nn.toNatClampNeg ∧ SY (3 * r + j) = 100 + y
def v_for (nt : Int32) (FN FR : Nat → Int32) : Prop := ∀ w, w < 2 → vp_in (FN w) 4 ∧ ∀ i, i < (FN w).toNatClampNeg → (∀ j, j < 3 → vp_in (FR (12 * w + 4 * i + j)) nt.toNatClampNeg) ∧ vp_in (FR (12 * w + 4 * i + 3)) 101 ∧ FR (12 * w + 4 * i + 3) ≠ 0
/-- a row of tokens -/
def v_row (nt n : Int32) (m : Nat) (T : Nat → Int32) : Prop := vp_in n m ∧ ∀ i, i < n.toNatClampNeg → vp_in (T i) nt.toNatClampNeg
def v_red (isRead price which slips nn nodes : Int32) : Prop := t_b isRead ∧ (isRead = 0 → price = -4) ∧ (isRead = 1 → ¬ price < 0) ∧ (which = -4 ∨ vp_in which 4) ∧ vp_in slips 320 ∧ (slips ≠ 0 → ¬ which < 0 ∧ isRead = 1 ∧ nn ≠ 0) ∧ vp_in nodes 101
def v_she (nt : Int32) (SK SM SR : Nat → Int32) : Prop := ∀ j, j < 6 → vp_in (SK j) 4 ∧ (SK j = 0 → SM j = 0) ∧ (SK j = 1 → v_row nt (SM j) 301 (fun i => SR (1600 * j + i))) ∧ (SK j = 2 → vp_in (SM j) 101) ∧ (SK j = 3 → vp_in (SM j) 320)
/-- all but the object itself; k says where what lies -/
def r_all (ow : Nat → Nat) (σ : gH) (s : TS) (k : Nat → Nat) (wy : Option Nat) : Prop :=
  (r_fence ow σ (s.2.1 1) (k 1) ∧ r_price ow σ (s.2.1 2) (k 2) ∧ (∃ ru, r_rules ow σ (s.1 7).toNatClampNeg (s.2.1 8) (s.2.1 9) (s.2.1 10) (k 7) ru) ∧ (∃ fo, r_forms ow σ (s.2.1 11 0).toNatClampNeg (s.2.1 12) (k 8) 0 fo) ∧ (∃ fo, r_forms ow σ (s.2.1 11 1).toNatClampNeg (s.2.1 12) (k 9) 1 fo) ∧ r_row ow σ (k 11) 0 (s.1 14).toNatClampNeg (s.2.1 15)) ∧
  ((∃ X, r_cube ow σ (k 13) 12 1000 X) ∧ (∃ X, r_cube ow σ (k 14) 8 2000 X) ∧ (∃ X, r_cube ow σ (k 15) 96 3000 X)) ∧
  (r_way ow σ (s.1 17) (s.1 18) (s.1 19) wy ∧ r_tree ow σ (k 18) 120 (s.1 26).toNatClampNeg 100 (s.2.1 27) ∧ r_told ow σ (k 19) (s.1 22).toNatClampNeg (s.2.1 23) ∧ r_slips ow σ (k 20) (s.1 22).toNatClampNeg (s.2.1 23) ∧ r_words ow σ (k 21) (s.1 24).toNatClampNeg (s.2.1 25)) ∧
  r_shelves ow σ (s.2.1 51) (s.2.1 52) (s.2.1 53) (k 23)
def v_all (s : TS) : Prop := (v_tok (s.1 0) (s.2.1 1) (s.2.1 2) ∧ v_pr (s.1 3) (s.1 4) ∧ v_nam (s.1 5) (s.1 6) ∧ v_rul (s.1 0) (s.1 5) (s.1 7) (s.2.1 8) (s.2.1 9) (s.2.1 10) ∧ v_for (s.1 0) (s.2.1 11) (s.2.1 12) ∧ t_b (s.1 13) ∧ v_row (s.1 0) (s.1 14) 11 (s.2.1 15)) ∧
  (v_red (s.1 20) (s.1 21) (s.1 17) (s.1 22) (s.1 5) (s.1 26) ∧ v_row (s.1 0) (s.1 24) 301 (s.2.1 25)) ∧ v_she (s.1 0) (s.2.1 51) (s.2.1 52) (s.2.1 53)
def v_ch (ch fresh slips : Int32) : Prop := t_b ch ∧ t_b fresh ∧ (slips ≠ 0 → (ch = 0 ↔ fresh = 1))
def v_ext (s : TS) : Prop := (vp_in (s.1 18) 1000000 ∧ vp_in (s.1 19) 1000000) ∧ vp_in (s.1 36) 1000000 ∧ vp_in (s.1 37) 1000000
def JJ (x0 : Nat) (σ : gH) (s : TS) : Prop := ∃ ow k ch wy, hat ow σ x0 1 (cO 0 (r_fs s k ch wy)) ∧ r_all ow σ s k wy ∧ v_all s ∧ v_ch ch (s.1 16) (s.1 22) ∧ v_ext s
/-! the pieces stay where their owners aren't touched -/
section MV
variable {T : List Nat} {ow ow' : Nat → Nat} {σ σ' : gH}
theorem r_fence.mv {F : Nat → Int32} {a : Nat} (h : r_fence ow σ F a) (m : hmv T ow σ ow' σ') (ht : 2 ∉ T) : r_fence ow' σ' F a := by
  obtain ⟨f, h1, h2⟩ := h
  exact ⟨f, h1.mv m ht, h2⟩
theorem r_price.mv {P : Nat → Int32} {a : Nat} (h : r_price ow σ P a) (m : hmv T ow σ ow' σ') (ht : ∀ w, w < 4 → 3 + w ∉ T) : r_price ow' σ' P a := by
  obtain ⟨f, h1, h2⟩ := h
  refine ⟨f, h1.mv m (ht 0 (by decide)), fun w hw => ?_⟩
  obtain ⟨b, g, h3, h4, h5⟩ := h2 w hw
  exact ⟨b, g, h3, h4.mv m (by have := ht (w + 1) (by omega); rwa [show 3 + (w + 1) = 4 + w by omega] at this), h5⟩
theorem r_list.mv {l tl te cap n : Nat} {x : Nat → Nat} (h : r_list ow σ l tl te cap n x) (m : hmv T ow σ ow' σ') (ht : tl ∉ T) (ht2 : te ∉ T) : r_list ow' σ' l tl te cap n x := by
  obtain ⟨c, e, h1, h2⟩ := h
  refine ⟨c, e, h1.mv m ht, ?_⟩
  rcases h2 with h2 | ⟨N, f, h3, h4⟩
  · exact Or.inl (by rw [m.1]; exact h2)
  · exact Or.inr ⟨N, f, h3.mv m ht2, h4⟩
theorem r_rule.mv {RN RM SY : Nat → Int32} {r a : Nat} (h : r_rule ow σ RN RM SY r a) (m : hmv T ow σ ow' σ') (ht : 20 + r ∉ T) (ht2 : 50 + r ∉ T) (ht3 : 80 + r ∉ T) : r_rule ow' σ' RN RM SY r a := by
  obtain ⟨so, wh, f, g, h1, h2, h3, h4⟩ := h
  exact ⟨so, wh, f, g, h1.mv m ht, h2.mv m ht2, h3.mv m ht3, h4⟩
theorem r_rules.mv {n : Nat} {RN RM SY : Nat → Int32} {a : Nat} {ru : Nat → Nat} (h : r_rules ow σ n RN RM SY a ru) (m : hmv T ow σ ow' σ') (hn : n ≤ 24) (ht0 : 10 ∉ T) (ht1 : 14 ∉ T) (ht : ∀ t ∈ T, t < 20 ∨ 110 ≤ t) : r_rules ow' σ' n RN RM SY a ru := by
  refine ⟨h.1.mv m ht0 ht1, fun r hr => (h.2 r hr).mv m ?_ ?_ ?_⟩ <;>
    (intro q; have := ht _ q; omega)
theorem r_forms.mv {n : Nat} {FR : Nat → Int32} {a w : Nat} {fo : Nat → Nat} (h : r_forms ow σ n FR a w fo) (m : hmv T ow σ ow' σ') (ht0 : 11 + w ∉ T) (ht1 : 15 + w ∉ T) (ht : 0 ∉ T) : r_forms ow' σ' n FR a w fo := ⟨h.1.mv m ht0 ht1, fun i hi => (h.2 i hi).mv m ht⟩
theorem r_row.mv {a t n : Nat} {g : Nat → Int32} (h : r_row ow σ a t n g) (m : hmv T ow σ ow' σ') (ht : t ∉ T) : r_row ow' σ' a t n g := by
  obtain ⟨f, h1, h2⟩ := h
  exact ⟨f, h1.mv m ht, h2⟩
theorem r_words.mv {a n : Nat} {g : Nat → Int32} (h : r_words ow σ a n g) (m : hmv T ow σ ow' σ') (ht : 7 ∉ T) : r_words ow' σ' a n g := by
  obtain ⟨f, h1, h2⟩ := h
  exact ⟨f, h1.mv m ht, h2⟩
theorem r_cube.mv {a n1 tag : Nat} {X : Nat → Nat → Nat → Int64} (h : r_cube ow σ a n1 tag X) (m : hmv T ow σ ow' σ') (ht0 : 0 ∉ T) (ht : ∀ t ∈ T, t < tag ∨ tag + 55 * n1 ≤ t) : r_cube ow' σ' a n1 tag X := by
  obtain ⟨f, h1, h2⟩ := h
  refine ⟨f, h1.mv m ht0, fun i hi => ?_⟩
  obtain ⟨c, g, h3, h4, h5⟩ := h2 i hi
  refine ⟨c, g, h3, h4.mv m ht0, fun p hp => ?_⟩
  obtain ⟨d, h6, h7⟩ := h5 p hp
  exact ⟨d, h6, h7.mv m (fun q => by have := ht _ q; omega)⟩
theorem r_way.mv {wh fr to : Int32} {wy : Option Nat} (h : r_way ow σ wh fr to wy) (m : hmv T ow σ ow' σ') (ht : 0 ∉ T) : r_way ow' σ' wh fr to wy := by
  rcases h with h | ⟨w, f, t, h1, h0, h2, h3⟩
  · exact Or.inl h
  · exact Or.inr ⟨w, f, t, h1, h0, h2.mv m ht, h3⟩
theorem r_tree.mv {a t n N : Nat} {g : Nat → Int32} (h : r_tree ow σ a t n N g) (m : hmv T ow σ ow' σ') (ht0 : t ∉ T) (ht : t ≠ 0 → ∀ w, w < 6 → t + 1 + w ∉ T) : r_tree ow' σ' a t n N g := by
  obtain ⟨tc, f, h1, h2, h3⟩ := h
  have e : ∀ w, w < 6 → (if t = 0 then 0 else t + 1 + w) ∉ T := by
    intro w hw
    by_cases e : t = 0
    · rw [if_pos e, ← e]; exact ht0
    · rw [if_neg e]; exact ht e w hw
  refine ⟨tc, f, h1.mv m ht0, h2.mv m (e 0 (by decide)), fun w hw => ?_⟩
  obtain ⟨b, h, h4, h5, h6⟩ := h3 w hw
  refine ⟨b, h, h4, h5.mv m ?_, h6⟩
  have := e (w + 1) (by omega)
  rwa [show t + 1 + (w + 1) = t + 2 + w by omega] at this
theorem r_slips.mv {a n : Nat} {g : Nat → Int32} (h : r_slips ow σ a n g) (m : hmv T ow σ ow' σ') (ht : 0 ∉ T) : r_slips ow' σ' a n g := by
  obtain ⟨tc, f, h1, h2, h3⟩ := h
  refine ⟨tc, f, h1.mv m ht, h2.mv m ht, fun w hw => ?_⟩
  obtain ⟨b, h, h4, h5, h6⟩ := h3 w hw
  exact ⟨b, h, h4, h5.mv m ht, h6⟩
theorem r_slip.mv {a : Nat} {kd pl tl : Int32} (h : r_slip ow σ a kd pl tl) (m : hmv T ow σ ow' σ') (ht : 0 ∉ T) : r_slip ow' σ' a kd pl tl := by
  obtain ⟨ci, fs, h1, h2⟩ := h
  exact ⟨ci, fs, h1.mv m ht, h2⟩
theorem r_told.mv {a n : Nat} {g : Nat → Int32} (h : r_told ow σ a n g) (m : hmv T ow σ ow' σ') (ht0 : 13 ∉ T) (ht1 : 17 ∉ T) (ht : 0 ∉ T) : r_told ow' σ' a n g := by
  obtain ⟨sl, h1, h2⟩ := h
  exact ⟨sl, h1.mv m ht0 ht1, fun i hi => (h2 i hi).mv m ht⟩
theorem r_thing.mv {th : Option Nat} {kd : Int32} {n : Nat} {g : Nat → Int32} (h : r_thing ow σ th kd n g) (m : hmv T ow σ ow' σ') (ht : 0 ∉ T) : r_thing ow' σ' th kd n g := by
  rcases h with h | ⟨a, h0, h⟩
  · exact Or.inl h
  · refine Or.inr ⟨a, h0, ?_⟩
    rcases h with ⟨h1, h2⟩ | ⟨h1, h2⟩ | ⟨h1, h2⟩
    · exact Or.inl ⟨h1, h2.mv m ht⟩
    · exact Or.inr (Or.inl ⟨h1, h2.mv m ht (fun e => absurd rfl e)⟩)
    · exact Or.inr (Or.inr ⟨h1, h2.mv m ht⟩)
theorem r_shelf.mv {SK SM SR : Nat → Int32} {j : Nat} {r : Option Nat} (h : r_shelf ow σ SK SM SR j r) (m : hmv T ow σ ow' σ') (ht : 0 ∉ T) (ht1 : 111 + j ∉ T) : r_shelf ow' σ' SK SM SR j r := by
  rcases h with h | ⟨a, th, h0, h1, h⟩
  · exact Or.inl h
  · exact Or.inr ⟨a, th, h0, h1.mv m ht1, h.mv m ht⟩
theorem r_shelves.mv {SK SM SR : Nat → Int32} {a : Nat} (h : r_shelves ow σ SK SM SR a) (m : hmv T ow σ ow' σ') (ht : 0 ∉ T) (ht1 : ∀ t ∈ T, t < 110 ∨ 117 ≤ t) : r_shelves ow' σ' SK SM SR a := by
  obtain ⟨f, h1, h2⟩ := h
  exact ⟨f, h1.mv m (fun q => by have := ht1 _ q; omega), fun j hj => (h2 j hj).mv m ht (fun q => by have := ht1 _ q; omega)⟩
end MV
theorem hmv.at {T : List Nat} {ow ow' : Nat → Nat} {σ σ' : gH} (m : hmv T ow σ ow' σ') {a t : Nat} {c e : gCell} (h : hat ow σ a t c) (ht : t ∈ T) (hk : ck e = ck c) : hmv T ow σ ow' (g_up σ' a e) := by
  refine ⟨m.1, fun b x hb => ⟨(m.2 b x hb).1, ?_, fun hn => ?_⟩⟩
  · by_cases e2 : b = a
    · subst e2
      have := hb.symm.trans h.1
      cases this
      exact ⟨e, g_up_same _ _ _, hk⟩
    · obtain ⟨c', h1, h2⟩ := (m.2 b x hb).2.1
      exact ⟨c', by rw [g_up_ne e2]; exact h1, h2⟩
  · have : b ≠ a := by
      intro e2
      subst e2
      rw [h.2] at hn
      exact hn ht
    rw [g_up_ne this]
    exact (m.2 b x hb).2.2 hn
theorem cl_0 : (0 : Int32).toNatClampNeg = 0 := rfl
theorem cl_1 : (1 : Int32).toNatClampNeg = 1 := rfl
theorem cl_2 : (2 : Int32).toNatClampNeg = 2 := rfl
theorem cl_3 : (3 : Int32).toNatClampNeg = 3 := rfl
theorem cl_4 : (4 : Int32).toNatClampNeg = 4 := rfl
theorem len_ok (n : Nat) : (n < n + 1) = True := by simp
section MV2
variable {T : List Nat} {ow ow' : Nat → Nat} {σ σ' : gH} {s : TS} {k : Nat → Nat} {wy : Option Nat}
theorem v_rul.le {nt nn n : Int32} {RN RM SY : Nat → Int32} (h : v_rul nt nn n RN RM SY) : n.toNatClampNeg ≤ 24 := by
  obtain ⟨j, h1, rfl⟩ := vp_in_of h.1 (by decide)
  rw [nI_clamp (by omega)]
  omega
/-- nothing of it is touched -/
theorem r_all.mv (h : r_all ow σ s k wy) (v : v_all s) (m : hmv T ow σ ow' σ') (ht : ∀ t ∈ T, t = 1 ∨ 9000 ≤ t) : r_all ow' σ' s k wy := by
  have h0 : ∀ n, n < 9000 → n ≠ 1 → n ∉ T := fun n h1 h2 q => by have := ht n q; omega
  obtain ⟨⟨a1, a2, ⟨ru, a3⟩, ⟨fo, a4⟩, ⟨fo2, a5⟩, a6⟩, ⟨⟨X1, b1⟩, ⟨X2, b2⟩, ⟨X3, b3⟩⟩, ⟨c1, c2, c3, c4, c5⟩, d⟩ := h
  refine ⟨⟨a1.mv m (h0 _ (by decide) (by decide)), a2.mv m (fun w hw => h0 _ (by omega) (by omega)), ⟨ru, a3.mv m v.1.2.2.2.1.le (h0 _ (by decide) (by decide)) (h0 _ (by decide) (by decide)) (fun t q => by have := ht t q; omega)⟩, ⟨fo, a4.mv m (h0 _ (by decide) (by decide)) (h0 _ (by decide) (by decide)) (h0 _ (by decide) (by decide))⟩, ⟨fo2, a5.mv m (h0 _ (by decide) (by decide)) (h0 _ (by decide) (by decide)) (h0 _ (by decide) (by decide))⟩, a6.mv m (h0 _ (by decide) (by decide))⟩, ⟨⟨X1, b1.mv m (h0 _ (by decide) (by decide)) (fun t q => by have := ht t q; omega)⟩, ⟨X2, b2.mv m (h0 _ (by decide) (by decide)) (fun t q => by have := ht t q; omega)⟩, ⟨X3, b3.mv m (h0 _ (by decide) (by decide)) (fun t q => by have := ht t q; omega)⟩⟩, ⟨c1.mv m (h0 _ (by decide) (by decide)), c2.mv m (h0 _ (by decide) (by decide)) (fun _ w hw => h0 _ (by omega) (by omega)), c3.mv m (h0 _ (by decide) (by decide)) (h0 _ (by decide) (by decide)) (h0 _ (by decide) (by decide)), c4.mv m (h0 _ (by decide) (by decide)), c5.mv m (h0 _ (by decide) (by decide))⟩, d.mv m (h0 _ (by decide) (by decide)) (fun t q => by have := ht t q; omega)⟩
end MV2
