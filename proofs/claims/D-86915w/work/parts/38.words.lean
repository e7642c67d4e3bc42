/-! PLAIN LAW, words: the reads and writes of the predicates in a form that simp can go through -/
set_option maxRecDepth 100000
def un_rf : Value → Option (Option Nat)
  | .ref a => some (some a)
  | .null => some none
  | _ => none
theorem un_rf_rf (r : Option Nat) : un_rf (va_rf r) = some r := by cases r <;> rfl
theorem un_rf_ref (a : Nat) : un_rf (.ref a) = some (some a) := rfl
theorem un_rf_null : un_rf .null = some none := rfl
theorem un_rf_eq {v : Value} {r : Option Nat} (h : un_rf v = some r) : v = va_rf r := by
  cases v <;> simp [un_rf] at h <;> subst h <;> rfl
def un_i : Value → Option Int32
  | .int x => some x
  | _ => none
theorem un_i_int (x : Int32) : un_i (.int x) = some x := rfl
theorem un_i_eq {v : Value} {x : Int32} (h : un_i v = some x) : v = .int x := by
  cases v <;> simp [un_i] at h <;> subst h <;> rfl
def oP {α : Type} (o : Option α) (P : α → Prop) : Prop := match o with
  | some x => P x
  | none => False
theorem oP_some {α : Type} {x : α} {P : α → Prop} : oP (some x) P = P x := rfl
theorem oP_elim {α : Type} {o : Option α} {P : α → Prop} (h : oP o P) : ∃ x, o = some x ∧ P x := by
  cases o with
  | none => exact h.elim
  | some x => exact ⟨x, rfl, h⟩
def un_o : gCell → Option (Nat × List Value)
  | .inr q => some q
  | _ => none
def un_ai (t : Nat) : gCell → Option (Nat × (Nat → Int32))
  | .inl (t', N, .inl f) => if t' = t then some (N, f) else none
  | _ => none
def un_aj : gCell → Option (Nat × (Nat → Int64))
  | .inl (t', N, .inr (.inl f)) => if t' = 1 then some (N, f) else none
  | _ => none
def un_ar (t : Nat) : gCell → Option (Nat × (Nat → Option Nat))
  | .inl (t', N, .inr (.inr (.inr (.inr f)))) => if t' = t then some (N, f) else none
  | _ => none
theorem un_o_eq {c : gCell} {q : Nat × List Value} (h : un_o c = some q) : c = .inr q := by
  cases c <;> simp [un_o] at h; rw [h]
theorem un_ai_eq {t : Nat} {c : gCell} {q : Nat × (Nat → Int32)} (h : un_ai t c = some q) : c = .inl (t, q.1, .inl q.2) := by
  rcases c with ⟨t', N, f | f | f | f | f⟩ | c <;> simp [un_ai] at h
  obtain ⟨rfl, rfl⟩ := h; rfl
theorem un_aj_eq {c : gCell} {q : Nat × (Nat → Int64)} (h : un_aj c = some q) : c = .inl (1, q.1, .inr (.inl q.2)) := by
  rcases c with ⟨t', N, f | f | f | f | f⟩ | c <;> simp [un_aj] at h
  obtain ⟨rfl, rfl⟩ := h; rfl
theorem un_ar_eq {t : Nat} {c : gCell} {q : Nat × (Nat → Option Nat)} (h : un_ar t c = some q) : c = .inl (t, q.1, .inr (.inr (.inr (.inr q.2)))) := by
  rcases c with ⟨t', N, f | f | f | f | f⟩ | c <;> simp [un_ar] at h
  obtain ⟨rfl, rfl⟩ := h; rfl
theorem un_o_r (ci : Nat) (fs : List Value) : un_o (.inr (ci, fs)) = some (ci, fs) := rfl
theorem un_ai_r (t N : Nat) (f : Nat → Int32) : un_ai t (.inl (t, N, .inl f)) = some (N, f) := by simp [un_ai]
theorem un_aj_r (N : Nat) (f : Nat → Int64) : un_aj (.inl (1, N, .inr (.inl f))) = some (N, f) := by simp [un_aj]
theorem un_ar_r (t N : Nat) (f : Nat → Option Nat) : un_ar t (.inl (t, N, .inr (.inr (.inr (.inr f))))) = some (N, f) := by simp [un_ar]
/-! what is asked, the cell being given -/
theorem x_I {σ : gH} {L : List Nat} {a k : Nat} {P : Int32 → Prop} {c : gCell} (h : σ.2 a = some c) (w : oP (un_o c) fun q => q.1 ∈ L ∧ oP (q.2[k]?.bind un_i) P) : c_I σ L a k P := by
  obtain ⟨⟨ci, fs⟩, h1, h2, w⟩ := oP_elim w
  obtain ⟨x, h3, w⟩ := oP_elim w
  obtain ⟨v, h4, h5⟩ := Option.bind_eq_some_iff.mp h3
  exact ⟨ci, fs, x, h2, by rw [h, un_o_eq h1], by rw [h4, un_i_eq h5], w⟩
theorem x_R {σ : gH} {L : List Nat} {a k : Nat} {P : Option Nat → Prop} {c : gCell} (h : σ.2 a = some c) (w : oP (un_o c) fun q => q.1 ∈ L ∧ oP (q.2[k]?.bind un_rf) P) : c_R σ L a k P := by
  obtain ⟨⟨ci, fs⟩, h1, h2, w⟩ := oP_elim w
  obtain ⟨x, h3, w⟩ := oP_elim w
  obtain ⟨v, h4, h5⟩ := Option.bind_eq_some_iff.mp h3
  exact ⟨ci, fs, x, h2, by rw [h, un_o_eq h1], by rw [h4, un_rf_eq h5], w⟩
def gI (o : Option gCell) (L : List Nat) (k : Nat) (P : Int32 → Prop) : Prop := oP (o.bind un_o) fun q => q.1 ∈ L ∧ oP (q.2[k]?.bind un_i) P
def gR (o : Option gCell) (L : List Nat) (k : Nat) (P : Option Nat → Prop) : Prop := oP (o.bind un_o) fun q => q.1 ∈ L ∧ oP (q.2[k]?.bind un_rf) P
def gO (o : Option gCell) (P : Nat → List Value → Prop) : Prop := oP (o.bind un_o) fun q => P q.1 q.2
theorem g_I {σ : gH} {L : List Nat} {a k : Nat} {P : Int32 → Prop} : gI (σ.2 a) L k P → c_I σ L a k P := by
  intro w
  obtain ⟨⟨ci, fs⟩, h1, h2, w⟩ := oP_elim w
  obtain ⟨c, h0, h1⟩ := Option.bind_eq_some_iff.mp h1
  obtain ⟨x, h3, w⟩ := oP_elim w
  obtain ⟨v, h4, h5⟩ := Option.bind_eq_some_iff.mp h3
  exact ⟨ci, fs, x, h2, by rw [h0, un_o_eq h1], by rw [h4, un_i_eq h5], w⟩
theorem c_I_iff {σ : gH} {L : List Nat} {a k : Nat} {P : Int32 → Prop} : c_I σ L a k P ↔ gI (σ.2 a) L k P := by
  refine ⟨fun ⟨ci, fs, x, h1, h2, h3, h4⟩ => ?_, g_I⟩
  rw [gI, h2]
  show ci ∈ L ∧ oP (fs[k]?.bind un_i) P
  rw [h3]
  exact ⟨h1, h4⟩
theorem c_R_iff {σ : gH} {L : List Nat} {a k : Nat} {P : Option Nat → Prop} : c_R σ L a k P ↔ gR (σ.2 a) L k P := by
  constructor
  · intro ⟨ci, fs, x, h1, h2, h3, h4⟩
    rw [gR, h2]
    show ci ∈ L ∧ oP (fs[k]?.bind un_rf) P
    rw [h3]
    refine ⟨h1, ?_⟩
    rw [Option.bind_some, un_rf_rf]
    exact h4
  · intro w
    obtain ⟨⟨ci, fs⟩, h1, h2, w⟩ := oP_elim w
    obtain ⟨c, h0, h1⟩ := Option.bind_eq_some_iff.mp h1
    obtain ⟨x, h3, w⟩ := oP_elim w
    obtain ⟨v, h4, h5⟩ := Option.bind_eq_some_iff.mp h3
    exact ⟨ci, fs, x, h2, by rw [h0, un_o_eq h1], by rw [h4, un_rf_eq h5], w⟩
theorem c_P_iff {σ : gH} {L : List Nat} {a k : Nat} {v : Value} {P : gH → Prop} : c_P σ L a k v P ↔ gO (σ.2 a) (fun ci fs => ci ∈ L ∧ k < fs.length ∧ P (g_up σ a (.inr (ci, fs.set k v)))) := by
  constructor
  · intro ⟨ci, fs, h1, h2, h3, h4⟩
    rw [gO, h2]
    exact ⟨h1, h3, h4 _ rfl⟩
  · intro w
    obtain ⟨⟨ci, fs⟩, h1, w⟩ := oP_elim w
    obtain ⟨c, h0, h1⟩ := Option.bind_eq_some_iff.mp h1
    exact ⟨ci, fs, w.1, by rw [h0, un_o_eq h1], w.2.1, fun _ e => by rw [e]; exact w.2.2⟩
def gA (t : Nat) (o : Option gCell) (i : Int32) (P : Nat → (Nat → Int32) → Prop) : Prop := oP (o.bind (un_ai t)) fun q => vp_in i q.1 ∧ P q.1 q.2
def gJ (o : Option gCell) (i : Int32) (P : Nat → (Nat → Int64) → Prop) : Prop := oP (o.bind un_aj) fun q => vp_in i q.1 ∧ P q.1 q.2
def gQ (t : Nat) (o : Option gCell) (i : Int32) (P : Nat → (Nat → Option Nat) → Prop) : Prop := oP (o.bind (un_ar t)) fun q => vp_in i q.1 ∧ P q.1 q.2
theorem gA_elim {t : Nat} {o : Option gCell} {i : Int32} {P : Nat → (Nat → Int32) → Prop} (h : gA t o i P) : ∃ N f, o = some (.inl (t, N, .inl f)) ∧ vp_in i N ∧ P N f := by
  obtain ⟨⟨N, f⟩, h1, w⟩ := oP_elim h
  obtain ⟨c, h0, h1⟩ := Option.bind_eq_some_iff.mp h1
  exact ⟨N, f, by rw [h0, un_ai_eq h1], w⟩
theorem gJ_elim {o : Option gCell} {i : Int32} {P : Nat → (Nat → Int64) → Prop} (h : gJ o i P) : ∃ N f, o = some (.inl (1, N, .inr (.inl f))) ∧ vp_in i N ∧ P N f := by
  obtain ⟨⟨N, f⟩, h1, w⟩ := oP_elim h
  obtain ⟨c, h0, h1⟩ := Option.bind_eq_some_iff.mp h1
  exact ⟨N, f, by rw [h0, un_aj_eq h1], w⟩
theorem gQ_elim {t : Nat} {o : Option gCell} {i : Int32} {P : Nat → (Nat → Option Nat) → Prop} (h : gQ t o i P) : ∃ N f, o = some (.inl (t, N, .inr (.inr (.inr (.inr f))))) ∧ vp_in i N ∧ P N f := by
  obtain ⟨⟨N, f⟩, h1, w⟩ := oP_elim h
  obtain ⟨c, h0, h1⟩ := Option.bind_eq_some_iff.mp h1
  exact ⟨N, f, by rw [h0, un_ar_eq h1], w⟩
theorem gA_at {t N : Nat} {f : Nat → Int32} {i : Int32} {P : Nat → (Nat → Int32) → Prop} : gA t (some (.inl (t, N, .inl f))) i P ↔ vp_in i N ∧ P N f := by simp [gA, un_ai, oP]
theorem gJ_at {N : Nat} {f : Nat → Int64} {i : Int32} {P : Nat → (Nat → Int64) → Prop} : gJ (some (.inl (1, N, .inr (.inl f)))) i P ↔ vp_in i N ∧ P N f := by simp [gJ, un_aj, oP]
theorem gQ_at {t N : Nat} {f : Nat → Option Nat} {i : Int32} {P : Nat → (Nat → Option Nat) → Prop} : gQ t (some (.inl (t, N, .inr (.inr (.inr (.inr f)))))) i P ↔ vp_in i N ∧ P N f := by simp [gQ, un_ar, oP]
theorem gO_at {ci : Nat} {fs : List Value} {P : Nat → List Value → Prop} : gO (some (.inr (ci, fs))) P ↔ P ci fs := by simp [gO, un_o, oP]
theorem gI_at {ci k : Nat} {fs : List Value} {L : List Nat} {P : Int32 → Prop} : gI (some (.inr (ci, fs))) L k P ↔ ci ∈ L ∧ oP (fs[k]?.bind un_i) P := by simp [gI, un_o, oP]
theorem gR_at {ci k : Nat} {fs : List Value} {L : List Nat} {P : Option Nat → Prop} : gR (some (.inr (ci, fs))) L k P ↔ ci ∈ L ∧ oP (fs[k]?.bind un_rf) P := by simp [gR, un_o, oP]
theorem c_aI_iff {σ : gH} {a : Nat} {i : Int32} {P : Int32 → Prop} : c_aI σ a i P ↔ gA 0 (σ.2 a) i (fun _ f => P (f i.toNatClampNeg)) := by
  constructor
  · intro ⟨N, f, h1, h2, h3⟩
    rw [h1, gA_at]
    exact ⟨h2, h3⟩
  · intro h
    obtain ⟨N, f, h1, h2, h3⟩ := gA_elim h
    exact ⟨N, f, h1, h2, h3⟩
theorem c_aZ_iff {σ : gH} {a : Nat} {i : Int32} {P : Int32 → Prop} : c_aZ σ a i P ↔ gA 2 (σ.2 a) i (fun _ f => P (f i.toNatClampNeg)) := by
  constructor
  · intro ⟨N, f, h1, h2, h3⟩
    rw [h1, gA_at]
    exact ⟨h2, h3⟩
  · intro h
    obtain ⟨N, f, h1, h2, h3⟩ := gA_elim h
    exact ⟨N, f, h1, h2, h3⟩
theorem c_aJ_iff {σ : gH} {a : Nat} {i : Int32} {P : Int64 → Prop} : c_aJ σ a i P ↔ gJ (σ.2 a) i (fun _ f => P (f i.toNatClampNeg)) := by
  constructor
  · intro ⟨N, f, h1, h2, h3⟩
    rw [h1, gJ_at]
    exact ⟨h2, h3⟩
  · intro h
    obtain ⟨N, f, h1, h2, h3⟩ := gJ_elim h
    exact ⟨N, f, h1, h2, h3⟩
theorem c_aR_iff {t : Nat} {σ : gH} {a : Nat} {i : Int32} {P : Option Nat → Prop} : c_aR t σ a i P ↔ gQ t (σ.2 a) i (fun _ f => P (f i.toNatClampNeg)) := by
  constructor
  · intro ⟨N, f, h1, h2, h3⟩
    rw [h1, gQ_at]
    exact ⟨h2, h3⟩
  · intro h
    obtain ⟨N, f, h1, h2, h3⟩ := gQ_elim h
    exact ⟨N, f, h1, h2, h3⟩
theorem c_sI_iff {σ : gH} {a : Nat} {i v : Int32} {P : gH → Prop} : c_sI σ a i v P ↔ gA 0 (σ.2 a) i (fun N f => P (g_up σ a (.inl (0, N, .inl (upd f i.toNatClampNeg v))))) := by
  constructor
  · intro ⟨N, f, h1, h2, h3⟩
    rw [h1, gA_at]
    exact ⟨h2, h3 _ rfl⟩
  · intro h
    obtain ⟨N, f, h1, h2, h3⟩ := gA_elim h
    exact ⟨N, f, h1, h2, fun _ e => by rw [e]; exact h3⟩
theorem c_sZ_iff {σ : gH} {a : Nat} {i v : Int32} {P : gH → Prop} : c_sZ σ a i v P ↔ t_b v ∧ gA 2 (σ.2 a) i (fun N f => P (g_up σ a (.inl (2, N, .inl (upd f i.toNatClampNeg v))))) := by
  constructor
  · intro ⟨h0, N, f, h1, h2, h3⟩
    rw [h1, gA_at]
    exact ⟨h0, h2, h3 _ rfl⟩
  · intro ⟨h0, h⟩
    obtain ⟨N, f, h1, h2, h3⟩ := gA_elim h
    exact ⟨h0, N, f, h1, h2, fun _ e => by rw [e]; exact h3⟩
theorem c_sJ_iff {σ : gH} {a : Nat} {i : Int32} {v : Int64} {P : gH → Prop} : c_sJ σ a i v P ↔ gJ (σ.2 a) i (fun N f => P (g_up σ a (.inl (1, N, .inr (.inl (vp_updL f i.toNatClampNeg v)))))) := by
  constructor
  · intro ⟨N, f, h1, h2, h3⟩
    rw [h1, gJ_at]
    exact ⟨h2, h3 _ rfl⟩
  · intro h
    obtain ⟨N, f, h1, h2, h3⟩ := gJ_elim h
    exact ⟨N, f, h1, h2, fun _ e => by rw [e]; exact h3⟩
theorem c_sR_iff {t : Nat} {L : List Nat} {σ : gH} {a : Nat} {i : Int32} {r : Option Nat} {P : gH → Prop} : c_sR t L σ a i r P ↔ gQ t (σ.2 a) i (fun N f => (∀ v, r = some v → gO (σ.2 v) (fun ci _ => ci ∈ L)) ∧ P (g_up σ a (.inl (t, N, .inr (.inr (.inr (.inr (va_up f i.toNatClampNeg r)))))))) := by
  constructor
  · intro ⟨N, f, h1, h2, h4, h3⟩
    rw [h1, gQ_at]
    refine ⟨h2, fun v hv => ?_, h3 _ rfl⟩
    obtain ⟨ci, fs, g1, g2⟩ := h4 v hv
    rw [g2, gO_at]
    exact g1
  · intro h
    obtain ⟨N, f, h1, h2, h4, h3⟩ := gQ_elim h
    refine ⟨N, f, h1, h2, fun v hv => ?_, fun _ e => by rw [e]; exact h3⟩
    obtain ⟨⟨ci, fs⟩, g1, g2⟩ := oP_elim (h4 v hv)
    obtain ⟨c, g0, g1⟩ := Option.bind_eq_some_iff.mp g1
    exact ⟨ci, fs, g2, by rw [g0, un_o_eq g1]⟩
theorem c_sA_iff {σ : gH} {a : Nat} {i : Int32} {v : Nat} {P : gH → Prop} : c_sA σ a i v P ↔ gQ 3 (σ.2 a) i (fun N f => (∃ x : vp_A, σ.2 v = some (.inl (0, x))) ∧ P (g_up σ a (.inl (3, N, .inr (.inr (.inr (.inr (va_up f i.toNatClampNeg (some v))))))))) := by
  constructor
  · intro ⟨N, f, x, h1, h2, h4, h3⟩
    rw [h1, gQ_at]
    exact ⟨h2, ⟨x, h4⟩, h3 _ rfl⟩
  · intro h
    obtain ⟨N, f, h1, h2, ⟨x, h4⟩, h3⟩ := gQ_elim h
    exact ⟨N, f, x, h1, h2, h4, fun _ e => by rw [e]; exact h3⟩
/-- an array's length, the cell being given -/
theorem c_len_at {σ : gH} {a t : Nat} {x : vp_A} {P : Int32 → Prop} (ht : t < 10) (h : σ.2 a = some (.inl (t, x))) (p : P (nI x.1)) : c_len σ a P := Or.inl ⟨t, x, ht, h, p⟩
theorem c_len_e {σ : gH} {P : Int32 → Prop} (p : P 0) : c_len σ σ.1.1 P := Or.inr ⟨rfl, p⟩
theorem c_new_i {σ : gH} {e : gCell} {P : Nat → gH → Prop} (h : ∀ q, σ.2 q = none → P q (g_up σ q e)) : c_new σ e P := fun q _ h1 h2 => by rw [h2]; exact h q h1
theorem g_up_same (σ : gH) (a : Nat) (e : gCell) : (g_up σ a e).2 a = some e := by simp [va_up]
theorem g_up_ne {σ : gH} {a b : Nat} {e : gCell} (h : b ≠ a) : (g_up σ a e).2 b = σ.2 b := by simp [va_up, h]
theorem nI_2 : (2 : Int32) = nI 2 := rfl
theorem nI_12 : (12 : Int32) = nI 12 := rfl
theorem i64_lt (x y : Int32) : x.toInt64 < y.toInt64 ↔ x.toInt < y.toInt := by
  rw [Int64.lt_iff_toInt_lt, Int32.toInt_toInt64, Int32.toInt_toInt64]
theorem i64_0 : (0 : Int64) = (0 : Int32).toInt64 := rfl
theorem n1_toInt {n : Nat} (hn : n < 2 ^ 30) : (nI n - 1).toInt = (n : Int) - 1 := by
  have := pk_sub_toInt (a := n) (b := 1) hn (by decide)
  exact this
/-- in(x, 0, n - 1) -/
theorem in_vp {Q : Int32 → Prop} {σ : gH} {x : Int32} {n : Nat} (hn : n < 2 ^ 30) (h1 : vp_in x n → Q 1) (h0 : ¬ vp_in x n → Q 0) : wX0_in Q σ x.toInt64 0 ((nI n - 1).toInt64) := by
  rw [vp_in_iff] at h1 h0
  unfold wX0_in
  rw [i64_0, i64_lt, i64_lt, n1_toInt hn]
  refine ⟨fun h => h0 ?_, fun h => ⟨fun h2 => h0 ?_, fun h2 => h1 ?_⟩⟩
  · rw [Int32.toInt_zero] at h; omega
  · omega
  · rw [Int32.toInt_zero] at h; omega
theorem in_vp3 {Q : Int32 → Prop} {x : Int32} {n : Nat} (hn : n < 2 ^ 30) (h1 : vp_in x n → Q 1) (h0 : ¬ vp_in x n → Q 0) : wX3_in Q x.toInt64 0 ((nI n - 1).toInt64) := by
  rw [vp_in_iff] at h1 h0
  unfold wX3_in
  rw [i64_0, i64_lt, i64_lt, n1_toInt hn]
  refine ⟨fun h => h0 ?_, fun h => ⟨fun h2 => h0 ?_, fun h2 => h1 ?_⟩⟩
  · rw [Int32.toInt_zero] at h; omega
  · omega
  · rw [Int32.toInt_zero] at h; omega
/-- in(x, 0, n) -/
theorem in_vn {Q : Int32 → Prop} {σ : gH} {x : Int32} {n : Nat} (hn : n < 2 ^ 30) (h1 : vp_in x (n + 1) → Q 1) (h0 : ¬ vp_in x (n + 1) → Q 0) : wX0_in Q σ x.toInt64 0 (nI n).toInt64 := by
  rw [vp_in_iff] at h1 h0
  unfold wX0_in
  rw [i64_0, i64_lt, i64_lt, nI_toInt (by omega)]
  refine ⟨fun h => h0 ?_, fun h => ⟨fun h2 => h0 ?_, fun h2 => h1 ?_⟩⟩
  · rw [Int32.toInt_zero] at h; omega
  · omega
  · rw [Int32.toInt_zero] at h; omega
theorem in_vn3 {Q : Int32 → Prop} {x : Int32} {n : Nat} (hn : n < 2 ^ 30) (h1 : vp_in x (n + 1) → Q 1) (h0 : ¬ vp_in x (n + 1) → Q 0) : wX3_in Q x.toInt64 0 (nI n).toInt64 := by
  rw [vp_in_iff] at h1 h0
  unfold wX3_in
  rw [i64_0, i64_lt, i64_lt, nI_toInt (by omega)]
  refine ⟨fun h => h0 ?_, fun h => ⟨fun h2 => h0 ?_, fun h2 => h1 ?_⟩⟩
  · rw [Int32.toInt_zero] at h; omega
  · omega
  · rw [Int32.toInt_zero] at h; omega
/-- in(x, lo, hi), as it is -/
theorem in_any {Q : Int32 → Prop} {σ : gH} {x lo hi : Int64} (h1 : lo ≤ x ∧ x ≤ hi → Q 1) (h0 : ¬ (lo ≤ x ∧ x ≤ hi) → Q 0) : wX0_in Q σ x lo hi := by
  rw [Int64.le_iff_toInt_le, Int64.le_iff_toInt_le] at h1 h0
  unfold wX0_in
  rw [Int64.lt_iff_toInt_lt, Int64.lt_iff_toInt_lt]
  exact ⟨fun h => h0 (by omega), fun h => ⟨fun h2 => h0 (by omega), fun h2 => h1 (by omega)⟩⟩
theorem in_any3 {Q : Int32 → Prop} {x lo hi : Int64} (h1 : lo ≤ x ∧ x ≤ hi → Q 1) (h0 : ¬ (lo ≤ x ∧ x ≤ hi) → Q 0) : wX3_in Q x lo hi := by
  rw [Int64.le_iff_toInt_le, Int64.le_iff_toInt_le] at h1 h0
  unfold wX3_in
  rw [Int64.lt_iff_toInt_lt, Int64.lt_iff_toInt_lt]
  exact ⟨fun h => h0 (by omega), fun h => ⟨fun h2 => h0 (by omega), fun h2 => h1 (by omega)⟩⟩
theorem tb0 : t_b 0 := Or.inl rfl
theorem tb1 : t_b 1 := Or.inr rfl
theorem rf_some (a : Nat) : va_rf (some a) = .ref a := rfl
theorem rf_none : va_rf none = .null := rfl
theorem cl_10 : (10 : Int32).toNatClampNeg = 10 := rfl
