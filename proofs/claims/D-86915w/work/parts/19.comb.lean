/-! WORDS OF THE PLAIN PREDICATES for the component: reads and writes of a world by maps; and their rows -/
set_option maxRecDepth 100000
def c_I (σ : gH) (L : List Nat) (a k : Nat) (P : Int32 → Prop) : Prop := ∃ (ci : Nat) (fs : List Value) (x : Int32), ci ∈ L ∧ σ.2 a = some (.inr (ci, fs)) ∧ fs[k]? = some (.int x) ∧ P x
def c_R (σ : gH) (L : List Nat) (a k : Nat) (P : Option Nat → Prop) : Prop := ∃ (ci : Nat) (fs : List Value) (r : Option Nat), ci ∈ L ∧ σ.2 a = some (.inr (ci, fs)) ∧ fs[k]? = some (va_rf r) ∧ P r
def c_P (σ : gH) (L : List Nat) (a k : Nat) (v : Value) (P : gH → Prop) : Prop := ∃ (ci : Nat) (fs : List Value), ci ∈ L ∧ σ.2 a = some (.inr (ci, fs)) ∧ k < fs.length ∧ ∀ σ', σ' = g_up σ a (.inr (ci, fs.set k v)) → P σ'
def c_aI (σ : gH) (a : Nat) (i : Int32) (P : Int32 → Prop) : Prop := ∃ (N : Nat) (f : Nat → Int32), σ.2 a = some (.inl (0, N, .inl f)) ∧ vp_in i N ∧ P (f i.toNatClampNeg)
def c_aZ (σ : gH) (a : Nat) (i : Int32) (P : Int32 → Prop) : Prop := ∃ (N : Nat) (f : Nat → Int32), σ.2 a = some (.inl (2, N, .inl f)) ∧ vp_in i N ∧ P (f i.toNatClampNeg)
def c_aJ (σ : gH) (a : Nat) (i : Int32) (P : Int64 → Prop) : Prop := ∃ (N : Nat) (f : Nat → Int64), σ.2 a = some (.inl (1, N, .inr (.inl f))) ∧ vp_in i N ∧ P (f i.toNatClampNeg)
def c_aR (t : Nat) (σ : gH) (a : Nat) (i : Int32) (P : Option Nat → Prop) : Prop := ∃ (N : Nat) (f : Nat → Option Nat), σ.2 a = some (.inl (t, N, .inr (.inr (.inr (.inr f))))) ∧ vp_in i N ∧ P (f i.toNatClampNeg)
def c_sI (σ : gH) (a : Nat) (i v : Int32) (P : gH → Prop) : Prop := ∃ (N : Nat) (f : Nat → Int32), σ.2 a = some (.inl (0, N, .inl f)) ∧ vp_in i N ∧ ∀ σ', σ' = g_up σ a (.inl (0, N, .inl (upd f i.toNatClampNeg v))) → P σ'
def c_sZ (σ : gH) (a : Nat) (i v : Int32) (P : gH → Prop) : Prop := t_b v ∧ ∃ (N : Nat) (f : Nat → Int32), σ.2 a = some (.inl (2, N, .inl f)) ∧ vp_in i N ∧ ∀ σ', σ' = g_up σ a (.inl (2, N, .inl (upd f i.toNatClampNeg v))) → P σ'
def c_sJ (σ : gH) (a : Nat) (i : Int32) (v : Int64) (P : gH → Prop) : Prop := ∃ (N : Nat) (f : Nat → Int64), σ.2 a = some (.inl (1, N, .inr (.inl f))) ∧ vp_in i N ∧ ∀ σ', σ' = g_up σ a (.inl (1, N, .inr (.inl (vp_updL f i.toNatClampNeg v)))) → P σ'
def c_sR (t : Nat) (L : List Nat) (σ : gH) (a : Nat) (i : Int32) (r : Option Nat) (P : gH → Prop) : Prop := ∃ (N : Nat) (f : Nat → Option Nat), σ.2 a = some (.inl (t, N, .inr (.inr (.inr (.inr f))))) ∧ vp_in i N ∧ (∀ v, r = some v → ∃ (ci : Nat) (fs : List Value), ci ∈ L ∧ σ.2 v = some (.inr (ci, fs))) ∧ ∀ σ', σ' = g_up σ a (.inl (t, N, .inr (.inr (.inr (.inr (va_up f i.toNatClampNeg r)))))) → P σ'
/-- an int array into an array of int arrays -/
def c_sA (σ : gH) (a : Nat) (i : Int32) (v : Nat) (P : gH → Prop) : Prop := ∃ (N : Nat) (f : Nat → Option Nat) (x : vp_A), σ.2 a = some (.inl (3, N, .inr (.inr (.inr (.inr f))))) ∧ vp_in i N ∧ σ.2 v = some (.inl (0, x)) ∧ ∀ σ', σ' = g_up σ a (.inl (3, N, .inr (.inr (.inr (.inr (va_up f i.toNatClampNeg (some v))))))) → P σ'
def c_len (σ : gH) (a : Nat) (P : Int32 → Prop) : Prop := (∃ (t : Nat) (x : vp_A), t < 10 ∧ σ.2 a = some (.inl (t, x)) ∧ P (nI x.1)) ∨ (a = σ.1.1 ∧ P 0)
def c_new (σ : gH) (e : gCell) (P : Nat → gH → Prop) : Prop := ∀ (q : Nat) (σ' : gH), σ.2 q = none → σ' = g_up σ q e → P q σ'
def c_cast (σ : gH) (L : List Nat) (r : Option Nat) (P : Prop) : Prop := (∀ a, r = some a → ∃ (ci : Nat) (fs : List Value), ci ∈ L ∧ σ.2 a = some (.inr (ci, fs))) ∧ P
def c_copyI (σ : gH) (a0 : Nat) (sp : Int32) (a : Nat) (dp z : Int32) (P : gH → Prop) : Prop := ∃ (n0 n1 : Nat) (f g : Nat → Int32), σ.2 a0 = some (.inl (0, n0, .inl f)) ∧ σ.2 a = some (.inl (0, n1, .inl g)) ∧ ¬ sp < 0 ∧ ¬ dp < 0 ∧ ¬ z < 0 ∧ sp.toNatClampNeg + z.toNatClampNeg ≤ n0 ∧ dp.toNatClampNeg + z.toNatClampNeg ≤ n1 ∧ ∀ σ', σ' = g_up σ a (.inl (0, n1, .inl (va_cpy f g sp.toNatClampNeg dp.toNatClampNeg z.toNatClampNeg))) → P σ'
def c_copyQ (σ : gH) (a0 : Nat) (sp : Int32) (a : Nat) (dp z : Int32) (P : gH → Prop) : Prop := ∃ (n0 n1 : Nat) (f g : Nat → Option Nat), σ.2 a0 = some (.inl (9, n0, .inr (.inr (.inr (.inr f))))) ∧ σ.2 a = some (.inl (9, n1, .inr (.inr (.inr (.inr g))))) ∧ (∀ i y : Nat, i < z.toNatClampNeg → f (sp.toNatClampNeg + i) = some y → ∃ (ci : Nat) (fs : List Value), ci < 19 ∧ σ.2 y = some (.inr (ci, fs))) ∧ ¬ sp < 0 ∧ ¬ dp < 0 ∧ ¬ z < 0 ∧ sp.toNatClampNeg + z.toNatClampNeg ≤ n0 ∧ dp.toNatClampNeg + z.toNatClampNeg ≤ n1 ∧ ∀ σ', σ' = g_up σ a (.inl (9, n1, .inr (.inr (.inr (.inr (va_cpy f g sp.toNatClampNeg dp.toNatClampNeg z.toNatClampNeg)))))) → P σ'
/-! a field that the classes of L have in common -/
def g_fw (L : List Nat) (k : Nat) (ow nm ds : String) : Prop := ∀ ci ∈ L, ∃ (C : String) (T : u_T) (N : Nat), g_cl[ci]? = some (C, T, N) ∧ (∀ w ∈ u_ws C T N, w ∈ lw_all) ∧ Nat.ble (k + 1) N = true ∧ (T k).1 = ow ∧ (T k).2.1 = nm ∧ (T k).2.2.1 = ds
def g_link (own : String) (idx : Nat) (ow nm ds : String) : Prop := (∃ ref, Cond.fieldLink own idx ref nm ds ∈ lw_all ∧ (ref = ow ∨ Cond.sameField ref ow nm ds ∈ lw_all)) ∨ ∃ host, Cond.fieldLinkNest own idx ow nm ds host ∈ lw_tbl
theorem gl_o {own : String} {idx : Nat} {ow nm ds : String} (h : Cond.fieldLink own idx ow nm ds ∈ lw_all) : g_link own idx ow nm ds := Or.inl ⟨ow, h, Or.inl rfl⟩
theorem gl_s {own ref : String} {idx : Nat} {ow nm ds : String} (h : Cond.fieldLink own idx ref nm ds ∈ lw_all) (h2 : Cond.sameField ref ow nm ds ∈ lw_all) : g_link own idx ow nm ds := Or.inl ⟨ref, h, Or.inr h2⟩
theorem gl_n {own host : String} {idx : Nat} {ow nm ds : String} (h : Cond.fieldLinkNest own idx ow nm ds host ∈ lw_tbl) : g_link own idx ow nm ds := Or.inr ⟨host, h⟩
theorem g_obAll : ∀ (ci : Nat) (q : vw_C), g_cl[ci]? = some q → Cond.castable q.1 "java/lang/Object" ∈ lw_tbl := by
  intro ci q h
  have hlt : ci < 19 := (List.getElem?_eq_some_iff.mp h).1
  have : ci = 0 ∨ ci = 1 ∨ ci = 2 ∨ ci = 3 ∨ ci = 4 ∨ ci = 5 ∨ ci = 6 ∨ ci = 7 ∨ ci = 8 ∨ ci = 9 ∨ ci = 10 ∨ ci = 11 ∨ ci = 12 ∨ ci = 13 ∨ ci = 14 ∨ ci = 15 ∨ ci = 16 ∨ ci = 17 ∨ ci = 18 := by omega
  rcases this with rfl | rfl | rfl | rfl | rfl | rfl | rfl | rfl | rfl | rfl | rfl | rfl | rfl | rfl | rfl | rfl | rfl | rfl | rfl <;> cases h
  · exact q1773
  · exact q1775
  · exact q1776
  · exact q1777
  · exact q1778
  · exact q1779
  · exact q1780
  · exact q1781
  · exact q1772
  · exact q1782
  · exact q1783
  · exact q1784
  · exact q1785
  · exact q1786
  · exact q1787
  · exact q1788
  · exact q1789
  · exact q1771
  · exact q1774
theorem g_cl_some {ci : Nat} (h : ci < 19) : ∃ q, g_cl[ci]? = some q := ⟨g_cl[ci]'h, List.getElem?_eq_getElem h⟩
/-- what an array of objects takes: t its number, L the classes' numbers -/
def g_takes (t : Nat) (L : List Nat) : Prop := ∃ C : String, (∀ dT : Nat → ClassId, (g_tys dT)[t]? = some (dT t, .object C)) ∧ ∀ ci ∈ L, ∃ q, g_cl[ci]? = some q ∧ (q.1 = C ∨ Cond.castable q.1 C ∈ lw_tbl)
/-- what a cast to the class nm takes -/
def g_casts (nm : String) (L : List Nat) : Prop := ∀ ci ∈ L, ∃ q, g_cl[ci]? = some q ∧ (q.1 = nm ∨ Cond.castable q.1 nm ∈ lw_tbl)
theorem rf_nar (C : String) (r : Option Nat) : narrow (.object C) (va_rf r) = va_rf r ∧ fits (.object C) (va_rf r) = true := by cases r <;> exact ⟨rfl, rfl⟩
theorem rf_narA (t : FieldType) (r : Option Nat) : narrow (.array t) (va_rf r) = va_rf r ∧ fits (.array t) (va_rf r) = true := by cases r <;> exact ⟨rfl, rfl⟩
section CROWS
variable {M : gM} {d mc ms uc us pc n : Nat} {K : gZ} {lv : List (Nat × Value)} {st : List Value} {σ : gH}
theorem e_field {L : List Nat} {idx a k : Nat} {ow nm ds : String} {ci : Nat} {fs : List Value} {v : Value} (fw : g_fw L k ow nm ds) (hl : g_link M.1.cls idx ow nm ds) (hci : ci ∈ L) (ha : σ.2 a = some (.inr (ci, fs))) (hv : fs[k]? = some v) (hd : decode M.2.1 pc = .ok (.getfield idx, 3)) (hp : pc + 3 = n) (kk : E M d mc ms K uc us n lv (v :: st) σ) : E M d mc ms K uc us pc lv (.ref a :: st) σ := by
  obtain ⟨C, T, N, h1, h2, h3, h4, h5, h6⟩ := fw ci hci
  rcases hl with ⟨ref, g1, g2⟩ | ⟨host, g1⟩
  · exact e_get k h2 h1 h3 (by rw [h5, h6]; exact g1) (by rw [h4, h5, h6]; exact g2) ha hv hd hp kk
  · exact e_getN k h2 h1 h3 (by rw [h5, h6]; exact g1) h4.symm ha hv hd hp kk
theorem e_cI {L : List Nat} {idx a k : Nat} {ow nm ds : String} {P : Int32 → Prop} (w : c_I σ L a k P) (fw : g_fw L k ow nm ds) (hl : g_link M.1.cls idx ow nm ds) (hd : decode M.2.1 pc = .ok (.getfield idx, 3)) (hp : pc + 3 = n) (kk : ∀ x, P x → E M d mc ms K uc us n lv (.int x :: st) σ) : E M d mc ms K uc us pc lv (.ref a :: st) σ := by
  obtain ⟨ci, fs, x, h1, h2, h3, h4⟩ := w
  exact e_field fw hl h1 h2 h3 hd hp (kk x h4)
theorem e_cR {L : List Nat} {idx a k : Nat} {ow nm ds : String} {P : Option Nat → Prop} (w : c_R σ L a k P) (fw : g_fw L k ow nm ds) (hl : g_link M.1.cls idx ow nm ds) (hd : decode M.2.1 pc = .ok (.getfield idx, 3)) (hp : pc + 3 = n) (kk : ∀ r, P r → E M d mc ms K uc us n lv (va_rf r :: st) σ) : E M d mc ms K uc us pc lv (.ref a :: st) σ := by
  obtain ⟨ci, fs, x, h1, h2, h3, h4⟩ := w
  exact e_field fw hl h1 h2 h3 hd hp (kk x h4)
/-- putfield of a field that isn't final, in one class -/
theorem e_cP {ci idx a k : Nat} {C : String} {T : u_T} {N : Nat} {v : Value} {ty : FieldType} {P : gH → Prop} (w : c_P σ [ci] a k v P) (ty0 : Nat → FieldType) (hty : ∀ k, k < N → parseFieldDescriptor (T k).2.2.1 = some (ty0 k)) (hnm : ∀ a, a < N → ∀ b, b < N → a ≠ b → (T a).2.1 ≠ (T b).2.1) (hin : ∀ w ∈ u_ws C T N, w ∈ lw_all) (hc : g_cl[ci]? = some (C, T, N)) (hk : Nat.ble (k + 1) N = true) (hl : g_link M.1.cls idx (T k).1 (T k).2.1 (T k).2.2.1) (hfin : (T k).2.2.2 = false) (hty1 : ty0 k = ty) (hn : narrow ty v = v ∧ fits ty v = true)
    (hd : decode M.2.1 pc = .ok (.putfield idx, 3)) (hp : pc + 3 = n) (kk : ∀ σ', P σ' → E M d mc ms K uc us n lv st σ') : E M d mc ms K uc us pc lv (v :: .ref a :: st) σ := by
  obtain ⟨ci', fs, h1, h2, h3, h4⟩ := w
  rw [List.mem_singleton] at h1
  subst h1
  rcases hl with ⟨ref, g1, g2⟩ | ⟨host, g1⟩
  · exact e_put k ty0 hty hnm hin hc hk g1 g2 hfin hty1 hn.1 hn.2 h2 h3 hd hp (kk _ (h4 _ rfl))
  · exact e_putN k ty0 hty hnm hin hc hk g1 rfl hfin hty1 hn.1 hn.2 h2 h3 hd hp (kk _ (h4 _ rfl))
/-- putfield of a final field, in a constructor of its class; the object may be of a class below -/
theorem e_cPF {L : List Nat} {idx a k : Nat} {v : Value} {ty : FieldType} {P : gH → Prop} (w : c_P σ L a k v P) (F : ∀ ci ∈ L, ∃ (C : String) (T : u_T) (N : Nat) (ty0 : Nat → FieldType), g_cl[ci]? = some (C, T, N) ∧ (∀ k, k < N → parseFieldDescriptor (T k).2.2.1 = some (ty0 k)) ∧ g_nm T N ∧ (∀ w ∈ u_ws C T N, w ∈ lw_all) ∧ Nat.ble (k + 1) N = true ∧ Cond.fieldLink M.1.cls idx (T k).1 (T k).2.1 (T k).2.2.1 ∈ lw_all ∧ (T k).2.2.2 = true ∧ (T k).1 = M.1.cls ∧ ty0 k = ty) (hinit : M.1.name = "<init>") (hn : narrow ty v = v ∧ fits ty v = true)
    (hd : decode M.2.1 pc = .ok (.putfield idx, 3)) (hp : pc + 3 = n) (kk : ∀ σ', P σ' → E M d mc ms K uc us n lv st σ') : E M d mc ms K uc us pc lv (v :: .ref a :: st) σ := by
  obtain ⟨ci, fs, h1, h2, h3, h4⟩ := w
  obtain ⟨C, T, N, ty0, f1, f2, f3, f4, f5, f6, f7, f8, f9⟩ := F ci h1
  exact e_putF k ty0 f2 f3 f4 f1 f5 f6 rfl f7 hinit f8 f9 hn.1 hn.2 h2 h3 hd hp (kk _ (h4 _ rfl))
theorem e_caI {a : Nat} {i : Int32} {P : Int32 → Prop} (w : c_aI σ a i P) (hd : decode M.2.1 pc = .ok (.iaload, 1)) (hp : pc + 1 = n) (kk : ∀ x, P x → E M d mc ms K uc us n lv (.int x :: st) σ) : E M d mc ms K uc us pc lv (.int i :: .ref a :: st) σ := by
  obtain ⟨N, f, h1, h2, h3⟩ := w
  exact e_iald h1 h2 hd hp (kk _ h3)
theorem e_caZ {a : Nat} {i : Int32} {P : Int32 → Prop} (w : c_aZ σ a i P) (hd : decode M.2.1 pc = .ok (.baload, 1)) (hp : pc + 1 = n) (kk : ∀ x, P x → E M d mc ms K uc us n lv (.int x :: st) σ) : E M d mc ms K uc us pc lv (.int i :: .ref a :: st) σ := by
  obtain ⟨N, f, h1, h2, h3⟩ := w
  exact e_zald h1 h2 hd hp (kk _ h3)
theorem e_caJ {a : Nat} {i : Int32} {P : Int64 → Prop} (w : c_aJ σ a i P) (hd : decode M.2.1 pc = .ok (.laload, 1)) (hp : pc + 1 = n) (kk : ∀ x, P x → E M d mc ms K uc us n lv (.long x :: st) σ) : E M d mc ms K uc us pc lv (.int i :: .ref a :: st) σ := by
  obtain ⟨N, f, h1, h2, h3⟩ := w
  exact e_lald h1 h2 hd hp (kk _ h3)
theorem e_caR {t a : Nat} {i : Int32} {ty : FieldType} {P : Option Nat → Prop} (w : c_aR t σ a i P) (ht : ∀ dT : Nat → ClassId, (g_tys dT)[t]? = some (dT t, ty)) (hr : ty.isReference = true) (hd : decode M.2.1 pc = .ok (.aaload, 1)) (hp : pc + 1 = n) (kk : ∀ r, P r → E M d mc ms K uc us n lv (va_rf r :: st) σ) : E M d mc ms K uc us pc lv (.int i :: .ref a :: st) σ := by
  obtain ⟨N, f, h1, h2, h3⟩ := w
  exact e_aald ht hr h1 h2 hd hp (kk _ h3)
theorem e_csI {a : Nat} {i v : Int32} {P : gH → Prop} (w : c_sI σ a i v P) (hd : decode M.2.1 pc = .ok (.iastore, 1)) (hp : pc + 1 = n) (kk : ∀ σ', P σ' → E M d mc ms K uc us n lv st σ') : E M d mc ms K uc us pc lv (.int v :: .int i :: .ref a :: st) σ := by
  obtain ⟨N, f, h1, h2, h3⟩ := w
  exact e_iast h1 h2 hd hp (kk _ (h3 _ rfl))
theorem e_csZ {a : Nat} {i v : Int32} {P : gH → Prop} (w : c_sZ σ a i v P) (hd : decode M.2.1 pc = .ok (.bastore, 1)) (hp : pc + 1 = n) (kk : ∀ σ', P σ' → E M d mc ms K uc us n lv st σ') : E M d mc ms K uc us pc lv (.int v :: .int i :: .ref a :: st) σ := by
  obtain ⟨hb, N, f, h1, h2, h3⟩ := w
  exact e_zast hb.vp h1 h2 hd hp (kk _ (h3 _ rfl))
theorem e_csJ {a : Nat} {i : Int32} {v : Int64} {P : gH → Prop} (w : c_sJ σ a i v P) (hd : decode M.2.1 pc = .ok (.lastore, 1)) (hp : pc + 1 = n) (kk : ∀ σ', P σ' → E M d mc ms K uc us n lv st σ') : E M d mc ms K uc us pc lv (.long v :: .int i :: .ref a :: st) σ := by
  obtain ⟨N, f, h1, h2, h3⟩ := w
  exact e_last h1 h2 hd hp (kk _ (h3 _ rfl))
theorem e_csR {t a : Nat} {L : List Nat} {i : Int32} {r : Option Nat} {P : gH → Prop} (w : c_sR t L σ a i r P) (T : g_takes t L) (hd : decode M.2.1 pc = .ok (.aastore, 1)) (hp : pc + 1 = n) (kk : ∀ σ', P σ' → E M d mc ms K uc us n lv st σ') : E M d mc ms K uc us pc lv (va_rf r :: .int i :: .ref a :: st) σ := by
  obtain ⟨N, f, h1, h2, h3, h4⟩ := w
  obtain ⟨C, g1, g2⟩ := T
  cases r with
  | none => exact e_aastN g1 h1 h2 hd hp (kk _ (h4 _ rfl))
  | some v =>
    obtain ⟨ci, fs, f1, f2⟩ := h3 v rfl
    obtain ⟨q, q1, q2⟩ := g2 ci f1
    exact e_aastO g1 q1 q2 f2 h1 h2 hd hp (kk _ (h4 _ rfl))
theorem g_tysAll {t : Nat} (h : t < 10) : ∃ ty, ∀ dT : Nat → ClassId, (g_tys dT)[t]? = some (dT t, ty) := by
  have : t = 0 ∨ t = 1 ∨ t = 2 ∨ t = 3 ∨ t = 4 ∨ t = 5 ∨ t = 6 ∨ t = 7 ∨ t = 8 ∨ t = 9 := by omega
  rcases this with rfl | rfl | rfl | rfl | rfl | rfl | rfl | rfl | rfl | rfl <;> exact ⟨_, fun _ => rfl⟩
theorem g_K.emptyLen {D : va_G} {dT : Nat → ClassId} {A : Nat → Prop} {t0 : Nat × Nat} {s : State} (h : g_K D dT A t0 s) : ∃ (cell : Cell) (ty : FieldType), s.heap[t0.1]? = some cell ∧ s.isArrayOf cell ty ∧ cell.slots.size.toInt32 = 0 ∧ t0.1 < s.heap.size ∧ ¬ A t0.1 := by
  obtain ⟨-, s0, a0, ⟨-, h2, -⟩, h3, -, h4, h5⟩ := h
  obtain ⟨cf, kf, fi, f, a, cell, z1, z2, z3, z4, z5, z6, z7, z8⟩ := h3
  have w1 : (Cond.eq (.length (.static "java/util/ArrayList" "DEFAULTCAPACITY_EMPTY_ELEMENTDATA" "[Ljava/lang/Object;")) (.int 0)) ∈ flatC (Jvm.Cond.and given_1 narrow_1) := by decide +kernel
  have w2 : (Cond.arrayOf (.static "java/util/ArrayList" "DEFAULTCAPACITY_EMPTY_ELEMENTDATA" "[Ljava/lang/Object;") (.object "java/lang/Object")) ∈ flatC (Jvm.Cond.and given_1 narrow_1) := by decide +kernel
  have w3 : (Cond.exactly (.static "java/util/ArrayList" "DEFAULTCAPACITY_EMPTY_ELEMENTDATA" "[Ljava/lang/Object;") "[Ljava/lang/Object;") ∈ flatC (Jvm.Cond.and given_1 narrow_1) := by decide +kernel
  have v1 := flat_of_before _ h2 _ w1
  have v2 := flat_of_before _ h2 _ w2
  have v3 := flat_of_before _ h2 _ w3
  obtain ⟨b, cb, ce, kb, e1, e2, e3, -⟩ := Cond.exactly_spec v3
  obtain ⟨-, a', cell', f1, f2, -, f3⟩ := Term.static_spec z1 e1
  cases z4.symm.trans f1
  cases z5.symm.trans f2
  have hb : Value.ref b = .ref t0.1 := Option.some.inj (f3.symm.trans z7)
  cases hb
  cases hA : s0.arrayAt? t0.1 with
  | none =>
    simp [Cond.before, Cond.holds, Cond.value, Term.eval] at v1
    simp [Term.eval] at e1
    simp_all
  | some arr =>
    have hlt : t0.1 < s0.heap.size := (Array.getElem?_eq_some_iff.mp e3).1
    have g1 := State.arrayAt?_spec hA
    have i0 := arrayOf_spec v2 e1 hA
    refine ⟨arr, _, by rw [(h5 _ hlt).1]; exact g1.1, State.isArrayOf_alike h4.alike i0, ?_, ?_, (h5 _ hlt).2⟩
    · have e4 := v1
      simp only [Cond.before, Cond.holds, Cond.value, Term.eval] at e4 e1
      simp_all
      by_cases hz : arr.slots.size < 2147483648
      · rw [if_pos hz] at e4
        simpa using e4
      · rw [if_neg hz] at e4
        cases e4
    · exact (Array.getElem?_eq_some_iff.mp (show s.heap[t0.1]? = some arr by rw [(h5 _ hlt).1]; exact g1.1)).1
theorem e_clen {a : Nat} {P : Int32 → Prop} (w : c_len σ a P) (hd : decode M.2.1 pc = .ok (.arraylength, 1)) (hp : pc + 1 = n) (kk : ∀ x, P x → E M d mc ms K uc us n lv (.int x :: st) σ) : E M d mc ms K uc us pc lv (.ref a :: st) σ := by
  rcases w with ⟨t, ⟨N, x⟩, h1, h2, h3⟩ | ⟨rfl, h3⟩
  · obtain ⟨ty, ht⟩ := g_tysAll h1
    exact e_alen ht h2 hd hp (kk _ h3)
  · intro p l e s m args below meth c D dT A H locs ls C' P S L
    subst hp
    obtain ⟨cell, ty, f1, f2, f3, f4, f5⟩ := C'.2.2.2.2.2.2.1.emptyLen
    exact W.alen (n := 0) C'.1 C'.2.1 (by rw [S.2.1 _ f4 f5]; exact f1) f2 f3 rfl rfl hd (kk 0 h3 p l e s m args below meth c D dT A H locs ls C' P S L)
theorem e_cnew {C : String} {T : u_T} {N ci idx : Nat} {fs : List Value} {P : Nat → gH → Prop} (w : c_new σ (.inr (ci, fs)) P) (ty : Nat → FieldType) (hty : ∀ k, k < N → parseFieldDescriptor (T k).2.2.1 = some (ty k)) (hin : ∀ w ∈ u_ws C T N, w ∈ lw_all) (hc : g_cl[ci]? = some (C, T, N)) (h1 : Cond.classLink M.1.cls idx C ∈ lw_all) (h2 : Cond.instantiable C N ∈ lw_all) (h3 : Cond.initialized C ∈ lw_all) (hfs : ∀ j, j < N → defaultValue (ty j) = vp_V fs j) (hu1 : uc + 1 ≤ mc) (hu2 : us + N ≤ ms) (hd : decode M.2.1 pc = .ok (.new idx, 3)) (hp : pc + 3 = n)
    (kk : ∀ (q : Nat) (σ' : gH), P q σ' → E M d mc ms K (uc + 1) (us + N) n lv (.ref q :: st) σ') : E M d mc ms K uc us pc lv st σ :=
  e_new ty hty hin hc h1 h2 h3 hfs hu1 hu2 hd hp (fun q hq => kk q _ (w q _ hq rfl))
theorem e_cnewI {z : Int32} {P : Nat → gH → Prop} (w : c_new σ (.inl (0, z.toNatClampNeg, .inl (fun _ => 0))) P) (hn : ¬ z < 0) (hb : z.toNatClampNeg * 4 ≤ 536870912) (hu1 : uc + 1 ≤ mc) (hu2 : us + z.toNatClampNeg ≤ ms) (hd : decode M.2.1 pc = .ok (.newarray .int, 2)) (hp : pc + 2 = n)
    (kk : ∀ (q : Nat) (σ' : gH), P q σ' → E M d mc ms K (uc + 1) (us + z.toNatClampNeg) n lv (.ref q :: st) σ') : E M d mc ms K uc us pc lv (.int z :: st) σ :=
  e_newa (at_ := .int) (ty := .int) q130 rfl (fun _ => rfl) (fun _ h => by cases h) (fun cA => by rw [vp_cell_i]; rfl) hn rfl hb hu1 hu2 hd hp (fun q hq => kk q _ (w q _ hq rfl))
theorem e_cnewZ {z : Int32} {P : Nat → gH → Prop} (w : c_new σ (.inl (2, z.toNatClampNeg, .inl (fun _ => 0))) P) (hn : ¬ z < 0) (hb : z.toNatClampNeg * 1 ≤ 536870912) (hu1 : uc + 1 ≤ mc) (hu2 : us + z.toNatClampNeg ≤ ms) (hd : decode M.2.1 pc = .ok (.newarray .boolean, 2)) (hp : pc + 2 = n)
    (kk : ∀ (q : Nat) (σ' : gH), P q σ' → E M d mc ms K (uc + 1) (us + z.toNatClampNeg) n lv (.ref q :: st) σ') : E M d mc ms K uc us pc lv (.int z :: st) σ :=
  e_newa (at_ := .boolean) (ty := .boolean) q129 rfl (fun _ => rfl) (fun _ h => by cases h) (fun cA => by rw [vp_cell_i]; rfl) hn rfl hb hu1 hu2 hd hp (fun q hq => kk q _ (w q _ hq rfl))
theorem e_cnewJ {z : Int32} {P : Nat → gH → Prop} (w : c_new σ (.inl (1, z.toNatClampNeg, .inr (.inl (fun _ => 0)))) P) (hn : ¬ z < 0) (hb : z.toNatClampNeg * 8 ≤ 536870912) (hu1 : uc + 1 ≤ mc) (hu2 : us + z.toNatClampNeg ≤ ms) (hd : decode M.2.1 pc = .ok (.newarray .long, 2)) (hp : pc + 2 = n)
    (kk : ∀ (q : Nat) (σ' : gH), P q σ' → E M d mc ms K (uc + 1) (us + z.toNatClampNeg) n lv (.ref q :: st) σ') : E M d mc ms K uc us pc lv (.int z :: st) σ :=
  e_newa (at_ := .long) (ty := .long) q152 rfl (fun _ => rfl) (fun _ h => by cases h) (fun cA => by rw [vp_cell_l]; rfl) hn rfl hb hu1 hu2 hd hp (fun q hq => kk q _ (w q _ hq rfl))
theorem e_cnewq {C : String} {idx t : Nat} {z : Int32} {P : Nat → gH → Prop} (w : c_new σ (.inl (t, z.toNatClampNeg, .inr (.inr (.inr (.inr (fun _ => none)))))) P) (hq : Cond.classLink M.1.cls idx C ∈ lw_all) (ho : Cond.arrayOver (.object C) ∈ lw_tbl) (ht : ∀ dT : Nat → ClassId, (g_tys dT)[t]? = some (dT t, .object C)) (hn : ¬ z < 0) (hb : z.toNatClampNeg * 4 ≤ 536870912) (hu1 : uc + 1 ≤ mc) (hu2 : us + z.toNatClampNeg ≤ ms) (hd : decode M.2.1 pc = .ok (.anewarray idx, 3)) (hp : pc + 3 = n)
    (kk : ∀ (q : Nat) (σ' : gH), P q σ' → E M d mc ms K (uc + 1) (us + z.toNatClampNeg) n lv (.ref q :: st) σ') : E M d mc ms K uc us pc lv (.int z :: st) σ :=
  e_newq hq ho ht hn rfl hb hu1 hu2 hd hp (fun q hq => kk q _ (w q _ hq rfl))
theorem e_ccast {idx : Nat} {L : List Nat} {nm : String} {r : Option Nat} {P : Prop} (w : c_cast σ L r P) (G : g_casts nm L) (hq : Cond.classLink M.1.cls idx nm ∈ lw_all) (hd : decode M.2.1 pc = .ok (.checkcast idx, 3)) (hp : pc + 3 = n) (kk : P → E M d mc ms K uc us n lv (va_rf r :: st) σ) : E M d mc ms K uc us pc lv (va_rf r :: st) σ := by
  obtain ⟨w1, w2⟩ := w
  cases r with
  | none => exact e_castN hd hp (kk w2)
  | some a =>
    obtain ⟨ci, fs, f1, f2⟩ := w1 a rfl
    obtain ⟨q, q1, q2⟩ := G ci f1
    exact e_castO hq q1 q2 f2 hd hp (kk w2)
theorem e_ccopyI {idx a0 a : Nat} {sp dp z : Int32} {P : gH → Prop} (w : c_copyI σ a0 sp a dp z P) (h1 : Cond.methodLink M.1.cls idx arraycopyName ∈ lw_all) (hdep : 1 ≤ d) (hroom : Nat.ble (st.map fun v => v.category).sum 8 = true) (hd : decode M.2.1 pc = .ok (.invokestatic idx, 3)) (hp : pc + 3 = n) (kk : ∀ σ', P σ' → E M d mc ms K uc us n lv st σ') : E M d mc ms K uc us pc lv (.int z :: .int dp :: .ref a :: .int sp :: .ref a0 :: st) σ := by
  obtain ⟨n0, n1, f, g, g1, g2, g3, g4, g5, g6, g7, g8⟩ := w
  exact e_copyi h1 q397 q396 q68 g1 g2 g3 g4 g5 g6 g7 hdep hroom hd hp (kk _ (g8 _ rfl))
theorem e_ccopyQ {idx a0 a : Nat} {sp dp z : Int32} {P : gH → Prop} (w : c_copyQ σ a0 sp a dp z P) (h1 : Cond.methodLink M.1.cls idx arraycopyName ∈ lw_all) (hdep : 1 ≤ d) (hroom : Nat.ble (st.map fun v => v.category).sum 8 = true) (hd : decode M.2.1 pc = .ok (.invokestatic idx, 3)) (hp : pc + 3 = n) (kk : ∀ σ', P σ' → E M d mc ms K uc us n lv st σ') : E M d mc ms K uc us pc lv (.int z :: .int dp :: .ref a :: .int sp :: .ref a0 :: st) σ := by
  obtain ⟨n0, n1, f, g, g1, g2, g0, g3, g4, g5, g6, g7, g8⟩ := w
  refine e_copyq h1 q397 q396 q68 g1 g2 (fun i y hi hy => ?_) g3 g4 g5 g6 g7 hdep hroom hd hp (kk _ (g8 _ rfl))
  obtain ⟨ci, fs, f1, f2⟩ := g0 i y hi hy
  obtain ⟨q, hq⟩ := g_cl_some f1
  exact ⟨ci, q, fs, f2, hq, g_obAll ci q hq⟩
theorem e_topr {r : Option Nat} (k : ∀ y : Option Nat, y = r → E M d mc ms K uc us pc lv (va_rf y :: st) σ) : E M d mc ms K uc us pc lv (va_rf r :: st) σ := k r rfl
end CROWS
/-- the ends of the component's methods -/
def c_Ki (Q : Int32 → gH → Prop) : Option Value → gH → Prop := fun r σ => ∃ x : Int32, r = some (.int x) ∧ Q x σ
def c_Kl (Q : Int64 → gH → Prop) : Option Value → gH → Prop := fun r σ => ∃ x : Int64, r = some (.long x) ∧ Q x σ
def c_Kr (Q : Option Nat → gH → Prop) : Option Value → gH → Prop := fun r σ => ∃ x : Option Nat, r = some (va_rf x) ∧ Q x σ
def c_Kv (Q : gH → Prop) : Option Value → gH → Prop := fun r σ => r = none ∧ Q σ
def g_Pr (σ : gH) (Q : Option Nat → Prop) : Option Value → gH → Prop := fun r σ' => ∃ x : Option Nat, r = some (va_rf x) ∧ σ' = σ ∧ Q x
theorem rf_or (r : Option Nat) : va_rf r = .null ∨ ∃ a, va_rf r = .ref a := by
  cases r with
  | none => exact Or.inl rfl
  | some a => exact Or.inr ⟨a, rfl⟩
