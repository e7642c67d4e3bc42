/-! TWIN (MendReaderModel): its world as three functions: the int fields, the int and boolean arrays, the long arrays, each by the field's number in TX3 -/
set_option maxRecDepth 100000
abbrev TS : Type := (Nat → Int32) × (Nat → Nat → Int32) × (Nat → Nat → Int64)
/-- a field's kind: 0 an int or boolean, 1 an int array, 2 a boolean array, 3 a long array -/
def t_kind (k : Nat) : Nat := match k with
  | 1 => 2
  | 2 => 1 | 8 => 1 | 9 => 1 | 10 => 1 | 11 => 1 | 12 => 1 | 15 => 1 | 23 => 1 | 25 => 1 | 27 => 1 | 29 => 1 | 30 => 1 | 31 => 1 | 32 => 1 | 38 => 1 | 39 => 1 | 40 => 1 | 41 => 1 | 42 => 1 | 43 => 1
  | 44 => 3 | 45 => 3
  | 47 => 1 | 48 => 1 | 49 => 1 | 50 => 1 | 51 => 1 | 52 => 1 | 53 => 1 | 54 => 1 | 55 => 1
  | _ => 0
/-- an array's length -/
def t_n (k : Nat) : Nat := match k with
  | 1 => 12 | 2 => 36 | 8 => 24 | 9 => 24 | 10 => 72 | 11 => 2 | 12 => 24 | 15 => 11 | 23 => 1600 | 25 => 320 | 27 => 520 | 29 => 52 | 30 => 52 | 31 => 52 | 32 => 12 | 38 => 144 | 39 => 144 | 40 => 32448 | 41 => 32448 | 42 => 32448 | 43 => 32448
  | 44 => 21632 | 45 => 64896 | 47 => 700 | 48 => 700 | 49 => 700 | 50 => 700 | 51 => 6 | 52 => 6 | 53 => 9600 | 54 => 52 | 55 => 52
  | _ => 0
def t_fld (ad : Nat → Nat) (s : TS) (k : Nat) : Value := if t_kind k = 0 then .int (s.1 k) else .ref (ad k)
def t_arr (s : TS) (k : Nat) : gCell := if t_kind k = 3 then .inl (1, t_n k, .inr (.inl (s.2.2 k))) else .inl (if t_kind k = 2 then 2 else 0, t_n k, .inl (s.2.1 k))
def t_fs (ad : Nat → Nat) (s : TS) : List Value := (List.range 56).map (t_fld ad s)
def t_m (o : Nat) (ad : Nat → Nat) (s : TS) : Nat → Option gCell := fun a => if a = o then some (.inr (3, t_fs ad s)) else ((List.range 56).find? (fun k => !(t_kind k == 0) && ad k == a)).map (t_arr s)
/-- the twin's world (ad 56, ad 57: the two addresses that the twin doesn't touch) -/
abbrev t_map (o : Nat) (ad : Nat → Nat) (s : TS) : gH := ((ad 56, ad 57), t_m o ad s)
def t_ok (o : Nat) (ad : Nat → Nat) : Prop := (∀ k, k < 56 → t_kind k ≠ 0 → ad k ≠ o) ∧ ∀ k j, k < 56 → j < 56 → t_kind k ≠ 0 → t_kind j ≠ 0 → ad k = ad j → k = j
def tI (s : TS) (k : Nat) (v : Int32) : TS := (va_up s.1 k v, s.2.1, s.2.2)
def tA (s : TS) (k j : Nat) (v : Int32) : TS := (s.1, va_up s.2.1 k (va_up (s.2.1 k) j v), s.2.2)
def tL (s : TS) (k j : Nat) (v : Int64) : TS := (s.1, s.2.1, va_up s.2.2 k (va_up (s.2.2 k) j v))
theorem t_fs_get (ad : Nat → Nat) (s : TS) {k : Nat} (h : k < 56) : (t_fs ad s)[k]? = some (t_fld ad s k) := by
  simp [t_fs, h]
theorem t_fs_len (ad : Nat → Nat) (s : TS) : (t_fs ad s).length = 56 := by simp [t_fs]
theorem t_fs_set (ad : Nat → Nat) (s : TS) {k : Nat} (h : k < 56) (h0 : t_kind k = 0) (v : Int32) : (t_fs ad s).set k (.int v) = t_fs ad (tI s k v) := by
  apply List.ext_getElem?
  intro j
  by_cases hj : j < 56
  · rw [t_fs_get ad _ hj]
    by_cases e : j = k
    · subst e
      rw [List.getElem?_set_self (by rw [t_fs_len]; exact hj)]
      simp [t_fld, h0, tI, va_up]
    · rw [List.getElem?_set_ne (Ne.symm e), t_fs_get ad s hj]
      simp [t_fld, tI, va_up, e]
  · rw [List.getElem?_eq_none (by rw [List.length_set, t_fs_len]; omega), List.getElem?_eq_none (by rw [t_fs_len]; omega)]
theorem t_map_o (o : Nat) (ad : Nat → Nat) (s : TS) : (t_map o ad s).2 o = some (.inr (3, t_fs ad s)) := by simp [t_m]
theorem t_find {o : Nat} {ad : Nat → Nat} (ok : t_ok o ad) {k : Nat} (hk : k < 56) (h0 : t_kind k ≠ 0) : (List.range 56).find? (fun j => !(t_kind j == 0) && ad j == ad k) = some k := by
  cases hf : (List.range 56).find? (fun j => !(t_kind j == 0) && ad j == ad k) with
  | none =>
    have := List.find?_eq_none.mp hf k (List.mem_range.mpr hk)
    simp [h0] at this
  | some j =>
    have h1 := List.find?_some hf
    have h2 := List.mem_range.mp (List.mem_of_find?_eq_some hf)
    simp only [Bool.and_eq_true, Bool.not_eq_true', beq_eq_false_iff_ne, ne_eq, beq_iff_eq] at h1
    rw [ok.2 j k h2 hk h1.1 h0 h1.2]
theorem t_map_a {o : Nat} {ad : Nat → Nat} (ok : t_ok o ad) (s : TS) {k : Nat} (hk : k < 56) (h0 : t_kind k ≠ 0) : (t_map o ad s).2 (ad k) = some (t_arr s k) := by
  show t_m o ad s (ad k) = _
  rw [t_m, if_neg (ok.1 k hk h0), t_find ok hk h0]
  rfl
theorem t_map_I (o : Nat) (ad : Nat → Nat) (s : TS) {k : Nat} (h : k < 56) (h0 : t_kind k = 0) (v : Int32) : g_up (t_map o ad s) o (.inr (3, (t_fs ad s).set k (.int v))) = t_map o ad (tI s k v) := by
  rw [t_fs_set ad s h h0 v]
  refine Prod.ext rfl ?_
  funext a
  show va_up (t_m o ad s) o _ a = t_m o ad (tI s k v) a
  by_cases e : a = o
  · subst e
    rw [va_up_self]
    exact (t_map_o _ ad _).symm
  · rw [va_up_ne _ _ e]
    simp only [t_m, if_neg e]
    rfl
theorem t_map_U {o : Nat} {ad : Nat → Nat} (ok : t_ok o ad) (s s' : TS) {k : Nat} (hk : k < 56) (h0 : t_kind k ≠ 0) (e1 : s'.1 = s.1) (h : ∀ j, j ≠ k → t_arr s' j = t_arr s j) : g_up (t_map o ad s) (ad k) (t_arr s' k) = t_map o ad s' := by
  refine Prod.ext rfl ?_
  funext a
  show va_up (t_m o ad s) (ad k) _ a = t_m o ad s' a
  by_cases e : a = ad k
  · subst e
    rw [va_up_self]
    exact (t_map_a ok s' hk h0).symm
  · rw [va_up_ne _ _ e]
    by_cases eo : a = o
    · subst eo
      rw [show t_m a ad s a = _ from t_map_o a ad s, show t_m a ad s' a = _ from t_map_o a ad s']
      have : t_fs ad s = t_fs ad s' := by
        unfold t_fs
        apply List.map_congr_left
        intro j _
        simp [t_fld, e1]
      rw [this]
    · simp only [t_m, if_neg eo]
      cases hf : (List.range 56).find? (fun j => !(t_kind j == 0) && ad j == a) with
      | none => rfl
      | some j =>
        have h1 := List.find?_some hf
        simp only [Bool.and_eq_true, Bool.not_eq_true', beq_eq_false_iff_ne, ne_eq, beq_iff_eq] at h1
        have hjk : j ≠ k := fun z => e (by rw [← h1.2, z])
        simp [h j hjk]
theorem t_map_A {o : Nat} {ad : Nat → Nat} (ok : t_ok o ad) (s : TS) {k : Nat} (hk : k < 56) (h0 : t_kind k ≠ 0) (j : Nat) (v : Int32) : g_up (t_map o ad s) (ad k) (t_arr (tA s k j v) k) = t_map o ad (tA s k j v) :=
  t_map_U ok s _ hk h0 rfl (fun i hi => by simp [t_arr, tA, va_up, hi])
theorem t_map_L {o : Nat} {ad : Nat → Nat} (ok : t_ok o ad) (s : TS) {k : Nat} (hk : k < 56) (h0 : t_kind k ≠ 0) (j : Nat) (v : Int64) : g_up (t_map o ad s) (ad k) (t_arr (tL s k j v) k) = t_map o ad (tL s k j v) :=
  t_map_U ok s _ hk h0 rfl (fun i hi => by simp [t_arr, tL, va_up, hi])
/-- an int that a boolean can be -/
def t_b (v : Int32) : Prop := v = 0 ∨ v = 1
theorem t_b.nar {v : Int32} (h : t_b v) : narrow .boolean (.int v) = .int v := by rcases h with rfl | rfl <;> rfl
theorem t_b.fit {v : Int32} (h : t_b v) : fits .boolean (.int v) = true := by rcases h with rfl | rfl <;> rfl
theorem t_b.vp {v : Int32} (h : t_b v) : vp_nar .boolean v = v := by rcases h with rfl | rfl <;> rfl
section TROWS
variable {M : gM} {d mc ms uc us pc n : Nat} {K : gZ} {lv : List (Nat × Value)} {st : List Value} {o : Nat} {ad : Nat → Nat} {s : TS}
theorem t_getI {idx : Nat} (k : Nat) (hk : Nat.ble (k + 1) 56 = true) (h0 : t_kind k = 0) (hlink : Cond.fieldLink M.1.cls idx (TX3 k).1 (TX3 k).2.1 (TX3 k).2.2.1 ∈ lw_all) (hd : decode M.2.1 pc = .ok (.getfield idx, 3)) (hp : pc + 3 = n) (kk : E M d mc ms K uc us n lv (.int (s.1 k) :: st) (t_map o ad s)) : E M d mc ms K uc us pc lv (.ref o :: st) (t_map o ad s) :=
  e_get k in_X3 rfl hk hlink (Or.inl rfl) (t_map_o o ad s) (by rw [t_fs_get ad s (Nat.le_of_ble_eq_true hk), t_fld, if_pos h0]) hd hp kk
theorem t_getR {idx : Nat} (k : Nat) (hk : Nat.ble (k + 1) 56 = true) (h0 : t_kind k ≠ 0) (hlink : Cond.fieldLink M.1.cls idx (TX3 k).1 (TX3 k).2.1 (TX3 k).2.2.1 ∈ lw_all) (hd : decode M.2.1 pc = .ok (.getfield idx, 3)) (hp : pc + 3 = n) (kk : E M d mc ms K uc us n lv (.ref (ad k) :: st) (t_map o ad s)) : E M d mc ms K uc us pc lv (.ref o :: st) (t_map o ad s) :=
  e_get k in_X3 rfl hk hlink (Or.inl rfl) (t_map_o o ad s) (by rw [t_fs_get ad s (Nat.le_of_ble_eq_true hk), t_fld, if_neg h0]) hd hp kk
theorem t_putI {idx : Nat} {v : Int32} (k : Nat) (hk : Nat.ble (k + 1) 56 = true) (h0 : t_kind k = 0) (hf : (TX3 k).2.2.2 = false) (hty : tyX3 k = .int) (hlink : Cond.fieldLink M.1.cls idx (TX3 k).1 (TX3 k).2.1 (TX3 k).2.2.1 ∈ lw_all) (hd : decode M.2.1 pc = .ok (.putfield idx, 3)) (hp : pc + 3 = n) (kk : ∀ s', s' = tI s k v → E M d mc ms K uc us n lv st (t_map o ad s')) : E M d mc ms K uc us pc lv (.int v :: .ref o :: st) (t_map o ad s) :=
  e_put k tyX3 tyX3_ok nmX3 in_X3 rfl hk hlink (Or.inl rfl) hf hty rfl rfl (t_map_o o ad s) (by rw [t_fs_len]; exact Nat.le_of_ble_eq_true hk) hd hp (by rw [t_map_I o ad s (Nat.le_of_ble_eq_true hk) h0]; exact kk _ rfl)
theorem t_putZ {idx : Nat} {v : Int32} (hv : t_b v) (k : Nat) (hk : Nat.ble (k + 1) 56 = true) (h0 : t_kind k = 0) (hf : (TX3 k).2.2.2 = false) (hty : tyX3 k = .boolean) (hlink : Cond.fieldLink M.1.cls idx (TX3 k).1 (TX3 k).2.1 (TX3 k).2.2.1 ∈ lw_all) (hd : decode M.2.1 pc = .ok (.putfield idx, 3)) (hp : pc + 3 = n) (kk : ∀ s', s' = tI s k v → E M d mc ms K uc us n lv st (t_map o ad s')) : E M d mc ms K uc us pc lv (.int v :: .ref o :: st) (t_map o ad s) :=
  e_put k tyX3 tyX3_ok nmX3 in_X3 rfl hk hlink (Or.inl rfl) hf hty hv.nar hv.fit (t_map_o o ad s) (by rw [t_fs_len]; exact Nat.le_of_ble_eq_true hk) hd hp (by rw [t_map_I o ad s (Nat.le_of_ble_eq_true hk) h0]; exact kk _ rfl)
theorem t_ai {s : TS} {k : Nat} (h : t_kind k = 1) : t_arr s k = .inl (0, t_n k, .inl (s.2.1 k)) := by simp [t_arr, h]
theorem t_az {s : TS} {k : Nat} (h : t_kind k = 2) : t_arr s k = .inl (2, t_n k, .inl (s.2.1 k)) := by simp [t_arr, h]
theorem t_al {s : TS} {k : Nat} (h : t_kind k = 3) : t_arr s k = .inl (1, t_n k, .inr (.inl (s.2.2 k))) := by simp [t_arr, h]
theorem t_iald {i : Int32} (ok : t_ok o ad) (k : Nat) (hk : Nat.ble (k + 1) 56 = true) (h0 : t_kind k = 1) {N : Nat} (hN : t_n k = N) (hi : vp_in i N) (hd : decode M.2.1 pc = .ok (.iaload, 1)) (hp : pc + 1 = n) (kk : E M d mc ms K uc us n lv (.int (s.2.1 k i.toNatClampNeg) :: st) (t_map o ad s)) : E M d mc ms K uc us pc lv (.int i :: .ref (ad k) :: st) (t_map o ad s) :=
  e_iald (by rw [t_map_a ok s (Nat.le_of_ble_eq_true hk) (by rw [h0]; decide), t_ai h0, hN]) hi hd hp kk
theorem t_zald {i : Int32} (ok : t_ok o ad) (k : Nat) (hk : Nat.ble (k + 1) 56 = true) (h0 : t_kind k = 2) {N : Nat} (hN : t_n k = N) (hi : vp_in i N) (hd : decode M.2.1 pc = .ok (.baload, 1)) (hp : pc + 1 = n) (kk : E M d mc ms K uc us n lv (.int (s.2.1 k i.toNatClampNeg) :: st) (t_map o ad s)) : E M d mc ms K uc us pc lv (.int i :: .ref (ad k) :: st) (t_map o ad s) :=
  e_zald (by rw [t_map_a ok s (Nat.le_of_ble_eq_true hk) (by rw [h0]; decide), t_az h0, hN]) hi hd hp kk
theorem t_lald {i : Int32} (ok : t_ok o ad) (k : Nat) (hk : Nat.ble (k + 1) 56 = true) (h0 : t_kind k = 3) {N : Nat} (hN : t_n k = N) (hi : vp_in i N) (hd : decode M.2.1 pc = .ok (.laload, 1)) (hp : pc + 1 = n) (kk : E M d mc ms K uc us n lv (.long (s.2.2 k i.toNatClampNeg) :: st) (t_map o ad s)) : E M d mc ms K uc us pc lv (.int i :: .ref (ad k) :: st) (t_map o ad s) :=
  e_lald (by rw [t_map_a ok s (Nat.le_of_ble_eq_true hk) (by rw [h0]; decide), t_al h0, hN]) hi hd hp kk
theorem t_iast {i v : Int32} (ok : t_ok o ad) (k : Nat) (hk : Nat.ble (k + 1) 56 = true) (h0 : t_kind k = 1) {N : Nat} (hN : t_n k = N) (hi : vp_in i N) (hd : decode M.2.1 pc = .ok (.iastore, 1)) (hp : pc + 1 = n) (kk : ∀ s', s' = tA s k i.toNatClampNeg v → E M d mc ms K uc us n lv st (t_map o ad s')) : E M d mc ms K uc us pc lv (.int v :: .int i :: .ref (ad k) :: st) (t_map o ad s) := by
  refine e_iast (by rw [t_map_a ok s (Nat.le_of_ble_eq_true hk) (by rw [h0]; decide), t_ai h0, hN]) hi hd hp ?_
  have e := t_map_A ok s (Nat.le_of_ble_eq_true hk) (by rw [h0]; decide) i.toNatClampNeg v
  rw [t_ai h0, hN] at e
  have f : (tA s k i.toNatClampNeg v).2.1 k = upd (s.2.1 k) i.toNatClampNeg v := by
    funext j
    simp [tA, va_up, upd]
  rw [f] at e
  rw [e]
  exact kk _ rfl
theorem t_zast {i v : Int32} (hv : t_b v) (ok : t_ok o ad) (k : Nat) (hk : Nat.ble (k + 1) 56 = true) (h0 : t_kind k = 2) {N : Nat} (hN : t_n k = N) (hi : vp_in i N) (hd : decode M.2.1 pc = .ok (.bastore, 1)) (hp : pc + 1 = n) (kk : ∀ s', s' = tA s k i.toNatClampNeg v → E M d mc ms K uc us n lv st (t_map o ad s')) : E M d mc ms K uc us pc lv (.int v :: .int i :: .ref (ad k) :: st) (t_map o ad s) := by
  refine e_zast hv.vp (by rw [t_map_a ok s (Nat.le_of_ble_eq_true hk) (by rw [h0]; decide), t_az h0, hN]) hi hd hp ?_
  have e := t_map_A ok s (Nat.le_of_ble_eq_true hk) (by rw [h0]; decide) i.toNatClampNeg v
  rw [t_az h0, hN] at e
  have f : (tA s k i.toNatClampNeg v).2.1 k = upd (s.2.1 k) i.toNatClampNeg v := by
    funext j
    simp [tA, va_up, upd]
  rw [f] at e
  rw [e]
  exact kk _ rfl
theorem t_last {i : Int32} {v : Int64} (ok : t_ok o ad) (k : Nat) (hk : Nat.ble (k + 1) 56 = true) (h0 : t_kind k = 3) {N : Nat} (hN : t_n k = N) (hi : vp_in i N) (hd : decode M.2.1 pc = .ok (.lastore, 1)) (hp : pc + 1 = n) (kk : ∀ s', s' = tL s k i.toNatClampNeg v → E M d mc ms K uc us n lv st (t_map o ad s')) : E M d mc ms K uc us pc lv (.long v :: .int i :: .ref (ad k) :: st) (t_map o ad s) := by
  refine e_last (by rw [t_map_a ok s (Nat.le_of_ble_eq_true hk) (by rw [h0]; decide), t_al h0, hN]) hi hd hp ?_
  have e := t_map_L ok s (Nat.le_of_ble_eq_true hk) (by rw [h0]; decide) i.toNatClampNeg v
  rw [t_al h0, hN] at e
  have f : (tL s k i.toNatClampNeg v).2.2 k = vp_updL (s.2.2 k) i.toNatClampNeg v := by
    funext j
    simp [tL, va_up, vp_updL]
  rw [f] at e
  rw [e]
  exact kk _ rfl
end TROWS
/-- the ends of the twin's methods: the answer and the twin's new state -/
def t_Ki (o : Nat) (ad : Nat → Nat) (Q : Int32 → TS → Prop) : Option Value → gH → Prop := fun r σ => ∃ (x : Int32) (s : TS), r = some (.int x) ∧ σ = t_map o ad s ∧ Q x s
def t_Kl (o : Nat) (ad : Nat → Nat) (Q : Int64 → TS → Prop) : Option Value → gH → Prop := fun r σ => ∃ (x : Int64) (s : TS), r = some (.long x) ∧ σ = t_map o ad s ∧ Q x s
def t_Kv (o : Nat) (ad : Nat → Nat) (Q : TS → Prop) : Option Value → gH → Prop := fun r σ => ∃ s : TS, r = none ∧ σ = t_map o ad s ∧ Q s
/-- a method that reads and changes nothing: its answer alone -/
def g_Pi (σ : gH) (Q : Int32 → Prop) : Option Value → gH → Prop := fun r σ' => ∃ x : Int32, r = some (.int x) ∧ σ' = σ ∧ Q x
def g_Pl (σ : gH) (Q : Int64 → Prop) : Option Value → gH → Prop := fun r σ' => ∃ x : Int64, r = some (.long x) ∧ σ' = σ ∧ Q x
theorem lg_lt {x y : Int64} : lg_cmp x y < 0 ↔ x < y := by
  unfold lg_cmp
  by_cases h1 : x > y
  · rw [if_pos h1]
    exact ⟨fun h => absurd h (by decide), fun h => absurd h (by rw [Int64.lt_iff_toInt_lt] at *; have := Int64.lt_iff_toInt_lt.mp h1; omega)⟩
  · rw [if_neg h1]
    by_cases h2 : x = y
    · rw [if_pos h2]
      exact ⟨fun h => absurd h (by decide), fun h => absurd h (by rw [h2]; exact Int64.lt_irrefl)⟩
    · rw [if_neg h2]
      refine ⟨fun _ => ?_, fun _ => by decide⟩
      rw [Int64.lt_iff_toInt_lt]
      have a : ¬ y.toInt < x.toInt := fun z => h1 (Int64.lt_iff_toInt_lt.mpr z)
      have b : ¬ x.toInt = y.toInt := fun z => h2 (Int64.toInt_inj.mp z)
      omega
theorem lg_gt {x y : Int64} : 0 < lg_cmp x y ↔ y < x := by
  unfold lg_cmp
  by_cases h1 : x > y
  · rw [if_pos h1]
    exact ⟨fun _ => h1, fun _ => by decide⟩
  · rw [if_neg h1]
    by_cases h2 : x = y
    · rw [if_pos h2]
      exact ⟨fun h => absurd h (by decide), fun h => absurd h h1⟩
    · rw [if_neg h2]
      exact ⟨fun h => absurd h (by decide), fun h => absurd h h1⟩
theorem lg_eq {x y : Int64} : lg_cmp x y = 0 ↔ x = y := by
  unfold lg_cmp
  by_cases h1 : x > y
  · rw [if_pos h1]
    exact ⟨fun h => absurd h (by decide), fun h => absurd h1 (by rw [h]; exact Int64.lt_irrefl)⟩
  · rw [if_neg h1]
    by_cases h2 : x = y
    · rw [if_pos h2]
      exact ⟨fun _ => h2, fun _ => rfl⟩
    · rw [if_neg h2]
      exact ⟨fun h => absurd h (by decide), fun h => absurd h h2⟩
theorem lg_ge {x y : Int64} : 0 ≤ lg_cmp x y ↔ y ≤ x := by
  have h := @lg_lt x y
  rw [Int32.lt_iff_toInt_lt, Int64.lt_iff_toInt_lt] at h
  rw [Int32.le_iff_toInt_le, Int64.le_iff_toInt_le]
  have z : (0 : Int32).toInt = 0 := rfl
  omega
theorem lg_le {x y : Int64} : lg_cmp x y ≤ 0 ↔ x ≤ y := by
  have h := @lg_gt x y
  rw [Int32.lt_iff_toInt_lt, Int64.lt_iff_toInt_lt] at h
  rw [Int32.le_iff_toInt_le, Int64.le_iff_toInt_le]
  have z : (0 : Int32).toInt = 0 := rfl
  omega
section LROWS
variable {M : gM} {d mc ms uc us pc n : Nat} {K : gZ} {lv : List (Nat × Value)} {st : List Value} {σ : gH} {x y : Int64} {off : Int} {tgt : Nat}
theorem e_lcmp_eq (hd : decode M.2.1 pc = .ok (.lcmp, 1)) (hd2 : decode M.2.1 (pc + 1) = .ok (.ifCond .eq off, 3)) (hp : pc + 4 = n) (ht : ((pc + 1 : Nat) : Int) + off = (tgt : Int)) (kt : x = y → E M d mc ms K uc us tgt lv st σ) (kf : ¬ x = y → E M d mc ms K uc us n lv st σ) : E M d mc ms K uc us pc lv (.long y :: .long x :: st) σ :=
  e_lcmp hd rfl (e_if_eq hd2 hp ht (fun h => kt (lg_eq.mp h)) (fun h => kf (fun z => h (lg_eq.mpr z))))
theorem e_lcmp_ne (hd : decode M.2.1 pc = .ok (.lcmp, 1)) (hd2 : decode M.2.1 (pc + 1) = .ok (.ifCond .ne off, 3)) (hp : pc + 4 = n) (ht : ((pc + 1 : Nat) : Int) + off = (tgt : Int)) (kt : ¬ x = y → E M d mc ms K uc us tgt lv st σ) (kf : x = y → E M d mc ms K uc us n lv st σ) : E M d mc ms K uc us pc lv (.long y :: .long x :: st) σ :=
  e_lcmp hd rfl (e_if_ne hd2 hp ht (fun h => kt (fun z => h (lg_eq.mpr z))) (fun h => kf (lg_eq.mp h)))
theorem e_lcmp_lt (hd : decode M.2.1 pc = .ok (.lcmp, 1)) (hd2 : decode M.2.1 (pc + 1) = .ok (.ifCond .lt off, 3)) (hp : pc + 4 = n) (ht : ((pc + 1 : Nat) : Int) + off = (tgt : Int)) (kt : x < y → E M d mc ms K uc us tgt lv st σ) (kf : ¬ x < y → E M d mc ms K uc us n lv st σ) : E M d mc ms K uc us pc lv (.long y :: .long x :: st) σ :=
  e_lcmp hd rfl (e_if_lt hd2 hp ht (fun h => kt (lg_lt.mp h)) (fun h => kf (fun z => h (lg_lt.mpr z))))
theorem e_lcmp_ge (hd : decode M.2.1 pc = .ok (.lcmp, 1)) (hd2 : decode M.2.1 (pc + 1) = .ok (.ifCond .ge off, 3)) (hp : pc + 4 = n) (ht : ((pc + 1 : Nat) : Int) + off = (tgt : Int)) (kt : y ≤ x → E M d mc ms K uc us tgt lv st σ) (kf : ¬ y ≤ x → E M d mc ms K uc us n lv st σ) : E M d mc ms K uc us pc lv (.long y :: .long x :: st) σ :=
  e_lcmp hd rfl (e_if_ge hd2 hp ht (fun h => kt (lg_ge.mp h)) (fun h => kf (fun z => h (lg_ge.mpr z))))
theorem e_lcmp_gt (hd : decode M.2.1 pc = .ok (.lcmp, 1)) (hd2 : decode M.2.1 (pc + 1) = .ok (.ifCond .gt off, 3)) (hp : pc + 4 = n) (ht : ((pc + 1 : Nat) : Int) + off = (tgt : Int)) (kt : y < x → E M d mc ms K uc us tgt lv st σ) (kf : ¬ y < x → E M d mc ms K uc us n lv st σ) : E M d mc ms K uc us pc lv (.long y :: .long x :: st) σ :=
  e_lcmp hd rfl (e_if_gt hd2 hp ht (fun h => kt (lg_gt.mp h)) (fun h => kf (fun z => h (lg_gt.mpr z))))
theorem e_lcmp_le (hd : decode M.2.1 pc = .ok (.lcmp, 1)) (hd2 : decode M.2.1 (pc + 1) = .ok (.ifCond .le off, 3)) (hp : pc + 4 = n) (ht : ((pc + 1 : Nat) : Int) + off = (tgt : Int)) (kt : x ≤ y → E M d mc ms K uc us tgt lv st σ) (kf : ¬ x ≤ y → E M d mc ms K uc us n lv st σ) : E M d mc ms K uc us pc lv (.long y :: .long x :: st) σ :=
  e_lcmp hd rfl (e_if_le hd2 hp ht (fun h => kt (lg_le.mp h)) (fun h => kf (fun z => h (lg_le.mpr z))))
end LROWS
section TCALLS
variable {M : gM} {d mc ms uc us pc n : Nat} {K : gZ} {lv : List (Nat × Value)} {st : List Value} {o : Nat} {ad : Nat → Nat} {s : TS} {M' : gM} {d' idx na : Nat} {As st0 : List Value}
theorem t_callV {K' : Option Value → gH → Prop} (ok : g_ok M' na) (h1 : Cond.methodLink M.1.cls idx M'.1 ∈ lw_all) (h2 : Cond.instanceMethod M'.1 ∈ lw_all) (h3 : Cond.selects RX3 M'.1 M'.1 ∈ lw_all) (h5 : Cond.code M'.1 M'.2.1 M'.2.2.1 M'.2.2.2 ∈ lw_all) (hC : M'.1.cls = RX3)
    (hdep : d' + 1 ≤ d) (hu1 : uc ≤ mc) (hu2 : us ≤ ms) (hna : As.length = na) (hst : As.reverse ++ .ref o :: st = st0) (hroom : Nat.ble (st.map fun v => v.category).sum 8 = true) (hd : decode M.2.1 pc = .ok (.invokevirtual idx, 3)) (hp : pc + 3 = n)
    (hM : CT M' d' 0 0 (.ref o :: As) (t_map o ad s) K') (kk : ∀ (r : Option Value) (σ' : gH), K' r σ' → E M d mc ms K uc us n lv (r.toList ++ st) σ') : E M d mc ms K uc us pc lv st0 (t_map o ad s) :=
  e_callV ok h1 h2 h3 q63 h5 hC (t_map_o o ad s) rfl hdep hu1 hu2 hna hst (Nat.le_of_ble_eq_true hroom) hd hp hM kk
theorem t_callS {σ : gH} {K' : Option Value → gH → Prop} (ok : g_ok M' na) (h1 : Cond.methodLink M.1.cls idx M'.1 ∈ lw_all) (h2 : Cond.static M'.1 ∈ lw_all) (h4 : Cond.initialized M'.1.cls ∈ lw_all) (h5 : Cond.code M'.1 M'.2.1 M'.2.2.1 M'.2.2.2 ∈ lw_all)
    (hdep : d' + 1 ≤ d) (hu1 : uc ≤ mc) (hu2 : us ≤ ms) (hna : As.length = na) (hst : As.reverse ++ st = st0) (hroom : Nat.ble (st.map fun v => v.category).sum 8 = true) (hd : decode M.2.1 pc = .ok (.invokestatic idx, 3)) (hp : pc + 3 = n)
    (hM : CT M' d' 0 0 As σ K') (kk : ∀ (r : Option Value) (σ' : gH), K' r σ' → E M d mc ms K uc us n lv (r.toList ++ st) σ') : E M d mc ms K uc us pc lv st0 σ :=
  e_callS ok h1 h2 h4 h5 hdep hu1 hu2 hna hst (Nat.le_of_ble_eq_true hroom) hd hp hM kk
end TCALLS
