/-! arrays of arrays: the rows of E -/
set_option maxRecDepth 100000
/-- the inner array of a new array of arrays of the type t -/
def g_in0 (t N : Nat) : Nat × vp_A := if t = 3 then (0, N, .inl (fun _ => 0)) else if t = 4 then (1, N, .inr (.inl (fun _ => 0))) else (7, N, .inr (.inr (.inr (.inr (fun _ => none)))))
def g_in (t N : Nat) : gCell := .inl (g_in0 t N)
def g_m2 (N1 N2 : Nat) (σ : gH) (t q : Nat) : gH := (σ.1, fun a => if a = q then some (.inl (t, N1, .inr (.inr (.inr (.inr (fun j => some (q + 1 + j))))))) else if q < a ∧ a ≤ q + N1 then some (g_in t N2) else σ.2 a)
def g_m3 (N1 N2 N3 : Nat) (σ : gH) (t q : Nat) : gH := (σ.1, fun a => if a = q then some (.inl (t, N1, .inr (.inr (.inr (.inr (fun j => some (q + 1 + j * (1 + N2)))))))) else if q < a ∧ a ≤ q + N1 * (1 + N2) then some (if (a - q - 1) % (1 + N2) = 0 then .inl (4, N2, .inr (.inr (.inr (.inr (fun j => some (a + 1 + j)))))) else g_in 4 N3) else σ.2 a)
def c_m2 (N1 N2 : Nat) (σ : gH) (t : Nat) (P : Nat → gH → Prop) : Prop := ∀ (q : Nat) (σ' : gH), (∀ a, q ≤ a → σ.2 a = none) → σ' = g_m2 N1 N2 σ t q → P q σ'
def c_m3 (N1 N2 N3 : Nat) (σ : gH) (t : Nat) (P : Nat → gH → Prop) : Prop := ∀ (q : Nat) (σ' : gH), (∀ a, q ≤ a → σ.2 a = none) → σ' = g_m3 N1 N2 N3 σ t q → P q σ'
theorem g_flat1 {β : Type} (y : β) : ∀ n : Nat, (List.range n).flatMap (fun _ => [y]) = List.replicate n y := by
  intro n
  induction n with
  | zero => rfl
  | succ n ih => rw [List.range_succ, List.flatMap_append, ih, List.replicate_succ']; rfl
theorem g_flat {β : Type} (f : Nat → List β) (L : Nat) (hL : ∀ j, (f j).length = L) : ∀ n : Nat, ((List.range n).flatMap f).length = n * L ∧ ∀ k, k < n * L → ((List.range n).flatMap f)[k]? = (f (k / L))[k % L]? := by
  intro n
  induction n with
  | zero => exact ⟨by simp, fun k h => by omega⟩
  | succ n ih =>
    rw [List.range_succ, List.flatMap_append, Nat.succ_mul]
    refine ⟨by simp [ih.1, hL], fun k hk => ?_⟩
    by_cases h : k < n * L
    · rw [List.getElem?_append_left (by rw [ih.1]; exact h)]
      exact ih.2 k h
    · have h0 : 0 < L := by
        rcases Nat.eq_zero_or_pos L with z | z
        · subst z; simp at hk
        · exact z
      obtain ⟨r, rfl⟩ : ∃ r, k = n * L + r := ⟨k - n * L, by omega⟩
      have hr : r < L := by omega
      rw [List.getElem?_append_right (by rw [ih.1]; omega), ih.1, show n * L + r - n * L = r by omega]
      have d1 : (n * L + r) / L = n := by rw [Nat.mul_comm, Nat.mul_add_div h0, Nat.div_eq_of_lt hr]; rfl
      have d2 : (n * L + r) % L = r := by rw [Nat.mul_comm, Nat.mul_add_mod, Nat.mod_eq_of_lt hr]
      rw [d1, d2]
      simp
theorem g_selfAssign {V : Vm} {c : ClassId} : V.assignable c c = true := by
  unfold Vm.assignable
  rw [Vm.assignableAux]
  simp
section MROWS
variable {M : gM} {d mc ms uc us pc n : Nat} {K : gZ} {lv : List (Nat × Value)} {st : List Value} {σ : gH}
/-- the classes of the array types, inner and outer -/
theorem g_K.ty {D : va_G} {dT : Nat → ClassId} {A : Nat → Prop} {t0 : Nat × Nat} {U : State} {t : Nat} {ty : FieldType} (h : g_K D dT A t0 U) (ht : (g_tys dT)[t]? = some (dT t, ty)) : U.vm.findClass ("[" ++ ty.toString) = some (dT t) ∧ ∃ (k : Class) (comp : ClassId), U.vm.classes[dT t]? = some k ∧ k.kind = .array comp ty := by
  obtain ⟨h1, h2⟩ := h.1.2 t (dT t, ty) ht
  refine ⟨?_, ?_⟩
  · cases ty with
    | object C =>
      obtain ⟨_, _, -, -, -, h3⟩ := h2
      exact h3
    | _ => exact h2
  · obtain ⟨-, k, h3, comp, h4⟩ := h1 0 (fun _ => .null)
    exact ⟨k, comp, h3, h4⟩
theorem g_K.ch2 {D : va_G} {dT : Nat → ClassId} {A : Nat → Prop} {t0 : Nat × Nat} {U : State} {t t' : Nat} {ty : FieldType} (h : g_K D dT A t0 U) (hw : Cond.arrayOver (.array ty) ∈ lw_tbl) (ht : (g_tys dT)[t]? = some (dT t, .array ty)) (ht' : (g_tys dT)[t']? = some (dT t', ty)) (hn : (FieldType.array ty).toString = "[" ++ ty.toString) : U.vm.findClass ("[" ++ (FieldType.array ty).toString) = some (dT t) ∧ g_ch U.vm ty [dT t, dT t'] := by
  obtain ⟨h1, -⟩ := h.ty ht
  obtain ⟨h3, h4⟩ := h.ty ht'
  obtain ⟨k, g1, g2⟩ := h.overA hw h1 (by rw [hn]; exact h3)
  exact ⟨h1, ⟨k, _, g1, g2, rfl⟩, h4⟩
theorem g_K.ch3 {D : va_G} {dT : Nat → ClassId} {A : Nat → Prop} {t0 : Nat × Nat} {U : State} {t t' t'' : Nat} {ty : FieldType} (h : g_K D dT A t0 U) (hw : Cond.arrayOver (.array ty) ∈ lw_tbl) (hw2 : Cond.arrayOver (.array (.array ty)) ∈ lw_tbl) (ht : (g_tys dT)[t]? = some (dT t, .array (.array ty))) (ht' : (g_tys dT)[t']? = some (dT t', .array ty)) (ht'' : (g_tys dT)[t'']? = some (dT t'', ty)) (hn : (FieldType.array ty).toString = "[" ++ ty.toString) (hn2 : (FieldType.array (.array ty)).toString = "[" ++ (FieldType.array ty).toString) : U.vm.findClass ("[" ++ (FieldType.array (.array ty)).toString) = some (dT t) ∧ g_ch U.vm ty [dT t, dT t', dT t''] := by
  obtain ⟨h1, -⟩ := h.ty ht
  obtain ⟨h3, h4⟩ := h.ch2 hw ht' ht'' hn
  obtain ⟨k, g1, g2⟩ := h.overA hw2 h1 (by rw [hn2]; exact h3)
  exact ⟨h1, ⟨k, _, g1, g2, rfl⟩, h4⟩
theorem e_cm2 {N1 N2 : Int32} {idx t t' : Nat} {nm : String} {ty : FieldType} {P : Nat → gH → Prop} (w : c_m2 N1.toNatClampNeg N2.toNatClampNeg σ t P) (hw : Cond.arrayOver (.array ty) ∈ lw_tbl) (ht : ∀ dT : Nat → ClassId, (g_tys dT)[t]? = some (dT t, .array ty)) (ht' : ∀ dT : Nat → ClassId, (g_tys dT)[t']? = some (dT t', ty)) (hn : (FieldType.array ty).toString = "[" ++ ty.toString) (hnm : "[" ++ (FieldType.array ty).toString = nm) (hdf : fits ty (defaultValue ty) = true) (hdd : (defaultValue ty).isDefault = true)
    (hin : ∀ N, (g_in0 t N).1 = t') (hce : ∀ cA N, vp_cell cA (g_in0 t N).2 = arrV cA N (fun _ => defaultValue ty)) (hz : ∀ z ∈ [N1, N2], ¬ z < 0 ∧ z.toNatClampNeg * 8 ≤ 536870912)
    (hq : Cond.classLink M.1.cls idx nm ∈ lw_all) (hu1 : uc + (1 + N1.toNatClampNeg) ≤ mc) (hu2 : us + (N1.toNatClampNeg + N1.toNatClampNeg * N2.toNatClampNeg) ≤ ms) (hd : decode M.2.1 pc = .ok (.multianewarray idx 2, 4)) (hp : pc + 4 = n) (kk : ∀ (q : Nat) (σ' : gH), P q σ' → E M d mc ms K (uc + (1 + N1.toNatClampNeg)) (us + (N1.toNatClampNeg + N1.toNatClampNeg * N2.toNatClampNeg)) n lv (.ref q :: st) σ') : E M d mc ms K uc us pc lv (.int N2 :: .int N1 :: st) σ := by
  intro p l e s m args below meth c D dT A H locs ls C P S L
  subst hp
  obtain ⟨hnmc, hch⟩ := C.2.2.2.2.2.2.1.ch2 hw (ht dT) (ht' dT) hn
  rw [hnm] at hnmc
  have e1 : g_sz [N1.toNatClampNeg, N2.toNatClampNeg] = 1 + N1.toNatClampNeg := by simp [g_sz]
  have e2 : g_sl [N1.toNatClampNeg, N2.toNatClampNeg] = N1.toNatClampNeg + N1.toNatClampNeg * N2.toNatClampNeg := by simp [g_sl]
  refine g_multi2 C.1 C.2.1 C.2.2.2.2.1 (C.2.2.2.2.2.1 _ hq) hnmc rfl hch hdf hdd hz (by rw [e1]; exact hu1) (by rw [e2]; exact hu2) hd (fun H1 LL hH hL => ?_)
  rw [e1, e2]
  generalize hN1 : N1.toNatClampNeg = n1 at *
  generalize hN2 : N2.toNatClampNeg = n2 at *
  have hb : g_blk (defaultValue ty) [dT t, dT t'] [n1, n2] H.size = ((t, n1, .inr (.inr (.inr (.inr (fun j => some (H.size + 1 + j)))))) :: List.replicate n1 (g_in0 t n2) : List (Nat × vp_A)).map (fun x => vp_cell (dT x.1) x.2) := by
    simp only [g_blk, g_sz, Nat.mul_one, List.map_cons, List.map_replicate, hin, hce]
    rw [g_flat1]
    rfl
  rw [hb] at hH
  have hA := C.2.2.2.2.2.2.2.2.2.1
  have P2 := P.block (fun q hq => hA q (Nat.le_trans S.1 hq)) hH
  have free : ∀ a, H.size ≤ a → σ.2 a = none := by
    intro a ha
    cases hs : σ.2 a with
    | none => rfl
    | some f => exact absurd (P.in (q := a) (by rw [hs]; exact fun z => by cases z)).2 (by omega)
  have hs : (σ.1, fun a => if H.size ≤ a ∧ a < H.size + ((t, n1, .inr (.inr (.inr (.inr (fun j => some (H.size + 1 + j)))))) :: List.replicate n1 (g_in0 t n2) : List (Nat × vp_A)).length then ((((t, n1, .inr (.inr (.inr (.inr (fun j => some (H.size + 1 + j)))))) :: List.replicate n1 (g_in0 t n2) : List (Nat × vp_A)))[a - H.size]?).map .inl else σ.2 a) = g_m2 n1 n2 σ t H.size := by
    refine Prod.ext rfl (funext fun a => ?_)
    simp only [List.length_cons, List.length_replicate, g_m2]
    by_cases h1 : a = H.size
    · rw [if_pos h1, if_pos (by omega), h1, Nat.sub_self]
      rfl
    · rw [if_neg h1]
      by_cases h2 : H.size < a ∧ a ≤ H.size + n1
      · rw [if_pos h2, if_pos (by omega), show a - H.size = (a - H.size - 1) + 1 by omega, List.getElem?_cons_succ, List.getElem?_replicate, if_pos (by omega)]
        rfl
      · rw [if_neg h2, if_neg (by omega)]
  rw [hs] at P2
  have hh : H.size ≤ H1.size := by
    have h9 := congrArg List.length hH
    rw [List.length_append, Array.length_toList, Array.length_toList] at h9
    omega
  exact kk H.size _ (w H.size _ free rfl) p l e s m args below meth c D dT A H1 (locs ++ LL) ls C P2 ⟨Nat.le_trans S.1 hh, fun q h1 h2 => by
    rw [← Array.getElem?_toList, hH, List.getElem?_append_left (by rw [Array.length_toList]; exact Nat.lt_of_lt_of_le h1 S.1), Array.getElem?_toList]
    exact S.2.1 q h1 h2, fun q hq => by
      rcases List.mem_append.mp hq with h | h
      · exact S.2.2 q h
      · exact hA _ (Nat.le_trans S.1 (hL q h))⟩ L
theorem e_cm3_5 {N1 N2 N3 : Int32} {idx : Nat} {P : Nat → gH → Prop} (w : c_m3 N1.toNatClampNeg N2.toNatClampNeg N3.toNatClampNeg σ 5 P) (hz : ∀ z ∈ [N1, N2, N3], ¬ z < 0 ∧ z.toNatClampNeg * 8 ≤ 536870912)
    (hq : Cond.classLink M.1.cls idx "[[[J" ∈ lw_all) (hu1 : uc + (1 + N1.toNatClampNeg * (1 + N2.toNatClampNeg)) ≤ mc) (hu2 : us + (N1.toNatClampNeg + N1.toNatClampNeg * (N2.toNatClampNeg + N2.toNatClampNeg * N3.toNatClampNeg)) ≤ ms) (hd : decode M.2.1 pc = .ok (.multianewarray idx 3, 4)) (hp : pc + 4 = n) (kk : ∀ (q : Nat) (σ' : gH), P q σ' → E M d mc ms K (uc + (1 + N1.toNatClampNeg * (1 + N2.toNatClampNeg))) (us + (N1.toNatClampNeg + N1.toNatClampNeg * (N2.toNatClampNeg + N2.toNatClampNeg * N3.toNatClampNeg))) n lv (.ref q :: st) σ') : E M d mc ms K uc us pc lv (.int N3 :: .int N2 :: .int N1 :: st) σ := by
  intro p l e s m args below meth c D dT A H locs ls C P S L
  subst hp
  obtain ⟨hnmc, hch⟩ := C.2.2.2.2.2.2.1.ch3 (t := 5) (t' := 4) (t'' := 1) (ty := .long) q133 q132 rfl rfl rfl (by decide) (by decide)
  rw [show "[" ++ (FieldType.array (.array .long)).toString = "[[[J" by decide] at hnmc
  have e1 : g_sz [N1.toNatClampNeg, N2.toNatClampNeg, N3.toNatClampNeg] = 1 + N1.toNatClampNeg * (1 + N2.toNatClampNeg) := by simp [g_sz]
  have e2 : g_sl [N1.toNatClampNeg, N2.toNatClampNeg, N3.toNatClampNeg] = N1.toNatClampNeg + N1.toNatClampNeg * (N2.toNatClampNeg + N2.toNatClampNeg * N3.toNatClampNeg) := by simp [g_sl]
  refine g_multi3 C.1 C.2.1 C.2.2.2.2.1 (C.2.2.2.2.2.1 _ hq) hnmc rfl hch rfl rfl hz (by rw [e1]; exact hu1) (by rw [e2]; exact hu2) hd (fun H1 LL hH hL => ?_)
  rw [e1, e2]
  generalize hN1 : N1.toNatClampNeg = n1 at *
  generalize hN2 : N2.toNatClampNeg = n2 at *
  generalize hN3 : N3.toNatClampNeg = n3 at *
  have hb : g_blk (defaultValue .long) [dT 5, dT 4, dT 1] [n1, n2, n3] H.size = ((5, n1, .inr (.inr (.inr (.inr (fun j => some (H.size + 1 + j * (1 + n2))))))) :: (List.range n1).flatMap (fun j => (4, n2, .inr (.inr (.inr (.inr (fun i => some (H.size + 1 + j * (1 + n2) + 1 + i)))))) :: List.replicate n2 (g_in0 4 n3)) : List (Nat × vp_A)).map (fun x => vp_cell (dT x.1) x.2) := by
    simp only [g_blk, g_sz, Nat.mul_one, List.map_cons, List.map_flatMap, List.map_replicate]
    simp only [g_flat1]
    rfl
  rw [hb] at hH
  have hA := C.2.2.2.2.2.2.2.2.2.1
  have P2 := P.block (fun q hq => hA q (Nat.le_trans S.1 hq)) hH
  have free : ∀ a, H.size ≤ a → σ.2 a = none := by
    intro a ha
    cases hs : σ.2 a with
    | none => rfl
    | some f => exact absurd (P.in (q := a) (by rw [hs]; exact fun z => by cases z)).2 (by omega)
  have hf := g_flat (fun j => ((4, n2, .inr (.inr (.inr (.inr (fun i => some (H.size + 1 + j * (1 + n2) + 1 + i)))))) :: List.replicate n2 (g_in0 4 n3) : List (Nat × vp_A))) (1 + n2) (fun j => by simp; omega) n1
  have hs : (σ.1, fun a => if H.size ≤ a ∧ a < H.size + ((5, n1, .inr (.inr (.inr (.inr (fun j => some (H.size + 1 + j * (1 + n2))))))) :: (List.range n1).flatMap (fun j => (4, n2, .inr (.inr (.inr (.inr (fun i => some (H.size + 1 + j * (1 + n2) + 1 + i)))))) :: List.replicate n2 (g_in0 4 n3)) : List (Nat × vp_A)).length then (((5, n1, .inr (.inr (.inr (.inr (fun j => some (H.size + 1 + j * (1 + n2))))))) :: (List.range n1).flatMap (fun j => (4, n2, .inr (.inr (.inr (.inr (fun i => some (H.size + 1 + j * (1 + n2) + 1 + i)))))) :: List.replicate n2 (g_in0 4 n3)) : List (Nat × vp_A))[a - H.size]?).map .inl else σ.2 a) = g_m3 n1 n2 n3 σ 5 H.size := by
    refine Prod.ext rfl (funext fun a => ?_)
    simp only [List.length_cons, hf.1, g_m3]
    by_cases h1 : a = H.size
    · rw [if_pos h1, if_pos (by omega), h1, Nat.sub_self]
      rfl
    · rw [if_neg h1]
      by_cases h2 : H.size < a ∧ a ≤ H.size + n1 * (1 + n2)
      · rw [if_pos h2, if_pos (by omega), show a - H.size = (a - H.size - 1) + 1 by omega, List.getElem?_cons_succ, hf.2 _ (by omega), show a - H.size - 1 + 1 - 1 = a - H.size - 1 by omega]
        obtain ⟨k, hk⟩ : ∃ k, a = H.size + 1 + k := ⟨a - H.size - 1, by omega⟩
        subst hk
        rw [show H.size + 1 + k - H.size - 1 = k by omega]
        have dm := Nat.div_add_mod k (1 + n2)
        by_cases h3 : k % (1 + n2) = 0
        · rw [if_pos h3, h3]
          rw [h3, Nat.add_zero, Nat.mul_comm] at dm
          simp only [dm]
          rfl
        · rw [if_neg h3, show k % (1 + n2) = (k % (1 + n2) - 1) + 1 by omega, List.getElem?_cons_succ, List.getElem?_replicate, if_pos (by have := Nat.mod_lt k (show 1 + n2 > 0 by omega); omega)]
          rfl
      · rw [if_neg h2, if_neg (by omega)]
  rw [hs] at P2
  have hh : H.size ≤ H1.size := by
    have h9 := congrArg List.length hH
    rw [List.length_append, Array.length_toList, Array.length_toList] at h9
    omega
  exact kk H.size _ (w H.size _ free rfl) p l e s m args below meth c D dT A H1 (locs ++ LL) ls C P2 ⟨Nat.le_trans S.1 hh, fun q h1 h2 => by
    rw [← Array.getElem?_toList, hH, List.getElem?_append_left (by rw [Array.length_toList]; exact Nat.lt_of_lt_of_le h1 S.1), Array.getElem?_toList]
    exact S.2.1 q h1 h2, fun q hq => by
      rcases List.mem_append.mp hq with h | h
      · exact S.2.2 q h
      · exact hA _ (Nat.le_trans S.1 (hL q h))⟩ L
/-- an int array into an array of int arrays -/
theorem e_csA {a v : Nat} {i : Int32} {P : gH → Prop} (w : c_sA σ a i v P) (hd : decode M.2.1 pc = .ok (.aastore, 1)) (hp : pc + 1 = n) (kk : ∀ σ', P σ' → E M d mc ms K uc us n lv st σ') : E M d mc ms K uc us pc lv (.ref v :: .int i :: .ref a :: st) σ := by
  obtain ⟨N, f, x, h1, h2, h3, h4⟩ := w
  intro p l e s m args below meth c D dT A H locs ls C P S L
  subst hp
  obtain ⟨-, hch⟩ := C.2.2.2.2.2.2.1.ch2 (t := 3) (t' := 0) (ty := .int) q102 rfl rfl (by decide)
  obtain ⟨⟨k, t, c1, c2, c3⟩, k', comp', c4, c5⟩ := hch
  have hv := g_arr P h3
  have ha := g_arr P h1
  have P' := P
  obtain ⟨ws, g1, g2, g3, g4⟩ := P
  obtain ⟨q0, he⟩ := g3 a _ h1
  have hlt : i.toNatClampNeg < N := by
    unfold vp_in at h2
    omega
  have hneg : ¬ i < 0 := fun z => h2 (Or.inl z)
  refine W.aast C.1 C.2.1 ha (by rw [(g_cellcls _ _).2]; exact fun q z => by cases z) (by rw [(g_cellcls _ _).2]; exact fun z => by cases z) (by rw [(g_cellcls _ _).1]; exact c1) c2 c3 c4 ⟨hneg, by show _ < (Array.ofFn _).size; rw [Array.size_ofFn]; exact hlt⟩ hv (by rw [(g_cellcls _ _).2]; exact fun q z => by cases z) (by rw [(g_cellcls _ _).1]; exact c4) (by rw [(g_cellcls _ _).1]; exact g_selfAssign) rfl rfl hd (fun H1 z1 z2 z3 => ?_)
  have hat : va_at D g_cl (a, g_e dT (.inl (3, N, .inr (.inr (.inr (.inr (va_up f i.toNatClampNeg (some v)))))))) H1 := by
    show H1[a]? = some (arrV (dT 3) N (fun j => va_rf (va_up f i.toNatClampNeg (some v) j)))
    rw [z1]
    show some ((arrV (dT 3) N (fun j => va_rf (f j))).setSlot _ _) = _
    rw [g_arrSet]
    congr 2
    funext j
    by_cases hj : j = i.toNatClampNeg
    · rw [if_pos hj, hj, va_up_self]
      rfl
    · rw [if_neg hj, va_up_ne _ _ hj]
  exact kk _ (h4 _ rfl) p l e s m args below meth c D dT A H1 _ ls C (g_Pic.set (e := .inl (3, N, .inr (.inr (.inr (.inr (va_up f i.toNatClampNeg (some v))))))) he g2 g3 g4 (g1.set g2 he hat z3) (g2.set he)) (S.put z2 z3 (P'.in (q := a) (by rw [h1]; exact fun z => by cases z)).1) L
theorem e_cm2_3 {N1 N2 : Int32} {idx : Nat} {P : Nat → gH → Prop} (w : c_m2 N1.toNatClampNeg N2.toNatClampNeg σ 3 P) (hz : ∀ z ∈ [N1, N2], ¬ z < 0 ∧ z.toNatClampNeg * 8 ≤ 536870912) (hq : Cond.classLink M.1.cls idx "[[I" ∈ lw_all) (hu1 : uc + (1 + N1.toNatClampNeg) ≤ mc) (hu2 : us + (N1.toNatClampNeg + N1.toNatClampNeg * N2.toNatClampNeg) ≤ ms) (hd : decode M.2.1 pc = .ok (.multianewarray idx 2, 4)) (hp : pc + 4 = n) (kk : ∀ (q : Nat) (σ' : gH), P q σ' → E M d mc ms K (uc + (1 + N1.toNatClampNeg)) (us + (N1.toNatClampNeg + N1.toNatClampNeg * N2.toNatClampNeg)) n lv (.ref q :: st) σ') : E M d mc ms K uc us pc lv (.int N2 :: .int N1 :: st) σ :=
  e_cm2 (ty := .int) (t' := 0) w q102 (fun _ => rfl) (fun _ => rfl) (by decide) (by decide) rfl rfl (fun _ => rfl) (fun _ _ => rfl) hz hq hu1 hu2 hd hp kk
theorem e_cm2_4 {N1 N2 : Int32} {idx : Nat} {P : Nat → gH → Prop} (w : c_m2 N1.toNatClampNeg N2.toNatClampNeg σ 4 P) (hz : ∀ z ∈ [N1, N2], ¬ z < 0 ∧ z.toNatClampNeg * 8 ≤ 536870912) (hq : Cond.classLink M.1.cls idx "[[J" ∈ lw_all) (hu1 : uc + (1 + N1.toNatClampNeg) ≤ mc) (hu2 : us + (N1.toNatClampNeg + N1.toNatClampNeg * N2.toNatClampNeg) ≤ ms) (hd : decode M.2.1 pc = .ok (.multianewarray idx 2, 4)) (hp : pc + 4 = n) (kk : ∀ (q : Nat) (σ' : gH), P q σ' → E M d mc ms K (uc + (1 + N1.toNatClampNeg)) (us + (N1.toNatClampNeg + N1.toNatClampNeg * N2.toNatClampNeg)) n lv (.ref q :: st) σ') : E M d mc ms K uc us pc lv (.int N2 :: .int N1 :: st) σ :=
  e_cm2 (ty := .long) (t' := 1) w q133 (fun _ => rfl) (fun _ => rfl) (by decide) (by decide) rfl rfl (fun _ => rfl) (fun _ _ => rfl) hz hq hu1 hu2 hd hp kk
theorem e_cm2_8 {N1 N2 : Int32} {idx : Nat} {P : Nat → gH → Prop} (w : c_m2 N1.toNatClampNeg N2.toNatClampNeg σ 8 P) (hz : ∀ z ∈ [N1, N2], ¬ z < 0 ∧ z.toNatClampNeg * 8 ≤ 536870912) (hq : Cond.classLink M.1.cls idx "[[LMendReader$Step;" ∈ lw_all) (hu1 : uc + (1 + N1.toNatClampNeg) ≤ mc) (hu2 : us + (N1.toNatClampNeg + N1.toNatClampNeg * N2.toNatClampNeg) ≤ ms) (hd : decode M.2.1 pc = .ok (.multianewarray idx 2, 4)) (hp : pc + 4 = n) (kk : ∀ (q : Nat) (σ' : gH), P q σ' → E M d mc ms K (uc + (1 + N1.toNatClampNeg)) (us + (N1.toNatClampNeg + N1.toNatClampNeg * N2.toNatClampNeg)) n lv (.ref q :: st) σ') : E M d mc ms K uc us pc lv (.int N2 :: .int N1 :: st) σ :=
  e_cm2 (ty := .object "MendReader$Step") (t' := 7) w q525 (fun _ => rfl) (fun _ => rfl) (by decide) (by decide) rfl rfl (fun _ => rfl) (fun _ _ => rfl) hz hq hu1 hu2 hd hp kk
end MROWS
