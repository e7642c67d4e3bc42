/-! words of the plain predicates for the steps that throw, and their rows -/
set_option maxRecDepth 100000
def g_knm (t : Nat) : String := if t = 0 then "[I" else if t = 1 then "MendReader$Tree" else "MendReader$Slips"
/-- what stands at a: an int array (0), a Tree (1), a Slips (2) -/
def g_kind (σ : gH) (a t : Nat) : Prop := (t = 0 ∧ ∃ (N : Nat) (f : Nat → Int32), σ.2 a = some (.inl (0, N, .inl f))) ∨ (t = 1 ∧ ∃ fs : List Value, σ.2 a = some (.inr (1, fs))) ∨ (t = 2 ∧ ∃ fs : List Value, σ.2 a = some (.inr (2, fs)))
def c_castX (σ : gH) (t : Nat) (r : Option Nat) (uc us mc ms : Nat) (P Ph : Prop) : Prop := (r = none → P) ∧ ∀ a, r = some a → ∃ t', g_kind σ a t' ∧ (t' = t → P) ∧ (¬ t' = t → uc + 3 ≤ mc ∧ us + 1010 ≤ ms ∧ Ph)
def c_nul (r : Option Nat) (uc us mc ms : Nat) (P : Nat → Prop) (Ph : Prop) : Prop := (r = none → uc + 1 ≤ mc ∧ us + 8 ≤ ms ∧ Ph) ∧ ∀ a, r = some a → P a
def c_aIX (σ : gH) (a : Nat) (i : Int32) (uc us mc ms : Nat) (P : Int32 → Prop) (Ph : Prop) : Prop := ∃ (N : Nat) (f : Nat → Int32), σ.2 a = some (.inl (0, N, .inl f)) ∧ N < 2147483648 ∧ (vp_in i N → P (f i.toNatClampNeg)) ∧ (¬ vp_in i N → uc + 3 ≤ mc ∧ us + 222 ≤ ms ∧ Ph)
theorem g_objN {D : va_G} {dT : Nat → ClassId} {A : Nat → Prop} {t0 : Nat × Nat} {s : State} {σ : gH} {H : Heap} {a ci N : Nat} {C : String} {T : u_T} {fs : List Value} (hK : g_K D dT A t0 s) (P : g_Pic D dT A σ H) (hb : σ.2 a = some (.inr (ci, fs))) (hc : g_cl[ci]? = some (C, T, N)) : ∃ cell, H[a]? = some cell ∧ cell.vm = .none ∧ s.vm.findClass C = some cell.cls := by
  obtain ⟨ws, g1, g2, g3, g4⟩ := P
  obtain ⟨q0, he⟩ := g3 a _ hb
  obtain ⟨r, h1, cell, q1, q2, q3, -⟩ := g1 q0 _ he
  have hr : r = (C, T, N) := Option.some.inj (h1.symm.trans hc)
  subst hr
  obtain ⟨-, hfc, -⟩ := hK.1.1 ci _ hc
  exact ⟨cell, q1, q3, by rw [q2]; exact hfc⟩
theorem g_kindAt {σ : gH} {a t : Nat} (h : g_kind σ a t) {D : va_G} {dT : Nat → ClassId} {A : Nat → Prop} {t0 : Nat × Nat} {s : State} {H : Heap} (hK : g_K D dT A t0 s) (P : g_Pic D dT A σ H) : ∃ cell, H[a]? = some cell ∧ cell.vm = .none ∧ s.vm.findClass (g_knm t) = some cell.cls := by
  rcases h with ⟨rfl, N, f, h⟩ | ⟨rfl, fs, h⟩ | ⟨rfl, fs, h⟩
  · refine ⟨_, g_arr P h, (g_cellcls _ _).2, ?_⟩
    rw [(g_cellcls _ _).1]
    exact (hK.ty (t := 0) (ty := .int) rfl).1
  · exact g_objN hK P h rfl
  · exact g_objN hK P h rfl
theorem g_noKind {t t' : Nat} (h : t < 3) (h' : t' < 3) (hne : ¬ t' = t) : Cond.not (.castable (g_knm t') (g_knm t)) ∈ flatC (Jvm.Cond.and given_1 narrow_1) := by
  have h1 : t = 0 ∨ t = 1 ∨ t = 2 := by omega
  have h2 : t' = 0 ∨ t' = 1 ∨ t' = 2 := by omega
  rcases h1 with rfl | rfl | rfl <;> rcases h2 with rfl | rfl | rfl <;> first | exact absurd rfl hne | decide +kernel
theorem g_knmDot {t : Nat} (h : t < 3) : ∃ x, dotted (g_knm t) = x ∧ packageOf (g_knm t) = "" ∧ x.toList.length ≤ 20 := by
  have h1 : t = 0 ∨ t = 1 ∨ t = 2 := by omega
  rcases h1 with rfl | rfl | rfl <;> exact ⟨_, rfl, by decide +kernel, by decide +kernel⟩
theorem g_kind.lt {σ : gH} {a t : Nat} (h : g_kind σ a t) : t < 3 := by
  rcases h with ⟨rfl, -⟩ | ⟨rfl, -⟩ | ⟨rfl, -⟩ <;> omega
section ZROWS
variable {M : gM} {d mc ms uc us pc n hpc : Nat} {K : gZ} {lv : List (Nat × Value)} {st rest : List Value} {σ : gH} {hh : List gHd}
theorem e_hdN (hcw : Cond.codeWith M.1 M.2.1 M.2.2.1 M.2.2.2 hh ∈ lw_all) (H : g_Hd M hh pc "java/lang/NullPointerException" hpc) (R : g_RsN M d mc ms uc us pc lv st rest σ) (hu1 : uc + 1 ≤ mc) (hu2 : us + 8 ≤ ms) (hd : 300 ≤ d) (hroom : (rest.map fun v => v.category).sum ≤ 8) (kk : ∀ q : Nat, E M d mc ms K (uc + 1) (us + 8) hpc lv [.ref q] σ) : E M d mc ms K uc us pc lv st σ := by
  obtain ⟨pre, hit, post, k1, k2, k3, k4⟩ := H
  subst k2
  exact e_catchN hcw k1 k3 k4 R hu1 hu2 hd hroom kk
theorem e_hdI (hcw : Cond.codeWith M.1 M.2.1 M.2.2.1 M.2.2.2 hh ∈ lw_all) (H : g_Hd M hh pc "java/lang/ArrayIndexOutOfBoundsException" hpc) (R : g_RsM M d mc ms uc us pc lv st rest σ "java/lang/ArrayIndexOutOfBoundsException" 212) (hu1 : uc + 3 ≤ mc) (hu2 : us + 222 ≤ ms) (hd : 300 ≤ d) (hroom : (rest.map fun v => v.category).sum ≤ 8) (kk : ∀ q : Nat, E M d mc ms K (uc + 3) (us + 222) hpc lv [.ref q] σ) : E M d mc ms K uc us pc lv st σ := by
  obtain ⟨pre, hit, post, k1, k2, k3, k4⟩ := H
  subst k2
  exact e_catchM (names := ["java/lang/IndexOutOfBoundsException", "java/lang/RuntimeException", "java/lang/Exception"]) (fun a b => g_atI a b) (by decide) (by decide) rfl rfl (by decide) (by decide) hcw k1 k3 k4 R hu1 hu2 hd hroom kk
theorem e_hdC (hcw : Cond.codeWith M.1 M.2.1 M.2.2.1 M.2.2.2 hh ∈ lw_all) (H : g_Hd M hh pc "java/lang/ClassCastException" hpc) (R : g_RsM M d mc ms uc us pc lv st rest σ "java/lang/ClassCastException" 1000) (hu1 : uc + 3 ≤ mc) (hu2 : us + 1010 ≤ ms) (hd : 300 ≤ d) (hroom : (rest.map fun v => v.category).sum ≤ 8) (kk : ∀ q : Nat, E M d mc ms K (uc + 3) (us + 1010) hpc lv [.ref q] σ) : E M d mc ms K uc us pc lv st σ := by
  obtain ⟨pre, hit, post, k1, k2, k3, k4⟩ := H
  subst k2
  exact e_catchM (names := ["java/lang/RuntimeException", "java/lang/Exception"]) (fun a b => g_atC a b) (by decide) (by decide) rfl rfl (by decide) (by decide) hcw k1 k3 k4 R hu1 hu2 hd hroom kk
theorem e_castX {t idx : Nat} {r : Option Nat} {P Ph : Prop} (w : c_castX σ t r uc us mc ms P Ph) (ht : t < 3) (hq : Cond.classLink M.1.cls idx (g_knm t) ∈ lw_all) (hcw : Cond.codeWith M.1 M.2.1 M.2.2.1 M.2.2.2 hh ∈ lw_all) (H : g_Hd M hh pc "java/lang/ClassCastException" hpc) (hdd : 300 ≤ d) (hroom : ∀ a : Nat, r = some a → ((Value.ref a :: st).map fun v => v.category).sum ≤ 8) (hd : decode M.2.1 pc = .ok (.checkcast idx, 3)) (hp : pc + 3 = n)
    (kk : P → E M d mc ms K uc us n lv (va_rf r :: st) σ) (kh : Ph → uc + 3 ≤ mc → us + 1010 ≤ ms → ∀ q : Nat, E M d mc ms K (uc + 3) (us + 1010) hpc lv [.ref q] σ) : E M d mc ms K uc us pc lv (va_rf r :: st) σ := by
  cases r with
  | none => exact e_castN hd hp (kk (w.1 rfl))
  | some a =>
    obtain ⟨t', hk, w1, w2⟩ := w.2 a rfl
    by_cases h : t' = t
    · subst h
      rcases hk with ⟨rfl, N, f, h⟩ | ⟨rfl, fs, h⟩ | ⟨rfl, fs, h⟩
      · exact e_castI hq h hd hp (kk (w1 rfl))
      · exact e_castO hq (q := (RX1, TX1, 2)) rfl (Or.inl rfl) h hd hp (kk (w1 rfl))
      · exact e_castO hq (q := (RX2, TX2, 1)) rfl (Or.inl rfl) h hd hp (kk (w1 rfl))
    · obtain ⟨u1, u2, w2⟩ := w2 h
      obtain ⟨x, x1, x2, x3⟩ := g_knmDot hk.lt
      obtain ⟨y, y1, y2, y3⟩ := g_knmDot ht
      exact e_hdC hcw H (rs_cast (fun hK P => g_kindAt hk hK P) hq (g_noKind ht hk.lt h) x1 y1 x2 y2 x3 y3 hd) u1 u2 hdd (hroom a rfl) (kh w2 u1 u2)
theorem e_caIX {a : Nat} {i : Int32} {P : Int32 → Prop} {Ph : Prop} (w : c_aIX σ a i uc us mc ms P Ph) (hcw : Cond.codeWith M.1 M.2.1 M.2.2.1 M.2.2.2 hh ∈ lw_all) (H : g_Hd M hh pc "java/lang/ArrayIndexOutOfBoundsException" hpc) (hdd : 300 ≤ d) (hroom : (st.map fun v => v.category).sum ≤ 8) (hd : decode M.2.1 pc = .ok (.iaload, 1)) (hp : pc + 1 = n)
    (kk : ∀ x, P x → E M d mc ms K uc us n lv (.int x :: st) σ) (kh : Ph → uc + 3 ≤ mc → us + 222 ≤ ms → ∀ q : Nat, E M d mc ms K (uc + 3) (us + 222) hpc lv [.ref q] σ) : E M d mc ms K uc us pc lv (.int i :: .ref a :: st) σ := by
  obtain ⟨N, f, h1, h2, h3, h4⟩ := w
  by_cases h : vp_in i N
  · exact e_iald h1 h hd hp (kk _ (h3 h))
  · obtain ⟨u1, u2, w2⟩ := h4 h
    exact e_hdI hcw H (rs_iout h1 h h2 hd) u1 u2 hdd hroom (kh w2 u1 u2)
end ZROWS
