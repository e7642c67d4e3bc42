/-! PLAIN LAW, the component: reading its world; what its steps answer -/
set_option maxRecDepth 100000
theorem i_I {σ : gH} {L : List Nat} {a k ci : Nat} {fs : List Value} {x : Int32} {P : Int32 → Prop} (h : σ.2 a = some (cO ci fs)) (hL : ci ∈ L) (hk : fs[k]? = some (.int x)) (p : P x) : c_I σ L a k P := ⟨ci, fs, x, hL, h, hk, p⟩
theorem i_R {σ : gH} {L : List Nat} {a k ci b : Nat} {fs : List Value} {P : Option Nat → Prop} (h : σ.2 a = some (cO ci fs)) (hL : ci ∈ L) (hk : fs[k]? = some (.ref b)) (p : P (some b)) : c_R σ L a k P := ⟨ci, fs, some b, hL, h, hk, p⟩
theorem i_Rr {σ : gH} {L : List Nat} {a k ci : Nat} {r : Option Nat} {fs : List Value} {P : Option Nat → Prop} (h : σ.2 a = some (cO ci fs)) (hL : ci ∈ L) (hk : fs[k]? = some (va_rf r)) (p : P r) : c_R σ L a k P := ⟨ci, fs, r, hL, h, hk, p⟩
theorem i_P {σ : gH} {L : List Nat} {a k ci : Nat} {fs : List Value} {v : Value} {P : gH → Prop} (h : σ.2 a = some (cO ci fs)) (hL : ci ∈ L) (hk : k < fs.length) (p : P (g_up σ a (cO ci (fs.set k v)))) : c_P σ L a k v P := ⟨ci, fs, hL, h, hk, fun _ e => by rw [e]; exact p⟩
theorem i_aI {σ : gH} {a j N : Nat} {f : Nat → Int32} {i : Int32} {P : Int32 → Prop} (h : σ.2 a = some (cI N f)) (hi : i = nI j) (hj : j < N) (hN : N < 2147483648) (p : P (f j)) : c_aI σ a i P := ⟨N, f, h, by rw [hi]; exact vp_nI hj hN, by rw [hi, nI_clamp (by omega)]; exact p⟩
theorem i_aZ {σ : gH} {a j N : Nat} {f : Nat → Int32} {i : Int32} {P : Int32 → Prop} (h : σ.2 a = some (cZ N f)) (hi : i = nI j) (hj : j < N) (hN : N < 2147483648) (p : P (f j)) : c_aZ σ a i P := ⟨N, f, h, by rw [hi]; exact vp_nI hj hN, by rw [hi, nI_clamp (by omega)]; exact p⟩
theorem i_aJ {σ : gH} {a j N : Nat} {f : Nat → Int64} {i : Int32} {P : Int64 → Prop} (h : σ.2 a = some (cJ N f)) (hi : i = nI j) (hj : j < N) (hN : N < 2147483648) (p : P (f j)) : c_aJ σ a i P := ⟨N, f, h, by rw [hi]; exact vp_nI hj hN, by rw [hi, nI_clamp (by omega)]; exact p⟩
theorem i_aR {σ : gH} {t a j N : Nat} {f : Nat → Option Nat} {i : Int32} {P : Option Nat → Prop} (h : σ.2 a = some (cQ t N f)) (hi : i = nI j) (hj : j < N) (hN : N < 2147483648) (p : P (f j)) : c_aR t σ a i P := ⟨N, f, h, by rw [hi]; exact vp_nI hj hN, by rw [hi, nI_clamp (by omega)]; exact p⟩
theorem i_sI {σ : gH} {a j N : Nat} {f : Nat → Int32} {i v : Int32} {P : gH → Prop} (h : σ.2 a = some (cI N f)) (hi : i = nI j) (hj : j < N) (hN : N < 2147483648) (p : P (g_up σ a (cI N (upd f j v)))) : c_sI σ a i v P := ⟨N, f, h, by rw [hi]; exact vp_nI hj hN, fun _ e => by rw [e, hi, nI_clamp (by omega)]; exact p⟩
theorem i_sJ {σ : gH} {a j N : Nat} {f : Nat → Int64} {i : Int32} {v : Int64} {P : gH → Prop} (h : σ.2 a = some (cJ N f)) (hi : i = nI j) (hj : j < N) (hN : N < 2147483648) (p : P (g_up σ a (cJ N (vp_updL f j v)))) : c_sJ σ a i v P := ⟨N, f, h, by rw [hi]; exact vp_nI hj hN, fun _ e => by rw [e, hi, nI_clamp (by omega)]; exact p⟩
theorem i_sR {σ : gH} {t a j N : Nat} {L : List Nat} {f : Nat → Option Nat} {i : Int32} {r : Option Nat} {P : gH → Prop} (h : σ.2 a = some (cQ t N f)) (hi : i = nI j) (hj : j < N) (hN : N < 2147483648) (hr : ∀ v, r = some v → ∃ (ci : Nat) (fs : List Value), ci ∈ L ∧ σ.2 v = some (cO ci fs)) (p : P (g_up σ a (cQ t N (va_up f j r)))) : c_sR t L σ a i r P := ⟨N, f, h, by rw [hi]; exact vp_nI hj hN, hr, fun _ e => by rw [e, hi, nI_clamp (by omega)]; exact p⟩
theorem upd_s (f : Nat → Int32) (j : Nat) (v : Int32) : upd f j v j = v := by simp [upd]
theorem upd_n (f : Nat → Int32) {j i : Nat} (v : Int32) (h : i ≠ j) : upd f j v i = f i := by simp [upd, h]
theorem updL_s (f : Nat → Int64) (j : Nat) (v : Int64) : vp_updL f j v j = v := by simp [vp_updL]
theorem updL_n (f : Nat → Int64) {j i : Nat} (v : Int64) (h : i ≠ j) : vp_updL f j v i = f i := by simp [vp_updL, h]
theorem g_up_up (σ : gH) (a : Nat) (c e : gCell) : g_up (g_up σ a c) a e = g_up σ a e := by
  refine Prod.ext rfl ?_
  funext j
  simp only [g_up, va_up]
  by_cases h : j = a
  · rw [if_pos h, if_pos h]
  · rw [if_neg h, if_neg h, if_neg h]
/-- a step as it lies in the world -/
def sC (k ch x0 i f q t fm nu : Nat) : gCell := match k with
  | 0 => cO 8 [.ref ch, .int (nI i), .int (nI f), .int (nI q), .int (nI t), .ref x0]
  | 1 => cO 9 [.ref ch, .int (nI i), .int (nI f), .int (nI q), .int (nI t), .ref x0, .ref x0]
  | 2 => cO 10 [.ref ch, .int (nI i), .int (nI f), .int (nI q), .int (nI t), .ref x0, .ref x0, .ref x0]
  | 3 => cO 14 [.ref ch, .int (nI i), .int (nI f), .int (nI q), .int (nI t), .ref x0, .ref x0, .ref x0, .ref x0]
  | 4 => cO 11 [.ref ch, .int (nI i), .int (nI f), .int (nI q), .int (nI t), .ref x0, .ref x0, .ref x0, .ref fm, .int (nI nu), .ref x0]
  | 5 => cO 15 [.ref ch, .int (nI i), .int (nI f), .int (nI q), .int (nI t), .ref x0, .ref x0, .ref x0, .ref fm, .int (nI nu), .ref x0, .ref x0]
  | 6 => cO 12 [.ref ch, .int (nI i), .int (nI f), .int (nI q), .int (nI t), .ref x0, .ref x0, .ref x0]
  | _ => cO 13 [.ref ch, .int (nI i), .int (nI f), .int (nI q), .int (nI t), .ref x0, .ref x0, .ref x0, .int (nI nu), .ref x0]
/-- its class and fields -/
theorem sC_at (k ch x0 i f q t fm nu : Nat) : ∃ ci fs, sC k ch x0 i f q t fm nu = cO ci fs ∧ ci ∈ [8, 9, 10, 11, 12, 13, 14, 15] ∧ fs[0]? = some (.ref ch) ∧ fs[1]? = some (.int (nI i)) ∧ fs[2]? = some (.int (nI f)) ∧ fs[3]? = some (.int (nI q)) ∧ fs[4]? = some (.int (nI t)) := by
  match k with
  | 0 => exact ⟨_, _, rfl, by decide, rfl, rfl, rfl, rfl, rfl⟩
  | 1 => exact ⟨_, _, rfl, by decide, rfl, rfl, rfl, rfl, rfl⟩
  | 2 => exact ⟨_, _, rfl, by decide, rfl, rfl, rfl, rfl, rfl⟩
  | 3 => exact ⟨_, _, rfl, by decide, rfl, rfl, rfl, rfl, rfl⟩
  | 4 => exact ⟨_, _, rfl, by decide, rfl, rfl, rfl, rfl, rfl⟩
  | 5 => exact ⟨_, _, rfl, by decide, rfl, rfl, rfl, rfl, rfl⟩
  | 6 => exact ⟨_, _, rfl, by decide, rfl, rfl, rfl, rfl, rfl⟩
  | _ + 7 => exact ⟨_, _, rfl, by decide, rfl, rfl, rfl, rfl, rfl⟩
def sTold (k t nu : Nat) : Nat := match k with
  | 0 => 0 | 1 => t | 2 => t | 3 => 0 | 4 => nu | 5 => nu | 6 => 0 | _ => nu
def sBeh (k i nu : Nat) : Nat := match k with
  | 0 => i | 1 => i | 2 => i + 1 | 3 => i + 2 | 4 => i + 1 | 5 => i + 2 | 6 => i + 1 | _ => i + nu
section RO
variable {σ : gH} {a k ch x0 i f q t fm nu : Nat} {Q : Int32 → Prop}
theorem hv_pl (h : σ.2 a = some (sC k ch x0 i f q t fm nu)) (w : Q (nI i)) : c_I σ [8, 9, 10, 11, 12, 13, 14, 15] a 1 Q := by
  obtain ⟨ci, fs, e, h1, h2, h3, h4, h5, h6⟩ := sC_at k ch x0 i f q t fm nu
  rw [e] at h
  exact i_I h h1 h3 w
theorem hv_fr (h : σ.2 a = some (sC k ch x0 i f q t fm nu)) (w : Q (nI f)) : c_I σ [8, 9, 10, 11, 12, 13, 14, 15] a 2 Q := by
  obtain ⟨ci, fs, e, h1, h2, h3, h4, h5, h6⟩ := sC_at k ch x0 i f q t fm nu
  rw [e] at h
  exact i_I h h1 h4 w
theorem hv_to (h : σ.2 a = some (sC k ch x0 i f q t fm nu)) (w : Q (nI q)) : c_I σ [8, 9, 10, 11, 12, 13, 14, 15] a 3 Q := by
  obtain ⟨ci, fs, e, h1, h2, h3, h4, h5, h6⟩ := sC_at k ch x0 i f q t fm nu
  rw [e] at h
  exact i_I h h1 h5 w
theorem hv_tk (h : σ.2 a = some (sC k ch x0 i f q t fm nu)) (w : Q (nI t)) : c_I σ [8, 9, 10, 11, 12, 13, 14, 15] a 4 Q := by
  obtain ⟨ci, fs, e, h1, h2, h3, h4, h5, h6⟩ := sC_at k ch x0 i f q t fm nu
  rw [e] at h
  exact i_I h h1 h6 w
theorem hv_ch {P : Option Nat → Prop} (h : σ.2 a = some (sC k ch x0 i f q t fm nu)) (w : P (some ch)) : c_R σ [8, 9, 10, 11, 12, 13, 14, 15] a 0 P := by
  obtain ⟨ci, fs, e, h1, h2, h3, h4, h5, h6⟩ := sC_at k ch x0 i f q t fm nu
  rw [e] at h
  exact i_R h h1 h2 w
/-- a step of any class -/
theorem hv_kindG {ci : Nat} {fs : List Value} (h : σ.2 a = some (cO ci fs)) (h1 : 8 ≤ ci) (h2 : ci ≤ 15) (w : Q (k_kind ci)) : vX8_kind σ Q a := by
  have : ci = 8 ∨ ci = 9 ∨ ci = 10 ∨ ci = 11 ∨ ci = 12 ∨ ci = 13 ∨ ci = 14 ∨ ci = 15 := by omega
  rcases this with rfl | rfl | rfl | rfl | rfl | rfl | rfl | rfl
  · exact ⟨_, _, h, Or.inl ⟨rfl, w⟩⟩
  · exact ⟨_, _, h, Or.inr (Or.inl ⟨rfl, _, _, by decide, h, w⟩)⟩
  · exact ⟨_, _, h, Or.inr (Or.inr (Or.inl ⟨rfl, _, _, by decide, h, _, _, by decide, h, w⟩))⟩
  · exact ⟨_, _, h, Or.inr (Or.inr (Or.inr (Or.inl ⟨rfl, _, _, by decide, h, _, _, by decide, h, _, _, by decide, h, w⟩)))⟩
  · exact ⟨_, _, h, Or.inr (Or.inr (Or.inr (Or.inr (Or.inl ⟨rfl, _, _, by decide, h, _, _, by decide, h, w⟩))))⟩
  · exact ⟨_, _, h, Or.inr (Or.inr (Or.inr (Or.inr (Or.inr (Or.inl ⟨rfl, _, _, by decide, h, _, _, by decide, h, _, _, by decide, h, w⟩)))))⟩
  · exact ⟨_, _, h, Or.inr (Or.inr (Or.inr (Or.inr (Or.inr (Or.inr (Or.inl ⟨rfl, _, _, by decide, h, _, _, by decide, h, _, _, by decide, h, w⟩))))))⟩
  · exact ⟨_, _, h, Or.inr (Or.inr (Or.inr (Or.inr (Or.inr (Or.inr (Or.inr ⟨rfl, _, _, by decide, h, _, _, by decide, h, _, _, by decide, h, _, _, by decide, h, w⟩))))))⟩
theorem hv_kind (hk : k ≤ 7) (h : σ.2 a = some (sC k ch x0 i f q t fm nu)) (w : Q (nI k)) : vX8_kind σ Q a := by
  match k with
  | 0 => exact hv_kindG h (by decide) (by decide) w
  | 1 => exact hv_kindG h (by decide) (by decide) w
  | 2 => exact hv_kindG h (by decide) (by decide) w
  | 3 => exact hv_kindG h (by decide) (by decide) w
  | 4 => exact hv_kindG h (by decide) (by decide) w
  | 5 => exact hv_kindG h (by decide) (by decide) w
  | 6 => exact hv_kindG h (by decide) (by decide) w
  | 7 => exact hv_kindG h (by decide) (by decide) w
  | k + 8 => omega
theorem hv_toldG {ci : Nat} {fs : List Value} {tl : Int32} (h : σ.2 a = some (cO ci fs)) (h1 : 9 ≤ ci) (h2 : ci ≤ 15) (ht : if ci = 12 ∨ ci = 14 then tl = 0 else fs[if ci = 13 then 8 else if ci = 11 ∨ ci = 15 then 9 else 4]? = some (.int tl)) (w : Q tl) : vX8_told σ Q a := by
  have : ci = 9 ∨ ci = 10 ∨ ci = 11 ∨ ci = 12 ∨ ci = 13 ∨ ci = 14 ∨ ci = 15 := by omega
  rcases this with rfl | rfl | rfl | rfl | rfl | rfl | rfl <;> simp at ht
  · exact ⟨_, _, h, Or.inr (Or.inl ⟨rfl, i_I h (by decide) ht w⟩)⟩
  · exact ⟨_, _, h, Or.inr (Or.inr (Or.inl ⟨rfl, i_I h (by decide) ht w⟩))⟩
  · exact ⟨_, _, h, Or.inr (Or.inr (Or.inr (Or.inl ⟨rfl, i_I h (by decide) ht w⟩)))⟩
  · exact ⟨_, _, h, Or.inr (Or.inr (Or.inr (Or.inr (Or.inl ⟨rfl, by rw [ht] at w; exact w⟩))))⟩
  · exact ⟨_, _, h, Or.inr (Or.inr (Or.inr (Or.inr (Or.inr (Or.inl ⟨rfl, i_I h (by decide) ht w⟩)))))⟩
  · exact ⟨_, _, h, Or.inr (Or.inr (Or.inr (Or.inr (Or.inr (Or.inr (Or.inl ⟨rfl, by rw [ht] at w; exact w⟩))))))⟩
  · exact ⟨_, _, h, Or.inr (Or.inr (Or.inr (Or.inr (Or.inr (Or.inr (Or.inr ⟨rfl, i_I h (by decide) ht w⟩))))))⟩
theorem hv_told (hk : k ≤ 7) (h : σ.2 a = some (sC k ch x0 i f q t fm nu)) (w : Q (nI (sTold k t nu))) : vX8_told σ Q a := by
  match k with
  | 0 => exact ⟨_, _, h, Or.inl ⟨rfl, w⟩⟩
  | 1 => exact hv_toldG h (by decide) (by decide) rfl w
  | 2 => exact hv_toldG h (by decide) (by decide) rfl w
  | 3 => exact hv_toldG h (by decide) (by decide) rfl w
  | 4 => exact hv_toldG h (by decide) (by decide) rfl w
  | 5 => exact hv_toldG h (by decide) (by decide) rfl w
  | 6 => exact hv_toldG h (by decide) (by decide) rfl w
  | 7 => exact hv_toldG h (by decide) (by decide) rfl w
  | k + 8 => omega
theorem hv_first (hk : k ≤ 7) (h : σ.2 a = some (sC k ch x0 i f q t fm nu)) (w : Q (nI i)) : vX8_first σ Q a := by
  have p := hv_pl h w
  match k with
  | 0 => exact ⟨_, _, h, Or.inl ⟨rfl, p⟩⟩
  | 1 => exact ⟨_, _, h, Or.inr (Or.inl ⟨rfl, p⟩)⟩
  | 2 => exact ⟨_, _, h, Or.inr (Or.inr (Or.inl ⟨rfl, p⟩))⟩
  | 3 => exact ⟨_, _, h, Or.inr (Or.inr (Or.inr (Or.inr (Or.inr (Or.inr (Or.inl ⟨rfl, p⟩))))))⟩
  | 4 => exact ⟨_, _, h, Or.inr (Or.inr (Or.inr (Or.inl ⟨rfl, p⟩)))⟩
  | 5 => exact ⟨_, _, h, Or.inr (Or.inr (Or.inr (Or.inr (Or.inr (Or.inr (Or.inr ⟨rfl, p⟩))))))⟩
  | 6 => exact ⟨_, _, h, Or.inr (Or.inr (Or.inr (Or.inr (Or.inl ⟨rfl, p⟩))))⟩
  | 7 => exact ⟨_, _, h, Or.inr (Or.inr (Or.inr (Or.inr (Or.inr (Or.inl ⟨rfl, p⟩)))))⟩
  | k + 8 => omega
theorem hv_behind (hk : k ≤ 7) (h : σ.2 a = some (sC k ch x0 i f q t fm nu)) (w : Q (nI (sBeh k i nu))) : vX8_behind σ Q a := by
  match k with
  | 0 => exact ⟨_, _, h, Or.inl ⟨rfl, hv_pl h w⟩⟩
  | 1 => exact ⟨_, _, h, Or.inr (Or.inl ⟨rfl, hv_pl h w⟩)⟩
  | 2 => exact ⟨_, _, h, Or.inr (Or.inr (Or.inl ⟨rfl, hv_pl h (by rw [nI_1]; exact w)⟩))⟩
  | 3 => exact ⟨_, _, h, Or.inr (Or.inr (Or.inr (Or.inr (Or.inr (Or.inr (Or.inl ⟨rfl, _, _, by decide, h, hv_pl h (by show Q (nI i + 1 + 1); rw [nI_1, nI_1]; exact w)⟩))))))⟩
  | 4 => exact ⟨_, _, h, Or.inr (Or.inr (Or.inr (Or.inl ⟨rfl, hv_pl h (by rw [nI_1]; exact w)⟩)))⟩
  | 5 => exact ⟨_, _, h, Or.inr (Or.inr (Or.inr (Or.inr (Or.inr (Or.inr (Or.inr ⟨rfl, _, _, by decide, h, hv_pl h (by show Q (nI i + 1 + 1); rw [nI_1, nI_1]; exact w)⟩))))))⟩
  | 6 => exact ⟨_, _, h, Or.inr (Or.inr (Or.inr (Or.inr (Or.inl ⟨rfl, hv_pl h (by rw [nI_1]; exact w)⟩))))⟩
  | 7 => exact ⟨_, _, h, Or.inr (Or.inr (Or.inr (Or.inr (Or.inr (Or.inl ⟨rfl, hv_pl h (i_I h (by decide) rfl (by rw [nI_add]; exact w))⟩)))))⟩
  | k + 8 => omega
theorem hv_form (hk : k ≤ 7) (h : σ.2 a = some (sC k ch x0 i f q t fm nu)) (w : Q (nI (if k = 4 ∨ k = 5 then nu else 0))) : vX8_form σ Q a := by
  match k with
  | 0 => exact ⟨_, _, h, Or.inl ⟨rfl, w⟩⟩
  | 1 => exact ⟨_, _, h, Or.inr (Or.inl ⟨rfl, w⟩)⟩
  | 2 => exact ⟨_, _, h, Or.inr (Or.inr (Or.inl ⟨rfl, w⟩))⟩
  | 3 => exact ⟨_, _, h, Or.inr (Or.inr (Or.inr (Or.inr (Or.inr (Or.inr (Or.inl ⟨rfl, w⟩))))))⟩
  | 4 => exact ⟨_, _, h, Or.inr (Or.inr (Or.inr (Or.inl ⟨rfl, i_I h (by decide) rfl w⟩)))⟩
  | 5 => exact ⟨_, _, h, Or.inr (Or.inr (Or.inr (Or.inr (Or.inr (Or.inr (Or.inr ⟨rfl, i_I h (by decide) rfl w⟩))))))⟩
  | 6 => exact ⟨_, _, h, Or.inr (Or.inr (Or.inr (Or.inr (Or.inl ⟨rfl, w⟩))))⟩
  | 7 => exact ⟨_, _, h, Or.inr (Or.inr (Or.inr (Or.inr (Or.inr (Or.inl ⟨rfl, w⟩)))))⟩
  | k + 8 => omega
end RO
/-! what the steps look at -/
/-- the object, the chart, the text, the prices, the fences -/
def eR (C : Cf) (σ : gH) (x0 ch : Nat) (kk kc : Nat → Nat) : Prop :=
  (∃ fs, σ.2 x0 = some (cO 0 fs) ∧ fs[0]? = some (.int (nI (C.1 0))) ∧ fs[1]? = some (.ref (kk 1)) ∧ fs[2]? = some (.ref (kk 2)) ∧ fs[3]? = some (.int (nI (C.1 3))) ∧ fs[4]? = some (.int (nI (C.1 4))) ∧ fs[10]? = some (.int (nI (C.1 13)))) ∧
  (∃ f, σ.2 (kk 1) = some (cZ 12 f) ∧ ∀ t, t < C.1 0 → f t = nI (C.2 1 t) ∧ C.2 1 t < 2) ∧
  (∃ pf, σ.2 (kk 2) = some (cQ 3 3 pf) ∧ ∀ w, w < 3 → ∃ b g, pf w = some b ∧ σ.2 b = some (cI 12 g) ∧ ∀ t, t < C.1 0 → g t = nI (C.2 2 (12 * w + t))) ∧
  (∃ gs, σ.2 ch = some (cO 7 gs) ∧ gs[0]? = some (.ref (kc 1)) ∧ gs[1]? = some (.int (nI (C.1 34))) ∧ gs[2]? = some (.ref (kc 2)) ∧ gs[12]? = some (.ref x0)) ∧
  (∃ f, σ.2 (kc 1) = some (cI (C.1 34) f) ∧ ∀ i, i < C.1 34 → f i = nI (C.2 15 i))
section TOUCH
variable {C : Cf} {σ : gH} {a k ch x0 i f q t fm nu : Nat} {Q : Int32 → Prop} {kk kc : Nat → Nat}
theorem or_bit (x y : Nat) (hx : x < 2) (hy : y < 2) : nI x ||| nI y = nI (if x = 0 ∧ y = 0 then 0 else 1) := by
  have : (x = 0 ∨ x = 1) ∧ (y = 0 ∨ y = 1) := by omega
  rcases this with ⟨rfl | rfl, rfl | rfl⟩ <;> decide
/-- the fence of a token -/
theorem ht_f1 (ok : z_ok C) (e : eR C σ x0 ch kk kc) {t : Nat} (ht : t < C.1 0) {v : Int32} (hv : v = nI t) (w : Q (nI (C.2 1 t))) : c_aZ σ (kk 1) v Q := by
  obtain ⟨f, h1, h2⟩ := e.2.1
  have o := ok.1
  refine i_aZ h1 hv (by omega) (by decide) ?_
  rw [(h2 t ht).1]; exact w
theorem ht_fb (e : eR C σ x0 ch kk kc) {t : Nat} (ht : t < C.1 0) : C.2 1 t < 2 := by
  obtain ⟨f, h1, h2⟩ := e.2.1
  exact (h2 t ht).2
theorem tb_n {x : Nat} (h : x < 2) : t_b (nI x) := by
  have : x = 0 ∨ x = 1 := by omega
  rcases this with rfl | rfl
  · exact Or.inl rfl
  · exact Or.inr rfl
/-- the text -/
theorem ht_tx (ok : z_ok C) (e : eR C σ x0 ch kk kc) {j : Nat} (hj : j < C.1 34) {v : Int32} (hv : v = nI j) (w : Q (nI (C.2 15 j))) : c_R σ [7] ch 0 (fun r => ∃ a, r = some a ∧ c_aI σ a v Q) := by
  obtain ⟨gs, g1, g2, -⟩ := e.2.2.2.1
  obtain ⟨f, h1, h2⟩ := e.2.2.2.2
  have o := ok.1
  refine i_R g1 (by decide) g2 ⟨_, rfl, i_aI h1 hv hj (by omega) ?_⟩
  rw [h2 j hj]; exact w
theorem ht_9 {ci : Nat} {fs : List Value} (ok : z_ok C) (e : eR C σ x0 ch kk kc) (h : σ.2 a = some (cO ci fs)) (hc : ci ∈ [9, 10, 11, 12, 13, 14, 15]) (h6 : fs[6]? = some (.ref x0)) (h4 : fs[4]? = some (.int (nI t))) (ht : t < C.1 0) (w : Q (nI (C.2 1 t))) : wX9_touchesFence Q σ a := by
  obtain ⟨gs, g1, g2, g3, -⟩ := e.1
  refine i_R h hc h6 ⟨_, rfl, i_R g1 (by decide) g3 (i_I h (by simp only [List.mem_cons, List.not_mem_nil, or_false] at hc ⊢; omega) h4 ⟨_, rfl, ht_f1 ok e ht rfl ⟨tb_n (ht_fb e ht), w⟩⟩)⟩
theorem ht_10 {ci : Nat} {fs : List Value} (ok : z_ok C) (e : eR C σ x0 ch kk kc) (h : σ.2 a = some (cO ci fs)) (hc : ci ∈ [10, 11, 14, 15]) (h0 : fs[0]? = some (.ref ch)) (h1 : fs[1]? = some (.int (nI i))) (h6 : fs[6]? = some (.ref x0)) (h7 : fs[7]? = some (.ref x0)) (h4 : fs[4]? = some (.int (nI t))) (ht : t < C.1 0) (hi : i < C.1 34) (w : Q (nI (if C.2 1 t = 0 ∧ C.2 1 (C.2 15 i) = 0 then 0 else 1))) : wX10_touchesFence Q σ a := by
  have hc9 : ci ∈ [9, 10, 11, 12, 13, 14, 15] := by simp only [List.mem_cons, List.not_mem_nil, or_false] at hc ⊢; omega
  have hc8 : ci ∈ [8, 9, 10, 11, 12, 13, 14, 15] := by simp only [List.mem_cons, List.not_mem_nil, or_false] at hc ⊢; omega
  obtain ⟨gs, g1, g2, g3, -⟩ := e.1
  have bt := ok.2.2.2.1 i hi
  have b1 := ht_fb e ht
  have b2 := ht_fb e bt
  refine ⟨ci, fs, hc, h, ht_9 ok e h hc9 h6 h4 ht ?_⟩
  refine pk_eq (C.2 1 t) 0 (fun e0 => ?_) (fun e0 => ?_) rfl nI_0.symm (by omega) (by decide)
  · refine i_R h hc h7 ⟨_, rfl, i_R g1 (by decide) g3 (i_R h hc8 h0 ⟨_, rfl, ?_⟩)⟩
    obtain ⟨cs, c1, c2, -⟩ := e.2.2.2.1
    obtain ⟨fx, x1, x2⟩ := e.2.2.2.2
    have o := ok.1
    refine i_R c1 (by decide) c2 (i_I h hc8 h1 ⟨_, rfl, i_aI x1 rfl hi (by omega) ⟨_, rfl, ht_f1 ok e bt (x2 i hi) ?_⟩⟩)
    refine pk_eq (C.2 1 (C.2 15 i)) 0 (fun e1 => ?_) (fun e1 => ?_) rfl nI_0.symm (by omega) (by decide)
    · rw [if_pos ⟨e0, e1⟩] at w; exact w
    · rw [if_neg (fun z => e1 z.2)] at w; exact w
  · rw [if_neg (fun z => e0 z.1)] at w; exact w
theorem ht_11 {ci : Nat} {fs : List Value} {b : Nat} (ok : z_ok C) (e : eR C σ x0 ch kk kc) (h : σ.2 a = some (cO ci fs)) (hc : ci ∈ [11, 15]) (h0 : fs[0]? = some (.ref ch)) (h1 : fs[1]? = some (.int (nI i))) (h6 : fs[6]? = some (.ref x0)) (h7 : fs[7]? = some (.ref x0)) (h10 : fs[10]? = some (.ref x0)) (h4 : fs[4]? = some (.int (nI t))) (ht : t < C.1 0) (hi : i < C.1 34) (hb : b < C.1 0) (hs : ∀ P : Int32 → Prop, P (nI b) → vX11_second σ P a) (w : Q (nI (if (C.2 1 t = 0 ∧ C.2 1 (C.2 15 i) = 0) ∧ C.2 1 b = 0 then 0 else 1))) : wX11_touchesFence Q σ a := by
  obtain ⟨gs, g1, g2, g3, -⟩ := e.1
  have b2 := ht_fb e hb
  refine ⟨ci, fs, hc, h, ht_10 ok e h (by simp only [List.mem_cons, List.not_mem_nil, or_false] at hc ⊢; omega) h0 h1 h6 h7 h4 ht hi ?_⟩
  by_cases e0 : C.2 1 t = 0 ∧ C.2 1 (C.2 15 i) = 0
  · rw [if_pos e0]
    refine br_p rfl (i_R h hc h10 ⟨_, rfl, i_R g1 (by decide) g3 (hs _ ⟨_, rfl, ht_f1 ok e hb rfl ?_⟩)⟩)
    refine pk_eq (C.2 1 b) 0 (fun e1 => ?_) (fun e1 => ?_) rfl nI_0.symm (by omega) (by decide)
    · rw [if_pos ⟨e0, e1⟩] at w; exact w
    · rw [if_neg (fun z => e1 z.2)] at w; exact w
  · rw [if_neg e0]
    refine br_n (by decide) ?_
    rw [if_neg (fun z => e0 z.1)] at w; exact w
/-- a run -/
theorem ht_13 (ok : z_ok C) (e : eR C σ x0 ch kk kc) (h : σ.2 a = some (sC 7 ch x0 i f q t fm nu)) (et : t = C.2 15 i) (h1 : 1 ≤ nu) (hn : i + nu ≤ C.1 34) (w0 : (∀ d, d < nu → C.2 1 (C.2 15 (i + d)) = 0) → Q 0) (w1 : (∃ d, d < nu ∧ C.2 1 (C.2 15 (i + d)) ≠ 0) → Q 1) : wX13_touchesFence Q σ a := by
  have o := ok.1
  have bt : ∀ d, d < nu → C.2 15 (i + d) < C.1 0 := fun d hd => ok.2.2.2.1 (i + d) (by omega)
  have bt0 := bt 0 (by omega)
  rw [Nat.add_zero] at bt0
  obtain ⟨gs, g1, g2, g3, -⟩ := e.1
  have fb := fun d (hd : d < nu) => ht_fb e (bt d hd)
  refine ⟨_, _, by decide, h, ht_9 (t := t) ok e h (by decide) rfl rfl (by rw [et]; exact bt0) ?_⟩
  refine pk_loop (σ := Int32) (fun n d x => wX13_touchesFence_7 Q σ _ n a x (nI d)) (fun d x => 1 ≤ d ∧ ((x = 0 ∧ ∀ d', d' < d → C.2 1 (C.2 15 (i + d')) = 0) ∨ (x = 1 ∧ ∃ d', d' < d ∧ C.2 1 (C.2 15 (i + d')) ≠ 0))) nu 1 _ h1 ⟨Nat.le_refl _, ?_⟩ ?_ ?_
  · have f0 := fb 0 (by omega)
    rw [Nat.add_zero] at f0
    rw [et]
    by_cases e0 : C.2 1 (C.2 15 i) = 0
    · refine Or.inl ⟨by rw [e0]; rfl, fun d' hd' => ?_⟩
      have : d' = 0 := by omega
      subst this
      rw [Nat.add_zero]; exact e0
    · exact Or.inr ⟨by rw [show C.2 1 (C.2 15 i) = 1 by omega]; rfl, 0, by omega, by rw [Nat.add_zero]; exact e0⟩
  · rintro n x ⟨hd, hx⟩
    simp only [wX13_touchesFence_7]
    refine i_I h (by decide) rfl (br_p (nI_le (Nat.le_refl _) (by omega)) ?_)
    rcases hx with ⟨rfl, hx⟩ | ⟨rfl, hx⟩
    · exact ⟨Or.inl rfl, w0 hx⟩
    · exact ⟨Or.inr rfl, w1 hx⟩
  · rintro n d x hd ⟨hd1, hx⟩ hs
    simp only [wX13_touchesFence_7]
    obtain ⟨cs, c1, c2, -⟩ := e.2.2.2.1
    obtain ⟨fx, x1, x2⟩ := e.2.2.2.2
    refine i_I h (by decide) rfl (br_n (nI_ge hd (by omega)) (i_R h (by decide) rfl ⟨_, rfl, i_R g1 (by decide) g3 (i_R h (by decide) rfl ⟨_, rfl, i_R c1 (by decide) c2 (i_I h (by decide) rfl ⟨_, rfl, i_aI x1 (nI_add i d) (by omega) (by omega) ⟨_, rfl, ht_f1 ok e (bt d hd) (x2 (i + d) (by omega)) ?_⟩⟩)⟩)⟩))
    have fd := fb d hd
    rcases hx with ⟨rfl, hx⟩ | ⟨rfl, hx⟩
    · rw [← nI_0, or_bit 0 _ (by decide) fd, nI_1]
      refine al_eq (al_eq (hs _ ⟨by omega, ?_⟩))
      by_cases e0 : C.2 1 (C.2 15 (i + d)) = 0
      · refine Or.inl ⟨by rw [if_pos ⟨rfl, e0⟩]; rfl, fun d' hd' => ?_⟩
        by_cases e9 : d' = d
        · subst e9; exact e0
        · exact hx d' (by omega)
      · exact Or.inr ⟨by rw [if_neg (fun z => e0 z.2)]; rfl, d, by omega, e0⟩
    · rw [show (1 : Int32) = nI 1 from rfl, or_bit 1 _ (by decide) fd, nI_add]
      refine al_eq (al_eq (hs _ ⟨by omega, Or.inr ⟨by rw [if_neg (fun z => absurd z.1 (by decide))]; rfl, ?_⟩⟩))
      obtain ⟨d', a1, a2⟩ := hx
      exact ⟨d', by omega, a2⟩
end TOUCH
