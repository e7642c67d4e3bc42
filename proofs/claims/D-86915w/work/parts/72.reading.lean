/-! PLAIN LAW, the component: the table of reads -/
set_option maxRecDepth 100000
def cuX (X : Nat → Nat → Nat → Int64) (i p q : Nat) (v : Int64) : Nat → Nat → Nat → Int64 := fun i' p' => if i' = i ∧ p' = p then vp_updL (X i p) q v else X i' p'
theorem nI_nle2 {a b : Nat} (h : b < a) (ha : a < 2147483648) : ¬ nI a ≤ nI b := by
  have := nI_lt h ha
  intro e
  exact absurd this (Int32.not_lt.mpr e)
theorem cuX_s (X : Nat → Nat → Nat → Int64) (i p q : Nat) (v : Int64) : cuX X i p q v i p q = v := by
  unfold cuX; rw [if_pos ⟨rfl, rfl⟩, updL_s]
theorem cuX_n (X : Nat → Nat → Nat → Int64) {i p q i' p' q' : Nat} (v : Int64) (h : ¬ (i' = i ∧ p' = p ∧ q' = q)) : cuX X i p q v i' p' q' = X i' p' q' := by
  unfold cuX
  by_cases e : i' = i ∧ p' = p
  · rw [if_pos e, updL_n _ _ (fun z => h ⟨e.1, e.2, z⟩), e.1, e.2]
  · rw [if_neg e]
/-- where a place of a cube lies -/
def rcAt (ow : Nat → Nat) (σ : gH) (a n1 tag : Nat) (X : Nat → Nat → Nat → Int64) (i p : Nat) (f : Nat → Option Nat) (c : Nat) (g : Nat → Option Nat) (d : Nat) : Prop := σ.2 a = some (cQ 5 n1 f) ∧ f i = some c ∧ σ.2 c = some (cQ 4 55 g) ∧ g p = some d ∧ hat ow σ d (tag + 55 * i + p) (cJ 55 (X i p))
theorem r_cube.at {ow : Nat → Nat} {σ : gH} {a n1 tag : Nat} {X : Nat → Nat → Nat → Int64} (h : r_cube ow σ a n1 tag X) {i p : Nat} (hi : i < n1) (hp : p < 55) : ∃ f c g d, rcAt ow σ a n1 tag X i p f c g d := by
  obtain ⟨f, h1, h2⟩ := h
  obtain ⟨c, g, h3, h4, h5⟩ := h2 i hi
  obtain ⟨d, h6, h7⟩ := h5 p hp
  exact ⟨f, c, g, d, h1.1, h3, h4.1, h6, h7⟩
theorem r_cube.put {ow : Nat → Nat} {σ : gH} {a n1 tag : Nat} {X : Nat → Nat → Nat → Int64} (h : r_cube ow σ a n1 tag X) {i p c d : Nat} {f g : Nat → Option Nat} (q : Nat) (v : Int64) (hi : i < n1) (hp : p < 55) (ht : 0 < tag) (e : rcAt ow σ a n1 tag X i p f c g d) : hmv (List.range' tag (55 * n1)) ow σ ow (g_up σ d (cJ 55 (vp_updL (X i p) q v))) ∧ r_cube ow (g_up σ d (cJ 55 (vp_updL (X i p) q v))) a n1 tag (cuX X i p q v) := by
  obtain ⟨f', h1, h2⟩ := h
  obtain ⟨e1, e2, e3, e4, e5⟩ := e
  have ef : f' = f := by
    have := h1.1.symm.trans e1
    simp at this
    exact this
  subst ef
  refine ⟨hmv.rf.up e5 (by rw [List.mem_range'_1]; omega) rfl, f', h1.up e5 (by omega), fun i' hi' => ?_⟩
  obtain ⟨c', g', h3, h4, h5⟩ := h2 i' hi'
  refine ⟨c', g', h3, h4.up e5 (by omega), fun p' hp' => ?_⟩
  obtain ⟨d', h6, h7⟩ := h5 p' hp'
  refine ⟨d', h6, ?_⟩
  by_cases z : i' = i ∧ p' = p
  · obtain ⟨rfl, rfl⟩ := z
    have ec : c' = c := by rw [h3] at e2; cases e2; rfl
    subst ec
    have eg : g' = g := by
      have := h4.1.symm.trans e3
      simp at this
      exact this
    subst eg
    have ed : d' = d := by rw [h6] at e4; cases e4; rfl
    subst ed
    rw [show cuX X i' p' q v i' p' = vp_updL (X i' p') q v by unfold cuX; rw [if_pos ⟨rfl, rfl⟩]]
    exact e5.set
  · rw [show cuX X i p q v i' p' = X i' p' by unfold cuX; rw [if_neg z]]
    exact h7.up e5 (by omega)
abbrev TRd : List Nat := List.range' 1000 (55 * 12)
theorem memRd {t : Nat} : t ∈ TRd ↔ 1000 ≤ t ∧ t < 1660 := by rw [List.mem_range'_1]
section READ
variable {C : Cf} {ow : Nat → Nat} {σ : gH} {x0 : Nat} {kk kc : Nat → Nat}
theorem kK_inj (ok : z_ok C) {p q : Nat} (hp : p < nK C) (hq : q < nK C) (h : kK C p = kK C q) : p = q := by
  rcases Nat.lt_trichotomy p q with z | z | z
  · have := (kK_kn ok).1 p q z hq; omega
  · exact z
  · have := (kK_kn ok).1 q p z hp; omega
theorem kK_lt (ok : z_ok C) {p q : Nat} (hp : p < nK C) (hq : q < nK C) : kK C p < kK C q ↔ p < q := by
  constructor
  · intro h
    rcases Nat.lt_trichotomy p q with z | z | z
    · exact z
    · subst z; omega
    · have := (kK_kn ok).1 q p z hp; omega
  · intro z; exact (kK_kn ok).1 p q z hq
theorem nI_ne4 {x : Nat} (h : x < 2147483648) : ¬ nI x = -4 := by
  intro e
  have := nI_pos h
  rw [e] at this
  exact this (by decide)
theorem c_upTo {Q : Int64 → Prop} {p k i f q t fm nu a : Nat} (ok : z_ok C) (hM : cM C ow σ x0 kk kc) (hMo : cMo C ow σ kc) (hS : cSg C ow σ kc (fun i j => i ≤ j ∧ j ≤ C.1 34)) (hp : p < nK C) (hf : f < nK C) (ha : σ.2 a = some (sC k (kc 0) x0 i f q t fm nu)) (w : Q (lN (zc (z_up C (kK C p) (kK C f))))) : wX7_upTo Q σ (kc 0) (nI p) (some a) := by
  have o := ok.1
  have nk := nK_le ok
  have bp := kK_bd ok hp
  have bf := kK_bd ok hf
  obtain ⟨fm, m1, m2⟩ := hMo
  have bad : z_up C (kK C p) (kK C f) = 1000000000 → wX7_upTo_67 Q σ := by
    intro e
    rw [e, zc_I] at w
    unfold wX7_upTo_67
    rw [lF]
    exact w
  refine ⟨a, rfl, hv_fr ha ?_⟩
  refine pk_eq p f (fun e => ?_) (fun e => ?_) rfl rfl (by omega) (by omega)
  · subst e
    rw [show z_up C (kK C p) (kK C p) = 0 by unfold z_up; rw [if_pos rfl], zc_0] at w
    rw [l0]; exact w
  have ne : kK C p ≠ kK C f := fun z => e (kK_inj ok hp hf z)
  unfold z_up at w bad
  rw [if_neg ne] at w bad
  refine i_R hM.2.1.1 (by decide) rfl ⟨_, rfl, i_aI m1.1 rfl (by omega) (by decide) ?_⟩
  rw [m2 p hp]
  by_cases e1 : kK C p % 5 = 0
  · rw [if_pos e1]
    refine br_n (nI_ne4 (by omega)) (i_R hM.2.1.1 (by decide) rfl (hv_fr ha ⟨_, rfl, i_aI m1.1 rfl (by omega) (by decide) ?_⟩))
    rw [m2 f hf]
    by_cases e2 : kK C f % 5 = 0
    · rw [if_pos e2]
      refine br_n (nI_ne4 (by omega)) (hv_fr ha ?_)
      refine pk_le f p (fun e3 => ?_) (fun e3 => ?_) rfl rfl (by omega) (by omega)
      · exact bad (if_neg (fun z => by have := (kK_lt ok hp hf).mp z.2.2; omega))
      · have hlt := (kK_lt ok hp hf).mpr (by omega)
        rw [if_pos ⟨e1, e2, hlt⟩] at w
        obtain ⟨s8, k1, k2⟩ := hS
        obtain ⟨b, g, c1, c2, c3⟩ := k2 (kK C p / 5) (by omega)
        refine i_R hM.2.1.1 (by decide) rfl (i_R hM.2.1.1 (by decide) rfl ⟨_, rfl, i_aI m1.1 rfl (by omega) (by decide) ?_⟩)
        rw [m2 p hp, if_pos e1]
        refine ⟨_, rfl, i_aR k1.1 rfl (by omega) (by decide) (i_R hM.2.1.1 (by decide) rfl (hv_fr ha ⟨_, rfl, i_aI m1.1 rfl (by omega) (by decide) ?_⟩))⟩
        rw [m2 f hf, if_pos e2]
        refine ⟨b, c1, i_aJ c2.1 rfl (by omega) (by decide) ?_⟩
        rw [c3 _ ⟨by omega, by omega⟩]
        exact w
    · rw [if_neg e2]
      exact br_p rfl (bad (if_neg (fun z => e2 z.2.1)))
  · rw [if_neg e1]
    exact br_p rfl (bad (if_neg (fun z => e1 z.1)))
/-- a step's price, by what lies in the world -/
theorem st_price {k i fl tl t pr fo nu : Nat} (h : z_st C k i fl tl t pr fo) (hn : k = 4 ∨ k = 5 → nu = fo) : pr = if k = 1 ∧ i = C.1 34 ∧ 1 < C.1 33 then (if C.1 33 = 2 then 1 else 0) else sPr C k i t nu := by
  rcases h with h | h | h | h | h | h | h | h
  · obtain ⟨rfl, h2, h3, h4, h5, h6, h7, h8⟩ := h
    rw [← h7] at h8 ⊢
    unfold z_lp at h8 ⊢
    by_cases e : i = C.1 34 ∧ 1 < C.1 33
    · rw [if_pos e, if_pos (⟨rfl, e⟩ : 1 = 1 ∧ i = C.1 34 ∧ 1 < C.1 33)]
    · rw [if_neg e] at h8 ⊢
      rw [if_neg (fun z : 1 = 1 ∧ i = C.1 34 ∧ 1 < C.1 33 => e z.2)]
      by_cases e3 : (!z_pl C && !z_fen C t && (z_rg C i i && !z_out C 1 i t)) = true
      · rw [if_pos e3]; rfl
      · rw [if_neg e3] at h8; exact absurd rfl h8
  · obtain ⟨rfl, -, -, -, -, -, h⟩ := h
    rw [if_neg (by omega)]; exact h
  · obtain ⟨rfl, -, -, -, -, -, -, -, -, h⟩ := h
    rw [if_neg (by omega)]; exact h
  · obtain ⟨rfl, -, -, -, -, -, -, -, -, -, h⟩ := h
    rw [if_neg (by omega), hn (Or.inl rfl)]; exact h
  · obtain ⟨rfl, -, -, -, -, h⟩ := h
    rw [if_neg (by omega)]; exact h
  · obtain ⟨rfl, -, -, -, -, -, -, -, h⟩ := h
    rw [if_neg (by omega)]; exact h
  · obtain ⟨rfl, -, -, -, -, -, -, h⟩ := h
    rw [if_neg (by omega)]; exact h
  · obtain ⟨rfl, -, -, -, -, -, -, -, -, -, h⟩ := h
    rw [if_neg (by omega), hn (Or.inr rfl)]; exact h
theorem sC_inj {ch x0 k i f q t fm nu k' i' f' q' t' fm' nu' : Nat} (hk : k ≤ 5) (hk' : k' ≤ 5) (h : sC k ch x0 i f q t fm nu = sC k' ch x0 i' f' q' t' fm' nu') : k = k' ∧ nI i = nI i' ∧ nI f = nI f' ∧ nI q = nI q' ∧ nI t = nI t' ∧ (k = 4 ∨ k = 5 → nI nu = nI nu') := by
  have e : k = 0 ∨ k = 1 ∨ k = 2 ∨ k = 3 ∨ k = 4 ∨ k = 5 := by omega
  have e' : k' = 0 ∨ k' = 1 ∨ k' = 2 ∨ k' = 3 ∨ k' = 4 ∨ k' = 5 := by omega
  rcases e with rfl | rfl | rfl | rfl | rfl | rfl <;> rcases e' with rfl | rfl | rfl | rfl | rfl | rfl <;> simp only [sC, cO, Sum.inr.injEq, Prod.mk.injEq, List.cons.injEq, Value.int.injEq, Value.ref.injEq, and_true, true_and] at h <;> first | (exfalso; revert h; simp; done) | (refine ⟨rfl, h.1, h.2.1, h.2.2.1, ?_⟩; simp_all)
theorem sP.det (ok : z_ok C) {a k i f q t pr fo k' i' f' q' t' pr' fo' : Nat} (h : sP C ow σ kc x0 a k i f q t pr fo) (h' : sP C ow σ kc x0 a k' i' f' q' t' pr' fo') : f = f' ∧ q = q' ∧ t = t' ∧ pr = pr' := by
  obtain ⟨fm, nu, h1, h2, h3, h4, h5, h6, h7⟩ := h
  obtain ⟨fm', nu', g1, g2, g3, g4, g5, g6, g7⟩ := h'
  have o := ok.1
  have nk := nK_le ok
  have b := z_st_pl ok h5
  have b' := z_st_pl ok g5
  have e := h1.1.symm.trans g1.1
  obtain ⟨e1, e2, e3, e4, e5, e6⟩ := sC_inj h4 g4 (Option.some.inj e)
  have x2 := nI_inj (by omega) (by omega) e2
  have x3 := nI_inj (by omega) (by omega) e3
  have x4 := nI_inj (by omega) (by omega) e4
  have x5 := nI_inj (by omega) (by omega) e5
  subst e1 x2 x3 x4 x5
  refine ⟨rfl, rfl, rfl, ?_⟩
  have nf : k = 4 ∨ k = 5 → nu = fo := fun z => by
    rcases z with z | z
    · exact (h6 z).1
    · exact (h7 z).1
  have nf' : k = 4 ∨ k = 5 → nu' = fo' := fun z => by
    rcases z with z | z
    · exact (g6 z).1
    · exact (g7 z).1
  rw [st_price h5 nf, st_price g5 nf']
  by_cases z : k = 4 ∨ k = 5
  · have y := e6 z
    have a1 := nf z
    have a2 := nf' z
    have := nI_inj (by omega) (by omega) y
    rw [this]
  · have : sPr C k i t nu = sPr C k i t nu' := by
      have e : k = 0 ∨ k = 1 ∨ k = 2 ∨ k = 3 := by omega
      rcases e with rfl | rfl | rfl | rfl <;> rfl
    rw [this]
def iF (C : Cf) (ow : Nat → Nat) (σ : gH) (kk : Nat → Nat) (D : Nat → Nat → Nat → Prop) (σ' : gH) : Prop := ∃ X, hmv TRd ow σ ow σ' ∧ r_cube ow σ' (kk 13) 12 1000 X ∧ ∀ t p q, D t p q → X t p q = lN 1152921504606846976
theorem iF.sub {D D' : Nat → Nat → Nat → Prop} {σ' : gH} (h : iF C ow σ kk D σ') (hd : ∀ t p q, D' t p q → D t p q) : iF C ow σ kk D' σ' := by
  obtain ⟨X, a, b, c⟩ := h
  exact ⟨X, a, b, fun t p q z => c t p q (hd t p q z)⟩
def iV (C : Cf) (ow : Nat → Nat) (σ : gH) (x0 : Nat) (kk kc xs : Nat → Nat) (B : Nat → Nat → Prop) (σ' : gH) : Prop := ∃ (X : Nat → Nat → Nat → Int64) (v : Nat → Nat → Nat → Nat), hmv TRd ow σ ow σ' ∧ r_cube ow σ' (kk 13) 12 1000 X ∧ (∀ t p q, t < C.1 0 → p < nK C → q < nK C → X t p q = lN (v t p q) ∧ v t p q ≤ 1152921504606846976 ∧ (v t p q = 1152921504606846976 ∨ z_tk C t (kK C p) (kK C q) (v t p q))) ∧ ∀ j p, B j p → ∀ k i f q t pr fo, sP C ow σ kc x0 (xs j) k i f q t pr fo → p < nK C → z_up C (kK C p) (kK C f) ≠ 1000000000 → v t p q ≤ z_up C (kK C p) (kK C f) + pr
def cRd (C : Cf) (X : Nat → Nat → Nat → Int64) : Prop := ∀ t p q, t < C.1 0 → p < nK C → q < nK C → X t p q = lN (zc (z_R C t (kK C p) (kK C q)))
theorem zc_ne {v : Nat} (h : v ≠ 1000000000) : zc v = v := by unfold zc; rw [if_neg h]
theorem iV.fin (ok : z_ok C) {σ' : gH} {xs : Nat → Nat} {ns : Nat} (hd : ∀ i, i ≤ C.1 34 → dLo C ow σ kc x0 ns xs i) (h : iV C ow σ x0 kk kc xs (fun j _ => j < ns) σ') : ∃ X, hmv TRd ow σ ow σ' ∧ r_cube ow σ' (kk 13) 12 1000 X ∧ cRd C X := by
  obtain ⟨X, v, h1, h2, h3, h4⟩ := h
  refine ⟨X, h1, h2, fun t p q ht hp hq => ?_⟩
  obtain ⟨a1, a2, a3⟩ := h3 t p q ht hp hq
  rw [a1]
  congr 1
  by_cases e : z_R C t (kK C p) (kK C q) = 1000000000
  · rw [e, zc_I]
    rcases a3 with z | z
    · exact z
    · have y := z_R_le z
      have := (z_tk_bd ok z).2.2.1
      omega
  · rw [zc_ne e]
    obtain ⟨k, i, fl, pr, fo, g1, g2, g3⟩ := z_R_at e
    have b := z_st_pl ok g1
    obtain ⟨f, hf, ef⟩ : ∃ f, f < nK C ∧ kK C f = fl := by
      rcases z_up_main g2 with z | z
      · exact ⟨p, hp, z⟩
      · obtain ⟨f, hf, e⟩ := kK_main (C := C) (i := fl / 5) (by omega)
        exact ⟨f, hf, by omega⟩
    subst ef
    obtain ⟨j, hj, hs⟩ := hd i b.1 k f q t pr fo hf hq g1
    have up := h4 j p hj k i f q t pr fo hs hp g2
    have rb := z_R_bd ok (t := t) (p := kK C p) (q := kK C q)
    rcases a3 with z | z
    · omega
    · have := z_R_le z
      omega
theorem c_r95 {Q : gH → Prop} {K : Nat → Int32 → gH → Prop} {N ns j : Nat} {xs : Nat → Nat} {σ1 : gH} (ok : z_ok C) (hM : cM C ow σ x0 kk kc) (hMo : cMo C ow σ kc) (hL : cL C ow σ kc x0 N ns xs) (hS : cSg C ow σ kc (fun i j => i ≤ j ∧ j ≤ C.1 34)) (hj : j < ns) (h1 : iV C ow σ x0 kk kc xs (fun j' _ => j' < j) σ1) (w : ∀ σ', iV C ow σ x0 kk kc xs (fun j' _ => j' < j + 1) σ' → K (kc 0) (nI j) σ') : ∃ fu, wX7_reading_95 Q K fu (kc 0) (nI j) (some (xs j)) 0 σ1 := by
  have o := ok.1
  have nk := nK_le ok
  have T2 : ∀ t ∈ TRd, 202 < t := by intro t ht; rw [memRd] at ht; omega
  have T0 : 0 ∉ TRd := by rw [memRd]; omega
  obtain ⟨k, i, f, q, t, pr, fo, hsp⟩ := hL.2.2 j hj
  have hsp0 := hsp
  obtain ⟨fm, nu, p1, p2, p3, p4, p5, p6, p7⟩ := hsp
  have b := z_st_pl ok p5
  have nf : k = 4 ∨ k = 5 → nu = fo := fun z => by
    rcases z with z | z
    · exact (p6 z).1
    · exact (p7 z).1
  have hi2 : k = 2 → i < C.1 34 := fun z => by
    subst z
    rcases p5 with h | h | h | h | h | h | h | h <;> omega
  refine pk_loop (σ := gH) (fun n p σ' => wX7_reading_95 Q K n (kc 0) (nI j) (some (xs j)) (nI p) σ') (fun p σ' => iV C ow σ x0 kk kc xs (fun j' p' => j' < j ∨ (j' = j ∧ p' < p)) σ') (f + 1) 0 σ1 (by omega) (by
    obtain ⟨X, v, a1, a2, a3, a4⟩ := h1
    exact ⟨X, v, a1, a2, a3, fun j' p' hb => a4 j' p' (by omega)⟩) ?_ ?_
  · rintro n σ2 ⟨X, v, a1, a2, a3, a4⟩
    simp only [wX7_reading_95]
    refine ⟨_, rfl, hv_fr (p1.mv a1 T0).1 (br_p (nI_lt (by omega) (by omega)) (w σ2 ⟨X, v, a1, a2, a3, fun j' p' hb k' i' f' q' t' pr' fo' s' hp' hu => ?_⟩))⟩
    rcases Nat.lt_or_ge j' j with z | z
    · exact a4 j' p' (Or.inl z) k' i' f' q' t' pr' fo' s' hp' hu
    · obtain rfl : j' = j := by omega
      obtain ⟨rfl, rfl, rfl, rfl⟩ := hsp0.det ok s'
      rcases Nat.lt_or_ge p' (f + 1) with y | y
      · exact a4 j' p' (Or.inr ⟨rfl, y⟩) k' i' f q t pr fo' s' hp' hu
      · have := (kK_lt ok p2 hp').mpr (by omega)
        rcases z_up_main hu with x | x <;> omega
  · rintro n p σ2 hp ⟨X, v, a1, a2, a3, a4⟩ hs2
    have hM2 := hM.mv a1 (fun t ht => Nat.le_of_lt (T2 t ht))
    have hMo2 := hMo.mv a1 (by rw [memRd]; omega)
    have hS2 := hS.mv a1 T0 (by intro t ht; rw [memRd] at ht; omega)
    have s2 := p1.mv a1 T0
    have e2 := hM2.1.raw hM2.2.1.1
    obtain ⟨f1, c, g, d, hat1⟩ := a2.at (i := t) (p := p) (by omega) (by omega)
    obtain ⟨x1, x2, x3, x4, x5⟩ := id hat1
    obtain ⟨v1, v2, v3⟩ := a3 t p q b.2.2.2.2.2.2.2.1 (by omega) p3
    have ub := z_up_bd ok (p := kK C p) (fl := kK C f) (kK_bd ok p2)
    have zb : zc (z_up C (kK C p) (kK C f)) ≤ 1152921504606846976 := by
      unfold zc
      by_cases z : z_up C (kK C p) (kK C f) = 1000000000
      · rw [if_pos z]; omega
      · rw [if_neg z]; omega
    simp only [wX7_reading_95]
    refine ⟨_, rfl, hv_fr s2.1 (br_n (nI_nlt (by omega) (by omega)) ⟨_, hM2.2.1.1, c_upTo ok hM2 hMo2 hS2 (by omega) p2 s2.1 (i_R hM2.2.1.1 (by decide) rfl (i_I hM2.2.1.1 (by decide) rfl (hp_of ok e2 hM2.1.2.2.2.2.2.2.raw (by omega) s2.1 (by omega) b.1 hi2 ⟨fun z => ?_, fun z => ?_⟩ ?_)))⟩)⟩
    · rw [(p6 z).1]; exact ((p6 z).2.mv a1 T0).1
    · rw [(p7 z).1]; exact ((p7 z).2.mv a1 T0).1
    rw [← st_price p5 nf, nI_l (by omega), lN_add]
    refine al_eq (i_R hM2.2.1.1 (by decide) rfl (hv_tk s2.1 ⟨_, rfl, i_aR x1 rfl (by omega) (by decide) ⟨c, x2, i_aR x3 rfl (by omega) (by decide) (hv_to s2.1 (i_R hM2.2.1.1 (by decide) rfl (hv_tk s2.1 ⟨_, rfl, i_aR x1 rfl (by omega) (by decide) ⟨c, x2, i_aR x3 rfl (by omega) (by decide) (hv_to s2.1 ⟨d, x4, i_aJ x5.1 rfl (by omega) (by decide) ?_⟩)⟩⟩)))⟩⟩))
    rw [v1, x4]
    have fin : ∀ u, u = min (v t p q) (zc (z_up C (kK C p) (kK C f)) + pr) → c_sJ σ2 d (nI q) (lN u) (fun σ_42 => ∀ x3_43 : Int32, x3_43 = nI p + 1 → (wX7_reading_95 Q K n (kc 0) (nI j) (some (xs j)) x3_43 σ_42)) := by
      intro u hu
      refine i_sJ x5.1 rfl (by omega) (by decide) ?_
      obtain ⟨y1, y2⟩ := a2.put q (lN u) (by omega) (by omega) (by decide) hat1
      rw [nI_1]
      refine al_eq (hs2 _ ⟨_, fun t' p' q' => if t' = t ∧ p' = p ∧ q' = q then u else v t' p' q', a1.tr y1, y2, fun t' p' q' ht' hp' hq' => ?_, fun j' p' hb k' i' f' q' t' pr' fo' s' hp' hup => ?_⟩)
      · show cuX X t p q (lN u) t' p' q' = lN (if t' = t ∧ p' = p ∧ q' = q then u else v t' p' q') ∧ (if t' = t ∧ p' = p ∧ q' = q then u else v t' p' q') ≤ 1152921504606846976 ∧ ((if t' = t ∧ p' = p ∧ q' = q then u else v t' p' q') = 1152921504606846976 ∨ z_tk C t' (kK C p') (kK C q') (if t' = t ∧ p' = p ∧ q' = q then u else v t' p' q'))
        obtain ⟨w1, w2, w3⟩ := a3 t' p' q' ht' hp' hq'
        by_cases z : t' = t ∧ p' = p ∧ q' = q
        · obtain ⟨rfl, rfl, rfl⟩ := z
          rw [if_pos (⟨rfl, rfl, rfl⟩ : t' = t' ∧ p' = p' ∧ q' = q'), cuX_s]
          refine ⟨rfl, by omega, ?_⟩
          rcases Nat.lt_or_ge (zc (z_up C (kK C p') (kK C f)) + pr) (v t' p' q') with y | y
          · have ne : z_up C (kK C p') (kK C f) ≠ 1000000000 := by
              intro z
              rw [z, zc_I] at y
              omega
            rw [zc_ne ne] at y hu
            refine Or.inr ⟨k, i, kK C f, pr, fo, p5, ne, by omega⟩
          · rw [show u = v t' p' q' by omega]
            exact w3
        · rw [if_neg z, cuX_n _ _ z]
          exact ⟨w1, w2, w3⟩
      · show (if t' = t ∧ p' = p ∧ q' = q then u else v t' p' q') ≤ _
        have le : (if t' = t ∧ p' = p ∧ q' = q then u else v t' p' q') ≤ v t' p' q' := by
          by_cases z : t' = t ∧ p' = p ∧ q' = q
          · rw [if_pos z, z.1, z.2.1, z.2.2]; omega
          · rw [if_neg z]; omega
        rcases hb with z | ⟨z, z2⟩
        · exact Nat.le_trans le (a4 j' p' (Or.inl z) k' i' f' q' t' pr' fo' s' hp' hup)
        · rcases Nat.lt_or_ge p' p with y | y
          · exact Nat.le_trans le (a4 j' p' (Or.inr ⟨z, y⟩) k' i' f' q' t' pr' fo' s' hp' hup)
          · obtain rfl : p' = p := by omega
            subst z
            obtain ⟨rfl, rfl, rfl, rfl⟩ := hsp0.det ok s'
            rw [if_pos (⟨rfl, rfl, rfl⟩ : t = t ∧ p' = p' ∧ q = q)]
            rw [zc_ne hup] at hu
            omega
    unfold wJ4_min_2
    rw [pk_lLT (by omega) (by omega)]
    exact ⟨fun z => ⟨d, rfl, fin _ (by omega)⟩, fun z => ⟨d, rfl, fin _ (by omega)⟩⟩
theorem c_reading {Q : gH → Prop} {N ns : Nat} {xs : Nat → Nat} {X : Nat → Nat → Nat → Int64} (ok : z_ok C) (hM : cM C ow σ x0 kk kc) (hMo : cMo C ow σ kc) (hL : cL C ow σ kc x0 N ns xs) (hns : ns ≤ 420) (hd : ∀ i, i ≤ C.1 34 → dLo C ow σ kc x0 ns xs i) (hS : cSg C ow σ kc (fun i j => i ≤ j ∧ j ≤ C.1 34)) (hX : r_cube ow σ (kk 13) 12 1000 X) (w : ∀ σ' X', hmv TRd ow σ ow σ' → r_cube ow σ' (kk 13) 12 1000 X' → cRd C X' → Q σ') : wX7_reading Q (kc 0) σ := by
  have o := ok.1
  have nk := nK_le ok
  have T2 : ∀ t ∈ TRd, 202 ≤ t := by intro t ht; rw [memRd] at ht; omega
  have T0 : 0 ∉ TRd := by rw [memRd]; omega
  unfold wX7_reading
  refine pk_loop (σ := gH) (fun n t σ' => wX7_reading_2 Q _ n (kc 0) (nI t) σ') (fun t σ' => iF C ow σ kk (fun t' p' q' => t' < t ∧ p' < nK C ∧ q' < nK C) σ') (C.1 0) 0 σ (by omega) ⟨X, hmv.rf, hX, fun t p q h => by omega⟩ ?_ ?_
  · rintro n σ1 ⟨X1, m1, hX1, hv1⟩
    have hM1 := hM.mv m1 T2
    obtain ⟨fs, hf, hof⟩ := hM1.1.2.1
    simp only [wX7_reading_2]
    refine i_R hM1.2.1.1 (by decide) rfl ⟨_, rfl, i_I hf.1 (by decide) hof.1.1 (br_p (nI_le (by omega) (by omega)) ?_)⟩
    refine pk_loop (σ := gH) (fun n j σ' => wX7_reading_66 Q _ n (kc 0) (nI j) σ') (fun j σ' => iV C ow σ x0 kk kc xs (fun j' _ => j' < j) σ') ns 0 σ1 (by omega) ⟨X1, fun _ _ _ => 1152921504606846976, m1, hX1, fun t p q ht hp hq => ⟨hv1 t p q ⟨ht, hp, hq⟩, Nat.le_refl _, Or.inl rfl⟩, fun j' p' hb => by omega⟩ ?_ ?_
    · rintro n σ2 h2
      obtain ⟨X2, q1, q2, q3⟩ := h2.fin ok hd
      have hM2 := hM.mv q1 T2
      have hL2 := hL.mv q1 T0 (by rw [memRd]; omega) (by rw [memRd]; omega)
      simp only [wX7_reading_66]
      exact i_R hM2.2.1.1 (by decide) rfl ⟨_, rfl, ln_size hL2.1 (br_p (nI_le (by omega) (by omega)) (w σ2 X2 q1 q2 q3))⟩
    · rintro n j σ2 hj h2 hs2
      have h2' := h2
      obtain ⟨X2, v2, q1, q2, q3⟩ := h2
      have hM2 := hM.mv q1 T2
      have hL2 := hL.mv q1 T0 (by rw [memRd]; omega) (by rw [memRd]; omega)
      have NN := hL.2.1
      simp only [wX7_reading_66]
      refine i_R hM2.2.1.1 (by decide) rfl ⟨_, rfl, ln_size hL2.1 (br_n (nI_nle2 (by omega) (by omega)) (i_R hM2.2.1.1 (by decide) rfl ⟨_, rfl, ln_get hL2.1 rfl hj (by omega) ⟨fun a ha => ?_, ?_⟩⟩))⟩
      · cases ha
        obtain ⟨k, i, f, q, t, pr, fo, fm, nu, hs, -⟩ := hL2.2.2 j hj
        obtain ⟨ci, fs, e, hc, -⟩ := sC_at k (kc 0) x0 i f q t fm nu
        exact ⟨ci, fs, hc, by rw [hs.1, e]⟩
      · refine c_r95 ok hM hMo hL hS hj h2' (fun σ3 h3 => ?_)
        rw [nI_1]
        exact al_eq (hs2 σ3 h3)
  · rintro n t σ1 ht h1 hs1
    have h1' := h1
    obtain ⟨X1, m1, hX1, hv1⟩ := h1
    have hM1 := hM.mv m1 T2
    obtain ⟨fs, hf, hof⟩ := hM1.1.2.1
    simp only [wX7_reading_2]
    refine i_R hM1.2.1.1 (by decide) rfl ⟨_, rfl, i_I hf.1 (by decide) hof.1.1 (br_n (nI_nle2 (by omega) (by omega)) ?_)⟩
    refine pk_loop (σ := gH) (fun n p σ' => wX7_reading_15 Q _ n (kc 0) (nI t) (nI p) σ') (fun p σ' => iF C ow σ kk (fun t' p' q' => p' < nK C ∧ q' < nK C ∧ (t' < t ∨ (t' = t ∧ p' < p))) σ') (nK C) 0 σ1 (by omega) (h1'.sub (fun t p q h => by omega)) ?_ ?_
    · rintro n σ2 h2
      have h2' := h2
      obtain ⟨X2, m2, hX2, hv2⟩ := h2
      have hM2 := hM.mv m2 T2
      simp only [wX7_reading_15]
      refine i_I hM2.2.1.1 (by decide) rfl (br_p (nI_le (by omega) (by omega)) ?_)
      rw [nI_1]
      exact al_eq (hs1 σ2 (h2'.sub (fun t p q h => by omega)))
    · rintro n p σ2 hp h2 hs2
      have h2' := h2
      obtain ⟨X2, m2, hX2, hv2⟩ := h2
      have hM2 := hM.mv m2 T2
      simp only [wX7_reading_15]
      refine i_I hM2.2.1.1 (by decide) rfl (br_n (nI_nle2 (by omega) (by omega)) ?_)
      refine pk_loop (σ := gH) (fun n q σ' => wX7_reading_25 Q _ n (kc 0) (nI t) (nI p) (nI q) σ') (fun q σ' => iF C ow σ kk (fun t' p' q' => p' < nK C ∧ q' < nK C ∧ (t' < t ∨ (t' = t ∧ (p' < p ∨ (p' = p ∧ q' < q))))) σ') (nK C) 0 σ2 (by omega) (h2'.sub (fun t p q h => by omega)) ?_ ?_
      · rintro n σ3 h3
        have h3' := h3
        obtain ⟨X3, m3, hX3, hv3⟩ := h3
        have hM3 := hM.mv m3 T2
        simp only [wX7_reading_25]
        refine i_I hM3.2.1.1 (by decide) rfl (br_p (nI_le (by omega) (by omega)) ?_)
        rw [nI_1]
        exact al_eq (hs2 σ3 (h3'.sub (fun t p q h => by omega)))
      · rintro n q σ3 hq ⟨X3, m3, hX3, hv3⟩ hs3
        have hM3 := hM.mv m3 T2
        obtain ⟨f1, c, g, d, hat1⟩ := hX3.at (i := t) (p := p) (by omega) (by omega)
        obtain ⟨x1, x2, x3, x4, x5⟩ := id hat1
        simp only [wX7_reading_25]
        refine i_I hM3.2.1.1 (by decide) rfl (br_n (nI_nle2 (by omega) (by omega)) (i_R hM3.2.1.1 (by decide) rfl ⟨_, rfl, i_aR x1 rfl (by omega) (by decide) ⟨c, x2, i_aR x3 rfl (by omega) (by decide) ⟨d, x4, i_sJ x5.1 rfl (by omega) (by decide) ?_⟩⟩⟩))
        obtain ⟨y1, y2⟩ := hX3.put q 1152921504606846976 (by omega) (by omega) (by decide) hat1
        rw [nI_1]
        refine al_eq (hs3 _ ⟨_, m3.tr y1, y2, fun t' p' q' h => ?_⟩)
        by_cases z : t' = t ∧ p' = p ∧ q' = q
        · obtain ⟨rfl, rfl, rfl⟩ := z
          rw [cuX_s]; exact lF
        · rw [cuX_n _ _ z]
          exact hv3 t' p' q' (by omega)
end READ
