/-! PLAIN LAW, the component: single, pair -/
set_option maxRecDepth 100000
/-- a skip as it lies: none, or of this chart -/
def sKp (C : Cf) (ow : Nat → Nat) (σ : gH) (kc : Nat → Nat) (x0 i m : Nat) (r : Option Nat) : Prop := (r = none ∧ z_sp C i m = 1000000000) ∨ ∃ a f q, r = some a ∧ z_sp C i m ≠ 1000000000 ∧ hat ow σ a 0 (sC (if m = 1 then 6 else 7) (kc 0) x0 i f q (C.2 15 i) 0 m)
theorem sKp.mv {C : Cf} {T : List Nat} {ow ow' : Nat → Nat} {σ σ' : gH} {kc : Nat → Nat} {x0 i m : Nat} {r : Option Nat} (h : sKp C ow σ kc x0 i m r) (mm : hmv T ow σ ow' σ') (ht : 0 ∉ T) : sKp C ow' σ' kc x0 i m r := by
  rcases h with h | ⟨a, f, q, h1, h2, h3⟩
  · exact Or.inl h
  · exact Or.inr ⟨a, f, q, h1, h2, h3.mv mm ht⟩
theorem sp_ok {C : Cf} (ok : z_ok C) {i m : Nat} (hi : i < C.1 34) (hm : m ≤ 11) : z_sp C i m ≠ 1000000000 ↔ z_may C (if m = 1 then 6 else 7) i m (if m = 1 then 0 else m) = true := by
  unfold z_sp
  by_cases h : z_may C (if m = 1 then 6 else 7) i m (if m = 1 then 0 else m) = true
  · rw [if_pos h]
    refine ⟨fun _ => h, fun _ => ?_⟩
    by_cases e : m = 1
    · rw [if_pos e]
      have := ok.2.1 1 (C.2 15 i) (by decide) (ok.2.2.2.1 i hi)
      rw [show 12 * 1 + C.2 15 i = 12 + C.2 15 i by omega] at this
      omega
    · rw [if_neg e]
      have := ok.2.2.1
      omega
  · rw [if_neg h]
    exact ⟨fun z => absurd rfl z, fun z => absurd z h⟩
section CTOR2
variable {σ : gH} {Q : gH → Prop} {q ci a2 tx n j : Nat} {fs gs : List Value} {f : Nat → Int32} {v : Int32}
theorem ctor12 {x1 : Option Nat} {x3 x4 x5 : Int32} (c' : gCell) (hL : ci ∈ [12, 13]) (hl : 8 ≤ fs.length) (hch : ∀ c, (g_up σ q c).2 a2 = some (cO 7 gs)) (h0 : gs[0]? = some (.ref tx)) (htx : ∀ c, (g_up σ q c).2 tx = some (cI n f)) (hx : x3 = nI j) (hj : j < n) (hn : n < 2147483648) (hf : f j = v) (hc : cO ci ((((((((fs.set 7 (va_rf x1)).set 6 (va_rf x1)).set 5 (va_rf x1)).set 0 (.ref a2)).set 1 (.int x3)).set 2 (.int x4)).set 3 (.int x5)).set 4 (.int v)) = c') (w : Q (g_up σ q c')) : wX12_init Q q x1 (some a2) x3 x4 x5 (g_up σ q (cO ci fs)) := by
  refine i_P (g_up_same _ _ _) hL (by omega) ?_
  rw [g_up_up]
  refine ⟨_, rfl, i_R (hch _) (by decide) h0 ⟨_, rfl, i_aI (htx _) hx hj hn ?_⟩⟩
  rw [hf]
  exact ctor9 c' (by simp only [List.mem_cons, List.not_mem_nil, or_false] at hL ⊢; omega) (by rw [List.length_set]; omega) hc w
theorem ctor13 {x1 : Option Nat} {x3 x4 x5 x6 : Int32} (c' : gCell) (hL : ci ∈ [13]) (hl : 10 ≤ fs.length) (hch : ∀ c, (g_up σ q c).2 a2 = some (cO 7 gs)) (h0 : gs[0]? = some (.ref tx)) (htx : ∀ c, (g_up σ q c).2 tx = some (cI n f)) (hx : x3 = nI j) (hj : j < n) (hn : n < 2147483648) (hf : f j = v) (hc : cO ci ((((((((((fs.set 9 (va_rf x1)).set 7 (va_rf x1)).set 6 (va_rf x1)).set 5 (va_rf x1)).set 0 (.ref a2)).set 1 (.int x3)).set 2 (.int x4)).set 3 (.int x5)).set 4 (.int v)).set 8 (.int x6)) = c') (w : Q (g_up σ q c')) : wX13_init Q q x1 (some a2) x3 x4 x5 x6 (g_up σ q (cO ci fs)) := by
  refine i_P (g_up_same _ _ _) hL (by omega) ?_
  rw [g_up_up]
  refine ctor12 _ (by simp only [List.mem_cons, List.not_mem_nil, or_false] at hL ⊢; omega) (by rw [List.length_set]; omega) hch h0 htx hx hj hn hf rfl ?_
  refine i_P (g_up_same _ _ _) hL (by simp only [List.length_set]; omega) ?_
  rw [g_up_up, hc]
  exact w
theorem ctor14 {x1 : Option Nat} {x3 x4 x5 : Int32} (c' : gCell) (hL : ci ∈ [14]) (hl : 9 ≤ fs.length) (hch : ∀ c, (g_up σ q c).2 a2 = some (cO 7 gs)) (h0 : gs[0]? = some (.ref tx)) (htx : ∀ c, (g_up σ q c).2 tx = some (cI n f)) (hx : x3 + 1 = nI j) (hj : j < n) (hn : n < 2147483648) (hf : f j = v) (hc : cO ci (((((((((fs.set 8 (va_rf x1)).set 7 (va_rf x1)).set 6 (va_rf x1)).set 5 (va_rf x1)).set 0 (.ref a2)).set 1 (.int x3)).set 2 (.int x4)).set 3 (.int x5)).set 4 (.int v)) = c') (w : Q (g_up σ q c')) : wX14_init Q q x1 (some a2) x3 x4 x5 (g_up σ q (cO ci fs)) := by
  refine i_P (g_up_same _ _ _) hL (by omega) ?_
  rw [g_up_up]
  refine ⟨_, rfl, i_R (hch _) (by decide) h0 ⟨_, rfl, i_aI (htx _) hx hj hn ?_⟩⟩
  rw [hf]
  exact ctor10 c' (by simp only [List.mem_cons, List.not_mem_nil, or_false] at hL ⊢; omega) (by rw [List.length_set]; omega) hc w
theorem ctor15 {x1 x2 : Option Nat} {x3 x4 x5 x7 : Int32} {fm : Nat} (c' : gCell) (hL : ci ∈ [15]) (hl : 12 ≤ fs.length) (hfm : ∀ c, (g_up σ q c).2 fm = some (cO 5 gs)) (h2 : gs[2]? = some (.int v)) (hc : cO ci ((((((((((((fs.set 11 (va_rf x1)).set 10 (va_rf x1)).set 7 (va_rf x1)).set 6 (va_rf x1)).set 5 (va_rf x1)).set 0 (va_rf x2)).set 1 (.int x3)).set 2 (.int x4)).set 3 (.int x5)).set 4 (.int v)).set 8 (.ref fm)).set 9 (.int x7)) = c') (w : Q (g_up σ q c')) : wX15_init Q q x1 x2 x3 x4 x5 (some fm) x7 (g_up σ q (cO ci fs)) := by
  refine i_P (g_up_same _ _ _) hL (by omega) ?_
  rw [g_up_up]
  refine ⟨_, rfl, i_I (hfm _) (by decide) h2 ?_⟩
  exact ctor11 c' (by simp only [List.mem_cons, List.not_mem_nil, or_false] at hL ⊢; omega) (by rw [List.length_set]; omega) hc w
end CTOR2
section SINGLE2
variable {C : Cf} {Q : gH → Prop} {ow : Nat → Nat} {σ : gH} {x0 N ns mc ms : Nat} {kk kc xs : Nat → Nat} {i : Nat}
/-- stuck ones -/
theorem c_s94 {K : Nat → Nat → Nat → Int32 → gH → Prop} {uc us rw : Nat} {g : Nat → Int32} (ok : z_ok C) (hM : cM C ow σ x0 kk kc) (hL : cL C ow σ kc x0 N ns xs) (hi : i < C.1 34) (hn : ns ≤ 1000) (hu : uc + 24 ≤ mc) (hs : us + 4 * (10 + 2 * (ns + 6)) + 144 ≤ ms + 4 * N) (hr : hat ow σ rw (250 + i) (cI 3 g)) (hg : ∀ f, f < C.2 11 0 → C.2 12 (4 * f + 2) = C.2 15 i → ∃ q, q < nK C ∧ g f = nI q ∧ kK C q = 5 * i + 2 + f)
    (w : ∀ u s ow' σ' N' ns' xs', cQs C x0 kk kc [203, 204] ow σ N ns xs uc us 6 72 u s ow' σ' N' ns' xs' → (∀ f p p1 q, f < C.2 11 0 → p < nK C → kK C p = 5 * i → p1 < nK C → kK C p1 = 5 * i + 5 → q < nK C → kK C q = 5 * i + 2 + f → C.2 12 (4 * f + 2) = C.2 15 i → (z_fen C (C.2 12 (4 * f)) = false → z_fen C (C.2 12 (4 * f + 1)) = false → z_may C 4 i 1 f = true → cIn C ow' σ' kc x0 ns' xs' 4 i p q (C.2 12 (4 * f)) (C.2 12 (4 * f + 3)) f) ∧ cIn C ow' σ' kc x0 ns' xs' 0 i q p1 (C.2 12 (4 * f + 1)) 0 0) → K u s (kc 0) (nI i) σ') : ∃ fu, wX7_single_94 Q mc ms K fu uc us (kc 0) (nI i) (some rw) 0 σ := by
  have o := ok.1
  have bt := ok.2.2.2.1 i hi
  refine pk_loop (σ := Nat × Nat × gH) (fun n t st => wX7_single_94 Q mc ms K n st.1 st.2.1 (kc 0) (nI i) (some rw) (nI t) st.2.2) (fun F st => ∃ ow' N' ns' xs', cQs C x0 kk kc [203, 204] ow σ N ns xs uc us (2 * F) (24 * F) st.1 st.2.1 ow' st.2.2 N' ns' xs' ∧ ∀ f p p1 q, f < F → p < nK C → kK C p = 5 * i → p1 < nK C → kK C p1 = 5 * i + 5 → q < nK C → kK C q = 5 * i + 2 + f → C.2 12 (4 * f + 2) = C.2 15 i → (z_fen C (C.2 12 (4 * f)) = false → z_fen C (C.2 12 (4 * f + 1)) = false → z_may C 4 i 1 f = true → cIn C ow' st.2.2 kc x0 ns' xs' 4 i p q (C.2 12 (4 * f)) (C.2 12 (4 * f + 3)) f) ∧ cIn C ow' st.2.2 kc x0 ns' xs' 0 i q p1 (C.2 12 (4 * f + 1)) 0 0) (C.2 11 0) 0 (uc, us, σ) (by omega) ⟨ow, N, ns, xs, ⟨hmv.rf, hM, hL, ⟨Nat.le_refl _, fun _ _ _ _ _ _ _ w => w⟩, Nat.le_refl _, Nat.le_refl _, Nat.le_refl _⟩, fun f _ _ _ hf => by omega⟩ ?_ ?_
  · rintro n ⟨u, s, σ1⟩ ⟨ow1, N1, ns1, xs1, hq, hd⟩
    obtain ⟨m1, hM1, hL1, g1, b1, b2, b3⟩ := hq
    simp only at *
    obtain ⟨he, hch, fk, hk, hk2⟩ := hM1
    obtain ⟨gs, hx, hF⟩ := he.2.1
    obtain ⟨Nf, fo, nf1, nf2, nf3⟩ := he.2.2.2.2.1 0 (by decide)
    simp only [wX7_single_94]
    refine i_R hch.1 (by decide) rfl ⟨_, rfl, i_R hx.1 (by decide) hF.2.1.2.2.2.1 ⟨_, rfl, ln_size nf2 (br_p (nI_le (Nat.le_refl _) (by omega)) (w u s ow1 σ1 N1 ns1 xs1 ⟨m1, ⟨he, hch, fk, hk, hk2⟩, hL1, g1, by omega, by omega, by omega⟩ hd))⟩⟩
  · rintro n f ⟨u, s, σ1⟩ hf ⟨ow1, N1, ns1, xs1, hq, hd⟩ hs1
    obtain ⟨m1, hM1, hL1, g1, b1, b2, b3⟩ := hq
    simp only at *
    have hM1' := hM1
    obtain ⟨he, hch, fk, hk, hk2⟩ := hM1
    obtain ⟨gs, hx, hF⟩ := he.2.1
    obtain ⟨Nf, fo, nf1, nf2, nf3⟩ := he.2.2.2.2.1 0 (by decide)
    obtain ⟨p, hp, ep, kp⟩ := hk2 i (by omega)
    obtain ⟨p1, hp1, ep1, kp1⟩ := hk2 (i + 1) (by omega)
    obtain ⟨ft, ht1, ht2⟩ := he.2.2.2.2.2.1
    have hr1 := hr.mv m1 (by simp only [List.mem_cons, List.not_mem_nil, or_false]; omega)
    have hfm := nf3 f hf
    have lb := hL1.2.1
    have inj := fun {a b : Nat} (h1 : a < nK C) (h2 : b < nK C) (e : kK C a = kK C b) => (kK_kn ok).inj h1 h2 e
    have ob := (ok.2.2.2.2.2 0 f (by decide) hf).1
    have ob0 := ob 0 (by decide)
    have ob1 := ob 1 (by decide)
    have ob2 := ob 2 (by decide)
    rw [show 12 * 0 + 4 * f + 0 = 4 * f by omega] at ob0
    rw [show 12 * 0 + 4 * f + 1 = 4 * f + 1 by omega] at ob1
    rw [show 12 * 0 + 4 * f + 2 = 4 * f + 2 by omega] at ob2
    have hfc := hfm.1
    unfold fCell at hfc
    rw [show 12 * 0 + 4 * f = 4 * f by omega] at hfc
    simp only [wX7_single_94]
    refine i_R hch.1 (by decide) rfl ⟨_, rfl, i_R hx.1 (by decide) hF.2.1.2.2.2.1 ⟨_, rfl, ln_size nf2 (br_n (nI_ge hf (by omega)) (i_R hch.1 (by decide) rfl ⟨_, rfl, i_R hx.1 (by decide) hF.2.1.2.2.2.1 ⟨_, rfl, ln_get nf2 rfl hf (by omega) ⟨fun a ha => by cases ha; exact ⟨_, _, by decide, hfm.1⟩, _, rfl, i_I hfc (by decide) rfl (i_R hch.1 (by decide) rfl ⟨_, rfl, i_aI ht1.1 rfl hi (by omega) ?_⟩)⟩⟩⟩))⟩⟩
    rw [ht2 i hi]
    refine pk_eq (C.2 12 (4 * f + 2)) (C.2 15 i) (fun e => ⟨by omega, by omega, c_new_i fun q hq => ?_⟩) (fun e => ?_) rfl rfl (by omega) (by omega)
    · obtain ⟨q3, hq3, eq3, kq3⟩ := hg f hf e
      have hch1 := fun c => (hch.fresh (u := 0) (x := c) hq).1
      have hk1 := fun c => (hk.fresh (u := 0) (x := c) hq).1
      have hr2 := fun c => (hr1.fresh (u := 0) (x := c) hq).1
      have hf2 : ∀ c, (g_up σ1 q c).2 (fo f) = some (cO 5 [.int (nI (C.2 12 (4 * f))), .int (nI (C.2 12 (4 * f + 1))), .int (nI (C.2 12 (4 * f + 2))), .int (nI (C.2 12 (4 * f + 3)))]) := fun c => (hat.fresh (u := 0) (x := c) ⟨hfc, hfm.2⟩ hq).1
      refine i_R (hch1 _) (by decide) rfl (i_R (hch1 _) (by decide) rfl ⟨_, rfl, i_aI (hk1 _) rfl (by omega) (by decide) ⟨_, rfl, i_aI (hr2 _) rfl (by omega) (by decide) (i_I (hf2 _) (by decide) rfl ?_)⟩⟩)
      rw [ep, eq3]
      refine ctor11 (sC 4 (kc 0) x0 i p q3 (C.2 12 (4 * f)) (fo f) f) (by decide) (by simp) rfl ⟨_, hch1 _, ?_⟩
      have hst : z_fen C (C.2 12 (4 * f)) = false ∧ z_fen C (C.2 12 (4 * f + 1)) = false ∧ z_may C 4 i 1 f = true → z_st C 4 i (kK C p) (kK C q3) (C.2 12 (4 * f)) (C.2 12 (4 * f + 3)) f := fun z => Or.inr (Or.inr (Or.inr (Or.inl ⟨rfl, hi, hf, e, kp, kq3, rfl, z.1, z.2.1, z.2.2, rfl⟩)))
      obtain ⟨c, b, N2, ns2, c1, c2, c3, c4, hadd⟩ := c_addE (k := 4) (i := i) (f := p) (q := q3) (t := C.2 12 (4 * f)) (pr := C.2 12 (4 * f + 3)) (fo := f) (fm := fo f) (nu := f) ok hM1' hL1 (by omega) hq hp hq3 (by decide) (fun _ => ⟨rfl, hfm⟩) (fun z => by omega) (fun ow' σ' hM' ha' h4' _ Q q1 q0 => by
        refine hm_k4 ok hM'.1.1 (hM'.1.raw hM'.2.1.1) hM'.1.2.2.2.2.2.2.raw ha'.1 hi hf (h4' rfl).1 rfl (fun z => q1 (hst z)) (fun z => q0 ?_)
        rintro (y | y | y | y | y | y | y | y)
        · have := y.1; omega
        · have := y.1; omega
        · have := y.1; omega
        · exact z ⟨y.2.2.2.2.2.2.2.1, y.2.2.2.2.2.2.2.2.1, y.2.2.2.2.2.2.2.2.2.1⟩
        all_goals (have := y.1; omega))
      refine ⟨c, b, by omega, by omega, hadd _ (fun ow2 σ2 xs2 n1 n2 n3 n4 n5 => ?_) c b (Nat.le_refl _) (Nat.le_refl _)⟩
      -- the second half
      have hM2' := n2
      obtain ⟨he2, hch2, fk2, hk3, hk4⟩ := n2
      obtain ⟨p1', hp1', ep1', kp1'⟩ := hk4 (i + 1) (by omega)
      have := inj hp1' hp1 (by omega)
      subst this
      have hr3 := hr1.mv n1 (by simp only [List.mem_cons, List.not_mem_nil, or_false]; omega)
      have hfm2 := hfm.mv n1 (by decide)
      have lb2 := n3.2.1
      have hfc2 := hfm2.1
      unfold fCell at hfc2
      rw [show 12 * 0 + 4 * f = 4 * f by omega] at hfc2
      refine ⟨by omega, by omega, c_new_i fun q' hq' => ?_⟩
      have hch5 := fun c => (hch2.fresh (u := 0) (x := c) hq').1
      have hk5 := fun c => (hk3.fresh (u := 0) (x := c) hq').1
      have hr5 := fun c => (hr3.fresh (u := 0) (x := c) hq').1
      have hf5 : ∀ c, (g_up σ2 q' c).2 (fo f) = some (cO 5 [.int (nI (C.2 12 (4 * f))), .int (nI (C.2 12 (4 * f + 1))), .int (nI (C.2 12 (4 * f + 2))), .int (nI (C.2 12 (4 * f + 3)))]) := fun c => (hat.fresh (u := 0) (x := c) ⟨hfc2, hfm2.2⟩ hq').1
      refine i_R (hch5 _) (by decide) rfl (i_aI (hr5 _) rfl (by omega) (by decide) (i_R (hch5 _) (by decide) rfl ⟨_, rfl, i_aI (hk5 _) (nI_1 i) (by omega) (by decide) (i_I (hf5 _) (by decide) rfl ?_)⟩))
      rw [ep1', eq3]
      refine ctor8 (sC 0 (kc 0) x0 i q3 p1' (C.2 12 (4 * f + 1)) 0 0) (by decide) (by simp) rfl ⟨_, hch5 _, ?_⟩
      have hst2 : z_st C 0 i (kK C q3) (kK C p1') (C.2 12 (4 * f + 1)) 0 0 := Or.inr (Or.inr (Or.inr (Or.inr (Or.inl ⟨rfl, hi, ⟨f, hf, e, kq3, rfl⟩, by omega, rfl, rfl⟩))))
      obtain ⟨c', b', N3, ns3, d1, d2, d3, d4, hadd2⟩ := c_addE (k := 0) (i := i) (f := q3) (q := p1') (t := C.2 12 (4 * f + 1)) (pr := 0) (fo := 0) (fm := 0) (nu := 0) ok hM2' n3 (by omega) hq' hq3 hp1' (by decide) (fun z => by omega) (fun z => by omega) (fun ow' σ' hM' ha' _ _ Q q1 q0 => hm_k0 ok hM'.1.1 (hM'.1.raw hM'.2.1.1) hM'.1.2.2.2.2.2.2.raw ha'.1 (by omega) (q1 hst2))
      refine ⟨c', b', by omega, by omega, hadd2 _ (fun ow3 σ3 xs3 o1 o2 o3 o4 o5 => ?_) c' b' (Nat.le_refl _) (Nat.le_refl _)⟩
      unfold wX7_single_209
      rw [nI_1]
      refine al_eq (hs1 (u + 1 + c + 1 + c', s + 11 + b + 6 + b', σ3) ⟨ow3, N3, ns3, xs3, ⟨(m1.tr n1).tr o1, o2, o3, (g1.tr n4).tr o4, ?_, ?_, ?_⟩, fun f' p' p1'' q'' h1 h2 h3 h4 h5 h6 h7 h8 => ?_⟩)
      · show u + 1 + c + 1 + c' ≤ _; omega
      · show s + 11 + b + 6 + b' + 4 * N ≤ _; omega
      · omega
      · by_cases e9 : f' = f
        · subst e9
          have := inj h2 hp (by omega)
          subst this
          have := inj h4 hp1' (by omega)
          subst this
          have := inj h6 hq3 (by omega)
          subst this
          exact ⟨fun z1 z2 z3 => o4.2 _ _ _ _ _ _ _ (n5 (hst ⟨z1, z2, z3⟩)), o5 hst2⟩
        · have := hd f' p' p1'' q'' (by omega) h2 h3 h4 h5 h6 h7 h8
          exact ⟨fun z1 z2 z3 => o4.2 _ _ _ _ _ _ _ (n4.2 _ _ _ _ _ _ _ (this.1 z1 z2 z3)), o4.2 _ _ _ _ _ _ _ (n4.2 _ _ _ _ _ _ _ this.2)⟩
    · unfold wX7_single_209
      rw [nI_1]
      refine al_eq (hs1 (u, s, σ1) ⟨ow1, N1, ns1, xs1, ⟨m1, hM1', hL1, g1, ?_, ?_, ?_⟩, fun f' p' p1'' q'' h1 h2 h3 h4 h5 h6 h7 h8 => ?_⟩)
      · show u ≤ _; omega
      · show s + 4 * N ≤ _; omega
      · omega
      · by_cases e9 : f' = f
        · subst e9; exact absurd h8 e
        · exact hd f' p' p1'' q'' (by omega) h2 h3 h4 h5 h6 h7 h8
/-- runs -/
theorem c_s278 {uc us : Nat} {s7 : Nat → Option Nat} {b7 : Nat} {g7 : Nat → Option Nat} (ok : z_ok C) (hM : cM C ow σ x0 kk kc) (hL : cL C ow σ kc x0 N ns xs) (hi : i < C.1 34) (hu : uc + 12 ≤ mc) (hs : us + 120 ≤ ms) (h7 : hat ow σ (kc 7) 0 (cQ 8 12 s7)) (e7 : s7 i = some b7) (hb : hat ow σ b7 (210 + i) (cQ 7 12 g7)) (h1 : sKp C ow σ kc x0 i 1 (g7 1))
    (w : ∀ ow' σ' g', hmv [210 + i] ow σ ow' σ' → hat ow' σ' b7 (210 + i) (cQ 7 12 g') → (∀ m, 1 ≤ m → i + m ≤ C.1 34 → sKp C ow' σ' kc x0 i m (g' m)) → Q σ') : ∃ fu, wX7_single_278 Q mc ms (fun (uc_34 : Nat) (us_35 : Nat) (σ_33 : gH) => Q σ_33) fu uc us (kc 0) (nI i) 2 σ := by
  have o := ok.1
  have bt := ok.2.2.2.1 i hi
  have T1 : ∀ t ∈ [210 + i], 202 ≤ t := by intro t ht; simp only [List.mem_cons, List.not_mem_nil, or_false] at ht; omega
  have T0 : 0 ∉ [210 + i] := by simp only [List.mem_cons, List.not_mem_nil, or_false]; omega
  refine pk_loop (σ := Nat × Nat × gH) (fun n d st => wX7_single_278 Q mc ms _ n st.1 st.2.1 (kc 0) (nI i) (nI (d + 2)) st.2.2) (fun d st => ∃ ow' g', hmv [210 + i] ow σ ow' st.2.2 ∧ hat ow' st.2.2 b7 (210 + i) (cQ 7 12 g') ∧ (∀ m, 1 ≤ m → m < d + 2 → sKp C ow' st.2.2 kc x0 i m (g' m)) ∧ st.1 ≤ uc + d ∧ st.2.1 ≤ us + 10 * d) (C.1 34 - i - 1) 0 (uc, us, σ) (by omega) ⟨ow, g7, hmv.rf, hb, fun m a b => by
    have : m = 1 := by omega
    subst this; exact h1, Nat.le_refl _, Nat.le_refl _⟩ ?_ ?_
  · rintro n ⟨u, s, σ1⟩ ⟨ow1, g1, m1, hb1, hd, b1, b2⟩
    simp only at *
    obtain ⟨he, hch, fk, hk, hk2⟩ := hM.mv m1 T1
    simp only [wX7_single_278]
    refine i_I hch.1 (by decide) rfl (br_p ?_ (w ow1 σ1 g1 m1 hb1 (fun m a b => hd m a (by omega))))
    rw [nI_add]
    exact nI_lt (by omega) (by omega)
  · rintro n d ⟨u, s, σ1⟩ hdd ⟨ow1, g1, m1, hb1, hd, b1, b2⟩ hs1
    simp only at *
    have hM1 := hM.mv m1 T1
    have hM1' := hM1
    obtain ⟨he, hch, fk, hk, hk2⟩ := hM1
    obtain ⟨p, hp, ep, kp⟩ := hk2 i (by omega)
    obtain ⟨p1, hp1, ep1, kp1⟩ := hk2 (i + (d + 2)) (by omega)
    obtain ⟨ft, ht1, ht2⟩ := he.2.2.2.2.2.1
    have h71 := h7.mv m1 T0
    simp only [wX7_single_278]
    rw [show nI i + nI (d + 2) = nI (i + (d + 2)) from nI_add _ _]
    refine i_I hch.1 (by decide) rfl (br_n (nI_nlt (by omega) (by omega)) ⟨by omega, by omega, c_new_i fun q hq => ?_⟩)
    have hch1 := fun c => (hch.fresh (u := 0) (x := c) hq).1
    have hk1 := fun c => (hk.fresh (u := 0) (x := c) hq).1
    refine i_R (hch1 _) (by decide) rfl (i_R (hch1 _) (by decide) rfl ⟨_, rfl, i_aI (hk1 _) rfl (by omega) (by decide) (i_R (hch1 _) (by decide) rfl ⟨_, rfl, i_aI (hk1 _) rfl (by omega) (by decide) ?_⟩)⟩)
    rw [ep, ep1]
    refine ctor13 (sC 7 (kc 0) x0 i p p1 (C.2 15 i) 0 (d + 2)) (by decide) (by simp) hch1 rfl (fun c => (ht1.fresh (u := 0) (x := c) hq).1) rfl hi (by omega) (ht2 i hi) rfl ?_
    have m0 : hmv [] ow1 σ1 (va_up ow1 q 0) (g_up σ1 q (sC 7 (kc 0) x0 i p p1 (C.2 15 i) 0 (d + 2))) := hmv.rf.new 0 hq
    have hq2 : hat (va_up ow1 q 0) (g_up σ1 q (sC 7 (kc 0) x0 i p p1 (C.2 15 i) 0 (d + 2))) q 0 (sC 7 (kc 0) x0 i p p1 (C.2 15 i) 0 (d + 2)) := hat.nw 0
    have m2 : hmv [210 + i] ow σ (va_up ow1 q 0) (g_up σ1 q (sC 7 (kc 0) x0 i p p1 (C.2 15 i) 0 (d + 2))) := m1.new 0 hq
    obtain ⟨σ2, hσ2⟩ : ∃ σ2, σ2 = g_up σ1 q (sC 7 (kc 0) x0 i p p1 (C.2 15 i) 0 (d + 2)) := ⟨_, rfl⟩
    obtain ⟨ow2, how2⟩ : ∃ ow2, ow2 = va_up ow1 q 0 := ⟨_, rfl⟩
    rw [← hσ2, ← how2] at m0 hq2 m2
    rw [← hσ2]
    have hM2 := hM1'.mv m0 (by simp)
    have h72 := h71.mv m0 (by simp)
    have hb2 := hb1.mv m0 (by simp)
    obtain ⟨gs2, hx2, hF2⟩ := hM2.1.2.1
    refine i_R hM2.2.1.1 (by decide) rfl ⟨_, rfl, i_aR h72.1 rfl (by omega) (by decide) (i_R hM2.2.1.1 (by decide) rfl (i_R hM2.2.1.1 (by decide) rfl (i_I hM2.2.1.1 (by decide) rfl ⟨_, rfl, _, hx2.1, ?_⟩)))⟩
    rw [e7]
    have fin : ∀ r, sKp C ow2 σ2 kc x0 i (d + 2) r → (∀ v, r = some v → ∃ ci fs, ci ∈ [8, 9, 10, 11, 12, 13, 14, 15] ∧ σ2.2 v = some (cO ci fs)) → wX7_single_355 Q mc ms (wX7_single_278 Q mc ms (fun (uc_34 : Nat) (us_35 : Nat) (σ_33 : gH) => Q σ_33) n) (fun (uc_34 : Nat) (us_35 : Nat) (σ_33 : gH) => Q σ_33) (u + 1) (s + 10) (some b7) (nI (d + 2)) r (kc 0) (nI i) (nI (d + 2)) σ2 := by
      intro r hr hr2
      refine ⟨_, rfl, i_sR hb2.1 rfl (by omega) (by decide) hr2 ?_⟩
      rw [show nI (d + 2) + 1 = nI (d + 1 + 2) by rw [nI_1]]
      have m3 : hmv [210 + i] ow σ ow2 (g_up σ2 b7 (cQ 7 12 (va_up g1 (d + 2) r))) := m2.up hb2 (by simp) rfl
      have m23 : hmv [210 + i] ow2 σ2 ow2 (g_up σ2 b7 (cQ 7 12 (va_up g1 (d + 2) r))) := hmv.rf.up hb2 (by simp) rfl
      refine al_eq (hs1 (u + 1, s + 10, _) ⟨ow2, va_up g1 (d + 2) r, m3, hb2.set, fun m a b => ?_, by show u + 1 ≤ _; omega, by show s + 10 ≤ _; omega⟩)
      by_cases e : m = d + 2
      · subst e; rw [va_up_self]; exact hr.mv m23 T0
      · rw [va_up_ne _ _ e]; exact ((hd m a (by omega)).mv m0 (by simp)).mv m23 T0
    have spk := sp_ok ok (i := i) (m := d + 2) hi (by omega)
    rw [if_neg (by omega), if_neg (by omega)] at spk
    refine hm_k7 ok hM2.1.1 (hM2.1.raw hM2.2.1.1) hM2.1.2.2.2.2.2.2.raw hq2.1 (by omega) (by omega) rfl (fun z => br_n (by decide) (fin _ (Or.inr ⟨q, p, p1, rfl, spk.mpr z, by rw [if_neg (by omega)]; exact hq2⟩) (fun v hv => by cases hv; exact ⟨13, _, by decide, hq2.1⟩))) (fun z => br_p rfl (fin _ (Or.inl ⟨rfl, Classical.byContradiction fun y => z (spk.mp y)⟩) (fun v hv => by cases hv)))
end SINGLE2
