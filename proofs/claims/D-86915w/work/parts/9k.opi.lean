/-! PLAIN LAW: call 23 -/
set_option maxRecDepth 100000
section OPI
variable {ow ow' : Nat → Nat} {σ σ' : gH} {x0 CB SB : Nat} {s : TS} {a1 a2 a3 a4 a5 : Int32} {k : Nat → Nat} {wy : Option Nat}
/-- the head of a row -/
theorem c_cut {Q : Option Nat → gH → Prop} {mc ms a t N n : Nat} {f : Nat → Int32} {x1 : Int32} (h : hat ow σ a t (cI N f)) (ex : x1 = nI n) (hn : n ≤ N) (hN : N ≤ 1000) (hmc : 1 ≤ mc) (hms : n ≤ ms) (w : ∀ q ow' σ' f', σ.2 q = none → hmv [] ow σ ow' σ' → hat ow' σ' q 0 (cI n f') → (∀ j, j < n → f' j = f j) → Q (some q) σ') : wX0_cut Q mc ms (some a) x1 σ := by
  subst ex
  unfold wX0_cut
  rw [nI_clamp (by omega)]
  refine ⟨by omega, by omega, nI_pos (by omega), by omega, i_newF (ow := ow) 0 (fun q ow1 σ1 hq m1 k1 => ?_)⟩
  refine ⟨a, rfl, i_cpy (sp := 0) (dp := 0) (z := n) (h.mv m1 (by simp)).1 k1.1 rfl rfl rfl (by omega) (by omega) (by omega) ?_⟩
  refine w q ow1 _ _ hq (m1.fr hq) k1.set (fun j hj => ?_)
  rw [pk_cpy_in (by omega) (by omega)]
  congr 1; omega
/-- a tree's twin -/
theorem c_twin {Q : Option Nat → gH → Prop} {mc ms a n : Nat} {g : Nat → Int32} (h : r_tree ow σ a 120 n 100 g) (hn : n ≤ 100) (hmc : 20 ≤ mc) (hms : 1100 ≤ ms) (w : ∀ q ow' σ', hmv [] ow σ ow' σ' → r_tree ow' σ' q 0 n n g → Q (some q) σ') : ∃ fs : List Value, σ.2 a = some (.inr (1, fs)) ∧ wX1_twin Q mc ms a σ := by
  obtain ⟨tc, f, h1, h2, h3⟩ := h
  have c5 : (5 : Int32).toNatClampNeg = 5 := rfl
  have c100 : (100 : Int32).toNatClampNeg = 100 := rfl
  refine ⟨_, h1.1, ?_⟩
  unfold wX1_twin
  refine ⟨by omega, by omega, i_newF (ow := ow) 0 (fun q ow1 σ1 hq m1 k1 => ⟨6, 505, by omega, by omega, ?_⟩)⟩
  unfold wX1_init
  rw [c5, c100]
  refine ⟨by omega, by omega, c_m2_g (ow := ow1) 0 222 (fun td ow2 σ2 hfr m2 k2 k2' => ?_)⟩
  have M2 : hmv [] ow σ ow2 σ2 := m1.tr m2
  have ftd : σ.2 td = none := m1.none (hfr td (Nat.le_refl _))
  have k1' := k1.mv m2 (by simp)
  refine i_Pf [.ref td, .int 0] k1'.1 (by decide) rfl (by simp) ?_
  have k3 := k1'.set (x := cO 1 [.ref td, .int 0])
  have d3 := k2.up2 k1' (x := cO 1 [.ref td, .int 0]) (by simp [ck])
  have M3 : hmv [] ow σ ow2 (g_up σ2 q (cO 1 [.ref td, .int 0])) := M2.fr hq
  obtain ⟨σ3, hσ3⟩ : ∃ σ3, σ3 = g_up σ2 q (cO 1 [.ref td, .int 0]) := ⟨_, rfl⟩
  rw [← hσ3] at k3 d3 M3 ⊢
  refine i_I (h1.mv M3 (by simp)).1 (by decide) rfl (i_Pf [.ref td, .int (nI n)] k3.1 (by decide) rfl (by simp) ?_)
  have k4 := k3.set (x := cO 1 [.ref td, .int (nI n)])
  have d4 := d3.up2 k3 (x := cO 1 [.ref td, .int (nI n)]) (by simp [ck])
  have M4 : hmv [] ow σ ow2 (g_up σ3 q (cO 1 [.ref td, .int (nI n)])) := M3.fr hq
  obtain ⟨σ4, hσ4⟩ : ∃ σ4, σ4 = g_up σ3 q (cO 1 [.ref td, .int (nI n)]) := ⟨_, rfl⟩
  rw [← hσ4] at k4 d4 M4 ⊢
  refine pk_loop (σ := gH × Nat × Nat) (fun fu w' st => wX1_twin_18 Q mc ms _ fu st.2.1 st.2.2 a q (nI w') st.1) (fun w' st => st.2.1 ≤ 7 + w' ∧ st.2.2 ≤ 507 + 100 * w' ∧ ∃ ow9 fd, hmv [] ow σ ow9 st.1 ∧ hat ow9 st.1 q 0 (cO 1 [.ref td, .int (nI n)]) ∧ hat ow9 st.1 td 0 (cQ 3 5 fd) ∧ ∀ v, v < w' → ∃ b hh, fd v = some b ∧ hat ow9 st.1 b 0 (cI n hh) ∧ ∀ i, i < n → hh i = g (5 * i + v)) 5 0 (σ4, 7, 507) (by omega) ⟨Nat.le_refl 7, Nat.le_refl 507, ow2, _, M4, k4, d4, fun v hv => by omega⟩ ?_ ?_
  · rintro fu ⟨σ5, uc, us⟩ ⟨hu, hs, ow9, fd, M, kq, kd, hf⟩
    simp only [wX1_twin_18]
    exact br_p (by decide) (w q ow9 σ5 M ⟨td, fd, kq, kd, fun v hv => hf v hv⟩)
  · rintro fu w' ⟨σ5, uc, us⟩ hw' ⟨hu, hs, ow9, fd, M, kq, kd, hf⟩ hstep
    obtain ⟨b, hh, e1, e2, e3⟩ := h3 w' hw'
    simp only [wX1_twin_18]
    dsimp only at hu hs M kq kd hf
    refine br_n (nI_nle2 (b := w') (a := 5) hw' (by decide)) (i_R kq.1 (by decide) rfl (i_R (h1.mv M (by simp)).1 (by decide) rfl ⟨tc, rfl, i_aR (h2.mv M (by simp)).1 rfl hw' (by decide) (i_I (h1.mv M (by simp)).1 (by decide) rfl ⟨1, n, by omega, by omega, ?_⟩)⟩))
    rw [e1]
    refine c_cut (e2.mv M (by simp)) rfl hn (by decide) (Nat.le_refl _) (Nat.le_refl _) (fun q5 ow10 σ6 f5 hq5 m6 k6 hf5 => ⟨td, rfl, q5, rfl, ?_⟩)
    have kd6 := kd.mv m6 (by simp)
    have kq6 := kq.mv m6 (by simp)
    have M6 : hmv [] ow σ ow10 σ6 := M.tr m6
    refine ⟨5, fd, _, kd6.1, vp_nI hw' (by decide), k6.1, fun σ7 e7 => ?_⟩
    rw [nI_clamp (by omega)] at e7
    subst e7
    rw [nI_1]
    have t5 : td ≠ q5 := kd6.ne2 k6 (by simp [ck])
    refine al_eq (hstep (_, _, _) ⟨by dsimp only; omega, by dsimp only; omega, ow10, va_up fd w' (some q5), M6.fr ftd, kq6.up2 kd6 (by simp [ck]), kd6.set, fun v hv => ?_⟩)
    by_cases e : v = w'
    · subst e
      exact ⟨q5, f5, va_up_self _ _ _, k6.up2 kd6 (by simp [ck]), fun i hi => by rw [hf5 i hi, e3 i hi]⟩
    · obtain ⟨b', hh', g1, g2, g3⟩ := hf v (by omega)
      exact ⟨b', hh', by rw [va_up_ne _ _ e]; exact g1, (g2.mv m6 (by simp)).up2 kd6 (by simp [ck]), g3⟩
theorem r_thing.cg {th : Option Nat} {kd : Int32} {n : Nat} {gg gg' : Nat → Int32} (h : r_thing ow σ th kd n gg) (g1 : kd = 1 → ∀ i, i < n → gg i = gg' i) (g2 : kd = 2 → ∀ i, i < 5 * n → gg i = gg' i) (g3 : kd = 3 → ∀ i, i < 4 * n → gg i = gg' i) : r_thing ow σ th kd n gg' := by
  rcases h with h | ⟨a, h0, h⟩
  · exact Or.inl h
  refine Or.inr ⟨a, h0, ?_⟩
  rcases h with ⟨h1, f, h2, h3⟩ | ⟨h1, tc, f, h2, h3, h4⟩ | ⟨h1, tc, f, h2, h3, h4⟩
  · exact Or.inl ⟨h1, f, h2, fun i hi => by rw [h3 i hi, g1 h1 i hi]⟩
  · refine Or.inr (Or.inl ⟨h1, tc, f, h2, h3, fun w hw => ?_⟩)
    obtain ⟨b, hh, q1, q2, q3⟩ := h4 w hw
    exact ⟨b, hh, q1, q2, fun i hi => by rw [q3 i hi, g2 h1 _ (by omega)]⟩
  · refine Or.inr (Or.inr ⟨h1, tc, f, h2, h3, fun w hw => ?_⟩)
    obtain ⟨b, hh, q1, q2, q3⟩ := h4 w hw
    exact ⟨b, hh, q1, q2, fun i hi => by rw [q3 i hi, g3 h1 _ (by omega)]⟩
/-- which array of the twin a shelf takes its cells from -/
def shA (w : Nat) : Nat := if w = 1 then 25 else if w = 2 then 27 else if w = 3 then 23 else 15
def shN (s : TS) (w : Nat) : Int32 := if w = 1 then s.1 24 else if w = 2 then s.1 26 else if w = 3 then s.1 22 else if w = 4 then s.1 14 else 0
def shC (w n : Nat) : Nat := if w = 2 then 5 * n else if w = 3 then 4 * n else n
def shK (w : Nat) : Int32 := if w = 4 then 1 else nI w
/-- the twin's state after shelve -/
def shS (s : TS) (j w : Nat) (R : Nat → Int32) : TS := tT (tA (tA s 51 j (shK w)) 52 j (shN s w)) 53 R
def shR (s : TS) (j w n : Nat) (R : Nat → Int32) : Prop := ∀ t, R t = if 1600 * j ≤ t ∧ t < 1600 * j + shC w n then s.2.1 (shA w) (t - 1600 * j) else s.2.1 53 t
theorem t_shelve {Q : Int32 → TS → Prop} {j w n : Nat} (hj : j < 6) (hw : w < 5) (en : shN s w = nI n) (hn : (w = 1 → n ≤ 300) ∧ (w = 2 → n ≤ 100) ∧ (w = 3 → n ≤ 319) ∧ (w = 4 → n ≤ 10) ∧ (w = 0 → n = 0)) (hq : ∀ R, shR s j w n R → Q 1 (shS s j w R)) : wX3_shelve_43 Q (nI j) (nI w) s := by
  have vj : vp_in (nI j) 6 := vp_nI hj (by decide)
  have cj : (nI j).toNatClampNeg = j := nI_clamp (by omega)
  have ne : ∀ a b : Nat, a < 5 → b < 5 → a ≠ b → ¬ nI a = nI b := fun a b ha hb h z => h (nI_inj (by omega) (by omega) z)
  -- the loop
  have lp : ∀ cells, cells = shC w n → wX3_shelve_150 Q (nI cells) (nI w) (nI (1600 * j)) (tA (tA s 51 j (shK w)) 52 j (shN s w)) := by
    intro cells hc
    have bc : (w = 1 → cells ≤ 300) ∧ (w = 2 → cells ≤ 500) ∧ (w = 3 → cells ≤ 1276) ∧ (w = 4 → cells ≤ 10) ∧ (w = 0 → cells = 0) ∧ cells ≤ 1276 := by
      rw [hc]
      unfold shC
      have : w = 0 ∨ w = 1 ∨ w = 2 ∨ w = 3 ∨ w = 4 := by omega
      rcases this with rfl | rfl | rfl | rfl | rfl <;> simp <;> simp at hn <;> omega
    unfold wX3_shelve_150
    refine pk_loop (σ := TS) (fun fu c s' => wX3_shelve_155 Q _ fu (nI w) (nI (1600 * j)) (nI cells) (nI c) s') (fun c s' => ∃ R, s' = shS s j w R ∧ ∀ t, R t = if 1600 * j ≤ t ∧ t < 1600 * j + c then s.2.1 (shA w) (t - 1600 * j) else s.2.1 53 t) cells 0 (tA (tA s 51 j (shK w)) 52 j (shN s w)) (by omega) ⟨s.2.1 53, (tT_id (tA (tA s 51 j (shK w)) 52 j (shN s w)) 53).symm, fun t => by rw [if_neg (by omega)]⟩ ?_ ?_
    · rintro fu s' ⟨R, rfl, hR⟩
      simp only [wX3_shelve_155]
      refine br_p (nI_le (Nat.le_refl _) (by omega)) (hq R ?_)
      unfold shR
      rw [← hc]
      exact hR
    · rintro fu c s' hcl ⟨R, rfl, hR⟩ hs
      simp only [wX3_shelve_155]
      have go : ∀ v, v = s.2.1 (shA w) c → wX3_shelve_222 Q (wX3_shelve_155 Q (fun s_7 => Q 1 s_7) fu) (fun s_7 => Q 1 s_7) (nI (1600 * j) + nI c) v (nI w) (nI (1600 * j)) (nI cells) (nI c) (shS s j w R) := by
        intro v ev
        unfold wX3_shelve_222
        rw [nI_add, nI_clamp (by omega), nI_1]
        refine ⟨vp_nI (by omega) (by decide), ?_⟩
        unfold shS
        rw [tT_up]
        refine al_eq (al_eq (hs _ ⟨_, rfl, fun t => ?_⟩))
        by_cases e : t = 1600 * j + c
        · rw [e, va_up_self, if_pos ⟨by omega, by omega⟩, ev, Nat.add_sub_cancel_left]
        · rw [va_up_ne _ _ e, hR t]
          by_cases e2 : 1600 * j ≤ t ∧ t < 1600 * j + c
          · rw [if_pos e2, if_pos (by omega)]
          · rw [if_neg e2, if_neg (by omega)]
      rw [nI_clamp (n := c) (by omega)]
      refine br_n (nI_nle2 hcl (by omega)) ?_
      have : w = 0 ∨ w = 1 ∨ w = 2 ∨ w = 3 ∨ w = 4 := by omega
      rcases this with rfl | rfl | rfl | rfl | rfl
      · omega
      · exact br_p rfl ⟨vp_nI (by omega) (by decide), go _ rfl⟩
      · exact br_n (by decide) (br_p rfl ⟨vp_nI (by omega) (by decide), go _ rfl⟩)
      · exact br_n (by decide) (br_n (by decide) (br_p rfl ⟨vp_nI (by omega) (by decide), go _ rfl⟩))
      · exact br_n (by decide) (br_n (by decide) (br_n (by decide) ⟨vp_nI (by omega) (by decide), go _ rfl⟩))
  have k114 : wX3_shelve_114 Q (shN s w) (nI j) (nI w) (nI (1600 * j)) (tA s 51 j (shK w)) := by
    unfold wX3_shelve_114
    rw [cj]
    refine ⟨vj, al_eq ⟨fun e => ?_, fun e => ⟨fun e3 => ?_, fun e3 => ?_⟩⟩⟩
    · have : w = 2 := nI_inj (b := 2) (by omega) (by decide) e
      have l := lp (5 * n) (by unfold shC; rw [if_pos this])
      rw [← pk_mul, ← en] at l
      exact l
    · have : w = 3 := nI_inj (b := 3) (by omega) (by decide) e3
      have l := lp (4 * n) (by unfold shC; rw [if_neg (by omega), if_pos this])
      rw [← pk_mul, ← en] at l
      exact l
    · have h2 : w ≠ 2 := fun z => e (by rw [z]; rfl)
      have h3 : w ≠ 3 := fun z => e3 (by rw [z]; rfl)
      have l := lp n (by unfold shC; rw [if_neg h2, if_neg h3])
      rw [← en] at l
      exact l
  have k64 : wX3_shelve_64 Q (nI j) (shK w) (nI j) (nI w) (nI (1600 * j)) s := by
    unfold wX3_shelve_64
    rw [cj]
    refine ⟨vj, al_eq ?_⟩
    have : w = 0 ∨ w = 1 ∨ w = 2 ∨ w = 3 ∨ w = 4 := by omega
    rcases this with rfl | rfl | rfl | rfl | rfl
    · exact br_n (by decide) (br_n (by decide) (br_n (by decide) (br_n (by decide) k114)))
    · exact br_p rfl k114
    · exact br_n (by decide) (br_p rfl k114)
    · exact br_n (by decide) (br_n (by decide) (br_p rfl k114))
    · exact br_n (by decide) (br_n (by decide) (br_n (by decide) (br_p rfl k114)))
  unfold wX3_shelve_43
  rw [k1600, pk_mul]
  refine al_eq ⟨fun e => ?_, fun e => ?_⟩
  · have : w = 4 := nI_inj (b := 4) (by omega) (by decide) e
    have l := k64
    unfold shK at l
    rw [if_pos this] at l
    exact l
  · have h4 : w ≠ 4 := fun z => e (by rw [z]; rfl)
    have l := k64
    unfold shK at l
    rw [if_neg h4] at l
    exact l
end OPI
