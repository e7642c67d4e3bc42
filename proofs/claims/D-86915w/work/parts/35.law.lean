/-! the law: its cases. Printed by tools/genl.py -/
set_option maxRecDepth 100000
/-- the component's call k, with Q of its answer and of its world then -/
def opC (k : Nat) (a1 a2 a3 a4 a5 : Int32) (Q : Int32 → gH → Prop) (mc ms x0 : Nat) (σ : gH) : Prop := match k with
  | 0 => wX0_token Q x0 (if a1 = 0 then 0 else 1) σ
  | 1 => wX0_name Q x0  σ
  | 2 => wX0_rule Q mc ms x0 a1 σ
  | 3 => wX0_symbol Q x0 a1 a2 a3 σ
  | 4 => wX0_start Q x0 a1 σ
  | 5 => wX0_price Q x0 a1 a2 a3 σ
  | 6 => wX0_form Q mc ms x0 a1 a2 a3 a4 a5 σ
  | 7 => wX0_fences Q x0 (if a1 = 0 then 0 else 1) σ
  | 8 => wX0_put Q mc ms x0 a1 a2 σ
  | 9 => wX0_take Q mc ms x0 a1 σ
  | 10 => wX0_at (fun v => Q v σ) σ x0 a1
  | 11 => wX0_read Q mc ms x0  σ
  | 12 => wX0_only Q mc ms x0 a1 a2 σ
  | 13 => wX0_complete Q mc ms x0  σ
  | 14 => wX0_begins Q mc ms x0  σ
  | 15 => wX0_wanted Q mc ms x0 a1 σ
  | 16 => wX0_stretch Q mc ms x0 a1 a2 a3 σ
  | 17 => wX0_distance Q mc ms x0 a1 σ
  | 18 => wX0_told (fun v => Q v σ) σ x0 a1
  | 19 => wX0_slip (fun v => Q v σ) σ x0 a1 a2
  | 20 => wX0_word (fun v => Q v σ) σ x0 a1
  | 21 => wX0_node (fun v => Q v σ) σ x0 a1 a2
  | 22 => wX0_sure Q mc ms x0 a1 σ
  | 23 => wX0_shelve Q mc ms x0 a1 a2 σ
  | 24 => wX0_rowAt Q mc ms x0 a1 a2 σ
  | 25 => wX0_treeAt Q mc ms x0 a1 a2 a3 σ
  | 26 => wX0_slipAt Q mc ms x0 a1 a2 a3 σ
  | 27 => wX0_paste Q mc ms x0 a1 a2 a3 σ
  | 28 => wX0_count Q mc ms x0 a1 σ
  | _ => True
/-- the reference's call k -/
def opT (k : Nat) (a1 a2 a3 a4 a5 : Int32) (Q : Int32 → TS → Prop) (s : TS) : Prop := match k with
  | 0 => wX3_token Q (if a1 = 0 then 0 else 1) s
  | 1 => wX3_name Q  s
  | 2 => wX3_rule Q a1 s
  | 3 => wX3_symbol Q a1 a2 a3 s
  | 4 => wX3_start Q a1 s
  | 5 => wX3_price Q a1 a2 a3 s
  | 6 => wX3_form Q a1 a2 a3 a4 a5 s
  | 7 => wX3_fences Q (if a1 = 0 then 0 else 1) s
  | 8 => wX3_put Q a1 a2 s
  | 9 => wX3_take Q a1 s
  | 10 => wX3_at Q a1 s
  | 11 => wX3_read Q  s
  | 12 => wX3_only Q a1 a2 s
  | 13 => wX3_complete Q  s
  | 14 => wX3_begins Q  s
  | 15 => wX3_wanted Q a1 s
  | 16 => wX3_stretch Q a1 a2 a3 s
  | 17 => wX3_distance Q a1 s
  | 18 => wX3_told Q a1 s
  | 19 => wX3_slip_2 Q a1 a2 s
  | 20 => wX3_word Q a1 s
  | 21 => wX3_node Q a1 a2 s
  | 22 => wX3_sure Q a1 s
  | 23 => wX3_shelve Q a1 a2 s
  | 24 => wX3_rowAt Q a1 a2 s
  | 25 => wX3_treeAt Q a1 a2 a3 s
  | 26 => wX3_slipAt Q a1 a2 a3 s
  | 27 => wX3_paste Q a1 a2 a3 s
  | 28 => wX3_count Q a1 s
  | _ => True
/-- both answer alike, and leave J -/
def l_op (k : Nat) (a1 a2 a3 a4 a5 : Int32) (J : gH → TS → Prop) (mc ms x0 : Nat) (σ : gH) (s : TS) : Prop := opC k a1 a2 a3 a4 a5 (fun v σ' => (∃ fs : List Value, σ'.2 x0 = some (.inr (0, fs))) ∧ opT k a1 a2 a3 a4 a5 (fun v' s' => v = v' ∧ J σ' s') s) mc ms x0 σ
set_option maxHeartbeats 4000000 in
theorem lk_0 {b L x0 o uc us CB SB : Nat} {xs : Nat → Int32} {i : Int32} {ad : Nat → Nat} {s : TS} {σ : gH} {fs : List Value} {J : gH → TS → Prop} (ok : t_ok o ad) (dj : g_dj (t_map o ad s) σ) (hx : σ.2 x0 = some (.inr (0, fs))) (hi : ∀ j : Int32, 0 ≤ j → j ≤ 5 → vp_in (i + j) L) (hu1 : uc + CB ≤ 603072) (hu2 : us + SB ≤ 7262314)
    (w : l_op 0 (xs (i + 1).toNatClampNeg) (xs (i + 2).toNatClampNeg) (xs (i + 3).toNatClampNeg) (xs (i + 4).toNatClampNeg) (xs (i + 5).toNatClampNeg) J CB SB x0 σ s) (kk : ∀ (σ' : gH) (s' : TS), g_dj (t_map o ad s') σ' → (∃ fs, σ'.2 x0 = some (.inr (0, fs))) → J σ' s' → E mL 2048 603072 7262314 (g_lz b L xs) (uc + CB) (us + SB) 1043 [(0, .ref b), (1, .ref x0), (2, .ref o), (3, .int i)] [] (g_mg (t_map o ad s') σ')) : E mL 2048 603072 7262314 (g_lz b L xs) uc us 164 [(0, .ref b), (1, .ref x0), (2, .ref o), (3, .int i)] [] (g_mg (t_map o ad s) σ) := by
  unfold l_op at w
  simp only [opC, opT] at w
  by_cases ha : xs (i + 1).toNatClampNeg = 0
  · rw [if_pos ha] at w
    refine e_aload_n (n := 165) dL_law_164 rfl 1 rfl ?_
    refine e_aload_n (n := 166) dL_law_165 rfl 0 rfl ?_
    refine e_iload_n (n := 167) dL_law_166 rfl 3 rfl ?_
    refine e_iconst (n := 168) (v := 1) dL_law_167 rfl (by decide) ?_
    refine e_iadd (n := 169) dL_law_168 rfl ?_
    refine e_sld (n := 170) (hi 1 (by decide) (by decide)) dL_law_169 rfl ?_
    refine e_if_eq (n := 173) (tgt := 177) dL_law_170 rfl (by decide) (fun h => ?_) (fun h => absurd ha h)
    refine e_iconst (n := 178) (v := 0) dL_law_177 rfl (by decide) ?_
    refine e_callV (n := 181) (As := [.int (0)]) (st := []) okX0_token q263 q264 q265 q57 q266 rfl (g_mg_r hx) rfl (by decide) (by omega) (by omega) rfl rfl (Nat.le_of_ble_eq_true rfl) dL_law_178 rfl (CT.frame dj (ctX0_token w)) (fun r9 σ9 hk => ?_)
    obtain ⟨τ9, ⟨v, rfl, w⟩, dj, rfl⟩ := hk
    obtain ⟨⟨fs9, hx⟩, w⟩ := w
    rw [g_mg_comm dj]
    refine e_aload_n (n := 182) dL_law_181 rfl 2 rfl ?_
    refine e_aload_n (n := 183) dL_law_182 rfl 0 rfl ?_
    refine e_iload_n (n := 184) dL_law_183 rfl 3 rfl ?_
    refine e_iconst (n := 185) (v := 1) dL_law_184 rfl (by decide) ?_
    refine e_iadd (n := 186) dL_law_185 rfl ?_
    refine e_sld (n := 187) (hi 1 (by decide) (by decide)) dL_law_186 rfl ?_
    refine e_if_eq (n := 190) (tgt := 194) dL_law_187 rfl (by decide) (fun h => ?_) (fun h => absurd ha h)
    refine e_iconst (n := 195) (v := 0) dL_law_194 rfl (by decide) ?_
    refine e_callV (n := 198) (As := [.int (0)]) (st := [.int v]) okX3_token q1503 q1504 q1505 q63 q1506 rfl (g_mg_r (t_map_o o ad s)) rfl (by decide) (by omega) (by omega) rfl rfl (Nat.le_of_ble_eq_true rfl) dL_law_195 rfl (CT.frame dj.symm (ctX3_token ok w)) (fun r9 σ9 hk => ?_)
    obtain ⟨t9, ⟨v9, s9, rfl, rfl, he, w⟩, dj2, rfl⟩ := hk
    subst he
    refine e_icmp_eq (n := 201) (tgt := 1043) dL_law_198 rfl (by decide) (fun _ => ?_) (fun h => absurd rfl h)
    rw [g_mg_comm dj2]
    refine e_widen (uc' := uc + CB) (us' := us + SB) (by omega) (by omega) ?_
    exact kk _ _ dj2.symm ⟨_, hx⟩ w
  · rw [if_neg ha] at w
    refine e_aload_n (n := 165) dL_law_164 rfl 1 rfl ?_
    refine e_aload_n (n := 166) dL_law_165 rfl 0 rfl ?_
    refine e_iload_n (n := 167) dL_law_166 rfl 3 rfl ?_
    refine e_iconst (n := 168) (v := 1) dL_law_167 rfl (by decide) ?_
    refine e_iadd (n := 169) dL_law_168 rfl ?_
    refine e_sld (n := 170) (hi 1 (by decide) (by decide)) dL_law_169 rfl ?_
    refine e_if_eq (n := 173) (tgt := 177) dL_law_170 rfl (by decide) (fun h => absurd h ha) (fun h => ?_)
    refine e_iconst (n := 174) (v := 1) dL_law_173 rfl (by decide) ?_
    refine e_goto (n := 178) dL_law_174 (by decide) ?_
    refine e_callV (n := 181) (As := [.int (1)]) (st := []) okX0_token q263 q264 q265 q57 q266 rfl (g_mg_r hx) rfl (by decide) (by omega) (by omega) rfl rfl (Nat.le_of_ble_eq_true rfl) dL_law_178 rfl (CT.frame dj (ctX0_token w)) (fun r9 σ9 hk => ?_)
    obtain ⟨τ9, ⟨v, rfl, w⟩, dj, rfl⟩ := hk
    obtain ⟨⟨fs9, hx⟩, w⟩ := w
    rw [g_mg_comm dj]
    refine e_aload_n (n := 182) dL_law_181 rfl 2 rfl ?_
    refine e_aload_n (n := 183) dL_law_182 rfl 0 rfl ?_
    refine e_iload_n (n := 184) dL_law_183 rfl 3 rfl ?_
    refine e_iconst (n := 185) (v := 1) dL_law_184 rfl (by decide) ?_
    refine e_iadd (n := 186) dL_law_185 rfl ?_
    refine e_sld (n := 187) (hi 1 (by decide) (by decide)) dL_law_186 rfl ?_
    refine e_if_eq (n := 190) (tgt := 194) dL_law_187 rfl (by decide) (fun h => absurd h ha) (fun h => ?_)
    refine e_iconst (n := 191) (v := 1) dL_law_190 rfl (by decide) ?_
    refine e_goto (n := 195) dL_law_191 (by decide) ?_
    refine e_callV (n := 198) (As := [.int (1)]) (st := [.int v]) okX3_token q1503 q1504 q1505 q63 q1506 rfl (g_mg_r (t_map_o o ad s)) rfl (by decide) (by omega) (by omega) rfl rfl (Nat.le_of_ble_eq_true rfl) dL_law_195 rfl (CT.frame dj.symm (ctX3_token ok w)) (fun r9 σ9 hk => ?_)
    obtain ⟨t9, ⟨v9, s9, rfl, rfl, he, w⟩, dj2, rfl⟩ := hk
    subst he
    refine e_icmp_eq (n := 201) (tgt := 1043) dL_law_198 rfl (by decide) (fun _ => ?_) (fun h => absurd rfl h)
    rw [g_mg_comm dj2]
    refine e_widen (uc' := uc + CB) (us' := us + SB) (by omega) (by omega) ?_
    exact kk _ _ dj2.symm ⟨_, hx⟩ w
set_option maxHeartbeats 4000000 in
theorem lk_1 {b L x0 o uc us CB SB : Nat} {xs : Nat → Int32} {i : Int32} {ad : Nat → Nat} {s : TS} {σ : gH} {fs : List Value} {J : gH → TS → Prop} (ok : t_ok o ad) (dj : g_dj (t_map o ad s) σ) (hx : σ.2 x0 = some (.inr (0, fs))) (hi : ∀ j : Int32, 0 ≤ j → j ≤ 5 → vp_in (i + j) L) (hu1 : uc + CB ≤ 603072) (hu2 : us + SB ≤ 7262314)
    (w : l_op 1 (xs (i + 1).toNatClampNeg) (xs (i + 2).toNatClampNeg) (xs (i + 3).toNatClampNeg) (xs (i + 4).toNatClampNeg) (xs (i + 5).toNatClampNeg) J CB SB x0 σ s) (kk : ∀ (σ' : gH) (s' : TS), g_dj (t_map o ad s') σ' → (∃ fs, σ'.2 x0 = some (.inr (0, fs))) → J σ' s' → E mL 2048 603072 7262314 (g_lz b L xs) (uc + CB) (us + SB) 1043 [(0, .ref b), (1, .ref x0), (2, .ref o), (3, .int i)] [] (g_mg (t_map o ad s') σ')) : E mL 2048 603072 7262314 (g_lz b L xs) uc us 203 [(0, .ref b), (1, .ref x0), (2, .ref o), (3, .int i)] [] (g_mg (t_map o ad s) σ) := by
  unfold l_op at w
  simp only [opC, opT] at w
  refine e_aload_n (n := 204) dL_law_203 rfl 1 rfl ?_
  refine e_callV (n := 207) (As := []) (st := []) okX0_name q267 q268 q269 q57 q270 rfl (g_mg_r hx) rfl (by decide) (by omega) (by omega) rfl rfl (Nat.le_of_ble_eq_true rfl) dL_law_204 rfl (CT.frame dj (ctX0_name w)) (fun r9 σ9 hk => ?_)
  obtain ⟨τ9, ⟨v, rfl, w⟩, dj, rfl⟩ := hk
  obtain ⟨⟨fs9, hx⟩, w⟩ := w
  rw [g_mg_comm dj]
  refine e_aload_n (n := 208) dL_law_207 rfl 2 rfl ?_
  refine e_callV (n := 211) (As := []) (st := [.int v]) okX3_name q1507 q1508 q1509 q63 q1510 rfl (g_mg_r (t_map_o o ad s)) rfl (by decide) (by omega) (by omega) rfl rfl (Nat.le_of_ble_eq_true rfl) dL_law_208 rfl (CT.frame dj.symm (ctX3_name ok w)) (fun r9 σ9 hk => ?_)
  obtain ⟨t9, ⟨v9, s9, rfl, rfl, he, w⟩, dj2, rfl⟩ := hk
  subst he
  refine e_icmp_eq (n := 214) (tgt := 1043) dL_law_211 rfl (by decide) (fun _ => ?_) (fun h => absurd rfl h)
  rw [g_mg_comm dj2]
  refine e_widen (uc' := uc + CB) (us' := us + SB) (by omega) (by omega) ?_
  exact kk _ _ dj2.symm ⟨_, hx⟩ w
set_option maxHeartbeats 4000000 in
theorem lk_2 {b L x0 o uc us CB SB : Nat} {xs : Nat → Int32} {i : Int32} {ad : Nat → Nat} {s : TS} {σ : gH} {fs : List Value} {J : gH → TS → Prop} (ok : t_ok o ad) (dj : g_dj (t_map o ad s) σ) (hx : σ.2 x0 = some (.inr (0, fs))) (hi : ∀ j : Int32, 0 ≤ j → j ≤ 5 → vp_in (i + j) L) (hu1 : uc + CB ≤ 603072) (hu2 : us + SB ≤ 7262314)
    (w : l_op 2 (xs (i + 1).toNatClampNeg) (xs (i + 2).toNatClampNeg) (xs (i + 3).toNatClampNeg) (xs (i + 4).toNatClampNeg) (xs (i + 5).toNatClampNeg) J CB SB x0 σ s) (kk : ∀ (σ' : gH) (s' : TS), g_dj (t_map o ad s') σ' → (∃ fs, σ'.2 x0 = some (.inr (0, fs))) → J σ' s' → E mL 2048 603072 7262314 (g_lz b L xs) (uc + CB) (us + SB) 1043 [(0, .ref b), (1, .ref x0), (2, .ref o), (3, .int i)] [] (g_mg (t_map o ad s') σ')) : E mL 2048 603072 7262314 (g_lz b L xs) uc us 216 [(0, .ref b), (1, .ref x0), (2, .ref o), (3, .int i)] [] (g_mg (t_map o ad s) σ) := by
  unfold l_op at w
  simp only [opC, opT] at w
  refine e_aload_n (n := 217) dL_law_216 rfl 1 rfl ?_
  refine e_aload_n (n := 218) dL_law_217 rfl 0 rfl ?_
  refine e_iload_n (n := 219) dL_law_218 rfl 3 rfl ?_
  refine e_iconst (n := 220) (v := 1) dL_law_219 rfl (by decide) ?_
  refine e_iadd (n := 221) dL_law_220 rfl ?_
  refine e_sld (n := 222) (hi 1 (by decide) (by decide)) dL_law_221 rfl ?_
  refine e_callV (n := 225) (As := [.int (xs (i + 1).toNatClampNeg)]) (st := []) okX0_rule q271 q272 q273 q57 q274 rfl (g_mg_r hx) rfl (by decide) (by omega) (by omega) rfl rfl (Nat.le_of_ble_eq_true rfl) dL_law_222 rfl (CT.frame dj (ctX0_rule w)) (fun r9 σ9 hk => ?_)
  obtain ⟨τ9, ⟨v, rfl, w⟩, dj, rfl⟩ := hk
  obtain ⟨⟨fs9, hx⟩, w⟩ := w
  rw [g_mg_comm dj]
  refine e_aload_n (n := 226) dL_law_225 rfl 2 rfl ?_
  refine e_aload_n (n := 227) dL_law_226 rfl 0 rfl ?_
  refine e_iload_n (n := 228) dL_law_227 rfl 3 rfl ?_
  refine e_iconst (n := 229) (v := 1) dL_law_228 rfl (by decide) ?_
  refine e_iadd (n := 230) dL_law_229 rfl ?_
  refine e_sld (n := 231) (hi 1 (by decide) (by decide)) dL_law_230 rfl ?_
  refine e_callV (n := 234) (As := [.int (xs (i + 1).toNatClampNeg)]) (st := [.int v]) okX3_rule q1511 q1512 q1513 q63 q1514 rfl (g_mg_r (t_map_o o ad s)) rfl (by decide) (by omega) (by omega) rfl rfl (Nat.le_of_ble_eq_true rfl) dL_law_231 rfl (CT.frame dj.symm (ctX3_rule ok w)) (fun r9 σ9 hk => ?_)
  obtain ⟨t9, ⟨v9, s9, rfl, rfl, he, w⟩, dj2, rfl⟩ := hk
  subst he
  refine e_icmp_eq (n := 237) (tgt := 1043) dL_law_234 rfl (by decide) (fun _ => ?_) (fun h => absurd rfl h)
  rw [g_mg_comm dj2]
  refine e_widen (uc' := uc + CB) (us' := us + SB) (by omega) (by omega) ?_
  exact kk _ _ dj2.symm ⟨_, hx⟩ w
set_option maxHeartbeats 4000000 in
theorem lk_3 {b L x0 o uc us CB SB : Nat} {xs : Nat → Int32} {i : Int32} {ad : Nat → Nat} {s : TS} {σ : gH} {fs : List Value} {J : gH → TS → Prop} (ok : t_ok o ad) (dj : g_dj (t_map o ad s) σ) (hx : σ.2 x0 = some (.inr (0, fs))) (hi : ∀ j : Int32, 0 ≤ j → j ≤ 5 → vp_in (i + j) L) (hu1 : uc + CB ≤ 603072) (hu2 : us + SB ≤ 7262314)
    (w : l_op 3 (xs (i + 1).toNatClampNeg) (xs (i + 2).toNatClampNeg) (xs (i + 3).toNatClampNeg) (xs (i + 4).toNatClampNeg) (xs (i + 5).toNatClampNeg) J CB SB x0 σ s) (kk : ∀ (σ' : gH) (s' : TS), g_dj (t_map o ad s') σ' → (∃ fs, σ'.2 x0 = some (.inr (0, fs))) → J σ' s' → E mL 2048 603072 7262314 (g_lz b L xs) (uc + CB) (us + SB) 1043 [(0, .ref b), (1, .ref x0), (2, .ref o), (3, .int i)] [] (g_mg (t_map o ad s') σ')) : E mL 2048 603072 7262314 (g_lz b L xs) uc us 239 [(0, .ref b), (1, .ref x0), (2, .ref o), (3, .int i)] [] (g_mg (t_map o ad s) σ) := by
  unfold l_op at w
  simp only [opC, opT] at w
  refine e_aload_n (n := 240) dL_law_239 rfl 1 rfl ?_
  refine e_aload_n (n := 241) dL_law_240 rfl 0 rfl ?_
  refine e_iload_n (n := 242) dL_law_241 rfl 3 rfl ?_
  refine e_iconst (n := 243) (v := 1) dL_law_242 rfl (by decide) ?_
  refine e_iadd (n := 244) dL_law_243 rfl ?_
  refine e_sld (n := 245) (hi 1 (by decide) (by decide)) dL_law_244 rfl ?_
  refine e_aload_n (n := 246) dL_law_245 rfl 0 rfl ?_
  refine e_iload_n (n := 247) dL_law_246 rfl 3 rfl ?_
  refine e_iconst (n := 248) (v := 2) dL_law_247 rfl (by decide) ?_
  refine e_iadd (n := 249) dL_law_248 rfl ?_
  refine e_sld (n := 250) (hi 2 (by decide) (by decide)) dL_law_249 rfl ?_
  refine e_aload_n (n := 251) dL_law_250 rfl 0 rfl ?_
  refine e_iload_n (n := 252) dL_law_251 rfl 3 rfl ?_
  refine e_iconst (n := 253) (v := 3) dL_law_252 rfl (by decide) ?_
  refine e_iadd (n := 254) dL_law_253 rfl ?_
  refine e_sld (n := 255) (hi 3 (by decide) (by decide)) dL_law_254 rfl ?_
  refine e_callV (n := 258) (As := [.int (xs (i + 1).toNatClampNeg), .int (xs (i + 2).toNatClampNeg), .int (xs (i + 3).toNatClampNeg)]) (st := []) okX0_symbol q400 q401 q402 q57 q403 rfl (g_mg_r hx) rfl (by decide) (by omega) (by omega) rfl rfl (Nat.le_of_ble_eq_true rfl) dL_law_255 rfl (CT.frame dj (ctX0_symbol w)) (fun r9 σ9 hk => ?_)
  obtain ⟨τ9, ⟨v, rfl, w⟩, dj, rfl⟩ := hk
  obtain ⟨⟨fs9, hx⟩, w⟩ := w
  rw [g_mg_comm dj]
  refine e_aload_n (n := 259) dL_law_258 rfl 2 rfl ?_
  refine e_aload_n (n := 260) dL_law_259 rfl 0 rfl ?_
  refine e_iload_n (n := 261) dL_law_260 rfl 3 rfl ?_
  refine e_iconst (n := 262) (v := 1) dL_law_261 rfl (by decide) ?_
  refine e_iadd (n := 263) dL_law_262 rfl ?_
  refine e_sld (n := 264) (hi 1 (by decide) (by decide)) dL_law_263 rfl ?_
  refine e_aload_n (n := 265) dL_law_264 rfl 0 rfl ?_
  refine e_iload_n (n := 266) dL_law_265 rfl 3 rfl ?_
  refine e_iconst (n := 267) (v := 2) dL_law_266 rfl (by decide) ?_
  refine e_iadd (n := 268) dL_law_267 rfl ?_
  refine e_sld (n := 269) (hi 2 (by decide) (by decide)) dL_law_268 rfl ?_
  refine e_aload_n (n := 270) dL_law_269 rfl 0 rfl ?_
  refine e_iload_n (n := 271) dL_law_270 rfl 3 rfl ?_
  refine e_iconst (n := 272) (v := 3) dL_law_271 rfl (by decide) ?_
  refine e_iadd (n := 273) dL_law_272 rfl ?_
  refine e_sld (n := 274) (hi 3 (by decide) (by decide)) dL_law_273 rfl ?_
  refine e_callV (n := 277) (As := [.int (xs (i + 1).toNatClampNeg), .int (xs (i + 2).toNatClampNeg), .int (xs (i + 3).toNatClampNeg)]) (st := [.int v]) okX3_symbol q1522 q1523 q1524 q63 q1525 rfl (g_mg_r (t_map_o o ad s)) rfl (by decide) (by omega) (by omega) rfl rfl (Nat.le_of_ble_eq_true rfl) dL_law_274 rfl (CT.frame dj.symm (ctX3_symbol ok w)) (fun r9 σ9 hk => ?_)
  obtain ⟨t9, ⟨v9, s9, rfl, rfl, he, w⟩, dj2, rfl⟩ := hk
  subst he
  refine e_icmp_eq (n := 280) (tgt := 1043) dL_law_277 rfl (by decide) (fun _ => ?_) (fun h => absurd rfl h)
  rw [g_mg_comm dj2]
  refine e_widen (uc' := uc + CB) (us' := us + SB) (by omega) (by omega) ?_
  exact kk _ _ dj2.symm ⟨_, hx⟩ w
set_option maxHeartbeats 4000000 in
theorem lk_4 {b L x0 o uc us CB SB : Nat} {xs : Nat → Int32} {i : Int32} {ad : Nat → Nat} {s : TS} {σ : gH} {fs : List Value} {J : gH → TS → Prop} (ok : t_ok o ad) (dj : g_dj (t_map o ad s) σ) (hx : σ.2 x0 = some (.inr (0, fs))) (hi : ∀ j : Int32, 0 ≤ j → j ≤ 5 → vp_in (i + j) L) (hu1 : uc + CB ≤ 603072) (hu2 : us + SB ≤ 7262314)
    (w : l_op 4 (xs (i + 1).toNatClampNeg) (xs (i + 2).toNatClampNeg) (xs (i + 3).toNatClampNeg) (xs (i + 4).toNatClampNeg) (xs (i + 5).toNatClampNeg) J CB SB x0 σ s) (kk : ∀ (σ' : gH) (s' : TS), g_dj (t_map o ad s') σ' → (∃ fs, σ'.2 x0 = some (.inr (0, fs))) → J σ' s' → E mL 2048 603072 7262314 (g_lz b L xs) (uc + CB) (us + SB) 1043 [(0, .ref b), (1, .ref x0), (2, .ref o), (3, .int i)] [] (g_mg (t_map o ad s') σ')) : E mL 2048 603072 7262314 (g_lz b L xs) uc us 282 [(0, .ref b), (1, .ref x0), (2, .ref o), (3, .int i)] [] (g_mg (t_map o ad s) σ) := by
  unfold l_op at w
  simp only [opC, opT] at w
  refine e_aload_n (n := 283) dL_law_282 rfl 1 rfl ?_
  refine e_aload_n (n := 284) dL_law_283 rfl 0 rfl ?_
  refine e_iload_n (n := 285) dL_law_284 rfl 3 rfl ?_
  refine e_iconst (n := 286) (v := 1) dL_law_285 rfl (by decide) ?_
  refine e_iadd (n := 287) dL_law_286 rfl ?_
  refine e_sld (n := 288) (hi 1 (by decide) (by decide)) dL_law_287 rfl ?_
  refine e_callV (n := 291) (As := [.int (xs (i + 1).toNatClampNeg)]) (st := []) okX0_start q427 q428 q429 q57 q430 rfl (g_mg_r hx) rfl (by decide) (by omega) (by omega) rfl rfl (Nat.le_of_ble_eq_true rfl) dL_law_288 rfl (CT.frame dj (ctX0_start w)) (fun r9 σ9 hk => ?_)
  obtain ⟨τ9, ⟨v, rfl, w⟩, dj, rfl⟩ := hk
  obtain ⟨⟨fs9, hx⟩, w⟩ := w
  rw [g_mg_comm dj]
  refine e_aload_n (n := 292) dL_law_291 rfl 2 rfl ?_
  refine e_aload_n (n := 293) dL_law_292 rfl 0 rfl ?_
  refine e_iload_n (n := 294) dL_law_293 rfl 3 rfl ?_
  refine e_iconst (n := 295) (v := 1) dL_law_294 rfl (by decide) ?_
  refine e_iadd (n := 296) dL_law_295 rfl ?_
  refine e_sld (n := 297) (hi 1 (by decide) (by decide)) dL_law_296 rfl ?_
  refine e_callV (n := 300) (As := [.int (xs (i + 1).toNatClampNeg)]) (st := [.int v]) okX3_start q1530 q1531 q1532 q63 q1533 rfl (g_mg_r (t_map_o o ad s)) rfl (by decide) (by omega) (by omega) rfl rfl (Nat.le_of_ble_eq_true rfl) dL_law_297 rfl (CT.frame dj.symm (ctX3_start ok w)) (fun r9 σ9 hk => ?_)
  obtain ⟨t9, ⟨v9, s9, rfl, rfl, he, w⟩, dj2, rfl⟩ := hk
  subst he
  refine e_icmp_eq (n := 303) (tgt := 1043) dL_law_300 rfl (by decide) (fun _ => ?_) (fun h => absurd rfl h)
  rw [g_mg_comm dj2]
  refine e_widen (uc' := uc + CB) (us' := us + SB) (by omega) (by omega) ?_
  exact kk _ _ dj2.symm ⟨_, hx⟩ w
set_option maxHeartbeats 4000000 in
theorem lk_5 {b L x0 o uc us CB SB : Nat} {xs : Nat → Int32} {i : Int32} {ad : Nat → Nat} {s : TS} {σ : gH} {fs : List Value} {J : gH → TS → Prop} (ok : t_ok o ad) (dj : g_dj (t_map o ad s) σ) (hx : σ.2 x0 = some (.inr (0, fs))) (hi : ∀ j : Int32, 0 ≤ j → j ≤ 5 → vp_in (i + j) L) (hu1 : uc + CB ≤ 603072) (hu2 : us + SB ≤ 7262314)
    (w : l_op 5 (xs (i + 1).toNatClampNeg) (xs (i + 2).toNatClampNeg) (xs (i + 3).toNatClampNeg) (xs (i + 4).toNatClampNeg) (xs (i + 5).toNatClampNeg) J CB SB x0 σ s) (kk : ∀ (σ' : gH) (s' : TS), g_dj (t_map o ad s') σ' → (∃ fs, σ'.2 x0 = some (.inr (0, fs))) → J σ' s' → E mL 2048 603072 7262314 (g_lz b L xs) (uc + CB) (us + SB) 1043 [(0, .ref b), (1, .ref x0), (2, .ref o), (3, .int i)] [] (g_mg (t_map o ad s') σ')) : E mL 2048 603072 7262314 (g_lz b L xs) uc us 305 [(0, .ref b), (1, .ref x0), (2, .ref o), (3, .int i)] [] (g_mg (t_map o ad s) σ) := by
  unfold l_op at w
  simp only [opC, opT] at w
  refine e_aload_n (n := 306) dL_law_305 rfl 1 rfl ?_
  refine e_aload_n (n := 307) dL_law_306 rfl 0 rfl ?_
  refine e_iload_n (n := 308) dL_law_307 rfl 3 rfl ?_
  refine e_iconst (n := 309) (v := 1) dL_law_308 rfl (by decide) ?_
  refine e_iadd (n := 310) dL_law_309 rfl ?_
  refine e_sld (n := 311) (hi 1 (by decide) (by decide)) dL_law_310 rfl ?_
  refine e_aload_n (n := 312) dL_law_311 rfl 0 rfl ?_
  refine e_iload_n (n := 313) dL_law_312 rfl 3 rfl ?_
  refine e_iconst (n := 314) (v := 2) dL_law_313 rfl (by decide) ?_
  refine e_iadd (n := 315) dL_law_314 rfl ?_
  refine e_sld (n := 316) (hi 2 (by decide) (by decide)) dL_law_315 rfl ?_
  refine e_aload_n (n := 317) dL_law_316 rfl 0 rfl ?_
  refine e_iload_n (n := 318) dL_law_317 rfl 3 rfl ?_
  refine e_iconst (n := 319) (v := 3) dL_law_318 rfl (by decide) ?_
  refine e_iadd (n := 320) dL_law_319 rfl ?_
  refine e_sld (n := 321) (hi 3 (by decide) (by decide)) dL_law_320 rfl ?_
  refine e_callV (n := 324) (As := [.int (xs (i + 1).toNatClampNeg), .int (xs (i + 2).toNatClampNeg), .int (xs (i + 3).toNatClampNeg)]) (st := []) okX0_price q431 q432 q433 q57 q434 rfl (g_mg_r hx) rfl (by decide) (by omega) (by omega) rfl rfl (Nat.le_of_ble_eq_true rfl) dL_law_321 rfl (CT.frame dj (ctX0_price w)) (fun r9 σ9 hk => ?_)
  obtain ⟨τ9, ⟨v, rfl, w⟩, dj, rfl⟩ := hk
  obtain ⟨⟨fs9, hx⟩, w⟩ := w
  rw [g_mg_comm dj]
  refine e_aload_n (n := 325) dL_law_324 rfl 2 rfl ?_
  refine e_aload_n (n := 326) dL_law_325 rfl 0 rfl ?_
  refine e_iload_n (n := 327) dL_law_326 rfl 3 rfl ?_
  refine e_iconst (n := 328) (v := 1) dL_law_327 rfl (by decide) ?_
  refine e_iadd (n := 329) dL_law_328 rfl ?_
  refine e_sld (n := 330) (hi 1 (by decide) (by decide)) dL_law_329 rfl ?_
  refine e_aload_n (n := 331) dL_law_330 rfl 0 rfl ?_
  refine e_iload_n (n := 332) dL_law_331 rfl 3 rfl ?_
  refine e_iconst (n := 333) (v := 2) dL_law_332 rfl (by decide) ?_
  refine e_iadd (n := 334) dL_law_333 rfl ?_
  refine e_sld (n := 335) (hi 2 (by decide) (by decide)) dL_law_334 rfl ?_
  refine e_aload_n (n := 336) dL_law_335 rfl 0 rfl ?_
  refine e_iload_n (n := 337) dL_law_336 rfl 3 rfl ?_
  refine e_iconst (n := 338) (v := 3) dL_law_337 rfl (by decide) ?_
  refine e_iadd (n := 339) dL_law_338 rfl ?_
  refine e_sld (n := 340) (hi 3 (by decide) (by decide)) dL_law_339 rfl ?_
  refine e_callV (n := 343) (As := [.int (xs (i + 1).toNatClampNeg), .int (xs (i + 2).toNatClampNeg), .int (xs (i + 3).toNatClampNeg)]) (st := [.int v]) okX3_price q1534 q1535 q1536 q63 q1537 rfl (g_mg_r (t_map_o o ad s)) rfl (by decide) (by omega) (by omega) rfl rfl (Nat.le_of_ble_eq_true rfl) dL_law_340 rfl (CT.frame dj.symm (ctX3_price ok w)) (fun r9 σ9 hk => ?_)
  obtain ⟨t9, ⟨v9, s9, rfl, rfl, he, w⟩, dj2, rfl⟩ := hk
  subst he
  refine e_icmp_eq (n := 346) (tgt := 1043) dL_law_343 rfl (by decide) (fun _ => ?_) (fun h => absurd rfl h)
  rw [g_mg_comm dj2]
  refine e_widen (uc' := uc + CB) (us' := us + SB) (by omega) (by omega) ?_
  exact kk _ _ dj2.symm ⟨_, hx⟩ w
set_option maxHeartbeats 4000000 in
theorem lk_6 {b L x0 o uc us CB SB : Nat} {xs : Nat → Int32} {i : Int32} {ad : Nat → Nat} {s : TS} {σ : gH} {fs : List Value} {J : gH → TS → Prop} (ok : t_ok o ad) (dj : g_dj (t_map o ad s) σ) (hx : σ.2 x0 = some (.inr (0, fs))) (hi : ∀ j : Int32, 0 ≤ j → j ≤ 5 → vp_in (i + j) L) (hu1 : uc + CB ≤ 603072) (hu2 : us + SB ≤ 7262314)
    (w : l_op 6 (xs (i + 1).toNatClampNeg) (xs (i + 2).toNatClampNeg) (xs (i + 3).toNatClampNeg) (xs (i + 4).toNatClampNeg) (xs (i + 5).toNatClampNeg) J CB SB x0 σ s) (kk : ∀ (σ' : gH) (s' : TS), g_dj (t_map o ad s') σ' → (∃ fs, σ'.2 x0 = some (.inr (0, fs))) → J σ' s' → E mL 2048 603072 7262314 (g_lz b L xs) (uc + CB) (us + SB) 1043 [(0, .ref b), (1, .ref x0), (2, .ref o), (3, .int i)] [] (g_mg (t_map o ad s') σ')) : E mL 2048 603072 7262314 (g_lz b L xs) uc us 348 [(0, .ref b), (1, .ref x0), (2, .ref o), (3, .int i)] [] (g_mg (t_map o ad s) σ) := by
  unfold l_op at w
  simp only [opC, opT] at w
  refine e_aload_n (n := 349) dL_law_348 rfl 1 rfl ?_
  refine e_aload_n (n := 350) dL_law_349 rfl 0 rfl ?_
  refine e_iload_n (n := 351) dL_law_350 rfl 3 rfl ?_
  refine e_iconst (n := 352) (v := 1) dL_law_351 rfl (by decide) ?_
  refine e_iadd (n := 353) dL_law_352 rfl ?_
  refine e_sld (n := 354) (hi 1 (by decide) (by decide)) dL_law_353 rfl ?_
  refine e_aload_n (n := 355) dL_law_354 rfl 0 rfl ?_
  refine e_iload_n (n := 356) dL_law_355 rfl 3 rfl ?_
  refine e_iconst (n := 357) (v := 2) dL_law_356 rfl (by decide) ?_
  refine e_iadd (n := 358) dL_law_357 rfl ?_
  refine e_sld (n := 359) (hi 2 (by decide) (by decide)) dL_law_358 rfl ?_
  refine e_aload_n (n := 360) dL_law_359 rfl 0 rfl ?_
  refine e_iload_n (n := 361) dL_law_360 rfl 3 rfl ?_
  refine e_iconst (n := 362) (v := 3) dL_law_361 rfl (by decide) ?_
  refine e_iadd (n := 363) dL_law_362 rfl ?_
  refine e_sld (n := 364) (hi 3 (by decide) (by decide)) dL_law_363 rfl ?_
  refine e_aload_n (n := 365) dL_law_364 rfl 0 rfl ?_
  refine e_iload_n (n := 366) dL_law_365 rfl 3 rfl ?_
  refine e_iconst (n := 367) (v := 4) dL_law_366 rfl (by decide) ?_
  refine e_iadd (n := 368) dL_law_367 rfl ?_
  refine e_sld (n := 369) (hi 4 (by decide) (by decide)) dL_law_368 rfl ?_
  refine e_aload_n (n := 370) dL_law_369 rfl 0 rfl ?_
  refine e_iload_n (n := 371) dL_law_370 rfl 3 rfl ?_
  refine e_iconst (n := 372) (v := 5) dL_law_371 rfl (by decide) ?_
  refine e_iadd (n := 373) dL_law_372 rfl ?_
  refine e_sld (n := 374) (hi 5 (by decide) (by decide)) dL_law_373 rfl ?_
  refine e_callV (n := 377) (As := [.int (xs (i + 1).toNatClampNeg), .int (xs (i + 2).toNatClampNeg), .int (xs (i + 3).toNatClampNeg), .int (xs (i + 4).toNatClampNeg), .int (xs (i + 5).toNatClampNeg)]) (st := []) okX0_form q437 q438 q439 q57 q440 rfl (g_mg_r hx) rfl (by decide) (by omega) (by omega) rfl rfl (Nat.le_of_ble_eq_true rfl) dL_law_374 rfl (CT.frame dj (ctX0_form w)) (fun r9 σ9 hk => ?_)
  obtain ⟨τ9, ⟨v, rfl, w⟩, dj, rfl⟩ := hk
  obtain ⟨⟨fs9, hx⟩, w⟩ := w
  rw [g_mg_comm dj]
  refine e_aload_n (n := 378) dL_law_377 rfl 2 rfl ?_
  refine e_aload_n (n := 379) dL_law_378 rfl 0 rfl ?_
  refine e_iload_n (n := 380) dL_law_379 rfl 3 rfl ?_
  refine e_iconst (n := 381) (v := 1) dL_law_380 rfl (by decide) ?_
  refine e_iadd (n := 382) dL_law_381 rfl ?_
  refine e_sld (n := 383) (hi 1 (by decide) (by decide)) dL_law_382 rfl ?_
  refine e_aload_n (n := 384) dL_law_383 rfl 0 rfl ?_
  refine e_iload_n (n := 385) dL_law_384 rfl 3 rfl ?_
  refine e_iconst (n := 386) (v := 2) dL_law_385 rfl (by decide) ?_
  refine e_iadd (n := 387) dL_law_386 rfl ?_
  refine e_sld (n := 388) (hi 2 (by decide) (by decide)) dL_law_387 rfl ?_
  refine e_aload_n (n := 389) dL_law_388 rfl 0 rfl ?_
  refine e_iload_n (n := 390) dL_law_389 rfl 3 rfl ?_
  refine e_iconst (n := 391) (v := 3) dL_law_390 rfl (by decide) ?_
  refine e_iadd (n := 392) dL_law_391 rfl ?_
  refine e_sld (n := 393) (hi 3 (by decide) (by decide)) dL_law_392 rfl ?_
  refine e_aload_n (n := 394) dL_law_393 rfl 0 rfl ?_
  refine e_iload_n (n := 395) dL_law_394 rfl 3 rfl ?_
  refine e_iconst (n := 396) (v := 4) dL_law_395 rfl (by decide) ?_
  refine e_iadd (n := 397) dL_law_396 rfl ?_
  refine e_sld (n := 398) (hi 4 (by decide) (by decide)) dL_law_397 rfl ?_
  refine e_aload_n (n := 399) dL_law_398 rfl 0 rfl ?_
  refine e_iload_n (n := 400) dL_law_399 rfl 3 rfl ?_
  refine e_iconst (n := 401) (v := 5) dL_law_400 rfl (by decide) ?_
  refine e_iadd (n := 402) dL_law_401 rfl ?_
  refine e_sld (n := 403) (hi 5 (by decide) (by decide)) dL_law_402 rfl ?_
  refine e_callV (n := 406) (As := [.int (xs (i + 1).toNatClampNeg), .int (xs (i + 2).toNatClampNeg), .int (xs (i + 3).toNatClampNeg), .int (xs (i + 4).toNatClampNeg), .int (xs (i + 5).toNatClampNeg)]) (st := [.int v]) okX3_form q1540 q1541 q1542 q63 q1543 rfl (g_mg_r (t_map_o o ad s)) rfl (by decide) (by omega) (by omega) rfl rfl (Nat.le_of_ble_eq_true rfl) dL_law_403 rfl (CT.frame dj.symm (ctX3_form ok w)) (fun r9 σ9 hk => ?_)
  obtain ⟨t9, ⟨v9, s9, rfl, rfl, he, w⟩, dj2, rfl⟩ := hk
  subst he
  refine e_icmp_eq (n := 409) (tgt := 1043) dL_law_406 rfl (by decide) (fun _ => ?_) (fun h => absurd rfl h)
  rw [g_mg_comm dj2]
  refine e_widen (uc' := uc + CB) (us' := us + SB) (by omega) (by omega) ?_
  exact kk _ _ dj2.symm ⟨_, hx⟩ w
set_option maxHeartbeats 4000000 in
theorem lk_7 {b L x0 o uc us CB SB : Nat} {xs : Nat → Int32} {i : Int32} {ad : Nat → Nat} {s : TS} {σ : gH} {fs : List Value} {J : gH → TS → Prop} (ok : t_ok o ad) (dj : g_dj (t_map o ad s) σ) (hx : σ.2 x0 = some (.inr (0, fs))) (hi : ∀ j : Int32, 0 ≤ j → j ≤ 5 → vp_in (i + j) L) (hu1 : uc + CB ≤ 603072) (hu2 : us + SB ≤ 7262314)
    (w : l_op 7 (xs (i + 1).toNatClampNeg) (xs (i + 2).toNatClampNeg) (xs (i + 3).toNatClampNeg) (xs (i + 4).toNatClampNeg) (xs (i + 5).toNatClampNeg) J CB SB x0 σ s) (kk : ∀ (σ' : gH) (s' : TS), g_dj (t_map o ad s') σ' → (∃ fs, σ'.2 x0 = some (.inr (0, fs))) → J σ' s' → E mL 2048 603072 7262314 (g_lz b L xs) (uc + CB) (us + SB) 1043 [(0, .ref b), (1, .ref x0), (2, .ref o), (3, .int i)] [] (g_mg (t_map o ad s') σ')) : E mL 2048 603072 7262314 (g_lz b L xs) uc us 411 [(0, .ref b), (1, .ref x0), (2, .ref o), (3, .int i)] [] (g_mg (t_map o ad s) σ) := by
  unfold l_op at w
  simp only [opC, opT] at w
  by_cases ha : xs (i + 1).toNatClampNeg = 0
  · rw [if_pos ha] at w
    refine e_aload_n (n := 412) dL_law_411 rfl 1 rfl ?_
    refine e_aload_n (n := 413) dL_law_412 rfl 0 rfl ?_
    refine e_iload_n (n := 414) dL_law_413 rfl 3 rfl ?_
    refine e_iconst (n := 415) (v := 1) dL_law_414 rfl (by decide) ?_
    refine e_iadd (n := 416) dL_law_415 rfl ?_
    refine e_sld (n := 417) (hi 1 (by decide) (by decide)) dL_law_416 rfl ?_
    refine e_if_eq (n := 420) (tgt := 424) dL_law_417 rfl (by decide) (fun h => ?_) (fun h => absurd ha h)
    refine e_iconst (n := 425) (v := 0) dL_law_424 rfl (by decide) ?_
    refine e_callV (n := 428) (As := [.int (0)]) (st := []) okX0_fences q466 q467 q468 q57 q469 rfl (g_mg_r hx) rfl (by decide) (by omega) (by omega) rfl rfl (Nat.le_of_ble_eq_true rfl) dL_law_425 rfl (CT.frame dj (ctX0_fences w)) (fun r9 σ9 hk => ?_)
    obtain ⟨τ9, ⟨v, rfl, w⟩, dj, rfl⟩ := hk
    obtain ⟨⟨fs9, hx⟩, w⟩ := w
    rw [g_mg_comm dj]
    refine e_aload_n (n := 429) dL_law_428 rfl 2 rfl ?_
    refine e_aload_n (n := 430) dL_law_429 rfl 0 rfl ?_
    refine e_iload_n (n := 431) dL_law_430 rfl 3 rfl ?_
    refine e_iconst (n := 432) (v := 1) dL_law_431 rfl (by decide) ?_
    refine e_iadd (n := 433) dL_law_432 rfl ?_
    refine e_sld (n := 434) (hi 1 (by decide) (by decide)) dL_law_433 rfl ?_
    refine e_if_eq (n := 437) (tgt := 441) dL_law_434 rfl (by decide) (fun h => ?_) (fun h => absurd ha h)
    refine e_iconst (n := 442) (v := 0) dL_law_441 rfl (by decide) ?_
    refine e_callV (n := 445) (As := [.int (0)]) (st := [.int v]) okX3_fences q1544 q1545 q1546 q63 q1547 rfl (g_mg_r (t_map_o o ad s)) rfl (by decide) (by omega) (by omega) rfl rfl (Nat.le_of_ble_eq_true rfl) dL_law_442 rfl (CT.frame dj.symm (ctX3_fences ok w)) (fun r9 σ9 hk => ?_)
    obtain ⟨t9, ⟨v9, s9, rfl, rfl, he, w⟩, dj2, rfl⟩ := hk
    subst he
    refine e_icmp_eq (n := 448) (tgt := 1043) dL_law_445 rfl (by decide) (fun _ => ?_) (fun h => absurd rfl h)
    rw [g_mg_comm dj2]
    refine e_widen (uc' := uc + CB) (us' := us + SB) (by omega) (by omega) ?_
    exact kk _ _ dj2.symm ⟨_, hx⟩ w
  · rw [if_neg ha] at w
    refine e_aload_n (n := 412) dL_law_411 rfl 1 rfl ?_
    refine e_aload_n (n := 413) dL_law_412 rfl 0 rfl ?_
    refine e_iload_n (n := 414) dL_law_413 rfl 3 rfl ?_
    refine e_iconst (n := 415) (v := 1) dL_law_414 rfl (by decide) ?_
    refine e_iadd (n := 416) dL_law_415 rfl ?_
    refine e_sld (n := 417) (hi 1 (by decide) (by decide)) dL_law_416 rfl ?_
    refine e_if_eq (n := 420) (tgt := 424) dL_law_417 rfl (by decide) (fun h => absurd h ha) (fun h => ?_)
    refine e_iconst (n := 421) (v := 1) dL_law_420 rfl (by decide) ?_
    refine e_goto (n := 425) dL_law_421 (by decide) ?_
    refine e_callV (n := 428) (As := [.int (1)]) (st := []) okX0_fences q466 q467 q468 q57 q469 rfl (g_mg_r hx) rfl (by decide) (by omega) (by omega) rfl rfl (Nat.le_of_ble_eq_true rfl) dL_law_425 rfl (CT.frame dj (ctX0_fences w)) (fun r9 σ9 hk => ?_)
    obtain ⟨τ9, ⟨v, rfl, w⟩, dj, rfl⟩ := hk
    obtain ⟨⟨fs9, hx⟩, w⟩ := w
    rw [g_mg_comm dj]
    refine e_aload_n (n := 429) dL_law_428 rfl 2 rfl ?_
    refine e_aload_n (n := 430) dL_law_429 rfl 0 rfl ?_
    refine e_iload_n (n := 431) dL_law_430 rfl 3 rfl ?_
    refine e_iconst (n := 432) (v := 1) dL_law_431 rfl (by decide) ?_
    refine e_iadd (n := 433) dL_law_432 rfl ?_
    refine e_sld (n := 434) (hi 1 (by decide) (by decide)) dL_law_433 rfl ?_
    refine e_if_eq (n := 437) (tgt := 441) dL_law_434 rfl (by decide) (fun h => absurd h ha) (fun h => ?_)
    refine e_iconst (n := 438) (v := 1) dL_law_437 rfl (by decide) ?_
    refine e_goto (n := 442) dL_law_438 (by decide) ?_
    refine e_callV (n := 445) (As := [.int (1)]) (st := [.int v]) okX3_fences q1544 q1545 q1546 q63 q1547 rfl (g_mg_r (t_map_o o ad s)) rfl (by decide) (by omega) (by omega) rfl rfl (Nat.le_of_ble_eq_true rfl) dL_law_442 rfl (CT.frame dj.symm (ctX3_fences ok w)) (fun r9 σ9 hk => ?_)
    obtain ⟨t9, ⟨v9, s9, rfl, rfl, he, w⟩, dj2, rfl⟩ := hk
    subst he
    refine e_icmp_eq (n := 448) (tgt := 1043) dL_law_445 rfl (by decide) (fun _ => ?_) (fun h => absurd rfl h)
    rw [g_mg_comm dj2]
    refine e_widen (uc' := uc + CB) (us' := us + SB) (by omega) (by omega) ?_
    exact kk _ _ dj2.symm ⟨_, hx⟩ w
set_option maxHeartbeats 4000000 in
theorem lk_8 {b L x0 o uc us CB SB : Nat} {xs : Nat → Int32} {i : Int32} {ad : Nat → Nat} {s : TS} {σ : gH} {fs : List Value} {J : gH → TS → Prop} (ok : t_ok o ad) (dj : g_dj (t_map o ad s) σ) (hx : σ.2 x0 = some (.inr (0, fs))) (hi : ∀ j : Int32, 0 ≤ j → j ≤ 5 → vp_in (i + j) L) (hu1 : uc + CB ≤ 603072) (hu2 : us + SB ≤ 7262314)
    (w : l_op 8 (xs (i + 1).toNatClampNeg) (xs (i + 2).toNatClampNeg) (xs (i + 3).toNatClampNeg) (xs (i + 4).toNatClampNeg) (xs (i + 5).toNatClampNeg) J CB SB x0 σ s) (kk : ∀ (σ' : gH) (s' : TS), g_dj (t_map o ad s') σ' → (∃ fs, σ'.2 x0 = some (.inr (0, fs))) → J σ' s' → E mL 2048 603072 7262314 (g_lz b L xs) (uc + CB) (us + SB) 1043 [(0, .ref b), (1, .ref x0), (2, .ref o), (3, .int i)] [] (g_mg (t_map o ad s') σ')) : E mL 2048 603072 7262314 (g_lz b L xs) uc us 450 [(0, .ref b), (1, .ref x0), (2, .ref o), (3, .int i)] [] (g_mg (t_map o ad s) σ) := by
  unfold l_op at w
  simp only [opC, opT] at w
  refine e_aload_n (n := 451) dL_law_450 rfl 1 rfl ?_
  refine e_aload_n (n := 452) dL_law_451 rfl 0 rfl ?_
  refine e_iload_n (n := 453) dL_law_452 rfl 3 rfl ?_
  refine e_iconst (n := 454) (v := 1) dL_law_453 rfl (by decide) ?_
  refine e_iadd (n := 455) dL_law_454 rfl ?_
  refine e_sld (n := 456) (hi 1 (by decide) (by decide)) dL_law_455 rfl ?_
  refine e_aload_n (n := 457) dL_law_456 rfl 0 rfl ?_
  refine e_iload_n (n := 458) dL_law_457 rfl 3 rfl ?_
  refine e_iconst (n := 459) (v := 2) dL_law_458 rfl (by decide) ?_
  refine e_iadd (n := 460) dL_law_459 rfl ?_
  refine e_sld (n := 461) (hi 2 (by decide) (by decide)) dL_law_460 rfl ?_
  refine e_callV (n := 464) (As := [.int (xs (i + 1).toNatClampNeg), .int (xs (i + 2).toNatClampNeg)]) (st := []) okX0_put q470 q471 q472 q57 q473 rfl (g_mg_r hx) rfl (by decide) (by omega) (by omega) rfl rfl (Nat.le_of_ble_eq_true rfl) dL_law_461 rfl (CT.frame dj (ctX0_put w)) (fun r9 σ9 hk => ?_)
  obtain ⟨τ9, ⟨v, rfl, w⟩, dj, rfl⟩ := hk
  obtain ⟨⟨fs9, hx⟩, w⟩ := w
  rw [g_mg_comm dj]
  refine e_aload_n (n := 465) dL_law_464 rfl 2 rfl ?_
  refine e_aload_n (n := 466) dL_law_465 rfl 0 rfl ?_
  refine e_iload_n (n := 467) dL_law_466 rfl 3 rfl ?_
  refine e_iconst (n := 468) (v := 1) dL_law_467 rfl (by decide) ?_
  refine e_iadd (n := 469) dL_law_468 rfl ?_
  refine e_sld (n := 470) (hi 1 (by decide) (by decide)) dL_law_469 rfl ?_
  refine e_aload_n (n := 471) dL_law_470 rfl 0 rfl ?_
  refine e_iload_n (n := 472) dL_law_471 rfl 3 rfl ?_
  refine e_iconst (n := 473) (v := 2) dL_law_472 rfl (by decide) ?_
  refine e_iadd (n := 474) dL_law_473 rfl ?_
  refine e_sld (n := 475) (hi 2 (by decide) (by decide)) dL_law_474 rfl ?_
  refine e_callV (n := 478) (As := [.int (xs (i + 1).toNatClampNeg), .int (xs (i + 2).toNatClampNeg)]) (st := [.int v]) okX3_put q1548 q1549 q1550 q63 q1551 rfl (g_mg_r (t_map_o o ad s)) rfl (by decide) (by omega) (by omega) rfl rfl (Nat.le_of_ble_eq_true rfl) dL_law_475 rfl (CT.frame dj.symm (ctX3_put ok w)) (fun r9 σ9 hk => ?_)
  obtain ⟨t9, ⟨v9, s9, rfl, rfl, he, w⟩, dj2, rfl⟩ := hk
  subst he
  refine e_icmp_eq (n := 481) (tgt := 1043) dL_law_478 rfl (by decide) (fun _ => ?_) (fun h => absurd rfl h)
  rw [g_mg_comm dj2]
  refine e_widen (uc' := uc + CB) (us' := us + SB) (by omega) (by omega) ?_
  exact kk _ _ dj2.symm ⟨_, hx⟩ w
set_option maxHeartbeats 4000000 in
theorem lk_9 {b L x0 o uc us CB SB : Nat} {xs : Nat → Int32} {i : Int32} {ad : Nat → Nat} {s : TS} {σ : gH} {fs : List Value} {J : gH → TS → Prop} (ok : t_ok o ad) (dj : g_dj (t_map o ad s) σ) (hx : σ.2 x0 = some (.inr (0, fs))) (hi : ∀ j : Int32, 0 ≤ j → j ≤ 5 → vp_in (i + j) L) (hu1 : uc + CB ≤ 603072) (hu2 : us + SB ≤ 7262314)
    (w : l_op 9 (xs (i + 1).toNatClampNeg) (xs (i + 2).toNatClampNeg) (xs (i + 3).toNatClampNeg) (xs (i + 4).toNatClampNeg) (xs (i + 5).toNatClampNeg) J CB SB x0 σ s) (kk : ∀ (σ' : gH) (s' : TS), g_dj (t_map o ad s') σ' → (∃ fs, σ'.2 x0 = some (.inr (0, fs))) → J σ' s' → E mL 2048 603072 7262314 (g_lz b L xs) (uc + CB) (us + SB) 1043 [(0, .ref b), (1, .ref x0), (2, .ref o), (3, .int i)] [] (g_mg (t_map o ad s') σ')) : E mL 2048 603072 7262314 (g_lz b L xs) uc us 483 [(0, .ref b), (1, .ref x0), (2, .ref o), (3, .int i)] [] (g_mg (t_map o ad s) σ) := by
  unfold l_op at w
  simp only [opC, opT] at w
  refine e_aload_n (n := 484) dL_law_483 rfl 1 rfl ?_
  refine e_aload_n (n := 485) dL_law_484 rfl 0 rfl ?_
  refine e_iload_n (n := 486) dL_law_485 rfl 3 rfl ?_
  refine e_iconst (n := 487) (v := 1) dL_law_486 rfl (by decide) ?_
  refine e_iadd (n := 488) dL_law_487 rfl ?_
  refine e_sld (n := 489) (hi 1 (by decide) (by decide)) dL_law_488 rfl ?_
  refine e_callV (n := 492) (As := [.int (xs (i + 1).toNatClampNeg)]) (st := []) okX0_take q478 q479 q480 q57 q481 rfl (g_mg_r hx) rfl (by decide) (by omega) (by omega) rfl rfl (Nat.le_of_ble_eq_true rfl) dL_law_489 rfl (CT.frame dj (ctX0_take w)) (fun r9 σ9 hk => ?_)
  obtain ⟨τ9, ⟨v, rfl, w⟩, dj, rfl⟩ := hk
  obtain ⟨⟨fs9, hx⟩, w⟩ := w
  rw [g_mg_comm dj]
  refine e_aload_n (n := 493) dL_law_492 rfl 2 rfl ?_
  refine e_aload_n (n := 494) dL_law_493 rfl 0 rfl ?_
  refine e_iload_n (n := 495) dL_law_494 rfl 3 rfl ?_
  refine e_iconst (n := 496) (v := 1) dL_law_495 rfl (by decide) ?_
  refine e_iadd (n := 497) dL_law_496 rfl ?_
  refine e_sld (n := 498) (hi 1 (by decide) (by decide)) dL_law_497 rfl ?_
  refine e_callV (n := 501) (As := [.int (xs (i + 1).toNatClampNeg)]) (st := [.int v]) okX3_take q1552 q1553 q1554 q63 q1555 rfl (g_mg_r (t_map_o o ad s)) rfl (by decide) (by omega) (by omega) rfl rfl (Nat.le_of_ble_eq_true rfl) dL_law_498 rfl (CT.frame dj.symm (ctX3_take ok w)) (fun r9 σ9 hk => ?_)
  obtain ⟨t9, ⟨v9, s9, rfl, rfl, he, w⟩, dj2, rfl⟩ := hk
  subst he
  refine e_icmp_eq (n := 504) (tgt := 1043) dL_law_501 rfl (by decide) (fun _ => ?_) (fun h => absurd rfl h)
  rw [g_mg_comm dj2]
  refine e_widen (uc' := uc + CB) (us' := us + SB) (by omega) (by omega) ?_
  exact kk _ _ dj2.symm ⟨_, hx⟩ w
set_option maxHeartbeats 4000000 in
theorem lk_10 {b L x0 o uc us CB SB : Nat} {xs : Nat → Int32} {i : Int32} {ad : Nat → Nat} {s : TS} {σ : gH} {fs : List Value} {J : gH → TS → Prop} (ok : t_ok o ad) (dj : g_dj (t_map o ad s) σ) (hx : σ.2 x0 = some (.inr (0, fs))) (hi : ∀ j : Int32, 0 ≤ j → j ≤ 5 → vp_in (i + j) L) (hu1 : uc + CB ≤ 603072) (hu2 : us + SB ≤ 7262314)
    (w : l_op 10 (xs (i + 1).toNatClampNeg) (xs (i + 2).toNatClampNeg) (xs (i + 3).toNatClampNeg) (xs (i + 4).toNatClampNeg) (xs (i + 5).toNatClampNeg) J CB SB x0 σ s) (kk : ∀ (σ' : gH) (s' : TS), g_dj (t_map o ad s') σ' → (∃ fs, σ'.2 x0 = some (.inr (0, fs))) → J σ' s' → E mL 2048 603072 7262314 (g_lz b L xs) (uc + CB) (us + SB) 1043 [(0, .ref b), (1, .ref x0), (2, .ref o), (3, .int i)] [] (g_mg (t_map o ad s') σ')) : E mL 2048 603072 7262314 (g_lz b L xs) uc us 506 [(0, .ref b), (1, .ref x0), (2, .ref o), (3, .int i)] [] (g_mg (t_map o ad s) σ) := by
  unfold l_op at w
  simp only [opC, opT] at w
  refine e_aload_n (n := 507) dL_law_506 rfl 1 rfl ?_
  refine e_aload_n (n := 508) dL_law_507 rfl 0 rfl ?_
  refine e_iload_n (n := 509) dL_law_508 rfl 3 rfl ?_
  refine e_iconst (n := 510) (v := 1) dL_law_509 rfl (by decide) ?_
  refine e_iadd (n := 511) dL_law_510 rfl ?_
  refine e_sld (n := 512) (hi 1 (by decide) (by decide)) dL_law_511 rfl ?_
  refine e_callV (n := 515) (As := [.int (xs (i + 1).toNatClampNeg)]) (st := []) okX0_at q482 q483 q484 q57 q485 rfl (g_mg_r hx) rfl (by decide) (by omega) (by omega) rfl rfl (Nat.le_of_ble_eq_true rfl) dL_law_512 rfl (CT.frame dj (ctX0_at w)) (fun r9 σ9 hk => ?_)
  obtain ⟨τ9, ⟨v, rfl, hs9, w⟩, dj, rfl⟩ := hk
  subst hs9
  obtain ⟨⟨fs9, hx⟩, w⟩ := w
  rw [g_mg_comm dj]
  refine e_aload_n (n := 516) dL_law_515 rfl 2 rfl ?_
  refine e_aload_n (n := 517) dL_law_516 rfl 0 rfl ?_
  refine e_iload_n (n := 518) dL_law_517 rfl 3 rfl ?_
  refine e_iconst (n := 519) (v := 1) dL_law_518 rfl (by decide) ?_
  refine e_iadd (n := 520) dL_law_519 rfl ?_
  refine e_sld (n := 521) (hi 1 (by decide) (by decide)) dL_law_520 rfl ?_
  refine e_callV (n := 524) (As := [.int (xs (i + 1).toNatClampNeg)]) (st := [.int v]) okX3_at q1556 q1557 q1558 q63 q1559 rfl (g_mg_r (t_map_o o ad s)) rfl (by decide) (by omega) (by omega) rfl rfl (Nat.le_of_ble_eq_true rfl) dL_law_521 rfl (CT.frame dj.symm (ctX3_at ok w)) (fun r9 σ9 hk => ?_)
  obtain ⟨t9, ⟨v9, s9, rfl, rfl, he, w⟩, dj2, rfl⟩ := hk
  subst he
  refine e_icmp_eq (n := 527) (tgt := 1043) dL_law_524 rfl (by decide) (fun _ => ?_) (fun h => absurd rfl h)
  rw [g_mg_comm dj2]
  refine e_widen (uc' := uc + CB) (us' := us + SB) (by omega) (by omega) ?_
  exact kk _ _ dj2.symm ⟨_, hx⟩ w
set_option maxHeartbeats 4000000 in
theorem lk_11 {b L x0 o uc us CB SB : Nat} {xs : Nat → Int32} {i : Int32} {ad : Nat → Nat} {s : TS} {σ : gH} {fs : List Value} {J : gH → TS → Prop} (ok : t_ok o ad) (dj : g_dj (t_map o ad s) σ) (hx : σ.2 x0 = some (.inr (0, fs))) (hi : ∀ j : Int32, 0 ≤ j → j ≤ 5 → vp_in (i + j) L) (hu1 : uc + CB ≤ 603072) (hu2 : us + SB ≤ 7262314)
    (w : l_op 11 (xs (i + 1).toNatClampNeg) (xs (i + 2).toNatClampNeg) (xs (i + 3).toNatClampNeg) (xs (i + 4).toNatClampNeg) (xs (i + 5).toNatClampNeg) J CB SB x0 σ s) (kk : ∀ (σ' : gH) (s' : TS), g_dj (t_map o ad s') σ' → (∃ fs, σ'.2 x0 = some (.inr (0, fs))) → J σ' s' → E mL 2048 603072 7262314 (g_lz b L xs) (uc + CB) (us + SB) 1043 [(0, .ref b), (1, .ref x0), (2, .ref o), (3, .int i)] [] (g_mg (t_map o ad s') σ')) : E mL 2048 603072 7262314 (g_lz b L xs) uc us 529 [(0, .ref b), (1, .ref x0), (2, .ref o), (3, .int i)] [] (g_mg (t_map o ad s) σ) := by
  unfold l_op at w
  simp only [opC, opT] at w
  refine e_aload_n (n := 530) dL_law_529 rfl 1 rfl ?_
  refine e_callV (n := 533) (As := []) (st := []) okX0_read q486 q487 q488 q57 q489 rfl (g_mg_r hx) rfl (by decide) (by omega) (by omega) rfl rfl (Nat.le_of_ble_eq_true rfl) dL_law_530 rfl (CT.frame dj (ctX0_read w)) (fun r9 σ9 hk => ?_)
  obtain ⟨τ9, ⟨v, rfl, w⟩, dj, rfl⟩ := hk
  obtain ⟨⟨fs9, hx⟩, w⟩ := w
  rw [g_mg_comm dj]
  refine e_aload_n (n := 534) dL_law_533 rfl 2 rfl ?_
  refine e_callV (n := 537) (As := []) (st := [.int v]) okX3_read q1560 q1561 q1562 q63 q1563 rfl (g_mg_r (t_map_o o ad s)) rfl (by decide) (by omega) (by omega) rfl rfl (Nat.le_of_ble_eq_true rfl) dL_law_534 rfl (CT.frame dj.symm (ctX3_read ok w)) (fun r9 σ9 hk => ?_)
  obtain ⟨t9, ⟨v9, s9, rfl, rfl, he, w⟩, dj2, rfl⟩ := hk
  subst he
  refine e_icmp_eq (n := 540) (tgt := 1043) dL_law_537 rfl (by decide) (fun _ => ?_) (fun h => absurd rfl h)
  rw [g_mg_comm dj2]
  refine e_widen (uc' := uc + CB) (us' := us + SB) (by omega) (by omega) ?_
  exact kk _ _ dj2.symm ⟨_, hx⟩ w
set_option maxHeartbeats 4000000 in
theorem lk_12 {b L x0 o uc us CB SB : Nat} {xs : Nat → Int32} {i : Int32} {ad : Nat → Nat} {s : TS} {σ : gH} {fs : List Value} {J : gH → TS → Prop} (ok : t_ok o ad) (dj : g_dj (t_map o ad s) σ) (hx : σ.2 x0 = some (.inr (0, fs))) (hi : ∀ j : Int32, 0 ≤ j → j ≤ 5 → vp_in (i + j) L) (hu1 : uc + CB ≤ 603072) (hu2 : us + SB ≤ 7262314)
    (w : l_op 12 (xs (i + 1).toNatClampNeg) (xs (i + 2).toNatClampNeg) (xs (i + 3).toNatClampNeg) (xs (i + 4).toNatClampNeg) (xs (i + 5).toNatClampNeg) J CB SB x0 σ s) (kk : ∀ (σ' : gH) (s' : TS), g_dj (t_map o ad s') σ' → (∃ fs, σ'.2 x0 = some (.inr (0, fs))) → J σ' s' → E mL 2048 603072 7262314 (g_lz b L xs) (uc + CB) (us + SB) 1043 [(0, .ref b), (1, .ref x0), (2, .ref o), (3, .int i)] [] (g_mg (t_map o ad s') σ')) : E mL 2048 603072 7262314 (g_lz b L xs) uc us 542 [(0, .ref b), (1, .ref x0), (2, .ref o), (3, .int i)] [] (g_mg (t_map o ad s) σ) := by
  unfold l_op at w
  simp only [opC, opT] at w
  refine e_aload_n (n := 543) dL_law_542 rfl 1 rfl ?_
  refine e_aload_n (n := 544) dL_law_543 rfl 0 rfl ?_
  refine e_iload_n (n := 545) dL_law_544 rfl 3 rfl ?_
  refine e_iconst (n := 546) (v := 1) dL_law_545 rfl (by decide) ?_
  refine e_iadd (n := 547) dL_law_546 rfl ?_
  refine e_sld (n := 548) (hi 1 (by decide) (by decide)) dL_law_547 rfl ?_
  refine e_aload_n (n := 549) dL_law_548 rfl 0 rfl ?_
  refine e_iload_n (n := 550) dL_law_549 rfl 3 rfl ?_
  refine e_iconst (n := 551) (v := 2) dL_law_550 rfl (by decide) ?_
  refine e_iadd (n := 552) dL_law_551 rfl ?_
  refine e_sld (n := 553) (hi 2 (by decide) (by decide)) dL_law_552 rfl ?_
  refine e_callV (n := 556) (As := [.int (xs (i + 1).toNatClampNeg), .int (xs (i + 2).toNatClampNeg)]) (st := []) okX0_only q1073 q1074 q1075 q57 q1076 rfl (g_mg_r hx) rfl (by decide) (by omega) (by omega) rfl rfl (Nat.le_of_ble_eq_true rfl) dL_law_553 rfl (CT.frame dj (ctX0_only w)) (fun r9 σ9 hk => ?_)
  obtain ⟨τ9, ⟨v, rfl, w⟩, dj, rfl⟩ := hk
  obtain ⟨⟨fs9, hx⟩, w⟩ := w
  rw [g_mg_comm dj]
  refine e_aload_n (n := 557) dL_law_556 rfl 2 rfl ?_
  refine e_aload_n (n := 558) dL_law_557 rfl 0 rfl ?_
  refine e_iload_n (n := 559) dL_law_558 rfl 3 rfl ?_
  refine e_iconst (n := 560) (v := 1) dL_law_559 rfl (by decide) ?_
  refine e_iadd (n := 561) dL_law_560 rfl ?_
  refine e_sld (n := 562) (hi 1 (by decide) (by decide)) dL_law_561 rfl ?_
  refine e_aload_n (n := 563) dL_law_562 rfl 0 rfl ?_
  refine e_iload_n (n := 564) dL_law_563 rfl 3 rfl ?_
  refine e_iconst (n := 565) (v := 2) dL_law_564 rfl (by decide) ?_
  refine e_iadd (n := 566) dL_law_565 rfl ?_
  refine e_sld (n := 567) (hi 2 (by decide) (by decide)) dL_law_566 rfl ?_
  refine e_callV (n := 570) (As := [.int (xs (i + 1).toNatClampNeg), .int (xs (i + 2).toNatClampNeg)]) (st := [.int v]) okX3_only q1678 q1679 q1680 q63 q1681 rfl (g_mg_r (t_map_o o ad s)) rfl (by decide) (by omega) (by omega) rfl rfl (Nat.le_of_ble_eq_true rfl) dL_law_567 rfl (CT.frame dj.symm (ctX3_only ok w)) (fun r9 σ9 hk => ?_)
  obtain ⟨t9, ⟨v9, s9, rfl, rfl, he, w⟩, dj2, rfl⟩ := hk
  subst he
  refine e_icmp_eq (n := 573) (tgt := 1043) dL_law_570 rfl (by decide) (fun _ => ?_) (fun h => absurd rfl h)
  rw [g_mg_comm dj2]
  refine e_widen (uc' := uc + CB) (us' := us + SB) (by omega) (by omega) ?_
  exact kk _ _ dj2.symm ⟨_, hx⟩ w
set_option maxHeartbeats 4000000 in
theorem lk_13 {b L x0 o uc us CB SB : Nat} {xs : Nat → Int32} {i : Int32} {ad : Nat → Nat} {s : TS} {σ : gH} {fs : List Value} {J : gH → TS → Prop} (ok : t_ok o ad) (dj : g_dj (t_map o ad s) σ) (hx : σ.2 x0 = some (.inr (0, fs))) (hi : ∀ j : Int32, 0 ≤ j → j ≤ 5 → vp_in (i + j) L) (hu1 : uc + CB ≤ 603072) (hu2 : us + SB ≤ 7262314)
    (w : l_op 13 (xs (i + 1).toNatClampNeg) (xs (i + 2).toNatClampNeg) (xs (i + 3).toNatClampNeg) (xs (i + 4).toNatClampNeg) (xs (i + 5).toNatClampNeg) J CB SB x0 σ s) (kk : ∀ (σ' : gH) (s' : TS), g_dj (t_map o ad s') σ' → (∃ fs, σ'.2 x0 = some (.inr (0, fs))) → J σ' s' → E mL 2048 603072 7262314 (g_lz b L xs) (uc + CB) (us + SB) 1043 [(0, .ref b), (1, .ref x0), (2, .ref o), (3, .int i)] [] (g_mg (t_map o ad s') σ')) : E mL 2048 603072 7262314 (g_lz b L xs) uc us 575 [(0, .ref b), (1, .ref x0), (2, .ref o), (3, .int i)] [] (g_mg (t_map o ad s) σ) := by
  unfold l_op at w
  simp only [opC, opT] at w
  refine e_aload_n (n := 576) dL_law_575 rfl 1 rfl ?_
  refine e_callV (n := 579) (As := []) (st := []) okX0_complete q1077 q1078 q1079 q57 q1080 rfl (g_mg_r hx) rfl (by decide) (by omega) (by omega) rfl rfl (Nat.le_of_ble_eq_true rfl) dL_law_576 rfl (CT.frame dj (ctX0_complete w)) (fun r9 σ9 hk => ?_)
  obtain ⟨τ9, ⟨v, rfl, w⟩, dj, rfl⟩ := hk
  obtain ⟨⟨fs9, hx⟩, w⟩ := w
  rw [g_mg_comm dj]
  refine e_aload_n (n := 580) dL_law_579 rfl 2 rfl ?_
  refine e_callV (n := 583) (As := []) (st := [.int v]) okX3_complete q1682 q1683 q1684 q63 q1685 rfl (g_mg_r (t_map_o o ad s)) rfl (by decide) (by omega) (by omega) rfl rfl (Nat.le_of_ble_eq_true rfl) dL_law_580 rfl (CT.frame dj.symm (ctX3_complete ok w)) (fun r9 σ9 hk => ?_)
  obtain ⟨t9, ⟨v9, s9, rfl, rfl, he, w⟩, dj2, rfl⟩ := hk
  subst he
  refine e_icmp_eq (n := 586) (tgt := 1043) dL_law_583 rfl (by decide) (fun _ => ?_) (fun h => absurd rfl h)
  rw [g_mg_comm dj2]
  refine e_widen (uc' := uc + CB) (us' := us + SB) (by omega) (by omega) ?_
  exact kk _ _ dj2.symm ⟨_, hx⟩ w
set_option maxHeartbeats 4000000 in
theorem lk_14 {b L x0 o uc us CB SB : Nat} {xs : Nat → Int32} {i : Int32} {ad : Nat → Nat} {s : TS} {σ : gH} {fs : List Value} {J : gH → TS → Prop} (ok : t_ok o ad) (dj : g_dj (t_map o ad s) σ) (hx : σ.2 x0 = some (.inr (0, fs))) (hi : ∀ j : Int32, 0 ≤ j → j ≤ 5 → vp_in (i + j) L) (hu1 : uc + CB ≤ 603072) (hu2 : us + SB ≤ 7262314)
    (w : l_op 14 (xs (i + 1).toNatClampNeg) (xs (i + 2).toNatClampNeg) (xs (i + 3).toNatClampNeg) (xs (i + 4).toNatClampNeg) (xs (i + 5).toNatClampNeg) J CB SB x0 σ s) (kk : ∀ (σ' : gH) (s' : TS), g_dj (t_map o ad s') σ' → (∃ fs, σ'.2 x0 = some (.inr (0, fs))) → J σ' s' → E mL 2048 603072 7262314 (g_lz b L xs) (uc + CB) (us + SB) 1043 [(0, .ref b), (1, .ref x0), (2, .ref o), (3, .int i)] [] (g_mg (t_map o ad s') σ')) : E mL 2048 603072 7262314 (g_lz b L xs) uc us 588 [(0, .ref b), (1, .ref x0), (2, .ref o), (3, .int i)] [] (g_mg (t_map o ad s) σ) := by
  unfold l_op at w
  simp only [opC, opT] at w
  refine e_aload_n (n := 589) dL_law_588 rfl 1 rfl ?_
  refine e_callV (n := 592) (As := []) (st := []) okX0_begins q1081 q1082 q1083 q57 q1084 rfl (g_mg_r hx) rfl (by decide) (by omega) (by omega) rfl rfl (Nat.le_of_ble_eq_true rfl) dL_law_589 rfl (CT.frame dj (ctX0_begins w)) (fun r9 σ9 hk => ?_)
  obtain ⟨τ9, ⟨v, rfl, w⟩, dj, rfl⟩ := hk
  obtain ⟨⟨fs9, hx⟩, w⟩ := w
  rw [g_mg_comm dj]
  refine e_aload_n (n := 593) dL_law_592 rfl 2 rfl ?_
  refine e_callV (n := 596) (As := []) (st := [.int v]) okX3_begins q1686 q1687 q1688 q63 q1689 rfl (g_mg_r (t_map_o o ad s)) rfl (by decide) (by omega) (by omega) rfl rfl (Nat.le_of_ble_eq_true rfl) dL_law_593 rfl (CT.frame dj.symm (ctX3_begins ok w)) (fun r9 σ9 hk => ?_)
  obtain ⟨t9, ⟨v9, s9, rfl, rfl, he, w⟩, dj2, rfl⟩ := hk
  subst he
  refine e_icmp_eq (n := 599) (tgt := 1043) dL_law_596 rfl (by decide) (fun _ => ?_) (fun h => absurd rfl h)
  rw [g_mg_comm dj2]
  refine e_widen (uc' := uc + CB) (us' := us + SB) (by omega) (by omega) ?_
  exact kk _ _ dj2.symm ⟨_, hx⟩ w
set_option maxHeartbeats 4000000 in
theorem lk_15 {b L x0 o uc us CB SB : Nat} {xs : Nat → Int32} {i : Int32} {ad : Nat → Nat} {s : TS} {σ : gH} {fs : List Value} {J : gH → TS → Prop} (ok : t_ok o ad) (dj : g_dj (t_map o ad s) σ) (hx : σ.2 x0 = some (.inr (0, fs))) (hi : ∀ j : Int32, 0 ≤ j → j ≤ 5 → vp_in (i + j) L) (hu1 : uc + CB ≤ 603072) (hu2 : us + SB ≤ 7262314)
    (w : l_op 15 (xs (i + 1).toNatClampNeg) (xs (i + 2).toNatClampNeg) (xs (i + 3).toNatClampNeg) (xs (i + 4).toNatClampNeg) (xs (i + 5).toNatClampNeg) J CB SB x0 σ s) (kk : ∀ (σ' : gH) (s' : TS), g_dj (t_map o ad s') σ' → (∃ fs, σ'.2 x0 = some (.inr (0, fs))) → J σ' s' → E mL 2048 603072 7262314 (g_lz b L xs) (uc + CB) (us + SB) 1043 [(0, .ref b), (1, .ref x0), (2, .ref o), (3, .int i)] [] (g_mg (t_map o ad s') σ')) : E mL 2048 603072 7262314 (g_lz b L xs) uc us 601 [(0, .ref b), (1, .ref x0), (2, .ref o), (3, .int i)] [] (g_mg (t_map o ad s) σ) := by
  unfold l_op at w
  simp only [opC, opT] at w
  refine e_aload_n (n := 602) dL_law_601 rfl 1 rfl ?_
  refine e_aload_n (n := 603) dL_law_602 rfl 0 rfl ?_
  refine e_iload_n (n := 604) dL_law_603 rfl 3 rfl ?_
  refine e_iconst (n := 605) (v := 1) dL_law_604 rfl (by decide) ?_
  refine e_iadd (n := 606) dL_law_605 rfl ?_
  refine e_sld (n := 607) (hi 1 (by decide) (by decide)) dL_law_606 rfl ?_
  refine e_callV (n := 610) (As := [.int (xs (i + 1).toNatClampNeg)]) (st := []) okX0_wanted q1085 q1086 q1087 q57 q1088 rfl (g_mg_r hx) rfl (by decide) (by omega) (by omega) rfl rfl (Nat.le_of_ble_eq_true rfl) dL_law_607 rfl (CT.frame dj (ctX0_wanted w)) (fun r9 σ9 hk => ?_)
  obtain ⟨τ9, ⟨v, rfl, w⟩, dj, rfl⟩ := hk
  obtain ⟨⟨fs9, hx⟩, w⟩ := w
  rw [g_mg_comm dj]
  refine e_aload_n (n := 611) dL_law_610 rfl 2 rfl ?_
  refine e_aload_n (n := 612) dL_law_611 rfl 0 rfl ?_
  refine e_iload_n (n := 613) dL_law_612 rfl 3 rfl ?_
  refine e_iconst (n := 614) (v := 1) dL_law_613 rfl (by decide) ?_
  refine e_iadd (n := 615) dL_law_614 rfl ?_
  refine e_sld (n := 616) (hi 1 (by decide) (by decide)) dL_law_615 rfl ?_
  refine e_callV (n := 619) (As := [.int (xs (i + 1).toNatClampNeg)]) (st := [.int v]) okX3_wanted q1690 q1691 q1692 q63 q1693 rfl (g_mg_r (t_map_o o ad s)) rfl (by decide) (by omega) (by omega) rfl rfl (Nat.le_of_ble_eq_true rfl) dL_law_616 rfl (CT.frame dj.symm (ctX3_wanted ok w)) (fun r9 σ9 hk => ?_)
  obtain ⟨t9, ⟨v9, s9, rfl, rfl, he, w⟩, dj2, rfl⟩ := hk
  subst he
  refine e_icmp_eq (n := 622) (tgt := 1043) dL_law_619 rfl (by decide) (fun _ => ?_) (fun h => absurd rfl h)
  rw [g_mg_comm dj2]
  refine e_widen (uc' := uc + CB) (us' := us + SB) (by omega) (by omega) ?_
  exact kk _ _ dj2.symm ⟨_, hx⟩ w
set_option maxHeartbeats 4000000 in
theorem lk_16 {b L x0 o uc us CB SB : Nat} {xs : Nat → Int32} {i : Int32} {ad : Nat → Nat} {s : TS} {σ : gH} {fs : List Value} {J : gH → TS → Prop} (ok : t_ok o ad) (dj : g_dj (t_map o ad s) σ) (hx : σ.2 x0 = some (.inr (0, fs))) (hi : ∀ j : Int32, 0 ≤ j → j ≤ 5 → vp_in (i + j) L) (hu1 : uc + CB ≤ 603072) (hu2 : us + SB ≤ 7262314)
    (w : l_op 16 (xs (i + 1).toNatClampNeg) (xs (i + 2).toNatClampNeg) (xs (i + 3).toNatClampNeg) (xs (i + 4).toNatClampNeg) (xs (i + 5).toNatClampNeg) J CB SB x0 σ s) (kk : ∀ (σ' : gH) (s' : TS), g_dj (t_map o ad s') σ' → (∃ fs, σ'.2 x0 = some (.inr (0, fs))) → J σ' s' → E mL 2048 603072 7262314 (g_lz b L xs) (uc + CB) (us + SB) 1043 [(0, .ref b), (1, .ref x0), (2, .ref o), (3, .int i)] [] (g_mg (t_map o ad s') σ')) : E mL 2048 603072 7262314 (g_lz b L xs) uc us 624 [(0, .ref b), (1, .ref x0), (2, .ref o), (3, .int i)] [] (g_mg (t_map o ad s) σ) := by
  unfold l_op at w
  simp only [opC, opT] at w
  refine e_aload_n (n := 625) dL_law_624 rfl 1 rfl ?_
  refine e_aload_n (n := 626) dL_law_625 rfl 0 rfl ?_
  refine e_iload_n (n := 627) dL_law_626 rfl 3 rfl ?_
  refine e_iconst (n := 628) (v := 1) dL_law_627 rfl (by decide) ?_
  refine e_iadd (n := 629) dL_law_628 rfl ?_
  refine e_sld (n := 630) (hi 1 (by decide) (by decide)) dL_law_629 rfl ?_
  refine e_aload_n (n := 631) dL_law_630 rfl 0 rfl ?_
  refine e_iload_n (n := 632) dL_law_631 rfl 3 rfl ?_
  refine e_iconst (n := 633) (v := 2) dL_law_632 rfl (by decide) ?_
  refine e_iadd (n := 634) dL_law_633 rfl ?_
  refine e_sld (n := 635) (hi 2 (by decide) (by decide)) dL_law_634 rfl ?_
  refine e_aload_n (n := 636) dL_law_635 rfl 0 rfl ?_
  refine e_iload_n (n := 637) dL_law_636 rfl 3 rfl ?_
  refine e_iconst (n := 638) (v := 3) dL_law_637 rfl (by decide) ?_
  refine e_iadd (n := 639) dL_law_638 rfl ?_
  refine e_sld (n := 640) (hi 3 (by decide) (by decide)) dL_law_639 rfl ?_
  refine e_callV (n := 643) (As := [.int (xs (i + 1).toNatClampNeg), .int (xs (i + 2).toNatClampNeg), .int (xs (i + 3).toNatClampNeg)]) (st := []) okX0_stretch q1089 q1090 q1091 q57 q1092 rfl (g_mg_r hx) rfl (by decide) (by omega) (by omega) rfl rfl (Nat.le_of_ble_eq_true rfl) dL_law_640 rfl (CT.frame dj (ctX0_stretch w)) (fun r9 σ9 hk => ?_)
  obtain ⟨τ9, ⟨v, rfl, w⟩, dj, rfl⟩ := hk
  obtain ⟨⟨fs9, hx⟩, w⟩ := w
  rw [g_mg_comm dj]
  refine e_aload_n (n := 644) dL_law_643 rfl 2 rfl ?_
  refine e_aload_n (n := 645) dL_law_644 rfl 0 rfl ?_
  refine e_iload_n (n := 646) dL_law_645 rfl 3 rfl ?_
  refine e_iconst (n := 647) (v := 1) dL_law_646 rfl (by decide) ?_
  refine e_iadd (n := 648) dL_law_647 rfl ?_
  refine e_sld (n := 649) (hi 1 (by decide) (by decide)) dL_law_648 rfl ?_
  refine e_aload_n (n := 650) dL_law_649 rfl 0 rfl ?_
  refine e_iload_n (n := 651) dL_law_650 rfl 3 rfl ?_
  refine e_iconst (n := 652) (v := 2) dL_law_651 rfl (by decide) ?_
  refine e_iadd (n := 653) dL_law_652 rfl ?_
  refine e_sld (n := 654) (hi 2 (by decide) (by decide)) dL_law_653 rfl ?_
  refine e_aload_n (n := 655) dL_law_654 rfl 0 rfl ?_
  refine e_iload_n (n := 656) dL_law_655 rfl 3 rfl ?_
  refine e_iconst (n := 657) (v := 3) dL_law_656 rfl (by decide) ?_
  refine e_iadd (n := 658) dL_law_657 rfl ?_
  refine e_sld (n := 659) (hi 3 (by decide) (by decide)) dL_law_658 rfl ?_
  refine e_callV (n := 662) (As := [.int (xs (i + 1).toNatClampNeg), .int (xs (i + 2).toNatClampNeg), .int (xs (i + 3).toNatClampNeg)]) (st := [.int v]) okX3_stretch q1694 q1695 q1696 q63 q1697 rfl (g_mg_r (t_map_o o ad s)) rfl (by decide) (by omega) (by omega) rfl rfl (Nat.le_of_ble_eq_true rfl) dL_law_659 rfl (CT.frame dj.symm (ctX3_stretch ok w)) (fun r9 σ9 hk => ?_)
  obtain ⟨t9, ⟨v9, s9, rfl, rfl, he, w⟩, dj2, rfl⟩ := hk
  subst he
  refine e_icmp_eq (n := 665) (tgt := 1043) dL_law_662 rfl (by decide) (fun _ => ?_) (fun h => absurd rfl h)
  rw [g_mg_comm dj2]
  refine e_widen (uc' := uc + CB) (us' := us + SB) (by omega) (by omega) ?_
  exact kk _ _ dj2.symm ⟨_, hx⟩ w
set_option maxHeartbeats 4000000 in
theorem lk_17 {b L x0 o uc us CB SB : Nat} {xs : Nat → Int32} {i : Int32} {ad : Nat → Nat} {s : TS} {σ : gH} {fs : List Value} {J : gH → TS → Prop} (ok : t_ok o ad) (dj : g_dj (t_map o ad s) σ) (hx : σ.2 x0 = some (.inr (0, fs))) (hi : ∀ j : Int32, 0 ≤ j → j ≤ 5 → vp_in (i + j) L) (hu1 : uc + CB ≤ 603072) (hu2 : us + SB ≤ 7262314)
    (w : l_op 17 (xs (i + 1).toNatClampNeg) (xs (i + 2).toNatClampNeg) (xs (i + 3).toNatClampNeg) (xs (i + 4).toNatClampNeg) (xs (i + 5).toNatClampNeg) J CB SB x0 σ s) (kk : ∀ (σ' : gH) (s' : TS), g_dj (t_map o ad s') σ' → (∃ fs, σ'.2 x0 = some (.inr (0, fs))) → J σ' s' → E mL 2048 603072 7262314 (g_lz b L xs) (uc + CB) (us + SB) 1043 [(0, .ref b), (1, .ref x0), (2, .ref o), (3, .int i)] [] (g_mg (t_map o ad s') σ')) : E mL 2048 603072 7262314 (g_lz b L xs) uc us 667 [(0, .ref b), (1, .ref x0), (2, .ref o), (3, .int i)] [] (g_mg (t_map o ad s) σ) := by
  unfold l_op at w
  simp only [opC, opT] at w
  refine e_aload_n (n := 668) dL_law_667 rfl 1 rfl ?_
  refine e_aload_n (n := 669) dL_law_668 rfl 0 rfl ?_
  refine e_iload_n (n := 670) dL_law_669 rfl 3 rfl ?_
  refine e_iconst (n := 671) (v := 1) dL_law_670 rfl (by decide) ?_
  refine e_iadd (n := 672) dL_law_671 rfl ?_
  refine e_sld (n := 673) (hi 1 (by decide) (by decide)) dL_law_672 rfl ?_
  refine e_callW (n := 676) (As := [.int (xs (i + 1).toNatClampNeg)]) (st := []) okX0_distance q1315 q1316 q1317 q57 q1318 rfl (g_mg_r hx) rfl (by decide) (by omega) (by omega) rfl rfl (Nat.le_of_ble_eq_true rfl) dL_law_673 rfl (CTW.frame dj (ctX0_distance w)) (fun r9 σ9 hk => ?_)
  obtain ⟨τ9, ⟨v, rfl, w⟩, dj, rfl⟩ := hk
  obtain ⟨⟨fs9, hx⟩, w⟩ := w
  rw [g_mg_comm dj]
  refine e_aload_n (n := 677) dL_law_676 rfl 2 rfl ?_
  refine e_aload_n (n := 678) dL_law_677 rfl 0 rfl ?_
  refine e_iload_n (n := 679) dL_law_678 rfl 3 rfl ?_
  refine e_iconst (n := 680) (v := 1) dL_law_679 rfl (by decide) ?_
  refine e_iadd (n := 681) dL_law_680 rfl ?_
  refine e_sld (n := 682) (hi 1 (by decide) (by decide)) dL_law_681 rfl ?_
  refine e_callV (n := 685) (As := [.int (xs (i + 1).toNatClampNeg)]) (st := [.int v]) okX3_distance q1727 q1728 q1729 q63 q1730 rfl (g_mg_r (t_map_o o ad s)) rfl (by decide) (by omega) (by omega) rfl rfl (Nat.le_of_ble_eq_true rfl) dL_law_682 rfl (CT.frame dj.symm (ctX3_distance ok w)) (fun r9 σ9 hk => ?_)
  obtain ⟨t9, ⟨v9, s9, rfl, rfl, he, w⟩, dj2, rfl⟩ := hk
  subst he
  refine e_icmp_eq (n := 688) (tgt := 1043) dL_law_685 rfl (by decide) (fun _ => ?_) (fun h => absurd rfl h)
  rw [g_mg_comm dj2]
  refine e_widen (uc' := uc + CB) (us' := us + SB) (by omega) (by omega) ?_
  exact kk _ _ dj2.symm ⟨_, hx⟩ w
set_option maxHeartbeats 4000000 in
theorem lk_18 {b L x0 o uc us CB SB : Nat} {xs : Nat → Int32} {i : Int32} {ad : Nat → Nat} {s : TS} {σ : gH} {fs : List Value} {J : gH → TS → Prop} (ok : t_ok o ad) (dj : g_dj (t_map o ad s) σ) (hx : σ.2 x0 = some (.inr (0, fs))) (hi : ∀ j : Int32, 0 ≤ j → j ≤ 5 → vp_in (i + j) L) (hu1 : uc + CB ≤ 603072) (hu2 : us + SB ≤ 7262314)
    (w : l_op 18 (xs (i + 1).toNatClampNeg) (xs (i + 2).toNatClampNeg) (xs (i + 3).toNatClampNeg) (xs (i + 4).toNatClampNeg) (xs (i + 5).toNatClampNeg) J CB SB x0 σ s) (kk : ∀ (σ' : gH) (s' : TS), g_dj (t_map o ad s') σ' → (∃ fs, σ'.2 x0 = some (.inr (0, fs))) → J σ' s' → E mL 2048 603072 7262314 (g_lz b L xs) (uc + CB) (us + SB) 1043 [(0, .ref b), (1, .ref x0), (2, .ref o), (3, .int i)] [] (g_mg (t_map o ad s') σ')) : E mL 2048 603072 7262314 (g_lz b L xs) uc us 690 [(0, .ref b), (1, .ref x0), (2, .ref o), (3, .int i)] [] (g_mg (t_map o ad s) σ) := by
  unfold l_op at w
  simp only [opC, opT] at w
  refine e_aload_n (n := 691) dL_law_690 rfl 1 rfl ?_
  refine e_aload_n (n := 692) dL_law_691 rfl 0 rfl ?_
  refine e_iload_n (n := 693) dL_law_692 rfl 3 rfl ?_
  refine e_iconst (n := 694) (v := 1) dL_law_693 rfl (by decide) ?_
  refine e_iadd (n := 695) dL_law_694 rfl ?_
  refine e_sld (n := 696) (hi 1 (by decide) (by decide)) dL_law_695 rfl ?_
  refine e_callV (n := 699) (As := [.int (xs (i + 1).toNatClampNeg)]) (st := []) okX0_told q1094 q1095 q1096 q57 q1097 rfl (g_mg_r hx) rfl (by decide) (by omega) (by omega) rfl rfl (Nat.le_of_ble_eq_true rfl) dL_law_696 rfl (CT.frame dj (ctX0_told w)) (fun r9 σ9 hk => ?_)
  obtain ⟨τ9, ⟨v, rfl, hs9, w⟩, dj, rfl⟩ := hk
  subst hs9
  obtain ⟨⟨fs9, hx⟩, w⟩ := w
  rw [g_mg_comm dj]
  refine e_aload_n (n := 700) dL_law_699 rfl 2 rfl ?_
  refine e_aload_n (n := 701) dL_law_700 rfl 0 rfl ?_
  refine e_iload_n (n := 702) dL_law_701 rfl 3 rfl ?_
  refine e_iconst (n := 703) (v := 1) dL_law_702 rfl (by decide) ?_
  refine e_iadd (n := 704) dL_law_703 rfl ?_
  refine e_sld (n := 705) (hi 1 (by decide) (by decide)) dL_law_704 rfl ?_
  refine e_callV (n := 708) (As := [.int (xs (i + 1).toNatClampNeg)]) (st := [.int v]) okX3_told q1731 q1732 q1733 q63 q1734 rfl (g_mg_r (t_map_o o ad s)) rfl (by decide) (by omega) (by omega) rfl rfl (Nat.le_of_ble_eq_true rfl) dL_law_705 rfl (CT.frame dj.symm (ctX3_told ok w)) (fun r9 σ9 hk => ?_)
  obtain ⟨t9, ⟨v9, s9, rfl, rfl, he, w⟩, dj2, rfl⟩ := hk
  subst he
  refine e_icmp_eq (n := 711) (tgt := 1043) dL_law_708 rfl (by decide) (fun _ => ?_) (fun h => absurd rfl h)
  rw [g_mg_comm dj2]
  refine e_widen (uc' := uc + CB) (us' := us + SB) (by omega) (by omega) ?_
  exact kk _ _ dj2.symm ⟨_, hx⟩ w
set_option maxHeartbeats 4000000 in
theorem lk_19 {b L x0 o uc us CB SB : Nat} {xs : Nat → Int32} {i : Int32} {ad : Nat → Nat} {s : TS} {σ : gH} {fs : List Value} {J : gH → TS → Prop} (ok : t_ok o ad) (dj : g_dj (t_map o ad s) σ) (hx : σ.2 x0 = some (.inr (0, fs))) (hi : ∀ j : Int32, 0 ≤ j → j ≤ 5 → vp_in (i + j) L) (hu1 : uc + CB ≤ 603072) (hu2 : us + SB ≤ 7262314)
    (w : l_op 19 (xs (i + 1).toNatClampNeg) (xs (i + 2).toNatClampNeg) (xs (i + 3).toNatClampNeg) (xs (i + 4).toNatClampNeg) (xs (i + 5).toNatClampNeg) J CB SB x0 σ s) (kk : ∀ (σ' : gH) (s' : TS), g_dj (t_map o ad s') σ' → (∃ fs, σ'.2 x0 = some (.inr (0, fs))) → J σ' s' → E mL 2048 603072 7262314 (g_lz b L xs) (uc + CB) (us + SB) 1043 [(0, .ref b), (1, .ref x0), (2, .ref o), (3, .int i)] [] (g_mg (t_map o ad s') σ')) : E mL 2048 603072 7262314 (g_lz b L xs) uc us 713 [(0, .ref b), (1, .ref x0), (2, .ref o), (3, .int i)] [] (g_mg (t_map o ad s) σ) := by
  unfold l_op at w
  simp only [opC, opT] at w
  refine e_aload_n (n := 714) dL_law_713 rfl 1 rfl ?_
  refine e_aload_n (n := 715) dL_law_714 rfl 0 rfl ?_
  refine e_iload_n (n := 716) dL_law_715 rfl 3 rfl ?_
  refine e_iconst (n := 717) (v := 1) dL_law_716 rfl (by decide) ?_
  refine e_iadd (n := 718) dL_law_717 rfl ?_
  refine e_sld (n := 719) (hi 1 (by decide) (by decide)) dL_law_718 rfl ?_
  refine e_aload_n (n := 720) dL_law_719 rfl 0 rfl ?_
  refine e_iload_n (n := 721) dL_law_720 rfl 3 rfl ?_
  refine e_iconst (n := 722) (v := 2) dL_law_721 rfl (by decide) ?_
  refine e_iadd (n := 723) dL_law_722 rfl ?_
  refine e_sld (n := 724) (hi 2 (by decide) (by decide)) dL_law_723 rfl ?_
  refine e_callV (n := 727) (As := [.int (xs (i + 1).toNatClampNeg), .int (xs (i + 2).toNatClampNeg)]) (st := []) okX0_slip q1098 q1099 q1100 q57 q1101 rfl (g_mg_r hx) rfl (by decide) (by omega) (by omega) rfl rfl (Nat.le_of_ble_eq_true rfl) dL_law_724 rfl (CT.frame dj (ctX0_slip w)) (fun r9 σ9 hk => ?_)
  obtain ⟨τ9, ⟨v, rfl, hs9, w⟩, dj, rfl⟩ := hk
  subst hs9
  obtain ⟨⟨fs9, hx⟩, w⟩ := w
  rw [g_mg_comm dj]
  refine e_aload_n (n := 728) dL_law_727 rfl 2 rfl ?_
  refine e_aload_n (n := 729) dL_law_728 rfl 0 rfl ?_
  refine e_iload_n (n := 730) dL_law_729 rfl 3 rfl ?_
  refine e_iconst (n := 731) (v := 1) dL_law_730 rfl (by decide) ?_
  refine e_iadd (n := 732) dL_law_731 rfl ?_
  refine e_sld (n := 733) (hi 1 (by decide) (by decide)) dL_law_732 rfl ?_
  refine e_aload_n (n := 734) dL_law_733 rfl 0 rfl ?_
  refine e_iload_n (n := 735) dL_law_734 rfl 3 rfl ?_
  refine e_iconst (n := 736) (v := 2) dL_law_735 rfl (by decide) ?_
  refine e_iadd (n := 737) dL_law_736 rfl ?_
  refine e_sld (n := 738) (hi 2 (by decide) (by decide)) dL_law_737 rfl ?_
  refine e_callV (n := 741) (As := [.int (xs (i + 1).toNatClampNeg), .int (xs (i + 2).toNatClampNeg)]) (st := [.int v]) okX3_slip_2 q1735 q1736 q1737 q63 q1738 rfl (g_mg_r (t_map_o o ad s)) rfl (by decide) (by omega) (by omega) rfl rfl (Nat.le_of_ble_eq_true rfl) dL_law_738 rfl (CT.frame dj.symm (ctX3_slip_2 ok w)) (fun r9 σ9 hk => ?_)
  obtain ⟨t9, ⟨v9, s9, rfl, rfl, he, w⟩, dj2, rfl⟩ := hk
  subst he
  refine e_icmp_eq (n := 744) (tgt := 1043) dL_law_741 rfl (by decide) (fun _ => ?_) (fun h => absurd rfl h)
  rw [g_mg_comm dj2]
  refine e_widen (uc' := uc + CB) (us' := us + SB) (by omega) (by omega) ?_
  exact kk _ _ dj2.symm ⟨_, hx⟩ w
set_option maxHeartbeats 4000000 in
theorem lk_20 {b L x0 o uc us CB SB : Nat} {xs : Nat → Int32} {i : Int32} {ad : Nat → Nat} {s : TS} {σ : gH} {fs : List Value} {J : gH → TS → Prop} (ok : t_ok o ad) (dj : g_dj (t_map o ad s) σ) (hx : σ.2 x0 = some (.inr (0, fs))) (hi : ∀ j : Int32, 0 ≤ j → j ≤ 5 → vp_in (i + j) L) (hu1 : uc + CB ≤ 603072) (hu2 : us + SB ≤ 7262314)
    (w : l_op 20 (xs (i + 1).toNatClampNeg) (xs (i + 2).toNatClampNeg) (xs (i + 3).toNatClampNeg) (xs (i + 4).toNatClampNeg) (xs (i + 5).toNatClampNeg) J CB SB x0 σ s) (kk : ∀ (σ' : gH) (s' : TS), g_dj (t_map o ad s') σ' → (∃ fs, σ'.2 x0 = some (.inr (0, fs))) → J σ' s' → E mL 2048 603072 7262314 (g_lz b L xs) (uc + CB) (us + SB) 1043 [(0, .ref b), (1, .ref x0), (2, .ref o), (3, .int i)] [] (g_mg (t_map o ad s') σ')) : E mL 2048 603072 7262314 (g_lz b L xs) uc us 746 [(0, .ref b), (1, .ref x0), (2, .ref o), (3, .int i)] [] (g_mg (t_map o ad s) σ) := by
  unfold l_op at w
  simp only [opC, opT] at w
  refine e_aload_n (n := 747) dL_law_746 rfl 1 rfl ?_
  refine e_aload_n (n := 748) dL_law_747 rfl 0 rfl ?_
  refine e_iload_n (n := 749) dL_law_748 rfl 3 rfl ?_
  refine e_iconst (n := 750) (v := 1) dL_law_749 rfl (by decide) ?_
  refine e_iadd (n := 751) dL_law_750 rfl ?_
  refine e_sld (n := 752) (hi 1 (by decide) (by decide)) dL_law_751 rfl ?_
  refine e_callV (n := 755) (As := [.int (xs (i + 1).toNatClampNeg)]) (st := []) okX0_word q1103 q1104 q1105 q57 q1106 rfl (g_mg_r hx) rfl (by decide) (by omega) (by omega) rfl rfl (Nat.le_of_ble_eq_true rfl) dL_law_752 rfl (CT.frame dj (ctX0_word w)) (fun r9 σ9 hk => ?_)
  obtain ⟨τ9, ⟨v, rfl, hs9, w⟩, dj, rfl⟩ := hk
  subst hs9
  obtain ⟨⟨fs9, hx⟩, w⟩ := w
  rw [g_mg_comm dj]
  refine e_aload_n (n := 756) dL_law_755 rfl 2 rfl ?_
  refine e_aload_n (n := 757) dL_law_756 rfl 0 rfl ?_
  refine e_iload_n (n := 758) dL_law_757 rfl 3 rfl ?_
  refine e_iconst (n := 759) (v := 1) dL_law_758 rfl (by decide) ?_
  refine e_iadd (n := 760) dL_law_759 rfl ?_
  refine e_sld (n := 761) (hi 1 (by decide) (by decide)) dL_law_760 rfl ?_
  refine e_callV (n := 764) (As := [.int (xs (i + 1).toNatClampNeg)]) (st := [.int v]) okX3_word q1739 q1740 q1741 q63 q1742 rfl (g_mg_r (t_map_o o ad s)) rfl (by decide) (by omega) (by omega) rfl rfl (Nat.le_of_ble_eq_true rfl) dL_law_761 rfl (CT.frame dj.symm (ctX3_word ok w)) (fun r9 σ9 hk => ?_)
  obtain ⟨t9, ⟨v9, s9, rfl, rfl, he, w⟩, dj2, rfl⟩ := hk
  subst he
  refine e_icmp_eq (n := 767) (tgt := 1043) dL_law_764 rfl (by decide) (fun _ => ?_) (fun h => absurd rfl h)
  rw [g_mg_comm dj2]
  refine e_widen (uc' := uc + CB) (us' := us + SB) (by omega) (by omega) ?_
  exact kk _ _ dj2.symm ⟨_, hx⟩ w
set_option maxHeartbeats 4000000 in
theorem lk_21 {b L x0 o uc us CB SB : Nat} {xs : Nat → Int32} {i : Int32} {ad : Nat → Nat} {s : TS} {σ : gH} {fs : List Value} {J : gH → TS → Prop} (ok : t_ok o ad) (dj : g_dj (t_map o ad s) σ) (hx : σ.2 x0 = some (.inr (0, fs))) (hi : ∀ j : Int32, 0 ≤ j → j ≤ 5 → vp_in (i + j) L) (hu1 : uc + CB ≤ 603072) (hu2 : us + SB ≤ 7262314)
    (w : l_op 21 (xs (i + 1).toNatClampNeg) (xs (i + 2).toNatClampNeg) (xs (i + 3).toNatClampNeg) (xs (i + 4).toNatClampNeg) (xs (i + 5).toNatClampNeg) J CB SB x0 σ s) (kk : ∀ (σ' : gH) (s' : TS), g_dj (t_map o ad s') σ' → (∃ fs, σ'.2 x0 = some (.inr (0, fs))) → J σ' s' → E mL 2048 603072 7262314 (g_lz b L xs) (uc + CB) (us + SB) 1043 [(0, .ref b), (1, .ref x0), (2, .ref o), (3, .int i)] [] (g_mg (t_map o ad s') σ')) : E mL 2048 603072 7262314 (g_lz b L xs) uc us 769 [(0, .ref b), (1, .ref x0), (2, .ref o), (3, .int i)] [] (g_mg (t_map o ad s) σ) := by
  unfold l_op at w
  simp only [opC, opT] at w
  refine e_aload_n (n := 770) dL_law_769 rfl 1 rfl ?_
  refine e_aload_n (n := 771) dL_law_770 rfl 0 rfl ?_
  refine e_iload_n (n := 772) dL_law_771 rfl 3 rfl ?_
  refine e_iconst (n := 773) (v := 1) dL_law_772 rfl (by decide) ?_
  refine e_iadd (n := 774) dL_law_773 rfl ?_
  refine e_sld (n := 775) (hi 1 (by decide) (by decide)) dL_law_774 rfl ?_
  refine e_aload_n (n := 776) dL_law_775 rfl 0 rfl ?_
  refine e_iload_n (n := 777) dL_law_776 rfl 3 rfl ?_
  refine e_iconst (n := 778) (v := 2) dL_law_777 rfl (by decide) ?_
  refine e_iadd (n := 779) dL_law_778 rfl ?_
  refine e_sld (n := 780) (hi 2 (by decide) (by decide)) dL_law_779 rfl ?_
  refine e_callV (n := 783) (As := [.int (xs (i + 1).toNatClampNeg), .int (xs (i + 2).toNatClampNeg)]) (st := []) okX0_node q1107 q1108 q1109 q57 q1110 rfl (g_mg_r hx) rfl (by decide) (by omega) (by omega) rfl rfl (Nat.le_of_ble_eq_true rfl) dL_law_780 rfl (CT.frame dj (ctX0_node w)) (fun r9 σ9 hk => ?_)
  obtain ⟨τ9, ⟨v, rfl, hs9, w⟩, dj, rfl⟩ := hk
  subst hs9
  obtain ⟨⟨fs9, hx⟩, w⟩ := w
  rw [g_mg_comm dj]
  refine e_aload_n (n := 784) dL_law_783 rfl 2 rfl ?_
  refine e_aload_n (n := 785) dL_law_784 rfl 0 rfl ?_
  refine e_iload_n (n := 786) dL_law_785 rfl 3 rfl ?_
  refine e_iconst (n := 787) (v := 1) dL_law_786 rfl (by decide) ?_
  refine e_iadd (n := 788) dL_law_787 rfl ?_
  refine e_sld (n := 789) (hi 1 (by decide) (by decide)) dL_law_788 rfl ?_
  refine e_aload_n (n := 790) dL_law_789 rfl 0 rfl ?_
  refine e_iload_n (n := 791) dL_law_790 rfl 3 rfl ?_
  refine e_iconst (n := 792) (v := 2) dL_law_791 rfl (by decide) ?_
  refine e_iadd (n := 793) dL_law_792 rfl ?_
  refine e_sld (n := 794) (hi 2 (by decide) (by decide)) dL_law_793 rfl ?_
  refine e_callV (n := 797) (As := [.int (xs (i + 1).toNatClampNeg), .int (xs (i + 2).toNatClampNeg)]) (st := [.int v]) okX3_node q1743 q1744 q1745 q63 q1746 rfl (g_mg_r (t_map_o o ad s)) rfl (by decide) (by omega) (by omega) rfl rfl (Nat.le_of_ble_eq_true rfl) dL_law_794 rfl (CT.frame dj.symm (ctX3_node ok w)) (fun r9 σ9 hk => ?_)
  obtain ⟨t9, ⟨v9, s9, rfl, rfl, he, w⟩, dj2, rfl⟩ := hk
  subst he
  refine e_icmp_eq (n := 800) (tgt := 1043) dL_law_797 rfl (by decide) (fun _ => ?_) (fun h => absurd rfl h)
  rw [g_mg_comm dj2]
  refine e_widen (uc' := uc + CB) (us' := us + SB) (by omega) (by omega) ?_
  exact kk _ _ dj2.symm ⟨_, hx⟩ w
set_option maxHeartbeats 4000000 in
theorem lk_22 {b L x0 o uc us CB SB : Nat} {xs : Nat → Int32} {i : Int32} {ad : Nat → Nat} {s : TS} {σ : gH} {fs : List Value} {J : gH → TS → Prop} (ok : t_ok o ad) (dj : g_dj (t_map o ad s) σ) (hx : σ.2 x0 = some (.inr (0, fs))) (hi : ∀ j : Int32, 0 ≤ j → j ≤ 5 → vp_in (i + j) L) (hu1 : uc + CB ≤ 603072) (hu2 : us + SB ≤ 7262314)
    (w : l_op 22 (xs (i + 1).toNatClampNeg) (xs (i + 2).toNatClampNeg) (xs (i + 3).toNatClampNeg) (xs (i + 4).toNatClampNeg) (xs (i + 5).toNatClampNeg) J CB SB x0 σ s) (kk : ∀ (σ' : gH) (s' : TS), g_dj (t_map o ad s') σ' → (∃ fs, σ'.2 x0 = some (.inr (0, fs))) → J σ' s' → E mL 2048 603072 7262314 (g_lz b L xs) (uc + CB) (us + SB) 1043 [(0, .ref b), (1, .ref x0), (2, .ref o), (3, .int i)] [] (g_mg (t_map o ad s') σ')) : E mL 2048 603072 7262314 (g_lz b L xs) uc us 802 [(0, .ref b), (1, .ref x0), (2, .ref o), (3, .int i)] [] (g_mg (t_map o ad s) σ) := by
  unfold l_op at w
  simp only [opC, opT] at w
  refine e_aload_n (n := 803) dL_law_802 rfl 1 rfl ?_
  refine e_aload_n (n := 804) dL_law_803 rfl 0 rfl ?_
  refine e_iload_n (n := 805) dL_law_804 rfl 3 rfl ?_
  refine e_iconst (n := 806) (v := 1) dL_law_805 rfl (by decide) ?_
  refine e_iadd (n := 807) dL_law_806 rfl ?_
  refine e_sld (n := 808) (hi 1 (by decide) (by decide)) dL_law_807 rfl ?_
  refine e_callV (n := 811) (As := [.int (xs (i + 1).toNatClampNeg)]) (st := []) okX0_sure q1111 q1112 q1113 q57 q1114 rfl (g_mg_r hx) rfl (by decide) (by omega) (by omega) rfl rfl (Nat.le_of_ble_eq_true rfl) dL_law_808 rfl (CT.frame dj (ctX0_sure w)) (fun r9 σ9 hk => ?_)
  obtain ⟨τ9, ⟨v, rfl, w⟩, dj, rfl⟩ := hk
  obtain ⟨⟨fs9, hx⟩, w⟩ := w
  rw [g_mg_comm dj]
  refine e_aload_n (n := 812) dL_law_811 rfl 2 rfl ?_
  refine e_aload_n (n := 813) dL_law_812 rfl 0 rfl ?_
  refine e_iload_n (n := 814) dL_law_813 rfl 3 rfl ?_
  refine e_iconst (n := 815) (v := 1) dL_law_814 rfl (by decide) ?_
  refine e_iadd (n := 816) dL_law_815 rfl ?_
  refine e_sld (n := 817) (hi 1 (by decide) (by decide)) dL_law_816 rfl ?_
  refine e_callV (n := 820) (As := [.int (xs (i + 1).toNatClampNeg)]) (st := [.int v]) okX3_sure q1747 q1748 q1749 q63 q1750 rfl (g_mg_r (t_map_o o ad s)) rfl (by decide) (by omega) (by omega) rfl rfl (Nat.le_of_ble_eq_true rfl) dL_law_817 rfl (CT.frame dj.symm (ctX3_sure ok w)) (fun r9 σ9 hk => ?_)
  obtain ⟨t9, ⟨v9, s9, rfl, rfl, he, w⟩, dj2, rfl⟩ := hk
  subst he
  refine e_icmp_eq (n := 823) (tgt := 1043) dL_law_820 rfl (by decide) (fun _ => ?_) (fun h => absurd rfl h)
  rw [g_mg_comm dj2]
  refine e_widen (uc' := uc + CB) (us' := us + SB) (by omega) (by omega) ?_
  exact kk _ _ dj2.symm ⟨_, hx⟩ w
set_option maxHeartbeats 4000000 in
theorem lk_23 {b L x0 o uc us CB SB : Nat} {xs : Nat → Int32} {i : Int32} {ad : Nat → Nat} {s : TS} {σ : gH} {fs : List Value} {J : gH → TS → Prop} (ok : t_ok o ad) (dj : g_dj (t_map o ad s) σ) (hx : σ.2 x0 = some (.inr (0, fs))) (hi : ∀ j : Int32, 0 ≤ j → j ≤ 5 → vp_in (i + j) L) (hu1 : uc + CB ≤ 603072) (hu2 : us + SB ≤ 7262314)
    (w : l_op 23 (xs (i + 1).toNatClampNeg) (xs (i + 2).toNatClampNeg) (xs (i + 3).toNatClampNeg) (xs (i + 4).toNatClampNeg) (xs (i + 5).toNatClampNeg) J CB SB x0 σ s) (kk : ∀ (σ' : gH) (s' : TS), g_dj (t_map o ad s') σ' → (∃ fs, σ'.2 x0 = some (.inr (0, fs))) → J σ' s' → E mL 2048 603072 7262314 (g_lz b L xs) (uc + CB) (us + SB) 1043 [(0, .ref b), (1, .ref x0), (2, .ref o), (3, .int i)] [] (g_mg (t_map o ad s') σ')) : E mL 2048 603072 7262314 (g_lz b L xs) uc us 825 [(0, .ref b), (1, .ref x0), (2, .ref o), (3, .int i)] [] (g_mg (t_map o ad s) σ) := by
  unfold l_op at w
  simp only [opC, opT] at w
  refine e_aload_n (n := 826) dL_law_825 rfl 1 rfl ?_
  refine e_aload_n (n := 827) dL_law_826 rfl 0 rfl ?_
  refine e_iload_n (n := 828) dL_law_827 rfl 3 rfl ?_
  refine e_iconst (n := 829) (v := 1) dL_law_828 rfl (by decide) ?_
  refine e_iadd (n := 830) dL_law_829 rfl ?_
  refine e_sld (n := 831) (hi 1 (by decide) (by decide)) dL_law_830 rfl ?_
  refine e_aload_n (n := 832) dL_law_831 rfl 0 rfl ?_
  refine e_iload_n (n := 833) dL_law_832 rfl 3 rfl ?_
  refine e_iconst (n := 834) (v := 2) dL_law_833 rfl (by decide) ?_
  refine e_iadd (n := 835) dL_law_834 rfl ?_
  refine e_sld (n := 836) (hi 2 (by decide) (by decide)) dL_law_835 rfl ?_
  refine e_callV (n := 839) (As := [.int (xs (i + 1).toNatClampNeg), .int (xs (i + 2).toNatClampNeg)]) (st := []) okX0_shelve q1115 q1116 q1117 q57 q1118 rfl (g_mg_r hx) rfl (by decide) (by omega) (by omega) rfl rfl (Nat.le_of_ble_eq_true rfl) dL_law_836 rfl (CT.frame dj (ctX0_shelve w)) (fun r9 σ9 hk => ?_)
  obtain ⟨τ9, ⟨v, rfl, w⟩, dj, rfl⟩ := hk
  obtain ⟨⟨fs9, hx⟩, w⟩ := w
  rw [g_mg_comm dj]
  refine e_aload_n (n := 840) dL_law_839 rfl 2 rfl ?_
  refine e_aload_n (n := 841) dL_law_840 rfl 0 rfl ?_
  refine e_iload_n (n := 842) dL_law_841 rfl 3 rfl ?_
  refine e_iconst (n := 843) (v := 1) dL_law_842 rfl (by decide) ?_
  refine e_iadd (n := 844) dL_law_843 rfl ?_
  refine e_sld (n := 845) (hi 1 (by decide) (by decide)) dL_law_844 rfl ?_
  refine e_aload_n (n := 846) dL_law_845 rfl 0 rfl ?_
  refine e_iload_n (n := 847) dL_law_846 rfl 3 rfl ?_
  refine e_iconst (n := 848) (v := 2) dL_law_847 rfl (by decide) ?_
  refine e_iadd (n := 849) dL_law_848 rfl ?_
  refine e_sld (n := 850) (hi 2 (by decide) (by decide)) dL_law_849 rfl ?_
  refine e_callV (n := 853) (As := [.int (xs (i + 1).toNatClampNeg), .int (xs (i + 2).toNatClampNeg)]) (st := [.int v]) okX3_shelve q1698 q1699 q1700 q63 q1701 rfl (g_mg_r (t_map_o o ad s)) rfl (by decide) (by omega) (by omega) rfl rfl (Nat.le_of_ble_eq_true rfl) dL_law_850 rfl (CT.frame dj.symm (ctX3_shelve ok w)) (fun r9 σ9 hk => ?_)
  obtain ⟨t9, ⟨v9, s9, rfl, rfl, he, w⟩, dj2, rfl⟩ := hk
  subst he
  refine e_icmp_eq (n := 856) (tgt := 1043) dL_law_853 rfl (by decide) (fun _ => ?_) (fun h => absurd rfl h)
  rw [g_mg_comm dj2]
  refine e_widen (uc' := uc + CB) (us' := us + SB) (by omega) (by omega) ?_
  exact kk _ _ dj2.symm ⟨_, hx⟩ w
set_option maxHeartbeats 4000000 in
theorem lk_24 {b L x0 o uc us CB SB : Nat} {xs : Nat → Int32} {i : Int32} {ad : Nat → Nat} {s : TS} {σ : gH} {fs : List Value} {J : gH → TS → Prop} (ok : t_ok o ad) (dj : g_dj (t_map o ad s) σ) (hx : σ.2 x0 = some (.inr (0, fs))) (hi : ∀ j : Int32, 0 ≤ j → j ≤ 5 → vp_in (i + j) L) (hu1 : uc + CB ≤ 603072) (hu2 : us + SB ≤ 7262314)
    (w : l_op 24 (xs (i + 1).toNatClampNeg) (xs (i + 2).toNatClampNeg) (xs (i + 3).toNatClampNeg) (xs (i + 4).toNatClampNeg) (xs (i + 5).toNatClampNeg) J CB SB x0 σ s) (kk : ∀ (σ' : gH) (s' : TS), g_dj (t_map o ad s') σ' → (∃ fs, σ'.2 x0 = some (.inr (0, fs))) → J σ' s' → E mL 2048 603072 7262314 (g_lz b L xs) (uc + CB) (us + SB) 1043 [(0, .ref b), (1, .ref x0), (2, .ref o), (3, .int i)] [] (g_mg (t_map o ad s') σ')) : E mL 2048 603072 7262314 (g_lz b L xs) uc us 858 [(0, .ref b), (1, .ref x0), (2, .ref o), (3, .int i)] [] (g_mg (t_map o ad s) σ) := by
  unfold l_op at w
  simp only [opC, opT] at w
  refine e_aload_n (n := 859) dL_law_858 rfl 1 rfl ?_
  refine e_aload_n (n := 860) dL_law_859 rfl 0 rfl ?_
  refine e_iload_n (n := 861) dL_law_860 rfl 3 rfl ?_
  refine e_iconst (n := 862) (v := 1) dL_law_861 rfl (by decide) ?_
  refine e_iadd (n := 863) dL_law_862 rfl ?_
  refine e_sld (n := 864) (hi 1 (by decide) (by decide)) dL_law_863 rfl ?_
  refine e_aload_n (n := 865) dL_law_864 rfl 0 rfl ?_
  refine e_iload_n (n := 866) dL_law_865 rfl 3 rfl ?_
  refine e_iconst (n := 867) (v := 2) dL_law_866 rfl (by decide) ?_
  refine e_iadd (n := 868) dL_law_867 rfl ?_
  refine e_sld (n := 869) (hi 2 (by decide) (by decide)) dL_law_868 rfl ?_
  refine e_callV (n := 872) (As := [.int (xs (i + 1).toNatClampNeg), .int (xs (i + 2).toNatClampNeg)]) (st := []) okX0_rowAt q1147 q1148 q1149 q57 q1150 rfl (g_mg_r hx) rfl (by decide) (by omega) (by omega) rfl rfl (Nat.le_of_ble_eq_true rfl) dL_law_869 rfl (CT.frame dj (ctX0_rowAt w)) (fun r9 σ9 hk => ?_)
  obtain ⟨τ9, ⟨v, rfl, w⟩, dj, rfl⟩ := hk
  obtain ⟨⟨fs9, hx⟩, w⟩ := w
  rw [g_mg_comm dj]
  refine e_aload_n (n := 873) dL_law_872 rfl 2 rfl ?_
  refine e_aload_n (n := 874) dL_law_873 rfl 0 rfl ?_
  refine e_iload_n (n := 875) dL_law_874 rfl 3 rfl ?_
  refine e_iconst (n := 876) (v := 1) dL_law_875 rfl (by decide) ?_
  refine e_iadd (n := 877) dL_law_876 rfl ?_
  refine e_sld (n := 878) (hi 1 (by decide) (by decide)) dL_law_877 rfl ?_
  refine e_aload_n (n := 879) dL_law_878 rfl 0 rfl ?_
  refine e_iload_n (n := 880) dL_law_879 rfl 3 rfl ?_
  refine e_iconst (n := 881) (v := 2) dL_law_880 rfl (by decide) ?_
  refine e_iadd (n := 882) dL_law_881 rfl ?_
  refine e_sld (n := 883) (hi 2 (by decide) (by decide)) dL_law_882 rfl ?_
  refine e_callV (n := 886) (As := [.int (xs (i + 1).toNatClampNeg), .int (xs (i + 2).toNatClampNeg)]) (st := [.int v]) okX3_rowAt q1707 q1708 q1709 q63 q1710 rfl (g_mg_r (t_map_o o ad s)) rfl (by decide) (by omega) (by omega) rfl rfl (Nat.le_of_ble_eq_true rfl) dL_law_883 rfl (CT.frame dj.symm (ctX3_rowAt ok w)) (fun r9 σ9 hk => ?_)
  obtain ⟨t9, ⟨v9, s9, rfl, rfl, he, w⟩, dj2, rfl⟩ := hk
  subst he
  refine e_icmp_eq (n := 889) (tgt := 1043) dL_law_886 rfl (by decide) (fun _ => ?_) (fun h => absurd rfl h)
  rw [g_mg_comm dj2]
  refine e_widen (uc' := uc + CB) (us' := us + SB) (by omega) (by omega) ?_
  exact kk _ _ dj2.symm ⟨_, hx⟩ w
set_option maxHeartbeats 4000000 in
theorem lk_25 {b L x0 o uc us CB SB : Nat} {xs : Nat → Int32} {i : Int32} {ad : Nat → Nat} {s : TS} {σ : gH} {fs : List Value} {J : gH → TS → Prop} (ok : t_ok o ad) (dj : g_dj (t_map o ad s) σ) (hx : σ.2 x0 = some (.inr (0, fs))) (hi : ∀ j : Int32, 0 ≤ j → j ≤ 5 → vp_in (i + j) L) (hu1 : uc + CB ≤ 603072) (hu2 : us + SB ≤ 7262314)
    (w : l_op 25 (xs (i + 1).toNatClampNeg) (xs (i + 2).toNatClampNeg) (xs (i + 3).toNatClampNeg) (xs (i + 4).toNatClampNeg) (xs (i + 5).toNatClampNeg) J CB SB x0 σ s) (kk : ∀ (σ' : gH) (s' : TS), g_dj (t_map o ad s') σ' → (∃ fs, σ'.2 x0 = some (.inr (0, fs))) → J σ' s' → E mL 2048 603072 7262314 (g_lz b L xs) (uc + CB) (us + SB) 1043 [(0, .ref b), (1, .ref x0), (2, .ref o), (3, .int i)] [] (g_mg (t_map o ad s') σ')) : E mL 2048 603072 7262314 (g_lz b L xs) uc us 891 [(0, .ref b), (1, .ref x0), (2, .ref o), (3, .int i)] [] (g_mg (t_map o ad s) σ) := by
  unfold l_op at w
  simp only [opC, opT] at w
  refine e_aload_n (n := 892) dL_law_891 rfl 1 rfl ?_
  refine e_aload_n (n := 893) dL_law_892 rfl 0 rfl ?_
  refine e_iload_n (n := 894) dL_law_893 rfl 3 rfl ?_
  refine e_iconst (n := 895) (v := 1) dL_law_894 rfl (by decide) ?_
  refine e_iadd (n := 896) dL_law_895 rfl ?_
  refine e_sld (n := 897) (hi 1 (by decide) (by decide)) dL_law_896 rfl ?_
  refine e_aload_n (n := 898) dL_law_897 rfl 0 rfl ?_
  refine e_iload_n (n := 899) dL_law_898 rfl 3 rfl ?_
  refine e_iconst (n := 900) (v := 2) dL_law_899 rfl (by decide) ?_
  refine e_iadd (n := 901) dL_law_900 rfl ?_
  refine e_sld (n := 902) (hi 2 (by decide) (by decide)) dL_law_901 rfl ?_
  refine e_aload_n (n := 903) dL_law_902 rfl 0 rfl ?_
  refine e_iload_n (n := 904) dL_law_903 rfl 3 rfl ?_
  refine e_iconst (n := 905) (v := 3) dL_law_904 rfl (by decide) ?_
  refine e_iadd (n := 906) dL_law_905 rfl ?_
  refine e_sld (n := 907) (hi 3 (by decide) (by decide)) dL_law_906 rfl ?_
  refine e_callV (n := 910) (As := [.int (xs (i + 1).toNatClampNeg), .int (xs (i + 2).toNatClampNeg), .int (xs (i + 3).toNatClampNeg)]) (st := []) okX0_treeAt q1303 q1304 q1305 q57 q1306 rfl (g_mg_r hx) rfl (by decide) (by omega) (by omega) rfl rfl (Nat.le_of_ble_eq_true rfl) dL_law_907 rfl (CT.frame dj (ctX0_treeAt w)) (fun r9 σ9 hk => ?_)
  obtain ⟨τ9, ⟨v, rfl, w⟩, dj, rfl⟩ := hk
  obtain ⟨⟨fs9, hx⟩, w⟩ := w
  rw [g_mg_comm dj]
  refine e_aload_n (n := 911) dL_law_910 rfl 2 rfl ?_
  refine e_aload_n (n := 912) dL_law_911 rfl 0 rfl ?_
  refine e_iload_n (n := 913) dL_law_912 rfl 3 rfl ?_
  refine e_iconst (n := 914) (v := 1) dL_law_913 rfl (by decide) ?_
  refine e_iadd (n := 915) dL_law_914 rfl ?_
  refine e_sld (n := 916) (hi 1 (by decide) (by decide)) dL_law_915 rfl ?_
  refine e_aload_n (n := 917) dL_law_916 rfl 0 rfl ?_
  refine e_iload_n (n := 918) dL_law_917 rfl 3 rfl ?_
  refine e_iconst (n := 919) (v := 2) dL_law_918 rfl (by decide) ?_
  refine e_iadd (n := 920) dL_law_919 rfl ?_
  refine e_sld (n := 921) (hi 2 (by decide) (by decide)) dL_law_920 rfl ?_
  refine e_aload_n (n := 922) dL_law_921 rfl 0 rfl ?_
  refine e_iload_n (n := 923) dL_law_922 rfl 3 rfl ?_
  refine e_iconst (n := 924) (v := 3) dL_law_923 rfl (by decide) ?_
  refine e_iadd (n := 925) dL_law_924 rfl ?_
  refine e_sld (n := 926) (hi 3 (by decide) (by decide)) dL_law_925 rfl ?_
  refine e_callV (n := 929) (As := [.int (xs (i + 1).toNatClampNeg), .int (xs (i + 2).toNatClampNeg), .int (xs (i + 3).toNatClampNeg)]) (st := [.int v]) okX3_treeAt q1715 q1716 q1717 q63 q1718 rfl (g_mg_r (t_map_o o ad s)) rfl (by decide) (by omega) (by omega) rfl rfl (Nat.le_of_ble_eq_true rfl) dL_law_926 rfl (CT.frame dj.symm (ctX3_treeAt ok w)) (fun r9 σ9 hk => ?_)
  obtain ⟨t9, ⟨v9, s9, rfl, rfl, he, w⟩, dj2, rfl⟩ := hk
  subst he
  refine e_icmp_eq (n := 932) (tgt := 1043) dL_law_929 rfl (by decide) (fun _ => ?_) (fun h => absurd rfl h)
  rw [g_mg_comm dj2]
  refine e_widen (uc' := uc + CB) (us' := us + SB) (by omega) (by omega) ?_
  exact kk _ _ dj2.symm ⟨_, hx⟩ w
set_option maxHeartbeats 4000000 in
theorem lk_26 {b L x0 o uc us CB SB : Nat} {xs : Nat → Int32} {i : Int32} {ad : Nat → Nat} {s : TS} {σ : gH} {fs : List Value} {J : gH → TS → Prop} (ok : t_ok o ad) (dj : g_dj (t_map o ad s) σ) (hx : σ.2 x0 = some (.inr (0, fs))) (hi : ∀ j : Int32, 0 ≤ j → j ≤ 5 → vp_in (i + j) L) (hu1 : uc + CB ≤ 603072) (hu2 : us + SB ≤ 7262314)
    (w : l_op 26 (xs (i + 1).toNatClampNeg) (xs (i + 2).toNatClampNeg) (xs (i + 3).toNatClampNeg) (xs (i + 4).toNatClampNeg) (xs (i + 5).toNatClampNeg) J CB SB x0 σ s) (kk : ∀ (σ' : gH) (s' : TS), g_dj (t_map o ad s') σ' → (∃ fs, σ'.2 x0 = some (.inr (0, fs))) → J σ' s' → E mL 2048 603072 7262314 (g_lz b L xs) (uc + CB) (us + SB) 1043 [(0, .ref b), (1, .ref x0), (2, .ref o), (3, .int i)] [] (g_mg (t_map o ad s') σ')) : E mL 2048 603072 7262314 (g_lz b L xs) uc us 934 [(0, .ref b), (1, .ref x0), (2, .ref o), (3, .int i)] [] (g_mg (t_map o ad s) σ) := by
  unfold l_op at w
  simp only [opC, opT] at w
  refine e_aload_n (n := 935) dL_law_934 rfl 1 rfl ?_
  refine e_aload_n (n := 936) dL_law_935 rfl 0 rfl ?_
  refine e_iload_n (n := 937) dL_law_936 rfl 3 rfl ?_
  refine e_iconst (n := 938) (v := 1) dL_law_937 rfl (by decide) ?_
  refine e_iadd (n := 939) dL_law_938 rfl ?_
  refine e_sld (n := 940) (hi 1 (by decide) (by decide)) dL_law_939 rfl ?_
  refine e_aload_n (n := 941) dL_law_940 rfl 0 rfl ?_
  refine e_iload_n (n := 942) dL_law_941 rfl 3 rfl ?_
  refine e_iconst (n := 943) (v := 2) dL_law_942 rfl (by decide) ?_
  refine e_iadd (n := 944) dL_law_943 rfl ?_
  refine e_sld (n := 945) (hi 2 (by decide) (by decide)) dL_law_944 rfl ?_
  refine e_aload_n (n := 946) dL_law_945 rfl 0 rfl ?_
  refine e_iload_n (n := 947) dL_law_946 rfl 3 rfl ?_
  refine e_iconst (n := 948) (v := 3) dL_law_947 rfl (by decide) ?_
  refine e_iadd (n := 949) dL_law_948 rfl ?_
  refine e_sld (n := 950) (hi 3 (by decide) (by decide)) dL_law_949 rfl ?_
  refine e_callV (n := 953) (As := [.int (xs (i + 1).toNatClampNeg), .int (xs (i + 2).toNatClampNeg), .int (xs (i + 3).toNatClampNeg)]) (st := []) okX0_slipAt q1307 q1308 q1309 q57 q1310 rfl (g_mg_r hx) rfl (by decide) (by omega) (by omega) rfl rfl (Nat.le_of_ble_eq_true rfl) dL_law_950 rfl (CT.frame dj (ctX0_slipAt w)) (fun r9 σ9 hk => ?_)
  obtain ⟨τ9, ⟨v, rfl, w⟩, dj, rfl⟩ := hk
  obtain ⟨⟨fs9, hx⟩, w⟩ := w
  rw [g_mg_comm dj]
  refine e_aload_n (n := 954) dL_law_953 rfl 2 rfl ?_
  refine e_aload_n (n := 955) dL_law_954 rfl 0 rfl ?_
  refine e_iload_n (n := 956) dL_law_955 rfl 3 rfl ?_
  refine e_iconst (n := 957) (v := 1) dL_law_956 rfl (by decide) ?_
  refine e_iadd (n := 958) dL_law_957 rfl ?_
  refine e_sld (n := 959) (hi 1 (by decide) (by decide)) dL_law_958 rfl ?_
  refine e_aload_n (n := 960) dL_law_959 rfl 0 rfl ?_
  refine e_iload_n (n := 961) dL_law_960 rfl 3 rfl ?_
  refine e_iconst (n := 962) (v := 2) dL_law_961 rfl (by decide) ?_
  refine e_iadd (n := 963) dL_law_962 rfl ?_
  refine e_sld (n := 964) (hi 2 (by decide) (by decide)) dL_law_963 rfl ?_
  refine e_aload_n (n := 965) dL_law_964 rfl 0 rfl ?_
  refine e_iload_n (n := 966) dL_law_965 rfl 3 rfl ?_
  refine e_iconst (n := 967) (v := 3) dL_law_966 rfl (by decide) ?_
  refine e_iadd (n := 968) dL_law_967 rfl ?_
  refine e_sld (n := 969) (hi 3 (by decide) (by decide)) dL_law_968 rfl ?_
  refine e_callV (n := 972) (As := [.int (xs (i + 1).toNatClampNeg), .int (xs (i + 2).toNatClampNeg), .int (xs (i + 3).toNatClampNeg)]) (st := [.int v]) okX3_slipAt q1719 q1720 q1721 q63 q1722 rfl (g_mg_r (t_map_o o ad s)) rfl (by decide) (by omega) (by omega) rfl rfl (Nat.le_of_ble_eq_true rfl) dL_law_969 rfl (CT.frame dj.symm (ctX3_slipAt ok w)) (fun r9 σ9 hk => ?_)
  obtain ⟨t9, ⟨v9, s9, rfl, rfl, he, w⟩, dj2, rfl⟩ := hk
  subst he
  refine e_icmp_eq (n := 975) (tgt := 1043) dL_law_972 rfl (by decide) (fun _ => ?_) (fun h => absurd rfl h)
  rw [g_mg_comm dj2]
  refine e_widen (uc' := uc + CB) (us' := us + SB) (by omega) (by omega) ?_
  exact kk _ _ dj2.symm ⟨_, hx⟩ w
set_option maxHeartbeats 4000000 in
theorem lk_27 {b L x0 o uc us CB SB : Nat} {xs : Nat → Int32} {i : Int32} {ad : Nat → Nat} {s : TS} {σ : gH} {fs : List Value} {J : gH → TS → Prop} (ok : t_ok o ad) (dj : g_dj (t_map o ad s) σ) (hx : σ.2 x0 = some (.inr (0, fs))) (hi : ∀ j : Int32, 0 ≤ j → j ≤ 5 → vp_in (i + j) L) (hu1 : uc + CB ≤ 603072) (hu2 : us + SB ≤ 7262314)
    (w : l_op 27 (xs (i + 1).toNatClampNeg) (xs (i + 2).toNatClampNeg) (xs (i + 3).toNatClampNeg) (xs (i + 4).toNatClampNeg) (xs (i + 5).toNatClampNeg) J CB SB x0 σ s) (kk : ∀ (σ' : gH) (s' : TS), g_dj (t_map o ad s') σ' → (∃ fs, σ'.2 x0 = some (.inr (0, fs))) → J σ' s' → E mL 2048 603072 7262314 (g_lz b L xs) (uc + CB) (us + SB) 1043 [(0, .ref b), (1, .ref x0), (2, .ref o), (3, .int i)] [] (g_mg (t_map o ad s') σ')) : E mL 2048 603072 7262314 (g_lz b L xs) uc us 977 [(0, .ref b), (1, .ref x0), (2, .ref o), (3, .int i)] [] (g_mg (t_map o ad s) σ) := by
  unfold l_op at w
  simp only [opC, opT] at w
  refine e_aload_n (n := 978) dL_law_977 rfl 1 rfl ?_
  refine e_aload_n (n := 979) dL_law_978 rfl 0 rfl ?_
  refine e_iload_n (n := 980) dL_law_979 rfl 3 rfl ?_
  refine e_iconst (n := 981) (v := 1) dL_law_980 rfl (by decide) ?_
  refine e_iadd (n := 982) dL_law_981 rfl ?_
  refine e_sld (n := 983) (hi 1 (by decide) (by decide)) dL_law_982 rfl ?_
  refine e_aload_n (n := 984) dL_law_983 rfl 0 rfl ?_
  refine e_iload_n (n := 985) dL_law_984 rfl 3 rfl ?_
  refine e_iconst (n := 986) (v := 2) dL_law_985 rfl (by decide) ?_
  refine e_iadd (n := 987) dL_law_986 rfl ?_
  refine e_sld (n := 988) (hi 2 (by decide) (by decide)) dL_law_987 rfl ?_
  refine e_aload_n (n := 989) dL_law_988 rfl 0 rfl ?_
  refine e_iload_n (n := 990) dL_law_989 rfl 3 rfl ?_
  refine e_iconst (n := 991) (v := 3) dL_law_990 rfl (by decide) ?_
  refine e_iadd (n := 992) dL_law_991 rfl ?_
  refine e_sld (n := 993) (hi 3 (by decide) (by decide)) dL_law_992 rfl ?_
  refine e_callV (n := 996) (As := [.int (xs (i + 1).toNatClampNeg), .int (xs (i + 2).toNatClampNeg), .int (xs (i + 3).toNatClampNeg)]) (st := []) okX0_paste q1311 q1312 q1313 q57 q1314 rfl (g_mg_r hx) rfl (by decide) (by omega) (by omega) rfl rfl (Nat.le_of_ble_eq_true rfl) dL_law_993 rfl (CT.frame dj (ctX0_paste w)) (fun r9 σ9 hk => ?_)
  obtain ⟨τ9, ⟨v, rfl, w⟩, dj, rfl⟩ := hk
  obtain ⟨⟨fs9, hx⟩, w⟩ := w
  rw [g_mg_comm dj]
  refine e_aload_n (n := 997) dL_law_996 rfl 2 rfl ?_
  refine e_aload_n (n := 998) dL_law_997 rfl 0 rfl ?_
  refine e_iload_n (n := 999) dL_law_998 rfl 3 rfl ?_
  refine e_iconst (n := 1000) (v := 1) dL_law_999 rfl (by decide) ?_
  refine e_iadd (n := 1001) dL_law_1000 rfl ?_
  refine e_sld (n := 1002) (hi 1 (by decide) (by decide)) dL_law_1001 rfl ?_
  refine e_aload_n (n := 1003) dL_law_1002 rfl 0 rfl ?_
  refine e_iload_n (n := 1004) dL_law_1003 rfl 3 rfl ?_
  refine e_iconst (n := 1005) (v := 2) dL_law_1004 rfl (by decide) ?_
  refine e_iadd (n := 1006) dL_law_1005 rfl ?_
  refine e_sld (n := 1007) (hi 2 (by decide) (by decide)) dL_law_1006 rfl ?_
  refine e_aload_n (n := 1008) dL_law_1007 rfl 0 rfl ?_
  refine e_iload_n (n := 1009) dL_law_1008 rfl 3 rfl ?_
  refine e_iconst (n := 1010) (v := 3) dL_law_1009 rfl (by decide) ?_
  refine e_iadd (n := 1011) dL_law_1010 rfl ?_
  refine e_sld (n := 1012) (hi 3 (by decide) (by decide)) dL_law_1011 rfl ?_
  refine e_callV (n := 1015) (As := [.int (xs (i + 1).toNatClampNeg), .int (xs (i + 2).toNatClampNeg), .int (xs (i + 3).toNatClampNeg)]) (st := [.int v]) okX3_paste q1723 q1724 q1725 q63 q1726 rfl (g_mg_r (t_map_o o ad s)) rfl (by decide) (by omega) (by omega) rfl rfl (Nat.le_of_ble_eq_true rfl) dL_law_1012 rfl (CT.frame dj.symm (ctX3_paste ok w)) (fun r9 σ9 hk => ?_)
  obtain ⟨t9, ⟨v9, s9, rfl, rfl, he, w⟩, dj2, rfl⟩ := hk
  subst he
  refine e_icmp_eq (n := 1018) (tgt := 1043) dL_law_1015 rfl (by decide) (fun _ => ?_) (fun h => absurd rfl h)
  rw [g_mg_comm dj2]
  refine e_widen (uc' := uc + CB) (us' := us + SB) (by omega) (by omega) ?_
  exact kk _ _ dj2.symm ⟨_, hx⟩ w
set_option maxHeartbeats 4000000 in
theorem lk_28 {b L x0 o uc us CB SB : Nat} {xs : Nat → Int32} {i : Int32} {ad : Nat → Nat} {s : TS} {σ : gH} {fs : List Value} {J : gH → TS → Prop} (ok : t_ok o ad) (dj : g_dj (t_map o ad s) σ) (hx : σ.2 x0 = some (.inr (0, fs))) (hi : ∀ j : Int32, 0 ≤ j → j ≤ 5 → vp_in (i + j) L) (hu1 : uc + CB ≤ 603072) (hu2 : us + SB ≤ 7262314)
    (w : l_op 28 (xs (i + 1).toNatClampNeg) (xs (i + 2).toNatClampNeg) (xs (i + 3).toNatClampNeg) (xs (i + 4).toNatClampNeg) (xs (i + 5).toNatClampNeg) J CB SB x0 σ s) (kk : ∀ (σ' : gH) (s' : TS), g_dj (t_map o ad s') σ' → (∃ fs, σ'.2 x0 = some (.inr (0, fs))) → J σ' s' → E mL 2048 603072 7262314 (g_lz b L xs) (uc + CB) (us + SB) 1043 [(0, .ref b), (1, .ref x0), (2, .ref o), (3, .int i)] [] (g_mg (t_map o ad s') σ')) : E mL 2048 603072 7262314 (g_lz b L xs) uc us 1020 [(0, .ref b), (1, .ref x0), (2, .ref o), (3, .int i)] [] (g_mg (t_map o ad s) σ) := by
  unfold l_op at w
  simp only [opC, opT] at w
  refine e_aload_n (n := 1021) dL_law_1020 rfl 1 rfl ?_
  refine e_aload_n (n := 1022) dL_law_1021 rfl 0 rfl ?_
  refine e_iload_n (n := 1023) dL_law_1022 rfl 3 rfl ?_
  refine e_iconst (n := 1024) (v := 1) dL_law_1023 rfl (by decide) ?_
  refine e_iadd (n := 1025) dL_law_1024 rfl ?_
  refine e_sld (n := 1026) (hi 1 (by decide) (by decide)) dL_law_1025 rfl ?_
  refine e_callV (n := 1029) (As := [.int (xs (i + 1).toNatClampNeg)]) (st := []) okX0_count q1323 q1324 q1325 q57 q1326 rfl (g_mg_r hx) rfl (by decide) (by omega) (by omega) rfl rfl (Nat.le_of_ble_eq_true rfl) dL_law_1026 rfl (CT.frame dj (ctX0_count w)) (fun r9 σ9 hk => ?_)
  obtain ⟨τ9, ⟨v, rfl, w⟩, dj, rfl⟩ := hk
  obtain ⟨⟨fs9, hx⟩, w⟩ := w
  rw [g_mg_comm dj]
  refine e_aload_n (n := 1030) dL_law_1029 rfl 2 rfl ?_
  refine e_aload_n (n := 1031) dL_law_1030 rfl 0 rfl ?_
  refine e_iload_n (n := 1032) dL_law_1031 rfl 3 rfl ?_
  refine e_iconst (n := 1033) (v := 1) dL_law_1032 rfl (by decide) ?_
  refine e_iadd (n := 1034) dL_law_1033 rfl ?_
  refine e_sld (n := 1035) (hi 1 (by decide) (by decide)) dL_law_1034 rfl ?_
  refine e_callV (n := 1038) (As := [.int (xs (i + 1).toNatClampNeg)]) (st := [.int v]) okX3_count q1751 q1752 q1753 q63 q1754 rfl (g_mg_r (t_map_o o ad s)) rfl (by decide) (by omega) (by omega) rfl rfl (Nat.le_of_ble_eq_true rfl) dL_law_1035 rfl (CT.frame dj.symm (ctX3_count ok w)) (fun r9 σ9 hk => ?_)
  obtain ⟨t9, ⟨v9, s9, rfl, rfl, he, w⟩, dj2, rfl⟩ := hk
  subst he
  refine e_icmp_eq (n := 1041) (tgt := 1043) dL_law_1038 rfl (by decide) (fun _ => ?_) (fun h => absurd rfl h)
  rw [g_mg_comm dj2]
  refine e_widen (uc' := uc + CB) (us' := us + SB) (by omega) (by omega) ?_
  exact kk _ _ dj2.symm ⟨_, hx⟩ w
