/-! BASE, rows of arithmetic and branches (printed by tools/gen_rows.py) -/
set_option maxRecDepth 100000
section ROWS2
variable {M : gM} {d mc ms uc us pc n : Nat} {K : gZ} {lv : List (Nat × Value)} {st : List Value} {σ : gH}
theorem e_iadd {x y : Int32} (hd : decode M.2.1 pc = .ok (.iadd, 1)) (hp : pc + 1 = n) (k : E M d mc ms K uc us n lv (.int (x + y) :: st) σ) : E M d mc ms K uc us pc lv (.int y :: .int x :: st) σ := by
  intro p l e s m args below meth c D dT A H locs ls C P S L
  subst hp
  exact lv_iadd C.1 C.2.1 hd (k p l e s m args below meth c D dT A H locs ls C P S L)
theorem e_isub {x y : Int32} (hd : decode M.2.1 pc = .ok (.isub, 1)) (hp : pc + 1 = n) (k : E M d mc ms K uc us n lv (.int (x - y) :: st) σ) : E M d mc ms K uc us pc lv (.int y :: .int x :: st) σ := by
  intro p l e s m args below meth c D dT A H locs ls C P S L
  subst hp
  exact lv_isub C.1 C.2.1 hd (k p l e s m args below meth c D dT A H locs ls C P S L)
theorem e_imul {x y : Int32} (hd : decode M.2.1 pc = .ok (.imul, 1)) (hp : pc + 1 = n) (k : E M d mc ms K uc us n lv (.int (x * y) :: st) σ) : E M d mc ms K uc us pc lv (.int y :: .int x :: st) σ := by
  intro p l e s m args below meth c D dT A H locs ls C P S L
  subst hp
  exact lv_imul C.1 C.2.1 hd (k p l e s m args below meth c D dT A H locs ls C P S L)
theorem e_ladd {x y : Int64} (hd : decode M.2.1 pc = .ok (.ladd, 1)) (hp : pc + 1 = n) (k : E M d mc ms K uc us n lv (.long (x + y) :: st) σ) : E M d mc ms K uc us pc lv (.long y :: .long x :: st) σ := by
  intro p l e s m args below meth c D dT A H locs ls C P S L
  subst hp
  exact lv_ladd C.1 C.2.1 hd (k p l e s m args below meth c D dT A H locs ls C P S L)
theorem e_lsub {x y : Int64} (hd : decode M.2.1 pc = .ok (.lsub, 1)) (hp : pc + 1 = n) (k : E M d mc ms K uc us n lv (.long (x - y) :: st) σ) : E M d mc ms K uc us pc lv (.long y :: .long x :: st) σ := by
  intro p l e s m args below meth c D dT A H locs ls C P S L
  subst hp
  exact lv_lsub C.1 C.2.1 hd (k p l e s m args below meth c D dT A H locs ls C P S L)
theorem e_lmul {x y : Int64} (hd : decode M.2.1 pc = .ok (.lmul, 1)) (hp : pc + 1 = n) (k : E M d mc ms K uc us n lv (.long (x * y) :: st) σ) : E M d mc ms K uc us pc lv (.long y :: .long x :: st) σ := by
  intro p l e s m args below meth c D dT A H locs ls C P S L
  subst hp
  exact lv_lmul C.1 C.2.1 hd (k p l e s m args below meth c D dT A H locs ls C P S L)
theorem e_ldiv {x y : Int64} (hne : ¬ y = 0) (hd : decode M.2.1 pc = .ok (.ldiv, 1)) (hp : pc + 1 = n) (k : E M d mc ms K uc us n lv (.long (x / y) :: st) σ) : E M d mc ms K uc us pc lv (.long y :: .long x :: st) σ := by
  intro p l e s m args below meth c D dT A H locs ls C P S L
  subst hp
  exact lv_ldiv C.1 C.2.1 hd hne (k p l e s m args below meth c D dT A H locs ls C P S L)
theorem e_lrem {x y : Int64} (hne : ¬ y = 0) (hd : decode M.2.1 pc = .ok (.lrem, 1)) (hp : pc + 1 = n) (k : E M d mc ms K uc us n lv (.long (x - x / y * y) :: st) σ) : E M d mc ms K uc us pc lv (.long y :: .long x :: st) σ := by
  intro p l e s m args below meth c D dT A H locs ls C P S L
  subst hp
  exact lv_lrem C.1 C.2.1 hd hne (k p l e s m args below meth c D dT A H locs ls C P S L)
theorem e_iand {x y : Int32} (hd : decode M.2.1 pc = .ok (.iand, 1)) (hp : pc + 1 = n) (k : E M d mc ms K uc us n lv (.int (x &&& y) :: st) σ) : E M d mc ms K uc us pc lv (.int y :: .int x :: st) σ := by
  intro p l e s m args below meth c D dT A H locs ls C P S L
  subst hp
  exact lv_iand C.1 C.2.1 hd (k p l e s m args below meth c D dT A H locs ls C P S L)
theorem e_ior {x y : Int32} (hd : decode M.2.1 pc = .ok (.ior, 1)) (hp : pc + 1 = n) (k : E M d mc ms K uc us n lv (.int (x ||| y) :: st) σ) : E M d mc ms K uc us pc lv (.int y :: .int x :: st) σ := by
  intro p l e s m args below meth c D dT A H locs ls C P S L
  subst hp
  exact lv_ior C.1 C.2.1 hd (k p l e s m args below meth c D dT A H locs ls C P S L)
theorem e_if_eq {x : Int32} {off : Int} {tgt : Nat} (hd : decode M.2.1 pc = .ok (.ifCond .eq off, 3)) (hp : pc + 3 = n) (ht : (pc : Int) + off = (tgt : Int)) (kt : x = 0 → E M d mc ms K uc us tgt lv st σ) (kf : ¬ x = 0 → E M d mc ms K uc us n lv st σ) : E M d mc ms K uc us pc lv (.int x :: st) σ := by
  intro p l e s m args below meth c D dT A H locs ls C P S L
  subst hp
  exact lv_if_eq C.1 C.2.1 hd ht (fun h => kt h p l e s m args below meth c D dT A H locs ls C P S L) (fun h => kf h p l e s m args below meth c D dT A H locs ls C P S L)
theorem e_icmp_eq {x y : Int32} {off : Int} {tgt : Nat} (hd : decode M.2.1 pc = .ok (.if_icmp .eq off, 3)) (hp : pc + 3 = n) (ht : (pc : Int) + off = (tgt : Int)) (kt : x = y → E M d mc ms K uc us tgt lv st σ) (kf : ¬ x = y → E M d mc ms K uc us n lv st σ) : E M d mc ms K uc us pc lv (.int y :: .int x :: st) σ := by
  intro p l e s m args below meth c D dT A H locs ls C P S L
  subst hp
  exact lv_icmp_eq C.1 C.2.1 hd ht (fun h => kt h p l e s m args below meth c D dT A H locs ls C P S L) (fun h => kf h p l e s m args below meth c D dT A H locs ls C P S L)
theorem e_if_ne {x : Int32} {off : Int} {tgt : Nat} (hd : decode M.2.1 pc = .ok (.ifCond .ne off, 3)) (hp : pc + 3 = n) (ht : (pc : Int) + off = (tgt : Int)) (kt : ¬ x = 0 → E M d mc ms K uc us tgt lv st σ) (kf : x = 0 → E M d mc ms K uc us n lv st σ) : E M d mc ms K uc us pc lv (.int x :: st) σ := by
  intro p l e s m args below meth c D dT A H locs ls C P S L
  subst hp
  exact lv_if_ne C.1 C.2.1 hd ht (fun h => kt h p l e s m args below meth c D dT A H locs ls C P S L) (fun h => kf h p l e s m args below meth c D dT A H locs ls C P S L)
theorem e_icmp_ne {x y : Int32} {off : Int} {tgt : Nat} (hd : decode M.2.1 pc = .ok (.if_icmp .ne off, 3)) (hp : pc + 3 = n) (ht : (pc : Int) + off = (tgt : Int)) (kt : ¬ x = y → E M d mc ms K uc us tgt lv st σ) (kf : x = y → E M d mc ms K uc us n lv st σ) : E M d mc ms K uc us pc lv (.int y :: .int x :: st) σ := by
  intro p l e s m args below meth c D dT A H locs ls C P S L
  subst hp
  exact lv_icmp_ne C.1 C.2.1 hd ht (fun h => kt h p l e s m args below meth c D dT A H locs ls C P S L) (fun h => kf h p l e s m args below meth c D dT A H locs ls C P S L)
theorem e_if_lt {x : Int32} {off : Int} {tgt : Nat} (hd : decode M.2.1 pc = .ok (.ifCond .lt off, 3)) (hp : pc + 3 = n) (ht : (pc : Int) + off = (tgt : Int)) (kt : x < 0 → E M d mc ms K uc us tgt lv st σ) (kf : ¬ x < 0 → E M d mc ms K uc us n lv st σ) : E M d mc ms K uc us pc lv (.int x :: st) σ := by
  intro p l e s m args below meth c D dT A H locs ls C P S L
  subst hp
  exact lv_if_lt C.1 C.2.1 hd ht (fun h => kt h p l e s m args below meth c D dT A H locs ls C P S L) (fun h => kf h p l e s m args below meth c D dT A H locs ls C P S L)
theorem e_icmp_lt {x y : Int32} {off : Int} {tgt : Nat} (hd : decode M.2.1 pc = .ok (.if_icmp .lt off, 3)) (hp : pc + 3 = n) (ht : (pc : Int) + off = (tgt : Int)) (kt : x < y → E M d mc ms K uc us tgt lv st σ) (kf : ¬ x < y → E M d mc ms K uc us n lv st σ) : E M d mc ms K uc us pc lv (.int y :: .int x :: st) σ := by
  intro p l e s m args below meth c D dT A H locs ls C P S L
  subst hp
  exact lv_icmp_lt C.1 C.2.1 hd ht (fun h => kt h p l e s m args below meth c D dT A H locs ls C P S L) (fun h => kf h p l e s m args below meth c D dT A H locs ls C P S L)
theorem e_if_ge {x : Int32} {off : Int} {tgt : Nat} (hd : decode M.2.1 pc = .ok (.ifCond .ge off, 3)) (hp : pc + 3 = n) (ht : (pc : Int) + off = (tgt : Int)) (kt : 0 ≤ x → E M d mc ms K uc us tgt lv st σ) (kf : ¬ 0 ≤ x → E M d mc ms K uc us n lv st σ) : E M d mc ms K uc us pc lv (.int x :: st) σ := by
  intro p l e s m args below meth c D dT A H locs ls C P S L
  subst hp
  exact lv_if_ge C.1 C.2.1 hd ht (fun h => kt h p l e s m args below meth c D dT A H locs ls C P S L) (fun h => kf h p l e s m args below meth c D dT A H locs ls C P S L)
theorem e_icmp_ge {x y : Int32} {off : Int} {tgt : Nat} (hd : decode M.2.1 pc = .ok (.if_icmp .ge off, 3)) (hp : pc + 3 = n) (ht : (pc : Int) + off = (tgt : Int)) (kt : y ≤ x → E M d mc ms K uc us tgt lv st σ) (kf : ¬ y ≤ x → E M d mc ms K uc us n lv st σ) : E M d mc ms K uc us pc lv (.int y :: .int x :: st) σ := by
  intro p l e s m args below meth c D dT A H locs ls C P S L
  subst hp
  exact lv_icmp_ge C.1 C.2.1 hd ht (fun h => kt h p l e s m args below meth c D dT A H locs ls C P S L) (fun h => kf h p l e s m args below meth c D dT A H locs ls C P S L)
theorem e_if_gt {x : Int32} {off : Int} {tgt : Nat} (hd : decode M.2.1 pc = .ok (.ifCond .gt off, 3)) (hp : pc + 3 = n) (ht : (pc : Int) + off = (tgt : Int)) (kt : 0 < x → E M d mc ms K uc us tgt lv st σ) (kf : ¬ 0 < x → E M d mc ms K uc us n lv st σ) : E M d mc ms K uc us pc lv (.int x :: st) σ := by
  intro p l e s m args below meth c D dT A H locs ls C P S L
  subst hp
  exact lv_if_gt C.1 C.2.1 hd ht (fun h => kt h p l e s m args below meth c D dT A H locs ls C P S L) (fun h => kf h p l e s m args below meth c D dT A H locs ls C P S L)
theorem e_icmp_gt {x y : Int32} {off : Int} {tgt : Nat} (hd : decode M.2.1 pc = .ok (.if_icmp .gt off, 3)) (hp : pc + 3 = n) (ht : (pc : Int) + off = (tgt : Int)) (kt : y < x → E M d mc ms K uc us tgt lv st σ) (kf : ¬ y < x → E M d mc ms K uc us n lv st σ) : E M d mc ms K uc us pc lv (.int y :: .int x :: st) σ := by
  intro p l e s m args below meth c D dT A H locs ls C P S L
  subst hp
  exact lv_icmp_gt C.1 C.2.1 hd ht (fun h => kt h p l e s m args below meth c D dT A H locs ls C P S L) (fun h => kf h p l e s m args below meth c D dT A H locs ls C P S L)
theorem e_if_le {x : Int32} {off : Int} {tgt : Nat} (hd : decode M.2.1 pc = .ok (.ifCond .le off, 3)) (hp : pc + 3 = n) (ht : (pc : Int) + off = (tgt : Int)) (kt : x ≤ 0 → E M d mc ms K uc us tgt lv st σ) (kf : ¬ x ≤ 0 → E M d mc ms K uc us n lv st σ) : E M d mc ms K uc us pc lv (.int x :: st) σ := by
  intro p l e s m args below meth c D dT A H locs ls C P S L
  subst hp
  exact lv_if_le C.1 C.2.1 hd ht (fun h => kt h p l e s m args below meth c D dT A H locs ls C P S L) (fun h => kf h p l e s m args below meth c D dT A H locs ls C P S L)
theorem e_icmp_le {x y : Int32} {off : Int} {tgt : Nat} (hd : decode M.2.1 pc = .ok (.if_icmp .le off, 3)) (hp : pc + 3 = n) (ht : (pc : Int) + off = (tgt : Int)) (kt : x ≤ y → E M d mc ms K uc us tgt lv st σ) (kf : ¬ x ≤ y → E M d mc ms K uc us n lv st σ) : E M d mc ms K uc us pc lv (.int y :: .int x :: st) σ := by
  intro p l e s m args below meth c D dT A H locs ls C P S L
  subst hp
  exact lv_icmp_le C.1 C.2.1 hd ht (fun h => kt h p l e s m args below meth c D dT A H locs ls C P S L) (fun h => kf h p l e s m args below meth c D dT A H locs ls C P S L)
end ROWS2
