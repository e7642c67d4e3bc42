/-! arrays of arrays, made at once (multianewarray of 2 and 3 dimensions), and a store of an int array into one -/
set_option maxRecDepth 100000
/-- a state grown by new cells and by stores into new cells -/
def g_Gr (s t : State) (L : List Loc) (c n : Nat) : Prop := ∀ C : State → List Loc → Nat → Nat → Prop, C s [] 0 0 → (∀ (t : State) (L : List Loc) (c n : Nat) (cell : Cell), C t L c n → C (t.pushCell cell) L (c + 1) (n + cell.slots.size)) →
  (∀ (t : State) (L : List Loc) (c n a : Nat) (cell : Cell) (i : Nat) (v : Value), C t L c n → t.heap[a]? = some cell → s.heap.size ≤ a → C (t.setCell a (cell.setSlot i v)) (L ++ [⟨a, i⟩]) c n) → C t L c n
theorem g_Gr.refl (s : State) : g_Gr s s [] 0 0 := fun _ h _ _ => h
theorem g_Gr.push {s t : State} {L : List Loc} {c n : Nat} (cell : Cell) (h : g_Gr s t L c n) : g_Gr s (t.pushCell cell) L (c + 1) (n + cell.slots.size) := fun C a b d => b _ _ _ _ cell (h C a b d)
theorem g_Gr.store {s t : State} {L : List Loc} {c n : Nat} {a : Nat} {cell : Cell} (i : Nat) (v : Value) (h : g_Gr s t L c n) (hc : t.heap[a]? = some cell) (ha : s.heap.size ≤ a) : g_Gr s (t.setCell a (cell.setSlot i v)) (L ++ [⟨a, i⟩]) c n := fun C x b d => d _ _ _ _ _ _ i v (h C x b d) hc ha
theorem g_Gr.cast {s t : State} {L : List Loc} {c n c' n' : Nat} (h : g_Gr s t L c n) (hc : c = c') (hn : n = n') : g_Gr s t L c' n' := by
  subst hc; subst hn; exact h
theorem g_Gr.size {s t : State} {L : List Loc} {c n : Nat} (h : g_Gr s t L c n) : t.heap.size = s.heap.size + c := by
  refine h (fun t _ c _ => t.heap.size = s.heap.size + c) rfl (fun t L c n cell ih => ?_) (fun t L c n a cell i v ih _ _ => ?_)
  · show (Array.push _ _).size = _
    rw [Array.size_push, ih]; omega
  · show (Array.setIfInBounds _ _ _).size = _
    rw [Array.size_setIfInBounds, ih]
theorem g_Gr.vm {s t : State} {L : List Loc} {c n : Nat} (h : g_Gr s t L c n) : t.vm = s.vm := h (fun t _ _ _ => t.vm = s.vm) rfl (fun _ _ _ _ _ ih => ih) (fun _ _ _ _ _ _ _ _ ih _ _ => ih)
theorem g_Gr.used {s t : State} {L : List Loc} {c n : Nat} (h : g_Gr s t L c n) : t.slotsUsed = s.slotsUsed + n := by
  refine h (fun t _ _ n => t.slotsUsed = s.slotsUsed + n) rfl (fun t L c n cell ih => ?_) (fun t L c n a cell i v ih _ _ => ih)
  show _ + _ = _
  rw [ih]; omega
theorem g_Gr.trans {s t u : State} {L L' : List Loc} {c n c' n' : Nat} (h : g_Gr s t L c n) (h' : g_Gr t u L' c' n') : g_Gr s u (L ++ L') (c + c') (n + n') := by
  refine h' (fun u L' c' n' => g_Gr s u (L ++ L') (c + c') (n + n')) ?_ (fun t L c n cell ih => (ih.push cell).cast (Nat.add_assoc _ _ _) (Nat.add_assoc _ _ _)) (fun t L c n a cell i v ih hc ha => ?_)
  · rw [List.append_nil]; exact h
  · rw [← List.append_assoc]
    exact ih.store i v hc (by rw [h.size] at ha; omega)
theorem g_Gr.base {s t : State} {L : List Loc} {c n : Nat} (h : g_Gr s t L c n) : ∀ l ∈ L, s.heap.size ≤ l.base := by
  refine h (fun _ L _ _ => ∀ l ∈ L, s.heap.size ≤ l.base) (fun l hl => by cases hl) (fun t L c n cell ih => ih) (fun t L c n a cell i v ih hc ha l hl => ?_)
  rcases List.mem_append.mp hl with h1 | h1
  · exact ih l h1
  · rw [List.mem_singleton] at h1
    subst h1
    exact ha
theorem g_Gr.top {s0 t : State} {f : JFrame} {L : List Loc} {c n : Nat} (h : g_Gr (s0.setTop f) t L c n) : ∃ t0, t = t0.setTop f ∧ g_Gr s0 t0 L c n := by
  refine h (fun t L c n => ∃ t0, t = t0.setTop f ∧ g_Gr s0 t0 L c n) ⟨s0, rfl, .refl _⟩ (fun t L c n cell ih => ?_) (fun t L c n a cell i v ih hc ha => ?_)
  · obtain ⟨t0, e1, h1⟩ := ih
    exact ⟨t0.pushCell cell, by rw [e1, State.pushCell_setTop], h1.push cell⟩
  · obtain ⟨t0, e1, h1⟩ := ih
    subst e1
    rw [State.heap_setTop] at hc ha
    exact ⟨t0.setCell _ _, by rw [State.setCell_setTop], h1.store i v hc ha⟩
theorem g_Gr.stand {p : Program} {l : Launch} {e : Env} {R : Room} {s0 : State} {m : MethodId} {args : Array Value} {below : List Frame} {meth : Method} {cc : Code} {locs : List Loc} {cells slots : Nat} {s t : State} {L : List Loc} {c n : Nat} (h : g_Gr s t L c n) (X : Stand p l e R s0 m args below meth cc s locs cells slots) : Stand p l e R s0 m args below meth cc t (locs ++ L) (cells + c) (slots + n) := by
  refine h (fun t L c n => Stand p l e R s0 m args below meth cc t (locs ++ L) (cells + c) (slots + n)) ?_ (fun t L c n cell ih => by rw [← Nat.add_assoc, ← Nat.add_assoc]; exact ih.pushed cell) (fun t L c n a cell i v ih hc ha => ?_)
  · rw [List.append_nil]; exact X
  · have := ih.stored hc i v
    rw [List.append_assoc] at this
    exact this
theorem g_wpNew {Ex : CtlPost} {e : Env} {d : Bool} {acts : List Action} {s : State} {c comp : ClassId} {k : Class} {type : FieldType} {len : Nat} {init : Value} (hk : s.vm.classes[c]? = some k) (hkind : k.kind = .array comp type) (hlimit : len ≤ e.platform.arrayLengthLimit) (hheap : len * componentBytes type ≤ e.platform.maxHeapBytes) (hfit : fits type init = true) (hdef : init.isDefault = true) {Q : Addr → Pre} (h1 : s.heap.size < e.platform.maxCells) (h2 : s.slotsUsed + len ≤ e.platform.maxSlots)
    (hq : Q s.heap.size d acts (s.pushCell (arrV c len (fun _ => init)))) : wp (Jvm.newArray c len init) Q Ex e d acts s := by
  have hfits : ∀ i v, (Array.replicate len init)[i]? = some v → s.fitsSlot c .none i v = true := by
    intro i v hv
    simp only [Array.getElem?_replicate] at hv
    split at hv
    · cases hv; simp [State.fitsSlot, State.slotType?, hk, hkind, hfit]
    · cases hv
  have hda : allocActs (Array.replicate len init) s.heap.size acts = acts := by
    have hall : ((Array.replicate len init).all (·.isDefault)) = true := by
      rw [Array.all_replicate]; split <;> simp [hdef]
    unfold allocActs; rw [if_pos hall]
  have g1 : ¬ len > e.platform.arrayLengthLimit := by omega
  have g2 : ¬ len * componentBytes type > e.platform.maxHeapBytes := by omega
  simp only [Jvm.newArray, Jvm.arrayFits, wp_bind', Jvm.W.ask, Jvm.W.ite, g1, if_false, wp_pure', Jvm.W.theClass, hk, hkind, g2, Jvm.W.alloc, Jvm.W.stop, Option.some.injEq, exists_eq_left', Array.size_replicate, hda]
  rw [if_neg (by omega)]
  rw [arrV_new]
  exact ⟨h1, h2, hfits, hq⟩
def g_sz : List Nat → Nat
  | [] => 1
  | [_] => 1
  | n :: m :: ns => 1 + n * g_sz (m :: ns)
def g_sl : List Nat → Nat
  | [] => 0
  | [n] => n
  | n :: m :: ns => n + n * g_sl (m :: ns)
def g_ch (V : Vm) (ty : FieldType) : List ClassId → Prop
  | [] => False
  | [c] => ∃ (k : Class) (comp : ClassId), V.classes[c]? = some k ∧ k.kind = .array comp ty
  | c :: c' :: cs => (∃ (k : Class) (t : FieldType), V.classes[c]? = some k ∧ k.kind = .array c' t ∧ t.isReference = true) ∧ g_ch V ty (c' :: cs)
def g_blk (dv : Value) : List ClassId → List Nat → Nat → List Cell
  | c :: c' :: cs, n :: m :: ns, q => arrV c n (fun j => .ref (q + 1 + j * g_sz (m :: ns))) :: (List.range n).flatMap (fun j => g_blk dv (c' :: cs) (m :: ns) (q + 1 + j * g_sz (m :: ns)))
  | c :: _, n :: _, _ => [arrV c n (fun _ => dv)]
  | _, _, _ => []
theorem g_refFits {t : FieldType} (h : t.isReference = true) (v : Value) (hv : v = .null ∨ ∃ a, v = .ref a) : fits t v = true := by
  rcases hv with rfl | ⟨a, rfl⟩ <;> cases t <;> simp [FieldType.isReference] at h <;> rfl
theorem g_refBytes {t : FieldType} (h : t.isReference = true) : componentBytes t = 4 := by
  cases t <;> simp [FieldType.isReference] at h <;> rfl
theorem g_bytes8 (t : FieldType) : componentBytes t ≤ 8 := by cases t <;> simp [componentBytes]
theorem g_arrSet (c : ClassId) (N i : Nat) (f : Nat → Value) (v : Value) : (arrV c N f).setSlot i v = arrV c N (fun j => if j = i then v else f j) := by
  unfold arrV Cell.setSlot
  congr 1
  apply Array.ext
  · simp
  · intro j h1 h2
    rw [Array.getElem_ofFn]
    by_cases h : i = j
    · subst h; simp
    · show _ = if j = i then v else f j
      rw [if_neg (fun z : j = i => h z.symm)]
      show ((Array.ofFn (n := N) fun j => f j.val).setIfInBounds i v)[j] = f j
      rw [Array.getElem_setIfInBounds_ne (by simpa using h1) h, Array.getElem_ofFn]
theorem g_wpMake {Ex : CtlPost} {e : Env} {ty : FieldType} (hL : e.platform.arrayLengthLimit = 2147483645) (hM : e.platform.maxHeapBytes = 536870912) (hdf : fits ty (defaultValue ty) = true) (hdd : (defaultValue ty).isDefault = true) :
    ∀ (zs : List Int32) (cs : List ClassId) (c : ClassId) (s : State) (d : Bool) (acts : List Action) (Q : Addr → Pre), zs ≠ [] → zs.length = (c :: cs).length → (∀ z ∈ zs, ¬ z < 0 ∧ z.toNatClampNeg * 8 ≤ 536870912) → g_ch s.vm ty (c :: cs) →
    s.heap.size + g_sz (zs.map (fun z => z.toNatClampNeg)) ≤ e.platform.maxCells → s.slotsUsed + g_sl (zs.map (fun z => z.toNatClampNeg)) ≤ e.platform.maxSlots →
    (∀ d' acts' t L, g_Gr s t L (g_sz (zs.map (fun z => z.toNatClampNeg))) (g_sl (zs.map (fun z => z.toNatClampNeg))) → t.heap.toList = s.heap.toList ++ g_blk (defaultValue ty) (c :: cs) (zs.map (fun z => z.toNatClampNeg)) s.heap.size → Q s.heap.size d' acts' t) → wp (multianewarray.make c zs) Q Ex e d acts s := by
  intro zs
  induction zs with
  | nil => intro cs c s d acts Q h; exact absurd rfl h
  | cons z zs ih =>
    intro cs c s d acts Q _ hlen hz hch hc hs hq
    obtain ⟨hz0, hz8⟩ := hz z List.mem_cons_self
    cases zs with
    | nil =>
      cases cs with
      | cons _ _ => simp at hlen
      | nil =>
        obtain ⟨k, comp, hk, hkind⟩ := hch
        have h8 := g_bytes8 ty
        have h9 : z.toNatClampNeg * componentBytes ty ≤ z.toNatClampNeg * 8 := Nat.mul_le_mul_left _ h8
        rw [multianewarray.make]
        simp only [wp_bind', Jvm.W.ite, hz0, if_false, wp_pure', Jvm.W.theClass, hk, hkind, Option.some.injEq, exists_eq_left']
        refine g_wpNew hk hkind (by rw [hL]; omega) (by rw [hM]; omega) hdf hdd hc (by simpa [g_sl] using hs) (hq _ _ _ _ ((g_Gr.push _ (.refl _)).cast rfl (by simp [arrV, g_sl])) ?_)
        show (Array.push _ _).toList = _
        simp [g_blk]
    | cons z2 zs =>
      cases cs with
      | nil => simp at hlen
      | cons c2 cs =>
        obtain ⟨⟨k, t, hk, hkind, hr⟩, hch2⟩ := hch
        have hfind : ((z2 :: zs).find? (· < 0)) = none := by
          rw [List.find?_eq_none]
          intro x hx
          have := (hz x (List.mem_cons_of_mem _ hx)).1
          simpa using this
        rw [multianewarray.make]
        · simp only [wp_bind', Jvm.W.ite, hz0, if_false, wp_pure', Jvm.W.theClass, hk, hkind, Option.some.injEq, exists_eq_left']
          generalize hN : z.toNatClampNeg = N at hz8
          generalize hns : (z2 :: zs).map (fun z => z.toNatClampNeg) = ns
          have hsz : g_sz ((z :: z2 :: zs).map (fun z => z.toNatClampNeg)) = 1 + N * g_sz ns := by rw [← hN, ← hns]; rfl
          have hsl : g_sl ((z :: z2 :: zs).map (fun z => z.toNatClampNeg)) = N + N * g_sl ns := by rw [← hN, ← hns]; rfl
          have hbk : ∀ q, g_blk (defaultValue ty) (c :: c2 :: cs) ((z :: z2 :: zs).map (fun z => z.toNatClampNeg)) q = arrV c N (fun j => .ref (q + 1 + j * g_sz ns)) :: (List.range N).flatMap (fun j => g_blk (defaultValue ty) (c2 :: cs) ns (q + 1 + j * g_sz ns)) := by intro q; rw [← hN, ← hns]; rfl
          rw [hsz] at hc hq
          rw [hsl] at hs hq
          simp only [hbk] at hq
          refine g_wpNew hk hkind (by rw [hL]; omega) (by rw [hM, g_refBytes hr]; omega) (g_refFits hr _ (Or.inl rfl)) rfl (by omega) (by omega) ?_
          simp only [hfind]
          rw [ite_self, wp_bind', Std.Legacy.Range.forIn_eq_forIn_range']
          have hsr : ([:N] : Std.Legacy.Range).size = N := by simp [Std.Legacy.Range.size]
          rw [hsr]
          show wp (forIn (List.range' 0 N 1) PUnit.unit _) _ Ex e d acts _
          refine wp_forIn_inv (fun rest s' => ∃ (i : Nat) (L : List Loc), i ≤ N ∧ rest = List.range' i (N - i) ∧ g_Gr s s' L (1 + i * g_sz ns) (N + i * g_sl ns) ∧ s'.heap.toList = s.heap.toList ++ arrV c N (fun j => if j < i then .ref (s.heap.size + 1 + j * g_sz ns) else .null) :: (List.range i).flatMap (fun j => g_blk (defaultValue ty) (c2 :: cs) ns (s.heap.size + 1 + j * g_sz ns))) _ _ ⟨0, [], Nat.zero_le _, rfl, (g_Gr.push _ (.refl _)).cast (by omega) (by simp [arrV]), ?_⟩ ?_ ?_
          · show (Array.push _ _).toList = _
            simp
          · rintro x rest s' d' acts' Q' ⟨i, L, hi, hl, hG, hH⟩ hnext
            have hlt : i < N := by
              rcases Nat.lt_or_ge i N with h | h
              · exact h
              · rw [show N - i = 0 from by omega] at hl; simp at hl
            obtain ⟨rfl, hrest⟩ : x = i ∧ rest = List.range' (i + 1) (N - (i + 1)) := by
              rw [show N - i = (N - (i + 1)) + 1 from by omega, List.range'_succ] at hl
              exact ⟨(List.cons.inj hl).1, (List.cons.inj hl).2⟩
            have m1 : x * g_sz ns + g_sz ns ≤ N * g_sz ns := by
              have := Nat.mul_le_mul_right (g_sz ns) (show x + 1 ≤ N from hlt)
              rw [Nat.succ_mul] at this; exact this
            have m2 : x * g_sl ns + g_sl ns ≤ N * g_sl ns := by
              have := Nat.mul_le_mul_right (g_sl ns) (show x + 1 ≤ N from hlt)
              rw [Nat.succ_mul] at this; exact this
            simp only [wp_bind']
            refine ih cs c2 s' d' acts' _ (by simp) (by simpa using hlen) (fun z h => hz z (List.mem_cons_of_mem _ h)) (by rw [hG.vm]; exact hch2) (by rw [hns, hG.size]; omega) (by rw [hns, hG.used]; omega) (fun d2 acts2 t2 L2 hG2 hH2 => ?_)
            rw [hns] at hG2 hH2
            have hGt := hG.trans hG2
            rw [hH, List.append_assoc, List.cons_append] at hH2
            have hsl0 : s.heap.toList.length = s.heap.size := Array.length_toList
            have hcell : t2.heap[s.heap.size]? = some (arrV c N (fun j => if j < x then .ref (s.heap.size + 1 + j * g_sz ns) else .null)) := by
              rw [← Array.getElem?_toList, hH2, List.getElem?_append_right (by omega), hsl0, Nat.sub_self]
              rfl
            simp only [wp_bind', Jvm.W.writeLoc, wp_pure']
            refine ⟨_, hcell, by simp [arrV], by simp [arrV]; exact hlt, ?_, hnext _ _ _ ⟨x + 1, _, hlt, hrest, (hGt.store x _ hcell (Nat.le_refl _)).cast (by rw [Nat.succ_mul]; omega) (by rw [Nat.succ_mul]; omega), ?_⟩⟩
            · show State.fitsSlot _ c _ _ _ = true
              simp [State.fitsSlot, State.slotType?, hGt.vm, hk, hkind, arrV, g_refFits hr _ (Or.inr ⟨_, rfl⟩)]
            · show (Array.setIfInBounds _ _ _).toList = _
              rw [Array.toList_setIfInBounds, hH2, List.set_append_right _ _ (by omega), hsl0, Nat.sub_self, List.set_cons_zero, g_arrSet, List.range_succ, List.flatMap_append, hG.size]
              congr 2
              · congr 1
                funext j
                by_cases hj : j = x
                · subst hj
                  rw [if_pos rfl, if_pos (by omega)]
                  exact congrArg Value.ref (Nat.add_assoc _ _ _).symm
                · rw [if_neg hj]
                  by_cases hj2 : j < x
                  · rw [if_pos hj2, if_pos (by omega)]
                  · rw [if_neg hj2, if_neg (by omega)]
              · rw [show s.heap.size + (1 + x * g_sz ns) = s.heap.size + 1 + x * g_sz ns by omega]
                simp
          · rintro s' d' acts' ⟨i, L, hi, hl, hG, hH⟩
            have hiN : i = N := by
              rcases Nat.lt_or_ge i N with h | h
              · rw [show N - i = (N - (i + 1)) + 1 from by omega, List.range'_succ] at hl; cases hl
              · omega
            subst hiN
            simp only [wp_pure']
            refine hq _ _ _ _ hG ?_
            rw [hH]
            congr 2
            unfold arrV
            congr 2
            funext j
            exact if_pos j.isLt
theorem g_Gr.only {s t : State} {L : List Loc} {c n : Nat} (h : g_Gr s t L c n) : t = { s with heap := t.heap, slotsUsed := t.slotsUsed } := by
  refine h (fun t _ _ _ => t = { s with heap := t.heap, slotsUsed := t.slotsUsed }) rfl (fun t L c n cell ih => ?_) (fun t L c n a cell i v ih _ _ => ?_)
  · show t.pushCell cell = _
    rw [ih]
    rfl
  · show t.setCell a _ = _
    rw [ih]
    rfl
theorem g_Gr.det {s t t' : State} {L L' : List Loc} {c n c' : Nat} (h : g_Gr s t L c n) (h' : g_Gr s t' L' c' n) (hh : t.heap.toList = t'.heap.toList) : t = t' := by
  rw [h.only, h'.only, h.used, h'.used]
  have : t.heap = t'.heap := Array.toList_inj.mp hh
  rw [this]
theorem g_grow (dv : Value) : ∀ (ns : List Nat) (cs : List ClassId) (c : ClassId) (s : State), ns ≠ [] → ns.length = (c :: cs).length → ∃ (t : State) (L : List Loc), g_Gr s t L (g_sz ns) (g_sl ns) ∧ t.heap.toList = s.heap.toList ++ g_blk dv (c :: cs) ns s.heap.size := by
  intro ns
  induction ns with
  | nil => intro cs c s h; exact absurd rfl h
  | cons N ns ih =>
    intro cs c s _ hlen
    cases ns with
    | nil =>
      cases cs with
      | cons _ _ => simp at hlen
      | nil =>
        refine ⟨s.pushCell (arrV c N (fun _ => dv)), [], (g_Gr.push _ (.refl _)).cast rfl (by simp [arrV, g_sl]), ?_⟩
        show (Array.push _ _).toList = _
        simp [g_blk]
    | cons N2 ns =>
      cases cs with
      | nil => simp at hlen
      | cons c2 cs =>
        generalize hns : N2 :: ns = ms at ih
        have main : ∀ i, i ≤ N → ∃ (t : State) (L : List Loc), g_Gr s t L (1 + i * g_sz ms) (N + i * g_sl ms) ∧ t.heap.toList = s.heap.toList ++ arrV c N (fun j => if j < i then .ref (s.heap.size + 1 + j * g_sz ms) else .null) :: (List.range i).flatMap (fun j => g_blk dv (c2 :: cs) ms (s.heap.size + 1 + j * g_sz ms)) := by
          intro i
          induction i with
          | zero =>
            intro _
            refine ⟨s.pushCell (arrV c N (fun _ => .null)), [], (g_Gr.push _ (.refl _)).cast (by omega) (by simp [arrV]), ?_⟩
            show (Array.push _ _).toList = _
            simp
          | succ x ihx =>
            intro hlt
            obtain ⟨s', L, hG, hH⟩ := ihx (by omega)
            obtain ⟨t2, L2, hG2, hH2⟩ := ih cs c2 s' (by rw [← hns]; simp) (by rw [← hns]; simpa using hlen)
            have hGt := hG.trans hG2
            rw [hH, List.append_assoc, List.cons_append] at hH2
            have hsl0 : s.heap.toList.length = s.heap.size := Array.length_toList
            have hcell : t2.heap[s.heap.size]? = some (arrV c N (fun j => if j < x then .ref (s.heap.size + 1 + j * g_sz ms) else .null)) := by
              rw [← Array.getElem?_toList, hH2, List.getElem?_append_right (by omega), hsl0, Nat.sub_self]
              rfl
            refine ⟨_, _, (hGt.store x (.ref s'.heap.size) hcell (Nat.le_refl _)).cast (by rw [Nat.succ_mul]; omega) (by rw [Nat.succ_mul]; omega), ?_⟩
            show (Array.setIfInBounds _ _ _).toList = _
            rw [Array.toList_setIfInBounds, hH2, List.set_append_right _ _ (by omega), hsl0, Nat.sub_self, List.set_cons_zero, g_arrSet, List.range_succ, List.flatMap_append, hG.size]
            congr 2
            · congr 1
              funext j
              by_cases hj : j = x
              · subst hj
                rw [if_pos rfl, if_pos (by omega)]
                exact congrArg Value.ref (Nat.add_assoc _ _ _).symm
              · rw [if_neg hj]
                by_cases hj2 : j < x
                · rw [if_pos hj2, if_pos (by omega)]
                · rw [if_neg hj2, if_neg (by omega)]
            · rw [show s.heap.size + (1 + x * g_sz ms) = s.heap.size + 1 + x * g_sz ms by omega]
              simp
        obtain ⟨t, L, hG, hH⟩ := main N (Nat.le_refl _)
        have e1 : g_sz (N :: N2 :: ns) = 1 + N * g_sz ms := by rw [← hns]; rfl
        have e2 : g_sl (N :: N2 :: ns) = N + N * g_sl ms := by rw [← hns]; rfl
        have e3 : g_blk dv (c :: c2 :: cs) (N :: N2 :: ns) s.heap.size = arrV c N (fun j => .ref (s.heap.size + 1 + j * g_sz ms)) :: (List.range N).flatMap (fun j => g_blk dv (c2 :: cs) ms (s.heap.size + 1 + j * g_sz ms)) := by rw [← hns]; rfl
        rw [← hns] at e1 e2 e3 hG hH ⊢
        refine ⟨t, L, hG.cast e1.symm e2.symm, ?_⟩
        rw [hH, e3]
        congr 2
        unfold arrV
        congr 2
        funext j
        exact if_pos j.isLt
theorem g_over {a0 : Array Value} {s0 : State} {t : FieldType} (h : (Cond.arrayOver (.array t)).before a0 s0 = true) :
    ∃ (comp c : ClassId) (k : Class), s0.vm.findClass (FieldType.array t).toString = some comp ∧ s0.vm.classes[c]? = some k ∧ k.kind = .array comp (.array t) ∧ s0.vm.findClass ("[" ++ (FieldType.array t).toString) = some c := by
  simp only [Cond.before, Cond.holds, Cond.value, beq_iff_eq] at h
  cases hc : s0.vm.findClass (FieldType.array t).toString with
  | none => simp [hc] at h
  | some comp =>
    simp only [hc, Option.bind_some, Option.bind_eq_some_iff, Option.map_eq_some_iff] at h
    obtain ⟨c, hi, k, hk, hb⟩ := h
    obtain ⟨hlt, hp, -⟩ := Array.findIdx?_eq_some_iff_getElem.mp hi
    have hkk : s0.vm.classes[c] = k := (Array.getElem?_eq_some_iff.mp hk).2
    rw [hkk] at hp
    cases hkind : k.kind with
    | array component ty =>
      rw [hkind] at hb hp
      simp at hb hp
      exact ⟨comp, c, k, rfl, hk, by rw [hkind, hp, hb.1], hb.2⟩
    | _ => rw [hkind] at hb; simp at hb
theorem g_K.overA {D : va_G} {dT : Nat → ClassId} {A : Nat → Prop} {t0 : Nat × Nat} {U : State} {t : FieldType} {x y : ClassId} (h : g_K D dT A t0 U) (hw : Cond.arrayOver (.array t) ∈ lw_tbl) (hx : U.vm.findClass ("[" ++ (FieldType.array t).toString) = some x) (hy : U.vm.findClass (FieldType.array t).toString = some y) :
    ∃ k : Class, U.vm.classes[x]? = some k ∧ k.kind = .array y (.array t) := by
  obtain ⟨-, s0, a0, h2, -, -, h4, -⟩ := h
  obtain ⟨comp, c, k, g1, g2, g3, g4⟩ := g_over (h2.1 _ hw)
  have al := h4.alike
  rw [al.findClass] at hx hy
  cases hx.symm.trans g4
  cases hy.symm.trans g1
  obtain ⟨k', hk', he⟩ := al.2.2 _ _ g2
  exact ⟨k', hk', by rw [he]; exact g3⟩
section MULTI
variable {p : Program} {l : Launch} {e : Env} {R : Room} {s : State} {m : MethodId} {args : Array Value} {below : List Frame} {meth : Method} {c : Code} {H : Heap} {locs : List Loc} {cells slots : Nat} {Q : State → Prop}
theorem g_ch.moved {V V' : Vm} {ty : FieldType} (hal : V.Alike V') : ∀ {cs : List ClassId}, g_ch V ty cs → g_ch V' ty cs
  | [], h => h.elim
  | [c], ⟨k, comp, h1, h2⟩ => by
    obtain ⟨k', hk', he⟩ := hal.2.2 _ _ h1
    exact ⟨k', comp, hk', by rw [he]; exact h2⟩
  | c :: c' :: cs, ⟨⟨k, t, h1, h2, h3⟩, h⟩ => by
    obtain ⟨k', hk', he⟩ := hal.2.2 _ _ h1
    exact ⟨⟨k', t, hk', by rw [he]; exact h2, h3⟩, g_ch.moved hal h⟩
theorem g_multi2 {cc : ByteArray} {own nm : String} {index : Nat} {c0 : ClassId} {cs : List ClassId} {ty : FieldType} {z1 z2 : Int32} {pc : Nat} {ls : Array Slot} {rest : List Value} (hexec : p.tables.exec = Jvm.exec) (hb : c.code = cc) (hown : s.vm.findClass own = some m.cls) (hclink : (Cond.classLink own index nm).before args s = true) (hnm : s.vm.findClass nm = some c0) (hlen : cs.length = 1) (hch : g_ch s.vm ty (c0 :: cs)) (hdf : fits ty (defaultValue ty) = true) (hdd : (defaultValue ty).isDefault = true) (hz : ∀ z ∈ [z1, z2], ¬ z < 0 ∧ z.toNatClampNeg * 8 ≤ 536870912) (hcells : cells + g_sz [z1.toNatClampNeg, z2.toNatClampNeg] ≤ R.cells) (hslots : slots + g_sl [z1.toNatClampNeg, z2.toNatClampNeg] ≤ R.slots) (hdg : decode cc pc = .ok (.multianewarray index 2, 4))
    (kk : ∀ (H1 : Heap) (L : List Loc), H1.toList = H.toList ++ g_blk (defaultValue ty) (c0 :: cs) [z1.toNatClampNeg, z2.toNatClampNeg] H.size → (∀ l ∈ L, H.size ≤ l.base) → W p l e R s m args below meth c H1 (locs ++ L) (cells + g_sz [z1.toNatClampNeg, z2.toNatClampNeg]) (slots + g_sl [z1.toNatClampNeg, z2.toNatClampNeg]) Q (F0 m (pc + 4) ls (.ref H.size :: rest))) : W p l e R s m args below meth c H locs cells slots Q (F0 m pc ls (.int z2 :: .int z1 :: rest)) := by
  intro T hT X
  subst hT
  subst hb
  have hpl : e.platform.magicAccessors = ({} : Platform).magicAccessors := by rw [X.admits.platform]
  obtain ⟨c1, hfc1, hcl⟩ := Cond.classLink_spec hown hclink e.platform hpl
  cases hnm.symm.trans hfc1
  obtain ⟨hg₁, hwarm₁, hready₁⟩ := State.classEntry (e := e) X.warmed hcl
  generalize T.vm.noted m.cls index (.cls c0) = vm₁ at hg₁ hwarm₁ hready₁
  have hal : s.vm.Alike vm₁ := hwarm₁.alike
  have X₁ := X.noted hwarm₁
  obtain ⟨hr1, hr2⟩ := X.roomAbove hcells hslots
  have hch1 : g_ch vm₁ ty (c0 :: cs) := hch.moved hal
  suffices hs : ∃ (t : State) (L : List Loc), g_Gr (T.setVm vm₁) t L (g_sz [z1.toNatClampNeg, z2.toNatClampNeg]) (g_sl [z1.toNatClampNeg, z2.toNatClampNeg]) ∧ t.heap.toList = T.heap.toList ++ g_blk (defaultValue ty) (c0 :: cs) [z1.toNatClampNeg, z2.toNatClampNeg] T.heap.size ∧ ∀ target, Steps p.tables e below (t.setTop (F0 m (pc + 4) ls (.ref T.heap.size :: rest))) target → Steps p.tables e below (T.setTop (F0 m pc ls (.int z2 :: .int z1 :: rest))) target by
    obtain ⟨t, L, hG, hH, st⟩ := hs
    obtain ⟨t2, a1, b1⟩ := kk t.heap L hH hG.base t rfl (hG.stand X₁)
    exact ⟨t2, st t2 a1, b1⟩
  obtain ⟨t, L, hG, hH⟩ := g_grow (defaultValue ty) [z1.toNatClampNeg, z2.toNatClampNeg] cs c0 (T.setVm vm₁) (by simp) (by simp [hlen])
  refine ⟨t, L, hG, hH, fun target hrest => ?_⟩
  jvm_step X.here [hexec, hdg]
  simp only [multianewarray.sem, wp_bind', Jvm.W.resolveClassAt_links (State.method?_setTop (F0 m pc ls (.int z2 :: .int z1 :: rest)) X.here.top) hg₁]
  rw [Jvm.W.popN, if_neg (by decide)]
  refine ⟨_, State.topJava?_setTop' (s := T.setVm vm₁) _ X.here.top, [.int z1, .int z2], rest, rfl, rfl, ?_⟩
  simp only [List.mapM_cons, List.mapM_nil, wp_bind', wp_pure']
  have eS : ((T.setTop (F0 m pc ls (.int z2 :: .int z1 :: rest))).setVm vm₁).setTop (F0 m pc ls rest) = (T.setVm vm₁).setTop (F0 m pc ls rest) := by
    show ((T.setVm vm₁).setTop _).setTop _ = _
    rw [State.setTop_setTop]
  rw [eS]
  refine g_wpMake (Launch.admits_arrayLengthLimit X.admits) (Launch.admits_maxHeapBytes X.admits) hdf hdd [z1, z2] cs c0 _ _ _ _ (by simp) (by simp [hlen]) hz hch1 (by rw [State.heap_setTop]; exact hr1) hr2 (fun d' acts' t' L' hG' hH' => ?_)
  obtain ⟨t0, rfl, hG0⟩ := hG'.top
  rw [State.heap_setTop, State.heap_setTop] at hH'
  cases hG0.det hG (hH'.trans hH.symm)
  have XF := hG.stand X₁
  simp only [wp_bind', Jvm.W.mark, Jvm.W.pushRef, State.topJava?_setTop' _ XF.here.top, Option.some.injEq, exists_eq_left', State.setTop_setTop, State.heap_setTop]
  intro acts
  simp [jvm, XF.here.top]
  exact hrest
theorem g_multi3 {cc : ByteArray} {own nm : String} {index : Nat} {c0 : ClassId} {cs : List ClassId} {ty : FieldType} {z1 z2 z3 : Int32} {pc : Nat} {ls : Array Slot} {rest : List Value} (hexec : p.tables.exec = Jvm.exec) (hb : c.code = cc) (hown : s.vm.findClass own = some m.cls) (hclink : (Cond.classLink own index nm).before args s = true) (hnm : s.vm.findClass nm = some c0) (hlen : cs.length = 2) (hch : g_ch s.vm ty (c0 :: cs)) (hdf : fits ty (defaultValue ty) = true) (hdd : (defaultValue ty).isDefault = true) (hz : ∀ z ∈ [z1, z2, z3], ¬ z < 0 ∧ z.toNatClampNeg * 8 ≤ 536870912) (hcells : cells + g_sz [z1.toNatClampNeg, z2.toNatClampNeg, z3.toNatClampNeg] ≤ R.cells) (hslots : slots + g_sl [z1.toNatClampNeg, z2.toNatClampNeg, z3.toNatClampNeg] ≤ R.slots) (hdg : decode cc pc = .ok (.multianewarray index 3, 4))
    (kk : ∀ (H1 : Heap) (L : List Loc), H1.toList = H.toList ++ g_blk (defaultValue ty) (c0 :: cs) [z1.toNatClampNeg, z2.toNatClampNeg, z3.toNatClampNeg] H.size → (∀ l ∈ L, H.size ≤ l.base) → W p l e R s m args below meth c H1 (locs ++ L) (cells + g_sz [z1.toNatClampNeg, z2.toNatClampNeg, z3.toNatClampNeg]) (slots + g_sl [z1.toNatClampNeg, z2.toNatClampNeg, z3.toNatClampNeg]) Q (F0 m (pc + 4) ls (.ref H.size :: rest))) : W p l e R s m args below meth c H locs cells slots Q (F0 m pc ls (.int z3 :: .int z2 :: .int z1 :: rest)) := by
  intro T hT X
  subst hT
  subst hb
  have hpl : e.platform.magicAccessors = ({} : Platform).magicAccessors := by rw [X.admits.platform]
  obtain ⟨c1, hfc1, hcl⟩ := Cond.classLink_spec hown hclink e.platform hpl
  cases hnm.symm.trans hfc1
  obtain ⟨hg₁, hwarm₁, hready₁⟩ := State.classEntry (e := e) X.warmed hcl
  generalize T.vm.noted m.cls index (.cls c0) = vm₁ at hg₁ hwarm₁ hready₁
  have hal : s.vm.Alike vm₁ := hwarm₁.alike
  have X₁ := X.noted hwarm₁
  obtain ⟨hr1, hr2⟩ := X.roomAbove hcells hslots
  have hch1 : g_ch vm₁ ty (c0 :: cs) := hch.moved hal
  suffices hs : ∃ (t : State) (L : List Loc), g_Gr (T.setVm vm₁) t L (g_sz [z1.toNatClampNeg, z2.toNatClampNeg, z3.toNatClampNeg]) (g_sl [z1.toNatClampNeg, z2.toNatClampNeg, z3.toNatClampNeg]) ∧ t.heap.toList = T.heap.toList ++ g_blk (defaultValue ty) (c0 :: cs) [z1.toNatClampNeg, z2.toNatClampNeg, z3.toNatClampNeg] T.heap.size ∧ ∀ target, Steps p.tables e below (t.setTop (F0 m (pc + 4) ls (.ref T.heap.size :: rest))) target → Steps p.tables e below (T.setTop (F0 m pc ls (.int z3 :: .int z2 :: .int z1 :: rest))) target by
    obtain ⟨t, L, hG, hH, st⟩ := hs
    obtain ⟨t2, a1, b1⟩ := kk t.heap L hH hG.base t rfl (hG.stand X₁)
    exact ⟨t2, st t2 a1, b1⟩
  obtain ⟨t, L, hG, hH⟩ := g_grow (defaultValue ty) [z1.toNatClampNeg, z2.toNatClampNeg, z3.toNatClampNeg] cs c0 (T.setVm vm₁) (by simp) (by simp [hlen])
  refine ⟨t, L, hG, hH, fun target hrest => ?_⟩
  jvm_step X.here [hexec, hdg]
  simp only [multianewarray.sem, wp_bind', Jvm.W.resolveClassAt_links (State.method?_setTop (F0 m pc ls (.int z3 :: .int z2 :: .int z1 :: rest)) X.here.top) hg₁]
  rw [Jvm.W.popN, if_neg (by decide)]
  refine ⟨_, State.topJava?_setTop' (s := T.setVm vm₁) _ X.here.top, [.int z1, .int z2, .int z3], rest, rfl, rfl, ?_⟩
  simp only [List.mapM_cons, List.mapM_nil, wp_bind', wp_pure']
  have eS : ((T.setTop (F0 m pc ls (.int z3 :: .int z2 :: .int z1 :: rest))).setVm vm₁).setTop (F0 m pc ls rest) = (T.setVm vm₁).setTop (F0 m pc ls rest) := by
    show ((T.setVm vm₁).setTop _).setTop _ = _
    rw [State.setTop_setTop]
  rw [eS]
  refine g_wpMake (Launch.admits_arrayLengthLimit X.admits) (Launch.admits_maxHeapBytes X.admits) hdf hdd [z1, z2, z3] cs c0 _ _ _ _ (by simp) (by simp [hlen]) hz hch1 (by rw [State.heap_setTop]; exact hr1) hr2 (fun d' acts' t' L' hG' hH' => ?_)
  obtain ⟨t0, rfl, hG0⟩ := hG'.top
  rw [State.heap_setTop, State.heap_setTop] at hH'
  cases hG0.det hG (hH'.trans hH.symm)
  have XF := hG.stand X₁
  simp only [wp_bind', Jvm.W.mark, Jvm.W.pushRef, State.topJava?_setTop' _ XF.here.top, Option.some.injEq, exists_eq_left', State.setTop_setTop, State.heap_setTop]
  intro acts
  simp [jvm, XF.here.top]
  exact hrest
theorem g_Pic.block {D : va_G} {dT : Nat → ClassId} {A : Nat → Prop} {σ : gH} {H1 : Heap} {es : List (Nat × vp_A)} (P : g_Pic D dT A σ H) (hA : ∀ q, H.size ≤ q → A q) (hH : H1.toList = H.toList ++ es.map (fun x => vp_cell (dT x.1) x.2)) :
    g_Pic D dT A (σ.1, fun a => if H.size ≤ a ∧ a < H.size + es.length then (es[a - H.size]?).map .inl else σ.2 a) H1 := by
  have old : ∀ q, q < H.size → H1[q]? = H[q]? := by
    intro q hq
    rw [← Array.getElem?_toList, hH, List.getElem?_append_left (by simpa using hq), Array.getElem?_toList]
  have new : ∀ (i : Nat) (x : Nat × vp_A), es[i]? = some x → H1[H.size + i]? = some (vp_cell (dT x.1) x.2) := by
    intro i x hx
    rw [← Array.getElem?_toList, hH, List.getElem?_append_right (by simp)]
    simp [hx]
  have sml : ∀ a, σ.2 a ≠ none → a < H.size := fun a h => (P.in h).2
  obtain ⟨ws, g1, g2, g3, g4⟩ := P
  have lt : ∀ (k : Nat) (q : Nat × va_E), ws[k]? = some q → q.1 < H.size := fun k q hq => (g1 k q hq).lt
  let nw : va_W := (List.range es.length).map (fun i => (H.size + i, (.inl (dT (es.getD i (0, 0, .inl fun _ => 0)).1, (es.getD i (0, 0, .inl fun _ => 0)).2) : va_E)))
  have nwAt : ∀ i, nw[i]? = (es[i]?).map (fun x => (H.size + i, .inl (dT x.1, x.2))) := by
    intro i
    show (List.map _ _)[i]? = _
    by_cases hi : i < es.length
    · simp [hi]
    · simp [hi]
  refine ⟨ws ++ nw, ?_, ⟨?_, ?_⟩, ?_, ?_⟩
  · intro k q hk
    by_cases hl : k < ws.length
    · rw [List.getElem?_append_left hl] at hk
      exact (g1 k q hk).kept (old _ (lt k q hk))
    · rw [List.getElem?_append_right (by omega), nwAt] at hk
      obtain ⟨x, hx, rfl⟩ := Option.map_eq_some_iff.mp hk
      exact new _ _ hx
  · intro i j x y hi hj hxy
    by_cases hl : i < ws.length
    · rw [List.getElem?_append_left hl] at hi
      by_cases hl2 : j < ws.length
      · rw [List.getElem?_append_left hl2] at hj
        exact g2.1 i j x y hi hj hxy
      · rw [List.getElem?_append_right (by omega), nwAt] at hj
        obtain ⟨z, hz, rfl⟩ := Option.map_eq_some_iff.mp hj
        have := lt i x hi
        rw [hxy] at this
        exact absurd this (by show ¬ H.size + _ < H.size; omega)
    · rw [List.getElem?_append_right (by omega), nwAt] at hi
      obtain ⟨z, hz, rfl⟩ := Option.map_eq_some_iff.mp hi
      by_cases hl2 : j < ws.length
      · rw [List.getElem?_append_left hl2] at hj
        have := lt j y hj
        rw [← hxy] at this
        exact absurd this (by show ¬ H.size + _ < H.size; omega)
      · rw [List.getElem?_append_right (by omega), nwAt] at hj
        obtain ⟨z2, hz2, rfl⟩ := Option.map_eq_some_iff.mp hj
        have h9 : H.size + (i - ws.length) = H.size + (j - ws.length) := hxy
        omega
  · intro k q hk
    by_cases hl : k < ws.length
    · rw [List.getElem?_append_left hl] at hk
      exact g2.2 k q hk
    · rw [List.getElem?_append_right (by omega), nwAt] at hk
      obtain ⟨x, hx, rfl⟩ := Option.map_eq_some_iff.mp hk
      exact hA _ (Nat.le_add_right _ _)
  · intro a f hf
    change (if H.size ≤ a ∧ a < H.size + es.length then (es[a - H.size]?).map .inl else σ.2 a) = some f at hf
    by_cases hc : H.size ≤ a ∧ a < H.size + es.length
    · rw [if_pos hc] at hf
      obtain ⟨x, hx, rfl⟩ := Option.map_eq_some_iff.mp hf
      refine ⟨ws.length + (a - H.size), ?_⟩
      rw [List.getElem?_append_right (by omega), nwAt, show ws.length + (a - H.size) - ws.length = a - H.size by omega, hx]
      simp only [Option.map_some]
      rw [show H.size + (a - H.size) = a by omega]
      rfl
    · rw [if_neg hc] at hf
      obtain ⟨k, hk⟩ := g3 a f hf
      exact ⟨k, by rw [List.getElem?_append_left (List.getElem?_eq_some_iff.mp hk).1]; exact hk⟩
  · intro k q hk
    change (if H.size ≤ q.1 ∧ q.1 < H.size + es.length then (es[q.1 - H.size]?).map .inl else σ.2 q.1) ≠ none
    by_cases hl : k < ws.length
    · rw [List.getElem?_append_left hl] at hk
      have := lt k q hk
      rw [if_neg (by omega)]
      exact g4 k q hk
    · rw [List.getElem?_append_right (by omega), nwAt] at hk
      obtain ⟨x, hx, rfl⟩ := Option.map_eq_some_iff.mp hk
      have h1 := (List.getElem?_eq_some_iff.mp hx).1
      show (if H.size ≤ H.size + (k - ws.length) ∧ H.size + (k - ws.length) < H.size + es.length then (es[H.size + (k - ws.length) - H.size]?).map .inl else σ.2 (H.size + (k - ws.length))) ≠ none
      rw [if_pos (by omega), show H.size + (k - ws.length) - H.size = k - ws.length by omega, hx]
      exact fun z => by cases z
end MULTI
