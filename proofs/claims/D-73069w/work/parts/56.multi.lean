/-! arrays of arrays of ints made at once (two dimensions) -/
/-- the state with the outer array and i rows of it -/
def mgT (T : State) (cA comp : ClassId) (N M : Nat) : Nat → State
  | 0 => T.pushCell (arrV cA N (fun _ => .null))
  | i + 1 => ((mgT T cA comp N M i).pushCell (arrV comp M (fun _ => .int 0))).setCell T.heap.size (arrV cA N (fun j => if j < i + 1 then .ref (T.heap.size + 1 + j) else .null))
theorem mg_cell (cA : ClassId) (N i h0 : Nat) : (arrV cA N (fun j => if j < i then .ref (h0 + 1 + j) else .null)).setSlot i (.ref (h0 + 1 + i)) = arrV cA N (fun j => if j < i + 1 then .ref (h0 + 1 + j) else .null) := by
  rw [arrV_store]
  congr 1
  funext j
  unfold updV
  by_cases h1 : j = i
  · subst h1
    rw [if_pos rfl, if_pos (by omega)]
  · rw [if_neg h1]
    by_cases h2 : j < i
    · show (if j < i then _ else _) = _
      rw [if_pos h2, if_pos (by omega)]
    · show (if j < i then _ else _) = _
      rw [if_neg h2, if_neg (by omega)]
theorem mg_zero (cA : ClassId) (N h0 : Nat) : arrV cA N (fun j => if j < 0 then .ref (h0 + 1 + j) else .null) = arrV cA N (fun _ => .null) := by
  congr 1
theorem mg_facts (T : State) (cA comp : ClassId) (N M : Nat) : ∀ i, (mgT T cA comp N M i).heap.size = T.heap.size + 1 + i ∧ (mgT T cA comp N M i).heap[T.heap.size]? = some (arrV cA N (fun j => if j < i then .ref (T.heap.size + 1 + j) else .null)) ∧ (mgT T cA comp N M i).vm = T.vm ∧ (mgT T cA comp N M i).slotsUsed = T.slotsUsed + N + i * M := by
  intro i
  induction i with
  | zero =>
    refine ⟨by simp [mgT], ?_, rfl, by simp [mgT, arrV_size]⟩
    rw [mg_zero]
    simp [mgT]
  | succ i ih =>
    obtain ⟨a, b, d, u⟩ := ih
    have hlt : T.heap.size < (mgT T cA comp N M i).heap.size := by omega
    have hb : ((mgT T cA comp N M i).pushCell (arrV comp M (fun _ => .int 0))).heap[T.heap.size]? = some (arrV cA N (fun j => if j < i then .ref (T.heap.size + 1 + j) else .null)) := by rw [State.heap_pushCell_of_lt (h := hlt)]; exact b
    refine ⟨?_, State.heap_setCell_self hb, by simp [mgT, d], ?_⟩
    · simp [mgT, State.setCell, a]; omega
    · simp [mgT, u, arrV_size, Nat.succ_mul]; omega
theorem mg_old (T : State) (cA comp : ClassId) (N M : Nat) {a : Nat} (ha : a < T.heap.size) : ∀ i, (mgT T cA comp N M i).heap[a]? = T.heap[a]? := by
  intro i
  induction i with
  | zero => exact State.heap_pushCell_of_lt _ _ ha
  | succ i ih =>
    have f1 := (mg_facts T cA comp N M i).1
    have hlt : a < (mgT T cA comp N M i).heap.size := by omega
    show (((mgT T cA comp N M i).pushCell (arrV comp M (fun _ => .int 0))).setCell T.heap.size _).heap[a]? = _
    rw [State.heap_setCell_other (Nat.ne_of_gt ha), State.heap_pushCell_of_lt (h := hlt)]
    exact ih
theorem mg_row (T : State) (cA comp : ClassId) (N M : Nat) : ∀ i j, j < i → (mgT T cA comp N M i).heap[T.heap.size + 1 + j]? = some (arrV comp M (fun _ => .int 0)) := by
  intro i
  induction i with
  | zero => exact fun j h => absurd h (by omega)
  | succ i ih =>
    intro j hj
    have f1 := (mg_facts T cA comp N M i).1
    show (((mgT T cA comp N M i).pushCell (arrV comp M (fun _ => .int 0))).setCell T.heap.size _).heap[_]? = _
    rw [State.heap_setCell_other (show T.heap.size ≠ T.heap.size + 1 + j by omega)]
    by_cases h : j = i
    · subst h
      rw [← f1]
      exact State.heap_pushCell_size _ _
    · rw [State.heap_pushCell_of_lt (h := (show T.heap.size + 1 + j < (mgT T cA comp N M i).heap.size by omega))]
      exact ih j (by omega)
theorem mg_setTop (T : State) (f : JFrame) (cA comp : ClassId) (N M : Nat) : ∀ i, mgT (T.setTop f) cA comp N M i = (mgT T cA comp N M i).setTop f := by
  intro i
  induction i with
  | zero => rfl
  | succ i ih => simp only [mgT, ih, State.heap_setTop, State.pushCell_setTop, State.setCell_setTop]
theorem mg_stand {p : Program} {l : Launch} {e : Env} {R : Room} {s : State} {m : MethodId} {args : Array Value} {below : List Frame} {meth : Method} {c : Code} {T : State} {locs : List Loc} {cells slots : Nat} (X : Stand p l e R s m args below meth c T locs cells slots) (cA comp : ClassId) (N M : Nat) :
    ∀ i, Stand p l e R s m args below meth c (mgT T cA comp N M i) (locs ++ (List.range i).map fun j => ⟨T.heap.size, j⟩) (cells + 1 + i) (slots + N + i * M) := by
  intro i
  induction i with
  | zero =>
    have h := X.pushed (arrV cA N (fun _ => .null))
    rw [arrV_size] at h
    simpa [mgT] using h
  | succ i ih =>
    obtain ⟨f1, f2, f3, f4⟩ := mg_facts T cA comp N M i
    have hlt0 : T.heap.size < (mgT T cA comp N M i).heap.size := by omega
    have hcell : ((mgT T cA comp N M i).pushCell (arrV comp M (fun _ => .int 0))).heap[T.heap.size]? = some (arrV cA N (fun j => if j < i then .ref (T.heap.size + 1 + j) else .null)) := by rw [State.heap_pushCell_of_lt (h := hlt0)]; exact f2
    have h := (ih.pushed (arrV comp M (fun _ => .int 0))).stored hcell i (.ref (T.heap.size + 1 + i))
    rw [arrV_size, mg_cell] at h
    have e2 : (locs ++ (List.range (i + 1)).map fun j => (⟨T.heap.size, j⟩ : Loc)) = (locs ++ (List.range i).map fun j => (⟨T.heap.size, j⟩ : Loc)) ++ [⟨T.heap.size, i⟩] := by simp [List.range_succ, List.append_assoc]
    have e3 : slots + N + (i + 1) * M = slots + N + i * M + M := by rw [Nat.succ_mul]; omega
    rw [e2, e3]
    exact h
section MG
variable {E : CtlPost} {e : Env} {d : Bool} {acts : List Action} {s : State}
theorem mg_new {c comp : ClassId} {k : Class} {type : FieldType} {len : Nat} {x : Value} (hk : s.vm.classes[c]? = some k) (hkind : k.kind = .array comp type) (h1 : ¬ len > e.platform.arrayLengthLimit) (h2 : ¬ len * componentBytes type > e.platform.maxHeapBytes) (hfit : fits type x = true) (hdef : x.isDefault = true) {Q : Addr → Pre}
    (h3 : s.heap.size < e.platform.maxCells) (h4 : s.slotsUsed + len ≤ e.platform.maxSlots) (hq : Q s.heap.size d acts (s.pushCell (arrV c len (fun _ => x)))) : wp (Jvm.newArray c len x) Q E e d acts s := by
  have hf : ∀ i v, (Array.replicate len x)[i]? = some v → s.fitsSlot c .none i v = true := by
    intro i v hv
    rw [Array.getElem?_replicate] at hv
    split at hv
    · cases hv; simp [State.fitsSlot, State.slotType?, hk, hkind, hfit]
    · cases hv
  have ha : allocActs (Array.replicate len x) s.heap.size acts = acts := by
    unfold allocActs
    rw [if_pos (by rw [Array.all_replicate]; split <;> simp [hdef])]
  simp only [Jvm.newArray, Jvm.arrayFits, wp_bind', W.ask, W.ite, h1, if_false, wp_pure', W.theClass, hk, hkind, h2, W.alloc, W.stop, Option.some.injEq, exists_eq_left', Array.size_replicate, ha]
  rw [if_neg (by omega)]
  rw [arrV_new]
  exact ⟨h3, h4, hf, hq⟩
theorem mg_make {c comp cc : ClassId} {k kc : Class} {n m : Int32} (hk : s.vm.classes[c]? = some k) (hkind : k.kind = .array comp (.array .int)) (hkc : s.vm.classes[comp]? = some kc) (hkindc : kc.kind = .array cc .int) (hn : ¬ n < 0) (hm : ¬ m < 0)
    (h1 : ¬ n.toNatClampNeg > e.platform.arrayLengthLimit) (h2 : ¬ n.toNatClampNeg * 4 > e.platform.maxHeapBytes) (h3 : ¬ m.toNatClampNeg > e.platform.arrayLengthLimit) (h4 : ¬ m.toNatClampNeg * 4 > e.platform.maxHeapBytes)
    (hc : s.heap.size + 1 + n.toNatClampNeg ≤ e.platform.maxCells) (hs : s.slotsUsed + n.toNatClampNeg + n.toNatClampNeg * m.toNatClampNeg ≤ e.platform.maxSlots)
    {Q : Addr → Pre} (hq : ∀ d' acts', Q s.heap.size d' acts' (mgT s c comp n.toNatClampNeg m.toNatClampNeg n.toNatClampNeg)) : wp (multianewarray.make c [n, m]) Q E e d acts s := by
  have hfind : ([m].find? (· < 0)) = none := by simp [hm]
  rw [multianewarray.make]
  simp only [wp_bind', W.ite, hn, if_false, wp_pure', W.theClass, hk, hkind, Option.some.injEq, exists_eq_left']
  refine mg_new hk hkind h1 (show ¬ _ * 4 > _ from h2) rfl rfl (by omega) (by have := Nat.zero_le (n.toNatClampNeg * m.toNatClampNeg); omega) ?_
  simp only [hfind]
  rw [ite_self, wp_bind', Std.Legacy.Range.forIn_eq_forIn_range']
  rw [show ([:n.toNatClampNeg] : Std.Legacy.Range).size = n.toNatClampNeg by simp [Std.Legacy.Range.size]]
  show wp (forIn (List.range' 0 n.toNatClampNeg 1) PUnit.unit _) _ E e d acts _
  refine wp_forIn_inv (fun rest t => ∃ i, i ≤ n.toNatClampNeg ∧ rest = List.range' i (n.toNatClampNeg - i) ∧ t = mgT s c comp n.toNatClampNeg m.toNatClampNeg i) _ _ ⟨0, Nat.zero_le _, rfl, rfl⟩ ?_ ?_
  · rintro x rest t d' acts' Q' ⟨i, hi, hl, rfl⟩ hnext
    have hlt : i < n.toNatClampNeg := by
      refine Nat.lt_of_le_of_ne hi (fun z => ?_)
      rw [z, Nat.sub_self] at hl
      cases hl
    rw [show n.toNatClampNeg - i = (n.toNatClampNeg - (i + 1)) + 1 by omega, List.range'_succ] at hl
    obtain ⟨rfl, hrest⟩ := List.cons.inj hl
    obtain ⟨f1, f2, f3, f4⟩ := mg_facts s c comp n.toNatClampNeg m.toNatClampNeg x
    have hmul : x * m.toNatClampNeg + m.toNatClampNeg ≤ n.toNatClampNeg * m.toNatClampNeg := by
      have := Nat.mul_le_mul_right m.toNatClampNeg (show x + 1 ≤ n.toNatClampNeg from hlt)
      rw [Nat.succ_mul] at this; exact this
    have hlt0 : s.heap.size < (mgT s c comp n.toNatClampNeg m.toNatClampNeg x).heap.size := by omega
    simp only [wp_bind']
    rw [multianewarray.make]
    simp only [wp_bind', W.ite, hm, if_false, wp_pure', W.theClass, f3, hkc, hkindc, Option.some.injEq, exists_eq_left']
    refine mg_new (by rw [f3]; exact hkc) hkindc h3 (show ¬ _ * 4 > _ from h4) rfl rfl (by rw [f1]; omega) (by rw [f4]; omega) ?_
    simp only [wp_bind', W.writeLoc, wp_pure']
    refine ⟨arrV c n.toNatClampNeg (fun j => if j < x then .ref (s.heap.size + 1 + j) else .null), by rw [State.heap_pushCell_of_lt (h := hlt0)]; exact f2, by simp [arrV], by rw [arrV_size]; exact hlt, ?_, hnext _ _ _ ⟨x + 1, hlt, hrest, ?_⟩⟩
    · show (State.pushCell _ _).fitsSlot c .none x _ = true
      simp [State.fitsSlot, State.slotType?, f3, hk, hkind, fits]
    · rw [f1, mg_cell]; rfl
  · rintro t d' acts' ⟨i, hi, hl, rfl⟩
    have hiN : i = n.toNatClampNeg := by
      refine Nat.le_antisymm hi (Nat.le_of_not_lt (fun h => ?_))
      rw [show n.toNatClampNeg - i = (n.toNatClampNeg - (i + 1)) + 1 by omega, List.range'_succ] at hl
      cases hl
    subst hiN
    simp only [wp_pure']
    exact hq _ _
end MG
/-- what is known of the class [[I (as the word arrayOver says it) -/
def AOI (U : State) : Prop := ∃ (comp cA : ClassId) (kA : Class), U.vm.findClass "[I" = some comp ∧ U.vm.classes[cA]? = some kA ∧ kA.kind = .array comp (.array .int) ∧ U.vm.findClass "[[I" = some cA
theorem AOI.moved {u U : State} (hv : u.vm.Alike U.vm) (h : AOI u) : AOI U := by
  obtain ⟨comp, cA, kA, h1, h2, h3, h4⟩ := h
  obtain ⟨k', hk', e'⟩ := hv.2.2 _ _ h2
  exact ⟨comp, cA, k', by rw [hv.findClass]; exact h1, hk', by rw [e']; exact h3, by rw [hv.findClass]; exact h4⟩
section MGW
variable {p : Program} {l : Launch} {e : Env} {R : Room} {s : State} {m : MethodId} {args : Array Value} {below : List Frame} {meth : Method} {c : Code} {T : State} {H : Heap} {locs : List Loc} {cells slots : Nat} {Q : State → Prop}
variable {cc : ByteArray} {pc : Nat} {ls : Array Slot} {rest : List Value}
theorem W_multi (hexec : p.tables.exec = Jvm.exec) (hb : c.code = cc) {own : String} {index : Nat} (hown : s.vm.findClass own = some m.cls) (hlink : (Cond.classLink own index "[[I").before args s = true) (hA : AOI s) (hI : (Cond.arrayClass .int).before args s = true)
    {n k : Int32} {N M : Nat} (hn : ¬ n < 0) (hk : ¬ k < 0) (hN : n.toNatClampNeg = N) (hM : k.toNatClampNeg = M) (hb1 : N * 4 ≤ 536870912) (hb2 : M * 4 ≤ 536870912) (hcells : cells + (1 + N) ≤ R.cells) (hslots : slots + (N + N * M) ≤ R.slots) (hdg : decode cc pc = .ok (.multianewarray index 2, 4))
    (kk : ∀ (cA comp : ClassId) (H1 : Heap) (locs1 : List Loc), s.vm.findClass "[[I" = some cA → s.vm.findClass "[I" = some comp → H1.size = H.size + 1 + N → H1[H.size]? = some (arrV cA N (fun j => .ref (H.size + 1 + j))) → (∀ j, j < N → H1[H.size + 1 + j]? = some (arrV comp M (fun _ => .int 0))) → (∀ a : Nat, a < H.size → H1[a]? = H[a]?) → (∀ y ∈ locs1, y ∈ locs ∨ y.base = H.size) →
      W p l e R s m args below meth c H1 locs1 (cells + (1 + N)) (slots + (N + N * M)) Q (F0 m (pc + 4) ls (.ref H.size :: rest))) : W p l e R s m args below meth c H locs cells slots Q (F0 m pc ls (.int k :: .int n :: rest)) := by
  subst hN; subst hM
  intro T hT X
  subst hT
  have hpl : e.platform.magicAccessors = ({} : Platform).magicAccessors := by rw [X.admits.platform]
  obtain ⟨comp, cA, kA, hcomp, hkA, hkindA, hnameA⟩ := hA
  obtain ⟨comp', kC, cc9, hcomp', hkC, hkindC⟩ := Cond.arrayClass_spec hI
  have ecomp : comp' = comp := Option.some.inj (hcomp'.symm.trans hcomp)
  subst ecomp
  obtain ⟨c0, hfc0, hcl⟩ := Cond.classLink_spec hown hlink e.platform hpl
  cases hnameA.symm.trans hfc0
  obtain ⟨hg₁, hwarm₁, hready₁⟩ := State.classEntry (e := e) X.warmed hcl
  generalize T.vm.noted m.cls index (.cls cA) = vm₁ at hg₁ hwarm₁ hready₁
  have hal : s.vm.Alike vm₁ := hwarm₁.alike
  obtain ⟨kA₁, hkA₁, heA⟩ := hal.2.2 _ _ hkA
  obtain ⟨kC₁, hkC₁, heC⟩ := hal.2.2 _ _ hkC
  have hkindA₁ : kA₁.kind = .array comp' (.array .int) := by rw [heA]; exact hkindA
  have hkindC₁ : kC₁.kind = .array cc9 .int := by rw [heC]; exact hkindC
  have X₁ := X.noted hwarm₁
  obtain ⟨hr1, hr2⟩ := X.roomAbove hcells hslots
  have XF := mg_stand X₁ cA comp' n.toNatClampNeg k.toNatClampNeg n.toNatClampNeg
  obtain ⟨f1, f2, f3, f4⟩ := mg_facts (T.setVm vm₁) cA comp' n.toNatClampNeg k.toNatClampNeg n.toNatClampNeg
  have hf2 : (mgT (T.setVm vm₁) cA comp' n.toNatClampNeg k.toNatClampNeg n.toNatClampNeg).heap[T.heap.size]? = some (arrV cA n.toNatClampNeg (fun j => .ref (T.heap.size + 1 + j))) := by
    refine f2.trans (congrArg some ?_)
    unfold arrV
    congr 2
    funext j
    exact if_pos j.isLt
  have e1 : cells + (1 + n.toNatClampNeg) = cells + 1 + n.toNatClampNeg := by omega
  have e2 : slots + (n.toNatClampNeg + n.toNatClampNeg * k.toNatClampNeg) = slots + n.toNatClampNeg + n.toNatClampNeg * k.toNatClampNeg := by omega
  obtain ⟨t, a1, b1⟩ := kk cA comp' _ (locs ++ (List.range n.toNatClampNeg).map fun j => ⟨T.heap.size, j⟩) hnameA hcomp f1 hf2 (fun j hj => mg_row (T.setVm vm₁) cA comp' n.toNatClampNeg k.toNatClampNeg n.toNatClampNeg j hj) (fun a ha => mg_old (T.setVm vm₁) cA comp' n.toNatClampNeg k.toNatClampNeg ha n.toNatClampNeg)
    (fun y hy => by
      rcases List.mem_append.mp hy with h | h
      · exact Or.inl h
      · obtain ⟨j, -, hj⟩ := List.mem_map.mp h
        exact Or.inr (by rw [← hj])) (mgT (T.setVm vm₁) cA comp' n.toNatClampNeg k.toNatClampNeg n.toNatClampNeg) rfl (by rw [e1, e2]; exact XF)
  refine ⟨t, ?_, b1⟩
  have hl1 : ¬ n.toNatClampNeg > e.platform.arrayLengthLimit := by rw [Launch.admits_arrayLengthLimit X.admits]; omega
  have hh1 : ¬ n.toNatClampNeg * 4 > e.platform.maxHeapBytes := by rw [Launch.admits_maxHeapBytes X.admits]; omega
  have hl2 : ¬ k.toNatClampNeg > e.platform.arrayLengthLimit := by rw [Launch.admits_arrayLengthLimit X.admits]; omega
  have hh2 : ¬ k.toNatClampNeg * 4 > e.platform.maxHeapBytes := by rw [Launch.admits_maxHeapBytes X.admits]; omega
  have hdg9 : decode c.code pc = .ok (.multianewarray index 2, 4) := by rw [hb]; exact hdg
  jvm_step X.here [hexec, hdg9]
  simp only [multianewarray.sem, wp_bind', W.resolveClassAt_links (State.method?_setTop (F0 m pc ls (.int k :: .int n :: rest)) X.here.top) hg₁]
  rw [W.popN, if_neg (by decide)]
  refine ⟨F0 m pc ls (.int k :: .int n :: rest), State.topJava?_setTop' (s := T.setVm vm₁) _ X.here.top, [.int n, .int k], rest, rfl, rfl, ?_⟩
  simp only [List.mapM_cons, List.mapM_nil, wp_bind', wp_pure']
  refine mg_make (k := kA₁) (kc := kC₁) (comp := comp') (cc := cc9) hkA₁ hkindA₁ hkC₁ hkindC₁ hn hk hl1 hh1 hl2 hh2 (by show T.heap.size + 1 + _ ≤ _; omega) (by show T.slotsUsed + _ + _ ≤ _; omega) (fun d' acts' => ?_)
  have eS : ((T.setTop (F0 m pc ls (.int k :: .int n :: rest))).setVm vm₁).setTop { (F0 m pc ls (.int k :: .int n :: rest)) with stack := rest } = (T.setVm vm₁).setTop { (F0 m pc ls (.int k :: .int n :: rest)) with stack := rest } := by
    show ((T.setVm vm₁).setTop _).setTop _ = _
    rw [State.setTop_setTop]
  rw [eS, mg_setTop]
  simp only [wp_bind', W.mark, W.pushRef, State.topJava?_setTop' _ XF.here.top, Option.some.injEq, exists_eq_left', State.setTop_setTop, State.heap_setTop]
  intro acts
  simp [jvm, XF.here.top]
  exact a1
end MGW
