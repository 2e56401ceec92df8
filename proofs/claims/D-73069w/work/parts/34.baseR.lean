/-! READING: a view of cells by address (kinds of arrays by number, as in dA) -/
abbrev Ab : Type := (Nat × List Value) ⊕ (Nat × vp_A)
def abE (dA : Nat → ClassId) (x : Ab) : va_E := match x with
  | .inl q => .inr q
  | .inr q => .inl (dA q.1, q.2)
abbrev Hv : Type := (Nat → Bool) × (Nat → Ab)
/-- what is known of a cell: enough to read it -/
def hw_at (D : va_G) (dA : Nat → ClassId) (q : Nat) (x : Ab) (H : Heap) : Prop := ∃ cell : Cell, H[q]? = some cell ∧ cell.vm ≠ .unknown ∧ cell.vm.isStatics = false ∧ (match x with
  | .inl y => ∃ r : vw_C, clX[y.1]? = some r ∧ cell.cls = D.1 y.1 ∧ ∀ k, k < r.2.2 → cell.slots[D.2 y.1 k]? = some (vp_V y.2 k)
  | .inr y => cell.cls = dA y.1 ∧ cell.slots = (vp_cell (dA y.1) y.2).slots)
theorem hw_of {D : va_G} {dA : Nat → ClassId} {q : Nat} {x : Ab} {H : Heap} (h : va_at D clX (q, abE dA x) H) : hw_at D dA q x H := by
  cases x with
  | inl y =>
    obtain ⟨r, h1, cell, q1, q2, q3, q4⟩ := h
    exact ⟨cell, q1, (by rw [q3]; exact fun z => by cases z), (by rw [q3]; rfl), r, h1, q2, q4⟩
  | inr y =>
    refine ⟨_, h, ?_, ?_, ?_, rfl⟩
    · obtain ⟨kd, n, f | f | f | f | f⟩ := y <;> exact fun z => by cases z
    · obtain ⟨kd, n, f | f | f | f | f⟩ := y <;> rfl
    · obtain ⟨kd, n, f | f | f | f | f⟩ := y <;> rfl
theorem hw_at.lt {D : va_G} {dA : Nat → ClassId} {q : Nat} {x : Ab} {H : Heap} (h : hw_at D dA q x H) : q < H.size := by
  obtain ⟨cell, q1, -⟩ := h
  exact (Array.getElem?_eq_some_iff.mp q1).1
theorem hw_at.kept {D : va_G} {dA : Nat → ClassId} {q : Nat} {x : Ab} {H H1 : Heap} (h : hw_at D dA q x H) (e : H1[q]? = H[q]?) : hw_at D dA q x H1 := by
  obtain ⟨cell, q1, r⟩ := h
  exact ⟨cell, by rw [e]; exact q1, r⟩
theorem arr_weak {s : State} {cA : ClassId} {ty : FieldType} {cell : Cell} (h : ArrOfT s cA ty) (h1 : cell.cls = cA) (h2 : cell.vm.isStatics = false) : s.isArrayOf cell ty := by
  obtain ⟨-, k, hk, comp, hkind⟩ := h 0 (fun _ => .null)
  exact ⟨fun k z => (by rw [z] at h2; cases h2), k, (by rw [h1]; exact hk), comp, hkind⟩
def HF (D : va_G) (dA : Nat → ClassId) (h : Hv) (H : Heap) : Prop := ∀ q, h.1 q = true → hw_at D dA q (h.2 q) H
theorem HF.kept {D : va_G} {dA : Nat → ClassId} {h : Hv} {H H1 : Heap} (hh : HF D dA h H) (hq : ∀ q : Nat, q < H.size → h.1 q = true → H1[q]? = H[q]?) : HF D dA h H1 := fun q h1 => (hh q h1).kept (hq q (hh q h1).lt h1)
/-- an object's class -/
def hC (h : Hv) (a : Nat) : Option Nat := if h.1 a = true then (match h.2 a with | .inl q => some q.1 | .inr _ => none) else none
/-- its k-th field, its class being ci -/
def hF (h : Hv) (a ci k : Nat) : Option Value := if h.1 a = true then (match h.2 a with | .inl q => if q.1 = ci then q.2[k]? else none | .inr _ => none) else none
def hI (h : Hv) (a ci k : Nat) : Option Int32 := match hF h a ci k with
  | some (.int v) => some v
  | _ => none
def hR (h : Hv) (a ci k : Nat) : Option Nat := match hF h a ci k with
  | some (.ref q) => some q
  | _ => none
/-- an array of a kind -/
def hA (h : Hv) (a kd : Nat) : Option vp_A := if h.1 a = true then (match h.2 a with | .inl _ => none | .inr q => if q.1 = kd then some q.2 else none) else none
def hAi (h : Hv) (a kd : Nat) : Option (Nat × (Nat → Int32)) := match hA h a kd with
  | some (n, .inl f) => some (n, f)
  | _ => none
def hAq (h : Hv) (a kd : Nat) : Option (Nat × (Nat → Option Nat)) := match hA h a kd with
  | some (n, .inr (.inr (.inr (.inr f)))) => some (n, f)
  | _ => none
theorem hC_spec {h : Hv} {a ci : Nat} (e : hC h a = some ci) : h.1 a = true ∧ ∃ fs, h.2 a = .inl (ci, fs) := by
  unfold hC at e
  split at e
  · next h1 =>
    refine ⟨h1, ?_⟩
    split at e
    · next q hq => cases e; exact ⟨q.2, hq⟩
    · cases e
  · cases e
theorem hF_spec {h : Hv} {a ci k : Nat} {v : Value} (e : hF h a ci k = some v) : h.1 a = true ∧ ∃ fs, h.2 a = .inl (ci, fs) ∧ fs[k]? = some v := by
  unfold hF at e
  split at e
  · next h1 =>
    refine ⟨h1, ?_⟩
    split at e
    · next q hq =>
      split at e
      · next h2 => obtain ⟨c, fs⟩ := q; subst h2; exact ⟨fs, hq, e⟩
      · cases e
    · cases e
  · cases e
theorem hI_spec {h : Hv} {a ci k : Nat} {v : Int32} (e : hI h a ci k = some v) : hF h a ci k = some (.int v) := by
  unfold hI at e
  split at e
  · next h1 => cases e; exact h1
  · cases e
theorem hR_spec {h : Hv} {a ci k : Nat} {v : Nat} (e : hR h a ci k = some v) : hF h a ci k = some (.ref v) := by
  unfold hR at e
  split at e
  · next h1 => cases e; exact h1
  · cases e
theorem hA_spec {h : Hv} {a kd : Nat} {x : vp_A} (e : hA h a kd = some x) : h.1 a = true ∧ h.2 a = .inr (kd, x) := by
  unfold hA at e
  split at e
  · next h1 =>
    refine ⟨h1, ?_⟩
    split at e
    · cases e
    · next q hq =>
      split at e
      · next h2 => obtain ⟨c, y⟩ := q; subst h2; cases e; exact hq
      · cases e
  · cases e
theorem hAi_spec {h : Hv} {a kd : Nat} {x : Nat × (Nat → Int32)} (e : hAi h a kd = some x) : h.1 a = true ∧ h.2 a = .inr (kd, (x.1, .inl x.2)) := by
  unfold hAi at e
  split at e
  · next n f h1 => cases e; exact hA_spec h1
  · cases e
theorem hAq_spec {h : Hv} {a kd : Nat} {x : Nat × (Nat → Option Nat)} (e : hAq h a kd = some x) : h.1 a = true ∧ h.2 a = .inr (kd, (x.1, .inr (.inr (.inr (.inr x.2))))) := by
  unfold hAq at e
  split at e
  · next n f h1 => cases e; exact hA_spec h1
  · cases e
def nA : Nat → Prop := fun _ => False
abbrev csX : List Cond := [.castable "QuarrelsPawned$Plain" "QuarrelsPawned$Sum", .castable "QuarrelsPawned$Name" "QuarrelsPawned$Sum", .castable "QuarrelsPawned$Minus" "QuarrelsPawned$Sum", .castable "QuarrelsPawned$Chain" "QuarrelsPawned$Sum", .castable "QuarrelsPawned$Rest" "QuarrelsPawned$Sum", .castable "QuarrelsPawned$Hot" "QuarrelsPawned$Sum", .castable "QuarrelsPawned$If" "QuarrelsPawned$Sum", .castable "QuarrelsPawned$Compared" "QuarrelsPawned$Asked", .castable "QuarrelsPawned$Not" "QuarrelsPawned$Asked", .castable "QuarrelsPawned$All" "QuarrelsPawned$Asked"]
abbrev fwX : List (String × MethodName × MethodName) := [("QuarrelsPawned$Plain", ⟨"QuarrelsPawned$Sum", "of", "([I)J"⟩, ⟨"QuarrelsPawned$Plain", "of", "([I)J"⟩), ("QuarrelsPawned$Name", ⟨"QuarrelsPawned$Sum", "of", "([I)J"⟩, ⟨"QuarrelsPawned$Name", "of", "([I)J"⟩), ("QuarrelsPawned$Minus", ⟨"QuarrelsPawned$Sum", "of", "([I)J"⟩, ⟨"QuarrelsPawned$Minus", "of", "([I)J"⟩), ("QuarrelsPawned$Chain", ⟨"QuarrelsPawned$Sum", "of", "([I)J"⟩, ⟨"QuarrelsPawned$Chain", "of", "([I)J"⟩), ("QuarrelsPawned$Rest", ⟨"QuarrelsPawned$Sum", "of", "([I)J"⟩, ⟨"QuarrelsPawned$Rest", "of", "([I)J"⟩), ("QuarrelsPawned$Hot", ⟨"QuarrelsPawned$Sum", "of", "([I)J"⟩, ⟨"QuarrelsPawned$Hot", "of", "([I)J"⟩), ("QuarrelsPawned$If", ⟨"QuarrelsPawned$Sum", "of", "([I)J"⟩, ⟨"QuarrelsPawned$If", "of", "([I)J"⟩), ("QuarrelsPawned$Compared", ⟨"QuarrelsPawned$Asked", "is", "([I)Z"⟩, ⟨"QuarrelsPawned$Compared", "is", "([I)Z"⟩), ("QuarrelsPawned$Not", ⟨"QuarrelsPawned$Asked", "is", "([I)Z"⟩, ⟨"QuarrelsPawned$Not", "is", "([I)Z"⟩), ("QuarrelsPawned$All", ⟨"QuarrelsPawned$Asked", "is", "([I)Z"⟩, ⟨"QuarrelsPawned$All", "is", "([I)Z"⟩)]
/-- words that don't ride in the lists -/
def TW (U : State) : Prop := (∀ w ∈ csX, va_Nw w U) ∧ ∀ q ∈ fwX, va_Fw q.1 q.2.1 q.2.2 U
theorem TW.cast {U : State} (h : TW U) {w : Cond} (i : Nat) (hw : csX[i]? = some w) : va_Nw w U := h.1 w (List.mem_of_getElem? hw)
theorem TW.face {U : State} (h : TW U) {q : String × MethodName × MethodName} (i : Nat) (hw : fwX[i]? = some q) : va_Fw q.1 q.2.1 q.2.2 U := h.2 q (List.mem_of_getElem? hw)
/-- a predicate that holds while nothing is written -/
def JR (J : State → Heap → Prop) : Prop :=
  (∀ (s U : State) (H : Heap), s.WarmedH U.vm → J s H → J U H) ∧ (∀ (s U : State) (H : Heap), s.vm = U.vm → J s H → J U H) ∧
  (∀ (U : State) (H H1 : Heap), H.size ≤ H1.size → (∀ q : Nat, q < H.size → H1[q]? = H[q]?) → J U H → J U H1) ∧
  (∀ (U : State) (H : Heap), J U H → TW U)
theorem JR.at {J : State → Heap → Prop} (h : JR J) {s : State} {H : Heap} {locs : List Loc} (hJ : J s s.heap) (hS : va_S nA s.heap H locs) : J s H := h.2.2.1 s s.heap H hS.1 (fun q hq => hS.2.1 q hq (fun z => z)) hJ
def Pr (D : va_G) (dA : Nat → ClassId) (J : State → Heap → Prop) (av : List Value) (h : Hv) : Array Value → State → Prop := va_Pc av (fun U => HF D dA h U.heap ∧ va_K D clX (tyX dA) U ∧ J U U.heap)
def Qri (r : Int32) : Array Value → State → Outcome → State → Prop := va_Qi (fun x (_ : Unit) => x = r) (fun _ _ => True) nA
def Qrz (r : Int32) : Array Value → State → Outcome → State → Prop := va_Qi (fun x (_ : Unit) => x = r ∧ (r = 0 ∨ r = 1)) (fun _ _ => True) nA
def Qrl (r : Int64) : Array Value → State → Outcome → State → Prop := va_Ql (fun x (_ : Unit) => x = r) (fun _ _ => True) nA
def Qra (r : Nat) : Array Value → State → Outcome → State → Prop := va_Qr (fun (x : Nat) => x = r) (fun x a _ => a = x) nA
theorem Pr_blind {D : va_G} {dA : Nat → ClassId} {J : State → Heap → Prop} (hJ : JR J) {av : List Value} {h : Hv} : FrameBlind (Pr D dA J av h) := by
  intro a U g mk q
  obtain ⟨q0, qP, qK, qJ⟩ := q
  exact ⟨q0, qP, va_K.moved (u := U) (U := U.calling g mk a) (Vm.Alike.refl U.vm) qK, hJ.2.1 U (U.calling g mk a) U.heap rfl qJ⟩
theorem xh_head {l : Launch} {y : MethodName} {cc : ByteArray} {maxL : Nat} {ret : Option FieldType} {rm : Room} {av : List Value} {Qc : Array Value → State → Outcome → State → Prop} {free : Addr → Prop} {own : String} {mc ms : Nat}
    {D : va_G} {dA : Nat → ClassId} {J : State → Heap → Prop} {h : Hv}
    (hy : plainName y.cls = true) (hyc : y.cls = own) (hn : (lg_sl av).length ≤ maxL)
    (body : ∀ (p : Program) (e : Env) (s : State) (m : MethodId) (args : Array Value) (below : List Frame) (meth : Method) (c : Code) (ls : Array Slot) (Q : State → Prop), MQ below Qc args s mc ms free = Q → Cj p s m args meth c cc ret maxL own D dA J → HF D dA h s.heap → lv_has ls maxL (lv_args 0 av) →
      W p l e rm s m args below meth c s.heap [] 0 0 Q (F0 m 0 ls [])) : Met l y (ws_ y cc maxL ret) rm (Pr D dA J av h) Qc mc ms free := by
  refine Met.ofW (cc := cc) (maxL := maxL) (ret := ret) hy rfl ?_
  intro p e s m args below meth c s₁ B hml hv
  obtain ⟨rfl, hP, hK, hJ⟩ := hv
  have hts := atoms_spec (ws := ws_ y cc maxL ret) B.pre
  have hts : ∀ w ∈ lw_all, w.before _ s = true := fun w h => hts w (List.mem_cons_of_mem _ h)
  have hown : s.vm.findClass own = some m.cls := hyc ▸ findClass_of_methodNamed B.named
  have hl := lv_entry av hn
  rw [lg_entry_eq]
  exact body p e s m _ below meth c _ _ rfl ⟨B.exec, B.bytes, B.returns, B.notSynchronized, hml, hown, hts, hK, hJ⟩ hP hl
section XH
variable {p : Program} {l : Launch} {e : Env} {R : Room} {s : State} {m : MethodId} {args : Array Value} {below : List Frame} {meth : Method} {c : Code} {H : Heap} {locs : List Loc} {cells slots : Nat} {Q : State → Prop}
variable {cc : ByteArray} {pc : Nat} {ls : Array Slot} {rest st0 : List Value} {A : Nat → Prop} {H0 : Heap}
variable {D : va_G} {dA : Nat → ClassId} {h : Hv} {J : State → Heap → Prop}
variable {y : MethodName} {bytes : ByteArray} {maxL nL n index : Nat} {ret : Option FieldType} {rm : Room} {own C : String} {As : List Value}
theorem xh_getW (hexec : p.tables.exec = Jvm.exec) (hb : c.code = cc) {ref C : String} {T9 : u_T} {NF ci : Nat} (hts : ∀ w ∈ lw_all, w.before args s = true) (hin : ∀ w ∈ u_ws C T9 NF, w ∈ lw_all) (hown : s.vm.findClass own = some m.cls) (hK : va_K D clX (tyX dA) s) (hH : HF D dA h H) {a : Nat} (hc : clX[ci]? = some (C, T9, NF)) (j : Nat) (hj : j < NF) (hlink : (Cond.fieldLink own index ref (T9 j).2.1 (T9 j).2.2.1).before args s = true) (hsame : ∀ x, s.fieldFound? (T9 j).1 (T9 j).2.1 (T9 j).2.2.1 = some x → s.fieldFound? ref (T9 j).2.1 (T9 j).2.2.1 = some x) {v : Value} (hv : hF h a ci j = some v) (hdg : decode cc pc = .ok (.getfield index, 3))
    (kk : W p l e R s m args below meth c H locs cells slots Q (F0 m (pc + 3) ls (v :: rest))) : W p l e R s m args below meth c H locs cells slots Q (F0 m pc ls (.ref a :: rest)) := by
  obtain ⟨h1, fs, h2, h3⟩ := hF_spec hv
  have hat := hH a h1
  rw [h2] at hat
  obtain ⟨cell, q1, q3, q5, r, hr, q2, q4⟩ := hat
  have hr : r = (C, T9, NF) := Option.some.inj (hr.symm.trans hc)
  subst hr
  obtain ⟨hS, hfc, kC, hkC, hkind⟩ := hK.1 ci _ hc
  obtain ⟨cf, kf, fi, f, hi, hsl⟩ := hS j hj
  refine W.getf hexec hb hown hlink (hsame _ hi) (u_facts hfc hkC (u_lays hts hin hj) hi).1 q1 q3 (v := v) ?_ rfl rfl hdg kk
  rw [hsl, q4 j hj]
  simp [vp_V, h3]
theorem xh_getWN (hexec : p.tables.exec = Jvm.exec) (hb : c.code = cc) {ref C host : String} {T9 : u_T} {NF ci : Nat} (hts : ∀ w ∈ lw_all, w.before args s = true) (hin : ∀ w ∈ u_ws C T9 NF, w ∈ lw_all) (hown : s.vm.findClass own = some m.cls) (hK : va_K D clX (tyX dA) s) (hH : HF D dA h H) {a : Nat} (hc : clX[ci]? = some (C, T9, NF)) (j : Nat) (hj : j < NF) (hlink : va_Nw (.fieldLinkNest own index ref (T9 j).2.1 (T9 j).2.2.1 host) s) (hsame : ∀ x, s.fieldFound? (T9 j).1 (T9 j).2.1 (T9 j).2.2.1 = some x → s.fieldFound? ref (T9 j).2.1 (T9 j).2.2.1 = some x) {v : Value} (hv : hF h a ci j = some v) (hdg : decode cc pc = .ok (.getfield index, 3))
    (kk : W p l e R s m args below meth c H locs cells slots Q (F0 m (pc + 3) ls (v :: rest))) : W p l e R s m args below meth c H locs cells slots Q (F0 m pc ls (.ref a :: rest)) := by
  obtain ⟨h1, fs, h2, h3⟩ := hF_spec hv
  have hat := hH a h1
  rw [h2] at hat
  obtain ⟨cell, q1, q3, q5, r, hr, q2, q4⟩ := hat
  have hr : r = (C, T9, NF) := Option.some.inj (hr.symm.trans hc)
  subst hr
  obtain ⟨hS, hfc, kC, hkC, hkind⟩ := hK.1 ci _ hc
  obtain ⟨cf, kf, fi, f, hi, hsl⟩ := hS j hj
  refine va_Wgetf hexec hb hown (va_Nw.use rfl hlink) (hsame _ hi) (u_facts hfc hkC (u_lays hts hin hj) hi).1 q1 q3 (v := v) ?_ rfl rfl hdg kk
  rw [hsl, q4 j hj]
  simp [vp_V, h3]
theorem xh_geti (hexec : p.tables.exec = Jvm.exec) (hb : c.code = cc) {ref C : String} {T9 : u_T} {NF ci : Nat} (hts : ∀ w ∈ lw_all, w.before args s = true) (hin : ∀ w ∈ u_ws C T9 NF, w ∈ lw_all) (hown : s.vm.findClass own = some m.cls) (hK : va_K D clX (tyX dA) s) (hH : HF D dA h H) {a : Nat} (hc : clX[ci]? = some (C, T9, NF)) (j : Nat) (hj : j < NF) (hlink : (Cond.fieldLink own index ref (T9 j).2.1 (T9 j).2.2.1).before args s = true) (hsame : ∀ x, s.fieldFound? (T9 j).1 (T9 j).2.1 (T9 j).2.2.1 = some x → s.fieldFound? ref (T9 j).2.1 (T9 j).2.2.1 = some x) {v : Int32} (hv : hI h a ci j = some v) (hdg : decode cc pc = .ok (.getfield index, 3))
    (kk : W p l e R s m args below meth c H locs cells slots Q (F0 m (pc + 3) ls (.int v :: rest))) : W p l e R s m args below meth c H locs cells slots Q (F0 m pc ls (.ref a :: rest)) := by
  exact xh_getW hexec hb hts hin hown hK hH hc j hj hlink hsame (hI_spec hv) hdg kk
theorem xh_getr (hexec : p.tables.exec = Jvm.exec) (hb : c.code = cc) {ref C : String} {T9 : u_T} {NF ci : Nat} (hts : ∀ w ∈ lw_all, w.before args s = true) (hin : ∀ w ∈ u_ws C T9 NF, w ∈ lw_all) (hown : s.vm.findClass own = some m.cls) (hK : va_K D clX (tyX dA) s) (hH : HF D dA h H) {a : Nat} (hc : clX[ci]? = some (C, T9, NF)) (j : Nat) (hj : j < NF) (hlink : (Cond.fieldLink own index ref (T9 j).2.1 (T9 j).2.2.1).before args s = true) (hsame : ∀ x, s.fieldFound? (T9 j).1 (T9 j).2.1 (T9 j).2.2.1 = some x → s.fieldFound? ref (T9 j).2.1 (T9 j).2.2.1 = some x) {v : Nat} (hv : hR h a ci j = some v) (hdg : decode cc pc = .ok (.getfield index, 3))
    (kk : W p l e R s m args below meth c H locs cells slots Q (F0 m (pc + 3) ls (.ref v :: rest))) : W p l e R s m args below meth c H locs cells slots Q (F0 m pc ls (.ref a :: rest)) := by
  exact xh_getW hexec hb hts hin hown hK hH hc j hj hlink hsame (hR_spec hv) hdg kk
theorem xh_getrN (hexec : p.tables.exec = Jvm.exec) (hb : c.code = cc) {ref C host : String} {T9 : u_T} {NF ci : Nat} (hts : ∀ w ∈ lw_all, w.before args s = true) (hin : ∀ w ∈ u_ws C T9 NF, w ∈ lw_all) (hown : s.vm.findClass own = some m.cls) (hK : va_K D clX (tyX dA) s) (hH : HF D dA h H) {a : Nat} (hc : clX[ci]? = some (C, T9, NF)) (j : Nat) (hj : j < NF) (hlink : va_Nw (.fieldLinkNest own index ref (T9 j).2.1 (T9 j).2.2.1 host) s) (hsame : ∀ x, s.fieldFound? (T9 j).1 (T9 j).2.1 (T9 j).2.2.1 = some x → s.fieldFound? ref (T9 j).2.1 (T9 j).2.2.1 = some x) {v : Nat} (hv : hR h a ci j = some v) (hdg : decode cc pc = .ok (.getfield index, 3))
    (kk : W p l e R s m args below meth c H locs cells slots Q (F0 m (pc + 3) ls (.ref v :: rest))) : W p l e R s m args below meth c H locs cells slots Q (F0 m pc ls (.ref a :: rest)) := by
  exact xh_getWN hexec hb hts hin hown hK hH hc j hj hlink hsame (hR_spec hv) hdg kk
theorem xh_iald (hexec : p.tables.exec = Jvm.exec) (hb : c.code = cc) (hK : va_K D clX (tyX dA) s) (hH : HF D dA h H) {a : Nat} {x : Nat × (Nat → Int32)} (hx : hAi h a 1 = some x) {i : Int32} {j : Nat} (hin : vp_in i x.1) (hj : i.toNatClampNeg = j) (hdg : decode cc pc = .ok (.iaload, 1))
    (kk : W p l e R s m args below meth c H locs cells slots Q (F0 m (pc + 1) ls (.int (x.2 j) :: rest))) : W p l e R s m args below meth c H locs cells slots Q (F0 m pc ls (.int i :: .ref a :: rest)) := by
  subst hj
  obtain ⟨h1, h2⟩ := hAi_spec hx
  have hat := hH a h1
  rw [h2] at hat
  obtain ⟨cell, q1, q3, q5, q2, q6⟩ := hat
  have hlt : i.toNatClampNeg < x.1 := Nat.not_le.mp fun q => hin (Or.inr q)
  have q7 : cell.slots.size = x.1 := by
    rw [q6]; show (arrV _ _ _).slots.size = _; rw [arrV_size]
  exact W.iald (v := .int (x.2 i.toNatClampNeg)) hexec hb q1 (arr_weak (hK.2 0 _ rfl).1 q2 q5) q3 (by rw [q7]; exact hin) (by rw [q6]; show (arrV _ _ _).slots[_]? = _; rw [arrV_read _ _ hlt]) rfl rfl hdg kk
theorem xh_aald (hexec : p.tables.exec = Jvm.exec) (hb : c.code = cc) (hK : va_K D clX (tyX dA) s) (hH : HF D dA h H) {a : Nat} (kd t0 : Nat) {C : String} (ht : (tyX dA)[t0]? = some (dA kd, .object C)) {x : Nat × (Nat → Option Nat)} (hx : hAq h a kd = some x) {i : Int32} {j : Nat} (hin : vp_in i x.1) (hj : i.toNatClampNeg = j) (hdg : decode cc pc = .ok (.aaload, 1))
    (kk : W p l e R s m args below meth c H locs cells slots Q (F0 m (pc + 1) ls (va_rf (x.2 j) :: rest))) : W p l e R s m args below meth c H locs cells slots Q (F0 m pc ls (.int i :: .ref a :: rest)) := by
  subst hj
  obtain ⟨h1, h2⟩ := hAq_spec hx
  have hat := hH a h1
  rw [h2] at hat
  obtain ⟨cell, q1, q3, q5, q2, q6⟩ := hat
  have hlt : i.toNatClampNeg < x.1 := Nat.not_le.mp fun q => hin (Or.inr q)
  have q7 : cell.slots.size = x.1 := by
    rw [q6]; show (arrV _ _ _).slots.size = _; rw [arrV_size]
  exact W.aald (v := va_rf (x.2 i.toNatClampNeg)) (ty := .object C) hexec hb q1 (arr_weak (hK.2 t0 _ ht).1 q2 q5) rfl q3 (by rw [q7]; exact hin) (by rw [q6]; show (arrV _ _ _).slots[_]? = _; rw [arrV_read _ _ hlt]) rfl rfl hdg kk
theorem xn_a {o : Option Nat} {a : Nat} (h : o = some a) (k : W p l e R s m args below meth c H locs cells slots Q (F0 m pc ls (.ref a :: rest))) : W p l e R s m args below meth c H locs cells slots Q (F0 m pc ls (va_rf o :: rest)) := by
  subst h
  exact k
theorem xh_recv (hK : va_K D clX (tyX dA) s) (hH : HF D dA h H) {a ci : Nat} (hc : hC h a = some ci) {q : vw_C} (hcl : clX[ci]? = some q) : ∃ cell : Cell, H[a]? = some cell ∧ cell.vm.isStatics = false ∧ s.vm.findClass q.1 = some cell.cls := by
  obtain ⟨h1, fs, h2⟩ := hC_spec hc
  have hat := hH a h1
  rw [h2] at hat
  obtain ⟨cell, q1, q3, q5, r, hr, q2, q4⟩ := hat
  exact ⟨cell, q1, q5, by rw [q2]; exact (hK.1 ci q hcl).2.1⟩
/-- a cast to the object's own class -/
theorem xh_castS (hexec : p.tables.exec = Jvm.exec) (hb : c.code = cc) (hown : s.vm.findClass own = some m.cls) {nm : String} (hlink : (Cond.classLink own index nm).before args s = true) (hK : va_K D clX (tyX dA) s) (hH : HF D dA h H) {a ci : Nat} (hc : hC h a = some ci) {q : vw_C} (hcl : clX[ci]? = some q) (hn : q.1 = nm) (hdg : decode cc pc = .ok (.checkcast index, 3))
    (k : W p l e R s m args below meth c H locs cells slots Q (F0 m (pc + 3) ls (.ref a :: rest))) : W p l e R s m args below meth c H locs cells slots Q (F0 m pc ls (.ref a :: rest)) := by
  subst hn
  exact va_castS hexec hb hown hlink (hK.1 ci q hcl).2 (xh_recv hK hH hc hcl) hdg k
def isS (h : Hv) (a : Nat) : Bool := match hC h a with
  | some ci => decide (ci = 5) || decide (ci = 6) || decide (ci = 7) || decide (ci = 8) || decide (ci = 12) || decide (ci = 13) || decide (ci = 14)
  | none => false
theorem xh_castSum (hexec : p.tables.exec = Jvm.exec) (hb : c.code = cc) (hown : s.vm.findClass own = some m.cls) (hlink : (Cond.classLink own index "QuarrelsPawned$Sum").before args s = true) (hT : TW s) (hK : va_K D clX (tyX dA) s) (hH : HF D dA h H) {a : Nat} (hc : isS h a = true) (hdg : decode cc pc = .ok (.checkcast index, 3))
    (k : W p l e R s m args below meth c H locs cells slots Q (F0 m (pc + 3) ls (.ref a :: rest))) : W p l e R s m args below meth c H locs cells slots Q (F0 m pc ls (.ref a :: rest)) := by
  unfold isS at hc
  split at hc
  · next ci hci =>
    simp only [Bool.or_eq_true, decide_eq_true_eq] at hc
    rcases hc with ((((((rfl | rfl) | rfl) | rfl) | rfl) | rfl) | rfl)
    · exact va_castY hexec hb hown hlink (hT.cast 0 rfl) (xh_recv hK hH hci (q := clX[5]) rfl) hdg k
    · exact va_castY hexec hb hown hlink (hT.cast 1 rfl) (xh_recv hK hH hci (q := clX[6]) rfl) hdg k
    · exact va_castY hexec hb hown hlink (hT.cast 2 rfl) (xh_recv hK hH hci (q := clX[7]) rfl) hdg k
    · exact va_castY hexec hb hown hlink (hT.cast 3 rfl) (xh_recv hK hH hci (q := clX[8]) rfl) hdg k
    · exact va_castY hexec hb hown hlink (hT.cast 4 rfl) (xh_recv hK hH hci (q := clX[12]) rfl) hdg k
    · exact va_castY hexec hb hown hlink (hT.cast 5 rfl) (xh_recv hK hH hci (q := clX[13]) rfl) hdg k
    · exact va_castY hexec hb hown hlink (hT.cast 6 rfl) (xh_recv hK hH hci (q := clX[14]) rfl) hdg k
  · cases hc
def isA (h : Hv) (a : Nat) : Bool := match hC h a with
  | some ci => decide (ci = 9) || decide (ci = 10) || decide (ci = 11)
  | none => false
theorem xh_castAsk (hexec : p.tables.exec = Jvm.exec) (hb : c.code = cc) (hown : s.vm.findClass own = some m.cls) (hlink : (Cond.classLink own index "QuarrelsPawned$Asked").before args s = true) (hT : TW s) (hK : va_K D clX (tyX dA) s) (hH : HF D dA h H) {a : Nat} (hc : isA h a = true) (hdg : decode cc pc = .ok (.checkcast index, 3))
    (k : W p l e R s m args below meth c H locs cells slots Q (F0 m (pc + 3) ls (.ref a :: rest))) : W p l e R s m args below meth c H locs cells slots Q (F0 m pc ls (.ref a :: rest)) := by
  unfold isA at hc
  split at hc
  · next ci hci =>
    simp only [Bool.or_eq_true, decide_eq_true_eq] at hc
    rcases hc with ((rfl | rfl) | rfl)
    · exact va_castY hexec hb hown hlink (hT.cast 7 rfl) (xh_recv hK hH hci (q := clX[9]) rfl) hdg k
    · exact va_castY hexec hb hown hlink (hT.cast 8 rfl) (xh_recv hK hH hci (q := clX[10]) rfl) hdg k
    · exact va_castY hexec hb hown hlink (hT.cast 9 rfl) (xh_recv hK hH hci (q := clX[11]) rfl) hdg k
  · cases hc
theorem xh_run {Qc : Array Value → State → Outcome → State → Prop} (hJ : JR J) (hJs : J s s.heap) (hS : va_S nA s.heap H locs) (S : CallFix p m c cc nL s args lw_all own) {a ci : Nat} {q : vw_C} (hM : Met l y (ws_ y bytes maxL ret) rm (Pr D dA J (Value.ref a :: As) h) Qc 0 0 nA) (cw : CallW R s args own C index y bytes maxL ret (ws_ y bytes maxL ret) rm 0 0 n) (hK : va_K D clX (tyX dA) s) (hH : HF D dA h H) (hc : hC h a = some ci) (hcl : clX[ci]? = some q) (hqC : q.1 = C)
    (hsz : ls.size = nL) (hn : As.length = n) (hst : st0 = As.reverse ++ .ref a :: rest) (hW : (rest.map fun v => v.category).sum ≤ 8) (hdg : decode cc pc = .ok (.invokevirtual index, 3)) (hf : cells ≤ R.cells ∧ slots ≤ R.slots) :
    va_Run p l e R s m args below meth c H locs cells slots 0 0 (F0 m pc ls st0) rest (Qc (Value.ref a :: As).toArray) nA := by
  subst hqC
  exact va_runV S hM cw ⟨Pr_blind hJ, xh_recv hK hH hc hcl, fun U hU hW9 => ⟨rfl, by rw [hU]; exact hH, va_K.moved hW9.alike hK, by rw [hU]; exact hJ.1 s U H hW9 (hJ.at hJs hS)⟩⟩ rfl hn hsz hst (lv_room hW) hdg hf
theorem xh_runS {Qc : Array Value → State → Outcome → State → Prop} (hJ : JR J) (hJs : J s s.heap) (hS : va_S nA s.heap H locs) (S : CallFix p m c cc nL s args lw_all own) (hM : Met l y (ws_ y bytes maxL ret) rm (Pr D dA J As h) Qc 0 0 nA) (cw : CallB R s args own index y bytes maxL ret (ws_ y bytes maxL ret) rm 0 0 n ∧ (Cond.static y).before args s = true) (hK : va_K D clX (tyX dA) s) (hH : HF D dA h H)
    (hsz : ls.size = nL) (hn : As.length = n) (hst : st0 = As.reverse ++ rest) (hW : (rest.map fun v => v.category).sum ≤ 8) (hdg : decode cc pc = .ok (.invokestatic index, 3)) (hf : cells ≤ R.cells ∧ slots ≤ R.slots) :
    va_Run p l e R s m args below meth c H locs cells slots 0 0 (F0 m pc ls st0) rest (Qc As.toArray) nA :=
  va_runS S hM cw ⟨Pr_blind hJ, fun U hU hW9 => ⟨rfl, by rw [hU]; exact hH, va_K.moved hW9.alike hK, by rw [hU]; exact hJ.1 s U H hW9 (hJ.at hJs hS)⟩⟩ rfl hn hsz hst (lv_room hW) hdg hf
theorem xh_i {r : Int32} {a : Array Value} (hr : va_Run p l e R s m args below meth c H locs cells slots 0 0 (F0 m pc ls st0) rest (Qri r a) nA) (hH : HF D dA h H) (hS : va_S nA s.heap H locs)
    (kk : ∀ (H1 : Heap) (locs1 : List Loc), HF D dA h H1 → va_S nA s.heap H1 locs1 → W p l e R s m args below meth c H1 locs1 cells slots Q (F0 m (pc + 3) ls (.int r :: rest))) : W p l e R s m args below meth c H locs cells slots Q (F0 m pc ls st0) := by
  refine va_calli hr hS (fun q _ h => h) (fun _ h => h) (fun x u t H1 locs1 ht _ hp _ hz hk hS1 => ?_)
  subst hp
  exact kk H1 locs1 (hH.kept (fun q hq _ => hk q hq (fun z => z))) hS1
theorem xh_z {r : Int32} {a : Array Value} (hr : va_Run p l e R s m args below meth c H locs cells slots 0 0 (F0 m pc ls st0) rest (Qrz r a) nA) (hH : HF D dA h H) (hS : va_S nA s.heap H locs)
    (kk : ∀ (H1 : Heap) (locs1 : List Loc), r = 0 ∨ r = 1 → HF D dA h H1 → va_S nA s.heap H1 locs1 → W p l e R s m args below meth c H1 locs1 cells slots Q (F0 m (pc + 3) ls (.int r :: rest))) : W p l e R s m args below meth c H locs cells slots Q (F0 m pc ls st0) := by
  refine va_calli hr hS (fun q _ h => h) (fun _ h => h) (fun x u t H1 locs1 ht _ hp _ hz hk hS1 => ?_)
  obtain ⟨hp, h01⟩ := hp
  subst hp
  exact kk H1 locs1 h01 (hH.kept (fun q hq _ => hk q hq (fun z => z))) hS1
theorem xh_l {r : Int64} {a : Array Value} (hr : va_Run p l e R s m args below meth c H locs cells slots 0 0 (F0 m pc ls st0) rest (Qrl r a) nA) (hH : HF D dA h H) (hS : va_S nA s.heap H locs)
    (kk : ∀ (H1 : Heap) (locs1 : List Loc), HF D dA h H1 → va_S nA s.heap H1 locs1 → W p l e R s m args below meth c H1 locs1 cells slots Q (F0 m (pc + 3) ls (.long r :: rest))) : W p l e R s m args below meth c H locs cells slots Q (F0 m pc ls st0) := by
  refine va_calll hr hS (fun q _ h => h) (fun _ h => h) (fun x u t H1 locs1 ht _ hp _ hz hk hS1 => ?_)
  subst hp
  exact kk H1 locs1 (hH.kept (fun q hq _ => hk q hq (fun z => z))) hS1
theorem xh_a {r : Nat} {a : Array Value} (hr : va_Run p l e R s m args below meth c H locs cells slots 0 0 (F0 m pc ls st0) rest (Qra r a) nA) (hH : HF D dA h H) (hS : va_S nA s.heap H locs)
    (kk : ∀ (H1 : Heap) (locs1 : List Loc), HF D dA h H1 → va_S nA s.heap H1 locs1 → W p l e R s m args below meth c H1 locs1 cells slots Q (F0 m (pc + 3) ls (.ref r :: rest))) : W p l e R s m args below meth c H locs cells slots Q (F0 m pc ls st0) := by
  refine va_callr hr hS (fun q _ h => h) (fun _ h => h) (fun u ra t H1 locs1 ht _ hp hB hz hk hS1 => ?_)
  subst hB
  subst hp
  exact kk H1 locs1 (hH.kept (fun q hq _ => hk q hq (fun z => z))) hS1
/-! the ends -/
theorem xg_i (hexec : p.tables.exec = Jvm.exec) (hb : c.code = cc) (hr : meth.sig.returnType = some .int) (hlocks : meth.locks = false) (hS : va_S nA s.heap H locs) {v : Int32} (hdg : decode cc pc = .ok (.ireturn, 1)) : W p l e R s m args below meth c H locs cells slots (MQ below (Qri v) args s cells slots nA) (F0 m pc ls [.int v]) :=
  W.iret hexec hb hr (fun t ht _ => ⟨⟨v, (), rfl, rfl, trivial⟩, hS.F ht⟩) hS.2.2 hdg hlocks
theorem xg_z (hexec : p.tables.exec = Jvm.exec) (hb : c.code = cc) (hr : meth.sig.returnType = some .boolean) (hlocks : meth.locks = false) (hS : va_S nA s.heap H locs) {v : Int32} (hz : v = 0 ∨ v = 1) (hdg : decode cc pc = .ok (.ireturn, 1)) : W p l e R s m args below meth c H locs cells slots (MQ below (Qrz v) args s cells slots nA) (F0 m pc ls [.int v]) :=
  W.zret hexec hb hr (by rcases hz with rfl | rfl <;> decide +kernel) (fun t ht _ => ⟨⟨v, (), rfl, ⟨rfl, hz⟩, trivial⟩, hS.F ht⟩) hS.2.2 hdg hlocks
theorem xg_l (hexec : p.tables.exec = Jvm.exec) (hb : c.code = cc) (hr : meth.sig.returnType = some .long) (hlocks : meth.locks = false) (hS : va_S nA s.heap H locs) {v : Int64} (hdg : decode cc pc = .ok (.lreturn, 1)) : W p l e R s m args below meth c H locs cells slots (MQ below (Qrl v) args s cells slots nA) (F0 m pc ls [.long v]) :=
  W.lret hexec hb hr (fun t ht _ => ⟨⟨v, (), rfl, rfl, trivial⟩, hS.F ht⟩) hS.2.2 hdg hlocks
theorem xg_a (hexec : p.tables.exec = Jvm.exec) (hb : c.code = cc) {rt : String} (hr : meth.sig.returnType = some (.object rt)) (hlocks : meth.locks = false) (hS : va_S nA s.heap H locs) {v : Nat} (hdg : decode cc pc = .ok (.areturn, 1)) : W p l e R s m args below meth c H locs cells slots (MQ below (Qra v) args s cells slots nA) (F0 m pc ls [.ref v]) :=
  W.aret hexec hb hr (Or.inl ⟨_, rfl⟩) (Or.inr ⟨_, rfl⟩) (fun t ht _ => ⟨⟨v, v, rfl, rfl, rfl⟩, hS.F ht⟩) hS.2.2 hdg hlocks
end XH
/-! the dispatch of Sum.of and Asked.is: by the object's class, its method's contract -/
abbrev rmT (F L : Nat) : Room := { frames := F + 10, cells := 0, slots := 0, locals := L + 300 }
def DiS (l : Launch) (D : va_G) (dA : Nat → ClassId) (J : State → Heap → Prop) (h : Hv) (F L : Nat) (q v : Nat) (r : Int64) : Prop := ∃ ci, hC h q = some ci ∧ ((ci = 5 ∧ Met l yX7_of (ws_ yX7_of cX7_of 2 (some .long)) (rmT F L) (Pr D dA J [.ref q, .ref v] h) (Qrl r) 0 0 nA) ∨ (ci = 6 ∧ Met l yX13_of (ws_ yX13_of cX13_of 2 (some .long)) (rmT F L) (Pr D dA J [.ref q, .ref v] h) (Qrl r) 0 0 nA) ∨ (ci = 7 ∧ Met l yX15_of (ws_ yX15_of cX15_of 2 (some .long)) (rmT F L) (Pr D dA J [.ref q, .ref v] h) (Qrl r) 0 0 nA) ∨ (ci = 8 ∧ Met l yX6_of (ws_ yX6_of cX6_of 10 (some .long)) (rmT F L) (Pr D dA J [.ref q, .ref v] h) (Qrl r) 0 0 nA) ∨ (ci = 12 ∧ Met l yX12_of (ws_ yX12_of cX12_of 6 (some .long)) (rmT F L) (Pr D dA J [.ref q, .ref v] h) (Qrl r) 0 0 nA) ∨ (ci = 13 ∧ Met l yX14_of (ws_ yX14_of cX14_of 4 (some .long)) (rmT F L) (Pr D dA J [.ref q, .ref v] h) (Qrl r) 0 0 nA) ∨ (ci = 14 ∧ Met l yX11_of (ws_ yX11_of cX11_of 2 (some .long)) (rmT F L) (Pr D dA J [.ref q, .ref v] h) (Qrl r) 0 0 nA))
def DiA (l : Launch) (D : va_G) (dA : Nat → ClassId) (J : State → Heap → Prop) (h : Hv) (F L : Nat) (q v : Nat) (r : Int32) : Prop := ∃ ci, hC h q = some ci ∧ ((ci = 9 ∧ Met l yX9_is (ws_ yX9_is cX9_is 4 (some .boolean)) (rmT F L) (Pr D dA J [.ref q, .ref v] h) (Qrz r) 0 0 nA) ∨ (ci = 10 ∧ Met l yX8_is (ws_ yX8_is cX8_is 2 (some .boolean)) (rmT F L) (Pr D dA J [.ref q, .ref v] h) (Qrz r) 0 0 nA) ∨ (ci = 11 ∧ Met l yX10_is (ws_ yX10_is cX10_is 4 (some .boolean)) (rmT F L) (Pr D dA J [.ref q, .ref v] h) (Qrz r) 0 0 nA))
theorem lw_F {own : String} {idx : Nat} {C : String} {x y : MethodName} {b : ByteArray} {L : Nat} {r : Option FieldType} (h1 : Cond.methodLink own idx x ∈ lw_all) (h2 : Cond.selects C x y ∈ lw_all) (h3 : Cond.instanceMethod y ∈ lw_all) (h4 : Cond.initialized y.cls ∈ lw_all) (h5 : Cond.code y b L r ∈ lw_all) : GoodIn lw_all (va_wsF own idx C x y (ws_ y b L r)) := by
  refine lw_app ?_ (lw_meth h5)
  intro w hw
  simp only [List.mem_cons, List.not_mem_nil, or_false] at hw
  rcases hw with e | e | e | e
  · rw [e]; exact h1
  · rw [e]; exact h2
  · rw [e]; exact h3
  · rw [e]; exact h4
section XI
variable {p : Program} {l : Launch} {e : Env} {R : Room} {s : State} {m : MethodId} {args : Array Value} {below : List Frame} {meth : Method} {c : Code} {H : Heap} {locs : List Loc} {cells slots : Nat} {Q : State → Prop}
variable {cc : ByteArray} {pc : Nat} {ls : Array Slot} {rest st0 : List Value}
variable {D : va_G} {dA : Nat → ClassId} {h : Hv} {J : State → Heap → Prop} {nL index : Nat} {own : String}
theorem cdiX7_of : (⟨"QuarrelsPawned$Sum", "of", "([I)J"⟩ : MethodName).cls ≠ "java/lang/invoke/MethodHandle" ∧ (⟨"QuarrelsPawned$Sum", "of", "([I)J"⟩ : MethodName).cls ≠ "java/lang/invoke/VarHandle" ∧ (parseMethodDescriptor (⟨"QuarrelsPawned$Sum", "of", "([I)J"⟩ : MethodName).desc).map (fun d => d.parameters.length) = some 1 := by decide +kernel
theorem gdX7_of {own : String} {idx : Nat} (hlink : Cond.methodLink own idx ⟨"QuarrelsPawned$Sum", "of", "([I)J"⟩ ∈ lw_all) : GoodIn lw_all (va_wsF own idx RX7 ⟨"QuarrelsPawned$Sum", "of", "([I)J"⟩ yX7_of (ws_ yX7_of cX7_of 2 (some .long))) := lw_F hlink q1020 q1022 q156 q1024
theorem xh_ifS_5 (hJ : JR J) (hJs : J s s.heap) (hJH : J s H) (S : CallFix p m c cc nL s args lw_all own) (hK : va_K D clX (tyX dA) s) (hH : HF D dA h H) {F L q v : Nat} {r : Int64} (hc : hC h q = some 5) (hM : Met l yX7_of (ws_ yX7_of cX7_of 2 (some .long)) (rmT F L) (Pr D dA J [.ref q, .ref v] h) (Qrl r) 0 0 nA) (hlink : Cond.methodLink own index ⟨"QuarrelsPawned$Sum", "of", "([I)J"⟩ ∈ lw_all) (hsz : ls.size = nL) (hW : (rest.map fun v => v.category).sum ≤ 8) (hR : F + 11 ≤ R.frames ∧ L + 340 ≤ R.locals) (hf : cells ≤ R.cells ∧ slots ≤ R.slots) (hdg : decode cc pc = .ok (.invokeinterface index 2, 5)) {H0 : Heap} {A : Nat → Prop} (hS : va_S A H0 H locs)
    (kk : ∀ (H1 : Heap) (locs1 : List Loc), H.size ≤ H1.size → (∀ q : Nat, q < H.size → H1[q]? = H[q]?) → va_S A H0 H1 locs1 → W p l e R s m args below meth c H1 locs1 cells slots Q (F0 m (pc + 5) ls (.long r :: rest))) : W p l e R s m args below meth c H locs cells slots Q (F0 m pc ls (.ref v :: .ref q :: rest)) := by
  obtain ⟨hx, hb, hml, hown, hts⟩ := S
  have hfw : va_Fw RX7 ⟨"QuarrelsPawned$Sum", "of", "([I)J"⟩ yX7_of s := (hJ.2.2.2 s s.heap hJs).face (q := (RX7, ⟨"QuarrelsPawned$Sum", "of", "([I)J"⟩, yX7_of)) 0 rfl
  have hat : ClassAt s RX7 (D.1 5) := (hK.1 5 (RX7, TX7, 1) rfl).2
  have hcw := va_cwF (R := R) (rm := rmT F L) (mc := 0) (ms := 0) 1 hts (gdX7_of hlink) rfl rfl rfl hfw cdiX7_of ⟨by show F + 10 + 1 ≤ _; omega, by show 8 + (_ + 11) + (L + 300) ≤ _; omega⟩
  have hp : PreV s H RX7 q (Pr D dA J [.ref q, .ref v] h) [.ref v] := ⟨Pr_blind hJ, xh_recv hK hH hc (q := (RX7, TX7, 1)) rfl, fun U hU hW9 => ⟨rfl, by rw [hU]; exact hH, va_K.moved hW9.alike hK, by rw [hU]; exact hJ.1 s U H hW9 hJH⟩⟩
  have hrun := va_runF (g := F0 m pc ls (.ref v :: .ref q :: rest)) (rest := rest) (locs := locs) (cells := cells) (slots := slots) (p := p) (e := e) (below := below) (meth := meth) (count := 2) hat ⟨hx, hb, hml, hown, hts⟩ hM hcw hp rfl rfl hsz rfl (lv_room hW) hdg hf
  refine va_callFl hrun hS (fun q _ h => h.elim) (fun _ h => h.elim) (fun x u t H1 locs1 ht _ hp _ hz hk hS1 => ?_)
  subst hp
  exact kk H1 locs1 hz (fun q hq => hk q hq (fun z => z)) hS1
theorem cdiX13_of : (⟨"QuarrelsPawned$Sum", "of", "([I)J"⟩ : MethodName).cls ≠ "java/lang/invoke/MethodHandle" ∧ (⟨"QuarrelsPawned$Sum", "of", "([I)J"⟩ : MethodName).cls ≠ "java/lang/invoke/VarHandle" ∧ (parseMethodDescriptor (⟨"QuarrelsPawned$Sum", "of", "([I)J"⟩ : MethodName).desc).map (fun d => d.parameters.length) = some 1 := by decide +kernel
theorem gdX13_of {own : String} {idx : Nat} (hlink : Cond.methodLink own idx ⟨"QuarrelsPawned$Sum", "of", "([I)J"⟩ ∈ lw_all) : GoodIn lw_all (va_wsF own idx RX13 ⟨"QuarrelsPawned$Sum", "of", "([I)J"⟩ yX13_of (ws_ yX13_of cX13_of 2 (some .long))) := lw_F hlink q1014 q1016 q164 q1018
theorem xh_ifS_6 (hJ : JR J) (hJs : J s s.heap) (hJH : J s H) (S : CallFix p m c cc nL s args lw_all own) (hK : va_K D clX (tyX dA) s) (hH : HF D dA h H) {F L q v : Nat} {r : Int64} (hc : hC h q = some 6) (hM : Met l yX13_of (ws_ yX13_of cX13_of 2 (some .long)) (rmT F L) (Pr D dA J [.ref q, .ref v] h) (Qrl r) 0 0 nA) (hlink : Cond.methodLink own index ⟨"QuarrelsPawned$Sum", "of", "([I)J"⟩ ∈ lw_all) (hsz : ls.size = nL) (hW : (rest.map fun v => v.category).sum ≤ 8) (hR : F + 11 ≤ R.frames ∧ L + 340 ≤ R.locals) (hf : cells ≤ R.cells ∧ slots ≤ R.slots) (hdg : decode cc pc = .ok (.invokeinterface index 2, 5)) {H0 : Heap} {A : Nat → Prop} (hS : va_S A H0 H locs)
    (kk : ∀ (H1 : Heap) (locs1 : List Loc), H.size ≤ H1.size → (∀ q : Nat, q < H.size → H1[q]? = H[q]?) → va_S A H0 H1 locs1 → W p l e R s m args below meth c H1 locs1 cells slots Q (F0 m (pc + 5) ls (.long r :: rest))) : W p l e R s m args below meth c H locs cells slots Q (F0 m pc ls (.ref v :: .ref q :: rest)) := by
  obtain ⟨hx, hb, hml, hown, hts⟩ := S
  have hfw : va_Fw RX13 ⟨"QuarrelsPawned$Sum", "of", "([I)J"⟩ yX13_of s := (hJ.2.2.2 s s.heap hJs).face (q := (RX13, ⟨"QuarrelsPawned$Sum", "of", "([I)J"⟩, yX13_of)) 1 rfl
  have hat : ClassAt s RX13 (D.1 6) := (hK.1 6 (RX13, TX13, 1) rfl).2
  have hcw := va_cwF (R := R) (rm := rmT F L) (mc := 0) (ms := 0) 1 hts (gdX13_of hlink) rfl rfl rfl hfw cdiX13_of ⟨by show F + 10 + 1 ≤ _; omega, by show 8 + (_ + 11) + (L + 300) ≤ _; omega⟩
  have hp : PreV s H RX13 q (Pr D dA J [.ref q, .ref v] h) [.ref v] := ⟨Pr_blind hJ, xh_recv hK hH hc (q := (RX13, TX13, 1)) rfl, fun U hU hW9 => ⟨rfl, by rw [hU]; exact hH, va_K.moved hW9.alike hK, by rw [hU]; exact hJ.1 s U H hW9 hJH⟩⟩
  have hrun := va_runF (g := F0 m pc ls (.ref v :: .ref q :: rest)) (rest := rest) (locs := locs) (cells := cells) (slots := slots) (p := p) (e := e) (below := below) (meth := meth) (count := 2) hat ⟨hx, hb, hml, hown, hts⟩ hM hcw hp rfl rfl hsz rfl (lv_room hW) hdg hf
  refine va_callFl hrun hS (fun q _ h => h.elim) (fun _ h => h.elim) (fun x u t H1 locs1 ht _ hp _ hz hk hS1 => ?_)
  subst hp
  exact kk H1 locs1 hz (fun q hq => hk q hq (fun z => z)) hS1
theorem cdiX15_of : (⟨"QuarrelsPawned$Sum", "of", "([I)J"⟩ : MethodName).cls ≠ "java/lang/invoke/MethodHandle" ∧ (⟨"QuarrelsPawned$Sum", "of", "([I)J"⟩ : MethodName).cls ≠ "java/lang/invoke/VarHandle" ∧ (parseMethodDescriptor (⟨"QuarrelsPawned$Sum", "of", "([I)J"⟩ : MethodName).desc).map (fun d => d.parameters.length) = some 1 := by decide +kernel
theorem gdX15_of {own : String} {idx : Nat} (hlink : Cond.methodLink own idx ⟨"QuarrelsPawned$Sum", "of", "([I)J"⟩ ∈ lw_all) : GoodIn lw_all (va_wsF own idx RX15 ⟨"QuarrelsPawned$Sum", "of", "([I)J"⟩ yX15_of (ws_ yX15_of cX15_of 2 (some .long))) := lw_F hlink q1006 q1008 q166 q1010
theorem xh_ifS_7 (hJ : JR J) (hJs : J s s.heap) (hJH : J s H) (S : CallFix p m c cc nL s args lw_all own) (hK : va_K D clX (tyX dA) s) (hH : HF D dA h H) {F L q v : Nat} {r : Int64} (hc : hC h q = some 7) (hM : Met l yX15_of (ws_ yX15_of cX15_of 2 (some .long)) (rmT F L) (Pr D dA J [.ref q, .ref v] h) (Qrl r) 0 0 nA) (hlink : Cond.methodLink own index ⟨"QuarrelsPawned$Sum", "of", "([I)J"⟩ ∈ lw_all) (hsz : ls.size = nL) (hW : (rest.map fun v => v.category).sum ≤ 8) (hR : F + 11 ≤ R.frames ∧ L + 340 ≤ R.locals) (hf : cells ≤ R.cells ∧ slots ≤ R.slots) (hdg : decode cc pc = .ok (.invokeinterface index 2, 5)) {H0 : Heap} {A : Nat → Prop} (hS : va_S A H0 H locs)
    (kk : ∀ (H1 : Heap) (locs1 : List Loc), H.size ≤ H1.size → (∀ q : Nat, q < H.size → H1[q]? = H[q]?) → va_S A H0 H1 locs1 → W p l e R s m args below meth c H1 locs1 cells slots Q (F0 m (pc + 5) ls (.long r :: rest))) : W p l e R s m args below meth c H locs cells slots Q (F0 m pc ls (.ref v :: .ref q :: rest)) := by
  obtain ⟨hx, hb, hml, hown, hts⟩ := S
  have hfw : va_Fw RX15 ⟨"QuarrelsPawned$Sum", "of", "([I)J"⟩ yX15_of s := (hJ.2.2.2 s s.heap hJs).face (q := (RX15, ⟨"QuarrelsPawned$Sum", "of", "([I)J"⟩, yX15_of)) 2 rfl
  have hat : ClassAt s RX15 (D.1 7) := (hK.1 7 (RX15, TX15, 1) rfl).2
  have hcw := va_cwF (R := R) (rm := rmT F L) (mc := 0) (ms := 0) 1 hts (gdX15_of hlink) rfl rfl rfl hfw cdiX15_of ⟨by show F + 10 + 1 ≤ _; omega, by show 8 + (_ + 11) + (L + 300) ≤ _; omega⟩
  have hp : PreV s H RX15 q (Pr D dA J [.ref q, .ref v] h) [.ref v] := ⟨Pr_blind hJ, xh_recv hK hH hc (q := (RX15, TX15, 1)) rfl, fun U hU hW9 => ⟨rfl, by rw [hU]; exact hH, va_K.moved hW9.alike hK, by rw [hU]; exact hJ.1 s U H hW9 hJH⟩⟩
  have hrun := va_runF (g := F0 m pc ls (.ref v :: .ref q :: rest)) (rest := rest) (locs := locs) (cells := cells) (slots := slots) (p := p) (e := e) (below := below) (meth := meth) (count := 2) hat ⟨hx, hb, hml, hown, hts⟩ hM hcw hp rfl rfl hsz rfl (lv_room hW) hdg hf
  refine va_callFl hrun hS (fun q _ h => h.elim) (fun _ h => h.elim) (fun x u t H1 locs1 ht _ hp _ hz hk hS1 => ?_)
  subst hp
  exact kk H1 locs1 hz (fun q hq => hk q hq (fun z => z)) hS1
theorem cdiX6_of : (⟨"QuarrelsPawned$Sum", "of", "([I)J"⟩ : MethodName).cls ≠ "java/lang/invoke/MethodHandle" ∧ (⟨"QuarrelsPawned$Sum", "of", "([I)J"⟩ : MethodName).cls ≠ "java/lang/invoke/VarHandle" ∧ (parseMethodDescriptor (⟨"QuarrelsPawned$Sum", "of", "([I)J"⟩ : MethodName).desc).map (fun d => d.parameters.length) = some 1 := by decide +kernel
theorem gdX6_of {own : String} {idx : Nat} (hlink : Cond.methodLink own idx ⟨"QuarrelsPawned$Sum", "of", "([I)J"⟩ ∈ lw_all) : GoodIn lw_all (va_wsF own idx RX6 ⟨"QuarrelsPawned$Sum", "of", "([I)J"⟩ yX6_of (ws_ yX6_of cX6_of 10 (some .long))) := lw_F hlink q961 q963 q154 q965
theorem xh_ifS_8 (hJ : JR J) (hJs : J s s.heap) (hJH : J s H) (S : CallFix p m c cc nL s args lw_all own) (hK : va_K D clX (tyX dA) s) (hH : HF D dA h H) {F L q v : Nat} {r : Int64} (hc : hC h q = some 8) (hM : Met l yX6_of (ws_ yX6_of cX6_of 10 (some .long)) (rmT F L) (Pr D dA J [.ref q, .ref v] h) (Qrl r) 0 0 nA) (hlink : Cond.methodLink own index ⟨"QuarrelsPawned$Sum", "of", "([I)J"⟩ ∈ lw_all) (hsz : ls.size = nL) (hW : (rest.map fun v => v.category).sum ≤ 8) (hR : F + 11 ≤ R.frames ∧ L + 340 ≤ R.locals) (hf : cells ≤ R.cells ∧ slots ≤ R.slots) (hdg : decode cc pc = .ok (.invokeinterface index 2, 5)) {H0 : Heap} {A : Nat → Prop} (hS : va_S A H0 H locs)
    (kk : ∀ (H1 : Heap) (locs1 : List Loc), H.size ≤ H1.size → (∀ q : Nat, q < H.size → H1[q]? = H[q]?) → va_S A H0 H1 locs1 → W p l e R s m args below meth c H1 locs1 cells slots Q (F0 m (pc + 5) ls (.long r :: rest))) : W p l e R s m args below meth c H locs cells slots Q (F0 m pc ls (.ref v :: .ref q :: rest)) := by
  obtain ⟨hx, hb, hml, hown, hts⟩ := S
  have hfw : va_Fw RX6 ⟨"QuarrelsPawned$Sum", "of", "([I)J"⟩ yX6_of s := (hJ.2.2.2 s s.heap hJs).face (q := (RX6, ⟨"QuarrelsPawned$Sum", "of", "([I)J"⟩, yX6_of)) 3 rfl
  have hat : ClassAt s RX6 (D.1 8) := (hK.1 8 (RX6, TX6, 3) rfl).2
  have hcw := va_cwF (R := R) (rm := rmT F L) (mc := 0) (ms := 0) 1 hts (gdX6_of hlink) rfl rfl rfl hfw cdiX6_of ⟨by show F + 10 + 1 ≤ _; omega, by show 8 + (_ + 11) + (L + 300) ≤ _; omega⟩
  have hp : PreV s H RX6 q (Pr D dA J [.ref q, .ref v] h) [.ref v] := ⟨Pr_blind hJ, xh_recv hK hH hc (q := (RX6, TX6, 3)) rfl, fun U hU hW9 => ⟨rfl, by rw [hU]; exact hH, va_K.moved hW9.alike hK, by rw [hU]; exact hJ.1 s U H hW9 hJH⟩⟩
  have hrun := va_runF (g := F0 m pc ls (.ref v :: .ref q :: rest)) (rest := rest) (locs := locs) (cells := cells) (slots := slots) (p := p) (e := e) (below := below) (meth := meth) (count := 2) hat ⟨hx, hb, hml, hown, hts⟩ hM hcw hp rfl rfl hsz rfl (lv_room hW) hdg hf
  refine va_callFl hrun hS (fun q _ h => h.elim) (fun _ h => h.elim) (fun x u t H1 locs1 ht _ hp _ hz hk hS1 => ?_)
  subst hp
  exact kk H1 locs1 hz (fun q hq => hk q hq (fun z => z)) hS1
theorem cdiX12_of : (⟨"QuarrelsPawned$Sum", "of", "([I)J"⟩ : MethodName).cls ≠ "java/lang/invoke/MethodHandle" ∧ (⟨"QuarrelsPawned$Sum", "of", "([I)J"⟩ : MethodName).cls ≠ "java/lang/invoke/VarHandle" ∧ (parseMethodDescriptor (⟨"QuarrelsPawned$Sum", "of", "([I)J"⟩ : MethodName).desc).map (fun d => d.parameters.length) = some 1 := by decide +kernel
theorem gdX12_of {own : String} {idx : Nat} (hlink : Cond.methodLink own idx ⟨"QuarrelsPawned$Sum", "of", "([I)J"⟩ ∈ lw_all) : GoodIn lw_all (va_wsF own idx RX12 ⟨"QuarrelsPawned$Sum", "of", "([I)J"⟩ yX12_of (ws_ yX12_of cX12_of 6 (some .long))) := lw_F hlink q1026 q1028 q163 q1030
theorem xh_ifS_12 (hJ : JR J) (hJs : J s s.heap) (hJH : J s H) (S : CallFix p m c cc nL s args lw_all own) (hK : va_K D clX (tyX dA) s) (hH : HF D dA h H) {F L q v : Nat} {r : Int64} (hc : hC h q = some 12) (hM : Met l yX12_of (ws_ yX12_of cX12_of 6 (some .long)) (rmT F L) (Pr D dA J [.ref q, .ref v] h) (Qrl r) 0 0 nA) (hlink : Cond.methodLink own index ⟨"QuarrelsPawned$Sum", "of", "([I)J"⟩ ∈ lw_all) (hsz : ls.size = nL) (hW : (rest.map fun v => v.category).sum ≤ 8) (hR : F + 11 ≤ R.frames ∧ L + 340 ≤ R.locals) (hf : cells ≤ R.cells ∧ slots ≤ R.slots) (hdg : decode cc pc = .ok (.invokeinterface index 2, 5)) {H0 : Heap} {A : Nat → Prop} (hS : va_S A H0 H locs)
    (kk : ∀ (H1 : Heap) (locs1 : List Loc), H.size ≤ H1.size → (∀ q : Nat, q < H.size → H1[q]? = H[q]?) → va_S A H0 H1 locs1 → W p l e R s m args below meth c H1 locs1 cells slots Q (F0 m (pc + 5) ls (.long r :: rest))) : W p l e R s m args below meth c H locs cells slots Q (F0 m pc ls (.ref v :: .ref q :: rest)) := by
  obtain ⟨hx, hb, hml, hown, hts⟩ := S
  have hfw : va_Fw RX12 ⟨"QuarrelsPawned$Sum", "of", "([I)J"⟩ yX12_of s := (hJ.2.2.2 s s.heap hJs).face (q := (RX12, ⟨"QuarrelsPawned$Sum", "of", "([I)J"⟩, yX12_of)) 4 rfl
  have hat : ClassAt s RX12 (D.1 12) := (hK.1 12 (RX12, TX12, 2) rfl).2
  have hcw := va_cwF (R := R) (rm := rmT F L) (mc := 0) (ms := 0) 1 hts (gdX12_of hlink) rfl rfl rfl hfw cdiX12_of ⟨by show F + 10 + 1 ≤ _; omega, by show 8 + (_ + 11) + (L + 300) ≤ _; omega⟩
  have hp : PreV s H RX12 q (Pr D dA J [.ref q, .ref v] h) [.ref v] := ⟨Pr_blind hJ, xh_recv hK hH hc (q := (RX12, TX12, 2)) rfl, fun U hU hW9 => ⟨rfl, by rw [hU]; exact hH, va_K.moved hW9.alike hK, by rw [hU]; exact hJ.1 s U H hW9 hJH⟩⟩
  have hrun := va_runF (g := F0 m pc ls (.ref v :: .ref q :: rest)) (rest := rest) (locs := locs) (cells := cells) (slots := slots) (p := p) (e := e) (below := below) (meth := meth) (count := 2) hat ⟨hx, hb, hml, hown, hts⟩ hM hcw hp rfl rfl hsz rfl (lv_room hW) hdg hf
  refine va_callFl hrun hS (fun q _ h => h.elim) (fun _ h => h.elim) (fun x u t H1 locs1 ht _ hp _ hz hk hS1 => ?_)
  subst hp
  exact kk H1 locs1 hz (fun q hq => hk q hq (fun z => z)) hS1
theorem cdiX14_of : (⟨"QuarrelsPawned$Sum", "of", "([I)J"⟩ : MethodName).cls ≠ "java/lang/invoke/MethodHandle" ∧ (⟨"QuarrelsPawned$Sum", "of", "([I)J"⟩ : MethodName).cls ≠ "java/lang/invoke/VarHandle" ∧ (parseMethodDescriptor (⟨"QuarrelsPawned$Sum", "of", "([I)J"⟩ : MethodName).desc).map (fun d => d.parameters.length) = some 1 := by decide +kernel
theorem gdX14_of {own : String} {idx : Nat} (hlink : Cond.methodLink own idx ⟨"QuarrelsPawned$Sum", "of", "([I)J"⟩ ∈ lw_all) : GoodIn lw_all (va_wsF own idx RX14 ⟨"QuarrelsPawned$Sum", "of", "([I)J"⟩ yX14_of (ws_ yX14_of cX14_of 4 (some .long))) := lw_F hlink q969 q971 q165 q973
theorem xh_ifS_13 (hJ : JR J) (hJs : J s s.heap) (hJH : J s H) (S : CallFix p m c cc nL s args lw_all own) (hK : va_K D clX (tyX dA) s) (hH : HF D dA h H) {F L q v : Nat} {r : Int64} (hc : hC h q = some 13) (hM : Met l yX14_of (ws_ yX14_of cX14_of 4 (some .long)) (rmT F L) (Pr D dA J [.ref q, .ref v] h) (Qrl r) 0 0 nA) (hlink : Cond.methodLink own index ⟨"QuarrelsPawned$Sum", "of", "([I)J"⟩ ∈ lw_all) (hsz : ls.size = nL) (hW : (rest.map fun v => v.category).sum ≤ 8) (hR : F + 11 ≤ R.frames ∧ L + 340 ≤ R.locals) (hf : cells ≤ R.cells ∧ slots ≤ R.slots) (hdg : decode cc pc = .ok (.invokeinterface index 2, 5)) {H0 : Heap} {A : Nat → Prop} (hS : va_S A H0 H locs)
    (kk : ∀ (H1 : Heap) (locs1 : List Loc), H.size ≤ H1.size → (∀ q : Nat, q < H.size → H1[q]? = H[q]?) → va_S A H0 H1 locs1 → W p l e R s m args below meth c H1 locs1 cells slots Q (F0 m (pc + 5) ls (.long r :: rest))) : W p l e R s m args below meth c H locs cells slots Q (F0 m pc ls (.ref v :: .ref q :: rest)) := by
  obtain ⟨hx, hb, hml, hown, hts⟩ := S
  have hfw : va_Fw RX14 ⟨"QuarrelsPawned$Sum", "of", "([I)J"⟩ yX14_of s := (hJ.2.2.2 s s.heap hJs).face (q := (RX14, ⟨"QuarrelsPawned$Sum", "of", "([I)J"⟩, yX14_of)) 5 rfl
  have hat : ClassAt s RX14 (D.1 13) := (hK.1 13 (RX14, TX14, 1) rfl).2
  have hcw := va_cwF (R := R) (rm := rmT F L) (mc := 0) (ms := 0) 1 hts (gdX14_of hlink) rfl rfl rfl hfw cdiX14_of ⟨by show F + 10 + 1 ≤ _; omega, by show 8 + (_ + 11) + (L + 300) ≤ _; omega⟩
  have hp : PreV s H RX14 q (Pr D dA J [.ref q, .ref v] h) [.ref v] := ⟨Pr_blind hJ, xh_recv hK hH hc (q := (RX14, TX14, 1)) rfl, fun U hU hW9 => ⟨rfl, by rw [hU]; exact hH, va_K.moved hW9.alike hK, by rw [hU]; exact hJ.1 s U H hW9 hJH⟩⟩
  have hrun := va_runF (g := F0 m pc ls (.ref v :: .ref q :: rest)) (rest := rest) (locs := locs) (cells := cells) (slots := slots) (p := p) (e := e) (below := below) (meth := meth) (count := 2) hat ⟨hx, hb, hml, hown, hts⟩ hM hcw hp rfl rfl hsz rfl (lv_room hW) hdg hf
  refine va_callFl hrun hS (fun q _ h => h.elim) (fun _ h => h.elim) (fun x u t H1 locs1 ht _ hp _ hz hk hS1 => ?_)
  subst hp
  exact kk H1 locs1 hz (fun q hq => hk q hq (fun z => z)) hS1
theorem cdiX11_of : (⟨"QuarrelsPawned$Sum", "of", "([I)J"⟩ : MethodName).cls ≠ "java/lang/invoke/MethodHandle" ∧ (⟨"QuarrelsPawned$Sum", "of", "([I)J"⟩ : MethodName).cls ≠ "java/lang/invoke/VarHandle" ∧ (parseMethodDescriptor (⟨"QuarrelsPawned$Sum", "of", "([I)J"⟩ : MethodName).desc).map (fun d => d.parameters.length) = some 1 := by decide +kernel
theorem gdX11_of {own : String} {idx : Nat} (hlink : Cond.methodLink own idx ⟨"QuarrelsPawned$Sum", "of", "([I)J"⟩ ∈ lw_all) : GoodIn lw_all (va_wsF own idx RX11 ⟨"QuarrelsPawned$Sum", "of", "([I)J"⟩ yX11_of (ws_ yX11_of cX11_of 2 (some .long))) := lw_F hlink q977 q979 q162 q981
theorem xh_ifS_14 (hJ : JR J) (hJs : J s s.heap) (hJH : J s H) (S : CallFix p m c cc nL s args lw_all own) (hK : va_K D clX (tyX dA) s) (hH : HF D dA h H) {F L q v : Nat} {r : Int64} (hc : hC h q = some 14) (hM : Met l yX11_of (ws_ yX11_of cX11_of 2 (some .long)) (rmT F L) (Pr D dA J [.ref q, .ref v] h) (Qrl r) 0 0 nA) (hlink : Cond.methodLink own index ⟨"QuarrelsPawned$Sum", "of", "([I)J"⟩ ∈ lw_all) (hsz : ls.size = nL) (hW : (rest.map fun v => v.category).sum ≤ 8) (hR : F + 11 ≤ R.frames ∧ L + 340 ≤ R.locals) (hf : cells ≤ R.cells ∧ slots ≤ R.slots) (hdg : decode cc pc = .ok (.invokeinterface index 2, 5)) {H0 : Heap} {A : Nat → Prop} (hS : va_S A H0 H locs)
    (kk : ∀ (H1 : Heap) (locs1 : List Loc), H.size ≤ H1.size → (∀ q : Nat, q < H.size → H1[q]? = H[q]?) → va_S A H0 H1 locs1 → W p l e R s m args below meth c H1 locs1 cells slots Q (F0 m (pc + 5) ls (.long r :: rest))) : W p l e R s m args below meth c H locs cells slots Q (F0 m pc ls (.ref v :: .ref q :: rest)) := by
  obtain ⟨hx, hb, hml, hown, hts⟩ := S
  have hfw : va_Fw RX11 ⟨"QuarrelsPawned$Sum", "of", "([I)J"⟩ yX11_of s := (hJ.2.2.2 s s.heap hJs).face (q := (RX11, ⟨"QuarrelsPawned$Sum", "of", "([I)J"⟩, yX11_of)) 6 rfl
  have hat : ClassAt s RX11 (D.1 14) := (hK.1 14 (RX11, TX11, 3) rfl).2
  have hcw := va_cwF (R := R) (rm := rmT F L) (mc := 0) (ms := 0) 1 hts (gdX11_of hlink) rfl rfl rfl hfw cdiX11_of ⟨by show F + 10 + 1 ≤ _; omega, by show 8 + (_ + 11) + (L + 300) ≤ _; omega⟩
  have hp : PreV s H RX11 q (Pr D dA J [.ref q, .ref v] h) [.ref v] := ⟨Pr_blind hJ, xh_recv hK hH hc (q := (RX11, TX11, 3)) rfl, fun U hU hW9 => ⟨rfl, by rw [hU]; exact hH, va_K.moved hW9.alike hK, by rw [hU]; exact hJ.1 s U H hW9 hJH⟩⟩
  have hrun := va_runF (g := F0 m pc ls (.ref v :: .ref q :: rest)) (rest := rest) (locs := locs) (cells := cells) (slots := slots) (p := p) (e := e) (below := below) (meth := meth) (count := 2) hat ⟨hx, hb, hml, hown, hts⟩ hM hcw hp rfl rfl hsz rfl (lv_room hW) hdg hf
  refine va_callFl hrun hS (fun q _ h => h.elim) (fun _ h => h.elim) (fun x u t H1 locs1 ht _ hp _ hz hk hS1 => ?_)
  subst hp
  exact kk H1 locs1 hz (fun q hq => hk q hq (fun z => z)) hS1
theorem xh_ifS (hJ : JR J) (hJs : J s s.heap) (hJH : J s H) (S : CallFix p m c cc nL s args lw_all own) (hK : va_K D clX (tyX dA) s) (hH : HF D dA h H) {F L q v : Nat} {r : Int64} (hd : DiS l D dA J h F L q v r) (hlink : Cond.methodLink own index ⟨"QuarrelsPawned$Sum", "of", "([I)J"⟩ ∈ lw_all) (hsz : ls.size = nL) (hW : (rest.map fun v => v.category).sum ≤ 8) (hR : F + 11 ≤ R.frames ∧ L + 340 ≤ R.locals) (hf : cells ≤ R.cells ∧ slots ≤ R.slots) (hdg : decode cc pc = .ok (.invokeinterface index 2, 5)) {H0 : Heap} {A : Nat → Prop} (hS : va_S A H0 H locs)
    (kk : ∀ (H1 : Heap) (locs1 : List Loc), H.size ≤ H1.size → (∀ q : Nat, q < H.size → H1[q]? = H[q]?) → va_S A H0 H1 locs1 → W p l e R s m args below meth c H1 locs1 cells slots Q (F0 m (pc + 5) ls (.long r :: rest))) : W p l e R s m args below meth c H locs cells slots Q (F0 m pc ls (.ref v :: .ref q :: rest)) := by
  obtain ⟨ci, hc, hd⟩ := hd
  rcases hd with ⟨rfl, hM⟩ | ⟨rfl, hM⟩ | ⟨rfl, hM⟩ | ⟨rfl, hM⟩ | ⟨rfl, hM⟩ | ⟨rfl, hM⟩ | ⟨rfl, hM⟩
  · exact xh_ifS_5 hJ hJs hJH S hK hH hc hM hlink hsz hW hR hf hdg hS kk
  · exact xh_ifS_6 hJ hJs hJH S hK hH hc hM hlink hsz hW hR hf hdg hS kk
  · exact xh_ifS_7 hJ hJs hJH S hK hH hc hM hlink hsz hW hR hf hdg hS kk
  · exact xh_ifS_8 hJ hJs hJH S hK hH hc hM hlink hsz hW hR hf hdg hS kk
  · exact xh_ifS_12 hJ hJs hJH S hK hH hc hM hlink hsz hW hR hf hdg hS kk
  · exact xh_ifS_13 hJ hJs hJH S hK hH hc hM hlink hsz hW hR hf hdg hS kk
  · exact xh_ifS_14 hJ hJs hJH S hK hH hc hM hlink hsz hW hR hf hdg hS kk
theorem cdiX9_is : (⟨"QuarrelsPawned$Asked", "is", "([I)Z"⟩ : MethodName).cls ≠ "java/lang/invoke/MethodHandle" ∧ (⟨"QuarrelsPawned$Asked", "is", "([I)Z"⟩ : MethodName).cls ≠ "java/lang/invoke/VarHandle" ∧ (parseMethodDescriptor (⟨"QuarrelsPawned$Asked", "is", "([I)Z"⟩ : MethodName).desc).map (fun d => d.parameters.length) = some 1 := by decide +kernel
theorem gdX9_is {own : String} {idx : Nat} (hlink : Cond.methodLink own idx ⟨"QuarrelsPawned$Asked", "is", "([I)Z"⟩ ∈ lw_all) : GoodIn lw_all (va_wsF own idx RX9 ⟨"QuarrelsPawned$Asked", "is", "([I)Z"⟩ yX9_is (ws_ yX9_is cX9_is 4 (some .boolean))) := lw_F hlink q998 q1000 q158 q1002
theorem xh_ifA_9 (hJ : JR J) (hJs : J s s.heap) (hJH : J s H) (S : CallFix p m c cc nL s args lw_all own) (hK : va_K D clX (tyX dA) s) (hH : HF D dA h H) {F L q v : Nat} {r : Int32} (hc : hC h q = some 9) (hM : Met l yX9_is (ws_ yX9_is cX9_is 4 (some .boolean)) (rmT F L) (Pr D dA J [.ref q, .ref v] h) (Qrz r) 0 0 nA) (hlink : Cond.methodLink own index ⟨"QuarrelsPawned$Asked", "is", "([I)Z"⟩ ∈ lw_all) (hsz : ls.size = nL) (hW : (rest.map fun v => v.category).sum ≤ 8) (hR : F + 11 ≤ R.frames ∧ L + 340 ≤ R.locals) (hf : cells ≤ R.cells ∧ slots ≤ R.slots) (hdg : decode cc pc = .ok (.invokeinterface index 2, 5)) {H0 : Heap} {A : Nat → Prop} (hS : va_S A H0 H locs)
    (kk : ∀ (H1 : Heap) (locs1 : List Loc), r = 0 ∨ r = 1 → H.size ≤ H1.size → (∀ q : Nat, q < H.size → H1[q]? = H[q]?) → va_S A H0 H1 locs1 → W p l e R s m args below meth c H1 locs1 cells slots Q (F0 m (pc + 5) ls (.int r :: rest))) : W p l e R s m args below meth c H locs cells slots Q (F0 m pc ls (.ref v :: .ref q :: rest)) := by
  obtain ⟨hx, hb, hml, hown, hts⟩ := S
  have hfw : va_Fw RX9 ⟨"QuarrelsPawned$Asked", "is", "([I)Z"⟩ yX9_is s := (hJ.2.2.2 s s.heap hJs).face (q := (RX9, ⟨"QuarrelsPawned$Asked", "is", "([I)Z"⟩, yX9_is)) 7 rfl
  have hat : ClassAt s RX9 (D.1 9) := (hK.1 9 (RX9, TX9, 3) rfl).2
  have hcw := va_cwF (R := R) (rm := rmT F L) (mc := 0) (ms := 0) 1 hts (gdX9_is hlink) rfl rfl rfl hfw cdiX9_is ⟨by show F + 10 + 1 ≤ _; omega, by show 8 + (_ + 11) + (L + 300) ≤ _; omega⟩
  have hp : PreV s H RX9 q (Pr D dA J [.ref q, .ref v] h) [.ref v] := ⟨Pr_blind hJ, xh_recv hK hH hc (q := (RX9, TX9, 3)) rfl, fun U hU hW9 => ⟨rfl, by rw [hU]; exact hH, va_K.moved hW9.alike hK, by rw [hU]; exact hJ.1 s U H hW9 hJH⟩⟩
  have hrun := va_runF (g := F0 m pc ls (.ref v :: .ref q :: rest)) (rest := rest) (locs := locs) (cells := cells) (slots := slots) (p := p) (e := e) (below := below) (meth := meth) (count := 2) hat ⟨hx, hb, hml, hown, hts⟩ hM hcw hp rfl rfl hsz rfl (lv_room hW) hdg hf
  refine va_callFi hrun hS (fun q _ h => h.elim) (fun _ h => h.elim) (fun x u t H1 locs1 ht _ hp _ hz hk hS1 => ?_)
  obtain ⟨hp, h01⟩ := hp
  subst hp
  exact kk H1 locs1 h01 hz (fun q hq => hk q hq (fun z => z)) hS1
theorem cdiX8_is : (⟨"QuarrelsPawned$Asked", "is", "([I)Z"⟩ : MethodName).cls ≠ "java/lang/invoke/MethodHandle" ∧ (⟨"QuarrelsPawned$Asked", "is", "([I)Z"⟩ : MethodName).cls ≠ "java/lang/invoke/VarHandle" ∧ (parseMethodDescriptor (⟨"QuarrelsPawned$Asked", "is", "([I)Z"⟩ : MethodName).desc).map (fun d => d.parameters.length) = some 1 := by decide +kernel
theorem gdX8_is {own : String} {idx : Nat} (hlink : Cond.methodLink own idx ⟨"QuarrelsPawned$Asked", "is", "([I)Z"⟩ ∈ lw_all) : GoodIn lw_all (va_wsF own idx RX8 ⟨"QuarrelsPawned$Asked", "is", "([I)Z"⟩ yX8_is (ws_ yX8_is cX8_is 2 (some .boolean))) := lw_F hlink q1037 q1039 q157 q1041
theorem xh_ifA_10 (hJ : JR J) (hJs : J s s.heap) (hJH : J s H) (S : CallFix p m c cc nL s args lw_all own) (hK : va_K D clX (tyX dA) s) (hH : HF D dA h H) {F L q v : Nat} {r : Int32} (hc : hC h q = some 10) (hM : Met l yX8_is (ws_ yX8_is cX8_is 2 (some .boolean)) (rmT F L) (Pr D dA J [.ref q, .ref v] h) (Qrz r) 0 0 nA) (hlink : Cond.methodLink own index ⟨"QuarrelsPawned$Asked", "is", "([I)Z"⟩ ∈ lw_all) (hsz : ls.size = nL) (hW : (rest.map fun v => v.category).sum ≤ 8) (hR : F + 11 ≤ R.frames ∧ L + 340 ≤ R.locals) (hf : cells ≤ R.cells ∧ slots ≤ R.slots) (hdg : decode cc pc = .ok (.invokeinterface index 2, 5)) {H0 : Heap} {A : Nat → Prop} (hS : va_S A H0 H locs)
    (kk : ∀ (H1 : Heap) (locs1 : List Loc), r = 0 ∨ r = 1 → H.size ≤ H1.size → (∀ q : Nat, q < H.size → H1[q]? = H[q]?) → va_S A H0 H1 locs1 → W p l e R s m args below meth c H1 locs1 cells slots Q (F0 m (pc + 5) ls (.int r :: rest))) : W p l e R s m args below meth c H locs cells slots Q (F0 m pc ls (.ref v :: .ref q :: rest)) := by
  obtain ⟨hx, hb, hml, hown, hts⟩ := S
  have hfw : va_Fw RX8 ⟨"QuarrelsPawned$Asked", "is", "([I)Z"⟩ yX8_is s := (hJ.2.2.2 s s.heap hJs).face (q := (RX8, ⟨"QuarrelsPawned$Asked", "is", "([I)Z"⟩, yX8_is)) 8 rfl
  have hat : ClassAt s RX8 (D.1 10) := (hK.1 10 (RX8, TX8, 1) rfl).2
  have hcw := va_cwF (R := R) (rm := rmT F L) (mc := 0) (ms := 0) 1 hts (gdX8_is hlink) rfl rfl rfl hfw cdiX8_is ⟨by show F + 10 + 1 ≤ _; omega, by show 8 + (_ + 11) + (L + 300) ≤ _; omega⟩
  have hp : PreV s H RX8 q (Pr D dA J [.ref q, .ref v] h) [.ref v] := ⟨Pr_blind hJ, xh_recv hK hH hc (q := (RX8, TX8, 1)) rfl, fun U hU hW9 => ⟨rfl, by rw [hU]; exact hH, va_K.moved hW9.alike hK, by rw [hU]; exact hJ.1 s U H hW9 hJH⟩⟩
  have hrun := va_runF (g := F0 m pc ls (.ref v :: .ref q :: rest)) (rest := rest) (locs := locs) (cells := cells) (slots := slots) (p := p) (e := e) (below := below) (meth := meth) (count := 2) hat ⟨hx, hb, hml, hown, hts⟩ hM hcw hp rfl rfl hsz rfl (lv_room hW) hdg hf
  refine va_callFi hrun hS (fun q _ h => h.elim) (fun _ h => h.elim) (fun x u t H1 locs1 ht _ hp _ hz hk hS1 => ?_)
  obtain ⟨hp, h01⟩ := hp
  subst hp
  exact kk H1 locs1 h01 hz (fun q hq => hk q hq (fun z => z)) hS1
theorem cdiX10_is : (⟨"QuarrelsPawned$Asked", "is", "([I)Z"⟩ : MethodName).cls ≠ "java/lang/invoke/MethodHandle" ∧ (⟨"QuarrelsPawned$Asked", "is", "([I)Z"⟩ : MethodName).cls ≠ "java/lang/invoke/VarHandle" ∧ (parseMethodDescriptor (⟨"QuarrelsPawned$Asked", "is", "([I)Z"⟩ : MethodName).desc).map (fun d => d.parameters.length) = some 1 := by decide +kernel
theorem gdX10_is {own : String} {idx : Nat} (hlink : Cond.methodLink own idx ⟨"QuarrelsPawned$Asked", "is", "([I)Z"⟩ ∈ lw_all) : GoodIn lw_all (va_wsF own idx RX10 ⟨"QuarrelsPawned$Asked", "is", "([I)Z"⟩ yX10_is (ws_ yX10_is cX10_is 4 (some .boolean))) := lw_F hlink q987 q989 q161 q991
theorem xh_ifA_11 (hJ : JR J) (hJs : J s s.heap) (hJH : J s H) (S : CallFix p m c cc nL s args lw_all own) (hK : va_K D clX (tyX dA) s) (hH : HF D dA h H) {F L q v : Nat} {r : Int32} (hc : hC h q = some 11) (hM : Met l yX10_is (ws_ yX10_is cX10_is 4 (some .boolean)) (rmT F L) (Pr D dA J [.ref q, .ref v] h) (Qrz r) 0 0 nA) (hlink : Cond.methodLink own index ⟨"QuarrelsPawned$Asked", "is", "([I)Z"⟩ ∈ lw_all) (hsz : ls.size = nL) (hW : (rest.map fun v => v.category).sum ≤ 8) (hR : F + 11 ≤ R.frames ∧ L + 340 ≤ R.locals) (hf : cells ≤ R.cells ∧ slots ≤ R.slots) (hdg : decode cc pc = .ok (.invokeinterface index 2, 5)) {H0 : Heap} {A : Nat → Prop} (hS : va_S A H0 H locs)
    (kk : ∀ (H1 : Heap) (locs1 : List Loc), r = 0 ∨ r = 1 → H.size ≤ H1.size → (∀ q : Nat, q < H.size → H1[q]? = H[q]?) → va_S A H0 H1 locs1 → W p l e R s m args below meth c H1 locs1 cells slots Q (F0 m (pc + 5) ls (.int r :: rest))) : W p l e R s m args below meth c H locs cells slots Q (F0 m pc ls (.ref v :: .ref q :: rest)) := by
  obtain ⟨hx, hb, hml, hown, hts⟩ := S
  have hfw : va_Fw RX10 ⟨"QuarrelsPawned$Asked", "is", "([I)Z"⟩ yX10_is s := (hJ.2.2.2 s s.heap hJs).face (q := (RX10, ⟨"QuarrelsPawned$Asked", "is", "([I)Z"⟩, yX10_is)) 9 rfl
  have hat : ClassAt s RX10 (D.1 11) := (hK.1 11 (RX10, TX10, 2) rfl).2
  have hcw := va_cwF (R := R) (rm := rmT F L) (mc := 0) (ms := 0) 1 hts (gdX10_is hlink) rfl rfl rfl hfw cdiX10_is ⟨by show F + 10 + 1 ≤ _; omega, by show 8 + (_ + 11) + (L + 300) ≤ _; omega⟩
  have hp : PreV s H RX10 q (Pr D dA J [.ref q, .ref v] h) [.ref v] := ⟨Pr_blind hJ, xh_recv hK hH hc (q := (RX10, TX10, 2)) rfl, fun U hU hW9 => ⟨rfl, by rw [hU]; exact hH, va_K.moved hW9.alike hK, by rw [hU]; exact hJ.1 s U H hW9 hJH⟩⟩
  have hrun := va_runF (g := F0 m pc ls (.ref v :: .ref q :: rest)) (rest := rest) (locs := locs) (cells := cells) (slots := slots) (p := p) (e := e) (below := below) (meth := meth) (count := 2) hat ⟨hx, hb, hml, hown, hts⟩ hM hcw hp rfl rfl hsz rfl (lv_room hW) hdg hf
  refine va_callFi hrun hS (fun q _ h => h.elim) (fun _ h => h.elim) (fun x u t H1 locs1 ht _ hp _ hz hk hS1 => ?_)
  obtain ⟨hp, h01⟩ := hp
  subst hp
  exact kk H1 locs1 h01 hz (fun q hq => hk q hq (fun z => z)) hS1
theorem xh_ifA (hJ : JR J) (hJs : J s s.heap) (hJH : J s H) (S : CallFix p m c cc nL s args lw_all own) (hK : va_K D clX (tyX dA) s) (hH : HF D dA h H) {F L q v : Nat} {r : Int32} (hd : DiA l D dA J h F L q v r) (hlink : Cond.methodLink own index ⟨"QuarrelsPawned$Asked", "is", "([I)Z"⟩ ∈ lw_all) (hsz : ls.size = nL) (hW : (rest.map fun v => v.category).sum ≤ 8) (hR : F + 11 ≤ R.frames ∧ L + 340 ≤ R.locals) (hf : cells ≤ R.cells ∧ slots ≤ R.slots) (hdg : decode cc pc = .ok (.invokeinterface index 2, 5)) {H0 : Heap} {A : Nat → Prop} (hS : va_S A H0 H locs)
    (kk : ∀ (H1 : Heap) (locs1 : List Loc), r = 0 ∨ r = 1 → H.size ≤ H1.size → (∀ q : Nat, q < H.size → H1[q]? = H[q]?) → va_S A H0 H1 locs1 → W p l e R s m args below meth c H1 locs1 cells slots Q (F0 m (pc + 5) ls (.int r :: rest))) : W p l e R s m args below meth c H locs cells slots Q (F0 m pc ls (.ref v :: .ref q :: rest)) := by
  obtain ⟨ci, hc, hd⟩ := hd
  rcases hd with ⟨rfl, hM⟩ | ⟨rfl, hM⟩ | ⟨rfl, hM⟩
  · exact xh_ifA_9 hJ hJs hJH S hK hH hc hM hlink hsz hW hR hf hdg hS kk
  · exact xh_ifA_10 hJ hJs hJH S hK hH hc hM hlink hsz hW hR hf hdg hS kk
  · exact xh_ifA_11 hJ hJs hJH S hK hH hc hM hlink hsz hW hR hf hdg hS kk
end XI
