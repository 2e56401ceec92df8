/-! QuarrelsPawned's world: what stands beside its blocks unchanged (texts and what they reach: a view of cells; statics; words), contracts over both -/
/-- a view of the cells of all texts; the addresses of NOTHING, of CHECKS, of the names' block -/
abbrev Tx : Type := Hv × Nat × Nat × Nat
def tH (T : Tx) : Hv := T.1
def tNo (T : Tx) : Nat := T.2.1
def tCk (T : Tx) : Nat := T.2.2.1
def tV (T : Tx) : Nat := T.2.2.2
def ckF (j : Nat) : Int32 := match j with
  | 0 => 9
  | 1 => 7
  | 2 => 3
  | _ => 1
abbrev nsX : List Cond := [.fieldLinkNest "QuarrelsPawned" 70 "QuarrelsPawned$State" "n" "[I" "QuarrelsPawned", .fieldLinkNest "QuarrelsPawned" 88 "QuarrelsPawned$State" "row" "[I" "QuarrelsPawned", .fieldLinkNest "QuarrelsPawned" 95 "QuarrelsPawned$State" "one" "[I" "QuarrelsPawned", .fieldLinkNest "QuarrelsPawned" 98 "QuarrelsPawned$State" "other" "[I" "QuarrelsPawned", .fieldLinkNest "QuarrelsPawned" 101 "QuarrelsPawned$State" "worth" "[I" "QuarrelsPawned", .fieldLinkNest "QuarrelsPawned" 356 "QuarrelsPawned$State" "digit" "[I" "QuarrelsPawned", .fieldLinkNest "QuarrelsPawned" 368 "QuarrelsPawned$State" "hook" "[I" "QuarrelsPawned", .fieldLinkNest "QuarrelsPawned" 387 "QuarrelsPawned$State" "bid" "[[I" "QuarrelsPawned", .fieldLinkNest "QuarrelsPawned" 401 "QuarrelsPawned$State" "said" "[[I" "QuarrelsPawned", .fieldLinkNest "QuarrelsPawned" 290 "QuarrelsPawned$State" "step" "[[I" "QuarrelsPawned", .fieldLinkNest "QuarrelsPawned" 115 "QuarrelsPawned$State" "text" "[LQuarrelsPawned$Text;" "QuarrelsPawned", .fieldLinkNest "QuarrelsPawned" 151 "QuarrelsPawned$Text" "law" "[LQuarrelsPawned$Sum;" "QuarrelsPawned", .fieldLinkNest "QuarrelsPawned" 267 "QuarrelsPawned$Text" "doings" "Ljava/util/ArrayList;" "QuarrelsPawned", .fieldLinkNest "QuarrelsPawned" 130 "QuarrelsPawned$Wrong" "fault" "I" "QuarrelsPawned", .fieldLinkNest "QuarrelsPawned" 131 "QuarrelsPawned$Wrong" "place" "I" "QuarrelsPawned", .methodLinkNest "QuarrelsPawned" 293 ⟨"QuarrelsPawned$State", "copy", "([I[I)V"⟩ "QuarrelsPawned"]
/-- what stands beside the blocks, in a heap -/
def JF (D : va_G) (dA : Nat → ClassId) (E : Nat → Nat) (T : Tx) (U : State) (H : Heap) : Prop :=
  (∀ w ∈ nsX, va_Nw w U) ∧
  (va_Z "QuarrelsPawned" "CHECKS" "[I" (.ref (tCk T)) (AE 136 E) U H ∧ va_T .int (tCk T) 4 (fun j => .int (ckF j)) (AE 136 E) U H) ∧
  (va_Z "QuarrelsPawned" "NOTHING" "LQuarrelsPawned$Text;" (.ref (tNo T)) (AE 136 E) U H) ∧
  HF D dA (tH T) H ∧ TW U ∧ E 26 = tV T ∧ ∀ q, (tH T).1 q = true → ¬ AE 136 E q
/-- a predicate that holds all through a walk, and says what JF says -/
def JP (D : va_G) (dA : Nat → ClassId) (E : Nat → Nat) (T : Tx) (J : State → Heap → Prop) : Prop :=
  (∀ (s U : State) (H : Heap), s.WarmedH U.vm → J s H → J U H) ∧ (∀ (s U : State) (H : Heap), s.vm = U.vm → J s H → J U H) ∧
  (∀ (U : State) (H H1 : Heap), H.size ≤ H1.size → (∀ q : Nat, q < H.size → ¬ AE 136 E q → H1[q]? = H[q]?) → J U H → J U H1) ∧
  (∀ (U : State) (H : Heap), J U H → JF D dA E T U H)
theorem JP.at {D : va_G} {dA : Nat → ClassId} {E : Nat → Nat} {T : Tx} {J : State → Heap → Prop} (h : JP D dA E T J) {s : State} {H : Heap} {locs : List Loc} (hJ : J s s.heap) (hS : va_S (AE 136 E) s.heap H locs) : J s H := h.2.2.1 s s.heap H hS.1 hS.2.1 hJ
theorem JP.nest {D : va_G} {dA : Nat → ClassId} {E : Nat → Nat} {T : Tx} {J : State → Heap → Prop} (h : JP D dA E T J) {s : State} {H : Heap} (hJ : J s H) {w : Cond} (i : Nat) (hw : nsX[i]? = some w) : va_Nw w s := (h.2.2.2 s H hJ).1 w (List.mem_of_getElem? hw)
def Pj (D : va_G) (dA : Nat → ClassId) (E : Nat → Nat) (J : State → Heap → Prop) (av : List Value) (w : Mm) : Array Value → State → Prop := va_Pc av (fun U => va_P D clX (wl shX 136 dA E w) U.heap ∧ va_K D clX (tyX dA) U ∧ J U U.heap)
theorem Pj_blind {D : va_G} {dA : Nat → ClassId} {E : Nat → Nat} {T : Tx} {J : State → Heap → Prop} (hJ : JP D dA E T J) {av : List Value} {w : Mm} : FrameBlind (Pj D dA E J av w) := by
  intro a U g mk q
  obtain ⟨q0, qP, qK, qJ⟩ := q
  exact ⟨q0, qP, va_K.moved (u := U) (U := U.calling g mk a) (Vm.Alike.refl U.vm) qK, hJ.2.1 U (U.calling g mk a) U.heap rfl qJ⟩
theorem xj_head {l : Launch} {y : MethodName} {cc : ByteArray} {maxL : Nat} {ret : Option FieldType} {rm : Room} {av : List Value} {Qc : Array Value → State → Outcome → State → Prop} {free : Addr → Prop} {own : String} {mc ms : Nat}
    {D : va_G} {dA : Nat → ClassId} {E : Nat → Nat} {J : State → Heap → Prop} {w : Mm}
    (hy : plainName y.cls = true) (hyc : y.cls = own) (hn : (lg_sl av).length ≤ maxL)
    (body : ∀ (p : Program) (e : Env) (s : State) (m : MethodId) (args : Array Value) (below : List Frame) (meth : Method) (c : Code) (ls : Array Slot) (Q : State → Prop), MQ below Qc args s mc ms free = Q → Cj p s m args meth c cc ret maxL own D dA J → va_P D clX (wl shX 136 dA E w) s.heap → lv_has ls maxL (lv_args 0 av) →
      W p l e rm s m args below meth c s.heap [] 0 0 Q (F0 m 0 ls [])) : Met l y (ws_ y cc maxL ret) rm (Pj D dA E J av w) Qc mc ms free := by
  refine Met.ofW (cc := cc) (maxL := maxL) (ret := ret) hy rfl ?_
  intro p e s m args below meth c s₁ B hml hv
  obtain ⟨rfl, hP, hK, hJ⟩ := hv
  have hts := atoms_spec (ws := ws_ y cc maxL ret) B.pre
  have hts : ∀ w ∈ lw_all, w.before _ s = true := fun w h => hts w (List.mem_cons_of_mem _ h)
  have hown : s.vm.findClass own = some m.cls := hyc ▸ findClass_of_methodNamed B.named
  have hl := lv_entry av hn
  rw [lg_entry_eq]
  exact body p e s m _ below meth c _ _ rfl ⟨B.exec, B.bytes, B.returns, B.notSynchronized, hml, hown, hts, hK, hJ⟩ hP hl
def QwA (D : va_G) (dA : Nat → ClassId) (E : Nat → Nat) (r : Nat) (w : Mm) : Array Value → State → Outcome → State → Prop := va_Qr (fun (x : Nat) => x = r) (fun x a t => a = x ∧ va_P D clX (wl shX 136 dA E w) t.heap) (AE 136 E)
/-- whether a copy is within -/
def cpOk (sp dp n : Int32) (n0 n1 : Nat) : Bool := !decide (sp < 0) && (!decide (dp < 0) && (!decide (n < 0) && (decide (sp.toNatClampNeg + n.toNatClampNeg ≤ n0) && decide (dp.toNatClampNeg + n.toNatClampNeg ≤ n1))))
theorem cpOk_spec {sp dp n : Int32} {n0 n1 : Nat} (h : cpOk sp dp n n0 n1 = true) : ¬ sp < 0 ∧ ¬ dp < 0 ∧ ¬ n < 0 ∧ sp.toNatClampNeg + n.toNatClampNeg ≤ n0 ∧ dp.toNatClampNeg + n.toNatClampNeg ≤ n1 := by
  simpa [cpOk] using h
section XJ
variable {p : Program} {l : Launch} {e : Env} {R : Room} {s : State} {m : MethodId} {args : Array Value} {below : List Frame} {meth : Method} {c : Code} {H : Heap} {locs : List Loc} {cells slots : Nat} {Q : State → Prop}
variable {cc : ByteArray} {pc : Nat} {ls : Array Slot} {rest st0 : List Value} {A : Nat → Prop} {H0 : Heap}
variable {D : va_G} {dA : Nat → ClassId} {E : Nat → Nat} {w w' : Mm} {T : Tx} {J : State → Heap → Prop}
variable {y : MethodName} {bytes : ByteArray} {maxL nL n index : Nat} {ret : Option FieldType} {rm : Room} {own C : String} {As : List Value}
theorem xj_run {Qc : Array Value → State → Outcome → State → Prop} (hJ : JP D dA E T J) (hJs : J s s.heap) (hS : va_S (AE 136 E) s.heap H locs) (S : CallFix p m c cc nL s args lw_all own) {k0 ci : Nat} {fl : List (Nat × Nat)} {q : vw_C} (hM : Met l y (ws_ y bytes maxL ret) rm (Pj D dA E J (Value.ref (E k0) :: As) w) Qc 0 0 (AE 136 E)) (cw : CallW R s args own C index y bytes maxL ret (ws_ y bytes maxL ret) rm 0 0 n) (hK : va_K D clX (tyX dA) s) (hP : va_P D clX (wl shX 136 dA E w) H) (hk : k0 < 136) (hs : shX k0 = (0, ci, fl)) (hc : clX[ci]? = some q) (hqC : q.1 = C)
    (hsz : ls.size = nL) (hn : As.length = n) (hst : st0 = As.reverse ++ .ref (E k0) :: rest) (hW : (rest.map fun v => v.category).sum ≤ 8) (hdg : decode cc pc = .ok (.invokevirtual index, 3)) (hf : cells ≤ R.cells ∧ slots ≤ R.slots) :
    va_Run p l e R s m args below meth c H locs cells slots 0 0 (F0 m pc ls st0) rest (Qc (Value.ref (E k0) :: As).toArray) (AE 136 E) := by
  subst hqC
  exact va_runV S hM cw ⟨Pj_blind hJ, va_recv hK hP hc (wl_e hk hs), fun U hU hW9 => ⟨rfl, by rw [hU]; exact hP, va_K.moved hW9.alike hK, by rw [hU]; exact hJ.1 s U H hW9 (hJ.at hJs hS)⟩⟩ rfl hn hsz hst (lv_room hW) hdg hf
theorem xj_runS {Qc : Array Value → State → Outcome → State → Prop} (hJ : JP D dA E T J) (hJs : J s s.heap) (hS : va_S (AE 136 E) s.heap H locs) (S : CallFix p m c cc nL s args lw_all own) (hM : Met l y (ws_ y bytes maxL ret) rm (Pj D dA E J As w) Qc 0 0 (AE 136 E)) (cw : CallB R s args own index y bytes maxL ret (ws_ y bytes maxL ret) rm 0 0 n ∧ (Cond.static y).before args s = true) (hK : va_K D clX (tyX dA) s) (hP : va_P D clX (wl shX 136 dA E w) H)
    (hsz : ls.size = nL) (hn : As.length = n) (hst : st0 = As.reverse ++ rest) (hW : (rest.map fun v => v.category).sum ≤ 8) (hdg : decode cc pc = .ok (.invokestatic index, 3)) (hf : cells ≤ R.cells ∧ slots ≤ R.slots) :
    va_Run p l e R s m args below meth c H locs cells slots 0 0 (F0 m pc ls st0) rest (Qc As.toArray) (AE 136 E) :=
  va_runS S hM cw ⟨Pj_blind hJ, fun U hU hW9 => ⟨rfl, by rw [hU]; exact hP, va_K.moved hW9.alike hK, by rw [hU]; exact hJ.1 s U H hW9 (hJ.at hJs hS)⟩⟩ rfl hn hsz hst (lv_room hW) hdg hf
theorem JP.jr {D : va_G} {dA : Nat → ClassId} {E : Nat → Nat} {T : Tx} {J : State → Heap → Prop} (h : JP D dA E T J) : JR J :=
  ⟨h.1, h.2.1, fun U H H1 hz hk hJ => h.2.2.1 U H H1 hz (fun q hq _ => hk q hq) hJ, fun U H hJ => (h.2.2.2 U H hJ).2.2.2.2.1⟩
theorem JP.view {D : va_G} {dA : Nat → ClassId} {E : Nat → Nat} {T : Tx} {J : State → Heap → Prop} (h : JP D dA E T J) {U : State} {H : Heap} (hJ : J U H) : HF D dA (tH T) H := (h.2.2.2 U H hJ).2.2.2.1
/-- a nest mate's private static method -/
theorem xj_runSN {Qc : Array Value → State → Outcome → State → Prop} {host : String} (hJ : JP D dA E T J) (hJs : J s s.heap) (hS : va_S (AE 136 E) s.heap H locs) (S : CallFix p m c cc nL s args lw_all own) (hM : Met l y (ws_ y bytes maxL ret) rm (Pj D dA E J As w) Qc 0 0 (AE 136 E)) (cw : va_CN R s args own index y host bytes maxL ret (ws_ y bytes maxL ret) rm 0 0 n) (hst9 : (Cond.static y).before args s = true) (hK : va_K D clX (tyX dA) s) (hP : va_P D clX (wl shX 136 dA E w) H)
    (hsz : ls.size = nL) (hn : As.length = n) (hst : st0 = As.reverse ++ rest) (hW : (rest.map fun v => v.category).sum ≤ 8) (hdg : decode cc pc = .ok (.invokestatic index, 3)) (hf : cells ≤ R.cells ∧ slots ≤ R.slots) :
    va_Run p l e R s m args below meth c H locs cells slots 0 0 (F0 m pc ls st0) rest (Qc As.toArray) (AE 136 E) :=
  va_runSN S hM ⟨cw, hst9, trivial⟩ ⟨Pj_blind hJ, fun U hU hW9 => ⟨rfl, by rw [hU]; exact hP, va_K.moved hW9.alike hK, by rw [hU]; exact hJ.1 s U H hW9 (hJ.at hJs hS)⟩⟩ rfl hn hsz hst (lv_room hW) hdg hf
theorem xc_a {r : Nat} {a : Array Value} (hr : va_Run p l e R s m args below meth c H locs cells slots 0 0 (F0 m pc ls st0) rest (QwA D dA E r w' a) (AE 136 E)) (hS : va_S A H0 H locs) (hA : ∀ k, k < 136 → A (E k))
    (kk : ∀ (H1 : Heap) (locs1 : List Loc), va_P D clX (wl shX 136 dA E w') H1 → va_S A H0 H1 locs1 → W p l e R s m args below meth c H1 locs1 cells slots Q (F0 m (pc + 3) ls (.ref r :: rest))) : W p l e R s m args below meth c H locs cells slots Q (F0 m pc ls st0) := by
  have hA' : ∀ q, AE 136 E q → A q := fun q ⟨k, hk, e⟩ => e ▸ hA k hk
  refine va_callr hr hS (fun q _ h => hA' q h) hA' (fun u ra t H1 locs1 ht _ hp hB _ _ hS1 => ?_)
  obtain ⟨h1, h2⟩ := hB
  subst h1
  subst hp
  rw [ht] at h2
  exact kk H1 locs1 h2 hS1
theorem xe_a (hexec : p.tables.exec = Jvm.exec) (hb : c.code = cc) {rt : String} (hr : meth.sig.returnType = some (.object rt)) (hlocks : meth.locks = false) (hP : va_P D clX (wl shX 136 dA E w) H) (hS : va_S (AE 136 E) s.heap H locs) {v : Nat} (hdg : decode cc pc = .ok (.areturn, 1)) : W p l e R s m args below meth c H locs cells slots (MQ below (QwA D dA E v w) args s cells slots (AE 136 E)) (F0 m pc ls [.ref v]) :=
  W.aret hexec hb hr (Or.inl ⟨_, rfl⟩) (Or.inr ⟨_, rfl⟩) (fun t ht _ => ⟨⟨v, v, rfl, rfl, rfl, (by rw [ht]; exact hP)⟩, hS.F ht⟩) hS.2.2 hdg hlocks
/-- a nest mate's field of a block -/
theorem xr_getN (hexec : p.tables.exec = Jvm.exec) (hb : c.code = cc) {own ref C host : String} {T9 : u_T} {NF ci index : Nat} {Ts : List Cond} (hts : ∀ w ∈ Ts, w.before args s = true) (hin : ∀ w ∈ u_ws C T9 NF, w ∈ Ts) (hown : s.vm.findClass own = some m.cls) (hK : va_K D clX (tyX dA) s) (hP : va_P D clX (wl shX 136 dA E w) H) (k : Nat) (hk : k < 136) {fl : List (Nat × Nat)} (hs : shX k = (0, ci, fl)) (hc : clX[ci]? = some (C, T9, NF)) (j : Nat) (hj : j < NF) (hlink : va_Nw (.fieldLinkNest own index ref (T9 j).2.1 (T9 j).2.2.1 host) s) (hsame : ∀ x, s.fieldFound? (T9 j).1 (T9 j).2.1 (T9 j).2.2.1 = some x → s.fieldFound? ref (T9 j).2.1 (T9 j).2.2.1 = some x) {q : Nat × Nat} (hq : fl[j]? = some q) {v : Value} (hv : bkv E w k j q = v) (hdg : decode cc pc = .ok (.getfield index, 3))
    (kk : W p l e R s m args below meth c H locs cells slots Q (F0 m (pc + 3) ls (v :: rest))) : W p l e R s m args below meth c H locs cells slots Q (F0 m pc ls (.ref (E k) :: rest)) :=
  va_getN hexec hb hts hin hown hK hP k (wl_e hk hs) hc j hj (va_Nw.use rfl hlink) hsame (show (bkf E w k 0 fl)[j]? = some v by rw [bkf_at fl 0 j hq, Nat.zero_add, hv]) hdg kk
/-- a row of an array of arrays -/
theorem xr_aald (hexec : p.tables.exec = Jvm.exec) (hb : c.code = cc) (hK : va_K D clX (tyX dA) s) (hP : va_P D clX (wl shX 136 dA E w) H) (k : Nat) (hk : k < 136) {n b0 : Nat} {z : List (Nat × Nat)} (hs : shX k = (5, n, (0, b0) :: z)) {i : Int32} {j : Nat} (hin : vp_in i n) (hj : i.toNatClampNeg = j) (hdg : decode cc pc = .ok (.aaload, 1))
    (kk : W p l e R s m args below meth c H locs cells slots Q (F0 m (pc + 1) ls (.ref (E (b0 + j)) :: rest))) : W p l e R s m args below meth c H locs cells slots Q (F0 m pc ls (.int i :: .ref (E k) :: rest)) := by
  subst hj
  have hlt : i.toNatClampNeg < n := vin_lt hin
  exact W.aald (v := .ref (E (b0 + i.toNatClampNeg))) (ty := .array .int) hexec hb (hP k _ (wl_e hk hs)) ((hK.2 2 _ rfl).1 n (fun j => va_rf (some (E (b0 + j))))) rfl (fun q => by cases q) (by show ¬ (i < 0 ∨ (arrV _ _ _).slots.size ≤ _); rw [arrV_size]; exact hin) (by show (arrV _ _ _).slots[_]? = _; rw [arrV_read _ _ hlt]; rfl) rfl rfl hdg kk
/-- a text of the texts -/
theorem xr_taald (hexec : p.tables.exec = Jvm.exec) (hb : c.code = cc) (hK : va_K D clX (tyX dA) s) (hP : va_P D clX (wl shX 136 dA E w) H) (k : Nat) (hk : k < 136) {n : Nat} {z : List (Nat × Nat)} (hs : shX k = (6, n, z)) {i : Int32} {j t : Nat} (hin : vp_in i n) (hj : i.toNatClampNeg = j) (ht : w.2.2 k j = some t) (hdg : decode cc pc = .ok (.aaload, 1))
    (kk : W p l e R s m args below meth c H locs cells slots Q (F0 m (pc + 1) ls (.ref t :: rest))) : W p l e R s m args below meth c H locs cells slots Q (F0 m pc ls (.int i :: .ref (E k) :: rest)) := by
  subst hj
  refine va_aldq hexec hb hK hP k 3 (wl_e hk hs) rfl hin hdg ?_
  rw [ht]
  exact kk
/-- System.arraycopy between two blocks of ints -/
theorem xr_copy (hexec : p.tables.exec = Jvm.exec) (hb : c.code = cc) (hml : c.maxLocals = ls.size) {own : String} {index : Nat} (hown : s.vm.findClass own = some m.cls) (hlink : (Cond.methodLink own index arraycopyName).before args s = true) (hnat : (Cond.native arraycopyName).before args s = true) (hstat : (Cond.static arraycopyName).before args s = true) (hini : (Cond.initialized "java/lang/System").before args s = true)
    (hK : va_K D clX (tyX dA) s) (hP : va_P D clX (wl shX 136 dA E w) H) (hD : wD 136 E A) (hS : va_S A H0 H locs) (k0 k1 : Nat) (hk0 : k0 < 136) (hk1 : k1 < 136) {n0 n1 : Nat} {z0 z1 : List (Nat × Nat)} (hs0 : shX k0 = (1, n0, z0)) (hs1 : shX k1 = (1, n1, z1)) {sp dp n : Int32} {w' : Mm} (hok : cpOk sp dp n n0 n1 = true) (hw : w' = mC w k1 (va_cpy (w.1 k0) (w.1 k1) sp.toNatClampNeg dp.toNatClampNeg n.toNatClampNeg))
    (hframes : 1 ≤ R.frames) (hlocals : (rest.map fun v => v.category).sum + (nativeFrameWords "java/lang/System" "arraycopy" 5 + 11) ≤ R.locals) (hdg : decode cc pc = .ok (.invokestatic index, 3))
    (kk : ∀ (H1 : Heap) (locs1 : List Loc), va_P D clX (wl shX 136 dA E w') H1 → va_S A H0 H1 locs1 → W p l e R s m args below meth c H1 locs1 cells slots Q (F0 m (pc + 3) ls rest)) : W p l e R s m args below meth c H locs cells slots Q (F0 m pc ls (.int n :: .int dp :: .ref (E k1) :: .int sp :: .ref (E k0) :: rest)) := by
  subst hw
  obtain ⟨h1, h2, h3, h4, h5⟩ := cpOk_spec hok
  refine va_copyi hexec hb hml hown hlink hnat hstat hini hK hP (wl_D hD w) hS k0 k1 0 0 (wl_e hk0 hs0) (wl_e hk1 hs1) rfl rfl rfl h1 h2 h3 h4 h5 (fun i _ => rfl) hframes hlocals hdg (fun H1 locs1 g1 _ g3 => kk H1 locs1 ?_ g3)
  have e : bke dA E (mC w k1 (va_cpy (w.1 k0) (w.1 k1) sp.toNatClampNeg dp.toNatClampNeg n.toNatClampNeg)) k1 (shX k1) = .inl (dA 1, n1, .inl (va_cpy (w.1 k0) (w.1 k1) sp.toNatClampNeg dp.toNatClampNeg n.toNatClampNeg)) := by rw [hs1]; simp only [bke, mC_self]
  exact (wl_mC (N := 136) e) ▸ g1
/-- a method that only reads, of an object of the view -/
theorem xjr_run {Qc : Array Value → State → Outcome → State → Prop} (hJ : JP D dA E T J) (hJs : J s s.heap) (hS : va_S (AE 136 E) s.heap H locs) (S : CallFix p m c cc nL s args lw_all own) {a ci : Nat} {q : vw_C} (hM : Met l y (ws_ y bytes maxL ret) rm (Pr D dA J (Value.ref a :: As) (tH T)) Qc 0 0 nA) (cw : CallW R s args own C index y bytes maxL ret (ws_ y bytes maxL ret) rm 0 0 n) (hK : va_K D clX (tyX dA) s) (hc : hC (tH T) a = some ci) (hcl : clX[ci]? = some q) (hqC : q.1 = C)
    (hsz : ls.size = nL) (hn : As.length = n) (hst : st0 = As.reverse ++ .ref a :: rest) (hW : (rest.map fun v => v.category).sum ≤ 8) (hdg : decode cc pc = .ok (.invokevirtual index, 3)) (hf : cells ≤ R.cells ∧ slots ≤ R.slots) :
    va_Run p l e R s m args below meth c H locs cells slots 0 0 (F0 m pc ls st0) rest (Qc (Value.ref a :: As).toArray) nA := by
  subst hqC
  have hH := hJ.view (hJ.at hJs hS)
  exact va_runV S hM cw ⟨Pr_blind hJ.jr, xh_recv hK hH hc hcl, fun U hU hW9 => ⟨rfl, by rw [hU]; exact hH, va_K.moved hW9.alike hK, by rw [hU]; exact hJ.1 s U H hW9 (hJ.at hJs hS)⟩⟩ rfl hn hsz hst (lv_room hW) hdg hf
theorem P_kept {H1 : Heap} (hP : va_P D clX (wl shX 136 dA E w) H) (hk : ∀ q : Nat, q < H.size → ¬ nA q → H1[q]? = H[q]?) : va_P D clX (wl shX 136 dA E w) H1 := hP.kept (fun k q hq => hk q.1 (hP k q hq).lt (fun z => z))
theorem xjr_i {r : Int32} {a : Array Value} (hr : va_Run p l e R s m args below meth c H locs cells slots 0 0 (F0 m pc ls st0) rest (Qri r a) nA) (hP : va_P D clX (wl shX 136 dA E w) H) (hS : va_S A H0 H locs)
    (kk : ∀ (H1 : Heap) (locs1 : List Loc), va_P D clX (wl shX 136 dA E w) H1 → va_S A H0 H1 locs1 → W p l e R s m args below meth c H1 locs1 cells slots Q (F0 m (pc + 3) ls (.int r :: rest))) : W p l e R s m args below meth c H locs cells slots Q (F0 m pc ls st0) := by
  refine va_calli hr hS (fun q _ h => h.elim) (fun _ h => h.elim) (fun x u t H1 locs1 ht _ hp _ hz hk hS1 => ?_)
  subst hp
  exact kk H1 locs1 (P_kept hP hk) hS1
theorem xjr_a {r : Nat} {a : Array Value} (hr : va_Run p l e R s m args below meth c H locs cells slots 0 0 (F0 m pc ls st0) rest (Qra r a) nA) (hP : va_P D clX (wl shX 136 dA E w) H) (hS : va_S A H0 H locs)
    (kk : ∀ (H1 : Heap) (locs1 : List Loc), va_P D clX (wl shX 136 dA E w) H1 → va_S A H0 H1 locs1 → W p l e R s m args below meth c H1 locs1 cells slots Q (F0 m (pc + 3) ls (.ref r :: rest))) : W p l e R s m args below meth c H locs cells slots Q (F0 m pc ls st0) := by
  refine va_callr hr hS (fun q _ h => h.elim) (fun _ h => h.elim) (fun u ra t H1 locs1 ht _ hp hB hz hk hS1 => ?_)
  subst hB
  subst hp
  exact kk H1 locs1 (P_kept hP hk) hS1
end XJ
