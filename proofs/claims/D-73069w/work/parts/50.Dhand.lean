/-! making: an exception's own constructor -/
def isNul (o : Option Value) : Bool := match o with
  | some .null => true
  | _ => false
theorem isNul_spec {o : Option Value} (h : isNul o = true) : o = some .null := by
  unfold isNul at h
  split at h
  · rfl
  · cases h
def hexc (ro : Nat → Bool) (G : Gs) (h : Hv) (a : Nat) : Option Hv := if h.1 a = true ∧ ro a = false then (match h.2 a with
  | .inl q => if q.1 = 17 ∧ q.2.length = 8 ∧ isNul q.2[4]? = true then some (hset h a (.inl (17, (((q.2.set 0 (.ref a)).set 1 (va_rf (gU G))).set 2 (va_rf (gP G))).set 1 (va_rf (gU G))))) else none
  | .inr _ => none) else none
theorem hexc_spec {ro : Nat → Bool} {G : Gs} {h h' : Hv} {a : Nat} (e : hexc ro G h a = some h') : h.1 a = true ∧ ro a = false ∧ ∃ fs : List Value, h.2 a = .inl (17, fs) ∧ fs.length = 8 ∧ fs[4]? = some .null ∧ h' = hset h a (.inl (17, (((fs.set 0 (.ref a)).set 1 (va_rf (gU G))).set 2 (va_rf (gP G))).set 1 (va_rf (gU G)))) := by
  unfold hexc at e
  split at e
  · next h1 =>
    refine ⟨h1.1, h1.2, ?_⟩
    split at e
    · next q hq =>
      split at e
      · next h2 =>
        obtain ⟨c, fs⟩ := q
        obtain ⟨h3, h4, h5⟩ := h2
        dsimp only at h3 h4 h5 e
        subst h3
        exact ⟨fs, hq, h4, isNul_spec h5, (Option.some.inj e).symm⟩
      · cases e
    · cases e
  · cases e
theorem va_rf_ref (o : Option Nat) : (va_rf o).isRef = true := by cases o <;> rfl
section XEX
variable {p : Program} {l : Launch} {e : Env} {R : Room} {s : State} {m : MethodId} {args : Array Value} {below : List Frame} {meth : Method} {c : Code} {H : Heap} {locs : List Loc} {cells slots : Nat} {Q : State → Prop}
variable {cc : ByteArray} {pc : Nat} {ls : Array Slot} {rest st0 : List Value} {A : Nat → Prop} {H0 : Heap}
variable {D : va_G} {dA : Nat → ClassId} {ro : Nat → Bool} {h : Hv} {n n0 : Nat} {G : Gs} {J : State → Heap → Prop}
theorem xw_atoms (hts : ∀ w ∈ lw_all, w.before args s = true) (hJ : JD ro G J) (hR : rD ro A n0) (hJs : J s s.heap) : ∀ w ∈ Bundle.throwableAtoms, w.before args s = true := by
  have hz := hJ.z hR hJs
  have lU : (Cond.laysStatic Bundle.tN "UNASSIGNED_STACK" Bundle.steD).before args s = true := hz.2.2.2.2.2.2.2.2.2.2.1.2.word
  have lN : (Cond.laysStatic Bundle.tN "SUPPRESSED_SENTINEL" Bundle.listD).before args s = true := hz.2.2.2.2.2.2.2.2.2.2.2.1.2.word
  unfold Bundle.throwableAtoms
  exact List.forall_mem_cons.mpr ⟨hts _ q151, List.forall_mem_cons.mpr ⟨hts _ q519, List.forall_mem_cons.mpr ⟨hts _ q528, List.forall_mem_cons.mpr ⟨hts _ q530, List.forall_mem_cons.mpr ⟨hts _ q533, List.forall_mem_cons.mpr ⟨hts _ q535, List.forall_mem_cons.mpr ⟨hts _ q520, List.forall_mem_cons.mpr ⟨hts _ q521, List.forall_mem_cons.mpr ⟨hts _ q177, List.forall_mem_cons.mpr ⟨hts _ q178, List.forall_mem_cons.mpr ⟨hts _ q522, List.forall_mem_cons.mpr ⟨hts _ q527, List.forall_mem_cons.mpr ⟨hts _ q531, List.forall_mem_cons.mpr ⟨hts _ q548, List.forall_mem_cons.mpr ⟨hts _ q509, List.forall_mem_cons.mpr ⟨hts _ q549, List.forall_mem_cons.mpr ⟨hts _ q511, List.forall_mem_cons.mpr ⟨hts _ q550, List.forall_mem_cons.mpr ⟨hts _ q513, List.forall_mem_cons.mpr ⟨hts _ q523, List.forall_mem_cons.mpr ⟨lU, List.forall_mem_cons.mpr ⟨hts _ q525, List.forall_mem_cons.mpr ⟨lN, List.forall_mem_cons.mpr ⟨hts _ q515, fun _ h => nomatch h⟩⟩⟩⟩⟩⟩⟩⟩⟩⟩⟩⟩⟩⟩⟩⟩⟩⟩⟩⟩⟩⟩⟩⟩
theorem xw_pass (hts : ∀ w ∈ lw_all, w.before args s = true) (hJ : JD ro G J) (hJs : J s s.heap) : ∀ w ∈ Bundle.chain0Atoms "java/lang/Exception" [], w.before args s = true := by
  have hd : (Cond.declares ⟨"java/lang/Throwable", "<init>", "()V"⟩).before args s = true := va_any rfl (hJ.f hJs).2.2.2.1.2.2
  unfold Bundle.chain0Atoms Bundle.passAtoms
  exact List.forall_mem_cons.mpr ⟨hts _ q540, List.forall_mem_cons.mpr ⟨hts _ q541, List.forall_mem_cons.mpr ⟨hts _ q542, List.forall_mem_cons.mpr ⟨hts _ q520, List.forall_mem_cons.mpr ⟨hd, fun _ h => nomatch h⟩⟩⟩⟩⟩
set_option maxHeartbeats 1000000 in
theorem xd_exc0 (hexec : p.tables.exec = Jvm.exec) (hb : c.code = cc) (hl9 : l.stackTraces = false) (hml : c.maxLocals = ls.size) (hown : s.vm.findClass RX5 = some m.cls) (hts : ∀ w ∈ lw_all, w.before args s = true) (hJ : JD ro G J) (hR : rD ro A n0) (hJs : J s s.heap)
    (hK : va_K D clX (tyX dA) s) (hH : DS D dA ro h n A H) (hS : va_S A s.heap H locs) {a : Nat} (hraw : rawM a H) {h' : Hv} (hv : hexc ro G h a = some h')
    (hframes : 3 < R.frames) (hlocals : (rest.map fun v => v.category).sum + 54 ≤ R.locals) (hdg : decode cc pc = .ok (.invokespecial 1, 3))
    (kk : ∀ (H1 : Heap) (locs1 : List Loc), DS D dA ro h' n A H1 → va_S A s.heap H1 locs1 → W p l e R s m args below meth c H1 locs1 cells slots Q (F0 m (pc + 3) ls rest)) : W p l e R s m args below meth c H locs cells slots Q (F0 m pc ls (.ref a :: rest)) := by
  obtain ⟨g1, g2, fs, g3, hlen, hbk, g4⟩ := hexc_spec hv
  subst g4
  have hAa : A a := hH.2.2.1 a g1 g2
  have hap := va_apart (own := RX5) hts in_X5 tyX5 tyX5_ok nmX5 hK (ci := 17) rfl
  have hat := hH.2.2.2.2 a g1 g2
  rw [g3] at hat
  obtain ⟨r, h1, cell, q1, q2, q3, q4⟩ := hat
  have hr : r = (RX5, TX5, 8) := Option.some.inj (h1.symm.trans rfl)
  subst hr
  obtain ⟨cell9, c1, c2, c3⟩ := hraw
  cases Option.some.inj (q1.symm.trans c1)
  obtain ⟨hS9, hfc, kC, hkC, hkind⟩ := hK.1 17 _ rfl
  dsimp only at hS9 hfc hkC q4 q2
  have hz := hJ.z hR hJs
  intro T hT X
  have htr : e.platform.stackTraces = false := (show e.platform.stackTraces = l.stackTraces by rw [X.admits.platform]).trans hl9
  have howns : e.platform.frameOwnsMonitors = true := by rw [X.admits.platform]
  have hfin : e.platform.finalization = false := by rw [X.admits.platform]
  have hpl : e.platform.magicAccessors = ({} : Platform).magicAccessors := by rw [X.admits.platform]
  obtain ⟨Th, Z, L, LZ, Y⟩ := ThrowableC.of_atoms (args := args) howns hfin hpl (xw_atoms hts hJ hR hJs)
  obtain ⟨P1, Ps, hlenP, L1, hL, hP1m, hlink1, hlink⟩ := Bundle.chain0 (args := args) hpl Y.init0 [] "java/lang/Exception" (by decide +kernel) (fun _ h => nomatch h) (xw_pass hts hJ hJs)
  have hcls : cell.cls = D.1 17 := q2
  have hsel0 : selectMethod e.platform s.vm cell.cls Th.fill0 = .method Th.fill0 := by
    obtain ⟨c2, r2, m2, w1, w2, w3, w4, -⟩ := Cond.selects_spec (hts _ q506)
    cases Option.some.inj (w1.symm.trans hfc)
    cases Option.some.inj (w2.symm.trans (State.methodFound?_of_named Y.fill0 (by decide)))
    cases Option.some.inj (w3.symm.trans Y.fill0)
    rw [hcls, Launch.admits_selectMethod X.admits]; exact w4
  have hselF : selectMethod e.platform s.vm cell.cls Th.fill = .method Th.fill := by
    obtain ⟨c2, r2, m2, w1, w2, w3, w4, -⟩ := Cond.selects_spec (hts _ q507)
    cases Option.some.inj (w1.symm.trans hfc)
    cases Option.some.inj (w2.symm.trans (State.methodFound?_of_named Y.fill (by decide)))
    cases Option.some.inj (w3.symm.trans Y.fill)
    rw [hcls, Launch.admits_selectMethod X.admits]; exact w4
  obtain ⟨cfU, kfU, fiU, fU, aU, cellU, zU1, zU2, zU3, zU4, zU5, zU6, zU7, zU8⟩ := hz.2.2.2.2.2.2.2.2.2.2.1.1
  obtain ⟨cfP, kfP, fiP, fP, aP, cellP, zP1, zP2, zP3, zP4, zP5, zP6, zP7, zP8⟩ := hz.2.2.2.2.2.2.2.2.2.2.2.1.1
  cases zU1.symm.trans Y.unassigned
  cases zP1.symm.trans Y.sentinel
  cases zU4.symm.trans L.statics
  cases zP4.symm.trans L.statics
  cases zU5.symm.trans zP5
  have hcellS : T.heap[Th.aS]? = some cellU := by rw [hT, hS.2.1 _ (Array.getElem?_eq_some_iff.mp zU5).1 zU8]; exact zU5
  have hneS : Th.aS ≠ a := fun z => zU8 (z ▸ hAa)
  have hknownS : cellU.vm ≠ .unknown := fun z => by rw [z] at zU6; cases zU6
  obtain ⟨ci198, i198, fB, hk198, hg198, ha198, hsB, -, hnB, htB, hffB⟩ := Cond.ownField (t := .object "java/lang/Object") Y.found L.cls (by decide +kernel) (hts _ q518) (hts _ q517) e.platform hpl
  obtain ⟨cf0, kf0, fi0, f0, hi0, hsl0⟩ := hS9 0 (by decide)
  obtain ⟨cf1, kf1, fi1, f1, hi1, hsl1⟩ := hS9 1 (by decide)
  obtain ⟨cf2, kf2, fi2, f2, hi2, hsl2⟩ := hS9 2 (by decide)
  obtain ⟨cf4, kf4, fi4, f4, hi4, hsl4⟩ := hS9 4 (by decide)
  cases hi0.symm.trans Y.cause
  cases hi1.symm.trans Y.stack
  cases hi2.symm.trans Y.supp
  cases hi4.symm.trans hffB
  let u0 : RefV := ⟨va_rf (gU G), va_rf_ref _⟩
  let sen : RefV := ⟨va_rf (gP G), va_rf_ref _⟩
  have t0 := t_set q4 hap (show 0 < 8 by decide) (.ref a)
  have t1 := t_set t0 hap (show 1 < 8 by decide) (va_rf (gU G))
  have t2 := t_set t1 hap (show 2 < 8 by decide) (va_rf (gP G))
  have t3 := t_set t2 hap (show 1 < 8 by decide) (va_rf (gU G))
  have hprep : preparedCellV Th.toThrowableT cell a u0 sen = ((cell.setSlot (D.2 17 0) (.ref a)).setSlot (D.2 17 1) (va_rf (gU G))).setSlot (D.2 17 2) (va_rf (gP G)) := by
    show ((cell.setSlot Th.fCause.slot (.ref a)).setSlot Th.fStack.slot (va_rf (gU G))).setSlot Th.fSupp.slot (va_rf (gP G)) = _
    rw [hsl0, hsl1, hsl2]
  have hVb : updV (updV (updV (vp_V fs) 0 (.ref a)) 1 (va_rf (gU G))) 2 (va_rf (gP G)) 4 = .null := by
    show vp_V fs 4 = .null
    simp [vp_V, hbk]
  have hskip : SkipFacts Th e.platform s (fun u => u) u0 ((preparedCellV Th.toThrowableT cell a u0 sen).withEntry T.cur) :=
    ⟨{ ci198 := ci198, i198 := i198, fBack := fB }, ⟨hk198, hg198, ha198, hsB⟩, by
      have h4 := t2 4 (by decide)
      rw [hVb] at h4
      rw [hprep]
      show (((cell.setSlot (D.2 17 0) (.ref a)).setSlot (D.2 17 1) (va_rf (gU G))).setSlot (D.2 17 2) (va_rf (gP G))).slots[fB.slot]? = some .null
      rw [hsl4]
      exact h4, fun _ _ => rfl⟩
  have tk : ∀ (k : Nat) (hk : k < 8) {cf fi : Nat} {kf : Class} {fd : Field} (hi : s.fieldFound? (TX5 k).1 (TX5 k).2.1 (TX5 k).2.2.1 = some (cf, kf, fi, fd)) (hsl : fd.slot = D.2 17 k) {v : Value} (hn : narrow (tyX5 k) v = v) (hfit : fits (tyX5 k) v = true), Takes s cell fd v := by
    intro k hk cf fi kf fd hi hsl v hn hfit
    refine ⟨?_, ?_⟩
    · rw [hsl]; exact (Array.getElem?_eq_some_iff.mp (q4 k hk)).1
    · have h6 := (u_fits hfc hkC hkind (u_lays hts in_X5 hk) hi (tyX5_ok k hk) hn hfit).2
      rw [q2, q3]
      exact h6
  obtain ⟨tm, methC, cdC, kC9, vm₁, hnC, -, -, -, -, -, -, -, hW₁, st1⟩ := Steps.initCold (tb := p.tables) (e := e) (below := below) (s := s) (U := T) X.here hexec X.warmed hpl hown (t := Bundle.init0 "java/lang/Exception") rfl rfl (Bundle.fit_spec (by decide +kernel)).2
    (hts _ q539) (hts _ q540) (bytes := Bundle.five) (maxL := 1) (hts _ q541) (f := F0 m pc ls (.ref a :: rest)) rfl (a := a) (rest := rest) rfl (by rw [hb]; exact hdg)
  cases Option.some.inj (hnC.symm.trans hP1m)
  have X₁ := X.noted hW₁
  obtain ⟨vm₂, X₂, st2⟩ := X₁.ctorPlainOffV hexec (g := F0 m pc ls rest) rfl (by rw [hml]) Th L Z LZ (P1 :: Ps)
    (fun P hP => by rcases List.mem_cons.mp hP with rfl | hP; exact L1; exact hL P hP) ⟨hlink1, hlink⟩ (u0 := u0) (sen := sen) (self := a) (cell := cell) (cellS := cellU)
    (show T.heap[a]? = some cell by rw [hT]; exact q1) (fun k z => by rw [q3] at z; cases z) (fun z => by rw [q3] at z; cases z) c2 c3 hsel0 hselF hcellS hneS hknownS zU7 zP7
    (tk 0 (by decide) hi0 hsl0 rfl rfl) (tk 1 (by decide) hi1 hsl1 (narrow_refV _ u0) (fits_refV_array _ u0)) (tk 2 (by decide) hi2 hsl2 (narrow_refV _ sen) (fits_refV_object _ sen)) Y.objLocals hskip htr [] (by rw [hb]; exact hdg)
    (by simp only [List.length_cons, hlenP, List.length_nil]; omega) (by simp only [List.length_cons, hlenP, List.length_nil]; show 2 * 0 + _ + _ ≤ _; omega)
  have hce : (preparedCellV Th.toThrowableT cell a u0 sen).setSlot Th.fStack.slot u0.v = (((cell.setSlot (D.2 17 0) (.ref a)).setSlot (D.2 17 1) (va_rf (gU G))).setSlot (D.2 17 2) (va_rf (gP G))).setSlot (D.2 17 1) (va_rf (gU G)) := by
    rw [hprep, hsl1]
  rw [hce] at X₂ st2
  generalize hCe : (((cell.setSlot (D.2 17 0) (.ref a)).setSlot (D.2 17 1) (va_rf (gU G))).setSlot (D.2 17 2) (va_rf (gP G))).setSlot (D.2 17 1) (va_rf (gU G)) = ce at X₂ st2 t3
  have hce1 : ce.cls = D.1 17 := by rw [← hCe]; exact q2
  have hce2 : ce.vm = .none := by rw [← hCe]; exact q3
  have hl : a < H.size := (Array.getElem?_eq_some_iff.mp q1).1
  have hheap : (((T.setVm vm₁).setVm vm₂).setCell a ce).heap = H.setIfInBounds a ce := by rw [← hT]; rfl
  have oq : ∀ q : Nat, q ≠ a → (H.setIfInBounds a ce)[q]? = H[q]? := fun q hq => by simp [Array.getElem?_setIfInBounds, Ne.symm hq]
  have hV : ∀ j, j < 8 → updV (updV (updV (updV (vp_V fs) 0 (.ref a)) 1 (va_rf (gU G))) 2 (va_rf (gP G))) 1 (va_rf (gU G)) j = vp_V ((((fs.set 0 (.ref a)).set 1 (va_rf (gU G))).set 2 (va_rf (gP G))).set 1 (va_rf (gU G))) j := by
    intro j _
    have e0 : updV (vp_V fs) 0 (.ref a) = vp_V (fs.set 0 (.ref a)) := funext (fun j => vp_updV_set (by omega) _ j)
    have e1 : updV (vp_V (fs.set 0 (.ref a))) 1 (va_rf (gU G)) = vp_V ((fs.set 0 (.ref a)).set 1 (va_rf (gU G))) := funext (fun j => vp_updV_set (by rw [List.length_set]; omega) _ j)
    have e2 : updV (vp_V ((fs.set 0 (.ref a)).set 1 (va_rf (gU G)))) 2 (va_rf (gP G)) = vp_V (((fs.set 0 (.ref a)).set 1 (va_rf (gU G))).set 2 (va_rf (gP G))) := funext (fun j => vp_updV_set (by rw [List.length_set, List.length_set]; omega) _ j)
    rw [e0, e1, e2]
    exact vp_updV_set (by rw [List.length_set, List.length_set, List.length_set]; omega) _ j
  obtain ⟨t, a1, b1⟩ := kk (H.setIfInBounds a ce) _ (hH.put (H1 := H.setIfInBounds a ce) (by simp) oq ⟨_, rfl, t_OB.to ⟨ce, by simp [Array.getElem?_setIfInBounds, hl], hce1, hce2, t3⟩ hV⟩) ⟨by simp; exact hS.1, fun q w1 w2 => by
      rw [oq q (fun e => w2 (by rw [e]; exact hAa))]
      exact hS.2.1 q w1 w2, fun q hq => by
      rcases List.mem_append.mp hq with h | h
      · exact hS.2.2 q h
      · simp only [List.mem_cons, List.not_mem_nil, or_false] at h
        rcases h with rfl | rfl | rfl | rfl <;> exact hAa⟩ _ hheap X₂
  refine ⟨t, st1 _ (fun acts => ?_), b1⟩
  rw [doInvoke_state]
  exact st2 _ a1
section XEY
variable {own ref C : String} {T9 : u_T} {NF ci index : Nat}
theorem xd_newM (hexec : p.tables.exec = Jvm.exec) (hb : c.code = cc) {N : Nat} (hts : ∀ w ∈ lw_all, w.before args s = true) (hin : ∀ w ∈ u_ws C T9 NF, w ∈ lw_all) (ty : Nat → FieldType) (hty : ∀ k, k < NF → parseFieldDescriptor (T9 k).2.2.1 = some (ty k)) (hown : s.vm.findClass own = some m.cls) (hcl : (Cond.classLink own index C).before args s = true) (hinst : (Cond.instantiable C N).before args s = true) (hini : (Cond.initialized C).before args s = true)
    (hK : va_K D clX (tyX dA) s) (hH : DS D dA ro h n A H) (hS : va_S A H0 H locs) (hA : ∀ q, H0.size ≤ q → A q) (hc : clX[ci]? = some (C, T9, NF)) {fs : List Value} (hfs : ∀ j, j < NF → defaultValue (ty j) = vp_V fs j) (hcells : cells + 1 ≤ R.cells) (hslots : slots + N ≤ R.slots) (hdg : decode cc pc = .ok (.new index, 3))
    (kk : ∀ (H1 : Heap), DS D dA ro (hnew h n (.inl (ci, fs))) (n + 1) A H1 → va_S A H0 H1 locs → rawM n H1 →
      W p l e R s m args below meth c H1 locs (cells + 1) (slots + N) Q (F0 m (pc + 3) ls (.ref n :: rest))) : W p l e R s m args below meth c H locs cells slots Q (F0 m pc ls rest) := by
  have hKn := hK.1 ci _ hc
  have hsz := hH.2.1
  refine W.newcK hexec hb hown hcl hinst hini rfl hdg hcells hslots hKn.2.1 rfl fun H1 kC hkC e1 z1 o1 => ?_
  have hAn : A n := hA n (by rw [← hsz]; exact hS.1)
  have hnew := kk H1 (hH.new hAn z1 o1 ⟨_, hc, (u_born ty hts hin hKn hkC e1 hty).to hfs⟩) ⟨Nat.le_trans hS.1 (by omega), fun x h1 h2 => (o1 x (Nat.lt_of_lt_of_le h1 hS.1)).trans (hS.2.1 x h1 h2), hS.2.2⟩ ⟨_, hsz ▸ e1, rfl, rfl⟩
  rw [hsz]
  exact hnew
end XEY
end XEX
