/-! text(): the parser called from QuarrelsPawned's world -/
/-- an Integer's number -/
def gIx (G : Gs) (q : Nat) : Int32 := match (List.range 256).find? (fun j => decide (q = gI G j)) with
  | some j => Int32.ofNat j - 128
  | none => 0
/-- what the parser sees at first: the tape, the Integers that are kept -/
def hB (G : Gs) (te : Nat) (f : Nat → Int32) : Hv := (fun q => decide (q = te) || (List.range 256).any (fun j => decide (q = gI G j)), fun q => if q = te then .inr (2, (300, .inl f)) else .inl (16, [.int (gIx G q)]))
/-- the Integers kept -/
def IG (D : va_G) (dA : Nat → ClassId) (N : Nat) (G : Gs) (H : Heap) : Prop := ∀ j, j < 256 → gI G j < N ∧ hw_at D dA (gI G j) (.inl (16, [.int (Int32.ofNat j - 128)])) H
theorem hB_HF {D : va_G} {dA : Nat → ClassId} {E : Nat → Nat} {N : Nat} {G : Gs} {w : Mm} {H : Heap} (hI : IG D dA N G H) (hP : va_P D clX (wl shX 136 dA E w) H) : HF D dA (hB G (E 25) (w.1 25)) H := by
  intro q hq
  by_cases e : q = E 25
  · subst e
    have h25 := hP 25 _ (wl_e (by decide) (b := (2, 300, [])) rfl)
    show hw_at D dA (E 25) (if E 25 = E 25 then .inr (2, (300, .inl (w.1 25))) else _) H
    rw [if_pos rfl]
    exact hw_of (x := .inr (2, (300, .inl (w.1 25)))) h25
  · show hw_at D dA q (if q = E 25 then _ else .inl (16, [.int (gIx G q)])) H
    rw [if_neg e]
    have hq' : (decide (q = E 25) || (List.range 256).any (fun j => decide (q = gI G j))) = true := hq
    rw [decide_eq_false e, Bool.false_or] at hq'
    unfold gIx
    cases hf : (List.range 256).find? (fun j => decide (q = gI G j)) with
    | none =>
      obtain ⟨j, h1, h2⟩ := List.any_eq_true.mp hq'
      exact absurd h2 (List.find?_eq_none.mp hf j h1)
    | some j =>
      have h1 : q = gI G j := by simpa using List.find?_some hf
      have h2 : j < 256 := List.mem_range.mp (List.mem_of_find?_eq_some hf)
      subst h1
      exact (hI j h2).2
theorem hB_lt {D : va_G} {dA : Nat → ClassId} {h : Hv} {H : Heap} (hh : HF D dA h H) {q : Nat} (hq : h.1 q = true) : q < H.size := (hh q hq).lt
/-- new Tokens(tape, n).read() -/
noncomputable def X_read (G : Gs) (te n : Nat) (f : Nat → Int32) (sz : Int32) : Option ((Nat ⊕ Nat) × Hv × Nat × Nat) :=
  (P_X3_init G (roN n) (hnew (hB G te f) n (.inl (15, [.null, .int 0, .int 0, .int 0, .int 0, .int 0, .int 0, .int 0]))) (n + 1) n te sz).bind (fun (q1 : Unit × Hv × Nat × Nat) => gp (decide (hC q1.2.1 n = some 15)) ((P_X3_read G (roN n) q1.2.1 (n + 1 + q1.2.2.1) n).bind (fun (q2 : (Nat ⊕ Nat) × Hv × Nat × Nat) => some (q2.1, q2.2.1, 1 + q1.2.2.1 + q2.2.2.1, 8 + q1.2.2.2 + q2.2.2.2))))
theorem wl_addr {dA : Nat → ClassId} {E : Nat → Nat} {w : Mm} {k : Nat} {q : Nat × va_E} (h : (wl shX 136 dA E w)[k]? = some q) : k < 136 ∧ q.1 = E k := by
  by_cases hk : k < 136
  · refine ⟨hk, ?_⟩
    rw [wl_at hk] at h
    cases h
    rfl
  · exfalso
    have h1 := (List.getElem?_eq_some_iff.mp h).1
    have h2 : (wl shX 136 dA E w).length = 136 := by simp [wl]
    omega
section XT
variable {p : Program} {l : Launch} {e : Env} {R : Room} {s : State} {m : MethodId} {args : Array Value} {below : List Frame} {meth : Method} {c : Code} {H : Heap} {locs : List Loc} {cells slots : Nat} {Q : State → Prop}
variable {cc : ByteArray} {pc : Nat} {ls : Array Slot} {rest st0 : List Value} {A : Nat → Prop} {H0 : Heap}
variable {D : va_G} {dA : Nat → ClassId} {E : Nat → Nat} {w w' : Mm} {T : Tx} {J : State → Heap → Prop} {N n : Nat} {G : Gs}
/-- a text stored among the texts -/
theorem xr_tast (hexec : p.tables.exec = Jvm.exec) (hb : c.code = cc) (hK : va_K D clX (tyX dA) s) (hP : va_P D clX (wl shX 136 dA E w) H) (hD : wD 136 E A) (hS : va_S A H0 H locs) (k : Nat) (hk : k < 136) {n : Nat} {z : List (Nat × Nat)} (hs : shX k = (6, n, z)) {t : Nat} (hr : ∃ cellV : Cell, H[t]? = some cellV ∧ cellV.vm.isStatics = false ∧ s.vm.findClass RX4 = some cellV.cls) {i : Int32} {j : Nat} (hin : vp_in i n) (hj : i.toNatClampNeg = j) (hw : w' = mR w k j (some t)) (hdg : decode cc pc = .ok (.aastore, 1))
    (kk : ∀ (H1 : Heap) (locs1 : List Loc), va_P D clX (wl shX 136 dA E w') H1 → va_S A H0 H1 locs1 → H1.size = H.size → (∀ q : Nat, q ≠ E k → H1[q]? = H[q]?) → W p l e R s m args below meth c H1 locs1 cells slots Q (F0 m (pc + 1) ls rest)) : W p l e R s m args below meth c H locs cells slots Q (F0 m pc ls (.ref t :: .int i :: .ref (E k) :: rest)) := by
  subst hj
  subst hw
  have hlt : i.toNatClampNeg < n := vin_lt hin
  obtain ⟨cellV, k9, k8, k7⟩ := hr
  have ha : (wl shX 136 dA E w)[k]? = some (E k, .inl (dA 6, n, .inr (.inr (.inr (.inr (w.2.2 k)))))) := wl_e hk hs
  have hat : H[E k]? = some (vp_cell (dA 6) (n, .inr (.inr (.inr (.inr (w.2.2 k)))))) := hP k _ ha
  obtain ⟨kA, comp, k1, k2, k3, -⟩ := (hK.2 3 _ rfl).2
  obtain ⟨-, hfc, kX, hkX, hkindX⟩ := hK.1 2 _ rfl
  obtain ⟨kE, hkE, -⟩ := Vm.findClass_spec k3
  obtain ⟨kC, hkC, -⟩ := Vm.findClass_spec k7
  have e1 : comp = cellV.cls := Option.some.inj (k3.symm.trans k7)
  have e2 : D.1 2 = cellV.cls := Option.some.inj (hfc.symm.trans k7)
  refine W.aast hexec hb hat (fun q h => by cases h) (fun h => by cases h) k1 k2 rfl hkE ⟨hin ∘ Or.inl, by show _ < (arrV _ _ _).slots.size; rw [arrV_size]; exact hlt⟩ k9 (fun q h => by rw [h] at k8; cases k8) hkC (by rw [e1, ← e2]; exact va_assign ⟨hfc, kX, hkX, hkindX⟩) rfl rfl hdg fun H1 e z oq => ?_
  have hx : va_at D clX (E k, .inl (dA 6, n, .inr (.inr (.inr (.inr (va_up (w.2.2 k) i.toNatClampNeg (some t))))))) H1 := by
    show H1[E k]? = some (vp_cell _ _)
    rw [e]
    rw [vp_cell_q, vp_cell_q, arrV_store]
    congr 2
    funext q
    by_cases hq : q = i.toNatClampNeg
    · subst hq
      simp [updV, va_up, va_rf]
    · simp [updV, va_up, hq]
  have e9 : bke dA E (mR w k i.toNatClampNeg (some t)) k (shX k) = .inl (dA 6, n, .inr (.inr (.inr (.inr (va_up (w.2.2 k) i.toNatClampNeg (some t)))))) := by rw [hs]; simp only [bke, mR_self]
  exact kk H1 _ ((wl_mR (N := 136) e9) ▸ hP.set (wl_D hD w) ha hx oq) (hS.put z oq (hD.2 k hk)) z oq
section XTN
variable {ro : Nat → Bool} {h : Hv} {own ref C : String} {T9 : u_T} {NF ci index : Nat}
theorem xd_newO (hexec : p.tables.exec = Jvm.exec) (hb : c.code = cc) {N : Nat} (hts : ∀ w ∈ lw_all, w.before args s = true) (hin : ∀ w ∈ u_ws C T9 NF, w ∈ lw_all) (ty : Nat → FieldType) (hty : ∀ k, k < NF → parseFieldDescriptor (T9 k).2.2.1 = some (ty k)) (hown : s.vm.findClass own = some m.cls) (hcl : (Cond.classLink own index C).before args s = true) (hinst : (Cond.instantiable C N).before args s = true) (hini : (Cond.initialized C).before args s = true)
    (hK : va_K D clX (tyX dA) s) (hH : DS D dA ro h n A H) (hS : va_S A H0 H locs) (hA : ∀ q, H0.size ≤ q → A q) (hc : clX[ci]? = some (C, T9, NF)) {fs : List Value} (hfs : ∀ j, j < NF → defaultValue (ty j) = vp_V fs j) (hcells : cells + 1 ≤ R.cells) (hslots : slots + N ≤ R.slots) (hdg : decode cc pc = .ok (.new index, 3))
    (kk : ∀ (H1 : Heap), DS D dA ro (hnew h n (.inl (ci, fs))) (n + 1) A H1 → va_S A H0 H1 locs → (∀ q : Nat, q < H.size → H1[q]? = H[q]?) →
      W p l e R s m args below meth c H1 locs (cells + 1) (slots + N) Q (F0 m (pc + 3) ls (.ref n :: rest))) : W p l e R s m args below meth c H locs cells slots Q (F0 m pc ls rest) := by
  have hKn := hK.1 ci _ hc
  have hsz := hH.2.1
  refine W.newcK hexec hb hown hcl hinst hini rfl hdg hcells hslots hKn.2.1 rfl fun H1 kC hkC e1 z1 o1 => ?_
  have hAn : A n := hA n (by rw [← hsz]; exact hS.1)
  have hnew := kk H1 (hH.new hAn z1 o1 ⟨_, hc, (u_born ty hts hin hKn hkC e1 hty).to hfs⟩) ⟨Nat.le_trans hS.1 (by omega), fun x h1 h2 => (o1 x (Nat.lt_of_lt_of_le h1 hS.1)).trans (hS.2.1 x h1 h2), hS.2.2⟩ o1
  rw [hsz]
  exact hnew
end XTN
/-- what is written in new cells need not be named -/
theorem fg_same {s' : State} (h : s.sameButNew s' locs cells slots) : s.sameButNew s' (locs.filter (fun y => decide (y.base < s.heap.size))) cells slots := by
  obtain ⟨h1, h2, h3, h4, h5, h6⟩ := h
  refine ⟨h1, h2, h3, h4, h5, fun a c9 h9 => ?_⟩
  obtain ⟨c', g1, g2, g3, g4⟩ := h6 a c9 h9
  refine ⟨c', g1, g2, g3, fun i hi => g4 i (fun z => hi (List.mem_filter.mpr ⟨z, decide_eq_true (Array.getElem?_eq_some_iff.mp h9).1⟩))⟩
theorem W_fg {g : JFrame} (k : W p l e R s m args below meth c H (locs.filter (fun y => decide (y.base < s.heap.size))) cells slots Q g) : W p l e R s m args below meth c H locs cells slots Q g := fun T hT X => k T hT { X with same := fg_same X.same }
theorem vy_fg {g : JFrame} {q : Addr} (k : vy_W p l e R s m args below meth c H (locs.filter (fun y => decide (y.base < s.heap.size))) cells slots Q g q) : vy_W p l e R s m args below meth c H locs cells slots Q g q := fun T hT X => k T hT { X with same := fg_same X.same }
/-- the region of a method that makes cells: QuarrelsPawned's blocks, and what is new -/
def AN (E : Nat → Nat) (n : Nat) : Nat → Prop := fun q => AE 136 E q ∨ n ≤ q
set_option maxHeartbeats 1000000 in
theorem xt_read (hl9 : l.stackTraces = false) (S : CallFix p m c cX0_text 5 s args lw_all RX0) (hK : va_K D clX (tyX dA) s) (hN : ∀ k, k < 136 → N ≤ E k) (hF : FD (roN N) G s H) (hI : IG D dA N G H) (hP : va_P D clX (wl shX 136 dA E w) H) (hS : va_S (AN E n) s.heap H locs) (hn0 : s.heap.size = n) (hNn : N ≤ n) (hEn : ∀ k, k < 136 → E k < n) {sz : Int32} (hl : lv_has ls 5 [(0, .ref (E 0)), (1, .int sz)]) {q : (Nat ⊕ Nat) × Hv × Nat × Nat} (hq : X_read G (E 25) n (w.1 25) sz = some q)
    (hRc : q.2.2.1 ≤ R.cells ∧ q.2.2.2 ≤ R.slots) (hRf : 300 ≤ R.frames ∧ 20000 ≤ R.locals) (hW : (rest.map fun v => v.category).sum ≤ 4)
    (kx : ∀ (x : Nat) (ce : Cell) (H1 : Heap) (locs1 : List Loc), q.1 = .inl x → H.size ≤ H1.size → va_P D clX (wl shX 136 dA E w) H1 → (∀ a : Nat, a < n → H1[a]? = H[a]?) → HF D dA q.2.1 H1 → (∀ y ∈ locs1, AE 136 E y.base) → H1[x]? = some ce → ce.vm = .none → s.vm.findClass RX5 = some ce.cls → vy_W p l e R s m args below meth c H1 locs1 q.2.2.1 q.2.2.2 Q (F0 m 58 ls rest) x)
    (kk : ∀ (t : Nat) (H1 : Heap) (locs1 : List Loc), q.1 = .inr t → H.size ≤ H1.size → va_P D clX (wl shX 136 dA E w) H1 → (∀ a : Nat, a < n → H1[a]? = H[a]?) → HF D dA q.2.1 H1 → (∀ y ∈ locs1, AE 136 E y.base) → W p l e R s m args below meth c H1 locs1 q.2.2.1 q.2.2.2 Q (F0 m 61 ls (.ref t :: rest))) :
    W p l e R s m args below meth c H locs 0 0 Q (F0 m 46 ls rest) := by
  have S0 := S
  obtain ⟨hx, hb, hml, hown, hts⟩ := S
  refine W_size (fun hz9 => ?_)
  have hsz : H.size = n := by have := hS.1; omega
  unfold X_read at hq
  obtain ⟨q1, g1, hq⟩ := ob_bind hq
  obtain ⟨g2, hq⟩ := ob_gp hq
  obtain ⟨q2, g3, hq⟩ := ob_bind hq
  have hq := ob_s hq
  subst hq
  dsimp only at hRc kx kk ⊢
  have hro : ∀ a, roN n a = false → n ≤ a := fun a h => Nat.le_of_not_lt (fun z => by rw [show roN n a = true from decide_eq_true z] at h; cases h)
  have hHB : HF D dA (hB G (E 25) (w.1 25)) H := hB_HF hI hP
  have hD0 : DS D dA (roN n) (hB G (E 25) (w.1 25)) n (AN E n) H := ⟨hHB, hsz, fun a _ h2 => Or.inr (hro a h2), fun a ha => decide_eq_false (by omega), fun a h1 h2 => absurd (hB_lt hHB h1) (by have := hro a h2; omega)⟩
  have hFn : FD (roN n) G s H := hF.more (fun a h => decide_eq_true (Nat.lt_of_lt_of_le (of_decide_eq_true h) hNn))
  have hJ : JD (roN n) G (FD (roN n) G) := JD_FD _ _
  refine xd_newO hx hb (N := 8) hts in_X3 tyX3 tyX3_ok hown (hts _ q343) (hts _ q344) (hts _ q141) hK hD0 hS (fun a ha => Or.inr (hn0 ▸ ha)) (ci := 15) rfl (fs := [.null, .int 0, .int 0, .int 0, .int 0, .int 0, .int 0, .int 0]) df_X3 (by omega) (by omega) dX0_text_46 (fun H1 hD1 hS1 ho1 => ?_)
  have hz1 : H1.size = n + 1 := hD1.2.1
  have hP1 : va_P D clX (wl shX 136 dA E w) H1 := hP.kept (fun k q hq => ho1 q.1 (hP k q hq).lt)
  have hF1 : FD (roN n) G s H1 := hFn.kept (fun a ha _ => ho1 a ha)
  have hD1 : DS D dA (roN n) (hnew (hB G (E 25) (w.1 25)) n (.inl (15, [.null, .int 0, .int 0, .int 0, .int 0, .int 0, .int 0, .int 0]))) (n + 1) (fun a => n ≤ a) H1 := ⟨hD1.1, hD1.2.1, fun a _ h2 => hro a h2, hD1.2.2.2.1, hD1.2.2.2.2⟩
  refine lv_dup hx hb dX0_text_49 rfl ?_
  refine lv_aload_n hx hb dX0_text_50 rfl (lv_at hl 0 rfl) ?_
  refine xr_get hx hb hts in_X0 hown hK hP1 0 (by decide) rfl rfl 2 (by decide) (hts _ q254) (fun _ h => h) rfl (v := .ref (E 25)) rfl dX0_text_51 ?_
  refine lv_iload_n hx hb dX0_text_54 rfl (lv_at hl 1 rfl) ?_
  have hin1 : ∀ a, fD (roN n) (hnew (hB G (E 25) (w.1 25)) n (.inl (15, [.null, .int 0, .int 0, .int 0, .int 0, .int 0, .int 0, .int 0]))) (n + 1) a → n ≤ a := fun a ha => ha.elim (fun z => hro a z.2) (fun z => by omega)
  have hrun1 := va_runI (e := e) (below := below) (meth := meth) (g := F0 m 55 ls (.int sz :: .ref (E 25) :: .ref n :: .ref n :: rest)) (rest := .ref n :: rest) (As := [.ref (E 25), .int sz]) (locs := locs) (cells := 0 + 1) (slots := 0 + 8) (H := H1) (index := 121) S0 (wkX3_init l hl9 D dA (roN n) G (FD (roN n) G) hJ _ (n + 1) n (E 25) sz g1)
    ⟨callB_of (R := R) 2 hts (lw_meth q347) rfl rfl rfl (hts _ q141) (hts _ q345) cdX3_init.2 ⟨by show 1 + 1 ≤ R.frames; omega, by show 8 + (_ + 11) + 60 ≤ R.locals; omega⟩, rfl, hts _ q346⟩
    ⟨Pd_blind hJ, fun U hU hW9 => ⟨rfl, by rw [hU]; exact hD1.base, va_K.moved hW9.alike hK, by rw [hU]; exact hF1.warm hW9⟩⟩ rfl rfl hl.1 rfl (lv_room (by show (1 + (rest.map fun v => v.category).sum) ≤ 8; omega)) dX0_text_55 ⟨by omega, by omega⟩
  refine va_callv hrun1 hS1 (fun a _ h => Or.inr (hin1 a h)) (fun a h => Or.inr (hin1 a h)) (fun u t H2 locs2 ht _ _ hE2 hzz hk2 hS2 => ?_)
  rw [ht] at hE2
  have hR : rD (roN n) (fun a => n ≤ a) n := ⟨fun a (ha : n ≤ a) => decide_eq_false (by omega), fun a ha => ha⟩
  have hD2 := hE2.ds hD1 hR (by omega)
  have ho2 : ∀ a : Nat, a < n → H2[a]? = H1[a]? := fun a ha => hk2 a (by omega) (fun z => by have := hin1 a z; omega)
  have hP2 : va_P D clX (wl shX 136 dA E w) H2 := hP1.kept (fun k q hq => by
    obtain ⟨hk9, e9⟩ : k < 136 ∧ q.1 = E k := wl_addr hq
    exact ho2 q.1 (e9 ▸ hEn k hk9))
  have hF2 : FD (roN n) G s H2 := hF1.kept (fun a _ ha => ho2 a (of_decide_eq_true ha))
  have hin2 : ∀ a, fD (roN n) q1.2.1 (n + 1 + q1.2.2.1) a → n ≤ a := fun a ha => ha.elim (fun z => hro a z.2) (fun z => by omega)
  have hrun2 := vy_runV (e := e) (below := below) (meth := meth) (g := F0 m 58 ls (.ref n :: rest)) (rest := rest) (As := []) (locs := locs2) (cells := 0 + 1 + q1.2.2.1) (slots := 0 + 8 + q1.2.2.2) (H := H2) (index := 124) S0 (wkX3_read l hl9 D dA (roN n) G (FD (roN n) G) hJ q1.2.1 (n + 1 + q1.2.2.1) n g3)
    (cwV (R := R) 0 hts (lw_V q374 q375 q376 q141 q377) rfl rfl rfl cdX3_read ⟨by show 131 + 1 ≤ R.frames; omega, by show 8 + (_ + 11) + 4922 ≤ R.locals; omega⟩)
    ⟨Pd_blind hJ, xh_recv hK hD2.1 (of_decide_eq_true g2) (q := (RX3, TX3, 8)) rfl, fun U hU hW9 => ⟨rfl, by rw [hU]; exact hD2.base, va_K.moved hW9.alike hK, by rw [hU]; exact hF2.warm hW9⟩⟩ rfl rfl hl.1 rfl (lv_room (by omega)) dX0_text_58 ⟨by omega, by omega⟩
  have e1 : 0 + 1 + q1.2.2.1 + q2.2.2.1 = 1 + q1.2.2.1 + q2.2.2.1 := by omega
  have e2 : 0 + 8 + q1.2.2.2 + q2.2.2.2 = 8 + q1.2.2.2 + q2.2.2.2 := by omega
  have hsz2 : H.size ≤ H2.size := by have := hD2.2.1; omega
  refine vy_callq hrun2 hS2 (fun a _ h => Or.inr (hin2 a h)) (fun a h => Or.inr (hin2 a h)) (fun a _ h => Or.inr (hin2 a h)) (fun E9 ce q9 u t H3 locs3 ht _ _ hB hz3 hk3 hS3 hce hv hcl => ?_) (fun x u t H3 locs3 ht _ hp hE3 hz3 hk3 hS3 => ?_)
  · obtain ⟨b1, b2, hE3⟩ := hB
    rw [ht] at hE3
    subst b2
    have ho3 : ∀ a : Nat, a < n → H3[a]? = H2[a]? := fun a ha => hk3 a (by have := hD2.2.1; omega) (fun z => by have := hin2 a z; omega)
    have hP3 : va_P D clX (wl shX 136 dA E w) H3 := hP2.kept (fun k q hq => by
      obtain ⟨hk9, e9⟩ : k < 136 ∧ q.1 = E k := wl_addr hq
      exact ho3 q.1 (e9 ▸ hEn k hk9))
    have hfl : ∀ y ∈ locs3.filter (fun y => decide (y.base < s.heap.size)), AE 136 E y.base := fun y hy => by
      obtain ⟨y1, y2⟩ := List.mem_filter.mp hy
      rcases hS3.2.2 y y1 with z | z
      · exact z
      · have := of_decide_eq_true y2; omega
    refine vy_fg ?_
    have k9 := kx q9 ce H3 (locs3.filter (fun y => decide (y.base < s.heap.size))) b1 (by omega) hP3 (fun a ha => by rw [ho3 a ha, ho2 a ha, ho1 a (by omega)]) hE3.1 hfl hce hv hcl
    rw [e1, e2]
    exact k9
  · obtain ⟨v, b1, b2⟩ := hp
    subst b2
    rw [ht] at hE3
    have ho3 : ∀ a : Nat, a < n → H3[a]? = H2[a]? := fun a ha => hk3 a (by have := hD2.2.1; omega) (fun z => by have := hin2 a z; omega)
    have hP3 : va_P D clX (wl shX 136 dA E w) H3 := hP2.kept (fun k q hq => by
      obtain ⟨hk9, e9⟩ : k < 136 ∧ q.1 = E k := wl_addr hq
      exact ho3 q.1 (e9 ▸ hEn k hk9))
    have hfl : ∀ y ∈ locs3.filter (fun y => decide (y.base < s.heap.size)), AE 136 E y.base := fun y hy => by
      obtain ⟨y1, y2⟩ := List.mem_filter.mp hy
      rcases hS3.2.2 y y1 with z | z
      · exact z
      · have := of_decide_eq_true y2; omega
    refine W_fg ?_
    have k9 := kk v H3 (locs3.filter (fun y => decide (y.base < s.heap.size))) b1 (by omega) hP3 (fun a ha => by rw [ho3 a ha, ho2 a ha, ho1 a (by omega)]) hE3.1 hfl
    rw [e1, e2]
    exact k9
/-- what text() answers, with what it made -/
def QwT (D : va_G) (dA : Nat → ClassId) (E : Nat → Nat) (n : Nat) (r : (Int32 × Mm × Tx) × Nat × Nat) : Array Value → State → Outcome → State → Prop := va_Qi (fun x (_ : Unit) => x = r.1.1) (fun _ t => va_P D clX (wl shX 136 dA E r.1.2.1) t.heap ∧ HF D dA (tH r.1.2.2) t.heap ∧ (∀ a, (tH r.1.2.2).1 a = true → ¬ AE 136 E a)) (AN E n)
/-- the texts' view with what is new -/
def tjn (T : Tx) (v : Hv) (n : Nat) : Tx := ((fun q => (tH T).1 q || (decide (n ≤ q) && v.1 q), fun q => if n ≤ q then v.2 q else (tH T).2 q), T.2)
def hOne (v : Hv) (x : Nat) : Hv := (fun q => decide (q = x) && v.1 q, v.2)
theorem xe_txt {res : (Int32 × Mm × Tx) × Nat × Nat} {v : Int32} {T9 : Tx} (hexec : p.tables.exec = Jvm.exec) (hb : c.code = cc) (hr : meth.sig.returnType = some .int) (hlocks : meth.locks = false) (hP : va_P D clX (wl shX 136 dA E w) H) (hV : HF D dA (tH T9) H) (hA : ∀ a, (tH T9).1 a = true → ¬ AE 136 E a) (hS : va_S (AN E n) s.heap H locs) (hres : ((v, w, T9), cells, slots) = res) (hdg : decode cc pc = .ok (.ireturn, 1)) : W p l e R s m args below meth c H locs cells slots (MQ below (QwT D dA E n res) args s res.2.1 res.2.2 (AN E n)) (F0 m pc ls [.int v]) := by
  subst hres
  exact W.iret hexec hb hr (fun t ht _ => ⟨⟨v, (), rfl, rfl, (show va_P D clX (wl shX 136 dA E w) t.heap by rw [ht]; exact hP), (show HF D dA (tH T9) t.heap by rw [ht]; exact hV), hA⟩, hS.F ht⟩) hS.2.2 hdg hlocks
end XT
theorem Met_ofWH {l : Launch} {y : MethodName} {ws ws' : List Cond} {rm : Room} {Pc : Array Value → State → Prop} {Qc : Array Value → State → Outcome → State → Prop} {mc ms : Nat} {free : Addr → Prop} {cc : ByteArray} {maxL : Nat} {ret : Option FieldType} {hh : List (Nat × Nat × Nat × Nat)}
    (hy : plainName y.cls = true) (hw : ws = Cond.codeWith y cc maxL ret hh :: ws')
    (body : ∀ p e s m args below meth c s₁, BodyLoose p l y (headSpec ws rm) cc maxL ret e s m args below meth c s₁ → c.maxLocals = maxL → c.exceptionTable.toList.map (fun h => (h.startPc, h.endPc, h.handlerPc, h.catchType)) = hh → Pc args s →
      W p l e (headSpec ws rm).room s m args below meth c s.heap [] 0 0 (MQ below Qc args s mc ms free) (entryFrame m args maxL)) : Met l y ws rm Pc Qc mc ms free := by
  refine MetFree.of_bodyS (code := cc) (maxLocals := maxL) (ret := ret) hy ?_ ?_
  · intro args s m h hn
    obtain ⟨m9, meth, c, hn9, h1, h2, h3, h4, -, h5, h6, -⟩ := Cond.codeWith_spec (atoms_spec (ws := ws) h _ (by rw [hw]; exact List.mem_cons_self))
    cases hn.symm.trans hn9
    exact ⟨meth, c, h1, h2, h3, h4, h5, h6⟩
  · intro p e s m args below meth c s₁ B hml hP _
    have hh0 : s₁.heap = s.heap := by rw [B.state]; rfl
    have htb : c.exceptionTable.toList.map (fun h => (h.startPc, h.endPc, h.handlerPc, h.catchType)) = hh := by
      obtain ⟨m9, meth9, c9, hn9, h1, h2, h3, h4, h5, -⟩ := Cond.codeWith_spec (atoms_spec (ws := ws) B.pre _ (by rw [hw]; exact List.mem_cons_self))
      cases B.named.symm.trans hn9
      cases Option.some.inj (h1.symm.trans B.method)
      cases Option.some.inj (h2.symm.trans (Stand.of_body B).code)
      exact h5
    obtain ⟨t, a1, o, b1, b2, b3⟩ := body p e s m args below meth c s₁ B hml htb hP s₁ hh0 (Stand.of_body B)
    exact ⟨t, o, a1, b1, b2, ⟨b3.1, b3.2⟩⟩
