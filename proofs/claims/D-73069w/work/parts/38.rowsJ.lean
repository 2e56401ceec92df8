/-- all that a row of texts holds from a place on are texts -/
def tAll (T : Tx) (f : Nat → Option Nat) (sp n : Nat) : Bool := (List.range n).all (fun i => match f (sp + i) with | none => true | some y => decide (hC (tH T) y = some 2))
theorem tAll_spec {T : Tx} {f : Nat → Option Nat} {sp n : Nat} (h : tAll T f sp n = true) {i y : Nat} (hi : i < n) (hy : f (sp + i) = some y) : hC (tH T) y = some 2 := by
  have h1 := List.all_eq_true.mp h i (List.mem_range.mpr hi)
  rw [hy] at h1
  exact of_decide_eq_true h1
/-- the view with the names' block -/
def hN (T : Tx) (f : Nat → Int32) : Hv := (fun q => decide (q = tV T) || (tH T).1 q, fun q => if q = tV T then .inr (1, (16, .inl f)) else (tH T).2 q)
section XJ2
variable {p : Program} {l : Launch} {e : Env} {R : Room} {s : State} {m : MethodId} {args : Array Value} {below : List Frame} {meth : Method} {c : Code} {H : Heap} {locs : List Loc} {cells slots : Nat} {Q : State → Prop}
variable {cc : ByteArray} {pc : Nat} {ls : Array Slot} {rest st0 : List Value} {A : Nat → Prop} {H0 : Heap}
variable {D : va_G} {dA : Nat → ClassId} {E : Nat → Nat} {w w' : Mm} {T : Tx} {J : State → Heap → Prop}
theorem hN_HF (hJ : JP D dA E T J) (hJH : J s H) (hP : va_P D clX (wl shX 136 dA E w) H) : HF D dA (hN T (w.1 26)) H := by
  intro q hq
  have hf := hJ.2.2.2 s H hJH
  by_cases e : q = tV T
  · have h26 := hP 26 _ (wl_e (by decide) (b := (1, 16, [])) rfl)
    have e2 : E 26 = q := hf.2.2.2.2.2.1.trans e.symm
    rw [e2] at h26
    show hw_at D dA q (if q = tV T then .inr (1, (16, .inl (w.1 26))) else (tH T).2 q) H
    rw [if_pos e]
    exact hw_of (x := .inr (1, (16, .inl (w.1 26)))) h26
  · show hw_at D dA q (if q = tV T then .inr (1, (16, .inl (w.1 26))) else (tH T).2 q) H
    rw [if_neg e]
    have hq' : (decide (q = tV T) || (tH T).1 q) = true := hq
    rw [decide_eq_false e, Bool.false_or] at hq'
    exact hf.2.2.2.1 q hq'
/-- a law is asked: its sum over the names -/
theorem xr_eval (hJ : JP D dA E T J) (hJs : J s s.heap) (hS : va_S (AE 136 E) s.heap H locs) {nL index : Nat} {own : String} (S : CallFix p m c cc nL s args lw_all own) (hK : va_K D clX (tyX dA) s) (hP : va_P D clX (wl shX 136 dA E w) H) {q : Nat} {y : Int64} (hq : (O_ev 100 (hN T (w.1 26))).1 q (tV T) = some y) (hlink : Cond.methodLink own index ⟨"QuarrelsPawned$Sum", "of", "([I)J"⟩ ∈ lw_all) (hsz : ls.size = nL) (hW : (rest.map fun v => v.category).sum ≤ 8) (hR : 200 ≤ R.frames ∧ 8000 ≤ R.locals) (hdg : decode cc pc = .ok (.invokeinterface index 2, 5))
    (kk : ∀ (H1 : Heap) (locs1 : List Loc), va_P D clX (wl shX 136 dA E w) H1 → va_S (AE 136 E) s.heap H1 locs1 → W p l e R s m args below meth c H1 locs1 0 0 Q (F0 m (pc + 5) ls (.long y :: rest))) : W p l e R s m args below meth c H locs 0 0 Q (F0 m pc ls (.ref (E 26) :: .ref q :: rest)) := by
  have hJH := hJ.at hJs hS
  have hH := hN_HF hJ hJH hP
  have e26 : E 26 = tV T := (hJ.2.2.2 s H hJH).2.2.2.2.2.1
  rw [e26]
  exact xh_ifS hJ.jr hJs hJH S hK hH ((ev_disp l D dA J hJ.jr (hN T (w.1 26)) 100).1 q (tV T) y hq) hlink hsz hW ⟨by omega, by omega⟩ ⟨Nat.zero_le _, Nat.zero_le _⟩ hdg hS (fun H1 locs1 _ hk hS1 => kk H1 locs1 (P_kept hP (fun q hq _ => hk q hq)) hS1)
/-- a reference of an object of the view, by a nest mate -/
theorem xjr_getN (hexec : p.tables.exec = Jvm.exec) (hb : c.code = cc) {own ref C host : String} {T9 : u_T} {NF ci index : Nat} (hts : ∀ w ∈ lw_all, w.before args s = true) (hin : ∀ w ∈ u_ws C T9 NF, w ∈ lw_all) (hown : s.vm.findClass own = some m.cls) (hK : va_K D clX (tyX dA) s) (hJ : JP D dA E T J) (hJH : J s H) {a : Nat} (hc : clX[ci]? = some (C, T9, NF)) (j : Nat) (hj : j < NF) (hlink : va_Nw (.fieldLinkNest own index ref (T9 j).2.1 (T9 j).2.2.1 host) s) (hsame : ∀ x, s.fieldFound? (T9 j).1 (T9 j).2.1 (T9 j).2.2.1 = some x → s.fieldFound? ref (T9 j).2.1 (T9 j).2.2.1 = some x) {v : Nat} (hv : hR (tH T) a ci j = some v) (hdg : decode cc pc = .ok (.getfield index, 3))
    (kk : W p l e R s m args below meth c H locs cells slots Q (F0 m (pc + 3) ls (.ref v :: rest))) : W p l e R s m args below meth c H locs cells slots Q (F0 m pc ls (.ref a :: rest)) :=
  xh_getrN hexec hb hts hin hown hK (hJ.view hJH) hc j hj hlink hsame hv hdg kk
/-- System.arraycopy between two rows of texts -/
theorem xr_tcopy (hexec : p.tables.exec = Jvm.exec) (hb : c.code = cc) (hml : c.maxLocals = ls.size) {own : String} {index : Nat} (hown : s.vm.findClass own = some m.cls) (hlink : (Cond.methodLink own index arraycopyName).before args s = true) (hnat : (Cond.native arraycopyName).before args s = true) (hstat : (Cond.static arraycopyName).before args s = true) (hini : (Cond.initialized "java/lang/System").before args s = true)
    (hK : va_K D clX (tyX dA) s) (hP : va_P D clX (wl shX 136 dA E w) H) (hD : wD 136 E A) (hS : va_S A H0 H locs) (hJH : J s H) (hJ : JP D dA E T J) (k0 k1 : Nat) (hk0 : k0 < 136) (hk1 : k1 < 136) {n0 n1 : Nat} {z0 z1 : List (Nat × Nat)} (hs0 : shX k0 = (6, n0, z0)) (hs1 : shX k1 = (6, n1, z1)) {sp dp n : Int32} {w' : Mm} (hok : cpOk sp dp n n0 n1 = true) (hall : tAll T (w.2.2 k0) sp.toNatClampNeg n.toNatClampNeg = true) (hw : w' = mCR w k1 (va_cpy (w.2.2 k0) (w.2.2 k1) sp.toNatClampNeg dp.toNatClampNeg n.toNatClampNeg))
    (hframes : 1 ≤ R.frames) (hlocals : (rest.map fun v => v.category).sum + (nativeFrameWords "java/lang/System" "arraycopy" 5 + 11) ≤ R.locals) (hdg : decode cc pc = .ok (.invokestatic index, 3))
    (kk : ∀ (H1 : Heap) (locs1 : List Loc), va_P D clX (wl shX 136 dA E w') H1 → va_S A H0 H1 locs1 → W p l e R s m args below meth c H1 locs1 cells slots Q (F0 m (pc + 3) ls rest)) : W p l e R s m args below meth c H locs cells slots Q (F0 m pc ls (.int n :: .int dp :: .ref (E k1) :: .int sp :: .ref (E k0) :: rest)) := by
  subst hw
  obtain ⟨h1, h2, h3, h4, h5⟩ := cpOk_spec hok
  refine va_copyq (C := RX4) (E0 := "QuarrelsPawned$Text") (E1 := "QuarrelsPawned$Text") hexec hb hml hown hlink hnat hstat hini hK hP (wl_D hD w) hS k0 k1 3 3 (wl_e hk0 hs0) (wl_e hk1 hs1) rfl rfl h1 h2 h3 h4 h5 (fun i hi y hy => ?_) (fun comp c0 g1 g2 => ?_) hframes hlocals hdg (fun H1 locs1 g1 _ g3 => kk H1 locs1 ?_ g3)
  · exact xh_recv hK (hJ.view hJH) (tAll_spec hall hi hy) (q := (RX4, TX4, 3)) rfl
  · have hc := (hK.1 2 (RX4, TX4, 3) rfl).2
    have e : comp = c0 := by
      have g1' : s.vm.findClass RX4 = some comp := g1
      exact Option.some.inj (g1'.symm.trans g2)
    subst e
    exact va_assign (C := RX4) (cC := comp) (by obtain ⟨hc1, hc2⟩ := hc; exact (Option.some.inj (hc1.symm.trans g2)) ▸ ⟨hc1, hc2⟩)
  · have e : bke dA E (mCR w k1 (va_cpy (w.2.2 k0) (w.2.2 k1) sp.toNatClampNeg dp.toNatClampNeg n.toNatClampNeg)) k1 (shX k1) = .inl (dA 6, n1, .inr (.inr (.inr (.inr (va_cpy (w.2.2 k0) (w.2.2 k1) sp.toNatClampNeg dp.toNatClampNeg n.toNatClampNeg))))) := by rw [hs1]; simp only [bke, mCR_self]
    exact (wl_mCR (N := 136) e) ▸ g1
end XJ2
