section XC
variable {p : Program} {l : Launch} {e : Env} {R : Room} {s : State} {m : MethodId} {args : Array Value} {below : List Frame} {meth : Method} {c : Code} {H : Heap} {locs : List Loc} {cells slots : Nat} {Q : State → Prop}
variable {cc : ByteArray} {pc : Nat} {ls : Array Slot} {rest st0 : List Value} {A : Nat → Prop} {H0 : Heap}
variable {D : va_G} {cl : List vw_C} {tys : List (ClassId × FieldType)} {sh : Nat → Bk} {N : Nat} {dA : Nat → ClassId} {E : Nat → Nat} {w w' : Mm}
variable {y : MethodName} {bytes : ByteArray} {maxL nL n index : Nat} {ret : Option FieldType} {rm : Room} {own C : String} {As : List Value}
theorem xw_run {Qc : Array Value → State → Outcome → State → Prop} (S : CallFix p m c cc nL s args lw_all own) {k0 ci : Nat} {fl : List (Nat × Nat)} {q : vw_C} (hM : Met l y (ws_ y bytes maxL ret) rm (Pw D cl tys sh N dA E (Value.ref (E k0) :: As) w) Qc 0 0 (AE N E)) (cw : CallW R s args own C index y bytes maxL ret (ws_ y bytes maxL ret) rm 0 0 n) (hK : va_K D cl tys s) (hP : va_P D cl (wl sh N dA E w) H) (hk : k0 < N) (hs : sh k0 = (0, ci, fl)) (hc : cl[ci]? = some q) (hqC : q.1 = C)
    (hsz : ls.size = nL) (hn : As.length = n) (hst : st0 = As.reverse ++ .ref (E k0) :: rest) (hW : (rest.map fun v => v.category).sum ≤ 8) (hdg : decode cc pc = .ok (.invokevirtual index, 3)) (hf : cells ≤ R.cells ∧ slots ≤ R.slots) :
    va_Run p l e R s m args below meth c H locs cells slots 0 0 (F0 m pc ls st0) rest (Qc (Value.ref (E k0) :: As).toArray) (AE N E) := by
  subst hqC
  exact va_runV S hM cw ⟨Pw_blind, va_recv hK hP hc (wl_e hk hs), fun U hU hW9 => ⟨rfl, by rw [hU]; exact hP, va_K.moved hW9.alike hK⟩⟩ rfl hn hsz hst (lv_room hW) hdg hf
theorem xw_runS {Qc : Array Value → State → Outcome → State → Prop} (S : CallFix p m c cc nL s args lw_all own) (hM : Met l y (ws_ y bytes maxL ret) rm (Pw D cl tys sh N dA E As w) Qc 0 0 (AE N E)) (cw : CallB R s args own index y bytes maxL ret (ws_ y bytes maxL ret) rm 0 0 n ∧ (Cond.static y).before args s = true) (hK : va_K D cl tys s) (hP : va_P D cl (wl sh N dA E w) H)
    (hsz : ls.size = nL) (hn : As.length = n) (hst : st0 = As.reverse ++ rest) (hW : (rest.map fun v => v.category).sum ≤ 8) (hdg : decode cc pc = .ok (.invokestatic index, 3)) (hf : cells ≤ R.cells ∧ slots ≤ R.slots) :
    va_Run p l e R s m args below meth c H locs cells slots 0 0 (F0 m pc ls st0) rest (Qc As.toArray) (AE N E) :=
  va_runS S hM cw ⟨Pw_blind, fun U hU hW9 => ⟨rfl, by rw [hU]; exact hP, va_K.moved hW9.alike hK⟩⟩ rfl hn hsz hst (lv_room hW) hdg hf
theorem xc_i {r : Int32} {a : Array Value} (hr : va_Run p l e R s m args below meth c H locs cells slots 0 0 (F0 m pc ls st0) rest (Qwi D cl sh N dA E r w' a) (AE N E)) (hS : va_S A H0 H locs) (hA : ∀ k, k < N → A (E k))
    (kk : ∀ (H1 : Heap) (locs1 : List Loc), va_P D cl (wl sh N dA E w') H1 → va_S A H0 H1 locs1 → W p l e R s m args below meth c H1 locs1 cells slots Q (F0 m (pc + 3) ls (.int r :: rest))) : W p l e R s m args below meth c H locs cells slots Q (F0 m pc ls st0) := by
  have hA' : ∀ q, AE N E q → A q := fun q ⟨k, hk, e⟩ => e ▸ hA k hk
  refine va_calli hr hS (fun q _ h => hA' q h) hA' (fun x u t H1 locs1 ht _ hp hB _ _ hS1 => ?_)
  subst hp
  rw [ht] at hB
  exact kk H1 locs1 hB hS1
theorem xc_z {r : Int32} {a : Array Value} (hr : va_Run p l e R s m args below meth c H locs cells slots 0 0 (F0 m pc ls st0) rest (Qwz D cl sh N dA E r w' a) (AE N E)) (hS : va_S A H0 H locs) (hA : ∀ k, k < N → A (E k))
    (kk : ∀ (H1 : Heap) (locs1 : List Loc), r = 0 ∨ r = 1 → va_P D cl (wl sh N dA E w') H1 → va_S A H0 H1 locs1 → W p l e R s m args below meth c H1 locs1 cells slots Q (F0 m (pc + 3) ls (.int r :: rest))) : W p l e R s m args below meth c H locs cells slots Q (F0 m pc ls st0) := by
  have hA' : ∀ q, AE N E q → A q := fun q ⟨k, hk, e⟩ => e ▸ hA k hk
  refine va_calli hr hS (fun q _ h => hA' q h) hA' (fun x u t H1 locs1 ht _ hp hB _ _ hS1 => ?_)
  obtain ⟨hp, hz⟩ := hp
  subst hp
  rw [ht] at hB
  exact kk H1 locs1 hz hB hS1
theorem xc_l {r : Int64} {a : Array Value} (hr : va_Run p l e R s m args below meth c H locs cells slots 0 0 (F0 m pc ls st0) rest (Qwl D cl sh N dA E r w' a) (AE N E)) (hS : va_S A H0 H locs) (hA : ∀ k, k < N → A (E k))
    (kk : ∀ (H1 : Heap) (locs1 : List Loc), va_P D cl (wl sh N dA E w') H1 → va_S A H0 H1 locs1 → W p l e R s m args below meth c H1 locs1 cells slots Q (F0 m (pc + 3) ls (.long r :: rest))) : W p l e R s m args below meth c H locs cells slots Q (F0 m pc ls st0) := by
  have hA' : ∀ q, AE N E q → A q := fun q ⟨k, hk, e⟩ => e ▸ hA k hk
  refine va_calll hr hS (fun q _ h => hA' q h) hA' (fun x u t H1 locs1 ht _ hp hB _ _ hS1 => ?_)
  subst hp
  rw [ht] at hB
  exact kk H1 locs1 hB hS1
theorem xc_v {a : Array Value} (hr : va_Run p l e R s m args below meth c H locs cells slots 0 0 (F0 m pc ls st0) rest (Qwv D cl sh N dA E w' a) (AE N E)) (hS : va_S A H0 H locs) (hA : ∀ k, k < N → A (E k))
    (kk : ∀ (H1 : Heap) (locs1 : List Loc), va_P D cl (wl sh N dA E w') H1 → va_S A H0 H1 locs1 → W p l e R s m args below meth c H1 locs1 cells slots Q (F0 m (pc + 3) ls rest)) : W p l e R s m args below meth c H locs cells slots Q (F0 m pc ls st0) := by
  have hA' : ∀ q, AE N E q → A q := fun q ⟨k, hk, e⟩ => e ▸ hA k hk
  refine va_callv hr hS (fun q _ h => hA' q h) hA' (fun u t H1 locs1 ht _ hp hB _ _ hS1 => ?_)
  rw [ht] at hB
  exact kk H1 locs1 hB hS1
/-! the ends -/
theorem xe_i (hexec : p.tables.exec = Jvm.exec) (hb : c.code = cc) (hr : meth.sig.returnType = some .int) (hlocks : meth.locks = false) (hP : va_P D cl (wl sh N dA E w) H) (hS : va_S (AE N E) s.heap H locs) {v : Int32} (hdg : decode cc pc = .ok (.ireturn, 1)) : W p l e R s m args below meth c H locs cells slots (MQ below (Qwi D cl sh N dA E v w) args s cells slots (AE N E)) (F0 m pc ls [.int v]) :=
  W.iret hexec hb hr (fun t ht _ => ⟨⟨v, (), rfl, rfl, (by dsimp only; rw [ht]; exact hP)⟩, hS.F ht⟩) hS.2.2 hdg hlocks
theorem xe_z (hexec : p.tables.exec = Jvm.exec) (hb : c.code = cc) (hr : meth.sig.returnType = some .boolean) (hlocks : meth.locks = false) (hP : va_P D cl (wl sh N dA E w) H) (hS : va_S (AE N E) s.heap H locs) {v : Int32} (hz : v = 0 ∨ v = 1) (hdg : decode cc pc = .ok (.ireturn, 1)) : W p l e R s m args below meth c H locs cells slots (MQ below (Qwz D cl sh N dA E v w) args s cells slots (AE N E)) (F0 m pc ls [.int v]) :=
  W.zret hexec hb hr (by rcases hz with rfl | rfl <;> decide +kernel) (fun t ht _ => ⟨⟨v, (), rfl, ⟨rfl, hz⟩, (by dsimp only; rw [ht]; exact hP)⟩, hS.F ht⟩) hS.2.2 hdg hlocks
theorem xe_l (hexec : p.tables.exec = Jvm.exec) (hb : c.code = cc) (hr : meth.sig.returnType = some .long) (hlocks : meth.locks = false) (hP : va_P D cl (wl sh N dA E w) H) (hS : va_S (AE N E) s.heap H locs) {v : Int64} (hdg : decode cc pc = .ok (.lreturn, 1)) : W p l e R s m args below meth c H locs cells slots (MQ below (Qwl D cl sh N dA E v w) args s cells slots (AE N E)) (F0 m pc ls [.long v]) :=
  W.lret hexec hb hr (fun t ht _ => ⟨⟨v, (), rfl, rfl, (by dsimp only; rw [ht]; exact hP)⟩, hS.F ht⟩) hS.2.2 hdg hlocks
theorem xe_v (hexec : p.tables.exec = Jvm.exec) (hb : c.code = cc) (hr : meth.sig.returnType = none) (hlocks : meth.locks = false) (hP : va_P D cl (wl sh N dA E w) H) (hS : va_S (AE N E) s.heap H locs) (hdg : decode cc pc = .ok (.return_, 1)) : W p l e R s m args below meth c H locs cells slots (MQ below (Qwv D cl sh N dA E w) args s cells slots (AE N E)) (F0 m pc ls []) :=
  W.vret hexec hb hr (fun t ht _ => ⟨⟨(), rfl, trivial, (by dsimp only; rw [ht]; exact hP)⟩, hS.F ht⟩) hS.2.2 hdg hlocks
end XC
/-! a switch -/
theorem sw_ne {x : Int32} {k : Int} (h : ¬ x = Int32.ofInt k) (hk : (Int32.ofInt k).toInt = k) : x.toInt ≠ k := fun e => h (Int32.toInt_inj.mp (e.trans hk.symm))
/-! more rows -/
def irm (x y : Int32) : Int32 := x - x / y * y
def lrm (x y : Int64) : Int64 := x - x / y * y
section XM
variable {p : Program} {l : Launch} {e : Env} {R : Room} {s : State} {m : MethodId} {args : Array Value} {below : List Frame} {meth : Method} {c : Code} {H : Heap} {locs : List Loc} {cells slots : Nat} {Q : State → Prop}
variable {cc : ByteArray} {pc : Nat} {ls : Array Slot} {rest : List Value}
theorem xr_irem (hexec : p.tables.exec = Jvm.exec) (hb : c.code = cc) {x y : Int32} (hdg : decode cc pc = .ok (.irem, 1)) (hne : ¬ y = 0)
    (k : W p l e R s m args below meth c H locs cells slots Q (F0 m (pc + 1) ls (.int (irm x y) :: rest))) : W p l e R s m args below meth c H locs cells slots Q (F0 m pc ls (.int y :: .int x :: rest)) := lv_irem hexec hb hdg hne k
theorem xr_lrem (hexec : p.tables.exec = Jvm.exec) (hb : c.code = cc) {x y : Int64} (hdg : decode cc pc = .ok (.lrem, 1)) (hne : ¬ y = 0)
    (k : W p l e R s m args below meth c H locs cells slots Q (F0 m (pc + 1) ls (.long (lrm x y) :: rest))) : W p l e R s m args below meth c H locs cells slots Q (F0 m pc ls (.long y :: .long x :: rest)) := lv_lrem hexec hb hdg hne k
theorem xn_i {x y : Int32} (h : y = x) (k : W p l e R s m args below meth c H locs cells slots Q (F0 m pc ls (.int y :: rest))) : W p l e R s m args below meth c H locs cells slots Q (F0 m pc ls (.int x :: rest)) := h ▸ k
theorem xn_j {x y : Int64} (h : y = x) (k : W p l e R s m args below meth c H locs cells slots Q (F0 m pc ls (.long y :: rest))) : W p l e R s m args below meth c H locs cells slots Q (F0 m pc ls (.long x :: rest)) := h ▸ k
/-- a table's default: x is none of those that go elsewhere -/
theorem xr_tswD (hexec : p.tables.exec = Jvm.exec) (hb : c.code = cc) {dflt lo hi : Int} {offs : Array Int} {len : Nat} {x : Int32} {tgt : Nat} {vs : List Int32} (hdg : decode cc pc = .ok (.tableswitch dflt lo hi offs, len)) (hv : ∀ v ∈ vs, ¬ x = v)
    (hall : (List.range offs.size).all (fun j => decide (offs[j]? = some dflt) || vs.any (fun v => decide (v.toInt = lo + j))) = true ∧ hi - lo < offs.size) (ht : (pc : Int) + dflt = (tgt : Int))
    (k : W p l e R s m args below meth c H locs cells slots Q (F0 m tgt ls rest)) : W p l e R s m args below meth c H locs cells slots Q (F0 m pc ls (.int x :: rest)) := by
  by_cases h1 : x.toInt < lo
  · exact lv_tableOut hexec hb hdg (Or.inl h1) ht k
  · by_cases h2 : hi < x.toInt
    · exact lv_tableOut hexec hb hdg (Or.inr h2) ht k
    · have hlt : (x.toInt - lo).toNat < offs.size := by omega
      have h3 := List.all_eq_true.mp hall.1 _ (List.mem_range.mpr hlt)
      rcases Bool.or_eq_true_iff.mp h3 with h4 | h4
      · exact lv_tableIn hexec hb hdg h1 h2 (of_decide_eq_true h4) ht k
      · obtain ⟨v, hm, he⟩ := List.any_eq_true.mp h4
        have he := of_decide_eq_true he
        exact absurd (Int32.toInt_inj.mp (by omega)) (hv v hm)
theorem lsw_off {ps : List (Int × Int)} {d x : Int} (h : ∀ q ∈ ps, q.1 ≠ x) : Op.lookupswitch.offset ps d x = d := by
  induction ps with
  | nil => rfl
  | cons q r ih =>
    have h1 := h q List.mem_cons_self
    have h2 := ih (fun q' h' => h q' (List.mem_cons_of_mem _ h'))
    obtain ⟨a, o⟩ := q
    rw [Op.lookupswitch.offset_cons, if_neg h1]
    exact h2
theorem xr_lswD (hexec : p.tables.exec = Jvm.exec) (hb : c.code = cc) {dflt : Int} {ps : Array (Int × Int)} {len : Nat} {x : Int32} {tgt : Nat} {vs : List Int32} (hdg : decode cc pc = .ok (.lookupswitch dflt ps, len)) (hp : (ps.toList.zip (ps.toList.drop 1)).all (fun (a, next) => a.1 < next.1) = true) (hv : ∀ v ∈ vs, ¬ x = v)
    (hall : ps.toList.all (fun q => vs.any (fun v => decide (v.toInt = q.1))) = true) (ht : (pc : Int) + dflt = (tgt : Int))
    (k : W p l e R s m args below meth c H locs cells slots Q (F0 m tgt ls rest)) : W p l e R s m args below meth c H locs cells slots Q (F0 m pc ls (.int x :: rest)) := by
  refine lv_lookup hexec hb hdg hp (lsw_off fun q hq he => ?_) ht k
  obtain ⟨v, hm, h5⟩ := List.any_eq_true.mp (List.all_eq_true.mp hall q hq)
  have h5 := of_decide_eq_true h5
  exact absurd (Int32.toInt_inj.mp (by omega)) (hv v hm)
end XM
