/-! DYNAMIC: arrays of objects copied; casts of arrays; an object's class -/
def cpA (h : Hv) (f : Nat → Option Nat) (sp k : Nat) : Bool := (List.range k).all (fun i => match f (sp + i) with
  | none => true
  | some y => isO h y)
theorem cpA_spec {h : Hv} {f : Nat → Option Nat} {sp k : Nat} (e : cpA h f sp k = true) {i y : Nat} (hi : i < k) (hy : f (sp + i) = some y) : isO h y = true := by
  have h1 := List.all_eq_true.mp e i (List.mem_range.mpr hi)
  rw [hy] at h1
  exact h1
section XD3
variable {p : Program} {l : Launch} {e : Env} {R : Room} {s : State} {m : MethodId} {args : Array Value} {below : List Frame} {meth : Method} {c : Code} {H : Heap} {locs : List Loc} {cells slots : Nat} {Q : State → Prop}
variable {cc : ByteArray} {pc : Nat} {ls : Array Slot} {rest st0 : List Value} {A : Nat → Prop} {H0 : Heap}
variable {D : va_G} {dA : Nat → ClassId} {h : Hv} {own : String} {index n9 : Nat} {ro : Nat → Bool}
theorem xh_recvO (hK : va_K D clX (tyX dA) s) (hH : HF D dA h H) {a : Nat} {x : Nat × (Nat → Option Nat)} (hx : hAq h a 8 = some x) : ∃ cell : Cell, H[a]? = some cell ∧ cell.vm.isStatics = false ∧ s.vm.findClass "[Ljava/lang/Object;" = some cell.cls := by
  obtain ⟨h1, h2⟩ := hAq_spec hx
  have hat := hH a h1
  rw [h2] at hat
  obtain ⟨cell, q1, q3, q5, q2, q6⟩ := hat
  obtain ⟨kA', comp', k1, k2, k3, k4⟩ := (hK.2 5 _ rfl).2
  exact ⟨_, q1, q5, by rw [q2]; exact k4⟩
theorem xd_copyq (hexec : p.tables.exec = Jvm.exec) (hb : c.code = cc) (hml : c.maxLocals = ls.size) (hown : s.vm.findClass own = some m.cls) (hlink : (Cond.methodLink own index arraycopyName).before args s = true) (hnat : (Cond.native arraycopyName).before args s = true) (hstat : (Cond.static arraycopyName).before args s = true) (hini : (Cond.initialized "java/lang/System").before args s = true)
    (hK : va_K D clX (tyX dA) s) (hH : DS D dA ro h n9 A H) (hS : va_S A H0 H locs) (hw : ∀ w ∈ cdX, va_Nw w s) {a0 a : Nat} {x0 x1 : Nat × (Nat → Option Nat)} (hx0 : hAq h a0 8 = some x0) (hx1 : hAq h a 8 = some x1) (hro0 : (!ro a0) = true) (hro : (!ro a) = true)
    {sp dp n : Int32} (hok : cpOk sp dp n x0.1 x1.1 = true) (hel : cpA h x0.2 sp.toNatClampNeg n.toNatClampNeg = true) {h' : Hv} (hh : h' = hset h a (.inr (8, (x1.1, .inr (.inr (.inr (.inr (va_cpy x0.2 x1.2 sp.toNatClampNeg dp.toNatClampNeg n.toNatClampNeg))))))))
    (hframes : 1 ≤ R.frames) (hlocals : (rest.map fun v => v.category).sum + (nativeFrameWords "java/lang/System" "arraycopy" 5 + 11) ≤ R.locals) (hdg : decode cc pc = .ok (.invokestatic index, 3))
    (kk : ∀ (H1 : Heap) (locs1 : List Loc), DS D dA ro h' n9 A H1 → va_S A H0 H1 locs1 → W p l e R s m args below meth c H1 locs1 cells slots Q (F0 m (pc + 3) ls rest)) : W p l e R s m args below meth c H locs cells slots Q (F0 m pc ls (.int n :: .int dp :: .ref a :: .int sp :: .ref a0 :: rest)) := by
  subst hh
  have hro : ro a = false := by
    cases hq : ro a with
    | false => rfl
    | true => rw [hq] at hro; cases hro
  have hro0 : ro a0 = false := by
    cases hq : ro a0 with
    | false => rfl
    | true => rw [hq] at hro0; cases hro0
  obtain ⟨h1, h2, h3, h4, h5⟩ := cpOk_spec hok
  obtain ⟨n0, f⟩ := x0
  obtain ⟨n1, g⟩ := x1
  dsimp only at h4 h5 hel kk
  have nn : ∀ z : Int32, ¬ z < 0 → z.toInt = (z.toNatClampNeg : Int) := by
    intro z hz
    have hz0 : (0 : Int) ≤ z.toInt := by
      have := Int32.not_lt.mp hz
      simpa using Int32.le_iff_toInt_le.mp this
    show z.toInt = ((z.toInt.toNat : Nat) : Int)
    omega
  intro T hT X
  obtain ⟨v0, e0⟩ := hAq_spec hx0
  obtain ⟨v1, e1⟩ := hAq_spec hx1
  have hc0 := hH.2.2.2.2 a0 v0 hro0
  rw [e0] at hc0
  have hc0 : H[a0]? = some (vp_cell (dA 8) (n0, .inr (.inr (.inr (.inr f))))) := hc0
  have hc1 := hH.2.2.2.2 a v1 hro
  rw [e1] at hc1
  have hc1 : H[a]? = some (vp_cell (dA 8) (n1, .inr (.inr (.inr (.inr g))))) := hc1
  obtain ⟨-, k0, hk0, cm0, hkk0⟩ := (hK.2 5 _ rfl).1 n0 (fun j => va_rf (f j))
  obtain ⟨-, k1, hk1, cm1, hkk1⟩ := (hK.2 5 _ rfl).1 n1 (fun j => va_rf (g j))
  obtain ⟨vm', X', step⟩ := X.arraycopy hexec hown hlink hnat hstat hini (src := a0) (dst := a) (cs := vp_cell (dA 8) (n0, .inr (.inr (.inr (.inr f))))) (cd := vp_cell (dA 8) (n1, .inr (.inr (.inr (.inr g))))) (srcPos := sp) (destPos := dp) (n := n) (by rw [hT]; exact hc0) (by rw [hT]; exact hc1)
    (fun _ h => by cases h) (fun _ h => by cases h) (fun h => by cases h) (fun h => by cases h) hk0 hk1 hkk0 hkk1 rfl h1 h2 h3
    (by rw [nn sp h1, nn n h3]; show ¬ _ > ((arrV (dA 8) n0 (fun j => va_rf (f j))).slots.size : Int); rw [arrV_size]; omega)
    (by rw [nn dp h2, nn n h3]; show ¬ _ > ((arrV (dA 8) n1 (fun j => va_rf (g j))).slots.size : Int); rw [arrV_size]; omega)
    (fun vm₁ hal i hi => by
      have e : (vp_cell (dA 8) (n0, .inr (.inr (.inr (.inr f))))).slots.getD (sp.toNatClampNeg + i) .null = va_rf (f (sp.toNatClampNeg + i)) := by
        show (arrV (dA 8) n0 (fun j => va_rf (f j))).slots.getD _ _ = _
        rw [Array.getD_eq_getD_getElem?, arrV_read _ _ (by omega)]
        rfl
      rw [e]
      cases hy : f (sp.toNatClampNeg + i) with
      | none => exact ⟨rfl, trivial⟩
      | some y =>
        obtain ⟨C, ⟨cellV, g1, g2, g3⟩, hca⟩ := xd_isO hK hH.1 hw (cpA_spec hel hi hy)
        obtain ⟨kA, comp, r1, r2, r3, -⟩ := (hK.2 5 _ rfl).2
        cases hk1.symm.trans r1
        cases hkk1.symm.trans r2
        obtain ⟨kC, hkC, -⟩ := Vm.findClass_spec g3
        obtain ⟨kE, hkE, -⟩ := Vm.findClass_spec r3
        obtain ⟨kC', hkC', -⟩ := hal.2.2 _ _ hkC
        obtain ⟨kE', hkE', -⟩ := hal.2.2 _ _ hkE
        refine ⟨rfl, cellV, (show T.heap[y]? = some cellV by rw [hT]; exact g1), (fun q h => by rw [h] at g2; cases g2), ⟨kC', hkC'⟩, ?_, ?_⟩
        · exact ⟨kE', hkE'⟩
        · show vm₁.assignable _ _ = true
          rw [hal.assignable]
          exact vb_asgC hca _ _ r3 g3)
    (g := F0 m pc ls (.int n :: .int dp :: .ref a :: .int sp :: .ref a0 :: rest)) rfl (by rw [hml]) (rest := rest) rfl (by rw [hb]; exact hdg) hframes (by show 2 * 0 + _ + _ ≤ _; omega)
  have e1 : copied (vp_cell (dA 8) (n0, .inr (.inr (.inr (.inr f))))) (vp_cell (dA 8) (n1, .inr (.inr (.inr (.inr g))))) sp dp n = vp_cell (dA 8) (n1, .inr (.inr (.inr (.inr (va_cpy f g sp.toNatClampNeg dp.toNatClampNeg n.toNatClampNeg))))) := by
    rw [vp_cell_q, vp_cell_q, vp_cell_q]
    exact va_copied (fun z => va_rf z) (dA 8) (dA 8) f g h4
  rw [e1] at X' step
  have hl : a < H.size := (Array.getElem?_eq_some_iff.mp hc1).1
  have hheap : ((T.setVm vm').setCell a (vp_cell (dA 8) (n1, .inr (.inr (.inr (.inr (va_cpy f g sp.toNatClampNeg dp.toNatClampNeg n.toNatClampNeg))))))).heap = H.setIfInBounds a (vp_cell (dA 8) (n1, .inr (.inr (.inr (.inr (va_cpy f g sp.toNatClampNeg dp.toNatClampNeg n.toNatClampNeg)))))) := by rw [← hT]; rfl
  have oq : ∀ q : Nat, q ≠ a → (H.setIfInBounds a (vp_cell (dA 8) (n1, .inr (.inr (.inr (.inr (va_cpy f g sp.toNatClampNeg dp.toNatClampNeg n.toNatClampNeg)))))))[q]? = H[q]? := fun q hq => by simp [Array.getElem?_setIfInBounds, Ne.symm hq]
  have hAa : A a := hH.2.2.1 a v1 hro
  obtain ⟨t, a1, b1⟩ := kk _ _ (hH.put (H1 := H.setIfInBounds a (vp_cell (dA 8) (n1, .inr (.inr (.inr (.inr (va_cpy f g sp.toNatClampNeg dp.toNatClampNeg n.toNatClampNeg))))))) (by simp) oq (show (H.setIfInBounds a _)[a]? = some _ by simp [Array.getElem?_setIfInBounds, hl])) ⟨by simp; exact hS.1, fun q g1 g2 => by
      rw [oq q (fun e => g2 (by rw [e]; exact hAa))]
      exact hS.2.1 q g1 g2, fun q hq => by
      rcases List.mem_append.mp hq with h | h
      · exact hS.2.2 q h
      · obtain ⟨z, -, hz⟩ := List.mem_map.mp h
        rw [← hz]
        exact hAa⟩ _ hheap X'
  exact ⟨t, step t a1, b1⟩
end XD3
