/-! DYNAMIC: arrays of numbers made and written; arrays of arrays -/
def AO2 (U : State) : Prop := AOI U ∧ va_AO "QuarrelsPawned$Text" U
def hasti (ro : Nat → Bool) (h : Hv) (a i : Nat) (v : Int32) : Option Hv := if ro a = false then (hAi h a 1).bind (fun x => if i < x.1 then some (hset h a (.inr (1, (x.1, .inl (upd x.2 i v))))) else none) else none
theorem hasti_spec {ro : Nat → Bool} {h h' : Hv} {a i : Nat} {v : Int32} (e : hasti ro h a i v = some h') : ro a = false ∧ ∃ x, hAi h a 1 = some x ∧ i < x.1 ∧ h' = hset h a (.inr (1, (x.1, .inl (upd x.2 i v)))) := by
  unfold hasti at e
  split at e
  · next h1 =>
    obtain ⟨x, h2, h3⟩ := ob_bind e
    split at h3
    · next h4 => exact ⟨h1, x, h2, h4, (Option.some.inj h3).symm⟩
    · cases h3
  · cases e
/-- the view with an array of arrays -/
def hmul (h : Hv) (n N M : Nat) : Hv := (fun q => decide (n ≤ q ∧ q ≤ n + N) || h.1 q, fun q => if q = n then .inr (5, (N, .inr (.inr (.inr (.inr (fun j => some (n + 1 + j))))))) else if n < q ∧ q ≤ n + N then .inr (1, (M, .inl (fun _ => 0))) else h.2 q)
theorem DS.mul {D : va_G} {dA : Nat → ClassId} {ro : Nat → Bool} {h : Hv} {n N M : Nat} {A : Nat → Prop} {H H1 : Heap} (hH : DS D dA ro h n A H) (hA : ∀ q, n ≤ q → A q) (z : H1.size = H.size + 1 + N) (o0 : H1[H.size]? = some (arrV (dA 5) N (fun j => .ref (H.size + 1 + j)))) (oj : ∀ j, j < N → H1[H.size + 1 + j]? = some (arrV (dA 1) M (fun _ => .int 0))) (oq : ∀ a : Nat, a < H.size → H1[a]? = H[a]?) : DS D dA ro (hmul h n N M) (n + 1 + N) A H1 := by
  have hn := hH.2.1
  have hs : ∀ q, (hmul h n N M).1 q = true → n ≤ q → va_at D clX (q, abE dA ((hmul h n N M).2 q)) H1 := by
    intro q hq hnq
    by_cases e : q = n
    · subst e
      show va_at D clX (q, abE dA (if q = q then _ else _)) H1
      rw [if_pos rfl]
      show H1[q]? = some (arrV (dA 5) N (fun j => va_rf (some (q + 1 + j))))
      rw [← hn, o0]
      rfl
    · by_cases e2 : n < q ∧ q ≤ n + N
      · show va_at D clX (q, abE dA (if q = n then _ else if n < q ∧ q ≤ n + N then _ else _)) H1
        rw [if_neg e, if_pos e2]
        have h9 := oj (q - n - 1) (by omega)
        rw [show H.size + 1 + (q - n - 1) = q by omega] at h9
        exact h9
      · exfalso
        have hq' : (decide (n ≤ q ∧ q ≤ n + N) || h.1 q) = true := hq
        rw [decide_eq_false (by omega), Bool.false_or] at hq'
        have := (hH.1 q hq').lt
        omega
  have hold : ∀ q, (hmul h n N M).1 q = true → ¬ n ≤ q → h.1 q = true ∧ (hmul h n N M).2 q = h.2 q := by
    intro q hq hnq
    have hq' : (decide (n ≤ q ∧ q ≤ n + N) || h.1 q) = true := hq
    rw [decide_eq_false (by omega), Bool.false_or] at hq'
    refine ⟨hq', ?_⟩
    show (if q = n then _ else if n < q ∧ q ≤ n + N then _ else h.2 q) = h.2 q
    rw [if_neg (by omega), if_neg (by omega)]
  refine ⟨fun q hq => ?_, by omega, fun q hq hr => ?_, fun q hq => hH.2.2.2.1 q (by omega), fun q hq hr => ?_⟩
  · by_cases e : n ≤ q
    · exact hw_of (hs q hq e)
    · obtain ⟨e1, e2⟩ := hold q hq e
      rw [e2]
      exact (hH.1 q e1).kept (oq q (hH.1 q e1).lt)
  · by_cases e : n ≤ q
    · exact hA q e
    · exact hH.2.2.1 q (hold q hq e).1 hr
  · by_cases e : n ≤ q
    · exact hs q hq e
    · obtain ⟨e1, e2⟩ := hold q hq e
      rw [e2]
      exact (hH.2.2.2.2 q e1 hr).kept (oq q (hH.2.2.2.2 q e1 hr).lt)
section XC9
variable {p : Program} {l : Launch} {e : Env} {R : Room} {s : State} {m : MethodId} {args : Array Value} {below : List Frame} {meth : Method} {c : Code} {H : Heap} {locs : List Loc} {cells slots : Nat} {Q : State → Prop}
variable {cc : ByteArray} {pc : Nat} {ls : Array Slot} {rest : List Value} {A : Nat → Prop} {H0 : Heap}
variable {D : va_G} {dA : Nat → ClassId} {ro : Nat → Bool} {h : Hv} {n : Nat} {own : String} {index : Nat}
theorem xd_newi {atype : ArrayType} {ty : FieldType} (hexec : p.tables.exec = Jvm.exec) (hb : c.code = cc) (kd t0 : Nat) (ht : (tyX dA)[t0]? = some (dA kd, ty)) (hty : newarray.typeOf atype = ty) (hd : defaultValue ty = .int 0) (hra : va_RA s (dA kd) ty → s.vm.findClass ("[" ++ ty.toString) = some (dA kd)) (hcb : componentBytes ty ≤ 4) (harr : (Cond.arrayClass (newarray.typeOf atype)).before args s = true) (hK : va_K D clX (tyX dA) s) (hH : DS D dA ro h n A H) (hS : va_S A H0 H locs) (hA : ∀ q, H0.size ≤ q → A q)
    {k : Int32} {N : Nat} (hk0 : ¬ k < 0) (hN : k.toNatClampNeg = N) (hbytes : N * 4 ≤ 536870912) (hcells : cells + 1 ≤ R.cells) (hslots : slots + N ≤ R.slots) (hdg : decode cc pc = .ok (.newarray atype, 2))
    (kk : ∀ (H1 : Heap), DS D dA ro (hnew h n (.inr (kd, (N, .inl (fun _ => 0))))) (n + 1) A H1 → va_S A H0 H1 locs →
      W p l e R s m args below meth c H1 locs (cells + 1) (slots + N) Q (F0 m (pc + 2) ls (.ref n :: rest))) : W p l e R s m args below meth c H locs cells slots Q (F0 m pc ls (.int k :: rest)) := by
  subst hN
  subst hty
  have hsz := hH.2.1
  have hb9 : k.toNatClampNeg * componentBytes (newarray.typeOf atype) ≤ 536870912 := Nat.le_trans (Nat.mul_le_mul_left _ hcb) hbytes
  refine W.newa hexec hb harr rfl hdg rfl hk0 hb9 hcells hslots fun cA kA comp f1 f2 f3 => ?_
  have ecA : cA = dA kd := Option.some.inj (f1.symm.trans (hra (hK.2 t0 _ ht).2))
  subst ecA
  generalize hH1 : H.push ({ cls := dA kd, slots := Array.replicate k.toNatClampNeg (defaultValue (newarray.typeOf atype)), vm := .none } : Cell) = H1
  have z1 : H1.size = H.size + 1 := by rw [← hH1, Array.size_push]
  have e1 : H1[H.size]? = some (arrV (dA kd) k.toNatClampNeg (fun _ => .int 0)) := by rw [← hH1, Array.getElem?_push_size, arrV_new, hd]
  have o1 : ∀ q : Nat, q < H.size → H1[q]? = H[q]? := fun q hq => by rw [← hH1, Array.getElem?_push, if_neg (Nat.ne_of_lt hq)]
  have hAn : A n := hA n (by rw [← hsz]; exact hS.1)
  have hx : va_at D clX (H.size, abE dA (.inr (kd, (k.toNatClampNeg, .inl (fun _ => 0))))) H1 := e1
  have hnew := kk H1 (hH.new hAn z1 o1 hx) ⟨Nat.le_trans hS.1 (by omega), fun x h1 h2 => (o1 x (Nat.lt_of_lt_of_le h1 hS.1)).trans (hS.2.1 x h1 h2), hS.2.2⟩
  rw [hsz]
  exact hnew
theorem xd_iast (hexec : p.tables.exec = Jvm.exec) (hb : c.code = cc) (hK : va_K D clX (tyX dA) s) (hH : DS D dA ro h n A H) (hS : va_S A H0 H locs) {a : Nat} {i x : Int32} {j : Nat} {h' : Hv} (h0 : ¬ i < 0) (hj : i.toNatClampNeg = j) (hv : hasti ro h a j x = some h') (hdg : decode cc pc = .ok (.iastore, 1))
    (kk : ∀ (H1 : Heap) (locs1 : List Loc), DS D dA ro h' n A H1 → va_S A H0 H1 locs1 → W p l e R s m args below meth c H1 locs1 cells slots Q (F0 m (pc + 1) ls rest)) : W p l e R s m args below meth c H locs cells slots Q (F0 m pc ls (.int x :: .int i :: .ref a :: rest)) := by
  subst hj
  obtain ⟨g1, y, g2, hlt, g4⟩ := hasti_spec hv
  subst g4
  obtain ⟨g5, g6⟩ := hAi_spec g2
  have hat := hH.2.2.2.2 a g5 g1
  rw [g6] at hat
  have hat : H[a]? = some (arrV (dA 1) y.1 (fun j => .int (y.2 j))) := hat
  refine W.iast hexec hb hat ((hK.2 0 _ rfl).1 y.1 (fun j => .int (y.2 j))) (fun q => by cases q) (by rw [arrV_size]; exact fun z => z.elim h0 (fun z2 => by omega)) rfl rfl hdg fun H1 e z oq => ?_
  refine kk H1 _ (hH.put z oq ?_) (hS.put z oq (hH.2.2.1 a g5 g1))
  show H1[a]? = some (arrV (dA 1) y.1 (fun j => .int (upd y.2 i.toNatClampNeg x j)))
  rw [e, arrV_store]
  congr 2
  funext q
  by_cases hq : q = i.toNatClampNeg
  · subst hq
    simp [updV, upd]
  · simp [updV, upd, hq]
theorem xd_multi (hexec : p.tables.exec = Jvm.exec) (hb : c.code = cc) (hown : s.vm.findClass own = some m.cls) (hlink : (Cond.classLink own index "[[I").before args s = true) (hO : AOI s) (hI : (Cond.arrayClass .int).before args s = true) (hK : va_K D clX (tyX dA) s) (hH : DS D dA ro h n A H) (hS : va_S A H0 H locs) (hA : ∀ q, H0.size ≤ q → A q)
    {k1 k2 : Int32} {N M : Nat} (h1 : ¬ k1 < 0) (h2 : ¬ k2 < 0) (hN : k1.toNatClampNeg = N) (hM : k2.toNatClampNeg = M) (hb1 : N * 4 ≤ 536870912) (hb2 : M * 4 ≤ 536870912) (hcells : cells + (1 + N) ≤ R.cells) (hslots : slots + (N + N * M) ≤ R.slots) (hdg : decode cc pc = .ok (.multianewarray index 2, 4))
    (kk : ∀ (H1 : Heap) (locs1 : List Loc), DS D dA ro (hmul h n N M) (n + 1 + N) A H1 → va_S A H0 H1 locs1 →
      W p l e R s m args below meth c H1 locs1 (cells + (1 + N)) (slots + (N + N * M)) Q (F0 m (pc + 4) ls (.ref n :: rest))) : W p l e R s m args below meth c H locs cells slots Q (F0 m pc ls (.int k2 :: .int k1 :: rest)) := by
  have hsz := hH.2.1
  have hAn : ∀ q, n ≤ q → A q := fun q hq => hA q (Nat.le_trans (by rw [← hsz]; exact hS.1) hq)
  refine W_multi hexec hb hown hlink hO hI h1 h2 hN hM hb1 hb2 hcells hslots hdg (fun cA comp H1 locs1 f1 f2 z o0 oj oq hl => ?_)
  have eA : cA = dA 5 := Option.some.inj (f1.symm.trans (hK.2 2 _ rfl).2)
  have eC : comp = dA 1 := Option.some.inj (f2.symm.trans (hK.2 0 _ rfl).2)
  subst eA
  subst eC
  rw [hsz]
  exact kk H1 locs1 (hH.mul hAn z o0 oj oq) ⟨Nat.le_trans hS.1 (by omega), fun x g1 g2 => (oq x (Nat.lt_of_lt_of_le g1 hS.1)).trans (hS.2.1 x g1 g2), fun y hy => (hl y hy).elim (hS.2.2 y) (fun z => by rw [z, hsz]; exact hAn n (Nat.le_refl _))⟩
end XC9
