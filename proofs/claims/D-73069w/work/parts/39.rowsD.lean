/-! DYNAMIC: cells made and written at addresses: over a view h and the heap's size n; ro: addresses that are never written -/
def hset (h : Hv) (a : Nat) (x : Ab) : Hv := (h.1, fun q => if q = a then x else h.2 q)
def hnew (h : Hv) (a : Nat) (x : Ab) : Hv := (fun q => decide (q = a) || h.1 q, fun q => if q = a then x else h.2 q)
def hput (ro : Nat → Bool) (h : Hv) (a ci k : Nat) (v : Value) : Option Hv := if h.1 a = true ∧ ro a = false then (match h.2 a with | .inl q => if q.1 = ci ∧ k < q.2.length then some (hset h a (.inl (ci, q.2.set k v))) else none | .inr _ => none) else none
def hast (ro : Nat → Bool) (h : Hv) (a kd i : Nat) (o : Option Nat) : Option Hv := if ro a = false then (hAq h a kd).bind (fun x => if i < x.1 then some (hset h a (.inr (kd, (x.1, .inr (.inr (.inr (.inr (va_up x.2 i o)))))))) else none) else none
theorem hput_spec {ro : Nat → Bool} {h h' : Hv} {a ci k : Nat} {v : Value} (e : hput ro h a ci k v = some h') : h.1 a = true ∧ ro a = false ∧ ∃ fs, h.2 a = .inl (ci, fs) ∧ k < fs.length ∧ h' = hset h a (.inl (ci, fs.set k v)) := by
  unfold hput at e
  split at e
  · next h1 =>
    refine ⟨h1.1, h1.2, ?_⟩
    split at e
    · next q hq =>
      split at e
      · next h2 =>
        obtain ⟨c, fs⟩ := q
        obtain ⟨h3, h4⟩ := h2
        dsimp only at h3
        subst h3
        exact ⟨fs, hq, h4, (Option.some.inj e).symm⟩
      · cases e
    · cases e
  · cases e
theorem hast_spec {ro : Nat → Bool} {h h' : Hv} {a kd i : Nat} {o : Option Nat} (e : hast ro h a kd i o = some h') : ro a = false ∧ ∃ x, hAq h a kd = some x ∧ i < x.1 ∧ h' = hset h a (.inr (kd, (x.1, .inr (.inr (.inr (.inr (va_up x.2 i o))))))) := by
  unfold hast at e
  split at e
  · next h1 =>
    obtain ⟨x, h2, h3⟩ := ob_bind e
    split at h3
    · next h4 => exact ⟨h1, x, h2, h4, (Option.some.inj h3).symm⟩
    · cases h3
  · cases e
/-- the view holds, the heap has n cells, what may be written lies in A -/
def DS (D : va_G) (dA : Nat → ClassId) (ro : Nat → Bool) (h : Hv) (n : Nat) (A : Nat → Prop) (H : Heap) : Prop := HF D dA h H ∧ H.size = n ∧ (∀ q, h.1 q = true → ro q = false → A q) ∧ (∀ q, n ≤ q → ro q = false) ∧ ∀ q, h.1 q = true → ro q = false → va_at D clX (q, abE dA (h.2 q)) H
theorem DS.put {D : va_G} {dA : Nat → ClassId} {ro : Nat → Bool} {h : Hv} {n : Nat} {A : Nat → Prop} {H H1 : Heap} {a : Nat} {x : Ab} (hH : DS D dA ro h n A H) (z : H1.size = H.size) (oq : ∀ q : Nat, q ≠ a → H1[q]? = H[q]?) (hx : va_at D clX (a, abE dA x) H1) : DS D dA ro (hset h a x) n A H1 := by
  refine ⟨fun q hq => ?_, z.trans hH.2.1, hH.2.2.1, hH.2.2.2.1, fun q hq hr => ?_⟩
  · by_cases e : q = a
    · subst e
      show hw_at D dA q (if q = q then x else h.2 q) H1
      rw [if_pos rfl]
      exact hw_of hx
    · show hw_at D dA q (if q = a then x else h.2 q) H1
      rw [if_neg e]
      exact (hH.1 q hq).kept (oq q e)
  · by_cases e : q = a
    · subst e
      show va_at D clX (q, abE dA (if q = q then x else h.2 q)) H1
      rw [if_pos rfl]
      exact hx
    · show va_at D clX (q, abE dA (if q = a then x else h.2 q)) H1
      rw [if_neg e]
      exact (hH.2.2.2.2 q hq hr).kept (oq q e)
theorem DS.new {D : va_G} {dA : Nat → ClassId} {ro : Nat → Bool} {h : Hv} {n : Nat} {A : Nat → Prop} {H H1 : Heap} {x : Ab} (hH : DS D dA ro h n A H) (hA : A n) (z : H1.size = H.size + 1) (oq : ∀ q : Nat, q < H.size → H1[q]? = H[q]?) (hx : va_at D clX (H.size, abE dA x) H1) : DS D dA ro (hnew h n x) (n + 1) A H1 := by
  have hn := hH.2.1
  have hq9 : ∀ q, q ≠ n → (hnew h n x).1 q = true → h.1 q = true := fun q e hq => by
    have hq' : (decide (q = n) || h.1 q) = true := hq
    rw [decide_eq_false e, Bool.false_or] at hq'
    exact hq'
  refine ⟨fun q hq => ?_, by omega, fun q hq hr => ?_, fun q hq => hH.2.2.2.1 q (by omega), fun q hq hr => ?_⟩
  · by_cases e : q = n
    · subst e
      show hw_at D dA q (if q = q then x else h.2 q) H1
      rw [if_pos rfl, ← hn]
      exact hw_of hx
    · show hw_at D dA q (if q = n then x else h.2 q) H1
      rw [if_neg e]
      exact (hH.1 q (hq9 q e hq)).kept (oq q (hH.1 q (hq9 q e hq)).lt)
  · by_cases e : q = n
    · rw [e]; exact hA
    · exact hH.2.2.1 q (hq9 q e hq) hr
  · by_cases e : q = n
    · subst e
      show va_at D clX (q, abE dA (if q = q then x else h.2 q)) H1
      rw [if_pos rfl, ← hn]
      exact hx
    · show va_at D clX (q, abE dA (if q = n then x else h.2 q)) H1
      rw [if_neg e]
      exact (hH.2.2.2.2 q (hq9 q e hq) hr).kept (oq q (hH.2.2.2.2 q (hq9 q e hq) hr).lt)
/-- what a method with this view may write -/
def fD (ro : Nat → Bool) (h : Hv) (n : Nat) : Nat → Prop := fun q => (h.1 q = true ∧ ro q = false) ∨ n ≤ q
/-- costs: cells and places made, counted from behind -/
def addU {ρ : Type} (c s : Nat) (x : Option (ρ × Hv × Nat × Nat)) : Option (ρ × Hv × Nat × Nat) := x.bind (fun r => some (r.1, r.2.1, r.2.2.1 + c, r.2.2.2 + s))
theorem ob_addU {ρ : Type} {c s : Nat} {x : Option (ρ × Hv × Nat × Nat)} {r : ρ × Hv × Nat × Nat} (h : addU c s x = some r) : ∃ r', x = some r' ∧ r.1 = r'.1 ∧ r.2.1 = r'.2.1 ∧ r.2.2.1 = r'.2.2.1 + c ∧ r.2.2.2 = r'.2.2.2 + s := by
  obtain ⟨r', h1, h2⟩ := ob_bind h
  cases h2
  exact ⟨r', h1, rfl, rfl, rfl, rfl⟩
section XD
variable {p : Program} {l : Launch} {e : Env} {R : Room} {s : State} {m : MethodId} {args : Array Value} {below : List Frame} {meth : Method} {c : Code} {H : Heap} {locs : List Loc} {cells slots : Nat} {Q : State → Prop}
variable {cc : ByteArray} {pc : Nat} {ls : Array Slot} {rest : List Value} {A : Nat → Prop} {H0 : Heap}
variable {D : va_G} {dA : Nat → ClassId} {ro : Nat → Bool} {h : Hv} {n : Nat} {own ref C : String} {T9 : u_T} {NF ci index : Nat}
theorem xd_put (hexec : p.tables.exec = Jvm.exec) (hb : c.code = cc) (hts : ∀ w ∈ lw_all, w.before args s = true) (hin : ∀ w ∈ u_ws C T9 NF, w ∈ lw_all) (ty0 : Nat → FieldType) (hty : ∀ k, k < NF → parseFieldDescriptor (T9 k).2.2.1 = some (ty0 k)) (hnm : ∀ a, a < NF → ∀ b, b < NF → a ≠ b → (T9 a).2.1 ≠ (T9 b).2.1) (hown : s.vm.findClass own = some m.cls) (hK : va_K D clX (tyX dA) s) (hH : DS D dA ro h n A H) (hS : va_S A H0 H locs) {a : Nat} (hc : clX[ci]? = some (C, T9, NF)) (k : Nat) (hk : k < NF) (hlink : (Cond.fieldLink own index ref (T9 k).2.1 (T9 k).2.2.1).before args s = true) (hsame : ∀ x, s.fieldFound? (T9 k).1 (T9 k).2.1 (T9 k).2.2.1 = some x → s.fieldFound? ref (T9 k).2.1 (T9 k).2.2.1 = some x) (hfin : (T9 k).2.2.2 = false) {v : Value} (hn : narrow (ty0 k) v = v) (hfit : fits (ty0 k) v = true) {h' : Hv} (hv : hput ro h a ci k v = some h')
    (hdg : decode cc pc = .ok (.putfield index, 3)) (kk : ∀ (H1 : Heap) (locs1 : List Loc), DS D dA ro h' n A H1 → va_S A H0 H1 locs1 → W p l e R s m args below meth c H1 locs1 cells slots Q (F0 m (pc + 3) ls rest)) : W p l e R s m args below meth c H locs cells slots Q (F0 m pc ls (v :: .ref a :: rest)) := by
  obtain ⟨g1, g2, fs, g3, hl, g4⟩ := hput_spec hv
  subst g4
  have hap := va_apart (own := own) hts hin ty0 hty hnm hK hc
  have hat := hH.2.2.2.2 a g1 g2
  rw [g3] at hat
  obtain ⟨r, h1, cell, q1, q2, q3, q4⟩ := hat
  have hr : r = (C, T9, NF) := Option.some.inj (h1.symm.trans hc)
  subst hr
  obtain ⟨hS9, hfc, kC, hkC, hkind⟩ := hK.1 ci _ hc
  obtain ⟨cf, kf, fi, f, hi, hsl⟩ := hS9 k hk
  have hlay := hts _ (hin _ (u_in_lay hk))
  unfold u_lay at hlay
  rw [if_neg (by rw [hfin]; decide)] at hlay
  have hst := (u_facts hfc hkC (u_lays hts hin hk) hi).1
  have h6 := u_store hfc hkC hkind hlay hi (hty k hk) hn hfit
  refine W.putK hexec hb (f := f) ⟨hown, hlink, ⟨_, _, _, hsame _ hi⟩, hst⟩ (by rw [q2]; exact h6) q1 q3 (by rw [hsl]; exact k2_hasslot (q4 k hk)) rfl rfl hdg fun H' e1 e2 e3 => ?_
  rw [hsl] at e1 ⊢
  exact kk H' _ (hH.put e2 e3 ⟨_, hc, t_OB.to (V := updV (vp_V fs) k v) ⟨_, e1, q2, q3, t_set q4 hap hk v⟩ (fun j _ => vp_updV_set hl v j)⟩) (hS.put e2 e3 (hH.2.2.1 a g1 g2))
theorem xd_putF (hexec : p.tables.exec = Jvm.exec) (hb : c.code = cc) (hts : ∀ w ∈ lw_all, w.before args s = true) (hin : ∀ w ∈ u_ws C T9 NF, w ∈ lw_all) (ty0 : Nat → FieldType) (hty : ∀ k, k < NF → parseFieldDescriptor (T9 k).2.2.1 = some (ty0 k)) (hnm : ∀ a, a < NF → ∀ b, b < NF → a ≠ b → (T9 a).2.1 ≠ (T9 b).2.1) (hown : s.vm.findClass own = some m.cls) (hK : va_K D clX (tyX dA) s) (hH : DS D dA ro h n A H) (hS : va_S A H0 H locs) {a : Nat} (hc : clX[ci]? = some (C, T9, NF)) (k : Nat) (hk : k < NF) (hlink : (Cond.fieldLink own index ref (T9 k).2.1 (T9 k).2.2.1).before args s = true) (hsame : ∀ x, s.fieldFound? (T9 k).1 (T9 k).2.1 (T9 k).2.2.1 = some x → s.fieldFound? ref (T9 k).2.1 (T9 k).2.2.1 = some x) (hfin : (T9 k).2.2.2 = true) (hin2 : meth.name = "<init>") (hdecl : (T9 k).1 = own) {v : Value} (hn : narrow (ty0 k) v = v) (hfit : fits (ty0 k) v = true) {h' : Hv} (hv : hput ro h a ci k v = some h')
    (hdg : decode cc pc = .ok (.putfield index, 3)) (kk : ∀ (H1 : Heap) (locs1 : List Loc), DS D dA ro h' n A H1 → va_S A H0 H1 locs1 → W p l e R s m args below meth c H1 locs1 cells slots Q (F0 m (pc + 3) ls rest)) : W p l e R s m args below meth c H locs cells slots Q (F0 m pc ls (v :: .ref a :: rest)) := by
  obtain ⟨g1, g2, fs, g3, hl, g4⟩ := hput_spec hv
  subst g4
  have hap := va_apart (own := own) hts hin ty0 hty hnm hK hc
  have hat := hH.2.2.2.2 a g1 g2
  rw [g3] at hat
  obtain ⟨r, h1, cell, q1, q2, q3, q4⟩ := hat
  have hr : r = (C, T9, NF) := Option.some.inj (h1.symm.trans hc)
  subst hr
  obtain ⟨hS9, hfc, kC, hkC, hkind⟩ := hK.1 ci _ hc
  obtain ⟨cf, kf, fi, f, hi, hsl⟩ := hS9 k hk
  have hlay := hts _ (hin _ (u_in_lay hk))
  unfold u_lay at hlay
  rw [if_pos hfin] at hlay
  have hst := (u_facts hfc hkC (u_lays hts hin hk) hi).1
  have hcf : m.cls = cf := by
    obtain ⟨_, _, c', _, _, _, -, -, hf', -, -, -, hown2, -⟩ := Cond.laysFinal_spec hlay
    have e1 : c' = cf := by have := hi.symm.trans hf'; simp at this; exact this.1.symm
    rw [hdecl] at hown2
    rw [← e1]; exact Option.some.inj (hown.symm.trans hown2)
  have h6 := u_fits hfc hkC hkind (Or.inr hlay) hi (hty k hk) hn hfit
  refine W.putFinK hexec hb hown hlink (hsame _ hi) hst hcf hin2 (by rw [q2]; exact h6) q1 q3 (by rw [hsl]; exact k2_hasslot (q4 k hk)) rfl rfl hdg fun H' e1 e2 e3 => ?_
  rw [hsl] at e1 ⊢
  exact kk H' _ (hH.put e2 e3 ⟨_, hc, t_OB.to (V := updV (vp_V fs) k v) ⟨_, e1, q2, q3, t_set q4 hap hk v⟩ (fun j _ => vp_updV_set hl v j)⟩) (hS.put e2 e3 (hH.2.2.1 a g1 g2))
theorem xd_putN {host : String} (hexec : p.tables.exec = Jvm.exec) (hb : c.code = cc) (hts : ∀ w ∈ lw_all, w.before args s = true) (hin : ∀ w ∈ u_ws C T9 NF, w ∈ lw_all) (ty0 : Nat → FieldType) (hty : ∀ k, k < NF → parseFieldDescriptor (T9 k).2.2.1 = some (ty0 k)) (hnm : ∀ a, a < NF → ∀ b, b < NF → a ≠ b → (T9 a).2.1 ≠ (T9 b).2.1) (hown : s.vm.findClass own = some m.cls) (hK : va_K D clX (tyX dA) s) (hH : DS D dA ro h n A H) (hS : va_S A H0 H locs) {a : Nat} (hc : clX[ci]? = some (C, T9, NF)) (k : Nat) (hk : k < NF) (hlink : va_Nw (.fieldLinkNest own index ref (T9 k).2.1 (T9 k).2.2.1 host) s) (hsame : ∀ x, s.fieldFound? (T9 k).1 (T9 k).2.1 (T9 k).2.2.1 = some x → s.fieldFound? ref (T9 k).2.1 (T9 k).2.2.1 = some x) (hfin : (T9 k).2.2.2 = false) {v : Value} (hn : narrow (ty0 k) v = v) (hfit : fits (ty0 k) v = true) {h' : Hv} (hv : hput ro h a ci k v = some h')
    (hdg : decode cc pc = .ok (.putfield index, 3)) (kk : ∀ (H1 : Heap) (locs1 : List Loc), DS D dA ro h' n A H1 → va_S A H0 H1 locs1 → W p l e R s m args below meth c H1 locs1 cells slots Q (F0 m (pc + 3) ls rest)) : W p l e R s m args below meth c H locs cells slots Q (F0 m pc ls (v :: .ref a :: rest)) := by
  obtain ⟨g1, g2, fs, g3, hl, g4⟩ := hput_spec hv
  subst g4
  have hap := va_apart (own := own) hts hin ty0 hty hnm hK hc
  have hat := hH.2.2.2.2 a g1 g2
  rw [g3] at hat
  obtain ⟨r, h1, cell, q1, q2, q3, q4⟩ := hat
  have hr : r = (C, T9, NF) := Option.some.inj (h1.symm.trans hc)
  subst hr
  obtain ⟨hS9, hfc, kC, hkC, hkind⟩ := hK.1 ci _ hc
  obtain ⟨cf, kf, fi, f, hi, hsl⟩ := hS9 k hk
  have hlay := hts _ (hin _ (u_in_lay hk))
  unfold u_lay at hlay
  rw [if_neg (by rw [hfin]; decide)] at hlay
  have hst := (u_facts hfc hkC (u_lays hts hin hk) hi).1
  have h6 := u_store hfc hkC hkind hlay hi (hty k hk) hn hfit
  refine va_WputK hexec hb (f := f) hown (va_Nw.use rfl hlink) (hsame _ hi) hst (by rw [q2]; exact h6) q1 q3 (by rw [hsl]; exact k2_hasslot (q4 k hk)) rfl rfl hdg fun H' e1 e2 e3 => ?_
  rw [hsl] at e1 ⊢
  exact kk H' _ (hH.put e2 e3 ⟨_, hc, t_OB.to (V := updV (vp_V fs) k v) ⟨_, e1, q2, q3, t_set q4 hap hk v⟩ (fun j _ => vp_updV_set hl v j)⟩) (hS.put e2 e3 (hH.2.2.1 a g1 g2))
/-- a new object; N places, of which the table names NF -/
theorem xd_new (hexec : p.tables.exec = Jvm.exec) (hb : c.code = cc) {N : Nat} (hts : ∀ w ∈ lw_all, w.before args s = true) (hin : ∀ w ∈ u_ws C T9 NF, w ∈ lw_all) (ty : Nat → FieldType) (hty : ∀ k, k < NF → parseFieldDescriptor (T9 k).2.2.1 = some (ty k)) (hown : s.vm.findClass own = some m.cls) (hcl : (Cond.classLink own index C).before args s = true) (hinst : (Cond.instantiable C N).before args s = true) (hini : (Cond.initialized C).before args s = true)
    (hK : va_K D clX (tyX dA) s) (hH : DS D dA ro h n A H) (hS : va_S A H0 H locs) (hA : ∀ q, H0.size ≤ q → A q) (hc : clX[ci]? = some (C, T9, NF)) {fs : List Value} (hfs : ∀ j, j < NF → defaultValue (ty j) = vp_V fs j) (hcells : cells + 1 ≤ R.cells) (hslots : slots + N ≤ R.slots) (hdg : decode cc pc = .ok (.new index, 3))
    (kk : ∀ (H1 : Heap), DS D dA ro (hnew h n (.inl (ci, fs))) (n + 1) A H1 → va_S A H0 H1 locs →
      W p l e R s m args below meth c H1 locs (cells + 1) (slots + N) Q (F0 m (pc + 3) ls (.ref n :: rest))) : W p l e R s m args below meth c H locs cells slots Q (F0 m pc ls rest) := by
  have hKn := hK.1 ci _ hc
  have hsz := hH.2.1
  refine W.newcK hexec hb hown hcl hinst hini rfl hdg hcells hslots hKn.2.1 rfl fun H1 kC hkC e1 z1 o1 => ?_
  have hAn : A n := hA n (by rw [← hsz]; exact hS.1)
  have hnew := kk H1 (hH.new hAn z1 o1 ⟨_, hc, (u_born ty hts hin hKn hkC e1 hty).to hfs⟩) ⟨Nat.le_trans hS.1 (by omega), fun x h1 h2 => (o1 x (Nat.lt_of_lt_of_le h1 hS.1)).trans (hS.2.1 x h1 h2), hS.2.2⟩
  rw [hsz]
  exact hnew
/-- a new array of references -/
theorem xd_newq (hexec : p.tables.exec = Jvm.exec) (hb : c.code = cc) (kd t0 : Nat) (ht : (tyX dA)[t0]? = some (dA kd, .object C)) (hown : s.vm.findClass own = some m.cls) (hclink : (Cond.classLink own index C).before args s = true) (hover : va_AO C s) (hK : va_K D clX (tyX dA) s) (hH : DS D dA ro h n A H) (hS : va_S A H0 H locs) (hA : ∀ q, H0.size ≤ q → A q)
    {k : Int32} {N : Nat} (hk0 : ¬ k < 0) (hN : k.toNatClampNeg = N) (hbytes : N * 4 ≤ 536870912) (hcells : cells + 1 ≤ R.cells) (hslots : slots + N ≤ R.slots) (hdg : decode cc pc = .ok (.anewarray index, 3))
    (kk : ∀ (H1 : Heap), DS D dA ro (hnew h n (.inr (kd, (N, .inr (.inr (.inr (.inr (fun _ => none)))))))) (n + 1) A H1 → va_S A H0 H1 locs →
      W p l e R s m args below meth c H1 locs (cells + 1) (slots + N) Q (F0 m (pc + 3) ls (.ref n :: rest))) : W p l e R s m args below meth c H locs cells slots Q (F0 m pc ls (.int k :: rest)) := by
  subst hN
  have hsz := hH.2.1
  refine W.anew hexec hb hown hclink (va_AO.use hover) rfl hdg rfl hk0 hbytes hcells hslots fun cA kA comp f1 f2 f3 f4 => ?_
  have ecA : cA = dA kd := by
    obtain ⟨kA', comp', k1, k2, k3, k4⟩ := (hK.2 t0 _ ht).2
    exact Option.some.inj (f1.symm.trans k4)
  subst ecA
  generalize hH1 : H.push ({ cls := dA kd, slots := Array.replicate k.toNatClampNeg .null, vm := .none } : Cell) = H1
  have z1 : H1.size = H.size + 1 := by rw [← hH1, Array.size_push]
  have e1 : H1[H.size]? = some (arrV (dA kd) k.toNatClampNeg (fun _ => .null)) := by rw [← hH1, Array.getElem?_push_size, ← arrV_new]
  have o1 : ∀ q : Nat, q < H.size → H1[q]? = H[q]? := fun q hq => by rw [← hH1, Array.getElem?_push, if_neg (Nat.ne_of_lt hq)]
  have hAn : A n := hA n (by rw [← hsz]; exact hS.1)
  have hx : va_at D clX (H.size, abE dA (.inr (kd, (k.toNatClampNeg, .inr (.inr (.inr (.inr (fun _ => none)))))))) H1 := e1
  have hnew := kk H1 (hH.new hAn z1 o1 hx) ⟨Nat.le_trans hS.1 (by omega), fun x h1 h2 => (o1 x (Nat.lt_of_lt_of_le h1 hS.1)).trans (hS.2.1 x h1 h2), hS.2.2⟩
  rw [hsz]
  exact hnew
/-- an object stored into an array of references -/
theorem xd_aast (hexec : p.tables.exec = Jvm.exec) (hb : c.code = cc) (kd t0 : Nat) {E : String} (ht : (tyX dA)[t0]? = some (dA kd, .object E)) (hK : va_K D clX (tyX dA) s) (hH : DS D dA ro h n A H) (hS : va_S A H0 H locs) {a v : Nat} (hr : ∃ cellV : Cell, H[v]? = some cellV ∧ cellV.vm.isStatics = false ∧ s.vm.findClass C = some cellV.cls) (hcast : va_Nw (.castable C E) s) {i : Int32} {j : Nat} {h' : Hv} (h0 : ¬ i < 0) (hj : i.toNatClampNeg = j) (hv : hast ro h a kd j (some v) = some h') (hdg : decode cc pc = .ok (.aastore, 1))
    (kk : ∀ (H1 : Heap) (locs1 : List Loc), DS D dA ro h' n A H1 → va_S A H0 H1 locs1 → W p l e R s m args below meth c H1 locs1 cells slots Q (F0 m (pc + 1) ls rest)) : W p l e R s m args below meth c H locs cells slots Q (F0 m pc ls (.ref v :: .int i :: .ref a :: rest)) := by
  subst hj
  obtain ⟨g1, x, g2, hlt, g4⟩ := hast_spec hv
  subst g4
  obtain ⟨g5, g6⟩ := hAq_spec g2
  have hat := hH.2.2.2.2 a g5 g1
  rw [g6] at hat
  have hat : H[a]? = some (vp_cell (dA kd) (x.1, .inr (.inr (.inr (.inr x.2))))) := hat
  obtain ⟨cellV, k9, k8, k7⟩ := hr
  obtain ⟨kA, comp, k1, k2, k3, -⟩ := (hK.2 t0 _ ht).2
  obtain ⟨kE, hkE, -⟩ := Vm.findClass_spec k3
  obtain ⟨kC, hkC, -⟩ := Vm.findClass_spec k7
  refine W.aast hexec hb hat (fun q h => by cases h) (fun h => by cases h) k1 k2 rfl hkE ⟨h0, by show _ < (arrV _ _ _).slots.size; rw [arrV_size]; exact hlt⟩ k9 (fun q h => by rw [h] at k8; cases k8) hkC (vb_asgC hcast _ _ k3 k7) rfl rfl hdg fun H1 e z oq => ?_
  refine kk H1 _ (hH.put z oq ?_) (hS.put z oq (hH.2.2.1 a g5 g1))
  show H1[a]? = some (vp_cell _ _)
  rw [e]
  rw [vp_cell_q, vp_cell_q, arrV_store]
  congr 2
  funext q
  by_cases hq : q = i.toNatClampNeg
  · subst hq
    simp [updV, va_up, va_rf]
  · simp [updV, va_up, hq]
end XD
