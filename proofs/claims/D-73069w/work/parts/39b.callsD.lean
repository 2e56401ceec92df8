/-! DYNAMIC: contracts and calls (printed by mk39b.py) -/
/-- what statics hold: the empty array of lists, the mirror of Object[], WORDS, NAMED, the Integers kept; where strings, their bytes, Integers lie; Throwable's two -/
abbrev Gs : Type := Nat × Nat × Nat × Nat × Nat × (Nat → Nat) × (Nat → Nat) × (Nat → Nat) × Option Nat × Option Nat
def gE (G : Gs) : Nat := G.1
def gM (G : Gs) : Nat := G.2.1
def gW (G : Gs) : Nat := G.2.2.1
def gN (G : Gs) : Nat := G.2.2.2.1
def gC (G : Gs) : Nat := G.2.2.2.2.1
def gK (G : Gs) : Nat → Nat := G.2.2.2.2.2.1
def gV (G : Gs) : Nat → Nat := G.2.2.2.2.2.2.1
def gI (G : Gs) : Nat → Nat := G.2.2.2.2.2.2.2.1
def gU (G : Gs) : Option Nat := G.2.2.2.2.2.2.2.2.1
def gP (G : Gs) : Option Nat := G.2.2.2.2.2.2.2.2.2
def lnX : List Nat := [4, 5, 7, 4, 6, 4, 3, 2, 5, 4, 3, 2, 4, 4, 3, 2, 3, 3, 4, 6, 4, 4, 5, 6, 11]
def byX : List (List Int32) := [[100, 117, 101, 115], [115, 101, 108, 108, 115], [113, 117, 97, 114, 114, 101, 108], [112, 97, 119, 110], [114, 101, 100, 101, 101, 109], [101, 97, 114, 110], [100, 97, 121], [98, 121], [119, 111, 114, 116, 104], [114, 101, 115, 116], [104, 111, 116], [105, 102], [116, 104, 101, 110], [101, 108, 115, 101], [101, 110, 100], [111, 114], [97, 110, 100], [110, 111, 116], [114, 97, 105, 110], [110, 117, 109, 98, 101, 114], [104, 101, 97, 116], [104, 101, 108, 100], [112, 117, 114, 115, 101], [112, 97, 119, 110, 101, 100], [60, 62, 61, 35, 43, 45, 42, 47, 40, 41, 59]]
def nmF (j : Nat) : Int32 := match j with
  | 0 => 206
  | 1 => 218
  | 2 => 219
  | 3 => 208
  | 4 => 220
  | 5 => 221
  | 6 => 222
  | _ => 223
/-- words and statics that methods which make objects ask for -/
abbrev cdX : List Cond := [.castable "QuarrelsPawned$Plain" "java/lang/Object", .castable "QuarrelsPawned$Name" "java/lang/Object", .castable "QuarrelsPawned$Minus" "java/lang/Object", .castable "QuarrelsPawned$Chain" "java/lang/Object", .castable "QuarrelsPawned$Compared" "java/lang/Object", .castable "QuarrelsPawned$Not" "java/lang/Object", .castable "QuarrelsPawned$All" "java/lang/Object", .castable "QuarrelsPawned$Rest" "java/lang/Object", .castable "QuarrelsPawned$Hot" "java/lang/Object", .castable "QuarrelsPawned$If" "java/lang/Object", .castable "QuarrelsPawned$Doing" "java/lang/Object", .castable "java/lang/Integer" "java/lang/Object", .castable "QuarrelsPawned$Wrong" "QuarrelsPawned$Wrong"]
abbrev ndX : List Cond := [.methodLinkNest "QuarrelsPawned$Tokens" 82 ⟨"QuarrelsPawned$Text", "<init>", "()V"⟩ "QuarrelsPawned", .methodLinkNest "QuarrelsPawned$Tokens" 192 ⟨"QuarrelsPawned$Plain", "<init>", "(I)V"⟩ "QuarrelsPawned", .methodLinkNest "QuarrelsPawned$Tokens" 148 ⟨"QuarrelsPawned$Not", "<init>", "(LQuarrelsPawned$Asked;)V"⟩ "QuarrelsPawned", .methodLinkNest "QuarrelsPawned$Tokens" 153 ⟨"QuarrelsPawned$Compared", "<init>", "(ILQuarrelsPawned$Sum;LQuarrelsPawned$Sum;)V"⟩ "QuarrelsPawned", .methodLinkNest "QuarrelsPawned$Tokens" 137 ⟨"QuarrelsPawned$All", "<init>", "(ZLjava/util/ArrayList;)V"⟩ "QuarrelsPawned", .methodLinkNest "QuarrelsPawned$Tokens" 187 ⟨"QuarrelsPawned$If", "<init>", "(LQuarrelsPawned$Asked;LQuarrelsPawned$Sum;LQuarrelsPawned$Sum;)V"⟩ "QuarrelsPawned", .methodLinkNest "QuarrelsPawned$Tokens" 179 ⟨"QuarrelsPawned$Rest", "<init>", "(LQuarrelsPawned$Sum;LQuarrelsPawned$Sum;)V"⟩ "QuarrelsPawned", .methodLinkNest "QuarrelsPawned$Tokens" 208 ⟨"QuarrelsPawned$Name", "<init>", "(I)V"⟩ "QuarrelsPawned", .methodLinkNest "QuarrelsPawned$Tokens" 211 ⟨"QuarrelsPawned$Hot", "<init>", "(LQuarrelsPawned$Sum;)V"⟩ "QuarrelsPawned", .methodLinkNest "QuarrelsPawned$Tokens" 214 ⟨"QuarrelsPawned$Minus", "<init>", "(LQuarrelsPawned$Sum;)V"⟩ "QuarrelsPawned", .methodLinkNest "QuarrelsPawned$Tokens" 119 ⟨"QuarrelsPawned$Doing", "<init>", "(IIIII)V"⟩ "QuarrelsPawned", .fieldLinkNest "QuarrelsPawned$Tokens" 86 "QuarrelsPawned$Text" "law" "[LQuarrelsPawned$Sum;" "QuarrelsPawned", .fieldLinkNest "QuarrelsPawned$Tokens" 90 "QuarrelsPawned$Text" "clauses" "I" "QuarrelsPawned", .fieldLinkNest "QuarrelsPawned$Tokens" 97 "QuarrelsPawned$Text" "doings" "Ljava/util/ArrayList;" "QuarrelsPawned"]
def ZG (G : Gs) (A : Nat → Prop) (U : State) (H : Heap) : Prop :=
  va_Z "java/util/ArrayList" "DEFAULTCAPACITY_EMPTY_ELEMENTDATA" "[Ljava/lang/Object;" (.ref (gE G)) A U H ∧
  va_Z "QuarrelsPawned$Tokens" "WORDS" "[Ljava/lang/String;" (.ref (gW G)) A U H ∧ va_T (.object "java/lang/String") (gW G) 24 (fun j => .ref (gK G j)) A U H ∧
  va_Z "QuarrelsPawned$Tokens" "NAMED" "[I" (.ref (gN G)) A U H ∧ va_T .int (gN G) 8 (fun j => .int (nmF j)) A U H ∧
  va_Z "java/lang/Integer$IntegerCache" "high" "I" (.int 127) A U H ∧
  va_Z "java/lang/Integer$IntegerCache" "cache" "[Ljava/lang/Integer;" (.ref (gC G)) A U H ∧ va_T (.object "java/lang/Integer") (gC G) 256 (fun j => .ref (gI G j)) A U H ∧
  va_Z "java/lang/String" "COMPACT_STRINGS" "Z" (.int 1) A U H ∧ va_Zq "jdk/internal/util/Preconditions" "SIOOBE_FORMATTER" "Ljava/util/function/BiFunction;" A U H ∧
  (va_Z "java/lang/Throwable" "UNASSIGNED_STACK" "[Ljava/lang/StackTraceElement;" (va_rf (gU G)) A U H ∧ vy_L "java/lang/Throwable" "UNASSIGNED_STACK" "[Ljava/lang/StackTraceElement;" A U H) ∧ (va_Z "java/lang/Throwable" "SUPPRESSED_SENTINEL" "Ljava/util/List;" (va_rf (gP G)) A U H ∧ vy_L "java/lang/Throwable" "SUPPRESSED_SENTINEL" "Ljava/util/List;" A U H) ∧
  vk_S 25 lnX byX (gK G) (gV G) A U H ∧ va_T (.object "java/lang/Object") (gE G) 0 (fun _ => .null) A U H
def FD (ro : Nat → Bool) (G : Gs) (U : State) (H : Heap) : Prop :=
  TW U ∧ (∀ w ∈ cdX, va_Nw w U) ∧ (∀ w ∈ ndX, va_Nw w U) ∧ (va_AO "java/lang/Object" U ∧ va_AO "QuarrelsPawned$Sum" U ∧ (Cond.declares ⟨"java/lang/Throwable", "<init>", "()V"⟩).before #[] U = true) ∧ ZG G (fun q => ro q = false) U H ∧
  (va_Mi "[Ljava/lang/Object;" (gM G) U ∧ va_Dc U) ∧ vk_R "QuarrelsPawned$Tokens" 53 "<>=#+-*/();" (gK G 24) U
/-- a predicate that holds while nothing that is for reading alone is written -/
def JD (ro : Nat → Bool) (G : Gs) (J : State → Heap → Prop) : Prop :=
  (∀ (s U : State) (H : Heap), s.WarmedH U.vm → J s H → J U H) ∧ (∀ (s U : State) (H : Heap), s.vm = U.vm → J s H → J U H) ∧
  (∀ (U : State) (H H1 : Heap), H.size ≤ H1.size → (∀ q : Nat, q < H.size → ro q = true → H1[q]? = H[q]?) → J U H → J U H1) ∧
  (∀ (U : State) (H : Heap), J U H → FD ro G U H)
theorem JD.jr {ro : Nat → Bool} {G : Gs} {J : State → Heap → Prop} (h : JD ro G J) : JR J :=
  ⟨h.1, h.2.1, fun U H H1 hz hk hJ => h.2.2.1 U H H1 hz (fun q hq _ => hk q hq) hJ, fun U H hJ => (h.2.2.2 U H hJ).1⟩
theorem JD.f {ro : Nat → Bool} {G : Gs} {J : State → Heap → Prop} (h : JD ro G J) {U : State} {H : Heap} (hJ : J U H) : FD ro G U H := h.2.2.2 U H hJ
theorem JD.cast {ro : Nat → Bool} {G : Gs} {J : State → Heap → Prop} (h : JD ro G J) {U : State} {H : Heap} (hJ : J U H) {w : Cond} (i : Nat) (hw : cdX[i]? = some w) : va_Nw w U := (h.f hJ).2.1 w (List.mem_of_getElem? hw)
theorem JD.nest {ro : Nat → Bool} {G : Gs} {J : State → Heap → Prop} (h : JD ro G J) {U : State} {H : Heap} (hJ : J U H) {w : Cond} (i : Nat) (hw : ndX[i]? = some w) : va_Nw w U := (h.f hJ).2.2.1 w (List.mem_of_getElem? hw)
theorem ZG.narrow {G : Gs} {A B : Nat → Prop} {U : State} {H : Heap} (h : ZG G A U H) (hAB : ∀ q, B q → A q) : ZG G B U H := by
  obtain ⟨h1, h2, h3, h4, h5, h6, h7, h8, h9, h10, h11, h12, h13, h14⟩ := h
  exact ⟨h1.narrow hAB, h2.narrow hAB, h3.narrow hAB, h4.narrow hAB, h5.narrow hAB, h6.narrow hAB, h7.narrow hAB, h8.narrow hAB, h9.narrow hAB, h10.narrow hAB, ⟨h11.1.narrow hAB, h11.2.narrow hAB⟩, ⟨h12.1.narrow hAB, h12.2.narrow hAB⟩, h13.narrow hAB, h14.narrow hAB⟩
def Pd (D : va_G) (dA : Nat → ClassId) (ro : Nat → Bool) (J : State → Heap → Prop) (av : List Value) (h : Hv) (n : Nat) : Array Value → State → Prop := va_Pc av (fun U => DS D dA ro h n (fun q => ro q = false) U.heap ∧ va_K D clX (tyX dA) U ∧ J U U.heap)
def DE (D : va_G) (dA : Nat → ClassId) (ro : Nat → Bool) (h : Hv) (n : Nat) (r : Hv × Nat × Nat) (H : Heap) : Prop := HF D dA r.1 H ∧ H.size = n + r.2.1 ∧ (∀ q, r.1.1 q = true → ro q = false → fD ro h n q) ∧ ∀ q, r.1.1 q = true → ro q = false → va_at D clX (q, abE dA (r.1.2 q)) H
def Qdi (D : va_G) (dA : Nat → ClassId) (ro : Nat → Bool) (h : Hv) (n : Nat) (r : Int32 × Hv × Nat × Nat) : Array Value → State → Outcome → State → Prop := va_Qi (fun x (_ : Unit) => x = r.1) (fun _ t => DE D dA ro h n r.2 t.heap) (fD ro h n)
def Qdz (D : va_G) (dA : Nat → ClassId) (ro : Nat → Bool) (h : Hv) (n : Nat) (r : Int32 × Hv × Nat × Nat) : Array Value → State → Outcome → State → Prop := va_Qi (fun x (_ : Unit) => x = r.1 ∧ (r.1 = 0 ∨ r.1 = 1)) (fun _ t => DE D dA ro h n r.2 t.heap) (fD ro h n)
def Qda (D : va_G) (dA : Nat → ClassId) (ro : Nat → Bool) (h : Hv) (n : Nat) (r : Nat × Hv × Nat × Nat) : Array Value → State → Outcome → State → Prop := va_Qr (fun (x : Nat) => x = r.1) (fun x a t => a = x ∧ DE D dA ro h n r.2 t.heap) (fD ro h n)
def Qdv (D : va_G) (dA : Nat → ClassId) (ro : Nat → Bool) (h : Hv) (n : Nat) (r : Unit × Hv × Nat × Nat) : Array Value → State → Outcome → State → Prop := va_Qv (fun (_ : Unit) => True) (fun _ t => DE D dA ro h n r.2 t.heap) (fD ro h n)
/-- of methods that throw -/
def Qti (D : va_G) (dA : Nat → ClassId) (ro : Nat → Bool) (h : Hv) (n : Nat) (r : (Nat ⊕ Int32) × Hv × Nat × Nat) : Array Value → State → Outcome → State → Prop := va_Qi (fun x (_ : Unit) => r.1 = .inr x) (fun _ t => DE D dA ro h n r.2 t.heap) (fD ro h n)
def Qta (D : va_G) (dA : Nat → ClassId) (ro : Nat → Bool) (h : Hv) (n : Nat) (r : (Nat ⊕ Nat) × Hv × Nat × Nat) : Array Value → State → Outcome → State → Prop := va_Qq (fun x (_ : Unit) => ∃ v, r.1 = .inr v ∧ x = some v) (fun _ t => DE D dA ro h n r.2 t.heap) (fD ro h n)
def Qtv (D : va_G) (dA : Nat → ClassId) (ro : Nat → Bool) (h : Hv) (n : Nat) (r : (Nat ⊕ Unit) × Hv × Nat × Nat) : Array Value → State → Outcome → State → Prop := va_Qv (fun (_ : Unit) => r.1 = .inr ()) (fun _ t => DE D dA ro h n r.2 t.heap) (fD ro h n)
def Xt {ρ : Type} (D : va_G) (dA : Nat → ClassId) (ro : Nat → Bool) (h : Hv) (n : Nat) (r : (Nat ⊕ ρ) × Hv × Nat × Nat) : String → Nat → State → State → Prop := vy_X (fun (_ : Unit) => True) (fun E q _ t => r.1 = .inl q ∧ E = "QuarrelsPawned$Wrong" ∧ DE D dA ro h n r.2 t.heap) (fD ro h n)
/-- goes on unless thrown -/
def tk {α ρ : Type} (q : (Nat ⊕ α) × Hv × Nat × Nat) (k : α → Option ((Nat ⊕ ρ) × Hv × Nat × Nat)) : Option ((Nat ⊕ ρ) × Hv × Nat × Nat) := match q.1 with
  | .inl e => some (.inl e, q.2.1, q.2.2.1, q.2.2.2)
  | .inr v => addU q.2.2.1 q.2.2.2 (k v)
theorem ob_tk {α ρ : Type} {q : (Nat ⊕ α) × Hv × Nat × Nat} {k : α → Option ((Nat ⊕ ρ) × Hv × Nat × Nat)} {r : (Nat ⊕ ρ) × Hv × Nat × Nat} (h : tk q k = some r) : (∃ e, q.1 = .inl e ∧ (.inl e, q.2.1, q.2.2.1, q.2.2.2) = r) ∨ ∃ v, q.1 = .inr v ∧ addU q.2.2.1 q.2.2.2 (k v) = some r := by
  unfold tk at h
  split at h
  · next e he => exact Or.inl ⟨e, he, Option.some.inj h⟩
  · next v hv => exact Or.inr ⟨v, hv, h⟩
/-- what is left of the answer -/
def qI {ρ : Type} (r res : ρ × Hv × Nat × Nat) (cells slots : Nat) : Prop := r.1 = res.1 ∧ r.2.1 = res.2.1 ∧ cells + r.2.2.1 = res.2.2.1 ∧ slots + r.2.2.2 = res.2.2.2
theorem qI.add {ρ : Type} {r res : ρ × Hv × Nat × Nat} {cells slots c s : Nat} (h : qI r res cells slots) {x : Option (ρ × Hv × Nat × Nat)} (hx : addU c s x = some r) : ∃ r', x = some r' ∧ qI r' res (cells + c) (slots + s) ∧ cells + c ≤ res.2.2.1 ∧ slots + s ≤ res.2.2.2 := by
  obtain ⟨r', h1, h2, h3, h4, h5⟩ := ob_addU hx
  obtain ⟨g1, g2, g3, g4⟩ := h
  exact ⟨r', h1, ⟨h2 ▸ g1, h3 ▸ g2, by omega, by omega⟩, by omega, by omega⟩
theorem qI.end {ρ : Type} {v : ρ} {h9 : Hv} {r res : ρ × Hv × Nat × Nat} {cells slots : Nat} (h : qI r res cells slots) (e : (v, h9, 0, 0) = r) : res = (v, h9, cells, slots) := by
  subst e
  obtain ⟨g1, g2, g3, g4⟩ := h
  obtain ⟨a, b, c, d⟩ := res
  simp only [Nat.add_zero] at g3 g4
  dsimp only at g1 g2 g3 g4
  subst g1; subst g2; subst g3; subst g4
  rfl
theorem qI.thr {α ρ : Type} {q : (Nat ⊕ α) × Hv × Nat × Nat} {e : Nat} {r res : (Nat ⊕ ρ) × Hv × Nat × Nat} {cells slots : Nat} (h : qI r res cells slots) (he : (.inl e, q.2.1, q.2.2.1, q.2.2.2) = r) : res = (.inl e, q.2.1, cells + q.2.2.1, slots + q.2.2.2) := by
  subst he
  obtain ⟨g1, g2, g3, g4⟩ := h
  obtain ⟨a, b, c, d⟩ := res
  dsimp only at g1 g2 g3 g4
  subst g1; subst g2; subst g3; subst g4
  rfl
theorem Pd_blind {D : va_G} {dA : Nat → ClassId} {ro : Nat → Bool} {G : Gs} {J : State → Heap → Prop} (hJ : JD ro G J) {av : List Value} {h : Hv} {n : Nat} : FrameBlind (Pd D dA ro J av h n) := by
  intro a U g mk q
  obtain ⟨q0, qP, qK, qJ⟩ := q
  exact ⟨q0, qP, va_K.moved (u := U) (U := U.calling g mk a) (Vm.Alike.refl U.vm) qK, hJ.2.1 U (U.calling g mk a) U.heap rfl qJ⟩
/-- what a walk stands on: its region -/
def rD (ro : Nat → Bool) (A : Nat → Prop) (n0 : Nat) : Prop := (∀ q, A q → ro q = false) ∧ ∀ q, n0 ≤ q → A q
theorem fD_rD {D : va_G} {dA : Nat → ClassId} {ro : Nat → Bool} {h : Hv} {n : Nat} {H : Heap} {B : Nat → Prop} (hH : DS D dA ro h n B H) : rD ro (fD ro h n) n :=
  ⟨fun q hq => hq.elim (fun z => z.2) (fun z => hH.2.2.2.1 q z), fun q hq => Or.inr hq⟩
abbrev rmD (f lo c s : Nat) : Room := { frames := f, cells := c, slots := s, locals := lo }

theorem xd_head {l : Launch} {y : MethodName} {cc : ByteArray} {maxL : Nat} {ret : Option FieldType} {rm : Room} {av : List Value} {Qc : Array Value → State → Outcome → State → Prop} {own : String} {mc ms : Nat}
    {D : va_G} {dA : Nat → ClassId} {ro : Nat → Bool} {J : State → Heap → Prop} {h : Hv} {n : Nat}
    (hy : plainName y.cls = true) (hyc : y.cls = own) (hn : (lg_sl av).length ≤ maxL)
    (body : ∀ (p : Program) (e : Env) (s : State) (m : MethodId) (args : Array Value) (below : List Frame) (meth : Method) (c : Code) (ls : Array Slot) (Q : State → Prop), MQ below Qc args s mc ms (fD ro h n) = Q → meth.name = y.name → Cj p s m args meth c cc ret maxL own D dA J → s.heap.size = n → DS D dA ro h n (fD ro h n) s.heap → lv_has ls maxL (lv_args 0 av) →
      W p l e rm s m args below meth c s.heap [] 0 0 Q (F0 m 0 ls [])) : Met l y (ws_ y cc maxL ret) rm (Pd D dA ro J av h n) Qc mc ms (fD ro h n) := by
  refine Met.ofW (cc := cc) (maxL := maxL) (ret := ret) hy rfl ?_
  intro p e s m args below meth c s₁ B hml hv
  obtain ⟨rfl, hP, hK, hJ⟩ := hv
  have hts := atoms_spec (ws := ws_ y cc maxL ret) B.pre
  have hts : ∀ w ∈ lw_all, w.before _ s = true := fun w h => hts w (List.mem_cons_of_mem _ h)
  have hown : s.vm.findClass own = some m.cls := hyc ▸ findClass_of_methodNamed B.named
  have hl := lv_entry av hn
  rw [lg_entry_eq]
  exact body p e s m _ below meth c _ _ rfl (name_of_methodNamed B.named B.method).1 ⟨B.exec, B.bytes, B.returns, B.notSynchronized, hml, hown, hts, hK, hJ⟩ hP.2.1 ⟨hP.1, hP.2.1, fun q h1 h2 => Or.inl ⟨h1, h2⟩, hP.2.2.2.1, hP.2.2.2.2⟩ hl
/-- an object that nobody has locked -/
def rawM (a : Nat) (H : Heap) : Prop := ∃ cell : Cell, H[a]? = some cell ∧ cell.monitor.owner = none ∧ cell.monitor.count = 0
def Pdm (D : va_G) (dA : Nat → ClassId) (ro : Nat → Bool) (J : State → Heap → Prop) (a : Nat) (av : List Value) (h : Hv) (n : Nat) : Array Value → State → Prop := va_Pc av (fun U => (DS D dA ro h n (fun q => ro q = false) U.heap ∧ rawM a U.heap) ∧ va_K D clX (tyX dA) U ∧ J U U.heap)
theorem Pdm_blind {D : va_G} {dA : Nat → ClassId} {ro : Nat → Bool} {G : Gs} {J : State → Heap → Prop} (hJ : JD ro G J) {a : Nat} {av : List Value} {h : Hv} {n : Nat} : FrameBlind (Pdm D dA ro J a av h n) := by
  intro b U g mk q
  obtain ⟨q0, qP, qK, qJ⟩ := q
  exact ⟨q0, qP, va_K.moved (u := U) (U := U.calling g mk b) (Vm.Alike.refl U.vm) qK, hJ.2.1 U (U.calling g mk b) U.heap rfl qJ⟩
theorem xdm_head {l : Launch} {y : MethodName} {cc : ByteArray} {maxL : Nat} {ret : Option FieldType} {rm : Room} {av : List Value} {Qc : Array Value → State → Outcome → State → Prop} {a9 : Nat} {own : String} {mc ms : Nat}
    {D : va_G} {dA : Nat → ClassId} {ro : Nat → Bool} {J : State → Heap → Prop} {h : Hv} {n : Nat}
    (hy : plainName y.cls = true) (hyc : y.cls = own) (hn : (lg_sl av).length ≤ maxL)
    (body : ∀ (p : Program) (e : Env) (s : State) (m : MethodId) (args : Array Value) (below : List Frame) (meth : Method) (c : Code) (ls : Array Slot) (Q : State → Prop), MQ below Qc args s mc ms (fD ro h n) = Q → meth.name = y.name → rawM a9 s.heap → Cj p s m args meth c cc ret maxL own D dA J → s.heap.size = n → DS D dA ro h n (fD ro h n) s.heap → lv_has ls maxL (lv_args 0 av) →
      W p l e rm s m args below meth c s.heap [] 0 0 Q (F0 m 0 ls [])) : Met l y (ws_ y cc maxL ret) rm (Pdm D dA ro J a9 av h n) Qc mc ms (fD ro h n) := by
  refine Met.ofW (cc := cc) (maxL := maxL) (ret := ret) hy rfl ?_
  intro p e s m args below meth c s₁ B hml hv
  obtain ⟨rfl, ⟨hP, hP9⟩, hK, hJ⟩ := hv
  have hts := atoms_spec (ws := ws_ y cc maxL ret) B.pre
  have hts : ∀ w ∈ lw_all, w.before _ s = true := fun w h => hts w (List.mem_cons_of_mem _ h)
  have hown : s.vm.findClass own = some m.cls := hyc ▸ findClass_of_methodNamed B.named
  have hl := lv_entry av hn
  rw [lg_entry_eq]
  exact body p e s m _ below meth c _ _ rfl (name_of_methodNamed B.named B.method).1 hP9 ⟨B.exec, B.bytes, B.returns, B.notSynchronized, hml, hown, hts, hK, hJ⟩ hP.2.1 ⟨hP.1, hP.2.1, fun q h1 h2 => Or.inl ⟨h1, h2⟩, hP.2.2.2.1, hP.2.2.2.2⟩ hl
theorem xt_head {l : Launch} {y : MethodName} {cc : ByteArray} {maxL : Nat} {ret : Option FieldType} {rm : Room} {av : List Value} {Qc : Array Value → State → Outcome → State → Prop} {XC : String → Nat → State → State → Prop} {own : String} {mc ms : Nat}
    {D : va_G} {dA : Nat → ClassId} {ro : Nat → Bool} {J : State → Heap → Prop} {h : Hv} {n : Nat}
    (hy : plainName y.cls = true) (hyc : y.cls = own) (hn : (lg_sl av).length ≤ maxL)
    (body : ∀ (p : Program) (e : Env) (s : State) (m : MethodId) (args : Array Value) (below : List Frame) (meth : Method) (c : Code) (ls : Array Slot) (Q : State → Prop), vy_MQ below Qc XC args s mc ms (fD ro h n) = Q → meth.name = y.name → (∀ x ∈ c.exceptionTable.toList, False) → Cj p s m args meth c cc ret maxL own D dA J → s.heap.size = n → DS D dA ro h n (fD ro h n) s.heap → lv_has ls maxL (lv_args 0 av) →
      W p l e rm s m args below meth c s.heap [] 0 0 Q (F0 m 0 ls [])) : vy_Met l y (ws_ y cc maxL ret) rm (Pd D dA ro J av h n) Qc XC mc ms (fD ro h n) := by
  refine vy_ofW (cc := cc) (maxL := maxL) (ret := ret) hy rfl ?_
  intro p e s m args below meth c s₁ B hml hno hv
  obtain ⟨rfl, hP, hK, hJ⟩ := hv
  have hts := atoms_spec (ws := ws_ y cc maxL ret) B.pre
  have hts : ∀ w ∈ lw_all, w.before _ s = true := fun w h => hts w (List.mem_cons_of_mem _ h)
  have hown : s.vm.findClass own = some m.cls := hyc ▸ findClass_of_methodNamed B.named
  have hl := lv_entry av hn
  rw [lg_entry_eq]
  exact body p e s m _ below meth c _ _ rfl (name_of_methodNamed B.named B.method).1 hno ⟨B.exec, B.bytes, B.returns, B.notSynchronized, hml, hown, hts, hK, hJ⟩ hP.2.1 ⟨hP.1, hP.2.1, fun q h1 h2 => Or.inl ⟨h1, h2⟩, hP.2.2.2.1, hP.2.2.2.2⟩ hl
section XDC
variable {p : Program} {l : Launch} {e : Env} {R : Room} {s : State} {m : MethodId} {args : Array Value} {below : List Frame} {meth : Method} {c : Code} {H : Heap} {locs : List Loc} {cells slots : Nat} {Q : State → Prop}
variable {cc : ByteArray} {pc : Nat} {ls : Array Slot} {rest st0 : List Value} {A : Nat → Prop} {H0 : Heap} {mc ms : Nat}
variable {D : va_G} {dA : Nat → ClassId} {ro : Nat → Bool} {h : Hv} {n n0 : Nat} {G : Gs} {J : State → Heap → Prop}
variable {y : MethodName} {bytes : ByteArray} {maxL nL k index : Nat} {ret : Option FieldType} {rm : Room} {own C host : String} {As : List Value}
theorem W_size (k : H.size ≤ s.heap.size + cells → W p l e R s m args below meth c H locs cells slots Q (F0 m pc ls st0)) : W p l e R s m args below meth c H locs cells slots Q (F0 m pc ls st0) := fun T hT X => k (hT ▸ X.heapSize) T hT X
theorem JD.at (hJ : JD ro G J) (hR : rD ro A n0) (hJs : J s s.heap) (hS : va_S A s.heap H locs) : J s H := hJ.2.2.1 s s.heap H hS.1 (fun q hq hr => hS.2.1 q hq (fun z => by rw [hR.1 q z] at hr; cases hr)) hJs
theorem JD.z (hJ : JD ro G J) (hR : rD ro A n0) (hJs : J s s.heap) : ZG G A s s.heap := (hJ.f hJs).2.2.2.2.1.narrow hR.1
theorem DS.base (hH : DS D dA ro h n A H) : DS D dA ro h n (fun q => ro q = false) H := ⟨hH.1, hH.2.1, fun q _ h2 => h2, hH.2.2.2.1, hH.2.2.2.2⟩
theorem fD_in (hH : DS D dA ro h n A H) (hR : rD ro A n0) (hn : n0 ≤ n) : ∀ q, fD ro h n q → A q := fun q hq => hq.elim (fun z => hH.2.2.1 q z.1 z.2) (fun z => hR.2 q (by omega))
theorem xd_run {Qc : Array Value → State → Outcome → State → Prop} (hJ : JD ro G J) (hR : rD ro A n0) (hJs : J s s.heap) (hS : va_S A s.heap H locs) (S : CallFix p m c cc nL s args lw_all own) {a ci : Nat} {q : vw_C} (hM : Met l y (ws_ y bytes maxL ret) rm (Pd D dA ro J (Value.ref a :: As) h n) Qc mc ms (fD ro h n)) (cw : CallW R s args own C index y bytes maxL ret (ws_ y bytes maxL ret) rm mc ms k) (hK : va_K D clX (tyX dA) s) (hH : DS D dA ro h n A H) (hc : hC h a = some ci) (hcl : clX[ci]? = some q) (hqC : q.1 = C)
    (hsz : ls.size = nL) (hn : As.length = k) (hst : st0 = As.reverse ++ .ref a :: rest) (hW : (rest.map fun v => v.category).sum ≤ 8) (hdg : decode cc pc = .ok (.invokevirtual index, 3)) (hf : cells + mc ≤ R.cells ∧ slots + ms ≤ R.slots) :
    va_Run p l e R s m args below meth c H locs cells slots mc ms (F0 m pc ls st0) rest (Qc (Value.ref a :: As).toArray) (fD ro h n) := by
  subst hqC
  exact va_runV S hM cw ⟨Pd_blind hJ, xh_recv hK hH.1 hc hcl, fun U hU hW9 => ⟨rfl, by rw [hU]; exact hH.base, va_K.moved hW9.alike hK, by rw [hU]; exact hJ.1 s U H hW9 (hJ.at hR hJs hS)⟩⟩ rfl hn hsz hst (lv_room hW) hdg hf
theorem xd_runS {Qc : Array Value → State → Outcome → State → Prop} (hJ : JD ro G J) (hR : rD ro A n0) (hJs : J s s.heap) (hS : va_S A s.heap H locs) (S : CallFix p m c cc nL s args lw_all own) (hM : Met l y (ws_ y bytes maxL ret) rm (Pd D dA ro J (As) h n) Qc mc ms (fD ro h n)) (cw : CallB R s args own index y bytes maxL ret (ws_ y bytes maxL ret) rm mc ms k ∧ (Cond.static y).before args s = true) (hK : va_K D clX (tyX dA) s) (hH : DS D dA ro h n A H) 
    (hsz : ls.size = nL) (hn : As.length = k) (hst : st0 = As.reverse ++ rest) (hW : (rest.map fun v => v.category).sum ≤ 8) (hdg : decode cc pc = .ok (.invokestatic index, 3)) (hf : cells + mc ≤ R.cells ∧ slots + ms ≤ R.slots) :
    va_Run p l e R s m args below meth c H locs cells slots mc ms (F0 m pc ls st0) rest (Qc (As).toArray) (fD ro h n) := by
  exact va_runS S hM cw ⟨Pd_blind hJ, fun U hU hW9 => ⟨rfl, by rw [hU]; exact hH.base, va_K.moved hW9.alike hK, by rw [hU]; exact hJ.1 s U H hW9 (hJ.at hR hJs hS)⟩⟩ rfl hn hsz hst (lv_room hW) hdg hf
theorem xd_runI {Qc : Array Value → State → Outcome → State → Prop} (hJ : JD ro G J) (hR : rD ro A n0) (hJs : J s s.heap) (hS : va_S A s.heap H locs) (S : CallFix p m c cc nL s args lw_all own) {a : Nat} (hM : Met l y (ws_ y bytes maxL none) rm (Pd D dA ro J (Value.ref a :: As) h n) Qc mc ms (fD ro h n)) (cw : CallB R s args own index y bytes maxL none (ws_ y bytes maxL none) rm mc ms k ∧ y.name = "<init>" ∧ (Cond.instanceMethod y).before args s = true) (hK : va_K D clX (tyX dA) s) (hH : DS D dA ro h n A H) 
    (hsz : ls.size = nL) (hn : As.length = k) (hst : st0 = As.reverse ++ .ref a :: rest) (hW : (rest.map fun v => v.category).sum ≤ 8) (hdg : decode cc pc = .ok (.invokespecial index, 3)) (hf : cells + mc ≤ R.cells ∧ slots + ms ≤ R.slots) :
    va_Run p l e R s m args below meth c H locs cells slots mc ms (F0 m pc ls st0) rest (Qc (Value.ref a :: As).toArray) (fD ro h n) := by
  exact va_runI S hM cw ⟨Pd_blind hJ, fun U hU hW9 => ⟨rfl, by rw [hU]; exact hH.base, va_K.moved hW9.alike hK, by rw [hU]; exact hJ.1 s U H hW9 (hJ.at hR hJs hS)⟩⟩ rfl hn hsz hst (lv_room hW) hdg hf
theorem xd_runIM {Qc : Array Value → State → Outcome → State → Prop} (hJ : JD ro G J) (hR : rD ro A n0) (hJs : J s s.heap) (hS : va_S A s.heap H locs) (S : CallFix p m c cc nL s args lw_all own) {a : Nat} (hM : Met l y (ws_ y bytes maxL none) rm (Pdm D dA ro J a (Value.ref a :: As) h n) Qc mc ms (fD ro h n)) (cw : CallB R s args own index y bytes maxL none (ws_ y bytes maxL none) rm mc ms k ∧ y.name = "<init>" ∧ (Cond.instanceMethod y).before args s = true) (hraw : rawM a H) (hK : va_K D clX (tyX dA) s) (hH : DS D dA ro h n A H) 
    (hsz : ls.size = nL) (hn : As.length = k) (hst : st0 = As.reverse ++ .ref a :: rest) (hW : (rest.map fun v => v.category).sum ≤ 8) (hdg : decode cc pc = .ok (.invokespecial index, 3)) (hf : cells + mc ≤ R.cells ∧ slots + ms ≤ R.slots) :
    va_Run p l e R s m args below meth c H locs cells slots mc ms (F0 m pc ls st0) rest (Qc (Value.ref a :: As).toArray) (fD ro h n) := by
  exact va_runI S hM cw ⟨Pdm_blind hJ, fun U hU hW9 => ⟨rfl, ⟨by rw [hU]; exact hH.base, by rw [hU]; exact hraw⟩, va_K.moved hW9.alike hK, by rw [hU]; exact hJ.1 s U H hW9 (hJ.at hR hJs hS)⟩⟩ rfl hn hsz hst (lv_room hW) hdg hf
theorem xd_runIN {Qc : Array Value → State → Outcome → State → Prop} (hJ : JD ro G J) (hR : rD ro A n0) (hJs : J s s.heap) (hS : va_S A s.heap H locs) (S : CallFix p m c cc nL s args lw_all own) {a : Nat} (hM : Met l y (ws_ y bytes maxL none) rm (Pd D dA ro J (Value.ref a :: As) h n) Qc mc ms (fD ro h n)) (cw : va_CN R s args own index y host bytes maxL none (ws_ y bytes maxL none) rm mc ms k ∧ y.name = "<init>" ∧ (Cond.instanceMethod y).before args s = true) (hK : va_K D clX (tyX dA) s) (hH : DS D dA ro h n A H) 
    (hsz : ls.size = nL) (hn : As.length = k) (hst : st0 = As.reverse ++ .ref a :: rest) (hW : (rest.map fun v => v.category).sum ≤ 8) (hdg : decode cc pc = .ok (.invokespecial index, 3)) (hf : cells + mc ≤ R.cells ∧ slots + ms ≤ R.slots) :
    va_Run p l e R s m args below meth c H locs cells slots mc ms (F0 m pc ls st0) rest (Qc (Value.ref a :: As).toArray) (fD ro h n) := by
  exact va_runIN S hM cw ⟨Pd_blind hJ, fun U hU hW9 => ⟨rfl, by rw [hU]; exact hH.base, va_K.moved hW9.alike hK, by rw [hU]; exact hJ.1 s U H hW9 (hJ.at hR hJs hS)⟩⟩ rfl hn hsz hst (lv_room hW) hdg hf
theorem xt_run {Qc : Array Value → State → Outcome → State → Prop} {XC : String → Nat → State → State → Prop} (hJ : JD ro G J) (hR : rD ro A n0) (hJs : J s s.heap) (hS : va_S A s.heap H locs) (S : CallFix p m c cc nL s args lw_all own) {a ci : Nat} {q : vw_C} (hM : vy_Met l y (ws_ y bytes maxL ret) rm (Pd D dA ro J (Value.ref a :: As) h n) Qc XC mc ms (fD ro h n)) (cw : CallW R s args own C index y bytes maxL ret (ws_ y bytes maxL ret) rm mc ms k) (hK : va_K D clX (tyX dA) s) (hH : DS D dA ro h n A H) (hc : hC h a = some ci) (hcl : clX[ci]? = some q) (hqC : q.1 = C)
    (hsz : ls.size = nL) (hn : As.length = k) (hst : st0 = As.reverse ++ .ref a :: rest) (hW : (rest.map fun v => v.category).sum ≤ 8) (hdg : decode cc pc = .ok (.invokevirtual index, 3)) (hf : cells + mc ≤ R.cells ∧ slots + ms ≤ R.slots) :
    vy_Run p l e R s m args below meth c H locs cells slots mc ms (F0 m pc ls st0) rest (Qc (Value.ref a :: As).toArray) XC (fD ro h n) := by
  subst hqC
  exact vy_runV S hM cw ⟨Pd_blind hJ, xh_recv hK hH.1 hc hcl, fun U hU hW9 => ⟨rfl, by rw [hU]; exact hH.base, va_K.moved hW9.alike hK, by rw [hU]; exact hJ.1 s U H hW9 (hJ.at hR hJs hS)⟩⟩ rfl hn hsz hst (lv_room hW) hdg hf
/-- a method that only reads -/
theorem xd_runR {Qc : Array Value → State → Outcome → State → Prop} (hJ : JD ro G J) (hR : rD ro A n0) (hJs : J s s.heap) (hS : va_S A s.heap H locs) (S : CallFix p m c cc nL s args lw_all own) {a ci : Nat} {q : vw_C} (hM : Met l y (ws_ y bytes maxL ret) rm (Pr D dA J (Value.ref a :: As) h) Qc 0 0 nA) (cw : CallW R s args own C index y bytes maxL ret (ws_ y bytes maxL ret) rm 0 0 k) (hK : va_K D clX (tyX dA) s) (hH : DS D dA ro h n A H) (hc : hC h a = some ci) (hcl : clX[ci]? = some q) (hqC : q.1 = C)
    (hsz : ls.size = nL) (hn : As.length = k) (hst : st0 = As.reverse ++ .ref a :: rest) (hW : (rest.map fun v => v.category).sum ≤ 8) (hdg : decode cc pc = .ok (.invokevirtual index, 3)) (hf : cells + 0 ≤ R.cells ∧ slots + 0 ≤ R.slots) :
    va_Run p l e R s m args below meth c H locs cells slots 0 0 (F0 m pc ls st0) rest (Qc (Value.ref a :: As).toArray) nA := by
  subst hqC
  exact va_runV S hM cw ⟨Pr_blind hJ.jr, xh_recv hK hH.1 hc hcl, fun U hU hW9 => ⟨rfl, by rw [hU]; exact hH.1, va_K.moved hW9.alike hK, by rw [hU]; exact hJ.1 s U H hW9 (hJ.at hR hJs hS)⟩⟩ rfl hn hsz hst (lv_room hW) hdg hf
/-- ... of a string -/
theorem xd_runK {Qc : Array Value → State → Outcome → State → Prop} (hJ : JD ro G J) (hR : rD ro A n0) (hJs : J s s.heap) (hS : va_S A s.heap H locs) (S : CallFix p m c cc nL s args lw_all own) {i : Nat} (hi : i < 25) (hM : Met l y (ws_ y bytes maxL ret) rm (Pr D dA J (Value.ref (gK G i) :: As) h) Qc 0 0 nA) (cw : CallW R s args own "java/lang/String" index y bytes maxL ret (ws_ y bytes maxL ret) rm 0 0 k) (hK : va_K D clX (tyX dA) s) (hH : DS D dA ro h n A H)
    (hsz : ls.size = nL) (hn : As.length = k) (hst : st0 = As.reverse ++ .ref (gK G i) :: rest) (hW : (rest.map fun v => v.category).sum ≤ 8) (hdg : decode cc pc = .ok (.invokevirtual index, 3)) (hf : cells + 0 ≤ R.cells ∧ slots + 0 ≤ R.slots) :
    va_Run p l e R s m args below meth c H locs cells slots 0 0 (F0 m pc ls st0) rest (Qc (Value.ref (gK G i) :: As).toArray) nA :=
  va_runV S hM cw ⟨Pr_blind hJ.jr, vk_recv (hJ.z hR hJs).2.2.2.2.2.2.2.2.2.2.2.2.1 hi hS, fun U hU hW9 => ⟨rfl, by rw [hU]; exact hH.1, va_K.moved hW9.alike hK, by rw [hU]; exact hJ.1 s U H hW9 (hJ.at hR hJs hS)⟩⟩ rfl hn hsz hst (lv_room hW) hdg hf
theorem xd_runSR {Qc : Array Value → State → Outcome → State → Prop} (hJ : JD ro G J) (hR : rD ro A n0) (hJs : J s s.heap) (hS : va_S A s.heap H locs) (S : CallFix p m c cc nL s args lw_all own) (hM : Met l y (ws_ y bytes maxL ret) rm (Pr D dA J As h) Qc 0 0 nA) (cw : CallB R s args own index y bytes maxL ret (ws_ y bytes maxL ret) rm 0 0 k ∧ (Cond.static y).before args s = true) (hK : va_K D clX (tyX dA) s) (hH : DS D dA ro h n A H)
    (hsz : ls.size = nL) (hn : As.length = k) (hst : st0 = As.reverse ++ rest) (hW : (rest.map fun v => v.category).sum ≤ 8) (hdg : decode cc pc = .ok (.invokestatic index, 3)) (hf : cells + 0 ≤ R.cells ∧ slots + 0 ≤ R.slots) :
    va_Run p l e R s m args below meth c H locs cells slots 0 0 (F0 m pc ls st0) rest (Qc As.toArray) nA :=
  va_runS S hM cw ⟨Pr_blind hJ.jr, fun U hU hW9 => ⟨rfl, by rw [hU]; exact hH.1, va_K.moved hW9.alike hK, by rw [hU]; exact hJ.1 s U H hW9 (hJ.at hR hJs hS)⟩⟩ rfl hn hsz hst (lv_room hW) hdg hf
theorem DE.ds {h1 : Hv × Nat × Nat} {H1 : Heap} (hE : DE D dA ro h n h1 H1) (hH : DS D dA ro h n A H) (hR : rD ro A n0) (hn : n0 ≤ n) : DS D dA ro h1.1 (n + h1.2.1) A H1 :=
  ⟨hE.1, hE.2.1, fun q h2 h3 => fD_in hH hR hn q (hE.2.2.1 q h2 h3), fun q hq => hH.2.2.2.1 q (by omega), hE.2.2.2⟩
theorem DS.kept {H1 : Heap} (hH : DS D dA ro h n A H) (hz : H1.size = H.size) (hk : ∀ q : Nat, q < H.size → H1[q]? = H[q]?) : DS D dA ro h n A H1 := ⟨hH.1.kept (fun q hq _ => hk q hq), hz.trans hH.2.1, hH.2.2.1, hH.2.2.2.1, fun q h1 h2 => (hH.2.2.2.2 q h1 h2).kept (hk q (hH.2.2.2.2 q h1 h2).lt)⟩
theorem xdc_i {r : Int32 × Hv × Nat × Nat} {a : Array Value} (hr : va_Run p l e R s m args below meth c H locs cells slots mc ms (F0 m pc ls st0) rest (Qdi D dA ro h n r a) (fD ro h n)) (hH : DS D dA ro h n A H) (hR : rD ro A n0) (hn : n0 ≤ n) (hS : va_S A H0 H locs)
    (kk : ∀ (H1 : Heap) (locs1 : List Loc), DS D dA ro r.2.1 (n + r.2.2.1) A H1 → va_S A H0 H1 locs1 → W p l e R s m args below meth c H1 locs1 (cells + mc) (slots + ms) Q (F0 m (pc + 3) ls (.int r.1 :: rest))) : W p l e R s m args below meth c H locs cells slots Q (F0 m pc ls st0) := by
  have hin := fD_in hH hR hn
  refine va_calli hr hS (fun q _ h => hin q h) hin (fun x u t H1 locs1 ht _ hp hB _ _ hS1 => ?_)
  subst hp
  rw [ht] at hB
  exact kk H1 locs1 (hB.ds hH hR hn) hS1
theorem xdc_z {r : Int32 × Hv × Nat × Nat} {a : Array Value} (hr : va_Run p l e R s m args below meth c H locs cells slots mc ms (F0 m pc ls st0) rest (Qdz D dA ro h n r a) (fD ro h n)) (hH : DS D dA ro h n A H) (hR : rD ro A n0) (hn : n0 ≤ n) (hS : va_S A H0 H locs)
    (kk : ∀ (H1 : Heap) (locs1 : List Loc), r.1 = 0 ∨ r.1 = 1 → DS D dA ro r.2.1 (n + r.2.2.1) A H1 → va_S A H0 H1 locs1 → W p l e R s m args below meth c H1 locs1 (cells + mc) (slots + ms) Q (F0 m (pc + 3) ls (.int r.1 :: rest))) : W p l e R s m args below meth c H locs cells slots Q (F0 m pc ls st0) := by
  have hin := fD_in hH hR hn
  refine va_calli hr hS (fun q _ h => hin q h) hin (fun x u t H1 locs1 ht _ hp hB _ _ hS1 => ?_)
  obtain ⟨hp, h01⟩ := hp
  subst hp
  rw [ht] at hB
  exact kk H1 locs1 h01 (hB.ds hH hR hn) hS1
theorem xdc_a {r : Nat × Hv × Nat × Nat} {a : Array Value} (hr : va_Run p l e R s m args below meth c H locs cells slots mc ms (F0 m pc ls st0) rest (Qda D dA ro h n r a) (fD ro h n)) (hH : DS D dA ro h n A H) (hR : rD ro A n0) (hn : n0 ≤ n) (hS : va_S A H0 H locs)
    (kk : ∀ (H1 : Heap) (locs1 : List Loc), DS D dA ro r.2.1 (n + r.2.2.1) A H1 → va_S A H0 H1 locs1 → W p l e R s m args below meth c H1 locs1 (cells + mc) (slots + ms) Q (F0 m (pc + 3) ls (.ref r.1 :: rest))) : W p l e R s m args below meth c H locs cells slots Q (F0 m pc ls st0) := by
  have hin := fD_in hH hR hn
  refine va_callr hr hS (fun q _ h => hin q h) hin (fun u ra t H1 locs1 ht _ hp hB _ _ hS1 => ?_)
  obtain ⟨h1, hB⟩ := hB
  subst h1
  subst hp
  rw [ht] at hB
  exact kk H1 locs1 (hB.ds hH hR hn) hS1
theorem xdc_v {r : Unit × Hv × Nat × Nat} {a : Array Value} (hr : va_Run p l e R s m args below meth c H locs cells slots mc ms (F0 m pc ls st0) rest (Qdv D dA ro h n r a) (fD ro h n)) (hH : DS D dA ro h n A H) (hR : rD ro A n0) (hn : n0 ≤ n) (hS : va_S A H0 H locs)
    (kk : ∀ (H1 : Heap) (locs1 : List Loc), DS D dA ro r.2.1 (n + r.2.2.1) A H1 → va_S A H0 H1 locs1 → W p l e R s m args below meth c H1 locs1 (cells + mc) (slots + ms) Q (F0 m (pc + 3) ls rest)) : W p l e R s m args below meth c H locs cells slots Q (F0 m pc ls st0) := by
  have hin := fD_in hH hR hn
  refine va_callv hr hS (fun q _ h => hin q h) hin (fun u t H1 locs1 ht _ hp hB _ _ hS1 => ?_)
  rw [ht] at hB
  exact kk H1 locs1 (hB.ds hH hR hn) hS1
theorem xtc_i {r : (Nat ⊕ Int32) × Hv × Nat × Nat} {a : Array Value} (hr : vy_Run p l e R s m args below meth c H locs cells slots mc ms (F0 m pc ls st0) rest (Qti D dA ro h n r a) (Xt D dA ro h n r) (fD ro h n)) (hH : DS D dA ro h n A H) (hR : rD ro A n0) (hn : n0 ≤ n) (hS : va_S A H0 H locs) {v : Int32} (hv : r.1 = .inr v)
    (kk : ∀ (H1 : Heap) (locs1 : List Loc), DS D dA ro r.2.1 (n + r.2.2.1) A H1 → va_S A H0 H1 locs1 → W p l e R s m args below meth c H1 locs1 (cells + mc) (slots + ms) Q (F0 m (pc + 3) ls (.int v :: rest))) : W p l e R s m args below meth c H locs cells slots Q (F0 m pc ls st0) := by
  have hin := fD_in hH hR hn
  refine vy_calli hr hS (fun q _ h => hin q h) hin (fun q _ h => hin q h) (fun E ce q9 u t H1 locs1 _ _ _ hB _ _ _ _ _ _ => ?_) (fun x u t H1 locs1 ht _ hp hB _ _ hS1 => ?_)
  · obtain ⟨h1, -⟩ := hB
    rw [hv] at h1
    cases h1
  · rw [hv] at hp
    cases hp
    rw [ht] at hB
    exact kk H1 locs1 (hB.ds hH hR hn) hS1
/-- thrown: it goes on to the caller -/
theorem xtx_i {ρ : Type} {res : (Nat ⊕ ρ) × Hv × Nat × Nat} {Qc : Array Value → State → Outcome → State → Prop} {h9 : Hv} {n9 : Nat} {r : (Nat ⊕ Int32) × Hv × Nat × Nat} {a : Array Value} (hno : ∀ x ∈ c.exceptionTable.toList, False) (hlocks : meth.locks = false) (hr : vy_Run p l e R s m args below meth c H locs cells slots mc ms (F0 m pc ls st0) rest (Qti D dA ro h n r a) (Xt D dA ro h n r) (fD ro h n)) (hH : DS D dA ro h n (fD ro h9 n9) H) (hR : rD ro (fD ro h9 n9) n0) (hn : n0 ≤ n) (hn9 : n = n9 + cells) (hS : va_S (fD ro h9 n9) s.heap H locs) {x : Nat} (hx : r.1 = .inl x) (hmc : mc = r.2.2.1) (hms : ms = r.2.2.2) (hres : res = (.inl x, r.2.1, cells + r.2.2.1, slots + r.2.2.2)) :
    W p l e R s m args below meth c H locs cells slots (vy_MQ below Qc (Xt D dA ro h9 n9 res) args s res.2.2.1 res.2.2.2 (fD ro h9 n9)) (F0 m pc ls st0) := by
  have hin := fD_in hH hR hn
  subst hmc
  subst hms
  subst hres
  refine vy_calli hr hS (fun q _ h => hin q h) hin (fun q _ h => hin q h) (fun E ce q9 u t H1 locs1 ht _ _ hB hz _ hS1 hce hv hcl => ?_) (fun x u t H1 locs1 ht _ hp hB _ _ hS1 => ?_)
  · obtain ⟨h1, h2, hB⟩ := hB
    rw [hx] at h1
    cases h1
    rw [ht] at hB
    have hd := hB.ds hH hR hn
    refine vy_out (fun z hz => (hno z hz).elim) hlocks hce hv hcl (fun t9 ht9 _ => ⟨(), trivial, ⟨rfl, h2, hd.1.kept (fun q hq _ => by rw [ht9]), by rw [ht9]; show H1.size = n9 + (cells + _); rw [hd.2.1]; omega, hd.2.2.1, by rw [ht9]; exact hd.2.2.2.2⟩, hS1.F ht9⟩) hS1.2.2 (Nat.le_refl _) (Nat.le_refl _)
  · rw [hx] at hp
    cases hp
theorem xtc_a {r : (Nat ⊕ Nat) × Hv × Nat × Nat} {a : Array Value} (hr : vy_Run p l e R s m args below meth c H locs cells slots mc ms (F0 m pc ls st0) rest (Qta D dA ro h n r a) (Xt D dA ro h n r) (fD ro h n)) (hH : DS D dA ro h n A H) (hR : rD ro A n0) (hn : n0 ≤ n) (hS : va_S A H0 H locs) {v : Nat} (hv : r.1 = .inr v)
    (kk : ∀ (H1 : Heap) (locs1 : List Loc), DS D dA ro r.2.1 (n + r.2.2.1) A H1 → va_S A H0 H1 locs1 → W p l e R s m args below meth c H1 locs1 (cells + mc) (slots + ms) Q (F0 m (pc + 3) ls (.ref v :: rest))) : W p l e R s m args below meth c H locs cells slots Q (F0 m pc ls st0) := by
  have hin := fD_in hH hR hn
  refine vy_callq hr hS (fun q _ h => hin q h) hin (fun q _ h => hin q h) (fun E ce q9 u t H1 locs1 _ _ _ hB _ _ _ _ _ _ => ?_) (fun x u t H1 locs1 ht _ hp hB _ _ hS1 => ?_)
  · obtain ⟨h1, -⟩ := hB
    rw [hv] at h1
    cases h1
  · obtain ⟨v2, h1, h2⟩ := hp
    rw [hv] at h1
    cases h1
    subst h2
    rw [ht] at hB
    exact kk H1 locs1 (hB.ds hH hR hn) hS1
/-- thrown: it goes on to the caller -/
theorem xtx_a {ρ : Type} {res : (Nat ⊕ ρ) × Hv × Nat × Nat} {Qc : Array Value → State → Outcome → State → Prop} {h9 : Hv} {n9 : Nat} {r : (Nat ⊕ Nat) × Hv × Nat × Nat} {a : Array Value} (hno : ∀ x ∈ c.exceptionTable.toList, False) (hlocks : meth.locks = false) (hr : vy_Run p l e R s m args below meth c H locs cells slots mc ms (F0 m pc ls st0) rest (Qta D dA ro h n r a) (Xt D dA ro h n r) (fD ro h n)) (hH : DS D dA ro h n (fD ro h9 n9) H) (hR : rD ro (fD ro h9 n9) n0) (hn : n0 ≤ n) (hn9 : n = n9 + cells) (hS : va_S (fD ro h9 n9) s.heap H locs) {x : Nat} (hx : r.1 = .inl x) (hmc : mc = r.2.2.1) (hms : ms = r.2.2.2) (hres : res = (.inl x, r.2.1, cells + r.2.2.1, slots + r.2.2.2)) :
    W p l e R s m args below meth c H locs cells slots (vy_MQ below Qc (Xt D dA ro h9 n9 res) args s res.2.2.1 res.2.2.2 (fD ro h9 n9)) (F0 m pc ls st0) := by
  have hin := fD_in hH hR hn
  subst hmc
  subst hms
  subst hres
  refine vy_callq hr hS (fun q _ h => hin q h) hin (fun q _ h => hin q h) (fun E ce q9 u t H1 locs1 ht _ _ hB hz _ hS1 hce hv hcl => ?_) (fun x u t H1 locs1 ht _ hp hB _ _ hS1 => ?_)
  · obtain ⟨h1, h2, hB⟩ := hB
    rw [hx] at h1
    cases h1
    rw [ht] at hB
    have hd := hB.ds hH hR hn
    refine vy_out (fun z hz => (hno z hz).elim) hlocks hce hv hcl (fun t9 ht9 _ => ⟨(), trivial, ⟨rfl, h2, hd.1.kept (fun q hq _ => by rw [ht9]), by rw [ht9]; show H1.size = n9 + (cells + _); rw [hd.2.1]; omega, hd.2.2.1, by rw [ht9]; exact hd.2.2.2.2⟩, hS1.F ht9⟩) hS1.2.2 (Nat.le_refl _) (Nat.le_refl _)
  · obtain ⟨v2, h1, h2⟩ := hp
    rw [hx] at h1
    cases h1
theorem xtc_v {r : (Nat ⊕ Unit) × Hv × Nat × Nat} {a : Array Value} (hr : vy_Run p l e R s m args below meth c H locs cells slots mc ms (F0 m pc ls st0) rest (Qtv D dA ro h n r a) (Xt D dA ro h n r) (fD ro h n)) (hH : DS D dA ro h n A H) (hR : rD ro A n0) (hn : n0 ≤ n) (hS : va_S A H0 H locs) {v : Unit} (hv : r.1 = .inr v)
    (kk : ∀ (H1 : Heap) (locs1 : List Loc), DS D dA ro r.2.1 (n + r.2.2.1) A H1 → va_S A H0 H1 locs1 → W p l e R s m args below meth c H1 locs1 (cells + mc) (slots + ms) Q (F0 m (pc + 3) ls rest)) : W p l e R s m args below meth c H locs cells slots Q (F0 m pc ls st0) := by
  have hin := fD_in hH hR hn
  refine vy_callv hr hS (fun q _ h => hin q h) hin (fun q _ h => hin q h) (fun E ce q9 u t H1 locs1 _ _ _ hB _ _ _ _ _ _ => ?_) (fun u t H1 locs1 ht _ hp hB _ _ hS1 => ?_)
  · obtain ⟨h1, -⟩ := hB
    rw [hv] at h1
    cases h1
  · rw [ht] at hB
    exact kk H1 locs1 (hB.ds hH hR hn) hS1
/-- thrown: it goes on to the caller -/
theorem xtx_v {ρ : Type} {res : (Nat ⊕ ρ) × Hv × Nat × Nat} {Qc : Array Value → State → Outcome → State → Prop} {h9 : Hv} {n9 : Nat} {r : (Nat ⊕ Unit) × Hv × Nat × Nat} {a : Array Value} (hno : ∀ x ∈ c.exceptionTable.toList, False) (hlocks : meth.locks = false) (hr : vy_Run p l e R s m args below meth c H locs cells slots mc ms (F0 m pc ls st0) rest (Qtv D dA ro h n r a) (Xt D dA ro h n r) (fD ro h n)) (hH : DS D dA ro h n (fD ro h9 n9) H) (hR : rD ro (fD ro h9 n9) n0) (hn : n0 ≤ n) (hn9 : n = n9 + cells) (hS : va_S (fD ro h9 n9) s.heap H locs) {x : Nat} (hx : r.1 = .inl x) (hmc : mc = r.2.2.1) (hms : ms = r.2.2.2) (hres : res = (.inl x, r.2.1, cells + r.2.2.1, slots + r.2.2.2)) :
    W p l e R s m args below meth c H locs cells slots (vy_MQ below Qc (Xt D dA ro h9 n9 res) args s res.2.2.1 res.2.2.2 (fD ro h9 n9)) (F0 m pc ls st0) := by
  have hin := fD_in hH hR hn
  subst hmc
  subst hms
  subst hres
  refine vy_callv hr hS (fun q _ h => hin q h) hin (fun q _ h => hin q h) (fun E ce q9 u t H1 locs1 ht _ _ hB hz _ hS1 hce hv hcl => ?_) (fun u t H1 locs1 ht _ hp hB _ _ hS1 => ?_)
  · obtain ⟨h1, h2, hB⟩ := hB
    rw [hx] at h1
    cases h1
    rw [ht] at hB
    have hd := hB.ds hH hR hn
    refine vy_out (fun z hz => (hno z hz).elim) hlocks hce hv hcl (fun t9 ht9 _ => ⟨(), trivial, ⟨rfl, h2, hd.1.kept (fun q hq _ => by rw [ht9]), by rw [ht9]; show H1.size = n9 + (cells + _); rw [hd.2.1]; omega, hd.2.2.1, by rw [ht9]; exact hd.2.2.2.2⟩, hS1.F ht9⟩) hS1.2.2 (Nat.le_refl _) (Nat.le_refl _)
  · rw [hx] at hp
    cases hp
/-- athrow in a method without handlers -/
theorem xt_throw {ρ : Type} {res : (Nat ⊕ ρ) × Hv × Nat × Nat} {Qc : Array Value → State → Outcome → State → Prop} {h9 : Hv} {n9 : Nat} (hexec : p.tables.exec = Jvm.exec) (hb : c.code = cc) (hno : ∀ x ∈ c.exceptionTable.toList, False) (hlocks : meth.locks = false) (hK : va_K D clX (tyX dA) s) (hH : DS D dA ro h n (fD ro h9 n9) H) (hn9 : n = n9 + cells) (hS : va_S (fD ro h9 n9) s.heap H locs) {x : Nat} (hc : hC h x = some 17) (hrx : (!ro x) = true) (hres : res = (.inl x, h, cells, slots)) (hdg : decode cc pc = .ok (.athrow, 1)) :
    W p l e R s m args below meth c H locs cells slots (vy_MQ below Qc (Xt D dA ro h9 n9 res) args s res.2.2.1 res.2.2.2 (fD ro h9 n9)) (F0 m pc ls (.ref x :: rest)) := by
  subst hres
  obtain ⟨g1, fs, g2⟩ := hC_spec hc
  have hro : ro x = false := by
    cases hq : ro x with
    | false => rfl
    | true => rw [hq] at hrx; cases hrx
  have hat := hH.2.2.2.2 x g1 hro
  rw [g2] at hat
  obtain ⟨r, h1, cell, q1, q2, q3, q4⟩ := hat
  have hr : r = (RX5, TX5, 8) := Option.some.inj (h1.symm.trans rfl)
  subst hr
  refine vy_athrow hexec hb hdg (vy_out (E := RX5) (ce := cell) (fun z hz => (hno z hz).elim) hlocks q1 q3 ?_ (fun t9 ht9 _ => ⟨(), trivial, ⟨rfl, rfl, hH.1.kept (fun q hq _ => by rw [ht9]), by rw [ht9]; show H.size = n9 + cells; rw [hH.2.1]; exact hn9, hH.2.2.1, by rw [ht9]; exact hH.2.2.2.2⟩, hS.F ht9⟩) hS.2.2 (Nat.le_refl _) (Nat.le_refl _))
  rw [q2]
  exact (hK.1 17 _ rfl).2.1
theorem xdr_i {r : Int32} {a : Array Value} (hr : va_Run p l e R s m args below meth c H locs cells slots 0 0 (F0 m pc ls st0) rest (Qri r a) nA) (hH : DS D dA ro h n A H) (hn : n = s.heap.size + cells) (hS : va_S A H0 H locs)
    (kk : ∀ (H1 : Heap) (locs1 : List Loc), DS D dA ro h n A H1 → va_S A H0 H1 locs1 → W p l e R s m args below meth c H1 locs1 cells slots Q (F0 m (pc + 3) ls (.int r :: rest))) : W p l e R s m args below meth c H locs cells slots Q (F0 m pc ls st0) := by
  refine va_calli hr hS (fun q _ h => h.elim) (fun _ h => h.elim) (fun x u t H1 locs1 ht _ hp _ hz hk hS1 => W_size (fun hz9 => ?_))
  subst hp
  exact kk H1 locs1 (hH.kept (by have := hH.2.1; simp only [Nat.add_zero] at hz9; omega) (fun q hq => hk q hq (fun z => z))) hS1
theorem xdr_z {r : Int32} {a : Array Value} (hr : va_Run p l e R s m args below meth c H locs cells slots 0 0 (F0 m pc ls st0) rest (Qrz r a) nA) (hH : DS D dA ro h n A H) (hn : n = s.heap.size + cells) (hS : va_S A H0 H locs)
    (kk : ∀ (H1 : Heap) (locs1 : List Loc), r = 0 ∨ r = 1 → DS D dA ro h n A H1 → va_S A H0 H1 locs1 → W p l e R s m args below meth c H1 locs1 cells slots Q (F0 m (pc + 3) ls (.int r :: rest))) : W p l e R s m args below meth c H locs cells slots Q (F0 m pc ls st0) := by
  refine va_calli hr hS (fun q _ h => h.elim) (fun _ h => h.elim) (fun x u t H1 locs1 ht _ hp _ hz hk hS1 => W_size (fun hz9 => ?_))
  obtain ⟨hp, h01⟩ := hp
  subst hp
  exact kk H1 locs1 h01 (hH.kept (by have := hH.2.1; simp only [Nat.add_zero] at hz9; omega) (fun q hq => hk q hq (fun z => z))) hS1
theorem xdr_a {r : Nat} {a : Array Value} (hr : va_Run p l e R s m args below meth c H locs cells slots 0 0 (F0 m pc ls st0) rest (Qra r a) nA) (hH : DS D dA ro h n A H) (hn : n = s.heap.size + cells) (hS : va_S A H0 H locs)
    (kk : ∀ (H1 : Heap) (locs1 : List Loc), DS D dA ro h n A H1 → va_S A H0 H1 locs1 → W p l e R s m args below meth c H1 locs1 cells slots Q (F0 m (pc + 3) ls (.ref r :: rest))) : W p l e R s m args below meth c H locs cells slots Q (F0 m pc ls st0) := by
  refine va_callr hr hS (fun q _ h => h.elim) (fun _ h => h.elim) (fun u ra t H1 locs1 ht _ hp hB hz hk hS1 => W_size (fun hz9 => ?_))
  subst hB
  subst hp
  exact kk H1 locs1 (hH.kept (by have := hH.2.1; simp only [Nat.add_zero] at hz9; omega) (fun q hq => hk q hq (fun z => z))) hS1
/-! the ends: with what was made -/
theorem DS.de {h9 : Hv} {n9 : Nat} (hH : DS D dA ro h n (fD ro h9 n9) H) (hn9 : n = n9 + cells) : DE D dA ro h9 n9 (h, cells, slots) H := ⟨hH.1, hH.2.1.trans hn9, hH.2.2.1, hH.2.2.2.2⟩
theorem xe_di {res : Int32 × Hv × Nat × Nat} {h9 : Hv} {n9 : Nat} (hexec : p.tables.exec = Jvm.exec) (hb : c.code = cc) (hr : meth.sig.returnType = some .int) (hlocks : meth.locks = false) (hH : DS D dA ro h n (fD ro h9 n9) H) (hn9 : n = n9 + cells) (hS : va_S (fD ro h9 n9) s.heap H locs) {v : Int32} (hres : res = (v, h, cells, slots)) (hdg : decode cc pc = .ok (.ireturn, 1)) :
    W p l e R s m args below meth c H locs cells slots (MQ below (Qdi D dA ro h9 n9 res) args s res.2.2.1 res.2.2.2 (fD ro h9 n9)) (F0 m pc ls [.int v]) := by
  subst hres
  exact W.iret hexec hb hr (fun t ht _ => ⟨⟨v, (), rfl, rfl, (show DE D dA ro h9 n9 (h, cells, slots) t.heap from by rw [ht]; exact hH.de hn9)⟩, hS.F ht⟩) hS.2.2 hdg hlocks
theorem xe_dz {res : Int32 × Hv × Nat × Nat} {h9 : Hv} {n9 : Nat} (hexec : p.tables.exec = Jvm.exec) (hb : c.code = cc) (hr : meth.sig.returnType = some .boolean) (hlocks : meth.locks = false) (hH : DS D dA ro h n (fD ro h9 n9) H) (hn9 : n = n9 + cells) (hS : va_S (fD ro h9 n9) s.heap H locs) {v : Int32} (h01 : v = 0 ∨ v = 1) (hres : res = (v, h, cells, slots)) (hdg : decode cc pc = .ok (.ireturn, 1)) :
    W p l e R s m args below meth c H locs cells slots (MQ below (Qdz D dA ro h9 n9 res) args s res.2.2.1 res.2.2.2 (fD ro h9 n9)) (F0 m pc ls [.int v]) := by
  subst hres
  exact W.zret hexec hb hr (by rcases h01 with rfl | rfl <;> decide +kernel) (fun t ht _ => ⟨⟨v, (), rfl, ⟨rfl, h01⟩, (show DE D dA ro h9 n9 (h, cells, slots) t.heap from by rw [ht]; exact hH.de hn9)⟩, hS.F ht⟩) hS.2.2 hdg hlocks
theorem xe_da {rt : FieldType} (hrt : (∃ x, rt = .object x) ∨ ∃ x, rt = .array x) {res : Nat × Hv × Nat × Nat} {h9 : Hv} {n9 : Nat} (hexec : p.tables.exec = Jvm.exec) (hb : c.code = cc) (hr : meth.sig.returnType = some rt) (hlocks : meth.locks = false) (hH : DS D dA ro h n (fD ro h9 n9) H) (hn9 : n = n9 + cells) (hS : va_S (fD ro h9 n9) s.heap H locs) {v : Nat} (hres : res = (v, h, cells, slots)) (hdg : decode cc pc = .ok (.areturn, 1)) :
    W p l e R s m args below meth c H locs cells slots (MQ below (Qda D dA ro h9 n9 res) args s res.2.2.1 res.2.2.2 (fD ro h9 n9)) (F0 m pc ls [.ref v]) := by
  subst hres
  exact W.aret hexec hb hr hrt (Or.inr ⟨_, rfl⟩) (fun t ht _ => ⟨⟨v, v, rfl, rfl, rfl, (show DE D dA ro h9 n9 (h, cells, slots) t.heap from by rw [ht]; exact hH.de hn9)⟩, hS.F ht⟩) hS.2.2 hdg hlocks
theorem xe_dv {res : Unit × Hv × Nat × Nat} {h9 : Hv} {n9 : Nat} (hexec : p.tables.exec = Jvm.exec) (hb : c.code = cc) (hr : meth.sig.returnType = none) (hlocks : meth.locks = false) (hH : DS D dA ro h n (fD ro h9 n9) H) (hn9 : n = n9 + cells) (hS : va_S (fD ro h9 n9) s.heap H locs) (hres : res = ((), h, cells, slots)) (hdg : decode cc pc = .ok (.return_, 1)) :
    W p l e R s m args below meth c H locs cells slots (MQ below (Qdv D dA ro h9 n9 res) args s res.2.2.1 res.2.2.2 (fD ro h9 n9)) (F0 m pc ls []) := by
  subst hres
  exact W.vret hexec hb hr (fun t ht _ => ⟨⟨(), rfl, trivial, (show DE D dA ro h9 n9 (h, cells, slots) t.heap from by rw [ht]; exact hH.de hn9)⟩, hS.F ht⟩) hS.2.2 hdg hlocks
theorem xe_ti {res : (Nat ⊕ Int32) × Hv × Nat × Nat} {XC : String → Nat → State → State → Prop} {h9 : Hv} {n9 : Nat} (hexec : p.tables.exec = Jvm.exec) (hb : c.code = cc) (hr : meth.sig.returnType = some .int) (hlocks : meth.locks = false) (hH : DS D dA ro h n (fD ro h9 n9) H) (hn9 : n = n9 + cells) (hS : va_S (fD ro h9 n9) s.heap H locs) {v : Int32} (hres : res = (.inr v, h, cells, slots)) (hdg : decode cc pc = .ok (.ireturn, 1)) :
    W p l e R s m args below meth c H locs cells slots (vy_MQ below (Qti D dA ro h9 n9 res) XC args s res.2.2.1 res.2.2.2 (fD ro h9 n9)) (F0 m pc ls [.int v]) := by
  subst hres
  exact vy_ret (W.iret hexec hb hr (fun t ht _ => ⟨⟨v, (), rfl, rfl, (show DE D dA ro h9 n9 (h, cells, slots) t.heap from by rw [ht]; exact hH.de hn9)⟩, hS.F ht⟩) hS.2.2 hdg hlocks)
theorem xe_ta {rt : FieldType} (hrt : (∃ x, rt = .object x) ∨ ∃ x, rt = .array x) {res : (Nat ⊕ Nat) × Hv × Nat × Nat} {XC : String → Nat → State → State → Prop} {h9 : Hv} {n9 : Nat} (hexec : p.tables.exec = Jvm.exec) (hb : c.code = cc) (hr : meth.sig.returnType = some rt) (hlocks : meth.locks = false) (hH : DS D dA ro h n (fD ro h9 n9) H) (hn9 : n = n9 + cells) (hS : va_S (fD ro h9 n9) s.heap H locs) {v : Nat} (hres : res = (.inr v, h, cells, slots)) (hdg : decode cc pc = .ok (.areturn, 1)) :
    W p l e R s m args below meth c H locs cells slots (vy_MQ below (Qta D dA ro h9 n9 res) XC args s res.2.2.1 res.2.2.2 (fD ro h9 n9)) (F0 m pc ls [.ref v]) := by
  subst hres
  exact vy_ret (W.aret hexec hb hr hrt (Or.inr ⟨_, rfl⟩) (fun t ht _ => ⟨⟨some v, (), rfl, ⟨v, rfl, rfl⟩, (show DE D dA ro h9 n9 (h, cells, slots) t.heap from by rw [ht]; exact hH.de hn9)⟩, hS.F ht⟩) hS.2.2 hdg hlocks)
theorem xe_tv {res : (Nat ⊕ Unit) × Hv × Nat × Nat} {XC : String → Nat → State → State → Prop} {h9 : Hv} {n9 : Nat} (hexec : p.tables.exec = Jvm.exec) (hb : c.code = cc) (hr : meth.sig.returnType = none) (hlocks : meth.locks = false) (hH : DS D dA ro h n (fD ro h9 n9) H) (hn9 : n = n9 + cells) (hS : va_S (fD ro h9 n9) s.heap H locs) (hres : res = (.inr (), h, cells, slots)) (hdg : decode cc pc = .ok (.return_, 1)) :
    W p l e R s m args below meth c H locs cells slots (vy_MQ below (Qtv D dA ro h9 n9 res) XC args s res.2.2.1 res.2.2.2 (fD ro h9 n9)) (F0 m pc ls []) := by
  subst hres
  exact vy_ret (W.vret hexec hb hr (fun t ht _ => ⟨⟨(), rfl, rfl, (show DE D dA ro h9 n9 (h, cells, slots) t.heap from by rw [ht]; exact hH.de hn9)⟩, hS.F ht⟩) hS.2.2 hdg hlocks)
end XDC
