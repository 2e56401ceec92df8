/-! what stands beside everything: closed under a run -/
def isW9 (w : Cond) : Bool := match w with
  | .castable _ _ => true
  | .fieldLinkNest _ _ _ _ _ _ => true
  | .methodLinkNest _ _ _ _ => true
  | _ => false
theorem nw_warm {w : Cond} (hw : isW9 w = true) {s U : State} (hW : s.WarmedH U.vm) (h : va_Nw w s) : va_Nw w U := by
  unfold isW9 at hw
  split at hw
  · exact va_Nw.warmC hW h
  · exact va_Nw.warmF hW h
  · exact va_Nw.warmM hW h
  · cases hw
theorem nw_tab {w : Cond} (hw : isW9 w = true) : w.onTables = true := by
  unfold isW9 at hw
  split at hw
  · rfl
  · rfl
  · rfl
  · cases hw
theorem nw_same {w : Cond} (hw : isW9 w = true) {s U : State} (hv : s.vm = U.vm) (h : va_Nw w s) : va_Nw w U := va_Nw.same (nw_tab hw) hv h
theorem csX_9 : ∀ w ∈ csX, isW9 w = true := by decide +kernel
theorem cdX_9 : ∀ w ∈ cdX, isW9 w = true := by decide +kernel
theorem ndX_9 : ∀ w ∈ ndX, isW9 w = true := by decide +kernel
theorem nsX_9 : ∀ w ∈ nsX, isW9 w = true := by decide +kernel
theorem fwX_9 : ∀ q ∈ fwX, q.2.1.cls ≠ "java/lang/invoke/MethodHandle" ∧ q.2.1.cls ≠ "java/lang/invoke/VarHandle" := by decide +kernel
theorem TW.warm {s U : State} (hW : s.WarmedH U.vm) (h : TW s) : TW U := ⟨fun w hw => nw_warm (csX_9 w hw) hW (h.1 w hw), fun q hq => va_Fw.moved (fwX_9 q hq) hW.alike (h.2 q hq)⟩
theorem TW.same {s U : State} (hv : s.vm = U.vm) (h : TW s) : TW U := ⟨fun w hw => nw_same (csX_9 w hw) hv (h.1 w hw), fun q hq => va_Fw.moved (fwX_9 q hq) (hv ▸ Vm.Alike.refl s.vm) (h.2 q hq)⟩
theorem ZG.moved {G : Gs} {A : Nat → Prop} {u U : State} {H : Heap} (hv : u.vm.Alike U.vm) (h : ZG G A u H) : ZG G A U H := by
  obtain ⟨h1, h2, h3, h4, h5, h6, h7, h8, h9, h10, h11, h12, h13, h14⟩ := h
  exact ⟨h1.moved hv, h2.moved hv, h3.moved hv, h4.moved hv, h5.moved hv, h6.moved hv, h7.moved hv, h8.moved hv, h9.moved hv, h10.moved hv, ⟨h11.1.moved hv, h11.2.moved hv⟩, ⟨h12.1.moved hv, h12.2.moved hv⟩, h13.moved hv, h14.moved hv⟩
theorem ZG.kept {G : Gs} {A : Nat → Prop} {U : State} {H H1 : Heap} (h : ZG G A U H) (hq : ∀ a : Nat, a < H.size → ¬ A a → H1[a]? = H[a]?) : ZG G A U H1 := by
  obtain ⟨h1, h2, h3, h4, h5, h6, h7, h8, h9, h10, h11, h12, h13, h14⟩ := h
  exact ⟨h1.kept hq, h2.kept hq, h3.kept hq, h4.kept hq, h5.kept hq, h6.kept hq, h7.kept hq, h8.kept hq, h9.kept hq, h10.kept hq, ⟨h11.1.kept hq, h11.2.kept hq⟩, ⟨h12.1.kept hq, h12.2.kept hq⟩, h13.kept hq, h14.kept hq⟩
theorem FD.warm {ro : Nat → Bool} {G : Gs} {s U : State} {H : Heap} (hW : s.WarmedH U.vm) (h : FD ro G s H) : FD ro G U H := by
  obtain ⟨h1, h2, h3, ⟨h4, h5, h6⟩, h7, ⟨h8, h9⟩, h10⟩ := h
  exact ⟨h1.warm hW, fun w hw => nw_warm (cdX_9 w hw) hW (h2 w hw), fun w hw => nw_warm (ndX_9 w hw) hW (h3 w hw), ⟨h4.moved hW.alike, h5.moved hW.alike, va_Nw.warmD hW h6⟩, h7.moved hW.alike, ⟨h8.moved hW.alike, h9.moved hW.alike⟩, h10.warm hW⟩
theorem FD.same {ro : Nat → Bool} {G : Gs} {s U : State} {H : Heap} (hv : s.vm = U.vm) (h : FD ro G s H) : FD ro G U H := by
  have ha : s.vm.Alike U.vm := hv ▸ Vm.Alike.refl s.vm
  obtain ⟨h1, h2, h3, ⟨h4, h5, h6⟩, h7, ⟨h8, h9⟩, h10⟩ := h
  exact ⟨h1.same hv, fun w hw => nw_same (cdX_9 w hw) hv (h2 w hw), fun w hw => nw_same (ndX_9 w hw) hv (h3 w hw), ⟨h4.moved ha, h5.moved ha, va_Nw.same rfl hv h6⟩, h7.moved ha, ⟨h8.moved ha, h9.moved ha⟩, h10.same hv.symm⟩
theorem FD.kept {ro : Nat → Bool} {G : Gs} {U : State} {H H1 : Heap} (h : FD ro G U H) (hq : ∀ a : Nat, a < H.size → ro a = true → H1[a]? = H[a]?) : FD ro G U H1 := by
  obtain ⟨h1, h2, h3, h4, h7, h8, h10⟩ := h
  refine ⟨h1, h2, h3, h4, h7.kept (fun a ha hn => hq a ha ?_), h8, h10⟩
  cases hr : ro a with
  | true => rfl
  | false => exact absurd hr hn
theorem FD.more {ro ro' : Nat → Bool} {G : Gs} {U : State} {H : Heap} (h : FD ro G U H) (hr : ∀ q, ro q = true → ro' q = true) : FD ro' G U H := by
  obtain ⟨h1, h2, h3, h4, h7, h8, h10⟩ := h
  refine ⟨h1, h2, h3, h4, h7.narrow (fun q hq => ?_), h8, h10⟩
  cases hx : ro q with
  | false => rfl
  | true => rw [hr q hx] at hq; cases hq
theorem JD_FD (ro : Nat → Bool) (G : Gs) : JD ro G (FD ro G) := ⟨fun _ _ _ hW h => h.warm hW, fun _ _ _ hv h => h.same hv, fun _ _ _ _ hk h => h.kept hk, fun _ _ h => h⟩
def roN (N : Nat) : Nat → Bool := fun q => decide (q < N)
/-- what stands beside QuarrelsPawned's blocks; all that was there before is below N -/
def JL (D : va_G) (dA : Nat → ClassId) (E : Nat → Nat) (T : Tx) (N : Nat) (G : Gs) (U : State) (H : Heap) : Prop := JF D dA E T U H ∧ FD (roN N) G U H
theorem JF.warm {D : va_G} {dA : Nat → ClassId} {E : Nat → Nat} {T : Tx} {s U : State} {H : Heap} (hW : s.WarmedH U.vm) (h : JF D dA E T s H) : JF D dA E T U H := by
  obtain ⟨h1, ⟨h2, h3⟩, h4, h5, h6, h7, h8⟩ := h
  exact ⟨fun w hw => nw_warm (nsX_9 w hw) hW (h1 w hw), ⟨h2.moved hW.alike, h3.moved hW.alike⟩, h4.moved hW.alike, h5, h6.warm hW, h7, h8⟩
theorem JF.same {D : va_G} {dA : Nat → ClassId} {E : Nat → Nat} {T : Tx} {s U : State} {H : Heap} (hv : s.vm = U.vm) (h : JF D dA E T s H) : JF D dA E T U H := by
  have ha : s.vm.Alike U.vm := hv ▸ Vm.Alike.refl s.vm
  obtain ⟨h1, ⟨h2, h3⟩, h4, h5, h6, h7, h8⟩ := h
  exact ⟨fun w hw => nw_same (nsX_9 w hw) hv (h1 w hw), ⟨h2.moved ha, h3.moved ha⟩, h4.moved ha, h5, h6.same hv, h7, h8⟩
theorem JF.kept {D : va_G} {dA : Nat → ClassId} {E : Nat → Nat} {T : Tx} {U : State} {H H1 : Heap} (h : JF D dA E T U H) (hq : ∀ q : Nat, q < H.size → ¬ AE 136 E q → H1[q]? = H[q]?) : JF D dA E T U H1 := by
  obtain ⟨h1, ⟨h2, h3⟩, h4, h5, h6, h7, h8⟩ := h
  exact ⟨h1, ⟨h2.kept hq, h3.kept hq⟩, h4.kept hq, h5.kept (fun q hl hv => hq q hl (h8 q hv)), h6, h7, h8⟩
theorem JL_JP {D : va_G} {dA : Nat → ClassId} {E : Nat → Nat} {T : Tx} {N : Nat} {G : Gs} (hN : ∀ k, k < 136 → N ≤ E k) : JP D dA E T (JL D dA E T N G) := by
  refine ⟨fun s U H hW h => ⟨h.1.warm hW, h.2.warm hW⟩, fun s U H hv h => ⟨h.1.same hv, h.2.same hv⟩, fun U H H1 hz hk h => ⟨h.1.kept hk, h.2.kept (fun a ha hr => hk a ha ?_)⟩, fun U H h => h.1⟩
  rintro ⟨k, hk9, e⟩
  have h1 : a < N := of_decide_eq_true hr
  have h2 := hN k hk9
  omega
