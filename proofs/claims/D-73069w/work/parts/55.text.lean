/-! text() (printed by gent.py) -/
noncomputable def X_text (G : Gs) (T : Tx) (te n : Nat) (w : Mm) : Option ((Int32 × Mm × Tx) × Nat × Nat) := (if (w.1 3 1) = 4 then some (((-1), w, T), 0, 0) else bnd (w.1 0 3) (fun (v1_2 : Int32) => bnd (mI w 0 4 0) (fun (w3 : Mm) => bnd (mI w3 0 5 (-1)) (fun (w4 : Mm) => (X_read G te n (w4.1 25) v1_2).bind (fun (qT : (Nat ⊕ Nat) × Hv × Nat × Nat) => (Sum.elim (fun (xT : Nat) => gp (!roN n xT) ((hI (hOne qT.2.1 xT) xT 17 6).bind (fun (x5 : Int32) => bnd (mI w4 0 4 x5) (fun (w7 : Mm) => (hI (hOne qT.2.1 xT) xT 17 7).bind (fun (x8 : Int32) => bnd (mI w7 0 5 x8) (fun (w10 : Mm) => bnd (mI w10 0 3 0) (fun (w11 : Mm) => some ((-1), w11, T)))))))) (fun (tT : Nat) => gp (decide (hC qT.2.1 tT = some 2)) (gp (!roN n tT) (gd (w4.1 3 1) 4 (bnd (mR w4 13 ((w4.1 3 1).toNatClampNeg) (some tT)) (fun (w12 : Mm) => bnd (mI w12 0 3 0) (fun (w14 : Mm) => bnd (mI w14 3 1 ((w14.1 3 1) + 1)) (fun (w15 : Mm) => some (((w15.1 3 1) - 1), w15, (tjn T qT.2.1 n))))))))) qT.1).bind (fun (rT : Int32 × Mm × Tx) => some (rT, qT.2.2.1, qT.2.2.2)))))))
abbrev rmX0_text (c s : Nat) : Room := { frames := 300, cells := c, slots := s, locals := 20000 }
abbrev hhX0_text : List (Nat × Nat × Nat × Nat) := [(30, 62, 70, 128), (30, 62, 96, 0), (70, 89, 96, 0), (96, 98, 96, 0)]
section XTT
variable {p : Program} {l : Launch} {e : Env} {R : Room} {s : State} {m : MethodId} {args : Array Value} {below : List Frame} {meth : Method} {c : Code} {H Hm : Heap} {locs : List Loc}
variable {D : va_G} {dA : Nat → ClassId} {E : Nat → Nat} {w w' : Mm} {T : Tx} {N n : Nat} {G : Gs} {v : Hv}
theorem xT_ig (hI : IG D dA N G s.heap) (hN : ∀ k, k < 136 → N ≤ E k) (hS : va_S (AE 136 E) s.heap H locs) : IG D dA N G H := fun j hj => ⟨(hI j hj).1, (hI j hj).2.kept (hS.2.1 _ (hI j hj).2.lt (fun ⟨k, hk, e⟩ => by have h1 := (hI j hj).1; have h2 := hN k hk; omega))⟩
theorem xT_an (hS : va_S (AE 136 E) s.heap H locs) : va_S (AN E n) s.heap H locs := ⟨hS.1, fun a h1 h2 => hS.2.1 a h1 (fun z => h2 (Or.inl z)), fun y hy => Or.inl (hS.2.2 y hy)⟩
theorem xT_end (hS : va_S (AE 136 E) Hm H locs) (hn0 : s.heap.size = n) (hM0 : s.heap.size ≤ Hm.size) (hM1 : ∀ a : Nat, a < n → ¬ AE 136 E a → Hm[a]? = s.heap[a]?) : va_S (AN E n) s.heap H locs :=
  ⟨Nat.le_trans hM0 hS.1, fun a h1 h2 => (hS.2.1 a (Nat.lt_of_lt_of_le h1 hM0) (fun z => h2 (Or.inl z))).trans (hM1 a (hn0 ▸ h1) (fun z => h2 (Or.inl z))), fun y hy => Or.inl (hS.2.2 y hy)⟩
theorem xT_old (hJs : JL D dA E T N G s s.heap) (hS : va_S (AE 136 E) Hm H locs) (hn0 : s.heap.size = n) (hM0 : s.heap.size ≤ Hm.size) (hM1 : ∀ a : Nat, a < n → ¬ AE 136 E a → Hm[a]? = s.heap[a]?) : HF D dA (tH T) H := by
  intro q hq
  have h1 := hJs.1.2.2.2.1 q hq
  have h2 := hJs.1.2.2.2.2.2.2 q hq
  exact h1.kept ((hS.2.1 q (Nat.lt_of_lt_of_le h1.lt hM0) h2).trans (hM1 q (hn0 ▸ h1.lt) h2))
theorem xT_new (hJs : JL D dA E T N G s s.heap) (hS : va_S (AE 136 E) Hm H locs) (hn0 : s.heap.size = n) (hM0 : s.heap.size ≤ Hm.size) (hM1 : ∀ a : Nat, a < n → ¬ AE 136 E a → Hm[a]? = s.heap[a]?) (hV : HF D dA v Hm) (hEn : ∀ k, k < 136 → E k < n) : HF D dA (tH (tjn T v n)) H := by
  intro q hq
  show hw_at D dA q (if n ≤ q then v.2 q else (tH T).2 q) H
  have hq' : ((tH T).1 q || (decide (n ≤ q) && v.1 q)) = true := hq
  by_cases hqn : n ≤ q
  · rw [if_pos hqn]
    have hv : v.1 q = true := by
      cases ht : (tH T).1 q with
      | true =>
        have := (hJs.1.2.2.2.1 q ht).lt
        omega
      | false =>
        rw [ht, Bool.false_or, Bool.and_eq_true] at hq'
        exact hq'.2
    exact (hV q hv).kept (hS.2.1 q (hV q hv).lt (fun ⟨k, hk, e⟩ => by have := hEn k hk; omega))
  · rw [if_neg hqn]
    rw [decide_eq_false hqn, Bool.false_and, Bool.or_false] at hq'
    exact xT_old hJs hS hn0 hM0 hM1 q hq'
theorem xT_newA (hJs : JL D dA E T N G s s.heap) (hEn : ∀ k, k < 136 → E k < n) : ∀ a, (tH (tjn T v n)).1 a = true → ¬ AE 136 E a := by
  rintro a ha ⟨k, hk, e⟩
  have ha' : ((tH T).1 a || (decide (n ≤ a) && v.1 a)) = true := ha
  rw [decide_eq_false (by have := hEn k hk; omega), Bool.false_and, Bool.or_false] at ha'
  exact hJs.1.2.2.2.2.2.2 a ha' ⟨k, hk, e⟩
theorem xT_one {x : Nat} (hV : HF D dA v Hm) (hS : va_S (AE 136 E) Hm H locs) (gx : (!roN n x) = true) (hEn : ∀ k, k < 136 → E k < n) : HF D dA (hOne v x) H := by
  intro q hq
  have hq' : (decide (q = x) && v.1 q) = true := hq
  rw [Bool.and_eq_true] at hq'
  have e1 : q = x := of_decide_eq_true hq'.1
  subst e1
  have hn : n ≤ q := by
    refine Nat.le_of_not_lt (fun z => ?_)
    rw [show roN n q = true from decide_eq_true z] at gx
    cases gx
  exact (hV q hq'.2).kept (hS.2.1 q (hV q hq'.2).lt (fun ⟨k, hk, e⟩ => by have := hEn k hk; omega))
theorem xT_tab (h : c.exceptionTable.toList.map (fun h => (h.startPc, h.endPc, h.handlerPc, h.catchType)) = hhX0_text) : ∃ (x : ExceptionTableEntry) (suf : List ExceptionTableEntry), c.exceptionTable.toList = [] ++ x :: suf ∧ covers x 58 = true ∧ x.catchType ≠ 0 ∧ x.catchType = 128 ∧ x.handlerPc = 70 := by
  cases hc : c.exceptionTable.toList with
  | nil => rw [hc] at h; cases h
  | cons x suf =>
    rw [hc] at h
    simp only [List.map_cons, hhX0_text, List.cons.injEq, Prod.mk.injEq] at h
    obtain ⟨⟨h1, h2, h3, h4⟩, -⟩ := h
    refine ⟨x, suf, rfl, ?_, by rw [h4]; decide, h4, h3⟩
    simp [covers, h1, h2]
end XTT
def PjT (D : va_G) (dA : Nat → ClassId) (E : Nat → Nat) (T : Tx) (N n : Nat) (G : Gs) (w : Mm) : Array Value → State → Prop := va_Pc [.ref (E 0)] (fun U => (va_P D clX (wl shX 136 dA E w) U.heap ∧ U.heap.size = n ∧ IG D dA N G U.heap) ∧ va_K D clX (tyX dA) U ∧ JL D dA E T N G U U.heap)
theorem xT_head {l : Launch} {y : MethodName} {cc : ByteArray} {maxL : Nat} {ret : Option FieldType} {hh : List (Nat × Nat × Nat × Nat)} {rm : Room} {Qc : Array Value → State → Outcome → State → Prop} {free : Addr → Prop} {own : String} {mc ms : Nat}
    {D : va_G} {dA : Nat → ClassId} {E : Nat → Nat} {T : Tx} {N n : Nat} {G : Gs} {w : Mm}
    (hy : plainName y.cls = true) (hyc : y.cls = own) (hn : (lg_sl [Value.ref (E 0)]).length ≤ maxL)
    (body : ∀ (p : Program) (e : Env) (s : State) (m : MethodId) (args : Array Value) (below : List Frame) (meth : Method) (c : Code) (ls : Array Slot) (Q : State → Prop), MQ below Qc args s mc ms free = Q → c.exceptionTable.toList.map (fun h => (h.startPc, h.endPc, h.handlerPc, h.catchType)) = hh → Cj p s m args meth c cc ret maxL own D dA (JL D dA E T N G) → va_P D clX (wl shX 136 dA E w) s.heap → s.heap.size = n → IG D dA N G s.heap → lv_has ls maxL (lv_args 0 [Value.ref (E 0)]) →
      W p l e rm s m args below meth c s.heap [] 0 0 Q (F0 m 0 ls [])) : Met l y (wsW_ y cc maxL ret hh) rm (PjT D dA E T N n G w) Qc mc ms free := by
  refine Met_ofWH (cc := cc) (maxL := maxL) (ret := ret) (hh := hh) hy rfl ?_
  intro p e s m args below meth c s₁ B hml htb hv
  obtain ⟨rfl, ⟨hP, hn0, hI0⟩, hK, hJ⟩ := hv
  have hts := atoms_spec (ws := wsW_ y cc maxL ret hh) B.pre
  have hts : ∀ w ∈ lw_all, w.before _ s = true := fun w h => hts w (List.mem_cons_of_mem _ h)
  have hown : s.vm.findClass own = some m.cls := hyc ▸ findClass_of_methodNamed B.named
  have hl := lv_entry [Value.ref (E 0)] hn
  rw [lg_entry_eq]
  exact body p e s m _ below meth c _ _ rfl htb ⟨B.exec, B.bytes, B.returns, B.notSynchronized, hml, hown, hts, hK, hJ⟩ hP hn0 hI0 hl
set_option maxHeartbeats 4000000 in
set_option maxRecDepth 100000 in
theorem wkX0_text (l : Launch) (hl9 : l.stackTraces = false) (D : va_G) (dA : Nat → ClassId) (E : Nat → Nat) (hE : wInj 136 E) (T : Tx) (N n : Nat) (G : Gs) (hN : ∀ k, k < 136 → N ≤ E k) (hNn : N ≤ n) (hEn : ∀ k, k < 136 → E k < n) (w : Mm) {res : (Int32 × Mm × Tx) × Nat × Nat} (hf : X_text G T (E 25) n w = some res) : Met l yX0_text (wsW_ yX0_text cX0_text 5 (some .int) hhX0_text) (rmX0_text res.2.1 res.2.2) (PjT D dA E T N n G w) (QwT D dA E n res) res.2.1 res.2.2 (AN E n) := by
  refine xT_head (by decide) rfl (Nat.le_of_ble_eq_true rfl) ?_
  intro p e s m args below meth c ls Q hQ htb C hP hn0 hI0 hl
  obtain ⟨hx, hb, hr, hlocks, hml, hown, hts, hK, hJs⟩ := C
  have hJ : JP D dA E T (JL D dA E T N G) := JL_JP hN
  have hD : wD 136 E (AE 136 E) := wD.self hE
  replace hl : lv_has ls 5 [(0, .ref (E 0))] := hl
  have hS : va_S (AE 136 E) s.heap s.heap [] := va_S.rf
  obtain ⟨H, eH⟩ : ∃ H, H = s.heap := ⟨_, rfl⟩
  obtain ⟨locs, eL⟩ : ∃ locs : List Loc, locs = [] := ⟨_, rfl⟩
  rw [← eL] at hS ⊢
  rw [← eH] at hP
  have hS : va_S (AE 136 E) s.heap H locs := by rw [eH]; exact hS
  show W p l e (rmX0_text res.2.1 res.2.2) s m args below meth c s.heap locs 0 0 Q (F0 m 0 ls [])
  rw [← eH]
  unfold X_text at hf
  refine lv_aload_n hx hb dX0_text_0 rfl (lv_at hl 0 rfl) ?_
  refine xr_get hx hb hts in_X0 hown hK hP 0 (by decide) rfl rfl 0 (by decide) (hts _ q252) (fun _ h => h) rfl (v := .ref (E 1)) rfl dX0_text_1 ?_
  refine xr_getN (host := "QuarrelsPawned") hx hb hts in_X1 hown hK hP 1 (by decide) rfl rfl 0 (by decide) (hJ.nest hJs 0 rfl) (fun _ h => h) rfl (v := .ref (E 3)) rfl dX0_text_4 ?_
  refine lv_iconst (v := 1) hx hb dX0_text_7 (by decide) ?_
  refine xr_iald hx hb hK hP 3 (by decide) rfl 0 rfl (j := 1) (vin_c (by decide)) (by decide) dX0_text_8 ?_
  refine lv_iconst (v := 4) hx hb dX0_text_9 (by decide) ?_
  refine lv_icmp_ne (tgt := 15) hx hb dX0_text_10 (by decide) (fun c1 => ?_) (fun c1 => ?_)
  · replace hf := ob_f hf c1
    refine lv_aload_n hx hb dX0_text_15 rfl (lv_at hl 0 rfl) ?_
    refine xr_get hx hb hts in_X0 hown hK hP 0 (by decide) rfl rfl 3 (by decide) (hts _ q255) (fun _ h => h) rfl (v := .int (w.1 0 3)) rfl dX0_text_16 ?_
    obtain ⟨v1_2, ev1_2, hf⟩ := ob_bnd hf
    refine xn_i ev1_2 ?_
    refine lv_istore_n (lv' := [(1, .int v1_2), (0, .ref (E 0))]) hx hb dX0_text_19 rfl hl (by decide) rfl (fun ls hl => ?_)
    refine lv_aload_n hx hb dX0_text_20 rfl (lv_at hl 1 rfl) ?_
    refine lv_iconst (v := 0) hx hb dX0_text_21 (by decide) ?_
    obtain ⟨w3, ew3, hf⟩ := ob_bnd hf
    refine xr_put hx hb hts in_X0 tyX0 tyX0_ok nmX0 hown hK hP hD hS 0 (by decide) rfl rfl 4 (by decide) (hts _ q256) (fun _ h => h) rfl rfl rfl rfl (w' := w3) ew3 dX0_text_22 (fun H locs hP hS => ?_)
    refine lv_aload_n hx hb dX0_text_25 rfl (lv_at hl 1 rfl) ?_
    refine lv_iconst (v := (-1)) hx hb dX0_text_26 (by decide) ?_
    obtain ⟨w4, ew4, hf⟩ := ob_bnd hf
    refine xr_put hx hb hts in_X0 tyX0 tyX0_ok nmX0 hown hK hP hD hS 0 (by decide) rfl rfl 5 (by decide) (hts _ q257) (fun _ h => h) rfl rfl rfl rfl (w' := w4) ew4 dX0_text_27 (fun H locs hP hS => ?_)
    refine lv_aload_n hx hb dX0_text_30 rfl (lv_at hl 1 rfl) ?_
    refine xr_get hx hb hts in_X0 hown hK hP 0 (by decide) rfl rfl 0 (by decide) (hts _ q252) (fun _ h => h) rfl (v := .ref (E 1)) rfl dX0_text_31 ?_
    refine xr_getN (host := "QuarrelsPawned") hx hb hts in_X1 hown hK hP 1 (by decide) rfl rfl 10 (by decide) (hJ.nest hJs 10 rfl) (fun _ h => h) rfl (v := .ref (E 13)) rfl dX0_text_34 ?_
    refine lv_aload_n hx hb dX0_text_37 rfl (lv_at hl 1 rfl) ?_
    refine xr_get hx hb hts in_X0 hown hK hP 0 (by decide) rfl rfl 0 (by decide) (hts _ q252) (fun _ h => h) rfl (v := .ref (E 1)) rfl dX0_text_38 ?_
    refine xr_getN (host := "QuarrelsPawned") hx hb hts in_X1 hown hK hP 1 (by decide) rfl rfl 0 (by decide) (hJ.nest hJs 0 rfl) (fun _ h => h) rfl (v := .ref (E 3)) rfl dX0_text_41 ?_
    refine lv_iconst (v := 1) hx hb dX0_text_44 (by decide) ?_
    refine xr_iald hx hb hK hP 3 (by decide) rfl 0 rfl (j := 1) (vin_c (by decide)) (by decide) dX0_text_45 ?_
    obtain ⟨qT, gT, hf⟩ := ob_bind hf
    obtain ⟨rT, hf2, hres⟩ := ob_bind hf
    obtain rfl := ob_s hres
    clear hf
    refine xt_read (rest := [.int (w4.1 3 1), .ref (E 13)]) hl9 ⟨hx, hb, hml, hown, hts⟩ hK hN (hJ.at hJs hS).2 (xT_ig hI0 hN hS) hP ⟨hS.1, fun a h1 h2 => hS.2.1 a h1 (fun z => h2 (Or.inl z)), fun y hy => Or.inl (hS.2.2 y hy)⟩ hn0 hNn hEn (lv_sub hl [1, 0] rfl) gT ⟨Nat.le_refl _, Nat.le_refl _⟩ ⟨Nat.le_of_ble_eq_true rfl, Nat.le_of_ble_eq_true rfl⟩ (Nat.le_of_ble_eq_true rfl) (fun xT ce Hm locs hx1 hz1 hP ho1 hV hfl hce hv hcl => ?_) (fun tT Hm locs hx1 hz1 hP ho1 hV hfl => ?_)
    · have hf := hf2
      rw [hx1] at hf
      have hM0 : s.heap.size ≤ Hm.size := Nat.le_trans hS.1 hz1
      have hM1 : ∀ a : Nat, a < n → ¬ AE 136 E a → Hm[a]? = s.heap[a]? := fun a ha hna => (ho1 a ha).trans (hS.2.1 a (hn0 ▸ ha) hna)
      simp only [Sum.elim_inl] at hf
      obtain ⟨gx, hf⟩ := ob_gp hf
      obtain ⟨x4, suf4, hx4⟩ := xT_tab htb
      refine vy_catch hown [] x4 suf4 hx4.1 (fun z hz => nomatch hz) hx4.2.1 hx4.2.2.1 (name := RX5) (by rw [hx4.2.2.2.1]; exact hts _ q342) ((((hJ.at hJs hS).2.2.1 _ (List.mem_of_getElem? (i := 12) rfl))).use rfl) hce hv hcl ?_
      rw [hx4.2.2.2.2]
      have hS : va_S (AE 136 E) Hm Hm locs := ⟨Nat.le_refl _, fun _ _ _ => rfl, hfl⟩
      obtain ⟨H, eHm⟩ : ∃ H, H = Hm := ⟨_, rfl⟩
      rw [← eHm] at hP ⊢
      have hS : va_S (AE 136 E) Hm H locs := by rw [eHm]; exact hS
      refine lv_astore_n (lv' := [(2, .ref xT), (1, .int v1_2), (0, .ref (E 0))]) hx hb dX0_text_70 rfl hl (by decide) rfl (fun ls hl => ?_)
      refine lv_aload_n hx hb dX0_text_71 rfl (lv_at hl 2 rfl) ?_
      refine lv_aload_n hx hb dX0_text_72 rfl (lv_at hl 0 rfl) ?_
      obtain ⟨x5, g6, hf⟩ := ob_bind hf
      refine xh_getiN (host := "QuarrelsPawned") hx hb hts in_X5 hown hK (xT_one hV hS gx hEn) (ci := 17) rfl 6 (by decide) (hJ.nest hJs 13 rfl) (fun _ h => h) g6 dX0_text_73 ?_
      obtain ⟨w7, ew7, hf⟩ := ob_bnd hf
      refine xr_put hx hb hts in_X0 tyX0 tyX0_ok nmX0 hown hK hP hD hS 0 (by decide) rfl rfl 4 (by decide) (hts _ q256) (fun _ h => h) rfl rfl rfl rfl (w' := w7) ew7 dX0_text_76 (fun H locs hP hS => ?_)
      refine lv_aload_n hx hb dX0_text_79 rfl (lv_at hl 2 rfl) ?_
      refine lv_aload_n hx hb dX0_text_80 rfl (lv_at hl 0 rfl) ?_
      obtain ⟨x8, g9, hf⟩ := ob_bind hf
      refine xh_getiN (host := "QuarrelsPawned") hx hb hts in_X5 hown hK (xT_one hV hS gx hEn) (ci := 17) rfl 7 (by decide) (hJ.nest hJs 14 rfl) (fun _ h => h) g9 dX0_text_81 ?_
      obtain ⟨w10, ew10, hf⟩ := ob_bnd hf
      refine xr_put hx hb hts in_X0 tyX0 tyX0_ok nmX0 hown hK hP hD hS 0 (by decide) rfl rfl 5 (by decide) (hts _ q257) (fun _ h => h) rfl rfl rfl rfl (w' := w10) ew10 dX0_text_84 (fun H locs hP hS => ?_)
      refine lv_iconst (v := (-1)) hx hb dX0_text_87 (by decide) ?_
      refine lv_istore_n (lv' := [(3, .int (-1)), (2, .ref xT), (1, .int v1_2), (0, .ref (E 0))]) hx hb dX0_text_88 rfl hl (by decide) rfl (fun ls hl => ?_)
      refine lv_aload_n hx hb dX0_text_89 rfl (lv_at hl 3 rfl) ?_
      refine lv_iconst (v := 0) hx hb dX0_text_90 (by decide) ?_
      obtain ⟨w11, ew11, hf⟩ := ob_bnd hf
      refine xr_put hx hb hts in_X0 tyX0 tyX0_ok nmX0 hown hK hP hD hS 0 (by decide) rfl rfl 3 (by decide) (hts _ q255) (fun _ h => h) rfl rfl rfl rfl (w' := w11) ew11 dX0_text_91 (fun H locs hP hS => ?_)
      refine lv_iload_n hx hb dX0_text_94 rfl (lv_at hl 0 rfl) ?_
      obtain rfl := ob_s hf
      subst hQ
      exact xe_txt hx hb hr hlocks hP (xT_old hJs hS hn0 hM0 hM1) hJs.1.2.2.2.2.2.2 (xT_end hS hn0 hM0 hM1) rfl dX0_text_95
    · have hf := hf2
      rw [hx1] at hf
      have hM0 : s.heap.size ≤ Hm.size := Nat.le_trans hS.1 hz1
      have hM1 : ∀ a : Nat, a < n → ¬ AE 136 E a → Hm[a]? = s.heap[a]? := fun a ha hna => (ho1 a ha).trans (hS.2.1 a (hn0 ▸ ha) hna)
      simp only [Sum.elim_inr] at hf
      obtain ⟨gt0, hf⟩ := ob_gp hf
      obtain ⟨gt, hf⟩ := ob_gp hf
      have hS : va_S (AE 136 E) Hm Hm locs := ⟨Nat.le_refl _, fun _ _ _ => rfl, hfl⟩
      obtain ⟨H, eHm⟩ : ∃ H, H = Hm := ⟨_, rfl⟩
      rw [← eHm] at hP ⊢
      have hS : va_S (AE 136 E) Hm H locs := by rw [eHm]; exact hS
      obtain ⟨h13, hf⟩ := ob_gd hf
      obtain ⟨w12, ew12, hf⟩ := ob_bnd hf
      refine xr_tast hx hb hK hP hD hS 13 (by decide) rfl (xh_recv hK (show HF D dA qT.2.1 H by rw [eHm]; exact hV) (of_decide_eq_true gt0) (q := (RX4, TX4, 3)) rfl) h13 rfl ew12 dX0_text_61 (fun H locs hP hS _ _ => ?_)
      refine lv_aload_n hx hb dX0_text_62 rfl (lv_at hl 1 rfl) ?_
      refine lv_iconst (v := 0) hx hb dX0_text_63 (by decide) ?_
      obtain ⟨w14, ew14, hf⟩ := ob_bnd hf
      refine xr_put hx hb hts in_X0 tyX0 tyX0_ok nmX0 hown hK hP hD hS 0 (by decide) rfl rfl 3 (by decide) (hts _ q255) (fun _ h => h) rfl rfl rfl rfl (w' := w14) ew14 dX0_text_64 (fun H locs hP hS => ?_)
      refine lv_goto (tgt := 106) hx hb dX0_text_67 (by decide) ?_
      refine lv_aload_n hx hb dX0_text_106 rfl (lv_at hl 1 rfl) ?_
      refine xr_get hx hb hts in_X0 hown hK hP 0 (by decide) rfl rfl 0 (by decide) (hts _ q252) (fun _ h => h) rfl (v := .ref (E 1)) rfl dX0_text_107 ?_
      refine xr_getN (host := "QuarrelsPawned") hx hb hts in_X1 hown hK hP 1 (by decide) rfl rfl 0 (by decide) (hJ.nest hJs 0 rfl) (fun _ h => h) rfl (v := .ref (E 3)) rfl dX0_text_110 ?_
      refine lv_iconst (v := 1) hx hb dX0_text_113 (by decide) ?_
      refine lv_dup2_11 hx hb dX0_text_114 rfl rfl ?_
      refine xr_iald hx hb hK hP 3 (by decide) rfl 0 rfl (j := 1) (vin_c (by decide)) (by decide) dX0_text_115 ?_
      refine lv_iconst (v := 1) hx hb dX0_text_116 (by decide) ?_
      refine lv_iadd hx hb dX0_text_117 ?_
      obtain ⟨w15, ew15, hf⟩ := ob_bnd hf
      refine xr_iast hx hb hK hP hD hS 3 (by decide) rfl 0 rfl (j := 1) (w' := w15) (vin_c (by decide)) (by decide) ew15 dX0_text_118 (fun H locs hP hS => ?_)
      refine lv_aload_n hx hb dX0_text_119 rfl (lv_at hl 1 rfl) ?_
      refine xr_get hx hb hts in_X0 hown hK hP 0 (by decide) rfl rfl 0 (by decide) (hts _ q252) (fun _ h => h) rfl (v := .ref (E 1)) rfl dX0_text_120 ?_
      refine xr_getN (host := "QuarrelsPawned") hx hb hts in_X1 hown hK hP 1 (by decide) rfl rfl 0 (by decide) (hJ.nest hJs 0 rfl) (fun _ h => h) rfl (v := .ref (E 3)) rfl dX0_text_123 ?_
      refine lv_iconst (v := 1) hx hb dX0_text_126 (by decide) ?_
      refine xr_iald hx hb hK hP 3 (by decide) rfl 0 rfl (j := 1) (vin_c (by decide)) (by decide) dX0_text_127 ?_
      refine lv_iconst (v := 1) hx hb dX0_text_128 (by decide) ?_
      refine lv_isub hx hb dX0_text_129 ?_
      obtain rfl := ob_s hf
      subst hQ
      exact xe_txt hx hb hr hlocks hP (xT_new hJs hS hn0 hM0 hM1 hV hEn) (xT_newA hJs hEn) (xT_end hS hn0 hM0 hM1) rfl dX0_text_130
  · replace hf := ob_t hf c1
    refine lv_iconst (v := (-1)) hx hb dX0_text_13 (by decide) ?_
    obtain rfl := ob_s hf
    subst hQ
    exact xe_txt hx hb hr hlocks hP (hJ.at hJs hS).1.2.2.2.1 hJs.1.2.2.2.2.2.2 (xT_an hS) rfl dX0_text_14
