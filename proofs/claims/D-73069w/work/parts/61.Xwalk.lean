/-! QuarrelsPawned: its methods walked (printed by run_x.py) -/
abbrev rmX0_quarrels : Room := { frames := 0, cells := 0, slots := 0, locals := 0 }
theorem cdX0_quarrels : yX0_quarrels.cls = RX0 ∧ yX0_quarrels.cls ≠ "java/lang/invoke/MethodHandle" ∧ yX0_quarrels.cls ≠ "java/lang/invoke/VarHandle" ∧ (parseMethodDescriptor yX0_quarrels.desc).map (fun d => d.parameters.length) = some 0 := by decide +kernel
set_option maxHeartbeats 4000000 in
set_option maxRecDepth 100000 in
theorem wkX0_quarrels (l : Launch) (D : va_G) (dA : Nat → ClassId) (E : Nat → Nat) (hE : wInj 136 E) (T : Tx) (J : State → Heap → Prop) (hJ : JP D dA E T J) (w : Mm)  {res : Int32} (hf : X_quarrels w = some res) : Met l yX0_quarrels (ws_ yX0_quarrels cX0_quarrels 1 (some .int)) rmX0_quarrels (Pj D dA E J [.ref (E 0)] w) (Qwi D clX shX 136 dA E res w) 0 0 (AE 136 E) := by
  refine xj_head (own := RX0) (by decide) rfl (Nat.le_of_ble_eq_true rfl) ?_
  intro p e s m args below meth c ls Q hQ C hP hl
  obtain ⟨hx, hb, hr, hlocks, hml, hown, hts, hK, hJs⟩ := C
  replace hl : lv_has ls 1 [(0, .ref (E 0))] := hl
  have hS : va_S (AE 136 E) s.heap s.heap [] := va_S.rf
  have hD : wD 136 E (AE 136 E) := wD.self hE
  unfold X_quarrels at hf
  obtain ⟨H, eH⟩ : ∃ H, H = s.heap := ⟨_, rfl⟩
  obtain ⟨locs, eL⟩ : ∃ locs : List Loc, locs = [] := ⟨_, rfl⟩
  rw [← eL] at hS ⊢
  rw [← eH] at hP
  have hS : va_S (AE 136 E) s.heap H locs := by rw [eH]; exact hS
  show W p l e rmX0_quarrels s m args below meth c s.heap locs 0 0 Q (F0 m 0 ls [])
  rw [← eH]
  refine lv_aload_n hx hb dX0_quarrels_0 rfl (lv_at hl 0 rfl) ?_
  refine xr_get hx hb hts in_X0 hown hK hP 0 (by decide) rfl rfl 0 (by decide) (hts _ q252) (fun _ h => h) rfl (v := .ref (E 1)) rfl dX0_quarrels_1 ?_
  refine xr_getN (host := "QuarrelsPawned") hx hb hts in_X1 hown hK hP 1 (by decide) rfl rfl 0 (by decide) (hJ.nest hJs 0 rfl) (fun _ h => h) rfl (v := .ref (E 3)) rfl dX0_quarrels_4 ?_
  refine lv_iconst (v := 0) hx hb dX0_quarrels_7 (by decide) ?_
  refine xr_iald hx hb hK hP 3 (by decide) rfl 0 rfl (j := 0) (vin_c (by decide)) (by decide) dX0_quarrels_8 ?_
  obtain rfl := ob_s hf
  subst hQ
  exact xe_i hx hb hr hlocks hP hS dX0_quarrels_9
abbrev rmX0_in : Room := { frames := 0, cells := 0, slots := 0, locals := 0 }
theorem cdX0_in : yX0_in.cls = RX0 ∧ yX0_in.cls ≠ "java/lang/invoke/MethodHandle" ∧ yX0_in.cls ≠ "java/lang/invoke/VarHandle" ∧ (parseMethodDescriptor yX0_in.desc).map (fun d => d.parameters.length) = some 3 := by decide +kernel
set_option maxHeartbeats 4000000 in
set_option maxRecDepth 100000 in
theorem wkX0_in (l : Launch) (D : va_G) (dA : Nat → ClassId) (E : Nat → Nat) (hE : wInj 136 E) (T : Tx) (J : State → Heap → Prop) (hJ : JP D dA E T J) (w : Mm) (a0 : Int32) (a1 : Int32) (a2 : Int32) {res : Int32} (hf : X_in a0 a1 a2 = some res) : Met l yX0_in (ws_ yX0_in cX0_in 3 (some .boolean)) rmX0_in (Pj D dA E J [.int a0, .int a1, .int a2] w) (Qwz D clX shX 136 dA E res w) 0 0 (AE 136 E) := by
  refine xj_head (own := RX0) (by decide) rfl (Nat.le_of_ble_eq_true rfl) ?_
  intro p e s m args below meth c ls Q hQ C hP hl
  obtain ⟨hx, hb, hr, hlocks, hml, hown, hts, hK, hJs⟩ := C
  replace hl : lv_has ls 3 [(0, .int a0), (1, .int a1), (2, .int a2)] := hl
  have hS : va_S (AE 136 E) s.heap s.heap [] := va_S.rf
  have hD : wD 136 E (AE 136 E) := wD.self hE
  unfold X_in at hf
  obtain ⟨H, eH⟩ : ∃ H, H = s.heap := ⟨_, rfl⟩
  obtain ⟨locs, eL⟩ : ∃ locs : List Loc, locs = [] := ⟨_, rfl⟩
  rw [← eL] at hS ⊢
  rw [← eH] at hP
  have hS : va_S (AE 136 E) s.heap H locs := by rw [eH]; exact hS
  show W p l e rmX0_in s m args below meth c s.heap locs 0 0 Q (F0 m 0 ls [])
  rw [← eH]
  refine lv_iload_n hx hb dX0_in_0 rfl (lv_at hl 0 rfl) ?_
  refine lv_iload_n hx hb dX0_in_1 rfl (lv_at hl 1 rfl) ?_
  refine lv_icmp_lt (tgt := 14) hx hb dX0_in_2 (by decide) (fun c1 => ?_) (fun c1 => ?_)
  · replace hf := ob_t hf c1
    refine lv_iconst (v := 0) hx hb dX0_in_14 (by decide) ?_
    obtain rfl := ob_s hf
    subst hQ
    exact xe_z hx hb hr hlocks hP hS (Or.inl rfl) dX0_in_15
  · replace hf := ob_f hf c1
    refine lv_iload_n hx hb dX0_in_5 rfl (lv_at hl 0 rfl) ?_
    refine lv_iload_n hx hb dX0_in_6 rfl (lv_at hl 2 rfl) ?_
    refine lv_icmp_gt (tgt := 14) hx hb dX0_in_7 (by decide) (fun c2 => ?_) (fun c2 => ?_)
    · replace hf := ob_t hf c2
      refine lv_iconst (v := 0) hx hb dX0_in_14 (by decide) ?_
      obtain rfl := ob_s hf
      subst hQ
      exact xe_z hx hb hr hlocks hP hS (Or.inl rfl) dX0_in_15
    · replace hf := ob_f hf c2
      refine lv_iconst (v := 1) hx hb dX0_in_10 (by decide) ?_
      refine lv_goto (tgt := 15) hx hb dX0_in_11 (by decide) ?_
      obtain rfl := ob_s hf
      subst hQ
      exact xe_z hx hb hr hlocks hP hS (Or.inr rfl) dX0_in_15
abbrev rmX0_isPerson : Room := { frames := 1, cells := 0, slots := 0, locals := 22 }
theorem cdX0_isPerson : yX0_isPerson.cls = RX0 ∧ yX0_isPerson.cls ≠ "java/lang/invoke/MethodHandle" ∧ yX0_isPerson.cls ≠ "java/lang/invoke/VarHandle" ∧ (parseMethodDescriptor yX0_isPerson.desc).map (fun d => d.parameters.length) = some 1 := by decide +kernel
set_option maxHeartbeats 4000000 in
set_option maxRecDepth 100000 in
theorem wkX0_isPerson (l : Launch) (D : va_G) (dA : Nat → ClassId) (E : Nat → Nat) (hE : wInj 136 E) (T : Tx) (J : State → Heap → Prop) (hJ : JP D dA E T J) (w : Mm) (a0 : Int32) {res : Int32} (hf : X_isPerson a0 = some res) : Met l yX0_isPerson (ws_ yX0_isPerson cX0_isPerson 1 (some .boolean)) rmX0_isPerson (Pj D dA E J [.int a0] w) (Qwz D clX shX 136 dA E res w) 0 0 (AE 136 E) := by
  refine xj_head (own := RX0) (by decide) rfl (Nat.le_of_ble_eq_true rfl) ?_
  intro p e s m args below meth c ls Q hQ C hP hl
  obtain ⟨hx, hb, hr, hlocks, hml, hown, hts, hK, hJs⟩ := C
  replace hl : lv_has ls 1 [(0, .int a0)] := hl
  have hS : va_S (AE 136 E) s.heap s.heap [] := va_S.rf
  have hD : wD 136 E (AE 136 E) := wD.self hE
  unfold X_isPerson at hf
  obtain ⟨H, eH⟩ : ∃ H, H = s.heap := ⟨_, rfl⟩
  obtain ⟨locs, eL⟩ : ∃ locs : List Loc, locs = [] := ⟨_, rfl⟩
  rw [← eL] at hS ⊢
  rw [← eH] at hP
  have hS : va_S (AE 136 E) s.heap H locs := by rw [eH]; exact hS
  show W p l e rmX0_isPerson s m args below meth c s.heap locs 0 0 Q (F0 m 0 ls [])
  rw [← eH]
  refine lv_iload_n hx hb dX0_isPerson_0 rfl (lv_at hl 0 rfl) ?_
  refine lv_iconst (v := 0) hx hb dX0_isPerson_1 (by decide) ?_
  refine lv_iconst (v := 5) hx hb dX0_isPerson_2 (by decide) ?_
  obtain ⟨q2, g1, hf⟩ := ob_bind hf
  refine xc_z (xj_runS (As := [.int a0, .int 0, .int 5]) (rest := []) hJ hJs hS ⟨hx, hb, hml, hown, hts⟩ (wkX0_in l D dA E hE T J hJ w a0 0 5 g1) (va_cwS 3 hts (lw_S q319 q320 q136 q321) rfl rfl rfl cdX0_in.2 ⟨Nat.le_of_ble_eq_true rfl, Nat.le_of_ble_eq_true rfl⟩) hK hP hl.1 rfl rfl (Nat.le_of_ble_eq_true rfl) dX0_isPerson_3 ⟨Nat.zero_le _, Nat.zero_le _⟩) hS hD.2 (fun H locs zq2 hP hS => ?_)
  obtain rfl := ob_s hf
  subst hQ
  exact xe_z hx hb hr hlocks hP hS zq2 dX0_isPerson_6
abbrev rmX0_isPair : Room := { frames := 2, cells := 0, slots := 0, locals := 42 }
theorem cdX0_isPair : yX0_isPair.cls = RX0 ∧ yX0_isPair.cls ≠ "java/lang/invoke/MethodHandle" ∧ yX0_isPair.cls ≠ "java/lang/invoke/VarHandle" ∧ (parseMethodDescriptor yX0_isPair.desc).map (fun d => d.parameters.length) = some 2 := by decide +kernel
set_option maxHeartbeats 4000000 in
set_option maxRecDepth 100000 in
theorem wkX0_isPair (l : Launch) (D : va_G) (dA : Nat → ClassId) (E : Nat → Nat) (hE : wInj 136 E) (T : Tx) (J : State → Heap → Prop) (hJ : JP D dA E T J) (w : Mm) (a0 : Int32) (a1 : Int32) {res : Int32} (hf : X_isPair a0 a1 = some res) : Met l yX0_isPair (ws_ yX0_isPair cX0_isPair 2 (some .boolean)) rmX0_isPair (Pj D dA E J [.int a0, .int a1] w) (Qwz D clX shX 136 dA E res w) 0 0 (AE 136 E) := by
  refine xj_head (own := RX0) (by decide) rfl (Nat.le_of_ble_eq_true rfl) ?_
  intro p e s m args below meth c ls Q hQ C hP hl
  obtain ⟨hx, hb, hr, hlocks, hml, hown, hts, hK, hJs⟩ := C
  replace hl : lv_has ls 2 [(0, .int a0), (1, .int a1)] := hl
  have hS : va_S (AE 136 E) s.heap s.heap [] := va_S.rf
  have hD : wD 136 E (AE 136 E) := wD.self hE
  unfold X_isPair at hf
  obtain ⟨H, eH⟩ : ∃ H, H = s.heap := ⟨_, rfl⟩
  obtain ⟨locs, eL⟩ : ∃ locs : List Loc, locs = [] := ⟨_, rfl⟩
  rw [← eL] at hS ⊢
  rw [← eH] at hP
  have hS : va_S (AE 136 E) s.heap H locs := by rw [eH]; exact hS
  show W p l e rmX0_isPair s m args below meth c s.heap locs 0 0 Q (F0 m 0 ls [])
  rw [← eH]
  refine lv_iload_n hx hb dX0_isPair_0 rfl (lv_at hl 0 rfl) ?_
  obtain ⟨q2, g1, hf⟩ := ob_bind hf
  refine xc_z (xj_runS (As := [.int a0]) (rest := []) hJ hJs hS ⟨hx, hb, hml, hown, hts⟩ (wkX0_isPerson l D dA E hE T J hJ w a0 g1) (va_cwS 1 hts (lw_S q316 q317 q136 q318) rfl rfl rfl cdX0_isPerson.2 ⟨Nat.le_of_ble_eq_true rfl, Nat.le_of_ble_eq_true rfl⟩) hK hP hl.1 rfl rfl (Nat.le_of_ble_eq_true rfl) dX0_isPair_1 ⟨Nat.zero_le _, Nat.zero_le _⟩) hS hD.2 (fun H locs zq2 hP hS => ?_)
  refine lv_if_eq (tgt := 23) hx hb dX0_isPair_4 (by decide) (fun c3 => ?_) (fun c3 => ?_)
  · replace hf := ob_t hf c3
    refine lv_iconst (v := 0) hx hb dX0_isPair_23 (by decide) ?_
    obtain rfl := ob_s hf
    subst hQ
    exact xe_z hx hb hr hlocks hP hS (Or.inl rfl) dX0_isPair_24
  · replace hf := ob_f hf c3
    refine lv_iload_n hx hb dX0_isPair_7 rfl (lv_at hl 1 rfl) ?_
    obtain ⟨q5, g4, hf⟩ := ob_bind hf
    refine xc_z (xj_runS (As := [.int a1]) (rest := []) hJ hJs hS ⟨hx, hb, hml, hown, hts⟩ (wkX0_isPerson l D dA E hE T J hJ w a1 g4) (va_cwS 1 hts (lw_S q316 q317 q136 q318) rfl rfl rfl cdX0_isPerson.2 ⟨Nat.le_of_ble_eq_true rfl, Nat.le_of_ble_eq_true rfl⟩) hK hP hl.1 rfl rfl (Nat.le_of_ble_eq_true rfl) dX0_isPair_8 ⟨Nat.zero_le _, Nat.zero_le _⟩) hS hD.2 (fun H locs zq5 hP hS => ?_)
    refine lv_if_eq (tgt := 23) hx hb dX0_isPair_11 (by decide) (fun c6 => ?_) (fun c6 => ?_)
    · replace hf := ob_t hf c6
      refine lv_iconst (v := 0) hx hb dX0_isPair_23 (by decide) ?_
      obtain rfl := ob_s hf
      subst hQ
      exact xe_z hx hb hr hlocks hP hS (Or.inl rfl) dX0_isPair_24
    · replace hf := ob_f hf c6
      refine lv_iload_n hx hb dX0_isPair_14 rfl (lv_at hl 0 rfl) ?_
      refine lv_iload_n hx hb dX0_isPair_15 rfl (lv_at hl 1 rfl) ?_
      refine lv_icmp_eq (tgt := 23) hx hb dX0_isPair_16 (by decide) (fun c7 => ?_) (fun c7 => ?_)
      · replace hf := ob_t hf c7
        refine lv_iconst (v := 0) hx hb dX0_isPair_23 (by decide) ?_
        obtain rfl := ob_s hf
        subst hQ
        exact xe_z hx hb hr hlocks hP hS (Or.inl rfl) dX0_isPair_24
      · replace hf := ob_f hf c7
        refine lv_iconst (v := 1) hx hb dX0_isPair_19 (by decide) ?_
        refine lv_goto (tgt := 24) hx hb dX0_isPair_20 (by decide) ?_
        obtain rfl := ob_s hf
        subst hQ
        exact xe_z hx hb hr hlocks hP hS (Or.inr rfl) dX0_isPair_24
abbrev rmX1_tells : Room := { frames := 0, cells := 0, slots := 0, locals := 0 }
theorem cdX1_tells : yX1_tells.cls = RX1 ∧ yX1_tells.cls ≠ "java/lang/invoke/MethodHandle" ∧ yX1_tells.cls ≠ "java/lang/invoke/VarHandle" ∧ (parseMethodDescriptor yX1_tells.desc).map (fun d => d.parameters.length) = some 2 := by decide +kernel
set_option maxHeartbeats 4000000 in
set_option maxRecDepth 100000 in
theorem wkX1_tells (l : Launch) (D : va_G) (dA : Nat → ClassId) (E : Nat → Nat) (hE : wInj 136 E) (T : Tx) (J : State → Heap → Prop) (hJ : JP D dA E T J) (w : Mm) (a1 : Int32) (a2 : Int32) {res : Mm} (hf : X_X1_tells w a1 a2 = some res) : Met l yX1_tells (ws_ yX1_tells cX1_tells 4 (none)) rmX1_tells (Pj D dA E J [.ref (E 1), .int a1, .int a2] w) (Qwv D clX shX 136 dA E res) 0 0 (AE 136 E) := by
  refine xj_head (own := RX1) (by decide) rfl (Nat.le_of_ble_eq_true rfl) ?_
  intro p e s m args below meth c ls Q hQ C hP hl
  obtain ⟨hx, hb, hr, hlocks, hml, hown, hts, hK, hJs⟩ := C
  replace hl : lv_has ls 4 [(0, .ref (E 1)), (1, .int a1), (2, .int a2)] := hl
  have hS : va_S (AE 136 E) s.heap s.heap [] := va_S.rf
  have hD : wD 136 E (AE 136 E) := wD.self hE
  unfold X_X1_tells at hf
  obtain ⟨H, eH⟩ : ∃ H, H = s.heap := ⟨_, rfl⟩
  obtain ⟨locs, eL⟩ : ∃ locs : List Loc, locs = [] := ⟨_, rfl⟩
  rw [← eL] at hS ⊢
  rw [← eH] at hP
  have hS : va_S (AE 136 E) s.heap H locs := by rw [eH]; exact hS
  show W p l e rmX1_tells s m args below meth c s.heap locs 0 0 Q (F0 m 0 ls [])
  rw [← eH]
  refine lv_aload_n hx hb dX1_tells_0 rfl (lv_at hl 0 rfl) ?_
  refine xr_get hx hb hts in_X1 hown hK hP 1 (by decide) rfl rfl 1 (by decide) (hts _ q194) (fun _ h => h) rfl (v := .ref (E 4)) rfl dX1_tells_1 ?_
  refine lv_iload_n hx hb dX1_tells_4 rfl (lv_at hl 1 rfl) ?_
  refine lv_iload_n hx hb dX1_tells_5 rfl (lv_at hl 2 rfl) ?_
  obtain ⟨h1, hf⟩ := ob_gd hf
  obtain ⟨w2, ew2, hf⟩ := ob_bnd hf
  refine xr_iast hx hb hK hP hD hS 4 (by decide) rfl 0 rfl (j := a1.toNatClampNeg) (w' := w2) h1 rfl ew2 dX1_tells_6 (fun H locs hP hS => ?_)
  refine lv_iconst (v := 0) hx hb dX1_tells_7 (by decide) ?_
  refine lv_istore_n (lv' := [(3, .int 0), (0, .ref (E 1)), (1, .int a1), (2, .int a2)]) hx hb dX1_tells_8 rfl hl (by decide) rfl (fun ls hl => ?_)
  obtain ⟨b5, hb5, hf⟩ := ob_bind hf
  obtain ⟨n5, hn5⟩ := lp_some hb5
  have kL9 : ∀ (n : Nat) (w3 : Mm) (v3_4 : Int32), lpF (fun (q5 : Mm × Int32) => X_X1_tells_b9 a1 a2 q5.1 q5.2) n (w3, v3_4) = some b5 → (∀ (H : Heap) (locs : List Loc) (ls : Array Slot), va_P D clX (wl shX 136 dA E b5) H → va_S (AE 136 E) s.heap H locs → lv_has ls 4 [] → W p l e rmX1_tells s m args below meth c H locs 0 0 Q (F0 m 34 ls [])) → ∀ (H : Heap) (locs : List Loc) (ls : Array Slot), va_P D clX (wl shX 136 dA E w3) H → va_S (AE 136 E) s.heap H locs → lv_has ls 4 [(0, .ref (E 1)), (1, .int a1), (2, .int a2), (3, .int v3_4)] → W p l e rmX1_tells s m args below meth c H locs 0 0 Q (F0 m 9 ls []) := by
    intro n
    induction n with
    | zero =>
      intro w3 v3_4 hq9
      cases hq9
    | succ n ih =>
      intro w3 v3_4 hq9 K5_0 H locs ls hP hS hl
      obtain ⟨r5, hf, h5a, h5b⟩ := lpF_step hq9
      replace hf : X_X1_tells_b9 a1 a2 w3 v3_4 = some r5 := hf
      unfold X_X1_tells_b9 at hf
      refine lv_iload_n hx hb dX1_tells_9 rfl (lv_at hl 3 rfl) ?_
      refine lv_aload_n hx hb dX1_tells_10 rfl (lv_at hl 0 rfl) ?_
      refine xr_get hx hb hts in_X1 hown hK hP 1 (by decide) rfl rfl 0 (by decide) (hts _ q192) (fun _ h => h) rfl (v := .ref (E 3)) rfl dX1_tells_11 ?_
      refine lv_iconst (v := 3) hx hb dX1_tells_14 (by decide) ?_
      refine xr_iald hx hb hK hP 3 (by decide) rfl 0 rfl (j := 3) (vin_c (by decide)) (by decide) dX1_tells_15 ?_
      refine lv_icmp_ge (tgt := 34) hx hb dX1_tells_16 (by decide) (fun c6 => ?_) (fun c6 => ?_)
      · replace hf := ob_t hf c6
        obtain rfl := ob_s hf
        obtain rfl := h5b _ rfl
        exact K5_0 H locs ls hP hS (lv_sub hl [] rfl)
      · replace hf := ob_f hf c6
        refine lv_aload_n hx hb dX1_tells_19 rfl (lv_at hl 0 rfl) ?_
        refine xr_get hx hb hts in_X1 hown hK hP 1 (by decide) rfl rfl 9 (by decide) (hts _ q210) (fun _ h => h) rfl (v := .ref (E 12)) rfl dX1_tells_20 ?_
        refine lv_iload_n hx hb dX1_tells_23 rfl (lv_at hl 3 rfl) ?_
        obtain ⟨h7, hf⟩ := ob_gd hf
        refine xr_aald hx hb hK hP 12 (by decide) rfl (j := v3_4.toNatClampNeg) h7 rfl dX1_tells_24 ?_
        refine lv_iload_n hx hb dX1_tells_25 rfl (lv_at hl 1 rfl) ?_
        refine lv_iload_n hx hb dX1_tells_26 rfl (lv_at hl 2 rfl) ?_
        obtain ⟨h8, hf⟩ := ob_gd hf
        obtain ⟨w9, ew9, hf⟩ := ob_bnd hf
        refine xr_iast hx hb hK hP hD hS (52 + v3_4.toNatClampNeg) (by have := vin_lt h7; omega) (shX_r2 (by have := vin_lt h7; omega)) 0 rfl (j := a1.toNatClampNeg) (w' := w9) h8 rfl ew9 dX1_tells_27 (fun H locs hP hS => ?_)
        obtain ⟨v3_10, ev3_10, hf⟩ := ob_bnd hf
        refine lv_iinc (v := v3_10) (lv' := [(3, .int v3_10), (0, .ref (E 1)), (1, .int a1), (2, .int a2)]) hx hb dX1_tells_28 hl (k := 3) rfl (by rw [ev3_10]; rfl) (by decide) rfl (fun ls hl => ?_)
        refine lv_goto (tgt := 9) hx hb dX1_tells_31 (by decide) ?_
        obtain rfl := ob_s hf
        exact ih _ _ (h5a _ rfl) K5_0 H locs ls hP hS (lv_sub hl [1, 2, 3, 0] rfl)
  refine kL9 n5 w2 0 hn5 (fun H locs ls hP hS hl => ?_) H locs ls hP hS (lv_sub hl [1, 2, 3, 0] rfl)
  replace hf : X_X1_tells_x9_34 b5 = some res := hf
  unfold X_X1_tells_x9_34 at hf
  obtain rfl := ob_s hf
  subst hQ
  exact xe_v hx hb hr hlocks hP hS dX1_tells_34
abbrev rmX0_quarrel : Room := { frames := 3, cells := 0, slots := 0, locals := 63 }
theorem cdX0_quarrel : yX0_quarrel.cls = RX0 ∧ yX0_quarrel.cls ≠ "java/lang/invoke/MethodHandle" ∧ yX0_quarrel.cls ≠ "java/lang/invoke/VarHandle" ∧ (parseMethodDescriptor yX0_quarrel.desc).map (fun d => d.parameters.length) = some 4 := by decide +kernel
set_option maxHeartbeats 4000000 in
set_option maxRecDepth 100000 in
theorem wkX0_quarrel (l : Launch) (D : va_G) (dA : Nat → ClassId) (E : Nat → Nat) (hE : wInj 136 E) (T : Tx) (J : State → Heap → Prop) (hJ : JP D dA E T J) (w : Mm) (a1 : Int32) (a2 : Int32) (a3 : Int32) (a4 : Int32) {res : Int32 × Mm} (hf : X_quarrel w a1 a2 a3 a4 = some res) : Met l yX0_quarrel (ws_ yX0_quarrel cX0_quarrel 6 (some .int)) rmX0_quarrel (Pj D dA E J [.ref (E 0), .int a1, .int a2, .int a3, .int a4] w) (Qwi D clX shX 136 dA E res.1 res.2) 0 0 (AE 136 E) := by
  refine xj_head (own := RX0) (by decide) rfl (Nat.le_of_ble_eq_true rfl) ?_
  intro p e s m args below meth c ls Q hQ C hP hl
  obtain ⟨hx, hb, hr, hlocks, hml, hown, hts, hK, hJs⟩ := C
  replace hl : lv_has ls 6 [(0, .ref (E 0)), (1, .int a1), (2, .int a2), (3, .int a3), (4, .int a4)] := hl
  have hS : va_S (AE 136 E) s.heap s.heap [] := va_S.rf
  have hD : wD 136 E (AE 136 E) := wD.self hE
  unfold X_quarrel at hf
  obtain ⟨H, eH⟩ : ∃ H, H = s.heap := ⟨_, rfl⟩
  obtain ⟨locs, eL⟩ : ∃ locs : List Loc, locs = [] := ⟨_, rfl⟩
  rw [← eL] at hS ⊢
  rw [← eH] at hP
  have hS : va_S (AE 136 E) s.heap H locs := by rw [eH]; exact hS
  show W p l e rmX0_quarrel s m args below meth c s.heap locs 0 0 Q (F0 m 0 ls [])
  rw [← eH]
  refine lv_aload_n hx hb dX0_quarrel_0 rfl (lv_at hl 0 rfl) ?_
  obtain ⟨q2, g1, hf⟩ := ob_bind hf
  refine xc_i (xj_run (As := []) (rest := []) hJ hJs hS ⟨hx, hb, hml, hown, hts⟩ (k0 := 0) (wkX0_quarrels l D dA E hE T J hJ w g1) (cwV 0 hts (lw_V q309 q311 qs0 q136 q312) rfl rfl rfl cdX0_quarrels ⟨Nat.le_of_ble_eq_true rfl, Nat.le_of_ble_eq_true rfl⟩) hK hP (by decide) rfl rfl rfl hl.1 rfl rfl (Nat.le_of_ble_eq_true rfl) dX0_quarrel_1 ⟨Nat.zero_le _, Nat.zero_le _⟩) hS hD.2 (fun H locs hP hS => ?_)
  refine lv_istore (lv' := [(5, .int q2), (0, .ref (E 0)), (1, .int a1), (2, .int a2), (3, .int a3), (4, .int a4)]) hx hb dX0_quarrel_4 hl (by decide) rfl (fun ls hl => ?_)
  refine lv_iload_n hx hb dX0_quarrel_6 rfl (lv_at hl 2 rfl) ?_
  refine lv_iload_n hx hb dX0_quarrel_7 rfl (lv_at hl 3 rfl) ?_
  obtain ⟨q4, g3, hf⟩ := ob_bind hf
  refine xc_z (xj_runS (As := [.int a1, .int a2]) (rest := []) hJ hJs hS ⟨hx, hb, hml, hown, hts⟩ (wkX0_isPair l D dA E hE T J hJ w a1 a2 g3) (va_cwS 2 hts (lw_S q313 q314 q136 q315) rfl rfl rfl cdX0_isPair.2 ⟨Nat.le_of_ble_eq_true rfl, Nat.le_of_ble_eq_true rfl⟩) hK hP hl.1 rfl rfl (Nat.le_of_ble_eq_true rfl) dX0_quarrel_8 ⟨Nat.zero_le _, Nat.zero_le _⟩) hS hD.2 (fun H locs zq4 hP hS => ?_)
  refine lv_if_eq (tgt := 42) hx hb dX0_quarrel_11 (by decide) (fun c5 => ?_) (fun c5 => ?_)
  · replace hf := ob_t hf c5
    refine lv_iconst (v := (-1)) hx hb dX0_quarrel_42 (by decide) ?_
    obtain rfl := ob_s hf
    subst hQ
    exact xe_i hx hb hr hlocks hP hS dX0_quarrel_43
  · replace hf := ob_f hf c5
    refine lv_iload_n hx hb dX0_quarrel_14 rfl (lv_at hl 4 rfl) ?_
    refine lv_iconst (v := 1) hx hb dX0_quarrel_15 (by decide) ?_
    refine lv_bipush (v := 99) hx hb dX0_quarrel_16 (by decide) ?_
    obtain ⟨q7, g6, hf⟩ := ob_bind hf
    refine xc_z (xj_runS (As := [.int a3, .int 1, .int 99]) (rest := []) hJ hJs hS ⟨hx, hb, hml, hown, hts⟩ (wkX0_in l D dA E hE T J hJ w a3 1 99 g6) (va_cwS 3 hts (lw_S q319 q320 q136 q321) rfl rfl rfl cdX0_in.2 ⟨Nat.le_of_ble_eq_true rfl, Nat.le_of_ble_eq_true rfl⟩) hK hP hl.1 rfl rfl (Nat.le_of_ble_eq_true rfl) dX0_quarrel_18 ⟨Nat.zero_le _, Nat.zero_le _⟩) hS hD.2 (fun H locs zq7 hP hS => ?_)
    refine lv_if_eq (tgt := 42) hx hb dX0_quarrel_21 (by decide) (fun c8 => ?_) (fun c8 => ?_)
    · replace hf := ob_t hf c8
      refine lv_iconst (v := (-1)) hx hb dX0_quarrel_42 (by decide) ?_
      obtain rfl := ob_s hf
      subst hQ
      exact xe_i hx hb hr hlocks hP hS dX0_quarrel_43
    · replace hf := ob_f hf c8
      refine lv_iload hx hb dX0_quarrel_24 (lv_at hl 5 rfl) ?_
      refine lv_iconst (v := 0) hx hb dX0_quarrel_26 (by decide) ?_
      refine lv_bipush (v := 9) hx hb dX0_quarrel_27 (by decide) ?_
      obtain ⟨q10, g9, hf⟩ := ob_bind hf
      refine xc_z (xj_runS (As := [.int a4, .int 0, .int 9]) (rest := []) hJ hJs hS ⟨hx, hb, hml, hown, hts⟩ (wkX0_in l D dA E hE T J hJ w a4 0 9 g9) (va_cwS 3 hts (lw_S q319 q320 q136 q321) rfl rfl rfl cdX0_in.2 ⟨Nat.le_of_ble_eq_true rfl, Nat.le_of_ble_eq_true rfl⟩) hK hP hl.1 rfl rfl (Nat.le_of_ble_eq_true rfl) dX0_quarrel_29 ⟨Nat.zero_le _, Nat.zero_le _⟩) hS hD.2 (fun H locs zq10 hP hS => ?_)
      refine lv_if_eq (tgt := 42) hx hb dX0_quarrel_32 (by decide) (fun c11 => ?_) (fun c11 => ?_)
      · replace hf := ob_t hf c11
        refine lv_iconst (v := (-1)) hx hb dX0_quarrel_42 (by decide) ?_
        obtain rfl := ob_s hf
        subst hQ
        exact xe_i hx hb hr hlocks hP hS dX0_quarrel_43
      · replace hf := ob_f hf c11
        refine lv_iload hx hb dX0_quarrel_35 (lv_at hl 0 rfl) ?_
        refine lv_bipush (v := 8) hx hb dX0_quarrel_37 (by decide) ?_
        refine lv_icmp_ne (tgt := 44) hx hb dX0_quarrel_39 (by decide) (fun c12 => ?_) (fun c12 => ?_)
        · replace hf := ob_f hf c12
          refine lv_aload_n hx hb dX0_quarrel_44 rfl (lv_at hl 1 rfl) ?_
          refine xr_get hx hb hts in_X0 hown hK hP 0 (by decide) rfl rfl 0 (by decide) (hts _ q252) (fun _ h => h) rfl (v := .ref (E 1)) rfl dX0_quarrel_45 ?_
          refine xr_getN (host := "QuarrelsPawned") hx hb hts in_X1 hown hK hP 1 (by decide) rfl rfl 2 (by decide) (hJ.nest hJs 2 rfl) (fun _ h => h) rfl (v := .ref (E 5)) rfl dX0_quarrel_48 ?_
          refine lv_iload hx hb dX0_quarrel_51 (lv_at hl 0 rfl) ?_
          refine lv_iload_n hx hb dX0_quarrel_53 rfl (lv_at hl 2 rfl) ?_
          obtain ⟨h13, hf⟩ := ob_gd hf
          obtain ⟨w14, ew14, hf⟩ := ob_bnd hf
          refine xr_iast hx hb hK hP hD hS 5 (by decide) rfl 0 rfl (j := q2.toNatClampNeg) (w' := w14) h13 rfl ew14 dX0_quarrel_54 (fun H locs hP hS => ?_)
          refine lv_aload_n hx hb dX0_quarrel_55 rfl (lv_at hl 1 rfl) ?_
          refine xr_get hx hb hts in_X0 hown hK hP 0 (by decide) rfl rfl 0 (by decide) (hts _ q252) (fun _ h => h) rfl (v := .ref (E 1)) rfl dX0_quarrel_56 ?_
          refine xr_getN (host := "QuarrelsPawned") hx hb hts in_X1 hown hK hP 1 (by decide) rfl rfl 3 (by decide) (hJ.nest hJs 3 rfl) (fun _ h => h) rfl (v := .ref (E 6)) rfl dX0_quarrel_59 ?_
          refine lv_iload hx hb dX0_quarrel_62 (lv_at hl 0 rfl) ?_
          refine lv_iload_n hx hb dX0_quarrel_64 rfl (lv_at hl 3 rfl) ?_
          obtain ⟨h15, hf⟩ := ob_gd hf
          obtain ⟨w16, ew16, hf⟩ := ob_bnd hf
          refine xr_iast hx hb hK hP hD hS 6 (by decide) rfl 0 rfl (j := q2.toNatClampNeg) (w' := w16) h15 rfl ew16 dX0_quarrel_65 (fun H locs hP hS => ?_)
          refine lv_aload_n hx hb dX0_quarrel_66 rfl (lv_at hl 1 rfl) ?_
          refine xr_get hx hb hts in_X0 hown hK hP 0 (by decide) rfl rfl 0 (by decide) (hts _ q252) (fun _ h => h) rfl (v := .ref (E 1)) rfl dX0_quarrel_67 ?_
          refine xr_getN (host := "QuarrelsPawned") hx hb hts in_X1 hown hK hP 1 (by decide) rfl rfl 4 (by decide) (hJ.nest hJs 4 rfl) (fun _ h => h) rfl (v := .ref (E 7)) rfl dX0_quarrel_70 ?_
          refine lv_iload hx hb dX0_quarrel_73 (lv_at hl 0 rfl) ?_
          refine lv_iload_n hx hb dX0_quarrel_75 rfl (lv_at hl 4 rfl) ?_
          obtain ⟨h17, hf⟩ := ob_gd hf
          obtain ⟨w18, ew18, hf⟩ := ob_bnd hf
          refine xr_iast hx hb hK hP hD hS 7 (by decide) rfl 0 rfl (j := q2.toNatClampNeg) (w' := w18) h17 rfl ew18 dX0_quarrel_76 (fun H locs hP hS => ?_)
          refine lv_aload_n hx hb dX0_quarrel_77 rfl (lv_at hl 1 rfl) ?_
          refine xr_get hx hb hts in_X0 hown hK hP 0 (by decide) rfl rfl 0 (by decide) (hts _ q252) (fun _ h => h) rfl (v := .ref (E 1)) rfl dX0_quarrel_78 ?_
          refine xr_getN (host := "QuarrelsPawned") hx hb hts in_X1 hown hK hP 1 (by decide) rfl rfl 0 (by decide) (hJ.nest hJs 0 rfl) (fun _ h => h) rfl (v := .ref (E 3)) rfl dX0_quarrel_81 ?_
          refine lv_iconst (v := 0) hx hb dX0_quarrel_84 (by decide) ?_
          refine lv_dup2_11 hx hb dX0_quarrel_85 rfl rfl ?_
          refine xr_iald hx hb hK hP 3 (by decide) rfl 0 rfl (j := 0) (vin_c (by decide)) (by decide) dX0_quarrel_86 ?_
          refine lv_iconst (v := 1) hx hb dX0_quarrel_87 (by decide) ?_
          refine lv_iadd hx hb dX0_quarrel_88 ?_
          obtain ⟨w19, ew19, hf⟩ := ob_bnd hf
          refine xr_iast hx hb hK hP hD hS 3 (by decide) rfl 0 rfl (j := 0) (w' := w19) (vin_c (by decide)) (by decide) ew19 dX0_quarrel_89 (fun H locs hP hS => ?_)
          refine lv_aload_n hx hb dX0_quarrel_90 rfl (lv_at hl 1 rfl) ?_
          refine xr_get hx hb hts in_X0 hown hK hP 0 (by decide) rfl rfl 0 (by decide) (hts _ q252) (fun _ h => h) rfl (v := .ref (E 1)) rfl dX0_quarrel_91 ?_
          refine lv_bipush (v := 20) hx hb dX0_quarrel_94 (by decide) ?_
          refine lv_iload hx hb dX0_quarrel_96 (lv_at hl 0 rfl) ?_
          refine lv_iadd hx hb dX0_quarrel_98 ?_
          refine lv_iload hx hb dX0_quarrel_99 (lv_at hl 5 rfl) ?_
          obtain ⟨q21, g20, hf⟩ := ob_bind hf
          refine xc_v (xj_run (As := [.int (20 + q2), .int a4]) (rest := []) hJ hJs hS ⟨hx, hb, hml, hown, hts⟩ (k0 := 1) (wkX1_tells l D dA E hE T J hJ w19 (20 + q2) a4 g20) (cwV 2 hts (lw_V q322 q323 q324 q137 q325) rfl rfl rfl cdX1_tells ⟨Nat.le_of_ble_eq_true rfl, Nat.le_of_ble_eq_true rfl⟩) hK hP (by decide) rfl rfl rfl hl.1 rfl rfl (Nat.le_of_ble_eq_true rfl) dX0_quarrel_101 ⟨Nat.zero_le _, Nat.zero_le _⟩) hS hD.2 (fun H locs hP hS => ?_)
          refine lv_iload hx hb dX0_quarrel_104 (lv_at hl 0 rfl) ?_
          obtain rfl := ob_s hf
          subst hQ
          exact xe_i hx hb hr hlocks hP hS dX0_quarrel_106
        · replace hf := ob_t hf c12
          refine lv_iconst (v := (-1)) hx hb dX0_quarrel_42 (by decide) ?_
          obtain rfl := ob_s hf
          subst hQ
          exact xe_i hx hb hr hlocks hP hS dX0_quarrel_43
abbrev rmX0_put : Room := { frames := 0, cells := 0, slots := 0, locals := 0 }
theorem cdX0_put : yX0_put.cls = RX0 ∧ yX0_put.cls ≠ "java/lang/invoke/MethodHandle" ∧ yX0_put.cls ≠ "java/lang/invoke/VarHandle" ∧ (parseMethodDescriptor yX0_put.desc).map (fun d => d.parameters.length) = some 1 := by decide +kernel
set_option maxHeartbeats 4000000 in
set_option maxRecDepth 100000 in
theorem wkX0_put (l : Launch) (D : va_G) (dA : Nat → ClassId) (E : Nat → Nat) (hE : wInj 136 E) (T : Tx) (J : State → Heap → Prop) (hJ : JP D dA E T J) (w : Mm) (a1 : Int32) {res : Mm} (hf : X_put w a1 = some res) : Met l yX0_put (ws_ yX0_put cX0_put 3 (none)) rmX0_put (Pj D dA E J [.ref (E 0), .int a1] w) (Qwv D clX shX 136 dA E res) 0 0 (AE 136 E) := by
  refine xj_head (own := RX0) (by decide) rfl (Nat.le_of_ble_eq_true rfl) ?_
  intro p e s m args below meth c ls Q hQ C hP hl
  obtain ⟨hx, hb, hr, hlocks, hml, hown, hts, hK, hJs⟩ := C
  replace hl : lv_has ls 3 [(0, .ref (E 0)), (1, .int a1)] := hl
  have hS : va_S (AE 136 E) s.heap s.heap [] := va_S.rf
  have hD : wD 136 E (AE 136 E) := wD.self hE
  unfold X_put at hf
  obtain ⟨H, eH⟩ : ∃ H, H = s.heap := ⟨_, rfl⟩
  obtain ⟨locs, eL⟩ : ∃ locs : List Loc, locs = [] := ⟨_, rfl⟩
  rw [← eL] at hS ⊢
  rw [← eH] at hP
  have hS : va_S (AE 136 E) s.heap H locs := by rw [eH]; exact hS
  show W p l e rmX0_put s m args below meth c s.heap locs 0 0 Q (F0 m 0 ls [])
  rw [← eH]
  refine lv_bipush (v := 24) hx hb dX0_put_0 (by decide) ?_
  refine lv_istore_n (lv' := [(2, .int 24), (0, .ref (E 0)), (1, .int a1)]) hx hb dX0_put_2 rfl hl (by decide) rfl (fun ls hl => ?_)
  obtain ⟨b3, hb3, hf⟩ := ob_bind hf
  obtain ⟨n3, hn3⟩ := lp_some hb3
  have kL3 : ∀ (n : Nat) (w1 : Mm) (v2_2 : Int32), lpF (fun (q3 : Mm × Int32) => X_put_b3 a1 q3.1 q3.2) n (w1, v2_2) = some b3 → (∀ (H : Heap) (locs : List Loc) (ls : Array Slot), va_P D clX (wl shX 136 dA E b3) H → va_S (AE 136 E) s.heap H locs → lv_has ls 3 [] → W p l e rmX0_put s m args below meth c H locs 0 0 Q (F0 m 36 ls [])) → ∀ (H : Heap) (locs : List Loc) (ls : Array Slot), va_P D clX (wl shX 136 dA E w1) H → va_S (AE 136 E) s.heap H locs → lv_has ls 3 [(0, .ref (E 0)), (1, .int a1), (2, .int v2_2)] → W p l e rmX0_put s m args below meth c H locs 0 0 Q (F0 m 3 ls []) := by
    intro n
    induction n with
    | zero =>
      intro w1 v2_2 hq9
      cases hq9
    | succ n ih =>
      intro w1 v2_2 hq9 K3_0 H locs ls hP hS hl
      obtain ⟨r3, hf, h3a, h3b⟩ := lpF_step hq9
      replace hf : X_put_b3 a1 w1 v2_2 = some r3 := hf
      unfold X_put_b3 at hf
      refine lv_iload_n hx hb dX0_put_3 rfl (lv_at hl 2 rfl) ?_
      refine lv_if_lt (tgt := 36) hx hb dX0_put_4 (by decide) (fun c4 => ?_) (fun c4 => ?_)
      · replace hf := ob_t hf c4
        obtain rfl := ob_s hf
        obtain rfl := h3b _ rfl
        exact K3_0 H locs ls hP hS (lv_sub hl [] rfl)
      · replace hf := ob_f hf c4
        refine lv_aload_n hx hb dX0_put_7 rfl (lv_at hl 0 rfl) ?_
        refine xr_get hx hb hts in_X0 hown hK hP 0 (by decide) rfl rfl 2 (by decide) (hts _ q254) (fun _ h => h) rfl (v := .ref (E 25)) rfl dX0_put_8 ?_
        refine lv_aload_n hx hb dX0_put_11 rfl (lv_at hl 0 rfl) ?_
        refine xr_get hx hb hts in_X0 hown hK hP 0 (by decide) rfl rfl 3 (by decide) (hts _ q255) (fun _ h => h) rfl (v := .int (w1.1 0 3)) rfl dX0_put_12 ?_
        refine lv_iload_n hx hb dX0_put_15 rfl (lv_at hl 1 rfl) ?_
        refine lv_iload_n hx hb dX0_put_16 rfl (lv_at hl 2 rfl) ?_
        refine lv_ishr hx hb dX0_put_17 ?_
        refine lv_i2b hx hb dX0_put_18 rfl ?_
        obtain ⟨h5, hf⟩ := ob_gd hf
        obtain ⟨w6, ew6, hf⟩ := ob_bnd hf
        refine xr_bast hx hb hK hP hD hS 25 (by decide) rfl 1 rfl (j := (w1.1 0 3).toNatClampNeg) (w' := w6) h5 rfl (pk_vb _) ew6 dX0_put_19 (fun H locs hP hS => ?_)
        refine lv_aload_n hx hb dX0_put_20 rfl (lv_at hl 0 rfl) ?_
        refine lv_dup hx hb dX0_put_21 rfl ?_
        refine xr_get hx hb hts in_X0 hown hK hP 0 (by decide) rfl rfl 3 (by decide) (hts _ q255) (fun _ h => h) rfl (v := .int (w6.1 0 3)) rfl dX0_put_22 ?_
        refine lv_iconst (v := 1) hx hb dX0_put_25 (by decide) ?_
        refine lv_iadd hx hb dX0_put_26 ?_
        obtain ⟨w7, ew7, hf⟩ := ob_bnd hf
        refine xr_put hx hb hts in_X0 tyX0 tyX0_ok nmX0 hown hK hP hD hS 0 (by decide) rfl rfl 3 (by decide) (hts _ q255) (fun _ h => h) rfl rfl rfl rfl (w' := w7) ew7 dX0_put_27 (fun H locs hP hS => ?_)
        obtain ⟨v2_8, ev2_8, hf⟩ := ob_bnd hf
        refine lv_iinc (v := v2_8) (lv' := [(2, .int v2_8), (0, .ref (E 0)), (1, .int a1)]) hx hb dX0_put_30 hl (k := 2) rfl (by rw [ev2_8]; rfl) (by decide) rfl (fun ls hl => ?_)
        refine lv_goto (tgt := 3) hx hb dX0_put_33 (by decide) ?_
        obtain rfl := ob_s hf
        exact ih _ _ (h3a _ rfl) K3_0 H locs ls hP hS (lv_sub hl [1, 2, 0] rfl)
  refine kL3 n3 w 24 hn3 (fun H locs ls hP hS hl => ?_) H locs ls hP hS (lv_sub hl [1, 2, 0] rfl)
  replace hf : X_put_x3_36 b3 = some res := hf
  unfold X_put_x3_36 at hf
  obtain rfl := ob_s hf
  subst hQ
  exact xe_v hx hb hr hlocks hP hS dX0_put_36
abbrev rmX0_feed : Room := { frames := 1, cells := 0, slots := 0, locals := 22 }
theorem cdX0_feed : yX0_feed.cls = RX0 ∧ yX0_feed.cls ≠ "java/lang/invoke/MethodHandle" ∧ yX0_feed.cls ≠ "java/lang/invoke/VarHandle" ∧ (parseMethodDescriptor yX0_feed.desc).map (fun d => d.parameters.length) = some 5 := by decide +kernel
set_option maxHeartbeats 4000000 in
set_option maxRecDepth 100000 in
theorem wkX0_feed (l : Launch) (D : va_G) (dA : Nat → ClassId) (E : Nat → Nat) (hE : wInj 136 E) (T : Tx) (J : State → Heap → Prop) (hJ : JP D dA E T J) (w : Mm) (a1 : Int32) (a2 : Int32) (a3 : Int32) (a4 : Int32) (a5 : Int32) {res : Int32 × Mm} (hf : X_feed w a1 a2 a3 a4 a5 = some res) : Met l yX0_feed (ws_ yX0_feed cX0_feed 6 (some .int)) rmX0_feed (Pj D dA E J [.ref (E 0), .int a1, .int a2, .int a3, .int a4, .int a5] w) (Qwi D clX shX 136 dA E res.1 res.2) 0 0 (AE 136 E) := by
  refine xj_head (own := RX0) (by decide) rfl (Nat.le_of_ble_eq_true rfl) ?_
  intro p e s m args below meth c ls Q hQ C hP hl
  obtain ⟨hx, hb, hr, hlocks, hml, hown, hts, hK, hJs⟩ := C
  replace hl : lv_has ls 6 [(0, .ref (E 0)), (1, .int a1), (2, .int a2), (3, .int a3), (4, .int a4), (5, .int a5)] := hl
  have hS : va_S (AE 136 E) s.heap s.heap [] := va_S.rf
  have hD : wD 136 E (AE 136 E) := wD.self hE
  unfold X_feed at hf
  obtain ⟨H, eH⟩ : ∃ H, H = s.heap := ⟨_, rfl⟩
  obtain ⟨locs, eL⟩ : ∃ locs : List Loc, locs = [] := ⟨_, rfl⟩
  rw [← eL] at hS ⊢
  rw [← eH] at hP
  have hS : va_S (AE 136 E) s.heap H locs := by rw [eH]; exact hS
  show W p l e rmX0_feed s m args below meth c s.heap locs 0 0 Q (F0 m 0 ls [])
  rw [← eH]
  refine lv_aload_n hx hb dX0_feed_0 rfl (lv_at hl 0 rfl) ?_
  refine xr_get hx hb hts in_X0 hown hK hP 0 (by decide) rfl rfl 3 (by decide) (hts _ q255) (fun _ h => h) rfl (v := .int (w.1 0 3)) rfl dX0_feed_1 ?_
  refine lv_bipush (v := 20) hx hb dX0_feed_4 (by decide) ?_
  refine lv_iadd hx hb dX0_feed_6 ?_
  refine lv_sipush (v := 300) hx hb dX0_feed_7 (by decide) ?_
  refine lv_icmp_le (tgt := 15) hx hb dX0_feed_10 (by decide) (fun c1 => ?_) (fun c1 => ?_)
  · replace hf := ob_t hf c1
    refine lv_aload_n hx hb dX0_feed_15 rfl (lv_at hl 0 rfl) ?_
    refine lv_iload_n hx hb dX0_feed_16 rfl (lv_at hl 1 rfl) ?_
    obtain ⟨q3, g2, hf⟩ := ob_bind hf
    refine xc_v (xj_run (As := [.int a1]) (rest := []) hJ hJs hS ⟨hx, hb, hml, hown, hts⟩ (k0 := 0) (wkX0_put l D dA E hE T J hJ w a1 g2) (cwV 1 hts (lw_V q330 q332 qs1 q136 q333) rfl rfl rfl cdX0_put ⟨Nat.le_of_ble_eq_true rfl, Nat.le_of_ble_eq_true rfl⟩) hK hP (by decide) rfl rfl rfl hl.1 rfl rfl (Nat.le_of_ble_eq_true rfl) dX0_feed_17 ⟨Nat.zero_le _, Nat.zero_le _⟩) hS hD.2 (fun H locs hP hS => ?_)
    refine lv_aload_n hx hb dX0_feed_20 rfl (lv_at hl 0 rfl) ?_
    refine lv_iload_n hx hb dX0_feed_21 rfl (lv_at hl 2 rfl) ?_
    obtain ⟨q5, g4, hf⟩ := ob_bind hf
    refine xc_v (xj_run (As := [.int a2]) (rest := []) hJ hJs hS ⟨hx, hb, hml, hown, hts⟩ (k0 := 0) (wkX0_put l D dA E hE T J hJ q3 a2 g4) (cwV 1 hts (lw_V q330 q332 qs1 q136 q333) rfl rfl rfl cdX0_put ⟨Nat.le_of_ble_eq_true rfl, Nat.le_of_ble_eq_true rfl⟩) hK hP (by decide) rfl rfl rfl hl.1 rfl rfl (Nat.le_of_ble_eq_true rfl) dX0_feed_22 ⟨Nat.zero_le _, Nat.zero_le _⟩) hS hD.2 (fun H locs hP hS => ?_)
    refine lv_aload_n hx hb dX0_feed_25 rfl (lv_at hl 0 rfl) ?_
    refine lv_iload_n hx hb dX0_feed_26 rfl (lv_at hl 3 rfl) ?_
    obtain ⟨q7, g6, hf⟩ := ob_bind hf
    refine xc_v (xj_run (As := [.int a3]) (rest := []) hJ hJs hS ⟨hx, hb, hml, hown, hts⟩ (k0 := 0) (wkX0_put l D dA E hE T J hJ q5 a3 g6) (cwV 1 hts (lw_V q330 q332 qs1 q136 q333) rfl rfl rfl cdX0_put ⟨Nat.le_of_ble_eq_true rfl, Nat.le_of_ble_eq_true rfl⟩) hK hP (by decide) rfl rfl rfl hl.1 rfl rfl (Nat.le_of_ble_eq_true rfl) dX0_feed_27 ⟨Nat.zero_le _, Nat.zero_le _⟩) hS hD.2 (fun H locs hP hS => ?_)
    refine lv_aload_n hx hb dX0_feed_30 rfl (lv_at hl 0 rfl) ?_
    refine lv_iload hx hb dX0_feed_31 (lv_at hl 4 rfl) ?_
    obtain ⟨q9, g8, hf⟩ := ob_bind hf
    refine xc_v (xj_run (As := [.int a4]) (rest := []) hJ hJs hS ⟨hx, hb, hml, hown, hts⟩ (k0 := 0) (wkX0_put l D dA E hE T J hJ q7 a4 g8) (cwV 1 hts (lw_V q330 q332 qs1 q136 q333) rfl rfl rfl cdX0_put ⟨Nat.le_of_ble_eq_true rfl, Nat.le_of_ble_eq_true rfl⟩) hK hP (by decide) rfl rfl rfl hl.1 rfl rfl (Nat.le_of_ble_eq_true rfl) dX0_feed_33 ⟨Nat.zero_le _, Nat.zero_le _⟩) hS hD.2 (fun H locs hP hS => ?_)
    refine lv_aload_n hx hb dX0_feed_36 rfl (lv_at hl 0 rfl) ?_
    refine lv_iload hx hb dX0_feed_37 (lv_at hl 5 rfl) ?_
    obtain ⟨q11, g10, hf⟩ := ob_bind hf
    refine xc_v (xj_run (As := [.int a5]) (rest := []) hJ hJs hS ⟨hx, hb, hml, hown, hts⟩ (k0 := 0) (wkX0_put l D dA E hE T J hJ q9 a5 g10) (cwV 1 hts (lw_V q330 q332 qs1 q136 q333) rfl rfl rfl cdX0_put ⟨Nat.le_of_ble_eq_true rfl, Nat.le_of_ble_eq_true rfl⟩) hK hP (by decide) rfl rfl rfl hl.1 rfl rfl (Nat.le_of_ble_eq_true rfl) dX0_feed_39 ⟨Nat.zero_le _, Nat.zero_le _⟩) hS hD.2 (fun H locs hP hS => ?_)
    refine lv_aload_n hx hb dX0_feed_42 rfl (lv_at hl 0 rfl) ?_
    refine xr_get hx hb hts in_X0 hown hK hP 0 (by decide) rfl rfl 3 (by decide) (hts _ q255) (fun _ h => h) rfl (v := .int (q11.1 0 3)) rfl dX0_feed_43 ?_
    obtain rfl := ob_s hf
    subst hQ
    exact xe_i hx hb hr hlocks hP hS dX0_feed_46
  · replace hf := ob_f hf c1
    refine lv_iconst (v := (-1)) hx hb dX0_feed_13 (by decide) ?_
    obtain rfl := ob_s hf
    subst hQ
    exact xe_i hx hb hr hlocks hP hS dX0_feed_14
abbrev rmX0_end : Room := { frames := 1, cells := 0, slots := 0, locals := 22 }
theorem cdX0_end : yX0_end.cls = RX0 ∧ yX0_end.cls ≠ "java/lang/invoke/MethodHandle" ∧ yX0_end.cls ≠ "java/lang/invoke/VarHandle" ∧ (parseMethodDescriptor yX0_end.desc).map (fun d => d.parameters.length) = some 1 := by decide +kernel
set_option maxHeartbeats 4000000 in
set_option maxRecDepth 100000 in
theorem wkX0_end (l : Launch) (D : va_G) (dA : Nat → ClassId) (E : Nat → Nat) (hE : wInj 136 E) (T : Tx) (J : State → Heap → Prop) (hJ : JP D dA E T J) (w : Mm) (a1 : Int32) {res : Int32 × Mm} (hf : X_end w a1 = some res) : Met l yX0_end (ws_ yX0_end cX0_end 2 (some .int)) rmX0_end (Pj D dA E J [.ref (E 0), .int a1] w) (Qwi D clX shX 136 dA E res.1 res.2) 0 0 (AE 136 E) := by
  refine xj_head (own := RX0) (by decide) rfl (Nat.le_of_ble_eq_true rfl) ?_
  intro p e s m args below meth c ls Q hQ C hP hl
  obtain ⟨hx, hb, hr, hlocks, hml, hown, hts, hK, hJs⟩ := C
  replace hl : lv_has ls 2 [(0, .ref (E 0)), (1, .int a1)] := hl
  have hS : va_S (AE 136 E) s.heap s.heap [] := va_S.rf
  have hD : wD 136 E (AE 136 E) := wD.self hE
  unfold X_end at hf
  obtain ⟨H, eH⟩ : ∃ H, H = s.heap := ⟨_, rfl⟩
  obtain ⟨locs, eL⟩ : ∃ locs : List Loc, locs = [] := ⟨_, rfl⟩
  rw [← eL] at hS ⊢
  rw [← eH] at hP
  have hS : va_S (AE 136 E) s.heap H locs := by rw [eH]; exact hS
  show W p l e rmX0_end s m args below meth c s.heap locs 0 0 Q (F0 m 0 ls [])
  rw [← eH]
  refine lv_iload_n hx hb dX0_end_0 rfl (lv_at hl 1 rfl) ?_
  refine lv_iconst (v := 0) hx hb dX0_end_1 (by decide) ?_
  refine lv_aload_n hx hb dX0_end_2 rfl (lv_at hl 0 rfl) ?_
  refine xr_get hx hb hts in_X0 hown hK hP 0 (by decide) rfl rfl 3 (by decide) (hts _ q255) (fun _ h => h) rfl (v := .int (w.1 0 3)) rfl dX0_end_3 ?_
  obtain ⟨q2, g1, hf⟩ := ob_bind hf
  refine xc_z (xj_runS (As := [.int a1, .int 0, .int (w.1 0 3)]) (rest := []) hJ hJs hS ⟨hx, hb, hml, hown, hts⟩ (wkX0_in l D dA E hE T J hJ w a1 0 (w.1 0 3) g1) (va_cwS 3 hts (lw_S q319 q320 q136 q321) rfl rfl rfl cdX0_in.2 ⟨Nat.le_of_ble_eq_true rfl, Nat.le_of_ble_eq_true rfl⟩) hK hP hl.1 rfl rfl (Nat.le_of_ble_eq_true rfl) dX0_end_6 ⟨Nat.zero_le _, Nat.zero_le _⟩) hS hD.2 (fun H locs zq2 hP hS => ?_)
  refine lv_if_ne (tgt := 14) hx hb dX0_end_9 (by decide) (fun c3 => ?_) (fun c3 => ?_)
  · replace hf := ob_f hf c3
    refine lv_aload_n hx hb dX0_end_14 rfl (lv_at hl 0 rfl) ?_
    refine lv_iload_n hx hb dX0_end_15 rfl (lv_at hl 1 rfl) ?_
    obtain ⟨w4, ew4, hf⟩ := ob_bnd hf
    refine xr_put hx hb hts in_X0 tyX0 tyX0_ok nmX0 hown hK hP hD hS 0 (by decide) rfl rfl 3 (by decide) (hts _ q255) (fun _ h => h) rfl rfl rfl rfl (w' := w4) ew4 dX0_end_16 (fun H locs hP hS => ?_)
    refine lv_iload_n hx hb dX0_end_19 rfl (lv_at hl 1 rfl) ?_
    obtain rfl := ob_s hf
    subst hQ
    exact xe_i hx hb hr hlocks hP hS dX0_end_20
  · replace hf := ob_t hf c3
    refine lv_iconst (v := (-1)) hx hb dX0_end_12 (by decide) ?_
    obtain rfl := ob_s hf
    subst hQ
    exact xe_i hx hb hr hlocks hP hS dX0_end_13
abbrev rmX0_fault : Room := { frames := 0, cells := 0, slots := 0, locals := 0 }
theorem cdX0_fault : yX0_fault.cls = RX0 ∧ yX0_fault.cls ≠ "java/lang/invoke/MethodHandle" ∧ yX0_fault.cls ≠ "java/lang/invoke/VarHandle" ∧ (parseMethodDescriptor yX0_fault.desc).map (fun d => d.parameters.length) = some 1 := by decide +kernel
set_option maxHeartbeats 4000000 in
set_option maxRecDepth 100000 in
theorem wkX0_fault (l : Launch) (D : va_G) (dA : Nat → ClassId) (E : Nat → Nat) (hE : wInj 136 E) (T : Tx) (J : State → Heap → Prop) (hJ : JP D dA E T J) (w : Mm) (a1 : Int32) {res : Int32} (hf : X_fault w a1 = some res) : Met l yX0_fault (ws_ yX0_fault cX0_fault 2 (some .int)) rmX0_fault (Pj D dA E J [.ref (E 0), .int a1] w) (Qwi D clX shX 136 dA E res w) 0 0 (AE 136 E) := by
  refine xj_head (own := RX0) (by decide) rfl (Nat.le_of_ble_eq_true rfl) ?_
  intro p e s m args below meth c ls Q hQ C hP hl
  obtain ⟨hx, hb, hr, hlocks, hml, hown, hts, hK, hJs⟩ := C
  replace hl : lv_has ls 2 [(0, .ref (E 0)), (1, .int a1)] := hl
  have hS : va_S (AE 136 E) s.heap s.heap [] := va_S.rf
  have hD : wD 136 E (AE 136 E) := wD.self hE
  unfold X_fault at hf
  obtain ⟨H, eH⟩ : ∃ H, H = s.heap := ⟨_, rfl⟩
  obtain ⟨locs, eL⟩ : ∃ locs : List Loc, locs = [] := ⟨_, rfl⟩
  rw [← eL] at hS ⊢
  rw [← eH] at hP
  have hS : va_S (AE 136 E) s.heap H locs := by rw [eH]; exact hS
  show W p l e rmX0_fault s m args below meth c s.heap locs 0 0 Q (F0 m 0 ls [])
  rw [← eH]
  refine lv_iload_n hx hb dX0_fault_0 rfl (lv_at hl 1 rfl) ?_
  refine lv_if_ne (tgt := 11) hx hb dX0_fault_1 (by decide) (fun c1 => ?_) (fun c1 => ?_)
  · replace hf := ob_f hf c1
    refine lv_iload_n hx hb dX0_fault_11 rfl (lv_at hl 1 rfl) ?_
    refine lv_iconst (v := 1) hx hb dX0_fault_12 (by decide) ?_
    refine lv_icmp_ne (tgt := 23) hx hb dX0_fault_13 (by decide) (fun c2 => ?_) (fun c2 => ?_)
    · replace hf := ob_f hf c2
      refine lv_iconst (v := (-1)) hx hb dX0_fault_23 (by decide) ?_
      obtain rfl := ob_s hf
      subst hQ
      exact xe_i hx hb hr hlocks hP hS dX0_fault_24
    · replace hf := ob_t hf c2
      refine lv_aload_n hx hb dX0_fault_16 rfl (lv_at hl 0 rfl) ?_
      refine xr_get hx hb hts in_X0 hown hK hP 0 (by decide) rfl rfl 5 (by decide) (hts _ q257) (fun _ h => h) rfl (v := .int (w.1 0 5)) rfl dX0_fault_17 ?_
      refine lv_goto (tgt := 24) hx hb dX0_fault_20 (by decide) ?_
      obtain rfl := ob_s hf
      subst hQ
      exact xe_i hx hb hr hlocks hP hS dX0_fault_24
  · replace hf := ob_t hf c1
    refine lv_aload_n hx hb dX0_fault_4 rfl (lv_at hl 0 rfl) ?_
    refine xr_get hx hb hts in_X0 hown hK hP 0 (by decide) rfl rfl 4 (by decide) (hts _ q256) (fun _ h => h) rfl (v := .int (w.1 0 4)) rfl dX0_fault_5 ?_
    refine lv_goto (tgt := 24) hx hb dX0_fault_8 (by decide) ?_
    obtain rfl := ob_s hf
    subst hQ
    exact xe_i hx hb hr hlocks hP hS dX0_fault_24
abbrev rmX0_isText : Room := { frames := 1, cells := 0, slots := 0, locals := 22 }
theorem cdX0_isText : yX0_isText.cls = RX0 ∧ yX0_isText.cls ≠ "java/lang/invoke/MethodHandle" ∧ yX0_isText.cls ≠ "java/lang/invoke/VarHandle" ∧ (parseMethodDescriptor yX0_isText.desc).map (fun d => d.parameters.length) = some 1 := by decide +kernel
set_option maxHeartbeats 4000000 in
set_option maxRecDepth 100000 in
theorem wkX0_isText (l : Launch) (D : va_G) (dA : Nat → ClassId) (E : Nat → Nat) (hE : wInj 136 E) (T : Tx) (J : State → Heap → Prop) (hJ : JP D dA E T J) (w : Mm) (a1 : Int32) {res : Int32} (hf : X_isText w a1 = some res) : Met l yX0_isText (ws_ yX0_isText cX0_isText 2 (some .boolean)) rmX0_isText (Pj D dA E J [.ref (E 0), .int a1] w) (Qwz D clX shX 136 dA E res w) 0 0 (AE 136 E) := by
  refine xj_head (own := RX0) (by decide) rfl (Nat.le_of_ble_eq_true rfl) ?_
  intro p e s m args below meth c ls Q hQ C hP hl
  obtain ⟨hx, hb, hr, hlocks, hml, hown, hts, hK, hJs⟩ := C
  replace hl : lv_has ls 2 [(0, .ref (E 0)), (1, .int a1)] := hl
  have hS : va_S (AE 136 E) s.heap s.heap [] := va_S.rf
  have hD : wD 136 E (AE 136 E) := wD.self hE
  unfold X_isText at hf
  obtain ⟨H, eH⟩ : ∃ H, H = s.heap := ⟨_, rfl⟩
  obtain ⟨locs, eL⟩ : ∃ locs : List Loc, locs = [] := ⟨_, rfl⟩
  rw [← eL] at hS ⊢
  rw [← eH] at hP
  have hS : va_S (AE 136 E) s.heap H locs := by rw [eH]; exact hS
  show W p l e rmX0_isText s m args below meth c s.heap locs 0 0 Q (F0 m 0 ls [])
  rw [← eH]
  refine lv_iload_n hx hb dX0_isText_0 rfl (lv_at hl 1 rfl) ?_
  refine lv_iconst (v := 0) hx hb dX0_isText_1 (by decide) ?_
  refine lv_aload_n hx hb dX0_isText_2 rfl (lv_at hl 0 rfl) ?_
  refine xr_get hx hb hts in_X0 hown hK hP 0 (by decide) rfl rfl 0 (by decide) (hts _ q252) (fun _ h => h) rfl (v := .ref (E 1)) rfl dX0_isText_3 ?_
  refine xr_getN (host := "QuarrelsPawned") hx hb hts in_X1 hown hK hP 1 (by decide) rfl rfl 0 (by decide) (hJ.nest hJs 0 rfl) (fun _ h => h) rfl (v := .ref (E 3)) rfl dX0_isText_6 ?_
  refine lv_iconst (v := 1) hx hb dX0_isText_9 (by decide) ?_
  refine xr_iald hx hb hK hP 3 (by decide) rfl 0 rfl (j := 1) (vin_c (by decide)) (by decide) dX0_isText_10 ?_
  refine lv_iconst (v := 1) hx hb dX0_isText_11 (by decide) ?_
  refine lv_isub hx hb dX0_isText_12 ?_
  obtain ⟨q2, g1, hf⟩ := ob_bind hf
  refine xc_z (xj_runS (As := [.int a1, .int 0, .int ((w.1 3 1) - 1)]) (rest := []) hJ hJs hS ⟨hx, hb, hml, hown, hts⟩ (wkX0_in l D dA E hE T J hJ w a1 0 ((w.1 3 1) - 1) g1) (va_cwS 3 hts (lw_S q319 q320 q136 q321) rfl rfl rfl cdX0_in.2 ⟨Nat.le_of_ble_eq_true rfl, Nat.le_of_ble_eq_true rfl⟩) hK hP hl.1 rfl rfl (Nat.le_of_ble_eq_true rfl) dX0_isText_13 ⟨Nat.zero_le _, Nat.zero_le _⟩) hS hD.2 (fun H locs zq2 hP hS => ?_)
  obtain rfl := ob_s hf
  subst hQ
  exact xe_z hx hb hr hlocks hP hS zq2 dX0_isText_16
abbrev rmX0_by : Room := { frames := 2, cells := 0, slots := 0, locals := 43 }
theorem cdX0_by : yX0_by.cls = RX0 ∧ yX0_by.cls ≠ "java/lang/invoke/MethodHandle" ∧ yX0_by.cls ≠ "java/lang/invoke/VarHandle" ∧ (parseMethodDescriptor yX0_by.desc).map (fun d => d.parameters.length) = some 1 := by decide +kernel
set_option maxHeartbeats 4000000 in
set_option maxRecDepth 100000 in
theorem wkX0_by (l : Launch) (D : va_G) (dA : Nat → ClassId) (E : Nat → Nat) (hE : wInj 136 E) (T : Tx) (J : State → Heap → Prop) (hJ : JP D dA E T J) (w : Mm) (a1 : Int32) {res : Int32 × Mm} (hf : X_by w a1 = some res) : Met l yX0_by (ws_ yX0_by cX0_by 2 (some .boolean)) rmX0_by (Pj D dA E J [.ref (E 0), .int a1] w) (Qwz D clX shX 136 dA E res.1 res.2) 0 0 (AE 136 E) := by
  refine xj_head (own := RX0) (by decide) rfl (Nat.le_of_ble_eq_true rfl) ?_
  intro p e s m args below meth c ls Q hQ C hP hl
  obtain ⟨hx, hb, hr, hlocks, hml, hown, hts, hK, hJs⟩ := C
  replace hl : lv_has ls 2 [(0, .ref (E 0)), (1, .int a1)] := hl
  have hS : va_S (AE 136 E) s.heap s.heap [] := va_S.rf
  have hD : wD 136 E (AE 136 E) := wD.self hE
  unfold X_by at hf
  obtain ⟨H, eH⟩ : ∃ H, H = s.heap := ⟨_, rfl⟩
  obtain ⟨locs, eL⟩ : ∃ locs : List Loc, locs = [] := ⟨_, rfl⟩
  rw [← eL] at hS ⊢
  rw [← eH] at hP
  have hS : va_S (AE 136 E) s.heap H locs := by rw [eH]; exact hS
  show W p l e rmX0_by s m args below meth c s.heap locs 0 0 Q (F0 m 0 ls [])
  rw [← eH]
  refine lv_iload_n hx hb dX0_by_0 rfl (lv_at hl 1 rfl) ?_
  refine lv_iconst (v := (-1)) hx hb dX0_by_1 (by decide) ?_
  have kj15 : ∀ (H : Heap) (locs : List Loc) (ls : Array Slot), X_by_j15 w a1 = some res → va_P D clX (wl shX 136 dA E w) H → va_S (AE 136 E) s.heap H locs → lv_has ls 2 [(0, .ref (E 0)), (1, .int a1)] → W p l e rmX0_by s m args below meth c H locs 0 0 Q (F0 m 15 ls []) := by
    intro H locs ls hf hP hS hl
    unfold X_by_j15 at hf
    refine lv_aload_n hx hb dX0_by_15 rfl (lv_at hl 0 rfl) ?_
    refine xr_get hx hb hts in_X0 hown hK hP 0 (by decide) rfl rfl 0 (by decide) (hts _ q252) (fun _ h => h) rfl (v := .ref (E 1)) rfl dX0_by_16 ?_
    refine xr_getN (host := "QuarrelsPawned") hx hb hts in_X1 hown hK hP 1 (by decide) rfl rfl 0 (by decide) (hJ.nest hJs 0 rfl) (fun _ h => h) rfl (v := .ref (E 3)) rfl dX0_by_19 ?_
    refine lv_iconst (v := 2) hx hb dX0_by_22 (by decide) ?_
    refine lv_iload_n hx hb dX0_by_23 rfl (lv_at hl 1 rfl) ?_
    obtain ⟨w1, ew1, hf⟩ := ob_bnd hf
    refine xr_iast hx hb hK hP hD hS 3 (by decide) rfl 0 rfl (j := 2) (w' := w1) (vin_c (by decide)) (by decide) ew1 dX0_by_24 (fun H locs hP hS => ?_)
    refine lv_iconst (v := 1) hx hb dX0_by_25 (by decide) ?_
    obtain rfl := ob_s hf
    subst hQ
    exact xe_z hx hb hr hlocks hP hS (Or.inr rfl) dX0_by_26
  refine lv_icmp_eq (tgt := 15) hx hb dX0_by_2 (by decide) (fun c2 => ?_) (fun c2 => ?_)
  · replace hf := ob_t hf c2
    exact kj15 H locs ls hf hP hS (lv_sub hl [0, 1] rfl)
  · replace hf := ob_f hf c2
    refine lv_aload_n hx hb dX0_by_5 rfl (lv_at hl 0 rfl) ?_
    refine lv_iload_n hx hb dX0_by_6 rfl (lv_at hl 1 rfl) ?_
    obtain ⟨q4, g3, hf⟩ := ob_bind hf
    refine xc_z (xj_run (As := [.int a1]) (rest := []) hJ hJs hS ⟨hx, hb, hml, hown, hts⟩ (k0 := 0) (wkX0_isText l D dA E hE T J hJ w a1 g3) (cwV 1 hts (lw_V q894 q896 qs23 q136 q897) rfl rfl rfl cdX0_isText ⟨Nat.le_of_ble_eq_true rfl, Nat.le_of_ble_eq_true rfl⟩) hK hP (by decide) rfl rfl rfl hl.1 rfl rfl (Nat.le_of_ble_eq_true rfl) dX0_by_7 ⟨Nat.zero_le _, Nat.zero_le _⟩) hS hD.2 (fun H locs zq4 hP hS => ?_)
    refine lv_if_ne (tgt := 15) hx hb dX0_by_10 (by decide) (fun c5 => ?_) (fun c5 => ?_)
    · replace hf := ob_f hf c5
      exact kj15 H locs ls hf hP hS (lv_sub hl [0, 1] rfl)
    · replace hf := ob_t hf c5
      refine lv_iconst (v := 0) hx hb dX0_by_13 (by decide) ?_
      obtain rfl := ob_s hf
      subst hQ
      exact xe_z hx hb hr hlocks hP hS (Or.inl rfl) dX0_by_14
abbrev rmX0_isQuarrel : Room := { frames := 1, cells := 0, slots := 0, locals := 22 }
theorem cdX0_isQuarrel : yX0_isQuarrel.cls = RX0 ∧ yX0_isQuarrel.cls ≠ "java/lang/invoke/MethodHandle" ∧ yX0_isQuarrel.cls ≠ "java/lang/invoke/VarHandle" ∧ (parseMethodDescriptor yX0_isQuarrel.desc).map (fun d => d.parameters.length) = some 1 := by decide +kernel
set_option maxHeartbeats 4000000 in
set_option maxRecDepth 100000 in
theorem wkX0_isQuarrel (l : Launch) (D : va_G) (dA : Nat → ClassId) (E : Nat → Nat) (hE : wInj 136 E) (T : Tx) (J : State → Heap → Prop) (hJ : JP D dA E T J) (w : Mm) (a1 : Int32) {res : Int32} (hf : X_isQuarrel w a1 = some res) : Met l yX0_isQuarrel (ws_ yX0_isQuarrel cX0_isQuarrel 2 (some .boolean)) rmX0_isQuarrel (Pj D dA E J [.ref (E 0), .int a1] w) (Qwz D clX shX 136 dA E res w) 0 0 (AE 136 E) := by
  refine xj_head (own := RX0) (by decide) rfl (Nat.le_of_ble_eq_true rfl) ?_
  intro p e s m args below meth c ls Q hQ C hP hl
  obtain ⟨hx, hb, hr, hlocks, hml, hown, hts, hK, hJs⟩ := C
  replace hl : lv_has ls 2 [(0, .ref (E 0)), (1, .int a1)] := hl
  have hS : va_S (AE 136 E) s.heap s.heap [] := va_S.rf
  have hD : wD 136 E (AE 136 E) := wD.self hE
  unfold X_isQuarrel at hf
  obtain ⟨H, eH⟩ : ∃ H, H = s.heap := ⟨_, rfl⟩
  obtain ⟨locs, eL⟩ : ∃ locs : List Loc, locs = [] := ⟨_, rfl⟩
  rw [← eL] at hS ⊢
  rw [← eH] at hP
  have hS : va_S (AE 136 E) s.heap H locs := by rw [eH]; exact hS
  show W p l e rmX0_isQuarrel s m args below meth c s.heap locs 0 0 Q (F0 m 0 ls [])
  rw [← eH]
  refine lv_iload_n hx hb dX0_isQuarrel_0 rfl (lv_at hl 1 rfl) ?_
  refine lv_iconst (v := 0) hx hb dX0_isQuarrel_1 (by decide) ?_
  refine lv_aload_n hx hb dX0_isQuarrel_2 rfl (lv_at hl 0 rfl) ?_
  obtain ⟨q2, g1, hf⟩ := ob_bind hf
  refine xc_i (xj_run (As := []) (rest := [.int 0, .int a1]) hJ hJs hS ⟨hx, hb, hml, hown, hts⟩ (k0 := 0) (wkX0_quarrels l D dA E hE T J hJ w g1) (cwV 0 hts (lw_V q309 q311 qs0 q136 q312) rfl rfl rfl cdX0_quarrels ⟨Nat.le_of_ble_eq_true rfl, Nat.le_of_ble_eq_true rfl⟩) hK hP (by decide) rfl rfl rfl hl.1 rfl rfl (Nat.le_of_ble_eq_true rfl) dX0_isQuarrel_3 ⟨Nat.zero_le _, Nat.zero_le _⟩) hS hD.2 (fun H locs hP hS => ?_)
  refine lv_iconst (v := 1) hx hb dX0_isQuarrel_6 (by decide) ?_
  refine lv_isub hx hb dX0_isQuarrel_7 ?_
  obtain ⟨q4, g3, hf⟩ := ob_bind hf
  refine xc_z (xj_runS (As := [.int a1, .int 0, .int (q2 - 1)]) (rest := []) hJ hJs hS ⟨hx, hb, hml, hown, hts⟩ (wkX0_in l D dA E hE T J hJ w a1 0 (q2 - 1) g3) (va_cwS 3 hts (lw_S q319 q320 q136 q321) rfl rfl rfl cdX0_in.2 ⟨Nat.le_of_ble_eq_true rfl, Nat.le_of_ble_eq_true rfl⟩) hK hP hl.1 rfl rfl (Nat.le_of_ble_eq_true rfl) dX0_isQuarrel_8 ⟨Nat.zero_le _, Nat.zero_le _⟩) hS hD.2 (fun H locs zq4 hP hS => ?_)
  obtain rfl := ob_s hf
  subst hQ
  exact xe_z hx hb hr hlocks hP hS zq4 dX0_isQuarrel_11
abbrev rmX0_canPawn : Room := { frames := 2, cells := 0, slots := 0, locals := 43 }
theorem cdX0_canPawn : yX0_canPawn.cls = RX0 ∧ yX0_canPawn.cls ≠ "java/lang/invoke/MethodHandle" ∧ yX0_canPawn.cls ≠ "java/lang/invoke/VarHandle" ∧ (parseMethodDescriptor yX0_canPawn.desc).map (fun d => d.parameters.length) = some 1 := by decide +kernel
set_option maxHeartbeats 4000000 in
set_option maxRecDepth 100000 in
theorem wkX0_canPawn (l : Launch) (D : va_G) (dA : Nat → ClassId) (E : Nat → Nat) (hE : wInj 136 E) (T : Tx) (J : State → Heap → Prop) (hJ : JP D dA E T J) (w : Mm) (a1 : Int32) {res : Int32} (hf : X_canPawn w a1 = some res) : Met l yX0_canPawn (ws_ yX0_canPawn cX0_canPawn 2 (some .boolean)) rmX0_canPawn (Pj D dA E J [.ref (E 0), .int a1] w) (Qwz D clX shX 136 dA E res w) 0 0 (AE 136 E) := by
  refine xj_head (own := RX0) (by decide) rfl (Nat.le_of_ble_eq_true rfl) ?_
  intro p e s m args below meth c ls Q hQ C hP hl
  obtain ⟨hx, hb, hr, hlocks, hml, hown, hts, hK, hJs⟩ := C
  replace hl : lv_has ls 2 [(0, .ref (E 0)), (1, .int a1)] := hl
  have hS : va_S (AE 136 E) s.heap s.heap [] := va_S.rf
  have hD : wD 136 E (AE 136 E) := wD.self hE
  unfold X_canPawn at hf
  obtain ⟨H, eH⟩ : ∃ H, H = s.heap := ⟨_, rfl⟩
  obtain ⟨locs, eL⟩ : ∃ locs : List Loc, locs = [] := ⟨_, rfl⟩
  rw [← eL] at hS ⊢
  rw [← eH] at hP
  have hS : va_S (AE 136 E) s.heap H locs := by rw [eH]; exact hS
  show W p l e rmX0_canPawn s m args below meth c s.heap locs 0 0 Q (F0 m 0 ls [])
  rw [← eH]
  refine lv_aload_n hx hb dX0_canPawn_0 rfl (lv_at hl 0 rfl) ?_
  refine lv_iload_n hx hb dX0_canPawn_1 rfl (lv_at hl 1 rfl) ?_
  obtain ⟨q2, g1, hf⟩ := ob_bind hf
  refine xc_z (xj_run (As := [.int a1]) (rest := []) hJ hJs hS ⟨hx, hb, hml, hown, hts⟩ (k0 := 0) (wkX0_isQuarrel l D dA E hE T J hJ w a1 g1) (cwV 1 hts (lw_V q906 q908 qs25 q136 q909) rfl rfl rfl cdX0_isQuarrel ⟨Nat.le_of_ble_eq_true rfl, Nat.le_of_ble_eq_true rfl⟩) hK hP (by decide) rfl rfl rfl hl.1 rfl rfl (Nat.le_of_ble_eq_true rfl) dX0_canPawn_2 ⟨Nat.zero_le _, Nat.zero_le _⟩) hS hD.2 (fun H locs zq2 hP hS => ?_)
  refine lv_if_eq (tgt := 26) hx hb dX0_canPawn_5 (by decide) (fun c3 => ?_) (fun c3 => ?_)
  · replace hf := ob_t hf c3
    refine lv_iconst (v := 0) hx hb dX0_canPawn_26 (by decide) ?_
    obtain rfl := ob_s hf
    subst hQ
    exact xe_z hx hb hr hlocks hP hS (Or.inl rfl) dX0_canPawn_27
  · replace hf := ob_f hf c3
    refine lv_aload_n hx hb dX0_canPawn_8 rfl (lv_at hl 0 rfl) ?_
    refine xr_get hx hb hts in_X0 hown hK hP 0 (by decide) rfl rfl 0 (by decide) (hts _ q252) (fun _ h => h) rfl (v := .ref (E 1)) rfl dX0_canPawn_9 ?_
    refine xr_getN (host := "QuarrelsPawned") hx hb hts in_X1 hown hK hP 1 (by decide) rfl rfl 1 (by decide) (hJ.nest hJs 1 rfl) (fun _ h => h) rfl (v := .ref (E 4)) rfl dX0_canPawn_12 ?_
    refine lv_iconst (v := 4) hx hb dX0_canPawn_15 (by decide) ?_
    refine lv_iload_n hx hb dX0_canPawn_16 rfl (lv_at hl 1 rfl) ?_
    refine lv_iadd hx hb dX0_canPawn_17 ?_
    obtain ⟨h4, hf⟩ := ob_gd hf
    refine xr_iald hx hb hK hP 4 (by decide) rfl 0 rfl (j := (4 + a1).toNatClampNeg) h4 rfl dX0_canPawn_18 ?_
    refine lv_if_ne (tgt := 26) hx hb dX0_canPawn_19 (by decide) (fun c5 => ?_) (fun c5 => ?_)
    · replace hf := ob_f hf c5
      refine lv_iconst (v := 0) hx hb dX0_canPawn_26 (by decide) ?_
      obtain rfl := ob_s hf
      subst hQ
      exact xe_z hx hb hr hlocks hP hS (Or.inl rfl) dX0_canPawn_27
    · replace hf := ob_t hf c5
      refine lv_iconst (v := 1) hx hb dX0_canPawn_22 (by decide) ?_
      refine lv_goto (tgt := 27) hx hb dX0_canPawn_23 (by decide) ?_
      obtain rfl := ob_s hf
      subst hQ
      exact xe_z hx hb hr hlocks hP hS (Or.inr rfl) dX0_canPawn_27
abbrev rmX1_copy : Room := { frames := 1, cells := 0, slots := 0, locals := 60 }
theorem cdX1_copy : yX1_copy.cls = RX1 ∧ yX1_copy.cls ≠ "java/lang/invoke/MethodHandle" ∧ yX1_copy.cls ≠ "java/lang/invoke/VarHandle" ∧ (parseMethodDescriptor yX1_copy.desc).map (fun d => d.parameters.length) = some 2 := by decide +kernel
set_option maxHeartbeats 4000000 in
set_option maxRecDepth 100000 in
theorem wkX1_copy (l : Launch) (D : va_G) (dA : Nat → ClassId) (E : Nat → Nat) (hE : wInj 136 E) (T : Tx) (J : State → Heap → Prop) (hJ : JP D dA E T J) (w : Mm) (k0 : Nat) (n0 : Nat) (k1 : Nat) (n1 : Nat) {res : Mm} (hf : X_X1_copy w k0 n0 k1 n1 = some res) (hk0 : k0 < 136) (sk0 : shX k0 = (1, n0, [])) (hk1 : k1 < 136) (sk1 : shX k1 = (1, n1, [])) : Met l yX1_copy (ws_ yX1_copy cX1_copy 2 (none)) rmX1_copy (Pj D dA E J [.ref (E k0), .ref (E k1)] w) (Qwv D clX shX 136 dA E res) 0 0 (AE 136 E) := by
  refine xj_head (own := RX1) (by decide) rfl (Nat.le_of_ble_eq_true rfl) ?_
  intro p e s m args below meth c ls Q hQ C hP hl
  obtain ⟨hx, hb, hr, hlocks, hml, hown, hts, hK, hJs⟩ := C
  replace hl : lv_has ls 2 [(0, .ref (E k0)), (1, .ref (E k1))] := hl
  have hS : va_S (AE 136 E) s.heap s.heap [] := va_S.rf
  have hD : wD 136 E (AE 136 E) := wD.self hE
  unfold X_X1_copy at hf
  obtain ⟨H, eH⟩ : ∃ H, H = s.heap := ⟨_, rfl⟩
  obtain ⟨locs, eL⟩ : ∃ locs : List Loc, locs = [] := ⟨_, rfl⟩
  rw [← eL] at hS ⊢
  rw [← eH] at hP
  have hS : va_S (AE 136 E) s.heap H locs := by rw [eH]; exact hS
  show W p l e rmX1_copy s m args below meth c s.heap locs 0 0 Q (F0 m 0 ls [])
  rw [← eH]
  refine lv_aload_n hx hb dX1_copy_0 rfl (lv_at hl 0 rfl) ?_
  refine lv_iconst (v := 0) hx hb dX1_copy_1 (by decide) ?_
  refine lv_aload_n hx hb dX1_copy_2 rfl (lv_at hl 1 rfl) ?_
  refine lv_iconst (v := 0) hx hb dX1_copy_3 (by decide) ?_
  refine lv_aload_n hx hb dX1_copy_4 rfl (lv_at hl 0 rfl) ?_
  refine xr_alen (n := 0) (z := []) hx hb hK hP k0 hk0 (by rw [show shX k0 = _ from sk0]; rfl) 0 rfl (v := (nI n0)) rfl dX1_copy_5 ?_
  obtain ⟨h2, hf⟩ := ob_gp hf
  obtain ⟨w1, ew1, hf⟩ := ob_bnd hf
  refine xr_copy hx hb (hml.trans hl.1.symm) hown (hts _ q246) (hts _ q248) (hts _ q247) (hts _ q139) hK hP hD hS k0 k1 hk0 hk1 sk0 sk1 (w' := w1) h2 ew1 (Nat.le_of_ble_eq_true rfl) (Nat.le_of_ble_eq_true rfl) dX1_copy_6 (fun H locs hP hS => ?_)
  obtain rfl := ob_s hf
  subst hQ
  exact xe_v hx hb hr hlocks hP hS dX1_copy_9
abbrev rmX1_keeps : Room := { frames := 2, cells := 0, slots := 0, locals := 81 }
theorem cdX1_keeps : yX1_keeps.cls = RX1 ∧ yX1_keeps.cls ≠ "java/lang/invoke/MethodHandle" ∧ yX1_keeps.cls ≠ "java/lang/invoke/VarHandle" ∧ (parseMethodDescriptor yX1_keeps.desc).map (fun d => d.parameters.length) = some 0 := by decide +kernel
set_option maxHeartbeats 4000000 in
set_option maxRecDepth 100000 in
theorem wkX1_keeps (l : Launch) (D : va_G) (dA : Nat → ClassId) (E : Nat → Nat) (hE : wInj 136 E) (T : Tx) (J : State → Heap → Prop) (hJ : JP D dA E T J) (w : Mm)  {res : Mm} (hf : X_X1_keeps w = some res) : Met l yX1_keeps (ws_ yX1_keeps cX1_keeps 2 (none)) rmX1_keeps (Pj D dA E J [.ref (E 1)] w) (Qwv D clX shX 136 dA E res) 0 0 (AE 136 E) := by
  refine xj_head (own := RX1) (by decide) rfl (Nat.le_of_ble_eq_true rfl) ?_
  intro p e s m args below meth c ls Q hQ C hP hl
  obtain ⟨hx, hb, hr, hlocks, hml, hown, hts, hK, hJs⟩ := C
  replace hl : lv_has ls 2 [(0, .ref (E 1))] := hl
  have hS : va_S (AE 136 E) s.heap s.heap [] := va_S.rf
  have hD : wD 136 E (AE 136 E) := wD.self hE
  unfold X_X1_keeps at hf
  obtain ⟨H, eH⟩ : ∃ H, H = s.heap := ⟨_, rfl⟩
  obtain ⟨locs, eL⟩ : ∃ locs : List Loc, locs = [] := ⟨_, rfl⟩
  rw [← eL] at hS ⊢
  rw [← eH] at hP
  have hS : va_S (AE 136 E) s.heap H locs := by rw [eH]; exact hS
  show W p l e rmX1_keeps s m args below meth c s.heap locs 0 0 Q (F0 m 0 ls [])
  rw [← eH]
  refine lv_aload_n hx hb dX1_keeps_0 rfl (lv_at hl 0 rfl) ?_
  refine xr_get hx hb hts in_X1 hown hK hP 1 (by decide) rfl rfl 0 (by decide) (hts _ q192) (fun _ h => h) rfl (v := .ref (E 3)) rfl dX1_keeps_1 ?_
  refine lv_iconst (v := 3) hx hb dX1_keeps_4 (by decide) ?_
  refine xr_iald hx hb hK hP 3 (by decide) rfl 0 rfl (j := 3) (vin_c (by decide)) (by decide) dX1_keeps_5 ?_
  refine lv_bipush (v := 30) hx hb dX1_keeps_6 (by decide) ?_
  have kj52 : ∀ (w1 : Mm) (H : Heap) (locs : List Loc) (ls : Array Slot), X_X1_keeps_j52 w1 = some res → va_P D clX (wl shX 136 dA E w1) H → va_S (AE 136 E) s.heap H locs → lv_has ls 2 [(0, .ref (E 1))] → W p l e rmX1_keeps s m args below meth c H locs 0 0 Q (F0 m 52 ls []) := by
    intro w1 H locs ls hf hP hS hl
    unfold X_X1_keeps_j52 at hf
    refine lv_aload_n hx hb dX1_keeps_52 rfl (lv_at hl 0 rfl) ?_
    refine xr_get hx hb hts in_X1 hown hK hP 1 (by decide) rfl rfl 1 (by decide) (hts _ q194) (fun _ h => h) rfl (v := .ref (E 4)) rfl dX1_keeps_53 ?_
    refine lv_aload_n hx hb dX1_keeps_56 rfl (lv_at hl 0 rfl) ?_
    refine xr_get hx hb hts in_X1 hown hK hP 1 (by decide) rfl rfl 9 (by decide) (hts _ q210) (fun _ h => h) rfl (v := .ref (E 12)) rfl dX1_keeps_57 ?_
    refine lv_aload_n hx hb dX1_keeps_60 rfl (lv_at hl 0 rfl) ?_
    refine xr_get hx hb hts in_X1 hown hK hP 1 (by decide) rfl rfl 0 (by decide) (hts _ q192) (fun _ h => h) rfl (v := .ref (E 3)) rfl dX1_keeps_61 ?_
    refine lv_iconst (v := 3) hx hb dX1_keeps_64 (by decide) ?_
    refine xr_iald hx hb hK hP 3 (by decide) rfl 0 rfl (j := 3) (vin_c (by decide)) (by decide) dX1_keeps_65 ?_
    obtain ⟨h2, hf⟩ := ob_gd hf
    refine xr_aald hx hb hK hP 12 (by decide) rfl (j := (w1.1 3 3).toNatClampNeg) h2 rfl dX1_keeps_66 ?_
    obtain ⟨q4, g3, hf⟩ := ob_bind hf
    refine xc_v (xj_runS (As := [.ref (E 4), .ref (E (52 + (w1.1 3 3).toNatClampNeg))]) (rest := []) hJ hJs hS ⟨hx, hb, hml, hown, hts⟩ (wkX1_copy l D dA E hE T J hJ w1 4 149 (52 + (w1.1 3 3).toNatClampNeg) 149 g3 (by decide) rfl (by have := vin_lt h2; omega) (shX_r2 (by have := vin_lt h2; omega))) (va_cwS 2 hts (lw_S q243 q244 q137 q245) rfl rfl rfl cdX1_copy.2 ⟨Nat.le_of_ble_eq_true rfl, Nat.le_of_ble_eq_true rfl⟩) hK hP hl.1 rfl rfl (Nat.le_of_ble_eq_true rfl) dX1_keeps_67 ⟨Nat.zero_le _, Nat.zero_le _⟩) hS hD.2 (fun H locs hP hS => ?_)
    refine lv_aload_n hx hb dX1_keeps_70 rfl (lv_at hl 0 rfl) ?_
    refine xr_get hx hb hts in_X1 hown hK hP 1 (by decide) rfl rfl 0 (by decide) (hts _ q192) (fun _ h => h) rfl (v := .ref (E 3)) rfl dX1_keeps_71 ?_
    refine lv_iconst (v := 3) hx hb dX1_keeps_74 (by decide) ?_
    refine lv_dup2_11 hx hb dX1_keeps_75 rfl rfl ?_
    refine xr_iald hx hb hK hP 3 (by decide) rfl 0 rfl (j := 3) (vin_c (by decide)) (by decide) dX1_keeps_76 ?_
    refine lv_iconst (v := 1) hx hb dX1_keeps_77 (by decide) ?_
    refine lv_iadd hx hb dX1_keeps_78 ?_
    obtain ⟨w5, ew5, hf⟩ := ob_bnd hf
    refine xr_iast hx hb hK hP hD hS 3 (by decide) rfl 0 rfl (j := 3) (w' := w5) (vin_c (by decide)) (by decide) ew5 dX1_keeps_79 (fun H locs hP hS => ?_)
    obtain rfl := ob_s hf
    subst hQ
    exact xe_v hx hb hr hlocks hP hS dX1_keeps_80
  refine lv_icmp_ne (tgt := 52) hx hb dX1_keeps_8 (by decide) (fun c6 => ?_) (fun c6 => ?_)
  · replace hf := ob_f hf c6
    exact kj52 w H locs ls hf hP hS (lv_sub hl [0] rfl)
  · replace hf := ob_t hf c6
    refine lv_iconst (v := 1) hx hb dX1_keeps_11 (by decide) ?_
    refine lv_istore_n (lv' := [(1, .int 1), (0, .ref (E 1))]) hx hb dX1_keeps_12 rfl hl (by decide) rfl (fun ls hl => ?_)
    obtain ⟨b9, hb9, hf⟩ := ob_bind hf
    obtain ⟨n9, hn9⟩ := lp_some hb9
    have kL13 : ∀ (n : Nat) (w7 : Mm) (v1_8 : Int32), lpF (fun (q9 : Mm × Int32) => X_X1_keeps_b13 q9.1 q9.2) n (w7, v1_8) = some b9 → (∀ (H : Heap) (locs : List Loc) (ls : Array Slot), va_P D clX (wl shX 136 dA E b9) H → va_S (AE 136 E) s.heap H locs → lv_has ls 2 [(0, .ref (E 1))] → W p l e rmX1_keeps s m args below meth c H locs 0 0 Q (F0 m 42 ls [])) → ∀ (H : Heap) (locs : List Loc) (ls : Array Slot), va_P D clX (wl shX 136 dA E w7) H → va_S (AE 136 E) s.heap H locs → lv_has ls 2 [(0, .ref (E 1)), (1, .int v1_8)] → W p l e rmX1_keeps s m args below meth c H locs 0 0 Q (F0 m 13 ls []) := by
      intro n
      induction n with
      | zero =>
        intro w7 v1_8 hq9
        cases hq9
      | succ n ih =>
        intro w7 v1_8 hq9 K9_0 H locs ls hP hS hl
        obtain ⟨r9, hf, h9a, h9b⟩ := lpF_step hq9
        replace hf : X_X1_keeps_b13 w7 v1_8 = some r9 := hf
        unfold X_X1_keeps_b13 at hf
        refine lv_iload_n hx hb dX1_keeps_13 rfl (lv_at hl 1 rfl) ?_
        refine lv_bipush (v := 30) hx hb dX1_keeps_14 (by decide) ?_
        refine lv_icmp_ge (tgt := 42) hx hb dX1_keeps_16 (by decide) (fun c10 => ?_) (fun c10 => ?_)
        · replace hf := ob_t hf c10
          obtain rfl := ob_s hf
          obtain rfl := h9b _ rfl
          exact K9_0 H locs ls hP hS (lv_sub hl [0] rfl)
        · replace hf := ob_f hf c10
          refine lv_aload_n hx hb dX1_keeps_19 rfl (lv_at hl 0 rfl) ?_
          refine xr_get hx hb hts in_X1 hown hK hP 1 (by decide) rfl rfl 9 (by decide) (hts _ q210) (fun _ h => h) rfl (v := .ref (E 12)) rfl dX1_keeps_20 ?_
          refine lv_iload_n hx hb dX1_keeps_23 rfl (lv_at hl 1 rfl) ?_
          obtain ⟨h11, hf⟩ := ob_gd hf
          refine xr_aald hx hb hK hP 12 (by decide) rfl (j := v1_8.toNatClampNeg) h11 rfl dX1_keeps_24 ?_
          refine lv_aload_n hx hb dX1_keeps_25 rfl (lv_at hl 0 rfl) ?_
          refine xr_get hx hb hts in_X1 hown hK hP 1 (by decide) rfl rfl 9 (by decide) (hts _ q210) (fun _ h => h) rfl (v := .ref (E 12)) rfl dX1_keeps_26 ?_
          refine lv_iload_n hx hb dX1_keeps_29 rfl (lv_at hl 1 rfl) ?_
          refine lv_iconst (v := 1) hx hb dX1_keeps_30 (by decide) ?_
          refine lv_isub hx hb dX1_keeps_31 ?_
          obtain ⟨h12, hf⟩ := ob_gd hf
          refine xr_aald hx hb hK hP 12 (by decide) rfl (j := (v1_8 - 1).toNatClampNeg) h12 rfl dX1_keeps_32 ?_
          obtain ⟨q14, g13, hf⟩ := ob_bind hf
          refine xc_v (xj_runS (As := [.ref (E (52 + v1_8.toNatClampNeg)), .ref (E (52 + (v1_8 - 1).toNatClampNeg))]) (rest := []) hJ hJs hS ⟨hx, hb, hml, hown, hts⟩ (wkX1_copy l D dA E hE T J hJ w7 (52 + v1_8.toNatClampNeg) 149 (52 + (v1_8 - 1).toNatClampNeg) 149 g13 (by have := vin_lt h11; omega) (shX_r2 (by have := vin_lt h11; omega)) (by have := vin_lt h12; omega) (shX_r2 (by have := vin_lt h12; omega))) (va_cwS 2 hts (lw_S q243 q244 q137 q245) rfl rfl rfl cdX1_copy.2 ⟨Nat.le_of_ble_eq_true rfl, Nat.le_of_ble_eq_true rfl⟩) hK hP hl.1 rfl rfl (Nat.le_of_ble_eq_true rfl) dX1_keeps_33 ⟨Nat.zero_le _, Nat.zero_le _⟩) hS hD.2 (fun H locs hP hS => ?_)
          obtain ⟨v1_15, ev1_15, hf⟩ := ob_bnd hf
          refine lv_iinc (v := v1_15) (lv' := [(1, .int v1_15), (0, .ref (E 1))]) hx hb dX1_keeps_36 hl (k := 1) rfl (by rw [ev1_15]; rfl) (by decide) rfl (fun ls hl => ?_)
          refine lv_goto (tgt := 13) hx hb dX1_keeps_39 (by decide) ?_
          obtain rfl := ob_s hf
          exact ih _ _ (h9a _ rfl) K9_0 H locs ls hP hS (lv_sub hl [1, 0] rfl)
    refine kL13 n9 w 1 hn9 (fun H locs ls hP hS hl => ?_) H locs ls hP hS (lv_sub hl [1, 0] rfl)
    replace hf : X_X1_keeps_x13_42 b9 = some res := hf
    unfold X_X1_keeps_x13_42 at hf
    refine lv_aload_n hx hb dX1_keeps_42 rfl (lv_at hl 0 rfl) ?_
    refine xr_get hx hb hts in_X1 hown hK hP 1 (by decide) rfl rfl 0 (by decide) (hts _ q192) (fun _ h => h) rfl (v := .ref (E 3)) rfl dX1_keeps_43 ?_
    refine lv_iconst (v := 3) hx hb dX1_keeps_46 (by decide) ?_
    refine lv_dup2_11 hx hb dX1_keeps_47 rfl rfl ?_
    refine xr_iald hx hb hK hP 3 (by decide) rfl 0 rfl (j := 3) (vin_c (by decide)) (by decide) dX1_keeps_48 ?_
    refine lv_iconst (v := 1) hx hb dX1_keeps_49 (by decide) ?_
    refine lv_isub hx hb dX1_keeps_50 ?_
    obtain ⟨w16, ew16, hf⟩ := ob_bnd hf
    refine xr_iast hx hb hK hP hD hS 3 (by decide) rfl 0 rfl (j := 3) (w' := w16) (vin_c (by decide)) (by decide) ew16 dX1_keeps_51 (fun H locs hP hS => ?_)
    exact kj52 w16 H locs ls hf hP hS (lv_sub hl [0] rfl)
abbrev rmX0_writes : Room := { frames := 1, cells := 0, slots := 0, locals := 60 }
theorem cdX0_writes : yX0_writes.cls = RX0 ∧ yX0_writes.cls ≠ "java/lang/invoke/MethodHandle" ∧ yX0_writes.cls ≠ "java/lang/invoke/VarHandle" ∧ (parseMethodDescriptor yX0_writes.desc).map (fun d => d.parameters.length) = some 3 := by decide +kernel
set_option maxHeartbeats 4000000 in
set_option maxRecDepth 100000 in
theorem wkX0_writes (l : Launch) (D : va_G) (dA : Nat → ClassId) (E : Nat → Nat) (hE : wInj 136 E) (T : Tx) (J : State → Heap → Prop) (hJ : JP D dA E T J) (w : Mm) (k0 : Nat) (a1 : Int32) (a2 : Int32) {res : Mm} (hf : X_writes w k0 a1 a2 = some res) (hk0 : k0 < 136) (sk0 : shX k0 = (1, 149, [])) : Met l yX0_writes (ws_ yX0_writes cX0_writes 4 (none)) rmX0_writes (Pj D dA E J [.ref (E k0), .int a1, .int a2] w) (Qwv D clX shX 136 dA E res) 0 0 (AE 136 E) := by
  refine xj_head (own := RX0) (by decide) rfl (Nat.le_of_ble_eq_true rfl) ?_
  intro p e s m args below meth c ls Q hQ C hP hl
  obtain ⟨hx, hb, hr, hlocks, hml, hown, hts, hK, hJs⟩ := C
  replace hl : lv_has ls 4 [(0, .ref (E k0)), (1, .int a1), (2, .int a2)] := hl
  have hS : va_S (AE 136 E) s.heap s.heap [] := va_S.rf
  have hD : wD 136 E (AE 136 E) := wD.self hE
  unfold X_writes at hf
  obtain ⟨H, eH⟩ : ∃ H, H = s.heap := ⟨_, rfl⟩
  obtain ⟨locs, eL⟩ : ∃ locs : List Loc, locs = [] := ⟨_, rfl⟩
  rw [← eL] at hS ⊢
  rw [← eH] at hP
  have hS : va_S (AE 136 E) s.heap H locs := by rw [eH]; exact hS
  show W p l e rmX0_writes s m args below meth c s.heap locs 0 0 Q (F0 m 0 ls [])
  rw [← eH]
  refine lv_aload_n hx hb dX0_writes_0 rfl (lv_at hl 0 rfl) ?_
  refine lv_iconst (v := 4) hx hb dX0_writes_1 (by decide) ?_
  refine lv_iload_n hx hb dX0_writes_2 rfl (lv_at hl 1 rfl) ?_
  refine lv_iadd hx hb dX0_writes_3 ?_
  refine lv_iload_n hx hb dX0_writes_4 rfl (lv_at hl 2 rfl) ?_
  obtain ⟨h1, hf⟩ := ob_gd hf
  obtain ⟨w2, ew2, hf⟩ := ob_bnd hf
  refine xr_iast hx hb hK hP hD hS k0 hk0 sk0 0 rfl (j := (4 + a1).toNatClampNeg) (w' := w2) h1 rfl ew2 dX0_writes_5 (fun H locs hP hS => ?_)
  refine lv_aload_n hx hb dX0_writes_6 rfl (lv_at hl 0 rfl) ?_
  refine lv_bipush (v := 28) hx hb dX0_writes_7 (by decide) ?_
  refine xr_iald hx hb hK hP k0 hk0 sk0 0 rfl (j := 28) (vin_c (by decide)) (by decide) dX0_writes_9 ?_
  refine lv_bipush (v := 30) hx hb dX0_writes_10 (by decide) ?_
  have kj34 : ∀ (w3 : Mm) (H : Heap) (locs : List Loc) (ls : Array Slot), X_writes_j34 w3 k0 a1 a2 = some res → va_P D clX (wl shX 136 dA E w3) H → va_S (AE 136 E) s.heap H locs → lv_has ls 4 [(0, .ref (E k0)), (1, .int a1), (2, .int a2)] → W p l e rmX0_writes s m args below meth c H locs 0 0 Q (F0 m 34 ls []) := by
    intro w3 H locs ls hf hP hS hl
    unfold X_writes_j34 at hf
    refine lv_bipush (v := 29) hx hb dX0_writes_34 (by decide) ?_
    refine lv_iconst (v := 4) hx hb dX0_writes_36 (by decide) ?_
    refine lv_aload_n hx hb dX0_writes_37 rfl (lv_at hl 0 rfl) ?_
    refine lv_bipush (v := 28) hx hb dX0_writes_38 (by decide) ?_
    refine xr_iald hx hb hK hP k0 hk0 sk0 0 rfl (j := 28) (vin_c (by decide)) (by decide) dX0_writes_40 ?_
    refine lv_imul hx hb dX0_writes_41 ?_
    refine lv_iadd hx hb dX0_writes_42 ?_
    obtain ⟨v3_4, ev3_4, hf⟩ := ob_bnd hf
    refine xn_i ev3_4 ?_
    refine lv_istore_n (lv' := [(3, .int v3_4), (0, .ref (E k0)), (1, .int a1), (2, .int a2)]) hx hb dX0_writes_43 rfl hl (by decide) rfl (fun ls hl => ?_)
    refine lv_aload_n hx hb dX0_writes_44 rfl (lv_at hl 1 rfl) ?_
    refine lv_iload_n hx hb dX0_writes_45 rfl (lv_at hl 0 rfl) ?_
    refine lv_aload_n hx hb dX0_writes_46 rfl (lv_at hl 1 rfl) ?_
    refine lv_iconst (v := 0) hx hb dX0_writes_47 (by decide) ?_
    refine xr_iald hx hb hK hP k0 hk0 sk0 0 rfl (j := 0) (vin_c (by decide)) (by decide) dX0_writes_48 ?_
    obtain ⟨h5, hf⟩ := ob_gd hf
    obtain ⟨w6, ew6, hf⟩ := ob_bnd hf
    refine xr_iast hx hb hK hP hD hS k0 hk0 sk0 0 rfl (j := v3_4.toNatClampNeg) (w' := w6) h5 rfl ew6 dX0_writes_49 (fun H locs hP hS => ?_)
    refine lv_aload_n hx hb dX0_writes_50 rfl (lv_at hl 1 rfl) ?_
    refine lv_iload_n hx hb dX0_writes_51 rfl (lv_at hl 0 rfl) ?_
    refine lv_iconst (v := 1) hx hb dX0_writes_52 (by decide) ?_
    refine lv_iadd hx hb dX0_writes_53 ?_
    refine lv_iload_n hx hb dX0_writes_54 rfl (lv_at hl 2 rfl) ?_
    obtain ⟨h7, hf⟩ := ob_gd hf
    obtain ⟨w8, ew8, hf⟩ := ob_bnd hf
    refine xr_iast hx hb hK hP hD hS k0 hk0 sk0 0 rfl (j := (v3_4 + 1).toNatClampNeg) (w' := w8) h7 rfl ew8 dX0_writes_55 (fun H locs hP hS => ?_)
    refine lv_aload_n hx hb dX0_writes_56 rfl (lv_at hl 1 rfl) ?_
    refine lv_iload_n hx hb dX0_writes_57 rfl (lv_at hl 0 rfl) ?_
    refine lv_iconst (v := 2) hx hb dX0_writes_58 (by decide) ?_
    refine lv_iadd hx hb dX0_writes_59 ?_
    refine lv_iload_n hx hb dX0_writes_60 rfl (lv_at hl 3 rfl) ?_
    refine lv_iconst (v := 1) hx hb dX0_writes_61 (by decide) ?_
    refine lv_isub hx hb dX0_writes_62 ?_
    obtain ⟨h9, hf⟩ := ob_gd hf
    obtain ⟨w10, ew10, hf⟩ := ob_bnd hf
    refine xr_iast hx hb hK hP hD hS k0 hk0 sk0 0 rfl (j := (v3_4 + 2).toNatClampNeg) (w' := w10) h9 rfl ew10 dX0_writes_63 (fun H locs hP hS => ?_)
    refine lv_aload_n hx hb dX0_writes_64 rfl (lv_at hl 1 rfl) ?_
    refine lv_iload_n hx hb dX0_writes_65 rfl (lv_at hl 0 rfl) ?_
    refine lv_iconst (v := 3) hx hb dX0_writes_66 (by decide) ?_
    refine lv_iadd hx hb dX0_writes_67 ?_
    refine lv_aload_n hx hb dX0_writes_68 rfl (lv_at hl 1 rfl) ?_
    refine lv_iconst (v := 2) hx hb dX0_writes_69 (by decide) ?_
    refine xr_iald hx hb hK hP k0 hk0 sk0 0 rfl (j := 2) (vin_c (by decide)) (by decide) dX0_writes_70 ?_
    obtain ⟨h11, hf⟩ := ob_gd hf
    obtain ⟨w12, ew12, hf⟩ := ob_bnd hf
    refine xr_iast hx hb hK hP hD hS k0 hk0 sk0 0 rfl (j := (v3_4 + 3).toNatClampNeg) (w' := w12) h11 rfl ew12 dX0_writes_71 (fun H locs hP hS => ?_)
    refine lv_aload_n hx hb dX0_writes_72 rfl (lv_at hl 1 rfl) ?_
    refine lv_bipush (v := 28) hx hb dX0_writes_73 (by decide) ?_
    refine lv_dup2_11 hx hb dX0_writes_75 rfl rfl ?_
    refine xr_iald hx hb hK hP k0 hk0 sk0 0 rfl (j := 28) (vin_c (by decide)) (by decide) dX0_writes_76 ?_
    refine lv_iconst (v := 1) hx hb dX0_writes_77 (by decide) ?_
    refine lv_iadd hx hb dX0_writes_78 ?_
    obtain ⟨w13, ew13, hf⟩ := ob_bnd hf
    refine xr_iast hx hb hK hP hD hS k0 hk0 sk0 0 rfl (j := 28) (w' := w13) (vin_c (by decide)) (by decide) ew13 dX0_writes_79 (fun H locs hP hS => ?_)
    obtain rfl := ob_s hf
    subst hQ
    exact xe_v hx hb hr hlocks hP hS dX0_writes_80
  refine lv_icmp_ne (tgt := 34) hx hb dX0_writes_12 (by decide) (fun c14 => ?_) (fun c14 => ?_)
  · replace hf := ob_f hf c14
    exact kj34 w2 H locs ls hf hP hS (lv_sub hl [0, 1, 2] rfl)
  · replace hf := ob_t hf c14
    refine lv_aload_n hx hb dX0_writes_15 rfl (lv_at hl 0 rfl) ?_
    refine lv_bipush (v := 33) hx hb dX0_writes_16 (by decide) ?_
    refine lv_aload_n hx hb dX0_writes_18 rfl (lv_at hl 0 rfl) ?_
    refine lv_bipush (v := 29) hx hb dX0_writes_19 (by decide) ?_
    refine lv_bipush (v := 116) hx hb dX0_writes_21 (by decide) ?_
    obtain ⟨h16, hf⟩ := ob_gp hf
    obtain ⟨w15, ew15, hf⟩ := ob_bnd hf
    refine xr_copy hx hb (hml.trans hl.1.symm) hown (hts _ q922) (hts _ q248) (hts _ q247) (hts _ q139) hK hP hD hS k0 k0 hk0 hk0 sk0 sk0 (w' := w15) h16 ew15 (Nat.le_of_ble_eq_true rfl) (Nat.le_of_ble_eq_true rfl) dX0_writes_23 (fun H locs hP hS => ?_)
    refine lv_aload_n hx hb dX0_writes_26 rfl (lv_at hl 0 rfl) ?_
    refine lv_bipush (v := 28) hx hb dX0_writes_27 (by decide) ?_
    refine lv_dup2_11 hx hb dX0_writes_29 rfl rfl ?_
    refine xr_iald hx hb hK hP k0 hk0 sk0 0 rfl (j := 28) (vin_c (by decide)) (by decide) dX0_writes_30 ?_
    refine lv_iconst (v := 1) hx hb dX0_writes_31 (by decide) ?_
    refine lv_isub hx hb dX0_writes_32 ?_
    obtain ⟨w17, ew17, hf⟩ := ob_bnd hf
    refine xr_iast hx hb hK hP hD hS k0 hk0 sk0 0 rfl (j := 28) (w' := w17) (vin_c (by decide)) (by decide) ew17 dX0_writes_33 (fun H locs hP hS => ?_)
    exact kj34 w17 H locs ls hf hP hS (lv_sub hl [0, 1, 2] rfl)
abbrev rmX0_pawns : Room := { frames := 2, cells := 0, slots := 0, locals := 83 }
theorem cdX0_pawns : yX0_pawns.cls = RX0 ∧ yX0_pawns.cls ≠ "java/lang/invoke/MethodHandle" ∧ yX0_pawns.cls ≠ "java/lang/invoke/VarHandle" ∧ (parseMethodDescriptor yX0_pawns.desc).map (fun d => d.parameters.length) = some 1 := by decide +kernel
set_option maxHeartbeats 4000000 in
set_option maxRecDepth 100000 in
theorem wkX0_pawns (l : Launch) (D : va_G) (dA : Nat → ClassId) (E : Nat → Nat) (hE : wInj 136 E) (T : Tx) (J : State → Heap → Prop) (hJ : JP D dA E T J) (w : Mm) (a1 : Int32) {res : Mm} (hf : X_pawns w a1 = some res) : Met l yX0_pawns (ws_ yX0_pawns cX0_pawns 2 (none)) rmX0_pawns (Pj D dA E J [.ref (E 0), .int a1] w) (Qwv D clX shX 136 dA E res) 0 0 (AE 136 E) := by
  refine xj_head (own := RX0) (by decide) rfl (Nat.le_of_ble_eq_true rfl) ?_
  intro p e s m args below meth c ls Q hQ C hP hl
  obtain ⟨hx, hb, hr, hlocks, hml, hown, hts, hK, hJs⟩ := C
  replace hl : lv_has ls 2 [(0, .ref (E 0)), (1, .int a1)] := hl
  have hS : va_S (AE 136 E) s.heap s.heap [] := va_S.rf
  have hD : wD 136 E (AE 136 E) := wD.self hE
  unfold X_pawns at hf
  obtain ⟨H, eH⟩ : ∃ H, H = s.heap := ⟨_, rfl⟩
  obtain ⟨locs, eL⟩ : ∃ locs : List Loc, locs = [] := ⟨_, rfl⟩
  rw [← eL] at hS ⊢
  rw [← eH] at hP
  have hS : va_S (AE 136 E) s.heap H locs := by rw [eH]; exact hS
  show W p l e rmX0_pawns s m args below meth c s.heap locs 0 0 Q (F0 m 0 ls [])
  rw [← eH]
  refine lv_aload_n hx hb dX0_pawns_0 rfl (lv_at hl 0 rfl) ?_
  refine xr_get hx hb hts in_X0 hown hK hP 0 (by decide) rfl rfl 0 (by decide) (hts _ q252) (fun _ h => h) rfl (v := .ref (E 1)) rfl dX0_pawns_1 ?_
  refine xr_getN (host := "QuarrelsPawned") hx hb hts in_X1 hown hK hP 1 (by decide) rfl rfl 1 (by decide) (hJ.nest hJs 1 rfl) (fun _ h => h) rfl (v := .ref (E 4)) rfl dX0_pawns_4 ?_
  refine lv_bipush (v := 12) hx hb dX0_pawns_7 (by decide) ?_
  refine lv_iload_n hx hb dX0_pawns_9 rfl (lv_at hl 1 rfl) ?_
  refine lv_iadd hx hb dX0_pawns_10 ?_
  refine lv_aload_n hx hb dX0_pawns_11 rfl (lv_at hl 0 rfl) ?_
  refine xr_get hx hb hts in_X0 hown hK hP 0 (by decide) rfl rfl 0 (by decide) (hts _ q252) (fun _ h => h) rfl (v := .ref (E 1)) rfl dX0_pawns_12 ?_
  refine xr_getN (host := "QuarrelsPawned") hx hb hts in_X1 hown hK hP 1 (by decide) rfl rfl 1 (by decide) (hJ.nest hJs 1 rfl) (fun _ h => h) rfl (v := .ref (E 4)) rfl dX0_pawns_15 ?_
  refine lv_iconst (v := 0) hx hb dX0_pawns_18 (by decide) ?_
  refine xr_iald hx hb hK hP 4 (by decide) rfl 0 rfl (j := 0) (vin_c (by decide)) (by decide) dX0_pawns_19 ?_
  obtain ⟨h1, hf⟩ := ob_gd hf
  obtain ⟨w2, ew2, hf⟩ := ob_bnd hf
  refine xr_iast hx hb hK hP hD hS 4 (by decide) rfl 0 rfl (j := (12 + a1).toNatClampNeg) (w' := w2) h1 rfl ew2 dX0_pawns_20 (fun H locs hP hS => ?_)
  refine lv_aload_n hx hb dX0_pawns_21 rfl (lv_at hl 0 rfl) ?_
  refine xr_get hx hb hts in_X0 hown hK hP 0 (by decide) rfl rfl 0 (by decide) (hts _ q252) (fun _ h => h) rfl (v := .ref (E 1)) rfl dX0_pawns_22 ?_
  refine xr_getN (host := "QuarrelsPawned") hx hb hts in_X1 hown hK hP 1 (by decide) rfl rfl 1 (by decide) (hJ.nest hJs 1 rfl) (fun _ h => h) rfl (v := .ref (E 4)) rfl dX0_pawns_25 ?_
  refine lv_iconst (v := 2) hx hb dX0_pawns_28 (by decide) ?_
  refine lv_sipush (v := 9999) hx hb dX0_pawns_29 (by decide) ?_
  refine lv_aload_n hx hb dX0_pawns_32 rfl (lv_at hl 0 rfl) ?_
  refine xr_get hx hb hts in_X0 hown hK hP 0 (by decide) rfl rfl 0 (by decide) (hts _ q252) (fun _ h => h) rfl (v := .ref (E 1)) rfl dX0_pawns_33 ?_
  refine xr_getN (host := "QuarrelsPawned") hx hb hts in_X1 hown hK hP 1 (by decide) rfl rfl 1 (by decide) (hJ.nest hJs 1 rfl) (fun _ h => h) rfl (v := .ref (E 4)) rfl dX0_pawns_36 ?_
  refine lv_iconst (v := 2) hx hb dX0_pawns_39 (by decide) ?_
  refine xr_iald hx hb hK hP 4 (by decide) rfl 0 rfl (j := 2) (vin_c (by decide)) (by decide) dX0_pawns_40 ?_
  refine lv_aload_n hx hb dX0_pawns_41 rfl (lv_at hl 0 rfl) ?_
  refine xr_get hx hb hts in_X0 hown hK hP 0 (by decide) rfl rfl 0 (by decide) (hts _ q252) (fun _ h => h) rfl (v := .ref (E 1)) rfl dX0_pawns_42 ?_
  refine xr_getN (host := "QuarrelsPawned") hx hb hts in_X1 hown hK hP 1 (by decide) rfl rfl 4 (by decide) (hJ.nest hJs 4 rfl) (fun _ h => h) rfl (v := .ref (E 7)) rfl dX0_pawns_45 ?_
  refine lv_iload_n hx hb dX0_pawns_48 rfl (lv_at hl 1 rfl) ?_
  obtain ⟨h3, hf⟩ := ob_gd hf
  refine xr_iald hx hb hK hP 7 (by decide) rfl 0 rfl (j := a1.toNatClampNeg) h3 rfl dX0_pawns_49 ?_
  refine lv_iconst (v := 2) hx hb dX0_pawns_50 (by decide) ?_
  refine lv_idiv hx hb dX0_pawns_51 (by decide) ?_
  refine lv_iadd hx hb dX0_pawns_52 ?_
  refine xr_mmin hx hb (hml.trans hl.1.symm) hown (hts _ q918) (hts _ q492) (hts _ q150) (hts _ q493) (Nat.le_of_ble_eq_true rfl) (Nat.le_of_ble_eq_true rfl) (Nat.zero_le _) (Nat.zero_le _) dX0_pawns_53 ?_
  obtain ⟨w4, ew4, hf⟩ := ob_bnd hf
  refine xr_iast hx hb hK hP hD hS 4 (by decide) rfl 0 rfl (j := 2) (w' := w4) (vin_c (by decide)) (by decide) ew4 dX0_pawns_56 (fun H locs hP hS => ?_)
  refine lv_aload_n hx hb dX0_pawns_57 rfl (lv_at hl 0 rfl) ?_
  refine xr_get hx hb hts in_X0 hown hK hP 0 (by decide) rfl rfl 0 (by decide) (hts _ q252) (fun _ h => h) rfl (v := .ref (E 1)) rfl dX0_pawns_58 ?_
  refine xr_getN (host := "QuarrelsPawned") hx hb hts in_X1 hown hK hP 1 (by decide) rfl rfl 1 (by decide) (hJ.nest hJs 1 rfl) (fun _ h => h) rfl (v := .ref (E 4)) rfl dX0_pawns_61 ?_
  refine lv_iload_n hx hb dX0_pawns_64 rfl (lv_at hl 1 rfl) ?_
  refine lv_iconst (v := 1) hx hb dX0_pawns_65 (by decide) ?_
  obtain ⟨q6, g5, hf⟩ := ob_bind hf
  refine xc_v (xj_runS (As := [.ref (E 4), .int a1, .int 1]) (rest := []) hJ hJs hS ⟨hx, hb, hml, hown, hts⟩ (wkX0_writes l D dA E hE T J hJ w4 4 a1 1 g5 (by decide) rfl) (va_cwS 3 hts (lw_S q919 q920 q136 q921) rfl rfl rfl cdX0_writes.2 ⟨Nat.le_of_ble_eq_true rfl, Nat.le_of_ble_eq_true rfl⟩) hK hP hl.1 rfl rfl (Nat.le_of_ble_eq_true rfl) dX0_pawns_66 ⟨Nat.zero_le _, Nat.zero_le _⟩) hS hD.2 (fun H locs hP hS => ?_)
  obtain rfl := ob_s hf
  subst hQ
  exact xe_v hx hb hr hlocks hP hS dX0_pawns_69
abbrev rmX0_pawn : Room := { frames := 3, cells := 0, slots := 0, locals := 104 }
theorem cdX0_pawn : yX0_pawn.cls = RX0 ∧ yX0_pawn.cls ≠ "java/lang/invoke/MethodHandle" ∧ yX0_pawn.cls ≠ "java/lang/invoke/VarHandle" ∧ (parseMethodDescriptor yX0_pawn.desc).map (fun d => d.parameters.length) = some 1 := by decide +kernel
set_option maxHeartbeats 4000000 in
set_option maxRecDepth 100000 in
theorem wkX0_pawn (l : Launch) (D : va_G) (dA : Nat → ClassId) (E : Nat → Nat) (hE : wInj 136 E) (T : Tx) (J : State → Heap → Prop) (hJ : JP D dA E T J) (w : Mm) (a1 : Int32) {res : Int32 × Mm} (hf : X_pawn w a1 = some res) : Met l yX0_pawn (ws_ yX0_pawn cX0_pawn 2 (some .boolean)) rmX0_pawn (Pj D dA E J [.ref (E 0), .int a1] w) (Qwz D clX shX 136 dA E res.1 res.2) 0 0 (AE 136 E) := by
  refine xj_head (own := RX0) (by decide) rfl (Nat.le_of_ble_eq_true rfl) ?_
  intro p e s m args below meth c ls Q hQ C hP hl
  obtain ⟨hx, hb, hr, hlocks, hml, hown, hts, hK, hJs⟩ := C
  replace hl : lv_has ls 2 [(0, .ref (E 0)), (1, .int a1)] := hl
  have hS : va_S (AE 136 E) s.heap s.heap [] := va_S.rf
  have hD : wD 136 E (AE 136 E) := wD.self hE
  unfold X_pawn at hf
  obtain ⟨H, eH⟩ : ∃ H, H = s.heap := ⟨_, rfl⟩
  obtain ⟨locs, eL⟩ : ∃ locs : List Loc, locs = [] := ⟨_, rfl⟩
  rw [← eL] at hS ⊢
  rw [← eH] at hP
  have hS : va_S (AE 136 E) s.heap H locs := by rw [eH]; exact hS
  show W p l e rmX0_pawn s m args below meth c s.heap locs 0 0 Q (F0 m 0 ls [])
  rw [← eH]
  refine lv_aload_n hx hb dX0_pawn_0 rfl (lv_at hl 0 rfl) ?_
  refine lv_iload_n hx hb dX0_pawn_1 rfl (lv_at hl 1 rfl) ?_
  obtain ⟨q2, g1, hf⟩ := ob_bind hf
  refine xc_z (xj_run (As := [.int a1]) (rest := []) hJ hJs hS ⟨hx, hb, hml, hown, hts⟩ (k0 := 0) (wkX0_canPawn l D dA E hE T J hJ w a1 g1) (cwV 1 hts (lw_V q902 q904 qs24 q136 q905) rfl rfl rfl cdX0_canPawn ⟨Nat.le_of_ble_eq_true rfl, Nat.le_of_ble_eq_true rfl⟩) hK hP (by decide) rfl rfl rfl hl.1 rfl rfl (Nat.le_of_ble_eq_true rfl) dX0_pawn_2 ⟨Nat.zero_le _, Nat.zero_le _⟩) hS hD.2 (fun H locs zq2 hP hS => ?_)
  refine lv_if_ne (tgt := 10) hx hb dX0_pawn_5 (by decide) (fun c3 => ?_) (fun c3 => ?_)
  · replace hf := ob_f hf c3
    refine lv_aload_n hx hb dX0_pawn_10 rfl (lv_at hl 0 rfl) ?_
    refine xr_get hx hb hts in_X0 hown hK hP 0 (by decide) rfl rfl 0 (by decide) (hts _ q252) (fun _ h => h) rfl (v := .ref (E 1)) rfl dX0_pawn_11 ?_
    obtain ⟨q5, g4, hf⟩ := ob_bind hf
    refine xc_v (xj_run (As := []) (rest := []) hJ hJs hS ⟨hx, hb, hml, hown, hts⟩ (k0 := 1) (wkX1_keeps l D dA E hE T J hJ w g4) (cwV 0 hts (lw_V q910 q911 q912 q137 q913) rfl rfl rfl cdX1_keeps ⟨Nat.le_of_ble_eq_true rfl, Nat.le_of_ble_eq_true rfl⟩) hK hP (by decide) rfl rfl rfl hl.1 rfl rfl (Nat.le_of_ble_eq_true rfl) dX0_pawn_14 ⟨Nat.zero_le _, Nat.zero_le _⟩) hS hD.2 (fun H locs hP hS => ?_)
    refine lv_aload_n hx hb dX0_pawn_17 rfl (lv_at hl 0 rfl) ?_
    refine lv_iload_n hx hb dX0_pawn_18 rfl (lv_at hl 1 rfl) ?_
    obtain ⟨q7, g6, hf⟩ := ob_bind hf
    refine xc_v (xj_run (As := [.int a1]) (rest := []) hJ hJs hS ⟨hx, hb, hml, hown, hts⟩ (k0 := 0) (wkX0_pawns l D dA E hE T J hJ q5 a1 g6) (cwV 1 hts (lw_V q914 q916 qs26 q136 q917) rfl rfl rfl cdX0_pawns ⟨Nat.le_of_ble_eq_true rfl, Nat.le_of_ble_eq_true rfl⟩) hK hP (by decide) rfl rfl rfl hl.1 rfl rfl (Nat.le_of_ble_eq_true rfl) dX0_pawn_19 ⟨Nat.zero_le _, Nat.zero_le _⟩) hS hD.2 (fun H locs hP hS => ?_)
    refine lv_iconst (v := 1) hx hb dX0_pawn_22 (by decide) ?_
    obtain rfl := ob_s hf
    subst hQ
    exact xe_z hx hb hr hlocks hP hS (Or.inr rfl) dX0_pawn_23
  · replace hf := ob_t hf c3
    refine lv_iconst (v := 0) hx hb dX0_pawn_8 (by decide) ?_
    obtain rfl := ob_s hf
    subst hQ
    exact xe_z hx hb hr hlocks hP hS (Or.inl rfl) dX0_pawn_9
abbrev rmX0_isPawned : Room := { frames := 2, cells := 0, slots := 0, locals := 43 }
theorem cdX0_isPawned : yX0_isPawned.cls = RX0 ∧ yX0_isPawned.cls ≠ "java/lang/invoke/MethodHandle" ∧ yX0_isPawned.cls ≠ "java/lang/invoke/VarHandle" ∧ (parseMethodDescriptor yX0_isPawned.desc).map (fun d => d.parameters.length) = some 1 := by decide +kernel
set_option maxHeartbeats 4000000 in
set_option maxRecDepth 100000 in
theorem wkX0_isPawned (l : Launch) (D : va_G) (dA : Nat → ClassId) (E : Nat → Nat) (hE : wInj 136 E) (T : Tx) (J : State → Heap → Prop) (hJ : JP D dA E T J) (w : Mm) (a1 : Int32) {res : Int32} (hf : X_isPawned w a1 = some res) : Met l yX0_isPawned (ws_ yX0_isPawned cX0_isPawned 2 (some .boolean)) rmX0_isPawned (Pj D dA E J [.ref (E 0), .int a1] w) (Qwz D clX shX 136 dA E res w) 0 0 (AE 136 E) := by
  refine xj_head (own := RX0) (by decide) rfl (Nat.le_of_ble_eq_true rfl) ?_
  intro p e s m args below meth c ls Q hQ C hP hl
  obtain ⟨hx, hb, hr, hlocks, hml, hown, hts, hK, hJs⟩ := C
  replace hl : lv_has ls 2 [(0, .ref (E 0)), (1, .int a1)] := hl
  have hS : va_S (AE 136 E) s.heap s.heap [] := va_S.rf
  have hD : wD 136 E (AE 136 E) := wD.self hE
  unfold X_isPawned at hf
  obtain ⟨H, eH⟩ : ∃ H, H = s.heap := ⟨_, rfl⟩
  obtain ⟨locs, eL⟩ : ∃ locs : List Loc, locs = [] := ⟨_, rfl⟩
  rw [← eL] at hS ⊢
  rw [← eH] at hP
  have hS : va_S (AE 136 E) s.heap H locs := by rw [eH]; exact hS
  show W p l e rmX0_isPawned s m args below meth c s.heap locs 0 0 Q (F0 m 0 ls [])
  rw [← eH]
  refine lv_aload_n hx hb dX0_isPawned_0 rfl (lv_at hl 0 rfl) ?_
  refine lv_iload_n hx hb dX0_isPawned_1 rfl (lv_at hl 1 rfl) ?_
  obtain ⟨q2, g1, hf⟩ := ob_bind hf
  refine xc_z (xj_run (As := [.int a1]) (rest := []) hJ hJs hS ⟨hx, hb, hml, hown, hts⟩ (k0 := 0) (wkX0_isQuarrel l D dA E hE T J hJ w a1 g1) (cwV 1 hts (lw_V q906 q908 qs25 q136 q909) rfl rfl rfl cdX0_isQuarrel ⟨Nat.le_of_ble_eq_true rfl, Nat.le_of_ble_eq_true rfl⟩) hK hP (by decide) rfl rfl rfl hl.1 rfl rfl (Nat.le_of_ble_eq_true rfl) dX0_isPawned_2 ⟨Nat.zero_le _, Nat.zero_le _⟩) hS hD.2 (fun H locs zq2 hP hS => ?_)
  refine lv_if_eq (tgt := 27) hx hb dX0_isPawned_5 (by decide) (fun c3 => ?_) (fun c3 => ?_)
  · replace hf := ob_t hf c3
    refine lv_iconst (v := 0) hx hb dX0_isPawned_27 (by decide) ?_
    obtain rfl := ob_s hf
    subst hQ
    exact xe_z hx hb hr hlocks hP hS (Or.inl rfl) dX0_isPawned_28
  · replace hf := ob_f hf c3
    refine lv_aload_n hx hb dX0_isPawned_8 rfl (lv_at hl 0 rfl) ?_
    refine xr_get hx hb hts in_X0 hown hK hP 0 (by decide) rfl rfl 0 (by decide) (hts _ q252) (fun _ h => h) rfl (v := .ref (E 1)) rfl dX0_isPawned_9 ?_
    refine xr_getN (host := "QuarrelsPawned") hx hb hts in_X1 hown hK hP 1 (by decide) rfl rfl 1 (by decide) (hJ.nest hJs 1 rfl) (fun _ h => h) rfl (v := .ref (E 4)) rfl dX0_isPawned_12 ?_
    refine lv_iconst (v := 4) hx hb dX0_isPawned_15 (by decide) ?_
    refine lv_iload_n hx hb dX0_isPawned_16 rfl (lv_at hl 1 rfl) ?_
    refine lv_iadd hx hb dX0_isPawned_17 ?_
    obtain ⟨h4, hf⟩ := ob_gd hf
    refine xr_iald hx hb hK hP 4 (by decide) rfl 0 rfl (j := (4 + a1).toNatClampNeg) h4 rfl dX0_isPawned_18 ?_
    refine lv_iconst (v := 1) hx hb dX0_isPawned_19 (by decide) ?_
    refine lv_icmp_ne (tgt := 27) hx hb dX0_isPawned_20 (by decide) (fun c5 => ?_) (fun c5 => ?_)
    · replace hf := ob_f hf c5
      refine lv_iconst (v := 0) hx hb dX0_isPawned_27 (by decide) ?_
      obtain rfl := ob_s hf
      subst hQ
      exact xe_z hx hb hr hlocks hP hS (Or.inl rfl) dX0_isPawned_28
    · replace hf := ob_t hf c5
      refine lv_iconst (v := 1) hx hb dX0_isPawned_23 (by decide) ?_
      refine lv_goto (tgt := 28) hx hb dX0_isPawned_24 (by decide) ?_
      obtain rfl := ob_s hf
      subst hQ
      exact xe_z hx hb hr hlocks hP hS (Or.inr rfl) dX0_isPawned_28
abbrev rmX0_rules : Room := { frames := 0, cells := 0, slots := 0, locals := 0 }
theorem cdX0_rules : yX0_rules.cls = RX0 ∧ yX0_rules.cls ≠ "java/lang/invoke/MethodHandle" ∧ yX0_rules.cls ≠ "java/lang/invoke/VarHandle" ∧ (parseMethodDescriptor yX0_rules.desc).map (fun d => d.parameters.length) = some 0 := by decide +kernel
set_option maxHeartbeats 4000000 in
set_option maxRecDepth 100000 in
theorem wkX0_rules (l : Launch) (D : va_G) (dA : Nat → ClassId) (E : Nat → Nat) (hE : wInj 136 E) (T : Tx) (J : State → Heap → Prop) (hJ : JP D dA E T J) (w : Mm)  {res : Nat} (hf : X_rules T w = some res) : Met l yX0_rules (ws_ yX0_rules cX0_rules 1 (some (.object "QuarrelsPawned$Text"))) rmX0_rules (Pj D dA E J [.ref (E 0)] w) (QwA D dA E res w) 0 0 (AE 136 E) := by
  refine xj_head (own := RX0) (by decide) rfl (Nat.le_of_ble_eq_true rfl) ?_
  intro p e s m args below meth c ls Q hQ C hP hl
  obtain ⟨hx, hb, hr, hlocks, hml, hown, hts, hK, hJs⟩ := C
  replace hl : lv_has ls 1 [(0, .ref (E 0))] := hl
  have hS : va_S (AE 136 E) s.heap s.heap [] := va_S.rf
  have hD : wD 136 E (AE 136 E) := wD.self hE
  unfold X_rules at hf
  obtain ⟨H, eH⟩ : ∃ H, H = s.heap := ⟨_, rfl⟩
  obtain ⟨locs, eL⟩ : ∃ locs : List Loc, locs = [] := ⟨_, rfl⟩
  rw [← eL] at hS ⊢
  rw [← eH] at hP
  have hS : va_S (AE 136 E) s.heap H locs := by rw [eH]; exact hS
  show W p l e rmX0_rules s m args below meth c s.heap locs 0 0 Q (F0 m 0 ls [])
  rw [← eH]
  refine lv_aload_n hx hb dX0_rules_0 rfl (lv_at hl 0 rfl) ?_
  refine xr_get hx hb hts in_X0 hown hK hP 0 (by decide) rfl rfl 0 (by decide) (hts _ q252) (fun _ h => h) rfl (v := .ref (E 1)) rfl dX0_rules_1 ?_
  refine xr_getN (host := "QuarrelsPawned") hx hb hts in_X1 hown hK hP 1 (by decide) rfl rfl 0 (by decide) (hJ.nest hJs 0 rfl) (fun _ h => h) rfl (v := .ref (E 3)) rfl dX0_rules_4 ?_
  refine lv_iconst (v := 2) hx hb dX0_rules_7 (by decide) ?_
  refine xr_iald hx hb hK hP 3 (by decide) rfl 0 rfl (j := 2) (vin_c (by decide)) (by decide) dX0_rules_8 ?_
  refine lv_iconst (v := (-1)) hx hb dX0_rules_9 (by decide) ?_
  refine lv_icmp_ne (tgt := 19) hx hb dX0_rules_10 (by decide) (fun c1 => ?_) (fun c1 => ?_)
  · replace hf := ob_f hf c1
    refine lv_aload_n hx hb dX0_rules_19 rfl (lv_at hl 0 rfl) ?_
    refine xr_get hx hb hts in_X0 hown hK hP 0 (by decide) rfl rfl 0 (by decide) (hts _ q252) (fun _ h => h) rfl (v := .ref (E 1)) rfl dX0_rules_20 ?_
    refine xr_getN (host := "QuarrelsPawned") hx hb hts in_X1 hown hK hP 1 (by decide) rfl rfl 10 (by decide) (hJ.nest hJs 10 rfl) (fun _ h => h) rfl (v := .ref (E 13)) rfl dX0_rules_23 ?_
    refine lv_aload_n hx hb dX0_rules_26 rfl (lv_at hl 0 rfl) ?_
    refine xr_get hx hb hts in_X0 hown hK hP 0 (by decide) rfl rfl 0 (by decide) (hts _ q252) (fun _ h => h) rfl (v := .ref (E 1)) rfl dX0_rules_27 ?_
    refine xr_getN (host := "QuarrelsPawned") hx hb hts in_X1 hown hK hP 1 (by decide) rfl rfl 0 (by decide) (hJ.nest hJs 0 rfl) (fun _ h => h) rfl (v := .ref (E 3)) rfl dX0_rules_30 ?_
    refine lv_iconst (v := 2) hx hb dX0_rules_33 (by decide) ?_
    refine xr_iald hx hb hK hP 3 (by decide) rfl 0 rfl (j := 2) (vin_c (by decide)) (by decide) dX0_rules_34 ?_
    obtain ⟨h2, hf⟩ := ob_gd hf
    obtain ⟨t3, g4, hf⟩ := ob_bind hf
    refine xr_taald hx hb hK hP 13 (by decide) rfl (j := (w.1 3 2).toNatClampNeg) h2 rfl g4 dX0_rules_35 ?_
    obtain rfl := ob_s hf
    subst hQ
    exact xe_a hx hb hr hlocks hP hS dX0_rules_36
  · replace hf := ob_t hf c1
    refine va_gets hx hb (hJ.2.2.2 s s.heap hJs).2.2.1 hS hown (hts _ q939) (fun _ h => h) dX0_rules_13 ?_
    refine lv_goto (tgt := 36) hx hb dX0_rules_16 (by decide) ?_
    obtain rfl := ob_s hf
    subst hQ
    exact xe_a hx hb hr hlocks hP hS dX0_rules_36
abbrev rmX0_heldOf : Room := { frames := 0, cells := 0, slots := 0, locals := 0 }
theorem cdX0_heldOf : yX0_heldOf.cls = RX0 ∧ yX0_heldOf.cls ≠ "java/lang/invoke/MethodHandle" ∧ yX0_heldOf.cls ≠ "java/lang/invoke/VarHandle" ∧ (parseMethodDescriptor yX0_heldOf.desc).map (fun d => d.parameters.length) = some 2 := by decide +kernel
set_option maxHeartbeats 4000000 in
set_option maxRecDepth 100000 in
theorem wkX0_heldOf (l : Launch) (D : va_G) (dA : Nat → ClassId) (E : Nat → Nat) (hE : wInj 136 E) (T : Tx) (J : State → Heap → Prop) (hJ : JP D dA E T J) (w : Mm) (k0 : Nat) (a1 : Int32) {res : Int32} (hf : X_heldOf w k0 a1 = some res) (hk0 : k0 < 136) (sk0 : shX k0 = (1, 149, [])) : Met l yX0_heldOf (ws_ yX0_heldOf cX0_heldOf 2 (some .int)) rmX0_heldOf (Pj D dA E J [.ref (E k0), .int a1] w) (Qwi D clX shX 136 dA E res w) 0 0 (AE 136 E) := by
  refine xj_head (own := RX0) (by decide) rfl (Nat.le_of_ble_eq_true rfl) ?_
  intro p e s m args below meth c ls Q hQ C hP hl
  obtain ⟨hx, hb, hr, hlocks, hml, hown, hts, hK, hJs⟩ := C
  replace hl : lv_has ls 2 [(0, .ref (E k0)), (1, .int a1)] := hl
  have hS : va_S (AE 136 E) s.heap s.heap [] := va_S.rf
  have hD : wD 136 E (AE 136 E) := wD.self hE
  unfold X_heldOf at hf
  obtain ⟨H, eH⟩ : ∃ H, H = s.heap := ⟨_, rfl⟩
  obtain ⟨locs, eL⟩ : ∃ locs : List Loc, locs = [] := ⟨_, rfl⟩
  rw [← eL] at hS ⊢
  rw [← eH] at hP
  have hS : va_S (AE 136 E) s.heap H locs := by rw [eH]; exact hS
  show W p l e rmX0_heldOf s m args below meth c s.heap locs 0 0 Q (F0 m 0 ls [])
  rw [← eH]
  refine lv_aload_n hx hb dX0_heldOf_0 rfl (lv_at hl 0 rfl) ?_
  refine lv_iconst (v := 4) hx hb dX0_heldOf_1 (by decide) ?_
  refine lv_iload_n hx hb dX0_heldOf_2 rfl (lv_at hl 1 rfl) ?_
  refine lv_iadd hx hb dX0_heldOf_3 ?_
  obtain ⟨h1, hf⟩ := ob_gd hf
  refine xr_iald hx hb hK hP k0 hk0 sk0 0 rfl (j := (4 + a1).toNatClampNeg) h1 rfl dX0_heldOf_4 ?_
  refine lv_iconst (v := 1) hx hb dX0_heldOf_5 (by decide) ?_
  refine lv_icmp_ne (tgt := 22) hx hb dX0_heldOf_6 (by decide) (fun c2 => ?_) (fun c2 => ?_)
  · replace hf := ob_f hf c2
    refine lv_iconst (v := 0) hx hb dX0_heldOf_22 (by decide) ?_
    obtain rfl := ob_s hf
    subst hQ
    exact xe_i hx hb hr hlocks hP hS dX0_heldOf_23
  · replace hf := ob_t hf c2
    refine lv_aload_n hx hb dX0_heldOf_9 rfl (lv_at hl 0 rfl) ?_
    refine lv_iconst (v := 0) hx hb dX0_heldOf_10 (by decide) ?_
    refine xr_iald hx hb hK hP k0 hk0 sk0 0 rfl (j := 0) (vin_c (by decide)) (by decide) dX0_heldOf_11 ?_
    refine lv_aload_n hx hb dX0_heldOf_12 rfl (lv_at hl 0 rfl) ?_
    refine lv_bipush (v := 12) hx hb dX0_heldOf_13 (by decide) ?_
    refine lv_iload_n hx hb dX0_heldOf_15 rfl (lv_at hl 1 rfl) ?_
    refine lv_iadd hx hb dX0_heldOf_16 ?_
    obtain ⟨h3, hf⟩ := ob_gd hf
    refine xr_iald hx hb hK hP k0 hk0 sk0 0 rfl (j := (12 + a1).toNatClampNeg) h3 rfl dX0_heldOf_17 ?_
    refine lv_isub hx hb dX0_heldOf_18 ?_
    refine lv_goto (tgt := 23) hx hb dX0_heldOf_19 (by decide) ?_
    obtain rfl := ob_s hf
    subst hQ
    exact xe_i hx hb hr hlocks hP hS dX0_heldOf_23
abbrev rmX0_namesOf : Room := { frames := 1, cells := 0, slots := 0, locals := 60 }
theorem cdX0_namesOf : yX0_namesOf.cls = RX0 ∧ yX0_namesOf.cls ≠ "java/lang/invoke/MethodHandle" ∧ yX0_namesOf.cls ≠ "java/lang/invoke/VarHandle" ∧ (parseMethodDescriptor yX0_namesOf.desc).map (fun d => d.parameters.length) = some 2 := by decide +kernel
set_option maxHeartbeats 4000000 in
set_option maxRecDepth 100000 in
theorem wkX0_namesOf (l : Launch) (D : va_G) (dA : Nat → ClassId) (E : Nat → Nat) (hE : wInj 136 E) (T : Tx) (J : State → Heap → Prop) (hJ : JP D dA E T J) (w : Mm) (k1 : Nat) (a2 : Int32) {res : Mm} (hf : X_namesOf w k1 a2 = some res) (hk1 : k1 < 136) (sk1 : shX k1 = (1, 149, [])) : Met l yX0_namesOf (ws_ yX0_namesOf cX0_namesOf 3 (none)) rmX0_namesOf (Pj D dA E J [.ref (E 0), .ref (E k1), .int a2] w) (Qwv D clX shX 136 dA E res) 0 0 (AE 136 E) := by
  refine xj_head (own := RX0) (by decide) rfl (Nat.le_of_ble_eq_true rfl) ?_
  intro p e s m args below meth c ls Q hQ C hP hl
  obtain ⟨hx, hb, hr, hlocks, hml, hown, hts, hK, hJs⟩ := C
  replace hl : lv_has ls 3 [(0, .ref (E 0)), (1, .ref (E k1)), (2, .int a2)] := hl
  have hS : va_S (AE 136 E) s.heap s.heap [] := va_S.rf
  have hD : wD 136 E (AE 136 E) := wD.self hE
  unfold X_namesOf at hf
  obtain ⟨H, eH⟩ : ∃ H, H = s.heap := ⟨_, rfl⟩
  obtain ⟨locs, eL⟩ : ∃ locs : List Loc, locs = [] := ⟨_, rfl⟩
  rw [← eL] at hS ⊢
  rw [← eH] at hP
  have hS : va_S (AE 136 E) s.heap H locs := by rw [eH]; exact hS
  show W p l e rmX0_namesOf s m args below meth c s.heap locs 0 0 Q (F0 m 0 ls [])
  rw [← eH]
  refine lv_aload_n hx hb dX0_namesOf_0 rfl (lv_at hl 0 rfl) ?_
  refine xr_get hx hb hts in_X0 hown hK hP 0 (by decide) rfl rfl 6 (by decide) (hts _ q258) (fun _ h => h) rfl (v := .ref (E 26)) rfl dX0_namesOf_1 ?_
  refine lv_iconst (v := 0) hx hb dX0_namesOf_4 (by decide) ?_
  refine lv_aload_n hx hb dX0_namesOf_5 rfl (lv_at hl 1 rfl) ?_
  refine lv_iconst (v := 0) hx hb dX0_namesOf_6 (by decide) ?_
  refine xr_iald hx hb hK hP k1 hk1 sk1 0 rfl (j := 0) (vin_c (by decide)) (by decide) dX0_namesOf_7 ?_
  obtain ⟨w1, ew1, hf⟩ := ob_bnd hf
  refine xr_iast hx hb hK hP hD hS 26 (by decide) rfl 0 rfl (j := 0) (w' := w1) (vin_c (by decide)) (by decide) ew1 dX0_namesOf_8 (fun H locs hP hS => ?_)
  refine lv_aload_n hx hb dX0_namesOf_9 rfl (lv_at hl 0 rfl) ?_
  refine xr_get hx hb hts in_X0 hown hK hP 0 (by decide) rfl rfl 6 (by decide) (hts _ q258) (fun _ h => h) rfl (v := .ref (E 26)) rfl dX0_namesOf_10 ?_
  refine lv_iconst (v := 1) hx hb dX0_namesOf_13 (by decide) ?_
  refine lv_aload_n hx hb dX0_namesOf_14 rfl (lv_at hl 1 rfl) ?_
  refine lv_iconst (v := 3) hx hb dX0_namesOf_15 (by decide) ?_
  refine xr_iald hx hb hK hP k1 hk1 sk1 0 rfl (j := 3) (vin_c (by decide)) (by decide) dX0_namesOf_16 ?_
  obtain ⟨w2, ew2, hf⟩ := ob_bnd hf
  refine xr_iast hx hb hK hP hD hS 26 (by decide) rfl 0 rfl (j := 1) (w' := w2) (vin_c (by decide)) (by decide) ew2 dX0_namesOf_17 (fun H locs hP hS => ?_)
  refine lv_aload_n hx hb dX0_namesOf_18 rfl (lv_at hl 0 rfl) ?_
  refine xr_get hx hb hts in_X0 hown hK hP 0 (by decide) rfl rfl 6 (by decide) (hts _ q258) (fun _ h => h) rfl (v := .ref (E 26)) rfl dX0_namesOf_19 ?_
  refine lv_iconst (v := 2) hx hb dX0_namesOf_22 (by decide) ?_
  refine lv_iload_n hx hb dX0_namesOf_23 rfl (lv_at hl 2 rfl) ?_
  obtain ⟨w3, ew3, hf⟩ := ob_bnd hf
  refine xr_iast hx hb hK hP hD hS 26 (by decide) rfl 0 rfl (j := 2) (w' := w3) (vin_c (by decide)) (by decide) ew3 dX0_namesOf_24 (fun H locs hP hS => ?_)
  refine lv_aload_n hx hb dX0_namesOf_25 rfl (lv_at hl 0 rfl) ?_
  refine xr_get hx hb hts in_X0 hown hK hP 0 (by decide) rfl rfl 6 (by decide) (hts _ q258) (fun _ h => h) rfl (v := .ref (E 26)) rfl dX0_namesOf_26 ?_
  refine lv_iconst (v := 3) hx hb dX0_namesOf_29 (by decide) ?_
  refine lv_aload_n hx hb dX0_namesOf_30 rfl (lv_at hl 0 rfl) ?_
  refine xr_get hx hb hts in_X0 hown hK hP 0 (by decide) rfl rfl 0 (by decide) (hts _ q252) (fun _ h => h) rfl (v := .ref (E 1)) rfl dX0_namesOf_31 ?_
  refine xr_getN (host := "QuarrelsPawned") hx hb hts in_X1 hown hK hP 1 (by decide) rfl rfl 4 (by decide) (hJ.nest hJs 4 rfl) (fun _ h => h) rfl (v := .ref (E 7)) rfl dX0_namesOf_34 ?_
  refine lv_iload_n hx hb dX0_namesOf_37 rfl (lv_at hl 2 rfl) ?_
  obtain ⟨h4, hf⟩ := ob_gd hf
  refine xr_iald hx hb hK hP 7 (by decide) rfl 0 rfl (j := a2.toNatClampNeg) h4 rfl dX0_namesOf_38 ?_
  obtain ⟨w5, ew5, hf⟩ := ob_bnd hf
  refine xr_iast hx hb hK hP hD hS 26 (by decide) rfl 0 rfl (j := 3) (w' := w5) (vin_c (by decide)) (by decide) ew5 dX0_namesOf_39 (fun H locs hP hS => ?_)
  refine lv_aload_n hx hb dX0_namesOf_40 rfl (lv_at hl 0 rfl) ?_
  refine xr_get hx hb hts in_X0 hown hK hP 0 (by decide) rfl rfl 6 (by decide) (hts _ q258) (fun _ h => h) rfl (v := .ref (E 26)) rfl dX0_namesOf_41 ?_
  refine lv_iconst (v := 4) hx hb dX0_namesOf_44 (by decide) ?_
  refine lv_aload_n hx hb dX0_namesOf_45 rfl (lv_at hl 1 rfl) ?_
  refine lv_bipush (v := 20) hx hb dX0_namesOf_46 (by decide) ?_
  refine lv_iload_n hx hb dX0_namesOf_48 rfl (lv_at hl 2 rfl) ?_
  refine lv_iadd hx hb dX0_namesOf_49 ?_
  obtain ⟨h6, hf⟩ := ob_gd hf
  refine xr_iald hx hb hK hP k1 hk1 sk1 0 rfl (j := (20 + a2).toNatClampNeg) h6 rfl dX0_namesOf_50 ?_
  obtain ⟨w7, ew7, hf⟩ := ob_bnd hf
  refine xr_iast hx hb hK hP hD hS 26 (by decide) rfl 0 rfl (j := 4) (w' := w7) (vin_c (by decide)) (by decide) ew7 dX0_namesOf_51 (fun H locs hP hS => ?_)
  refine lv_aload_n hx hb dX0_namesOf_52 rfl (lv_at hl 0 rfl) ?_
  refine xr_get hx hb hts in_X0 hown hK hP 0 (by decide) rfl rfl 6 (by decide) (hts _ q258) (fun _ h => h) rfl (v := .ref (E 26)) rfl dX0_namesOf_53 ?_
  refine lv_iconst (v := 5) hx hb dX0_namesOf_56 (by decide) ?_
  refine lv_aload_n hx hb dX0_namesOf_57 rfl (lv_at hl 1 rfl) ?_
  refine lv_iload_n hx hb dX0_namesOf_58 rfl (lv_at hl 2 rfl) ?_
  obtain ⟨q9, g8, hf⟩ := ob_bind hf
  refine xc_i (xj_runS (As := [.ref (E k1), .int a2]) (rest := [.int 5, .ref (E 26)]) hJ hJs hS ⟨hx, hb, hml, hown, hts⟩ (wkX0_heldOf l D dA E hE T J hJ w7 k1 a2 g8 hk1 sk1) (va_cwS 2 hts (lw_S q949 q950 q136 q951) rfl rfl rfl cdX0_heldOf.2 ⟨Nat.le_of_ble_eq_true rfl, Nat.le_of_ble_eq_true rfl⟩) hK hP hl.1 rfl rfl (Nat.le_of_ble_eq_true rfl) dX0_namesOf_59 ⟨Nat.zero_le _, Nat.zero_le _⟩) hS hD.2 (fun H locs hP hS => ?_)
  obtain ⟨w10, ew10, hf⟩ := ob_bnd hf
  refine xr_iast hx hb hK hP hD hS 26 (by decide) rfl 0 rfl (j := 5) (w' := w10) (vin_c (by decide)) (by decide) ew10 dX0_namesOf_62 (fun H locs hP hS => ?_)
  refine lv_aload_n hx hb dX0_namesOf_63 rfl (lv_at hl 1 rfl) ?_
  refine lv_bipush (v := 20) hx hb dX0_namesOf_64 (by decide) ?_
  refine lv_aload_n hx hb dX0_namesOf_66 rfl (lv_at hl 0 rfl) ?_
  refine xr_get hx hb hts in_X0 hown hK hP 0 (by decide) rfl rfl 6 (by decide) (hts _ q258) (fun _ h => h) rfl (v := .ref (E 26)) rfl dX0_namesOf_67 ?_
  refine lv_bipush (v := 8) hx hb dX0_namesOf_70 (by decide) ?_
  refine lv_bipush (v := 8) hx hb dX0_namesOf_72 (by decide) ?_
  obtain ⟨h12, hf⟩ := ob_gp hf
  obtain ⟨w11, ew11, hf⟩ := ob_bnd hf
  refine xr_copy hx hb (hml.trans hl.1.symm) hown (hts _ q922) (hts _ q248) (hts _ q247) (hts _ q139) hK hP hD hS k1 26 hk1 (by decide) sk1 rfl (w' := w11) h12 ew11 (Nat.le_of_ble_eq_true rfl) (Nat.le_of_ble_eq_true rfl) dX0_namesOf_74 (fun H locs hP hS => ?_)
  obtain rfl := ob_s hf
  subst hQ
  exact xe_v hx hb hr hlocks hP hS dX0_namesOf_77
abbrev rmX0_held : Room := { frames := 1, cells := 0, slots := 0, locals := 24 }
theorem cdX0_held : yX0_held.cls = RX0 ∧ yX0_held.cls ≠ "java/lang/invoke/MethodHandle" ∧ yX0_held.cls ≠ "java/lang/invoke/VarHandle" ∧ (parseMethodDescriptor yX0_held.desc).map (fun d => d.parameters.length) = some 3 := by decide +kernel
set_option maxHeartbeats 4000000 in
set_option maxRecDepth 100000 in
theorem wkX0_held (l : Launch) (D : va_G) (dA : Nat → ClassId) (E : Nat → Nat) (hE : wInj 136 E) (T : Tx) (J : State → Heap → Prop) (hJ : JP D dA E T J) (w : Mm) (a0 : Int64) (a2 : Int32) (a3 : Int32) {res : Int32} (hf : X_held a0 a2 a3 = some res) : Met l yX0_held (ws_ yX0_held cX0_held 4 (some .int)) rmX0_held (Pj D dA E J [.long a0, .int a2, .int a3] w) (Qwi D clX shX 136 dA E res w) 0 0 (AE 136 E) := by
  refine xj_head (own := RX0) (by decide) rfl (Nat.le_of_ble_eq_true rfl) ?_
  intro p e s m args below meth c ls Q hQ C hP hl
  obtain ⟨hx, hb, hr, hlocks, hml, hown, hts, hK, hJs⟩ := C
  replace hl : lv_has ls 4 [(0, .long a0), (2, .int a2), (3, .int a3)] := hl
  have hS : va_S (AE 136 E) s.heap s.heap [] := va_S.rf
  have hD : wD 136 E (AE 136 E) := wD.self hE
  unfold X_held at hf
  obtain ⟨H, eH⟩ : ∃ H, H = s.heap := ⟨_, rfl⟩
  obtain ⟨locs, eL⟩ : ∃ locs : List Loc, locs = [] := ⟨_, rfl⟩
  rw [← eL] at hS ⊢
  rw [← eH] at hP
  have hS : va_S (AE 136 E) s.heap H locs := by rw [eH]; exact hS
  show W p l e rmX0_held s m args below meth c s.heap locs 0 0 Q (F0 m 0 ls [])
  rw [← eH]
  refine lv_iload_n hx hb dX0_held_0 rfl (lv_at hl 1 rfl) ?_
  refine lv_i2l hx hb dX0_held_1 rfl ?_
  refine lv_iload_n hx hb dX0_held_2 rfl (lv_at hl 2 rfl) ?_
  refine lv_i2l hx hb dX0_held_3 rfl ?_
  refine lv_lload_n hx hb dX0_held_4 rfl (lv_at hl 0 rfl) ?_
  refine xr_mmin_long hx hb (hml.trans hl.1.symm) hown (hts _ q1066) (hts _ q1058) (hts _ q150) (hts _ q1059) (Nat.le_of_ble_eq_true rfl) (Nat.le_of_ble_eq_true rfl) (Nat.zero_le _) (Nat.zero_le _) dX0_held_5 ?_
  refine xr_mmax_long hx hb (hml.trans hl.1.symm) hown (hts _ q1067) (hts _ q1061) (hts _ q150) (hts _ q1062) (Nat.le_of_ble_eq_true rfl) (Nat.le_of_ble_eq_true rfl) (Nat.zero_le _) (Nat.zero_le _) dX0_held_8 ?_
  refine lv_l2i hx hb dX0_held_11 rfl ?_
  obtain rfl := ob_s hf
  subst hQ
  exact xe_i hx hb hr hlocks hP hS dX0_held_12
abbrev rmX0_duesOfNames : Room := { frames := 200, cells := 0, slots := 0, locals := 8000 }
theorem cdX0_duesOfNames : yX0_duesOfNames.cls = RX0 ∧ yX0_duesOfNames.cls ≠ "java/lang/invoke/MethodHandle" ∧ yX0_duesOfNames.cls ≠ "java/lang/invoke/VarHandle" ∧ (parseMethodDescriptor yX0_duesOfNames.desc).map (fun d => d.parameters.length) = some 2 := by decide +kernel
set_option maxHeartbeats 4000000 in
set_option maxRecDepth 100000 in
theorem wkX0_duesOfNames (l : Launch) (D : va_G) (dA : Nat → ClassId) (E : Nat → Nat) (hE : wInj 136 E) (T : Tx) (J : State → Heap → Prop) (hJ : JP D dA E T J) (w : Mm) (t1 : Nat) (a2 : Int32) {res : Int32 × Mm} (hf : X_duesOfNames T w t1 a2 = some res) : Met l yX0_duesOfNames (ws_ yX0_duesOfNames cX0_duesOfNames 3 (some .int)) rmX0_duesOfNames (Pj D dA E J [.ref (E 0), .ref t1, .int a2] w) (Qwi D clX shX 136 dA E res.1 res.2) 0 0 (AE 136 E) := by
  refine xj_head (own := RX0) (by decide) rfl (Nat.le_of_ble_eq_true rfl) ?_
  intro p e s m args below meth c ls Q hQ C hP hl
  obtain ⟨hx, hb, hr, hlocks, hml, hown, hts, hK, hJs⟩ := C
  replace hl : lv_has ls 3 [(0, .ref (E 0)), (1, .ref t1), (2, .int a2)] := hl
  have hS : va_S (AE 136 E) s.heap s.heap [] := va_S.rf
  have hD : wD 136 E (AE 136 E) := wD.self hE
  unfold X_duesOfNames at hf
  obtain ⟨H, eH⟩ : ∃ H, H = s.heap := ⟨_, rfl⟩
  obtain ⟨locs, eL⟩ : ∃ locs : List Loc, locs = [] := ⟨_, rfl⟩
  rw [← eL] at hS ⊢
  rw [← eH] at hP
  have hS : va_S (AE 136 E) s.heap H locs := by rw [eH]; exact hS
  show W p l e rmX0_duesOfNames s m args below meth c s.heap locs 0 0 Q (F0 m 0 ls [])
  rw [← eH]
  refine lv_aload_n hx hb dX0_duesOfNames_0 rfl (lv_at hl 0 rfl) ?_
  refine xr_get hx hb hts in_X0 hown hK hP 0 (by decide) rfl rfl 6 (by decide) (hts _ q258) (fun _ h => h) rfl (v := .ref (E 26)) rfl dX0_duesOfNames_1 ?_
  refine lv_bipush (v := 6) hx hb dX0_duesOfNames_4 (by decide) ?_
  refine lv_iload_n hx hb dX0_duesOfNames_6 rfl (lv_at hl 2 rfl) ?_
  obtain ⟨w1, ew1, hf⟩ := ob_bnd hf
  refine xr_iast hx hb hK hP hD hS 26 (by decide) rfl 0 rfl (j := 6) (w' := w1) (vin_c (by decide)) (by decide) ew1 dX0_duesOfNames_7 (fun H locs hP hS => ?_)
  refine lv_aload_n hx hb dX0_duesOfNames_8 rfl (lv_at hl 1 rfl) ?_
  obtain ⟨r3, g2, hf⟩ := ob_bind hf
  refine xjr_getN (host := "QuarrelsPawned") hx hb hts in_X4 hown hK hJ (hJ.at hJs hS) (ci := 2) rfl 0 (by decide) (hJ.nest hJs 11 rfl) (fun _ h => h) g2 dX0_duesOfNames_9 ?_
  refine lv_iconst (v := 0) hx hb dX0_duesOfNames_12 (by decide) ?_
  obtain ⟨y4, g5, hf⟩ := ob_bind hf
  obtain ⟨h6, hf⟩ := ob_gd hf
  refine xh_aald hx hb hK (hJ.view (hJ.at hJs hS)) 7 4 rfl g5 (j := (0 : Int32).toNatClampNeg) h6 rfl dX0_duesOfNames_13 ?_
  have kj59 : ∀ (t7 : Int64) (H : Heap) (locs : List Loc) (ls : Array Slot), X_duesOfNames_j59 t7 w1 = some res → va_P D clX (wl shX 136 dA E w1) H → va_S (AE 136 E) s.heap H locs → lv_has ls 3 [] → W p l e rmX0_duesOfNames s m args below meth c H locs 0 0 Q (F0 m 59 ls [.long t7]) := by
    intro t7 H locs ls hf hP hS hl
    unfold X_duesOfNames_j59 at hf
    refine lv_iconst (v := 0) hx hb dX0_duesOfNames_59 (by decide) ?_
    refine lv_sipush (v := 9999) hx hb dX0_duesOfNames_60 (by decide) ?_
    obtain ⟨q9, g8, hf⟩ := ob_bind hf
    refine xc_i (xj_runS (As := [.long t7, .int 0, .int 9999]) (rest := []) hJ hJs hS ⟨hx, hb, hml, hown, hts⟩ (wkX0_held l D dA E hE T J hJ w1 t7 0 9999 g8) (va_cwS 3 hts (lw_S q1063 q1064 q136 q1065) rfl rfl rfl cdX0_held.2 ⟨Nat.le_of_ble_eq_true rfl, Nat.le_of_ble_eq_true rfl⟩) hK hP hl.1 rfl rfl (Nat.le_of_ble_eq_true rfl) dX0_duesOfNames_63 ⟨Nat.zero_le _, Nat.zero_le _⟩) hS hD.2 (fun H locs hP hS => ?_)
    obtain rfl := ob_s hf
    subst hQ
    exact xe_i hx hb hr hlocks hP hS dX0_duesOfNames_66
  refine xr_ifnonnull (tgt := 44) hx hb dX0_duesOfNames_14 (by decide) (fun c10 => ?_) (fun c10 => ?_)
  · replace hf := ob_t hf c10
    refine lv_aload_n hx hb dX0_duesOfNames_17 rfl (lv_at hl 0 rfl) ?_
    refine xr_get hx hb hts in_X0 hown hK hP 0 (by decide) rfl rfl 6 (by decide) (hts _ q258) (fun _ h => h) rfl (v := .ref (E 26)) rfl dX0_duesOfNames_18 ?_
    refine lv_iconst (v := 3) hx hb dX0_duesOfNames_21 (by decide) ?_
    refine xr_iald hx hb hK hP 26 (by decide) rfl 0 rfl (j := 3) (vin_c (by decide)) (by decide) dX0_duesOfNames_22 ?_
    refine lv_aload_n hx hb dX0_duesOfNames_23 rfl (lv_at hl 0 rfl) ?_
    refine xr_get hx hb hts in_X0 hown hK hP 0 (by decide) rfl rfl 6 (by decide) (hts _ q258) (fun _ h => h) rfl (v := .ref (E 26)) rfl dX0_duesOfNames_24 ?_
    refine lv_iconst (v := 5) hx hb dX0_duesOfNames_27 (by decide) ?_
    refine xr_iald hx hb hK hP 26 (by decide) rfl 0 rfl (j := 5) (vin_c (by decide)) (by decide) dX0_duesOfNames_28 ?_
    refine lv_aload_n hx hb dX0_duesOfNames_29 rfl (lv_at hl 0 rfl) ?_
    refine xr_get hx hb hts in_X0 hown hK hP 0 (by decide) rfl rfl 6 (by decide) (hts _ q258) (fun _ h => h) rfl (v := .ref (E 26)) rfl dX0_duesOfNames_30 ?_
    refine lv_iconst (v := 3) hx hb dX0_duesOfNames_33 (by decide) ?_
    refine xr_iald hx hb hK hP 26 (by decide) rfl 0 rfl (j := 3) (vin_c (by decide)) (by decide) dX0_duesOfNames_34 ?_
    refine lv_imul hx hb dX0_duesOfNames_35 ?_
    refine lv_bipush (v := 50) hx hb dX0_duesOfNames_36 (by decide) ?_
    refine lv_idiv hx hb dX0_duesOfNames_38 (by decide) ?_
    refine lv_iadd hx hb dX0_duesOfNames_39 ?_
    refine lv_i2l hx hb dX0_duesOfNames_40 rfl ?_
    refine lv_goto (tgt := 59) hx hb dX0_duesOfNames_41 (by decide) ?_
    exact kj59 (((w1.1 26 3) + (((w1.1 26 5) * (w1.1 26 3)) / 50)).toInt64) H locs ls hf hP hS (lv_sub hl [] rfl)
  · replace hf := ob_f hf c10
    refine lv_aload_n hx hb dX0_duesOfNames_44 rfl (lv_at hl 1 rfl) ?_
    obtain ⟨r12, g11, hf⟩ := ob_bind hf
    refine xjr_getN (host := "QuarrelsPawned") hx hb hts in_X4 hown hK hJ (hJ.at hJs hS) (ci := 2) rfl 0 (by decide) (hJ.nest hJs 11 rfl) (fun _ h => h) g11 dX0_duesOfNames_45 ?_
    refine lv_iconst (v := 0) hx hb dX0_duesOfNames_48 (by decide) ?_
    obtain ⟨y13, g14, hf⟩ := ob_bind hf
    obtain ⟨h15, hf⟩ := ob_gd hf
    obtain ⟨r16, g17, hf⟩ := ob_bind hf
    refine xh_aald hx hb hK (hJ.view (hJ.at hJs hS)) 7 4 rfl g14 (j := (0 : Int32).toNatClampNeg) h15 rfl dX0_duesOfNames_49 ?_
    refine xn_a g17 ?_
    refine lv_aload_n hx hb dX0_duesOfNames_50 rfl (lv_at hl 0 rfl) ?_
    refine xr_get hx hb hts in_X0 hown hK hP 0 (by decide) rfl rfl 6 (by decide) (hts _ q258) (fun _ h => h) rfl (v := .ref (E 26)) rfl dX0_duesOfNames_51 ?_
    obtain ⟨y19, g18, hf⟩ := ob_bind hf
    refine xr_eval hJ hJs hS ⟨hx, hb, hml, hown, hts⟩ hK hP g18 q957 hl.1 (Nat.le_of_ble_eq_true rfl) ⟨Nat.le_of_ble_eq_true rfl, Nat.le_of_ble_eq_true rfl⟩ dX0_duesOfNames_54 (fun H locs hP hS => ?_)
    exact kj59 y19 H locs ls hf hP hS (lv_sub hl [] rfl)
abbrev rmX0_duesBy : Room := { frames := 201, cells := 0, slots := 0, locals := 8022 }
theorem cdX0_duesBy : yX0_duesBy.cls = RX0 ∧ yX0_duesBy.cls ≠ "java/lang/invoke/MethodHandle" ∧ yX0_duesBy.cls ≠ "java/lang/invoke/VarHandle" ∧ (parseMethodDescriptor yX0_duesBy.desc).map (fun d => d.parameters.length) = some 3 := by decide +kernel
set_option maxHeartbeats 4000000 in
set_option maxRecDepth 100000 in
theorem wkX0_duesBy (l : Launch) (D : va_G) (dA : Nat → ClassId) (E : Nat → Nat) (hE : wInj 136 E) (T : Tx) (J : State → Heap → Prop) (hJ : JP D dA E T J) (w : Mm) (t1 : Nat) (k2 : Nat) (a3 : Int32) {res : Int32 × Mm} (hf : X_duesBy T w t1 k2 a3 = some res) (hk2 : k2 < 136) (sk2 : shX k2 = (1, 149, [])) : Met l yX0_duesBy (ws_ yX0_duesBy cX0_duesBy 4 (some .int)) rmX0_duesBy (Pj D dA E J [.ref (E 0), .ref t1, .ref (E k2), .int a3] w) (Qwi D clX shX 136 dA E res.1 res.2) 0 0 (AE 136 E) := by
  refine xj_head (own := RX0) (by decide) rfl (Nat.le_of_ble_eq_true rfl) ?_
  intro p e s m args below meth c ls Q hQ C hP hl
  obtain ⟨hx, hb, hr, hlocks, hml, hown, hts, hK, hJs⟩ := C
  replace hl : lv_has ls 4 [(0, .ref (E 0)), (1, .ref t1), (2, .ref (E k2)), (3, .int a3)] := hl
  have hS : va_S (AE 136 E) s.heap s.heap [] := va_S.rf
  have hD : wD 136 E (AE 136 E) := wD.self hE
  unfold X_duesBy at hf
  obtain ⟨H, eH⟩ : ∃ H, H = s.heap := ⟨_, rfl⟩
  obtain ⟨locs, eL⟩ : ∃ locs : List Loc, locs = [] := ⟨_, rfl⟩
  rw [← eL] at hS ⊢
  rw [← eH] at hP
  have hS : va_S (AE 136 E) s.heap H locs := by rw [eH]; exact hS
  show W p l e rmX0_duesBy s m args below meth c s.heap locs 0 0 Q (F0 m 0 ls [])
  rw [← eH]
  refine lv_aload_n hx hb dX0_duesBy_0 rfl (lv_at hl 0 rfl) ?_
  refine lv_aload_n hx hb dX0_duesBy_1 rfl (lv_at hl 2 rfl) ?_
  refine lv_iload_n hx hb dX0_duesBy_2 rfl (lv_at hl 3 rfl) ?_
  obtain ⟨q2, g1, hf⟩ := ob_bind hf
  refine xc_v (xj_run (As := [.ref (E k2), .int a3]) (rest := []) hJ hJs hS ⟨hx, hb, hml, hown, hts⟩ (k0 := 0) (wkX0_namesOf l D dA E hE T J hJ w k2 a3 g1 hk2 sk2) (cwV 2 hts (lw_V q945 q947 qs31 q136 q948) rfl rfl rfl cdX0_namesOf ⟨Nat.le_of_ble_eq_true rfl, Nat.le_of_ble_eq_true rfl⟩) hK hP (by decide) rfl rfl rfl hl.1 rfl rfl (Nat.le_of_ble_eq_true rfl) dX0_duesBy_3 ⟨Nat.zero_le _, Nat.zero_le _⟩) hS hD.2 (fun H locs hP hS => ?_)
  refine lv_aload_n hx hb dX0_duesBy_6 rfl (lv_at hl 0 rfl) ?_
  refine lv_aload_n hx hb dX0_duesBy_7 rfl (lv_at hl 1 rfl) ?_
  refine lv_aload_n hx hb dX0_duesBy_8 rfl (lv_at hl 2 rfl) ?_
  refine lv_iconst (v := 2) hx hb dX0_duesBy_9 (by decide) ?_
  refine xr_iald hx hb hK hP k2 hk2 sk2 0 rfl (j := 2) (vin_c (by decide)) (by decide) dX0_duesBy_10 ?_
  obtain ⟨q4, g3, hf⟩ := ob_bind hf
  refine xc_i (xj_run (As := [.ref t1, .int (q2.1 k2 2)]) (rest := []) hJ hJs hS ⟨hx, hb, hml, hown, hts⟩ (k0 := 0) (wkX0_duesOfNames l D dA E hE T J hJ q2 t1 (q2.1 k2 2) g3) (cwV 2 hts (lw_V q952 q954 qs32 q136 q955) rfl rfl rfl cdX0_duesOfNames ⟨Nat.le_of_ble_eq_true rfl, Nat.le_of_ble_eq_true rfl⟩) hK hP (by decide) rfl rfl rfl hl.1 rfl rfl (Nat.le_of_ble_eq_true rfl) dX0_duesBy_11 ⟨Nat.zero_le _, Nat.zero_le _⟩) hS hD.2 (fun H locs hP hS => ?_)
  obtain rfl := ob_s hf
  subst hQ
  exact xe_i hx hb hr hlocks hP hS dX0_duesBy_14
abbrev rmX0_canRedeem : Room := { frames := 202, cells := 0, slots := 0, locals := 8045 }
theorem cdX0_canRedeem : yX0_canRedeem.cls = RX0 ∧ yX0_canRedeem.cls ≠ "java/lang/invoke/MethodHandle" ∧ yX0_canRedeem.cls ≠ "java/lang/invoke/VarHandle" ∧ (parseMethodDescriptor yX0_canRedeem.desc).map (fun d => d.parameters.length) = some 1 := by decide +kernel
set_option maxHeartbeats 4000000 in
set_option maxRecDepth 100000 in
theorem wkX0_canRedeem (l : Launch) (D : va_G) (dA : Nat → ClassId) (E : Nat → Nat) (hE : wInj 136 E) (T : Tx) (J : State → Heap → Prop) (hJ : JP D dA E T J) (w : Mm) (a1 : Int32) {res : Int32 × Mm} (hf : X_canRedeem T w a1 = some res) : Met l yX0_canRedeem (ws_ yX0_canRedeem cX0_canRedeem 2 (some .boolean)) rmX0_canRedeem (Pj D dA E J [.ref (E 0), .int a1] w) (Qwz D clX shX 136 dA E res.1 res.2) 0 0 (AE 136 E) := by
  refine xj_head (own := RX0) (by decide) rfl (Nat.le_of_ble_eq_true rfl) ?_
  intro p e s m args below meth c ls Q hQ C hP hl
  obtain ⟨hx, hb, hr, hlocks, hml, hown, hts, hK, hJs⟩ := C
  replace hl : lv_has ls 2 [(0, .ref (E 0)), (1, .int a1)] := hl
  have hS : va_S (AE 136 E) s.heap s.heap [] := va_S.rf
  have hD : wD 136 E (AE 136 E) := wD.self hE
  unfold X_canRedeem at hf
  obtain ⟨H, eH⟩ : ∃ H, H = s.heap := ⟨_, rfl⟩
  obtain ⟨locs, eL⟩ : ∃ locs : List Loc, locs = [] := ⟨_, rfl⟩
  rw [← eL] at hS ⊢
  rw [← eH] at hP
  have hS : va_S (AE 136 E) s.heap H locs := by rw [eH]; exact hS
  show W p l e rmX0_canRedeem s m args below meth c s.heap locs 0 0 Q (F0 m 0 ls [])
  rw [← eH]
  refine lv_aload_n hx hb dX0_canRedeem_0 rfl (lv_at hl 0 rfl) ?_
  refine lv_iload_n hx hb dX0_canRedeem_1 rfl (lv_at hl 1 rfl) ?_
  obtain ⟨q2, g1, hf⟩ := ob_bind hf
  refine xc_z (xj_run (As := [.int a1]) (rest := []) hJ hJs hS ⟨hx, hb, hml, hown, hts⟩ (k0 := 0) (wkX0_isPawned l D dA E hE T J hJ w a1 g1) (cwV 1 hts (lw_V q931 q933 qs28 q136 q934) rfl rfl rfl cdX0_isPawned ⟨Nat.le_of_ble_eq_true rfl, Nat.le_of_ble_eq_true rfl⟩) hK hP (by decide) rfl rfl rfl hl.1 rfl rfl (Nat.le_of_ble_eq_true rfl) dX0_canRedeem_2 ⟨Nat.zero_le _, Nat.zero_le _⟩) hS hD.2 (fun H locs zq2 hP hS => ?_)
  refine lv_if_eq (tgt := 40) hx hb dX0_canRedeem_5 (by decide) (fun c3 => ?_) (fun c3 => ?_)
  · replace hf := ob_t hf c3
    refine lv_iconst (v := 0) hx hb dX0_canRedeem_40 (by decide) ?_
    obtain rfl := ob_s hf
    subst hQ
    exact xe_z hx hb hr hlocks hP hS (Or.inl rfl) dX0_canRedeem_41
  · replace hf := ob_f hf c3
    refine lv_aload_n hx hb dX0_canRedeem_8 rfl (lv_at hl 0 rfl) ?_
    refine xr_get hx hb hts in_X0 hown hK hP 0 (by decide) rfl rfl 0 (by decide) (hts _ q252) (fun _ h => h) rfl (v := .ref (E 1)) rfl dX0_canRedeem_9 ?_
    refine xr_getN (host := "QuarrelsPawned") hx hb hts in_X1 hown hK hP 1 (by decide) rfl rfl 1 (by decide) (hJ.nest hJs 1 rfl) (fun _ h => h) rfl (v := .ref (E 4)) rfl dX0_canRedeem_12 ?_
    refine lv_iconst (v := 2) hx hb dX0_canRedeem_15 (by decide) ?_
    refine xr_iald hx hb hK hP 4 (by decide) rfl 0 rfl (j := 2) (vin_c (by decide)) (by decide) dX0_canRedeem_16 ?_
    refine lv_aload_n hx hb dX0_canRedeem_17 rfl (lv_at hl 0 rfl) ?_
    refine lv_aload_n hx hb dX0_canRedeem_18 rfl (lv_at hl 0 rfl) ?_
    obtain ⟨q5, g4, hf⟩ := ob_bind hf
    refine xc_a (xj_run (As := []) (rest := [.ref (E 0), .int (w.1 4 2)]) hJ hJs hS ⟨hx, hb, hml, hown, hts⟩ (k0 := 0) (wkX0_rules l D dA E hE T J hJ w g4) (cwV 0 hts (lw_V q935 q937 qs29 q136 q938) rfl rfl rfl cdX0_rules ⟨Nat.le_of_ble_eq_true rfl, Nat.le_of_ble_eq_true rfl⟩) hK hP (by decide) rfl rfl rfl hl.1 rfl rfl (Nat.le_of_ble_eq_true rfl) dX0_canRedeem_19 ⟨Nat.zero_le _, Nat.zero_le _⟩) hS hD.2 (fun H locs hP hS => ?_)
    refine lv_aload_n hx hb dX0_canRedeem_22 rfl (lv_at hl 0 rfl) ?_
    refine xr_get hx hb hts in_X0 hown hK hP 0 (by decide) rfl rfl 0 (by decide) (hts _ q252) (fun _ h => h) rfl (v := .ref (E 1)) rfl dX0_canRedeem_23 ?_
    refine xr_getN (host := "QuarrelsPawned") hx hb hts in_X1 hown hK hP 1 (by decide) rfl rfl 1 (by decide) (hJ.nest hJs 1 rfl) (fun _ h => h) rfl (v := .ref (E 4)) rfl dX0_canRedeem_26 ?_
    refine lv_iload_n hx hb dX0_canRedeem_29 rfl (lv_at hl 1 rfl) ?_
    obtain ⟨q7, g6, hf⟩ := ob_bind hf
    refine xc_i (xj_run (As := [.ref q5, .ref (E 4), .int a1]) (rest := [.int (w.1 4 2)]) hJ hJs hS ⟨hx, hb, hml, hown, hts⟩ (k0 := 0) (wkX0_duesBy l D dA E hE T J hJ w q5 4 a1 g6 (by decide) rfl) (cwV 3 hts (lw_V q941 q943 qs30 q136 q944) rfl rfl rfl cdX0_duesBy ⟨Nat.le_of_ble_eq_true rfl, Nat.le_of_ble_eq_true rfl⟩) hK hP (by decide) rfl rfl rfl hl.1 rfl rfl (Nat.le_of_ble_eq_true rfl) dX0_canRedeem_30 ⟨Nat.zero_le _, Nat.zero_le _⟩) hS hD.2 (fun H locs hP hS => ?_)
    refine lv_icmp_lt (tgt := 40) hx hb dX0_canRedeem_33 (by decide) (fun c8 => ?_) (fun c8 => ?_)
    · replace hf := ob_t hf c8
      refine lv_iconst (v := 0) hx hb dX0_canRedeem_40 (by decide) ?_
      obtain rfl := ob_s hf
      subst hQ
      exact xe_z hx hb hr hlocks hP hS (Or.inl rfl) dX0_canRedeem_41
    · replace hf := ob_f hf c8
      refine lv_iconst (v := 1) hx hb dX0_canRedeem_36 (by decide) ?_
      refine lv_goto (tgt := 41) hx hb dX0_canRedeem_37 (by decide) ?_
      obtain rfl := ob_s hf
      subst hQ
      exact xe_z hx hb hr hlocks hP hS (Or.inr rfl) dX0_canRedeem_41
