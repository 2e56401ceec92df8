/-! QuarrelsPawnedModel: its methods walked (printed by gen.py) -/
abbrev rmX2_copy : Room := { frames := 0, cells := 0, slots := 0, locals := 0 }
theorem cdX2_copy : yX2_copy.cls = RX2 ∧ yX2_copy.cls ≠ "java/lang/invoke/MethodHandle" ∧ yX2_copy.cls ≠ "java/lang/invoke/VarHandle" ∧ (parseMethodDescriptor yX2_copy.desc).map (fun d => d.parameters.length) = some 2 := by decide +kernel
set_option maxHeartbeats 4000000 in
set_option maxRecDepth 100000 in
theorem wkX2_copy (l : Launch) (D : va_G) (dA : Nat → ClassId) (E : Nat → Nat) (hE : wInj 19 E) (w : Mm) (k0 : Nat) (n0 : Nat) (k1 : Nat) (n1 : Nat) {res : Mm} (hf : M_copy w k0 n0 k1 n1 = some res) (hk0 : k0 < 19) (sk0 : shM k0 = (1, n0, [])) (hk1 : k1 < 19) (sk1 : shM k1 = (1, n1, [])) : Met l yX2_copy (ws_ yX2_copy cX2_copy 3 (none)) rmX2_copy (Pw D clM (tyM dA) shM 19 dA E [.ref (E k0), .ref (E k1)] w) (Qwv D clM shM 19 dA E res) 0 0 (AE 19 E) := by
  refine xm_head (own := RX2) (by decide) rfl (Nat.le_of_ble_eq_true rfl) ?_
  intro p e s m args below meth c ls Q hQ C hP hl
  obtain ⟨hx, hb, hr, hlocks, hml, hown, hts, hK⟩ := C
  replace hl : lv_has ls 3 [(0, .ref (E k0)), (1, .ref (E k1))] := hl
  have hS : va_S (AE 19 E) s.heap s.heap [] := va_S.rf
  have hD : wD 19 E (AE 19 E) := wD.self hE
  unfold M_copy at hf
  obtain ⟨H, eH⟩ : ∃ H, H = s.heap := ⟨_, rfl⟩
  obtain ⟨locs, eL⟩ : ∃ locs : List Loc, locs = [] := ⟨_, rfl⟩
  rw [← eL] at hS ⊢
  rw [← eH] at hP
  have hS : va_S (AE 19 E) s.heap H locs := by rw [eH]; exact hS
  show W p l e rmX2_copy s m args below meth c s.heap locs 0 0 Q (F0 m 0 ls [])
  rw [← eH]
  refine lv_iconst (v := 0) hx hb dX2_copy_0 (by decide) ?_
  refine lv_istore_n (lv' := [(2, .int 0), (0, .ref (E k0)), (1, .ref (E k1))]) hx hb dX2_copy_1 rfl hl (by decide) rfl (fun ls hl => ?_)
  obtain ⟨b3, hb3, hf⟩ := ob_bind hf
  obtain ⟨n3, hn3⟩ := lp_some hb3
  have kL2 : ∀ (n : Nat) (w1 : Mm) (v2_2 : Int32), lpF (fun (q3 : Mm × Int32) => M_copy_b2 n0 n1 k1 k0 q3.1 q3.2) n (w1, v2_2) = some b3 → (∀ (H : Heap) (locs : List Loc) (ls : Array Slot), va_P D clM (wl shM 19 dA E b3) H → va_S (AE 19 E) s.heap H locs → lv_has ls 3 [] → W p l e rmX2_copy s m args below meth c H locs 0 0 Q (F0 m 21 ls [])) → ∀ (H : Heap) (locs : List Loc) (ls : Array Slot), va_P D clM (wl shM 19 dA E w1) H → va_S (AE 19 E) s.heap H locs → lv_has ls 3 [(0, .ref (E k0)), (1, .ref (E k1)), (2, .int v2_2)] → W p l e rmX2_copy s m args below meth c H locs 0 0 Q (F0 m 2 ls []) := by
    intro n
    induction n with
    | zero =>
      intro w1 v2_2 h
      cases h
    | succ n ih =>
      intro w1 v2_2 h K3_0 H locs ls hP hS hl
      obtain ⟨r3, hf, h3a, h3b⟩ := lpF_step h
      replace hf : M_copy_b2 n0 n1 k1 k0 w1 v2_2 = some r3 := hf
      unfold M_copy_b2 at hf
      refine lv_iload_n hx hb dX2_copy_2 rfl (lv_at hl 2 rfl) ?_
      refine lv_sipush (v := 2875) hx hb dX2_copy_3 (by decide) ?_
      refine lv_icmp_ge (tgt := 21) hx hb dX2_copy_6 (by decide) (fun c4 => ?_) (fun c4 => ?_)
      · replace hf := ob_t hf c4
        obtain rfl := ob_s hf
        obtain rfl := h3b _ rfl
        exact K3_0 H locs ls hP hS (lv_sub hl [] rfl)
      · replace hf := ob_f hf c4
        refine lv_aload_n hx hb dX2_copy_9 rfl (lv_at hl 1 rfl) ?_
        refine lv_iload_n hx hb dX2_copy_10 rfl (lv_at hl 2 rfl) ?_
        refine lv_aload_n hx hb dX2_copy_11 rfl (lv_at hl 0 rfl) ?_
        refine lv_iload_n hx hb dX2_copy_12 rfl (lv_at hl 2 rfl) ?_
        obtain ⟨h5, hf⟩ := ob_gd hf
        refine xr_iald hx hb hK hP k0 hk0 sk0 0 rfl (j := v2_2.toNatClampNeg) h5 rfl dX2_copy_13 ?_
        obtain ⟨h6, hf⟩ := ob_gd hf
        obtain ⟨w7, ew7, hf⟩ := ob_bnd hf
        refine xr_iast hx hb hK hP hD hS k1 hk1 sk1 0 rfl (j := v2_2.toNatClampNeg) (w' := w7) h6 rfl ew7 dX2_copy_14 (fun H locs hP hS => ?_)
        obtain ⟨v2_8, ev2_8, hf⟩ := ob_bnd hf
        refine lv_iinc (v := v2_8) (lv' := [(2, .int v2_8), (0, .ref (E k0)), (1, .ref (E k1))]) hx hb dX2_copy_15 hl (k := 2) rfl (by rw [ev2_8]; rfl) (by decide) rfl (fun ls hl => ?_)
        refine lv_goto (tgt := 2) hx hb dX2_copy_18 (by decide) ?_
        obtain rfl := ob_s hf
        exact ih _ _ (h3a _ rfl) K3_0 H locs ls hP hS (lv_sub hl [1, 2, 0] rfl)
  refine kL2 n3 w 0 hn3 (fun H locs ls hP hS hl => ?_) H locs ls hP hS (lv_sub hl [1, 2, 0] rfl)
  replace hf : M_copy_x2_21 b3 = some res := hf
  unfold M_copy_x2_21 at hf
  obtain rfl := ob_s hf
  subst hQ
  exact xe_v hx hb hr hlocks hP hS dX2_copy_21
abbrev rmX2_isIn : Room := { frames := 0, cells := 0, slots := 0, locals := 0 }
theorem cdX2_isIn : yX2_isIn.cls = RX2 ∧ yX2_isIn.cls ≠ "java/lang/invoke/MethodHandle" ∧ yX2_isIn.cls ≠ "java/lang/invoke/VarHandle" ∧ (parseMethodDescriptor yX2_isIn.desc).map (fun d => d.parameters.length) = some 3 := by decide +kernel
set_option maxHeartbeats 4000000 in
set_option maxRecDepth 100000 in
theorem wkX2_isIn (l : Launch) (D : va_G) (dA : Nat → ClassId) (E : Nat → Nat) (hE : wInj 19 E) (w : Mm) (a0 : Int32) (a1 : Int32) (a2 : Int32) {res : Int32} (hf : M_isIn a0 a1 a2 = some res) : Met l yX2_isIn (ws_ yX2_isIn cX2_isIn 3 (some .boolean)) rmX2_isIn (Pw D clM (tyM dA) shM 19 dA E [.int a0, .int a1, .int a2] w) (Qwz D clM shM 19 dA E res w) 0 0 (AE 19 E) := by
  refine xm_head (own := RX2) (by decide) rfl (Nat.le_of_ble_eq_true rfl) ?_
  intro p e s m args below meth c ls Q hQ C hP hl
  obtain ⟨hx, hb, hr, hlocks, hml, hown, hts, hK⟩ := C
  replace hl : lv_has ls 3 [(0, .int a0), (1, .int a1), (2, .int a2)] := hl
  have hS : va_S (AE 19 E) s.heap s.heap [] := va_S.rf
  have hD : wD 19 E (AE 19 E) := wD.self hE
  unfold M_isIn at hf
  obtain ⟨H, eH⟩ : ∃ H, H = s.heap := ⟨_, rfl⟩
  obtain ⟨locs, eL⟩ : ∃ locs : List Loc, locs = [] := ⟨_, rfl⟩
  rw [← eL] at hS ⊢
  rw [← eH] at hP
  have hS : va_S (AE 19 E) s.heap H locs := by rw [eH]; exact hS
  show W p l e rmX2_isIn s m args below meth c s.heap locs 0 0 Q (F0 m 0 ls [])
  rw [← eH]
  refine lv_iload_n hx hb dX2_isIn_0 rfl (lv_at hl 0 rfl) ?_
  refine lv_iload_n hx hb dX2_isIn_1 rfl (lv_at hl 1 rfl) ?_
  refine lv_icmp_lt (tgt := 14) hx hb dX2_isIn_2 (by decide) (fun c1 => ?_) (fun c1 => ?_)
  · replace hf := ob_t hf c1
    refine lv_iconst (v := 0) hx hb dX2_isIn_14 (by decide) ?_
    obtain rfl := ob_s hf
    subst hQ
    exact xe_z hx hb hr hlocks hP hS (Or.inl rfl) dX2_isIn_15
  · replace hf := ob_f hf c1
    refine lv_iload_n hx hb dX2_isIn_5 rfl (lv_at hl 0 rfl) ?_
    refine lv_iload_n hx hb dX2_isIn_6 rfl (lv_at hl 2 rfl) ?_
    refine lv_icmp_gt (tgt := 14) hx hb dX2_isIn_7 (by decide) (fun c2 => ?_) (fun c2 => ?_)
    · replace hf := ob_t hf c2
      refine lv_iconst (v := 0) hx hb dX2_isIn_14 (by decide) ?_
      obtain rfl := ob_s hf
      subst hQ
      exact xe_z hx hb hr hlocks hP hS (Or.inl rfl) dX2_isIn_15
    · replace hf := ob_f hf c2
      refine lv_iconst (v := 1) hx hb dX2_isIn_10 (by decide) ?_
      refine lv_goto (tgt := 15) hx hb dX2_isIn_11 (by decide) ?_
      obtain rfl := ob_s hf
      subst hQ
      exact xe_z hx hb hr hlocks hP hS (Or.inr rfl) dX2_isIn_15
abbrev rmX2_isPerson : Room := { frames := 1, cells := 0, slots := 0, locals := 22 }
theorem cdX2_isPerson : yX2_isPerson.cls = RX2 ∧ yX2_isPerson.cls ≠ "java/lang/invoke/MethodHandle" ∧ yX2_isPerson.cls ≠ "java/lang/invoke/VarHandle" ∧ (parseMethodDescriptor yX2_isPerson.desc).map (fun d => d.parameters.length) = some 1 := by decide +kernel
set_option maxHeartbeats 4000000 in
set_option maxRecDepth 100000 in
theorem wkX2_isPerson (l : Launch) (D : va_G) (dA : Nat → ClassId) (E : Nat → Nat) (hE : wInj 19 E) (w : Mm) (a0 : Int32) {res : Int32} (hf : M_isPerson a0 = some res) : Met l yX2_isPerson (ws_ yX2_isPerson cX2_isPerson 1 (some .boolean)) rmX2_isPerson (Pw D clM (tyM dA) shM 19 dA E [.int a0] w) (Qwz D clM shM 19 dA E res w) 0 0 (AE 19 E) := by
  refine xm_head (own := RX2) (by decide) rfl (Nat.le_of_ble_eq_true rfl) ?_
  intro p e s m args below meth c ls Q hQ C hP hl
  obtain ⟨hx, hb, hr, hlocks, hml, hown, hts, hK⟩ := C
  replace hl : lv_has ls 1 [(0, .int a0)] := hl
  have hS : va_S (AE 19 E) s.heap s.heap [] := va_S.rf
  have hD : wD 19 E (AE 19 E) := wD.self hE
  unfold M_isPerson at hf
  obtain ⟨H, eH⟩ : ∃ H, H = s.heap := ⟨_, rfl⟩
  obtain ⟨locs, eL⟩ : ∃ locs : List Loc, locs = [] := ⟨_, rfl⟩
  rw [← eL] at hS ⊢
  rw [← eH] at hP
  have hS : va_S (AE 19 E) s.heap H locs := by rw [eH]; exact hS
  show W p l e rmX2_isPerson s m args below meth c s.heap locs 0 0 Q (F0 m 0 ls [])
  rw [← eH]
  refine lv_iload_n hx hb dX2_isPerson_0 rfl (lv_at hl 0 rfl) ?_
  refine lv_iconst (v := 0) hx hb dX2_isPerson_1 (by decide) ?_
  refine lv_iconst (v := 5) hx hb dX2_isPerson_2 (by decide) ?_
  obtain ⟨q2, g1, hf⟩ := ob_bind hf
  refine xc_z (xw_runS (As := [.int a0, .int 0, .int 5]) (rest := []) ⟨hx, hb, hml, hown, hts⟩ (wkX2_isIn l D dA E hE w a0 0 5 g1) (va_cwS 3 hts (lw_S q1538 q1539 q140 q1540) rfl rfl rfl cdX2_isIn.2 ⟨Nat.le_of_ble_eq_true rfl, Nat.le_of_ble_eq_true rfl⟩) hK hP hl.1 rfl rfl (Nat.le_of_ble_eq_true rfl) dX2_isPerson_3 ⟨Nat.zero_le _, Nat.zero_le _⟩) hS hD.2 (fun H locs zq2 hP hS => ?_)
  obtain rfl := ob_s hf
  subst hQ
  exact xe_z hx hb hr hlocks hP hS zq2 dX2_isPerson_6
abbrev rmX2_begin : Room := { frames := 0, cells := 0, slots := 0, locals := 0 }
theorem cdX2_begin : yX2_begin.cls = RX2 ∧ yX2_begin.cls ≠ "java/lang/invoke/MethodHandle" ∧ yX2_begin.cls ≠ "java/lang/invoke/VarHandle" ∧ (parseMethodDescriptor yX2_begin.desc).map (fun d => d.parameters.length) = some 1 := by decide +kernel
set_option maxHeartbeats 4000000 in
set_option maxRecDepth 100000 in
theorem wkX2_begin (l : Launch) (D : va_G) (dA : Nat → ClassId) (E : Nat → Nat) (hE : wInj 19 E) (w : Mm) (a1 : Int32) {res : Mm} (hf : M_begin w a1 = some res) : Met l yX2_begin (ws_ yX2_begin cX2_begin 2 (none)) rmX2_begin (Pw D clM (tyM dA) shM 19 dA E [.ref (E 0), .int a1] w) (Qwv D clM shM 19 dA E res) 0 0 (AE 19 E) := by
  refine xm_head (own := RX2) (by decide) rfl (Nat.le_of_ble_eq_true rfl) ?_
  intro p e s m args below meth c ls Q hQ C hP hl
  obtain ⟨hx, hb, hr, hlocks, hml, hown, hts, hK⟩ := C
  replace hl : lv_has ls 2 [(0, .ref (E 0)), (1, .int a1)] := hl
  have hS : va_S (AE 19 E) s.heap s.heap [] := va_S.rf
  have hD : wD 19 E (AE 19 E) := wD.self hE
  unfold M_begin at hf
  obtain ⟨H, eH⟩ : ∃ H, H = s.heap := ⟨_, rfl⟩
  obtain ⟨locs, eL⟩ : ∃ locs : List Loc, locs = [] := ⟨_, rfl⟩
  rw [← eL] at hS ⊢
  rw [← eH] at hP
  have hS : va_S (AE 19 E) s.heap H locs := by rw [eH]; exact hS
  show W p l e rmX2_begin s m args below meth c s.heap locs 0 0 Q (F0 m 0 ls [])
  rw [← eH]
  refine lv_aload_n hx hb dX2_begin_0 rfl (lv_at hl 0 rfl) ?_
  refine xr_get hx hb hts in_X2 hown hK hP 0 (by decide) rfl rfl 0 (by decide) (hts _ q1405) (fun _ h => h) rfl (v := .ref (E 1)) rfl dX2_begin_1 ?_
  refine lv_bipush (v := 12) hx hb dX2_begin_4 (by decide) ?_
  refine lv_iconst (v := 3) hx hb dX2_begin_6 (by decide) ?_
  refine lv_iload_n hx hb dX2_begin_7 rfl (lv_at hl 1 rfl) ?_
  refine lv_imul hx hb dX2_begin_8 ?_
  refine lv_iadd hx hb dX2_begin_9 ?_
  refine lv_iconst (v := 0) hx hb dX2_begin_10 (by decide) ?_
  obtain ⟨h1, hf⟩ := ob_gd hf
  obtain ⟨w2, ew2, hf⟩ := ob_bnd hf
  refine xr_iast hx hb hK hP hD hS 1 (by decide) rfl 0 rfl (j := (12 + (3 * a1)).toNatClampNeg) (w' := w2) h1 rfl ew2 dX2_begin_11 (fun H locs hP hS => ?_)
  refine lv_aload_n hx hb dX2_begin_12 rfl (lv_at hl 0 rfl) ?_
  refine xr_get hx hb hts in_X2 hown hK hP 0 (by decide) rfl rfl 0 (by decide) (hts _ q1405) (fun _ h => h) rfl (v := .ref (E 1)) rfl dX2_begin_13 ?_
  refine lv_bipush (v := 12) hx hb dX2_begin_16 (by decide) ?_
  refine lv_iconst (v := 3) hx hb dX2_begin_18 (by decide) ?_
  refine lv_iload_n hx hb dX2_begin_19 rfl (lv_at hl 1 rfl) ?_
  refine lv_imul hx hb dX2_begin_20 ?_
  refine lv_iadd hx hb dX2_begin_21 ?_
  refine lv_iconst (v := 1) hx hb dX2_begin_22 (by decide) ?_
  refine lv_iadd hx hb dX2_begin_23 ?_
  refine lv_iconst (v := 0) hx hb dX2_begin_24 (by decide) ?_
  obtain ⟨h3, hf⟩ := ob_gd hf
  obtain ⟨w4, ew4, hf⟩ := ob_bnd hf
  refine xr_iast hx hb hK hP hD hS 1 (by decide) rfl 0 rfl (j := ((12 + (3 * a1)) + 1).toNatClampNeg) (w' := w4) h3 rfl ew4 dX2_begin_25 (fun H locs hP hS => ?_)
  refine lv_aload_n hx hb dX2_begin_26 rfl (lv_at hl 0 rfl) ?_
  refine xr_get hx hb hts in_X2 hown hK hP 0 (by decide) rfl rfl 0 (by decide) (hts _ q1405) (fun _ h => h) rfl (v := .ref (E 1)) rfl dX2_begin_27 ?_
  refine lv_bipush (v := 12) hx hb dX2_begin_30 (by decide) ?_
  refine lv_iconst (v := 3) hx hb dX2_begin_32 (by decide) ?_
  refine lv_iload_n hx hb dX2_begin_33 rfl (lv_at hl 1 rfl) ?_
  refine lv_imul hx hb dX2_begin_34 ?_
  refine lv_iadd hx hb dX2_begin_35 ?_
  refine lv_iconst (v := 2) hx hb dX2_begin_36 (by decide) ?_
  refine lv_iadd hx hb dX2_begin_37 ?_
  refine lv_aload_n hx hb dX2_begin_38 rfl (lv_at hl 0 rfl) ?_
  refine xr_get hx hb hts in_X2 hown hK hP 0 (by decide) rfl rfl 0 (by decide) (hts _ q1405) (fun _ h => h) rfl (v := .ref (E 1)) rfl dX2_begin_39 ?_
  refine lv_bipush (v := 60) hx hb dX2_begin_42 (by decide) ?_
  refine lv_iload_n hx hb dX2_begin_44 rfl (lv_at hl 1 rfl) ?_
  refine lv_iadd hx hb dX2_begin_45 ?_
  obtain ⟨h5, hf⟩ := ob_gd hf
  refine xr_iald hx hb hK hP 1 (by decide) rfl 0 rfl (j := (60 + a1).toNatClampNeg) h5 rfl dX2_begin_46 ?_
  obtain ⟨h6, hf⟩ := ob_gd hf
  obtain ⟨w7, ew7, hf⟩ := ob_bnd hf
  refine xr_iast hx hb hK hP hD hS 1 (by decide) rfl 0 rfl (j := ((12 + (3 * a1)) + 2).toNatClampNeg) (w' := w7) h6 rfl ew7 dX2_begin_47 (fun H locs hP hS => ?_)
  obtain rfl := ob_s hf
  subst hQ
  exact xe_v hx hb hr hlocks hP hS dX2_begin_48
abbrev rmX2_quarrel : Room := { frames := 2, cells := 0, slots := 0, locals := 42 }
theorem cdX2_quarrel : yX2_quarrel.cls = RX2 ∧ yX2_quarrel.cls ≠ "java/lang/invoke/MethodHandle" ∧ yX2_quarrel.cls ≠ "java/lang/invoke/VarHandle" ∧ (parseMethodDescriptor yX2_quarrel.desc).map (fun d => d.parameters.length) = some 4 := by decide +kernel
set_option maxHeartbeats 4000000 in
set_option maxRecDepth 100000 in
theorem wkX2_quarrel (l : Launch) (D : va_G) (dA : Nat → ClassId) (E : Nat → Nat) (hE : wInj 19 E) (w : Mm) (a1 : Int32) (a2 : Int32) (a3 : Int32) (a4 : Int32) {res : Int32 × Mm} (hf : M_quarrel w a1 a2 a3 a4 = some res) : Met l yX2_quarrel (ws_ yX2_quarrel cX2_quarrel 6 (some .int)) rmX2_quarrel (Pw D clM (tyM dA) shM 19 dA E [.ref (E 0), .int a1, .int a2, .int a3, .int a4] w) (Qwi D clM shM 19 dA E res.1 res.2) 0 0 (AE 19 E) := by
  refine xm_head (own := RX2) (by decide) rfl (Nat.le_of_ble_eq_true rfl) ?_
  intro p e s m args below meth c ls Q hQ C hP hl
  obtain ⟨hx, hb, hr, hlocks, hml, hown, hts, hK⟩ := C
  replace hl : lv_has ls 6 [(0, .ref (E 0)), (1, .int a1), (2, .int a2), (3, .int a3), (4, .int a4)] := hl
  have hS : va_S (AE 19 E) s.heap s.heap [] := va_S.rf
  have hD : wD 19 E (AE 19 E) := wD.self hE
  unfold M_quarrel at hf
  obtain ⟨H, eH⟩ : ∃ H, H = s.heap := ⟨_, rfl⟩
  obtain ⟨locs, eL⟩ : ∃ locs : List Loc, locs = [] := ⟨_, rfl⟩
  rw [← eL] at hS ⊢
  rw [← eH] at hP
  have hS : va_S (AE 19 E) s.heap H locs := by rw [eH]; exact hS
  show W p l e rmX2_quarrel s m args below meth c s.heap locs 0 0 Q (F0 m 0 ls [])
  rw [← eH]
  refine lv_iload_n hx hb dX2_quarrel_0 rfl (lv_at hl 1 rfl) ?_
  obtain ⟨q2, g1, hf⟩ := ob_bind hf
  refine xc_z (xw_runS (As := [.int a1]) (rest := []) ⟨hx, hb, hml, hown, hts⟩ (wkX2_isPerson l D dA E hE w a1 g1) (va_cwS 1 hts (lw_S q1535 q1536 q140 q1537) rfl rfl rfl cdX2_isPerson.2 ⟨Nat.le_of_ble_eq_true rfl, Nat.le_of_ble_eq_true rfl⟩) hK hP hl.1 rfl rfl (Nat.le_of_ble_eq_true rfl) dX2_quarrel_1 ⟨Nat.zero_le _, Nat.zero_le _⟩) hS hD.2 (fun H locs zq2 hP hS => ?_)
  refine lv_if_eq (tgt := 51) hx hb dX2_quarrel_4 (by decide) (fun c3 => ?_) (fun c3 => ?_)
  · replace hf := ob_t hf c3
    refine lv_iconst (v := (-1)) hx hb dX2_quarrel_51 (by decide) ?_
    obtain rfl := ob_s hf
    subst hQ
    exact xe_i hx hb hr hlocks hP hS dX2_quarrel_52
  · replace hf := ob_f hf c3
    refine lv_iload_n hx hb dX2_quarrel_7 rfl (lv_at hl 2 rfl) ?_
    obtain ⟨q5, g4, hf⟩ := ob_bind hf
    refine xc_z (xw_runS (As := [.int a2]) (rest := []) ⟨hx, hb, hml, hown, hts⟩ (wkX2_isPerson l D dA E hE w a2 g4) (va_cwS 1 hts (lw_S q1535 q1536 q140 q1537) rfl rfl rfl cdX2_isPerson.2 ⟨Nat.le_of_ble_eq_true rfl, Nat.le_of_ble_eq_true rfl⟩) hK hP hl.1 rfl rfl (Nat.le_of_ble_eq_true rfl) dX2_quarrel_8 ⟨Nat.zero_le _, Nat.zero_le _⟩) hS hD.2 (fun H locs zq5 hP hS => ?_)
    refine lv_if_eq (tgt := 51) hx hb dX2_quarrel_11 (by decide) (fun c6 => ?_) (fun c6 => ?_)
    · replace hf := ob_t hf c6
      refine lv_iconst (v := (-1)) hx hb dX2_quarrel_51 (by decide) ?_
      obtain rfl := ob_s hf
      subst hQ
      exact xe_i hx hb hr hlocks hP hS dX2_quarrel_52
    · replace hf := ob_f hf c6
      refine lv_iload_n hx hb dX2_quarrel_14 rfl (lv_at hl 1 rfl) ?_
      refine lv_iload_n hx hb dX2_quarrel_15 rfl (lv_at hl 2 rfl) ?_
      refine lv_icmp_eq (tgt := 51) hx hb dX2_quarrel_16 (by decide) (fun c7 => ?_) (fun c7 => ?_)
      · replace hf := ob_t hf c7
        refine lv_iconst (v := (-1)) hx hb dX2_quarrel_51 (by decide) ?_
        obtain rfl := ob_s hf
        subst hQ
        exact xe_i hx hb hr hlocks hP hS dX2_quarrel_52
      · replace hf := ob_f hf c7
        refine lv_iload_n hx hb dX2_quarrel_19 rfl (lv_at hl 3 rfl) ?_
        refine lv_iconst (v := 1) hx hb dX2_quarrel_20 (by decide) ?_
        refine lv_bipush (v := 99) hx hb dX2_quarrel_21 (by decide) ?_
        obtain ⟨q9, g8, hf⟩ := ob_bind hf
        refine xc_z (xw_runS (As := [.int a3, .int 1, .int 99]) (rest := []) ⟨hx, hb, hml, hown, hts⟩ (wkX2_isIn l D dA E hE w a3 1 99 g8) (va_cwS 3 hts (lw_S q1538 q1539 q140 q1540) rfl rfl rfl cdX2_isIn.2 ⟨Nat.le_of_ble_eq_true rfl, Nat.le_of_ble_eq_true rfl⟩) hK hP hl.1 rfl rfl (Nat.le_of_ble_eq_true rfl) dX2_quarrel_23 ⟨Nat.zero_le _, Nat.zero_le _⟩) hS hD.2 (fun H locs zq9 hP hS => ?_)
        refine lv_if_eq (tgt := 51) hx hb dX2_quarrel_26 (by decide) (fun c10 => ?_) (fun c10 => ?_)
        · replace hf := ob_t hf c10
          refine lv_iconst (v := (-1)) hx hb dX2_quarrel_51 (by decide) ?_
          obtain rfl := ob_s hf
          subst hQ
          exact xe_i hx hb hr hlocks hP hS dX2_quarrel_52
        · replace hf := ob_f hf c10
          refine lv_iload hx hb dX2_quarrel_29 (lv_at hl 4 rfl) ?_
          refine lv_iconst (v := 0) hx hb dX2_quarrel_31 (by decide) ?_
          refine lv_bipush (v := 9) hx hb dX2_quarrel_32 (by decide) ?_
          obtain ⟨q12, g11, hf⟩ := ob_bind hf
          refine xc_z (xw_runS (As := [.int a4, .int 0, .int 9]) (rest := []) ⟨hx, hb, hml, hown, hts⟩ (wkX2_isIn l D dA E hE w a4 0 9 g11) (va_cwS 3 hts (lw_S q1538 q1539 q140 q1540) rfl rfl rfl cdX2_isIn.2 ⟨Nat.le_of_ble_eq_true rfl, Nat.le_of_ble_eq_true rfl⟩) hK hP hl.1 rfl rfl (Nat.le_of_ble_eq_true rfl) dX2_quarrel_34 ⟨Nat.zero_le _, Nat.zero_le _⟩) hS hD.2 (fun H locs zq12 hP hS => ?_)
          refine lv_if_eq (tgt := 51) hx hb dX2_quarrel_37 (by decide) (fun c13 => ?_) (fun c13 => ?_)
          · replace hf := ob_t hf c13
            refine lv_iconst (v := (-1)) hx hb dX2_quarrel_51 (by decide) ?_
            obtain rfl := ob_s hf
            subst hQ
            exact xe_i hx hb hr hlocks hP hS dX2_quarrel_52
          · replace hf := ob_f hf c13
            refine lv_aload_n hx hb dX2_quarrel_40 rfl (lv_at hl 0 rfl) ?_
            refine xr_get hx hb hts in_X2 hown hK hP 0 (by decide) rfl rfl 0 (by decide) (hts _ q1405) (fun _ h => h) rfl (v := .ref (E 1)) rfl dX2_quarrel_41 ?_
            refine lv_iconst (v := 0) hx hb dX2_quarrel_44 (by decide) ?_
            refine xr_iald hx hb hK hP 1 (by decide) rfl 0 rfl (j := 0) (vin_c (by decide)) (by decide) dX2_quarrel_45 ?_
            refine lv_bipush (v := 8) hx hb dX2_quarrel_46 (by decide) ?_
            refine lv_icmp_ne (tgt := 53) hx hb dX2_quarrel_48 (by decide) (fun c14 => ?_) (fun c14 => ?_)
            · replace hf := ob_f hf c14
              refine lv_aload_n hx hb dX2_quarrel_53 rfl (lv_at hl 0 rfl) ?_
              refine xr_get hx hb hts in_X2 hown hK hP 0 (by decide) rfl rfl 0 (by decide) (hts _ q1405) (fun _ h => h) rfl (v := .ref (E 1)) rfl dX2_quarrel_54 ?_
              refine lv_iconst (v := 0) hx hb dX2_quarrel_57 (by decide) ?_
              refine xr_iald hx hb hK hP 1 (by decide) rfl 0 rfl (j := 0) (vin_c (by decide)) (by decide) dX2_quarrel_58 ?_
              obtain ⟨v5_15, ev5_15, hf⟩ := ob_bnd hf
              refine xn_i ev5_15 ?_
              refine lv_istore (lv' := [(5, .int v5_15), (0, .ref (E 0)), (1, .int a1), (2, .int a2), (3, .int a3), (4, .int a4)]) hx hb dX2_quarrel_59 hl (by decide) rfl (fun ls hl => ?_)
              refine lv_aload_n hx hb dX2_quarrel_61 rfl (lv_at hl 1 rfl) ?_
              refine xr_get hx hb hts in_X2 hown hK hP 0 (by decide) rfl rfl 0 (by decide) (hts _ q1405) (fun _ h => h) rfl (v := .ref (E 1)) rfl dX2_quarrel_62 ?_
              refine lv_bipush (v := 36) hx hb dX2_quarrel_65 (by decide) ?_
              refine lv_iconst (v := 2) hx hb dX2_quarrel_67 (by decide) ?_
              refine lv_iload hx hb dX2_quarrel_68 (lv_at hl 0 rfl) ?_
              refine lv_imul hx hb dX2_quarrel_70 ?_
              refine lv_iadd hx hb dX2_quarrel_71 ?_
              refine lv_iload_n hx hb dX2_quarrel_72 rfl (lv_at hl 2 rfl) ?_
              obtain ⟨h16, hf⟩ := ob_gd hf
              obtain ⟨w17, ew17, hf⟩ := ob_bnd hf
              refine xr_iast hx hb hK hP hD hS 1 (by decide) rfl 0 rfl (j := (36 + (2 * v5_15)).toNatClampNeg) (w' := w17) h16 rfl ew17 dX2_quarrel_73 (fun H locs hP hS => ?_)
              refine lv_aload_n hx hb dX2_quarrel_74 rfl (lv_at hl 1 rfl) ?_
              refine xr_get hx hb hts in_X2 hown hK hP 0 (by decide) rfl rfl 0 (by decide) (hts _ q1405) (fun _ h => h) rfl (v := .ref (E 1)) rfl dX2_quarrel_75 ?_
              refine lv_bipush (v := 36) hx hb dX2_quarrel_78 (by decide) ?_
              refine lv_iconst (v := 2) hx hb dX2_quarrel_80 (by decide) ?_
              refine lv_iload hx hb dX2_quarrel_81 (lv_at hl 0 rfl) ?_
              refine lv_imul hx hb dX2_quarrel_83 ?_
              refine lv_iadd hx hb dX2_quarrel_84 ?_
              refine lv_iconst (v := 1) hx hb dX2_quarrel_85 (by decide) ?_
              refine lv_iadd hx hb dX2_quarrel_86 ?_
              refine lv_iload_n hx hb dX2_quarrel_87 rfl (lv_at hl 3 rfl) ?_
              obtain ⟨h18, hf⟩ := ob_gd hf
              obtain ⟨w19, ew19, hf⟩ := ob_bnd hf
              refine xr_iast hx hb hK hP hD hS 1 (by decide) rfl 0 rfl (j := ((36 + (2 * v5_15)) + 1).toNatClampNeg) (w' := w19) h18 rfl ew19 dX2_quarrel_88 (fun H locs hP hS => ?_)
              refine lv_aload_n hx hb dX2_quarrel_89 rfl (lv_at hl 1 rfl) ?_
              refine xr_get hx hb hts in_X2 hown hK hP 0 (by decide) rfl rfl 0 (by decide) (hts _ q1405) (fun _ h => h) rfl (v := .ref (E 1)) rfl dX2_quarrel_90 ?_
              refine lv_bipush (v := 52) hx hb dX2_quarrel_93 (by decide) ?_
              refine lv_iload hx hb dX2_quarrel_95 (lv_at hl 0 rfl) ?_
              refine lv_iadd hx hb dX2_quarrel_97 ?_
              refine lv_iload_n hx hb dX2_quarrel_98 rfl (lv_at hl 4 rfl) ?_
              obtain ⟨h20, hf⟩ := ob_gd hf
              obtain ⟨w21, ew21, hf⟩ := ob_bnd hf
              refine xr_iast hx hb hK hP hD hS 1 (by decide) rfl 0 rfl (j := (52 + v5_15).toNatClampNeg) (w' := w21) h20 rfl ew21 dX2_quarrel_99 (fun H locs hP hS => ?_)
              refine lv_aload_n hx hb dX2_quarrel_100 rfl (lv_at hl 1 rfl) ?_
              refine xr_get hx hb hts in_X2 hown hK hP 0 (by decide) rfl rfl 0 (by decide) (hts _ q1405) (fun _ h => h) rfl (v := .ref (E 1)) rfl dX2_quarrel_101 ?_
              refine lv_bipush (v := 60) hx hb dX2_quarrel_104 (by decide) ?_
              refine lv_iload hx hb dX2_quarrel_106 (lv_at hl 0 rfl) ?_
              refine lv_iadd hx hb dX2_quarrel_108 ?_
              refine lv_iload hx hb dX2_quarrel_109 (lv_at hl 5 rfl) ?_
              obtain ⟨h22, hf⟩ := ob_gd hf
              obtain ⟨w23, ew23, hf⟩ := ob_bnd hf
              refine xr_iast hx hb hK hP hD hS 1 (by decide) rfl 0 rfl (j := (60 + v5_15).toNatClampNeg) (w' := w23) h22 rfl ew23 dX2_quarrel_111 (fun H locs hP hS => ?_)
              refine lv_aload_n hx hb dX2_quarrel_112 rfl (lv_at hl 1 rfl) ?_
              refine lv_iload hx hb dX2_quarrel_113 (lv_at hl 0 rfl) ?_
              obtain ⟨q25, g24, hf⟩ := ob_bind hf
              refine xc_v (xw_run (As := [.int v5_15]) (rest := []) ⟨hx, hb, hml, hown, hts⟩ (k0 := 0) (wkX2_begin l D dA E hE w23 v5_15 g24) (cwV 1 hts (lw_V q1541 q1543 qs61 q140 q1544) rfl rfl rfl cdX2_begin ⟨Nat.le_of_ble_eq_true rfl, Nat.le_of_ble_eq_true rfl⟩) hK hP (by decide) rfl rfl rfl hl.1 rfl rfl (Nat.le_of_ble_eq_true rfl) dX2_quarrel_115 ⟨Nat.zero_le _, Nat.zero_le _⟩) hS hD.2 (fun H locs hP hS => ?_)
              refine lv_aload_n hx hb dX2_quarrel_118 rfl (lv_at hl 1 rfl) ?_
              refine xr_get hx hb hts in_X2 hown hK hP 0 (by decide) rfl rfl 0 (by decide) (hts _ q1405) (fun _ h => h) rfl (v := .ref (E 1)) rfl dX2_quarrel_119 ?_
              refine lv_iconst (v := 0) hx hb dX2_quarrel_122 (by decide) ?_
              refine lv_dup2_11 hx hb dX2_quarrel_123 rfl rfl ?_
              refine xr_iald hx hb hK hP 1 (by decide) rfl 0 rfl (j := 0) (vin_c (by decide)) (by decide) dX2_quarrel_124 ?_
              refine lv_iconst (v := 1) hx hb dX2_quarrel_125 (by decide) ?_
              refine lv_iadd hx hb dX2_quarrel_126 ?_
              obtain ⟨w26, ew26, hf⟩ := ob_bnd hf
              refine xr_iast hx hb hK hP hD hS 1 (by decide) rfl 0 rfl (j := 0) (w' := w26) (vin_c (by decide)) (by decide) ew26 dX2_quarrel_127 (fun H locs hP hS => ?_)
              refine lv_iload hx hb dX2_quarrel_128 (lv_at hl 0 rfl) ?_
              obtain rfl := ob_s hf
              subst hQ
              exact xe_i hx hb hr hlocks hP hS dX2_quarrel_130
            · replace hf := ob_t hf c14
              refine lv_iconst (v := (-1)) hx hb dX2_quarrel_51 (by decide) ?_
              obtain rfl := ob_s hf
              subst hQ
              exact xe_i hx hb hr hlocks hP hS dX2_quarrel_52
abbrev rmX2_earns : Room := { frames := 1, cells := 0, slots := 0, locals := 22 }
theorem cdX2_earns : yX2_earns.cls = RX2 ∧ yX2_earns.cls ≠ "java/lang/invoke/MethodHandle" ∧ yX2_earns.cls ≠ "java/lang/invoke/VarHandle" ∧ (parseMethodDescriptor yX2_earns.desc).map (fun d => d.parameters.length) = some 1 := by decide +kernel
set_option maxHeartbeats 4000000 in
set_option maxRecDepth 100000 in
theorem wkX2_earns (l : Launch) (D : va_G) (dA : Nat → ClassId) (E : Nat → Nat) (hE : wInj 19 E) (w : Mm) (a1 : Int32) {res : Int32 × Mm} (hf : M_earns w a1 = some res) : Met l yX2_earns (ws_ yX2_earns cX2_earns 2 (some .boolean)) rmX2_earns (Pw D clM (tyM dA) shM 19 dA E [.ref (E 0), .int a1] w) (Qwz D clM shM 19 dA E res.1 res.2) 0 0 (AE 19 E) := by
  refine xm_head (own := RX2) (by decide) rfl (Nat.le_of_ble_eq_true rfl) ?_
  intro p e s m args below meth c ls Q hQ C hP hl
  obtain ⟨hx, hb, hr, hlocks, hml, hown, hts, hK⟩ := C
  replace hl : lv_has ls 2 [(0, .ref (E 0)), (1, .int a1)] := hl
  have hS : va_S (AE 19 E) s.heap s.heap [] := va_S.rf
  have hD : wD 19 E (AE 19 E) := wD.self hE
  unfold M_earns at hf
  obtain ⟨H, eH⟩ : ∃ H, H = s.heap := ⟨_, rfl⟩
  obtain ⟨locs, eL⟩ : ∃ locs : List Loc, locs = [] := ⟨_, rfl⟩
  rw [← eL] at hS ⊢
  rw [← eH] at hP
  have hS : va_S (AE 19 E) s.heap H locs := by rw [eH]; exact hS
  show W p l e rmX2_earns s m args below meth c s.heap locs 0 0 Q (F0 m 0 ls [])
  rw [← eH]
  refine lv_iload_n hx hb dX2_earns_0 rfl (lv_at hl 1 rfl) ?_
  refine lv_iconst (v := 0) hx hb dX2_earns_1 (by decide) ?_
  refine lv_bipush (v := 99) hx hb dX2_earns_2 (by decide) ?_
  obtain ⟨q2, g1, hf⟩ := ob_bind hf
  refine xc_z (xw_runS (As := [.int a1, .int 0, .int 99]) (rest := []) ⟨hx, hb, hml, hown, hts⟩ (wkX2_isIn l D dA E hE w a1 0 99 g1) (va_cwS 3 hts (lw_S q1538 q1539 q140 q1540) rfl rfl rfl cdX2_isIn.2 ⟨Nat.le_of_ble_eq_true rfl, Nat.le_of_ble_eq_true rfl⟩) hK hP hl.1 rfl rfl (Nat.le_of_ble_eq_true rfl) dX2_earns_4 ⟨Nat.zero_le _, Nat.zero_le _⟩) hS hD.2 (fun H locs zq2 hP hS => ?_)
  refine lv_if_ne (tgt := 12) hx hb dX2_earns_7 (by decide) (fun c3 => ?_) (fun c3 => ?_)
  · replace hf := ob_f hf c3
    refine lv_aload_n hx hb dX2_earns_12 rfl (lv_at hl 0 rfl) ?_
    refine xr_get hx hb hts in_X2 hown hK hP 0 (by decide) rfl rfl 0 (by decide) (hts _ q1405) (fun _ h => h) rfl (v := .ref (E 1)) rfl dX2_earns_13 ?_
    refine lv_bipush (v := 114) hx hb dX2_earns_16 (by decide) ?_
    refine lv_iload_n hx hb dX2_earns_18 rfl (lv_at hl 1 rfl) ?_
    obtain ⟨w4, ew4, hf⟩ := ob_bnd hf
    refine xr_iast hx hb hK hP hD hS 1 (by decide) rfl 0 rfl (j := 114) (w' := w4) (vin_c (by decide)) (by decide) ew4 dX2_earns_19 (fun H locs hP hS => ?_)
    refine lv_iconst (v := 1) hx hb dX2_earns_20 (by decide) ?_
    obtain rfl := ob_s hf
    subst hQ
    exact xe_z hx hb hr hlocks hP hS (Or.inr rfl) dX2_earns_21
  · replace hf := ob_t hf c3
    refine lv_iconst (v := 0) hx hb dX2_earns_10 (by decide) ?_
    obtain rfl := ob_s hf
    subst hQ
    exact xe_z hx hb hr hlocks hP hS (Or.inl rfl) dX2_earns_11
abbrev rmX2_digit : Room := { frames := 1, cells := 0, slots := 0, locals := 22 }
theorem cdX2_digit : yX2_digit.cls = RX2 ∧ yX2_digit.cls ≠ "java/lang/invoke/MethodHandle" ∧ yX2_digit.cls ≠ "java/lang/invoke/VarHandle" ∧ (parseMethodDescriptor yX2_digit.desc).map (fun d => d.parameters.length) = some 2 := by decide +kernel
set_option maxHeartbeats 4000000 in
set_option maxRecDepth 100000 in
theorem wkX2_digit (l : Launch) (D : va_G) (dA : Nat → ClassId) (E : Nat → Nat) (hE : wInj 19 E) (w : Mm) (a1 : Int32) (a2 : Int32) {res : Int32 × Mm} (hf : M_digit w a1 a2 = some res) : Met l yX2_digit (ws_ yX2_digit cX2_digit 3 (some .boolean)) rmX2_digit (Pw D clM (tyM dA) shM 19 dA E [.ref (E 0), .int a1, .int a2] w) (Qwz D clM shM 19 dA E res.1 res.2) 0 0 (AE 19 E) := by
  refine xm_head (own := RX2) (by decide) rfl (Nat.le_of_ble_eq_true rfl) ?_
  intro p e s m args below meth c ls Q hQ C hP hl
  obtain ⟨hx, hb, hr, hlocks, hml, hown, hts, hK⟩ := C
  replace hl : lv_has ls 3 [(0, .ref (E 0)), (1, .int a1), (2, .int a2)] := hl
  have hS : va_S (AE 19 E) s.heap s.heap [] := va_S.rf
  have hD : wD 19 E (AE 19 E) := wD.self hE
  unfold M_digit at hf
  obtain ⟨H, eH⟩ : ∃ H, H = s.heap := ⟨_, rfl⟩
  obtain ⟨locs, eL⟩ : ∃ locs : List Loc, locs = [] := ⟨_, rfl⟩
  rw [← eL] at hS ⊢
  rw [← eH] at hP
  have hS : va_S (AE 19 E) s.heap H locs := by rw [eH]; exact hS
  show W p l e rmX2_digit s m args below meth c s.heap locs 0 0 Q (F0 m 0 ls [])
  rw [← eH]
  refine lv_iload_n hx hb dX2_digit_0 rfl (lv_at hl 1 rfl) ?_
  refine lv_iconst (v := 0) hx hb dX2_digit_1 (by decide) ?_
  refine lv_iconst (v := 3) hx hb dX2_digit_2 (by decide) ?_
  obtain ⟨q2, g1, hf⟩ := ob_bind hf
  refine xc_z (xw_runS (As := [.int a1, .int 0, .int 3]) (rest := []) ⟨hx, hb, hml, hown, hts⟩ (wkX2_isIn l D dA E hE w a1 0 3 g1) (va_cwS 3 hts (lw_S q1538 q1539 q140 q1540) rfl rfl rfl cdX2_isIn.2 ⟨Nat.le_of_ble_eq_true rfl, Nat.le_of_ble_eq_true rfl⟩) hK hP hl.1 rfl rfl (Nat.le_of_ble_eq_true rfl) dX2_digit_3 ⟨Nat.zero_le _, Nat.zero_le _⟩) hS hD.2 (fun H locs zq2 hP hS => ?_)
  refine lv_if_eq (tgt := 19) hx hb dX2_digit_6 (by decide) (fun c3 => ?_) (fun c3 => ?_)
  · replace hf := ob_t hf c3
    refine lv_iconst (v := 0) hx hb dX2_digit_19 (by decide) ?_
    obtain rfl := ob_s hf
    subst hQ
    exact xe_z hx hb hr hlocks hP hS (Or.inl rfl) dX2_digit_20
  · replace hf := ob_f hf c3
    refine lv_iload_n hx hb dX2_digit_9 rfl (lv_at hl 2 rfl) ?_
    refine lv_iconst (v := (-1)) hx hb dX2_digit_10 (by decide) ?_
    refine lv_bipush (v := 9) hx hb dX2_digit_11 (by decide) ?_
    obtain ⟨q5, g4, hf⟩ := ob_bind hf
    refine xc_z (xw_runS (As := [.int a2, .int (-1), .int 9]) (rest := []) ⟨hx, hb, hml, hown, hts⟩ (wkX2_isIn l D dA E hE w a2 (-1) 9 g4) (va_cwS 3 hts (lw_S q1538 q1539 q140 q1540) rfl rfl rfl cdX2_isIn.2 ⟨Nat.le_of_ble_eq_true rfl, Nat.le_of_ble_eq_true rfl⟩) hK hP hl.1 rfl rfl (Nat.le_of_ble_eq_true rfl) dX2_digit_13 ⟨Nat.zero_le _, Nat.zero_le _⟩) hS hD.2 (fun H locs zq5 hP hS => ?_)
    refine lv_if_ne (tgt := 21) hx hb dX2_digit_16 (by decide) (fun c6 => ?_) (fun c6 => ?_)
    · replace hf := ob_f hf c6
      refine lv_aload_n hx hb dX2_digit_21 rfl (lv_at hl 0 rfl) ?_
      refine xr_get hx hb hts in_X2 hown hK hP 0 (by decide) rfl rfl 0 (by decide) (hts _ q1405) (fun _ h => h) rfl (v := .ref (E 1)) rfl dX2_digit_22 ?_
      refine lv_bipush (v := 110) hx hb dX2_digit_25 (by decide) ?_
      refine lv_iload_n hx hb dX2_digit_27 rfl (lv_at hl 1 rfl) ?_
      refine lv_iadd hx hb dX2_digit_28 ?_
      refine lv_iload_n hx hb dX2_digit_29 rfl (lv_at hl 2 rfl) ?_
      obtain ⟨h7, hf⟩ := ob_gd hf
      obtain ⟨w8, ew8, hf⟩ := ob_bnd hf
      refine xr_iast hx hb hK hP hD hS 1 (by decide) rfl 0 rfl (j := (110 + a1).toNatClampNeg) (w' := w8) h7 rfl ew8 dX2_digit_30 (fun H locs hP hS => ?_)
      refine lv_iconst (v := 1) hx hb dX2_digit_31 (by decide) ?_
      obtain rfl := ob_s hf
      subst hQ
      exact xe_z hx hb hr hlocks hP hS (Or.inr rfl) dX2_digit_32
    · replace hf := ob_t hf c6
      refine lv_iconst (v := 0) hx hb dX2_digit_19 (by decide) ?_
      obtain rfl := ob_s hf
      subst hQ
      exact xe_z hx hb hr hlocks hP hS (Or.inl rfl) dX2_digit_20
abbrev rmX2_four : Room := { frames := 0, cells := 0, slots := 0, locals := 0 }
theorem cdX2_four : yX2_four.cls = RX2 ∧ yX2_four.cls ≠ "java/lang/invoke/MethodHandle" ∧ yX2_four.cls ≠ "java/lang/invoke/VarHandle" ∧ (parseMethodDescriptor yX2_four.desc).map (fun d => d.parameters.length) = some 1 := by decide +kernel
set_option maxHeartbeats 4000000 in
set_option maxRecDepth 100000 in
theorem wkX2_four (l : Launch) (D : va_G) (dA : Nat → ClassId) (E : Nat → Nat) (hE : wInj 19 E) (w : Mm) (a1 : Int32) {res : Mm} (hf : M_four w a1 = some res) : Met l yX2_four (ws_ yX2_four cX2_four 3 (none)) rmX2_four (Pw D clM (tyM dA) shM 19 dA E [.ref (E 0), .int a1] w) (Qwv D clM shM 19 dA E res) 0 0 (AE 19 E) := by
  refine xm_head (own := RX2) (by decide) rfl (Nat.le_of_ble_eq_true rfl) ?_
  intro p e s m args below meth c ls Q hQ C hP hl
  obtain ⟨hx, hb, hr, hlocks, hml, hown, hts, hK⟩ := C
  replace hl : lv_has ls 3 [(0, .ref (E 0)), (1, .int a1)] := hl
  have hS : va_S (AE 19 E) s.heap s.heap [] := va_S.rf
  have hD : wD 19 E (AE 19 E) := wD.self hE
  unfold M_four at hf
  obtain ⟨H, eH⟩ : ∃ H, H = s.heap := ⟨_, rfl⟩
  obtain ⟨locs, eL⟩ : ∃ locs : List Loc, locs = [] := ⟨_, rfl⟩
  rw [← eL] at hS ⊢
  rw [← eH] at hP
  have hS : va_S (AE 19 E) s.heap H locs := by rw [eH]; exact hS
  show W p l e rmX2_four s m args below meth c s.heap locs 0 0 Q (F0 m 0 ls [])
  rw [← eH]
  refine lv_bipush (v := 24) hx hb dX2_four_0 (by decide) ?_
  refine lv_istore_n (lv' := [(2, .int 24), (0, .ref (E 0)), (1, .int a1)]) hx hb dX2_four_2 rfl hl (by decide) rfl (fun ls hl => ?_)
  obtain ⟨b3, hb3, hf⟩ := ob_bind hf
  obtain ⟨n3, hn3⟩ := lp_some hb3
  have kL3 : ∀ (n : Nat) (w1 : Mm) (v2_2 : Int32), lpF (fun (q3 : Mm × Int32) => M_four_b3 a1 q3.1 q3.2) n (w1, v2_2) = some b3 → (∀ (H : Heap) (locs : List Loc) (ls : Array Slot), va_P D clM (wl shM 19 dA E b3) H → va_S (AE 19 E) s.heap H locs → lv_has ls 3 [] → W p l e rmX2_four s m args below meth c H locs 0 0 Q (F0 m 39 ls [])) → ∀ (H : Heap) (locs : List Loc) (ls : Array Slot), va_P D clM (wl shM 19 dA E w1) H → va_S (AE 19 E) s.heap H locs → lv_has ls 3 [(0, .ref (E 0)), (1, .int a1), (2, .int v2_2)] → W p l e rmX2_four s m args below meth c H locs 0 0 Q (F0 m 3 ls []) := by
    intro n
    induction n with
    | zero =>
      intro w1 v2_2 h
      cases h
    | succ n ih =>
      intro w1 v2_2 h K3_0 H locs ls hP hS hl
      obtain ⟨r3, hf, h3a, h3b⟩ := lpF_step h
      replace hf : M_four_b3 a1 w1 v2_2 = some r3 := hf
      unfold M_four_b3 at hf
      refine lv_iload_n hx hb dX2_four_3 rfl (lv_at hl 2 rfl) ?_
      refine lv_if_lt (tgt := 39) hx hb dX2_four_4 (by decide) (fun c4 => ?_) (fun c4 => ?_)
      · replace hf := ob_t hf c4
        obtain rfl := ob_s hf
        obtain rfl := h3b _ rfl
        exact K3_0 H locs ls hP hS (lv_sub hl [] rfl)
      · replace hf := ob_f hf c4
        refine lv_aload_n hx hb dX2_four_7 rfl (lv_at hl 0 rfl) ?_
        refine xr_get hx hb hts in_X2 hown hK hP 0 (by decide) rfl rfl 3 (by decide) (hts _ q1408) (fun _ h => h) rfl (v := .ref (E 4)) rfl dX2_four_8 ?_
        refine lv_aload_n hx hb dX2_four_11 rfl (lv_at hl 0 rfl) ?_
        refine xr_get hx hb hts in_X2 hown hK hP 0 (by decide) rfl rfl 4 (by decide) (hts _ q1409) (fun _ h => h) rfl (v := .int (w1.1 0 4)) rfl dX2_four_12 ?_
        refine lv_iload_n hx hb dX2_four_15 rfl (lv_at hl 1 rfl) ?_
        refine lv_iload_n hx hb dX2_four_16 rfl (lv_at hl 2 rfl) ?_
        refine lv_ishr hx hb dX2_four_17 ?_
        refine lv_sipush (v := 255) hx hb dX2_four_18 (by decide) ?_
        refine lv_iand hx hb dX2_four_21 ?_
        obtain ⟨h5, hf⟩ := ob_gd hf
        obtain ⟨w6, ew6, hf⟩ := ob_bnd hf
        refine xr_iast hx hb hK hP hD hS 4 (by decide) rfl 0 rfl (j := (w1.1 0 4).toNatClampNeg) (w' := w6) h5 rfl ew6 dX2_four_22 (fun H locs hP hS => ?_)
        refine lv_aload_n hx hb dX2_four_23 rfl (lv_at hl 0 rfl) ?_
        refine lv_dup hx hb dX2_four_24 rfl ?_
        refine xr_get hx hb hts in_X2 hown hK hP 0 (by decide) rfl rfl 4 (by decide) (hts _ q1409) (fun _ h => h) rfl (v := .int (w6.1 0 4)) rfl dX2_four_25 ?_
        refine lv_iconst (v := 1) hx hb dX2_four_28 (by decide) ?_
        refine lv_iadd hx hb dX2_four_29 ?_
        obtain ⟨w7, ew7, hf⟩ := ob_bnd hf
        refine xr_put hx hb hts in_X2 tyX2 tyX2_ok nmX2 hown hK hP hD hS 0 (by decide) rfl rfl 4 (by decide) (hts _ q1409) (fun _ h => h) rfl rfl rfl rfl (w' := w7) ew7 dX2_four_30 (fun H locs hP hS => ?_)
        obtain ⟨v2_8, ev2_8, hf⟩ := ob_bnd hf
        refine lv_iinc (v := v2_8) (lv' := [(2, .int v2_8), (0, .ref (E 0)), (1, .int a1)]) hx hb dX2_four_33 hl (k := 2) rfl (by rw [ev2_8]; rfl) (by decide) rfl (fun ls hl => ?_)
        refine lv_goto (tgt := 3) hx hb dX2_four_36 (by decide) ?_
        obtain rfl := ob_s hf
        exact ih _ _ (h3a _ rfl) K3_0 H locs ls hP hS (lv_sub hl [1, 2, 0] rfl)
  refine kL3 n3 w 24 hn3 (fun H locs ls hP hS hl => ?_) H locs ls hP hS (lv_sub hl [1, 2, 0] rfl)
  replace hf : M_four_x3_39 b3 = some res := hf
  unfold M_four_x3_39 at hf
  obtain rfl := ob_s hf
  subst hQ
  exact xe_v hx hb hr hlocks hP hS dX2_four_39
abbrev rmX2_feed : Room := { frames := 1, cells := 0, slots := 0, locals := 22 }
theorem cdX2_feed : yX2_feed.cls = RX2 ∧ yX2_feed.cls ≠ "java/lang/invoke/MethodHandle" ∧ yX2_feed.cls ≠ "java/lang/invoke/VarHandle" ∧ (parseMethodDescriptor yX2_feed.desc).map (fun d => d.parameters.length) = some 5 := by decide +kernel
set_option maxHeartbeats 4000000 in
set_option maxRecDepth 100000 in
theorem wkX2_feed (l : Launch) (D : va_G) (dA : Nat → ClassId) (E : Nat → Nat) (hE : wInj 19 E) (w : Mm) (a1 : Int32) (a2 : Int32) (a3 : Int32) (a4 : Int32) (a5 : Int32) {res : Int32 × Mm} (hf : M_feed w a1 a2 a3 a4 a5 = some res) : Met l yX2_feed (ws_ yX2_feed cX2_feed 6 (some .int)) rmX2_feed (Pw D clM (tyM dA) shM 19 dA E [.ref (E 0), .int a1, .int a2, .int a3, .int a4, .int a5] w) (Qwi D clM shM 19 dA E res.1 res.2) 0 0 (AE 19 E) := by
  refine xm_head (own := RX2) (by decide) rfl (Nat.le_of_ble_eq_true rfl) ?_
  intro p e s m args below meth c ls Q hQ C hP hl
  obtain ⟨hx, hb, hr, hlocks, hml, hown, hts, hK⟩ := C
  replace hl : lv_has ls 6 [(0, .ref (E 0)), (1, .int a1), (2, .int a2), (3, .int a3), (4, .int a4), (5, .int a5)] := hl
  have hS : va_S (AE 19 E) s.heap s.heap [] := va_S.rf
  have hD : wD 19 E (AE 19 E) := wD.self hE
  unfold M_feed at hf
  obtain ⟨H, eH⟩ : ∃ H, H = s.heap := ⟨_, rfl⟩
  obtain ⟨locs, eL⟩ : ∃ locs : List Loc, locs = [] := ⟨_, rfl⟩
  rw [← eL] at hS ⊢
  rw [← eH] at hP
  have hS : va_S (AE 19 E) s.heap H locs := by rw [eH]; exact hS
  show W p l e rmX2_feed s m args below meth c s.heap locs 0 0 Q (F0 m 0 ls [])
  rw [← eH]
  refine lv_aload_n hx hb dX2_feed_0 rfl (lv_at hl 0 rfl) ?_
  refine xr_get hx hb hts in_X2 hown hK hP 0 (by decide) rfl rfl 4 (by decide) (hts _ q1409) (fun _ h => h) rfl (v := .int (w.1 0 4)) rfl dX2_feed_1 ?_
  refine lv_bipush (v := 20) hx hb dX2_feed_4 (by decide) ?_
  refine lv_iadd hx hb dX2_feed_6 ?_
  refine lv_sipush (v := 300) hx hb dX2_feed_7 (by decide) ?_
  refine lv_icmp_le (tgt := 15) hx hb dX2_feed_10 (by decide) (fun c1 => ?_) (fun c1 => ?_)
  · replace hf := ob_t hf c1
    refine lv_aload_n hx hb dX2_feed_15 rfl (lv_at hl 0 rfl) ?_
    refine lv_iload_n hx hb dX2_feed_16 rfl (lv_at hl 1 rfl) ?_
    obtain ⟨q3, g2, hf⟩ := ob_bind hf
    refine xc_v (xw_run (As := [.int a1]) (rest := []) ⟨hx, hb, hml, hown, hts⟩ (k0 := 0) (wkX2_four l D dA E hE w a1 g2) (cwV 1 hts (lw_V q1557 q1559 qs62 q140 q1560) rfl rfl rfl cdX2_four ⟨Nat.le_of_ble_eq_true rfl, Nat.le_of_ble_eq_true rfl⟩) hK hP (by decide) rfl rfl rfl hl.1 rfl rfl (Nat.le_of_ble_eq_true rfl) dX2_feed_17 ⟨Nat.zero_le _, Nat.zero_le _⟩) hS hD.2 (fun H locs hP hS => ?_)
    refine lv_aload_n hx hb dX2_feed_20 rfl (lv_at hl 0 rfl) ?_
    refine lv_iload_n hx hb dX2_feed_21 rfl (lv_at hl 2 rfl) ?_
    obtain ⟨q5, g4, hf⟩ := ob_bind hf
    refine xc_v (xw_run (As := [.int a2]) (rest := []) ⟨hx, hb, hml, hown, hts⟩ (k0 := 0) (wkX2_four l D dA E hE q3 a2 g4) (cwV 1 hts (lw_V q1557 q1559 qs62 q140 q1560) rfl rfl rfl cdX2_four ⟨Nat.le_of_ble_eq_true rfl, Nat.le_of_ble_eq_true rfl⟩) hK hP (by decide) rfl rfl rfl hl.1 rfl rfl (Nat.le_of_ble_eq_true rfl) dX2_feed_22 ⟨Nat.zero_le _, Nat.zero_le _⟩) hS hD.2 (fun H locs hP hS => ?_)
    refine lv_aload_n hx hb dX2_feed_25 rfl (lv_at hl 0 rfl) ?_
    refine lv_iload_n hx hb dX2_feed_26 rfl (lv_at hl 3 rfl) ?_
    obtain ⟨q7, g6, hf⟩ := ob_bind hf
    refine xc_v (xw_run (As := [.int a3]) (rest := []) ⟨hx, hb, hml, hown, hts⟩ (k0 := 0) (wkX2_four l D dA E hE q5 a3 g6) (cwV 1 hts (lw_V q1557 q1559 qs62 q140 q1560) rfl rfl rfl cdX2_four ⟨Nat.le_of_ble_eq_true rfl, Nat.le_of_ble_eq_true rfl⟩) hK hP (by decide) rfl rfl rfl hl.1 rfl rfl (Nat.le_of_ble_eq_true rfl) dX2_feed_27 ⟨Nat.zero_le _, Nat.zero_le _⟩) hS hD.2 (fun H locs hP hS => ?_)
    refine lv_aload_n hx hb dX2_feed_30 rfl (lv_at hl 0 rfl) ?_
    refine lv_iload hx hb dX2_feed_31 (lv_at hl 4 rfl) ?_
    obtain ⟨q9, g8, hf⟩ := ob_bind hf
    refine xc_v (xw_run (As := [.int a4]) (rest := []) ⟨hx, hb, hml, hown, hts⟩ (k0 := 0) (wkX2_four l D dA E hE q7 a4 g8) (cwV 1 hts (lw_V q1557 q1559 qs62 q140 q1560) rfl rfl rfl cdX2_four ⟨Nat.le_of_ble_eq_true rfl, Nat.le_of_ble_eq_true rfl⟩) hK hP (by decide) rfl rfl rfl hl.1 rfl rfl (Nat.le_of_ble_eq_true rfl) dX2_feed_33 ⟨Nat.zero_le _, Nat.zero_le _⟩) hS hD.2 (fun H locs hP hS => ?_)
    refine lv_aload_n hx hb dX2_feed_36 rfl (lv_at hl 0 rfl) ?_
    refine lv_iload hx hb dX2_feed_37 (lv_at hl 5 rfl) ?_
    obtain ⟨q11, g10, hf⟩ := ob_bind hf
    refine xc_v (xw_run (As := [.int a5]) (rest := []) ⟨hx, hb, hml, hown, hts⟩ (k0 := 0) (wkX2_four l D dA E hE q9 a5 g10) (cwV 1 hts (lw_V q1557 q1559 qs62 q140 q1560) rfl rfl rfl cdX2_four ⟨Nat.le_of_ble_eq_true rfl, Nat.le_of_ble_eq_true rfl⟩) hK hP (by decide) rfl rfl rfl hl.1 rfl rfl (Nat.le_of_ble_eq_true rfl) dX2_feed_39 ⟨Nat.zero_le _, Nat.zero_le _⟩) hS hD.2 (fun H locs hP hS => ?_)
    refine lv_aload_n hx hb dX2_feed_42 rfl (lv_at hl 0 rfl) ?_
    refine xr_get hx hb hts in_X2 hown hK hP 0 (by decide) rfl rfl 4 (by decide) (hts _ q1409) (fun _ h => h) rfl (v := .int (q11.1 0 4)) rfl dX2_feed_43 ?_
    obtain rfl := ob_s hf
    subst hQ
    exact xe_i hx hb hr hlocks hP hS dX2_feed_46
  · replace hf := ob_f hf c1
    refine lv_iconst (v := (-1)) hx hb dX2_feed_13 (by decide) ?_
    obtain rfl := ob_s hf
    subst hQ
    exact xe_i hx hb hr hlocks hP hS dX2_feed_14
abbrev rmX2_end : Room := { frames := 1, cells := 0, slots := 0, locals := 22 }
theorem cdX2_end : yX2_end.cls = RX2 ∧ yX2_end.cls ≠ "java/lang/invoke/MethodHandle" ∧ yX2_end.cls ≠ "java/lang/invoke/VarHandle" ∧ (parseMethodDescriptor yX2_end.desc).map (fun d => d.parameters.length) = some 1 := by decide +kernel
set_option maxHeartbeats 4000000 in
set_option maxRecDepth 100000 in
theorem wkX2_end (l : Launch) (D : va_G) (dA : Nat → ClassId) (E : Nat → Nat) (hE : wInj 19 E) (w : Mm) (a1 : Int32) {res : Int32 × Mm} (hf : M_end w a1 = some res) : Met l yX2_end (ws_ yX2_end cX2_end 2 (some .int)) rmX2_end (Pw D clM (tyM dA) shM 19 dA E [.ref (E 0), .int a1] w) (Qwi D clM shM 19 dA E res.1 res.2) 0 0 (AE 19 E) := by
  refine xm_head (own := RX2) (by decide) rfl (Nat.le_of_ble_eq_true rfl) ?_
  intro p e s m args below meth c ls Q hQ C hP hl
  obtain ⟨hx, hb, hr, hlocks, hml, hown, hts, hK⟩ := C
  replace hl : lv_has ls 2 [(0, .ref (E 0)), (1, .int a1)] := hl
  have hS : va_S (AE 19 E) s.heap s.heap [] := va_S.rf
  have hD : wD 19 E (AE 19 E) := wD.self hE
  unfold M_end at hf
  obtain ⟨H, eH⟩ : ∃ H, H = s.heap := ⟨_, rfl⟩
  obtain ⟨locs, eL⟩ : ∃ locs : List Loc, locs = [] := ⟨_, rfl⟩
  rw [← eL] at hS ⊢
  rw [← eH] at hP
  have hS : va_S (AE 19 E) s.heap H locs := by rw [eH]; exact hS
  show W p l e rmX2_end s m args below meth c s.heap locs 0 0 Q (F0 m 0 ls [])
  rw [← eH]
  refine lv_iload_n hx hb dX2_end_0 rfl (lv_at hl 1 rfl) ?_
  refine lv_iconst (v := 0) hx hb dX2_end_1 (by decide) ?_
  refine lv_aload_n hx hb dX2_end_2 rfl (lv_at hl 0 rfl) ?_
  refine xr_get hx hb hts in_X2 hown hK hP 0 (by decide) rfl rfl 4 (by decide) (hts _ q1409) (fun _ h => h) rfl (v := .int (w.1 0 4)) rfl dX2_end_3 ?_
  obtain ⟨q2, g1, hf⟩ := ob_bind hf
  refine xc_z (xw_runS (As := [.int a1, .int 0, .int (w.1 0 4)]) (rest := []) ⟨hx, hb, hml, hown, hts⟩ (wkX2_isIn l D dA E hE w a1 0 (w.1 0 4) g1) (va_cwS 3 hts (lw_S q1538 q1539 q140 q1540) rfl rfl rfl cdX2_isIn.2 ⟨Nat.le_of_ble_eq_true rfl, Nat.le_of_ble_eq_true rfl⟩) hK hP hl.1 rfl rfl (Nat.le_of_ble_eq_true rfl) dX2_end_6 ⟨Nat.zero_le _, Nat.zero_le _⟩) hS hD.2 (fun H locs zq2 hP hS => ?_)
  refine lv_if_ne (tgt := 14) hx hb dX2_end_9 (by decide) (fun c3 => ?_) (fun c3 => ?_)
  · replace hf := ob_f hf c3
    refine lv_aload_n hx hb dX2_end_14 rfl (lv_at hl 0 rfl) ?_
    refine lv_iload_n hx hb dX2_end_15 rfl (lv_at hl 1 rfl) ?_
    obtain ⟨w4, ew4, hf⟩ := ob_bnd hf
    refine xr_put hx hb hts in_X2 tyX2 tyX2_ok nmX2 hown hK hP hD hS 0 (by decide) rfl rfl 4 (by decide) (hts _ q1409) (fun _ h => h) rfl rfl rfl rfl (w' := w4) ew4 dX2_end_16 (fun H locs hP hS => ?_)
    refine lv_iload_n hx hb dX2_end_19 rfl (lv_at hl 1 rfl) ?_
    obtain rfl := ob_s hf
    subst hQ
    exact xe_i hx hb hr hlocks hP hS dX2_end_20
  · replace hf := ob_t hf c3
    refine lv_iconst (v := (-1)) hx hb dX2_end_12 (by decide) ?_
    obtain rfl := ob_s hf
    subst hQ
    exact xe_i hx hb hr hlocks hP hS dX2_end_13
abbrev rmX2_byteAt : Room := { frames := 0, cells := 0, slots := 0, locals := 0 }
theorem cdX2_byteAt : yX2_byteAt.cls = RX2 ∧ yX2_byteAt.cls ≠ "java/lang/invoke/MethodHandle" ∧ yX2_byteAt.cls ≠ "java/lang/invoke/VarHandle" ∧ (parseMethodDescriptor yX2_byteAt.desc).map (fun d => d.parameters.length) = some 1 := by decide +kernel
set_option maxHeartbeats 4000000 in
set_option maxRecDepth 100000 in
theorem wkX2_byteAt (l : Launch) (D : va_G) (dA : Nat → ClassId) (E : Nat → Nat) (hE : wInj 19 E) (w : Mm) (a1 : Int32) {res : Int32} (hf : M_byteAt w a1 = some res) : Met l yX2_byteAt (ws_ yX2_byteAt cX2_byteAt 2 (some .int)) rmX2_byteAt (Pw D clM (tyM dA) shM 19 dA E [.ref (E 0), .int a1] w) (Qwi D clM shM 19 dA E res w) 0 0 (AE 19 E) := by
  refine xm_head (own := RX2) (by decide) rfl (Nat.le_of_ble_eq_true rfl) ?_
  intro p e s m args below meth c ls Q hQ C hP hl
  obtain ⟨hx, hb, hr, hlocks, hml, hown, hts, hK⟩ := C
  replace hl : lv_has ls 2 [(0, .ref (E 0)), (1, .int a1)] := hl
  have hS : va_S (AE 19 E) s.heap s.heap [] := va_S.rf
  have hD : wD 19 E (AE 19 E) := wD.self hE
  unfold M_byteAt at hf
  obtain ⟨H, eH⟩ : ∃ H, H = s.heap := ⟨_, rfl⟩
  obtain ⟨locs, eL⟩ : ∃ locs : List Loc, locs = [] := ⟨_, rfl⟩
  rw [← eL] at hS ⊢
  rw [← eH] at hP
  have hS : va_S (AE 19 E) s.heap H locs := by rw [eH]; exact hS
  show W p l e rmX2_byteAt s m args below meth c s.heap locs 0 0 Q (F0 m 0 ls [])
  rw [← eH]
  refine lv_iload_n hx hb dX2_byteAt_0 rfl (lv_at hl 1 rfl) ?_
  refine lv_aload_n hx hb dX2_byteAt_1 rfl (lv_at hl 0 rfl) ?_
  refine xr_get hx hb hts in_X2 hown hK hP 0 (by decide) rfl rfl 4 (by decide) (hts _ q1409) (fun _ h => h) rfl (v := .int (w.1 0 4)) rfl dX2_byteAt_2 ?_
  refine lv_icmp_ge (tgt := 17) hx hb dX2_byteAt_5 (by decide) (fun c1 => ?_) (fun c1 => ?_)
  · replace hf := ob_t hf c1
    refine lv_iconst (v := (-1)) hx hb dX2_byteAt_17 (by decide) ?_
    obtain rfl := ob_s hf
    subst hQ
    exact xe_i hx hb hr hlocks hP hS dX2_byteAt_18
  · replace hf := ob_f hf c1
    refine lv_aload_n hx hb dX2_byteAt_8 rfl (lv_at hl 0 rfl) ?_
    refine xr_get hx hb hts in_X2 hown hK hP 0 (by decide) rfl rfl 3 (by decide) (hts _ q1408) (fun _ h => h) rfl (v := .ref (E 4)) rfl dX2_byteAt_9 ?_
    refine lv_iload_n hx hb dX2_byteAt_12 rfl (lv_at hl 1 rfl) ?_
    obtain ⟨h2, hf⟩ := ob_gd hf
    refine xr_iald hx hb hK hP 4 (by decide) rfl 0 rfl (j := a1.toNatClampNeg) h2 rfl dX2_byteAt_13 ?_
    refine lv_goto (tgt := 18) hx hb dX2_byteAt_14 (by decide) ?_
    obtain rfl := ob_s hf
    subst hQ
    exact xe_i hx hb hr hlocks hP hS dX2_byteAt_18
abbrev rmX2_isFigure : Room := { frames := 0, cells := 0, slots := 0, locals := 0 }
theorem cdX2_isFigure : yX2_isFigure.cls = RX2 ∧ yX2_isFigure.cls ≠ "java/lang/invoke/MethodHandle" ∧ yX2_isFigure.cls ≠ "java/lang/invoke/VarHandle" ∧ (parseMethodDescriptor yX2_isFigure.desc).map (fun d => d.parameters.length) = some 1 := by decide +kernel
set_option maxHeartbeats 4000000 in
set_option maxRecDepth 100000 in
theorem wkX2_isFigure (l : Launch) (D : va_G) (dA : Nat → ClassId) (E : Nat → Nat) (hE : wInj 19 E) (w : Mm) (a0 : Int32) {res : Int32} (hf : M_isFigure a0 = some res) : Met l yX2_isFigure (ws_ yX2_isFigure cX2_isFigure 1 (some .boolean)) rmX2_isFigure (Pw D clM (tyM dA) shM 19 dA E [.int a0] w) (Qwz D clM shM 19 dA E res w) 0 0 (AE 19 E) := by
  refine xm_head (own := RX2) (by decide) rfl (Nat.le_of_ble_eq_true rfl) ?_
  intro p e s m args below meth c ls Q hQ C hP hl
  obtain ⟨hx, hb, hr, hlocks, hml, hown, hts, hK⟩ := C
  replace hl : lv_has ls 1 [(0, .int a0)] := hl
  have hS : va_S (AE 19 E) s.heap s.heap [] := va_S.rf
  have hD : wD 19 E (AE 19 E) := wD.self hE
  unfold M_isFigure at hf
  obtain ⟨H, eH⟩ : ∃ H, H = s.heap := ⟨_, rfl⟩
  obtain ⟨locs, eL⟩ : ∃ locs : List Loc, locs = [] := ⟨_, rfl⟩
  rw [← eL] at hS ⊢
  rw [← eH] at hP
  have hS : va_S (AE 19 E) s.heap H locs := by rw [eH]; exact hS
  show W p l e rmX2_isFigure s m args below meth c s.heap locs 0 0 Q (F0 m 0 ls [])
  rw [← eH]
  refine lv_iload_n hx hb dX2_isFigure_0 rfl (lv_at hl 0 rfl) ?_
  refine lv_bipush (v := 48) hx hb dX2_isFigure_1 (by decide) ?_
  refine lv_icmp_lt (tgt := 16) hx hb dX2_isFigure_3 (by decide) (fun c1 => ?_) (fun c1 => ?_)
  · replace hf := ob_t hf c1
    refine lv_iconst (v := 0) hx hb dX2_isFigure_16 (by decide) ?_
    obtain rfl := ob_s hf
    subst hQ
    exact xe_z hx hb hr hlocks hP hS (Or.inl rfl) dX2_isFigure_17
  · replace hf := ob_f hf c1
    refine lv_iload_n hx hb dX2_isFigure_6 rfl (lv_at hl 0 rfl) ?_
    refine lv_bipush (v := 57) hx hb dX2_isFigure_7 (by decide) ?_
    refine lv_icmp_gt (tgt := 16) hx hb dX2_isFigure_9 (by decide) (fun c2 => ?_) (fun c2 => ?_)
    · replace hf := ob_t hf c2
      refine lv_iconst (v := 0) hx hb dX2_isFigure_16 (by decide) ?_
      obtain rfl := ob_s hf
      subst hQ
      exact xe_z hx hb hr hlocks hP hS (Or.inl rfl) dX2_isFigure_17
    · replace hf := ob_f hf c2
      refine lv_iconst (v := 1) hx hb dX2_isFigure_12 (by decide) ?_
      refine lv_goto (tgt := 17) hx hb dX2_isFigure_13 (by decide) ?_
      obtain rfl := ob_s hf
      subst hQ
      exact xe_z hx hb hr hlocks hP hS (Or.inr rfl) dX2_isFigure_17
abbrev rmX2_isLetterByte : Room := { frames := 0, cells := 0, slots := 0, locals := 0 }
theorem cdX2_isLetterByte : yX2_isLetterByte.cls = RX2 ∧ yX2_isLetterByte.cls ≠ "java/lang/invoke/MethodHandle" ∧ yX2_isLetterByte.cls ≠ "java/lang/invoke/VarHandle" ∧ (parseMethodDescriptor yX2_isLetterByte.desc).map (fun d => d.parameters.length) = some 1 := by decide +kernel
set_option maxHeartbeats 4000000 in
set_option maxRecDepth 100000 in
theorem wkX2_isLetterByte (l : Launch) (D : va_G) (dA : Nat → ClassId) (E : Nat → Nat) (hE : wInj 19 E) (w : Mm) (a0 : Int32) {res : Int32} (hf : M_isLetterByte a0 = some res) : Met l yX2_isLetterByte (ws_ yX2_isLetterByte cX2_isLetterByte 1 (some .boolean)) rmX2_isLetterByte (Pw D clM (tyM dA) shM 19 dA E [.int a0] w) (Qwz D clM shM 19 dA E res w) 0 0 (AE 19 E) := by
  refine xm_head (own := RX2) (by decide) rfl (Nat.le_of_ble_eq_true rfl) ?_
  intro p e s m args below meth c ls Q hQ C hP hl
  obtain ⟨hx, hb, hr, hlocks, hml, hown, hts, hK⟩ := C
  replace hl : lv_has ls 1 [(0, .int a0)] := hl
  have hS : va_S (AE 19 E) s.heap s.heap [] := va_S.rf
  have hD : wD 19 E (AE 19 E) := wD.self hE
  unfold M_isLetterByte at hf
  obtain ⟨H, eH⟩ : ∃ H, H = s.heap := ⟨_, rfl⟩
  obtain ⟨locs, eL⟩ : ∃ locs : List Loc, locs = [] := ⟨_, rfl⟩
  rw [← eL] at hS ⊢
  rw [← eH] at hP
  have hS : va_S (AE 19 E) s.heap H locs := by rw [eH]; exact hS
  show W p l e rmX2_isLetterByte s m args below meth c s.heap locs 0 0 Q (F0 m 0 ls [])
  rw [← eH]
  refine lv_iload_n hx hb dX2_isLetterByte_0 rfl (lv_at hl 0 rfl) ?_
  refine lv_bipush (v := 97) hx hb dX2_isLetterByte_1 (by decide) ?_
  have kj24 : ∀ (H : Heap) (locs : List Loc) (ls : Array Slot), M_isLetterByte_j24 = some res → va_P D clM (wl shM 19 dA E w) H → va_S (AE 19 E) s.heap H locs → lv_has ls 1 [] → W p l e rmX2_isLetterByte s m args below meth c H locs 0 0 Q (F0 m 24 ls []) := by
    intro H locs ls hf hP hS hl
    unfold M_isLetterByte_j24 at hf
    refine lv_iconst (v := 1) hx hb dX2_isLetterByte_24 (by decide) ?_
    refine lv_goto (tgt := 29) hx hb dX2_isLetterByte_25 (by decide) ?_
    obtain rfl := ob_s hf
    subst hQ
    exact xe_z hx hb hr hlocks hP hS (Or.inr rfl) dX2_isLetterByte_29
  have kj12 : ∀ (H : Heap) (locs : List Loc) (ls : Array Slot), M_isLetterByte_j12 a0 = some res → va_P D clM (wl shM 19 dA E w) H → va_S (AE 19 E) s.heap H locs → lv_has ls 1 [(0, .int a0)] → W p l e rmX2_isLetterByte s m args below meth c H locs 0 0 Q (F0 m 12 ls []) := by
    intro H locs ls hf hP hS hl
    unfold M_isLetterByte_j12 at hf
    refine lv_iload_n hx hb dX2_isLetterByte_12 rfl (lv_at hl 0 rfl) ?_
    refine lv_bipush (v := 65) hx hb dX2_isLetterByte_13 (by decide) ?_
    refine lv_icmp_lt (tgt := 28) hx hb dX2_isLetterByte_15 (by decide) (fun c1 => ?_) (fun c1 => ?_)
    · replace hf := ob_t hf c1
      refine lv_iconst (v := 0) hx hb dX2_isLetterByte_28 (by decide) ?_
      obtain rfl := ob_s hf
      subst hQ
      exact xe_z hx hb hr hlocks hP hS (Or.inl rfl) dX2_isLetterByte_29
    · replace hf := ob_f hf c1
      refine lv_iload_n hx hb dX2_isLetterByte_18 rfl (lv_at hl 0 rfl) ?_
      refine lv_bipush (v := 90) hx hb dX2_isLetterByte_19 (by decide) ?_
      refine lv_icmp_gt (tgt := 28) hx hb dX2_isLetterByte_21 (by decide) (fun c2 => ?_) (fun c2 => ?_)
      · replace hf := ob_t hf c2
        refine lv_iconst (v := 0) hx hb dX2_isLetterByte_28 (by decide) ?_
        obtain rfl := ob_s hf
        subst hQ
        exact xe_z hx hb hr hlocks hP hS (Or.inl rfl) dX2_isLetterByte_29
      · replace hf := ob_f hf c2
        exact kj24 H locs ls hf hP hS (lv_sub hl [] rfl)
  refine lv_icmp_lt (tgt := 12) hx hb dX2_isLetterByte_3 (by decide) (fun c3 => ?_) (fun c3 => ?_)
  · replace hf := ob_t hf c3
    exact kj12 H locs ls hf hP hS (lv_sub hl [0] rfl)
  · replace hf := ob_f hf c3
    refine lv_iload_n hx hb dX2_isLetterByte_6 rfl (lv_at hl 0 rfl) ?_
    refine lv_bipush (v := 122) hx hb dX2_isLetterByte_7 (by decide) ?_
    refine lv_icmp_le (tgt := 24) hx hb dX2_isLetterByte_9 (by decide) (fun c4 => ?_) (fun c4 => ?_)
    · replace hf := ob_t hf c4
      exact kj24 H locs ls hf hP hS (lv_sub hl [] rfl)
    · replace hf := ob_f hf c4
      exact kj12 H locs ls hf hP hS (lv_sub hl [0] rfl)
abbrev rmX2_isSign : Room := { frames := 0, cells := 0, slots := 0, locals := 0 }
theorem cdX2_isSign : yX2_isSign.cls = RX2 ∧ yX2_isSign.cls ≠ "java/lang/invoke/MethodHandle" ∧ yX2_isSign.cls ≠ "java/lang/invoke/VarHandle" ∧ (parseMethodDescriptor yX2_isSign.desc).map (fun d => d.parameters.length) = some 1 := by decide +kernel
set_option maxHeartbeats 4000000 in
set_option maxRecDepth 100000 in
theorem wkX2_isSign (l : Launch) (D : va_G) (dA : Nat → ClassId) (E : Nat → Nat) (hE : wInj 19 E) (w : Mm) (a0 : Int32) {res : Int32} (hf : M_isSign a0 = some res) : Met l yX2_isSign (ws_ yX2_isSign cX2_isSign 1 (some .boolean)) rmX2_isSign (Pw D clM (tyM dA) shM 19 dA E [.int a0] w) (Qwz D clM shM 19 dA E res w) 0 0 (AE 19 E) := by
  refine xm_head (own := RX2) (by decide) rfl (Nat.le_of_ble_eq_true rfl) ?_
  intro p e s m args below meth c ls Q hQ C hP hl
  obtain ⟨hx, hb, hr, hlocks, hml, hown, hts, hK⟩ := C
  replace hl : lv_has ls 1 [(0, .int a0)] := hl
  have hS : va_S (AE 19 E) s.heap s.heap [] := va_S.rf
  have hD : wD 19 E (AE 19 E) := wD.self hE
  unfold M_isSign at hf
  obtain ⟨H, eH⟩ : ∃ H, H = s.heap := ⟨_, rfl⟩
  obtain ⟨locs, eL⟩ : ∃ locs : List Loc, locs = [] := ⟨_, rfl⟩
  rw [← eL] at hS ⊢
  rw [← eH] at hP
  have hS : va_S (AE 19 E) s.heap H locs := by rw [eH]; exact hS
  show W p l e rmX2_isSign s m args below meth c s.heap locs 0 0 Q (F0 m 0 ls [])
  rw [← eH]
  refine lv_iload_n hx hb dX2_isSign_0 rfl (lv_at hl 0 rfl) ?_
  by_cases c1 : a0 = 35
  · replace hf := ob_t hf c1
    refine lv_tableIn (tgt := 128) (off := 127) hx hb dX2_isSign_1 (by rw [c1]; decide) (by rw [c1]; decide) (by rw [c1]; rfl) (by decide) ?_
    refine lv_iconst (v := 1) hx hb dX2_isSign_128 (by decide) ?_
    obtain rfl := ob_s hf
    subst hQ
    exact xe_z hx hb hr hlocks hP hS (Or.inr rfl) dX2_isSign_129
  · replace hf := ob_f hf c1
    by_cases c2 : a0 = 40
    · replace hf := ob_t hf c2
      refine lv_tableIn (tgt := 128) (off := 127) hx hb dX2_isSign_1 (by rw [c2]; decide) (by rw [c2]; decide) (by rw [c2]; rfl) (by decide) ?_
      refine lv_iconst (v := 1) hx hb dX2_isSign_128 (by decide) ?_
      obtain rfl := ob_s hf
      subst hQ
      exact xe_z hx hb hr hlocks hP hS (Or.inr rfl) dX2_isSign_129
    · replace hf := ob_f hf c2
      by_cases c3 : a0 = 41
      · replace hf := ob_t hf c3
        refine lv_tableIn (tgt := 128) (off := 127) hx hb dX2_isSign_1 (by rw [c3]; decide) (by rw [c3]; decide) (by rw [c3]; rfl) (by decide) ?_
        refine lv_iconst (v := 1) hx hb dX2_isSign_128 (by decide) ?_
        obtain rfl := ob_s hf
        subst hQ
        exact xe_z hx hb hr hlocks hP hS (Or.inr rfl) dX2_isSign_129
      · replace hf := ob_f hf c3
        by_cases c4 : a0 = 42
        · replace hf := ob_t hf c4
          refine lv_tableIn (tgt := 128) (off := 127) hx hb dX2_isSign_1 (by rw [c4]; decide) (by rw [c4]; decide) (by rw [c4]; rfl) (by decide) ?_
          refine lv_iconst (v := 1) hx hb dX2_isSign_128 (by decide) ?_
          obtain rfl := ob_s hf
          subst hQ
          exact xe_z hx hb hr hlocks hP hS (Or.inr rfl) dX2_isSign_129
        · replace hf := ob_f hf c4
          by_cases c5 : a0 = 43
          · replace hf := ob_t hf c5
            refine lv_tableIn (tgt := 128) (off := 127) hx hb dX2_isSign_1 (by rw [c5]; decide) (by rw [c5]; decide) (by rw [c5]; rfl) (by decide) ?_
            refine lv_iconst (v := 1) hx hb dX2_isSign_128 (by decide) ?_
            obtain rfl := ob_s hf
            subst hQ
            exact xe_z hx hb hr hlocks hP hS (Or.inr rfl) dX2_isSign_129
          · replace hf := ob_f hf c5
            by_cases c6 : a0 = 45
            · replace hf := ob_t hf c6
              refine lv_tableIn (tgt := 128) (off := 127) hx hb dX2_isSign_1 (by rw [c6]; decide) (by rw [c6]; decide) (by rw [c6]; rfl) (by decide) ?_
              refine lv_iconst (v := 1) hx hb dX2_isSign_128 (by decide) ?_
              obtain rfl := ob_s hf
              subst hQ
              exact xe_z hx hb hr hlocks hP hS (Or.inr rfl) dX2_isSign_129
            · replace hf := ob_f hf c6
              by_cases c7 : a0 = 47
              · replace hf := ob_t hf c7
                refine lv_tableIn (tgt := 128) (off := 127) hx hb dX2_isSign_1 (by rw [c7]; decide) (by rw [c7]; decide) (by rw [c7]; rfl) (by decide) ?_
                refine lv_iconst (v := 1) hx hb dX2_isSign_128 (by decide) ?_
                obtain rfl := ob_s hf
                subst hQ
                exact xe_z hx hb hr hlocks hP hS (Or.inr rfl) dX2_isSign_129
              · replace hf := ob_f hf c7
                by_cases c8 : a0 = 58
                · replace hf := ob_t hf c8
                  refine lv_tableIn (tgt := 128) (off := 127) hx hb dX2_isSign_1 (by rw [c8]; decide) (by rw [c8]; decide) (by rw [c8]; rfl) (by decide) ?_
                  refine lv_iconst (v := 1) hx hb dX2_isSign_128 (by decide) ?_
                  obtain rfl := ob_s hf
                  subst hQ
                  exact xe_z hx hb hr hlocks hP hS (Or.inr rfl) dX2_isSign_129
                · replace hf := ob_f hf c8
                  by_cases c9 : a0 = 59
                  · replace hf := ob_t hf c9
                    refine lv_tableIn (tgt := 128) (off := 127) hx hb dX2_isSign_1 (by rw [c9]; decide) (by rw [c9]; decide) (by rw [c9]; rfl) (by decide) ?_
                    refine lv_iconst (v := 1) hx hb dX2_isSign_128 (by decide) ?_
                    obtain rfl := ob_s hf
                    subst hQ
                    exact xe_z hx hb hr hlocks hP hS (Or.inr rfl) dX2_isSign_129
                  · replace hf := ob_f hf c9
                    by_cases c10 : a0 = 60
                    · replace hf := ob_t hf c10
                      refine lv_tableIn (tgt := 128) (off := 127) hx hb dX2_isSign_1 (by rw [c10]; decide) (by rw [c10]; decide) (by rw [c10]; rfl) (by decide) ?_
                      refine lv_iconst (v := 1) hx hb dX2_isSign_128 (by decide) ?_
                      obtain rfl := ob_s hf
                      subst hQ
                      exact xe_z hx hb hr hlocks hP hS (Or.inr rfl) dX2_isSign_129
                    · replace hf := ob_f hf c10
                      by_cases c11 : a0 = 61
                      · replace hf := ob_t hf c11
                        refine lv_tableIn (tgt := 128) (off := 127) hx hb dX2_isSign_1 (by rw [c11]; decide) (by rw [c11]; decide) (by rw [c11]; rfl) (by decide) ?_
                        refine lv_iconst (v := 1) hx hb dX2_isSign_128 (by decide) ?_
                        obtain rfl := ob_s hf
                        subst hQ
                        exact xe_z hx hb hr hlocks hP hS (Or.inr rfl) dX2_isSign_129
                      · replace hf := ob_f hf c11
                        by_cases c12 : a0 = 62
                        · replace hf := ob_t hf c12
                          refine lv_tableIn (tgt := 128) (off := 127) hx hb dX2_isSign_1 (by rw [c12]; decide) (by rw [c12]; decide) (by rw [c12]; rfl) (by decide) ?_
                          refine lv_iconst (v := 1) hx hb dX2_isSign_128 (by decide) ?_
                          obtain rfl := ob_s hf
                          subst hQ
                          exact xe_z hx hb hr hlocks hP hS (Or.inr rfl) dX2_isSign_129
                        · replace hf := ob_f hf c12
                          refine xr_tswD (tgt := 130) (vs := [35, 40, 41, 42, 43, 45, 47, 58, 59, 60, 61, 62]) hx hb dX2_isSign_1 (List.forall_mem_cons.mpr ⟨c1, List.forall_mem_cons.mpr ⟨c2, List.forall_mem_cons.mpr ⟨c3, List.forall_mem_cons.mpr ⟨c4, List.forall_mem_cons.mpr ⟨c5, List.forall_mem_cons.mpr ⟨c6, List.forall_mem_cons.mpr ⟨c7, List.forall_mem_cons.mpr ⟨c8, List.forall_mem_cons.mpr ⟨c9, List.forall_mem_cons.mpr ⟨c10, List.forall_mem_cons.mpr ⟨c11, List.forall_mem_cons.mpr ⟨c12, fun _ h => absurd h List.not_mem_nil⟩⟩⟩⟩⟩⟩⟩⟩⟩⟩⟩⟩) (by decide +kernel) (by decide) ?_
                          refine lv_iconst (v := 0) hx hb dX2_isSign_130 (by decide) ?_
                          obtain rfl := ob_s hf
                          subst hQ
                          exact xe_z hx hb hr hlocks hP hS (Or.inl rfl) dX2_isSign_131
abbrev rmX2_nextToken : Room := { frames := 1, cells := 0, slots := 0, locals := 21 }
theorem cdX2_nextToken : yX2_nextToken.cls = RX2 ∧ yX2_nextToken.cls ≠ "java/lang/invoke/MethodHandle" ∧ yX2_nextToken.cls ≠ "java/lang/invoke/VarHandle" ∧ (parseMethodDescriptor yX2_nextToken.desc).map (fun d => d.parameters.length) = some 0 := by decide +kernel
set_option maxHeartbeats 4000000 in
set_option maxRecDepth 100000 in
theorem wkX2_nextToken (l : Launch) (D : va_G) (dA : Nat → ClassId) (E : Nat → Nat) (hE : wInj 19 E) (w : Mm)  {res : Mm} (hf : M_nextToken w = some res) : Met l yX2_nextToken (ws_ yX2_nextToken cX2_nextToken 2 (none)) rmX2_nextToken (Pw D clM (tyM dA) shM 19 dA E [.ref (E 0)] w) (Qwv D clM shM 19 dA E res) 0 0 (AE 19 E) := by
  refine xm_head (own := RX2) (by decide) rfl (Nat.le_of_ble_eq_true rfl) ?_
  intro p e s m args below meth c ls Q hQ C hP hl
  obtain ⟨hx, hb, hr, hlocks, hml, hown, hts, hK⟩ := C
  replace hl : lv_has ls 2 [(0, .ref (E 0))] := hl
  have hS : va_S (AE 19 E) s.heap s.heap [] := va_S.rf
  have hD : wD 19 E (AE 19 E) := wD.self hE
  unfold M_nextToken at hf
  obtain ⟨H, eH⟩ : ∃ H, H = s.heap := ⟨_, rfl⟩
  obtain ⟨locs, eL⟩ : ∃ locs : List Loc, locs = [] := ⟨_, rfl⟩
  rw [← eL] at hS ⊢
  rw [← eH] at hP
  have hS : va_S (AE 19 E) s.heap H locs := by rw [eH]; exact hS
  show W p l e rmX2_nextToken s m args below meth c s.heap locs 0 0 Q (F0 m 0 ls [])
  rw [← eH]
  obtain ⟨b2, hb2, hf⟩ := ob_bind hf
  obtain ⟨n2, hn2⟩ := lp_some hb2
  have kL0 : ∀ (n : Nat) (w1 : Mm), lpF (fun (q2 : Mm) => M_nextToken_b0 q2) n w1 = some b2 → (∀ (H : Heap) (locs : List Loc) (ls : Array Slot), va_P D clM (wl shM 19 dA E b2) H → va_S (AE 19 E) s.heap H locs → lv_has ls 2 [(0, .ref (E 0))] → W p l e rmX2_nextToken s m args below meth c H locs 0 0 Q (F0 m 39 ls [])) → ∀ (H : Heap) (locs : List Loc) (ls : Array Slot), va_P D clM (wl shM 19 dA E w1) H → va_S (AE 19 E) s.heap H locs → lv_has ls 2 [(0, .ref (E 0))] → W p l e rmX2_nextToken s m args below meth c H locs 0 0 Q (F0 m 0 ls []) := by
    intro n
    induction n with
    | zero =>
      intro w1 h
      cases h
    | succ n ih =>
      intro w1 h K2_0 H locs ls hP hS hl
      obtain ⟨r2, hf, h2a, h2b⟩ := lpF_step h
      replace hf : M_nextToken_b0 w1 = some r2 := hf
      unfold M_nextToken_b0 at hf
      refine lv_aload_n hx hb dX2_nextToken_0 rfl (lv_at hl 0 rfl) ?_
      refine lv_aload_n hx hb dX2_nextToken_1 rfl (lv_at hl 0 rfl) ?_
      refine xr_get hx hb hts in_X2 hown hK hP 0 (by decide) rfl rfl 7 (by decide) (hts _ q1412) (fun _ h => h) rfl (v := .int (w1.1 0 7)) rfl dX2_nextToken_2 ?_
      obtain ⟨q4, g3, hf⟩ := ob_bind hf
      refine xc_i (xw_run (As := [.int (w1.1 0 7)]) (rest := []) ⟨hx, hb, hml, hown, hts⟩ (k0 := 0) (wkX2_byteAt l D dA E hE w1 (w1.1 0 7) g3) (cwV 1 hts (lw_V q1577 q1579 qs65 q140 q1580) rfl rfl rfl cdX2_byteAt ⟨Nat.le_of_ble_eq_true rfl, Nat.le_of_ble_eq_true rfl⟩) hK hP (by decide) rfl rfl rfl hl.1 rfl rfl (Nat.le_of_ble_eq_true rfl) dX2_nextToken_5 ⟨Nat.zero_le _, Nat.zero_le _⟩) hS hD.2 (fun H locs hP hS => ?_)
      refine lv_bipush (v := 32) hx hb dX2_nextToken_8 (by decide) ?_
      have kj26 : ∀ (H : Heap) (locs : List Loc) (ls : Array Slot), M_nextToken_j26 w1 = some r2 → va_P D clM (wl shM 19 dA E w1) H → va_S (AE 19 E) s.heap H locs → lv_has ls 2 [(0, .ref (E 0))] → W p l e rmX2_nextToken s m args below meth c H locs 0 0 Q (F0 m 26 ls []) := by
        intro H locs ls hf hP hS hl
        unfold M_nextToken_j26 at hf
        refine lv_aload_n hx hb dX2_nextToken_26 rfl (lv_at hl 0 rfl) ?_
        refine lv_dup hx hb dX2_nextToken_27 rfl ?_
        refine xr_get hx hb hts in_X2 hown hK hP 0 (by decide) rfl rfl 7 (by decide) (hts _ q1412) (fun _ h => h) rfl (v := .int (w1.1 0 7)) rfl dX2_nextToken_28 ?_
        refine lv_iconst (v := 1) hx hb dX2_nextToken_31 (by decide) ?_
        refine lv_iadd hx hb dX2_nextToken_32 ?_
        obtain ⟨w5, ew5, hf⟩ := ob_bnd hf
        refine xr_put hx hb hts in_X2 tyX2 tyX2_ok nmX2 hown hK hP hD hS 0 (by decide) rfl rfl 7 (by decide) (hts _ q1412) (fun _ h => h) rfl rfl rfl rfl (w' := w5) ew5 dX2_nextToken_33 (fun H locs hP hS => ?_)
        refine lv_goto (tgt := 0) hx hb dX2_nextToken_36 (by decide) ?_
        obtain rfl := ob_s hf
        exact ih _ (h2a _ rfl) K2_0 H locs ls hP hS (lv_sub hl [0] rfl)
      refine lv_icmp_eq (tgt := 26) hx hb dX2_nextToken_10 (by decide) (fun c6 => ?_) (fun c6 => ?_)
      · replace hf := ob_t hf c6
        exact kj26 H locs ls hf hP hS (lv_sub hl [0] rfl)
      · replace hf := ob_f hf c6
        refine lv_aload_n hx hb dX2_nextToken_13 rfl (lv_at hl 0 rfl) ?_
        refine lv_aload_n hx hb dX2_nextToken_14 rfl (lv_at hl 0 rfl) ?_
        refine xr_get hx hb hts in_X2 hown hK hP 0 (by decide) rfl rfl 7 (by decide) (hts _ q1412) (fun _ h => h) rfl (v := .int (w1.1 0 7)) rfl dX2_nextToken_15 ?_
        obtain ⟨q8, g7, hf⟩ := ob_bind hf
        refine xc_i (xw_run (As := [.int (w1.1 0 7)]) (rest := []) ⟨hx, hb, hml, hown, hts⟩ (k0 := 0) (wkX2_byteAt l D dA E hE w1 (w1.1 0 7) g7) (cwV 1 hts (lw_V q1577 q1579 qs65 q140 q1580) rfl rfl rfl cdX2_byteAt ⟨Nat.le_of_ble_eq_true rfl, Nat.le_of_ble_eq_true rfl⟩) hK hP (by decide) rfl rfl rfl hl.1 rfl rfl (Nat.le_of_ble_eq_true rfl) dX2_nextToken_18 ⟨Nat.zero_le _, Nat.zero_le _⟩) hS hD.2 (fun H locs hP hS => ?_)
        refine lv_bipush (v := 10) hx hb dX2_nextToken_21 (by decide) ?_
        refine lv_icmp_ne (tgt := 39) hx hb dX2_nextToken_23 (by decide) (fun c9 => ?_) (fun c9 => ?_)
        · replace hf := ob_f hf c9
          obtain rfl := ob_s hf
          obtain rfl := h2b _ rfl
          exact K2_0 H locs ls hP hS (lv_sub hl [0] rfl)
        · replace hf := ob_t hf c9
          exact kj26 H locs ls hf hP hS (lv_sub hl [0] rfl)
  refine kL0 n2 w hn2 (fun H locs ls hP hS hl => ?_) H locs ls hP hS (lv_sub hl [0] rfl)
  replace hf : M_nextToken_x0_39 b2 = some res := hf
  unfold M_nextToken_x0_39 at hf
  refine lv_aload_n hx hb dX2_nextToken_39 rfl (lv_at hl 0 rfl) ?_
  refine lv_aload_n hx hb dX2_nextToken_40 rfl (lv_at hl 0 rfl) ?_
  refine xr_get hx hb hts in_X2 hown hK hP 0 (by decide) rfl rfl 7 (by decide) (hts _ q1412) (fun _ h => h) rfl (v := .int (b2.1 0 7)) rfl dX2_nextToken_41 ?_
  obtain ⟨w10, ew10, hf⟩ := ob_bnd hf
  refine xr_put hx hb hts in_X2 tyX2 tyX2_ok nmX2 hown hK hP hD hS 0 (by decide) rfl rfl 8 (by decide) (hts _ q1413) (fun _ h => h) rfl rfl rfl rfl (w' := w10) ew10 dX2_nextToken_44 (fun H locs hP hS => ?_)
  refine lv_aload_n hx hb dX2_nextToken_47 rfl (lv_at hl 0 rfl) ?_
  refine lv_aload_n hx hb dX2_nextToken_48 rfl (lv_at hl 0 rfl) ?_
  refine xr_get hx hb hts in_X2 hown hK hP 0 (by decide) rfl rfl 7 (by decide) (hts _ q1412) (fun _ h => h) rfl (v := .int (w10.1 0 7)) rfl dX2_nextToken_49 ?_
  obtain ⟨q12, g11, hf⟩ := ob_bind hf
  refine xc_i (xw_run (As := [.int (w10.1 0 7)]) (rest := []) ⟨hx, hb, hml, hown, hts⟩ (k0 := 0) (wkX2_byteAt l D dA E hE w10 (w10.1 0 7) g11) (cwV 1 hts (lw_V q1577 q1579 qs65 q140 q1580) rfl rfl rfl cdX2_byteAt ⟨Nat.le_of_ble_eq_true rfl, Nat.le_of_ble_eq_true rfl⟩) hK hP (by decide) rfl rfl rfl hl.1 rfl rfl (Nat.le_of_ble_eq_true rfl) dX2_nextToken_52 ⟨Nat.zero_le _, Nat.zero_le _⟩) hS hD.2 (fun H locs hP hS => ?_)
  refine lv_istore_n (lv' := [(1, .int q12), (0, .ref (E 0))]) hx hb dX2_nextToken_55 rfl hl (by decide) rfl (fun ls hl => ?_)
  refine lv_iload_n hx hb dX2_nextToken_56 rfl (lv_at hl 0 rfl) ?_
  refine lv_if_ge (tgt := 68) hx hb dX2_nextToken_57 (by decide) (fun c13 => ?_) (fun c13 => ?_)
  · replace hf := ob_t hf c13
    refine lv_iload_n hx hb dX2_nextToken_68 rfl (lv_at hl 0 rfl) ?_
    obtain ⟨q15, g14, hf⟩ := ob_bind hf
    refine xc_z (xw_runS (As := [.int q12]) (rest := []) ⟨hx, hb, hml, hown, hts⟩ (wkX2_isFigure l D dA E hE w10 q12 g14) (va_cwS 1 hts (lw_S q1581 q1582 q140 q1583) rfl rfl rfl cdX2_isFigure.2 ⟨Nat.le_of_ble_eq_true rfl, Nat.le_of_ble_eq_true rfl⟩) hK hP hl.1 rfl rfl (Nat.le_of_ble_eq_true rfl) dX2_nextToken_69 ⟨Nat.zero_le _, Nat.zero_le _⟩) hS hD.2 (fun H locs zq15 hP hS => ?_)
    refine lv_if_eq (tgt := 151) hx hb dX2_nextToken_72 (by decide) (fun c16 => ?_) (fun c16 => ?_)
    · replace hf := ob_t hf c16
      refine lv_iload_n hx hb dX2_nextToken_151 rfl (lv_at hl 0 rfl) ?_
      obtain ⟨q18, g17, hf⟩ := ob_bind hf
      refine xc_z (xw_runS (As := [.int q12]) (rest := []) ⟨hx, hb, hml, hown, hts⟩ (wkX2_isLetterByte l D dA E hE w10 q12 g17) (va_cwS 1 hts (lw_S q1585 q1586 q140 q1587) rfl rfl rfl cdX2_isLetterByte.2 ⟨Nat.le_of_ble_eq_true rfl, Nat.le_of_ble_eq_true rfl⟩) hK hP hl.1 rfl rfl (Nat.le_of_ble_eq_true rfl) dX2_nextToken_152 ⟨Nat.zero_le _, Nat.zero_le _⟩) hS hD.2 (fun H locs zq18 hP hS => ?_)
      refine lv_if_eq (tgt := 234) hx hb dX2_nextToken_155 (by decide) (fun c19 => ?_) (fun c19 => ?_)
      · replace hf := ob_t hf c19
        refine lv_aload_n hx hb dX2_nextToken_234 rfl (lv_at hl 1 rfl) ?_
        refine lv_iload_n hx hb dX2_nextToken_235 rfl (lv_at hl 0 rfl) ?_
        obtain ⟨q21, g20, hf⟩ := ob_bind hf
        refine xc_z (xw_runS (As := [.int q12]) (rest := [.ref (E 0)]) ⟨hx, hb, hml, hown, hts⟩ (wkX2_isSign l D dA E hE w10 q12 g20) (va_cwS 1 hts (lw_S q1589 q1590 q140 q1591) rfl rfl rfl cdX2_isSign.2 ⟨Nat.le_of_ble_eq_true rfl, Nat.le_of_ble_eq_true rfl⟩) hK hP hl.1 rfl rfl (Nat.le_of_ble_eq_true rfl) dX2_nextToken_236 ⟨Nat.zero_le _, Nat.zero_le _⟩) hS hD.2 (fun H locs zq21 hP hS => ?_)
        have kj247 : ∀ (t22 : Int32) (H : Heap) (locs : List Loc) (ls : Array Slot), M_nextToken_j247 w10 t22 q12 = some res → va_P D clM (wl shM 19 dA E w10) H → va_S (AE 19 E) s.heap H locs → lv_has ls 2 [(0, .ref (E 0)), (1, .int q12)] → W p l e rmX2_nextToken s m args below meth c H locs 0 0 Q (F0 m 247 ls [.int t22, .ref (E 0)]) := by
          intro t22 H locs ls hf hP hS hl
          unfold M_nextToken_j247 at hf
          obtain ⟨w23, ew23, hf⟩ := ob_bnd hf
          refine xr_put hx hb hts in_X2 tyX2 tyX2_ok nmX2 hown hK hP hD hS 0 (by decide) rfl rfl 9 (by decide) (hts _ q1414) (fun _ h => h) rfl rfl rfl rfl (w' := w23) ew23 dX2_nextToken_247 (fun H locs hP hS => ?_)
          refine lv_aload_n hx hb dX2_nextToken_250 rfl (lv_at hl 0 rfl) ?_
          refine lv_dup hx hb dX2_nextToken_251 rfl ?_
          refine xr_get hx hb hts in_X2 hown hK hP 0 (by decide) rfl rfl 7 (by decide) (hts _ q1412) (fun _ h => h) rfl (v := .int (w23.1 0 7)) rfl dX2_nextToken_252 ?_
          refine lv_iconst (v := 1) hx hb dX2_nextToken_255 (by decide) ?_
          refine lv_iadd hx hb dX2_nextToken_256 ?_
          obtain ⟨w24, ew24, hf⟩ := ob_bnd hf
          refine xr_put hx hb hts in_X2 tyX2 tyX2_ok nmX2 hown hK hP hD hS 0 (by decide) rfl rfl 7 (by decide) (hts _ q1412) (fun _ h => h) rfl rfl rfl rfl (w' := w24) ew24 dX2_nextToken_257 (fun H locs hP hS => ?_)
          refine lv_iload_n hx hb dX2_nextToken_260 rfl (lv_at hl 1 rfl) ?_
          refine lv_bipush (v := 60) hx hb dX2_nextToken_261 (by decide) ?_
          have kj272 : ∀ (H : Heap) (locs : List Loc) (ls : Array Slot), M_nextToken_j272 w24 q12 = some res → va_P D clM (wl shM 19 dA E w24) H → va_S (AE 19 E) s.heap H locs → lv_has ls 2 [(0, .ref (E 0)), (1, .int q12)] → W p l e rmX2_nextToken s m args below meth c H locs 0 0 Q (F0 m 272 ls []) := by
            intro H locs ls hf hP hS hl
            unfold M_nextToken_j272 at hf
            refine lv_aload_n hx hb dX2_nextToken_272 rfl (lv_at hl 0 rfl) ?_
            refine lv_aload_n hx hb dX2_nextToken_273 rfl (lv_at hl 0 rfl) ?_
            refine xr_get hx hb hts in_X2 hown hK hP 0 (by decide) rfl rfl 7 (by decide) (hts _ q1412) (fun _ h => h) rfl (v := .int (w24.1 0 7)) rfl dX2_nextToken_274 ?_
            obtain ⟨q26, g25, hf⟩ := ob_bind hf
            refine xc_i (xw_run (As := [.int (w24.1 0 7)]) (rest := []) ⟨hx, hb, hml, hown, hts⟩ (k0 := 0) (wkX2_byteAt l D dA E hE w24 (w24.1 0 7) g25) (cwV 1 hts (lw_V q1577 q1579 qs65 q140 q1580) rfl rfl rfl cdX2_byteAt ⟨Nat.le_of_ble_eq_true rfl, Nat.le_of_ble_eq_true rfl⟩) hK hP (by decide) rfl rfl rfl hl.1 rfl rfl (Nat.le_of_ble_eq_true rfl) dX2_nextToken_277 ⟨Nat.zero_le _, Nat.zero_le _⟩) hS hD.2 (fun H locs hP hS => ?_)
            refine lv_bipush (v := 61) hx hb dX2_nextToken_280 (by decide) ?_
            refine lv_icmp_ne (tgt := 310) hx hb dX2_nextToken_282 (by decide) (fun c27 => ?_) (fun c27 => ?_)
            · replace hf := ob_f hf c27
              obtain rfl := ob_s hf
              subst hQ
              exact xe_v hx hb hr hlocks hP hS dX2_nextToken_310
            · replace hf := ob_t hf c27
              refine lv_aload_n hx hb dX2_nextToken_285 rfl (lv_at hl 0 rfl) ?_
              refine lv_iload_n hx hb dX2_nextToken_286 rfl (lv_at hl 1 rfl) ?_
              refine lv_bipush (v := 60) hx hb dX2_nextToken_287 (by decide) ?_
              have kj297 : ∀ (t28 : Int32) (H : Heap) (locs : List Loc) (ls : Array Slot), M_nextToken_j297 w24 t28 = some res → va_P D clM (wl shM 19 dA E w24) H → va_S (AE 19 E) s.heap H locs → lv_has ls 2 [(0, .ref (E 0))] → W p l e rmX2_nextToken s m args below meth c H locs 0 0 Q (F0 m 297 ls [.int t28, .ref (E 0)]) := by
                intro t28 H locs ls hf hP hS hl
                unfold M_nextToken_j297 at hf
                obtain ⟨w29, ew29, hf⟩ := ob_bnd hf
                refine xr_put hx hb hts in_X2 tyX2 tyX2_ok nmX2 hown hK hP hD hS 0 (by decide) rfl rfl 9 (by decide) (hts _ q1414) (fun _ h => h) rfl rfl rfl rfl (w' := w29) ew29 dX2_nextToken_297 (fun H locs hP hS => ?_)
                refine lv_aload_n hx hb dX2_nextToken_300 rfl (lv_at hl 0 rfl) ?_
                refine lv_dup hx hb dX2_nextToken_301 rfl ?_
                refine xr_get hx hb hts in_X2 hown hK hP 0 (by decide) rfl rfl 7 (by decide) (hts _ q1412) (fun _ h => h) rfl (v := .int (w29.1 0 7)) rfl dX2_nextToken_302 ?_
                refine lv_iconst (v := 1) hx hb dX2_nextToken_305 (by decide) ?_
                refine lv_iadd hx hb dX2_nextToken_306 ?_
                obtain ⟨w30, ew30, hf⟩ := ob_bnd hf
                refine xr_put hx hb hts in_X2 tyX2 tyX2_ok nmX2 hown hK hP hD hS 0 (by decide) rfl rfl 7 (by decide) (hts _ q1412) (fun _ h => h) rfl rfl rfl rfl (w' := w30) ew30 dX2_nextToken_307 (fun H locs hP hS => ?_)
                obtain rfl := ob_s hf
                subst hQ
                exact xe_v hx hb hr hlocks hP hS dX2_nextToken_310
              refine lv_icmp_ne (tgt := 296) hx hb dX2_nextToken_289 (by decide) (fun c31 => ?_) (fun c31 => ?_)
              · replace hf := ob_f hf c31
                refine lv_iconst (v := 5) hx hb dX2_nextToken_296 (by decide) ?_
                exact kj297 5 H locs ls hf hP hS (lv_sub hl [0] rfl)
              · replace hf := ob_t hf c31
                refine lv_iconst (v := 4) hx hb dX2_nextToken_292 (by decide) ?_
                refine lv_goto (tgt := 297) hx hb dX2_nextToken_293 (by decide) ?_
                exact kj297 4 H locs ls hf hP hS (lv_sub hl [0] rfl)
          refine lv_icmp_eq (tgt := 272) hx hb dX2_nextToken_263 (by decide) (fun c32 => ?_) (fun c32 => ?_)
          · replace hf := ob_t hf c32
            exact kj272 H locs ls hf hP hS (lv_sub hl [0, 1] rfl)
          · replace hf := ob_f hf c32
            refine lv_iload_n hx hb dX2_nextToken_266 rfl (lv_at hl 1 rfl) ?_
            refine lv_bipush (v := 62) hx hb dX2_nextToken_267 (by decide) ?_
            refine lv_icmp_ne (tgt := 310) hx hb dX2_nextToken_269 (by decide) (fun c33 => ?_) (fun c33 => ?_)
            · replace hf := ob_f hf c33
              obtain rfl := ob_s hf
              subst hQ
              exact xe_v hx hb hr hlocks hP hS dX2_nextToken_310
            · replace hf := ob_t hf c33
              exact kj272 H locs ls hf hP hS (lv_sub hl [0, 1] rfl)
        refine lv_if_eq (tgt := 246) hx hb dX2_nextToken_239 (by decide) (fun c34 => ?_) (fun c34 => ?_)
        · replace hf := ob_t hf c34
          refine lv_iconst (v := 3) hx hb dX2_nextToken_246 (by decide) ?_
          exact kj247 3 H locs ls hf hP hS (lv_sub hl [1, 0] rfl)
        · replace hf := ob_f hf c34
          refine lv_iload_n hx hb dX2_nextToken_242 rfl (lv_at hl 0 rfl) ?_
          refine lv_goto (tgt := 247) hx hb dX2_nextToken_243 (by decide) ?_
          exact kj247 q12 H locs ls hf hP hS (lv_sub hl [1, 0] rfl)
      · replace hf := ob_f hf c19
        refine lv_aload_n hx hb dX2_nextToken_158 rfl (lv_at hl 1 rfl) ?_
        refine lv_iconst (v := 2) hx hb dX2_nextToken_159 (by decide) ?_
        obtain ⟨w35, ew35, hf⟩ := ob_bnd hf
        refine xr_put hx hb hts in_X2 tyX2 tyX2_ok nmX2 hown hK hP hD hS 0 (by decide) rfl rfl 9 (by decide) (hts _ q1414) (fun _ h => h) rfl rfl rfl rfl (w' := w35) ew35 dX2_nextToken_160 (fun H locs hP hS => ?_)
        refine lv_aload_n hx hb dX2_nextToken_163 rfl (lv_at hl 1 rfl) ?_
        refine lv_lconst (v := 0) hx hb dX2_nextToken_164 (by decide) ?_
        obtain ⟨w36, ew36, hf⟩ := ob_bnd hf
        refine xr_putL hx hb hts in_X2 tyX2 tyX2_ok nmX2 hown hK hP hD hS 0 (by decide) rfl rfl 11 (by decide) (hts _ q1416) (fun _ h => h) rfl rfl rfl rfl (w' := w36) ew36 dX2_nextToken_165 (fun H locs hP hS => ?_)
        obtain ⟨b38, hb38, hf⟩ := ob_bind hf
        obtain ⟨n38, hn38⟩ := lp_some hb38
        have kL168 : ∀ (n : Nat) (w37 : Mm), lpF (fun (q38 : Mm) => M_nextToken_b168 q38) n w37 = some b38 → (∀ (H : Heap) (locs : List Loc) (ls : Array Slot), va_P D clM (wl shM 19 dA E b38) H → va_S (AE 19 E) s.heap H locs → lv_has ls 2 [] → W p l e rmX2_nextToken s m args below meth c H locs 0 0 Q (F0 m 310 ls [])) → ∀ (H : Heap) (locs : List Loc) (ls : Array Slot), va_P D clM (wl shM 19 dA E w37) H → va_S (AE 19 E) s.heap H locs → lv_has ls 2 [(0, .ref (E 0))] → W p l e rmX2_nextToken s m args below meth c H locs 0 0 Q (F0 m 168 ls []) := by
          intro n
          induction n with
          | zero =>
            intro w37 h
            cases h
          | succ n ih =>
            intro w37 h K38_0 H locs ls hP hS hl
            obtain ⟨r38, hf, h38a, h38b⟩ := lpF_step h
            replace hf : M_nextToken_b168 w37 = some r38 := hf
            unfold M_nextToken_b168 at hf
            refine lv_aload_n hx hb dX2_nextToken_168 rfl (lv_at hl 0 rfl) ?_
            refine lv_aload_n hx hb dX2_nextToken_169 rfl (lv_at hl 0 rfl) ?_
            refine xr_get hx hb hts in_X2 hown hK hP 0 (by decide) rfl rfl 7 (by decide) (hts _ q1412) (fun _ h => h) rfl (v := .int (w37.1 0 7)) rfl dX2_nextToken_170 ?_
            obtain ⟨q40, g39, hf⟩ := ob_bind hf
            refine xc_i (xw_run (As := [.int (w37.1 0 7)]) (rest := []) ⟨hx, hb, hml, hown, hts⟩ (k0 := 0) (wkX2_byteAt l D dA E hE w37 (w37.1 0 7) g39) (cwV 1 hts (lw_V q1577 q1579 qs65 q140 q1580) rfl rfl rfl cdX2_byteAt ⟨Nat.le_of_ble_eq_true rfl, Nat.le_of_ble_eq_true rfl⟩) hK hP (by decide) rfl rfl rfl hl.1 rfl rfl (Nat.le_of_ble_eq_true rfl) dX2_nextToken_173 ⟨Nat.zero_le _, Nat.zero_le _⟩) hS hD.2 (fun H locs hP hS => ?_)
            obtain ⟨q42, g41, hf⟩ := ob_bind hf
            refine xc_z (xw_runS (As := [.int q40]) (rest := []) ⟨hx, hb, hml, hown, hts⟩ (wkX2_isLetterByte l D dA E hE w37 q40 g41) (va_cwS 1 hts (lw_S q1585 q1586 q140 q1587) rfl rfl rfl cdX2_isLetterByte.2 ⟨Nat.le_of_ble_eq_true rfl, Nat.le_of_ble_eq_true rfl⟩) hK hP hl.1 rfl rfl (Nat.le_of_ble_eq_true rfl) dX2_nextToken_176 ⟨Nat.zero_le _, Nat.zero_le _⟩) hS hD.2 (fun H locs zq42 hP hS => ?_)
            refine lv_if_eq (tgt := 310) hx hb dX2_nextToken_179 (by decide) (fun c43 => ?_) (fun c43 => ?_)
            · replace hf := ob_t hf c43
              obtain rfl := ob_s hf
              obtain rfl := h38b _ rfl
              exact K38_0 H locs ls hP hS (lv_sub hl [] rfl)
            · replace hf := ob_f hf c43
              refine lv_aload_n hx hb dX2_nextToken_182 rfl (lv_at hl 0 rfl) ?_
              refine lv_aload_n hx hb dX2_nextToken_183 rfl (lv_at hl 0 rfl) ?_
              refine xr_get hx hb hts in_X2 hown hK hP 0 (by decide) rfl rfl 11 (by decide) (hts _ q1416) (fun _ h => h) rfl (v := .long (w37.2.1 0 11)) rfl dX2_nextToken_184 ?_
              refine lv_bipush (v := 48) hx hb dX2_nextToken_187 (by decide) ?_
              refine lv_lshr hx hb dX2_nextToken_189 rfl ?_
              refine lv_lconst (v := 0) hx hb dX2_nextToken_190 (by decide) ?_
              refine W.lcmp hx hb dX2_nextToken_191 ?_
              have kj218 : ∀ (t44 : Int64) (H : Heap) (locs : List Loc) (ls : Array Slot), M_nextToken_j218 w37 t44 = some r38 → va_P D clM (wl shM 19 dA E w37) H → va_S (AE 19 E) s.heap H locs → lv_has ls 2 [(0, .ref (E 0))] → W p l e rmX2_nextToken s m args below meth c H locs 0 0 Q (F0 m 218 ls [.long t44, .ref (E 0)]) := by
                intro t44 H locs ls hf hP hS hl
                unfold M_nextToken_j218 at hf
                obtain ⟨w45, ew45, hf⟩ := ob_bnd hf
                refine xr_putL hx hb hts in_X2 tyX2 tyX2_ok nmX2 hown hK hP hD hS 0 (by decide) rfl rfl 11 (by decide) (hts _ q1416) (fun _ h => h) rfl rfl rfl rfl (w' := w45) ew45 dX2_nextToken_218 (fun H locs hP hS => ?_)
                refine lv_aload_n hx hb dX2_nextToken_221 rfl (lv_at hl 0 rfl) ?_
                refine lv_dup hx hb dX2_nextToken_222 rfl ?_
                refine xr_get hx hb hts in_X2 hown hK hP 0 (by decide) rfl rfl 7 (by decide) (hts _ q1412) (fun _ h => h) rfl (v := .int (w45.1 0 7)) rfl dX2_nextToken_223 ?_
                refine lv_iconst (v := 1) hx hb dX2_nextToken_226 (by decide) ?_
                refine lv_iadd hx hb dX2_nextToken_227 ?_
                obtain ⟨w46, ew46, hf⟩ := ob_bnd hf
                refine xr_put hx hb hts in_X2 tyX2 tyX2_ok nmX2 hown hK hP hD hS 0 (by decide) rfl rfl 7 (by decide) (hts _ q1412) (fun _ h => h) rfl rfl rfl rfl (w' := w46) ew46 dX2_nextToken_228 (fun H locs hP hS => ?_)
                refine lv_goto (tgt := 168) hx hb dX2_nextToken_231 (by decide) ?_
                obtain rfl := ob_s hf
                exact ih _ (h38a _ rfl) K38_0 H locs ls hP hS (lv_sub hl [0] rfl)
              refine lv_if_eq (tgt := 201) hx hb dX2_nextToken_192 (by decide) (fun c47 => ?_) (fun c47 => ?_)
              · replace hf := ob_t hf c47
                refine lv_aload_n hx hb dX2_nextToken_201 rfl (lv_at hl 0 rfl) ?_
                refine xr_get hx hb hts in_X2 hown hK hP 0 (by decide) rfl rfl 11 (by decide) (hts _ q1416) (fun _ h => h) rfl (v := .long (w37.2.1 0 11)) rfl dX2_nextToken_202 ?_
                refine lv_bipush (v := 8) hx hb dX2_nextToken_205 (by decide) ?_
                refine lv_lshl hx hb dX2_nextToken_207 rfl ?_
                refine lv_aload_n hx hb dX2_nextToken_208 rfl (lv_at hl 0 rfl) ?_
                refine lv_aload_n hx hb dX2_nextToken_209 rfl (lv_at hl 0 rfl) ?_
                refine xr_get hx hb hts in_X2 hown hK hP 0 (by decide) rfl rfl 7 (by decide) (hts _ q1412) (fun _ h => h) rfl (v := .int (w37.1 0 7)) rfl dX2_nextToken_210 ?_
                obtain ⟨q49, g48, hf⟩ := ob_bind hf
                refine xc_i (xw_run (As := [.int (w37.1 0 7)]) (rest := [.long ((w37.2.1 0 11) <<< ((8 : Int32).toInt64 &&& 63)), .ref (E 0)]) ⟨hx, hb, hml, hown, hts⟩ (k0 := 0) (wkX2_byteAt l D dA E hE w37 (w37.1 0 7) g48) (cwV 1 hts (lw_V q1577 q1579 qs65 q140 q1580) rfl rfl rfl cdX2_byteAt ⟨Nat.le_of_ble_eq_true rfl, Nat.le_of_ble_eq_true rfl⟩) hK hP (by decide) rfl rfl rfl hl.1 rfl rfl (Nat.le_of_ble_eq_true rfl) dX2_nextToken_213 ⟨Nat.zero_le _, Nat.zero_le _⟩) hS hD.2 (fun H locs hP hS => ?_)
                refine lv_i2l hx hb dX2_nextToken_216 rfl ?_
                refine lv_lor hx hb dX2_nextToken_217 ?_
                exact kj218 (((w37.2.1 0 11) <<< ((8 : Int32).toInt64 &&& 63)) ||| q49.toInt64) H locs ls hf hP hS (lv_sub hl [0] rfl)
              · replace hf := ob_f hf c47
                refine lv_ldc2 (v := (1152921504606846976 : Int64)) hx hb hown (hts _ q1588) dX2_nextToken_195 ?_
                refine lv_goto (tgt := 218) hx hb dX2_nextToken_198 (by decide) ?_
                exact kj218 (1152921504606846976 : Int64) H locs ls hf hP hS (lv_sub hl [0] rfl)
        refine kL168 n38 w36 hn38 (fun H locs ls hP hS hl => ?_) H locs ls hP hS (lv_sub hl [1] rfl)
        replace hf : M_nextToken_x168_310 b38 = some res := hf
        unfold M_nextToken_x168_310 at hf
        obtain rfl := ob_s hf
        subst hQ
        exact xe_v hx hb hr hlocks hP hS dX2_nextToken_310
    · replace hf := ob_f hf c16
      refine lv_aload_n hx hb dX2_nextToken_75 rfl (lv_at hl 1 rfl) ?_
      refine lv_iconst (v := 1) hx hb dX2_nextToken_76 (by decide) ?_
      obtain ⟨w50, ew50, hf⟩ := ob_bnd hf
      refine xr_put hx hb hts in_X2 tyX2 tyX2_ok nmX2 hown hK hP hD hS 0 (by decide) rfl rfl 9 (by decide) (hts _ q1414) (fun _ h => h) rfl rfl rfl rfl (w' := w50) ew50 dX2_nextToken_77 (fun H locs hP hS => ?_)
      refine lv_aload_n hx hb dX2_nextToken_80 rfl (lv_at hl 1 rfl) ?_
      refine lv_iconst (v := 0) hx hb dX2_nextToken_81 (by decide) ?_
      obtain ⟨w51, ew51, hf⟩ := ob_bnd hf
      refine xr_put hx hb hts in_X2 tyX2 tyX2_ok nmX2 hown hK hP hD hS 0 (by decide) rfl rfl 10 (by decide) (hts _ q1415) (fun _ h => h) rfl rfl rfl rfl (w' := w51) ew51 dX2_nextToken_82 (fun H locs hP hS => ?_)
      obtain ⟨b53, hb53, hf⟩ := ob_bind hf
      obtain ⟨n53, hn53⟩ := lp_some hb53
      have kL85 : ∀ (n : Nat) (w52 : Mm), lpF (fun (q53 : Mm) => M_nextToken_b85 q53) n w52 = some b53 → (∀ (H : Heap) (locs : List Loc) (ls : Array Slot), va_P D clM (wl shM 19 dA E b53) H → va_S (AE 19 E) s.heap H locs → lv_has ls 2 [] → W p l e rmX2_nextToken s m args below meth c H locs 0 0 Q (F0 m 310 ls [])) → ∀ (H : Heap) (locs : List Loc) (ls : Array Slot), va_P D clM (wl shM 19 dA E w52) H → va_S (AE 19 E) s.heap H locs → lv_has ls 2 [(0, .ref (E 0))] → W p l e rmX2_nextToken s m args below meth c H locs 0 0 Q (F0 m 85 ls []) := by
        intro n
        induction n with
        | zero =>
          intro w52 h
          cases h
        | succ n ih =>
          intro w52 h K53_0 H locs ls hP hS hl
          obtain ⟨r53, hf, h53a, h53b⟩ := lpF_step h
          replace hf : M_nextToken_b85 w52 = some r53 := hf
          unfold M_nextToken_b85 at hf
          refine lv_aload_n hx hb dX2_nextToken_85 rfl (lv_at hl 0 rfl) ?_
          refine lv_aload_n hx hb dX2_nextToken_86 rfl (lv_at hl 0 rfl) ?_
          refine xr_get hx hb hts in_X2 hown hK hP 0 (by decide) rfl rfl 7 (by decide) (hts _ q1412) (fun _ h => h) rfl (v := .int (w52.1 0 7)) rfl dX2_nextToken_87 ?_
          obtain ⟨q55, g54, hf⟩ := ob_bind hf
          refine xc_i (xw_run (As := [.int (w52.1 0 7)]) (rest := []) ⟨hx, hb, hml, hown, hts⟩ (k0 := 0) (wkX2_byteAt l D dA E hE w52 (w52.1 0 7) g54) (cwV 1 hts (lw_V q1577 q1579 qs65 q140 q1580) rfl rfl rfl cdX2_byteAt ⟨Nat.le_of_ble_eq_true rfl, Nat.le_of_ble_eq_true rfl⟩) hK hP (by decide) rfl rfl rfl hl.1 rfl rfl (Nat.le_of_ble_eq_true rfl) dX2_nextToken_90 ⟨Nat.zero_le _, Nat.zero_le _⟩) hS hD.2 (fun H locs hP hS => ?_)
          obtain ⟨q57, g56, hf⟩ := ob_bind hf
          refine xc_z (xw_runS (As := [.int q55]) (rest := []) ⟨hx, hb, hml, hown, hts⟩ (wkX2_isFigure l D dA E hE w52 q55 g56) (va_cwS 1 hts (lw_S q1581 q1582 q140 q1583) rfl rfl rfl cdX2_isFigure.2 ⟨Nat.le_of_ble_eq_true rfl, Nat.le_of_ble_eq_true rfl⟩) hK hP hl.1 rfl rfl (Nat.le_of_ble_eq_true rfl) dX2_nextToken_93 ⟨Nat.zero_le _, Nat.zero_le _⟩) hS hD.2 (fun H locs zq57 hP hS => ?_)
          refine lv_if_eq (tgt := 310) hx hb dX2_nextToken_96 (by decide) (fun c58 => ?_) (fun c58 => ?_)
          · replace hf := ob_t hf c58
            obtain rfl := ob_s hf
            obtain rfl := h53b _ rfl
            exact K53_0 H locs ls hP hS (lv_sub hl [] rfl)
          · replace hf := ob_f hf c58
            refine lv_aload_n hx hb dX2_nextToken_99 rfl (lv_at hl 0 rfl) ?_
            refine lv_aload_n hx hb dX2_nextToken_100 rfl (lv_at hl 0 rfl) ?_
            refine xr_get hx hb hts in_X2 hown hK hP 0 (by decide) rfl rfl 10 (by decide) (hts _ q1415) (fun _ h => h) rfl (v := .int (w52.1 0 10)) rfl dX2_nextToken_101 ?_
            refine lv_ldc (v := 99999) hx hb hown (hts _ q1584) dX2_nextToken_104 ?_
            have kj135 : ∀ (t59 : Int32) (H : Heap) (locs : List Loc) (ls : Array Slot), M_nextToken_j135 w52 t59 = some r53 → va_P D clM (wl shM 19 dA E w52) H → va_S (AE 19 E) s.heap H locs → lv_has ls 2 [(0, .ref (E 0))] → W p l e rmX2_nextToken s m args below meth c H locs 0 0 Q (F0 m 135 ls [.int t59, .ref (E 0)]) := by
              intro t59 H locs ls hf hP hS hl
              unfold M_nextToken_j135 at hf
              obtain ⟨w60, ew60, hf⟩ := ob_bnd hf
              refine xr_put hx hb hts in_X2 tyX2 tyX2_ok nmX2 hown hK hP hD hS 0 (by decide) rfl rfl 10 (by decide) (hts _ q1415) (fun _ h => h) rfl rfl rfl rfl (w' := w60) ew60 dX2_nextToken_135 (fun H locs hP hS => ?_)
              refine lv_aload_n hx hb dX2_nextToken_138 rfl (lv_at hl 0 rfl) ?_
              refine lv_dup hx hb dX2_nextToken_139 rfl ?_
              refine xr_get hx hb hts in_X2 hown hK hP 0 (by decide) rfl rfl 7 (by decide) (hts _ q1412) (fun _ h => h) rfl (v := .int (w60.1 0 7)) rfl dX2_nextToken_140 ?_
              refine lv_iconst (v := 1) hx hb dX2_nextToken_143 (by decide) ?_
              refine lv_iadd hx hb dX2_nextToken_144 ?_
              obtain ⟨w61, ew61, hf⟩ := ob_bnd hf
              refine xr_put hx hb hts in_X2 tyX2 tyX2_ok nmX2 hown hK hP hD hS 0 (by decide) rfl rfl 7 (by decide) (hts _ q1412) (fun _ h => h) rfl rfl rfl rfl (w' := w61) ew61 dX2_nextToken_145 (fun H locs hP hS => ?_)
              refine lv_goto (tgt := 85) hx hb dX2_nextToken_148 (by decide) ?_
              obtain rfl := ob_s hf
              exact ih _ (h53a _ rfl) K53_0 H locs ls hP hS (lv_sub hl [0] rfl)
            refine lv_icmp_le (tgt := 116) hx hb dX2_nextToken_106 (by decide) (fun c62 => ?_) (fun c62 => ?_)
            · replace hf := ob_t hf c62
              refine lv_bipush (v := 10) hx hb dX2_nextToken_116 (by decide) ?_
              refine lv_aload_n hx hb dX2_nextToken_118 rfl (lv_at hl 0 rfl) ?_
              refine xr_get hx hb hts in_X2 hown hK hP 0 (by decide) rfl rfl 10 (by decide) (hts _ q1415) (fun _ h => h) rfl (v := .int (w52.1 0 10)) rfl dX2_nextToken_119 ?_
              refine lv_imul hx hb dX2_nextToken_122 ?_
              refine lv_aload_n hx hb dX2_nextToken_123 rfl (lv_at hl 0 rfl) ?_
              refine lv_aload_n hx hb dX2_nextToken_124 rfl (lv_at hl 0 rfl) ?_
              refine xr_get hx hb hts in_X2 hown hK hP 0 (by decide) rfl rfl 7 (by decide) (hts _ q1412) (fun _ h => h) rfl (v := .int (w52.1 0 7)) rfl dX2_nextToken_125 ?_
              obtain ⟨q64, g63, hf⟩ := ob_bind hf
              refine xc_i (xw_run (As := [.int (w52.1 0 7)]) (rest := [.int (10 * (w52.1 0 10)), .ref (E 0)]) ⟨hx, hb, hml, hown, hts⟩ (k0 := 0) (wkX2_byteAt l D dA E hE w52 (w52.1 0 7) g63) (cwV 1 hts (lw_V q1577 q1579 qs65 q140 q1580) rfl rfl rfl cdX2_byteAt ⟨Nat.le_of_ble_eq_true rfl, Nat.le_of_ble_eq_true rfl⟩) hK hP (by decide) rfl rfl rfl hl.1 rfl rfl (Nat.le_of_ble_eq_true rfl) dX2_nextToken_128 ⟨Nat.zero_le _, Nat.zero_le _⟩) hS hD.2 (fun H locs hP hS => ?_)
              refine lv_iadd hx hb dX2_nextToken_131 ?_
              refine lv_bipush (v := 48) hx hb dX2_nextToken_132 (by decide) ?_
              refine lv_isub hx hb dX2_nextToken_134 ?_
              exact kj135 (((10 * (w52.1 0 10)) + q64) - 48) H locs ls hf hP hS (lv_sub hl [0] rfl)
            · replace hf := ob_f hf c62
              refine lv_aload_n hx hb dX2_nextToken_109 rfl (lv_at hl 0 rfl) ?_
              refine xr_get hx hb hts in_X2 hown hK hP 0 (by decide) rfl rfl 10 (by decide) (hts _ q1415) (fun _ h => h) rfl (v := .int (w52.1 0 10)) rfl dX2_nextToken_110 ?_
              refine lv_goto (tgt := 135) hx hb dX2_nextToken_113 (by decide) ?_
              exact kj135 (w52.1 0 10) H locs ls hf hP hS (lv_sub hl [0] rfl)
      refine kL85 n53 w51 hn53 (fun H locs ls hP hS hl => ?_) H locs ls hP hS (lv_sub hl [1] rfl)
      replace hf : M_nextToken_x85_310 b53 = some res := hf
      unfold M_nextToken_x85_310 at hf
      obtain rfl := ob_s hf
      subst hQ
      exact xe_v hx hb hr hlocks hP hS dX2_nextToken_310
  · replace hf := ob_f hf c13
    refine lv_aload_n hx hb dX2_nextToken_60 rfl (lv_at hl 1 rfl) ?_
    refine lv_iconst (v := 0) hx hb dX2_nextToken_61 (by decide) ?_
    obtain ⟨w65, ew65, hf⟩ := ob_bnd hf
    refine xr_put hx hb hts in_X2 tyX2 tyX2_ok nmX2 hown hK hP hD hS 0 (by decide) rfl rfl 9 (by decide) (hts _ q1414) (fun _ h => h) rfl rfl rfl rfl (w' := w65) ew65 dX2_nextToken_62 (fun H locs hP hS => ?_)
    refine lv_goto (tgt := 310) hx hb dX2_nextToken_65 (by decide) ?_
    obtain rfl := ob_s hf
    subst hQ
    exact xe_v hx hb hr hlocks hP hS dX2_nextToken_310
abbrev rmX2_w2 : Room := { frames := 0, cells := 0, slots := 0, locals := 0 }
theorem cdX2_w2 : yX2_w2.cls = RX2 ∧ yX2_w2.cls ≠ "java/lang/invoke/MethodHandle" ∧ yX2_w2.cls ≠ "java/lang/invoke/VarHandle" ∧ (parseMethodDescriptor yX2_w2.desc).map (fun d => d.parameters.length) = some 2 := by decide +kernel
set_option maxHeartbeats 4000000 in
set_option maxRecDepth 100000 in
theorem wkX2_w2 (l : Launch) (D : va_G) (dA : Nat → ClassId) (E : Nat → Nat) (hE : wInj 19 E) (w : Mm) (a0 : Int32) (a1 : Int32) {res : Int64} (hf : M_w2 a0 a1 = some res) : Met l yX2_w2 (ws_ yX2_w2 cX2_w2 2 (some .long)) rmX2_w2 (Pw D clM (tyM dA) shM 19 dA E [.int a0, .int a1] w) (Qwl D clM shM 19 dA E res w) 0 0 (AE 19 E) := by
  refine xm_head (own := RX2) (by decide) rfl (Nat.le_of_ble_eq_true rfl) ?_
  intro p e s m args below meth c ls Q hQ C hP hl
  obtain ⟨hx, hb, hr, hlocks, hml, hown, hts, hK⟩ := C
  replace hl : lv_has ls 2 [(0, .int a0), (1, .int a1)] := hl
  have hS : va_S (AE 19 E) s.heap s.heap [] := va_S.rf
  have hD : wD 19 E (AE 19 E) := wD.self hE
  unfold M_w2 at hf
  obtain ⟨H, eH⟩ : ∃ H, H = s.heap := ⟨_, rfl⟩
  obtain ⟨locs, eL⟩ : ∃ locs : List Loc, locs = [] := ⟨_, rfl⟩
  rw [← eL] at hS ⊢
  rw [← eH] at hP
  have hS : va_S (AE 19 E) s.heap H locs := by rw [eH]; exact hS
  show W p l e rmX2_w2 s m args below meth c s.heap locs 0 0 Q (F0 m 0 ls [])
  rw [← eH]
  refine lv_iload_n hx hb dX2_w2_0 rfl (lv_at hl 0 rfl) ?_
  refine lv_i2l hx hb dX2_w2_1 rfl ?_
  refine lv_bipush (v := 8) hx hb dX2_w2_2 (by decide) ?_
  refine lv_lshl hx hb dX2_w2_4 rfl ?_
  refine lv_iload_n hx hb dX2_w2_5 rfl (lv_at hl 1 rfl) ?_
  refine lv_i2l hx hb dX2_w2_6 rfl ?_
  refine lv_lor hx hb dX2_w2_7 ?_
  obtain rfl := ob_s hf
  subst hQ
  exact xe_l hx hb hr hlocks hP hS dX2_w2_8
abbrev rmX2_w3 : Room := { frames := 1, cells := 0, slots := 0, locals := 21 }
theorem cdX2_w3 : yX2_w3.cls = RX2 ∧ yX2_w3.cls ≠ "java/lang/invoke/MethodHandle" ∧ yX2_w3.cls ≠ "java/lang/invoke/VarHandle" ∧ (parseMethodDescriptor yX2_w3.desc).map (fun d => d.parameters.length) = some 3 := by decide +kernel
set_option maxHeartbeats 4000000 in
set_option maxRecDepth 100000 in
theorem wkX2_w3 (l : Launch) (D : va_G) (dA : Nat → ClassId) (E : Nat → Nat) (hE : wInj 19 E) (w : Mm) (a0 : Int32) (a1 : Int32) (a2 : Int32) {res : Int64} (hf : M_w3 a0 a1 a2 = some res) : Met l yX2_w3 (ws_ yX2_w3 cX2_w3 3 (some .long)) rmX2_w3 (Pw D clM (tyM dA) shM 19 dA E [.int a0, .int a1, .int a2] w) (Qwl D clM shM 19 dA E res w) 0 0 (AE 19 E) := by
  refine xm_head (own := RX2) (by decide) rfl (Nat.le_of_ble_eq_true rfl) ?_
  intro p e s m args below meth c ls Q hQ C hP hl
  obtain ⟨hx, hb, hr, hlocks, hml, hown, hts, hK⟩ := C
  replace hl : lv_has ls 3 [(0, .int a0), (1, .int a1), (2, .int a2)] := hl
  have hS : va_S (AE 19 E) s.heap s.heap [] := va_S.rf
  have hD : wD 19 E (AE 19 E) := wD.self hE
  unfold M_w3 at hf
  obtain ⟨H, eH⟩ : ∃ H, H = s.heap := ⟨_, rfl⟩
  obtain ⟨locs, eL⟩ : ∃ locs : List Loc, locs = [] := ⟨_, rfl⟩
  rw [← eL] at hS ⊢
  rw [← eH] at hP
  have hS : va_S (AE 19 E) s.heap H locs := by rw [eH]; exact hS
  show W p l e rmX2_w3 s m args below meth c s.heap locs 0 0 Q (F0 m 0 ls [])
  rw [← eH]
  refine lv_iload_n hx hb dX2_w3_0 rfl (lv_at hl 0 rfl) ?_
  refine lv_iload_n hx hb dX2_w3_1 rfl (lv_at hl 1 rfl) ?_
  obtain ⟨q2, g1, hf⟩ := ob_bind hf
  refine xc_l (xw_runS (As := [.int a0, .int a1]) (rest := []) ⟨hx, hb, hml, hown, hts⟩ (wkX2_w2 l D dA E hE w a0 a1 g1) (va_cwS 2 hts (lw_S q1606 q1607 q140 q1608) rfl rfl rfl cdX2_w2.2 ⟨Nat.le_of_ble_eq_true rfl, Nat.le_of_ble_eq_true rfl⟩) hK hP hl.1 rfl rfl (Nat.le_of_ble_eq_true rfl) dX2_w3_2 ⟨Nat.zero_le _, Nat.zero_le _⟩) hS hD.2 (fun H locs hP hS => ?_)
  refine lv_bipush (v := 8) hx hb dX2_w3_5 (by decide) ?_
  refine lv_lshl hx hb dX2_w3_7 rfl ?_
  refine lv_iload_n hx hb dX2_w3_8 rfl (lv_at hl 2 rfl) ?_
  refine lv_i2l hx hb dX2_w3_9 rfl ?_
  refine lv_lor hx hb dX2_w3_10 ?_
  obtain rfl := ob_s hf
  subst hQ
  exact xe_l hx hb hr hlocks hP hS dX2_w3_11
abbrev rmX2_w4 : Room := { frames := 2, cells := 0, slots := 0, locals := 43 }
theorem cdX2_w4 : yX2_w4.cls = RX2 ∧ yX2_w4.cls ≠ "java/lang/invoke/MethodHandle" ∧ yX2_w4.cls ≠ "java/lang/invoke/VarHandle" ∧ (parseMethodDescriptor yX2_w4.desc).map (fun d => d.parameters.length) = some 4 := by decide +kernel
set_option maxHeartbeats 4000000 in
set_option maxRecDepth 100000 in
theorem wkX2_w4 (l : Launch) (D : va_G) (dA : Nat → ClassId) (E : Nat → Nat) (hE : wInj 19 E) (w : Mm) (a0 : Int32) (a1 : Int32) (a2 : Int32) (a3 : Int32) {res : Int64} (hf : M_w4 a0 a1 a2 a3 = some res) : Met l yX2_w4 (ws_ yX2_w4 cX2_w4 4 (some .long)) rmX2_w4 (Pw D clM (tyM dA) shM 19 dA E [.int a0, .int a1, .int a2, .int a3] w) (Qwl D clM shM 19 dA E res w) 0 0 (AE 19 E) := by
  refine xm_head (own := RX2) (by decide) rfl (Nat.le_of_ble_eq_true rfl) ?_
  intro p e s m args below meth c ls Q hQ C hP hl
  obtain ⟨hx, hb, hr, hlocks, hml, hown, hts, hK⟩ := C
  replace hl : lv_has ls 4 [(0, .int a0), (1, .int a1), (2, .int a2), (3, .int a3)] := hl
  have hS : va_S (AE 19 E) s.heap s.heap [] := va_S.rf
  have hD : wD 19 E (AE 19 E) := wD.self hE
  unfold M_w4 at hf
  obtain ⟨H, eH⟩ : ∃ H, H = s.heap := ⟨_, rfl⟩
  obtain ⟨locs, eL⟩ : ∃ locs : List Loc, locs = [] := ⟨_, rfl⟩
  rw [← eL] at hS ⊢
  rw [← eH] at hP
  have hS : va_S (AE 19 E) s.heap H locs := by rw [eH]; exact hS
  show W p l e rmX2_w4 s m args below meth c s.heap locs 0 0 Q (F0 m 0 ls [])
  rw [← eH]
  refine lv_iload_n hx hb dX2_w4_0 rfl (lv_at hl 0 rfl) ?_
  refine lv_iload_n hx hb dX2_w4_1 rfl (lv_at hl 1 rfl) ?_
  refine lv_iload_n hx hb dX2_w4_2 rfl (lv_at hl 2 rfl) ?_
  obtain ⟨q2, g1, hf⟩ := ob_bind hf
  refine xc_l (xw_runS (As := [.int a0, .int a1, .int a2]) (rest := []) ⟨hx, hb, hml, hown, hts⟩ (wkX2_w3 l D dA E hE w a0 a1 a2 g1) (va_cwS 3 hts (lw_S q1603 q1604 q140 q1605) rfl rfl rfl cdX2_w3.2 ⟨Nat.le_of_ble_eq_true rfl, Nat.le_of_ble_eq_true rfl⟩) hK hP hl.1 rfl rfl (Nat.le_of_ble_eq_true rfl) dX2_w4_3 ⟨Nat.zero_le _, Nat.zero_le _⟩) hS hD.2 (fun H locs hP hS => ?_)
  refine lv_bipush (v := 8) hx hb dX2_w4_6 (by decide) ?_
  refine lv_lshl hx hb dX2_w4_8 rfl ?_
  refine lv_iload_n hx hb dX2_w4_9 rfl (lv_at hl 3 rfl) ?_
  refine lv_i2l hx hb dX2_w4_10 rfl ?_
  refine lv_lor hx hb dX2_w4_11 ?_
  obtain rfl := ob_s hf
  subst hQ
  exact xe_l hx hb hr hlocks hP hS dX2_w4_12
abbrev rmX2_isWord : Room := { frames := 0, cells := 0, slots := 0, locals := 0 }
theorem cdX2_isWord : yX2_isWord.cls = RX2 ∧ yX2_isWord.cls ≠ "java/lang/invoke/MethodHandle" ∧ yX2_isWord.cls ≠ "java/lang/invoke/VarHandle" ∧ (parseMethodDescriptor yX2_isWord.desc).map (fun d => d.parameters.length) = some 1 := by decide +kernel
set_option maxHeartbeats 4000000 in
set_option maxRecDepth 100000 in
theorem wkX2_isWord (l : Launch) (D : va_G) (dA : Nat → ClassId) (E : Nat → Nat) (hE : wInj 19 E) (w : Mm) (a1 : Int64) {res : Int32} (hf : M_isWord w a1 = some res) : Met l yX2_isWord (ws_ yX2_isWord cX2_isWord 3 (some .boolean)) rmX2_isWord (Pw D clM (tyM dA) shM 19 dA E [.ref (E 0), .long a1] w) (Qwz D clM shM 19 dA E res w) 0 0 (AE 19 E) := by
  refine xm_head (own := RX2) (by decide) rfl (Nat.le_of_ble_eq_true rfl) ?_
  intro p e s m args below meth c ls Q hQ C hP hl
  obtain ⟨hx, hb, hr, hlocks, hml, hown, hts, hK⟩ := C
  replace hl : lv_has ls 3 [(0, .ref (E 0)), (1, .long a1)] := hl
  have hS : va_S (AE 19 E) s.heap s.heap [] := va_S.rf
  have hD : wD 19 E (AE 19 E) := wD.self hE
  unfold M_isWord at hf
  obtain ⟨H, eH⟩ : ∃ H, H = s.heap := ⟨_, rfl⟩
  obtain ⟨locs, eL⟩ : ∃ locs : List Loc, locs = [] := ⟨_, rfl⟩
  rw [← eL] at hS ⊢
  rw [← eH] at hP
  have hS : va_S (AE 19 E) s.heap H locs := by rw [eH]; exact hS
  show W p l e rmX2_isWord s m args below meth c s.heap locs 0 0 Q (F0 m 0 ls [])
  rw [← eH]
  refine lv_aload_n hx hb dX2_isWord_0 rfl (lv_at hl 0 rfl) ?_
  refine xr_get hx hb hts in_X2 hown hK hP 0 (by decide) rfl rfl 9 (by decide) (hts _ q1414) (fun _ h => h) rfl (v := .int (w.1 0 9)) rfl dX2_isWord_1 ?_
  refine lv_iconst (v := 2) hx hb dX2_isWord_4 (by decide) ?_
  refine lv_icmp_ne (tgt := 21) hx hb dX2_isWord_5 (by decide) (fun c1 => ?_) (fun c1 => ?_)
  · replace hf := ob_f hf c1
    refine lv_iconst (v := 0) hx hb dX2_isWord_21 (by decide) ?_
    obtain rfl := ob_s hf
    subst hQ
    exact xe_z hx hb hr hlocks hP hS (Or.inl rfl) dX2_isWord_22
  · replace hf := ob_t hf c1
    refine lv_aload_n hx hb dX2_isWord_8 rfl (lv_at hl 0 rfl) ?_
    refine xr_get hx hb hts in_X2 hown hK hP 0 (by decide) rfl rfl 11 (by decide) (hts _ q1416) (fun _ h => h) rfl (v := .long (w.2.1 0 11)) rfl dX2_isWord_9 ?_
    refine lv_lload_n hx hb dX2_isWord_12 rfl (lv_at hl 1 rfl) ?_
    refine W.lcmp hx hb dX2_isWord_13 ?_
    refine lv_if_ne (tgt := 21) hx hb dX2_isWord_14 (by decide) (fun c2 => ?_) (fun c2 => ?_)
    · replace hf := ob_f hf c2
      refine lv_iconst (v := 0) hx hb dX2_isWord_21 (by decide) ?_
      obtain rfl := ob_s hf
      subst hQ
      exact xe_z hx hb hr hlocks hP hS (Or.inl rfl) dX2_isWord_22
    · replace hf := ob_t hf c2
      refine lv_iconst (v := 1) hx hb dX2_isWord_17 (by decide) ?_
      refine lv_goto (tgt := 22) hx hb dX2_isWord_18 (by decide) ?_
      obtain rfl := ob_s hf
      subst hQ
      exact xe_z hx hb hr hlocks hP hS (Or.inr rfl) dX2_isWord_22
abbrev rmX2_w5 : Room := { frames := 3, cells := 0, slots := 0, locals := 66 }
theorem cdX2_w5 : yX2_w5.cls = RX2 ∧ yX2_w5.cls ≠ "java/lang/invoke/MethodHandle" ∧ yX2_w5.cls ≠ "java/lang/invoke/VarHandle" ∧ (parseMethodDescriptor yX2_w5.desc).map (fun d => d.parameters.length) = some 5 := by decide +kernel
set_option maxHeartbeats 4000000 in
set_option maxRecDepth 100000 in
theorem wkX2_w5 (l : Launch) (D : va_G) (dA : Nat → ClassId) (E : Nat → Nat) (hE : wInj 19 E) (w : Mm) (a0 : Int32) (a1 : Int32) (a2 : Int32) (a3 : Int32) (a4 : Int32) {res : Int64} (hf : M_w5 a0 a1 a2 a3 a4 = some res) : Met l yX2_w5 (ws_ yX2_w5 cX2_w5 5 (some .long)) rmX2_w5 (Pw D clM (tyM dA) shM 19 dA E [.int a0, .int a1, .int a2, .int a3, .int a4] w) (Qwl D clM shM 19 dA E res w) 0 0 (AE 19 E) := by
  refine xm_head (own := RX2) (by decide) rfl (Nat.le_of_ble_eq_true rfl) ?_
  intro p e s m args below meth c ls Q hQ C hP hl
  obtain ⟨hx, hb, hr, hlocks, hml, hown, hts, hK⟩ := C
  replace hl : lv_has ls 5 [(0, .int a0), (1, .int a1), (2, .int a2), (3, .int a3), (4, .int a4)] := hl
  have hS : va_S (AE 19 E) s.heap s.heap [] := va_S.rf
  have hD : wD 19 E (AE 19 E) := wD.self hE
  unfold M_w5 at hf
  obtain ⟨H, eH⟩ : ∃ H, H = s.heap := ⟨_, rfl⟩
  obtain ⟨locs, eL⟩ : ∃ locs : List Loc, locs = [] := ⟨_, rfl⟩
  rw [← eL] at hS ⊢
  rw [← eH] at hP
  have hS : va_S (AE 19 E) s.heap H locs := by rw [eH]; exact hS
  show W p l e rmX2_w5 s m args below meth c s.heap locs 0 0 Q (F0 m 0 ls [])
  rw [← eH]
  refine lv_iload_n hx hb dX2_w5_0 rfl (lv_at hl 0 rfl) ?_
  refine lv_iload_n hx hb dX2_w5_1 rfl (lv_at hl 1 rfl) ?_
  refine lv_iload_n hx hb dX2_w5_2 rfl (lv_at hl 2 rfl) ?_
  refine lv_iload_n hx hb dX2_w5_3 rfl (lv_at hl 3 rfl) ?_
  obtain ⟨q2, g1, hf⟩ := ob_bind hf
  refine xc_l (xw_runS (As := [.int a0, .int a1, .int a2, .int a3]) (rest := []) ⟨hx, hb, hml, hown, hts⟩ (wkX2_w4 l D dA E hE w a0 a1 a2 a3 g1) (va_cwS 4 hts (lw_S q1600 q1601 q140 q1602) rfl rfl rfl cdX2_w4.2 ⟨Nat.le_of_ble_eq_true rfl, Nat.le_of_ble_eq_true rfl⟩) hK hP hl.1 rfl rfl (Nat.le_of_ble_eq_true rfl) dX2_w5_4 ⟨Nat.zero_le _, Nat.zero_le _⟩) hS hD.2 (fun H locs hP hS => ?_)
  refine lv_bipush (v := 8) hx hb dX2_w5_7 (by decide) ?_
  refine lv_lshl hx hb dX2_w5_9 rfl ?_
  refine lv_iload hx hb dX2_w5_10 (lv_at hl 4 rfl) ?_
  refine lv_i2l hx hb dX2_w5_12 rfl ?_
  refine lv_lor hx hb dX2_w5_13 ?_
  obtain rfl := ob_s hf
  subst hQ
  exact xe_l hx hb hr hlocks hP hS dX2_w5_14
abbrev rmX2_isQuarrelWord : Room := { frames := 3, cells := 0, slots := 0, locals := 66 }
theorem cdX2_isQuarrelWord : yX2_isQuarrelWord.cls = RX2 ∧ yX2_isQuarrelWord.cls ≠ "java/lang/invoke/MethodHandle" ∧ yX2_isQuarrelWord.cls ≠ "java/lang/invoke/VarHandle" ∧ (parseMethodDescriptor yX2_isQuarrelWord.desc).map (fun d => d.parameters.length) = some 0 := by decide +kernel
set_option maxHeartbeats 4000000 in
set_option maxRecDepth 100000 in
theorem wkX2_isQuarrelWord (l : Launch) (D : va_G) (dA : Nat → ClassId) (E : Nat → Nat) (hE : wInj 19 E) (w : Mm)  {res : Int32} (hf : M_isQuarrelWord w = some res) : Met l yX2_isQuarrelWord (ws_ yX2_isQuarrelWord cX2_isQuarrelWord 1 (some .boolean)) rmX2_isQuarrelWord (Pw D clM (tyM dA) shM 19 dA E [.ref (E 0)] w) (Qwz D clM shM 19 dA E res w) 0 0 (AE 19 E) := by
  refine xm_head (own := RX2) (by decide) rfl (Nat.le_of_ble_eq_true rfl) ?_
  intro p e s m args below meth c ls Q hQ C hP hl
  obtain ⟨hx, hb, hr, hlocks, hml, hown, hts, hK⟩ := C
  replace hl : lv_has ls 1 [(0, .ref (E 0))] := hl
  have hS : va_S (AE 19 E) s.heap s.heap [] := va_S.rf
  have hD : wD 19 E (AE 19 E) := wD.self hE
  unfold M_isQuarrelWord at hf
  obtain ⟨H, eH⟩ : ∃ H, H = s.heap := ⟨_, rfl⟩
  obtain ⟨locs, eL⟩ : ∃ locs : List Loc, locs = [] := ⟨_, rfl⟩
  rw [← eL] at hS ⊢
  rw [← eH] at hP
  have hS : va_S (AE 19 E) s.heap H locs := by rw [eH]; exact hS
  show W p l e rmX2_isQuarrelWord s m args below meth c s.heap locs 0 0 Q (F0 m 0 ls [])
  rw [← eH]
  refine lv_aload_n hx hb dX2_isQuarrelWord_0 rfl (lv_at hl 0 rfl) ?_
  refine xr_get hx hb hts in_X2 hown hK hP 0 (by decide) rfl rfl 9 (by decide) (hts _ q1414) (fun _ h => h) rfl (v := .int (w.1 0 9)) rfl dX2_isQuarrelWord_1 ?_
  refine lv_iconst (v := 2) hx hb dX2_isQuarrelWord_4 (by decide) ?_
  refine lv_icmp_ne (tgt := 129) hx hb dX2_isQuarrelWord_5 (by decide) (fun c1 => ?_) (fun c1 => ?_)
  · replace hf := ob_f hf c1
    refine lv_iconst (v := 0) hx hb dX2_isQuarrelWord_129 (by decide) ?_
    obtain rfl := ob_s hf
    subst hQ
    exact xe_z hx hb hr hlocks hP hS (Or.inl rfl) dX2_isQuarrelWord_130
  · replace hf := ob_t hf c1
    refine lv_aload_n hx hb dX2_isQuarrelWord_8 rfl (lv_at hl 0 rfl) ?_
    refine xr_get hx hb hts in_X2 hown hK hP 0 (by decide) rfl rfl 7 (by decide) (hts _ q1412) (fun _ h => h) rfl (v := .int (w.1 0 7)) rfl dX2_isQuarrelWord_9 ?_
    refine lv_aload_n hx hb dX2_isQuarrelWord_12 rfl (lv_at hl 0 rfl) ?_
    refine xr_get hx hb hts in_X2 hown hK hP 0 (by decide) rfl rfl 8 (by decide) (hts _ q1413) (fun _ h => h) rfl (v := .int (w.1 0 8)) rfl dX2_isQuarrelWord_13 ?_
    refine lv_isub hx hb dX2_isQuarrelWord_16 ?_
    refine lv_bipush (v := 7) hx hb dX2_isQuarrelWord_17 (by decide) ?_
    refine lv_icmp_ne (tgt := 129) hx hb dX2_isQuarrelWord_19 (by decide) (fun c2 => ?_) (fun c2 => ?_)
    · replace hf := ob_f hf c2
      refine lv_iconst (v := 0) hx hb dX2_isQuarrelWord_129 (by decide) ?_
      obtain rfl := ob_s hf
      subst hQ
      exact xe_z hx hb hr hlocks hP hS (Or.inl rfl) dX2_isQuarrelWord_130
    · replace hf := ob_t hf c2
      refine lv_aload_n hx hb dX2_isQuarrelWord_22 rfl (lv_at hl 0 rfl) ?_
      refine lv_aload_n hx hb dX2_isQuarrelWord_23 rfl (lv_at hl 0 rfl) ?_
      refine xr_get hx hb hts in_X2 hown hK hP 0 (by decide) rfl rfl 8 (by decide) (hts _ q1413) (fun _ h => h) rfl (v := .int (w.1 0 8)) rfl dX2_isQuarrelWord_24 ?_
      obtain ⟨q4, g3, hf⟩ := ob_bind hf
      refine xc_i (xw_run (As := [.int (w.1 0 8)]) (rest := []) ⟨hx, hb, hml, hown, hts⟩ (k0 := 0) (wkX2_byteAt l D dA E hE w (w.1 0 8) g3) (cwV 1 hts (lw_V q1577 q1579 qs65 q140 q1580) rfl rfl rfl cdX2_byteAt ⟨Nat.le_of_ble_eq_true rfl, Nat.le_of_ble_eq_true rfl⟩) hK hP (by decide) rfl rfl rfl hl.1 rfl rfl (Nat.le_of_ble_eq_true rfl) dX2_isQuarrelWord_27 ⟨Nat.zero_le _, Nat.zero_le _⟩) hS hD.2 (fun H locs hP hS => ?_)
      refine lv_aload_n hx hb dX2_isQuarrelWord_30 rfl (lv_at hl 0 rfl) ?_
      refine lv_aload_n hx hb dX2_isQuarrelWord_31 rfl (lv_at hl 0 rfl) ?_
      refine xr_get hx hb hts in_X2 hown hK hP 0 (by decide) rfl rfl 8 (by decide) (hts _ q1413) (fun _ h => h) rfl (v := .int (w.1 0 8)) rfl dX2_isQuarrelWord_32 ?_
      refine lv_iconst (v := 1) hx hb dX2_isQuarrelWord_35 (by decide) ?_
      refine lv_iadd hx hb dX2_isQuarrelWord_36 ?_
      obtain ⟨q6, g5, hf⟩ := ob_bind hf
      refine xc_i (xw_run (As := [.int ((w.1 0 8) + 1)]) (rest := [.int q4]) ⟨hx, hb, hml, hown, hts⟩ (k0 := 0) (wkX2_byteAt l D dA E hE w ((w.1 0 8) + 1) g5) (cwV 1 hts (lw_V q1577 q1579 qs65 q140 q1580) rfl rfl rfl cdX2_byteAt ⟨Nat.le_of_ble_eq_true rfl, Nat.le_of_ble_eq_true rfl⟩) hK hP (by decide) rfl rfl rfl hl.1 rfl rfl (Nat.le_of_ble_eq_true rfl) dX2_isQuarrelWord_37 ⟨Nat.zero_le _, Nat.zero_le _⟩) hS hD.2 (fun H locs hP hS => ?_)
      refine lv_aload_n hx hb dX2_isQuarrelWord_40 rfl (lv_at hl 0 rfl) ?_
      refine lv_aload_n hx hb dX2_isQuarrelWord_41 rfl (lv_at hl 0 rfl) ?_
      refine xr_get hx hb hts in_X2 hown hK hP 0 (by decide) rfl rfl 8 (by decide) (hts _ q1413) (fun _ h => h) rfl (v := .int (w.1 0 8)) rfl dX2_isQuarrelWord_42 ?_
      refine lv_iconst (v := 2) hx hb dX2_isQuarrelWord_45 (by decide) ?_
      refine lv_iadd hx hb dX2_isQuarrelWord_46 ?_
      obtain ⟨q8, g7, hf⟩ := ob_bind hf
      refine xc_i (xw_run (As := [.int ((w.1 0 8) + 2)]) (rest := [.int q6, .int q4]) ⟨hx, hb, hml, hown, hts⟩ (k0 := 0) (wkX2_byteAt l D dA E hE w ((w.1 0 8) + 2) g7) (cwV 1 hts (lw_V q1577 q1579 qs65 q140 q1580) rfl rfl rfl cdX2_byteAt ⟨Nat.le_of_ble_eq_true rfl, Nat.le_of_ble_eq_true rfl⟩) hK hP (by decide) rfl rfl rfl hl.1 rfl rfl (Nat.le_of_ble_eq_true rfl) dX2_isQuarrelWord_47 ⟨Nat.zero_le _, Nat.zero_le _⟩) hS hD.2 (fun H locs hP hS => ?_)
      refine lv_aload_n hx hb dX2_isQuarrelWord_50 rfl (lv_at hl 0 rfl) ?_
      refine lv_aload_n hx hb dX2_isQuarrelWord_51 rfl (lv_at hl 0 rfl) ?_
      refine xr_get hx hb hts in_X2 hown hK hP 0 (by decide) rfl rfl 8 (by decide) (hts _ q1413) (fun _ h => h) rfl (v := .int (w.1 0 8)) rfl dX2_isQuarrelWord_52 ?_
      refine lv_iconst (v := 3) hx hb dX2_isQuarrelWord_55 (by decide) ?_
      refine lv_iadd hx hb dX2_isQuarrelWord_56 ?_
      obtain ⟨q10, g9, hf⟩ := ob_bind hf
      refine xc_i (xw_run (As := [.int ((w.1 0 8) + 3)]) (rest := [.int q8, .int q6, .int q4]) ⟨hx, hb, hml, hown, hts⟩ (k0 := 0) (wkX2_byteAt l D dA E hE w ((w.1 0 8) + 3) g9) (cwV 1 hts (lw_V q1577 q1579 qs65 q140 q1580) rfl rfl rfl cdX2_byteAt ⟨Nat.le_of_ble_eq_true rfl, Nat.le_of_ble_eq_true rfl⟩) hK hP (by decide) rfl rfl rfl hl.1 rfl rfl (Nat.le_of_ble_eq_true rfl) dX2_isQuarrelWord_57 ⟨Nat.zero_le _, Nat.zero_le _⟩) hS hD.2 (fun H locs hP hS => ?_)
      obtain ⟨q12, g11, hf⟩ := ob_bind hf
      refine xc_l (xw_runS (As := [.int q4, .int q6, .int q8, .int q10]) (rest := []) ⟨hx, hb, hml, hown, hts⟩ (wkX2_w4 l D dA E hE w q4 q6 q8 q10 g11) (va_cwS 4 hts (lw_S q1600 q1601 q140 q1602) rfl rfl rfl cdX2_w4.2 ⟨Nat.le_of_ble_eq_true rfl, Nat.le_of_ble_eq_true rfl⟩) hK hP hl.1 rfl rfl (Nat.le_of_ble_eq_true rfl) dX2_isQuarrelWord_60 ⟨Nat.zero_le _, Nat.zero_le _⟩) hS hD.2 (fun H locs hP hS => ?_)
      refine lv_bipush (v := 113) hx hb dX2_isQuarrelWord_63 (by decide) ?_
      refine lv_bipush (v := 117) hx hb dX2_isQuarrelWord_65 (by decide) ?_
      refine lv_bipush (v := 97) hx hb dX2_isQuarrelWord_67 (by decide) ?_
      refine lv_bipush (v := 114) hx hb dX2_isQuarrelWord_69 (by decide) ?_
      obtain ⟨q14, g13, hf⟩ := ob_bind hf
      refine xc_l (xw_runS (As := [.int 113, .int 117, .int 97, .int 114]) (rest := [.long q12]) ⟨hx, hb, hml, hown, hts⟩ (wkX2_w4 l D dA E hE w 113 117 97 114 g13) (va_cwS 4 hts (lw_S q1600 q1601 q140 q1602) rfl rfl rfl cdX2_w4.2 ⟨Nat.le_of_ble_eq_true rfl, Nat.le_of_ble_eq_true rfl⟩) hK hP hl.1 rfl rfl (Nat.le_of_ble_eq_true rfl) dX2_isQuarrelWord_71 ⟨Nat.zero_le _, Nat.zero_le _⟩) hS hD.2 (fun H locs hP hS => ?_)
      refine W.lcmp hx hb dX2_isQuarrelWord_74 ?_
      refine lv_if_ne (tgt := 129) hx hb dX2_isQuarrelWord_75 (by decide) (fun c15 => ?_) (fun c15 => ?_)
      · replace hf := ob_f hf c15
        refine lv_iconst (v := 0) hx hb dX2_isQuarrelWord_129 (by decide) ?_
        obtain rfl := ob_s hf
        subst hQ
        exact xe_z hx hb hr hlocks hP hS (Or.inl rfl) dX2_isQuarrelWord_130
      · replace hf := ob_t hf c15
        refine lv_aload_n hx hb dX2_isQuarrelWord_78 rfl (lv_at hl 0 rfl) ?_
        refine lv_aload_n hx hb dX2_isQuarrelWord_79 rfl (lv_at hl 0 rfl) ?_
        refine xr_get hx hb hts in_X2 hown hK hP 0 (by decide) rfl rfl 8 (by decide) (hts _ q1413) (fun _ h => h) rfl (v := .int (w.1 0 8)) rfl dX2_isQuarrelWord_80 ?_
        refine lv_iconst (v := 4) hx hb dX2_isQuarrelWord_83 (by decide) ?_
        refine lv_iadd hx hb dX2_isQuarrelWord_84 ?_
        obtain ⟨q17, g16, hf⟩ := ob_bind hf
        refine xc_i (xw_run (As := [.int ((w.1 0 8) + 4)]) (rest := []) ⟨hx, hb, hml, hown, hts⟩ (k0 := 0) (wkX2_byteAt l D dA E hE w ((w.1 0 8) + 4) g16) (cwV 1 hts (lw_V q1577 q1579 qs65 q140 q1580) rfl rfl rfl cdX2_byteAt ⟨Nat.le_of_ble_eq_true rfl, Nat.le_of_ble_eq_true rfl⟩) hK hP (by decide) rfl rfl rfl hl.1 rfl rfl (Nat.le_of_ble_eq_true rfl) dX2_isQuarrelWord_85 ⟨Nat.zero_le _, Nat.zero_le _⟩) hS hD.2 (fun H locs hP hS => ?_)
        refine lv_aload_n hx hb dX2_isQuarrelWord_88 rfl (lv_at hl 0 rfl) ?_
        refine lv_aload_n hx hb dX2_isQuarrelWord_89 rfl (lv_at hl 0 rfl) ?_
        refine xr_get hx hb hts in_X2 hown hK hP 0 (by decide) rfl rfl 8 (by decide) (hts _ q1413) (fun _ h => h) rfl (v := .int (w.1 0 8)) rfl dX2_isQuarrelWord_90 ?_
        refine lv_iconst (v := 5) hx hb dX2_isQuarrelWord_93 (by decide) ?_
        refine lv_iadd hx hb dX2_isQuarrelWord_94 ?_
        obtain ⟨q19, g18, hf⟩ := ob_bind hf
        refine xc_i (xw_run (As := [.int ((w.1 0 8) + 5)]) (rest := [.int q17]) ⟨hx, hb, hml, hown, hts⟩ (k0 := 0) (wkX2_byteAt l D dA E hE w ((w.1 0 8) + 5) g18) (cwV 1 hts (lw_V q1577 q1579 qs65 q140 q1580) rfl rfl rfl cdX2_byteAt ⟨Nat.le_of_ble_eq_true rfl, Nat.le_of_ble_eq_true rfl⟩) hK hP (by decide) rfl rfl rfl hl.1 rfl rfl (Nat.le_of_ble_eq_true rfl) dX2_isQuarrelWord_95 ⟨Nat.zero_le _, Nat.zero_le _⟩) hS hD.2 (fun H locs hP hS => ?_)
        refine lv_aload_n hx hb dX2_isQuarrelWord_98 rfl (lv_at hl 0 rfl) ?_
        refine lv_aload_n hx hb dX2_isQuarrelWord_99 rfl (lv_at hl 0 rfl) ?_
        refine xr_get hx hb hts in_X2 hown hK hP 0 (by decide) rfl rfl 8 (by decide) (hts _ q1413) (fun _ h => h) rfl (v := .int (w.1 0 8)) rfl dX2_isQuarrelWord_100 ?_
        refine lv_bipush (v := 6) hx hb dX2_isQuarrelWord_103 (by decide) ?_
        refine lv_iadd hx hb dX2_isQuarrelWord_105 ?_
        obtain ⟨q21, g20, hf⟩ := ob_bind hf
        refine xc_i (xw_run (As := [.int ((w.1 0 8) + 6)]) (rest := [.int q19, .int q17]) ⟨hx, hb, hml, hown, hts⟩ (k0 := 0) (wkX2_byteAt l D dA E hE w ((w.1 0 8) + 6) g20) (cwV 1 hts (lw_V q1577 q1579 qs65 q140 q1580) rfl rfl rfl cdX2_byteAt ⟨Nat.le_of_ble_eq_true rfl, Nat.le_of_ble_eq_true rfl⟩) hK hP (by decide) rfl rfl rfl hl.1 rfl rfl (Nat.le_of_ble_eq_true rfl) dX2_isQuarrelWord_106 ⟨Nat.zero_le _, Nat.zero_le _⟩) hS hD.2 (fun H locs hP hS => ?_)
        obtain ⟨q23, g22, hf⟩ := ob_bind hf
        refine xc_l (xw_runS (As := [.int q17, .int q19, .int q21]) (rest := []) ⟨hx, hb, hml, hown, hts⟩ (wkX2_w3 l D dA E hE w q17 q19 q21 g22) (va_cwS 3 hts (lw_S q1603 q1604 q140 q1605) rfl rfl rfl cdX2_w3.2 ⟨Nat.le_of_ble_eq_true rfl, Nat.le_of_ble_eq_true rfl⟩) hK hP hl.1 rfl rfl (Nat.le_of_ble_eq_true rfl) dX2_isQuarrelWord_109 ⟨Nat.zero_le _, Nat.zero_le _⟩) hS hD.2 (fun H locs hP hS => ?_)
        refine lv_bipush (v := 114) hx hb dX2_isQuarrelWord_112 (by decide) ?_
        refine lv_bipush (v := 101) hx hb dX2_isQuarrelWord_114 (by decide) ?_
        refine lv_bipush (v := 108) hx hb dX2_isQuarrelWord_116 (by decide) ?_
        obtain ⟨q25, g24, hf⟩ := ob_bind hf
        refine xc_l (xw_runS (As := [.int 114, .int 101, .int 108]) (rest := [.long q23]) ⟨hx, hb, hml, hown, hts⟩ (wkX2_w3 l D dA E hE w 114 101 108 g24) (va_cwS 3 hts (lw_S q1603 q1604 q140 q1605) rfl rfl rfl cdX2_w3.2 ⟨Nat.le_of_ble_eq_true rfl, Nat.le_of_ble_eq_true rfl⟩) hK hP hl.1 rfl rfl (Nat.le_of_ble_eq_true rfl) dX2_isQuarrelWord_118 ⟨Nat.zero_le _, Nat.zero_le _⟩) hS hD.2 (fun H locs hP hS => ?_)
        refine W.lcmp hx hb dX2_isQuarrelWord_121 ?_
        refine lv_if_ne (tgt := 129) hx hb dX2_isQuarrelWord_122 (by decide) (fun c26 => ?_) (fun c26 => ?_)
        · replace hf := ob_f hf c26
          refine lv_iconst (v := 0) hx hb dX2_isQuarrelWord_129 (by decide) ?_
          obtain rfl := ob_s hf
          subst hQ
          exact xe_z hx hb hr hlocks hP hS (Or.inl rfl) dX2_isQuarrelWord_130
        · replace hf := ob_t hf c26
          refine lv_iconst (v := 1) hx hb dX2_isQuarrelWord_125 (by decide) ?_
          refine lv_goto (tgt := 130) hx hb dX2_isQuarrelWord_126 (by decide) ?_
          obtain rfl := ob_s hf
          subst hQ
          exact xe_z hx hb hr hlocks hP hS (Or.inr rfl) dX2_isQuarrelWord_130
