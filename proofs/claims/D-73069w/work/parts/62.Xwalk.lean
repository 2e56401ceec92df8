/-! QuarrelsPawned: its methods walked (printed by run_x.py) -/
abbrev rmX0_redeems : Room := { frames := 202, cells := 0, slots := 0, locals := 8045 }
theorem cdX0_redeems : yX0_redeems.cls = RX0 ∧ yX0_redeems.cls ≠ "java/lang/invoke/MethodHandle" ∧ yX0_redeems.cls ≠ "java/lang/invoke/VarHandle" ∧ (parseMethodDescriptor yX0_redeems.desc).map (fun d => d.parameters.length) = some 1 := by decide +kernel
set_option maxHeartbeats 4000000 in
set_option maxRecDepth 100000 in
theorem wkX0_redeems (l : Launch) (D : va_G) (dA : Nat → ClassId) (E : Nat → Nat) (hE : wInj 136 E) (T : Tx) (J : State → Heap → Prop) (hJ : JP D dA E T J) (w : Mm) (a1 : Int32) {res : Int32 × Mm} (hf : X_redeems T w a1 = some res) : Met l yX0_redeems (ws_ yX0_redeems cX0_redeems 3 (some .int)) rmX0_redeems (Pj D dA E J [.ref (E 0), .int a1] w) (Qwi D clX shX 136 dA E res.1 res.2) 0 0 (AE 136 E) := by
  refine xj_head (own := RX0) (by decide) rfl (Nat.le_of_ble_eq_true rfl) ?_
  intro p e s m args below meth c ls Q hQ C hP hl
  obtain ⟨hx, hb, hr, hlocks, hml, hown, hts, hK, hJs⟩ := C
  replace hl : lv_has ls 3 [(0, .ref (E 0)), (1, .int a1)] := hl
  have hS : va_S (AE 136 E) s.heap s.heap [] := va_S.rf
  have hD : wD 136 E (AE 136 E) := wD.self hE
  unfold X_redeems at hf
  obtain ⟨H, eH⟩ : ∃ H, H = s.heap := ⟨_, rfl⟩
  obtain ⟨locs, eL⟩ : ∃ locs : List Loc, locs = [] := ⟨_, rfl⟩
  rw [← eL] at hS ⊢
  rw [← eH] at hP
  have hS : va_S (AE 136 E) s.heap H locs := by rw [eH]; exact hS
  show W p l e rmX0_redeems s m args below meth c s.heap locs 0 0 Q (F0 m 0 ls [])
  rw [← eH]
  refine lv_aload_n hx hb dX0_redeems_0 rfl (lv_at hl 0 rfl) ?_
  refine lv_aload_n hx hb dX0_redeems_1 rfl (lv_at hl 0 rfl) ?_
  obtain ⟨q2, g1, hf⟩ := ob_bind hf
  refine xc_a (xj_run (As := []) (rest := [.ref (E 0)]) hJ hJs hS ⟨hx, hb, hml, hown, hts⟩ (k0 := 0) (wkX0_rules l D dA E hE T J hJ w g1) (cwV 0 hts (lw_V q935 q937 qs29 q136 q938) rfl rfl rfl cdX0_rules ⟨Nat.le_of_ble_eq_true rfl, Nat.le_of_ble_eq_true rfl⟩) hK hP (by decide) rfl rfl rfl hl.1 rfl rfl (Nat.le_of_ble_eq_true rfl) dX0_redeems_2 ⟨Nat.zero_le _, Nat.zero_le _⟩) hS hD.2 (fun H locs hP hS => ?_)
  refine lv_aload_n hx hb dX0_redeems_5 rfl (lv_at hl 0 rfl) ?_
  refine xr_get hx hb hts in_X0 hown hK hP 0 (by decide) rfl rfl 0 (by decide) (hts _ q252) (fun _ h => h) rfl (v := .ref (E 1)) rfl dX0_redeems_6 ?_
  refine xr_getN (host := "QuarrelsPawned") hx hb hts in_X1 hown hK hP 1 (by decide) rfl rfl 1 (by decide) (hJ.nest hJs 1 rfl) (fun _ h => h) rfl (v := .ref (E 4)) rfl dX0_redeems_9 ?_
  refine lv_iload_n hx hb dX0_redeems_12 rfl (lv_at hl 1 rfl) ?_
  obtain ⟨q4, g3, hf⟩ := ob_bind hf
  refine xc_i (xj_run (As := [.ref q2, .ref (E 4), .int a1]) (rest := []) hJ hJs hS ⟨hx, hb, hml, hown, hts⟩ (k0 := 0) (wkX0_duesBy l D dA E hE T J hJ w q2 4 a1 g3 (by decide) rfl) (cwV 3 hts (lw_V q941 q943 qs30 q136 q944) rfl rfl rfl cdX0_duesBy ⟨Nat.le_of_ble_eq_true rfl, Nat.le_of_ble_eq_true rfl⟩) hK hP (by decide) rfl rfl rfl hl.1 rfl rfl (Nat.le_of_ble_eq_true rfl) dX0_redeems_13 ⟨Nat.zero_le _, Nat.zero_le _⟩) hS hD.2 (fun H locs hP hS => ?_)
  refine lv_istore_n (lv' := [(2, .int q4.1), (0, .ref (E 0)), (1, .int a1)]) hx hb dX0_redeems_16 rfl hl (by decide) rfl (fun ls hl => ?_)
  refine lv_aload_n hx hb dX0_redeems_17 rfl (lv_at hl 1 rfl) ?_
  refine xr_get hx hb hts in_X0 hown hK hP 0 (by decide) rfl rfl 0 (by decide) (hts _ q252) (fun _ h => h) rfl (v := .ref (E 1)) rfl dX0_redeems_18 ?_
  refine xr_getN (host := "QuarrelsPawned") hx hb hts in_X1 hown hK hP 1 (by decide) rfl rfl 1 (by decide) (hJ.nest hJs 1 rfl) (fun _ h => h) rfl (v := .ref (E 4)) rfl dX0_redeems_21 ?_
  refine lv_iconst (v := 2) hx hb dX0_redeems_24 (by decide) ?_
  refine lv_dup2_11 hx hb dX0_redeems_25 rfl rfl ?_
  refine xr_iald hx hb hK hP 4 (by decide) rfl 0 rfl (j := 2) (vin_c (by decide)) (by decide) dX0_redeems_26 ?_
  refine lv_iload_n hx hb dX0_redeems_27 rfl (lv_at hl 0 rfl) ?_
  refine lv_isub hx hb dX0_redeems_28 ?_
  obtain ⟨w5, ew5, hf⟩ := ob_bnd hf
  refine xr_iast hx hb hK hP hD hS 4 (by decide) rfl 0 rfl (j := 2) (w' := w5) (vin_c (by decide)) (by decide) ew5 dX0_redeems_29 (fun H locs hP hS => ?_)
  refine lv_aload_n hx hb dX0_redeems_30 rfl (lv_at hl 1 rfl) ?_
  refine xr_get hx hb hts in_X0 hown hK hP 0 (by decide) rfl rfl 0 (by decide) (hts _ q252) (fun _ h => h) rfl (v := .ref (E 1)) rfl dX0_redeems_31 ?_
  refine xr_getN (host := "QuarrelsPawned") hx hb hts in_X1 hown hK hP 1 (by decide) rfl rfl 1 (by decide) (hJ.nest hJs 1 rfl) (fun _ h => h) rfl (v := .ref (E 4)) rfl dX0_redeems_34 ?_
  refine lv_iload_n hx hb dX0_redeems_37 rfl (lv_at hl 2 rfl) ?_
  refine lv_iconst (v := 2) hx hb dX0_redeems_38 (by decide) ?_
  obtain ⟨q7, g6, hf⟩ := ob_bind hf
  refine xc_v (xj_runS (As := [.ref (E 4), .int a1, .int 2]) (rest := []) hJ hJs hS ⟨hx, hb, hml, hown, hts⟩ (wkX0_writes l D dA E hE T J hJ w5 4 a1 2 g6 (by decide) rfl) (va_cwS 3 hts (lw_S q919 q920 q136 q921) rfl rfl rfl cdX0_writes.2 ⟨Nat.le_of_ble_eq_true rfl, Nat.le_of_ble_eq_true rfl⟩) hK hP hl.1 rfl rfl (Nat.le_of_ble_eq_true rfl) dX0_redeems_39 ⟨Nat.zero_le _, Nat.zero_le _⟩) hS hD.2 (fun H locs hP hS => ?_)
  refine lv_iload_n hx hb dX0_redeems_42 rfl (lv_at hl 0 rfl) ?_
  obtain rfl := ob_s hf
  subst hQ
  exact xe_i hx hb hr hlocks hP hS dX0_redeems_43
abbrev rmX0_redeem : Room := { frames := 203, cells := 0, slots := 0, locals := 8067 }
theorem cdX0_redeem : yX0_redeem.cls = RX0 ∧ yX0_redeem.cls ≠ "java/lang/invoke/MethodHandle" ∧ yX0_redeem.cls ≠ "java/lang/invoke/VarHandle" ∧ (parseMethodDescriptor yX0_redeem.desc).map (fun d => d.parameters.length) = some 1 := by decide +kernel
set_option maxHeartbeats 4000000 in
set_option maxRecDepth 100000 in
theorem wkX0_redeem (l : Launch) (D : va_G) (dA : Nat → ClassId) (E : Nat → Nat) (hE : wInj 136 E) (T : Tx) (J : State → Heap → Prop) (hJ : JP D dA E T J) (w : Mm) (a1 : Int32) {res : Int32 × Mm} (hf : X_redeem T w a1 = some res) : Met l yX0_redeem (ws_ yX0_redeem cX0_redeem 2 (some .int)) rmX0_redeem (Pj D dA E J [.ref (E 0), .int a1] w) (Qwi D clX shX 136 dA E res.1 res.2) 0 0 (AE 136 E) := by
  refine xj_head (own := RX0) (by decide) rfl (Nat.le_of_ble_eq_true rfl) ?_
  intro p e s m args below meth c ls Q hQ C hP hl
  obtain ⟨hx, hb, hr, hlocks, hml, hown, hts, hK, hJs⟩ := C
  replace hl : lv_has ls 2 [(0, .ref (E 0)), (1, .int a1)] := hl
  have hS : va_S (AE 136 E) s.heap s.heap [] := va_S.rf
  have hD : wD 136 E (AE 136 E) := wD.self hE
  unfold X_redeem at hf
  obtain ⟨H, eH⟩ : ∃ H, H = s.heap := ⟨_, rfl⟩
  obtain ⟨locs, eL⟩ : ∃ locs : List Loc, locs = [] := ⟨_, rfl⟩
  rw [← eL] at hS ⊢
  rw [← eH] at hP
  have hS : va_S (AE 136 E) s.heap H locs := by rw [eH]; exact hS
  show W p l e rmX0_redeem s m args below meth c s.heap locs 0 0 Q (F0 m 0 ls [])
  rw [← eH]
  refine lv_aload_n hx hb dX0_redeem_0 rfl (lv_at hl 0 rfl) ?_
  refine lv_iload_n hx hb dX0_redeem_1 rfl (lv_at hl 1 rfl) ?_
  obtain ⟨q2, g1, hf⟩ := ob_bind hf
  refine xc_z (xj_run (As := [.int a1]) (rest := []) hJ hJs hS ⟨hx, hb, hml, hown, hts⟩ (k0 := 0) (wkX0_canRedeem l D dA E hE T J hJ w a1 g1) (cwV 1 hts (lw_V q927 q929 qs27 q136 q930) rfl rfl rfl cdX0_canRedeem ⟨Nat.le_of_ble_eq_true rfl, Nat.le_of_ble_eq_true rfl⟩) hK hP (by decide) rfl rfl rfl hl.1 rfl rfl (Nat.le_of_ble_eq_true rfl) dX0_redeem_2 ⟨Nat.zero_le _, Nat.zero_le _⟩) hS hD.2 (fun H locs zq2 hP hS => ?_)
  refine lv_if_ne (tgt := 10) hx hb dX0_redeem_5 (by decide) (fun c3 => ?_) (fun c3 => ?_)
  · replace hf := ob_f hf c3
    refine lv_aload_n hx hb dX0_redeem_10 rfl (lv_at hl 0 rfl) ?_
    refine xr_get hx hb hts in_X0 hown hK hP 0 (by decide) rfl rfl 0 (by decide) (hts _ q252) (fun _ h => h) rfl (v := .ref (E 1)) rfl dX0_redeem_11 ?_
    obtain ⟨q5, g4, hf⟩ := ob_bind hf
    refine xc_v (xj_run (As := []) (rest := []) hJ hJs hS ⟨hx, hb, hml, hown, hts⟩ (k0 := 1) (wkX1_keeps l D dA E hE T J hJ q2.2 g4) (cwV 0 hts (lw_V q910 q911 q912 q137 q913) rfl rfl rfl cdX1_keeps ⟨Nat.le_of_ble_eq_true rfl, Nat.le_of_ble_eq_true rfl⟩) hK hP (by decide) rfl rfl rfl hl.1 rfl rfl (Nat.le_of_ble_eq_true rfl) dX0_redeem_14 ⟨Nat.zero_le _, Nat.zero_le _⟩) hS hD.2 (fun H locs hP hS => ?_)
    refine lv_aload_n hx hb dX0_redeem_17 rfl (lv_at hl 0 rfl) ?_
    refine lv_iload_n hx hb dX0_redeem_18 rfl (lv_at hl 1 rfl) ?_
    obtain ⟨q7, g6, hf⟩ := ob_bind hf
    refine xc_i (xj_run (As := [.int a1]) (rest := []) hJ hJs hS ⟨hx, hb, hml, hown, hts⟩ (k0 := 0) (wkX0_redeems l D dA E hE T J hJ q5 a1 g6) (cwV 1 hts (lw_V q1068 q1070 qs33 q136 q1071) rfl rfl rfl cdX0_redeems ⟨Nat.le_of_ble_eq_true rfl, Nat.le_of_ble_eq_true rfl⟩) hK hP (by decide) rfl rfl rfl hl.1 rfl rfl (Nat.le_of_ble_eq_true rfl) dX0_redeem_19 ⟨Nat.zero_le _, Nat.zero_le _⟩) hS hD.2 (fun H locs hP hS => ?_)
    obtain rfl := ob_s hf
    subst hQ
    exact xe_i hx hb hr hlocks hP hS dX0_redeem_22
  · replace hf := ob_t hf c3
    refine lv_iconst (v := (-1)) hx hb dX0_redeem_8 (by decide) ?_
    obtain rfl := ob_s hf
    subst hQ
    exact xe_i hx hb hr hlocks hP hS dX0_redeem_9
abbrev rmX0_canEarn : Room := { frames := 0, cells := 0, slots := 0, locals := 0 }
theorem cdX0_canEarn : yX0_canEarn.cls = RX0 ∧ yX0_canEarn.cls ≠ "java/lang/invoke/MethodHandle" ∧ yX0_canEarn.cls ≠ "java/lang/invoke/VarHandle" ∧ (parseMethodDescriptor yX0_canEarn.desc).map (fun d => d.parameters.length) = some 1 := by decide +kernel
set_option maxHeartbeats 4000000 in
set_option maxRecDepth 100000 in
theorem wkX0_canEarn (l : Launch) (D : va_G) (dA : Nat → ClassId) (E : Nat → Nat) (hE : wInj 136 E) (T : Tx) (J : State → Heap → Prop) (hJ : JP D dA E T J) (w : Mm) (a1 : Int32) {res : Int32} (hf : X_canEarn w a1 = some res) : Met l yX0_canEarn (ws_ yX0_canEarn cX0_canEarn 2 (some .boolean)) rmX0_canEarn (Pj D dA E J [.ref (E 0), .int a1] w) (Qwz D clX shX 136 dA E res w) 0 0 (AE 136 E) := by
  refine xj_head (own := RX0) (by decide) rfl (Nat.le_of_ble_eq_true rfl) ?_
  intro p e s m args below meth c ls Q hQ C hP hl
  obtain ⟨hx, hb, hr, hlocks, hml, hown, hts, hK, hJs⟩ := C
  replace hl : lv_has ls 2 [(0, .ref (E 0)), (1, .int a1)] := hl
  have hS : va_S (AE 136 E) s.heap s.heap [] := va_S.rf
  have hD : wD 136 E (AE 136 E) := wD.self hE
  unfold X_canEarn at hf
  obtain ⟨H, eH⟩ : ∃ H, H = s.heap := ⟨_, rfl⟩
  obtain ⟨locs, eL⟩ : ∃ locs : List Loc, locs = [] := ⟨_, rfl⟩
  rw [← eL] at hS ⊢
  rw [← eH] at hP
  have hS : va_S (AE 136 E) s.heap H locs := by rw [eH]; exact hS
  show W p l e rmX0_canEarn s m args below meth c s.heap locs 0 0 Q (F0 m 0 ls [])
  rw [← eH]
  refine lv_aload_n hx hb dX0_canEarn_0 rfl (lv_at hl 0 rfl) ?_
  refine xr_get hx hb hts in_X0 hown hK hP 0 (by decide) rfl rfl 0 (by decide) (hts _ q252) (fun _ h => h) rfl (v := .ref (E 1)) rfl dX0_canEarn_1 ?_
  refine xr_getN (host := "QuarrelsPawned") hx hb hts in_X1 hown hK hP 1 (by decide) rfl rfl 1 (by decide) (hJ.nest hJs 1 rfl) (fun _ h => h) rfl (v := .ref (E 4)) rfl dX0_canEarn_4 ?_
  refine lv_iconst (v := 2) hx hb dX0_canEarn_7 (by decide) ?_
  refine xr_iald hx hb hK hP 4 (by decide) rfl 0 rfl (j := 2) (vin_c (by decide)) (by decide) dX0_canEarn_8 ?_
  refine lv_iload_n hx hb dX0_canEarn_9 rfl (lv_at hl 1 rfl) ?_
  refine lv_iadd hx hb dX0_canEarn_10 ?_
  refine lv_sipush (v := 9999) hx hb dX0_canEarn_11 (by decide) ?_
  refine lv_icmp_gt (tgt := 21) hx hb dX0_canEarn_14 (by decide) (fun c1 => ?_) (fun c1 => ?_)
  · replace hf := ob_t hf c1
    refine lv_iconst (v := 0) hx hb dX0_canEarn_21 (by decide) ?_
    obtain rfl := ob_s hf
    subst hQ
    exact xe_z hx hb hr hlocks hP hS (Or.inl rfl) dX0_canEarn_22
  · replace hf := ob_f hf c1
    refine lv_iconst (v := 1) hx hb dX0_canEarn_17 (by decide) ?_
    refine lv_goto (tgt := 22) hx hb dX0_canEarn_18 (by decide) ?_
    obtain rfl := ob_s hf
    subst hQ
    exact xe_z hx hb hr hlocks hP hS (Or.inr rfl) dX0_canEarn_22
abbrev rmX0_earn : Room := { frames := 3, cells := 0, slots := 0, locals := 102 }
theorem cdX0_earn : yX0_earn.cls = RX0 ∧ yX0_earn.cls ≠ "java/lang/invoke/MethodHandle" ∧ yX0_earn.cls ≠ "java/lang/invoke/VarHandle" ∧ (parseMethodDescriptor yX0_earn.desc).map (fun d => d.parameters.length) = some 1 := by decide +kernel
set_option maxHeartbeats 4000000 in
set_option maxRecDepth 100000 in
theorem wkX0_earn (l : Launch) (D : va_G) (dA : Nat → ClassId) (E : Nat → Nat) (hE : wInj 136 E) (T : Tx) (J : State → Heap → Prop) (hJ : JP D dA E T J) (w : Mm) (a1 : Int32) {res : Int32 × Mm} (hf : X_earn w a1 = some res) : Met l yX0_earn (ws_ yX0_earn cX0_earn 2 (some .boolean)) rmX0_earn (Pj D dA E J [.ref (E 0), .int a1] w) (Qwz D clX shX 136 dA E res.1 res.2) 0 0 (AE 136 E) := by
  refine xj_head (own := RX0) (by decide) rfl (Nat.le_of_ble_eq_true rfl) ?_
  intro p e s m args below meth c ls Q hQ C hP hl
  obtain ⟨hx, hb, hr, hlocks, hml, hown, hts, hK, hJs⟩ := C
  replace hl : lv_has ls 2 [(0, .ref (E 0)), (1, .int a1)] := hl
  have hS : va_S (AE 136 E) s.heap s.heap [] := va_S.rf
  have hD : wD 136 E (AE 136 E) := wD.self hE
  unfold X_earn at hf
  obtain ⟨H, eH⟩ : ∃ H, H = s.heap := ⟨_, rfl⟩
  obtain ⟨locs, eL⟩ : ∃ locs : List Loc, locs = [] := ⟨_, rfl⟩
  rw [← eL] at hS ⊢
  rw [← eH] at hP
  have hS : va_S (AE 136 E) s.heap H locs := by rw [eH]; exact hS
  show W p l e rmX0_earn s m args below meth c s.heap locs 0 0 Q (F0 m 0 ls [])
  rw [← eH]
  refine lv_iload_n hx hb dX0_earn_0 rfl (lv_at hl 1 rfl) ?_
  refine lv_iconst (v := 1) hx hb dX0_earn_1 (by decide) ?_
  refine lv_sipush (v := 999) hx hb dX0_earn_2 (by decide) ?_
  obtain ⟨q2, g1, hf⟩ := ob_bind hf
  refine xc_z (xj_runS (As := [.int a1, .int 1, .int 999]) (rest := []) hJ hJs hS ⟨hx, hb, hml, hown, hts⟩ (wkX0_in l D dA E hE T J hJ w a1 1 999 g1) (va_cwS 3 hts (lw_S q319 q320 q136 q321) rfl rfl rfl cdX0_in.2 ⟨Nat.le_of_ble_eq_true rfl, Nat.le_of_ble_eq_true rfl⟩) hK hP hl.1 rfl rfl (Nat.le_of_ble_eq_true rfl) dX0_earn_5 ⟨Nat.zero_le _, Nat.zero_le _⟩) hS hD.2 (fun H locs zq2 hP hS => ?_)
  refine lv_if_eq (tgt := 19) hx hb dX0_earn_8 (by decide) (fun c3 => ?_) (fun c3 => ?_)
  · replace hf := ob_t hf c3
    refine lv_iconst (v := 0) hx hb dX0_earn_19 (by decide) ?_
    obtain rfl := ob_s hf
    subst hQ
    exact xe_z hx hb hr hlocks hP hS (Or.inl rfl) dX0_earn_20
  · replace hf := ob_f hf c3
    refine lv_aload_n hx hb dX0_earn_11 rfl (lv_at hl 0 rfl) ?_
    refine lv_iload_n hx hb dX0_earn_12 rfl (lv_at hl 1 rfl) ?_
    obtain ⟨q5, g4, hf⟩ := ob_bind hf
    refine xc_z (xj_run (As := [.int a1]) (rest := []) hJ hJs hS ⟨hx, hb, hml, hown, hts⟩ (k0 := 0) (wkX0_canEarn l D dA E hE T J hJ w a1 g4) (cwV 1 hts (lw_V q1076 q1078 qs34 q136 q1079) rfl rfl rfl cdX0_canEarn ⟨Nat.le_of_ble_eq_true rfl, Nat.le_of_ble_eq_true rfl⟩) hK hP (by decide) rfl rfl rfl hl.1 rfl rfl (Nat.le_of_ble_eq_true rfl) dX0_earn_13 ⟨Nat.zero_le _, Nat.zero_le _⟩) hS hD.2 (fun H locs zq5 hP hS => ?_)
    refine lv_if_ne (tgt := 21) hx hb dX0_earn_16 (by decide) (fun c6 => ?_) (fun c6 => ?_)
    · replace hf := ob_f hf c6
      refine lv_aload_n hx hb dX0_earn_21 rfl (lv_at hl 0 rfl) ?_
      refine xr_get hx hb hts in_X0 hown hK hP 0 (by decide) rfl rfl 0 (by decide) (hts _ q252) (fun _ h => h) rfl (v := .ref (E 1)) rfl dX0_earn_22 ?_
      obtain ⟨q8, g7, hf⟩ := ob_bind hf
      refine xc_v (xj_run (As := []) (rest := []) hJ hJs hS ⟨hx, hb, hml, hown, hts⟩ (k0 := 1) (wkX1_keeps l D dA E hE T J hJ w g7) (cwV 0 hts (lw_V q910 q911 q912 q137 q913) rfl rfl rfl cdX1_keeps ⟨Nat.le_of_ble_eq_true rfl, Nat.le_of_ble_eq_true rfl⟩) hK hP (by decide) rfl rfl rfl hl.1 rfl rfl (Nat.le_of_ble_eq_true rfl) dX0_earn_25 ⟨Nat.zero_le _, Nat.zero_le _⟩) hS hD.2 (fun H locs hP hS => ?_)
      refine lv_aload_n hx hb dX0_earn_28 rfl (lv_at hl 0 rfl) ?_
      refine xr_get hx hb hts in_X0 hown hK hP 0 (by decide) rfl rfl 0 (by decide) (hts _ q252) (fun _ h => h) rfl (v := .ref (E 1)) rfl dX0_earn_29 ?_
      refine xr_getN (host := "QuarrelsPawned") hx hb hts in_X1 hown hK hP 1 (by decide) rfl rfl 1 (by decide) (hJ.nest hJs 1 rfl) (fun _ h => h) rfl (v := .ref (E 4)) rfl dX0_earn_32 ?_
      refine lv_iconst (v := 2) hx hb dX0_earn_35 (by decide) ?_
      refine lv_dup2_11 hx hb dX0_earn_36 rfl rfl ?_
      refine xr_iald hx hb hK hP 4 (by decide) rfl 0 rfl (j := 2) (vin_c (by decide)) (by decide) dX0_earn_37 ?_
      refine lv_iload_n hx hb dX0_earn_38 rfl (lv_at hl 1 rfl) ?_
      refine lv_iadd hx hb dX0_earn_39 ?_
      obtain ⟨w9, ew9, hf⟩ := ob_bnd hf
      refine xr_iast hx hb hK hP hD hS 4 (by decide) rfl 0 rfl (j := 2) (w' := w9) (vin_c (by decide)) (by decide) ew9 dX0_earn_40 (fun H locs hP hS => ?_)
      refine lv_iconst (v := 1) hx hb dX0_earn_41 (by decide) ?_
      obtain rfl := ob_s hf
      subst hQ
      exact xe_z hx hb hr hlocks hP hS (Or.inr rfl) dX0_earn_42
    · replace hf := ob_t hf c6
      refine lv_iconst (v := 0) hx hb dX0_earn_19 (by decide) ?_
      obtain rfl := ob_s hf
      subst hQ
      exact xe_z hx hb hr hlocks hP hS (Or.inl rfl) dX0_earn_20
abbrev rmX0_drawn : Room := { frames := 0, cells := 0, slots := 0, locals := 0 }
theorem cdX0_drawn : yX0_drawn.cls = RX0 ∧ yX0_drawn.cls ≠ "java/lang/invoke/MethodHandle" ∧ yX0_drawn.cls ≠ "java/lang/invoke/VarHandle" ∧ (parseMethodDescriptor yX0_drawn.desc).map (fun d => d.parameters.length) = some 2 := by decide +kernel
set_option maxHeartbeats 4000000 in
set_option maxRecDepth 100000 in
theorem wkX0_drawn (l : Launch) (D : va_G) (dA : Nat → ClassId) (E : Nat → Nat) (hE : wInj 136 E) (T : Tx) (J : State → Heap → Prop) (hJ : JP D dA E T J) (w : Mm) (k0 : Nat) (a1 : Int32) {res : Int32 × Mm} (hf : X_drawn w k0 a1 = some res) (hk0 : k0 < 136) (sk0 : shX k0 = (1, 149, [])) : Met l yX0_drawn (ws_ yX0_drawn cX0_drawn 3 (some .int)) rmX0_drawn (Pj D dA E J [.ref (E k0), .int a1] w) (Qwi D clX shX 136 dA E res.1 res.2) 0 0 (AE 136 E) := by
  refine xj_head (own := RX0) (by decide) rfl (Nat.le_of_ble_eq_true rfl) ?_
  intro p e s m args below meth c ls Q hQ C hP hl
  obtain ⟨hx, hb, hr, hlocks, hml, hown, hts, hK, hJs⟩ := C
  replace hl : lv_has ls 3 [(0, .ref (E k0)), (1, .int a1)] := hl
  have hS : va_S (AE 136 E) s.heap s.heap [] := va_S.rf
  have hD : wD 136 E (AE 136 E) := wD.self hE
  unfold X_drawn at hf
  obtain ⟨H, eH⟩ : ∃ H, H = s.heap := ⟨_, rfl⟩
  obtain ⟨locs, eL⟩ : ∃ locs : List Loc, locs = [] := ⟨_, rfl⟩
  rw [← eL] at hS ⊢
  rw [← eH] at hP
  have hS : va_S (AE 136 E) s.heap H locs := by rw [eH]; exact hS
  show W p l e rmX0_drawn s m args below meth c s.heap locs 0 0 Q (F0 m 0 ls [])
  rw [← eH]
  refine lv_aload_n hx hb dX0_drawn_0 rfl (lv_at hl 0 rfl) ?_
  refine lv_iconst (v := 1) hx hb dX0_drawn_1 (by decide) ?_
  refine xr_iald hx hb hK hP k0 hk0 sk0 0 rfl (j := 1) (vin_c (by decide)) (by decide) dX0_drawn_2 ?_
  refine lv_iload_n hx hb dX0_drawn_3 rfl (lv_at hl 1 rfl) ?_
  obtain ⟨h1, hf⟩ := ob_gz hf
  refine xr_irem hx hb dX0_drawn_4 h1 ?_
  obtain ⟨v2_2, ev2_2, hf⟩ := ob_bnd hf
  refine xn_i ev2_2 ?_
  refine lv_istore_n (lv' := [(2, .int v2_2), (0, .ref (E k0)), (1, .int a1)]) hx hb dX0_drawn_5 rfl hl (by decide) rfl (fun ls hl => ?_)
  refine lv_aload_n hx hb dX0_drawn_6 rfl (lv_at hl 1 rfl) ?_
  refine lv_iconst (v := 1) hx hb dX0_drawn_7 (by decide) ?_
  refine lv_aload_n hx hb dX0_drawn_8 rfl (lv_at hl 1 rfl) ?_
  refine lv_iconst (v := 1) hx hb dX0_drawn_9 (by decide) ?_
  refine xr_iald hx hb hK hP k0 hk0 sk0 0 rfl (j := 1) (vin_c (by decide)) (by decide) dX0_drawn_10 ?_
  refine lv_sipush (v := 619) hx hb dX0_drawn_11 (by decide) ?_
  refine lv_imul hx hb dX0_drawn_14 ?_
  refine lv_sipush (v := 493) hx hb dX0_drawn_15 (by decide) ?_
  refine lv_iadd hx hb dX0_drawn_18 ?_
  refine lv_sipush (v := 30871) hx hb dX0_drawn_19 (by decide) ?_
  refine xr_irem hx hb dX0_drawn_22 (by decide) ?_
  obtain ⟨w3, ew3, hf⟩ := ob_bnd hf
  refine xr_iast hx hb hK hP hD hS k0 hk0 sk0 0 rfl (j := 1) (w' := w3) (vin_c (by decide)) (by decide) ew3 dX0_drawn_23 (fun H locs hP hS => ?_)
  refine lv_iload_n hx hb dX0_drawn_24 rfl (lv_at hl 0 rfl) ?_
  obtain rfl := ob_s hf
  subst hQ
  exact xe_i hx hb hr hlocks hP hS dX0_drawn_25
abbrev rmX0_warms : Room := { frames := 1, cells := 0, slots := 0, locals := 24 }
theorem cdX0_warms : yX0_warms.cls = RX0 ∧ yX0_warms.cls ≠ "java/lang/invoke/MethodHandle" ∧ yX0_warms.cls ≠ "java/lang/invoke/VarHandle" ∧ (parseMethodDescriptor yX0_warms.desc).map (fun d => d.parameters.length) = some 2 := by decide +kernel
set_option maxHeartbeats 4000000 in
set_option maxRecDepth 100000 in
theorem wkX0_warms (l : Launch) (D : va_G) (dA : Nat → ClassId) (E : Nat → Nat) (hE : wInj 136 E) (T : Tx) (J : State → Heap → Prop) (hJ : JP D dA E T J) (w : Mm) (k0 : Nat) (a1 : Int32) {res : Mm} (hf : X_warms w k0 a1 = some res) (hk0 : k0 < 136) (sk0 : shX k0 = (1, 149, [])) : Met l yX0_warms (ws_ yX0_warms cX0_warms 2 (none)) rmX0_warms (Pj D dA E J [.ref (E k0), .int a1] w) (Qwv D clX shX 136 dA E res) 0 0 (AE 136 E) := by
  refine xj_head (own := RX0) (by decide) rfl (Nat.le_of_ble_eq_true rfl) ?_
  intro p e s m args below meth c ls Q hQ C hP hl
  obtain ⟨hx, hb, hr, hlocks, hml, hown, hts, hK, hJs⟩ := C
  replace hl : lv_has ls 2 [(0, .ref (E k0)), (1, .int a1)] := hl
  have hS : va_S (AE 136 E) s.heap s.heap [] := va_S.rf
  have hD : wD 136 E (AE 136 E) := wD.self hE
  unfold X_warms at hf
  obtain ⟨H, eH⟩ : ∃ H, H = s.heap := ⟨_, rfl⟩
  obtain ⟨locs, eL⟩ : ∃ locs : List Loc, locs = [] := ⟨_, rfl⟩
  rw [← eL] at hS ⊢
  rw [← eH] at hP
  have hS : va_S (AE 136 E) s.heap H locs := by rw [eH]; exact hS
  show W p l e rmX0_warms s m args below meth c s.heap locs 0 0 Q (F0 m 0 ls [])
  rw [← eH]
  refine lv_aload_n hx hb dX0_warms_0 rfl (lv_at hl 0 rfl) ?_
  refine lv_iconst (v := 4) hx hb dX0_warms_1 (by decide) ?_
  refine lv_iload_n hx hb dX0_warms_2 rfl (lv_at hl 1 rfl) ?_
  refine lv_iadd hx hb dX0_warms_3 ?_
  obtain ⟨h1, hf⟩ := ob_gd hf
  refine xr_iald hx hb hK hP k0 hk0 sk0 0 rfl (j := (4 + a1).toNatClampNeg) h1 rfl dX0_warms_4 ?_
  refine lv_if_ne (tgt := 30) hx hb dX0_warms_5 (by decide) (fun c2 => ?_) (fun c2 => ?_)
  · replace hf := ob_f hf c2
    refine lv_aload_n hx hb dX0_warms_30 rfl (lv_at hl 0 rfl) ?_
    refine lv_iconst (v := 4) hx hb dX0_warms_31 (by decide) ?_
    refine lv_iload_n hx hb dX0_warms_32 rfl (lv_at hl 1 rfl) ?_
    refine lv_iadd hx hb dX0_warms_33 ?_
    obtain ⟨h3, hf⟩ := ob_gd hf
    refine xr_iald hx hb hK hP k0 hk0 sk0 0 rfl (j := (4 + a1).toNatClampNeg) h3 rfl dX0_warms_34 ?_
    refine lv_iconst (v := 1) hx hb dX0_warms_35 (by decide) ?_
    refine lv_icmp_ne (tgt := 59) hx hb dX0_warms_36 (by decide) (fun c4 => ?_) (fun c4 => ?_)
    · replace hf := ob_f hf c4
      obtain rfl := ob_s hf
      subst hQ
      exact xe_v hx hb hr hlocks hP hS dX0_warms_59
    · replace hf := ob_t hf c4
      refine lv_aload_n hx hb dX0_warms_39 rfl (lv_at hl 0 rfl) ?_
      refine lv_bipush (v := 20) hx hb dX0_warms_40 (by decide) ?_
      refine lv_iload_n hx hb dX0_warms_42 rfl (lv_at hl 1 rfl) ?_
      refine lv_iadd hx hb dX0_warms_43 ?_
      refine lv_iconst (v := 0) hx hb dX0_warms_44 (by decide) ?_
      refine lv_aload_n hx hb dX0_warms_45 rfl (lv_at hl 0 rfl) ?_
      refine lv_bipush (v := 20) hx hb dX0_warms_46 (by decide) ?_
      refine lv_iload_n hx hb dX0_warms_48 rfl (lv_at hl 1 rfl) ?_
      refine lv_iadd hx hb dX0_warms_49 ?_
      obtain ⟨h5, hf⟩ := ob_gd hf
      refine xr_iald hx hb hK hP k0 hk0 sk0 0 rfl (j := (20 + a1).toNatClampNeg) h5 rfl dX0_warms_50 ?_
      refine lv_aload_n hx hb dX0_warms_51 rfl (lv_at hl 0 rfl) ?_
      refine lv_iconst (v := 3) hx hb dX0_warms_52 (by decide) ?_
      refine xr_iald hx hb hK hP k0 hk0 sk0 0 rfl (j := 3) (vin_c (by decide)) (by decide) dX0_warms_53 ?_
      refine lv_isub hx hb dX0_warms_54 ?_
      refine xr_mmax hx hb (hml.trans hl.1.symm) hown (hts _ q1094) (hts _ q662) (hts _ q150) (hts _ q663) (Nat.le_of_ble_eq_true rfl) (Nat.le_of_ble_eq_true rfl) (Nat.zero_le _) (Nat.zero_le _) dX0_warms_55 ?_
      obtain ⟨h6, hf⟩ := ob_gd hf
      obtain ⟨w7, ew7, hf⟩ := ob_bnd hf
      refine xr_iast hx hb hK hP hD hS k0 hk0 sk0 0 rfl (j := (20 + a1).toNatClampNeg) (w' := w7) h6 rfl ew7 dX0_warms_58 (fun H locs hP hS => ?_)
      obtain rfl := ob_s hf
      subst hQ
      exact xe_v hx hb hr hlocks hP hS dX0_warms_59
  · replace hf := ob_t hf c2
    refine lv_aload_n hx hb dX0_warms_8 rfl (lv_at hl 0 rfl) ?_
    refine lv_bipush (v := 20) hx hb dX0_warms_9 (by decide) ?_
    refine lv_iload_n hx hb dX0_warms_11 rfl (lv_at hl 1 rfl) ?_
    refine lv_iadd hx hb dX0_warms_12 ?_
    refine lv_bipush (v := 9) hx hb dX0_warms_13 (by decide) ?_
    refine lv_aload_n hx hb dX0_warms_15 rfl (lv_at hl 0 rfl) ?_
    refine lv_bipush (v := 20) hx hb dX0_warms_16 (by decide) ?_
    refine lv_iload_n hx hb dX0_warms_18 rfl (lv_at hl 1 rfl) ?_
    refine lv_iadd hx hb dX0_warms_19 ?_
    obtain ⟨h8, hf⟩ := ob_gd hf
    refine xr_iald hx hb hK hP k0 hk0 sk0 0 rfl (j := (20 + a1).toNatClampNeg) h8 rfl dX0_warms_20 ?_
    refine lv_iconst (v := 1) hx hb dX0_warms_21 (by decide) ?_
    refine lv_iadd hx hb dX0_warms_22 ?_
    refine xr_mmin hx hb (hml.trans hl.1.symm) hown (hts _ q918) (hts _ q492) (hts _ q150) (hts _ q493) (Nat.le_of_ble_eq_true rfl) (Nat.le_of_ble_eq_true rfl) (Nat.zero_le _) (Nat.zero_le _) dX0_warms_23 ?_
    obtain ⟨h9, hf⟩ := ob_gd hf
    obtain ⟨w10, ew10, hf⟩ := ob_bnd hf
    refine xr_iast hx hb hK hP hD hS k0 hk0 sk0 0 rfl (j := (20 + a1).toNatClampNeg) (w' := w10) h9 rfl ew10 dX0_warms_26 (fun H locs hP hS => ?_)
    refine lv_goto (tgt := 59) hx hb dX0_warms_27 (by decide) ?_
    obtain rfl := ob_s hf
    subst hQ
    exact xe_v hx hb hr hlocks hP hS dX0_warms_59
abbrev rmX0_pawnedIn : Room := { frames := 1, cells := 0, slots := 0, locals := 20 }
theorem cdX0_pawnedIn : yX0_pawnedIn.cls = RX0 ∧ yX0_pawnedIn.cls ≠ "java/lang/invoke/MethodHandle" ∧ yX0_pawnedIn.cls ≠ "java/lang/invoke/VarHandle" ∧ (parseMethodDescriptor yX0_pawnedIn.desc).map (fun d => d.parameters.length) = some 1 := by decide +kernel
set_option maxHeartbeats 4000000 in
set_option maxRecDepth 100000 in
theorem wkX0_pawnedIn (l : Launch) (D : va_G) (dA : Nat → ClassId) (E : Nat → Nat) (hE : wInj 136 E) (T : Tx) (J : State → Heap → Prop) (hJ : JP D dA E T J) (w : Mm) (k1 : Nat) {res : Int32} (hf : X_pawnedIn w k1 = some res) (hk1 : k1 < 136) (sk1 : shX k1 = (1, 149, [])) : Met l yX0_pawnedIn (ws_ yX0_pawnedIn cX0_pawnedIn 4 (some .int)) rmX0_pawnedIn (Pj D dA E J [.ref (E 0), .ref (E k1)] w) (Qwi D clX shX 136 dA E res w) 0 0 (AE 136 E) := by
  refine xj_head (own := RX0) (by decide) rfl (Nat.le_of_ble_eq_true rfl) ?_
  intro p e s m args below meth c ls Q hQ C hP hl
  obtain ⟨hx, hb, hr, hlocks, hml, hown, hts, hK, hJs⟩ := C
  replace hl : lv_has ls 4 [(0, .ref (E 0)), (1, .ref (E k1))] := hl
  have hS : va_S (AE 136 E) s.heap s.heap [] := va_S.rf
  have hD : wD 136 E (AE 136 E) := wD.self hE
  unfold X_pawnedIn at hf
  obtain ⟨H, eH⟩ : ∃ H, H = s.heap := ⟨_, rfl⟩
  obtain ⟨locs, eL⟩ : ∃ locs : List Loc, locs = [] := ⟨_, rfl⟩
  rw [← eL] at hS ⊢
  rw [← eH] at hP
  have hS : va_S (AE 136 E) s.heap H locs := by rw [eH]; exact hS
  show W p l e rmX0_pawnedIn s m args below meth c s.heap locs 0 0 Q (F0 m 0 ls [])
  rw [← eH]
  refine lv_iconst (v := 0) hx hb dX0_pawnedIn_0 (by decide) ?_
  refine lv_istore_n (lv' := [(2, .int 0), (0, .ref (E 0)), (1, .ref (E k1))]) hx hb dX0_pawnedIn_1 rfl hl (by decide) rfl (fun ls hl => ?_)
  refine lv_iconst (v := 0) hx hb dX0_pawnedIn_2 (by decide) ?_
  refine lv_istore_n (lv' := [(3, .int 0), (2, .int 0), (0, .ref (E 0)), (1, .ref (E k1))]) hx hb dX0_pawnedIn_3 rfl hl (by decide) rfl (fun ls hl => ?_)
  obtain ⟨b3, hb3, hf⟩ := ob_bind hf
  obtain ⟨n3, hn3⟩ := lp_some hb3
  have kL4 : ∀ (n : Nat) (v2_1 : Int32) (v3_2 : Int32), lpF (fun (q3 : Int32 × Int32) => X_pawnedIn_b4 w k1 q3.1 q3.2) n (v2_1, v3_2) = some b3 → (∀ (H : Heap) (locs : List Loc) (ls : Array Slot), va_P D clX (wl shX 136 dA E w) H → va_S (AE 136 E) s.heap H locs → lv_has ls 4 [(2, .int b3)] → W p l e rmX0_pawnedIn s m args below meth c H locs 0 0 Q (F0 m 37 ls [])) → ∀ (H : Heap) (locs : List Loc) (ls : Array Slot), va_P D clX (wl shX 136 dA E w) H → va_S (AE 136 E) s.heap H locs → lv_has ls 4 [(0, .ref (E 0)), (1, .ref (E k1)), (2, .int v2_1), (3, .int v3_2)] → W p l e rmX0_pawnedIn s m args below meth c H locs 0 0 Q (F0 m 4 ls []) := by
    intro n
    induction n with
    | zero =>
      intro v2_1 v3_2 hq9
      cases hq9
    | succ n ih =>
      intro v2_1 v3_2 hq9 K3_0 H locs ls hP hS hl
      obtain ⟨r3, hf, h3a, h3b⟩ := lpF_step hq9
      replace hf : X_pawnedIn_b4 w k1 v2_1 v3_2 = some r3 := hf
      unfold X_pawnedIn_b4 at hf
      refine lv_iload_n hx hb dX0_pawnedIn_4 rfl (lv_at hl 3 rfl) ?_
      refine lv_aload_n hx hb dX0_pawnedIn_5 rfl (lv_at hl 0 rfl) ?_
      obtain ⟨q5, g4, hf⟩ := ob_bind hf
      refine xc_i (xj_run (As := []) (rest := [.int v3_2]) hJ hJs hS ⟨hx, hb, hml, hown, hts⟩ (k0 := 0) (wkX0_quarrels l D dA E hE T J hJ w g4) (cwV 0 hts (lw_V q309 q311 qs0 q136 q312) rfl rfl rfl cdX0_quarrels ⟨Nat.le_of_ble_eq_true rfl, Nat.le_of_ble_eq_true rfl⟩) hK hP (by decide) rfl rfl rfl hl.1 rfl rfl (Nat.le_of_ble_eq_true rfl) dX0_pawnedIn_6 ⟨Nat.zero_le _, Nat.zero_le _⟩) hS hD.2 (fun H locs hP hS => ?_)
      refine lv_icmp_ge (tgt := 37) hx hb dX0_pawnedIn_9 (by decide) (fun c6 => ?_) (fun c6 => ?_)
      · replace hf := ob_t hf c6
        obtain rfl := ob_s hf
        obtain rfl := h3b _ rfl
        exact K3_0 H locs ls hP hS (lv_sub hl [2] rfl)
      · replace hf := ob_f hf c6
        refine lv_iload_n hx hb dX0_pawnedIn_12 rfl (lv_at hl 2 rfl) ?_
        refine lv_aload_n hx hb dX0_pawnedIn_13 rfl (lv_at hl 1 rfl) ?_
        refine lv_iconst (v := 4) hx hb dX0_pawnedIn_14 (by decide) ?_
        refine lv_iload_n hx hb dX0_pawnedIn_15 rfl (lv_at hl 3 rfl) ?_
        refine lv_iadd hx hb dX0_pawnedIn_16 ?_
        obtain ⟨h7, hf⟩ := ob_gd hf
        refine xr_iald hx hb hK hP k1 hk1 sk1 0 rfl (j := (4 + v3_2).toNatClampNeg) h7 rfl dX0_pawnedIn_17 ?_
        refine lv_iconst (v := 1) hx hb dX0_pawnedIn_18 (by decide) ?_
        refine lv_icmp_ne (tgt := 28) hx hb dX0_pawnedIn_19 (by decide) (fun c8 => ?_) (fun c8 => ?_)
        · replace hf := ob_f hf c8
          refine lv_iconst (v := 0) hx hb dX0_pawnedIn_28 (by decide) ?_
          refine lv_ior hx hb dX0_pawnedIn_29 ?_
          obtain ⟨v2_9, ev2_9, hf⟩ := ob_bnd hf
          refine xn_i ev2_9 ?_
          refine lv_istore_n (lv' := [(2, .int v2_9), (0, .ref (E 0)), (1, .ref (E k1)), (3, .int v3_2)]) hx hb dX0_pawnedIn_30 rfl hl (by decide) rfl (fun ls hl => ?_)
          obtain ⟨v3_10, ev3_10, hf⟩ := ob_bnd hf
          refine lv_iinc (v := v3_10) (lv' := [(3, .int v3_10), (2, .int v2_9), (0, .ref (E 0)), (1, .ref (E k1))]) hx hb dX0_pawnedIn_31 hl (k := 3) rfl (by rw [ev3_10]; rfl) (by decide) rfl (fun ls hl => ?_)
          refine lv_goto (tgt := 4) hx hb dX0_pawnedIn_34 (by decide) ?_
          obtain rfl := ob_s hf
          exact ih _ _ (h3a _ rfl) K3_0 H locs ls hP hS (lv_sub hl [2, 3, 1, 0] rfl)
        · replace hf := ob_t hf c8
          refine lv_iconst (v := 1) hx hb dX0_pawnedIn_22 (by decide) ?_
          refine lv_iload_n hx hb dX0_pawnedIn_23 rfl (lv_at hl 3 rfl) ?_
          refine lv_ishl hx hb dX0_pawnedIn_24 ?_
          refine lv_goto (tgt := 29) hx hb dX0_pawnedIn_25 (by decide) ?_
          refine lv_ior hx hb dX0_pawnedIn_29 ?_
          obtain ⟨v2_11, ev2_11, hf⟩ := ob_bnd hf
          refine xn_i ev2_11 ?_
          refine lv_istore_n (lv' := [(2, .int v2_11), (0, .ref (E 0)), (1, .ref (E k1)), (3, .int v3_2)]) hx hb dX0_pawnedIn_30 rfl hl (by decide) rfl (fun ls hl => ?_)
          obtain ⟨v3_12, ev3_12, hf⟩ := ob_bnd hf
          refine lv_iinc (v := v3_12) (lv' := [(3, .int v3_12), (2, .int v2_11), (0, .ref (E 0)), (1, .ref (E k1))]) hx hb dX0_pawnedIn_31 hl (k := 3) rfl (by rw [ev3_12]; rfl) (by decide) rfl (fun ls hl => ?_)
          refine lv_goto (tgt := 4) hx hb dX0_pawnedIn_34 (by decide) ?_
          obtain rfl := ob_s hf
          exact ih _ _ (h3a _ rfl) K3_0 H locs ls hP hS (lv_sub hl [2, 3, 1, 0] rfl)
  refine kL4 n3 0 0 hn3 (fun H locs ls hP hS hl => ?_) H locs ls hP hS (lv_sub hl [2, 3, 1, 0] rfl)
  replace hf : X_pawnedIn_x4_37 b3 = some res := hf
  unfold X_pawnedIn_x4_37 at hf
  refine lv_iload_n hx hb dX0_pawnedIn_37 rfl (lv_at hl 0 rfl) ?_
  obtain rfl := ob_s hf
  subst hQ
  exact xe_i hx hb hr hlocks hP hS dX0_pawnedIn_38
abbrev rmJ15_bitCount : Room := { frames := 0, cells := 0, slots := 0, locals := 0 }
theorem cdJ15_bitCount : yJ15_bitCount.cls = RJ15 ∧ yJ15_bitCount.cls ≠ "java/lang/invoke/MethodHandle" ∧ yJ15_bitCount.cls ≠ "java/lang/invoke/VarHandle" ∧ (parseMethodDescriptor yJ15_bitCount.desc).map (fun d => d.parameters.length) = some 1 := by decide +kernel
set_option maxHeartbeats 4000000 in
set_option maxRecDepth 100000 in
theorem wkJ15_bitCount (l : Launch) (D : va_G) (dA : Nat → ClassId) (E : Nat → Nat) (hE : wInj 136 E) (T : Tx) (J : State → Heap → Prop) (hJ : JP D dA E T J) (w : Mm) (a0 : Int32) {res : Int32} (hf : X_J15_bitCount a0 = some res) : Met l yJ15_bitCount (ws_ yJ15_bitCount cJ15_bitCount 1 (some .int)) rmJ15_bitCount (Pj D dA E J [.int a0] w) (Qwi D clX shX 136 dA E res w) 0 0 (AE 136 E) := by
  refine xj_head (own := RJ15) (by decide) rfl (Nat.le_of_ble_eq_true rfl) ?_
  intro p e s m args below meth c ls Q hQ C hP hl
  obtain ⟨hx, hb, hr, hlocks, hml, hown, hts, hK, hJs⟩ := C
  replace hl : lv_has ls 1 [(0, .int a0)] := hl
  have hS : va_S (AE 136 E) s.heap s.heap [] := va_S.rf
  have hD : wD 136 E (AE 136 E) := wD.self hE
  unfold X_J15_bitCount at hf
  obtain ⟨H, eH⟩ : ∃ H, H = s.heap := ⟨_, rfl⟩
  obtain ⟨locs, eL⟩ : ∃ locs : List Loc, locs = [] := ⟨_, rfl⟩
  rw [← eL] at hS ⊢
  rw [← eH] at hP
  have hS : va_S (AE 136 E) s.heap H locs := by rw [eH]; exact hS
  show W p l e rmJ15_bitCount s m args below meth c s.heap locs 0 0 Q (F0 m 0 ls [])
  rw [← eH]
  refine lv_iload_n hx hb dJ15_bitCount_0 rfl (lv_at hl 0 rfl) ?_
  refine lv_iload_n hx hb dJ15_bitCount_1 rfl (lv_at hl 0 rfl) ?_
  refine lv_iconst (v := 1) hx hb dJ15_bitCount_2 (by decide) ?_
  refine xr_iushr hx hb dJ15_bitCount_3 ?_
  refine lv_ldcw (v := 1431655765) hx hb hown (hts _ q1106) dJ15_bitCount_4 ?_
  refine lv_iand hx hb dJ15_bitCount_7 ?_
  refine lv_isub hx hb dJ15_bitCount_8 ?_
  obtain ⟨v0_1, ev0_1, hf⟩ := ob_bnd hf
  refine xn_i ev0_1 ?_
  refine lv_istore_n (lv' := [(0, .int v0_1)]) hx hb dJ15_bitCount_9 rfl hl (by decide) rfl (fun ls hl => ?_)
  refine lv_iload_n hx hb dJ15_bitCount_10 rfl (lv_at hl 0 rfl) ?_
  refine lv_ldcw (v := 858993459) hx hb hown (hts _ q1107) dJ15_bitCount_11 ?_
  refine lv_iand hx hb dJ15_bitCount_14 ?_
  refine lv_iload_n hx hb dJ15_bitCount_15 rfl (lv_at hl 0 rfl) ?_
  refine lv_iconst (v := 2) hx hb dJ15_bitCount_16 (by decide) ?_
  refine xr_iushr hx hb dJ15_bitCount_17 ?_
  refine lv_ldcw (v := 858993459) hx hb hown (hts _ q1107) dJ15_bitCount_18 ?_
  refine lv_iand hx hb dJ15_bitCount_21 ?_
  refine lv_iadd hx hb dJ15_bitCount_22 ?_
  obtain ⟨v0_2, ev0_2, hf⟩ := ob_bnd hf
  refine xn_i ev0_2 ?_
  refine lv_istore_n (lv' := [(0, .int v0_2)]) hx hb dJ15_bitCount_23 rfl hl (by decide) rfl (fun ls hl => ?_)
  refine lv_iload_n hx hb dJ15_bitCount_24 rfl (lv_at hl 0 rfl) ?_
  refine lv_iload_n hx hb dJ15_bitCount_25 rfl (lv_at hl 0 rfl) ?_
  refine lv_iconst (v := 4) hx hb dJ15_bitCount_26 (by decide) ?_
  refine xr_iushr hx hb dJ15_bitCount_27 ?_
  refine lv_iadd hx hb dJ15_bitCount_28 ?_
  refine lv_ldcw (v := 252645135) hx hb hown (hts _ q1108) dJ15_bitCount_29 ?_
  refine lv_iand hx hb dJ15_bitCount_32 ?_
  obtain ⟨v0_3, ev0_3, hf⟩ := ob_bnd hf
  refine xn_i ev0_3 ?_
  refine lv_istore_n (lv' := [(0, .int v0_3)]) hx hb dJ15_bitCount_33 rfl hl (by decide) rfl (fun ls hl => ?_)
  refine lv_iload_n hx hb dJ15_bitCount_34 rfl (lv_at hl 0 rfl) ?_
  refine lv_iload_n hx hb dJ15_bitCount_35 rfl (lv_at hl 0 rfl) ?_
  refine lv_bipush (v := 8) hx hb dJ15_bitCount_36 (by decide) ?_
  refine xr_iushr hx hb dJ15_bitCount_38 ?_
  refine lv_iadd hx hb dJ15_bitCount_39 ?_
  obtain ⟨v0_4, ev0_4, hf⟩ := ob_bnd hf
  refine xn_i ev0_4 ?_
  refine lv_istore_n (lv' := [(0, .int v0_4)]) hx hb dJ15_bitCount_40 rfl hl (by decide) rfl (fun ls hl => ?_)
  refine lv_iload_n hx hb dJ15_bitCount_41 rfl (lv_at hl 0 rfl) ?_
  refine lv_iload_n hx hb dJ15_bitCount_42 rfl (lv_at hl 0 rfl) ?_
  refine lv_bipush (v := 16) hx hb dJ15_bitCount_43 (by decide) ?_
  refine xr_iushr hx hb dJ15_bitCount_45 ?_
  refine lv_iadd hx hb dJ15_bitCount_46 ?_
  obtain ⟨v0_5, ev0_5, hf⟩ := ob_bnd hf
  refine xn_i ev0_5 ?_
  refine lv_istore_n (lv' := [(0, .int v0_5)]) hx hb dJ15_bitCount_47 rfl hl (by decide) rfl (fun ls hl => ?_)
  refine lv_iload_n hx hb dJ15_bitCount_48 rfl (lv_at hl 0 rfl) ?_
  refine lv_bipush (v := 63) hx hb dJ15_bitCount_49 (by decide) ?_
  refine lv_iand hx hb dJ15_bitCount_51 ?_
  obtain rfl := ob_s hf
  subst hQ
  exact xe_i hx hb hr hlocks hP hS dJ15_bitCount_52
abbrev rmX0_sellsOf : Room := { frames := 200, cells := 0, slots := 0, locals := 8000 }
theorem cdX0_sellsOf : yX0_sellsOf.cls = RX0 ∧ yX0_sellsOf.cls ≠ "java/lang/invoke/MethodHandle" ∧ yX0_sellsOf.cls ≠ "java/lang/invoke/VarHandle" ∧ (parseMethodDescriptor yX0_sellsOf.desc).map (fun d => d.parameters.length) = some 2 := by decide +kernel
set_option maxHeartbeats 4000000 in
set_option maxRecDepth 100000 in
theorem wkX0_sellsOf (l : Launch) (D : va_G) (dA : Nat → ClassId) (E : Nat → Nat) (hE : wInj 136 E) (T : Tx) (J : State → Heap → Prop) (hJ : JP D dA E T J) (w : Mm) (k1 : Nat) (a2 : Int32) {res : Int32 × Mm} (hf : X_sellsOf T w k1 a2 = some res) (hk1 : k1 < 136) (sk1 : shX k1 = (1, 149, [])) : Met l yX0_sellsOf (ws_ yX0_sellsOf cX0_sellsOf 3 (some .int)) rmX0_sellsOf (Pj D dA E J [.ref (E 0), .ref (E k1), .int a2] w) (Qwi D clX shX 136 dA E res.1 res.2) 0 0 (AE 136 E) := by
  refine xj_head (own := RX0) (by decide) rfl (Nat.le_of_ble_eq_true rfl) ?_
  intro p e s m args below meth c ls Q hQ C hP hl
  obtain ⟨hx, hb, hr, hlocks, hml, hown, hts, hK, hJs⟩ := C
  replace hl : lv_has ls 3 [(0, .ref (E 0)), (1, .ref (E k1)), (2, .int a2)] := hl
  have hS : va_S (AE 136 E) s.heap s.heap [] := va_S.rf
  have hD : wD 136 E (AE 136 E) := wD.self hE
  unfold X_sellsOf at hf
  obtain ⟨H, eH⟩ : ∃ H, H = s.heap := ⟨_, rfl⟩
  obtain ⟨locs, eL⟩ : ∃ locs : List Loc, locs = [] := ⟨_, rfl⟩
  rw [← eL] at hS ⊢
  rw [← eH] at hP
  have hS : va_S (AE 136 E) s.heap H locs := by rw [eH]; exact hS
  show W p l e rmX0_sellsOf s m args below meth c s.heap locs 0 0 Q (F0 m 0 ls [])
  rw [← eH]
  refine lv_aload_n hx hb dX0_sellsOf_0 rfl (lv_at hl 0 rfl) ?_
  refine lv_aload_n hx hb dX0_sellsOf_1 rfl (lv_at hl 1 rfl) ?_
  refine lv_iload_n hx hb dX0_sellsOf_2 rfl (lv_at hl 2 rfl) ?_
  obtain ⟨q2, g1, hf⟩ := ob_bind hf
  refine xc_v (xj_run (As := [.ref (E k1), .int a2]) (rest := []) hJ hJs hS ⟨hx, hb, hml, hown, hts⟩ (k0 := 0) (wkX0_namesOf l D dA E hE T J hJ w k1 a2 g1 hk1 sk1) (cwV 2 hts (lw_V q945 q947 qs31 q136 q948) rfl rfl rfl cdX0_namesOf ⟨Nat.le_of_ble_eq_true rfl, Nat.le_of_ble_eq_true rfl⟩) hK hP (by decide) rfl rfl rfl hl.1 rfl rfl (Nat.le_of_ble_eq_true rfl) dX0_sellsOf_3 ⟨Nat.zero_le _, Nat.zero_le _⟩) hS hD.2 (fun H locs hP hS => ?_)
  refine lv_aload_n hx hb dX0_sellsOf_6 rfl (lv_at hl 0 rfl) ?_
  refine xr_get hx hb hts in_X0 hown hK hP 0 (by decide) rfl rfl 6 (by decide) (hts _ q258) (fun _ h => h) rfl (v := .ref (E 26)) rfl dX0_sellsOf_7 ?_
  refine lv_bipush (v := 7) hx hb dX0_sellsOf_10 (by decide) ?_
  refine lv_aload_n hx hb dX0_sellsOf_12 rfl (lv_at hl 0 rfl) ?_
  refine lv_aload_n hx hb dX0_sellsOf_13 rfl (lv_at hl 1 rfl) ?_
  obtain ⟨q4, g3, hf⟩ := ob_bind hf
  refine xc_i (xj_run (As := [.ref (E k1)]) (rest := [.int 7, .ref (E 26)]) hJ hJs hS ⟨hx, hb, hml, hown, hts⟩ (k0 := 0) (wkX0_pawnedIn l D dA E hE T J hJ q2 k1 g3 hk1 sk1) (cwV 1 hts (lw_V q1099 q1101 qs37 q136 q1102) rfl rfl rfl cdX0_pawnedIn ⟨Nat.le_of_ble_eq_true rfl, Nat.le_of_ble_eq_true rfl⟩) hK hP (by decide) rfl rfl rfl hl.1 rfl rfl (Nat.le_of_ble_eq_true rfl) dX0_sellsOf_14 ⟨Nat.zero_le _, Nat.zero_le _⟩) hS hD.2 (fun H locs hP hS => ?_)
  obtain ⟨q6, g5, hf⟩ := ob_bind hf
  refine xc_i (xj_runS (As := [.int q4]) (rest := [.int 7, .ref (E 26)]) hJ hJs hS ⟨hx, hb, hml, hown, hts⟩ (wkJ15_bitCount l D dA E hE T J hJ q2 q4 g5) (va_cwS 1 hts (lw_S q1103 q1104 q168 q1105) rfl rfl rfl cdJ15_bitCount.2 ⟨Nat.le_of_ble_eq_true rfl, Nat.le_of_ble_eq_true rfl⟩) hK hP hl.1 rfl rfl (Nat.le_of_ble_eq_true rfl) dX0_sellsOf_17 ⟨Nat.zero_le _, Nat.zero_le _⟩) hS hD.2 (fun H locs hP hS => ?_)
  obtain ⟨w7, ew7, hf⟩ := ob_bnd hf
  refine xr_iast hx hb hK hP hD hS 26 (by decide) rfl 0 rfl (j := 7) (w' := w7) (vin_c (by decide)) (by decide) ew7 dX0_sellsOf_20 (fun H locs hP hS => ?_)
  refine lv_aload_n hx hb dX0_sellsOf_21 rfl (lv_at hl 0 rfl) ?_
  obtain ⟨q9, g8, hf⟩ := ob_bind hf
  refine xc_a (xj_run (As := []) (rest := []) hJ hJs hS ⟨hx, hb, hml, hown, hts⟩ (k0 := 0) (wkX0_rules l D dA E hE T J hJ w7 g8) (cwV 0 hts (lw_V q935 q937 qs29 q136 q938) rfl rfl rfl cdX0_rules ⟨Nat.le_of_ble_eq_true rfl, Nat.le_of_ble_eq_true rfl⟩) hK hP (by decide) rfl rfl rfl hl.1 rfl rfl (Nat.le_of_ble_eq_true rfl) dX0_sellsOf_22 ⟨Nat.zero_le _, Nat.zero_le _⟩) hS hD.2 (fun H locs hP hS => ?_)
  obtain ⟨r11, g10, hf⟩ := ob_bind hf
  refine xjr_getN (host := "QuarrelsPawned") hx hb hts in_X4 hown hK hJ (hJ.at hJs hS) (ci := 2) rfl 0 (by decide) (hJ.nest hJs 11 rfl) (fun _ h => h) g10 dX0_sellsOf_25 ?_
  refine lv_iconst (v := 1) hx hb dX0_sellsOf_28 (by decide) ?_
  obtain ⟨y12, g13, hf⟩ := ob_bind hf
  obtain ⟨h14, hf⟩ := ob_gd hf
  refine xh_aald hx hb hK (hJ.view (hJ.at hJs hS)) 7 4 rfl g13 (j := (1 : Int32).toNatClampNeg) h14 rfl dX0_sellsOf_29 ?_
  have kj64 : ∀ (t15 : Int64) (H : Heap) (locs : List Loc) (ls : Array Slot), X_sellsOf_j64 t15 w7 = some res → va_P D clX (wl shX 136 dA E w7) H → va_S (AE 136 E) s.heap H locs → lv_has ls 3 [] → W p l e rmX0_sellsOf s m args below meth c H locs 0 0 Q (F0 m 64 ls [.long t15]) := by
    intro t15 H locs ls hf hP hS hl
    unfold X_sellsOf_j64 at hf
    refine lv_bipush (v := (-99)) hx hb dX0_sellsOf_64 (by decide) ?_
    refine lv_bipush (v := 99) hx hb dX0_sellsOf_66 (by decide) ?_
    obtain ⟨q17, g16, hf⟩ := ob_bind hf
    refine xc_i (xj_runS (As := [.long t15, .int (-99), .int 99]) (rest := []) hJ hJs hS ⟨hx, hb, hml, hown, hts⟩ (wkX0_held l D dA E hE T J hJ w7 t15 (-99) 99 g16) (va_cwS 3 hts (lw_S q1063 q1064 q136 q1065) rfl rfl rfl cdX0_held.2 ⟨Nat.le_of_ble_eq_true rfl, Nat.le_of_ble_eq_true rfl⟩) hK hP hl.1 rfl rfl (Nat.le_of_ble_eq_true rfl) dX0_sellsOf_68 ⟨Nat.zero_le _, Nat.zero_le _⟩) hS hD.2 (fun H locs hP hS => ?_)
    obtain rfl := ob_s hf
    subst hQ
    exact xe_i hx hb hr hlocks hP hS dX0_sellsOf_71
  refine xr_ifnonnull (tgt := 46) hx hb dX0_sellsOf_30 (by decide) (fun c18 => ?_) (fun c18 => ?_)
  · replace hf := ob_t hf c18
    refine lv_aload_n hx hb dX0_sellsOf_33 rfl (lv_at hl 0 rfl) ?_
    refine xr_get hx hb hts in_X0 hown hK hP 0 (by decide) rfl rfl 6 (by decide) (hts _ q258) (fun _ h => h) rfl (v := .ref (E 26)) rfl dX0_sellsOf_34 ?_
    refine lv_iconst (v := 5) hx hb dX0_sellsOf_37 (by decide) ?_
    refine xr_iald hx hb hK hP 26 (by decide) rfl 0 rfl (j := 5) (vin_c (by decide)) (by decide) dX0_sellsOf_38 ?_
    refine lv_bipush (v := 30) hx hb dX0_sellsOf_39 (by decide) ?_
    refine lv_isub hx hb dX0_sellsOf_41 ?_
    refine lv_i2l hx hb dX0_sellsOf_42 rfl ?_
    refine lv_goto (tgt := 64) hx hb dX0_sellsOf_43 (by decide) ?_
    exact kj64 (((w7.1 26 5) - 30).toInt64) H locs ls hf hP hS (lv_sub hl [] rfl)
  · replace hf := ob_f hf c18
    refine lv_aload_n hx hb dX0_sellsOf_46 rfl (lv_at hl 0 rfl) ?_
    obtain ⟨q20, g19, hf⟩ := ob_bind hf
    refine xc_a (xj_run (As := []) (rest := []) hJ hJs hS ⟨hx, hb, hml, hown, hts⟩ (k0 := 0) (wkX0_rules l D dA E hE T J hJ w7 g19) (cwV 0 hts (lw_V q935 q937 qs29 q136 q938) rfl rfl rfl cdX0_rules ⟨Nat.le_of_ble_eq_true rfl, Nat.le_of_ble_eq_true rfl⟩) hK hP (by decide) rfl rfl rfl hl.1 rfl rfl (Nat.le_of_ble_eq_true rfl) dX0_sellsOf_47 ⟨Nat.zero_le _, Nat.zero_le _⟩) hS hD.2 (fun H locs hP hS => ?_)
    obtain ⟨r22, g21, hf⟩ := ob_bind hf
    refine xjr_getN (host := "QuarrelsPawned") hx hb hts in_X4 hown hK hJ (hJ.at hJs hS) (ci := 2) rfl 0 (by decide) (hJ.nest hJs 11 rfl) (fun _ h => h) g21 dX0_sellsOf_50 ?_
    refine lv_iconst (v := 1) hx hb dX0_sellsOf_53 (by decide) ?_
    obtain ⟨y23, g24, hf⟩ := ob_bind hf
    obtain ⟨h25, hf⟩ := ob_gd hf
    obtain ⟨r26, g27, hf⟩ := ob_bind hf
    refine xh_aald hx hb hK (hJ.view (hJ.at hJs hS)) 7 4 rfl g24 (j := (1 : Int32).toNatClampNeg) h25 rfl dX0_sellsOf_54 ?_
    refine xn_a g27 ?_
    refine lv_aload_n hx hb dX0_sellsOf_55 rfl (lv_at hl 0 rfl) ?_
    refine xr_get hx hb hts in_X0 hown hK hP 0 (by decide) rfl rfl 6 (by decide) (hts _ q258) (fun _ h => h) rfl (v := .ref (E 26)) rfl dX0_sellsOf_56 ?_
    obtain ⟨y29, g28, hf⟩ := ob_bind hf
    refine xr_eval hJ hJs hS ⟨hx, hb, hml, hown, hts⟩ hK hP g28 q957 hl.1 (Nat.le_of_ble_eq_true rfl) ⟨Nat.le_of_ble_eq_true rfl, Nat.le_of_ble_eq_true rfl⟩ dX0_sellsOf_59 (fun H locs hP hS => ?_)
    exact kj64 y29 H locs ls hf hP hS (lv_sub hl [] rfl)
abbrev rmX0_passes : Room := { frames := 201, cells := 0, slots := 0, locals := 8022 }
theorem cdX0_passes : yX0_passes.cls = RX0 ∧ yX0_passes.cls ≠ "java/lang/invoke/MethodHandle" ∧ yX0_passes.cls ≠ "java/lang/invoke/VarHandle" ∧ (parseMethodDescriptor yX0_passes.desc).map (fun d => d.parameters.length) = some 1 := by decide +kernel
set_option maxHeartbeats 4000000 in
set_option maxRecDepth 100000 in
theorem wkX0_passes (l : Launch) (D : va_G) (dA : Nat → ClassId) (E : Nat → Nat) (hE : wInj 136 E) (T : Tx) (J : State → Heap → Prop) (hJ : JP D dA E T J) (w : Mm) (k1 : Nat) {res : Int32 × Mm} (hf : X_passes T w k1 = some res) (hk1 : k1 < 136) (sk1 : shX k1 = (1, 149, [])) : Met l yX0_passes (ws_ yX0_passes cX0_passes 4 (some .int)) rmX0_passes (Pj D dA E J [.ref (E 0), .ref (E k1)] w) (Qwi D clX shX 136 dA E res.1 res.2) 0 0 (AE 136 E) := by
  refine xj_head (own := RX0) (by decide) rfl (Nat.le_of_ble_eq_true rfl) ?_
  intro p e s m args below meth c ls Q hQ C hP hl
  obtain ⟨hx, hb, hr, hlocks, hml, hown, hts, hK, hJs⟩ := C
  replace hl : lv_has ls 4 [(0, .ref (E 0)), (1, .ref (E k1))] := hl
  have hS : va_S (AE 136 E) s.heap s.heap [] := va_S.rf
  have hD : wD 136 E (AE 136 E) := wD.self hE
  unfold X_passes at hf
  obtain ⟨H, eH⟩ : ∃ H, H = s.heap := ⟨_, rfl⟩
  obtain ⟨locs, eL⟩ : ∃ locs : List Loc, locs = [] := ⟨_, rfl⟩
  rw [← eL] at hS ⊢
  rw [← eH] at hP
  have hS : va_S (AE 136 E) s.heap H locs := by rw [eH]; exact hS
  show W p l e rmX0_passes s m args below meth c s.heap locs 0 0 Q (F0 m 0 ls [])
  rw [← eH]
  refine lv_iconst (v := 0) hx hb dX0_passes_0 (by decide) ?_
  refine lv_istore_n (lv' := [(2, .int 0), (0, .ref (E 0)), (1, .ref (E k1))]) hx hb dX0_passes_1 rfl hl (by decide) rfl (fun ls hl => ?_)
  refine lv_aload_n hx hb dX0_passes_2 rfl (lv_at hl 2 rfl) ?_
  refine lv_iconst (v := 3) hx hb dX0_passes_3 (by decide) ?_
  refine lv_aload_n hx hb dX0_passes_4 rfl (lv_at hl 2 rfl) ?_
  refine lv_bipush (v := 10) hx hb dX0_passes_5 (by decide) ?_
  obtain ⟨q2, g1, hf⟩ := ob_bind hf
  refine xc_i (xj_runS (As := [.ref (E k1), .int 10]) (rest := [.int 3, .ref (E k1)]) hJ hJs hS ⟨hx, hb, hml, hown, hts⟩ (wkX0_drawn l D dA E hE T J hJ w k1 10 g1 hk1 sk1) (va_cwS 2 hts (lw_S q1088 q1089 q136 q1090) rfl rfl rfl cdX0_drawn.2 ⟨Nat.le_of_ble_eq_true rfl, Nat.le_of_ble_eq_true rfl⟩) hK hP hl.1 rfl rfl (Nat.le_of_ble_eq_true rfl) dX0_passes_7 ⟨Nat.zero_le _, Nat.zero_le _⟩) hS hD.2 (fun H locs hP hS => ?_)
  refine lv_iconst (v := 4) hx hb dX0_passes_10 (by decide) ?_
  have kj19 : ∀ (t3 : Int32) (H : Heap) (locs : List Loc) (ls : Array Slot), X_passes_j19 q2 k1 t3 T = some res → va_P D clX (wl shX 136 dA E q2.2) H → va_S (AE 136 E) s.heap H locs → lv_has ls 4 [(0, .ref (E 0)), (1, .ref (E k1)), (2, .int 0)] → W p l e rmX0_passes s m args below meth c H locs 0 0 Q (F0 m 19 ls [.int t3, .int 3, .ref (E k1)]) := by
    intro t3 H locs ls hf hP hS hl
    unfold X_passes_j19 at hf
    obtain ⟨w4, ew4, hf⟩ := ob_bnd hf
    refine xr_iast hx hb hK hP hD hS k1 hk1 sk1 0 rfl (j := 3) (w' := w4) (vin_c (by decide)) (by decide) ew4 dX0_passes_19 (fun H locs hP hS => ?_)
    refine lv_aload_n hx hb dX0_passes_20 rfl (lv_at hl 0 rfl) ?_
    obtain ⟨q6, g5, hf⟩ := ob_bind hf
    refine xc_i (xj_run (As := []) (rest := []) hJ hJs hS ⟨hx, hb, hml, hown, hts⟩ (k0 := 0) (wkX0_quarrels l D dA E hE T J hJ w4 g5) (cwV 0 hts (lw_V q309 q311 qs0 q136 q312) rfl rfl rfl cdX0_quarrels ⟨Nat.le_of_ble_eq_true rfl, Nat.le_of_ble_eq_true rfl⟩) hK hP (by decide) rfl rfl rfl hl.1 rfl rfl (Nat.le_of_ble_eq_true rfl) dX0_passes_21 ⟨Nat.zero_le _, Nat.zero_le _⟩) hS hD.2 (fun H locs hP hS => ?_)
    have kj39 : ∀ (w7 : Mm) (H : Heap) (locs : List Loc) (ls : Array Slot), X_passes_j39 k1 T w7 = some res → va_P D clX (wl shX 136 dA E w7) H → va_S (AE 136 E) s.heap H locs → lv_has ls 4 [(0, .ref (E 0)), (1, .ref (E k1)), (2, .int 0)] → W p l e rmX0_passes s m args below meth c H locs 0 0 Q (F0 m 39 ls []) := by
      intro w7 H locs ls hf hP hS hl
      unfold X_passes_j39 at hf
      refine lv_iconst (v := 0) hx hb dX0_passes_39 (by decide) ?_
      refine lv_istore_n (lv' := [(3, .int 0), (0, .ref (E 0)), (1, .ref (E k1)), (2, .int 0)]) hx hb dX0_passes_40 rfl hl (by decide) rfl (fun ls hl => ?_)
      obtain ⟨b11, hb11, hf⟩ := ob_bind hf
      obtain ⟨n11, hn11⟩ := lp_some hb11
      have kL41 : ∀ (n : Nat) (w8 : Mm) (v2_9 : Int32) (v3_10 : Int32), lpF (fun (q11 : Mm × Int32 × Int32) => X_passes_b41 k1 T q11.1 q11.2.1 q11.2.2) n (w8, v2_9, v3_10) = some b11 → (∀ (H : Heap) (locs : List Loc) (ls : Array Slot), va_P D clX (wl shX 136 dA E b11.1) H → va_S (AE 136 E) s.heap H locs → lv_has ls 4 [(1, .ref (E k1)), (2, .int b11.2)] → W p l e rmX0_passes s m args below meth c H locs 0 0 Q (F0 m 86 ls [])) → ∀ (H : Heap) (locs : List Loc) (ls : Array Slot), va_P D clX (wl shX 136 dA E w8) H → va_S (AE 136 E) s.heap H locs → lv_has ls 4 [(0, .ref (E 0)), (1, .ref (E k1)), (2, .int v2_9), (3, .int v3_10)] → W p l e rmX0_passes s m args below meth c H locs 0 0 Q (F0 m 41 ls []) := by
        intro n
        induction n with
        | zero =>
          intro w8 v2_9 v3_10 hq9
          cases hq9
        | succ n ih =>
          intro w8 v2_9 v3_10 hq9 K11_0 H locs ls hP hS hl
          obtain ⟨r11, hf, h11a, h11b⟩ := lpF_step hq9
          replace hf : X_passes_b41 k1 T w8 v2_9 v3_10 = some r11 := hf
          unfold X_passes_b41 at hf
          refine lv_iload_n hx hb dX0_passes_41 rfl (lv_at hl 3 rfl) ?_
          refine lv_aload_n hx hb dX0_passes_42 rfl (lv_at hl 0 rfl) ?_
          obtain ⟨q13, g12, hf⟩ := ob_bind hf
          refine xc_i (xj_run (As := []) (rest := [.int v3_10]) hJ hJs hS ⟨hx, hb, hml, hown, hts⟩ (k0 := 0) (wkX0_quarrels l D dA E hE T J hJ w8 g12) (cwV 0 hts (lw_V q309 q311 qs0 q136 q312) rfl rfl rfl cdX0_quarrels ⟨Nat.le_of_ble_eq_true rfl, Nat.le_of_ble_eq_true rfl⟩) hK hP (by decide) rfl rfl rfl hl.1 rfl rfl (Nat.le_of_ble_eq_true rfl) dX0_passes_43 ⟨Nat.zero_le _, Nat.zero_le _⟩) hS hD.2 (fun H locs hP hS => ?_)
          refine lv_icmp_ge (tgt := 86) hx hb dX0_passes_46 (by decide) (fun c14 => ?_) (fun c14 => ?_)
          · replace hf := ob_t hf c14
            obtain rfl := ob_s hf
            obtain rfl := h11b _ rfl
            exact K11_0 H locs ls hP hS (lv_sub hl [1, 2] rfl)
          · replace hf := ob_f hf c14
            refine lv_aload_n hx hb dX0_passes_49 rfl (lv_at hl 1 rfl) ?_
            refine lv_iconst (v := 4) hx hb dX0_passes_50 (by decide) ?_
            refine lv_iload_n hx hb dX0_passes_51 rfl (lv_at hl 3 rfl) ?_
            refine lv_iadd hx hb dX0_passes_52 ?_
            obtain ⟨h15, hf⟩ := ob_gd hf
            refine xr_iald hx hb hK hP k1 hk1 sk1 0 rfl (j := (4 + v3_10).toNatClampNeg) h15 rfl dX0_passes_53 ?_
            refine lv_iconst (v := 1) hx hb dX0_passes_54 (by decide) ?_
            refine lv_icmp_ne (tgt := 80) hx hb dX0_passes_55 (by decide) (fun c16 => ?_) (fun c16 => ?_)
            · replace hf := ob_f hf c16
              obtain ⟨v3_17, ev3_17, hf⟩ := ob_bnd hf
              refine lv_iinc (v := v3_17) (lv' := [(3, .int v3_17), (0, .ref (E 0)), (1, .ref (E k1)), (2, .int v2_9)]) hx hb dX0_passes_80 hl (k := 3) rfl (by rw [ev3_17]; rfl) (by decide) rfl (fun ls hl => ?_)
              refine lv_goto (tgt := 41) hx hb dX0_passes_83 (by decide) ?_
              obtain rfl := ob_s hf
              exact ih _ _ _ (h11a _ rfl) K11_0 H locs ls hP hS (lv_sub hl [1, 2, 3, 0] rfl)
            · replace hf := ob_t hf c16
              refine lv_aload_n hx hb dX0_passes_58 rfl (lv_at hl 0 rfl) ?_
              refine lv_aload_n hx hb dX0_passes_59 rfl (lv_at hl 1 rfl) ?_
              refine lv_iload_n hx hb dX0_passes_60 rfl (lv_at hl 3 rfl) ?_
              obtain ⟨q19, g18, hf⟩ := ob_bind hf
              refine xc_i (xj_run (As := [.ref (E k1), .int v3_10]) (rest := []) hJ hJs hS ⟨hx, hb, hml, hown, hts⟩ (k0 := 0) (wkX0_sellsOf l D dA E hE T J hJ w8 k1 v3_10 g18 hk1 sk1) (cwV 2 hts (lw_V q1095 q1097 qs36 q136 q1098) rfl rfl rfl cdX0_sellsOf ⟨Nat.le_of_ble_eq_true rfl, Nat.le_of_ble_eq_true rfl⟩) hK hP (by decide) rfl rfl rfl hl.1 rfl rfl (Nat.le_of_ble_eq_true rfl) dX0_passes_61 ⟨Nat.zero_le _, Nat.zero_le _⟩) hS hD.2 (fun H locs hP hS => ?_)
              refine lv_iconst (v := 1) hx hb dX0_passes_64 (by decide) ?_
              refine lv_icmp_ge (tgt := 71) hx hb dX0_passes_65 (by decide) (fun c20 => ?_) (fun c20 => ?_)
              · replace hf := ob_t hf c20
                refine lv_aload_n hx hb dX0_passes_71 rfl (lv_at hl 1 rfl) ?_
                refine lv_iload_n hx hb dX0_passes_72 rfl (lv_at hl 3 rfl) ?_
                refine lv_iconst (v := 3) hx hb dX0_passes_73 (by decide) ?_
                obtain ⟨q22, g21, hf⟩ := ob_bind hf
                refine xc_v (xj_runS (As := [.ref (E k1), .int v3_10, .int 3]) (rest := []) hJ hJs hS ⟨hx, hb, hml, hown, hts⟩ (wkX0_writes l D dA E hE T J hJ q19.2 k1 v3_10 3 g21 hk1 sk1) (va_cwS 3 hts (lw_S q919 q920 q136 q921) rfl rfl rfl cdX0_writes.2 ⟨Nat.le_of_ble_eq_true rfl, Nat.le_of_ble_eq_true rfl⟩) hK hP hl.1 rfl rfl (Nat.le_of_ble_eq_true rfl) dX0_passes_74 ⟨Nat.zero_le _, Nat.zero_le _⟩) hS hD.2 (fun H locs hP hS => ?_)
                obtain ⟨v2_23, ev2_23, hf⟩ := ob_bnd hf
                refine lv_iinc (v := v2_23) (lv' := [(2, .int v2_23), (0, .ref (E 0)), (1, .ref (E k1)), (3, .int v3_10)]) hx hb dX0_passes_77 hl (k := 2) rfl (by rw [ev2_23]; rfl) (by decide) rfl (fun ls hl => ?_)
                obtain ⟨v3_24, ev3_24, hf⟩ := ob_bnd hf
                refine lv_iinc (v := v3_24) (lv' := [(3, .int v3_24), (2, .int v2_23), (0, .ref (E 0)), (1, .ref (E k1))]) hx hb dX0_passes_80 hl (k := 3) rfl (by rw [ev3_24]; rfl) (by decide) rfl (fun ls hl => ?_)
                refine lv_goto (tgt := 41) hx hb dX0_passes_83 (by decide) ?_
                obtain rfl := ob_s hf
                exact ih _ _ _ (h11a _ rfl) K11_0 H locs ls hP hS (lv_sub hl [2, 3, 1, 0] rfl)
              · replace hf := ob_f hf c20
                refine lv_goto (tgt := 80) hx hb dX0_passes_68 (by decide) ?_
                obtain ⟨v3_25, ev3_25, hf⟩ := ob_bnd hf
                refine lv_iinc (v := v3_25) (lv' := [(3, .int v3_25), (0, .ref (E 0)), (1, .ref (E k1)), (2, .int v2_9)]) hx hb dX0_passes_80 hl (k := 3) rfl (by rw [ev3_25]; rfl) (by decide) rfl (fun ls hl => ?_)
                refine lv_goto (tgt := 41) hx hb dX0_passes_83 (by decide) ?_
                obtain rfl := ob_s hf
                exact ih _ _ _ (h11a _ rfl) K11_0 H locs ls hP hS (lv_sub hl [1, 2, 3, 0] rfl)
      refine kL41 n11 w7 0 0 hn11 (fun H locs ls hP hS hl => ?_) H locs ls hP hS (lv_sub hl [1, 2, 3, 0] rfl)
      replace hf : X_passes_x41_86 b11 k1 = some res := hf
      unfold X_passes_x41_86 at hf
      refine lv_aload_n hx hb dX0_passes_86 rfl (lv_at hl 0 rfl) ?_
      refine lv_iconst (v := 0) hx hb dX0_passes_87 (by decide) ?_
      refine lv_dup2_11 hx hb dX0_passes_88 rfl rfl ?_
      refine xr_iald hx hb hK hP k1 hk1 sk1 0 rfl (j := 0) (vin_c (by decide)) (by decide) dX0_passes_89 ?_
      refine lv_iconst (v := 1) hx hb dX0_passes_90 (by decide) ?_
      refine lv_iadd hx hb dX0_passes_91 ?_
      obtain ⟨w26, ew26, hf⟩ := ob_bnd hf
      refine xr_iast hx hb hK hP hD hS k1 hk1 sk1 0 rfl (j := 0) (w' := w26) (vin_c (by decide)) (by decide) ew26 dX0_passes_92 (fun H locs hP hS => ?_)
      refine lv_iload_n hx hb dX0_passes_93 rfl (lv_at hl 1 rfl) ?_
      obtain rfl := ob_s hf
      subst hQ
      exact xe_i hx hb hr hlocks hP hS dX0_passes_94
    refine lv_if_le (tgt := 39) hx hb dX0_passes_24 (by decide) (fun c27 => ?_) (fun c27 => ?_)
    · replace hf := ob_t hf c27
      exact kj39 w4 H locs ls hf hP hS (lv_sub hl [0, 1, 2] rfl)
    · replace hf := ob_f hf c27
      refine lv_aload_n hx hb dX0_passes_27 rfl (lv_at hl 1 rfl) ?_
      refine lv_aload_n hx hb dX0_passes_28 rfl (lv_at hl 1 rfl) ?_
      refine lv_aload_n hx hb dX0_passes_29 rfl (lv_at hl 0 rfl) ?_
      obtain ⟨q29, g28, hf⟩ := ob_bind hf
      refine xc_i (xj_run (As := []) (rest := [.ref (E k1), .ref (E k1)]) hJ hJs hS ⟨hx, hb, hml, hown, hts⟩ (k0 := 0) (wkX0_quarrels l D dA E hE T J hJ w4 g28) (cwV 0 hts (lw_V q309 q311 qs0 q136 q312) rfl rfl rfl cdX0_quarrels ⟨Nat.le_of_ble_eq_true rfl, Nat.le_of_ble_eq_true rfl⟩) hK hP (by decide) rfl rfl rfl hl.1 rfl rfl (Nat.le_of_ble_eq_true rfl) dX0_passes_30 ⟨Nat.zero_le _, Nat.zero_le _⟩) hS hD.2 (fun H locs hP hS => ?_)
      obtain ⟨q31, g30, hf⟩ := ob_bind hf
      refine xc_i (xj_runS (As := [.ref (E k1), .int q29]) (rest := [.ref (E k1)]) hJ hJs hS ⟨hx, hb, hml, hown, hts⟩ (wkX0_drawn l D dA E hE T J hJ w4 k1 q29 g30 hk1 sk1) (va_cwS 2 hts (lw_S q1088 q1089 q136 q1090) rfl rfl rfl cdX0_drawn.2 ⟨Nat.le_of_ble_eq_true rfl, Nat.le_of_ble_eq_true rfl⟩) hK hP hl.1 rfl rfl (Nat.le_of_ble_eq_true rfl) dX0_passes_33 ⟨Nat.zero_le _, Nat.zero_le _⟩) hS hD.2 (fun H locs hP hS => ?_)
      obtain ⟨q33, g32, hf⟩ := ob_bind hf
      refine xc_v (xj_runS (As := [.ref (E k1), .int q31.1]) (rest := []) hJ hJs hS ⟨hx, hb, hml, hown, hts⟩ (wkX0_warms l D dA E hE T J hJ q31.2 k1 q31.1 g32 hk1 sk1) (va_cwS 2 hts (lw_S q1091 q1092 q136 q1093) rfl rfl rfl cdX0_warms.2 ⟨Nat.le_of_ble_eq_true rfl, Nat.le_of_ble_eq_true rfl⟩) hK hP hl.1 rfl rfl (Nat.le_of_ble_eq_true rfl) dX0_passes_36 ⟨Nat.zero_le _, Nat.zero_le _⟩) hS hD.2 (fun H locs hP hS => ?_)
      exact kj39 q33 H locs ls hf hP hS (lv_sub hl [0, 1, 2] rfl)
  refine lv_icmp_ge (tgt := 18) hx hb dX0_passes_11 (by decide) (fun c34 => ?_) (fun c34 => ?_)
  · replace hf := ob_t hf c34
    refine lv_iconst (v := 0) hx hb dX0_passes_18 (by decide) ?_
    exact kj19 0 H locs ls hf hP hS (lv_sub hl [1, 2, 0] rfl)
  · replace hf := ob_f hf c34
    refine lv_iconst (v := 1) hx hb dX0_passes_14 (by decide) ?_
    refine lv_goto (tgt := 19) hx hb dX0_passes_15 (by decide) ?_
    exact kj19 1 H locs ls hf hP hS (lv_sub hl [1, 2, 0] rfl)
abbrev rmX0_day : Room := { frames := 202, cells := 0, slots := 0, locals := 8045 }
theorem cdX0_day : yX0_day.cls = RX0 ∧ yX0_day.cls ≠ "java/lang/invoke/MethodHandle" ∧ yX0_day.cls ≠ "java/lang/invoke/VarHandle" ∧ (parseMethodDescriptor yX0_day.desc).map (fun d => d.parameters.length) = some 1 := by decide +kernel
set_option maxHeartbeats 4000000 in
set_option maxRecDepth 100000 in
theorem wkX0_day (l : Launch) (D : va_G) (dA : Nat → ClassId) (E : Nat → Nat) (hE : wInj 136 E) (T : Tx) (J : State → Heap → Prop) (hJ : JP D dA E T J) (w : Mm) (a1 : Int32) {res : Int32 × Mm} (hf : X_day T w a1 = some res) : Met l yX0_day (ws_ yX0_day cX0_day 4 (some .int)) rmX0_day (Pj D dA E J [.ref (E 0), .int a1] w) (Qwi D clX shX 136 dA E res.1 res.2) 0 0 (AE 136 E) := by
  refine xj_head (own := RX0) (by decide) rfl (Nat.le_of_ble_eq_true rfl) ?_
  intro p e s m args below meth c ls Q hQ C hP hl
  obtain ⟨hx, hb, hr, hlocks, hml, hown, hts, hK, hJs⟩ := C
  replace hl : lv_has ls 4 [(0, .ref (E 0)), (1, .int a1)] := hl
  have hS : va_S (AE 136 E) s.heap s.heap [] := va_S.rf
  have hD : wD 136 E (AE 136 E) := wD.self hE
  unfold X_day at hf
  obtain ⟨H, eH⟩ : ∃ H, H = s.heap := ⟨_, rfl⟩
  obtain ⟨locs, eL⟩ : ∃ locs : List Loc, locs = [] := ⟨_, rfl⟩
  rw [← eL] at hS ⊢
  rw [← eH] at hP
  have hS : va_S (AE 136 E) s.heap H locs := by rw [eH]; exact hS
  show W p l e rmX0_day s m args below meth c s.heap locs 0 0 Q (F0 m 0 ls [])
  rw [← eH]
  refine lv_iload_n hx hb dX0_day_0 rfl (lv_at hl 1 rfl) ?_
  refine lv_iconst (v := 1) hx hb dX0_day_1 (by decide) ?_
  refine lv_bipush (v := 60) hx hb dX0_day_2 (by decide) ?_
  obtain ⟨q2, g1, hf⟩ := ob_bind hf
  refine xc_z (xj_runS (As := [.int a1, .int 1, .int 60]) (rest := []) hJ hJs hS ⟨hx, hb, hml, hown, hts⟩ (wkX0_in l D dA E hE T J hJ w a1 1 60 g1) (va_cwS 3 hts (lw_S q319 q320 q136 q321) rfl rfl rfl cdX0_in.2 ⟨Nat.le_of_ble_eq_true rfl, Nat.le_of_ble_eq_true rfl⟩) hK hP hl.1 rfl rfl (Nat.le_of_ble_eq_true rfl) dX0_day_4 ⟨Nat.zero_le _, Nat.zero_le _⟩) hS hD.2 (fun H locs zq2 hP hS => ?_)
  refine lv_if_eq (tgt := 27) hx hb dX0_day_7 (by decide) (fun c3 => ?_) (fun c3 => ?_)
  · replace hf := ob_t hf c3
    refine lv_iconst (v := (-1)) hx hb dX0_day_27 (by decide) ?_
    obtain rfl := ob_s hf
    subst hQ
    exact xe_i hx hb hr hlocks hP hS dX0_day_28
  · replace hf := ob_f hf c3
    refine lv_aload_n hx hb dX0_day_10 rfl (lv_at hl 0 rfl) ?_
    refine xr_get hx hb hts in_X0 hown hK hP 0 (by decide) rfl rfl 0 (by decide) (hts _ q252) (fun _ h => h) rfl (v := .ref (E 1)) rfl dX0_day_11 ?_
    refine xr_getN (host := "QuarrelsPawned") hx hb hts in_X1 hown hK hP 1 (by decide) rfl rfl 1 (by decide) (hJ.nest hJs 1 rfl) (fun _ h => h) rfl (v := .ref (E 4)) rfl dX0_day_14 ?_
    refine lv_iconst (v := 0) hx hb dX0_day_17 (by decide) ?_
    refine xr_iald hx hb hK hP 4 (by decide) rfl 0 rfl (j := 0) (vin_c (by decide)) (by decide) dX0_day_18 ?_
    refine lv_iload_n hx hb dX0_day_19 rfl (lv_at hl 1 rfl) ?_
    refine lv_iadd hx hb dX0_day_20 ?_
    refine lv_sipush (v := 9999) hx hb dX0_day_21 (by decide) ?_
    refine lv_icmp_le (tgt := 29) hx hb dX0_day_24 (by decide) (fun c4 => ?_) (fun c4 => ?_)
    · replace hf := ob_t hf c4
      refine lv_iconst (v := 0) hx hb dX0_day_29 (by decide) ?_
      refine lv_istore_n (lv' := [(2, .int 0), (0, .ref (E 0)), (1, .int a1)]) hx hb dX0_day_30 rfl hl (by decide) rfl (fun ls hl => ?_)
      refine lv_iconst (v := 0) hx hb dX0_day_31 (by decide) ?_
      refine lv_istore_n (lv' := [(3, .int 0), (2, .int 0), (0, .ref (E 0)), (1, .int a1)]) hx hb dX0_day_32 rfl hl (by decide) rfl (fun ls hl => ?_)
      obtain ⟨b8, hb8, hf⟩ := ob_bind hf
      obtain ⟨n8, hn8⟩ := lp_some hb8
      have kL33 : ∀ (n : Nat) (w5 : Mm) (v2_6 : Int32) (v3_7 : Int32), lpF (fun (q8 : Mm × Int32 × Int32) => X_day_b33 a1 T q8.1 q8.2.1 q8.2.2) n (w5, v2_6, v3_7) = some b8 → (∀ (H : Heap) (locs : List Loc) (ls : Array Slot), va_P D clX (wl shX 136 dA E b8.1) H → va_S (AE 136 E) s.heap H locs → lv_has ls 4 [(2, .int b8.2)] → W p l e rmX0_day s m args below meth c H locs 0 0 Q (F0 m 65 ls [])) → ∀ (H : Heap) (locs : List Loc) (ls : Array Slot), va_P D clX (wl shX 136 dA E w5) H → va_S (AE 136 E) s.heap H locs → lv_has ls 4 [(0, .ref (E 0)), (1, .int a1), (2, .int v2_6), (3, .int v3_7)] → W p l e rmX0_day s m args below meth c H locs 0 0 Q (F0 m 33 ls []) := by
        intro n
        induction n with
        | zero =>
          intro w5 v2_6 v3_7 hq9
          cases hq9
        | succ n ih =>
          intro w5 v2_6 v3_7 hq9 K8_0 H locs ls hP hS hl
          obtain ⟨r8, hf, h8a, h8b⟩ := lpF_step hq9
          replace hf : X_day_b33 a1 T w5 v2_6 v3_7 = some r8 := hf
          unfold X_day_b33 at hf
          refine lv_iload_n hx hb dX0_day_33 rfl (lv_at hl 3 rfl) ?_
          refine lv_iload_n hx hb dX0_day_34 rfl (lv_at hl 1 rfl) ?_
          refine lv_icmp_ge (tgt := 65) hx hb dX0_day_35 (by decide) (fun c9 => ?_) (fun c9 => ?_)
          · replace hf := ob_t hf c9
            obtain rfl := ob_s hf
            obtain rfl := h8b _ rfl
            exact K8_0 H locs ls hP hS (lv_sub hl [2] rfl)
          · replace hf := ob_f hf c9
            refine lv_aload_n hx hb dX0_day_38 rfl (lv_at hl 0 rfl) ?_
            refine xr_get hx hb hts in_X0 hown hK hP 0 (by decide) rfl rfl 0 (by decide) (hts _ q252) (fun _ h => h) rfl (v := .ref (E 1)) rfl dX0_day_39 ?_
            obtain ⟨q11, g10, hf⟩ := ob_bind hf
            refine xc_v (xj_run (As := []) (rest := []) hJ hJs hS ⟨hx, hb, hml, hown, hts⟩ (k0 := 1) (wkX1_keeps l D dA E hE T J hJ w5 g10) (cwV 0 hts (lw_V q910 q911 q912 q137 q913) rfl rfl rfl cdX1_keeps ⟨Nat.le_of_ble_eq_true rfl, Nat.le_of_ble_eq_true rfl⟩) hK hP (by decide) rfl rfl rfl hl.1 rfl rfl (Nat.le_of_ble_eq_true rfl) dX0_day_42 ⟨Nat.zero_le _, Nat.zero_le _⟩) hS hD.2 (fun H locs hP hS => ?_)
            refine lv_iload_n hx hb dX0_day_45 rfl (lv_at hl 2 rfl) ?_
            refine lv_aload_n hx hb dX0_day_46 rfl (lv_at hl 0 rfl) ?_
            refine lv_aload_n hx hb dX0_day_47 rfl (lv_at hl 0 rfl) ?_
            refine xr_get hx hb hts in_X0 hown hK hP 0 (by decide) rfl rfl 0 (by decide) (hts _ q252) (fun _ h => h) rfl (v := .ref (E 1)) rfl dX0_day_48 ?_
            refine xr_getN (host := "QuarrelsPawned") hx hb hts in_X1 hown hK hP 1 (by decide) rfl rfl 1 (by decide) (hJ.nest hJs 1 rfl) (fun _ h => h) rfl (v := .ref (E 4)) rfl dX0_day_51 ?_
            obtain ⟨q13, g12, hf⟩ := ob_bind hf
            refine xc_i (xj_run (As := [.ref (E 4)]) (rest := [.int v2_6]) hJ hJs hS ⟨hx, hb, hml, hown, hts⟩ (k0 := 0) (wkX0_passes l D dA E hE T J hJ q11 4 g12 (by decide) rfl) (cwV 1 hts (lw_V q1084 q1086 qs35 q136 q1087) rfl rfl rfl cdX0_passes ⟨Nat.le_of_ble_eq_true rfl, Nat.le_of_ble_eq_true rfl⟩) hK hP (by decide) rfl rfl rfl hl.1 rfl rfl (Nat.le_of_ble_eq_true rfl) dX0_day_54 ⟨Nat.zero_le _, Nat.zero_le _⟩) hS hD.2 (fun H locs hP hS => ?_)
            refine lv_iadd hx hb dX0_day_57 ?_
            obtain ⟨v2_14, ev2_14, hf⟩ := ob_bnd hf
            refine xn_i ev2_14 ?_
            refine lv_istore_n (lv' := [(2, .int v2_14), (0, .ref (E 0)), (1, .int a1), (3, .int v3_7)]) hx hb dX0_day_58 rfl hl (by decide) rfl (fun ls hl => ?_)
            obtain ⟨v3_15, ev3_15, hf⟩ := ob_bnd hf
            refine lv_iinc (v := v3_15) (lv' := [(3, .int v3_15), (2, .int v2_14), (0, .ref (E 0)), (1, .int a1)]) hx hb dX0_day_59 hl (k := 3) rfl (by rw [ev3_15]; rfl) (by decide) rfl (fun ls hl => ?_)
            refine lv_goto (tgt := 33) hx hb dX0_day_62 (by decide) ?_
            obtain rfl := ob_s hf
            exact ih _ _ _ (h8a _ rfl) K8_0 H locs ls hP hS (lv_sub hl [2, 3, 1, 0] rfl)
      refine kL33 n8 w 0 0 hn8 (fun H locs ls hP hS hl => ?_) H locs ls hP hS (lv_sub hl [2, 3, 1, 0] rfl)
      replace hf : X_day_x33_65 b8 = some res := hf
      unfold X_day_x33_65 at hf
      refine lv_iload_n hx hb dX0_day_65 rfl (lv_at hl 0 rfl) ?_
      obtain rfl := ob_s hf
      subst hQ
      exact xe_i hx hb hr hlocks hP hS dX0_day_66
    · replace hf := ob_f hf c4
      refine lv_iconst (v := (-1)) hx hb dX0_day_27 (by decide) ?_
      obtain rfl := ob_s hf
      subst hQ
      exact xe_i hx hb hr hlocks hP hS dX0_day_28
abbrev rmX0_passesAll : Room := { frames := 203, cells := 0, slots := 0, locals := 8068 }
theorem cdX0_passesAll : yX0_passesAll.cls = RX0 ∧ yX0_passesAll.cls ≠ "java/lang/invoke/MethodHandle" ∧ yX0_passesAll.cls ≠ "java/lang/invoke/VarHandle" ∧ (parseMethodDescriptor yX0_passesAll.desc).map (fun d => d.parameters.length) = some 1 := by decide +kernel
set_option maxHeartbeats 4000000 in
set_option maxRecDepth 100000 in
theorem wkX0_passesAll (l : Launch) (D : va_G) (dA : Nat → ClassId) (E : Nat → Nat) (hE : wInj 136 E) (T : Tx) (J : State → Heap → Prop) (hJ : JP D dA E T J) (w : Mm) (a1 : Int32) {res : Int32 × Mm} (hf : X_passesAll T w a1 = some res) : Met l yX0_passesAll (ws_ yX0_passesAll cX0_passesAll 3 (some .boolean)) rmX0_passesAll (Pj D dA E J [.ref (E 0), .int a1] w) (Qwz D clX shX 136 dA E res.1 res.2) 0 0 (AE 136 E) := by
  refine xj_head (own := RX0) (by decide) rfl (Nat.le_of_ble_eq_true rfl) ?_
  intro p e s m args below meth c ls Q hQ C hP hl
  obtain ⟨hx, hb, hr, hlocks, hml, hown, hts, hK, hJs⟩ := C
  replace hl : lv_has ls 3 [(0, .ref (E 0)), (1, .int a1)] := hl
  have hS : va_S (AE 136 E) s.heap s.heap [] := va_S.rf
  have hD : wD 136 E (AE 136 E) := wD.self hE
  unfold X_passesAll at hf
  obtain ⟨H, eH⟩ : ∃ H, H = s.heap := ⟨_, rfl⟩
  obtain ⟨locs, eL⟩ : ∃ locs : List Loc, locs = [] := ⟨_, rfl⟩
  rw [← eL] at hS ⊢
  rw [← eH] at hP
  have hS : va_S (AE 136 E) s.heap H locs := by rw [eH]; exact hS
  show W p l e rmX0_passesAll s m args below meth c s.heap locs 0 0 Q (F0 m 0 ls [])
  rw [← eH]
  refine lv_iconst (v := 0) hx hb dX0_passesAll_0 (by decide) ?_
  refine lv_istore_n (lv' := [(2, .int 0), (0, .ref (E 0)), (1, .int a1)]) hx hb dX0_passesAll_1 rfl hl (by decide) rfl (fun ls hl => ?_)
  obtain ⟨b3, hb3, hf⟩ := ob_bind hf
  obtain ⟨n3, hn3⟩ := lp_some hb3
  have kL2 : ∀ (n : Nat) (w1 : Mm) (v2_2 : Int32), lpF (fun (q3 : Mm × Int32) => X_passesAll_b2 a1 T q3.1 q3.2) n (w1, v2_2) = some b3 → (∀ (x3_0 : Mm), b3 = .inl x3_0 → ∀ (H : Heap) (locs : List Loc) (ls : Array Slot), va_P D clX (wl shX 136 dA E x3_0) H → va_S (AE 136 E) s.heap H locs → lv_has ls 3 [] → W p l e rmX0_passesAll s m args below meth c H locs 0 0 Q (F0 m 16 ls [])) → (∀ (x3_1 : Mm), b3 = .inr x3_1 → ∀ (H : Heap) (locs : List Loc) (ls : Array Slot), va_P D clX (wl shX 136 dA E x3_1) H → va_S (AE 136 E) s.heap H locs → lv_has ls 3 [] → W p l e rmX0_passesAll s m args below meth c H locs 0 0 Q (F0 m 24 ls [])) → ∀ (H : Heap) (locs : List Loc) (ls : Array Slot), va_P D clX (wl shX 136 dA E w1) H → va_S (AE 136 E) s.heap H locs → lv_has ls 3 [(0, .ref (E 0)), (1, .int a1), (2, .int v2_2)] → W p l e rmX0_passesAll s m args below meth c H locs 0 0 Q (F0 m 2 ls []) := by
    intro n
    induction n with
    | zero =>
      intro w1 v2_2 hq9
      cases hq9
    | succ n ih =>
      intro w1 v2_2 hq9 K3_0 K3_1 H locs ls hP hS hl
      obtain ⟨r3, hf, h3a, h3b⟩ := lpF_step hq9
      replace hf : X_passesAll_b2 a1 T w1 v2_2 = some r3 := hf
      unfold X_passesAll_b2 at hf
      refine lv_iload_n hx hb dX0_passesAll_2 rfl (lv_at hl 2 rfl) ?_
      refine lv_iload_n hx hb dX0_passesAll_3 rfl (lv_at hl 1 rfl) ?_
      refine lv_icmp_ge (tgt := 24) hx hb dX0_passesAll_4 (by decide) (fun c4 => ?_) (fun c4 => ?_)
      · replace hf := ob_t hf c4
        obtain rfl := ob_s hf
        exact K3_1 _ (h3b _ rfl).symm H locs ls hP hS (lv_sub hl [] rfl)
      · replace hf := ob_f hf c4
        refine lv_aload_n hx hb dX0_passesAll_7 rfl (lv_at hl 0 rfl) ?_
        refine lv_iconst (v := 1) hx hb dX0_passesAll_8 (by decide) ?_
        obtain ⟨q6, g5, hf⟩ := ob_bind hf
        refine xc_i (xj_run (As := [.int 1]) (rest := []) hJ hJs hS ⟨hx, hb, hml, hown, hts⟩ (k0 := 0) (wkX0_day l D dA E hE T J hJ w1 1 g5) (cwV 1 hts (lw_V q1144 q1081 q1082 q136 q1083) rfl rfl rfl cdX0_day ⟨Nat.le_of_ble_eq_true rfl, Nat.le_of_ble_eq_true rfl⟩) hK hP (by decide) rfl rfl rfl hl.1 rfl rfl (Nat.le_of_ble_eq_true rfl) dX0_passesAll_9 ⟨Nat.zero_le _, Nat.zero_le _⟩) hS hD.2 (fun H locs hP hS => ?_)
        refine lv_iconst (v := (-1)) hx hb dX0_passesAll_12 (by decide) ?_
        refine lv_icmp_ne (tgt := 18) hx hb dX0_passesAll_13 (by decide) (fun c7 => ?_) (fun c7 => ?_)
        · replace hf := ob_f hf c7
          obtain ⟨v2_8, ev2_8, hf⟩ := ob_bnd hf
          refine lv_iinc (v := v2_8) (lv' := [(2, .int v2_8), (0, .ref (E 0)), (1, .int a1)]) hx hb dX0_passesAll_18 hl (k := 2) rfl (by rw [ev2_8]; rfl) (by decide) rfl (fun ls hl => ?_)
          refine lv_goto (tgt := 2) hx hb dX0_passesAll_21 (by decide) ?_
          obtain rfl := ob_s hf
          exact ih _ _ (h3a _ rfl) K3_0 K3_1 H locs ls hP hS (lv_sub hl [1, 2, 0] rfl)
        · replace hf := ob_t hf c7
          obtain rfl := ob_s hf
          exact K3_0 _ (h3b _ rfl).symm H locs ls hP hS (lv_sub hl [] rfl)
  refine kL2 n3 w 0 hn3 (fun x3_0 ex3_0 H locs ls hP hS hl => ?_) (fun x3_1 ex3_1 H locs ls hP hS hl => ?_) H locs ls hP hS (lv_sub hl [1, 2, 0] rfl)
  · subst ex3_0
    replace hf : X_passesAll_x2_16 x3_0 = some res := hf
    unfold X_passesAll_x2_16 at hf
    refine lv_iconst (v := 0) hx hb dX0_passesAll_16 (by decide) ?_
    obtain rfl := ob_s hf
    subst hQ
    exact xe_z hx hb hr hlocks hP hS (Or.inl rfl) dX0_passesAll_17
  · subst ex3_1
    replace hf : X_passesAll_x2_24 x3_1 = some res := hf
    unfold X_passesAll_x2_24 at hf
    refine lv_iconst (v := 1) hx hb dX0_passesAll_24 (by decide) ?_
    obtain rfl := ob_s hf
    subst hQ
    exact xe_z hx hb hr hlocks hP hS (Or.inr rfl) dX0_passesAll_25
abbrev rmX0_does : Room := { frames := 204, cells := 0, slots := 0, locals := 8090 }
theorem cdX0_does : yX0_does.cls = RX0 ∧ yX0_does.cls ≠ "java/lang/invoke/MethodHandle" ∧ yX0_does.cls ≠ "java/lang/invoke/VarHandle" ∧ (parseMethodDescriptor yX0_does.desc).map (fun d => d.parameters.length) = some 1 := by decide +kernel
set_option maxHeartbeats 4000000 in
set_option maxRecDepth 100000 in
theorem wkX0_does (l : Launch) (D : va_G) (dA : Nat → ClassId) (E : Nat → Nat) (hE : wInj 136 E) (T : Tx) (J : State → Heap → Prop) (hJ : JP D dA E T J) (w : Mm) (t1 : Nat) {res : Int32 × Mm} (hf : X_does T w t1 = some res) : Met l yX0_does (ws_ yX0_does cX0_does 2 (some .boolean)) rmX0_does (Pj D dA E J [.ref (E 0), .ref t1] w) (Qwz D clX shX 136 dA E res.1 res.2) 0 0 (AE 136 E) := by
  refine xj_head (own := RX0) (by decide) rfl (Nat.le_of_ble_eq_true rfl) ?_
  intro p e s m args below meth c ls Q hQ C hP hl
  obtain ⟨hx, hb, hr, hlocks, hml, hown, hts, hK, hJs⟩ := C
  replace hl : lv_has ls 2 [(0, .ref (E 0)), (1, .ref t1)] := hl
  have hS : va_S (AE 136 E) s.heap s.heap [] := va_S.rf
  have hD : wD 136 E (AE 136 E) := wD.self hE
  unfold X_does at hf
  obtain ⟨H, eH⟩ : ∃ H, H = s.heap := ⟨_, rfl⟩
  obtain ⟨locs, eL⟩ : ∃ locs : List Loc, locs = [] := ⟨_, rfl⟩
  rw [← eL] at hS ⊢
  rw [← eH] at hP
  have hS : va_S (AE 136 E) s.heap H locs := by rw [eH]; exact hS
  show W p l e rmX0_does s m args below meth c s.heap locs 0 0 Q (F0 m 0 ls [])
  rw [← eH]
  refine lv_aload_n hx hb dX0_does_0 rfl (lv_at hl 1 rfl) ?_
  obtain ⟨g1, hf⟩ := ob_gp hf
  obtain ⟨q3, g2, hf⟩ := ob_bind hf
  refine xjr_i (xjr_run (As := []) (rest := []) hJ hJs hS ⟨hx, hb, hml, hown, hts⟩ (wkX16_sort l D dA J hJ.jr (tH T) t1 g2) (cwV 0 hts (lw_V q1120 q1121 q1122 q170 q1123) rfl rfl rfl cdX16_sort ⟨Nat.le_of_ble_eq_true rfl, Nat.le_of_ble_eq_true rfl⟩) hK (of_decide_eq_true g1) (q := (RX16, TX16, 5)) rfl rfl hl.1 rfl rfl (Nat.le_of_ble_eq_true rfl) dX0_does_1 ⟨Nat.zero_le _, Nat.zero_le _⟩) hP hS (fun H locs hP hS => ?_)
  by_cases c4 : q3 = 202
  · replace hf := ob_t hf c4
    refine lv_tableIn (tgt := 36) (off := 32) hx hb dX0_does_4 (by rw [c4]; decide) (by rw [c4]; decide) (by rw [c4]; rfl) (by decide) ?_
    refine lv_aload_n hx hb dX0_does_36 rfl (lv_at hl 0 rfl) ?_
    refine lv_aload_n hx hb dX0_does_37 rfl (lv_at hl 1 rfl) ?_
    obtain ⟨g5, hf⟩ := ob_gp hf
    obtain ⟨q7, g6, hf⟩ := ob_bind hf
    refine xjr_i (xjr_run (As := []) (rest := [.ref (E 0)]) hJ hJs hS ⟨hx, hb, hml, hown, hts⟩ (wkX16_a l D dA J hJ.jr (tH T) t1 g6) (cwV 0 hts (lw_V q1124 q1125 q1126 q170 q1127) rfl rfl rfl cdX16_a ⟨Nat.le_of_ble_eq_true rfl, Nat.le_of_ble_eq_true rfl⟩) hK (of_decide_eq_true g5) (q := (RX16, TX16, 5)) rfl rfl hl.1 rfl rfl (Nat.le_of_ble_eq_true rfl) dX0_does_38 ⟨Nat.zero_le _, Nat.zero_le _⟩) hP hS (fun H locs hP hS => ?_)
    refine lv_aload_n hx hb dX0_does_41 rfl (lv_at hl 1 rfl) ?_
    obtain ⟨g8, hf⟩ := ob_gp hf
    obtain ⟨q10, g9, hf⟩ := ob_bind hf
    refine xjr_i (xjr_run (As := []) (rest := [.int q7, .ref (E 0)]) hJ hJs hS ⟨hx, hb, hml, hown, hts⟩ (wkX16_b l D dA J hJ.jr (tH T) t1 g9) (cwV 0 hts (lw_V q1128 q1129 q1130 q170 q1131) rfl rfl rfl cdX16_b ⟨Nat.le_of_ble_eq_true rfl, Nat.le_of_ble_eq_true rfl⟩) hK (of_decide_eq_true g8) (q := (RX16, TX16, 5)) rfl rfl hl.1 rfl rfl (Nat.le_of_ble_eq_true rfl) dX0_does_42 ⟨Nat.zero_le _, Nat.zero_le _⟩) hP hS (fun H locs hP hS => ?_)
    refine lv_aload_n hx hb dX0_does_45 rfl (lv_at hl 1 rfl) ?_
    obtain ⟨g11, hf⟩ := ob_gp hf
    obtain ⟨q13, g12, hf⟩ := ob_bind hf
    refine xjr_i (xjr_run (As := []) (rest := [.int q10, .int q7, .ref (E 0)]) hJ hJs hS ⟨hx, hb, hml, hown, hts⟩ (wkX16_c l D dA J hJ.jr (tH T) t1 g12) (cwV 0 hts (lw_V q1132 q1133 q1134 q170 q1135) rfl rfl rfl cdX16_c ⟨Nat.le_of_ble_eq_true rfl, Nat.le_of_ble_eq_true rfl⟩) hK (of_decide_eq_true g11) (q := (RX16, TX16, 5)) rfl rfl hl.1 rfl rfl (Nat.le_of_ble_eq_true rfl) dX0_does_46 ⟨Nat.zero_le _, Nat.zero_le _⟩) hP hS (fun H locs hP hS => ?_)
    refine lv_iconst (v := 0) hx hb dX0_does_49 (by decide) ?_
    obtain ⟨q15, g14, hf⟩ := ob_bind hf
    refine xc_i (xj_run (As := [.int q7, .int q10, .int q13, .int 0]) (rest := []) hJ hJs hS ⟨hx, hb, hml, hown, hts⟩ (k0 := 0) (wkX0_quarrel l D dA E hE T J hJ w q7 q10 q13 0 g14) (cwV 4 hts (lw_V q1136 q306 q307 q136 q308) rfl rfl rfl cdX0_quarrel ⟨Nat.le_of_ble_eq_true rfl, Nat.le_of_ble_eq_true rfl⟩) hK hP (by decide) rfl rfl rfl hl.1 rfl rfl (Nat.le_of_ble_eq_true rfl) dX0_does_50 ⟨Nat.zero_le _, Nat.zero_le _⟩) hS hD.2 (fun H locs hP hS => ?_)
    refine lv_iconst (v := (-1)) hx hb dX0_does_53 (by decide) ?_
    refine lv_icmp_eq (tgt := 61) hx hb dX0_does_54 (by decide) (fun c16 => ?_) (fun c16 => ?_)
    · replace hf := ob_t hf c16
      refine lv_iconst (v := 0) hx hb dX0_does_61 (by decide) ?_
      obtain rfl := ob_s hf
      subst hQ
      exact xe_z hx hb hr hlocks hP hS (Or.inl rfl) dX0_does_62
    · replace hf := ob_f hf c16
      refine lv_iconst (v := 1) hx hb dX0_does_57 (by decide) ?_
      refine lv_goto (tgt := 62) hx hb dX0_does_58 (by decide) ?_
      obtain rfl := ob_s hf
      subst hQ
      exact xe_z hx hb hr hlocks hP hS (Or.inr rfl) dX0_does_62
  · replace hf := ob_f hf c4
    by_cases c17 : q3 = 203
    · replace hf := ob_t hf c17
      refine lv_tableIn (tgt := 63) (off := 59) hx hb dX0_does_4 (by rw [c17]; decide) (by rw [c17]; decide) (by rw [c17]; rfl) (by decide) ?_
      refine lv_aload_n hx hb dX0_does_63 rfl (lv_at hl 0 rfl) ?_
      refine lv_aload_n hx hb dX0_does_64 rfl (lv_at hl 1 rfl) ?_
      obtain ⟨g18, hf⟩ := ob_gp hf
      obtain ⟨q20, g19, hf⟩ := ob_bind hf
      refine xjr_i (xjr_run (As := []) (rest := [.ref (E 0)]) hJ hJs hS ⟨hx, hb, hml, hown, hts⟩ (wkX16_a l D dA J hJ.jr (tH T) t1 g19) (cwV 0 hts (lw_V q1124 q1125 q1126 q170 q1127) rfl rfl rfl cdX16_a ⟨Nat.le_of_ble_eq_true rfl, Nat.le_of_ble_eq_true rfl⟩) hK (of_decide_eq_true g18) (q := (RX16, TX16, 5)) rfl rfl hl.1 rfl rfl (Nat.le_of_ble_eq_true rfl) dX0_does_65 ⟨Nat.zero_le _, Nat.zero_le _⟩) hP hS (fun H locs hP hS => ?_)
      obtain ⟨q22, g21, hf⟩ := ob_bind hf
      refine xc_z (xj_run (As := [.int q20]) (rest := []) hJ hJs hS ⟨hx, hb, hml, hown, hts⟩ (k0 := 0) (wkX0_pawn l D dA E hE T J hJ w q20 g21) (cwV 1 hts (lw_V q1137 q899 q900 q136 q901) rfl rfl rfl cdX0_pawn ⟨Nat.le_of_ble_eq_true rfl, Nat.le_of_ble_eq_true rfl⟩) hK hP (by decide) rfl rfl rfl hl.1 rfl rfl (Nat.le_of_ble_eq_true rfl) dX0_does_68 ⟨Nat.zero_le _, Nat.zero_le _⟩) hS hD.2 (fun H locs zq22 hP hS => ?_)
      obtain rfl := ob_s hf
      subst hQ
      exact xe_z hx hb hr hlocks hP hS zq22 dX0_does_71
    · replace hf := ob_f hf c17
      by_cases c23 : q3 = 204
      · replace hf := ob_t hf c23
        refine lv_tableIn (tgt := 72) (off := 68) hx hb dX0_does_4 (by rw [c23]; decide) (by rw [c23]; decide) (by rw [c23]; rfl) (by decide) ?_
        refine lv_aload_n hx hb dX0_does_72 rfl (lv_at hl 0 rfl) ?_
        refine lv_aload_n hx hb dX0_does_73 rfl (lv_at hl 1 rfl) ?_
        obtain ⟨g24, hf⟩ := ob_gp hf
        obtain ⟨q26, g25, hf⟩ := ob_bind hf
        refine xjr_i (xjr_run (As := []) (rest := [.ref (E 0)]) hJ hJs hS ⟨hx, hb, hml, hown, hts⟩ (wkX16_a l D dA J hJ.jr (tH T) t1 g25) (cwV 0 hts (lw_V q1124 q1125 q1126 q170 q1127) rfl rfl rfl cdX16_a ⟨Nat.le_of_ble_eq_true rfl, Nat.le_of_ble_eq_true rfl⟩) hK (of_decide_eq_true g24) (q := (RX16, TX16, 5)) rfl rfl hl.1 rfl rfl (Nat.le_of_ble_eq_true rfl) dX0_does_74 ⟨Nat.zero_le _, Nat.zero_le _⟩) hP hS (fun H locs hP hS => ?_)
        obtain ⟨q28, g27, hf⟩ := ob_bind hf
        refine xc_i (xj_run (As := [.int q26]) (rest := []) hJ hJs hS ⟨hx, hb, hml, hown, hts⟩ (k0 := 0) (wkX0_redeem l D dA E hE T J hJ w q26 g27) (cwV 1 hts (lw_V q1138 q924 q925 q136 q926) rfl rfl rfl cdX0_redeem ⟨Nat.le_of_ble_eq_true rfl, Nat.le_of_ble_eq_true rfl⟩) hK hP (by decide) rfl rfl rfl hl.1 rfl rfl (Nat.le_of_ble_eq_true rfl) dX0_does_77 ⟨Nat.zero_le _, Nat.zero_le _⟩) hS hD.2 (fun H locs hP hS => ?_)
        refine lv_iconst (v := (-1)) hx hb dX0_does_80 (by decide) ?_
        refine lv_icmp_eq (tgt := 88) hx hb dX0_does_81 (by decide) (fun c29 => ?_) (fun c29 => ?_)
        · replace hf := ob_t hf c29
          refine lv_iconst (v := 0) hx hb dX0_does_88 (by decide) ?_
          obtain rfl := ob_s hf
          subst hQ
          exact xe_z hx hb hr hlocks hP hS (Or.inl rfl) dX0_does_89
        · replace hf := ob_f hf c29
          refine lv_iconst (v := 1) hx hb dX0_does_84 (by decide) ?_
          refine lv_goto (tgt := 89) hx hb dX0_does_85 (by decide) ?_
          obtain rfl := ob_s hf
          subst hQ
          exact xe_z hx hb hr hlocks hP hS (Or.inr rfl) dX0_does_89
      · replace hf := ob_f hf c23
        by_cases c30 : q3 = 205
        · replace hf := ob_t hf c30
          refine lv_tableIn (tgt := 90) (off := 86) hx hb dX0_does_4 (by rw [c30]; decide) (by rw [c30]; decide) (by rw [c30]; rfl) (by decide) ?_
          refine lv_aload_n hx hb dX0_does_90 rfl (lv_at hl 0 rfl) ?_
          refine lv_aload_n hx hb dX0_does_91 rfl (lv_at hl 1 rfl) ?_
          obtain ⟨g31, hf⟩ := ob_gp hf
          obtain ⟨q33, g32, hf⟩ := ob_bind hf
          refine xjr_i (xjr_run (As := []) (rest := [.ref (E 0)]) hJ hJs hS ⟨hx, hb, hml, hown, hts⟩ (wkX16_a l D dA J hJ.jr (tH T) t1 g32) (cwV 0 hts (lw_V q1124 q1125 q1126 q170 q1127) rfl rfl rfl cdX16_a ⟨Nat.le_of_ble_eq_true rfl, Nat.le_of_ble_eq_true rfl⟩) hK (of_decide_eq_true g31) (q := (RX16, TX16, 5)) rfl rfl hl.1 rfl rfl (Nat.le_of_ble_eq_true rfl) dX0_does_92 ⟨Nat.zero_le _, Nat.zero_le _⟩) hP hS (fun H locs hP hS => ?_)
          obtain ⟨q35, g34, hf⟩ := ob_bind hf
          refine xc_z (xj_run (As := [.int q33]) (rest := []) hJ hJs hS ⟨hx, hb, hml, hown, hts⟩ (k0 := 0) (wkX0_earn l D dA E hE T J hJ w q33 g34) (cwV 1 hts (lw_V q1139 q1073 q1074 q136 q1075) rfl rfl rfl cdX0_earn ⟨Nat.le_of_ble_eq_true rfl, Nat.le_of_ble_eq_true rfl⟩) hK hP (by decide) rfl rfl rfl hl.1 rfl rfl (Nat.le_of_ble_eq_true rfl) dX0_does_95 ⟨Nat.zero_le _, Nat.zero_le _⟩) hS hD.2 (fun H locs zq35 hP hS => ?_)
          obtain rfl := ob_s hf
          subst hQ
          exact xe_z hx hb hr hlocks hP hS zq35 dX0_does_98
        · replace hf := ob_f hf c30
          refine xr_tswD (tgt := 99) (vs := [202, 203, 204, 205]) hx hb dX0_does_4 (List.forall_mem_cons.mpr ⟨c4, List.forall_mem_cons.mpr ⟨c17, List.forall_mem_cons.mpr ⟨c23, List.forall_mem_cons.mpr ⟨c30, fun _ h => absurd h List.not_mem_nil⟩⟩⟩⟩) (by decide +kernel) (by decide) ?_
          refine lv_aload_n hx hb dX0_does_99 rfl (lv_at hl 0 rfl) ?_
          refine lv_aload_n hx hb dX0_does_100 rfl (lv_at hl 1 rfl) ?_
          obtain ⟨g36, hf⟩ := ob_gp hf
          obtain ⟨q38, g37, hf⟩ := ob_bind hf
          refine xjr_i (xjr_run (As := []) (rest := [.ref (E 0)]) hJ hJs hS ⟨hx, hb, hml, hown, hts⟩ (wkX16_a l D dA J hJ.jr (tH T) t1 g37) (cwV 0 hts (lw_V q1124 q1125 q1126 q170 q1127) rfl rfl rfl cdX16_a ⟨Nat.le_of_ble_eq_true rfl, Nat.le_of_ble_eq_true rfl⟩) hK (of_decide_eq_true g36) (q := (RX16, TX16, 5)) rfl rfl hl.1 rfl rfl (Nat.le_of_ble_eq_true rfl) dX0_does_101 ⟨Nat.zero_le _, Nat.zero_le _⟩) hP hS (fun H locs hP hS => ?_)
          obtain ⟨q40, g39, hf⟩ := ob_bind hf
          refine xc_z (xj_run (As := [.int q38]) (rest := []) hJ hJs hS ⟨hx, hb, hml, hown, hts⟩ (k0 := 0) (wkX0_passesAll l D dA E hE T J hJ w q38 g39) (cwV 1 hts (lw_V q1140 q1142 qs39 q136 q1143) rfl rfl rfl cdX0_passesAll ⟨Nat.le_of_ble_eq_true rfl, Nat.le_of_ble_eq_true rfl⟩) hK hP (by decide) rfl rfl rfl hl.1 rfl rfl (Nat.le_of_ble_eq_true rfl) dX0_does_104 ⟨Nat.zero_le _, Nat.zero_le _⟩) hS hD.2 (fun H locs zq40 hP hS => ?_)
          obtain rfl := ob_s hf
          subst hQ
          exact xe_z hx hb hr hlocks hP hS zq40 dX0_does_107
abbrev rmX0_played : Room := { frames := 205, cells := 0, slots := 0, locals := 8111 }
theorem cdX0_played : yX0_played.cls = RX0 ∧ yX0_played.cls ≠ "java/lang/invoke/MethodHandle" ∧ yX0_played.cls ≠ "java/lang/invoke/VarHandle" ∧ (parseMethodDescriptor yX0_played.desc).map (fun d => d.parameters.length) = some 1 := by decide +kernel
set_option maxHeartbeats 4000000 in
set_option maxRecDepth 100000 in
theorem wkX0_played (l : Launch) (D : va_G) (dA : Nat → ClassId) (E : Nat → Nat) (hE : wInj 136 E) (T : Tx) (J : State → Heap → Prop) (hJ : JP D dA E T J) (w : Mm) (a1 : Int32) {res : Int32 × Mm} (hf : X_played T w a1 = some res) : Met l yX0_played (ws_ yX0_played cX0_played 4 (some .int)) rmX0_played (Pj D dA E J [.ref (E 0), .int a1] w) (Qwi D clX shX 136 dA E res.1 res.2) 0 0 (AE 136 E) := by
  refine xj_head (own := RX0) (by decide) rfl (Nat.le_of_ble_eq_true rfl) ?_
  intro p e s m args below meth c ls Q hQ C hP hl
  obtain ⟨hx, hb, hr, hlocks, hml, hown, hts, hK, hJs⟩ := C
  replace hl : lv_has ls 4 [(0, .ref (E 0)), (1, .int a1)] := hl
  have hS : va_S (AE 136 E) s.heap s.heap [] := va_S.rf
  have hD : wD 136 E (AE 136 E) := wD.self hE
  unfold X_played at hf
  obtain ⟨H, eH⟩ : ∃ H, H = s.heap := ⟨_, rfl⟩
  obtain ⟨locs, eL⟩ : ∃ locs : List Loc, locs = [] := ⟨_, rfl⟩
  rw [← eL] at hS ⊢
  rw [← eH] at hP
  have hS : va_S (AE 136 E) s.heap H locs := by rw [eH]; exact hS
  show W p l e rmX0_played s m args below meth c s.heap locs 0 0 Q (F0 m 0 ls [])
  rw [← eH]
  refine lv_aload_n hx hb dX0_played_0 rfl (lv_at hl 0 rfl) ?_
  refine lv_iload_n hx hb dX0_played_1 rfl (lv_at hl 1 rfl) ?_
  obtain ⟨q2, g1, hf⟩ := ob_bind hf
  refine xc_z (xj_run (As := [.int a1]) (rest := []) hJ hJs hS ⟨hx, hb, hml, hown, hts⟩ (k0 := 0) (wkX0_isText l D dA E hE T J hJ w a1 g1) (cwV 1 hts (lw_V q894 q896 qs23 q136 q897) rfl rfl rfl cdX0_isText ⟨Nat.le_of_ble_eq_true rfl, Nat.le_of_ble_eq_true rfl⟩) hK hP (by decide) rfl rfl rfl hl.1 rfl rfl (Nat.le_of_ble_eq_true rfl) dX0_played_2 ⟨Nat.zero_le _, Nat.zero_le _⟩) hS hD.2 (fun H locs zq2 hP hS => ?_)
  refine lv_if_ne (tgt := 11) hx hb dX0_played_5 (by decide) (fun c3 => ?_) (fun c3 => ?_)
  · replace hf := ob_f hf c3
    refine lv_aload_n hx hb dX0_played_11 rfl (lv_at hl 0 rfl) ?_
    refine xr_get hx hb hts in_X0 hown hK hP 0 (by decide) rfl rfl 0 (by decide) (hts _ q252) (fun _ h => h) rfl (v := .ref (E 1)) rfl dX0_played_12 ?_
    refine xr_getN (host := "QuarrelsPawned") hx hb hts in_X1 hown hK hP 1 (by decide) rfl rfl 10 (by decide) (hJ.nest hJs 10 rfl) (fun _ h => h) rfl (v := .ref (E 13)) rfl dX0_played_15 ?_
    refine lv_iload_n hx hb dX0_played_18 rfl (lv_at hl 1 rfl) ?_
    obtain ⟨h4, hf⟩ := ob_gd hf
    obtain ⟨t5, g6, hf⟩ := ob_bind hf
    refine xr_taald hx hb hK hP 13 (by decide) rfl (j := a1.toNatClampNeg) h4 rfl g6 dX0_played_19 ?_
    obtain ⟨r8, g7, hf⟩ := ob_bind hf
    refine xjr_getN (host := "QuarrelsPawned") hx hb hts in_X4 hown hK hJ (hJ.at hJs hS) (ci := 2) rfl 2 (by decide) (hJ.nest hJs 12 rfl) (fun _ h => h) g7 dX0_played_20 ?_
    refine lv_astore_n (lv' := [(2, .ref r8), (0, .ref (E 0)), (1, .int a1)]) hx hb dX0_played_23 rfl hl (by decide) rfl (fun ls hl => ?_)
    refine lv_iconst (v := 0) hx hb dX0_played_24 (by decide) ?_
    refine lv_istore_n (lv' := [(3, .int 0), (2, .ref r8), (0, .ref (E 0)), (1, .int a1)]) hx hb dX0_played_25 rfl hl (by decide) rfl (fun ls hl => ?_)
    obtain ⟨b11, hb11, hf⟩ := ob_bind hf
    obtain ⟨n11, hn11⟩ := lp_some hb11
    have kL26 : ∀ (n : Nat) (w9 : Mm) (v3_10 : Int32), lpF (fun (q11 : Mm × Int32) => X_played_b26 T r8 q11.1 q11.2) n (w9, v3_10) = some b11 → (∀ (x11_0 : Mm × Int32), b11 = .inl x11_0 → ∀ (H : Heap) (locs : List Loc) (ls : Array Slot), va_P D clX (wl shX 136 dA E x11_0.1) H → va_S (AE 136 E) s.heap H locs → lv_has ls 4 [(2, .ref r8), (3, .int x11_0.2)] → W p l e rmX0_played s m args below meth c H locs 0 0 Q (F0 m 49 ls [])) → (∀ (x11_1 : Mm), b11 = .inr x11_1 → ∀ (H : Heap) (locs : List Loc) (ls : Array Slot), va_P D clX (wl shX 136 dA E x11_1) H → va_S (AE 136 E) s.heap H locs → lv_has ls 4 [] → W p l e rmX0_played s m args below meth c H locs 0 0 Q (F0 m 67 ls [])) → ∀ (H : Heap) (locs : List Loc) (ls : Array Slot), va_P D clX (wl shX 136 dA E w9) H → va_S (AE 136 E) s.heap H locs → lv_has ls 4 [(0, .ref (E 0)), (2, .ref r8), (3, .int v3_10)] → W p l e rmX0_played s m args below meth c H locs 0 0 Q (F0 m 26 ls []) := by
      intro n
      induction n with
      | zero =>
        intro w9 v3_10 hq9
        cases hq9
      | succ n ih =>
        intro w9 v3_10 hq9 K11_0 K11_1 H locs ls hP hS hl
        obtain ⟨r11, hf, h11a, h11b⟩ := lpF_step hq9
        replace hf : X_played_b26 T r8 w9 v3_10 = some r11 := hf
        unfold X_played_b26 at hf
        refine lv_iload_n hx hb dX0_played_26 rfl (lv_at hl 2 rfl) ?_
        refine lv_aload_n hx hb dX0_played_27 rfl (lv_at hl 1 rfl) ?_
        obtain ⟨g12, hf⟩ := ob_gp hf
        obtain ⟨q14, g13, hf⟩ := ob_bind hf
        refine xjr_i (xjr_run (As := []) (rest := [.int v3_10]) hJ hJs hS ⟨hx, hb, hml, hown, hts⟩ (wkJ3_size l D dA J hJ.jr (tH T) r8 g13) (cwV 0 hts (lw_V q1113 q705 q706 q145 q707) rfl rfl rfl cdJ3_size ⟨Nat.le_of_ble_eq_true rfl, Nat.le_of_ble_eq_true rfl⟩) hK (of_decide_eq_true g12) (q := (RJ3, TJ3, 3)) rfl rfl hl.1 rfl rfl (Nat.le_of_ble_eq_true rfl) dX0_played_28 ⟨Nat.zero_le _, Nat.zero_le _⟩) hP hS (fun H locs hP hS => ?_)
        refine lv_icmp_ge (tgt := 67) hx hb dX0_played_31 (by decide) (fun c15 => ?_) (fun c15 => ?_)
        · replace hf := ob_t hf c15
          obtain rfl := ob_s hf
          exact K11_1 _ (h11b _ rfl).symm H locs ls hP hS (lv_sub hl [] rfl)
        · replace hf := ob_f hf c15
          refine lv_aload_n hx hb dX0_played_34 rfl (lv_at hl 0 rfl) ?_
          refine lv_aload_n hx hb dX0_played_35 rfl (lv_at hl 1 rfl) ?_
          refine lv_iload_n hx hb dX0_played_36 rfl (lv_at hl 2 rfl) ?_
          obtain ⟨g16, hf⟩ := ob_gp hf
          obtain ⟨q18, g17, hf⟩ := ob_bind hf
          refine xjr_a (xjr_run (As := [.int v3_10]) (rest := [.ref (E 0)]) hJ hJs hS ⟨hx, hb, hml, hown, hts⟩ (wkJ3_get l D dA J hJ.jr (tH T) r8 v3_10 g17) (cwV 1 hts (lw_V q1114 q709 q710 q145 q711) rfl rfl rfl cdJ3_get ⟨Nat.le_of_ble_eq_true rfl, Nat.le_of_ble_eq_true rfl⟩) hK (of_decide_eq_true g16) (q := (RJ3, TJ3, 3)) rfl rfl hl.1 rfl rfl (Nat.le_of_ble_eq_true rfl) dX0_played_37 ⟨Nat.zero_le _, Nat.zero_le _⟩) hP hS (fun H locs hP hS => ?_)
          obtain ⟨g19, hf⟩ := ob_gp hf
          refine xh_castS hx hb hown (hts _ q1115) hK (hJ.view (hJ.at hJs hS)) (of_decide_eq_true g19) (q := (RX16, TX16, 5)) rfl rfl dX0_played_40 ?_
          obtain ⟨q21, g20, hf⟩ := ob_bind hf
          refine xc_z (xj_run (As := [.ref q18]) (rest := []) hJ hJs hS ⟨hx, hb, hml, hown, hts⟩ (k0 := 0) (wkX0_does l D dA E hE T J hJ w9 q18 g20) (cwV 1 hts (lw_V q1116 q1118 qs38 q136 q1119) rfl rfl rfl cdX0_does ⟨Nat.le_of_ble_eq_true rfl, Nat.le_of_ble_eq_true rfl⟩) hK hP (by decide) rfl rfl rfl hl.1 rfl rfl (Nat.le_of_ble_eq_true rfl) dX0_played_43 ⟨Nat.zero_le _, Nat.zero_le _⟩) hS hD.2 (fun H locs zq21 hP hS => ?_)
          refine lv_if_ne (tgt := 61) hx hb dX0_played_46 (by decide) (fun c22 => ?_) (fun c22 => ?_)
          · replace hf := ob_f hf c22
            obtain ⟨v3_23, ev3_23, hf⟩ := ob_bnd hf
            refine lv_iinc (v := v3_23) (lv' := [(3, .int v3_23), (0, .ref (E 0)), (2, .ref r8)]) hx hb dX0_played_61 hl (k := 2) rfl (by rw [ev3_23]; rfl) (by decide) rfl (fun ls hl => ?_)
            refine lv_goto (tgt := 26) hx hb dX0_played_64 (by decide) ?_
            obtain rfl := ob_s hf
            exact ih _ _ (h11a _ rfl) K11_0 K11_1 H locs ls hP hS (lv_sub hl [1, 2, 0] rfl)
          · replace hf := ob_t hf c22
            obtain rfl := ob_s hf
            exact K11_0 _ (h11b _ rfl).symm H locs ls hP hS (lv_sub hl [1, 2] rfl)
    refine kL26 n11 w 0 hn11 (fun x11_0 ex11_0 H locs ls hP hS hl => ?_) (fun x11_1 ex11_1 H locs ls hP hS hl => ?_) H locs ls hP hS (lv_sub hl [2, 1, 0] rfl)
    · subst ex11_0
      replace hf : X_played_x26_49 T r8 x11_0 = some res := hf
      unfold X_played_x26_49 at hf
      refine lv_aload_n hx hb dX0_played_49 rfl (lv_at hl 0 rfl) ?_
      refine lv_iload_n hx hb dX0_played_50 rfl (lv_at hl 1 rfl) ?_
      obtain ⟨g24, hf⟩ := ob_gp hf
      obtain ⟨q26, g25, hf⟩ := ob_bind hf
      refine xjr_a (xjr_run (As := [.int x11_0.2]) (rest := []) hJ hJs hS ⟨hx, hb, hml, hown, hts⟩ (wkJ3_get l D dA J hJ.jr (tH T) r8 x11_0.2 g25) (cwV 1 hts (lw_V q1114 q709 q710 q145 q711) rfl rfl rfl cdJ3_get ⟨Nat.le_of_ble_eq_true rfl, Nat.le_of_ble_eq_true rfl⟩) hK (of_decide_eq_true g24) (q := (RJ3, TJ3, 3)) rfl rfl hl.1 rfl rfl (Nat.le_of_ble_eq_true rfl) dX0_played_51 ⟨Nat.zero_le _, Nat.zero_le _⟩) hP hS (fun H locs hP hS => ?_)
      obtain ⟨g27, hf⟩ := ob_gp hf
      refine xh_castS hx hb hown (hts _ q1115) hK (hJ.view (hJ.at hJs hS)) (of_decide_eq_true g27) (q := (RX16, TX16, 5)) rfl rfl dX0_played_54 ?_
      obtain ⟨g28, hf⟩ := ob_gp hf
      obtain ⟨q30, g29, hf⟩ := ob_bind hf
      refine xjr_i (xjr_run (As := []) (rest := []) hJ hJs hS ⟨hx, hb, hml, hown, hts⟩ (wkX16_number l D dA J hJ.jr (tH T) q26 g29) (cwV 0 hts (lw_V q1145 q1146 q1147 q170 q1148) rfl rfl rfl cdX16_number ⟨Nat.le_of_ble_eq_true rfl, Nat.le_of_ble_eq_true rfl⟩) hK (of_decide_eq_true g28) (q := (RX16, TX16, 5)) rfl rfl hl.1 rfl rfl (Nat.le_of_ble_eq_true rfl) dX0_played_57 ⟨Nat.zero_le _, Nat.zero_le _⟩) hP hS (fun H locs hP hS => ?_)
      obtain rfl := ob_s hf
      subst hQ
      exact xe_i hx hb hr hlocks hP hS dX0_played_60
    · subst ex11_1
      replace hf : X_played_x26_67 x11_1 = some res := hf
      unfold X_played_x26_67 at hf
      refine lv_iconst (v := (-1)) hx hb dX0_played_67 (by decide) ?_
      obtain rfl := ob_s hf
      subst hQ
      exact xe_i hx hb hr hlocks hP hS dX0_played_68
  · replace hf := ob_t hf c3
    refine lv_bipush (v := (-2)) hx hb dX0_played_8 (by decide) ?_
    obtain rfl := ob_s hf
    subst hQ
    exact xe_i hx hb hr hlocks hP hS dX0_played_10
abbrev rmX0_befalls : Room := { frames := 203, cells := 0, slots := 0, locals := 8067 }
theorem cdX0_befalls : yX0_befalls.cls = RX0 ∧ yX0_befalls.cls ≠ "java/lang/invoke/MethodHandle" ∧ yX0_befalls.cls ≠ "java/lang/invoke/VarHandle" ∧ (parseMethodDescriptor yX0_befalls.desc).map (fun d => d.parameters.length) = some 1 := by decide +kernel
set_option maxHeartbeats 4000000 in
set_option maxRecDepth 100000 in
theorem wkX0_befalls (l : Launch) (D : va_G) (dA : Nat → ClassId) (E : Nat → Nat) (hE : wInj 136 E) (T : Tx) (J : State → Heap → Prop) (hJ : JP D dA E T J) (w : Mm) (a1 : Int32) {res : Mm} (hf : X_befalls T w a1 = some res) : Met l yX0_befalls (ws_ yX0_befalls cX0_befalls 4 (none)) rmX0_befalls (Pj D dA E J [.ref (E 0), .int a1] w) (Qwv D clX shX 136 dA E res) 0 0 (AE 136 E) := by
  refine xj_head (own := RX0) (by decide) rfl (Nat.le_of_ble_eq_true rfl) ?_
  intro p e s m args below meth c ls Q hQ C hP hl
  obtain ⟨hx, hb, hr, hlocks, hml, hown, hts, hK, hJs⟩ := C
  replace hl : lv_has ls 4 [(0, .ref (E 0)), (1, .int a1)] := hl
  have hS : va_S (AE 136 E) s.heap s.heap [] := va_S.rf
  have hD : wD 136 E (AE 136 E) := wD.self hE
  unfold X_befalls at hf
  obtain ⟨H, eH⟩ : ∃ H, H = s.heap := ⟨_, rfl⟩
  obtain ⟨locs, eL⟩ : ∃ locs : List Loc, locs = [] := ⟨_, rfl⟩
  rw [← eL] at hS ⊢
  rw [← eH] at hP
  have hS : va_S (AE 136 E) s.heap H locs := by rw [eH]; exact hS
  show W p l e rmX0_befalls s m args below meth c s.heap locs 0 0 Q (F0 m 0 ls [])
  rw [← eH]
  refine lv_aload_n hx hb dX0_befalls_0 rfl (lv_at hl 0 rfl) ?_
  obtain ⟨q2, g1, hf⟩ := ob_bind hf
  refine xc_i (xj_run (As := []) (rest := []) hJ hJs hS ⟨hx, hb, hml, hown, hts⟩ (k0 := 0) (wkX0_quarrels l D dA E hE T J hJ w g1) (cwV 0 hts (lw_V q309 q311 qs0 q136 q312) rfl rfl rfl cdX0_quarrels ⟨Nat.le_of_ble_eq_true rfl, Nat.le_of_ble_eq_true rfl⟩) hK hP (by decide) rfl rfl rfl hl.1 rfl rfl (Nat.le_of_ble_eq_true rfl) dX0_befalls_1 ⟨Nat.zero_le _, Nat.zero_le _⟩) hS hD.2 (fun H locs hP hS => ?_)
  have kj20 : ∀ (t3 : Int32) (H : Heap) (locs : List Loc) (ls : Array Slot), X_befalls_j20 a1 w t3 T = some res → va_P D clX (wl shX 136 dA E w) H → va_S (AE 136 E) s.heap H locs → lv_has ls 4 [(0, .ref (E 0)), (1, .int a1)] → W p l e rmX0_befalls s m args below meth c H locs 0 0 Q (F0 m 20 ls [.int t3]) := by
    intro t3 H locs ls hf hP hS hl
    unfold X_befalls_j20 at hf
    refine lv_istore_n (lv' := [(2, .int t3), (0, .ref (E 0)), (1, .int a1)]) hx hb dX0_befalls_20 rfl hl (by decide) rfl (fun ls hl => ?_)
    refine lv_iconst (v := 0) hx hb dX0_befalls_21 (by decide) ?_
    refine lv_istore_n (lv' := [(3, .int 0), (2, .int t3), (0, .ref (E 0)), (1, .int a1)]) hx hb dX0_befalls_22 rfl hl (by decide) rfl (fun ls hl => ?_)
    refine lv_iload_n hx hb dX0_befalls_23 rfl (lv_at hl 3 rfl) ?_
    refine lv_bipush (v := 6) hx hb dX0_befalls_24 (by decide) ?_
    refine xr_irem hx hb dX0_befalls_26 (by decide) ?_
    obtain ⟨x4, ex4, hf⟩ := ob_bnd hf
    refine xn_i ex4 ?_
    by_cases c5 : x4 = 0
    · replace hf := ob_t hf c5
      refine lv_lookup (tgt := 52) (off := 25) hx hb dX0_befalls_27 (by decide) (by rw [c5]; decide) (by decide) ?_
      refine lv_aload_n hx hb dX0_befalls_52 rfl (lv_at hl 2 rfl) ?_
      refine lv_iload_n hx hb dX0_befalls_53 rfl (lv_at hl 1 rfl) ?_
      obtain ⟨q7, g6, hf⟩ := ob_bind hf
      refine xc_z (xj_run (As := [.int t3]) (rest := []) hJ hJs hS ⟨hx, hb, hml, hown, hts⟩ (k0 := 0) (wkX0_canPawn l D dA E hE T J hJ w t3 g6) (cwV 1 hts (lw_V q902 q904 qs24 q136 q905) rfl rfl rfl cdX0_canPawn ⟨Nat.le_of_ble_eq_true rfl, Nat.le_of_ble_eq_true rfl⟩) hK hP (by decide) rfl rfl rfl hl.1 rfl rfl (Nat.le_of_ble_eq_true rfl) dX0_befalls_54 ⟨Nat.zero_le _, Nat.zero_le _⟩) hS hD.2 (fun H locs zq7 hP hS => ?_)
      refine lv_if_eq (tgt := 124) hx hb dX0_befalls_57 (by decide) (fun c8 => ?_) (fun c8 => ?_)
      · replace hf := ob_t hf c8
        obtain rfl := ob_s hf
        subst hQ
        exact xe_v hx hb hr hlocks hP hS dX0_befalls_124
      · replace hf := ob_f hf c8
        refine lv_aload_n hx hb dX0_befalls_60 rfl (lv_at hl 2 rfl) ?_
        refine lv_iload_n hx hb dX0_befalls_61 rfl (lv_at hl 1 rfl) ?_
        obtain ⟨q10, g9, hf⟩ := ob_bind hf
        refine xc_v (xj_run (As := [.int t3]) (rest := []) hJ hJs hS ⟨hx, hb, hml, hown, hts⟩ (k0 := 0) (wkX0_pawns l D dA E hE T J hJ w t3 g9) (cwV 1 hts (lw_V q914 q916 qs26 q136 q917) rfl rfl rfl cdX0_pawns ⟨Nat.le_of_ble_eq_true rfl, Nat.le_of_ble_eq_true rfl⟩) hK hP (by decide) rfl rfl rfl hl.1 rfl rfl (Nat.le_of_ble_eq_true rfl) dX0_befalls_62 ⟨Nat.zero_le _, Nat.zero_le _⟩) hS hD.2 (fun H locs hP hS => ?_)
        refine lv_goto (tgt := 124) hx hb dX0_befalls_65 (by decide) ?_
        obtain rfl := ob_s hf
        subst hQ
        exact xe_v hx hb hr hlocks hP hS dX0_befalls_124
    · replace hf := ob_f hf c5
      by_cases c11 : x4 = 3
      · replace hf := ob_t hf c11
        refine lv_lookup (tgt := 68) (off := 41) hx hb dX0_befalls_27 (by decide) (by rw [c11]; decide) (by decide) ?_
        refine lv_aload_n hx hb dX0_befalls_68 rfl (lv_at hl 2 rfl) ?_
        refine lv_iconst (v := 1) hx hb dX0_befalls_69 (by decide) ?_
        refine lv_iload_n hx hb dX0_befalls_70 rfl (lv_at hl 3 rfl) ?_
        refine lv_bipush (v := 6) hx hb dX0_befalls_71 (by decide) ?_
        refine lv_idiv hx hb dX0_befalls_73 (by decide) ?_
        refine lv_bipush (v := 9) hx hb dX0_befalls_74 (by decide) ?_
        refine xr_irem hx hb dX0_befalls_76 (by decide) ?_
        refine lv_iadd hx hb dX0_befalls_77 ?_
        obtain ⟨q13, g12, hf⟩ := ob_bind hf
        refine xc_z (xj_run (As := [.int (1 + (irm (a1 / 6) 9))]) (rest := []) hJ hJs hS ⟨hx, hb, hml, hown, hts⟩ (k0 := 0) (wkX0_canEarn l D dA E hE T J hJ w (1 + (irm (a1 / 6) 9)) g12) (cwV 1 hts (lw_V q1076 q1078 qs34 q136 q1079) rfl rfl rfl cdX0_canEarn ⟨Nat.le_of_ble_eq_true rfl, Nat.le_of_ble_eq_true rfl⟩) hK hP (by decide) rfl rfl rfl hl.1 rfl rfl (Nat.le_of_ble_eq_true rfl) dX0_befalls_78 ⟨Nat.zero_le _, Nat.zero_le _⟩) hS hD.2 (fun H locs zq13 hP hS => ?_)
        refine lv_if_eq (tgt := 124) hx hb dX0_befalls_81 (by decide) (fun c14 => ?_) (fun c14 => ?_)
        · replace hf := ob_t hf c14
          obtain rfl := ob_s hf
          subst hQ
          exact xe_v hx hb hr hlocks hP hS dX0_befalls_124
        · replace hf := ob_f hf c14
          refine lv_aload_n hx hb dX0_befalls_84 rfl (lv_at hl 2 rfl) ?_
          refine xr_get hx hb hts in_X0 hown hK hP 0 (by decide) rfl rfl 0 (by decide) (hts _ q252) (fun _ h => h) rfl (v := .ref (E 1)) rfl dX0_befalls_85 ?_
          refine xr_getN (host := "QuarrelsPawned") hx hb hts in_X1 hown hK hP 1 (by decide) rfl rfl 1 (by decide) (hJ.nest hJs 1 rfl) (fun _ h => h) rfl (v := .ref (E 4)) rfl dX0_befalls_88 ?_
          refine lv_iconst (v := 2) hx hb dX0_befalls_91 (by decide) ?_
          refine lv_dup2_11 hx hb dX0_befalls_92 rfl rfl ?_
          refine xr_iald hx hb hK hP 4 (by decide) rfl 0 rfl (j := 2) (vin_c (by decide)) (by decide) dX0_befalls_93 ?_
          refine lv_iconst (v := 1) hx hb dX0_befalls_94 (by decide) ?_
          refine lv_iload_n hx hb dX0_befalls_95 rfl (lv_at hl 3 rfl) ?_
          refine lv_bipush (v := 6) hx hb dX0_befalls_96 (by decide) ?_
          refine lv_idiv hx hb dX0_befalls_98 (by decide) ?_
          refine lv_bipush (v := 9) hx hb dX0_befalls_99 (by decide) ?_
          refine xr_irem hx hb dX0_befalls_101 (by decide) ?_
          refine lv_iadd hx hb dX0_befalls_102 ?_
          refine lv_iadd hx hb dX0_befalls_103 ?_
          obtain ⟨w15, ew15, hf⟩ := ob_bnd hf
          refine xr_iast hx hb hK hP hD hS 4 (by decide) rfl 0 rfl (j := 2) (w' := w15) (vin_c (by decide)) (by decide) ew15 dX0_befalls_104 (fun H locs hP hS => ?_)
          refine lv_goto (tgt := 124) hx hb dX0_befalls_105 (by decide) ?_
          obtain rfl := ob_s hf
          subst hQ
          exact xe_v hx hb hr hlocks hP hS dX0_befalls_124
      · replace hf := ob_f hf c11
        refine xr_lswD (tgt := 108) (vs := [0, 3]) hx hb dX0_befalls_27 (by decide) (List.forall_mem_cons.mpr ⟨c5, List.forall_mem_cons.mpr ⟨c11, fun _ h => absurd h List.not_mem_nil⟩⟩) (by decide +kernel) (by decide) ?_
        refine lv_aload_n hx hb dX0_befalls_108 rfl (lv_at hl 2 rfl) ?_
        refine lv_iload_n hx hb dX0_befalls_109 rfl (lv_at hl 1 rfl) ?_
        obtain ⟨q17, g16, hf⟩ := ob_bind hf
        refine xc_z (xj_run (As := [.int t3]) (rest := []) hJ hJs hS ⟨hx, hb, hml, hown, hts⟩ (k0 := 0) (wkX0_canRedeem l D dA E hE T J hJ w t3 g16) (cwV 1 hts (lw_V q927 q929 qs27 q136 q930) rfl rfl rfl cdX0_canRedeem ⟨Nat.le_of_ble_eq_true rfl, Nat.le_of_ble_eq_true rfl⟩) hK hP (by decide) rfl rfl rfl hl.1 rfl rfl (Nat.le_of_ble_eq_true rfl) dX0_befalls_110 ⟨Nat.zero_le _, Nat.zero_le _⟩) hS hD.2 (fun H locs zq17 hP hS => ?_)
        refine lv_if_eq (tgt := 124) hx hb dX0_befalls_113 (by decide) (fun c18 => ?_) (fun c18 => ?_)
        · replace hf := ob_t hf c18
          obtain rfl := ob_s hf
          subst hQ
          exact xe_v hx hb hr hlocks hP hS dX0_befalls_124
        · replace hf := ob_f hf c18
          refine lv_iload_n hx hb dX0_befalls_116 rfl (lv_at hl 0 rfl) ?_
          refine lv_aload_n hx hb dX0_befalls_117 rfl (lv_at hl 2 rfl) ?_
          refine lv_iload_n hx hb dX0_befalls_118 rfl (lv_at hl 1 rfl) ?_
          obtain ⟨q20, g19, hf⟩ := ob_bind hf
          refine xc_i (xj_run (As := [.int t3]) (rest := [.int 0]) hJ hJs hS ⟨hx, hb, hml, hown, hts⟩ (k0 := 0) (wkX0_redeems l D dA E hE T J hJ q17.2 t3 g19) (cwV 1 hts (lw_V q1068 q1070 qs33 q136 q1071) rfl rfl rfl cdX0_redeems ⟨Nat.le_of_ble_eq_true rfl, Nat.le_of_ble_eq_true rfl⟩) hK hP (by decide) rfl rfl rfl hl.1 rfl rfl (Nat.le_of_ble_eq_true rfl) dX0_befalls_119 ⟨Nat.zero_le _, Nat.zero_le _⟩) hS hD.2 (fun H locs hP hS => ?_)
          refine lv_iadd hx hb dX0_befalls_122 ?_
          obtain ⟨v3_21, ev3_21, hf⟩ := ob_bnd hf
          refine xn_i ev3_21 ?_
          refine lv_istore_n (lv' := [(3, .int v3_21), (2, .int t3), (0, .ref (E 0)), (1, .int a1)]) hx hb dX0_befalls_123 rfl hl (by decide) rfl (fun ls hl => ?_)
          obtain rfl := ob_s hf
          subst hQ
          exact xe_v hx hb hr hlocks hP hS dX0_befalls_124
  refine lv_if_ne (tgt := 11) hx hb dX0_befalls_4 (by decide) (fun c22 => ?_) (fun c22 => ?_)
  · replace hf := ob_f hf c22
    refine lv_iload_n hx hb dX0_befalls_11 rfl (lv_at hl 1 rfl) ?_
    refine lv_bipush (v := 6) hx hb dX0_befalls_12 (by decide) ?_
    refine lv_idiv hx hb dX0_befalls_14 (by decide) ?_
    refine lv_aload_n hx hb dX0_befalls_15 rfl (lv_at hl 0 rfl) ?_
    obtain ⟨q24, g23, hf⟩ := ob_bind hf
    refine xc_i (xj_run (As := []) (rest := [.int (a1 / 6)]) hJ hJs hS ⟨hx, hb, hml, hown, hts⟩ (k0 := 0) (wkX0_quarrels l D dA E hE T J hJ w g23) (cwV 0 hts (lw_V q309 q311 qs0 q136 q312) rfl rfl rfl cdX0_quarrels ⟨Nat.le_of_ble_eq_true rfl, Nat.le_of_ble_eq_true rfl⟩) hK hP (by decide) rfl rfl rfl hl.1 rfl rfl (Nat.le_of_ble_eq_true rfl) dX0_befalls_16 ⟨Nat.zero_le _, Nat.zero_le _⟩) hS hD.2 (fun H locs hP hS => ?_)
    obtain ⟨h25, hf⟩ := ob_gz hf
    refine xr_irem hx hb dX0_befalls_19 h25 ?_
    exact kj20 (irm (a1 / 6) q24) H locs ls hf hP hS (lv_sub hl [0, 1] rfl)
  · replace hf := ob_t hf c22
    refine lv_iconst (v := (-1)) hx hb dX0_befalls_7 (by decide) ?_
    refine lv_goto (tgt := 20) hx hb dX0_befalls_8 (by decide) ?_
    exact kj20 (-1) H locs ls hf hP hS (lv_sub hl [0, 1] rfl)
abbrev rmX0_years : Room := { frames := 204, cells := 0, slots := 0, locals := 8090 }
theorem cdX0_years : yX0_years.cls = RX0 ∧ yX0_years.cls ≠ "java/lang/invoke/MethodHandle" ∧ yX0_years.cls ≠ "java/lang/invoke/VarHandle" ∧ (parseMethodDescriptor yX0_years.desc).map (fun d => d.parameters.length) = some 2 := by decide +kernel
set_option maxHeartbeats 4000000 in
set_option maxRecDepth 100000 in
theorem wkX0_years (l : Launch) (D : va_G) (dA : Nat → ClassId) (E : Nat → Nat) (hE : wInj 136 E) (T : Tx) (J : State → Heap → Prop) (hJ : JP D dA E T J) (w : Mm) (a1 : Int32) (a2 : Int32) {res : Int32 × Mm} (hf : X_years T w a1 a2 = some res) : Met l yX0_years (ws_ yX0_years cX0_years 7 (some .int)) rmX0_years (Pj D dA E J [.ref (E 0), .int a1, .int a2] w) (Qwi D clX shX 136 dA E res.1 res.2) 0 0 (AE 136 E) := by
  refine xj_head (own := RX0) (by decide) rfl (Nat.le_of_ble_eq_true rfl) ?_
  intro p e s m args below meth c ls Q hQ C hP hl
  obtain ⟨hx, hb, hr, hlocks, hml, hown, hts, hK, hJs⟩ := C
  replace hl : lv_has ls 7 [(0, .ref (E 0)), (1, .int a1), (2, .int a2)] := hl
  have hS : va_S (AE 136 E) s.heap s.heap [] := va_S.rf
  have hD : wD 136 E (AE 136 E) := wD.self hE
  unfold X_years at hf
  obtain ⟨H, eH⟩ : ∃ H, H = s.heap := ⟨_, rfl⟩
  obtain ⟨locs, eL⟩ : ∃ locs : List Loc, locs = [] := ⟨_, rfl⟩
  rw [← eL] at hS ⊢
  rw [← eH] at hP
  have hS : va_S (AE 136 E) s.heap H locs := by rw [eH]; exact hS
  show W p l e rmX0_years s m args below meth c s.heap locs 0 0 Q (F0 m 0 ls [])
  rw [← eH]
  refine lv_iload_n hx hb dX0_years_0 rfl (lv_at hl 1 rfl) ?_
  refine lv_iconst (v := 0) hx hb dX0_years_1 (by decide) ?_
  refine lv_sipush (v := 9999) hx hb dX0_years_2 (by decide) ?_
  obtain ⟨q2, g1, hf⟩ := ob_bind hf
  refine xc_z (xj_runS (As := [.int a1, .int 0, .int 9999]) (rest := []) hJ hJs hS ⟨hx, hb, hml, hown, hts⟩ (wkX0_in l D dA E hE T J hJ w a1 0 9999 g1) (va_cwS 3 hts (lw_S q319 q320 q136 q321) rfl rfl rfl cdX0_in.2 ⟨Nat.le_of_ble_eq_true rfl, Nat.le_of_ble_eq_true rfl⟩) hK hP hl.1 rfl rfl (Nat.le_of_ble_eq_true rfl) dX0_years_5 ⟨Nat.zero_le _, Nat.zero_le _⟩) hS hD.2 (fun H locs zq2 hP hS => ?_)
  refine lv_if_eq (tgt := 21) hx hb dX0_years_8 (by decide) (fun c3 => ?_) (fun c3 => ?_)
  · replace hf := ob_t hf c3
    refine lv_iconst (v := (-1)) hx hb dX0_years_21 (by decide) ?_
    obtain rfl := ob_s hf
    subst hQ
    exact xe_i hx hb hr hlocks hP hS dX0_years_22
  · replace hf := ob_f hf c3
    refine lv_iload_n hx hb dX0_years_11 rfl (lv_at hl 2 rfl) ?_
    refine lv_iconst (v := 1) hx hb dX0_years_12 (by decide) ?_
    refine lv_bipush (v := 40) hx hb dX0_years_13 (by decide) ?_
    obtain ⟨q5, g4, hf⟩ := ob_bind hf
    refine xc_z (xj_runS (As := [.int a2, .int 1, .int 40]) (rest := []) hJ hJs hS ⟨hx, hb, hml, hown, hts⟩ (wkX0_in l D dA E hE T J hJ w a2 1 40 g4) (va_cwS 3 hts (lw_S q319 q320 q136 q321) rfl rfl rfl cdX0_in.2 ⟨Nat.le_of_ble_eq_true rfl, Nat.le_of_ble_eq_true rfl⟩) hK hP hl.1 rfl rfl (Nat.le_of_ble_eq_true rfl) dX0_years_15 ⟨Nat.zero_le _, Nat.zero_le _⟩) hS hD.2 (fun H locs zq5 hP hS => ?_)
    refine lv_if_ne (tgt := 23) hx hb dX0_years_18 (by decide) (fun c6 => ?_) (fun c6 => ?_)
    · replace hf := ob_f hf c6
      refine lv_aload_n hx hb dX0_years_23 rfl (lv_at hl 0 rfl) ?_
      refine xr_get hx hb hts in_X0 hown hK hP 0 (by decide) rfl rfl 0 (by decide) (hts _ q252) (fun _ h => h) rfl (v := .ref (E 1)) rfl dX0_years_24 ?_
      obtain ⟨q8, g7, hf⟩ := ob_bind hf
      refine xc_v (xj_run (As := []) (rest := []) hJ hJs hS ⟨hx, hb, hml, hown, hts⟩ (k0 := 1) (wkX1_keeps l D dA E hE T J hJ w g7) (cwV 0 hts (lw_V q910 q911 q912 q137 q913) rfl rfl rfl cdX1_keeps ⟨Nat.le_of_ble_eq_true rfl, Nat.le_of_ble_eq_true rfl⟩) hK hP (by decide) rfl rfl rfl hl.1 rfl rfl (Nat.le_of_ble_eq_true rfl) dX0_years_27 ⟨Nat.zero_le _, Nat.zero_le _⟩) hS hD.2 (fun H locs hP hS => ?_)
      refine lv_aload_n hx hb dX0_years_30 rfl (lv_at hl 0 rfl) ?_
      refine xr_get hx hb hts in_X0 hown hK hP 0 (by decide) rfl rfl 0 (by decide) (hts _ q252) (fun _ h => h) rfl (v := .ref (E 1)) rfl dX0_years_31 ?_
      refine xr_getN (host := "QuarrelsPawned") hx hb hts in_X1 hown hK hP 1 (by decide) rfl rfl 1 (by decide) (hJ.nest hJs 1 rfl) (fun _ h => h) rfl (v := .ref (E 4)) rfl dX0_years_34 ?_
      refine lv_iconst (v := 1) hx hb dX0_years_37 (by decide) ?_
      refine lv_iload_n hx hb dX0_years_38 rfl (lv_at hl 1 rfl) ?_
      refine lv_iconst (v := 2) hx hb dX0_years_39 (by decide) ?_
      refine lv_imul hx hb dX0_years_40 ?_
      refine lv_sipush (v := 373) hx hb dX0_years_41 (by decide) ?_
      refine lv_iadd hx hb dX0_years_44 ?_
      obtain ⟨w9, ew9, hf⟩ := ob_bnd hf
      refine xr_iast hx hb hK hP hD hS 4 (by decide) rfl 0 rfl (j := 1) (w' := w9) (vin_c (by decide)) (by decide) ew9 dX0_years_45 (fun H locs hP hS => ?_)
      refine lv_iconst (v := 0) hx hb dX0_years_46 (by decide) ?_
      refine lv_istore_n (lv' := [(3, .int 0), (0, .ref (E 0)), (1, .int a1), (2, .int a2)]) hx hb dX0_years_47 rfl hl (by decide) rfl (fun ls hl => ?_)
      refine lv_iconst (v := 0) hx hb dX0_years_48 (by decide) ?_
      refine lv_istore (lv' := [(4, .int 0), (3, .int 0), (0, .ref (E 0)), (1, .int a1), (2, .int a2)]) hx hb dX0_years_49 hl (by decide) rfl (fun ls hl => ?_)
      obtain ⟨b13, hb13, hf⟩ := ob_bind hf
      obtain ⟨n13, hn13⟩ := lp_some hb13
      have kL51 : ∀ (n : Nat) (w10 : Mm) (v3_11 : Int32) (v4_12 : Int32), lpF (fun (q13 : Mm × Int32 × Int32) => X_years_b51 a2 T q13.1 q13.2.1 q13.2.2) n (w10, v3_11, v4_12) = some b13 → (∀ (H : Heap) (locs : List Loc) (ls : Array Slot), va_P D clX (wl shX 136 dA E b13) H → va_S (AE 136 E) s.heap H locs → lv_has ls 7 [(0, .ref (E 0))] → W p l e rmX0_years s m args below meth c H locs 0 0 Q (F0 m 134 ls [])) → ∀ (H : Heap) (locs : List Loc) (ls : Array Slot), va_P D clX (wl shX 136 dA E w10) H → va_S (AE 136 E) s.heap H locs → lv_has ls 7 [(0, .ref (E 0)), (2, .int a2), (3, .int v3_11), (4, .int v4_12)] → W p l e rmX0_years s m args below meth c H locs 0 0 Q (F0 m 51 ls []) := by
        intro n
        induction n with
        | zero =>
          intro w10 v3_11 v4_12 hq9
          cases hq9
        | succ n ih =>
          intro w10 v3_11 v4_12 hq9 K13_0 H locs ls hP hS hl
          obtain ⟨r13, hf, h13a, h13b⟩ := lpF_step hq9
          replace hf : X_years_b51 a2 T w10 v3_11 v4_12 = some r13 := hf
          unfold X_years_b51 at hf
          refine lv_iload hx hb dX0_years_51 (lv_at hl 3 rfl) ?_
          refine lv_iload_n hx hb dX0_years_53 rfl (lv_at hl 1 rfl) ?_
          refine lv_icmp_ge (tgt := 134) hx hb dX0_years_54 (by decide) (fun c14 => ?_) (fun c14 => ?_)
          · replace hf := ob_t hf c14
            obtain rfl := ob_s hf
            obtain rfl := h13b _ rfl
            exact K13_0 H locs ls hP hS (lv_sub hl [0] rfl)
          · replace hf := ob_f hf c14
            refine lv_aload_n hx hb dX0_years_57 rfl (lv_at hl 0 rfl) ?_
            refine xr_get hx hb hts in_X0 hown hK hP 0 (by decide) rfl rfl 0 (by decide) (hts _ q252) (fun _ h => h) rfl (v := .ref (E 1)) rfl dX0_years_58 ?_
            refine xr_getN (host := "QuarrelsPawned") hx hb hts in_X1 hown hK hP 1 (by decide) rfl rfl 1 (by decide) (hJ.nest hJs 1 rfl) (fun _ h => h) rfl (v := .ref (E 4)) rfl dX0_years_61 ?_
            refine lv_iconst (v := 1) hx hb dX0_years_64 (by decide) ?_
            refine xr_iald hx hb hK hP 4 (by decide) rfl 0 rfl (j := 1) (vin_c (by decide)) (by decide) dX0_years_65 ?_
            obtain ⟨v5_15, ev5_15, hf⟩ := ob_bnd hf
            refine xn_i ev5_15 ?_
            refine lv_istore (lv' := [(5, .int v5_15), (0, .ref (E 0)), (2, .int a2), (3, .int v3_11), (4, .int v4_12)]) hx hb dX0_years_66 hl (by decide) rfl (fun ls hl => ?_)
            refine lv_aload_n hx hb dX0_years_68 rfl (lv_at hl 1 rfl) ?_
            refine xr_get hx hb hts in_X0 hown hK hP 0 (by decide) rfl rfl 0 (by decide) (hts _ q252) (fun _ h => h) rfl (v := .ref (E 1)) rfl dX0_years_69 ?_
            refine xr_getN (host := "QuarrelsPawned") hx hb hts in_X1 hown hK hP 1 (by decide) rfl rfl 1 (by decide) (hJ.nest hJs 1 rfl) (fun _ h => h) rfl (v := .ref (E 4)) rfl dX0_years_72 ?_
            refine lv_iconst (v := 2) hx hb dX0_years_75 (by decide) ?_
            obtain ⟨q17, g16, hf⟩ := ob_bind hf
            refine xc_i (xj_runS (As := [.ref (E 4), .int 2]) (rest := []) hJ hJs hS ⟨hx, hb, hml, hown, hts⟩ (wkX0_drawn l D dA E hE T J hJ w10 4 2 g16 (by decide) rfl) (va_cwS 2 hts (lw_S q1088 q1089 q136 q1090) rfl rfl rfl cdX0_drawn.2 ⟨Nat.le_of_ble_eq_true rfl, Nat.le_of_ble_eq_true rfl⟩) hK hP hl.1 rfl rfl (Nat.le_of_ble_eq_true rfl) dX0_years_76 ⟨Nat.zero_le _, Nat.zero_le _⟩) hS hD.2 (fun H locs hP hS => ?_)
            refine lv_istore (lv' := [(6, .int q17.1), (5, .int v5_15), (0, .ref (E 0)), (2, .int a2), (3, .int v3_11), (4, .int v4_12)]) hx hb dX0_years_79 hl (by decide) rfl (fun ls hl => ?_)
            refine lv_iload hx hb dX0_years_81 (lv_at hl 1 rfl) ?_
            refine lv_bipush (v := 6) hx hb dX0_years_83 (by decide) ?_
            refine xr_irem hx hb dX0_years_85 (by decide) ?_
            refine lv_iconst (v := 4) hx hb dX0_years_86 (by decide) ?_
            refine lv_icmp_ge (tgt := 99) hx hb dX0_years_87 (by decide) (fun c18 => ?_) (fun c18 => ?_)
            · replace hf := ob_t hf c18
              refine lv_aload_n hx hb dX0_years_99 rfl (lv_at hl 2 rfl) ?_
              refine xr_get hx hb hts in_X0 hown hK hP 0 (by decide) rfl rfl 0 (by decide) (hts _ q252) (fun _ h => h) rfl (v := .ref (E 1)) rfl dX0_years_100 ?_
              refine xr_getN (host := "QuarrelsPawned") hx hb hts in_X1 hown hK hP 1 (by decide) rfl rfl 1 (by decide) (hJ.nest hJs 1 rfl) (fun _ h => h) rfl (v := .ref (E 4)) rfl dX0_years_103 ?_
              refine lv_iconst (v := 0) hx hb dX0_years_106 (by decide) ?_
              refine xr_iald hx hb hK hP 4 (by decide) rfl 0 rfl (j := 0) (vin_c (by decide)) (by decide) dX0_years_107 ?_
              refine lv_sipush (v := 9999) hx hb dX0_years_108 (by decide) ?_
              refine lv_icmp_ge (tgt := 128) hx hb dX0_years_111 (by decide) (fun c19 => ?_) (fun c19 => ?_)
              · replace hf := ob_t hf c19
                obtain ⟨v4_20, ev4_20, hf⟩ := ob_bnd hf
                refine lv_iinc (v := v4_20) (lv' := [(4, .int v4_20), (6, .int q17.1), (5, .int v5_15), (0, .ref (E 0)), (2, .int a2), (3, .int v3_11)]) hx hb dX0_years_128 hl (k := 5) rfl (by rw [ev4_20]; rfl) (by decide) rfl (fun ls hl => ?_)
                refine lv_goto (tgt := 51) hx hb dX0_years_131 (by decide) ?_
                obtain rfl := ob_s hf
                exact ih _ _ _ (h13a _ rfl) K13_0 H locs ls hP hS (lv_sub hl [3, 4, 5, 0] rfl)
              · replace hf := ob_f hf c19
                refine lv_iload_n hx hb dX0_years_114 rfl (lv_at hl 4 rfl) ?_
                refine lv_aload_n hx hb dX0_years_115 rfl (lv_at hl 2 rfl) ?_
                refine lv_aload_n hx hb dX0_years_116 rfl (lv_at hl 2 rfl) ?_
                refine xr_get hx hb hts in_X0 hown hK hP 0 (by decide) rfl rfl 0 (by decide) (hts _ q252) (fun _ h => h) rfl (v := .ref (E 1)) rfl dX0_years_117 ?_
                refine xr_getN (host := "QuarrelsPawned") hx hb hts in_X1 hown hK hP 1 (by decide) rfl rfl 1 (by decide) (hJ.nest hJs 1 rfl) (fun _ h => h) rfl (v := .ref (E 4)) rfl dX0_years_120 ?_
                obtain ⟨q22, g21, hf⟩ := ob_bind hf
                refine xc_i (xj_run (As := [.ref (E 4)]) (rest := [.int v3_11]) hJ hJs hS ⟨hx, hb, hml, hown, hts⟩ (k0 := 0) (wkX0_passes l D dA E hE T J hJ q17.2 4 g21 (by decide) rfl) (cwV 1 hts (lw_V q1084 q1086 qs35 q136 q1087) rfl rfl rfl cdX0_passes ⟨Nat.le_of_ble_eq_true rfl, Nat.le_of_ble_eq_true rfl⟩) hK hP (by decide) rfl rfl rfl hl.1 rfl rfl (Nat.le_of_ble_eq_true rfl) dX0_years_123 ⟨Nat.zero_le _, Nat.zero_le _⟩) hS hD.2 (fun H locs hP hS => ?_)
                refine lv_iadd hx hb dX0_years_126 ?_
                obtain ⟨v3_23, ev3_23, hf⟩ := ob_bnd hf
                refine xn_i ev3_23 ?_
                refine lv_istore_n (lv' := [(3, .int v3_23), (6, .int q17.1), (5, .int v5_15), (0, .ref (E 0)), (2, .int a2), (4, .int v4_12)]) hx hb dX0_years_127 rfl hl (by decide) rfl (fun ls hl => ?_)
                obtain ⟨v4_24, ev4_24, hf⟩ := ob_bnd hf
                refine lv_iinc (v := v4_24) (lv' := [(4, .int v4_24), (3, .int v3_23), (6, .int q17.1), (5, .int v5_15), (0, .ref (E 0)), (2, .int a2)]) hx hb dX0_years_128 hl (k := 5) rfl (by rw [ev4_24]; rfl) (by decide) rfl (fun ls hl => ?_)
                refine lv_goto (tgt := 51) hx hb dX0_years_131 (by decide) ?_
                obtain rfl := ob_s hf
                exact ih _ _ _ (h13a _ rfl) K13_0 H locs ls hP hS (lv_sub hl [4, 5, 1, 0] rfl)
            · replace hf := ob_f hf c18
              refine lv_aload_n hx hb dX0_years_90 rfl (lv_at hl 2 rfl) ?_
              refine lv_iload hx hb dX0_years_91 (lv_at hl 1 rfl) ?_
              obtain ⟨q26, g25, hf⟩ := ob_bind hf
              refine xc_v (xj_run (As := [.int v5_15]) (rest := []) hJ hJs hS ⟨hx, hb, hml, hown, hts⟩ (k0 := 0) (wkX0_befalls l D dA E hE T J hJ q17.2 v5_15 g25) (cwV 1 hts (lw_V q1153 q1155 qs40 q136 q1156) rfl rfl rfl cdX0_befalls ⟨Nat.le_of_ble_eq_true rfl, Nat.le_of_ble_eq_true rfl⟩) hK hP (by decide) rfl rfl rfl hl.1 rfl rfl (Nat.le_of_ble_eq_true rfl) dX0_years_93 ⟨Nat.zero_le _, Nat.zero_le _⟩) hS hD.2 (fun H locs hP hS => ?_)
              refine lv_goto (tgt := 128) hx hb dX0_years_96 (by decide) ?_
              obtain ⟨v4_27, ev4_27, hf⟩ := ob_bnd hf
              refine lv_iinc (v := v4_27) (lv' := [(4, .int v4_27), (6, .int q17.1), (5, .int v5_15), (0, .ref (E 0)), (2, .int a2), (3, .int v3_11)]) hx hb dX0_years_128 hl (k := 5) rfl (by rw [ev4_27]; rfl) (by decide) rfl (fun ls hl => ?_)
              refine lv_goto (tgt := 51) hx hb dX0_years_131 (by decide) ?_
              obtain rfl := ob_s hf
              exact ih _ _ _ (h13a _ rfl) K13_0 H locs ls hP hS (lv_sub hl [3, 4, 5, 0] rfl)
      refine kL51 n13 w9 0 0 hn13 (fun H locs ls hP hS hl => ?_) H locs ls hP hS (lv_sub hl [2, 4, 1, 0] rfl)
      replace hf : X_years_x51_134 b13 = some res := hf
      unfold X_years_x51_134 at hf
      refine lv_aload_n hx hb dX0_years_134 rfl (lv_at hl 0 rfl) ?_
      refine xr_get hx hb hts in_X0 hown hK hP 0 (by decide) rfl rfl 0 (by decide) (hts _ q252) (fun _ h => h) rfl (v := .ref (E 1)) rfl dX0_years_135 ?_
      refine xr_getN (host := "QuarrelsPawned") hx hb hts in_X1 hown hK hP 1 (by decide) rfl rfl 1 (by decide) (hJ.nest hJs 1 rfl) (fun _ h => h) rfl (v := .ref (E 4)) rfl dX0_years_138 ?_
      refine lv_iconst (v := 0) hx hb dX0_years_141 (by decide) ?_
      refine xr_iald hx hb hK hP 4 (by decide) rfl 0 rfl (j := 0) (vin_c (by decide)) (by decide) dX0_years_142 ?_
      obtain rfl := ob_s hf
      subst hQ
      exact xe_i hx hb hr hlocks hP hS dX0_years_143
    · replace hf := ob_t hf c6
      refine lv_iconst (v := (-1)) hx hb dX0_years_21 (by decide) ?_
      obtain rfl := ob_s hf
      subst hQ
      exact xe_i hx hb hr hlocks hP hS dX0_years_22
