/-! QuarrelsPawnedModel: its methods walked (printed by gen.py) -/
abbrev rmX2_duesOf : Room := { frames := 5, cells := 0, slots := 0, locals := 125 }
theorem cdX2_duesOf : yX2_duesOf.cls = RX2 ∧ yX2_duesOf.cls ≠ "java/lang/invoke/MethodHandle" ∧ yX2_duesOf.cls ≠ "java/lang/invoke/VarHandle" ∧ (parseMethodDescriptor yX2_duesOf.desc).map (fun d => d.parameters.length) = some 1 := by decide +kernel
set_option maxHeartbeats 4000000 in
set_option maxRecDepth 100000 in
theorem wkX2_duesOf (l : Launch) (D : va_G) (dA : Nat → ClassId) (E : Nat → Nat) (hE : wInj 19 E) (w : Mm) (a1 : Int32) {res : Int32 × Mm} (hf : M_duesOf w a1 = some res) : Met l yX2_duesOf (ws_ yX2_duesOf cX2_duesOf 2 (some .int)) rmX2_duesOf (Pw D clM (tyM dA) shM 19 dA E [.ref (E 0), .int a1] w) (Qwi D clM shM 19 dA E res.1 res.2) 0 0 (AE 19 E) := by
  refine xm_head (own := RX2) (by decide) rfl (Nat.le_of_ble_eq_true rfl) ?_
  intro p e s m args below meth c ls Q hQ C hP hl
  obtain ⟨hx, hb, hr, hlocks, hml, hown, hts, hK⟩ := C
  replace hl : lv_has ls 2 [(0, .ref (E 0)), (1, .int a1)] := hl
  have hS : va_S (AE 19 E) s.heap s.heap [] := va_S.rf
  have hD : wD 19 E (AE 19 E) := wD.self hE
  unfold M_duesOf at hf
  obtain ⟨H, eH⟩ : ∃ H, H = s.heap := ⟨_, rfl⟩
  obtain ⟨locs, eL⟩ : ∃ locs : List Loc, locs = [] := ⟨_, rfl⟩
  rw [← eL] at hS ⊢
  rw [← eH] at hP
  have hS : va_S (AE 19 E) s.heap H locs := by rw [eH]; exact hS
  show W p l e rmX2_duesOf s m args below meth c s.heap locs 0 0 Q (F0 m 0 ls [])
  rw [← eH]
  refine lv_aload_n hx hb dX2_duesOf_0 rfl (lv_at hl 0 rfl) ?_
  refine lv_aload_n hx hb dX2_duesOf_1 rfl (lv_at hl 0 rfl) ?_
  refine xr_get hx hb hts in_X2 hown hK hP 0 (by decide) rfl rfl 0 (by decide) (hts _ q1405) (fun _ h => h) rfl (v := .ref (E 1)) rfl dX2_duesOf_2 ?_
  refine lv_iconst (v := 2) hx hb dX2_duesOf_5 (by decide) ?_
  refine xr_iald hx hb hK hP 1 (by decide) rfl 0 rfl (j := 2) (vin_c (by decide)) (by decide) dX2_duesOf_6 ?_
  refine lv_iload_n hx hb dX2_duesOf_7 rfl (lv_at hl 1 rfl) ?_
  refine lv_iconst (v := 0) hx hb dX2_duesOf_8 (by decide) ?_
  refine lv_aload_n hx hb dX2_duesOf_9 rfl (lv_at hl 0 rfl) ?_
  refine xr_get hx hb hts in_X2 hown hK hP 0 (by decide) rfl rfl 0 (by decide) (hts _ q1405) (fun _ h => h) rfl (v := .ref (E 1)) rfl dX2_duesOf_10 ?_
  refine lv_bipush (v := 9) hx hb dX2_duesOf_13 (by decide) ?_
  refine xr_iald hx hb hK hP 1 (by decide) rfl 0 rfl (j := 9) (vin_c (by decide)) (by decide) dX2_duesOf_15 ?_
  obtain ⟨q2, g1, hf⟩ := ob_bind hf
  refine xc_i (xw_run (As := [.int (w.1 1 2), .int a1, .int 0, .int (w.1 1 9)]) (rest := []) ⟨hx, hb, hml, hown, hts⟩ (k0 := 0) (wkX2_duesBy l D dA E hE w (w.1 1 2) a1 0 (w.1 1 9) g1) (cwV 4 hts (lw_V q1772 q1774 qs100 q140 q1775) rfl rfl rfl cdX2_duesBy ⟨Nat.le_of_ble_eq_true rfl, Nat.le_of_ble_eq_true rfl⟩) hK hP (by decide) rfl rfl rfl hl.1 rfl rfl (Nat.le_of_ble_eq_true rfl) dX2_duesOf_16 ⟨Nat.zero_le _, Nat.zero_le _⟩) hS hD.2 (fun H locs hP hS => ?_)
  obtain rfl := ob_s hf
  subst hQ
  exact xe_i hx hb hr hlocks hP hS dX2_duesOf_19
abbrev rmX2_canRedeem : Room := { frames := 6, cells := 0, slots := 0, locals := 146 }
theorem cdX2_canRedeem : yX2_canRedeem.cls = RX2 ∧ yX2_canRedeem.cls ≠ "java/lang/invoke/MethodHandle" ∧ yX2_canRedeem.cls ≠ "java/lang/invoke/VarHandle" ∧ (parseMethodDescriptor yX2_canRedeem.desc).map (fun d => d.parameters.length) = some 1 := by decide +kernel
set_option maxHeartbeats 4000000 in
set_option maxRecDepth 100000 in
theorem wkX2_canRedeem (l : Launch) (D : va_G) (dA : Nat → ClassId) (E : Nat → Nat) (hE : wInj 19 E) (w : Mm) (a1 : Int32) {res : Int32 × Mm} (hf : M_canRedeem w a1 = some res) : Met l yX2_canRedeem (ws_ yX2_canRedeem cX2_canRedeem 2 (some .boolean)) rmX2_canRedeem (Pw D clM (tyM dA) shM 19 dA E [.ref (E 0), .int a1] w) (Qwz D clM shM 19 dA E res.1 res.2) 0 0 (AE 19 E) := by
  refine xm_head (own := RX2) (by decide) rfl (Nat.le_of_ble_eq_true rfl) ?_
  intro p e s m args below meth c ls Q hQ C hP hl
  obtain ⟨hx, hb, hr, hlocks, hml, hown, hts, hK⟩ := C
  replace hl : lv_has ls 2 [(0, .ref (E 0)), (1, .int a1)] := hl
  have hS : va_S (AE 19 E) s.heap s.heap [] := va_S.rf
  have hD : wD 19 E (AE 19 E) := wD.self hE
  unfold M_canRedeem at hf
  obtain ⟨H, eH⟩ : ∃ H, H = s.heap := ⟨_, rfl⟩
  obtain ⟨locs, eL⟩ : ∃ locs : List Loc, locs = [] := ⟨_, rfl⟩
  rw [← eL] at hS ⊢
  rw [← eH] at hP
  have hS : va_S (AE 19 E) s.heap H locs := by rw [eH]; exact hS
  show W p l e rmX2_canRedeem s m args below meth c s.heap locs 0 0 Q (F0 m 0 ls [])
  rw [← eH]
  refine lv_aload_n hx hb dX2_canRedeem_0 rfl (lv_at hl 0 rfl) ?_
  refine lv_iload_n hx hb dX2_canRedeem_1 rfl (lv_at hl 1 rfl) ?_
  obtain ⟨q2, g1, hf⟩ := ob_bind hf
  refine xc_z (xw_run (As := [.int a1]) (rest := []) ⟨hx, hb, hml, hown, hts⟩ (k0 := 0) (wkX2_isQuarrel l D dA E hE w a1 g1) (cwV 1 hts (lw_V q1733 q1735 qs92 q140 q1736) rfl rfl rfl cdX2_isQuarrel ⟨Nat.le_of_ble_eq_true rfl, Nat.le_of_ble_eq_true rfl⟩) hK hP (by decide) rfl rfl rfl hl.1 rfl rfl (Nat.le_of_ble_eq_true rfl) dX2_canRedeem_2 ⟨Nat.zero_le _, Nat.zero_le _⟩) hS hD.2 (fun H locs zq2 hP hS => ?_)
  refine lv_if_eq (tgt := 35) hx hb dX2_canRedeem_5 (by decide) (fun c3 => ?_) (fun c3 => ?_)
  · replace hf := ob_t hf c3
    refine lv_iconst (v := 0) hx hb dX2_canRedeem_35 (by decide) ?_
    obtain rfl := ob_s hf
    subst hQ
    exact xe_z hx hb hr hlocks hP hS (Or.inl rfl) dX2_canRedeem_36
  · replace hf := ob_f hf c3
    refine lv_aload_n hx hb dX2_canRedeem_8 rfl (lv_at hl 0 rfl) ?_
    refine lv_iload_n hx hb dX2_canRedeem_9 rfl (lv_at hl 1 rfl) ?_
    obtain ⟨q5, g4, hf⟩ := ob_bind hf
    refine xc_z (xw_run (As := [.int a1]) (rest := []) ⟨hx, hb, hml, hown, hts⟩ (k0 := 0) (wkX2_isPawned l D dA E hE w a1 g4) (cwV 1 hts (lw_V q1764 q1766 qs98 q140 q1767) rfl rfl rfl cdX2_isPawned ⟨Nat.le_of_ble_eq_true rfl, Nat.le_of_ble_eq_true rfl⟩) hK hP (by decide) rfl rfl rfl hl.1 rfl rfl (Nat.le_of_ble_eq_true rfl) dX2_canRedeem_10 ⟨Nat.zero_le _, Nat.zero_le _⟩) hS hD.2 (fun H locs zq5 hP hS => ?_)
    refine lv_if_eq (tgt := 35) hx hb dX2_canRedeem_13 (by decide) (fun c6 => ?_) (fun c6 => ?_)
    · replace hf := ob_t hf c6
      refine lv_iconst (v := 0) hx hb dX2_canRedeem_35 (by decide) ?_
      obtain rfl := ob_s hf
      subst hQ
      exact xe_z hx hb hr hlocks hP hS (Or.inl rfl) dX2_canRedeem_36
    · replace hf := ob_f hf c6
      refine lv_aload_n hx hb dX2_canRedeem_16 rfl (lv_at hl 0 rfl) ?_
      refine xr_get hx hb hts in_X2 hown hK hP 0 (by decide) rfl rfl 0 (by decide) (hts _ q1405) (fun _ h => h) rfl (v := .ref (E 1)) rfl dX2_canRedeem_17 ?_
      refine lv_bipush (v := 9) hx hb dX2_canRedeem_20 (by decide) ?_
      refine xr_iald hx hb hK hP 1 (by decide) rfl 0 rfl (j := 9) (vin_c (by decide)) (by decide) dX2_canRedeem_22 ?_
      refine lv_aload_n hx hb dX2_canRedeem_23 rfl (lv_at hl 0 rfl) ?_
      refine lv_iload_n hx hb dX2_canRedeem_24 rfl (lv_at hl 1 rfl) ?_
      obtain ⟨q8, g7, hf⟩ := ob_bind hf
      refine xc_i (xw_run (As := [.int a1]) (rest := [.int (w.1 1 9)]) ⟨hx, hb, hml, hown, hts⟩ (k0 := 0) (wkX2_duesOf l D dA E hE w a1 g7) (cwV 1 hts (lw_V q1768 q1770 qs99 q140 q1771) rfl rfl rfl cdX2_duesOf ⟨Nat.le_of_ble_eq_true rfl, Nat.le_of_ble_eq_true rfl⟩) hK hP (by decide) rfl rfl rfl hl.1 rfl rfl (Nat.le_of_ble_eq_true rfl) dX2_canRedeem_25 ⟨Nat.zero_le _, Nat.zero_le _⟩) hS hD.2 (fun H locs hP hS => ?_)
      refine lv_icmp_lt (tgt := 35) hx hb dX2_canRedeem_28 (by decide) (fun c9 => ?_) (fun c9 => ?_)
      · replace hf := ob_t hf c9
        refine lv_iconst (v := 0) hx hb dX2_canRedeem_35 (by decide) ?_
        obtain rfl := ob_s hf
        subst hQ
        exact xe_z hx hb hr hlocks hP hS (Or.inl rfl) dX2_canRedeem_36
      · replace hf := ob_f hf c9
        refine lv_iconst (v := 1) hx hb dX2_canRedeem_31 (by decide) ?_
        refine lv_goto (tgt := 36) hx hb dX2_canRedeem_32 (by decide) ?_
        obtain rfl := ob_s hf
        subst hQ
        exact xe_z hx hb hr hlocks hP hS (Or.inr rfl) dX2_canRedeem_36
abbrev rmX2_redeemNow : Room := { frames := 6, cells := 0, slots := 0, locals := 146 }
theorem cdX2_redeemNow : yX2_redeemNow.cls = RX2 ∧ yX2_redeemNow.cls ≠ "java/lang/invoke/MethodHandle" ∧ yX2_redeemNow.cls ≠ "java/lang/invoke/VarHandle" ∧ (parseMethodDescriptor yX2_redeemNow.desc).map (fun d => d.parameters.length) = some 1 := by decide +kernel
set_option maxHeartbeats 4000000 in
set_option maxRecDepth 100000 in
theorem wkX2_redeemNow (l : Launch) (D : va_G) (dA : Nat → ClassId) (E : Nat → Nat) (hE : wInj 19 E) (w : Mm) (a1 : Int32) {res : Int32 × Mm} (hf : M_redeemNow w a1 = some res) : Met l yX2_redeemNow (ws_ yX2_redeemNow cX2_redeemNow 3 (some .int)) rmX2_redeemNow (Pw D clM (tyM dA) shM 19 dA E [.ref (E 0), .int a1] w) (Qwi D clM shM 19 dA E res.1 res.2) 0 0 (AE 19 E) := by
  refine xm_head (own := RX2) (by decide) rfl (Nat.le_of_ble_eq_true rfl) ?_
  intro p e s m args below meth c ls Q hQ C hP hl
  obtain ⟨hx, hb, hr, hlocks, hml, hown, hts, hK⟩ := C
  replace hl : lv_has ls 3 [(0, .ref (E 0)), (1, .int a1)] := hl
  have hS : va_S (AE 19 E) s.heap s.heap [] := va_S.rf
  have hD : wD 19 E (AE 19 E) := wD.self hE
  unfold M_redeemNow at hf
  obtain ⟨H, eH⟩ : ∃ H, H = s.heap := ⟨_, rfl⟩
  obtain ⟨locs, eL⟩ : ∃ locs : List Loc, locs = [] := ⟨_, rfl⟩
  rw [← eL] at hS ⊢
  rw [← eH] at hP
  have hS : va_S (AE 19 E) s.heap H locs := by rw [eH]; exact hS
  show W p l e rmX2_redeemNow s m args below meth c s.heap locs 0 0 Q (F0 m 0 ls [])
  rw [← eH]
  refine lv_aload_n hx hb dX2_redeemNow_0 rfl (lv_at hl 0 rfl) ?_
  refine lv_iload_n hx hb dX2_redeemNow_1 rfl (lv_at hl 1 rfl) ?_
  obtain ⟨q2, g1, hf⟩ := ob_bind hf
  refine xc_i (xw_run (As := [.int a1]) (rest := []) ⟨hx, hb, hml, hown, hts⟩ (k0 := 0) (wkX2_duesOf l D dA E hE w a1 g1) (cwV 1 hts (lw_V q1768 q1770 qs99 q140 q1771) rfl rfl rfl cdX2_duesOf ⟨Nat.le_of_ble_eq_true rfl, Nat.le_of_ble_eq_true rfl⟩) hK hP (by decide) rfl rfl rfl hl.1 rfl rfl (Nat.le_of_ble_eq_true rfl) dX2_redeemNow_2 ⟨Nat.zero_le _, Nat.zero_le _⟩) hS hD.2 (fun H locs hP hS => ?_)
  refine lv_istore_n (lv' := [(2, .int q2.1), (0, .ref (E 0)), (1, .int a1)]) hx hb dX2_redeemNow_5 rfl hl (by decide) rfl (fun ls hl => ?_)
  refine lv_aload_n hx hb dX2_redeemNow_6 rfl (lv_at hl 1 rfl) ?_
  refine xr_get hx hb hts in_X2 hown hK hP 0 (by decide) rfl rfl 0 (by decide) (hts _ q1405) (fun _ h => h) rfl (v := .ref (E 1)) rfl dX2_redeemNow_7 ?_
  refine lv_bipush (v := 9) hx hb dX2_redeemNow_10 (by decide) ?_
  refine lv_dup2_11 hx hb dX2_redeemNow_12 rfl rfl ?_
  refine xr_iald hx hb hK hP 1 (by decide) rfl 0 rfl (j := 9) (vin_c (by decide)) (by decide) dX2_redeemNow_13 ?_
  refine lv_iload_n hx hb dX2_redeemNow_14 rfl (lv_at hl 0 rfl) ?_
  refine lv_isub hx hb dX2_redeemNow_15 ?_
  obtain ⟨w3, ew3, hf⟩ := ob_bnd hf
  refine xr_iast hx hb hK hP hD hS 1 (by decide) rfl 0 rfl (j := 9) (w' := w3) (vin_c (by decide)) (by decide) ew3 dX2_redeemNow_16 (fun H locs hP hS => ?_)
  refine lv_aload_n hx hb dX2_redeemNow_17 rfl (lv_at hl 1 rfl) ?_
  refine xr_get hx hb hts in_X2 hown hK hP 0 (by decide) rfl rfl 0 (by decide) (hts _ q1405) (fun _ h => h) rfl (v := .ref (E 1)) rfl dX2_redeemNow_18 ?_
  refine lv_bipush (v := 12) hx hb dX2_redeemNow_21 (by decide) ?_
  refine lv_iconst (v := 3) hx hb dX2_redeemNow_23 (by decide) ?_
  refine lv_iload_n hx hb dX2_redeemNow_24 rfl (lv_at hl 2 rfl) ?_
  refine lv_imul hx hb dX2_redeemNow_25 ?_
  refine lv_iadd hx hb dX2_redeemNow_26 ?_
  refine lv_iconst (v := 2) hx hb dX2_redeemNow_27 (by decide) ?_
  obtain ⟨h4, hf⟩ := ob_gd hf
  obtain ⟨w5, ew5, hf⟩ := ob_bnd hf
  refine xr_iast hx hb hK hP hD hS 1 (by decide) rfl 0 rfl (j := (12 + (3 * a1)).toNatClampNeg) (w' := w5) h4 rfl ew5 dX2_redeemNow_28 (fun H locs hP hS => ?_)
  refine lv_aload_n hx hb dX2_redeemNow_29 rfl (lv_at hl 1 rfl) ?_
  refine lv_iload_n hx hb dX2_redeemNow_30 rfl (lv_at hl 2 rfl) ?_
  refine lv_iconst (v := 1) hx hb dX2_redeemNow_31 (by decide) ?_
  obtain ⟨q7, g6, hf⟩ := ob_bind hf
  refine xc_v (xw_run (As := [.int a1, .int 1]) (rest := []) ⟨hx, hb, hml, hown, hts⟩ (k0 := 0) (wkX2_write l D dA E hE w5 a1 1 g6) (cwV 2 hts (lw_V q1752 q1754 qs96 q140 q1755) rfl rfl rfl cdX2_write ⟨Nat.le_of_ble_eq_true rfl, Nat.le_of_ble_eq_true rfl⟩) hK hP (by decide) rfl rfl rfl hl.1 rfl rfl (Nat.le_of_ble_eq_true rfl) dX2_redeemNow_32 ⟨Nat.zero_le _, Nat.zero_le _⟩) hS hD.2 (fun H locs hP hS => ?_)
  refine lv_iload_n hx hb dX2_redeemNow_35 rfl (lv_at hl 0 rfl) ?_
  obtain rfl := ob_s hf
  subst hQ
  exact xe_i hx hb hr hlocks hP hS dX2_redeemNow_36
abbrev rmX2_redeem : Room := { frames := 7, cells := 0, slots := 0, locals := 168 }
theorem cdX2_redeem : yX2_redeem.cls = RX2 ∧ yX2_redeem.cls ≠ "java/lang/invoke/MethodHandle" ∧ yX2_redeem.cls ≠ "java/lang/invoke/VarHandle" ∧ (parseMethodDescriptor yX2_redeem.desc).map (fun d => d.parameters.length) = some 1 := by decide +kernel
set_option maxHeartbeats 4000000 in
set_option maxRecDepth 100000 in
theorem wkX2_redeem (l : Launch) (D : va_G) (dA : Nat → ClassId) (E : Nat → Nat) (hE : wInj 19 E) (w : Mm) (a1 : Int32) {res : Int32 × Mm} (hf : M_redeem w a1 = some res) : Met l yX2_redeem (ws_ yX2_redeem cX2_redeem 2 (some .int)) rmX2_redeem (Pw D clM (tyM dA) shM 19 dA E [.ref (E 0), .int a1] w) (Qwi D clM shM 19 dA E res.1 res.2) 0 0 (AE 19 E) := by
  refine xm_head (own := RX2) (by decide) rfl (Nat.le_of_ble_eq_true rfl) ?_
  intro p e s m args below meth c ls Q hQ C hP hl
  obtain ⟨hx, hb, hr, hlocks, hml, hown, hts, hK⟩ := C
  replace hl : lv_has ls 2 [(0, .ref (E 0)), (1, .int a1)] := hl
  have hS : va_S (AE 19 E) s.heap s.heap [] := va_S.rf
  have hD : wD 19 E (AE 19 E) := wD.self hE
  unfold M_redeem at hf
  obtain ⟨H, eH⟩ : ∃ H, H = s.heap := ⟨_, rfl⟩
  obtain ⟨locs, eL⟩ : ∃ locs : List Loc, locs = [] := ⟨_, rfl⟩
  rw [← eL] at hS ⊢
  rw [← eH] at hP
  have hS : va_S (AE 19 E) s.heap H locs := by rw [eH]; exact hS
  show W p l e rmX2_redeem s m args below meth c s.heap locs 0 0 Q (F0 m 0 ls [])
  rw [← eH]
  refine lv_aload_n hx hb dX2_redeem_0 rfl (lv_at hl 0 rfl) ?_
  refine lv_iload_n hx hb dX2_redeem_1 rfl (lv_at hl 1 rfl) ?_
  obtain ⟨q2, g1, hf⟩ := ob_bind hf
  refine xc_z (xw_run (As := [.int a1]) (rest := []) ⟨hx, hb, hml, hown, hts⟩ (k0 := 0) (wkX2_canRedeem l D dA E hE w a1 g1) (cwV 1 hts (lw_V q1760 q1762 qs97 q140 q1763) rfl rfl rfl cdX2_canRedeem ⟨Nat.le_of_ble_eq_true rfl, Nat.le_of_ble_eq_true rfl⟩) hK hP (by decide) rfl rfl rfl hl.1 rfl rfl (Nat.le_of_ble_eq_true rfl) dX2_redeem_2 ⟨Nat.zero_le _, Nat.zero_le _⟩) hS hD.2 (fun H locs zq2 hP hS => ?_)
  refine lv_if_ne (tgt := 10) hx hb dX2_redeem_5 (by decide) (fun c3 => ?_) (fun c3 => ?_)
  · replace hf := ob_f hf c3
    refine lv_aload_n hx hb dX2_redeem_10 rfl (lv_at hl 0 rfl) ?_
    obtain ⟨q5, g4, hf⟩ := ob_bind hf
    refine xc_v (xw_run (As := []) (rest := []) ⟨hx, hb, hml, hown, hts⟩ (k0 := 0) (wkX2_keep l D dA E hE q2.2 g4) (cwV 0 hts (lw_V q1741 q1743 qs94 q140 q1744) rfl rfl rfl cdX2_keep ⟨Nat.le_of_ble_eq_true rfl, Nat.le_of_ble_eq_true rfl⟩) hK hP (by decide) rfl rfl rfl hl.1 rfl rfl (Nat.le_of_ble_eq_true rfl) dX2_redeem_11 ⟨Nat.zero_le _, Nat.zero_le _⟩) hS hD.2 (fun H locs hP hS => ?_)
    refine lv_aload_n hx hb dX2_redeem_14 rfl (lv_at hl 0 rfl) ?_
    refine lv_iload_n hx hb dX2_redeem_15 rfl (lv_at hl 1 rfl) ?_
    obtain ⟨q7, g6, hf⟩ := ob_bind hf
    refine xc_i (xw_run (As := [.int a1]) (rest := []) ⟨hx, hb, hml, hown, hts⟩ (k0 := 0) (wkX2_redeemNow l D dA E hE q5 a1 g6) (cwV 1 hts (lw_V q1817 q1819 qs107 q140 q1820) rfl rfl rfl cdX2_redeemNow ⟨Nat.le_of_ble_eq_true rfl, Nat.le_of_ble_eq_true rfl⟩) hK hP (by decide) rfl rfl rfl hl.1 rfl rfl (Nat.le_of_ble_eq_true rfl) dX2_redeem_16 ⟨Nat.zero_le _, Nat.zero_le _⟩) hS hD.2 (fun H locs hP hS => ?_)
    obtain rfl := ob_s hf
    subst hQ
    exact xe_i hx hb hr hlocks hP hS dX2_redeem_19
  · replace hf := ob_t hf c3
    refine lv_iconst (v := (-1)) hx hb dX2_redeem_8 (by decide) ?_
    obtain rfl := ob_s hf
    subst hQ
    exact xe_i hx hb hr hlocks hP hS dX2_redeem_9
abbrev rmX2_canEarn : Room := { frames := 1, cells := 0, slots := 0, locals := 22 }
theorem cdX2_canEarn : yX2_canEarn.cls = RX2 ∧ yX2_canEarn.cls ≠ "java/lang/invoke/MethodHandle" ∧ yX2_canEarn.cls ≠ "java/lang/invoke/VarHandle" ∧ (parseMethodDescriptor yX2_canEarn.desc).map (fun d => d.parameters.length) = some 1 := by decide +kernel
set_option maxHeartbeats 4000000 in
set_option maxRecDepth 100000 in
theorem wkX2_canEarn (l : Launch) (D : va_G) (dA : Nat → ClassId) (E : Nat → Nat) (hE : wInj 19 E) (w : Mm) (a1 : Int32) {res : Int32} (hf : M_canEarn w a1 = some res) : Met l yX2_canEarn (ws_ yX2_canEarn cX2_canEarn 2 (some .boolean)) rmX2_canEarn (Pw D clM (tyM dA) shM 19 dA E [.ref (E 0), .int a1] w) (Qwz D clM shM 19 dA E res w) 0 0 (AE 19 E) := by
  refine xm_head (own := RX2) (by decide) rfl (Nat.le_of_ble_eq_true rfl) ?_
  intro p e s m args below meth c ls Q hQ C hP hl
  obtain ⟨hx, hb, hr, hlocks, hml, hown, hts, hK⟩ := C
  replace hl : lv_has ls 2 [(0, .ref (E 0)), (1, .int a1)] := hl
  have hS : va_S (AE 19 E) s.heap s.heap [] := va_S.rf
  have hD : wD 19 E (AE 19 E) := wD.self hE
  unfold M_canEarn at hf
  obtain ⟨H, eH⟩ : ∃ H, H = s.heap := ⟨_, rfl⟩
  obtain ⟨locs, eL⟩ : ∃ locs : List Loc, locs = [] := ⟨_, rfl⟩
  rw [← eL] at hS ⊢
  rw [← eH] at hP
  have hS : va_S (AE 19 E) s.heap H locs := by rw [eH]; exact hS
  show W p l e rmX2_canEarn s m args below meth c s.heap locs 0 0 Q (F0 m 0 ls [])
  rw [← eH]
  refine lv_iload_n hx hb dX2_canEarn_0 rfl (lv_at hl 1 rfl) ?_
  refine lv_iconst (v := 1) hx hb dX2_canEarn_1 (by decide) ?_
  refine lv_sipush (v := 999) hx hb dX2_canEarn_2 (by decide) ?_
  obtain ⟨q2, g1, hf⟩ := ob_bind hf
  refine xc_z (xw_runS (As := [.int a1, .int 1, .int 999]) (rest := []) ⟨hx, hb, hml, hown, hts⟩ (wkX2_isIn l D dA E hE w a1 1 999 g1) (va_cwS 3 hts (lw_S q1538 q1539 q140 q1540) rfl rfl rfl cdX2_isIn.2 ⟨Nat.le_of_ble_eq_true rfl, Nat.le_of_ble_eq_true rfl⟩) hK hP hl.1 rfl rfl (Nat.le_of_ble_eq_true rfl) dX2_canEarn_5 ⟨Nat.zero_le _, Nat.zero_le _⟩) hS hD.2 (fun H locs zq2 hP hS => ?_)
  refine lv_if_eq (tgt := 30) hx hb dX2_canEarn_8 (by decide) (fun c3 => ?_) (fun c3 => ?_)
  · replace hf := ob_t hf c3
    refine lv_iconst (v := 0) hx hb dX2_canEarn_30 (by decide) ?_
    obtain rfl := ob_s hf
    subst hQ
    exact xe_z hx hb hr hlocks hP hS (Or.inl rfl) dX2_canEarn_31
  · replace hf := ob_f hf c3
    refine lv_aload_n hx hb dX2_canEarn_11 rfl (lv_at hl 0 rfl) ?_
    refine xr_get hx hb hts in_X2 hown hK hP 0 (by decide) rfl rfl 0 (by decide) (hts _ q1405) (fun _ h => h) rfl (v := .ref (E 1)) rfl dX2_canEarn_12 ?_
    refine lv_bipush (v := 9) hx hb dX2_canEarn_15 (by decide) ?_
    refine xr_iald hx hb hK hP 1 (by decide) rfl 0 rfl (j := 9) (vin_c (by decide)) (by decide) dX2_canEarn_17 ?_
    refine lv_iload_n hx hb dX2_canEarn_18 rfl (lv_at hl 1 rfl) ?_
    refine lv_iadd hx hb dX2_canEarn_19 ?_
    refine lv_sipush (v := 9999) hx hb dX2_canEarn_20 (by decide) ?_
    refine lv_icmp_gt (tgt := 30) hx hb dX2_canEarn_23 (by decide) (fun c4 => ?_) (fun c4 => ?_)
    · replace hf := ob_t hf c4
      refine lv_iconst (v := 0) hx hb dX2_canEarn_30 (by decide) ?_
      obtain rfl := ob_s hf
      subst hQ
      exact xe_z hx hb hr hlocks hP hS (Or.inl rfl) dX2_canEarn_31
    · replace hf := ob_f hf c4
      refine lv_iconst (v := 1) hx hb dX2_canEarn_26 (by decide) ?_
      refine lv_goto (tgt := 31) hx hb dX2_canEarn_27 (by decide) ?_
      obtain rfl := ob_s hf
      subst hQ
      exact xe_z hx hb hr hlocks hP hS (Or.inr rfl) dX2_canEarn_31
abbrev rmX2_earn : Room := { frames := 2, cells := 0, slots := 0, locals := 43 }
theorem cdX2_earn : yX2_earn.cls = RX2 ∧ yX2_earn.cls ≠ "java/lang/invoke/MethodHandle" ∧ yX2_earn.cls ≠ "java/lang/invoke/VarHandle" ∧ (parseMethodDescriptor yX2_earn.desc).map (fun d => d.parameters.length) = some 1 := by decide +kernel
set_option maxHeartbeats 4000000 in
set_option maxRecDepth 100000 in
theorem wkX2_earn (l : Launch) (D : va_G) (dA : Nat → ClassId) (E : Nat → Nat) (hE : wInj 19 E) (w : Mm) (a1 : Int32) {res : Int32 × Mm} (hf : M_earn w a1 = some res) : Met l yX2_earn (ws_ yX2_earn cX2_earn 2 (some .boolean)) rmX2_earn (Pw D clM (tyM dA) shM 19 dA E [.ref (E 0), .int a1] w) (Qwz D clM shM 19 dA E res.1 res.2) 0 0 (AE 19 E) := by
  refine xm_head (own := RX2) (by decide) rfl (Nat.le_of_ble_eq_true rfl) ?_
  intro p e s m args below meth c ls Q hQ C hP hl
  obtain ⟨hx, hb, hr, hlocks, hml, hown, hts, hK⟩ := C
  replace hl : lv_has ls 2 [(0, .ref (E 0)), (1, .int a1)] := hl
  have hS : va_S (AE 19 E) s.heap s.heap [] := va_S.rf
  have hD : wD 19 E (AE 19 E) := wD.self hE
  unfold M_earn at hf
  obtain ⟨H, eH⟩ : ∃ H, H = s.heap := ⟨_, rfl⟩
  obtain ⟨locs, eL⟩ : ∃ locs : List Loc, locs = [] := ⟨_, rfl⟩
  rw [← eL] at hS ⊢
  rw [← eH] at hP
  have hS : va_S (AE 19 E) s.heap H locs := by rw [eH]; exact hS
  show W p l e rmX2_earn s m args below meth c s.heap locs 0 0 Q (F0 m 0 ls [])
  rw [← eH]
  refine lv_aload_n hx hb dX2_earn_0 rfl (lv_at hl 0 rfl) ?_
  refine lv_iload_n hx hb dX2_earn_1 rfl (lv_at hl 1 rfl) ?_
  obtain ⟨q2, g1, hf⟩ := ob_bind hf
  refine xc_z (xw_run (As := [.int a1]) (rest := []) ⟨hx, hb, hml, hown, hts⟩ (k0 := 0) (wkX2_canEarn l D dA E hE w a1 g1) (cwV 1 hts (lw_V q1825 q1827 qs108 q140 q1828) rfl rfl rfl cdX2_canEarn ⟨Nat.le_of_ble_eq_true rfl, Nat.le_of_ble_eq_true rfl⟩) hK hP (by decide) rfl rfl rfl hl.1 rfl rfl (Nat.le_of_ble_eq_true rfl) dX2_earn_2 ⟨Nat.zero_le _, Nat.zero_le _⟩) hS hD.2 (fun H locs zq2 hP hS => ?_)
  refine lv_if_ne (tgt := 10) hx hb dX2_earn_5 (by decide) (fun c3 => ?_) (fun c3 => ?_)
  · replace hf := ob_f hf c3
    refine lv_aload_n hx hb dX2_earn_10 rfl (lv_at hl 0 rfl) ?_
    obtain ⟨q5, g4, hf⟩ := ob_bind hf
    refine xc_v (xw_run (As := []) (rest := []) ⟨hx, hb, hml, hown, hts⟩ (k0 := 0) (wkX2_keep l D dA E hE w g4) (cwV 0 hts (lw_V q1741 q1743 qs94 q140 q1744) rfl rfl rfl cdX2_keep ⟨Nat.le_of_ble_eq_true rfl, Nat.le_of_ble_eq_true rfl⟩) hK hP (by decide) rfl rfl rfl hl.1 rfl rfl (Nat.le_of_ble_eq_true rfl) dX2_earn_11 ⟨Nat.zero_le _, Nat.zero_le _⟩) hS hD.2 (fun H locs hP hS => ?_)
    refine lv_aload_n hx hb dX2_earn_14 rfl (lv_at hl 0 rfl) ?_
    refine xr_get hx hb hts in_X2 hown hK hP 0 (by decide) rfl rfl 0 (by decide) (hts _ q1405) (fun _ h => h) rfl (v := .ref (E 1)) rfl dX2_earn_15 ?_
    refine lv_bipush (v := 9) hx hb dX2_earn_18 (by decide) ?_
    refine lv_dup2_11 hx hb dX2_earn_20 rfl rfl ?_
    refine xr_iald hx hb hK hP 1 (by decide) rfl 0 rfl (j := 9) (vin_c (by decide)) (by decide) dX2_earn_21 ?_
    refine lv_iload_n hx hb dX2_earn_22 rfl (lv_at hl 1 rfl) ?_
    refine lv_iadd hx hb dX2_earn_23 ?_
    obtain ⟨w6, ew6, hf⟩ := ob_bnd hf
    refine xr_iast hx hb hK hP hD hS 1 (by decide) rfl 0 rfl (j := 9) (w' := w6) (vin_c (by decide)) (by decide) ew6 dX2_earn_24 (fun H locs hP hS => ?_)
    refine lv_iconst (v := 1) hx hb dX2_earn_25 (by decide) ?_
    obtain rfl := ob_s hf
    subst hQ
    exact xe_z hx hb hr hlocks hP hS (Or.inr rfl) dX2_earn_26
  · replace hf := ob_t hf c3
    refine lv_iconst (v := 0) hx hb dX2_earn_8 (by decide) ?_
    obtain rfl := ob_s hf
    subst hQ
    exact xe_z hx hb hr hlocks hP hS (Or.inl rfl) dX2_earn_9
abbrev rmX2_anew : Room := { frames := 0, cells := 0, slots := 0, locals := 0 }
theorem cdX2_anew : yX2_anew.cls = RX2 ∧ yX2_anew.cls ≠ "java/lang/invoke/MethodHandle" ∧ yX2_anew.cls ≠ "java/lang/invoke/VarHandle" ∧ (parseMethodDescriptor yX2_anew.desc).map (fun d => d.parameters.length) = some 0 := by decide +kernel
set_option maxHeartbeats 4000000 in
set_option maxRecDepth 100000 in
theorem wkX2_anew (l : Launch) (D : va_G) (dA : Nat → ClassId) (E : Nat → Nat) (hE : wInj 19 E) (w : Mm)  {res : Mm} (hf : M_anew w = some res) : Met l yX2_anew (ws_ yX2_anew cX2_anew 1 (none)) rmX2_anew (Pw D clM (tyM dA) shM 19 dA E [.ref (E 0)] w) (Qwv D clM shM 19 dA E res) 0 0 (AE 19 E) := by
  refine xm_head (own := RX2) (by decide) rfl (Nat.le_of_ble_eq_true rfl) ?_
  intro p e s m args below meth c ls Q hQ C hP hl
  obtain ⟨hx, hb, hr, hlocks, hml, hown, hts, hK⟩ := C
  replace hl : lv_has ls 1 [(0, .ref (E 0))] := hl
  have hS : va_S (AE 19 E) s.heap s.heap [] := va_S.rf
  have hD : wD 19 E (AE 19 E) := wD.self hE
  unfold M_anew at hf
  obtain ⟨H, eH⟩ : ∃ H, H = s.heap := ⟨_, rfl⟩
  obtain ⟨locs, eL⟩ : ∃ locs : List Loc, locs = [] := ⟨_, rfl⟩
  rw [← eL] at hS ⊢
  rw [← eH] at hP
  have hS : va_S (AE 19 E) s.heap H locs := by rw [eH]; exact hS
  show W p l e rmX2_anew s m args below meth c s.heap locs 0 0 Q (F0 m 0 ls [])
  rw [← eH]
  refine lv_aload_n hx hb dX2_anew_0 rfl (lv_at hl 0 rfl) ?_
  refine xr_get hx hb hts in_X2 hown hK hP 0 (by decide) rfl rfl 0 (by decide) (hts _ q1405) (fun _ h => h) rfl (v := .ref (E 1)) rfl dX2_anew_1 ?_
  refine lv_bipush (v := 8) hx hb dX2_anew_4 (by decide) ?_
  refine lv_aload_n hx hb dX2_anew_6 rfl (lv_at hl 0 rfl) ?_
  refine xr_get hx hb hts in_X2 hown hK hP 0 (by decide) rfl rfl 0 (by decide) (hts _ q1405) (fun _ h => h) rfl (v := .ref (E 1)) rfl dX2_anew_7 ?_
  refine lv_bipush (v := 8) hx hb dX2_anew_10 (by decide) ?_
  refine xr_iald hx hb hK hP 1 (by decide) rfl 0 rfl (j := 8) (vin_c (by decide)) (by decide) dX2_anew_12 ?_
  refine lv_i2l hx hb dX2_anew_13 rfl ?_
  refine lv_ldc2 (v := (619 : Int64)) hx hb hown (hts _ q1849) dX2_anew_14 ?_
  refine lv_lmul hx hb dX2_anew_17 ?_
  refine lv_ldc2 (v := (493 : Int64)) hx hb hown (hts _ q1850) dX2_anew_18 ?_
  refine lv_ladd hx hb dX2_anew_21 ?_
  refine lv_ldc2 (v := (30871 : Int64)) hx hb hown (hts _ q1851) dX2_anew_22 ?_
  refine xr_lrem hx hb dX2_anew_25 (by decide) ?_
  refine lv_l2i hx hb dX2_anew_26 rfl ?_
  obtain ⟨w1, ew1, hf⟩ := ob_bnd hf
  refine xr_iast hx hb hK hP hD hS 1 (by decide) rfl 0 rfl (j := 8) (w' := w1) (vin_c (by decide)) (by decide) ew1 dX2_anew_27 (fun H locs hP hS => ?_)
  obtain rfl := ob_s hf
  subst hQ
  exact xe_v hx hb hr hlocks hP hS dX2_anew_28
abbrev rmX2_drawnBy : Room := { frames := 1, cells := 0, slots := 0, locals := 20 }
theorem cdX2_drawnBy : yX2_drawnBy.cls = RX2 ∧ yX2_drawnBy.cls ≠ "java/lang/invoke/MethodHandle" ∧ yX2_drawnBy.cls ≠ "java/lang/invoke/VarHandle" ∧ (parseMethodDescriptor yX2_drawnBy.desc).map (fun d => d.parameters.length) = some 1 := by decide +kernel
set_option maxHeartbeats 4000000 in
set_option maxRecDepth 100000 in
theorem wkX2_drawnBy (l : Launch) (D : va_G) (dA : Nat → ClassId) (E : Nat → Nat) (hE : wInj 19 E) (w : Mm) (a1 : Int32) {res : Int32 × Mm} (hf : M_drawnBy w a1 = some res) : Met l yX2_drawnBy (ws_ yX2_drawnBy cX2_drawnBy 3 (some .int)) rmX2_drawnBy (Pw D clM (tyM dA) shM 19 dA E [.ref (E 0), .int a1] w) (Qwi D clM shM 19 dA E res.1 res.2) 0 0 (AE 19 E) := by
  refine xm_head (own := RX2) (by decide) rfl (Nat.le_of_ble_eq_true rfl) ?_
  intro p e s m args below meth c ls Q hQ C hP hl
  obtain ⟨hx, hb, hr, hlocks, hml, hown, hts, hK⟩ := C
  replace hl : lv_has ls 3 [(0, .ref (E 0)), (1, .int a1)] := hl
  have hS : va_S (AE 19 E) s.heap s.heap [] := va_S.rf
  have hD : wD 19 E (AE 19 E) := wD.self hE
  unfold M_drawnBy at hf
  obtain ⟨H, eH⟩ : ∃ H, H = s.heap := ⟨_, rfl⟩
  obtain ⟨locs, eL⟩ : ∃ locs : List Loc, locs = [] := ⟨_, rfl⟩
  rw [← eL] at hS ⊢
  rw [← eH] at hP
  have hS : va_S (AE 19 E) s.heap H locs := by rw [eH]; exact hS
  show W p l e rmX2_drawnBy s m args below meth c s.heap locs 0 0 Q (F0 m 0 ls [])
  rw [← eH]
  refine lv_aload_n hx hb dX2_drawnBy_0 rfl (lv_at hl 0 rfl) ?_
  refine xr_get hx hb hts in_X2 hown hK hP 0 (by decide) rfl rfl 0 (by decide) (hts _ q1405) (fun _ h => h) rfl (v := .ref (E 1)) rfl dX2_drawnBy_1 ?_
  refine lv_bipush (v := 8) hx hb dX2_drawnBy_4 (by decide) ?_
  refine xr_iald hx hb hK hP 1 (by decide) rfl 0 rfl (j := 8) (vin_c (by decide)) (by decide) dX2_drawnBy_6 ?_
  refine lv_iload_n hx hb dX2_drawnBy_7 rfl (lv_at hl 1 rfl) ?_
  obtain ⟨h1, hf⟩ := ob_gz hf
  refine xr_irem hx hb dX2_drawnBy_8 h1 ?_
  obtain ⟨v2_2, ev2_2, hf⟩ := ob_bnd hf
  refine xn_i ev2_2 ?_
  refine lv_istore_n (lv' := [(2, .int v2_2), (0, .ref (E 0)), (1, .int a1)]) hx hb dX2_drawnBy_9 rfl hl (by decide) rfl (fun ls hl => ?_)
  refine lv_aload_n hx hb dX2_drawnBy_10 rfl (lv_at hl 1 rfl) ?_
  obtain ⟨q4, g3, hf⟩ := ob_bind hf
  refine xc_v (xw_run (As := []) (rest := []) ⟨hx, hb, hml, hown, hts⟩ (k0 := 0) (wkX2_anew l D dA E hE w g3) (cwV 0 hts (lw_V q1845 q1847 qs112 q140 q1848) rfl rfl rfl cdX2_anew ⟨Nat.le_of_ble_eq_true rfl, Nat.le_of_ble_eq_true rfl⟩) hK hP (by decide) rfl rfl rfl hl.1 rfl rfl (Nat.le_of_ble_eq_true rfl) dX2_drawnBy_11 ⟨Nat.zero_le _, Nat.zero_le _⟩) hS hD.2 (fun H locs hP hS => ?_)
  refine lv_iload_n hx hb dX2_drawnBy_14 rfl (lv_at hl 0 rfl) ?_
  obtain rfl := ob_s hf
  subst hQ
  exact xe_i hx hb hr hlocks hP hS dX2_drawnBy_15
abbrev rmX2_warm : Room := { frames := 2, cells := 0, slots := 0, locals := 42 }
theorem cdX2_warm : yX2_warm.cls = RX2 ∧ yX2_warm.cls ≠ "java/lang/invoke/MethodHandle" ∧ yX2_warm.cls ≠ "java/lang/invoke/VarHandle" ∧ (parseMethodDescriptor yX2_warm.desc).map (fun d => d.parameters.length) = some 1 := by decide +kernel
set_option maxHeartbeats 4000000 in
set_option maxRecDepth 100000 in
theorem wkX2_warm (l : Launch) (D : va_G) (dA : Nat → ClassId) (E : Nat → Nat) (hE : wInj 19 E) (w : Mm) (a1 : Int32) {res : Mm} (hf : M_warm w a1 = some res) : Met l yX2_warm (ws_ yX2_warm cX2_warm 3 (none)) rmX2_warm (Pw D clM (tyM dA) shM 19 dA E [.ref (E 0), .int a1] w) (Qwv D clM shM 19 dA E res) 0 0 (AE 19 E) := by
  refine xm_head (own := RX2) (by decide) rfl (Nat.le_of_ble_eq_true rfl) ?_
  intro p e s m args below meth c ls Q hQ C hP hl
  obtain ⟨hx, hb, hr, hlocks, hml, hown, hts, hK⟩ := C
  replace hl : lv_has ls 3 [(0, .ref (E 0)), (1, .int a1)] := hl
  have hS : va_S (AE 19 E) s.heap s.heap [] := va_S.rf
  have hD : wD 19 E (AE 19 E) := wD.self hE
  unfold M_warm at hf
  obtain ⟨H, eH⟩ : ∃ H, H = s.heap := ⟨_, rfl⟩
  obtain ⟨locs, eL⟩ : ∃ locs : List Loc, locs = [] := ⟨_, rfl⟩
  rw [← eL] at hS ⊢
  rw [← eH] at hP
  have hS : va_S (AE 19 E) s.heap H locs := by rw [eH]; exact hS
  show W p l e rmX2_warm s m args below meth c s.heap locs 0 0 Q (F0 m 0 ls [])
  rw [← eH]
  refine lv_aload_n hx hb dX2_warm_0 rfl (lv_at hl 0 rfl) ?_
  refine lv_iload_n hx hb dX2_warm_1 rfl (lv_at hl 1 rfl) ?_
  obtain ⟨q2, g1, hf⟩ := ob_bind hf
  refine xc_i (xw_run (As := [.int a1]) (rest := []) ⟨hx, hb, hml, hown, hts⟩ (k0 := 0) (wkX2_howOf l D dA E hE w a1 g1) (cwV 1 hts (lw_V q1737 q1739 qs93 q140 q1740) rfl rfl rfl cdX2_howOf ⟨Nat.le_of_ble_eq_true rfl, Nat.le_of_ble_eq_true rfl⟩) hK hP (by decide) rfl rfl rfl hl.1 rfl rfl (Nat.le_of_ble_eq_true rfl) dX2_warm_2 ⟨Nat.zero_le _, Nat.zero_le _⟩) hS hD.2 (fun H locs hP hS => ?_)
  have kj36 : ∀ (t3 : Int32) (H : Heap) (locs : List Loc) (ls : Array Slot), M_warm_j36 w a1 t3 = some res → va_P D clM (wl shM 19 dA E w) H → va_S (AE 19 E) s.heap H locs → lv_has ls 3 [(0, .ref (E 0)), (1, .int a1)] → W p l e rmX2_warm s m args below meth c H locs 0 0 Q (F0 m 36 ls [.int t3]) := by
    intro t3 H locs ls hf hP hS hl
    unfold M_warm_j36 at hf
    refine lv_istore_n (lv' := [(2, .int t3), (0, .ref (E 0)), (1, .int a1)]) hx hb dX2_warm_36 rfl hl (by decide) rfl (fun ls hl => ?_)
    refine lv_aload_n hx hb dX2_warm_37 rfl (lv_at hl 1 rfl) ?_
    refine xr_get hx hb hts in_X2 hown hK hP 0 (by decide) rfl rfl 0 (by decide) (hts _ q1405) (fun _ h => h) rfl (v := .ref (E 1)) rfl dX2_warm_38 ?_
    refine lv_bipush (v := 12) hx hb dX2_warm_41 (by decide) ?_
    refine lv_iconst (v := 3) hx hb dX2_warm_43 (by decide) ?_
    refine lv_iload_n hx hb dX2_warm_44 rfl (lv_at hl 2 rfl) ?_
    refine lv_imul hx hb dX2_warm_45 ?_
    refine lv_iadd hx hb dX2_warm_46 ?_
    refine lv_iconst (v := 2) hx hb dX2_warm_47 (by decide) ?_
    refine lv_iadd hx hb dX2_warm_48 ?_
    refine lv_aload_n hx hb dX2_warm_49 rfl (lv_at hl 1 rfl) ?_
    refine lv_iload_n hx hb dX2_warm_50 rfl (lv_at hl 2 rfl) ?_
    obtain ⟨q5, g4, hf⟩ := ob_bind hf
    refine xc_i (xw_run (As := [.int a1]) (rest := [.int ((12 + (3 * a1)) + 2), .ref (E 1)]) ⟨hx, hb, hml, hown, hts⟩ (k0 := 0) (wkX2_heatOf l D dA E hE w a1 g4) (cwV 1 hts (lw_V q1780 q1782 qs102 q140 q1783) rfl rfl rfl cdX2_heatOf ⟨Nat.le_of_ble_eq_true rfl, Nat.le_of_ble_eq_true rfl⟩) hK hP (by decide) rfl rfl rfl hl.1 rfl rfl (Nat.le_of_ble_eq_true rfl) dX2_warm_51 ⟨Nat.zero_le _, Nat.zero_le _⟩) hS hD.2 (fun H locs hP hS => ?_)
    refine lv_iload_n hx hb dX2_warm_54 rfl (lv_at hl 0 rfl) ?_
    refine lv_iadd hx hb dX2_warm_55 ?_
    refine lv_i2l hx hb dX2_warm_56 rfl ?_
    refine lv_iconst (v := 0) hx hb dX2_warm_57 (by decide) ?_
    refine lv_bipush (v := 9) hx hb dX2_warm_58 (by decide) ?_
    obtain ⟨q7, g6, hf⟩ := ob_bind hf
    refine xc_i (xw_runS (As := [.long ((q5 + t3).toInt64), .int 0, .int 9]) (rest := [.int ((12 + (3 * a1)) + 2), .ref (E 1)]) ⟨hx, hb, hml, hown, hts⟩ (wkX2_held l D dA E hE w ((q5 + t3).toInt64) 0 9 g6) (va_cwS 3 hts (lw_S q1749 q1750 q140 q1751) rfl rfl rfl cdX2_held.2 ⟨Nat.le_of_ble_eq_true rfl, Nat.le_of_ble_eq_true rfl⟩) hK hP hl.1 rfl rfl (Nat.le_of_ble_eq_true rfl) dX2_warm_60 ⟨Nat.zero_le _, Nat.zero_le _⟩) hS hD.2 (fun H locs hP hS => ?_)
    obtain ⟨h8, hf⟩ := ob_gd hf
    obtain ⟨w9, ew9, hf⟩ := ob_bnd hf
    refine xr_iast hx hb hK hP hD hS 1 (by decide) rfl 0 rfl (j := ((12 + (3 * a1)) + 2).toNatClampNeg) (w' := w9) h8 rfl ew9 dX2_warm_63 (fun H locs hP hS => ?_)
    obtain rfl := ob_s hf
    subst hQ
    exact xe_v hx hb hr hlocks hP hS dX2_warm_64
  refine lv_if_ne (tgt := 12) hx hb dX2_warm_5 (by decide) (fun c10 => ?_) (fun c10 => ?_)
  · replace hf := ob_f hf c10
    refine lv_aload_n hx hb dX2_warm_12 rfl (lv_at hl 0 rfl) ?_
    refine lv_iload_n hx hb dX2_warm_13 rfl (lv_at hl 1 rfl) ?_
    obtain ⟨q12, g11, hf⟩ := ob_bind hf
    refine xc_z (xw_run (As := [.int a1]) (rest := []) ⟨hx, hb, hml, hown, hts⟩ (k0 := 0) (wkX2_isPawned l D dA E hE w a1 g11) (cwV 1 hts (lw_V q1764 q1766 qs98 q140 q1767) rfl rfl rfl cdX2_isPawned ⟨Nat.le_of_ble_eq_true rfl, Nat.le_of_ble_eq_true rfl⟩) hK hP (by decide) rfl rfl rfl hl.1 rfl rfl (Nat.le_of_ble_eq_true rfl) dX2_warm_14 ⟨Nat.zero_le _, Nat.zero_le _⟩) hS hD.2 (fun H locs zq12 hP hS => ?_)
    have kj35 : ∀ (H : Heap) (locs : List Loc) (ls : Array Slot), M_warm_j35 w a1 = some res → va_P D clM (wl shM 19 dA E w) H → va_S (AE 19 E) s.heap H locs → lv_has ls 3 [(0, .ref (E 0)), (1, .int a1)] → W p l e rmX2_warm s m args below meth c H locs 0 0 Q (F0 m 35 ls []) := by
      intro H locs ls hf hP hS hl
      unfold M_warm_j35 at hf
      refine lv_iconst (v := 0) hx hb dX2_warm_35 (by decide) ?_
      exact kj36 0 H locs ls hf hP hS (lv_sub hl [0, 1] rfl)
    refine lv_if_eq (tgt := 35) hx hb dX2_warm_17 (by decide) (fun c13 => ?_) (fun c13 => ?_)
    · replace hf := ob_t hf c13
      exact kj35 H locs ls hf hP hS (lv_sub hl [0, 1] rfl)
    · replace hf := ob_f hf c13
      refine lv_aload_n hx hb dX2_warm_20 rfl (lv_at hl 0 rfl) ?_
      refine xr_get hx hb hts in_X2 hown hK hP 0 (by decide) rfl rfl 0 (by decide) (hts _ q1405) (fun _ h => h) rfl (v := .ref (E 1)) rfl dX2_warm_21 ?_
      refine lv_bipush (v := 10) hx hb dX2_warm_24 (by decide) ?_
      refine xr_iald hx hb hK hP 1 (by decide) rfl 0 rfl (j := 10) (vin_c (by decide)) (by decide) dX2_warm_26 ?_
      refine lv_iconst (v := 1) hx hb dX2_warm_27 (by decide) ?_
      refine lv_icmp_ne (tgt := 35) hx hb dX2_warm_28 (by decide) (fun c14 => ?_) (fun c14 => ?_)
      · replace hf := ob_f hf c14
        exact kj35 H locs ls hf hP hS (lv_sub hl [0, 1] rfl)
      · replace hf := ob_t hf c14
        refine lv_iconst (v := (-1)) hx hb dX2_warm_31 (by decide) ?_
        refine lv_goto (tgt := 36) hx hb dX2_warm_32 (by decide) ?_
        exact kj36 (-1) H locs ls hf hP hS (lv_sub hl [0, 1] rfl)
  · replace hf := ob_t hf c10
    refine lv_iconst (v := 1) hx hb dX2_warm_8 (by decide) ?_
    refine lv_goto (tgt := 36) hx hb dX2_warm_9 (by decide) ?_
    exact kj36 1 H locs ls hf hP hS (lv_sub hl [0, 1] rfl)
abbrev rmX2_pawnedNow : Room := { frames := 2, cells := 0, slots := 0, locals := 42 }
theorem cdX2_pawnedNow : yX2_pawnedNow.cls = RX2 ∧ yX2_pawnedNow.cls ≠ "java/lang/invoke/MethodHandle" ∧ yX2_pawnedNow.cls ≠ "java/lang/invoke/VarHandle" ∧ (parseMethodDescriptor yX2_pawnedNow.desc).map (fun d => d.parameters.length) = some 0 := by decide +kernel
set_option maxHeartbeats 4000000 in
set_option maxRecDepth 100000 in
theorem wkX2_pawnedNow (l : Launch) (D : va_G) (dA : Nat → ClassId) (E : Nat → Nat) (hE : wInj 19 E) (w : Mm)  {res : Int32} (hf : M_pawnedNow w = some res) : Met l yX2_pawnedNow (ws_ yX2_pawnedNow cX2_pawnedNow 3 (some .int)) rmX2_pawnedNow (Pw D clM (tyM dA) shM 19 dA E [.ref (E 0)] w) (Qwi D clM shM 19 dA E res w) 0 0 (AE 19 E) := by
  refine xm_head (own := RX2) (by decide) rfl (Nat.le_of_ble_eq_true rfl) ?_
  intro p e s m args below meth c ls Q hQ C hP hl
  obtain ⟨hx, hb, hr, hlocks, hml, hown, hts, hK⟩ := C
  replace hl : lv_has ls 3 [(0, .ref (E 0))] := hl
  have hS : va_S (AE 19 E) s.heap s.heap [] := va_S.rf
  have hD : wD 19 E (AE 19 E) := wD.self hE
  unfold M_pawnedNow at hf
  obtain ⟨H, eH⟩ : ∃ H, H = s.heap := ⟨_, rfl⟩
  obtain ⟨locs, eL⟩ : ∃ locs : List Loc, locs = [] := ⟨_, rfl⟩
  rw [← eL] at hS ⊢
  rw [← eH] at hP
  have hS : va_S (AE 19 E) s.heap H locs := by rw [eH]; exact hS
  show W p l e rmX2_pawnedNow s m args below meth c s.heap locs 0 0 Q (F0 m 0 ls [])
  rw [← eH]
  refine lv_iconst (v := 0) hx hb dX2_pawnedNow_0 (by decide) ?_
  refine lv_istore_n (lv' := [(1, .int 0), (0, .ref (E 0))]) hx hb dX2_pawnedNow_1 rfl hl (by decide) rfl (fun ls hl => ?_)
  refine lv_iconst (v := 0) hx hb dX2_pawnedNow_2 (by decide) ?_
  refine lv_istore_n (lv' := [(2, .int 0), (1, .int 0), (0, .ref (E 0))]) hx hb dX2_pawnedNow_3 rfl hl (by decide) rfl (fun ls hl => ?_)
  obtain ⟨b3, hb3, hf⟩ := ob_bind hf
  obtain ⟨n3, hn3⟩ := lp_some hb3
  have kL4 : ∀ (n : Nat) (v1_1 : Int32) (v2_2 : Int32), lpF (fun (q3 : Int32 × Int32) => M_pawnedNow_b4 w q3.1 q3.2) n (v1_1, v2_2) = some b3 → (∀ (H : Heap) (locs : List Loc) (ls : Array Slot), va_P D clM (wl shM 19 dA E w) H → va_S (AE 19 E) s.heap H locs → lv_has ls 3 [(1, .int b3)] → W p l e rmX2_pawnedNow s m args below meth c H locs 0 0 Q (F0 m 38 ls [])) → ∀ (H : Heap) (locs : List Loc) (ls : Array Slot), va_P D clM (wl shM 19 dA E w) H → va_S (AE 19 E) s.heap H locs → lv_has ls 3 [(0, .ref (E 0)), (1, .int v1_1), (2, .int v2_2)] → W p l e rmX2_pawnedNow s m args below meth c H locs 0 0 Q (F0 m 4 ls []) := by
    intro n
    induction n with
    | zero =>
      intro v1_1 v2_2 h
      cases h
    | succ n ih =>
      intro v1_1 v2_2 h K3_0 H locs ls hP hS hl
      obtain ⟨r3, hf, h3a, h3b⟩ := lpF_step h
      replace hf : M_pawnedNow_b4 w v1_1 v2_2 = some r3 := hf
      unfold M_pawnedNow_b4 at hf
      refine lv_iload_n hx hb dX2_pawnedNow_4 rfl (lv_at hl 2 rfl) ?_
      refine lv_aload_n hx hb dX2_pawnedNow_5 rfl (lv_at hl 0 rfl) ?_
      refine xr_get hx hb hts in_X2 hown hK hP 0 (by decide) rfl rfl 0 (by decide) (hts _ q1405) (fun _ h => h) rfl (v := .ref (E 1)) rfl dX2_pawnedNow_6 ?_
      refine lv_iconst (v := 0) hx hb dX2_pawnedNow_9 (by decide) ?_
      refine xr_iald hx hb hK hP 1 (by decide) rfl 0 rfl (j := 0) (vin_c (by decide)) (by decide) dX2_pawnedNow_10 ?_
      refine lv_icmp_ge (tgt := 38) hx hb dX2_pawnedNow_11 (by decide) (fun c4 => ?_) (fun c4 => ?_)
      · replace hf := ob_t hf c4
        obtain rfl := ob_s hf
        obtain rfl := h3b _ rfl
        exact K3_0 H locs ls hP hS (lv_sub hl [1] rfl)
      · replace hf := ob_f hf c4
        refine lv_iload_n hx hb dX2_pawnedNow_14 rfl (lv_at hl 1 rfl) ?_
        refine lv_aload_n hx hb dX2_pawnedNow_15 rfl (lv_at hl 0 rfl) ?_
        refine lv_iload_n hx hb dX2_pawnedNow_16 rfl (lv_at hl 2 rfl) ?_
        obtain ⟨q6, g5, hf⟩ := ob_bind hf
        refine xc_z (xw_run (As := [.int v2_2]) (rest := [.int v1_1]) ⟨hx, hb, hml, hown, hts⟩ (k0 := 0) (wkX2_isPawned l D dA E hE w v2_2 g5) (cwV 1 hts (lw_V q1764 q1766 qs98 q140 q1767) rfl rfl rfl cdX2_isPawned ⟨Nat.le_of_ble_eq_true rfl, Nat.le_of_ble_eq_true rfl⟩) hK hP (by decide) rfl rfl rfl hl.1 rfl rfl (Nat.le_of_ble_eq_true rfl) dX2_pawnedNow_17 ⟨Nat.zero_le _, Nat.zero_le _⟩) hS hD.2 (fun H locs zq6 hP hS => ?_)
        refine lv_if_eq (tgt := 29) hx hb dX2_pawnedNow_20 (by decide) (fun c7 => ?_) (fun c7 => ?_)
        · replace hf := ob_t hf c7
          refine lv_iconst (v := 0) hx hb dX2_pawnedNow_29 (by decide) ?_
          refine lv_ior hx hb dX2_pawnedNow_30 ?_
          obtain ⟨v1_8, ev1_8, hf⟩ := ob_bnd hf
          refine xn_i ev1_8 ?_
          refine lv_istore_n (lv' := [(1, .int v1_8), (0, .ref (E 0)), (2, .int v2_2)]) hx hb dX2_pawnedNow_31 rfl hl (by decide) rfl (fun ls hl => ?_)
          obtain ⟨v2_9, ev2_9, hf⟩ := ob_bnd hf
          refine lv_iinc (v := v2_9) (lv' := [(2, .int v2_9), (1, .int v1_8), (0, .ref (E 0))]) hx hb dX2_pawnedNow_32 hl (k := 2) rfl (by rw [ev2_9]; rfl) (by decide) rfl (fun ls hl => ?_)
          refine lv_goto (tgt := 4) hx hb dX2_pawnedNow_35 (by decide) ?_
          obtain rfl := ob_s hf
          exact ih _ _ (h3a _ rfl) K3_0 H locs ls hP hS (lv_sub hl [2, 1, 0] rfl)
        · replace hf := ob_f hf c7
          refine lv_iconst (v := 1) hx hb dX2_pawnedNow_23 (by decide) ?_
          refine lv_iload_n hx hb dX2_pawnedNow_24 rfl (lv_at hl 2 rfl) ?_
          refine lv_ishl hx hb dX2_pawnedNow_25 ?_
          refine lv_goto (tgt := 30) hx hb dX2_pawnedNow_26 (by decide) ?_
          refine lv_ior hx hb dX2_pawnedNow_30 ?_
          obtain ⟨v1_10, ev1_10, hf⟩ := ob_bnd hf
          refine xn_i ev1_10 ?_
          refine lv_istore_n (lv' := [(1, .int v1_10), (0, .ref (E 0)), (2, .int v2_2)]) hx hb dX2_pawnedNow_31 rfl hl (by decide) rfl (fun ls hl => ?_)
          obtain ⟨v2_11, ev2_11, hf⟩ := ob_bnd hf
          refine lv_iinc (v := v2_11) (lv' := [(2, .int v2_11), (1, .int v1_10), (0, .ref (E 0))]) hx hb dX2_pawnedNow_32 hl (k := 2) rfl (by rw [ev2_11]; rfl) (by decide) rfl (fun ls hl => ?_)
          refine lv_goto (tgt := 4) hx hb dX2_pawnedNow_35 (by decide) ?_
          obtain rfl := ob_s hf
          exact ih _ _ (h3a _ rfl) K3_0 H locs ls hP hS (lv_sub hl [2, 1, 0] rfl)
  refine kL4 n3 0 0 hn3 (fun H locs ls hP hS hl => ?_) H locs ls hP hS (lv_sub hl [2, 1, 0] rfl)
  replace hf : M_pawnedNow_x4_38 b3 = some res := hf
  unfold M_pawnedNow_x4_38 at hf
  refine lv_iload_n hx hb dX2_pawnedNow_38 rfl (lv_at hl 0 rfl) ?_
  obtain rfl := ob_s hf
  subst hQ
  exact xe_i hx hb hr hlocks hP hS dX2_pawnedNow_39
abbrev rmX2_bits : Room := { frames := 0, cells := 0, slots := 0, locals := 0 }
theorem cdX2_bits : yX2_bits.cls = RX2 ∧ yX2_bits.cls ≠ "java/lang/invoke/MethodHandle" ∧ yX2_bits.cls ≠ "java/lang/invoke/VarHandle" ∧ (parseMethodDescriptor yX2_bits.desc).map (fun d => d.parameters.length) = some 1 := by decide +kernel
set_option maxHeartbeats 4000000 in
set_option maxRecDepth 100000 in
theorem wkX2_bits (l : Launch) (D : va_G) (dA : Nat → ClassId) (E : Nat → Nat) (hE : wInj 19 E) (w : Mm) (a0 : Int32) {res : Int32} (hf : M_bits a0 = some res) : Met l yX2_bits (ws_ yX2_bits cX2_bits 3 (some .int)) rmX2_bits (Pw D clM (tyM dA) shM 19 dA E [.int a0] w) (Qwi D clM shM 19 dA E res w) 0 0 (AE 19 E) := by
  refine xm_head (own := RX2) (by decide) rfl (Nat.le_of_ble_eq_true rfl) ?_
  intro p e s m args below meth c ls Q hQ C hP hl
  obtain ⟨hx, hb, hr, hlocks, hml, hown, hts, hK⟩ := C
  replace hl : lv_has ls 3 [(0, .int a0)] := hl
  have hS : va_S (AE 19 E) s.heap s.heap [] := va_S.rf
  have hD : wD 19 E (AE 19 E) := wD.self hE
  unfold M_bits at hf
  obtain ⟨H, eH⟩ : ∃ H, H = s.heap := ⟨_, rfl⟩
  obtain ⟨locs, eL⟩ : ∃ locs : List Loc, locs = [] := ⟨_, rfl⟩
  rw [← eL] at hS ⊢
  rw [← eH] at hP
  have hS : va_S (AE 19 E) s.heap H locs := by rw [eH]; exact hS
  show W p l e rmX2_bits s m args below meth c s.heap locs 0 0 Q (F0 m 0 ls [])
  rw [← eH]
  refine lv_iconst (v := 0) hx hb dX2_bits_0 (by decide) ?_
  refine lv_istore_n (lv' := [(1, .int 0), (0, .int a0)]) hx hb dX2_bits_1 rfl hl (by decide) rfl (fun ls hl => ?_)
  refine lv_iload_n hx hb dX2_bits_2 rfl (lv_at hl 1 rfl) ?_
  refine lv_istore_n (lv' := [(2, .int a0), (1, .int 0), (0, .int a0)]) hx hb dX2_bits_3 rfl hl (by decide) rfl (fun ls hl => ?_)
  obtain ⟨b3, hb3, hf⟩ := ob_bind hf
  obtain ⟨n3, hn3⟩ := lp_some hb3
  have kL4 : ∀ (n : Nat) (v1_1 : Int32) (v2_2 : Int32), lpF (fun (q3 : Int32 × Int32) => M_bits_b4 q3.1 q3.2) n (v1_1, v2_2) = some b3 → (∀ (H : Heap) (locs : List Loc) (ls : Array Slot), va_P D clM (wl shM 19 dA E w) H → va_S (AE 19 E) s.heap H locs → lv_has ls 3 [(1, .int b3)] → W p l e rmX2_bits s m args below meth c H locs 0 0 Q (F0 m 20 ls [])) → ∀ (H : Heap) (locs : List Loc) (ls : Array Slot), va_P D clM (wl shM 19 dA E w) H → va_S (AE 19 E) s.heap H locs → lv_has ls 3 [(1, .int v1_1), (2, .int v2_2)] → W p l e rmX2_bits s m args below meth c H locs 0 0 Q (F0 m 4 ls []) := by
    intro n
    induction n with
    | zero =>
      intro v1_1 v2_2 h
      cases h
    | succ n ih =>
      intro v1_1 v2_2 h K3_0 H locs ls hP hS hl
      obtain ⟨r3, hf, h3a, h3b⟩ := lpF_step h
      replace hf : M_bits_b4 v1_1 v2_2 = some r3 := hf
      unfold M_bits_b4 at hf
      refine lv_iload_n hx hb dX2_bits_4 rfl (lv_at hl 1 rfl) ?_
      refine lv_if_eq (tgt := 20) hx hb dX2_bits_5 (by decide) (fun c4 => ?_) (fun c4 => ?_)
      · replace hf := ob_t hf c4
        obtain rfl := ob_s hf
        obtain rfl := h3b _ rfl
        exact K3_0 H locs ls hP hS (lv_sub hl [0] rfl)
      · replace hf := ob_f hf c4
        obtain ⟨v1_5, ev1_5, hf⟩ := ob_bnd hf
        refine lv_iinc (v := v1_5) (lv' := [(1, .int v1_5), (2, .int v2_2)]) hx hb dX2_bits_8 hl (k := 0) rfl (by rw [ev1_5]; rfl) (by decide) rfl (fun ls hl => ?_)
        refine lv_iload_n hx hb dX2_bits_11 rfl (lv_at hl 1 rfl) ?_
        refine lv_iload_n hx hb dX2_bits_12 rfl (lv_at hl 1 rfl) ?_
        refine lv_iconst (v := 1) hx hb dX2_bits_13 (by decide) ?_
        refine lv_isub hx hb dX2_bits_14 ?_
        refine lv_iand hx hb dX2_bits_15 ?_
        obtain ⟨v2_6, ev2_6, hf⟩ := ob_bnd hf
        refine xn_i ev2_6 ?_
        refine lv_istore_n (lv' := [(2, .int v2_6), (1, .int v1_5)]) hx hb dX2_bits_16 rfl hl (by decide) rfl (fun ls hl => ?_)
        refine lv_goto (tgt := 4) hx hb dX2_bits_17 (by decide) ?_
        obtain rfl := ob_s hf
        exact ih _ _ (h3a _ rfl) K3_0 H locs ls hP hS (lv_sub hl [1, 0] rfl)
  refine kL4 n3 0 a0 hn3 (fun H locs ls hP hS hl => ?_) H locs ls hP hS (lv_sub hl [1, 0] rfl)
  replace hf : M_bits_x4_20 b3 = some res := hf
  unfold M_bits_x4_20 at hf
  refine lv_iload_n hx hb dX2_bits_20 rfl (lv_at hl 0 rfl) ?_
  obtain rfl := ob_s hf
  subst hQ
  exact xe_i hx hb hr hlocks hP hS dX2_bits_21
abbrev rmX2_sellsOf : Room := { frames := 4, cells := 0, slots := 0, locals := 101 }
theorem cdX2_sellsOf : yX2_sellsOf.cls = RX2 ∧ yX2_sellsOf.cls ≠ "java/lang/invoke/MethodHandle" ∧ yX2_sellsOf.cls ≠ "java/lang/invoke/VarHandle" ∧ (parseMethodDescriptor yX2_sellsOf.desc).map (fun d => d.parameters.length) = some 1 := by decide +kernel
set_option maxHeartbeats 4000000 in
set_option maxRecDepth 100000 in
theorem wkX2_sellsOf (l : Launch) (D : va_G) (dA : Nat → ClassId) (E : Nat → Nat) (hE : wInj 19 E) (w : Mm) (a1 : Int32) {res : Int32 × Mm} (hf : M_sellsOf w a1 = some res) : Met l yX2_sellsOf (ws_ yX2_sellsOf cX2_sellsOf 2 (some .int)) rmX2_sellsOf (Pw D clM (tyM dA) shM 19 dA E [.ref (E 0), .int a1] w) (Qwi D clM shM 19 dA E res.1 res.2) 0 0 (AE 19 E) := by
  refine xm_head (own := RX2) (by decide) rfl (Nat.le_of_ble_eq_true rfl) ?_
  intro p e s m args below meth c ls Q hQ C hP hl
  obtain ⟨hx, hb, hr, hlocks, hml, hown, hts, hK⟩ := C
  replace hl : lv_has ls 2 [(0, .ref (E 0)), (1, .int a1)] := hl
  have hS : va_S (AE 19 E) s.heap s.heap [] := va_S.rf
  have hD : wD 19 E (AE 19 E) := wD.self hE
  unfold M_sellsOf at hf
  obtain ⟨H, eH⟩ : ∃ H, H = s.heap := ⟨_, rfl⟩
  obtain ⟨locs, eL⟩ : ∃ locs : List Loc, locs = [] := ⟨_, rfl⟩
  rw [← eL] at hS ⊢
  rw [← eH] at hP
  have hS : va_S (AE 19 E) s.heap H locs := by rw [eH]; exact hS
  show W p l e rmX2_sellsOf s m args below meth c s.heap locs 0 0 Q (F0 m 0 ls [])
  rw [← eH]
  refine lv_aload_n hx hb dX2_sellsOf_0 rfl (lv_at hl 0 rfl) ?_
  refine lv_iload_n hx hb dX2_sellsOf_1 rfl (lv_at hl 1 rfl) ?_
  refine lv_iconst (v := 0) hx hb dX2_sellsOf_2 (by decide) ?_
  obtain ⟨q2, g1, hf⟩ := ob_bind hf
  refine xc_v (xw_run (As := [.int a1, .int 0]) (rest := []) ⟨hx, hb, hml, hown, hts⟩ (k0 := 0) (wkX2_name l D dA E hE w a1 0 g1) (cwV 2 hts (lw_V q1776 q1778 qs101 q140 q1779) rfl rfl rfl cdX2_name ⟨Nat.le_of_ble_eq_true rfl, Nat.le_of_ble_eq_true rfl⟩) hK hP (by decide) rfl rfl rfl hl.1 rfl rfl (Nat.le_of_ble_eq_true rfl) dX2_sellsOf_3 ⟨Nat.zero_le _, Nat.zero_le _⟩) hS hD.2 (fun H locs hP hS => ?_)
  refine lv_aload_n hx hb dX2_sellsOf_6 rfl (lv_at hl 0 rfl) ?_
  refine xr_get hx hb hts in_X2 hown hK hP 0 (by decide) rfl rfl 20 (by decide) (hts _ q1425) (fun _ h => h) rfl (v := .ref (E 6)) rfl dX2_sellsOf_7 ?_
  refine lv_bipush (v := 7) hx hb dX2_sellsOf_10 (by decide) ?_
  refine lv_aload_n hx hb dX2_sellsOf_12 rfl (lv_at hl 0 rfl) ?_
  obtain ⟨q4, g3, hf⟩ := ob_bind hf
  refine xc_i (xw_run (As := []) (rest := [.int 7, .ref (E 6)]) ⟨hx, hb, hml, hown, hts⟩ (k0 := 0) (wkX2_pawnedNow l D dA E hE q2 g3) (cwV 0 hts (lw_V q1860 q1862 qs115 q140 q1863) rfl rfl rfl cdX2_pawnedNow ⟨Nat.le_of_ble_eq_true rfl, Nat.le_of_ble_eq_true rfl⟩) hK hP (by decide) rfl rfl rfl hl.1 rfl rfl (Nat.le_of_ble_eq_true rfl) dX2_sellsOf_13 ⟨Nat.zero_le _, Nat.zero_le _⟩) hS hD.2 (fun H locs hP hS => ?_)
  obtain ⟨q6, g5, hf⟩ := ob_bind hf
  refine xc_i (xw_runS (As := [.int q4]) (rest := [.int 7, .ref (E 6)]) ⟨hx, hb, hml, hown, hts⟩ (wkX2_bits l D dA E hE q2 q4 g5) (va_cwS 1 hts (lw_S q1864 q1865 q140 q1866) rfl rfl rfl cdX2_bits.2 ⟨Nat.le_of_ble_eq_true rfl, Nat.le_of_ble_eq_true rfl⟩) hK hP hl.1 rfl rfl (Nat.le_of_ble_eq_true rfl) dX2_sellsOf_16 ⟨Nat.zero_le _, Nat.zero_le _⟩) hS hD.2 (fun H locs hP hS => ?_)
  obtain ⟨w7, ew7, hf⟩ := ob_bnd hf
  refine xr_iast hx hb hK hP hD hS 6 (by decide) rfl 0 rfl (j := 7) (w' := w7) (vin_c (by decide)) (by decide) ew7 dX2_sellsOf_19 (fun H locs hP hS => ?_)
  refine lv_aload_n hx hb dX2_sellsOf_20 rfl (lv_at hl 0 rfl) ?_
  refine lv_aload_n hx hb dX2_sellsOf_21 rfl (lv_at hl 0 rfl) ?_
  refine xr_get hx hb hts in_X2 hown hK hP 0 (by decide) rfl rfl 0 (by decide) (hts _ q1405) (fun _ h => h) rfl (v := .ref (E 1)) rfl dX2_sellsOf_22 ?_
  refine lv_iconst (v := 2) hx hb dX2_sellsOf_25 (by decide) ?_
  refine xr_iald hx hb hK hP 1 (by decide) rfl 0 rfl (j := 2) (vin_c (by decide)) (by decide) dX2_sellsOf_26 ?_
  refine lv_iconst (v := 1) hx hb dX2_sellsOf_27 (by decide) ?_
  refine lv_aload_n hx hb dX2_sellsOf_28 rfl (lv_at hl 0 rfl) ?_
  refine xr_get hx hb hts in_X2 hown hK hP 0 (by decide) rfl rfl 20 (by decide) (hts _ q1425) (fun _ h => h) rfl (v := .ref (E 6)) rfl dX2_sellsOf_29 ?_
  refine lv_iconst (v := 5) hx hb dX2_sellsOf_32 (by decide) ?_
  refine xr_iald hx hb hK hP 6 (by decide) rfl 0 rfl (j := 5) (vin_c (by decide)) (by decide) dX2_sellsOf_33 ?_
  refine lv_bipush (v := 30) hx hb dX2_sellsOf_34 (by decide) ?_
  refine lv_isub hx hb dX2_sellsOf_36 ?_
  refine lv_i2l hx hb dX2_sellsOf_37 rfl ?_
  refine lv_bipush (v := (-99)) hx hb dX2_sellsOf_38 (by decide) ?_
  refine lv_bipush (v := 99) hx hb dX2_sellsOf_40 (by decide) ?_
  obtain ⟨q9, g8, hf⟩ := ob_bind hf
  refine xc_i (xw_run (As := [.int (w7.1 1 2), .int 1, .long (((w7.1 6 5) - 30).toInt64), .int (-99), .int 99]) (rest := []) ⟨hx, hb, hml, hown, hts⟩ (k0 := 0) (wkX2_says l D dA E hE w7 (w7.1 1 2) 1 (((w7.1 6 5) - 30).toInt64) (-99) 99 g8) (cwV 5 hts (lw_V q1788 q1790 qs104 q140 q1791) rfl rfl rfl cdX2_says ⟨Nat.le_of_ble_eq_true rfl, Nat.le_of_ble_eq_true rfl⟩) hK hP (by decide) rfl rfl rfl hl.1 rfl rfl (Nat.le_of_ble_eq_true rfl) dX2_sellsOf_42 ⟨Nat.zero_le _, Nat.zero_le _⟩) hS hD.2 (fun H locs hP hS => ?_)
  obtain rfl := ob_s hf
  subst hQ
  exact xe_i hx hb hr hlocks hP hS dX2_sellsOf_45
abbrev rmX2_pass : Room := { frames := 5, cells := 0, slots := 0, locals := 122 }
theorem cdX2_pass : yX2_pass.cls = RX2 ∧ yX2_pass.cls ≠ "java/lang/invoke/MethodHandle" ∧ yX2_pass.cls ≠ "java/lang/invoke/VarHandle" ∧ (parseMethodDescriptor yX2_pass.desc).map (fun d => d.parameters.length) = some 0 := by decide +kernel
set_option maxHeartbeats 4000000 in
set_option maxRecDepth 100000 in
theorem wkX2_pass (l : Launch) (D : va_G) (dA : Nat → ClassId) (E : Nat → Nat) (hE : wInj 19 E) (w : Mm)  {res : Mm} (hf : M_pass w = some res) : Met l yX2_pass (ws_ yX2_pass cX2_pass 2 (none)) rmX2_pass (Pw D clM (tyM dA) shM 19 dA E [.ref (E 0)] w) (Qwv D clM shM 19 dA E res) 0 0 (AE 19 E) := by
  refine xm_head (own := RX2) (by decide) rfl (Nat.le_of_ble_eq_true rfl) ?_
  intro p e s m args below meth c ls Q hQ C hP hl
  obtain ⟨hx, hb, hr, hlocks, hml, hown, hts, hK⟩ := C
  replace hl : lv_has ls 2 [(0, .ref (E 0))] := hl
  have hS : va_S (AE 19 E) s.heap s.heap [] := va_S.rf
  have hD : wD 19 E (AE 19 E) := wD.self hE
  unfold M_pass at hf
  obtain ⟨H, eH⟩ : ∃ H, H = s.heap := ⟨_, rfl⟩
  obtain ⟨locs, eL⟩ : ∃ locs : List Loc, locs = [] := ⟨_, rfl⟩
  rw [← eL] at hS ⊢
  rw [← eH] at hP
  have hS : va_S (AE 19 E) s.heap H locs := by rw [eH]; exact hS
  show W p l e rmX2_pass s m args below meth c s.heap locs 0 0 Q (F0 m 0 ls [])
  rw [← eH]
  refine lv_aload_n hx hb dX2_pass_0 rfl (lv_at hl 0 rfl) ?_
  refine xr_get hx hb hts in_X2 hown hK hP 0 (by decide) rfl rfl 0 (by decide) (hts _ q1405) (fun _ h => h) rfl (v := .ref (E 1)) rfl dX2_pass_1 ?_
  refine lv_bipush (v := 10) hx hb dX2_pass_4 (by decide) ?_
  refine lv_aload_n hx hb dX2_pass_6 rfl (lv_at hl 0 rfl) ?_
  refine lv_bipush (v := 10) hx hb dX2_pass_7 (by decide) ?_
  obtain ⟨q2, g1, hf⟩ := ob_bind hf
  refine xc_i (xw_run (As := [.int 10]) (rest := [.int 10, .ref (E 1)]) ⟨hx, hb, hml, hown, hts⟩ (k0 := 0) (wkX2_drawnBy l D dA E hE w 10 g1) (cwV 1 hts (lw_V q1841 q1843 qs111 q140 q1844) rfl rfl rfl cdX2_drawnBy ⟨Nat.le_of_ble_eq_true rfl, Nat.le_of_ble_eq_true rfl⟩) hK hP (by decide) rfl rfl rfl hl.1 rfl rfl (Nat.le_of_ble_eq_true rfl) dX2_pass_9 ⟨Nat.zero_le _, Nat.zero_le _⟩) hS hD.2 (fun H locs hP hS => ?_)
  refine lv_iconst (v := 4) hx hb dX2_pass_12 (by decide) ?_
  have kj21 : ∀ (t3 : Int32) (H : Heap) (locs : List Loc) (ls : Array Slot), M_pass_j21 q2 t3 = some res → va_P D clM (wl shM 19 dA E q2.2) H → va_S (AE 19 E) s.heap H locs → lv_has ls 2 [(0, .ref (E 0))] → W p l e rmX2_pass s m args below meth c H locs 0 0 Q (F0 m 21 ls [.int t3, .int 10, .ref (E 1)]) := by
    intro t3 H locs ls hf hP hS hl
    unfold M_pass_j21 at hf
    obtain ⟨w4, ew4, hf⟩ := ob_bnd hf
    refine xr_iast hx hb hK hP hD hS 1 (by decide) rfl 0 rfl (j := 10) (w' := w4) (vin_c (by decide)) (by decide) ew4 dX2_pass_21 (fun H locs hP hS => ?_)
    refine lv_aload_n hx hb dX2_pass_22 rfl (lv_at hl 0 rfl) ?_
    refine xr_get hx hb hts in_X2 hown hK hP 0 (by decide) rfl rfl 0 (by decide) (hts _ q1405) (fun _ h => h) rfl (v := .ref (E 1)) rfl dX2_pass_23 ?_
    refine lv_iconst (v := 0) hx hb dX2_pass_26 (by decide) ?_
    refine xr_iald hx hb hK hP 1 (by decide) rfl 0 rfl (j := 0) (vin_c (by decide)) (by decide) dX2_pass_27 ?_
    have kj45 : ∀ (w5 : Mm) (H : Heap) (locs : List Loc) (ls : Array Slot), M_pass_j45 w5 = some res → va_P D clM (wl shM 19 dA E w5) H → va_S (AE 19 E) s.heap H locs → lv_has ls 2 [(0, .ref (E 0))] → W p l e rmX2_pass s m args below meth c H locs 0 0 Q (F0 m 45 ls []) := by
      intro w5 H locs ls hf hP hS hl
      unfold M_pass_j45 at hf
      refine lv_iconst (v := 0) hx hb dX2_pass_45 (by decide) ?_
      refine lv_istore_n (lv' := [(1, .int 0), (0, .ref (E 0))]) hx hb dX2_pass_46 rfl hl (by decide) rfl (fun ls hl => ?_)
      obtain ⟨b8, hb8, hf⟩ := ob_bind hf
      obtain ⟨n8, hn8⟩ := lp_some hb8
      have kL47 : ∀ (n : Nat) (w6 : Mm) (v1_7 : Int32), lpF (fun (q8 : Mm × Int32) => M_pass_b47 q8.1 q8.2) n (w6, v1_7) = some b8 → (∀ (H : Heap) (locs : List Loc) (ls : Array Slot), va_P D clM (wl shM 19 dA E b8) H → va_S (AE 19 E) s.heap H locs → lv_has ls 2 [(0, .ref (E 0))] → W p l e rmX2_pass s m args below meth c H locs 0 0 Q (F0 m 110 ls [])) → ∀ (H : Heap) (locs : List Loc) (ls : Array Slot), va_P D clM (wl shM 19 dA E w6) H → va_S (AE 19 E) s.heap H locs → lv_has ls 2 [(0, .ref (E 0)), (1, .int v1_7)] → W p l e rmX2_pass s m args below meth c H locs 0 0 Q (F0 m 47 ls []) := by
        intro n
        induction n with
        | zero =>
          intro w6 v1_7 h
          cases h
        | succ n ih =>
          intro w6 v1_7 h K8_0 H locs ls hP hS hl
          obtain ⟨r8, hf, h8a, h8b⟩ := lpF_step h
          replace hf : M_pass_b47 w6 v1_7 = some r8 := hf
          unfold M_pass_b47 at hf
          refine lv_iload_n hx hb dX2_pass_47 rfl (lv_at hl 1 rfl) ?_
          refine lv_aload_n hx hb dX2_pass_48 rfl (lv_at hl 0 rfl) ?_
          refine xr_get hx hb hts in_X2 hown hK hP 0 (by decide) rfl rfl 0 (by decide) (hts _ q1405) (fun _ h => h) rfl (v := .ref (E 1)) rfl dX2_pass_49 ?_
          refine lv_iconst (v := 0) hx hb dX2_pass_52 (by decide) ?_
          refine xr_iald hx hb hK hP 1 (by decide) rfl 0 rfl (j := 0) (vin_c (by decide)) (by decide) dX2_pass_53 ?_
          refine lv_icmp_ge (tgt := 110) hx hb dX2_pass_54 (by decide) (fun c9 => ?_) (fun c9 => ?_)
          · replace hf := ob_t hf c9
            obtain rfl := ob_s hf
            obtain rfl := h8b _ rfl
            exact K8_0 H locs ls hP hS (lv_sub hl [0] rfl)
          · replace hf := ob_f hf c9
            refine lv_aload_n hx hb dX2_pass_57 rfl (lv_at hl 0 rfl) ?_
            refine lv_iload_n hx hb dX2_pass_58 rfl (lv_at hl 1 rfl) ?_
            obtain ⟨q11, g10, hf⟩ := ob_bind hf
            refine xc_z (xw_run (As := [.int v1_7]) (rest := []) ⟨hx, hb, hml, hown, hts⟩ (k0 := 0) (wkX2_isPawned l D dA E hE w6 v1_7 g10) (cwV 1 hts (lw_V q1764 q1766 qs98 q140 q1767) rfl rfl rfl cdX2_isPawned ⟨Nat.le_of_ble_eq_true rfl, Nat.le_of_ble_eq_true rfl⟩) hK hP (by decide) rfl rfl rfl hl.1 rfl rfl (Nat.le_of_ble_eq_true rfl) dX2_pass_59 ⟨Nat.zero_le _, Nat.zero_le _⟩) hS hD.2 (fun H locs zq11 hP hS => ?_)
            refine lv_if_eq (tgt := 104) hx hb dX2_pass_62 (by decide) (fun c12 => ?_) (fun c12 => ?_)
            · replace hf := ob_t hf c12
              obtain ⟨v1_13, ev1_13, hf⟩ := ob_bnd hf
              refine lv_iinc (v := v1_13) (lv' := [(1, .int v1_13), (0, .ref (E 0))]) hx hb dX2_pass_104 hl (k := 1) rfl (by rw [ev1_13]; rfl) (by decide) rfl (fun ls hl => ?_)
              refine lv_goto (tgt := 47) hx hb dX2_pass_107 (by decide) ?_
              obtain rfl := ob_s hf
              exact ih _ _ (h8a _ rfl) K8_0 H locs ls hP hS (lv_sub hl [1, 0] rfl)
            · replace hf := ob_f hf c12
              refine lv_aload_n hx hb dX2_pass_65 rfl (lv_at hl 0 rfl) ?_
              refine lv_iload_n hx hb dX2_pass_66 rfl (lv_at hl 1 rfl) ?_
              obtain ⟨q15, g14, hf⟩ := ob_bind hf
              refine xc_i (xw_run (As := [.int v1_7]) (rest := []) ⟨hx, hb, hml, hown, hts⟩ (k0 := 0) (wkX2_sellsOf l D dA E hE w6 v1_7 g14) (cwV 1 hts (lw_V q1856 q1858 qs114 q140 q1859) rfl rfl rfl cdX2_sellsOf ⟨Nat.le_of_ble_eq_true rfl, Nat.le_of_ble_eq_true rfl⟩) hK hP (by decide) rfl rfl rfl hl.1 rfl rfl (Nat.le_of_ble_eq_true rfl) dX2_pass_67 ⟨Nat.zero_le _, Nat.zero_le _⟩) hS hD.2 (fun H locs hP hS => ?_)
              refine lv_if_gt (tgt := 76) hx hb dX2_pass_70 (by decide) (fun c16 => ?_) (fun c16 => ?_)
              · replace hf := ob_t hf c16
                refine lv_aload_n hx hb dX2_pass_76 rfl (lv_at hl 0 rfl) ?_
                refine xr_get hx hb hts in_X2 hown hK hP 0 (by decide) rfl rfl 0 (by decide) (hts _ q1405) (fun _ h => h) rfl (v := .ref (E 1)) rfl dX2_pass_77 ?_
                refine lv_bipush (v := 12) hx hb dX2_pass_80 (by decide) ?_
                refine lv_iconst (v := 3) hx hb dX2_pass_82 (by decide) ?_
                refine lv_iload_n hx hb dX2_pass_83 rfl (lv_at hl 1 rfl) ?_
                refine lv_imul hx hb dX2_pass_84 ?_
                refine lv_iadd hx hb dX2_pass_85 ?_
                refine lv_iconst (v := 3) hx hb dX2_pass_86 (by decide) ?_
                obtain ⟨h17, hf⟩ := ob_gd hf
                obtain ⟨w18, ew18, hf⟩ := ob_bnd hf
                refine xr_iast hx hb hK hP hD hS 1 (by decide) rfl 0 rfl (j := (12 + (3 * v1_7)).toNatClampNeg) (w' := w18) h17 rfl ew18 dX2_pass_87 (fun H locs hP hS => ?_)
                refine lv_aload_n hx hb dX2_pass_88 rfl (lv_at hl 0 rfl) ?_
                refine lv_dup hx hb dX2_pass_89 rfl ?_
                refine xr_get hx hb hts in_X2 hown hK hP 0 (by decide) rfl rfl 24 (by decide) (hts _ q1429) (fun _ h => h) rfl (v := .int (w18.1 0 24)) rfl dX2_pass_90 ?_
                refine lv_iconst (v := 1) hx hb dX2_pass_93 (by decide) ?_
                refine lv_iadd hx hb dX2_pass_94 ?_
                obtain ⟨w19, ew19, hf⟩ := ob_bnd hf
                refine xr_put hx hb hts in_X2 tyX2 tyX2_ok nmX2 hown hK hP hD hS 0 (by decide) rfl rfl 24 (by decide) (hts _ q1429) (fun _ h => h) rfl rfl rfl rfl (w' := w19) ew19 dX2_pass_95 (fun H locs hP hS => ?_)
                refine lv_aload_n hx hb dX2_pass_98 rfl (lv_at hl 0 rfl) ?_
                refine lv_iload_n hx hb dX2_pass_99 rfl (lv_at hl 1 rfl) ?_
                refine lv_iconst (v := 2) hx hb dX2_pass_100 (by decide) ?_
                obtain ⟨q21, g20, hf⟩ := ob_bind hf
                refine xc_v (xw_run (As := [.int v1_7, .int 2]) (rest := []) ⟨hx, hb, hml, hown, hts⟩ (k0 := 0) (wkX2_write l D dA E hE w19 v1_7 2 g20) (cwV 2 hts (lw_V q1752 q1754 qs96 q140 q1755) rfl rfl rfl cdX2_write ⟨Nat.le_of_ble_eq_true rfl, Nat.le_of_ble_eq_true rfl⟩) hK hP (by decide) rfl rfl rfl hl.1 rfl rfl (Nat.le_of_ble_eq_true rfl) dX2_pass_101 ⟨Nat.zero_le _, Nat.zero_le _⟩) hS hD.2 (fun H locs hP hS => ?_)
                obtain ⟨v1_22, ev1_22, hf⟩ := ob_bnd hf
                refine lv_iinc (v := v1_22) (lv' := [(1, .int v1_22), (0, .ref (E 0))]) hx hb dX2_pass_104 hl (k := 1) rfl (by rw [ev1_22]; rfl) (by decide) rfl (fun ls hl => ?_)
                refine lv_goto (tgt := 47) hx hb dX2_pass_107 (by decide) ?_
                obtain rfl := ob_s hf
                exact ih _ _ (h8a _ rfl) K8_0 H locs ls hP hS (lv_sub hl [1, 0] rfl)
              · replace hf := ob_f hf c16
                refine lv_goto (tgt := 104) hx hb dX2_pass_73 (by decide) ?_
                obtain ⟨v1_23, ev1_23, hf⟩ := ob_bnd hf
                refine lv_iinc (v := v1_23) (lv' := [(1, .int v1_23), (0, .ref (E 0))]) hx hb dX2_pass_104 hl (k := 1) rfl (by rw [ev1_23]; rfl) (by decide) rfl (fun ls hl => ?_)
                refine lv_goto (tgt := 47) hx hb dX2_pass_107 (by decide) ?_
                obtain rfl := ob_s hf
                exact ih _ _ (h8a _ rfl) K8_0 H locs ls hP hS (lv_sub hl [1, 0] rfl)
      refine kL47 n8 w5 0 hn8 (fun H locs ls hP hS hl => ?_) H locs ls hP hS (lv_sub hl [1, 0] rfl)
      replace hf : M_pass_x47_110 b8 = some res := hf
      unfold M_pass_x47_110 at hf
      refine lv_aload_n hx hb dX2_pass_110 rfl (lv_at hl 0 rfl) ?_
      refine xr_get hx hb hts in_X2 hown hK hP 0 (by decide) rfl rfl 0 (by decide) (hts _ q1405) (fun _ h => h) rfl (v := .ref (E 1)) rfl dX2_pass_111 ?_
      refine lv_bipush (v := 7) hx hb dX2_pass_114 (by decide) ?_
      refine lv_dup2_11 hx hb dX2_pass_116 rfl rfl ?_
      refine xr_iald hx hb hK hP 1 (by decide) rfl 0 rfl (j := 7) (vin_c (by decide)) (by decide) dX2_pass_117 ?_
      refine lv_iconst (v := 1) hx hb dX2_pass_118 (by decide) ?_
      refine lv_iadd hx hb dX2_pass_119 ?_
      obtain ⟨w24, ew24, hf⟩ := ob_bnd hf
      refine xr_iast hx hb hK hP hD hS 1 (by decide) rfl 0 rfl (j := 7) (w' := w24) (vin_c (by decide)) (by decide) ew24 dX2_pass_120 (fun H locs hP hS => ?_)
      obtain rfl := ob_s hf
      subst hQ
      exact xe_v hx hb hr hlocks hP hS dX2_pass_121
    refine lv_if_le (tgt := 45) hx hb dX2_pass_28 (by decide) (fun c25 => ?_) (fun c25 => ?_)
    · replace hf := ob_t hf c25
      exact kj45 w4 H locs ls hf hP hS (lv_sub hl [0] rfl)
    · replace hf := ob_f hf c25
      refine lv_aload_n hx hb dX2_pass_31 rfl (lv_at hl 0 rfl) ?_
      refine lv_aload_n hx hb dX2_pass_32 rfl (lv_at hl 0 rfl) ?_
      refine lv_aload_n hx hb dX2_pass_33 rfl (lv_at hl 0 rfl) ?_
      refine xr_get hx hb hts in_X2 hown hK hP 0 (by decide) rfl rfl 0 (by decide) (hts _ q1405) (fun _ h => h) rfl (v := .ref (E 1)) rfl dX2_pass_34 ?_
      refine lv_iconst (v := 0) hx hb dX2_pass_37 (by decide) ?_
      refine xr_iald hx hb hK hP 1 (by decide) rfl 0 rfl (j := 0) (vin_c (by decide)) (by decide) dX2_pass_38 ?_
      obtain ⟨q27, g26, hf⟩ := ob_bind hf
      refine xc_i (xw_run (As := [.int (w4.1 1 0)]) (rest := [.ref (E 0)]) ⟨hx, hb, hml, hown, hts⟩ (k0 := 0) (wkX2_drawnBy l D dA E hE w4 (w4.1 1 0) g26) (cwV 1 hts (lw_V q1841 q1843 qs111 q140 q1844) rfl rfl rfl cdX2_drawnBy ⟨Nat.le_of_ble_eq_true rfl, Nat.le_of_ble_eq_true rfl⟩) hK hP (by decide) rfl rfl rfl hl.1 rfl rfl (Nat.le_of_ble_eq_true rfl) dX2_pass_39 ⟨Nat.zero_le _, Nat.zero_le _⟩) hS hD.2 (fun H locs hP hS => ?_)
      obtain ⟨q29, g28, hf⟩ := ob_bind hf
      refine xc_v (xw_run (As := [.int q27.1]) (rest := []) ⟨hx, hb, hml, hown, hts⟩ (k0 := 0) (wkX2_warm l D dA E hE q27.2 q27.1 g28) (cwV 1 hts (lw_V q1852 q1854 qs113 q140 q1855) rfl rfl rfl cdX2_warm ⟨Nat.le_of_ble_eq_true rfl, Nat.le_of_ble_eq_true rfl⟩) hK hP (by decide) rfl rfl rfl hl.1 rfl rfl (Nat.le_of_ble_eq_true rfl) dX2_pass_42 ⟨Nat.zero_le _, Nat.zero_le _⟩) hS hD.2 (fun H locs hP hS => ?_)
      exact kj45 q29 H locs ls hf hP hS (lv_sub hl [0] rfl)
  refine lv_icmp_ge (tgt := 20) hx hb dX2_pass_13 (by decide) (fun c30 => ?_) (fun c30 => ?_)
  · replace hf := ob_t hf c30
    refine lv_iconst (v := 0) hx hb dX2_pass_20 (by decide) ?_
    exact kj21 0 H locs ls hf hP hS (lv_sub hl [0] rfl)
  · replace hf := ob_f hf c30
    refine lv_iconst (v := 1) hx hb dX2_pass_16 (by decide) ?_
    refine lv_goto (tgt := 21) hx hb dX2_pass_17 (by decide) ?_
    exact kj21 1 H locs ls hf hP hS (lv_sub hl [0] rfl)
abbrev rmX2_arePassed : Room := { frames := 6, cells := 0, slots := 0, locals := 143 }
theorem cdX2_arePassed : yX2_arePassed.cls = RX2 ∧ yX2_arePassed.cls ≠ "java/lang/invoke/MethodHandle" ∧ yX2_arePassed.cls ≠ "java/lang/invoke/VarHandle" ∧ (parseMethodDescriptor yX2_arePassed.desc).map (fun d => d.parameters.length) = some 1 := by decide +kernel
set_option maxHeartbeats 4000000 in
set_option maxRecDepth 100000 in
theorem wkX2_arePassed (l : Launch) (D : va_G) (dA : Nat → ClassId) (E : Nat → Nat) (hE : wInj 19 E) (w : Mm) (a1 : Int32) {res : Int32 × Mm} (hf : M_arePassed w a1 = some res) : Met l yX2_arePassed (ws_ yX2_arePassed cX2_arePassed 3 (some .boolean)) rmX2_arePassed (Pw D clM (tyM dA) shM 19 dA E [.ref (E 0), .int a1] w) (Qwz D clM shM 19 dA E res.1 res.2) 0 0 (AE 19 E) := by
  refine xm_head (own := RX2) (by decide) rfl (Nat.le_of_ble_eq_true rfl) ?_
  intro p e s m args below meth c ls Q hQ C hP hl
  obtain ⟨hx, hb, hr, hlocks, hml, hown, hts, hK⟩ := C
  replace hl : lv_has ls 3 [(0, .ref (E 0)), (1, .int a1)] := hl
  have hS : va_S (AE 19 E) s.heap s.heap [] := va_S.rf
  have hD : wD 19 E (AE 19 E) := wD.self hE
  unfold M_arePassed at hf
  obtain ⟨H, eH⟩ : ∃ H, H = s.heap := ⟨_, rfl⟩
  obtain ⟨locs, eL⟩ : ∃ locs : List Loc, locs = [] := ⟨_, rfl⟩
  rw [← eL] at hS ⊢
  rw [← eH] at hP
  have hS : va_S (AE 19 E) s.heap H locs := by rw [eH]; exact hS
  show W p l e rmX2_arePassed s m args below meth c s.heap locs 0 0 Q (F0 m 0 ls [])
  rw [← eH]
  refine lv_aload_n hx hb dX2_arePassed_0 rfl (lv_at hl 0 rfl) ?_
  refine lv_iconst (v := 0) hx hb dX2_arePassed_1 (by decide) ?_
  obtain ⟨w1, ew1, hf⟩ := ob_bnd hf
  refine xr_put hx hb hts in_X2 tyX2 tyX2_ok nmX2 hown hK hP hD hS 0 (by decide) rfl rfl 24 (by decide) (hts _ q1429) (fun _ h => h) rfl rfl rfl rfl (w' := w1) ew1 dX2_arePassed_2 (fun H locs hP hS => ?_)
  refine lv_iconst (v := 0) hx hb dX2_arePassed_5 (by decide) ?_
  refine lv_istore_n (lv' := [(2, .int 0), (0, .ref (E 0)), (1, .int a1)]) hx hb dX2_arePassed_6 rfl hl (by decide) rfl (fun ls hl => ?_)
  obtain ⟨b4, hb4, hf⟩ := ob_bind hf
  obtain ⟨n4, hn4⟩ := lp_some hb4
  have kL7 : ∀ (n : Nat) (w2 : Mm) (v2_3 : Int32), lpF (fun (q4 : Mm × Int32) => M_arePassed_b7 a1 q4.1 q4.2) n (w2, v2_3) = some b4 → (∀ (x4_0 : Mm), b4 = .inl x4_0 → ∀ (H : Heap) (locs : List Loc) (ls : Array Slot), va_P D clM (wl shM 19 dA E x4_0) H → va_S (AE 19 E) s.heap H locs → lv_has ls 3 [] → W p l e rmX2_arePassed s m args below meth c H locs 0 0 Q (F0 m 25 ls [])) → (∀ (x4_1 : Mm), b4 = .inr x4_1 → ∀ (H : Heap) (locs : List Loc) (ls : Array Slot), va_P D clM (wl shM 19 dA E x4_1) H → va_S (AE 19 E) s.heap H locs → lv_has ls 3 [] → W p l e rmX2_arePassed s m args below meth c H locs 0 0 Q (F0 m 41 ls [])) → ∀ (H : Heap) (locs : List Loc) (ls : Array Slot), va_P D clM (wl shM 19 dA E w2) H → va_S (AE 19 E) s.heap H locs → lv_has ls 3 [(0, .ref (E 0)), (1, .int a1), (2, .int v2_3)] → W p l e rmX2_arePassed s m args below meth c H locs 0 0 Q (F0 m 7 ls []) := by
    intro n
    induction n with
    | zero =>
      intro w2 v2_3 h
      cases h
    | succ n ih =>
      intro w2 v2_3 h K4_0 K4_1 H locs ls hP hS hl
      obtain ⟨r4, hf, h4a, h4b⟩ := lpF_step h
      replace hf : M_arePassed_b7 a1 w2 v2_3 = some r4 := hf
      unfold M_arePassed_b7 at hf
      refine lv_iload_n hx hb dX2_arePassed_7 rfl (lv_at hl 2 rfl) ?_
      refine lv_iload_n hx hb dX2_arePassed_8 rfl (lv_at hl 1 rfl) ?_
      refine lv_icmp_ge (tgt := 41) hx hb dX2_arePassed_9 (by decide) (fun c5 => ?_) (fun c5 => ?_)
      · replace hf := ob_t hf c5
        obtain rfl := ob_s hf
        exact K4_1 _ (h4b _ rfl).symm H locs ls hP hS (lv_sub hl [] rfl)
      · replace hf := ob_f hf c5
        refine lv_aload_n hx hb dX2_arePassed_12 rfl (lv_at hl 0 rfl) ?_
        refine xr_get hx hb hts in_X2 hown hK hP 0 (by decide) rfl rfl 0 (by decide) (hts _ q1405) (fun _ h => h) rfl (v := .ref (E 1)) rfl dX2_arePassed_13 ?_
        refine lv_bipush (v := 7) hx hb dX2_arePassed_16 (by decide) ?_
        refine xr_iald hx hb hK hP 1 (by decide) rfl 0 rfl (j := 7) (vin_c (by decide)) (by decide) dX2_arePassed_18 ?_
        refine lv_sipush (v := 9999) hx hb dX2_arePassed_19 (by decide) ?_
        refine lv_icmp_ne (tgt := 27) hx hb dX2_arePassed_22 (by decide) (fun c6 => ?_) (fun c6 => ?_)
        · replace hf := ob_f hf c6
          refine lv_aload_n hx hb dX2_arePassed_27 rfl (lv_at hl 0 rfl) ?_
          obtain ⟨q8, g7, hf⟩ := ob_bind hf
          refine xc_v (xw_run (As := []) (rest := []) ⟨hx, hb, hml, hown, hts⟩ (k0 := 0) (wkX2_keep l D dA E hE w2 g7) (cwV 0 hts (lw_V q1741 q1743 qs94 q140 q1744) rfl rfl rfl cdX2_keep ⟨Nat.le_of_ble_eq_true rfl, Nat.le_of_ble_eq_true rfl⟩) hK hP (by decide) rfl rfl rfl hl.1 rfl rfl (Nat.le_of_ble_eq_true rfl) dX2_arePassed_28 ⟨Nat.zero_le _, Nat.zero_le _⟩) hS hD.2 (fun H locs hP hS => ?_)
          refine lv_aload_n hx hb dX2_arePassed_31 rfl (lv_at hl 0 rfl) ?_
          obtain ⟨q10, g9, hf⟩ := ob_bind hf
          refine xc_v (xw_run (As := []) (rest := []) ⟨hx, hb, hml, hown, hts⟩ (k0 := 0) (wkX2_pass l D dA E hE q8 g9) (cwV 0 hts (lw_V q1837 q1839 qs110 q140 q1840) rfl rfl rfl cdX2_pass ⟨Nat.le_of_ble_eq_true rfl, Nat.le_of_ble_eq_true rfl⟩) hK hP (by decide) rfl rfl rfl hl.1 rfl rfl (Nat.le_of_ble_eq_true rfl) dX2_arePassed_32 ⟨Nat.zero_le _, Nat.zero_le _⟩) hS hD.2 (fun H locs hP hS => ?_)
          obtain ⟨v2_11, ev2_11, hf⟩ := ob_bnd hf
          refine lv_iinc (v := v2_11) (lv' := [(2, .int v2_11), (0, .ref (E 0)), (1, .int a1)]) hx hb dX2_arePassed_35 hl (k := 2) rfl (by rw [ev2_11]; rfl) (by decide) rfl (fun ls hl => ?_)
          refine lv_goto (tgt := 7) hx hb dX2_arePassed_38 (by decide) ?_
          obtain rfl := ob_s hf
          exact ih _ _ (h4a _ rfl) K4_0 K4_1 H locs ls hP hS (lv_sub hl [1, 2, 0] rfl)
        · replace hf := ob_t hf c6
          obtain rfl := ob_s hf
          exact K4_0 _ (h4b _ rfl).symm H locs ls hP hS (lv_sub hl [] rfl)
  refine kL7 n4 w1 0 hn4 (fun x4_0 ex4_0 H locs ls hP hS hl => ?_) (fun x4_1 ex4_1 H locs ls hP hS hl => ?_) H locs ls hP hS (lv_sub hl [1, 2, 0] rfl)
  · subst ex4_0
    replace hf : M_arePassed_x7_25 x4_0 = some res := hf
    unfold M_arePassed_x7_25 at hf
    refine lv_iconst (v := 0) hx hb dX2_arePassed_25 (by decide) ?_
    obtain rfl := ob_s hf
    subst hQ
    exact xe_z hx hb hr hlocks hP hS (Or.inl rfl) dX2_arePassed_26
  · subst ex4_1
    replace hf : M_arePassed_x7_41 x4_1 = some res := hf
    unfold M_arePassed_x7_41 at hf
    refine lv_iconst (v := 1) hx hb dX2_arePassed_41 (by decide) ?_
    obtain rfl := ob_s hf
    subst hQ
    exact xe_z hx hb hr hlocks hP hS (Or.inr rfl) dX2_arePassed_42
abbrev rmX2_day : Room := { frames := 7, cells := 0, slots := 0, locals := 165 }
theorem cdX2_day : yX2_day.cls = RX2 ∧ yX2_day.cls ≠ "java/lang/invoke/MethodHandle" ∧ yX2_day.cls ≠ "java/lang/invoke/VarHandle" ∧ (parseMethodDescriptor yX2_day.desc).map (fun d => d.parameters.length) = some 1 := by decide +kernel
set_option maxHeartbeats 4000000 in
set_option maxRecDepth 100000 in
theorem wkX2_day (l : Launch) (D : va_G) (dA : Nat → ClassId) (E : Nat → Nat) (hE : wInj 19 E) (w : Mm) (a1 : Int32) {res : Int32 × Mm} (hf : M_day w a1 = some res) : Met l yX2_day (ws_ yX2_day cX2_day 2 (some .int)) rmX2_day (Pw D clM (tyM dA) shM 19 dA E [.ref (E 0), .int a1] w) (Qwi D clM shM 19 dA E res.1 res.2) 0 0 (AE 19 E) := by
  refine xm_head (own := RX2) (by decide) rfl (Nat.le_of_ble_eq_true rfl) ?_
  intro p e s m args below meth c ls Q hQ C hP hl
  obtain ⟨hx, hb, hr, hlocks, hml, hown, hts, hK⟩ := C
  replace hl : lv_has ls 2 [(0, .ref (E 0)), (1, .int a1)] := hl
  have hS : va_S (AE 19 E) s.heap s.heap [] := va_S.rf
  have hD : wD 19 E (AE 19 E) := wD.self hE
  unfold M_day at hf
  obtain ⟨H, eH⟩ : ∃ H, H = s.heap := ⟨_, rfl⟩
  obtain ⟨locs, eL⟩ : ∃ locs : List Loc, locs = [] := ⟨_, rfl⟩
  rw [← eL] at hS ⊢
  rw [← eH] at hP
  have hS : va_S (AE 19 E) s.heap H locs := by rw [eH]; exact hS
  show W p l e rmX2_day s m args below meth c s.heap locs 0 0 Q (F0 m 0 ls [])
  rw [← eH]
  refine lv_iload_n hx hb dX2_day_0 rfl (lv_at hl 1 rfl) ?_
  refine lv_iconst (v := 1) hx hb dX2_day_1 (by decide) ?_
  refine lv_bipush (v := 60) hx hb dX2_day_2 (by decide) ?_
  obtain ⟨q2, g1, hf⟩ := ob_bind hf
  refine xc_z (xw_runS (As := [.int a1, .int 1, .int 60]) (rest := []) ⟨hx, hb, hml, hown, hts⟩ (wkX2_isIn l D dA E hE w a1 1 60 g1) (va_cwS 3 hts (lw_S q1538 q1539 q140 q1540) rfl rfl rfl cdX2_isIn.2 ⟨Nat.le_of_ble_eq_true rfl, Nat.le_of_ble_eq_true rfl⟩) hK hP hl.1 rfl rfl (Nat.le_of_ble_eq_true rfl) dX2_day_4 ⟨Nat.zero_le _, Nat.zero_le _⟩) hS hD.2 (fun H locs zq2 hP hS => ?_)
  refine lv_if_eq (tgt := 40) hx hb dX2_day_7 (by decide) (fun c3 => ?_) (fun c3 => ?_)
  · replace hf := ob_t hf c3
    refine lv_iconst (v := (-1)) hx hb dX2_day_40 (by decide) ?_
    obtain rfl := ob_s hf
    subst hQ
    exact xe_i hx hb hr hlocks hP hS dX2_day_41
  · replace hf := ob_f hf c3
    refine lv_aload_n hx hb dX2_day_10 rfl (lv_at hl 0 rfl) ?_
    refine xr_get hx hb hts in_X2 hown hK hP 0 (by decide) rfl rfl 0 (by decide) (hts _ q1405) (fun _ h => h) rfl (v := .ref (E 1)) rfl dX2_day_11 ?_
    refine lv_bipush (v := 7) hx hb dX2_day_14 (by decide) ?_
    refine xr_iald hx hb hK hP 1 (by decide) rfl 0 rfl (j := 7) (vin_c (by decide)) (by decide) dX2_day_16 ?_
    refine lv_iload_n hx hb dX2_day_17 rfl (lv_at hl 1 rfl) ?_
    refine lv_iadd hx hb dX2_day_18 ?_
    refine lv_sipush (v := 9999) hx hb dX2_day_19 (by decide) ?_
    refine lv_icmp_gt (tgt := 40) hx hb dX2_day_22 (by decide) (fun c4 => ?_) (fun c4 => ?_)
    · replace hf := ob_t hf c4
      refine lv_iconst (v := (-1)) hx hb dX2_day_40 (by decide) ?_
      obtain rfl := ob_s hf
      subst hQ
      exact xe_i hx hb hr hlocks hP hS dX2_day_41
    · replace hf := ob_f hf c4
      refine lv_aload_n hx hb dX2_day_25 rfl (lv_at hl 0 rfl) ?_
      refine lv_iload_n hx hb dX2_day_26 rfl (lv_at hl 1 rfl) ?_
      obtain ⟨q6, g5, hf⟩ := ob_bind hf
      refine xc_z (xw_run (As := [.int a1]) (rest := []) ⟨hx, hb, hml, hown, hts⟩ (k0 := 0) (wkX2_arePassed l D dA E hE w a1 g5) (cwV 1 hts (lw_V q1833 q1835 qs109 q140 q1836) rfl rfl rfl cdX2_arePassed ⟨Nat.le_of_ble_eq_true rfl, Nat.le_of_ble_eq_true rfl⟩) hK hP (by decide) rfl rfl rfl hl.1 rfl rfl (Nat.le_of_ble_eq_true rfl) dX2_day_27 ⟨Nat.zero_le _, Nat.zero_le _⟩) hS hD.2 (fun H locs zq6 hP hS => ?_)
      refine lv_if_eq (tgt := 40) hx hb dX2_day_30 (by decide) (fun c7 => ?_) (fun c7 => ?_)
      · replace hf := ob_t hf c7
        refine lv_iconst (v := (-1)) hx hb dX2_day_40 (by decide) ?_
        obtain rfl := ob_s hf
        subst hQ
        exact xe_i hx hb hr hlocks hP hS dX2_day_41
      · replace hf := ob_f hf c7
        refine lv_aload_n hx hb dX2_day_33 rfl (lv_at hl 0 rfl) ?_
        refine xr_get hx hb hts in_X2 hown hK hP 0 (by decide) rfl rfl 24 (by decide) (hts _ q1429) (fun _ h => h) rfl (v := .int (q6.2.1 0 24)) rfl dX2_day_34 ?_
        refine lv_goto (tgt := 41) hx hb dX2_day_37 (by decide) ?_
        obtain rfl := ob_s hf
        subst hQ
        exact xe_i hx hb hr hlocks hP hS dX2_day_41
abbrev rmX2_isPlayed : Room := { frames := 8, cells := 0, slots := 0, locals := 189 }
theorem cdX2_isPlayed : yX2_isPlayed.cls = RX2 ∧ yX2_isPlayed.cls ≠ "java/lang/invoke/MethodHandle" ∧ yX2_isPlayed.cls ≠ "java/lang/invoke/VarHandle" ∧ (parseMethodDescriptor yX2_isPlayed.desc).map (fun d => d.parameters.length) = some 1 := by decide +kernel
set_option maxHeartbeats 4000000 in
set_option maxRecDepth 100000 in
theorem wkX2_isPlayed (l : Launch) (D : va_G) (dA : Nat → ClassId) (E : Nat → Nat) (hE : wInj 19 E) (w : Mm) (a1 : Int32) {res : Int32 × Mm} (hf : M_isPlayed w a1 = some res) : Met l yX2_isPlayed (ws_ yX2_isPlayed cX2_isPlayed 3 (some .boolean)) rmX2_isPlayed (Pw D clM (tyM dA) shM 19 dA E [.ref (E 0), .int a1] w) (Qwz D clM shM 19 dA E res.1 res.2) 0 0 (AE 19 E) := by
  refine xm_head (own := RX2) (by decide) rfl (Nat.le_of_ble_eq_true rfl) ?_
  intro p e s m args below meth c ls Q hQ C hP hl
  obtain ⟨hx, hb, hr, hlocks, hml, hown, hts, hK⟩ := C
  replace hl : lv_has ls 3 [(0, .ref (E 0)), (1, .int a1)] := hl
  have hS : va_S (AE 19 E) s.heap s.heap [] := va_S.rf
  have hD : wD 19 E (AE 19 E) := wD.self hE
  unfold M_isPlayed at hf
  obtain ⟨H, eH⟩ : ∃ H, H = s.heap := ⟨_, rfl⟩
  obtain ⟨locs, eL⟩ : ∃ locs : List Loc, locs = [] := ⟨_, rfl⟩
  rw [← eL] at hS ⊢
  rw [← eH] at hP
  have hS : va_S (AE 19 E) s.heap H locs := by rw [eH]; exact hS
  show W p l e rmX2_isPlayed s m args below meth c s.heap locs 0 0 Q (F0 m 0 ls [])
  rw [← eH]
  refine lv_aload_n hx hb dX2_isPlayed_0 rfl (lv_at hl 0 rfl) ?_
  refine xr_get hx hb hts in_X2 hown hK hP 0 (by decide) rfl rfl 2 (by decide) (hts _ q1407) (fun _ h => h) rfl (v := .ref (E 3)) rfl dX2_isPlayed_1 ?_
  refine lv_iload_n hx hb dX2_isPlayed_4 rfl (lv_at hl 1 rfl) ?_
  refine lv_iconst (v := 1) hx hb dX2_isPlayed_5 (by decide) ?_
  refine lv_iadd hx hb dX2_isPlayed_6 ?_
  obtain ⟨h1, hf⟩ := ob_gd hf
  refine xr_iald hx hb hK hP 3 (by decide) rfl 0 rfl (j := (a1 + 1).toNatClampNeg) h1 rfl dX2_isPlayed_7 ?_
  obtain ⟨v2_2, ev2_2, hf⟩ := ob_bnd hf
  refine xn_i ev2_2 ?_
  refine lv_istore_n (lv' := [(2, .int v2_2), (0, .ref (E 0)), (1, .int a1)]) hx hb dX2_isPlayed_8 rfl hl (by decide) rfl (fun ls hl => ?_)
  refine lv_aload_n hx hb dX2_isPlayed_9 rfl (lv_at hl 1 rfl) ?_
  refine xr_get hx hb hts in_X2 hown hK hP 0 (by decide) rfl rfl 2 (by decide) (hts _ q1407) (fun _ h => h) rfl (v := .ref (E 3)) rfl dX2_isPlayed_10 ?_
  refine lv_iload_n hx hb dX2_isPlayed_13 rfl (lv_at hl 2 rfl) ?_
  obtain ⟨h3, hf⟩ := ob_gd hf
  refine xr_iald hx hb hK hP 3 (by decide) rfl 0 rfl (j := a1.toNatClampNeg) h3 rfl dX2_isPlayed_14 ?_
  obtain ⟨x4, ex4, hf⟩ := ob_bnd hf
  refine xn_i ex4 ?_
  by_cases c5 : x4 = 2
  · replace hf := ob_t hf c5
    refine lv_tableIn (tgt := 48) (off := 33) hx hb dX2_isPlayed_15 (by rw [c5]; decide) (by rw [c5]; decide) (by rw [c5]; rfl) (by decide) ?_
    refine lv_aload_n hx hb dX2_isPlayed_48 rfl (lv_at hl 1 rfl) ?_
    refine lv_iload_n hx hb dX2_isPlayed_49 rfl (lv_at hl 0 rfl) ?_
    refine lv_aload_n hx hb dX2_isPlayed_50 rfl (lv_at hl 1 rfl) ?_
    refine xr_get hx hb hts in_X2 hown hK hP 0 (by decide) rfl rfl 2 (by decide) (hts _ q1407) (fun _ h => h) rfl (v := .ref (E 3)) rfl dX2_isPlayed_51 ?_
    refine lv_iload_n hx hb dX2_isPlayed_54 rfl (lv_at hl 2 rfl) ?_
    refine lv_iconst (v := 2) hx hb dX2_isPlayed_55 (by decide) ?_
    refine lv_iadd hx hb dX2_isPlayed_56 ?_
    obtain ⟨h6, hf⟩ := ob_gd hf
    refine xr_iald hx hb hK hP 3 (by decide) rfl 0 rfl (j := (a1 + 2).toNatClampNeg) h6 rfl dX2_isPlayed_57 ?_
    refine lv_aload_n hx hb dX2_isPlayed_58 rfl (lv_at hl 1 rfl) ?_
    refine xr_get hx hb hts in_X2 hown hK hP 0 (by decide) rfl rfl 2 (by decide) (hts _ q1407) (fun _ h => h) rfl (v := .ref (E 3)) rfl dX2_isPlayed_59 ?_
    refine lv_iload_n hx hb dX2_isPlayed_62 rfl (lv_at hl 2 rfl) ?_
    refine lv_iconst (v := 3) hx hb dX2_isPlayed_63 (by decide) ?_
    refine lv_iadd hx hb dX2_isPlayed_64 ?_
    obtain ⟨h7, hf⟩ := ob_gd hf
    refine xr_iald hx hb hK hP 3 (by decide) rfl 0 rfl (j := (a1 + 3).toNatClampNeg) h7 rfl dX2_isPlayed_65 ?_
    refine lv_iconst (v := 0) hx hb dX2_isPlayed_66 (by decide) ?_
    obtain ⟨q9, g8, hf⟩ := ob_bind hf
    refine xc_i (xw_run (As := [.int v2_2, .int (w.1 3 (a1 + 2).toNatClampNeg), .int (w.1 3 (a1 + 3).toNatClampNeg), .int 0]) (rest := []) ⟨hx, hb, hml, hown, hts⟩ (k0 := 0) (wkX2_quarrel l D dA E hE w v2_2 (w.1 3 (a1 + 2).toNatClampNeg) (w.1 3 (a1 + 3).toNatClampNeg) 0 g8) (cwV 4 hts (lw_V q1875 q1532 q1533 q140 q1534) rfl rfl rfl cdX2_quarrel ⟨Nat.le_of_ble_eq_true rfl, Nat.le_of_ble_eq_true rfl⟩) hK hP (by decide) rfl rfl rfl hl.1 rfl rfl (Nat.le_of_ble_eq_true rfl) dX2_isPlayed_67 ⟨Nat.zero_le _, Nat.zero_le _⟩) hS hD.2 (fun H locs hP hS => ?_)
    refine lv_if_lt (tgt := 77) hx hb dX2_isPlayed_70 (by decide) (fun c10 => ?_) (fun c10 => ?_)
    · replace hf := ob_t hf c10
      refine lv_iconst (v := 0) hx hb dX2_isPlayed_77 (by decide) ?_
      obtain rfl := ob_s hf
      subst hQ
      exact xe_z hx hb hr hlocks hP hS (Or.inl rfl) dX2_isPlayed_78
    · replace hf := ob_f hf c10
      refine lv_iconst (v := 1) hx hb dX2_isPlayed_73 (by decide) ?_
      refine lv_goto (tgt := 78) hx hb dX2_isPlayed_74 (by decide) ?_
      obtain rfl := ob_s hf
      subst hQ
      exact xe_z hx hb hr hlocks hP hS (Or.inr rfl) dX2_isPlayed_78
  · replace hf := ob_f hf c5
    by_cases c11 : x4 = 3
    · replace hf := ob_t hf c11
      refine lv_tableIn (tgt := 79) (off := 64) hx hb dX2_isPlayed_15 (by rw [c11]; decide) (by rw [c11]; decide) (by rw [c11]; rfl) (by decide) ?_
      refine lv_aload_n hx hb dX2_isPlayed_79 rfl (lv_at hl 1 rfl) ?_
      refine lv_iload_n hx hb dX2_isPlayed_80 rfl (lv_at hl 0 rfl) ?_
      obtain ⟨q13, g12, hf⟩ := ob_bind hf
      refine xc_z (xw_run (As := [.int v2_2]) (rest := []) ⟨hx, hb, hml, hown, hts⟩ (k0 := 0) (wkX2_pawn l D dA E hE w v2_2 g12) (cwV 1 hts (lw_V q1876 q1726 q1727 q140 q1728) rfl rfl rfl cdX2_pawn ⟨Nat.le_of_ble_eq_true rfl, Nat.le_of_ble_eq_true rfl⟩) hK hP (by decide) rfl rfl rfl hl.1 rfl rfl (Nat.le_of_ble_eq_true rfl) dX2_isPlayed_81 ⟨Nat.zero_le _, Nat.zero_le _⟩) hS hD.2 (fun H locs zq13 hP hS => ?_)
      obtain rfl := ob_s hf
      subst hQ
      exact xe_z hx hb hr hlocks hP hS zq13 dX2_isPlayed_84
    · replace hf := ob_f hf c11
      by_cases c14 : x4 = 4
      · replace hf := ob_t hf c14
        refine lv_tableIn (tgt := 85) (off := 70) hx hb dX2_isPlayed_15 (by rw [c14]; decide) (by rw [c14]; decide) (by rw [c14]; rfl) (by decide) ?_
        refine lv_aload_n hx hb dX2_isPlayed_85 rfl (lv_at hl 1 rfl) ?_
        refine lv_iload_n hx hb dX2_isPlayed_86 rfl (lv_at hl 0 rfl) ?_
        obtain ⟨q16, g15, hf⟩ := ob_bind hf
        refine xc_i (xw_run (As := [.int v2_2]) (rest := []) ⟨hx, hb, hml, hown, hts⟩ (k0 := 0) (wkX2_redeem l D dA E hE w v2_2 g15) (cwV 1 hts (lw_V q1877 q1757 q1758 q140 q1759) rfl rfl rfl cdX2_redeem ⟨Nat.le_of_ble_eq_true rfl, Nat.le_of_ble_eq_true rfl⟩) hK hP (by decide) rfl rfl rfl hl.1 rfl rfl (Nat.le_of_ble_eq_true rfl) dX2_isPlayed_87 ⟨Nat.zero_le _, Nat.zero_le _⟩) hS hD.2 (fun H locs hP hS => ?_)
        refine lv_if_lt (tgt := 97) hx hb dX2_isPlayed_90 (by decide) (fun c17 => ?_) (fun c17 => ?_)
        · replace hf := ob_t hf c17
          refine lv_iconst (v := 0) hx hb dX2_isPlayed_97 (by decide) ?_
          obtain rfl := ob_s hf
          subst hQ
          exact xe_z hx hb hr hlocks hP hS (Or.inl rfl) dX2_isPlayed_98
        · replace hf := ob_f hf c17
          refine lv_iconst (v := 1) hx hb dX2_isPlayed_93 (by decide) ?_
          refine lv_goto (tgt := 98) hx hb dX2_isPlayed_94 (by decide) ?_
          obtain rfl := ob_s hf
          subst hQ
          exact xe_z hx hb hr hlocks hP hS (Or.inr rfl) dX2_isPlayed_98
      · replace hf := ob_f hf c14
        by_cases c18 : x4 = 5
        · replace hf := ob_t hf c18
          refine lv_tableIn (tgt := 99) (off := 84) hx hb dX2_isPlayed_15 (by rw [c18]; decide) (by rw [c18]; decide) (by rw [c18]; rfl) (by decide) ?_
          refine lv_aload_n hx hb dX2_isPlayed_99 rfl (lv_at hl 1 rfl) ?_
          refine lv_iload_n hx hb dX2_isPlayed_100 rfl (lv_at hl 0 rfl) ?_
          obtain ⟨q20, g19, hf⟩ := ob_bind hf
          refine xc_z (xw_run (As := [.int v2_2]) (rest := []) ⟨hx, hb, hml, hown, hts⟩ (k0 := 0) (wkX2_earn l D dA E hE w v2_2 g19) (cwV 1 hts (lw_V q1878 q1822 q1823 q140 q1824) rfl rfl rfl cdX2_earn ⟨Nat.le_of_ble_eq_true rfl, Nat.le_of_ble_eq_true rfl⟩) hK hP (by decide) rfl rfl rfl hl.1 rfl rfl (Nat.le_of_ble_eq_true rfl) dX2_isPlayed_101 ⟨Nat.zero_le _, Nat.zero_le _⟩) hS hD.2 (fun H locs zq20 hP hS => ?_)
          obtain rfl := ob_s hf
          subst hQ
          exact xe_z hx hb hr hlocks hP hS zq20 dX2_isPlayed_104
        · replace hf := ob_f hf c18
          by_cases c21 : x4 = 6
          · replace hf := ob_t hf c21
            refine lv_tableIn (tgt := 105) (off := 90) hx hb dX2_isPlayed_15 (by rw [c21]; decide) (by rw [c21]; decide) (by rw [c21]; rfl) (by decide) ?_
            refine lv_aload_n hx hb dX2_isPlayed_105 rfl (lv_at hl 1 rfl) ?_
            refine lv_iload_n hx hb dX2_isPlayed_106 rfl (lv_at hl 0 rfl) ?_
            obtain ⟨q23, g22, hf⟩ := ob_bind hf
            refine xc_z (xw_run (As := [.int v2_2]) (rest := []) ⟨hx, hb, hml, hown, hts⟩ (k0 := 0) (wkX2_arePassed l D dA E hE w v2_2 g22) (cwV 1 hts (lw_V q1833 q1835 qs109 q140 q1836) rfl rfl rfl cdX2_arePassed ⟨Nat.le_of_ble_eq_true rfl, Nat.le_of_ble_eq_true rfl⟩) hK hP (by decide) rfl rfl rfl hl.1 rfl rfl (Nat.le_of_ble_eq_true rfl) dX2_isPlayed_107 ⟨Nat.zero_le _, Nat.zero_le _⟩) hS hD.2 (fun H locs zq23 hP hS => ?_)
            obtain rfl := ob_s hf
            subst hQ
            exact xe_z hx hb hr hlocks hP hS zq23 dX2_isPlayed_110
          · replace hf := ob_f hf c21
            refine xr_tswD (tgt := 111) (vs := [2, 3, 4, 5, 6]) hx hb dX2_isPlayed_15 (List.forall_mem_cons.mpr ⟨c5, List.forall_mem_cons.mpr ⟨c11, List.forall_mem_cons.mpr ⟨c14, List.forall_mem_cons.mpr ⟨c18, List.forall_mem_cons.mpr ⟨c21, fun _ h => absurd h List.not_mem_nil⟩⟩⟩⟩⟩) (by decide +kernel) (by decide) ?_
            refine lv_iconst (v := 1) hx hb dX2_isPlayed_111 (by decide) ?_
            obtain rfl := ob_s hf
            subst hQ
            exact xe_z hx hb hr hlocks hP hS (Or.inr rfl) dX2_isPlayed_112
abbrev rmX2_played : Room := { frames := 9, cells := 0, slots := 0, locals := 211 }
theorem cdX2_played : yX2_played.cls = RX2 ∧ yX2_played.cls ≠ "java/lang/invoke/MethodHandle" ∧ yX2_played.cls ≠ "java/lang/invoke/VarHandle" ∧ (parseMethodDescriptor yX2_played.desc).map (fun d => d.parameters.length) = some 1 := by decide +kernel
set_option maxHeartbeats 4000000 in
set_option maxRecDepth 100000 in
theorem wkX2_played (l : Launch) (D : va_G) (dA : Nat → ClassId) (E : Nat → Nat) (hE : wInj 19 E) (w : Mm) (a1 : Int32) {res : Int32 × Mm} (hf : M_played w a1 = some res) : Met l yX2_played (ws_ yX2_played cX2_played 3 (some .int)) rmX2_played (Pw D clM (tyM dA) shM 19 dA E [.ref (E 0), .int a1] w) (Qwi D clM shM 19 dA E res.1 res.2) 0 0 (AE 19 E) := by
  refine xm_head (own := RX2) (by decide) rfl (Nat.le_of_ble_eq_true rfl) ?_
  intro p e s m args below meth c ls Q hQ C hP hl
  obtain ⟨hx, hb, hr, hlocks, hml, hown, hts, hK⟩ := C
  replace hl : lv_has ls 3 [(0, .ref (E 0)), (1, .int a1)] := hl
  have hS : va_S (AE 19 E) s.heap s.heap [] := va_S.rf
  have hD : wD 19 E (AE 19 E) := wD.self hE
  unfold M_played at hf
  obtain ⟨H, eH⟩ : ∃ H, H = s.heap := ⟨_, rfl⟩
  obtain ⟨locs, eL⟩ : ∃ locs : List Loc, locs = [] := ⟨_, rfl⟩
  rw [← eL] at hS ⊢
  rw [← eH] at hP
  have hS : va_S (AE 19 E) s.heap H locs := by rw [eH]; exact hS
  show W p l e rmX2_played s m args below meth c s.heap locs 0 0 Q (F0 m 0 ls [])
  rw [← eH]
  refine lv_iload_n hx hb dX2_played_0 rfl (lv_at hl 1 rfl) ?_
  refine lv_iconst (v := 0) hx hb dX2_played_1 (by decide) ?_
  refine lv_aload_n hx hb dX2_played_2 rfl (lv_at hl 0 rfl) ?_
  refine xr_get hx hb hts in_X2 hown hK hP 0 (by decide) rfl rfl 0 (by decide) (hts _ q1405) (fun _ h => h) rfl (v := .ref (E 1)) rfl dX2_played_3 ?_
  refine lv_iconst (v := 1) hx hb dX2_played_6 (by decide) ?_
  refine xr_iald hx hb hK hP 1 (by decide) rfl 0 rfl (j := 1) (vin_c (by decide)) (by decide) dX2_played_7 ?_
  refine lv_iconst (v := 1) hx hb dX2_played_8 (by decide) ?_
  refine lv_isub hx hb dX2_played_9 ?_
  obtain ⟨q2, g1, hf⟩ := ob_bind hf
  refine xc_z (xw_runS (As := [.int a1, .int 0, .int ((w.1 1 1) - 1)]) (rest := []) ⟨hx, hb, hml, hown, hts⟩ (wkX2_isIn l D dA E hE w a1 0 ((w.1 1 1) - 1) g1) (va_cwS 3 hts (lw_S q1538 q1539 q140 q1540) rfl rfl rfl cdX2_isIn.2 ⟨Nat.le_of_ble_eq_true rfl, Nat.le_of_ble_eq_true rfl⟩) hK hP hl.1 rfl rfl (Nat.le_of_ble_eq_true rfl) dX2_played_10 ⟨Nat.zero_le _, Nat.zero_le _⟩) hS hD.2 (fun H locs zq2 hP hS => ?_)
  refine lv_if_ne (tgt := 19) hx hb dX2_played_13 (by decide) (fun c3 => ?_) (fun c3 => ?_)
  · replace hf := ob_f hf c3
    refine lv_iconst (v := 0) hx hb dX2_played_19 (by decide) ?_
    refine lv_istore_n (lv' := [(2, .int 0), (0, .ref (E 0)), (1, .int a1)]) hx hb dX2_played_20 rfl hl (by decide) rfl (fun ls hl => ?_)
    obtain ⟨b6, hb6, hf⟩ := ob_bind hf
    obtain ⟨n6, hn6⟩ := lp_some hb6
    have kL21 : ∀ (n : Nat) (w4 : Mm) (v2_5 : Int32), lpF (fun (q6 : Mm × Int32) => M_played_b21 a1 q6.1 q6.2) n (w4, v2_5) = some b6 → (∀ (x6_0 : Mm × Int32), b6 = .inl x6_0 → ∀ (H : Heap) (locs : List Loc) (ls : Array Slot), va_P D clM (wl shM 19 dA E x6_0.1) H → va_S (AE 19 E) s.heap H locs → lv_has ls 3 [(2, .int x6_0.2)] → W p l e rmX2_played s m args below meth c H locs 0 0 Q (F0 m 53 ls [])) → (∀ (x6_1 : Mm), b6 = .inr x6_1 → ∀ (H : Heap) (locs : List Loc) (ls : Array Slot), va_P D clM (wl shM 19 dA E x6_1) H → va_S (AE 19 E) s.heap H locs → lv_has ls 3 [] → W p l e rmX2_played s m args below meth c H locs 0 0 Q (F0 m 61 ls [])) → ∀ (H : Heap) (locs : List Loc) (ls : Array Slot), va_P D clM (wl shM 19 dA E w4) H → va_S (AE 19 E) s.heap H locs → lv_has ls 3 [(0, .ref (E 0)), (1, .int a1), (2, .int v2_5)] → W p l e rmX2_played s m args below meth c H locs 0 0 Q (F0 m 21 ls []) := by
      intro n
      induction n with
      | zero =>
        intro w4 v2_5 h
        cases h
      | succ n ih =>
        intro w4 v2_5 h K6_0 K6_1 H locs ls hP hS hl
        obtain ⟨r6, hf, h6a, h6b⟩ := lpF_step h
        replace hf : M_played_b21 a1 w4 v2_5 = some r6 := hf
        unfold M_played_b21 at hf
        refine lv_iload_n hx hb dX2_played_21 rfl (lv_at hl 2 rfl) ?_
        refine lv_aload_n hx hb dX2_played_22 rfl (lv_at hl 0 rfl) ?_
        refine xr_get hx hb hts in_X2 hown hK hP 0 (by decide) rfl rfl 2 (by decide) (hts _ q1407) (fun _ h => h) rfl (v := .ref (E 3)) rfl dX2_played_23 ?_
        refine lv_sipush (v := 705) hx hb dX2_played_26 (by decide) ?_
        refine lv_iload_n hx hb dX2_played_29 rfl (lv_at hl 1 rfl) ?_
        refine lv_imul hx hb dX2_played_30 ?_
        obtain ⟨h7, hf⟩ := ob_gd hf
        refine xr_iald hx hb hK hP 3 (by decide) rfl 0 rfl (j := (705 * a1).toNatClampNeg) h7 rfl dX2_played_31 ?_
        refine lv_icmp_ge (tgt := 61) hx hb dX2_played_32 (by decide) (fun c8 => ?_) (fun c8 => ?_)
        · replace hf := ob_t hf c8
          obtain rfl := ob_s hf
          exact K6_1 _ (h6b _ rfl).symm H locs ls hP hS (lv_sub hl [] rfl)
        · replace hf := ob_f hf c8
          refine lv_aload_n hx hb dX2_played_35 rfl (lv_at hl 0 rfl) ?_
          refine lv_sipush (v := 705) hx hb dX2_played_36 (by decide) ?_
          refine lv_iload_n hx hb dX2_played_39 rfl (lv_at hl 1 rfl) ?_
          refine lv_imul hx hb dX2_played_40 ?_
          refine lv_iconst (v := 1) hx hb dX2_played_41 (by decide) ?_
          refine lv_iadd hx hb dX2_played_42 ?_
          refine lv_iconst (v := 4) hx hb dX2_played_43 (by decide) ?_
          refine lv_iload_n hx hb dX2_played_44 rfl (lv_at hl 2 rfl) ?_
          refine lv_imul hx hb dX2_played_45 ?_
          refine lv_iadd hx hb dX2_played_46 ?_
          obtain ⟨q10, g9, hf⟩ := ob_bind hf
          refine xc_z (xw_run (As := [.int (((705 * a1) + 1) + (4 * v2_5))]) (rest := []) ⟨hx, hb, hml, hown, hts⟩ (k0 := 0) (wkX2_isPlayed l D dA E hE w4 (((705 * a1) + 1) + (4 * v2_5)) g9) (cwV 1 hts (lw_V q1871 q1873 qs116 q140 q1874) rfl rfl rfl cdX2_isPlayed ⟨Nat.le_of_ble_eq_true rfl, Nat.le_of_ble_eq_true rfl⟩) hK hP (by decide) rfl rfl rfl hl.1 rfl rfl (Nat.le_of_ble_eq_true rfl) dX2_played_47 ⟨Nat.zero_le _, Nat.zero_le _⟩) hS hD.2 (fun H locs zq10 hP hS => ?_)
          refine lv_if_ne (tgt := 55) hx hb dX2_played_50 (by decide) (fun c11 => ?_) (fun c11 => ?_)
          · replace hf := ob_f hf c11
            obtain ⟨v2_12, ev2_12, hf⟩ := ob_bnd hf
            refine lv_iinc (v := v2_12) (lv' := [(2, .int v2_12), (0, .ref (E 0)), (1, .int a1)]) hx hb dX2_played_55 hl (k := 2) rfl (by rw [ev2_12]; rfl) (by decide) rfl (fun ls hl => ?_)
            refine lv_goto (tgt := 21) hx hb dX2_played_58 (by decide) ?_
            obtain rfl := ob_s hf
            exact ih _ _ (h6a _ rfl) K6_0 K6_1 H locs ls hP hS (lv_sub hl [1, 2, 0] rfl)
          · replace hf := ob_t hf c11
            obtain rfl := ob_s hf
            exact K6_0 _ (h6b _ rfl).symm H locs ls hP hS (lv_sub hl [2] rfl)
    refine kL21 n6 w 0 hn6 (fun x6_0 ex6_0 H locs ls hP hS hl => ?_) (fun x6_1 ex6_1 H locs ls hP hS hl => ?_) H locs ls hP hS (lv_sub hl [1, 2, 0] rfl)
    · subst ex6_0
      replace hf : M_played_x21_53 x6_0 = some res := hf
      unfold M_played_x21_53 at hf
      refine lv_iload_n hx hb dX2_played_53 rfl (lv_at hl 0 rfl) ?_
      obtain rfl := ob_s hf
      subst hQ
      exact xe_i hx hb hr hlocks hP hS dX2_played_54
    · subst ex6_1
      replace hf : M_played_x21_61 x6_1 = some res := hf
      unfold M_played_x21_61 at hf
      refine lv_iconst (v := (-1)) hx hb dX2_played_61 (by decide) ?_
      obtain rfl := ob_s hf
      subst hQ
      exact xe_i hx hb hr hlocks hP hS dX2_played_62
  · replace hf := ob_t hf c3
    refine lv_bipush (v := (-2)) hx hb dX2_played_16 (by decide) ?_
    obtain rfl := ob_s hf
    subst hQ
    exact xe_i hx hb hr hlocks hP hS dX2_played_18
abbrev rmX2_happens : Room := { frames := 7, cells := 0, slots := 0, locals := 168 }
theorem cdX2_happens : yX2_happens.cls = RX2 ∧ yX2_happens.cls ≠ "java/lang/invoke/MethodHandle" ∧ yX2_happens.cls ≠ "java/lang/invoke/VarHandle" ∧ (parseMethodDescriptor yX2_happens.desc).map (fun d => d.parameters.length) = some 1 := by decide +kernel
set_option maxHeartbeats 4000000 in
set_option maxRecDepth 100000 in
theorem wkX2_happens (l : Launch) (D : va_G) (dA : Nat → ClassId) (E : Nat → Nat) (hE : wInj 19 E) (w : Mm) (a1 : Int32) {res : Mm} (hf : M_happens w a1 = some res) : Met l yX2_happens (ws_ yX2_happens cX2_happens 4 (none)) rmX2_happens (Pw D clM (tyM dA) shM 19 dA E [.ref (E 0), .int a1] w) (Qwv D clM shM 19 dA E res) 0 0 (AE 19 E) := by
  refine xm_head (own := RX2) (by decide) rfl (Nat.le_of_ble_eq_true rfl) ?_
  intro p e s m args below meth c ls Q hQ C hP hl
  obtain ⟨hx, hb, hr, hlocks, hml, hown, hts, hK⟩ := C
  replace hl : lv_has ls 4 [(0, .ref (E 0)), (1, .int a1)] := hl
  have hS : va_S (AE 19 E) s.heap s.heap [] := va_S.rf
  have hD : wD 19 E (AE 19 E) := wD.self hE
  unfold M_happens at hf
  obtain ⟨H, eH⟩ : ∃ H, H = s.heap := ⟨_, rfl⟩
  obtain ⟨locs, eL⟩ : ∃ locs : List Loc, locs = [] := ⟨_, rfl⟩
  rw [← eL] at hS ⊢
  rw [← eH] at hP
  have hS : va_S (AE 19 E) s.heap H locs := by rw [eH]; exact hS
  show W p l e rmX2_happens s m args below meth c s.heap locs 0 0 Q (F0 m 0 ls [])
  rw [← eH]
  refine lv_aload_n hx hb dX2_happens_0 rfl (lv_at hl 0 rfl) ?_
  refine xr_get hx hb hts in_X2 hown hK hP 0 (by decide) rfl rfl 0 (by decide) (hts _ q1405) (fun _ h => h) rfl (v := .ref (E 1)) rfl dX2_happens_1 ?_
  refine lv_iconst (v := 0) hx hb dX2_happens_4 (by decide) ?_
  refine xr_iald hx hb hK hP 1 (by decide) rfl 0 rfl (j := 0) (vin_c (by decide)) (by decide) dX2_happens_5 ?_
  have kj24 : ∀ (t1 : Int32) (H : Heap) (locs : List Loc) (ls : Array Slot), M_happens_j24 a1 w t1 = some res → va_P D clM (wl shM 19 dA E w) H → va_S (AE 19 E) s.heap H locs → lv_has ls 4 [(0, .ref (E 0)), (1, .int a1)] → W p l e rmX2_happens s m args below meth c H locs 0 0 Q (F0 m 24 ls [.int t1]) := by
    intro t1 H locs ls hf hP hS hl
    unfold M_happens_j24 at hf
    refine lv_istore_n (lv' := [(2, .int t1), (0, .ref (E 0)), (1, .int a1)]) hx hb dX2_happens_24 rfl hl (by decide) rfl (fun ls hl => ?_)
    refine lv_iconst (v := 1) hx hb dX2_happens_25 (by decide) ?_
    refine lv_iload_n hx hb dX2_happens_26 rfl (lv_at hl 2 rfl) ?_
    refine lv_bipush (v := 6) hx hb dX2_happens_27 (by decide) ?_
    refine lv_idiv hx hb dX2_happens_29 (by decide) ?_
    refine lv_bipush (v := 9) hx hb dX2_happens_30 (by decide) ?_
    refine xr_irem hx hb dX2_happens_32 (by decide) ?_
    refine lv_iadd hx hb dX2_happens_33 ?_
    obtain ⟨v3_2, ev3_2, hf⟩ := ob_bnd hf
    refine xn_i ev3_2 ?_
    refine lv_istore_n (lv' := [(3, .int v3_2), (2, .int t1), (0, .ref (E 0)), (1, .int a1)]) hx hb dX2_happens_34 rfl hl (by decide) rfl (fun ls hl => ?_)
    refine lv_iload_n hx hb dX2_happens_35 rfl (lv_at hl 3 rfl) ?_
    refine lv_bipush (v := 6) hx hb dX2_happens_36 (by decide) ?_
    refine xr_irem hx hb dX2_happens_38 (by decide) ?_
    obtain ⟨x3, ex3, hf⟩ := ob_bnd hf
    refine xn_i ex3 ?_
    by_cases c4 : x3 = 0
    · replace hf := ob_t hf c4
      refine lv_tableIn (tgt := 68) (off := 29) hx hb dX2_happens_39 (by rw [c4]; decide) (by rw [c4]; decide) (by rw [c4]; rfl) (by decide) ?_
      refine lv_aload_n hx hb dX2_happens_68 rfl (lv_at hl 2 rfl) ?_
      refine lv_iload_n hx hb dX2_happens_69 rfl (lv_at hl 1 rfl) ?_
      obtain ⟨q6, g5, hf⟩ := ob_bind hf
      refine xc_z (xw_run (As := [.int t1]) (rest := []) ⟨hx, hb, hml, hown, hts⟩ (k0 := 0) (wkX2_canPawn l D dA E hE w t1 g5) (cwV 1 hts (lw_V q1729 q1731 qs91 q140 q1732) rfl rfl rfl cdX2_canPawn ⟨Nat.le_of_ble_eq_true rfl, Nat.le_of_ble_eq_true rfl⟩) hK hP (by decide) rfl rfl rfl hl.1 rfl rfl (Nat.le_of_ble_eq_true rfl) dX2_happens_70 ⟨Nat.zero_le _, Nat.zero_le _⟩) hS hD.2 (fun H locs zq6 hP hS => ?_)
      refine lv_if_eq (tgt := 140) hx hb dX2_happens_73 (by decide) (fun c7 => ?_) (fun c7 => ?_)
      · replace hf := ob_t hf c7
        obtain rfl := ob_s hf
        subst hQ
        exact xe_v hx hb hr hlocks hP hS dX2_happens_140
      · replace hf := ob_f hf c7
        refine lv_aload_n hx hb dX2_happens_76 rfl (lv_at hl 2 rfl) ?_
        refine lv_iload_n hx hb dX2_happens_77 rfl (lv_at hl 1 rfl) ?_
        obtain ⟨q9, g8, hf⟩ := ob_bind hf
        refine xc_v (xw_run (As := [.int t1]) (rest := []) ⟨hx, hb, hml, hown, hts⟩ (k0 := 0) (wkX2_pawnNow l D dA E hE w t1 g8) (cwV 1 hts (lw_V q1745 q1747 qs95 q140 q1748) rfl rfl rfl cdX2_pawnNow ⟨Nat.le_of_ble_eq_true rfl, Nat.le_of_ble_eq_true rfl⟩) hK hP (by decide) rfl rfl rfl hl.1 rfl rfl (Nat.le_of_ble_eq_true rfl) dX2_happens_78 ⟨Nat.zero_le _, Nat.zero_le _⟩) hS hD.2 (fun H locs hP hS => ?_)
        refine lv_goto (tgt := 140) hx hb dX2_happens_81 (by decide) ?_
        obtain rfl := ob_s hf
        subst hQ
        exact xe_v hx hb hr hlocks hP hS dX2_happens_140
    · replace hf := ob_f hf c4
      by_cases c10 : x3 = 1
      · replace hf := ob_t hf c10
        refine lv_tableIn (tgt := 84) (off := 45) hx hb dX2_happens_39 (by rw [c10]; decide) (by rw [c10]; decide) (by rw [c10]; rfl) (by decide) ?_
        refine lv_aload_n hx hb dX2_happens_84 rfl (lv_at hl 2 rfl) ?_
        refine lv_iload_n hx hb dX2_happens_85 rfl (lv_at hl 1 rfl) ?_
        obtain ⟨q12, g11, hf⟩ := ob_bind hf
        refine xc_z (xw_run (As := [.int t1]) (rest := []) ⟨hx, hb, hml, hown, hts⟩ (k0 := 0) (wkX2_canRedeem l D dA E hE w t1 g11) (cwV 1 hts (lw_V q1760 q1762 qs97 q140 q1763) rfl rfl rfl cdX2_canRedeem ⟨Nat.le_of_ble_eq_true rfl, Nat.le_of_ble_eq_true rfl⟩) hK hP (by decide) rfl rfl rfl hl.1 rfl rfl (Nat.le_of_ble_eq_true rfl) dX2_happens_86 ⟨Nat.zero_le _, Nat.zero_le _⟩) hS hD.2 (fun H locs zq12 hP hS => ?_)
        refine lv_if_eq (tgt := 140) hx hb dX2_happens_89 (by decide) (fun c13 => ?_) (fun c13 => ?_)
        · replace hf := ob_t hf c13
          obtain rfl := ob_s hf
          subst hQ
          exact xe_v hx hb hr hlocks hP hS dX2_happens_140
        · replace hf := ob_f hf c13
          refine lv_aload_n hx hb dX2_happens_92 rfl (lv_at hl 2 rfl) ?_
          refine lv_iload_n hx hb dX2_happens_93 rfl (lv_at hl 1 rfl) ?_
          obtain ⟨q15, g14, hf⟩ := ob_bind hf
          refine xc_i (xw_run (As := [.int t1]) (rest := []) ⟨hx, hb, hml, hown, hts⟩ (k0 := 0) (wkX2_redeemNow l D dA E hE q12.2 t1 g14) (cwV 1 hts (lw_V q1817 q1819 qs107 q140 q1820) rfl rfl rfl cdX2_redeemNow ⟨Nat.le_of_ble_eq_true rfl, Nat.le_of_ble_eq_true rfl⟩) hK hP (by decide) rfl rfl rfl hl.1 rfl rfl (Nat.le_of_ble_eq_true rfl) dX2_happens_94 ⟨Nat.zero_le _, Nat.zero_le _⟩) hS hD.2 (fun H locs hP hS => ?_)
          refine lv_if_ge (tgt := 140) hx hb dX2_happens_97 (by decide) (fun c16 => ?_) (fun c16 => ?_)
          · replace hf := ob_t hf c16
            obtain rfl := ob_s hf
            subst hQ
            exact xe_v hx hb hr hlocks hP hS dX2_happens_140
          · replace hf := ob_f hf c16
            obtain rfl := ob_s hf
            subst hQ
            exact xe_v hx hb hr hlocks hP hS dX2_happens_100
      · replace hf := ob_f hf c10
        by_cases c17 : x3 = 2
        · replace hf := ob_t hf c17
          refine lv_tableIn (tgt := 84) (off := 45) hx hb dX2_happens_39 (by rw [c17]; decide) (by rw [c17]; decide) (by rw [c17]; rfl) (by decide) ?_
          refine lv_aload_n hx hb dX2_happens_84 rfl (lv_at hl 2 rfl) ?_
          refine lv_iload_n hx hb dX2_happens_85 rfl (lv_at hl 1 rfl) ?_
          obtain ⟨q19, g18, hf⟩ := ob_bind hf
          refine xc_z (xw_run (As := [.int t1]) (rest := []) ⟨hx, hb, hml, hown, hts⟩ (k0 := 0) (wkX2_canRedeem l D dA E hE w t1 g18) (cwV 1 hts (lw_V q1760 q1762 qs97 q140 q1763) rfl rfl rfl cdX2_canRedeem ⟨Nat.le_of_ble_eq_true rfl, Nat.le_of_ble_eq_true rfl⟩) hK hP (by decide) rfl rfl rfl hl.1 rfl rfl (Nat.le_of_ble_eq_true rfl) dX2_happens_86 ⟨Nat.zero_le _, Nat.zero_le _⟩) hS hD.2 (fun H locs zq19 hP hS => ?_)
          refine lv_if_eq (tgt := 140) hx hb dX2_happens_89 (by decide) (fun c20 => ?_) (fun c20 => ?_)
          · replace hf := ob_t hf c20
            obtain rfl := ob_s hf
            subst hQ
            exact xe_v hx hb hr hlocks hP hS dX2_happens_140
          · replace hf := ob_f hf c20
            refine lv_aload_n hx hb dX2_happens_92 rfl (lv_at hl 2 rfl) ?_
            refine lv_iload_n hx hb dX2_happens_93 rfl (lv_at hl 1 rfl) ?_
            obtain ⟨q22, g21, hf⟩ := ob_bind hf
            refine xc_i (xw_run (As := [.int t1]) (rest := []) ⟨hx, hb, hml, hown, hts⟩ (k0 := 0) (wkX2_redeemNow l D dA E hE q19.2 t1 g21) (cwV 1 hts (lw_V q1817 q1819 qs107 q140 q1820) rfl rfl rfl cdX2_redeemNow ⟨Nat.le_of_ble_eq_true rfl, Nat.le_of_ble_eq_true rfl⟩) hK hP (by decide) rfl rfl rfl hl.1 rfl rfl (Nat.le_of_ble_eq_true rfl) dX2_happens_94 ⟨Nat.zero_le _, Nat.zero_le _⟩) hS hD.2 (fun H locs hP hS => ?_)
            refine lv_if_ge (tgt := 140) hx hb dX2_happens_97 (by decide) (fun c23 => ?_) (fun c23 => ?_)
            · replace hf := ob_t hf c23
              obtain rfl := ob_s hf
              subst hQ
              exact xe_v hx hb hr hlocks hP hS dX2_happens_140
            · replace hf := ob_f hf c23
              obtain rfl := ob_s hf
              subst hQ
              exact xe_v hx hb hr hlocks hP hS dX2_happens_100
        · replace hf := ob_f hf c17
          by_cases c24 : x3 = 3
          · replace hf := ob_t hf c24
            refine lv_tableIn (tgt := 101) (off := 62) hx hb dX2_happens_39 (by rw [c24]; decide) (by rw [c24]; decide) (by rw [c24]; rfl) (by decide) ?_
            refine lv_aload_n hx hb dX2_happens_101 rfl (lv_at hl 2 rfl) ?_
            refine lv_iload_n hx hb dX2_happens_102 rfl (lv_at hl 0 rfl) ?_
            obtain ⟨q26, g25, hf⟩ := ob_bind hf
            refine xc_z (xw_run (As := [.int v3_2]) (rest := []) ⟨hx, hb, hml, hown, hts⟩ (k0 := 0) (wkX2_canEarn l D dA E hE w v3_2 g25) (cwV 1 hts (lw_V q1825 q1827 qs108 q140 q1828) rfl rfl rfl cdX2_canEarn ⟨Nat.le_of_ble_eq_true rfl, Nat.le_of_ble_eq_true rfl⟩) hK hP (by decide) rfl rfl rfl hl.1 rfl rfl (Nat.le_of_ble_eq_true rfl) dX2_happens_103 ⟨Nat.zero_le _, Nat.zero_le _⟩) hS hD.2 (fun H locs zq26 hP hS => ?_)
            refine lv_if_eq (tgt := 140) hx hb dX2_happens_106 (by decide) (fun c27 => ?_) (fun c27 => ?_)
            · replace hf := ob_t hf c27
              obtain rfl := ob_s hf
              subst hQ
              exact xe_v hx hb hr hlocks hP hS dX2_happens_140
            · replace hf := ob_f hf c27
              refine lv_aload_n hx hb dX2_happens_109 rfl (lv_at hl 2 rfl) ?_
              refine xr_get hx hb hts in_X2 hown hK hP 0 (by decide) rfl rfl 0 (by decide) (hts _ q1405) (fun _ h => h) rfl (v := .ref (E 1)) rfl dX2_happens_110 ?_
              refine lv_bipush (v := 9) hx hb dX2_happens_113 (by decide) ?_
              refine lv_dup2_11 hx hb dX2_happens_115 rfl rfl ?_
              refine xr_iald hx hb hK hP 1 (by decide) rfl 0 rfl (j := 9) (vin_c (by decide)) (by decide) dX2_happens_116 ?_
              refine lv_iload_n hx hb dX2_happens_117 rfl (lv_at hl 0 rfl) ?_
              refine lv_iadd hx hb dX2_happens_118 ?_
              obtain ⟨w28, ew28, hf⟩ := ob_bnd hf
              refine xr_iast hx hb hK hP hD hS 1 (by decide) rfl 0 rfl (j := 9) (w' := w28) (vin_c (by decide)) (by decide) ew28 dX2_happens_119 (fun H locs hP hS => ?_)
              refine lv_goto (tgt := 140) hx hb dX2_happens_120 (by decide) ?_
              obtain rfl := ob_s hf
              subst hQ
              exact xe_v hx hb hr hlocks hP hS dX2_happens_140
          · replace hf := ob_f hf c24
            refine xr_tswD (tgt := 123) (vs := [0, 1, 2, 3]) hx hb dX2_happens_39 (List.forall_mem_cons.mpr ⟨c4, List.forall_mem_cons.mpr ⟨c10, List.forall_mem_cons.mpr ⟨c17, List.forall_mem_cons.mpr ⟨c24, fun _ h => absurd h List.not_mem_nil⟩⟩⟩⟩) (by decide +kernel) (by decide) ?_
            refine lv_aload_n hx hb dX2_happens_123 rfl (lv_at hl 2 rfl) ?_
            refine xr_get hx hb hts in_X2 hown hK hP 0 (by decide) rfl rfl 0 (by decide) (hts _ q1405) (fun _ h => h) rfl (v := .ref (E 1)) rfl dX2_happens_124 ?_
            refine lv_bipush (v := 7) hx hb dX2_happens_127 (by decide) ?_
            refine xr_iald hx hb hK hP 1 (by decide) rfl 0 rfl (j := 7) (vin_c (by decide)) (by decide) dX2_happens_129 ?_
            refine lv_sipush (v := 9999) hx hb dX2_happens_130 (by decide) ?_
            refine lv_icmp_ge (tgt := 140) hx hb dX2_happens_133 (by decide) (fun c29 => ?_) (fun c29 => ?_)
            · replace hf := ob_t hf c29
              obtain rfl := ob_s hf
              subst hQ
              exact xe_v hx hb hr hlocks hP hS dX2_happens_140
            · replace hf := ob_f hf c29
              refine lv_aload_n hx hb dX2_happens_136 rfl (lv_at hl 2 rfl) ?_
              obtain ⟨q31, g30, hf⟩ := ob_bind hf
              refine xc_v (xw_run (As := []) (rest := []) ⟨hx, hb, hml, hown, hts⟩ (k0 := 0) (wkX2_pass l D dA E hE w g30) (cwV 0 hts (lw_V q1837 q1839 qs110 q140 q1840) rfl rfl rfl cdX2_pass ⟨Nat.le_of_ble_eq_true rfl, Nat.le_of_ble_eq_true rfl⟩) hK hP (by decide) rfl rfl rfl hl.1 rfl rfl (Nat.le_of_ble_eq_true rfl) dX2_happens_137 ⟨Nat.zero_le _, Nat.zero_le _⟩) hS hD.2 (fun H locs hP hS => ?_)
              obtain rfl := ob_s hf
              subst hQ
              exact xe_v hx hb hr hlocks hP hS dX2_happens_140
  refine lv_if_ne (tgt := 13) hx hb dX2_happens_6 (by decide) (fun c32 => ?_) (fun c32 => ?_)
  · replace hf := ob_f hf c32
    refine lv_iload_n hx hb dX2_happens_13 rfl (lv_at hl 1 rfl) ?_
    refine lv_bipush (v := 6) hx hb dX2_happens_14 (by decide) ?_
    refine lv_idiv hx hb dX2_happens_16 (by decide) ?_
    refine lv_aload_n hx hb dX2_happens_17 rfl (lv_at hl 0 rfl) ?_
    refine xr_get hx hb hts in_X2 hown hK hP 0 (by decide) rfl rfl 0 (by decide) (hts _ q1405) (fun _ h => h) rfl (v := .ref (E 1)) rfl dX2_happens_18 ?_
    refine lv_iconst (v := 0) hx hb dX2_happens_21 (by decide) ?_
    refine xr_iald hx hb hK hP 1 (by decide) rfl 0 rfl (j := 0) (vin_c (by decide)) (by decide) dX2_happens_22 ?_
    obtain ⟨h33, hf⟩ := ob_gz hf
    refine xr_irem hx hb dX2_happens_23 h33 ?_
    exact kj24 (irm (a1 / 6) (w.1 1 0)) H locs ls hf hP hS (lv_sub hl [0, 1] rfl)
  · replace hf := ob_t hf c32
    refine lv_iconst (v := (-1)) hx hb dX2_happens_9 (by decide) ?_
    refine lv_goto (tgt := 24) hx hb dX2_happens_10 (by decide) ?_
    exact kj24 (-1) H locs ls hf hP hS (lv_sub hl [0, 1] rfl)
abbrev rmX2_years : Room := { frames := 8, cells := 0, slots := 0, locals := 191 }
theorem cdX2_years : yX2_years.cls = RX2 ∧ yX2_years.cls ≠ "java/lang/invoke/MethodHandle" ∧ yX2_years.cls ≠ "java/lang/invoke/VarHandle" ∧ (parseMethodDescriptor yX2_years.desc).map (fun d => d.parameters.length) = some 2 := by decide +kernel
set_option maxHeartbeats 4000000 in
set_option maxRecDepth 100000 in
theorem wkX2_years (l : Launch) (D : va_G) (dA : Nat → ClassId) (E : Nat → Nat) (hE : wInj 19 E) (w : Mm) (a1 : Int32) (a2 : Int32) {res : Int32 × Mm} (hf : M_years w a1 a2 = some res) : Met l yX2_years (ws_ yX2_years cX2_years 5 (some .int)) rmX2_years (Pw D clM (tyM dA) shM 19 dA E [.ref (E 0), .int a1, .int a2] w) (Qwi D clM shM 19 dA E res.1 res.2) 0 0 (AE 19 E) := by
  refine xm_head (own := RX2) (by decide) rfl (Nat.le_of_ble_eq_true rfl) ?_
  intro p e s m args below meth c ls Q hQ C hP hl
  obtain ⟨hx, hb, hr, hlocks, hml, hown, hts, hK⟩ := C
  replace hl : lv_has ls 5 [(0, .ref (E 0)), (1, .int a1), (2, .int a2)] := hl
  have hS : va_S (AE 19 E) s.heap s.heap [] := va_S.rf
  have hD : wD 19 E (AE 19 E) := wD.self hE
  unfold M_years at hf
  obtain ⟨H, eH⟩ : ∃ H, H = s.heap := ⟨_, rfl⟩
  obtain ⟨locs, eL⟩ : ∃ locs : List Loc, locs = [] := ⟨_, rfl⟩
  rw [← eL] at hS ⊢
  rw [← eH] at hP
  have hS : va_S (AE 19 E) s.heap H locs := by rw [eH]; exact hS
  show W p l e rmX2_years s m args below meth c s.heap locs 0 0 Q (F0 m 0 ls [])
  rw [← eH]
  refine lv_iload_n hx hb dX2_years_0 rfl (lv_at hl 1 rfl) ?_
  refine lv_iconst (v := 0) hx hb dX2_years_1 (by decide) ?_
  refine lv_sipush (v := 9999) hx hb dX2_years_2 (by decide) ?_
  obtain ⟨q2, g1, hf⟩ := ob_bind hf
  refine xc_z (xw_runS (As := [.int a1, .int 0, .int 9999]) (rest := []) ⟨hx, hb, hml, hown, hts⟩ (wkX2_isIn l D dA E hE w a1 0 9999 g1) (va_cwS 3 hts (lw_S q1538 q1539 q140 q1540) rfl rfl rfl cdX2_isIn.2 ⟨Nat.le_of_ble_eq_true rfl, Nat.le_of_ble_eq_true rfl⟩) hK hP hl.1 rfl rfl (Nat.le_of_ble_eq_true rfl) dX2_years_5 ⟨Nat.zero_le _, Nat.zero_le _⟩) hS hD.2 (fun H locs zq2 hP hS => ?_)
  refine lv_if_eq (tgt := 21) hx hb dX2_years_8 (by decide) (fun c3 => ?_) (fun c3 => ?_)
  · replace hf := ob_t hf c3
    refine lv_iconst (v := (-1)) hx hb dX2_years_21 (by decide) ?_
    obtain rfl := ob_s hf
    subst hQ
    exact xe_i hx hb hr hlocks hP hS dX2_years_22
  · replace hf := ob_f hf c3
    refine lv_iload_n hx hb dX2_years_11 rfl (lv_at hl 2 rfl) ?_
    refine lv_iconst (v := 1) hx hb dX2_years_12 (by decide) ?_
    refine lv_bipush (v := 40) hx hb dX2_years_13 (by decide) ?_
    obtain ⟨q5, g4, hf⟩ := ob_bind hf
    refine xc_z (xw_runS (As := [.int a2, .int 1, .int 40]) (rest := []) ⟨hx, hb, hml, hown, hts⟩ (wkX2_isIn l D dA E hE w a2 1 40 g4) (va_cwS 3 hts (lw_S q1538 q1539 q140 q1540) rfl rfl rfl cdX2_isIn.2 ⟨Nat.le_of_ble_eq_true rfl, Nat.le_of_ble_eq_true rfl⟩) hK hP hl.1 rfl rfl (Nat.le_of_ble_eq_true rfl) dX2_years_15 ⟨Nat.zero_le _, Nat.zero_le _⟩) hS hD.2 (fun H locs zq5 hP hS => ?_)
    refine lv_if_ne (tgt := 23) hx hb dX2_years_18 (by decide) (fun c6 => ?_) (fun c6 => ?_)
    · replace hf := ob_f hf c6
      refine lv_aload_n hx hb dX2_years_23 rfl (lv_at hl 0 rfl) ?_
      obtain ⟨q8, g7, hf⟩ := ob_bind hf
      refine xc_v (xw_run (As := []) (rest := []) ⟨hx, hb, hml, hown, hts⟩ (k0 := 0) (wkX2_keep l D dA E hE w g7) (cwV 0 hts (lw_V q1741 q1743 qs94 q140 q1744) rfl rfl rfl cdX2_keep ⟨Nat.le_of_ble_eq_true rfl, Nat.le_of_ble_eq_true rfl⟩) hK hP (by decide) rfl rfl rfl hl.1 rfl rfl (Nat.le_of_ble_eq_true rfl) dX2_years_24 ⟨Nat.zero_le _, Nat.zero_le _⟩) hS hD.2 (fun H locs hP hS => ?_)
      refine lv_aload_n hx hb dX2_years_27 rfl (lv_at hl 0 rfl) ?_
      refine xr_get hx hb hts in_X2 hown hK hP 0 (by decide) rfl rfl 0 (by decide) (hts _ q1405) (fun _ h => h) rfl (v := .ref (E 1)) rfl dX2_years_28 ?_
      refine lv_bipush (v := 8) hx hb dX2_years_31 (by decide) ?_
      refine lv_iload_n hx hb dX2_years_33 rfl (lv_at hl 1 rfl) ?_
      refine lv_iconst (v := 2) hx hb dX2_years_34 (by decide) ?_
      refine lv_imul hx hb dX2_years_35 ?_
      refine lv_sipush (v := 373) hx hb dX2_years_36 (by decide) ?_
      refine lv_iadd hx hb dX2_years_39 ?_
      obtain ⟨w9, ew9, hf⟩ := ob_bnd hf
      refine xr_iast hx hb hK hP hD hS 1 (by decide) rfl 0 rfl (j := 8) (w' := w9) (vin_c (by decide)) (by decide) ew9 dX2_years_40 (fun H locs hP hS => ?_)
      refine lv_iconst (v := 0) hx hb dX2_years_41 (by decide) ?_
      refine lv_istore_n (lv' := [(3, .int 0), (0, .ref (E 0)), (1, .int a1), (2, .int a2)]) hx hb dX2_years_42 rfl hl (by decide) rfl (fun ls hl => ?_)
      obtain ⟨b12, hb12, hf⟩ := ob_bind hf
      obtain ⟨n12, hn12⟩ := lp_some hb12
      have kL43 : ∀ (n : Nat) (w10 : Mm) (v3_11 : Int32), lpF (fun (q12 : Mm × Int32) => M_years_b43 a2 q12.1 q12.2) n (w10, v3_11) = some b12 → (∀ (H : Heap) (locs : List Loc) (ls : Array Slot), va_P D clM (wl shM 19 dA E b12) H → va_S (AE 19 E) s.heap H locs → lv_has ls 5 [(0, .ref (E 0))] → W p l e rmX2_years s m args below meth c H locs 0 0 Q (F0 m 73 ls [])) → ∀ (H : Heap) (locs : List Loc) (ls : Array Slot), va_P D clM (wl shM 19 dA E w10) H → va_S (AE 19 E) s.heap H locs → lv_has ls 5 [(0, .ref (E 0)), (2, .int a2), (3, .int v3_11)] → W p l e rmX2_years s m args below meth c H locs 0 0 Q (F0 m 43 ls []) := by
        intro n
        induction n with
        | zero =>
          intro w10 v3_11 h
          cases h
        | succ n ih =>
          intro w10 v3_11 h K12_0 H locs ls hP hS hl
          obtain ⟨r12, hf, h12a, h12b⟩ := lpF_step h
          replace hf : M_years_b43 a2 w10 v3_11 = some r12 := hf
          unfold M_years_b43 at hf
          refine lv_iload_n hx hb dX2_years_43 rfl (lv_at hl 2 rfl) ?_
          refine lv_iload_n hx hb dX2_years_44 rfl (lv_at hl 1 rfl) ?_
          refine lv_icmp_ge (tgt := 73) hx hb dX2_years_45 (by decide) (fun c13 => ?_) (fun c13 => ?_)
          · replace hf := ob_t hf c13
            obtain rfl := ob_s hf
            obtain rfl := h12b _ rfl
            exact K12_0 H locs ls hP hS (lv_sub hl [0] rfl)
          · replace hf := ob_f hf c13
            refine lv_aload_n hx hb dX2_years_48 rfl (lv_at hl 0 rfl) ?_
            refine xr_get hx hb hts in_X2 hown hK hP 0 (by decide) rfl rfl 0 (by decide) (hts _ q1405) (fun _ h => h) rfl (v := .ref (E 1)) rfl dX2_years_49 ?_
            refine lv_bipush (v := 8) hx hb dX2_years_52 (by decide) ?_
            refine xr_iald hx hb hK hP 1 (by decide) rfl 0 rfl (j := 8) (vin_c (by decide)) (by decide) dX2_years_54 ?_
            obtain ⟨v4_14, ev4_14, hf⟩ := ob_bnd hf
            refine xn_i ev4_14 ?_
            refine lv_istore (lv' := [(4, .int v4_14), (0, .ref (E 0)), (2, .int a2), (3, .int v3_11)]) hx hb dX2_years_55 hl (by decide) rfl (fun ls hl => ?_)
            refine lv_aload_n hx hb dX2_years_57 rfl (lv_at hl 1 rfl) ?_
            obtain ⟨q16, g15, hf⟩ := ob_bind hf
            refine xc_v (xw_run (As := []) (rest := []) ⟨hx, hb, hml, hown, hts⟩ (k0 := 0) (wkX2_anew l D dA E hE w10 g15) (cwV 0 hts (lw_V q1845 q1847 qs112 q140 q1848) rfl rfl rfl cdX2_anew ⟨Nat.le_of_ble_eq_true rfl, Nat.le_of_ble_eq_true rfl⟩) hK hP (by decide) rfl rfl rfl hl.1 rfl rfl (Nat.le_of_ble_eq_true rfl) dX2_years_58 ⟨Nat.zero_le _, Nat.zero_le _⟩) hS hD.2 (fun H locs hP hS => ?_)
            refine lv_aload_n hx hb dX2_years_61 rfl (lv_at hl 1 rfl) ?_
            refine lv_iload hx hb dX2_years_62 (lv_at hl 0 rfl) ?_
            obtain ⟨q18, g17, hf⟩ := ob_bind hf
            refine xc_v (xw_run (As := [.int v4_14]) (rest := []) ⟨hx, hb, hml, hown, hts⟩ (k0 := 0) (wkX2_happens l D dA E hE q16 v4_14 g17) (cwV 1 hts (lw_V q1883 q1885 qs117 q140 q1886) rfl rfl rfl cdX2_happens ⟨Nat.le_of_ble_eq_true rfl, Nat.le_of_ble_eq_true rfl⟩) hK hP (by decide) rfl rfl rfl hl.1 rfl rfl (Nat.le_of_ble_eq_true rfl) dX2_years_64 ⟨Nat.zero_le _, Nat.zero_le _⟩) hS hD.2 (fun H locs hP hS => ?_)
            obtain ⟨v3_19, ev3_19, hf⟩ := ob_bnd hf
            refine lv_iinc (v := v3_19) (lv' := [(3, .int v3_19), (4, .int v4_14), (0, .ref (E 0)), (2, .int a2)]) hx hb dX2_years_67 hl (k := 3) rfl (by rw [ev3_19]; rfl) (by decide) rfl (fun ls hl => ?_)
            refine lv_goto (tgt := 43) hx hb dX2_years_70 (by decide) ?_
            obtain rfl := ob_s hf
            exact ih _ _ (h12a _ rfl) K12_0 H locs ls hP hS (lv_sub hl [2, 3, 0] rfl)
      refine kL43 n12 w9 0 hn12 (fun H locs ls hP hS hl => ?_) H locs ls hP hS (lv_sub hl [1, 3, 0] rfl)
      replace hf : M_years_x43_73 b12 = some res := hf
      unfold M_years_x43_73 at hf
      refine lv_aload_n hx hb dX2_years_73 rfl (lv_at hl 0 rfl) ?_
      refine xr_get hx hb hts in_X2 hown hK hP 0 (by decide) rfl rfl 0 (by decide) (hts _ q1405) (fun _ h => h) rfl (v := .ref (E 1)) rfl dX2_years_74 ?_
      refine lv_bipush (v := 7) hx hb dX2_years_77 (by decide) ?_
      refine xr_iald hx hb hK hP 1 (by decide) rfl 0 rfl (j := 7) (vin_c (by decide)) (by decide) dX2_years_79 ?_
      obtain rfl := ob_s hf
      subst hQ
      exact xe_i hx hb hr hlocks hP hS dX2_years_80
    · replace hf := ob_t hf c6
      refine lv_iconst (v := (-1)) hx hb dX2_years_21 (by decide) ?_
      obtain rfl := ob_s hf
      subst hQ
      exact xe_i hx hb hr hlocks hP hS dX2_years_22
abbrev rmX2_of : Room := { frames := 6, cells := 0, slots := 0, locals := 146 }
theorem cdX2_of : yX2_of.cls = RX2 ∧ yX2_of.cls ≠ "java/lang/invoke/MethodHandle" ∧ yX2_of.cls ≠ "java/lang/invoke/VarHandle" ∧ (parseMethodDescriptor yX2_of.desc).map (fun d => d.parameters.length) = some 2 := by decide +kernel
set_option maxHeartbeats 4000000 in
set_option maxRecDepth 100000 in
theorem wkX2_of (l : Launch) (D : va_G) (dA : Nat → ClassId) (E : Nat → Nat) (hE : wInj 19 E) (w : Mm) (a1 : Int32) (a2 : Int32) {res : Int32 × Mm} (hf : M_of w a1 a2 = some res) : Met l yX2_of (ws_ yX2_of cX2_of 3 (some .int)) rmX2_of (Pw D clM (tyM dA) shM 19 dA E [.ref (E 0), .int a1, .int a2] w) (Qwi D clM shM 19 dA E res.1 res.2) 0 0 (AE 19 E) := by
  refine xm_head (own := RX2) (by decide) rfl (Nat.le_of_ble_eq_true rfl) ?_
  intro p e s m args below meth c ls Q hQ C hP hl
  obtain ⟨hx, hb, hr, hlocks, hml, hown, hts, hK⟩ := C
  replace hl : lv_has ls 3 [(0, .ref (E 0)), (1, .int a1), (2, .int a2)] := hl
  have hS : va_S (AE 19 E) s.heap s.heap [] := va_S.rf
  have hD : wD 19 E (AE 19 E) := wD.self hE
  unfold M_of at hf
  obtain ⟨H, eH⟩ : ∃ H, H = s.heap := ⟨_, rfl⟩
  obtain ⟨locs, eL⟩ : ∃ locs : List Loc, locs = [] := ⟨_, rfl⟩
  rw [← eL] at hS ⊢
  rw [← eH] at hP
  have hS : va_S (AE 19 E) s.heap H locs := by rw [eH]; exact hS
  show W p l e rmX2_of s m args below meth c s.heap locs 0 0 Q (F0 m 0 ls [])
  rw [← eH]
  refine lv_aload_n hx hb dX2_of_0 rfl (lv_at hl 0 rfl) ?_
  refine lv_iload_n hx hb dX2_of_1 rfl (lv_at hl 1 rfl) ?_
  obtain ⟨q2, g1, hf⟩ := ob_bind hf
  refine xc_z (xw_run (As := [.int a1]) (rest := []) ⟨hx, hb, hml, hown, hts⟩ (k0 := 0) (wkX2_isQuarrel l D dA E hE w a1 g1) (cwV 1 hts (lw_V q1733 q1735 qs92 q140 q1736) rfl rfl rfl cdX2_isQuarrel ⟨Nat.le_of_ble_eq_true rfl, Nat.le_of_ble_eq_true rfl⟩) hK hP (by decide) rfl rfl rfl hl.1 rfl rfl (Nat.le_of_ble_eq_true rfl) dX2_of_2 ⟨Nat.zero_le _, Nat.zero_le _⟩) hS hD.2 (fun H locs zq2 hP hS => ?_)
  refine lv_if_ne (tgt := 12) hx hb dX2_of_5 (by decide) (fun c3 => ?_) (fun c3 => ?_)
  · replace hf := ob_f hf c3
    refine lv_iload_n hx hb dX2_of_12 rfl (lv_at hl 2 rfl) ?_
    by_cases c4 : a2 = 0
    · replace hf := ob_t hf c4
      refine lv_tableIn (tgt := 60) (off := 47) hx hb dX2_of_13 (by rw [c4]; decide) (by rw [c4]; decide) (by rw [c4]; rfl) (by decide) ?_
      refine lv_aload_n hx hb dX2_of_60 rfl (lv_at hl 0 rfl) ?_
      refine xr_get hx hb hts in_X2 hown hK hP 0 (by decide) rfl rfl 0 (by decide) (hts _ q1405) (fun _ h => h) rfl (v := .ref (E 1)) rfl dX2_of_61 ?_
      refine lv_bipush (v := 36) hx hb dX2_of_64 (by decide) ?_
      refine lv_iconst (v := 2) hx hb dX2_of_66 (by decide) ?_
      refine lv_iload_n hx hb dX2_of_67 rfl (lv_at hl 1 rfl) ?_
      refine lv_imul hx hb dX2_of_68 ?_
      refine lv_iadd hx hb dX2_of_69 ?_
      refine lv_iload_n hx hb dX2_of_70 rfl (lv_at hl 2 rfl) ?_
      refine lv_iadd hx hb dX2_of_71 ?_
      obtain ⟨h5, hf⟩ := ob_gd hf
      refine xr_iald hx hb hK hP 1 (by decide) rfl 0 rfl (j := ((36 + (2 * a1)) + a2).toNatClampNeg) h5 rfl dX2_of_72 ?_
      obtain rfl := ob_s hf
      subst hQ
      exact xe_i hx hb hr hlocks hP hS dX2_of_73
    · replace hf := ob_f hf c4
      by_cases c6 : a2 = 1
      · replace hf := ob_t hf c6
        refine lv_tableIn (tgt := 60) (off := 47) hx hb dX2_of_13 (by rw [c6]; decide) (by rw [c6]; decide) (by rw [c6]; rfl) (by decide) ?_
        refine lv_aload_n hx hb dX2_of_60 rfl (lv_at hl 0 rfl) ?_
        refine xr_get hx hb hts in_X2 hown hK hP 0 (by decide) rfl rfl 0 (by decide) (hts _ q1405) (fun _ h => h) rfl (v := .ref (E 1)) rfl dX2_of_61 ?_
        refine lv_bipush (v := 36) hx hb dX2_of_64 (by decide) ?_
        refine lv_iconst (v := 2) hx hb dX2_of_66 (by decide) ?_
        refine lv_iload_n hx hb dX2_of_67 rfl (lv_at hl 1 rfl) ?_
        refine lv_imul hx hb dX2_of_68 ?_
        refine lv_iadd hx hb dX2_of_69 ?_
        refine lv_iload_n hx hb dX2_of_70 rfl (lv_at hl 2 rfl) ?_
        refine lv_iadd hx hb dX2_of_71 ?_
        obtain ⟨h7, hf⟩ := ob_gd hf
        refine xr_iald hx hb hK hP 1 (by decide) rfl 0 rfl (j := ((36 + (2 * a1)) + a2).toNatClampNeg) h7 rfl dX2_of_72 ?_
        obtain rfl := ob_s hf
        subst hQ
        exact xe_i hx hb hr hlocks hP hS dX2_of_73
      · replace hf := ob_f hf c6
        by_cases c8 : a2 = 2
        · replace hf := ob_t hf c8
          refine lv_tableIn (tgt := 74) (off := 61) hx hb dX2_of_13 (by rw [c8]; decide) (by rw [c8]; decide) (by rw [c8]; rfl) (by decide) ?_
          refine lv_aload_n hx hb dX2_of_74 rfl (lv_at hl 0 rfl) ?_
          refine xr_get hx hb hts in_X2 hown hK hP 0 (by decide) rfl rfl 0 (by decide) (hts _ q1405) (fun _ h => h) rfl (v := .ref (E 1)) rfl dX2_of_75 ?_
          refine lv_bipush (v := 52) hx hb dX2_of_78 (by decide) ?_
          refine lv_iload_n hx hb dX2_of_80 rfl (lv_at hl 1 rfl) ?_
          refine lv_iadd hx hb dX2_of_81 ?_
          obtain ⟨h9, hf⟩ := ob_gd hf
          refine xr_iald hx hb hK hP 1 (by decide) rfl 0 rfl (j := (52 + a1).toNatClampNeg) h9 rfl dX2_of_82 ?_
          obtain rfl := ob_s hf
          subst hQ
          exact xe_i hx hb hr hlocks hP hS dX2_of_83
        · replace hf := ob_f hf c8
          by_cases c10 : a2 = 3
          · replace hf := ob_t hf c10
            refine lv_tableIn (tgt := 84) (off := 71) hx hb dX2_of_13 (by rw [c10]; decide) (by rw [c10]; decide) (by rw [c10]; rfl) (by decide) ?_
            refine lv_aload_n hx hb dX2_of_84 rfl (lv_at hl 0 rfl) ?_
            refine lv_iload_n hx hb dX2_of_85 rfl (lv_at hl 1 rfl) ?_
            obtain ⟨q12, g11, hf⟩ := ob_bind hf
            refine xc_i (xw_run (As := [.int a1]) (rest := []) ⟨hx, hb, hml, hown, hts⟩ (k0 := 0) (wkX2_heatOf l D dA E hE w a1 g11) (cwV 1 hts (lw_V q1780 q1782 qs102 q140 q1783) rfl rfl rfl cdX2_heatOf ⟨Nat.le_of_ble_eq_true rfl, Nat.le_of_ble_eq_true rfl⟩) hK hP (by decide) rfl rfl rfl hl.1 rfl rfl (Nat.le_of_ble_eq_true rfl) dX2_of_86 ⟨Nat.zero_le _, Nat.zero_le _⟩) hS hD.2 (fun H locs hP hS => ?_)
            obtain rfl := ob_s hf
            subst hQ
            exact xe_i hx hb hr hlocks hP hS dX2_of_89
          · replace hf := ob_f hf c10
            by_cases c13 : a2 = 4
            · replace hf := ob_t hf c13
              refine lv_tableIn (tgt := 90) (off := 77) hx hb dX2_of_13 (by rw [c13]; decide) (by rw [c13]; decide) (by rw [c13]; rfl) (by decide) ?_
              refine lv_aload_n hx hb dX2_of_90 rfl (lv_at hl 0 rfl) ?_
              refine lv_iload_n hx hb dX2_of_91 rfl (lv_at hl 1 rfl) ?_
              obtain ⟨q15, g14, hf⟩ := ob_bind hf
              refine xc_i (xw_run (As := [.int a1]) (rest := []) ⟨hx, hb, hml, hown, hts⟩ (k0 := 0) (wkX2_howOf l D dA E hE w a1 g14) (cwV 1 hts (lw_V q1737 q1739 qs93 q140 q1740) rfl rfl rfl cdX2_howOf ⟨Nat.le_of_ble_eq_true rfl, Nat.le_of_ble_eq_true rfl⟩) hK hP (by decide) rfl rfl rfl hl.1 rfl rfl (Nat.le_of_ble_eq_true rfl) dX2_of_92 ⟨Nat.zero_le _, Nat.zero_le _⟩) hS hD.2 (fun H locs hP hS => ?_)
              obtain rfl := ob_s hf
              subst hQ
              exact xe_i hx hb hr hlocks hP hS dX2_of_95
            · replace hf := ob_f hf c13
              by_cases c16 : a2 = 5
              · replace hf := ob_t hf c16
                refine lv_tableIn (tgt := 96) (off := 83) hx hb dX2_of_13 (by rw [c16]; decide) (by rw [c16]; decide) (by rw [c16]; rfl) (by decide) ?_
                refine lv_aload_n hx hb dX2_of_96 rfl (lv_at hl 0 rfl) ?_
                refine lv_iload_n hx hb dX2_of_97 rfl (lv_at hl 1 rfl) ?_
                obtain ⟨q18, g17, hf⟩ := ob_bind hf
                refine xc_i (xw_run (As := [.int a1]) (rest := []) ⟨hx, hb, hml, hown, hts⟩ (k0 := 0) (wkX2_daysOf l D dA E hE w a1 g17) (cwV 1 hts (lw_V q1784 q1786 qs103 q140 q1787) rfl rfl rfl cdX2_daysOf ⟨Nat.le_of_ble_eq_true rfl, Nat.le_of_ble_eq_true rfl⟩) hK hP (by decide) rfl rfl rfl hl.1 rfl rfl (Nat.le_of_ble_eq_true rfl) dX2_of_98 ⟨Nat.zero_le _, Nat.zero_le _⟩) hS hD.2 (fun H locs hP hS => ?_)
                obtain rfl := ob_s hf
                subst hQ
                exact xe_i hx hb hr hlocks hP hS dX2_of_101
              · replace hf := ob_f hf c16
                by_cases c19 : a2 = 6
                · replace hf := ob_t hf c19
                  refine lv_tableIn (tgt := 102) (off := 89) hx hb dX2_of_13 (by rw [c19]; decide) (by rw [c19]; decide) (by rw [c19]; rfl) (by decide) ?_
                  refine lv_aload_n hx hb dX2_of_102 rfl (lv_at hl 0 rfl) ?_
                  refine lv_iload_n hx hb dX2_of_103 rfl (lv_at hl 1 rfl) ?_
                  obtain ⟨q21, g20, hf⟩ := ob_bind hf
                  refine xc_i (xw_run (As := [.int a1]) (rest := []) ⟨hx, hb, hml, hown, hts⟩ (k0 := 0) (wkX2_duesOf l D dA E hE w a1 g20) (cwV 1 hts (lw_V q1768 q1770 qs99 q140 q1771) rfl rfl rfl cdX2_duesOf ⟨Nat.le_of_ble_eq_true rfl, Nat.le_of_ble_eq_true rfl⟩) hK hP (by decide) rfl rfl rfl hl.1 rfl rfl (Nat.le_of_ble_eq_true rfl) dX2_of_104 ⟨Nat.zero_le _, Nat.zero_le _⟩) hS hD.2 (fun H locs hP hS => ?_)
                  obtain rfl := ob_s hf
                  subst hQ
                  exact xe_i hx hb hr hlocks hP hS dX2_of_107
                · replace hf := ob_f hf c19
                  by_cases c22 : a2 = 7
                  · replace hf := ob_t hf c22
                    refine lv_tableIn (tgt := 108) (off := 95) hx hb dX2_of_13 (by rw [c22]; decide) (by rw [c22]; decide) (by rw [c22]; rfl) (by decide) ?_
                    refine lv_aload_n hx hb dX2_of_108 rfl (lv_at hl 0 rfl) ?_
                    refine lv_iload_n hx hb dX2_of_109 rfl (lv_at hl 1 rfl) ?_
                    obtain ⟨q24, g23, hf⟩ := ob_bind hf
                    refine xc_i (xw_run (As := [.int a1]) (rest := []) ⟨hx, hb, hml, hown, hts⟩ (k0 := 0) (wkX2_sellsOf l D dA E hE w a1 g23) (cwV 1 hts (lw_V q1856 q1858 qs114 q140 q1859) rfl rfl rfl cdX2_sellsOf ⟨Nat.le_of_ble_eq_true rfl, Nat.le_of_ble_eq_true rfl⟩) hK hP (by decide) rfl rfl rfl hl.1 rfl rfl (Nat.le_of_ble_eq_true rfl) dX2_of_110 ⟨Nat.zero_le _, Nat.zero_le _⟩) hS hD.2 (fun H locs hP hS => ?_)
                    obtain rfl := ob_s hf
                    subst hQ
                    exact xe_i hx hb hr hlocks hP hS dX2_of_113
                  · replace hf := ob_f hf c22
                    refine xr_tswD (tgt := 114) (vs := [0, 1, 2, 3, 4, 5, 6, 7]) hx hb dX2_of_13 (List.forall_mem_cons.mpr ⟨c4, List.forall_mem_cons.mpr ⟨c6, List.forall_mem_cons.mpr ⟨c8, List.forall_mem_cons.mpr ⟨c10, List.forall_mem_cons.mpr ⟨c13, List.forall_mem_cons.mpr ⟨c16, List.forall_mem_cons.mpr ⟨c19, List.forall_mem_cons.mpr ⟨c22, fun _ h => absurd h List.not_mem_nil⟩⟩⟩⟩⟩⟩⟩⟩) (by decide +kernel) (by decide) ?_
                    refine lv_sipush (v := (-10000)) hx hb dX2_of_114 (by decide) ?_
                    obtain rfl := ob_s hf
                    subst hQ
                    exact xe_i hx hb hr hlocks hP hS dX2_of_117
  · replace hf := ob_t hf c3
    refine lv_sipush (v := (-10000)) hx hb dX2_of_8 (by decide) ?_
    obtain rfl := ob_s hf
    subst hQ
    exact xe_i hx hb hr hlocks hP hS dX2_of_11
