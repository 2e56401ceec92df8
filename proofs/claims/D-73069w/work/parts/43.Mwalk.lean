/-! QuarrelsPawnedModel: its methods walked (printed by gen.py) -/
abbrev rmX2_isOf : Room := { frames := 0, cells := 0, slots := 0, locals := 0 }
theorem cdX2_isOf : yX2_isOf.cls = RX2 ∧ yX2_isOf.cls ≠ "java/lang/invoke/MethodHandle" ∧ yX2_isOf.cls ≠ "java/lang/invoke/VarHandle" ∧ (parseMethodDescriptor yX2_isOf.desc).map (fun d => d.parameters.length) = some 1 := by decide +kernel
set_option maxHeartbeats 4000000 in
set_option maxRecDepth 100000 in
theorem wkX2_isOf (l : Launch) (D : va_G) (dA : Nat → ClassId) (E : Nat → Nat) (hE : wInj 19 E) (w : Mm) (a1 : Int32) {res : Int32} (hf : M_isOf w a1 = some res) : Met l yX2_isOf (ws_ yX2_isOf cX2_isOf 2 (some .boolean)) rmX2_isOf (Pw D clM (tyM dA) shM 19 dA E [.ref (E 0), .int a1] w) (Qwz D clM shM 19 dA E res w) 0 0 (AE 19 E) := by
  refine xm_head (own := RX2) (by decide) rfl (Nat.le_of_ble_eq_true rfl) ?_
  intro p e s m args below meth c ls Q hQ C hP hl
  obtain ⟨hx, hb, hr, hlocks, hml, hown, hts, hK⟩ := C
  replace hl : lv_has ls 2 [(0, .ref (E 0)), (1, .int a1)] := hl
  have hS : va_S (AE 19 E) s.heap s.heap [] := va_S.rf
  have hD : wD 19 E (AE 19 E) := wD.self hE
  unfold M_isOf at hf
  obtain ⟨H, eH⟩ : ∃ H, H = s.heap := ⟨_, rfl⟩
  obtain ⟨locs, eL⟩ : ∃ locs : List Loc, locs = [] := ⟨_, rfl⟩
  rw [← eL] at hS ⊢
  rw [← eH] at hP
  have hS : va_S (AE 19 E) s.heap H locs := by rw [eH]; exact hS
  show W p l e rmX2_isOf s m args below meth c s.heap locs 0 0 Q (F0 m 0 ls [])
  rw [← eH]
  refine lv_iload_n hx hb dX2_isOf_0 rfl (lv_at hl 1 rfl) ?_
  refine lv_bipush (v := 6) hx hb dX2_isOf_1 (by decide) ?_
  have kj30 : ∀ (H : Heap) (locs : List Loc) (ls : Array Slot), M_isOf_j30 = some res → va_P D clM (wl shM 19 dA E w) H → va_S (AE 19 E) s.heap H locs → lv_has ls 2 [] → W p l e rmX2_isOf s m args below meth c H locs 0 0 Q (F0 m 30 ls []) := by
    intro H locs ls hf hP hS hl
    unfold M_isOf_j30 at hf
    refine lv_iconst (v := 1) hx hb dX2_isOf_30 (by decide) ?_
    refine lv_goto (tgt := 35) hx hb dX2_isOf_31 (by decide) ?_
    obtain rfl := ob_s hf
    subst hQ
    exact xe_z hx hb hr hlocks hP hS (Or.inr rfl) dX2_isOf_35
  refine lv_icmp_lt (tgt := 30) hx hb dX2_isOf_3 (by decide) (fun c1 => ?_) (fun c1 => ?_)
  · replace hf := ob_t hf c1
    exact kj30 H locs ls hf hP hS (lv_sub hl [] rfl)
  · replace hf := ob_f hf c1
    refine lv_iload_n hx hb dX2_isOf_6 rfl (lv_at hl 1 rfl) ?_
    refine lv_bipush (v := 6) hx hb dX2_isOf_7 (by decide) ?_
    refine lv_icmp_ne (tgt := 22) hx hb dX2_isOf_9 (by decide) (fun c2 => ?_) (fun c2 => ?_)
    · replace hf := ob_f hf c2
      refine lv_aload_n hx hb dX2_isOf_22 rfl (lv_at hl 0 rfl) ?_
      refine xr_get hx hb hts in_X2 hown hK hP 0 (by decide) rfl rfl 14 (by decide) (hts _ q1419) (fun _ h => h) rfl (v := .int (w.1 0 14)) rfl dX2_isOf_23 ?_
      refine lv_iconst (v := 1) hx hb dX2_isOf_26 (by decide) ?_
      refine lv_icmp_ne (tgt := 34) hx hb dX2_isOf_27 (by decide) (fun c3 => ?_) (fun c3 => ?_)
      · replace hf := ob_f hf c3
        refine lv_iconst (v := 0) hx hb dX2_isOf_34 (by decide) ?_
        obtain rfl := ob_s hf
        subst hQ
        exact xe_z hx hb hr hlocks hP hS (Or.inl rfl) dX2_isOf_35
      · replace hf := ob_t hf c3
        exact kj30 H locs ls hf hP hS (lv_sub hl [] rfl)
    · replace hf := ob_t hf c2
      refine lv_aload_n hx hb dX2_isOf_12 rfl (lv_at hl 0 rfl) ?_
      refine xr_get hx hb hts in_X2 hown hK hP 0 (by decide) rfl rfl 14 (by decide) (hts _ q1419) (fun _ h => h) rfl (v := .int (w.1 0 14)) rfl dX2_isOf_13 ?_
      refine lv_if_ne (tgt := 34) hx hb dX2_isOf_16 (by decide) (fun c4 => ?_) (fun c4 => ?_)
      · replace hf := ob_f hf c4
        refine lv_iconst (v := 0) hx hb dX2_isOf_34 (by decide) ?_
        obtain rfl := ob_s hf
        subst hQ
        exact xe_z hx hb hr hlocks hP hS (Or.inl rfl) dX2_isOf_35
      · replace hf := ob_t hf c4
        refine lv_goto (tgt := 30) hx hb dX2_isOf_19 (by decide) ?_
        exact kj30 H locs ls hf hP hS (lv_sub hl [] rfl)
abbrev rmX2_opened : Room := { frames := 2, cells := 0, slots := 0, locals := 42 }
theorem cdX2_opened : yX2_opened.cls = RX2 ∧ yX2_opened.cls ≠ "java/lang/invoke/MethodHandle" ∧ yX2_opened.cls ≠ "java/lang/invoke/VarHandle" ∧ (parseMethodDescriptor yX2_opened.desc).map (fun d => d.parameters.length) = some 1 := by decide +kernel
set_option maxHeartbeats 4000000 in
set_option maxRecDepth 100000 in
theorem wkX2_opened (l : Launch) (D : va_G) (dA : Nat → ClassId) (E : Nat → Nat) (hE : wInj 19 E) (w : Mm) (a1 : Int32) {res : Int32 × Mm} (hf : M_opened w a1 = some res) : Met l yX2_opened (ws_ yX2_opened cX2_opened 2 (some .int)) rmX2_opened (Pw D clM (tyM dA) shM 19 dA E [.ref (E 0), .int a1] w) (Qwi D clM shM 19 dA E res.1 res.2) 0 0 (AE 19 E) := by
  refine xm_head (own := RX2) (by decide) rfl (Nat.le_of_ble_eq_true rfl) ?_
  intro p e s m args below meth c ls Q hQ C hP hl
  obtain ⟨hx, hb, hr, hlocks, hml, hown, hts, hK⟩ := C
  replace hl : lv_has ls 2 [(0, .ref (E 0)), (1, .int a1)] := hl
  have hS : va_S (AE 19 E) s.heap s.heap [] := va_S.rf
  have hD : wD 19 E (AE 19 E) := wD.self hE
  unfold M_opened at hf
  obtain ⟨H, eH⟩ : ∃ H, H = s.heap := ⟨_, rfl⟩
  obtain ⟨locs, eL⟩ : ∃ locs : List Loc, locs = [] := ⟨_, rfl⟩
  rw [← eL] at hS ⊢
  rw [← eH] at hP
  have hS : va_S (AE 19 E) s.heap H locs := by rw [eH]; exact hS
  show W p l e rmX2_opened s m args below meth c s.heap locs 0 0 Q (F0 m 0 ls [])
  rw [← eH]
  refine lv_aload_n hx hb dX2_opened_0 rfl (lv_at hl 0 rfl) ?_
  refine xr_get hx hb hts in_X2 hown hK hP 0 (by decide) rfl rfl 17 (by decide) (hts _ q1422) (fun _ h => h) rfl (v := .int (w.1 0 17)) rfl dX2_opened_1 ?_
  refine lv_bipush (v := 8) hx hb dX2_opened_4 (by decide) ?_
  refine lv_icmp_ne (tgt := 11) hx hb dX2_opened_6 (by decide) (fun c1 => ?_) (fun c1 => ?_)
  · replace hf := ob_f hf c1
    refine lv_aload_n hx hb dX2_opened_11 rfl (lv_at hl 0 rfl) ?_
    refine lv_dup hx hb dX2_opened_12 rfl ?_
    refine xr_get hx hb hts in_X2 hown hK hP 0 (by decide) rfl rfl 17 (by decide) (hts _ q1422) (fun _ h => h) rfl (v := .int (w.1 0 17)) rfl dX2_opened_13 ?_
    refine lv_iconst (v := 1) hx hb dX2_opened_16 (by decide) ?_
    refine lv_iadd hx hb dX2_opened_17 ?_
    obtain ⟨w2, ew2, hf⟩ := ob_bnd hf
    refine xr_put hx hb hts in_X2 tyX2 tyX2_ok nmX2 hown hK hP hD hS 0 (by decide) rfl rfl 17 (by decide) (hts _ q1422) (fun _ h => h) rfl rfl rfl rfl (w' := w2) ew2 dX2_opened_18 (fun H locs hP hS => ?_)
    refine lv_aload_n hx hb dX2_opened_21 rfl (lv_at hl 0 rfl) ?_
    refine xr_get hx hb hts in_X2 hown hK hP 0 (by decide) rfl rfl 15 (by decide) (hts _ q1420) (fun _ h => h) rfl (v := .ref (E 5)) rfl dX2_opened_22 ?_
    refine lv_aload_n hx hb dX2_opened_25 rfl (lv_at hl 0 rfl) ?_
    refine xr_get hx hb hts in_X2 hown hK hP 0 (by decide) rfl rfl 16 (by decide) (hts _ q1421) (fun _ h => h) rfl (v := .int (w2.1 0 16)) rfl dX2_opened_26 ?_
    refine lv_iload_n hx hb dX2_opened_29 rfl (lv_at hl 1 rfl) ?_
    obtain ⟨h3, hf⟩ := ob_gd hf
    obtain ⟨w4, ew4, hf⟩ := ob_bnd hf
    refine xr_iast hx hb hK hP hD hS 5 (by decide) rfl 0 rfl (j := (w2.1 0 16).toNatClampNeg) (w' := w4) h3 rfl ew4 dX2_opened_30 (fun H locs hP hS => ?_)
    refine lv_aload_n hx hb dX2_opened_31 rfl (lv_at hl 0 rfl) ?_
    refine lv_dup hx hb dX2_opened_32 rfl ?_
    refine xr_get hx hb hts in_X2 hown hK hP 0 (by decide) rfl rfl 16 (by decide) (hts _ q1421) (fun _ h => h) rfl (v := .int (w4.1 0 16)) rfl dX2_opened_33 ?_
    refine lv_iconst (v := 1) hx hb dX2_opened_36 (by decide) ?_
    refine lv_iadd hx hb dX2_opened_37 ?_
    obtain ⟨w5, ew5, hf⟩ := ob_bnd hf
    refine xr_put hx hb hts in_X2 tyX2 tyX2_ok nmX2 hown hK hP hD hS 0 (by decide) rfl rfl 16 (by decide) (hts _ q1421) (fun _ h => h) rfl rfl rfl rfl (w' := w5) ew5 dX2_opened_38 (fun H locs hP hS => ?_)
    refine lv_aload_n hx hb dX2_opened_41 rfl (lv_at hl 0 rfl) ?_
    obtain ⟨q7, g6, hf⟩ := ob_bind hf
    refine xc_v (xw_run (As := []) (rest := []) ⟨hx, hb, hml, hown, hts⟩ (k0 := 0) (wkX2_nextToken l D dA E hE w5 g6) (cwV 0 hts (lw_V q1573 q1575 qs64 q140 q1576) rfl rfl rfl cdX2_nextToken ⟨Nat.le_of_ble_eq_true rfl, Nat.le_of_ble_eq_true rfl⟩) hK hP (by decide) rfl rfl rfl hl.1 rfl rfl (Nat.le_of_ble_eq_true rfl) dX2_opened_42 ⟨Nat.zero_le _, Nat.zero_le _⟩) hS hD.2 (fun H locs hP hS => ?_)
    refine lv_iconst (v := 0) hx hb dX2_opened_45 (by decide) ?_
    obtain rfl := ob_s hf
    subst hQ
    exact xe_i hx hb hr hlocks hP hS dX2_opened_46
  · replace hf := ob_t hf c1
    refine lv_iconst (v := 3) hx hb dX2_opened_9 (by decide) ?_
    obtain rfl := ob_s hf
    subst hQ
    exact xe_i hx hb hr hlocks hP hS dX2_opened_10
abbrev rmX2_isAskAhead : Room := { frames := 2, cells := 0, slots := 0, locals := 41 }
theorem cdX2_isAskAhead : yX2_isAskAhead.cls = RX2 ∧ yX2_isAskAhead.cls ≠ "java/lang/invoke/MethodHandle" ∧ yX2_isAskAhead.cls ≠ "java/lang/invoke/VarHandle" ∧ (parseMethodDescriptor yX2_isAskAhead.desc).map (fun d => d.parameters.length) = some 0 := by decide +kernel
set_option maxHeartbeats 4000000 in
set_option maxRecDepth 100000 in
theorem wkX2_isAskAhead (l : Launch) (D : va_G) (dA : Nat → ClassId) (E : Nat → Nat) (hE : wInj 19 E) (w : Mm)  {res : Int32} (hf : M_isAskAhead w = some res) : Met l yX2_isAskAhead (ws_ yX2_isAskAhead cX2_isAskAhead 1 (some .boolean)) rmX2_isAskAhead (Pw D clM (tyM dA) shM 19 dA E [.ref (E 0)] w) (Qwz D clM shM 19 dA E res w) 0 0 (AE 19 E) := by
  refine xm_head (own := RX2) (by decide) rfl (Nat.le_of_ble_eq_true rfl) ?_
  intro p e s m args below meth c ls Q hQ C hP hl
  obtain ⟨hx, hb, hr, hlocks, hml, hown, hts, hK⟩ := C
  replace hl : lv_has ls 1 [(0, .ref (E 0))] := hl
  have hS : va_S (AE 19 E) s.heap s.heap [] := va_S.rf
  have hD : wD 19 E (AE 19 E) := wD.self hE
  unfold M_isAskAhead at hf
  obtain ⟨H, eH⟩ : ∃ H, H = s.heap := ⟨_, rfl⟩
  obtain ⟨locs, eL⟩ : ∃ locs : List Loc, locs = [] := ⟨_, rfl⟩
  rw [← eL] at hS ⊢
  rw [← eH] at hP
  have hS : va_S (AE 19 E) s.heap H locs := by rw [eH]; exact hS
  show W p l e rmX2_isAskAhead s m args below meth c s.heap locs 0 0 Q (F0 m 0 ls [])
  rw [← eH]
  refine lv_aload_n hx hb dX2_isAskAhead_0 rfl (lv_at hl 0 rfl) ?_
  obtain ⟨q2, g1, hf⟩ := ob_bind hf
  refine xc_i (xw_run (As := []) (rest := []) ⟨hx, hb, hml, hown, hts⟩ (k0 := 0) (wkX2_openNow l D dA E hE w g1) (cwV 0 hts (lw_V q1658 q1660 qs78 q140 q1661) rfl rfl rfl cdX2_openNow ⟨Nat.le_of_ble_eq_true rfl, Nat.le_of_ble_eq_true rfl⟩) hK hP (by decide) rfl rfl rfl hl.1 rfl rfl (Nat.le_of_ble_eq_true rfl) dX2_isAskAhead_1 ⟨Nat.zero_le _, Nat.zero_le _⟩) hS hD.2 (fun H locs hP hS => ?_)
  refine lv_bipush (v := 42) hx hb dX2_isAskAhead_4 (by decide) ?_
  refine lv_icmp_ne (tgt := 51) hx hb dX2_isAskAhead_6 (by decide) (fun c3 => ?_) (fun c3 => ?_)
  · replace hf := ob_f hf c3
    refine lv_iconst (v := 0) hx hb dX2_isAskAhead_51 (by decide) ?_
    obtain rfl := ob_s hf
    subst hQ
    exact xe_z hx hb hr hlocks hP hS (Or.inl rfl) dX2_isAskAhead_52
  · replace hf := ob_t hf c3
    refine lv_aload_n hx hb dX2_isAskAhead_9 rfl (lv_at hl 0 rfl) ?_
    refine xr_get hx hb hts in_X2 hown hK hP 0 (by decide) rfl rfl 15 (by decide) (hts _ q1420) (fun _ h => h) rfl (v := .ref (E 5)) rfl dX2_isAskAhead_10 ?_
    refine lv_aload_n hx hb dX2_isAskAhead_13 rfl (lv_at hl 0 rfl) ?_
    refine xr_get hx hb hts in_X2 hown hK hP 0 (by decide) rfl rfl 16 (by decide) (hts _ q1421) (fun _ h => h) rfl (v := .int (w.1 0 16)) rfl dX2_isAskAhead_14 ?_
    refine lv_iconst (v := 1) hx hb dX2_isAskAhead_17 (by decide) ?_
    refine lv_isub hx hb dX2_isAskAhead_18 ?_
    obtain ⟨h4, hf⟩ := ob_gd hf
    refine xr_iald hx hb hK hP 5 (by decide) rfl 0 rfl (j := ((w.1 0 16) - 1).toNatClampNeg) h4 rfl dX2_isAskAhead_19 ?_
    refine lv_bipush (v := 40) hx hb dX2_isAskAhead_20 (by decide) ?_
    have kj47 : ∀ (H : Heap) (locs : List Loc) (ls : Array Slot), M_isAskAhead_j47 = some res → va_P D clM (wl shM 19 dA E w) H → va_S (AE 19 E) s.heap H locs → lv_has ls 1 [] → W p l e rmX2_isAskAhead s m args below meth c H locs 0 0 Q (F0 m 47 ls []) := by
      intro H locs ls hf hP hS hl
      unfold M_isAskAhead_j47 at hf
      refine lv_iconst (v := 1) hx hb dX2_isAskAhead_47 (by decide) ?_
      refine lv_goto (tgt := 52) hx hb dX2_isAskAhead_48 (by decide) ?_
      obtain rfl := ob_s hf
      subst hQ
      exact xe_z hx hb hr hlocks hP hS (Or.inr rfl) dX2_isAskAhead_52
    refine lv_icmp_ge (tgt := 47) hx hb dX2_isAskAhead_22 (by decide) (fun c5 => ?_) (fun c5 => ?_)
    · replace hf := ob_t hf c5
      exact kj47 H locs ls hf hP hS (lv_sub hl [] rfl)
    · replace hf := ob_f hf c5
      refine lv_aload_n hx hb dX2_isAskAhead_25 rfl (lv_at hl 0 rfl) ?_
      refine xr_get hx hb hts in_X2 hown hK hP 0 (by decide) rfl rfl 15 (by decide) (hts _ q1420) (fun _ h => h) rfl (v := .ref (E 5)) rfl dX2_isAskAhead_26 ?_
      refine lv_aload_n hx hb dX2_isAskAhead_29 rfl (lv_at hl 0 rfl) ?_
      refine xr_get hx hb hts in_X2 hown hK hP 0 (by decide) rfl rfl 16 (by decide) (hts _ q1421) (fun _ h => h) rfl (v := .int (w.1 0 16)) rfl dX2_isAskAhead_30 ?_
      refine lv_iconst (v := 1) hx hb dX2_isAskAhead_33 (by decide) ?_
      refine lv_isub hx hb dX2_isAskAhead_34 ?_
      obtain ⟨h6, hf⟩ := ob_gd hf
      refine xr_iald hx hb hK hP 5 (by decide) rfl 0 rfl (j := ((w.1 0 16) - 1).toNatClampNeg) h6 rfl dX2_isAskAhead_35 ?_
      obtain ⟨q8, g7, hf⟩ := ob_bind hf
      refine xc_i (xw_runS (As := [.int (w.1 5 ((w.1 0 16) - 1).toNatClampNeg)]) (rest := []) ⟨hx, hb, hml, hown, hts⟩ (wkX2_rank l D dA E hE w (w.1 5 ((w.1 0 16) - 1).toNatClampNeg) g7) (va_cwS 1 hts (lw_S q1670 q1671 q140 q1672) rfl rfl rfl cdX2_rank.2 ⟨Nat.le_of_ble_eq_true rfl, Nat.le_of_ble_eq_true rfl⟩) hK hP hl.1 rfl rfl (Nat.le_of_ble_eq_true rfl) dX2_isAskAhead_36 ⟨Nat.zero_le _, Nat.zero_le _⟩) hS hD.2 (fun H locs hP hS => ?_)
      refine lv_iconst (v := 1) hx hb dX2_isAskAhead_39 (by decide) ?_
      refine lv_iconst (v := 3) hx hb dX2_isAskAhead_40 (by decide) ?_
      obtain ⟨q10, g9, hf⟩ := ob_bind hf
      refine xc_z (xw_runS (As := [.int q8, .int 1, .int 3]) (rest := []) ⟨hx, hb, hml, hown, hts⟩ (wkX2_isIn l D dA E hE w q8 1 3 g9) (va_cwS 3 hts (lw_S q1538 q1539 q140 q1540) rfl rfl rfl cdX2_isIn.2 ⟨Nat.le_of_ble_eq_true rfl, Nat.le_of_ble_eq_true rfl⟩) hK hP hl.1 rfl rfl (Nat.le_of_ble_eq_true rfl) dX2_isAskAhead_41 ⟨Nat.zero_le _, Nat.zero_le _⟩) hS hD.2 (fun H locs zq10 hP hS => ?_)
      refine lv_if_eq (tgt := 51) hx hb dX2_isAskAhead_44 (by decide) (fun c11 => ?_) (fun c11 => ?_)
      · replace hf := ob_t hf c11
        refine lv_iconst (v := 0) hx hb dX2_isAskAhead_51 (by decide) ?_
        obtain rfl := ob_s hf
        subst hQ
        exact xe_z hx hb hr hlocks hP hS (Or.inl rfl) dX2_isAskAhead_52
      · replace hf := ob_f hf c11
        exact kj47 H locs ls hf hP hS (lv_sub hl [] rfl)
abbrev rmX2_beginOne : Room := { frames := 6, cells := 0, slots := 0, locals := 135 }
theorem cdX2_beginOne : yX2_beginOne.cls = RX2 ∧ yX2_beginOne.cls ≠ "java/lang/invoke/MethodHandle" ∧ yX2_beginOne.cls ≠ "java/lang/invoke/VarHandle" ∧ (parseMethodDescriptor yX2_beginOne.desc).map (fun d => d.parameters.length) = some 0 := by decide +kernel
set_option maxHeartbeats 4000000 in
set_option maxRecDepth 100000 in
theorem wkX2_beginOne (l : Launch) (D : va_G) (dA : Nat → ClassId) (E : Nat → Nat) (hE : wInj 19 E) (w : Mm)  {res : Int32 × Mm} (hf : M_beginOne w = some res) : Met l yX2_beginOne (ws_ yX2_beginOne cX2_beginOne 2 (some .int)) rmX2_beginOne (Pw D clM (tyM dA) shM 19 dA E [.ref (E 0)] w) (Qwi D clM shM 19 dA E res.1 res.2) 0 0 (AE 19 E) := by
  refine xm_head (own := RX2) (by decide) rfl (Nat.le_of_ble_eq_true rfl) ?_
  intro p e s m args below meth c ls Q hQ C hP hl
  obtain ⟨hx, hb, hr, hlocks, hml, hown, hts, hK⟩ := C
  replace hl : lv_has ls 2 [(0, .ref (E 0))] := hl
  have hS : va_S (AE 19 E) s.heap s.heap [] := va_S.rf
  have hD : wD 19 E (AE 19 E) := wD.self hE
  unfold M_beginOne at hf
  obtain ⟨H, eH⟩ : ∃ H, H = s.heap := ⟨_, rfl⟩
  obtain ⟨locs, eL⟩ : ∃ locs : List Loc, locs = [] := ⟨_, rfl⟩
  rw [← eL] at hS ⊢
  rw [← eH] at hP
  have hS : va_S (AE 19 E) s.heap H locs := by rw [eH]; exact hS
  show W p l e rmX2_beginOne s m args below meth c s.heap locs 0 0 Q (F0 m 0 ls [])
  rw [← eH]
  refine lv_aload_n hx hb dX2_beginOne_0 rfl (lv_at hl 0 rfl) ?_
  refine xr_get hx hb hts in_X2 hown hK hP 0 (by decide) rfl rfl 9 (by decide) (hts _ q1414) (fun _ h => h) rfl (v := .int (w.1 0 9)) rfl dX2_beginOne_1 ?_
  refine lv_iconst (v := 1) hx hb dX2_beginOne_4 (by decide) ?_
  have kj20 : ∀ (H : Heap) (locs : List Loc) (ls : Array Slot), M_beginOne_j20 w = some res → va_P D clM (wl shM 19 dA E w) H → va_S (AE 19 E) s.heap H locs → lv_has ls 2 [(0, .ref (E 0))] → W p l e rmX2_beginOne s m args below meth c H locs 0 0 Q (F0 m 20 ls []) := by
    intro H locs ls hf hP hS hl
    unfold M_beginOne_j20 at hf
    refine lv_aload_n hx hb dX2_beginOne_20 rfl (lv_at hl 0 rfl) ?_
    obtain ⟨q2, g1, hf⟩ := ob_bind hf
    refine xc_i (xw_run (As := []) (rest := []) ⟨hx, hb, hml, hown, hts⟩ (k0 := 0) (wkX2_nameOf l D dA E hE w g1) (cwV 0 hts (lw_V q1697 q1699 qs87 q140 q1700) rfl rfl rfl cdX2_nameOf ⟨Nat.le_of_ble_eq_true rfl, Nat.le_of_ble_eq_true rfl⟩) hK hP (by decide) rfl rfl rfl hl.1 rfl rfl (Nat.le_of_ble_eq_true rfl) dX2_beginOne_21 ⟨Nat.zero_le _, Nat.zero_le _⟩) hS hD.2 (fun H locs hP hS => ?_)
    refine lv_istore_n (lv' := [(1, .int q2), (0, .ref (E 0))]) hx hb dX2_beginOne_24 rfl hl (by decide) rfl (fun ls hl => ?_)
    refine lv_iload_n hx hb dX2_beginOne_25 rfl (lv_at hl 0 rfl) ?_
    have kj39 : ∀ (H : Heap) (locs : List Loc) (ls : Array Slot), M_beginOne_j39 w q2 = some res → va_P D clM (wl shM 19 dA E w) H → va_S (AE 19 E) s.heap H locs → lv_has ls 2 [(0, .ref (E 0)), (1, .int q2)] → W p l e rmX2_beginOne s m args below meth c H locs 0 0 Q (F0 m 39 ls []) := by
      intro H locs ls hf hP hS hl
      unfold M_beginOne_j39 at hf
      refine lv_aload_n hx hb dX2_beginOne_39 rfl (lv_at hl 0 rfl) ?_
      refine xr_get hx hb hts in_X2 hown hK hP 0 (by decide) rfl rfl 9 (by decide) (hts _ q1414) (fun _ h => h) rfl (v := .int (w.1 0 9)) rfl dX2_beginOne_40 ?_
      refine lv_iconst (v := 1) hx hb dX2_beginOne_43 (by decide) ?_
      have kj51 : ∀ (H : Heap) (locs : List Loc) (ls : Array Slot), M_beginOne_j51 w q2 = some res → va_P D clM (wl shM 19 dA E w) H → va_S (AE 19 E) s.heap H locs → lv_has ls 2 [(0, .ref (E 0)), (1, .int q2)] → W p l e rmX2_beginOne s m args below meth c H locs 0 0 Q (F0 m 51 ls []) := by
        intro H locs ls hf hP hS hl
        unfold M_beginOne_j51 at hf
        refine lv_aload_n hx hb dX2_beginOne_51 rfl (lv_at hl 0 rfl) ?_
        refine lv_aload_n hx hb dX2_beginOne_52 rfl (lv_at hl 0 rfl) ?_
        refine xr_get hx hb hts in_X2 hown hK hP 0 (by decide) rfl rfl 9 (by decide) (hts _ q1414) (fun _ h => h) rfl (v := .int (w.1 0 9)) rfl dX2_beginOne_53 ?_
        refine lv_iconst (v := 1) hx hb dX2_beginOne_56 (by decide) ?_
        have kj65 : ∀ (t3 : Int32) (H : Heap) (locs : List Loc) (ls : Array Slot), M_beginOne_j65 w t3 q2 = some res → va_P D clM (wl shM 19 dA E w) H → va_S (AE 19 E) s.heap H locs → lv_has ls 2 [(0, .ref (E 0)), (1, .int q2)] → W p l e rmX2_beginOne s m args below meth c H locs 0 0 Q (F0 m 65 ls [.int t3, .ref (E 0)]) := by
          intro t3 H locs ls hf hP hS hl
          unfold M_beginOne_j65 at hf
          refine lv_aload_n hx hb dX2_beginOne_65 rfl (lv_at hl 0 rfl) ?_
          refine xr_get hx hb hts in_X2 hown hK hP 0 (by decide) rfl rfl 9 (by decide) (hts _ q1414) (fun _ h => h) rfl (v := .int (w.1 0 9)) rfl dX2_beginOne_66 ?_
          refine lv_iconst (v := 1) hx hb dX2_beginOne_69 (by decide) ?_
          have kj81 : ∀ (t4 : Int32) (H : Heap) (locs : List Loc) (ls : Array Slot), M_beginOne_j81 w t3 t4 = some res → va_P D clM (wl shM 19 dA E w) H → va_S (AE 19 E) s.heap H locs → lv_has ls 2 [(0, .ref (E 0))] → W p l e rmX2_beginOne s m args below meth c H locs 0 0 Q (F0 m 81 ls [.int t4, .int t3, .ref (E 0)]) := by
            intro t4 H locs ls hf hP hS hl
            unfold M_beginOne_j81 at hf
            obtain ⟨q6, g5, hf⟩ := ob_bind hf
            refine xc_v (xw_run (As := [.int t3, .int t4]) (rest := []) ⟨hx, hb, hml, hown, hts⟩ (k0 := 0) (wkX2_emit l D dA E hE w t3 t4 g5) (cwV 2 hts (lw_V q1681 q1683 qs83 q140 q1684) rfl rfl rfl cdX2_emit ⟨Nat.le_of_ble_eq_true rfl, Nat.le_of_ble_eq_true rfl⟩) hK hP (by decide) rfl rfl rfl hl.1 rfl rfl (Nat.le_of_ble_eq_true rfl) dX2_beginOne_81 ⟨Nat.zero_le _, Nat.zero_le _⟩) hS hD.2 (fun H locs hP hS => ?_)
            refine lv_aload_n hx hb dX2_beginOne_84 rfl (lv_at hl 0 rfl) ?_
            obtain ⟨q8, g7, hf⟩ := ob_bind hf
            refine xc_v (xw_run (As := []) (rest := []) ⟨hx, hb, hml, hown, hts⟩ (k0 := 0) (wkX2_nextToken l D dA E hE q6 g7) (cwV 0 hts (lw_V q1573 q1575 qs64 q140 q1576) rfl rfl rfl cdX2_nextToken ⟨Nat.le_of_ble_eq_true rfl, Nat.le_of_ble_eq_true rfl⟩) hK hP (by decide) rfl rfl rfl hl.1 rfl rfl (Nat.le_of_ble_eq_true rfl) dX2_beginOne_85 ⟨Nat.zero_le _, Nat.zero_le _⟩) hS hD.2 (fun H locs hP hS => ?_)
            refine lv_aload_n hx hb dX2_beginOne_88 rfl (lv_at hl 0 rfl) ?_
            obtain ⟨q10, g9, hf⟩ := ob_bind hf
            refine xc_i (xw_run (As := []) (rest := []) ⟨hx, hb, hml, hown, hts⟩ (k0 := 0) (wkX2_endOne l D dA E hE q8 g9) (cwV 0 hts (lw_V q1689 q1691 qs85 q140 q1692) rfl rfl rfl cdX2_endOne ⟨Nat.le_of_ble_eq_true rfl, Nat.le_of_ble_eq_true rfl⟩) hK hP (by decide) rfl rfl rfl hl.1 rfl rfl (Nat.le_of_ble_eq_true rfl) dX2_beginOne_89 ⟨Nat.zero_le _, Nat.zero_le _⟩) hS hD.2 (fun H locs hP hS => ?_)
            obtain rfl := ob_s hf
            subst hQ
            exact xe_i hx hb hr hlocks hP hS dX2_beginOne_92
          refine lv_icmp_ne (tgt := 80) hx hb dX2_beginOne_70 (by decide) (fun c11 => ?_) (fun c11 => ?_)
          · replace hf := ob_f hf c11
            refine lv_iload_n hx hb dX2_beginOne_80 rfl (lv_at hl 1 rfl) ?_
            exact kj81 q2 H locs ls hf hP hS (lv_sub hl [0] rfl)
          · replace hf := ob_t hf c11
            refine lv_aload_n hx hb dX2_beginOne_73 rfl (lv_at hl 0 rfl) ?_
            refine xr_get hx hb hts in_X2 hown hK hP 0 (by decide) rfl rfl 10 (by decide) (hts _ q1415) (fun _ h => h) rfl (v := .int (w.1 0 10)) rfl dX2_beginOne_74 ?_
            refine lv_goto (tgt := 81) hx hb dX2_beginOne_77 (by decide) ?_
            exact kj81 (w.1 0 10) H locs ls hf hP hS (lv_sub hl [0] rfl)
        refine lv_icmp_ne (tgt := 64) hx hb dX2_beginOne_57 (by decide) (fun c12 => ?_) (fun c12 => ?_)
        · replace hf := ob_f hf c12
          refine lv_iconst (v := 1) hx hb dX2_beginOne_64 (by decide) ?_
          exact kj65 1 H locs ls hf hP hS (lv_sub hl [0, 1] rfl)
        · replace hf := ob_t hf c12
          refine lv_iconst (v := 0) hx hb dX2_beginOne_60 (by decide) ?_
          refine lv_goto (tgt := 65) hx hb dX2_beginOne_61 (by decide) ?_
          exact kj65 0 H locs ls hf hP hS (lv_sub hl [0, 1] rfl)
      refine lv_icmp_eq (tgt := 51) hx hb dX2_beginOne_44 (by decide) (fun c13 => ?_) (fun c13 => ?_)
      · replace hf := ob_t hf c13
        exact kj51 H locs ls hf hP hS (lv_sub hl [0, 1] rfl)
      · replace hf := ob_f hf c13
        refine lv_iload_n hx hb dX2_beginOne_47 rfl (lv_at hl 1 rfl) ?_
        refine lv_if_lt (tgt := 93) hx hb dX2_beginOne_48 (by decide) (fun c14 => ?_) (fun c14 => ?_)
        · replace hf := ob_t hf c14
          refine lv_aload_n hx hb dX2_beginOne_93 rfl (lv_at hl 0 rfl) ?_
          refine xr_get hx hb hts in_X2 hown hK hP 0 (by decide) rfl rfl 9 (by decide) (hts _ q1414) (fun _ h => h) rfl (v := .int (w.1 0 9)) rfl dX2_beginOne_94 ?_
          refine lv_bipush (v := 40) hx hb dX2_beginOne_97 (by decide) ?_
          refine lv_icmp_ne (tgt := 109) hx hb dX2_beginOne_99 (by decide) (fun c15 => ?_) (fun c15 => ?_)
          · replace hf := ob_f hf c15
            refine lv_aload_n hx hb dX2_beginOne_109 rfl (lv_at hl 0 rfl) ?_
            refine xr_get hx hb hts in_X2 hown hK hP 0 (by decide) rfl rfl 9 (by decide) (hts _ q1414) (fun _ h => h) rfl (v := .int (w.1 0 9)) rfl dX2_beginOne_110 ?_
            refine lv_bipush (v := 45) hx hb dX2_beginOne_113 (by decide) ?_
            refine lv_icmp_ne (tgt := 124) hx hb dX2_beginOne_115 (by decide) (fun c16 => ?_) (fun c16 => ?_)
            · replace hf := ob_f hf c16
              refine lv_aload_n hx hb dX2_beginOne_124 rfl (lv_at hl 0 rfl) ?_
              refine lv_bipush (v := 114) hx hb dX2_beginOne_125 (by decide) ?_
              refine lv_bipush (v := 101) hx hb dX2_beginOne_127 (by decide) ?_
              refine lv_bipush (v := 115) hx hb dX2_beginOne_129 (by decide) ?_
              refine lv_bipush (v := 116) hx hb dX2_beginOne_131 (by decide) ?_
              obtain ⟨q18, g17, hf⟩ := ob_bind hf
              refine xc_l (xw_runS (As := [.int 114, .int 101, .int 115, .int 116]) (rest := [.ref (E 0)]) ⟨hx, hb, hml, hown, hts⟩ (wkX2_w4 l D dA E hE w 114 101 115 116 g17) (va_cwS 4 hts (lw_S q1600 q1601 q140 q1602) rfl rfl rfl cdX2_w4.2 ⟨Nat.le_of_ble_eq_true rfl, Nat.le_of_ble_eq_true rfl⟩) hK hP hl.1 rfl rfl (Nat.le_of_ble_eq_true rfl) dX2_beginOne_133 ⟨Nat.zero_le _, Nat.zero_le _⟩) hS hD.2 (fun H locs hP hS => ?_)
              obtain ⟨q20, g19, hf⟩ := ob_bind hf
              refine xc_z (xw_run (As := [.long q18]) (rest := []) ⟨hx, hb, hml, hown, hts⟩ (k0 := 0) (wkX2_isWord l D dA E hE w q18 g19) (cwV 1 hts (lw_V q1609 q1611 qs68 q140 q1612) rfl rfl rfl cdX2_isWord ⟨Nat.le_of_ble_eq_true rfl, Nat.le_of_ble_eq_true rfl⟩) hK hP (by decide) rfl rfl rfl hl.1 rfl rfl (Nat.le_of_ble_eq_true rfl) dX2_beginOne_136 ⟨Nat.zero_le _, Nat.zero_le _⟩) hS hD.2 (fun H locs zq20 hP hS => ?_)
              refine lv_if_eq (tgt := 149) hx hb dX2_beginOne_139 (by decide) (fun c21 => ?_) (fun c21 => ?_)
              · replace hf := ob_t hf c21
                refine lv_aload_n hx hb dX2_beginOne_149 rfl (lv_at hl 0 rfl) ?_
                refine lv_bipush (v := 104) hx hb dX2_beginOne_150 (by decide) ?_
                refine lv_bipush (v := 111) hx hb dX2_beginOne_152 (by decide) ?_
                refine lv_bipush (v := 116) hx hb dX2_beginOne_154 (by decide) ?_
                obtain ⟨q23, g22, hf⟩ := ob_bind hf
                refine xc_l (xw_runS (As := [.int 104, .int 111, .int 116]) (rest := [.ref (E 0)]) ⟨hx, hb, hml, hown, hts⟩ (wkX2_w3 l D dA E hE w 104 111 116 g22) (va_cwS 3 hts (lw_S q1603 q1604 q140 q1605) rfl rfl rfl cdX2_w3.2 ⟨Nat.le_of_ble_eq_true rfl, Nat.le_of_ble_eq_true rfl⟩) hK hP hl.1 rfl rfl (Nat.le_of_ble_eq_true rfl) dX2_beginOne_156 ⟨Nat.zero_le _, Nat.zero_le _⟩) hS hD.2 (fun H locs hP hS => ?_)
                obtain ⟨q25, g24, hf⟩ := ob_bind hf
                refine xc_z (xw_run (As := [.long q23]) (rest := []) ⟨hx, hb, hml, hown, hts⟩ (k0 := 0) (wkX2_isWord l D dA E hE w q23 g24) (cwV 1 hts (lw_V q1609 q1611 qs68 q140 q1612) rfl rfl rfl cdX2_isWord ⟨Nat.le_of_ble_eq_true rfl, Nat.le_of_ble_eq_true rfl⟩) hK hP (by decide) rfl rfl rfl hl.1 rfl rfl (Nat.le_of_ble_eq_true rfl) dX2_beginOne_159 ⟨Nat.zero_le _, Nat.zero_le _⟩) hS hD.2 (fun H locs zq25 hP hS => ?_)
                refine lv_if_eq (tgt := 171) hx hb dX2_beginOne_162 (by decide) (fun c26 => ?_) (fun c26 => ?_)
                · replace hf := ob_t hf c26
                  refine lv_aload_n hx hb dX2_beginOne_171 rfl (lv_at hl 0 rfl) ?_
                  refine lv_bipush (v := 105) hx hb dX2_beginOne_172 (by decide) ?_
                  refine lv_bipush (v := 102) hx hb dX2_beginOne_174 (by decide) ?_
                  obtain ⟨q28, g27, hf⟩ := ob_bind hf
                  refine xc_l (xw_runS (As := [.int 105, .int 102]) (rest := [.ref (E 0)]) ⟨hx, hb, hml, hown, hts⟩ (wkX2_w2 l D dA E hE w 105 102 g27) (va_cwS 2 hts (lw_S q1606 q1607 q140 q1608) rfl rfl rfl cdX2_w2.2 ⟨Nat.le_of_ble_eq_true rfl, Nat.le_of_ble_eq_true rfl⟩) hK hP hl.1 rfl rfl (Nat.le_of_ble_eq_true rfl) dX2_beginOne_176 ⟨Nat.zero_le _, Nat.zero_le _⟩) hS hD.2 (fun H locs hP hS => ?_)
                  obtain ⟨q30, g29, hf⟩ := ob_bind hf
                  refine xc_z (xw_run (As := [.long q28]) (rest := []) ⟨hx, hb, hml, hown, hts⟩ (k0 := 0) (wkX2_isWord l D dA E hE w q28 g29) (cwV 1 hts (lw_V q1609 q1611 qs68 q140 q1612) rfl rfl rfl cdX2_isWord ⟨Nat.le_of_ble_eq_true rfl, Nat.le_of_ble_eq_true rfl⟩) hK hP (by decide) rfl rfl rfl hl.1 rfl rfl (Nat.le_of_ble_eq_true rfl) dX2_beginOne_179 ⟨Nat.zero_le _, Nat.zero_le _⟩) hS hD.2 (fun H locs zq30 hP hS => ?_)
                  refine lv_if_eq (tgt := 192) hx hb dX2_beginOne_182 (by decide) (fun c31 => ?_) (fun c31 => ?_)
                  · replace hf := ob_t hf c31
                    refine lv_aload_n hx hb dX2_beginOne_192 rfl (lv_at hl 0 rfl) ?_
                    refine lv_bipush (v := 110) hx hb dX2_beginOne_193 (by decide) ?_
                    refine lv_bipush (v := 111) hx hb dX2_beginOne_195 (by decide) ?_
                    refine lv_bipush (v := 116) hx hb dX2_beginOne_197 (by decide) ?_
                    obtain ⟨q33, g32, hf⟩ := ob_bind hf
                    refine xc_l (xw_runS (As := [.int 110, .int 111, .int 116]) (rest := [.ref (E 0)]) ⟨hx, hb, hml, hown, hts⟩ (wkX2_w3 l D dA E hE w 110 111 116 g32) (va_cwS 3 hts (lw_S q1603 q1604 q140 q1605) rfl rfl rfl cdX2_w3.2 ⟨Nat.le_of_ble_eq_true rfl, Nat.le_of_ble_eq_true rfl⟩) hK hP hl.1 rfl rfl (Nat.le_of_ble_eq_true rfl) dX2_beginOne_199 ⟨Nat.zero_le _, Nat.zero_le _⟩) hS hD.2 (fun H locs hP hS => ?_)
                    obtain ⟨q35, g34, hf⟩ := ob_bind hf
                    refine xc_z (xw_run (As := [.long q33]) (rest := []) ⟨hx, hb, hml, hown, hts⟩ (k0 := 0) (wkX2_isWord l D dA E hE w q33 g34) (cwV 1 hts (lw_V q1609 q1611 qs68 q140 q1612) rfl rfl rfl cdX2_isWord ⟨Nat.le_of_ble_eq_true rfl, Nat.le_of_ble_eq_true rfl⟩) hK hP (by decide) rfl rfl rfl hl.1 rfl rfl (Nat.le_of_ble_eq_true rfl) dX2_beginOne_202 ⟨Nat.zero_le _, Nat.zero_le _⟩) hS hD.2 (fun H locs zq35 hP hS => ?_)
                    refine lv_if_eq (tgt := 224) hx hb dX2_beginOne_205 (by decide) (fun c36 => ?_) (fun c36 => ?_)
                    · replace hf := ob_t hf c36
                      refine lv_iconst (v := 1) hx hb dX2_beginOne_224 (by decide) ?_
                      obtain rfl := ob_s hf
                      subst hQ
                      exact xe_i hx hb hr hlocks hP hS dX2_beginOne_225
                    · replace hf := ob_f hf c36
                      refine lv_aload_n hx hb dX2_beginOne_208 rfl (lv_at hl 0 rfl) ?_
                      obtain ⟨q38, g37, hf⟩ := ob_bind hf
                      refine xc_z (xw_run (As := []) (rest := []) ⟨hx, hb, hml, hown, hts⟩ (k0 := 0) (wkX2_isAskAhead l D dA E hE w g37) (cwV 0 hts (lw_V q1709 q1711 qs90 q140 q1712) rfl rfl rfl cdX2_isAskAhead ⟨Nat.le_of_ble_eq_true rfl, Nat.le_of_ble_eq_true rfl⟩) hK hP (by decide) rfl rfl rfl hl.1 rfl rfl (Nat.le_of_ble_eq_true rfl) dX2_beginOne_209 ⟨Nat.zero_le _, Nat.zero_le _⟩) hS hD.2 (fun H locs zq38 hP hS => ?_)
                      refine lv_if_eq (tgt := 224) hx hb dX2_beginOne_212 (by decide) (fun c39 => ?_) (fun c39 => ?_)
                      · replace hf := ob_t hf c39
                        refine lv_iconst (v := 1) hx hb dX2_beginOne_224 (by decide) ?_
                        obtain rfl := ob_s hf
                        subst hQ
                        exact xe_i hx hb hr hlocks hP hS dX2_beginOne_225
                      · replace hf := ob_f hf c39
                        refine lv_aload_n hx hb dX2_beginOne_215 rfl (lv_at hl 0 rfl) ?_
                        refine lv_bipush (v := 20) hx hb dX2_beginOne_216 (by decide) ?_
                        obtain ⟨q41, g40, hf⟩ := ob_bind hf
                        refine xc_i (xw_run (As := [.int 20]) (rest := []) ⟨hx, hb, hml, hown, hts⟩ (k0 := 0) (wkX2_opened l D dA E hE w 20 g40) (cwV 1 hts (lw_V q1705 q1707 qs89 q140 q1708) rfl rfl rfl cdX2_opened ⟨Nat.le_of_ble_eq_true rfl, Nat.le_of_ble_eq_true rfl⟩) hK hP (by decide) rfl rfl rfl hl.1 rfl rfl (Nat.le_of_ble_eq_true rfl) dX2_beginOne_218 ⟨Nat.zero_le _, Nat.zero_le _⟩) hS hD.2 (fun H locs hP hS => ?_)
                        refine lv_goto (tgt := 225) hx hb dX2_beginOne_221 (by decide) ?_
                        obtain rfl := ob_s hf
                        subst hQ
                        exact xe_i hx hb hr hlocks hP hS dX2_beginOne_225
                  · replace hf := ob_f hf c31
                    refine lv_aload_n hx hb dX2_beginOne_185 rfl (lv_at hl 0 rfl) ?_
                    refine lv_bipush (v := 42) hx hb dX2_beginOne_186 (by decide) ?_
                    obtain ⟨q43, g42, hf⟩ := ob_bind hf
                    refine xc_i (xw_run (As := [.int 42]) (rest := []) ⟨hx, hb, hml, hown, hts⟩ (k0 := 0) (wkX2_opened l D dA E hE w 42 g42) (cwV 1 hts (lw_V q1705 q1707 qs89 q140 q1708) rfl rfl rfl cdX2_opened ⟨Nat.le_of_ble_eq_true rfl, Nat.le_of_ble_eq_true rfl⟩) hK hP (by decide) rfl rfl rfl hl.1 rfl rfl (Nat.le_of_ble_eq_true rfl) dX2_beginOne_188 ⟨Nat.zero_le _, Nat.zero_le _⟩) hS hD.2 (fun H locs hP hS => ?_)
                    obtain rfl := ob_s hf
                    subst hQ
                    exact xe_i hx hb hr hlocks hP hS dX2_beginOne_191
                · replace hf := ob_f hf c26
                  refine lv_aload_n hx hb dX2_beginOne_165 rfl (lv_at hl 0 rfl) ?_
                  refine lv_iconst (v := 2) hx hb dX2_beginOne_166 (by decide) ?_
                  obtain ⟨q45, g44, hf⟩ := ob_bind hf
                  refine xc_i (xw_run (As := [.int 2]) (rest := []) ⟨hx, hb, hml, hown, hts⟩ (k0 := 0) (wkX2_opened l D dA E hE w 2 g44) (cwV 1 hts (lw_V q1705 q1707 qs89 q140 q1708) rfl rfl rfl cdX2_opened ⟨Nat.le_of_ble_eq_true rfl, Nat.le_of_ble_eq_true rfl⟩) hK hP (by decide) rfl rfl rfl hl.1 rfl rfl (Nat.le_of_ble_eq_true rfl) dX2_beginOne_167 ⟨Nat.zero_le _, Nat.zero_le _⟩) hS hD.2 (fun H locs hP hS => ?_)
                  obtain rfl := ob_s hf
                  subst hQ
                  exact xe_i hx hb hr hlocks hP hS dX2_beginOne_170
              · replace hf := ob_f hf c21
                refine lv_aload_n hx hb dX2_beginOne_142 rfl (lv_at hl 0 rfl) ?_
                refine lv_bipush (v := 41) hx hb dX2_beginOne_143 (by decide) ?_
                obtain ⟨q47, g46, hf⟩ := ob_bind hf
                refine xc_i (xw_run (As := [.int 41]) (rest := []) ⟨hx, hb, hml, hown, hts⟩ (k0 := 0) (wkX2_opened l D dA E hE w 41 g46) (cwV 1 hts (lw_V q1705 q1707 qs89 q140 q1708) rfl rfl rfl cdX2_opened ⟨Nat.le_of_ble_eq_true rfl, Nat.le_of_ble_eq_true rfl⟩) hK hP (by decide) rfl rfl rfl hl.1 rfl rfl (Nat.le_of_ble_eq_true rfl) dX2_beginOne_145 ⟨Nat.zero_le _, Nat.zero_le _⟩) hS hD.2 (fun H locs hP hS => ?_)
                obtain rfl := ob_s hf
                subst hQ
                exact xe_i hx hb hr hlocks hP hS dX2_beginOne_148
            · replace hf := ob_t hf c16
              refine lv_aload_n hx hb dX2_beginOne_118 rfl (lv_at hl 0 rfl) ?_
              refine lv_iconst (v := 5) hx hb dX2_beginOne_119 (by decide) ?_
              obtain ⟨q49, g48, hf⟩ := ob_bind hf
              refine xc_i (xw_run (As := [.int 5]) (rest := []) ⟨hx, hb, hml, hown, hts⟩ (k0 := 0) (wkX2_opened l D dA E hE w 5 g48) (cwV 1 hts (lw_V q1705 q1707 qs89 q140 q1708) rfl rfl rfl cdX2_opened ⟨Nat.le_of_ble_eq_true rfl, Nat.le_of_ble_eq_true rfl⟩) hK hP (by decide) rfl rfl rfl hl.1 rfl rfl (Nat.le_of_ble_eq_true rfl) dX2_beginOne_120 ⟨Nat.zero_le _, Nat.zero_le _⟩) hS hD.2 (fun H locs hP hS => ?_)
              obtain rfl := ob_s hf
              subst hQ
              exact xe_i hx hb hr hlocks hP hS dX2_beginOne_123
          · replace hf := ob_t hf c15
            refine lv_aload_n hx hb dX2_beginOne_102 rfl (lv_at hl 0 rfl) ?_
            refine lv_bipush (v := 40) hx hb dX2_beginOne_103 (by decide) ?_
            obtain ⟨q51, g50, hf⟩ := ob_bind hf
            refine xc_i (xw_run (As := [.int 40]) (rest := []) ⟨hx, hb, hml, hown, hts⟩ (k0 := 0) (wkX2_opened l D dA E hE w 40 g50) (cwV 1 hts (lw_V q1705 q1707 qs89 q140 q1708) rfl rfl rfl cdX2_opened ⟨Nat.le_of_ble_eq_true rfl, Nat.le_of_ble_eq_true rfl⟩) hK hP (by decide) rfl rfl rfl hl.1 rfl rfl (Nat.le_of_ble_eq_true rfl) dX2_beginOne_105 ⟨Nat.zero_le _, Nat.zero_le _⟩) hS hD.2 (fun H locs hP hS => ?_)
            obtain rfl := ob_s hf
            subst hQ
            exact xe_i hx hb hr hlocks hP hS dX2_beginOne_108
        · replace hf := ob_f hf c14
          exact kj51 H locs ls hf hP hS (lv_sub hl [0, 1] rfl)
    refine lv_if_lt (tgt := 39) hx hb dX2_beginOne_26 (by decide) (fun c52 => ?_) (fun c52 => ?_)
    · replace hf := ob_t hf c52
      exact kj39 H locs ls hf hP hS (lv_sub hl [1, 0] rfl)
    · replace hf := ob_f hf c52
      refine lv_aload_n hx hb dX2_beginOne_29 rfl (lv_at hl 1 rfl) ?_
      refine lv_iload_n hx hb dX2_beginOne_30 rfl (lv_at hl 0 rfl) ?_
      obtain ⟨q54, g53, hf⟩ := ob_bind hf
      refine xc_z (xw_run (As := [.int q2]) (rest := []) ⟨hx, hb, hml, hown, hts⟩ (k0 := 0) (wkX2_isOf l D dA E hE w q2 g53) (cwV 1 hts (lw_V q1701 q1703 qs88 q140 q1704) rfl rfl rfl cdX2_isOf ⟨Nat.le_of_ble_eq_true rfl, Nat.le_of_ble_eq_true rfl⟩) hK hP (by decide) rfl rfl rfl hl.1 rfl rfl (Nat.le_of_ble_eq_true rfl) dX2_beginOne_31 ⟨Nat.zero_le _, Nat.zero_le _⟩) hS hD.2 (fun H locs zq54 hP hS => ?_)
      refine lv_if_ne (tgt := 39) hx hb dX2_beginOne_34 (by decide) (fun c55 => ?_) (fun c55 => ?_)
      · replace hf := ob_f hf c55
        exact kj39 H locs ls hf hP hS (lv_sub hl [1, 0] rfl)
      · replace hf := ob_t hf c55
        refine lv_iconst (v := 5) hx hb dX2_beginOne_37 (by decide) ?_
        obtain rfl := ob_s hf
        subst hQ
        exact xe_i hx hb hr hlocks hP hS dX2_beginOne_38
  refine lv_icmp_ne (tgt := 20) hx hb dX2_beginOne_5 (by decide) (fun c56 => ?_) (fun c56 => ?_)
  · replace hf := ob_f hf c56
    exact kj20 H locs ls hf hP hS (lv_sub hl [0] rfl)
  · replace hf := ob_t hf c56
    refine lv_aload_n hx hb dX2_beginOne_8 rfl (lv_at hl 0 rfl) ?_
    refine xr_get hx hb hts in_X2 hown hK hP 0 (by decide) rfl rfl 10 (by decide) (hts _ q1415) (fun _ h => h) rfl (v := .int (w.1 0 10)) rfl dX2_beginOne_9 ?_
    refine lv_sipush (v := 9999) hx hb dX2_beginOne_12 (by decide) ?_
    refine lv_icmp_le (tgt := 20) hx hb dX2_beginOne_15 (by decide) (fun c57 => ?_) (fun c57 => ?_)
    · replace hf := ob_t hf c57
      exact kj20 H locs ls hf hP hS (lv_sub hl [0] rfl)
    · replace hf := ob_f hf c57
      refine lv_iconst (v := 2) hx hb dX2_beginOne_18 (by decide) ?_
      obtain rfl := ob_s hf
      subst hQ
      exact xe_i hx hb hr hlocks hP hS dX2_beginOne_19
abbrev rmX2_summed : Room := { frames := 7, cells := 0, slots := 0, locals := 156 }
theorem cdX2_summed : yX2_summed.cls = RX2 ∧ yX2_summed.cls ≠ "java/lang/invoke/MethodHandle" ∧ yX2_summed.cls ≠ "java/lang/invoke/VarHandle" ∧ (parseMethodDescriptor yX2_summed.desc).map (fun d => d.parameters.length) = some 0 := by decide +kernel
set_option maxHeartbeats 4000000 in
set_option maxRecDepth 100000 in
theorem wkX2_summed (l : Launch) (D : va_G) (dA : Nat → ClassId) (E : Nat → Nat) (hE : wInj 19 E) (w : Mm)  {res : Int32 × Mm} (hf : M_summed w = some res) : Met l yX2_summed (ws_ yX2_summed cX2_summed 2 (some .int)) rmX2_summed (Pw D clM (tyM dA) shM 19 dA E [.ref (E 0)] w) (Qwi D clM shM 19 dA E res.1 res.2) 0 0 (AE 19 E) := by
  refine xm_head (own := RX2) (by decide) rfl (Nat.le_of_ble_eq_true rfl) ?_
  intro p e s m args below meth c ls Q hQ C hP hl
  obtain ⟨hx, hb, hr, hlocks, hml, hown, hts, hK⟩ := C
  replace hl : lv_has ls 2 [(0, .ref (E 0))] := hl
  have hS : va_S (AE 19 E) s.heap s.heap [] := va_S.rf
  have hD : wD 19 E (AE 19 E) := wD.self hE
  unfold M_summed at hf
  obtain ⟨H, eH⟩ : ∃ H, H = s.heap := ⟨_, rfl⟩
  obtain ⟨locs, eL⟩ : ∃ locs : List Loc, locs = [] := ⟨_, rfl⟩
  rw [← eL] at hS ⊢
  rw [← eH] at hP
  have hS : va_S (AE 19 E) s.heap H locs := by rw [eH]; exact hS
  show W p l e rmX2_summed s m args below meth c s.heap locs 0 0 Q (F0 m 0 ls [])
  rw [← eH]
  refine lv_aload_n hx hb dX2_summed_0 rfl (lv_at hl 0 rfl) ?_
  refine lv_iconst (v := 0) hx hb dX2_summed_1 (by decide) ?_
  obtain ⟨w1, ew1, hf⟩ := ob_bnd hf
  refine xr_put hx hb hts in_X2 tyX2 tyX2_ok nmX2 hown hK hP hD hS 0 (by decide) rfl rfl 16 (by decide) (hts _ q1421) (fun _ h => h) rfl rfl rfl rfl (w' := w1) ew1 dX2_summed_2 (fun H locs hP hS => ?_)
  refine lv_aload_n hx hb dX2_summed_5 rfl (lv_at hl 0 rfl) ?_
  refine lv_iconst (v := 0) hx hb dX2_summed_6 (by decide) ?_
  obtain ⟨w2, ew2, hf⟩ := ob_bnd hf
  refine xr_put hx hb hts in_X2 tyX2 tyX2_ok nmX2 hown hK hP hD hS 0 (by decide) rfl rfl 17 (by decide) (hts _ q1422) (fun _ h => h) rfl rfl rfl rfl (w' := w2) ew2 dX2_summed_7 (fun H locs hP hS => ?_)
  refine lv_aload_n hx hb dX2_summed_10 rfl (lv_at hl 0 rfl) ?_
  refine lv_iconst (v := 0) hx hb dX2_summed_11 (by decide) ?_
  obtain ⟨w3, ew3, hf⟩ := ob_bnd hf
  refine xr_put hx hb hts in_X2 tyX2 tyX2_ok nmX2 hown hK hP hD hS 0 (by decide) rfl rfl 18 (by decide) (hts _ q1423) (fun _ h => h) rfl (by decide +kernel) (by decide +kernel) rfl (w' := w3) ew3 dX2_summed_12 (fun H locs hP hS => ?_)
  obtain ⟨b5, hb5, hf⟩ := ob_bind hf
  obtain ⟨n5, hn5⟩ := lp_some hb5
  have kL15 : ∀ (n : Nat) (w4 : Mm), lpF (fun (q5 : Mm) => M_summed_b15 q5) n w4 = some b5 → (∀ (x5_0 : Mm × Int32), b5 = .inl x5_0 → ∀ (H : Heap) (locs : List Loc) (ls : Array Slot), va_P D clM (wl shM 19 dA E x5_0.1) H → va_S (AE 19 E) s.heap H locs → lv_has ls 2 [(1, .int x5_0.2)] → W p l e rmX2_summed s m args below meth c H locs 0 0 Q (F0 m 38 ls [])) → (∀ (x5_1 : Mm), b5 = .inr x5_1 → ∀ (H : Heap) (locs : List Loc) (ls : Array Slot), va_P D clM (wl shM 19 dA E x5_1) H → va_S (AE 19 E) s.heap H locs → lv_has ls 2 [(0, .ref (E 0))] → W p l e rmX2_summed s m args below meth c H locs 0 0 Q (F0 m 47 ls [])) → ∀ (H : Heap) (locs : List Loc) (ls : Array Slot), va_P D clM (wl shM 19 dA E w4) H → va_S (AE 19 E) s.heap H locs → lv_has ls 2 [(0, .ref (E 0))] → W p l e rmX2_summed s m args below meth c H locs 0 0 Q (F0 m 15 ls []) := by
    intro n
    induction n with
    | zero =>
      intro w4 h
      cases h
    | succ n ih =>
      intro w4 h K5_0 K5_1 H locs ls hP hS hl
      obtain ⟨r5, hf, h5a, h5b⟩ := lpF_step h
      replace hf : M_summed_b15 w4 = some r5 := hf
      unfold M_summed_b15 at hf
      refine lv_aload_n hx hb dX2_summed_15 rfl (lv_at hl 0 rfl) ?_
      refine xr_get hx hb hts in_X2 hown hK hP 0 (by decide) rfl rfl 18 (by decide) (hts _ q1423) (fun _ h => h) rfl (v := .int (w4.1 0 18)) rfl dX2_summed_16 ?_
      have kj33 : ∀ (t6 : Int32) (w7 : Mm) (H : Heap) (locs : List Loc) (ls : Array Slot), M_summed_j33 t6 w7 = some r5 → va_P D clM (wl shM 19 dA E w7) H → va_S (AE 19 E) s.heap H locs → lv_has ls 2 [(0, .ref (E 0))] → W p l e rmX2_summed s m args below meth c H locs 0 0 Q (F0 m 33 ls [.int t6]) := by
        intro t6 w7 H locs ls hf hP hS hl
        unfold M_summed_j33 at hf
        refine lv_istore_n (lv' := [(1, .int t6), (0, .ref (E 0))]) hx hb dX2_summed_33 rfl hl (by decide) rfl (fun ls hl => ?_)
        refine lv_iload_n hx hb dX2_summed_34 rfl (lv_at hl 0 rfl) ?_
        refine lv_if_le (tgt := 40) hx hb dX2_summed_35 (by decide) (fun c8 => ?_) (fun c8 => ?_)
        · replace hf := ob_t hf c8
          refine lv_iload_n hx hb dX2_summed_40 rfl (lv_at hl 0 rfl) ?_
          refine lv_if_ne (tgt := 47) hx hb dX2_summed_41 (by decide) (fun c9 => ?_) (fun c9 => ?_)
          · replace hf := ob_f hf c9
            obtain rfl := ob_s hf
            exact K5_1 _ (h5b _ rfl).symm H locs ls hP hS (lv_sub hl [1] rfl)
          · replace hf := ob_t hf c9
            refine lv_goto (tgt := 15) hx hb dX2_summed_44 (by decide) ?_
            obtain rfl := ob_s hf
            exact ih _ (h5a _ rfl) K5_0 K5_1 H locs ls hP hS (lv_sub hl [1] rfl)
        · replace hf := ob_f hf c8
          obtain rfl := ob_s hf
          exact K5_0 _ (h5b _ rfl).symm H locs ls hP hS (lv_sub hl [0] rfl)
      refine lv_if_eq (tgt := 29) hx hb dX2_summed_19 (by decide) (fun c10 => ?_) (fun c10 => ?_)
      · replace hf := ob_t hf c10
        refine lv_aload_n hx hb dX2_summed_29 rfl (lv_at hl 0 rfl) ?_
        obtain ⟨q12, g11, hf⟩ := ob_bind hf
        refine xc_i (xw_run (As := []) (rest := []) ⟨hx, hb, hml, hown, hts⟩ (k0 := 0) (wkX2_beginOne l D dA E hE w4 g11) (cwV 0 hts (lw_V q1693 q1695 qs86 q140 q1696) rfl rfl rfl cdX2_beginOne ⟨Nat.le_of_ble_eq_true rfl, Nat.le_of_ble_eq_true rfl⟩) hK hP (by decide) rfl rfl rfl hl.1 rfl rfl (Nat.le_of_ble_eq_true rfl) dX2_summed_30 ⟨Nat.zero_le _, Nat.zero_le _⟩) hS hD.2 (fun H locs hP hS => ?_)
        exact kj33 q12.1 q12.2 H locs ls hf hP hS (lv_sub hl [0] rfl)
      · replace hf := ob_f hf c10
        refine lv_aload_n hx hb dX2_summed_22 rfl (lv_at hl 0 rfl) ?_
        obtain ⟨q14, g13, hf⟩ := ob_bind hf
        refine xc_i (xw_run (As := []) (rest := []) ⟨hx, hb, hml, hown, hts⟩ (k0 := 0) (wkX2_behindOne l D dA E hE w4 g13) (cwV 0 hts (lw_V q1650 q1652 qs76 q140 q1653) rfl rfl rfl cdX2_behindOne ⟨Nat.le_of_ble_eq_true rfl, Nat.le_of_ble_eq_true rfl⟩) hK hP (by decide) rfl rfl rfl hl.1 rfl rfl (Nat.le_of_ble_eq_true rfl) dX2_summed_23 ⟨Nat.zero_le _, Nat.zero_le _⟩) hS hD.2 (fun H locs hP hS => ?_)
        refine lv_goto (tgt := 33) hx hb dX2_summed_26 (by decide) ?_
        exact kj33 q14.1 q14.2 H locs ls hf hP hS (lv_sub hl [0] rfl)
  refine kL15 n5 w3 hn5 (fun x5_0 ex5_0 H locs ls hP hS hl => ?_) (fun x5_1 ex5_1 H locs ls hP hS hl => ?_) H locs ls hP hS (lv_sub hl [0] rfl)
  · subst ex5_0
    replace hf : M_summed_x15_38 x5_0 = some res := hf
    unfold M_summed_x15_38 at hf
    refine lv_iload_n hx hb dX2_summed_38 rfl (lv_at hl 0 rfl) ?_
    obtain rfl := ob_s hf
    subst hQ
    exact xe_i hx hb hr hlocks hP hS dX2_summed_39
  · subst ex5_1
    replace hf : M_summed_x15_47 x5_1 = some res := hf
    unfold M_summed_x15_47 at hf
    refine lv_aload_n hx hb dX2_summed_47 rfl (lv_at hl 0 rfl) ?_
    obtain ⟨q16, g15, hf⟩ := ob_bind hf
    refine xc_i (xw_run (As := []) (rest := []) ⟨hx, hb, hml, hown, hts⟩ (k0 := 0) (wkX2_openNow l D dA E hE x5_1 g15) (cwV 0 hts (lw_V q1658 q1660 qs78 q140 q1661) rfl rfl rfl cdX2_openNow ⟨Nat.le_of_ble_eq_true rfl, Nat.le_of_ble_eq_true rfl⟩) hK hP (by decide) rfl rfl rfl hl.1 rfl rfl (Nat.le_of_ble_eq_true rfl) dX2_summed_48 ⟨Nat.zero_le _, Nat.zero_le _⟩) hS hD.2 (fun H locs hP hS => ?_)
    refine lv_if_lt (tgt := 56) hx hb dX2_summed_51 (by decide) (fun c17 => ?_) (fun c17 => ?_)
    · replace hf := ob_t hf c17
      refine lv_aload_n hx hb dX2_summed_56 rfl (lv_at hl 0 rfl) ?_
      refine lv_iconst (v := 1) hx hb dX2_summed_57 (by decide) ?_
      obtain ⟨q19, g18, hf⟩ := ob_bind hf
      refine xc_v (xw_run (As := [.int 1]) (rest := []) ⟨hx, hb, hml, hown, hts⟩ (k0 := 0) (wkX2_settle l D dA E hE x5_1 1 g18) (cwV 1 hts (lw_V q1677 q1679 qs82 q140 q1680) rfl rfl rfl cdX2_settle ⟨Nat.le_of_ble_eq_true rfl, Nat.le_of_ble_eq_true rfl⟩) hK hP (by decide) rfl rfl rfl hl.1 rfl rfl (Nat.le_of_ble_eq_true rfl) dX2_summed_58 ⟨Nat.zero_le _, Nat.zero_le _⟩) hS hD.2 (fun H locs hP hS => ?_)
      refine lv_iconst (v := 0) hx hb dX2_summed_61 (by decide) ?_
      obtain rfl := ob_s hf
      subst hQ
      exact xe_i hx hb hr hlocks hP hS dX2_summed_62
    · replace hf := ob_f hf c17
      refine lv_iconst (v := 1) hx hb dX2_summed_54 (by decide) ?_
      obtain rfl := ob_s hf
      subst hQ
      exact xe_i hx hb hr hlocks hP hS dX2_summed_55
abbrev rmX2_lawClause : Room := { frames := 8, cells := 0, slots := 0, locals := 177 }
theorem cdX2_lawClause : yX2_lawClause.cls = RX2 ∧ yX2_lawClause.cls ≠ "java/lang/invoke/MethodHandle" ∧ yX2_lawClause.cls ≠ "java/lang/invoke/VarHandle" ∧ (parseMethodDescriptor yX2_lawClause.desc).map (fun d => d.parameters.length) = some 1 := by decide +kernel
set_option maxHeartbeats 4000000 in
set_option maxRecDepth 100000 in
theorem wkX2_lawClause (l : Launch) (D : va_G) (dA : Nat → ClassId) (E : Nat → Nat) (hE : wInj 19 E) (w : Mm) (a1 : Int32) {res : Int32 × Mm} (hf : M_lawClause w a1 = some res) : Met l yX2_lawClause (ws_ yX2_lawClause cX2_lawClause 3 (some .int)) rmX2_lawClause (Pw D clM (tyM dA) shM 19 dA E [.ref (E 0), .int a1] w) (Qwi D clM shM 19 dA E res.1 res.2) 0 0 (AE 19 E) := by
  refine xm_head (own := RX2) (by decide) rfl (Nat.le_of_ble_eq_true rfl) ?_
  intro p e s m args below meth c ls Q hQ C hP hl
  obtain ⟨hx, hb, hr, hlocks, hml, hown, hts, hK⟩ := C
  replace hl : lv_has ls 3 [(0, .ref (E 0)), (1, .int a1)] := hl
  have hS : va_S (AE 19 E) s.heap s.heap [] := va_S.rf
  have hD : wD 19 E (AE 19 E) := wD.self hE
  unfold M_lawClause at hf
  obtain ⟨H, eH⟩ : ∃ H, H = s.heap := ⟨_, rfl⟩
  obtain ⟨locs, eL⟩ : ∃ locs : List Loc, locs = [] := ⟨_, rfl⟩
  rw [← eL] at hS ⊢
  rw [← eH] at hP
  have hS : va_S (AE 19 E) s.heap H locs := by rw [eH]; exact hS
  show W p l e rmX2_lawClause s m args below meth c s.heap locs 0 0 Q (F0 m 0 ls [])
  rw [← eH]
  refine lv_aload_n hx hb dX2_lawClause_0 rfl (lv_at hl 0 rfl) ?_
  refine xr_get hx hb hts in_X2 hown hK hP 0 (by decide) rfl rfl 2 (by decide) (hts _ q1407) (fun _ h => h) rfl (v := .ref (E 3)) rfl dX2_lawClause_1 ?_
  refine lv_iload_n hx hb dX2_lawClause_4 rfl (lv_at hl 1 rfl) ?_
  refine lv_iconst (v := 1) hx hb dX2_lawClause_5 (by decide) ?_
  refine lv_iadd hx hb dX2_lawClause_6 ?_
  refine lv_aload_n hx hb dX2_lawClause_7 rfl (lv_at hl 0 rfl) ?_
  refine xr_get hx hb hts in_X2 hown hK hP 0 (by decide) rfl rfl 13 (by decide) (hts _ q1418) (fun _ h => h) rfl (v := .int (w.1 0 13)) rfl dX2_lawClause_8 ?_
  obtain ⟨h1, hf⟩ := ob_gd hf
  obtain ⟨w2, ew2, hf⟩ := ob_bnd hf
  refine xr_iast hx hb hK hP hD hS 3 (by decide) rfl 0 rfl (j := (a1 + 1).toNatClampNeg) (w' := w2) h1 rfl ew2 dX2_lawClause_11 (fun H locs hP hS => ?_)
  refine lv_aload_n hx hb dX2_lawClause_12 rfl (lv_at hl 0 rfl) ?_
  obtain ⟨q4, g3, hf⟩ := ob_bind hf
  refine xc_i (xw_run (As := []) (rest := []) ⟨hx, hb, hml, hown, hts⟩ (k0 := 0) (wkX2_summed l D dA E hE w2 g3) (cwV 0 hts (lw_V q1646 q1648 qs75 q140 q1649) rfl rfl rfl cdX2_summed ⟨Nat.le_of_ble_eq_true rfl, Nat.le_of_ble_eq_true rfl⟩) hK hP (by decide) rfl rfl rfl hl.1 rfl rfl (Nat.le_of_ble_eq_true rfl) dX2_lawClause_13 ⟨Nat.zero_le _, Nat.zero_le _⟩) hS hD.2 (fun H locs hP hS => ?_)
  refine lv_istore_n (lv' := [(2, .int q4.1), (0, .ref (E 0)), (1, .int a1)]) hx hb dX2_lawClause_16 rfl hl (by decide) rfl (fun ls hl => ?_)
  refine lv_aload_n hx hb dX2_lawClause_17 rfl (lv_at hl 1 rfl) ?_
  refine xr_get hx hb hts in_X2 hown hK hP 0 (by decide) rfl rfl 2 (by decide) (hts _ q1407) (fun _ h => h) rfl (v := .ref (E 3)) rfl dX2_lawClause_18 ?_
  refine lv_iload_n hx hb dX2_lawClause_21 rfl (lv_at hl 2 rfl) ?_
  refine lv_iconst (v := 2) hx hb dX2_lawClause_22 (by decide) ?_
  refine lv_iadd hx hb dX2_lawClause_23 ?_
  refine lv_aload_n hx hb dX2_lawClause_24 rfl (lv_at hl 1 rfl) ?_
  refine xr_get hx hb hts in_X2 hown hK hP 0 (by decide) rfl rfl 13 (by decide) (hts _ q1418) (fun _ h => h) rfl (v := .int (q4.2.1 0 13)) rfl dX2_lawClause_25 ?_
  obtain ⟨h5, hf⟩ := ob_gd hf
  obtain ⟨w6, ew6, hf⟩ := ob_bnd hf
  refine xr_iast hx hb hK hP hD hS 3 (by decide) rfl 0 rfl (j := (a1 + 2).toNatClampNeg) (w' := w6) h5 rfl ew6 dX2_lawClause_28 (fun H locs hP hS => ?_)
  refine lv_iload_n hx hb dX2_lawClause_29 rfl (lv_at hl 0 rfl) ?_
  obtain rfl := ob_s hf
  subst hQ
  exact xe_i hx hb hr hlocks hP hS dX2_lawClause_30
abbrev rmX2_body : Room := { frames := 9, cells := 0, slots := 0, locals := 199 }
theorem cdX2_body : yX2_body.cls = RX2 ∧ yX2_body.cls ≠ "java/lang/invoke/MethodHandle" ∧ yX2_body.cls ≠ "java/lang/invoke/VarHandle" ∧ (parseMethodDescriptor yX2_body.desc).map (fun d => d.parameters.length) = some 2 := by decide +kernel
set_option maxHeartbeats 4000000 in
set_option maxRecDepth 100000 in
theorem wkX2_body (l : Launch) (D : va_G) (dA : Nat → ClassId) (E : Nat → Nat) (hE : wInj 19 E) (w : Mm) (a1 : Int32) (a2 : Int32) {res : Int32 × Mm} (hf : M_body w a1 a2 = some res) : Met l yX2_body (ws_ yX2_body cX2_body 3 (some .int)) rmX2_body (Pw D clM (tyM dA) shM 19 dA E [.ref (E 0), .int a1, .int a2] w) (Qwi D clM shM 19 dA E res.1 res.2) 0 0 (AE 19 E) := by
  refine xm_head (own := RX2) (by decide) rfl (Nat.le_of_ble_eq_true rfl) ?_
  intro p e s m args below meth c ls Q hQ C hP hl
  obtain ⟨hx, hb, hr, hlocks, hml, hown, hts, hK⟩ := C
  replace hl : lv_has ls 3 [(0, .ref (E 0)), (1, .int a1), (2, .int a2)] := hl
  have hS : va_S (AE 19 E) s.heap s.heap [] := va_S.rf
  have hD : wD 19 E (AE 19 E) := wD.self hE
  unfold M_body at hf
  obtain ⟨H, eH⟩ : ∃ H, H = s.heap := ⟨_, rfl⟩
  obtain ⟨locs, eL⟩ : ∃ locs : List Loc, locs = [] := ⟨_, rfl⟩
  rw [← eL] at hS ⊢
  rw [← eH] at hP
  have hS : va_S (AE 19 E) s.heap H locs := by rw [eH]; exact hS
  show W p l e rmX2_body s m args below meth c s.heap locs 0 0 Q (F0 m 0 ls [])
  rw [← eH]
  refine lv_iload_n hx hb dX2_body_0 rfl (lv_at hl 1 rfl) ?_
  by_cases c1 : a1 = 2
  · replace hf := ob_t hf c1
    refine lv_tableIn (tgt := 36) (off := 35) hx hb dX2_body_1 (by rw [c1]; decide) (by rw [c1]; decide) (by rw [c1]; rfl) (by decide) ?_
    refine lv_aload_n hx hb dX2_body_36 rfl (lv_at hl 0 rfl) ?_
    refine lv_iload_n hx hb dX2_body_37 rfl (lv_at hl 2 rfl) ?_
    obtain ⟨q3, g2, hf⟩ := ob_bind hf
    refine xc_i (xw_run (As := [.int a2]) (rest := []) ⟨hx, hb, hml, hown, hts⟩ (k0 := 0) (wkX2_quarrelClause l D dA E hE w a2 g2) (cwV 1 hts (lw_V q1630 q1632 qs71 q140 q1633) rfl rfl rfl cdX2_quarrelClause ⟨Nat.le_of_ble_eq_true rfl, Nat.le_of_ble_eq_true rfl⟩) hK hP (by decide) rfl rfl rfl hl.1 rfl rfl (Nat.le_of_ble_eq_true rfl) dX2_body_38 ⟨Nat.zero_le _, Nat.zero_le _⟩) hS hD.2 (fun H locs hP hS => ?_)
    obtain rfl := ob_s hf
    subst hQ
    exact xe_i hx hb hr hlocks hP hS dX2_body_41
  · replace hf := ob_f hf c1
    by_cases c4 : a1 = 3
    · replace hf := ob_t hf c4
      refine lv_tableIn (tgt := 42) (off := 41) hx hb dX2_body_1 (by rw [c4]; decide) (by rw [c4]; decide) (by rw [c4]; rfl) (by decide) ?_
      refine lv_aload_n hx hb dX2_body_42 rfl (lv_at hl 0 rfl) ?_
      refine lv_iload_n hx hb dX2_body_43 rfl (lv_at hl 2 rfl) ?_
      refine lv_iconst (v := 1) hx hb dX2_body_44 (by decide) ?_
      refine lv_iadd hx hb dX2_body_45 ?_
      refine lv_iconst (v := 0) hx hb dX2_body_46 (by decide) ?_
      refine lv_bipush (v := 7) hx hb dX2_body_47 (by decide) ?_
      obtain ⟨q6, g5, hf⟩ := ob_bind hf
      refine xc_i (xw_run (As := [.int (a2 + 1), .int 0, .int 7]) (rest := []) ⟨hx, hb, hml, hown, hts⟩ (k0 := 0) (wkX2_figure l D dA E hE w (a2 + 1) 0 7 g5) (cwV 3 hts (lw_V q1634 q1636 qs72 q140 q1637) rfl rfl rfl cdX2_figure ⟨Nat.le_of_ble_eq_true rfl, Nat.le_of_ble_eq_true rfl⟩) hK hP (by decide) rfl rfl rfl hl.1 rfl rfl (Nat.le_of_ble_eq_true rfl) dX2_body_49 ⟨Nat.zero_le _, Nat.zero_le _⟩) hS hD.2 (fun H locs hP hS => ?_)
      obtain rfl := ob_s hf
      subst hQ
      exact xe_i hx hb hr hlocks hP hS dX2_body_52
    · replace hf := ob_f hf c4
      by_cases c7 : a1 = 4
      · replace hf := ob_t hf c7
        refine lv_tableIn (tgt := 53) (off := 52) hx hb dX2_body_1 (by rw [c7]; decide) (by rw [c7]; decide) (by rw [c7]; rfl) (by decide) ?_
        refine lv_aload_n hx hb dX2_body_53 rfl (lv_at hl 0 rfl) ?_
        refine lv_iload_n hx hb dX2_body_54 rfl (lv_at hl 2 rfl) ?_
        refine lv_iconst (v := 1) hx hb dX2_body_55 (by decide) ?_
        refine lv_iadd hx hb dX2_body_56 ?_
        refine lv_iconst (v := 0) hx hb dX2_body_57 (by decide) ?_
        refine lv_bipush (v := 7) hx hb dX2_body_58 (by decide) ?_
        obtain ⟨q9, g8, hf⟩ := ob_bind hf
        refine xc_i (xw_run (As := [.int (a2 + 1), .int 0, .int 7]) (rest := []) ⟨hx, hb, hml, hown, hts⟩ (k0 := 0) (wkX2_figure l D dA E hE w (a2 + 1) 0 7 g8) (cwV 3 hts (lw_V q1634 q1636 qs72 q140 q1637) rfl rfl rfl cdX2_figure ⟨Nat.le_of_ble_eq_true rfl, Nat.le_of_ble_eq_true rfl⟩) hK hP (by decide) rfl rfl rfl hl.1 rfl rfl (Nat.le_of_ble_eq_true rfl) dX2_body_60 ⟨Nat.zero_le _, Nat.zero_le _⟩) hS hD.2 (fun H locs hP hS => ?_)
        obtain rfl := ob_s hf
        subst hQ
        exact xe_i hx hb hr hlocks hP hS dX2_body_63
      · replace hf := ob_f hf c7
        by_cases c10 : a1 = 5
        · replace hf := ob_t hf c10
          refine lv_tableIn (tgt := 64) (off := 63) hx hb dX2_body_1 (by rw [c10]; decide) (by rw [c10]; decide) (by rw [c10]; rfl) (by decide) ?_
          refine lv_aload_n hx hb dX2_body_64 rfl (lv_at hl 0 rfl) ?_
          refine lv_iload_n hx hb dX2_body_65 rfl (lv_at hl 2 rfl) ?_
          refine lv_iconst (v := 1) hx hb dX2_body_66 (by decide) ?_
          refine lv_iadd hx hb dX2_body_67 ?_
          refine lv_iconst (v := 1) hx hb dX2_body_68 (by decide) ?_
          refine lv_sipush (v := 999) hx hb dX2_body_69 (by decide) ?_
          obtain ⟨q12, g11, hf⟩ := ob_bind hf
          refine xc_i (xw_run (As := [.int (a2 + 1), .int 1, .int 999]) (rest := []) ⟨hx, hb, hml, hown, hts⟩ (k0 := 0) (wkX2_figure l D dA E hE w (a2 + 1) 1 999 g11) (cwV 3 hts (lw_V q1634 q1636 qs72 q140 q1637) rfl rfl rfl cdX2_figure ⟨Nat.le_of_ble_eq_true rfl, Nat.le_of_ble_eq_true rfl⟩) hK hP (by decide) rfl rfl rfl hl.1 rfl rfl (Nat.le_of_ble_eq_true rfl) dX2_body_72 ⟨Nat.zero_le _, Nat.zero_le _⟩) hS hD.2 (fun H locs hP hS => ?_)
          obtain rfl := ob_s hf
          subst hQ
          exact xe_i hx hb hr hlocks hP hS dX2_body_75
        · replace hf := ob_f hf c10
          by_cases c13 : a1 = 6
          · replace hf := ob_t hf c13
            refine lv_tableIn (tgt := 76) (off := 75) hx hb dX2_body_1 (by rw [c13]; decide) (by rw [c13]; decide) (by rw [c13]; rfl) (by decide) ?_
            refine lv_aload_n hx hb dX2_body_76 rfl (lv_at hl 0 rfl) ?_
            refine lv_iload_n hx hb dX2_body_77 rfl (lv_at hl 2 rfl) ?_
            refine lv_iconst (v := 1) hx hb dX2_body_78 (by decide) ?_
            refine lv_iadd hx hb dX2_body_79 ?_
            refine lv_iconst (v := 1) hx hb dX2_body_80 (by decide) ?_
            refine lv_bipush (v := 60) hx hb dX2_body_81 (by decide) ?_
            obtain ⟨q15, g14, hf⟩ := ob_bind hf
            refine xc_i (xw_run (As := [.int (a2 + 1), .int 1, .int 60]) (rest := []) ⟨hx, hb, hml, hown, hts⟩ (k0 := 0) (wkX2_figure l D dA E hE w (a2 + 1) 1 60 g14) (cwV 3 hts (lw_V q1634 q1636 qs72 q140 q1637) rfl rfl rfl cdX2_figure ⟨Nat.le_of_ble_eq_true rfl, Nat.le_of_ble_eq_true rfl⟩) hK hP (by decide) rfl rfl rfl hl.1 rfl rfl (Nat.le_of_ble_eq_true rfl) dX2_body_83 ⟨Nat.zero_le _, Nat.zero_le _⟩) hS hD.2 (fun H locs hP hS => ?_)
            obtain rfl := ob_s hf
            subst hQ
            exact xe_i hx hb hr hlocks hP hS dX2_body_86
          · replace hf := ob_f hf c13
            refine xr_tswD (tgt := 87) (vs := [2, 3, 4, 5, 6]) hx hb dX2_body_1 (List.forall_mem_cons.mpr ⟨c1, List.forall_mem_cons.mpr ⟨c4, List.forall_mem_cons.mpr ⟨c7, List.forall_mem_cons.mpr ⟨c10, List.forall_mem_cons.mpr ⟨c13, fun _ h => absurd h List.not_mem_nil⟩⟩⟩⟩⟩) (by decide +kernel) (by decide) ?_
            refine lv_aload_n hx hb dX2_body_87 rfl (lv_at hl 0 rfl) ?_
            refine lv_iload_n hx hb dX2_body_88 rfl (lv_at hl 2 rfl) ?_
            obtain ⟨q17, g16, hf⟩ := ob_bind hf
            refine xc_i (xw_run (As := [.int a2]) (rest := []) ⟨hx, hb, hml, hown, hts⟩ (k0 := 0) (wkX2_lawClause l D dA E hE w a2 g16) (cwV 1 hts (lw_V q1642 q1644 qs74 q140 q1645) rfl rfl rfl cdX2_lawClause ⟨Nat.le_of_ble_eq_true rfl, Nat.le_of_ble_eq_true rfl⟩) hK hP (by decide) rfl rfl rfl hl.1 rfl rfl (Nat.le_of_ble_eq_true rfl) dX2_body_89 ⟨Nat.zero_le _, Nat.zero_le _⟩) hS hD.2 (fun H locs hP hS => ?_)
            obtain rfl := ob_s hf
            subst hQ
            exact xe_i hx hb hr hlocks hP hS dX2_body_92
abbrev rmX2_clause : Room := { frames := 10, cells := 0, slots := 0, locals := 221 }
theorem cdX2_clause : yX2_clause.cls = RX2 ∧ yX2_clause.cls ≠ "java/lang/invoke/MethodHandle" ∧ yX2_clause.cls ≠ "java/lang/invoke/VarHandle" ∧ (parseMethodDescriptor yX2_clause.desc).map (fun d => d.parameters.length) = some 0 := by decide +kernel
set_option maxHeartbeats 4000000 in
set_option maxRecDepth 100000 in
theorem wkX2_clause (l : Launch) (D : va_G) (dA : Nat → ClassId) (E : Nat → Nat) (hE : wInj 19 E) (w : Mm)  {res : Int32 × Mm} (hf : M_clause w = some res) : Met l yX2_clause (ws_ yX2_clause cX2_clause 5 (some .int)) rmX2_clause (Pw D clM (tyM dA) shM 19 dA E [.ref (E 0)] w) (Qwi D clM shM 19 dA E res.1 res.2) 0 0 (AE 19 E) := by
  refine xm_head (own := RX2) (by decide) rfl (Nat.le_of_ble_eq_true rfl) ?_
  intro p e s m args below meth c ls Q hQ C hP hl
  obtain ⟨hx, hb, hr, hlocks, hml, hown, hts, hK⟩ := C
  replace hl : lv_has ls 5 [(0, .ref (E 0))] := hl
  have hS : va_S (AE 19 E) s.heap s.heap [] := va_S.rf
  have hD : wD 19 E (AE 19 E) := wD.self hE
  unfold M_clause at hf
  obtain ⟨H, eH⟩ : ∃ H, H = s.heap := ⟨_, rfl⟩
  obtain ⟨locs, eL⟩ : ∃ locs : List Loc, locs = [] := ⟨_, rfl⟩
  rw [← eL] at hS ⊢
  rw [← eH] at hP
  have hS : va_S (AE 19 E) s.heap H locs := by rw [eH]; exact hS
  show W p l e rmX2_clause s m args below meth c s.heap locs 0 0 Q (F0 m 0 ls [])
  rw [← eH]
  refine lv_aload_n hx hb dX2_clause_0 rfl (lv_at hl 0 rfl) ?_
  obtain ⟨q2, g1, hf⟩ := ob_bind hf
  refine xc_i (xw_run (As := []) (rest := []) ⟨hx, hb, hml, hown, hts⟩ (k0 := 0) (wkX2_sortOf l D dA E hE w g1) (cwV 0 hts (lw_V q1596 q1598 qs67 q140 q1599) rfl rfl rfl cdX2_sortOf ⟨Nat.le_of_ble_eq_true rfl, Nat.le_of_ble_eq_true rfl⟩) hK hP (by decide) rfl rfl rfl hl.1 rfl rfl (Nat.le_of_ble_eq_true rfl) dX2_clause_1 ⟨Nat.zero_le _, Nat.zero_le _⟩) hS hD.2 (fun H locs hP hS => ?_)
  refine lv_istore_n (lv' := [(1, .int q2), (0, .ref (E 0))]) hx hb dX2_clause_4 rfl hl (by decide) rfl (fun ls hl => ?_)
  refine lv_iload_n hx hb dX2_clause_5 rfl (lv_at hl 0 rfl) ?_
  refine lv_if_ge (tgt := 11) hx hb dX2_clause_6 (by decide) (fun c3 => ?_) (fun c3 => ?_)
  · replace hf := ob_t hf c3
    refine lv_iload_n hx hb dX2_clause_11 rfl (lv_at hl 0 rfl) ?_
    refine lv_iconst (v := 1) hx hb dX2_clause_12 (by decide) ?_
    have kj29 : ∀ (H : Heap) (locs : List Loc) (ls : Array Slot), M_clause_j29 w q2 = some res → va_P D clM (wl shM 19 dA E w) H → va_S (AE 19 E) s.heap H locs → lv_has ls 5 [(0, .ref (E 0)), (1, .int q2)] → W p l e rmX2_clause s m args below meth c H locs 0 0 Q (F0 m 29 ls []) := by
      intro H locs ls hf hP hS hl
      unfold M_clause_j29 at hf
      refine lv_aload_n hx hb dX2_clause_29 rfl (lv_at hl 0 rfl) ?_
      refine xr_get hx hb hts in_X2 hown hK hP 0 (by decide) rfl rfl 2 (by decide) (hts _ q1407) (fun _ h => h) rfl (v := .ref (E 3)) rfl dX2_clause_30 ?_
      refine lv_aload_n hx hb dX2_clause_33 rfl (lv_at hl 0 rfl) ?_
      refine xr_get hx hb hts in_X2 hown hK hP 0 (by decide) rfl rfl 12 (by decide) (hts _ q1417) (fun _ h => h) rfl (v := .int (w.1 0 12)) rfl dX2_clause_34 ?_
      obtain ⟨h4, hf⟩ := ob_gd hf
      refine xr_iald hx hb hK hP 3 (by decide) rfl 0 rfl (j := (w.1 0 12).toNatClampNeg) h4 rfl dX2_clause_37 ?_
      obtain ⟨v2_5, ev2_5, hf⟩ := ob_bnd hf
      refine xn_i ev2_5 ?_
      refine lv_istore_n (lv' := [(2, .int v2_5), (0, .ref (E 0)), (1, .int q2)]) hx hb dX2_clause_38 rfl hl (by decide) rfl (fun ls hl => ?_)
      refine lv_iload_n hx hb dX2_clause_39 rfl (lv_at hl 0 rfl) ?_
      refine lv_bipush (v := 24) hx hb dX2_clause_40 (by decide) ?_
      refine lv_icmp_ne (tgt := 48) hx hb dX2_clause_42 (by decide) (fun c6 => ?_) (fun c6 => ?_)
      · replace hf := ob_f hf c6
        refine lv_iload_n hx hb dX2_clause_48 rfl (lv_at hl 2 rfl) ?_
        refine lv_iconst (v := 1) hx hb dX2_clause_49 (by decide) ?_
        have kj65 : ∀ (w7 : Mm) (H : Heap) (locs : List Loc) (ls : Array Slot), M_clause_j65 w7 q2 v2_5 = some res → va_P D clM (wl shM 19 dA E w7) H → va_S (AE 19 E) s.heap H locs → lv_has ls 5 [(0, .ref (E 0)), (1, .int q2), (2, .int v2_5)] → W p l e rmX2_clause s m args below meth c H locs 0 0 Q (F0 m 65 ls []) := by
          intro w7 H locs ls hf hP hS hl
          unfold M_clause_j65 at hf
          refine lv_aload_n hx hb dX2_clause_65 rfl (lv_at hl 0 rfl) ?_
          refine lv_iload_n hx hb dX2_clause_66 rfl (lv_at hl 1 rfl) ?_
          obtain ⟨w8, ew8, hf⟩ := ob_bnd hf
          refine xr_put hx hb hts in_X2 tyX2 tyX2_ok nmX2 hown hK hP hD hS 0 (by decide) rfl rfl 14 (by decide) (hts _ q1419) (fun _ h => h) rfl rfl rfl rfl (w' := w8) ew8 dX2_clause_67 (fun H locs hP hS => ?_)
          refine lv_aload_n hx hb dX2_clause_70 rfl (lv_at hl 0 rfl) ?_
          obtain ⟨q10, g9, hf⟩ := ob_bind hf
          refine xc_v (xw_run (As := []) (rest := []) ⟨hx, hb, hml, hown, hts⟩ (k0 := 0) (wkX2_nextToken l D dA E hE w8 g9) (cwV 0 hts (lw_V q1573 q1575 qs64 q140 q1576) rfl rfl rfl cdX2_nextToken ⟨Nat.le_of_ble_eq_true rfl, Nat.le_of_ble_eq_true rfl⟩) hK hP (by decide) rfl rfl rfl hl.1 rfl rfl (Nat.le_of_ble_eq_true rfl) dX2_clause_71 ⟨Nat.zero_le _, Nat.zero_le _⟩) hS hD.2 (fun H locs hP hS => ?_)
          refine lv_aload_n hx hb dX2_clause_74 rfl (lv_at hl 0 rfl) ?_
          refine xr_get hx hb hts in_X2 hown hK hP 0 (by decide) rfl rfl 12 (by decide) (hts _ q1417) (fun _ h => h) rfl (v := .int (q10.1 0 12)) rfl dX2_clause_75 ?_
          refine lv_iconst (v := 1) hx hb dX2_clause_78 (by decide) ?_
          refine lv_iadd hx hb dX2_clause_79 ?_
          refine lv_iconst (v := 4) hx hb dX2_clause_80 (by decide) ?_
          refine lv_iload_n hx hb dX2_clause_81 rfl (lv_at hl 2 rfl) ?_
          refine lv_imul hx hb dX2_clause_82 ?_
          refine lv_iadd hx hb dX2_clause_83 ?_
          obtain ⟨v3_11, ev3_11, hf⟩ := ob_bnd hf
          refine xn_i ev3_11 ?_
          refine lv_istore_n (lv' := [(3, .int v3_11), (0, .ref (E 0)), (1, .int q2), (2, .int v2_5)]) hx hb dX2_clause_84 rfl hl (by decide) rfl (fun ls hl => ?_)
          refine lv_aload_n hx hb dX2_clause_85 rfl (lv_at hl 1 rfl) ?_
          refine xr_get hx hb hts in_X2 hown hK hP 0 (by decide) rfl rfl 2 (by decide) (hts _ q1407) (fun _ h => h) rfl (v := .ref (E 3)) rfl dX2_clause_86 ?_
          refine lv_iload_n hx hb dX2_clause_89 rfl (lv_at hl 0 rfl) ?_
          refine lv_iload_n hx hb dX2_clause_90 rfl (lv_at hl 2 rfl) ?_
          obtain ⟨h12, hf⟩ := ob_gd hf
          obtain ⟨w13, ew13, hf⟩ := ob_bnd hf
          refine xr_iast hx hb hK hP hD hS 3 (by decide) rfl 0 rfl (j := v3_11.toNatClampNeg) (w' := w13) h12 rfl ew13 dX2_clause_91 (fun H locs hP hS => ?_)
          refine lv_aload_n hx hb dX2_clause_92 rfl (lv_at hl 1 rfl) ?_
          refine lv_iload_n hx hb dX2_clause_93 rfl (lv_at hl 2 rfl) ?_
          refine lv_iload_n hx hb dX2_clause_94 rfl (lv_at hl 0 rfl) ?_
          obtain ⟨q15, g14, hf⟩ := ob_bind hf
          refine xc_i (xw_run (As := [.int q2, .int v3_11]) (rest := []) ⟨hx, hb, hml, hown, hts⟩ (k0 := 0) (wkX2_body l D dA E hE w13 q2 v3_11 g14) (cwV 2 hts (lw_V q1626 q1628 qs70 q140 q1629) rfl rfl rfl cdX2_body ⟨Nat.le_of_ble_eq_true rfl, Nat.le_of_ble_eq_true rfl⟩) hK hP (by decide) rfl rfl rfl hl.1 rfl rfl (Nat.le_of_ble_eq_true rfl) dX2_clause_95 ⟨Nat.zero_le _, Nat.zero_le _⟩) hS hD.2 (fun H locs hP hS => ?_)
          refine lv_istore (lv' := [(4, .int q15.1), (3, .int v3_11), (0, .ref (E 0)), (1, .int q2), (2, .int v2_5)]) hx hb dX2_clause_98 hl (by decide) rfl (fun ls hl => ?_)
          refine lv_iload hx hb dX2_clause_100 (lv_at hl 0 rfl) ?_
          refine lv_if_eq (tgt := 108) hx hb dX2_clause_102 (by decide) (fun c16 => ?_) (fun c16 => ?_)
          · replace hf := ob_t hf c16
            refine lv_aload_n hx hb dX2_clause_108 rfl (lv_at hl 2 rfl) ?_
            refine xr_get hx hb hts in_X2 hown hK hP 0 (by decide) rfl rfl 2 (by decide) (hts _ q1407) (fun _ h => h) rfl (v := .ref (E 3)) rfl dX2_clause_109 ?_
            refine lv_aload_n hx hb dX2_clause_112 rfl (lv_at hl 2 rfl) ?_
            refine xr_get hx hb hts in_X2 hown hK hP 0 (by decide) rfl rfl 12 (by decide) (hts _ q1417) (fun _ h => h) rfl (v := .int (q15.2.1 0 12)) rfl dX2_clause_113 ?_
            refine lv_dup2_11 hx hb dX2_clause_116 rfl rfl ?_
            obtain ⟨h17, hf⟩ := ob_gd hf
            refine xr_iald hx hb hK hP 3 (by decide) rfl 0 rfl (j := (q15.2.1 0 12).toNatClampNeg) h17 rfl dX2_clause_117 ?_
            refine lv_iconst (v := 1) hx hb dX2_clause_118 (by decide) ?_
            refine lv_iadd hx hb dX2_clause_119 ?_
            obtain ⟨h18, hf⟩ := ob_gd hf
            obtain ⟨w19, ew19, hf⟩ := ob_bnd hf
            refine xr_iast hx hb hK hP hD hS 3 (by decide) rfl 0 rfl (j := (q15.2.1 0 12).toNatClampNeg) (w' := w19) h18 rfl ew19 dX2_clause_120 (fun H locs hP hS => ?_)
            refine lv_aload_n hx hb dX2_clause_121 rfl (lv_at hl 2 rfl) ?_
            refine xr_get hx hb hts in_X2 hown hK hP 0 (by decide) rfl rfl 9 (by decide) (hts _ q1414) (fun _ h => h) rfl (v := .int (w19.1 0 9)) rfl dX2_clause_122 ?_
            refine lv_bipush (v := 59) hx hb dX2_clause_125 (by decide) ?_
            refine lv_icmp_eq (tgt := 132) hx hb dX2_clause_127 (by decide) (fun c20 => ?_) (fun c20 => ?_)
            · replace hf := ob_t hf c20
              refine lv_aload_n hx hb dX2_clause_132 rfl (lv_at hl 2 rfl) ?_
              obtain ⟨q22, g21, hf⟩ := ob_bind hf
              refine xc_v (xw_run (As := []) (rest := []) ⟨hx, hb, hml, hown, hts⟩ (k0 := 0) (wkX2_nextToken l D dA E hE w19 g21) (cwV 0 hts (lw_V q1573 q1575 qs64 q140 q1576) rfl rfl rfl cdX2_nextToken ⟨Nat.le_of_ble_eq_true rfl, Nat.le_of_ble_eq_true rfl⟩) hK hP (by decide) rfl rfl rfl hl.1 rfl rfl (Nat.le_of_ble_eq_true rfl) dX2_clause_133 ⟨Nat.zero_le _, Nat.zero_le _⟩) hS hD.2 (fun H locs hP hS => ?_)
              refine lv_iconst (v := 0) hx hb dX2_clause_136 (by decide) ?_
              obtain rfl := ob_s hf
              subst hQ
              exact xe_i hx hb hr hlocks hP hS dX2_clause_137
            · replace hf := ob_f hf c20
              refine lv_iconst (v := 1) hx hb dX2_clause_130 (by decide) ?_
              obtain rfl := ob_s hf
              subst hQ
              exact xe_i hx hb hr hlocks hP hS dX2_clause_131
          · replace hf := ob_f hf c16
            refine lv_iload hx hb dX2_clause_105 (lv_at hl 0 rfl) ?_
            obtain rfl := ob_s hf
            subst hQ
            exact xe_i hx hb hr hlocks hP hS dX2_clause_107
        refine lv_icmp_gt (tgt := 65) hx hb dX2_clause_50 (by decide) (fun c23 => ?_) (fun c23 => ?_)
        · replace hf := ob_t hf c23
          exact kj65 w H locs ls hf hP hS (lv_sub hl [1, 2, 0] rfl)
        · replace hf := ob_f hf c23
          refine lv_aload_n hx hb dX2_clause_53 rfl (lv_at hl 1 rfl) ?_
          refine lv_dup hx hb dX2_clause_54 rfl ?_
          refine xr_get hx hb hts in_X2 hown hK hP 0 (by decide) rfl rfl 19 (by decide) (hts _ q1424) (fun _ h => h) rfl (v := .int (w.1 0 19)) rfl dX2_clause_55 ?_
          refine lv_iconst (v := 1) hx hb dX2_clause_58 (by decide) ?_
          refine lv_iload_n hx hb dX2_clause_59 rfl (lv_at hl 2 rfl) ?_
          refine lv_ishl hx hb dX2_clause_60 ?_
          refine lv_ior hx hb dX2_clause_61 ?_
          obtain ⟨w24, ew24, hf⟩ := ob_bnd hf
          refine xr_put hx hb hts in_X2 tyX2 tyX2_ok nmX2 hown hK hP hD hS 0 (by decide) rfl rfl 19 (by decide) (hts _ q1424) (fun _ h => h) rfl rfl rfl rfl (w' := w24) ew24 dX2_clause_62 (fun H locs hP hS => ?_)
          exact kj65 w24 H locs ls hf hP hS (lv_sub hl [1, 2, 0] rfl)
      · replace hf := ob_t hf c6
        refine lv_bipush (v := 6) hx hb dX2_clause_45 (by decide) ?_
        obtain rfl := ob_s hf
        subst hQ
        exact xe_i hx hb hr hlocks hP hS dX2_clause_47
    refine lv_icmp_gt (tgt := 29) hx hb dX2_clause_13 (by decide) (fun c25 => ?_) (fun c25 => ?_)
    · replace hf := ob_t hf c25
      exact kj29 H locs ls hf hP hS (lv_sub hl [1, 0] rfl)
    · replace hf := ob_f hf c25
      refine lv_aload_n hx hb dX2_clause_16 rfl (lv_at hl 1 rfl) ?_
      refine xr_get hx hb hts in_X2 hown hK hP 0 (by decide) rfl rfl 19 (by decide) (hts _ q1424) (fun _ h => h) rfl (v := .int (w.1 0 19)) rfl dX2_clause_17 ?_
      refine lv_iload_n hx hb dX2_clause_20 rfl (lv_at hl 0 rfl) ?_
      obtain ⟨q27, g26, hf⟩ := ob_bind hf
      refine xc_z (xw_runS (As := [.int (w.1 0 19), .int q2]) (rest := []) ⟨hx, hb, hml, hown, hts⟩ (wkX2_has l D dA E hE w (w.1 0 19) q2 g26) (va_cwS 2 hts (lw_S q1623 q1624 q140 q1625) rfl rfl rfl cdX2_has.2 ⟨Nat.le_of_ble_eq_true rfl, Nat.le_of_ble_eq_true rfl⟩) hK hP hl.1 rfl rfl (Nat.le_of_ble_eq_true rfl) dX2_clause_21 ⟨Nat.zero_le _, Nat.zero_le _⟩) hS hD.2 (fun H locs zq27 hP hS => ?_)
      refine lv_if_eq (tgt := 29) hx hb dX2_clause_24 (by decide) (fun c28 => ?_) (fun c28 => ?_)
      · replace hf := ob_t hf c28
        exact kj29 H locs ls hf hP hS (lv_sub hl [1, 0] rfl)
      · replace hf := ob_f hf c28
        refine lv_iconst (v := 4) hx hb dX2_clause_27 (by decide) ?_
        obtain rfl := ob_s hf
        subst hQ
        exact xe_i hx hb hr hlocks hP hS dX2_clause_28
  · replace hf := ob_f hf c3
    refine lv_iconst (v := 1) hx hb dX2_clause_9 (by decide) ?_
    obtain rfl := ob_s hf
    subst hQ
    exact xe_i hx hb hr hlocks hP hS dX2_clause_10
abbrev rmX2_readText : Room := { frames := 11, cells := 0, slots := 0, locals := 245 }
theorem cdX2_readText : yX2_readText.cls = RX2 ∧ yX2_readText.cls ≠ "java/lang/invoke/MethodHandle" ∧ yX2_readText.cls ≠ "java/lang/invoke/VarHandle" ∧ (parseMethodDescriptor yX2_readText.desc).map (fun d => d.parameters.length) = some 0 := by decide +kernel
set_option maxHeartbeats 4000000 in
set_option maxRecDepth 100000 in
theorem wkX2_readText (l : Launch) (D : va_G) (dA : Nat → ClassId) (E : Nat → Nat) (hE : wInj 19 E) (w : Mm)  {res : Int32 × Mm} (hf : M_readText w = some res) : Met l yX2_readText (ws_ yX2_readText cX2_readText 2 (some .int)) rmX2_readText (Pw D clM (tyM dA) shM 19 dA E [.ref (E 0)] w) (Qwi D clM shM 19 dA E res.1 res.2) 0 0 (AE 19 E) := by
  refine xm_head (own := RX2) (by decide) rfl (Nat.le_of_ble_eq_true rfl) ?_
  intro p e s m args below meth c ls Q hQ C hP hl
  obtain ⟨hx, hb, hr, hlocks, hml, hown, hts, hK⟩ := C
  replace hl : lv_has ls 2 [(0, .ref (E 0))] := hl
  have hS : va_S (AE 19 E) s.heap s.heap [] := va_S.rf
  have hD : wD 19 E (AE 19 E) := wD.self hE
  unfold M_readText at hf
  obtain ⟨H, eH⟩ : ∃ H, H = s.heap := ⟨_, rfl⟩
  obtain ⟨locs, eL⟩ : ∃ locs : List Loc, locs = [] := ⟨_, rfl⟩
  rw [← eL] at hS ⊢
  rw [← eH] at hP
  have hS : va_S (AE 19 E) s.heap H locs := by rw [eH]; exact hS
  show W p l e rmX2_readText s m args below meth c s.heap locs 0 0 Q (F0 m 0 ls [])
  rw [← eH]
  refine lv_aload_n hx hb dX2_readText_0 rfl (lv_at hl 0 rfl) ?_
  refine lv_sipush (v := 705) hx hb dX2_readText_1 (by decide) ?_
  refine lv_aload_n hx hb dX2_readText_4 rfl (lv_at hl 0 rfl) ?_
  refine xr_get hx hb hts in_X2 hown hK hP 0 (by decide) rfl rfl 0 (by decide) (hts _ q1405) (fun _ h => h) rfl (v := .ref (E 1)) rfl dX2_readText_5 ?_
  refine lv_iconst (v := 1) hx hb dX2_readText_8 (by decide) ?_
  refine xr_iald hx hb hK hP 1 (by decide) rfl 0 rfl (j := 1) (vin_c (by decide)) (by decide) dX2_readText_9 ?_
  refine lv_imul hx hb dX2_readText_10 ?_
  obtain ⟨w1, ew1, hf⟩ := ob_bnd hf
  refine xr_put hx hb hts in_X2 tyX2 tyX2_ok nmX2 hown hK hP hD hS 0 (by decide) rfl rfl 12 (by decide) (hts _ q1417) (fun _ h => h) rfl rfl rfl rfl (w' := w1) ew1 dX2_readText_11 (fun H locs hP hS => ?_)
  refine lv_aload_n hx hb dX2_readText_14 rfl (lv_at hl 0 rfl) ?_
  refine xr_get hx hb hts in_X2 hown hK hP 0 (by decide) rfl rfl 2 (by decide) (hts _ q1407) (fun _ h => h) rfl (v := .ref (E 3)) rfl dX2_readText_15 ?_
  refine lv_aload_n hx hb dX2_readText_18 rfl (lv_at hl 0 rfl) ?_
  refine xr_get hx hb hts in_X2 hown hK hP 0 (by decide) rfl rfl 12 (by decide) (hts _ q1417) (fun _ h => h) rfl (v := .int (w1.1 0 12)) rfl dX2_readText_19 ?_
  refine lv_iconst (v := 0) hx hb dX2_readText_22 (by decide) ?_
  obtain ⟨h2, hf⟩ := ob_gd hf
  obtain ⟨w3, ew3, hf⟩ := ob_bnd hf
  refine xr_iast hx hb hK hP hD hS 3 (by decide) rfl 0 rfl (j := (w1.1 0 12).toNatClampNeg) (w' := w3) h2 rfl ew3 dX2_readText_23 (fun H locs hP hS => ?_)
  refine lv_aload_n hx hb dX2_readText_24 rfl (lv_at hl 0 rfl) ?_
  refine lv_iconst (v := 0) hx hb dX2_readText_25 (by decide) ?_
  obtain ⟨w4, ew4, hf⟩ := ob_bnd hf
  refine xr_put hx hb hts in_X2 tyX2 tyX2_ok nmX2 hown hK hP hD hS 0 (by decide) rfl rfl 13 (by decide) (hts _ q1418) (fun _ h => h) rfl rfl rfl rfl (w' := w4) ew4 dX2_readText_26 (fun H locs hP hS => ?_)
  refine lv_aload_n hx hb dX2_readText_29 rfl (lv_at hl 0 rfl) ?_
  refine lv_iconst (v := 0) hx hb dX2_readText_30 (by decide) ?_
  obtain ⟨w5, ew5, hf⟩ := ob_bnd hf
  refine xr_put hx hb hts in_X2 tyX2 tyX2_ok nmX2 hown hK hP hD hS 0 (by decide) rfl rfl 19 (by decide) (hts _ q1424) (fun _ h => h) rfl rfl rfl rfl (w' := w5) ew5 dX2_readText_31 (fun H locs hP hS => ?_)
  refine lv_aload_n hx hb dX2_readText_34 rfl (lv_at hl 0 rfl) ?_
  refine lv_iconst (v := 0) hx hb dX2_readText_35 (by decide) ?_
  obtain ⟨w6, ew6, hf⟩ := ob_bnd hf
  refine xr_put hx hb hts in_X2 tyX2 tyX2_ok nmX2 hown hK hP hD hS 0 (by decide) rfl rfl 7 (by decide) (hts _ q1412) (fun _ h => h) rfl rfl rfl rfl (w' := w6) ew6 dX2_readText_36 (fun H locs hP hS => ?_)
  refine lv_aload_n hx hb dX2_readText_39 rfl (lv_at hl 0 rfl) ?_
  obtain ⟨q8, g7, hf⟩ := ob_bind hf
  refine xc_v (xw_run (As := []) (rest := []) ⟨hx, hb, hml, hown, hts⟩ (k0 := 0) (wkX2_nextToken l D dA E hE w6 g7) (cwV 0 hts (lw_V q1573 q1575 qs64 q140 q1576) rfl rfl rfl cdX2_nextToken ⟨Nat.le_of_ble_eq_true rfl, Nat.le_of_ble_eq_true rfl⟩) hK hP (by decide) rfl rfl rfl hl.1 rfl rfl (Nat.le_of_ble_eq_true rfl) dX2_readText_40 ⟨Nat.zero_le _, Nat.zero_le _⟩) hS hD.2 (fun H locs hP hS => ?_)
  obtain ⟨b10, hb10, hf⟩ := ob_bind hf
  obtain ⟨n10, hn10⟩ := lp_some hb10
  have kL43 : ∀ (n : Nat) (w9 : Mm), lpF (fun (q10 : Mm) => M_readText_b43 q10) n w9 = some b10 → (∀ (x10_0 : Mm × Int32), b10 = .inl x10_0 → ∀ (H : Heap) (locs : List Loc) (ls : Array Slot), va_P D clM (wl shM 19 dA E x10_0.1) H → va_S (AE 19 E) s.heap H locs → lv_has ls 2 [(1, .int x10_0.2)] → W p l e rmX2_readText s m args below meth c H locs 0 0 Q (F0 m 59 ls [])) → (∀ (x10_1 : Mm), b10 = .inr x10_1 → ∀ (H : Heap) (locs : List Loc) (ls : Array Slot), va_P D clM (wl shM 19 dA E x10_1) H → va_S (AE 19 E) s.heap H locs → lv_has ls 2 [] → W p l e rmX2_readText s m args below meth c H locs 0 0 Q (F0 m 64 ls [])) → ∀ (H : Heap) (locs : List Loc) (ls : Array Slot), va_P D clM (wl shM 19 dA E w9) H → va_S (AE 19 E) s.heap H locs → lv_has ls 2 [(0, .ref (E 0))] → W p l e rmX2_readText s m args below meth c H locs 0 0 Q (F0 m 43 ls []) := by
    intro n
    induction n with
    | zero =>
      intro w9 h
      cases h
    | succ n ih =>
      intro w9 h K10_0 K10_1 H locs ls hP hS hl
      obtain ⟨r10, hf, h10a, h10b⟩ := lpF_step h
      replace hf : M_readText_b43 w9 = some r10 := hf
      unfold M_readText_b43 at hf
      refine lv_aload_n hx hb dX2_readText_43 rfl (lv_at hl 0 rfl) ?_
      refine xr_get hx hb hts in_X2 hown hK hP 0 (by decide) rfl rfl 9 (by decide) (hts _ q1414) (fun _ h => h) rfl (v := .int (w9.1 0 9)) rfl dX2_readText_44 ?_
      refine lv_if_eq (tgt := 64) hx hb dX2_readText_47 (by decide) (fun c11 => ?_) (fun c11 => ?_)
      · replace hf := ob_t hf c11
        obtain rfl := ob_s hf
        exact K10_1 _ (h10b _ rfl).symm H locs ls hP hS (lv_sub hl [] rfl)
      · replace hf := ob_f hf c11
        refine lv_aload_n hx hb dX2_readText_50 rfl (lv_at hl 0 rfl) ?_
        obtain ⟨q13, g12, hf⟩ := ob_bind hf
        refine xc_i (xw_run (As := []) (rest := []) ⟨hx, hb, hml, hown, hts⟩ (k0 := 0) (wkX2_clause l D dA E hE w9 g12) (cwV 0 hts (lw_V q1592 q1594 qs66 q140 q1595) rfl rfl rfl cdX2_clause ⟨Nat.le_of_ble_eq_true rfl, Nat.le_of_ble_eq_true rfl⟩) hK hP (by decide) rfl rfl rfl hl.1 rfl rfl (Nat.le_of_ble_eq_true rfl) dX2_readText_51 ⟨Nat.zero_le _, Nat.zero_le _⟩) hS hD.2 (fun H locs hP hS => ?_)
        refine lv_istore_n (lv' := [(1, .int q13.1), (0, .ref (E 0))]) hx hb dX2_readText_54 rfl hl (by decide) rfl (fun ls hl => ?_)
        refine lv_iload_n hx hb dX2_readText_55 rfl (lv_at hl 0 rfl) ?_
        refine lv_if_eq (tgt := 61) hx hb dX2_readText_56 (by decide) (fun c14 => ?_) (fun c14 => ?_)
        · replace hf := ob_t hf c14
          refine lv_goto (tgt := 43) hx hb dX2_readText_61 (by decide) ?_
          obtain rfl := ob_s hf
          exact ih _ (h10a _ rfl) K10_0 K10_1 H locs ls hP hS (lv_sub hl [1] rfl)
        · replace hf := ob_f hf c14
          obtain rfl := ob_s hf
          exact K10_0 _ (h10b _ rfl).symm H locs ls hP hS (lv_sub hl [0] rfl)
  refine kL43 n10 q8 hn10 (fun x10_0 ex10_0 H locs ls hP hS hl => ?_) (fun x10_1 ex10_1 H locs ls hP hS hl => ?_) H locs ls hP hS (lv_sub hl [0] rfl)
  · subst ex10_0
    replace hf : M_readText_x43_59 x10_0 = some res := hf
    unfold M_readText_x43_59 at hf
    refine lv_iload_n hx hb dX2_readText_59 rfl (lv_at hl 0 rfl) ?_
    obtain rfl := ob_s hf
    subst hQ
    exact xe_i hx hb hr hlocks hP hS dX2_readText_60
  · subst ex10_1
    replace hf : M_readText_x43_64 x10_1 = some res := hf
    unfold M_readText_x43_64 at hf
    refine lv_iconst (v := 0) hx hb dX2_readText_64 (by decide) ?_
    obtain rfl := ob_s hf
    subst hQ
    exact xe_i hx hb hr hlocks hP hS dX2_readText_65
abbrev rmX2_text : Room := { frames := 12, cells := 0, slots := 0, locals := 266 }
theorem cdX2_text : yX2_text.cls = RX2 ∧ yX2_text.cls ≠ "java/lang/invoke/MethodHandle" ∧ yX2_text.cls ≠ "java/lang/invoke/VarHandle" ∧ (parseMethodDescriptor yX2_text.desc).map (fun d => d.parameters.length) = some 0 := by decide +kernel
set_option maxHeartbeats 4000000 in
set_option maxRecDepth 100000 in
theorem wkX2_text (l : Launch) (D : va_G) (dA : Nat → ClassId) (E : Nat → Nat) (hE : wInj 19 E) (w : Mm)  {res : Int32 × Mm} (hf : M_text w = some res) : Met l yX2_text (ws_ yX2_text cX2_text 1 (some .int)) rmX2_text (Pw D clM (tyM dA) shM 19 dA E [.ref (E 0)] w) (Qwi D clM shM 19 dA E res.1 res.2) 0 0 (AE 19 E) := by
  refine xm_head (own := RX2) (by decide) rfl (Nat.le_of_ble_eq_true rfl) ?_
  intro p e s m args below meth c ls Q hQ C hP hl
  obtain ⟨hx, hb, hr, hlocks, hml, hown, hts, hK⟩ := C
  replace hl : lv_has ls 1 [(0, .ref (E 0))] := hl
  have hS : va_S (AE 19 E) s.heap s.heap [] := va_S.rf
  have hD : wD 19 E (AE 19 E) := wD.self hE
  unfold M_text at hf
  obtain ⟨H, eH⟩ : ∃ H, H = s.heap := ⟨_, rfl⟩
  obtain ⟨locs, eL⟩ : ∃ locs : List Loc, locs = [] := ⟨_, rfl⟩
  rw [← eL] at hS ⊢
  rw [← eH] at hP
  have hS : va_S (AE 19 E) s.heap H locs := by rw [eH]; exact hS
  show W p l e rmX2_text s m args below meth c s.heap locs 0 0 Q (F0 m 0 ls [])
  rw [← eH]
  refine lv_aload_n hx hb dX2_text_0 rfl (lv_at hl 0 rfl) ?_
  refine xr_get hx hb hts in_X2 hown hK hP 0 (by decide) rfl rfl 0 (by decide) (hts _ q1405) (fun _ h => h) rfl (v := .ref (E 1)) rfl dX2_text_1 ?_
  refine lv_iconst (v := 1) hx hb dX2_text_4 (by decide) ?_
  refine xr_iald hx hb hK hP 1 (by decide) rfl 0 rfl (j := 1) (vin_c (by decide)) (by decide) dX2_text_5 ?_
  refine lv_iconst (v := 4) hx hb dX2_text_6 (by decide) ?_
  refine lv_icmp_ne (tgt := 12) hx hb dX2_text_7 (by decide) (fun c1 => ?_) (fun c1 => ?_)
  · replace hf := ob_f hf c1
    refine lv_aload_n hx hb dX2_text_12 rfl (lv_at hl 0 rfl) ?_
    refine lv_aload_n hx hb dX2_text_13 rfl (lv_at hl 0 rfl) ?_
    obtain ⟨q3, g2, hf⟩ := ob_bind hf
    refine xc_i (xw_run (As := []) (rest := [.ref (E 0)]) ⟨hx, hb, hml, hown, hts⟩ (k0 := 0) (wkX2_readText l D dA E hE w g2) (cwV 0 hts (lw_V q1569 q1571 qs63 q140 q1572) rfl rfl rfl cdX2_readText ⟨Nat.le_of_ble_eq_true rfl, Nat.le_of_ble_eq_true rfl⟩) hK hP (by decide) rfl rfl rfl hl.1 rfl rfl (Nat.le_of_ble_eq_true rfl) dX2_text_14 ⟨Nat.zero_le _, Nat.zero_le _⟩) hS hD.2 (fun H locs hP hS => ?_)
    obtain ⟨w4, ew4, hf⟩ := ob_bnd hf
    refine xr_put hx hb hts in_X2 tyX2 tyX2_ok nmX2 hown hK hP hD hS 0 (by decide) rfl rfl 5 (by decide) (hts _ q1410) (fun _ h => h) rfl rfl rfl rfl (w' := w4) ew4 dX2_text_17 (fun H locs hP hS => ?_)
    refine lv_aload_n hx hb dX2_text_20 rfl (lv_at hl 0 rfl) ?_
    refine lv_aload_n hx hb dX2_text_21 rfl (lv_at hl 0 rfl) ?_
    refine xr_get hx hb hts in_X2 hown hK hP 0 (by decide) rfl rfl 5 (by decide) (hts _ q1410) (fun _ h => h) rfl (v := .int (w4.1 0 5)) rfl dX2_text_22 ?_
    have kj36 : ∀ (t5 : Int32) (H : Heap) (locs : List Loc) (ls : Array Slot), M_text_j36 w4 t5 = some res → va_P D clM (wl shM 19 dA E w4) H → va_S (AE 19 E) s.heap H locs → lv_has ls 1 [(0, .ref (E 0))] → W p l e rmX2_text s m args below meth c H locs 0 0 Q (F0 m 36 ls [.int t5, .ref (E 0)]) := by
      intro t5 H locs ls hf hP hS hl
      unfold M_text_j36 at hf
      obtain ⟨w6, ew6, hf⟩ := ob_bnd hf
      refine xr_put hx hb hts in_X2 tyX2 tyX2_ok nmX2 hown hK hP hD hS 0 (by decide) rfl rfl 6 (by decide) (hts _ q1411) (fun _ h => h) rfl rfl rfl rfl (w' := w6) ew6 dX2_text_36 (fun H locs hP hS => ?_)
      refine lv_aload_n hx hb dX2_text_39 rfl (lv_at hl 0 rfl) ?_
      refine lv_iconst (v := 0) hx hb dX2_text_40 (by decide) ?_
      obtain ⟨w7, ew7, hf⟩ := ob_bnd hf
      refine xr_put hx hb hts in_X2 tyX2 tyX2_ok nmX2 hown hK hP hD hS 0 (by decide) rfl rfl 4 (by decide) (hts _ q1409) (fun _ h => h) rfl rfl rfl rfl (w' := w7) ew7 dX2_text_41 (fun H locs hP hS => ?_)
      refine lv_aload_n hx hb dX2_text_44 rfl (lv_at hl 0 rfl) ?_
      refine xr_get hx hb hts in_X2 hown hK hP 0 (by decide) rfl rfl 5 (by decide) (hts _ q1410) (fun _ h => h) rfl (v := .int (w7.1 0 5)) rfl dX2_text_45 ?_
      refine lv_if_eq (tgt := 53) hx hb dX2_text_48 (by decide) (fun c8 => ?_) (fun c8 => ?_)
      · replace hf := ob_t hf c8
        refine lv_aload_n hx hb dX2_text_53 rfl (lv_at hl 0 rfl) ?_
        refine xr_get hx hb hts in_X2 hown hK hP 0 (by decide) rfl rfl 0 (by decide) (hts _ q1405) (fun _ h => h) rfl (v := .ref (E 1)) rfl dX2_text_54 ?_
        refine lv_iconst (v := 1) hx hb dX2_text_57 (by decide) ?_
        refine lv_dup2_11 hx hb dX2_text_58 rfl rfl ?_
        refine xr_iald hx hb hK hP 1 (by decide) rfl 0 rfl (j := 1) (vin_c (by decide)) (by decide) dX2_text_59 ?_
        refine lv_iconst (v := 1) hx hb dX2_text_60 (by decide) ?_
        refine lv_iadd hx hb dX2_text_61 ?_
        obtain ⟨w9, ew9, hf⟩ := ob_bnd hf
        refine xr_iast hx hb hK hP hD hS 1 (by decide) rfl 0 rfl (j := 1) (w' := w9) (vin_c (by decide)) (by decide) ew9 dX2_text_62 (fun H locs hP hS => ?_)
        refine lv_aload_n hx hb dX2_text_63 rfl (lv_at hl 0 rfl) ?_
        refine xr_get hx hb hts in_X2 hown hK hP 0 (by decide) rfl rfl 0 (by decide) (hts _ q1405) (fun _ h => h) rfl (v := .ref (E 1)) rfl dX2_text_64 ?_
        refine lv_iconst (v := 1) hx hb dX2_text_67 (by decide) ?_
        refine xr_iald hx hb hK hP 1 (by decide) rfl 0 rfl (j := 1) (vin_c (by decide)) (by decide) dX2_text_68 ?_
        refine lv_iconst (v := 1) hx hb dX2_text_69 (by decide) ?_
        refine lv_isub hx hb dX2_text_70 ?_
        obtain rfl := ob_s hf
        subst hQ
        exact xe_i hx hb hr hlocks hP hS dX2_text_71
      · replace hf := ob_f hf c8
        refine lv_iconst (v := (-1)) hx hb dX2_text_51 (by decide) ?_
        obtain rfl := ob_s hf
        subst hQ
        exact xe_i hx hb hr hlocks hP hS dX2_text_52
    refine lv_if_ne (tgt := 32) hx hb dX2_text_25 (by decide) (fun c10 => ?_) (fun c10 => ?_)
    · replace hf := ob_f hf c10
      refine lv_aload_n hx hb dX2_text_32 rfl (lv_at hl 0 rfl) ?_
      refine xr_get hx hb hts in_X2 hown hK hP 0 (by decide) rfl rfl 8 (by decide) (hts _ q1413) (fun _ h => h) rfl (v := .int (w4.1 0 8)) rfl dX2_text_33 ?_
      exact kj36 (w4.1 0 8) H locs ls hf hP hS (lv_sub hl [0] rfl)
    · replace hf := ob_t hf c10
      refine lv_iconst (v := (-1)) hx hb dX2_text_28 (by decide) ?_
      refine lv_goto (tgt := 36) hx hb dX2_text_29 (by decide) ?_
      exact kj36 (-1) H locs ls hf hP hS (lv_sub hl [0] rfl)
  · replace hf := ob_t hf c1
    refine lv_iconst (v := (-1)) hx hb dX2_text_10 (by decide) ?_
    obtain rfl := ob_s hf
    subst hQ
    exact xe_i hx hb hr hlocks hP hS dX2_text_11
abbrev rmX2_fault : Room := { frames := 0, cells := 0, slots := 0, locals := 0 }
theorem cdX2_fault : yX2_fault.cls = RX2 ∧ yX2_fault.cls ≠ "java/lang/invoke/MethodHandle" ∧ yX2_fault.cls ≠ "java/lang/invoke/VarHandle" ∧ (parseMethodDescriptor yX2_fault.desc).map (fun d => d.parameters.length) = some 1 := by decide +kernel
set_option maxHeartbeats 4000000 in
set_option maxRecDepth 100000 in
theorem wkX2_fault (l : Launch) (D : va_G) (dA : Nat → ClassId) (E : Nat → Nat) (hE : wInj 19 E) (w : Mm) (a1 : Int32) {res : Int32} (hf : M_fault w a1 = some res) : Met l yX2_fault (ws_ yX2_fault cX2_fault 2 (some .int)) rmX2_fault (Pw D clM (tyM dA) shM 19 dA E [.ref (E 0), .int a1] w) (Qwi D clM shM 19 dA E res w) 0 0 (AE 19 E) := by
  refine xm_head (own := RX2) (by decide) rfl (Nat.le_of_ble_eq_true rfl) ?_
  intro p e s m args below meth c ls Q hQ C hP hl
  obtain ⟨hx, hb, hr, hlocks, hml, hown, hts, hK⟩ := C
  replace hl : lv_has ls 2 [(0, .ref (E 0)), (1, .int a1)] := hl
  have hS : va_S (AE 19 E) s.heap s.heap [] := va_S.rf
  have hD : wD 19 E (AE 19 E) := wD.self hE
  unfold M_fault at hf
  obtain ⟨H, eH⟩ : ∃ H, H = s.heap := ⟨_, rfl⟩
  obtain ⟨locs, eL⟩ : ∃ locs : List Loc, locs = [] := ⟨_, rfl⟩
  rw [← eL] at hS ⊢
  rw [← eH] at hP
  have hS : va_S (AE 19 E) s.heap H locs := by rw [eH]; exact hS
  show W p l e rmX2_fault s m args below meth c s.heap locs 0 0 Q (F0 m 0 ls [])
  rw [← eH]
  refine lv_iload_n hx hb dX2_fault_0 rfl (lv_at hl 1 rfl) ?_
  refine lv_if_ne (tgt := 11) hx hb dX2_fault_1 (by decide) (fun c1 => ?_) (fun c1 => ?_)
  · replace hf := ob_f hf c1
    refine lv_iload_n hx hb dX2_fault_11 rfl (lv_at hl 1 rfl) ?_
    refine lv_iconst (v := 1) hx hb dX2_fault_12 (by decide) ?_
    refine lv_icmp_ne (tgt := 23) hx hb dX2_fault_13 (by decide) (fun c2 => ?_) (fun c2 => ?_)
    · replace hf := ob_f hf c2
      refine lv_iconst (v := (-1)) hx hb dX2_fault_23 (by decide) ?_
      obtain rfl := ob_s hf
      subst hQ
      exact xe_i hx hb hr hlocks hP hS dX2_fault_24
    · replace hf := ob_t hf c2
      refine lv_aload_n hx hb dX2_fault_16 rfl (lv_at hl 0 rfl) ?_
      refine xr_get hx hb hts in_X2 hown hK hP 0 (by decide) rfl rfl 6 (by decide) (hts _ q1411) (fun _ h => h) rfl (v := .int (w.1 0 6)) rfl dX2_fault_17 ?_
      refine lv_goto (tgt := 24) hx hb dX2_fault_20 (by decide) ?_
      obtain rfl := ob_s hf
      subst hQ
      exact xe_i hx hb hr hlocks hP hS dX2_fault_24
  · replace hf := ob_t hf c1
    refine lv_aload_n hx hb dX2_fault_4 rfl (lv_at hl 0 rfl) ?_
    refine xr_get hx hb hts in_X2 hown hK hP 0 (by decide) rfl rfl 5 (by decide) (hts _ q1410) (fun _ h => h) rfl (v := .int (w.1 0 5)) rfl dX2_fault_5 ?_
    refine lv_goto (tgt := 24) hx hb dX2_fault_8 (by decide) ?_
    obtain rfl := ob_s hf
    subst hQ
    exact xe_i hx hb hr hlocks hP hS dX2_fault_24
abbrev rmX2_by : Room := { frames := 1, cells := 0, slots := 0, locals := 22 }
theorem cdX2_by : yX2_by.cls = RX2 ∧ yX2_by.cls ≠ "java/lang/invoke/MethodHandle" ∧ yX2_by.cls ≠ "java/lang/invoke/VarHandle" ∧ (parseMethodDescriptor yX2_by.desc).map (fun d => d.parameters.length) = some 1 := by decide +kernel
set_option maxHeartbeats 4000000 in
set_option maxRecDepth 100000 in
theorem wkX2_by (l : Launch) (D : va_G) (dA : Nat → ClassId) (E : Nat → Nat) (hE : wInj 19 E) (w : Mm) (a1 : Int32) {res : Int32 × Mm} (hf : M_by w a1 = some res) : Met l yX2_by (ws_ yX2_by cX2_by 2 (some .boolean)) rmX2_by (Pw D clM (tyM dA) shM 19 dA E [.ref (E 0), .int a1] w) (Qwz D clM shM 19 dA E res.1 res.2) 0 0 (AE 19 E) := by
  refine xm_head (own := RX2) (by decide) rfl (Nat.le_of_ble_eq_true rfl) ?_
  intro p e s m args below meth c ls Q hQ C hP hl
  obtain ⟨hx, hb, hr, hlocks, hml, hown, hts, hK⟩ := C
  replace hl : lv_has ls 2 [(0, .ref (E 0)), (1, .int a1)] := hl
  have hS : va_S (AE 19 E) s.heap s.heap [] := va_S.rf
  have hD : wD 19 E (AE 19 E) := wD.self hE
  unfold M_by at hf
  obtain ⟨H, eH⟩ : ∃ H, H = s.heap := ⟨_, rfl⟩
  obtain ⟨locs, eL⟩ : ∃ locs : List Loc, locs = [] := ⟨_, rfl⟩
  rw [← eL] at hS ⊢
  rw [← eH] at hP
  have hS : va_S (AE 19 E) s.heap H locs := by rw [eH]; exact hS
  show W p l e rmX2_by s m args below meth c s.heap locs 0 0 Q (F0 m 0 ls [])
  rw [← eH]
  refine lv_iload_n hx hb dX2_by_0 rfl (lv_at hl 1 rfl) ?_
  refine lv_iconst (v := (-1)) hx hb dX2_by_1 (by decide) ?_
  refine lv_aload_n hx hb dX2_by_2 rfl (lv_at hl 0 rfl) ?_
  refine xr_get hx hb hts in_X2 hown hK hP 0 (by decide) rfl rfl 0 (by decide) (hts _ q1405) (fun _ h => h) rfl (v := .ref (E 1)) rfl dX2_by_3 ?_
  refine lv_iconst (v := 1) hx hb dX2_by_6 (by decide) ?_
  refine xr_iald hx hb hK hP 1 (by decide) rfl 0 rfl (j := 1) (vin_c (by decide)) (by decide) dX2_by_7 ?_
  refine lv_iconst (v := 1) hx hb dX2_by_8 (by decide) ?_
  refine lv_isub hx hb dX2_by_9 ?_
  obtain ⟨q2, g1, hf⟩ := ob_bind hf
  refine xc_z (xw_runS (As := [.int a1, .int (-1), .int ((w.1 1 1) - 1)]) (rest := []) ⟨hx, hb, hml, hown, hts⟩ (wkX2_isIn l D dA E hE w a1 (-1) ((w.1 1 1) - 1) g1) (va_cwS 3 hts (lw_S q1538 q1539 q140 q1540) rfl rfl rfl cdX2_isIn.2 ⟨Nat.le_of_ble_eq_true rfl, Nat.le_of_ble_eq_true rfl⟩) hK hP hl.1 rfl rfl (Nat.le_of_ble_eq_true rfl) dX2_by_10 ⟨Nat.zero_le _, Nat.zero_le _⟩) hS hD.2 (fun H locs zq2 hP hS => ?_)
  refine lv_if_ne (tgt := 18) hx hb dX2_by_13 (by decide) (fun c3 => ?_) (fun c3 => ?_)
  · replace hf := ob_f hf c3
    refine lv_aload_n hx hb dX2_by_18 rfl (lv_at hl 0 rfl) ?_
    refine xr_get hx hb hts in_X2 hown hK hP 0 (by decide) rfl rfl 0 (by decide) (hts _ q1405) (fun _ h => h) rfl (v := .ref (E 1)) rfl dX2_by_19 ?_
    refine lv_iconst (v := 2) hx hb dX2_by_22 (by decide) ?_
    refine lv_iload_n hx hb dX2_by_23 rfl (lv_at hl 1 rfl) ?_
    obtain ⟨w4, ew4, hf⟩ := ob_bnd hf
    refine xr_iast hx hb hK hP hD hS 1 (by decide) rfl 0 rfl (j := 2) (w' := w4) (vin_c (by decide)) (by decide) ew4 dX2_by_24 (fun H locs hP hS => ?_)
    refine lv_iconst (v := 1) hx hb dX2_by_25 (by decide) ?_
    obtain rfl := ob_s hf
    subst hQ
    exact xe_z hx hb hr hlocks hP hS (Or.inr rfl) dX2_by_26
  · replace hf := ob_t hf c3
    refine lv_iconst (v := 0) hx hb dX2_by_16 (by decide) ?_
    obtain rfl := ob_s hf
    subst hQ
    exact xe_z hx hb hr hlocks hP hS (Or.inl rfl) dX2_by_17
abbrev rmX2_undo : Room := { frames := 1, cells := 0, slots := 0, locals := 21 }
theorem cdX2_undo : yX2_undo.cls = RX2 ∧ yX2_undo.cls ≠ "java/lang/invoke/MethodHandle" ∧ yX2_undo.cls ≠ "java/lang/invoke/VarHandle" ∧ (parseMethodDescriptor yX2_undo.desc).map (fun d => d.parameters.length) = some 0 := by decide +kernel
set_option maxHeartbeats 4000000 in
set_option maxRecDepth 100000 in
theorem wkX2_undo (l : Launch) (D : va_G) (dA : Nat → ClassId) (E : Nat → Nat) (hE : wInj 19 E) (w : Mm)  {res : Int32 × Mm} (hf : M_undo w = some res) : Met l yX2_undo (ws_ yX2_undo cX2_undo 3 (some .int)) rmX2_undo (Pw D clM (tyM dA) shM 19 dA E [.ref (E 0)] w) (Qwi D clM shM 19 dA E res.1 res.2) 0 0 (AE 19 E) := by
  refine xm_head (own := RX2) (by decide) rfl (Nat.le_of_ble_eq_true rfl) ?_
  intro p e s m args below meth c ls Q hQ C hP hl
  obtain ⟨hx, hb, hr, hlocks, hml, hown, hts, hK⟩ := C
  replace hl : lv_has ls 3 [(0, .ref (E 0))] := hl
  have hS : va_S (AE 19 E) s.heap s.heap [] := va_S.rf
  have hD : wD 19 E (AE 19 E) := wD.self hE
  unfold M_undo at hf
  obtain ⟨H, eH⟩ : ∃ H, H = s.heap := ⟨_, rfl⟩
  obtain ⟨locs, eL⟩ : ∃ locs : List Loc, locs = [] := ⟨_, rfl⟩
  rw [← eL] at hS ⊢
  rw [← eH] at hP
  have hS : va_S (AE 19 E) s.heap H locs := by rw [eH]; exact hS
  show W p l e rmX2_undo s m args below meth c s.heap locs 0 0 Q (F0 m 0 ls [])
  rw [← eH]
  refine lv_aload_n hx hb dX2_undo_0 rfl (lv_at hl 0 rfl) ?_
  refine xr_get hx hb hts in_X2 hown hK hP 0 (by decide) rfl rfl 0 (by decide) (hts _ q1405) (fun _ h => h) rfl (v := .ref (E 1)) rfl dX2_undo_1 ?_
  refine lv_iconst (v := 3) hx hb dX2_undo_4 (by decide) ?_
  refine xr_iald hx hb hK hP 1 (by decide) rfl 0 rfl (j := 3) (vin_c (by decide)) (by decide) dX2_undo_5 ?_
  refine lv_if_ne (tgt := 11) hx hb dX2_undo_6 (by decide) (fun c1 => ?_) (fun c1 => ?_)
  · replace hf := ob_f hf c1
    refine lv_aload_n hx hb dX2_undo_11 rfl (lv_at hl 0 rfl) ?_
    refine xr_get hx hb hts in_X2 hown hK hP 0 (by decide) rfl rfl 0 (by decide) (hts _ q1405) (fun _ h => h) rfl (v := .ref (E 1)) rfl dX2_undo_12 ?_
    refine lv_iconst (v := 3) hx hb dX2_undo_15 (by decide) ?_
    refine lv_dup2_11 hx hb dX2_undo_16 rfl rfl ?_
    refine xr_iald hx hb hK hP 1 (by decide) rfl 0 rfl (j := 3) (vin_c (by decide)) (by decide) dX2_undo_17 ?_
    refine lv_iconst (v := 1) hx hb dX2_undo_18 (by decide) ?_
    refine lv_isub hx hb dX2_undo_19 ?_
    obtain ⟨w2, ew2, hf⟩ := ob_bnd hf
    refine xr_iast hx hb hK hP hD hS 1 (by decide) rfl 0 rfl (j := 3) (w' := w2) (vin_c (by decide)) (by decide) ew2 dX2_undo_20 (fun H locs hP hS => ?_)
    refine lv_bipush (v := 115) hx hb dX2_undo_21 (by decide) ?_
    refine lv_bipush (v := 90) hx hb dX2_undo_23 (by decide) ?_
    refine lv_aload_n hx hb dX2_undo_25 rfl (lv_at hl 0 rfl) ?_
    refine xr_get hx hb hts in_X2 hown hK hP 0 (by decide) rfl rfl 0 (by decide) (hts _ q1405) (fun _ h => h) rfl (v := .ref (E 1)) rfl dX2_undo_26 ?_
    refine lv_iconst (v := 3) hx hb dX2_undo_29 (by decide) ?_
    refine xr_iald hx hb hK hP 1 (by decide) rfl 0 rfl (j := 3) (vin_c (by decide)) (by decide) dX2_undo_30 ?_
    refine lv_imul hx hb dX2_undo_31 ?_
    refine lv_iadd hx hb dX2_undo_32 ?_
    obtain ⟨v1_3, ev1_3, hf⟩ := ob_bnd hf
    refine xn_i ev1_3 ?_
    refine lv_istore_n (lv' := [(1, .int v1_3), (0, .ref (E 0))]) hx hb dX2_undo_33 rfl hl (by decide) rfl (fun ls hl => ?_)
    refine lv_iconst (v := 0) hx hb dX2_undo_34 (by decide) ?_
    refine lv_istore_n (lv' := [(2, .int 0), (1, .int v1_3), (0, .ref (E 0))]) hx hb dX2_undo_35 rfl hl (by decide) rfl (fun ls hl => ?_)
    obtain ⟨b6, hb6, hf⟩ := ob_bind hf
    obtain ⟨n6, hn6⟩ := lp_some hb6
    have kL36 : ∀ (n : Nat) (w4 : Mm) (v2_5 : Int32), lpF (fun (q6 : Mm × Int32) => M_undo_b36 v1_3 q6.1 q6.2) n (w4, v2_5) = some b6 → (∀ (H : Heap) (locs : List Loc) (ls : Array Slot), va_P D clM (wl shM 19 dA E b6) H → va_S (AE 19 E) s.heap H locs → lv_has ls 3 [(0, .ref (E 0)), (1, .int v1_3)] → W p l e rmX2_undo s m args below meth c H locs 0 0 Q (F0 m 67 ls [])) → ∀ (H : Heap) (locs : List Loc) (ls : Array Slot), va_P D clM (wl shM 19 dA E w4) H → va_S (AE 19 E) s.heap H locs → lv_has ls 3 [(0, .ref (E 0)), (1, .int v1_3), (2, .int v2_5)] → W p l e rmX2_undo s m args below meth c H locs 0 0 Q (F0 m 36 ls []) := by
      intro n
      induction n with
      | zero =>
        intro w4 v2_5 h
        cases h
      | succ n ih =>
        intro w4 v2_5 h K6_0 H locs ls hP hS hl
        obtain ⟨r6, hf, h6a, h6b⟩ := lpF_step h
        replace hf : M_undo_b36 v1_3 w4 v2_5 = some r6 := hf
        unfold M_undo_b36 at hf
        refine lv_iload_n hx hb dX2_undo_36 rfl (lv_at hl 2 rfl) ?_
        refine lv_bipush (v := 29) hx hb dX2_undo_37 (by decide) ?_
        refine lv_icmp_ge (tgt := 67) hx hb dX2_undo_39 (by decide) (fun c7 => ?_) (fun c7 => ?_)
        · replace hf := ob_t hf c7
          obtain rfl := ob_s hf
          obtain rfl := h6b _ rfl
          exact K6_0 H locs ls hP hS (lv_sub hl [0, 1] rfl)
        · replace hf := ob_f hf c7
          refine lv_aload_n hx hb dX2_undo_42 rfl (lv_at hl 0 rfl) ?_
          refine xr_get hx hb hts in_X2 hown hK hP 0 (by decide) rfl rfl 0 (by decide) (hts _ q1405) (fun _ h => h) rfl (v := .ref (E 1)) rfl dX2_undo_43 ?_
          refine lv_bipush (v := 7) hx hb dX2_undo_46 (by decide) ?_
          refine lv_iload_n hx hb dX2_undo_48 rfl (lv_at hl 2 rfl) ?_
          refine lv_iadd hx hb dX2_undo_49 ?_
          refine lv_aload_n hx hb dX2_undo_50 rfl (lv_at hl 0 rfl) ?_
          refine xr_get hx hb hts in_X2 hown hK hP 0 (by decide) rfl rfl 0 (by decide) (hts _ q1405) (fun _ h => h) rfl (v := .ref (E 1)) rfl dX2_undo_51 ?_
          refine lv_iload_n hx hb dX2_undo_54 rfl (lv_at hl 1 rfl) ?_
          refine lv_iconst (v := 1) hx hb dX2_undo_55 (by decide) ?_
          refine lv_iadd hx hb dX2_undo_56 ?_
          refine lv_iload_n hx hb dX2_undo_57 rfl (lv_at hl 2 rfl) ?_
          refine lv_iadd hx hb dX2_undo_58 ?_
          obtain ⟨h8, hf⟩ := ob_gd hf
          refine xr_iald hx hb hK hP 1 (by decide) rfl 0 rfl (j := ((v1_3 + 1) + v2_5).toNatClampNeg) h8 rfl dX2_undo_59 ?_
          obtain ⟨h9, hf⟩ := ob_gd hf
          obtain ⟨w10, ew10, hf⟩ := ob_bnd hf
          refine xr_iast hx hb hK hP hD hS 1 (by decide) rfl 0 rfl (j := (7 + v2_5).toNatClampNeg) (w' := w10) h9 rfl ew10 dX2_undo_60 (fun H locs hP hS => ?_)
          obtain ⟨v2_11, ev2_11, hf⟩ := ob_bnd hf
          refine lv_iinc (v := v2_11) (lv' := [(2, .int v2_11), (0, .ref (E 0)), (1, .int v1_3)]) hx hb dX2_undo_61 hl (k := 2) rfl (by rw [ev2_11]; rfl) (by decide) rfl (fun ls hl => ?_)
          refine lv_goto (tgt := 36) hx hb dX2_undo_64 (by decide) ?_
          obtain rfl := ob_s hf
          exact ih _ _ (h6a _ rfl) K6_0 H locs ls hP hS (lv_sub hl [1, 2, 0] rfl)
    refine kL36 n6 w2 0 hn6 (fun H locs ls hP hS hl => ?_) H locs ls hP hS (lv_sub hl [2, 1, 0] rfl)
    replace hf : M_undo_x36_67 v1_3 b6 = some res := hf
    unfold M_undo_x36_67 at hf
    refine lv_aload_n hx hb dX2_undo_67 rfl (lv_at hl 0 rfl) ?_
    refine xr_get hx hb hts in_X2 hown hK hP 0 (by decide) rfl rfl 0 (by decide) (hts _ q1405) (fun _ h => h) rfl (v := .ref (E 1)) rfl dX2_undo_68 ?_
    refine lv_iload_n hx hb dX2_undo_71 rfl (lv_at hl 1 rfl) ?_
    obtain ⟨h12, hf⟩ := ob_gd hf
    refine xr_iald hx hb hK hP 1 (by decide) rfl 0 rfl (j := v1_3.toNatClampNeg) h12 rfl dX2_undo_72 ?_
    obtain ⟨v2_13, ev2_13, hf⟩ := ob_bnd hf
    refine xn_i ev2_13 ?_
    refine lv_istore_n (lv' := [(2, .int v2_13), (0, .ref (E 0)), (1, .int v1_3)]) hx hb dX2_undo_73 rfl hl (by decide) rfl (fun ls hl => ?_)
    obtain ⟨b16, hb16, hf⟩ := ob_bind hf
    obtain ⟨n16, hn16⟩ := lp_some hb16
    have kL74 : ∀ (n : Nat) (w14 : Mm) (v2_15 : Int32), lpF (fun (q16 : Mm × Int32) => M_undo_b74 q16.1 q16.2) n (w14, v2_15) = some b16 → (∀ (H : Heap) (locs : List Loc) (ls : Array Slot), va_P D clM (wl shM 19 dA E b16) H → va_S (AE 19 E) s.heap H locs → lv_has ls 3 [(0, .ref (E 0)), (1, .int v1_3)] → W p l e rmX2_undo s m args below meth c H locs 0 0 Q (F0 m 95 ls [])) → ∀ (H : Heap) (locs : List Loc) (ls : Array Slot), va_P D clM (wl shM 19 dA E w14) H → va_S (AE 19 E) s.heap H locs → lv_has ls 3 [(0, .ref (E 0)), (1, .int v1_3), (2, .int v2_15)] → W p l e rmX2_undo s m args below meth c H locs 0 0 Q (F0 m 74 ls []) := by
      intro n
      induction n with
      | zero =>
        intro w14 v2_15 h
        cases h
      | succ n ih =>
        intro w14 v2_15 h K16_0 H locs ls hP hS hl
        obtain ⟨r16, hf, h16a, h16b⟩ := lpF_step h
        replace hf : M_undo_b74 w14 v2_15 = some r16 := hf
        unfold M_undo_b74 at hf
        refine lv_iload_n hx hb dX2_undo_74 rfl (lv_at hl 2 rfl) ?_
        refine lv_aload_n hx hb dX2_undo_75 rfl (lv_at hl 0 rfl) ?_
        refine xr_get hx hb hts in_X2 hown hK hP 0 (by decide) rfl rfl 0 (by decide) (hts _ q1405) (fun _ h => h) rfl (v := .ref (E 1)) rfl dX2_undo_76 ?_
        refine lv_iconst (v := 0) hx hb dX2_undo_79 (by decide) ?_
        refine xr_iald hx hb hK hP 1 (by decide) rfl 0 rfl (j := 0) (vin_c (by decide)) (by decide) dX2_undo_80 ?_
        refine lv_icmp_ge (tgt := 95) hx hb dX2_undo_81 (by decide) (fun c17 => ?_) (fun c17 => ?_)
        · replace hf := ob_t hf c17
          obtain rfl := ob_s hf
          obtain rfl := h16b _ rfl
          exact K16_0 H locs ls hP hS (lv_sub hl [0, 1] rfl)
        · replace hf := ob_f hf c17
          refine lv_aload_n hx hb dX2_undo_84 rfl (lv_at hl 0 rfl) ?_
          refine lv_iload_n hx hb dX2_undo_85 rfl (lv_at hl 2 rfl) ?_
          obtain ⟨q19, g18, hf⟩ := ob_bind hf
          refine xc_v (xw_run (As := [.int v2_15]) (rest := []) ⟨hx, hb, hml, hown, hts⟩ (k0 := 0) (wkX2_begin l D dA E hE w14 v2_15 g18) (cwV 1 hts (lw_V q1541 q1543 qs61 q140 q1544) rfl rfl rfl cdX2_begin ⟨Nat.le_of_ble_eq_true rfl, Nat.le_of_ble_eq_true rfl⟩) hK hP (by decide) rfl rfl rfl hl.1 rfl rfl (Nat.le_of_ble_eq_true rfl) dX2_undo_86 ⟨Nat.zero_le _, Nat.zero_le _⟩) hS hD.2 (fun H locs hP hS => ?_)
          obtain ⟨v2_20, ev2_20, hf⟩ := ob_bnd hf
          refine lv_iinc (v := v2_20) (lv' := [(2, .int v2_20), (0, .ref (E 0)), (1, .int v1_3)]) hx hb dX2_undo_89 hl (k := 2) rfl (by rw [ev2_20]; rfl) (by decide) rfl (fun ls hl => ?_)
          refine lv_goto (tgt := 74) hx hb dX2_undo_92 (by decide) ?_
          obtain rfl := ob_s hf
          exact ih _ _ (h16a _ rfl) K16_0 H locs ls hP hS (lv_sub hl [1, 2, 0] rfl)
    refine kL74 n16 b6 v2_13 hn16 (fun H locs ls hP hS hl => ?_) H locs ls hP hS (lv_sub hl [1, 2, 0] rfl)
    replace hf : M_undo_x74_95 v1_3 b16 = some res := hf
    unfold M_undo_x74_95 at hf
    refine lv_iconst (v := 0) hx hb dX2_undo_95 (by decide) ?_
    refine lv_istore_n (lv' := [(2, .int 0), (0, .ref (E 0)), (1, .int v1_3)]) hx hb dX2_undo_96 rfl hl (by decide) rfl (fun ls hl => ?_)
    obtain ⟨b23, hb23, hf⟩ := ob_bind hf
    obtain ⟨n23, hn23⟩ := lp_some hb23
    have kL97 : ∀ (n : Nat) (w21 : Mm) (v2_22 : Int32), lpF (fun (q23 : Mm × Int32) => M_undo_b97 v1_3 q23.1 q23.2) n (w21, v2_22) = some b23 → (∀ (H : Heap) (locs : List Loc) (ls : Array Slot), va_P D clM (wl shM 19 dA E b23) H → va_S (AE 19 E) s.heap H locs → lv_has ls 3 [(0, .ref (E 0))] → W p l e rmX2_undo s m args below meth c H locs 0 0 Q (F0 m 130 ls [])) → ∀ (H : Heap) (locs : List Loc) (ls : Array Slot), va_P D clM (wl shM 19 dA E w21) H → va_S (AE 19 E) s.heap H locs → lv_has ls 3 [(0, .ref (E 0)), (1, .int v1_3), (2, .int v2_22)] → W p l e rmX2_undo s m args below meth c H locs 0 0 Q (F0 m 97 ls []) := by
      intro n
      induction n with
      | zero =>
        intro w21 v2_22 h
        cases h
      | succ n ih =>
        intro w21 v2_22 h K23_0 H locs ls hP hS hl
        obtain ⟨r23, hf, h23a, h23b⟩ := lpF_step h
        replace hf : M_undo_b97 v1_3 w21 v2_22 = some r23 := hf
        unfold M_undo_b97 at hf
        refine lv_iload_n hx hb dX2_undo_97 rfl (lv_at hl 2 rfl) ?_
        refine lv_bipush (v := 60) hx hb dX2_undo_98 (by decide) ?_
        refine lv_icmp_ge (tgt := 130) hx hb dX2_undo_100 (by decide) (fun c24 => ?_) (fun c24 => ?_)
        · replace hf := ob_t hf c24
          obtain rfl := ob_s hf
          obtain rfl := h23b _ rfl
          exact K23_0 H locs ls hP hS (lv_sub hl [0] rfl)
        · replace hf := ob_f hf c24
          refine lv_aload_n hx hb dX2_undo_103 rfl (lv_at hl 0 rfl) ?_
          refine xr_get hx hb hts in_X2 hown hK hP 0 (by decide) rfl rfl 0 (by decide) (hts _ q1405) (fun _ h => h) rfl (v := .ref (E 1)) rfl dX2_undo_104 ?_
          refine lv_sipush (v := 2815) hx hb dX2_undo_107 (by decide) ?_
          refine lv_iload_n hx hb dX2_undo_110 rfl (lv_at hl 2 rfl) ?_
          refine lv_iadd hx hb dX2_undo_111 ?_
          refine lv_aload_n hx hb dX2_undo_112 rfl (lv_at hl 0 rfl) ?_
          refine xr_get hx hb hts in_X2 hown hK hP 0 (by decide) rfl rfl 0 (by decide) (hts _ q1405) (fun _ h => h) rfl (v := .ref (E 1)) rfl dX2_undo_113 ?_
          refine lv_iload_n hx hb dX2_undo_116 rfl (lv_at hl 1 rfl) ?_
          refine lv_bipush (v := 30) hx hb dX2_undo_117 (by decide) ?_
          refine lv_iadd hx hb dX2_undo_119 ?_
          refine lv_iload_n hx hb dX2_undo_120 rfl (lv_at hl 2 rfl) ?_
          refine lv_iadd hx hb dX2_undo_121 ?_
          obtain ⟨h25, hf⟩ := ob_gd hf
          refine xr_iald hx hb hK hP 1 (by decide) rfl 0 rfl (j := ((v1_3 + 30) + v2_22).toNatClampNeg) h25 rfl dX2_undo_122 ?_
          obtain ⟨h26, hf⟩ := ob_gd hf
          obtain ⟨w27, ew27, hf⟩ := ob_bnd hf
          refine xr_iast hx hb hK hP hD hS 1 (by decide) rfl 0 rfl (j := (2815 + v2_22).toNatClampNeg) (w' := w27) h26 rfl ew27 dX2_undo_123 (fun H locs hP hS => ?_)
          obtain ⟨v2_28, ev2_28, hf⟩ := ob_bnd hf
          refine lv_iinc (v := v2_28) (lv' := [(2, .int v2_28), (0, .ref (E 0)), (1, .int v1_3)]) hx hb dX2_undo_124 hl (k := 2) rfl (by rw [ev2_28]; rfl) (by decide) rfl (fun ls hl => ?_)
          refine lv_goto (tgt := 97) hx hb dX2_undo_127 (by decide) ?_
          obtain rfl := ob_s hf
          exact ih _ _ (h23a _ rfl) K23_0 H locs ls hP hS (lv_sub hl [1, 2, 0] rfl)
    refine kL97 n23 b16 0 hn23 (fun H locs ls hP hS hl => ?_) H locs ls hP hS (lv_sub hl [1, 2, 0] rfl)
    replace hf : M_undo_x97_130 b23 = some res := hf
    unfold M_undo_x97_130 at hf
    refine lv_aload_n hx hb dX2_undo_130 rfl (lv_at hl 0 rfl) ?_
    refine xr_get hx hb hts in_X2 hown hK hP 0 (by decide) rfl rfl 0 (by decide) (hts _ q1405) (fun _ h => h) rfl (v := .ref (E 1)) rfl dX2_undo_131 ?_
    refine lv_iconst (v := 3) hx hb dX2_undo_134 (by decide) ?_
    refine xr_iald hx hb hK hP 1 (by decide) rfl 0 rfl (j := 3) (vin_c (by decide)) (by decide) dX2_undo_135 ?_
    obtain rfl := ob_s hf
    subst hQ
    exact xe_i hx hb hr hlocks hP hS dX2_undo_136
  · replace hf := ob_t hf c1
    refine lv_iconst (v := (-1)) hx hb dX2_undo_9 (by decide) ?_
    obtain rfl := ob_s hf
    subst hQ
    exact xe_i hx hb hr hlocks hP hS dX2_undo_10
abbrev rmX2_isQuarrel : Room := { frames := 1, cells := 0, slots := 0, locals := 22 }
theorem cdX2_isQuarrel : yX2_isQuarrel.cls = RX2 ∧ yX2_isQuarrel.cls ≠ "java/lang/invoke/MethodHandle" ∧ yX2_isQuarrel.cls ≠ "java/lang/invoke/VarHandle" ∧ (parseMethodDescriptor yX2_isQuarrel.desc).map (fun d => d.parameters.length) = some 1 := by decide +kernel
set_option maxHeartbeats 4000000 in
set_option maxRecDepth 100000 in
theorem wkX2_isQuarrel (l : Launch) (D : va_G) (dA : Nat → ClassId) (E : Nat → Nat) (hE : wInj 19 E) (w : Mm) (a1 : Int32) {res : Int32} (hf : M_isQuarrel w a1 = some res) : Met l yX2_isQuarrel (ws_ yX2_isQuarrel cX2_isQuarrel 2 (some .boolean)) rmX2_isQuarrel (Pw D clM (tyM dA) shM 19 dA E [.ref (E 0), .int a1] w) (Qwz D clM shM 19 dA E res w) 0 0 (AE 19 E) := by
  refine xm_head (own := RX2) (by decide) rfl (Nat.le_of_ble_eq_true rfl) ?_
  intro p e s m args below meth c ls Q hQ C hP hl
  obtain ⟨hx, hb, hr, hlocks, hml, hown, hts, hK⟩ := C
  replace hl : lv_has ls 2 [(0, .ref (E 0)), (1, .int a1)] := hl
  have hS : va_S (AE 19 E) s.heap s.heap [] := va_S.rf
  have hD : wD 19 E (AE 19 E) := wD.self hE
  unfold M_isQuarrel at hf
  obtain ⟨H, eH⟩ : ∃ H, H = s.heap := ⟨_, rfl⟩
  obtain ⟨locs, eL⟩ : ∃ locs : List Loc, locs = [] := ⟨_, rfl⟩
  rw [← eL] at hS ⊢
  rw [← eH] at hP
  have hS : va_S (AE 19 E) s.heap H locs := by rw [eH]; exact hS
  show W p l e rmX2_isQuarrel s m args below meth c s.heap locs 0 0 Q (F0 m 0 ls [])
  rw [← eH]
  refine lv_iload_n hx hb dX2_isQuarrel_0 rfl (lv_at hl 1 rfl) ?_
  refine lv_iconst (v := 0) hx hb dX2_isQuarrel_1 (by decide) ?_
  refine lv_aload_n hx hb dX2_isQuarrel_2 rfl (lv_at hl 0 rfl) ?_
  refine xr_get hx hb hts in_X2 hown hK hP 0 (by decide) rfl rfl 0 (by decide) (hts _ q1405) (fun _ h => h) rfl (v := .ref (E 1)) rfl dX2_isQuarrel_3 ?_
  refine lv_iconst (v := 0) hx hb dX2_isQuarrel_6 (by decide) ?_
  refine xr_iald hx hb hK hP 1 (by decide) rfl 0 rfl (j := 0) (vin_c (by decide)) (by decide) dX2_isQuarrel_7 ?_
  refine lv_iconst (v := 1) hx hb dX2_isQuarrel_8 (by decide) ?_
  refine lv_isub hx hb dX2_isQuarrel_9 ?_
  obtain ⟨q2, g1, hf⟩ := ob_bind hf
  refine xc_z (xw_runS (As := [.int a1, .int 0, .int ((w.1 1 0) - 1)]) (rest := []) ⟨hx, hb, hml, hown, hts⟩ (wkX2_isIn l D dA E hE w a1 0 ((w.1 1 0) - 1) g1) (va_cwS 3 hts (lw_S q1538 q1539 q140 q1540) rfl rfl rfl cdX2_isIn.2 ⟨Nat.le_of_ble_eq_true rfl, Nat.le_of_ble_eq_true rfl⟩) hK hP hl.1 rfl rfl (Nat.le_of_ble_eq_true rfl) dX2_isQuarrel_10 ⟨Nat.zero_le _, Nat.zero_le _⟩) hS hD.2 (fun H locs zq2 hP hS => ?_)
  obtain rfl := ob_s hf
  subst hQ
  exact xe_z hx hb hr hlocks hP hS zq2 dX2_isQuarrel_13
abbrev rmX2_howOf : Room := { frames := 0, cells := 0, slots := 0, locals := 0 }
theorem cdX2_howOf : yX2_howOf.cls = RX2 ∧ yX2_howOf.cls ≠ "java/lang/invoke/MethodHandle" ∧ yX2_howOf.cls ≠ "java/lang/invoke/VarHandle" ∧ (parseMethodDescriptor yX2_howOf.desc).map (fun d => d.parameters.length) = some 1 := by decide +kernel
set_option maxHeartbeats 4000000 in
set_option maxRecDepth 100000 in
theorem wkX2_howOf (l : Launch) (D : va_G) (dA : Nat → ClassId) (E : Nat → Nat) (hE : wInj 19 E) (w : Mm) (a1 : Int32) {res : Int32} (hf : M_howOf w a1 = some res) : Met l yX2_howOf (ws_ yX2_howOf cX2_howOf 2 (some .int)) rmX2_howOf (Pw D clM (tyM dA) shM 19 dA E [.ref (E 0), .int a1] w) (Qwi D clM shM 19 dA E res w) 0 0 (AE 19 E) := by
  refine xm_head (own := RX2) (by decide) rfl (Nat.le_of_ble_eq_true rfl) ?_
  intro p e s m args below meth c ls Q hQ C hP hl
  obtain ⟨hx, hb, hr, hlocks, hml, hown, hts, hK⟩ := C
  replace hl : lv_has ls 2 [(0, .ref (E 0)), (1, .int a1)] := hl
  have hS : va_S (AE 19 E) s.heap s.heap [] := va_S.rf
  have hD : wD 19 E (AE 19 E) := wD.self hE
  unfold M_howOf at hf
  obtain ⟨H, eH⟩ : ∃ H, H = s.heap := ⟨_, rfl⟩
  obtain ⟨locs, eL⟩ : ∃ locs : List Loc, locs = [] := ⟨_, rfl⟩
  rw [← eL] at hS ⊢
  rw [← eH] at hP
  have hS : va_S (AE 19 E) s.heap H locs := by rw [eH]; exact hS
  show W p l e rmX2_howOf s m args below meth c s.heap locs 0 0 Q (F0 m 0 ls [])
  rw [← eH]
  refine lv_aload_n hx hb dX2_howOf_0 rfl (lv_at hl 0 rfl) ?_
  refine xr_get hx hb hts in_X2 hown hK hP 0 (by decide) rfl rfl 0 (by decide) (hts _ q1405) (fun _ h => h) rfl (v := .ref (E 1)) rfl dX2_howOf_1 ?_
  refine lv_bipush (v := 12) hx hb dX2_howOf_4 (by decide) ?_
  refine lv_iconst (v := 3) hx hb dX2_howOf_6 (by decide) ?_
  refine lv_iload_n hx hb dX2_howOf_7 rfl (lv_at hl 1 rfl) ?_
  refine lv_imul hx hb dX2_howOf_8 ?_
  refine lv_iadd hx hb dX2_howOf_9 ?_
  obtain ⟨h1, hf⟩ := ob_gd hf
  refine xr_iald hx hb hK hP 1 (by decide) rfl 0 rfl (j := (12 + (3 * a1)).toNatClampNeg) h1 rfl dX2_howOf_10 ?_
  obtain rfl := ob_s hf
  subst hQ
  exact xe_i hx hb hr hlocks hP hS dX2_howOf_11
abbrev rmX2_canPawn : Room := { frames := 2, cells := 0, slots := 0, locals := 43 }
theorem cdX2_canPawn : yX2_canPawn.cls = RX2 ∧ yX2_canPawn.cls ≠ "java/lang/invoke/MethodHandle" ∧ yX2_canPawn.cls ≠ "java/lang/invoke/VarHandle" ∧ (parseMethodDescriptor yX2_canPawn.desc).map (fun d => d.parameters.length) = some 1 := by decide +kernel
set_option maxHeartbeats 4000000 in
set_option maxRecDepth 100000 in
theorem wkX2_canPawn (l : Launch) (D : va_G) (dA : Nat → ClassId) (E : Nat → Nat) (hE : wInj 19 E) (w : Mm) (a1 : Int32) {res : Int32} (hf : M_canPawn w a1 = some res) : Met l yX2_canPawn (ws_ yX2_canPawn cX2_canPawn 2 (some .boolean)) rmX2_canPawn (Pw D clM (tyM dA) shM 19 dA E [.ref (E 0), .int a1] w) (Qwz D clM shM 19 dA E res w) 0 0 (AE 19 E) := by
  refine xm_head (own := RX2) (by decide) rfl (Nat.le_of_ble_eq_true rfl) ?_
  intro p e s m args below meth c ls Q hQ C hP hl
  obtain ⟨hx, hb, hr, hlocks, hml, hown, hts, hK⟩ := C
  replace hl : lv_has ls 2 [(0, .ref (E 0)), (1, .int a1)] := hl
  have hS : va_S (AE 19 E) s.heap s.heap [] := va_S.rf
  have hD : wD 19 E (AE 19 E) := wD.self hE
  unfold M_canPawn at hf
  obtain ⟨H, eH⟩ : ∃ H, H = s.heap := ⟨_, rfl⟩
  obtain ⟨locs, eL⟩ : ∃ locs : List Loc, locs = [] := ⟨_, rfl⟩
  rw [← eL] at hS ⊢
  rw [← eH] at hP
  have hS : va_S (AE 19 E) s.heap H locs := by rw [eH]; exact hS
  show W p l e rmX2_canPawn s m args below meth c s.heap locs 0 0 Q (F0 m 0 ls [])
  rw [← eH]
  refine lv_aload_n hx hb dX2_canPawn_0 rfl (lv_at hl 0 rfl) ?_
  refine lv_iload_n hx hb dX2_canPawn_1 rfl (lv_at hl 1 rfl) ?_
  obtain ⟨q2, g1, hf⟩ := ob_bind hf
  refine xc_z (xw_run (As := [.int a1]) (rest := []) ⟨hx, hb, hml, hown, hts⟩ (k0 := 0) (wkX2_isQuarrel l D dA E hE w a1 g1) (cwV 1 hts (lw_V q1733 q1735 qs92 q140 q1736) rfl rfl rfl cdX2_isQuarrel ⟨Nat.le_of_ble_eq_true rfl, Nat.le_of_ble_eq_true rfl⟩) hK hP (by decide) rfl rfl rfl hl.1 rfl rfl (Nat.le_of_ble_eq_true rfl) dX2_canPawn_2 ⟨Nat.zero_le _, Nat.zero_le _⟩) hS hD.2 (fun H locs zq2 hP hS => ?_)
  refine lv_if_eq (tgt := 20) hx hb dX2_canPawn_5 (by decide) (fun c3 => ?_) (fun c3 => ?_)
  · replace hf := ob_t hf c3
    refine lv_iconst (v := 0) hx hb dX2_canPawn_20 (by decide) ?_
    obtain rfl := ob_s hf
    subst hQ
    exact xe_z hx hb hr hlocks hP hS (Or.inl rfl) dX2_canPawn_21
  · replace hf := ob_f hf c3
    refine lv_aload_n hx hb dX2_canPawn_8 rfl (lv_at hl 0 rfl) ?_
    refine lv_iload_n hx hb dX2_canPawn_9 rfl (lv_at hl 1 rfl) ?_
    obtain ⟨q5, g4, hf⟩ := ob_bind hf
    refine xc_i (xw_run (As := [.int a1]) (rest := []) ⟨hx, hb, hml, hown, hts⟩ (k0 := 0) (wkX2_howOf l D dA E hE w a1 g4) (cwV 1 hts (lw_V q1737 q1739 qs93 q140 q1740) rfl rfl rfl cdX2_howOf ⟨Nat.le_of_ble_eq_true rfl, Nat.le_of_ble_eq_true rfl⟩) hK hP (by decide) rfl rfl rfl hl.1 rfl rfl (Nat.le_of_ble_eq_true rfl) dX2_canPawn_10 ⟨Nat.zero_le _, Nat.zero_le _⟩) hS hD.2 (fun H locs hP hS => ?_)
    refine lv_if_ne (tgt := 20) hx hb dX2_canPawn_13 (by decide) (fun c6 => ?_) (fun c6 => ?_)
    · replace hf := ob_f hf c6
      refine lv_iconst (v := 0) hx hb dX2_canPawn_20 (by decide) ?_
      obtain rfl := ob_s hf
      subst hQ
      exact xe_z hx hb hr hlocks hP hS (Or.inl rfl) dX2_canPawn_21
    · replace hf := ob_t hf c6
      refine lv_iconst (v := 1) hx hb dX2_canPawn_16 (by decide) ?_
      refine lv_goto (tgt := 21) hx hb dX2_canPawn_17 (by decide) ?_
      obtain rfl := ob_s hf
      subst hQ
      exact xe_z hx hb hr hlocks hP hS (Or.inr rfl) dX2_canPawn_21
abbrev rmX2_keep : Room := { frames := 0, cells := 0, slots := 0, locals := 0 }
theorem cdX2_keep : yX2_keep.cls = RX2 ∧ yX2_keep.cls ≠ "java/lang/invoke/MethodHandle" ∧ yX2_keep.cls ≠ "java/lang/invoke/VarHandle" ∧ (parseMethodDescriptor yX2_keep.desc).map (fun d => d.parameters.length) = some 0 := by decide +kernel
set_option maxHeartbeats 4000000 in
set_option maxRecDepth 100000 in
theorem wkX2_keep (l : Launch) (D : va_G) (dA : Nat → ClassId) (E : Nat → Nat) (hE : wInj 19 E) (w : Mm)  {res : Mm} (hf : M_keep w = some res) : Met l yX2_keep (ws_ yX2_keep cX2_keep 3 (none)) rmX2_keep (Pw D clM (tyM dA) shM 19 dA E [.ref (E 0)] w) (Qwv D clM shM 19 dA E res) 0 0 (AE 19 E) := by
  refine xm_head (own := RX2) (by decide) rfl (Nat.le_of_ble_eq_true rfl) ?_
  intro p e s m args below meth c ls Q hQ C hP hl
  obtain ⟨hx, hb, hr, hlocks, hml, hown, hts, hK⟩ := C
  replace hl : lv_has ls 3 [(0, .ref (E 0))] := hl
  have hS : va_S (AE 19 E) s.heap s.heap [] := va_S.rf
  have hD : wD 19 E (AE 19 E) := wD.self hE
  unfold M_keep at hf
  obtain ⟨H, eH⟩ : ∃ H, H = s.heap := ⟨_, rfl⟩
  obtain ⟨locs, eL⟩ : ∃ locs : List Loc, locs = [] := ⟨_, rfl⟩
  rw [← eL] at hS ⊢
  rw [← eH] at hP
  have hS : va_S (AE 19 E) s.heap H locs := by rw [eH]; exact hS
  show W p l e rmX2_keep s m args below meth c s.heap locs 0 0 Q (F0 m 0 ls [])
  rw [← eH]
  refine lv_aload_n hx hb dX2_keep_0 rfl (lv_at hl 0 rfl) ?_
  refine xr_get hx hb hts in_X2 hown hK hP 0 (by decide) rfl rfl 0 (by decide) (hts _ q1405) (fun _ h => h) rfl (v := .ref (E 1)) rfl dX2_keep_1 ?_
  refine lv_iconst (v := 3) hx hb dX2_keep_4 (by decide) ?_
  refine xr_iald hx hb hK hP 1 (by decide) rfl 0 rfl (j := 3) (vin_c (by decide)) (by decide) dX2_keep_5 ?_
  refine lv_bipush (v := 30) hx hb dX2_keep_6 (by decide) ?_
  have kj55 : ∀ (w1 : Mm) (H : Heap) (locs : List Loc) (ls : Array Slot), M_keep_j55 w1 = some res → va_P D clM (wl shM 19 dA E w1) H → va_S (AE 19 E) s.heap H locs → lv_has ls 3 [(0, .ref (E 0))] → W p l e rmX2_keep s m args below meth c H locs 0 0 Q (F0 m 55 ls []) := by
    intro w1 H locs ls hf hP hS hl
    unfold M_keep_j55 at hf
    refine lv_bipush (v := 115) hx hb dX2_keep_55 (by decide) ?_
    refine lv_bipush (v := 90) hx hb dX2_keep_57 (by decide) ?_
    refine lv_aload_n hx hb dX2_keep_59 rfl (lv_at hl 0 rfl) ?_
    refine xr_get hx hb hts in_X2 hown hK hP 0 (by decide) rfl rfl 0 (by decide) (hts _ q1405) (fun _ h => h) rfl (v := .ref (E 1)) rfl dX2_keep_60 ?_
    refine lv_iconst (v := 3) hx hb dX2_keep_63 (by decide) ?_
    refine xr_iald hx hb hK hP 1 (by decide) rfl 0 rfl (j := 3) (vin_c (by decide)) (by decide) dX2_keep_64 ?_
    refine lv_imul hx hb dX2_keep_65 ?_
    refine lv_iadd hx hb dX2_keep_66 ?_
    obtain ⟨v1_2, ev1_2, hf⟩ := ob_bnd hf
    refine xn_i ev1_2 ?_
    refine lv_istore_n (lv' := [(1, .int v1_2), (0, .ref (E 0))]) hx hb dX2_keep_67 rfl hl (by decide) rfl (fun ls hl => ?_)
    refine lv_aload_n hx hb dX2_keep_68 rfl (lv_at hl 1 rfl) ?_
    refine xr_get hx hb hts in_X2 hown hK hP 0 (by decide) rfl rfl 0 (by decide) (hts _ q1405) (fun _ h => h) rfl (v := .ref (E 1)) rfl dX2_keep_69 ?_
    refine lv_iload_n hx hb dX2_keep_72 rfl (lv_at hl 0 rfl) ?_
    refine lv_aload_n hx hb dX2_keep_73 rfl (lv_at hl 1 rfl) ?_
    refine xr_get hx hb hts in_X2 hown hK hP 0 (by decide) rfl rfl 0 (by decide) (hts _ q1405) (fun _ h => h) rfl (v := .ref (E 1)) rfl dX2_keep_74 ?_
    refine lv_iconst (v := 0) hx hb dX2_keep_77 (by decide) ?_
    refine xr_iald hx hb hK hP 1 (by decide) rfl 0 rfl (j := 0) (vin_c (by decide)) (by decide) dX2_keep_78 ?_
    obtain ⟨h3, hf⟩ := ob_gd hf
    obtain ⟨w4, ew4, hf⟩ := ob_bnd hf
    refine xr_iast hx hb hK hP hD hS 1 (by decide) rfl 0 rfl (j := v1_2.toNatClampNeg) (w' := w4) h3 rfl ew4 dX2_keep_79 (fun H locs hP hS => ?_)
    refine lv_iconst (v := 0) hx hb dX2_keep_80 (by decide) ?_
    refine lv_istore_n (lv' := [(2, .int 0), (1, .int v1_2), (0, .ref (E 0))]) hx hb dX2_keep_81 rfl hl (by decide) rfl (fun ls hl => ?_)
    obtain ⟨b7, hb7, hf⟩ := ob_bind hf
    obtain ⟨n7, hn7⟩ := lp_some hb7
    have kL82 : ∀ (n : Nat) (w5 : Mm) (v2_6 : Int32), lpF (fun (q7 : Mm × Int32) => M_keep_b82 v1_2 q7.1 q7.2) n (w5, v2_6) = some b7 → (∀ (H : Heap) (locs : List Loc) (ls : Array Slot), va_P D clM (wl shM 19 dA E b7) H → va_S (AE 19 E) s.heap H locs → lv_has ls 3 [(0, .ref (E 0)), (1, .int v1_2)] → W p l e rmX2_keep s m args below meth c H locs 0 0 Q (F0 m 113 ls [])) → ∀ (H : Heap) (locs : List Loc) (ls : Array Slot), va_P D clM (wl shM 19 dA E w5) H → va_S (AE 19 E) s.heap H locs → lv_has ls 3 [(0, .ref (E 0)), (1, .int v1_2), (2, .int v2_6)] → W p l e rmX2_keep s m args below meth c H locs 0 0 Q (F0 m 82 ls []) := by
      intro n
      induction n with
      | zero =>
        intro w5 v2_6 h
        cases h
      | succ n ih =>
        intro w5 v2_6 h K7_0 H locs ls hP hS hl
        obtain ⟨r7, hf, h7a, h7b⟩ := lpF_step h
        replace hf : M_keep_b82 v1_2 w5 v2_6 = some r7 := hf
        unfold M_keep_b82 at hf
        refine lv_iload_n hx hb dX2_keep_82 rfl (lv_at hl 2 rfl) ?_
        refine lv_bipush (v := 29) hx hb dX2_keep_83 (by decide) ?_
        refine lv_icmp_ge (tgt := 113) hx hb dX2_keep_85 (by decide) (fun c8 => ?_) (fun c8 => ?_)
        · replace hf := ob_t hf c8
          obtain rfl := ob_s hf
          obtain rfl := h7b _ rfl
          exact K7_0 H locs ls hP hS (lv_sub hl [0, 1] rfl)
        · replace hf := ob_f hf c8
          refine lv_aload_n hx hb dX2_keep_88 rfl (lv_at hl 0 rfl) ?_
          refine xr_get hx hb hts in_X2 hown hK hP 0 (by decide) rfl rfl 0 (by decide) (hts _ q1405) (fun _ h => h) rfl (v := .ref (E 1)) rfl dX2_keep_89 ?_
          refine lv_iload_n hx hb dX2_keep_92 rfl (lv_at hl 1 rfl) ?_
          refine lv_iconst (v := 1) hx hb dX2_keep_93 (by decide) ?_
          refine lv_iadd hx hb dX2_keep_94 ?_
          refine lv_iload_n hx hb dX2_keep_95 rfl (lv_at hl 2 rfl) ?_
          refine lv_iadd hx hb dX2_keep_96 ?_
          refine lv_aload_n hx hb dX2_keep_97 rfl (lv_at hl 0 rfl) ?_
          refine xr_get hx hb hts in_X2 hown hK hP 0 (by decide) rfl rfl 0 (by decide) (hts _ q1405) (fun _ h => h) rfl (v := .ref (E 1)) rfl dX2_keep_98 ?_
          refine lv_bipush (v := 7) hx hb dX2_keep_101 (by decide) ?_
          refine lv_iload_n hx hb dX2_keep_103 rfl (lv_at hl 2 rfl) ?_
          refine lv_iadd hx hb dX2_keep_104 ?_
          obtain ⟨h9, hf⟩ := ob_gd hf
          refine xr_iald hx hb hK hP 1 (by decide) rfl 0 rfl (j := (7 + v2_6).toNatClampNeg) h9 rfl dX2_keep_105 ?_
          obtain ⟨h10, hf⟩ := ob_gd hf
          obtain ⟨w11, ew11, hf⟩ := ob_bnd hf
          refine xr_iast hx hb hK hP hD hS 1 (by decide) rfl 0 rfl (j := ((v1_2 + 1) + v2_6).toNatClampNeg) (w' := w11) h10 rfl ew11 dX2_keep_106 (fun H locs hP hS => ?_)
          obtain ⟨v2_12, ev2_12, hf⟩ := ob_bnd hf
          refine lv_iinc (v := v2_12) (lv' := [(2, .int v2_12), (0, .ref (E 0)), (1, .int v1_2)]) hx hb dX2_keep_107 hl (k := 2) rfl (by rw [ev2_12]; rfl) (by decide) rfl (fun ls hl => ?_)
          refine lv_goto (tgt := 82) hx hb dX2_keep_110 (by decide) ?_
          obtain rfl := ob_s hf
          exact ih _ _ (h7a _ rfl) K7_0 H locs ls hP hS (lv_sub hl [1, 2, 0] rfl)
    refine kL82 n7 w4 0 hn7 (fun H locs ls hP hS hl => ?_) H locs ls hP hS (lv_sub hl [2, 1, 0] rfl)
    replace hf : M_keep_x82_113 v1_2 b7 = some res := hf
    unfold M_keep_x82_113 at hf
    refine lv_iconst (v := 0) hx hb dX2_keep_113 (by decide) ?_
    refine lv_istore_n (lv' := [(2, .int 0), (0, .ref (E 0)), (1, .int v1_2)]) hx hb dX2_keep_114 rfl hl (by decide) rfl (fun ls hl => ?_)
    obtain ⟨b15, hb15, hf⟩ := ob_bind hf
    obtain ⟨n15, hn15⟩ := lp_some hb15
    have kL115 : ∀ (n : Nat) (w13 : Mm) (v2_14 : Int32), lpF (fun (q15 : Mm × Int32) => M_keep_b115 v1_2 q15.1 q15.2) n (w13, v2_14) = some b15 → (∀ (H : Heap) (locs : List Loc) (ls : Array Slot), va_P D clM (wl shM 19 dA E b15) H → va_S (AE 19 E) s.heap H locs → lv_has ls 3 [(0, .ref (E 0))] → W p l e rmX2_keep s m args below meth c H locs 0 0 Q (F0 m 148 ls [])) → ∀ (H : Heap) (locs : List Loc) (ls : Array Slot), va_P D clM (wl shM 19 dA E w13) H → va_S (AE 19 E) s.heap H locs → lv_has ls 3 [(0, .ref (E 0)), (1, .int v1_2), (2, .int v2_14)] → W p l e rmX2_keep s m args below meth c H locs 0 0 Q (F0 m 115 ls []) := by
      intro n
      induction n with
      | zero =>
        intro w13 v2_14 h
        cases h
      | succ n ih =>
        intro w13 v2_14 h K15_0 H locs ls hP hS hl
        obtain ⟨r15, hf, h15a, h15b⟩ := lpF_step h
        replace hf : M_keep_b115 v1_2 w13 v2_14 = some r15 := hf
        unfold M_keep_b115 at hf
        refine lv_iload_n hx hb dX2_keep_115 rfl (lv_at hl 2 rfl) ?_
        refine lv_bipush (v := 60) hx hb dX2_keep_116 (by decide) ?_
        refine lv_icmp_ge (tgt := 148) hx hb dX2_keep_118 (by decide) (fun c16 => ?_) (fun c16 => ?_)
        · replace hf := ob_t hf c16
          obtain rfl := ob_s hf
          obtain rfl := h15b _ rfl
          exact K15_0 H locs ls hP hS (lv_sub hl [0] rfl)
        · replace hf := ob_f hf c16
          refine lv_aload_n hx hb dX2_keep_121 rfl (lv_at hl 0 rfl) ?_
          refine xr_get hx hb hts in_X2 hown hK hP 0 (by decide) rfl rfl 0 (by decide) (hts _ q1405) (fun _ h => h) rfl (v := .ref (E 1)) rfl dX2_keep_122 ?_
          refine lv_iload_n hx hb dX2_keep_125 rfl (lv_at hl 1 rfl) ?_
          refine lv_bipush (v := 30) hx hb dX2_keep_126 (by decide) ?_
          refine lv_iadd hx hb dX2_keep_128 ?_
          refine lv_iload_n hx hb dX2_keep_129 rfl (lv_at hl 2 rfl) ?_
          refine lv_iadd hx hb dX2_keep_130 ?_
          refine lv_aload_n hx hb dX2_keep_131 rfl (lv_at hl 0 rfl) ?_
          refine xr_get hx hb hts in_X2 hown hK hP 0 (by decide) rfl rfl 0 (by decide) (hts _ q1405) (fun _ h => h) rfl (v := .ref (E 1)) rfl dX2_keep_132 ?_
          refine lv_sipush (v := 2815) hx hb dX2_keep_135 (by decide) ?_
          refine lv_iload_n hx hb dX2_keep_138 rfl (lv_at hl 2 rfl) ?_
          refine lv_iadd hx hb dX2_keep_139 ?_
          obtain ⟨h17, hf⟩ := ob_gd hf
          refine xr_iald hx hb hK hP 1 (by decide) rfl 0 rfl (j := (2815 + v2_14).toNatClampNeg) h17 rfl dX2_keep_140 ?_
          obtain ⟨h18, hf⟩ := ob_gd hf
          obtain ⟨w19, ew19, hf⟩ := ob_bnd hf
          refine xr_iast hx hb hK hP hD hS 1 (by decide) rfl 0 rfl (j := ((v1_2 + 30) + v2_14).toNatClampNeg) (w' := w19) h18 rfl ew19 dX2_keep_141 (fun H locs hP hS => ?_)
          obtain ⟨v2_20, ev2_20, hf⟩ := ob_bnd hf
          refine lv_iinc (v := v2_20) (lv' := [(2, .int v2_20), (0, .ref (E 0)), (1, .int v1_2)]) hx hb dX2_keep_142 hl (k := 2) rfl (by rw [ev2_20]; rfl) (by decide) rfl (fun ls hl => ?_)
          refine lv_goto (tgt := 115) hx hb dX2_keep_145 (by decide) ?_
          obtain rfl := ob_s hf
          exact ih _ _ (h15a _ rfl) K15_0 H locs ls hP hS (lv_sub hl [1, 2, 0] rfl)
    refine kL115 n15 b7 0 hn15 (fun H locs ls hP hS hl => ?_) H locs ls hP hS (lv_sub hl [1, 2, 0] rfl)
    replace hf : M_keep_x115_148 b15 = some res := hf
    unfold M_keep_x115_148 at hf
    refine lv_aload_n hx hb dX2_keep_148 rfl (lv_at hl 0 rfl) ?_
    refine xr_get hx hb hts in_X2 hown hK hP 0 (by decide) rfl rfl 0 (by decide) (hts _ q1405) (fun _ h => h) rfl (v := .ref (E 1)) rfl dX2_keep_149 ?_
    refine lv_iconst (v := 3) hx hb dX2_keep_152 (by decide) ?_
    refine lv_dup2_11 hx hb dX2_keep_153 rfl rfl ?_
    refine xr_iald hx hb hK hP 1 (by decide) rfl 0 rfl (j := 3) (vin_c (by decide)) (by decide) dX2_keep_154 ?_
    refine lv_iconst (v := 1) hx hb dX2_keep_155 (by decide) ?_
    refine lv_iadd hx hb dX2_keep_156 ?_
    obtain ⟨w21, ew21, hf⟩ := ob_bnd hf
    refine xr_iast hx hb hK hP hD hS 1 (by decide) rfl 0 rfl (j := 3) (w' := w21) (vin_c (by decide)) (by decide) ew21 dX2_keep_157 (fun H locs hP hS => ?_)
    obtain rfl := ob_s hf
    subst hQ
    exact xe_v hx hb hr hlocks hP hS dX2_keep_158
  refine lv_icmp_ne (tgt := 55) hx hb dX2_keep_8 (by decide) (fun c22 => ?_) (fun c22 => ?_)
  · replace hf := ob_f hf c22
    exact kj55 w H locs ls hf hP hS (lv_sub hl [0] rfl)
  · replace hf := ob_t hf c22
    refine lv_iconst (v := 0) hx hb dX2_keep_11 (by decide) ?_
    refine lv_istore_n (lv' := [(1, .int 0), (0, .ref (E 0))]) hx hb dX2_keep_12 rfl hl (by decide) rfl (fun ls hl => ?_)
    obtain ⟨b25, hb25, hf⟩ := ob_bind hf
    obtain ⟨n25, hn25⟩ := lp_some hb25
    have kL13 : ∀ (n : Nat) (w23 : Mm) (v1_24 : Int32), lpF (fun (q25 : Mm × Int32) => M_keep_b13 q25.1 q25.2) n (w23, v1_24) = some b25 → (∀ (H : Heap) (locs : List Loc) (ls : Array Slot), va_P D clM (wl shM 19 dA E b25) H → va_S (AE 19 E) s.heap H locs → lv_has ls 3 [(0, .ref (E 0))] → W p l e rmX2_keep s m args below meth c H locs 0 0 Q (F0 m 45 ls [])) → ∀ (H : Heap) (locs : List Loc) (ls : Array Slot), va_P D clM (wl shM 19 dA E w23) H → va_S (AE 19 E) s.heap H locs → lv_has ls 3 [(0, .ref (E 0)), (1, .int v1_24)] → W p l e rmX2_keep s m args below meth c H locs 0 0 Q (F0 m 13 ls []) := by
      intro n
      induction n with
      | zero =>
        intro w23 v1_24 h
        cases h
      | succ n ih =>
        intro w23 v1_24 h K25_0 H locs ls hP hS hl
        obtain ⟨r25, hf, h25a, h25b⟩ := lpF_step h
        replace hf : M_keep_b13 w23 v1_24 = some r25 := hf
        unfold M_keep_b13 at hf
        refine lv_iload_n hx hb dX2_keep_13 rfl (lv_at hl 1 rfl) ?_
        refine lv_sipush (v := 2610) hx hb dX2_keep_14 (by decide) ?_
        refine lv_icmp_ge (tgt := 45) hx hb dX2_keep_17 (by decide) (fun c26 => ?_) (fun c26 => ?_)
        · replace hf := ob_t hf c26
          obtain rfl := ob_s hf
          obtain rfl := h25b _ rfl
          exact K25_0 H locs ls hP hS (lv_sub hl [0] rfl)
        · replace hf := ob_f hf c26
          refine lv_aload_n hx hb dX2_keep_20 rfl (lv_at hl 0 rfl) ?_
          refine xr_get hx hb hts in_X2 hown hK hP 0 (by decide) rfl rfl 0 (by decide) (hts _ q1405) (fun _ h => h) rfl (v := .ref (E 1)) rfl dX2_keep_21 ?_
          refine lv_bipush (v := 115) hx hb dX2_keep_24 (by decide) ?_
          refine lv_iload_n hx hb dX2_keep_26 rfl (lv_at hl 1 rfl) ?_
          refine lv_iadd hx hb dX2_keep_27 ?_
          refine lv_aload_n hx hb dX2_keep_28 rfl (lv_at hl 0 rfl) ?_
          refine xr_get hx hb hts in_X2 hown hK hP 0 (by decide) rfl rfl 0 (by decide) (hts _ q1405) (fun _ h => h) rfl (v := .ref (E 1)) rfl dX2_keep_29 ?_
          refine lv_sipush (v := 205) hx hb dX2_keep_32 (by decide) ?_
          refine lv_iload_n hx hb dX2_keep_35 rfl (lv_at hl 1 rfl) ?_
          refine lv_iadd hx hb dX2_keep_36 ?_
          obtain ⟨h27, hf⟩ := ob_gd hf
          refine xr_iald hx hb hK hP 1 (by decide) rfl 0 rfl (j := (205 + v1_24).toNatClampNeg) h27 rfl dX2_keep_37 ?_
          obtain ⟨h28, hf⟩ := ob_gd hf
          obtain ⟨w29, ew29, hf⟩ := ob_bnd hf
          refine xr_iast hx hb hK hP hD hS 1 (by decide) rfl 0 rfl (j := (115 + v1_24).toNatClampNeg) (w' := w29) h28 rfl ew29 dX2_keep_38 (fun H locs hP hS => ?_)
          obtain ⟨v1_30, ev1_30, hf⟩ := ob_bnd hf
          refine lv_iinc (v := v1_30) (lv' := [(1, .int v1_30), (0, .ref (E 0))]) hx hb dX2_keep_39 hl (k := 1) rfl (by rw [ev1_30]; rfl) (by decide) rfl (fun ls hl => ?_)
          refine lv_goto (tgt := 13) hx hb dX2_keep_42 (by decide) ?_
          obtain rfl := ob_s hf
          exact ih _ _ (h25a _ rfl) K25_0 H locs ls hP hS (lv_sub hl [1, 0] rfl)
    refine kL13 n25 w 0 hn25 (fun H locs ls hP hS hl => ?_) H locs ls hP hS (lv_sub hl [1, 0] rfl)
    replace hf : M_keep_x13_45 b25 = some res := hf
    unfold M_keep_x13_45 at hf
    refine lv_aload_n hx hb dX2_keep_45 rfl (lv_at hl 0 rfl) ?_
    refine xr_get hx hb hts in_X2 hown hK hP 0 (by decide) rfl rfl 0 (by decide) (hts _ q1405) (fun _ h => h) rfl (v := .ref (E 1)) rfl dX2_keep_46 ?_
    refine lv_iconst (v := 3) hx hb dX2_keep_49 (by decide) ?_
    refine lv_dup2_11 hx hb dX2_keep_50 rfl rfl ?_
    refine xr_iald hx hb hK hP 1 (by decide) rfl 0 rfl (j := 3) (vin_c (by decide)) (by decide) dX2_keep_51 ?_
    refine lv_iconst (v := 1) hx hb dX2_keep_52 (by decide) ?_
    refine lv_isub hx hb dX2_keep_53 ?_
    obtain ⟨w31, ew31, hf⟩ := ob_bnd hf
    refine xr_iast hx hb hK hP hD hS 1 (by decide) rfl 0 rfl (j := 3) (w' := w31) (vin_c (by decide)) (by decide) ew31 dX2_keep_54 (fun H locs hP hS => ?_)
    exact kj55 w31 H locs ls hf hP hS (lv_sub hl [0] rfl)
