/-! QuarrelsPawned: its methods walked (printed by run_x.py) -/
abbrev rmX0_undo : Room := { frames := 2, cells := 0, slots := 0, locals := 81 }
theorem cdX0_undo : yX0_undo.cls = RX0 ∧ yX0_undo.cls ≠ "java/lang/invoke/MethodHandle" ∧ yX0_undo.cls ≠ "java/lang/invoke/VarHandle" ∧ (parseMethodDescriptor yX0_undo.desc).map (fun d => d.parameters.length) = some 0 := by decide +kernel
set_option maxHeartbeats 4000000 in
set_option maxRecDepth 100000 in
theorem wkX0_undo (l : Launch) (D : va_G) (dA : Nat → ClassId) (E : Nat → Nat) (hE : wInj 136 E) (T : Tx) (J : State → Heap → Prop) (hJ : JP D dA E T J) (w : Mm)  {res : Int32 × Mm} (hf : X_undo w = some res) : Met l yX0_undo (ws_ yX0_undo cX0_undo 1 (some .int)) rmX0_undo (Pj D dA E J [.ref (E 0)] w) (Qwi D clX shX 136 dA E res.1 res.2) 0 0 (AE 136 E) := by
  refine xj_head (own := RX0) (by decide) rfl (Nat.le_of_ble_eq_true rfl) ?_
  intro p e s m args below meth c ls Q hQ C hP hl
  obtain ⟨hx, hb, hr, hlocks, hml, hown, hts, hK, hJs⟩ := C
  replace hl : lv_has ls 1 [(0, .ref (E 0))] := hl
  have hS : va_S (AE 136 E) s.heap s.heap [] := va_S.rf
  have hD : wD 136 E (AE 136 E) := wD.self hE
  unfold X_undo at hf
  obtain ⟨H, eH⟩ : ∃ H, H = s.heap := ⟨_, rfl⟩
  obtain ⟨locs, eL⟩ : ∃ locs : List Loc, locs = [] := ⟨_, rfl⟩
  rw [← eL] at hS ⊢
  rw [← eH] at hP
  have hS : va_S (AE 136 E) s.heap H locs := by rw [eH]; exact hS
  show W p l e rmX0_undo s m args below meth c s.heap locs 0 0 Q (F0 m 0 ls [])
  rw [← eH]
  refine lv_aload_n hx hb dX0_undo_0 rfl (lv_at hl 0 rfl) ?_
  refine xr_get hx hb hts in_X0 hown hK hP 0 (by decide) rfl rfl 0 (by decide) (hts _ q252) (fun _ h => h) rfl (v := .ref (E 1)) rfl dX0_undo_1 ?_
  refine xr_getN (host := "QuarrelsPawned") hx hb hts in_X1 hown hK hP 1 (by decide) rfl rfl 0 (by decide) (hJ.nest hJs 0 rfl) (fun _ h => h) rfl (v := .ref (E 3)) rfl dX0_undo_4 ?_
  refine lv_iconst (v := 3) hx hb dX0_undo_7 (by decide) ?_
  refine xr_iald hx hb hK hP 3 (by decide) rfl 0 rfl (j := 3) (vin_c (by decide)) (by decide) dX0_undo_8 ?_
  refine lv_if_ne (tgt := 14) hx hb dX0_undo_9 (by decide) (fun c1 => ?_) (fun c1 => ?_)
  · replace hf := ob_f hf c1
    refine lv_aload_n hx hb dX0_undo_14 rfl (lv_at hl 0 rfl) ?_
    refine xr_get hx hb hts in_X0 hown hK hP 0 (by decide) rfl rfl 0 (by decide) (hts _ q252) (fun _ h => h) rfl (v := .ref (E 1)) rfl dX0_undo_15 ?_
    refine xr_getN (host := "QuarrelsPawned") hx hb hts in_X1 hown hK hP 1 (by decide) rfl rfl 0 (by decide) (hJ.nest hJs 0 rfl) (fun _ h => h) rfl (v := .ref (E 3)) rfl dX0_undo_18 ?_
    refine lv_iconst (v := 3) hx hb dX0_undo_21 (by decide) ?_
    refine lv_dup2_11 hx hb dX0_undo_22 rfl rfl ?_
    refine xr_iald hx hb hK hP 3 (by decide) rfl 0 rfl (j := 3) (vin_c (by decide)) (by decide) dX0_undo_23 ?_
    refine lv_iconst (v := 1) hx hb dX0_undo_24 (by decide) ?_
    refine lv_isub hx hb dX0_undo_25 ?_
    obtain ⟨w2, ew2, hf⟩ := ob_bnd hf
    refine xr_iast hx hb hK hP hD hS 3 (by decide) rfl 0 rfl (j := 3) (w' := w2) (vin_c (by decide)) (by decide) ew2 dX0_undo_26 (fun H locs hP hS => ?_)
    refine lv_aload_n hx hb dX0_undo_27 rfl (lv_at hl 0 rfl) ?_
    refine xr_get hx hb hts in_X0 hown hK hP 0 (by decide) rfl rfl 0 (by decide) (hts _ q252) (fun _ h => h) rfl (v := .ref (E 1)) rfl dX0_undo_28 ?_
    refine xr_getN (host := "QuarrelsPawned") hx hb hts in_X1 hown hK hP 1 (by decide) rfl rfl 9 (by decide) (hJ.nest hJs 9 rfl) (fun _ h => h) rfl (v := .ref (E 12)) rfl dX0_undo_31 ?_
    refine lv_aload_n hx hb dX0_undo_34 rfl (lv_at hl 0 rfl) ?_
    refine xr_get hx hb hts in_X0 hown hK hP 0 (by decide) rfl rfl 0 (by decide) (hts _ q252) (fun _ h => h) rfl (v := .ref (E 1)) rfl dX0_undo_35 ?_
    refine xr_getN (host := "QuarrelsPawned") hx hb hts in_X1 hown hK hP 1 (by decide) rfl rfl 0 (by decide) (hJ.nest hJs 0 rfl) (fun _ h => h) rfl (v := .ref (E 3)) rfl dX0_undo_38 ?_
    refine lv_iconst (v := 3) hx hb dX0_undo_41 (by decide) ?_
    refine xr_iald hx hb hK hP 3 (by decide) rfl 0 rfl (j := 3) (vin_c (by decide)) (by decide) dX0_undo_42 ?_
    obtain ⟨h3, hf⟩ := ob_gd hf
    refine xr_aald hx hb hK hP 12 (by decide) rfl (j := (w2.1 3 3).toNatClampNeg) h3 rfl dX0_undo_43 ?_
    refine lv_aload_n hx hb dX0_undo_44 rfl (lv_at hl 0 rfl) ?_
    refine xr_get hx hb hts in_X0 hown hK hP 0 (by decide) rfl rfl 0 (by decide) (hts _ q252) (fun _ h => h) rfl (v := .ref (E 1)) rfl dX0_undo_45 ?_
    refine xr_getN (host := "QuarrelsPawned") hx hb hts in_X1 hown hK hP 1 (by decide) rfl rfl 1 (by decide) (hJ.nest hJs 1 rfl) (fun _ h => h) rfl (v := .ref (E 4)) rfl dX0_undo_48 ?_
    obtain ⟨q5, g4, hf⟩ := ob_bind hf
    refine xc_v (xj_runSN (As := [.ref (E (52 + (w2.1 3 3).toNatClampNeg)), .ref (E 4)]) (rest := []) hJ hJs hS ⟨hx, hb, hml, hown, hts⟩ (wkX1_copy l D dA E hE T J hJ w2 (52 + (w2.1 3 3).toNatClampNeg) 149 4 149 g4 (by have := vin_lt h3; omega) (shX_r2 (by have := vin_lt h3; omega)) (by decide) rfl) (va_cnB (host := "QuarrelsPawned") 2 hts (lw_meth q245) rfl rfl rfl (hJ.nest hJs 15 rfl) (hts _ q137) cdX1_copy.2 ⟨Nat.le_of_ble_eq_true rfl, Nat.le_of_ble_eq_true rfl⟩) (hts _ q244) hK hP hl.1 rfl rfl (Nat.le_of_ble_eq_true rfl) dX0_undo_51 ⟨Nat.zero_le _, Nat.zero_le _⟩) hS hD.2 (fun H locs hP hS => ?_)
    refine lv_aload_n hx hb dX0_undo_54 rfl (lv_at hl 0 rfl) ?_
    refine xr_get hx hb hts in_X0 hown hK hP 0 (by decide) rfl rfl 0 (by decide) (hts _ q252) (fun _ h => h) rfl (v := .ref (E 1)) rfl dX0_undo_55 ?_
    refine xr_getN (host := "QuarrelsPawned") hx hb hts in_X1 hown hK hP 1 (by decide) rfl rfl 0 (by decide) (hJ.nest hJs 0 rfl) (fun _ h => h) rfl (v := .ref (E 3)) rfl dX0_undo_58 ?_
    refine lv_iconst (v := 3) hx hb dX0_undo_61 (by decide) ?_
    refine xr_iald hx hb hK hP 3 (by decide) rfl 0 rfl (j := 3) (vin_c (by decide)) (by decide) dX0_undo_62 ?_
    obtain rfl := ob_s hf
    subst hQ
    exact xe_i hx hb hr hlocks hP hS dX0_undo_63
  · replace hf := ob_t hf c1
    refine lv_iconst (v := (-1)) hx hb dX0_undo_12 (by decide) ?_
    obtain rfl := ob_s hf
    subst hQ
    exact xe_i hx hb hr hlocks hP hS dX0_undo_13
abbrev rmX0_of : Room := { frames := 202, cells := 0, slots := 0, locals := 8045 }
theorem cdX0_of : yX0_of.cls = RX0 ∧ yX0_of.cls ≠ "java/lang/invoke/MethodHandle" ∧ yX0_of.cls ≠ "java/lang/invoke/VarHandle" ∧ (parseMethodDescriptor yX0_of.desc).map (fun d => d.parameters.length) = some 2 := by decide +kernel
set_option maxHeartbeats 4000000 in
set_option maxRecDepth 100000 in
theorem wkX0_of (l : Launch) (D : va_G) (dA : Nat → ClassId) (E : Nat → Nat) (hE : wInj 136 E) (T : Tx) (J : State → Heap → Prop) (hJ : JP D dA E T J) (w : Mm) (a1 : Int32) (a2 : Int32) {res : Int32 × Mm} (hf : X_of T w a1 a2 = some res) : Met l yX0_of (ws_ yX0_of cX0_of 3 (some .int)) rmX0_of (Pj D dA E J [.ref (E 0), .int a1, .int a2] w) (Qwi D clX shX 136 dA E res.1 res.2) 0 0 (AE 136 E) := by
  refine xj_head (own := RX0) (by decide) rfl (Nat.le_of_ble_eq_true rfl) ?_
  intro p e s m args below meth c ls Q hQ C hP hl
  obtain ⟨hx, hb, hr, hlocks, hml, hown, hts, hK, hJs⟩ := C
  replace hl : lv_has ls 3 [(0, .ref (E 0)), (1, .int a1), (2, .int a2)] := hl
  have hS : va_S (AE 136 E) s.heap s.heap [] := va_S.rf
  have hD : wD 136 E (AE 136 E) := wD.self hE
  unfold X_of at hf
  obtain ⟨H, eH⟩ : ∃ H, H = s.heap := ⟨_, rfl⟩
  obtain ⟨locs, eL⟩ : ∃ locs : List Loc, locs = [] := ⟨_, rfl⟩
  rw [← eL] at hS ⊢
  rw [← eH] at hP
  have hS : va_S (AE 136 E) s.heap H locs := by rw [eH]; exact hS
  show W p l e rmX0_of s m args below meth c s.heap locs 0 0 Q (F0 m 0 ls [])
  rw [← eH]
  refine lv_aload_n hx hb dX0_of_0 rfl (lv_at hl 0 rfl) ?_
  refine lv_iload_n hx hb dX0_of_1 rfl (lv_at hl 1 rfl) ?_
  obtain ⟨q2, g1, hf⟩ := ob_bind hf
  refine xc_z (xj_run (As := [.int a1]) (rest := []) hJ hJs hS ⟨hx, hb, hml, hown, hts⟩ (k0 := 0) (wkX0_isQuarrel l D dA E hE T J hJ w a1 g1) (cwV 1 hts (lw_V q906 q908 qs25 q136 q909) rfl rfl rfl cdX0_isQuarrel ⟨Nat.le_of_ble_eq_true rfl, Nat.le_of_ble_eq_true rfl⟩) hK hP (by decide) rfl rfl rfl hl.1 rfl rfl (Nat.le_of_ble_eq_true rfl) dX0_of_2 ⟨Nat.zero_le _, Nat.zero_le _⟩) hS hD.2 (fun H locs zq2 hP hS => ?_)
  refine lv_if_ne (tgt := 12) hx hb dX0_of_5 (by decide) (fun c3 => ?_) (fun c3 => ?_)
  · replace hf := ob_f hf c3
    refine lv_iload_n hx hb dX0_of_12 rfl (lv_at hl 2 rfl) ?_
    by_cases c4 : a2 = 0
    · replace hf := ob_t hf c4
      refine lv_tableIn (tgt := 60) (off := 47) hx hb dX0_of_13 (by rw [c4]; decide) (by rw [c4]; decide) (by rw [c4]; rfl) (by decide) ?_
      refine lv_aload_n hx hb dX0_of_60 rfl (lv_at hl 0 rfl) ?_
      refine xr_get hx hb hts in_X0 hown hK hP 0 (by decide) rfl rfl 0 (by decide) (hts _ q252) (fun _ h => h) rfl (v := .ref (E 1)) rfl dX0_of_61 ?_
      refine xr_getN (host := "QuarrelsPawned") hx hb hts in_X1 hown hK hP 1 (by decide) rfl rfl 2 (by decide) (hJ.nest hJs 2 rfl) (fun _ h => h) rfl (v := .ref (E 5)) rfl dX0_of_64 ?_
      refine lv_iload_n hx hb dX0_of_67 rfl (lv_at hl 1 rfl) ?_
      obtain ⟨h5, hf⟩ := ob_gd hf
      refine xr_iald hx hb hK hP 5 (by decide) rfl 0 rfl (j := a1.toNatClampNeg) h5 rfl dX0_of_68 ?_
      obtain rfl := ob_s hf
      subst hQ
      exact xe_i hx hb hr hlocks hP hS dX0_of_69
    · replace hf := ob_f hf c4
      by_cases c6 : a2 = 1
      · replace hf := ob_t hf c6
        refine lv_tableIn (tgt := 70) (off := 57) hx hb dX0_of_13 (by rw [c6]; decide) (by rw [c6]; decide) (by rw [c6]; rfl) (by decide) ?_
        refine lv_aload_n hx hb dX0_of_70 rfl (lv_at hl 0 rfl) ?_
        refine xr_get hx hb hts in_X0 hown hK hP 0 (by decide) rfl rfl 0 (by decide) (hts _ q252) (fun _ h => h) rfl (v := .ref (E 1)) rfl dX0_of_71 ?_
        refine xr_getN (host := "QuarrelsPawned") hx hb hts in_X1 hown hK hP 1 (by decide) rfl rfl 3 (by decide) (hJ.nest hJs 3 rfl) (fun _ h => h) rfl (v := .ref (E 6)) rfl dX0_of_74 ?_
        refine lv_iload_n hx hb dX0_of_77 rfl (lv_at hl 1 rfl) ?_
        obtain ⟨h7, hf⟩ := ob_gd hf
        refine xr_iald hx hb hK hP 6 (by decide) rfl 0 rfl (j := a1.toNatClampNeg) h7 rfl dX0_of_78 ?_
        obtain rfl := ob_s hf
        subst hQ
        exact xe_i hx hb hr hlocks hP hS dX0_of_79
      · replace hf := ob_f hf c6
        by_cases c8 : a2 = 2
        · replace hf := ob_t hf c8
          refine lv_tableIn (tgt := 80) (off := 67) hx hb dX0_of_13 (by rw [c8]; decide) (by rw [c8]; decide) (by rw [c8]; rfl) (by decide) ?_
          refine lv_aload_n hx hb dX0_of_80 rfl (lv_at hl 0 rfl) ?_
          refine xr_get hx hb hts in_X0 hown hK hP 0 (by decide) rfl rfl 0 (by decide) (hts _ q252) (fun _ h => h) rfl (v := .ref (E 1)) rfl dX0_of_81 ?_
          refine xr_getN (host := "QuarrelsPawned") hx hb hts in_X1 hown hK hP 1 (by decide) rfl rfl 4 (by decide) (hJ.nest hJs 4 rfl) (fun _ h => h) rfl (v := .ref (E 7)) rfl dX0_of_84 ?_
          refine lv_iload_n hx hb dX0_of_87 rfl (lv_at hl 1 rfl) ?_
          obtain ⟨h9, hf⟩ := ob_gd hf
          refine xr_iald hx hb hK hP 7 (by decide) rfl 0 rfl (j := a1.toNatClampNeg) h9 rfl dX0_of_88 ?_
          obtain rfl := ob_s hf
          subst hQ
          exact xe_i hx hb hr hlocks hP hS dX0_of_89
        · replace hf := ob_f hf c8
          by_cases c10 : a2 = 3
          · replace hf := ob_t hf c10
            refine lv_tableIn (tgt := 90) (off := 77) hx hb dX0_of_13 (by rw [c10]; decide) (by rw [c10]; decide) (by rw [c10]; rfl) (by decide) ?_
            refine lv_aload_n hx hb dX0_of_90 rfl (lv_at hl 0 rfl) ?_
            refine xr_get hx hb hts in_X0 hown hK hP 0 (by decide) rfl rfl 0 (by decide) (hts _ q252) (fun _ h => h) rfl (v := .ref (E 1)) rfl dX0_of_91 ?_
            refine xr_getN (host := "QuarrelsPawned") hx hb hts in_X1 hown hK hP 1 (by decide) rfl rfl 1 (by decide) (hJ.nest hJs 1 rfl) (fun _ h => h) rfl (v := .ref (E 4)) rfl dX0_of_94 ?_
            refine lv_bipush (v := 20) hx hb dX0_of_97 (by decide) ?_
            refine lv_iload_n hx hb dX0_of_99 rfl (lv_at hl 1 rfl) ?_
            refine lv_iadd hx hb dX0_of_100 ?_
            obtain ⟨h11, hf⟩ := ob_gd hf
            refine xr_iald hx hb hK hP 4 (by decide) rfl 0 rfl (j := (20 + a1).toNatClampNeg) h11 rfl dX0_of_101 ?_
            obtain rfl := ob_s hf
            subst hQ
            exact xe_i hx hb hr hlocks hP hS dX0_of_102
          · replace hf := ob_f hf c10
            by_cases c12 : a2 = 4
            · replace hf := ob_t hf c12
              refine lv_tableIn (tgt := 103) (off := 90) hx hb dX0_of_13 (by rw [c12]; decide) (by rw [c12]; decide) (by rw [c12]; rfl) (by decide) ?_
              refine lv_aload_n hx hb dX0_of_103 rfl (lv_at hl 0 rfl) ?_
              refine xr_get hx hb hts in_X0 hown hK hP 0 (by decide) rfl rfl 0 (by decide) (hts _ q252) (fun _ h => h) rfl (v := .ref (E 1)) rfl dX0_of_104 ?_
              refine xr_getN (host := "QuarrelsPawned") hx hb hts in_X1 hown hK hP 1 (by decide) rfl rfl 1 (by decide) (hJ.nest hJs 1 rfl) (fun _ h => h) rfl (v := .ref (E 4)) rfl dX0_of_107 ?_
              refine lv_iconst (v := 4) hx hb dX0_of_110 (by decide) ?_
              refine lv_iload_n hx hb dX0_of_111 rfl (lv_at hl 1 rfl) ?_
              refine lv_iadd hx hb dX0_of_112 ?_
              obtain ⟨h13, hf⟩ := ob_gd hf
              refine xr_iald hx hb hK hP 4 (by decide) rfl 0 rfl (j := (4 + a1).toNatClampNeg) h13 rfl dX0_of_113 ?_
              obtain rfl := ob_s hf
              subst hQ
              exact xe_i hx hb hr hlocks hP hS dX0_of_114
            · replace hf := ob_f hf c12
              by_cases c14 : a2 = 5
              · replace hf := ob_t hf c14
                refine lv_tableIn (tgt := 115) (off := 102) hx hb dX0_of_13 (by rw [c14]; decide) (by rw [c14]; decide) (by rw [c14]; rfl) (by decide) ?_
                refine lv_aload_n hx hb dX0_of_115 rfl (lv_at hl 0 rfl) ?_
                refine xr_get hx hb hts in_X0 hown hK hP 0 (by decide) rfl rfl 0 (by decide) (hts _ q252) (fun _ h => h) rfl (v := .ref (E 1)) rfl dX0_of_116 ?_
                refine xr_getN (host := "QuarrelsPawned") hx hb hts in_X1 hown hK hP 1 (by decide) rfl rfl 1 (by decide) (hJ.nest hJs 1 rfl) (fun _ h => h) rfl (v := .ref (E 4)) rfl dX0_of_119 ?_
                refine lv_iload_n hx hb dX0_of_122 rfl (lv_at hl 1 rfl) ?_
                obtain ⟨q16, g15, hf⟩ := ob_bind hf
                refine xc_i (xj_runS (As := [.ref (E 4), .int a1]) (rest := []) hJ hJs hS ⟨hx, hb, hml, hown, hts⟩ (wkX0_heldOf l D dA E hE T J hJ w 4 a1 g15 (by decide) rfl) (va_cwS 2 hts (lw_S q949 q950 q136 q951) rfl rfl rfl cdX0_heldOf.2 ⟨Nat.le_of_ble_eq_true rfl, Nat.le_of_ble_eq_true rfl⟩) hK hP hl.1 rfl rfl (Nat.le_of_ble_eq_true rfl) dX0_of_123 ⟨Nat.zero_le _, Nat.zero_le _⟩) hS hD.2 (fun H locs hP hS => ?_)
                obtain rfl := ob_s hf
                subst hQ
                exact xe_i hx hb hr hlocks hP hS dX0_of_126
              · replace hf := ob_f hf c14
                by_cases c17 : a2 = 6
                · replace hf := ob_t hf c17
                  refine lv_tableIn (tgt := 127) (off := 114) hx hb dX0_of_13 (by rw [c17]; decide) (by rw [c17]; decide) (by rw [c17]; rfl) (by decide) ?_
                  refine lv_aload_n hx hb dX0_of_127 rfl (lv_at hl 0 rfl) ?_
                  refine lv_aload_n hx hb dX0_of_128 rfl (lv_at hl 0 rfl) ?_
                  obtain ⟨q19, g18, hf⟩ := ob_bind hf
                  refine xc_a (xj_run (As := []) (rest := [.ref (E 0)]) hJ hJs hS ⟨hx, hb, hml, hown, hts⟩ (k0 := 0) (wkX0_rules l D dA E hE T J hJ w g18) (cwV 0 hts (lw_V q935 q937 qs29 q136 q938) rfl rfl rfl cdX0_rules ⟨Nat.le_of_ble_eq_true rfl, Nat.le_of_ble_eq_true rfl⟩) hK hP (by decide) rfl rfl rfl hl.1 rfl rfl (Nat.le_of_ble_eq_true rfl) dX0_of_129 ⟨Nat.zero_le _, Nat.zero_le _⟩) hS hD.2 (fun H locs hP hS => ?_)
                  refine lv_aload_n hx hb dX0_of_132 rfl (lv_at hl 0 rfl) ?_
                  refine xr_get hx hb hts in_X0 hown hK hP 0 (by decide) rfl rfl 0 (by decide) (hts _ q252) (fun _ h => h) rfl (v := .ref (E 1)) rfl dX0_of_133 ?_
                  refine xr_getN (host := "QuarrelsPawned") hx hb hts in_X1 hown hK hP 1 (by decide) rfl rfl 1 (by decide) (hJ.nest hJs 1 rfl) (fun _ h => h) rfl (v := .ref (E 4)) rfl dX0_of_136 ?_
                  refine lv_iload_n hx hb dX0_of_139 rfl (lv_at hl 1 rfl) ?_
                  obtain ⟨q21, g20, hf⟩ := ob_bind hf
                  refine xc_i (xj_run (As := [.ref q19, .ref (E 4), .int a1]) (rest := []) hJ hJs hS ⟨hx, hb, hml, hown, hts⟩ (k0 := 0) (wkX0_duesBy l D dA E hE T J hJ w q19 4 a1 g20 (by decide) rfl) (cwV 3 hts (lw_V q941 q943 qs30 q136 q944) rfl rfl rfl cdX0_duesBy ⟨Nat.le_of_ble_eq_true rfl, Nat.le_of_ble_eq_true rfl⟩) hK hP (by decide) rfl rfl rfl hl.1 rfl rfl (Nat.le_of_ble_eq_true rfl) dX0_of_140 ⟨Nat.zero_le _, Nat.zero_le _⟩) hS hD.2 (fun H locs hP hS => ?_)
                  obtain rfl := ob_s hf
                  subst hQ
                  exact xe_i hx hb hr hlocks hP hS dX0_of_143
                · replace hf := ob_f hf c17
                  by_cases c22 : a2 = 7
                  · replace hf := ob_t hf c22
                    refine lv_tableIn (tgt := 144) (off := 131) hx hb dX0_of_13 (by rw [c22]; decide) (by rw [c22]; decide) (by rw [c22]; rfl) (by decide) ?_
                    refine lv_aload_n hx hb dX0_of_144 rfl (lv_at hl 0 rfl) ?_
                    refine lv_aload_n hx hb dX0_of_145 rfl (lv_at hl 0 rfl) ?_
                    refine xr_get hx hb hts in_X0 hown hK hP 0 (by decide) rfl rfl 0 (by decide) (hts _ q252) (fun _ h => h) rfl (v := .ref (E 1)) rfl dX0_of_146 ?_
                    refine xr_getN (host := "QuarrelsPawned") hx hb hts in_X1 hown hK hP 1 (by decide) rfl rfl 1 (by decide) (hJ.nest hJs 1 rfl) (fun _ h => h) rfl (v := .ref (E 4)) rfl dX0_of_149 ?_
                    refine lv_iload_n hx hb dX0_of_152 rfl (lv_at hl 1 rfl) ?_
                    obtain ⟨q24, g23, hf⟩ := ob_bind hf
                    refine xc_i (xj_run (As := [.ref (E 4), .int a1]) (rest := []) hJ hJs hS ⟨hx, hb, hml, hown, hts⟩ (k0 := 0) (wkX0_sellsOf l D dA E hE T J hJ w 4 a1 g23 (by decide) rfl) (cwV 2 hts (lw_V q1095 q1097 qs36 q136 q1098) rfl rfl rfl cdX0_sellsOf ⟨Nat.le_of_ble_eq_true rfl, Nat.le_of_ble_eq_true rfl⟩) hK hP (by decide) rfl rfl rfl hl.1 rfl rfl (Nat.le_of_ble_eq_true rfl) dX0_of_153 ⟨Nat.zero_le _, Nat.zero_le _⟩) hS hD.2 (fun H locs hP hS => ?_)
                    obtain rfl := ob_s hf
                    subst hQ
                    exact xe_i hx hb hr hlocks hP hS dX0_of_156
                  · replace hf := ob_f hf c22
                    refine xr_tswD (tgt := 157) (vs := [0, 1, 2, 3, 4, 5, 6, 7]) hx hb dX0_of_13 (List.forall_mem_cons.mpr ⟨c4, List.forall_mem_cons.mpr ⟨c6, List.forall_mem_cons.mpr ⟨c8, List.forall_mem_cons.mpr ⟨c10, List.forall_mem_cons.mpr ⟨c12, List.forall_mem_cons.mpr ⟨c14, List.forall_mem_cons.mpr ⟨c17, List.forall_mem_cons.mpr ⟨c22, fun _ h => absurd h List.not_mem_nil⟩⟩⟩⟩⟩⟩⟩⟩) (by decide +kernel) (by decide) ?_
                    refine lv_sipush (v := (-10000)) hx hb dX0_of_157 (by decide) ?_
                    obtain rfl := ob_s hf
                    subst hQ
                    exact xe_i hx hb hr hlocks hP hS dX0_of_160
  · replace hf := ob_t hf c3
    refine lv_sipush (v := (-10000)) hx hb dX0_of_8 (by decide) ?_
    obtain rfl := ob_s hf
    subst hQ
    exact xe_i hx hb hr hlocks hP hS dX0_of_11
abbrev rmX0_has : Room := { frames := 0, cells := 0, slots := 0, locals := 0 }
theorem cdX0_has : yX0_has.cls = RX0 ∧ yX0_has.cls ≠ "java/lang/invoke/MethodHandle" ∧ yX0_has.cls ≠ "java/lang/invoke/VarHandle" ∧ (parseMethodDescriptor yX0_has.desc).map (fun d => d.parameters.length) = some 2 := by decide +kernel
set_option maxHeartbeats 4000000 in
set_option maxRecDepth 100000 in
theorem wkX0_has (l : Launch) (D : va_G) (dA : Nat → ClassId) (E : Nat → Nat) (hE : wInj 136 E) (T : Tx) (J : State → Heap → Prop) (hJ : JP D dA E T J) (w : Mm) (a0 : Int32) (a1 : Int32) {res : Int32} (hf : X_has a0 a1 = some res) : Met l yX0_has (ws_ yX0_has cX0_has 2 (some .boolean)) rmX0_has (Pj D dA E J [.int a0, .int a1] w) (Qwz D clX shX 136 dA E res w) 0 0 (AE 136 E) := by
  refine xj_head (own := RX0) (by decide) rfl (Nat.le_of_ble_eq_true rfl) ?_
  intro p e s m args below meth c ls Q hQ C hP hl
  obtain ⟨hx, hb, hr, hlocks, hml, hown, hts, hK, hJs⟩ := C
  replace hl : lv_has ls 2 [(0, .int a0), (1, .int a1)] := hl
  have hS : va_S (AE 136 E) s.heap s.heap [] := va_S.rf
  have hD : wD 136 E (AE 136 E) := wD.self hE
  unfold X_has at hf
  obtain ⟨H, eH⟩ : ∃ H, H = s.heap := ⟨_, rfl⟩
  obtain ⟨locs, eL⟩ : ∃ locs : List Loc, locs = [] := ⟨_, rfl⟩
  rw [← eL] at hS ⊢
  rw [← eH] at hP
  have hS : va_S (AE 136 E) s.heap H locs := by rw [eH]; exact hS
  show W p l e rmX0_has s m args below meth c s.heap locs 0 0 Q (F0 m 0 ls [])
  rw [← eH]
  refine lv_iload_n hx hb dX0_has_0 rfl (lv_at hl 0 rfl) ?_
  refine lv_iload_n hx hb dX0_has_1 rfl (lv_at hl 1 rfl) ?_
  refine lv_ishr hx hb dX0_has_2 ?_
  refine lv_iconst (v := 1) hx hb dX0_has_3 (by decide) ?_
  refine lv_iand hx hb dX0_has_4 ?_
  refine lv_iconst (v := 1) hx hb dX0_has_5 (by decide) ?_
  refine lv_icmp_ne (tgt := 13) hx hb dX0_has_6 (by decide) (fun c1 => ?_) (fun c1 => ?_)
  · replace hf := ob_f hf c1
    refine lv_iconst (v := 0) hx hb dX0_has_13 (by decide) ?_
    obtain rfl := ob_s hf
    subst hQ
    exact xe_z hx hb hr hlocks hP hS (Or.inl rfl) dX0_has_14
  · replace hf := ob_t hf c1
    refine lv_iconst (v := 1) hx hb dX0_has_9 (by decide) ?_
    refine lv_goto (tgt := 14) hx hb dX0_has_10 (by decide) ?_
    obtain rfl := ob_s hf
    subst hQ
    exact xe_z hx hb hr hlocks hP hS (Or.inr rfl) dX0_has_14
abbrev rmX0_duesOfAll : Room := { frames := 202, cells := 0, slots := 0, locals := 8045 }
theorem cdX0_duesOfAll : yX0_duesOfAll.cls = RX0 ∧ yX0_duesOfAll.cls ≠ "java/lang/invoke/MethodHandle" ∧ yX0_duesOfAll.cls ≠ "java/lang/invoke/VarHandle" ∧ (parseMethodDescriptor yX0_duesOfAll.desc).map (fun d => d.parameters.length) = some 1 := by decide +kernel
set_option maxHeartbeats 4000000 in
set_option maxRecDepth 100000 in
theorem wkX0_duesOfAll (l : Launch) (D : va_G) (dA : Nat → ClassId) (E : Nat → Nat) (hE : wInj 136 E) (T : Tx) (J : State → Heap → Prop) (hJ : JP D dA E T J) (w : Mm) (a1 : Int32) {res : Int32 × Mm} (hf : X_duesOfAll T w a1 = some res) : Met l yX0_duesOfAll (ws_ yX0_duesOfAll cX0_duesOfAll 4 (some .int)) rmX0_duesOfAll (Pj D dA E J [.ref (E 0), .int a1] w) (Qwi D clX shX 136 dA E res.1 res.2) 0 0 (AE 136 E) := by
  refine xj_head (own := RX0) (by decide) rfl (Nat.le_of_ble_eq_true rfl) ?_
  intro p e s m args below meth c ls Q hQ C hP hl
  obtain ⟨hx, hb, hr, hlocks, hml, hown, hts, hK, hJs⟩ := C
  replace hl : lv_has ls 4 [(0, .ref (E 0)), (1, .int a1)] := hl
  have hS : va_S (AE 136 E) s.heap s.heap [] := va_S.rf
  have hD : wD 136 E (AE 136 E) := wD.self hE
  unfold X_duesOfAll at hf
  obtain ⟨H, eH⟩ : ∃ H, H = s.heap := ⟨_, rfl⟩
  obtain ⟨locs, eL⟩ : ∃ locs : List Loc, locs = [] := ⟨_, rfl⟩
  rw [← eL] at hS ⊢
  rw [← eH] at hP
  have hS : va_S (AE 136 E) s.heap H locs := by rw [eH]; exact hS
  show W p l e rmX0_duesOfAll s m args below meth c s.heap locs 0 0 Q (F0 m 0 ls [])
  rw [← eH]
  refine lv_iconst (v := 0) hx hb dX0_duesOfAll_0 (by decide) ?_
  refine lv_istore_n (lv' := [(2, .int 0), (0, .ref (E 0)), (1, .int a1)]) hx hb dX0_duesOfAll_1 rfl hl (by decide) rfl (fun ls hl => ?_)
  refine lv_iconst (v := 0) hx hb dX0_duesOfAll_2 (by decide) ?_
  refine lv_istore_n (lv' := [(3, .int 0), (2, .int 0), (0, .ref (E 0)), (1, .int a1)]) hx hb dX0_duesOfAll_3 rfl hl (by decide) rfl (fun ls hl => ?_)
  obtain ⟨b4, hb4, hf⟩ := ob_bind hf
  obtain ⟨n4, hn4⟩ := lp_some hb4
  have kL4 : ∀ (n : Nat) (w1 : Mm) (v2_2 : Int32) (v3_3 : Int32), lpF (fun (q4 : Mm × Int32 × Int32) => X_duesOfAll_b4 a1 T q4.1 q4.2.1 q4.2.2) n (w1, v2_2, v3_3) = some b4 → (∀ (H : Heap) (locs : List Loc) (ls : Array Slot), va_P D clX (wl shX 136 dA E b4.1) H → va_S (AE 136 E) s.heap H locs → lv_has ls 4 [(2, .int b4.2)] → W p l e rmX0_duesOfAll s m args below meth c H locs 0 0 Q (F0 m 49 ls [])) → ∀ (H : Heap) (locs : List Loc) (ls : Array Slot), va_P D clX (wl shX 136 dA E w1) H → va_S (AE 136 E) s.heap H locs → lv_has ls 4 [(0, .ref (E 0)), (1, .int a1), (2, .int v2_2), (3, .int v3_3)] → W p l e rmX0_duesOfAll s m args below meth c H locs 0 0 Q (F0 m 4 ls []) := by
    intro n
    induction n with
    | zero =>
      intro w1 v2_2 v3_3 hq9
      cases hq9
    | succ n ih =>
      intro w1 v2_2 v3_3 hq9 K4_0 H locs ls hP hS hl
      obtain ⟨r4, hf, h4a, h4b⟩ := lpF_step hq9
      replace hf : X_duesOfAll_b4 a1 T w1 v2_2 v3_3 = some r4 := hf
      unfold X_duesOfAll_b4 at hf
      refine lv_iload_n hx hb dX0_duesOfAll_4 rfl (lv_at hl 3 rfl) ?_
      refine lv_aload_n hx hb dX0_duesOfAll_5 rfl (lv_at hl 0 rfl) ?_
      obtain ⟨q6, g5, hf⟩ := ob_bind hf
      refine xc_i (xj_run (As := []) (rest := [.int v3_3]) hJ hJs hS ⟨hx, hb, hml, hown, hts⟩ (k0 := 0) (wkX0_quarrels l D dA E hE T J hJ w1 g5) (cwV 0 hts (lw_V q309 q311 qs0 q136 q312) rfl rfl rfl cdX0_quarrels ⟨Nat.le_of_ble_eq_true rfl, Nat.le_of_ble_eq_true rfl⟩) hK hP (by decide) rfl rfl rfl hl.1 rfl rfl (Nat.le_of_ble_eq_true rfl) dX0_duesOfAll_6 ⟨Nat.zero_le _, Nat.zero_le _⟩) hS hD.2 (fun H locs hP hS => ?_)
      refine lv_icmp_ge (tgt := 49) hx hb dX0_duesOfAll_9 (by decide) (fun c7 => ?_) (fun c7 => ?_)
      · replace hf := ob_t hf c7
        obtain rfl := ob_s hf
        obtain rfl := h4b _ rfl
        exact K4_0 H locs ls hP hS (lv_sub hl [2] rfl)
      · replace hf := ob_f hf c7
        refine lv_iload_n hx hb dX0_duesOfAll_12 rfl (lv_at hl 2 rfl) ?_
        refine lv_iload_n hx hb dX0_duesOfAll_13 rfl (lv_at hl 1 rfl) ?_
        refine lv_iload_n hx hb dX0_duesOfAll_14 rfl (lv_at hl 3 rfl) ?_
        obtain ⟨q9, g8, hf⟩ := ob_bind hf
        refine xc_z (xj_runS (As := [.int a1, .int v3_3]) (rest := [.int v2_2]) hJ hJs hS ⟨hx, hb, hml, hown, hts⟩ (wkX0_has l D dA E hE T J hJ w1 a1 v3_3 g8) (va_cwS 2 hts (lw_S q1174 q1175 q136 q1176) rfl rfl rfl cdX0_has.2 ⟨Nat.le_of_ble_eq_true rfl, Nat.le_of_ble_eq_true rfl⟩) hK hP hl.1 rfl rfl (Nat.le_of_ble_eq_true rfl) dX0_duesOfAll_15 ⟨Nat.zero_le _, Nat.zero_le _⟩) hS hD.2 (fun H locs zq9 hP hS => ?_)
        refine lv_if_eq (tgt := 40) hx hb dX0_duesOfAll_18 (by decide) (fun c10 => ?_) (fun c10 => ?_)
        · replace hf := ob_t hf c10
          refine lv_iconst (v := 0) hx hb dX0_duesOfAll_40 (by decide) ?_
          refine lv_iadd hx hb dX0_duesOfAll_41 ?_
          obtain ⟨v2_11, ev2_11, hf⟩ := ob_bnd hf
          refine xn_i ev2_11 ?_
          refine lv_istore_n (lv' := [(2, .int v2_11), (0, .ref (E 0)), (1, .int a1), (3, .int v3_3)]) hx hb dX0_duesOfAll_42 rfl hl (by decide) rfl (fun ls hl => ?_)
          obtain ⟨v3_12, ev3_12, hf⟩ := ob_bnd hf
          refine lv_iinc (v := v3_12) (lv' := [(3, .int v3_12), (2, .int v2_11), (0, .ref (E 0)), (1, .int a1)]) hx hb dX0_duesOfAll_43 hl (k := 3) rfl (by rw [ev3_12]; rfl) (by decide) rfl (fun ls hl => ?_)
          refine lv_goto (tgt := 4) hx hb dX0_duesOfAll_46 (by decide) ?_
          obtain rfl := ob_s hf
          exact ih _ _ _ (h4a _ rfl) K4_0 H locs ls hP hS (lv_sub hl [2, 3, 1, 0] rfl)
        · replace hf := ob_f hf c10
          refine lv_aload_n hx hb dX0_duesOfAll_21 rfl (lv_at hl 0 rfl) ?_
          refine lv_aload_n hx hb dX0_duesOfAll_22 rfl (lv_at hl 0 rfl) ?_
          obtain ⟨q14, g13, hf⟩ := ob_bind hf
          refine xc_a (xj_run (As := []) (rest := [.ref (E 0), .int v2_2]) hJ hJs hS ⟨hx, hb, hml, hown, hts⟩ (k0 := 0) (wkX0_rules l D dA E hE T J hJ w1 g13) (cwV 0 hts (lw_V q935 q937 qs29 q136 q938) rfl rfl rfl cdX0_rules ⟨Nat.le_of_ble_eq_true rfl, Nat.le_of_ble_eq_true rfl⟩) hK hP (by decide) rfl rfl rfl hl.1 rfl rfl (Nat.le_of_ble_eq_true rfl) dX0_duesOfAll_23 ⟨Nat.zero_le _, Nat.zero_le _⟩) hS hD.2 (fun H locs hP hS => ?_)
          refine lv_aload_n hx hb dX0_duesOfAll_26 rfl (lv_at hl 0 rfl) ?_
          refine xr_get hx hb hts in_X0 hown hK hP 0 (by decide) rfl rfl 0 (by decide) (hts _ q252) (fun _ h => h) rfl (v := .ref (E 1)) rfl dX0_duesOfAll_27 ?_
          refine xr_getN (host := "QuarrelsPawned") hx hb hts in_X1 hown hK hP 1 (by decide) rfl rfl 1 (by decide) (hJ.nest hJs 1 rfl) (fun _ h => h) rfl (v := .ref (E 4)) rfl dX0_duesOfAll_30 ?_
          refine lv_iload_n hx hb dX0_duesOfAll_33 rfl (lv_at hl 3 rfl) ?_
          obtain ⟨q16, g15, hf⟩ := ob_bind hf
          refine xc_i (xj_run (As := [.ref q14, .ref (E 4), .int v3_3]) (rest := [.int v2_2]) hJ hJs hS ⟨hx, hb, hml, hown, hts⟩ (k0 := 0) (wkX0_duesBy l D dA E hE T J hJ w1 q14 4 v3_3 g15 (by decide) rfl) (cwV 3 hts (lw_V q941 q943 qs30 q136 q944) rfl rfl rfl cdX0_duesBy ⟨Nat.le_of_ble_eq_true rfl, Nat.le_of_ble_eq_true rfl⟩) hK hP (by decide) rfl rfl rfl hl.1 rfl rfl (Nat.le_of_ble_eq_true rfl) dX0_duesOfAll_34 ⟨Nat.zero_le _, Nat.zero_le _⟩) hS hD.2 (fun H locs hP hS => ?_)
          refine lv_goto (tgt := 41) hx hb dX0_duesOfAll_37 (by decide) ?_
          refine lv_iadd hx hb dX0_duesOfAll_41 ?_
          obtain ⟨v2_17, ev2_17, hf⟩ := ob_bnd hf
          refine xn_i ev2_17 ?_
          refine lv_istore_n (lv' := [(2, .int v2_17), (0, .ref (E 0)), (1, .int a1), (3, .int v3_3)]) hx hb dX0_duesOfAll_42 rfl hl (by decide) rfl (fun ls hl => ?_)
          obtain ⟨v3_18, ev3_18, hf⟩ := ob_bnd hf
          refine lv_iinc (v := v3_18) (lv' := [(3, .int v3_18), (2, .int v2_17), (0, .ref (E 0)), (1, .int a1)]) hx hb dX0_duesOfAll_43 hl (k := 3) rfl (by rw [ev3_18]; rfl) (by decide) rfl (fun ls hl => ?_)
          refine lv_goto (tgt := 4) hx hb dX0_duesOfAll_46 (by decide) ?_
          obtain rfl := ob_s hf
          exact ih _ _ _ (h4a _ rfl) K4_0 H locs ls hP hS (lv_sub hl [2, 3, 1, 0] rfl)
  refine kL4 n4 w 0 0 hn4 (fun H locs ls hP hS hl => ?_) H locs ls hP hS (lv_sub hl [2, 3, 1, 0] rfl)
  replace hf : X_duesOfAll_x4_49 b4 = some res := hf
  unfold X_duesOfAll_x4_49 at hf
  refine lv_iload_n hx hb dX0_duesOfAll_49 rfl (lv_at hl 0 rfl) ?_
  obtain rfl := ob_s hf
  subst hQ
  exact xe_i hx hb hr hlocks hP hS dX0_duesOfAll_50
abbrev rmX0_is : Room := { frames := 203, cells := 0, slots := 0, locals := 8068 }
theorem cdX0_is : yX0_is.cls = RX0 ∧ yX0_is.cls ≠ "java/lang/invoke/MethodHandle" ∧ yX0_is.cls ≠ "java/lang/invoke/VarHandle" ∧ (parseMethodDescriptor yX0_is.desc).map (fun d => d.parameters.length) = some 1 := by decide +kernel
set_option maxHeartbeats 4000000 in
set_option maxRecDepth 100000 in
theorem wkX0_is (l : Launch) (D : va_G) (dA : Nat → ClassId) (E : Nat → Nat) (hE : wInj 136 E) (T : Tx) (J : State → Heap → Prop) (hJ : JP D dA E T J) (w : Mm) (a1 : Int32) {res : Int32 × Mm} (hf : X_is T w a1 = some res) : Met l yX0_is (ws_ yX0_is cX0_is 2 (some .int)) rmX0_is (Pj D dA E J [.ref (E 0), .int a1] w) (Qwi D clX shX 136 dA E res.1 res.2) 0 0 (AE 136 E) := by
  refine xj_head (own := RX0) (by decide) rfl (Nat.le_of_ble_eq_true rfl) ?_
  intro p e s m args below meth c ls Q hQ C hP hl
  obtain ⟨hx, hb, hr, hlocks, hml, hown, hts, hK, hJs⟩ := C
  replace hl : lv_has ls 2 [(0, .ref (E 0)), (1, .int a1)] := hl
  have hS : va_S (AE 136 E) s.heap s.heap [] := va_S.rf
  have hD : wD 136 E (AE 136 E) := wD.self hE
  unfold X_is at hf
  obtain ⟨H, eH⟩ : ∃ H, H = s.heap := ⟨_, rfl⟩
  obtain ⟨locs, eL⟩ : ∃ locs : List Loc, locs = [] := ⟨_, rfl⟩
  rw [← eL] at hS ⊢
  rw [← eH] at hP
  have hS : va_S (AE 136 E) s.heap H locs := by rw [eH]; exact hS
  show W p l e rmX0_is s m args below meth c s.heap locs 0 0 Q (F0 m 0 ls [])
  rw [← eH]
  refine lv_iload_n hx hb dX0_is_0 rfl (lv_at hl 1 rfl) ?_
  refine lv_iconst (v := 4) hx hb dX0_is_1 (by decide) ?_
  refine lv_icmp_ne (tgt := 23) hx hb dX0_is_2 (by decide) (fun c1 => ?_) (fun c1 => ?_)
  · replace hf := ob_f hf c1
    refine lv_iload_n hx hb dX0_is_23 rfl (lv_at hl 1 rfl) ?_
    refine lv_iconst (v := 0) hx hb dX0_is_24 (by decide) ?_
    refine lv_iconst (v := 3) hx hb dX0_is_25 (by decide) ?_
    obtain ⟨q3, g2, hf⟩ := ob_bind hf
    refine xc_z (xj_runS (As := [.int a1, .int 0, .int 3]) (rest := []) hJ hJs hS ⟨hx, hb, hml, hown, hts⟩ (wkX0_in l D dA E hE T J hJ w a1 0 3 g2) (va_cwS 3 hts (lw_S q319 q320 q136 q321) rfl rfl rfl cdX0_in.2 ⟨Nat.le_of_ble_eq_true rfl, Nat.le_of_ble_eq_true rfl⟩) hK hP hl.1 rfl rfl (Nat.le_of_ble_eq_true rfl) dX0_is_26 ⟨Nat.zero_le _, Nat.zero_le _⟩) hS hD.2 (fun H locs zq3 hP hS => ?_)
    refine lv_if_eq (tgt := 44) hx hb dX0_is_29 (by decide) (fun c4 => ?_) (fun c4 => ?_)
    · replace hf := ob_t hf c4
      refine lv_bipush (v := (-2)) hx hb dX0_is_44 (by decide) ?_
      obtain rfl := ob_s hf
      subst hQ
      exact xe_i hx hb hr hlocks hP hS dX0_is_46
    · replace hf := ob_f hf c4
      refine lv_aload_n hx hb dX0_is_32 rfl (lv_at hl 0 rfl) ?_
      refine xr_get hx hb hts in_X0 hown hK hP 0 (by decide) rfl rfl 0 (by decide) (hts _ q252) (fun _ h => h) rfl (v := .ref (E 1)) rfl dX0_is_33 ?_
      refine xr_getN (host := "QuarrelsPawned") hx hb hts in_X1 hown hK hP 1 (by decide) rfl rfl 1 (by decide) (hJ.nest hJs 1 rfl) (fun _ h => h) rfl (v := .ref (E 4)) rfl dX0_is_36 ?_
      refine lv_iload_n hx hb dX0_is_39 rfl (lv_at hl 1 rfl) ?_
      obtain ⟨h5, hf⟩ := ob_gd hf
      refine xr_iald hx hb hK hP 4 (by decide) rfl 0 rfl (j := a1.toNatClampNeg) h5 rfl dX0_is_40 ?_
      refine lv_goto (tgt := 46) hx hb dX0_is_41 (by decide) ?_
      obtain rfl := ob_s hf
      subst hQ
      exact xe_i hx hb hr hlocks hP hS dX0_is_46
  · replace hf := ob_t hf c1
    refine lv_aload_n hx hb dX0_is_5 rfl (lv_at hl 0 rfl) ?_
    refine lv_aload_n hx hb dX0_is_6 rfl (lv_at hl 0 rfl) ?_
    refine lv_aload_n hx hb dX0_is_7 rfl (lv_at hl 0 rfl) ?_
    refine xr_get hx hb hts in_X0 hown hK hP 0 (by decide) rfl rfl 0 (by decide) (hts _ q252) (fun _ h => h) rfl (v := .ref (E 1)) rfl dX0_is_8 ?_
    refine xr_getN (host := "QuarrelsPawned") hx hb hts in_X1 hown hK hP 1 (by decide) rfl rfl 1 (by decide) (hJ.nest hJs 1 rfl) (fun _ h => h) rfl (v := .ref (E 4)) rfl dX0_is_11 ?_
    obtain ⟨q7, g6, hf⟩ := ob_bind hf
    refine xc_i (xj_run (As := [.ref (E 4)]) (rest := [.ref (E 0)]) hJ hJs hS ⟨hx, hb, hml, hown, hts⟩ (k0 := 0) (wkX0_pawnedIn l D dA E hE T J hJ w 4 g6 (by decide) rfl) (cwV 1 hts (lw_V q1099 q1101 qs37 q136 q1102) rfl rfl rfl cdX0_pawnedIn ⟨Nat.le_of_ble_eq_true rfl, Nat.le_of_ble_eq_true rfl⟩) hK hP (by decide) rfl rfl rfl hl.1 rfl rfl (Nat.le_of_ble_eq_true rfl) dX0_is_14 ⟨Nat.zero_le _, Nat.zero_le _⟩) hS hD.2 (fun H locs hP hS => ?_)
    obtain ⟨q9, g8, hf⟩ := ob_bind hf
    refine xc_i (xj_run (As := [.int q7]) (rest := []) hJ hJs hS ⟨hx, hb, hml, hown, hts⟩ (k0 := 0) (wkX0_duesOfAll l D dA E hE T J hJ w q7 g8) (cwV 1 hts (lw_V q1170 q1172 qs41 q136 q1173) rfl rfl rfl cdX0_duesOfAll ⟨Nat.le_of_ble_eq_true rfl, Nat.le_of_ble_eq_true rfl⟩) hK hP (by decide) rfl rfl rfl hl.1 rfl rfl (Nat.le_of_ble_eq_true rfl) dX0_is_17 ⟨Nat.zero_le _, Nat.zero_le _⟩) hS hD.2 (fun H locs hP hS => ?_)
    refine lv_goto (tgt := 46) hx hb dX0_is_20 (by decide) ?_
    obtain rfl := ob_s hf
    subst hQ
    exact xe_i hx hb hr hlocks hP hS dX0_is_46
abbrev rmX0_book : Room := { frames := 1, cells := 0, slots := 0, locals := 22 }
theorem cdX0_book : yX0_book.cls = RX0 ∧ yX0_book.cls ≠ "java/lang/invoke/MethodHandle" ∧ yX0_book.cls ≠ "java/lang/invoke/VarHandle" ∧ (parseMethodDescriptor yX0_book.desc).map (fun d => d.parameters.length) = some 2 := by decide +kernel
set_option maxHeartbeats 4000000 in
set_option maxRecDepth 100000 in
theorem wkX0_book (l : Launch) (D : va_G) (dA : Nat → ClassId) (E : Nat → Nat) (hE : wInj 136 E) (T : Tx) (J : State → Heap → Prop) (hJ : JP D dA E T J) (w : Mm) (a1 : Int32) (a2 : Int32) {res : Int32} (hf : X_book w a1 a2 = some res) : Met l yX0_book (ws_ yX0_book cX0_book 3 (some .int)) rmX0_book (Pj D dA E J [.ref (E 0), .int a1, .int a2] w) (Qwi D clX shX 136 dA E res w) 0 0 (AE 136 E) := by
  refine xj_head (own := RX0) (by decide) rfl (Nat.le_of_ble_eq_true rfl) ?_
  intro p e s m args below meth c ls Q hQ C hP hl
  obtain ⟨hx, hb, hr, hlocks, hml, hown, hts, hK, hJs⟩ := C
  replace hl : lv_has ls 3 [(0, .ref (E 0)), (1, .int a1), (2, .int a2)] := hl
  have hS : va_S (AE 136 E) s.heap s.heap [] := va_S.rf
  have hD : wD 136 E (AE 136 E) := wD.self hE
  unfold X_book at hf
  obtain ⟨H, eH⟩ : ∃ H, H = s.heap := ⟨_, rfl⟩
  obtain ⟨locs, eL⟩ : ∃ locs : List Loc, locs = [] := ⟨_, rfl⟩
  rw [← eL] at hS ⊢
  rw [← eH] at hP
  have hS : va_S (AE 136 E) s.heap H locs := by rw [eH]; exact hS
  show W p l e rmX0_book s m args below meth c s.heap locs 0 0 Q (F0 m 0 ls [])
  rw [← eH]
  refine lv_iload_n hx hb dX0_book_0 rfl (lv_at hl 1 rfl) ?_
  refine lv_iconst (v := (-1)) hx hb dX0_book_1 (by decide) ?_
  refine lv_icmp_ne (tgt := 16) hx hb dX0_book_2 (by decide) (fun c1 => ?_) (fun c1 => ?_)
  · replace hf := ob_f hf c1
    refine lv_iload_n hx hb dX0_book_16 rfl (lv_at hl 1 rfl) ?_
    refine lv_iconst (v := 0) hx hb dX0_book_17 (by decide) ?_
    refine lv_aload_n hx hb dX0_book_18 rfl (lv_at hl 0 rfl) ?_
    refine xr_get hx hb hts in_X0 hown hK hP 0 (by decide) rfl rfl 0 (by decide) (hts _ q252) (fun _ h => h) rfl (v := .ref (E 1)) rfl dX0_book_19 ?_
    refine xr_getN (host := "QuarrelsPawned") hx hb hts in_X1 hown hK hP 1 (by decide) rfl rfl 1 (by decide) (hJ.nest hJs 1 rfl) (fun _ h => h) rfl (v := .ref (E 4)) rfl dX0_book_22 ?_
    refine lv_bipush (v := 28) hx hb dX0_book_25 (by decide) ?_
    refine xr_iald hx hb hK hP 4 (by decide) rfl 0 rfl (j := 28) (vin_c (by decide)) (by decide) dX0_book_27 ?_
    refine lv_iconst (v := 1) hx hb dX0_book_28 (by decide) ?_
    refine lv_isub hx hb dX0_book_29 ?_
    obtain ⟨q3, g2, hf⟩ := ob_bind hf
    refine xc_z (xj_runS (As := [.int a1, .int 0, .int ((w.1 4 28) - 1)]) (rest := []) hJ hJs hS ⟨hx, hb, hml, hown, hts⟩ (wkX0_in l D dA E hE T J hJ w a1 0 ((w.1 4 28) - 1) g2) (va_cwS 3 hts (lw_S q319 q320 q136 q321) rfl rfl rfl cdX0_in.2 ⟨Nat.le_of_ble_eq_true rfl, Nat.le_of_ble_eq_true rfl⟩) hK hP hl.1 rfl rfl (Nat.le_of_ble_eq_true rfl) dX0_book_30 ⟨Nat.zero_le _, Nat.zero_le _⟩) hS hD.2 (fun H locs zq3 hP hS => ?_)
    refine lv_if_eq (tgt := 64) hx hb dX0_book_33 (by decide) (fun c4 => ?_) (fun c4 => ?_)
    · replace hf := ob_t hf c4
      refine lv_bipush (v := (-2)) hx hb dX0_book_64 (by decide) ?_
      obtain rfl := ob_s hf
      subst hQ
      exact xe_i hx hb hr hlocks hP hS dX0_book_66
    · replace hf := ob_f hf c4
      refine lv_iload_n hx hb dX0_book_36 rfl (lv_at hl 2 rfl) ?_
      refine lv_iconst (v := 0) hx hb dX0_book_37 (by decide) ?_
      refine lv_iconst (v := 3) hx hb dX0_book_38 (by decide) ?_
      obtain ⟨q6, g5, hf⟩ := ob_bind hf
      refine xc_z (xj_runS (As := [.int a2, .int 0, .int 3]) (rest := []) hJ hJs hS ⟨hx, hb, hml, hown, hts⟩ (wkX0_in l D dA E hE T J hJ w a2 0 3 g5) (va_cwS 3 hts (lw_S q319 q320 q136 q321) rfl rfl rfl cdX0_in.2 ⟨Nat.le_of_ble_eq_true rfl, Nat.le_of_ble_eq_true rfl⟩) hK hP hl.1 rfl rfl (Nat.le_of_ble_eq_true rfl) dX0_book_39 ⟨Nat.zero_le _, Nat.zero_le _⟩) hS hD.2 (fun H locs zq6 hP hS => ?_)
      refine lv_if_eq (tgt := 64) hx hb dX0_book_42 (by decide) (fun c7 => ?_) (fun c7 => ?_)
      · replace hf := ob_t hf c7
        refine lv_bipush (v := (-2)) hx hb dX0_book_64 (by decide) ?_
        obtain rfl := ob_s hf
        subst hQ
        exact xe_i hx hb hr hlocks hP hS dX0_book_66
      · replace hf := ob_f hf c7
        refine lv_aload_n hx hb dX0_book_45 rfl (lv_at hl 0 rfl) ?_
        refine xr_get hx hb hts in_X0 hown hK hP 0 (by decide) rfl rfl 0 (by decide) (hts _ q252) (fun _ h => h) rfl (v := .ref (E 1)) rfl dX0_book_46 ?_
        refine xr_getN (host := "QuarrelsPawned") hx hb hts in_X1 hown hK hP 1 (by decide) rfl rfl 1 (by decide) (hJ.nest hJs 1 rfl) (fun _ h => h) rfl (v := .ref (E 4)) rfl dX0_book_49 ?_
        refine lv_bipush (v := 29) hx hb dX0_book_52 (by decide) ?_
        refine lv_iconst (v := 4) hx hb dX0_book_54 (by decide) ?_
        refine lv_iload_n hx hb dX0_book_55 rfl (lv_at hl 1 rfl) ?_
        refine lv_imul hx hb dX0_book_56 ?_
        refine lv_iadd hx hb dX0_book_57 ?_
        refine lv_iload_n hx hb dX0_book_58 rfl (lv_at hl 2 rfl) ?_
        refine lv_iadd hx hb dX0_book_59 ?_
        obtain ⟨h8, hf⟩ := ob_gd hf
        refine xr_iald hx hb hK hP 4 (by decide) rfl 0 rfl (j := ((29 + (4 * a1)) + a2).toNatClampNeg) h8 rfl dX0_book_60 ?_
        refine lv_goto (tgt := 66) hx hb dX0_book_61 (by decide) ?_
        obtain rfl := ob_s hf
        subst hQ
        exact xe_i hx hb hr hlocks hP hS dX0_book_66
  · replace hf := ob_t hf c1
    refine lv_aload_n hx hb dX0_book_5 rfl (lv_at hl 0 rfl) ?_
    refine xr_get hx hb hts in_X0 hown hK hP 0 (by decide) rfl rfl 0 (by decide) (hts _ q252) (fun _ h => h) rfl (v := .ref (E 1)) rfl dX0_book_6 ?_
    refine xr_getN (host := "QuarrelsPawned") hx hb hts in_X1 hown hK hP 1 (by decide) rfl rfl 1 (by decide) (hJ.nest hJs 1 rfl) (fun _ h => h) rfl (v := .ref (E 4)) rfl dX0_book_9 ?_
    refine lv_bipush (v := 28) hx hb dX0_book_12 (by decide) ?_
    refine xr_iald hx hb hK hP 4 (by decide) rfl 0 rfl (j := 28) (vin_c (by decide)) (by decide) dX0_book_14 ?_
    obtain rfl := ob_s hf
    subst hQ
    exact xe_i hx hb hr hlocks hP hS dX0_book_15
abbrev rmX0_foretold : Room := { frames := 202, cells := 0, slots := 0, locals := 8045 }
theorem cdX0_foretold : yX0_foretold.cls = RX0 ∧ yX0_foretold.cls ≠ "java/lang/invoke/MethodHandle" ∧ yX0_foretold.cls ≠ "java/lang/invoke/VarHandle" ∧ (parseMethodDescriptor yX0_foretold.desc).map (fun d => d.parameters.length) = some 3 := by decide +kernel
set_option maxHeartbeats 4000000 in
set_option maxRecDepth 100000 in
theorem wkX0_foretold (l : Launch) (D : va_G) (dA : Nat → ClassId) (E : Nat → Nat) (hE : wInj 136 E) (T : Tx) (J : State → Heap → Prop) (hJ : JP D dA E T J) (w : Mm) (a1 : Int32) (a2 : Int32) (a3 : Int32) {res : Int32 × Mm} (hf : X_foretold T w a1 a2 a3 = some res) : Met l yX0_foretold (ws_ yX0_foretold cX0_foretold 6 (some .int)) rmX0_foretold (Pj D dA E J [.ref (E 0), .int a1, .int a2, .int a3] w) (Qwi D clX shX 136 dA E res.1 res.2) 0 0 (AE 136 E) := by
  refine xj_head (own := RX0) (by decide) rfl (Nat.le_of_ble_eq_true rfl) ?_
  intro p e s m args below meth c ls Q hQ C hP hl
  obtain ⟨hx, hb, hr, hlocks, hml, hown, hts, hK, hJs⟩ := C
  replace hl : lv_has ls 6 [(0, .ref (E 0)), (1, .int a1), (2, .int a2), (3, .int a3)] := hl
  have hS : va_S (AE 136 E) s.heap s.heap [] := va_S.rf
  have hD : wD 136 E (AE 136 E) := wD.self hE
  unfold X_foretold at hf
  obtain ⟨H, eH⟩ : ∃ H, H = s.heap := ⟨_, rfl⟩
  obtain ⟨locs, eL⟩ : ∃ locs : List Loc, locs = [] := ⟨_, rfl⟩
  rw [← eL] at hS ⊢
  rw [← eH] at hP
  have hS : va_S (AE 136 E) s.heap H locs := by rw [eH]; exact hS
  show W p l e rmX0_foretold s m args below meth c s.heap locs 0 0 Q (F0 m 0 ls [])
  rw [← eH]
  refine lv_iload_n hx hb dX0_foretold_0 rfl (lv_at hl 1 rfl) ?_
  refine lv_iconst (v := 1) hx hb dX0_foretold_1 (by decide) ?_
  refine lv_bipush (v := 60) hx hb dX0_foretold_2 (by decide) ?_
  obtain ⟨q2, g1, hf⟩ := ob_bind hf
  refine xc_z (xj_runS (As := [.int a1, .int 1, .int 60]) (rest := []) hJ hJs hS ⟨hx, hb, hml, hown, hts⟩ (wkX0_in l D dA E hE T J hJ w a1 1 60 g1) (va_cwS 3 hts (lw_S q319 q320 q136 q321) rfl rfl rfl cdX0_in.2 ⟨Nat.le_of_ble_eq_true rfl, Nat.le_of_ble_eq_true rfl⟩) hK hP hl.1 rfl rfl (Nat.le_of_ble_eq_true rfl) dX0_foretold_4 ⟨Nat.zero_le _, Nat.zero_le _⟩) hS hD.2 (fun H locs zq2 hP hS => ?_)
  refine lv_if_eq (tgt := 27) hx hb dX0_foretold_7 (by decide) (fun c3 => ?_) (fun c3 => ?_)
  · replace hf := ob_t hf c3
    refine lv_bipush (v := (-2)) hx hb dX0_foretold_27 (by decide) ?_
    obtain rfl := ob_s hf
    subst hQ
    exact xe_i hx hb hr hlocks hP hS dX0_foretold_29
  · replace hf := ob_f hf c3
    refine lv_aload_n hx hb dX0_foretold_10 rfl (lv_at hl 0 rfl) ?_
    refine lv_iload_n hx hb dX0_foretold_11 rfl (lv_at hl 2 rfl) ?_
    obtain ⟨q5, g4, hf⟩ := ob_bind hf
    refine xc_z (xj_run (As := [.int a2]) (rest := []) hJ hJs hS ⟨hx, hb, hml, hown, hts⟩ (k0 := 0) (wkX0_isQuarrel l D dA E hE T J hJ w a2 g4) (cwV 1 hts (lw_V q906 q908 qs25 q136 q909) rfl rfl rfl cdX0_isQuarrel ⟨Nat.le_of_ble_eq_true rfl, Nat.le_of_ble_eq_true rfl⟩) hK hP (by decide) rfl rfl rfl hl.1 rfl rfl (Nat.le_of_ble_eq_true rfl) dX0_foretold_12 ⟨Nat.zero_le _, Nat.zero_le _⟩) hS hD.2 (fun H locs zq5 hP hS => ?_)
    refine lv_if_eq (tgt := 27) hx hb dX0_foretold_15 (by decide) (fun c6 => ?_) (fun c6 => ?_)
    · replace hf := ob_t hf c6
      refine lv_bipush (v := (-2)) hx hb dX0_foretold_27 (by decide) ?_
      obtain rfl := ob_s hf
      subst hQ
      exact xe_i hx hb hr hlocks hP hS dX0_foretold_29
    · replace hf := ob_f hf c6
      refine lv_iload_n hx hb dX0_foretold_18 rfl (lv_at hl 3 rfl) ?_
      refine lv_iconst (v := 0) hx hb dX0_foretold_19 (by decide) ?_
      refine lv_iconst (v := 2) hx hb dX0_foretold_20 (by decide) ?_
      obtain ⟨q8, g7, hf⟩ := ob_bind hf
      refine xc_z (xj_runS (As := [.int a3, .int 0, .int 2]) (rest := []) hJ hJs hS ⟨hx, hb, hml, hown, hts⟩ (wkX0_in l D dA E hE T J hJ w a3 0 2 g7) (va_cwS 3 hts (lw_S q319 q320 q136 q321) rfl rfl rfl cdX0_in.2 ⟨Nat.le_of_ble_eq_true rfl, Nat.le_of_ble_eq_true rfl⟩) hK hP hl.1 rfl rfl (Nat.le_of_ble_eq_true rfl) dX0_foretold_21 ⟨Nat.zero_le _, Nat.zero_le _⟩) hS hD.2 (fun H locs zq8 hP hS => ?_)
      refine lv_if_ne (tgt := 30) hx hb dX0_foretold_24 (by decide) (fun c9 => ?_) (fun c9 => ?_)
      · replace hf := ob_f hf c9
        refine lv_aload_n hx hb dX0_foretold_30 rfl (lv_at hl 0 rfl) ?_
        refine xr_get hx hb hts in_X0 hown hK hP 0 (by decide) rfl rfl 0 (by decide) (hts _ q252) (fun _ h => h) rfl (v := .ref (E 1)) rfl dX0_foretold_31 ?_
        refine xr_getN (host := "QuarrelsPawned") hx hb hts in_X1 hown hK hP 1 (by decide) rfl rfl 1 (by decide) (hJ.nest hJs 1 rfl) (fun _ h => h) rfl (v := .ref (E 4)) rfl dX0_foretold_34 ?_
        refine lv_aload_n hx hb dX0_foretold_37 rfl (lv_at hl 0 rfl) ?_
        refine xr_get hx hb hts in_X0 hown hK hP 0 (by decide) rfl rfl 7 (by decide) (hts _ q259) (fun _ h => h) rfl (v := .ref (E 27)) rfl dX0_foretold_38 ?_
        obtain ⟨q11, g10, hf⟩ := ob_bind hf
        refine xc_v (xj_runSN (As := [.ref (E 4), .ref (E 27)]) (rest := []) hJ hJs hS ⟨hx, hb, hml, hown, hts⟩ (wkX1_copy l D dA E hE T J hJ w 4 149 27 149 g10 (by decide) rfl (by decide) rfl) (va_cnB (host := "QuarrelsPawned") 2 hts (lw_meth q245) rfl rfl rfl (hJ.nest hJs 15 rfl) (hts _ q137) cdX1_copy.2 ⟨Nat.le_of_ble_eq_true rfl, Nat.le_of_ble_eq_true rfl⟩) (hts _ q244) hK hP hl.1 rfl rfl (Nat.le_of_ble_eq_true rfl) dX0_foretold_41 ⟨Nat.zero_le _, Nat.zero_le _⟩) hS hD.2 (fun H locs hP hS => ?_)
        refine lv_iconst (v := 0) hx hb dX0_foretold_44 (by decide) ?_
        refine lv_istore (lv' := [(4, .int 0), (0, .ref (E 0)), (1, .int a1), (2, .int a2), (3, .int a3)]) hx hb dX0_foretold_45 hl (by decide) rfl (fun ls hl => ?_)
        refine lv_iconst (v := 0) hx hb dX0_foretold_47 (by decide) ?_
        refine lv_istore (lv' := [(5, .int 0), (4, .int 0), (0, .ref (E 0)), (1, .int a1), (2, .int a2), (3, .int a3)]) hx hb dX0_foretold_48 hl (by decide) rfl (fun ls hl => ?_)
        obtain ⟨b15, hb15, hf⟩ := ob_bind hf
        obtain ⟨n15, hn15⟩ := lp_some hb15
        have kL50 : ∀ (n : Nat) (w12 : Mm) (v4_13 : Int32) (v5_14 : Int32), lpF (fun (q15 : Mm × Int32 × Int32) => X_foretold_b50 a1 T q15.1 q15.2.1 q15.2.2) n (w12, v4_13, v5_14) = some b15 → (∀ (H : Heap) (locs : List Loc) (ls : Array Slot), va_P D clX (wl shX 136 dA E b15) H → va_S (AE 136 E) s.heap H locs → lv_has ls 6 [(0, .ref (E 0)), (2, .int a2), (3, .int a3)] → W p l e rmX0_foretold s m args below meth c H locs 0 0 Q (F0 m 87 ls [])) → ∀ (H : Heap) (locs : List Loc) (ls : Array Slot), va_P D clX (wl shX 136 dA E w12) H → va_S (AE 136 E) s.heap H locs → lv_has ls 6 [(0, .ref (E 0)), (1, .int a1), (2, .int a2), (3, .int a3), (4, .int v4_13), (5, .int v5_14)] → W p l e rmX0_foretold s m args below meth c H locs 0 0 Q (F0 m 50 ls []) := by
          intro n
          induction n with
          | zero =>
            intro w12 v4_13 v5_14 hq9
            cases hq9
          | succ n ih =>
            intro w12 v4_13 v5_14 hq9 K15_0 H locs ls hP hS hl
            obtain ⟨r15, hf, h15a, h15b⟩ := lpF_step hq9
            replace hf : X_foretold_b50 a1 T w12 v4_13 v5_14 = some r15 := hf
            unfold X_foretold_b50 at hf
            refine lv_iload hx hb dX0_foretold_50 (lv_at hl 5 rfl) ?_
            refine lv_iload_n hx hb dX0_foretold_52 rfl (lv_at hl 1 rfl) ?_
            refine lv_icmp_ge (tgt := 87) hx hb dX0_foretold_53 (by decide) (fun c16 => ?_) (fun c16 => ?_)
            · replace hf := ob_t hf c16
              obtain rfl := ob_s hf
              obtain rfl := h15b _ rfl
              exact K15_0 H locs ls hP hS (lv_sub hl [0, 2, 3] rfl)
            · replace hf := ob_f hf c16
              refine lv_aload_n hx hb dX0_foretold_56 rfl (lv_at hl 0 rfl) ?_
              refine xr_get hx hb hts in_X0 hown hK hP 0 (by decide) rfl rfl 7 (by decide) (hts _ q259) (fun _ h => h) rfl (v := .ref (E 27)) rfl dX0_foretold_57 ?_
              refine lv_iconst (v := 0) hx hb dX0_foretold_60 (by decide) ?_
              refine xr_iald hx hb hK hP 27 (by decide) rfl 0 rfl (j := 0) (vin_c (by decide)) (by decide) dX0_foretold_61 ?_
              refine lv_sipush (v := 9999) hx hb dX0_foretold_62 (by decide) ?_
              refine lv_icmp_ge (tgt := 87) hx hb dX0_foretold_65 (by decide) (fun c17 => ?_) (fun c17 => ?_)
              · replace hf := ob_t hf c17
                obtain rfl := ob_s hf
                obtain rfl := h15b _ rfl
                exact K15_0 H locs ls hP hS (lv_sub hl [0, 2, 3] rfl)
              · replace hf := ob_f hf c17
                refine lv_iload hx hb dX0_foretold_68 (lv_at hl 4 rfl) ?_
                refine lv_aload_n hx hb dX0_foretold_70 rfl (lv_at hl 0 rfl) ?_
                refine lv_aload_n hx hb dX0_foretold_71 rfl (lv_at hl 0 rfl) ?_
                refine xr_get hx hb hts in_X0 hown hK hP 0 (by decide) rfl rfl 7 (by decide) (hts _ q259) (fun _ h => h) rfl (v := .ref (E 27)) rfl dX0_foretold_72 ?_
                obtain ⟨q19, g18, hf⟩ := ob_bind hf
                refine xc_i (xj_run (As := [.ref (E 27)]) (rest := [.int v4_13]) hJ hJs hS ⟨hx, hb, hml, hown, hts⟩ (k0 := 0) (wkX0_passes l D dA E hE T J hJ w12 27 g18 (by decide) rfl) (cwV 1 hts (lw_V q1084 q1086 qs35 q136 q1087) rfl rfl rfl cdX0_passes ⟨Nat.le_of_ble_eq_true rfl, Nat.le_of_ble_eq_true rfl⟩) hK hP (by decide) rfl rfl rfl hl.1 rfl rfl (Nat.le_of_ble_eq_true rfl) dX0_foretold_75 ⟨Nat.zero_le _, Nat.zero_le _⟩) hS hD.2 (fun H locs hP hS => ?_)
                refine lv_iadd hx hb dX0_foretold_78 ?_
                obtain ⟨v4_20, ev4_20, hf⟩ := ob_bnd hf
                refine xn_i ev4_20 ?_
                refine lv_istore (lv' := [(4, .int v4_20), (0, .ref (E 0)), (1, .int a1), (2, .int a2), (3, .int a3), (5, .int v5_14)]) hx hb dX0_foretold_79 hl (by decide) rfl (fun ls hl => ?_)
                obtain ⟨v5_21, ev5_21, hf⟩ := ob_bnd hf
                refine lv_iinc (v := v5_21) (lv' := [(5, .int v5_21), (4, .int v4_20), (0, .ref (E 0)), (1, .int a1), (2, .int a2), (3, .int a3)]) hx hb dX0_foretold_81 hl (k := 5) rfl (by rw [ev5_21]; rfl) (by decide) rfl (fun ls hl => ?_)
                refine lv_goto (tgt := 50) hx hb dX0_foretold_84 (by decide) ?_
                obtain rfl := ob_s hf
                exact ih _ _ _ (h15a _ rfl) K15_0 H locs ls hP hS (lv_sub hl [2, 3, 4, 5, 1, 0] rfl)
        refine kL50 n15 q11 0 0 hn15 (fun H locs ls hP hS hl => ?_) H locs ls hP hS (lv_sub hl [2, 3, 4, 5, 1, 0] rfl)
        replace hf : X_foretold_x50_87 a3 a2 b15 T = some res := hf
        unfold X_foretold_x50_87 at hf
        refine lv_iload_n hx hb dX0_foretold_87 rfl (lv_at hl 2 rfl) ?_
        refine lv_if_ne (tgt := 102) hx hb dX0_foretold_88 (by decide) (fun c22 => ?_) (fun c22 => ?_)
        · replace hf := ob_f hf c22
          refine lv_iload_n hx hb dX0_foretold_102 rfl (lv_at hl 2 rfl) ?_
          refine lv_iconst (v := 1) hx hb dX0_foretold_103 (by decide) ?_
          refine lv_icmp_ne (tgt := 119) hx hb dX0_foretold_104 (by decide) (fun c23 => ?_) (fun c23 => ?_)
          · replace hf := ob_f hf c23
            refine lv_aload_n hx hb dX0_foretold_119 rfl (lv_at hl 0 rfl) ?_
            refine lv_aload_n hx hb dX0_foretold_120 rfl (lv_at hl 0 rfl) ?_
            obtain ⟨q25, g24, hf⟩ := ob_bind hf
            refine xc_a (xj_run (As := []) (rest := [.ref (E 0)]) hJ hJs hS ⟨hx, hb, hml, hown, hts⟩ (k0 := 0) (wkX0_rules l D dA E hE T J hJ b15 g24) (cwV 0 hts (lw_V q935 q937 qs29 q136 q938) rfl rfl rfl cdX0_rules ⟨Nat.le_of_ble_eq_true rfl, Nat.le_of_ble_eq_true rfl⟩) hK hP (by decide) rfl rfl rfl hl.1 rfl rfl (Nat.le_of_ble_eq_true rfl) dX0_foretold_121 ⟨Nat.zero_le _, Nat.zero_le _⟩) hS hD.2 (fun H locs hP hS => ?_)
            refine lv_aload_n hx hb dX0_foretold_124 rfl (lv_at hl 0 rfl) ?_
            refine xr_get hx hb hts in_X0 hown hK hP 0 (by decide) rfl rfl 7 (by decide) (hts _ q259) (fun _ h => h) rfl (v := .ref (E 27)) rfl dX0_foretold_125 ?_
            refine lv_iload_n hx hb dX0_foretold_128 rfl (lv_at hl 1 rfl) ?_
            obtain ⟨q27, g26, hf⟩ := ob_bind hf
            refine xc_i (xj_run (As := [.ref q25, .ref (E 27), .int a2]) (rest := []) hJ hJs hS ⟨hx, hb, hml, hown, hts⟩ (k0 := 0) (wkX0_duesBy l D dA E hE T J hJ b15 q25 27 a2 g26 (by decide) rfl) (cwV 3 hts (lw_V q941 q943 qs30 q136 q944) rfl rfl rfl cdX0_duesBy ⟨Nat.le_of_ble_eq_true rfl, Nat.le_of_ble_eq_true rfl⟩) hK hP (by decide) rfl rfl rfl hl.1 rfl rfl (Nat.le_of_ble_eq_true rfl) dX0_foretold_129 ⟨Nat.zero_le _, Nat.zero_le _⟩) hS hD.2 (fun H locs hP hS => ?_)
            obtain rfl := ob_s hf
            subst hQ
            exact xe_i hx hb hr hlocks hP hS dX0_foretold_132
          · replace hf := ob_t hf c23
            refine lv_aload_n hx hb dX0_foretold_107 rfl (lv_at hl 0 rfl) ?_
            refine xr_get hx hb hts in_X0 hown hK hP 0 (by decide) rfl rfl 7 (by decide) (hts _ q259) (fun _ h => h) rfl (v := .ref (E 27)) rfl dX0_foretold_108 ?_
            refine lv_bipush (v := 20) hx hb dX0_foretold_111 (by decide) ?_
            refine lv_iload_n hx hb dX0_foretold_113 rfl (lv_at hl 1 rfl) ?_
            refine lv_iadd hx hb dX0_foretold_114 ?_
            obtain ⟨h28, hf⟩ := ob_gd hf
            refine xr_iald hx hb hK hP 27 (by decide) rfl 0 rfl (j := (20 + a2).toNatClampNeg) h28 rfl dX0_foretold_115 ?_
            refine lv_goto (tgt := 132) hx hb dX0_foretold_116 (by decide) ?_
            obtain rfl := ob_s hf
            subst hQ
            exact xe_i hx hb hr hlocks hP hS dX0_foretold_132
        · replace hf := ob_t hf c22
          refine lv_aload_n hx hb dX0_foretold_91 rfl (lv_at hl 0 rfl) ?_
          refine xr_get hx hb hts in_X0 hown hK hP 0 (by decide) rfl rfl 7 (by decide) (hts _ q259) (fun _ h => h) rfl (v := .ref (E 27)) rfl dX0_foretold_92 ?_
          refine lv_iconst (v := 4) hx hb dX0_foretold_95 (by decide) ?_
          refine lv_iload_n hx hb dX0_foretold_96 rfl (lv_at hl 1 rfl) ?_
          refine lv_iadd hx hb dX0_foretold_97 ?_
          obtain ⟨h29, hf⟩ := ob_gd hf
          refine xr_iald hx hb hK hP 27 (by decide) rfl 0 rfl (j := (4 + a2).toNatClampNeg) h29 rfl dX0_foretold_98 ?_
          refine lv_goto (tgt := 132) hx hb dX0_foretold_99 (by decide) ?_
          obtain rfl := ob_s hf
          subst hQ
          exact xe_i hx hb hr hlocks hP hS dX0_foretold_132
      · replace hf := ob_t hf c9
        refine lv_bipush (v := (-2)) hx hb dX0_foretold_27 (by decide) ?_
        obtain rfl := ob_s hf
        subst hQ
        exact xe_i hx hb hr hlocks hP hS dX0_foretold_29
abbrev rmX0_isOf : Room := { frames := 0, cells := 0, slots := 0, locals := 0 }
theorem cdX0_isOf : yX0_isOf.cls = RX0 ∧ yX0_isOf.cls ≠ "java/lang/invoke/MethodHandle" ∧ yX0_isOf.cls ≠ "java/lang/invoke/VarHandle" ∧ (parseMethodDescriptor yX0_isOf.desc).map (fun d => d.parameters.length) = some 3 := by decide +kernel
set_option maxHeartbeats 4000000 in
set_option maxRecDepth 100000 in
theorem wkX0_isOf (l : Launch) (D : va_G) (dA : Nat → ClassId) (E : Nat → Nat) (hE : wInj 136 E) (T : Tx) (J : State → Heap → Prop) (hJ : JP D dA E T J) (w : Mm) (a1 : Int32) (a2 : Int32) (a3 : Int32) {res : Int32} (hf : X_isOf w a1 a2 a3 = some res) : Met l yX0_isOf (ws_ yX0_isOf cX0_isOf 4 (some .boolean)) rmX0_isOf (Pj D dA E J [.ref (E 0), .int a1, .int a2, .int a3] w) (Qwz D clX shX 136 dA E res w) 0 0 (AE 136 E) := by
  refine xj_head (own := RX0) (by decide) rfl (Nat.le_of_ble_eq_true rfl) ?_
  intro p e s m args below meth c ls Q hQ C hP hl
  obtain ⟨hx, hb, hr, hlocks, hml, hown, hts, hK, hJs⟩ := C
  replace hl : lv_has ls 4 [(0, .ref (E 0)), (1, .int a1), (2, .int a2), (3, .int a3)] := hl
  have hS : va_S (AE 136 E) s.heap s.heap [] := va_S.rf
  have hD : wD 136 E (AE 136 E) := wD.self hE
  unfold X_isOf at hf
  obtain ⟨H, eH⟩ : ∃ H, H = s.heap := ⟨_, rfl⟩
  obtain ⟨locs, eL⟩ : ∃ locs : List Loc, locs = [] := ⟨_, rfl⟩
  rw [← eL] at hS ⊢
  rw [← eH] at hP
  have hS : va_S (AE 136 E) s.heap H locs := by rw [eH]; exact hS
  show W p l e rmX0_isOf s m args below meth c s.heap locs 0 0 Q (F0 m 0 ls [])
  rw [← eH]
  refine lv_aload_n hx hb dX0_isOf_0 rfl (lv_at hl 0 rfl) ?_
  refine xr_get hx hb hts in_X0 hown hK hP 0 (by decide) rfl rfl 0 (by decide) (hts _ q252) (fun _ h => h) rfl (v := .ref (E 1)) rfl dX0_isOf_1 ?_
  refine xr_getN (host := "QuarrelsPawned") hx hb hts in_X1 hown hK hP 1 (by decide) rfl rfl 2 (by decide) (hJ.nest hJs 2 rfl) (fun _ h => h) rfl (v := .ref (E 5)) rfl dX0_isOf_4 ?_
  refine lv_iload_n hx hb dX0_isOf_7 rfl (lv_at hl 1 rfl) ?_
  obtain ⟨h1, hf⟩ := ob_gd hf
  refine xr_iald hx hb hK hP 5 (by decide) rfl 0 rfl (j := a1.toNatClampNeg) h1 rfl dX0_isOf_8 ?_
  refine lv_iload_n hx hb dX0_isOf_9 rfl (lv_at hl 2 rfl) ?_
  have kj52 : ∀ (H : Heap) (locs : List Loc) (ls : Array Slot), X_isOf_j52 = some res → va_P D clX (wl shX 136 dA E w) H → va_S (AE 136 E) s.heap H locs → lv_has ls 4 [] → W p l e rmX0_isOf s m args below meth c H locs 0 0 Q (F0 m 52 ls []) := by
    intro H locs ls hf hP hS hl
    unfold X_isOf_j52 at hf
    refine lv_iconst (v := 1) hx hb dX0_isOf_52 (by decide) ?_
    refine lv_goto (tgt := 57) hx hb dX0_isOf_53 (by decide) ?_
    obtain rfl := ob_s hf
    subst hQ
    exact xe_z hx hb hr hlocks hP hS (Or.inr rfl) dX0_isOf_57
  have kj26 : ∀ (H : Heap) (locs : List Loc) (ls : Array Slot), X_isOf_j26 a1 w a3 a2 = some res → va_P D clX (wl shX 136 dA E w) H → va_S (AE 136 E) s.heap H locs → lv_has ls 4 [(0, .ref (E 0)), (1, .int a1), (2, .int a2), (3, .int a3)] → W p l e rmX0_isOf s m args below meth c H locs 0 0 Q (F0 m 26 ls []) := by
    intro H locs ls hf hP hS hl
    unfold X_isOf_j26 at hf
    refine lv_aload_n hx hb dX0_isOf_26 rfl (lv_at hl 0 rfl) ?_
    refine xr_get hx hb hts in_X0 hown hK hP 0 (by decide) rfl rfl 0 (by decide) (hts _ q252) (fun _ h => h) rfl (v := .ref (E 1)) rfl dX0_isOf_27 ?_
    refine xr_getN (host := "QuarrelsPawned") hx hb hts in_X1 hown hK hP 1 (by decide) rfl rfl 2 (by decide) (hJ.nest hJs 2 rfl) (fun _ h => h) rfl (v := .ref (E 5)) rfl dX0_isOf_30 ?_
    refine lv_iload_n hx hb dX0_isOf_33 rfl (lv_at hl 1 rfl) ?_
    obtain ⟨h2, hf⟩ := ob_gd hf
    refine xr_iald hx hb hK hP 5 (by decide) rfl 0 rfl (j := a1.toNatClampNeg) h2 rfl dX0_isOf_34 ?_
    refine lv_iload_n hx hb dX0_isOf_35 rfl (lv_at hl 3 rfl) ?_
    refine lv_icmp_ne (tgt := 56) hx hb dX0_isOf_36 (by decide) (fun c3 => ?_) (fun c3 => ?_)
    · replace hf := ob_f hf c3
      refine lv_iconst (v := 0) hx hb dX0_isOf_56 (by decide) ?_
      obtain rfl := ob_s hf
      subst hQ
      exact xe_z hx hb hr hlocks hP hS (Or.inl rfl) dX0_isOf_57
    · replace hf := ob_t hf c3
      refine lv_aload_n hx hb dX0_isOf_39 rfl (lv_at hl 0 rfl) ?_
      refine xr_get hx hb hts in_X0 hown hK hP 0 (by decide) rfl rfl 0 (by decide) (hts _ q252) (fun _ h => h) rfl (v := .ref (E 1)) rfl dX0_isOf_40 ?_
      refine xr_getN (host := "QuarrelsPawned") hx hb hts in_X1 hown hK hP 1 (by decide) rfl rfl 3 (by decide) (hJ.nest hJs 3 rfl) (fun _ h => h) rfl (v := .ref (E 6)) rfl dX0_isOf_43 ?_
      refine lv_iload_n hx hb dX0_isOf_46 rfl (lv_at hl 1 rfl) ?_
      obtain ⟨h4, hf⟩ := ob_gd hf
      refine xr_iald hx hb hK hP 6 (by decide) rfl 0 rfl (j := a1.toNatClampNeg) h4 rfl dX0_isOf_47 ?_
      refine lv_iload_n hx hb dX0_isOf_48 rfl (lv_at hl 2 rfl) ?_
      refine lv_icmp_ne (tgt := 56) hx hb dX0_isOf_49 (by decide) (fun c5 => ?_) (fun c5 => ?_)
      · replace hf := ob_f hf c5
        refine lv_iconst (v := 0) hx hb dX0_isOf_56 (by decide) ?_
        obtain rfl := ob_s hf
        subst hQ
        exact xe_z hx hb hr hlocks hP hS (Or.inl rfl) dX0_isOf_57
      · replace hf := ob_t hf c5
        exact kj52 H locs ls hf hP hS (lv_sub hl [] rfl)
  refine lv_icmp_ne (tgt := 26) hx hb dX0_isOf_10 (by decide) (fun c6 => ?_) (fun c6 => ?_)
  · replace hf := ob_f hf c6
    exact kj26 H locs ls hf hP hS (lv_sub hl [0, 1, 2, 3] rfl)
  · replace hf := ob_t hf c6
    refine lv_aload_n hx hb dX0_isOf_13 rfl (lv_at hl 0 rfl) ?_
    refine xr_get hx hb hts in_X0 hown hK hP 0 (by decide) rfl rfl 0 (by decide) (hts _ q252) (fun _ h => h) rfl (v := .ref (E 1)) rfl dX0_isOf_14 ?_
    refine xr_getN (host := "QuarrelsPawned") hx hb hts in_X1 hown hK hP 1 (by decide) rfl rfl 3 (by decide) (hJ.nest hJs 3 rfl) (fun _ h => h) rfl (v := .ref (E 6)) rfl dX0_isOf_17 ?_
    refine lv_iload_n hx hb dX0_isOf_20 rfl (lv_at hl 1 rfl) ?_
    obtain ⟨h7, hf⟩ := ob_gd hf
    refine xr_iald hx hb hK hP 6 (by decide) rfl 0 rfl (j := a1.toNatClampNeg) h7 rfl dX0_isOf_21 ?_
    refine lv_iload_n hx hb dX0_isOf_22 rfl (lv_at hl 3 rfl) ?_
    refine lv_icmp_eq (tgt := 52) hx hb dX0_isOf_23 (by decide) (fun c8 => ?_) (fun c8 => ?_)
    · replace hf := ob_t hf c8
      exact kj52 H locs ls hf hP hS (lv_sub hl [] rfl)
    · replace hf := ob_f hf c8
      exact kj26 H locs ls hf hP hS (lv_sub hl [0, 1, 2, 3] rfl)
abbrev rmX0_doSpeak : Room := { frames := 1, cells := 0, slots := 0, locals := 23 }
theorem cdX0_doSpeak : yX0_doSpeak.cls = RX0 ∧ yX0_doSpeak.cls ≠ "java/lang/invoke/MethodHandle" ∧ yX0_doSpeak.cls ≠ "java/lang/invoke/VarHandle" ∧ (parseMethodDescriptor yX0_doSpeak.desc).map (fun d => d.parameters.length) = some 2 := by decide +kernel
set_option maxHeartbeats 4000000 in
set_option maxRecDepth 100000 in
theorem wkX0_doSpeak (l : Launch) (D : va_G) (dA : Nat → ClassId) (E : Nat → Nat) (hE : wInj 136 E) (T : Tx) (J : State → Heap → Prop) (hJ : JP D dA E T J) (w : Mm) (a1 : Int32) (a2 : Int32) {res : Int32} (hf : X_doSpeak w a1 a2 = some res) : Met l yX0_doSpeak (ws_ yX0_doSpeak cX0_doSpeak 4 (some .boolean)) rmX0_doSpeak (Pj D dA E J [.ref (E 0), .int a1, .int a2] w) (Qwz D clX shX 136 dA E res w) 0 0 (AE 136 E) := by
  refine xj_head (own := RX0) (by decide) rfl (Nat.le_of_ble_eq_true rfl) ?_
  intro p e s m args below meth c ls Q hQ C hP hl
  obtain ⟨hx, hb, hr, hlocks, hml, hown, hts, hK, hJs⟩ := C
  replace hl : lv_has ls 4 [(0, .ref (E 0)), (1, .int a1), (2, .int a2)] := hl
  have hS : va_S (AE 136 E) s.heap s.heap [] := va_S.rf
  have hD : wD 136 E (AE 136 E) := wD.self hE
  unfold X_doSpeak at hf
  obtain ⟨H, eH⟩ : ∃ H, H = s.heap := ⟨_, rfl⟩
  obtain ⟨locs, eL⟩ : ∃ locs : List Loc, locs = [] := ⟨_, rfl⟩
  rw [← eL] at hS ⊢
  rw [← eH] at hP
  have hS : va_S (AE 136 E) s.heap H locs := by rw [eH]; exact hS
  show W p l e rmX0_doSpeak s m args below meth c s.heap locs 0 0 Q (F0 m 0 ls [])
  rw [← eH]
  refine lv_iconst (v := 0) hx hb dX0_doSpeak_0 (by decide) ?_
  refine lv_istore_n (lv' := [(3, .int 0), (0, .ref (E 0)), (1, .int a1), (2, .int a2)]) hx hb dX0_doSpeak_1 rfl hl (by decide) rfl (fun ls hl => ?_)
  obtain ⟨b2, hb2, hf⟩ := ob_bind hf
  obtain ⟨n2, hn2⟩ := lp_some hb2
  have kL2 : ∀ (n : Nat) (v3_1 : Int32), lpF (fun (q2 : Int32) => X_doSpeak_b2 w a1 a2 q2) n v3_1 = some b2 → (∀ (x2_0 : Unit), b2 = .inl x2_0 → ∀ (H : Heap) (locs : List Loc) (ls : Array Slot), va_P D clX (wl shX 136 dA E w) H → va_S (AE 136 E) s.heap H locs → lv_has ls 4 [] → W p l e rmX0_doSpeak s m args below meth c H locs 0 0 Q (F0 m 35 ls [])) → (∀ (x2_1 : Unit), b2 = .inr x2_1 → ∀ (H : Heap) (locs : List Loc) (ls : Array Slot), va_P D clX (wl shX 136 dA E w) H → va_S (AE 136 E) s.heap H locs → lv_has ls 4 [] → W p l e rmX0_doSpeak s m args below meth c H locs 0 0 Q (F0 m 43 ls [])) → ∀ (H : Heap) (locs : List Loc) (ls : Array Slot), va_P D clX (wl shX 136 dA E w) H → va_S (AE 136 E) s.heap H locs → lv_has ls 4 [(0, .ref (E 0)), (1, .int a1), (2, .int a2), (3, .int v3_1)] → W p l e rmX0_doSpeak s m args below meth c H locs 0 0 Q (F0 m 2 ls []) := by
    intro n
    induction n with
    | zero =>
      intro v3_1 hq9
      cases hq9
    | succ n ih =>
      intro v3_1 hq9 K2_0 K2_1 H locs ls hP hS hl
      obtain ⟨r2, hf, h2a, h2b⟩ := lpF_step hq9
      replace hf : X_doSpeak_b2 w a1 a2 v3_1 = some r2 := hf
      unfold X_doSpeak_b2 at hf
      refine lv_iload_n hx hb dX0_doSpeak_2 rfl (lv_at hl 3 rfl) ?_
      refine lv_aload_n hx hb dX0_doSpeak_3 rfl (lv_at hl 0 rfl) ?_
      obtain ⟨q4, g3, hf⟩ := ob_bind hf
      refine xc_i (xj_run (As := []) (rest := [.int v3_1]) hJ hJs hS ⟨hx, hb, hml, hown, hts⟩ (k0 := 0) (wkX0_quarrels l D dA E hE T J hJ w g3) (cwV 0 hts (lw_V q309 q311 qs0 q136 q312) rfl rfl rfl cdX0_quarrels ⟨Nat.le_of_ble_eq_true rfl, Nat.le_of_ble_eq_true rfl⟩) hK hP (by decide) rfl rfl rfl hl.1 rfl rfl (Nat.le_of_ble_eq_true rfl) dX0_doSpeak_4 ⟨Nat.zero_le _, Nat.zero_le _⟩) hS hD.2 (fun H locs hP hS => ?_)
      refine lv_icmp_ge (tgt := 43) hx hb dX0_doSpeak_7 (by decide) (fun c5 => ?_) (fun c5 => ?_)
      · replace hf := ob_t hf c5
        obtain rfl := ob_s hf
        exact K2_1 _ (h2b _ rfl).symm H locs ls hP hS (lv_sub hl [] rfl)
      · replace hf := ob_f hf c5
        refine lv_aload_n hx hb dX0_doSpeak_10 rfl (lv_at hl 0 rfl) ?_
        refine lv_iload_n hx hb dX0_doSpeak_11 rfl (lv_at hl 3 rfl) ?_
        refine lv_iload_n hx hb dX0_doSpeak_12 rfl (lv_at hl 1 rfl) ?_
        refine lv_iload_n hx hb dX0_doSpeak_13 rfl (lv_at hl 2 rfl) ?_
        obtain ⟨q7, g6, hf⟩ := ob_bind hf
        refine xc_z (xj_run (As := [.int v3_1, .int a1, .int a2]) (rest := []) hJ hJs hS ⟨hx, hb, hml, hown, hts⟩ (k0 := 0) (wkX0_isOf l D dA E hE T J hJ w v3_1 a1 a2 g6) (cwV 3 hts (lw_V q1193 q1195 qs43 q136 q1196) rfl rfl rfl cdX0_isOf ⟨Nat.le_of_ble_eq_true rfl, Nat.le_of_ble_eq_true rfl⟩) hK hP (by decide) rfl rfl rfl hl.1 rfl rfl (Nat.le_of_ble_eq_true rfl) dX0_doSpeak_14 ⟨Nat.zero_le _, Nat.zero_le _⟩) hS hD.2 (fun H locs zq7 hP hS => ?_)
        refine lv_if_eq (tgt := 37) hx hb dX0_doSpeak_17 (by decide) (fun c8 => ?_) (fun c8 => ?_)
        · replace hf := ob_t hf c8
          obtain ⟨v3_9, ev3_9, hf⟩ := ob_bnd hf
          refine lv_iinc (v := v3_9) (lv' := [(3, .int v3_9), (0, .ref (E 0)), (1, .int a1), (2, .int a2)]) hx hb dX0_doSpeak_37 hl (k := 3) rfl (by rw [ev3_9]; rfl) (by decide) rfl (fun ls hl => ?_)
          refine lv_goto (tgt := 2) hx hb dX0_doSpeak_40 (by decide) ?_
          obtain rfl := ob_s hf
          exact ih _ (h2a _ rfl) K2_0 K2_1 H locs ls hP hS (lv_sub hl [1, 2, 3, 0] rfl)
        · replace hf := ob_f hf c8
          refine lv_aload_n hx hb dX0_doSpeak_20 rfl (lv_at hl 0 rfl) ?_
          refine xr_get hx hb hts in_X0 hown hK hP 0 (by decide) rfl rfl 0 (by decide) (hts _ q252) (fun _ h => h) rfl (v := .ref (E 1)) rfl dX0_doSpeak_21 ?_
          refine xr_getN (host := "QuarrelsPawned") hx hb hts in_X1 hown hK hP 1 (by decide) rfl rfl 1 (by decide) (hJ.nest hJs 1 rfl) (fun _ h => h) rfl (v := .ref (E 4)) rfl dX0_doSpeak_24 ?_
          refine lv_iconst (v := 4) hx hb dX0_doSpeak_27 (by decide) ?_
          refine lv_iload_n hx hb dX0_doSpeak_28 rfl (lv_at hl 3 rfl) ?_
          refine lv_iadd hx hb dX0_doSpeak_29 ?_
          obtain ⟨h10, hf⟩ := ob_gd hf
          refine xr_iald hx hb hK hP 4 (by decide) rfl 0 rfl (j := (4 + v3_1).toNatClampNeg) h10 rfl dX0_doSpeak_30 ?_
          refine lv_iconst (v := 2) hx hb dX0_doSpeak_31 (by decide) ?_
          refine lv_icmp_eq (tgt := 37) hx hb dX0_doSpeak_32 (by decide) (fun c11 => ?_) (fun c11 => ?_)
          · replace hf := ob_t hf c11
            obtain ⟨v3_12, ev3_12, hf⟩ := ob_bnd hf
            refine lv_iinc (v := v3_12) (lv' := [(3, .int v3_12), (0, .ref (E 0)), (1, .int a1), (2, .int a2)]) hx hb dX0_doSpeak_37 hl (k := 3) rfl (by rw [ev3_12]; rfl) (by decide) rfl (fun ls hl => ?_)
            refine lv_goto (tgt := 2) hx hb dX0_doSpeak_40 (by decide) ?_
            obtain rfl := ob_s hf
            exact ih _ (h2a _ rfl) K2_0 K2_1 H locs ls hP hS (lv_sub hl [1, 2, 3, 0] rfl)
          · replace hf := ob_f hf c11
            obtain rfl := ob_s hf
            exact K2_0 _ (h2b _ rfl).symm H locs ls hP hS (lv_sub hl [] rfl)
  refine kL2 n2 0 hn2 (fun x2_0 ex2_0 H locs ls hP hS hl => ?_) (fun x2_1 ex2_1 H locs ls hP hS hl => ?_) H locs ls hP hS (lv_sub hl [1, 2, 3, 0] rfl)
  · subst ex2_0
    replace hf : X_doSpeak_x2_35 = some res := hf
    unfold X_doSpeak_x2_35 at hf
    refine lv_iconst (v := 0) hx hb dX0_doSpeak_35 (by decide) ?_
    obtain rfl := ob_s hf
    subst hQ
    exact xe_z hx hb hr hlocks hP hS (Or.inl rfl) dX0_doSpeak_36
  · subst ex2_1
    replace hf : X_doSpeak_x2_43 = some res := hf
    unfold X_doSpeak_x2_43 at hf
    refine lv_iconst (v := 1) hx hb dX0_doSpeak_43 (by decide) ?_
    obtain rfl := ob_s hf
    subst hQ
    exact xe_z hx hb hr hlocks hP hS (Or.inr rfl) dX0_doSpeak_44
abbrev rmX0_speak : Room := { frames := 3, cells := 0, slots := 0, locals := 63 }
theorem cdX0_speak : yX0_speak.cls = RX0 ∧ yX0_speak.cls ≠ "java/lang/invoke/MethodHandle" ∧ yX0_speak.cls ≠ "java/lang/invoke/VarHandle" ∧ (parseMethodDescriptor yX0_speak.desc).map (fun d => d.parameters.length) = some 2 := by decide +kernel
set_option maxHeartbeats 4000000 in
set_option maxRecDepth 100000 in
theorem wkX0_speak (l : Launch) (D : va_G) (dA : Nat → ClassId) (E : Nat → Nat) (hE : wInj 136 E) (T : Tx) (J : State → Heap → Prop) (hJ : JP D dA E T J) (w : Mm) (a1 : Int32) (a2 : Int32) {res : Int32} (hf : X_speak w a1 a2 = some res) : Met l yX0_speak (ws_ yX0_speak cX0_speak 3 (some .boolean)) rmX0_speak (Pj D dA E J [.ref (E 0), .int a1, .int a2] w) (Qwz D clX shX 136 dA E res w) 0 0 (AE 136 E) := by
  refine xj_head (own := RX0) (by decide) rfl (Nat.le_of_ble_eq_true rfl) ?_
  intro p e s m args below meth c ls Q hQ C hP hl
  obtain ⟨hx, hb, hr, hlocks, hml, hown, hts, hK, hJs⟩ := C
  replace hl : lv_has ls 3 [(0, .ref (E 0)), (1, .int a1), (2, .int a2)] := hl
  have hS : va_S (AE 136 E) s.heap s.heap [] := va_S.rf
  have hD : wD 136 E (AE 136 E) := wD.self hE
  unfold X_speak at hf
  obtain ⟨H, eH⟩ : ∃ H, H = s.heap := ⟨_, rfl⟩
  obtain ⟨locs, eL⟩ : ∃ locs : List Loc, locs = [] := ⟨_, rfl⟩
  rw [← eL] at hS ⊢
  rw [← eH] at hP
  have hS : va_S (AE 136 E) s.heap H locs := by rw [eH]; exact hS
  show W p l e rmX0_speak s m args below meth c s.heap locs 0 0 Q (F0 m 0 ls [])
  rw [← eH]
  refine lv_iload_n hx hb dX0_speak_0 rfl (lv_at hl 1 rfl) ?_
  refine lv_iload_n hx hb dX0_speak_1 rfl (lv_at hl 2 rfl) ?_
  obtain ⟨q2, g1, hf⟩ := ob_bind hf
  refine xc_z (xj_runS (As := [.int a1, .int a2]) (rest := []) hJ hJs hS ⟨hx, hb, hml, hown, hts⟩ (wkX0_isPair l D dA E hE T J hJ w a1 a2 g1) (va_cwS 2 hts (lw_S q313 q314 q136 q315) rfl rfl rfl cdX0_isPair.2 ⟨Nat.le_of_ble_eq_true rfl, Nat.le_of_ble_eq_true rfl⟩) hK hP hl.1 rfl rfl (Nat.le_of_ble_eq_true rfl) dX0_speak_2 ⟨Nat.zero_le _, Nat.zero_le _⟩) hS hD.2 (fun H locs zq2 hP hS => ?_)
  refine lv_if_eq (tgt := 21) hx hb dX0_speak_5 (by decide) (fun c3 => ?_) (fun c3 => ?_)
  · replace hf := ob_t hf c3
    refine lv_iconst (v := 0) hx hb dX0_speak_21 (by decide) ?_
    obtain rfl := ob_s hf
    subst hQ
    exact xe_z hx hb hr hlocks hP hS (Or.inl rfl) dX0_speak_22
  · replace hf := ob_f hf c3
    refine lv_aload_n hx hb dX0_speak_8 rfl (lv_at hl 0 rfl) ?_
    refine lv_iload_n hx hb dX0_speak_9 rfl (lv_at hl 1 rfl) ?_
    refine lv_iload_n hx hb dX0_speak_10 rfl (lv_at hl 2 rfl) ?_
    obtain ⟨q5, g4, hf⟩ := ob_bind hf
    refine xc_z (xj_run (As := [.int a1, .int a2]) (rest := []) hJ hJs hS ⟨hx, hb, hml, hown, hts⟩ (k0 := 0) (wkX0_doSpeak l D dA E hE T J hJ w a1 a2 g4) (cwV 2 hts (lw_V q1189 q1191 qs42 q136 q1192) rfl rfl rfl cdX0_doSpeak ⟨Nat.le_of_ble_eq_true rfl, Nat.le_of_ble_eq_true rfl⟩) hK hP (by decide) rfl rfl rfl hl.1 rfl rfl (Nat.le_of_ble_eq_true rfl) dX0_speak_11 ⟨Nat.zero_le _, Nat.zero_le _⟩) hS hD.2 (fun H locs zq5 hP hS => ?_)
    refine lv_if_eq (tgt := 21) hx hb dX0_speak_14 (by decide) (fun c6 => ?_) (fun c6 => ?_)
    · replace hf := ob_t hf c6
      refine lv_iconst (v := 0) hx hb dX0_speak_21 (by decide) ?_
      obtain rfl := ob_s hf
      subst hQ
      exact xe_z hx hb hr hlocks hP hS (Or.inl rfl) dX0_speak_22
    · replace hf := ob_f hf c6
      refine lv_iconst (v := 1) hx hb dX0_speak_17 (by decide) ?_
      refine lv_goto (tgt := 22) hx hb dX0_speak_18 (by decide) ?_
      obtain rfl := ob_s hf
      subst hQ
      exact xe_z hx hb hr hlocks hP hS (Or.inr rfl) dX0_speak_22
abbrev rmX0_costOf : Room := { frames := 202, cells := 0, slots := 0, locals := 8045 }
theorem cdX0_costOf : yX0_costOf.cls = RX0 ∧ yX0_costOf.cls ≠ "java/lang/invoke/MethodHandle" ∧ yX0_costOf.cls ≠ "java/lang/invoke/VarHandle" ∧ (parseMethodDescriptor yX0_costOf.desc).map (fun d => d.parameters.length) = some 2 := by decide +kernel
set_option maxHeartbeats 4000000 in
set_option maxRecDepth 100000 in
theorem wkX0_costOf (l : Launch) (D : va_G) (dA : Nat → ClassId) (E : Nat → Nat) (hE : wInj 136 E) (T : Tx) (J : State → Heap → Prop) (hJ : JP D dA E T J) (w : Mm) (a1 : Int32) (a2 : Int32) {res : Int32 × Mm} (hf : X_costOf T w a1 a2 = some res) : Met l yX0_costOf (ws_ yX0_costOf cX0_costOf 5 (some .int)) rmX0_costOf (Pj D dA E J [.ref (E 0), .int a1, .int a2] w) (Qwi D clX shX 136 dA E res.1 res.2) 0 0 (AE 136 E) := by
  refine xj_head (own := RX0) (by decide) rfl (Nat.le_of_ble_eq_true rfl) ?_
  intro p e s m args below meth c ls Q hQ C hP hl
  obtain ⟨hx, hb, hr, hlocks, hml, hown, hts, hK, hJs⟩ := C
  replace hl : lv_has ls 5 [(0, .ref (E 0)), (1, .int a1), (2, .int a2)] := hl
  have hS : va_S (AE 136 E) s.heap s.heap [] := va_S.rf
  have hD : wD 136 E (AE 136 E) := wD.self hE
  unfold X_costOf at hf
  obtain ⟨H, eH⟩ : ∃ H, H = s.heap := ⟨_, rfl⟩
  obtain ⟨locs, eL⟩ : ∃ locs : List Loc, locs = [] := ⟨_, rfl⟩
  rw [← eL] at hS ⊢
  rw [← eH] at hP
  have hS : va_S (AE 136 E) s.heap H locs := by rw [eH]; exact hS
  show W p l e rmX0_costOf s m args below meth c s.heap locs 0 0 Q (F0 m 0 ls [])
  rw [← eH]
  refine lv_iconst (v := 0) hx hb dX0_costOf_0 (by decide) ?_
  refine lv_istore_n (lv' := [(3, .int 0), (0, .ref (E 0)), (1, .int a1), (2, .int a2)]) hx hb dX0_costOf_1 rfl hl (by decide) rfl (fun ls hl => ?_)
  refine lv_iconst (v := 0) hx hb dX0_costOf_2 (by decide) ?_
  refine lv_istore (lv' := [(4, .int 0), (3, .int 0), (0, .ref (E 0)), (1, .int a1), (2, .int a2)]) hx hb dX0_costOf_3 hl (by decide) rfl (fun ls hl => ?_)
  obtain ⟨b4, hb4, hf⟩ := ob_bind hf
  obtain ⟨n4, hn4⟩ := lp_some hb4
  have kL5 : ∀ (n : Nat) (w1 : Mm) (v3_2 : Int32) (v4_3 : Int32), lpF (fun (q4 : Mm × Int32 × Int32) => X_costOf_b5 a1 a2 T q4.1 q4.2.1 q4.2.2) n (w1, v3_2, v4_3) = some b4 → (∀ (x4_0 : Mm), b4 = .inl x4_0 → ∀ (H : Heap) (locs : List Loc) (ls : Array Slot), va_P D clX (wl shX 136 dA E x4_0) H → va_S (AE 136 E) s.heap H locs → lv_has ls 5 [] → W p l e rmX0_costOf s m args below meth c H locs 0 0 Q (F0 m 60 ls [])) → (∀ (x4_1 : Mm × Int32), b4 = .inr x4_1 → ∀ (H : Heap) (locs : List Loc) (ls : Array Slot), va_P D clX (wl shX 136 dA E x4_1.1) H → va_S (AE 136 E) s.heap H locs → lv_has ls 5 [(3, .int x4_1.2)] → W p l e rmX0_costOf s m args below meth c H locs 0 0 Q (F0 m 88 ls [])) → ∀ (H : Heap) (locs : List Loc) (ls : Array Slot), va_P D clX (wl shX 136 dA E w1) H → va_S (AE 136 E) s.heap H locs → lv_has ls 5 [(0, .ref (E 0)), (1, .int a1), (2, .int a2), (3, .int v3_2), (4, .int v4_3)] → W p l e rmX0_costOf s m args below meth c H locs 0 0 Q (F0 m 5 ls []) := by
    intro n
    induction n with
    | zero =>
      intro w1 v3_2 v4_3 hq9
      cases hq9
    | succ n ih =>
      intro w1 v3_2 v4_3 hq9 K4_0 K4_1 H locs ls hP hS hl
      obtain ⟨r4, hf, h4a, h4b⟩ := lpF_step hq9
      replace hf : X_costOf_b5 a1 a2 T w1 v3_2 v4_3 = some r4 := hf
      unfold X_costOf_b5 at hf
      refine lv_iload hx hb dX0_costOf_5 (lv_at hl 4 rfl) ?_
      refine lv_aload_n hx hb dX0_costOf_7 rfl (lv_at hl 0 rfl) ?_
      obtain ⟨q6, g5, hf⟩ := ob_bind hf
      refine xc_i (xj_run (As := []) (rest := [.int v4_3]) hJ hJs hS ⟨hx, hb, hml, hown, hts⟩ (k0 := 0) (wkX0_quarrels l D dA E hE T J hJ w1 g5) (cwV 0 hts (lw_V q309 q311 qs0 q136 q312) rfl rfl rfl cdX0_quarrels ⟨Nat.le_of_ble_eq_true rfl, Nat.le_of_ble_eq_true rfl⟩) hK hP (by decide) rfl rfl rfl hl.1 rfl rfl (Nat.le_of_ble_eq_true rfl) dX0_costOf_8 ⟨Nat.zero_le _, Nat.zero_le _⟩) hS hD.2 (fun H locs hP hS => ?_)
      refine lv_icmp_ge (tgt := 88) hx hb dX0_costOf_11 (by decide) (fun c7 => ?_) (fun c7 => ?_)
      · replace hf := ob_t hf c7
        obtain rfl := ob_s hf
        exact K4_1 _ (h4b _ rfl).symm H locs ls hP hS (lv_sub hl [3] rfl)
      · replace hf := ob_f hf c7
        refine lv_aload_n hx hb dX0_costOf_14 rfl (lv_at hl 0 rfl) ?_
        refine lv_iload hx hb dX0_costOf_15 (lv_at hl 4 rfl) ?_
        refine lv_iload_n hx hb dX0_costOf_17 rfl (lv_at hl 1 rfl) ?_
        refine lv_iload_n hx hb dX0_costOf_18 rfl (lv_at hl 2 rfl) ?_
        obtain ⟨q9, g8, hf⟩ := ob_bind hf
        refine xc_z (xj_run (As := [.int v4_3, .int a1, .int a2]) (rest := []) hJ hJs hS ⟨hx, hb, hml, hown, hts⟩ (k0 := 0) (wkX0_isOf l D dA E hE T J hJ w1 v4_3 a1 a2 g8) (cwV 3 hts (lw_V q1193 q1195 qs43 q136 q1196) rfl rfl rfl cdX0_isOf ⟨Nat.le_of_ble_eq_true rfl, Nat.le_of_ble_eq_true rfl⟩) hK hP (by decide) rfl rfl rfl hl.1 rfl rfl (Nat.le_of_ble_eq_true rfl) dX0_costOf_19 ⟨Nat.zero_le _, Nat.zero_le _⟩) hS hD.2 (fun H locs zq9 hP hS => ?_)
        refine lv_if_eq (tgt := 82) hx hb dX0_costOf_22 (by decide) (fun c10 => ?_) (fun c10 => ?_)
        · replace hf := ob_t hf c10
          obtain ⟨v4_11, ev4_11, hf⟩ := ob_bnd hf
          refine lv_iinc (v := v4_11) (lv' := [(4, .int v4_11), (0, .ref (E 0)), (1, .int a1), (2, .int a2), (3, .int v3_2)]) hx hb dX0_costOf_82 hl (k := 4) rfl (by rw [ev4_11]; rfl) (by decide) rfl (fun ls hl => ?_)
          refine lv_goto (tgt := 5) hx hb dX0_costOf_85 (by decide) ?_
          obtain rfl := ob_s hf
          exact ih _ _ _ (h4a _ rfl) K4_0 K4_1 H locs ls hP hS (lv_sub hl [1, 2, 3, 4, 0] rfl)
        · replace hf := ob_f hf c10
          refine lv_aload_n hx hb dX0_costOf_25 rfl (lv_at hl 0 rfl) ?_
          refine xr_get hx hb hts in_X0 hown hK hP 0 (by decide) rfl rfl 0 (by decide) (hts _ q252) (fun _ h => h) rfl (v := .ref (E 1)) rfl dX0_costOf_26 ?_
          refine xr_getN (host := "QuarrelsPawned") hx hb hts in_X1 hown hK hP 1 (by decide) rfl rfl 1 (by decide) (hJ.nest hJs 1 rfl) (fun _ h => h) rfl (v := .ref (E 4)) rfl dX0_costOf_29 ?_
          refine lv_iconst (v := 4) hx hb dX0_costOf_32 (by decide) ?_
          refine lv_iload hx hb dX0_costOf_33 (lv_at hl 4 rfl) ?_
          refine lv_iadd hx hb dX0_costOf_35 ?_
          obtain ⟨h12, hf⟩ := ob_gd hf
          refine xr_iald hx hb hK hP 4 (by decide) rfl 0 rfl (j := (4 + v4_3).toNatClampNeg) h12 rfl dX0_costOf_36 ?_
          refine lv_iconst (v := 2) hx hb dX0_costOf_37 (by decide) ?_
          refine lv_icmp_ne (tgt := 44) hx hb dX0_costOf_38 (by decide) (fun c13 => ?_) (fun c13 => ?_)
          · replace hf := ob_f hf c13
            refine lv_aload_n hx hb dX0_costOf_44 rfl (lv_at hl 0 rfl) ?_
            refine xr_get hx hb hts in_X0 hown hK hP 0 (by decide) rfl rfl 0 (by decide) (hts _ q252) (fun _ h => h) rfl (v := .ref (E 1)) rfl dX0_costOf_45 ?_
            refine xr_getN (host := "QuarrelsPawned") hx hb hts in_X1 hown hK hP 1 (by decide) rfl rfl 1 (by decide) (hJ.nest hJs 1 rfl) (fun _ h => h) rfl (v := .ref (E 4)) rfl dX0_costOf_48 ?_
            refine lv_iconst (v := 4) hx hb dX0_costOf_51 (by decide) ?_
            refine lv_iload hx hb dX0_costOf_52 (lv_at hl 4 rfl) ?_
            refine lv_iadd hx hb dX0_costOf_54 ?_
            obtain ⟨h14, hf⟩ := ob_gd hf
            refine xr_iald hx hb hK hP 4 (by decide) rfl 0 rfl (j := (4 + v4_3).toNatClampNeg) h14 rfl dX0_costOf_55 ?_
            refine lv_iconst (v := 1) hx hb dX0_costOf_56 (by decide) ?_
            refine lv_icmp_eq (tgt := 62) hx hb dX0_costOf_57 (by decide) (fun c15 => ?_) (fun c15 => ?_)
            · replace hf := ob_t hf c15
              refine lv_iload_n hx hb dX0_costOf_62 rfl (lv_at hl 3 rfl) ?_
              refine lv_aload_n hx hb dX0_costOf_63 rfl (lv_at hl 0 rfl) ?_
              refine lv_aload_n hx hb dX0_costOf_64 rfl (lv_at hl 0 rfl) ?_
              obtain ⟨q17, g16, hf⟩ := ob_bind hf
              refine xc_a (xj_run (As := []) (rest := [.ref (E 0), .int v3_2]) hJ hJs hS ⟨hx, hb, hml, hown, hts⟩ (k0 := 0) (wkX0_rules l D dA E hE T J hJ w1 g16) (cwV 0 hts (lw_V q935 q937 qs29 q136 q938) rfl rfl rfl cdX0_rules ⟨Nat.le_of_ble_eq_true rfl, Nat.le_of_ble_eq_true rfl⟩) hK hP (by decide) rfl rfl rfl hl.1 rfl rfl (Nat.le_of_ble_eq_true rfl) dX0_costOf_65 ⟨Nat.zero_le _, Nat.zero_le _⟩) hS hD.2 (fun H locs hP hS => ?_)
              refine lv_aload_n hx hb dX0_costOf_68 rfl (lv_at hl 0 rfl) ?_
              refine xr_get hx hb hts in_X0 hown hK hP 0 (by decide) rfl rfl 0 (by decide) (hts _ q252) (fun _ h => h) rfl (v := .ref (E 1)) rfl dX0_costOf_69 ?_
              refine xr_getN (host := "QuarrelsPawned") hx hb hts in_X1 hown hK hP 1 (by decide) rfl rfl 1 (by decide) (hJ.nest hJs 1 rfl) (fun _ h => h) rfl (v := .ref (E 4)) rfl dX0_costOf_72 ?_
              refine lv_iload hx hb dX0_costOf_75 (lv_at hl 4 rfl) ?_
              obtain ⟨q19, g18, hf⟩ := ob_bind hf
              refine xc_i (xj_run (As := [.ref q17, .ref (E 4), .int v4_3]) (rest := [.int v3_2]) hJ hJs hS ⟨hx, hb, hml, hown, hts⟩ (k0 := 0) (wkX0_duesBy l D dA E hE T J hJ w1 q17 4 v4_3 g18 (by decide) rfl) (cwV 3 hts (lw_V q941 q943 qs30 q136 q944) rfl rfl rfl cdX0_duesBy ⟨Nat.le_of_ble_eq_true rfl, Nat.le_of_ble_eq_true rfl⟩) hK hP (by decide) rfl rfl rfl hl.1 rfl rfl (Nat.le_of_ble_eq_true rfl) dX0_costOf_77 ⟨Nat.zero_le _, Nat.zero_le _⟩) hS hD.2 (fun H locs hP hS => ?_)
              refine lv_iadd hx hb dX0_costOf_80 ?_
              obtain ⟨v3_20, ev3_20, hf⟩ := ob_bnd hf
              refine xn_i ev3_20 ?_
              refine lv_istore_n (lv' := [(3, .int v3_20), (0, .ref (E 0)), (1, .int a1), (2, .int a2), (4, .int v4_3)]) hx hb dX0_costOf_81 rfl hl (by decide) rfl (fun ls hl => ?_)
              obtain ⟨v4_21, ev4_21, hf⟩ := ob_bnd hf
              refine lv_iinc (v := v4_21) (lv' := [(4, .int v4_21), (3, .int v3_20), (0, .ref (E 0)), (1, .int a1), (2, .int a2)]) hx hb dX0_costOf_82 hl (k := 4) rfl (by rw [ev4_21]; rfl) (by decide) rfl (fun ls hl => ?_)
              refine lv_goto (tgt := 5) hx hb dX0_costOf_85 (by decide) ?_
              obtain rfl := ob_s hf
              exact ih _ _ _ (h4a _ rfl) K4_0 K4_1 H locs ls hP hS (lv_sub hl [2, 3, 4, 1, 0] rfl)
            · replace hf := ob_f hf c15
              obtain rfl := ob_s hf
              exact K4_0 _ (h4b _ rfl).symm H locs ls hP hS (lv_sub hl [] rfl)
          · replace hf := ob_t hf c13
            refine lv_goto (tgt := 82) hx hb dX0_costOf_41 (by decide) ?_
            obtain ⟨v4_22, ev4_22, hf⟩ := ob_bnd hf
            refine lv_iinc (v := v4_22) (lv' := [(4, .int v4_22), (0, .ref (E 0)), (1, .int a1), (2, .int a2), (3, .int v3_2)]) hx hb dX0_costOf_82 hl (k := 4) rfl (by rw [ev4_22]; rfl) (by decide) rfl (fun ls hl => ?_)
            refine lv_goto (tgt := 5) hx hb dX0_costOf_85 (by decide) ?_
            obtain rfl := ob_s hf
            exact ih _ _ _ (h4a _ rfl) K4_0 K4_1 H locs ls hP hS (lv_sub hl [1, 2, 3, 4, 0] rfl)
  refine kL5 n4 w 0 0 hn4 (fun x4_0 ex4_0 H locs ls hP hS hl => ?_) (fun x4_1 ex4_1 H locs ls hP hS hl => ?_) H locs ls hP hS (lv_sub hl [2, 3, 4, 1, 0] rfl)
  · subst ex4_0
    replace hf : X_costOf_x5_60 x4_0 = some res := hf
    unfold X_costOf_x5_60 at hf
    refine lv_iconst (v := (-1)) hx hb dX0_costOf_60 (by decide) ?_
    obtain rfl := ob_s hf
    subst hQ
    exact xe_i hx hb hr hlocks hP hS dX0_costOf_61
  · subst ex4_1
    replace hf : X_costOf_x5_88 x4_1 = some res := hf
    unfold X_costOf_x5_88 at hf
    refine lv_iload_n hx hb dX0_costOf_88 rfl (lv_at hl 0 rfl) ?_
    obtain rfl := ob_s hf
    subst hQ
    exact xe_i hx hb hr hlocks hP hS dX0_costOf_89
abbrev rmX0_cost : Room := { frames := 203, cells := 0, slots := 0, locals := 8069 }
theorem cdX0_cost : yX0_cost.cls = RX0 ∧ yX0_cost.cls ≠ "java/lang/invoke/MethodHandle" ∧ yX0_cost.cls ≠ "java/lang/invoke/VarHandle" ∧ (parseMethodDescriptor yX0_cost.desc).map (fun d => d.parameters.length) = some 2 := by decide +kernel
set_option maxHeartbeats 4000000 in
set_option maxRecDepth 100000 in
theorem wkX0_cost (l : Launch) (D : va_G) (dA : Nat → ClassId) (E : Nat → Nat) (hE : wInj 136 E) (T : Tx) (J : State → Heap → Prop) (hJ : JP D dA E T J) (w : Mm) (a1 : Int32) (a2 : Int32) {res : Int32 × Mm} (hf : X_cost T w a1 a2 = some res) : Met l yX0_cost (ws_ yX0_cost cX0_cost 3 (some .int)) rmX0_cost (Pj D dA E J [.ref (E 0), .int a1, .int a2] w) (Qwi D clX shX 136 dA E res.1 res.2) 0 0 (AE 136 E) := by
  refine xj_head (own := RX0) (by decide) rfl (Nat.le_of_ble_eq_true rfl) ?_
  intro p e s m args below meth c ls Q hQ C hP hl
  obtain ⟨hx, hb, hr, hlocks, hml, hown, hts, hK, hJs⟩ := C
  replace hl : lv_has ls 3 [(0, .ref (E 0)), (1, .int a1), (2, .int a2)] := hl
  have hS : va_S (AE 136 E) s.heap s.heap [] := va_S.rf
  have hD : wD 136 E (AE 136 E) := wD.self hE
  unfold X_cost at hf
  obtain ⟨H, eH⟩ : ∃ H, H = s.heap := ⟨_, rfl⟩
  obtain ⟨locs, eL⟩ : ∃ locs : List Loc, locs = [] := ⟨_, rfl⟩
  rw [← eL] at hS ⊢
  rw [← eH] at hP
  have hS : va_S (AE 136 E) s.heap H locs := by rw [eH]; exact hS
  show W p l e rmX0_cost s m args below meth c s.heap locs 0 0 Q (F0 m 0 ls [])
  rw [← eH]
  refine lv_iload_n hx hb dX0_cost_0 rfl (lv_at hl 1 rfl) ?_
  refine lv_iload_n hx hb dX0_cost_1 rfl (lv_at hl 2 rfl) ?_
  obtain ⟨q2, g1, hf⟩ := ob_bind hf
  refine xc_z (xj_runS (As := [.int a1, .int a2]) (rest := []) hJ hJs hS ⟨hx, hb, hml, hown, hts⟩ (wkX0_isPair l D dA E hE T J hJ w a1 a2 g1) (va_cwS 2 hts (lw_S q313 q314 q136 q315) rfl rfl rfl cdX0_isPair.2 ⟨Nat.le_of_ble_eq_true rfl, Nat.le_of_ble_eq_true rfl⟩) hK hP hl.1 rfl rfl (Nat.le_of_ble_eq_true rfl) dX0_cost_2 ⟨Nat.zero_le _, Nat.zero_le _⟩) hS hD.2 (fun H locs zq2 hP hS => ?_)
  refine lv_if_eq (tgt := 17) hx hb dX0_cost_5 (by decide) (fun c3 => ?_) (fun c3 => ?_)
  · replace hf := ob_t hf c3
    refine lv_iconst (v := (-1)) hx hb dX0_cost_17 (by decide) ?_
    obtain rfl := ob_s hf
    subst hQ
    exact xe_i hx hb hr hlocks hP hS dX0_cost_18
  · replace hf := ob_f hf c3
    refine lv_aload_n hx hb dX0_cost_8 rfl (lv_at hl 0 rfl) ?_
    refine lv_iload_n hx hb dX0_cost_9 rfl (lv_at hl 1 rfl) ?_
    refine lv_iload_n hx hb dX0_cost_10 rfl (lv_at hl 2 rfl) ?_
    obtain ⟨q5, g4, hf⟩ := ob_bind hf
    refine xc_i (xj_run (As := [.int a1, .int a2]) (rest := []) hJ hJs hS ⟨hx, hb, hml, hown, hts⟩ (k0 := 0) (wkX0_costOf l D dA E hE T J hJ w a1 a2 g4) (cwV 2 hts (lw_V q1201 q1203 qs44 q136 q1204) rfl rfl rfl cdX0_costOf ⟨Nat.le_of_ble_eq_true rfl, Nat.le_of_ble_eq_true rfl⟩) hK hP (by decide) rfl rfl rfl hl.1 rfl rfl (Nat.le_of_ble_eq_true rfl) dX0_cost_11 ⟨Nat.zero_le _, Nat.zero_le _⟩) hS hD.2 (fun H locs hP hS => ?_)
    refine lv_goto (tgt := 18) hx hb dX0_cost_14 (by decide) ?_
    obtain rfl := ob_s hf
    subst hQ
    exact xe_i hx hb hr hlocks hP hS dX0_cost_18
abbrev rmX0_groupOf : Room := { frames := 2, cells := 0, slots := 0, locals := 46 }
theorem cdX0_groupOf : yX0_groupOf.cls = RX0 ∧ yX0_groupOf.cls ≠ "java/lang/invoke/MethodHandle" ∧ yX0_groupOf.cls ≠ "java/lang/invoke/VarHandle" ∧ (parseMethodDescriptor yX0_groupOf.desc).map (fun d => d.parameters.length) = some 2 := by decide +kernel
set_option maxHeartbeats 4000000 in
set_option maxRecDepth 100000 in
theorem wkX0_groupOf (l : Launch) (D : va_G) (dA : Nat → ClassId) (E : Nat → Nat) (hE : wInj 136 E) (T : Tx) (J : State → Heap → Prop) (hJ : JP D dA E T J) (w : Mm) (a1 : Int32) (a2 : Int32) {res : Int32} (hf : X_groupOf w a1 a2 = some res) : Met l yX0_groupOf (ws_ yX0_groupOf cX0_groupOf 7 (some .int)) rmX0_groupOf (Pj D dA E J [.ref (E 0), .int a1, .int a2] w) (Qwi D clX shX 136 dA E res w) 0 0 (AE 136 E) := by
  refine xj_head (own := RX0) (by decide) rfl (Nat.le_of_ble_eq_true rfl) ?_
  intro p e s m args below meth c ls Q hQ C hP hl
  obtain ⟨hx, hb, hr, hlocks, hml, hown, hts, hK, hJs⟩ := C
  replace hl : lv_has ls 7 [(0, .ref (E 0)), (1, .int a1), (2, .int a2)] := hl
  have hS : va_S (AE 136 E) s.heap s.heap [] := va_S.rf
  have hD : wD 136 E (AE 136 E) := wD.self hE
  unfold X_groupOf at hf
  obtain ⟨H, eH⟩ : ∃ H, H = s.heap := ⟨_, rfl⟩
  obtain ⟨locs, eL⟩ : ∃ locs : List Loc, locs = [] := ⟨_, rfl⟩
  rw [← eL] at hS ⊢
  rw [← eH] at hP
  have hS : va_S (AE 136 E) s.heap H locs := by rw [eH]; exact hS
  show W p l e rmX0_groupOf s m args below meth c s.heap locs 0 0 Q (F0 m 0 ls [])
  rw [← eH]
  refine lv_iconst (v := 0) hx hb dX0_groupOf_0 (by decide) ?_
  refine lv_istore_n (lv' := [(3, .int 0), (0, .ref (E 0)), (1, .int a1), (2, .int a2)]) hx hb dX0_groupOf_1 rfl hl (by decide) rfl (fun ls hl => ?_)
  refine lv_iconst (v := 1) hx hb dX0_groupOf_2 (by decide) ?_
  refine lv_iload_n hx hb dX0_groupOf_3 rfl (lv_at hl 2 rfl) ?_
  refine lv_ishl hx hb dX0_groupOf_4 ?_
  obtain ⟨v4_1, ev4_1, hf⟩ := ob_bnd hf
  refine xn_i ev4_1 ?_
  refine lv_istore (lv' := [(4, .int v4_1), (3, .int 0), (0, .ref (E 0)), (1, .int a1), (2, .int a2)]) hx hb dX0_groupOf_5 hl (by decide) rfl (fun ls hl => ?_)
  obtain ⟨b4, hb4, hf⟩ := ob_bind hf
  obtain ⟨n4, hn4⟩ := lp_some hb4
  have kL7 : ∀ (n : Nat) (v3_2 : Int32) (v4_3 : Int32), lpF (fun (q4 : Int32 × Int32) => X_groupOf_b7 a2 w q4.1 q4.2) n (v3_2, v4_3) = some b4 → (∀ (H : Heap) (locs : List Loc) (ls : Array Slot), va_P D clX (wl shX 136 dA E w) H → va_S (AE 136 E) s.heap H locs → lv_has ls 7 [(4, .int b4)] → W p l e rmX0_groupOf s m args below meth c H locs 0 0 Q (F0 m 96 ls [])) → ∀ (H : Heap) (locs : List Loc) (ls : Array Slot), va_P D clX (wl shX 136 dA E w) H → va_S (AE 136 E) s.heap H locs → lv_has ls 7 [(0, .ref (E 0)), (2, .int a2), (3, .int v3_2), (4, .int v4_3)] → W p l e rmX0_groupOf s m args below meth c H locs 0 0 Q (F0 m 7 ls []) := by
    intro n
    induction n with
    | zero =>
      intro v3_2 v4_3 hq9
      cases hq9
    | succ n ih =>
      intro v3_2 v4_3 hq9 K4_0 H locs ls hP hS hl
      obtain ⟨r4, hf, h4a, h4b⟩ := lpF_step hq9
      replace hf : X_groupOf_b7 a2 w v3_2 v4_3 = some r4 := hf
      unfold X_groupOf_b7 at hf
      refine lv_iload hx hb dX0_groupOf_7 (lv_at hl 3 rfl) ?_
      refine lv_iload_n hx hb dX0_groupOf_9 rfl (lv_at hl 2 rfl) ?_
      refine lv_icmp_eq (tgt := 96) hx hb dX0_groupOf_10 (by decide) (fun c5 => ?_) (fun c5 => ?_)
      · replace hf := ob_t hf c5
        obtain rfl := ob_s hf
        obtain rfl := h4b _ rfl
        exact K4_0 H locs ls hP hS (lv_sub hl [3] rfl)
      · replace hf := ob_f hf c5
        refine lv_iload hx hb dX0_groupOf_13 (lv_at hl 3 rfl) ?_
        refine lv_istore_n (lv' := [(3, .int v4_3), (0, .ref (E 0)), (2, .int a2), (4, .int v4_3)]) hx hb dX0_groupOf_15 rfl hl (by decide) rfl (fun ls hl => ?_)
        refine lv_iconst (v := 0) hx hb dX0_groupOf_16 (by decide) ?_
        refine lv_istore (lv' := [(5, .int 0), (3, .int v4_3), (0, .ref (E 0)), (2, .int a2), (4, .int v4_3)]) hx hb dX0_groupOf_17 hl (by decide) rfl (fun ls hl => ?_)
        obtain ⟨b8, hb8, hf⟩ := ob_bind hf
        obtain ⟨n8, hn8⟩ := lp_some hb8
        have kL19 : ∀ (n : Nat) (v4_6 : Int32) (v5_7 : Int32), lpF (fun (q8 : Int32 × Int32) => X_groupOf_b19 v4_3 a2 w q8.1 q8.2) n (v4_6, v5_7) = some b8 → (∀ (H : Heap) (locs : List Loc) (ls : Array Slot), va_P D clX (wl shX 136 dA E w) H → va_S (AE 136 E) s.heap H locs → lv_has ls 7 [(0, .ref (E 0)), (2, .int a2), (3, .int v4_3), (4, .int b8)] → W p l e rmX0_groupOf s m args below meth c H locs 0 0 Q (F0 m 93 ls [])) → ∀ (H : Heap) (locs : List Loc) (ls : Array Slot), va_P D clX (wl shX 136 dA E w) H → va_S (AE 136 E) s.heap H locs → lv_has ls 7 [(0, .ref (E 0)), (2, .int a2), (3, .int v4_3), (4, .int v4_6), (5, .int v5_7)] → W p l e rmX0_groupOf s m args below meth c H locs 0 0 Q (F0 m 19 ls []) := by
          intro n
          induction n with
          | zero =>
            intro v4_6 v5_7 hq9
            cases hq9
          | succ n ih =>
            intro v4_6 v5_7 hq9 K8_0 H locs ls hP hS hl
            obtain ⟨r8, hf, h8a, h8b⟩ := lpF_step hq9
            replace hf : X_groupOf_b19 v4_3 a2 w v4_6 v5_7 = some r8 := hf
            unfold X_groupOf_b19 at hf
            refine lv_iload hx hb dX0_groupOf_19 (lv_at hl 4 rfl) ?_
            refine lv_bipush (v := 6) hx hb dX0_groupOf_21 (by decide) ?_
            refine lv_icmp_ge (tgt := 93) hx hb dX0_groupOf_23 (by decide) (fun c9 => ?_) (fun c9 => ?_)
            · replace hf := ob_t hf c9
              obtain rfl := ob_s hf
              obtain rfl := h8b _ rfl
              exact K8_0 H locs ls hP hS (lv_sub hl [0, 1, 2, 3] rfl)
            · replace hf := ob_f hf c9
              refine lv_iconst (v := 0) hx hb dX0_groupOf_26 (by decide) ?_
              refine lv_istore (lv' := [(6, .int 0), (0, .ref (E 0)), (2, .int a2), (3, .int v4_3), (4, .int v4_6), (5, .int v5_7)]) hx hb dX0_groupOf_27 hl (by decide) rfl (fun ls hl => ?_)
              obtain ⟨b12, hb12, hf⟩ := ob_bind hf
              obtain ⟨n12, hn12⟩ := lp_some hb12
              have kL29 : ∀ (n : Nat) (v4_10 : Int32) (v6_11 : Int32), lpF (fun (q12 : Int32 × Int32) => X_groupOf_b29 v5_7 v4_3 a2 w q12.1 q12.2) n (v4_10, v6_11) = some b12 → (∀ (H : Heap) (locs : List Loc) (ls : Array Slot), va_P D clX (wl shX 136 dA E w) H → va_S (AE 136 E) s.heap H locs → lv_has ls 7 [(0, .ref (E 0)), (2, .int a2), (3, .int v4_3), (4, .int b12), (5, .int v5_7)] → W p l e rmX0_groupOf s m args below meth c H locs 0 0 Q (F0 m 87 ls [])) → ∀ (H : Heap) (locs : List Loc) (ls : Array Slot), va_P D clX (wl shX 136 dA E w) H → va_S (AE 136 E) s.heap H locs → lv_has ls 7 [(0, .ref (E 0)), (2, .int a2), (3, .int v4_3), (4, .int v4_10), (5, .int v5_7), (6, .int v6_11)] → W p l e rmX0_groupOf s m args below meth c H locs 0 0 Q (F0 m 29 ls []) := by
                intro n
                induction n with
                | zero =>
                  intro v4_10 v6_11 hq9
                  cases hq9
                | succ n ih =>
                  intro v4_10 v6_11 hq9 K12_0 H locs ls hP hS hl
                  obtain ⟨r12, hf, h12a, h12b⟩ := lpF_step hq9
                  replace hf : X_groupOf_b29 v5_7 v4_3 a2 w v4_10 v6_11 = some r12 := hf
                  unfold X_groupOf_b29 at hf
                  refine lv_iload hx hb dX0_groupOf_29 (lv_at hl 5 rfl) ?_
                  refine lv_bipush (v := 6) hx hb dX0_groupOf_31 (by decide) ?_
                  refine lv_icmp_ge (tgt := 87) hx hb dX0_groupOf_33 (by decide) (fun c13 => ?_) (fun c13 => ?_)
                  · replace hf := ob_t hf c13
                    obtain rfl := ob_s hf
                    obtain rfl := h12b _ rfl
                    exact K12_0 H locs ls hP hS (lv_sub hl [0, 1, 2, 3, 4] rfl)
                  · replace hf := ob_f hf c13
                    refine lv_iload hx hb dX0_groupOf_36 (lv_at hl 4 rfl) ?_
                    refine lv_iload hx hb dX0_groupOf_38 (lv_at hl 5 rfl) ?_
                    have kj81 : ∀ (v4_14 : Int32) (H : Heap) (locs : List Loc) (ls : Array Slot), X_groupOf_j81 v6_11 v4_14 = some r12 → va_P D clX (wl shX 136 dA E w) H → va_S (AE 136 E) s.heap H locs → lv_has ls 7 [(0, .ref (E 0)), (2, .int a2), (3, .int v4_3), (4, .int v4_14), (5, .int v5_7), (6, .int v6_11)] → W p l e rmX0_groupOf s m args below meth c H locs 0 0 Q (F0 m 81 ls []) := by
                      intro v4_14 H locs ls hf hP hS hl
                      unfold X_groupOf_j81 at hf
                      obtain ⟨v6_15, ev6_15, hf⟩ := ob_bnd hf
                      refine lv_iinc (v := v6_15) (lv' := [(6, .int v6_15), (0, .ref (E 0)), (2, .int a2), (3, .int v4_3), (4, .int v4_14), (5, .int v5_7)]) hx hb dX0_groupOf_81 hl (k := 5) rfl (by rw [ev6_15]; rfl) (by decide) rfl (fun ls hl => ?_)
                      refine lv_goto (tgt := 29) hx hb dX0_groupOf_84 (by decide) ?_
                      obtain rfl := ob_s hf
                      exact ih _ _ (h12a _ rfl) K12_0 H locs ls hP hS (lv_sub hl [1, 2, 3, 4, 5, 0] rfl)
                    refine lv_icmp_eq (tgt := 81) hx hb dX0_groupOf_40 (by decide) (fun c16 => ?_) (fun c16 => ?_)
                    · replace hf := ob_t hf c16
                      exact kj81 v4_10 H locs ls hf hP hS (lv_sub hl [0, 1, 2, 3, 4, 5] rfl)
                    · replace hf := ob_f hf c16
                      refine lv_iload_n hx hb dX0_groupOf_43 rfl (lv_at hl 2 rfl) ?_
                      refine lv_iload hx hb dX0_groupOf_44 (lv_at hl 4 rfl) ?_
                      obtain ⟨q18, g17, hf⟩ := ob_bind hf
                      refine xc_z (xj_runS (As := [.int v4_3, .int v5_7]) (rest := []) hJ hJs hS ⟨hx, hb, hml, hown, hts⟩ (wkX0_has l D dA E hE T J hJ w v4_3 v5_7 g17) (va_cwS 2 hts (lw_S q1174 q1175 q136 q1176) rfl rfl rfl cdX0_has.2 ⟨Nat.le_of_ble_eq_true rfl, Nat.le_of_ble_eq_true rfl⟩) hK hP hl.1 rfl rfl (Nat.le_of_ble_eq_true rfl) dX0_groupOf_46 ⟨Nat.zero_le _, Nat.zero_le _⟩) hS hD.2 (fun H locs zq18 hP hS => ?_)
                      refine lv_if_eq (tgt := 81) hx hb dX0_groupOf_49 (by decide) (fun c19 => ?_) (fun c19 => ?_)
                      · replace hf := ob_t hf c19
                        exact kj81 v4_10 H locs ls hf hP hS (lv_sub hl [0, 1, 2, 3, 4, 5] rfl)
                      · replace hf := ob_f hf c19
                        refine lv_iload_n hx hb dX0_groupOf_52 rfl (lv_at hl 1 rfl) ?_
                        refine lv_iload hx hb dX0_groupOf_53 (lv_at hl 5 rfl) ?_
                        obtain ⟨q21, g20, hf⟩ := ob_bind hf
                        refine xc_z (xj_runS (As := [.int a2, .int v6_11]) (rest := []) hJ hJs hS ⟨hx, hb, hml, hown, hts⟩ (wkX0_has l D dA E hE T J hJ w a2 v6_11 g20) (va_cwS 2 hts (lw_S q1174 q1175 q136 q1176) rfl rfl rfl cdX0_has.2 ⟨Nat.le_of_ble_eq_true rfl, Nat.le_of_ble_eq_true rfl⟩) hK hP hl.1 rfl rfl (Nat.le_of_ble_eq_true rfl) dX0_groupOf_55 ⟨Nat.zero_le _, Nat.zero_le _⟩) hS hD.2 (fun H locs zq21 hP hS => ?_)
                        refine lv_if_ne (tgt := 81) hx hb dX0_groupOf_58 (by decide) (fun c22 => ?_) (fun c22 => ?_)
                        · replace hf := ob_f hf c22
                          exact kj81 v4_10 H locs ls hf hP hS (lv_sub hl [0, 1, 2, 3, 4, 5] rfl)
                        · replace hf := ob_t hf c22
                          refine lv_aload_n hx hb dX0_groupOf_61 rfl (lv_at hl 0 rfl) ?_
                          refine lv_iload hx hb dX0_groupOf_62 (lv_at hl 4 rfl) ?_
                          refine lv_iload hx hb dX0_groupOf_64 (lv_at hl 5 rfl) ?_
                          obtain ⟨q24, g23, hf⟩ := ob_bind hf
                          refine xc_z (xj_run (As := [.int v5_7, .int v6_11]) (rest := []) hJ hJs hS ⟨hx, hb, hml, hown, hts⟩ (k0 := 0) (wkX0_doSpeak l D dA E hE T J hJ w v5_7 v6_11 g23) (cwV 2 hts (lw_V q1189 q1191 qs42 q136 q1192) rfl rfl rfl cdX0_doSpeak ⟨Nat.le_of_ble_eq_true rfl, Nat.le_of_ble_eq_true rfl⟩) hK hP (by decide) rfl rfl rfl hl.1 rfl rfl (Nat.le_of_ble_eq_true rfl) dX0_groupOf_66 ⟨Nat.zero_le _, Nat.zero_le _⟩) hS hD.2 (fun H locs zq24 hP hS => ?_)
                          refine lv_if_eq (tgt := 81) hx hb dX0_groupOf_69 (by decide) (fun c25 => ?_) (fun c25 => ?_)
                          · replace hf := ob_t hf c25
                            exact kj81 v4_10 H locs ls hf hP hS (lv_sub hl [0, 1, 2, 3, 4, 5] rfl)
                          · replace hf := ob_f hf c25
                            refine lv_iload hx hb dX0_groupOf_72 (lv_at hl 3 rfl) ?_
                            refine lv_iconst (v := 1) hx hb dX0_groupOf_74 (by decide) ?_
                            refine lv_iload hx hb dX0_groupOf_75 (lv_at hl 5 rfl) ?_
                            refine lv_ishl hx hb dX0_groupOf_77 ?_
                            refine lv_ior hx hb dX0_groupOf_78 ?_
                            obtain ⟨v4_26, ev4_26, hf⟩ := ob_bnd hf
                            refine xn_i ev4_26 ?_
                            refine lv_istore (lv' := [(4, .int v4_26), (0, .ref (E 0)), (2, .int a2), (3, .int v4_3), (5, .int v5_7), (6, .int v6_11)]) hx hb dX0_groupOf_79 hl (by decide) rfl (fun ls hl => ?_)
                            exact kj81 v4_26 H locs ls hf hP hS (lv_sub hl [1, 2, 3, 0, 4, 5] rfl)
              refine kL29 n12 v4_6 0 hn12 (fun H locs ls hP hS hl => ?_) H locs ls hP hS (lv_sub hl [1, 2, 3, 4, 5, 0] rfl)
              replace hf : X_groupOf_x29_87 v5_7 b12 = some r8 := hf
              unfold X_groupOf_x29_87 at hf
              obtain ⟨v5_27, ev5_27, hf⟩ := ob_bnd hf
              refine lv_iinc (v := v5_27) (lv' := [(5, .int v5_27), (0, .ref (E 0)), (2, .int a2), (3, .int v4_3), (4, .int b12)]) hx hb dX0_groupOf_87 hl (k := 4) rfl (by rw [ev5_27]; rfl) (by decide) rfl (fun ls hl => ?_)
              refine lv_goto (tgt := 19) hx hb dX0_groupOf_90 (by decide) ?_
              obtain rfl := ob_s hf
              exact ih _ _ (h8a _ rfl) K8_0 H locs ls hP hS (lv_sub hl [1, 2, 3, 4, 0] rfl)
        refine kL19 n8 v4_3 0 hn8 (fun H locs ls hP hS hl => ?_) H locs ls hP hS (lv_sub hl [2, 3, 1, 4, 0] rfl)
        replace hf : X_groupOf_x19_93 v4_3 b8 = some r4 := hf
        unfold X_groupOf_x19_93 at hf
        refine lv_goto (tgt := 7) hx hb dX0_groupOf_93 (by decide) ?_
        obtain rfl := ob_s hf
        exact ih _ _ (h4a _ rfl) K4_0 H locs ls hP hS (lv_sub hl [0, 1, 2, 3] rfl)
  refine kL7 n4 0 v4_1 hn4 (fun H locs ls hP hS hl => ?_) H locs ls hP hS (lv_sub hl [2, 4, 1, 0] rfl)
  replace hf : X_groupOf_x7_96 b4 = some res := hf
  unfold X_groupOf_x7_96 at hf
  refine lv_iload hx hb dX0_groupOf_96 (lv_at hl 0 rfl) ?_
  obtain rfl := ob_s hf
  subst hQ
  exact xe_i hx hb hr hlocks hP hS dX0_groupOf_98
abbrev rmX0_group : Room := { frames := 3, cells := 0, slots := 0, locals := 72 }
theorem cdX0_group : yX0_group.cls = RX0 ∧ yX0_group.cls ≠ "java/lang/invoke/MethodHandle" ∧ yX0_group.cls ≠ "java/lang/invoke/VarHandle" ∧ (parseMethodDescriptor yX0_group.desc).map (fun d => d.parameters.length) = some 1 := by decide +kernel
set_option maxHeartbeats 4000000 in
set_option maxRecDepth 100000 in
theorem wkX0_group (l : Launch) (D : va_G) (dA : Nat → ClassId) (E : Nat → Nat) (hE : wInj 136 E) (T : Tx) (J : State → Heap → Prop) (hJ : JP D dA E T J) (w : Mm) (a1 : Int32) {res : Int32} (hf : X_group w a1 = some res) : Met l yX0_group (ws_ yX0_group cX0_group 2 (some .int)) rmX0_group (Pj D dA E J [.ref (E 0), .int a1] w) (Qwi D clX shX 136 dA E res w) 0 0 (AE 136 E) := by
  refine xj_head (own := RX0) (by decide) rfl (Nat.le_of_ble_eq_true rfl) ?_
  intro p e s m args below meth c ls Q hQ C hP hl
  obtain ⟨hx, hb, hr, hlocks, hml, hown, hts, hK, hJs⟩ := C
  replace hl : lv_has ls 2 [(0, .ref (E 0)), (1, .int a1)] := hl
  have hS : va_S (AE 136 E) s.heap s.heap [] := va_S.rf
  have hD : wD 136 E (AE 136 E) := wD.self hE
  unfold X_group at hf
  obtain ⟨H, eH⟩ : ∃ H, H = s.heap := ⟨_, rfl⟩
  obtain ⟨locs, eL⟩ : ∃ locs : List Loc, locs = [] := ⟨_, rfl⟩
  rw [← eL] at hS ⊢
  rw [← eH] at hP
  have hS : va_S (AE 136 E) s.heap H locs := by rw [eH]; exact hS
  show W p l e rmX0_group s m args below meth c s.heap locs 0 0 Q (F0 m 0 ls [])
  rw [← eH]
  refine lv_iload_n hx hb dX0_group_0 rfl (lv_at hl 1 rfl) ?_
  obtain ⟨q2, g1, hf⟩ := ob_bind hf
  refine xc_z (xj_runS (As := [.int a1]) (rest := []) hJ hJs hS ⟨hx, hb, hml, hown, hts⟩ (wkX0_isPerson l D dA E hE T J hJ w a1 g1) (va_cwS 1 hts (lw_S q316 q317 q136 q318) rfl rfl rfl cdX0_isPerson.2 ⟨Nat.le_of_ble_eq_true rfl, Nat.le_of_ble_eq_true rfl⟩) hK hP hl.1 rfl rfl (Nat.le_of_ble_eq_true rfl) dX0_group_1 ⟨Nat.zero_le _, Nat.zero_le _⟩) hS hD.2 (fun H locs zq2 hP hS => ?_)
  refine lv_if_eq (tgt := 16) hx hb dX0_group_4 (by decide) (fun c3 => ?_) (fun c3 => ?_)
  · replace hf := ob_t hf c3
    refine lv_iconst (v := (-1)) hx hb dX0_group_16 (by decide) ?_
    obtain rfl := ob_s hf
    subst hQ
    exact xe_i hx hb hr hlocks hP hS dX0_group_17
  · replace hf := ob_f hf c3
    refine lv_aload_n hx hb dX0_group_7 rfl (lv_at hl 0 rfl) ?_
    refine lv_iload_n hx hb dX0_group_8 rfl (lv_at hl 1 rfl) ?_
    refine lv_iconst (v := 0) hx hb dX0_group_9 (by decide) ?_
    obtain ⟨q5, g4, hf⟩ := ob_bind hf
    refine xc_i (xj_run (As := [.int a1, .int 0]) (rest := []) hJ hJs hS ⟨hx, hb, hml, hown, hts⟩ (k0 := 0) (wkX0_groupOf l D dA E hE T J hJ w a1 0 g4) (cwV 2 hts (lw_V q1209 q1211 qs45 q136 q1212) rfl rfl rfl cdX0_groupOf ⟨Nat.le_of_ble_eq_true rfl, Nat.le_of_ble_eq_true rfl⟩) hK hP (by decide) rfl rfl rfl hl.1 rfl rfl (Nat.le_of_ble_eq_true rfl) dX0_group_10 ⟨Nat.zero_le _, Nat.zero_le _⟩) hS hD.2 (fun H locs hP hS => ?_)
    refine lv_goto (tgt := 17) hx hb dX0_group_13 (by decide) ?_
    obtain rfl := ob_s hf
    subst hQ
    exact xe_i hx hb hr hlocks hP hS dX0_group_17
abbrev rmJ15_numberOfTrailingZeros : Room := { frames := 0, cells := 0, slots := 0, locals := 0 }
theorem cdJ15_numberOfTrailingZeros : yJ15_numberOfTrailingZeros.cls = RJ15 ∧ yJ15_numberOfTrailingZeros.cls ≠ "java/lang/invoke/MethodHandle" ∧ yJ15_numberOfTrailingZeros.cls ≠ "java/lang/invoke/VarHandle" ∧ (parseMethodDescriptor yJ15_numberOfTrailingZeros.desc).map (fun d => d.parameters.length) = some 1 := by decide +kernel
set_option maxHeartbeats 4000000 in
set_option maxRecDepth 100000 in
theorem wkJ15_numberOfTrailingZeros (l : Launch) (D : va_G) (dA : Nat → ClassId) (E : Nat → Nat) (hE : wInj 136 E) (T : Tx) (J : State → Heap → Prop) (hJ : JP D dA E T J) (w : Mm) (a0 : Int32) {res : Int32} (hf : X_J15_numberOfTrailingZeros a0 = some res) : Met l yJ15_numberOfTrailingZeros (ws_ yJ15_numberOfTrailingZeros cJ15_numberOfTrailingZeros 2 (some .int)) rmJ15_numberOfTrailingZeros (Pj D dA E J [.int a0] w) (Qwi D clX shX 136 dA E res w) 0 0 (AE 136 E) := by
  refine xj_head (own := RJ15) (by decide) rfl (Nat.le_of_ble_eq_true rfl) ?_
  intro p e s m args below meth c ls Q hQ C hP hl
  obtain ⟨hx, hb, hr, hlocks, hml, hown, hts, hK, hJs⟩ := C
  replace hl : lv_has ls 2 [(0, .int a0)] := hl
  have hS : va_S (AE 136 E) s.heap s.heap [] := va_S.rf
  have hD : wD 136 E (AE 136 E) := wD.self hE
  unfold X_J15_numberOfTrailingZeros at hf
  obtain ⟨H, eH⟩ : ∃ H, H = s.heap := ⟨_, rfl⟩
  obtain ⟨locs, eL⟩ : ∃ locs : List Loc, locs = [] := ⟨_, rfl⟩
  rw [← eL] at hS ⊢
  rw [← eH] at hP
  have hS : va_S (AE 136 E) s.heap H locs := by rw [eH]; exact hS
  show W p l e rmJ15_numberOfTrailingZeros s m args below meth c s.heap locs 0 0 Q (F0 m 0 ls [])
  rw [← eH]
  refine lv_iload_n hx hb dJ15_numberOfTrailingZeros_0 rfl (lv_at hl 0 rfl) ?_
  refine lv_iconst (v := (-1)) hx hb dJ15_numberOfTrailingZeros_1 (by decide) ?_
  refine lv_ixor hx hb dJ15_numberOfTrailingZeros_2 ?_
  refine lv_iload_n hx hb dJ15_numberOfTrailingZeros_3 rfl (lv_at hl 0 rfl) ?_
  refine lv_iconst (v := 1) hx hb dJ15_numberOfTrailingZeros_4 (by decide) ?_
  refine lv_isub hx hb dJ15_numberOfTrailingZeros_5 ?_
  refine lv_iand hx hb dJ15_numberOfTrailingZeros_6 ?_
  obtain ⟨v0_1, ev0_1, hf⟩ := ob_bnd hf
  refine xn_i ev0_1 ?_
  refine lv_istore_n (lv' := [(0, .int v0_1)]) hx hb dJ15_numberOfTrailingZeros_7 rfl hl (by decide) rfl (fun ls hl => ?_)
  refine lv_iload_n hx hb dJ15_numberOfTrailingZeros_8 rfl (lv_at hl 0 rfl) ?_
  refine lv_if_gt (tgt := 17) hx hb dJ15_numberOfTrailingZeros_9 (by decide) (fun c2 => ?_) (fun c2 => ?_)
  · replace hf := ob_t hf c2
    refine lv_iconst (v := 1) hx hb dJ15_numberOfTrailingZeros_17 (by decide) ?_
    refine lv_istore_n (lv' := [(1, .int 1), (0, .int v0_1)]) hx hb dJ15_numberOfTrailingZeros_18 rfl hl (by decide) rfl (fun ls hl => ?_)
    refine lv_iload_n hx hb dJ15_numberOfTrailingZeros_19 rfl (lv_at hl 1 rfl) ?_
    refine lv_ldcw (v := 65536) hx hb hown (hts _ q1220) dJ15_numberOfTrailingZeros_20 ?_
    have kj34 : ∀ (v0_3 : Int32) (v1_4 : Int32) (H : Heap) (locs : List Loc) (ls : Array Slot), X_J15_numberOfTrailingZeros_j34 v0_3 v1_4 = some res → va_P D clX (wl shX 136 dA E w) H → va_S (AE 136 E) s.heap H locs → lv_has ls 2 [(0, .int v0_3), (1, .int v1_4)] → W p l e rmJ15_numberOfTrailingZeros s m args below meth c H locs 0 0 Q (F0 m 34 ls []) := by
      intro v0_3 v1_4 H locs ls hf hP hS hl
      unfold X_J15_numberOfTrailingZeros_j34 at hf
      refine lv_iload_n hx hb dJ15_numberOfTrailingZeros_34 rfl (lv_at hl 0 rfl) ?_
      refine lv_sipush (v := 256) hx hb dJ15_numberOfTrailingZeros_35 (by decide) ?_
      have kj49 : ∀ (v0_5 : Int32) (v1_6 : Int32) (H : Heap) (locs : List Loc) (ls : Array Slot), X_J15_numberOfTrailingZeros_j49 v0_5 v1_6 = some res → va_P D clX (wl shX 136 dA E w) H → va_S (AE 136 E) s.heap H locs → lv_has ls 2 [(0, .int v0_5), (1, .int v1_6)] → W p l e rmJ15_numberOfTrailingZeros s m args below meth c H locs 0 0 Q (F0 m 49 ls []) := by
        intro v0_5 v1_6 H locs ls hf hP hS hl
        unfold X_J15_numberOfTrailingZeros_j49 at hf
        refine lv_iload_n hx hb dJ15_numberOfTrailingZeros_49 rfl (lv_at hl 0 rfl) ?_
        refine lv_bipush (v := 16) hx hb dJ15_numberOfTrailingZeros_50 (by decide) ?_
        have kj62 : ∀ (v0_7 : Int32) (v1_8 : Int32) (H : Heap) (locs : List Loc) (ls : Array Slot), X_J15_numberOfTrailingZeros_j62 v0_7 v1_8 = some res → va_P D clX (wl shX 136 dA E w) H → va_S (AE 136 E) s.heap H locs → lv_has ls 2 [(0, .int v0_7), (1, .int v1_8)] → W p l e rmJ15_numberOfTrailingZeros s m args below meth c H locs 0 0 Q (F0 m 62 ls []) := by
          intro v0_7 v1_8 H locs ls hf hP hS hl
          unfold X_J15_numberOfTrailingZeros_j62 at hf
          refine lv_iload_n hx hb dJ15_numberOfTrailingZeros_62 rfl (lv_at hl 0 rfl) ?_
          refine lv_iconst (v := 4) hx hb dJ15_numberOfTrailingZeros_63 (by decide) ?_
          have kj74 : ∀ (v0_9 : Int32) (v1_10 : Int32) (H : Heap) (locs : List Loc) (ls : Array Slot), X_J15_numberOfTrailingZeros_j74 v1_10 v0_9 = some res → va_P D clX (wl shX 136 dA E w) H → va_S (AE 136 E) s.heap H locs → lv_has ls 2 [(0, .int v0_9), (1, .int v1_10)] → W p l e rmJ15_numberOfTrailingZeros s m args below meth c H locs 0 0 Q (F0 m 74 ls []) := by
            intro v0_9 v1_10 H locs ls hf hP hS hl
            unfold X_J15_numberOfTrailingZeros_j74 at hf
            refine lv_iload_n hx hb dJ15_numberOfTrailingZeros_74 rfl (lv_at hl 1 rfl) ?_
            refine lv_iload_n hx hb dJ15_numberOfTrailingZeros_75 rfl (lv_at hl 0 rfl) ?_
            refine lv_iconst (v := 1) hx hb dJ15_numberOfTrailingZeros_76 (by decide) ?_
            refine xr_iushr hx hb dJ15_numberOfTrailingZeros_77 ?_
            refine lv_iadd hx hb dJ15_numberOfTrailingZeros_78 ?_
            obtain rfl := ob_s hf
            subst hQ
            exact xe_i hx hb hr hlocks hP hS dJ15_numberOfTrailingZeros_79
          refine lv_icmp_le (tgt := 74) hx hb dJ15_numberOfTrailingZeros_64 (by decide) (fun c11 => ?_) (fun c11 => ?_)
          · replace hf := ob_t hf c11
            exact kj74 v0_7 v1_8 H locs ls hf hP hS (lv_sub hl [0, 1] rfl)
          · replace hf := ob_f hf c11
            obtain ⟨v1_12, ev1_12, hf⟩ := ob_bnd hf
            refine lv_iinc (v := v1_12) (lv' := [(1, .int v1_12), (0, .int v0_7)]) hx hb dJ15_numberOfTrailingZeros_67 hl (k := 1) rfl (by rw [ev1_12]; rfl) (by decide) rfl (fun ls hl => ?_)
            refine lv_iload_n hx hb dJ15_numberOfTrailingZeros_70 rfl (lv_at hl 1 rfl) ?_
            refine lv_iconst (v := 2) hx hb dJ15_numberOfTrailingZeros_71 (by decide) ?_
            refine xr_iushr hx hb dJ15_numberOfTrailingZeros_72 ?_
            obtain ⟨v0_13, ev0_13, hf⟩ := ob_bnd hf
            refine xn_i ev0_13 ?_
            refine lv_istore_n (lv' := [(0, .int v0_13), (1, .int v1_12)]) hx hb dJ15_numberOfTrailingZeros_73 rfl hl (by decide) rfl (fun ls hl => ?_)
            exact kj74 v0_13 v1_12 H locs ls hf hP hS (lv_sub hl [0, 1] rfl)
        refine lv_icmp_le (tgt := 62) hx hb dJ15_numberOfTrailingZeros_52 (by decide) (fun c14 => ?_) (fun c14 => ?_)
        · replace hf := ob_t hf c14
          exact kj62 v0_5 v1_6 H locs ls hf hP hS (lv_sub hl [0, 1] rfl)
        · replace hf := ob_f hf c14
          obtain ⟨v1_15, ev1_15, hf⟩ := ob_bnd hf
          refine lv_iinc (v := v1_15) (lv' := [(1, .int v1_15), (0, .int v0_5)]) hx hb dJ15_numberOfTrailingZeros_55 hl (k := 1) rfl (by rw [ev1_15]; rfl) (by decide) rfl (fun ls hl => ?_)
          refine lv_iload_n hx hb dJ15_numberOfTrailingZeros_58 rfl (lv_at hl 1 rfl) ?_
          refine lv_iconst (v := 4) hx hb dJ15_numberOfTrailingZeros_59 (by decide) ?_
          refine xr_iushr hx hb dJ15_numberOfTrailingZeros_60 ?_
          obtain ⟨v0_16, ev0_16, hf⟩ := ob_bnd hf
          refine xn_i ev0_16 ?_
          refine lv_istore_n (lv' := [(0, .int v0_16), (1, .int v1_15)]) hx hb dJ15_numberOfTrailingZeros_61 rfl hl (by decide) rfl (fun ls hl => ?_)
          exact kj62 v0_16 v1_15 H locs ls hf hP hS (lv_sub hl [0, 1] rfl)
      refine lv_icmp_le (tgt := 49) hx hb dJ15_numberOfTrailingZeros_38 (by decide) (fun c17 => ?_) (fun c17 => ?_)
      · replace hf := ob_t hf c17
        exact kj49 v0_3 v1_4 H locs ls hf hP hS (lv_sub hl [0, 1] rfl)
      · replace hf := ob_f hf c17
        obtain ⟨v1_18, ev1_18, hf⟩ := ob_bnd hf
        refine lv_iinc (v := v1_18) (lv' := [(1, .int v1_18), (0, .int v0_3)]) hx hb dJ15_numberOfTrailingZeros_41 hl (k := 1) rfl (by rw [ev1_18]; rfl) (by decide) rfl (fun ls hl => ?_)
        refine lv_iload_n hx hb dJ15_numberOfTrailingZeros_44 rfl (lv_at hl 1 rfl) ?_
        refine lv_bipush (v := 8) hx hb dJ15_numberOfTrailingZeros_45 (by decide) ?_
        refine xr_iushr hx hb dJ15_numberOfTrailingZeros_47 ?_
        obtain ⟨v0_19, ev0_19, hf⟩ := ob_bnd hf
        refine xn_i ev0_19 ?_
        refine lv_istore_n (lv' := [(0, .int v0_19), (1, .int v1_18)]) hx hb dJ15_numberOfTrailingZeros_48 rfl hl (by decide) rfl (fun ls hl => ?_)
        exact kj49 v0_19 v1_18 H locs ls hf hP hS (lv_sub hl [0, 1] rfl)
    refine lv_icmp_le (tgt := 34) hx hb dJ15_numberOfTrailingZeros_23 (by decide) (fun c20 => ?_) (fun c20 => ?_)
    · replace hf := ob_t hf c20
      exact kj34 v0_1 1 H locs ls hf hP hS (lv_sub hl [1, 0] rfl)
    · replace hf := ob_f hf c20
      obtain ⟨v1_21, ev1_21, hf⟩ := ob_bnd hf
      refine lv_iinc (v := v1_21) (lv' := [(1, .int v1_21), (0, .int v0_1)]) hx hb dJ15_numberOfTrailingZeros_26 hl (k := 0) rfl (by rw [ev1_21]; rfl) (by decide) rfl (fun ls hl => ?_)
      refine lv_iload_n hx hb dJ15_numberOfTrailingZeros_29 rfl (lv_at hl 1 rfl) ?_
      refine lv_bipush (v := 16) hx hb dJ15_numberOfTrailingZeros_30 (by decide) ?_
      refine xr_iushr hx hb dJ15_numberOfTrailingZeros_32 ?_
      obtain ⟨v0_22, ev0_22, hf⟩ := ob_bnd hf
      refine xn_i ev0_22 ?_
      refine lv_istore_n (lv' := [(0, .int v0_22), (1, .int v1_21)]) hx hb dJ15_numberOfTrailingZeros_33 rfl hl (by decide) rfl (fun ls hl => ?_)
      exact kj34 v0_22 v1_21 H locs ls hf hP hS (lv_sub hl [0, 1] rfl)
  · replace hf := ob_f hf c2
    refine lv_iload_n hx hb dJ15_numberOfTrailingZeros_12 rfl (lv_at hl 0 rfl) ?_
    refine lv_bipush (v := 32) hx hb dJ15_numberOfTrailingZeros_13 (by decide) ?_
    refine lv_iand hx hb dJ15_numberOfTrailingZeros_15 ?_
    obtain rfl := ob_s hf
    subst hQ
    exact xe_i hx hb hr hlocks hP hS dJ15_numberOfTrailingZeros_16
abbrev rmX0_groups : Room := { frames := 3, cells := 0, slots := 0, locals := 72 }
theorem cdX0_groups : yX0_groups.cls = RX0 ∧ yX0_groups.cls ≠ "java/lang/invoke/MethodHandle" ∧ yX0_groups.cls ≠ "java/lang/invoke/VarHandle" ∧ (parseMethodDescriptor yX0_groups.desc).map (fun d => d.parameters.length) = some 1 := by decide +kernel
set_option maxHeartbeats 4000000 in
set_option maxRecDepth 100000 in
theorem wkX0_groups (l : Launch) (D : va_G) (dA : Nat → ClassId) (E : Nat → Nat) (hE : wInj 136 E) (T : Tx) (J : State → Heap → Prop) (hJ : JP D dA E T J) (w : Mm) (a1 : Int32) {res : Int32} (hf : X_groups w a1 = some res) : Met l yX0_groups (ws_ yX0_groups cX0_groups 6 (some .int)) rmX0_groups (Pj D dA E J [.ref (E 0), .int a1] w) (Qwi D clX shX 136 dA E res w) 0 0 (AE 136 E) := by
  refine xj_head (own := RX0) (by decide) rfl (Nat.le_of_ble_eq_true rfl) ?_
  intro p e s m args below meth c ls Q hQ C hP hl
  obtain ⟨hx, hb, hr, hlocks, hml, hown, hts, hK, hJs⟩ := C
  replace hl : lv_has ls 6 [(0, .ref (E 0)), (1, .int a1)] := hl
  have hS : va_S (AE 136 E) s.heap s.heap [] := va_S.rf
  have hD : wD 136 E (AE 136 E) := wD.self hE
  unfold X_groups at hf
  obtain ⟨H, eH⟩ : ∃ H, H = s.heap := ⟨_, rfl⟩
  obtain ⟨locs, eL⟩ : ∃ locs : List Loc, locs = [] := ⟨_, rfl⟩
  rw [← eL] at hS ⊢
  rw [← eH] at hP
  have hS : va_S (AE 136 E) s.heap H locs := by rw [eH]; exact hS
  show W p l e rmX0_groups s m args below meth c s.heap locs 0 0 Q (F0 m 0 ls [])
  rw [← eH]
  refine lv_iconst (v := 0) hx hb dX0_groups_0 (by decide) ?_
  refine lv_istore_n (lv' := [(2, .int 0), (0, .ref (E 0)), (1, .int a1)]) hx hb dX0_groups_1 rfl hl (by decide) rfl (fun ls hl => ?_)
  refine lv_iconst (v := 0) hx hb dX0_groups_2 (by decide) ?_
  refine lv_istore_n (lv' := [(3, .int 0), (2, .int 0), (0, .ref (E 0)), (1, .int a1)]) hx hb dX0_groups_3 rfl hl (by decide) rfl (fun ls hl => ?_)
  refine lv_bipush (v := 63) hx hb dX0_groups_4 (by decide) ?_
  refine lv_istore (lv' := [(4, .int 63), (3, .int 0), (2, .int 0), (0, .ref (E 0)), (1, .int a1)]) hx hb dX0_groups_6 hl (by decide) rfl (fun ls hl => ?_)
  obtain ⟨b4, hb4, hf⟩ := ob_bind hf
  obtain ⟨n4, hn4⟩ := lp_some hb4
  have kL8 : ∀ (n : Nat) (v2_1 : Int32) (v3_2 : Int32) (v4_3 : Int32), lpF (fun (q4 : Int32 × Int32 × Int32) => X_groups_b8 w q4.1 q4.2.1 q4.2.2) n (v2_1, v3_2, v4_3) = some b4 → (∀ (H : Heap) (locs : List Loc) (ls : Array Slot), va_P D clX (wl shX 136 dA E w) H → va_S (AE 136 E) s.heap H locs → lv_has ls 6 [(1, .int a1), (2, .int b4.1), (3, .int b4.2)] → W p l e rmX0_groups s m args below meth c H locs 0 0 Q (F0 m 50 ls [])) → ∀ (H : Heap) (locs : List Loc) (ls : Array Slot), va_P D clX (wl shX 136 dA E w) H → va_S (AE 136 E) s.heap H locs → lv_has ls 6 [(0, .ref (E 0)), (1, .int a1), (2, .int v2_1), (3, .int v3_2), (4, .int v4_3)] → W p l e rmX0_groups s m args below meth c H locs 0 0 Q (F0 m 8 ls []) := by
    intro n
    induction n with
    | zero =>
      intro v2_1 v3_2 v4_3 hq9
      cases hq9
    | succ n ih =>
      intro v2_1 v3_2 v4_3 hq9 K4_0 H locs ls hP hS hl
      obtain ⟨r4, hf, h4a, h4b⟩ := lpF_step hq9
      replace hf : X_groups_b8 w v2_1 v3_2 v4_3 = some r4 := hf
      unfold X_groups_b8 at hf
      refine lv_iload hx hb dX0_groups_8 (lv_at hl 4 rfl) ?_
      refine lv_if_eq (tgt := 50) hx hb dX0_groups_10 (by decide) (fun c5 => ?_) (fun c5 => ?_)
      · replace hf := ob_t hf c5
        obtain rfl := ob_s hf
        obtain rfl := h4b _ rfl
        exact K4_0 H locs ls hP hS (lv_sub hl [1, 2, 3] rfl)
      · replace hf := ob_f hf c5
        refine lv_aload_n hx hb dX0_groups_13 rfl (lv_at hl 0 rfl) ?_
        refine lv_iload hx hb dX0_groups_14 (lv_at hl 4 rfl) ?_
        obtain ⟨q7, g6, hf⟩ := ob_bind hf
        refine xc_i (xj_runS (As := [.int v4_3]) (rest := [.ref (E 0)]) hJ hJs hS ⟨hx, hb, hml, hown, hts⟩ (wkJ15_numberOfTrailingZeros l D dA E hE T J hJ w v4_3 g6) (va_cwS 1 hts (lw_S q1217 q1218 q168 q1219) rfl rfl rfl cdJ15_numberOfTrailingZeros.2 ⟨Nat.le_of_ble_eq_true rfl, Nat.le_of_ble_eq_true rfl⟩) hK hP hl.1 rfl rfl (Nat.le_of_ble_eq_true rfl) dX0_groups_16 ⟨Nat.zero_le _, Nat.zero_le _⟩) hS hD.2 (fun H locs hP hS => ?_)
        refine lv_iconst (v := 0) hx hb dX0_groups_19 (by decide) ?_
        obtain ⟨q9, g8, hf⟩ := ob_bind hf
        refine xc_i (xj_run (As := [.int q7, .int 0]) (rest := []) hJ hJs hS ⟨hx, hb, hml, hown, hts⟩ (k0 := 0) (wkX0_groupOf l D dA E hE T J hJ w q7 0 g8) (cwV 2 hts (lw_V q1209 q1211 qs45 q136 q1212) rfl rfl rfl cdX0_groupOf ⟨Nat.le_of_ble_eq_true rfl, Nat.le_of_ble_eq_true rfl⟩) hK hP (by decide) rfl rfl rfl hl.1 rfl rfl (Nat.le_of_ble_eq_true rfl) dX0_groups_20 ⟨Nat.zero_le _, Nat.zero_le _⟩) hS hD.2 (fun H locs hP hS => ?_)
        refine lv_istore (lv' := [(5, .int q9), (0, .ref (E 0)), (1, .int a1), (2, .int v2_1), (3, .int v3_2), (4, .int v4_3)]) hx hb dX0_groups_23 hl (by decide) rfl (fun ls hl => ?_)
        refine lv_iload_n hx hb dX0_groups_25 rfl (lv_at hl 4 rfl) ?_
        refine lv_iload hx hb dX0_groups_26 (lv_at hl 0 rfl) ?_
        obtain ⟨q11, g10, hf⟩ := ob_bind hf
        refine xc_i (xj_runS (As := [.int q9]) (rest := [.int v3_2]) hJ hJs hS ⟨hx, hb, hml, hown, hts⟩ (wkJ15_bitCount l D dA E hE T J hJ w q9 g10) (va_cwS 1 hts (lw_S q1103 q1104 q168 q1105) rfl rfl rfl cdJ15_bitCount.2 ⟨Nat.le_of_ble_eq_true rfl, Nat.le_of_ble_eq_true rfl⟩) hK hP hl.1 rfl rfl (Nat.le_of_ble_eq_true rfl) dX0_groups_28 ⟨Nat.zero_le _, Nat.zero_le _⟩) hS hD.2 (fun H locs hP hS => ?_)
        refine xr_mmax hx hb (hml.trans hl.1.symm) hown (hts _ q1094) (hts _ q662) (hts _ q150) (hts _ q663) (Nat.le_of_ble_eq_true rfl) (Nat.le_of_ble_eq_true rfl) (Nat.zero_le _) (Nat.zero_le _) dX0_groups_31 ?_
        obtain ⟨v3_12, ev3_12, hf⟩ := ob_bnd hf
        refine xn_i ev3_12 ?_
        refine lv_istore_n (lv' := [(3, .int v3_12), (5, .int q9), (0, .ref (E 0)), (1, .int a1), (2, .int v2_1), (4, .int v4_3)]) hx hb dX0_groups_34 rfl hl (by decide) rfl (fun ls hl => ?_)
        refine lv_iload hx hb dX0_groups_35 (lv_at hl 5 rfl) ?_
        refine lv_iload hx hb dX0_groups_37 (lv_at hl 1 rfl) ?_
        refine lv_iconst (v := (-1)) hx hb dX0_groups_39 (by decide) ?_
        refine lv_ixor hx hb dX0_groups_40 ?_
        refine lv_iand hx hb dX0_groups_41 ?_
        obtain ⟨v4_13, ev4_13, hf⟩ := ob_bnd hf
        refine xn_i ev4_13 ?_
        refine lv_istore (lv' := [(4, .int v4_13), (3, .int v3_12), (5, .int q9), (0, .ref (E 0)), (1, .int a1), (2, .int v2_1)]) hx hb dX0_groups_42 hl (by decide) rfl (fun ls hl => ?_)
        obtain ⟨v2_14, ev2_14, hf⟩ := ob_bnd hf
        refine lv_iinc (v := v2_14) (lv' := [(2, .int v2_14), (4, .int v4_13), (3, .int v3_12), (5, .int q9), (0, .ref (E 0)), (1, .int a1)]) hx hb dX0_groups_44 hl (k := 5) rfl (by rw [ev2_14]; rfl) (by decide) rfl (fun ls hl => ?_)
        refine lv_goto (tgt := 8) hx hb dX0_groups_47 (by decide) ?_
        obtain rfl := ob_s hf
        exact ih _ _ _ (h4a _ rfl) K4_0 H locs ls hP hS (lv_sub hl [4, 5, 0, 2, 1] rfl)
  refine kL8 n4 0 0 63 hn4 (fun H locs ls hP hS hl => ?_) H locs ls hP hS (lv_sub hl [3, 4, 2, 1, 0] rfl)
  replace hf : X_groups_x8_50 a1 b4 = some res := hf
  unfold X_groups_x8_50 at hf
  refine lv_iload_n hx hb dX0_groups_50 rfl (lv_at hl 0 rfl) ?_
  refine lv_if_eq (tgt := 58) hx hb dX0_groups_51 (by decide) (fun c15 => ?_) (fun c15 => ?_)
  · replace hf := ob_t hf c15
    refine lv_iload_n hx hb dX0_groups_58 rfl (lv_at hl 1 rfl) ?_
    obtain rfl := ob_s hf
    subst hQ
    exact xe_i hx hb hr hlocks hP hS dX0_groups_59
  · replace hf := ob_f hf c15
    refine lv_iload_n hx hb dX0_groups_54 rfl (lv_at hl 2 rfl) ?_
    refine lv_goto (tgt := 59) hx hb dX0_groups_55 (by decide) ?_
    obtain rfl := ob_s hf
    subst hQ
    exact xe_i hx hb hr hlocks hP hS dX0_groups_59
