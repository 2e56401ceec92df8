/-! QuarrelsPawnedModel: its methods walked (printed by gen.py) -/
abbrev rmX2_w6 : Room := { frames := 4, cells := 0, slots := 0, locals := 90 }
theorem cdX2_w6 : yX2_w6.cls = RX2 ∧ yX2_w6.cls ≠ "java/lang/invoke/MethodHandle" ∧ yX2_w6.cls ≠ "java/lang/invoke/VarHandle" ∧ (parseMethodDescriptor yX2_w6.desc).map (fun d => d.parameters.length) = some 6 := by decide +kernel
set_option maxHeartbeats 4000000 in
set_option maxRecDepth 100000 in
theorem wkX2_w6 (l : Launch) (D : va_G) (dA : Nat → ClassId) (E : Nat → Nat) (hE : wInj 19 E) (w : Mm) (a0 : Int32) (a1 : Int32) (a2 : Int32) (a3 : Int32) (a4 : Int32) (a5 : Int32) {res : Int64} (hf : M_w6 a0 a1 a2 a3 a4 a5 = some res) : Met l yX2_w6 (ws_ yX2_w6 cX2_w6 6 (some .long)) rmX2_w6 (Pw D clM (tyM dA) shM 19 dA E [.int a0, .int a1, .int a2, .int a3, .int a4, .int a5] w) (Qwl D clM shM 19 dA E res w) 0 0 (AE 19 E) := by
  refine xm_head (own := RX2) (by decide) rfl (Nat.le_of_ble_eq_true rfl) ?_
  intro p e s m args below meth c ls Q hQ C hP hl
  obtain ⟨hx, hb, hr, hlocks, hml, hown, hts, hK⟩ := C
  replace hl : lv_has ls 6 [(0, .int a0), (1, .int a1), (2, .int a2), (3, .int a3), (4, .int a4), (5, .int a5)] := hl
  have hS : va_S (AE 19 E) s.heap s.heap [] := va_S.rf
  have hD : wD 19 E (AE 19 E) := wD.self hE
  unfold M_w6 at hf
  obtain ⟨H, eH⟩ : ∃ H, H = s.heap := ⟨_, rfl⟩
  obtain ⟨locs, eL⟩ : ∃ locs : List Loc, locs = [] := ⟨_, rfl⟩
  rw [← eL] at hS ⊢
  rw [← eH] at hP
  have hS : va_S (AE 19 E) s.heap H locs := by rw [eH]; exact hS
  show W p l e rmX2_w6 s m args below meth c s.heap locs 0 0 Q (F0 m 0 ls [])
  rw [← eH]
  refine lv_iload_n hx hb dX2_w6_0 rfl (lv_at hl 0 rfl) ?_
  refine lv_iload_n hx hb dX2_w6_1 rfl (lv_at hl 1 rfl) ?_
  refine lv_iload_n hx hb dX2_w6_2 rfl (lv_at hl 2 rfl) ?_
  refine lv_iload_n hx hb dX2_w6_3 rfl (lv_at hl 3 rfl) ?_
  refine lv_iload hx hb dX2_w6_4 (lv_at hl 4 rfl) ?_
  obtain ⟨q2, g1, hf⟩ := ob_bind hf
  refine xc_l (xw_runS (As := [.int a0, .int a1, .int a2, .int a3, .int a4]) (rest := []) ⟨hx, hb, hml, hown, hts⟩ (wkX2_w5 l D dA E hE w a0 a1 a2 a3 a4 g1) (va_cwS 5 hts (lw_S q1613 q1614 q140 q1615) rfl rfl rfl cdX2_w5.2 ⟨Nat.le_of_ble_eq_true rfl, Nat.le_of_ble_eq_true rfl⟩) hK hP hl.1 rfl rfl (Nat.le_of_ble_eq_true rfl) dX2_w6_6 ⟨Nat.zero_le _, Nat.zero_le _⟩) hS hD.2 (fun H locs hP hS => ?_)
  refine lv_bipush (v := 8) hx hb dX2_w6_9 (by decide) ?_
  refine lv_lshl hx hb dX2_w6_11 rfl ?_
  refine lv_iload hx hb dX2_w6_12 (lv_at hl 5 rfl) ?_
  refine lv_i2l hx hb dX2_w6_14 rfl ?_
  refine lv_lor hx hb dX2_w6_15 ?_
  obtain rfl := ob_s hf
  subst hQ
  exact xe_l hx hb hr hlocks hP hS dX2_w6_16
abbrev rmX2_sortOf : Room := { frames := 5, cells := 0, slots := 0, locals := 115 }
theorem cdX2_sortOf : yX2_sortOf.cls = RX2 ∧ yX2_sortOf.cls ≠ "java/lang/invoke/MethodHandle" ∧ yX2_sortOf.cls ≠ "java/lang/invoke/VarHandle" ∧ (parseMethodDescriptor yX2_sortOf.desc).map (fun d => d.parameters.length) = some 0 := by decide +kernel
set_option maxHeartbeats 4000000 in
set_option maxRecDepth 100000 in
theorem wkX2_sortOf (l : Launch) (D : va_G) (dA : Nat → ClassId) (E : Nat → Nat) (hE : wInj 19 E) (w : Mm)  {res : Int32} (hf : M_sortOf w = some res) : Met l yX2_sortOf (ws_ yX2_sortOf cX2_sortOf 1 (some .int)) rmX2_sortOf (Pw D clM (tyM dA) shM 19 dA E [.ref (E 0)] w) (Qwi D clM shM 19 dA E res w) 0 0 (AE 19 E) := by
  refine xm_head (own := RX2) (by decide) rfl (Nat.le_of_ble_eq_true rfl) ?_
  intro p e s m args below meth c ls Q hQ C hP hl
  obtain ⟨hx, hb, hr, hlocks, hml, hown, hts, hK⟩ := C
  replace hl : lv_has ls 1 [(0, .ref (E 0))] := hl
  have hS : va_S (AE 19 E) s.heap s.heap [] := va_S.rf
  have hD : wD 19 E (AE 19 E) := wD.self hE
  unfold M_sortOf at hf
  obtain ⟨H, eH⟩ : ∃ H, H = s.heap := ⟨_, rfl⟩
  obtain ⟨locs, eL⟩ : ∃ locs : List Loc, locs = [] := ⟨_, rfl⟩
  rw [← eL] at hS ⊢
  rw [← eH] at hP
  have hS : va_S (AE 19 E) s.heap H locs := by rw [eH]; exact hS
  show W p l e rmX2_sortOf s m args below meth c s.heap locs 0 0 Q (F0 m 0 ls [])
  rw [← eH]
  refine lv_aload_n hx hb dX2_sortOf_0 rfl (lv_at hl 0 rfl) ?_
  refine lv_bipush (v := 100) hx hb dX2_sortOf_1 (by decide) ?_
  refine lv_bipush (v := 117) hx hb dX2_sortOf_3 (by decide) ?_
  refine lv_bipush (v := 101) hx hb dX2_sortOf_5 (by decide) ?_
  refine lv_bipush (v := 115) hx hb dX2_sortOf_7 (by decide) ?_
  obtain ⟨q2, g1, hf⟩ := ob_bind hf
  refine xc_l (xw_runS (As := [.int 100, .int 117, .int 101, .int 115]) (rest := [.ref (E 0)]) ⟨hx, hb, hml, hown, hts⟩ (wkX2_w4 l D dA E hE w 100 117 101 115 g1) (va_cwS 4 hts (lw_S q1600 q1601 q140 q1602) rfl rfl rfl cdX2_w4.2 ⟨Nat.le_of_ble_eq_true rfl, Nat.le_of_ble_eq_true rfl⟩) hK hP hl.1 rfl rfl (Nat.le_of_ble_eq_true rfl) dX2_sortOf_9 ⟨Nat.zero_le _, Nat.zero_le _⟩) hS hD.2 (fun H locs hP hS => ?_)
  obtain ⟨q4, g3, hf⟩ := ob_bind hf
  refine xc_z (xw_run (As := [.long q2]) (rest := []) ⟨hx, hb, hml, hown, hts⟩ (k0 := 0) (wkX2_isWord l D dA E hE w q2 g3) (cwV 1 hts (lw_V q1609 q1611 qs68 q140 q1612) rfl rfl rfl cdX2_isWord ⟨Nat.le_of_ble_eq_true rfl, Nat.le_of_ble_eq_true rfl⟩) hK hP (by decide) rfl rfl rfl hl.1 rfl rfl (Nat.le_of_ble_eq_true rfl) dX2_sortOf_12 ⟨Nat.zero_le _, Nat.zero_le _⟩) hS hD.2 (fun H locs zq4 hP hS => ?_)
  refine lv_if_eq (tgt := 20) hx hb dX2_sortOf_15 (by decide) (fun c5 => ?_) (fun c5 => ?_)
  · replace hf := ob_t hf c5
    refine lv_aload_n hx hb dX2_sortOf_20 rfl (lv_at hl 0 rfl) ?_
    refine lv_bipush (v := 115) hx hb dX2_sortOf_21 (by decide) ?_
    refine lv_bipush (v := 101) hx hb dX2_sortOf_23 (by decide) ?_
    refine lv_bipush (v := 108) hx hb dX2_sortOf_25 (by decide) ?_
    refine lv_bipush (v := 108) hx hb dX2_sortOf_27 (by decide) ?_
    refine lv_bipush (v := 115) hx hb dX2_sortOf_29 (by decide) ?_
    obtain ⟨q7, g6, hf⟩ := ob_bind hf
    refine xc_l (xw_runS (As := [.int 115, .int 101, .int 108, .int 108, .int 115]) (rest := [.ref (E 0)]) ⟨hx, hb, hml, hown, hts⟩ (wkX2_w5 l D dA E hE w 115 101 108 108 115 g6) (va_cwS 5 hts (lw_S q1613 q1614 q140 q1615) rfl rfl rfl cdX2_w5.2 ⟨Nat.le_of_ble_eq_true rfl, Nat.le_of_ble_eq_true rfl⟩) hK hP hl.1 rfl rfl (Nat.le_of_ble_eq_true rfl) dX2_sortOf_31 ⟨Nat.zero_le _, Nat.zero_le _⟩) hS hD.2 (fun H locs hP hS => ?_)
    obtain ⟨q9, g8, hf⟩ := ob_bind hf
    refine xc_z (xw_run (As := [.long q7]) (rest := []) ⟨hx, hb, hml, hown, hts⟩ (k0 := 0) (wkX2_isWord l D dA E hE w q7 g8) (cwV 1 hts (lw_V q1609 q1611 qs68 q140 q1612) rfl rfl rfl cdX2_isWord ⟨Nat.le_of_ble_eq_true rfl, Nat.le_of_ble_eq_true rfl⟩) hK hP (by decide) rfl rfl rfl hl.1 rfl rfl (Nat.le_of_ble_eq_true rfl) dX2_sortOf_34 ⟨Nat.zero_le _, Nat.zero_le _⟩) hS hD.2 (fun H locs zq9 hP hS => ?_)
    refine lv_if_eq (tgt := 42) hx hb dX2_sortOf_37 (by decide) (fun c10 => ?_) (fun c10 => ?_)
    · replace hf := ob_t hf c10
      refine lv_aload_n hx hb dX2_sortOf_42 rfl (lv_at hl 0 rfl) ?_
      obtain ⟨q12, g11, hf⟩ := ob_bind hf
      refine xc_z (xw_run (As := []) (rest := []) ⟨hx, hb, hml, hown, hts⟩ (k0 := 0) (wkX2_isQuarrelWord l D dA E hE w g11) (cwV 0 hts (lw_V q1616 q1618 qs69 q140 q1619) rfl rfl rfl cdX2_isQuarrelWord ⟨Nat.le_of_ble_eq_true rfl, Nat.le_of_ble_eq_true rfl⟩) hK hP (by decide) rfl rfl rfl hl.1 rfl rfl (Nat.le_of_ble_eq_true rfl) dX2_sortOf_43 ⟨Nat.zero_le _, Nat.zero_le _⟩) hS hD.2 (fun H locs zq12 hP hS => ?_)
      refine lv_if_eq (tgt := 51) hx hb dX2_sortOf_46 (by decide) (fun c13 => ?_) (fun c13 => ?_)
      · replace hf := ob_t hf c13
        refine lv_aload_n hx hb dX2_sortOf_51 rfl (lv_at hl 0 rfl) ?_
        refine lv_bipush (v := 112) hx hb dX2_sortOf_52 (by decide) ?_
        refine lv_bipush (v := 97) hx hb dX2_sortOf_54 (by decide) ?_
        refine lv_bipush (v := 119) hx hb dX2_sortOf_56 (by decide) ?_
        refine lv_bipush (v := 110) hx hb dX2_sortOf_58 (by decide) ?_
        obtain ⟨q15, g14, hf⟩ := ob_bind hf
        refine xc_l (xw_runS (As := [.int 112, .int 97, .int 119, .int 110]) (rest := [.ref (E 0)]) ⟨hx, hb, hml, hown, hts⟩ (wkX2_w4 l D dA E hE w 112 97 119 110 g14) (va_cwS 4 hts (lw_S q1600 q1601 q140 q1602) rfl rfl rfl cdX2_w4.2 ⟨Nat.le_of_ble_eq_true rfl, Nat.le_of_ble_eq_true rfl⟩) hK hP hl.1 rfl rfl (Nat.le_of_ble_eq_true rfl) dX2_sortOf_60 ⟨Nat.zero_le _, Nat.zero_le _⟩) hS hD.2 (fun H locs hP hS => ?_)
        obtain ⟨q17, g16, hf⟩ := ob_bind hf
        refine xc_z (xw_run (As := [.long q15]) (rest := []) ⟨hx, hb, hml, hown, hts⟩ (k0 := 0) (wkX2_isWord l D dA E hE w q15 g16) (cwV 1 hts (lw_V q1609 q1611 qs68 q140 q1612) rfl rfl rfl cdX2_isWord ⟨Nat.le_of_ble_eq_true rfl, Nat.le_of_ble_eq_true rfl⟩) hK hP (by decide) rfl rfl rfl hl.1 rfl rfl (Nat.le_of_ble_eq_true rfl) dX2_sortOf_63 ⟨Nat.zero_le _, Nat.zero_le _⟩) hS hD.2 (fun H locs zq17 hP hS => ?_)
        refine lv_if_eq (tgt := 71) hx hb dX2_sortOf_66 (by decide) (fun c18 => ?_) (fun c18 => ?_)
        · replace hf := ob_t hf c18
          refine lv_aload_n hx hb dX2_sortOf_71 rfl (lv_at hl 0 rfl) ?_
          refine lv_bipush (v := 114) hx hb dX2_sortOf_72 (by decide) ?_
          refine lv_bipush (v := 101) hx hb dX2_sortOf_74 (by decide) ?_
          refine lv_bipush (v := 100) hx hb dX2_sortOf_76 (by decide) ?_
          refine lv_bipush (v := 101) hx hb dX2_sortOf_78 (by decide) ?_
          refine lv_bipush (v := 101) hx hb dX2_sortOf_80 (by decide) ?_
          refine lv_bipush (v := 109) hx hb dX2_sortOf_82 (by decide) ?_
          obtain ⟨q20, g19, hf⟩ := ob_bind hf
          refine xc_l (xw_runS (As := [.int 114, .int 101, .int 100, .int 101, .int 101, .int 109]) (rest := [.ref (E 0)]) ⟨hx, hb, hml, hown, hts⟩ (wkX2_w6 l D dA E hE w 114 101 100 101 101 109 g19) (va_cwS 6 hts (lw_S q1620 q1621 q140 q1622) rfl rfl rfl cdX2_w6.2 ⟨Nat.le_of_ble_eq_true rfl, Nat.le_of_ble_eq_true rfl⟩) hK hP hl.1 rfl rfl (Nat.le_of_ble_eq_true rfl) dX2_sortOf_84 ⟨Nat.zero_le _, Nat.zero_le _⟩) hS hD.2 (fun H locs hP hS => ?_)
          obtain ⟨q22, g21, hf⟩ := ob_bind hf
          refine xc_z (xw_run (As := [.long q20]) (rest := []) ⟨hx, hb, hml, hown, hts⟩ (k0 := 0) (wkX2_isWord l D dA E hE w q20 g21) (cwV 1 hts (lw_V q1609 q1611 qs68 q140 q1612) rfl rfl rfl cdX2_isWord ⟨Nat.le_of_ble_eq_true rfl, Nat.le_of_ble_eq_true rfl⟩) hK hP (by decide) rfl rfl rfl hl.1 rfl rfl (Nat.le_of_ble_eq_true rfl) dX2_sortOf_87 ⟨Nat.zero_le _, Nat.zero_le _⟩) hS hD.2 (fun H locs zq22 hP hS => ?_)
          refine lv_if_eq (tgt := 95) hx hb dX2_sortOf_90 (by decide) (fun c23 => ?_) (fun c23 => ?_)
          · replace hf := ob_t hf c23
            refine lv_aload_n hx hb dX2_sortOf_95 rfl (lv_at hl 0 rfl) ?_
            refine lv_bipush (v := 101) hx hb dX2_sortOf_96 (by decide) ?_
            refine lv_bipush (v := 97) hx hb dX2_sortOf_98 (by decide) ?_
            refine lv_bipush (v := 114) hx hb dX2_sortOf_100 (by decide) ?_
            refine lv_bipush (v := 110) hx hb dX2_sortOf_102 (by decide) ?_
            obtain ⟨q25, g24, hf⟩ := ob_bind hf
            refine xc_l (xw_runS (As := [.int 101, .int 97, .int 114, .int 110]) (rest := [.ref (E 0)]) ⟨hx, hb, hml, hown, hts⟩ (wkX2_w4 l D dA E hE w 101 97 114 110 g24) (va_cwS 4 hts (lw_S q1600 q1601 q140 q1602) rfl rfl rfl cdX2_w4.2 ⟨Nat.le_of_ble_eq_true rfl, Nat.le_of_ble_eq_true rfl⟩) hK hP hl.1 rfl rfl (Nat.le_of_ble_eq_true rfl) dX2_sortOf_104 ⟨Nat.zero_le _, Nat.zero_le _⟩) hS hD.2 (fun H locs hP hS => ?_)
            obtain ⟨q27, g26, hf⟩ := ob_bind hf
            refine xc_z (xw_run (As := [.long q25]) (rest := []) ⟨hx, hb, hml, hown, hts⟩ (k0 := 0) (wkX2_isWord l D dA E hE w q25 g26) (cwV 1 hts (lw_V q1609 q1611 qs68 q140 q1612) rfl rfl rfl cdX2_isWord ⟨Nat.le_of_ble_eq_true rfl, Nat.le_of_ble_eq_true rfl⟩) hK hP (by decide) rfl rfl rfl hl.1 rfl rfl (Nat.le_of_ble_eq_true rfl) dX2_sortOf_107 ⟨Nat.zero_le _, Nat.zero_le _⟩) hS hD.2 (fun H locs zq27 hP hS => ?_)
            refine lv_if_eq (tgt := 117) hx hb dX2_sortOf_110 (by decide) (fun c28 => ?_) (fun c28 => ?_)
            · replace hf := ob_t hf c28
              refine lv_aload_n hx hb dX2_sortOf_117 rfl (lv_at hl 0 rfl) ?_
              refine lv_bipush (v := 100) hx hb dX2_sortOf_118 (by decide) ?_
              refine lv_bipush (v := 97) hx hb dX2_sortOf_120 (by decide) ?_
              refine lv_bipush (v := 121) hx hb dX2_sortOf_122 (by decide) ?_
              obtain ⟨q30, g29, hf⟩ := ob_bind hf
              refine xc_l (xw_runS (As := [.int 100, .int 97, .int 121]) (rest := [.ref (E 0)]) ⟨hx, hb, hml, hown, hts⟩ (wkX2_w3 l D dA E hE w 100 97 121 g29) (va_cwS 3 hts (lw_S q1603 q1604 q140 q1605) rfl rfl rfl cdX2_w3.2 ⟨Nat.le_of_ble_eq_true rfl, Nat.le_of_ble_eq_true rfl⟩) hK hP hl.1 rfl rfl (Nat.le_of_ble_eq_true rfl) dX2_sortOf_124 ⟨Nat.zero_le _, Nat.zero_le _⟩) hS hD.2 (fun H locs hP hS => ?_)
              obtain ⟨q32, g31, hf⟩ := ob_bind hf
              refine xc_z (xw_run (As := [.long q30]) (rest := []) ⟨hx, hb, hml, hown, hts⟩ (k0 := 0) (wkX2_isWord l D dA E hE w q30 g31) (cwV 1 hts (lw_V q1609 q1611 qs68 q140 q1612) rfl rfl rfl cdX2_isWord ⟨Nat.le_of_ble_eq_true rfl, Nat.le_of_ble_eq_true rfl⟩) hK hP (by decide) rfl rfl rfl hl.1 rfl rfl (Nat.le_of_ble_eq_true rfl) dX2_sortOf_127 ⟨Nat.zero_le _, Nat.zero_le _⟩) hS hD.2 (fun H locs zq32 hP hS => ?_)
              refine lv_if_eq (tgt := 138) hx hb dX2_sortOf_130 (by decide) (fun c33 => ?_) (fun c33 => ?_)
              · replace hf := ob_t hf c33
                refine lv_iconst (v := (-1)) hx hb dX2_sortOf_138 (by decide) ?_
                obtain rfl := ob_s hf
                subst hQ
                exact xe_i hx hb hr hlocks hP hS dX2_sortOf_139
              · replace hf := ob_f hf c33
                refine lv_bipush (v := 6) hx hb dX2_sortOf_133 (by decide) ?_
                refine lv_goto (tgt := 139) hx hb dX2_sortOf_135 (by decide) ?_
                obtain rfl := ob_s hf
                subst hQ
                exact xe_i hx hb hr hlocks hP hS dX2_sortOf_139
            · replace hf := ob_f hf c28
              refine lv_iconst (v := 5) hx hb dX2_sortOf_113 (by decide) ?_
              refine lv_goto (tgt := 139) hx hb dX2_sortOf_114 (by decide) ?_
              obtain rfl := ob_s hf
              subst hQ
              exact xe_i hx hb hr hlocks hP hS dX2_sortOf_139
          · replace hf := ob_f hf c23
            refine lv_iconst (v := 4) hx hb dX2_sortOf_93 (by decide) ?_
            obtain rfl := ob_s hf
            subst hQ
            exact xe_i hx hb hr hlocks hP hS dX2_sortOf_94
        · replace hf := ob_f hf c18
          refine lv_iconst (v := 3) hx hb dX2_sortOf_69 (by decide) ?_
          obtain rfl := ob_s hf
          subst hQ
          exact xe_i hx hb hr hlocks hP hS dX2_sortOf_70
      · replace hf := ob_f hf c13
        refine lv_iconst (v := 2) hx hb dX2_sortOf_49 (by decide) ?_
        obtain rfl := ob_s hf
        subst hQ
        exact xe_i hx hb hr hlocks hP hS dX2_sortOf_50
    · replace hf := ob_f hf c10
      refine lv_iconst (v := 1) hx hb dX2_sortOf_40 (by decide) ?_
      obtain rfl := ob_s hf
      subst hQ
      exact xe_i hx hb hr hlocks hP hS dX2_sortOf_41
  · replace hf := ob_f hf c5
    refine lv_iconst (v := 0) hx hb dX2_sortOf_18 (by decide) ?_
    obtain rfl := ob_s hf
    subst hQ
    exact xe_i hx hb hr hlocks hP hS dX2_sortOf_19
abbrev rmX2_has : Room := { frames := 0, cells := 0, slots := 0, locals := 0 }
theorem cdX2_has : yX2_has.cls = RX2 ∧ yX2_has.cls ≠ "java/lang/invoke/MethodHandle" ∧ yX2_has.cls ≠ "java/lang/invoke/VarHandle" ∧ (parseMethodDescriptor yX2_has.desc).map (fun d => d.parameters.length) = some 2 := by decide +kernel
set_option maxHeartbeats 4000000 in
set_option maxRecDepth 100000 in
theorem wkX2_has (l : Launch) (D : va_G) (dA : Nat → ClassId) (E : Nat → Nat) (hE : wInj 19 E) (w : Mm) (a0 : Int32) (a1 : Int32) {res : Int32} (hf : M_has a0 a1 = some res) : Met l yX2_has (ws_ yX2_has cX2_has 2 (some .boolean)) rmX2_has (Pw D clM (tyM dA) shM 19 dA E [.int a0, .int a1] w) (Qwz D clM shM 19 dA E res w) 0 0 (AE 19 E) := by
  refine xm_head (own := RX2) (by decide) rfl (Nat.le_of_ble_eq_true rfl) ?_
  intro p e s m args below meth c ls Q hQ C hP hl
  obtain ⟨hx, hb, hr, hlocks, hml, hown, hts, hK⟩ := C
  replace hl : lv_has ls 2 [(0, .int a0), (1, .int a1)] := hl
  have hS : va_S (AE 19 E) s.heap s.heap [] := va_S.rf
  have hD : wD 19 E (AE 19 E) := wD.self hE
  unfold M_has at hf
  obtain ⟨H, eH⟩ : ∃ H, H = s.heap := ⟨_, rfl⟩
  obtain ⟨locs, eL⟩ : ∃ locs : List Loc, locs = [] := ⟨_, rfl⟩
  rw [← eL] at hS ⊢
  rw [← eH] at hP
  have hS : va_S (AE 19 E) s.heap H locs := by rw [eH]; exact hS
  show W p l e rmX2_has s m args below meth c s.heap locs 0 0 Q (F0 m 0 ls [])
  rw [← eH]
  refine lv_iload_n hx hb dX2_has_0 rfl (lv_at hl 0 rfl) ?_
  refine lv_iload_n hx hb dX2_has_1 rfl (lv_at hl 1 rfl) ?_
  refine lv_ishr hx hb dX2_has_2 ?_
  refine lv_iconst (v := 1) hx hb dX2_has_3 (by decide) ?_
  refine lv_iand hx hb dX2_has_4 ?_
  refine lv_iconst (v := 1) hx hb dX2_has_5 (by decide) ?_
  refine lv_icmp_ne (tgt := 13) hx hb dX2_has_6 (by decide) (fun c1 => ?_) (fun c1 => ?_)
  · replace hf := ob_f hf c1
    refine lv_iconst (v := 0) hx hb dX2_has_13 (by decide) ?_
    obtain rfl := ob_s hf
    subst hQ
    exact xe_z hx hb hr hlocks hP hS (Or.inl rfl) dX2_has_14
  · replace hf := ob_t hf c1
    refine lv_iconst (v := 1) hx hb dX2_has_9 (by decide) ?_
    refine lv_goto (tgt := 14) hx hb dX2_has_10 (by decide) ?_
    obtain rfl := ob_s hf
    subst hQ
    exact xe_z hx hb hr hlocks hP hS (Or.inr rfl) dX2_has_14
abbrev rmX2_figure : Room := { frames := 2, cells := 0, slots := 0, locals := 42 }
theorem cdX2_figure : yX2_figure.cls = RX2 ∧ yX2_figure.cls ≠ "java/lang/invoke/MethodHandle" ∧ yX2_figure.cls ≠ "java/lang/invoke/VarHandle" ∧ (parseMethodDescriptor yX2_figure.desc).map (fun d => d.parameters.length) = some 3 := by decide +kernel
set_option maxHeartbeats 4000000 in
set_option maxRecDepth 100000 in
theorem wkX2_figure (l : Launch) (D : va_G) (dA : Nat → ClassId) (E : Nat → Nat) (hE : wInj 19 E) (w : Mm) (a1 : Int32) (a2 : Int32) (a3 : Int32) {res : Int32 × Mm} (hf : M_figure w a1 a2 a3 = some res) : Met l yX2_figure (ws_ yX2_figure cX2_figure 4 (some .int)) rmX2_figure (Pw D clM (tyM dA) shM 19 dA E [.ref (E 0), .int a1, .int a2, .int a3] w) (Qwi D clM shM 19 dA E res.1 res.2) 0 0 (AE 19 E) := by
  refine xm_head (own := RX2) (by decide) rfl (Nat.le_of_ble_eq_true rfl) ?_
  intro p e s m args below meth c ls Q hQ C hP hl
  obtain ⟨hx, hb, hr, hlocks, hml, hown, hts, hK⟩ := C
  replace hl : lv_has ls 4 [(0, .ref (E 0)), (1, .int a1), (2, .int a2), (3, .int a3)] := hl
  have hS : va_S (AE 19 E) s.heap s.heap [] := va_S.rf
  have hD : wD 19 E (AE 19 E) := wD.self hE
  unfold M_figure at hf
  obtain ⟨H, eH⟩ : ∃ H, H = s.heap := ⟨_, rfl⟩
  obtain ⟨locs, eL⟩ : ∃ locs : List Loc, locs = [] := ⟨_, rfl⟩
  rw [← eL] at hS ⊢
  rw [← eH] at hP
  have hS : va_S (AE 19 E) s.heap H locs := by rw [eH]; exact hS
  show W p l e rmX2_figure s m args below meth c s.heap locs 0 0 Q (F0 m 0 ls [])
  rw [← eH]
  refine lv_aload_n hx hb dX2_figure_0 rfl (lv_at hl 0 rfl) ?_
  refine xr_get hx hb hts in_X2 hown hK hP 0 (by decide) rfl rfl 9 (by decide) (hts _ q1414) (fun _ h => h) rfl (v := .int (w.1 0 9)) rfl dX2_figure_1 ?_
  refine lv_iconst (v := 1) hx hb dX2_figure_4 (by decide) ?_
  refine lv_icmp_eq (tgt := 10) hx hb dX2_figure_5 (by decide) (fun c1 => ?_) (fun c1 => ?_)
  · replace hf := ob_t hf c1
    refine lv_aload_n hx hb dX2_figure_10 rfl (lv_at hl 0 rfl) ?_
    refine xr_get hx hb hts in_X2 hown hK hP 0 (by decide) rfl rfl 10 (by decide) (hts _ q1415) (fun _ h => h) rfl (v := .int (w.1 0 10)) rfl dX2_figure_11 ?_
    refine lv_iload_n hx hb dX2_figure_14 rfl (lv_at hl 2 rfl) ?_
    refine lv_iload_n hx hb dX2_figure_15 rfl (lv_at hl 3 rfl) ?_
    obtain ⟨q3, g2, hf⟩ := ob_bind hf
    refine xc_z (xw_runS (As := [.int (w.1 0 10), .int a2, .int a3]) (rest := []) ⟨hx, hb, hml, hown, hts⟩ (wkX2_isIn l D dA E hE w (w.1 0 10) a2 a3 g2) (va_cwS 3 hts (lw_S q1538 q1539 q140 q1540) rfl rfl rfl cdX2_isIn.2 ⟨Nat.le_of_ble_eq_true rfl, Nat.le_of_ble_eq_true rfl⟩) hK hP hl.1 rfl rfl (Nat.le_of_ble_eq_true rfl) dX2_figure_16 ⟨Nat.zero_le _, Nat.zero_le _⟩) hS hD.2 (fun H locs zq3 hP hS => ?_)
    refine lv_if_ne (tgt := 24) hx hb dX2_figure_19 (by decide) (fun c4 => ?_) (fun c4 => ?_)
    · replace hf := ob_f hf c4
      refine lv_aload_n hx hb dX2_figure_24 rfl (lv_at hl 0 rfl) ?_
      refine xr_get hx hb hts in_X2 hown hK hP 0 (by decide) rfl rfl 2 (by decide) (hts _ q1407) (fun _ h => h) rfl (v := .ref (E 3)) rfl dX2_figure_25 ?_
      refine lv_iload_n hx hb dX2_figure_28 rfl (lv_at hl 1 rfl) ?_
      refine lv_aload_n hx hb dX2_figure_29 rfl (lv_at hl 0 rfl) ?_
      refine xr_get hx hb hts in_X2 hown hK hP 0 (by decide) rfl rfl 10 (by decide) (hts _ q1415) (fun _ h => h) rfl (v := .int (w.1 0 10)) rfl dX2_figure_30 ?_
      obtain ⟨h5, hf⟩ := ob_gd hf
      obtain ⟨w6, ew6, hf⟩ := ob_bnd hf
      refine xr_iast hx hb hK hP hD hS 3 (by decide) rfl 0 rfl (j := a1.toNatClampNeg) (w' := w6) h5 rfl ew6 dX2_figure_33 (fun H locs hP hS => ?_)
      refine lv_aload_n hx hb dX2_figure_34 rfl (lv_at hl 0 rfl) ?_
      obtain ⟨q8, g7, hf⟩ := ob_bind hf
      refine xc_v (xw_run (As := []) (rest := []) ⟨hx, hb, hml, hown, hts⟩ (k0 := 0) (wkX2_nextToken l D dA E hE w6 g7) (cwV 0 hts (lw_V q1573 q1575 qs64 q140 q1576) rfl rfl rfl cdX2_nextToken ⟨Nat.le_of_ble_eq_true rfl, Nat.le_of_ble_eq_true rfl⟩) hK hP (by decide) rfl rfl rfl hl.1 rfl rfl (Nat.le_of_ble_eq_true rfl) dX2_figure_35 ⟨Nat.zero_le _, Nat.zero_le _⟩) hS hD.2 (fun H locs hP hS => ?_)
      refine lv_iconst (v := 0) hx hb dX2_figure_38 (by decide) ?_
      obtain rfl := ob_s hf
      subst hQ
      exact xe_i hx hb hr hlocks hP hS dX2_figure_39
    · replace hf := ob_t hf c4
      refine lv_iconst (v := 2) hx hb dX2_figure_22 (by decide) ?_
      obtain rfl := ob_s hf
      subst hQ
      exact xe_i hx hb hr hlocks hP hS dX2_figure_23
  · replace hf := ob_f hf c1
    refine lv_iconst (v := 1) hx hb dX2_figure_8 (by decide) ?_
    obtain rfl := ob_s hf
    subst hQ
    exact xe_i hx hb hr hlocks hP hS dX2_figure_9
abbrev rmX2_behind : Room := { frames := 3, cells := 0, slots := 0, locals := 65 }
theorem cdX2_behind : yX2_behind.cls = RX2 ∧ yX2_behind.cls ≠ "java/lang/invoke/MethodHandle" ∧ yX2_behind.cls ≠ "java/lang/invoke/VarHandle" ∧ (parseMethodDescriptor yX2_behind.desc).map (fun d => d.parameters.length) = some 4 := by decide +kernel
set_option maxHeartbeats 4000000 in
set_option maxRecDepth 100000 in
theorem wkX2_behind (l : Launch) (D : va_G) (dA : Nat → ClassId) (E : Nat → Nat) (hE : wInj 19 E) (w : Mm) (a1 : Int32) (a2 : Int64) (a4 : Int32) (a5 : Int32) {res : Int32 × Mm} (hf : M_behind w a1 a2 a4 a5 = some res) : Met l yX2_behind (ws_ yX2_behind cX2_behind 6 (some .int)) rmX2_behind (Pw D clM (tyM dA) shM 19 dA E [.ref (E 0), .int a1, .long a2, .int a4, .int a5] w) (Qwi D clM shM 19 dA E res.1 res.2) 0 0 (AE 19 E) := by
  refine xm_head (own := RX2) (by decide) rfl (Nat.le_of_ble_eq_true rfl) ?_
  intro p e s m args below meth c ls Q hQ C hP hl
  obtain ⟨hx, hb, hr, hlocks, hml, hown, hts, hK⟩ := C
  replace hl : lv_has ls 6 [(0, .ref (E 0)), (1, .int a1), (2, .long a2), (4, .int a4), (5, .int a5)] := hl
  have hS : va_S (AE 19 E) s.heap s.heap [] := va_S.rf
  have hD : wD 19 E (AE 19 E) := wD.self hE
  unfold M_behind at hf
  obtain ⟨H, eH⟩ : ∃ H, H = s.heap := ⟨_, rfl⟩
  obtain ⟨locs, eL⟩ : ∃ locs : List Loc, locs = [] := ⟨_, rfl⟩
  rw [← eL] at hS ⊢
  rw [← eH] at hP
  have hS : va_S (AE 19 E) s.heap H locs := by rw [eH]; exact hS
  show W p l e rmX2_behind s m args below meth c s.heap locs 0 0 Q (F0 m 0 ls [])
  rw [← eH]
  refine lv_aload_n hx hb dX2_behind_0 rfl (lv_at hl 0 rfl) ?_
  refine lv_lload_n hx hb dX2_behind_1 rfl (lv_at hl 2 rfl) ?_
  obtain ⟨q2, g1, hf⟩ := ob_bind hf
  refine xc_z (xw_run (As := [.long a2]) (rest := []) ⟨hx, hb, hml, hown, hts⟩ (k0 := 0) (wkX2_isWord l D dA E hE w a2 g1) (cwV 1 hts (lw_V q1609 q1611 qs68 q140 q1612) rfl rfl rfl cdX2_isWord ⟨Nat.le_of_ble_eq_true rfl, Nat.le_of_ble_eq_true rfl⟩) hK hP (by decide) rfl rfl rfl hl.1 rfl rfl (Nat.le_of_ble_eq_true rfl) dX2_behind_2 ⟨Nat.zero_le _, Nat.zero_le _⟩) hS hD.2 (fun H locs zq2 hP hS => ?_)
  refine lv_if_ne (tgt := 10) hx hb dX2_behind_5 (by decide) (fun c3 => ?_) (fun c3 => ?_)
  · replace hf := ob_f hf c3
    refine lv_aload_n hx hb dX2_behind_10 rfl (lv_at hl 0 rfl) ?_
    obtain ⟨q5, g4, hf⟩ := ob_bind hf
    refine xc_v (xw_run (As := []) (rest := []) ⟨hx, hb, hml, hown, hts⟩ (k0 := 0) (wkX2_nextToken l D dA E hE w g4) (cwV 0 hts (lw_V q1573 q1575 qs64 q140 q1576) rfl rfl rfl cdX2_nextToken ⟨Nat.le_of_ble_eq_true rfl, Nat.le_of_ble_eq_true rfl⟩) hK hP (by decide) rfl rfl rfl hl.1 rfl rfl (Nat.le_of_ble_eq_true rfl) dX2_behind_11 ⟨Nat.zero_le _, Nat.zero_le _⟩) hS hD.2 (fun H locs hP hS => ?_)
    refine lv_aload_n hx hb dX2_behind_14 rfl (lv_at hl 0 rfl) ?_
    refine lv_iload_n hx hb dX2_behind_15 rfl (lv_at hl 1 rfl) ?_
    refine lv_iload hx hb dX2_behind_16 (lv_at hl 3 rfl) ?_
    refine lv_iload hx hb dX2_behind_18 (lv_at hl 4 rfl) ?_
    obtain ⟨q7, g6, hf⟩ := ob_bind hf
    refine xc_i (xw_run (As := [.int a1, .int a4, .int a5]) (rest := []) ⟨hx, hb, hml, hown, hts⟩ (k0 := 0) (wkX2_figure l D dA E hE q5 a1 a4 a5 g6) (cwV 3 hts (lw_V q1634 q1636 qs72 q140 q1637) rfl rfl rfl cdX2_figure ⟨Nat.le_of_ble_eq_true rfl, Nat.le_of_ble_eq_true rfl⟩) hK hP (by decide) rfl rfl rfl hl.1 rfl rfl (Nat.le_of_ble_eq_true rfl) dX2_behind_20 ⟨Nat.zero_le _, Nat.zero_le _⟩) hS hD.2 (fun H locs hP hS => ?_)
    obtain rfl := ob_s hf
    subst hQ
    exact xe_i hx hb hr hlocks hP hS dX2_behind_23
  · replace hf := ob_t hf c3
    refine lv_iconst (v := 1) hx hb dX2_behind_8 (by decide) ?_
    obtain rfl := ob_s hf
    subst hQ
    exact xe_i hx hb hr hlocks hP hS dX2_behind_9
abbrev rmX2_quarrelClause : Room := { frames := 4, cells := 0, slots := 0, locals := 90 }
theorem cdX2_quarrelClause : yX2_quarrelClause.cls = RX2 ∧ yX2_quarrelClause.cls ≠ "java/lang/invoke/MethodHandle" ∧ yX2_quarrelClause.cls ≠ "java/lang/invoke/VarHandle" ∧ (parseMethodDescriptor yX2_quarrelClause.desc).map (fun d => d.parameters.length) = some 1 := by decide +kernel
set_option maxHeartbeats 4000000 in
set_option maxRecDepth 100000 in
theorem wkX2_quarrelClause (l : Launch) (D : va_G) (dA : Nat → ClassId) (E : Nat → Nat) (hE : wInj 19 E) (w : Mm) (a1 : Int32) {res : Int32 × Mm} (hf : M_quarrelClause w a1 = some res) : Met l yX2_quarrelClause (ws_ yX2_quarrelClause cX2_quarrelClause 3 (some .int)) rmX2_quarrelClause (Pw D clM (tyM dA) shM 19 dA E [.ref (E 0), .int a1] w) (Qwi D clM shM 19 dA E res.1 res.2) 0 0 (AE 19 E) := by
  refine xm_head (own := RX2) (by decide) rfl (Nat.le_of_ble_eq_true rfl) ?_
  intro p e s m args below meth c ls Q hQ C hP hl
  obtain ⟨hx, hb, hr, hlocks, hml, hown, hts, hK⟩ := C
  replace hl : lv_has ls 3 [(0, .ref (E 0)), (1, .int a1)] := hl
  have hS : va_S (AE 19 E) s.heap s.heap [] := va_S.rf
  have hD : wD 19 E (AE 19 E) := wD.self hE
  unfold M_quarrelClause at hf
  obtain ⟨H, eH⟩ : ∃ H, H = s.heap := ⟨_, rfl⟩
  obtain ⟨locs, eL⟩ : ∃ locs : List Loc, locs = [] := ⟨_, rfl⟩
  rw [← eL] at hS ⊢
  rw [← eH] at hP
  have hS : va_S (AE 19 E) s.heap H locs := by rw [eH]; exact hS
  show W p l e rmX2_quarrelClause s m args below meth c s.heap locs 0 0 Q (F0 m 0 ls [])
  rw [← eH]
  refine lv_aload_n hx hb dX2_quarrelClause_0 rfl (lv_at hl 0 rfl) ?_
  refine lv_iload_n hx hb dX2_quarrelClause_1 rfl (lv_at hl 1 rfl) ?_
  refine lv_iconst (v := 1) hx hb dX2_quarrelClause_2 (by decide) ?_
  refine lv_iadd hx hb dX2_quarrelClause_3 ?_
  refine lv_iconst (v := 0) hx hb dX2_quarrelClause_4 (by decide) ?_
  refine lv_iconst (v := 5) hx hb dX2_quarrelClause_5 (by decide) ?_
  obtain ⟨q2, g1, hf⟩ := ob_bind hf
  refine xc_i (xw_run (As := [.int (a1 + 1), .int 0, .int 5]) (rest := []) ⟨hx, hb, hml, hown, hts⟩ (k0 := 0) (wkX2_figure l D dA E hE w (a1 + 1) 0 5 g1) (cwV 3 hts (lw_V q1634 q1636 qs72 q140 q1637) rfl rfl rfl cdX2_figure ⟨Nat.le_of_ble_eq_true rfl, Nat.le_of_ble_eq_true rfl⟩) hK hP (by decide) rfl rfl rfl hl.1 rfl rfl (Nat.le_of_ble_eq_true rfl) dX2_quarrelClause_6 ⟨Nat.zero_le _, Nat.zero_le _⟩) hS hD.2 (fun H locs hP hS => ?_)
  refine lv_istore_n (lv' := [(2, .int q2.1), (0, .ref (E 0)), (1, .int a1)]) hx hb dX2_quarrelClause_9 rfl hl (by decide) rfl (fun ls hl => ?_)
  refine lv_iload_n hx hb dX2_quarrelClause_10 rfl (lv_at hl 0 rfl) ?_
  have kj31 : ∀ (v2_3 : Int32) (w4 : Mm) (H : Heap) (locs : List Loc) (ls : Array Slot), M_quarrelClause_j31 v2_3 w4 a1 = some res → va_P D clM (wl shM 19 dA E w4) H → va_S (AE 19 E) s.heap H locs → lv_has ls 3 [(0, .ref (E 0)), (1, .int a1), (2, .int v2_3)] → W p l e rmX2_quarrelClause s m args below meth c H locs 0 0 Q (F0 m 31 ls []) := by
    intro v2_3 w4 H locs ls hf hP hS hl
    unfold M_quarrelClause_j31 at hf
    refine lv_iload_n hx hb dX2_quarrelClause_31 rfl (lv_at hl 2 rfl) ?_
    refine lv_if_ne (tgt := 61) hx hb dX2_quarrelClause_32 (by decide) (fun c5 => ?_) (fun c5 => ?_)
    · replace hf := ob_f hf c5
      refine lv_iload_n hx hb dX2_quarrelClause_61 rfl (lv_at hl 2 rfl) ?_
      obtain rfl := ob_s hf
      subst hQ
      exact xe_i hx hb hr hlocks hP hS dX2_quarrelClause_62
    · replace hf := ob_t hf c5
      refine lv_aload_n hx hb dX2_quarrelClause_35 rfl (lv_at hl 0 rfl) ?_
      refine lv_iload_n hx hb dX2_quarrelClause_36 rfl (lv_at hl 1 rfl) ?_
      refine lv_iconst (v := 3) hx hb dX2_quarrelClause_37 (by decide) ?_
      refine lv_iadd hx hb dX2_quarrelClause_38 ?_
      refine lv_bipush (v := 119) hx hb dX2_quarrelClause_39 (by decide) ?_
      refine lv_bipush (v := 111) hx hb dX2_quarrelClause_41 (by decide) ?_
      refine lv_bipush (v := 114) hx hb dX2_quarrelClause_43 (by decide) ?_
      refine lv_bipush (v := 116) hx hb dX2_quarrelClause_45 (by decide) ?_
      refine lv_bipush (v := 104) hx hb dX2_quarrelClause_47 (by decide) ?_
      obtain ⟨q7, g6, hf⟩ := ob_bind hf
      refine xc_l (xw_runS (As := [.int 119, .int 111, .int 114, .int 116, .int 104]) (rest := [.int (a1 + 3), .ref (E 0)]) ⟨hx, hb, hml, hown, hts⟩ (wkX2_w5 l D dA E hE w4 119 111 114 116 104 g6) (va_cwS 5 hts (lw_S q1613 q1614 q140 q1615) rfl rfl rfl cdX2_w5.2 ⟨Nat.le_of_ble_eq_true rfl, Nat.le_of_ble_eq_true rfl⟩) hK hP hl.1 rfl rfl (Nat.le_of_ble_eq_true rfl) dX2_quarrelClause_49 ⟨Nat.zero_le _, Nat.zero_le _⟩) hS hD.2 (fun H locs hP hS => ?_)
      refine lv_iconst (v := 1) hx hb dX2_quarrelClause_52 (by decide) ?_
      refine lv_bipush (v := 99) hx hb dX2_quarrelClause_53 (by decide) ?_
      obtain ⟨q9, g8, hf⟩ := ob_bind hf
      refine xc_i (xw_run (As := [.int (a1 + 3), .long q7, .int 1, .int 99]) (rest := []) ⟨hx, hb, hml, hown, hts⟩ (k0 := 0) (wkX2_behind l D dA E hE w4 (a1 + 3) q7 1 99 g8) (cwV 4 hts (lw_V q1638 q1640 qs73 q140 q1641) rfl rfl rfl cdX2_behind ⟨Nat.le_of_ble_eq_true rfl, Nat.le_of_ble_eq_true rfl⟩) hK hP (by decide) rfl rfl rfl hl.1 rfl rfl (Nat.le_of_ble_eq_true rfl) dX2_quarrelClause_55 ⟨Nat.zero_le _, Nat.zero_le _⟩) hS hD.2 (fun H locs hP hS => ?_)
      refine lv_goto (tgt := 62) hx hb dX2_quarrelClause_58 (by decide) ?_
      obtain rfl := ob_s hf
      subst hQ
      exact xe_i hx hb hr hlocks hP hS dX2_quarrelClause_62
  refine lv_if_ne (tgt := 31) hx hb dX2_quarrelClause_11 (by decide) (fun c10 => ?_) (fun c10 => ?_)
  · replace hf := ob_f hf c10
    exact kj31 q2.1 q2.2 H locs ls hf hP hS (lv_sub hl [1, 2, 0] rfl)
  · replace hf := ob_t hf c10
    refine lv_aload_n hx hb dX2_quarrelClause_14 rfl (lv_at hl 1 rfl) ?_
    refine lv_iload_n hx hb dX2_quarrelClause_15 rfl (lv_at hl 2 rfl) ?_
    refine lv_iconst (v := 2) hx hb dX2_quarrelClause_16 (by decide) ?_
    refine lv_iadd hx hb dX2_quarrelClause_17 ?_
    refine lv_bipush (v := 98) hx hb dX2_quarrelClause_18 (by decide) ?_
    refine lv_bipush (v := 121) hx hb dX2_quarrelClause_20 (by decide) ?_
    obtain ⟨q12, g11, hf⟩ := ob_bind hf
    refine xc_l (xw_runS (As := [.int 98, .int 121]) (rest := [.int (a1 + 2), .ref (E 0)]) ⟨hx, hb, hml, hown, hts⟩ (wkX2_w2 l D dA E hE q2.2 98 121 g11) (va_cwS 2 hts (lw_S q1606 q1607 q140 q1608) rfl rfl rfl cdX2_w2.2 ⟨Nat.le_of_ble_eq_true rfl, Nat.le_of_ble_eq_true rfl⟩) hK hP hl.1 rfl rfl (Nat.le_of_ble_eq_true rfl) dX2_quarrelClause_22 ⟨Nat.zero_le _, Nat.zero_le _⟩) hS hD.2 (fun H locs hP hS => ?_)
    refine lv_iconst (v := 0) hx hb dX2_quarrelClause_25 (by decide) ?_
    refine lv_iconst (v := 5) hx hb dX2_quarrelClause_26 (by decide) ?_
    obtain ⟨q14, g13, hf⟩ := ob_bind hf
    refine xc_i (xw_run (As := [.int (a1 + 2), .long q12, .int 0, .int 5]) (rest := []) ⟨hx, hb, hml, hown, hts⟩ (k0 := 0) (wkX2_behind l D dA E hE q2.2 (a1 + 2) q12 0 5 g13) (cwV 4 hts (lw_V q1638 q1640 qs73 q140 q1641) rfl rfl rfl cdX2_behind ⟨Nat.le_of_ble_eq_true rfl, Nat.le_of_ble_eq_true rfl⟩) hK hP (by decide) rfl rfl rfl hl.1 rfl rfl (Nat.le_of_ble_eq_true rfl) dX2_quarrelClause_27 ⟨Nat.zero_le _, Nat.zero_le _⟩) hS hD.2 (fun H locs hP hS => ?_)
    refine lv_istore_n (lv' := [(2, .int q14.1), (0, .ref (E 0)), (1, .int a1)]) hx hb dX2_quarrelClause_30 rfl hl (by decide) rfl (fun ls hl => ?_)
    exact kj31 q14.1 q14.2 H locs ls hf hP hS (lv_sub hl [1, 2, 0] rfl)
abbrev rmX2_openAt : Room := { frames := 0, cells := 0, slots := 0, locals := 0 }
theorem cdX2_openAt : yX2_openAt.cls = RX2 ∧ yX2_openAt.cls ≠ "java/lang/invoke/MethodHandle" ∧ yX2_openAt.cls ≠ "java/lang/invoke/VarHandle" ∧ (parseMethodDescriptor yX2_openAt.desc).map (fun d => d.parameters.length) = some 0 := by decide +kernel
set_option maxHeartbeats 4000000 in
set_option maxRecDepth 100000 in
theorem wkX2_openAt (l : Launch) (D : va_G) (dA : Nat → ClassId) (E : Nat → Nat) (hE : wInj 19 E) (w : Mm)  {res : Int32} (hf : M_openAt w = some res) : Met l yX2_openAt (ws_ yX2_openAt cX2_openAt 2 (some .int)) rmX2_openAt (Pw D clM (tyM dA) shM 19 dA E [.ref (E 0)] w) (Qwi D clM shM 19 dA E res w) 0 0 (AE 19 E) := by
  refine xm_head (own := RX2) (by decide) rfl (Nat.le_of_ble_eq_true rfl) ?_
  intro p e s m args below meth c ls Q hQ C hP hl
  obtain ⟨hx, hb, hr, hlocks, hml, hown, hts, hK⟩ := C
  replace hl : lv_has ls 2 [(0, .ref (E 0))] := hl
  have hS : va_S (AE 19 E) s.heap s.heap [] := va_S.rf
  have hD : wD 19 E (AE 19 E) := wD.self hE
  unfold M_openAt at hf
  obtain ⟨H, eH⟩ : ∃ H, H = s.heap := ⟨_, rfl⟩
  obtain ⟨locs, eL⟩ : ∃ locs : List Loc, locs = [] := ⟨_, rfl⟩
  rw [← eL] at hS ⊢
  rw [← eH] at hP
  have hS : va_S (AE 19 E) s.heap H locs := by rw [eH]; exact hS
  show W p l e rmX2_openAt s m args below meth c s.heap locs 0 0 Q (F0 m 0 ls [])
  rw [← eH]
  refine lv_aload_n hx hb dX2_openAt_0 rfl (lv_at hl 0 rfl) ?_
  refine xr_get hx hb hts in_X2 hown hK hP 0 (by decide) rfl rfl 16 (by decide) (hts _ q1421) (fun _ h => h) rfl (v := .int (w.1 0 16)) rfl dX2_openAt_1 ?_
  refine lv_iconst (v := 1) hx hb dX2_openAt_4 (by decide) ?_
  refine lv_isub hx hb dX2_openAt_5 ?_
  obtain ⟨v1_1, ev1_1, hf⟩ := ob_bnd hf
  refine xn_i ev1_1 ?_
  refine lv_istore_n (lv' := [(1, .int v1_1), (0, .ref (E 0))]) hx hb dX2_openAt_6 rfl hl (by decide) rfl (fun ls hl => ?_)
  obtain ⟨b3, hb3, hf⟩ := ob_bind hf
  obtain ⟨n3, hn3⟩ := lp_some hb3
  have kL7 : ∀ (n : Nat) (v1_2 : Int32), lpF (fun (q3 : Int32) => M_openAt_b7 w q3) n v1_2 = some b3 → (∀ (H : Heap) (locs : List Loc) (ls : Array Slot), va_P D clM (wl shM 19 dA E w) H → va_S (AE 19 E) s.heap H locs → lv_has ls 2 [(1, .int b3)] → W p l e rmX2_openAt s m args below meth c H locs 0 0 Q (F0 m 28 ls [])) → ∀ (H : Heap) (locs : List Loc) (ls : Array Slot), va_P D clM (wl shM 19 dA E w) H → va_S (AE 19 E) s.heap H locs → lv_has ls 2 [(0, .ref (E 0)), (1, .int v1_2)] → W p l e rmX2_openAt s m args below meth c H locs 0 0 Q (F0 m 7 ls []) := by
    intro n
    induction n with
    | zero =>
      intro v1_2 h
      cases h
    | succ n ih =>
      intro v1_2 h K3_0 H locs ls hP hS hl
      obtain ⟨r3, hf, h3a, h3b⟩ := lpF_step h
      replace hf : M_openAt_b7 w v1_2 = some r3 := hf
      unfold M_openAt_b7 at hf
      refine lv_iload_n hx hb dX2_openAt_7 rfl (lv_at hl 1 rfl) ?_
      refine lv_if_lt (tgt := 28) hx hb dX2_openAt_8 (by decide) (fun c4 => ?_) (fun c4 => ?_)
      · replace hf := ob_t hf c4
        obtain rfl := ob_s hf
        obtain rfl := h3b _ rfl
        exact K3_0 H locs ls hP hS (lv_sub hl [1] rfl)
      · replace hf := ob_f hf c4
        refine lv_aload_n hx hb dX2_openAt_11 rfl (lv_at hl 0 rfl) ?_
        refine xr_get hx hb hts in_X2 hown hK hP 0 (by decide) rfl rfl 15 (by decide) (hts _ q1420) (fun _ h => h) rfl (v := .ref (E 5)) rfl dX2_openAt_12 ?_
        refine lv_iload_n hx hb dX2_openAt_15 rfl (lv_at hl 1 rfl) ?_
        obtain ⟨h5, hf⟩ := ob_gd hf
        refine xr_iald hx hb hK hP 5 (by decide) rfl 0 rfl (j := v1_2.toNatClampNeg) h5 rfl dX2_openAt_16 ?_
        refine lv_bipush (v := 40) hx hb dX2_openAt_17 (by decide) ?_
        refine lv_icmp_ge (tgt := 28) hx hb dX2_openAt_19 (by decide) (fun c6 => ?_) (fun c6 => ?_)
        · replace hf := ob_t hf c6
          obtain rfl := ob_s hf
          obtain rfl := h3b _ rfl
          exact K3_0 H locs ls hP hS (lv_sub hl [1] rfl)
        · replace hf := ob_f hf c6
          obtain ⟨v1_7, ev1_7, hf⟩ := ob_bnd hf
          refine lv_iinc (v := v1_7) (lv' := [(1, .int v1_7), (0, .ref (E 0))]) hx hb dX2_openAt_22 hl (k := 1) rfl (by rw [ev1_7]; rfl) (by decide) rfl (fun ls hl => ?_)
          refine lv_goto (tgt := 7) hx hb dX2_openAt_25 (by decide) ?_
          obtain rfl := ob_s hf
          exact ih _ (h3a _ rfl) K3_0 H locs ls hP hS (lv_sub hl [1, 0] rfl)
  refine kL7 n3 v1_1 hn3 (fun H locs ls hP hS hl => ?_) H locs ls hP hS (lv_sub hl [1, 0] rfl)
  replace hf : M_openAt_x7_28 b3 = some res := hf
  unfold M_openAt_x7_28 at hf
  refine lv_iload_n hx hb dX2_openAt_28 rfl (lv_at hl 0 rfl) ?_
  obtain rfl := ob_s hf
  subst hQ
  exact xe_i hx hb hr hlocks hP hS dX2_openAt_29
abbrev rmX2_openNow : Room := { frames := 1, cells := 0, slots := 0, locals := 21 }
theorem cdX2_openNow : yX2_openNow.cls = RX2 ∧ yX2_openNow.cls ≠ "java/lang/invoke/MethodHandle" ∧ yX2_openNow.cls ≠ "java/lang/invoke/VarHandle" ∧ (parseMethodDescriptor yX2_openNow.desc).map (fun d => d.parameters.length) = some 0 := by decide +kernel
set_option maxHeartbeats 4000000 in
set_option maxRecDepth 100000 in
theorem wkX2_openNow (l : Launch) (D : va_G) (dA : Nat → ClassId) (E : Nat → Nat) (hE : wInj 19 E) (w : Mm)  {res : Int32} (hf : M_openNow w = some res) : Met l yX2_openNow (ws_ yX2_openNow cX2_openNow 1 (some .int)) rmX2_openNow (Pw D clM (tyM dA) shM 19 dA E [.ref (E 0)] w) (Qwi D clM shM 19 dA E res w) 0 0 (AE 19 E) := by
  refine xm_head (own := RX2) (by decide) rfl (Nat.le_of_ble_eq_true rfl) ?_
  intro p e s m args below meth c ls Q hQ C hP hl
  obtain ⟨hx, hb, hr, hlocks, hml, hown, hts, hK⟩ := C
  replace hl : lv_has ls 1 [(0, .ref (E 0))] := hl
  have hS : va_S (AE 19 E) s.heap s.heap [] := va_S.rf
  have hD : wD 19 E (AE 19 E) := wD.self hE
  unfold M_openNow at hf
  obtain ⟨H, eH⟩ : ∃ H, H = s.heap := ⟨_, rfl⟩
  obtain ⟨locs, eL⟩ : ∃ locs : List Loc, locs = [] := ⟨_, rfl⟩
  rw [← eL] at hS ⊢
  rw [← eH] at hP
  have hS : va_S (AE 19 E) s.heap H locs := by rw [eH]; exact hS
  show W p l e rmX2_openNow s m args below meth c s.heap locs 0 0 Q (F0 m 0 ls [])
  rw [← eH]
  refine lv_aload_n hx hb dX2_openNow_0 rfl (lv_at hl 0 rfl) ?_
  obtain ⟨q2, g1, hf⟩ := ob_bind hf
  refine xc_i (xw_run (As := []) (rest := []) ⟨hx, hb, hml, hown, hts⟩ (k0 := 0) (wkX2_openAt l D dA E hE w g1) (cwV 0 hts (lw_V q1662 q1664 qs79 q140 q1665) rfl rfl rfl cdX2_openAt ⟨Nat.le_of_ble_eq_true rfl, Nat.le_of_ble_eq_true rfl⟩) hK hP (by decide) rfl rfl rfl hl.1 rfl rfl (Nat.le_of_ble_eq_true rfl) dX2_openNow_1 ⟨Nat.zero_le _, Nat.zero_le _⟩) hS hD.2 (fun H locs hP hS => ?_)
  refine lv_if_ge (tgt := 11) hx hb dX2_openNow_4 (by decide) (fun c3 => ?_) (fun c3 => ?_)
  · replace hf := ob_t hf c3
    refine lv_aload_n hx hb dX2_openNow_11 rfl (lv_at hl 0 rfl) ?_
    refine xr_get hx hb hts in_X2 hown hK hP 0 (by decide) rfl rfl 15 (by decide) (hts _ q1420) (fun _ h => h) rfl (v := .ref (E 5)) rfl dX2_openNow_12 ?_
    refine lv_aload_n hx hb dX2_openNow_15 rfl (lv_at hl 0 rfl) ?_
    obtain ⟨q5, g4, hf⟩ := ob_bind hf
    refine xc_i (xw_run (As := []) (rest := [.ref (E 5)]) ⟨hx, hb, hml, hown, hts⟩ (k0 := 0) (wkX2_openAt l D dA E hE w g4) (cwV 0 hts (lw_V q1662 q1664 qs79 q140 q1665) rfl rfl rfl cdX2_openAt ⟨Nat.le_of_ble_eq_true rfl, Nat.le_of_ble_eq_true rfl⟩) hK hP (by decide) rfl rfl rfl hl.1 rfl rfl (Nat.le_of_ble_eq_true rfl) dX2_openNow_16 ⟨Nat.zero_le _, Nat.zero_le _⟩) hS hD.2 (fun H locs hP hS => ?_)
    obtain ⟨h6, hf⟩ := ob_gd hf
    refine xr_iald hx hb hK hP 5 (by decide) rfl 0 rfl (j := q5.toNatClampNeg) h6 rfl dX2_openNow_19 ?_
    obtain rfl := ob_s hf
    subst hQ
    exact xe_i hx hb hr hlocks hP hS dX2_openNow_20
  · replace hf := ob_f hf c3
    refine lv_iconst (v := (-1)) hx hb dX2_openNow_7 (by decide) ?_
    refine lv_goto (tgt := 20) hx hb dX2_openNow_8 (by decide) ?_
    obtain rfl := ob_s hf
    subst hQ
    exact xe_i hx hb hr hlocks hP hS dX2_openNow_20
abbrev rmX2_rank : Room := { frames := 0, cells := 0, slots := 0, locals := 0 }
theorem cdX2_rank : yX2_rank.cls = RX2 ∧ yX2_rank.cls ≠ "java/lang/invoke/MethodHandle" ∧ yX2_rank.cls ≠ "java/lang/invoke/VarHandle" ∧ (parseMethodDescriptor yX2_rank.desc).map (fun d => d.parameters.length) = some 1 := by decide +kernel
set_option maxHeartbeats 4000000 in
set_option maxRecDepth 100000 in
theorem wkX2_rank (l : Launch) (D : va_G) (dA : Nat → ClassId) (E : Nat → Nat) (hE : wInj 19 E) (w : Mm) (a0 : Int32) {res : Int32} (hf : M_rank a0 = some res) : Met l yX2_rank (ws_ yX2_rank cX2_rank 1 (some .int)) rmX2_rank (Pw D clM (tyM dA) shM 19 dA E [.int a0] w) (Qwi D clM shM 19 dA E res w) 0 0 (AE 19 E) := by
  refine xm_head (own := RX2) (by decide) rfl (Nat.le_of_ble_eq_true rfl) ?_
  intro p e s m args below meth c ls Q hQ C hP hl
  obtain ⟨hx, hb, hr, hlocks, hml, hown, hts, hK⟩ := C
  replace hl : lv_has ls 1 [(0, .int a0)] := hl
  have hS : va_S (AE 19 E) s.heap s.heap [] := va_S.rf
  have hD : wD 19 E (AE 19 E) := wD.self hE
  unfold M_rank at hf
  obtain ⟨H, eH⟩ : ∃ H, H = s.heap := ⟨_, rfl⟩
  obtain ⟨locs, eL⟩ : ∃ locs : List Loc, locs = [] := ⟨_, rfl⟩
  rw [← eL] at hS ⊢
  rw [← eH] at hP
  have hS : va_S (AE 19 E) s.heap H locs := by rw [eH]; exact hS
  show W p l e rmX2_rank s m args below meth c s.heap locs 0 0 Q (F0 m 0 ls [])
  rw [← eH]
  refine lv_iload_n hx hb dX2_rank_0 rfl (lv_at hl 0 rfl) ?_
  refine lv_bipush (v := 40) hx hb dX2_rank_1 (by decide) ?_
  refine lv_icmp_lt (tgt := 10) hx hb dX2_rank_3 (by decide) (fun c1 => ?_) (fun c1 => ?_)
  · replace hf := ob_t hf c1
    refine lv_iload_n hx hb dX2_rank_10 rfl (lv_at hl 0 rfl) ?_
    refine lv_bipush (v := 22) hx hb dX2_rank_11 (by decide) ?_
    refine lv_icmp_ne (tgt := 20) hx hb dX2_rank_13 (by decide) (fun c2 => ?_) (fun c2 => ?_)
    · replace hf := ob_f hf c2
      refine lv_iload_n hx hb dX2_rank_20 rfl (lv_at hl 0 rfl) ?_
      refine lv_bipush (v := 21) hx hb dX2_rank_21 (by decide) ?_
      refine lv_icmp_ne (tgt := 30) hx hb dX2_rank_23 (by decide) (fun c3 => ?_) (fun c3 => ?_)
      · replace hf := ob_f hf c3
        refine lv_iload_n hx hb dX2_rank_30 rfl (lv_at hl 0 rfl) ?_
        refine lv_bipush (v := 20) hx hb dX2_rank_31 (by decide) ?_
        refine lv_icmp_ne (tgt := 40) hx hb dX2_rank_33 (by decide) (fun c4 => ?_) (fun c4 => ?_)
        · replace hf := ob_f hf c4
          refine lv_iload_n hx hb dX2_rank_40 rfl (lv_at hl 0 rfl) ?_
          refine lv_bipush (v := 10) hx hb dX2_rank_41 (by decide) ?_
          refine lv_icmp_lt (tgt := 50) hx hb dX2_rank_43 (by decide) (fun c5 => ?_) (fun c5 => ?_)
          · replace hf := ob_t hf c5
            refine lv_iload_n hx hb dX2_rank_50 rfl (lv_at hl 0 rfl) ?_
            refine lv_iconst (v := 5) hx hb dX2_rank_51 (by decide) ?_
            have kj65 : ∀ (H : Heap) (locs : List Loc) (ls : Array Slot), M_rank_j65 = some res → va_P D clM (wl shM 19 dA E w) H → va_S (AE 19 E) s.heap H locs → lv_has ls 1 [] → W p l e rmX2_rank s m args below meth c H locs 0 0 Q (F0 m 65 ls []) := by
              intro H locs ls hf hP hS hl
              unfold M_rank_j65 at hf
              refine lv_bipush (v := 7) hx hb dX2_rank_65 (by decide) ?_
              refine lv_goto (tgt := 82) hx hb dX2_rank_67 (by decide) ?_
              obtain rfl := ob_s hf
              subst hQ
              exact xe_i hx hb hr hlocks hP hS dX2_rank_82
            refine lv_icmp_eq (tgt := 65) hx hb dX2_rank_52 (by decide) (fun c6 => ?_) (fun c6 => ?_)
            · replace hf := ob_t hf c6
              exact kj65 H locs ls hf hP hS (lv_sub hl [] rfl)
            · replace hf := ob_f hf c6
              refine lv_iload_n hx hb dX2_rank_55 rfl (lv_at hl 0 rfl) ?_
              refine lv_iconst (v := 2) hx hb dX2_rank_56 (by decide) ?_
              refine lv_icmp_eq (tgt := 65) hx hb dX2_rank_57 (by decide) (fun c7 => ?_) (fun c7 => ?_)
              · replace hf := ob_t hf c7
                exact kj65 H locs ls hf hP hS (lv_sub hl [] rfl)
              · replace hf := ob_f hf c7
                refine lv_iload_n hx hb dX2_rank_60 rfl (lv_at hl 0 rfl) ?_
                refine lv_iconst (v := 4) hx hb dX2_rank_61 (by decide) ?_
                refine lv_icmp_ne (tgt := 70) hx hb dX2_rank_62 (by decide) (fun c8 => ?_) (fun c8 => ?_)
                · replace hf := ob_f hf c8
                  refine lv_iload_n hx hb dX2_rank_70 rfl (lv_at hl 0 rfl) ?_
                  refine lv_bipush (v := 8) hx hb dX2_rank_71 (by decide) ?_
                  refine lv_icmp_lt (tgt := 81) hx hb dX2_rank_73 (by decide) (fun c9 => ?_) (fun c9 => ?_)
                  · replace hf := ob_t hf c9
                    refine lv_iconst (v := 5) hx hb dX2_rank_81 (by decide) ?_
                    obtain rfl := ob_s hf
                    subst hQ
                    exact xe_i hx hb hr hlocks hP hS dX2_rank_82
                  · replace hf := ob_f hf c9
                    refine lv_bipush (v := 6) hx hb dX2_rank_76 (by decide) ?_
                    refine lv_goto (tgt := 82) hx hb dX2_rank_78 (by decide) ?_
                    obtain rfl := ob_s hf
                    subst hQ
                    exact xe_i hx hb hr hlocks hP hS dX2_rank_82
                · replace hf := ob_t hf c8
                  exact kj65 H locs ls hf hP hS (lv_sub hl [] rfl)
          · replace hf := ob_f hf c5
            refine lv_iconst (v := 4) hx hb dX2_rank_46 (by decide) ?_
            refine lv_goto (tgt := 82) hx hb dX2_rank_47 (by decide) ?_
            obtain rfl := ob_s hf
            subst hQ
            exact xe_i hx hb hr hlocks hP hS dX2_rank_82
        · replace hf := ob_t hf c4
          refine lv_iconst (v := 3) hx hb dX2_rank_36 (by decide) ?_
          refine lv_goto (tgt := 82) hx hb dX2_rank_37 (by decide) ?_
          obtain rfl := ob_s hf
          subst hQ
          exact xe_i hx hb hr hlocks hP hS dX2_rank_82
      · replace hf := ob_t hf c3
        refine lv_iconst (v := 2) hx hb dX2_rank_26 (by decide) ?_
        refine lv_goto (tgt := 82) hx hb dX2_rank_27 (by decide) ?_
        obtain rfl := ob_s hf
        subst hQ
        exact xe_i hx hb hr hlocks hP hS dX2_rank_82
    · replace hf := ob_t hf c2
      refine lv_iconst (v := 1) hx hb dX2_rank_16 (by decide) ?_
      refine lv_goto (tgt := 82) hx hb dX2_rank_17 (by decide) ?_
      obtain rfl := ob_s hf
      subst hQ
      exact xe_i hx hb hr hlocks hP hS dX2_rank_82
  · replace hf := ob_f hf c1
    refine lv_iconst (v := 0) hx hb dX2_rank_6 (by decide) ?_
    refine lv_goto (tgt := 82) hx hb dX2_rank_7 (by decide) ?_
    obtain rfl := ob_s hf
    subst hQ
    exact xe_i hx hb hr hlocks hP hS dX2_rank_82
abbrev rmX2_isCompared : Room := { frames := 1, cells := 0, slots := 0, locals := 20 }
theorem cdX2_isCompared : yX2_isCompared.cls = RX2 ∧ yX2_isCompared.cls ≠ "java/lang/invoke/MethodHandle" ∧ yX2_isCompared.cls ≠ "java/lang/invoke/VarHandle" ∧ (parseMethodDescriptor yX2_isCompared.desc).map (fun d => d.parameters.length) = some 0 := by decide +kernel
set_option maxHeartbeats 4000000 in
set_option maxRecDepth 100000 in
theorem wkX2_isCompared (l : Launch) (D : va_G) (dA : Nat → ClassId) (E : Nat → Nat) (hE : wInj 19 E) (w : Mm)  {res : Int32} (hf : M_isCompared w = some res) : Met l yX2_isCompared (ws_ yX2_isCompared cX2_isCompared 2 (some .boolean)) rmX2_isCompared (Pw D clM (tyM dA) shM 19 dA E [.ref (E 0)] w) (Qwz D clM shM 19 dA E res w) 0 0 (AE 19 E) := by
  refine xm_head (own := RX2) (by decide) rfl (Nat.le_of_ble_eq_true rfl) ?_
  intro p e s m args below meth c ls Q hQ C hP hl
  obtain ⟨hx, hb, hr, hlocks, hml, hown, hts, hK⟩ := C
  replace hl : lv_has ls 2 [(0, .ref (E 0))] := hl
  have hS : va_S (AE 19 E) s.heap s.heap [] := va_S.rf
  have hD : wD 19 E (AE 19 E) := wD.self hE
  unfold M_isCompared at hf
  obtain ⟨H, eH⟩ : ∃ H, H = s.heap := ⟨_, rfl⟩
  obtain ⟨locs, eL⟩ : ∃ locs : List Loc, locs = [] := ⟨_, rfl⟩
  rw [← eL] at hS ⊢
  rw [← eH] at hP
  have hS : va_S (AE 19 E) s.heap H locs := by rw [eH]; exact hS
  show W p l e rmX2_isCompared s m args below meth c s.heap locs 0 0 Q (F0 m 0 ls [])
  rw [← eH]
  refine lv_aload_n hx hb dX2_isCompared_0 rfl (lv_at hl 0 rfl) ?_
  refine xr_get hx hb hts in_X2 hown hK hP 0 (by decide) rfl rfl 16 (by decide) (hts _ q1421) (fun _ h => h) rfl (v := .int (w.1 0 16)) rfl dX2_isCompared_1 ?_
  refine lv_iconst (v := 1) hx hb dX2_isCompared_4 (by decide) ?_
  refine lv_isub hx hb dX2_isCompared_5 ?_
  obtain ⟨v1_1, ev1_1, hf⟩ := ob_bnd hf
  refine xn_i ev1_1 ?_
  refine lv_istore_n (lv' := [(1, .int v1_1), (0, .ref (E 0))]) hx hb dX2_isCompared_6 rfl hl (by decide) rfl (fun ls hl => ?_)
  obtain ⟨b3, hb3, hf⟩ := ob_bind hf
  obtain ⟨n3, hn3⟩ := lp_some hb3
  have kL7 : ∀ (n : Nat) (v1_2 : Int32), lpF (fun (q3 : Int32) => M_isCompared_b7 w q3) n v1_2 = some b3 → (∀ (H : Heap) (locs : List Loc) (ls : Array Slot), va_P D clM (wl shM 19 dA E w) H → va_S (AE 19 E) s.heap H locs → lv_has ls 2 [(0, .ref (E 0)), (1, .int b3)] → W p l e rmX2_isCompared s m args below meth c H locs 0 0 Q (F0 m 30 ls [])) → ∀ (H : Heap) (locs : List Loc) (ls : Array Slot), va_P D clM (wl shM 19 dA E w) H → va_S (AE 19 E) s.heap H locs → lv_has ls 2 [(0, .ref (E 0)), (1, .int v1_2)] → W p l e rmX2_isCompared s m args below meth c H locs 0 0 Q (F0 m 7 ls []) := by
    intro n
    induction n with
    | zero =>
      intro v1_2 h
      cases h
    | succ n ih =>
      intro v1_2 h K3_0 H locs ls hP hS hl
      obtain ⟨r3, hf, h3a, h3b⟩ := lpF_step h
      replace hf : M_isCompared_b7 w v1_2 = some r3 := hf
      unfold M_isCompared_b7 at hf
      refine lv_iload_n hx hb dX2_isCompared_7 rfl (lv_at hl 1 rfl) ?_
      refine lv_if_lt (tgt := 30) hx hb dX2_isCompared_8 (by decide) (fun c4 => ?_) (fun c4 => ?_)
      · replace hf := ob_t hf c4
        obtain rfl := ob_s hf
        obtain rfl := h3b _ rfl
        exact K3_0 H locs ls hP hS (lv_sub hl [0, 1] rfl)
      · replace hf := ob_f hf c4
        refine lv_aload_n hx hb dX2_isCompared_11 rfl (lv_at hl 0 rfl) ?_
        refine xr_get hx hb hts in_X2 hown hK hP 0 (by decide) rfl rfl 15 (by decide) (hts _ q1420) (fun _ h => h) rfl (v := .ref (E 5)) rfl dX2_isCompared_12 ?_
        refine lv_iload_n hx hb dX2_isCompared_15 rfl (lv_at hl 1 rfl) ?_
        obtain ⟨h5, hf⟩ := ob_gd hf
        refine xr_iald hx hb hK hP 5 (by decide) rfl 0 rfl (j := v1_2.toNatClampNeg) h5 rfl dX2_isCompared_16 ?_
        obtain ⟨q7, g6, hf⟩ := ob_bind hf
        refine xc_i (xw_runS (As := [.int (w.1 5 v1_2.toNatClampNeg)]) (rest := []) ⟨hx, hb, hml, hown, hts⟩ (wkX2_rank l D dA E hE w (w.1 5 v1_2.toNatClampNeg) g6) (va_cwS 1 hts (lw_S q1670 q1671 q140 q1672) rfl rfl rfl cdX2_rank.2 ⟨Nat.le_of_ble_eq_true rfl, Nat.le_of_ble_eq_true rfl⟩) hK hP hl.1 rfl rfl (Nat.le_of_ble_eq_true rfl) dX2_isCompared_17 ⟨Nat.zero_le _, Nat.zero_le _⟩) hS hD.2 (fun H locs hP hS => ?_)
        refine lv_iconst (v := 4) hx hb dX2_isCompared_20 (by decide) ?_
        refine lv_icmp_le (tgt := 30) hx hb dX2_isCompared_21 (by decide) (fun c8 => ?_) (fun c8 => ?_)
        · replace hf := ob_t hf c8
          obtain rfl := ob_s hf
          obtain rfl := h3b _ rfl
          exact K3_0 H locs ls hP hS (lv_sub hl [0, 1] rfl)
        · replace hf := ob_f hf c8
          obtain ⟨v1_9, ev1_9, hf⟩ := ob_bnd hf
          refine lv_iinc (v := v1_9) (lv' := [(1, .int v1_9), (0, .ref (E 0))]) hx hb dX2_isCompared_24 hl (k := 1) rfl (by rw [ev1_9]; rfl) (by decide) rfl (fun ls hl => ?_)
          refine lv_goto (tgt := 7) hx hb dX2_isCompared_27 (by decide) ?_
          obtain rfl := ob_s hf
          exact ih _ (h3a _ rfl) K3_0 H locs ls hP hS (lv_sub hl [1, 0] rfl)
  refine kL7 n3 v1_1 hn3 (fun H locs ls hP hS hl => ?_) H locs ls hP hS (lv_sub hl [1, 0] rfl)
  replace hf : M_isCompared_x7_30 b3 w = some res := hf
  unfold M_isCompared_x7_30 at hf
  refine lv_iload_n hx hb dX2_isCompared_30 rfl (lv_at hl 1 rfl) ?_
  refine lv_if_lt (tgt := 51) hx hb dX2_isCompared_31 (by decide) (fun c10 => ?_) (fun c10 => ?_)
  · replace hf := ob_t hf c10
    refine lv_iconst (v := 0) hx hb dX2_isCompared_51 (by decide) ?_
    obtain rfl := ob_s hf
    subst hQ
    exact xe_z hx hb hr hlocks hP hS (Or.inl rfl) dX2_isCompared_52
  · replace hf := ob_f hf c10
    refine lv_aload_n hx hb dX2_isCompared_34 rfl (lv_at hl 0 rfl) ?_
    refine xr_get hx hb hts in_X2 hown hK hP 0 (by decide) rfl rfl 15 (by decide) (hts _ q1420) (fun _ h => h) rfl (v := .ref (E 5)) rfl dX2_isCompared_35 ?_
    refine lv_iload_n hx hb dX2_isCompared_38 rfl (lv_at hl 1 rfl) ?_
    obtain ⟨h11, hf⟩ := ob_gd hf
    refine xr_iald hx hb hK hP 5 (by decide) rfl 0 rfl (j := b3.toNatClampNeg) h11 rfl dX2_isCompared_39 ?_
    obtain ⟨q13, g12, hf⟩ := ob_bind hf
    refine xc_i (xw_runS (As := [.int (w.1 5 b3.toNatClampNeg)]) (rest := []) ⟨hx, hb, hml, hown, hts⟩ (wkX2_rank l D dA E hE w (w.1 5 b3.toNatClampNeg) g12) (va_cwS 1 hts (lw_S q1670 q1671 q140 q1672) rfl rfl rfl cdX2_rank.2 ⟨Nat.le_of_ble_eq_true rfl, Nat.le_of_ble_eq_true rfl⟩) hK hP hl.1 rfl rfl (Nat.le_of_ble_eq_true rfl) dX2_isCompared_40 ⟨Nat.zero_le _, Nat.zero_le _⟩) hS hD.2 (fun H locs hP hS => ?_)
    refine lv_iconst (v := 4) hx hb dX2_isCompared_43 (by decide) ?_
    refine lv_icmp_ne (tgt := 51) hx hb dX2_isCompared_44 (by decide) (fun c14 => ?_) (fun c14 => ?_)
    · replace hf := ob_f hf c14
      refine lv_iconst (v := 0) hx hb dX2_isCompared_51 (by decide) ?_
      obtain rfl := ob_s hf
      subst hQ
      exact xe_z hx hb hr hlocks hP hS (Or.inl rfl) dX2_isCompared_52
    · replace hf := ob_t hf c14
      refine lv_iconst (v := 1) hx hb dX2_isCompared_47 (by decide) ?_
      refine lv_goto (tgt := 52) hx hb dX2_isCompared_48 (by decide) ?_
      obtain rfl := ob_s hf
      subst hQ
      exact xe_z hx hb hr hlocks hP hS (Or.inr rfl) dX2_isCompared_52
abbrev rmX2_compareOf : Room := { frames := 0, cells := 0, slots := 0, locals := 0 }
theorem cdX2_compareOf : yX2_compareOf.cls = RX2 ∧ yX2_compareOf.cls ≠ "java/lang/invoke/MethodHandle" ∧ yX2_compareOf.cls ≠ "java/lang/invoke/VarHandle" ∧ (parseMethodDescriptor yX2_compareOf.desc).map (fun d => d.parameters.length) = some 0 := by decide +kernel
set_option maxHeartbeats 4000000 in
set_option maxRecDepth 100000 in
theorem wkX2_compareOf (l : Launch) (D : va_G) (dA : Nat → ClassId) (E : Nat → Nat) (hE : wInj 19 E) (w : Mm)  {res : Int32} (hf : M_compareOf w = some res) : Met l yX2_compareOf (ws_ yX2_compareOf cX2_compareOf 1 (some .int)) rmX2_compareOf (Pw D clM (tyM dA) shM 19 dA E [.ref (E 0)] w) (Qwi D clM shM 19 dA E res w) 0 0 (AE 19 E) := by
  refine xm_head (own := RX2) (by decide) rfl (Nat.le_of_ble_eq_true rfl) ?_
  intro p e s m args below meth c ls Q hQ C hP hl
  obtain ⟨hx, hb, hr, hlocks, hml, hown, hts, hK⟩ := C
  replace hl : lv_has ls 1 [(0, .ref (E 0))] := hl
  have hS : va_S (AE 19 E) s.heap s.heap [] := va_S.rf
  have hD : wD 19 E (AE 19 E) := wD.self hE
  unfold M_compareOf at hf
  obtain ⟨H, eH⟩ : ∃ H, H = s.heap := ⟨_, rfl⟩
  obtain ⟨locs, eL⟩ : ∃ locs : List Loc, locs = [] := ⟨_, rfl⟩
  rw [← eL] at hS ⊢
  rw [← eH] at hP
  have hS : va_S (AE 19 E) s.heap H locs := by rw [eH]; exact hS
  show W p l e rmX2_compareOf s m args below meth c s.heap locs 0 0 Q (F0 m 0 ls [])
  rw [← eH]
  refine lv_aload_n hx hb dX2_compareOf_0 rfl (lv_at hl 0 rfl) ?_
  refine xr_get hx hb hts in_X2 hown hK hP 0 (by decide) rfl rfl 9 (by decide) (hts _ q1414) (fun _ h => h) rfl (v := .int (w.1 0 9)) rfl dX2_compareOf_1 ?_
  refine lv_bipush (v := 60) hx hb dX2_compareOf_4 (by decide) ?_
  refine lv_icmp_ne (tgt := 14) hx hb dX2_compareOf_6 (by decide) (fun c1 => ?_) (fun c1 => ?_)
  · replace hf := ob_f hf c1
    refine lv_aload_n hx hb dX2_compareOf_14 rfl (lv_at hl 0 rfl) ?_
    refine xr_get hx hb hts in_X2 hown hK hP 0 (by decide) rfl rfl 9 (by decide) (hts _ q1414) (fun _ h => h) rfl (v := .int (w.1 0 9)) rfl dX2_compareOf_15 ?_
    refine lv_iconst (v := 4) hx hb dX2_compareOf_18 (by decide) ?_
    refine lv_icmp_ne (tgt := 27) hx hb dX2_compareOf_19 (by decide) (fun c2 => ?_) (fun c2 => ?_)
    · replace hf := ob_f hf c2
      refine lv_aload_n hx hb dX2_compareOf_27 rfl (lv_at hl 0 rfl) ?_
      refine xr_get hx hb hts in_X2 hown hK hP 0 (by decide) rfl rfl 9 (by decide) (hts _ q1414) (fun _ h => h) rfl (v := .int (w.1 0 9)) rfl dX2_compareOf_28 ?_
      refine lv_bipush (v := 62) hx hb dX2_compareOf_31 (by decide) ?_
      refine lv_icmp_ne (tgt := 41) hx hb dX2_compareOf_33 (by decide) (fun c3 => ?_) (fun c3 => ?_)
      · replace hf := ob_f hf c3
        refine lv_aload_n hx hb dX2_compareOf_41 rfl (lv_at hl 0 rfl) ?_
        refine xr_get hx hb hts in_X2 hown hK hP 0 (by decide) rfl rfl 9 (by decide) (hts _ q1414) (fun _ h => h) rfl (v := .int (w.1 0 9)) rfl dX2_compareOf_42 ?_
        refine lv_iconst (v := 5) hx hb dX2_compareOf_45 (by decide) ?_
        refine lv_icmp_ne (tgt := 54) hx hb dX2_compareOf_46 (by decide) (fun c4 => ?_) (fun c4 => ?_)
        · replace hf := ob_f hf c4
          refine lv_aload_n hx hb dX2_compareOf_54 rfl (lv_at hl 0 rfl) ?_
          refine xr_get hx hb hts in_X2 hown hK hP 0 (by decide) rfl rfl 9 (by decide) (hts _ q1414) (fun _ h => h) rfl (v := .int (w.1 0 9)) rfl dX2_compareOf_55 ?_
          refine lv_bipush (v := 61) hx hb dX2_compareOf_58 (by decide) ?_
          refine lv_icmp_ne (tgt := 68) hx hb dX2_compareOf_60 (by decide) (fun c5 => ?_) (fun c5 => ?_)
          · replace hf := ob_f hf c5
            refine lv_aload_n hx hb dX2_compareOf_68 rfl (lv_at hl 0 rfl) ?_
            refine xr_get hx hb hts in_X2 hown hK hP 0 (by decide) rfl rfl 9 (by decide) (hts _ q1414) (fun _ h => h) rfl (v := .int (w.1 0 9)) rfl dX2_compareOf_69 ?_
            refine lv_bipush (v := 35) hx hb dX2_compareOf_72 (by decide) ?_
            refine lv_icmp_ne (tgt := 82) hx hb dX2_compareOf_74 (by decide) (fun c6 => ?_) (fun c6 => ?_)
            · replace hf := ob_f hf c6
              refine lv_iconst (v := (-1)) hx hb dX2_compareOf_82 (by decide) ?_
              obtain rfl := ob_s hf
              subst hQ
              exact xe_i hx hb hr hlocks hP hS dX2_compareOf_83
            · replace hf := ob_t hf c6
              refine lv_bipush (v := 15) hx hb dX2_compareOf_77 (by decide) ?_
              refine lv_goto (tgt := 83) hx hb dX2_compareOf_79 (by decide) ?_
              obtain rfl := ob_s hf
              subst hQ
              exact xe_i hx hb hr hlocks hP hS dX2_compareOf_83
          · replace hf := ob_t hf c5
            refine lv_bipush (v := 14) hx hb dX2_compareOf_63 (by decide) ?_
            refine lv_goto (tgt := 83) hx hb dX2_compareOf_65 (by decide) ?_
            obtain rfl := ob_s hf
            subst hQ
            exact xe_i hx hb hr hlocks hP hS dX2_compareOf_83
        · replace hf := ob_t hf c4
          refine lv_bipush (v := 13) hx hb dX2_compareOf_49 (by decide) ?_
          refine lv_goto (tgt := 83) hx hb dX2_compareOf_51 (by decide) ?_
          obtain rfl := ob_s hf
          subst hQ
          exact xe_i hx hb hr hlocks hP hS dX2_compareOf_83
      · replace hf := ob_t hf c3
        refine lv_bipush (v := 12) hx hb dX2_compareOf_36 (by decide) ?_
        refine lv_goto (tgt := 83) hx hb dX2_compareOf_38 (by decide) ?_
        obtain rfl := ob_s hf
        subst hQ
        exact xe_i hx hb hr hlocks hP hS dX2_compareOf_83
    · replace hf := ob_t hf c2
      refine lv_bipush (v := 11) hx hb dX2_compareOf_22 (by decide) ?_
      refine lv_goto (tgt := 83) hx hb dX2_compareOf_24 (by decide) ?_
      obtain rfl := ob_s hf
      subst hQ
      exact xe_i hx hb hr hlocks hP hS dX2_compareOf_83
  · replace hf := ob_t hf c1
    refine lv_bipush (v := 10) hx hb dX2_compareOf_9 (by decide) ?_
    refine lv_goto (tgt := 83) hx hb dX2_compareOf_11 (by decide) ?_
    obtain rfl := ob_s hf
    subst hQ
    exact xe_i hx hb hr hlocks hP hS dX2_compareOf_83
abbrev rmX2_betweenOf : Room := { frames := 2, cells := 0, slots := 0, locals := 43 }
theorem cdX2_betweenOf : yX2_betweenOf.cls = RX2 ∧ yX2_betweenOf.cls ≠ "java/lang/invoke/MethodHandle" ∧ yX2_betweenOf.cls ≠ "java/lang/invoke/VarHandle" ∧ (parseMethodDescriptor yX2_betweenOf.desc).map (fun d => d.parameters.length) = some 0 := by decide +kernel
set_option maxHeartbeats 4000000 in
set_option maxRecDepth 100000 in
theorem wkX2_betweenOf (l : Launch) (D : va_G) (dA : Nat → ClassId) (E : Nat → Nat) (hE : wInj 19 E) (w : Mm)  {res : Int32} (hf : M_betweenOf w = some res) : Met l yX2_betweenOf (ws_ yX2_betweenOf cX2_betweenOf 1 (some .int)) rmX2_betweenOf (Pw D clM (tyM dA) shM 19 dA E [.ref (E 0)] w) (Qwi D clM shM 19 dA E res w) 0 0 (AE 19 E) := by
  refine xm_head (own := RX2) (by decide) rfl (Nat.le_of_ble_eq_true rfl) ?_
  intro p e s m args below meth c ls Q hQ C hP hl
  obtain ⟨hx, hb, hr, hlocks, hml, hown, hts, hK⟩ := C
  replace hl : lv_has ls 1 [(0, .ref (E 0))] := hl
  have hS : va_S (AE 19 E) s.heap s.heap [] := va_S.rf
  have hD : wD 19 E (AE 19 E) := wD.self hE
  unfold M_betweenOf at hf
  obtain ⟨H, eH⟩ : ∃ H, H = s.heap := ⟨_, rfl⟩
  obtain ⟨locs, eL⟩ : ∃ locs : List Loc, locs = [] := ⟨_, rfl⟩
  rw [← eL] at hS ⊢
  rw [← eH] at hP
  have hS : va_S (AE 19 E) s.heap H locs := by rw [eH]; exact hS
  show W p l e rmX2_betweenOf s m args below meth c s.heap locs 0 0 Q (F0 m 0 ls [])
  rw [← eH]
  refine lv_aload_n hx hb dX2_betweenOf_0 rfl (lv_at hl 0 rfl) ?_
  refine xr_get hx hb hts in_X2 hown hK hP 0 (by decide) rfl rfl 9 (by decide) (hts _ q1414) (fun _ h => h) rfl (v := .int (w.1 0 9)) rfl dX2_betweenOf_1 ?_
  refine lv_bipush (v := 43) hx hb dX2_betweenOf_4 (by decide) ?_
  refine lv_icmp_ne (tgt := 12) hx hb dX2_betweenOf_6 (by decide) (fun c1 => ?_) (fun c1 => ?_)
  · replace hf := ob_f hf c1
    refine lv_aload_n hx hb dX2_betweenOf_12 rfl (lv_at hl 0 rfl) ?_
    refine xr_get hx hb hts in_X2 hown hK hP 0 (by decide) rfl rfl 9 (by decide) (hts _ q1414) (fun _ h => h) rfl (v := .int (w.1 0 9)) rfl dX2_betweenOf_13 ?_
    refine lv_bipush (v := 45) hx hb dX2_betweenOf_16 (by decide) ?_
    refine lv_icmp_ne (tgt := 24) hx hb dX2_betweenOf_18 (by decide) (fun c2 => ?_) (fun c2 => ?_)
    · replace hf := ob_f hf c2
      refine lv_aload_n hx hb dX2_betweenOf_24 rfl (lv_at hl 0 rfl) ?_
      refine xr_get hx hb hts in_X2 hown hK hP 0 (by decide) rfl rfl 9 (by decide) (hts _ q1414) (fun _ h => h) rfl (v := .int (w.1 0 9)) rfl dX2_betweenOf_25 ?_
      refine lv_bipush (v := 42) hx hb dX2_betweenOf_28 (by decide) ?_
      refine lv_icmp_ne (tgt := 36) hx hb dX2_betweenOf_30 (by decide) (fun c3 => ?_) (fun c3 => ?_)
      · replace hf := ob_f hf c3
        refine lv_aload_n hx hb dX2_betweenOf_36 rfl (lv_at hl 0 rfl) ?_
        refine xr_get hx hb hts in_X2 hown hK hP 0 (by decide) rfl rfl 9 (by decide) (hts _ q1414) (fun _ h => h) rfl (v := .int (w.1 0 9)) rfl dX2_betweenOf_37 ?_
        refine lv_bipush (v := 47) hx hb dX2_betweenOf_40 (by decide) ?_
        refine lv_icmp_ne (tgt := 48) hx hb dX2_betweenOf_42 (by decide) (fun c4 => ?_) (fun c4 => ?_)
        · replace hf := ob_f hf c4
          refine lv_aload_n hx hb dX2_betweenOf_48 rfl (lv_at hl 0 rfl) ?_
          obtain ⟨q6, g5, hf⟩ := ob_bind hf
          refine xc_i (xw_run (As := []) (rest := []) ⟨hx, hb, hml, hown, hts⟩ (k0 := 0) (wkX2_openNow l D dA E hE w g5) (cwV 0 hts (lw_V q1658 q1660 qs78 q140 q1661) rfl rfl rfl cdX2_openNow ⟨Nat.le_of_ble_eq_true rfl, Nat.le_of_ble_eq_true rfl⟩) hK hP (by decide) rfl rfl rfl hl.1 rfl rfl (Nat.le_of_ble_eq_true rfl) dX2_betweenOf_49 ⟨Nat.zero_le _, Nat.zero_le _⟩) hS hD.2 (fun H locs hP hS => ?_)
          refine lv_bipush (v := 42) hx hb dX2_betweenOf_52 (by decide) ?_
          refine lv_icmp_eq (tgt := 59) hx hb dX2_betweenOf_54 (by decide) (fun c7 => ?_) (fun c7 => ?_)
          · replace hf := ob_t hf c7
            refine lv_aload_n hx hb dX2_betweenOf_59 rfl (lv_at hl 0 rfl) ?_
            obtain ⟨q9, g8, hf⟩ := ob_bind hf
            refine xc_z (xw_run (As := []) (rest := []) ⟨hx, hb, hml, hown, hts⟩ (k0 := 0) (wkX2_isCompared l D dA E hE w g8) (cwV 0 hts (lw_V q1666 q1668 qs80 q140 q1669) rfl rfl rfl cdX2_isCompared ⟨Nat.le_of_ble_eq_true rfl, Nat.le_of_ble_eq_true rfl⟩) hK hP (by decide) rfl rfl rfl hl.1 rfl rfl (Nat.le_of_ble_eq_true rfl) dX2_betweenOf_60 ⟨Nat.zero_le _, Nat.zero_le _⟩) hS hD.2 (fun H locs zq9 hP hS => ?_)
            refine lv_if_ne (tgt := 71) hx hb dX2_betweenOf_63 (by decide) (fun c10 => ?_) (fun c10 => ?_)
            · replace hf := ob_f hf c10
              refine lv_aload_n hx hb dX2_betweenOf_71 rfl (lv_at hl 0 rfl) ?_
              refine lv_bipush (v := 97) hx hb dX2_betweenOf_72 (by decide) ?_
              refine lv_bipush (v := 110) hx hb dX2_betweenOf_74 (by decide) ?_
              refine lv_bipush (v := 100) hx hb dX2_betweenOf_76 (by decide) ?_
              obtain ⟨q12, g11, hf⟩ := ob_bind hf
              refine xc_l (xw_runS (As := [.int 97, .int 110, .int 100]) (rest := [.ref (E 0)]) ⟨hx, hb, hml, hown, hts⟩ (wkX2_w3 l D dA E hE w 97 110 100 g11) (va_cwS 3 hts (lw_S q1603 q1604 q140 q1605) rfl rfl rfl cdX2_w3.2 ⟨Nat.le_of_ble_eq_true rfl, Nat.le_of_ble_eq_true rfl⟩) hK hP hl.1 rfl rfl (Nat.le_of_ble_eq_true rfl) dX2_betweenOf_78 ⟨Nat.zero_le _, Nat.zero_le _⟩) hS hD.2 (fun H locs hP hS => ?_)
              obtain ⟨q14, g13, hf⟩ := ob_bind hf
              refine xc_z (xw_run (As := [.long q12]) (rest := []) ⟨hx, hb, hml, hown, hts⟩ (k0 := 0) (wkX2_isWord l D dA E hE w q12 g13) (cwV 1 hts (lw_V q1609 q1611 qs68 q140 q1612) rfl rfl rfl cdX2_isWord ⟨Nat.le_of_ble_eq_true rfl, Nat.le_of_ble_eq_true rfl⟩) hK hP (by decide) rfl rfl rfl hl.1 rfl rfl (Nat.le_of_ble_eq_true rfl) dX2_betweenOf_81 ⟨Nat.zero_le _, Nat.zero_le _⟩) hS hD.2 (fun H locs zq14 hP hS => ?_)
              refine lv_if_eq (tgt := 92) hx hb dX2_betweenOf_84 (by decide) (fun c15 => ?_) (fun c15 => ?_)
              · replace hf := ob_t hf c15
                refine lv_aload_n hx hb dX2_betweenOf_92 rfl (lv_at hl 0 rfl) ?_
                refine lv_bipush (v := 111) hx hb dX2_betweenOf_93 (by decide) ?_
                refine lv_bipush (v := 114) hx hb dX2_betweenOf_95 (by decide) ?_
                obtain ⟨q17, g16, hf⟩ := ob_bind hf
                refine xc_l (xw_runS (As := [.int 111, .int 114]) (rest := [.ref (E 0)]) ⟨hx, hb, hml, hown, hts⟩ (wkX2_w2 l D dA E hE w 111 114 g16) (va_cwS 2 hts (lw_S q1606 q1607 q140 q1608) rfl rfl rfl cdX2_w2.2 ⟨Nat.le_of_ble_eq_true rfl, Nat.le_of_ble_eq_true rfl⟩) hK hP hl.1 rfl rfl (Nat.le_of_ble_eq_true rfl) dX2_betweenOf_97 ⟨Nat.zero_le _, Nat.zero_le _⟩) hS hD.2 (fun H locs hP hS => ?_)
                obtain ⟨q19, g18, hf⟩ := ob_bind hf
                refine xc_z (xw_run (As := [.long q17]) (rest := []) ⟨hx, hb, hml, hown, hts⟩ (k0 := 0) (wkX2_isWord l D dA E hE w q17 g18) (cwV 1 hts (lw_V q1609 q1611 qs68 q140 q1612) rfl rfl rfl cdX2_isWord ⟨Nat.le_of_ble_eq_true rfl, Nat.le_of_ble_eq_true rfl⟩) hK hP (by decide) rfl rfl rfl hl.1 rfl rfl (Nat.le_of_ble_eq_true rfl) dX2_betweenOf_100 ⟨Nat.zero_le _, Nat.zero_le _⟩) hS hD.2 (fun H locs zq19 hP hS => ?_)
                refine lv_if_eq (tgt := 111) hx hb dX2_betweenOf_103 (by decide) (fun c20 => ?_) (fun c20 => ?_)
                · replace hf := ob_t hf c20
                  refine lv_iconst (v := (-1)) hx hb dX2_betweenOf_111 (by decide) ?_
                  obtain rfl := ob_s hf
                  subst hQ
                  exact xe_i hx hb hr hlocks hP hS dX2_betweenOf_112
                · replace hf := ob_f hf c20
                  refine lv_bipush (v := 22) hx hb dX2_betweenOf_106 (by decide) ?_
                  refine lv_goto (tgt := 112) hx hb dX2_betweenOf_108 (by decide) ?_
                  obtain rfl := ob_s hf
                  subst hQ
                  exact xe_i hx hb hr hlocks hP hS dX2_betweenOf_112
              · replace hf := ob_f hf c15
                refine lv_bipush (v := 21) hx hb dX2_betweenOf_87 (by decide) ?_
                refine lv_goto (tgt := 112) hx hb dX2_betweenOf_89 (by decide) ?_
                obtain rfl := ob_s hf
                subst hQ
                exact xe_i hx hb hr hlocks hP hS dX2_betweenOf_112
            · replace hf := ob_t hf c10
              refine lv_aload_n hx hb dX2_betweenOf_66 rfl (lv_at hl 0 rfl) ?_
              obtain ⟨q22, g21, hf⟩ := ob_bind hf
              refine xc_i (xw_run (As := []) (rest := []) ⟨hx, hb, hml, hown, hts⟩ (k0 := 0) (wkX2_compareOf l D dA E hE w g21) (cwV 0 hts (lw_V q1673 q1675 qs81 q140 q1676) rfl rfl rfl cdX2_compareOf ⟨Nat.le_of_ble_eq_true rfl, Nat.le_of_ble_eq_true rfl⟩) hK hP (by decide) rfl rfl rfl hl.1 rfl rfl (Nat.le_of_ble_eq_true rfl) dX2_betweenOf_67 ⟨Nat.zero_le _, Nat.zero_le _⟩) hS hD.2 (fun H locs hP hS => ?_)
              obtain rfl := ob_s hf
              subst hQ
              exact xe_i hx hb hr hlocks hP hS dX2_betweenOf_70
          · replace hf := ob_f hf c7
            refine lv_iconst (v := (-1)) hx hb dX2_betweenOf_57 (by decide) ?_
            obtain rfl := ob_s hf
            subst hQ
            exact xe_i hx hb hr hlocks hP hS dX2_betweenOf_58
        · replace hf := ob_t hf c4
          refine lv_bipush (v := 9) hx hb dX2_betweenOf_45 (by decide) ?_
          obtain rfl := ob_s hf
          subst hQ
          exact xe_i hx hb hr hlocks hP hS dX2_betweenOf_47
      · replace hf := ob_t hf c3
        refine lv_bipush (v := 8) hx hb dX2_betweenOf_33 (by decide) ?_
        obtain rfl := ob_s hf
        subst hQ
        exact xe_i hx hb hr hlocks hP hS dX2_betweenOf_35
    · replace hf := ob_t hf c2
      refine lv_bipush (v := 7) hx hb dX2_betweenOf_21 (by decide) ?_
      obtain rfl := ob_s hf
      subst hQ
      exact xe_i hx hb hr hlocks hP hS dX2_betweenOf_23
  · replace hf := ob_t hf c1
    refine lv_bipush (v := 6) hx hb dX2_betweenOf_9 (by decide) ?_
    obtain rfl := ob_s hf
    subst hQ
    exact xe_i hx hb hr hlocks hP hS dX2_betweenOf_11
abbrev rmX2_emit : Room := { frames := 0, cells := 0, slots := 0, locals := 0 }
theorem cdX2_emit : yX2_emit.cls = RX2 ∧ yX2_emit.cls ≠ "java/lang/invoke/MethodHandle" ∧ yX2_emit.cls ≠ "java/lang/invoke/VarHandle" ∧ (parseMethodDescriptor yX2_emit.desc).map (fun d => d.parameters.length) = some 2 := by decide +kernel
set_option maxHeartbeats 4000000 in
set_option maxRecDepth 100000 in
theorem wkX2_emit (l : Launch) (D : va_G) (dA : Nat → ClassId) (E : Nat → Nat) (hE : wInj 19 E) (w : Mm) (a1 : Int32) (a2 : Int32) {res : Mm} (hf : M_emit w a1 a2 = some res) : Met l yX2_emit (ws_ yX2_emit cX2_emit 3 (none)) rmX2_emit (Pw D clM (tyM dA) shM 19 dA E [.ref (E 0), .int a1, .int a2] w) (Qwv D clM shM 19 dA E res) 0 0 (AE 19 E) := by
  refine xm_head (own := RX2) (by decide) rfl (Nat.le_of_ble_eq_true rfl) ?_
  intro p e s m args below meth c ls Q hQ C hP hl
  obtain ⟨hx, hb, hr, hlocks, hml, hown, hts, hK⟩ := C
  replace hl : lv_has ls 3 [(0, .ref (E 0)), (1, .int a1), (2, .int a2)] := hl
  have hS : va_S (AE 19 E) s.heap s.heap [] := va_S.rf
  have hD : wD 19 E (AE 19 E) := wD.self hE
  unfold M_emit at hf
  obtain ⟨H, eH⟩ : ∃ H, H = s.heap := ⟨_, rfl⟩
  obtain ⟨locs, eL⟩ : ∃ locs : List Loc, locs = [] := ⟨_, rfl⟩
  rw [← eL] at hS ⊢
  rw [← eH] at hP
  have hS : va_S (AE 19 E) s.heap H locs := by rw [eH]; exact hS
  show W p l e rmX2_emit s m args below meth c s.heap locs 0 0 Q (F0 m 0 ls [])
  rw [← eH]
  refine lv_aload_n hx hb dX2_emit_0 rfl (lv_at hl 0 rfl) ?_
  refine xr_get hx hb hts in_X2 hown hK hP 0 (by decide) rfl rfl 2 (by decide) (hts _ q1407) (fun _ h => h) rfl (v := .ref (E 3)) rfl dX2_emit_1 ?_
  refine lv_aload_n hx hb dX2_emit_4 rfl (lv_at hl 0 rfl) ?_
  refine xr_get hx hb hts in_X2 hown hK hP 0 (by decide) rfl rfl 12 (by decide) (hts _ q1417) (fun _ h => h) rfl (v := .int (w.1 0 12)) rfl dX2_emit_5 ?_
  refine lv_bipush (v := 97) hx hb dX2_emit_8 (by decide) ?_
  refine lv_iadd hx hb dX2_emit_10 ?_
  refine lv_iconst (v := 2) hx hb dX2_emit_11 (by decide) ?_
  refine lv_aload_n hx hb dX2_emit_12 rfl (lv_at hl 0 rfl) ?_
  refine xr_get hx hb hts in_X2 hown hK hP 0 (by decide) rfl rfl 13 (by decide) (hts _ q1418) (fun _ h => h) rfl (v := .int (w.1 0 13)) rfl dX2_emit_13 ?_
  refine lv_imul hx hb dX2_emit_16 ?_
  refine lv_iadd hx hb dX2_emit_17 ?_
  refine lv_iload_n hx hb dX2_emit_18 rfl (lv_at hl 1 rfl) ?_
  obtain ⟨h1, hf⟩ := ob_gd hf
  obtain ⟨w2, ew2, hf⟩ := ob_bnd hf
  refine xr_iast hx hb hK hP hD hS 3 (by decide) rfl 0 rfl (j := (((w.1 0 12) + 97) + (2 * (w.1 0 13))).toNatClampNeg) (w' := w2) h1 rfl ew2 dX2_emit_19 (fun H locs hP hS => ?_)
  refine lv_aload_n hx hb dX2_emit_20 rfl (lv_at hl 0 rfl) ?_
  refine xr_get hx hb hts in_X2 hown hK hP 0 (by decide) rfl rfl 2 (by decide) (hts _ q1407) (fun _ h => h) rfl (v := .ref (E 3)) rfl dX2_emit_21 ?_
  refine lv_aload_n hx hb dX2_emit_24 rfl (lv_at hl 0 rfl) ?_
  refine xr_get hx hb hts in_X2 hown hK hP 0 (by decide) rfl rfl 12 (by decide) (hts _ q1417) (fun _ h => h) rfl (v := .int (w2.1 0 12)) rfl dX2_emit_25 ?_
  refine lv_bipush (v := 97) hx hb dX2_emit_28 (by decide) ?_
  refine lv_iadd hx hb dX2_emit_30 ?_
  refine lv_iconst (v := 2) hx hb dX2_emit_31 (by decide) ?_
  refine lv_aload_n hx hb dX2_emit_32 rfl (lv_at hl 0 rfl) ?_
  refine xr_get hx hb hts in_X2 hown hK hP 0 (by decide) rfl rfl 13 (by decide) (hts _ q1418) (fun _ h => h) rfl (v := .int (w2.1 0 13)) rfl dX2_emit_33 ?_
  refine lv_imul hx hb dX2_emit_36 ?_
  refine lv_iadd hx hb dX2_emit_37 ?_
  refine lv_iconst (v := 1) hx hb dX2_emit_38 (by decide) ?_
  refine lv_iadd hx hb dX2_emit_39 ?_
  refine lv_iload_n hx hb dX2_emit_40 rfl (lv_at hl 2 rfl) ?_
  obtain ⟨h3, hf⟩ := ob_gd hf
  obtain ⟨w4, ew4, hf⟩ := ob_bnd hf
  refine xr_iast hx hb hK hP hD hS 3 (by decide) rfl 0 rfl (j := ((((w2.1 0 12) + 97) + (2 * (w2.1 0 13))) + 1).toNatClampNeg) (w' := w4) h3 rfl ew4 dX2_emit_41 (fun H locs hP hS => ?_)
  refine lv_aload_n hx hb dX2_emit_42 rfl (lv_at hl 0 rfl) ?_
  refine lv_dup hx hb dX2_emit_43 rfl ?_
  refine xr_get hx hb hts in_X2 hown hK hP 0 (by decide) rfl rfl 13 (by decide) (hts _ q1418) (fun _ h => h) rfl (v := .int (w4.1 0 13)) rfl dX2_emit_44 ?_
  refine lv_iconst (v := 1) hx hb dX2_emit_47 (by decide) ?_
  refine lv_iadd hx hb dX2_emit_48 ?_
  obtain ⟨w5, ew5, hf⟩ := ob_bnd hf
  refine xr_put hx hb hts in_X2 tyX2 tyX2_ok nmX2 hown hK hP hD hS 0 (by decide) rfl rfl 13 (by decide) (hts _ q1418) (fun _ h => h) rfl rfl rfl rfl (w' := w5) ew5 dX2_emit_49 (fun H locs hP hS => ?_)
  obtain rfl := ob_s hf
  subst hQ
  exact xe_v hx hb hr hlocks hP hS dX2_emit_52
abbrev rmX2_settle : Room := { frames := 1, cells := 0, slots := 0, locals := 22 }
theorem cdX2_settle : yX2_settle.cls = RX2 ∧ yX2_settle.cls ≠ "java/lang/invoke/MethodHandle" ∧ yX2_settle.cls ≠ "java/lang/invoke/VarHandle" ∧ (parseMethodDescriptor yX2_settle.desc).map (fun d => d.parameters.length) = some 1 := by decide +kernel
set_option maxHeartbeats 4000000 in
set_option maxRecDepth 100000 in
theorem wkX2_settle (l : Launch) (D : va_G) (dA : Nat → ClassId) (E : Nat → Nat) (hE : wInj 19 E) (w : Mm) (a1 : Int32) {res : Mm} (hf : M_settle w a1 = some res) : Met l yX2_settle (ws_ yX2_settle cX2_settle 2 (none)) rmX2_settle (Pw D clM (tyM dA) shM 19 dA E [.ref (E 0), .int a1] w) (Qwv D clM shM 19 dA E res) 0 0 (AE 19 E) := by
  refine xm_head (own := RX2) (by decide) rfl (Nat.le_of_ble_eq_true rfl) ?_
  intro p e s m args below meth c ls Q hQ C hP hl
  obtain ⟨hx, hb, hr, hlocks, hml, hown, hts, hK⟩ := C
  replace hl : lv_has ls 2 [(0, .ref (E 0)), (1, .int a1)] := hl
  have hS : va_S (AE 19 E) s.heap s.heap [] := va_S.rf
  have hD : wD 19 E (AE 19 E) := wD.self hE
  unfold M_settle at hf
  obtain ⟨H, eH⟩ : ∃ H, H = s.heap := ⟨_, rfl⟩
  obtain ⟨locs, eL⟩ : ∃ locs : List Loc, locs = [] := ⟨_, rfl⟩
  rw [← eL] at hS ⊢
  rw [← eH] at hP
  have hS : va_S (AE 19 E) s.heap H locs := by rw [eH]; exact hS
  show W p l e rmX2_settle s m args below meth c s.heap locs 0 0 Q (F0 m 0 ls [])
  rw [← eH]
  obtain ⟨b2, hb2, hf⟩ := ob_bind hf
  obtain ⟨n2, hn2⟩ := lp_some hb2
  have kL0 : ∀ (n : Nat) (w1 : Mm), lpF (fun (q2 : Mm) => M_settle_b0 a1 q2) n w1 = some b2 → (∀ (H : Heap) (locs : List Loc) (ls : Array Slot), va_P D clM (wl shM 19 dA E b2) H → va_S (AE 19 E) s.heap H locs → lv_has ls 2 [] → W p l e rmX2_settle s m args below meth c H locs 0 0 Q (F0 m 93 ls [])) → ∀ (H : Heap) (locs : List Loc) (ls : Array Slot), va_P D clM (wl shM 19 dA E w1) H → va_S (AE 19 E) s.heap H locs → lv_has ls 2 [(0, .ref (E 0)), (1, .int a1)] → W p l e rmX2_settle s m args below meth c H locs 0 0 Q (F0 m 0 ls []) := by
    intro n
    induction n with
    | zero =>
      intro w1 h
      cases h
    | succ n ih =>
      intro w1 h K2_0 H locs ls hP hS hl
      obtain ⟨r2, hf, h2a, h2b⟩ := lpF_step h
      replace hf : M_settle_b0 a1 w1 = some r2 := hf
      unfold M_settle_b0 at hf
      refine lv_aload_n hx hb dX2_settle_0 rfl (lv_at hl 0 rfl) ?_
      refine xr_get hx hb hts in_X2 hown hK hP 0 (by decide) rfl rfl 16 (by decide) (hts _ q1421) (fun _ h => h) rfl (v := .int (w1.1 0 16)) rfl dX2_settle_1 ?_
      refine lv_if_le (tgt := 93) hx hb dX2_settle_4 (by decide) (fun c3 => ?_) (fun c3 => ?_)
      · replace hf := ob_t hf c3
        obtain rfl := ob_s hf
        obtain rfl := h2b _ rfl
        exact K2_0 H locs ls hP hS (lv_sub hl [] rfl)
      · replace hf := ob_f hf c3
        refine lv_aload_n hx hb dX2_settle_7 rfl (lv_at hl 0 rfl) ?_
        refine xr_get hx hb hts in_X2 hown hK hP 0 (by decide) rfl rfl 15 (by decide) (hts _ q1420) (fun _ h => h) rfl (v := .ref (E 5)) rfl dX2_settle_8 ?_
        refine lv_aload_n hx hb dX2_settle_11 rfl (lv_at hl 0 rfl) ?_
        refine xr_get hx hb hts in_X2 hown hK hP 0 (by decide) rfl rfl 16 (by decide) (hts _ q1421) (fun _ h => h) rfl (v := .int (w1.1 0 16)) rfl dX2_settle_12 ?_
        refine lv_iconst (v := 1) hx hb dX2_settle_15 (by decide) ?_
        refine lv_isub hx hb dX2_settle_16 ?_
        obtain ⟨h4, hf⟩ := ob_gd hf
        refine xr_iald hx hb hK hP 5 (by decide) rfl 0 rfl (j := ((w1.1 0 16) - 1).toNatClampNeg) h4 rfl dX2_settle_17 ?_
        obtain ⟨q6, g5, hf⟩ := ob_bind hf
        refine xc_i (xw_runS (As := [.int (w1.1 5 ((w1.1 0 16) - 1).toNatClampNeg)]) (rest := []) ⟨hx, hb, hml, hown, hts⟩ (wkX2_rank l D dA E hE w1 (w1.1 5 ((w1.1 0 16) - 1).toNatClampNeg) g5) (va_cwS 1 hts (lw_S q1670 q1671 q140 q1672) rfl rfl rfl cdX2_rank.2 ⟨Nat.le_of_ble_eq_true rfl, Nat.le_of_ble_eq_true rfl⟩) hK hP hl.1 rfl rfl (Nat.le_of_ble_eq_true rfl) dX2_settle_18 ⟨Nat.zero_le _, Nat.zero_le _⟩) hS hD.2 (fun H locs hP hS => ?_)
        refine lv_iload_n hx hb dX2_settle_21 rfl (lv_at hl 1 rfl) ?_
        refine lv_icmp_lt (tgt := 93) hx hb dX2_settle_22 (by decide) (fun c7 => ?_) (fun c7 => ?_)
        · replace hf := ob_t hf c7
          obtain rfl := ob_s hf
          obtain rfl := h2b _ rfl
          exact K2_0 H locs ls hP hS (lv_sub hl [] rfl)
        · replace hf := ob_f hf c7
          refine lv_aload_n hx hb dX2_settle_25 rfl (lv_at hl 0 rfl) ?_
          refine lv_dup hx hb dX2_settle_26 rfl ?_
          refine xr_get hx hb hts in_X2 hown hK hP 0 (by decide) rfl rfl 16 (by decide) (hts _ q1421) (fun _ h => h) rfl (v := .int (w1.1 0 16)) rfl dX2_settle_27 ?_
          refine lv_iconst (v := 1) hx hb dX2_settle_30 (by decide) ?_
          refine lv_isub hx hb dX2_settle_31 ?_
          obtain ⟨w8, ew8, hf⟩ := ob_bnd hf
          refine xr_put hx hb hts in_X2 tyX2 tyX2_ok nmX2 hown hK hP hD hS 0 (by decide) rfl rfl 16 (by decide) (hts _ q1421) (fun _ h => h) rfl rfl rfl rfl (w' := w8) ew8 dX2_settle_32 (fun H locs hP hS => ?_)
          refine lv_aload_n hx hb dX2_settle_35 rfl (lv_at hl 0 rfl) ?_
          refine lv_aload_n hx hb dX2_settle_36 rfl (lv_at hl 0 rfl) ?_
          refine xr_get hx hb hts in_X2 hown hK hP 0 (by decide) rfl rfl 15 (by decide) (hts _ q1420) (fun _ h => h) rfl (v := .ref (E 5)) rfl dX2_settle_37 ?_
          refine lv_aload_n hx hb dX2_settle_40 rfl (lv_at hl 0 rfl) ?_
          refine xr_get hx hb hts in_X2 hown hK hP 0 (by decide) rfl rfl 16 (by decide) (hts _ q1421) (fun _ h => h) rfl (v := .int (w8.1 0 16)) rfl dX2_settle_41 ?_
          obtain ⟨h9, hf⟩ := ob_gd hf
          refine xr_iald hx hb hK hP 5 (by decide) rfl 0 rfl (j := (w8.1 0 16).toNatClampNeg) h9 rfl dX2_settle_44 ?_
          refine lv_iconst (v := 0) hx hb dX2_settle_45 (by decide) ?_
          obtain ⟨q11, g10, hf⟩ := ob_bind hf
          refine xc_v (xw_run (As := [.int (w8.1 5 (w8.1 0 16).toNatClampNeg), .int 0]) (rest := []) ⟨hx, hb, hml, hown, hts⟩ (k0 := 0) (wkX2_emit l D dA E hE w8 (w8.1 5 (w8.1 0 16).toNatClampNeg) 0 g10) (cwV 2 hts (lw_V q1681 q1683 qs83 q140 q1684) rfl rfl rfl cdX2_emit ⟨Nat.le_of_ble_eq_true rfl, Nat.le_of_ble_eq_true rfl⟩) hK hP (by decide) rfl rfl rfl hl.1 rfl rfl (Nat.le_of_ble_eq_true rfl) dX2_settle_46 ⟨Nat.zero_le _, Nat.zero_le _⟩) hS hD.2 (fun H locs hP hS => ?_)
          refine lv_aload_n hx hb dX2_settle_49 rfl (lv_at hl 0 rfl) ?_
          refine xr_get hx hb hts in_X2 hown hK hP 0 (by decide) rfl rfl 15 (by decide) (hts _ q1420) (fun _ h => h) rfl (v := .ref (E 5)) rfl dX2_settle_50 ?_
          refine lv_aload_n hx hb dX2_settle_53 rfl (lv_at hl 0 rfl) ?_
          refine xr_get hx hb hts in_X2 hown hK hP 0 (by decide) rfl rfl 16 (by decide) (hts _ q1421) (fun _ h => h) rfl (v := .int (q11.1 0 16)) rfl dX2_settle_54 ?_
          obtain ⟨h12, hf⟩ := ob_gd hf
          refine xr_iald hx hb hK hP 5 (by decide) rfl 0 rfl (j := (q11.1 0 16).toNatClampNeg) h12 rfl dX2_settle_57 ?_
          obtain ⟨q14, g13, hf⟩ := ob_bind hf
          refine xc_i (xw_runS (As := [.int (q11.1 5 (q11.1 0 16).toNatClampNeg)]) (rest := []) ⟨hx, hb, hml, hown, hts⟩ (wkX2_rank l D dA E hE q11 (q11.1 5 (q11.1 0 16).toNatClampNeg) g13) (va_cwS 1 hts (lw_S q1670 q1671 q140 q1672) rfl rfl rfl cdX2_rank.2 ⟨Nat.le_of_ble_eq_true rfl, Nat.le_of_ble_eq_true rfl⟩) hK hP hl.1 rfl rfl (Nat.le_of_ble_eq_true rfl) dX2_settle_58 ⟨Nat.zero_le _, Nat.zero_le _⟩) hS hD.2 (fun H locs hP hS => ?_)
          refine lv_bipush (v := 7) hx hb dX2_settle_61 (by decide) ?_
          have kj80 : ∀ (H : Heap) (locs : List Loc) (ls : Array Slot), M_settle_j80 q11 = some r2 → va_P D clM (wl shM 19 dA E q11) H → va_S (AE 19 E) s.heap H locs → lv_has ls 2 [(0, .ref (E 0)), (1, .int a1)] → W p l e rmX2_settle s m args below meth c H locs 0 0 Q (F0 m 80 ls []) := by
            intro H locs ls hf hP hS hl
            unfold M_settle_j80 at hf
            refine lv_aload_n hx hb dX2_settle_80 rfl (lv_at hl 0 rfl) ?_
            refine lv_dup hx hb dX2_settle_81 rfl ?_
            refine xr_get hx hb hts in_X2 hown hK hP 0 (by decide) rfl rfl 17 (by decide) (hts _ q1422) (fun _ h => h) rfl (v := .int (q11.1 0 17)) rfl dX2_settle_82 ?_
            refine lv_iconst (v := 1) hx hb dX2_settle_85 (by decide) ?_
            refine lv_isub hx hb dX2_settle_86 ?_
            obtain ⟨w15, ew15, hf⟩ := ob_bnd hf
            refine xr_put hx hb hts in_X2 tyX2 tyX2_ok nmX2 hown hK hP hD hS 0 (by decide) rfl rfl 17 (by decide) (hts _ q1422) (fun _ h => h) rfl rfl rfl rfl (w' := w15) ew15 dX2_settle_87 (fun H locs hP hS => ?_)
            refine lv_goto (tgt := 0) hx hb dX2_settle_90 (by decide) ?_
            obtain rfl := ob_s hf
            exact ih _ (h2a _ rfl) K2_0 H locs ls hP hS (lv_sub hl [0, 1] rfl)
          refine lv_icmp_eq (tgt := 80) hx hb dX2_settle_63 (by decide) (fun c16 => ?_) (fun c16 => ?_)
          · replace hf := ob_t hf c16
            exact kj80 H locs ls hf hP hS (lv_sub hl [0, 1] rfl)
          · replace hf := ob_f hf c16
            refine lv_aload_n hx hb dX2_settle_66 rfl (lv_at hl 0 rfl) ?_
            refine xr_get hx hb hts in_X2 hown hK hP 0 (by decide) rfl rfl 15 (by decide) (hts _ q1420) (fun _ h => h) rfl (v := .ref (E 5)) rfl dX2_settle_67 ?_
            refine lv_aload_n hx hb dX2_settle_70 rfl (lv_at hl 0 rfl) ?_
            refine xr_get hx hb hts in_X2 hown hK hP 0 (by decide) rfl rfl 16 (by decide) (hts _ q1421) (fun _ h => h) rfl (v := .int (q11.1 0 16)) rfl dX2_settle_71 ?_
            obtain ⟨h17, hf⟩ := ob_gd hf
            refine xr_iald hx hb hK hP 5 (by decide) rfl 0 rfl (j := (q11.1 0 16).toNatClampNeg) h17 rfl dX2_settle_74 ?_
            refine lv_bipush (v := 20) hx hb dX2_settle_75 (by decide) ?_
            refine lv_icmp_ne (tgt := 0) hx hb dX2_settle_77 (by decide) (fun c18 => ?_) (fun c18 => ?_)
            · replace hf := ob_f hf c18
              obtain rfl := ob_s hf
              exact ih _ (h2a _ rfl) K2_0 H locs ls hP hS (lv_sub hl [0, 1] rfl)
            · replace hf := ob_t hf c18
              exact kj80 H locs ls hf hP hS (lv_sub hl [0, 1] rfl)
  refine kL0 n2 w hn2 (fun H locs ls hP hS hl => ?_) H locs ls hP hS (lv_sub hl [0, 1] rfl)
  replace hf : M_settle_x0_93 b2 = some res := hf
  unfold M_settle_x0_93 at hf
  obtain rfl := ob_s hf
  subst hQ
  exact xe_v hx hb hr hlocks hP hS dX2_settle_93
abbrev rmX2_partOf : Room := { frames := 3, cells := 0, slots := 0, locals := 66 }
theorem cdX2_partOf : yX2_partOf.cls = RX2 ∧ yX2_partOf.cls ≠ "java/lang/invoke/MethodHandle" ∧ yX2_partOf.cls ≠ "java/lang/invoke/VarHandle" ∧ (parseMethodDescriptor yX2_partOf.desc).map (fun d => d.parameters.length) = some 1 := by decide +kernel
set_option maxHeartbeats 4000000 in
set_option maxRecDepth 100000 in
theorem wkX2_partOf (l : Launch) (D : va_G) (dA : Nat → ClassId) (E : Nat → Nat) (hE : wInj 19 E) (w : Mm) (a1 : Int32) {res : Int32} (hf : M_partOf w a1 = some res) : Met l yX2_partOf (ws_ yX2_partOf cX2_partOf 2 (some .int)) rmX2_partOf (Pw D clM (tyM dA) shM 19 dA E [.ref (E 0), .int a1] w) (Qwi D clM shM 19 dA E res w) 0 0 (AE 19 E) := by
  refine xm_head (own := RX2) (by decide) rfl (Nat.le_of_ble_eq_true rfl) ?_
  intro p e s m args below meth c ls Q hQ C hP hl
  obtain ⟨hx, hb, hr, hlocks, hml, hown, hts, hK⟩ := C
  replace hl : lv_has ls 2 [(0, .ref (E 0)), (1, .int a1)] := hl
  have hS : va_S (AE 19 E) s.heap s.heap [] := va_S.rf
  have hD : wD 19 E (AE 19 E) := wD.self hE
  unfold M_partOf at hf
  obtain ⟨H, eH⟩ : ∃ H, H = s.heap := ⟨_, rfl⟩
  obtain ⟨locs, eL⟩ : ∃ locs : List Loc, locs = [] := ⟨_, rfl⟩
  rw [← eL] at hS ⊢
  rw [← eH] at hP
  have hS : va_S (AE 19 E) s.heap H locs := by rw [eH]; exact hS
  show W p l e rmX2_partOf s m args below meth c s.heap locs 0 0 Q (F0 m 0 ls [])
  rw [← eH]
  refine lv_iload_n hx hb dX2_partOf_0 rfl (lv_at hl 1 rfl) ?_
  by_cases c1 : a1 = 40
  · replace hf := ob_t hf c1
    refine lv_tableIn (tgt := 36) (off := 35) hx hb dX2_partOf_1 (by rw [c1]; decide) (by rw [c1]; decide) (by rw [c1]; rfl) (by decide) ?_
    refine lv_aload_n hx hb dX2_partOf_36 rfl (lv_at hl 0 rfl) ?_
    refine xr_get hx hb hts in_X2 hown hK hP 0 (by decide) rfl rfl 9 (by decide) (hts _ q1414) (fun _ h => h) rfl (v := .int (w.1 0 9)) rfl dX2_partOf_37 ?_
    refine lv_bipush (v := 41) hx hb dX2_partOf_40 (by decide) ?_
    refine lv_icmp_ne (tgt := 49) hx hb dX2_partOf_42 (by decide) (fun c2 => ?_) (fun c2 => ?_)
    · replace hf := ob_f hf c2
      refine lv_iconst (v := (-1)) hx hb dX2_partOf_49 (by decide) ?_
      obtain rfl := ob_s hf
      subst hQ
      exact xe_i hx hb hr hlocks hP hS dX2_partOf_50
    · replace hf := ob_t hf c2
      refine lv_iconst (v := 0) hx hb dX2_partOf_45 (by decide) ?_
      refine lv_goto (tgt := 50) hx hb dX2_partOf_46 (by decide) ?_
      obtain rfl := ob_s hf
      subst hQ
      exact xe_i hx hb hr hlocks hP hS dX2_partOf_50
  · replace hf := ob_f hf c1
    by_cases c3 : a1 = 42
    · replace hf := ob_t hf c3
      refine lv_tableIn (tgt := 51) (off := 50) hx hb dX2_partOf_1 (by rw [c3]; decide) (by rw [c3]; decide) (by rw [c3]; rfl) (by decide) ?_
      refine lv_aload_n hx hb dX2_partOf_51 rfl (lv_at hl 0 rfl) ?_
      refine lv_bipush (v := 116) hx hb dX2_partOf_52 (by decide) ?_
      refine lv_bipush (v := 104) hx hb dX2_partOf_54 (by decide) ?_
      refine lv_bipush (v := 101) hx hb dX2_partOf_56 (by decide) ?_
      refine lv_bipush (v := 110) hx hb dX2_partOf_58 (by decide) ?_
      obtain ⟨q5, g4, hf⟩ := ob_bind hf
      refine xc_l (xw_runS (As := [.int 116, .int 104, .int 101, .int 110]) (rest := [.ref (E 0)]) ⟨hx, hb, hml, hown, hts⟩ (wkX2_w4 l D dA E hE w 116 104 101 110 g4) (va_cwS 4 hts (lw_S q1600 q1601 q140 q1602) rfl rfl rfl cdX2_w4.2 ⟨Nat.le_of_ble_eq_true rfl, Nat.le_of_ble_eq_true rfl⟩) hK hP hl.1 rfl rfl (Nat.le_of_ble_eq_true rfl) dX2_partOf_60 ⟨Nat.zero_le _, Nat.zero_le _⟩) hS hD.2 (fun H locs hP hS => ?_)
      obtain ⟨q7, g6, hf⟩ := ob_bind hf
      refine xc_z (xw_run (As := [.long q5]) (rest := []) ⟨hx, hb, hml, hown, hts⟩ (k0 := 0) (wkX2_isWord l D dA E hE w q5 g6) (cwV 1 hts (lw_V q1609 q1611 qs68 q140 q1612) rfl rfl rfl cdX2_isWord ⟨Nat.le_of_ble_eq_true rfl, Nat.le_of_ble_eq_true rfl⟩) hK hP (by decide) rfl rfl rfl hl.1 rfl rfl (Nat.le_of_ble_eq_true rfl) dX2_partOf_63 ⟨Nat.zero_le _, Nat.zero_le _⟩) hS hD.2 (fun H locs zq7 hP hS => ?_)
      refine lv_if_eq (tgt := 81) hx hb dX2_partOf_66 (by decide) (fun c8 => ?_) (fun c8 => ?_)
      · replace hf := ob_t hf c8
        refine lv_iconst (v := (-1)) hx hb dX2_partOf_81 (by decide) ?_
        obtain rfl := ob_s hf
        subst hQ
        exact xe_i hx hb hr hlocks hP hS dX2_partOf_82
      · replace hf := ob_f hf c8
        refine lv_aload_n hx hb dX2_partOf_69 rfl (lv_at hl 0 rfl) ?_
        obtain ⟨q10, g9, hf⟩ := ob_bind hf
        refine xc_z (xw_run (As := []) (rest := []) ⟨hx, hb, hml, hown, hts⟩ (k0 := 0) (wkX2_isCompared l D dA E hE w g9) (cwV 0 hts (lw_V q1666 q1668 qs80 q140 q1669) rfl rfl rfl cdX2_isCompared ⟨Nat.le_of_ble_eq_true rfl, Nat.le_of_ble_eq_true rfl⟩) hK hP (by decide) rfl rfl rfl hl.1 rfl rfl (Nat.le_of_ble_eq_true rfl) dX2_partOf_70 ⟨Nat.zero_le _, Nat.zero_le _⟩) hS hD.2 (fun H locs zq10 hP hS => ?_)
        refine lv_if_eq (tgt := 81) hx hb dX2_partOf_73 (by decide) (fun c11 => ?_) (fun c11 => ?_)
        · replace hf := ob_t hf c11
          refine lv_iconst (v := (-1)) hx hb dX2_partOf_81 (by decide) ?_
          obtain rfl := ob_s hf
          subst hQ
          exact xe_i hx hb hr hlocks hP hS dX2_partOf_82
        · replace hf := ob_f hf c11
          refine lv_bipush (v := 43) hx hb dX2_partOf_76 (by decide) ?_
          refine lv_goto (tgt := 82) hx hb dX2_partOf_78 (by decide) ?_
          obtain rfl := ob_s hf
          subst hQ
          exact xe_i hx hb hr hlocks hP hS dX2_partOf_82
    · replace hf := ob_f hf c3
      by_cases c12 : a1 = 43
      · replace hf := ob_t hf c12
        refine lv_tableIn (tgt := 83) (off := 82) hx hb dX2_partOf_1 (by rw [c12]; decide) (by rw [c12]; decide) (by rw [c12]; rfl) (by decide) ?_
        refine lv_aload_n hx hb dX2_partOf_83 rfl (lv_at hl 0 rfl) ?_
        refine lv_bipush (v := 101) hx hb dX2_partOf_84 (by decide) ?_
        refine lv_bipush (v := 108) hx hb dX2_partOf_86 (by decide) ?_
        refine lv_bipush (v := 115) hx hb dX2_partOf_88 (by decide) ?_
        refine lv_bipush (v := 101) hx hb dX2_partOf_90 (by decide) ?_
        obtain ⟨q14, g13, hf⟩ := ob_bind hf
        refine xc_l (xw_runS (As := [.int 101, .int 108, .int 115, .int 101]) (rest := [.ref (E 0)]) ⟨hx, hb, hml, hown, hts⟩ (wkX2_w4 l D dA E hE w 101 108 115 101 g13) (va_cwS 4 hts (lw_S q1600 q1601 q140 q1602) rfl rfl rfl cdX2_w4.2 ⟨Nat.le_of_ble_eq_true rfl, Nat.le_of_ble_eq_true rfl⟩) hK hP hl.1 rfl rfl (Nat.le_of_ble_eq_true rfl) dX2_partOf_92 ⟨Nat.zero_le _, Nat.zero_le _⟩) hS hD.2 (fun H locs hP hS => ?_)
        obtain ⟨q16, g15, hf⟩ := ob_bind hf
        refine xc_z (xw_run (As := [.long q14]) (rest := []) ⟨hx, hb, hml, hown, hts⟩ (k0 := 0) (wkX2_isWord l D dA E hE w q14 g15) (cwV 1 hts (lw_V q1609 q1611 qs68 q140 q1612) rfl rfl rfl cdX2_isWord ⟨Nat.le_of_ble_eq_true rfl, Nat.le_of_ble_eq_true rfl⟩) hK hP (by decide) rfl rfl rfl hl.1 rfl rfl (Nat.le_of_ble_eq_true rfl) dX2_partOf_95 ⟨Nat.zero_le _, Nat.zero_le _⟩) hS hD.2 (fun H locs zq16 hP hS => ?_)
        refine lv_if_eq (tgt := 106) hx hb dX2_partOf_98 (by decide) (fun c17 => ?_) (fun c17 => ?_)
        · replace hf := ob_t hf c17
          refine lv_iconst (v := (-1)) hx hb dX2_partOf_106 (by decide) ?_
          obtain rfl := ob_s hf
          subst hQ
          exact xe_i hx hb hr hlocks hP hS dX2_partOf_107
        · replace hf := ob_f hf c17
          refine lv_bipush (v := 44) hx hb dX2_partOf_101 (by decide) ?_
          refine lv_goto (tgt := 107) hx hb dX2_partOf_103 (by decide) ?_
          obtain rfl := ob_s hf
          subst hQ
          exact xe_i hx hb hr hlocks hP hS dX2_partOf_107
      · replace hf := ob_f hf c12
        by_cases c18 : a1 = 44
        · replace hf := ob_t hf c18
          refine lv_tableIn (tgt := 108) (off := 107) hx hb dX2_partOf_1 (by rw [c18]; decide) (by rw [c18]; decide) (by rw [c18]; rfl) (by decide) ?_
          refine lv_aload_n hx hb dX2_partOf_108 rfl (lv_at hl 0 rfl) ?_
          refine lv_bipush (v := 101) hx hb dX2_partOf_109 (by decide) ?_
          refine lv_bipush (v := 110) hx hb dX2_partOf_111 (by decide) ?_
          refine lv_bipush (v := 100) hx hb dX2_partOf_113 (by decide) ?_
          obtain ⟨q20, g19, hf⟩ := ob_bind hf
          refine xc_l (xw_runS (As := [.int 101, .int 110, .int 100]) (rest := [.ref (E 0)]) ⟨hx, hb, hml, hown, hts⟩ (wkX2_w3 l D dA E hE w 101 110 100 g19) (va_cwS 3 hts (lw_S q1603 q1604 q140 q1605) rfl rfl rfl cdX2_w3.2 ⟨Nat.le_of_ble_eq_true rfl, Nat.le_of_ble_eq_true rfl⟩) hK hP hl.1 rfl rfl (Nat.le_of_ble_eq_true rfl) dX2_partOf_115 ⟨Nat.zero_le _, Nat.zero_le _⟩) hS hD.2 (fun H locs hP hS => ?_)
          obtain ⟨q22, g21, hf⟩ := ob_bind hf
          refine xc_z (xw_run (As := [.long q20]) (rest := []) ⟨hx, hb, hml, hown, hts⟩ (k0 := 0) (wkX2_isWord l D dA E hE w q20 g21) (cwV 1 hts (lw_V q1609 q1611 qs68 q140 q1612) rfl rfl rfl cdX2_isWord ⟨Nat.le_of_ble_eq_true rfl, Nat.le_of_ble_eq_true rfl⟩) hK hP (by decide) rfl rfl rfl hl.1 rfl rfl (Nat.le_of_ble_eq_true rfl) dX2_partOf_118 ⟨Nat.zero_le _, Nat.zero_le _⟩) hS hD.2 (fun H locs zq22 hP hS => ?_)
          refine lv_if_eq (tgt := 128) hx hb dX2_partOf_121 (by decide) (fun c23 => ?_) (fun c23 => ?_)
          · replace hf := ob_t hf c23
            refine lv_iconst (v := (-1)) hx hb dX2_partOf_128 (by decide) ?_
            obtain rfl := ob_s hf
            subst hQ
            exact xe_i hx hb hr hlocks hP hS dX2_partOf_129
          · replace hf := ob_f hf c23
            refine lv_iconst (v := 0) hx hb dX2_partOf_124 (by decide) ?_
            refine lv_goto (tgt := 129) hx hb dX2_partOf_125 (by decide) ?_
            obtain rfl := ob_s hf
            subst hQ
            exact xe_i hx hb hr hlocks hP hS dX2_partOf_129
        · replace hf := ob_f hf c18
          refine xr_tswD (tgt := 130) (vs := [40, 42, 43, 44]) hx hb dX2_partOf_1 (List.forall_mem_cons.mpr ⟨c1, List.forall_mem_cons.mpr ⟨c3, List.forall_mem_cons.mpr ⟨c12, List.forall_mem_cons.mpr ⟨c18, fun _ h => absurd h List.not_mem_nil⟩⟩⟩⟩) (by decide +kernel) (by decide) ?_
          refine lv_iconst (v := (-1)) hx hb dX2_partOf_130 (by decide) ?_
          obtain rfl := ob_s hf
          subst hQ
          exact xe_i hx hb hr hlocks hP hS dX2_partOf_131
abbrev rmX2_endOne : Room := { frames := 2, cells := 0, slots := 0, locals := 43 }
theorem cdX2_endOne : yX2_endOne.cls = RX2 ∧ yX2_endOne.cls ≠ "java/lang/invoke/MethodHandle" ∧ yX2_endOne.cls ≠ "java/lang/invoke/VarHandle" ∧ (parseMethodDescriptor yX2_endOne.desc).map (fun d => d.parameters.length) = some 0 := by decide +kernel
set_option maxHeartbeats 4000000 in
set_option maxRecDepth 100000 in
theorem wkX2_endOne (l : Launch) (D : va_G) (dA : Nat → ClassId) (E : Nat → Nat) (hE : wInj 19 E) (w : Mm)  {res : Int32 × Mm} (hf : M_endOne w = some res) : Met l yX2_endOne (ws_ yX2_endOne cX2_endOne 1 (some .int)) rmX2_endOne (Pw D clM (tyM dA) shM 19 dA E [.ref (E 0)] w) (Qwi D clM shM 19 dA E res.1 res.2) 0 0 (AE 19 E) := by
  refine xm_head (own := RX2) (by decide) rfl (Nat.le_of_ble_eq_true rfl) ?_
  intro p e s m args below meth c ls Q hQ C hP hl
  obtain ⟨hx, hb, hr, hlocks, hml, hown, hts, hK⟩ := C
  replace hl : lv_has ls 1 [(0, .ref (E 0))] := hl
  have hS : va_S (AE 19 E) s.heap s.heap [] := va_S.rf
  have hD : wD 19 E (AE 19 E) := wD.self hE
  unfold M_endOne at hf
  obtain ⟨H, eH⟩ : ∃ H, H = s.heap := ⟨_, rfl⟩
  obtain ⟨locs, eL⟩ : ∃ locs : List Loc, locs = [] := ⟨_, rfl⟩
  rw [← eL] at hS ⊢
  rw [← eH] at hP
  have hS : va_S (AE 19 E) s.heap H locs := by rw [eH]; exact hS
  show W p l e rmX2_endOne s m args below meth c s.heap locs 0 0 Q (F0 m 0 ls [])
  rw [← eH]
  refine lv_aload_n hx hb dX2_endOne_0 rfl (lv_at hl 0 rfl) ?_
  refine lv_bipush (v := 7) hx hb dX2_endOne_1 (by decide) ?_
  obtain ⟨q2, g1, hf⟩ := ob_bind hf
  refine xc_v (xw_run (As := [.int 7]) (rest := []) ⟨hx, hb, hml, hown, hts⟩ (k0 := 0) (wkX2_settle l D dA E hE w 7 g1) (cwV 1 hts (lw_V q1677 q1679 qs82 q140 q1680) rfl rfl rfl cdX2_settle ⟨Nat.le_of_ble_eq_true rfl, Nat.le_of_ble_eq_true rfl⟩) hK hP (by decide) rfl rfl rfl hl.1 rfl rfl (Nat.le_of_ble_eq_true rfl) dX2_endOne_3 ⟨Nat.zero_le _, Nat.zero_le _⟩) hS hD.2 (fun H locs hP hS => ?_)
  refine lv_aload_n hx hb dX2_endOne_6 rfl (lv_at hl 0 rfl) ?_
  refine lv_iconst (v := 1) hx hb dX2_endOne_7 (by decide) ?_
  obtain ⟨w3, ew3, hf⟩ := ob_bnd hf
  refine xr_put hx hb hts in_X2 tyX2 tyX2_ok nmX2 hown hK hP hD hS 0 (by decide) rfl rfl 18 (by decide) (hts _ q1423) (fun _ h => h) rfl (by decide +kernel) (by decide +kernel) rfl (w' := w3) ew3 dX2_endOne_8 (fun H locs hP hS => ?_)
  refine lv_aload_n hx hb dX2_endOne_11 rfl (lv_at hl 0 rfl) ?_
  refine xr_get hx hb hts in_X2 hown hK hP 0 (by decide) rfl rfl 16 (by decide) (hts _ q1421) (fun _ h => h) rfl (v := .int (w3.1 0 16)) rfl dX2_endOne_12 ?_
  refine lv_if_eq (tgt := 34) hx hb dX2_endOne_15 (by decide) (fun c4 => ?_) (fun c4 => ?_)
  · replace hf := ob_t hf c4
    refine lv_iconst (v := 0) hx hb dX2_endOne_34 (by decide) ?_
    obtain rfl := ob_s hf
    subst hQ
    exact xe_i hx hb hr hlocks hP hS dX2_endOne_35
  · replace hf := ob_f hf c4
    refine lv_aload_n hx hb dX2_endOne_18 rfl (lv_at hl 0 rfl) ?_
    refine xr_get hx hb hts in_X2 hown hK hP 0 (by decide) rfl rfl 15 (by decide) (hts _ q1420) (fun _ h => h) rfl (v := .ref (E 5)) rfl dX2_endOne_19 ?_
    refine lv_aload_n hx hb dX2_endOne_22 rfl (lv_at hl 0 rfl) ?_
    refine xr_get hx hb hts in_X2 hown hK hP 0 (by decide) rfl rfl 16 (by decide) (hts _ q1421) (fun _ h => h) rfl (v := .int (w3.1 0 16)) rfl dX2_endOne_23 ?_
    refine lv_iconst (v := 1) hx hb dX2_endOne_26 (by decide) ?_
    refine lv_isub hx hb dX2_endOne_27 ?_
    obtain ⟨h5, hf⟩ := ob_gd hf
    refine xr_iald hx hb hK hP 5 (by decide) rfl 0 rfl (j := ((w3.1 0 16) - 1).toNatClampNeg) h5 rfl dX2_endOne_28 ?_
    refine lv_bipush (v := 41) hx hb dX2_endOne_29 (by decide) ?_
    refine lv_icmp_eq (tgt := 36) hx hb dX2_endOne_31 (by decide) (fun c6 => ?_) (fun c6 => ?_)
    · replace hf := ob_t hf c6
      refine lv_aload_n hx hb dX2_endOne_36 rfl (lv_at hl 0 rfl) ?_
      refine lv_bipush (v := 98) hx hb dX2_endOne_37 (by decide) ?_
      refine lv_bipush (v := 121) hx hb dX2_endOne_39 (by decide) ?_
      obtain ⟨q8, g7, hf⟩ := ob_bind hf
      refine xc_l (xw_runS (As := [.int 98, .int 121]) (rest := [.ref (E 0)]) ⟨hx, hb, hml, hown, hts⟩ (wkX2_w2 l D dA E hE w3 98 121 g7) (va_cwS 2 hts (lw_S q1606 q1607 q140 q1608) rfl rfl rfl cdX2_w2.2 ⟨Nat.le_of_ble_eq_true rfl, Nat.le_of_ble_eq_true rfl⟩) hK hP hl.1 rfl rfl (Nat.le_of_ble_eq_true rfl) dX2_endOne_41 ⟨Nat.zero_le _, Nat.zero_le _⟩) hS hD.2 (fun H locs hP hS => ?_)
      obtain ⟨q10, g9, hf⟩ := ob_bind hf
      refine xc_z (xw_run (As := [.long q8]) (rest := []) ⟨hx, hb, hml, hown, hts⟩ (k0 := 0) (wkX2_isWord l D dA E hE w3 q8 g9) (cwV 1 hts (lw_V q1609 q1611 qs68 q140 q1612) rfl rfl rfl cdX2_isWord ⟨Nat.le_of_ble_eq_true rfl, Nat.le_of_ble_eq_true rfl⟩) hK hP (by decide) rfl rfl rfl hl.1 rfl rfl (Nat.le_of_ble_eq_true rfl) dX2_endOne_44 ⟨Nat.zero_le _, Nat.zero_le _⟩) hS hD.2 (fun H locs zq10 hP hS => ?_)
      refine lv_if_ne (tgt := 52) hx hb dX2_endOne_47 (by decide) (fun c11 => ?_) (fun c11 => ?_)
      · replace hf := ob_f hf c11
        refine lv_aload_n hx hb dX2_endOne_52 rfl (lv_at hl 0 rfl) ?_
        obtain ⟨q13, g12, hf⟩ := ob_bind hf
        refine xc_v (xw_run (As := []) (rest := []) ⟨hx, hb, hml, hown, hts⟩ (k0 := 0) (wkX2_nextToken l D dA E hE w3 g12) (cwV 0 hts (lw_V q1573 q1575 qs64 q140 q1576) rfl rfl rfl cdX2_nextToken ⟨Nat.le_of_ble_eq_true rfl, Nat.le_of_ble_eq_true rfl⟩) hK hP (by decide) rfl rfl rfl hl.1 rfl rfl (Nat.le_of_ble_eq_true rfl) dX2_endOne_53 ⟨Nat.zero_le _, Nat.zero_le _⟩) hS hD.2 (fun H locs hP hS => ?_)
        refine lv_aload_n hx hb dX2_endOne_56 rfl (lv_at hl 0 rfl) ?_
        refine xr_get hx hb hts in_X2 hown hK hP 0 (by decide) rfl rfl 15 (by decide) (hts _ q1420) (fun _ h => h) rfl (v := .ref (E 5)) rfl dX2_endOne_57 ?_
        refine lv_aload_n hx hb dX2_endOne_60 rfl (lv_at hl 0 rfl) ?_
        refine xr_get hx hb hts in_X2 hown hK hP 0 (by decide) rfl rfl 16 (by decide) (hts _ q1421) (fun _ h => h) rfl (v := .int (q13.1 0 16)) rfl dX2_endOne_61 ?_
        refine lv_iconst (v := 1) hx hb dX2_endOne_64 (by decide) ?_
        refine lv_isub hx hb dX2_endOne_65 ?_
        refine lv_iconst (v := 4) hx hb dX2_endOne_66 (by decide) ?_
        obtain ⟨h14, hf⟩ := ob_gd hf
        obtain ⟨w15, ew15, hf⟩ := ob_bnd hf
        refine xr_iast hx hb hK hP hD hS 5 (by decide) rfl 0 rfl (j := ((q13.1 0 16) - 1).toNatClampNeg) (w' := w15) h14 rfl ew15 dX2_endOne_67 (fun H locs hP hS => ?_)
        refine lv_aload_n hx hb dX2_endOne_68 rfl (lv_at hl 0 rfl) ?_
        refine lv_iconst (v := 0) hx hb dX2_endOne_69 (by decide) ?_
        obtain ⟨w16, ew16, hf⟩ := ob_bnd hf
        refine xr_put hx hb hts in_X2 tyX2 tyX2_ok nmX2 hown hK hP hD hS 0 (by decide) rfl rfl 18 (by decide) (hts _ q1423) (fun _ h => h) rfl (by decide +kernel) (by decide +kernel) rfl (w' := w16) ew16 dX2_endOne_70 (fun H locs hP hS => ?_)
        refine lv_iconst (v := 0) hx hb dX2_endOne_73 (by decide) ?_
        obtain rfl := ob_s hf
        subst hQ
        exact xe_i hx hb hr hlocks hP hS dX2_endOne_74
      · replace hf := ob_t hf c11
        refine lv_iconst (v := 1) hx hb dX2_endOne_50 (by decide) ?_
        obtain rfl := ob_s hf
        subst hQ
        exact xe_i hx hb hr hlocks hP hS dX2_endOne_51
    · replace hf := ob_f hf c6
      refine lv_iconst (v := 0) hx hb dX2_endOne_34 (by decide) ?_
      obtain rfl := ob_s hf
      subst hQ
      exact xe_i hx hb hr hlocks hP hS dX2_endOne_35
abbrev rmX2_behindOne : Room := { frames := 4, cells := 0, slots := 0, locals := 87 }
theorem cdX2_behindOne : yX2_behindOne.cls = RX2 ∧ yX2_behindOne.cls ≠ "java/lang/invoke/MethodHandle" ∧ yX2_behindOne.cls ≠ "java/lang/invoke/VarHandle" ∧ (parseMethodDescriptor yX2_behindOne.desc).map (fun d => d.parameters.length) = some 0 := by decide +kernel
set_option maxHeartbeats 4000000 in
set_option maxRecDepth 100000 in
theorem wkX2_behindOne (l : Launch) (D : va_G) (dA : Nat → ClassId) (E : Nat → Nat) (hE : wInj 19 E) (w : Mm)  {res : Int32 × Mm} (hf : M_behindOne w = some res) : Met l yX2_behindOne (ws_ yX2_behindOne cX2_behindOne 4 (some .int)) rmX2_behindOne (Pw D clM (tyM dA) shM 19 dA E [.ref (E 0)] w) (Qwi D clM shM 19 dA E res.1 res.2) 0 0 (AE 19 E) := by
  refine xm_head (own := RX2) (by decide) rfl (Nat.le_of_ble_eq_true rfl) ?_
  intro p e s m args below meth c ls Q hQ C hP hl
  obtain ⟨hx, hb, hr, hlocks, hml, hown, hts, hK⟩ := C
  replace hl : lv_has ls 4 [(0, .ref (E 0))] := hl
  have hS : va_S (AE 19 E) s.heap s.heap [] := va_S.rf
  have hD : wD 19 E (AE 19 E) := wD.self hE
  unfold M_behindOne at hf
  obtain ⟨H, eH⟩ : ∃ H, H = s.heap := ⟨_, rfl⟩
  obtain ⟨locs, eL⟩ : ∃ locs : List Loc, locs = [] := ⟨_, rfl⟩
  rw [← eL] at hS ⊢
  rw [← eH] at hP
  have hS : va_S (AE 19 E) s.heap H locs := by rw [eH]; exact hS
  show W p l e rmX2_behindOne s m args below meth c s.heap locs 0 0 Q (F0 m 0 ls [])
  rw [← eH]
  refine lv_aload_n hx hb dX2_behindOne_0 rfl (lv_at hl 0 rfl) ?_
  obtain ⟨q2, g1, hf⟩ := ob_bind hf
  refine xc_i (xw_run (As := []) (rest := []) ⟨hx, hb, hml, hown, hts⟩ (k0 := 0) (wkX2_betweenOf l D dA E hE w g1) (cwV 0 hts (lw_V q1654 q1656 qs77 q140 q1657) rfl rfl rfl cdX2_betweenOf ⟨Nat.le_of_ble_eq_true rfl, Nat.le_of_ble_eq_true rfl⟩) hK hP (by decide) rfl rfl rfl hl.1 rfl rfl (Nat.le_of_ble_eq_true rfl) dX2_behindOne_1 ⟨Nat.zero_le _, Nat.zero_le _⟩) hS hD.2 (fun H locs hP hS => ?_)
  refine lv_istore_n (lv' := [(1, .int q2), (0, .ref (E 0))]) hx hb dX2_behindOne_4 rfl hl (by decide) rfl (fun ls hl => ?_)
  refine lv_iload_n hx hb dX2_behindOne_5 rfl (lv_at hl 0 rfl) ?_
  refine lv_if_lt (tgt := 60) hx hb dX2_behindOne_6 (by decide) (fun c3 => ?_) (fun c3 => ?_)
  · replace hf := ob_t hf c3
    refine lv_aload_n hx hb dX2_behindOne_60 rfl (lv_at hl 1 rfl) ?_
    obtain ⟨q5, g4, hf⟩ := ob_bind hf
    refine xc_i (xw_run (As := []) (rest := []) ⟨hx, hb, hml, hown, hts⟩ (k0 := 0) (wkX2_openNow l D dA E hE w g4) (cwV 0 hts (lw_V q1658 q1660 qs78 q140 q1661) rfl rfl rfl cdX2_openNow ⟨Nat.le_of_ble_eq_true rfl, Nat.le_of_ble_eq_true rfl⟩) hK hP (by decide) rfl rfl rfl hl.1 rfl rfl (Nat.le_of_ble_eq_true rfl) dX2_behindOne_61 ⟨Nat.zero_le _, Nat.zero_le _⟩) hS hD.2 (fun H locs hP hS => ?_)
    refine lv_istore_n (lv' := [(2, .int q5), (1, .int q2), (0, .ref (E 0))]) hx hb dX2_behindOne_64 rfl hl (by decide) rfl (fun ls hl => ?_)
    refine lv_aload_n hx hb dX2_behindOne_65 rfl (lv_at hl 2 rfl) ?_
    refine lv_iload_n hx hb dX2_behindOne_66 rfl (lv_at hl 0 rfl) ?_
    obtain ⟨q7, g6, hf⟩ := ob_bind hf
    refine xc_i (xw_run (As := [.int q5]) (rest := []) ⟨hx, hb, hml, hown, hts⟩ (k0 := 0) (wkX2_partOf l D dA E hE w q5 g6) (cwV 1 hts (lw_V q1685 q1687 qs84 q140 q1688) rfl rfl rfl cdX2_partOf ⟨Nat.le_of_ble_eq_true rfl, Nat.le_of_ble_eq_true rfl⟩) hK hP (by decide) rfl rfl rfl hl.1 rfl rfl (Nat.le_of_ble_eq_true rfl) dX2_behindOne_67 ⟨Nat.zero_le _, Nat.zero_le _⟩) hS hD.2 (fun H locs hP hS => ?_)
    refine lv_istore_n (lv' := [(3, .int q7), (2, .int q5), (1, .int q2), (0, .ref (E 0))]) hx hb dX2_behindOne_70 rfl hl (by decide) rfl (fun ls hl => ?_)
    refine lv_iload_n hx hb dX2_behindOne_71 rfl (lv_at hl 0 rfl) ?_
    refine lv_if_ge (tgt := 77) hx hb dX2_behindOne_72 (by decide) (fun c8 => ?_) (fun c8 => ?_)
    · replace hf := ob_t hf c8
      refine lv_aload_n hx hb dX2_behindOne_77 rfl (lv_at hl 3 rfl) ?_
      refine lv_iconst (v := 1) hx hb dX2_behindOne_78 (by decide) ?_
      obtain ⟨q10, g9, hf⟩ := ob_bind hf
      refine xc_v (xw_run (As := [.int 1]) (rest := []) ⟨hx, hb, hml, hown, hts⟩ (k0 := 0) (wkX2_settle l D dA E hE w 1 g9) (cwV 1 hts (lw_V q1677 q1679 qs82 q140 q1680) rfl rfl rfl cdX2_settle ⟨Nat.le_of_ble_eq_true rfl, Nat.le_of_ble_eq_true rfl⟩) hK hP (by decide) rfl rfl rfl hl.1 rfl rfl (Nat.le_of_ble_eq_true rfl) dX2_behindOne_79 ⟨Nat.zero_le _, Nat.zero_le _⟩) hS hD.2 (fun H locs hP hS => ?_)
      refine lv_aload_n hx hb dX2_behindOne_82 rfl (lv_at hl 3 rfl) ?_
      obtain ⟨q12, g11, hf⟩ := ob_bind hf
      refine xc_v (xw_run (As := []) (rest := []) ⟨hx, hb, hml, hown, hts⟩ (k0 := 0) (wkX2_nextToken l D dA E hE q10 g11) (cwV 0 hts (lw_V q1573 q1575 qs64 q140 q1576) rfl rfl rfl cdX2_nextToken ⟨Nat.le_of_ble_eq_true rfl, Nat.le_of_ble_eq_true rfl⟩) hK hP (by decide) rfl rfl rfl hl.1 rfl rfl (Nat.le_of_ble_eq_true rfl) dX2_behindOne_83 ⟨Nat.zero_le _, Nat.zero_le _⟩) hS hD.2 (fun H locs hP hS => ?_)
      refine lv_iload_n hx hb dX2_behindOne_86 rfl (lv_at hl 0 rfl) ?_
      refine lv_if_ne (tgt := 127) hx hb dX2_behindOne_87 (by decide) (fun c13 => ?_) (fun c13 => ?_)
      · replace hf := ob_f hf c13
        refine lv_aload_n hx hb dX2_behindOne_127 rfl (lv_at hl 3 rfl) ?_
        refine xr_get hx hb hts in_X2 hown hK hP 0 (by decide) rfl rfl 15 (by decide) (hts _ q1420) (fun _ h => h) rfl (v := .ref (E 5)) rfl dX2_behindOne_128 ?_
        refine lv_aload_n hx hb dX2_behindOne_131 rfl (lv_at hl 3 rfl) ?_
        obtain ⟨q15, g14, hf⟩ := ob_bind hf
        refine xc_i (xw_run (As := []) (rest := [.ref (E 5)]) ⟨hx, hb, hml, hown, hts⟩ (k0 := 0) (wkX2_openAt l D dA E hE q12 g14) (cwV 0 hts (lw_V q1662 q1664 qs79 q140 q1665) rfl rfl rfl cdX2_openAt ⟨Nat.le_of_ble_eq_true rfl, Nat.le_of_ble_eq_true rfl⟩) hK hP (by decide) rfl rfl rfl hl.1 rfl rfl (Nat.le_of_ble_eq_true rfl) dX2_behindOne_132 ⟨Nat.zero_le _, Nat.zero_le _⟩) hS hD.2 (fun H locs hP hS => ?_)
        refine lv_iload_n hx hb dX2_behindOne_135 rfl (lv_at hl 0 rfl) ?_
        obtain ⟨h16, hf⟩ := ob_gd hf
        obtain ⟨w17, ew17, hf⟩ := ob_bnd hf
        refine xr_iast hx hb hK hP hD hS 5 (by decide) rfl 0 rfl (j := q15.toNatClampNeg) (w' := w17) h16 rfl ew17 dX2_behindOne_136 (fun H locs hP hS => ?_)
        refine lv_aload_n hx hb dX2_behindOne_137 rfl (lv_at hl 3 rfl) ?_
        refine lv_iconst (v := 0) hx hb dX2_behindOne_138 (by decide) ?_
        obtain ⟨w18, ew18, hf⟩ := ob_bnd hf
        refine xr_put hx hb hts in_X2 tyX2 tyX2_ok nmX2 hown hK hP hD hS 0 (by decide) rfl rfl 18 (by decide) (hts _ q1423) (fun _ h => h) rfl (by decide +kernel) (by decide +kernel) rfl (w' := w18) ew18 dX2_behindOne_139 (fun H locs hP hS => ?_)
        refine lv_iconst (v := 0) hx hb dX2_behindOne_142 (by decide) ?_
        obtain rfl := ob_s hf
        subst hQ
        exact xe_i hx hb hr hlocks hP hS dX2_behindOne_143
      · replace hf := ob_t hf c13
        refine lv_aload_n hx hb dX2_behindOne_90 rfl (lv_at hl 3 rfl) ?_
        refine lv_dup hx hb dX2_behindOne_91 rfl ?_
        refine xr_get hx hb hts in_X2 hown hK hP 0 (by decide) rfl rfl 17 (by decide) (hts _ q1422) (fun _ h => h) rfl (v := .int (q12.1 0 17)) rfl dX2_behindOne_92 ?_
        refine lv_iconst (v := 1) hx hb dX2_behindOne_95 (by decide) ?_
        refine lv_isub hx hb dX2_behindOne_96 ?_
        obtain ⟨w19, ew19, hf⟩ := ob_bnd hf
        refine xr_put hx hb hts in_X2 tyX2 tyX2_ok nmX2 hown hK hP hD hS 0 (by decide) rfl rfl 17 (by decide) (hts _ q1422) (fun _ h => h) rfl rfl rfl rfl (w' := w19) ew19 dX2_behindOne_97 (fun H locs hP hS => ?_)
        refine lv_aload_n hx hb dX2_behindOne_100 rfl (lv_at hl 3 rfl) ?_
        refine lv_dup hx hb dX2_behindOne_101 rfl ?_
        refine xr_get hx hb hts in_X2 hown hK hP 0 (by decide) rfl rfl 16 (by decide) (hts _ q1421) (fun _ h => h) rfl (v := .int (w19.1 0 16)) rfl dX2_behindOne_102 ?_
        refine lv_iconst (v := 1) hx hb dX2_behindOne_105 (by decide) ?_
        refine lv_isub hx hb dX2_behindOne_106 ?_
        obtain ⟨w20, ew20, hf⟩ := ob_bnd hf
        refine xr_put hx hb hts in_X2 tyX2 tyX2_ok nmX2 hown hK hP hD hS 0 (by decide) rfl rfl 16 (by decide) (hts _ q1421) (fun _ h => h) rfl rfl rfl rfl (w' := w20) ew20 dX2_behindOne_107 (fun H locs hP hS => ?_)
        refine lv_iload_n hx hb dX2_behindOne_110 rfl (lv_at hl 1 rfl) ?_
        refine lv_bipush (v := 44) hx hb dX2_behindOne_111 (by decide) ?_
        have kj122 : ∀ (w21 : Mm) (H : Heap) (locs : List Loc) (ls : Array Slot), M_behindOne_j122 w21 = some res → va_P D clM (wl shM 19 dA E w21) H → va_S (AE 19 E) s.heap H locs → lv_has ls 4 [(0, .ref (E 0))] → W p l e rmX2_behindOne s m args below meth c H locs 0 0 Q (F0 m 122 ls []) := by
          intro w21 H locs ls hf hP hS hl
          unfold M_behindOne_j122 at hf
          refine lv_aload_n hx hb dX2_behindOne_122 rfl (lv_at hl 0 rfl) ?_
          obtain ⟨q23, g22, hf⟩ := ob_bind hf
          refine xc_i (xw_run (As := []) (rest := []) ⟨hx, hb, hml, hown, hts⟩ (k0 := 0) (wkX2_endOne l D dA E hE w21 g22) (cwV 0 hts (lw_V q1689 q1691 qs85 q140 q1692) rfl rfl rfl cdX2_endOne ⟨Nat.le_of_ble_eq_true rfl, Nat.le_of_ble_eq_true rfl⟩) hK hP (by decide) rfl rfl rfl hl.1 rfl rfl (Nat.le_of_ble_eq_true rfl) dX2_behindOne_123 ⟨Nat.zero_le _, Nat.zero_le _⟩) hS hD.2 (fun H locs hP hS => ?_)
          obtain rfl := ob_s hf
          subst hQ
          exact xe_i hx hb hr hlocks hP hS dX2_behindOne_126
        refine lv_icmp_ne (tgt := 122) hx hb dX2_behindOne_113 (by decide) (fun c24 => ?_) (fun c24 => ?_)
        · replace hf := ob_f hf c24
          exact kj122 w20 H locs ls hf hP hS (lv_sub hl [3] rfl)
        · replace hf := ob_t hf c24
          refine lv_aload_n hx hb dX2_behindOne_116 rfl (lv_at hl 3 rfl) ?_
          refine lv_iconst (v := 3) hx hb dX2_behindOne_117 (by decide) ?_
          refine lv_iconst (v := 0) hx hb dX2_behindOne_118 (by decide) ?_
          obtain ⟨q26, g25, hf⟩ := ob_bind hf
          refine xc_v (xw_run (As := [.int 3, .int 0]) (rest := []) ⟨hx, hb, hml, hown, hts⟩ (k0 := 0) (wkX2_emit l D dA E hE w20 3 0 g25) (cwV 2 hts (lw_V q1681 q1683 qs83 q140 q1684) rfl rfl rfl cdX2_emit ⟨Nat.le_of_ble_eq_true rfl, Nat.le_of_ble_eq_true rfl⟩) hK hP (by decide) rfl rfl rfl hl.1 rfl rfl (Nat.le_of_ble_eq_true rfl) dX2_behindOne_119 ⟨Nat.zero_le _, Nat.zero_le _⟩) hS hD.2 (fun H locs hP hS => ?_)
          exact kj122 q26 H locs ls hf hP hS (lv_sub hl [3] rfl)
    · replace hf := ob_f hf c8
      refine lv_iconst (v := (-1)) hx hb dX2_behindOne_75 (by decide) ?_
      obtain rfl := ob_s hf
      subst hQ
      exact xe_i hx hb hr hlocks hP hS dX2_behindOne_76
  · replace hf := ob_f hf c3
    refine lv_aload_n hx hb dX2_behindOne_9 rfl (lv_at hl 1 rfl) ?_
    refine lv_iload_n hx hb dX2_behindOne_10 rfl (lv_at hl 0 rfl) ?_
    obtain ⟨q28, g27, hf⟩ := ob_bind hf
    refine xc_i (xw_runS (As := [.int q2]) (rest := [.ref (E 0)]) ⟨hx, hb, hml, hown, hts⟩ (wkX2_rank l D dA E hE w q2 g27) (va_cwS 1 hts (lw_S q1670 q1671 q140 q1672) rfl rfl rfl cdX2_rank.2 ⟨Nat.le_of_ble_eq_true rfl, Nat.le_of_ble_eq_true rfl⟩) hK hP hl.1 rfl rfl (Nat.le_of_ble_eq_true rfl) dX2_behindOne_11 ⟨Nat.zero_le _, Nat.zero_le _⟩) hS hD.2 (fun H locs hP hS => ?_)
    refine lv_iconst (v := 4) hx hb dX2_behindOne_14 (by decide) ?_
    have kj26 : ∀ (t29 : Int32) (H : Heap) (locs : List Loc) (ls : Array Slot), M_behindOne_j26 w t29 q2 = some res → va_P D clM (wl shM 19 dA E w) H → va_S (AE 19 E) s.heap H locs → lv_has ls 4 [(0, .ref (E 0)), (1, .int q2)] → W p l e rmX2_behindOne s m args below meth c H locs 0 0 Q (F0 m 26 ls [.int t29, .ref (E 0)]) := by
      intro t29 H locs ls hf hP hS hl
      unfold M_behindOne_j26 at hf
      obtain ⟨q31, g30, hf⟩ := ob_bind hf
      refine xc_v (xw_run (As := [.int t29]) (rest := []) ⟨hx, hb, hml, hown, hts⟩ (k0 := 0) (wkX2_settle l D dA E hE w t29 g30) (cwV 1 hts (lw_V q1677 q1679 qs82 q140 q1680) rfl rfl rfl cdX2_settle ⟨Nat.le_of_ble_eq_true rfl, Nat.le_of_ble_eq_true rfl⟩) hK hP (by decide) rfl rfl rfl hl.1 rfl rfl (Nat.le_of_ble_eq_true rfl) dX2_behindOne_26 ⟨Nat.zero_le _, Nat.zero_le _⟩) hS hD.2 (fun H locs hP hS => ?_)
      refine lv_aload_n hx hb dX2_behindOne_29 rfl (lv_at hl 0 rfl) ?_
      refine xr_get hx hb hts in_X2 hown hK hP 0 (by decide) rfl rfl 15 (by decide) (hts _ q1420) (fun _ h => h) rfl (v := .ref (E 5)) rfl dX2_behindOne_30 ?_
      refine lv_aload_n hx hb dX2_behindOne_33 rfl (lv_at hl 0 rfl) ?_
      refine xr_get hx hb hts in_X2 hown hK hP 0 (by decide) rfl rfl 16 (by decide) (hts _ q1421) (fun _ h => h) rfl (v := .int (q31.1 0 16)) rfl dX2_behindOne_34 ?_
      refine lv_iload_n hx hb dX2_behindOne_37 rfl (lv_at hl 1 rfl) ?_
      obtain ⟨h32, hf⟩ := ob_gd hf
      obtain ⟨w33, ew33, hf⟩ := ob_bnd hf
      refine xr_iast hx hb hK hP hD hS 5 (by decide) rfl 0 rfl (j := (q31.1 0 16).toNatClampNeg) (w' := w33) h32 rfl ew33 dX2_behindOne_38 (fun H locs hP hS => ?_)
      refine lv_aload_n hx hb dX2_behindOne_39 rfl (lv_at hl 0 rfl) ?_
      refine lv_dup hx hb dX2_behindOne_40 rfl ?_
      refine xr_get hx hb hts in_X2 hown hK hP 0 (by decide) rfl rfl 16 (by decide) (hts _ q1421) (fun _ h => h) rfl (v := .int (w33.1 0 16)) rfl dX2_behindOne_41 ?_
      refine lv_iconst (v := 1) hx hb dX2_behindOne_44 (by decide) ?_
      refine lv_iadd hx hb dX2_behindOne_45 ?_
      obtain ⟨w34, ew34, hf⟩ := ob_bnd hf
      refine xr_put hx hb hts in_X2 tyX2 tyX2_ok nmX2 hown hK hP hD hS 0 (by decide) rfl rfl 16 (by decide) (hts _ q1421) (fun _ h => h) rfl rfl rfl rfl (w' := w34) ew34 dX2_behindOne_46 (fun H locs hP hS => ?_)
      refine lv_aload_n hx hb dX2_behindOne_49 rfl (lv_at hl 0 rfl) ?_
      refine lv_iconst (v := 0) hx hb dX2_behindOne_50 (by decide) ?_
      obtain ⟨w35, ew35, hf⟩ := ob_bnd hf
      refine xr_put hx hb hts in_X2 tyX2 tyX2_ok nmX2 hown hK hP hD hS 0 (by decide) rfl rfl 18 (by decide) (hts _ q1423) (fun _ h => h) rfl (by decide +kernel) (by decide +kernel) rfl (w' := w35) ew35 dX2_behindOne_51 (fun H locs hP hS => ?_)
      refine lv_aload_n hx hb dX2_behindOne_54 rfl (lv_at hl 0 rfl) ?_
      obtain ⟨q37, g36, hf⟩ := ob_bind hf
      refine xc_v (xw_run (As := []) (rest := []) ⟨hx, hb, hml, hown, hts⟩ (k0 := 0) (wkX2_nextToken l D dA E hE w35 g36) (cwV 0 hts (lw_V q1573 q1575 qs64 q140 q1576) rfl rfl rfl cdX2_nextToken ⟨Nat.le_of_ble_eq_true rfl, Nat.le_of_ble_eq_true rfl⟩) hK hP (by decide) rfl rfl rfl hl.1 rfl rfl (Nat.le_of_ble_eq_true rfl) dX2_behindOne_55 ⟨Nat.zero_le _, Nat.zero_le _⟩) hS hD.2 (fun H locs hP hS => ?_)
      refine lv_iconst (v := 0) hx hb dX2_behindOne_58 (by decide) ?_
      obtain rfl := ob_s hf
      subst hQ
      exact xe_i hx hb hr hlocks hP hS dX2_behindOne_59
    refine lv_icmp_ne (tgt := 22) hx hb dX2_behindOne_15 (by decide) (fun c38 => ?_) (fun c38 => ?_)
    · replace hf := ob_f hf c38
      refine lv_iload_n hx hb dX2_behindOne_22 rfl (lv_at hl 0 rfl) ?_
      obtain ⟨q40, g39, hf⟩ := ob_bind hf
      refine xc_i (xw_runS (As := [.int q2]) (rest := [.ref (E 0)]) ⟨hx, hb, hml, hown, hts⟩ (wkX2_rank l D dA E hE w q2 g39) (va_cwS 1 hts (lw_S q1670 q1671 q140 q1672) rfl rfl rfl cdX2_rank.2 ⟨Nat.le_of_ble_eq_true rfl, Nat.le_of_ble_eq_true rfl⟩) hK hP hl.1 rfl rfl (Nat.le_of_ble_eq_true rfl) dX2_behindOne_23 ⟨Nat.zero_le _, Nat.zero_le _⟩) hS hD.2 (fun H locs hP hS => ?_)
      exact kj26 q40 H locs ls hf hP hS (lv_sub hl [1, 0] rfl)
    · replace hf := ob_t hf c38
      refine lv_iconst (v := 5) hx hb dX2_behindOne_18 (by decide) ?_
      refine lv_goto (tgt := 26) hx hb dX2_behindOne_19 (by decide) ?_
      exact kj26 5 H locs ls hf hP hS (lv_sub hl [1, 0] rfl)
abbrev rmX2_nameOf : Room := { frames := 5, cells := 0, slots := 0, locals := 115 }
theorem cdX2_nameOf : yX2_nameOf.cls = RX2 ∧ yX2_nameOf.cls ≠ "java/lang/invoke/MethodHandle" ∧ yX2_nameOf.cls ≠ "java/lang/invoke/VarHandle" ∧ (parseMethodDescriptor yX2_nameOf.desc).map (fun d => d.parameters.length) = some 0 := by decide +kernel
set_option maxHeartbeats 4000000 in
set_option maxRecDepth 100000 in
theorem wkX2_nameOf (l : Launch) (D : va_G) (dA : Nat → ClassId) (E : Nat → Nat) (hE : wInj 19 E) (w : Mm)  {res : Int32} (hf : M_nameOf w = some res) : Met l yX2_nameOf (ws_ yX2_nameOf cX2_nameOf 1 (some .int)) rmX2_nameOf (Pw D clM (tyM dA) shM 19 dA E [.ref (E 0)] w) (Qwi D clM shM 19 dA E res w) 0 0 (AE 19 E) := by
  refine xm_head (own := RX2) (by decide) rfl (Nat.le_of_ble_eq_true rfl) ?_
  intro p e s m args below meth c ls Q hQ C hP hl
  obtain ⟨hx, hb, hr, hlocks, hml, hown, hts, hK⟩ := C
  replace hl : lv_has ls 1 [(0, .ref (E 0))] := hl
  have hS : va_S (AE 19 E) s.heap s.heap [] := va_S.rf
  have hD : wD 19 E (AE 19 E) := wD.self hE
  unfold M_nameOf at hf
  obtain ⟨H, eH⟩ : ∃ H, H = s.heap := ⟨_, rfl⟩
  obtain ⟨locs, eL⟩ : ∃ locs : List Loc, locs = [] := ⟨_, rfl⟩
  rw [← eL] at hS ⊢
  rw [← eH] at hP
  have hS : va_S (AE 19 E) s.heap H locs := by rw [eH]; exact hS
  show W p l e rmX2_nameOf s m args below meth c s.heap locs 0 0 Q (F0 m 0 ls [])
  rw [← eH]
  refine lv_aload_n hx hb dX2_nameOf_0 rfl (lv_at hl 0 rfl) ?_
  refine xr_get hx hb hts in_X2 hown hK hP 0 (by decide) rfl rfl 9 (by decide) (hts _ q1414) (fun _ h => h) rfl (v := .int (w.1 0 9)) rfl dX2_nameOf_1 ?_
  refine lv_iconst (v := 2) hx hb dX2_nameOf_4 (by decide) ?_
  refine lv_icmp_eq (tgt := 10) hx hb dX2_nameOf_5 (by decide) (fun c1 => ?_) (fun c1 => ?_)
  · replace hf := ob_t hf c1
    refine lv_aload_n hx hb dX2_nameOf_10 rfl (lv_at hl 0 rfl) ?_
    refine xr_get hx hb hts in_X2 hown hK hP 0 (by decide) rfl rfl 11 (by decide) (hts _ q1416) (fun _ h => h) rfl (v := .long (w.2.1 0 11)) rfl dX2_nameOf_11 ?_
    refine lv_bipush (v := 100) hx hb dX2_nameOf_14 (by decide) ?_
    refine lv_bipush (v := 97) hx hb dX2_nameOf_16 (by decide) ?_
    refine lv_bipush (v := 121) hx hb dX2_nameOf_18 (by decide) ?_
    obtain ⟨q3, g2, hf⟩ := ob_bind hf
    refine xc_l (xw_runS (As := [.int 100, .int 97, .int 121]) (rest := [.long (w.2.1 0 11)]) ⟨hx, hb, hml, hown, hts⟩ (wkX2_w3 l D dA E hE w 100 97 121 g2) (va_cwS 3 hts (lw_S q1603 q1604 q140 q1605) rfl rfl rfl cdX2_w3.2 ⟨Nat.le_of_ble_eq_true rfl, Nat.le_of_ble_eq_true rfl⟩) hK hP hl.1 rfl rfl (Nat.le_of_ble_eq_true rfl) dX2_nameOf_20 ⟨Nat.zero_le _, Nat.zero_le _⟩) hS hD.2 (fun H locs hP hS => ?_)
    refine W.lcmp hx hb dX2_nameOf_23 ?_
    refine lv_if_ne (tgt := 29) hx hb dX2_nameOf_24 (by decide) (fun c4 => ?_) (fun c4 => ?_)
    · replace hf := ob_f hf c4
      refine lv_aload_n hx hb dX2_nameOf_29 rfl (lv_at hl 0 rfl) ?_
      refine xr_get hx hb hts in_X2 hown hK hP 0 (by decide) rfl rfl 11 (by decide) (hts _ q1416) (fun _ h => h) rfl (v := .long (w.2.1 0 11)) rfl dX2_nameOf_30 ?_
      refine lv_bipush (v := 114) hx hb dX2_nameOf_33 (by decide) ?_
      refine lv_bipush (v := 97) hx hb dX2_nameOf_35 (by decide) ?_
      refine lv_bipush (v := 105) hx hb dX2_nameOf_37 (by decide) ?_
      refine lv_bipush (v := 110) hx hb dX2_nameOf_39 (by decide) ?_
      obtain ⟨q6, g5, hf⟩ := ob_bind hf
      refine xc_l (xw_runS (As := [.int 114, .int 97, .int 105, .int 110]) (rest := [.long (w.2.1 0 11)]) ⟨hx, hb, hml, hown, hts⟩ (wkX2_w4 l D dA E hE w 114 97 105 110 g5) (va_cwS 4 hts (lw_S q1600 q1601 q140 q1602) rfl rfl rfl cdX2_w4.2 ⟨Nat.le_of_ble_eq_true rfl, Nat.le_of_ble_eq_true rfl⟩) hK hP hl.1 rfl rfl (Nat.le_of_ble_eq_true rfl) dX2_nameOf_41 ⟨Nat.zero_le _, Nat.zero_le _⟩) hS hD.2 (fun H locs hP hS => ?_)
      refine W.lcmp hx hb dX2_nameOf_44 ?_
      refine lv_if_ne (tgt := 50) hx hb dX2_nameOf_45 (by decide) (fun c7 => ?_) (fun c7 => ?_)
      · replace hf := ob_f hf c7
        refine lv_aload_n hx hb dX2_nameOf_50 rfl (lv_at hl 0 rfl) ?_
        refine xr_get hx hb hts in_X2 hown hK hP 0 (by decide) rfl rfl 11 (by decide) (hts _ q1416) (fun _ h => h) rfl (v := .long (w.2.1 0 11)) rfl dX2_nameOf_51 ?_
        refine lv_bipush (v := 110) hx hb dX2_nameOf_54 (by decide) ?_
        refine lv_bipush (v := 117) hx hb dX2_nameOf_56 (by decide) ?_
        refine lv_bipush (v := 109) hx hb dX2_nameOf_58 (by decide) ?_
        refine lv_bipush (v := 98) hx hb dX2_nameOf_60 (by decide) ?_
        refine lv_bipush (v := 101) hx hb dX2_nameOf_62 (by decide) ?_
        refine lv_bipush (v := 114) hx hb dX2_nameOf_64 (by decide) ?_
        obtain ⟨q9, g8, hf⟩ := ob_bind hf
        refine xc_l (xw_runS (As := [.int 110, .int 117, .int 109, .int 98, .int 101, .int 114]) (rest := [.long (w.2.1 0 11)]) ⟨hx, hb, hml, hown, hts⟩ (wkX2_w6 l D dA E hE w 110 117 109 98 101 114 g8) (va_cwS 6 hts (lw_S q1620 q1621 q140 q1622) rfl rfl rfl cdX2_w6.2 ⟨Nat.le_of_ble_eq_true rfl, Nat.le_of_ble_eq_true rfl⟩) hK hP hl.1 rfl rfl (Nat.le_of_ble_eq_true rfl) dX2_nameOf_66 ⟨Nat.zero_le _, Nat.zero_le _⟩) hS hD.2 (fun H locs hP hS => ?_)
        refine W.lcmp hx hb dX2_nameOf_69 ?_
        refine lv_if_ne (tgt := 75) hx hb dX2_nameOf_70 (by decide) (fun c10 => ?_) (fun c10 => ?_)
        · replace hf := ob_f hf c10
          refine lv_aload_n hx hb dX2_nameOf_75 rfl (lv_at hl 0 rfl) ?_
          refine xr_get hx hb hts in_X2 hown hK hP 0 (by decide) rfl rfl 11 (by decide) (hts _ q1416) (fun _ h => h) rfl (v := .long (w.2.1 0 11)) rfl dX2_nameOf_76 ?_
          refine lv_bipush (v := 119) hx hb dX2_nameOf_79 (by decide) ?_
          refine lv_bipush (v := 111) hx hb dX2_nameOf_81 (by decide) ?_
          refine lv_bipush (v := 114) hx hb dX2_nameOf_83 (by decide) ?_
          refine lv_bipush (v := 116) hx hb dX2_nameOf_85 (by decide) ?_
          refine lv_bipush (v := 104) hx hb dX2_nameOf_87 (by decide) ?_
          obtain ⟨q12, g11, hf⟩ := ob_bind hf
          refine xc_l (xw_runS (As := [.int 119, .int 111, .int 114, .int 116, .int 104]) (rest := [.long (w.2.1 0 11)]) ⟨hx, hb, hml, hown, hts⟩ (wkX2_w5 l D dA E hE w 119 111 114 116 104 g11) (va_cwS 5 hts (lw_S q1613 q1614 q140 q1615) rfl rfl rfl cdX2_w5.2 ⟨Nat.le_of_ble_eq_true rfl, Nat.le_of_ble_eq_true rfl⟩) hK hP hl.1 rfl rfl (Nat.le_of_ble_eq_true rfl) dX2_nameOf_89 ⟨Nat.zero_le _, Nat.zero_le _⟩) hS hD.2 (fun H locs hP hS => ?_)
          refine W.lcmp hx hb dX2_nameOf_92 ?_
          refine lv_if_ne (tgt := 98) hx hb dX2_nameOf_93 (by decide) (fun c13 => ?_) (fun c13 => ?_)
          · replace hf := ob_f hf c13
            refine lv_aload_n hx hb dX2_nameOf_98 rfl (lv_at hl 0 rfl) ?_
            refine xr_get hx hb hts in_X2 hown hK hP 0 (by decide) rfl rfl 11 (by decide) (hts _ q1416) (fun _ h => h) rfl (v := .long (w.2.1 0 11)) rfl dX2_nameOf_99 ?_
            refine lv_bipush (v := 104) hx hb dX2_nameOf_102 (by decide) ?_
            refine lv_bipush (v := 101) hx hb dX2_nameOf_104 (by decide) ?_
            refine lv_bipush (v := 97) hx hb dX2_nameOf_106 (by decide) ?_
            refine lv_bipush (v := 116) hx hb dX2_nameOf_108 (by decide) ?_
            obtain ⟨q15, g14, hf⟩ := ob_bind hf
            refine xc_l (xw_runS (As := [.int 104, .int 101, .int 97, .int 116]) (rest := [.long (w.2.1 0 11)]) ⟨hx, hb, hml, hown, hts⟩ (wkX2_w4 l D dA E hE w 104 101 97 116 g14) (va_cwS 4 hts (lw_S q1600 q1601 q140 q1602) rfl rfl rfl cdX2_w4.2 ⟨Nat.le_of_ble_eq_true rfl, Nat.le_of_ble_eq_true rfl⟩) hK hP hl.1 rfl rfl (Nat.le_of_ble_eq_true rfl) dX2_nameOf_110 ⟨Nat.zero_le _, Nat.zero_le _⟩) hS hD.2 (fun H locs hP hS => ?_)
            refine W.lcmp hx hb dX2_nameOf_113 ?_
            refine lv_if_ne (tgt := 119) hx hb dX2_nameOf_114 (by decide) (fun c16 => ?_) (fun c16 => ?_)
            · replace hf := ob_f hf c16
              refine lv_aload_n hx hb dX2_nameOf_119 rfl (lv_at hl 0 rfl) ?_
              refine xr_get hx hb hts in_X2 hown hK hP 0 (by decide) rfl rfl 11 (by decide) (hts _ q1416) (fun _ h => h) rfl (v := .long (w.2.1 0 11)) rfl dX2_nameOf_120 ?_
              refine lv_bipush (v := 104) hx hb dX2_nameOf_123 (by decide) ?_
              refine lv_bipush (v := 101) hx hb dX2_nameOf_125 (by decide) ?_
              refine lv_bipush (v := 108) hx hb dX2_nameOf_127 (by decide) ?_
              refine lv_bipush (v := 100) hx hb dX2_nameOf_129 (by decide) ?_
              obtain ⟨q18, g17, hf⟩ := ob_bind hf
              refine xc_l (xw_runS (As := [.int 104, .int 101, .int 108, .int 100]) (rest := [.long (w.2.1 0 11)]) ⟨hx, hb, hml, hown, hts⟩ (wkX2_w4 l D dA E hE w 104 101 108 100 g17) (va_cwS 4 hts (lw_S q1600 q1601 q140 q1602) rfl rfl rfl cdX2_w4.2 ⟨Nat.le_of_ble_eq_true rfl, Nat.le_of_ble_eq_true rfl⟩) hK hP hl.1 rfl rfl (Nat.le_of_ble_eq_true rfl) dX2_nameOf_131 ⟨Nat.zero_le _, Nat.zero_le _⟩) hS hD.2 (fun H locs hP hS => ?_)
              refine W.lcmp hx hb dX2_nameOf_134 ?_
              refine lv_if_ne (tgt := 140) hx hb dX2_nameOf_135 (by decide) (fun c19 => ?_) (fun c19 => ?_)
              · replace hf := ob_f hf c19
                refine lv_aload_n hx hb dX2_nameOf_140 rfl (lv_at hl 0 rfl) ?_
                refine xr_get hx hb hts in_X2 hown hK hP 0 (by decide) rfl rfl 11 (by decide) (hts _ q1416) (fun _ h => h) rfl (v := .long (w.2.1 0 11)) rfl dX2_nameOf_141 ?_
                refine lv_bipush (v := 112) hx hb dX2_nameOf_144 (by decide) ?_
                refine lv_bipush (v := 117) hx hb dX2_nameOf_146 (by decide) ?_
                refine lv_bipush (v := 114) hx hb dX2_nameOf_148 (by decide) ?_
                refine lv_bipush (v := 115) hx hb dX2_nameOf_150 (by decide) ?_
                refine lv_bipush (v := 101) hx hb dX2_nameOf_152 (by decide) ?_
                obtain ⟨q21, g20, hf⟩ := ob_bind hf
                refine xc_l (xw_runS (As := [.int 112, .int 117, .int 114, .int 115, .int 101]) (rest := [.long (w.2.1 0 11)]) ⟨hx, hb, hml, hown, hts⟩ (wkX2_w5 l D dA E hE w 112 117 114 115 101 g20) (va_cwS 5 hts (lw_S q1613 q1614 q140 q1615) rfl rfl rfl cdX2_w5.2 ⟨Nat.le_of_ble_eq_true rfl, Nat.le_of_ble_eq_true rfl⟩) hK hP hl.1 rfl rfl (Nat.le_of_ble_eq_true rfl) dX2_nameOf_154 ⟨Nat.zero_le _, Nat.zero_le _⟩) hS hD.2 (fun H locs hP hS => ?_)
                refine W.lcmp hx hb dX2_nameOf_157 ?_
                refine lv_if_ne (tgt := 166) hx hb dX2_nameOf_158 (by decide) (fun c22 => ?_) (fun c22 => ?_)
                · replace hf := ob_f hf c22
                  refine lv_aload_n hx hb dX2_nameOf_166 rfl (lv_at hl 0 rfl) ?_
                  refine xr_get hx hb hts in_X2 hown hK hP 0 (by decide) rfl rfl 11 (by decide) (hts _ q1416) (fun _ h => h) rfl (v := .long (w.2.1 0 11)) rfl dX2_nameOf_167 ?_
                  refine lv_bipush (v := 112) hx hb dX2_nameOf_170 (by decide) ?_
                  refine lv_bipush (v := 97) hx hb dX2_nameOf_172 (by decide) ?_
                  refine lv_bipush (v := 119) hx hb dX2_nameOf_174 (by decide) ?_
                  refine lv_bipush (v := 110) hx hb dX2_nameOf_176 (by decide) ?_
                  refine lv_bipush (v := 101) hx hb dX2_nameOf_178 (by decide) ?_
                  refine lv_bipush (v := 100) hx hb dX2_nameOf_180 (by decide) ?_
                  obtain ⟨q24, g23, hf⟩ := ob_bind hf
                  refine xc_l (xw_runS (As := [.int 112, .int 97, .int 119, .int 110, .int 101, .int 100]) (rest := [.long (w.2.1 0 11)]) ⟨hx, hb, hml, hown, hts⟩ (wkX2_w6 l D dA E hE w 112 97 119 110 101 100 g23) (va_cwS 6 hts (lw_S q1620 q1621 q140 q1622) rfl rfl rfl cdX2_w6.2 ⟨Nat.le_of_ble_eq_true rfl, Nat.le_of_ble_eq_true rfl⟩) hK hP hl.1 rfl rfl (Nat.le_of_ble_eq_true rfl) dX2_nameOf_182 ⟨Nat.zero_le _, Nat.zero_le _⟩) hS hD.2 (fun H locs hP hS => ?_)
                  refine W.lcmp hx hb dX2_nameOf_185 ?_
                  refine lv_if_ne (tgt := 194) hx hb dX2_nameOf_186 (by decide) (fun c25 => ?_) (fun c25 => ?_)
                  · replace hf := ob_f hf c25
                    refine lv_iconst (v := (-1)) hx hb dX2_nameOf_194 (by decide) ?_
                    obtain rfl := ob_s hf
                    subst hQ
                    exact xe_i hx hb hr hlocks hP hS dX2_nameOf_195
                  · replace hf := ob_t hf c25
                    refine lv_bipush (v := 7) hx hb dX2_nameOf_189 (by decide) ?_
                    refine lv_goto (tgt := 195) hx hb dX2_nameOf_191 (by decide) ?_
                    obtain rfl := ob_s hf
                    subst hQ
                    exact xe_i hx hb hr hlocks hP hS dX2_nameOf_195
                · replace hf := ob_t hf c22
                  refine lv_bipush (v := 6) hx hb dX2_nameOf_161 (by decide) ?_
                  refine lv_goto (tgt := 195) hx hb dX2_nameOf_163 (by decide) ?_
                  obtain rfl := ob_s hf
                  subst hQ
                  exact xe_i hx hb hr hlocks hP hS dX2_nameOf_195
              · replace hf := ob_t hf c19
                refine lv_iconst (v := 5) hx hb dX2_nameOf_138 (by decide) ?_
                obtain rfl := ob_s hf
                subst hQ
                exact xe_i hx hb hr hlocks hP hS dX2_nameOf_139
            · replace hf := ob_t hf c16
              refine lv_iconst (v := 4) hx hb dX2_nameOf_117 (by decide) ?_
              obtain rfl := ob_s hf
              subst hQ
              exact xe_i hx hb hr hlocks hP hS dX2_nameOf_118
          · replace hf := ob_t hf c13
            refine lv_iconst (v := 3) hx hb dX2_nameOf_96 (by decide) ?_
            obtain rfl := ob_s hf
            subst hQ
            exact xe_i hx hb hr hlocks hP hS dX2_nameOf_97
        · replace hf := ob_t hf c10
          refine lv_iconst (v := 2) hx hb dX2_nameOf_73 (by decide) ?_
          obtain rfl := ob_s hf
          subst hQ
          exact xe_i hx hb hr hlocks hP hS dX2_nameOf_74
      · replace hf := ob_t hf c7
        refine lv_iconst (v := 1) hx hb dX2_nameOf_48 (by decide) ?_
        obtain rfl := ob_s hf
        subst hQ
        exact xe_i hx hb hr hlocks hP hS dX2_nameOf_49
    · replace hf := ob_t hf c4
      refine lv_iconst (v := 0) hx hb dX2_nameOf_27 (by decide) ?_
      obtain rfl := ob_s hf
      subst hQ
      exact xe_i hx hb hr hlocks hP hS dX2_nameOf_28
  · replace hf := ob_f hf c1
    refine lv_iconst (v := (-1)) hx hb dX2_nameOf_8 (by decide) ?_
    obtain rfl := ob_s hf
    subst hQ
    exact xe_i hx hb hr hlocks hP hS dX2_nameOf_9
