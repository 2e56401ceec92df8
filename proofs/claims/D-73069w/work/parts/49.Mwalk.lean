/-! QuarrelsPawnedModel: its methods walked (printed by gen.py) -/
abbrev rmX2_hung : Room := { frames := 3, cells := 0, slots := 0, locals := 65 }
theorem cdX2_hung : yX2_hung.cls = RX2 ∧ yX2_hung.cls ≠ "java/lang/invoke/MethodHandle" ∧ yX2_hung.cls ≠ "java/lang/invoke/VarHandle" ∧ (parseMethodDescriptor yX2_hung.desc).map (fun d => d.parameters.length) = some 2 := by decide +kernel
set_option maxHeartbeats 4000000 in
set_option maxRecDepth 100000 in
theorem wkX2_hung (l : Launch) (D : va_G) (dA : Nat → ClassId) (E : Nat → Nat) (hE : wInj 19 E) (w : Mm) (a1 : Int32) (a2 : Int32) {res : Int32 × Mm} (hf : M_hung w a1 a2 = some res) : Met l yX2_hung (ws_ yX2_hung cX2_hung 3 (some .int)) rmX2_hung (Pw D clM (tyM dA) shM 19 dA E [.ref (E 0), .int a1, .int a2] w) (Qwi D clM shM 19 dA E res.1 res.2) 0 0 (AE 19 E) := by
  refine xm_head (own := RX2) (by decide) rfl (Nat.le_of_ble_eq_true rfl) ?_
  intro p e s m args below meth c ls Q hQ C hP hl
  obtain ⟨hx, hb, hr, hlocks, hml, hown, hts, hK⟩ := C
  replace hl : lv_has ls 3 [(0, .ref (E 0)), (1, .int a1), (2, .int a2)] := hl
  have hS : va_S (AE 19 E) s.heap s.heap [] := va_S.rf
  have hD : wD 19 E (AE 19 E) := wD.self hE
  unfold M_hung at hf
  obtain ⟨H, eH⟩ : ∃ H, H = s.heap := ⟨_, rfl⟩
  obtain ⟨locs, eL⟩ : ∃ locs : List Loc, locs = [] := ⟨_, rfl⟩
  rw [← eL] at hS ⊢
  rw [← eH] at hP
  have hS : va_S (AE 19 E) s.heap H locs := by rw [eH]; exact hS
  show W p l e rmX2_hung s m args below meth c s.heap locs 0 0 Q (F0 m 0 ls [])
  rw [← eH]
  refine lv_iload_n hx hb dX2_hung_0 rfl (lv_at hl 1 rfl) ?_
  refine lv_iconst (v := 0) hx hb dX2_hung_1 (by decide) ?_
  refine lv_bipush (v := 9) hx hb dX2_hung_2 (by decide) ?_
  obtain ⟨q2, g1, hf⟩ := ob_bind hf
  refine xc_z (xw_runS (As := [.int a1, .int 0, .int 9]) (rest := []) ⟨hx, hb, hml, hown, hts⟩ (wkX2_isIn l D dA E hE w a1 0 9 g1) (va_cwS 3 hts (lw_S q1538 q1539 q140 q1540) rfl rfl rfl cdX2_isIn.2 ⟨Nat.le_of_ble_eq_true rfl, Nat.le_of_ble_eq_true rfl⟩) hK hP hl.1 rfl rfl (Nat.le_of_ble_eq_true rfl) dX2_hung_4 ⟨Nat.zero_le _, Nat.zero_le _⟩) hS hD.2 (fun H locs zq2 hP hS => ?_)
  refine lv_if_ne (tgt := 13) hx hb dX2_hung_7 (by decide) (fun c3 => ?_) (fun c3 => ?_)
  · replace hf := ob_f hf c3
    refine lv_aload_n hx hb dX2_hung_13 rfl (lv_at hl 0 rfl) ?_
    refine lv_iload_n hx hb dX2_hung_14 rfl (lv_at hl 1 rfl) ?_
    obtain ⟨q5, g4, hf⟩ := ob_bind hf
    refine xc_v (xw_run (As := [.int a1]) (rest := []) ⟨hx, hb, hml, hown, hts⟩ (k0 := 0) (wkX2_layHung l D dA E hE w a1 g4) (cwV 1 hts (lw_V q2042 q2044 qs132 q140 q2045) rfl rfl rfl cdX2_layHung ⟨Nat.le_of_ble_eq_true rfl, Nat.le_of_ble_eq_true rfl⟩) hK hP (by decide) rfl rfl rfl hl.1 rfl rfl (Nat.le_of_ble_eq_true rfl) dX2_hung_15 ⟨Nat.zero_le _, Nat.zero_le _⟩) hS hD.2 (fun H locs hP hS => ?_)
    refine lv_iload_n hx hb dX2_hung_18 rfl (lv_at hl 2 rfl) ?_
    refine lv_iconst (v := (-1)) hx hb dX2_hung_19 (by decide) ?_
    refine lv_icmp_ne (tgt := 30) hx hb dX2_hung_20 (by decide) (fun c6 => ?_) (fun c6 => ?_)
    · replace hf := ob_f hf c6
      refine lv_iload_n hx hb dX2_hung_30 rfl (lv_at hl 2 rfl) ?_
      refine lv_iconst (v := 0) hx hb dX2_hung_31 (by decide) ?_
      refine lv_aload_n hx hb dX2_hung_32 rfl (lv_at hl 0 rfl) ?_
      refine xr_get hx hb hts in_X2 hown hK hP 0 (by decide) rfl rfl 0 (by decide) (hts _ q1405) (fun _ h => h) rfl (v := .ref (E 1)) rfl dX2_hung_33 ?_
      refine lv_iconst (v := 4) hx hb dX2_hung_36 (by decide) ?_
      refine xr_iald hx hb hK hP 1 (by decide) rfl 0 rfl (j := 4) (vin_c (by decide)) (by decide) dX2_hung_37 ?_
      refine lv_iconst (v := 1) hx hb dX2_hung_38 (by decide) ?_
      refine lv_isub hx hb dX2_hung_39 ?_
      obtain ⟨q8, g7, hf⟩ := ob_bind hf
      refine xc_z (xw_runS (As := [.int a2, .int 0, .int ((q5.1 1 4) - 1)]) (rest := []) ⟨hx, hb, hml, hown, hts⟩ (wkX2_isIn l D dA E hE q5 a2 0 ((q5.1 1 4) - 1) g7) (va_cwS 3 hts (lw_S q1538 q1539 q140 q1540) rfl rfl rfl cdX2_isIn.2 ⟨Nat.le_of_ble_eq_true rfl, Nat.le_of_ble_eq_true rfl⟩) hK hP hl.1 rfl rfl (Nat.le_of_ble_eq_true rfl) dX2_hung_40 ⟨Nat.zero_le _, Nat.zero_le _⟩) hS hD.2 (fun H locs zq8 hP hS => ?_)
      refine lv_if_eq (tgt := 62) hx hb dX2_hung_43 (by decide) (fun c9 => ?_) (fun c9 => ?_)
      · replace hf := ob_t hf c9
        refine lv_bipush (v := (-2)) hx hb dX2_hung_62 (by decide) ?_
        obtain rfl := ob_s hf
        subst hQ
        exact xe_i hx hb hr hlocks hP hS dX2_hung_64
      · replace hf := ob_f hf c9
        refine lv_aload_n hx hb dX2_hung_46 rfl (lv_at hl 0 rfl) ?_
        refine xr_get hx hb hts in_X2 hown hK hP 0 (by decide) rfl rfl 36 (by decide) (hts _ q1441) (fun _ h => h) rfl (v := .int (q5.1 0 36)) rfl dX2_hung_47 ?_
        refine lv_if_le (tgt := 62) hx hb dX2_hung_50 (by decide) (fun c10 => ?_) (fun c10 => ?_)
        · replace hf := ob_t hf c10
          refine lv_bipush (v := (-2)) hx hb dX2_hung_62 (by decide) ?_
          obtain rfl := ob_s hf
          subst hQ
          exact xe_i hx hb hr hlocks hP hS dX2_hung_64
        · replace hf := ob_f hf c10
          refine lv_aload_n hx hb dX2_hung_53 rfl (lv_at hl 0 rfl) ?_
          refine xr_get hx hb hts in_X2 hown hK hP 0 (by decide) rfl rfl 34 (by decide) (hts _ q1439) (fun _ h => h) rfl (v := .ref (E 15)) rfl dX2_hung_54 ?_
          refine lv_iload_n hx hb dX2_hung_57 rfl (lv_at hl 2 rfl) ?_
          obtain ⟨h11, hf⟩ := ob_gd hf
          refine xr_iald hx hb hK hP 15 (by decide) rfl 0 rfl (j := a2.toNatClampNeg) h11 rfl dX2_hung_58 ?_
          refine lv_goto (tgt := 64) hx hb dX2_hung_59 (by decide) ?_
          obtain rfl := ob_s hf
          subst hQ
          exact xe_i hx hb hr hlocks hP hS dX2_hung_64
    · replace hf := ob_t hf c6
      refine lv_aload_n hx hb dX2_hung_23 rfl (lv_at hl 0 rfl) ?_
      refine xr_get hx hb hts in_X2 hown hK hP 0 (by decide) rfl rfl 36 (by decide) (hts _ q1441) (fun _ h => h) rfl (v := .int (q5.1 0 36)) rfl dX2_hung_24 ?_
      refine lv_goto (tgt := 64) hx hb dX2_hung_27 (by decide) ?_
      obtain rfl := ob_s hf
      subst hQ
      exact xe_i hx hb hr hlocks hP hS dX2_hung_64
  · replace hf := ob_t hf c3
    refine lv_bipush (v := (-2)) hx hb dX2_hung_10 (by decide) ?_
    obtain rfl := ob_s hf
    subst hQ
    exact xe_i hx hb hr hlocks hP hS dX2_hung_12
abbrev rmX2_look : Room := { frames := 3, cells := 0, slots := 0, locals := 65 }
theorem cdX2_look : yX2_look.cls = RX2 ∧ yX2_look.cls ≠ "java/lang/invoke/MethodHandle" ∧ yX2_look.cls ≠ "java/lang/invoke/VarHandle" ∧ (parseMethodDescriptor yX2_look.desc).map (fun d => d.parameters.length) = some 1 := by decide +kernel
set_option maxHeartbeats 4000000 in
set_option maxRecDepth 100000 in
theorem wkX2_look (l : Launch) (D : va_G) (dA : Nat → ClassId) (E : Nat → Nat) (hE : wInj 19 E) (w : Mm) (a1 : Int32) {res : Int32 × Mm} (hf : M_look w a1 = some res) : Met l yX2_look (ws_ yX2_look cX2_look 7 (some .int)) rmX2_look (Pw D clM (tyM dA) shM 19 dA E [.ref (E 0), .int a1] w) (Qwi D clM shM 19 dA E res.1 res.2) 0 0 (AE 19 E) := by
  refine xm_head (own := RX2) (by decide) rfl (Nat.le_of_ble_eq_true rfl) ?_
  intro p e s m args below meth c ls Q hQ C hP hl
  obtain ⟨hx, hb, hr, hlocks, hml, hown, hts, hK⟩ := C
  replace hl : lv_has ls 7 [(0, .ref (E 0)), (1, .int a1)] := hl
  have hS : va_S (AE 19 E) s.heap s.heap [] := va_S.rf
  have hD : wD 19 E (AE 19 E) := wD.self hE
  unfold M_look at hf
  obtain ⟨H, eH⟩ : ∃ H, H = s.heap := ⟨_, rfl⟩
  obtain ⟨locs, eL⟩ : ∃ locs : List Loc, locs = [] := ⟨_, rfl⟩
  rw [← eL] at hS ⊢
  rw [← eH] at hP
  have hS : va_S (AE 19 E) s.heap H locs := by rw [eH]; exact hS
  show W p l e rmX2_look s m args below meth c s.heap locs 0 0 Q (F0 m 0 ls [])
  rw [← eH]
  refine lv_iload_n hx hb dX2_look_0 rfl (lv_at hl 1 rfl) ?_
  refine lv_iconst (v := 0) hx hb dX2_look_1 (by decide) ?_
  refine lv_bipush (v := 9) hx hb dX2_look_2 (by decide) ?_
  obtain ⟨q2, g1, hf⟩ := ob_bind hf
  refine xc_z (xw_runS (As := [.int a1, .int 0, .int 9]) (rest := []) ⟨hx, hb, hml, hown, hts⟩ (wkX2_isIn l D dA E hE w a1 0 9 g1) (va_cwS 3 hts (lw_S q1538 q1539 q140 q1540) rfl rfl rfl cdX2_isIn.2 ⟨Nat.le_of_ble_eq_true rfl, Nat.le_of_ble_eq_true rfl⟩) hK hP hl.1 rfl rfl (Nat.le_of_ble_eq_true rfl) dX2_look_4 ⟨Nat.zero_le _, Nat.zero_le _⟩) hS hD.2 (fun H locs zq2 hP hS => ?_)
  refine lv_if_ne (tgt := 12) hx hb dX2_look_7 (by decide) (fun c3 => ?_) (fun c3 => ?_)
  · replace hf := ob_f hf c3
    refine lv_aload_n hx hb dX2_look_12 rfl (lv_at hl 0 rfl) ?_
    refine lv_iload_n hx hb dX2_look_13 rfl (lv_at hl 1 rfl) ?_
    obtain ⟨q5, g4, hf⟩ := ob_bind hf
    refine xc_v (xw_run (As := [.int a1]) (rest := []) ⟨hx, hb, hml, hown, hts⟩ (k0 := 0) (wkX2_layHung l D dA E hE w a1 g4) (cwV 1 hts (lw_V q2042 q2044 qs132 q140 q2045) rfl rfl rfl cdX2_layHung ⟨Nat.le_of_ble_eq_true rfl, Nat.le_of_ble_eq_true rfl⟩) hK hP (by decide) rfl rfl rfl hl.1 rfl rfl (Nat.le_of_ble_eq_true rfl) dX2_look_14 ⟨Nat.zero_le _, Nat.zero_le _⟩) hS hD.2 (fun H locs hP hS => ?_)
    refine lv_iconst (v := (-1)) hx hb dX2_look_17 (by decide) ?_
    refine lv_istore_n (lv' := [(2, .int (-1)), (0, .ref (E 0)), (1, .int a1)]) hx hb dX2_look_18 rfl hl (by decide) rfl (fun ls hl => ?_)
    refine lv_ldcw (v := 1000000) hx hb hown (hts _ q1970) dX2_look_19 ?_
    refine lv_istore_n (lv' := [(3, .int 1000000), (2, .int (-1)), (0, .ref (E 0)), (1, .int a1)]) hx hb dX2_look_22 rfl hl (by decide) rfl (fun ls hl => ?_)
    refine lv_iconst (v := 0) hx hb dX2_look_23 (by decide) ?_
    refine lv_istore (lv' := [(4, .int 0), (3, .int 1000000), (2, .int (-1)), (0, .ref (E 0)), (1, .int a1)]) hx hb dX2_look_24 hl (by decide) rfl (fun ls hl => ?_)
    obtain ⟨b9, hb9, hf⟩ := ob_bind hf
    obtain ⟨n9, hn9⟩ := lp_some hb9
    have kL26 : ∀ (n : Nat) (v2_6 : Int32) (v3_7 : Int32) (v4_8 : Int32), lpF (fun (q9 : Int32 × Int32 × Int32) => M_look_b26 q5 q9.1 q9.2.1 q9.2.2) n (v2_6, v3_7, v4_8) = some b9 → (∀ (H : Heap) (locs : List Loc) (ls : Array Slot), va_P D clM (wl shM 19 dA E q5) H → va_S (AE 19 E) s.heap H locs → lv_has ls 7 [(2, .int b9)] → W p l e rmX2_look s m args below meth c H locs 0 0 Q (F0 m 123 ls [])) → ∀ (H : Heap) (locs : List Loc) (ls : Array Slot), va_P D clM (wl shM 19 dA E q5) H → va_S (AE 19 E) s.heap H locs → lv_has ls 7 [(0, .ref (E 0)), (2, .int v2_6), (3, .int v3_7), (4, .int v4_8)] → W p l e rmX2_look s m args below meth c H locs 0 0 Q (F0 m 26 ls []) := by
      intro n
      induction n with
      | zero =>
        intro v2_6 v3_7 v4_8 h
        cases h
      | succ n ih =>
        intro v2_6 v3_7 v4_8 h K9_0 H locs ls hP hS hl
        obtain ⟨r9, hf, h9a, h9b⟩ := lpF_step h
        replace hf : M_look_b26 q5 v2_6 v3_7 v4_8 = some r9 := hf
        unfold M_look_b26 at hf
        refine lv_iload hx hb dX2_look_26 (lv_at hl 3 rfl) ?_
        refine lv_aload_n hx hb dX2_look_28 rfl (lv_at hl 0 rfl) ?_
        refine xr_get hx hb hts in_X2 hown hK hP 0 (by decide) rfl rfl 0 (by decide) (hts _ q1405) (fun _ h => h) rfl (v := .ref (E 1)) rfl dX2_look_29 ?_
        refine lv_iconst (v := 4) hx hb dX2_look_32 (by decide) ?_
        refine xr_iald hx hb hK hP 1 (by decide) rfl 0 rfl (j := 4) (vin_c (by decide)) (by decide) dX2_look_33 ?_
        refine lv_icmp_ge (tgt := 123) hx hb dX2_look_34 (by decide) (fun c10 => ?_) (fun c10 => ?_)
        · replace hf := ob_t hf c10
          obtain rfl := ob_s hf
          obtain rfl := h9b _ rfl
          exact K9_0 H locs ls hP hS (lv_sub hl [1] rfl)
        · replace hf := ob_f hf c10
          refine lv_aload_n hx hb dX2_look_37 rfl (lv_at hl 0 rfl) ?_
          refine xr_get hx hb hts in_X2 hown hK hP 0 (by decide) rfl rfl 36 (by decide) (hts _ q1441) (fun _ h => h) rfl (v := .int (q5.1 0 36)) rfl dX2_look_38 ?_
          refine lv_iconst (v := 1) hx hb dX2_look_41 (by decide) ?_
          refine lv_icmp_le (tgt := 123) hx hb dX2_look_42 (by decide) (fun c11 => ?_) (fun c11 => ?_)
          · replace hf := ob_t hf c11
            obtain rfl := ob_s hf
            obtain rfl := h9b _ rfl
            exact K9_0 H locs ls hP hS (lv_sub hl [1] rfl)
          · replace hf := ob_f hf c11
            refine lv_iconst (v := 0) hx hb dX2_look_45 (by decide) ?_
            refine lv_istore (lv' := [(5, .int 0), (0, .ref (E 0)), (2, .int v2_6), (3, .int v3_7), (4, .int v4_8)]) hx hb dX2_look_46 hl (by decide) rfl (fun ls hl => ?_)
            refine lv_iconst (v := 0) hx hb dX2_look_48 (by decide) ?_
            refine lv_istore (lv' := [(6, .int 0), (5, .int 0), (0, .ref (E 0)), (2, .int v2_6), (3, .int v3_7), (4, .int v4_8)]) hx hb dX2_look_49 hl (by decide) rfl (fun ls hl => ?_)
            obtain ⟨b14, hb14, hf⟩ := ob_bind hf
            obtain ⟨n14, hn14⟩ := lp_some hb14
            have kL51 : ∀ (n : Nat) (v5_12 : Int32) (v6_13 : Int32), lpF (fun (q14 : Int32 × Int32) => M_look_b51 v4_8 q5 q14.1 q14.2) n (v5_12, v6_13) = some b14 → (∀ (H : Heap) (locs : List Loc) (ls : Array Slot), va_P D clM (wl shM 19 dA E q5) H → va_S (AE 19 E) s.heap H locs → lv_has ls 7 [(0, .ref (E 0)), (2, .int v2_6), (3, .int v3_7), (4, .int v4_8), (5, .int b14)] → W p l e rmX2_look s m args below meth c H locs 0 0 Q (F0 m 102 ls [])) → ∀ (H : Heap) (locs : List Loc) (ls : Array Slot), va_P D clM (wl shM 19 dA E q5) H → va_S (AE 19 E) s.heap H locs → lv_has ls 7 [(0, .ref (E 0)), (2, .int v2_6), (3, .int v3_7), (4, .int v4_8), (5, .int v5_12), (6, .int v6_13)] → W p l e rmX2_look s m args below meth c H locs 0 0 Q (F0 m 51 ls []) := by
              intro n
              induction n with
              | zero =>
                intro v5_12 v6_13 h
                cases h
              | succ n ih =>
                intro v5_12 v6_13 h K14_0 H locs ls hP hS hl
                obtain ⟨r14, hf, h14a, h14b⟩ := lpF_step h
                replace hf : M_look_b51 v4_8 q5 v5_12 v6_13 = some r14 := hf
                unfold M_look_b51 at hf
                refine lv_iload hx hb dX2_look_51 (lv_at hl 5 rfl) ?_
                refine lv_bipush (v := 8) hx hb dX2_look_53 (by decide) ?_
                refine lv_icmp_ge (tgt := 102) hx hb dX2_look_55 (by decide) (fun c15 => ?_) (fun c15 => ?_)
                · replace hf := ob_t hf c15
                  obtain rfl := ob_s hf
                  obtain rfl := h14b _ rfl
                  exact K14_0 H locs ls hP hS (lv_sub hl [0, 1, 2, 3, 4] rfl)
                · replace hf := ob_f hf c15
                  refine lv_aload_n hx hb dX2_look_58 rfl (lv_at hl 0 rfl) ?_
                  refine xr_get hx hb hts in_X2 hown hK hP 0 (by decide) rfl rfl 35 (by decide) (hts _ q1440) (fun _ h => h) rfl (v := .ref (E 16)) rfl dX2_look_59 ?_
                  refine lv_bipush (v := 8) hx hb dX2_look_62 (by decide) ?_
                  refine lv_iload hx hb dX2_look_64 (lv_at hl 3 rfl) ?_
                  refine lv_imul hx hb dX2_look_66 ?_
                  refine lv_iload hx hb dX2_look_67 (lv_at hl 5 rfl) ?_
                  refine lv_iadd hx hb dX2_look_69 ?_
                  obtain ⟨h16, hf⟩ := ob_gd hf
                  refine xr_iald hx hb hK hP 16 (by decide) rfl 0 rfl (j := ((8 * v4_8) + v6_13).toNatClampNeg) h16 rfl dX2_look_70 ?_
                  refine lv_iload hx hb dX2_look_71 (lv_at hl 4 rfl) ?_
                  refine lv_icmp_le (tgt := 92) hx hb dX2_look_73 (by decide) (fun c17 => ?_) (fun c17 => ?_)
                  · replace hf := ob_t hf c17
                    refine lv_iload hx hb dX2_look_92 (lv_at hl 4 rfl) ?_
                    refine lv_istore (lv' := [(5, .int v5_12), (0, .ref (E 0)), (2, .int v2_6), (3, .int v3_7), (4, .int v4_8), (6, .int v6_13)]) hx hb dX2_look_94 hl (by decide) rfl (fun ls hl => ?_)
                    obtain ⟨v6_18, ev6_18, hf⟩ := ob_bnd hf
                    refine lv_iinc (v := v6_18) (lv' := [(6, .int v6_18), (5, .int v5_12), (0, .ref (E 0)), (2, .int v2_6), (3, .int v3_7), (4, .int v4_8)]) hx hb dX2_look_96 hl (k := 5) rfl (by rw [ev6_18]; rfl) (by decide) rfl (fun ls hl => ?_)
                    refine lv_goto (tgt := 51) hx hb dX2_look_99 (by decide) ?_
                    obtain rfl := ob_s hf
                    exact ih _ _ (h14a _ rfl) K14_0 H locs ls hP hS (lv_sub hl [2, 3, 4, 5, 1, 0] rfl)
                  · replace hf := ob_f hf c17
                    refine lv_aload_n hx hb dX2_look_76 rfl (lv_at hl 0 rfl) ?_
                    refine xr_get hx hb hts in_X2 hown hK hP 0 (by decide) rfl rfl 35 (by decide) (hts _ q1440) (fun _ h => h) rfl (v := .ref (E 16)) rfl dX2_look_77 ?_
                    refine lv_bipush (v := 8) hx hb dX2_look_80 (by decide) ?_
                    refine lv_iload hx hb dX2_look_82 (lv_at hl 3 rfl) ?_
                    refine lv_imul hx hb dX2_look_84 ?_
                    refine lv_iload hx hb dX2_look_85 (lv_at hl 5 rfl) ?_
                    refine lv_iadd hx hb dX2_look_87 ?_
                    obtain ⟨h19, hf⟩ := ob_gd hf
                    refine xr_iald hx hb hK hP 16 (by decide) rfl 0 rfl (j := ((8 * v4_8) + v6_13).toNatClampNeg) h19 rfl dX2_look_88 ?_
                    refine lv_goto (tgt := 94) hx hb dX2_look_89 (by decide) ?_
                    obtain ⟨v5_20, ev5_20, hf⟩ := ob_bnd hf
                    refine xn_i ev5_20 ?_
                    refine lv_istore (lv' := [(5, .int v5_20), (0, .ref (E 0)), (2, .int v2_6), (3, .int v3_7), (4, .int v4_8), (6, .int v6_13)]) hx hb dX2_look_94 hl (by decide) rfl (fun ls hl => ?_)
                    obtain ⟨v6_21, ev6_21, hf⟩ := ob_bnd hf
                    refine lv_iinc (v := v6_21) (lv' := [(6, .int v6_21), (5, .int v5_20), (0, .ref (E 0)), (2, .int v2_6), (3, .int v3_7), (4, .int v4_8)]) hx hb dX2_look_96 hl (k := 5) rfl (by rw [ev6_21]; rfl) (by decide) rfl (fun ls hl => ?_)
                    refine lv_goto (tgt := 51) hx hb dX2_look_99 (by decide) ?_
                    obtain rfl := ob_s hf
                    exact ih _ _ (h14a _ rfl) K14_0 H locs ls hP hS (lv_sub hl [2, 3, 4, 5, 1, 0] rfl)
            refine kL51 n14 0 0 hn14 (fun H locs ls hP hS hl => ?_) H locs ls hP hS (lv_sub hl [2, 3, 4, 5, 1, 0] rfl)
            replace hf : M_look_x51_102 b14 v3_7 v4_8 v2_6 = some r9 := hf
            unfold M_look_x51_102 at hf
            refine lv_iload hx hb dX2_look_102 (lv_at hl 4 rfl) ?_
            refine lv_iload_n hx hb dX2_look_104 rfl (lv_at hl 2 rfl) ?_
            refine lv_icmp_lt (tgt := 111) hx hb dX2_look_105 (by decide) (fun c22 => ?_) (fun c22 => ?_)
            · replace hf := ob_t hf c22
              refine lv_iload hx hb dX2_look_111 (lv_at hl 4 rfl) ?_
              refine lv_istore_n (lv' := [(3, .int b14), (0, .ref (E 0)), (2, .int v2_6), (4, .int v4_8), (5, .int b14)]) hx hb dX2_look_113 rfl hl (by decide) rfl (fun ls hl => ?_)
              refine lv_iload hx hb dX2_look_114 (lv_at hl 3 rfl) ?_
              refine lv_istore_n (lv' := [(2, .int v4_8), (3, .int b14), (0, .ref (E 0)), (4, .int v4_8), (5, .int b14)]) hx hb dX2_look_116 rfl hl (by decide) rfl (fun ls hl => ?_)
              obtain ⟨v4_23, ev4_23, hf⟩ := ob_bnd hf
              refine lv_iinc (v := v4_23) (lv' := [(4, .int v4_23), (2, .int v4_8), (3, .int b14), (0, .ref (E 0)), (5, .int b14)]) hx hb dX2_look_117 hl (k := 3) rfl (by rw [ev4_23]; rfl) (by decide) rfl (fun ls hl => ?_)
              refine lv_goto (tgt := 26) hx hb dX2_look_120 (by decide) ?_
              obtain rfl := ob_s hf
              exact ih _ _ _ (h9a _ rfl) K9_0 H locs ls hP hS (lv_sub hl [3, 1, 2, 0] rfl)
            · replace hf := ob_f hf c22
              refine lv_goto (tgt := 117) hx hb dX2_look_108 (by decide) ?_
              obtain ⟨v4_24, ev4_24, hf⟩ := ob_bnd hf
              refine lv_iinc (v := v4_24) (lv' := [(4, .int v4_24), (0, .ref (E 0)), (2, .int v2_6), (3, .int v3_7), (5, .int b14)]) hx hb dX2_look_117 hl (k := 3) rfl (by rw [ev4_24]; rfl) (by decide) rfl (fun ls hl => ?_)
              refine lv_goto (tgt := 26) hx hb dX2_look_120 (by decide) ?_
              obtain rfl := ob_s hf
              exact ih _ _ _ (h9a _ rfl) K9_0 H locs ls hP hS (lv_sub hl [1, 2, 3, 0] rfl)
    refine kL26 n9 (-1) 1000000 0 hn9 (fun H locs ls hP hS hl => ?_) H locs ls hP hS (lv_sub hl [3, 2, 1, 0] rfl)
    replace hf : M_look_x26_123 b9 q5 = some res := hf
    unfold M_look_x26_123 at hf
    refine lv_iload_n hx hb dX2_look_123 rfl (lv_at hl 0 rfl) ?_
    obtain rfl := ob_s hf
    subst hQ
    exact xe_i hx hb hr hlocks hP hS dX2_look_124
  · replace hf := ob_t hf c3
    refine lv_iconst (v := (-1)) hx hb dX2_look_10 (by decide) ?_
    obtain rfl := ob_s hf
    subst hQ
    exact xe_i hx hb hr hlocks hP hS dX2_look_11
abbrev rmX2_bid : Room := { frames := 1, cells := 0, slots := 0, locals := 22 }
theorem cdX2_bid : yX2_bid.cls = RX2 ∧ yX2_bid.cls ≠ "java/lang/invoke/MethodHandle" ∧ yX2_bid.cls ≠ "java/lang/invoke/VarHandle" ∧ (parseMethodDescriptor yX2_bid.desc).map (fun d => d.parameters.length) = some 2 := by decide +kernel
set_option maxHeartbeats 4000000 in
set_option maxRecDepth 100000 in
theorem wkX2_bid (l : Launch) (D : va_G) (dA : Nat → ClassId) (E : Nat → Nat) (hE : wInj 19 E) (w : Mm) (a1 : Int32) (a2 : Int32) {res : Int32 × Mm} (hf : M_bid w a1 a2 = some res) : Met l yX2_bid (ws_ yX2_bid cX2_bid 3 (some .int)) rmX2_bid (Pw D clM (tyM dA) shM 19 dA E [.ref (E 0), .int a1, .int a2] w) (Qwi D clM shM 19 dA E res.1 res.2) 0 0 (AE 19 E) := by
  refine xm_head (own := RX2) (by decide) rfl (Nat.le_of_ble_eq_true rfl) ?_
  intro p e s m args below meth c ls Q hQ C hP hl
  obtain ⟨hx, hb, hr, hlocks, hml, hown, hts, hK⟩ := C
  replace hl : lv_has ls 3 [(0, .ref (E 0)), (1, .int a1), (2, .int a2)] := hl
  have hS : va_S (AE 19 E) s.heap s.heap [] := va_S.rf
  have hD : wD 19 E (AE 19 E) := wD.self hE
  unfold M_bid at hf
  obtain ⟨H, eH⟩ : ∃ H, H = s.heap := ⟨_, rfl⟩
  obtain ⟨locs, eL⟩ : ∃ locs : List Loc, locs = [] := ⟨_, rfl⟩
  rw [← eL] at hS ⊢
  rw [← eH] at hP
  have hS : va_S (AE 19 E) s.heap H locs := by rw [eH]; exact hS
  show W p l e rmX2_bid s m args below meth c s.heap locs 0 0 Q (F0 m 0 ls [])
  rw [← eH]
  refine lv_iload_n hx hb dX2_bid_0 rfl (lv_at hl 1 rfl) ?_
  refine lv_iconst (v := (-1)) hx hb dX2_bid_1 (by decide) ?_
  refine lv_icmp_ne (tgt := 14) hx hb dX2_bid_2 (by decide) (fun c1 => ?_) (fun c1 => ?_)
  · replace hf := ob_f hf c1
    refine lv_iload_n hx hb dX2_bid_14 rfl (lv_at hl 1 rfl) ?_
    refine lv_iconst (v := 0) hx hb dX2_bid_15 (by decide) ?_
    refine lv_bipush (v := 99) hx hb dX2_bid_16 (by decide) ?_
    obtain ⟨q3, g2, hf⟩ := ob_bind hf
    refine xc_z (xw_runS (As := [.int a1, .int 0, .int 99]) (rest := []) ⟨hx, hb, hml, hown, hts⟩ (wkX2_isIn l D dA E hE w a1 0 99 g2) (va_cwS 3 hts (lw_S q1538 q1539 q140 q1540) rfl rfl rfl cdX2_isIn.2 ⟨Nat.le_of_ble_eq_true rfl, Nat.le_of_ble_eq_true rfl⟩) hK hP hl.1 rfl rfl (Nat.le_of_ble_eq_true rfl) dX2_bid_18 ⟨Nat.zero_le _, Nat.zero_le _⟩) hS hD.2 (fun H locs zq3 hP hS => ?_)
    refine lv_if_eq (tgt := 35) hx hb dX2_bid_21 (by decide) (fun c4 => ?_) (fun c4 => ?_)
    · replace hf := ob_t hf c4
      refine lv_bipush (v := (-2)) hx hb dX2_bid_35 (by decide) ?_
      obtain rfl := ob_s hf
      subst hQ
      exact xe_i hx hb hr hlocks hP hS dX2_bid_37
    · replace hf := ob_f hf c4
      refine lv_aload_n hx hb dX2_bid_24 rfl (lv_at hl 0 rfl) ?_
      refine xr_get hx hb hts in_X2 hown hK hP 0 (by decide) rfl rfl 0 (by decide) (hts _ q1405) (fun _ h => h) rfl (v := .ref (E 1)) rfl dX2_bid_25 ?_
      refine lv_iconst (v := 5) hx hb dX2_bid_28 (by decide) ?_
      refine xr_iald hx hb hK hP 1 (by decide) rfl 0 rfl (j := 5) (vin_c (by decide)) (by decide) dX2_bid_29 ?_
      refine lv_bipush (v := 10) hx hb dX2_bid_30 (by decide) ?_
      refine lv_icmp_ne (tgt := 38) hx hb dX2_bid_32 (by decide) (fun c5 => ?_) (fun c5 => ?_)
      · replace hf := ob_f hf c5
        refine lv_aload_n hx hb dX2_bid_38 rfl (lv_at hl 0 rfl) ?_
        refine xr_get hx hb hts in_X2 hown hK hP 0 (by decide) rfl rfl 0 (by decide) (hts _ q1405) (fun _ h => h) rfl (v := .ref (E 1)) rfl dX2_bid_39 ?_
        refine lv_bipush (v := 74) hx hb dX2_bid_42 (by decide) ?_
        refine lv_iconst (v := 2) hx hb dX2_bid_44 (by decide) ?_
        refine lv_aload_n hx hb dX2_bid_45 rfl (lv_at hl 0 rfl) ?_
        refine xr_get hx hb hts in_X2 hown hK hP 0 (by decide) rfl rfl 0 (by decide) (hts _ q1405) (fun _ h => h) rfl (v := .ref (E 1)) rfl dX2_bid_46 ?_
        refine lv_iconst (v := 5) hx hb dX2_bid_49 (by decide) ?_
        refine xr_iald hx hb hK hP 1 (by decide) rfl 0 rfl (j := 5) (vin_c (by decide)) (by decide) dX2_bid_50 ?_
        refine lv_imul hx hb dX2_bid_51 ?_
        refine lv_iadd hx hb dX2_bid_52 ?_
        refine lv_iload_n hx hb dX2_bid_53 rfl (lv_at hl 1 rfl) ?_
        obtain ⟨h6, hf⟩ := ob_gd hf
        obtain ⟨w7, ew7, hf⟩ := ob_bnd hf
        refine xr_iast hx hb hK hP hD hS 1 (by decide) rfl 0 rfl (j := (74 + (2 * (w.1 1 5))).toNatClampNeg) (w' := w7) h6 rfl ew7 dX2_bid_54 (fun H locs hP hS => ?_)
        refine lv_aload_n hx hb dX2_bid_55 rfl (lv_at hl 0 rfl) ?_
        refine xr_get hx hb hts in_X2 hown hK hP 0 (by decide) rfl rfl 0 (by decide) (hts _ q1405) (fun _ h => h) rfl (v := .ref (E 1)) rfl dX2_bid_56 ?_
        refine lv_bipush (v := 74) hx hb dX2_bid_59 (by decide) ?_
        refine lv_iconst (v := 2) hx hb dX2_bid_61 (by decide) ?_
        refine lv_aload_n hx hb dX2_bid_62 rfl (lv_at hl 0 rfl) ?_
        refine xr_get hx hb hts in_X2 hown hK hP 0 (by decide) rfl rfl 0 (by decide) (hts _ q1405) (fun _ h => h) rfl (v := .ref (E 1)) rfl dX2_bid_63 ?_
        refine lv_iconst (v := 5) hx hb dX2_bid_66 (by decide) ?_
        refine xr_iald hx hb hK hP 1 (by decide) rfl 0 rfl (j := 5) (vin_c (by decide)) (by decide) dX2_bid_67 ?_
        refine lv_imul hx hb dX2_bid_68 ?_
        refine lv_iadd hx hb dX2_bid_69 ?_
        refine lv_iconst (v := 1) hx hb dX2_bid_70 (by decide) ?_
        refine lv_iadd hx hb dX2_bid_71 ?_
        refine lv_iload_n hx hb dX2_bid_72 rfl (lv_at hl 2 rfl) ?_
        have kj81 : ∀ (t8 : Int32) (H : Heap) (locs : List Loc) (ls : Array Slot), M_bid_j81 w7 t8 = some res → va_P D clM (wl shM 19 dA E w7) H → va_S (AE 19 E) s.heap H locs → lv_has ls 3 [(0, .ref (E 0))] → W p l e rmX2_bid s m args below meth c H locs 0 0 Q (F0 m 81 ls [.int t8, .int ((74 + (2 * (w7.1 1 5))) + 1), .ref (E 1)]) := by
          intro t8 H locs ls hf hP hS hl
          unfold M_bid_j81 at hf
          obtain ⟨h9, hf⟩ := ob_gd hf
          obtain ⟨w10, ew10, hf⟩ := ob_bnd hf
          refine xr_iast hx hb hK hP hD hS 1 (by decide) rfl 0 rfl (j := ((74 + (2 * (w7.1 1 5))) + 1).toNatClampNeg) (w' := w10) h9 rfl ew10 dX2_bid_81 (fun H locs hP hS => ?_)
          refine lv_aload_n hx hb dX2_bid_82 rfl (lv_at hl 0 rfl) ?_
          refine xr_get hx hb hts in_X2 hown hK hP 0 (by decide) rfl rfl 0 (by decide) (hts _ q1405) (fun _ h => h) rfl (v := .ref (E 1)) rfl dX2_bid_83 ?_
          refine lv_iconst (v := 5) hx hb dX2_bid_86 (by decide) ?_
          refine lv_dup2_11 hx hb dX2_bid_87 rfl rfl ?_
          refine xr_iald hx hb hK hP 1 (by decide) rfl 0 rfl (j := 5) (vin_c (by decide)) (by decide) dX2_bid_88 ?_
          refine lv_iconst (v := 1) hx hb dX2_bid_89 (by decide) ?_
          refine lv_iadd hx hb dX2_bid_90 ?_
          obtain ⟨w11, ew11, hf⟩ := ob_bnd hf
          refine xr_iast hx hb hK hP hD hS 1 (by decide) rfl 0 rfl (j := 5) (w' := w11) (vin_c (by decide)) (by decide) ew11 dX2_bid_91 (fun H locs hP hS => ?_)
          refine lv_aload_n hx hb dX2_bid_92 rfl (lv_at hl 0 rfl) ?_
          refine xr_get hx hb hts in_X2 hown hK hP 0 (by decide) rfl rfl 0 (by decide) (hts _ q1405) (fun _ h => h) rfl (v := .ref (E 1)) rfl dX2_bid_93 ?_
          refine lv_iconst (v := 5) hx hb dX2_bid_96 (by decide) ?_
          refine xr_iald hx hb hK hP 1 (by decide) rfl 0 rfl (j := 5) (vin_c (by decide)) (by decide) dX2_bid_97 ?_
          obtain rfl := ob_s hf
          subst hQ
          exact xe_i hx hb hr hlocks hP hS dX2_bid_98
        refine lv_if_eq (tgt := 80) hx hb dX2_bid_73 (by decide) (fun c12 => ?_) (fun c12 => ?_)
        · replace hf := ob_t hf c12
          refine lv_iconst (v := 0) hx hb dX2_bid_80 (by decide) ?_
          exact kj81 0 H locs ls hf hP hS (lv_sub hl [0] rfl)
        · replace hf := ob_f hf c12
          refine lv_iconst (v := 1) hx hb dX2_bid_76 (by decide) ?_
          refine lv_goto (tgt := 81) hx hb dX2_bid_77 (by decide) ?_
          exact kj81 1 H locs ls hf hP hS (lv_sub hl [0] rfl)
      · replace hf := ob_t hf c5
        refine lv_bipush (v := (-2)) hx hb dX2_bid_35 (by decide) ?_
        obtain rfl := ob_s hf
        subst hQ
        exact xe_i hx hb hr hlocks hP hS dX2_bid_37
  · replace hf := ob_t hf c1
    refine lv_aload_n hx hb dX2_bid_5 rfl (lv_at hl 0 rfl) ?_
    refine xr_get hx hb hts in_X2 hown hK hP 0 (by decide) rfl rfl 0 (by decide) (hts _ q1405) (fun _ h => h) rfl (v := .ref (E 1)) rfl dX2_bid_6 ?_
    refine lv_iconst (v := 5) hx hb dX2_bid_9 (by decide) ?_
    refine lv_iconst (v := 0) hx hb dX2_bid_10 (by decide) ?_
    obtain ⟨w13, ew13, hf⟩ := ob_bnd hf
    refine xr_iast hx hb hK hP hD hS 1 (by decide) rfl 0 rfl (j := 5) (w' := w13) (vin_c (by decide)) (by decide) ew13 dX2_bid_11 (fun H locs hP hS => ?_)
    refine lv_iconst (v := 0) hx hb dX2_bid_12 (by decide) ?_
    obtain rfl := ob_s hf
    subst hQ
    exact xe_i hx hb hr hlocks hP hS dX2_bid_13
abbrev rmX2_lay : Room := { frames := 0, cells := 0, slots := 0, locals := 0 }
theorem cdX2_lay : yX2_lay.cls = RX2 ∧ yX2_lay.cls ≠ "java/lang/invoke/MethodHandle" ∧ yX2_lay.cls ≠ "java/lang/invoke/VarHandle" ∧ (parseMethodDescriptor yX2_lay.desc).map (fun d => d.parameters.length) = some 4 := by decide +kernel
set_option maxHeartbeats 4000000 in
set_option maxRecDepth 100000 in
theorem wkX2_lay (l : Launch) (D : va_G) (dA : Nat → ClassId) (E : Nat → Nat) (hE : wInj 19 E) (w : Mm) (k0 : Nat) (n0 : Nat) (a1 : Int32) (a2 : Int32) (a3 : Int32) {res : Mm} (hf : M_lay w k0 n0 a1 a2 a3 = some res) (hk0 : k0 < 19) (sk0 : shM k0 = (1, n0, [])) : Met l yX2_lay (ws_ yX2_lay cX2_lay 5 (none)) rmX2_lay (Pw D clM (tyM dA) shM 19 dA E [.ref (E k0), .int a1, .int a2, .int a3] w) (Qwv D clM shM 19 dA E res) 0 0 (AE 19 E) := by
  refine xm_head (own := RX2) (by decide) rfl (Nat.le_of_ble_eq_true rfl) ?_
  intro p e s m args below meth c ls Q hQ C hP hl
  obtain ⟨hx, hb, hr, hlocks, hml, hown, hts, hK⟩ := C
  replace hl : lv_has ls 5 [(0, .ref (E k0)), (1, .int a1), (2, .int a2), (3, .int a3)] := hl
  have hS : va_S (AE 19 E) s.heap s.heap [] := va_S.rf
  have hD : wD 19 E (AE 19 E) := wD.self hE
  unfold M_lay at hf
  obtain ⟨H, eH⟩ : ∃ H, H = s.heap := ⟨_, rfl⟩
  obtain ⟨locs, eL⟩ : ∃ locs : List Loc, locs = [] := ⟨_, rfl⟩
  rw [← eL] at hS ⊢
  rw [← eH] at hP
  have hS : va_S (AE 19 E) s.heap H locs := by rw [eH]; exact hS
  show W p l e rmX2_lay s m args below meth c s.heap locs 0 0 Q (F0 m 0 ls [])
  rw [← eH]
  refine lv_iload_n hx hb dX2_lay_0 rfl (lv_at hl 1 rfl) ?_
  refine lv_istore (lv' := [(4, .int a1), (0, .ref (E k0)), (1, .int a1), (2, .int a2), (3, .int a3)]) hx hb dX2_lay_1 hl (by decide) rfl (fun ls hl => ?_)
  obtain ⟨b3, hb3, hf⟩ := ob_bind hf
  obtain ⟨n3, hn3⟩ := lp_some hb3
  have kL3 : ∀ (n : Nat) (w1 : Mm) (v4_2 : Int32), lpF (fun (q3 : Mm × Int32) => M_lay_b3 a3 n0 k0 a2 q3.1 q3.2) n (w1, v4_2) = some b3 → (∀ (H : Heap) (locs : List Loc) (ls : Array Slot), va_P D clM (wl shM 19 dA E b3.1) H → va_S (AE 19 E) s.heap H locs → lv_has ls 5 [(0, .ref (E k0)), (2, .int a2), (4, .int b3.2)] → W p l e rmX2_lay s m args below meth c H locs 0 0 Q (F0 m 51 ls [])) → ∀ (H : Heap) (locs : List Loc) (ls : Array Slot), va_P D clM (wl shM 19 dA E w1) H → va_S (AE 19 E) s.heap H locs → lv_has ls 5 [(0, .ref (E k0)), (2, .int a2), (3, .int a3), (4, .int v4_2)] → W p l e rmX2_lay s m args below meth c H locs 0 0 Q (F0 m 3 ls []) := by
    intro n
    induction n with
    | zero =>
      intro w1 v4_2 h
      cases h
    | succ n ih =>
      intro w1 v4_2 h K3_0 H locs ls hP hS hl
      obtain ⟨r3, hf, h3a, h3b⟩ := lpF_step h
      replace hf : M_lay_b3 a3 n0 k0 a2 w1 v4_2 = some r3 := hf
      unfold M_lay_b3 at hf
      refine lv_iload hx hb dX2_lay_3 (lv_at hl 3 rfl) ?_
      refine lv_if_le (tgt := 51) hx hb dX2_lay_5 (by decide) (fun c4 => ?_) (fun c4 => ?_)
      · replace hf := ob_t hf c4
        obtain rfl := ob_s hf
        obtain rfl := h3b _ rfl
        exact K3_0 H locs ls hP hS (lv_sub hl [0, 1, 3] rfl)
      · replace hf := ob_f hf c4
        refine lv_iload_n hx hb dX2_lay_8 rfl (lv_at hl 2 rfl) ?_
        have kj35 : ∀ (H : Heap) (locs : List Loc) (ls : Array Slot), M_lay_j35 v4_2 n0 w1 k0 = some r3 → va_P D clM (wl shM 19 dA E w1) H → va_S (AE 19 E) s.heap H locs → lv_has ls 5 [(0, .ref (E k0)), (2, .int a2), (3, .int a3), (4, .int v4_2)] → W p l e rmX2_lay s m args below meth c H locs 0 0 Q (F0 m 35 ls []) := by
          intro H locs ls hf hP hS hl
          unfold M_lay_j35 at hf
          refine lv_aload_n hx hb dX2_lay_35 rfl (lv_at hl 0 rfl) ?_
          refine lv_iload hx hb dX2_lay_36 (lv_at hl 3 rfl) ?_
          refine lv_aload_n hx hb dX2_lay_38 rfl (lv_at hl 0 rfl) ?_
          refine lv_iload hx hb dX2_lay_39 (lv_at hl 3 rfl) ?_
          refine lv_iconst (v := 1) hx hb dX2_lay_41 (by decide) ?_
          refine lv_isub hx hb dX2_lay_42 ?_
          obtain ⟨h5, hf⟩ := ob_gd hf
          refine xr_iald hx hb hK hP k0 hk0 sk0 0 rfl (j := (v4_2 - 1).toNatClampNeg) h5 rfl dX2_lay_43 ?_
          obtain ⟨h6, hf⟩ := ob_gd hf
          obtain ⟨w7, ew7, hf⟩ := ob_bnd hf
          refine xr_iast hx hb hK hP hD hS k0 hk0 sk0 0 rfl (j := v4_2.toNatClampNeg) (w' := w7) h6 rfl ew7 dX2_lay_44 (fun H locs hP hS => ?_)
          obtain ⟨v4_8, ev4_8, hf⟩ := ob_bnd hf
          refine lv_iinc (v := v4_8) (lv' := [(4, .int v4_8), (0, .ref (E k0)), (2, .int a2), (3, .int a3)]) hx hb dX2_lay_45 hl (k := 3) rfl (by rw [ev4_8]; rfl) (by decide) rfl (fun ls hl => ?_)
          refine lv_goto (tgt := 3) hx hb dX2_lay_48 (by decide) ?_
          obtain rfl := ob_s hf
          exact ih _ _ (h3a _ rfl) K3_0 H locs ls hP hS (lv_sub hl [1, 2, 3, 0] rfl)
        refine lv_if_eq (tgt := 25) hx hb dX2_lay_9 (by decide) (fun c9 => ?_) (fun c9 => ?_)
        · replace hf := ob_t hf c9
          refine lv_aload_n hx hb dX2_lay_25 rfl (lv_at hl 0 rfl) ?_
          refine lv_iload hx hb dX2_lay_26 (lv_at hl 3 rfl) ?_
          refine lv_iconst (v := 1) hx hb dX2_lay_28 (by decide) ?_
          refine lv_isub hx hb dX2_lay_29 ?_
          obtain ⟨h10, hf⟩ := ob_gd hf
          refine xr_iald hx hb hK hP k0 hk0 sk0 0 rfl (j := (v4_2 - 1).toNatClampNeg) h10 rfl dX2_lay_30 ?_
          refine lv_iload_n hx hb dX2_lay_31 rfl (lv_at hl 1 rfl) ?_
          refine lv_icmp_le (tgt := 51) hx hb dX2_lay_32 (by decide) (fun c11 => ?_) (fun c11 => ?_)
          · replace hf := ob_t hf c11
            obtain rfl := ob_s hf
            obtain rfl := h3b _ rfl
            exact K3_0 H locs ls hP hS (lv_sub hl [0, 1, 3] rfl)
          · replace hf := ob_f hf c11
            exact kj35 H locs ls hf hP hS (lv_sub hl [0, 1, 2, 3] rfl)
        · replace hf := ob_f hf c9
          refine lv_aload_n hx hb dX2_lay_12 rfl (lv_at hl 0 rfl) ?_
          refine lv_iload hx hb dX2_lay_13 (lv_at hl 3 rfl) ?_
          refine lv_iconst (v := 1) hx hb dX2_lay_15 (by decide) ?_
          refine lv_isub hx hb dX2_lay_16 ?_
          obtain ⟨h12, hf⟩ := ob_gd hf
          refine xr_iald hx hb hK hP k0 hk0 sk0 0 rfl (j := (v4_2 - 1).toNatClampNeg) h12 rfl dX2_lay_17 ?_
          refine lv_iload_n hx hb dX2_lay_18 rfl (lv_at hl 1 rfl) ?_
          refine lv_icmp_ge (tgt := 51) hx hb dX2_lay_19 (by decide) (fun c13 => ?_) (fun c13 => ?_)
          · replace hf := ob_t hf c13
            obtain rfl := ob_s hf
            obtain rfl := h3b _ rfl
            exact K3_0 H locs ls hP hS (lv_sub hl [0, 1, 3] rfl)
          · replace hf := ob_f hf c13
            refine lv_goto (tgt := 35) hx hb dX2_lay_22 (by decide) ?_
            exact kj35 H locs ls hf hP hS (lv_sub hl [0, 1, 2, 3] rfl)
  refine kL3 n3 w a1 hn3 (fun H locs ls hP hS hl => ?_) H locs ls hP hS (lv_sub hl [1, 3, 4, 0] rfl)
  replace hf : M_lay_x3_51 b3 n0 k0 a2 = some res := hf
  unfold M_lay_x3_51 at hf
  refine lv_aload_n hx hb dX2_lay_51 rfl (lv_at hl 0 rfl) ?_
  refine lv_iload hx hb dX2_lay_52 (lv_at hl 2 rfl) ?_
  refine lv_iload_n hx hb dX2_lay_54 rfl (lv_at hl 1 rfl) ?_
  obtain ⟨h14, hf⟩ := ob_gd hf
  obtain ⟨w15, ew15, hf⟩ := ob_bnd hf
  refine xr_iast hx hb hK hP hD hS k0 hk0 sk0 0 rfl (j := b3.2.toNatClampNeg) (w' := w15) h14 rfl ew15 dX2_lay_55 (fun H locs hP hS => ?_)
  obtain rfl := ob_s hf
  subst hQ
  exact xe_v hx hb hr hlocks hP hS dX2_lay_56
abbrev rmX2_layMarket : Room := { frames := 1, cells := 0, slots := 0, locals := 24 }
theorem cdX2_layMarket : yX2_layMarket.cls = RX2 ∧ yX2_layMarket.cls ≠ "java/lang/invoke/MethodHandle" ∧ yX2_layMarket.cls ≠ "java/lang/invoke/VarHandle" ∧ (parseMethodDescriptor yX2_layMarket.desc).map (fun d => d.parameters.length) = some 0 := by decide +kernel
set_option maxHeartbeats 4000000 in
set_option maxRecDepth 100000 in
theorem wkX2_layMarket (l : Launch) (D : va_G) (dA : Nat → ClassId) (E : Nat → Nat) (hE : wInj 19 E) (w : Mm)  {res : Int32 × Mm} (hf : M_layMarket w = some res) : Met l yX2_layMarket (ws_ yX2_layMarket cX2_layMarket 2 (some .int)) rmX2_layMarket (Pw D clM (tyM dA) shM 19 dA E [.ref (E 0)] w) (Qwi D clM shM 19 dA E res.1 res.2) 0 0 (AE 19 E) := by
  refine xm_head (own := RX2) (by decide) rfl (Nat.le_of_ble_eq_true rfl) ?_
  intro p e s m args below meth c ls Q hQ C hP hl
  obtain ⟨hx, hb, hr, hlocks, hml, hown, hts, hK⟩ := C
  replace hl : lv_has ls 2 [(0, .ref (E 0))] := hl
  have hS : va_S (AE 19 E) s.heap s.heap [] := va_S.rf
  have hD : wD 19 E (AE 19 E) := wD.self hE
  unfold M_layMarket at hf
  obtain ⟨H, eH⟩ : ∃ H, H = s.heap := ⟨_, rfl⟩
  obtain ⟨locs, eL⟩ : ∃ locs : List Loc, locs = [] := ⟨_, rfl⟩
  rw [← eL] at hS ⊢
  rw [← eH] at hP
  have hS : va_S (AE 19 E) s.heap H locs := by rw [eH]; exact hS
  show W p l e rmX2_layMarket s m args below meth c s.heap locs 0 0 Q (F0 m 0 ls [])
  rw [← eH]
  refine lv_aload_n hx hb dX2_layMarket_0 rfl (lv_at hl 0 rfl) ?_
  refine lv_iconst (v := 0) hx hb dX2_layMarket_1 (by decide) ?_
  obtain ⟨w1, ew1, hf⟩ := ob_bnd hf
  refine xr_put hx hb hts in_X2 tyX2 tyX2_ok nmX2 hown hK hP hD hS 0 (by decide) rfl rfl 39 (by decide) (hts _ q1444) (fun _ h => h) rfl rfl rfl rfl (w' := w1) ew1 dX2_layMarket_2 (fun H locs hP hS => ?_)
  refine lv_aload_n hx hb dX2_layMarket_5 rfl (lv_at hl 0 rfl) ?_
  refine lv_iconst (v := 0) hx hb dX2_layMarket_6 (by decide) ?_
  obtain ⟨w2, ew2, hf⟩ := ob_bnd hf
  refine xr_put hx hb hts in_X2 tyX2 tyX2_ok nmX2 hown hK hP hD hS 0 (by decide) rfl rfl 40 (by decide) (hts _ q1445) (fun _ h => h) rfl rfl rfl rfl (w' := w2) ew2 dX2_layMarket_7 (fun H locs hP hS => ?_)
  refine lv_bipush (v := 74) hx hb dX2_layMarket_10 (by decide) ?_
  refine lv_istore_n (lv' := [(1, .int 74), (0, .ref (E 0))]) hx hb dX2_layMarket_12 rfl hl (by decide) rfl (fun ls hl => ?_)
  obtain ⟨b5, hb5, hf⟩ := ob_bind hf
  obtain ⟨n5, hn5⟩ := lp_some hb5
  have kL13 : ∀ (n : Nat) (w3 : Mm) (v1_4 : Int32), lpF (fun (q5 : Mm × Int32) => M_layMarket_b13 q5.1 q5.2) n (w3, v1_4) = some b5 → (∀ (H : Heap) (locs : List Loc) (ls : Array Slot), va_P D clM (wl shM 19 dA E b5) H → va_S (AE 19 E) s.heap H locs → lv_has ls 2 [(0, .ref (E 0))] → W p l e rmX2_layMarket s m args below meth c H locs 0 0 Q (F0 m 105 ls [])) → ∀ (H : Heap) (locs : List Loc) (ls : Array Slot), va_P D clM (wl shM 19 dA E w3) H → va_S (AE 19 E) s.heap H locs → lv_has ls 2 [(0, .ref (E 0)), (1, .int v1_4)] → W p l e rmX2_layMarket s m args below meth c H locs 0 0 Q (F0 m 13 ls []) := by
    intro n
    induction n with
    | zero =>
      intro w3 v1_4 h
      cases h
    | succ n ih =>
      intro w3 v1_4 h K5_0 H locs ls hP hS hl
      obtain ⟨r5, hf, h5a, h5b⟩ := lpF_step h
      replace hf : M_layMarket_b13 w3 v1_4 = some r5 := hf
      unfold M_layMarket_b13 at hf
      refine lv_iload_n hx hb dX2_layMarket_13 rfl (lv_at hl 1 rfl) ?_
      refine lv_bipush (v := 74) hx hb dX2_layMarket_14 (by decide) ?_
      refine lv_iconst (v := 2) hx hb dX2_layMarket_16 (by decide) ?_
      refine lv_aload_n hx hb dX2_layMarket_17 rfl (lv_at hl 0 rfl) ?_
      refine xr_get hx hb hts in_X2 hown hK hP 0 (by decide) rfl rfl 0 (by decide) (hts _ q1405) (fun _ h => h) rfl (v := .ref (E 1)) rfl dX2_layMarket_18 ?_
      refine lv_iconst (v := 5) hx hb dX2_layMarket_21 (by decide) ?_
      refine xr_iald hx hb hK hP 1 (by decide) rfl 0 rfl (j := 5) (vin_c (by decide)) (by decide) dX2_layMarket_22 ?_
      refine lv_imul hx hb dX2_layMarket_23 ?_
      refine lv_iadd hx hb dX2_layMarket_24 ?_
      refine lv_icmp_ge (tgt := 105) hx hb dX2_layMarket_25 (by decide) (fun c6 => ?_) (fun c6 => ?_)
      · replace hf := ob_t hf c6
        obtain rfl := ob_s hf
        obtain rfl := h5b _ rfl
        exact K5_0 H locs ls hP hS (lv_sub hl [0] rfl)
      · replace hf := ob_f hf c6
        refine lv_aload_n hx hb dX2_layMarket_28 rfl (lv_at hl 0 rfl) ?_
        refine xr_get hx hb hts in_X2 hown hK hP 0 (by decide) rfl rfl 0 (by decide) (hts _ q1405) (fun _ h => h) rfl (v := .ref (E 1)) rfl dX2_layMarket_29 ?_
        refine lv_iload_n hx hb dX2_layMarket_32 rfl (lv_at hl 1 rfl) ?_
        refine lv_iconst (v := 1) hx hb dX2_layMarket_33 (by decide) ?_
        refine lv_iadd hx hb dX2_layMarket_34 ?_
        obtain ⟨h7, hf⟩ := ob_gd hf
        refine xr_iald hx hb hK hP 1 (by decide) rfl 0 rfl (j := (v1_4 + 1).toNatClampNeg) h7 rfl dX2_layMarket_35 ?_
        refine lv_iconst (v := 1) hx hb dX2_layMarket_36 (by decide) ?_
        refine lv_icmp_ne (tgt := 71) hx hb dX2_layMarket_37 (by decide) (fun c8 => ?_) (fun c8 => ?_)
        · replace hf := ob_f hf c8
          refine lv_aload_n hx hb dX2_layMarket_71 rfl (lv_at hl 0 rfl) ?_
          refine xr_get hx hb hts in_X2 hown hK hP 0 (by decide) rfl rfl 38 (by decide) (hts _ q1443) (fun _ h => h) rfl (v := .ref (E 18)) rfl dX2_layMarket_72 ?_
          refine lv_aload_n hx hb dX2_layMarket_75 rfl (lv_at hl 0 rfl) ?_
          refine xr_get hx hb hts in_X2 hown hK hP 0 (by decide) rfl rfl 40 (by decide) (hts _ q1445) (fun _ h => h) rfl (v := .int (w3.1 0 40)) rfl dX2_layMarket_76 ?_
          refine lv_aload_n hx hb dX2_layMarket_79 rfl (lv_at hl 0 rfl) ?_
          refine xr_get hx hb hts in_X2 hown hK hP 0 (by decide) rfl rfl 0 (by decide) (hts _ q1405) (fun _ h => h) rfl (v := .ref (E 1)) rfl dX2_layMarket_80 ?_
          refine lv_iload_n hx hb dX2_layMarket_83 rfl (lv_at hl 1 rfl) ?_
          obtain ⟨h9, hf⟩ := ob_gd hf
          refine xr_iald hx hb hK hP 1 (by decide) rfl 0 rfl (j := v1_4.toNatClampNeg) h9 rfl dX2_layMarket_84 ?_
          refine lv_iconst (v := 0) hx hb dX2_layMarket_85 (by decide) ?_
          obtain ⟨q11, g10, hf⟩ := ob_bind hf
          refine xc_v (xw_runS (As := [.ref (E 18), .int (w3.1 0 40), .int (w3.1 1 v1_4.toNatClampNeg), .int 0]) (rest := []) ⟨hx, hb, hml, hown, hts⟩ (wkX2_lay l D dA E hE w3 18 10 (w3.1 0 40) (w3.1 1 v1_4.toNatClampNeg) 0 g10 (by decide) rfl) (va_cwS 4 hts (lw_S q2069 q2070 q140 q2071) rfl rfl rfl cdX2_lay.2 ⟨Nat.le_of_ble_eq_true rfl, Nat.le_of_ble_eq_true rfl⟩) hK hP hl.1 rfl rfl (Nat.le_of_ble_eq_true rfl) dX2_layMarket_86 ⟨Nat.zero_le _, Nat.zero_le _⟩) hS hD.2 (fun H locs hP hS => ?_)
          refine lv_aload_n hx hb dX2_layMarket_89 rfl (lv_at hl 0 rfl) ?_
          refine lv_dup hx hb dX2_layMarket_90 rfl ?_
          refine xr_get hx hb hts in_X2 hown hK hP 0 (by decide) rfl rfl 40 (by decide) (hts _ q1445) (fun _ h => h) rfl (v := .int (q11.1 0 40)) rfl dX2_layMarket_91 ?_
          refine lv_iconst (v := 1) hx hb dX2_layMarket_94 (by decide) ?_
          refine lv_iadd hx hb dX2_layMarket_95 ?_
          obtain ⟨w12, ew12, hf⟩ := ob_bnd hf
          refine xr_put hx hb hts in_X2 tyX2 tyX2_ok nmX2 hown hK hP hD hS 0 (by decide) rfl rfl 40 (by decide) (hts _ q1445) (fun _ h => h) rfl rfl rfl rfl (w' := w12) ew12 dX2_layMarket_96 (fun H locs hP hS => ?_)
          obtain ⟨v1_13, ev1_13, hf⟩ := ob_bnd hf
          refine lv_iinc (v := v1_13) (lv' := [(1, .int v1_13), (0, .ref (E 0))]) hx hb dX2_layMarket_99 hl (k := 1) rfl (by rw [ev1_13]; rfl) (by decide) rfl (fun ls hl => ?_)
          refine lv_goto (tgt := 13) hx hb dX2_layMarket_102 (by decide) ?_
          obtain rfl := ob_s hf
          exact ih _ _ (h5a _ rfl) K5_0 H locs ls hP hS (lv_sub hl [1, 0] rfl)
        · replace hf := ob_t hf c8
          refine lv_aload_n hx hb dX2_layMarket_40 rfl (lv_at hl 0 rfl) ?_
          refine xr_get hx hb hts in_X2 hown hK hP 0 (by decide) rfl rfl 37 (by decide) (hts _ q1442) (fun _ h => h) rfl (v := .ref (E 17)) rfl dX2_layMarket_41 ?_
          refine lv_aload_n hx hb dX2_layMarket_44 rfl (lv_at hl 0 rfl) ?_
          refine xr_get hx hb hts in_X2 hown hK hP 0 (by decide) rfl rfl 39 (by decide) (hts _ q1444) (fun _ h => h) rfl (v := .int (w3.1 0 39)) rfl dX2_layMarket_45 ?_
          refine lv_aload_n hx hb dX2_layMarket_48 rfl (lv_at hl 0 rfl) ?_
          refine xr_get hx hb hts in_X2 hown hK hP 0 (by decide) rfl rfl 0 (by decide) (hts _ q1405) (fun _ h => h) rfl (v := .ref (E 1)) rfl dX2_layMarket_49 ?_
          refine lv_iload_n hx hb dX2_layMarket_52 rfl (lv_at hl 1 rfl) ?_
          obtain ⟨h14, hf⟩ := ob_gd hf
          refine xr_iald hx hb hK hP 1 (by decide) rfl 0 rfl (j := v1_4.toNatClampNeg) h14 rfl dX2_layMarket_53 ?_
          refine lv_iconst (v := 1) hx hb dX2_layMarket_54 (by decide) ?_
          obtain ⟨q16, g15, hf⟩ := ob_bind hf
          refine xc_v (xw_runS (As := [.ref (E 17), .int (w3.1 0 39), .int (w3.1 1 v1_4.toNatClampNeg), .int 1]) (rest := []) ⟨hx, hb, hml, hown, hts⟩ (wkX2_lay l D dA E hE w3 17 10 (w3.1 0 39) (w3.1 1 v1_4.toNatClampNeg) 1 g15 (by decide) rfl) (va_cwS 4 hts (lw_S q2069 q2070 q140 q2071) rfl rfl rfl cdX2_lay.2 ⟨Nat.le_of_ble_eq_true rfl, Nat.le_of_ble_eq_true rfl⟩) hK hP hl.1 rfl rfl (Nat.le_of_ble_eq_true rfl) dX2_layMarket_55 ⟨Nat.zero_le _, Nat.zero_le _⟩) hS hD.2 (fun H locs hP hS => ?_)
          refine lv_aload_n hx hb dX2_layMarket_58 rfl (lv_at hl 0 rfl) ?_
          refine lv_dup hx hb dX2_layMarket_59 rfl ?_
          refine xr_get hx hb hts in_X2 hown hK hP 0 (by decide) rfl rfl 39 (by decide) (hts _ q1444) (fun _ h => h) rfl (v := .int (q16.1 0 39)) rfl dX2_layMarket_60 ?_
          refine lv_iconst (v := 1) hx hb dX2_layMarket_63 (by decide) ?_
          refine lv_iadd hx hb dX2_layMarket_64 ?_
          obtain ⟨w17, ew17, hf⟩ := ob_bnd hf
          refine xr_put hx hb hts in_X2 tyX2 tyX2_ok nmX2 hown hK hP hD hS 0 (by decide) rfl rfl 39 (by decide) (hts _ q1444) (fun _ h => h) rfl rfl rfl rfl (w' := w17) ew17 dX2_layMarket_65 (fun H locs hP hS => ?_)
          refine lv_goto (tgt := 99) hx hb dX2_layMarket_68 (by decide) ?_
          obtain ⟨v1_18, ev1_18, hf⟩ := ob_bnd hf
          refine lv_iinc (v := v1_18) (lv' := [(1, .int v1_18), (0, .ref (E 0))]) hx hb dX2_layMarket_99 hl (k := 1) rfl (by rw [ev1_18]; rfl) (by decide) rfl (fun ls hl => ?_)
          refine lv_goto (tgt := 13) hx hb dX2_layMarket_102 (by decide) ?_
          obtain rfl := ob_s hf
          exact ih _ _ (h5a _ rfl) K5_0 H locs ls hP hS (lv_sub hl [1, 0] rfl)
  refine kL13 n5 w2 74 hn5 (fun H locs ls hP hS hl => ?_) H locs ls hP hS (lv_sub hl [1, 0] rfl)
  replace hf : M_layMarket_x13_105 b5 = some res := hf
  unfold M_layMarket_x13_105 at hf
  refine lv_iconst (v := 0) hx hb dX2_layMarket_105 (by decide) ?_
  refine lv_istore_n (lv' := [(1, .int 0), (0, .ref (E 0))]) hx hb dX2_layMarket_106 rfl hl (by decide) rfl (fun ls hl => ?_)
  obtain ⟨b20, hb20, hf⟩ := ob_bind hf
  obtain ⟨n20, hn20⟩ := lp_some hb20
  have kL107 : ∀ (n : Nat) (v1_19 : Int32), lpF (fun (q20 : Int32) => M_layMarket_b107 b5 q20) n v1_19 = some b20 → (∀ (H : Heap) (locs : List Loc) (ls : Array Slot), va_P D clM (wl shM 19 dA E b5) H → va_S (AE 19 E) s.heap H locs → lv_has ls 2 [(1, .int b20)] → W p l e rmX2_layMarket s m args below meth c H locs 0 0 Q (F0 m 144 ls [])) → ∀ (H : Heap) (locs : List Loc) (ls : Array Slot), va_P D clM (wl shM 19 dA E b5) H → va_S (AE 19 E) s.heap H locs → lv_has ls 2 [(0, .ref (E 0)), (1, .int v1_19)] → W p l e rmX2_layMarket s m args below meth c H locs 0 0 Q (F0 m 107 ls []) := by
    intro n
    induction n with
    | zero =>
      intro v1_19 h
      cases h
    | succ n ih =>
      intro v1_19 h K20_0 H locs ls hP hS hl
      obtain ⟨r20, hf, h20a, h20b⟩ := lpF_step h
      replace hf : M_layMarket_b107 b5 v1_19 = some r20 := hf
      unfold M_layMarket_b107 at hf
      refine lv_iload_n hx hb dX2_layMarket_107 rfl (lv_at hl 1 rfl) ?_
      refine lv_aload_n hx hb dX2_layMarket_108 rfl (lv_at hl 0 rfl) ?_
      refine xr_get hx hb hts in_X2 hown hK hP 0 (by decide) rfl rfl 39 (by decide) (hts _ q1444) (fun _ h => h) rfl (v := .int (b5.1 0 39)) rfl dX2_layMarket_109 ?_
      refine lv_icmp_ge (tgt := 144) hx hb dX2_layMarket_112 (by decide) (fun c21 => ?_) (fun c21 => ?_)
      · replace hf := ob_t hf c21
        obtain rfl := ob_s hf
        obtain rfl := h20b _ rfl
        exact K20_0 H locs ls hP hS (lv_sub hl [1] rfl)
      · replace hf := ob_f hf c21
        refine lv_iload_n hx hb dX2_layMarket_115 rfl (lv_at hl 1 rfl) ?_
        refine lv_aload_n hx hb dX2_layMarket_116 rfl (lv_at hl 0 rfl) ?_
        refine xr_get hx hb hts in_X2 hown hK hP 0 (by decide) rfl rfl 40 (by decide) (hts _ q1445) (fun _ h => h) rfl (v := .int (b5.1 0 40)) rfl dX2_layMarket_117 ?_
        refine lv_icmp_ge (tgt := 144) hx hb dX2_layMarket_120 (by decide) (fun c22 => ?_) (fun c22 => ?_)
        · replace hf := ob_t hf c22
          obtain rfl := ob_s hf
          obtain rfl := h20b _ rfl
          exact K20_0 H locs ls hP hS (lv_sub hl [1] rfl)
        · replace hf := ob_f hf c22
          refine lv_aload_n hx hb dX2_layMarket_123 rfl (lv_at hl 0 rfl) ?_
          refine xr_get hx hb hts in_X2 hown hK hP 0 (by decide) rfl rfl 37 (by decide) (hts _ q1442) (fun _ h => h) rfl (v := .ref (E 17)) rfl dX2_layMarket_124 ?_
          refine lv_iload_n hx hb dX2_layMarket_127 rfl (lv_at hl 1 rfl) ?_
          obtain ⟨h23, hf⟩ := ob_gd hf
          refine xr_iald hx hb hK hP 17 (by decide) rfl 0 rfl (j := v1_19.toNatClampNeg) h23 rfl dX2_layMarket_128 ?_
          refine lv_aload_n hx hb dX2_layMarket_129 rfl (lv_at hl 0 rfl) ?_
          refine xr_get hx hb hts in_X2 hown hK hP 0 (by decide) rfl rfl 38 (by decide) (hts _ q1443) (fun _ h => h) rfl (v := .ref (E 18)) rfl dX2_layMarket_130 ?_
          refine lv_iload_n hx hb dX2_layMarket_133 rfl (lv_at hl 1 rfl) ?_
          obtain ⟨h24, hf⟩ := ob_gd hf
          refine xr_iald hx hb hK hP 18 (by decide) rfl 0 rfl (j := v1_19.toNatClampNeg) h24 rfl dX2_layMarket_134 ?_
          refine lv_icmp_lt (tgt := 144) hx hb dX2_layMarket_135 (by decide) (fun c25 => ?_) (fun c25 => ?_)
          · replace hf := ob_t hf c25
            obtain rfl := ob_s hf
            obtain rfl := h20b _ rfl
            exact K20_0 H locs ls hP hS (lv_sub hl [1] rfl)
          · replace hf := ob_f hf c25
            obtain ⟨v1_26, ev1_26, hf⟩ := ob_bnd hf
            refine lv_iinc (v := v1_26) (lv' := [(1, .int v1_26), (0, .ref (E 0))]) hx hb dX2_layMarket_138 hl (k := 1) rfl (by rw [ev1_26]; rfl) (by decide) rfl (fun ls hl => ?_)
            refine lv_goto (tgt := 107) hx hb dX2_layMarket_141 (by decide) ?_
            obtain rfl := ob_s hf
            exact ih _ (h20a _ rfl) K20_0 H locs ls hP hS (lv_sub hl [1, 0] rfl)
  refine kL107 n20 0 hn20 (fun H locs ls hP hS hl => ?_) H locs ls hP hS (lv_sub hl [1, 0] rfl)
  replace hf : M_layMarket_x107_144 b20 b5 = some res := hf
  unfold M_layMarket_x107_144 at hf
  refine lv_iload_n hx hb dX2_layMarket_144 rfl (lv_at hl 0 rfl) ?_
  obtain rfl := ob_s hf
  subst hQ
  exact xe_i hx hb hr hlocks hP hS dX2_layMarket_145
abbrev rmX2_market : Room := { frames := 2, cells := 0, slots := 0, locals := 45 }
theorem cdX2_market : yX2_market.cls = RX2 ∧ yX2_market.cls ≠ "java/lang/invoke/MethodHandle" ∧ yX2_market.cls ≠ "java/lang/invoke/VarHandle" ∧ (parseMethodDescriptor yX2_market.desc).map (fun d => d.parameters.length) = some 1 := by decide +kernel
set_option maxHeartbeats 4000000 in
set_option maxRecDepth 100000 in
theorem wkX2_market (l : Launch) (D : va_G) (dA : Nat → ClassId) (E : Nat → Nat) (hE : wInj 19 E) (w : Mm) (a1 : Int32) {res : Int32 × Mm} (hf : M_market w a1 = some res) : Met l yX2_market (ws_ yX2_market cX2_market 5 (some .int)) rmX2_market (Pw D clM (tyM dA) shM 19 dA E [.ref (E 0), .int a1] w) (Qwi D clM shM 19 dA E res.1 res.2) 0 0 (AE 19 E) := by
  refine xm_head (own := RX2) (by decide) rfl (Nat.le_of_ble_eq_true rfl) ?_
  intro p e s m args below meth c ls Q hQ C hP hl
  obtain ⟨hx, hb, hr, hlocks, hml, hown, hts, hK⟩ := C
  replace hl : lv_has ls 5 [(0, .ref (E 0)), (1, .int a1)] := hl
  have hS : va_S (AE 19 E) s.heap s.heap [] := va_S.rf
  have hD : wD 19 E (AE 19 E) := wD.self hE
  unfold M_market at hf
  obtain ⟨H, eH⟩ : ∃ H, H = s.heap := ⟨_, rfl⟩
  obtain ⟨locs, eL⟩ : ∃ locs : List Loc, locs = [] := ⟨_, rfl⟩
  rw [← eL] at hS ⊢
  rw [← eH] at hP
  have hS : va_S (AE 19 E) s.heap H locs := by rw [eH]; exact hS
  show W p l e rmX2_market s m args below meth c s.heap locs 0 0 Q (F0 m 0 ls [])
  rw [← eH]
  refine lv_iload_n hx hb dX2_market_0 rfl (lv_at hl 1 rfl) ?_
  refine lv_iconst (v := 0) hx hb dX2_market_1 (by decide) ?_
  refine lv_iconst (v := 2) hx hb dX2_market_2 (by decide) ?_
  obtain ⟨q2, g1, hf⟩ := ob_bind hf
  refine xc_z (xw_runS (As := [.int a1, .int 0, .int 2]) (rest := []) ⟨hx, hb, hml, hown, hts⟩ (wkX2_isIn l D dA E hE w a1 0 2 g1) (va_cwS 3 hts (lw_S q1538 q1539 q140 q1540) rfl rfl rfl cdX2_isIn.2 ⟨Nat.le_of_ble_eq_true rfl, Nat.le_of_ble_eq_true rfl⟩) hK hP hl.1 rfl rfl (Nat.le_of_ble_eq_true rfl) dX2_market_3 ⟨Nat.zero_le _, Nat.zero_le _⟩) hS hD.2 (fun H locs zq2 hP hS => ?_)
  refine lv_if_ne (tgt := 11) hx hb dX2_market_6 (by decide) (fun c3 => ?_) (fun c3 => ?_)
  · replace hf := ob_f hf c3
    refine lv_aload_n hx hb dX2_market_11 rfl (lv_at hl 0 rfl) ?_
    obtain ⟨q5, g4, hf⟩ := ob_bind hf
    refine xc_i (xw_run (As := []) (rest := []) ⟨hx, hb, hml, hown, hts⟩ (k0 := 0) (wkX2_layMarket l D dA E hE w g4) (cwV 0 hts (lw_V q2065 q2067 qs134 q140 q2068) rfl rfl rfl cdX2_layMarket ⟨Nat.le_of_ble_eq_true rfl, Nat.le_of_ble_eq_true rfl⟩) hK hP (by decide) rfl rfl rfl hl.1 rfl rfl (Nat.le_of_ble_eq_true rfl) dX2_market_12 ⟨Nat.zero_le _, Nat.zero_le _⟩) hS hD.2 (fun H locs hP hS => ?_)
    refine lv_istore_n (lv' := [(2, .int q5.1), (0, .ref (E 0)), (1, .int a1)]) hx hb dX2_market_15 rfl hl (by decide) rfl (fun ls hl => ?_)
    refine lv_iload_n hx hb dX2_market_16 rfl (lv_at hl 2 rfl) ?_
    refine lv_if_ne (tgt := 22) hx hb dX2_market_17 (by decide) (fun c6 => ?_) (fun c6 => ?_)
    · replace hf := ob_f hf c6
      refine lv_iload_n hx hb dX2_market_22 rfl (lv_at hl 0 rfl) ?_
      refine lv_if_ne (tgt := 28) hx hb dX2_market_23 (by decide) (fun c7 => ?_) (fun c7 => ?_)
      · replace hf := ob_f hf c7
        refine lv_aload_n hx hb dX2_market_28 rfl (lv_at hl 1 rfl) ?_
        refine xr_get hx hb hts in_X2 hown hK hP 0 (by decide) rfl rfl 38 (by decide) (hts _ q1443) (fun _ h => h) rfl (v := .ref (E 18)) rfl dX2_market_29 ?_
        refine lv_iload_n hx hb dX2_market_32 rfl (lv_at hl 0 rfl) ?_
        refine lv_iconst (v := 1) hx hb dX2_market_33 (by decide) ?_
        refine lv_isub hx hb dX2_market_34 ?_
        obtain ⟨h8, hf⟩ := ob_gd hf
        refine xr_iald hx hb hK hP 18 (by decide) rfl 0 rfl (j := (q5.1 - 1).toNatClampNeg) h8 rfl dX2_market_35 ?_
        obtain ⟨v3_9, ev3_9, hf⟩ := ob_bnd hf
        refine xn_i ev3_9 ?_
        refine lv_istore_n (lv' := [(3, .int v3_9), (2, .int q5.1), (0, .ref (E 0)), (1, .int a1)]) hx hb dX2_market_36 rfl hl (by decide) rfl (fun ls hl => ?_)
        refine lv_aload_n hx hb dX2_market_37 rfl (lv_at hl 2 rfl) ?_
        refine xr_get hx hb hts in_X2 hown hK hP 0 (by decide) rfl rfl 37 (by decide) (hts _ q1442) (fun _ h => h) rfl (v := .ref (E 17)) rfl dX2_market_38 ?_
        refine lv_iload_n hx hb dX2_market_41 rfl (lv_at hl 1 rfl) ?_
        refine lv_iconst (v := 1) hx hb dX2_market_42 (by decide) ?_
        refine lv_isub hx hb dX2_market_43 ?_
        obtain ⟨h10, hf⟩ := ob_gd hf
        refine xr_iald hx hb hK hP 17 (by decide) rfl 0 rfl (j := (q5.1 - 1).toNatClampNeg) h10 rfl dX2_market_44 ?_
        obtain ⟨v4_11, ev4_11, hf⟩ := ob_bnd hf
        refine xn_i ev4_11 ?_
        refine lv_istore (lv' := [(4, .int v4_11), (3, .int v3_9), (2, .int q5.1), (0, .ref (E 0)), (1, .int a1)]) hx hb dX2_market_45 hl (by decide) rfl (fun ls hl => ?_)
        refine lv_iload_n hx hb dX2_market_47 rfl (lv_at hl 2 rfl) ?_
        refine lv_aload_n hx hb dX2_market_48 rfl (lv_at hl 3 rfl) ?_
        refine xr_get hx hb hts in_X2 hown hK hP 0 (by decide) rfl rfl 39 (by decide) (hts _ q1444) (fun _ h => h) rfl (v := .int (q5.2.1 0 39)) rfl dX2_market_49 ?_
        have kj72 : ∀ (v3_12 : Int32) (H : Heap) (locs : List Loc) (ls : Array Slot), M_market_j72 q5 a1 v3_12 v4_11 = some res → va_P D clM (wl shM 19 dA E q5.2) H → va_S (AE 19 E) s.heap H locs → lv_has ls 5 [(0, .ref (E 0)), (1, .int a1), (2, .int q5.1), (3, .int v3_12), (4, .int v4_11)] → W p l e rmX2_market s m args below meth c H locs 0 0 Q (F0 m 72 ls []) := by
          intro v3_12 H locs ls hf hP hS hl
          unfold M_market_j72 at hf
          refine lv_iload_n hx hb dX2_market_72 rfl (lv_at hl 2 rfl) ?_
          refine lv_aload_n hx hb dX2_market_73 rfl (lv_at hl 0 rfl) ?_
          refine xr_get hx hb hts in_X2 hown hK hP 0 (by decide) rfl rfl 40 (by decide) (hts _ q1445) (fun _ h => h) rfl (v := .int (q5.2.1 0 40)) rfl dX2_market_74 ?_
          have kj99 : ∀ (v4_13 : Int32) (H : Heap) (locs : List Loc) (ls : Array Slot), M_market_j99 a1 v3_12 q5 v4_13 = some res → va_P D clM (wl shM 19 dA E q5.2) H → va_S (AE 19 E) s.heap H locs → lv_has ls 5 [(1, .int a1), (3, .int v3_12), (4, .int v4_13)] → W p l e rmX2_market s m args below meth c H locs 0 0 Q (F0 m 99 ls []) := by
            intro v4_13 H locs ls hf hP hS hl
            unfold M_market_j99 at hf
            refine lv_iload_n hx hb dX2_market_99 rfl (lv_at hl 0 rfl) ?_
            refine lv_iconst (v := 1) hx hb dX2_market_100 (by decide) ?_
            refine lv_icmp_ne (tgt := 108) hx hb dX2_market_101 (by decide) (fun c14 => ?_) (fun c14 => ?_)
            · replace hf := ob_f hf c14
              refine lv_iload hx hb dX2_market_108 (lv_at hl 2 rfl) ?_
              obtain rfl := ob_s hf
              subst hQ
              exact xe_i hx hb hr hlocks hP hS dX2_market_110
            · replace hf := ob_t hf c14
              refine lv_iload_n hx hb dX2_market_104 rfl (lv_at hl 1 rfl) ?_
              refine lv_goto (tgt := 110) hx hb dX2_market_105 (by decide) ?_
              obtain rfl := ob_s hf
              subst hQ
              exact xe_i hx hb hr hlocks hP hS dX2_market_110
          refine lv_icmp_ge (tgt := 99) hx hb dX2_market_77 (by decide) (fun c15 => ?_) (fun c15 => ?_)
          · replace hf := ob_t hf c15
            exact kj99 v4_11 H locs ls hf hP hS (lv_sub hl [1, 3, 4] rfl)
          · replace hf := ob_f hf c15
            refine lv_aload_n hx hb dX2_market_80 rfl (lv_at hl 0 rfl) ?_
            refine xr_get hx hb hts in_X2 hown hK hP 0 (by decide) rfl rfl 38 (by decide) (hts _ q1443) (fun _ h => h) rfl (v := .ref (E 18)) rfl dX2_market_81 ?_
            refine lv_iload_n hx hb dX2_market_84 rfl (lv_at hl 2 rfl) ?_
            obtain ⟨h16, hf⟩ := ob_gd hf
            refine xr_iald hx hb hK hP 18 (by decide) rfl 0 rfl (j := q5.1.toNatClampNeg) h16 rfl dX2_market_85 ?_
            refine lv_iload hx hb dX2_market_86 (lv_at hl 4 rfl) ?_
            refine lv_icmp_ge (tgt := 99) hx hb dX2_market_88 (by decide) (fun c17 => ?_) (fun c17 => ?_)
            · replace hf := ob_t hf c17
              exact kj99 v4_11 H locs ls hf hP hS (lv_sub hl [1, 3, 4] rfl)
            · replace hf := ob_f hf c17
              refine lv_aload_n hx hb dX2_market_91 rfl (lv_at hl 0 rfl) ?_
              refine xr_get hx hb hts in_X2 hown hK hP 0 (by decide) rfl rfl 38 (by decide) (hts _ q1443) (fun _ h => h) rfl (v := .ref (E 18)) rfl dX2_market_92 ?_
              refine lv_iload_n hx hb dX2_market_95 rfl (lv_at hl 2 rfl) ?_
              obtain ⟨h18, hf⟩ := ob_gd hf
              refine xr_iald hx hb hK hP 18 (by decide) rfl 0 rfl (j := q5.1.toNatClampNeg) h18 rfl dX2_market_96 ?_
              obtain ⟨v4_19, ev4_19, hf⟩ := ob_bnd hf
              refine xn_i ev4_19 ?_
              refine lv_istore (lv' := [(4, .int v4_19), (0, .ref (E 0)), (1, .int a1), (2, .int q5.1), (3, .int v3_12)]) hx hb dX2_market_97 hl (by decide) rfl (fun ls hl => ?_)
              exact kj99 v4_19 H locs ls hf hP hS (lv_sub hl [2, 4, 0] rfl)
        refine lv_icmp_ge (tgt := 72) hx hb dX2_market_52 (by decide) (fun c20 => ?_) (fun c20 => ?_)
        · replace hf := ob_t hf c20
          exact kj72 v3_9 H locs ls hf hP hS (lv_sub hl [3, 4, 2, 1, 0] rfl)
        · replace hf := ob_f hf c20
          refine lv_aload_n hx hb dX2_market_55 rfl (lv_at hl 3 rfl) ?_
          refine xr_get hx hb hts in_X2 hown hK hP 0 (by decide) rfl rfl 37 (by decide) (hts _ q1442) (fun _ h => h) rfl (v := .ref (E 17)) rfl dX2_market_56 ?_
          refine lv_iload_n hx hb dX2_market_59 rfl (lv_at hl 2 rfl) ?_
          obtain ⟨h21, hf⟩ := ob_gd hf
          refine xr_iald hx hb hK hP 17 (by decide) rfl 0 rfl (j := q5.1.toNatClampNeg) h21 rfl dX2_market_60 ?_
          refine lv_iload_n hx hb dX2_market_61 rfl (lv_at hl 1 rfl) ?_
          refine lv_icmp_le (tgt := 72) hx hb dX2_market_62 (by decide) (fun c22 => ?_) (fun c22 => ?_)
          · replace hf := ob_t hf c22
            exact kj72 v3_9 H locs ls hf hP hS (lv_sub hl [3, 4, 2, 1, 0] rfl)
          · replace hf := ob_f hf c22
            refine lv_aload_n hx hb dX2_market_65 rfl (lv_at hl 3 rfl) ?_
            refine xr_get hx hb hts in_X2 hown hK hP 0 (by decide) rfl rfl 37 (by decide) (hts _ q1442) (fun _ h => h) rfl (v := .ref (E 17)) rfl dX2_market_66 ?_
            refine lv_iload_n hx hb dX2_market_69 rfl (lv_at hl 2 rfl) ?_
            obtain ⟨h23, hf⟩ := ob_gd hf
            refine xr_iald hx hb hK hP 17 (by decide) rfl 0 rfl (j := q5.1.toNatClampNeg) h23 rfl dX2_market_70 ?_
            obtain ⟨v3_24, ev3_24, hf⟩ := ob_bnd hf
            refine xn_i ev3_24 ?_
            refine lv_istore_n (lv' := [(3, .int v3_24), (4, .int v4_11), (2, .int q5.1), (0, .ref (E 0)), (1, .int a1)]) hx hb dX2_market_71 rfl hl (by decide) rfl (fun ls hl => ?_)
            exact kj72 v3_24 H locs ls hf hP hS (lv_sub hl [3, 4, 2, 0, 1] rfl)
      · replace hf := ob_t hf c7
        refine lv_iconst (v := (-1)) hx hb dX2_market_26 (by decide) ?_
        obtain rfl := ob_s hf
        subst hQ
        exact xe_i hx hb hr hlocks hP hS dX2_market_27
    · replace hf := ob_t hf c6
      refine lv_iload_n hx hb dX2_market_20 rfl (lv_at hl 0 rfl) ?_
      obtain rfl := ob_s hf
      subst hQ
      exact xe_i hx hb hr hlocks hP hS dX2_market_21
  · replace hf := ob_t hf c3
    refine lv_iconst (v := (-1)) hx hb dX2_market_9 (by decide) ?_
    obtain rfl := ob_s hf
    subst hQ
    exact xe_i hx hb hr hlocks hP hS dX2_market_10
abbrev rmX2_gain : Room := { frames := 2, cells := 0, slots := 0, locals := 45 }
theorem cdX2_gain : yX2_gain.cls = RX2 ∧ yX2_gain.cls ≠ "java/lang/invoke/MethodHandle" ∧ yX2_gain.cls ≠ "java/lang/invoke/VarHandle" ∧ (parseMethodDescriptor yX2_gain.desc).map (fun d => d.parameters.length) = some 0 := by decide +kernel
set_option maxHeartbeats 4000000 in
set_option maxRecDepth 100000 in
theorem wkX2_gain (l : Launch) (D : va_G) (dA : Nat → ClassId) (E : Nat → Nat) (hE : wInj 19 E) (w : Mm)  {res : Int32 × Mm} (hf : M_gain w = some res) : Met l yX2_gain (ws_ yX2_gain cX2_gain 4 (some .int)) rmX2_gain (Pw D clM (tyM dA) shM 19 dA E [.ref (E 0)] w) (Qwi D clM shM 19 dA E res.1 res.2) 0 0 (AE 19 E) := by
  refine xm_head (own := RX2) (by decide) rfl (Nat.le_of_ble_eq_true rfl) ?_
  intro p e s m args below meth c ls Q hQ C hP hl
  obtain ⟨hx, hb, hr, hlocks, hml, hown, hts, hK⟩ := C
  replace hl : lv_has ls 4 [(0, .ref (E 0))] := hl
  have hS : va_S (AE 19 E) s.heap s.heap [] := va_S.rf
  have hD : wD 19 E (AE 19 E) := wD.self hE
  unfold M_gain at hf
  obtain ⟨H, eH⟩ : ∃ H, H = s.heap := ⟨_, rfl⟩
  obtain ⟨locs, eL⟩ : ∃ locs : List Loc, locs = [] := ⟨_, rfl⟩
  rw [← eL] at hS ⊢
  rw [← eH] at hP
  have hS : va_S (AE 19 E) s.heap H locs := by rw [eH]; exact hS
  show W p l e rmX2_gain s m args below meth c s.heap locs 0 0 Q (F0 m 0 ls [])
  rw [← eH]
  refine lv_aload_n hx hb dX2_gain_0 rfl (lv_at hl 0 rfl) ?_
  obtain ⟨q2, g1, hf⟩ := ob_bind hf
  refine xc_i (xw_run (As := []) (rest := []) ⟨hx, hb, hml, hown, hts⟩ (k0 := 0) (wkX2_layMarket l D dA E hE w g1) (cwV 0 hts (lw_V q2065 q2067 qs134 q140 q2068) rfl rfl rfl cdX2_layMarket ⟨Nat.le_of_ble_eq_true rfl, Nat.le_of_ble_eq_true rfl⟩) hK hP (by decide) rfl rfl rfl hl.1 rfl rfl (Nat.le_of_ble_eq_true rfl) dX2_gain_1 ⟨Nat.zero_le _, Nat.zero_le _⟩) hS hD.2 (fun H locs hP hS => ?_)
  refine lv_istore_n (lv' := [(1, .int q2.1), (0, .ref (E 0))]) hx hb dX2_gain_4 rfl hl (by decide) rfl (fun ls hl => ?_)
  refine lv_iconst (v := 0) hx hb dX2_gain_5 (by decide) ?_
  refine lv_istore_n (lv' := [(2, .int 0), (1, .int q2.1), (0, .ref (E 0))]) hx hb dX2_gain_6 rfl hl (by decide) rfl (fun ls hl => ?_)
  refine lv_iconst (v := 0) hx hb dX2_gain_7 (by decide) ?_
  refine lv_istore_n (lv' := [(3, .int 0), (2, .int 0), (1, .int q2.1), (0, .ref (E 0))]) hx hb dX2_gain_8 rfl hl (by decide) rfl (fun ls hl => ?_)
  obtain ⟨b5, hb5, hf⟩ := ob_bind hf
  obtain ⟨n5, hn5⟩ := lp_some hb5
  have kL9 : ∀ (n : Nat) (v2_3 : Int32) (v3_4 : Int32), lpF (fun (q5 : Int32 × Int32) => M_gain_b9 q2 q5.1 q5.2) n (v2_3, v3_4) = some b5 → (∀ (H : Heap) (locs : List Loc) (ls : Array Slot), va_P D clM (wl shM 19 dA E q2.2) H → va_S (AE 19 E) s.heap H locs → lv_has ls 4 [(2, .int b5)] → W p l e rmX2_gain s m args below meth c H locs 0 0 Q (F0 m 36 ls [])) → ∀ (H : Heap) (locs : List Loc) (ls : Array Slot), va_P D clM (wl shM 19 dA E q2.2) H → va_S (AE 19 E) s.heap H locs → lv_has ls 4 [(0, .ref (E 0)), (1, .int q2.1), (2, .int v2_3), (3, .int v3_4)] → W p l e rmX2_gain s m args below meth c H locs 0 0 Q (F0 m 9 ls []) := by
    intro n
    induction n with
    | zero =>
      intro v2_3 v3_4 h
      cases h
    | succ n ih =>
      intro v2_3 v3_4 h K5_0 H locs ls hP hS hl
      obtain ⟨r5, hf, h5a, h5b⟩ := lpF_step h
      replace hf : M_gain_b9 q2 v2_3 v3_4 = some r5 := hf
      unfold M_gain_b9 at hf
      refine lv_iload_n hx hb dX2_gain_9 rfl (lv_at hl 3 rfl) ?_
      refine lv_iload_n hx hb dX2_gain_10 rfl (lv_at hl 1 rfl) ?_
      refine lv_icmp_ge (tgt := 36) hx hb dX2_gain_11 (by decide) (fun c6 => ?_) (fun c6 => ?_)
      · replace hf := ob_t hf c6
        obtain rfl := ob_s hf
        obtain rfl := h5b _ rfl
        exact K5_0 H locs ls hP hS (lv_sub hl [2] rfl)
      · replace hf := ob_f hf c6
        refine lv_iload_n hx hb dX2_gain_14 rfl (lv_at hl 2 rfl) ?_
        refine lv_aload_n hx hb dX2_gain_15 rfl (lv_at hl 0 rfl) ?_
        refine xr_get hx hb hts in_X2 hown hK hP 0 (by decide) rfl rfl 37 (by decide) (hts _ q1442) (fun _ h => h) rfl (v := .ref (E 17)) rfl dX2_gain_16 ?_
        refine lv_iload_n hx hb dX2_gain_19 rfl (lv_at hl 3 rfl) ?_
        obtain ⟨h7, hf⟩ := ob_gd hf
        refine xr_iald hx hb hK hP 17 (by decide) rfl 0 rfl (j := v3_4.toNatClampNeg) h7 rfl dX2_gain_20 ?_
        refine lv_aload_n hx hb dX2_gain_21 rfl (lv_at hl 0 rfl) ?_
        refine xr_get hx hb hts in_X2 hown hK hP 0 (by decide) rfl rfl 38 (by decide) (hts _ q1443) (fun _ h => h) rfl (v := .ref (E 18)) rfl dX2_gain_22 ?_
        refine lv_iload_n hx hb dX2_gain_25 rfl (lv_at hl 3 rfl) ?_
        obtain ⟨h8, hf⟩ := ob_gd hf
        refine xr_iald hx hb hK hP 18 (by decide) rfl 0 rfl (j := v3_4.toNatClampNeg) h8 rfl dX2_gain_26 ?_
        refine lv_isub hx hb dX2_gain_27 ?_
        refine lv_iadd hx hb dX2_gain_28 ?_
        obtain ⟨v2_9, ev2_9, hf⟩ := ob_bnd hf
        refine xn_i ev2_9 ?_
        refine lv_istore_n (lv' := [(2, .int v2_9), (0, .ref (E 0)), (1, .int q2.1), (3, .int v3_4)]) hx hb dX2_gain_29 rfl hl (by decide) rfl (fun ls hl => ?_)
        obtain ⟨v3_10, ev3_10, hf⟩ := ob_bnd hf
        refine lv_iinc (v := v3_10) (lv' := [(3, .int v3_10), (2, .int v2_9), (0, .ref (E 0)), (1, .int q2.1)]) hx hb dX2_gain_30 hl (k := 3) rfl (by rw [ev3_10]; rfl) (by decide) rfl (fun ls hl => ?_)
        refine lv_goto (tgt := 9) hx hb dX2_gain_33 (by decide) ?_
        obtain rfl := ob_s hf
        exact ih _ _ (h5a _ rfl) K5_0 H locs ls hP hS (lv_sub hl [2, 3, 1, 0] rfl)
  refine kL9 n5 0 0 hn5 (fun H locs ls hP hS hl => ?_) H locs ls hP hS (lv_sub hl [3, 2, 1, 0] rfl)
  replace hf : M_gain_x9_36 b5 q2 = some res := hf
  unfold M_gain_x9_36 at hf
  refine lv_iload_n hx hb dX2_gain_36 rfl (lv_at hl 0 rfl) ?_
  obtain rfl := ob_s hf
  subst hQ
  exact xe_i hx hb hr hlocks hP hS dX2_gain_37
abbrev rmX2_said : Room := { frames := 2, cells := 0, slots := 0, locals := 43 }
theorem cdX2_said : yX2_said.cls = RX2 ∧ yX2_said.cls ≠ "java/lang/invoke/MethodHandle" ∧ yX2_said.cls ≠ "java/lang/invoke/VarHandle" ∧ (parseMethodDescriptor yX2_said.desc).map (fun d => d.parameters.length) = some 2 := by decide +kernel
set_option maxHeartbeats 4000000 in
set_option maxRecDepth 100000 in
theorem wkX2_said (l : Launch) (D : va_G) (dA : Nat → ClassId) (E : Nat → Nat) (hE : wInj 19 E) (w : Mm) (a1 : Int32) (a2 : Int32) {res : Int32 × Mm} (hf : M_said w a1 a2 = some res) : Met l yX2_said (ws_ yX2_said cX2_said 3 (some .int)) rmX2_said (Pw D clM (tyM dA) shM 19 dA E [.ref (E 0), .int a1, .int a2] w) (Qwi D clM shM 19 dA E res.1 res.2) 0 0 (AE 19 E) := by
  refine xm_head (own := RX2) (by decide) rfl (Nat.le_of_ble_eq_true rfl) ?_
  intro p e s m args below meth c ls Q hQ C hP hl
  obtain ⟨hx, hb, hr, hlocks, hml, hown, hts, hK⟩ := C
  replace hl : lv_has ls 3 [(0, .ref (E 0)), (1, .int a1), (2, .int a2)] := hl
  have hS : va_S (AE 19 E) s.heap s.heap [] := va_S.rf
  have hD : wD 19 E (AE 19 E) := wD.self hE
  unfold M_said at hf
  obtain ⟨H, eH⟩ : ∃ H, H = s.heap := ⟨_, rfl⟩
  obtain ⟨locs, eL⟩ : ∃ locs : List Loc, locs = [] := ⟨_, rfl⟩
  rw [← eL] at hS ⊢
  rw [← eH] at hP
  have hS : va_S (AE 19 E) s.heap H locs := by rw [eH]; exact hS
  show W p l e rmX2_said s m args below meth c s.heap locs 0 0 Q (F0 m 0 ls [])
  rw [← eH]
  refine lv_iload_n hx hb dX2_said_0 rfl (lv_at hl 1 rfl) ?_
  refine lv_iconst (v := (-1)) hx hb dX2_said_1 (by decide) ?_
  refine lv_icmp_ne (tgt := 15) hx hb dX2_said_2 (by decide) (fun c1 => ?_) (fun c1 => ?_)
  · replace hf := ob_f hf c1
    refine lv_aload_n hx hb dX2_said_15 rfl (lv_at hl 0 rfl) ?_
    refine lv_iload_n hx hb dX2_said_16 rfl (lv_at hl 1 rfl) ?_
    obtain ⟨q3, g2, hf⟩ := ob_bind hf
    refine xc_z (xw_run (As := [.int a1]) (rest := []) ⟨hx, hb, hml, hown, hts⟩ (k0 := 0) (wkX2_isQuarrel l D dA E hE w a1 g2) (cwV 1 hts (lw_V q1733 q1735 qs92 q140 q1736) rfl rfl rfl cdX2_isQuarrel ⟨Nat.le_of_ble_eq_true rfl, Nat.le_of_ble_eq_true rfl⟩) hK hP (by decide) rfl rfl rfl hl.1 rfl rfl (Nat.le_of_ble_eq_true rfl) dX2_said_17 ⟨Nat.zero_le _, Nat.zero_le _⟩) hS hD.2 (fun H locs zq3 hP hS => ?_)
    refine lv_if_eq (tgt := 46) hx hb dX2_said_20 (by decide) (fun c4 => ?_) (fun c4 => ?_)
    · replace hf := ob_t hf c4
      refine lv_bipush (v := (-2)) hx hb dX2_said_46 (by decide) ?_
      obtain rfl := ob_s hf
      subst hQ
      exact xe_i hx hb hr hlocks hP hS dX2_said_48
    · replace hf := ob_f hf c4
      refine lv_iload_n hx hb dX2_said_23 rfl (lv_at hl 2 rfl) ?_
      refine lv_iconst (v := 0) hx hb dX2_said_24 (by decide) ?_
      refine lv_sipush (v := 9999) hx hb dX2_said_25 (by decide) ?_
      obtain ⟨q6, g5, hf⟩ := ob_bind hf
      refine xc_z (xw_runS (As := [.int a2, .int 0, .int 9999]) (rest := []) ⟨hx, hb, hml, hown, hts⟩ (wkX2_isIn l D dA E hE w a2 0 9999 g5) (va_cwS 3 hts (lw_S q1538 q1539 q140 q1540) rfl rfl rfl cdX2_isIn.2 ⟨Nat.le_of_ble_eq_true rfl, Nat.le_of_ble_eq_true rfl⟩) hK hP hl.1 rfl rfl (Nat.le_of_ble_eq_true rfl) dX2_said_28 ⟨Nat.zero_le _, Nat.zero_le _⟩) hS hD.2 (fun H locs zq6 hP hS => ?_)
      refine lv_if_eq (tgt := 46) hx hb dX2_said_31 (by decide) (fun c7 => ?_) (fun c7 => ?_)
      · replace hf := ob_t hf c7
        refine lv_bipush (v := (-2)) hx hb dX2_said_46 (by decide) ?_
        obtain rfl := ob_s hf
        subst hQ
        exact xe_i hx hb hr hlocks hP hS dX2_said_48
      · replace hf := ob_f hf c7
        refine lv_aload_n hx hb dX2_said_34 rfl (lv_at hl 0 rfl) ?_
        refine xr_get hx hb hts in_X2 hown hK hP 0 (by decide) rfl rfl 0 (by decide) (hts _ q1405) (fun _ h => h) rfl (v := .ref (E 1)) rfl dX2_said_35 ?_
        refine lv_bipush (v := 6) hx hb dX2_said_38 (by decide) ?_
        refine xr_iald hx hb hK hP 1 (by decide) rfl 0 rfl (j := 6) (vin_c (by decide)) (by decide) dX2_said_40 ?_
        refine lv_bipush (v := 8) hx hb dX2_said_41 (by decide) ?_
        refine lv_icmp_ne (tgt := 49) hx hb dX2_said_43 (by decide) (fun c8 => ?_) (fun c8 => ?_)
        · replace hf := ob_f hf c8
          refine lv_aload_n hx hb dX2_said_49 rfl (lv_at hl 0 rfl) ?_
          refine xr_get hx hb hts in_X2 hown hK hP 0 (by decide) rfl rfl 0 (by decide) (hts _ q1405) (fun _ h => h) rfl (v := .ref (E 1)) rfl dX2_said_50 ?_
          refine lv_bipush (v := 94) hx hb dX2_said_53 (by decide) ?_
          refine lv_iconst (v := 2) hx hb dX2_said_55 (by decide) ?_
          refine lv_aload_n hx hb dX2_said_56 rfl (lv_at hl 0 rfl) ?_
          refine xr_get hx hb hts in_X2 hown hK hP 0 (by decide) rfl rfl 0 (by decide) (hts _ q1405) (fun _ h => h) rfl (v := .ref (E 1)) rfl dX2_said_57 ?_
          refine lv_bipush (v := 6) hx hb dX2_said_60 (by decide) ?_
          refine xr_iald hx hb hK hP 1 (by decide) rfl 0 rfl (j := 6) (vin_c (by decide)) (by decide) dX2_said_62 ?_
          refine lv_imul hx hb dX2_said_63 ?_
          refine lv_iadd hx hb dX2_said_64 ?_
          refine lv_iload_n hx hb dX2_said_65 rfl (lv_at hl 1 rfl) ?_
          obtain ⟨h9, hf⟩ := ob_gd hf
          obtain ⟨w10, ew10, hf⟩ := ob_bnd hf
          refine xr_iast hx hb hK hP hD hS 1 (by decide) rfl 0 rfl (j := (94 + (2 * (w.1 1 6))).toNatClampNeg) (w' := w10) h9 rfl ew10 dX2_said_66 (fun H locs hP hS => ?_)
          refine lv_aload_n hx hb dX2_said_67 rfl (lv_at hl 0 rfl) ?_
          refine xr_get hx hb hts in_X2 hown hK hP 0 (by decide) rfl rfl 0 (by decide) (hts _ q1405) (fun _ h => h) rfl (v := .ref (E 1)) rfl dX2_said_68 ?_
          refine lv_bipush (v := 94) hx hb dX2_said_71 (by decide) ?_
          refine lv_iconst (v := 2) hx hb dX2_said_73 (by decide) ?_
          refine lv_aload_n hx hb dX2_said_74 rfl (lv_at hl 0 rfl) ?_
          refine xr_get hx hb hts in_X2 hown hK hP 0 (by decide) rfl rfl 0 (by decide) (hts _ q1405) (fun _ h => h) rfl (v := .ref (E 1)) rfl dX2_said_75 ?_
          refine lv_bipush (v := 6) hx hb dX2_said_78 (by decide) ?_
          refine xr_iald hx hb hK hP 1 (by decide) rfl 0 rfl (j := 6) (vin_c (by decide)) (by decide) dX2_said_80 ?_
          refine lv_imul hx hb dX2_said_81 ?_
          refine lv_iadd hx hb dX2_said_82 ?_
          refine lv_iconst (v := 1) hx hb dX2_said_83 (by decide) ?_
          refine lv_iadd hx hb dX2_said_84 ?_
          refine lv_iload_n hx hb dX2_said_85 rfl (lv_at hl 2 rfl) ?_
          obtain ⟨h11, hf⟩ := ob_gd hf
          obtain ⟨w12, ew12, hf⟩ := ob_bnd hf
          refine xr_iast hx hb hK hP hD hS 1 (by decide) rfl 0 rfl (j := ((94 + (2 * (w10.1 1 6))) + 1).toNatClampNeg) (w' := w12) h11 rfl ew12 dX2_said_86 (fun H locs hP hS => ?_)
          refine lv_aload_n hx hb dX2_said_87 rfl (lv_at hl 0 rfl) ?_
          refine xr_get hx hb hts in_X2 hown hK hP 0 (by decide) rfl rfl 0 (by decide) (hts _ q1405) (fun _ h => h) rfl (v := .ref (E 1)) rfl dX2_said_88 ?_
          refine lv_bipush (v := 6) hx hb dX2_said_91 (by decide) ?_
          refine lv_dup2_11 hx hb dX2_said_93 rfl rfl ?_
          refine xr_iald hx hb hK hP 1 (by decide) rfl 0 rfl (j := 6) (vin_c (by decide)) (by decide) dX2_said_94 ?_
          refine lv_iconst (v := 1) hx hb dX2_said_95 (by decide) ?_
          refine lv_iadd hx hb dX2_said_96 ?_
          obtain ⟨w13, ew13, hf⟩ := ob_bnd hf
          refine xr_iast hx hb hK hP hD hS 1 (by decide) rfl 0 rfl (j := 6) (w' := w13) (vin_c (by decide)) (by decide) ew13 dX2_said_97 (fun H locs hP hS => ?_)
          refine lv_aload_n hx hb dX2_said_98 rfl (lv_at hl 0 rfl) ?_
          refine xr_get hx hb hts in_X2 hown hK hP 0 (by decide) rfl rfl 0 (by decide) (hts _ q1405) (fun _ h => h) rfl (v := .ref (E 1)) rfl dX2_said_99 ?_
          refine lv_bipush (v := 6) hx hb dX2_said_102 (by decide) ?_
          refine xr_iald hx hb hK hP 1 (by decide) rfl 0 rfl (j := 6) (vin_c (by decide)) (by decide) dX2_said_104 ?_
          obtain rfl := ob_s hf
          subst hQ
          exact xe_i hx hb hr hlocks hP hS dX2_said_105
        · replace hf := ob_t hf c8
          refine lv_bipush (v := (-2)) hx hb dX2_said_46 (by decide) ?_
          obtain rfl := ob_s hf
          subst hQ
          exact xe_i hx hb hr hlocks hP hS dX2_said_48
  · replace hf := ob_t hf c1
    refine lv_aload_n hx hb dX2_said_5 rfl (lv_at hl 0 rfl) ?_
    refine xr_get hx hb hts in_X2 hown hK hP 0 (by decide) rfl rfl 0 (by decide) (hts _ q1405) (fun _ h => h) rfl (v := .ref (E 1)) rfl dX2_said_6 ?_
    refine lv_bipush (v := 6) hx hb dX2_said_9 (by decide) ?_
    refine lv_iconst (v := 0) hx hb dX2_said_11 (by decide) ?_
    obtain ⟨w14, ew14, hf⟩ := ob_bnd hf
    refine xr_iast hx hb hK hP hD hS 1 (by decide) rfl 0 rfl (j := 6) (w' := w14) (vin_c (by decide)) (by decide) ew14 dX2_said_12 (fun H locs hP hS => ?_)
    refine lv_iconst (v := 0) hx hb dX2_said_13 (by decide) ?_
    obtain rfl := ob_s hf
    subst hQ
    exact xe_i hx hb hr hlocks hP hS dX2_said_14
abbrev rmX2_whose : Room := { frames := 5, cells := 0, slots := 0, locals := 125 }
theorem cdX2_whose : yX2_whose.cls = RX2 ∧ yX2_whose.cls ≠ "java/lang/invoke/MethodHandle" ∧ yX2_whose.cls ≠ "java/lang/invoke/VarHandle" ∧ (parseMethodDescriptor yX2_whose.desc).map (fun d => d.parameters.length) = some 0 := by decide +kernel
set_option maxHeartbeats 4000000 in
set_option maxRecDepth 100000 in
theorem wkX2_whose (l : Launch) (D : va_G) (dA : Nat → ClassId) (E : Nat → Nat) (hE : wInj 19 E) (w : Mm)  {res : Int32 × Mm} (hf : M_whose w = some res) : Met l yX2_whose (ws_ yX2_whose cX2_whose 5 (some .int)) rmX2_whose (Pw D clM (tyM dA) shM 19 dA E [.ref (E 0)] w) (Qwi D clM shM 19 dA E res.1 res.2) 0 0 (AE 19 E) := by
  refine xm_head (own := RX2) (by decide) rfl (Nat.le_of_ble_eq_true rfl) ?_
  intro p e s m args below meth c ls Q hQ C hP hl
  obtain ⟨hx, hb, hr, hlocks, hml, hown, hts, hK⟩ := C
  replace hl : lv_has ls 5 [(0, .ref (E 0))] := hl
  have hS : va_S (AE 19 E) s.heap s.heap [] := va_S.rf
  have hD : wD 19 E (AE 19 E) := wD.self hE
  unfold M_whose at hf
  obtain ⟨H, eH⟩ : ∃ H, H = s.heap := ⟨_, rfl⟩
  obtain ⟨locs, eL⟩ : ∃ locs : List Loc, locs = [] := ⟨_, rfl⟩
  rw [← eL] at hS ⊢
  rw [← eH] at hP
  have hS : va_S (AE 19 E) s.heap H locs := by rw [eH]; exact hS
  show W p l e rmX2_whose s m args below meth c s.heap locs 0 0 Q (F0 m 0 ls [])
  rw [← eH]
  refine lv_iconst (v := 0) hx hb dX2_whose_0 (by decide) ?_
  refine lv_istore_n (lv' := [(1, .int 0), (0, .ref (E 0))]) hx hb dX2_whose_1 rfl hl (by decide) rfl (fun ls hl => ?_)
  refine lv_iconst (v := 0) hx hb dX2_whose_2 (by decide) ?_
  refine lv_istore_n (lv' := [(2, .int 0), (1, .int 0), (0, .ref (E 0))]) hx hb dX2_whose_3 rfl hl (by decide) rfl (fun ls hl => ?_)
  obtain ⟨b4, hb4, hf⟩ := ob_bind hf
  obtain ⟨n4, hn4⟩ := lp_some hb4
  have kL4 : ∀ (n : Nat) (w1 : Mm) (v1_2 : Int32) (v2_3 : Int32), lpF (fun (q4 : Mm × Int32 × Int32) => M_whose_b4 q4.1 q4.2.1 q4.2.2) n (w1, v1_2, v2_3) = some b4 → (∀ (H : Heap) (locs : List Loc) (ls : Array Slot), va_P D clM (wl shM 19 dA E b4.1) H → va_S (AE 19 E) s.heap H locs → lv_has ls 5 [(1, .int b4.2)] → W p l e rmX2_whose s m args below meth c H locs 0 0 Q (F0 m 105 ls [])) → ∀ (H : Heap) (locs : List Loc) (ls : Array Slot), va_P D clM (wl shM 19 dA E w1) H → va_S (AE 19 E) s.heap H locs → lv_has ls 5 [(0, .ref (E 0)), (1, .int v1_2), (2, .int v2_3)] → W p l e rmX2_whose s m args below meth c H locs 0 0 Q (F0 m 4 ls []) := by
    intro n
    induction n with
    | zero =>
      intro w1 v1_2 v2_3 h
      cases h
    | succ n ih =>
      intro w1 v1_2 v2_3 h K4_0 H locs ls hP hS hl
      obtain ⟨r4, hf, h4a, h4b⟩ := lpF_step h
      replace hf : M_whose_b4 w1 v1_2 v2_3 = some r4 := hf
      unfold M_whose_b4 at hf
      refine lv_iload_n hx hb dX2_whose_4 rfl (lv_at hl 2 rfl) ?_
      refine lv_aload_n hx hb dX2_whose_5 rfl (lv_at hl 0 rfl) ?_
      refine xr_get hx hb hts in_X2 hown hK hP 0 (by decide) rfl rfl 0 (by decide) (hts _ q1405) (fun _ h => h) rfl (v := .ref (E 1)) rfl dX2_whose_6 ?_
      refine lv_iconst (v := 1) hx hb dX2_whose_9 (by decide) ?_
      refine xr_iald hx hb hK hP 1 (by decide) rfl 0 rfl (j := 1) (vin_c (by decide)) (by decide) dX2_whose_10 ?_
      refine lv_icmp_ge (tgt := 105) hx hb dX2_whose_11 (by decide) (fun c5 => ?_) (fun c5 => ?_)
      · replace hf := ob_t hf c5
        obtain rfl := ob_s hf
        obtain rfl := h4b _ rfl
        exact K4_0 H locs ls hP hS (lv_sub hl [1] rfl)
      · replace hf := ob_f hf c5
        refine lv_iconst (v := 1) hx hb dX2_whose_14 (by decide) ?_
        refine lv_istore_n (lv' := [(3, .int 1), (0, .ref (E 0)), (1, .int v1_2), (2, .int v2_3)]) hx hb dX2_whose_15 rfl hl (by decide) rfl (fun ls hl => ?_)
        refine lv_bipush (v := 94) hx hb dX2_whose_16 (by decide) ?_
        refine lv_istore (lv' := [(4, .int 94), (3, .int 1), (0, .ref (E 0)), (1, .int v1_2), (2, .int v2_3)]) hx hb dX2_whose_18 hl (by decide) rfl (fun ls hl => ?_)
        obtain ⟨b9, hb9, hf⟩ := ob_bind hf
        obtain ⟨n9, hn9⟩ := lp_some hb9
        have kL20 : ∀ (n : Nat) (w6 : Mm) (v3_7 : Int32) (v4_8 : Int32), lpF (fun (q9 : Mm × Int32 × Int32) => M_whose_b20 v2_3 q9.1 q9.2.1 q9.2.2) n (w6, v3_7, v4_8) = some b9 → (∀ (H : Heap) (locs : List Loc) (ls : Array Slot), va_P D clM (wl shM 19 dA E b9.1) H → va_S (AE 19 E) s.heap H locs → lv_has ls 5 [(0, .ref (E 0)), (1, .int v1_2), (2, .int v2_3), (3, .int b9.2)] → W p l e rmX2_whose s m args below meth c H locs 0 0 Q (F0 m 85 ls [])) → ∀ (H : Heap) (locs : List Loc) (ls : Array Slot), va_P D clM (wl shM 19 dA E w6) H → va_S (AE 19 E) s.heap H locs → lv_has ls 5 [(0, .ref (E 0)), (1, .int v1_2), (2, .int v2_3), (3, .int v3_7), (4, .int v4_8)] → W p l e rmX2_whose s m args below meth c H locs 0 0 Q (F0 m 20 ls []) := by
          intro n
          induction n with
          | zero =>
            intro w6 v3_7 v4_8 h
            cases h
          | succ n ih =>
            intro w6 v3_7 v4_8 h K9_0 H locs ls hP hS hl
            obtain ⟨r9, hf, h9a, h9b⟩ := lpF_step h
            replace hf : M_whose_b20 v2_3 w6 v3_7 v4_8 = some r9 := hf
            unfold M_whose_b20 at hf
            refine lv_iload hx hb dX2_whose_20 (lv_at hl 4 rfl) ?_
            refine lv_bipush (v := 94) hx hb dX2_whose_22 (by decide) ?_
            refine lv_iconst (v := 2) hx hb dX2_whose_24 (by decide) ?_
            refine lv_aload_n hx hb dX2_whose_25 rfl (lv_at hl 0 rfl) ?_
            refine xr_get hx hb hts in_X2 hown hK hP 0 (by decide) rfl rfl 0 (by decide) (hts _ q1405) (fun _ h => h) rfl (v := .ref (E 1)) rfl dX2_whose_26 ?_
            refine lv_bipush (v := 6) hx hb dX2_whose_29 (by decide) ?_
            refine xr_iald hx hb hK hP 1 (by decide) rfl 0 rfl (j := 6) (vin_c (by decide)) (by decide) dX2_whose_31 ?_
            refine lv_imul hx hb dX2_whose_32 ?_
            refine lv_iadd hx hb dX2_whose_33 ?_
            refine lv_icmp_ge (tgt := 85) hx hb dX2_whose_34 (by decide) (fun c10 => ?_) (fun c10 => ?_)
            · replace hf := ob_t hf c10
              obtain rfl := ob_s hf
              obtain rfl := h9b _ rfl
              exact K9_0 H locs ls hP hS (lv_sub hl [0, 1, 2, 3] rfl)
            · replace hf := ob_f hf c10
              refine lv_iload_n hx hb dX2_whose_37 rfl (lv_at hl 3 rfl) ?_
              refine lv_if_eq (tgt := 77) hx hb dX2_whose_38 (by decide) (fun c11 => ?_) (fun c11 => ?_)
              · replace hf := ob_t hf c11
                refine lv_iconst (v := 0) hx hb dX2_whose_77 (by decide) ?_
                refine lv_istore_n (lv' := [(3, .int 0), (0, .ref (E 0)), (1, .int v1_2), (2, .int v2_3), (4, .int v4_8)]) hx hb dX2_whose_78 rfl hl (by decide) rfl (fun ls hl => ?_)
                obtain ⟨v4_12, ev4_12, hf⟩ := ob_bnd hf
                refine lv_iinc (v := v4_12) (lv' := [(4, .int v4_12), (3, .int 0), (0, .ref (E 0)), (1, .int v1_2), (2, .int v2_3)]) hx hb dX2_whose_79 hl (k := 4) rfl (by rw [ev4_12]; rfl) (by decide) rfl (fun ls hl => ?_)
                refine lv_goto (tgt := 20) hx hb dX2_whose_82 (by decide) ?_
                obtain rfl := ob_s hf
                exact ih _ _ _ (h9a _ rfl) K9_0 H locs ls hP hS (lv_sub hl [2, 3, 4, 1, 0] rfl)
              · replace hf := ob_f hf c11
                refine lv_aload_n hx hb dX2_whose_41 rfl (lv_at hl 0 rfl) ?_
                refine lv_iload_n hx hb dX2_whose_42 rfl (lv_at hl 2 rfl) ?_
                refine lv_aload_n hx hb dX2_whose_43 rfl (lv_at hl 0 rfl) ?_
                refine xr_get hx hb hts in_X2 hown hK hP 0 (by decide) rfl rfl 0 (by decide) (hts _ q1405) (fun _ h => h) rfl (v := .ref (E 1)) rfl dX2_whose_44 ?_
                refine lv_iload hx hb dX2_whose_47 (lv_at hl 4 rfl) ?_
                obtain ⟨h13, hf⟩ := ob_gd hf
                refine xr_iald hx hb hK hP 1 (by decide) rfl 0 rfl (j := v4_8.toNatClampNeg) h13 rfl dX2_whose_49 ?_
                refine lv_iconst (v := 0) hx hb dX2_whose_50 (by decide) ?_
                refine lv_aload_n hx hb dX2_whose_51 rfl (lv_at hl 0 rfl) ?_
                refine xr_get hx hb hts in_X2 hown hK hP 0 (by decide) rfl rfl 0 (by decide) (hts _ q1405) (fun _ h => h) rfl (v := .ref (E 1)) rfl dX2_whose_52 ?_
                refine lv_bipush (v := 9) hx hb dX2_whose_55 (by decide) ?_
                refine xr_iald hx hb hK hP 1 (by decide) rfl 0 rfl (j := 9) (vin_c (by decide)) (by decide) dX2_whose_57 ?_
                obtain ⟨q15, g14, hf⟩ := ob_bind hf
                refine xc_i (xw_run (As := [.int v2_3, .int (w6.1 1 v4_8.toNatClampNeg), .int 0, .int (w6.1 1 9)]) (rest := []) ⟨hx, hb, hml, hown, hts⟩ (k0 := 0) (wkX2_duesBy l D dA E hE w6 v2_3 (w6.1 1 v4_8.toNatClampNeg) 0 (w6.1 1 9) g14) (cwV 4 hts (lw_V q1772 q1774 qs100 q140 q1775) rfl rfl rfl cdX2_duesBy ⟨Nat.le_of_ble_eq_true rfl, Nat.le_of_ble_eq_true rfl⟩) hK hP (by decide) rfl rfl rfl hl.1 rfl rfl (Nat.le_of_ble_eq_true rfl) dX2_whose_58 ⟨Nat.zero_le _, Nat.zero_le _⟩) hS hD.2 (fun H locs hP hS => ?_)
                refine lv_aload_n hx hb dX2_whose_61 rfl (lv_at hl 0 rfl) ?_
                refine xr_get hx hb hts in_X2 hown hK hP 0 (by decide) rfl rfl 0 (by decide) (hts _ q1405) (fun _ h => h) rfl (v := .ref (E 1)) rfl dX2_whose_62 ?_
                refine lv_iload hx hb dX2_whose_65 (lv_at hl 4 rfl) ?_
                refine lv_iconst (v := 1) hx hb dX2_whose_67 (by decide) ?_
                refine lv_iadd hx hb dX2_whose_68 ?_
                obtain ⟨h16, hf⟩ := ob_gd hf
                refine xr_iald hx hb hK hP 1 (by decide) rfl 0 rfl (j := (v4_8 + 1).toNatClampNeg) h16 rfl dX2_whose_69 ?_
                refine lv_icmp_ne (tgt := 77) hx hb dX2_whose_70 (by decide) (fun c17 => ?_) (fun c17 => ?_)
                · replace hf := ob_f hf c17
                  refine lv_iconst (v := 0) hx hb dX2_whose_77 (by decide) ?_
                  refine lv_istore_n (lv' := [(3, .int 0), (0, .ref (E 0)), (1, .int v1_2), (2, .int v2_3), (4, .int v4_8)]) hx hb dX2_whose_78 rfl hl (by decide) rfl (fun ls hl => ?_)
                  obtain ⟨v4_18, ev4_18, hf⟩ := ob_bnd hf
                  refine lv_iinc (v := v4_18) (lv' := [(4, .int v4_18), (3, .int 0), (0, .ref (E 0)), (1, .int v1_2), (2, .int v2_3)]) hx hb dX2_whose_79 hl (k := 4) rfl (by rw [ev4_18]; rfl) (by decide) rfl (fun ls hl => ?_)
                  refine lv_goto (tgt := 20) hx hb dX2_whose_82 (by decide) ?_
                  obtain rfl := ob_s hf
                  exact ih _ _ _ (h9a _ rfl) K9_0 H locs ls hP hS (lv_sub hl [2, 3, 4, 1, 0] rfl)
                · replace hf := ob_t hf c17
                  refine lv_iconst (v := 1) hx hb dX2_whose_73 (by decide) ?_
                  refine lv_goto (tgt := 78) hx hb dX2_whose_74 (by decide) ?_
                  refine lv_istore_n (lv' := [(3, .int 1), (0, .ref (E 0)), (1, .int v1_2), (2, .int v2_3), (4, .int v4_8)]) hx hb dX2_whose_78 rfl hl (by decide) rfl (fun ls hl => ?_)
                  obtain ⟨v4_19, ev4_19, hf⟩ := ob_bnd hf
                  refine lv_iinc (v := v4_19) (lv' := [(4, .int v4_19), (3, .int 1), (0, .ref (E 0)), (1, .int v1_2), (2, .int v2_3)]) hx hb dX2_whose_79 hl (k := 4) rfl (by rw [ev4_19]; rfl) (by decide) rfl (fun ls hl => ?_)
                  refine lv_goto (tgt := 20) hx hb dX2_whose_82 (by decide) ?_
                  obtain rfl := ob_s hf
                  exact ih _ _ _ (h9a _ rfl) K9_0 H locs ls hP hS (lv_sub hl [2, 3, 4, 1, 0] rfl)
        refine kL20 n9 w1 1 94 hn9 (fun H locs ls hP hS hl => ?_) H locs ls hP hS (lv_sub hl [2, 3, 4, 1, 0] rfl)
        replace hf : M_whose_x20_85 b9 v1_2 v2_3 = some r4 := hf
        unfold M_whose_x20_85 at hf
        refine lv_iload_n hx hb dX2_whose_85 rfl (lv_at hl 1 rfl) ?_
        refine lv_iload_n hx hb dX2_whose_86 rfl (lv_at hl 3 rfl) ?_
        refine lv_if_eq (tgt := 96) hx hb dX2_whose_87 (by decide) (fun c20 => ?_) (fun c20 => ?_)
        · replace hf := ob_t hf c20
          refine lv_iconst (v := 0) hx hb dX2_whose_96 (by decide) ?_
          refine lv_ior hx hb dX2_whose_97 ?_
          obtain ⟨v1_21, ev1_21, hf⟩ := ob_bnd hf
          refine xn_i ev1_21 ?_
          refine lv_istore_n (lv' := [(1, .int v1_21), (0, .ref (E 0)), (2, .int v2_3), (3, .int b9.2)]) hx hb dX2_whose_98 rfl hl (by decide) rfl (fun ls hl => ?_)
          obtain ⟨v2_22, ev2_22, hf⟩ := ob_bnd hf
          refine lv_iinc (v := v2_22) (lv' := [(2, .int v2_22), (1, .int v1_21), (0, .ref (E 0)), (3, .int b9.2)]) hx hb dX2_whose_99 hl (k := 2) rfl (by rw [ev2_22]; rfl) (by decide) rfl (fun ls hl => ?_)
          refine lv_goto (tgt := 4) hx hb dX2_whose_102 (by decide) ?_
          obtain rfl := ob_s hf
          exact ih _ _ _ (h4a _ rfl) K4_0 H locs ls hP hS (lv_sub hl [2, 1, 0] rfl)
        · replace hf := ob_f hf c20
          refine lv_iconst (v := 1) hx hb dX2_whose_90 (by decide) ?_
          refine lv_iload_n hx hb dX2_whose_91 rfl (lv_at hl 2 rfl) ?_
          refine lv_ishl hx hb dX2_whose_92 ?_
          refine lv_goto (tgt := 97) hx hb dX2_whose_93 (by decide) ?_
          refine lv_ior hx hb dX2_whose_97 ?_
          obtain ⟨v1_23, ev1_23, hf⟩ := ob_bnd hf
          refine xn_i ev1_23 ?_
          refine lv_istore_n (lv' := [(1, .int v1_23), (0, .ref (E 0)), (2, .int v2_3), (3, .int b9.2)]) hx hb dX2_whose_98 rfl hl (by decide) rfl (fun ls hl => ?_)
          obtain ⟨v2_24, ev2_24, hf⟩ := ob_bnd hf
          refine lv_iinc (v := v2_24) (lv' := [(2, .int v2_24), (1, .int v1_23), (0, .ref (E 0)), (3, .int b9.2)]) hx hb dX2_whose_99 hl (k := 2) rfl (by rw [ev2_24]; rfl) (by decide) rfl (fun ls hl => ?_)
          refine lv_goto (tgt := 4) hx hb dX2_whose_102 (by decide) ?_
          obtain rfl := ob_s hf
          exact ih _ _ _ (h4a _ rfl) K4_0 H locs ls hP hS (lv_sub hl [2, 1, 0] rfl)
  refine kL4 n4 w 0 0 hn4 (fun H locs ls hP hS hl => ?_) H locs ls hP hS (lv_sub hl [2, 1, 0] rfl)
  replace hf : M_whose_x4_105 b4 = some res := hf
  unfold M_whose_x4_105 at hf
  refine lv_iload_n hx hb dX2_whose_105 rfl (lv_at hl 0 rfl) ?_
  obtain rfl := ob_s hf
  subst hQ
  exact xe_i hx hb hr hlocks hP hS dX2_whose_106
abbrev rmX2_image : Room := { frames := 1, cells := 0, slots := 0, locals := 22 }
theorem cdX2_image : yX2_image.cls = RX2 ∧ yX2_image.cls ≠ "java/lang/invoke/MethodHandle" ∧ yX2_image.cls ≠ "java/lang/invoke/VarHandle" ∧ (parseMethodDescriptor yX2_image.desc).map (fun d => d.parameters.length) = some 0 := by decide +kernel
set_option maxHeartbeats 4000000 in
set_option maxRecDepth 100000 in
theorem wkX2_image (l : Launch) (D : va_G) (dA : Nat → ClassId) (E : Nat → Nat) (hE : wInj 19 E) (w : Mm)  {res : Int32 × Mm} (hf : M_image w = some res) : Met l yX2_image (ws_ yX2_image cX2_image 1 (some .int)) rmX2_image (Pw D clM (tyM dA) shM 19 dA E [.ref (E 0)] w) (Qwi D clM shM 19 dA E res.1 res.2) 0 0 (AE 19 E) := by
  refine xm_head (own := RX2) (by decide) rfl (Nat.le_of_ble_eq_true rfl) ?_
  intro p e s m args below meth c ls Q hQ C hP hl
  obtain ⟨hx, hb, hr, hlocks, hml, hown, hts, hK⟩ := C
  replace hl : lv_has ls 1 [(0, .ref (E 0))] := hl
  have hS : va_S (AE 19 E) s.heap s.heap [] := va_S.rf
  have hD : wD 19 E (AE 19 E) := wD.self hE
  unfold M_image at hf
  obtain ⟨H, eH⟩ : ∃ H, H = s.heap := ⟨_, rfl⟩
  obtain ⟨locs, eL⟩ : ∃ locs : List Loc, locs = [] := ⟨_, rfl⟩
  rw [← eL] at hS ⊢
  rw [← eH] at hP
  have hS : va_S (AE 19 E) s.heap H locs := by rw [eH]; exact hS
  show W p l e rmX2_image s m args below meth c s.heap locs 0 0 Q (F0 m 0 ls [])
  rw [← eH]
  refine lv_aload_n hx hb dX2_image_0 rfl (lv_at hl 0 rfl) ?_
  refine xr_get hx hb hts in_X2 hown hK hP 0 (by decide) rfl rfl 0 (by decide) (hts _ q1405) (fun _ h => h) rfl (v := .ref (E 1)) rfl dX2_image_1 ?_
  refine lv_aload_n hx hb dX2_image_4 rfl (lv_at hl 0 rfl) ?_
  refine xr_get hx hb hts in_X2 hown hK hP 0 (by decide) rfl rfl 1 (by decide) (hts _ q1406) (fun _ h => h) rfl (v := .ref (E 2)) rfl dX2_image_5 ?_
  obtain ⟨q2, g1, hf⟩ := ob_bind hf
  refine xc_v (xw_runS (As := [.ref (E 1), .ref (E 2)]) (rest := []) ⟨hx, hb, hml, hown, hts⟩ (wkX2_copy l D dA E hE w 1 2875 2 2875 g1 (by decide) rfl (by decide) rfl) (va_cwS 2 hts (lw_S q1402 q1403 q140 q1404) rfl rfl rfl cdX2_copy.2 ⟨Nat.le_of_ble_eq_true rfl, Nat.le_of_ble_eq_true rfl⟩) hK hP hl.1 rfl rfl (Nat.le_of_ble_eq_true rfl) dX2_image_8 ⟨Nat.zero_le _, Nat.zero_le _⟩) hS hD.2 (fun H locs hP hS => ?_)
  refine lv_aload_n hx hb dX2_image_11 rfl (lv_at hl 0 rfl) ?_
  refine xr_get hx hb hts in_X2 hown hK hP 0 (by decide) rfl rfl 0 (by decide) (hts _ q1405) (fun _ h => h) rfl (v := .ref (E 1)) rfl dX2_image_12 ?_
  refine lv_bipush (v := 7) hx hb dX2_image_15 (by decide) ?_
  refine xr_iald hx hb hK hP 1 (by decide) rfl 0 rfl (j := 7) (vin_c (by decide)) (by decide) dX2_image_17 ?_
  obtain rfl := ob_s hf
  subst hQ
  exact xe_i hx hb hr hlocks hP hS dX2_image_18
abbrev rmX2_back : Room := { frames := 1, cells := 0, slots := 0, locals := 22 }
theorem cdX2_back : yX2_back.cls = RX2 ∧ yX2_back.cls ≠ "java/lang/invoke/MethodHandle" ∧ yX2_back.cls ≠ "java/lang/invoke/VarHandle" ∧ (parseMethodDescriptor yX2_back.desc).map (fun d => d.parameters.length) = some 0 := by decide +kernel
set_option maxHeartbeats 4000000 in
set_option maxRecDepth 100000 in
theorem wkX2_back (l : Launch) (D : va_G) (dA : Nat → ClassId) (E : Nat → Nat) (hE : wInj 19 E) (w : Mm)  {res : Int32 × Mm} (hf : M_back w = some res) : Met l yX2_back (ws_ yX2_back cX2_back 1 (some .int)) rmX2_back (Pw D clM (tyM dA) shM 19 dA E [.ref (E 0)] w) (Qwi D clM shM 19 dA E res.1 res.2) 0 0 (AE 19 E) := by
  refine xm_head (own := RX2) (by decide) rfl (Nat.le_of_ble_eq_true rfl) ?_
  intro p e s m args below meth c ls Q hQ C hP hl
  obtain ⟨hx, hb, hr, hlocks, hml, hown, hts, hK⟩ := C
  replace hl : lv_has ls 1 [(0, .ref (E 0))] := hl
  have hS : va_S (AE 19 E) s.heap s.heap [] := va_S.rf
  have hD : wD 19 E (AE 19 E) := wD.self hE
  unfold M_back at hf
  obtain ⟨H, eH⟩ : ∃ H, H = s.heap := ⟨_, rfl⟩
  obtain ⟨locs, eL⟩ : ∃ locs : List Loc, locs = [] := ⟨_, rfl⟩
  rw [← eL] at hS ⊢
  rw [← eH] at hP
  have hS : va_S (AE 19 E) s.heap H locs := by rw [eH]; exact hS
  show W p l e rmX2_back s m args below meth c s.heap locs 0 0 Q (F0 m 0 ls [])
  rw [← eH]
  refine lv_aload_n hx hb dX2_back_0 rfl (lv_at hl 0 rfl) ?_
  refine xr_get hx hb hts in_X2 hown hK hP 0 (by decide) rfl rfl 1 (by decide) (hts _ q1406) (fun _ h => h) rfl (v := .ref (E 2)) rfl dX2_back_1 ?_
  refine lv_aload_n hx hb dX2_back_4 rfl (lv_at hl 0 rfl) ?_
  refine xr_get hx hb hts in_X2 hown hK hP 0 (by decide) rfl rfl 0 (by decide) (hts _ q1405) (fun _ h => h) rfl (v := .ref (E 1)) rfl dX2_back_5 ?_
  obtain ⟨q2, g1, hf⟩ := ob_bind hf
  refine xc_v (xw_runS (As := [.ref (E 2), .ref (E 1)]) (rest := []) ⟨hx, hb, hml, hown, hts⟩ (wkX2_copy l D dA E hE w 2 2875 1 2875 g1 (by decide) rfl (by decide) rfl) (va_cwS 2 hts (lw_S q1402 q1403 q140 q1404) rfl rfl rfl cdX2_copy.2 ⟨Nat.le_of_ble_eq_true rfl, Nat.le_of_ble_eq_true rfl⟩) hK hP hl.1 rfl rfl (Nat.le_of_ble_eq_true rfl) dX2_back_8 ⟨Nat.zero_le _, Nat.zero_le _⟩) hS hD.2 (fun H locs hP hS => ?_)
  refine lv_aload_n hx hb dX2_back_11 rfl (lv_at hl 0 rfl) ?_
  refine xr_get hx hb hts in_X2 hown hK hP 0 (by decide) rfl rfl 0 (by decide) (hts _ q1405) (fun _ h => h) rfl (v := .ref (E 1)) rfl dX2_back_12 ?_
  refine lv_bipush (v := 7) hx hb dX2_back_15 (by decide) ?_
  refine xr_iald hx hb hK hP 1 (by decide) rfl 0 rfl (j := 7) (vin_c (by decide)) (by decide) dX2_back_17 ?_
  obtain rfl := ob_s hf
  subst hQ
  exact xe_i hx hb hr hlocks hP hS dX2_back_18
abbrev rmX2_about : Room := { frames := 1, cells := 0, slots := 0, locals := 22 }
theorem cdX2_about : yX2_about.cls = RX2 ∧ yX2_about.cls ≠ "java/lang/invoke/MethodHandle" ∧ yX2_about.cls ≠ "java/lang/invoke/VarHandle" ∧ (parseMethodDescriptor yX2_about.desc).map (fun d => d.parameters.length) = some 1 := by decide +kernel
set_option maxHeartbeats 4000000 in
set_option maxRecDepth 100000 in
theorem wkX2_about (l : Launch) (D : va_G) (dA : Nat → ClassId) (E : Nat → Nat) (hE : wInj 19 E) (w : Mm) (a1 : Int32) {res : Int32} (hf : M_about w a1 = some res) : Met l yX2_about (ws_ yX2_about cX2_about 2 (some .int)) rmX2_about (Pw D clM (tyM dA) shM 19 dA E [.ref (E 0), .int a1] w) (Qwi D clM shM 19 dA E res w) 0 0 (AE 19 E) := by
  refine xm_head (own := RX2) (by decide) rfl (Nat.le_of_ble_eq_true rfl) ?_
  intro p e s m args below meth c ls Q hQ C hP hl
  obtain ⟨hx, hb, hr, hlocks, hml, hown, hts, hK⟩ := C
  replace hl : lv_has ls 2 [(0, .ref (E 0)), (1, .int a1)] := hl
  have hS : va_S (AE 19 E) s.heap s.heap [] := va_S.rf
  have hD : wD 19 E (AE 19 E) := wD.self hE
  unfold M_about at hf
  obtain ⟨H, eH⟩ : ∃ H, H = s.heap := ⟨_, rfl⟩
  obtain ⟨locs, eL⟩ : ∃ locs : List Loc, locs = [] := ⟨_, rfl⟩
  rw [← eL] at hS ⊢
  rw [← eH] at hP
  have hS : va_S (AE 19 E) s.heap H locs := by rw [eH]; exact hS
  show W p l e rmX2_about s m args below meth c s.heap locs 0 0 Q (F0 m 0 ls [])
  rw [← eH]
  refine lv_iload_n hx hb dX2_about_0 rfl (lv_at hl 1 rfl) ?_
  refine lv_iconst (v := 0) hx hb dX2_about_1 (by decide) ?_
  refine lv_bipush (v := 6) hx hb dX2_about_2 (by decide) ?_
  obtain ⟨q2, g1, hf⟩ := ob_bind hf
  refine xc_z (xw_runS (As := [.int a1, .int 0, .int 6]) (rest := []) ⟨hx, hb, hml, hown, hts⟩ (wkX2_isIn l D dA E hE w a1 0 6 g1) (va_cwS 3 hts (lw_S q1538 q1539 q140 q1540) rfl rfl rfl cdX2_isIn.2 ⟨Nat.le_of_ble_eq_true rfl, Nat.le_of_ble_eq_true rfl⟩) hK hP hl.1 rfl rfl (Nat.le_of_ble_eq_true rfl) dX2_about_4 ⟨Nat.zero_le _, Nat.zero_le _⟩) hS hD.2 (fun H locs zq2 hP hS => ?_)
  refine lv_if_eq (tgt := 19) hx hb dX2_about_7 (by decide) (fun c3 => ?_) (fun c3 => ?_)
  · replace hf := ob_t hf c3
    refine lv_iload_n hx hb dX2_about_19 rfl (lv_at hl 1 rfl) ?_
    refine lv_bipush (v := 7) hx hb dX2_about_20 (by decide) ?_
    refine lv_icmp_ne (tgt := 32) hx hb dX2_about_22 (by decide) (fun c4 => ?_) (fun c4 => ?_)
    · replace hf := ob_f hf c4
      refine lv_bipush (v := (-2)) hx hb dX2_about_32 (by decide) ?_
      obtain rfl := ob_s hf
      subst hQ
      exact xe_i hx hb hr hlocks hP hS dX2_about_34
    · replace hf := ob_t hf c4
      refine lv_aload_n hx hb dX2_about_25 rfl (lv_at hl 0 rfl) ?_
      refine xr_get hx hb hts in_X2 hown hK hP 0 (by decide) rfl rfl 4 (by decide) (hts _ q1409) (fun _ h => h) rfl (v := .int (w.1 0 4)) rfl dX2_about_26 ?_
      refine lv_goto (tgt := 34) hx hb dX2_about_29 (by decide) ?_
      obtain rfl := ob_s hf
      subst hQ
      exact xe_i hx hb hr hlocks hP hS dX2_about_34
  · replace hf := ob_f hf c3
    refine lv_aload_n hx hb dX2_about_10 rfl (lv_at hl 0 rfl) ?_
    refine xr_get hx hb hts in_X2 hown hK hP 0 (by decide) rfl rfl 0 (by decide) (hts _ q1405) (fun _ h => h) rfl (v := .ref (E 1)) rfl dX2_about_11 ?_
    refine lv_iload_n hx hb dX2_about_14 rfl (lv_at hl 1 rfl) ?_
    obtain ⟨h5, hf⟩ := ob_gd hf
    refine xr_iald hx hb hK hP 1 (by decide) rfl 0 rfl (j := a1.toNatClampNeg) h5 rfl dX2_about_15 ?_
    refine lv_goto (tgt := 34) hx hb dX2_about_16 (by decide) ?_
    obtain rfl := ob_s hf
    subst hQ
    exact xe_i hx hb hr hlocks hP hS dX2_about_34
