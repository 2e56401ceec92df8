/-! QuarrelsPawnedModel: its methods walked (printed by gen.py) -/
abbrev rmX2_duesOfAll : Room := { frames := 6, cells := 0, slots := 0, locals := 146 }
theorem cdX2_duesOfAll : yX2_duesOfAll.cls = RX2 ∧ yX2_duesOfAll.cls ≠ "java/lang/invoke/MethodHandle" ∧ yX2_duesOfAll.cls ≠ "java/lang/invoke/VarHandle" ∧ (parseMethodDescriptor yX2_duesOfAll.desc).map (fun d => d.parameters.length) = some 1 := by decide +kernel
set_option maxHeartbeats 4000000 in
set_option maxRecDepth 100000 in
theorem wkX2_duesOfAll (l : Launch) (D : va_G) (dA : Nat → ClassId) (E : Nat → Nat) (hE : wInj 19 E) (w : Mm) (a1 : Int32) {res : Int32 × Mm} (hf : M_duesOfAll w a1 = some res) : Met l yX2_duesOfAll (ws_ yX2_duesOfAll cX2_duesOfAll 4 (some .int)) rmX2_duesOfAll (Pw D clM (tyM dA) shM 19 dA E [.ref (E 0), .int a1] w) (Qwi D clM shM 19 dA E res.1 res.2) 0 0 (AE 19 E) := by
  refine xm_head (own := RX2) (by decide) rfl (Nat.le_of_ble_eq_true rfl) ?_
  intro p e s m args below meth c ls Q hQ C hP hl
  obtain ⟨hx, hb, hr, hlocks, hml, hown, hts, hK⟩ := C
  replace hl : lv_has ls 4 [(0, .ref (E 0)), (1, .int a1)] := hl
  have hS : va_S (AE 19 E) s.heap s.heap [] := va_S.rf
  have hD : wD 19 E (AE 19 E) := wD.self hE
  unfold M_duesOfAll at hf
  obtain ⟨H, eH⟩ : ∃ H, H = s.heap := ⟨_, rfl⟩
  obtain ⟨locs, eL⟩ : ∃ locs : List Loc, locs = [] := ⟨_, rfl⟩
  rw [← eL] at hS ⊢
  rw [← eH] at hP
  have hS : va_S (AE 19 E) s.heap H locs := by rw [eH]; exact hS
  show W p l e rmX2_duesOfAll s m args below meth c s.heap locs 0 0 Q (F0 m 0 ls [])
  rw [← eH]
  refine lv_iconst (v := 0) hx hb dX2_duesOfAll_0 (by decide) ?_
  refine lv_istore_n (lv' := [(2, .int 0), (0, .ref (E 0)), (1, .int a1)]) hx hb dX2_duesOfAll_1 rfl hl (by decide) rfl (fun ls hl => ?_)
  refine lv_iconst (v := 0) hx hb dX2_duesOfAll_2 (by decide) ?_
  refine lv_istore_n (lv' := [(3, .int 0), (2, .int 0), (0, .ref (E 0)), (1, .int a1)]) hx hb dX2_duesOfAll_3 rfl hl (by decide) rfl (fun ls hl => ?_)
  obtain ⟨b4, hb4, hf⟩ := ob_bind hf
  obtain ⟨n4, hn4⟩ := lp_some hb4
  have kL4 : ∀ (n : Nat) (w1 : Mm) (v2_2 : Int32) (v3_3 : Int32), lpF (fun (q4 : Mm × Int32 × Int32) => M_duesOfAll_b4 a1 q4.1 q4.2.1 q4.2.2) n (w1, v2_2, v3_3) = some b4 → (∀ (H : Heap) (locs : List Loc) (ls : Array Slot), va_P D clM (wl shM 19 dA E b4.1) H → va_S (AE 19 E) s.heap H locs → lv_has ls 4 [(2, .int b4.2)] → W p l e rmX2_duesOfAll s m args below meth c H locs 0 0 Q (F0 m 40 ls [])) → ∀ (H : Heap) (locs : List Loc) (ls : Array Slot), va_P D clM (wl shM 19 dA E w1) H → va_S (AE 19 E) s.heap H locs → lv_has ls 4 [(0, .ref (E 0)), (1, .int a1), (2, .int v2_2), (3, .int v3_3)] → W p l e rmX2_duesOfAll s m args below meth c H locs 0 0 Q (F0 m 4 ls []) := by
    intro n
    induction n with
    | zero =>
      intro w1 v2_2 v3_3 h
      cases h
    | succ n ih =>
      intro w1 v2_2 v3_3 h K4_0 H locs ls hP hS hl
      obtain ⟨r4, hf, h4a, h4b⟩ := lpF_step h
      replace hf : M_duesOfAll_b4 a1 w1 v2_2 v3_3 = some r4 := hf
      unfold M_duesOfAll_b4 at hf
      refine lv_iload_n hx hb dX2_duesOfAll_4 rfl (lv_at hl 3 rfl) ?_
      refine lv_aload_n hx hb dX2_duesOfAll_5 rfl (lv_at hl 0 rfl) ?_
      refine xr_get hx hb hts in_X2 hown hK hP 0 (by decide) rfl rfl 0 (by decide) (hts _ q1405) (fun _ h => h) rfl (v := .ref (E 1)) rfl dX2_duesOfAll_6 ?_
      refine lv_iconst (v := 0) hx hb dX2_duesOfAll_9 (by decide) ?_
      refine xr_iald hx hb hK hP 1 (by decide) rfl 0 rfl (j := 0) (vin_c (by decide)) (by decide) dX2_duesOfAll_10 ?_
      refine lv_icmp_ge (tgt := 40) hx hb dX2_duesOfAll_11 (by decide) (fun c5 => ?_) (fun c5 => ?_)
      · replace hf := ob_t hf c5
        obtain rfl := ob_s hf
        obtain rfl := h4b _ rfl
        exact K4_0 H locs ls hP hS (lv_sub hl [2] rfl)
      · replace hf := ob_f hf c5
        refine lv_iload_n hx hb dX2_duesOfAll_14 rfl (lv_at hl 2 rfl) ?_
        refine lv_iload_n hx hb dX2_duesOfAll_15 rfl (lv_at hl 1 rfl) ?_
        refine lv_iload_n hx hb dX2_duesOfAll_16 rfl (lv_at hl 3 rfl) ?_
        obtain ⟨q7, g6, hf⟩ := ob_bind hf
        refine xc_z (xw_runS (As := [.int a1, .int v3_3]) (rest := [.int v2_2]) ⟨hx, hb, hml, hown, hts⟩ (wkX2_has l D dA E hE w1 a1 v3_3 g6) (va_cwS 2 hts (lw_S q1623 q1624 q140 q1625) rfl rfl rfl cdX2_has.2 ⟨Nat.le_of_ble_eq_true rfl, Nat.le_of_ble_eq_true rfl⟩) hK hP hl.1 rfl rfl (Nat.le_of_ble_eq_true rfl) dX2_duesOfAll_17 ⟨Nat.zero_le _, Nat.zero_le _⟩) hS hD.2 (fun H locs zq7 hP hS => ?_)
        refine lv_if_eq (tgt := 31) hx hb dX2_duesOfAll_20 (by decide) (fun c8 => ?_) (fun c8 => ?_)
        · replace hf := ob_t hf c8
          refine lv_iconst (v := 0) hx hb dX2_duesOfAll_31 (by decide) ?_
          refine lv_iadd hx hb dX2_duesOfAll_32 ?_
          obtain ⟨v2_9, ev2_9, hf⟩ := ob_bnd hf
          refine xn_i ev2_9 ?_
          refine lv_istore_n (lv' := [(2, .int v2_9), (0, .ref (E 0)), (1, .int a1), (3, .int v3_3)]) hx hb dX2_duesOfAll_33 rfl hl (by decide) rfl (fun ls hl => ?_)
          obtain ⟨v3_10, ev3_10, hf⟩ := ob_bnd hf
          refine lv_iinc (v := v3_10) (lv' := [(3, .int v3_10), (2, .int v2_9), (0, .ref (E 0)), (1, .int a1)]) hx hb dX2_duesOfAll_34 hl (k := 3) rfl (by rw [ev3_10]; rfl) (by decide) rfl (fun ls hl => ?_)
          refine lv_goto (tgt := 4) hx hb dX2_duesOfAll_37 (by decide) ?_
          obtain rfl := ob_s hf
          exact ih _ _ _ (h4a _ rfl) K4_0 H locs ls hP hS (lv_sub hl [2, 3, 1, 0] rfl)
        · replace hf := ob_f hf c8
          refine lv_aload_n hx hb dX2_duesOfAll_23 rfl (lv_at hl 0 rfl) ?_
          refine lv_iload_n hx hb dX2_duesOfAll_24 rfl (lv_at hl 3 rfl) ?_
          obtain ⟨q12, g11, hf⟩ := ob_bind hf
          refine xc_i (xw_run (As := [.int v3_3]) (rest := [.int v2_2]) ⟨hx, hb, hml, hown, hts⟩ (k0 := 0) (wkX2_duesOf l D dA E hE w1 v3_3 g11) (cwV 1 hts (lw_V q1768 q1770 qs99 q140 q1771) rfl rfl rfl cdX2_duesOf ⟨Nat.le_of_ble_eq_true rfl, Nat.le_of_ble_eq_true rfl⟩) hK hP (by decide) rfl rfl rfl hl.1 rfl rfl (Nat.le_of_ble_eq_true rfl) dX2_duesOfAll_25 ⟨Nat.zero_le _, Nat.zero_le _⟩) hS hD.2 (fun H locs hP hS => ?_)
          refine lv_goto (tgt := 32) hx hb dX2_duesOfAll_28 (by decide) ?_
          refine lv_iadd hx hb dX2_duesOfAll_32 ?_
          obtain ⟨v2_13, ev2_13, hf⟩ := ob_bnd hf
          refine xn_i ev2_13 ?_
          refine lv_istore_n (lv' := [(2, .int v2_13), (0, .ref (E 0)), (1, .int a1), (3, .int v3_3)]) hx hb dX2_duesOfAll_33 rfl hl (by decide) rfl (fun ls hl => ?_)
          obtain ⟨v3_14, ev3_14, hf⟩ := ob_bnd hf
          refine lv_iinc (v := v3_14) (lv' := [(3, .int v3_14), (2, .int v2_13), (0, .ref (E 0)), (1, .int a1)]) hx hb dX2_duesOfAll_34 hl (k := 3) rfl (by rw [ev3_14]; rfl) (by decide) rfl (fun ls hl => ?_)
          refine lv_goto (tgt := 4) hx hb dX2_duesOfAll_37 (by decide) ?_
          obtain rfl := ob_s hf
          exact ih _ _ _ (h4a _ rfl) K4_0 H locs ls hP hS (lv_sub hl [2, 3, 1, 0] rfl)
  refine kL4 n4 w 0 0 hn4 (fun H locs ls hP hS hl => ?_) H locs ls hP hS (lv_sub hl [2, 3, 1, 0] rfl)
  replace hf : M_duesOfAll_x4_40 b4 = some res := hf
  unfold M_duesOfAll_x4_40 at hf
  refine lv_iload_n hx hb dX2_duesOfAll_40 rfl (lv_at hl 0 rfl) ?_
  obtain rfl := ob_s hf
  subst hQ
  exact xe_i hx hb hr hlocks hP hS dX2_duesOfAll_41
abbrev rmX2_is : Room := { frames := 7, cells := 0, slots := 0, locals := 169 }
theorem cdX2_is : yX2_is.cls = RX2 ∧ yX2_is.cls ≠ "java/lang/invoke/MethodHandle" ∧ yX2_is.cls ≠ "java/lang/invoke/VarHandle" ∧ (parseMethodDescriptor yX2_is.desc).map (fun d => d.parameters.length) = some 1 := by decide +kernel
set_option maxHeartbeats 4000000 in
set_option maxRecDepth 100000 in
theorem wkX2_is (l : Launch) (D : va_G) (dA : Nat → ClassId) (E : Nat → Nat) (hE : wInj 19 E) (w : Mm) (a1 : Int32) {res : Int32 × Mm} (hf : M_is w a1 = some res) : Met l yX2_is (ws_ yX2_is cX2_is 2 (some .int)) rmX2_is (Pw D clM (tyM dA) shM 19 dA E [.ref (E 0), .int a1] w) (Qwi D clM shM 19 dA E res.1 res.2) 0 0 (AE 19 E) := by
  refine xm_head (own := RX2) (by decide) rfl (Nat.le_of_ble_eq_true rfl) ?_
  intro p e s m args below meth c ls Q hQ C hP hl
  obtain ⟨hx, hb, hr, hlocks, hml, hown, hts, hK⟩ := C
  replace hl : lv_has ls 2 [(0, .ref (E 0)), (1, .int a1)] := hl
  have hS : va_S (AE 19 E) s.heap s.heap [] := va_S.rf
  have hD : wD 19 E (AE 19 E) := wD.self hE
  unfold M_is at hf
  obtain ⟨H, eH⟩ : ∃ H, H = s.heap := ⟨_, rfl⟩
  obtain ⟨locs, eL⟩ : ∃ locs : List Loc, locs = [] := ⟨_, rfl⟩
  rw [← eL] at hS ⊢
  rw [← eH] at hP
  have hS : va_S (AE 19 E) s.heap H locs := by rw [eH]; exact hS
  show W p l e rmX2_is s m args below meth c s.heap locs 0 0 Q (F0 m 0 ls [])
  rw [← eH]
  refine lv_iload_n hx hb dX2_is_0 rfl (lv_at hl 1 rfl) ?_
  refine lv_iconst (v := 0) hx hb dX2_is_1 (by decide) ?_
  refine lv_iconst (v := 3) hx hb dX2_is_2 (by decide) ?_
  obtain ⟨q2, g1, hf⟩ := ob_bind hf
  refine xc_z (xw_runS (As := [.int a1, .int 0, .int 3]) (rest := []) ⟨hx, hb, hml, hown, hts⟩ (wkX2_isIn l D dA E hE w a1 0 3 g1) (va_cwS 3 hts (lw_S q1538 q1539 q140 q1540) rfl rfl rfl cdX2_isIn.2 ⟨Nat.le_of_ble_eq_true rfl, Nat.le_of_ble_eq_true rfl⟩) hK hP hl.1 rfl rfl (Nat.le_of_ble_eq_true rfl) dX2_is_3 ⟨Nat.zero_le _, Nat.zero_le _⟩) hS hD.2 (fun H locs zq2 hP hS => ?_)
  refine lv_if_eq (tgt := 21) hx hb dX2_is_6 (by decide) (fun c3 => ?_) (fun c3 => ?_)
  · replace hf := ob_t hf c3
    refine lv_iload_n hx hb dX2_is_21 rfl (lv_at hl 1 rfl) ?_
    refine lv_iconst (v := 4) hx hb dX2_is_22 (by decide) ?_
    refine lv_icmp_ne (tgt := 37) hx hb dX2_is_23 (by decide) (fun c4 => ?_) (fun c4 => ?_)
    · replace hf := ob_f hf c4
      refine lv_bipush (v := (-2)) hx hb dX2_is_37 (by decide) ?_
      obtain rfl := ob_s hf
      subst hQ
      exact xe_i hx hb hr hlocks hP hS dX2_is_39
    · replace hf := ob_t hf c4
      refine lv_aload_n hx hb dX2_is_26 rfl (lv_at hl 0 rfl) ?_
      refine lv_aload_n hx hb dX2_is_27 rfl (lv_at hl 0 rfl) ?_
      obtain ⟨q6, g5, hf⟩ := ob_bind hf
      refine xc_i (xw_run (As := []) (rest := [.ref (E 0)]) ⟨hx, hb, hml, hown, hts⟩ (k0 := 0) (wkX2_pawnedNow l D dA E hE w g5) (cwV 0 hts (lw_V q1860 q1862 qs115 q140 q1863) rfl rfl rfl cdX2_pawnedNow ⟨Nat.le_of_ble_eq_true rfl, Nat.le_of_ble_eq_true rfl⟩) hK hP (by decide) rfl rfl rfl hl.1 rfl rfl (Nat.le_of_ble_eq_true rfl) dX2_is_28 ⟨Nat.zero_le _, Nat.zero_le _⟩) hS hD.2 (fun H locs hP hS => ?_)
      obtain ⟨q8, g7, hf⟩ := ob_bind hf
      refine xc_i (xw_run (As := [.int q6]) (rest := []) ⟨hx, hb, hml, hown, hts⟩ (k0 := 0) (wkX2_duesOfAll l D dA E hE w q6 g7) (cwV 1 hts (lw_V q1895 q1897 qs118 q140 q1898) rfl rfl rfl cdX2_duesOfAll ⟨Nat.le_of_ble_eq_true rfl, Nat.le_of_ble_eq_true rfl⟩) hK hP (by decide) rfl rfl rfl hl.1 rfl rfl (Nat.le_of_ble_eq_true rfl) dX2_is_31 ⟨Nat.zero_le _, Nat.zero_le _⟩) hS hD.2 (fun H locs hP hS => ?_)
      refine lv_goto (tgt := 39) hx hb dX2_is_34 (by decide) ?_
      obtain rfl := ob_s hf
      subst hQ
      exact xe_i hx hb hr hlocks hP hS dX2_is_39
  · replace hf := ob_f hf c3
    refine lv_aload_n hx hb dX2_is_9 rfl (lv_at hl 0 rfl) ?_
    refine xr_get hx hb hts in_X2 hown hK hP 0 (by decide) rfl rfl 0 (by decide) (hts _ q1405) (fun _ h => h) rfl (v := .ref (E 1)) rfl dX2_is_10 ?_
    refine lv_bipush (v := 7) hx hb dX2_is_13 (by decide) ?_
    refine lv_iload_n hx hb dX2_is_15 rfl (lv_at hl 1 rfl) ?_
    refine lv_iadd hx hb dX2_is_16 ?_
    obtain ⟨h9, hf⟩ := ob_gd hf
    refine xr_iald hx hb hK hP 1 (by decide) rfl 0 rfl (j := (7 + a1).toNatClampNeg) h9 rfl dX2_is_17 ?_
    refine lv_goto (tgt := 39) hx hb dX2_is_18 (by decide) ?_
    obtain rfl := ob_s hf
    subst hQ
    exact xe_i hx hb hr hlocks hP hS dX2_is_39
abbrev rmX2_entry : Room := { frames := 0, cells := 0, slots := 0, locals := 0 }
theorem cdX2_entry : yX2_entry.cls = RX2 ∧ yX2_entry.cls ≠ "java/lang/invoke/MethodHandle" ∧ yX2_entry.cls ≠ "java/lang/invoke/VarHandle" ∧ (parseMethodDescriptor yX2_entry.desc).map (fun d => d.parameters.length) = some 2 := by decide +kernel
set_option maxHeartbeats 4000000 in
set_option maxRecDepth 100000 in
theorem wkX2_entry (l : Launch) (D : va_G) (dA : Nat → ClassId) (E : Nat → Nat) (hE : wInj 19 E) (w : Mm) (a1 : Int32) (a2 : Int32) {res : Int32} (hf : M_entry w a1 a2 = some res) : Met l yX2_entry (ws_ yX2_entry cX2_entry 4 (some .int)) rmX2_entry (Pw D clM (tyM dA) shM 19 dA E [.ref (E 0), .int a1, .int a2] w) (Qwi D clM shM 19 dA E res w) 0 0 (AE 19 E) := by
  refine xm_head (own := RX2) (by decide) rfl (Nat.le_of_ble_eq_true rfl) ?_
  intro p e s m args below meth c ls Q hQ C hP hl
  obtain ⟨hx, hb, hr, hlocks, hml, hown, hts, hK⟩ := C
  replace hl : lv_has ls 4 [(0, .ref (E 0)), (1, .int a1), (2, .int a2)] := hl
  have hS : va_S (AE 19 E) s.heap s.heap [] := va_S.rf
  have hD : wD 19 E (AE 19 E) := wD.self hE
  unfold M_entry at hf
  obtain ⟨H, eH⟩ : ∃ H, H = s.heap := ⟨_, rfl⟩
  obtain ⟨locs, eL⟩ : ∃ locs : List Loc, locs = [] := ⟨_, rfl⟩
  rw [← eL] at hS ⊢
  rw [← eH] at hP
  have hS : va_S (AE 19 E) s.heap H locs := by rw [eH]; exact hS
  show W p l e rmX2_entry s m args below meth c s.heap locs 0 0 Q (F0 m 0 ls [])
  rw [← eH]
  refine lv_aload_n hx hb dX2_entry_0 rfl (lv_at hl 0 rfl) ?_
  refine xr_get hx hb hts in_X2 hown hK hP 0 (by decide) rfl rfl 0 (by decide) (hts _ q1405) (fun _ h => h) rfl (v := .ref (E 1)) rfl dX2_entry_1 ?_
  refine lv_sipush (v := 2815) hx hb dX2_entry_4 (by decide) ?_
  refine lv_iload_n hx hb dX2_entry_7 rfl (lv_at hl 1 rfl) ?_
  refine lv_iadd hx hb dX2_entry_8 ?_
  obtain ⟨h1, hf⟩ := ob_gd hf
  refine xr_iald hx hb hK hP 1 (by decide) rfl 0 rfl (j := (2815 + a1).toNatClampNeg) h1 rfl dX2_entry_9 ?_
  obtain ⟨v3_2, ev3_2, hf⟩ := ob_bnd hf
  refine xn_i ev3_2 ?_
  refine lv_istore_n (lv' := [(3, .int v3_2), (0, .ref (E 0)), (1, .int a1), (2, .int a2)]) hx hb dX2_entry_10 rfl hl (by decide) rfl (fun ls hl => ?_)
  refine lv_iload_n hx hb dX2_entry_11 rfl (lv_at hl 3 rfl) ?_
  refine lv_if_ne (tgt := 22) hx hb dX2_entry_12 (by decide) (fun c3 => ?_) (fun c3 => ?_)
  · replace hf := ob_f hf c3
    refine lv_iload_n hx hb dX2_entry_22 rfl (lv_at hl 3 rfl) ?_
    refine lv_iconst (v := 1) hx hb dX2_entry_23 (by decide) ?_
    refine lv_icmp_ne (tgt := 36) hx hb dX2_entry_24 (by decide) (fun c4 => ?_) (fun c4 => ?_)
    · replace hf := ob_f hf c4
      refine lv_iload_n hx hb dX2_entry_36 rfl (lv_at hl 3 rfl) ?_
      refine lv_iconst (v := 2) hx hb dX2_entry_37 (by decide) ?_
      refine lv_icmp_ne (tgt := 47) hx hb dX2_entry_38 (by decide) (fun c5 => ?_) (fun c5 => ?_)
      · replace hf := ob_f hf c5
        refine lv_aload_n hx hb dX2_entry_47 rfl (lv_at hl 1 rfl) ?_
        refine xr_get hx hb hts in_X2 hown hK hP 0 (by decide) rfl rfl 0 (by decide) (hts _ q1405) (fun _ h => h) rfl (v := .ref (E 1)) rfl dX2_entry_48 ?_
        refine lv_sipush (v := 2845) hx hb dX2_entry_51 (by decide) ?_
        refine lv_iload_n hx hb dX2_entry_54 rfl (lv_at hl 2 rfl) ?_
        refine lv_iadd hx hb dX2_entry_55 ?_
        obtain ⟨h6, hf⟩ := ob_gd hf
        refine xr_iald hx hb hK hP 1 (by decide) rfl 0 rfl (j := (2845 + a1).toNatClampNeg) h6 rfl dX2_entry_56 ?_
        obtain rfl := ob_s hf
        subst hQ
        exact xe_i hx hb hr hlocks hP hS dX2_entry_57
      · replace hf := ob_t hf c5
        refine lv_iload_n hx hb dX2_entry_41 rfl (lv_at hl 0 rfl) ?_
        refine lv_iconst (v := 3) hx hb dX2_entry_42 (by decide) ?_
        refine xr_irem hx hb dX2_entry_43 (by decide) ?_
        refine lv_goto (tgt := 57) hx hb dX2_entry_44 (by decide) ?_
        obtain rfl := ob_s hf
        subst hQ
        exact xe_i hx hb hr hlocks hP hS dX2_entry_57
    · replace hf := ob_t hf c4
      refine lv_iload_n hx hb dX2_entry_27 rfl (lv_at hl 0 rfl) ?_
      refine lv_iconst (v := 3) hx hb dX2_entry_28 (by decide) ?_
      refine lv_idiv hx hb dX2_entry_29 (by decide) ?_
      refine lv_bipush (v := 8) hx hb dX2_entry_30 (by decide) ?_
      refine xr_irem hx hb dX2_entry_32 (by decide) ?_
      refine lv_goto (tgt := 57) hx hb dX2_entry_33 (by decide) ?_
      obtain rfl := ob_s hf
      subst hQ
      exact xe_i hx hb hr hlocks hP hS dX2_entry_57
  · replace hf := ob_t hf c3
    refine lv_iload_n hx hb dX2_entry_15 rfl (lv_at hl 0 rfl) ?_
    refine lv_bipush (v := 24) hx hb dX2_entry_16 (by decide) ?_
    refine lv_idiv hx hb dX2_entry_18 (by decide) ?_
    refine lv_goto (tgt := 57) hx hb dX2_entry_19 (by decide) ?_
    obtain rfl := ob_s hf
    subst hQ
    exact xe_i hx hb hr hlocks hP hS dX2_entry_57
abbrev rmX2_book : Room := { frames := 1, cells := 0, slots := 0, locals := 23 }
theorem cdX2_book : yX2_book.cls = RX2 ∧ yX2_book.cls ≠ "java/lang/invoke/MethodHandle" ∧ yX2_book.cls ≠ "java/lang/invoke/VarHandle" ∧ (parseMethodDescriptor yX2_book.desc).map (fun d => d.parameters.length) = some 2 := by decide +kernel
set_option maxHeartbeats 4000000 in
set_option maxRecDepth 100000 in
theorem wkX2_book (l : Launch) (D : va_G) (dA : Nat → ClassId) (E : Nat → Nat) (hE : wInj 19 E) (w : Mm) (a1 : Int32) (a2 : Int32) {res : Int32} (hf : M_book w a1 a2 = some res) : Met l yX2_book (ws_ yX2_book cX2_book 3 (some .int)) rmX2_book (Pw D clM (tyM dA) shM 19 dA E [.ref (E 0), .int a1, .int a2] w) (Qwi D clM shM 19 dA E res w) 0 0 (AE 19 E) := by
  refine xm_head (own := RX2) (by decide) rfl (Nat.le_of_ble_eq_true rfl) ?_
  intro p e s m args below meth c ls Q hQ C hP hl
  obtain ⟨hx, hb, hr, hlocks, hml, hown, hts, hK⟩ := C
  replace hl : lv_has ls 3 [(0, .ref (E 0)), (1, .int a1), (2, .int a2)] := hl
  have hS : va_S (AE 19 E) s.heap s.heap [] := va_S.rf
  have hD : wD 19 E (AE 19 E) := wD.self hE
  unfold M_book at hf
  obtain ⟨H, eH⟩ : ∃ H, H = s.heap := ⟨_, rfl⟩
  obtain ⟨locs, eL⟩ : ∃ locs : List Loc, locs = [] := ⟨_, rfl⟩
  rw [← eL] at hS ⊢
  rw [← eH] at hP
  have hS : va_S (AE 19 E) s.heap H locs := by rw [eH]; exact hS
  show W p l e rmX2_book s m args below meth c s.heap locs 0 0 Q (F0 m 0 ls [])
  rw [← eH]
  refine lv_iload_n hx hb dX2_book_0 rfl (lv_at hl 1 rfl) ?_
  refine lv_iconst (v := (-1)) hx hb dX2_book_1 (by decide) ?_
  refine lv_icmp_ne (tgt := 13) hx hb dX2_book_2 (by decide) (fun c1 => ?_) (fun c1 => ?_)
  · replace hf := ob_f hf c1
    refine lv_iload_n hx hb dX2_book_13 rfl (lv_at hl 1 rfl) ?_
    refine lv_iconst (v := 0) hx hb dX2_book_14 (by decide) ?_
    refine lv_aload_n hx hb dX2_book_15 rfl (lv_at hl 0 rfl) ?_
    refine xr_get hx hb hts in_X2 hown hK hP 0 (by decide) rfl rfl 0 (by decide) (hts _ q1405) (fun _ h => h) rfl (v := .ref (E 1)) rfl dX2_book_16 ?_
    refine lv_bipush (v := 11) hx hb dX2_book_19 (by decide) ?_
    refine xr_iald hx hb hK hP 1 (by decide) rfl 0 rfl (j := 11) (vin_c (by decide)) (by decide) dX2_book_21 ?_
    refine lv_iconst (v := 1) hx hb dX2_book_22 (by decide) ?_
    refine lv_isub hx hb dX2_book_23 ?_
    obtain ⟨q3, g2, hf⟩ := ob_bind hf
    refine xc_z (xw_runS (As := [.int a1, .int 0, .int ((w.1 1 11) - 1)]) (rest := []) ⟨hx, hb, hml, hown, hts⟩ (wkX2_isIn l D dA E hE w a1 0 ((w.1 1 11) - 1) g2) (va_cwS 3 hts (lw_S q1538 q1539 q140 q1540) rfl rfl rfl cdX2_isIn.2 ⟨Nat.le_of_ble_eq_true rfl, Nat.le_of_ble_eq_true rfl⟩) hK hP hl.1 rfl rfl (Nat.le_of_ble_eq_true rfl) dX2_book_24 ⟨Nat.zero_le _, Nat.zero_le _⟩) hS hD.2 (fun H locs zq3 hP hS => ?_)
    refine lv_if_eq (tgt := 48) hx hb dX2_book_27 (by decide) (fun c4 => ?_) (fun c4 => ?_)
    · replace hf := ob_t hf c4
      refine lv_bipush (v := (-2)) hx hb dX2_book_48 (by decide) ?_
      obtain rfl := ob_s hf
      subst hQ
      exact xe_i hx hb hr hlocks hP hS dX2_book_50
    · replace hf := ob_f hf c4
      refine lv_iload_n hx hb dX2_book_30 rfl (lv_at hl 2 rfl) ?_
      refine lv_iconst (v := 0) hx hb dX2_book_31 (by decide) ?_
      refine lv_iconst (v := 3) hx hb dX2_book_32 (by decide) ?_
      obtain ⟨q6, g5, hf⟩ := ob_bind hf
      refine xc_z (xw_runS (As := [.int a2, .int 0, .int 3]) (rest := []) ⟨hx, hb, hml, hown, hts⟩ (wkX2_isIn l D dA E hE w a2 0 3 g5) (va_cwS 3 hts (lw_S q1538 q1539 q140 q1540) rfl rfl rfl cdX2_isIn.2 ⟨Nat.le_of_ble_eq_true rfl, Nat.le_of_ble_eq_true rfl⟩) hK hP hl.1 rfl rfl (Nat.le_of_ble_eq_true rfl) dX2_book_33 ⟨Nat.zero_le _, Nat.zero_le _⟩) hS hD.2 (fun H locs zq6 hP hS => ?_)
      refine lv_if_eq (tgt := 48) hx hb dX2_book_36 (by decide) (fun c7 => ?_) (fun c7 => ?_)
      · replace hf := ob_t hf c7
        refine lv_bipush (v := (-2)) hx hb dX2_book_48 (by decide) ?_
        obtain rfl := ob_s hf
        subst hQ
        exact xe_i hx hb hr hlocks hP hS dX2_book_50
      · replace hf := ob_f hf c7
        refine lv_aload_n hx hb dX2_book_39 rfl (lv_at hl 0 rfl) ?_
        refine lv_iload_n hx hb dX2_book_40 rfl (lv_at hl 1 rfl) ?_
        refine lv_iload_n hx hb dX2_book_41 rfl (lv_at hl 2 rfl) ?_
        obtain ⟨q9, g8, hf⟩ := ob_bind hf
        refine xc_i (xw_run (As := [.int a1, .int a2]) (rest := []) ⟨hx, hb, hml, hown, hts⟩ (k0 := 0) (wkX2_entry l D dA E hE w a1 a2 g8) (cwV 2 hts (lw_V q1903 q1905 qs119 q140 q1906) rfl rfl rfl cdX2_entry ⟨Nat.le_of_ble_eq_true rfl, Nat.le_of_ble_eq_true rfl⟩) hK hP (by decide) rfl rfl rfl hl.1 rfl rfl (Nat.le_of_ble_eq_true rfl) dX2_book_42 ⟨Nat.zero_le _, Nat.zero_le _⟩) hS hD.2 (fun H locs hP hS => ?_)
        refine lv_goto (tgt := 50) hx hb dX2_book_45 (by decide) ?_
        obtain rfl := ob_s hf
        subst hQ
        exact xe_i hx hb hr hlocks hP hS dX2_book_50
  · replace hf := ob_t hf c1
    refine lv_aload_n hx hb dX2_book_5 rfl (lv_at hl 0 rfl) ?_
    refine xr_get hx hb hts in_X2 hown hK hP 0 (by decide) rfl rfl 0 (by decide) (hts _ q1405) (fun _ h => h) rfl (v := .ref (E 1)) rfl dX2_book_6 ?_
    refine lv_bipush (v := 11) hx hb dX2_book_9 (by decide) ?_
    refine xr_iald hx hb hK hP 1 (by decide) rfl 0 rfl (j := 11) (vin_c (by decide)) (by decide) dX2_book_11 ?_
    obtain rfl := ob_s hf
    subst hQ
    exact xe_i hx hb hr hlocks hP hS dX2_book_12
abbrev rmX2_ledger : Room := { frames := 1, cells := 0, slots := 0, locals := 23 }
theorem cdX2_ledger : yX2_ledger.cls = RX2 ∧ yX2_ledger.cls ≠ "java/lang/invoke/MethodHandle" ∧ yX2_ledger.cls ≠ "java/lang/invoke/VarHandle" ∧ (parseMethodDescriptor yX2_ledger.desc).map (fun d => d.parameters.length) = some 1 := by decide +kernel
set_option maxHeartbeats 4000000 in
set_option maxRecDepth 100000 in
theorem wkX2_ledger (l : Launch) (D : va_G) (dA : Nat → ClassId) (E : Nat → Nat) (hE : wInj 19 E) (w : Mm) (a1 : Int32) {res : Int32} (hf : M_ledger w a1 = some res) : Met l yX2_ledger (ws_ yX2_ledger cX2_ledger 4 (some .int)) rmX2_ledger (Pw D clM (tyM dA) shM 19 dA E [.ref (E 0), .int a1] w) (Qwi D clM shM 19 dA E res w) 0 0 (AE 19 E) := by
  refine xm_head (own := RX2) (by decide) rfl (Nat.le_of_ble_eq_true rfl) ?_
  intro p e s m args below meth c ls Q hQ C hP hl
  obtain ⟨hx, hb, hr, hlocks, hml, hown, hts, hK⟩ := C
  replace hl : lv_has ls 4 [(0, .ref (E 0)), (1, .int a1)] := hl
  have hS : va_S (AE 19 E) s.heap s.heap [] := va_S.rf
  have hD : wD 19 E (AE 19 E) := wD.self hE
  unfold M_ledger at hf
  obtain ⟨H, eH⟩ : ∃ H, H = s.heap := ⟨_, rfl⟩
  obtain ⟨locs, eL⟩ : ∃ locs : List Loc, locs = [] := ⟨_, rfl⟩
  rw [← eL] at hS ⊢
  rw [← eH] at hP
  have hS : va_S (AE 19 E) s.heap H locs := by rw [eH]; exact hS
  show W p l e rmX2_ledger s m args below meth c s.heap locs 0 0 Q (F0 m 0 ls [])
  rw [← eH]
  refine lv_iload_n hx hb dX2_ledger_0 rfl (lv_at hl 1 rfl) ?_
  refine lv_iconst (v := 0) hx hb dX2_ledger_1 (by decide) ?_
  refine lv_iconst (v := 2) hx hb dX2_ledger_2 (by decide) ?_
  obtain ⟨q2, g1, hf⟩ := ob_bind hf
  refine xc_z (xw_runS (As := [.int a1, .int 0, .int 2]) (rest := []) ⟨hx, hb, hml, hown, hts⟩ (wkX2_isIn l D dA E hE w a1 0 2 g1) (va_cwS 3 hts (lw_S q1538 q1539 q140 q1540) rfl rfl rfl cdX2_isIn.2 ⟨Nat.le_of_ble_eq_true rfl, Nat.le_of_ble_eq_true rfl⟩) hK hP hl.1 rfl rfl (Nat.le_of_ble_eq_true rfl) dX2_ledger_3 ⟨Nat.zero_le _, Nat.zero_le _⟩) hS hD.2 (fun H locs zq2 hP hS => ?_)
  refine lv_if_ne (tgt := 12) hx hb dX2_ledger_6 (by decide) (fun c3 => ?_) (fun c3 => ?_)
  · replace hf := ob_f hf c3
    refine lv_iconst (v := 0) hx hb dX2_ledger_12 (by decide) ?_
    refine lv_istore_n (lv' := [(2, .int 0), (0, .ref (E 0)), (1, .int a1)]) hx hb dX2_ledger_13 rfl hl (by decide) rfl (fun ls hl => ?_)
    refine lv_iconst (v := 0) hx hb dX2_ledger_14 (by decide) ?_
    refine lv_istore_n (lv' := [(3, .int 0), (2, .int 0), (0, .ref (E 0)), (1, .int a1)]) hx hb dX2_ledger_15 rfl hl (by decide) rfl (fun ls hl => ?_)
    obtain ⟨b6, hb6, hf⟩ := ob_bind hf
    obtain ⟨n6, hn6⟩ := lp_some hb6
    have kL16 : ∀ (n : Nat) (v2_4 : Int32) (v3_5 : Int32), lpF (fun (q6 : Int32 × Int32) => M_ledger_b16 w a1 q6.1 q6.2) n (v2_4, v3_5) = some b6 → (∀ (H : Heap) (locs : List Loc) (ls : Array Slot), va_P D clM (wl shM 19 dA E w) H → va_S (AE 19 E) s.heap H locs → lv_has ls 4 [(2, .int b6)] → W p l e rmX2_ledger s m args below meth c H locs 0 0 Q (F0 m 51 ls [])) → ∀ (H : Heap) (locs : List Loc) (ls : Array Slot), va_P D clM (wl shM 19 dA E w) H → va_S (AE 19 E) s.heap H locs → lv_has ls 4 [(0, .ref (E 0)), (1, .int a1), (2, .int v2_4), (3, .int v3_5)] → W p l e rmX2_ledger s m args below meth c H locs 0 0 Q (F0 m 16 ls []) := by
      intro n
      induction n with
      | zero =>
        intro v2_4 v3_5 h
        cases h
      | succ n ih =>
        intro v2_4 v3_5 h K6_0 H locs ls hP hS hl
        obtain ⟨r6, hf, h6a, h6b⟩ := lpF_step h
        replace hf : M_ledger_b16 w a1 v2_4 v3_5 = some r6 := hf
        unfold M_ledger_b16 at hf
        refine lv_iload_n hx hb dX2_ledger_16 rfl (lv_at hl 3 rfl) ?_
        refine lv_aload_n hx hb dX2_ledger_17 rfl (lv_at hl 0 rfl) ?_
        refine xr_get hx hb hts in_X2 hown hK hP 0 (by decide) rfl rfl 0 (by decide) (hts _ q1405) (fun _ h => h) rfl (v := .ref (E 1)) rfl dX2_ledger_18 ?_
        refine lv_bipush (v := 11) hx hb dX2_ledger_21 (by decide) ?_
        refine xr_iald hx hb hK hP 1 (by decide) rfl 0 rfl (j := 11) (vin_c (by decide)) (by decide) dX2_ledger_23 ?_
        refine lv_icmp_ge (tgt := 51) hx hb dX2_ledger_24 (by decide) (fun c7 => ?_) (fun c7 => ?_)
        · replace hf := ob_t hf c7
          obtain rfl := ob_s hf
          obtain rfl := h6b _ rfl
          exact K6_0 H locs ls hP hS (lv_sub hl [2] rfl)
        · replace hf := ob_f hf c7
          refine lv_iload_n hx hb dX2_ledger_27 rfl (lv_at hl 2 rfl) ?_
          refine lv_aload_n hx hb dX2_ledger_28 rfl (lv_at hl 0 rfl) ?_
          refine lv_iload_n hx hb dX2_ledger_29 rfl (lv_at hl 3 rfl) ?_
          refine lv_iconst (v := 2) hx hb dX2_ledger_30 (by decide) ?_
          obtain ⟨q9, g8, hf⟩ := ob_bind hf
          refine xc_i (xw_run (As := [.int v3_5, .int 2]) (rest := [.int v2_4]) ⟨hx, hb, hml, hown, hts⟩ (k0 := 0) (wkX2_entry l D dA E hE w v3_5 2 g8) (cwV 2 hts (lw_V q1903 q1905 qs119 q140 q1906) rfl rfl rfl cdX2_entry ⟨Nat.le_of_ble_eq_true rfl, Nat.le_of_ble_eq_true rfl⟩) hK hP (by decide) rfl rfl rfl hl.1 rfl rfl (Nat.le_of_ble_eq_true rfl) dX2_ledger_31 ⟨Nat.zero_le _, Nat.zero_le _⟩) hS hD.2 (fun H locs hP hS => ?_)
          refine lv_iload_n hx hb dX2_ledger_34 rfl (lv_at hl 1 rfl) ?_
          refine lv_icmp_ne (tgt := 42) hx hb dX2_ledger_35 (by decide) (fun c10 => ?_) (fun c10 => ?_)
          · replace hf := ob_f hf c10
            refine lv_iconst (v := 0) hx hb dX2_ledger_42 (by decide) ?_
            refine lv_iadd hx hb dX2_ledger_43 ?_
            obtain ⟨v2_11, ev2_11, hf⟩ := ob_bnd hf
            refine xn_i ev2_11 ?_
            refine lv_istore_n (lv' := [(2, .int v2_11), (0, .ref (E 0)), (1, .int a1), (3, .int v3_5)]) hx hb dX2_ledger_44 rfl hl (by decide) rfl (fun ls hl => ?_)
            obtain ⟨v3_12, ev3_12, hf⟩ := ob_bnd hf
            refine lv_iinc (v := v3_12) (lv' := [(3, .int v3_12), (2, .int v2_11), (0, .ref (E 0)), (1, .int a1)]) hx hb dX2_ledger_45 hl (k := 3) rfl (by rw [ev3_12]; rfl) (by decide) rfl (fun ls hl => ?_)
            refine lv_goto (tgt := 16) hx hb dX2_ledger_48 (by decide) ?_
            obtain rfl := ob_s hf
            exact ih _ _ (h6a _ rfl) K6_0 H locs ls hP hS (lv_sub hl [2, 3, 1, 0] rfl)
          · replace hf := ob_t hf c10
            refine lv_iconst (v := 1) hx hb dX2_ledger_38 (by decide) ?_
            refine lv_goto (tgt := 43) hx hb dX2_ledger_39 (by decide) ?_
            refine lv_iadd hx hb dX2_ledger_43 ?_
            obtain ⟨v2_13, ev2_13, hf⟩ := ob_bnd hf
            refine xn_i ev2_13 ?_
            refine lv_istore_n (lv' := [(2, .int v2_13), (0, .ref (E 0)), (1, .int a1), (3, .int v3_5)]) hx hb dX2_ledger_44 rfl hl (by decide) rfl (fun ls hl => ?_)
            obtain ⟨v3_14, ev3_14, hf⟩ := ob_bnd hf
            refine lv_iinc (v := v3_14) (lv' := [(3, .int v3_14), (2, .int v2_13), (0, .ref (E 0)), (1, .int a1)]) hx hb dX2_ledger_45 hl (k := 3) rfl (by rw [ev3_14]; rfl) (by decide) rfl (fun ls hl => ?_)
            refine lv_goto (tgt := 16) hx hb dX2_ledger_48 (by decide) ?_
            obtain rfl := ob_s hf
            exact ih _ _ (h6a _ rfl) K6_0 H locs ls hP hS (lv_sub hl [2, 3, 1, 0] rfl)
    refine kL16 n6 0 0 hn6 (fun H locs ls hP hS hl => ?_) H locs ls hP hS (lv_sub hl [2, 3, 1, 0] rfl)
    replace hf : M_ledger_x16_51 b6 = some res := hf
    unfold M_ledger_x16_51 at hf
    refine lv_iload_n hx hb dX2_ledger_51 rfl (lv_at hl 0 rfl) ?_
    obtain rfl := ob_s hf
    subst hQ
    exact xe_i hx hb hr hlocks hP hS dX2_ledger_52
  · replace hf := ob_t hf c3
    refine lv_bipush (v := (-2)) hx hb dX2_ledger_9 (by decide) ?_
    obtain rfl := ob_s hf
    subst hQ
    exact xe_i hx hb hr hlocks hP hS dX2_ledger_11
abbrev rmX2_hottest : Room := { frames := 1, cells := 0, slots := 0, locals := 21 }
theorem cdX2_hottest : yX2_hottest.cls = RX2 ∧ yX2_hottest.cls ≠ "java/lang/invoke/MethodHandle" ∧ yX2_hottest.cls ≠ "java/lang/invoke/VarHandle" ∧ (parseMethodDescriptor yX2_hottest.desc).map (fun d => d.parameters.length) = some 0 := by decide +kernel
set_option maxHeartbeats 4000000 in
set_option maxRecDepth 100000 in
theorem wkX2_hottest (l : Launch) (D : va_G) (dA : Nat → ClassId) (E : Nat → Nat) (hE : wInj 19 E) (w : Mm)  {res : Int32} (hf : M_hottest w = some res) : Met l yX2_hottest (ws_ yX2_hottest cX2_hottest 3 (some .int)) rmX2_hottest (Pw D clM (tyM dA) shM 19 dA E [.ref (E 0)] w) (Qwi D clM shM 19 dA E res w) 0 0 (AE 19 E) := by
  refine xm_head (own := RX2) (by decide) rfl (Nat.le_of_ble_eq_true rfl) ?_
  intro p e s m args below meth c ls Q hQ C hP hl
  obtain ⟨hx, hb, hr, hlocks, hml, hown, hts, hK⟩ := C
  replace hl : lv_has ls 3 [(0, .ref (E 0))] := hl
  have hS : va_S (AE 19 E) s.heap s.heap [] := va_S.rf
  have hD : wD 19 E (AE 19 E) := wD.self hE
  unfold M_hottest at hf
  obtain ⟨H, eH⟩ : ∃ H, H = s.heap := ⟨_, rfl⟩
  obtain ⟨locs, eL⟩ : ∃ locs : List Loc, locs = [] := ⟨_, rfl⟩
  rw [← eL] at hS ⊢
  rw [← eH] at hP
  have hS : va_S (AE 19 E) s.heap H locs := by rw [eH]; exact hS
  show W p l e rmX2_hottest s m args below meth c s.heap locs 0 0 Q (F0 m 0 ls [])
  rw [← eH]
  refine lv_iconst (v := (-1)) hx hb dX2_hottest_0 (by decide) ?_
  refine lv_istore_n (lv' := [(1, .int (-1)), (0, .ref (E 0))]) hx hb dX2_hottest_1 rfl hl (by decide) rfl (fun ls hl => ?_)
  refine lv_iconst (v := 0) hx hb dX2_hottest_2 (by decide) ?_
  refine lv_istore_n (lv' := [(2, .int 0), (1, .int (-1)), (0, .ref (E 0))]) hx hb dX2_hottest_3 rfl hl (by decide) rfl (fun ls hl => ?_)
  obtain ⟨b3, hb3, hf⟩ := ob_bind hf
  obtain ⟨n3, hn3⟩ := lp_some hb3
  have kL4 : ∀ (n : Nat) (v1_1 : Int32) (v2_2 : Int32), lpF (fun (q3 : Int32 × Int32) => M_hottest_b4 w q3.1 q3.2) n (v1_1, v2_2) = some b3 → (∀ (H : Heap) (locs : List Loc) (ls : Array Slot), va_P D clM (wl shM 19 dA E w) H → va_S (AE 19 E) s.heap H locs → lv_has ls 3 [(1, .int b3)] → W p l e rmX2_hottest s m args below meth c H locs 0 0 Q (F0 m 48 ls [])) → ∀ (H : Heap) (locs : List Loc) (ls : Array Slot), va_P D clM (wl shM 19 dA E w) H → va_S (AE 19 E) s.heap H locs → lv_has ls 3 [(0, .ref (E 0)), (1, .int v1_1), (2, .int v2_2)] → W p l e rmX2_hottest s m args below meth c H locs 0 0 Q (F0 m 4 ls []) := by
    intro n
    induction n with
    | zero =>
      intro v1_1 v2_2 h
      cases h
    | succ n ih =>
      intro v1_1 v2_2 h K3_0 H locs ls hP hS hl
      obtain ⟨r3, hf, h3a, h3b⟩ := lpF_step h
      replace hf : M_hottest_b4 w v1_1 v2_2 = some r3 := hf
      unfold M_hottest_b4 at hf
      refine lv_iload_n hx hb dX2_hottest_4 rfl (lv_at hl 2 rfl) ?_
      refine lv_aload_n hx hb dX2_hottest_5 rfl (lv_at hl 0 rfl) ?_
      refine xr_get hx hb hts in_X2 hown hK hP 0 (by decide) rfl rfl 0 (by decide) (hts _ q1405) (fun _ h => h) rfl (v := .ref (E 1)) rfl dX2_hottest_6 ?_
      refine lv_iconst (v := 0) hx hb dX2_hottest_9 (by decide) ?_
      refine xr_iald hx hb hK hP 1 (by decide) rfl 0 rfl (j := 0) (vin_c (by decide)) (by decide) dX2_hottest_10 ?_
      refine lv_icmp_ge (tgt := 48) hx hb dX2_hottest_11 (by decide) (fun c4 => ?_) (fun c4 => ?_)
      · replace hf := ob_t hf c4
        obtain rfl := ob_s hf
        obtain rfl := h3b _ rfl
        exact K3_0 H locs ls hP hS (lv_sub hl [1] rfl)
      · replace hf := ob_f hf c4
        refine lv_aload_n hx hb dX2_hottest_14 rfl (lv_at hl 0 rfl) ?_
        refine lv_iload_n hx hb dX2_hottest_15 rfl (lv_at hl 2 rfl) ?_
        obtain ⟨q6, g5, hf⟩ := ob_bind hf
        refine xc_i (xw_run (As := [.int v2_2]) (rest := []) ⟨hx, hb, hml, hown, hts⟩ (k0 := 0) (wkX2_howOf l D dA E hE w v2_2 g5) (cwV 1 hts (lw_V q1737 q1739 qs93 q140 q1740) rfl rfl rfl cdX2_howOf ⟨Nat.le_of_ble_eq_true rfl, Nat.le_of_ble_eq_true rfl⟩) hK hP (by decide) rfl rfl rfl hl.1 rfl rfl (Nat.le_of_ble_eq_true rfl) dX2_hottest_16 ⟨Nat.zero_le _, Nat.zero_le _⟩) hS hD.2 (fun H locs hP hS => ?_)
        refine lv_if_ne (tgt := 42) hx hb dX2_hottest_19 (by decide) (fun c7 => ?_) (fun c7 => ?_)
        · replace hf := ob_f hf c7
          obtain ⟨v2_8, ev2_8, hf⟩ := ob_bnd hf
          refine lv_iinc (v := v2_8) (lv' := [(2, .int v2_8), (0, .ref (E 0)), (1, .int v1_1)]) hx hb dX2_hottest_42 hl (k := 2) rfl (by rw [ev2_8]; rfl) (by decide) rfl (fun ls hl => ?_)
          refine lv_goto (tgt := 4) hx hb dX2_hottest_45 (by decide) ?_
          obtain rfl := ob_s hf
          exact ih _ _ (h3a _ rfl) K3_0 H locs ls hP hS (lv_sub hl [1, 2, 0] rfl)
        · replace hf := ob_t hf c7
          refine lv_iload_n hx hb dX2_hottest_22 rfl (lv_at hl 1 rfl) ?_
          refine lv_iconst (v := (-1)) hx hb dX2_hottest_23 (by decide) ?_
          refine lv_icmp_eq (tgt := 40) hx hb dX2_hottest_24 (by decide) (fun c9 => ?_) (fun c9 => ?_)
          · replace hf := ob_t hf c9
            refine lv_iload_n hx hb dX2_hottest_40 rfl (lv_at hl 2 rfl) ?_
            refine lv_istore_n (lv' := [(1, .int v2_2), (0, .ref (E 0)), (2, .int v2_2)]) hx hb dX2_hottest_41 rfl hl (by decide) rfl (fun ls hl => ?_)
            obtain ⟨v2_10, ev2_10, hf⟩ := ob_bnd hf
            refine lv_iinc (v := v2_10) (lv' := [(2, .int v2_10), (1, .int v2_2), (0, .ref (E 0))]) hx hb dX2_hottest_42 hl (k := 2) rfl (by rw [ev2_10]; rfl) (by decide) rfl (fun ls hl => ?_)
            refine lv_goto (tgt := 4) hx hb dX2_hottest_45 (by decide) ?_
            obtain rfl := ob_s hf
            exact ih _ _ (h3a _ rfl) K3_0 H locs ls hP hS (lv_sub hl [2, 1, 0] rfl)
          · replace hf := ob_f hf c9
            refine lv_aload_n hx hb dX2_hottest_27 rfl (lv_at hl 0 rfl) ?_
            refine lv_iload_n hx hb dX2_hottest_28 rfl (lv_at hl 2 rfl) ?_
            obtain ⟨q12, g11, hf⟩ := ob_bind hf
            refine xc_i (xw_run (As := [.int v2_2]) (rest := []) ⟨hx, hb, hml, hown, hts⟩ (k0 := 0) (wkX2_heatOf l D dA E hE w v2_2 g11) (cwV 1 hts (lw_V q1780 q1782 qs102 q140 q1783) rfl rfl rfl cdX2_heatOf ⟨Nat.le_of_ble_eq_true rfl, Nat.le_of_ble_eq_true rfl⟩) hK hP (by decide) rfl rfl rfl hl.1 rfl rfl (Nat.le_of_ble_eq_true rfl) dX2_hottest_29 ⟨Nat.zero_le _, Nat.zero_le _⟩) hS hD.2 (fun H locs hP hS => ?_)
            refine lv_aload_n hx hb dX2_hottest_32 rfl (lv_at hl 0 rfl) ?_
            refine lv_iload_n hx hb dX2_hottest_33 rfl (lv_at hl 1 rfl) ?_
            obtain ⟨q14, g13, hf⟩ := ob_bind hf
            refine xc_i (xw_run (As := [.int v1_1]) (rest := [.int q12]) ⟨hx, hb, hml, hown, hts⟩ (k0 := 0) (wkX2_heatOf l D dA E hE w v1_1 g13) (cwV 1 hts (lw_V q1780 q1782 qs102 q140 q1783) rfl rfl rfl cdX2_heatOf ⟨Nat.le_of_ble_eq_true rfl, Nat.le_of_ble_eq_true rfl⟩) hK hP (by decide) rfl rfl rfl hl.1 rfl rfl (Nat.le_of_ble_eq_true rfl) dX2_hottest_34 ⟨Nat.zero_le _, Nat.zero_le _⟩) hS hD.2 (fun H locs hP hS => ?_)
            refine lv_icmp_le (tgt := 42) hx hb dX2_hottest_37 (by decide) (fun c15 => ?_) (fun c15 => ?_)
            · replace hf := ob_t hf c15
              obtain ⟨v2_16, ev2_16, hf⟩ := ob_bnd hf
              refine lv_iinc (v := v2_16) (lv' := [(2, .int v2_16), (0, .ref (E 0)), (1, .int v1_1)]) hx hb dX2_hottest_42 hl (k := 2) rfl (by rw [ev2_16]; rfl) (by decide) rfl (fun ls hl => ?_)
              refine lv_goto (tgt := 4) hx hb dX2_hottest_45 (by decide) ?_
              obtain rfl := ob_s hf
              exact ih _ _ (h3a _ rfl) K3_0 H locs ls hP hS (lv_sub hl [1, 2, 0] rfl)
            · replace hf := ob_f hf c15
              refine lv_iload_n hx hb dX2_hottest_40 rfl (lv_at hl 2 rfl) ?_
              refine lv_istore_n (lv' := [(1, .int v2_2), (0, .ref (E 0)), (2, .int v2_2)]) hx hb dX2_hottest_41 rfl hl (by decide) rfl (fun ls hl => ?_)
              obtain ⟨v2_17, ev2_17, hf⟩ := ob_bnd hf
              refine lv_iinc (v := v2_17) (lv' := [(2, .int v2_17), (1, .int v2_2), (0, .ref (E 0))]) hx hb dX2_hottest_42 hl (k := 2) rfl (by rw [ev2_17]; rfl) (by decide) rfl (fun ls hl => ?_)
              refine lv_goto (tgt := 4) hx hb dX2_hottest_45 (by decide) ?_
              obtain rfl := ob_s hf
              exact ih _ _ (h3a _ rfl) K3_0 H locs ls hP hS (lv_sub hl [2, 1, 0] rfl)
  refine kL4 n3 (-1) 0 hn3 (fun H locs ls hP hS hl => ?_) H locs ls hP hS (lv_sub hl [2, 1, 0] rfl)
  replace hf : M_hottest_x4_48 b3 = some res := hf
  unfold M_hottest_x4_48 at hf
  refine lv_iload_n hx hb dX2_hottest_48 rfl (lv_at hl 0 rfl) ?_
  obtain rfl := ob_s hf
  subst hQ
  exact xe_i hx hb hr hlocks hP hS dX2_hottest_49
abbrev rmX2_foretold : Room := { frames := 6, cells := 0, slots := 0, locals := 146 }
theorem cdX2_foretold : yX2_foretold.cls = RX2 ∧ yX2_foretold.cls ≠ "java/lang/invoke/MethodHandle" ∧ yX2_foretold.cls ≠ "java/lang/invoke/VarHandle" ∧ (parseMethodDescriptor yX2_foretold.desc).map (fun d => d.parameters.length) = some 3 := by decide +kernel
set_option maxHeartbeats 4000000 in
set_option maxRecDepth 100000 in
theorem wkX2_foretold (l : Launch) (D : va_G) (dA : Nat → ClassId) (E : Nat → Nat) (hE : wInj 19 E) (w : Mm) (a1 : Int32) (a2 : Int32) (a3 : Int32) {res : Int32 × Mm} (hf : M_foretold w a1 a2 a3 = some res) : Met l yX2_foretold (ws_ yX2_foretold cX2_foretold 6 (some .int)) rmX2_foretold (Pw D clM (tyM dA) shM 19 dA E [.ref (E 0), .int a1, .int a2, .int a3] w) (Qwi D clM shM 19 dA E res.1 res.2) 0 0 (AE 19 E) := by
  refine xm_head (own := RX2) (by decide) rfl (Nat.le_of_ble_eq_true rfl) ?_
  intro p e s m args below meth c ls Q hQ C hP hl
  obtain ⟨hx, hb, hr, hlocks, hml, hown, hts, hK⟩ := C
  replace hl : lv_has ls 6 [(0, .ref (E 0)), (1, .int a1), (2, .int a2), (3, .int a3)] := hl
  have hS : va_S (AE 19 E) s.heap s.heap [] := va_S.rf
  have hD : wD 19 E (AE 19 E) := wD.self hE
  unfold M_foretold at hf
  obtain ⟨H, eH⟩ : ∃ H, H = s.heap := ⟨_, rfl⟩
  obtain ⟨locs, eL⟩ : ∃ locs : List Loc, locs = [] := ⟨_, rfl⟩
  rw [← eL] at hS ⊢
  rw [← eH] at hP
  have hS : va_S (AE 19 E) s.heap H locs := by rw [eH]; exact hS
  show W p l e rmX2_foretold s m args below meth c s.heap locs 0 0 Q (F0 m 0 ls [])
  rw [← eH]
  refine lv_iload_n hx hb dX2_foretold_0 rfl (lv_at hl 1 rfl) ?_
  refine lv_iconst (v := 1) hx hb dX2_foretold_1 (by decide) ?_
  refine lv_bipush (v := 60) hx hb dX2_foretold_2 (by decide) ?_
  obtain ⟨q2, g1, hf⟩ := ob_bind hf
  refine xc_z (xw_runS (As := [.int a1, .int 1, .int 60]) (rest := []) ⟨hx, hb, hml, hown, hts⟩ (wkX2_isIn l D dA E hE w a1 1 60 g1) (va_cwS 3 hts (lw_S q1538 q1539 q140 q1540) rfl rfl rfl cdX2_isIn.2 ⟨Nat.le_of_ble_eq_true rfl, Nat.le_of_ble_eq_true rfl⟩) hK hP hl.1 rfl rfl (Nat.le_of_ble_eq_true rfl) dX2_foretold_4 ⟨Nat.zero_le _, Nat.zero_le _⟩) hS hD.2 (fun H locs zq2 hP hS => ?_)
  refine lv_if_eq (tgt := 27) hx hb dX2_foretold_7 (by decide) (fun c3 => ?_) (fun c3 => ?_)
  · replace hf := ob_t hf c3
    refine lv_bipush (v := (-2)) hx hb dX2_foretold_27 (by decide) ?_
    obtain rfl := ob_s hf
    subst hQ
    exact xe_i hx hb hr hlocks hP hS dX2_foretold_29
  · replace hf := ob_f hf c3
    refine lv_aload_n hx hb dX2_foretold_10 rfl (lv_at hl 0 rfl) ?_
    refine lv_iload_n hx hb dX2_foretold_11 rfl (lv_at hl 2 rfl) ?_
    obtain ⟨q5, g4, hf⟩ := ob_bind hf
    refine xc_z (xw_run (As := [.int a2]) (rest := []) ⟨hx, hb, hml, hown, hts⟩ (k0 := 0) (wkX2_isQuarrel l D dA E hE w a2 g4) (cwV 1 hts (lw_V q1733 q1735 qs92 q140 q1736) rfl rfl rfl cdX2_isQuarrel ⟨Nat.le_of_ble_eq_true rfl, Nat.le_of_ble_eq_true rfl⟩) hK hP (by decide) rfl rfl rfl hl.1 rfl rfl (Nat.le_of_ble_eq_true rfl) dX2_foretold_12 ⟨Nat.zero_le _, Nat.zero_le _⟩) hS hD.2 (fun H locs zq5 hP hS => ?_)
    refine lv_if_eq (tgt := 27) hx hb dX2_foretold_15 (by decide) (fun c6 => ?_) (fun c6 => ?_)
    · replace hf := ob_t hf c6
      refine lv_bipush (v := (-2)) hx hb dX2_foretold_27 (by decide) ?_
      obtain rfl := ob_s hf
      subst hQ
      exact xe_i hx hb hr hlocks hP hS dX2_foretold_29
    · replace hf := ob_f hf c6
      refine lv_iload_n hx hb dX2_foretold_18 rfl (lv_at hl 3 rfl) ?_
      refine lv_iconst (v := 0) hx hb dX2_foretold_19 (by decide) ?_
      refine lv_iconst (v := 2) hx hb dX2_foretold_20 (by decide) ?_
      obtain ⟨q8, g7, hf⟩ := ob_bind hf
      refine xc_z (xw_runS (As := [.int a3, .int 0, .int 2]) (rest := []) ⟨hx, hb, hml, hown, hts⟩ (wkX2_isIn l D dA E hE w a3 0 2 g7) (va_cwS 3 hts (lw_S q1538 q1539 q140 q1540) rfl rfl rfl cdX2_isIn.2 ⟨Nat.le_of_ble_eq_true rfl, Nat.le_of_ble_eq_true rfl⟩) hK hP hl.1 rfl rfl (Nat.le_of_ble_eq_true rfl) dX2_foretold_21 ⟨Nat.zero_le _, Nat.zero_le _⟩) hS hD.2 (fun H locs zq8 hP hS => ?_)
      refine lv_if_ne (tgt := 30) hx hb dX2_foretold_24 (by decide) (fun c9 => ?_) (fun c9 => ?_)
      · replace hf := ob_f hf c9
        refine lv_bipush (v := 7) hx hb dX2_foretold_30 (by decide) ?_
        refine lv_istore (lv' := [(4, .int 7), (0, .ref (E 0)), (1, .int a1), (2, .int a2), (3, .int a3)]) hx hb dX2_foretold_32 hl (by decide) rfl (fun ls hl => ?_)
        obtain ⟨b12, hb12, hf⟩ := ob_bind hf
        obtain ⟨n12, hn12⟩ := lp_some hb12
        have kL34 : ∀ (n : Nat) (w10 : Mm) (v4_11 : Int32), lpF (fun (q12 : Mm × Int32) => M_foretold_b34 q12.1 q12.2) n (w10, v4_11) = some b12 → (∀ (H : Heap) (locs : List Loc) (ls : Array Slot), va_P D clM (wl shM 19 dA E b12) H → va_S (AE 19 E) s.heap H locs → lv_has ls 6 [(0, .ref (E 0)), (1, .int a1), (2, .int a2), (3, .int a3)] → W p l e rmX2_foretold s m args below meth c H locs 0 0 Q (F0 m 61 ls [])) → ∀ (H : Heap) (locs : List Loc) (ls : Array Slot), va_P D clM (wl shM 19 dA E w10) H → va_S (AE 19 E) s.heap H locs → lv_has ls 6 [(0, .ref (E 0)), (1, .int a1), (2, .int a2), (3, .int a3), (4, .int v4_11)] → W p l e rmX2_foretold s m args below meth c H locs 0 0 Q (F0 m 34 ls []) := by
          intro n
          induction n with
          | zero =>
            intro w10 v4_11 h
            cases h
          | succ n ih =>
            intro w10 v4_11 h K12_0 H locs ls hP hS hl
            obtain ⟨r12, hf, h12a, h12b⟩ := lpF_step h
            replace hf : M_foretold_b34 w10 v4_11 = some r12 := hf
            unfold M_foretold_b34 at hf
            refine lv_iload hx hb dX2_foretold_34 (lv_at hl 4 rfl) ?_
            refine lv_bipush (v := 36) hx hb dX2_foretold_36 (by decide) ?_
            refine lv_icmp_ge (tgt := 61) hx hb dX2_foretold_38 (by decide) (fun c13 => ?_) (fun c13 => ?_)
            · replace hf := ob_t hf c13
              obtain rfl := ob_s hf
              obtain rfl := h12b _ rfl
              exact K12_0 H locs ls hP hS (lv_sub hl [0, 1, 2, 3] rfl)
            · replace hf := ob_f hf c13
              refine lv_aload_n hx hb dX2_foretold_41 rfl (lv_at hl 0 rfl) ?_
              refine xr_get hx hb hts in_X2 hown hK hP 0 (by decide) rfl rfl 25 (by decide) (hts _ q1430) (fun _ h => h) rfl (v := .ref (E 9)) rfl dX2_foretold_42 ?_
              refine lv_iload hx hb dX2_foretold_45 (lv_at hl 4 rfl) ?_
              refine lv_aload_n hx hb dX2_foretold_47 rfl (lv_at hl 0 rfl) ?_
              refine xr_get hx hb hts in_X2 hown hK hP 0 (by decide) rfl rfl 0 (by decide) (hts _ q1405) (fun _ h => h) rfl (v := .ref (E 1)) rfl dX2_foretold_48 ?_
              refine lv_iload hx hb dX2_foretold_51 (lv_at hl 4 rfl) ?_
              obtain ⟨h14, hf⟩ := ob_gd hf
              refine xr_iald hx hb hK hP 1 (by decide) rfl 0 rfl (j := v4_11.toNatClampNeg) h14 rfl dX2_foretold_53 ?_
              obtain ⟨h15, hf⟩ := ob_gd hf
              obtain ⟨w16, ew16, hf⟩ := ob_bnd hf
              refine xr_iast hx hb hK hP hD hS 9 (by decide) rfl 0 rfl (j := v4_11.toNatClampNeg) (w' := w16) h15 rfl ew16 dX2_foretold_54 (fun H locs hP hS => ?_)
              obtain ⟨v4_17, ev4_17, hf⟩ := ob_bnd hf
              refine lv_iinc (v := v4_17) (lv' := [(4, .int v4_17), (0, .ref (E 0)), (1, .int a1), (2, .int a2), (3, .int a3)]) hx hb dX2_foretold_55 hl (k := 4) rfl (by rw [ev4_17]; rfl) (by decide) rfl (fun ls hl => ?_)
              refine lv_goto (tgt := 34) hx hb dX2_foretold_58 (by decide) ?_
              obtain rfl := ob_s hf
              exact ih _ _ (h12a _ rfl) K12_0 H locs ls hP hS (lv_sub hl [1, 2, 3, 4, 0] rfl)
        refine kL34 n12 w 7 hn12 (fun H locs ls hP hS hl => ?_) H locs ls hP hS (lv_sub hl [1, 2, 3, 4, 0] rfl)
        replace hf : M_foretold_x34_61 b12 a1 a3 a2 = some res := hf
        unfold M_foretold_x34_61 at hf
        refine lv_aload_n hx hb dX2_foretold_61 rfl (lv_at hl 0 rfl) ?_
        refine lv_iconst (v := 0) hx hb dX2_foretold_62 (by decide) ?_
        obtain ⟨w18, ew18, hf⟩ := ob_bnd hf
        refine xr_put hx hb hts in_X2 tyX2 tyX2_ok nmX2 hown hK hP hD hS 0 (by decide) rfl rfl 23 (by decide) (hts _ q1428) (fun _ h => h) rfl (by decide +kernel) (by decide +kernel) rfl (w' := w18) ew18 dX2_foretold_63 (fun H locs hP hS => ?_)
        refine lv_iconst (v := 0) hx hb dX2_foretold_66 (by decide) ?_
        refine lv_istore (lv' := [(4, .int 0), (0, .ref (E 0)), (1, .int a1), (2, .int a2), (3, .int a3)]) hx hb dX2_foretold_67 hl (by decide) rfl (fun ls hl => ?_)
        obtain ⟨b21, hb21, hf⟩ := ob_bind hf
        obtain ⟨n21, hn21⟩ := lp_some hb21
        have kL69 : ∀ (n : Nat) (w19 : Mm) (v4_20 : Int32), lpF (fun (q21 : Mm × Int32) => M_foretold_b69 a1 q21.1 q21.2) n (w19, v4_20) = some b21 → (∀ (H : Heap) (locs : List Loc) (ls : Array Slot), va_P D clM (wl shM 19 dA E b21) H → va_S (AE 19 E) s.heap H locs → lv_has ls 6 [(0, .ref (E 0)), (2, .int a2), (3, .int a3)] → W p l e rmX2_foretold s m args below meth c H locs 0 0 Q (F0 m 98 ls [])) → ∀ (H : Heap) (locs : List Loc) (ls : Array Slot), va_P D clM (wl shM 19 dA E w19) H → va_S (AE 19 E) s.heap H locs → lv_has ls 6 [(0, .ref (E 0)), (1, .int a1), (2, .int a2), (3, .int a3), (4, .int v4_20)] → W p l e rmX2_foretold s m args below meth c H locs 0 0 Q (F0 m 69 ls []) := by
          intro n
          induction n with
          | zero =>
            intro w19 v4_20 h
            cases h
          | succ n ih =>
            intro w19 v4_20 h K21_0 H locs ls hP hS hl
            obtain ⟨r21, hf, h21a, h21b⟩ := lpF_step h
            replace hf : M_foretold_b69 a1 w19 v4_20 = some r21 := hf
            unfold M_foretold_b69 at hf
            refine lv_iload hx hb dX2_foretold_69 (lv_at hl 4 rfl) ?_
            refine lv_iload_n hx hb dX2_foretold_71 rfl (lv_at hl 1 rfl) ?_
            refine lv_icmp_ge (tgt := 98) hx hb dX2_foretold_72 (by decide) (fun c22 => ?_) (fun c22 => ?_)
            · replace hf := ob_t hf c22
              obtain rfl := ob_s hf
              obtain rfl := h21b _ rfl
              exact K21_0 H locs ls hP hS (lv_sub hl [0, 2, 3] rfl)
            · replace hf := ob_f hf c22
              refine lv_aload_n hx hb dX2_foretold_75 rfl (lv_at hl 0 rfl) ?_
              refine xr_get hx hb hts in_X2 hown hK hP 0 (by decide) rfl rfl 0 (by decide) (hts _ q1405) (fun _ h => h) rfl (v := .ref (E 1)) rfl dX2_foretold_76 ?_
              refine lv_bipush (v := 7) hx hb dX2_foretold_79 (by decide) ?_
              refine xr_iald hx hb hK hP 1 (by decide) rfl 0 rfl (j := 7) (vin_c (by decide)) (by decide) dX2_foretold_81 ?_
              refine lv_sipush (v := 9999) hx hb dX2_foretold_82 (by decide) ?_
              refine lv_icmp_ge (tgt := 92) hx hb dX2_foretold_85 (by decide) (fun c23 => ?_) (fun c23 => ?_)
              · replace hf := ob_t hf c23
                obtain ⟨v4_24, ev4_24, hf⟩ := ob_bnd hf
                refine lv_iinc (v := v4_24) (lv' := [(4, .int v4_24), (0, .ref (E 0)), (1, .int a1), (2, .int a2), (3, .int a3)]) hx hb dX2_foretold_92 hl (k := 4) rfl (by rw [ev4_24]; rfl) (by decide) rfl (fun ls hl => ?_)
                refine lv_goto (tgt := 69) hx hb dX2_foretold_95 (by decide) ?_
                obtain rfl := ob_s hf
                exact ih _ _ (h21a _ rfl) K21_0 H locs ls hP hS (lv_sub hl [1, 2, 3, 4, 0] rfl)
              · replace hf := ob_f hf c23
                refine lv_aload_n hx hb dX2_foretold_88 rfl (lv_at hl 0 rfl) ?_
                obtain ⟨q26, g25, hf⟩ := ob_bind hf
                refine xc_v (xw_run (As := []) (rest := []) ⟨hx, hb, hml, hown, hts⟩ (k0 := 0) (wkX2_pass l D dA E hE w19 g25) (cwV 0 hts (lw_V q1837 q1839 qs110 q140 q1840) rfl rfl rfl cdX2_pass ⟨Nat.le_of_ble_eq_true rfl, Nat.le_of_ble_eq_true rfl⟩) hK hP (by decide) rfl rfl rfl hl.1 rfl rfl (Nat.le_of_ble_eq_true rfl) dX2_foretold_89 ⟨Nat.zero_le _, Nat.zero_le _⟩) hS hD.2 (fun H locs hP hS => ?_)
                obtain ⟨v4_27, ev4_27, hf⟩ := ob_bnd hf
                refine lv_iinc (v := v4_27) (lv' := [(4, .int v4_27), (0, .ref (E 0)), (1, .int a1), (2, .int a2), (3, .int a3)]) hx hb dX2_foretold_92 hl (k := 4) rfl (by rw [ev4_27]; rfl) (by decide) rfl (fun ls hl => ?_)
                refine lv_goto (tgt := 69) hx hb dX2_foretold_95 (by decide) ?_
                obtain rfl := ob_s hf
                exact ih _ _ (h21a _ rfl) K21_0 H locs ls hP hS (lv_sub hl [1, 2, 3, 4, 0] rfl)
        refine kL69 n21 w18 0 hn21 (fun H locs ls hP hS hl => ?_) H locs ls hP hS (lv_sub hl [1, 2, 3, 4, 0] rfl)
        replace hf : M_foretold_x69_98 a3 b21 a2 = some res := hf
        unfold M_foretold_x69_98 at hf
        refine lv_iload_n hx hb dX2_foretold_98 rfl (lv_at hl 2 rfl) ?_
        have kj128 : ∀ (t28 : Int32) (w29 : Mm) (H : Heap) (locs : List Loc) (ls : Array Slot), M_foretold_j128 w29 t28 = some res → va_P D clM (wl shM 19 dA E w29) H → va_S (AE 19 E) s.heap H locs → lv_has ls 6 [(0, .ref (E 0))] → W p l e rmX2_foretold s m args below meth c H locs 0 0 Q (F0 m 128 ls [.int t28]) := by
          intro t28 w29 H locs ls hf hP hS hl
          unfold M_foretold_j128 at hf
          refine lv_istore (lv' := [(4, .int t28), (0, .ref (E 0))]) hx hb dX2_foretold_128 hl (by decide) rfl (fun ls hl => ?_)
          refine lv_bipush (v := 7) hx hb dX2_foretold_130 (by decide) ?_
          refine lv_istore (lv' := [(5, .int 7), (4, .int t28), (0, .ref (E 0))]) hx hb dX2_foretold_132 hl (by decide) rfl (fun ls hl => ?_)
          obtain ⟨b32, hb32, hf⟩ := ob_bind hf
          obtain ⟨n32, hn32⟩ := lp_some hb32
          have kL134 : ∀ (n : Nat) (w30 : Mm) (v5_31 : Int32), lpF (fun (q32 : Mm × Int32) => M_foretold_b134 q32.1 q32.2) n (w30, v5_31) = some b32 → (∀ (H : Heap) (locs : List Loc) (ls : Array Slot), va_P D clM (wl shM 19 dA E b32) H → va_S (AE 19 E) s.heap H locs → lv_has ls 6 [(0, .ref (E 0)), (4, .int t28)] → W p l e rmX2_foretold s m args below meth c H locs 0 0 Q (F0 m 161 ls [])) → ∀ (H : Heap) (locs : List Loc) (ls : Array Slot), va_P D clM (wl shM 19 dA E w30) H → va_S (AE 19 E) s.heap H locs → lv_has ls 6 [(0, .ref (E 0)), (4, .int t28), (5, .int v5_31)] → W p l e rmX2_foretold s m args below meth c H locs 0 0 Q (F0 m 134 ls []) := by
            intro n
            induction n with
            | zero =>
              intro w30 v5_31 h
              cases h
            | succ n ih =>
              intro w30 v5_31 h K32_0 H locs ls hP hS hl
              obtain ⟨r32, hf, h32a, h32b⟩ := lpF_step h
              replace hf : M_foretold_b134 w30 v5_31 = some r32 := hf
              unfold M_foretold_b134 at hf
              refine lv_iload hx hb dX2_foretold_134 (lv_at hl 2 rfl) ?_
              refine lv_bipush (v := 36) hx hb dX2_foretold_136 (by decide) ?_
              refine lv_icmp_ge (tgt := 161) hx hb dX2_foretold_138 (by decide) (fun c33 => ?_) (fun c33 => ?_)
              · replace hf := ob_t hf c33
                obtain rfl := ob_s hf
                obtain rfl := h32b _ rfl
                exact K32_0 H locs ls hP hS (lv_sub hl [0, 1] rfl)
              · replace hf := ob_f hf c33
                refine lv_aload_n hx hb dX2_foretold_141 rfl (lv_at hl 0 rfl) ?_
                refine xr_get hx hb hts in_X2 hown hK hP 0 (by decide) rfl rfl 0 (by decide) (hts _ q1405) (fun _ h => h) rfl (v := .ref (E 1)) rfl dX2_foretold_142 ?_
                refine lv_iload hx hb dX2_foretold_145 (lv_at hl 2 rfl) ?_
                refine lv_aload_n hx hb dX2_foretold_147 rfl (lv_at hl 0 rfl) ?_
                refine xr_get hx hb hts in_X2 hown hK hP 0 (by decide) rfl rfl 25 (by decide) (hts _ q1430) (fun _ h => h) rfl (v := .ref (E 9)) rfl dX2_foretold_148 ?_
                refine lv_iload hx hb dX2_foretold_151 (lv_at hl 2 rfl) ?_
                obtain ⟨h34, hf⟩ := ob_gd hf
                refine xr_iald hx hb hK hP 9 (by decide) rfl 0 rfl (j := v5_31.toNatClampNeg) h34 rfl dX2_foretold_153 ?_
                obtain ⟨h35, hf⟩ := ob_gd hf
                obtain ⟨w36, ew36, hf⟩ := ob_bnd hf
                refine xr_iast hx hb hK hP hD hS 1 (by decide) rfl 0 rfl (j := v5_31.toNatClampNeg) (w' := w36) h35 rfl ew36 dX2_foretold_154 (fun H locs hP hS => ?_)
                obtain ⟨v5_37, ev5_37, hf⟩ := ob_bnd hf
                refine lv_iinc (v := v5_37) (lv' := [(5, .int v5_37), (0, .ref (E 0)), (4, .int t28)]) hx hb dX2_foretold_155 hl (k := 2) rfl (by rw [ev5_37]; rfl) (by decide) rfl (fun ls hl => ?_)
                refine lv_goto (tgt := 134) hx hb dX2_foretold_158 (by decide) ?_
                obtain rfl := ob_s hf
                exact ih _ _ (h32a _ rfl) K32_0 H locs ls hP hS (lv_sub hl [1, 2, 0] rfl)
          refine kL134 n32 w29 7 hn32 (fun H locs ls hP hS hl => ?_) H locs ls hP hS (lv_sub hl [2, 1, 0] rfl)
          replace hf : M_foretold_x134_161 b32 t28 = some res := hf
          unfold M_foretold_x134_161 at hf
          refine lv_aload_n hx hb dX2_foretold_161 rfl (lv_at hl 0 rfl) ?_
          refine lv_iconst (v := 1) hx hb dX2_foretold_162 (by decide) ?_
          obtain ⟨w38, ew38, hf⟩ := ob_bnd hf
          refine xr_put hx hb hts in_X2 tyX2 tyX2_ok nmX2 hown hK hP hD hS 0 (by decide) rfl rfl 23 (by decide) (hts _ q1428) (fun _ h => h) rfl (by decide +kernel) (by decide +kernel) rfl (w' := w38) ew38 dX2_foretold_163 (fun H locs hP hS => ?_)
          refine lv_iload hx hb dX2_foretold_166 (lv_at hl 1 rfl) ?_
          obtain rfl := ob_s hf
          subst hQ
          exact xe_i hx hb hr hlocks hP hS dX2_foretold_168
        refine lv_if_ne (tgt := 110) hx hb dX2_foretold_99 (by decide) (fun c39 => ?_) (fun c39 => ?_)
        · replace hf := ob_f hf c39
          refine lv_iload_n hx hb dX2_foretold_110 rfl (lv_at hl 2 rfl) ?_
          refine lv_iconst (v := 1) hx hb dX2_foretold_111 (by decide) ?_
          refine lv_icmp_ne (tgt := 123) hx hb dX2_foretold_112 (by decide) (fun c40 => ?_) (fun c40 => ?_)
          · replace hf := ob_f hf c40
            refine lv_aload_n hx hb dX2_foretold_123 rfl (lv_at hl 0 rfl) ?_
            refine lv_iload_n hx hb dX2_foretold_124 rfl (lv_at hl 1 rfl) ?_
            obtain ⟨q42, g41, hf⟩ := ob_bind hf
            refine xc_i (xw_run (As := [.int a2]) (rest := []) ⟨hx, hb, hml, hown, hts⟩ (k0 := 0) (wkX2_duesOf l D dA E hE b21 a2 g41) (cwV 1 hts (lw_V q1768 q1770 qs99 q140 q1771) rfl rfl rfl cdX2_duesOf ⟨Nat.le_of_ble_eq_true rfl, Nat.le_of_ble_eq_true rfl⟩) hK hP (by decide) rfl rfl rfl hl.1 rfl rfl (Nat.le_of_ble_eq_true rfl) dX2_foretold_125 ⟨Nat.zero_le _, Nat.zero_le _⟩) hS hD.2 (fun H locs hP hS => ?_)
            exact kj128 q42.1 q42.2 H locs ls hf hP hS (lv_sub hl [0] rfl)
          · replace hf := ob_t hf c40
            refine lv_aload_n hx hb dX2_foretold_115 rfl (lv_at hl 0 rfl) ?_
            refine lv_iload_n hx hb dX2_foretold_116 rfl (lv_at hl 1 rfl) ?_
            obtain ⟨q44, g43, hf⟩ := ob_bind hf
            refine xc_i (xw_run (As := [.int a2]) (rest := []) ⟨hx, hb, hml, hown, hts⟩ (k0 := 0) (wkX2_heatOf l D dA E hE b21 a2 g43) (cwV 1 hts (lw_V q1780 q1782 qs102 q140 q1783) rfl rfl rfl cdX2_heatOf ⟨Nat.le_of_ble_eq_true rfl, Nat.le_of_ble_eq_true rfl⟩) hK hP (by decide) rfl rfl rfl hl.1 rfl rfl (Nat.le_of_ble_eq_true rfl) dX2_foretold_117 ⟨Nat.zero_le _, Nat.zero_le _⟩) hS hD.2 (fun H locs hP hS => ?_)
            refine lv_goto (tgt := 128) hx hb dX2_foretold_120 (by decide) ?_
            exact kj128 q44 b21 H locs ls hf hP hS (lv_sub hl [0] rfl)
        · replace hf := ob_t hf c39
          refine lv_aload_n hx hb dX2_foretold_102 rfl (lv_at hl 0 rfl) ?_
          refine lv_iload_n hx hb dX2_foretold_103 rfl (lv_at hl 1 rfl) ?_
          obtain ⟨q46, g45, hf⟩ := ob_bind hf
          refine xc_i (xw_run (As := [.int a2]) (rest := []) ⟨hx, hb, hml, hown, hts⟩ (k0 := 0) (wkX2_howOf l D dA E hE b21 a2 g45) (cwV 1 hts (lw_V q1737 q1739 qs93 q140 q1740) rfl rfl rfl cdX2_howOf ⟨Nat.le_of_ble_eq_true rfl, Nat.le_of_ble_eq_true rfl⟩) hK hP (by decide) rfl rfl rfl hl.1 rfl rfl (Nat.le_of_ble_eq_true rfl) dX2_foretold_104 ⟨Nat.zero_le _, Nat.zero_le _⟩) hS hD.2 (fun H locs hP hS => ?_)
          refine lv_goto (tgt := 128) hx hb dX2_foretold_107 (by decide) ?_
          exact kj128 q46 b21 H locs ls hf hP hS (lv_sub hl [0] rfl)
      · replace hf := ob_t hf c9
        refine lv_bipush (v := (-2)) hx hb dX2_foretold_27 (by decide) ?_
        obtain rfl := ob_s hf
        subst hQ
        exact xe_i hx hb hr hlocks hP hS dX2_foretold_29
abbrev rmX2_areTwo : Room := { frames := 2, cells := 0, slots := 0, locals := 42 }
theorem cdX2_areTwo : yX2_areTwo.cls = RX2 ∧ yX2_areTwo.cls ≠ "java/lang/invoke/MethodHandle" ∧ yX2_areTwo.cls ≠ "java/lang/invoke/VarHandle" ∧ (parseMethodDescriptor yX2_areTwo.desc).map (fun d => d.parameters.length) = some 2 := by decide +kernel
set_option maxHeartbeats 4000000 in
set_option maxRecDepth 100000 in
theorem wkX2_areTwo (l : Launch) (D : va_G) (dA : Nat → ClassId) (E : Nat → Nat) (hE : wInj 19 E) (w : Mm) (a0 : Int32) (a1 : Int32) {res : Int32} (hf : M_areTwo a0 a1 = some res) : Met l yX2_areTwo (ws_ yX2_areTwo cX2_areTwo 2 (some .boolean)) rmX2_areTwo (Pw D clM (tyM dA) shM 19 dA E [.int a0, .int a1] w) (Qwz D clM shM 19 dA E res w) 0 0 (AE 19 E) := by
  refine xm_head (own := RX2) (by decide) rfl (Nat.le_of_ble_eq_true rfl) ?_
  intro p e s m args below meth c ls Q hQ C hP hl
  obtain ⟨hx, hb, hr, hlocks, hml, hown, hts, hK⟩ := C
  replace hl : lv_has ls 2 [(0, .int a0), (1, .int a1)] := hl
  have hS : va_S (AE 19 E) s.heap s.heap [] := va_S.rf
  have hD : wD 19 E (AE 19 E) := wD.self hE
  unfold M_areTwo at hf
  obtain ⟨H, eH⟩ : ∃ H, H = s.heap := ⟨_, rfl⟩
  obtain ⟨locs, eL⟩ : ∃ locs : List Loc, locs = [] := ⟨_, rfl⟩
  rw [← eL] at hS ⊢
  rw [← eH] at hP
  have hS : va_S (AE 19 E) s.heap H locs := by rw [eH]; exact hS
  show W p l e rmX2_areTwo s m args below meth c s.heap locs 0 0 Q (F0 m 0 ls [])
  rw [← eH]
  refine lv_iload_n hx hb dX2_areTwo_0 rfl (lv_at hl 0 rfl) ?_
  obtain ⟨q2, g1, hf⟩ := ob_bind hf
  refine xc_z (xw_runS (As := [.int a0]) (rest := []) ⟨hx, hb, hml, hown, hts⟩ (wkX2_isPerson l D dA E hE w a0 g1) (va_cwS 1 hts (lw_S q1535 q1536 q140 q1537) rfl rfl rfl cdX2_isPerson.2 ⟨Nat.le_of_ble_eq_true rfl, Nat.le_of_ble_eq_true rfl⟩) hK hP hl.1 rfl rfl (Nat.le_of_ble_eq_true rfl) dX2_areTwo_1 ⟨Nat.zero_le _, Nat.zero_le _⟩) hS hD.2 (fun H locs zq2 hP hS => ?_)
  refine lv_if_eq (tgt := 23) hx hb dX2_areTwo_4 (by decide) (fun c3 => ?_) (fun c3 => ?_)
  · replace hf := ob_t hf c3
    refine lv_iconst (v := 0) hx hb dX2_areTwo_23 (by decide) ?_
    obtain rfl := ob_s hf
    subst hQ
    exact xe_z hx hb hr hlocks hP hS (Or.inl rfl) dX2_areTwo_24
  · replace hf := ob_f hf c3
    refine lv_iload_n hx hb dX2_areTwo_7 rfl (lv_at hl 1 rfl) ?_
    obtain ⟨q5, g4, hf⟩ := ob_bind hf
    refine xc_z (xw_runS (As := [.int a1]) (rest := []) ⟨hx, hb, hml, hown, hts⟩ (wkX2_isPerson l D dA E hE w a1 g4) (va_cwS 1 hts (lw_S q1535 q1536 q140 q1537) rfl rfl rfl cdX2_isPerson.2 ⟨Nat.le_of_ble_eq_true rfl, Nat.le_of_ble_eq_true rfl⟩) hK hP hl.1 rfl rfl (Nat.le_of_ble_eq_true rfl) dX2_areTwo_8 ⟨Nat.zero_le _, Nat.zero_le _⟩) hS hD.2 (fun H locs zq5 hP hS => ?_)
    refine lv_if_eq (tgt := 23) hx hb dX2_areTwo_11 (by decide) (fun c6 => ?_) (fun c6 => ?_)
    · replace hf := ob_t hf c6
      refine lv_iconst (v := 0) hx hb dX2_areTwo_23 (by decide) ?_
      obtain rfl := ob_s hf
      subst hQ
      exact xe_z hx hb hr hlocks hP hS (Or.inl rfl) dX2_areTwo_24
    · replace hf := ob_f hf c6
      refine lv_iload_n hx hb dX2_areTwo_14 rfl (lv_at hl 0 rfl) ?_
      refine lv_iload_n hx hb dX2_areTwo_15 rfl (lv_at hl 1 rfl) ?_
      refine lv_icmp_eq (tgt := 23) hx hb dX2_areTwo_16 (by decide) (fun c7 => ?_) (fun c7 => ?_)
      · replace hf := ob_t hf c7
        refine lv_iconst (v := 0) hx hb dX2_areTwo_23 (by decide) ?_
        obtain rfl := ob_s hf
        subst hQ
        exact xe_z hx hb hr hlocks hP hS (Or.inl rfl) dX2_areTwo_24
      · replace hf := ob_f hf c7
        refine lv_iconst (v := 1) hx hb dX2_areTwo_19 (by decide) ?_
        refine lv_goto (tgt := 24) hx hb dX2_areTwo_20 (by decide) ?_
        obtain rfl := ob_s hf
        subst hQ
        exact xe_z hx hb hr hlocks hP hS (Or.inr rfl) dX2_areTwo_24
abbrev rmX2_isOfTwo : Room := { frames := 0, cells := 0, slots := 0, locals := 0 }
theorem cdX2_isOfTwo : yX2_isOfTwo.cls = RX2 ∧ yX2_isOfTwo.cls ≠ "java/lang/invoke/MethodHandle" ∧ yX2_isOfTwo.cls ≠ "java/lang/invoke/VarHandle" ∧ (parseMethodDescriptor yX2_isOfTwo.desc).map (fun d => d.parameters.length) = some 3 := by decide +kernel
set_option maxHeartbeats 4000000 in
set_option maxRecDepth 100000 in
theorem wkX2_isOfTwo (l : Launch) (D : va_G) (dA : Nat → ClassId) (E : Nat → Nat) (hE : wInj 19 E) (w : Mm) (a1 : Int32) (a2 : Int32) (a3 : Int32) {res : Int32} (hf : M_isOfTwo w a1 a2 a3 = some res) : Met l yX2_isOfTwo (ws_ yX2_isOfTwo cX2_isOfTwo 5 (some .boolean)) rmX2_isOfTwo (Pw D clM (tyM dA) shM 19 dA E [.ref (E 0), .int a1, .int a2, .int a3] w) (Qwz D clM shM 19 dA E res w) 0 0 (AE 19 E) := by
  refine xm_head (own := RX2) (by decide) rfl (Nat.le_of_ble_eq_true rfl) ?_
  intro p e s m args below meth c ls Q hQ C hP hl
  obtain ⟨hx, hb, hr, hlocks, hml, hown, hts, hK⟩ := C
  replace hl : lv_has ls 5 [(0, .ref (E 0)), (1, .int a1), (2, .int a2), (3, .int a3)] := hl
  have hS : va_S (AE 19 E) s.heap s.heap [] := va_S.rf
  have hD : wD 19 E (AE 19 E) := wD.self hE
  unfold M_isOfTwo at hf
  obtain ⟨H, eH⟩ : ∃ H, H = s.heap := ⟨_, rfl⟩
  obtain ⟨locs, eL⟩ : ∃ locs : List Loc, locs = [] := ⟨_, rfl⟩
  rw [← eL] at hS ⊢
  rw [← eH] at hP
  have hS : va_S (AE 19 E) s.heap H locs := by rw [eH]; exact hS
  show W p l e rmX2_isOfTwo s m args below meth c s.heap locs 0 0 Q (F0 m 0 ls [])
  rw [← eH]
  refine lv_bipush (v := 36) hx hb dX2_isOfTwo_0 (by decide) ?_
  refine lv_iconst (v := 2) hx hb dX2_isOfTwo_2 (by decide) ?_
  refine lv_iload_n hx hb dX2_isOfTwo_3 rfl (lv_at hl 1 rfl) ?_
  refine lv_imul hx hb dX2_isOfTwo_4 ?_
  refine lv_iadd hx hb dX2_isOfTwo_5 ?_
  obtain ⟨v4_1, ev4_1, hf⟩ := ob_bnd hf
  refine xn_i ev4_1 ?_
  refine lv_istore (lv' := [(4, .int v4_1), (0, .ref (E 0)), (1, .int a1), (2, .int a2), (3, .int a3)]) hx hb dX2_isOfTwo_6 hl (by decide) rfl (fun ls hl => ?_)
  refine lv_aload_n hx hb dX2_isOfTwo_8 rfl (lv_at hl 1 rfl) ?_
  refine xr_get hx hb hts in_X2 hown hK hP 0 (by decide) rfl rfl 0 (by decide) (hts _ q1405) (fun _ h => h) rfl (v := .ref (E 1)) rfl dX2_isOfTwo_9 ?_
  refine lv_iload hx hb dX2_isOfTwo_12 (lv_at hl 0 rfl) ?_
  obtain ⟨h2, hf⟩ := ob_gd hf
  refine xr_iald hx hb hK hP 1 (by decide) rfl 0 rfl (j := v4_1.toNatClampNeg) h2 rfl dX2_isOfTwo_14 ?_
  refine lv_iload_n hx hb dX2_isOfTwo_15 rfl (lv_at hl 3 rfl) ?_
  have kj56 : ∀ (H : Heap) (locs : List Loc) (ls : Array Slot), M_isOfTwo_j56 = some res → va_P D clM (wl shM 19 dA E w) H → va_S (AE 19 E) s.heap H locs → lv_has ls 5 [] → W p l e rmX2_isOfTwo s m args below meth c H locs 0 0 Q (F0 m 56 ls []) := by
    intro H locs ls hf hP hS hl
    unfold M_isOfTwo_j56 at hf
    refine lv_iconst (v := 1) hx hb dX2_isOfTwo_56 (by decide) ?_
    refine lv_goto (tgt := 61) hx hb dX2_isOfTwo_57 (by decide) ?_
    obtain rfl := ob_s hf
    subst hQ
    exact xe_z hx hb hr hlocks hP hS (Or.inr rfl) dX2_isOfTwo_61
  have kj32 : ∀ (H : Heap) (locs : List Loc) (ls : Array Slot), M_isOfTwo_j32 v4_1 w a3 a2 = some res → va_P D clM (wl shM 19 dA E w) H → va_S (AE 19 E) s.heap H locs → lv_has ls 5 [(0, .ref (E 0)), (2, .int a2), (3, .int a3), (4, .int v4_1)] → W p l e rmX2_isOfTwo s m args below meth c H locs 0 0 Q (F0 m 32 ls []) := by
    intro H locs ls hf hP hS hl
    unfold M_isOfTwo_j32 at hf
    refine lv_aload_n hx hb dX2_isOfTwo_32 rfl (lv_at hl 0 rfl) ?_
    refine xr_get hx hb hts in_X2 hown hK hP 0 (by decide) rfl rfl 0 (by decide) (hts _ q1405) (fun _ h => h) rfl (v := .ref (E 1)) rfl dX2_isOfTwo_33 ?_
    refine lv_iload hx hb dX2_isOfTwo_36 (lv_at hl 3 rfl) ?_
    obtain ⟨h3, hf⟩ := ob_gd hf
    refine xr_iald hx hb hK hP 1 (by decide) rfl 0 rfl (j := v4_1.toNatClampNeg) h3 rfl dX2_isOfTwo_38 ?_
    refine lv_iload_n hx hb dX2_isOfTwo_39 rfl (lv_at hl 2 rfl) ?_
    refine lv_icmp_ne (tgt := 60) hx hb dX2_isOfTwo_40 (by decide) (fun c4 => ?_) (fun c4 => ?_)
    · replace hf := ob_f hf c4
      refine lv_iconst (v := 0) hx hb dX2_isOfTwo_60 (by decide) ?_
      obtain rfl := ob_s hf
      subst hQ
      exact xe_z hx hb hr hlocks hP hS (Or.inl rfl) dX2_isOfTwo_61
    · replace hf := ob_t hf c4
      refine lv_aload_n hx hb dX2_isOfTwo_43 rfl (lv_at hl 0 rfl) ?_
      refine xr_get hx hb hts in_X2 hown hK hP 0 (by decide) rfl rfl 0 (by decide) (hts _ q1405) (fun _ h => h) rfl (v := .ref (E 1)) rfl dX2_isOfTwo_44 ?_
      refine lv_iload hx hb dX2_isOfTwo_47 (lv_at hl 3 rfl) ?_
      refine lv_iconst (v := 1) hx hb dX2_isOfTwo_49 (by decide) ?_
      refine lv_iadd hx hb dX2_isOfTwo_50 ?_
      obtain ⟨h5, hf⟩ := ob_gd hf
      refine xr_iald hx hb hK hP 1 (by decide) rfl 0 rfl (j := (v4_1 + 1).toNatClampNeg) h5 rfl dX2_isOfTwo_51 ?_
      refine lv_iload_n hx hb dX2_isOfTwo_52 rfl (lv_at hl 1 rfl) ?_
      refine lv_icmp_ne (tgt := 60) hx hb dX2_isOfTwo_53 (by decide) (fun c6 => ?_) (fun c6 => ?_)
      · replace hf := ob_f hf c6
        refine lv_iconst (v := 0) hx hb dX2_isOfTwo_60 (by decide) ?_
        obtain rfl := ob_s hf
        subst hQ
        exact xe_z hx hb hr hlocks hP hS (Or.inl rfl) dX2_isOfTwo_61
      · replace hf := ob_t hf c6
        exact kj56 H locs ls hf hP hS (lv_sub hl [] rfl)
  refine lv_icmp_ne (tgt := 32) hx hb dX2_isOfTwo_16 (by decide) (fun c7 => ?_) (fun c7 => ?_)
  · replace hf := ob_f hf c7
    exact kj32 H locs ls hf hP hS (lv_sub hl [1, 3, 4, 0] rfl)
  · replace hf := ob_t hf c7
    refine lv_aload_n hx hb dX2_isOfTwo_19 rfl (lv_at hl 1 rfl) ?_
    refine xr_get hx hb hts in_X2 hown hK hP 0 (by decide) rfl rfl 0 (by decide) (hts _ q1405) (fun _ h => h) rfl (v := .ref (E 1)) rfl dX2_isOfTwo_20 ?_
    refine lv_iload hx hb dX2_isOfTwo_23 (lv_at hl 0 rfl) ?_
    refine lv_iconst (v := 1) hx hb dX2_isOfTwo_25 (by decide) ?_
    refine lv_iadd hx hb dX2_isOfTwo_26 ?_
    obtain ⟨h8, hf⟩ := ob_gd hf
    refine xr_iald hx hb hK hP 1 (by decide) rfl 0 rfl (j := (v4_1 + 1).toNatClampNeg) h8 rfl dX2_isOfTwo_27 ?_
    refine lv_iload_n hx hb dX2_isOfTwo_28 rfl (lv_at hl 4 rfl) ?_
    refine lv_icmp_eq (tgt := 56) hx hb dX2_isOfTwo_29 (by decide) (fun c9 => ?_) (fun c9 => ?_)
    · replace hf := ob_t hf c9
      exact kj56 H locs ls hf hP hS (lv_sub hl [] rfl)
    · replace hf := ob_f hf c9
      exact kj32 H locs ls hf hP hS (lv_sub hl [1, 3, 4, 0] rfl)
abbrev rmX2_doSpeak : Room := { frames := 1, cells := 0, slots := 0, locals := 24 }
theorem cdX2_doSpeak : yX2_doSpeak.cls = RX2 ∧ yX2_doSpeak.cls ≠ "java/lang/invoke/MethodHandle" ∧ yX2_doSpeak.cls ≠ "java/lang/invoke/VarHandle" ∧ (parseMethodDescriptor yX2_doSpeak.desc).map (fun d => d.parameters.length) = some 2 := by decide +kernel
set_option maxHeartbeats 4000000 in
set_option maxRecDepth 100000 in
theorem wkX2_doSpeak (l : Launch) (D : va_G) (dA : Nat → ClassId) (E : Nat → Nat) (hE : wInj 19 E) (w : Mm) (a1 : Int32) (a2 : Int32) {res : Int32} (hf : M_doSpeak w a1 a2 = some res) : Met l yX2_doSpeak (ws_ yX2_doSpeak cX2_doSpeak 4 (some .boolean)) rmX2_doSpeak (Pw D clM (tyM dA) shM 19 dA E [.ref (E 0), .int a1, .int a2] w) (Qwz D clM shM 19 dA E res w) 0 0 (AE 19 E) := by
  refine xm_head (own := RX2) (by decide) rfl (Nat.le_of_ble_eq_true rfl) ?_
  intro p e s m args below meth c ls Q hQ C hP hl
  obtain ⟨hx, hb, hr, hlocks, hml, hown, hts, hK⟩ := C
  replace hl : lv_has ls 4 [(0, .ref (E 0)), (1, .int a1), (2, .int a2)] := hl
  have hS : va_S (AE 19 E) s.heap s.heap [] := va_S.rf
  have hD : wD 19 E (AE 19 E) := wD.self hE
  unfold M_doSpeak at hf
  obtain ⟨H, eH⟩ : ∃ H, H = s.heap := ⟨_, rfl⟩
  obtain ⟨locs, eL⟩ : ∃ locs : List Loc, locs = [] := ⟨_, rfl⟩
  rw [← eL] at hS ⊢
  rw [← eH] at hP
  have hS : va_S (AE 19 E) s.heap H locs := by rw [eH]; exact hS
  show W p l e rmX2_doSpeak s m args below meth c s.heap locs 0 0 Q (F0 m 0 ls [])
  rw [← eH]
  refine lv_iconst (v := 0) hx hb dX2_doSpeak_0 (by decide) ?_
  refine lv_istore_n (lv' := [(3, .int 0), (0, .ref (E 0)), (1, .int a1), (2, .int a2)]) hx hb dX2_doSpeak_1 rfl hl (by decide) rfl (fun ls hl => ?_)
  obtain ⟨b2, hb2, hf⟩ := ob_bind hf
  obtain ⟨n2, hn2⟩ := lp_some hb2
  have kL2 : ∀ (n : Nat) (v3_1 : Int32), lpF (fun (q2 : Int32) => M_doSpeak_b2 w a1 a2 q2) n v3_1 = some b2 → (∀ (x2_0 : Unit), b2 = .inl x2_0 → ∀ (H : Heap) (locs : List Loc) (ls : Array Slot), va_P D clM (wl shM 19 dA E w) H → va_S (AE 19 E) s.heap H locs → lv_has ls 4 [] → W p l e rmX2_doSpeak s m args below meth c H locs 0 0 Q (F0 m 31 ls [])) → (∀ (x2_1 : Unit), b2 = .inr x2_1 → ∀ (H : Heap) (locs : List Loc) (ls : Array Slot), va_P D clM (wl shM 19 dA E w) H → va_S (AE 19 E) s.heap H locs → lv_has ls 4 [(1, .int a1), (2, .int a2)] → W p l e rmX2_doSpeak s m args below meth c H locs 0 0 Q (F0 m 39 ls [])) → ∀ (H : Heap) (locs : List Loc) (ls : Array Slot), va_P D clM (wl shM 19 dA E w) H → va_S (AE 19 E) s.heap H locs → lv_has ls 4 [(0, .ref (E 0)), (1, .int a1), (2, .int a2), (3, .int v3_1)] → W p l e rmX2_doSpeak s m args below meth c H locs 0 0 Q (F0 m 2 ls []) := by
    intro n
    induction n with
    | zero =>
      intro v3_1 h
      cases h
    | succ n ih =>
      intro v3_1 h K2_0 K2_1 H locs ls hP hS hl
      obtain ⟨r2, hf, h2a, h2b⟩ := lpF_step h
      replace hf : M_doSpeak_b2 w a1 a2 v3_1 = some r2 := hf
      unfold M_doSpeak_b2 at hf
      refine lv_iload_n hx hb dX2_doSpeak_2 rfl (lv_at hl 3 rfl) ?_
      refine lv_aload_n hx hb dX2_doSpeak_3 rfl (lv_at hl 0 rfl) ?_
      refine xr_get hx hb hts in_X2 hown hK hP 0 (by decide) rfl rfl 0 (by decide) (hts _ q1405) (fun _ h => h) rfl (v := .ref (E 1)) rfl dX2_doSpeak_4 ?_
      refine lv_iconst (v := 0) hx hb dX2_doSpeak_7 (by decide) ?_
      refine xr_iald hx hb hK hP 1 (by decide) rfl 0 rfl (j := 0) (vin_c (by decide)) (by decide) dX2_doSpeak_8 ?_
      refine lv_icmp_ge (tgt := 39) hx hb dX2_doSpeak_9 (by decide) (fun c3 => ?_) (fun c3 => ?_)
      · replace hf := ob_t hf c3
        obtain rfl := ob_s hf
        exact K2_1 _ (h2b _ rfl).symm H locs ls hP hS (lv_sub hl [1, 2] rfl)
      · replace hf := ob_f hf c3
        refine lv_aload_n hx hb dX2_doSpeak_12 rfl (lv_at hl 0 rfl) ?_
        refine lv_iload_n hx hb dX2_doSpeak_13 rfl (lv_at hl 3 rfl) ?_
        refine lv_iload_n hx hb dX2_doSpeak_14 rfl (lv_at hl 1 rfl) ?_
        refine lv_iload_n hx hb dX2_doSpeak_15 rfl (lv_at hl 2 rfl) ?_
        obtain ⟨q5, g4, hf⟩ := ob_bind hf
        refine xc_z (xw_run (As := [.int v3_1, .int a1, .int a2]) (rest := []) ⟨hx, hb, hml, hown, hts⟩ (k0 := 0) (wkX2_isOfTwo l D dA E hE w v3_1 a1 a2 g4) (cwV 3 hts (lw_V q1930 q1932 qs121 q140 q1933) rfl rfl rfl cdX2_isOfTwo ⟨Nat.le_of_ble_eq_true rfl, Nat.le_of_ble_eq_true rfl⟩) hK hP (by decide) rfl rfl rfl hl.1 rfl rfl (Nat.le_of_ble_eq_true rfl) dX2_doSpeak_16 ⟨Nat.zero_le _, Nat.zero_le _⟩) hS hD.2 (fun H locs zq5 hP hS => ?_)
        refine lv_if_eq (tgt := 33) hx hb dX2_doSpeak_19 (by decide) (fun c6 => ?_) (fun c6 => ?_)
        · replace hf := ob_t hf c6
          obtain ⟨v3_7, ev3_7, hf⟩ := ob_bnd hf
          refine lv_iinc (v := v3_7) (lv' := [(3, .int v3_7), (0, .ref (E 0)), (1, .int a1), (2, .int a2)]) hx hb dX2_doSpeak_33 hl (k := 3) rfl (by rw [ev3_7]; rfl) (by decide) rfl (fun ls hl => ?_)
          refine lv_goto (tgt := 2) hx hb dX2_doSpeak_36 (by decide) ?_
          obtain rfl := ob_s hf
          exact ih _ (h2a _ rfl) K2_0 K2_1 H locs ls hP hS (lv_sub hl [1, 2, 3, 0] rfl)
        · replace hf := ob_f hf c6
          refine lv_aload_n hx hb dX2_doSpeak_22 rfl (lv_at hl 0 rfl) ?_
          refine lv_iload_n hx hb dX2_doSpeak_23 rfl (lv_at hl 3 rfl) ?_
          obtain ⟨q9, g8, hf⟩ := ob_bind hf
          refine xc_i (xw_run (As := [.int v3_1]) (rest := []) ⟨hx, hb, hml, hown, hts⟩ (k0 := 0) (wkX2_howOf l D dA E hE w v3_1 g8) (cwV 1 hts (lw_V q1737 q1739 qs93 q140 q1740) rfl rfl rfl cdX2_howOf ⟨Nat.le_of_ble_eq_true rfl, Nat.le_of_ble_eq_true rfl⟩) hK hP (by decide) rfl rfl rfl hl.1 rfl rfl (Nat.le_of_ble_eq_true rfl) dX2_doSpeak_24 ⟨Nat.zero_le _, Nat.zero_le _⟩) hS hD.2 (fun H locs hP hS => ?_)
          refine lv_iconst (v := 2) hx hb dX2_doSpeak_27 (by decide) ?_
          refine lv_icmp_eq (tgt := 33) hx hb dX2_doSpeak_28 (by decide) (fun c10 => ?_) (fun c10 => ?_)
          · replace hf := ob_t hf c10
            obtain ⟨v3_11, ev3_11, hf⟩ := ob_bnd hf
            refine lv_iinc (v := v3_11) (lv' := [(3, .int v3_11), (0, .ref (E 0)), (1, .int a1), (2, .int a2)]) hx hb dX2_doSpeak_33 hl (k := 3) rfl (by rw [ev3_11]; rfl) (by decide) rfl (fun ls hl => ?_)
            refine lv_goto (tgt := 2) hx hb dX2_doSpeak_36 (by decide) ?_
            obtain rfl := ob_s hf
            exact ih _ (h2a _ rfl) K2_0 K2_1 H locs ls hP hS (lv_sub hl [1, 2, 3, 0] rfl)
          · replace hf := ob_f hf c10
            obtain rfl := ob_s hf
            exact K2_0 _ (h2b _ rfl).symm H locs ls hP hS (lv_sub hl [] rfl)
  refine kL2 n2 0 hn2 (fun x2_0 ex2_0 H locs ls hP hS hl => ?_) (fun x2_1 ex2_1 H locs ls hP hS hl => ?_) H locs ls hP hS (lv_sub hl [1, 2, 3, 0] rfl)
  · subst ex2_0
    replace hf : M_doSpeak_x2_31 = some res := hf
    unfold M_doSpeak_x2_31 at hf
    refine lv_iconst (v := 0) hx hb dX2_doSpeak_31 (by decide) ?_
    obtain rfl := ob_s hf
    subst hQ
    exact xe_z hx hb hr hlocks hP hS (Or.inl rfl) dX2_doSpeak_32
  · subst ex2_1
    replace hf : M_doSpeak_x2_39 a1 a2 = some res := hf
    unfold M_doSpeak_x2_39 at hf
    refine lv_iload_n hx hb dX2_doSpeak_39 rfl (lv_at hl 0 rfl) ?_
    refine lv_iload_n hx hb dX2_doSpeak_40 rfl (lv_at hl 1 rfl) ?_
    refine lv_icmp_eq (tgt := 48) hx hb dX2_doSpeak_41 (by decide) (fun c12 => ?_) (fun c12 => ?_)
    · replace hf := ob_t hf c12
      refine lv_iconst (v := 0) hx hb dX2_doSpeak_48 (by decide) ?_
      obtain rfl := ob_s hf
      subst hQ
      exact xe_z hx hb hr hlocks hP hS (Or.inl rfl) dX2_doSpeak_49
    · replace hf := ob_f hf c12
      refine lv_iconst (v := 1) hx hb dX2_doSpeak_44 (by decide) ?_
      refine lv_goto (tgt := 49) hx hb dX2_doSpeak_45 (by decide) ?_
      obtain rfl := ob_s hf
      subst hQ
      exact xe_z hx hb hr hlocks hP hS (Or.inr rfl) dX2_doSpeak_49
abbrev rmX2_speak : Room := { frames := 3, cells := 0, slots := 0, locals := 63 }
theorem cdX2_speak : yX2_speak.cls = RX2 ∧ yX2_speak.cls ≠ "java/lang/invoke/MethodHandle" ∧ yX2_speak.cls ≠ "java/lang/invoke/VarHandle" ∧ (parseMethodDescriptor yX2_speak.desc).map (fun d => d.parameters.length) = some 2 := by decide +kernel
set_option maxHeartbeats 4000000 in
set_option maxRecDepth 100000 in
theorem wkX2_speak (l : Launch) (D : va_G) (dA : Nat → ClassId) (E : Nat → Nat) (hE : wInj 19 E) (w : Mm) (a1 : Int32) (a2 : Int32) {res : Int32} (hf : M_speak w a1 a2 = some res) : Met l yX2_speak (ws_ yX2_speak cX2_speak 3 (some .boolean)) rmX2_speak (Pw D clM (tyM dA) shM 19 dA E [.ref (E 0), .int a1, .int a2] w) (Qwz D clM shM 19 dA E res w) 0 0 (AE 19 E) := by
  refine xm_head (own := RX2) (by decide) rfl (Nat.le_of_ble_eq_true rfl) ?_
  intro p e s m args below meth c ls Q hQ C hP hl
  obtain ⟨hx, hb, hr, hlocks, hml, hown, hts, hK⟩ := C
  replace hl : lv_has ls 3 [(0, .ref (E 0)), (1, .int a1), (2, .int a2)] := hl
  have hS : va_S (AE 19 E) s.heap s.heap [] := va_S.rf
  have hD : wD 19 E (AE 19 E) := wD.self hE
  unfold M_speak at hf
  obtain ⟨H, eH⟩ : ∃ H, H = s.heap := ⟨_, rfl⟩
  obtain ⟨locs, eL⟩ : ∃ locs : List Loc, locs = [] := ⟨_, rfl⟩
  rw [← eL] at hS ⊢
  rw [← eH] at hP
  have hS : va_S (AE 19 E) s.heap H locs := by rw [eH]; exact hS
  show W p l e rmX2_speak s m args below meth c s.heap locs 0 0 Q (F0 m 0 ls [])
  rw [← eH]
  refine lv_iload_n hx hb dX2_speak_0 rfl (lv_at hl 1 rfl) ?_
  refine lv_iload_n hx hb dX2_speak_1 rfl (lv_at hl 2 rfl) ?_
  obtain ⟨q2, g1, hf⟩ := ob_bind hf
  refine xc_z (xw_runS (As := [.int a1, .int a2]) (rest := []) ⟨hx, hb, hml, hown, hts⟩ (wkX2_areTwo l D dA E hE w a1 a2 g1) (va_cwS 2 hts (lw_S q1923 q1924 q140 q1925) rfl rfl rfl cdX2_areTwo.2 ⟨Nat.le_of_ble_eq_true rfl, Nat.le_of_ble_eq_true rfl⟩) hK hP hl.1 rfl rfl (Nat.le_of_ble_eq_true rfl) dX2_speak_2 ⟨Nat.zero_le _, Nat.zero_le _⟩) hS hD.2 (fun H locs zq2 hP hS => ?_)
  refine lv_if_eq (tgt := 21) hx hb dX2_speak_5 (by decide) (fun c3 => ?_) (fun c3 => ?_)
  · replace hf := ob_t hf c3
    refine lv_iconst (v := 0) hx hb dX2_speak_21 (by decide) ?_
    obtain rfl := ob_s hf
    subst hQ
    exact xe_z hx hb hr hlocks hP hS (Or.inl rfl) dX2_speak_22
  · replace hf := ob_f hf c3
    refine lv_aload_n hx hb dX2_speak_8 rfl (lv_at hl 0 rfl) ?_
    refine lv_iload_n hx hb dX2_speak_9 rfl (lv_at hl 1 rfl) ?_
    refine lv_iload_n hx hb dX2_speak_10 rfl (lv_at hl 2 rfl) ?_
    obtain ⟨q5, g4, hf⟩ := ob_bind hf
    refine xc_z (xw_run (As := [.int a1, .int a2]) (rest := []) ⟨hx, hb, hml, hown, hts⟩ (k0 := 0) (wkX2_doSpeak l D dA E hE w a1 a2 g4) (cwV 2 hts (lw_V q1926 q1928 qs120 q140 q1929) rfl rfl rfl cdX2_doSpeak ⟨Nat.le_of_ble_eq_true rfl, Nat.le_of_ble_eq_true rfl⟩) hK hP (by decide) rfl rfl rfl hl.1 rfl rfl (Nat.le_of_ble_eq_true rfl) dX2_speak_11 ⟨Nat.zero_le _, Nat.zero_le _⟩) hS hD.2 (fun H locs zq5 hP hS => ?_)
    refine lv_if_eq (tgt := 21) hx hb dX2_speak_14 (by decide) (fun c6 => ?_) (fun c6 => ?_)
    · replace hf := ob_t hf c6
      refine lv_iconst (v := 0) hx hb dX2_speak_21 (by decide) ?_
      obtain rfl := ob_s hf
      subst hQ
      exact xe_z hx hb hr hlocks hP hS (Or.inl rfl) dX2_speak_22
    · replace hf := ob_f hf c6
      refine lv_iconst (v := 1) hx hb dX2_speak_17 (by decide) ?_
      refine lv_goto (tgt := 22) hx hb dX2_speak_18 (by decide) ?_
      obtain rfl := ob_s hf
      subst hQ
      exact xe_z hx hb hr hlocks hP hS (Or.inr rfl) dX2_speak_22
abbrev rmX2_groupOf : Room := { frames := 2, cells := 0, slots := 0, locals := 47 }
theorem cdX2_groupOf : yX2_groupOf.cls = RX2 ∧ yX2_groupOf.cls ≠ "java/lang/invoke/MethodHandle" ∧ yX2_groupOf.cls ≠ "java/lang/invoke/VarHandle" ∧ (parseMethodDescriptor yX2_groupOf.desc).map (fun d => d.parameters.length) = some 2 := by decide +kernel
set_option maxHeartbeats 4000000 in
set_option maxRecDepth 100000 in
theorem wkX2_groupOf (l : Launch) (D : va_G) (dA : Nat → ClassId) (E : Nat → Nat) (hE : wInj 19 E) (w : Mm) (a1 : Int32) (a2 : Int32) {res : Int32} (hf : M_groupOf w a1 a2 = some res) : Met l yX2_groupOf (ws_ yX2_groupOf cX2_groupOf 7 (some .int)) rmX2_groupOf (Pw D clM (tyM dA) shM 19 dA E [.ref (E 0), .int a1, .int a2] w) (Qwi D clM shM 19 dA E res w) 0 0 (AE 19 E) := by
  refine xm_head (own := RX2) (by decide) rfl (Nat.le_of_ble_eq_true rfl) ?_
  intro p e s m args below meth c ls Q hQ C hP hl
  obtain ⟨hx, hb, hr, hlocks, hml, hown, hts, hK⟩ := C
  replace hl : lv_has ls 7 [(0, .ref (E 0)), (1, .int a1), (2, .int a2)] := hl
  have hS : va_S (AE 19 E) s.heap s.heap [] := va_S.rf
  have hD : wD 19 E (AE 19 E) := wD.self hE
  unfold M_groupOf at hf
  obtain ⟨H, eH⟩ : ∃ H, H = s.heap := ⟨_, rfl⟩
  obtain ⟨locs, eL⟩ : ∃ locs : List Loc, locs = [] := ⟨_, rfl⟩
  rw [← eL] at hS ⊢
  rw [← eH] at hP
  have hS : va_S (AE 19 E) s.heap H locs := by rw [eH]; exact hS
  show W p l e rmX2_groupOf s m args below meth c s.heap locs 0 0 Q (F0 m 0 ls [])
  rw [← eH]
  refine lv_iconst (v := 1) hx hb dX2_groupOf_0 (by decide) ?_
  refine lv_iload_n hx hb dX2_groupOf_1 rfl (lv_at hl 1 rfl) ?_
  refine lv_ishl hx hb dX2_groupOf_2 ?_
  obtain ⟨v3_1, ev3_1, hf⟩ := ob_bnd hf
  refine xn_i ev3_1 ?_
  refine lv_istore_n (lv' := [(3, .int v3_1), (0, .ref (E 0)), (1, .int a1), (2, .int a2)]) hx hb dX2_groupOf_3 rfl hl (by decide) rfl (fun ls hl => ?_)
  refine lv_iconst (v := 0) hx hb dX2_groupOf_4 (by decide) ?_
  refine lv_istore (lv' := [(4, .int 0), (3, .int v3_1), (0, .ref (E 0)), (1, .int a1), (2, .int a2)]) hx hb dX2_groupOf_5 hl (by decide) rfl (fun ls hl => ?_)
  obtain ⟨b4, hb4, hf⟩ := ob_bind hf
  obtain ⟨n4, hn4⟩ := lp_some hb4
  have kL7 : ∀ (n : Nat) (v3_2 : Int32) (v4_3 : Int32), lpF (fun (q4 : Int32 × Int32) => M_groupOf_b7 a2 w q4.1 q4.2) n (v3_2, v4_3) = some b4 → (∀ (H : Heap) (locs : List Loc) (ls : Array Slot), va_P D clM (wl shM 19 dA E w) H → va_S (AE 19 E) s.heap H locs → lv_has ls 7 [(3, .int b4)] → W p l e rmX2_groupOf s m args below meth c H locs 0 0 Q (F0 m 84 ls [])) → ∀ (H : Heap) (locs : List Loc) (ls : Array Slot), va_P D clM (wl shM 19 dA E w) H → va_S (AE 19 E) s.heap H locs → lv_has ls 7 [(0, .ref (E 0)), (2, .int a2), (3, .int v3_2), (4, .int v4_3)] → W p l e rmX2_groupOf s m args below meth c H locs 0 0 Q (F0 m 7 ls []) := by
    intro n
    induction n with
    | zero =>
      intro v3_2 v4_3 h
      cases h
    | succ n ih =>
      intro v3_2 v4_3 h K4_0 H locs ls hP hS hl
      obtain ⟨r4, hf, h4a, h4b⟩ := lpF_step h
      replace hf : M_groupOf_b7 a2 w v3_2 v4_3 = some r4 := hf
      unfold M_groupOf_b7 at hf
      refine lv_iload hx hb dX2_groupOf_7 (lv_at hl 3 rfl) ?_
      refine lv_iload_n hx hb dX2_groupOf_9 rfl (lv_at hl 2 rfl) ?_
      refine lv_icmp_eq (tgt := 84) hx hb dX2_groupOf_10 (by decide) (fun c5 => ?_) (fun c5 => ?_)
      · replace hf := ob_t hf c5
        obtain rfl := ob_s hf
        obtain rfl := h4b _ rfl
        exact K4_0 H locs ls hP hS (lv_sub hl [2] rfl)
      · replace hf := ob_f hf c5
        refine lv_iload_n hx hb dX2_groupOf_13 rfl (lv_at hl 2 rfl) ?_
        refine lv_istore (lv' := [(4, .int v3_2), (0, .ref (E 0)), (2, .int a2), (3, .int v3_2)]) hx hb dX2_groupOf_14 hl (by decide) rfl (fun ls hl => ?_)
        refine lv_iconst (v := 0) hx hb dX2_groupOf_16 (by decide) ?_
        refine lv_istore (lv' := [(5, .int 0), (4, .int v3_2), (0, .ref (E 0)), (2, .int a2), (3, .int v3_2)]) hx hb dX2_groupOf_17 hl (by decide) rfl (fun ls hl => ?_)
        obtain ⟨b8, hb8, hf⟩ := ob_bind hf
        obtain ⟨n8, hn8⟩ := lp_some hb8
        have kL19 : ∀ (n : Nat) (v3_6 : Int32) (v5_7 : Int32), lpF (fun (q8 : Int32 × Int32) => M_groupOf_b19 a2 w q8.1 q8.2) n (v3_6, v5_7) = some b8 → (∀ (H : Heap) (locs : List Loc) (ls : Array Slot), va_P D clM (wl shM 19 dA E w) H → va_S (AE 19 E) s.heap H locs → lv_has ls 7 [(0, .ref (E 0)), (2, .int a2), (3, .int b8), (4, .int v3_2)] → W p l e rmX2_groupOf s m args below meth c H locs 0 0 Q (F0 m 81 ls [])) → ∀ (H : Heap) (locs : List Loc) (ls : Array Slot), va_P D clM (wl shM 19 dA E w) H → va_S (AE 19 E) s.heap H locs → lv_has ls 7 [(0, .ref (E 0)), (2, .int a2), (3, .int v3_6), (4, .int v3_2), (5, .int v5_7)] → W p l e rmX2_groupOf s m args below meth c H locs 0 0 Q (F0 m 19 ls []) := by
          intro n
          induction n with
          | zero =>
            intro v3_6 v5_7 h
            cases h
          | succ n ih =>
            intro v3_6 v5_7 h K8_0 H locs ls hP hS hl
            obtain ⟨r8, hf, h8a, h8b⟩ := lpF_step h
            replace hf : M_groupOf_b19 a2 w v3_6 v5_7 = some r8 := hf
            unfold M_groupOf_b19 at hf
            refine lv_iload hx hb dX2_groupOf_19 (lv_at hl 4 rfl) ?_
            refine lv_bipush (v := 6) hx hb dX2_groupOf_21 (by decide) ?_
            refine lv_icmp_ge (tgt := 81) hx hb dX2_groupOf_23 (by decide) (fun c9 => ?_) (fun c9 => ?_)
            · replace hf := ob_t hf c9
              obtain rfl := ob_s hf
              obtain rfl := h8b _ rfl
              exact K8_0 H locs ls hP hS (lv_sub hl [0, 1, 2, 3] rfl)
            · replace hf := ob_f hf c9
              refine lv_iconst (v := 0) hx hb dX2_groupOf_26 (by decide) ?_
              refine lv_istore (lv' := [(6, .int 0), (0, .ref (E 0)), (2, .int a2), (3, .int v3_6), (4, .int v3_2), (5, .int v5_7)]) hx hb dX2_groupOf_27 hl (by decide) rfl (fun ls hl => ?_)
              obtain ⟨b12, hb12, hf⟩ := ob_bind hf
              obtain ⟨n12, hn12⟩ := lp_some hb12
              have kL29 : ∀ (n : Nat) (v3_10 : Int32) (v6_11 : Int32), lpF (fun (q12 : Int32 × Int32) => M_groupOf_b29 v5_7 a2 w q12.1 q12.2) n (v3_10, v6_11) = some b12 → (∀ (H : Heap) (locs : List Loc) (ls : Array Slot), va_P D clM (wl shM 19 dA E w) H → va_S (AE 19 E) s.heap H locs → lv_has ls 7 [(0, .ref (E 0)), (2, .int a2), (3, .int b12), (4, .int v3_2), (5, .int v5_7)] → W p l e rmX2_groupOf s m args below meth c H locs 0 0 Q (F0 m 75 ls [])) → ∀ (H : Heap) (locs : List Loc) (ls : Array Slot), va_P D clM (wl shM 19 dA E w) H → va_S (AE 19 E) s.heap H locs → lv_has ls 7 [(0, .ref (E 0)), (2, .int a2), (3, .int v3_10), (4, .int v3_2), (5, .int v5_7), (6, .int v6_11)] → W p l e rmX2_groupOf s m args below meth c H locs 0 0 Q (F0 m 29 ls []) := by
                intro n
                induction n with
                | zero =>
                  intro v3_10 v6_11 h
                  cases h
                | succ n ih =>
                  intro v3_10 v6_11 h K12_0 H locs ls hP hS hl
                  obtain ⟨r12, hf, h12a, h12b⟩ := lpF_step h
                  replace hf : M_groupOf_b29 v5_7 a2 w v3_10 v6_11 = some r12 := hf
                  unfold M_groupOf_b29 at hf
                  refine lv_iload hx hb dX2_groupOf_29 (lv_at hl 5 rfl) ?_
                  refine lv_bipush (v := 6) hx hb dX2_groupOf_31 (by decide) ?_
                  refine lv_icmp_ge (tgt := 75) hx hb dX2_groupOf_33 (by decide) (fun c13 => ?_) (fun c13 => ?_)
                  · replace hf := ob_t hf c13
                    obtain rfl := ob_s hf
                    obtain rfl := h12b _ rfl
                    exact K12_0 H locs ls hP hS (lv_sub hl [0, 1, 2, 3, 4] rfl)
                  · replace hf := ob_f hf c13
                    refine lv_iload_n hx hb dX2_groupOf_36 rfl (lv_at hl 2 rfl) ?_
                    refine lv_iload hx hb dX2_groupOf_37 (lv_at hl 4 rfl) ?_
                    obtain ⟨q15, g14, hf⟩ := ob_bind hf
                    refine xc_z (xw_runS (As := [.int v3_10, .int v5_7]) (rest := []) ⟨hx, hb, hml, hown, hts⟩ (wkX2_has l D dA E hE w v3_10 v5_7 g14) (va_cwS 2 hts (lw_S q1623 q1624 q140 q1625) rfl rfl rfl cdX2_has.2 ⟨Nat.le_of_ble_eq_true rfl, Nat.le_of_ble_eq_true rfl⟩) hK hP hl.1 rfl rfl (Nat.le_of_ble_eq_true rfl) dX2_groupOf_39 ⟨Nat.zero_le _, Nat.zero_le _⟩) hS hD.2 (fun H locs zq15 hP hS => ?_)
                    have kj69 : ∀ (v3_16 : Int32) (H : Heap) (locs : List Loc) (ls : Array Slot), M_groupOf_j69 v6_11 v3_16 = some r12 → va_P D clM (wl shM 19 dA E w) H → va_S (AE 19 E) s.heap H locs → lv_has ls 7 [(0, .ref (E 0)), (2, .int a2), (3, .int v3_16), (4, .int v3_2), (5, .int v5_7), (6, .int v6_11)] → W p l e rmX2_groupOf s m args below meth c H locs 0 0 Q (F0 m 69 ls []) := by
                      intro v3_16 H locs ls hf hP hS hl
                      unfold M_groupOf_j69 at hf
                      obtain ⟨v6_17, ev6_17, hf⟩ := ob_bnd hf
                      refine lv_iinc (v := v6_17) (lv' := [(6, .int v6_17), (0, .ref (E 0)), (2, .int a2), (3, .int v3_16), (4, .int v3_2), (5, .int v5_7)]) hx hb dX2_groupOf_69 hl (k := 5) rfl (by rw [ev6_17]; rfl) (by decide) rfl (fun ls hl => ?_)
                      refine lv_goto (tgt := 29) hx hb dX2_groupOf_72 (by decide) ?_
                      obtain rfl := ob_s hf
                      exact ih _ _ (h12a _ rfl) K12_0 H locs ls hP hS (lv_sub hl [1, 2, 3, 4, 5, 0] rfl)
                    refine lv_if_eq (tgt := 69) hx hb dX2_groupOf_42 (by decide) (fun c18 => ?_) (fun c18 => ?_)
                    · replace hf := ob_t hf c18
                      exact kj69 v3_10 H locs ls hf hP hS (lv_sub hl [0, 1, 2, 3, 4, 5] rfl)
                    · replace hf := ob_f hf c18
                      refine lv_iload hx hb dX2_groupOf_45 (lv_at hl 5 rfl) ?_
                      refine lv_iload_n hx hb dX2_groupOf_47 rfl (lv_at hl 1 rfl) ?_
                      refine lv_icmp_eq (tgt := 69) hx hb dX2_groupOf_48 (by decide) (fun c19 => ?_) (fun c19 => ?_)
                      · replace hf := ob_t hf c19
                        exact kj69 v3_10 H locs ls hf hP hS (lv_sub hl [0, 1, 2, 3, 4, 5] rfl)
                      · replace hf := ob_f hf c19
                        refine lv_aload_n hx hb dX2_groupOf_51 rfl (lv_at hl 0 rfl) ?_
                        refine lv_iload hx hb dX2_groupOf_52 (lv_at hl 4 rfl) ?_
                        refine lv_iload hx hb dX2_groupOf_54 (lv_at hl 5 rfl) ?_
                        obtain ⟨q21, g20, hf⟩ := ob_bind hf
                        refine xc_z (xw_run (As := [.int v5_7, .int v6_11]) (rest := []) ⟨hx, hb, hml, hown, hts⟩ (k0 := 0) (wkX2_doSpeak l D dA E hE w v5_7 v6_11 g20) (cwV 2 hts (lw_V q1926 q1928 qs120 q140 q1929) rfl rfl rfl cdX2_doSpeak ⟨Nat.le_of_ble_eq_true rfl, Nat.le_of_ble_eq_true rfl⟩) hK hP (by decide) rfl rfl rfl hl.1 rfl rfl (Nat.le_of_ble_eq_true rfl) dX2_groupOf_56 ⟨Nat.zero_le _, Nat.zero_le _⟩) hS hD.2 (fun H locs zq21 hP hS => ?_)
                        refine lv_if_eq (tgt := 69) hx hb dX2_groupOf_59 (by decide) (fun c22 => ?_) (fun c22 => ?_)
                        · replace hf := ob_t hf c22
                          exact kj69 v3_10 H locs ls hf hP hS (lv_sub hl [0, 1, 2, 3, 4, 5] rfl)
                        · replace hf := ob_f hf c22
                          refine lv_iload_n hx hb dX2_groupOf_62 rfl (lv_at hl 2 rfl) ?_
                          refine lv_iconst (v := 1) hx hb dX2_groupOf_63 (by decide) ?_
                          refine lv_iload hx hb dX2_groupOf_64 (lv_at hl 5 rfl) ?_
                          refine lv_ishl hx hb dX2_groupOf_66 ?_
                          refine lv_ior hx hb dX2_groupOf_67 ?_
                          obtain ⟨v3_23, ev3_23, hf⟩ := ob_bnd hf
                          refine xn_i ev3_23 ?_
                          refine lv_istore_n (lv' := [(3, .int v3_23), (0, .ref (E 0)), (2, .int a2), (4, .int v3_2), (5, .int v5_7), (6, .int v6_11)]) hx hb dX2_groupOf_68 rfl hl (by decide) rfl (fun ls hl => ?_)
                          exact kj69 v3_23 H locs ls hf hP hS (lv_sub hl [1, 2, 0, 3, 4, 5] rfl)
              refine kL29 n12 v3_6 0 hn12 (fun H locs ls hP hS hl => ?_) H locs ls hP hS (lv_sub hl [1, 2, 3, 4, 5, 0] rfl)
              replace hf : M_groupOf_x29_75 v5_7 b12 = some r8 := hf
              unfold M_groupOf_x29_75 at hf
              obtain ⟨v5_24, ev5_24, hf⟩ := ob_bnd hf
              refine lv_iinc (v := v5_24) (lv' := [(5, .int v5_24), (0, .ref (E 0)), (2, .int a2), (3, .int b12), (4, .int v3_2)]) hx hb dX2_groupOf_75 hl (k := 4) rfl (by rw [ev5_24]; rfl) (by decide) rfl (fun ls hl => ?_)
              refine lv_goto (tgt := 19) hx hb dX2_groupOf_78 (by decide) ?_
              obtain rfl := ob_s hf
              exact ih _ _ (h8a _ rfl) K8_0 H locs ls hP hS (lv_sub hl [1, 2, 3, 4, 0] rfl)
        refine kL19 n8 v3_2 0 hn8 (fun H locs ls hP hS hl => ?_) H locs ls hP hS (lv_sub hl [2, 3, 4, 1, 0] rfl)
        replace hf : M_groupOf_x19_81 b8 v3_2 = some r4 := hf
        unfold M_groupOf_x19_81 at hf
        refine lv_goto (tgt := 7) hx hb dX2_groupOf_81 (by decide) ?_
        obtain rfl := ob_s hf
        exact ih _ _ (h4a _ rfl) K4_0 H locs ls hP hS (lv_sub hl [0, 1, 2, 3] rfl)
  refine kL7 n4 v3_1 0 hn4 (fun H locs ls hP hS hl => ?_) H locs ls hP hS (lv_sub hl [2, 4, 1, 0] rfl)
  replace hf : M_groupOf_x7_84 b4 = some res := hf
  unfold M_groupOf_x7_84 at hf
  refine lv_iload_n hx hb dX2_groupOf_84 rfl (lv_at hl 0 rfl) ?_
  obtain rfl := ob_s hf
  subst hQ
  exact xe_i hx hb hr hlocks hP hS dX2_groupOf_85
abbrev rmX2_group : Room := { frames := 3, cells := 0, slots := 0, locals := 73 }
theorem cdX2_group : yX2_group.cls = RX2 ∧ yX2_group.cls ≠ "java/lang/invoke/MethodHandle" ∧ yX2_group.cls ≠ "java/lang/invoke/VarHandle" ∧ (parseMethodDescriptor yX2_group.desc).map (fun d => d.parameters.length) = some 1 := by decide +kernel
set_option maxHeartbeats 4000000 in
set_option maxRecDepth 100000 in
theorem wkX2_group (l : Launch) (D : va_G) (dA : Nat → ClassId) (E : Nat → Nat) (hE : wInj 19 E) (w : Mm) (a1 : Int32) {res : Int32} (hf : M_group w a1 = some res) : Met l yX2_group (ws_ yX2_group cX2_group 2 (some .int)) rmX2_group (Pw D clM (tyM dA) shM 19 dA E [.ref (E 0), .int a1] w) (Qwi D clM shM 19 dA E res w) 0 0 (AE 19 E) := by
  refine xm_head (own := RX2) (by decide) rfl (Nat.le_of_ble_eq_true rfl) ?_
  intro p e s m args below meth c ls Q hQ C hP hl
  obtain ⟨hx, hb, hr, hlocks, hml, hown, hts, hK⟩ := C
  replace hl : lv_has ls 2 [(0, .ref (E 0)), (1, .int a1)] := hl
  have hS : va_S (AE 19 E) s.heap s.heap [] := va_S.rf
  have hD : wD 19 E (AE 19 E) := wD.self hE
  unfold M_group at hf
  obtain ⟨H, eH⟩ : ∃ H, H = s.heap := ⟨_, rfl⟩
  obtain ⟨locs, eL⟩ : ∃ locs : List Loc, locs = [] := ⟨_, rfl⟩
  rw [← eL] at hS ⊢
  rw [← eH] at hP
  have hS : va_S (AE 19 E) s.heap H locs := by rw [eH]; exact hS
  show W p l e rmX2_group s m args below meth c s.heap locs 0 0 Q (F0 m 0 ls [])
  rw [← eH]
  refine lv_iload_n hx hb dX2_group_0 rfl (lv_at hl 1 rfl) ?_
  obtain ⟨q2, g1, hf⟩ := ob_bind hf
  refine xc_z (xw_runS (As := [.int a1]) (rest := []) ⟨hx, hb, hml, hown, hts⟩ (wkX2_isPerson l D dA E hE w a1 g1) (va_cwS 1 hts (lw_S q1535 q1536 q140 q1537) rfl rfl rfl cdX2_isPerson.2 ⟨Nat.le_of_ble_eq_true rfl, Nat.le_of_ble_eq_true rfl⟩) hK hP hl.1 rfl rfl (Nat.le_of_ble_eq_true rfl) dX2_group_1 ⟨Nat.zero_le _, Nat.zero_le _⟩) hS hD.2 (fun H locs zq2 hP hS => ?_)
  refine lv_if_eq (tgt := 16) hx hb dX2_group_4 (by decide) (fun c3 => ?_) (fun c3 => ?_)
  · replace hf := ob_t hf c3
    refine lv_iconst (v := (-1)) hx hb dX2_group_16 (by decide) ?_
    obtain rfl := ob_s hf
    subst hQ
    exact xe_i hx hb hr hlocks hP hS dX2_group_17
  · replace hf := ob_f hf c3
    refine lv_aload_n hx hb dX2_group_7 rfl (lv_at hl 0 rfl) ?_
    refine lv_iload_n hx hb dX2_group_8 rfl (lv_at hl 1 rfl) ?_
    refine lv_iconst (v := (-1)) hx hb dX2_group_9 (by decide) ?_
    obtain ⟨q5, g4, hf⟩ := ob_bind hf
    refine xc_i (xw_run (As := [.int a1, .int (-1)]) (rest := []) ⟨hx, hb, hml, hown, hts⟩ (k0 := 0) (wkX2_groupOf l D dA E hE w a1 (-1) g4) (cwV 2 hts (lw_V q1938 q1940 qs122 q140 q1941) rfl rfl rfl cdX2_groupOf ⟨Nat.le_of_ble_eq_true rfl, Nat.le_of_ble_eq_true rfl⟩) hK hP (by decide) rfl rfl rfl hl.1 rfl rfl (Nat.le_of_ble_eq_true rfl) dX2_group_10 ⟨Nat.zero_le _, Nat.zero_le _⟩) hS hD.2 (fun H locs hP hS => ?_)
    refine lv_goto (tgt := 17) hx hb dX2_group_13 (by decide) ?_
    obtain rfl := ob_s hf
    subst hQ
    exact xe_i hx hb hr hlocks hP hS dX2_group_17
abbrev rmX2_groups : Room := { frames := 3, cells := 0, slots := 0, locals := 73 }
theorem cdX2_groups : yX2_groups.cls = RX2 ∧ yX2_groups.cls ≠ "java/lang/invoke/MethodHandle" ∧ yX2_groups.cls ≠ "java/lang/invoke/VarHandle" ∧ (parseMethodDescriptor yX2_groups.desc).map (fun d => d.parameters.length) = some 1 := by decide +kernel
set_option maxHeartbeats 4000000 in
set_option maxRecDepth 100000 in
theorem wkX2_groups (l : Launch) (D : va_G) (dA : Nat → ClassId) (E : Nat → Nat) (hE : wInj 19 E) (w : Mm) (a1 : Int32) {res : Int32} (hf : M_groups w a1 = some res) : Met l yX2_groups (ws_ yX2_groups cX2_groups 6 (some .int)) rmX2_groups (Pw D clM (tyM dA) shM 19 dA E [.ref (E 0), .int a1] w) (Qwi D clM shM 19 dA E res w) 0 0 (AE 19 E) := by
  refine xm_head (own := RX2) (by decide) rfl (Nat.le_of_ble_eq_true rfl) ?_
  intro p e s m args below meth c ls Q hQ C hP hl
  obtain ⟨hx, hb, hr, hlocks, hml, hown, hts, hK⟩ := C
  replace hl : lv_has ls 6 [(0, .ref (E 0)), (1, .int a1)] := hl
  have hS : va_S (AE 19 E) s.heap s.heap [] := va_S.rf
  have hD : wD 19 E (AE 19 E) := wD.self hE
  unfold M_groups at hf
  obtain ⟨H, eH⟩ : ∃ H, H = s.heap := ⟨_, rfl⟩
  obtain ⟨locs, eL⟩ : ∃ locs : List Loc, locs = [] := ⟨_, rfl⟩
  rw [← eL] at hS ⊢
  rw [← eH] at hP
  have hS : va_S (AE 19 E) s.heap H locs := by rw [eH]; exact hS
  show W p l e rmX2_groups s m args below meth c s.heap locs 0 0 Q (F0 m 0 ls [])
  rw [← eH]
  refine lv_iconst (v := 0) hx hb dX2_groups_0 (by decide) ?_
  refine lv_istore_n (lv' := [(2, .int 0), (0, .ref (E 0)), (1, .int a1)]) hx hb dX2_groups_1 rfl hl (by decide) rfl (fun ls hl => ?_)
  refine lv_iconst (v := 0) hx hb dX2_groups_2 (by decide) ?_
  refine lv_istore_n (lv' := [(3, .int 0), (2, .int 0), (0, .ref (E 0)), (1, .int a1)]) hx hb dX2_groups_3 rfl hl (by decide) rfl (fun ls hl => ?_)
  refine lv_iconst (v := 0) hx hb dX2_groups_4 (by decide) ?_
  refine lv_istore (lv' := [(4, .int 0), (3, .int 0), (2, .int 0), (0, .ref (E 0)), (1, .int a1)]) hx hb dX2_groups_5 hl (by decide) rfl (fun ls hl => ?_)
  obtain ⟨b4, hb4, hf⟩ := ob_bind hf
  obtain ⟨n4, hn4⟩ := lp_some hb4
  have kL7 : ∀ (n : Nat) (v2_1 : Int32) (v3_2 : Int32) (v4_3 : Int32), lpF (fun (q4 : Int32 × Int32 × Int32) => M_groups_b7 w q4.1 q4.2.1 q4.2.2) n (v2_1, v3_2, v4_3) = some b4 → (∀ (H : Heap) (locs : List Loc) (ls : Array Slot), va_P D clM (wl shM 19 dA E w) H → va_S (AE 19 E) s.heap H locs → lv_has ls 6 [(1, .int a1), (2, .int b4.1), (3, .int b4.2)] → W p l e rmX2_groups s m args below meth c H locs 0 0 Q (F0 m 68 ls [])) → ∀ (H : Heap) (locs : List Loc) (ls : Array Slot), va_P D clM (wl shM 19 dA E w) H → va_S (AE 19 E) s.heap H locs → lv_has ls 6 [(0, .ref (E 0)), (1, .int a1), (2, .int v2_1), (3, .int v3_2), (4, .int v4_3)] → W p l e rmX2_groups s m args below meth c H locs 0 0 Q (F0 m 7 ls []) := by
    intro n
    induction n with
    | zero =>
      intro v2_1 v3_2 v4_3 h
      cases h
    | succ n ih =>
      intro v2_1 v3_2 v4_3 h K4_0 H locs ls hP hS hl
      obtain ⟨r4, hf, h4a, h4b⟩ := lpF_step h
      replace hf : M_groups_b7 w v2_1 v3_2 v4_3 = some r4 := hf
      unfold M_groups_b7 at hf
      refine lv_iload hx hb dX2_groups_7 (lv_at hl 4 rfl) ?_
      refine lv_bipush (v := 6) hx hb dX2_groups_9 (by decide) ?_
      refine lv_icmp_ge (tgt := 68) hx hb dX2_groups_11 (by decide) (fun c5 => ?_) (fun c5 => ?_)
      · replace hf := ob_t hf c5
        obtain rfl := ob_s hf
        obtain rfl := h4b _ rfl
        exact K4_0 H locs ls hP hS (lv_sub hl [1, 2, 3] rfl)
      · replace hf := ob_f hf c5
        refine lv_aload_n hx hb dX2_groups_14 rfl (lv_at hl 0 rfl) ?_
        refine lv_iload hx hb dX2_groups_15 (lv_at hl 4 rfl) ?_
        refine lv_iconst (v := (-1)) hx hb dX2_groups_17 (by decide) ?_
        obtain ⟨q7, g6, hf⟩ := ob_bind hf
        refine xc_i (xw_run (As := [.int v4_3, .int (-1)]) (rest := []) ⟨hx, hb, hml, hown, hts⟩ (k0 := 0) (wkX2_groupOf l D dA E hE w v4_3 (-1) g6) (cwV 2 hts (lw_V q1938 q1940 qs122 q140 q1941) rfl rfl rfl cdX2_groupOf ⟨Nat.le_of_ble_eq_true rfl, Nat.le_of_ble_eq_true rfl⟩) hK hP (by decide) rfl rfl rfl hl.1 rfl rfl (Nat.le_of_ble_eq_true rfl) dX2_groups_18 ⟨Nat.zero_le _, Nat.zero_le _⟩) hS hD.2 (fun H locs hP hS => ?_)
        refine lv_istore (lv' := [(5, .int q7), (0, .ref (E 0)), (1, .int a1), (2, .int v2_1), (3, .int v3_2), (4, .int v4_3)]) hx hb dX2_groups_21 hl (by decide) rfl (fun ls hl => ?_)
        refine lv_iload_n hx hb dX2_groups_23 rfl (lv_at hl 3 rfl) ?_
        refine lv_iload hx hb dX2_groups_24 (lv_at hl 0 rfl) ?_
        refine lv_iconst (v := 1) hx hb dX2_groups_26 (by decide) ?_
        refine lv_iload hx hb dX2_groups_27 (lv_at hl 5 rfl) ?_
        refine lv_ishl hx hb dX2_groups_29 ?_
        refine lv_iconst (v := 1) hx hb dX2_groups_30 (by decide) ?_
        refine lv_isub hx hb dX2_groups_31 ?_
        refine lv_iand hx hb dX2_groups_32 ?_
        have kj41 : ∀ (t8 : Int32) (H : Heap) (locs : List Loc) (ls : Array Slot), M_groups_j41 v2_1 t8 q7 v3_2 v4_3 = some r4 → va_P D clM (wl shM 19 dA E w) H → va_S (AE 19 E) s.heap H locs → lv_has ls 6 [(0, .ref (E 0)), (1, .int a1), (3, .int v3_2), (4, .int v4_3), (5, .int q7)] → W p l e rmX2_groups s m args below meth c H locs 0 0 Q (F0 m 41 ls [.int t8, .int v2_1]) := by
          intro t8 H locs ls hf hP hS hl
          unfold M_groups_j41 at hf
          refine lv_iadd hx hb dX2_groups_41 ?_
          obtain ⟨v2_9, ev2_9, hf⟩ := ob_bnd hf
          refine xn_i ev2_9 ?_
          refine lv_istore_n (lv' := [(2, .int v2_9), (0, .ref (E 0)), (1, .int a1), (3, .int v3_2), (4, .int v4_3), (5, .int q7)]) hx hb dX2_groups_42 rfl hl (by decide) rfl (fun ls hl => ?_)
          refine lv_iload hx hb dX2_groups_43 (lv_at hl 5 rfl) ?_
          obtain ⟨q11, g10, hf⟩ := ob_bind hf
          refine xc_i (xw_runS (As := [.int q7]) (rest := []) ⟨hx, hb, hml, hown, hts⟩ (wkX2_bits l D dA E hE w q7 g10) (va_cwS 1 hts (lw_S q1864 q1865 q140 q1866) rfl rfl rfl cdX2_bits.2 ⟨Nat.le_of_ble_eq_true rfl, Nat.le_of_ble_eq_true rfl⟩) hK hP hl.1 rfl rfl (Nat.le_of_ble_eq_true rfl) dX2_groups_45 ⟨Nat.zero_le _, Nat.zero_le _⟩) hS hD.2 (fun H locs hP hS => ?_)
          refine lv_iload_n hx hb dX2_groups_48 rfl (lv_at hl 3 rfl) ?_
          refine lv_icmp_le (tgt := 60) hx hb dX2_groups_49 (by decide) (fun c12 => ?_) (fun c12 => ?_)
          · replace hf := ob_t hf c12
            refine lv_iload_n hx hb dX2_groups_60 rfl (lv_at hl 3 rfl) ?_
            refine lv_istore_n (lv' := [(3, .int v3_2), (2, .int v2_9), (0, .ref (E 0)), (1, .int a1), (4, .int v4_3), (5, .int q7)]) hx hb dX2_groups_61 rfl hl (by decide) rfl (fun ls hl => ?_)
            obtain ⟨v4_13, ev4_13, hf⟩ := ob_bnd hf
            refine lv_iinc (v := v4_13) (lv' := [(4, .int v4_13), (3, .int v3_2), (2, .int v2_9), (0, .ref (E 0)), (1, .int a1), (5, .int q7)]) hx hb dX2_groups_62 hl (k := 4) rfl (by rw [ev4_13]; rfl) (by decide) rfl (fun ls hl => ?_)
            refine lv_goto (tgt := 7) hx hb dX2_groups_65 (by decide) ?_
            obtain rfl := ob_s hf
            exact ih _ _ _ (h4a _ rfl) K4_0 H locs ls hP hS (lv_sub hl [3, 4, 2, 1, 0] rfl)
          · replace hf := ob_f hf c12
            refine lv_iload hx hb dX2_groups_52 (lv_at hl 5 rfl) ?_
            obtain ⟨q15, g14, hf⟩ := ob_bind hf
            refine xc_i (xw_runS (As := [.int q7]) (rest := []) ⟨hx, hb, hml, hown, hts⟩ (wkX2_bits l D dA E hE w q7 g14) (va_cwS 1 hts (lw_S q1864 q1865 q140 q1866) rfl rfl rfl cdX2_bits.2 ⟨Nat.le_of_ble_eq_true rfl, Nat.le_of_ble_eq_true rfl⟩) hK hP hl.1 rfl rfl (Nat.le_of_ble_eq_true rfl) dX2_groups_54 ⟨Nat.zero_le _, Nat.zero_le _⟩) hS hD.2 (fun H locs hP hS => ?_)
            refine lv_goto (tgt := 61) hx hb dX2_groups_57 (by decide) ?_
            refine lv_istore_n (lv' := [(3, .int q15), (2, .int v2_9), (0, .ref (E 0)), (1, .int a1), (4, .int v4_3), (5, .int q7)]) hx hb dX2_groups_61 rfl hl (by decide) rfl (fun ls hl => ?_)
            obtain ⟨v4_16, ev4_16, hf⟩ := ob_bnd hf
            refine lv_iinc (v := v4_16) (lv' := [(4, .int v4_16), (3, .int q15), (2, .int v2_9), (0, .ref (E 0)), (1, .int a1), (5, .int q7)]) hx hb dX2_groups_62 hl (k := 4) rfl (by rw [ev4_16]; rfl) (by decide) rfl (fun ls hl => ?_)
            refine lv_goto (tgt := 7) hx hb dX2_groups_65 (by decide) ?_
            obtain rfl := ob_s hf
            exact ih _ _ _ (h4a _ rfl) K4_0 H locs ls hP hS (lv_sub hl [3, 4, 2, 1, 0] rfl)
        refine lv_if_ne (tgt := 40) hx hb dX2_groups_33 (by decide) (fun c17 => ?_) (fun c17 => ?_)
        · replace hf := ob_f hf c17
          refine lv_iconst (v := 0) hx hb dX2_groups_40 (by decide) ?_
          exact kj41 0 H locs ls hf hP hS (lv_sub hl [1, 2, 4, 5, 0] rfl)
        · replace hf := ob_t hf c17
          refine lv_iconst (v := 1) hx hb dX2_groups_36 (by decide) ?_
          refine lv_goto (tgt := 41) hx hb dX2_groups_37 (by decide) ?_
          exact kj41 1 H locs ls hf hP hS (lv_sub hl [1, 2, 4, 5, 0] rfl)
  refine kL7 n4 0 0 0 hn4 (fun H locs ls hP hS hl => ?_) H locs ls hP hS (lv_sub hl [3, 4, 2, 1, 0] rfl)
  replace hf : M_groups_x7_68 a1 b4 = some res := hf
  unfold M_groups_x7_68 at hf
  refine lv_iload_n hx hb dX2_groups_68 rfl (lv_at hl 0 rfl) ?_
  refine lv_if_eq (tgt := 76) hx hb dX2_groups_69 (by decide) (fun c18 => ?_) (fun c18 => ?_)
  · replace hf := ob_t hf c18
    refine lv_iload_n hx hb dX2_groups_76 rfl (lv_at hl 1 rfl) ?_
    obtain rfl := ob_s hf
    subst hQ
    exact xe_i hx hb hr hlocks hP hS dX2_groups_77
  · replace hf := ob_f hf c18
    refine lv_iload_n hx hb dX2_groups_72 rfl (lv_at hl 2 rfl) ?_
    refine lv_goto (tgt := 77) hx hb dX2_groups_73 (by decide) ?_
    obtain rfl := ob_s hf
    subst hQ
    exact xe_i hx hb hr hlocks hP hS dX2_groups_77
abbrev rmX2_silent : Room := { frames := 3, cells := 0, slots := 0, locals := 73 }
theorem cdX2_silent : yX2_silent.cls = RX2 ∧ yX2_silent.cls ≠ "java/lang/invoke/MethodHandle" ∧ yX2_silent.cls ≠ "java/lang/invoke/VarHandle" ∧ (parseMethodDescriptor yX2_silent.desc).map (fun d => d.parameters.length) = some 0 := by decide +kernel
set_option maxHeartbeats 4000000 in
set_option maxRecDepth 100000 in
theorem wkX2_silent (l : Launch) (D : va_G) (dA : Nat → ClassId) (E : Nat → Nat) (hE : wInj 19 E) (w : Mm)  {res : Int32} (hf : M_silent w = some res) : Met l yX2_silent (ws_ yX2_silent cX2_silent 3 (some .int)) rmX2_silent (Pw D clM (tyM dA) shM 19 dA E [.ref (E 0)] w) (Qwi D clM shM 19 dA E res w) 0 0 (AE 19 E) := by
  refine xm_head (own := RX2) (by decide) rfl (Nat.le_of_ble_eq_true rfl) ?_
  intro p e s m args below meth c ls Q hQ C hP hl
  obtain ⟨hx, hb, hr, hlocks, hml, hown, hts, hK⟩ := C
  replace hl : lv_has ls 3 [(0, .ref (E 0))] := hl
  have hS : va_S (AE 19 E) s.heap s.heap [] := va_S.rf
  have hD : wD 19 E (AE 19 E) := wD.self hE
  unfold M_silent at hf
  obtain ⟨H, eH⟩ : ∃ H, H = s.heap := ⟨_, rfl⟩
  obtain ⟨locs, eL⟩ : ∃ locs : List Loc, locs = [] := ⟨_, rfl⟩
  rw [← eL] at hS ⊢
  rw [← eH] at hP
  have hS : va_S (AE 19 E) s.heap H locs := by rw [eH]; exact hS
  show W p l e rmX2_silent s m args below meth c s.heap locs 0 0 Q (F0 m 0 ls [])
  rw [← eH]
  refine lv_iconst (v := 0) hx hb dX2_silent_0 (by decide) ?_
  refine lv_istore_n (lv' := [(1, .int 0), (0, .ref (E 0))]) hx hb dX2_silent_1 rfl hl (by decide) rfl (fun ls hl => ?_)
  refine lv_iconst (v := 0) hx hb dX2_silent_2 (by decide) ?_
  refine lv_istore_n (lv' := [(2, .int 0), (1, .int 0), (0, .ref (E 0))]) hx hb dX2_silent_3 rfl hl (by decide) rfl (fun ls hl => ?_)
  obtain ⟨b3, hb3, hf⟩ := ob_bind hf
  obtain ⟨n3, hn3⟩ := lp_some hb3
  have kL4 : ∀ (n : Nat) (v1_1 : Int32) (v2_2 : Int32), lpF (fun (q3 : Int32 × Int32) => M_silent_b4 w q3.1 q3.2) n (v1_1, v2_2) = some b3 → (∀ (H : Heap) (locs : List Loc) (ls : Array Slot), va_P D clM (wl shM 19 dA E w) H → va_S (AE 19 E) s.heap H locs → lv_has ls 3 [(1, .int b3)] → W p l e rmX2_silent s m args below meth c H locs 0 0 Q (F0 m 38 ls [])) → ∀ (H : Heap) (locs : List Loc) (ls : Array Slot), va_P D clM (wl shM 19 dA E w) H → va_S (AE 19 E) s.heap H locs → lv_has ls 3 [(0, .ref (E 0)), (1, .int v1_1), (2, .int v2_2)] → W p l e rmX2_silent s m args below meth c H locs 0 0 Q (F0 m 4 ls []) := by
    intro n
    induction n with
    | zero =>
      intro v1_1 v2_2 h
      cases h
    | succ n ih =>
      intro v1_1 v2_2 h K3_0 H locs ls hP hS hl
      obtain ⟨r3, hf, h3a, h3b⟩ := lpF_step h
      replace hf : M_silent_b4 w v1_1 v2_2 = some r3 := hf
      unfold M_silent_b4 at hf
      refine lv_iload_n hx hb dX2_silent_4 rfl (lv_at hl 2 rfl) ?_
      refine lv_bipush (v := 6) hx hb dX2_silent_5 (by decide) ?_
      refine lv_icmp_ge (tgt := 38) hx hb dX2_silent_7 (by decide) (fun c4 => ?_) (fun c4 => ?_)
      · replace hf := ob_t hf c4
        obtain rfl := ob_s hf
        obtain rfl := h3b _ rfl
        exact K3_0 H locs ls hP hS (lv_sub hl [1] rfl)
      · replace hf := ob_f hf c4
        refine lv_iload_n hx hb dX2_silent_10 rfl (lv_at hl 1 rfl) ?_
        refine lv_aload_n hx hb dX2_silent_11 rfl (lv_at hl 0 rfl) ?_
        refine lv_iload_n hx hb dX2_silent_12 rfl (lv_at hl 2 rfl) ?_
        refine lv_iconst (v := (-1)) hx hb dX2_silent_13 (by decide) ?_
        obtain ⟨q6, g5, hf⟩ := ob_bind hf
        refine xc_i (xw_run (As := [.int v2_2, .int (-1)]) (rest := [.int v1_1]) ⟨hx, hb, hml, hown, hts⟩ (k0 := 0) (wkX2_groupOf l D dA E hE w v2_2 (-1) g5) (cwV 2 hts (lw_V q1938 q1940 qs122 q140 q1941) rfl rfl rfl cdX2_groupOf ⟨Nat.le_of_ble_eq_true rfl, Nat.le_of_ble_eq_true rfl⟩) hK hP (by decide) rfl rfl rfl hl.1 rfl rfl (Nat.le_of_ble_eq_true rfl) dX2_silent_14 ⟨Nat.zero_le _, Nat.zero_le _⟩) hS hD.2 (fun H locs hP hS => ?_)
        refine lv_iconst (v := 1) hx hb dX2_silent_17 (by decide) ?_
        refine lv_iload_n hx hb dX2_silent_18 rfl (lv_at hl 2 rfl) ?_
        refine lv_ishl hx hb dX2_silent_19 ?_
        refine lv_icmp_ne (tgt := 29) hx hb dX2_silent_20 (by decide) (fun c7 => ?_) (fun c7 => ?_)
        · replace hf := ob_f hf c7
          refine lv_iconst (v := 0) hx hb dX2_silent_29 (by decide) ?_
          refine lv_ior hx hb dX2_silent_30 ?_
          obtain ⟨v1_8, ev1_8, hf⟩ := ob_bnd hf
          refine xn_i ev1_8 ?_
          refine lv_istore_n (lv' := [(1, .int v1_8), (0, .ref (E 0)), (2, .int v2_2)]) hx hb dX2_silent_31 rfl hl (by decide) rfl (fun ls hl => ?_)
          obtain ⟨v2_9, ev2_9, hf⟩ := ob_bnd hf
          refine lv_iinc (v := v2_9) (lv' := [(2, .int v2_9), (1, .int v1_8), (0, .ref (E 0))]) hx hb dX2_silent_32 hl (k := 2) rfl (by rw [ev2_9]; rfl) (by decide) rfl (fun ls hl => ?_)
          refine lv_goto (tgt := 4) hx hb dX2_silent_35 (by decide) ?_
          obtain rfl := ob_s hf
          exact ih _ _ (h3a _ rfl) K3_0 H locs ls hP hS (lv_sub hl [2, 1, 0] rfl)
        · replace hf := ob_t hf c7
          refine lv_iconst (v := 1) hx hb dX2_silent_23 (by decide) ?_
          refine lv_iload_n hx hb dX2_silent_24 rfl (lv_at hl 2 rfl) ?_
          refine lv_ishl hx hb dX2_silent_25 ?_
          refine lv_goto (tgt := 30) hx hb dX2_silent_26 (by decide) ?_
          refine lv_ior hx hb dX2_silent_30 ?_
          obtain ⟨v1_10, ev1_10, hf⟩ := ob_bnd hf
          refine xn_i ev1_10 ?_
          refine lv_istore_n (lv' := [(1, .int v1_10), (0, .ref (E 0)), (2, .int v2_2)]) hx hb dX2_silent_31 rfl hl (by decide) rfl (fun ls hl => ?_)
          obtain ⟨v2_11, ev2_11, hf⟩ := ob_bnd hf
          refine lv_iinc (v := v2_11) (lv' := [(2, .int v2_11), (1, .int v1_10), (0, .ref (E 0))]) hx hb dX2_silent_32 hl (k := 2) rfl (by rw [ev2_11]; rfl) (by decide) rfl (fun ls hl => ?_)
          refine lv_goto (tgt := 4) hx hb dX2_silent_35 (by decide) ?_
          obtain rfl := ob_s hf
          exact ih _ _ (h3a _ rfl) K3_0 H locs ls hP hS (lv_sub hl [2, 1, 0] rfl)
  refine kL4 n3 0 0 hn3 (fun H locs ls hP hS hl => ?_) H locs ls hP hS (lv_sub hl [2, 1, 0] rfl)
  replace hf : M_silent_x4_38 b3 = some res := hf
  unfold M_silent_x4_38 at hf
  refine lv_iload_n hx hb dX2_silent_38 rfl (lv_at hl 0 rfl) ?_
  obtain rfl := ob_s hf
  subst hQ
  exact xe_i hx hb hr hlocks hP hS dX2_silent_39
abbrev rmX2_gossips : Room := { frames := 3, cells := 0, slots := 0, locals := 73 }
theorem cdX2_gossips : yX2_gossips.cls = RX2 ∧ yX2_gossips.cls ≠ "java/lang/invoke/MethodHandle" ∧ yX2_gossips.cls ≠ "java/lang/invoke/VarHandle" ∧ (parseMethodDescriptor yX2_gossips.desc).map (fun d => d.parameters.length) = some 0 := by decide +kernel
set_option maxHeartbeats 4000000 in
set_option maxRecDepth 100000 in
theorem wkX2_gossips (l : Launch) (D : va_G) (dA : Nat → ClassId) (E : Nat → Nat) (hE : wInj 19 E) (w : Mm)  {res : Int32} (hf : M_gossips w = some res) : Met l yX2_gossips (ws_ yX2_gossips cX2_gossips 5 (some .int)) rmX2_gossips (Pw D clM (tyM dA) shM 19 dA E [.ref (E 0)] w) (Qwi D clM shM 19 dA E res w) 0 0 (AE 19 E) := by
  refine xm_head (own := RX2) (by decide) rfl (Nat.le_of_ble_eq_true rfl) ?_
  intro p e s m args below meth c ls Q hQ C hP hl
  obtain ⟨hx, hb, hr, hlocks, hml, hown, hts, hK⟩ := C
  replace hl : lv_has ls 5 [(0, .ref (E 0))] := hl
  have hS : va_S (AE 19 E) s.heap s.heap [] := va_S.rf
  have hD : wD 19 E (AE 19 E) := wD.self hE
  unfold M_gossips at hf
  obtain ⟨H, eH⟩ : ∃ H, H = s.heap := ⟨_, rfl⟩
  obtain ⟨locs, eL⟩ : ∃ locs : List Loc, locs = [] := ⟨_, rfl⟩
  rw [← eL] at hS ⊢
  rw [← eH] at hP
  have hS : va_S (AE 19 E) s.heap H locs := by rw [eH]; exact hS
  show W p l e rmX2_gossips s m args below meth c s.heap locs 0 0 Q (F0 m 0 ls [])
  rw [← eH]
  refine lv_iconst (v := 0) hx hb dX2_gossips_0 (by decide) ?_
  refine lv_istore_n (lv' := [(1, .int 0), (0, .ref (E 0))]) hx hb dX2_gossips_1 rfl hl (by decide) rfl (fun ls hl => ?_)
  refine lv_iconst (v := 0) hx hb dX2_gossips_2 (by decide) ?_
  refine lv_istore_n (lv' := [(2, .int 0), (1, .int 0), (0, .ref (E 0))]) hx hb dX2_gossips_3 rfl hl (by decide) rfl (fun ls hl => ?_)
  obtain ⟨b3, hb3, hf⟩ := ob_bind hf
  obtain ⟨n3, hn3⟩ := lp_some hb3
  have kL4 : ∀ (n : Nat) (v1_1 : Int32) (v2_2 : Int32), lpF (fun (q3 : Int32 × Int32) => M_gossips_b4 w q3.1 q3.2) n (v1_1, v2_2) = some b3 → (∀ (H : Heap) (locs : List Loc) (ls : Array Slot), va_P D clM (wl shM 19 dA E w) H → va_S (AE 19 E) s.heap H locs → lv_has ls 5 [(1, .int b3)] → W p l e rmX2_gossips s m args below meth c H locs 0 0 Q (F0 m 79 ls [])) → ∀ (H : Heap) (locs : List Loc) (ls : Array Slot), va_P D clM (wl shM 19 dA E w) H → va_S (AE 19 E) s.heap H locs → lv_has ls 5 [(0, .ref (E 0)), (1, .int v1_1), (2, .int v2_2)] → W p l e rmX2_gossips s m args below meth c H locs 0 0 Q (F0 m 4 ls []) := by
    intro n
    induction n with
    | zero =>
      intro v1_1 v2_2 h
      cases h
    | succ n ih =>
      intro v1_1 v2_2 h K3_0 H locs ls hP hS hl
      obtain ⟨r3, hf, h3a, h3b⟩ := lpF_step h
      replace hf : M_gossips_b4 w v1_1 v2_2 = some r3 := hf
      unfold M_gossips_b4 at hf
      refine lv_iload_n hx hb dX2_gossips_4 rfl (lv_at hl 2 rfl) ?_
      refine lv_bipush (v := 6) hx hb dX2_gossips_5 (by decide) ?_
      refine lv_icmp_ge (tgt := 79) hx hb dX2_gossips_7 (by decide) (fun c4 => ?_) (fun c4 => ?_)
      · replace hf := ob_t hf c4
        obtain rfl := ob_s hf
        obtain rfl := h3b _ rfl
        exact K3_0 H locs ls hP hS (lv_sub hl [1] rfl)
      · replace hf := ob_f hf c4
        refine lv_aload_n hx hb dX2_gossips_10 rfl (lv_at hl 0 rfl) ?_
        refine lv_iload_n hx hb dX2_gossips_11 rfl (lv_at hl 2 rfl) ?_
        refine lv_iconst (v := (-1)) hx hb dX2_gossips_12 (by decide) ?_
        obtain ⟨q6, g5, hf⟩ := ob_bind hf
        refine xc_i (xw_run (As := [.int v2_2, .int (-1)]) (rest := []) ⟨hx, hb, hml, hown, hts⟩ (k0 := 0) (wkX2_groupOf l D dA E hE w v2_2 (-1) g5) (cwV 2 hts (lw_V q1938 q1940 qs122 q140 q1941) rfl rfl rfl cdX2_groupOf ⟨Nat.le_of_ble_eq_true rfl, Nat.le_of_ble_eq_true rfl⟩) hK hP (by decide) rfl rfl rfl hl.1 rfl rfl (Nat.le_of_ble_eq_true rfl) dX2_gossips_13 ⟨Nat.zero_le _, Nat.zero_le _⟩) hS hD.2 (fun H locs hP hS => ?_)
        refine lv_iconst (v := 1) hx hb dX2_gossips_16 (by decide) ?_
        refine lv_iload_n hx hb dX2_gossips_17 rfl (lv_at hl 2 rfl) ?_
        refine lv_ishl hx hb dX2_gossips_18 ?_
        refine lv_iconst (v := (-1)) hx hb dX2_gossips_19 (by decide) ?_
        refine lv_ixor hx hb dX2_gossips_20 ?_
        refine lv_iand hx hb dX2_gossips_21 ?_
        obtain ⟨v3_7, ev3_7, hf⟩ := ob_bnd hf
        refine xn_i ev3_7 ?_
        refine lv_istore_n (lv' := [(3, .int v3_7), (0, .ref (E 0)), (1, .int v1_1), (2, .int v2_2)]) hx hb dX2_gossips_22 rfl hl (by decide) rfl (fun ls hl => ?_)
        refine lv_iconst (v := 0) hx hb dX2_gossips_23 (by decide) ?_
        refine lv_istore (lv' := [(4, .int 0), (3, .int v3_7), (0, .ref (E 0)), (1, .int v1_1), (2, .int v2_2)]) hx hb dX2_gossips_24 hl (by decide) rfl (fun ls hl => ?_)
        obtain ⟨b9, hb9, hf⟩ := ob_bind hf
        obtain ⟨n9, hn9⟩ := lp_some hb9
        have kL26 : ∀ (n : Nat) (v4_8 : Int32), lpF (fun (q9 : Int32) => M_gossips_b26 v3_7 q9) n v4_8 = some b9 → (∀ (H : Heap) (locs : List Loc) (ls : Array Slot), va_P D clM (wl shM 19 dA E w) H → va_S (AE 19 E) s.heap H locs → lv_has ls 5 [(0, .ref (E 0)), (1, .int v1_1), (2, .int v2_2), (3, .int v3_7), (4, .int b9)] → W p l e rmX2_gossips s m args below meth c H locs 0 0 Q (F0 m 48 ls [])) → ∀ (H : Heap) (locs : List Loc) (ls : Array Slot), va_P D clM (wl shM 19 dA E w) H → va_S (AE 19 E) s.heap H locs → lv_has ls 5 [(0, .ref (E 0)), (1, .int v1_1), (2, .int v2_2), (3, .int v3_7), (4, .int v4_8)] → W p l e rmX2_gossips s m args below meth c H locs 0 0 Q (F0 m 26 ls []) := by
          intro n
          induction n with
          | zero =>
            intro v4_8 h
            cases h
          | succ n ih =>
            intro v4_8 h K9_0 H locs ls hP hS hl
            obtain ⟨r9, hf, h9a, h9b⟩ := lpF_step h
            replace hf : M_gossips_b26 v3_7 v4_8 = some r9 := hf
            unfold M_gossips_b26 at hf
            refine lv_iload hx hb dX2_gossips_26 (lv_at hl 4 rfl) ?_
            refine lv_bipush (v := 6) hx hb dX2_gossips_28 (by decide) ?_
            refine lv_icmp_ge (tgt := 48) hx hb dX2_gossips_30 (by decide) (fun c10 => ?_) (fun c10 => ?_)
            · replace hf := ob_t hf c10
              obtain rfl := ob_s hf
              obtain rfl := h9b _ rfl
              exact K9_0 H locs ls hP hS (lv_sub hl [0, 1, 2, 3, 4] rfl)
            · replace hf := ob_f hf c10
              refine lv_iload_n hx hb dX2_gossips_33 rfl (lv_at hl 3 rfl) ?_
              refine lv_iload hx hb dX2_gossips_34 (lv_at hl 4 rfl) ?_
              obtain ⟨q12, g11, hf⟩ := ob_bind hf
              refine xc_z (xw_runS (As := [.int v3_7, .int v4_8]) (rest := []) ⟨hx, hb, hml, hown, hts⟩ (wkX2_has l D dA E hE w v3_7 v4_8 g11) (va_cwS 2 hts (lw_S q1623 q1624 q140 q1625) rfl rfl rfl cdX2_has.2 ⟨Nat.le_of_ble_eq_true rfl, Nat.le_of_ble_eq_true rfl⟩) hK hP hl.1 rfl rfl (Nat.le_of_ble_eq_true rfl) dX2_gossips_36 ⟨Nat.zero_le _, Nat.zero_le _⟩) hS hD.2 (fun H locs zq12 hP hS => ?_)
              refine lv_if_ne (tgt := 48) hx hb dX2_gossips_39 (by decide) (fun c13 => ?_) (fun c13 => ?_)
              · replace hf := ob_f hf c13
                obtain rfl := ob_s hf
                obtain rfl := h9b _ rfl
                exact K9_0 H locs ls hP hS (lv_sub hl [0, 1, 2, 3, 4] rfl)
              · replace hf := ob_t hf c13
                obtain ⟨v4_14, ev4_14, hf⟩ := ob_bnd hf
                refine lv_iinc (v := v4_14) (lv' := [(4, .int v4_14), (0, .ref (E 0)), (1, .int v1_1), (2, .int v2_2), (3, .int v3_7)]) hx hb dX2_gossips_42 hl (k := 4) rfl (by rw [ev4_14]; rfl) (by decide) rfl (fun ls hl => ?_)
                refine lv_goto (tgt := 26) hx hb dX2_gossips_45 (by decide) ?_
                obtain rfl := ob_s hf
                exact ih _ (h9a _ rfl) K9_0 H locs ls hP hS (lv_sub hl [1, 2, 3, 4, 0] rfl)
        refine kL26 n9 0 hn9 (fun H locs ls hP hS hl => ?_) H locs ls hP hS (lv_sub hl [2, 3, 4, 1, 0] rfl)
        replace hf : M_gossips_x26_48 v3_7 v1_1 v2_2 w b9 = some r3 := hf
        unfold M_gossips_x26_48 at hf
        refine lv_iload_n hx hb dX2_gossips_48 rfl (lv_at hl 1 rfl) ?_
        refine lv_iload_n hx hb dX2_gossips_49 rfl (lv_at hl 3 rfl) ?_
        refine lv_if_eq (tgt := 70) hx hb dX2_gossips_50 (by decide) (fun c15 => ?_) (fun c15 => ?_)
        · replace hf := ob_t hf c15
          refine lv_iconst (v := 0) hx hb dX2_gossips_70 (by decide) ?_
          refine lv_ior hx hb dX2_gossips_71 ?_
          obtain ⟨v1_16, ev1_16, hf⟩ := ob_bnd hf
          refine xn_i ev1_16 ?_
          refine lv_istore_n (lv' := [(1, .int v1_16), (0, .ref (E 0)), (2, .int v2_2), (3, .int v3_7), (4, .int b9)]) hx hb dX2_gossips_72 rfl hl (by decide) rfl (fun ls hl => ?_)
          obtain ⟨v2_17, ev2_17, hf⟩ := ob_bnd hf
          refine lv_iinc (v := v2_17) (lv' := [(2, .int v2_17), (1, .int v1_16), (0, .ref (E 0)), (3, .int v3_7), (4, .int b9)]) hx hb dX2_gossips_73 hl (k := 2) rfl (by rw [ev2_17]; rfl) (by decide) rfl (fun ls hl => ?_)
          refine lv_goto (tgt := 4) hx hb dX2_gossips_76 (by decide) ?_
          obtain rfl := ob_s hf
          exact ih _ _ (h3a _ rfl) K3_0 H locs ls hP hS (lv_sub hl [2, 1, 0] rfl)
        · replace hf := ob_f hf c15
          refine lv_aload_n hx hb dX2_gossips_53 rfl (lv_at hl 0 rfl) ?_
          refine lv_iload hx hb dX2_gossips_54 (lv_at hl 4 rfl) ?_
          refine lv_iload_n hx hb dX2_gossips_56 rfl (lv_at hl 2 rfl) ?_
          obtain ⟨q19, g18, hf⟩ := ob_bind hf
          refine xc_i (xw_run (As := [.int b9, .int v2_2]) (rest := [.int v1_1]) ⟨hx, hb, hml, hown, hts⟩ (k0 := 0) (wkX2_groupOf l D dA E hE w b9 v2_2 g18) (cwV 2 hts (lw_V q1938 q1940 qs122 q140 q1941) rfl rfl rfl cdX2_groupOf ⟨Nat.le_of_ble_eq_true rfl, Nat.le_of_ble_eq_true rfl⟩) hK hP (by decide) rfl rfl rfl hl.1 rfl rfl (Nat.le_of_ble_eq_true rfl) dX2_gossips_57 ⟨Nat.zero_le _, Nat.zero_le _⟩) hS hD.2 (fun H locs hP hS => ?_)
          refine lv_iload_n hx hb dX2_gossips_60 rfl (lv_at hl 3 rfl) ?_
          refine lv_icmp_eq (tgt := 70) hx hb dX2_gossips_61 (by decide) (fun c20 => ?_) (fun c20 => ?_)
          · replace hf := ob_t hf c20
            refine lv_iconst (v := 0) hx hb dX2_gossips_70 (by decide) ?_
            refine lv_ior hx hb dX2_gossips_71 ?_
            obtain ⟨v1_21, ev1_21, hf⟩ := ob_bnd hf
            refine xn_i ev1_21 ?_
            refine lv_istore_n (lv' := [(1, .int v1_21), (0, .ref (E 0)), (2, .int v2_2), (3, .int v3_7), (4, .int b9)]) hx hb dX2_gossips_72 rfl hl (by decide) rfl (fun ls hl => ?_)
            obtain ⟨v2_22, ev2_22, hf⟩ := ob_bnd hf
            refine lv_iinc (v := v2_22) (lv' := [(2, .int v2_22), (1, .int v1_21), (0, .ref (E 0)), (3, .int v3_7), (4, .int b9)]) hx hb dX2_gossips_73 hl (k := 2) rfl (by rw [ev2_22]; rfl) (by decide) rfl (fun ls hl => ?_)
            refine lv_goto (tgt := 4) hx hb dX2_gossips_76 (by decide) ?_
            obtain rfl := ob_s hf
            exact ih _ _ (h3a _ rfl) K3_0 H locs ls hP hS (lv_sub hl [2, 1, 0] rfl)
          · replace hf := ob_f hf c20
            refine lv_iconst (v := 1) hx hb dX2_gossips_64 (by decide) ?_
            refine lv_iload_n hx hb dX2_gossips_65 rfl (lv_at hl 2 rfl) ?_
            refine lv_ishl hx hb dX2_gossips_66 ?_
            refine lv_goto (tgt := 71) hx hb dX2_gossips_67 (by decide) ?_
            refine lv_ior hx hb dX2_gossips_71 ?_
            obtain ⟨v1_23, ev1_23, hf⟩ := ob_bnd hf
            refine xn_i ev1_23 ?_
            refine lv_istore_n (lv' := [(1, .int v1_23), (0, .ref (E 0)), (2, .int v2_2), (3, .int v3_7), (4, .int b9)]) hx hb dX2_gossips_72 rfl hl (by decide) rfl (fun ls hl => ?_)
            obtain ⟨v2_24, ev2_24, hf⟩ := ob_bnd hf
            refine lv_iinc (v := v2_24) (lv' := [(2, .int v2_24), (1, .int v1_23), (0, .ref (E 0)), (3, .int v3_7), (4, .int b9)]) hx hb dX2_gossips_73 hl (k := 2) rfl (by rw [ev2_24]; rfl) (by decide) rfl (fun ls hl => ?_)
            refine lv_goto (tgt := 4) hx hb dX2_gossips_76 (by decide) ?_
            obtain rfl := ob_s hf
            exact ih _ _ (h3a _ rfl) K3_0 H locs ls hP hS (lv_sub hl [2, 1, 0] rfl)
  refine kL4 n3 0 0 hn3 (fun H locs ls hP hS hl => ?_) H locs ls hP hS (lv_sub hl [2, 1, 0] rfl)
  replace hf : M_gossips_x4_79 b3 = some res := hf
  unfold M_gossips_x4_79 at hf
  refine lv_iload_n hx hb dX2_gossips_79 rfl (lv_at hl 0 rfl) ?_
  obtain rfl := ob_s hf
  subst hQ
  exact xe_i hx hb hr hlocks hP hS dX2_gossips_80
