/-! QuarrelsPawned: its methods walked (printed by run_x.py) -/
abbrev rmX0_look : Room := { frames := 11, cells := 0, slots := 0, locals := 295 }
theorem cdX0_look : yX0_look.cls = RX0 ∧ yX0_look.cls ≠ "java/lang/invoke/MethodHandle" ∧ yX0_look.cls ≠ "java/lang/invoke/VarHandle" ∧ (parseMethodDescriptor yX0_look.desc).map (fun d => d.parameters.length) = some 1 := by decide +kernel
set_option maxHeartbeats 4000000 in
set_option maxRecDepth 100000 in
theorem wkX0_look (l : Launch) (D : va_G) (dA : Nat → ClassId) (E : Nat → Nat) (hE : wInj 136 E) (T : Tx) (J : State → Heap → Prop) (hJ : JP D dA E T J) (w : Mm) (a1 : Int32) {res : Int32 × Mm} (hf : X_look w a1 = some res) : Met l yX0_look (ws_ yX0_look cX0_look 4 (some .int)) rmX0_look (Pj D dA E J [.ref (E 0), .int a1] w) (Qwi D clX shX 136 dA E res.1 res.2) 0 0 (AE 136 E) := by
  refine xj_head (own := RX0) (by decide) rfl (Nat.le_of_ble_eq_true rfl) ?_
  intro p e s m args below meth c ls Q hQ C hP hl
  obtain ⟨hx, hb, hr, hlocks, hml, hown, hts, hK, hJs⟩ := C
  replace hl : lv_has ls 4 [(0, .ref (E 0)), (1, .int a1)] := hl
  have hS : va_S (AE 136 E) s.heap s.heap [] := va_S.rf
  have hD : wD 136 E (AE 136 E) := wD.self hE
  unfold X_look at hf
  obtain ⟨H, eH⟩ : ∃ H, H = s.heap := ⟨_, rfl⟩
  obtain ⟨locs, eL⟩ : ∃ locs : List Loc, locs = [] := ⟨_, rfl⟩
  rw [← eL] at hS ⊢
  rw [← eH] at hP
  have hS : va_S (AE 136 E) s.heap H locs := by rw [eH]; exact hS
  show W p l e rmX0_look s m args below meth c s.heap locs 0 0 Q (F0 m 0 ls [])
  rw [← eH]
  refine lv_iload_n hx hb dX0_look_0 rfl (lv_at hl 1 rfl) ?_
  refine lv_iconst (v := 0) hx hb dX0_look_1 (by decide) ?_
  refine lv_bipush (v := 9) hx hb dX0_look_2 (by decide) ?_
  obtain ⟨q2, g1, hf⟩ := ob_bind hf
  refine xc_z (xj_runS (As := [.int a1, .int 0, .int 9]) (rest := []) hJ hJs hS ⟨hx, hb, hml, hown, hts⟩ (wkX0_in l D dA E hE T J hJ w a1 0 9 g1) (va_cwS 3 hts (lw_S q319 q320 q136 q321) rfl rfl rfl cdX0_in.2 ⟨Nat.le_of_ble_eq_true rfl, Nat.le_of_ble_eq_true rfl⟩) hK hP hl.1 rfl rfl (Nat.le_of_ble_eq_true rfl) dX0_look_4 ⟨Nat.zero_le _, Nat.zero_le _⟩) hS hD.2 (fun H locs zq2 hP hS => ?_)
  refine lv_if_ne (tgt := 12) hx hb dX0_look_7 (by decide) (fun c3 => ?_) (fun c3 => ?_)
  · replace hf := ob_f hf c3
    refine lv_aload_n hx hb dX0_look_12 rfl (lv_at hl 0 rfl) ?_
    refine lv_iload_n hx hb dX0_look_13 rfl (lv_at hl 1 rfl) ?_
    obtain ⟨q5, g4, hf⟩ := ob_bind hf
    refine xc_v (xj_run (As := [.int a1]) (rest := []) hJ hJs hS ⟨hx, hb, hml, hown, hts⟩ (k0 := 0) (wkX0_laysHung l D dA E hE T J hJ w a1 g4) (cwV 1 hts (lw_V q1317 q1319 qs55 q136 q1320) rfl rfl rfl cdX0_laysHung ⟨Nat.le_of_ble_eq_true rfl, Nat.le_of_ble_eq_true rfl⟩) hK hP (by decide) rfl rfl rfl hl.1 rfl rfl (Nat.le_of_ble_eq_true rfl) dX0_look_14 ⟨Nat.zero_le _, Nat.zero_le _⟩) hS hD.2 (fun H locs hP hS => ?_)
    refine lv_iconst (v := 0) hx hb dX0_look_17 (by decide) ?_
    refine lv_istore_n (lv' := [(2, .int 0), (0, .ref (E 0)), (1, .int a1)]) hx hb dX0_look_18 rfl hl (by decide) rfl (fun ls hl => ?_)
    refine lv_iconst (v := 1) hx hb dX0_look_19 (by decide) ?_
    refine lv_istore_n (lv' := [(3, .int 1), (2, .int 0), (0, .ref (E 0)), (1, .int a1)]) hx hb dX0_look_20 rfl hl (by decide) rfl (fun ls hl => ?_)
    obtain ⟨b8, hb8, hf⟩ := ob_bind hf
    obtain ⟨n8, hn8⟩ := lp_some hb8
    have kL21 : ∀ (n : Nat) (v2_6 : Int32) (v3_7 : Int32), lpF (fun (q8 : Int32 × Int32) => X_look_b21 q5 q8.1 q8.2) n (v2_6, v3_7) = some b8 → (∀ (H : Heap) (locs : List Loc) (ls : Array Slot), va_P D clX (wl shX 136 dA E q5) H → va_S (AE 136 E) s.heap H locs → lv_has ls 4 [(0, .ref (E 0)), (2, .int b8)] → W p l e rmX0_look s m args below meth c H locs 0 0 Q (F0 m 55 ls [])) → ∀ (H : Heap) (locs : List Loc) (ls : Array Slot), va_P D clX (wl shX 136 dA E q5) H → va_S (AE 136 E) s.heap H locs → lv_has ls 4 [(0, .ref (E 0)), (2, .int v2_6), (3, .int v3_7)] → W p l e rmX0_look s m args below meth c H locs 0 0 Q (F0 m 21 ls []) := by
      intro n
      induction n with
      | zero =>
        intro v2_6 v3_7 hq9
        cases hq9
      | succ n ih =>
        intro v2_6 v3_7 hq9 K8_0 H locs ls hP hS hl
        obtain ⟨r8, hf, h8a, h8b⟩ := lpF_step hq9
        replace hf : X_look_b21 q5 v2_6 v3_7 = some r8 := hf
        unfold X_look_b21 at hf
        refine lv_iload_n hx hb dX0_look_21 rfl (lv_at hl 2 rfl) ?_
        refine lv_aload_n hx hb dX0_look_22 rfl (lv_at hl 0 rfl) ?_
        refine xr_get hx hb hts in_X0 hown hK hP 0 (by decide) rfl rfl 0 (by decide) (hts _ q252) (fun _ h => h) rfl (v := .ref (E 1)) rfl dX0_look_23 ?_
        refine xr_getN (host := "QuarrelsPawned") hx hb hts in_X1 hown hK hP 1 (by decide) rfl rfl 0 (by decide) (hJ.nest hJs 0 rfl) (fun _ h => h) rfl (v := .ref (E 3)) rfl dX0_look_26 ?_
        refine lv_iconst (v := 4) hx hb dX0_look_29 (by decide) ?_
        refine xr_iald hx hb hK hP 3 (by decide) rfl 0 rfl (j := 4) (vin_c (by decide)) (by decide) dX0_look_30 ?_
        refine lv_icmp_ge (tgt := 55) hx hb dX0_look_31 (by decide) (fun c9 => ?_) (fun c9 => ?_)
        · replace hf := ob_t hf c9
          obtain rfl := ob_s hf
          obtain rfl := h8b _ rfl
          exact K8_0 H locs ls hP hS (lv_sub hl [0, 1] rfl)
        · replace hf := ob_f hf c9
          refine lv_aload_n hx hb dX0_look_34 rfl (lv_at hl 0 rfl) ?_
          refine lv_iload_n hx hb dX0_look_35 rfl (lv_at hl 2 rfl) ?_
          obtain ⟨q11, g10, hf⟩ := ob_bind hf
          refine xc_i (xj_run (As := [.int v3_7]) (rest := []) hJ hJs hS ⟨hx, hb, hml, hown, hts⟩ (k0 := 0) (wkX0_mostOn l D dA E hE T J hJ q5 v3_7 g10) (cwV 1 hts (lw_V q1332 q1334 qs57 q136 q1335) rfl rfl rfl cdX0_mostOn ⟨Nat.le_of_ble_eq_true rfl, Nat.le_of_ble_eq_true rfl⟩) hK hP (by decide) rfl rfl rfl hl.1 rfl rfl (Nat.le_of_ble_eq_true rfl) dX0_look_36 ⟨Nat.zero_le _, Nat.zero_le _⟩) hS hD.2 (fun H locs hP hS => ?_)
          refine lv_aload_n hx hb dX0_look_39 rfl (lv_at hl 0 rfl) ?_
          refine lv_iload_n hx hb dX0_look_40 rfl (lv_at hl 1 rfl) ?_
          obtain ⟨q13, g12, hf⟩ := ob_bind hf
          refine xc_i (xj_run (As := [.int v2_6]) (rest := [.int q11]) hJ hJs hS ⟨hx, hb, hml, hown, hts⟩ (k0 := 0) (wkX0_mostOn l D dA E hE T J hJ q5 v2_6 g12) (cwV 1 hts (lw_V q1332 q1334 qs57 q136 q1335) rfl rfl rfl cdX0_mostOn ⟨Nat.le_of_ble_eq_true rfl, Nat.le_of_ble_eq_true rfl⟩) hK hP (by decide) rfl rfl rfl hl.1 rfl rfl (Nat.le_of_ble_eq_true rfl) dX0_look_41 ⟨Nat.zero_le _, Nat.zero_le _⟩) hS hD.2 (fun H locs hP hS => ?_)
          refine lv_icmp_ge (tgt := 49) hx hb dX0_look_44 (by decide) (fun c14 => ?_) (fun c14 => ?_)
          · replace hf := ob_t hf c14
            obtain ⟨v3_15, ev3_15, hf⟩ := ob_bnd hf
            refine lv_iinc (v := v3_15) (lv' := [(3, .int v3_15), (0, .ref (E 0)), (2, .int v2_6)]) hx hb dX0_look_49 hl (k := 2) rfl (by rw [ev3_15]; rfl) (by decide) rfl (fun ls hl => ?_)
            refine lv_goto (tgt := 21) hx hb dX0_look_52 (by decide) ?_
            obtain rfl := ob_s hf
            exact ih _ _ (h8a _ rfl) K8_0 H locs ls hP hS (lv_sub hl [1, 2, 0] rfl)
          · replace hf := ob_f hf c14
            refine lv_iload_n hx hb dX0_look_47 rfl (lv_at hl 2 rfl) ?_
            refine lv_istore_n (lv' := [(2, .int v3_7), (0, .ref (E 0)), (3, .int v3_7)]) hx hb dX0_look_48 rfl hl (by decide) rfl (fun ls hl => ?_)
            obtain ⟨v3_16, ev3_16, hf⟩ := ob_bnd hf
            refine lv_iinc (v := v3_16) (lv' := [(3, .int v3_16), (2, .int v3_7), (0, .ref (E 0))]) hx hb dX0_look_49 hl (k := 2) rfl (by rw [ev3_16]; rfl) (by decide) rfl (fun ls hl => ?_)
            refine lv_goto (tgt := 21) hx hb dX0_look_52 (by decide) ?_
            obtain rfl := ob_s hf
            exact ih _ _ (h8a _ rfl) K8_0 H locs ls hP hS (lv_sub hl [2, 1, 0] rfl)
    refine kL21 n8 0 1 hn8 (fun H locs ls hP hS hl => ?_) H locs ls hP hS (lv_sub hl [2, 1, 0] rfl)
    replace hf : X_look_x21_55 q5 b8 = some res := hf
    unfold X_look_x21_55 at hf
    refine lv_aload_n hx hb dX0_look_55 rfl (lv_at hl 0 rfl) ?_
    refine xr_get hx hb hts in_X0 hown hK hP 0 (by decide) rfl rfl 16 (by decide) (hts _ q268) (fun _ h => h) rfl (v := .int (q5.1 0 16)) rfl dX0_look_56 ?_
    refine lv_iconst (v := 2) hx hb dX0_look_59 (by decide) ?_
    refine lv_icmp_ge (tgt := 67) hx hb dX0_look_60 (by decide) (fun c17 => ?_) (fun c17 => ?_)
    · replace hf := ob_t hf c17
      refine lv_iload_n hx hb dX0_look_67 rfl (lv_at hl 1 rfl) ?_
      obtain rfl := ob_s hf
      subst hQ
      exact xe_i hx hb hr hlocks hP hS dX0_look_68
    · replace hf := ob_f hf c17
      refine lv_iconst (v := (-1)) hx hb dX0_look_63 (by decide) ?_
      refine lv_goto (tgt := 68) hx hb dX0_look_64 (by decide) ?_
      obtain rfl := ob_s hf
      subst hQ
      exact xe_i hx hb hr hlocks hP hS dX0_look_68
  · replace hf := ob_t hf c3
    refine lv_iconst (v := (-1)) hx hb dX0_look_10 (by decide) ?_
    obtain rfl := ob_s hf
    subst hQ
    exact xe_i hx hb hr hlocks hP hS dX0_look_11
abbrev rmX1_adds : Room := { frames := 0, cells := 0, slots := 0, locals := 0 }
theorem cdX1_adds : yX1_adds.cls = RX1 ∧ yX1_adds.cls ≠ "java/lang/invoke/MethodHandle" ∧ yX1_adds.cls ≠ "java/lang/invoke/VarHandle" ∧ (parseMethodDescriptor yX1_adds.desc).map (fun d => d.parameters.length) = some 4 := by decide +kernel
set_option maxHeartbeats 4000000 in
set_option maxRecDepth 100000 in
theorem wkX1_adds_bid (l : Launch) (D : va_G) (dA : Nat → ClassId) (E : Nat → Nat) (hE : wInj 136 E) (T : Tx) (J : State → Heap → Prop) (hJ : JP D dA E T J) (w : Mm) (a2 : Int32) (a3 : Int32) (a4 : Int32) {res : Int32 × Mm} (hf : X_X1_adds_bid w a2 a3 a4 = some res) : Met l yX1_adds (ws_ yX1_adds cX1_adds 5 (some .int)) rmX1_adds (Pj D dA E J [.ref (E 1), .ref (E 10), .int a2, .int a3, .int a4] w) (Qwi D clX shX 136 dA E res.1 res.2) 0 0 (AE 136 E) := by
  refine xj_head (own := RX1) (by decide) rfl (Nat.le_of_ble_eq_true rfl) ?_
  intro p e s m args below meth c ls Q hQ C hP hl
  obtain ⟨hx, hb, hr, hlocks, hml, hown, hts, hK, hJs⟩ := C
  replace hl : lv_has ls 5 [(0, .ref (E 1)), (1, .ref (E 10)), (2, .int a2), (3, .int a3), (4, .int a4)] := hl
  have hS : va_S (AE 136 E) s.heap s.heap [] := va_S.rf
  have hD : wD 136 E (AE 136 E) := wD.self hE
  unfold X_X1_adds_bid at hf
  obtain ⟨H, eH⟩ : ∃ H, H = s.heap := ⟨_, rfl⟩
  obtain ⟨locs, eL⟩ : ∃ locs : List Loc, locs = [] := ⟨_, rfl⟩
  rw [← eL] at hS ⊢
  rw [← eH] at hP
  have hS : va_S (AE 136 E) s.heap H locs := by rw [eH]; exact hS
  show W p l e rmX1_adds s m args below meth c s.heap locs 0 0 Q (F0 m 0 ls [])
  rw [← eH]
  refine lv_aload_n hx hb dX1_adds_0 rfl (lv_at hl 1 rfl) ?_
  refine lv_aload_n hx hb dX1_adds_1 rfl (lv_at hl 0 rfl) ?_
  refine xr_get hx hb hts in_X1 hown hK hP 1 (by decide) rfl rfl 0 (by decide) (hts _ q192) (fun _ h => h) rfl (v := .ref (E 3)) rfl dX1_adds_2 ?_
  refine lv_iload_n hx hb dX1_adds_5 rfl (lv_at hl 2 rfl) ?_
  obtain ⟨h1, hf⟩ := ob_gd hf
  refine xr_iald hx hb hK hP 3 (by decide) rfl 0 rfl (j := a2.toNatClampNeg) h1 rfl dX1_adds_6 ?_
  obtain ⟨h2, hf⟩ := ob_gd hf
  refine xr_aald hx hb hK hP 10 (by decide) rfl (j := (w.1 3 a2.toNatClampNeg).toNatClampNeg) h2 rfl dX1_adds_7 ?_
  refine lv_iconst (v := 0) hx hb dX1_adds_8 (by decide) ?_
  refine lv_iload_n hx hb dX1_adds_9 rfl (lv_at hl 3 rfl) ?_
  obtain ⟨w3, ew3, hf⟩ := ob_bnd hf
  refine xr_iast hx hb hK hP hD hS (34 + (w.1 3 a2.toNatClampNeg).toNatClampNeg) (by have := vin_lt h2; omega) (shX_r1 (by have := vin_lt h2; omega)) 0 rfl (j := 0) (w' := w3) (vin_c (by decide)) (by decide) ew3 dX1_adds_10 (fun H locs hP hS => ?_)
  refine lv_aload_n hx hb dX1_adds_11 rfl (lv_at hl 1 rfl) ?_
  refine lv_aload_n hx hb dX1_adds_12 rfl (lv_at hl 0 rfl) ?_
  refine xr_get hx hb hts in_X1 hown hK hP 1 (by decide) rfl rfl 0 (by decide) (hts _ q192) (fun _ h => h) rfl (v := .ref (E 3)) rfl dX1_adds_13 ?_
  refine lv_iload_n hx hb dX1_adds_16 rfl (lv_at hl 2 rfl) ?_
  obtain ⟨h4, hf⟩ := ob_gd hf
  refine xr_iald hx hb hK hP 3 (by decide) rfl 0 rfl (j := a2.toNatClampNeg) h4 rfl dX1_adds_17 ?_
  obtain ⟨h5, hf⟩ := ob_gd hf
  refine xr_aald hx hb hK hP 10 (by decide) rfl (j := (w3.1 3 a2.toNatClampNeg).toNatClampNeg) h5 rfl dX1_adds_18 ?_
  refine lv_iconst (v := 1) hx hb dX1_adds_19 (by decide) ?_
  refine lv_iload hx hb dX1_adds_20 (lv_at hl 4 rfl) ?_
  obtain ⟨w6, ew6, hf⟩ := ob_bnd hf
  refine xr_iast hx hb hK hP hD hS (34 + (w3.1 3 a2.toNatClampNeg).toNatClampNeg) (by have := vin_lt h5; omega) (shX_r1 (by have := vin_lt h5; omega)) 0 rfl (j := 1) (w' := w6) (vin_c (by decide)) (by decide) ew6 dX1_adds_22 (fun H locs hP hS => ?_)
  refine lv_aload_n hx hb dX1_adds_23 rfl (lv_at hl 0 rfl) ?_
  refine xr_get hx hb hts in_X1 hown hK hP 1 (by decide) rfl rfl 0 (by decide) (hts _ q192) (fun _ h => h) rfl (v := .ref (E 3)) rfl dX1_adds_24 ?_
  refine lv_iload_n hx hb dX1_adds_27 rfl (lv_at hl 2 rfl) ?_
  refine lv_dup2_11 hx hb dX1_adds_28 rfl rfl ?_
  obtain ⟨h7, hf⟩ := ob_gd hf
  refine xr_iald hx hb hK hP 3 (by decide) rfl 0 rfl (j := a2.toNatClampNeg) h7 rfl dX1_adds_29 ?_
  refine lv_iconst (v := 1) hx hb dX1_adds_30 (by decide) ?_
  refine lv_iadd hx hb dX1_adds_31 ?_
  obtain ⟨h8, hf⟩ := ob_gd hf
  obtain ⟨w9, ew9, hf⟩ := ob_bnd hf
  refine xr_iast hx hb hK hP hD hS 3 (by decide) rfl 0 rfl (j := a2.toNatClampNeg) (w' := w9) h8 rfl ew9 dX1_adds_32 (fun H locs hP hS => ?_)
  refine lv_aload_n hx hb dX1_adds_33 rfl (lv_at hl 0 rfl) ?_
  refine xr_get hx hb hts in_X1 hown hK hP 1 (by decide) rfl rfl 0 (by decide) (hts _ q192) (fun _ h => h) rfl (v := .ref (E 3)) rfl dX1_adds_34 ?_
  refine lv_iload_n hx hb dX1_adds_37 rfl (lv_at hl 2 rfl) ?_
  obtain ⟨h10, hf⟩ := ob_gd hf
  refine xr_iald hx hb hK hP 3 (by decide) rfl 0 rfl (j := a2.toNatClampNeg) h10 rfl dX1_adds_38 ?_
  obtain rfl := ob_s hf
  subst hQ
  exact xe_i hx hb hr hlocks hP hS dX1_adds_39
set_option maxHeartbeats 4000000 in
set_option maxRecDepth 100000 in
theorem wkX1_adds_said (l : Launch) (D : va_G) (dA : Nat → ClassId) (E : Nat → Nat) (hE : wInj 136 E) (T : Tx) (J : State → Heap → Prop) (hJ : JP D dA E T J) (w : Mm) (a2 : Int32) (a3 : Int32) (a4 : Int32) {res : Int32 × Mm} (hf : X_X1_adds_said w a2 a3 a4 = some res) : Met l yX1_adds (ws_ yX1_adds cX1_adds 5 (some .int)) rmX1_adds (Pj D dA E J [.ref (E 1), .ref (E 11), .int a2, .int a3, .int a4] w) (Qwi D clX shX 136 dA E res.1 res.2) 0 0 (AE 136 E) := by
  refine xj_head (own := RX1) (by decide) rfl (Nat.le_of_ble_eq_true rfl) ?_
  intro p e s m args below meth c ls Q hQ C hP hl
  obtain ⟨hx, hb, hr, hlocks, hml, hown, hts, hK, hJs⟩ := C
  replace hl : lv_has ls 5 [(0, .ref (E 1)), (1, .ref (E 11)), (2, .int a2), (3, .int a3), (4, .int a4)] := hl
  have hS : va_S (AE 136 E) s.heap s.heap [] := va_S.rf
  have hD : wD 136 E (AE 136 E) := wD.self hE
  unfold X_X1_adds_said at hf
  obtain ⟨H, eH⟩ : ∃ H, H = s.heap := ⟨_, rfl⟩
  obtain ⟨locs, eL⟩ : ∃ locs : List Loc, locs = [] := ⟨_, rfl⟩
  rw [← eL] at hS ⊢
  rw [← eH] at hP
  have hS : va_S (AE 136 E) s.heap H locs := by rw [eH]; exact hS
  show W p l e rmX1_adds s m args below meth c s.heap locs 0 0 Q (F0 m 0 ls [])
  rw [← eH]
  refine lv_aload_n hx hb dX1_adds_0 rfl (lv_at hl 1 rfl) ?_
  refine lv_aload_n hx hb dX1_adds_1 rfl (lv_at hl 0 rfl) ?_
  refine xr_get hx hb hts in_X1 hown hK hP 1 (by decide) rfl rfl 0 (by decide) (hts _ q192) (fun _ h => h) rfl (v := .ref (E 3)) rfl dX1_adds_2 ?_
  refine lv_iload_n hx hb dX1_adds_5 rfl (lv_at hl 2 rfl) ?_
  obtain ⟨h1, hf⟩ := ob_gd hf
  refine xr_iald hx hb hK hP 3 (by decide) rfl 0 rfl (j := a2.toNatClampNeg) h1 rfl dX1_adds_6 ?_
  obtain ⟨h2, hf⟩ := ob_gd hf
  refine xr_aald hx hb hK hP 11 (by decide) rfl (j := (w.1 3 a2.toNatClampNeg).toNatClampNeg) h2 rfl dX1_adds_7 ?_
  refine lv_iconst (v := 0) hx hb dX1_adds_8 (by decide) ?_
  refine lv_iload_n hx hb dX1_adds_9 rfl (lv_at hl 3 rfl) ?_
  obtain ⟨w3, ew3, hf⟩ := ob_bnd hf
  refine xr_iast hx hb hK hP hD hS (44 + (w.1 3 a2.toNatClampNeg).toNatClampNeg) (by have := vin_lt h2; omega) (shX_s44 (by have := vin_lt h2; omega)) 0 rfl (j := 0) (w' := w3) (vin_c (by decide)) (by decide) ew3 dX1_adds_10 (fun H locs hP hS => ?_)
  refine lv_aload_n hx hb dX1_adds_11 rfl (lv_at hl 1 rfl) ?_
  refine lv_aload_n hx hb dX1_adds_12 rfl (lv_at hl 0 rfl) ?_
  refine xr_get hx hb hts in_X1 hown hK hP 1 (by decide) rfl rfl 0 (by decide) (hts _ q192) (fun _ h => h) rfl (v := .ref (E 3)) rfl dX1_adds_13 ?_
  refine lv_iload_n hx hb dX1_adds_16 rfl (lv_at hl 2 rfl) ?_
  obtain ⟨h4, hf⟩ := ob_gd hf
  refine xr_iald hx hb hK hP 3 (by decide) rfl 0 rfl (j := a2.toNatClampNeg) h4 rfl dX1_adds_17 ?_
  obtain ⟨h5, hf⟩ := ob_gd hf
  refine xr_aald hx hb hK hP 11 (by decide) rfl (j := (w3.1 3 a2.toNatClampNeg).toNatClampNeg) h5 rfl dX1_adds_18 ?_
  refine lv_iconst (v := 1) hx hb dX1_adds_19 (by decide) ?_
  refine lv_iload hx hb dX1_adds_20 (lv_at hl 4 rfl) ?_
  obtain ⟨w6, ew6, hf⟩ := ob_bnd hf
  refine xr_iast hx hb hK hP hD hS (44 + (w3.1 3 a2.toNatClampNeg).toNatClampNeg) (by have := vin_lt h5; omega) (shX_s44 (by have := vin_lt h5; omega)) 0 rfl (j := 1) (w' := w6) (vin_c (by decide)) (by decide) ew6 dX1_adds_22 (fun H locs hP hS => ?_)
  refine lv_aload_n hx hb dX1_adds_23 rfl (lv_at hl 0 rfl) ?_
  refine xr_get hx hb hts in_X1 hown hK hP 1 (by decide) rfl rfl 0 (by decide) (hts _ q192) (fun _ h => h) rfl (v := .ref (E 3)) rfl dX1_adds_24 ?_
  refine lv_iload_n hx hb dX1_adds_27 rfl (lv_at hl 2 rfl) ?_
  refine lv_dup2_11 hx hb dX1_adds_28 rfl rfl ?_
  obtain ⟨h7, hf⟩ := ob_gd hf
  refine xr_iald hx hb hK hP 3 (by decide) rfl 0 rfl (j := a2.toNatClampNeg) h7 rfl dX1_adds_29 ?_
  refine lv_iconst (v := 1) hx hb dX1_adds_30 (by decide) ?_
  refine lv_iadd hx hb dX1_adds_31 ?_
  obtain ⟨h8, hf⟩ := ob_gd hf
  obtain ⟨w9, ew9, hf⟩ := ob_bnd hf
  refine xr_iast hx hb hK hP hD hS 3 (by decide) rfl 0 rfl (j := a2.toNatClampNeg) (w' := w9) h8 rfl ew9 dX1_adds_32 (fun H locs hP hS => ?_)
  refine lv_aload_n hx hb dX1_adds_33 rfl (lv_at hl 0 rfl) ?_
  refine xr_get hx hb hts in_X1 hown hK hP 1 (by decide) rfl rfl 0 (by decide) (hts _ q192) (fun _ h => h) rfl (v := .ref (E 3)) rfl dX1_adds_34 ?_
  refine lv_iload_n hx hb dX1_adds_37 rfl (lv_at hl 2 rfl) ?_
  obtain ⟨h10, hf⟩ := ob_gd hf
  refine xr_iald hx hb hK hP 3 (by decide) rfl 0 rfl (j := a2.toNatClampNeg) h10 rfl dX1_adds_38 ?_
  obtain rfl := ob_s hf
  subst hQ
  exact xe_i hx hb hr hlocks hP hS dX1_adds_39
abbrev rmX0_bid : Room := { frames := 1, cells := 0, slots := 0, locals := 24 }
theorem cdX0_bid : yX0_bid.cls = RX0 ∧ yX0_bid.cls ≠ "java/lang/invoke/MethodHandle" ∧ yX0_bid.cls ≠ "java/lang/invoke/VarHandle" ∧ (parseMethodDescriptor yX0_bid.desc).map (fun d => d.parameters.length) = some 2 := by decide +kernel
set_option maxHeartbeats 4000000 in
set_option maxRecDepth 100000 in
theorem wkX0_bid (l : Launch) (D : va_G) (dA : Nat → ClassId) (E : Nat → Nat) (hE : wInj 136 E) (T : Tx) (J : State → Heap → Prop) (hJ : JP D dA E T J) (w : Mm) (a1 : Int32) (a2 : Int32) {res : Int32 × Mm} (hf : X_bid w a1 a2 = some res) : Met l yX0_bid (ws_ yX0_bid cX0_bid 3 (some .int)) rmX0_bid (Pj D dA E J [.ref (E 0), .int a1, .int a2] w) (Qwi D clX shX 136 dA E res.1 res.2) 0 0 (AE 136 E) := by
  refine xj_head (own := RX0) (by decide) rfl (Nat.le_of_ble_eq_true rfl) ?_
  intro p e s m args below meth c ls Q hQ C hP hl
  obtain ⟨hx, hb, hr, hlocks, hml, hown, hts, hK, hJs⟩ := C
  replace hl : lv_has ls 3 [(0, .ref (E 0)), (1, .int a1), (2, .int a2)] := hl
  have hS : va_S (AE 136 E) s.heap s.heap [] := va_S.rf
  have hD : wD 136 E (AE 136 E) := wD.self hE
  unfold X_bid at hf
  obtain ⟨H, eH⟩ : ∃ H, H = s.heap := ⟨_, rfl⟩
  obtain ⟨locs, eL⟩ : ∃ locs : List Loc, locs = [] := ⟨_, rfl⟩
  rw [← eL] at hS ⊢
  rw [← eH] at hP
  have hS : va_S (AE 136 E) s.heap H locs := by rw [eH]; exact hS
  show W p l e rmX0_bid s m args below meth c s.heap locs 0 0 Q (F0 m 0 ls [])
  rw [← eH]
  refine lv_iload_n hx hb dX0_bid_0 rfl (lv_at hl 1 rfl) ?_
  refine lv_iconst (v := (-1)) hx hb dX0_bid_1 (by decide) ?_
  refine lv_icmp_ne (tgt := 14) hx hb dX0_bid_2 (by decide) (fun c1 => ?_) (fun c1 => ?_)
  · replace hf := ob_f hf c1
    refine lv_iload_n hx hb dX0_bid_14 rfl (lv_at hl 1 rfl) ?_
    refine lv_iconst (v := 0) hx hb dX0_bid_15 (by decide) ?_
    refine lv_bipush (v := 99) hx hb dX0_bid_16 (by decide) ?_
    obtain ⟨q3, g2, hf⟩ := ob_bind hf
    refine xc_z (xj_runS (As := [.int a1, .int 0, .int 99]) (rest := []) hJ hJs hS ⟨hx, hb, hml, hown, hts⟩ (wkX0_in l D dA E hE T J hJ w a1 0 99 g2) (va_cwS 3 hts (lw_S q319 q320 q136 q321) rfl rfl rfl cdX0_in.2 ⟨Nat.le_of_ble_eq_true rfl, Nat.le_of_ble_eq_true rfl⟩) hK hP hl.1 rfl rfl (Nat.le_of_ble_eq_true rfl) dX0_bid_18 ⟨Nat.zero_le _, Nat.zero_le _⟩) hS hD.2 (fun H locs zq3 hP hS => ?_)
    refine lv_if_eq (tgt := 66) hx hb dX0_bid_21 (by decide) (fun c4 => ?_) (fun c4 => ?_)
    · replace hf := ob_t hf c4
      refine lv_bipush (v := (-2)) hx hb dX0_bid_66 (by decide) ?_
      obtain rfl := ob_s hf
      subst hQ
      exact xe_i hx hb hr hlocks hP hS dX0_bid_68
    · replace hf := ob_f hf c4
      refine lv_aload_n hx hb dX0_bid_24 rfl (lv_at hl 0 rfl) ?_
      refine xr_get hx hb hts in_X0 hown hK hP 0 (by decide) rfl rfl 0 (by decide) (hts _ q252) (fun _ h => h) rfl (v := .ref (E 1)) rfl dX0_bid_25 ?_
      refine xr_getN (host := "QuarrelsPawned") hx hb hts in_X1 hown hK hP 1 (by decide) rfl rfl 0 (by decide) (hJ.nest hJs 0 rfl) (fun _ h => h) rfl (v := .ref (E 3)) rfl dX0_bid_28 ?_
      refine lv_iconst (v := 5) hx hb dX0_bid_31 (by decide) ?_
      refine xr_iald hx hb hK hP 3 (by decide) rfl 0 rfl (j := 5) (vin_c (by decide)) (by decide) dX0_bid_32 ?_
      refine lv_bipush (v := 10) hx hb dX0_bid_33 (by decide) ?_
      refine lv_icmp_ge (tgt := 66) hx hb dX0_bid_35 (by decide) (fun c5 => ?_) (fun c5 => ?_)
      · replace hf := ob_t hf c5
        refine lv_bipush (v := (-2)) hx hb dX0_bid_66 (by decide) ?_
        obtain rfl := ob_s hf
        subst hQ
        exact xe_i hx hb hr hlocks hP hS dX0_bid_68
      · replace hf := ob_f hf c5
        refine lv_aload_n hx hb dX0_bid_38 rfl (lv_at hl 0 rfl) ?_
        refine xr_get hx hb hts in_X0 hown hK hP 0 (by decide) rfl rfl 0 (by decide) (hts _ q252) (fun _ h => h) rfl (v := .ref (E 1)) rfl dX0_bid_39 ?_
        refine lv_aload_n hx hb dX0_bid_42 rfl (lv_at hl 0 rfl) ?_
        refine xr_get hx hb hts in_X0 hown hK hP 0 (by decide) rfl rfl 0 (by decide) (hts _ q252) (fun _ h => h) rfl (v := .ref (E 1)) rfl dX0_bid_43 ?_
        refine xr_getN (host := "QuarrelsPawned") hx hb hts in_X1 hown hK hP 1 (by decide) rfl rfl 7 (by decide) (hJ.nest hJs 7 rfl) (fun _ h => h) rfl (v := .ref (E 10)) rfl dX0_bid_46 ?_
        refine lv_iconst (v := 5) hx hb dX0_bid_49 (by decide) ?_
        refine lv_iload_n hx hb dX0_bid_50 rfl (lv_at hl 1 rfl) ?_
        refine lv_iload_n hx hb dX0_bid_51 rfl (lv_at hl 2 rfl) ?_
        have kj60 : ∀ (t6 : Int32) (H : Heap) (locs : List Loc) (ls : Array Slot), X_bid_j60 w a1 t6 = some res → va_P D clX (wl shX 136 dA E w) H → va_S (AE 136 E) s.heap H locs → lv_has ls 3 [] → W p l e rmX0_bid s m args below meth c H locs 0 0 Q (F0 m 60 ls [.int t6, .int a1, .int 5, .ref (E 10), .ref (E 1)]) := by
          intro t6 H locs ls hf hP hS hl
          unfold X_bid_j60 at hf
          obtain ⟨q8, g7, hf⟩ := ob_bind hf
          refine xc_i (xj_run (As := [.ref (E 10), .int 5, .int a1, .int t6]) (rest := []) hJ hJs hS ⟨hx, hb, hml, hown, hts⟩ (k0 := 1) (wkX1_adds_bid l D dA E hE T J hJ w 5 a1 t6 g7) (cwV 4 hts (lw_V q1340 q1341 q1342 q137 q1343) rfl rfl rfl cdX1_adds ⟨Nat.le_of_ble_eq_true rfl, Nat.le_of_ble_eq_true rfl⟩) hK hP (by decide) rfl rfl rfl hl.1 rfl rfl (Nat.le_of_ble_eq_true rfl) dX0_bid_60 ⟨Nat.zero_le _, Nat.zero_le _⟩) hS hD.2 (fun H locs hP hS => ?_)
          refine lv_goto (tgt := 68) hx hb dX0_bid_63 (by decide) ?_
          obtain rfl := ob_s hf
          subst hQ
          exact xe_i hx hb hr hlocks hP hS dX0_bid_68
        refine lv_if_eq (tgt := 59) hx hb dX0_bid_52 (by decide) (fun c9 => ?_) (fun c9 => ?_)
        · replace hf := ob_t hf c9
          refine lv_iconst (v := 0) hx hb dX0_bid_59 (by decide) ?_
          exact kj60 0 H locs ls hf hP hS (lv_sub hl [] rfl)
        · replace hf := ob_f hf c9
          refine lv_iconst (v := 1) hx hb dX0_bid_55 (by decide) ?_
          refine lv_goto (tgt := 60) hx hb dX0_bid_56 (by decide) ?_
          exact kj60 1 H locs ls hf hP hS (lv_sub hl [] rfl)
  · replace hf := ob_t hf c1
    refine lv_aload_n hx hb dX0_bid_5 rfl (lv_at hl 0 rfl) ?_
    refine xr_get hx hb hts in_X0 hown hK hP 0 (by decide) rfl rfl 0 (by decide) (hts _ q252) (fun _ h => h) rfl (v := .ref (E 1)) rfl dX0_bid_6 ?_
    refine lv_iconst (v := 5) hx hb dX0_bid_9 (by decide) ?_
    obtain ⟨q11, g10, hf⟩ := ob_bind hf
    refine xc_i (xj_run (As := [.int 5]) (rest := []) hJ hJs hS ⟨hx, hb, hml, hown, hts⟩ (k0 := 1) (wkX1_clears l D dA E hE T J hJ w 5 g10) (cwV 1 hts (lw_V q1309 q1310 q1311 q137 q1312) rfl rfl rfl cdX1_clears ⟨Nat.le_of_ble_eq_true rfl, Nat.le_of_ble_eq_true rfl⟩) hK hP (by decide) rfl rfl rfl hl.1 rfl rfl (Nat.le_of_ble_eq_true rfl) dX0_bid_10 ⟨Nat.zero_le _, Nat.zero_le _⟩) hS hD.2 (fun H locs hP hS => ?_)
    obtain rfl := ob_s hf
    subst hQ
    exact xe_i hx hb hr hlocks hP hS dX0_bid_13
abbrev rmX0_priceOf : Room := { frames := 1, cells := 0, slots := 0, locals := 22 }
theorem cdX0_priceOf : yX0_priceOf.cls = RX0 ∧ yX0_priceOf.cls ≠ "java/lang/invoke/MethodHandle" ∧ yX0_priceOf.cls ≠ "java/lang/invoke/VarHandle" ∧ (parseMethodDescriptor yX0_priceOf.desc).map (fun d => d.parameters.length) = some 2 := by decide +kernel
set_option maxHeartbeats 4000000 in
set_option maxRecDepth 100000 in
theorem wkX0_priceOf (l : Launch) (D : va_G) (dA : Nat → ClassId) (E : Nat → Nat) (hE : wInj 136 E) (T : Tx) (J : State → Heap → Prop) (hJ : JP D dA E T J) (w : Mm) (a1 : Int32) (a2 : Int32) {res : Int32} (hf : X_priceOf w a1 a2 = some res) : Met l yX0_priceOf (ws_ yX0_priceOf cX0_priceOf 6 (some .int)) rmX0_priceOf (Pj D dA E J [.ref (E 0), .int a1, .int a2] w) (Qwi D clX shX 136 dA E res w) 0 0 (AE 136 E) := by
  refine xj_head (own := RX0) (by decide) rfl (Nat.le_of_ble_eq_true rfl) ?_
  intro p e s m args below meth c ls Q hQ C hP hl
  obtain ⟨hx, hb, hr, hlocks, hml, hown, hts, hK, hJs⟩ := C
  replace hl : lv_has ls 6 [(0, .ref (E 0)), (1, .int a1), (2, .int a2)] := hl
  have hS : va_S (AE 136 E) s.heap s.heap [] := va_S.rf
  have hD : wD 136 E (AE 136 E) := wD.self hE
  unfold X_priceOf at hf
  obtain ⟨H, eH⟩ : ∃ H, H = s.heap := ⟨_, rfl⟩
  obtain ⟨locs, eL⟩ : ∃ locs : List Loc, locs = [] := ⟨_, rfl⟩
  rw [← eL] at hS ⊢
  rw [← eH] at hP
  have hS : va_S (AE 136 E) s.heap H locs := by rw [eH]; exact hS
  show W p l e rmX0_priceOf s m args below meth c s.heap locs 0 0 Q (F0 m 0 ls [])
  rw [← eH]
  refine lv_iconst (v := 0) hx hb dX0_priceOf_0 (by decide) ?_
  refine lv_istore_n (lv' := [(3, .int 0), (0, .ref (E 0)), (1, .int a1), (2, .int a2)]) hx hb dX0_priceOf_1 rfl hl (by decide) rfl (fun ls hl => ?_)
  refine lv_iload_n hx hb dX0_priceOf_2 rfl (lv_at hl 3 rfl) ?_
  have kj12 : ∀ (t1 : Int32) (H : Heap) (locs : List Loc) (ls : Array Slot), X_priceOf_j12 w a2 a1 t1 = some res → va_P D clX (wl shX 136 dA E w) H → va_S (AE 136 E) s.heap H locs → lv_has ls 6 [(0, .ref (E 0)), (1, .int a1), (2, .int a2), (3, .int 0)] → W p l e rmX0_priceOf s m args below meth c H locs 0 0 Q (F0 m 12 ls [.int t1]) := by
    intro t1 H locs ls hf hP hS hl
    unfold X_priceOf_j12 at hf
    refine lv_istore (lv' := [(4, .int t1), (0, .ref (E 0)), (1, .int a1), (2, .int a2), (3, .int 0)]) hx hb dX0_priceOf_12 hl (by decide) rfl (fun ls hl => ?_)
    obtain ⟨b4, hb4, hf⟩ := ob_bind hf
    obtain ⟨n4, hn4⟩ := lp_some hb4
    have kL14 : ∀ (n : Nat) (v3_2 : Int32) (v4_3 : Int32), lpF (fun (q4 : Int32 × Int32) => X_priceOf_b14 w a2 a1 q4.1 q4.2) n (v3_2, v4_3) = some b4 → (∀ (x4_0 : Int32), b4 = .inl x4_0 → ∀ (H : Heap) (locs : List Loc) (ls : Array Slot), va_P D clX (wl shX 136 dA E w) H → va_S (AE 136 E) s.heap H locs → lv_has ls 6 [(4, .int x4_0)] → W p l e rmX0_priceOf s m args below meth c H locs 0 0 Q (F0 m 102 ls [])) → (∀ (x4_1 : Unit), b4 = .inr x4_1 → ∀ (H : Heap) (locs : List Loc) (ls : Array Slot), va_P D clX (wl shX 136 dA E w) H → va_S (AE 136 E) s.heap H locs → lv_has ls 6 [(2, .int a2)] → W p l e rmX0_priceOf s m args below meth c H locs 0 0 Q (F0 m 122 ls [])) → ∀ (H : Heap) (locs : List Loc) (ls : Array Slot), va_P D clX (wl shX 136 dA E w) H → va_S (AE 136 E) s.heap H locs → lv_has ls 6 [(0, .ref (E 0)), (1, .int a1), (2, .int a2), (3, .int v3_2), (4, .int v4_3)] → W p l e rmX0_priceOf s m args below meth c H locs 0 0 Q (F0 m 14 ls []) := by
      intro n
      induction n with
      | zero =>
        intro v3_2 v4_3 hq9
        cases hq9
      | succ n ih =>
        intro v3_2 v4_3 hq9 K4_0 K4_1 H locs ls hP hS hl
        obtain ⟨r4, hf, h4a, h4b⟩ := lpF_step hq9
        replace hf : X_priceOf_b14 w a2 a1 v3_2 v4_3 = some r4 := hf
        unfold X_priceOf_b14 at hf
        refine lv_iload hx hb dX0_priceOf_14 (lv_at hl 4 rfl) ?_
        refine lv_iconst (v := 0) hx hb dX0_priceOf_16 (by decide) ?_
        refine lv_bipush (v := 99) hx hb dX0_priceOf_17 (by decide) ?_
        obtain ⟨q6, g5, hf⟩ := ob_bind hf
        refine xc_z (xj_runS (As := [.int v4_3, .int 0, .int 99]) (rest := []) hJ hJs hS ⟨hx, hb, hml, hown, hts⟩ (wkX0_in l D dA E hE T J hJ w v4_3 0 99 g5) (va_cwS 3 hts (lw_S q319 q320 q136 q321) rfl rfl rfl cdX0_in.2 ⟨Nat.le_of_ble_eq_true rfl, Nat.le_of_ble_eq_true rfl⟩) hK hP hl.1 rfl rfl (Nat.le_of_ble_eq_true rfl) dX0_priceOf_19 ⟨Nat.zero_le _, Nat.zero_le _⟩) hS hD.2 (fun H locs zq6 hP hS => ?_)
        refine lv_if_eq (tgt := 122) hx hb dX0_priceOf_22 (by decide) (fun c7 => ?_) (fun c7 => ?_)
        · replace hf := ob_t hf c7
          obtain rfl := ob_s hf
          exact K4_1 _ (h4b _ rfl).symm H locs ls hP hS (lv_sub hl [2] rfl)
        · replace hf := ob_f hf c7
          refine lv_iconst (v := 0) hx hb dX0_priceOf_25 (by decide) ?_
          refine lv_istore (lv' := [(5, .int 0), (0, .ref (E 0)), (1, .int a1), (2, .int a2), (3, .int v3_2), (4, .int v4_3)]) hx hb dX0_priceOf_26 hl (by decide) rfl (fun ls hl => ?_)
          obtain ⟨b10, hb10, hf⟩ := ob_bind hf
          obtain ⟨n10, hn10⟩ := lp_some hb10
          have kL28 : ∀ (n : Nat) (v3_8 : Int32) (v5_9 : Int32), lpF (fun (q10 : Int32 × Int32) => X_priceOf_b28 w v4_3 a2 q10.1 q10.2) n (v3_8, v5_9) = some b10 → (∀ (H : Heap) (locs : List Loc) (ls : Array Slot), va_P D clX (wl shX 136 dA E w) H → va_S (AE 136 E) s.heap H locs → lv_has ls 6 [(0, .ref (E 0)), (1, .int a1), (2, .int a2), (3, .int b10), (4, .int v4_3)] → W p l e rmX0_priceOf s m args below meth c H locs 0 0 Q (F0 m 97 ls [])) → ∀ (H : Heap) (locs : List Loc) (ls : Array Slot), va_P D clX (wl shX 136 dA E w) H → va_S (AE 136 E) s.heap H locs → lv_has ls 6 [(0, .ref (E 0)), (1, .int a1), (2, .int a2), (3, .int v3_8), (4, .int v4_3), (5, .int v5_9)] → W p l e rmX0_priceOf s m args below meth c H locs 0 0 Q (F0 m 28 ls []) := by
            intro n
            induction n with
            | zero =>
              intro v3_8 v5_9 hq9
              cases hq9
            | succ n ih =>
              intro v3_8 v5_9 hq9 K10_0 H locs ls hP hS hl
              obtain ⟨r10, hf, h10a, h10b⟩ := lpF_step hq9
              replace hf : X_priceOf_b28 w v4_3 a2 v3_8 v5_9 = some r10 := hf
              unfold X_priceOf_b28 at hf
              refine lv_iload hx hb dX0_priceOf_28 (lv_at hl 5 rfl) ?_
              refine lv_aload_n hx hb dX0_priceOf_30 rfl (lv_at hl 0 rfl) ?_
              refine xr_get hx hb hts in_X0 hown hK hP 0 (by decide) rfl rfl 0 (by decide) (hts _ q252) (fun _ h => h) rfl (v := .ref (E 1)) rfl dX0_priceOf_31 ?_
              refine xr_getN (host := "QuarrelsPawned") hx hb hts in_X1 hown hK hP 1 (by decide) rfl rfl 0 (by decide) (hJ.nest hJs 0 rfl) (fun _ h => h) rfl (v := .ref (E 3)) rfl dX0_priceOf_34 ?_
              refine lv_iconst (v := 5) hx hb dX0_priceOf_37 (by decide) ?_
              refine xr_iald hx hb hK hP 3 (by decide) rfl 0 rfl (j := 5) (vin_c (by decide)) (by decide) dX0_priceOf_38 ?_
              refine lv_icmp_ge (tgt := 97) hx hb dX0_priceOf_39 (by decide) (fun c11 => ?_) (fun c11 => ?_)
              · replace hf := ob_t hf c11
                obtain rfl := ob_s hf
                obtain rfl := h10b _ rfl
                exact K10_0 H locs ls hP hS (lv_sub hl [0, 1, 2, 3, 4] rfl)
              · replace hf := ob_f hf c11
                refine lv_iload_n hx hb dX0_priceOf_42 rfl (lv_at hl 3 rfl) ?_
                refine lv_aload_n hx hb dX0_priceOf_43 rfl (lv_at hl 0 rfl) ?_
                refine xr_get hx hb hts in_X0 hown hK hP 0 (by decide) rfl rfl 0 (by decide) (hts _ q252) (fun _ h => h) rfl (v := .ref (E 1)) rfl dX0_priceOf_44 ?_
                refine xr_getN (host := "QuarrelsPawned") hx hb hts in_X1 hown hK hP 1 (by decide) rfl rfl 7 (by decide) (hJ.nest hJs 7 rfl) (fun _ h => h) rfl (v := .ref (E 10)) rfl dX0_priceOf_47 ?_
                refine lv_iload hx hb dX0_priceOf_50 (lv_at hl 5 rfl) ?_
                obtain ⟨h12, hf⟩ := ob_gd hf
                refine xr_aald hx hb hK hP 10 (by decide) rfl (j := v5_9.toNatClampNeg) h12 rfl dX0_priceOf_52 ?_
                refine lv_iconst (v := 0) hx hb dX0_priceOf_53 (by decide) ?_
                refine xr_iald hx hb hK hP (34 + v5_9.toNatClampNeg) (by have := vin_lt h12; omega) (shX_r1 (by have := vin_lt h12; omega)) 0 rfl (j := 0) (vin_c (by decide)) (by decide) dX0_priceOf_54 ?_
                refine lv_iload hx hb dX0_priceOf_55 (lv_at hl 4 rfl) ?_
                refine lv_icmp_ne (tgt := 88) hx hb dX0_priceOf_57 (by decide) (fun c13 => ?_) (fun c13 => ?_)
                · replace hf := ob_f hf c13
                  refine lv_iconst (v := 0) hx hb dX0_priceOf_88 (by decide) ?_
                  refine lv_iadd hx hb dX0_priceOf_89 ?_
                  obtain ⟨v3_14, ev3_14, hf⟩ := ob_bnd hf
                  refine xn_i ev3_14 ?_
                  refine lv_istore_n (lv' := [(3, .int v3_14), (0, .ref (E 0)), (1, .int a1), (2, .int a2), (4, .int v4_3), (5, .int v5_9)]) hx hb dX0_priceOf_90 rfl hl (by decide) rfl (fun ls hl => ?_)
                  obtain ⟨v5_15, ev5_15, hf⟩ := ob_bnd hf
                  refine lv_iinc (v := v5_15) (lv' := [(5, .int v5_15), (3, .int v3_14), (0, .ref (E 0)), (1, .int a1), (2, .int a2), (4, .int v4_3)]) hx hb dX0_priceOf_91 hl (k := 5) rfl (by rw [ev5_15]; rfl) (by decide) rfl (fun ls hl => ?_)
                  refine lv_goto (tgt := 28) hx hb dX0_priceOf_94 (by decide) ?_
                  obtain rfl := ob_s hf
                  exact ih _ _ (h10a _ rfl) K10_0 H locs ls hP hS (lv_sub hl [2, 3, 4, 1, 5, 0] rfl)
                · replace hf := ob_t hf c13
                  refine lv_aload_n hx hb dX0_priceOf_60 rfl (lv_at hl 0 rfl) ?_
                  refine xr_get hx hb hts in_X0 hown hK hP 0 (by decide) rfl rfl 0 (by decide) (hts _ q252) (fun _ h => h) rfl (v := .ref (E 1)) rfl dX0_priceOf_61 ?_
                  refine xr_getN (host := "QuarrelsPawned") hx hb hts in_X1 hown hK hP 1 (by decide) rfl rfl 7 (by decide) (hJ.nest hJs 7 rfl) (fun _ h => h) rfl (v := .ref (E 10)) rfl dX0_priceOf_64 ?_
                  refine lv_iload hx hb dX0_priceOf_67 (lv_at hl 5 rfl) ?_
                  obtain ⟨h16, hf⟩ := ob_gd hf
                  refine xr_aald hx hb hK hP 10 (by decide) rfl (j := v5_9.toNatClampNeg) h16 rfl dX0_priceOf_69 ?_
                  refine lv_iconst (v := 1) hx hb dX0_priceOf_70 (by decide) ?_
                  refine xr_iald hx hb hK hP (34 + v5_9.toNatClampNeg) (by have := vin_lt h16; omega) (shX_r1 (by have := vin_lt h16; omega)) 0 rfl (j := 1) (vin_c (by decide)) (by decide) dX0_priceOf_71 ?_
                  refine lv_iload_n hx hb dX0_priceOf_72 rfl (lv_at hl 2 rfl) ?_
                  have kj81 : ∀ (t17 : Int32) (H : Heap) (locs : List Loc) (ls : Array Slot), X_priceOf_j81 w v5_9 t17 v3_8 = some r10 → va_P D clX (wl shX 136 dA E w) H → va_S (AE 136 E) s.heap H locs → lv_has ls 6 [(0, .ref (E 0)), (1, .int a1), (2, .int a2), (4, .int v4_3), (5, .int v5_9)] → W p l e rmX0_priceOf s m args below meth c H locs 0 0 Q (F0 m 81 ls [.int t17, .int (w.1 (34 + v5_9.toNatClampNeg) 1), .int v3_8]) := by
                    intro t17 H locs ls hf hP hS hl
                    unfold X_priceOf_j81 at hf
                    refine lv_icmp_ne (tgt := 88) hx hb dX0_priceOf_81 (by decide) (fun c18 => ?_) (fun c18 => ?_)
                    · replace hf := ob_f hf c18
                      refine lv_iconst (v := 0) hx hb dX0_priceOf_88 (by decide) ?_
                      refine lv_iadd hx hb dX0_priceOf_89 ?_
                      obtain ⟨v3_19, ev3_19, hf⟩ := ob_bnd hf
                      refine xn_i ev3_19 ?_
                      refine lv_istore_n (lv' := [(3, .int v3_19), (0, .ref (E 0)), (1, .int a1), (2, .int a2), (4, .int v4_3), (5, .int v5_9)]) hx hb dX0_priceOf_90 rfl hl (by decide) rfl (fun ls hl => ?_)
                      obtain ⟨v5_20, ev5_20, hf⟩ := ob_bnd hf
                      refine lv_iinc (v := v5_20) (lv' := [(5, .int v5_20), (3, .int v3_19), (0, .ref (E 0)), (1, .int a1), (2, .int a2), (4, .int v4_3)]) hx hb dX0_priceOf_91 hl (k := 5) rfl (by rw [ev5_20]; rfl) (by decide) rfl (fun ls hl => ?_)
                      refine lv_goto (tgt := 28) hx hb dX0_priceOf_94 (by decide) ?_
                      obtain rfl := ob_s hf
                      exact ih _ _ (h10a _ rfl) K10_0 H locs ls hP hS (lv_sub hl [2, 3, 4, 1, 5, 0] rfl)
                    · replace hf := ob_t hf c18
                      refine lv_iconst (v := 1) hx hb dX0_priceOf_84 (by decide) ?_
                      refine lv_goto (tgt := 89) hx hb dX0_priceOf_85 (by decide) ?_
                      refine lv_iadd hx hb dX0_priceOf_89 ?_
                      obtain ⟨v3_21, ev3_21, hf⟩ := ob_bnd hf
                      refine xn_i ev3_21 ?_
                      refine lv_istore_n (lv' := [(3, .int v3_21), (0, .ref (E 0)), (1, .int a1), (2, .int a2), (4, .int v4_3), (5, .int v5_9)]) hx hb dX0_priceOf_90 rfl hl (by decide) rfl (fun ls hl => ?_)
                      obtain ⟨v5_22, ev5_22, hf⟩ := ob_bnd hf
                      refine lv_iinc (v := v5_22) (lv' := [(5, .int v5_22), (3, .int v3_21), (0, .ref (E 0)), (1, .int a1), (2, .int a2), (4, .int v4_3)]) hx hb dX0_priceOf_91 hl (k := 5) rfl (by rw [ev5_22]; rfl) (by decide) rfl (fun ls hl => ?_)
                      refine lv_goto (tgt := 28) hx hb dX0_priceOf_94 (by decide) ?_
                      obtain rfl := ob_s hf
                      exact ih _ _ (h10a _ rfl) K10_0 H locs ls hP hS (lv_sub hl [2, 3, 4, 1, 5, 0] rfl)
                  refine lv_if_eq (tgt := 80) hx hb dX0_priceOf_73 (by decide) (fun c23 => ?_) (fun c23 => ?_)
                  · replace hf := ob_t hf c23
                    refine lv_iconst (v := 0) hx hb dX0_priceOf_80 (by decide) ?_
                    exact kj81 0 H locs ls hf hP hS (lv_sub hl [0, 1, 2, 4, 5] rfl)
                  · replace hf := ob_f hf c23
                    refine lv_iconst (v := 1) hx hb dX0_priceOf_76 (by decide) ?_
                    refine lv_goto (tgt := 81) hx hb dX0_priceOf_77 (by decide) ?_
                    exact kj81 1 H locs ls hf hP hS (lv_sub hl [0, 1, 2, 4, 5] rfl)
          refine kL28 n10 v3_2 0 hn10 (fun H locs ls hP hS hl => ?_) H locs ls hP hS (lv_sub hl [1, 2, 3, 4, 5, 0] rfl)
          replace hf : X_priceOf_x28_97 b10 a1 a2 v4_3 = some r4 := hf
          unfold X_priceOf_x28_97 at hf
          refine lv_iload_n hx hb dX0_priceOf_97 rfl (lv_at hl 3 rfl) ?_
          refine lv_iload_n hx hb dX0_priceOf_98 rfl (lv_at hl 1 rfl) ?_
          refine lv_icmp_le (tgt := 105) hx hb dX0_priceOf_99 (by decide) (fun c24 => ?_) (fun c24 => ?_)
          · replace hf := ob_t hf c24
            refine lv_iload hx hb dX0_priceOf_105 (lv_at hl 4 rfl) ?_
            refine lv_iload_n hx hb dX0_priceOf_107 rfl (lv_at hl 2 rfl) ?_
            refine lv_if_eq (tgt := 115) hx hb dX0_priceOf_108 (by decide) (fun c25 => ?_) (fun c25 => ?_)
            · replace hf := ob_t hf c25
              refine lv_iconst (v := 1) hx hb dX0_priceOf_115 (by decide) ?_
              refine lv_iadd hx hb dX0_priceOf_116 ?_
              obtain ⟨v4_26, ev4_26, hf⟩ := ob_bnd hf
              refine xn_i ev4_26 ?_
              refine lv_istore (lv' := [(4, .int v4_26), (0, .ref (E 0)), (1, .int a1), (2, .int a2), (3, .int b10)]) hx hb dX0_priceOf_117 hl (by decide) rfl (fun ls hl => ?_)
              refine lv_goto (tgt := 14) hx hb dX0_priceOf_119 (by decide) ?_
              obtain rfl := ob_s hf
              exact ih _ _ (h4a _ rfl) K4_0 K4_1 H locs ls hP hS (lv_sub hl [1, 2, 3, 4, 0] rfl)
            · replace hf := ob_f hf c25
              refine lv_iconst (v := (-1)) hx hb dX0_priceOf_111 (by decide) ?_
              refine lv_goto (tgt := 116) hx hb dX0_priceOf_112 (by decide) ?_
              refine lv_iadd hx hb dX0_priceOf_116 ?_
              obtain ⟨v4_27, ev4_27, hf⟩ := ob_bnd hf
              refine xn_i ev4_27 ?_
              refine lv_istore (lv' := [(4, .int v4_27), (0, .ref (E 0)), (1, .int a1), (2, .int a2), (3, .int b10)]) hx hb dX0_priceOf_117 hl (by decide) rfl (fun ls hl => ?_)
              refine lv_goto (tgt := 14) hx hb dX0_priceOf_119 (by decide) ?_
              obtain rfl := ob_s hf
              exact ih _ _ (h4a _ rfl) K4_0 K4_1 H locs ls hP hS (lv_sub hl [1, 2, 3, 4, 0] rfl)
          · replace hf := ob_f hf c24
            obtain rfl := ob_s hf
            exact K4_0 _ (h4b _ rfl).symm H locs ls hP hS (lv_sub hl [4] rfl)
    refine kL14 n4 0 t1 hn4 (fun x4_0 ex4_0 H locs ls hP hS hl => ?_) (fun x4_1 ex4_1 H locs ls hP hS hl => ?_) H locs ls hP hS (lv_sub hl [1, 2, 3, 4, 0] rfl)
    · subst ex4_0
      replace hf : X_priceOf_x14_102 x4_0 = some res := hf
      unfold X_priceOf_x14_102 at hf
      refine lv_iload hx hb dX0_priceOf_102 (lv_at hl 0 rfl) ?_
      obtain rfl := ob_s hf
      subst hQ
      exact xe_i hx hb hr hlocks hP hS dX0_priceOf_104
    · subst ex4_1
      replace hf : X_priceOf_x14_122 a2 = some res := hf
      unfold X_priceOf_x14_122 at hf
      refine lv_iload_n hx hb dX0_priceOf_122 rfl (lv_at hl 0 rfl) ?_
      refine lv_if_eq (tgt := 130) hx hb dX0_priceOf_123 (by decide) (fun c28 => ?_) (fun c28 => ?_)
      · replace hf := ob_t hf c28
        refine lv_bipush (v := 100) hx hb dX0_priceOf_130 (by decide) ?_
        obtain rfl := ob_s hf
        subst hQ
        exact xe_i hx hb hr hlocks hP hS dX0_priceOf_132
      · replace hf := ob_f hf c28
        refine lv_iconst (v := (-1)) hx hb dX0_priceOf_126 (by decide) ?_
        refine lv_goto (tgt := 132) hx hb dX0_priceOf_127 (by decide) ?_
        obtain rfl := ob_s hf
        subst hQ
        exact xe_i hx hb hr hlocks hP hS dX0_priceOf_132
  refine lv_if_eq (tgt := 11) hx hb dX0_priceOf_3 (by decide) (fun c29 => ?_) (fun c29 => ?_)
  · replace hf := ob_t hf c29
    refine lv_iconst (v := 0) hx hb dX0_priceOf_11 (by decide) ?_
    exact kj12 0 H locs ls hf hP hS (lv_sub hl [1, 2, 3, 0] rfl)
  · replace hf := ob_f hf c29
    refine lv_bipush (v := 99) hx hb dX0_priceOf_6 (by decide) ?_
    refine lv_goto (tgt := 12) hx hb dX0_priceOf_8 (by decide) ?_
    exact kj12 99 H locs ls hf hP hS (lv_sub hl [1, 2, 3, 0] rfl)
abbrev rmX0_trades : Room := { frames := 2, cells := 0, slots := 0, locals := 47 }
theorem cdX0_trades : yX0_trades.cls = RX0 ∧ yX0_trades.cls ≠ "java/lang/invoke/MethodHandle" ∧ yX0_trades.cls ≠ "java/lang/invoke/VarHandle" ∧ (parseMethodDescriptor yX0_trades.desc).map (fun d => d.parameters.length) = some 0 := by decide +kernel
set_option maxHeartbeats 4000000 in
set_option maxRecDepth 100000 in
theorem wkX0_trades (l : Launch) (D : va_G) (dA : Nat → ClassId) (E : Nat → Nat) (hE : wInj 136 E) (T : Tx) (J : State → Heap → Prop) (hJ : JP D dA E T J) (w : Mm)  {res : Int32} (hf : X_trades w = some res) : Met l yX0_trades (ws_ yX0_trades cX0_trades 2 (some .int)) rmX0_trades (Pj D dA E J [.ref (E 0)] w) (Qwi D clX shX 136 dA E res w) 0 0 (AE 136 E) := by
  refine xj_head (own := RX0) (by decide) rfl (Nat.le_of_ble_eq_true rfl) ?_
  intro p e s m args below meth c ls Q hQ C hP hl
  obtain ⟨hx, hb, hr, hlocks, hml, hown, hts, hK, hJs⟩ := C
  replace hl : lv_has ls 2 [(0, .ref (E 0))] := hl
  have hS : va_S (AE 136 E) s.heap s.heap [] := va_S.rf
  have hD : wD 136 E (AE 136 E) := wD.self hE
  unfold X_trades at hf
  obtain ⟨H, eH⟩ : ∃ H, H = s.heap := ⟨_, rfl⟩
  obtain ⟨locs, eL⟩ : ∃ locs : List Loc, locs = [] := ⟨_, rfl⟩
  rw [← eL] at hS ⊢
  rw [← eH] at hP
  have hS : va_S (AE 136 E) s.heap H locs := by rw [eH]; exact hS
  show W p l e rmX0_trades s m args below meth c s.heap locs 0 0 Q (F0 m 0 ls [])
  rw [← eH]
  refine lv_iconst (v := 0) hx hb dX0_trades_0 (by decide) ?_
  refine lv_istore_n (lv' := [(1, .int 0), (0, .ref (E 0))]) hx hb dX0_trades_1 rfl hl (by decide) rfl (fun ls hl => ?_)
  obtain ⟨b2, hb2, hf⟩ := ob_bind hf
  obtain ⟨n2, hn2⟩ := lp_some hb2
  have kL2 : ∀ (n : Nat) (v1_1 : Int32), lpF (fun (q2 : Int32) => X_trades_b2 w q2) n v1_1 = some b2 → (∀ (H : Heap) (locs : List Loc) (ls : Array Slot), va_P D clX (wl shX 136 dA E w) H → va_S (AE 136 E) s.heap H locs → lv_has ls 2 [(1, .int b2)] → W p l e rmX0_trades s m args below meth c H locs 0 0 Q (F0 m 23 ls [])) → ∀ (H : Heap) (locs : List Loc) (ls : Array Slot), va_P D clX (wl shX 136 dA E w) H → va_S (AE 136 E) s.heap H locs → lv_has ls 2 [(0, .ref (E 0)), (1, .int v1_1)] → W p l e rmX0_trades s m args below meth c H locs 0 0 Q (F0 m 2 ls []) := by
    intro n
    induction n with
    | zero =>
      intro v1_1 hq9
      cases hq9
    | succ n ih =>
      intro v1_1 hq9 K2_0 H locs ls hP hS hl
      obtain ⟨r2, hf, h2a, h2b⟩ := lpF_step hq9
      replace hf : X_trades_b2 w v1_1 = some r2 := hf
      unfold X_trades_b2 at hf
      refine lv_aload_n hx hb dX0_trades_2 rfl (lv_at hl 0 rfl) ?_
      refine lv_iload_n hx hb dX0_trades_3 rfl (lv_at hl 1 rfl) ?_
      refine lv_iconst (v := 1) hx hb dX0_trades_4 (by decide) ?_
      obtain ⟨q4, g3, hf⟩ := ob_bind hf
      refine xc_i (xj_run (As := [.int v1_1, .int 1]) (rest := []) hJ hJs hS ⟨hx, hb, hml, hown, hts⟩ (k0 := 0) (wkX0_priceOf l D dA E hE T J hJ w v1_1 1 g3) (cwV 2 hts (lw_V q1352 q1354 qs59 q136 q1355) rfl rfl rfl cdX0_priceOf ⟨Nat.le_of_ble_eq_true rfl, Nat.le_of_ble_eq_true rfl⟩) hK hP (by decide) rfl rfl rfl hl.1 rfl rfl (Nat.le_of_ble_eq_true rfl) dX0_trades_5 ⟨Nat.zero_le _, Nat.zero_le _⟩) hS hD.2 (fun H locs hP hS => ?_)
      refine lv_aload_n hx hb dX0_trades_8 rfl (lv_at hl 0 rfl) ?_
      refine lv_iload_n hx hb dX0_trades_9 rfl (lv_at hl 1 rfl) ?_
      refine lv_iconst (v := 0) hx hb dX0_trades_10 (by decide) ?_
      obtain ⟨q6, g5, hf⟩ := ob_bind hf
      refine xc_i (xj_run (As := [.int v1_1, .int 0]) (rest := [.int q4]) hJ hJs hS ⟨hx, hb, hml, hown, hts⟩ (k0 := 0) (wkX0_priceOf l D dA E hE T J hJ w v1_1 0 g5) (cwV 2 hts (lw_V q1352 q1354 qs59 q136 q1355) rfl rfl rfl cdX0_priceOf ⟨Nat.le_of_ble_eq_true rfl, Nat.le_of_ble_eq_true rfl⟩) hK hP (by decide) rfl rfl rfl hl.1 rfl rfl (Nat.le_of_ble_eq_true rfl) dX0_trades_11 ⟨Nat.zero_le _, Nat.zero_le _⟩) hS hD.2 (fun H locs hP hS => ?_)
      refine lv_icmp_lt (tgt := 23) hx hb dX0_trades_14 (by decide) (fun c7 => ?_) (fun c7 => ?_)
      · replace hf := ob_t hf c7
        obtain rfl := ob_s hf
        obtain rfl := h2b _ rfl
        exact K2_0 H locs ls hP hS (lv_sub hl [1] rfl)
      · replace hf := ob_f hf c7
        obtain ⟨v1_8, ev1_8, hf⟩ := ob_bnd hf
        refine lv_iinc (v := v1_8) (lv' := [(1, .int v1_8), (0, .ref (E 0))]) hx hb dX0_trades_17 hl (k := 1) rfl (by rw [ev1_8]; rfl) (by decide) rfl (fun ls hl => ?_)
        refine lv_goto (tgt := 2) hx hb dX0_trades_20 (by decide) ?_
        obtain rfl := ob_s hf
        exact ih _ (h2a _ rfl) K2_0 H locs ls hP hS (lv_sub hl [1, 0] rfl)
  refine kL2 n2 0 hn2 (fun H locs ls hP hS hl => ?_) H locs ls hP hS (lv_sub hl [1, 0] rfl)
  replace hf : X_trades_x2_23 b2 = some res := hf
  unfold X_trades_x2_23 at hf
  refine lv_iload_n hx hb dX0_trades_23 rfl (lv_at hl 0 rfl) ?_
  obtain rfl := ob_s hf
  subst hQ
  exact xe_i hx hb hr hlocks hP hS dX0_trades_24
abbrev rmX0_market : Room := { frames := 3, cells := 0, slots := 0, locals := 68 }
theorem cdX0_market : yX0_market.cls = RX0 ∧ yX0_market.cls ≠ "java/lang/invoke/MethodHandle" ∧ yX0_market.cls ≠ "java/lang/invoke/VarHandle" ∧ (parseMethodDescriptor yX0_market.desc).map (fun d => d.parameters.length) = some 1 := by decide +kernel
set_option maxHeartbeats 4000000 in
set_option maxRecDepth 100000 in
theorem wkX0_market (l : Launch) (D : va_G) (dA : Nat → ClassId) (E : Nat → Nat) (hE : wInj 136 E) (T : Tx) (J : State → Heap → Prop) (hJ : JP D dA E T J) (w : Mm) (a1 : Int32) {res : Int32} (hf : X_market w a1 = some res) : Met l yX0_market (ws_ yX0_market cX0_market 3 (some .int)) rmX0_market (Pj D dA E J [.ref (E 0), .int a1] w) (Qwi D clX shX 136 dA E res w) 0 0 (AE 136 E) := by
  refine xj_head (own := RX0) (by decide) rfl (Nat.le_of_ble_eq_true rfl) ?_
  intro p e s m args below meth c ls Q hQ C hP hl
  obtain ⟨hx, hb, hr, hlocks, hml, hown, hts, hK, hJs⟩ := C
  replace hl : lv_has ls 3 [(0, .ref (E 0)), (1, .int a1)] := hl
  have hS : va_S (AE 136 E) s.heap s.heap [] := va_S.rf
  have hD : wD 136 E (AE 136 E) := wD.self hE
  unfold X_market at hf
  obtain ⟨H, eH⟩ : ∃ H, H = s.heap := ⟨_, rfl⟩
  obtain ⟨locs, eL⟩ : ∃ locs : List Loc, locs = [] := ⟨_, rfl⟩
  rw [← eL] at hS ⊢
  rw [← eH] at hP
  have hS : va_S (AE 136 E) s.heap H locs := by rw [eH]; exact hS
  show W p l e rmX0_market s m args below meth c s.heap locs 0 0 Q (F0 m 0 ls [])
  rw [← eH]
  refine lv_aload_n hx hb dX0_market_0 rfl (lv_at hl 0 rfl) ?_
  obtain ⟨q2, g1, hf⟩ := ob_bind hf
  refine xc_i (xj_run (As := []) (rest := []) hJ hJs hS ⟨hx, hb, hml, hown, hts⟩ (k0 := 0) (wkX0_trades l D dA E hE T J hJ w g1) (cwV 0 hts (lw_V q1348 q1350 qs58 q136 q1351) rfl rfl rfl cdX0_trades ⟨Nat.le_of_ble_eq_true rfl, Nat.le_of_ble_eq_true rfl⟩) hK hP (by decide) rfl rfl rfl hl.1 rfl rfl (Nat.le_of_ble_eq_true rfl) dX0_market_1 ⟨Nat.zero_le _, Nat.zero_le _⟩) hS hD.2 (fun H locs hP hS => ?_)
  refine lv_istore_n (lv' := [(2, .int q2), (0, .ref (E 0)), (1, .int a1)]) hx hb dX0_market_4 rfl hl (by decide) rfl (fun ls hl => ?_)
  refine lv_iload_n hx hb dX0_market_5 rfl (lv_at hl 2 rfl) ?_
  refine lv_if_ne (tgt := 11) hx hb dX0_market_6 (by decide) (fun c3 => ?_) (fun c3 => ?_)
  · replace hf := ob_f hf c3
    refine lv_iload_n hx hb dX0_market_11 rfl (lv_at hl 2 rfl) ?_
    refine lv_iconst (v := 1) hx hb dX0_market_12 (by decide) ?_
    refine lv_iconst (v := 2) hx hb dX0_market_13 (by decide) ?_
    obtain ⟨q5, g4, hf⟩ := ob_bind hf
    refine xc_z (xj_runS (As := [.int a1, .int 1, .int 2]) (rest := []) hJ hJs hS ⟨hx, hb, hml, hown, hts⟩ (wkX0_in l D dA E hE T J hJ w a1 1 2 g4) (va_cwS 3 hts (lw_S q319 q320 q136 q321) rfl rfl rfl cdX0_in.2 ⟨Nat.le_of_ble_eq_true rfl, Nat.le_of_ble_eq_true rfl⟩) hK hP hl.1 rfl rfl (Nat.le_of_ble_eq_true rfl) dX0_market_14 ⟨Nat.zero_le _, Nat.zero_le _⟩) hS hD.2 (fun H locs zq5 hP hS => ?_)
    refine lv_if_eq (tgt := 24) hx hb dX0_market_17 (by decide) (fun c6 => ?_) (fun c6 => ?_)
    · replace hf := ob_t hf c6
      refine lv_iconst (v := (-1)) hx hb dX0_market_24 (by decide) ?_
      obtain rfl := ob_s hf
      subst hQ
      exact xe_i hx hb hr hlocks hP hS dX0_market_25
    · replace hf := ob_f hf c6
      refine lv_iload_n hx hb dX0_market_20 rfl (lv_at hl 0 rfl) ?_
      refine lv_if_ne (tgt := 26) hx hb dX0_market_21 (by decide) (fun c7 => ?_) (fun c7 => ?_)
      · replace hf := ob_f hf c7
        refine lv_iload_n hx hb dX0_market_26 rfl (lv_at hl 2 rfl) ?_
        refine lv_iconst (v := 1) hx hb dX0_market_27 (by decide) ?_
        refine lv_icmp_ne (tgt := 51) hx hb dX0_market_28 (by decide) (fun c8 => ?_) (fun c8 => ?_)
        · replace hf := ob_f hf c8
          refine lv_aload_n hx hb dX0_market_51 rfl (lv_at hl 1 rfl) ?_
          refine lv_iload_n hx hb dX0_market_52 rfl (lv_at hl 0 rfl) ?_
          refine lv_iconst (v := 1) hx hb dX0_market_53 (by decide) ?_
          refine lv_isub hx hb dX0_market_54 ?_
          refine lv_iconst (v := 1) hx hb dX0_market_55 (by decide) ?_
          obtain ⟨q10, g9, hf⟩ := ob_bind hf
          refine xc_i (xj_run (As := [.int (q2 - 1), .int 1]) (rest := []) hJ hJs hS ⟨hx, hb, hml, hown, hts⟩ (k0 := 0) (wkX0_priceOf l D dA E hE T J hJ w (q2 - 1) 1 g9) (cwV 2 hts (lw_V q1352 q1354 qs59 q136 q1355) rfl rfl rfl cdX0_priceOf ⟨Nat.le_of_ble_eq_true rfl, Nat.le_of_ble_eq_true rfl⟩) hK hP (by decide) rfl rfl rfl hl.1 rfl rfl (Nat.le_of_ble_eq_true rfl) dX0_market_56 ⟨Nat.zero_le _, Nat.zero_le _⟩) hS hD.2 (fun H locs hP hS => ?_)
          refine lv_aload_n hx hb dX0_market_59 rfl (lv_at hl 1 rfl) ?_
          refine lv_iload_n hx hb dX0_market_60 rfl (lv_at hl 0 rfl) ?_
          refine lv_iconst (v := 0) hx hb dX0_market_61 (by decide) ?_
          obtain ⟨q12, g11, hf⟩ := ob_bind hf
          refine xc_i (xj_run (As := [.int q2, .int 0]) (rest := [.int q10]) hJ hJs hS ⟨hx, hb, hml, hown, hts⟩ (k0 := 0) (wkX0_priceOf l D dA E hE T J hJ w q2 0 g11) (cwV 2 hts (lw_V q1352 q1354 qs59 q136 q1355) rfl rfl rfl cdX0_priceOf ⟨Nat.le_of_ble_eq_true rfl, Nat.le_of_ble_eq_true rfl⟩) hK hP (by decide) rfl rfl rfl hl.1 rfl rfl (Nat.le_of_ble_eq_true rfl) dX0_market_62 ⟨Nat.zero_le _, Nat.zero_le _⟩) hS hD.2 (fun H locs hP hS => ?_)
          refine xr_mmin hx hb (hml.trans hl.1.symm) hown (hts _ q918) (hts _ q492) (hts _ q150) (hts _ q493) (Nat.le_of_ble_eq_true rfl) (Nat.le_of_ble_eq_true rfl) (Nat.zero_le _) (Nat.zero_le _) dX0_market_65 ?_
          obtain rfl := ob_s hf
          subst hQ
          exact xe_i hx hb hr hlocks hP hS dX0_market_68
        · replace hf := ob_t hf c8
          refine lv_aload_n hx hb dX0_market_31 rfl (lv_at hl 1 rfl) ?_
          refine lv_iload_n hx hb dX0_market_32 rfl (lv_at hl 0 rfl) ?_
          refine lv_iconst (v := 1) hx hb dX0_market_33 (by decide) ?_
          refine lv_isub hx hb dX0_market_34 ?_
          refine lv_iconst (v := 0) hx hb dX0_market_35 (by decide) ?_
          obtain ⟨q14, g13, hf⟩ := ob_bind hf
          refine xc_i (xj_run (As := [.int (q2 - 1), .int 0]) (rest := []) hJ hJs hS ⟨hx, hb, hml, hown, hts⟩ (k0 := 0) (wkX0_priceOf l D dA E hE T J hJ w (q2 - 1) 0 g13) (cwV 2 hts (lw_V q1352 q1354 qs59 q136 q1355) rfl rfl rfl cdX0_priceOf ⟨Nat.le_of_ble_eq_true rfl, Nat.le_of_ble_eq_true rfl⟩) hK hP (by decide) rfl rfl rfl hl.1 rfl rfl (Nat.le_of_ble_eq_true rfl) dX0_market_36 ⟨Nat.zero_le _, Nat.zero_le _⟩) hS hD.2 (fun H locs hP hS => ?_)
          refine lv_aload_n hx hb dX0_market_39 rfl (lv_at hl 1 rfl) ?_
          refine lv_iload_n hx hb dX0_market_40 rfl (lv_at hl 0 rfl) ?_
          refine lv_iconst (v := 1) hx hb dX0_market_41 (by decide) ?_
          obtain ⟨q16, g15, hf⟩ := ob_bind hf
          refine xc_i (xj_run (As := [.int q2, .int 1]) (rest := [.int q14]) hJ hJs hS ⟨hx, hb, hml, hown, hts⟩ (k0 := 0) (wkX0_priceOf l D dA E hE T J hJ w q2 1 g15) (cwV 2 hts (lw_V q1352 q1354 qs59 q136 q1355) rfl rfl rfl cdX0_priceOf ⟨Nat.le_of_ble_eq_true rfl, Nat.le_of_ble_eq_true rfl⟩) hK hP (by decide) rfl rfl rfl hl.1 rfl rfl (Nat.le_of_ble_eq_true rfl) dX0_market_42 ⟨Nat.zero_le _, Nat.zero_le _⟩) hS hD.2 (fun H locs hP hS => ?_)
          refine xr_mmax hx hb (hml.trans hl.1.symm) hown (hts _ q1094) (hts _ q662) (hts _ q150) (hts _ q663) (Nat.le_of_ble_eq_true rfl) (Nat.le_of_ble_eq_true rfl) (Nat.zero_le _) (Nat.zero_le _) dX0_market_45 ?_
          refine lv_goto (tgt := 68) hx hb dX0_market_48 (by decide) ?_
          obtain rfl := ob_s hf
          subst hQ
          exact xe_i hx hb hr hlocks hP hS dX0_market_68
      · replace hf := ob_t hf c7
        refine lv_iconst (v := (-1)) hx hb dX0_market_24 (by decide) ?_
        obtain rfl := ob_s hf
        subst hQ
        exact xe_i hx hb hr hlocks hP hS dX0_market_25
  · replace hf := ob_t hf c3
    refine lv_iload_n hx hb dX0_market_9 rfl (lv_at hl 0 rfl) ?_
    obtain rfl := ob_s hf
    subst hQ
    exact xe_i hx hb hr hlocks hP hS dX0_market_10
abbrev rmX0_gain : Room := { frames := 3, cells := 0, slots := 0, locals := 68 }
theorem cdX0_gain : yX0_gain.cls = RX0 ∧ yX0_gain.cls ≠ "java/lang/invoke/MethodHandle" ∧ yX0_gain.cls ≠ "java/lang/invoke/VarHandle" ∧ (parseMethodDescriptor yX0_gain.desc).map (fun d => d.parameters.length) = some 0 := by decide +kernel
set_option maxHeartbeats 4000000 in
set_option maxRecDepth 100000 in
theorem wkX0_gain (l : Launch) (D : va_G) (dA : Nat → ClassId) (E : Nat → Nat) (hE : wInj 136 E) (T : Tx) (J : State → Heap → Prop) (hJ : JP D dA E T J) (w : Mm)  {res : Int32} (hf : X_gain w = some res) : Met l yX0_gain (ws_ yX0_gain cX0_gain 3 (some .int)) rmX0_gain (Pj D dA E J [.ref (E 0)] w) (Qwi D clX shX 136 dA E res w) 0 0 (AE 136 E) := by
  refine xj_head (own := RX0) (by decide) rfl (Nat.le_of_ble_eq_true rfl) ?_
  intro p e s m args below meth c ls Q hQ C hP hl
  obtain ⟨hx, hb, hr, hlocks, hml, hown, hts, hK, hJs⟩ := C
  replace hl : lv_has ls 3 [(0, .ref (E 0))] := hl
  have hS : va_S (AE 136 E) s.heap s.heap [] := va_S.rf
  have hD : wD 136 E (AE 136 E) := wD.self hE
  unfold X_gain at hf
  obtain ⟨H, eH⟩ : ∃ H, H = s.heap := ⟨_, rfl⟩
  obtain ⟨locs, eL⟩ : ∃ locs : List Loc, locs = [] := ⟨_, rfl⟩
  rw [← eL] at hS ⊢
  rw [← eH] at hP
  have hS : va_S (AE 136 E) s.heap H locs := by rw [eH]; exact hS
  show W p l e rmX0_gain s m args below meth c s.heap locs 0 0 Q (F0 m 0 ls [])
  rw [← eH]
  refine lv_iconst (v := 0) hx hb dX0_gain_0 (by decide) ?_
  refine lv_istore_n (lv' := [(1, .int 0), (0, .ref (E 0))]) hx hb dX0_gain_1 rfl hl (by decide) rfl (fun ls hl => ?_)
  refine lv_iconst (v := 0) hx hb dX0_gain_2 (by decide) ?_
  refine lv_istore_n (lv' := [(2, .int 0), (1, .int 0), (0, .ref (E 0))]) hx hb dX0_gain_3 rfl hl (by decide) rfl (fun ls hl => ?_)
  obtain ⟨b3, hb3, hf⟩ := ob_bind hf
  obtain ⟨n3, hn3⟩ := lp_some hb3
  have kL4 : ∀ (n : Nat) (v1_1 : Int32) (v2_2 : Int32), lpF (fun (q3 : Int32 × Int32) => X_gain_b4 w q3.1 q3.2) n (v1_1, v2_2) = some b3 → (∀ (H : Heap) (locs : List Loc) (ls : Array Slot), va_P D clX (wl shX 136 dA E w) H → va_S (AE 136 E) s.heap H locs → lv_has ls 3 [(1, .int b3)] → W p l e rmX0_gain s m args below meth c H locs 0 0 Q (F0 m 34 ls [])) → ∀ (H : Heap) (locs : List Loc) (ls : Array Slot), va_P D clX (wl shX 136 dA E w) H → va_S (AE 136 E) s.heap H locs → lv_has ls 3 [(0, .ref (E 0)), (1, .int v1_1), (2, .int v2_2)] → W p l e rmX0_gain s m args below meth c H locs 0 0 Q (F0 m 4 ls []) := by
    intro n
    induction n with
    | zero =>
      intro v1_1 v2_2 hq9
      cases hq9
    | succ n ih =>
      intro v1_1 v2_2 hq9 K3_0 H locs ls hP hS hl
      obtain ⟨r3, hf, h3a, h3b⟩ := lpF_step hq9
      replace hf : X_gain_b4 w v1_1 v2_2 = some r3 := hf
      unfold X_gain_b4 at hf
      refine lv_iload_n hx hb dX0_gain_4 rfl (lv_at hl 2 rfl) ?_
      refine lv_aload_n hx hb dX0_gain_5 rfl (lv_at hl 0 rfl) ?_
      obtain ⟨q5, g4, hf⟩ := ob_bind hf
      refine xc_i (xj_run (As := []) (rest := [.int v2_2]) hJ hJs hS ⟨hx, hb, hml, hown, hts⟩ (k0 := 0) (wkX0_trades l D dA E hE T J hJ w g4) (cwV 0 hts (lw_V q1348 q1350 qs58 q136 q1351) rfl rfl rfl cdX0_trades ⟨Nat.le_of_ble_eq_true rfl, Nat.le_of_ble_eq_true rfl⟩) hK hP (by decide) rfl rfl rfl hl.1 rfl rfl (Nat.le_of_ble_eq_true rfl) dX0_gain_6 ⟨Nat.zero_le _, Nat.zero_le _⟩) hS hD.2 (fun H locs hP hS => ?_)
      refine lv_icmp_ge (tgt := 34) hx hb dX0_gain_9 (by decide) (fun c6 => ?_) (fun c6 => ?_)
      · replace hf := ob_t hf c6
        obtain rfl := ob_s hf
        obtain rfl := h3b _ rfl
        exact K3_0 H locs ls hP hS (lv_sub hl [1] rfl)
      · replace hf := ob_f hf c6
        refine lv_iload_n hx hb dX0_gain_12 rfl (lv_at hl 1 rfl) ?_
        refine lv_aload_n hx hb dX0_gain_13 rfl (lv_at hl 0 rfl) ?_
        refine lv_iload_n hx hb dX0_gain_14 rfl (lv_at hl 2 rfl) ?_
        refine lv_iconst (v := 1) hx hb dX0_gain_15 (by decide) ?_
        obtain ⟨q8, g7, hf⟩ := ob_bind hf
        refine xc_i (xj_run (As := [.int v2_2, .int 1]) (rest := [.int v1_1]) hJ hJs hS ⟨hx, hb, hml, hown, hts⟩ (k0 := 0) (wkX0_priceOf l D dA E hE T J hJ w v2_2 1 g7) (cwV 2 hts (lw_V q1352 q1354 qs59 q136 q1355) rfl rfl rfl cdX0_priceOf ⟨Nat.le_of_ble_eq_true rfl, Nat.le_of_ble_eq_true rfl⟩) hK hP (by decide) rfl rfl rfl hl.1 rfl rfl (Nat.le_of_ble_eq_true rfl) dX0_gain_16 ⟨Nat.zero_le _, Nat.zero_le _⟩) hS hD.2 (fun H locs hP hS => ?_)
        refine lv_aload_n hx hb dX0_gain_19 rfl (lv_at hl 0 rfl) ?_
        refine lv_iload_n hx hb dX0_gain_20 rfl (lv_at hl 2 rfl) ?_
        refine lv_iconst (v := 0) hx hb dX0_gain_21 (by decide) ?_
        obtain ⟨q10, g9, hf⟩ := ob_bind hf
        refine xc_i (xj_run (As := [.int v2_2, .int 0]) (rest := [.int q8, .int v1_1]) hJ hJs hS ⟨hx, hb, hml, hown, hts⟩ (k0 := 0) (wkX0_priceOf l D dA E hE T J hJ w v2_2 0 g9) (cwV 2 hts (lw_V q1352 q1354 qs59 q136 q1355) rfl rfl rfl cdX0_priceOf ⟨Nat.le_of_ble_eq_true rfl, Nat.le_of_ble_eq_true rfl⟩) hK hP (by decide) rfl rfl rfl hl.1 rfl rfl (Nat.le_of_ble_eq_true rfl) dX0_gain_22 ⟨Nat.zero_le _, Nat.zero_le _⟩) hS hD.2 (fun H locs hP hS => ?_)
        refine lv_isub hx hb dX0_gain_25 ?_
        refine lv_iadd hx hb dX0_gain_26 ?_
        obtain ⟨v1_11, ev1_11, hf⟩ := ob_bnd hf
        refine xn_i ev1_11 ?_
        refine lv_istore_n (lv' := [(1, .int v1_11), (0, .ref (E 0)), (2, .int v2_2)]) hx hb dX0_gain_27 rfl hl (by decide) rfl (fun ls hl => ?_)
        obtain ⟨v2_12, ev2_12, hf⟩ := ob_bnd hf
        refine lv_iinc (v := v2_12) (lv' := [(2, .int v2_12), (1, .int v1_11), (0, .ref (E 0))]) hx hb dX0_gain_28 hl (k := 2) rfl (by rw [ev2_12]; rfl) (by decide) rfl (fun ls hl => ?_)
        refine lv_goto (tgt := 4) hx hb dX0_gain_31 (by decide) ?_
        obtain rfl := ob_s hf
        exact ih _ _ (h3a _ rfl) K3_0 H locs ls hP hS (lv_sub hl [2, 1, 0] rfl)
  refine kL4 n3 0 0 hn3 (fun H locs ls hP hS hl => ?_) H locs ls hP hS (lv_sub hl [2, 1, 0] rfl)
  replace hf : X_gain_x4_34 b3 = some res := hf
  unfold X_gain_x4_34 at hf
  refine lv_iload_n hx hb dX0_gain_34 rfl (lv_at hl 0 rfl) ?_
  obtain rfl := ob_s hf
  subst hQ
  exact xe_i hx hb hr hlocks hP hS dX0_gain_35
abbrev rmX0_said : Room := { frames := 2, cells := 0, slots := 0, locals := 43 }
theorem cdX0_said : yX0_said.cls = RX0 ∧ yX0_said.cls ≠ "java/lang/invoke/MethodHandle" ∧ yX0_said.cls ≠ "java/lang/invoke/VarHandle" ∧ (parseMethodDescriptor yX0_said.desc).map (fun d => d.parameters.length) = some 2 := by decide +kernel
set_option maxHeartbeats 4000000 in
set_option maxRecDepth 100000 in
theorem wkX0_said (l : Launch) (D : va_G) (dA : Nat → ClassId) (E : Nat → Nat) (hE : wInj 136 E) (T : Tx) (J : State → Heap → Prop) (hJ : JP D dA E T J) (w : Mm) (a1 : Int32) (a2 : Int32) {res : Int32 × Mm} (hf : X_said w a1 a2 = some res) : Met l yX0_said (ws_ yX0_said cX0_said 3 (some .int)) rmX0_said (Pj D dA E J [.ref (E 0), .int a1, .int a2] w) (Qwi D clX shX 136 dA E res.1 res.2) 0 0 (AE 136 E) := by
  refine xj_head (own := RX0) (by decide) rfl (Nat.le_of_ble_eq_true rfl) ?_
  intro p e s m args below meth c ls Q hQ C hP hl
  obtain ⟨hx, hb, hr, hlocks, hml, hown, hts, hK, hJs⟩ := C
  replace hl : lv_has ls 3 [(0, .ref (E 0)), (1, .int a1), (2, .int a2)] := hl
  have hS : va_S (AE 136 E) s.heap s.heap [] := va_S.rf
  have hD : wD 136 E (AE 136 E) := wD.self hE
  unfold X_said at hf
  obtain ⟨H, eH⟩ : ∃ H, H = s.heap := ⟨_, rfl⟩
  obtain ⟨locs, eL⟩ : ∃ locs : List Loc, locs = [] := ⟨_, rfl⟩
  rw [← eL] at hS ⊢
  rw [← eH] at hP
  have hS : va_S (AE 136 E) s.heap H locs := by rw [eH]; exact hS
  show W p l e rmX0_said s m args below meth c s.heap locs 0 0 Q (F0 m 0 ls [])
  rw [← eH]
  refine lv_iload_n hx hb dX0_said_0 rfl (lv_at hl 1 rfl) ?_
  refine lv_iconst (v := (-1)) hx hb dX0_said_1 (by decide) ?_
  refine lv_icmp_ne (tgt := 15) hx hb dX0_said_2 (by decide) (fun c1 => ?_) (fun c1 => ?_)
  · replace hf := ob_f hf c1
    refine lv_aload_n hx hb dX0_said_15 rfl (lv_at hl 0 rfl) ?_
    refine lv_iload_n hx hb dX0_said_16 rfl (lv_at hl 1 rfl) ?_
    obtain ⟨q3, g2, hf⟩ := ob_bind hf
    refine xc_z (xj_run (As := [.int a1]) (rest := []) hJ hJs hS ⟨hx, hb, hml, hown, hts⟩ (k0 := 0) (wkX0_isQuarrel l D dA E hE T J hJ w a1 g2) (cwV 1 hts (lw_V q906 q908 qs25 q136 q909) rfl rfl rfl cdX0_isQuarrel ⟨Nat.le_of_ble_eq_true rfl, Nat.le_of_ble_eq_true rfl⟩) hK hP (by decide) rfl rfl rfl hl.1 rfl rfl (Nat.le_of_ble_eq_true rfl) dX0_said_17 ⟨Nat.zero_le _, Nat.zero_le _⟩) hS hD.2 (fun H locs zq3 hP hS => ?_)
    refine lv_if_eq (tgt := 70) hx hb dX0_said_20 (by decide) (fun c4 => ?_) (fun c4 => ?_)
    · replace hf := ob_t hf c4
      refine lv_bipush (v := (-2)) hx hb dX0_said_70 (by decide) ?_
      obtain rfl := ob_s hf
      subst hQ
      exact xe_i hx hb hr hlocks hP hS dX0_said_72
    · replace hf := ob_f hf c4
      refine lv_iload_n hx hb dX0_said_23 rfl (lv_at hl 2 rfl) ?_
      refine lv_iconst (v := 0) hx hb dX0_said_24 (by decide) ?_
      refine lv_sipush (v := 9999) hx hb dX0_said_25 (by decide) ?_
      obtain ⟨q6, g5, hf⟩ := ob_bind hf
      refine xc_z (xj_runS (As := [.int a2, .int 0, .int 9999]) (rest := []) hJ hJs hS ⟨hx, hb, hml, hown, hts⟩ (wkX0_in l D dA E hE T J hJ w a2 0 9999 g5) (va_cwS 3 hts (lw_S q319 q320 q136 q321) rfl rfl rfl cdX0_in.2 ⟨Nat.le_of_ble_eq_true rfl, Nat.le_of_ble_eq_true rfl⟩) hK hP hl.1 rfl rfl (Nat.le_of_ble_eq_true rfl) dX0_said_28 ⟨Nat.zero_le _, Nat.zero_le _⟩) hS hD.2 (fun H locs zq6 hP hS => ?_)
      refine lv_if_eq (tgt := 70) hx hb dX0_said_31 (by decide) (fun c7 => ?_) (fun c7 => ?_)
      · replace hf := ob_t hf c7
        refine lv_bipush (v := (-2)) hx hb dX0_said_70 (by decide) ?_
        obtain rfl := ob_s hf
        subst hQ
        exact xe_i hx hb hr hlocks hP hS dX0_said_72
      · replace hf := ob_f hf c7
        refine lv_aload_n hx hb dX0_said_34 rfl (lv_at hl 0 rfl) ?_
        refine xr_get hx hb hts in_X0 hown hK hP 0 (by decide) rfl rfl 0 (by decide) (hts _ q252) (fun _ h => h) rfl (v := .ref (E 1)) rfl dX0_said_35 ?_
        refine xr_getN (host := "QuarrelsPawned") hx hb hts in_X1 hown hK hP 1 (by decide) rfl rfl 0 (by decide) (hJ.nest hJs 0 rfl) (fun _ h => h) rfl (v := .ref (E 3)) rfl dX0_said_38 ?_
        refine lv_bipush (v := 6) hx hb dX0_said_41 (by decide) ?_
        refine xr_iald hx hb hK hP 3 (by decide) rfl 0 rfl (j := 6) (vin_c (by decide)) (by decide) dX0_said_43 ?_
        refine lv_bipush (v := 8) hx hb dX0_said_44 (by decide) ?_
        refine lv_icmp_ge (tgt := 70) hx hb dX0_said_46 (by decide) (fun c8 => ?_) (fun c8 => ?_)
        · replace hf := ob_t hf c8
          refine lv_bipush (v := (-2)) hx hb dX0_said_70 (by decide) ?_
          obtain rfl := ob_s hf
          subst hQ
          exact xe_i hx hb hr hlocks hP hS dX0_said_72
        · replace hf := ob_f hf c8
          refine lv_aload_n hx hb dX0_said_49 rfl (lv_at hl 0 rfl) ?_
          refine xr_get hx hb hts in_X0 hown hK hP 0 (by decide) rfl rfl 0 (by decide) (hts _ q252) (fun _ h => h) rfl (v := .ref (E 1)) rfl dX0_said_50 ?_
          refine lv_aload_n hx hb dX0_said_53 rfl (lv_at hl 0 rfl) ?_
          refine xr_get hx hb hts in_X0 hown hK hP 0 (by decide) rfl rfl 0 (by decide) (hts _ q252) (fun _ h => h) rfl (v := .ref (E 1)) rfl dX0_said_54 ?_
          refine xr_getN (host := "QuarrelsPawned") hx hb hts in_X1 hown hK hP 1 (by decide) rfl rfl 8 (by decide) (hJ.nest hJs 8 rfl) (fun _ h => h) rfl (v := .ref (E 11)) rfl dX0_said_57 ?_
          refine lv_bipush (v := 6) hx hb dX0_said_60 (by decide) ?_
          refine lv_iload_n hx hb dX0_said_62 rfl (lv_at hl 1 rfl) ?_
          refine lv_iload_n hx hb dX0_said_63 rfl (lv_at hl 2 rfl) ?_
          obtain ⟨q10, g9, hf⟩ := ob_bind hf
          refine xc_i (xj_run (As := [.ref (E 11), .int 6, .int a1, .int a2]) (rest := []) hJ hJs hS ⟨hx, hb, hml, hown, hts⟩ (k0 := 1) (wkX1_adds_said l D dA E hE T J hJ w 6 a1 a2 g9) (cwV 4 hts (lw_V q1340 q1341 q1342 q137 q1343) rfl rfl rfl cdX1_adds ⟨Nat.le_of_ble_eq_true rfl, Nat.le_of_ble_eq_true rfl⟩) hK hP (by decide) rfl rfl rfl hl.1 rfl rfl (Nat.le_of_ble_eq_true rfl) dX0_said_64 ⟨Nat.zero_le _, Nat.zero_le _⟩) hS hD.2 (fun H locs hP hS => ?_)
          refine lv_goto (tgt := 72) hx hb dX0_said_67 (by decide) ?_
          obtain rfl := ob_s hf
          subst hQ
          exact xe_i hx hb hr hlocks hP hS dX0_said_72
  · replace hf := ob_t hf c1
    refine lv_aload_n hx hb dX0_said_5 rfl (lv_at hl 0 rfl) ?_
    refine xr_get hx hb hts in_X0 hown hK hP 0 (by decide) rfl rfl 0 (by decide) (hts _ q252) (fun _ h => h) rfl (v := .ref (E 1)) rfl dX0_said_6 ?_
    refine lv_bipush (v := 6) hx hb dX0_said_9 (by decide) ?_
    obtain ⟨q12, g11, hf⟩ := ob_bind hf
    refine xc_i (xj_run (As := [.int 6]) (rest := []) hJ hJs hS ⟨hx, hb, hml, hown, hts⟩ (k0 := 1) (wkX1_clears l D dA E hE T J hJ w 6 g11) (cwV 1 hts (lw_V q1309 q1310 q1311 q137 q1312) rfl rfl rfl cdX1_clears ⟨Nat.le_of_ble_eq_true rfl, Nat.le_of_ble_eq_true rfl⟩) hK hP (by decide) rfl rfl rfl hl.1 rfl rfl (Nat.le_of_ble_eq_true rfl) dX0_said_11 ⟨Nat.zero_le _, Nat.zero_le _⟩) hS hD.2 (fun H locs hP hS => ?_)
    obtain rfl := ob_s hf
    subst hQ
    exact xe_i hx hb hr hlocks hP hS dX0_said_14
abbrev rmX0_isLaw : Room := { frames := 202, cells := 0, slots := 0, locals := 8045 }
theorem cdX0_isLaw : yX0_isLaw.cls = RX0 ∧ yX0_isLaw.cls ≠ "java/lang/invoke/MethodHandle" ∧ yX0_isLaw.cls ≠ "java/lang/invoke/VarHandle" ∧ (parseMethodDescriptor yX0_isLaw.desc).map (fun d => d.parameters.length) = some 1 := by decide +kernel
set_option maxHeartbeats 4000000 in
set_option maxRecDepth 100000 in
theorem wkX0_isLaw (l : Launch) (D : va_G) (dA : Nat → ClassId) (E : Nat → Nat) (hE : wInj 136 E) (T : Tx) (J : State → Heap → Prop) (hJ : JP D dA E T J) (w : Mm) (t1 : Nat) {res : Int32 × Mm} (hf : X_isLaw T w t1 = some res) : Met l yX0_isLaw (ws_ yX0_isLaw cX0_isLaw 3 (some .boolean)) rmX0_isLaw (Pj D dA E J [.ref (E 0), .ref t1] w) (Qwz D clX shX 136 dA E res.1 res.2) 0 0 (AE 136 E) := by
  refine xj_head (own := RX0) (by decide) rfl (Nat.le_of_ble_eq_true rfl) ?_
  intro p e s m args below meth c ls Q hQ C hP hl
  obtain ⟨hx, hb, hr, hlocks, hml, hown, hts, hK, hJs⟩ := C
  replace hl : lv_has ls 3 [(0, .ref (E 0)), (1, .ref t1)] := hl
  have hS : va_S (AE 136 E) s.heap s.heap [] := va_S.rf
  have hD : wD 136 E (AE 136 E) := wD.self hE
  unfold X_isLaw at hf
  obtain ⟨H, eH⟩ : ∃ H, H = s.heap := ⟨_, rfl⟩
  obtain ⟨locs, eL⟩ : ∃ locs : List Loc, locs = [] := ⟨_, rfl⟩
  rw [← eL] at hS ⊢
  rw [← eH] at hP
  have hS : va_S (AE 136 E) s.heap H locs := by rw [eH]; exact hS
  show W p l e rmX0_isLaw s m args below meth c s.heap locs 0 0 Q (F0 m 0 ls [])
  rw [← eH]
  refine lv_iconst (v := 0) hx hb dX0_isLaw_0 (by decide) ?_
  refine lv_istore_n (lv' := [(2, .int 0), (0, .ref (E 0)), (1, .ref t1)]) hx hb dX0_isLaw_1 rfl hl (by decide) rfl (fun ls hl => ?_)
  obtain ⟨b3, hb3, hf⟩ := ob_bind hf
  obtain ⟨n3, hn3⟩ := lp_some hb3
  have kL2 : ∀ (n : Nat) (w1 : Mm) (v2_2 : Int32), lpF (fun (q3 : Mm × Int32) => X_isLaw_b2 T t1 q3.1 q3.2) n (w1, v2_2) = some b3 → (∀ (x3_0 : Mm), b3 = .inl x3_0 → ∀ (H : Heap) (locs : List Loc) (ls : Array Slot), va_P D clX (wl shX 136 dA E x3_0) H → va_S (AE 136 E) s.heap H locs → lv_has ls 3 [] → W p l e rmX0_isLaw s m args below meth c H locs 0 0 Q (F0 m 53 ls [])) → (∀ (x3_1 : Mm), b3 = .inr x3_1 → ∀ (H : Heap) (locs : List Loc) (ls : Array Slot), va_P D clX (wl shX 136 dA E x3_1) H → va_S (AE 136 E) s.heap H locs → lv_has ls 3 [] → W p l e rmX0_isLaw s m args below meth c H locs 0 0 Q (F0 m 61 ls [])) → ∀ (H : Heap) (locs : List Loc) (ls : Array Slot), va_P D clX (wl shX 136 dA E w1) H → va_S (AE 136 E) s.heap H locs → lv_has ls 3 [(0, .ref (E 0)), (1, .ref t1), (2, .int v2_2)] → W p l e rmX0_isLaw s m args below meth c H locs 0 0 Q (F0 m 2 ls []) := by
    intro n
    induction n with
    | zero =>
      intro w1 v2_2 hq9
      cases hq9
    | succ n ih =>
      intro w1 v2_2 hq9 K3_0 K3_1 H locs ls hP hS hl
      obtain ⟨r3, hf, h3a, h3b⟩ := lpF_step hq9
      replace hf : X_isLaw_b2 T t1 w1 v2_2 = some r3 := hf
      unfold X_isLaw_b2 at hf
      refine lv_iload_n hx hb dX0_isLaw_2 rfl (lv_at hl 2 rfl) ?_
      refine lv_aload_n hx hb dX0_isLaw_3 rfl (lv_at hl 0 rfl) ?_
      refine xr_get hx hb hts in_X0 hown hK hP 0 (by decide) rfl rfl 0 (by decide) (hts _ q252) (fun _ h => h) rfl (v := .ref (E 1)) rfl dX0_isLaw_4 ?_
      refine xr_getN (host := "QuarrelsPawned") hx hb hts in_X1 hown hK hP 1 (by decide) rfl rfl 0 (by decide) (hJ.nest hJs 0 rfl) (fun _ h => h) rfl (v := .ref (E 3)) rfl dX0_isLaw_7 ?_
      refine lv_bipush (v := 6) hx hb dX0_isLaw_10 (by decide) ?_
      refine xr_iald hx hb hK hP 3 (by decide) rfl 0 rfl (j := 6) (vin_c (by decide)) (by decide) dX0_isLaw_12 ?_
      refine lv_icmp_ge (tgt := 61) hx hb dX0_isLaw_13 (by decide) (fun c4 => ?_) (fun c4 => ?_)
      · replace hf := ob_t hf c4
        obtain rfl := ob_s hf
        exact K3_1 _ (h3b _ rfl).symm H locs ls hP hS (lv_sub hl [] rfl)
      · replace hf := ob_f hf c4
        refine lv_aload_n hx hb dX0_isLaw_16 rfl (lv_at hl 0 rfl) ?_
        refine lv_aload_n hx hb dX0_isLaw_17 rfl (lv_at hl 1 rfl) ?_
        refine lv_aload_n hx hb dX0_isLaw_18 rfl (lv_at hl 0 rfl) ?_
        refine xr_get hx hb hts in_X0 hown hK hP 0 (by decide) rfl rfl 0 (by decide) (hts _ q252) (fun _ h => h) rfl (v := .ref (E 1)) rfl dX0_isLaw_19 ?_
        refine xr_getN (host := "QuarrelsPawned") hx hb hts in_X1 hown hK hP 1 (by decide) rfl rfl 1 (by decide) (hJ.nest hJs 1 rfl) (fun _ h => h) rfl (v := .ref (E 4)) rfl dX0_isLaw_22 ?_
        refine lv_aload_n hx hb dX0_isLaw_25 rfl (lv_at hl 0 rfl) ?_
        refine xr_get hx hb hts in_X0 hown hK hP 0 (by decide) rfl rfl 0 (by decide) (hts _ q252) (fun _ h => h) rfl (v := .ref (E 1)) rfl dX0_isLaw_26 ?_
        refine xr_getN (host := "QuarrelsPawned") hx hb hts in_X1 hown hK hP 1 (by decide) rfl rfl 8 (by decide) (hJ.nest hJs 8 rfl) (fun _ h => h) rfl (v := .ref (E 11)) rfl dX0_isLaw_29 ?_
        refine lv_iload_n hx hb dX0_isLaw_32 rfl (lv_at hl 2 rfl) ?_
        obtain ⟨h5, hf⟩ := ob_gd hf
        refine xr_aald hx hb hK hP 11 (by decide) rfl (j := v2_2.toNatClampNeg) h5 rfl dX0_isLaw_33 ?_
        refine lv_iconst (v := 0) hx hb dX0_isLaw_34 (by decide) ?_
        refine xr_iald hx hb hK hP (44 + v2_2.toNatClampNeg) (by have := vin_lt h5; omega) (shX_s44 (by have := vin_lt h5; omega)) 0 rfl (j := 0) (vin_c (by decide)) (by decide) dX0_isLaw_35 ?_
        obtain ⟨q7, g6, hf⟩ := ob_bind hf
        refine xc_i (xj_run (As := [.ref t1, .ref (E 4), .int (w1.1 (44 + v2_2.toNatClampNeg) 0)]) (rest := []) hJ hJs hS ⟨hx, hb, hml, hown, hts⟩ (k0 := 0) (wkX0_duesBy l D dA E hE T J hJ w1 t1 4 (w1.1 (44 + v2_2.toNatClampNeg) 0) g6 (by decide) rfl) (cwV 3 hts (lw_V q941 q943 qs30 q136 q944) rfl rfl rfl cdX0_duesBy ⟨Nat.le_of_ble_eq_true rfl, Nat.le_of_ble_eq_true rfl⟩) hK hP (by decide) rfl rfl rfl hl.1 rfl rfl (Nat.le_of_ble_eq_true rfl) dX0_isLaw_36 ⟨Nat.zero_le _, Nat.zero_le _⟩) hS hD.2 (fun H locs hP hS => ?_)
        refine lv_aload_n hx hb dX0_isLaw_39 rfl (lv_at hl 0 rfl) ?_
        refine xr_get hx hb hts in_X0 hown hK hP 0 (by decide) rfl rfl 0 (by decide) (hts _ q252) (fun _ h => h) rfl (v := .ref (E 1)) rfl dX0_isLaw_40 ?_
        refine xr_getN (host := "QuarrelsPawned") hx hb hts in_X1 hown hK hP 1 (by decide) rfl rfl 8 (by decide) (hJ.nest hJs 8 rfl) (fun _ h => h) rfl (v := .ref (E 11)) rfl dX0_isLaw_43 ?_
        refine lv_iload_n hx hb dX0_isLaw_46 rfl (lv_at hl 2 rfl) ?_
        obtain ⟨h8, hf⟩ := ob_gd hf
        refine xr_aald hx hb hK hP 11 (by decide) rfl (j := v2_2.toNatClampNeg) h8 rfl dX0_isLaw_47 ?_
        refine lv_iconst (v := 1) hx hb dX0_isLaw_48 (by decide) ?_
        refine xr_iald hx hb hK hP (44 + v2_2.toNatClampNeg) (by have := vin_lt h8; omega) (shX_s44 (by have := vin_lt h8; omega)) 0 rfl (j := 1) (vin_c (by decide)) (by decide) dX0_isLaw_49 ?_
        refine lv_icmp_eq (tgt := 55) hx hb dX0_isLaw_50 (by decide) (fun c9 => ?_) (fun c9 => ?_)
        · replace hf := ob_t hf c9
          obtain ⟨v2_10, ev2_10, hf⟩ := ob_bnd hf
          refine lv_iinc (v := v2_10) (lv' := [(2, .int v2_10), (0, .ref (E 0)), (1, .ref t1)]) hx hb dX0_isLaw_55 hl (k := 2) rfl (by rw [ev2_10]; rfl) (by decide) rfl (fun ls hl => ?_)
          refine lv_goto (tgt := 2) hx hb dX0_isLaw_58 (by decide) ?_
          obtain rfl := ob_s hf
          exact ih _ _ (h3a _ rfl) K3_0 K3_1 H locs ls hP hS (lv_sub hl [1, 2, 0] rfl)
        · replace hf := ob_f hf c9
          obtain rfl := ob_s hf
          exact K3_0 _ (h3b _ rfl).symm H locs ls hP hS (lv_sub hl [] rfl)
  refine kL2 n3 w 0 hn3 (fun x3_0 ex3_0 H locs ls hP hS hl => ?_) (fun x3_1 ex3_1 H locs ls hP hS hl => ?_) H locs ls hP hS (lv_sub hl [1, 2, 0] rfl)
  · subst ex3_0
    replace hf : X_isLaw_x2_53 x3_0 = some res := hf
    unfold X_isLaw_x2_53 at hf
    refine lv_iconst (v := 0) hx hb dX0_isLaw_53 (by decide) ?_
    obtain rfl := ob_s hf
    subst hQ
    exact xe_z hx hb hr hlocks hP hS (Or.inl rfl) dX0_isLaw_54
  · subst ex3_1
    replace hf : X_isLaw_x2_61 x3_1 = some res := hf
    unfold X_isLaw_x2_61 at hf
    refine lv_iconst (v := 1) hx hb dX0_isLaw_61 (by decide) ?_
    obtain rfl := ob_s hf
    subst hQ
    exact xe_z hx hb hr hlocks hP hS (Or.inr rfl) dX0_isLaw_62
abbrev rmX0_whose : Room := { frames := 203, cells := 0, slots := 0, locals := 8067 }
theorem cdX0_whose : yX0_whose.cls = RX0 ∧ yX0_whose.cls ≠ "java/lang/invoke/MethodHandle" ∧ yX0_whose.cls ≠ "java/lang/invoke/VarHandle" ∧ (parseMethodDescriptor yX0_whose.desc).map (fun d => d.parameters.length) = some 0 := by decide +kernel
set_option maxHeartbeats 4000000 in
set_option maxRecDepth 100000 in
theorem wkX0_whose (l : Launch) (D : va_G) (dA : Nat → ClassId) (E : Nat → Nat) (hE : wInj 136 E) (T : Tx) (J : State → Heap → Prop) (hJ : JP D dA E T J) (w : Mm)  {res : Int32 × Mm} (hf : X_whose T w = some res) : Met l yX0_whose (ws_ yX0_whose cX0_whose 3 (some .int)) rmX0_whose (Pj D dA E J [.ref (E 0)] w) (Qwi D clX shX 136 dA E res.1 res.2) 0 0 (AE 136 E) := by
  refine xj_head (own := RX0) (by decide) rfl (Nat.le_of_ble_eq_true rfl) ?_
  intro p e s m args below meth c ls Q hQ C hP hl
  obtain ⟨hx, hb, hr, hlocks, hml, hown, hts, hK, hJs⟩ := C
  replace hl : lv_has ls 3 [(0, .ref (E 0))] := hl
  have hS : va_S (AE 136 E) s.heap s.heap [] := va_S.rf
  have hD : wD 136 E (AE 136 E) := wD.self hE
  unfold X_whose at hf
  obtain ⟨H, eH⟩ : ∃ H, H = s.heap := ⟨_, rfl⟩
  obtain ⟨locs, eL⟩ : ∃ locs : List Loc, locs = [] := ⟨_, rfl⟩
  rw [← eL] at hS ⊢
  rw [← eH] at hP
  have hS : va_S (AE 136 E) s.heap H locs := by rw [eH]; exact hS
  show W p l e rmX0_whose s m args below meth c s.heap locs 0 0 Q (F0 m 0 ls [])
  rw [← eH]
  refine lv_iconst (v := 0) hx hb dX0_whose_0 (by decide) ?_
  refine lv_istore_n (lv' := [(1, .int 0), (0, .ref (E 0))]) hx hb dX0_whose_1 rfl hl (by decide) rfl (fun ls hl => ?_)
  refine lv_iconst (v := 0) hx hb dX0_whose_2 (by decide) ?_
  refine lv_istore_n (lv' := [(2, .int 0), (1, .int 0), (0, .ref (E 0))]) hx hb dX0_whose_3 rfl hl (by decide) rfl (fun ls hl => ?_)
  obtain ⟨b4, hb4, hf⟩ := ob_bind hf
  obtain ⟨n4, hn4⟩ := lp_some hb4
  have kL4 : ∀ (n : Nat) (w1 : Mm) (v1_2 : Int32) (v2_3 : Int32), lpF (fun (q4 : Mm × Int32 × Int32) => X_whose_b4 T q4.1 q4.2.1 q4.2.2) n (w1, v1_2, v2_3) = some b4 → (∀ (H : Heap) (locs : List Loc) (ls : Array Slot), va_P D clX (wl shX 136 dA E b4.1) H → va_S (AE 136 E) s.heap H locs → lv_has ls 3 [(1, .int b4.2)] → W p l e rmX0_whose s m args below meth c H locs 0 0 Q (F0 m 49 ls [])) → ∀ (H : Heap) (locs : List Loc) (ls : Array Slot), va_P D clX (wl shX 136 dA E w1) H → va_S (AE 136 E) s.heap H locs → lv_has ls 3 [(0, .ref (E 0)), (1, .int v1_2), (2, .int v2_3)] → W p l e rmX0_whose s m args below meth c H locs 0 0 Q (F0 m 4 ls []) := by
    intro n
    induction n with
    | zero =>
      intro w1 v1_2 v2_3 hq9
      cases hq9
    | succ n ih =>
      intro w1 v1_2 v2_3 hq9 K4_0 H locs ls hP hS hl
      obtain ⟨r4, hf, h4a, h4b⟩ := lpF_step hq9
      replace hf : X_whose_b4 T w1 v1_2 v2_3 = some r4 := hf
      unfold X_whose_b4 at hf
      refine lv_iload_n hx hb dX0_whose_4 rfl (lv_at hl 2 rfl) ?_
      refine lv_aload_n hx hb dX0_whose_5 rfl (lv_at hl 0 rfl) ?_
      refine xr_get hx hb hts in_X0 hown hK hP 0 (by decide) rfl rfl 0 (by decide) (hts _ q252) (fun _ h => h) rfl (v := .ref (E 1)) rfl dX0_whose_6 ?_
      refine xr_getN (host := "QuarrelsPawned") hx hb hts in_X1 hown hK hP 1 (by decide) rfl rfl 0 (by decide) (hJ.nest hJs 0 rfl) (fun _ h => h) rfl (v := .ref (E 3)) rfl dX0_whose_9 ?_
      refine lv_iconst (v := 1) hx hb dX0_whose_12 (by decide) ?_
      refine xr_iald hx hb hK hP 3 (by decide) rfl 0 rfl (j := 1) (vin_c (by decide)) (by decide) dX0_whose_13 ?_
      refine lv_icmp_ge (tgt := 49) hx hb dX0_whose_14 (by decide) (fun c5 => ?_) (fun c5 => ?_)
      · replace hf := ob_t hf c5
        obtain rfl := ob_s hf
        obtain rfl := h4b _ rfl
        exact K4_0 H locs ls hP hS (lv_sub hl [1] rfl)
      · replace hf := ob_f hf c5
        refine lv_iload_n hx hb dX0_whose_17 rfl (lv_at hl 1 rfl) ?_
        refine lv_aload_n hx hb dX0_whose_18 rfl (lv_at hl 0 rfl) ?_
        refine lv_aload_n hx hb dX0_whose_19 rfl (lv_at hl 0 rfl) ?_
        refine xr_get hx hb hts in_X0 hown hK hP 0 (by decide) rfl rfl 0 (by decide) (hts _ q252) (fun _ h => h) rfl (v := .ref (E 1)) rfl dX0_whose_20 ?_
        refine xr_getN (host := "QuarrelsPawned") hx hb hts in_X1 hown hK hP 1 (by decide) rfl rfl 10 (by decide) (hJ.nest hJs 10 rfl) (fun _ h => h) rfl (v := .ref (E 13)) rfl dX0_whose_23 ?_
        refine lv_iload_n hx hb dX0_whose_26 rfl (lv_at hl 2 rfl) ?_
        obtain ⟨h6, hf⟩ := ob_gd hf
        obtain ⟨t7, g8, hf⟩ := ob_bind hf
        refine xr_taald hx hb hK hP 13 (by decide) rfl (j := v2_3.toNatClampNeg) h6 rfl g8 dX0_whose_27 ?_
        obtain ⟨q10, g9, hf⟩ := ob_bind hf
        refine xc_z (xj_run (As := [.ref t7]) (rest := [.int v1_2]) hJ hJs hS ⟨hx, hb, hml, hown, hts⟩ (k0 := 0) (wkX0_isLaw l D dA E hE T J hJ w1 t7 g9) (cwV 1 hts (lw_V q1368 q1370 qs60 q136 q1371) rfl rfl rfl cdX0_isLaw ⟨Nat.le_of_ble_eq_true rfl, Nat.le_of_ble_eq_true rfl⟩) hK hP (by decide) rfl rfl rfl hl.1 rfl rfl (Nat.le_of_ble_eq_true rfl) dX0_whose_28 ⟨Nat.zero_le _, Nat.zero_le _⟩) hS hD.2 (fun H locs zq10 hP hS => ?_)
        refine lv_if_eq (tgt := 40) hx hb dX0_whose_31 (by decide) (fun c11 => ?_) (fun c11 => ?_)
        · replace hf := ob_t hf c11
          refine lv_iconst (v := 0) hx hb dX0_whose_40 (by decide) ?_
          refine lv_ior hx hb dX0_whose_41 ?_
          obtain ⟨v1_12, ev1_12, hf⟩ := ob_bnd hf
          refine xn_i ev1_12 ?_
          refine lv_istore_n (lv' := [(1, .int v1_12), (0, .ref (E 0)), (2, .int v2_3)]) hx hb dX0_whose_42 rfl hl (by decide) rfl (fun ls hl => ?_)
          obtain ⟨v2_13, ev2_13, hf⟩ := ob_bnd hf
          refine lv_iinc (v := v2_13) (lv' := [(2, .int v2_13), (1, .int v1_12), (0, .ref (E 0))]) hx hb dX0_whose_43 hl (k := 2) rfl (by rw [ev2_13]; rfl) (by decide) rfl (fun ls hl => ?_)
          refine lv_goto (tgt := 4) hx hb dX0_whose_46 (by decide) ?_
          obtain rfl := ob_s hf
          exact ih _ _ _ (h4a _ rfl) K4_0 H locs ls hP hS (lv_sub hl [2, 1, 0] rfl)
        · replace hf := ob_f hf c11
          refine lv_iconst (v := 1) hx hb dX0_whose_34 (by decide) ?_
          refine lv_iload_n hx hb dX0_whose_35 rfl (lv_at hl 2 rfl) ?_
          refine lv_ishl hx hb dX0_whose_36 ?_
          refine lv_goto (tgt := 41) hx hb dX0_whose_37 (by decide) ?_
          refine lv_ior hx hb dX0_whose_41 ?_
          obtain ⟨v1_14, ev1_14, hf⟩ := ob_bnd hf
          refine xn_i ev1_14 ?_
          refine lv_istore_n (lv' := [(1, .int v1_14), (0, .ref (E 0)), (2, .int v2_3)]) hx hb dX0_whose_42 rfl hl (by decide) rfl (fun ls hl => ?_)
          obtain ⟨v2_15, ev2_15, hf⟩ := ob_bnd hf
          refine lv_iinc (v := v2_15) (lv' := [(2, .int v2_15), (1, .int v1_14), (0, .ref (E 0))]) hx hb dX0_whose_43 hl (k := 2) rfl (by rw [ev2_15]; rfl) (by decide) rfl (fun ls hl => ?_)
          refine lv_goto (tgt := 4) hx hb dX0_whose_46 (by decide) ?_
          obtain rfl := ob_s hf
          exact ih _ _ _ (h4a _ rfl) K4_0 H locs ls hP hS (lv_sub hl [2, 1, 0] rfl)
  refine kL4 n4 w 0 0 hn4 (fun H locs ls hP hS hl => ?_) H locs ls hP hS (lv_sub hl [2, 1, 0] rfl)
  replace hf : X_whose_x4_49 b4 = some res := hf
  unfold X_whose_x4_49 at hf
  refine lv_iload_n hx hb dX0_whose_49 rfl (lv_at hl 0 rfl) ?_
  obtain rfl := ob_s hf
  subst hQ
  exact xe_i hx hb hr hlocks hP hS dX0_whose_50
abbrev rmX0_hottest : Room := { frames := 1, cells := 0, slots := 0, locals := 20 }
theorem cdX0_hottest : yX0_hottest.cls = RX0 ∧ yX0_hottest.cls ≠ "java/lang/invoke/MethodHandle" ∧ yX0_hottest.cls ≠ "java/lang/invoke/VarHandle" ∧ (parseMethodDescriptor yX0_hottest.desc).map (fun d => d.parameters.length) = some 0 := by decide +kernel
set_option maxHeartbeats 4000000 in
set_option maxRecDepth 100000 in
theorem wkX0_hottest (l : Launch) (D : va_G) (dA : Nat → ClassId) (E : Nat → Nat) (hE : wInj 136 E) (T : Tx) (J : State → Heap → Prop) (hJ : JP D dA E T J) (w : Mm)  {res : Int32} (hf : X_hottest w = some res) : Met l yX0_hottest (ws_ yX0_hottest cX0_hottest 3 (some .int)) rmX0_hottest (Pj D dA E J [.ref (E 0)] w) (Qwi D clX shX 136 dA E res w) 0 0 (AE 136 E) := by
  refine xj_head (own := RX0) (by decide) rfl (Nat.le_of_ble_eq_true rfl) ?_
  intro p e s m args below meth c ls Q hQ C hP hl
  obtain ⟨hx, hb, hr, hlocks, hml, hown, hts, hK, hJs⟩ := C
  replace hl : lv_has ls 3 [(0, .ref (E 0))] := hl
  have hS : va_S (AE 136 E) s.heap s.heap [] := va_S.rf
  have hD : wD 136 E (AE 136 E) := wD.self hE
  unfold X_hottest at hf
  obtain ⟨H, eH⟩ : ∃ H, H = s.heap := ⟨_, rfl⟩
  obtain ⟨locs, eL⟩ : ∃ locs : List Loc, locs = [] := ⟨_, rfl⟩
  rw [← eL] at hS ⊢
  rw [← eH] at hP
  have hS : va_S (AE 136 E) s.heap H locs := by rw [eH]; exact hS
  show W p l e rmX0_hottest s m args below meth c s.heap locs 0 0 Q (F0 m 0 ls [])
  rw [← eH]
  refine lv_iconst (v := (-1)) hx hb dX0_hottest_0 (by decide) ?_
  refine lv_istore_n (lv' := [(1, .int (-1)), (0, .ref (E 0))]) hx hb dX0_hottest_1 rfl hl (by decide) rfl (fun ls hl => ?_)
  refine lv_iconst (v := 0) hx hb dX0_hottest_2 (by decide) ?_
  refine lv_istore_n (lv' := [(2, .int 0), (1, .int (-1)), (0, .ref (E 0))]) hx hb dX0_hottest_3 rfl hl (by decide) rfl (fun ls hl => ?_)
  obtain ⟨b3, hb3, hf⟩ := ob_bind hf
  obtain ⟨n3, hn3⟩ := lp_some hb3
  have kL4 : ∀ (n : Nat) (v1_1 : Int32) (v2_2 : Int32), lpF (fun (q3 : Int32 × Int32) => X_hottest_b4 w q3.1 q3.2) n (v1_1, v2_2) = some b3 → (∀ (H : Heap) (locs : List Loc) (ls : Array Slot), va_P D clX (wl shX 136 dA E w) H → va_S (AE 136 E) s.heap H locs → lv_has ls 3 [(1, .int b3)] → W p l e rmX0_hottest s m args below meth c H locs 0 0 Q (F0 m 66 ls [])) → ∀ (H : Heap) (locs : List Loc) (ls : Array Slot), va_P D clX (wl shX 136 dA E w) H → va_S (AE 136 E) s.heap H locs → lv_has ls 3 [(0, .ref (E 0)), (1, .int v1_1), (2, .int v2_2)] → W p l e rmX0_hottest s m args below meth c H locs 0 0 Q (F0 m 4 ls []) := by
    intro n
    induction n with
    | zero =>
      intro v1_1 v2_2 hq9
      cases hq9
    | succ n ih =>
      intro v1_1 v2_2 hq9 K3_0 H locs ls hP hS hl
      obtain ⟨r3, hf, h3a, h3b⟩ := lpF_step hq9
      replace hf : X_hottest_b4 w v1_1 v2_2 = some r3 := hf
      unfold X_hottest_b4 at hf
      refine lv_iload_n hx hb dX0_hottest_4 rfl (lv_at hl 2 rfl) ?_
      refine lv_aload_n hx hb dX0_hottest_5 rfl (lv_at hl 0 rfl) ?_
      obtain ⟨q5, g4, hf⟩ := ob_bind hf
      refine xc_i (xj_run (As := []) (rest := [.int v2_2]) hJ hJs hS ⟨hx, hb, hml, hown, hts⟩ (k0 := 0) (wkX0_quarrels l D dA E hE T J hJ w g4) (cwV 0 hts (lw_V q309 q311 qs0 q136 q312) rfl rfl rfl cdX0_quarrels ⟨Nat.le_of_ble_eq_true rfl, Nat.le_of_ble_eq_true rfl⟩) hK hP (by decide) rfl rfl rfl hl.1 rfl rfl (Nat.le_of_ble_eq_true rfl) dX0_hottest_6 ⟨Nat.zero_le _, Nat.zero_le _⟩) hS hD.2 (fun H locs hP hS => ?_)
      refine lv_icmp_ge (tgt := 66) hx hb dX0_hottest_9 (by decide) (fun c6 => ?_) (fun c6 => ?_)
      · replace hf := ob_t hf c6
        obtain rfl := ob_s hf
        obtain rfl := h3b _ rfl
        exact K3_0 H locs ls hP hS (lv_sub hl [1] rfl)
      · replace hf := ob_f hf c6
        refine lv_aload_n hx hb dX0_hottest_12 rfl (lv_at hl 0 rfl) ?_
        refine xr_get hx hb hts in_X0 hown hK hP 0 (by decide) rfl rfl 0 (by decide) (hts _ q252) (fun _ h => h) rfl (v := .ref (E 1)) rfl dX0_hottest_13 ?_
        refine xr_getN (host := "QuarrelsPawned") hx hb hts in_X1 hown hK hP 1 (by decide) rfl rfl 1 (by decide) (hJ.nest hJs 1 rfl) (fun _ h => h) rfl (v := .ref (E 4)) rfl dX0_hottest_16 ?_
        refine lv_iconst (v := 4) hx hb dX0_hottest_19 (by decide) ?_
        refine lv_iload_n hx hb dX0_hottest_20 rfl (lv_at hl 2 rfl) ?_
        refine lv_iadd hx hb dX0_hottest_21 ?_
        obtain ⟨h7, hf⟩ := ob_gd hf
        refine xr_iald hx hb hK hP 4 (by decide) rfl 0 rfl (j := (4 + v2_2).toNatClampNeg) h7 rfl dX0_hottest_22 ?_
        refine lv_if_ne (tgt := 60) hx hb dX0_hottest_23 (by decide) (fun c8 => ?_) (fun c8 => ?_)
        · replace hf := ob_f hf c8
          obtain ⟨v2_9, ev2_9, hf⟩ := ob_bnd hf
          refine lv_iinc (v := v2_9) (lv' := [(2, .int v2_9), (0, .ref (E 0)), (1, .int v1_1)]) hx hb dX0_hottest_60 hl (k := 2) rfl (by rw [ev2_9]; rfl) (by decide) rfl (fun ls hl => ?_)
          refine lv_goto (tgt := 4) hx hb dX0_hottest_63 (by decide) ?_
          obtain rfl := ob_s hf
          exact ih _ _ (h3a _ rfl) K3_0 H locs ls hP hS (lv_sub hl [1, 2, 0] rfl)
        · replace hf := ob_t hf c8
          refine lv_iload_n hx hb dX0_hottest_26 rfl (lv_at hl 1 rfl) ?_
          refine lv_iconst (v := (-1)) hx hb dX0_hottest_27 (by decide) ?_
          refine lv_icmp_eq (tgt := 58) hx hb dX0_hottest_28 (by decide) (fun c10 => ?_) (fun c10 => ?_)
          · replace hf := ob_t hf c10
            refine lv_iload_n hx hb dX0_hottest_58 rfl (lv_at hl 2 rfl) ?_
            refine lv_istore_n (lv' := [(1, .int v2_2), (0, .ref (E 0)), (2, .int v2_2)]) hx hb dX0_hottest_59 rfl hl (by decide) rfl (fun ls hl => ?_)
            obtain ⟨v2_11, ev2_11, hf⟩ := ob_bnd hf
            refine lv_iinc (v := v2_11) (lv' := [(2, .int v2_11), (1, .int v2_2), (0, .ref (E 0))]) hx hb dX0_hottest_60 hl (k := 2) rfl (by rw [ev2_11]; rfl) (by decide) rfl (fun ls hl => ?_)
            refine lv_goto (tgt := 4) hx hb dX0_hottest_63 (by decide) ?_
            obtain rfl := ob_s hf
            exact ih _ _ (h3a _ rfl) K3_0 H locs ls hP hS (lv_sub hl [2, 1, 0] rfl)
          · replace hf := ob_f hf c10
            refine lv_aload_n hx hb dX0_hottest_31 rfl (lv_at hl 0 rfl) ?_
            refine xr_get hx hb hts in_X0 hown hK hP 0 (by decide) rfl rfl 0 (by decide) (hts _ q252) (fun _ h => h) rfl (v := .ref (E 1)) rfl dX0_hottest_32 ?_
            refine xr_getN (host := "QuarrelsPawned") hx hb hts in_X1 hown hK hP 1 (by decide) rfl rfl 1 (by decide) (hJ.nest hJs 1 rfl) (fun _ h => h) rfl (v := .ref (E 4)) rfl dX0_hottest_35 ?_
            refine lv_bipush (v := 20) hx hb dX0_hottest_38 (by decide) ?_
            refine lv_iload_n hx hb dX0_hottest_40 rfl (lv_at hl 2 rfl) ?_
            refine lv_iadd hx hb dX0_hottest_41 ?_
            obtain ⟨h12, hf⟩ := ob_gd hf
            refine xr_iald hx hb hK hP 4 (by decide) rfl 0 rfl (j := (20 + v2_2).toNatClampNeg) h12 rfl dX0_hottest_42 ?_
            refine lv_aload_n hx hb dX0_hottest_43 rfl (lv_at hl 0 rfl) ?_
            refine xr_get hx hb hts in_X0 hown hK hP 0 (by decide) rfl rfl 0 (by decide) (hts _ q252) (fun _ h => h) rfl (v := .ref (E 1)) rfl dX0_hottest_44 ?_
            refine xr_getN (host := "QuarrelsPawned") hx hb hts in_X1 hown hK hP 1 (by decide) rfl rfl 1 (by decide) (hJ.nest hJs 1 rfl) (fun _ h => h) rfl (v := .ref (E 4)) rfl dX0_hottest_47 ?_
            refine lv_bipush (v := 20) hx hb dX0_hottest_50 (by decide) ?_
            refine lv_iload_n hx hb dX0_hottest_52 rfl (lv_at hl 1 rfl) ?_
            refine lv_iadd hx hb dX0_hottest_53 ?_
            obtain ⟨h13, hf⟩ := ob_gd hf
            refine xr_iald hx hb hK hP 4 (by decide) rfl 0 rfl (j := (20 + v1_1).toNatClampNeg) h13 rfl dX0_hottest_54 ?_
            refine lv_icmp_le (tgt := 60) hx hb dX0_hottest_55 (by decide) (fun c14 => ?_) (fun c14 => ?_)
            · replace hf := ob_t hf c14
              obtain ⟨v2_15, ev2_15, hf⟩ := ob_bnd hf
              refine lv_iinc (v := v2_15) (lv' := [(2, .int v2_15), (0, .ref (E 0)), (1, .int v1_1)]) hx hb dX0_hottest_60 hl (k := 2) rfl (by rw [ev2_15]; rfl) (by decide) rfl (fun ls hl => ?_)
              refine lv_goto (tgt := 4) hx hb dX0_hottest_63 (by decide) ?_
              obtain rfl := ob_s hf
              exact ih _ _ (h3a _ rfl) K3_0 H locs ls hP hS (lv_sub hl [1, 2, 0] rfl)
            · replace hf := ob_f hf c14
              refine lv_iload_n hx hb dX0_hottest_58 rfl (lv_at hl 2 rfl) ?_
              refine lv_istore_n (lv' := [(1, .int v2_2), (0, .ref (E 0)), (2, .int v2_2)]) hx hb dX0_hottest_59 rfl hl (by decide) rfl (fun ls hl => ?_)
              obtain ⟨v2_16, ev2_16, hf⟩ := ob_bnd hf
              refine lv_iinc (v := v2_16) (lv' := [(2, .int v2_16), (1, .int v2_2), (0, .ref (E 0))]) hx hb dX0_hottest_60 hl (k := 2) rfl (by rw [ev2_16]; rfl) (by decide) rfl (fun ls hl => ?_)
              refine lv_goto (tgt := 4) hx hb dX0_hottest_63 (by decide) ?_
              obtain rfl := ob_s hf
              exact ih _ _ (h3a _ rfl) K3_0 H locs ls hP hS (lv_sub hl [2, 1, 0] rfl)
  refine kL4 n3 (-1) 0 hn3 (fun H locs ls hP hS hl => ?_) H locs ls hP hS (lv_sub hl [2, 1, 0] rfl)
  replace hf : X_hottest_x4_66 b3 = some res := hf
  unfold X_hottest_x4_66 at hf
  refine lv_iload_n hx hb dX0_hottest_66 rfl (lv_at hl 0 rfl) ?_
  obtain rfl := ob_s hf
  subst hQ
  exact xe_i hx hb hr hlocks hP hS dX0_hottest_67
abbrev rmX0_silent : Room := { frames := 3, cells := 0, slots := 0, locals := 72 }
theorem cdX0_silent : yX0_silent.cls = RX0 ∧ yX0_silent.cls ≠ "java/lang/invoke/MethodHandle" ∧ yX0_silent.cls ≠ "java/lang/invoke/VarHandle" ∧ (parseMethodDescriptor yX0_silent.desc).map (fun d => d.parameters.length) = some 0 := by decide +kernel
set_option maxHeartbeats 4000000 in
set_option maxRecDepth 100000 in
theorem wkX0_silent (l : Launch) (D : va_G) (dA : Nat → ClassId) (E : Nat → Nat) (hE : wInj 136 E) (T : Tx) (J : State → Heap → Prop) (hJ : JP D dA E T J) (w : Mm)  {res : Int32} (hf : X_silent w = some res) : Met l yX0_silent (ws_ yX0_silent cX0_silent 3 (some .int)) rmX0_silent (Pj D dA E J [.ref (E 0)] w) (Qwi D clX shX 136 dA E res w) 0 0 (AE 136 E) := by
  refine xj_head (own := RX0) (by decide) rfl (Nat.le_of_ble_eq_true rfl) ?_
  intro p e s m args below meth c ls Q hQ C hP hl
  obtain ⟨hx, hb, hr, hlocks, hml, hown, hts, hK, hJs⟩ := C
  replace hl : lv_has ls 3 [(0, .ref (E 0))] := hl
  have hS : va_S (AE 136 E) s.heap s.heap [] := va_S.rf
  have hD : wD 136 E (AE 136 E) := wD.self hE
  unfold X_silent at hf
  obtain ⟨H, eH⟩ : ∃ H, H = s.heap := ⟨_, rfl⟩
  obtain ⟨locs, eL⟩ : ∃ locs : List Loc, locs = [] := ⟨_, rfl⟩
  rw [← eL] at hS ⊢
  rw [← eH] at hP
  have hS : va_S (AE 136 E) s.heap H locs := by rw [eH]; exact hS
  show W p l e rmX0_silent s m args below meth c s.heap locs 0 0 Q (F0 m 0 ls [])
  rw [← eH]
  refine lv_iconst (v := 0) hx hb dX0_silent_0 (by decide) ?_
  refine lv_istore_n (lv' := [(1, .int 0), (0, .ref (E 0))]) hx hb dX0_silent_1 rfl hl (by decide) rfl (fun ls hl => ?_)
  refine lv_iconst (v := 0) hx hb dX0_silent_2 (by decide) ?_
  refine lv_istore_n (lv' := [(2, .int 0), (1, .int 0), (0, .ref (E 0))]) hx hb dX0_silent_3 rfl hl (by decide) rfl (fun ls hl => ?_)
  obtain ⟨b3, hb3, hf⟩ := ob_bind hf
  obtain ⟨n3, hn3⟩ := lp_some hb3
  have kL4 : ∀ (n : Nat) (v1_1 : Int32) (v2_2 : Int32), lpF (fun (q3 : Int32 × Int32) => X_silent_b4 w q3.1 q3.2) n (v1_1, v2_2) = some b3 → (∀ (H : Heap) (locs : List Loc) (ls : Array Slot), va_P D clX (wl shX 136 dA E w) H → va_S (AE 136 E) s.heap H locs → lv_has ls 3 [(1, .int b3)] → W p l e rmX0_silent s m args below meth c H locs 0 0 Q (F0 m 38 ls [])) → ∀ (H : Heap) (locs : List Loc) (ls : Array Slot), va_P D clX (wl shX 136 dA E w) H → va_S (AE 136 E) s.heap H locs → lv_has ls 3 [(0, .ref (E 0)), (1, .int v1_1), (2, .int v2_2)] → W p l e rmX0_silent s m args below meth c H locs 0 0 Q (F0 m 4 ls []) := by
    intro n
    induction n with
    | zero =>
      intro v1_1 v2_2 hq9
      cases hq9
    | succ n ih =>
      intro v1_1 v2_2 hq9 K3_0 H locs ls hP hS hl
      obtain ⟨r3, hf, h3a, h3b⟩ := lpF_step hq9
      replace hf : X_silent_b4 w v1_1 v2_2 = some r3 := hf
      unfold X_silent_b4 at hf
      refine lv_iload_n hx hb dX0_silent_4 rfl (lv_at hl 2 rfl) ?_
      refine lv_bipush (v := 6) hx hb dX0_silent_5 (by decide) ?_
      refine lv_icmp_ge (tgt := 38) hx hb dX0_silent_7 (by decide) (fun c4 => ?_) (fun c4 => ?_)
      · replace hf := ob_t hf c4
        obtain rfl := ob_s hf
        obtain rfl := h3b _ rfl
        exact K3_0 H locs ls hP hS (lv_sub hl [1] rfl)
      · replace hf := ob_f hf c4
        refine lv_iload_n hx hb dX0_silent_10 rfl (lv_at hl 1 rfl) ?_
        refine lv_aload_n hx hb dX0_silent_11 rfl (lv_at hl 0 rfl) ?_
        refine lv_iload_n hx hb dX0_silent_12 rfl (lv_at hl 2 rfl) ?_
        refine lv_iconst (v := 0) hx hb dX0_silent_13 (by decide) ?_
        obtain ⟨q6, g5, hf⟩ := ob_bind hf
        refine xc_i (xj_run (As := [.int v2_2, .int 0]) (rest := [.int v1_1]) hJ hJs hS ⟨hx, hb, hml, hown, hts⟩ (k0 := 0) (wkX0_groupOf l D dA E hE T J hJ w v2_2 0 g5) (cwV 2 hts (lw_V q1209 q1211 qs45 q136 q1212) rfl rfl rfl cdX0_groupOf ⟨Nat.le_of_ble_eq_true rfl, Nat.le_of_ble_eq_true rfl⟩) hK hP (by decide) rfl rfl rfl hl.1 rfl rfl (Nat.le_of_ble_eq_true rfl) dX0_silent_14 ⟨Nat.zero_le _, Nat.zero_le _⟩) hS hD.2 (fun H locs hP hS => ?_)
        refine lv_iconst (v := 1) hx hb dX0_silent_17 (by decide) ?_
        refine lv_iload_n hx hb dX0_silent_18 rfl (lv_at hl 2 rfl) ?_
        refine lv_ishl hx hb dX0_silent_19 ?_
        refine lv_icmp_ne (tgt := 29) hx hb dX0_silent_20 (by decide) (fun c7 => ?_) (fun c7 => ?_)
        · replace hf := ob_f hf c7
          refine lv_iconst (v := 0) hx hb dX0_silent_29 (by decide) ?_
          refine lv_ior hx hb dX0_silent_30 ?_
          obtain ⟨v1_8, ev1_8, hf⟩ := ob_bnd hf
          refine xn_i ev1_8 ?_
          refine lv_istore_n (lv' := [(1, .int v1_8), (0, .ref (E 0)), (2, .int v2_2)]) hx hb dX0_silent_31 rfl hl (by decide) rfl (fun ls hl => ?_)
          obtain ⟨v2_9, ev2_9, hf⟩ := ob_bnd hf
          refine lv_iinc (v := v2_9) (lv' := [(2, .int v2_9), (1, .int v1_8), (0, .ref (E 0))]) hx hb dX0_silent_32 hl (k := 2) rfl (by rw [ev2_9]; rfl) (by decide) rfl (fun ls hl => ?_)
          refine lv_goto (tgt := 4) hx hb dX0_silent_35 (by decide) ?_
          obtain rfl := ob_s hf
          exact ih _ _ (h3a _ rfl) K3_0 H locs ls hP hS (lv_sub hl [2, 1, 0] rfl)
        · replace hf := ob_t hf c7
          refine lv_iconst (v := 1) hx hb dX0_silent_23 (by decide) ?_
          refine lv_iload_n hx hb dX0_silent_24 rfl (lv_at hl 2 rfl) ?_
          refine lv_ishl hx hb dX0_silent_25 ?_
          refine lv_goto (tgt := 30) hx hb dX0_silent_26 (by decide) ?_
          refine lv_ior hx hb dX0_silent_30 ?_
          obtain ⟨v1_10, ev1_10, hf⟩ := ob_bnd hf
          refine xn_i ev1_10 ?_
          refine lv_istore_n (lv' := [(1, .int v1_10), (0, .ref (E 0)), (2, .int v2_2)]) hx hb dX0_silent_31 rfl hl (by decide) rfl (fun ls hl => ?_)
          obtain ⟨v2_11, ev2_11, hf⟩ := ob_bnd hf
          refine lv_iinc (v := v2_11) (lv' := [(2, .int v2_11), (1, .int v1_10), (0, .ref (E 0))]) hx hb dX0_silent_32 hl (k := 2) rfl (by rw [ev2_11]; rfl) (by decide) rfl (fun ls hl => ?_)
          refine lv_goto (tgt := 4) hx hb dX0_silent_35 (by decide) ?_
          obtain rfl := ob_s hf
          exact ih _ _ (h3a _ rfl) K3_0 H locs ls hP hS (lv_sub hl [2, 1, 0] rfl)
  refine kL4 n3 0 0 hn3 (fun H locs ls hP hS hl => ?_) H locs ls hP hS (lv_sub hl [2, 1, 0] rfl)
  replace hf : X_silent_x4_38 b3 = some res := hf
  unfold X_silent_x4_38 at hf
  refine lv_iload_n hx hb dX0_silent_38 rfl (lv_at hl 0 rfl) ?_
  obtain rfl := ob_s hf
  subst hQ
  exact xe_i hx hb hr hlocks hP hS dX0_silent_39
abbrev rmX0_ledger : Room := { frames := 1, cells := 0, slots := 0, locals := 22 }
theorem cdX0_ledger : yX0_ledger.cls = RX0 ∧ yX0_ledger.cls ≠ "java/lang/invoke/MethodHandle" ∧ yX0_ledger.cls ≠ "java/lang/invoke/VarHandle" ∧ (parseMethodDescriptor yX0_ledger.desc).map (fun d => d.parameters.length) = some 1 := by decide +kernel
set_option maxHeartbeats 4000000 in
set_option maxRecDepth 100000 in
theorem wkX0_ledger (l : Launch) (D : va_G) (dA : Nat → ClassId) (E : Nat → Nat) (hE : wInj 136 E) (T : Tx) (J : State → Heap → Prop) (hJ : JP D dA E T J) (w : Mm) (a1 : Int32) {res : Int32} (hf : X_ledger w a1 = some res) : Met l yX0_ledger (ws_ yX0_ledger cX0_ledger 4 (some .int)) rmX0_ledger (Pj D dA E J [.ref (E 0), .int a1] w) (Qwi D clX shX 136 dA E res w) 0 0 (AE 136 E) := by
  refine xj_head (own := RX0) (by decide) rfl (Nat.le_of_ble_eq_true rfl) ?_
  intro p e s m args below meth c ls Q hQ C hP hl
  obtain ⟨hx, hb, hr, hlocks, hml, hown, hts, hK, hJs⟩ := C
  replace hl : lv_has ls 4 [(0, .ref (E 0)), (1, .int a1)] := hl
  have hS : va_S (AE 136 E) s.heap s.heap [] := va_S.rf
  have hD : wD 136 E (AE 136 E) := wD.self hE
  unfold X_ledger at hf
  obtain ⟨H, eH⟩ : ∃ H, H = s.heap := ⟨_, rfl⟩
  obtain ⟨locs, eL⟩ : ∃ locs : List Loc, locs = [] := ⟨_, rfl⟩
  rw [← eL] at hS ⊢
  rw [← eH] at hP
  have hS : va_S (AE 136 E) s.heap H locs := by rw [eH]; exact hS
  show W p l e rmX0_ledger s m args below meth c s.heap locs 0 0 Q (F0 m 0 ls [])
  rw [← eH]
  refine lv_iload_n hx hb dX0_ledger_0 rfl (lv_at hl 1 rfl) ?_
  refine lv_iconst (v := 0) hx hb dX0_ledger_1 (by decide) ?_
  refine lv_iconst (v := 2) hx hb dX0_ledger_2 (by decide) ?_
  obtain ⟨q2, g1, hf⟩ := ob_bind hf
  refine xc_z (xj_runS (As := [.int a1, .int 0, .int 2]) (rest := []) hJ hJs hS ⟨hx, hb, hml, hown, hts⟩ (wkX0_in l D dA E hE T J hJ w a1 0 2 g1) (va_cwS 3 hts (lw_S q319 q320 q136 q321) rfl rfl rfl cdX0_in.2 ⟨Nat.le_of_ble_eq_true rfl, Nat.le_of_ble_eq_true rfl⟩) hK hP hl.1 rfl rfl (Nat.le_of_ble_eq_true rfl) dX0_ledger_3 ⟨Nat.zero_le _, Nat.zero_le _⟩) hS hD.2 (fun H locs zq2 hP hS => ?_)
  refine lv_if_ne (tgt := 12) hx hb dX0_ledger_6 (by decide) (fun c3 => ?_) (fun c3 => ?_)
  · replace hf := ob_f hf c3
    refine lv_iconst (v := 0) hx hb dX0_ledger_12 (by decide) ?_
    refine lv_istore_n (lv' := [(2, .int 0), (0, .ref (E 0)), (1, .int a1)]) hx hb dX0_ledger_13 rfl hl (by decide) rfl (fun ls hl => ?_)
    refine lv_iconst (v := 0) hx hb dX0_ledger_14 (by decide) ?_
    refine lv_istore_n (lv' := [(3, .int 0), (2, .int 0), (0, .ref (E 0)), (1, .int a1)]) hx hb dX0_ledger_15 rfl hl (by decide) rfl (fun ls hl => ?_)
    obtain ⟨b6, hb6, hf⟩ := ob_bind hf
    obtain ⟨n6, hn6⟩ := lp_some hb6
    have kL16 : ∀ (n : Nat) (v2_4 : Int32) (v3_5 : Int32), lpF (fun (q6 : Int32 × Int32) => X_ledger_b16 w a1 q6.1 q6.2) n (v2_4, v3_5) = some b6 → (∀ (H : Heap) (locs : List Loc) (ls : Array Slot), va_P D clX (wl shX 136 dA E w) H → va_S (AE 136 E) s.heap H locs → lv_has ls 4 [(2, .int b6)] → W p l e rmX0_ledger s m args below meth c H locs 0 0 Q (F0 m 64 ls [])) → ∀ (H : Heap) (locs : List Loc) (ls : Array Slot), va_P D clX (wl shX 136 dA E w) H → va_S (AE 136 E) s.heap H locs → lv_has ls 4 [(0, .ref (E 0)), (1, .int a1), (2, .int v2_4), (3, .int v3_5)] → W p l e rmX0_ledger s m args below meth c H locs 0 0 Q (F0 m 16 ls []) := by
      intro n
      induction n with
      | zero =>
        intro v2_4 v3_5 hq9
        cases hq9
      | succ n ih =>
        intro v2_4 v3_5 hq9 K6_0 H locs ls hP hS hl
        obtain ⟨r6, hf, h6a, h6b⟩ := lpF_step hq9
        replace hf : X_ledger_b16 w a1 v2_4 v3_5 = some r6 := hf
        unfold X_ledger_b16 at hf
        refine lv_iload_n hx hb dX0_ledger_16 rfl (lv_at hl 3 rfl) ?_
        refine lv_aload_n hx hb dX0_ledger_17 rfl (lv_at hl 0 rfl) ?_
        refine xr_get hx hb hts in_X0 hown hK hP 0 (by decide) rfl rfl 0 (by decide) (hts _ q252) (fun _ h => h) rfl (v := .ref (E 1)) rfl dX0_ledger_18 ?_
        refine xr_getN (host := "QuarrelsPawned") hx hb hts in_X1 hown hK hP 1 (by decide) rfl rfl 1 (by decide) (hJ.nest hJs 1 rfl) (fun _ h => h) rfl (v := .ref (E 4)) rfl dX0_ledger_21 ?_
        refine lv_bipush (v := 28) hx hb dX0_ledger_24 (by decide) ?_
        refine xr_iald hx hb hK hP 4 (by decide) rfl 0 rfl (j := 28) (vin_c (by decide)) (by decide) dX0_ledger_26 ?_
        refine lv_icmp_ge (tgt := 64) hx hb dX0_ledger_27 (by decide) (fun c7 => ?_) (fun c7 => ?_)
        · replace hf := ob_t hf c7
          obtain rfl := ob_s hf
          obtain rfl := h6b _ rfl
          exact K6_0 H locs ls hP hS (lv_sub hl [2] rfl)
        · replace hf := ob_f hf c7
          refine lv_iload_n hx hb dX0_ledger_30 rfl (lv_at hl 2 rfl) ?_
          refine lv_aload_n hx hb dX0_ledger_31 rfl (lv_at hl 0 rfl) ?_
          refine xr_get hx hb hts in_X0 hown hK hP 0 (by decide) rfl rfl 0 (by decide) (hts _ q252) (fun _ h => h) rfl (v := .ref (E 1)) rfl dX0_ledger_32 ?_
          refine xr_getN (host := "QuarrelsPawned") hx hb hts in_X1 hown hK hP 1 (by decide) rfl rfl 1 (by decide) (hJ.nest hJs 1 rfl) (fun _ h => h) rfl (v := .ref (E 4)) rfl dX0_ledger_35 ?_
          refine lv_bipush (v := 29) hx hb dX0_ledger_38 (by decide) ?_
          refine lv_iconst (v := 4) hx hb dX0_ledger_40 (by decide) ?_
          refine lv_iload_n hx hb dX0_ledger_41 rfl (lv_at hl 3 rfl) ?_
          refine lv_imul hx hb dX0_ledger_42 ?_
          refine lv_iadd hx hb dX0_ledger_43 ?_
          refine lv_iconst (v := 2) hx hb dX0_ledger_44 (by decide) ?_
          refine lv_iadd hx hb dX0_ledger_45 ?_
          obtain ⟨h8, hf⟩ := ob_gd hf
          refine xr_iald hx hb hK hP 4 (by decide) rfl 0 rfl (j := ((29 + (4 * v3_5)) + 2).toNatClampNeg) h8 rfl dX0_ledger_46 ?_
          refine lv_iload_n hx hb dX0_ledger_47 rfl (lv_at hl 1 rfl) ?_
          refine lv_icmp_ne (tgt := 55) hx hb dX0_ledger_48 (by decide) (fun c9 => ?_) (fun c9 => ?_)
          · replace hf := ob_f hf c9
            refine lv_iconst (v := 0) hx hb dX0_ledger_55 (by decide) ?_
            refine lv_iadd hx hb dX0_ledger_56 ?_
            obtain ⟨v2_10, ev2_10, hf⟩ := ob_bnd hf
            refine xn_i ev2_10 ?_
            refine lv_istore_n (lv' := [(2, .int v2_10), (0, .ref (E 0)), (1, .int a1), (3, .int v3_5)]) hx hb dX0_ledger_57 rfl hl (by decide) rfl (fun ls hl => ?_)
            obtain ⟨v3_11, ev3_11, hf⟩ := ob_bnd hf
            refine lv_iinc (v := v3_11) (lv' := [(3, .int v3_11), (2, .int v2_10), (0, .ref (E 0)), (1, .int a1)]) hx hb dX0_ledger_58 hl (k := 3) rfl (by rw [ev3_11]; rfl) (by decide) rfl (fun ls hl => ?_)
            refine lv_goto (tgt := 16) hx hb dX0_ledger_61 (by decide) ?_
            obtain rfl := ob_s hf
            exact ih _ _ (h6a _ rfl) K6_0 H locs ls hP hS (lv_sub hl [2, 3, 1, 0] rfl)
          · replace hf := ob_t hf c9
            refine lv_iconst (v := 1) hx hb dX0_ledger_51 (by decide) ?_
            refine lv_goto (tgt := 56) hx hb dX0_ledger_52 (by decide) ?_
            refine lv_iadd hx hb dX0_ledger_56 ?_
            obtain ⟨v2_12, ev2_12, hf⟩ := ob_bnd hf
            refine xn_i ev2_12 ?_
            refine lv_istore_n (lv' := [(2, .int v2_12), (0, .ref (E 0)), (1, .int a1), (3, .int v3_5)]) hx hb dX0_ledger_57 rfl hl (by decide) rfl (fun ls hl => ?_)
            obtain ⟨v3_13, ev3_13, hf⟩ := ob_bnd hf
            refine lv_iinc (v := v3_13) (lv' := [(3, .int v3_13), (2, .int v2_12), (0, .ref (E 0)), (1, .int a1)]) hx hb dX0_ledger_58 hl (k := 3) rfl (by rw [ev3_13]; rfl) (by decide) rfl (fun ls hl => ?_)
            refine lv_goto (tgt := 16) hx hb dX0_ledger_61 (by decide) ?_
            obtain rfl := ob_s hf
            exact ih _ _ (h6a _ rfl) K6_0 H locs ls hP hS (lv_sub hl [2, 3, 1, 0] rfl)
    refine kL16 n6 0 0 hn6 (fun H locs ls hP hS hl => ?_) H locs ls hP hS (lv_sub hl [2, 3, 1, 0] rfl)
    replace hf : X_ledger_x16_64 b6 = some res := hf
    unfold X_ledger_x16_64 at hf
    refine lv_iload_n hx hb dX0_ledger_64 rfl (lv_at hl 0 rfl) ?_
    obtain rfl := ob_s hf
    subst hQ
    exact xe_i hx hb hr hlocks hP hS dX0_ledger_65
  · replace hf := ob_t hf c3
    refine lv_bipush (v := (-2)) hx hb dX0_ledger_9 (by decide) ?_
    obtain rfl := ob_s hf
    subst hQ
    exact xe_i hx hb hr hlocks hP hS dX0_ledger_11
abbrev rmX1_copy_2 : Room := { frames := 2, cells := 0, slots := 0, locals := 81 }
theorem cdX1_copy_2 : yX1_copy_2.cls = RX1 ∧ yX1_copy_2.cls ≠ "java/lang/invoke/MethodHandle" ∧ yX1_copy_2.cls ≠ "java/lang/invoke/VarHandle" ∧ (parseMethodDescriptor yX1_copy_2.desc).map (fun d => d.parameters.length) = some 2 := by decide +kernel
set_option maxHeartbeats 4000000 in
set_option maxRecDepth 100000 in
theorem wkX1_copy_2_10_21 (l : Launch) (D : va_G) (dA : Nat → ClassId) (E : Nat → Nat) (hE : wInj 136 E) (T : Tx) (J : State → Heap → Prop) (hJ : JP D dA E T J) (w : Mm)  {res : Mm} (hf : X_X1_copy_2_10_21 w = some res) : Met l yX1_copy_2 (ws_ yX1_copy_2 cX1_copy_2 3 (none)) rmX1_copy_2 (Pj D dA E J [.ref (E 10), .ref (E 21)] w) (Qwv D clX shX 136 dA E res) 0 0 (AE 136 E) := by
  refine xj_head (own := RX1) (by decide) rfl (Nat.le_of_ble_eq_true rfl) ?_
  intro p e s m args below meth c ls Q hQ C hP hl
  obtain ⟨hx, hb, hr, hlocks, hml, hown, hts, hK, hJs⟩ := C
  replace hl : lv_has ls 3 [(0, .ref (E 10)), (1, .ref (E 21))] := hl
  have hS : va_S (AE 136 E) s.heap s.heap [] := va_S.rf
  have hD : wD 136 E (AE 136 E) := wD.self hE
  unfold X_X1_copy_2_10_21 at hf
  obtain ⟨H, eH⟩ : ∃ H, H = s.heap := ⟨_, rfl⟩
  obtain ⟨locs, eL⟩ : ∃ locs : List Loc, locs = [] := ⟨_, rfl⟩
  rw [← eL] at hS ⊢
  rw [← eH] at hP
  have hS : va_S (AE 136 E) s.heap H locs := by rw [eH]; exact hS
  show W p l e rmX1_copy_2 s m args below meth c s.heap locs 0 0 Q (F0 m 0 ls [])
  rw [← eH]
  refine lv_iconst (v := 0) hx hb dX1_copy_2_0 (by decide) ?_
  refine lv_istore_n (lv' := [(2, .int 0), (0, .ref (E 10)), (1, .ref (E 21))]) hx hb dX1_copy_2_1 rfl hl (by decide) rfl (fun ls hl => ?_)
  obtain ⟨b3, hb3, hf⟩ := ob_bind hf
  obtain ⟨n3, hn3⟩ := lp_some hb3
  have kL2 : ∀ (n : Nat) (w1 : Mm) (v2_2 : Int32), lpF (fun (q3 : Mm × Int32) => X_X1_copy_2_10_21_b2 q3.1 q3.2) n (w1, v2_2) = some b3 → (∀ (H : Heap) (locs : List Loc) (ls : Array Slot), va_P D clX (wl shX 136 dA E b3) H → va_S (AE 136 E) s.heap H locs → lv_has ls 3 [] → W p l e rmX1_copy_2 s m args below meth c H locs 0 0 Q (F0 m 23 ls [])) → ∀ (H : Heap) (locs : List Loc) (ls : Array Slot), va_P D clX (wl shX 136 dA E w1) H → va_S (AE 136 E) s.heap H locs → lv_has ls 3 [(0, .ref (E 10)), (1, .ref (E 21)), (2, .int v2_2)] → W p l e rmX1_copy_2 s m args below meth c H locs 0 0 Q (F0 m 2 ls []) := by
    intro n
    induction n with
    | zero =>
      intro w1 v2_2 hq9
      cases hq9
    | succ n ih =>
      intro w1 v2_2 hq9 K3_0 H locs ls hP hS hl
      obtain ⟨r3, hf, h3a, h3b⟩ := lpF_step hq9
      replace hf : X_X1_copy_2_10_21_b2 w1 v2_2 = some r3 := hf
      unfold X_X1_copy_2_10_21_b2 at hf
      refine lv_iload_n hx hb dX1_copy_2_2 rfl (lv_at hl 2 rfl) ?_
      refine lv_aload_n hx hb dX1_copy_2_3 rfl (lv_at hl 0 rfl) ?_
      refine xr_alen (n := 0) (z := []) hx hb hK hP 10 (by decide) (by rw [show shX 10 = _ from rfl]; rfl) 2 rfl (v := 10) rfl dX1_copy_2_4 ?_
      refine lv_icmp_ge (tgt := 23) hx hb dX1_copy_2_5 (by decide) (fun c4 => ?_) (fun c4 => ?_)
      · replace hf := ob_t hf c4
        obtain rfl := ob_s hf
        obtain rfl := h3b _ rfl
        exact K3_0 H locs ls hP hS (lv_sub hl [] rfl)
      · replace hf := ob_f hf c4
        refine lv_aload_n hx hb dX1_copy_2_8 rfl (lv_at hl 0 rfl) ?_
        refine lv_iload_n hx hb dX1_copy_2_9 rfl (lv_at hl 2 rfl) ?_
        obtain ⟨h5, hf⟩ := ob_gd hf
        refine xr_aald hx hb hK hP 10 (by decide) rfl (j := v2_2.toNatClampNeg) h5 rfl dX1_copy_2_10 ?_
        refine lv_aload_n hx hb dX1_copy_2_11 rfl (lv_at hl 1 rfl) ?_
        refine lv_iload_n hx hb dX1_copy_2_12 rfl (lv_at hl 2 rfl) ?_
        obtain ⟨h6, hf⟩ := ob_gd hf
        refine xr_aald hx hb hK hP 21 (by decide) rfl (j := v2_2.toNatClampNeg) h6 rfl dX1_copy_2_13 ?_
        obtain ⟨q8, g7, hf⟩ := ob_bind hf
        refine xc_v (xj_runS (As := [.ref (E (34 + v2_2.toNatClampNeg)), .ref (E (82 + v2_2.toNatClampNeg))]) (rest := []) hJ hJs hS ⟨hx, hb, hml, hown, hts⟩ (wkX1_copy l D dA E hE T J hJ w1 (34 + v2_2.toNatClampNeg) 2 (82 + v2_2.toNatClampNeg) 2 g7 (by have := vin_lt h5; omega) (shX_r1 (by have := vin_lt h5; omega)) (by have := vin_lt h6; omega) (shX_r3 (by have := vin_lt h6; omega))) (va_cwS 2 hts (lw_S q243 q244 q137 q245) rfl rfl rfl cdX1_copy.2 ⟨Nat.le_of_ble_eq_true rfl, Nat.le_of_ble_eq_true rfl⟩) hK hP hl.1 rfl rfl (Nat.le_of_ble_eq_true rfl) dX1_copy_2_14 ⟨Nat.zero_le _, Nat.zero_le _⟩) hS hD.2 (fun H locs hP hS => ?_)
        obtain ⟨v2_9, ev2_9, hf⟩ := ob_bnd hf
        refine lv_iinc (v := v2_9) (lv' := [(2, .int v2_9), (0, .ref (E 10)), (1, .ref (E 21))]) hx hb dX1_copy_2_17 hl (k := 2) rfl (by rw [ev2_9]; rfl) (by decide) rfl (fun ls hl => ?_)
        refine lv_goto (tgt := 2) hx hb dX1_copy_2_20 (by decide) ?_
        obtain rfl := ob_s hf
        exact ih _ _ (h3a _ rfl) K3_0 H locs ls hP hS (lv_sub hl [1, 2, 0] rfl)
  refine kL2 n3 w 0 hn3 (fun H locs ls hP hS hl => ?_) H locs ls hP hS (lv_sub hl [1, 2, 0] rfl)
  replace hf : X_X1_copy_2_10_21_x2_23 b3 = some res := hf
  unfold X_X1_copy_2_10_21_x2_23 at hf
  obtain rfl := ob_s hf
  subst hQ
  exact xe_v hx hb hr hlocks hP hS dX1_copy_2_23
set_option maxHeartbeats 4000000 in
set_option maxRecDepth 100000 in
theorem wkX1_copy_2_11_22 (l : Launch) (D : va_G) (dA : Nat → ClassId) (E : Nat → Nat) (hE : wInj 136 E) (T : Tx) (J : State → Heap → Prop) (hJ : JP D dA E T J) (w : Mm)  {res : Mm} (hf : X_X1_copy_2_11_22 w = some res) : Met l yX1_copy_2 (ws_ yX1_copy_2 cX1_copy_2 3 (none)) rmX1_copy_2 (Pj D dA E J [.ref (E 11), .ref (E 22)] w) (Qwv D clX shX 136 dA E res) 0 0 (AE 136 E) := by
  refine xj_head (own := RX1) (by decide) rfl (Nat.le_of_ble_eq_true rfl) ?_
  intro p e s m args below meth c ls Q hQ C hP hl
  obtain ⟨hx, hb, hr, hlocks, hml, hown, hts, hK, hJs⟩ := C
  replace hl : lv_has ls 3 [(0, .ref (E 11)), (1, .ref (E 22))] := hl
  have hS : va_S (AE 136 E) s.heap s.heap [] := va_S.rf
  have hD : wD 136 E (AE 136 E) := wD.self hE
  unfold X_X1_copy_2_11_22 at hf
  obtain ⟨H, eH⟩ : ∃ H, H = s.heap := ⟨_, rfl⟩
  obtain ⟨locs, eL⟩ : ∃ locs : List Loc, locs = [] := ⟨_, rfl⟩
  rw [← eL] at hS ⊢
  rw [← eH] at hP
  have hS : va_S (AE 136 E) s.heap H locs := by rw [eH]; exact hS
  show W p l e rmX1_copy_2 s m args below meth c s.heap locs 0 0 Q (F0 m 0 ls [])
  rw [← eH]
  refine lv_iconst (v := 0) hx hb dX1_copy_2_0 (by decide) ?_
  refine lv_istore_n (lv' := [(2, .int 0), (0, .ref (E 11)), (1, .ref (E 22))]) hx hb dX1_copy_2_1 rfl hl (by decide) rfl (fun ls hl => ?_)
  obtain ⟨b3, hb3, hf⟩ := ob_bind hf
  obtain ⟨n3, hn3⟩ := lp_some hb3
  have kL2 : ∀ (n : Nat) (w1 : Mm) (v2_2 : Int32), lpF (fun (q3 : Mm × Int32) => X_X1_copy_2_11_22_b2 q3.1 q3.2) n (w1, v2_2) = some b3 → (∀ (H : Heap) (locs : List Loc) (ls : Array Slot), va_P D clX (wl shX 136 dA E b3) H → va_S (AE 136 E) s.heap H locs → lv_has ls 3 [] → W p l e rmX1_copy_2 s m args below meth c H locs 0 0 Q (F0 m 23 ls [])) → ∀ (H : Heap) (locs : List Loc) (ls : Array Slot), va_P D clX (wl shX 136 dA E w1) H → va_S (AE 136 E) s.heap H locs → lv_has ls 3 [(0, .ref (E 11)), (1, .ref (E 22)), (2, .int v2_2)] → W p l e rmX1_copy_2 s m args below meth c H locs 0 0 Q (F0 m 2 ls []) := by
    intro n
    induction n with
    | zero =>
      intro w1 v2_2 hq9
      cases hq9
    | succ n ih =>
      intro w1 v2_2 hq9 K3_0 H locs ls hP hS hl
      obtain ⟨r3, hf, h3a, h3b⟩ := lpF_step hq9
      replace hf : X_X1_copy_2_11_22_b2 w1 v2_2 = some r3 := hf
      unfold X_X1_copy_2_11_22_b2 at hf
      refine lv_iload_n hx hb dX1_copy_2_2 rfl (lv_at hl 2 rfl) ?_
      refine lv_aload_n hx hb dX1_copy_2_3 rfl (lv_at hl 0 rfl) ?_
      refine xr_alen (n := 0) (z := []) hx hb hK hP 11 (by decide) (by rw [show shX 11 = _ from rfl]; rfl) 2 rfl (v := 8) rfl dX1_copy_2_4 ?_
      refine lv_icmp_ge (tgt := 23) hx hb dX1_copy_2_5 (by decide) (fun c4 => ?_) (fun c4 => ?_)
      · replace hf := ob_t hf c4
        obtain rfl := ob_s hf
        obtain rfl := h3b _ rfl
        exact K3_0 H locs ls hP hS (lv_sub hl [] rfl)
      · replace hf := ob_f hf c4
        refine lv_aload_n hx hb dX1_copy_2_8 rfl (lv_at hl 0 rfl) ?_
        refine lv_iload_n hx hb dX1_copy_2_9 rfl (lv_at hl 2 rfl) ?_
        obtain ⟨h5, hf⟩ := ob_gd hf
        refine xr_aald hx hb hK hP 11 (by decide) rfl (j := v2_2.toNatClampNeg) h5 rfl dX1_copy_2_10 ?_
        refine lv_aload_n hx hb dX1_copy_2_11 rfl (lv_at hl 1 rfl) ?_
        refine lv_iload_n hx hb dX1_copy_2_12 rfl (lv_at hl 2 rfl) ?_
        obtain ⟨h6, hf⟩ := ob_gd hf
        refine xr_aald hx hb hK hP 22 (by decide) rfl (j := v2_2.toNatClampNeg) h6 rfl dX1_copy_2_13 ?_
        obtain ⟨q8, g7, hf⟩ := ob_bind hf
        refine xc_v (xj_runS (As := [.ref (E (44 + v2_2.toNatClampNeg)), .ref (E (92 + v2_2.toNatClampNeg))]) (rest := []) hJ hJs hS ⟨hx, hb, hml, hown, hts⟩ (wkX1_copy l D dA E hE T J hJ w1 (44 + v2_2.toNatClampNeg) 2 (92 + v2_2.toNatClampNeg) 2 g7 (by have := vin_lt h5; omega) (shX_s44 (by have := vin_lt h5; omega)) (by have := vin_lt h6; omega) (shX_s92 (by have := vin_lt h6; omega))) (va_cwS 2 hts (lw_S q243 q244 q137 q245) rfl rfl rfl cdX1_copy.2 ⟨Nat.le_of_ble_eq_true rfl, Nat.le_of_ble_eq_true rfl⟩) hK hP hl.1 rfl rfl (Nat.le_of_ble_eq_true rfl) dX1_copy_2_14 ⟨Nat.zero_le _, Nat.zero_le _⟩) hS hD.2 (fun H locs hP hS => ?_)
        obtain ⟨v2_9, ev2_9, hf⟩ := ob_bnd hf
        refine lv_iinc (v := v2_9) (lv' := [(2, .int v2_9), (0, .ref (E 11)), (1, .ref (E 22))]) hx hb dX1_copy_2_17 hl (k := 2) rfl (by rw [ev2_9]; rfl) (by decide) rfl (fun ls hl => ?_)
        refine lv_goto (tgt := 2) hx hb dX1_copy_2_20 (by decide) ?_
        obtain rfl := ob_s hf
        exact ih _ _ (h3a _ rfl) K3_0 H locs ls hP hS (lv_sub hl [1, 2, 0] rfl)
  refine kL2 n3 w 0 hn3 (fun H locs ls hP hS hl => ?_) H locs ls hP hS (lv_sub hl [1, 2, 0] rfl)
  replace hf : X_X1_copy_2_11_22_x2_23 b3 = some res := hf
  unfold X_X1_copy_2_11_22_x2_23 at hf
  obtain rfl := ob_s hf
  subst hQ
  exact xe_v hx hb hr hlocks hP hS dX1_copy_2_23
set_option maxHeartbeats 4000000 in
set_option maxRecDepth 100000 in
theorem wkX1_copy_2_12_23 (l : Launch) (D : va_G) (dA : Nat → ClassId) (E : Nat → Nat) (hE : wInj 136 E) (T : Tx) (J : State → Heap → Prop) (hJ : JP D dA E T J) (w : Mm)  {res : Mm} (hf : X_X1_copy_2_12_23 w = some res) : Met l yX1_copy_2 (ws_ yX1_copy_2 cX1_copy_2 3 (none)) rmX1_copy_2 (Pj D dA E J [.ref (E 12), .ref (E 23)] w) (Qwv D clX shX 136 dA E res) 0 0 (AE 136 E) := by
  refine xj_head (own := RX1) (by decide) rfl (Nat.le_of_ble_eq_true rfl) ?_
  intro p e s m args below meth c ls Q hQ C hP hl
  obtain ⟨hx, hb, hr, hlocks, hml, hown, hts, hK, hJs⟩ := C
  replace hl : lv_has ls 3 [(0, .ref (E 12)), (1, .ref (E 23))] := hl
  have hS : va_S (AE 136 E) s.heap s.heap [] := va_S.rf
  have hD : wD 136 E (AE 136 E) := wD.self hE
  unfold X_X1_copy_2_12_23 at hf
  obtain ⟨H, eH⟩ : ∃ H, H = s.heap := ⟨_, rfl⟩
  obtain ⟨locs, eL⟩ : ∃ locs : List Loc, locs = [] := ⟨_, rfl⟩
  rw [← eL] at hS ⊢
  rw [← eH] at hP
  have hS : va_S (AE 136 E) s.heap H locs := by rw [eH]; exact hS
  show W p l e rmX1_copy_2 s m args below meth c s.heap locs 0 0 Q (F0 m 0 ls [])
  rw [← eH]
  refine lv_iconst (v := 0) hx hb dX1_copy_2_0 (by decide) ?_
  refine lv_istore_n (lv' := [(2, .int 0), (0, .ref (E 12)), (1, .ref (E 23))]) hx hb dX1_copy_2_1 rfl hl (by decide) rfl (fun ls hl => ?_)
  obtain ⟨b3, hb3, hf⟩ := ob_bind hf
  obtain ⟨n3, hn3⟩ := lp_some hb3
  have kL2 : ∀ (n : Nat) (w1 : Mm) (v2_2 : Int32), lpF (fun (q3 : Mm × Int32) => X_X1_copy_2_12_23_b2 q3.1 q3.2) n (w1, v2_2) = some b3 → (∀ (H : Heap) (locs : List Loc) (ls : Array Slot), va_P D clX (wl shX 136 dA E b3) H → va_S (AE 136 E) s.heap H locs → lv_has ls 3 [] → W p l e rmX1_copy_2 s m args below meth c H locs 0 0 Q (F0 m 23 ls [])) → ∀ (H : Heap) (locs : List Loc) (ls : Array Slot), va_P D clX (wl shX 136 dA E w1) H → va_S (AE 136 E) s.heap H locs → lv_has ls 3 [(0, .ref (E 12)), (1, .ref (E 23)), (2, .int v2_2)] → W p l e rmX1_copy_2 s m args below meth c H locs 0 0 Q (F0 m 2 ls []) := by
    intro n
    induction n with
    | zero =>
      intro w1 v2_2 hq9
      cases hq9
    | succ n ih =>
      intro w1 v2_2 hq9 K3_0 H locs ls hP hS hl
      obtain ⟨r3, hf, h3a, h3b⟩ := lpF_step hq9
      replace hf : X_X1_copy_2_12_23_b2 w1 v2_2 = some r3 := hf
      unfold X_X1_copy_2_12_23_b2 at hf
      refine lv_iload_n hx hb dX1_copy_2_2 rfl (lv_at hl 2 rfl) ?_
      refine lv_aload_n hx hb dX1_copy_2_3 rfl (lv_at hl 0 rfl) ?_
      refine xr_alen (n := 0) (z := []) hx hb hK hP 12 (by decide) (by rw [show shX 12 = _ from rfl]; rfl) 2 rfl (v := 30) rfl dX1_copy_2_4 ?_
      refine lv_icmp_ge (tgt := 23) hx hb dX1_copy_2_5 (by decide) (fun c4 => ?_) (fun c4 => ?_)
      · replace hf := ob_t hf c4
        obtain rfl := ob_s hf
        obtain rfl := h3b _ rfl
        exact K3_0 H locs ls hP hS (lv_sub hl [] rfl)
      · replace hf := ob_f hf c4
        refine lv_aload_n hx hb dX1_copy_2_8 rfl (lv_at hl 0 rfl) ?_
        refine lv_iload_n hx hb dX1_copy_2_9 rfl (lv_at hl 2 rfl) ?_
        obtain ⟨h5, hf⟩ := ob_gd hf
        refine xr_aald hx hb hK hP 12 (by decide) rfl (j := v2_2.toNatClampNeg) h5 rfl dX1_copy_2_10 ?_
        refine lv_aload_n hx hb dX1_copy_2_11 rfl (lv_at hl 1 rfl) ?_
        refine lv_iload_n hx hb dX1_copy_2_12 rfl (lv_at hl 2 rfl) ?_
        obtain ⟨h6, hf⟩ := ob_gd hf
        refine xr_aald hx hb hK hP 23 (by decide) rfl (j := v2_2.toNatClampNeg) h6 rfl dX1_copy_2_13 ?_
        obtain ⟨q8, g7, hf⟩ := ob_bind hf
        refine xc_v (xj_runS (As := [.ref (E (52 + v2_2.toNatClampNeg)), .ref (E (100 + v2_2.toNatClampNeg))]) (rest := []) hJ hJs hS ⟨hx, hb, hml, hown, hts⟩ (wkX1_copy l D dA E hE T J hJ w1 (52 + v2_2.toNatClampNeg) 149 (100 + v2_2.toNatClampNeg) 149 g7 (by have := vin_lt h5; omega) (shX_r2 (by have := vin_lt h5; omega)) (by have := vin_lt h6; omega) (shX_r4 (by have := vin_lt h6; omega))) (va_cwS 2 hts (lw_S q243 q244 q137 q245) rfl rfl rfl cdX1_copy.2 ⟨Nat.le_of_ble_eq_true rfl, Nat.le_of_ble_eq_true rfl⟩) hK hP hl.1 rfl rfl (Nat.le_of_ble_eq_true rfl) dX1_copy_2_14 ⟨Nat.zero_le _, Nat.zero_le _⟩) hS hD.2 (fun H locs hP hS => ?_)
        obtain ⟨v2_9, ev2_9, hf⟩ := ob_bnd hf
        refine lv_iinc (v := v2_9) (lv' := [(2, .int v2_9), (0, .ref (E 12)), (1, .ref (E 23))]) hx hb dX1_copy_2_17 hl (k := 2) rfl (by rw [ev2_9]; rfl) (by decide) rfl (fun ls hl => ?_)
        refine lv_goto (tgt := 2) hx hb dX1_copy_2_20 (by decide) ?_
        obtain rfl := ob_s hf
        exact ih _ _ (h3a _ rfl) K3_0 H locs ls hP hS (lv_sub hl [1, 2, 0] rfl)
  refine kL2 n3 w 0 hn3 (fun H locs ls hP hS hl => ?_) H locs ls hP hS (lv_sub hl [1, 2, 0] rfl)
  replace hf : X_X1_copy_2_12_23_x2_23 b3 = some res := hf
  unfold X_X1_copy_2_12_23_x2_23 at hf
  obtain rfl := ob_s hf
  subst hQ
  exact xe_v hx hb hr hlocks hP hS dX1_copy_2_23
