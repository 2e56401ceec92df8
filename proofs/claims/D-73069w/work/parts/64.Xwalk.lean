/-! QuarrelsPawned: its methods walked (printed by run_x.py) -/
abbrev rmJ0_fill : Room := { frames := 0, cells := 0, slots := 0, locals := 0 }
theorem cdJ0_fill : yJ0_fill.cls = RJ0 ∧ yJ0_fill.cls ≠ "java/lang/invoke/MethodHandle" ∧ yJ0_fill.cls ≠ "java/lang/invoke/VarHandle" ∧ (parseMethodDescriptor yJ0_fill.desc).map (fun d => d.parameters.length) = some 2 := by decide +kernel
set_option maxHeartbeats 4000000 in
set_option maxRecDepth 100000 in
theorem wkJ0_fill (l : Launch) (D : va_G) (dA : Nat → ClassId) (E : Nat → Nat) (hE : wInj 136 E) (T : Tx) (J : State → Heap → Prop) (hJ : JP D dA E T J) (w : Mm) (k0 : Nat) (n0 : Nat) (a1 : Int32) {res : Mm} (hf : X_J0_fill w k0 n0 a1 = some res) (hk0 : k0 < 136) (sk0 : shX k0 = (1, n0, [])) : Met l yJ0_fill (ws_ yJ0_fill cJ0_fill 4 (none)) rmJ0_fill (Pj D dA E J [.ref (E k0), .int a1] w) (Qwv D clX shX 136 dA E res) 0 0 (AE 136 E) := by
  refine xj_head (own := RJ0) (by decide) rfl (Nat.le_of_ble_eq_true rfl) ?_
  intro p e s m args below meth c ls Q hQ C hP hl
  obtain ⟨hx, hb, hr, hlocks, hml, hown, hts, hK, hJs⟩ := C
  replace hl : lv_has ls 4 [(0, .ref (E k0)), (1, .int a1)] := hl
  have hS : va_S (AE 136 E) s.heap s.heap [] := va_S.rf
  have hD : wD 136 E (AE 136 E) := wD.self hE
  unfold X_J0_fill at hf
  obtain ⟨H, eH⟩ : ∃ H, H = s.heap := ⟨_, rfl⟩
  obtain ⟨locs, eL⟩ : ∃ locs : List Loc, locs = [] := ⟨_, rfl⟩
  rw [← eL] at hS ⊢
  rw [← eH] at hP
  have hS : va_S (AE 136 E) s.heap H locs := by rw [eH]; exact hS
  show W p l e rmJ0_fill s m args below meth c s.heap locs 0 0 Q (F0 m 0 ls [])
  rw [← eH]
  refine lv_iconst (v := 0) hx hb dJ0_fill_0 (by decide) ?_
  refine lv_istore_n (lv' := [(2, .int 0), (0, .ref (E k0)), (1, .int a1)]) hx hb dJ0_fill_1 rfl hl (by decide) rfl (fun ls hl => ?_)
  refine lv_aload_n hx hb dJ0_fill_2 rfl (lv_at hl 1 rfl) ?_
  refine xr_alen (n := 0) (z := []) hx hb hK hP k0 hk0 (by rw [show shX k0 = _ from sk0]; rfl) 0 rfl (v := (nI n0)) rfl dJ0_fill_3 ?_
  obtain ⟨v3_1, ev3_1, hf⟩ := ob_bnd hf
  refine xn_i ev3_1 ?_
  refine lv_istore_n (lv' := [(3, .int v3_1), (2, .int 0), (0, .ref (E k0)), (1, .int a1)]) hx hb dJ0_fill_4 rfl hl (by decide) rfl (fun ls hl => ?_)
  obtain ⟨b4, hb4, hf⟩ := ob_bind hf
  obtain ⟨n4, hn4⟩ := lp_some hb4
  have kL5 : ∀ (n : Nat) (w2 : Mm) (v2_3 : Int32), lpF (fun (q4 : Mm × Int32) => X_J0_fill_b5 v3_1 n0 k0 a1 q4.1 q4.2) n (w2, v2_3) = some b4 → (∀ (H : Heap) (locs : List Loc) (ls : Array Slot), va_P D clX (wl shX 136 dA E b4) H → va_S (AE 136 E) s.heap H locs → lv_has ls 4 [] → W p l e rmJ0_fill s m args below meth c H locs 0 0 Q (F0 m 20 ls [])) → ∀ (H : Heap) (locs : List Loc) (ls : Array Slot), va_P D clX (wl shX 136 dA E w2) H → va_S (AE 136 E) s.heap H locs → lv_has ls 4 [(0, .ref (E k0)), (1, .int a1), (2, .int v2_3), (3, .int v3_1)] → W p l e rmJ0_fill s m args below meth c H locs 0 0 Q (F0 m 5 ls []) := by
    intro n
    induction n with
    | zero =>
      intro w2 v2_3 hq9
      cases hq9
    | succ n ih =>
      intro w2 v2_3 hq9 K4_0 H locs ls hP hS hl
      obtain ⟨r4, hf, h4a, h4b⟩ := lpF_step hq9
      replace hf : X_J0_fill_b5 v3_1 n0 k0 a1 w2 v2_3 = some r4 := hf
      unfold X_J0_fill_b5 at hf
      refine lv_iload_n hx hb dJ0_fill_5 rfl (lv_at hl 2 rfl) ?_
      refine lv_iload_n hx hb dJ0_fill_6 rfl (lv_at hl 3 rfl) ?_
      refine lv_icmp_ge (tgt := 20) hx hb dJ0_fill_7 (by decide) (fun c5 => ?_) (fun c5 => ?_)
      · replace hf := ob_t hf c5
        obtain rfl := ob_s hf
        obtain rfl := h4b _ rfl
        exact K4_0 H locs ls hP hS (lv_sub hl [] rfl)
      · replace hf := ob_f hf c5
        refine lv_aload_n hx hb dJ0_fill_10 rfl (lv_at hl 0 rfl) ?_
        refine lv_iload_n hx hb dJ0_fill_11 rfl (lv_at hl 2 rfl) ?_
        refine lv_iload_n hx hb dJ0_fill_12 rfl (lv_at hl 1 rfl) ?_
        obtain ⟨h6, hf⟩ := ob_gd hf
        obtain ⟨w7, ew7, hf⟩ := ob_bnd hf
        refine xr_iast hx hb hK hP hD hS k0 hk0 sk0 0 rfl (j := v2_3.toNatClampNeg) (w' := w7) h6 rfl ew7 dJ0_fill_13 (fun H locs hP hS => ?_)
        obtain ⟨v2_8, ev2_8, hf⟩ := ob_bnd hf
        refine lv_iinc (v := v2_8) (lv' := [(2, .int v2_8), (0, .ref (E k0)), (1, .int a1), (3, .int v3_1)]) hx hb dJ0_fill_14 hl (k := 2) rfl (by rw [ev2_8]; rfl) (by decide) rfl (fun ls hl => ?_)
        refine lv_goto (tgt := 5) hx hb dJ0_fill_17 (by decide) ?_
        obtain rfl := ob_s hf
        exact ih _ _ (h4a _ rfl) K4_0 H locs ls hP hS (lv_sub hl [1, 2, 0, 3] rfl)
  refine kL5 n4 w 0 hn4 (fun H locs ls hP hS hl => ?_) H locs ls hP hS (lv_sub hl [2, 3, 1, 0] rfl)
  replace hf : X_J0_fill_x5_20 b4 = some res := hf
  unfold X_J0_fill_x5_20 at hf
  obtain rfl := ob_s hf
  subst hQ
  exact xe_v hx hb hr hlocks hP hS dJ0_fill_20
abbrev rmX0_isNearer : Room := { frames := 203, cells := 0, slots := 0, locals := 8069 }
theorem cdX0_isNearer : yX0_isNearer.cls = RX0 ∧ yX0_isNearer.cls ≠ "java/lang/invoke/MethodHandle" ∧ yX0_isNearer.cls ≠ "java/lang/invoke/VarHandle" ∧ (parseMethodDescriptor yX0_isNearer.desc).map (fun d => d.parameters.length) = some 2 := by decide +kernel
set_option maxHeartbeats 4000000 in
set_option maxRecDepth 100000 in
theorem wkX0_isNearer (l : Launch) (D : va_G) (dA : Nat → ClassId) (E : Nat → Nat) (hE : wInj 136 E) (T : Tx) (J : State → Heap → Prop) (hJ : JP D dA E T J) (w : Mm) (a1 : Int32) (a2 : Int32) {res : Int32 × Mm} (hf : X_isNearer T w a1 a2 = some res) : Met l yX0_isNearer (ws_ yX0_isNearer cX0_isNearer 4 (some .boolean)) rmX0_isNearer (Pj D dA E J [.ref (E 0), .int a1, .int a2] w) (Qwz D clX shX 136 dA E res.1 res.2) 0 0 (AE 136 E) := by
  refine xj_head (own := RX0) (by decide) rfl (Nat.le_of_ble_eq_true rfl) ?_
  intro p e s m args below meth c ls Q hQ C hP hl
  obtain ⟨hx, hb, hr, hlocks, hml, hown, hts, hK, hJs⟩ := C
  replace hl : lv_has ls 4 [(0, .ref (E 0)), (1, .int a1), (2, .int a2)] := hl
  have hS : va_S (AE 136 E) s.heap s.heap [] := va_S.rf
  have hD : wD 136 E (AE 136 E) := wD.self hE
  unfold X_isNearer at hf
  obtain ⟨H, eH⟩ : ∃ H, H = s.heap := ⟨_, rfl⟩
  obtain ⟨locs, eL⟩ : ∃ locs : List Loc, locs = [] := ⟨_, rfl⟩
  rw [← eL] at hS ⊢
  rw [← eH] at hP
  have hS : va_S (AE 136 E) s.heap H locs := by rw [eH]; exact hS
  show W p l e rmX0_isNearer s m args below meth c s.heap locs 0 0 Q (F0 m 0 ls [])
  rw [← eH]
  refine lv_iload_n hx hb dX0_isNearer_0 rfl (lv_at hl 1 rfl) ?_
  refine lv_iload_n hx hb dX0_isNearer_1 rfl (lv_at hl 2 rfl) ?_
  have kj15 : ∀ (t1 : Int32) (w2 : Mm) (H : Heap) (locs : List Loc) (ls : Array Slot), X_isNearer_j15 t1 w2 a2 a1 = some res → va_P D clX (wl shX 136 dA E w2) H → va_S (AE 136 E) s.heap H locs → lv_has ls 4 [(0, .ref (E 0)), (1, .int a1), (2, .int a2)] → W p l e rmX0_isNearer s m args below meth c H locs 0 0 Q (F0 m 15 ls [.int t1]) := by
    intro t1 w2 H locs ls hf hP hS hl
    unfold X_isNearer_j15 at hf
    refine lv_istore_n (lv' := [(3, .int t1), (0, .ref (E 0)), (1, .int a1), (2, .int a2)]) hx hb dX0_isNearer_15 rfl hl (by decide) rfl (fun ls hl => ?_)
    refine lv_iload_n hx hb dX0_isNearer_16 rfl (lv_at hl 0 rfl) ?_
    refine lv_iconst (v := (-1)) hx hb dX0_isNearer_17 (by decide) ?_
    refine lv_icmp_eq (tgt := 55) hx hb dX0_isNearer_18 (by decide) (fun c3 => ?_) (fun c3 => ?_)
    · replace hf := ob_t hf c3
      refine lv_iconst (v := 0) hx hb dX0_isNearer_55 (by decide) ?_
      obtain rfl := ob_s hf
      subst hQ
      exact xe_z hx hb hr hlocks hP hS (Or.inl rfl) dX0_isNearer_56
    · replace hf := ob_f hf c3
      refine lv_aload_n hx hb dX0_isNearer_21 rfl (lv_at hl 1 rfl) ?_
      refine xr_get hx hb hts in_X0 hown hK hP 0 (by decide) rfl rfl 8 (by decide) (hts _ q260) (fun _ h => h) rfl (v := .ref (E 28)) rfl dX0_isNearer_22 ?_
      refine lv_iload_n hx hb dX0_isNearer_25 rfl (lv_at hl 3 rfl) ?_
      obtain ⟨h4, hf⟩ := ob_gd hf
      refine xr_iald hx hb hK hP 28 (by decide) rfl 0 rfl (j := a2.toNatClampNeg) h4 rfl dX0_isNearer_26 ?_
      refine lv_ldcw (v := 9999999) hx hb hown (hts _ q1229) dX0_isNearer_27 ?_
      refine lv_icmp_eq (tgt := 55) hx hb dX0_isNearer_30 (by decide) (fun c5 => ?_) (fun c5 => ?_)
      · replace hf := ob_t hf c5
        refine lv_iconst (v := 0) hx hb dX0_isNearer_55 (by decide) ?_
        obtain rfl := ob_s hf
        subst hQ
        exact xe_z hx hb hr hlocks hP hS (Or.inl rfl) dX0_isNearer_56
      · replace hf := ob_f hf c5
        refine lv_aload_n hx hb dX0_isNearer_33 rfl (lv_at hl 1 rfl) ?_
        refine xr_get hx hb hts in_X0 hown hK hP 0 (by decide) rfl rfl 8 (by decide) (hts _ q260) (fun _ h => h) rfl (v := .ref (E 28)) rfl dX0_isNearer_34 ?_
        refine lv_iload_n hx hb dX0_isNearer_37 rfl (lv_at hl 3 rfl) ?_
        obtain ⟨h6, hf⟩ := ob_gd hf
        refine xr_iald hx hb hK hP 28 (by decide) rfl 0 rfl (j := a2.toNatClampNeg) h6 rfl dX0_isNearer_38 ?_
        refine lv_bipush (v := 10) hx hb dX0_isNearer_39 (by decide) ?_
        refine lv_iload_n hx hb dX0_isNearer_41 rfl (lv_at hl 0 rfl) ?_
        refine lv_imul hx hb dX0_isNearer_42 ?_
        refine lv_iadd hx hb dX0_isNearer_43 ?_
        refine lv_iconst (v := 1) hx hb dX0_isNearer_44 (by decide) ?_
        refine lv_iadd hx hb dX0_isNearer_45 ?_
        refine lv_aload_n hx hb dX0_isNearer_46 rfl (lv_at hl 1 rfl) ?_
        refine xr_get hx hb hts in_X0 hown hK hP 0 (by decide) rfl rfl 8 (by decide) (hts _ q260) (fun _ h => h) rfl (v := .ref (E 28)) rfl dX0_isNearer_47 ?_
        refine lv_iload_n hx hb dX0_isNearer_50 rfl (lv_at hl 2 rfl) ?_
        obtain ⟨h7, hf⟩ := ob_gd hf
        refine xr_iald hx hb hK hP 28 (by decide) rfl 0 rfl (j := a1.toNatClampNeg) h7 rfl dX0_isNearer_51 ?_
        refine lv_icmp_lt (tgt := 57) hx hb dX0_isNearer_52 (by decide) (fun c8 => ?_) (fun c8 => ?_)
        · replace hf := ob_t hf c8
          refine lv_aload_n hx hb dX0_isNearer_57 rfl (lv_at hl 1 rfl) ?_
          refine xr_get hx hb hts in_X0 hown hK hP 0 (by decide) rfl rfl 8 (by decide) (hts _ q260) (fun _ h => h) rfl (v := .ref (E 28)) rfl dX0_isNearer_58 ?_
          refine lv_iload_n hx hb dX0_isNearer_61 rfl (lv_at hl 2 rfl) ?_
          refine lv_aload_n hx hb dX0_isNearer_62 rfl (lv_at hl 1 rfl) ?_
          refine xr_get hx hb hts in_X0 hown hK hP 0 (by decide) rfl rfl 8 (by decide) (hts _ q260) (fun _ h => h) rfl (v := .ref (E 28)) rfl dX0_isNearer_63 ?_
          refine lv_iload_n hx hb dX0_isNearer_66 rfl (lv_at hl 3 rfl) ?_
          obtain ⟨h9, hf⟩ := ob_gd hf
          refine xr_iald hx hb hK hP 28 (by decide) rfl 0 rfl (j := a2.toNatClampNeg) h9 rfl dX0_isNearer_67 ?_
          refine lv_bipush (v := 10) hx hb dX0_isNearer_68 (by decide) ?_
          refine lv_iload_n hx hb dX0_isNearer_70 rfl (lv_at hl 0 rfl) ?_
          refine lv_imul hx hb dX0_isNearer_71 ?_
          refine lv_iadd hx hb dX0_isNearer_72 ?_
          refine lv_iconst (v := 1) hx hb dX0_isNearer_73 (by decide) ?_
          refine lv_iadd hx hb dX0_isNearer_74 ?_
          obtain ⟨h10, hf⟩ := ob_gd hf
          obtain ⟨w11, ew11, hf⟩ := ob_bnd hf
          refine xr_iast hx hb hK hP hD hS 28 (by decide) rfl 0 rfl (j := a1.toNatClampNeg) (w' := w11) h10 rfl ew11 dX0_isNearer_75 (fun H locs hP hS => ?_)
          refine lv_iconst (v := 1) hx hb dX0_isNearer_76 (by decide) ?_
          obtain rfl := ob_s hf
          subst hQ
          exact xe_z hx hb hr hlocks hP hS (Or.inr rfl) dX0_isNearer_77
        · replace hf := ob_f hf c8
          refine lv_iconst (v := 0) hx hb dX0_isNearer_55 (by decide) ?_
          obtain rfl := ob_s hf
          subst hQ
          exact xe_z hx hb hr hlocks hP hS (Or.inl rfl) dX0_isNearer_56
  refine lv_icmp_ne (tgt := 9) hx hb dX0_isNearer_2 (by decide) (fun c12 => ?_) (fun c12 => ?_)
  · replace hf := ob_f hf c12
    refine lv_aload_n hx hb dX0_isNearer_9 rfl (lv_at hl 0 rfl) ?_
    refine lv_iload_n hx hb dX0_isNearer_10 rfl (lv_at hl 1 rfl) ?_
    refine lv_iload_n hx hb dX0_isNearer_11 rfl (lv_at hl 2 rfl) ?_
    obtain ⟨q14, g13, hf⟩ := ob_bind hf
    refine xc_i (xj_run (As := [.int a1, .int a2]) (rest := []) hJ hJs hS ⟨hx, hb, hml, hown, hts⟩ (k0 := 0) (wkX0_costOf l D dA E hE T J hJ w a1 a2 g13) (cwV 2 hts (lw_V q1201 q1203 qs44 q136 q1204) rfl rfl rfl cdX0_costOf ⟨Nat.le_of_ble_eq_true rfl, Nat.le_of_ble_eq_true rfl⟩) hK hP (by decide) rfl rfl rfl hl.1 rfl rfl (Nat.le_of_ble_eq_true rfl) dX0_isNearer_12 ⟨Nat.zero_le _, Nat.zero_le _⟩) hS hD.2 (fun H locs hP hS => ?_)
    exact kj15 q14.1 q14.2 H locs ls hf hP hS (lv_sub hl [0, 1, 2] rfl)
  · replace hf := ob_t hf c12
    refine lv_iconst (v := (-1)) hx hb dX0_isNearer_5 (by decide) ?_
    refine lv_goto (tgt := 15) hx hb dX0_isNearer_6 (by decide) ?_
    exact kj15 (-1) w H locs ls hf hP hS (lv_sub hl [0, 1, 2] rfl)
abbrev rmX0_laysFar : Room := { frames := 204, cells := 0, slots := 0, locals := 8092 }
theorem cdX0_laysFar : yX0_laysFar.cls = RX0 ∧ yX0_laysFar.cls ≠ "java/lang/invoke/MethodHandle" ∧ yX0_laysFar.cls ≠ "java/lang/invoke/VarHandle" ∧ (parseMethodDescriptor yX0_laysFar.desc).map (fun d => d.parameters.length) = some 1 := by decide +kernel
set_option maxHeartbeats 4000000 in
set_option maxRecDepth 100000 in
theorem wkX0_laysFar (l : Launch) (D : va_G) (dA : Nat → ClassId) (E : Nat → Nat) (hE : wInj 136 E) (T : Tx) (J : State → Heap → Prop) (hJ : JP D dA E T J) (w : Mm) (a1 : Int32) {res : Mm} (hf : X_laysFar T w a1 = some res) : Met l yX0_laysFar (ws_ yX0_laysFar cX0_laysFar 5 (none)) rmX0_laysFar (Pj D dA E J [.ref (E 0), .int a1] w) (Qwv D clX shX 136 dA E res) 0 0 (AE 136 E) := by
  refine xj_head (own := RX0) (by decide) rfl (Nat.le_of_ble_eq_true rfl) ?_
  intro p e s m args below meth c ls Q hQ C hP hl
  obtain ⟨hx, hb, hr, hlocks, hml, hown, hts, hK, hJs⟩ := C
  replace hl : lv_has ls 5 [(0, .ref (E 0)), (1, .int a1)] := hl
  have hS : va_S (AE 136 E) s.heap s.heap [] := va_S.rf
  have hD : wD 136 E (AE 136 E) := wD.self hE
  unfold X_laysFar at hf
  obtain ⟨H, eH⟩ : ∃ H, H = s.heap := ⟨_, rfl⟩
  obtain ⟨locs, eL⟩ : ∃ locs : List Loc, locs = [] := ⟨_, rfl⟩
  rw [← eL] at hS ⊢
  rw [← eH] at hP
  have hS : va_S (AE 136 E) s.heap H locs := by rw [eH]; exact hS
  show W p l e rmX0_laysFar s m args below meth c s.heap locs 0 0 Q (F0 m 0 ls [])
  rw [← eH]
  refine lv_aload_n hx hb dX0_laysFar_0 rfl (lv_at hl 0 rfl) ?_
  refine xr_get hx hb hts in_X0 hown hK hP 0 (by decide) rfl rfl 8 (by decide) (hts _ q260) (fun _ h => h) rfl (v := .ref (E 28)) rfl dX0_laysFar_1 ?_
  refine lv_ldcw (v := 9999999) hx hb hown (hts _ q1229) dX0_laysFar_4 ?_
  obtain ⟨q2, g1, hf⟩ := ob_bind hf
  refine xc_v (xj_runS (As := [.ref (E 28), .int 9999999]) (rest := []) hJ hJs hS ⟨hx, hb, hml, hown, hts⟩ (wkJ0_fill l D dA E hE T J hJ w 28 6 9999999 g1 (by decide) rfl) (va_cwS 2 hts (lw_S q1230 q190 q138 q191) rfl rfl rfl cdJ0_fill.2 ⟨Nat.le_of_ble_eq_true rfl, Nat.le_of_ble_eq_true rfl⟩) hK hP hl.1 rfl rfl (Nat.le_of_ble_eq_true rfl) dX0_laysFar_7 ⟨Nat.zero_le _, Nat.zero_le _⟩) hS hD.2 (fun H locs hP hS => ?_)
  refine lv_aload_n hx hb dX0_laysFar_10 rfl (lv_at hl 0 rfl) ?_
  refine xr_get hx hb hts in_X0 hown hK hP 0 (by decide) rfl rfl 8 (by decide) (hts _ q260) (fun _ h => h) rfl (v := .ref (E 28)) rfl dX0_laysFar_11 ?_
  refine lv_iload_n hx hb dX0_laysFar_14 rfl (lv_at hl 1 rfl) ?_
  refine lv_iconst (v := 0) hx hb dX0_laysFar_15 (by decide) ?_
  obtain ⟨h3, hf⟩ := ob_gd hf
  obtain ⟨w4, ew4, hf⟩ := ob_bnd hf
  refine xr_iast hx hb hK hP hD hS 28 (by decide) rfl 0 rfl (j := a1.toNatClampNeg) (w' := w4) h3 rfl ew4 dX0_laysFar_16 (fun H locs hP hS => ?_)
  refine lv_iconst (v := 1) hx hb dX0_laysFar_17 (by decide) ?_
  refine lv_istore_n (lv' := [(2, .int 1), (0, .ref (E 0)), (1, .int a1)]) hx hb dX0_laysFar_18 rfl hl (by decide) rfl (fun ls hl => ?_)
  obtain ⟨b7, hb7, hf⟩ := ob_bind hf
  obtain ⟨n7, hn7⟩ := lp_some hb7
  have kL19 : ∀ (n : Nat) (w5 : Mm) (v2_6 : Int32), lpF (fun (q7 : Mm × Int32) => X_laysFar_b19 T q7.1 q7.2) n (w5, v2_6) = some b7 → (∀ (H : Heap) (locs : List Loc) (ls : Array Slot), va_P D clX (wl shX 136 dA E b7) H → va_S (AE 136 E) s.heap H locs → lv_has ls 5 [] → W p l e rmX0_laysFar s m args below meth c H locs 0 0 Q (F0 m 68 ls [])) → ∀ (H : Heap) (locs : List Loc) (ls : Array Slot), va_P D clX (wl shX 136 dA E w5) H → va_S (AE 136 E) s.heap H locs → lv_has ls 5 [(0, .ref (E 0)), (2, .int v2_6)] → W p l e rmX0_laysFar s m args below meth c H locs 0 0 Q (F0 m 19 ls []) := by
    intro n
    induction n with
    | zero =>
      intro w5 v2_6 hq9
      cases hq9
    | succ n ih =>
      intro w5 v2_6 hq9 K7_0 H locs ls hP hS hl
      obtain ⟨r7, hf, h7a, h7b⟩ := lpF_step hq9
      replace hf : X_laysFar_b19 T w5 v2_6 = some r7 := hf
      unfold X_laysFar_b19 at hf
      refine lv_iload_n hx hb dX0_laysFar_19 rfl (lv_at hl 1 rfl) ?_
      refine lv_if_eq (tgt := 68) hx hb dX0_laysFar_20 (by decide) (fun c8 => ?_) (fun c8 => ?_)
      · replace hf := ob_t hf c8
        obtain rfl := ob_s hf
        obtain rfl := h7b _ rfl
        exact K7_0 H locs ls hP hS (lv_sub hl [] rfl)
      · replace hf := ob_f hf c8
        refine lv_iconst (v := 0) hx hb dX0_laysFar_23 (by decide) ?_
        refine lv_istore_n (lv' := [(2, .int 0), (0, .ref (E 0))]) hx hb dX0_laysFar_24 rfl hl (by decide) rfl (fun ls hl => ?_)
        refine lv_iconst (v := 0) hx hb dX0_laysFar_25 (by decide) ?_
        refine lv_istore_n (lv' := [(3, .int 0), (2, .int 0), (0, .ref (E 0))]) hx hb dX0_laysFar_26 rfl hl (by decide) rfl (fun ls hl => ?_)
        obtain ⟨b12, hb12, hf⟩ := ob_bind hf
        obtain ⟨n12, hn12⟩ := lp_some hb12
        have kL27 : ∀ (n : Nat) (w9 : Mm) (v2_10 : Int32) (v3_11 : Int32), lpF (fun (q12 : Mm × Int32 × Int32) => X_laysFar_b27 T q12.1 q12.2.1 q12.2.2) n (w9, v2_10, v3_11) = some b12 → (∀ (H : Heap) (locs : List Loc) (ls : Array Slot), va_P D clX (wl shX 136 dA E b12.1) H → va_S (AE 136 E) s.heap H locs → lv_has ls 5 [(0, .ref (E 0)), (2, .int b12.2)] → W p l e rmX0_laysFar s m args below meth c H locs 0 0 Q (F0 m 65 ls [])) → ∀ (H : Heap) (locs : List Loc) (ls : Array Slot), va_P D clX (wl shX 136 dA E w9) H → va_S (AE 136 E) s.heap H locs → lv_has ls 5 [(0, .ref (E 0)), (2, .int v2_10), (3, .int v3_11)] → W p l e rmX0_laysFar s m args below meth c H locs 0 0 Q (F0 m 27 ls []) := by
          intro n
          induction n with
          | zero =>
            intro w9 v2_10 v3_11 hq9
            cases hq9
          | succ n ih =>
            intro w9 v2_10 v3_11 hq9 K12_0 H locs ls hP hS hl
            obtain ⟨r12, hf, h12a, h12b⟩ := lpF_step hq9
            replace hf : X_laysFar_b27 T w9 v2_10 v3_11 = some r12 := hf
            unfold X_laysFar_b27 at hf
            refine lv_iload_n hx hb dX0_laysFar_27 rfl (lv_at hl 2 rfl) ?_
            refine lv_bipush (v := 6) hx hb dX0_laysFar_28 (by decide) ?_
            refine lv_icmp_ge (tgt := 65) hx hb dX0_laysFar_30 (by decide) (fun c13 => ?_) (fun c13 => ?_)
            · replace hf := ob_t hf c13
              obtain rfl := ob_s hf
              obtain rfl := h12b _ rfl
              exact K12_0 H locs ls hP hS (lv_sub hl [0, 1] rfl)
            · replace hf := ob_f hf c13
              refine lv_iconst (v := 0) hx hb dX0_laysFar_33 (by decide) ?_
              refine lv_istore (lv' := [(4, .int 0), (0, .ref (E 0)), (2, .int v2_10), (3, .int v3_11)]) hx hb dX0_laysFar_34 hl (by decide) rfl (fun ls hl => ?_)
              obtain ⟨b17, hb17, hf⟩ := ob_bind hf
              obtain ⟨n17, hn17⟩ := lp_some hb17
              have kL36 : ∀ (n : Nat) (w14 : Mm) (v2_15 : Int32) (v4_16 : Int32), lpF (fun (q17 : Mm × Int32 × Int32) => X_laysFar_b36 T v3_11 q17.1 q17.2.1 q17.2.2) n (w14, v2_15, v4_16) = some b17 → (∀ (H : Heap) (locs : List Loc) (ls : Array Slot), va_P D clX (wl shX 136 dA E b17.1) H → va_S (AE 136 E) s.heap H locs → lv_has ls 5 [(0, .ref (E 0)), (2, .int b17.2), (3, .int v3_11)] → W p l e rmX0_laysFar s m args below meth c H locs 0 0 Q (F0 m 59 ls [])) → ∀ (H : Heap) (locs : List Loc) (ls : Array Slot), va_P D clX (wl shX 136 dA E w14) H → va_S (AE 136 E) s.heap H locs → lv_has ls 5 [(0, .ref (E 0)), (2, .int v2_15), (3, .int v3_11), (4, .int v4_16)] → W p l e rmX0_laysFar s m args below meth c H locs 0 0 Q (F0 m 36 ls []) := by
                intro n
                induction n with
                | zero =>
                  intro w14 v2_15 v4_16 hq9
                  cases hq9
                | succ n ih =>
                  intro w14 v2_15 v4_16 hq9 K17_0 H locs ls hP hS hl
                  obtain ⟨r17, hf, h17a, h17b⟩ := lpF_step hq9
                  replace hf : X_laysFar_b36 T v3_11 w14 v2_15 v4_16 = some r17 := hf
                  unfold X_laysFar_b36 at hf
                  refine lv_iload hx hb dX0_laysFar_36 (lv_at hl 3 rfl) ?_
                  refine lv_bipush (v := 6) hx hb dX0_laysFar_38 (by decide) ?_
                  refine lv_icmp_ge (tgt := 59) hx hb dX0_laysFar_40 (by decide) (fun c18 => ?_) (fun c18 => ?_)
                  · replace hf := ob_t hf c18
                    obtain rfl := ob_s hf
                    obtain rfl := h17b _ rfl
                    exact K17_0 H locs ls hP hS (lv_sub hl [0, 1, 2] rfl)
                  · replace hf := ob_f hf c18
                    refine lv_iload_n hx hb dX0_laysFar_43 rfl (lv_at hl 1 rfl) ?_
                    refine lv_aload_n hx hb dX0_laysFar_44 rfl (lv_at hl 0 rfl) ?_
                    refine lv_iload_n hx hb dX0_laysFar_45 rfl (lv_at hl 2 rfl) ?_
                    refine lv_iload hx hb dX0_laysFar_46 (lv_at hl 3 rfl) ?_
                    obtain ⟨q20, g19, hf⟩ := ob_bind hf
                    refine xc_z (xj_run (As := [.int v3_11, .int v4_16]) (rest := [.int v2_15]) hJ hJs hS ⟨hx, hb, hml, hown, hts⟩ (k0 := 0) (wkX0_isNearer l D dA E hE T J hJ w14 v3_11 v4_16 g19) (cwV 2 hts (lw_V q1231 q1233 qs47 q136 q1234) rfl rfl rfl cdX0_isNearer ⟨Nat.le_of_ble_eq_true rfl, Nat.le_of_ble_eq_true rfl⟩) hK hP (by decide) rfl rfl rfl hl.1 rfl rfl (Nat.le_of_ble_eq_true rfl) dX0_laysFar_48 ⟨Nat.zero_le _, Nat.zero_le _⟩) hS hD.2 (fun H locs zq20 hP hS => ?_)
                    refine lv_ior hx hb dX0_laysFar_51 ?_
                    obtain ⟨v2_21, ev2_21, hf⟩ := ob_bnd hf
                    refine xn_i ev2_21 ?_
                    refine lv_istore_n (lv' := [(2, .int v2_21), (0, .ref (E 0)), (3, .int v3_11), (4, .int v4_16)]) hx hb dX0_laysFar_52 rfl hl (by decide) rfl (fun ls hl => ?_)
                    obtain ⟨v4_22, ev4_22, hf⟩ := ob_bnd hf
                    refine lv_iinc (v := v4_22) (lv' := [(4, .int v4_22), (2, .int v2_21), (0, .ref (E 0)), (3, .int v3_11)]) hx hb dX0_laysFar_53 hl (k := 3) rfl (by rw [ev4_22]; rfl) (by decide) rfl (fun ls hl => ?_)
                    refine lv_goto (tgt := 36) hx hb dX0_laysFar_56 (by decide) ?_
                    obtain rfl := ob_s hf
                    exact ih _ _ _ (h17a _ rfl) K17_0 H locs ls hP hS (lv_sub hl [2, 1, 3, 0] rfl)
              refine kL36 n17 w9 v2_10 0 hn17 (fun H locs ls hP hS hl => ?_) H locs ls hP hS (lv_sub hl [1, 2, 3, 0] rfl)
              replace hf : X_laysFar_x36_59 v3_11 b17 = some r12 := hf
              unfold X_laysFar_x36_59 at hf
              obtain ⟨v3_23, ev3_23, hf⟩ := ob_bnd hf
              refine lv_iinc (v := v3_23) (lv' := [(3, .int v3_23), (0, .ref (E 0)), (2, .int b17.2)]) hx hb dX0_laysFar_59 hl (k := 2) rfl (by rw [ev3_23]; rfl) (by decide) rfl (fun ls hl => ?_)
              refine lv_goto (tgt := 27) hx hb dX0_laysFar_62 (by decide) ?_
              obtain rfl := ob_s hf
              exact ih _ _ _ (h12a _ rfl) K12_0 H locs ls hP hS (lv_sub hl [1, 2, 0] rfl)
        refine kL27 n12 w5 0 0 hn12 (fun H locs ls hP hS hl => ?_) H locs ls hP hS (lv_sub hl [2, 1, 0] rfl)
        replace hf : X_laysFar_x27_65 b12 = some r7 := hf
        unfold X_laysFar_x27_65 at hf
        refine lv_goto (tgt := 19) hx hb dX0_laysFar_65 (by decide) ?_
        obtain rfl := ob_s hf
        exact ih _ _ (h7a _ rfl) K7_0 H locs ls hP hS (lv_sub hl [0, 1] rfl)
  refine kL19 n7 w4 1 hn7 (fun H locs ls hP hS hl => ?_) H locs ls hP hS (lv_sub hl [1, 0] rfl)
  replace hf : X_laysFar_x19_68 b7 = some res := hf
  unfold X_laysFar_x19_68 at hf
  obtain rfl := ob_s hf
  subst hQ
  exact xe_v hx hb hr hlocks hP hS dX0_laysFar_68
abbrev rmX0_word : Room := { frames := 205, cells := 0, slots := 0, locals := 8116 }
theorem cdX0_word : yX0_word.cls = RX0 ∧ yX0_word.cls ≠ "java/lang/invoke/MethodHandle" ∧ yX0_word.cls ≠ "java/lang/invoke/VarHandle" ∧ (parseMethodDescriptor yX0_word.desc).map (fun d => d.parameters.length) = some 2 := by decide +kernel
set_option maxHeartbeats 4000000 in
set_option maxRecDepth 100000 in
theorem wkX0_word (l : Launch) (D : va_G) (dA : Nat → ClassId) (E : Nat → Nat) (hE : wInj 136 E) (T : Tx) (J : State → Heap → Prop) (hJ : JP D dA E T J) (w : Mm) (a1 : Int32) (a2 : Int32) {res : Int32 × Mm} (hf : X_word T w a1 a2 = some res) : Met l yX0_word (ws_ yX0_word cX0_word 3 (some .int)) rmX0_word (Pj D dA E J [.ref (E 0), .int a1, .int a2] w) (Qwi D clX shX 136 dA E res.1 res.2) 0 0 (AE 136 E) := by
  refine xj_head (own := RX0) (by decide) rfl (Nat.le_of_ble_eq_true rfl) ?_
  intro p e s m args below meth c ls Q hQ C hP hl
  obtain ⟨hx, hb, hr, hlocks, hml, hown, hts, hK, hJs⟩ := C
  replace hl : lv_has ls 3 [(0, .ref (E 0)), (1, .int a1), (2, .int a2)] := hl
  have hS : va_S (AE 136 E) s.heap s.heap [] := va_S.rf
  have hD : wD 136 E (AE 136 E) := wD.self hE
  unfold X_word at hf
  obtain ⟨H, eH⟩ : ∃ H, H = s.heap := ⟨_, rfl⟩
  obtain ⟨locs, eL⟩ : ∃ locs : List Loc, locs = [] := ⟨_, rfl⟩
  rw [← eL] at hS ⊢
  rw [← eH] at hP
  have hS : va_S (AE 136 E) s.heap H locs := by rw [eH]; exact hS
  show W p l e rmX0_word s m args below meth c s.heap locs 0 0 Q (F0 m 0 ls [])
  rw [← eH]
  refine lv_iload_n hx hb dX0_word_0 rfl (lv_at hl 1 rfl) ?_
  obtain ⟨q2, g1, hf⟩ := ob_bind hf
  refine xc_z (xj_runS (As := [.int a1]) (rest := []) hJ hJs hS ⟨hx, hb, hml, hown, hts⟩ (wkX0_isPerson l D dA E hE T J hJ w a1 g1) (va_cwS 1 hts (lw_S q316 q317 q136 q318) rfl rfl rfl cdX0_isPerson.2 ⟨Nat.le_of_ble_eq_true rfl, Nat.le_of_ble_eq_true rfl⟩) hK hP hl.1 rfl rfl (Nat.le_of_ble_eq_true rfl) dX0_word_1 ⟨Nat.zero_le _, Nat.zero_le _⟩) hS hD.2 (fun H locs zq2 hP hS => ?_)
  refine lv_if_eq (tgt := 14) hx hb dX0_word_4 (by decide) (fun c3 => ?_) (fun c3 => ?_)
  · replace hf := ob_t hf c3
    refine lv_iconst (v := (-1)) hx hb dX0_word_14 (by decide) ?_
    obtain rfl := ob_s hf
    subst hQ
    exact xe_i hx hb hr hlocks hP hS dX0_word_15
  · replace hf := ob_f hf c3
    refine lv_iload_n hx hb dX0_word_7 rfl (lv_at hl 2 rfl) ?_
    obtain ⟨q5, g4, hf⟩ := ob_bind hf
    refine xc_z (xj_runS (As := [.int a2]) (rest := []) hJ hJs hS ⟨hx, hb, hml, hown, hts⟩ (wkX0_isPerson l D dA E hE T J hJ w a2 g4) (va_cwS 1 hts (lw_S q316 q317 q136 q318) rfl rfl rfl cdX0_isPerson.2 ⟨Nat.le_of_ble_eq_true rfl, Nat.le_of_ble_eq_true rfl⟩) hK hP hl.1 rfl rfl (Nat.le_of_ble_eq_true rfl) dX0_word_8 ⟨Nat.zero_le _, Nat.zero_le _⟩) hS hD.2 (fun H locs zq5 hP hS => ?_)
    refine lv_if_ne (tgt := 16) hx hb dX0_word_11 (by decide) (fun c6 => ?_) (fun c6 => ?_)
    · replace hf := ob_f hf c6
      refine lv_aload_n hx hb dX0_word_16 rfl (lv_at hl 0 rfl) ?_
      refine lv_iload_n hx hb dX0_word_17 rfl (lv_at hl 2 rfl) ?_
      obtain ⟨q8, g7, hf⟩ := ob_bind hf
      refine xc_v (xj_run (As := [.int a2]) (rest := []) hJ hJs hS ⟨hx, hb, hml, hown, hts⟩ (k0 := 0) (wkX0_laysFar l D dA E hE T J hJ w a2 g7) (cwV 1 hts (lw_V q1225 q1227 qs46 q136 q1228) rfl rfl rfl cdX0_laysFar ⟨Nat.le_of_ble_eq_true rfl, Nat.le_of_ble_eq_true rfl⟩) hK hP (by decide) rfl rfl rfl hl.1 rfl rfl (Nat.le_of_ble_eq_true rfl) dX0_word_18 ⟨Nat.zero_le _, Nat.zero_le _⟩) hS hD.2 (fun H locs hP hS => ?_)
      refine lv_aload_n hx hb dX0_word_21 rfl (lv_at hl 0 rfl) ?_
      refine xr_get hx hb hts in_X0 hown hK hP 0 (by decide) rfl rfl 8 (by decide) (hts _ q260) (fun _ h => h) rfl (v := .ref (E 28)) rfl dX0_word_22 ?_
      refine lv_iload_n hx hb dX0_word_25 rfl (lv_at hl 1 rfl) ?_
      obtain ⟨h9, hf⟩ := ob_gd hf
      refine xr_iald hx hb hK hP 28 (by decide) rfl 0 rfl (j := a1.toNatClampNeg) h9 rfl dX0_word_26 ?_
      refine lv_ldcw (v := 9999999) hx hb hown (hts _ q1229) dX0_word_27 ?_
      refine lv_icmp_ne (tgt := 37) hx hb dX0_word_30 (by decide) (fun c10 => ?_) (fun c10 => ?_)
      · replace hf := ob_f hf c10
        refine lv_aload_n hx hb dX0_word_37 rfl (lv_at hl 0 rfl) ?_
        refine xr_get hx hb hts in_X0 hown hK hP 0 (by decide) rfl rfl 8 (by decide) (hts _ q260) (fun _ h => h) rfl (v := .ref (E 28)) rfl dX0_word_38 ?_
        refine lv_iload_n hx hb dX0_word_41 rfl (lv_at hl 1 rfl) ?_
        obtain ⟨h11, hf⟩ := ob_gd hf
        refine xr_iald hx hb hK hP 28 (by decide) rfl 0 rfl (j := a1.toNatClampNeg) h11 rfl dX0_word_42 ?_
        refine lv_bipush (v := 10) hx hb dX0_word_43 (by decide) ?_
        refine lv_idiv hx hb dX0_word_45 (by decide) ?_
        obtain rfl := ob_s hf
        subst hQ
        exact xe_i hx hb hr hlocks hP hS dX0_word_46
      · replace hf := ob_t hf c10
        refine lv_iconst (v := (-1)) hx hb dX0_word_33 (by decide) ?_
        refine lv_goto (tgt := 46) hx hb dX0_word_34 (by decide) ?_
        obtain rfl := ob_s hf
        subst hQ
        exact xe_i hx hb hr hlocks hP hS dX0_word_46
    · replace hf := ob_t hf c6
      refine lv_iconst (v := (-1)) hx hb dX0_word_14 (by decide) ?_
      obtain rfl := ob_s hf
      subst hQ
      exact xe_i hx hb hr hlocks hP hS dX0_word_15
abbrev rmX0_way : Room := { frames := 205, cells := 0, slots := 0, locals := 8116 }
theorem cdX0_way : yX0_way.cls = RX0 ∧ yX0_way.cls ≠ "java/lang/invoke/MethodHandle" ∧ yX0_way.cls ≠ "java/lang/invoke/VarHandle" ∧ (parseMethodDescriptor yX0_way.desc).map (fun d => d.parameters.length) = some 3 := by decide +kernel
set_option maxHeartbeats 4000000 in
set_option maxRecDepth 100000 in
theorem wkX0_way (l : Launch) (D : va_G) (dA : Nat → ClassId) (E : Nat → Nat) (hE : wInj 136 E) (T : Tx) (J : State → Heap → Prop) (hJ : JP D dA E T J) (w : Mm) (a1 : Int32) (a2 : Int32) (a3 : Int32) {res : Int32 × Mm} (hf : X_way T w a1 a2 a3 = some res) : Met l yX0_way (ws_ yX0_way cX0_way 7 (some .int)) rmX0_way (Pj D dA E J [.ref (E 0), .int a1, .int a2, .int a3] w) (Qwi D clX shX 136 dA E res.1 res.2) 0 0 (AE 136 E) := by
  refine xj_head (own := RX0) (by decide) rfl (Nat.le_of_ble_eq_true rfl) ?_
  intro p e s m args below meth c ls Q hQ C hP hl
  obtain ⟨hx, hb, hr, hlocks, hml, hown, hts, hK, hJs⟩ := C
  replace hl : lv_has ls 7 [(0, .ref (E 0)), (1, .int a1), (2, .int a2), (3, .int a3)] := hl
  have hS : va_S (AE 136 E) s.heap s.heap [] := va_S.rf
  have hD : wD 136 E (AE 136 E) := wD.self hE
  unfold X_way at hf
  obtain ⟨H, eH⟩ : ∃ H, H = s.heap := ⟨_, rfl⟩
  obtain ⟨locs, eL⟩ : ∃ locs : List Loc, locs = [] := ⟨_, rfl⟩
  rw [← eL] at hS ⊢
  rw [← eH] at hP
  have hS : va_S (AE 136 E) s.heap H locs := by rw [eH]; exact hS
  show W p l e rmX0_way s m args below meth c s.heap locs 0 0 Q (F0 m 0 ls [])
  rw [← eH]
  refine lv_iload_n hx hb dX0_way_0 rfl (lv_at hl 1 rfl) ?_
  obtain ⟨q2, g1, hf⟩ := ob_bind hf
  refine xc_z (xj_runS (As := [.int a1]) (rest := []) hJ hJs hS ⟨hx, hb, hml, hown, hts⟩ (wkX0_isPerson l D dA E hE T J hJ w a1 g1) (va_cwS 1 hts (lw_S q316 q317 q136 q318) rfl rfl rfl cdX0_isPerson.2 ⟨Nat.le_of_ble_eq_true rfl, Nat.le_of_ble_eq_true rfl⟩) hK hP hl.1 rfl rfl (Nat.le_of_ble_eq_true rfl) dX0_way_1 ⟨Nat.zero_le _, Nat.zero_le _⟩) hS hD.2 (fun H locs zq2 hP hS => ?_)
  refine lv_if_eq (tgt := 14) hx hb dX0_way_4 (by decide) (fun c3 => ?_) (fun c3 => ?_)
  · replace hf := ob_t hf c3
    refine lv_bipush (v := (-2)) hx hb dX0_way_14 (by decide) ?_
    obtain rfl := ob_s hf
    subst hQ
    exact xe_i hx hb hr hlocks hP hS dX0_way_16
  · replace hf := ob_f hf c3
    refine lv_iload_n hx hb dX0_way_7 rfl (lv_at hl 2 rfl) ?_
    obtain ⟨q5, g4, hf⟩ := ob_bind hf
    refine xc_z (xj_runS (As := [.int a2]) (rest := []) hJ hJs hS ⟨hx, hb, hml, hown, hts⟩ (wkX0_isPerson l D dA E hE T J hJ w a2 g4) (va_cwS 1 hts (lw_S q316 q317 q136 q318) rfl rfl rfl cdX0_isPerson.2 ⟨Nat.le_of_ble_eq_true rfl, Nat.le_of_ble_eq_true rfl⟩) hK hP hl.1 rfl rfl (Nat.le_of_ble_eq_true rfl) dX0_way_8 ⟨Nat.zero_le _, Nat.zero_le _⟩) hS hD.2 (fun H locs zq5 hP hS => ?_)
    refine lv_if_ne (tgt := 17) hx hb dX0_way_11 (by decide) (fun c6 => ?_) (fun c6 => ?_)
    · replace hf := ob_f hf c6
      refine lv_aload_n hx hb dX0_way_17 rfl (lv_at hl 0 rfl) ?_
      refine lv_iload_n hx hb dX0_way_18 rfl (lv_at hl 2 rfl) ?_
      obtain ⟨q8, g7, hf⟩ := ob_bind hf
      refine xc_v (xj_run (As := [.int a2]) (rest := []) hJ hJs hS ⟨hx, hb, hml, hown, hts⟩ (k0 := 0) (wkX0_laysFar l D dA E hE T J hJ w a2 g7) (cwV 1 hts (lw_V q1225 q1227 qs46 q136 q1228) rfl rfl rfl cdX0_laysFar ⟨Nat.le_of_ble_eq_true rfl, Nat.le_of_ble_eq_true rfl⟩) hK hP (by decide) rfl rfl rfl hl.1 rfl rfl (Nat.le_of_ble_eq_true rfl) dX0_way_19 ⟨Nat.zero_le _, Nat.zero_le _⟩) hS hD.2 (fun H locs hP hS => ?_)
      refine lv_aload_n hx hb dX0_way_22 rfl (lv_at hl 0 rfl) ?_
      refine xr_get hx hb hts in_X0 hown hK hP 0 (by decide) rfl rfl 8 (by decide) (hts _ q260) (fun _ h => h) rfl (v := .ref (E 28)) rfl dX0_way_23 ?_
      refine lv_iload_n hx hb dX0_way_26 rfl (lv_at hl 1 rfl) ?_
      obtain ⟨h9, hf⟩ := ob_gd hf
      refine xr_iald hx hb hK hP 28 (by decide) rfl 0 rfl (j := a1.toNatClampNeg) h9 rfl dX0_way_27 ?_
      refine lv_ldcw (v := 9999999) hx hb hown (hts _ q1229) dX0_way_28 ?_
      refine lv_icmp_eq (tgt := 51) hx hb dX0_way_31 (by decide) (fun c10 => ?_) (fun c10 => ?_)
      · replace hf := ob_t hf c10
        refine lv_bipush (v := (-2)) hx hb dX0_way_51 (by decide) ?_
        obtain rfl := ob_s hf
        subst hQ
        exact xe_i hx hb hr hlocks hP hS dX0_way_53
      · replace hf := ob_f hf c10
        refine lv_iload_n hx hb dX0_way_34 rfl (lv_at hl 3 rfl) ?_
        refine lv_iconst (v := (-1)) hx hb dX0_way_35 (by decide) ?_
        refine lv_aload_n hx hb dX0_way_36 rfl (lv_at hl 0 rfl) ?_
        refine xr_get hx hb hts in_X0 hown hK hP 0 (by decide) rfl rfl 8 (by decide) (hts _ q260) (fun _ h => h) rfl (v := .ref (E 28)) rfl dX0_way_37 ?_
        refine lv_iload_n hx hb dX0_way_40 rfl (lv_at hl 1 rfl) ?_
        obtain ⟨h11, hf⟩ := ob_gd hf
        refine xr_iald hx hb hK hP 28 (by decide) rfl 0 rfl (j := a1.toNatClampNeg) h11 rfl dX0_way_41 ?_
        refine lv_bipush (v := 10) hx hb dX0_way_42 (by decide) ?_
        refine xr_irem hx hb dX0_way_44 (by decide) ?_
        obtain ⟨q13, g12, hf⟩ := ob_bind hf
        refine xc_z (xj_runS (As := [.int a3, .int (-1), .int (irm (q8.1 28 a1.toNatClampNeg) 10)]) (rest := []) hJ hJs hS ⟨hx, hb, hml, hown, hts⟩ (wkX0_in l D dA E hE T J hJ q8 a3 (-1) (irm (q8.1 28 a1.toNatClampNeg) 10) g12) (va_cwS 3 hts (lw_S q319 q320 q136 q321) rfl rfl rfl cdX0_in.2 ⟨Nat.le_of_ble_eq_true rfl, Nat.le_of_ble_eq_true rfl⟩) hK hP hl.1 rfl rfl (Nat.le_of_ble_eq_true rfl) dX0_way_45 ⟨Nat.zero_le _, Nat.zero_le _⟩) hS hD.2 (fun H locs zq13 hP hS => ?_)
        refine lv_if_ne (tgt := 54) hx hb dX0_way_48 (by decide) (fun c14 => ?_) (fun c14 => ?_)
        · replace hf := ob_f hf c14
          refine lv_iload_n hx hb dX0_way_54 rfl (lv_at hl 1 rfl) ?_
          refine lv_istore (lv' := [(4, .int a1), (0, .ref (E 0)), (1, .int a1), (2, .int a2), (3, .int a3)]) hx hb dX0_way_55 hl (by decide) rfl (fun ls hl => ?_)
          refine lv_iconst (v := 0) hx hb dX0_way_57 (by decide) ?_
          refine lv_istore (lv' := [(5, .int 0), (4, .int a1), (0, .ref (E 0)), (1, .int a1), (2, .int a2), (3, .int a3)]) hx hb dX0_way_58 hl (by decide) rfl (fun ls hl => ?_)
          obtain ⟨b18, hb18, hf⟩ := ob_bind hf
          obtain ⟨n18, hn18⟩ := lp_some hb18
          have kL60 : ∀ (n : Nat) (w15 : Mm) (v4_16 : Int32) (v5_17 : Int32), lpF (fun (q18 : Mm × Int32 × Int32) => X_way_b60 a3 T q18.1 q18.2.1 q18.2.2) n (w15, v4_16, v5_17) = some b18 → (∀ (H : Heap) (locs : List Loc) (ls : Array Slot), va_P D clX (wl shX 136 dA E b18.1) H → va_S (AE 136 E) s.heap H locs → lv_has ls 7 [(0, .ref (E 0)), (1, .int a1), (3, .int a3), (4, .int b18.2)] → W p l e rmX0_way s m args below meth c H locs 0 0 Q (F0 m 135 ls [])) → ∀ (H : Heap) (locs : List Loc) (ls : Array Slot), va_P D clX (wl shX 136 dA E w15) H → va_S (AE 136 E) s.heap H locs → lv_has ls 7 [(0, .ref (E 0)), (1, .int a1), (3, .int a3), (4, .int v4_16), (5, .int v5_17)] → W p l e rmX0_way s m args below meth c H locs 0 0 Q (F0 m 60 ls []) := by
            intro n
            induction n with
            | zero =>
              intro w15 v4_16 v5_17 hq9
              cases hq9
            | succ n ih =>
              intro w15 v4_16 v5_17 hq9 K18_0 H locs ls hP hS hl
              obtain ⟨r18, hf, h18a, h18b⟩ := lpF_step hq9
              replace hf : X_way_b60 a3 T w15 v4_16 v5_17 = some r18 := hf
              unfold X_way_b60 at hf
              refine lv_iload hx hb dX0_way_60 (lv_at hl 4 rfl) ?_
              refine lv_iload_n hx hb dX0_way_62 rfl (lv_at hl 2 rfl) ?_
              refine lv_icmp_ge (tgt := 135) hx hb dX0_way_63 (by decide) (fun c19 => ?_) (fun c19 => ?_)
              · replace hf := ob_t hf c19
                obtain rfl := ob_s hf
                obtain rfl := h18b _ rfl
                exact K18_0 H locs ls hP hS (lv_sub hl [0, 1, 2, 3] rfl)
              · replace hf := ob_f hf c19
                refine lv_iconst (v := 0) hx hb dX0_way_66 (by decide) ?_
                refine lv_istore (lv' := [(6, .int 0), (0, .ref (E 0)), (1, .int a1), (3, .int a3), (4, .int v4_16), (5, .int v5_17)]) hx hb dX0_way_67 hl (by decide) rfl (fun ls hl => ?_)
                obtain ⟨b22, hb22, hf⟩ := ob_bind hf
                obtain ⟨n22, hn22⟩ := lp_some hb22
                have kL69 : ∀ (n : Nat) (w20 : Mm) (v6_21 : Int32), lpF (fun (q22 : Mm × Int32) => X_way_b69 v4_16 T q22.1 q22.2) n (w20, v6_21) = some b22 → (∀ (H : Heap) (locs : List Loc) (ls : Array Slot), va_P D clX (wl shX 136 dA E b22.1) H → va_S (AE 136 E) s.heap H locs → lv_has ls 7 [(0, .ref (E 0)), (1, .int a1), (3, .int a3), (5, .int v5_17), (6, .int b22.2)] → W p l e rmX0_way s m args below meth c H locs 0 0 Q (F0 m 125 ls [])) → ∀ (H : Heap) (locs : List Loc) (ls : Array Slot), va_P D clX (wl shX 136 dA E w20) H → va_S (AE 136 E) s.heap H locs → lv_has ls 7 [(0, .ref (E 0)), (1, .int a1), (3, .int a3), (4, .int v4_16), (5, .int v5_17), (6, .int v6_21)] → W p l e rmX0_way s m args below meth c H locs 0 0 Q (F0 m 69 ls []) := by
                  intro n
                  induction n with
                  | zero =>
                    intro w20 v6_21 hq9
                    cases hq9
                  | succ n ih =>
                    intro w20 v6_21 hq9 K22_0 H locs ls hP hS hl
                    obtain ⟨r22, hf, h22a, h22b⟩ := lpF_step hq9
                    replace hf : X_way_b69 v4_16 T w20 v6_21 = some r22 := hf
                    unfold X_way_b69 at hf
                    refine lv_iload hx hb dX0_way_69 (lv_at hl 5 rfl) ?_
                    refine lv_iload hx hb dX0_way_71 (lv_at hl 3 rfl) ?_
                    refine lv_icmp_eq (tgt := 119) hx hb dX0_way_73 (by decide) (fun c23 => ?_) (fun c23 => ?_)
                    · replace hf := ob_t hf c23
                      obtain ⟨v6_24, ev6_24, hf⟩ := ob_bnd hf
                      refine lv_iinc (v := v6_24) (lv' := [(6, .int v6_24), (0, .ref (E 0)), (1, .int a1), (3, .int a3), (4, .int v4_16), (5, .int v5_17)]) hx hb dX0_way_119 hl (k := 5) rfl (by rw [ev6_24]; rfl) (by decide) rfl (fun ls hl => ?_)
                      refine lv_goto (tgt := 69) hx hb dX0_way_122 (by decide) ?_
                      obtain rfl := ob_s hf
                      exact ih _ _ (h22a _ rfl) K22_0 H locs ls hP hS (lv_sub hl [1, 2, 3, 4, 5, 0] rfl)
                    · replace hf := ob_f hf c23
                      refine lv_aload_n hx hb dX0_way_76 rfl (lv_at hl 0 rfl) ?_
                      refine lv_iload hx hb dX0_way_77 (lv_at hl 3 rfl) ?_
                      refine lv_iload hx hb dX0_way_79 (lv_at hl 5 rfl) ?_
                      obtain ⟨q26, g25, hf⟩ := ob_bind hf
                      refine xc_i (xj_run (As := [.int v4_16, .int v6_21]) (rest := []) hJ hJs hS ⟨hx, hb, hml, hown, hts⟩ (k0 := 0) (wkX0_costOf l D dA E hE T J hJ w20 v4_16 v6_21 g25) (cwV 2 hts (lw_V q1201 q1203 qs44 q136 q1204) rfl rfl rfl cdX0_costOf ⟨Nat.le_of_ble_eq_true rfl, Nat.le_of_ble_eq_true rfl⟩) hK hP (by decide) rfl rfl rfl hl.1 rfl rfl (Nat.le_of_ble_eq_true rfl) dX0_way_81 ⟨Nat.zero_le _, Nat.zero_le _⟩) hS hD.2 (fun H locs hP hS => ?_)
                      refine lv_iconst (v := (-1)) hx hb dX0_way_84 (by decide) ?_
                      refine lv_icmp_eq (tgt := 119) hx hb dX0_way_85 (by decide) (fun c27 => ?_) (fun c27 => ?_)
                      · replace hf := ob_t hf c27
                        obtain ⟨v6_28, ev6_28, hf⟩ := ob_bnd hf
                        refine lv_iinc (v := v6_28) (lv' := [(6, .int v6_28), (0, .ref (E 0)), (1, .int a1), (3, .int a3), (4, .int v4_16), (5, .int v5_17)]) hx hb dX0_way_119 hl (k := 5) rfl (by rw [ev6_28]; rfl) (by decide) rfl (fun ls hl => ?_)
                        refine lv_goto (tgt := 69) hx hb dX0_way_122 (by decide) ?_
                        obtain rfl := ob_s hf
                        exact ih _ _ (h22a _ rfl) K22_0 H locs ls hP hS (lv_sub hl [1, 2, 3, 4, 5, 0] rfl)
                      · replace hf := ob_f hf c27
                        refine lv_aload_n hx hb dX0_way_88 rfl (lv_at hl 0 rfl) ?_
                        refine xr_get hx hb hts in_X0 hown hK hP 0 (by decide) rfl rfl 8 (by decide) (hts _ q260) (fun _ h => h) rfl (v := .ref (E 28)) rfl dX0_way_89 ?_
                        refine lv_iload hx hb dX0_way_92 (lv_at hl 5 rfl) ?_
                        obtain ⟨h29, hf⟩ := ob_gd hf
                        refine xr_iald hx hb hK hP 28 (by decide) rfl 0 rfl (j := v6_21.toNatClampNeg) h29 rfl dX0_way_94 ?_
                        refine lv_bipush (v := 10) hx hb dX0_way_95 (by decide) ?_
                        refine lv_aload_n hx hb dX0_way_97 rfl (lv_at hl 0 rfl) ?_
                        refine lv_iload hx hb dX0_way_98 (lv_at hl 3 rfl) ?_
                        refine lv_iload hx hb dX0_way_100 (lv_at hl 5 rfl) ?_
                        obtain ⟨q31, g30, hf⟩ := ob_bind hf
                        refine xc_i (xj_run (As := [.int v4_16, .int v6_21]) (rest := [.int 10, .int (q26.2.1 28 v6_21.toNatClampNeg)]) hJ hJs hS ⟨hx, hb, hml, hown, hts⟩ (k0 := 0) (wkX0_costOf l D dA E hE T J hJ q26.2 v4_16 v6_21 g30) (cwV 2 hts (lw_V q1201 q1203 qs44 q136 q1204) rfl rfl rfl cdX0_costOf ⟨Nat.le_of_ble_eq_true rfl, Nat.le_of_ble_eq_true rfl⟩) hK hP (by decide) rfl rfl rfl hl.1 rfl rfl (Nat.le_of_ble_eq_true rfl) dX0_way_102 ⟨Nat.zero_le _, Nat.zero_le _⟩) hS hD.2 (fun H locs hP hS => ?_)
                        refine lv_imul hx hb dX0_way_105 ?_
                        refine lv_iadd hx hb dX0_way_106 ?_
                        refine lv_iconst (v := 1) hx hb dX0_way_107 (by decide) ?_
                        refine lv_iadd hx hb dX0_way_108 ?_
                        refine lv_aload_n hx hb dX0_way_109 rfl (lv_at hl 0 rfl) ?_
                        refine xr_get hx hb hts in_X0 hown hK hP 0 (by decide) rfl rfl 8 (by decide) (hts _ q260) (fun _ h => h) rfl (v := .ref (E 28)) rfl dX0_way_110 ?_
                        refine lv_iload hx hb dX0_way_113 (lv_at hl 3 rfl) ?_
                        obtain ⟨h32, hf⟩ := ob_gd hf
                        refine xr_iald hx hb hK hP 28 (by decide) rfl 0 rfl (j := v4_16.toNatClampNeg) h32 rfl dX0_way_115 ?_
                        refine lv_icmp_eq (tgt := 125) hx hb dX0_way_116 (by decide) (fun c33 => ?_) (fun c33 => ?_)
                        · replace hf := ob_t hf c33
                          obtain rfl := ob_s hf
                          obtain rfl := h22b _ rfl
                          exact K22_0 H locs ls hP hS (lv_sub hl [0, 1, 2, 4, 5] rfl)
                        · replace hf := ob_f hf c33
                          obtain ⟨v6_34, ev6_34, hf⟩ := ob_bnd hf
                          refine lv_iinc (v := v6_34) (lv' := [(6, .int v6_34), (0, .ref (E 0)), (1, .int a1), (3, .int a3), (4, .int v4_16), (5, .int v5_17)]) hx hb dX0_way_119 hl (k := 5) rfl (by rw [ev6_34]; rfl) (by decide) rfl (fun ls hl => ?_)
                          refine lv_goto (tgt := 69) hx hb dX0_way_122 (by decide) ?_
                          obtain rfl := ob_s hf
                          exact ih _ _ (h22a _ rfl) K22_0 H locs ls hP hS (lv_sub hl [1, 2, 3, 4, 5, 0] rfl)
                refine kL69 n22 w15 0 hn22 (fun H locs ls hP hS hl => ?_) H locs ls hP hS (lv_sub hl [1, 2, 3, 4, 5, 0] rfl)
                replace hf : X_way_x69_125 v5_17 b22 = some r18 := hf
                unfold X_way_x69_125 at hf
                refine lv_iload hx hb dX0_way_125 (lv_at hl 4 rfl) ?_
                refine lv_istore (lv' := [(4, .int b22.2), (0, .ref (E 0)), (1, .int a1), (3, .int a3), (5, .int v5_17), (6, .int b22.2)]) hx hb dX0_way_127 hl (by decide) rfl (fun ls hl => ?_)
                obtain ⟨v5_35, ev5_35, hf⟩ := ob_bnd hf
                refine lv_iinc (v := v5_35) (lv' := [(5, .int v5_35), (4, .int b22.2), (0, .ref (E 0)), (1, .int a1), (3, .int a3), (6, .int b22.2)]) hx hb dX0_way_129 hl (k := 4) rfl (by rw [ev5_35]; rfl) (by decide) rfl (fun ls hl => ?_)
                refine lv_goto (tgt := 60) hx hb dX0_way_132 (by decide) ?_
                obtain rfl := ob_s hf
                exact ih _ _ _ (h18a _ rfl) K18_0 H locs ls hP hS (lv_sub hl [2, 3, 4, 1, 0] rfl)
          refine kL60 n18 q8 a1 0 hn18 (fun H locs ls hP hS hl => ?_) H locs ls hP hS (lv_sub hl [2, 3, 5, 1, 0] rfl)
          replace hf : X_way_x60_135 a3 a1 b18 = some res := hf
          unfold X_way_x60_135 at hf
          refine lv_iload_n hx hb dX0_way_135 rfl (lv_at hl 2 rfl) ?_
          refine lv_iconst (v := (-1)) hx hb dX0_way_136 (by decide) ?_
          refine lv_icmp_ne (tgt := 154) hx hb dX0_way_137 (by decide) (fun c36 => ?_) (fun c36 => ?_)
          · replace hf := ob_f hf c36
            refine lv_iload hx hb dX0_way_154 (lv_at hl 3 rfl) ?_
            obtain rfl := ob_s hf
            subst hQ
            exact xe_i hx hb hr hlocks hP hS dX0_way_156
          · replace hf := ob_t hf c36
            refine lv_aload_n hx hb dX0_way_140 rfl (lv_at hl 0 rfl) ?_
            refine xr_get hx hb hts in_X0 hown hK hP 0 (by decide) rfl rfl 8 (by decide) (hts _ q260) (fun _ h => h) rfl (v := .ref (E 28)) rfl dX0_way_141 ?_
            refine lv_iload_n hx hb dX0_way_144 rfl (lv_at hl 1 rfl) ?_
            obtain ⟨h37, hf⟩ := ob_gd hf
            refine xr_iald hx hb hK hP 28 (by decide) rfl 0 rfl (j := a1.toNatClampNeg) h37 rfl dX0_way_145 ?_
            refine lv_bipush (v := 10) hx hb dX0_way_146 (by decide) ?_
            refine xr_irem hx hb dX0_way_148 (by decide) ?_
            refine lv_iconst (v := 1) hx hb dX0_way_149 (by decide) ?_
            refine lv_iadd hx hb dX0_way_150 ?_
            refine lv_goto (tgt := 156) hx hb dX0_way_151 (by decide) ?_
            obtain rfl := ob_s hf
            subst hQ
            exact xe_i hx hb hr hlocks hP hS dX0_way_156
        · replace hf := ob_t hf c14
          refine lv_bipush (v := (-2)) hx hb dX0_way_51 (by decide) ?_
          obtain rfl := ob_s hf
          subst hQ
          exact xe_i hx hb hr hlocks hP hS dX0_way_53
    · replace hf := ob_t hf c6
      refine lv_bipush (v := (-2)) hx hb dX0_way_14 (by decide) ?_
      obtain rfl := ob_s hf
      subst hQ
      exact xe_i hx hb hr hlocks hP hS dX0_way_16
abbrev rmX0_all : Room := { frames := 203, cells := 0, slots := 0, locals := 8069 }
theorem cdX0_all : yX0_all.cls = RX0 ∧ yX0_all.cls ≠ "java/lang/invoke/MethodHandle" ∧ yX0_all.cls ≠ "java/lang/invoke/VarHandle" ∧ (parseMethodDescriptor yX0_all.desc).map (fun d => d.parameters.length) = some 0 := by decide +kernel
set_option maxHeartbeats 4000000 in
set_option maxRecDepth 100000 in
theorem wkX0_all (l : Launch) (D : va_G) (dA : Nat → ClassId) (E : Nat → Nat) (hE : wInj 136 E) (T : Tx) (J : State → Heap → Prop) (hJ : JP D dA E T J) (w : Mm)  {res : Int32 × Mm} (hf : X_all T w = some res) : Met l yX0_all (ws_ yX0_all cX0_all 7 (some .int)) rmX0_all (Pj D dA E J [.ref (E 0)] w) (Qwi D clX shX 136 dA E res.1 res.2) 0 0 (AE 136 E) := by
  refine xj_head (own := RX0) (by decide) rfl (Nat.le_of_ble_eq_true rfl) ?_
  intro p e s m args below meth c ls Q hQ C hP hl
  obtain ⟨hx, hb, hr, hlocks, hml, hown, hts, hK, hJs⟩ := C
  replace hl : lv_has ls 7 [(0, .ref (E 0))] := hl
  have hS : va_S (AE 136 E) s.heap s.heap [] := va_S.rf
  have hD : wD 136 E (AE 136 E) := wD.self hE
  unfold X_all at hf
  obtain ⟨H, eH⟩ : ∃ H, H = s.heap := ⟨_, rfl⟩
  obtain ⟨locs, eL⟩ : ∃ locs : List Loc, locs = [] := ⟨_, rfl⟩
  rw [← eL] at hS ⊢
  rw [← eH] at hP
  have hS : va_S (AE 136 E) s.heap H locs := by rw [eH]; exact hS
  show W p l e rmX0_all s m args below meth c s.heap locs 0 0 Q (F0 m 0 ls [])
  rw [← eH]
  refine lv_iconst (v := 1) hx hb dX0_all_0 (by decide) ?_
  refine lv_istore_n (lv' := [(1, .int 1), (0, .ref (E 0))]) hx hb dX0_all_1 rfl hl (by decide) rfl (fun ls hl => ?_)
  refine lv_iconst (v := 0) hx hb dX0_all_2 (by decide) ?_
  refine lv_istore_n (lv' := [(2, .int 0), (1, .int 1), (0, .ref (E 0))]) hx hb dX0_all_3 rfl hl (by decide) rfl (fun ls hl => ?_)
  obtain ⟨b4, hb4, hf⟩ := ob_bind hf
  obtain ⟨n4, hn4⟩ := lp_some hb4
  have kL4 : ∀ (n : Nat) (w1 : Mm) (v1_2 : Int32) (v2_3 : Int32), lpF (fun (q4 : Mm × Int32 × Int32) => X_all_b4 T q4.1 q4.2.1 q4.2.2) n (w1, v1_2, v2_3) = some b4 → (∀ (x4_0 : Mm), b4 = .inl x4_0 → ∀ (H : Heap) (locs : List Loc) (ls : Array Slot), va_P D clX (wl shX 136 dA E x4_0) H → va_S (AE 136 E) s.heap H locs → lv_has ls 7 [] → W p l e rmX0_all s m args below meth c H locs 0 0 Q (F0 m 113 ls [])) → (∀ (x4_1 : Mm × Int32), b4 = .inr x4_1 → ∀ (H : Heap) (locs : List Loc) (ls : Array Slot), va_P D clX (wl shX 136 dA E x4_1.1) H → va_S (AE 136 E) s.heap H locs → lv_has ls 7 [(2, .int x4_1.2)] → W p l e rmX0_all s m args below meth c H locs 0 0 Q (F0 m 129 ls [])) → ∀ (H : Heap) (locs : List Loc) (ls : Array Slot), va_P D clX (wl shX 136 dA E w1) H → va_S (AE 136 E) s.heap H locs → lv_has ls 7 [(0, .ref (E 0)), (1, .int v1_2), (2, .int v2_3)] → W p l e rmX0_all s m args below meth c H locs 0 0 Q (F0 m 4 ls []) := by
    intro n
    induction n with
    | zero =>
      intro w1 v1_2 v2_3 hq9
      cases hq9
    | succ n ih =>
      intro w1 v1_2 v2_3 hq9 K4_0 K4_1 H locs ls hP hS hl
      obtain ⟨r4, hf, h4a, h4b⟩ := lpF_step hq9
      replace hf : X_all_b4 T w1 v1_2 v2_3 = some r4 := hf
      unfold X_all_b4 at hf
      refine lv_iload_n hx hb dX0_all_4 rfl (lv_at hl 1 rfl) ?_
      refine lv_bipush (v := 63) hx hb dX0_all_5 (by decide) ?_
      refine lv_icmp_eq (tgt := 129) hx hb dX0_all_7 (by decide) (fun c5 => ?_) (fun c5 => ?_)
      · replace hf := ob_t hf c5
        obtain rfl := ob_s hf
        exact K4_1 _ (h4b _ rfl).symm H locs ls hP hS (lv_sub hl [2] rfl)
      · replace hf := ob_f hf c5
        refine lv_ldcw (v := 9999999) hx hb hown (hts _ q1229) dX0_all_10 ?_
        refine lv_istore_n (lv' := [(3, .int 9999999), (0, .ref (E 0)), (1, .int v1_2), (2, .int v2_3)]) hx hb dX0_all_13 rfl hl (by decide) rfl (fun ls hl => ?_)
        refine lv_iconst (v := (-1)) hx hb dX0_all_14 (by decide) ?_
        refine lv_istore (lv' := [(4, .int (-1)), (3, .int 9999999), (0, .ref (E 0)), (1, .int v1_2), (2, .int v2_3)]) hx hb dX0_all_15 hl (by decide) rfl (fun ls hl => ?_)
        refine lv_iconst (v := 0) hx hb dX0_all_17 (by decide) ?_
        refine lv_istore (lv' := [(5, .int 0), (4, .int (-1)), (3, .int 9999999), (0, .ref (E 0)), (1, .int v1_2), (2, .int v2_3)]) hx hb dX0_all_18 hl (by decide) rfl (fun ls hl => ?_)
        obtain ⟨b10, hb10, hf⟩ := ob_bind hf
        obtain ⟨n10, hn10⟩ := lp_some hb10
        have kL20 : ∀ (n : Nat) (w6 : Mm) (v3_7 : Int32) (v4_8 : Int32) (v5_9 : Int32), lpF (fun (q10 : Mm × Int32 × Int32 × Int32) => X_all_b20 v1_2 T q10.1 q10.2.1 q10.2.2.1 q10.2.2.2) n (w6, v3_7, v4_8, v5_9) = some b10 → (∀ (H : Heap) (locs : List Loc) (ls : Array Slot), va_P D clX (wl shX 136 dA E b10.1) H → va_S (AE 136 E) s.heap H locs → lv_has ls 7 [(0, .ref (E 0)), (1, .int v1_2), (2, .int v2_3), (3, .int b10.2.1), (4, .int b10.2.2)] → W p l e rmX0_all s m args below meth c H locs 0 0 Q (F0 m 107 ls [])) → ∀ (H : Heap) (locs : List Loc) (ls : Array Slot), va_P D clX (wl shX 136 dA E w6) H → va_S (AE 136 E) s.heap H locs → lv_has ls 7 [(0, .ref (E 0)), (1, .int v1_2), (2, .int v2_3), (3, .int v3_7), (4, .int v4_8), (5, .int v5_9)] → W p l e rmX0_all s m args below meth c H locs 0 0 Q (F0 m 20 ls []) := by
          intro n
          induction n with
          | zero =>
            intro w6 v3_7 v4_8 v5_9 hq9
            cases hq9
          | succ n ih =>
            intro w6 v3_7 v4_8 v5_9 hq9 K10_0 H locs ls hP hS hl
            obtain ⟨r10, hf, h10a, h10b⟩ := lpF_step hq9
            replace hf : X_all_b20 v1_2 T w6 v3_7 v4_8 v5_9 = some r10 := hf
            unfold X_all_b20 at hf
            refine lv_iload hx hb dX0_all_20 (lv_at hl 5 rfl) ?_
            refine lv_bipush (v := 6) hx hb dX0_all_22 (by decide) ?_
            refine lv_icmp_ge (tgt := 107) hx hb dX0_all_24 (by decide) (fun c11 => ?_) (fun c11 => ?_)
            · replace hf := ob_t hf c11
              obtain rfl := ob_s hf
              obtain rfl := h10b _ rfl
              exact K10_0 H locs ls hP hS (lv_sub hl [0, 1, 2, 3, 4] rfl)
            · replace hf := ob_f hf c11
              refine lv_iconst (v := 0) hx hb dX0_all_27 (by decide) ?_
              refine lv_istore (lv' := [(6, .int 0), (0, .ref (E 0)), (1, .int v1_2), (2, .int v2_3), (3, .int v3_7), (4, .int v4_8), (5, .int v5_9)]) hx hb dX0_all_28 hl (by decide) rfl (fun ls hl => ?_)
              obtain ⟨b16, hb16, hf⟩ := ob_bind hf
              obtain ⟨n16, hn16⟩ := lp_some hb16
              have kL30 : ∀ (n : Nat) (w12 : Mm) (v3_13 : Int32) (v4_14 : Int32) (v6_15 : Int32), lpF (fun (q16 : Mm × Int32 × Int32 × Int32) => X_all_b30 v1_2 v5_9 T q16.1 q16.2.1 q16.2.2.1 q16.2.2.2) n (w12, v3_13, v4_14, v6_15) = some b16 → (∀ (H : Heap) (locs : List Loc) (ls : Array Slot), va_P D clX (wl shX 136 dA E b16.1) H → va_S (AE 136 E) s.heap H locs → lv_has ls 7 [(0, .ref (E 0)), (1, .int v1_2), (2, .int v2_3), (3, .int b16.2.1), (4, .int b16.2.2), (5, .int v5_9)] → W p l e rmX0_all s m args below meth c H locs 0 0 Q (F0 m 101 ls [])) → ∀ (H : Heap) (locs : List Loc) (ls : Array Slot), va_P D clX (wl shX 136 dA E w12) H → va_S (AE 136 E) s.heap H locs → lv_has ls 7 [(0, .ref (E 0)), (1, .int v1_2), (2, .int v2_3), (3, .int v3_13), (4, .int v4_14), (5, .int v5_9), (6, .int v6_15)] → W p l e rmX0_all s m args below meth c H locs 0 0 Q (F0 m 30 ls []) := by
                intro n
                induction n with
                | zero =>
                  intro w12 v3_13 v4_14 v6_15 hq9
                  cases hq9
                | succ n ih =>
                  intro w12 v3_13 v4_14 v6_15 hq9 K16_0 H locs ls hP hS hl
                  obtain ⟨r16, hf, h16a, h16b⟩ := lpF_step hq9
                  replace hf : X_all_b30 v1_2 v5_9 T w12 v3_13 v4_14 v6_15 = some r16 := hf
                  unfold X_all_b30 at hf
                  refine lv_iload hx hb dX0_all_30 (lv_at hl 6 rfl) ?_
                  refine lv_bipush (v := 6) hx hb dX0_all_32 (by decide) ?_
                  refine lv_icmp_ge (tgt := 101) hx hb dX0_all_34 (by decide) (fun c17 => ?_) (fun c17 => ?_)
                  · replace hf := ob_t hf c17
                    obtain rfl := ob_s hf
                    obtain rfl := h16b _ rfl
                    exact K16_0 H locs ls hP hS (lv_sub hl [0, 1, 2, 3, 4, 5] rfl)
                  · replace hf := ob_f hf c17
                    refine lv_iload_n hx hb dX0_all_37 rfl (lv_at hl 1 rfl) ?_
                    refine lv_iload hx hb dX0_all_38 (lv_at hl 5 rfl) ?_
                    obtain ⟨q19, g18, hf⟩ := ob_bind hf
                    refine xc_z (xj_runS (As := [.int v1_2, .int v5_9]) (rest := []) hJ hJs hS ⟨hx, hb, hml, hown, hts⟩ (wkX0_has l D dA E hE T J hJ w12 v1_2 v5_9 g18) (va_cwS 2 hts (lw_S q1174 q1175 q136 q1176) rfl rfl rfl cdX0_has.2 ⟨Nat.le_of_ble_eq_true rfl, Nat.le_of_ble_eq_true rfl⟩) hK hP hl.1 rfl rfl (Nat.le_of_ble_eq_true rfl) dX0_all_40 ⟨Nat.zero_le _, Nat.zero_le _⟩) hS hD.2 (fun H locs zq19 hP hS => ?_)
                    have kj95 : ∀ (v3_20 : Int32) (v4_21 : Int32) (w22 : Mm) (H : Heap) (locs : List Loc) (ls : Array Slot), X_all_j95 v6_15 w22 v3_20 v4_21 = some r16 → va_P D clX (wl shX 136 dA E w22) H → va_S (AE 136 E) s.heap H locs → lv_has ls 7 [(0, .ref (E 0)), (1, .int v1_2), (2, .int v2_3), (3, .int v3_20), (4, .int v4_21), (5, .int v5_9), (6, .int v6_15)] → W p l e rmX0_all s m args below meth c H locs 0 0 Q (F0 m 95 ls []) := by
                      intro v3_20 v4_21 w22 H locs ls hf hP hS hl
                      unfold X_all_j95 at hf
                      obtain ⟨v6_23, ev6_23, hf⟩ := ob_bnd hf
                      refine lv_iinc (v := v6_23) (lv' := [(6, .int v6_23), (0, .ref (E 0)), (1, .int v1_2), (2, .int v2_3), (3, .int v3_20), (4, .int v4_21), (5, .int v5_9)]) hx hb dX0_all_95 hl (k := 6) rfl (by rw [ev6_23]; rfl) (by decide) rfl (fun ls hl => ?_)
                      refine lv_goto (tgt := 30) hx hb dX0_all_98 (by decide) ?_
                      obtain rfl := ob_s hf
                      exact ih _ _ _ _ (h16a _ rfl) K16_0 H locs ls hP hS (lv_sub hl [1, 2, 3, 4, 5, 6, 0] rfl)
                    refine lv_if_eq (tgt := 95) hx hb dX0_all_43 (by decide) (fun c24 => ?_) (fun c24 => ?_)
                    · replace hf := ob_t hf c24
                      exact kj95 v3_13 v4_14 w12 H locs ls hf hP hS (lv_sub hl [0, 1, 2, 3, 4, 5, 6] rfl)
                    · replace hf := ob_f hf c24
                      refine lv_iload_n hx hb dX0_all_46 rfl (lv_at hl 1 rfl) ?_
                      refine lv_iload hx hb dX0_all_47 (lv_at hl 6 rfl) ?_
                      obtain ⟨q26, g25, hf⟩ := ob_bind hf
                      refine xc_z (xj_runS (As := [.int v1_2, .int v6_15]) (rest := []) hJ hJs hS ⟨hx, hb, hml, hown, hts⟩ (wkX0_has l D dA E hE T J hJ w12 v1_2 v6_15 g25) (va_cwS 2 hts (lw_S q1174 q1175 q136 q1176) rfl rfl rfl cdX0_has.2 ⟨Nat.le_of_ble_eq_true rfl, Nat.le_of_ble_eq_true rfl⟩) hK hP hl.1 rfl rfl (Nat.le_of_ble_eq_true rfl) dX0_all_49 ⟨Nat.zero_le _, Nat.zero_le _⟩) hS hD.2 (fun H locs zq26 hP hS => ?_)
                      refine lv_if_ne (tgt := 95) hx hb dX0_all_52 (by decide) (fun c27 => ?_) (fun c27 => ?_)
                      · replace hf := ob_f hf c27
                        exact kj95 v3_13 v4_14 w12 H locs ls hf hP hS (lv_sub hl [0, 1, 2, 3, 4, 5, 6] rfl)
                      · replace hf := ob_t hf c27
                        refine lv_aload_n hx hb dX0_all_55 rfl (lv_at hl 0 rfl) ?_
                        refine lv_iload hx hb dX0_all_56 (lv_at hl 5 rfl) ?_
                        refine lv_iload hx hb dX0_all_58 (lv_at hl 6 rfl) ?_
                        obtain ⟨q29, g28, hf⟩ := ob_bind hf
                        refine xc_i (xj_run (As := [.int v5_9, .int v6_15]) (rest := []) hJ hJs hS ⟨hx, hb, hml, hown, hts⟩ (k0 := 0) (wkX0_costOf l D dA E hE T J hJ w12 v5_9 v6_15 g28) (cwV 2 hts (lw_V q1201 q1203 qs44 q136 q1204) rfl rfl rfl cdX0_costOf ⟨Nat.le_of_ble_eq_true rfl, Nat.le_of_ble_eq_true rfl⟩) hK hP (by decide) rfl rfl rfl hl.1 rfl rfl (Nat.le_of_ble_eq_true rfl) dX0_all_60 ⟨Nat.zero_le _, Nat.zero_le _⟩) hS hD.2 (fun H locs hP hS => ?_)
                        refine lv_iconst (v := (-1)) hx hb dX0_all_63 (by decide) ?_
                        refine lv_icmp_eq (tgt := 95) hx hb dX0_all_64 (by decide) (fun c30 => ?_) (fun c30 => ?_)
                        · replace hf := ob_t hf c30
                          exact kj95 v3_13 v4_14 q29.2 H locs ls hf hP hS (lv_sub hl [0, 1, 2, 3, 4, 5, 6] rfl)
                        · replace hf := ob_f hf c30
                          refine lv_aload_n hx hb dX0_all_67 rfl (lv_at hl 0 rfl) ?_
                          refine lv_iload hx hb dX0_all_68 (lv_at hl 5 rfl) ?_
                          refine lv_iload hx hb dX0_all_70 (lv_at hl 6 rfl) ?_
                          obtain ⟨q32, g31, hf⟩ := ob_bind hf
                          refine xc_i (xj_run (As := [.int v5_9, .int v6_15]) (rest := []) hJ hJs hS ⟨hx, hb, hml, hown, hts⟩ (k0 := 0) (wkX0_costOf l D dA E hE T J hJ q29.2 v5_9 v6_15 g31) (cwV 2 hts (lw_V q1201 q1203 qs44 q136 q1204) rfl rfl rfl cdX0_costOf ⟨Nat.le_of_ble_eq_true rfl, Nat.le_of_ble_eq_true rfl⟩) hK hP (by decide) rfl rfl rfl hl.1 rfl rfl (Nat.le_of_ble_eq_true rfl) dX0_all_72 ⟨Nat.zero_le _, Nat.zero_le _⟩) hS hD.2 (fun H locs hP hS => ?_)
                          refine lv_iload_n hx hb dX0_all_75 rfl (lv_at hl 3 rfl) ?_
                          refine lv_icmp_lt (tgt := 82) hx hb dX0_all_76 (by decide) (fun c33 => ?_) (fun c33 => ?_)
                          · replace hf := ob_t hf c33
                            refine lv_aload_n hx hb dX0_all_82 rfl (lv_at hl 0 rfl) ?_
                            refine lv_iload hx hb dX0_all_83 (lv_at hl 5 rfl) ?_
                            refine lv_iload hx hb dX0_all_85 (lv_at hl 6 rfl) ?_
                            obtain ⟨q35, g34, hf⟩ := ob_bind hf
                            refine xc_i (xj_run (As := [.int v5_9, .int v6_15]) (rest := []) hJ hJs hS ⟨hx, hb, hml, hown, hts⟩ (k0 := 0) (wkX0_costOf l D dA E hE T J hJ q32.2 v5_9 v6_15 g34) (cwV 2 hts (lw_V q1201 q1203 qs44 q136 q1204) rfl rfl rfl cdX0_costOf ⟨Nat.le_of_ble_eq_true rfl, Nat.le_of_ble_eq_true rfl⟩) hK hP (by decide) rfl rfl rfl hl.1 rfl rfl (Nat.le_of_ble_eq_true rfl) dX0_all_87 ⟨Nat.zero_le _, Nat.zero_le _⟩) hS hD.2 (fun H locs hP hS => ?_)
                            refine lv_istore_n (lv' := [(3, .int q35.1), (0, .ref (E 0)), (1, .int v1_2), (2, .int v2_3), (4, .int v4_14), (5, .int v5_9), (6, .int v6_15)]) hx hb dX0_all_90 rfl hl (by decide) rfl (fun ls hl => ?_)
                            refine lv_iload hx hb dX0_all_91 (lv_at hl 6 rfl) ?_
                            refine lv_istore (lv' := [(4, .int v6_15), (3, .int q35.1), (0, .ref (E 0)), (1, .int v1_2), (2, .int v2_3), (5, .int v5_9), (6, .int v6_15)]) hx hb dX0_all_93 hl (by decide) rfl (fun ls hl => ?_)
                            exact kj95 q35.1 v6_15 q35.2 H locs ls hf hP hS (lv_sub hl [2, 3, 4, 1, 0, 5, 6] rfl)
                          · replace hf := ob_f hf c33
                            refine lv_goto (tgt := 95) hx hb dX0_all_79 (by decide) ?_
                            exact kj95 v3_13 v4_14 q32.2 H locs ls hf hP hS (lv_sub hl [0, 1, 2, 3, 4, 5, 6] rfl)
              refine kL30 n16 w6 v3_7 v4_8 0 hn16 (fun H locs ls hP hS hl => ?_) H locs ls hP hS (lv_sub hl [1, 2, 3, 4, 5, 6, 0] rfl)
              replace hf : X_all_x30_101 v5_9 b16 = some r10 := hf
              unfold X_all_x30_101 at hf
              obtain ⟨v5_36, ev5_36, hf⟩ := ob_bnd hf
              refine lv_iinc (v := v5_36) (lv' := [(5, .int v5_36), (0, .ref (E 0)), (1, .int v1_2), (2, .int v2_3), (3, .int b16.2.1), (4, .int b16.2.2)]) hx hb dX0_all_101 hl (k := 5) rfl (by rw [ev5_36]; rfl) (by decide) rfl (fun ls hl => ?_)
              refine lv_goto (tgt := 20) hx hb dX0_all_104 (by decide) ?_
              obtain rfl := ob_s hf
              exact ih _ _ _ _ (h10a _ rfl) K10_0 H locs ls hP hS (lv_sub hl [1, 2, 3, 4, 5, 0] rfl)
        refine kL20 n10 w1 9999999 (-1) 0 hn10 (fun H locs ls hP hS hl => ?_) H locs ls hP hS (lv_sub hl [3, 4, 5, 2, 1, 0] rfl)
        replace hf : X_all_x20_107 b10 v1_2 v2_3 = some r4 := hf
        unfold X_all_x20_107 at hf
        refine lv_iload hx hb dX0_all_107 (lv_at hl 4 rfl) ?_
        refine lv_iconst (v := (-1)) hx hb dX0_all_109 (by decide) ?_
        refine lv_icmp_ne (tgt := 115) hx hb dX0_all_110 (by decide) (fun c37 => ?_) (fun c37 => ?_)
        · replace hf := ob_f hf c37
          refine lv_iload_n hx hb dX0_all_115 rfl (lv_at hl 1 rfl) ?_
          refine lv_iconst (v := 1) hx hb dX0_all_116 (by decide) ?_
          refine lv_iload hx hb dX0_all_117 (lv_at hl 4 rfl) ?_
          refine lv_ishl hx hb dX0_all_119 ?_
          refine lv_ior hx hb dX0_all_120 ?_
          obtain ⟨v1_38, ev1_38, hf⟩ := ob_bnd hf
          refine xn_i ev1_38 ?_
          refine lv_istore_n (lv' := [(1, .int v1_38), (0, .ref (E 0)), (2, .int v2_3), (3, .int b10.2.1), (4, .int b10.2.2)]) hx hb dX0_all_121 rfl hl (by decide) rfl (fun ls hl => ?_)
          refine lv_iload_n hx hb dX0_all_122 rfl (lv_at hl 2 rfl) ?_
          refine lv_iload_n hx hb dX0_all_123 rfl (lv_at hl 3 rfl) ?_
          refine lv_iadd hx hb dX0_all_124 ?_
          obtain ⟨v2_39, ev2_39, hf⟩ := ob_bnd hf
          refine xn_i ev2_39 ?_
          refine lv_istore_n (lv' := [(2, .int v2_39), (1, .int v1_38), (0, .ref (E 0)), (3, .int b10.2.1), (4, .int b10.2.2)]) hx hb dX0_all_125 rfl hl (by decide) rfl (fun ls hl => ?_)
          refine lv_goto (tgt := 4) hx hb dX0_all_126 (by decide) ?_
          obtain rfl := ob_s hf
          exact ih _ _ _ (h4a _ rfl) K4_0 K4_1 H locs ls hP hS (lv_sub hl [2, 1, 0] rfl)
        · replace hf := ob_t hf c37
          obtain rfl := ob_s hf
          exact K4_0 _ (h4b _ rfl).symm H locs ls hP hS (lv_sub hl [] rfl)
  refine kL4 n4 w 1 0 hn4 (fun x4_0 ex4_0 H locs ls hP hS hl => ?_) (fun x4_1 ex4_1 H locs ls hP hS hl => ?_) H locs ls hP hS (lv_sub hl [2, 1, 0] rfl)
  · subst ex4_0
    replace hf : X_all_x4_113 x4_0 = some res := hf
    unfold X_all_x4_113 at hf
    refine lv_iconst (v := (-1)) hx hb dX0_all_113 (by decide) ?_
    obtain rfl := ob_s hf
    subst hQ
    exact xe_i hx hb hr hlocks hP hS dX0_all_114
  · subst ex4_1
    replace hf : X_all_x4_129 x4_1 = some res := hf
    unfold X_all_x4_129 at hf
    refine lv_iload_n hx hb dX0_all_129 rfl (lv_at hl 0 rfl) ?_
    obtain rfl := ob_s hf
    subst hQ
    exact xe_i hx hb hr hlocks hP hS dX0_all_130
abbrev rmX0_pairsOut : Room := { frames := 2, cells := 0, slots := 0, locals := 46 }
theorem cdX0_pairsOut : yX0_pairsOut.cls = RX0 ∧ yX0_pairsOut.cls ≠ "java/lang/invoke/MethodHandle" ∧ yX0_pairsOut.cls ≠ "java/lang/invoke/VarHandle" ∧ (parseMethodDescriptor yX0_pairsOut.desc).map (fun d => d.parameters.length) = some 1 := by decide +kernel
set_option maxHeartbeats 4000000 in
set_option maxRecDepth 100000 in
theorem wkX0_pairsOut (l : Launch) (D : va_G) (dA : Nat → ClassId) (E : Nat → Nat) (hE : wInj 136 E) (T : Tx) (J : State → Heap → Prop) (hJ : JP D dA E T J) (w : Mm) (a1 : Int32) {res : Int32} (hf : X_pairsOut w a1 = some res) : Met l yX0_pairsOut (ws_ yX0_pairsOut cX0_pairsOut 5 (some .int)) rmX0_pairsOut (Pj D dA E J [.ref (E 0), .int a1] w) (Qwi D clX shX 136 dA E res w) 0 0 (AE 136 E) := by
  refine xj_head (own := RX0) (by decide) rfl (Nat.le_of_ble_eq_true rfl) ?_
  intro p e s m args below meth c ls Q hQ C hP hl
  obtain ⟨hx, hb, hr, hlocks, hml, hown, hts, hK, hJs⟩ := C
  replace hl : lv_has ls 5 [(0, .ref (E 0)), (1, .int a1)] := hl
  have hS : va_S (AE 136 E) s.heap s.heap [] := va_S.rf
  have hD : wD 136 E (AE 136 E) := wD.self hE
  unfold X_pairsOut at hf
  obtain ⟨H, eH⟩ : ∃ H, H = s.heap := ⟨_, rfl⟩
  obtain ⟨locs, eL⟩ : ∃ locs : List Loc, locs = [] := ⟨_, rfl⟩
  rw [← eL] at hS ⊢
  rw [← eH] at hP
  have hS : va_S (AE 136 E) s.heap H locs := by rw [eH]; exact hS
  show W p l e rmX0_pairsOut s m args below meth c s.heap locs 0 0 Q (F0 m 0 ls [])
  rw [← eH]
  refine lv_iconst (v := 0) hx hb dX0_pairsOut_0 (by decide) ?_
  refine lv_istore_n (lv' := [(2, .int 0), (0, .ref (E 0)), (1, .int a1)]) hx hb dX0_pairsOut_1 rfl hl (by decide) rfl (fun ls hl => ?_)
  refine lv_iconst (v := 0) hx hb dX0_pairsOut_2 (by decide) ?_
  refine lv_istore_n (lv' := [(3, .int 0), (2, .int 0), (0, .ref (E 0)), (1, .int a1)]) hx hb dX0_pairsOut_3 rfl hl (by decide) rfl (fun ls hl => ?_)
  obtain ⟨b3, hb3, hf⟩ := ob_bind hf
  obtain ⟨n3, hn3⟩ := lp_some hb3
  have kL4 : ∀ (n : Nat) (v2_1 : Int32) (v3_2 : Int32), lpF (fun (q3 : Int32 × Int32) => X_pairsOut_b4 a1 w q3.1 q3.2) n (v2_1, v3_2) = some b3 → (∀ (H : Heap) (locs : List Loc) (ls : Array Slot), va_P D clX (wl shX 136 dA E w) H → va_S (AE 136 E) s.heap H locs → lv_has ls 5 [(2, .int b3)] → W p l e rmX0_pairsOut s m args below meth c H locs 0 0 Q (F0 m 67 ls [])) → ∀ (H : Heap) (locs : List Loc) (ls : Array Slot), va_P D clX (wl shX 136 dA E w) H → va_S (AE 136 E) s.heap H locs → lv_has ls 5 [(0, .ref (E 0)), (1, .int a1), (2, .int v2_1), (3, .int v3_2)] → W p l e rmX0_pairsOut s m args below meth c H locs 0 0 Q (F0 m 4 ls []) := by
    intro n
    induction n with
    | zero =>
      intro v2_1 v3_2 hq9
      cases hq9
    | succ n ih =>
      intro v2_1 v3_2 hq9 K3_0 H locs ls hP hS hl
      obtain ⟨r3, hf, h3a, h3b⟩ := lpF_step hq9
      replace hf : X_pairsOut_b4 a1 w v2_1 v3_2 = some r3 := hf
      unfold X_pairsOut_b4 at hf
      refine lv_iload_n hx hb dX0_pairsOut_4 rfl (lv_at hl 3 rfl) ?_
      refine lv_bipush (v := 6) hx hb dX0_pairsOut_5 (by decide) ?_
      refine lv_icmp_ge (tgt := 67) hx hb dX0_pairsOut_7 (by decide) (fun c4 => ?_) (fun c4 => ?_)
      · replace hf := ob_t hf c4
        obtain rfl := ob_s hf
        obtain rfl := h3b _ rfl
        exact K3_0 H locs ls hP hS (lv_sub hl [2] rfl)
      · replace hf := ob_f hf c4
        refine lv_iconst (v := 0) hx hb dX0_pairsOut_10 (by decide) ?_
        refine lv_istore (lv' := [(4, .int 0), (0, .ref (E 0)), (1, .int a1), (2, .int v2_1), (3, .int v3_2)]) hx hb dX0_pairsOut_11 hl (by decide) rfl (fun ls hl => ?_)
        obtain ⟨b7, hb7, hf⟩ := ob_bind hf
        obtain ⟨n7, hn7⟩ := lp_some hb7
        have kL13 : ∀ (n : Nat) (v2_5 : Int32) (v4_6 : Int32), lpF (fun (q7 : Int32 × Int32) => X_pairsOut_b13 a1 v3_2 w q7.1 q7.2) n (v2_5, v4_6) = some b7 → (∀ (H : Heap) (locs : List Loc) (ls : Array Slot), va_P D clX (wl shX 136 dA E w) H → va_S (AE 136 E) s.heap H locs → lv_has ls 5 [(0, .ref (E 0)), (1, .int a1), (2, .int b7), (3, .int v3_2)] → W p l e rmX0_pairsOut s m args below meth c H locs 0 0 Q (F0 m 61 ls [])) → ∀ (H : Heap) (locs : List Loc) (ls : Array Slot), va_P D clX (wl shX 136 dA E w) H → va_S (AE 136 E) s.heap H locs → lv_has ls 5 [(0, .ref (E 0)), (1, .int a1), (2, .int v2_5), (3, .int v3_2), (4, .int v4_6)] → W p l e rmX0_pairsOut s m args below meth c H locs 0 0 Q (F0 m 13 ls []) := by
          intro n
          induction n with
          | zero =>
            intro v2_5 v4_6 hq9
            cases hq9
          | succ n ih =>
            intro v2_5 v4_6 hq9 K7_0 H locs ls hP hS hl
            obtain ⟨r7, hf, h7a, h7b⟩ := lpF_step hq9
            replace hf : X_pairsOut_b13 a1 v3_2 w v2_5 v4_6 = some r7 := hf
            unfold X_pairsOut_b13 at hf
            refine lv_iload hx hb dX0_pairsOut_13 (lv_at hl 4 rfl) ?_
            refine lv_bipush (v := 6) hx hb dX0_pairsOut_15 (by decide) ?_
            refine lv_icmp_ge (tgt := 61) hx hb dX0_pairsOut_17 (by decide) (fun c8 => ?_) (fun c8 => ?_)
            · replace hf := ob_t hf c8
              obtain rfl := ob_s hf
              obtain rfl := h7b _ rfl
              exact K7_0 H locs ls hP hS (lv_sub hl [0, 1, 2, 3] rfl)
            · replace hf := ob_f hf c8
              refine lv_iload_n hx hb dX0_pairsOut_20 rfl (lv_at hl 2 rfl) ?_
              refine lv_iload_n hx hb dX0_pairsOut_21 rfl (lv_at hl 1 rfl) ?_
              refine lv_iload_n hx hb dX0_pairsOut_22 rfl (lv_at hl 3 rfl) ?_
              obtain ⟨q10, g9, hf⟩ := ob_bind hf
              refine xc_z (xj_runS (As := [.int a1, .int v3_2]) (rest := [.int v2_5]) hJ hJs hS ⟨hx, hb, hml, hown, hts⟩ (wkX0_has l D dA E hE T J hJ w a1 v3_2 g9) (va_cwS 2 hts (lw_S q1174 q1175 q136 q1176) rfl rfl rfl cdX0_has.2 ⟨Nat.le_of_ble_eq_true rfl, Nat.le_of_ble_eq_true rfl⟩) hK hP hl.1 rfl rfl (Nat.le_of_ble_eq_true rfl) dX0_pairsOut_23 ⟨Nat.zero_le _, Nat.zero_le _⟩) hS hD.2 (fun H locs zq10 hP hS => ?_)
              refine lv_if_eq (tgt := 52) hx hb dX0_pairsOut_26 (by decide) (fun c11 => ?_) (fun c11 => ?_)
              · replace hf := ob_t hf c11
                refine lv_iconst (v := 0) hx hb dX0_pairsOut_52 (by decide) ?_
                refine lv_iadd hx hb dX0_pairsOut_53 ?_
                obtain ⟨v2_12, ev2_12, hf⟩ := ob_bnd hf
                refine xn_i ev2_12 ?_
                refine lv_istore_n (lv' := [(2, .int v2_12), (0, .ref (E 0)), (1, .int a1), (3, .int v3_2), (4, .int v4_6)]) hx hb dX0_pairsOut_54 rfl hl (by decide) rfl (fun ls hl => ?_)
                obtain ⟨v4_13, ev4_13, hf⟩ := ob_bnd hf
                refine lv_iinc (v := v4_13) (lv' := [(4, .int v4_13), (2, .int v2_12), (0, .ref (E 0)), (1, .int a1), (3, .int v3_2)]) hx hb dX0_pairsOut_55 hl (k := 4) rfl (by rw [ev4_13]; rfl) (by decide) rfl (fun ls hl => ?_)
                refine lv_goto (tgt := 13) hx hb dX0_pairsOut_58 (by decide) ?_
                obtain rfl := ob_s hf
                exact ih _ _ (h7a _ rfl) K7_0 H locs ls hP hS (lv_sub hl [2, 3, 1, 4, 0] rfl)
              · replace hf := ob_f hf c11
                refine lv_iload_n hx hb dX0_pairsOut_29 rfl (lv_at hl 1 rfl) ?_
                refine lv_iload hx hb dX0_pairsOut_30 (lv_at hl 4 rfl) ?_
                obtain ⟨q15, g14, hf⟩ := ob_bind hf
                refine xc_z (xj_runS (As := [.int a1, .int v4_6]) (rest := [.int v2_5]) hJ hJs hS ⟨hx, hb, hml, hown, hts⟩ (wkX0_has l D dA E hE T J hJ w a1 v4_6 g14) (va_cwS 2 hts (lw_S q1174 q1175 q136 q1176) rfl rfl rfl cdX0_has.2 ⟨Nat.le_of_ble_eq_true rfl, Nat.le_of_ble_eq_true rfl⟩) hK hP hl.1 rfl rfl (Nat.le_of_ble_eq_true rfl) dX0_pairsOut_32 ⟨Nat.zero_le _, Nat.zero_le _⟩) hS hD.2 (fun H locs zq15 hP hS => ?_)
                refine lv_if_ne (tgt := 52) hx hb dX0_pairsOut_35 (by decide) (fun c16 => ?_) (fun c16 => ?_)
                · replace hf := ob_f hf c16
                  refine lv_iconst (v := 0) hx hb dX0_pairsOut_52 (by decide) ?_
                  refine lv_iadd hx hb dX0_pairsOut_53 ?_
                  obtain ⟨v2_17, ev2_17, hf⟩ := ob_bnd hf
                  refine xn_i ev2_17 ?_
                  refine lv_istore_n (lv' := [(2, .int v2_17), (0, .ref (E 0)), (1, .int a1), (3, .int v3_2), (4, .int v4_6)]) hx hb dX0_pairsOut_54 rfl hl (by decide) rfl (fun ls hl => ?_)
                  obtain ⟨v4_18, ev4_18, hf⟩ := ob_bnd hf
                  refine lv_iinc (v := v4_18) (lv' := [(4, .int v4_18), (2, .int v2_17), (0, .ref (E 0)), (1, .int a1), (3, .int v3_2)]) hx hb dX0_pairsOut_55 hl (k := 4) rfl (by rw [ev4_18]; rfl) (by decide) rfl (fun ls hl => ?_)
                  refine lv_goto (tgt := 13) hx hb dX0_pairsOut_58 (by decide) ?_
                  obtain rfl := ob_s hf
                  exact ih _ _ (h7a _ rfl) K7_0 H locs ls hP hS (lv_sub hl [2, 3, 1, 4, 0] rfl)
                · replace hf := ob_t hf c16
                  refine lv_aload_n hx hb dX0_pairsOut_38 rfl (lv_at hl 0 rfl) ?_
                  refine lv_iload_n hx hb dX0_pairsOut_39 rfl (lv_at hl 3 rfl) ?_
                  refine lv_iload hx hb dX0_pairsOut_40 (lv_at hl 4 rfl) ?_
                  obtain ⟨q20, g19, hf⟩ := ob_bind hf
                  refine xc_z (xj_run (As := [.int v3_2, .int v4_6]) (rest := [.int v2_5]) hJ hJs hS ⟨hx, hb, hml, hown, hts⟩ (k0 := 0) (wkX0_doSpeak l D dA E hE T J hJ w v3_2 v4_6 g19) (cwV 2 hts (lw_V q1189 q1191 qs42 q136 q1192) rfl rfl rfl cdX0_doSpeak ⟨Nat.le_of_ble_eq_true rfl, Nat.le_of_ble_eq_true rfl⟩) hK hP (by decide) rfl rfl rfl hl.1 rfl rfl (Nat.le_of_ble_eq_true rfl) dX0_pairsOut_42 ⟨Nat.zero_le _, Nat.zero_le _⟩) hS hD.2 (fun H locs zq20 hP hS => ?_)
                  refine lv_if_eq (tgt := 52) hx hb dX0_pairsOut_45 (by decide) (fun c21 => ?_) (fun c21 => ?_)
                  · replace hf := ob_t hf c21
                    refine lv_iconst (v := 0) hx hb dX0_pairsOut_52 (by decide) ?_
                    refine lv_iadd hx hb dX0_pairsOut_53 ?_
                    obtain ⟨v2_22, ev2_22, hf⟩ := ob_bnd hf
                    refine xn_i ev2_22 ?_
                    refine lv_istore_n (lv' := [(2, .int v2_22), (0, .ref (E 0)), (1, .int a1), (3, .int v3_2), (4, .int v4_6)]) hx hb dX0_pairsOut_54 rfl hl (by decide) rfl (fun ls hl => ?_)
                    obtain ⟨v4_23, ev4_23, hf⟩ := ob_bnd hf
                    refine lv_iinc (v := v4_23) (lv' := [(4, .int v4_23), (2, .int v2_22), (0, .ref (E 0)), (1, .int a1), (3, .int v3_2)]) hx hb dX0_pairsOut_55 hl (k := 4) rfl (by rw [ev4_23]; rfl) (by decide) rfl (fun ls hl => ?_)
                    refine lv_goto (tgt := 13) hx hb dX0_pairsOut_58 (by decide) ?_
                    obtain rfl := ob_s hf
                    exact ih _ _ (h7a _ rfl) K7_0 H locs ls hP hS (lv_sub hl [2, 3, 1, 4, 0] rfl)
                  · replace hf := ob_f hf c21
                    refine lv_iconst (v := 1) hx hb dX0_pairsOut_48 (by decide) ?_
                    refine lv_goto (tgt := 53) hx hb dX0_pairsOut_49 (by decide) ?_
                    refine lv_iadd hx hb dX0_pairsOut_53 ?_
                    obtain ⟨v2_24, ev2_24, hf⟩ := ob_bnd hf
                    refine xn_i ev2_24 ?_
                    refine lv_istore_n (lv' := [(2, .int v2_24), (0, .ref (E 0)), (1, .int a1), (3, .int v3_2), (4, .int v4_6)]) hx hb dX0_pairsOut_54 rfl hl (by decide) rfl (fun ls hl => ?_)
                    obtain ⟨v4_25, ev4_25, hf⟩ := ob_bnd hf
                    refine lv_iinc (v := v4_25) (lv' := [(4, .int v4_25), (2, .int v2_24), (0, .ref (E 0)), (1, .int a1), (3, .int v3_2)]) hx hb dX0_pairsOut_55 hl (k := 4) rfl (by rw [ev4_25]; rfl) (by decide) rfl (fun ls hl => ?_)
                    refine lv_goto (tgt := 13) hx hb dX0_pairsOut_58 (by decide) ?_
                    obtain rfl := ob_s hf
                    exact ih _ _ (h7a _ rfl) K7_0 H locs ls hP hS (lv_sub hl [2, 3, 1, 4, 0] rfl)
        refine kL13 n7 v2_1 0 hn7 (fun H locs ls hP hS hl => ?_) H locs ls hP hS (lv_sub hl [1, 2, 3, 4, 0] rfl)
        replace hf : X_pairsOut_x13_61 v3_2 b7 = some r3 := hf
        unfold X_pairsOut_x13_61 at hf
        obtain ⟨v3_26, ev3_26, hf⟩ := ob_bnd hf
        refine lv_iinc (v := v3_26) (lv' := [(3, .int v3_26), (0, .ref (E 0)), (1, .int a1), (2, .int b7)]) hx hb dX0_pairsOut_61 hl (k := 3) rfl (by rw [ev3_26]; rfl) (by decide) rfl (fun ls hl => ?_)
        refine lv_goto (tgt := 4) hx hb dX0_pairsOut_64 (by decide) ?_
        obtain rfl := ob_s hf
        exact ih _ _ (h3a _ rfl) K3_0 H locs ls hP hS (lv_sub hl [1, 2, 3, 0] rfl)
  refine kL4 n3 0 0 hn3 (fun H locs ls hP hS hl => ?_) H locs ls hP hS (lv_sub hl [2, 3, 1, 0] rfl)
  replace hf : X_pairsOut_x4_67 b3 = some res := hf
  unfold X_pairsOut_x4_67 at hf
  refine lv_iload_n hx hb dX0_pairsOut_67 rfl (lv_at hl 0 rfl) ?_
  obtain rfl := ob_s hf
  subst hQ
  exact xe_i hx hb hr hlocks hP hS dX0_pairsOut_68
abbrev rmX0_cut : Room := { frames := 3, cells := 0, slots := 0, locals := 70 }
theorem cdX0_cut : yX0_cut.cls = RX0 ∧ yX0_cut.cls ≠ "java/lang/invoke/MethodHandle" ∧ yX0_cut.cls ≠ "java/lang/invoke/VarHandle" ∧ (parseMethodDescriptor yX0_cut.desc).map (fun d => d.parameters.length) = some 2 := by decide +kernel
set_option maxHeartbeats 4000000 in
set_option maxRecDepth 100000 in
theorem wkX0_cut (l : Launch) (D : va_G) (dA : Nat → ClassId) (E : Nat → Nat) (hE : wInj 136 E) (T : Tx) (J : State → Heap → Prop) (hJ : JP D dA E T J) (w : Mm) (a1 : Int32) (a2 : Int32) {res : Int32} (hf : X_cut w a1 a2 = some res) : Met l yX0_cut (ws_ yX0_cut cX0_cut 5 (some .int)) rmX0_cut (Pj D dA E J [.ref (E 0), .int a1, .int a2] w) (Qwi D clX shX 136 dA E res w) 0 0 (AE 136 E) := by
  refine xj_head (own := RX0) (by decide) rfl (Nat.le_of_ble_eq_true rfl) ?_
  intro p e s m args below meth c ls Q hQ C hP hl
  obtain ⟨hx, hb, hr, hlocks, hml, hown, hts, hK, hJs⟩ := C
  replace hl : lv_has ls 5 [(0, .ref (E 0)), (1, .int a1), (2, .int a2)] := hl
  have hS : va_S (AE 136 E) s.heap s.heap [] := va_S.rf
  have hD : wD 136 E (AE 136 E) := wD.self hE
  unfold X_cut at hf
  obtain ⟨H, eH⟩ : ∃ H, H = s.heap := ⟨_, rfl⟩
  obtain ⟨locs, eL⟩ : ∃ locs : List Loc, locs = [] := ⟨_, rfl⟩
  rw [← eL] at hS ⊢
  rw [← eH] at hP
  have hS : va_S (AE 136 E) s.heap H locs := by rw [eH]; exact hS
  show W p l e rmX0_cut s m args below meth c s.heap locs 0 0 Q (F0 m 0 ls [])
  rw [← eH]
  refine lv_iload_n hx hb dX0_cut_0 rfl (lv_at hl 1 rfl) ?_
  refine lv_iload_n hx hb dX0_cut_1 rfl (lv_at hl 2 rfl) ?_
  obtain ⟨q2, g1, hf⟩ := ob_bind hf
  refine xc_z (xj_runS (As := [.int a1, .int a2]) (rest := []) hJ hJs hS ⟨hx, hb, hml, hown, hts⟩ (wkX0_isPair l D dA E hE T J hJ w a1 a2 g1) (va_cwS 2 hts (lw_S q313 q314 q136 q315) rfl rfl rfl cdX0_isPair.2 ⟨Nat.le_of_ble_eq_true rfl, Nat.le_of_ble_eq_true rfl⟩) hK hP hl.1 rfl rfl (Nat.le_of_ble_eq_true rfl) dX0_cut_2 ⟨Nat.zero_le _, Nat.zero_le _⟩) hS hD.2 (fun H locs zq2 hP hS => ?_)
  refine lv_if_ne (tgt := 10) hx hb dX0_cut_5 (by decide) (fun c3 => ?_) (fun c3 => ?_)
  · replace hf := ob_f hf c3
    refine lv_ldcw (v := 9999999) hx hb hown (hts _ q1229) dX0_cut_10 ?_
    refine lv_istore_n (lv' := [(3, .int 9999999), (0, .ref (E 0)), (1, .int a1), (2, .int a2)]) hx hb dX0_cut_13 rfl hl (by decide) rfl (fun ls hl => ?_)
    refine lv_iconst (v := 0) hx hb dX0_cut_14 (by decide) ?_
    refine lv_istore (lv' := [(4, .int 0), (3, .int 9999999), (0, .ref (E 0)), (1, .int a1), (2, .int a2)]) hx hb dX0_cut_15 hl (by decide) rfl (fun ls hl => ?_)
    obtain ⟨b6, hb6, hf⟩ := ob_bind hf
    obtain ⟨n6, hn6⟩ := lp_some hb6
    have kL17 : ∀ (n : Nat) (v3_4 : Int32) (v4_5 : Int32), lpF (fun (q6 : Int32 × Int32) => X_cut_b17 a1 a2 w q6.1 q6.2) n (v3_4, v4_5) = some b6 → (∀ (H : Heap) (locs : List Loc) (ls : Array Slot), va_P D clX (wl shX 136 dA E w) H → va_S (AE 136 E) s.heap H locs → lv_has ls 5 [(3, .int b6)] → W p l e rmX0_cut s m args below meth c H locs 0 0 Q (F0 m 59 ls [])) → ∀ (H : Heap) (locs : List Loc) (ls : Array Slot), va_P D clX (wl shX 136 dA E w) H → va_S (AE 136 E) s.heap H locs → lv_has ls 5 [(0, .ref (E 0)), (1, .int a1), (2, .int a2), (3, .int v3_4), (4, .int v4_5)] → W p l e rmX0_cut s m args below meth c H locs 0 0 Q (F0 m 17 ls []) := by
      intro n
      induction n with
      | zero =>
        intro v3_4 v4_5 hq9
        cases hq9
      | succ n ih =>
        intro v3_4 v4_5 hq9 K6_0 H locs ls hP hS hl
        obtain ⟨r6, hf, h6a, h6b⟩ := lpF_step hq9
        replace hf : X_cut_b17 a1 a2 w v3_4 v4_5 = some r6 := hf
        unfold X_cut_b17 at hf
        refine lv_iload hx hb dX0_cut_17 (lv_at hl 4 rfl) ?_
        refine lv_bipush (v := 63) hx hb dX0_cut_19 (by decide) ?_
        refine lv_icmp_gt (tgt := 59) hx hb dX0_cut_21 (by decide) (fun c7 => ?_) (fun c7 => ?_)
        · replace hf := ob_t hf c7
          obtain rfl := ob_s hf
          obtain rfl := h6b _ rfl
          exact K6_0 H locs ls hP hS (lv_sub hl [3] rfl)
        · replace hf := ob_f hf c7
          refine lv_iload hx hb dX0_cut_24 (lv_at hl 4 rfl) ?_
          refine lv_iload_n hx hb dX0_cut_26 rfl (lv_at hl 1 rfl) ?_
          obtain ⟨q9, g8, hf⟩ := ob_bind hf
          refine xc_z (xj_runS (As := [.int v4_5, .int a1]) (rest := []) hJ hJs hS ⟨hx, hb, hml, hown, hts⟩ (wkX0_has l D dA E hE T J hJ w v4_5 a1 g8) (va_cwS 2 hts (lw_S q1174 q1175 q136 q1176) rfl rfl rfl cdX0_has.2 ⟨Nat.le_of_ble_eq_true rfl, Nat.le_of_ble_eq_true rfl⟩) hK hP hl.1 rfl rfl (Nat.le_of_ble_eq_true rfl) dX0_cut_27 ⟨Nat.zero_le _, Nat.zero_le _⟩) hS hD.2 (fun H locs zq9 hP hS => ?_)
          refine lv_if_eq (tgt := 53) hx hb dX0_cut_30 (by decide) (fun c10 => ?_) (fun c10 => ?_)
          · replace hf := ob_t hf c10
            obtain ⟨v4_11, ev4_11, hf⟩ := ob_bnd hf
            refine lv_iinc (v := v4_11) (lv' := [(4, .int v4_11), (0, .ref (E 0)), (1, .int a1), (2, .int a2), (3, .int v3_4)]) hx hb dX0_cut_53 hl (k := 4) rfl (by rw [ev4_11]; rfl) (by decide) rfl (fun ls hl => ?_)
            refine lv_goto (tgt := 17) hx hb dX0_cut_56 (by decide) ?_
            obtain rfl := ob_s hf
            exact ih _ _ (h6a _ rfl) K6_0 H locs ls hP hS (lv_sub hl [1, 2, 3, 4, 0] rfl)
          · replace hf := ob_f hf c10
            refine lv_iload hx hb dX0_cut_33 (lv_at hl 4 rfl) ?_
            refine lv_iload_n hx hb dX0_cut_35 rfl (lv_at hl 2 rfl) ?_
            obtain ⟨q13, g12, hf⟩ := ob_bind hf
            refine xc_z (xj_runS (As := [.int v4_5, .int a2]) (rest := []) hJ hJs hS ⟨hx, hb, hml, hown, hts⟩ (wkX0_has l D dA E hE T J hJ w v4_5 a2 g12) (va_cwS 2 hts (lw_S q1174 q1175 q136 q1176) rfl rfl rfl cdX0_has.2 ⟨Nat.le_of_ble_eq_true rfl, Nat.le_of_ble_eq_true rfl⟩) hK hP hl.1 rfl rfl (Nat.le_of_ble_eq_true rfl) dX0_cut_36 ⟨Nat.zero_le _, Nat.zero_le _⟩) hS hD.2 (fun H locs zq13 hP hS => ?_)
            refine lv_if_ne (tgt := 53) hx hb dX0_cut_39 (by decide) (fun c14 => ?_) (fun c14 => ?_)
            · replace hf := ob_f hf c14
              obtain ⟨v4_15, ev4_15, hf⟩ := ob_bnd hf
              refine lv_iinc (v := v4_15) (lv' := [(4, .int v4_15), (0, .ref (E 0)), (1, .int a1), (2, .int a2), (3, .int v3_4)]) hx hb dX0_cut_53 hl (k := 4) rfl (by rw [ev4_15]; rfl) (by decide) rfl (fun ls hl => ?_)
              refine lv_goto (tgt := 17) hx hb dX0_cut_56 (by decide) ?_
              obtain rfl := ob_s hf
              exact ih _ _ (h6a _ rfl) K6_0 H locs ls hP hS (lv_sub hl [1, 2, 3, 4, 0] rfl)
            · replace hf := ob_t hf c14
              refine lv_iload_n hx hb dX0_cut_42 rfl (lv_at hl 3 rfl) ?_
              refine lv_aload_n hx hb dX0_cut_43 rfl (lv_at hl 0 rfl) ?_
              refine lv_iload hx hb dX0_cut_44 (lv_at hl 4 rfl) ?_
              obtain ⟨q17, g16, hf⟩ := ob_bind hf
              refine xc_i (xj_run (As := [.int v4_5]) (rest := [.int v3_4]) hJ hJs hS ⟨hx, hb, hml, hown, hts⟩ (k0 := 0) (wkX0_pairsOut l D dA E hE T J hJ w v4_5 g16) (cwV 1 hts (lw_V q1247 q1249 qs48 q136 q1250) rfl rfl rfl cdX0_pairsOut ⟨Nat.le_of_ble_eq_true rfl, Nat.le_of_ble_eq_true rfl⟩) hK hP (by decide) rfl rfl rfl hl.1 rfl rfl (Nat.le_of_ble_eq_true rfl) dX0_cut_46 ⟨Nat.zero_le _, Nat.zero_le _⟩) hS hD.2 (fun H locs hP hS => ?_)
              refine xr_mmin hx hb (hml.trans hl.1.symm) hown (hts _ q918) (hts _ q492) (hts _ q150) (hts _ q493) (Nat.le_of_ble_eq_true rfl) (Nat.le_of_ble_eq_true rfl) (Nat.zero_le _) (Nat.zero_le _) dX0_cut_49 ?_
              obtain ⟨v3_18, ev3_18, hf⟩ := ob_bnd hf
              refine xn_i ev3_18 ?_
              refine lv_istore_n (lv' := [(3, .int v3_18), (0, .ref (E 0)), (1, .int a1), (2, .int a2), (4, .int v4_5)]) hx hb dX0_cut_52 rfl hl (by decide) rfl (fun ls hl => ?_)
              obtain ⟨v4_19, ev4_19, hf⟩ := ob_bnd hf
              refine lv_iinc (v := v4_19) (lv' := [(4, .int v4_19), (3, .int v3_18), (0, .ref (E 0)), (1, .int a1), (2, .int a2)]) hx hb dX0_cut_53 hl (k := 4) rfl (by rw [ev4_19]; rfl) (by decide) rfl (fun ls hl => ?_)
              refine lv_goto (tgt := 17) hx hb dX0_cut_56 (by decide) ?_
              obtain rfl := ob_s hf
              exact ih _ _ (h6a _ rfl) K6_0 H locs ls hP hS (lv_sub hl [2, 3, 4, 1, 0] rfl)
    refine kL17 n6 9999999 0 hn6 (fun H locs ls hP hS hl => ?_) H locs ls hP hS (lv_sub hl [2, 3, 4, 1, 0] rfl)
    replace hf : X_cut_x17_59 b6 = some res := hf
    unfold X_cut_x17_59 at hf
    refine lv_iload_n hx hb dX0_cut_59 rfl (lv_at hl 0 rfl) ?_
    obtain rfl := ob_s hf
    subst hQ
    exact xe_i hx hb hr hlocks hP hS dX0_cut_60
  · replace hf := ob_t hf c3
    refine lv_iconst (v := (-1)) hx hb dX0_cut_8 (by decide) ?_
    obtain rfl := ob_s hf
    subst hQ
    exact xe_i hx hb hr hlocks hP hS dX0_cut_9
abbrev rmX0_isGossip : Room := { frames := 3, cells := 0, slots := 0, locals := 72 }
theorem cdX0_isGossip : yX0_isGossip.cls = RX0 ∧ yX0_isGossip.cls ≠ "java/lang/invoke/MethodHandle" ∧ yX0_isGossip.cls ≠ "java/lang/invoke/VarHandle" ∧ (parseMethodDescriptor yX0_isGossip.desc).map (fun d => d.parameters.length) = some 1 := by decide +kernel
set_option maxHeartbeats 4000000 in
set_option maxRecDepth 100000 in
theorem wkX0_isGossip (l : Launch) (D : va_G) (dA : Nat → ClassId) (E : Nat → Nat) (hE : wInj 136 E) (T : Tx) (J : State → Heap → Prop) (hJ : JP D dA E T J) (w : Mm) (a1 : Int32) {res : Int32} (hf : X_isGossip w a1 = some res) : Met l yX0_isGossip (ws_ yX0_isGossip cX0_isGossip 3 (some .boolean)) rmX0_isGossip (Pj D dA E J [.ref (E 0), .int a1] w) (Qwz D clX shX 136 dA E res w) 0 0 (AE 136 E) := by
  refine xj_head (own := RX0) (by decide) rfl (Nat.le_of_ble_eq_true rfl) ?_
  intro p e s m args below meth c ls Q hQ C hP hl
  obtain ⟨hx, hb, hr, hlocks, hml, hown, hts, hK, hJs⟩ := C
  replace hl : lv_has ls 3 [(0, .ref (E 0)), (1, .int a1)] := hl
  have hS : va_S (AE 136 E) s.heap s.heap [] := va_S.rf
  have hD : wD 136 E (AE 136 E) := wD.self hE
  unfold X_isGossip at hf
  obtain ⟨H, eH⟩ : ∃ H, H = s.heap := ⟨_, rfl⟩
  obtain ⟨locs, eL⟩ : ∃ locs : List Loc, locs = [] := ⟨_, rfl⟩
  rw [← eL] at hS ⊢
  rw [← eH] at hP
  have hS : va_S (AE 136 E) s.heap H locs := by rw [eH]; exact hS
  show W p l e rmX0_isGossip s m args below meth c s.heap locs 0 0 Q (F0 m 0 ls [])
  rw [← eH]
  refine lv_aload_n hx hb dX0_isGossip_0 rfl (lv_at hl 0 rfl) ?_
  refine lv_iload_n hx hb dX0_isGossip_1 rfl (lv_at hl 1 rfl) ?_
  refine lv_iconst (v := 0) hx hb dX0_isGossip_2 (by decide) ?_
  obtain ⟨q2, g1, hf⟩ := ob_bind hf
  refine xc_i (xj_run (As := [.int a1, .int 0]) (rest := []) hJ hJs hS ⟨hx, hb, hml, hown, hts⟩ (k0 := 0) (wkX0_groupOf l D dA E hE T J hJ w a1 0 g1) (cwV 2 hts (lw_V q1209 q1211 qs45 q136 q1212) rfl rfl rfl cdX0_groupOf ⟨Nat.le_of_ble_eq_true rfl, Nat.le_of_ble_eq_true rfl⟩) hK hP (by decide) rfl rfl rfl hl.1 rfl rfl (Nat.le_of_ble_eq_true rfl) dX0_isGossip_3 ⟨Nat.zero_le _, Nat.zero_le _⟩) hS hD.2 (fun H locs hP hS => ?_)
  refine lv_iconst (v := 1) hx hb dX0_isGossip_6 (by decide) ?_
  refine lv_iload_n hx hb dX0_isGossip_7 rfl (lv_at hl 1 rfl) ?_
  refine lv_ishl hx hb dX0_isGossip_8 ?_
  refine lv_iconst (v := (-1)) hx hb dX0_isGossip_9 (by decide) ?_
  refine lv_ixor hx hb dX0_isGossip_10 ?_
  refine lv_iand hx hb dX0_isGossip_11 ?_
  obtain ⟨v2_3, ev2_3, hf⟩ := ob_bnd hf
  refine xn_i ev2_3 ?_
  refine lv_istore_n (lv' := [(2, .int v2_3), (0, .ref (E 0)), (1, .int a1)]) hx hb dX0_isGossip_12 rfl hl (by decide) rfl (fun ls hl => ?_)
  refine lv_iload_n hx hb dX0_isGossip_13 rfl (lv_at hl 0 rfl) ?_
  refine lv_if_eq (tgt := 39) hx hb dX0_isGossip_14 (by decide) (fun c4 => ?_) (fun c4 => ?_)
  · replace hf := ob_t hf c4
    refine lv_iconst (v := 0) hx hb dX0_isGossip_39 (by decide) ?_
    obtain rfl := ob_s hf
    subst hQ
    exact xe_z hx hb hr hlocks hP hS (Or.inl rfl) dX0_isGossip_40
  · replace hf := ob_f hf c4
    refine lv_iload_n hx hb dX0_isGossip_17 rfl (lv_at hl 0 rfl) ?_
    refine lv_aload_n hx hb dX0_isGossip_18 rfl (lv_at hl 1 rfl) ?_
    refine lv_iload_n hx hb dX0_isGossip_19 rfl (lv_at hl 0 rfl) ?_
    obtain ⟨q6, g5, hf⟩ := ob_bind hf
    refine xc_i (xj_runS (As := [.int v2_3]) (rest := [.ref (E 0), .int v2_3]) hJ hJs hS ⟨hx, hb, hml, hown, hts⟩ (wkJ15_numberOfTrailingZeros l D dA E hE T J hJ w v2_3 g5) (va_cwS 1 hts (lw_S q1217 q1218 q168 q1219) rfl rfl rfl cdJ15_numberOfTrailingZeros.2 ⟨Nat.le_of_ble_eq_true rfl, Nat.le_of_ble_eq_true rfl⟩) hK hP hl.1 rfl rfl (Nat.le_of_ble_eq_true rfl) dX0_isGossip_20 ⟨Nat.zero_le _, Nat.zero_le _⟩) hS hD.2 (fun H locs hP hS => ?_)
    refine lv_iconst (v := 1) hx hb dX0_isGossip_23 (by decide) ?_
    refine lv_iload_n hx hb dX0_isGossip_24 rfl (lv_at hl 2 rfl) ?_
    refine lv_ishl hx hb dX0_isGossip_25 ?_
    obtain ⟨q8, g7, hf⟩ := ob_bind hf
    refine xc_i (xj_run (As := [.int q6, .int ((1 : Int32) <<< (a1 &&& 31))]) (rest := [.int v2_3]) hJ hJs hS ⟨hx, hb, hml, hown, hts⟩ (k0 := 0) (wkX0_groupOf l D dA E hE T J hJ w q6 ((1 : Int32) <<< (a1 &&& 31)) g7) (cwV 2 hts (lw_V q1209 q1211 qs45 q136 q1212) rfl rfl rfl cdX0_groupOf ⟨Nat.le_of_ble_eq_true rfl, Nat.le_of_ble_eq_true rfl⟩) hK hP (by decide) rfl rfl rfl hl.1 rfl rfl (Nat.le_of_ble_eq_true rfl) dX0_isGossip_26 ⟨Nat.zero_le _, Nat.zero_le _⟩) hS hD.2 (fun H locs hP hS => ?_)
    refine lv_iconst (v := (-1)) hx hb dX0_isGossip_29 (by decide) ?_
    refine lv_ixor hx hb dX0_isGossip_30 ?_
    refine lv_iand hx hb dX0_isGossip_31 ?_
    refine lv_if_eq (tgt := 39) hx hb dX0_isGossip_32 (by decide) (fun c9 => ?_) (fun c9 => ?_)
    · replace hf := ob_t hf c9
      refine lv_iconst (v := 0) hx hb dX0_isGossip_39 (by decide) ?_
      obtain rfl := ob_s hf
      subst hQ
      exact xe_z hx hb hr hlocks hP hS (Or.inl rfl) dX0_isGossip_40
    · replace hf := ob_f hf c9
      refine lv_iconst (v := 1) hx hb dX0_isGossip_35 (by decide) ?_
      refine lv_goto (tgt := 40) hx hb dX0_isGossip_36 (by decide) ?_
      obtain rfl := ob_s hf
      subst hQ
      exact xe_z hx hb hr hlocks hP hS (Or.inr rfl) dX0_isGossip_40
abbrev rmX0_gossips : Room := { frames := 4, cells := 0, slots := 0, locals := 94 }
theorem cdX0_gossips : yX0_gossips.cls = RX0 ∧ yX0_gossips.cls ≠ "java/lang/invoke/MethodHandle" ∧ yX0_gossips.cls ≠ "java/lang/invoke/VarHandle" ∧ (parseMethodDescriptor yX0_gossips.desc).map (fun d => d.parameters.length) = some 0 := by decide +kernel
set_option maxHeartbeats 4000000 in
set_option maxRecDepth 100000 in
theorem wkX0_gossips (l : Launch) (D : va_G) (dA : Nat → ClassId) (E : Nat → Nat) (hE : wInj 136 E) (T : Tx) (J : State → Heap → Prop) (hJ : JP D dA E T J) (w : Mm)  {res : Int32} (hf : X_gossips w = some res) : Met l yX0_gossips (ws_ yX0_gossips cX0_gossips 3 (some .int)) rmX0_gossips (Pj D dA E J [.ref (E 0)] w) (Qwi D clX shX 136 dA E res w) 0 0 (AE 136 E) := by
  refine xj_head (own := RX0) (by decide) rfl (Nat.le_of_ble_eq_true rfl) ?_
  intro p e s m args below meth c ls Q hQ C hP hl
  obtain ⟨hx, hb, hr, hlocks, hml, hown, hts, hK, hJs⟩ := C
  replace hl : lv_has ls 3 [(0, .ref (E 0))] := hl
  have hS : va_S (AE 136 E) s.heap s.heap [] := va_S.rf
  have hD : wD 136 E (AE 136 E) := wD.self hE
  unfold X_gossips at hf
  obtain ⟨H, eH⟩ : ∃ H, H = s.heap := ⟨_, rfl⟩
  obtain ⟨locs, eL⟩ : ∃ locs : List Loc, locs = [] := ⟨_, rfl⟩
  rw [← eL] at hS ⊢
  rw [← eH] at hP
  have hS : va_S (AE 136 E) s.heap H locs := by rw [eH]; exact hS
  show W p l e rmX0_gossips s m args below meth c s.heap locs 0 0 Q (F0 m 0 ls [])
  rw [← eH]
  refine lv_iconst (v := 0) hx hb dX0_gossips_0 (by decide) ?_
  refine lv_istore_n (lv' := [(1, .int 0), (0, .ref (E 0))]) hx hb dX0_gossips_1 rfl hl (by decide) rfl (fun ls hl => ?_)
  refine lv_iconst (v := 0) hx hb dX0_gossips_2 (by decide) ?_
  refine lv_istore_n (lv' := [(2, .int 0), (1, .int 0), (0, .ref (E 0))]) hx hb dX0_gossips_3 rfl hl (by decide) rfl (fun ls hl => ?_)
  obtain ⟨b3, hb3, hf⟩ := ob_bind hf
  obtain ⟨n3, hn3⟩ := lp_some hb3
  have kL4 : ∀ (n : Nat) (v1_1 : Int32) (v2_2 : Int32), lpF (fun (q3 : Int32 × Int32) => X_gossips_b4 w q3.1 q3.2) n (v1_1, v2_2) = some b3 → (∀ (H : Heap) (locs : List Loc) (ls : Array Slot), va_P D clX (wl shX 136 dA E w) H → va_S (AE 136 E) s.heap H locs → lv_has ls 3 [(1, .int b3)] → W p l e rmX0_gossips s m args below meth c H locs 0 0 Q (F0 m 34 ls [])) → ∀ (H : Heap) (locs : List Loc) (ls : Array Slot), va_P D clX (wl shX 136 dA E w) H → va_S (AE 136 E) s.heap H locs → lv_has ls 3 [(0, .ref (E 0)), (1, .int v1_1), (2, .int v2_2)] → W p l e rmX0_gossips s m args below meth c H locs 0 0 Q (F0 m 4 ls []) := by
    intro n
    induction n with
    | zero =>
      intro v1_1 v2_2 hq9
      cases hq9
    | succ n ih =>
      intro v1_1 v2_2 hq9 K3_0 H locs ls hP hS hl
      obtain ⟨r3, hf, h3a, h3b⟩ := lpF_step hq9
      replace hf : X_gossips_b4 w v1_1 v2_2 = some r3 := hf
      unfold X_gossips_b4 at hf
      refine lv_iload_n hx hb dX0_gossips_4 rfl (lv_at hl 2 rfl) ?_
      refine lv_bipush (v := 6) hx hb dX0_gossips_5 (by decide) ?_
      refine lv_icmp_ge (tgt := 34) hx hb dX0_gossips_7 (by decide) (fun c4 => ?_) (fun c4 => ?_)
      · replace hf := ob_t hf c4
        obtain rfl := ob_s hf
        obtain rfl := h3b _ rfl
        exact K3_0 H locs ls hP hS (lv_sub hl [1] rfl)
      · replace hf := ob_f hf c4
        refine lv_iload_n hx hb dX0_gossips_10 rfl (lv_at hl 1 rfl) ?_
        refine lv_aload_n hx hb dX0_gossips_11 rfl (lv_at hl 0 rfl) ?_
        refine lv_iload_n hx hb dX0_gossips_12 rfl (lv_at hl 2 rfl) ?_
        obtain ⟨q6, g5, hf⟩ := ob_bind hf
        refine xc_z (xj_run (As := [.int v2_2]) (rest := [.int v1_1]) hJ hJs hS ⟨hx, hb, hml, hown, hts⟩ (k0 := 0) (wkX0_isGossip l D dA E hE T J hJ w v2_2 g5) (cwV 1 hts (lw_V q1255 q1257 qs49 q136 q1258) rfl rfl rfl cdX0_isGossip ⟨Nat.le_of_ble_eq_true rfl, Nat.le_of_ble_eq_true rfl⟩) hK hP (by decide) rfl rfl rfl hl.1 rfl rfl (Nat.le_of_ble_eq_true rfl) dX0_gossips_13 ⟨Nat.zero_le _, Nat.zero_le _⟩) hS hD.2 (fun H locs zq6 hP hS => ?_)
        refine lv_if_eq (tgt := 25) hx hb dX0_gossips_16 (by decide) (fun c7 => ?_) (fun c7 => ?_)
        · replace hf := ob_t hf c7
          refine lv_iconst (v := 0) hx hb dX0_gossips_25 (by decide) ?_
          refine lv_ior hx hb dX0_gossips_26 ?_
          obtain ⟨v1_8, ev1_8, hf⟩ := ob_bnd hf
          refine xn_i ev1_8 ?_
          refine lv_istore_n (lv' := [(1, .int v1_8), (0, .ref (E 0)), (2, .int v2_2)]) hx hb dX0_gossips_27 rfl hl (by decide) rfl (fun ls hl => ?_)
          obtain ⟨v2_9, ev2_9, hf⟩ := ob_bnd hf
          refine lv_iinc (v := v2_9) (lv' := [(2, .int v2_9), (1, .int v1_8), (0, .ref (E 0))]) hx hb dX0_gossips_28 hl (k := 2) rfl (by rw [ev2_9]; rfl) (by decide) rfl (fun ls hl => ?_)
          refine lv_goto (tgt := 4) hx hb dX0_gossips_31 (by decide) ?_
          obtain rfl := ob_s hf
          exact ih _ _ (h3a _ rfl) K3_0 H locs ls hP hS (lv_sub hl [2, 1, 0] rfl)
        · replace hf := ob_f hf c7
          refine lv_iconst (v := 1) hx hb dX0_gossips_19 (by decide) ?_
          refine lv_iload_n hx hb dX0_gossips_20 rfl (lv_at hl 2 rfl) ?_
          refine lv_ishl hx hb dX0_gossips_21 ?_
          refine lv_goto (tgt := 26) hx hb dX0_gossips_22 (by decide) ?_
          refine lv_ior hx hb dX0_gossips_26 ?_
          obtain ⟨v1_10, ev1_10, hf⟩ := ob_bnd hf
          refine xn_i ev1_10 ?_
          refine lv_istore_n (lv' := [(1, .int v1_10), (0, .ref (E 0)), (2, .int v2_2)]) hx hb dX0_gossips_27 rfl hl (by decide) rfl (fun ls hl => ?_)
          obtain ⟨v2_11, ev2_11, hf⟩ := ob_bnd hf
          refine lv_iinc (v := v2_11) (lv' := [(2, .int v2_11), (1, .int v1_10), (0, .ref (E 0))]) hx hb dX0_gossips_28 hl (k := 2) rfl (by rw [ev2_11]; rfl) (by decide) rfl (fun ls hl => ?_)
          refine lv_goto (tgt := 4) hx hb dX0_gossips_31 (by decide) ?_
          obtain rfl := ob_s hf
          exact ih _ _ (h3a _ rfl) K3_0 H locs ls hP hS (lv_sub hl [2, 1, 0] rfl)
  refine kL4 n3 0 0 hn3 (fun H locs ls hP hS hl => ?_) H locs ls hP hS (lv_sub hl [2, 1, 0] rfl)
  replace hf : X_gossips_x4_34 b3 = some res := hf
  unfold X_gossips_x4_34 at hf
  refine lv_iload_n hx hb dX0_gossips_34 rfl (lv_at hl 0 rfl) ?_
  obtain rfl := ob_s hf
  subst hQ
  exact xe_i hx hb hr hlocks hP hS dX0_gossips_35
abbrev rmX0_heatOf : Room := { frames := 1, cells := 0, slots := 0, locals := 21 }
theorem cdX0_heatOf : yX0_heatOf.cls = RX0 ∧ yX0_heatOf.cls ≠ "java/lang/invoke/MethodHandle" ∧ yX0_heatOf.cls ≠ "java/lang/invoke/VarHandle" ∧ (parseMethodDescriptor yX0_heatOf.desc).map (fun d => d.parameters.length) = some 1 := by decide +kernel
set_option maxHeartbeats 4000000 in
set_option maxRecDepth 100000 in
theorem wkX0_heatOf (l : Launch) (D : va_G) (dA : Nat → ClassId) (E : Nat → Nat) (hE : wInj 136 E) (T : Tx) (J : State → Heap → Prop) (hJ : JP D dA E T J) (w : Mm) (a1 : Int32) {res : Int32} (hf : X_heatOf w a1 = some res) : Met l yX0_heatOf (ws_ yX0_heatOf cX0_heatOf 4 (some .int)) rmX0_heatOf (Pj D dA E J [.ref (E 0), .int a1] w) (Qwi D clX shX 136 dA E res w) 0 0 (AE 136 E) := by
  refine xj_head (own := RX0) (by decide) rfl (Nat.le_of_ble_eq_true rfl) ?_
  intro p e s m args below meth c ls Q hQ C hP hl
  obtain ⟨hx, hb, hr, hlocks, hml, hown, hts, hK, hJs⟩ := C
  replace hl : lv_has ls 4 [(0, .ref (E 0)), (1, .int a1)] := hl
  have hS : va_S (AE 136 E) s.heap s.heap [] := va_S.rf
  have hD : wD 136 E (AE 136 E) := wD.self hE
  unfold X_heatOf at hf
  obtain ⟨H, eH⟩ : ∃ H, H = s.heap := ⟨_, rfl⟩
  obtain ⟨locs, eL⟩ : ∃ locs : List Loc, locs = [] := ⟨_, rfl⟩
  rw [← eL] at hS ⊢
  rw [← eH] at hP
  have hS : va_S (AE 136 E) s.heap H locs := by rw [eH]; exact hS
  show W p l e rmX0_heatOf s m args below meth c s.heap locs 0 0 Q (F0 m 0 ls [])
  rw [← eH]
  refine lv_iconst (v := 0) hx hb dX0_heatOf_0 (by decide) ?_
  refine lv_istore_n (lv' := [(2, .int 0), (0, .ref (E 0)), (1, .int a1)]) hx hb dX0_heatOf_1 rfl hl (by decide) rfl (fun ls hl => ?_)
  refine lv_iconst (v := 0) hx hb dX0_heatOf_2 (by decide) ?_
  refine lv_istore_n (lv' := [(3, .int 0), (2, .int 0), (0, .ref (E 0)), (1, .int a1)]) hx hb dX0_heatOf_3 rfl hl (by decide) rfl (fun ls hl => ?_)
  obtain ⟨b3, hb3, hf⟩ := ob_bind hf
  obtain ⟨n3, hn3⟩ := lp_some hb3
  have kL4 : ∀ (n : Nat) (v2_1 : Int32) (v3_2 : Int32), lpF (fun (q3 : Int32 × Int32) => X_heatOf_b4 w a1 q3.1 q3.2) n (v2_1, v3_2) = some b3 → (∀ (H : Heap) (locs : List Loc) (ls : Array Slot), va_P D clX (wl shX 136 dA E w) H → va_S (AE 136 E) s.heap H locs → lv_has ls 4 [(2, .int b3)] → W p l e rmX0_heatOf s m args below meth c H locs 0 0 Q (F0 m 45 ls [])) → ∀ (H : Heap) (locs : List Loc) (ls : Array Slot), va_P D clX (wl shX 136 dA E w) H → va_S (AE 136 E) s.heap H locs → lv_has ls 4 [(0, .ref (E 0)), (1, .int a1), (2, .int v2_1), (3, .int v3_2)] → W p l e rmX0_heatOf s m args below meth c H locs 0 0 Q (F0 m 4 ls []) := by
    intro n
    induction n with
    | zero =>
      intro v2_1 v3_2 hq9
      cases hq9
    | succ n ih =>
      intro v2_1 v3_2 hq9 K3_0 H locs ls hP hS hl
      obtain ⟨r3, hf, h3a, h3b⟩ := lpF_step hq9
      replace hf : X_heatOf_b4 w a1 v2_1 v3_2 = some r3 := hf
      unfold X_heatOf_b4 at hf
      refine lv_iload_n hx hb dX0_heatOf_4 rfl (lv_at hl 3 rfl) ?_
      refine lv_aload_n hx hb dX0_heatOf_5 rfl (lv_at hl 0 rfl) ?_
      obtain ⟨q5, g4, hf⟩ := ob_bind hf
      refine xc_i (xj_run (As := []) (rest := [.int v3_2]) hJ hJs hS ⟨hx, hb, hml, hown, hts⟩ (k0 := 0) (wkX0_quarrels l D dA E hE T J hJ w g4) (cwV 0 hts (lw_V q309 q311 qs0 q136 q312) rfl rfl rfl cdX0_quarrels ⟨Nat.le_of_ble_eq_true rfl, Nat.le_of_ble_eq_true rfl⟩) hK hP (by decide) rfl rfl rfl hl.1 rfl rfl (Nat.le_of_ble_eq_true rfl) dX0_heatOf_6 ⟨Nat.zero_le _, Nat.zero_le _⟩) hS hD.2 (fun H locs hP hS => ?_)
      refine lv_icmp_ge (tgt := 45) hx hb dX0_heatOf_9 (by decide) (fun c6 => ?_) (fun c6 => ?_)
      · replace hf := ob_t hf c6
        obtain rfl := ob_s hf
        obtain rfl := h3b _ rfl
        exact K3_0 H locs ls hP hS (lv_sub hl [2] rfl)
      · replace hf := ob_f hf c6
        refine lv_iload_n hx hb dX0_heatOf_12 rfl (lv_at hl 2 rfl) ?_
        refine lv_iload_n hx hb dX0_heatOf_13 rfl (lv_at hl 1 rfl) ?_
        refine lv_iload_n hx hb dX0_heatOf_14 rfl (lv_at hl 3 rfl) ?_
        obtain ⟨q8, g7, hf⟩ := ob_bind hf
        refine xc_z (xj_runS (As := [.int a1, .int v3_2]) (rest := [.int v2_1]) hJ hJs hS ⟨hx, hb, hml, hown, hts⟩ (wkX0_has l D dA E hE T J hJ w a1 v3_2 g7) (va_cwS 2 hts (lw_S q1174 q1175 q136 q1176) rfl rfl rfl cdX0_has.2 ⟨Nat.le_of_ble_eq_true rfl, Nat.le_of_ble_eq_true rfl⟩) hK hP hl.1 rfl rfl (Nat.le_of_ble_eq_true rfl) dX0_heatOf_15 ⟨Nat.zero_le _, Nat.zero_le _⟩) hS hD.2 (fun H locs zq8 hP hS => ?_)
        refine lv_if_eq (tgt := 36) hx hb dX0_heatOf_18 (by decide) (fun c9 => ?_) (fun c9 => ?_)
        · replace hf := ob_t hf c9
          refine lv_iconst (v := 0) hx hb dX0_heatOf_36 (by decide) ?_
          refine lv_iadd hx hb dX0_heatOf_37 ?_
          obtain ⟨v2_10, ev2_10, hf⟩ := ob_bnd hf
          refine xn_i ev2_10 ?_
          refine lv_istore_n (lv' := [(2, .int v2_10), (0, .ref (E 0)), (1, .int a1), (3, .int v3_2)]) hx hb dX0_heatOf_38 rfl hl (by decide) rfl (fun ls hl => ?_)
          obtain ⟨v3_11, ev3_11, hf⟩ := ob_bnd hf
          refine lv_iinc (v := v3_11) (lv' := [(3, .int v3_11), (2, .int v2_10), (0, .ref (E 0)), (1, .int a1)]) hx hb dX0_heatOf_39 hl (k := 3) rfl (by rw [ev3_11]; rfl) (by decide) rfl (fun ls hl => ?_)
          refine lv_goto (tgt := 4) hx hb dX0_heatOf_42 (by decide) ?_
          obtain rfl := ob_s hf
          exact ih _ _ (h3a _ rfl) K3_0 H locs ls hP hS (lv_sub hl [2, 3, 1, 0] rfl)
        · replace hf := ob_f hf c9
          refine lv_aload_n hx hb dX0_heatOf_21 rfl (lv_at hl 0 rfl) ?_
          refine xr_get hx hb hts in_X0 hown hK hP 0 (by decide) rfl rfl 0 (by decide) (hts _ q252) (fun _ h => h) rfl (v := .ref (E 1)) rfl dX0_heatOf_22 ?_
          refine xr_getN (host := "QuarrelsPawned") hx hb hts in_X1 hown hK hP 1 (by decide) rfl rfl 1 (by decide) (hJ.nest hJs 1 rfl) (fun _ h => h) rfl (v := .ref (E 4)) rfl dX0_heatOf_25 ?_
          refine lv_bipush (v := 20) hx hb dX0_heatOf_28 (by decide) ?_
          refine lv_iload_n hx hb dX0_heatOf_30 rfl (lv_at hl 3 rfl) ?_
          refine lv_iadd hx hb dX0_heatOf_31 ?_
          obtain ⟨h12, hf⟩ := ob_gd hf
          refine xr_iald hx hb hK hP 4 (by decide) rfl 0 rfl (j := (20 + v3_2).toNatClampNeg) h12 rfl dX0_heatOf_32 ?_
          refine lv_goto (tgt := 37) hx hb dX0_heatOf_33 (by decide) ?_
          refine lv_iadd hx hb dX0_heatOf_37 ?_
          obtain ⟨v2_13, ev2_13, hf⟩ := ob_bnd hf
          refine xn_i ev2_13 ?_
          refine lv_istore_n (lv' := [(2, .int v2_13), (0, .ref (E 0)), (1, .int a1), (3, .int v3_2)]) hx hb dX0_heatOf_38 rfl hl (by decide) rfl (fun ls hl => ?_)
          obtain ⟨v3_14, ev3_14, hf⟩ := ob_bnd hf
          refine lv_iinc (v := v3_14) (lv' := [(3, .int v3_14), (2, .int v2_13), (0, .ref (E 0)), (1, .int a1)]) hx hb dX0_heatOf_39 hl (k := 3) rfl (by rw [ev3_14]; rfl) (by decide) rfl (fun ls hl => ?_)
          refine lv_goto (tgt := 4) hx hb dX0_heatOf_42 (by decide) ?_
          obtain rfl := ob_s hf
          exact ih _ _ (h3a _ rfl) K3_0 H locs ls hP hS (lv_sub hl [2, 3, 1, 0] rfl)
  refine kL4 n3 0 0 hn3 (fun H locs ls hP hS hl => ?_) H locs ls hP hS (lv_sub hl [2, 3, 1, 0] rfl)
  replace hf : X_heatOf_x4_45 b3 = some res := hf
  unfold X_heatOf_x4_45 at hf
  refine lv_iload_n hx hb dX0_heatOf_45 rfl (lv_at hl 0 rfl) ?_
  obtain rfl := ob_s hf
  subst hQ
  exact xe_i hx hb hr hlocks hP hS dX0_heatOf_46
abbrev rmX0_isCooler : Room := { frames := 203, cells := 0, slots := 0, locals := 8068 }
theorem cdX0_isCooler : yX0_isCooler.cls = RX0 ∧ yX0_isCooler.cls ≠ "java/lang/invoke/MethodHandle" ∧ yX0_isCooler.cls ≠ "java/lang/invoke/VarHandle" ∧ (parseMethodDescriptor yX0_isCooler.desc).map (fun d => d.parameters.length) = some 2 := by decide +kernel
set_option maxHeartbeats 4000000 in
set_option maxRecDepth 100000 in
theorem wkX0_isCooler (l : Launch) (D : va_G) (dA : Nat → ClassId) (E : Nat → Nat) (hE : wInj 136 E) (T : Tx) (J : State → Heap → Prop) (hJ : JP D dA E T J) (w : Mm) (a1 : Int32) (a2 : Int32) {res : Int32 × Mm} (hf : X_isCooler T w a1 a2 = some res) : Met l yX0_isCooler (ws_ yX0_isCooler cX0_isCooler 3 (some .boolean)) rmX0_isCooler (Pj D dA E J [.ref (E 0), .int a1, .int a2] w) (Qwz D clX shX 136 dA E res.1 res.2) 0 0 (AE 136 E) := by
  refine xj_head (own := RX0) (by decide) rfl (Nat.le_of_ble_eq_true rfl) ?_
  intro p e s m args below meth c ls Q hQ C hP hl
  obtain ⟨hx, hb, hr, hlocks, hml, hown, hts, hK, hJs⟩ := C
  replace hl : lv_has ls 3 [(0, .ref (E 0)), (1, .int a1), (2, .int a2)] := hl
  have hS : va_S (AE 136 E) s.heap s.heap [] := va_S.rf
  have hD : wD 136 E (AE 136 E) := wD.self hE
  unfold X_isCooler at hf
  obtain ⟨H, eH⟩ : ∃ H, H = s.heap := ⟨_, rfl⟩
  obtain ⟨locs, eL⟩ : ∃ locs : List Loc, locs = [] := ⟨_, rfl⟩
  rw [← eL] at hS ⊢
  rw [← eH] at hP
  have hS : va_S (AE 136 E) s.heap H locs := by rw [eH]; exact hS
  show W p l e rmX0_isCooler s m args below meth c s.heap locs 0 0 Q (F0 m 0 ls [])
  rw [← eH]
  refine lv_aload_n hx hb dX0_isCooler_0 rfl (lv_at hl 0 rfl) ?_
  refine lv_iload_n hx hb dX0_isCooler_1 rfl (lv_at hl 1 rfl) ?_
  obtain ⟨q2, g1, hf⟩ := ob_bind hf
  refine xc_i (xj_run (As := [.int a1]) (rest := []) hJ hJs hS ⟨hx, hb, hml, hown, hts⟩ (k0 := 0) (wkX0_heatOf l D dA E hE T J hJ w a1 g1) (cwV 1 hts (lw_V q1267 q1269 qs51 q136 q1270) rfl rfl rfl cdX0_heatOf ⟨Nat.le_of_ble_eq_true rfl, Nat.le_of_ble_eq_true rfl⟩) hK hP (by decide) rfl rfl rfl hl.1 rfl rfl (Nat.le_of_ble_eq_true rfl) dX0_isCooler_2 ⟨Nat.zero_le _, Nat.zero_le _⟩) hS hD.2 (fun H locs hP hS => ?_)
  refine lv_aload_n hx hb dX0_isCooler_5 rfl (lv_at hl 0 rfl) ?_
  refine lv_iload_n hx hb dX0_isCooler_6 rfl (lv_at hl 2 rfl) ?_
  obtain ⟨q4, g3, hf⟩ := ob_bind hf
  refine xc_i (xj_run (As := [.int a2]) (rest := [.int q2]) hJ hJs hS ⟨hx, hb, hml, hown, hts⟩ (k0 := 0) (wkX0_heatOf l D dA E hE T J hJ w a2 g3) (cwV 1 hts (lw_V q1267 q1269 qs51 q136 q1270) rfl rfl rfl cdX0_heatOf ⟨Nat.le_of_ble_eq_true rfl, Nat.le_of_ble_eq_true rfl⟩) hK hP (by decide) rfl rfl rfl hl.1 rfl rfl (Nat.le_of_ble_eq_true rfl) dX0_isCooler_7 ⟨Nat.zero_le _, Nat.zero_le _⟩) hS hD.2 (fun H locs hP hS => ?_)
  refine lv_icmp_eq (tgt := 34) hx hb dX0_isCooler_10 (by decide) (fun c5 => ?_) (fun c5 => ?_)
  · replace hf := ob_t hf c5
    refine lv_aload_n hx hb dX0_isCooler_34 rfl (lv_at hl 0 rfl) ?_
    refine lv_iload_n hx hb dX0_isCooler_35 rfl (lv_at hl 1 rfl) ?_
    obtain ⟨q7, g6, hf⟩ := ob_bind hf
    refine xc_i (xj_run (As := [.int a1]) (rest := []) hJ hJs hS ⟨hx, hb, hml, hown, hts⟩ (k0 := 0) (wkX0_duesOfAll l D dA E hE T J hJ w a1 g6) (cwV 1 hts (lw_V q1170 q1172 qs41 q136 q1173) rfl rfl rfl cdX0_duesOfAll ⟨Nat.le_of_ble_eq_true rfl, Nat.le_of_ble_eq_true rfl⟩) hK hP (by decide) rfl rfl rfl hl.1 rfl rfl (Nat.le_of_ble_eq_true rfl) dX0_isCooler_36 ⟨Nat.zero_le _, Nat.zero_le _⟩) hS hD.2 (fun H locs hP hS => ?_)
    refine lv_aload_n hx hb dX0_isCooler_39 rfl (lv_at hl 0 rfl) ?_
    refine lv_iload_n hx hb dX0_isCooler_40 rfl (lv_at hl 2 rfl) ?_
    obtain ⟨q9, g8, hf⟩ := ob_bind hf
    refine xc_i (xj_run (As := [.int a2]) (rest := [.int q7.1]) hJ hJs hS ⟨hx, hb, hml, hown, hts⟩ (k0 := 0) (wkX0_duesOfAll l D dA E hE T J hJ q7.2 a2 g8) (cwV 1 hts (lw_V q1170 q1172 qs41 q136 q1173) rfl rfl rfl cdX0_duesOfAll ⟨Nat.le_of_ble_eq_true rfl, Nat.le_of_ble_eq_true rfl⟩) hK hP (by decide) rfl rfl rfl hl.1 rfl rfl (Nat.le_of_ble_eq_true rfl) dX0_isCooler_41 ⟨Nat.zero_le _, Nat.zero_le _⟩) hS hD.2 (fun H locs hP hS => ?_)
    refine lv_icmp_ge (tgt := 51) hx hb dX0_isCooler_44 (by decide) (fun c10 => ?_) (fun c10 => ?_)
    · replace hf := ob_t hf c10
      refine lv_iconst (v := 0) hx hb dX0_isCooler_51 (by decide) ?_
      obtain rfl := ob_s hf
      subst hQ
      exact xe_z hx hb hr hlocks hP hS (Or.inl rfl) dX0_isCooler_52
    · replace hf := ob_f hf c10
      refine lv_iconst (v := 1) hx hb dX0_isCooler_47 (by decide) ?_
      refine lv_goto (tgt := 52) hx hb dX0_isCooler_48 (by decide) ?_
      obtain rfl := ob_s hf
      subst hQ
      exact xe_z hx hb hr hlocks hP hS (Or.inr rfl) dX0_isCooler_52
  · replace hf := ob_f hf c5
    refine lv_aload_n hx hb dX0_isCooler_13 rfl (lv_at hl 0 rfl) ?_
    refine lv_iload_n hx hb dX0_isCooler_14 rfl (lv_at hl 1 rfl) ?_
    obtain ⟨q12, g11, hf⟩ := ob_bind hf
    refine xc_i (xj_run (As := [.int a1]) (rest := []) hJ hJs hS ⟨hx, hb, hml, hown, hts⟩ (k0 := 0) (wkX0_heatOf l D dA E hE T J hJ w a1 g11) (cwV 1 hts (lw_V q1267 q1269 qs51 q136 q1270) rfl rfl rfl cdX0_heatOf ⟨Nat.le_of_ble_eq_true rfl, Nat.le_of_ble_eq_true rfl⟩) hK hP (by decide) rfl rfl rfl hl.1 rfl rfl (Nat.le_of_ble_eq_true rfl) dX0_isCooler_15 ⟨Nat.zero_le _, Nat.zero_le _⟩) hS hD.2 (fun H locs hP hS => ?_)
    refine lv_aload_n hx hb dX0_isCooler_18 rfl (lv_at hl 0 rfl) ?_
    refine lv_iload_n hx hb dX0_isCooler_19 rfl (lv_at hl 2 rfl) ?_
    obtain ⟨q14, g13, hf⟩ := ob_bind hf
    refine xc_i (xj_run (As := [.int a2]) (rest := [.int q12]) hJ hJs hS ⟨hx, hb, hml, hown, hts⟩ (k0 := 0) (wkX0_heatOf l D dA E hE T J hJ w a2 g13) (cwV 1 hts (lw_V q1267 q1269 qs51 q136 q1270) rfl rfl rfl cdX0_heatOf ⟨Nat.le_of_ble_eq_true rfl, Nat.le_of_ble_eq_true rfl⟩) hK hP (by decide) rfl rfl rfl hl.1 rfl rfl (Nat.le_of_ble_eq_true rfl) dX0_isCooler_20 ⟨Nat.zero_le _, Nat.zero_le _⟩) hS hD.2 (fun H locs hP hS => ?_)
    refine lv_icmp_le (tgt := 30) hx hb dX0_isCooler_23 (by decide) (fun c15 => ?_) (fun c15 => ?_)
    · replace hf := ob_t hf c15
      refine lv_iconst (v := 0) hx hb dX0_isCooler_30 (by decide) ?_
      refine lv_goto (tgt := 52) hx hb dX0_isCooler_31 (by decide) ?_
      obtain rfl := ob_s hf
      subst hQ
      exact xe_z hx hb hr hlocks hP hS (Or.inl rfl) dX0_isCooler_52
    · replace hf := ob_f hf c15
      refine lv_iconst (v := 1) hx hb dX0_isCooler_26 (by decide) ?_
      refine lv_goto (tgt := 52) hx hb dX0_isCooler_27 (by decide) ?_
      obtain rfl := ob_s hf
      subst hQ
      exact xe_z hx hb hr hlocks hP hS (Or.inr rfl) dX0_isCooler_52
abbrev rmX0_cool : Room := { frames := 204, cells := 0, slots := 0, locals := 8090 }
theorem cdX0_cool : yX0_cool.cls = RX0 ∧ yX0_cool.cls ≠ "java/lang/invoke/MethodHandle" ∧ yX0_cool.cls ≠ "java/lang/invoke/VarHandle" ∧ (parseMethodDescriptor yX0_cool.desc).map (fun d => d.parameters.length) = some 1 := by decide +kernel
set_option maxHeartbeats 4000000 in
set_option maxRecDepth 100000 in
theorem wkX0_cool (l : Launch) (D : va_G) (dA : Nat → ClassId) (E : Nat → Nat) (hE : wInj 136 E) (T : Tx) (J : State → Heap → Prop) (hJ : JP D dA E T J) (w : Mm) (a1 : Int32) {res : Int32 × Mm} (hf : X_cool T w a1 = some res) : Met l yX0_cool (ws_ yX0_cool cX0_cool 5 (some .int)) rmX0_cool (Pj D dA E J [.ref (E 0), .int a1] w) (Qwi D clX shX 136 dA E res.1 res.2) 0 0 (AE 136 E) := by
  refine xj_head (own := RX0) (by decide) rfl (Nat.le_of_ble_eq_true rfl) ?_
  intro p e s m args below meth c ls Q hQ C hP hl
  obtain ⟨hx, hb, hr, hlocks, hml, hown, hts, hK, hJs⟩ := C
  replace hl : lv_has ls 5 [(0, .ref (E 0)), (1, .int a1)] := hl
  have hS : va_S (AE 136 E) s.heap s.heap [] := va_S.rf
  have hD : wD 136 E (AE 136 E) := wD.self hE
  unfold X_cool at hf
  obtain ⟨H, eH⟩ : ∃ H, H = s.heap := ⟨_, rfl⟩
  obtain ⟨locs, eL⟩ : ∃ locs : List Loc, locs = [] := ⟨_, rfl⟩
  rw [← eL] at hS ⊢
  rw [← eH] at hP
  have hS : va_S (AE 136 E) s.heap H locs := by rw [eH]; exact hS
  show W p l e rmX0_cool s m args below meth c s.heap locs 0 0 Q (F0 m 0 ls [])
  rw [← eH]
  refine lv_iload_n hx hb dX0_cool_0 rfl (lv_at hl 1 rfl) ?_
  refine lv_iconst (v := 0) hx hb dX0_cool_1 (by decide) ?_
  refine lv_iconst (v := 2) hx hb dX0_cool_2 (by decide) ?_
  obtain ⟨q2, g1, hf⟩ := ob_bind hf
  refine xc_z (xj_runS (As := [.int a1, .int 0, .int 2]) (rest := []) hJ hJs hS ⟨hx, hb, hml, hown, hts⟩ (wkX0_in l D dA E hE T J hJ w a1 0 2 g1) (va_cwS 3 hts (lw_S q319 q320 q136 q321) rfl rfl rfl cdX0_in.2 ⟨Nat.le_of_ble_eq_true rfl, Nat.le_of_ble_eq_true rfl⟩) hK hP hl.1 rfl rfl (Nat.le_of_ble_eq_true rfl) dX0_cool_3 ⟨Nat.zero_le _, Nat.zero_le _⟩) hS hD.2 (fun H locs zq2 hP hS => ?_)
  refine lv_if_ne (tgt := 11) hx hb dX0_cool_6 (by decide) (fun c3 => ?_) (fun c3 => ?_)
  · replace hf := ob_f hf c3
    refine lv_aload_n hx hb dX0_cool_11 rfl (lv_at hl 0 rfl) ?_
    refine lv_aload_n hx hb dX0_cool_12 rfl (lv_at hl 0 rfl) ?_
    refine xr_get hx hb hts in_X0 hown hK hP 0 (by decide) rfl rfl 0 (by decide) (hts _ q252) (fun _ h => h) rfl (v := .ref (E 1)) rfl dX0_cool_13 ?_
    refine xr_getN (host := "QuarrelsPawned") hx hb hts in_X1 hown hK hP 1 (by decide) rfl rfl 1 (by decide) (hJ.nest hJs 1 rfl) (fun _ h => h) rfl (v := .ref (E 4)) rfl dX0_cool_16 ?_
    obtain ⟨q5, g4, hf⟩ := ob_bind hf
    refine xc_i (xj_run (As := [.ref (E 4)]) (rest := []) hJ hJs hS ⟨hx, hb, hml, hown, hts⟩ (k0 := 0) (wkX0_pawnedIn l D dA E hE T J hJ w 4 g4 (by decide) rfl) (cwV 1 hts (lw_V q1099 q1101 qs37 q136 q1102) rfl rfl rfl cdX0_pawnedIn ⟨Nat.le_of_ble_eq_true rfl, Nat.le_of_ble_eq_true rfl⟩) hK hP (by decide) rfl rfl rfl hl.1 rfl rfl (Nat.le_of_ble_eq_true rfl) dX0_cool_19 ⟨Nat.zero_le _, Nat.zero_le _⟩) hS hD.2 (fun H locs hP hS => ?_)
    refine lv_istore_n (lv' := [(2, .int q5), (0, .ref (E 0)), (1, .int a1)]) hx hb dX0_cool_22 rfl hl (by decide) rfl (fun ls hl => ?_)
    refine lv_iconst (v := 0) hx hb dX0_cool_23 (by decide) ?_
    refine lv_istore_n (lv' := [(3, .int 0), (2, .int q5), (0, .ref (E 0)), (1, .int a1)]) hx hb dX0_cool_24 rfl hl (by decide) rfl (fun ls hl => ?_)
    refine lv_iconst (v := 1) hx hb dX0_cool_25 (by decide) ?_
    refine lv_istore (lv' := [(4, .int 1), (3, .int 0), (2, .int q5), (0, .ref (E 0)), (1, .int a1)]) hx hb dX0_cool_26 hl (by decide) rfl (fun ls hl => ?_)
    obtain ⟨b9, hb9, hf⟩ := ob_bind hf
    obtain ⟨n9, hn9⟩ := lp_some hb9
    have kL28 : ∀ (n : Nat) (w6 : Mm) (v3_7 : Int32) (v4_8 : Int32), lpF (fun (q9 : Mm × Int32 × Int32) => X_cool_b28 q5 T q9.1 q9.2.1 q9.2.2) n (w6, v3_7, v4_8) = some b9 → (∀ (H : Heap) (locs : List Loc) (ls : Array Slot), va_P D clX (wl shX 136 dA E b9.1) H → va_S (AE 136 E) s.heap H locs → lv_has ls 5 [(0, .ref (E 0)), (1, .int a1), (3, .int b9.2)] → W p l e rmX0_cool s m args below meth c H locs 0 0 Q (F0 m 80 ls [])) → ∀ (H : Heap) (locs : List Loc) (ls : Array Slot), va_P D clX (wl shX 136 dA E w6) H → va_S (AE 136 E) s.heap H locs → lv_has ls 5 [(0, .ref (E 0)), (1, .int a1), (2, .int q5), (3, .int v3_7), (4, .int v4_8)] → W p l e rmX0_cool s m args below meth c H locs 0 0 Q (F0 m 28 ls []) := by
      intro n
      induction n with
      | zero =>
        intro w6 v3_7 v4_8 hq9
        cases hq9
      | succ n ih =>
        intro w6 v3_7 v4_8 hq9 K9_0 H locs ls hP hS hl
        obtain ⟨r9, hf, h9a, h9b⟩ := lpF_step hq9
        replace hf : X_cool_b28 q5 T w6 v3_7 v4_8 = some r9 := hf
        unfold X_cool_b28 at hf
        refine lv_iload hx hb dX0_cool_28 (lv_at hl 4 rfl) ?_
        refine lv_iload_n hx hb dX0_cool_30 rfl (lv_at hl 2 rfl) ?_
        refine lv_icmp_gt (tgt := 80) hx hb dX0_cool_31 (by decide) (fun c10 => ?_) (fun c10 => ?_)
        · replace hf := ob_t hf c10
          obtain rfl := ob_s hf
          obtain rfl := h9b _ rfl
          exact K9_0 H locs ls hP hS (lv_sub hl [0, 1, 3] rfl)
        · replace hf := ob_f hf c10
          refine lv_iload hx hb dX0_cool_34 (lv_at hl 4 rfl) ?_
          refine lv_iload_n hx hb dX0_cool_36 rfl (lv_at hl 2 rfl) ?_
          refine lv_iconst (v := (-1)) hx hb dX0_cool_37 (by decide) ?_
          refine lv_ixor hx hb dX0_cool_38 ?_
          refine lv_iand hx hb dX0_cool_39 ?_
          have kj74 : ∀ (v3_11 : Int32) (w12 : Mm) (H : Heap) (locs : List Loc) (ls : Array Slot), X_cool_j74 v4_8 w12 v3_11 = some r9 → va_P D clX (wl shX 136 dA E w12) H → va_S (AE 136 E) s.heap H locs → lv_has ls 5 [(0, .ref (E 0)), (1, .int a1), (2, .int q5), (3, .int v3_11), (4, .int v4_8)] → W p l e rmX0_cool s m args below meth c H locs 0 0 Q (F0 m 74 ls []) := by
            intro v3_11 w12 H locs ls hf hP hS hl
            unfold X_cool_j74 at hf
            obtain ⟨v4_13, ev4_13, hf⟩ := ob_bnd hf
            refine lv_iinc (v := v4_13) (lv' := [(4, .int v4_13), (0, .ref (E 0)), (1, .int a1), (2, .int q5), (3, .int v3_11)]) hx hb dX0_cool_74 hl (k := 4) rfl (by rw [ev4_13]; rfl) (by decide) rfl (fun ls hl => ?_)
            refine lv_goto (tgt := 28) hx hb dX0_cool_77 (by decide) ?_
            obtain rfl := ob_s hf
            exact ih _ _ _ (h9a _ rfl) K9_0 H locs ls hP hS (lv_sub hl [1, 2, 3, 4, 0] rfl)
          refine lv_if_ne (tgt := 74) hx hb dX0_cool_40 (by decide) (fun c14 => ?_) (fun c14 => ?_)
          · replace hf := ob_f hf c14
            exact kj74 v3_7 w6 H locs ls hf hP hS (lv_sub hl [0, 1, 2, 3, 4] rfl)
          · replace hf := ob_t hf c14
            refine lv_aload_n hx hb dX0_cool_43 rfl (lv_at hl 0 rfl) ?_
            refine lv_iload hx hb dX0_cool_44 (lv_at hl 4 rfl) ?_
            obtain ⟨q16, g15, hf⟩ := ob_bind hf
            refine xc_i (xj_run (As := [.int v4_8]) (rest := []) hJ hJs hS ⟨hx, hb, hml, hown, hts⟩ (k0 := 0) (wkX0_duesOfAll l D dA E hE T J hJ w6 v4_8 g15) (cwV 1 hts (lw_V q1170 q1172 qs41 q136 q1173) rfl rfl rfl cdX0_duesOfAll ⟨Nat.le_of_ble_eq_true rfl, Nat.le_of_ble_eq_true rfl⟩) hK hP (by decide) rfl rfl rfl hl.1 rfl rfl (Nat.le_of_ble_eq_true rfl) dX0_cool_46 ⟨Nat.zero_le _, Nat.zero_le _⟩) hS hD.2 (fun H locs hP hS => ?_)
            refine lv_aload_n hx hb dX0_cool_49 rfl (lv_at hl 0 rfl) ?_
            refine xr_get hx hb hts in_X0 hown hK hP 0 (by decide) rfl rfl 0 (by decide) (hts _ q252) (fun _ h => h) rfl (v := .ref (E 1)) rfl dX0_cool_50 ?_
            refine xr_getN (host := "QuarrelsPawned") hx hb hts in_X1 hown hK hP 1 (by decide) rfl rfl 1 (by decide) (hJ.nest hJs 1 rfl) (fun _ h => h) rfl (v := .ref (E 4)) rfl dX0_cool_53 ?_
            refine lv_iconst (v := 2) hx hb dX0_cool_56 (by decide) ?_
            refine xr_iald hx hb hK hP 4 (by decide) rfl 0 rfl (j := 2) (vin_c (by decide)) (by decide) dX0_cool_57 ?_
            refine lv_icmp_gt (tgt := 74) hx hb dX0_cool_58 (by decide) (fun c17 => ?_) (fun c17 => ?_)
            · replace hf := ob_t hf c17
              exact kj74 v3_7 q16.2 H locs ls hf hP hS (lv_sub hl [0, 1, 2, 3, 4] rfl)
            · replace hf := ob_f hf c17
              refine lv_aload_n hx hb dX0_cool_61 rfl (lv_at hl 0 rfl) ?_
              refine lv_iload hx hb dX0_cool_62 (lv_at hl 4 rfl) ?_
              refine lv_iload_n hx hb dX0_cool_64 rfl (lv_at hl 3 rfl) ?_
              obtain ⟨q19, g18, hf⟩ := ob_bind hf
              refine xc_z (xj_run (As := [.int v4_8, .int v3_7]) (rest := []) hJ hJs hS ⟨hx, hb, hml, hown, hts⟩ (k0 := 0) (wkX0_isCooler l D dA E hE T J hJ q16.2 v4_8 v3_7 g18) (cwV 2 hts (lw_V q1263 q1265 qs50 q136 q1266) rfl rfl rfl cdX0_isCooler ⟨Nat.le_of_ble_eq_true rfl, Nat.le_of_ble_eq_true rfl⟩) hK hP (by decide) rfl rfl rfl hl.1 rfl rfl (Nat.le_of_ble_eq_true rfl) dX0_cool_65 ⟨Nat.zero_le _, Nat.zero_le _⟩) hS hD.2 (fun H locs zq19 hP hS => ?_)
              refine lv_if_eq (tgt := 74) hx hb dX0_cool_68 (by decide) (fun c20 => ?_) (fun c20 => ?_)
              · replace hf := ob_t hf c20
                exact kj74 v3_7 q19.2 H locs ls hf hP hS (lv_sub hl [0, 1, 2, 3, 4] rfl)
              · replace hf := ob_f hf c20
                refine lv_iload hx hb dX0_cool_71 (lv_at hl 4 rfl) ?_
                refine lv_istore_n (lv' := [(3, .int v4_8), (0, .ref (E 0)), (1, .int a1), (2, .int q5), (4, .int v4_8)]) hx hb dX0_cool_73 rfl hl (by decide) rfl (fun ls hl => ?_)
                exact kj74 v4_8 q19.2 H locs ls hf hP hS (lv_sub hl [1, 2, 3, 0, 4] rfl)
    refine kL28 n9 w 0 1 hn9 (fun H locs ls hP hS hl => ?_) H locs ls hP hS (lv_sub hl [3, 4, 2, 1, 0] rfl)
    replace hf : X_cool_x28_80 a1 b9 T = some res := hf
    unfold X_cool_x28_80 at hf
    refine lv_iload_n hx hb dX0_cool_80 rfl (lv_at hl 1 rfl) ?_
    refine lv_if_ne (tgt := 88) hx hb dX0_cool_81 (by decide) (fun c21 => ?_) (fun c21 => ?_)
    · replace hf := ob_f hf c21
      refine lv_iload_n hx hb dX0_cool_88 rfl (lv_at hl 1 rfl) ?_
      refine lv_iconst (v := 1) hx hb dX0_cool_89 (by decide) ?_
      refine lv_icmp_ne (tgt := 101) hx hb dX0_cool_90 (by decide) (fun c22 => ?_) (fun c22 => ?_)
      · replace hf := ob_f hf c22
        refine lv_aload_n hx hb dX0_cool_101 rfl (lv_at hl 0 rfl) ?_
        refine lv_iload_n hx hb dX0_cool_102 rfl (lv_at hl 2 rfl) ?_
        obtain ⟨q24, g23, hf⟩ := ob_bind hf
        refine xc_i (xj_run (As := [.int b9.2]) (rest := []) hJ hJs hS ⟨hx, hb, hml, hown, hts⟩ (k0 := 0) (wkX0_duesOfAll l D dA E hE T J hJ b9.1 b9.2 g23) (cwV 1 hts (lw_V q1170 q1172 qs41 q136 q1173) rfl rfl rfl cdX0_duesOfAll ⟨Nat.le_of_ble_eq_true rfl, Nat.le_of_ble_eq_true rfl⟩) hK hP (by decide) rfl rfl rfl hl.1 rfl rfl (Nat.le_of_ble_eq_true rfl) dX0_cool_103 ⟨Nat.zero_le _, Nat.zero_le _⟩) hS hD.2 (fun H locs hP hS => ?_)
        obtain rfl := ob_s hf
        subst hQ
        exact xe_i hx hb hr hlocks hP hS dX0_cool_106
      · replace hf := ob_t hf c22
        refine lv_aload_n hx hb dX0_cool_93 rfl (lv_at hl 0 rfl) ?_
        refine lv_iload_n hx hb dX0_cool_94 rfl (lv_at hl 2 rfl) ?_
        obtain ⟨q26, g25, hf⟩ := ob_bind hf
        refine xc_i (xj_run (As := [.int b9.2]) (rest := []) hJ hJs hS ⟨hx, hb, hml, hown, hts⟩ (k0 := 0) (wkX0_heatOf l D dA E hE T J hJ b9.1 b9.2 g25) (cwV 1 hts (lw_V q1267 q1269 qs51 q136 q1270) rfl rfl rfl cdX0_heatOf ⟨Nat.le_of_ble_eq_true rfl, Nat.le_of_ble_eq_true rfl⟩) hK hP (by decide) rfl rfl rfl hl.1 rfl rfl (Nat.le_of_ble_eq_true rfl) dX0_cool_95 ⟨Nat.zero_le _, Nat.zero_le _⟩) hS hD.2 (fun H locs hP hS => ?_)
        refine lv_goto (tgt := 106) hx hb dX0_cool_98 (by decide) ?_
        obtain rfl := ob_s hf
        subst hQ
        exact xe_i hx hb hr hlocks hP hS dX0_cool_106
    · replace hf := ob_t hf c21
      refine lv_iload_n hx hb dX0_cool_84 rfl (lv_at hl 2 rfl) ?_
      refine lv_goto (tgt := 106) hx hb dX0_cool_85 (by decide) ?_
      obtain rfl := ob_s hf
      subst hQ
      exact xe_i hx hb hr hlocks hP hS dX0_cool_106
  · replace hf := ob_t hf c3
    refine lv_iconst (v := (-1)) hx hb dX0_cool_9 (by decide) ?_
    obtain rfl := ob_s hf
    subst hQ
    exact xe_i hx hb hr hlocks hP hS dX0_cool_10
