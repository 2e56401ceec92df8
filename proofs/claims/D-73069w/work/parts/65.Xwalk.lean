/-! QuarrelsPawned: its methods walked (printed by run_x.py) -/
abbrev rmX0_earns : Room := { frames := 1, cells := 0, slots := 0, locals := 22 }
theorem cdX0_earns : yX0_earns.cls = RX0 ∧ yX0_earns.cls ≠ "java/lang/invoke/MethodHandle" ∧ yX0_earns.cls ≠ "java/lang/invoke/VarHandle" ∧ (parseMethodDescriptor yX0_earns.desc).map (fun d => d.parameters.length) = some 1 := by decide +kernel
set_option maxHeartbeats 4000000 in
set_option maxRecDepth 100000 in
theorem wkX0_earns (l : Launch) (D : va_G) (dA : Nat → ClassId) (E : Nat → Nat) (hE : wInj 136 E) (T : Tx) (J : State → Heap → Prop) (hJ : JP D dA E T J) (w : Mm) (a1 : Int32) {res : Int32 × Mm} (hf : X_earns w a1 = some res) : Met l yX0_earns (ws_ yX0_earns cX0_earns 2 (some .boolean)) rmX0_earns (Pj D dA E J [.ref (E 0), .int a1] w) (Qwz D clX shX 136 dA E res.1 res.2) 0 0 (AE 136 E) := by
  refine xj_head (own := RX0) (by decide) rfl (Nat.le_of_ble_eq_true rfl) ?_
  intro p e s m args below meth c ls Q hQ C hP hl
  obtain ⟨hx, hb, hr, hlocks, hml, hown, hts, hK, hJs⟩ := C
  replace hl : lv_has ls 2 [(0, .ref (E 0)), (1, .int a1)] := hl
  have hS : va_S (AE 136 E) s.heap s.heap [] := va_S.rf
  have hD : wD 136 E (AE 136 E) := wD.self hE
  unfold X_earns at hf
  obtain ⟨H, eH⟩ : ∃ H, H = s.heap := ⟨_, rfl⟩
  obtain ⟨locs, eL⟩ : ∃ locs : List Loc, locs = [] := ⟨_, rfl⟩
  rw [← eL] at hS ⊢
  rw [← eH] at hP
  have hS : va_S (AE 136 E) s.heap H locs := by rw [eH]; exact hS
  show W p l e rmX0_earns s m args below meth c s.heap locs 0 0 Q (F0 m 0 ls [])
  rw [← eH]
  refine lv_iload_n hx hb dX0_earns_0 rfl (lv_at hl 1 rfl) ?_
  refine lv_iconst (v := 0) hx hb dX0_earns_1 (by decide) ?_
  refine lv_bipush (v := 99) hx hb dX0_earns_2 (by decide) ?_
  obtain ⟨q2, g1, hf⟩ := ob_bind hf
  refine xc_z (xj_runS (As := [.int a1, .int 0, .int 99]) (rest := []) hJ hJs hS ⟨hx, hb, hml, hown, hts⟩ (wkX0_in l D dA E hE T J hJ w a1 0 99 g1) (va_cwS 3 hts (lw_S q319 q320 q136 q321) rfl rfl rfl cdX0_in.2 ⟨Nat.le_of_ble_eq_true rfl, Nat.le_of_ble_eq_true rfl⟩) hK hP hl.1 rfl rfl (Nat.le_of_ble_eq_true rfl) dX0_earns_4 ⟨Nat.zero_le _, Nat.zero_le _⟩) hS hD.2 (fun H locs zq2 hP hS => ?_)
  refine lv_if_ne (tgt := 12) hx hb dX0_earns_7 (by decide) (fun c3 => ?_) (fun c3 => ?_)
  · replace hf := ob_f hf c3
    refine lv_aload_n hx hb dX0_earns_12 rfl (lv_at hl 0 rfl) ?_
    refine xr_get hx hb hts in_X0 hown hK hP 0 (by decide) rfl rfl 0 (by decide) (hts _ q252) (fun _ h => h) rfl (v := .ref (E 1)) rfl dX0_earns_13 ?_
    refine xr_getN (host := "QuarrelsPawned") hx hb hts in_X1 hown hK hP 1 (by decide) rfl rfl 0 (by decide) (hJ.nest hJs 0 rfl) (fun _ h => h) rfl (v := .ref (E 3)) rfl dX0_earns_16 ?_
    refine lv_bipush (v := 7) hx hb dX0_earns_19 (by decide) ?_
    refine lv_iload_n hx hb dX0_earns_21 rfl (lv_at hl 1 rfl) ?_
    obtain ⟨w4, ew4, hf⟩ := ob_bnd hf
    refine xr_iast hx hb hK hP hD hS 3 (by decide) rfl 0 rfl (j := 7) (w' := w4) (vin_c (by decide)) (by decide) ew4 dX0_earns_22 (fun H locs hP hS => ?_)
    refine lv_iconst (v := 1) hx hb dX0_earns_23 (by decide) ?_
    obtain rfl := ob_s hf
    subst hQ
    exact xe_z hx hb hr hlocks hP hS (Or.inr rfl) dX0_earns_24
  · replace hf := ob_t hf c3
    refine lv_iconst (v := 0) hx hb dX0_earns_10 (by decide) ?_
    obtain rfl := ob_s hf
    subst hQ
    exact xe_z hx hb hr hlocks hP hS (Or.inl rfl) dX0_earns_11
abbrev rmX0_duesLater : Room := { frames := 201, cells := 0, slots := 0, locals := 8022 }
theorem cdX0_duesLater : yX0_duesLater.cls = RX0 ∧ yX0_duesLater.cls ≠ "java/lang/invoke/MethodHandle" ∧ yX0_duesLater.cls ≠ "java/lang/invoke/VarHandle" ∧ (parseMethodDescriptor yX0_duesLater.desc).map (fun d => d.parameters.length) = some 3 := by decide +kernel
set_option maxHeartbeats 4000000 in
set_option maxRecDepth 100000 in
theorem wkX0_duesLater (l : Launch) (D : va_G) (dA : Nat → ClassId) (E : Nat → Nat) (hE : wInj 136 E) (T : Tx) (J : State → Heap → Prop) (hJ : JP D dA E T J) (w : Mm) (a1 : Int32) (a2 : Int32) (a3 : Int32) {res : Int32 × Mm} (hf : X_duesLater T w a1 a2 a3 = some res) : Met l yX0_duesLater (ws_ yX0_duesLater cX0_duesLater 4 (some .int)) rmX0_duesLater (Pj D dA E J [.ref (E 0), .int a1, .int a2, .int a3] w) (Qwi D clX shX 136 dA E res.1 res.2) 0 0 (AE 136 E) := by
  refine xj_head (own := RX0) (by decide) rfl (Nat.le_of_ble_eq_true rfl) ?_
  intro p e s m args below meth c ls Q hQ C hP hl
  obtain ⟨hx, hb, hr, hlocks, hml, hown, hts, hK, hJs⟩ := C
  replace hl : lv_has ls 4 [(0, .ref (E 0)), (1, .int a1), (2, .int a2), (3, .int a3)] := hl
  have hS : va_S (AE 136 E) s.heap s.heap [] := va_S.rf
  have hD : wD 136 E (AE 136 E) := wD.self hE
  unfold X_duesLater at hf
  obtain ⟨H, eH⟩ : ∃ H, H = s.heap := ⟨_, rfl⟩
  obtain ⟨locs, eL⟩ : ∃ locs : List Loc, locs = [] := ⟨_, rfl⟩
  rw [← eL] at hS ⊢
  rw [← eH] at hP
  have hS : va_S (AE 136 E) s.heap H locs := by rw [eH]; exact hS
  show W p l e rmX0_duesLater s m args below meth c s.heap locs 0 0 Q (F0 m 0 ls [])
  rw [← eH]
  refine lv_aload_n hx hb dX0_duesLater_0 rfl (lv_at hl 0 rfl) ?_
  refine lv_aload_n hx hb dX0_duesLater_1 rfl (lv_at hl 0 rfl) ?_
  refine xr_get hx hb hts in_X0 hown hK hP 0 (by decide) rfl rfl 0 (by decide) (hts _ q252) (fun _ h => h) rfl (v := .ref (E 1)) rfl dX0_duesLater_2 ?_
  refine xr_getN (host := "QuarrelsPawned") hx hb hts in_X1 hown hK hP 1 (by decide) rfl rfl 1 (by decide) (hJ.nest hJs 1 rfl) (fun _ h => h) rfl (v := .ref (E 4)) rfl dX0_duesLater_5 ?_
  refine lv_iload_n hx hb dX0_duesLater_8 rfl (lv_at hl 1 rfl) ?_
  obtain ⟨q2, g1, hf⟩ := ob_bind hf
  refine xc_v (xj_run (As := [.ref (E 4), .int a1]) (rest := []) hJ hJs hS ⟨hx, hb, hml, hown, hts⟩ (k0 := 0) (wkX0_namesOf l D dA E hE T J hJ w 4 a1 g1 (by decide) rfl) (cwV 2 hts (lw_V q945 q947 qs31 q136 q948) rfl rfl rfl cdX0_namesOf ⟨Nat.le_of_ble_eq_true rfl, Nat.le_of_ble_eq_true rfl⟩) hK hP (by decide) rfl rfl rfl hl.1 rfl rfl (Nat.le_of_ble_eq_true rfl) dX0_duesLater_9 ⟨Nat.zero_le _, Nat.zero_le _⟩) hS hD.2 (fun H locs hP hS => ?_)
  refine lv_aload_n hx hb dX0_duesLater_12 rfl (lv_at hl 0 rfl) ?_
  refine xr_get hx hb hts in_X0 hown hK hP 0 (by decide) rfl rfl 6 (by decide) (hts _ q258) (fun _ h => h) rfl (v := .ref (E 26)) rfl dX0_duesLater_13 ?_
  refine lv_iconst (v := 0) hx hb dX0_duesLater_16 (by decide) ?_
  refine lv_dup2_11 hx hb dX0_duesLater_17 rfl rfl ?_
  refine xr_iald hx hb hK hP 26 (by decide) rfl 0 rfl (j := 0) (vin_c (by decide)) (by decide) dX0_duesLater_18 ?_
  refine lv_iload_n hx hb dX0_duesLater_19 rfl (lv_at hl 2 rfl) ?_
  refine lv_iadd hx hb dX0_duesLater_20 ?_
  obtain ⟨w3, ew3, hf⟩ := ob_bnd hf
  refine xr_iast hx hb hK hP hD hS 26 (by decide) rfl 0 rfl (j := 0) (w' := w3) (vin_c (by decide)) (by decide) ew3 dX0_duesLater_21 (fun H locs hP hS => ?_)
  refine lv_aload_n hx hb dX0_duesLater_22 rfl (lv_at hl 0 rfl) ?_
  refine xr_get hx hb hts in_X0 hown hK hP 0 (by decide) rfl rfl 6 (by decide) (hts _ q258) (fun _ h => h) rfl (v := .ref (E 26)) rfl dX0_duesLater_23 ?_
  refine lv_iconst (v := 5) hx hb dX0_duesLater_26 (by decide) ?_
  refine lv_dup2_11 hx hb dX0_duesLater_27 rfl rfl ?_
  refine xr_iald hx hb hK hP 26 (by decide) rfl 0 rfl (j := 5) (vin_c (by decide)) (by decide) dX0_duesLater_28 ?_
  refine lv_iload_n hx hb dX0_duesLater_29 rfl (lv_at hl 2 rfl) ?_
  refine lv_iadd hx hb dX0_duesLater_30 ?_
  obtain ⟨w4, ew4, hf⟩ := ob_bnd hf
  refine xr_iast hx hb hK hP hD hS 26 (by decide) rfl 0 rfl (j := 5) (w' := w4) (vin_c (by decide)) (by decide) ew4 dX0_duesLater_31 (fun H locs hP hS => ?_)
  refine lv_aload_n hx hb dX0_duesLater_32 rfl (lv_at hl 0 rfl) ?_
  refine lv_aload_n hx hb dX0_duesLater_33 rfl (lv_at hl 0 rfl) ?_
  obtain ⟨q6, g5, hf⟩ := ob_bind hf
  refine xc_a (xj_run (As := []) (rest := [.ref (E 0)]) hJ hJs hS ⟨hx, hb, hml, hown, hts⟩ (k0 := 0) (wkX0_rules l D dA E hE T J hJ w4 g5) (cwV 0 hts (lw_V q935 q937 qs29 q136 q938) rfl rfl rfl cdX0_rules ⟨Nat.le_of_ble_eq_true rfl, Nat.le_of_ble_eq_true rfl⟩) hK hP (by decide) rfl rfl rfl hl.1 rfl rfl (Nat.le_of_ble_eq_true rfl) dX0_duesLater_34 ⟨Nat.zero_le _, Nat.zero_le _⟩) hS hD.2 (fun H locs hP hS => ?_)
  refine lv_iload_n hx hb dX0_duesLater_37 rfl (lv_at hl 3 rfl) ?_
  obtain ⟨q8, g7, hf⟩ := ob_bind hf
  refine xc_i (xj_run (As := [.ref q6, .int a3]) (rest := []) hJ hJs hS ⟨hx, hb, hml, hown, hts⟩ (k0 := 0) (wkX0_duesOfNames l D dA E hE T J hJ w4 q6 a3 g7) (cwV 2 hts (lw_V q952 q954 qs32 q136 q955) rfl rfl rfl cdX0_duesOfNames ⟨Nat.le_of_ble_eq_true rfl, Nat.le_of_ble_eq_true rfl⟩) hK hP (by decide) rfl rfl rfl hl.1 rfl rfl (Nat.le_of_ble_eq_true rfl) dX0_duesLater_38 ⟨Nat.zero_le _, Nat.zero_le _⟩) hS hD.2 (fun H locs hP hS => ?_)
  obtain rfl := ob_s hf
  subst hQ
  exact xe_i hx hb hr hlocks hP hS dX0_duesLater_41
def rmX0_plansFrom (dp : Nat) : Room := { frames := 202 + dp, cells := 0, slots := 0, locals := 8045 + dp * 29 }
theorem cdX0_plansFrom : yX0_plansFrom.cls = RX0 ∧ yX0_plansFrom.cls ≠ "java/lang/invoke/MethodHandle" ∧ yX0_plansFrom.cls ≠ "java/lang/invoke/VarHandle" ∧ (parseMethodDescriptor yX0_plansFrom.desc).map (fun d => d.parameters.length) = some 5 := by decide +kernel
set_option maxHeartbeats 4000000 in
set_option maxRecDepth 100000 in
theorem wkX0_plansFrom (l : Launch) (D : va_G) (dA : Nat → ClassId) (E : Nat → Nat) (hE : wInj 136 E) (T : Tx) (J : State → Heap → Prop) (hJ : JP D dA E T J) : ∀ (dp : Nat) (w : Mm) (a1 : Int32) (a2 : Int32) (a3 : Int32) (a4 : Int32) (a5 : Int32) {res : Mm} (hf : X_plansFrom T dp w a1 a2 a3 a4 a5 = some res), Met l yX0_plansFrom (ws_ yX0_plansFrom cX0_plansFrom 10 (none)) (rmX0_plansFrom dp) (Pj D dA E J [.ref (E 0), .int a1, .int a2, .int a3, .int a4, .int a5] w) (Qwv D clX shX 136 dA E res) 0 0 (AE 136 E) := by
  intro dp
  induction dp with
  | zero =>
    intro w a1 a2 a3 a4 a5 res hf
    cases hf
  | succ dp ihr =>
  intro w a1 a2 a3 a4 a5 res hf
  refine xj_head (own := RX0) (by decide) rfl (Nat.le_of_ble_eq_true rfl) ?_
  intro p e s m args below meth c ls Q hQ C hP hl
  obtain ⟨hx, hb, hr, hlocks, hml, hown, hts, hK, hJs⟩ := C
  replace hl : lv_has ls 10 [(0, .ref (E 0)), (1, .int a1), (2, .int a2), (3, .int a3), (4, .int a4), (5, .int a5)] := hl
  have hS : va_S (AE 136 E) s.heap s.heap [] := va_S.rf
  have hD : wD 136 E (AE 136 E) := wD.self hE
  obtain ⟨rc, hrc⟩ : ∃ rc, rc = X_plansFrom T dp := ⟨_, rfl⟩
  replace hf : X_plansFrom_z T (X_plansFrom T dp) w a1 a2 a3 a4 a5 = some res := hf
  rw [← hrc] at hf ihr
  unfold X_plansFrom_z at hf
  obtain ⟨H, eH⟩ : ∃ H, H = s.heap := ⟨_, rfl⟩
  obtain ⟨locs, eL⟩ : ∃ locs : List Loc, locs = [] := ⟨_, rfl⟩
  rw [← eL] at hS ⊢
  rw [← eH] at hP
  have hS : va_S (AE 136 E) s.heap H locs := by rw [eH]; exact hS
  show W p l e (rmX0_plansFrom (dp + 1)) s m args below meth c s.heap locs 0 0 Q (F0 m 0 ls [])
  rw [← eH]
  refine lv_iload_n hx hb dX0_plansFrom_0 rfl (lv_at hl 3 rfl) ?_
  refine lv_aload_n hx hb dX0_plansFrom_1 rfl (lv_at hl 0 rfl) ?_
  refine xr_get hx hb hts in_X0 hown hK hP 0 (by decide) rfl rfl 11 (by decide) (hts _ q263) (fun _ h => h) rfl (v := .int (w.1 0 11)) rfl dX0_plansFrom_2 ?_
  refine lv_icmp_gt (tgt := 29) hx hb dX0_plansFrom_5 (by decide) (fun c1 => ?_) (fun c1 => ?_)
  · replace hf := ob_t hf c1
    obtain rfl := ob_s hf
    subst hQ
    exact xe_v hx hb hr hlocks hP hS dX0_plansFrom_29
  · replace hf := ob_f hf c1
    refine lv_iload_n hx hb dX0_plansFrom_8 rfl (lv_at hl 3 rfl) ?_
    refine lv_aload_n hx hb dX0_plansFrom_9 rfl (lv_at hl 0 rfl) ?_
    refine xr_get hx hb hts in_X0 hown hK hP 0 (by decide) rfl rfl 11 (by decide) (hts _ q263) (fun _ h => h) rfl (v := .int (w.1 0 11)) rfl dX0_plansFrom_10 ?_
    have kj30 : ∀ (H : Heap) (locs : List Loc) (ls : Array Slot), X_plansFrom_j30 a1 w a3 a5 T a4 a2 rc = some res → va_P D clX (wl shX 136 dA E w) H → va_S (AE 136 E) s.heap H locs → lv_has ls 10 [(0, .ref (E 0)), (1, .int a1), (2, .int a2), (3, .int a3), (4, .int a4), (5, .int a5)] → W p l e (rmX0_plansFrom (dp + 1)) s m args below meth c H locs 0 0 Q (F0 m 30 ls []) := by
      intro H locs ls hf hP hS hl
      unfold X_plansFrom_j30 at hf
      refine lv_iload_n hx hb dX0_plansFrom_30 rfl (lv_at hl 1 rfl) ?_
      refine lv_if_ne (tgt := 57) hx hb dX0_plansFrom_31 (by decide) (fun c2 => ?_) (fun c2 => ?_)
      · replace hf := ob_f hf c2
        refine lv_iconst (v := 0) hx hb dX0_plansFrom_57 (by decide) ?_
        refine lv_istore (lv' := [(6, .int 0), (0, .ref (E 0)), (1, .int a1), (2, .int a2), (3, .int a3), (4, .int a4), (5, .int a5)]) hx hb dX0_plansFrom_58 hl (by decide) rfl (fun ls hl => ?_)
        obtain ⟨b5, hb5, hf⟩ := ob_bind hf
        obtain ⟨n5, hn5⟩ := lp_some hb5
        have kL60 : ∀ (n : Nat) (w3 : Mm) (v6_4 : Int32), lpF (fun (q5 : Mm × Int32) => X_plansFrom_b60 a1 T a3 a4 a2 rc a5 q5.1 q5.2) n (w3, v6_4) = some b5 → (∀ (H : Heap) (locs : List Loc) (ls : Array Slot), va_P D clX (wl shX 136 dA E b5) H → va_S (AE 136 E) s.heap H locs → lv_has ls 10 [] → W p l e (rmX0_plansFrom (dp + 1)) s m args below meth c H locs 0 0 Q (F0 m 194 ls [])) → ∀ (H : Heap) (locs : List Loc) (ls : Array Slot), va_P D clX (wl shX 136 dA E w3) H → va_S (AE 136 E) s.heap H locs → lv_has ls 10 [(0, .ref (E 0)), (1, .int a1), (2, .int a2), (3, .int a3), (4, .int a4), (5, .int a5), (6, .int v6_4)] → W p l e (rmX0_plansFrom (dp + 1)) s m args below meth c H locs 0 0 Q (F0 m 60 ls []) := by
          intro n
          induction n with
          | zero =>
            intro w3 v6_4 hq9
            cases hq9
          | succ n ih =>
            intro w3 v6_4 hq9 K5_0 H locs ls hP hS hl
            obtain ⟨r5, hf, h5a, h5b⟩ := lpF_step hq9
            replace hf : X_plansFrom_b60 a1 T a3 a4 a2 rc a5 w3 v6_4 = some r5 := hf
            unfold X_plansFrom_b60 at hf
            refine lv_iload hx hb dX0_plansFrom_60 (lv_at hl 6 rfl) ?_
            refine lv_aload_n hx hb dX0_plansFrom_62 rfl (lv_at hl 0 rfl) ?_
            obtain ⟨q7, g6, hf⟩ := ob_bind hf
            refine xc_i (xj_run (As := []) (rest := [.int v6_4]) hJ hJs hS ⟨hx, hb, hml, hown, hts⟩ (k0 := 0) (wkX0_quarrels l D dA E hE T J hJ w3 g6) (cwV 0 hts (lw_V q309 q311 qs0 q136 q312) rfl rfl rfl cdX0_quarrels ⟨by show _ ≤ _ + (dp + 1); exact Nat.le_add_right_of_le (Nat.le_of_ble_eq_true rfl), by show _ ≤ _ + (dp + 1) * _; exact Nat.le_add_right_of_le (Nat.le_of_ble_eq_true rfl)⟩) hK hP (by decide) rfl rfl rfl hl.1 rfl rfl (Nat.le_of_ble_eq_true rfl) dX0_plansFrom_63 ⟨Nat.zero_le _, Nat.zero_le _⟩) hS hD.2 (fun H locs hP hS => ?_)
            refine lv_icmp_ge (tgt := 194) hx hb dX0_plansFrom_66 (by decide) (fun c8 => ?_) (fun c8 => ?_)
            · replace hf := ob_t hf c8
              obtain rfl := ob_s hf
              obtain rfl := h5b _ rfl
              exact K5_0 H locs ls hP hS (lv_sub hl [] rfl)
            · replace hf := ob_f hf c8
              refine lv_iload_n hx hb dX0_plansFrom_69 rfl (lv_at hl 1 rfl) ?_
              refine lv_iload hx hb dX0_plansFrom_70 (lv_at hl 6 rfl) ?_
              obtain ⟨q10, g9, hf⟩ := ob_bind hf
              refine xc_z (xj_runS (As := [.int a1, .int v6_4]) (rest := []) hJ hJs hS ⟨hx, hb, hml, hown, hts⟩ (wkX0_has l D dA E hE T J hJ w3 a1 v6_4 g9) (va_cwS 2 hts (lw_S q1174 q1175 q136 q1176) rfl rfl rfl cdX0_has.2 ⟨by show _ ≤ _ + (dp + 1); exact Nat.le_add_right_of_le (Nat.le_of_ble_eq_true rfl), by show _ ≤ _ + (dp + 1) * _; exact Nat.le_add_right_of_le (Nat.le_of_ble_eq_true rfl)⟩) hK hP hl.1 rfl rfl (Nat.le_of_ble_eq_true rfl) dX0_plansFrom_72 ⟨Nat.zero_le _, Nat.zero_le _⟩) hS hD.2 (fun H locs zq10 hP hS => ?_)
              refine lv_if_ne (tgt := 81) hx hb dX0_plansFrom_75 (by decide) (fun c11 => ?_) (fun c11 => ?_)
              · replace hf := ob_f hf c11
                refine lv_iload_n hx hb dX0_plansFrom_81 rfl (lv_at hl 3 rfl) ?_
                refine lv_istore (lv' := [(7, .int a3), (0, .ref (E 0)), (1, .int a1), (2, .int a2), (3, .int a3), (4, .int a4), (5, .int a5), (6, .int v6_4)]) hx hb dX0_plansFrom_82 hl (by decide) rfl (fun ls hl => ?_)
                refine lv_iload hx hb dX0_plansFrom_84 (lv_at hl 5 rfl) ?_
                refine lv_istore (lv' := [(8, .int a4), (7, .int a3), (0, .ref (E 0)), (1, .int a1), (2, .int a2), (3, .int a3), (4, .int a4), (5, .int a5), (6, .int v6_4)]) hx hb dX0_plansFrom_86 hl (by decide) rfl (fun ls hl => ?_)
                obtain ⟨b15, hb15, hf⟩ := ob_bind hf
                obtain ⟨n15, hn15⟩ := lp_some hb15
                have kL88 : ∀ (n : Nat) (w12 : Mm) (v7_13 : Int32) (v8_14 : Int32), lpF (fun (q15 : Mm × Int32 × Int32) => X_plansFrom_b88 T v6_4 q15.1 q15.2.1 q15.2.2) n (w12, v7_13, v8_14) = some b15 → (∀ (H : Heap) (locs : List Loc) (ls : Array Slot), va_P D clX (wl shX 136 dA E b15.1) H → va_S (AE 136 E) s.heap H locs → lv_has ls 10 [(0, .ref (E 0)), (1, .int a1), (2, .int a2), (3, .int a3), (4, .int a4), (5, .int a5), (6, .int v6_4), (7, .int b15.2.1), (8, .int b15.2.2)] → W p l e (rmX0_plansFrom (dp + 1)) s m args below meth c H locs 0 0 Q (F0 m 131 ls [])) → ∀ (H : Heap) (locs : List Loc) (ls : Array Slot), va_P D clX (wl shX 136 dA E w12) H → va_S (AE 136 E) s.heap H locs → lv_has ls 10 [(0, .ref (E 0)), (1, .int a1), (2, .int a2), (3, .int a3), (4, .int a4), (5, .int a5), (6, .int v6_4), (7, .int v7_13), (8, .int v8_14)] → W p l e (rmX0_plansFrom (dp + 1)) s m args below meth c H locs 0 0 Q (F0 m 88 ls []) := by
                  intro n
                  induction n with
                  | zero =>
                    intro w12 v7_13 v8_14 hq9
                    cases hq9
                  | succ n ih =>
                    intro w12 v7_13 v8_14 hq9 K15_0 H locs ls hP hS hl
                    obtain ⟨r15, hf, h15a, h15b⟩ := lpF_step hq9
                    replace hf : X_plansFrom_b88 T v6_4 w12 v7_13 v8_14 = some r15 := hf
                    unfold X_plansFrom_b88 at hf
                    refine lv_iload hx hb dX0_plansFrom_88 (lv_at hl 7 rfl) ?_
                    refine lv_bipush (v := 60) hx hb dX0_plansFrom_90 (by decide) ?_
                    refine lv_icmp_gt (tgt := 131) hx hb dX0_plansFrom_92 (by decide) (fun c16 => ?_) (fun c16 => ?_)
                    · replace hf := ob_t hf c16
                      obtain rfl := ob_s hf
                      obtain rfl := h15b _ rfl
                      exact K15_0 H locs ls hP hS (lv_sub hl [0, 1, 2, 3, 4, 5, 6, 7, 8] rfl)
                    · replace hf := ob_f hf c16
                      refine lv_iload hx hb dX0_plansFrom_95 (lv_at hl 8 rfl) ?_
                      refine lv_aload_n hx hb dX0_plansFrom_97 rfl (lv_at hl 0 rfl) ?_
                      refine lv_iload hx hb dX0_plansFrom_98 (lv_at hl 6 rfl) ?_
                      refine lv_iload hx hb dX0_plansFrom_100 (lv_at hl 7 rfl) ?_
                      refine lv_iload hx hb dX0_plansFrom_102 (lv_at hl 8 rfl) ?_
                      obtain ⟨q18, g17, hf⟩ := ob_bind hf
                      refine xc_i (xj_run (As := [.int v6_4, .int v7_13, .int v8_14]) (rest := [.int v8_14]) hJ hJs hS ⟨hx, hb, hml, hown, hts⟩ (k0 := 0) (wkX0_duesLater l D dA E hE T J hJ w12 v6_4 v7_13 v8_14 g17) (cwV 3 hts (lw_V q1283 q1285 qs53 q136 q1286) rfl rfl rfl cdX0_duesLater ⟨by show _ ≤ _ + (dp + 1); exact Nat.le_add_right_of_le (Nat.le_of_ble_eq_true rfl), by show _ ≤ _ + (dp + 1) * _; exact Nat.le_add_right_of_le (Nat.le_of_ble_eq_true rfl)⟩) hK hP (by decide) rfl rfl rfl hl.1 rfl rfl (Nat.le_of_ble_eq_true rfl) dX0_plansFrom_104 ⟨Nat.zero_le _, Nat.zero_le _⟩) hS hD.2 (fun H locs hP hS => ?_)
                      refine lv_icmp_ge (tgt := 131) hx hb dX0_plansFrom_107 (by decide) (fun c19 => ?_) (fun c19 => ?_)
                      · replace hf := ob_t hf c19
                        obtain rfl := ob_s hf
                        obtain rfl := h15b _ rfl
                        exact K15_0 H locs ls hP hS (lv_sub hl [0, 1, 2, 3, 4, 5, 6, 7, 8] rfl)
                      · replace hf := ob_f hf c19
                        obtain ⟨v7_20, ev7_20, hf⟩ := ob_bnd hf
                        refine lv_iinc (v := v7_20) (lv' := [(7, .int v7_20), (0, .ref (E 0)), (1, .int a1), (2, .int a2), (3, .int a3), (4, .int a4), (5, .int a5), (6, .int v6_4), (8, .int v8_14)]) hx hb dX0_plansFrom_110 hl (k := 7) rfl (by rw [ev7_20]; rfl) (by decide) rfl (fun ls hl => ?_)
                        refine lv_iload hx hb dX0_plansFrom_113 (lv_at hl 8 rfl) ?_
                        refine lv_aload_n hx hb dX0_plansFrom_115 rfl (lv_at hl 1 rfl) ?_
                        refine xr_get hx hb hts in_X0 hown hK hP 0 (by decide) rfl rfl 0 (by decide) (hts _ q252) (fun _ h => h) rfl (v := .ref (E 1)) rfl dX0_plansFrom_116 ?_
                        refine xr_getN (host := "QuarrelsPawned") hx hb hts in_X1 hown hK hP 1 (by decide) rfl rfl 0 (by decide) (hJ.nest hJs 0 rfl) (fun _ h => h) rfl (v := .ref (E 3)) rfl dX0_plansFrom_119 ?_
                        refine lv_bipush (v := 7) hx hb dX0_plansFrom_122 (by decide) ?_
                        refine xr_iald hx hb hK hP 3 (by decide) rfl 0 rfl (j := 7) (vin_c (by decide)) (by decide) dX0_plansFrom_124 ?_
                        refine lv_iadd hx hb dX0_plansFrom_125 ?_
                        obtain ⟨v8_21, ev8_21, hf⟩ := ob_bnd hf
                        refine xn_i ev8_21 ?_
                        refine lv_istore (lv' := [(8, .int v8_21), (7, .int v7_20), (0, .ref (E 0)), (1, .int a1), (2, .int a2), (3, .int a3), (4, .int a4), (5, .int a5), (6, .int v6_4)]) hx hb dX0_plansFrom_126 hl (by decide) rfl (fun ls hl => ?_)
                        refine lv_goto (tgt := 88) hx hb dX0_plansFrom_128 (by decide) ?_
                        obtain rfl := ob_s hf
                        exact ih _ _ _ (h15a _ rfl) K15_0 H locs ls hP hS (lv_sub hl [2, 3, 4, 5, 6, 7, 8, 1, 0] rfl)
                refine kL88 n15 w3 a3 a4 hn15 (fun H locs ls hP hS hl => ?_) H locs ls hP hS (lv_sub hl [2, 3, 4, 5, 6, 7, 8, 1, 0] rfl)
                replace hf : X_plansFrom_x88_131 b15 T v6_4 a2 rc a1 a5 = some r5 := hf
                unfold X_plansFrom_x88_131 at hf
                refine lv_iload hx hb dX0_plansFrom_131 (lv_at hl 7 rfl) ?_
                refine lv_bipush (v := 60) hx hb dX0_plansFrom_133 (by decide) ?_
                refine lv_icmp_le (tgt := 141) hx hb dX0_plansFrom_135 (by decide) (fun c22 => ?_) (fun c22 => ?_)
                · replace hf := ob_t hf c22
                  refine lv_aload_n hx hb dX0_plansFrom_141 rfl (lv_at hl 0 rfl) ?_
                  refine lv_iload hx hb dX0_plansFrom_142 (lv_at hl 6 rfl) ?_
                  refine lv_iload hx hb dX0_plansFrom_144 (lv_at hl 7 rfl) ?_
                  refine lv_iload hx hb dX0_plansFrom_146 (lv_at hl 8 rfl) ?_
                  obtain ⟨q24, g23, hf⟩ := ob_bind hf
                  refine xc_i (xj_run (As := [.int v6_4, .int b15.2.1, .int b15.2.2]) (rest := []) hJ hJs hS ⟨hx, hb, hml, hown, hts⟩ (k0 := 0) (wkX0_duesLater l D dA E hE T J hJ b15.1 v6_4 b15.2.1 b15.2.2 g23) (cwV 3 hts (lw_V q1283 q1285 qs53 q136 q1286) rfl rfl rfl cdX0_duesLater ⟨by show _ ≤ _ + (dp + 1); exact Nat.le_add_right_of_le (Nat.le_of_ble_eq_true rfl), by show _ ≤ _ + (dp + 1) * _; exact Nat.le_add_right_of_le (Nat.le_of_ble_eq_true rfl)⟩) hK hP (by decide) rfl rfl rfl hl.1 rfl rfl (Nat.le_of_ble_eq_true rfl) dX0_plansFrom_148 ⟨Nat.zero_le _, Nat.zero_le _⟩) hS hD.2 (fun H locs hP hS => ?_)
                  refine lv_istore (lv' := [(9, .int q24.1), (0, .ref (E 0)), (1, .int a1), (2, .int a2), (3, .int a3), (4, .int a4), (5, .int a5), (6, .int v6_4), (7, .int b15.2.1), (8, .int b15.2.2)]) hx hb dX0_plansFrom_151 hl (by decide) rfl (fun ls hl => ?_)
                  refine lv_aload_n hx hb dX0_plansFrom_153 rfl (lv_at hl 1 rfl) ?_
                  refine xr_get hx hb hts in_X0 hown hK hP 0 (by decide) rfl rfl 9 (by decide) (hts _ q261) (fun _ h => h) rfl (v := .ref (E 29)) rfl dX0_plansFrom_154 ?_
                  refine lv_iload_n hx hb dX0_plansFrom_157 rfl (lv_at hl 3 rfl) ?_
                  refine lv_iload hx hb dX0_plansFrom_158 (lv_at hl 7 rfl) ?_
                  obtain ⟨h25, hf⟩ := ob_gd hf
                  obtain ⟨w26, ew26, hf⟩ := ob_bnd hf
                  refine xr_iast hx hb hK hP hD hS 29 (by decide) rfl 0 rfl (j := a2.toNatClampNeg) (w' := w26) h25 rfl ew26 dX0_plansFrom_160 (fun H locs hP hS => ?_)
                  refine lv_aload_n hx hb dX0_plansFrom_161 rfl (lv_at hl 1 rfl) ?_
                  refine lv_iload_n hx hb dX0_plansFrom_162 rfl (lv_at hl 2 rfl) ?_
                  refine lv_iconst (v := 1) hx hb dX0_plansFrom_163 (by decide) ?_
                  refine lv_iload hx hb dX0_plansFrom_164 (lv_at hl 7 rfl) ?_
                  refine lv_ishl hx hb dX0_plansFrom_166 ?_
                  refine lv_iconst (v := (-1)) hx hb dX0_plansFrom_167 (by decide) ?_
                  refine lv_ixor hx hb dX0_plansFrom_168 ?_
                  refine lv_iand hx hb dX0_plansFrom_169 ?_
                  refine lv_iload_n hx hb dX0_plansFrom_170 rfl (lv_at hl 3 rfl) ?_
                  refine lv_iconst (v := 1) hx hb dX0_plansFrom_171 (by decide) ?_
                  refine lv_iadd hx hb dX0_plansFrom_172 ?_
                  refine lv_iload hx hb dX0_plansFrom_173 (lv_at hl 8 rfl) ?_
                  refine lv_iload hx hb dX0_plansFrom_175 (lv_at hl 9 rfl) ?_
                  refine lv_iload hx hb dX0_plansFrom_177 (lv_at hl 0 rfl) ?_
                  refine lv_isub hx hb dX0_plansFrom_179 ?_
                  refine lv_iload hx hb dX0_plansFrom_180 (lv_at hl 6 rfl) ?_
                  refine lv_iload hx hb dX0_plansFrom_182 (lv_at hl 0 rfl) ?_
                  refine lv_iadd hx hb dX0_plansFrom_184 ?_
                  obtain ⟨q28, g27, hf⟩ := ob_bind hf
                  refine xc_v (xj_run (As := [.int (a1 &&& (((1 : Int32) <<< (v6_4 &&& 31)) ^^^ (-1))), .int (a2 + 1), .int b15.2.1, .int (b15.2.2 - q24.1), .int (a5 + q24.1)]) (rest := []) hJ hJs hS ⟨hx, hb, hml, hown, hts⟩ (k0 := 0) (ihr w26 (a1 &&& (((1 : Int32) <<< (v6_4 &&& 31)) ^^^ (-1))) (a2 + 1) b15.2.1 (b15.2.2 - q24.1) (a5 + q24.1) g27) (cwV 5 hts (lw_V q1279 q1281 qs52 q136 q1282) rfl rfl rfl cdX0_plansFrom ⟨by show _ + dp + 1 ≤ _ + (dp + 1); omega, by show 8 + (_ + 11) + (_ + dp * _) ≤ _ + (dp + 1) * _; omega⟩) hK hP (by decide) rfl rfl rfl hl.1 rfl rfl (Nat.le_of_ble_eq_true rfl) dX0_plansFrom_185 ⟨Nat.zero_le _, Nat.zero_le _⟩) hS hD.2 (fun H locs hP hS => ?_)
                  obtain ⟨v6_29, ev6_29, hf⟩ := ob_bnd hf
                  refine lv_iinc (v := v6_29) (lv' := [(6, .int v6_29), (9, .int q24.1), (0, .ref (E 0)), (1, .int a1), (2, .int a2), (3, .int a3), (4, .int a4), (5, .int a5), (7, .int b15.2.1), (8, .int b15.2.2)]) hx hb dX0_plansFrom_188 hl (k := 7) rfl (by rw [ev6_29]; rfl) (by decide) rfl (fun ls hl => ?_)
                  refine lv_goto (tgt := 60) hx hb dX0_plansFrom_191 (by decide) ?_
                  obtain rfl := ob_s hf
                  exact ih _ _ (h5a _ rfl) K5_0 H locs ls hP hS (lv_sub hl [2, 3, 4, 5, 6, 7, 0] rfl)
                · replace hf := ob_f hf c22
                  refine lv_goto (tgt := 188) hx hb dX0_plansFrom_138 (by decide) ?_
                  obtain ⟨v6_30, ev6_30, hf⟩ := ob_bnd hf
                  refine lv_iinc (v := v6_30) (lv' := [(6, .int v6_30), (0, .ref (E 0)), (1, .int a1), (2, .int a2), (3, .int a3), (4, .int a4), (5, .int a5), (7, .int b15.2.1), (8, .int b15.2.2)]) hx hb dX0_plansFrom_188 hl (k := 6) rfl (by rw [ev6_30]; rfl) (by decide) rfl (fun ls hl => ?_)
                  refine lv_goto (tgt := 60) hx hb dX0_plansFrom_191 (by decide) ?_
                  obtain rfl := ob_s hf
                  exact ih _ _ (h5a _ rfl) K5_0 H locs ls hP hS (lv_sub hl [1, 2, 3, 4, 5, 6, 0] rfl)
              · replace hf := ob_t hf c11
                refine lv_goto (tgt := 188) hx hb dX0_plansFrom_78 (by decide) ?_
                obtain ⟨v6_31, ev6_31, hf⟩ := ob_bnd hf
                refine lv_iinc (v := v6_31) (lv' := [(6, .int v6_31), (0, .ref (E 0)), (1, .int a1), (2, .int a2), (3, .int a3), (4, .int a4), (5, .int a5)]) hx hb dX0_plansFrom_188 hl (k := 6) rfl (by rw [ev6_31]; rfl) (by decide) rfl (fun ls hl => ?_)
                refine lv_goto (tgt := 60) hx hb dX0_plansFrom_191 (by decide) ?_
                obtain rfl := ob_s hf
                exact ih _ _ (h5a _ rfl) K5_0 H locs ls hP hS (lv_sub hl [1, 2, 3, 4, 5, 6, 0] rfl)
        refine kL60 n5 w 0 hn5 (fun H locs ls hP hS hl => ?_) H locs ls hP hS (lv_sub hl [1, 2, 3, 4, 5, 6, 0] rfl)
        replace hf : X_plansFrom_x60_194 b5 = some res := hf
        unfold X_plansFrom_x60_194 at hf
        obtain rfl := ob_s hf
        subst hQ
        exact xe_v hx hb hr hlocks hP hS dX0_plansFrom_194
      · replace hf := ob_t hf c2
        refine lv_aload_n hx hb dX0_plansFrom_34 rfl (lv_at hl 0 rfl) ?_
        refine lv_iload_n hx hb dX0_plansFrom_35 rfl (lv_at hl 3 rfl) ?_
        obtain ⟨w32, ew32, hf⟩ := ob_bnd hf
        refine xr_put hx hb hts in_X0 tyX0 tyX0_ok nmX0 hown hK hP hD hS 0 (by decide) rfl rfl 11 (by decide) (hts _ q263) (fun _ h => h) rfl rfl rfl rfl (w' := w32) ew32 dX0_plansFrom_36 (fun H locs hP hS => ?_)
        refine lv_aload_n hx hb dX0_plansFrom_39 rfl (lv_at hl 0 rfl) ?_
        refine lv_iload hx hb dX0_plansFrom_40 (lv_at hl 5 rfl) ?_
        obtain ⟨w33, ew33, hf⟩ := ob_bnd hf
        refine xr_put hx hb hts in_X0 tyX0 tyX0_ok nmX0 hown hK hP hD hS 0 (by decide) rfl rfl 12 (by decide) (hts _ q264) (fun _ h => h) rfl rfl rfl rfl (w' := w33) ew33 dX0_plansFrom_42 (fun H locs hP hS => ?_)
        refine lv_aload_n hx hb dX0_plansFrom_45 rfl (lv_at hl 0 rfl) ?_
        refine xr_get hx hb hts in_X0 hown hK hP 0 (by decide) rfl rfl 9 (by decide) (hts _ q261) (fun _ h => h) rfl (v := .ref (E 29)) rfl dX0_plansFrom_46 ?_
        refine lv_aload_n hx hb dX0_plansFrom_49 rfl (lv_at hl 0 rfl) ?_
        refine xr_get hx hb hts in_X0 hown hK hP 0 (by decide) rfl rfl 10 (by decide) (hts _ q262) (fun _ h => h) rfl (v := .ref (E 30)) rfl dX0_plansFrom_50 ?_
        obtain ⟨q35, g34, hf⟩ := ob_bind hf
        refine xc_v (xj_runSN (As := [.ref (E 29), .ref (E 30)]) (rest := []) hJ hJs hS ⟨hx, hb, hml, hown, hts⟩ (wkX1_copy l D dA E hE T J hJ w33 29 5 30 5 g34 (by decide) rfl (by decide) rfl) (va_cnB (host := "QuarrelsPawned") 2 hts (lw_meth q245) rfl rfl rfl (hJ.nest hJs 15 rfl) (hts _ q137) cdX1_copy.2 ⟨by show _ ≤ _ + (dp + 1); exact Nat.le_add_right_of_le (Nat.le_of_ble_eq_true rfl), by show _ ≤ _ + (dp + 1) * _; exact Nat.le_add_right_of_le (Nat.le_of_ble_eq_true rfl)⟩) (hts _ q244) hK hP hl.1 rfl rfl (Nat.le_of_ble_eq_true rfl) dX0_plansFrom_53 ⟨Nat.zero_le _, Nat.zero_le _⟩) hS hD.2 (fun H locs hP hS => ?_)
        obtain rfl := ob_s hf
        subst hQ
        exact xe_v hx hb hr hlocks hP hS dX0_plansFrom_56
    refine lv_icmp_ne (tgt := 30) hx hb dX0_plansFrom_13 (by decide) (fun c36 => ?_) (fun c36 => ?_)
    · replace hf := ob_f hf c36
      exact kj30 H locs ls hf hP hS (lv_sub hl [0, 1, 2, 3, 4, 5] rfl)
    · replace hf := ob_t hf c36
      refine lv_iload hx hb dX0_plansFrom_16 (lv_at hl 5 rfl) ?_
      refine lv_aload_n hx hb dX0_plansFrom_18 rfl (lv_at hl 0 rfl) ?_
      refine xr_get hx hb hts in_X0 hown hK hP 0 (by decide) rfl rfl 12 (by decide) (hts _ q264) (fun _ h => h) rfl (v := .int (w.1 0 12)) rfl dX0_plansFrom_19 ?_
      refine lv_icmp_lt (tgt := 30) hx hb dX0_plansFrom_22 (by decide) (fun c37 => ?_) (fun c37 => ?_)
      · replace hf := ob_t hf c37
        exact kj30 H locs ls hf hP hS (lv_sub hl [0, 1, 2, 3, 4, 5] rfl)
      · replace hf := ob_f hf c37
        refine lv_iload_n hx hb dX0_plansFrom_25 rfl (lv_at hl 1 rfl) ?_
        refine lv_if_ne (tgt := 30) hx hb dX0_plansFrom_26 (by decide) (fun c38 => ?_) (fun c38 => ?_)
        · replace hf := ob_f hf c38
          exact kj30 H locs ls hf hP hS (lv_sub hl [0, 1, 2, 3, 4, 5] rfl)
        · replace hf := ob_t hf c38
          obtain rfl := ob_s hf
          subst hQ
          exact xe_v hx hb hr hlocks hP hS dX0_plansFrom_29
abbrev rmX0_plan : Room := { frames := 209, cells := 0, slots := 0, locals := 8248 }
theorem cdX0_plan : yX0_plan.cls = RX0 ∧ yX0_plan.cls ≠ "java/lang/invoke/MethodHandle" ∧ yX0_plan.cls ≠ "java/lang/invoke/VarHandle" ∧ (parseMethodDescriptor yX0_plan.desc).map (fun d => d.parameters.length) = some 2 := by decide +kernel
set_option maxHeartbeats 4000000 in
set_option maxRecDepth 100000 in
theorem wkX0_plan (l : Launch) (D : va_G) (dA : Nat → ClassId) (E : Nat → Nat) (hE : wInj 136 E) (T : Tx) (J : State → Heap → Prop) (hJ : JP D dA E T J) (w : Mm) (a1 : Int32) (a2 : Int32) {res : Int32 × Mm} (hf : X_plan T w a1 a2 = some res) : Met l yX0_plan (ws_ yX0_plan cX0_plan 4 (some .int)) rmX0_plan (Pj D dA E J [.ref (E 0), .int a1, .int a2] w) (Qwi D clX shX 136 dA E res.1 res.2) 0 0 (AE 136 E) := by
  refine xj_head (own := RX0) (by decide) rfl (Nat.le_of_ble_eq_true rfl) ?_
  intro p e s m args below meth c ls Q hQ C hP hl
  obtain ⟨hx, hb, hr, hlocks, hml, hown, hts, hK, hJs⟩ := C
  replace hl : lv_has ls 4 [(0, .ref (E 0)), (1, .int a1), (2, .int a2)] := hl
  have hS : va_S (AE 136 E) s.heap s.heap [] := va_S.rf
  have hD : wD 136 E (AE 136 E) := wD.self hE
  unfold X_plan at hf
  obtain ⟨H, eH⟩ : ∃ H, H = s.heap := ⟨_, rfl⟩
  obtain ⟨locs, eL⟩ : ∃ locs : List Loc, locs = [] := ⟨_, rfl⟩
  rw [← eL] at hS ⊢
  rw [← eH] at hP
  have hS : va_S (AE 136 E) s.heap H locs := by rw [eH]; exact hS
  show W p l e rmX0_plan s m args below meth c s.heap locs 0 0 Q (F0 m 0 ls [])
  rw [← eH]
  refine lv_iload_n hx hb dX0_plan_0 rfl (lv_at hl 1 rfl) ?_
  obtain ⟨q2, g1, hf⟩ := ob_bind hf
  refine xc_i (xj_runS (As := [.int a1]) (rest := []) hJ hJs hS ⟨hx, hb, hml, hown, hts⟩ (wkJ15_bitCount l D dA E hE T J hJ w a1 g1) (va_cwS 1 hts (lw_S q1103 q1104 q168 q1105) rfl rfl rfl cdJ15_bitCount.2 ⟨Nat.le_of_ble_eq_true rfl, Nat.le_of_ble_eq_true rfl⟩) hK hP hl.1 rfl rfl (Nat.le_of_ble_eq_true rfl) dX0_plan_1 ⟨Nat.zero_le _, Nat.zero_le _⟩) hS hD.2 (fun H locs hP hS => ?_)
  refine lv_istore_n (lv' := [(3, .int q2), (0, .ref (E 0)), (1, .int a1), (2, .int a2)]) hx hb dX0_plan_4 rfl hl (by decide) rfl (fun ls hl => ?_)
  refine lv_iload_n hx hb dX0_plan_5 rfl (lv_at hl 2 rfl) ?_
  refine lv_aload_n hx hb dX0_plan_6 rfl (lv_at hl 1 rfl) ?_
  refine lv_aload_n hx hb dX0_plan_7 rfl (lv_at hl 1 rfl) ?_
  refine xr_get hx hb hts in_X0 hown hK hP 0 (by decide) rfl rfl 0 (by decide) (hts _ q252) (fun _ h => h) rfl (v := .ref (E 1)) rfl dX0_plan_8 ?_
  refine xr_getN (host := "QuarrelsPawned") hx hb hts in_X1 hown hK hP 1 (by decide) rfl rfl 1 (by decide) (hJ.nest hJs 1 rfl) (fun _ h => h) rfl (v := .ref (E 4)) rfl dX0_plan_11 ?_
  obtain ⟨q4, g3, hf⟩ := ob_bind hf
  refine xc_i (xj_run (As := [.ref (E 4)]) (rest := [.int a1]) hJ hJs hS ⟨hx, hb, hml, hown, hts⟩ (k0 := 0) (wkX0_pawnedIn l D dA E hE T J hJ w 4 g3 (by decide) rfl) (cwV 1 hts (lw_V q1099 q1101 qs37 q136 q1102) rfl rfl rfl cdX0_pawnedIn ⟨Nat.le_of_ble_eq_true rfl, Nat.le_of_ble_eq_true rfl⟩) hK hP (by decide) rfl rfl rfl hl.1 rfl rfl (Nat.le_of_ble_eq_true rfl) dX0_plan_14 ⟨Nat.zero_le _, Nat.zero_le _⟩) hS hD.2 (fun H locs hP hS => ?_)
  refine lv_iconst (v := (-1)) hx hb dX0_plan_17 (by decide) ?_
  refine lv_ixor hx hb dX0_plan_18 ?_
  refine lv_iand hx hb dX0_plan_19 ?_
  refine lv_if_ne (tgt := 39) hx hb dX0_plan_20 (by decide) (fun c5 => ?_) (fun c5 => ?_)
  · replace hf := ob_f hf c5
    refine lv_iconst (v := (-1)) hx hb dX0_plan_39 (by decide) ?_
    obtain rfl := ob_s hf
    subst hQ
    exact xe_i hx hb hr hlocks hP hS dX0_plan_40
  · replace hf := ob_t hf c5
    refine lv_iload_n hx hb dX0_plan_23 rfl (lv_at hl 0 rfl) ?_
    refine lv_iconst (v := 5) hx hb dX0_plan_24 (by decide) ?_
    refine lv_icmp_gt (tgt := 39) hx hb dX0_plan_25 (by decide) (fun c6 => ?_) (fun c6 => ?_)
    · replace hf := ob_t hf c6
      refine lv_iconst (v := (-1)) hx hb dX0_plan_39 (by decide) ?_
      obtain rfl := ob_s hf
      subst hQ
      exact xe_i hx hb hr hlocks hP hS dX0_plan_40
    · replace hf := ob_f hf c6
      refine lv_iload_n hx hb dX0_plan_28 rfl (lv_at hl 3 rfl) ?_
      refine lv_iconst (v := 0) hx hb dX0_plan_29 (by decide) ?_
      refine lv_iconst (v := 1) hx hb dX0_plan_30 (by decide) ?_
      refine lv_iload_n hx hb dX0_plan_31 rfl (lv_at hl 0 rfl) ?_
      refine lv_iadd hx hb dX0_plan_32 ?_
      obtain ⟨q8, g7, hf⟩ := ob_bind hf
      refine xc_z (xj_runS (As := [.int a2, .int 0, .int (1 + q2)]) (rest := []) hJ hJs hS ⟨hx, hb, hml, hown, hts⟩ (wkX0_in l D dA E hE T J hJ w a2 0 (1 + q2) g7) (va_cwS 3 hts (lw_S q319 q320 q136 q321) rfl rfl rfl cdX0_in.2 ⟨Nat.le_of_ble_eq_true rfl, Nat.le_of_ble_eq_true rfl⟩) hK hP hl.1 rfl rfl (Nat.le_of_ble_eq_true rfl) dX0_plan_33 ⟨Nat.zero_le _, Nat.zero_le _⟩) hS hD.2 (fun H locs zq8 hP hS => ?_)
      refine lv_if_ne (tgt := 41) hx hb dX0_plan_36 (by decide) (fun c9 => ?_) (fun c9 => ?_)
      · replace hf := ob_f hf c9
        refine lv_aload_n hx hb dX0_plan_41 rfl (lv_at hl 1 rfl) ?_
        refine lv_ldcw (v := 9999999) hx hb hown (hts _ q1229) dX0_plan_42 ?_
        obtain ⟨w10, ew10, hf⟩ := ob_bnd hf
        refine xr_put hx hb hts in_X0 tyX0 tyX0_ok nmX0 hown hK hP hD hS 0 (by decide) rfl rfl 11 (by decide) (hts _ q263) (fun _ h => h) rfl rfl rfl rfl (w' := w10) ew10 dX0_plan_45 (fun H locs hP hS => ?_)
        refine lv_aload_n hx hb dX0_plan_48 rfl (lv_at hl 1 rfl) ?_
        refine lv_ldcw (v := 9999999) hx hb hown (hts _ q1229) dX0_plan_49 ?_
        obtain ⟨w11, ew11, hf⟩ := ob_bnd hf
        refine xr_put hx hb hts in_X0 tyX0 tyX0_ok nmX0 hown hK hP hD hS 0 (by decide) rfl rfl 12 (by decide) (hts _ q264) (fun _ h => h) rfl rfl rfl rfl (w' := w11) ew11 dX0_plan_52 (fun H locs hP hS => ?_)
        refine lv_aload_n hx hb dX0_plan_55 rfl (lv_at hl 1 rfl) ?_
        refine lv_iload_n hx hb dX0_plan_56 rfl (lv_at hl 2 rfl) ?_
        refine lv_iconst (v := 0) hx hb dX0_plan_57 (by decide) ?_
        refine lv_iconst (v := 0) hx hb dX0_plan_58 (by decide) ?_
        refine lv_aload_n hx hb dX0_plan_59 rfl (lv_at hl 1 rfl) ?_
        refine xr_get hx hb hts in_X0 hown hK hP 0 (by decide) rfl rfl 0 (by decide) (hts _ q252) (fun _ h => h) rfl (v := .ref (E 1)) rfl dX0_plan_60 ?_
        refine xr_getN (host := "QuarrelsPawned") hx hb hts in_X1 hown hK hP 1 (by decide) rfl rfl 1 (by decide) (hJ.nest hJs 1 rfl) (fun _ h => h) rfl (v := .ref (E 4)) rfl dX0_plan_63 ?_
        refine lv_iconst (v := 2) hx hb dX0_plan_66 (by decide) ?_
        refine xr_iald hx hb hK hP 4 (by decide) rfl 0 rfl (j := 2) (vin_c (by decide)) (by decide) dX0_plan_67 ?_
        refine lv_iconst (v := 0) hx hb dX0_plan_68 (by decide) ?_
        obtain ⟨q13, g12, hf⟩ := ob_bind hf
        refine xc_v (xj_run (As := [.int a1, .int 0, .int 0, .int (w11.1 4 2), .int 0]) (rest := []) hJ hJs hS ⟨hx, hb, hml, hown, hts⟩ (k0 := 0) (wkX0_plansFrom l D dA E hE T J hJ 6 w11 a1 0 0 (w11.1 4 2) 0 g12) (cwV 5 hts (lw_V q1279 q1281 qs52 q136 q1282) rfl rfl rfl cdX0_plansFrom ⟨Nat.le_of_ble_eq_true rfl, Nat.le_of_ble_eq_true rfl⟩) hK hP (by decide) rfl rfl rfl hl.1 rfl rfl (Nat.le_of_ble_eq_true rfl) dX0_plan_69 ⟨Nat.zero_le _, Nat.zero_le _⟩) hS hD.2 (fun H locs hP hS => ?_)
        refine lv_aload_n hx hb dX0_plan_72 rfl (lv_at hl 1 rfl) ?_
        refine xr_get hx hb hts in_X0 hown hK hP 0 (by decide) rfl rfl 11 (by decide) (hts _ q263) (fun _ h => h) rfl (v := .int (q13.1 0 11)) rfl dX0_plan_73 ?_
        refine lv_ldcw (v := 9999999) hx hb hown (hts _ q1229) dX0_plan_76 ?_
        refine lv_icmp_ne (tgt := 86) hx hb dX0_plan_79 (by decide) (fun c14 => ?_) (fun c14 => ?_)
        · replace hf := ob_f hf c14
          refine lv_iload_n hx hb dX0_plan_86 rfl (lv_at hl 3 rfl) ?_
          refine lv_if_ne (tgt := 97) hx hb dX0_plan_87 (by decide) (fun c15 => ?_) (fun c15 => ?_)
          · replace hf := ob_f hf c15
            refine lv_iload_n hx hb dX0_plan_97 rfl (lv_at hl 3 rfl) ?_
            refine lv_iconst (v := 1) hx hb dX0_plan_98 (by decide) ?_
            refine lv_icmp_ne (tgt := 109) hx hb dX0_plan_99 (by decide) (fun c16 => ?_) (fun c16 => ?_)
            · replace hf := ob_f hf c16
              refine lv_aload_n hx hb dX0_plan_109 rfl (lv_at hl 1 rfl) ?_
              refine xr_get hx hb hts in_X0 hown hK hP 0 (by decide) rfl rfl 10 (by decide) (hts _ q262) (fun _ h => h) rfl (v := .ref (E 30)) rfl dX0_plan_110 ?_
              refine lv_iload_n hx hb dX0_plan_113 rfl (lv_at hl 3 rfl) ?_
              refine lv_iconst (v := 2) hx hb dX0_plan_114 (by decide) ?_
              refine lv_isub hx hb dX0_plan_115 ?_
              obtain ⟨h17, hf⟩ := ob_gd hf
              refine xr_iald hx hb hK hP 30 (by decide) rfl 0 rfl (j := (a2 - 2).toNatClampNeg) h17 rfl dX0_plan_116 ?_
              obtain rfl := ob_s hf
              subst hQ
              exact xe_i hx hb hr hlocks hP hS dX0_plan_117
            · replace hf := ob_t hf c16
              refine lv_aload_n hx hb dX0_plan_102 rfl (lv_at hl 1 rfl) ?_
              refine xr_get hx hb hts in_X0 hown hK hP 0 (by decide) rfl rfl 12 (by decide) (hts _ q264) (fun _ h => h) rfl (v := .int (q13.1 0 12)) rfl dX0_plan_103 ?_
              refine lv_goto (tgt := 117) hx hb dX0_plan_106 (by decide) ?_
              obtain rfl := ob_s hf
              subst hQ
              exact xe_i hx hb hr hlocks hP hS dX0_plan_117
          · replace hf := ob_t hf c15
            refine lv_aload_n hx hb dX0_plan_90 rfl (lv_at hl 1 rfl) ?_
            refine xr_get hx hb hts in_X0 hown hK hP 0 (by decide) rfl rfl 11 (by decide) (hts _ q263) (fun _ h => h) rfl (v := .int (q13.1 0 11)) rfl dX0_plan_91 ?_
            refine lv_goto (tgt := 117) hx hb dX0_plan_94 (by decide) ?_
            obtain rfl := ob_s hf
            subst hQ
            exact xe_i hx hb hr hlocks hP hS dX0_plan_117
        · replace hf := ob_t hf c14
          refine lv_iconst (v := (-1)) hx hb dX0_plan_82 (by decide) ?_
          refine lv_goto (tgt := 117) hx hb dX0_plan_83 (by decide) ?_
          obtain rfl := ob_s hf
          subst hQ
          exact xe_i hx hb hr hlocks hP hS dX0_plan_117
      · replace hf := ob_t hf c9
        refine lv_iconst (v := (-1)) hx hb dX0_plan_39 (by decide) ?_
        obtain rfl := ob_s hf
        subst hQ
        exact xe_i hx hb hr hlocks hP hS dX0_plan_40
abbrev rmX0_best : Room := { frames := 202, cells := 0, slots := 0, locals := 8045 }
theorem cdX0_best : yX0_best.cls = RX0 ∧ yX0_best.cls ≠ "java/lang/invoke/MethodHandle" ∧ yX0_best.cls ≠ "java/lang/invoke/VarHandle" ∧ (parseMethodDescriptor yX0_best.desc).map (fun d => d.parameters.length) = some 3 := by decide +kernel
set_option maxHeartbeats 4000000 in
set_option maxRecDepth 100000 in
theorem wkX0_best (l : Launch) (D : va_G) (dA : Nat → ClassId) (E : Nat → Nat) (hE : wInj 136 E) (T : Tx) (J : State → Heap → Prop) (hJ : JP D dA E T J) (w : Mm) (a1 : Int32) (a2 : Int32) (a3 : Int32) {res : Int32 × Mm} (hf : X_best T w a1 a2 a3 = some res) : Met l yX0_best (ws_ yX0_best cX0_best 6 (some .int)) rmX0_best (Pj D dA E J [.ref (E 0), .int a1, .int a2, .int a3] w) (Qwi D clX shX 136 dA E res.1 res.2) 0 0 (AE 136 E) := by
  refine xj_head (own := RX0) (by decide) rfl (Nat.le_of_ble_eq_true rfl) ?_
  intro p e s m args below meth c ls Q hQ C hP hl
  obtain ⟨hx, hb, hr, hlocks, hml, hown, hts, hK, hJs⟩ := C
  replace hl : lv_has ls 6 [(0, .ref (E 0)), (1, .int a1), (2, .int a2), (3, .int a3)] := hl
  have hS : va_S (AE 136 E) s.heap s.heap [] := va_S.rf
  have hD : wD 136 E (AE 136 E) := wD.self hE
  unfold X_best at hf
  obtain ⟨H, eH⟩ : ∃ H, H = s.heap := ⟨_, rfl⟩
  obtain ⟨locs, eL⟩ : ∃ locs : List Loc, locs = [] := ⟨_, rfl⟩
  rw [← eL] at hS ⊢
  rw [← eH] at hP
  have hS : va_S (AE 136 E) s.heap H locs := by rw [eH]; exact hS
  show W p l e rmX0_best s m args below meth c s.heap locs 0 0 Q (F0 m 0 ls [])
  rw [← eH]
  refine lv_aload_n hx hb dX0_best_0 rfl (lv_at hl 0 rfl) ?_
  refine lv_iload_n hx hb dX0_best_1 rfl (lv_at hl 1 rfl) ?_
  obtain ⟨q2, g1, hf⟩ := ob_bind hf
  refine xc_z (xj_run (As := [.int a1]) (rest := []) hJ hJs hS ⟨hx, hb, hml, hown, hts⟩ (k0 := 0) (wkX0_isPawned l D dA E hE T J hJ w a1 g1) (cwV 1 hts (lw_V q931 q933 qs28 q136 q934) rfl rfl rfl cdX0_isPawned ⟨Nat.le_of_ble_eq_true rfl, Nat.le_of_ble_eq_true rfl⟩) hK hP (by decide) rfl rfl rfl hl.1 rfl rfl (Nat.le_of_ble_eq_true rfl) dX0_best_2 ⟨Nat.zero_le _, Nat.zero_le _⟩) hS hD.2 (fun H locs zq2 hP hS => ?_)
  refine lv_if_eq (tgt := 18) hx hb dX0_best_5 (by decide) (fun c3 => ?_) (fun c3 => ?_)
  · replace hf := ob_t hf c3
    refine lv_iconst (v := (-1)) hx hb dX0_best_18 (by decide) ?_
    obtain rfl := ob_s hf
    subst hQ
    exact xe_i hx hb hr hlocks hP hS dX0_best_19
  · replace hf := ob_f hf c3
    refine lv_iload_n hx hb dX0_best_8 rfl (lv_at hl 2 rfl) ?_
    refine lv_iconst (v := 0) hx hb dX0_best_9 (by decide) ?_
    refine lv_bipush (v := 60) hx hb dX0_best_10 (by decide) ?_
    obtain ⟨q5, g4, hf⟩ := ob_bind hf
    refine xc_z (xj_runS (As := [.int a2, .int 0, .int 60]) (rest := []) hJ hJs hS ⟨hx, hb, hml, hown, hts⟩ (wkX0_in l D dA E hE T J hJ w a2 0 60 g4) (va_cwS 3 hts (lw_S q319 q320 q136 q321) rfl rfl rfl cdX0_in.2 ⟨Nat.le_of_ble_eq_true rfl, Nat.le_of_ble_eq_true rfl⟩) hK hP hl.1 rfl rfl (Nat.le_of_ble_eq_true rfl) dX0_best_12 ⟨Nat.zero_le _, Nat.zero_le _⟩) hS hD.2 (fun H locs zq5 hP hS => ?_)
    refine lv_if_ne (tgt := 20) hx hb dX0_best_15 (by decide) (fun c6 => ?_) (fun c6 => ?_)
    · replace hf := ob_f hf c6
      refine lv_iconst (v := 0) hx hb dX0_best_20 (by decide) ?_
      refine lv_istore (lv' := [(4, .int 0), (0, .ref (E 0)), (1, .int a1), (2, .int a2), (3, .int a3)]) hx hb dX0_best_21 hl (by decide) rfl (fun ls hl => ?_)
      refine lv_iconst (v := 1) hx hb dX0_best_23 (by decide) ?_
      refine lv_istore (lv' := [(5, .int 1), (4, .int 0), (0, .ref (E 0)), (1, .int a1), (2, .int a2), (3, .int a3)]) hx hb dX0_best_24 hl (by decide) rfl (fun ls hl => ?_)
      obtain ⟨b10, hb10, hf⟩ := ob_bind hf
      obtain ⟨n10, hn10⟩ := lp_some hb10
      have kL26 : ∀ (n : Nat) (w7 : Mm) (v4_8 : Int32) (v5_9 : Int32), lpF (fun (q10 : Mm × Int32 × Int32) => X_best_b26 a2 T a1 q10.1 q10.2.1 q10.2.2) n (w7, v4_8, v5_9) = some b10 → (∀ (H : Heap) (locs : List Loc) (ls : Array Slot), va_P D clX (wl shX 136 dA E b10.1) H → va_S (AE 136 E) s.heap H locs → lv_has ls 6 [(0, .ref (E 0)), (1, .int a1), (3, .int a3), (4, .int b10.2)] → W p l e rmX0_best s m args below meth c H locs 0 0 Q (F0 m 77 ls [])) → ∀ (H : Heap) (locs : List Loc) (ls : Array Slot), va_P D clX (wl shX 136 dA E w7) H → va_S (AE 136 E) s.heap H locs → lv_has ls 6 [(0, .ref (E 0)), (1, .int a1), (2, .int a2), (3, .int a3), (4, .int v4_8), (5, .int v5_9)] → W p l e rmX0_best s m args below meth c H locs 0 0 Q (F0 m 26 ls []) := by
        intro n
        induction n with
        | zero =>
          intro w7 v4_8 v5_9 hq9
          cases hq9
        | succ n ih =>
          intro w7 v4_8 v5_9 hq9 K10_0 H locs ls hP hS hl
          obtain ⟨r10, hf, h10a, h10b⟩ := lpF_step hq9
          replace hf : X_best_b26 a2 T a1 w7 v4_8 v5_9 = some r10 := hf
          unfold X_best_b26 at hf
          refine lv_iload hx hb dX0_best_26 (lv_at hl 5 rfl) ?_
          refine lv_iload_n hx hb dX0_best_28 rfl (lv_at hl 2 rfl) ?_
          refine lv_icmp_gt (tgt := 77) hx hb dX0_best_29 (by decide) (fun c11 => ?_) (fun c11 => ?_)
          · replace hf := ob_t hf c11
            obtain rfl := ob_s hf
            obtain rfl := h10b _ rfl
            exact K10_0 H locs ls hP hS (lv_sub hl [0, 1, 3, 4] rfl)
          · replace hf := ob_f hf c11
            refine lv_aload_n hx hb dX0_best_32 rfl (lv_at hl 0 rfl) ?_
            refine lv_iload_n hx hb dX0_best_33 rfl (lv_at hl 1 rfl) ?_
            refine lv_iload hx hb dX0_best_34 (lv_at hl 5 rfl) ?_
            refine lv_aload_n hx hb dX0_best_36 rfl (lv_at hl 0 rfl) ?_
            refine xr_get hx hb hts in_X0 hown hK hP 0 (by decide) rfl rfl 0 (by decide) (hts _ q252) (fun _ h => h) rfl (v := .ref (E 1)) rfl dX0_best_37 ?_
            refine xr_getN (host := "QuarrelsPawned") hx hb hts in_X1 hown hK hP 1 (by decide) rfl rfl 1 (by decide) (hJ.nest hJs 1 rfl) (fun _ h => h) rfl (v := .ref (E 4)) rfl dX0_best_40 ?_
            refine lv_iconst (v := 2) hx hb dX0_best_43 (by decide) ?_
            refine xr_iald hx hb hK hP 4 (by decide) rfl 0 rfl (j := 2) (vin_c (by decide)) (by decide) dX0_best_44 ?_
            obtain ⟨q13, g12, hf⟩ := ob_bind hf
            refine xc_i (xj_run (As := [.int a1, .int v5_9, .int (w7.1 4 2)]) (rest := []) hJ hJs hS ⟨hx, hb, hml, hown, hts⟩ (k0 := 0) (wkX0_duesLater l D dA E hE T J hJ w7 a1 v5_9 (w7.1 4 2) g12) (cwV 3 hts (lw_V q1283 q1285 qs53 q136 q1286) rfl rfl rfl cdX0_duesLater ⟨Nat.le_of_ble_eq_true rfl, Nat.le_of_ble_eq_true rfl⟩) hK hP (by decide) rfl rfl rfl hl.1 rfl rfl (Nat.le_of_ble_eq_true rfl) dX0_best_45 ⟨Nat.zero_le _, Nat.zero_le _⟩) hS hD.2 (fun H locs hP hS => ?_)
            refine lv_aload_n hx hb dX0_best_48 rfl (lv_at hl 0 rfl) ?_
            refine lv_iload_n hx hb dX0_best_49 rfl (lv_at hl 1 rfl) ?_
            refine lv_iload hx hb dX0_best_50 (lv_at hl 4 rfl) ?_
            refine lv_aload_n hx hb dX0_best_52 rfl (lv_at hl 0 rfl) ?_
            refine xr_get hx hb hts in_X0 hown hK hP 0 (by decide) rfl rfl 0 (by decide) (hts _ q252) (fun _ h => h) rfl (v := .ref (E 1)) rfl dX0_best_53 ?_
            refine xr_getN (host := "QuarrelsPawned") hx hb hts in_X1 hown hK hP 1 (by decide) rfl rfl 1 (by decide) (hJ.nest hJs 1 rfl) (fun _ h => h) rfl (v := .ref (E 4)) rfl dX0_best_56 ?_
            refine lv_iconst (v := 2) hx hb dX0_best_59 (by decide) ?_
            refine xr_iald hx hb hK hP 4 (by decide) rfl 0 rfl (j := 2) (vin_c (by decide)) (by decide) dX0_best_60 ?_
            obtain ⟨q15, g14, hf⟩ := ob_bind hf
            refine xc_i (xj_run (As := [.int a1, .int v4_8, .int (q13.2.1 4 2)]) (rest := [.int q13.1]) hJ hJs hS ⟨hx, hb, hml, hown, hts⟩ (k0 := 0) (wkX0_duesLater l D dA E hE T J hJ q13.2 a1 v4_8 (q13.2.1 4 2) g14) (cwV 3 hts (lw_V q1283 q1285 qs53 q136 q1286) rfl rfl rfl cdX0_duesLater ⟨Nat.le_of_ble_eq_true rfl, Nat.le_of_ble_eq_true rfl⟩) hK hP (by decide) rfl rfl rfl hl.1 rfl rfl (Nat.le_of_ble_eq_true rfl) dX0_best_61 ⟨Nat.zero_le _, Nat.zero_le _⟩) hS hD.2 (fun H locs hP hS => ?_)
            refine lv_icmp_ge (tgt := 71) hx hb dX0_best_64 (by decide) (fun c16 => ?_) (fun c16 => ?_)
            · replace hf := ob_t hf c16
              obtain ⟨v5_17, ev5_17, hf⟩ := ob_bnd hf
              refine lv_iinc (v := v5_17) (lv' := [(5, .int v5_17), (0, .ref (E 0)), (1, .int a1), (2, .int a2), (3, .int a3), (4, .int v4_8)]) hx hb dX0_best_71 hl (k := 5) rfl (by rw [ev5_17]; rfl) (by decide) rfl (fun ls hl => ?_)
              refine lv_goto (tgt := 26) hx hb dX0_best_74 (by decide) ?_
              obtain rfl := ob_s hf
              exact ih _ _ _ (h10a _ rfl) K10_0 H locs ls hP hS (lv_sub hl [1, 2, 3, 4, 5, 0] rfl)
            · replace hf := ob_f hf c16
              refine lv_iload hx hb dX0_best_67 (lv_at hl 5 rfl) ?_
              refine lv_istore (lv' := [(4, .int v5_9), (0, .ref (E 0)), (1, .int a1), (2, .int a2), (3, .int a3), (5, .int v5_9)]) hx hb dX0_best_69 hl (by decide) rfl (fun ls hl => ?_)
              obtain ⟨v5_18, ev5_18, hf⟩ := ob_bnd hf
              refine lv_iinc (v := v5_18) (lv' := [(5, .int v5_18), (4, .int v5_9), (0, .ref (E 0)), (1, .int a1), (2, .int a2), (3, .int a3)]) hx hb dX0_best_71 hl (k := 5) rfl (by rw [ev5_18]; rfl) (by decide) rfl (fun ls hl => ?_)
              refine lv_goto (tgt := 26) hx hb dX0_best_74 (by decide) ?_
              obtain rfl := ob_s hf
              exact ih _ _ _ (h10a _ rfl) K10_0 H locs ls hP hS (lv_sub hl [2, 3, 4, 5, 1, 0] rfl)
      refine kL26 n10 w 0 1 hn10 (fun H locs ls hP hS hl => ?_) H locs ls hP hS (lv_sub hl [2, 3, 4, 5, 1, 0] rfl)
      replace hf : X_best_x26_77 a3 T b10 a1 = some res := hf
      unfold X_best_x26_77 at hf
      refine lv_iload_n hx hb dX0_best_77 rfl (lv_at hl 2 rfl) ?_
      refine lv_if_eq (tgt := 86) hx hb dX0_best_78 (by decide) (fun c19 => ?_) (fun c19 => ?_)
      · replace hf := ob_t hf c19
        refine lv_aload_n hx hb dX0_best_86 rfl (lv_at hl 0 rfl) ?_
        refine lv_iload_n hx hb dX0_best_87 rfl (lv_at hl 1 rfl) ?_
        refine lv_iload hx hb dX0_best_88 (lv_at hl 3 rfl) ?_
        refine lv_aload_n hx hb dX0_best_90 rfl (lv_at hl 0 rfl) ?_
        refine xr_get hx hb hts in_X0 hown hK hP 0 (by decide) rfl rfl 0 (by decide) (hts _ q252) (fun _ h => h) rfl (v := .ref (E 1)) rfl dX0_best_91 ?_
        refine xr_getN (host := "QuarrelsPawned") hx hb hts in_X1 hown hK hP 1 (by decide) rfl rfl 1 (by decide) (hJ.nest hJs 1 rfl) (fun _ h => h) rfl (v := .ref (E 4)) rfl dX0_best_94 ?_
        refine lv_iconst (v := 2) hx hb dX0_best_97 (by decide) ?_
        refine xr_iald hx hb hK hP 4 (by decide) rfl 0 rfl (j := 2) (vin_c (by decide)) (by decide) dX0_best_98 ?_
        obtain ⟨q21, g20, hf⟩ := ob_bind hf
        refine xc_i (xj_run (As := [.int a1, .int b10.2, .int (b10.1.1 4 2)]) (rest := []) hJ hJs hS ⟨hx, hb, hml, hown, hts⟩ (k0 := 0) (wkX0_duesLater l D dA E hE T J hJ b10.1 a1 b10.2 (b10.1.1 4 2) g20) (cwV 3 hts (lw_V q1283 q1285 qs53 q136 q1286) rfl rfl rfl cdX0_duesLater ⟨Nat.le_of_ble_eq_true rfl, Nat.le_of_ble_eq_true rfl⟩) hK hP (by decide) rfl rfl rfl hl.1 rfl rfl (Nat.le_of_ble_eq_true rfl) dX0_best_99 ⟨Nat.zero_le _, Nat.zero_le _⟩) hS hD.2 (fun H locs hP hS => ?_)
        obtain rfl := ob_s hf
        subst hQ
        exact xe_i hx hb hr hlocks hP hS dX0_best_102
      · replace hf := ob_f hf c19
        refine lv_iload hx hb dX0_best_81 (lv_at hl 3 rfl) ?_
        refine lv_goto (tgt := 102) hx hb dX0_best_83 (by decide) ?_
        obtain rfl := ob_s hf
        subst hQ
        exact xe_i hx hb hr hlocks hP hS dX0_best_102
    · replace hf := ob_t hf c6
      refine lv_iconst (v := (-1)) hx hb dX0_best_18 (by decide) ?_
      obtain rfl := ob_s hf
      subst hQ
      exact xe_i hx hb hr hlocks hP hS dX0_best_19
abbrev rmX0_digit : Room := { frames := 1, cells := 0, slots := 0, locals := 22 }
theorem cdX0_digit : yX0_digit.cls = RX0 ∧ yX0_digit.cls ≠ "java/lang/invoke/MethodHandle" ∧ yX0_digit.cls ≠ "java/lang/invoke/VarHandle" ∧ (parseMethodDescriptor yX0_digit.desc).map (fun d => d.parameters.length) = some 2 := by decide +kernel
set_option maxHeartbeats 4000000 in
set_option maxRecDepth 100000 in
theorem wkX0_digit (l : Launch) (D : va_G) (dA : Nat → ClassId) (E : Nat → Nat) (hE : wInj 136 E) (T : Tx) (J : State → Heap → Prop) (hJ : JP D dA E T J) (w : Mm) (a1 : Int32) (a2 : Int32) {res : Int32 × Mm} (hf : X_digit w a1 a2 = some res) : Met l yX0_digit (ws_ yX0_digit cX0_digit 3 (some .boolean)) rmX0_digit (Pj D dA E J [.ref (E 0), .int a1, .int a2] w) (Qwz D clX shX 136 dA E res.1 res.2) 0 0 (AE 136 E) := by
  refine xj_head (own := RX0) (by decide) rfl (Nat.le_of_ble_eq_true rfl) ?_
  intro p e s m args below meth c ls Q hQ C hP hl
  obtain ⟨hx, hb, hr, hlocks, hml, hown, hts, hK, hJs⟩ := C
  replace hl : lv_has ls 3 [(0, .ref (E 0)), (1, .int a1), (2, .int a2)] := hl
  have hS : va_S (AE 136 E) s.heap s.heap [] := va_S.rf
  have hD : wD 136 E (AE 136 E) := wD.self hE
  unfold X_digit at hf
  obtain ⟨H, eH⟩ : ∃ H, H = s.heap := ⟨_, rfl⟩
  obtain ⟨locs, eL⟩ : ∃ locs : List Loc, locs = [] := ⟨_, rfl⟩
  rw [← eL] at hS ⊢
  rw [← eH] at hP
  have hS : va_S (AE 136 E) s.heap H locs := by rw [eH]; exact hS
  show W p l e rmX0_digit s m args below meth c s.heap locs 0 0 Q (F0 m 0 ls [])
  rw [← eH]
  refine lv_iload_n hx hb dX0_digit_0 rfl (lv_at hl 1 rfl) ?_
  refine lv_iconst (v := 0) hx hb dX0_digit_1 (by decide) ?_
  refine lv_iconst (v := 3) hx hb dX0_digit_2 (by decide) ?_
  obtain ⟨q2, g1, hf⟩ := ob_bind hf
  refine xc_z (xj_runS (As := [.int a1, .int 0, .int 3]) (rest := []) hJ hJs hS ⟨hx, hb, hml, hown, hts⟩ (wkX0_in l D dA E hE T J hJ w a1 0 3 g1) (va_cwS 3 hts (lw_S q319 q320 q136 q321) rfl rfl rfl cdX0_in.2 ⟨Nat.le_of_ble_eq_true rfl, Nat.le_of_ble_eq_true rfl⟩) hK hP hl.1 rfl rfl (Nat.le_of_ble_eq_true rfl) dX0_digit_3 ⟨Nat.zero_le _, Nat.zero_le _⟩) hS hD.2 (fun H locs zq2 hP hS => ?_)
  refine lv_if_eq (tgt := 19) hx hb dX0_digit_6 (by decide) (fun c3 => ?_) (fun c3 => ?_)
  · replace hf := ob_t hf c3
    refine lv_iconst (v := 0) hx hb dX0_digit_19 (by decide) ?_
    obtain rfl := ob_s hf
    subst hQ
    exact xe_z hx hb hr hlocks hP hS (Or.inl rfl) dX0_digit_20
  · replace hf := ob_f hf c3
    refine lv_iload_n hx hb dX0_digit_9 rfl (lv_at hl 2 rfl) ?_
    refine lv_iconst (v := (-1)) hx hb dX0_digit_10 (by decide) ?_
    refine lv_bipush (v := 9) hx hb dX0_digit_11 (by decide) ?_
    obtain ⟨q5, g4, hf⟩ := ob_bind hf
    refine xc_z (xj_runS (As := [.int a2, .int (-1), .int 9]) (rest := []) hJ hJs hS ⟨hx, hb, hml, hown, hts⟩ (wkX0_in l D dA E hE T J hJ w a2 (-1) 9 g4) (va_cwS 3 hts (lw_S q319 q320 q136 q321) rfl rfl rfl cdX0_in.2 ⟨Nat.le_of_ble_eq_true rfl, Nat.le_of_ble_eq_true rfl⟩) hK hP hl.1 rfl rfl (Nat.le_of_ble_eq_true rfl) dX0_digit_13 ⟨Nat.zero_le _, Nat.zero_le _⟩) hS hD.2 (fun H locs zq5 hP hS => ?_)
    refine lv_if_ne (tgt := 21) hx hb dX0_digit_16 (by decide) (fun c6 => ?_) (fun c6 => ?_)
    · replace hf := ob_f hf c6
      refine lv_aload_n hx hb dX0_digit_21 rfl (lv_at hl 0 rfl) ?_
      refine xr_get hx hb hts in_X0 hown hK hP 0 (by decide) rfl rfl 0 (by decide) (hts _ q252) (fun _ h => h) rfl (v := .ref (E 1)) rfl dX0_digit_22 ?_
      refine xr_getN (host := "QuarrelsPawned") hx hb hts in_X1 hown hK hP 1 (by decide) rfl rfl 5 (by decide) (hJ.nest hJs 5 rfl) (fun _ h => h) rfl (v := .ref (E 8)) rfl dX0_digit_25 ?_
      refine lv_iload_n hx hb dX0_digit_28 rfl (lv_at hl 1 rfl) ?_
      refine lv_iload_n hx hb dX0_digit_29 rfl (lv_at hl 2 rfl) ?_
      obtain ⟨h7, hf⟩ := ob_gd hf
      obtain ⟨w8, ew8, hf⟩ := ob_bnd hf
      refine xr_iast hx hb hK hP hD hS 8 (by decide) rfl 0 rfl (j := a1.toNatClampNeg) (w' := w8) h7 rfl ew8 dX0_digit_30 (fun H locs hP hS => ?_)
      refine lv_iconst (v := 1) hx hb dX0_digit_31 (by decide) ?_
      obtain rfl := ob_s hf
      subst hQ
      exact xe_z hx hb hr hlocks hP hS (Or.inr rfl) dX0_digit_32
    · replace hf := ob_t hf c6
      refine lv_iconst (v := 0) hx hb dX0_digit_19 (by decide) ?_
      obtain rfl := ob_s hf
      subst hQ
      exact xe_z hx hb hr hlocks hP hS (Or.inl rfl) dX0_digit_20
abbrev rmX0_isTicket : Room := { frames := 0, cells := 0, slots := 0, locals := 0 }
theorem cdX0_isTicket : yX0_isTicket.cls = RX0 ∧ yX0_isTicket.cls ≠ "java/lang/invoke/MethodHandle" ∧ yX0_isTicket.cls ≠ "java/lang/invoke/VarHandle" ∧ (parseMethodDescriptor yX0_isTicket.desc).map (fun d => d.parameters.length) = some 1 := by decide +kernel
set_option maxHeartbeats 4000000 in
set_option maxRecDepth 100000 in
theorem wkX0_isTicket (l : Launch) (D : va_G) (dA : Nat → ClassId) (E : Nat → Nat) (hE : wInj 136 E) (T : Tx) (J : State → Heap → Prop) (hJ : JP D dA E T J) (w : Mm) (a1 : Int32) {res : Int32} (hf : X_isTicket T w a1 = some res) : Met l yX0_isTicket (ws_ yX0_isTicket cX0_isTicket 6 (some .boolean)) rmX0_isTicket (Pj D dA E J [.ref (E 0), .int a1] w) (Qwz D clX shX 136 dA E res w) 0 0 (AE 136 E) := by
  refine xj_head (own := RX0) (by decide) rfl (Nat.le_of_ble_eq_true rfl) ?_
  intro p e s m args below meth c ls Q hQ C hP hl
  obtain ⟨hx, hb, hr, hlocks, hml, hown, hts, hK, hJs⟩ := C
  replace hl : lv_has ls 6 [(0, .ref (E 0)), (1, .int a1)] := hl
  have hS : va_S (AE 136 E) s.heap s.heap [] := va_S.rf
  have hD : wD 136 E (AE 136 E) := wD.self hE
  unfold X_isTicket at hf
  obtain ⟨H, eH⟩ : ∃ H, H = s.heap := ⟨_, rfl⟩
  obtain ⟨locs, eL⟩ : ∃ locs : List Loc, locs = [] := ⟨_, rfl⟩
  rw [← eL] at hS ⊢
  rw [← eH] at hP
  have hS : va_S (AE 136 E) s.heap H locs := by rw [eH]; exact hS
  show W p l e rmX0_isTicket s m args below meth c s.heap locs 0 0 Q (F0 m 0 ls [])
  rw [← eH]
  refine lv_iload_n hx hb dX0_isTicket_0 rfl (lv_at hl 1 rfl) ?_
  refine lv_istore_n (lv' := [(2, .int a1), (0, .ref (E 0)), (1, .int a1)]) hx hb dX0_isTicket_1 rfl hl (by decide) rfl (fun ls hl => ?_)
  refine lv_iconst (v := 0) hx hb dX0_isTicket_2 (by decide) ?_
  refine lv_istore_n (lv' := [(3, .int 0), (2, .int a1), (0, .ref (E 0)), (1, .int a1)]) hx hb dX0_isTicket_3 rfl hl (by decide) rfl (fun ls hl => ?_)
  refine lv_iconst (v := 0) hx hb dX0_isTicket_4 (by decide) ?_
  refine lv_istore (lv' := [(4, .int 0), (3, .int 0), (2, .int a1), (0, .ref (E 0)), (1, .int a1)]) hx hb dX0_isTicket_5 hl (by decide) rfl (fun ls hl => ?_)
  obtain ⟨b4, hb4, hf⟩ := ob_bind hf
  obtain ⟨n4, hn4⟩ := lp_some hb4
  have kL7 : ∀ (n : Nat) (v2_1 : Int32) (v3_2 : Int32) (v4_3 : Int32), lpF (fun (q4 : Int32 × Int32 × Int32) => X_isTicket_b7 w q4.1 q4.2.1 q4.2.2) n (v2_1, v3_2, v4_3) = some b4 → (∀ (x4_0 : Unit), b4 = .inl x4_0 → ∀ (H : Heap) (locs : List Loc) (ls : Array Slot), va_P D clX (wl shX 136 dA E w) H → va_S (AE 136 E) s.heap H locs → lv_has ls 6 [] → W p l e rmX0_isTicket s m args below meth c H locs 0 0 Q (F0 m 42 ls [])) → (∀ (x4_1 : Int32), b4 = .inr x4_1 → ∀ (H : Heap) (locs : List Loc) (ls : Array Slot), va_P D clX (wl shX 136 dA E w) H → va_S (AE 136 E) s.heap H locs → lv_has ls 6 [(3, .int x4_1)] → W p l e rmX0_isTicket s m args below meth c H locs 0 0 Q (F0 m 69 ls [])) → ∀ (H : Heap) (locs : List Loc) (ls : Array Slot), va_P D clX (wl shX 136 dA E w) H → va_S (AE 136 E) s.heap H locs → lv_has ls 6 [(0, .ref (E 0)), (2, .int v2_1), (3, .int v3_2), (4, .int v4_3)] → W p l e rmX0_isTicket s m args below meth c H locs 0 0 Q (F0 m 7 ls []) := by
    intro n
    induction n with
    | zero =>
      intro v2_1 v3_2 v4_3 hq9
      cases hq9
    | succ n ih =>
      intro v2_1 v3_2 v4_3 hq9 K4_0 K4_1 H locs ls hP hS hl
      obtain ⟨r4, hf, h4a, h4b⟩ := lpF_step hq9
      replace hf : X_isTicket_b7 w v2_1 v3_2 v4_3 = some r4 := hf
      unfold X_isTicket_b7 at hf
      refine lv_iload hx hb dX0_isTicket_7 (lv_at hl 3 rfl) ?_
      refine lv_iconst (v := 4) hx hb dX0_isTicket_9 (by decide) ?_
      refine lv_icmp_ge (tgt := 69) hx hb dX0_isTicket_10 (by decide) (fun c5 => ?_) (fun c5 => ?_)
      · replace hf := ob_t hf c5
        obtain rfl := ob_s hf
        exact K4_1 _ (h4b _ rfl).symm H locs ls hP hS (lv_sub hl [2] rfl)
      · replace hf := ob_f hf c5
        refine lv_aload_n hx hb dX0_isTicket_13 rfl (lv_at hl 0 rfl) ?_
        refine xr_get hx hb hts in_X0 hown hK hP 0 (by decide) rfl rfl 0 (by decide) (hts _ q252) (fun _ h => h) rfl (v := .ref (E 1)) rfl dX0_isTicket_14 ?_
        refine xr_getN (host := "QuarrelsPawned") hx hb hts in_X1 hown hK hP 1 (by decide) rfl rfl 5 (by decide) (hJ.nest hJs 5 rfl) (fun _ h => h) rfl (v := .ref (E 8)) rfl dX0_isTicket_17 ?_
        refine lv_iconst (v := 3) hx hb dX0_isTicket_20 (by decide) ?_
        refine lv_iload hx hb dX0_isTicket_21 (lv_at hl 3 rfl) ?_
        refine lv_isub hx hb dX0_isTicket_23 ?_
        obtain ⟨h6, hf⟩ := ob_gd hf
        refine xr_iald hx hb hK hP 8 (by decide) rfl 0 rfl (j := (3 - v4_3).toNatClampNeg) h6 rfl dX0_isTicket_24 ?_
        obtain ⟨v5_7, ev5_7, hf⟩ := ob_bnd hf
        refine xn_i ev5_7 ?_
        refine lv_istore (lv' := [(5, .int v5_7), (0, .ref (E 0)), (2, .int v2_1), (3, .int v3_2), (4, .int v4_3)]) hx hb dX0_isTicket_25 hl (by decide) rfl (fun ls hl => ?_)
        refine lv_iload hx hb dX0_isTicket_27 (lv_at hl 0 rfl) ?_
        refine lv_iconst (v := (-1)) hx hb dX0_isTicket_29 (by decide) ?_
        have kj44 : ∀ (H : Heap) (locs : List Loc) (ls : Array Slot), X_isTicket_j44 v4_3 v3_2 v2_1 = some r4 → va_P D clX (wl shX 136 dA E w) H → va_S (AE 136 E) s.heap H locs → lv_has ls 6 [(0, .ref (E 0)), (2, .int v2_1), (3, .int v3_2), (4, .int v4_3)] → W p l e rmX0_isTicket s m args below meth c H locs 0 0 Q (F0 m 44 ls []) := by
          intro H locs ls hf hP hS hl
          unfold X_isTicket_j44 at hf
          refine lv_iload_n hx hb dX0_isTicket_44 rfl (lv_at hl 2 rfl) ?_
          refine va_gets hx hb (hJ.2.2.2 s s.heap hJs).2.1.1 hS hown (hts _ q1303) (fun _ h => h) dX0_isTicket_45 ?_
          refine lv_iload hx hb dX0_isTicket_48 (lv_at hl 3 rfl) ?_
          obtain ⟨h8, hf⟩ := ob_gd hf
          refine va_ti hx hb (hJ.2.2.2 s s.heap hJs).2.1.2 hS h8 (v := .int (ckF v4_3.toNatClampNeg)) rfl dX0_isTicket_50 ?_
          refine lv_iload_n hx hb dX0_isTicket_51 rfl (lv_at hl 1 rfl) ?_
          refine lv_bipush (v := 10) hx hb dX0_isTicket_52 (by decide) ?_
          refine xr_irem hx hb dX0_isTicket_54 (by decide) ?_
          refine lv_imul hx hb dX0_isTicket_55 ?_
          refine lv_iadd hx hb dX0_isTicket_56 ?_
          obtain ⟨v3_9, ev3_9, hf⟩ := ob_bnd hf
          refine xn_i ev3_9 ?_
          refine lv_istore_n (lv' := [(3, .int v3_9), (0, .ref (E 0)), (2, .int v2_1), (4, .int v4_3)]) hx hb dX0_isTicket_57 rfl hl (by decide) rfl (fun ls hl => ?_)
          refine lv_iload_n hx hb dX0_isTicket_58 rfl (lv_at hl 2 rfl) ?_
          refine lv_bipush (v := 10) hx hb dX0_isTicket_59 (by decide) ?_
          refine lv_idiv hx hb dX0_isTicket_61 (by decide) ?_
          obtain ⟨v2_10, ev2_10, hf⟩ := ob_bnd hf
          refine xn_i ev2_10 ?_
          refine lv_istore_n (lv' := [(2, .int v2_10), (3, .int v3_9), (0, .ref (E 0)), (4, .int v4_3)]) hx hb dX0_isTicket_62 rfl hl (by decide) rfl (fun ls hl => ?_)
          obtain ⟨v4_11, ev4_11, hf⟩ := ob_bnd hf
          refine lv_iinc (v := v4_11) (lv' := [(4, .int v4_11), (2, .int v2_10), (3, .int v3_9), (0, .ref (E 0))]) hx hb dX0_isTicket_63 hl (k := 3) rfl (by rw [ev4_11]; rfl) (by decide) rfl (fun ls hl => ?_)
          refine lv_goto (tgt := 7) hx hb dX0_isTicket_66 (by decide) ?_
          obtain rfl := ob_s hf
          exact ih _ _ _ (h4a _ rfl) K4_0 K4_1 H locs ls hP hS (lv_sub hl [3, 1, 2, 0] rfl)
        refine lv_icmp_eq (tgt := 44) hx hb dX0_isTicket_30 (by decide) (fun c12 => ?_) (fun c12 => ?_)
        · replace hf := ob_t hf c12
          exact kj44 H locs ls hf hP hS (lv_sub hl [1, 2, 3, 4] rfl)
        · replace hf := ob_f hf c12
          refine lv_iload hx hb dX0_isTicket_33 (lv_at hl 0 rfl) ?_
          refine lv_iload_n hx hb dX0_isTicket_35 rfl (lv_at hl 2 rfl) ?_
          refine lv_bipush (v := 10) hx hb dX0_isTicket_36 (by decide) ?_
          refine xr_irem hx hb dX0_isTicket_38 (by decide) ?_
          refine lv_icmp_eq (tgt := 44) hx hb dX0_isTicket_39 (by decide) (fun c13 => ?_) (fun c13 => ?_)
          · replace hf := ob_t hf c13
            exact kj44 H locs ls hf hP hS (lv_sub hl [1, 2, 3, 4] rfl)
          · replace hf := ob_f hf c13
            obtain rfl := ob_s hf
            exact K4_0 _ (h4b _ rfl).symm H locs ls hP hS (lv_sub hl [] rfl)
  refine kL7 n4 a1 0 0 hn4 (fun x4_0 ex4_0 H locs ls hP hS hl => ?_) (fun x4_1 ex4_1 H locs ls hP hS hl => ?_) H locs ls hP hS (lv_sub hl [3, 2, 1, 0] rfl)
  · subst ex4_0
    replace hf : X_isTicket_x7_42 = some res := hf
    unfold X_isTicket_x7_42 at hf
    refine lv_iconst (v := 0) hx hb dX0_isTicket_42 (by decide) ?_
    obtain rfl := ob_s hf
    subst hQ
    exact xe_z hx hb hr hlocks hP hS (Or.inl rfl) dX0_isTicket_43
  · subst ex4_1
    replace hf : X_isTicket_x7_69 x4_1 = some res := hf
    unfold X_isTicket_x7_69 at hf
    refine lv_iload_n hx hb dX0_isTicket_69 rfl (lv_at hl 0 rfl) ?_
    refine lv_bipush (v := 10) hx hb dX0_isTicket_70 (by decide) ?_
    refine xr_irem hx hb dX0_isTicket_72 (by decide) ?_
    refine lv_if_ne (tgt := 80) hx hb dX0_isTicket_73 (by decide) (fun c14 => ?_) (fun c14 => ?_)
    · replace hf := ob_f hf c14
      refine lv_iconst (v := 0) hx hb dX0_isTicket_80 (by decide) ?_
      obtain rfl := ob_s hf
      subst hQ
      exact xe_z hx hb hr hlocks hP hS (Or.inl rfl) dX0_isTicket_81
    · replace hf := ob_t hf c14
      refine lv_iconst (v := 1) hx hb dX0_isTicket_76 (by decide) ?_
      refine lv_goto (tgt := 81) hx hb dX0_isTicket_77 (by decide) ?_
      obtain rfl := ob_s hf
      subst hQ
      exact xe_z hx hb hr hlocks hP hS (Or.inr rfl) dX0_isTicket_81
abbrev rmX0_tickets : Room := { frames := 1, cells := 0, slots := 0, locals := 25 }
theorem cdX0_tickets : yX0_tickets.cls = RX0 ∧ yX0_tickets.cls ≠ "java/lang/invoke/MethodHandle" ∧ yX0_tickets.cls ≠ "java/lang/invoke/VarHandle" ∧ (parseMethodDescriptor yX0_tickets.desc).map (fun d => d.parameters.length) = some 1 := by decide +kernel
set_option maxHeartbeats 4000000 in
set_option maxRecDepth 100000 in
theorem wkX0_tickets (l : Launch) (D : va_G) (dA : Nat → ClassId) (E : Nat → Nat) (hE : wInj 136 E) (T : Tx) (J : State → Heap → Prop) (hJ : JP D dA E T J) (w : Mm) (a1 : Int32) {res : Int32} (hf : X_tickets T w a1 = some res) : Met l yX0_tickets (ws_ yX0_tickets cX0_tickets 4 (some .int)) rmX0_tickets (Pj D dA E J [.ref (E 0), .int a1] w) (Qwi D clX shX 136 dA E res w) 0 0 (AE 136 E) := by
  refine xj_head (own := RX0) (by decide) rfl (Nat.le_of_ble_eq_true rfl) ?_
  intro p e s m args below meth c ls Q hQ C hP hl
  obtain ⟨hx, hb, hr, hlocks, hml, hown, hts, hK, hJs⟩ := C
  replace hl : lv_has ls 4 [(0, .ref (E 0)), (1, .int a1)] := hl
  have hS : va_S (AE 136 E) s.heap s.heap [] := va_S.rf
  have hD : wD 136 E (AE 136 E) := wD.self hE
  unfold X_tickets at hf
  obtain ⟨H, eH⟩ : ∃ H, H = s.heap := ⟨_, rfl⟩
  obtain ⟨locs, eL⟩ : ∃ locs : List Loc, locs = [] := ⟨_, rfl⟩
  rw [← eL] at hS ⊢
  rw [← eH] at hP
  have hS : va_S (AE 136 E) s.heap H locs := by rw [eH]; exact hS
  show W p l e rmX0_tickets s m args below meth c s.heap locs 0 0 Q (F0 m 0 ls [])
  rw [← eH]
  refine lv_iconst (v := 0) hx hb dX0_tickets_0 (by decide) ?_
  refine lv_istore_n (lv' := [(2, .int 0), (0, .ref (E 0)), (1, .int a1)]) hx hb dX0_tickets_1 rfl hl (by decide) rfl (fun ls hl => ?_)
  refine lv_iconst (v := 0) hx hb dX0_tickets_2 (by decide) ?_
  refine lv_istore_n (lv' := [(3, .int 0), (2, .int 0), (0, .ref (E 0)), (1, .int a1)]) hx hb dX0_tickets_3 rfl hl (by decide) rfl (fun ls hl => ?_)
  obtain ⟨b3, hb3, hf⟩ := ob_bind hf
  obtain ⟨n3, hn3⟩ := lp_some hb3
  have kL4 : ∀ (n : Nat) (v2_1 : Int32) (v3_2 : Int32), lpF (fun (q3 : Int32 × Int32) => X_tickets_b4 T w a1 q3.1 q3.2) n (v2_1, v3_2) = some b3 → (∀ (x3_0 : Int32), b3 = .inl x3_0 → ∀ (H : Heap) (locs : List Loc) (ls : Array Slot), va_P D clX (wl shX 136 dA E w) H → va_S (AE 136 E) s.heap H locs → lv_has ls 4 [(3, .int x3_0)] → W p l e rmX0_tickets s m args below meth c H locs 0 0 Q (F0 m 27 ls [])) → (∀ (x3_1 : Int32), b3 = .inr x3_1 → ∀ (H : Heap) (locs : List Loc) (ls : Array Slot), va_P D clX (wl shX 136 dA E w) H → va_S (AE 136 E) s.heap H locs → lv_has ls 4 [(1, .int a1), (2, .int x3_1)] → W p l e rmX0_tickets s m args below meth c H locs 0 0 Q (F0 m 38 ls [])) → ∀ (H : Heap) (locs : List Loc) (ls : Array Slot), va_P D clX (wl shX 136 dA E w) H → va_S (AE 136 E) s.heap H locs → lv_has ls 4 [(0, .ref (E 0)), (1, .int a1), (2, .int v2_1), (3, .int v3_2)] → W p l e rmX0_tickets s m args below meth c H locs 0 0 Q (F0 m 4 ls []) := by
    intro n
    induction n with
    | zero =>
      intro v2_1 v3_2 hq9
      cases hq9
    | succ n ih =>
      intro v2_1 v3_2 hq9 K3_0 K3_1 H locs ls hP hS hl
      obtain ⟨r3, hf, h3a, h3b⟩ := lpF_step hq9
      replace hf : X_tickets_b4 T w a1 v2_1 v3_2 = some r3 := hf
      unfold X_tickets_b4 at hf
      refine lv_iload_n hx hb dX0_tickets_4 rfl (lv_at hl 3 rfl) ?_
      refine lv_sipush (v := 10000) hx hb dX0_tickets_5 (by decide) ?_
      refine lv_icmp_ge (tgt := 38) hx hb dX0_tickets_8 (by decide) (fun c4 => ?_) (fun c4 => ?_)
      · replace hf := ob_t hf c4
        obtain rfl := ob_s hf
        exact K3_1 _ (h3b _ rfl).symm H locs ls hP hS (lv_sub hl [1, 2] rfl)
      · replace hf := ob_f hf c4
        refine lv_aload_n hx hb dX0_tickets_11 rfl (lv_at hl 0 rfl) ?_
        refine lv_iload_n hx hb dX0_tickets_12 rfl (lv_at hl 3 rfl) ?_
        obtain ⟨q6, g5, hf⟩ := ob_bind hf
        refine xc_z (xj_run (As := [.int v3_2]) (rest := []) hJ hJs hS ⟨hx, hb, hml, hown, hts⟩ (k0 := 0) (wkX0_isTicket l D dA E hE T J hJ w v3_2 g5) (cwV 1 hts (lw_V q1299 q1301 qs54 q136 q1302) rfl rfl rfl cdX0_isTicket ⟨Nat.le_of_ble_eq_true rfl, Nat.le_of_ble_eq_true rfl⟩) hK hP (by decide) rfl rfl rfl hl.1 rfl rfl (Nat.le_of_ble_eq_true rfl) dX0_tickets_13 ⟨Nat.zero_le _, Nat.zero_le _⟩) hS hD.2 (fun H locs zq6 hP hS => ?_)
        refine lv_if_ne (tgt := 22) hx hb dX0_tickets_16 (by decide) (fun c7 => ?_) (fun c7 => ?_)
        · replace hf := ob_f hf c7
          refine lv_iload_n hx hb dX0_tickets_22 rfl (lv_at hl 2 rfl) ?_
          refine lv_iload_n hx hb dX0_tickets_23 rfl (lv_at hl 1 rfl) ?_
          refine lv_icmp_ne (tgt := 29) hx hb dX0_tickets_24 (by decide) (fun c8 => ?_) (fun c8 => ?_)
          · replace hf := ob_f hf c8
            obtain ⟨v2_9, ev2_9, hf⟩ := ob_bnd hf
            refine lv_iinc (v := v2_9) (lv' := [(2, .int v2_9), (0, .ref (E 0)), (1, .int a1), (3, .int v3_2)]) hx hb dX0_tickets_29 hl (k := 2) rfl (by rw [ev2_9]; rfl) (by decide) rfl (fun ls hl => ?_)
            obtain ⟨v3_10, ev3_10, hf⟩ := ob_bnd hf
            refine lv_iinc (v := v3_10) (lv' := [(3, .int v3_10), (2, .int v2_9), (0, .ref (E 0)), (1, .int a1)]) hx hb dX0_tickets_32 hl (k := 3) rfl (by rw [ev3_10]; rfl) (by decide) rfl (fun ls hl => ?_)
            refine lv_goto (tgt := 4) hx hb dX0_tickets_35 (by decide) ?_
            obtain rfl := ob_s hf
            exact ih _ _ (h3a _ rfl) K3_0 K3_1 H locs ls hP hS (lv_sub hl [2, 3, 1, 0] rfl)
          · replace hf := ob_t hf c8
            obtain rfl := ob_s hf
            exact K3_0 _ (h3b _ rfl).symm H locs ls hP hS (lv_sub hl [3] rfl)
        · replace hf := ob_t hf c7
          refine lv_goto (tgt := 32) hx hb dX0_tickets_19 (by decide) ?_
          obtain ⟨v3_11, ev3_11, hf⟩ := ob_bnd hf
          refine lv_iinc (v := v3_11) (lv' := [(3, .int v3_11), (0, .ref (E 0)), (1, .int a1), (2, .int v2_1)]) hx hb dX0_tickets_32 hl (k := 3) rfl (by rw [ev3_11]; rfl) (by decide) rfl (fun ls hl => ?_)
          refine lv_goto (tgt := 4) hx hb dX0_tickets_35 (by decide) ?_
          obtain rfl := ob_s hf
          exact ih _ _ (h3a _ rfl) K3_0 K3_1 H locs ls hP hS (lv_sub hl [1, 2, 3, 0] rfl)
  refine kL4 n3 0 0 hn3 (fun x3_0 ex3_0 H locs ls hP hS hl => ?_) (fun x3_1 ex3_1 H locs ls hP hS hl => ?_) H locs ls hP hS (lv_sub hl [2, 3, 1, 0] rfl)
  · subst ex3_0
    replace hf : X_tickets_x4_27 x3_0 = some res := hf
    unfold X_tickets_x4_27 at hf
    refine lv_iload_n hx hb dX0_tickets_27 rfl (lv_at hl 0 rfl) ?_
    obtain rfl := ob_s hf
    subst hQ
    exact xe_i hx hb hr hlocks hP hS dX0_tickets_28
  · subst ex3_1
    replace hf : X_tickets_x4_38 a1 x3_1 = some res := hf
    unfold X_tickets_x4_38 at hf
    refine lv_iload_n hx hb dX0_tickets_38 rfl (lv_at hl 0 rfl) ?_
    refine lv_iconst (v := (-1)) hx hb dX0_tickets_39 (by decide) ?_
    refine lv_icmp_ne (tgt := 47) hx hb dX0_tickets_40 (by decide) (fun c12 => ?_) (fun c12 => ?_)
    · replace hf := ob_f hf c12
      refine lv_bipush (v := (-2)) hx hb dX0_tickets_47 (by decide) ?_
      obtain rfl := ob_s hf
      subst hQ
      exact xe_i hx hb hr hlocks hP hS dX0_tickets_49
    · replace hf := ob_t hf c12
      refine lv_iload_n hx hb dX0_tickets_43 rfl (lv_at hl 1 rfl) ?_
      refine lv_goto (tgt := 49) hx hb dX0_tickets_44 (by decide) ?_
      obtain rfl := ob_s hf
      subst hQ
      exact xe_i hx hb hr hlocks hP hS dX0_tickets_49
abbrev rmX1_clears : Room := { frames := 0, cells := 0, slots := 0, locals := 0 }
theorem cdX1_clears : yX1_clears.cls = RX1 ∧ yX1_clears.cls ≠ "java/lang/invoke/MethodHandle" ∧ yX1_clears.cls ≠ "java/lang/invoke/VarHandle" ∧ (parseMethodDescriptor yX1_clears.desc).map (fun d => d.parameters.length) = some 1 := by decide +kernel
set_option maxHeartbeats 4000000 in
set_option maxRecDepth 100000 in
theorem wkX1_clears (l : Launch) (D : va_G) (dA : Nat → ClassId) (E : Nat → Nat) (hE : wInj 136 E) (T : Tx) (J : State → Heap → Prop) (hJ : JP D dA E T J) (w : Mm) (a1 : Int32) {res : Int32 × Mm} (hf : X_X1_clears w a1 = some res) : Met l yX1_clears (ws_ yX1_clears cX1_clears 2 (some .int)) rmX1_clears (Pj D dA E J [.ref (E 1), .int a1] w) (Qwi D clX shX 136 dA E res.1 res.2) 0 0 (AE 136 E) := by
  refine xj_head (own := RX1) (by decide) rfl (Nat.le_of_ble_eq_true rfl) ?_
  intro p e s m args below meth c ls Q hQ C hP hl
  obtain ⟨hx, hb, hr, hlocks, hml, hown, hts, hK, hJs⟩ := C
  replace hl : lv_has ls 2 [(0, .ref (E 1)), (1, .int a1)] := hl
  have hS : va_S (AE 136 E) s.heap s.heap [] := va_S.rf
  have hD : wD 136 E (AE 136 E) := wD.self hE
  unfold X_X1_clears at hf
  obtain ⟨H, eH⟩ : ∃ H, H = s.heap := ⟨_, rfl⟩
  obtain ⟨locs, eL⟩ : ∃ locs : List Loc, locs = [] := ⟨_, rfl⟩
  rw [← eL] at hS ⊢
  rw [← eH] at hP
  have hS : va_S (AE 136 E) s.heap H locs := by rw [eH]; exact hS
  show W p l e rmX1_clears s m args below meth c s.heap locs 0 0 Q (F0 m 0 ls [])
  rw [← eH]
  refine lv_aload_n hx hb dX1_clears_0 rfl (lv_at hl 0 rfl) ?_
  refine xr_get hx hb hts in_X1 hown hK hP 1 (by decide) rfl rfl 0 (by decide) (hts _ q192) (fun _ h => h) rfl (v := .ref (E 3)) rfl dX1_clears_1 ?_
  refine lv_iload_n hx hb dX1_clears_4 rfl (lv_at hl 1 rfl) ?_
  refine lv_iconst (v := 0) hx hb dX1_clears_5 (by decide) ?_
  obtain ⟨h1, hf⟩ := ob_gd hf
  obtain ⟨w2, ew2, hf⟩ := ob_bnd hf
  refine xr_iast hx hb hK hP hD hS 3 (by decide) rfl 0 rfl (j := a1.toNatClampNeg) (w' := w2) h1 rfl ew2 dX1_clears_6 (fun H locs hP hS => ?_)
  refine lv_iconst (v := 0) hx hb dX1_clears_7 (by decide) ?_
  obtain rfl := ob_s hf
  subst hQ
  exact xe_i hx hb hr hlocks hP hS dX1_clears_8
abbrev rmX0_hook : Room := { frames := 1, cells := 0, slots := 0, locals := 22 }
theorem cdX0_hook : yX0_hook.cls = RX0 ∧ yX0_hook.cls ≠ "java/lang/invoke/MethodHandle" ∧ yX0_hook.cls ≠ "java/lang/invoke/VarHandle" ∧ (parseMethodDescriptor yX0_hook.desc).map (fun d => d.parameters.length) = some 1 := by decide +kernel
set_option maxHeartbeats 4000000 in
set_option maxRecDepth 100000 in
theorem wkX0_hook (l : Launch) (D : va_G) (dA : Nat → ClassId) (E : Nat → Nat) (hE : wInj 136 E) (T : Tx) (J : State → Heap → Prop) (hJ : JP D dA E T J) (w : Mm) (a1 : Int32) {res : Int32 × Mm} (hf : X_hook w a1 = some res) : Met l yX0_hook (ws_ yX0_hook cX0_hook 2 (some .int)) rmX0_hook (Pj D dA E J [.ref (E 0), .int a1] w) (Qwi D clX shX 136 dA E res.1 res.2) 0 0 (AE 136 E) := by
  refine xj_head (own := RX0) (by decide) rfl (Nat.le_of_ble_eq_true rfl) ?_
  intro p e s m args below meth c ls Q hQ C hP hl
  obtain ⟨hx, hb, hr, hlocks, hml, hown, hts, hK, hJs⟩ := C
  replace hl : lv_has ls 2 [(0, .ref (E 0)), (1, .int a1)] := hl
  have hS : va_S (AE 136 E) s.heap s.heap [] := va_S.rf
  have hD : wD 136 E (AE 136 E) := wD.self hE
  unfold X_hook at hf
  obtain ⟨H, eH⟩ : ∃ H, H = s.heap := ⟨_, rfl⟩
  obtain ⟨locs, eL⟩ : ∃ locs : List Loc, locs = [] := ⟨_, rfl⟩
  rw [← eL] at hS ⊢
  rw [← eH] at hP
  have hS : va_S (AE 136 E) s.heap H locs := by rw [eH]; exact hS
  show W p l e rmX0_hook s m args below meth c s.heap locs 0 0 Q (F0 m 0 ls [])
  rw [← eH]
  refine lv_iload_n hx hb dX0_hook_0 rfl (lv_at hl 1 rfl) ?_
  refine lv_iconst (v := (-1)) hx hb dX0_hook_1 (by decide) ?_
  refine lv_icmp_ne (tgt := 14) hx hb dX0_hook_2 (by decide) (fun c1 => ?_) (fun c1 => ?_)
  · replace hf := ob_f hf c1
    refine lv_iload_n hx hb dX0_hook_14 rfl (lv_at hl 1 rfl) ?_
    refine lv_iconst (v := 1) hx hb dX0_hook_15 (by decide) ?_
    refine lv_bipush (v := 99) hx hb dX0_hook_16 (by decide) ?_
    obtain ⟨q3, g2, hf⟩ := ob_bind hf
    refine xc_z (xj_runS (As := [.int a1, .int 1, .int 99]) (rest := []) hJ hJs hS ⟨hx, hb, hml, hown, hts⟩ (wkX0_in l D dA E hE T J hJ w a1 1 99 g2) (va_cwS 3 hts (lw_S q319 q320 q136 q321) rfl rfl rfl cdX0_in.2 ⟨Nat.le_of_ble_eq_true rfl, Nat.le_of_ble_eq_true rfl⟩) hK hP hl.1 rfl rfl (Nat.le_of_ble_eq_true rfl) dX0_hook_18 ⟨Nat.zero_le _, Nat.zero_le _⟩) hS hD.2 (fun H locs zq3 hP hS => ?_)
    refine lv_if_eq (tgt := 38) hx hb dX0_hook_21 (by decide) (fun c4 => ?_) (fun c4 => ?_)
    · replace hf := ob_t hf c4
      refine lv_bipush (v := (-2)) hx hb dX0_hook_38 (by decide) ?_
      obtain rfl := ob_s hf
      subst hQ
      exact xe_i hx hb hr hlocks hP hS dX0_hook_40
    · replace hf := ob_f hf c4
      refine lv_aload_n hx hb dX0_hook_24 rfl (lv_at hl 0 rfl) ?_
      refine xr_get hx hb hts in_X0 hown hK hP 0 (by decide) rfl rfl 0 (by decide) (hts _ q252) (fun _ h => h) rfl (v := .ref (E 1)) rfl dX0_hook_25 ?_
      refine xr_getN (host := "QuarrelsPawned") hx hb hts in_X1 hown hK hP 1 (by decide) rfl rfl 0 (by decide) (hJ.nest hJs 0 rfl) (fun _ h => h) rfl (v := .ref (E 3)) rfl dX0_hook_28 ?_
      refine lv_iconst (v := 4) hx hb dX0_hook_31 (by decide) ?_
      refine xr_iald hx hb hK hP 3 (by decide) rfl 0 rfl (j := 4) (vin_c (by decide)) (by decide) dX0_hook_32 ?_
      refine lv_bipush (v := 6) hx hb dX0_hook_33 (by decide) ?_
      refine lv_icmp_ne (tgt := 41) hx hb dX0_hook_35 (by decide) (fun c5 => ?_) (fun c5 => ?_)
      · replace hf := ob_f hf c5
        refine lv_aload_n hx hb dX0_hook_41 rfl (lv_at hl 0 rfl) ?_
        refine xr_get hx hb hts in_X0 hown hK hP 0 (by decide) rfl rfl 0 (by decide) (hts _ q252) (fun _ h => h) rfl (v := .ref (E 1)) rfl dX0_hook_42 ?_
        refine xr_getN (host := "QuarrelsPawned") hx hb hts in_X1 hown hK hP 1 (by decide) rfl rfl 6 (by decide) (hJ.nest hJs 6 rfl) (fun _ h => h) rfl (v := .ref (E 9)) rfl dX0_hook_45 ?_
        refine lv_aload_n hx hb dX0_hook_48 rfl (lv_at hl 0 rfl) ?_
        refine xr_get hx hb hts in_X0 hown hK hP 0 (by decide) rfl rfl 0 (by decide) (hts _ q252) (fun _ h => h) rfl (v := .ref (E 1)) rfl dX0_hook_49 ?_
        refine xr_getN (host := "QuarrelsPawned") hx hb hts in_X1 hown hK hP 1 (by decide) rfl rfl 0 (by decide) (hJ.nest hJs 0 rfl) (fun _ h => h) rfl (v := .ref (E 3)) rfl dX0_hook_52 ?_
        refine lv_iconst (v := 4) hx hb dX0_hook_55 (by decide) ?_
        refine xr_iald hx hb hK hP 3 (by decide) rfl 0 rfl (j := 4) (vin_c (by decide)) (by decide) dX0_hook_56 ?_
        refine lv_iload_n hx hb dX0_hook_57 rfl (lv_at hl 1 rfl) ?_
        obtain ⟨h6, hf⟩ := ob_gd hf
        obtain ⟨w7, ew7, hf⟩ := ob_bnd hf
        refine xr_iast hx hb hK hP hD hS 9 (by decide) rfl 0 rfl (j := (w.1 3 4).toNatClampNeg) (w' := w7) h6 rfl ew7 dX0_hook_58 (fun H locs hP hS => ?_)
        refine lv_aload_n hx hb dX0_hook_59 rfl (lv_at hl 0 rfl) ?_
        refine xr_get hx hb hts in_X0 hown hK hP 0 (by decide) rfl rfl 0 (by decide) (hts _ q252) (fun _ h => h) rfl (v := .ref (E 1)) rfl dX0_hook_60 ?_
        refine xr_getN (host := "QuarrelsPawned") hx hb hts in_X1 hown hK hP 1 (by decide) rfl rfl 0 (by decide) (hJ.nest hJs 0 rfl) (fun _ h => h) rfl (v := .ref (E 3)) rfl dX0_hook_63 ?_
        refine lv_iconst (v := 4) hx hb dX0_hook_66 (by decide) ?_
        refine lv_dup2_11 hx hb dX0_hook_67 rfl rfl ?_
        refine xr_iald hx hb hK hP 3 (by decide) rfl 0 rfl (j := 4) (vin_c (by decide)) (by decide) dX0_hook_68 ?_
        refine lv_iconst (v := 1) hx hb dX0_hook_69 (by decide) ?_
        refine lv_iadd hx hb dX0_hook_70 ?_
        obtain ⟨w8, ew8, hf⟩ := ob_bnd hf
        refine xr_iast hx hb hK hP hD hS 3 (by decide) rfl 0 rfl (j := 4) (w' := w8) (vin_c (by decide)) (by decide) ew8 dX0_hook_71 (fun H locs hP hS => ?_)
        refine lv_aload_n hx hb dX0_hook_72 rfl (lv_at hl 0 rfl) ?_
        refine xr_get hx hb hts in_X0 hown hK hP 0 (by decide) rfl rfl 0 (by decide) (hts _ q252) (fun _ h => h) rfl (v := .ref (E 1)) rfl dX0_hook_73 ?_
        refine xr_getN (host := "QuarrelsPawned") hx hb hts in_X1 hown hK hP 1 (by decide) rfl rfl 0 (by decide) (hJ.nest hJs 0 rfl) (fun _ h => h) rfl (v := .ref (E 3)) rfl dX0_hook_76 ?_
        refine lv_iconst (v := 4) hx hb dX0_hook_79 (by decide) ?_
        refine xr_iald hx hb hK hP 3 (by decide) rfl 0 rfl (j := 4) (vin_c (by decide)) (by decide) dX0_hook_80 ?_
        obtain rfl := ob_s hf
        subst hQ
        exact xe_i hx hb hr hlocks hP hS dX0_hook_81
      · replace hf := ob_t hf c5
        refine lv_bipush (v := (-2)) hx hb dX0_hook_38 (by decide) ?_
        obtain rfl := ob_s hf
        subst hQ
        exact xe_i hx hb hr hlocks hP hS dX0_hook_40
  · replace hf := ob_t hf c1
    refine lv_aload_n hx hb dX0_hook_5 rfl (lv_at hl 0 rfl) ?_
    refine xr_get hx hb hts in_X0 hown hK hP 0 (by decide) rfl rfl 0 (by decide) (hts _ q252) (fun _ h => h) rfl (v := .ref (E 1)) rfl dX0_hook_6 ?_
    refine lv_iconst (v := 4) hx hb dX0_hook_9 (by decide) ?_
    obtain ⟨q10, g9, hf⟩ := ob_bind hf
    refine xc_i (xj_run (As := [.int 4]) (rest := []) hJ hJs hS ⟨hx, hb, hml, hown, hts⟩ (k0 := 1) (wkX1_clears l D dA E hE T J hJ w 4 g9) (cwV 1 hts (lw_V q1309 q1310 q1311 q137 q1312) rfl rfl rfl cdX1_clears ⟨Nat.le_of_ble_eq_true rfl, Nat.le_of_ble_eq_true rfl⟩) hK hP (by decide) rfl rfl rfl hl.1 rfl rfl (Nat.le_of_ble_eq_true rfl) dX0_hook_10 ⟨Nat.zero_le _, Nat.zero_le _⟩) hS hD.2 (fun H locs hP hS => ?_)
    obtain rfl := ob_s hf
    subst hQ
    exact xe_i hx hb hr hlocks hP hS dX0_hook_13
def rmX0_hangsFrom (dp : Nat) : Room := { frames := 2 + dp, cells := 0, slots := 0, locals := 81 + dp * 24 }
theorem cdX0_hangsFrom : yX0_hangsFrom.cls = RX0 ∧ yX0_hangsFrom.cls ≠ "java/lang/invoke/MethodHandle" ∧ yX0_hangsFrom.cls ≠ "java/lang/invoke/VarHandle" ∧ (parseMethodDescriptor yX0_hangsFrom.desc).map (fun d => d.parameters.length) = some 3 := by decide +kernel
set_option maxHeartbeats 4000000 in
set_option maxRecDepth 100000 in
theorem wkX0_hangsFrom (l : Launch) (D : va_G) (dA : Nat → ClassId) (E : Nat → Nat) (hE : wInj 136 E) (T : Tx) (J : State → Heap → Prop) (hJ : JP D dA E T J) : ∀ (dp : Nat) (w : Mm) (a1 : Int32) (a2 : Int32) (a3 : Int32) {res : Mm} (hf : X_hangsFrom dp w a1 a2 a3 = some res), Met l yX0_hangsFrom (ws_ yX0_hangsFrom cX0_hangsFrom 5 (none)) (rmX0_hangsFrom dp) (Pj D dA E J [.ref (E 0), .int a1, .int a2, .int a3] w) (Qwv D clX shX 136 dA E res) 0 0 (AE 136 E) := by
  intro dp
  induction dp with
  | zero =>
    intro w a1 a2 a3 res hf
    cases hf
  | succ dp ihr =>
  intro w a1 a2 a3 res hf
  refine xj_head (own := RX0) (by decide) rfl (Nat.le_of_ble_eq_true rfl) ?_
  intro p e s m args below meth c ls Q hQ C hP hl
  obtain ⟨hx, hb, hr, hlocks, hml, hown, hts, hK, hJs⟩ := C
  replace hl : lv_has ls 5 [(0, .ref (E 0)), (1, .int a1), (2, .int a2), (3, .int a3)] := hl
  have hS : va_S (AE 136 E) s.heap s.heap [] := va_S.rf
  have hD : wD 136 E (AE 136 E) := wD.self hE
  obtain ⟨rc, hrc⟩ : ∃ rc, rc = X_hangsFrom dp := ⟨_, rfl⟩
  replace hf : X_hangsFrom_z (X_hangsFrom dp) w a1 a2 a3 = some res := hf
  rw [← hrc] at hf ihr
  unfold X_hangsFrom_z at hf
  obtain ⟨H, eH⟩ : ∃ H, H = s.heap := ⟨_, rfl⟩
  obtain ⟨locs, eL⟩ : ∃ locs : List Loc, locs = [] := ⟨_, rfl⟩
  rw [← eL] at hS ⊢
  rw [← eH] at hP
  have hS : va_S (AE 136 E) s.heap H locs := by rw [eH]; exact hS
  show W p l e (rmX0_hangsFrom (dp + 1)) s m args below meth c s.heap locs 0 0 Q (F0 m 0 ls [])
  rw [← eH]
  refine lv_iload_n hx hb dX0_hangsFrom_0 rfl (lv_at hl 1 rfl) ?_
  refine lv_aload_n hx hb dX0_hangsFrom_1 rfl (lv_at hl 0 rfl) ?_
  refine xr_get hx hb hts in_X0 hown hK hP 0 (by decide) rfl rfl 0 (by decide) (hts _ q252) (fun _ h => h) rfl (v := .ref (E 1)) rfl dX0_hangsFrom_2 ?_
  refine xr_getN (host := "QuarrelsPawned") hx hb hts in_X1 hown hK hP 1 (by decide) rfl rfl 0 (by decide) (hJ.nest hJs 0 rfl) (fun _ h => h) rfl (v := .ref (E 3)) rfl dX0_hangsFrom_5 ?_
  refine lv_iconst (v := 4) hx hb dX0_hangsFrom_8 (by decide) ?_
  refine xr_iald hx hb hK hP 3 (by decide) rfl 0 rfl (j := 4) (vin_c (by decide)) (by decide) dX0_hangsFrom_9 ?_
  refine lv_icmp_ne (tgt := 76) hx hb dX0_hangsFrom_10 (by decide) (fun c1 => ?_) (fun c1 => ?_)
  · replace hf := ob_f hf c1
    refine lv_iconst (v := 0) hx hb dX0_hangsFrom_76 (by decide) ?_
    refine lv_istore (lv' := [(4, .int 0), (0, .ref (E 0)), (1, .int a1), (2, .int a2), (3, .int a3)]) hx hb dX0_hangsFrom_77 hl (by decide) rfl (fun ls hl => ?_)
    obtain ⟨b4, hb4, hf⟩ := ob_bind hf
    obtain ⟨n4, hn4⟩ := lp_some hb4
    have kL79 : ∀ (n : Nat) (w2 : Mm) (v4_3 : Int32), lpF (fun (q4 : Mm × Int32) => X_hangsFrom_b79 a2 a1 a3 rc q4.1 q4.2) n (w2, v4_3) = some b4 → (∀ (H : Heap) (locs : List Loc) (ls : Array Slot), va_P D clX (wl shX 136 dA E b4) H → va_S (AE 136 E) s.heap H locs → lv_has ls 5 [] → W p l e (rmX0_hangsFrom (dp + 1)) s m args below meth c H locs 0 0 Q (F0 m 157 ls [])) → ∀ (H : Heap) (locs : List Loc) (ls : Array Slot), va_P D clX (wl shX 136 dA E w2) H → va_S (AE 136 E) s.heap H locs → lv_has ls 5 [(0, .ref (E 0)), (1, .int a1), (2, .int a2), (3, .int a3), (4, .int v4_3)] → W p l e (rmX0_hangsFrom (dp + 1)) s m args below meth c H locs 0 0 Q (F0 m 79 ls []) := by
      intro n
      induction n with
      | zero =>
        intro w2 v4_3 hq9
        cases hq9
      | succ n ih =>
        intro w2 v4_3 hq9 K4_0 H locs ls hP hS hl
        obtain ⟨r4, hf, h4a, h4b⟩ := lpF_step hq9
        replace hf : X_hangsFrom_b79 a2 a1 a3 rc w2 v4_3 = some r4 := hf
        unfold X_hangsFrom_b79 at hf
        refine lv_iload hx hb dX0_hangsFrom_79 (lv_at hl 4 rfl) ?_
        refine lv_aload_n hx hb dX0_hangsFrom_81 rfl (lv_at hl 0 rfl) ?_
        obtain ⟨q6, g5, hf⟩ := ob_bind hf
        refine xc_i (xj_run (As := []) (rest := [.int v4_3]) hJ hJs hS ⟨hx, hb, hml, hown, hts⟩ (k0 := 0) (wkX0_quarrels l D dA E hE T J hJ w2 g5) (cwV 0 hts (lw_V q309 q311 qs0 q136 q312) rfl rfl rfl cdX0_quarrels ⟨by show _ ≤ _ + (dp + 1); exact Nat.le_add_right_of_le (Nat.le_of_ble_eq_true rfl), by show _ ≤ _ + (dp + 1) * _; exact Nat.le_add_right_of_le (Nat.le_of_ble_eq_true rfl)⟩) hK hP (by decide) rfl rfl rfl hl.1 rfl rfl (Nat.le_of_ble_eq_true rfl) dX0_hangsFrom_82 ⟨Nat.zero_le _, Nat.zero_le _⟩) hS hD.2 (fun H locs hP hS => ?_)
        refine lv_icmp_ge (tgt := 157) hx hb dX0_hangsFrom_85 (by decide) (fun c7 => ?_) (fun c7 => ?_)
        · replace hf := ob_t hf c7
          obtain rfl := ob_s hf
          obtain rfl := h4b _ rfl
          exact K4_0 H locs ls hP hS (lv_sub hl [] rfl)
        · replace hf := ob_f hf c7
          refine lv_iload_n hx hb dX0_hangsFrom_88 rfl (lv_at hl 2 rfl) ?_
          refine lv_iload hx hb dX0_hangsFrom_89 (lv_at hl 4 rfl) ?_
          obtain ⟨q9, g8, hf⟩ := ob_bind hf
          refine xc_z (xj_runS (As := [.int a2, .int v4_3]) (rest := []) hJ hJs hS ⟨hx, hb, hml, hown, hts⟩ (wkX0_has l D dA E hE T J hJ w2 a2 v4_3 g8) (va_cwS 2 hts (lw_S q1174 q1175 q136 q1176) rfl rfl rfl cdX0_has.2 ⟨by show _ ≤ _ + (dp + 1); exact Nat.le_add_right_of_le (Nat.le_of_ble_eq_true rfl), by show _ ≤ _ + (dp + 1) * _; exact Nat.le_add_right_of_le (Nat.le_of_ble_eq_true rfl)⟩) hK hP hl.1 rfl rfl (Nat.le_of_ble_eq_true rfl) dX0_hangsFrom_91 ⟨Nat.zero_le _, Nat.zero_le _⟩) hS hD.2 (fun H locs zq9 hP hS => ?_)
          refine lv_if_eq (tgt := 151) hx hb dX0_hangsFrom_94 (by decide) (fun c10 => ?_) (fun c10 => ?_)
          · replace hf := ob_t hf c10
            obtain ⟨v4_11, ev4_11, hf⟩ := ob_bnd hf
            refine lv_iinc (v := v4_11) (lv' := [(4, .int v4_11), (0, .ref (E 0)), (1, .int a1), (2, .int a2), (3, .int a3)]) hx hb dX0_hangsFrom_151 hl (k := 4) rfl (by rw [ev4_11]; rfl) (by decide) rfl (fun ls hl => ?_)
            refine lv_goto (tgt := 79) hx hb dX0_hangsFrom_154 (by decide) ?_
            obtain rfl := ob_s hf
            exact ih _ _ (h4a _ rfl) K4_0 H locs ls hP hS (lv_sub hl [1, 2, 3, 4, 0] rfl)
          · replace hf := ob_f hf c10
            refine lv_aload_n hx hb dX0_hangsFrom_97 rfl (lv_at hl 0 rfl) ?_
            refine xr_get hx hb hts in_X0 hown hK hP 0 (by decide) rfl rfl 0 (by decide) (hts _ q252) (fun _ h => h) rfl (v := .ref (E 1)) rfl dX0_hangsFrom_98 ?_
            refine xr_getN (host := "QuarrelsPawned") hx hb hts in_X1 hown hK hP 1 (by decide) rfl rfl 4 (by decide) (hJ.nest hJs 4 rfl) (fun _ h => h) rfl (v := .ref (E 7)) rfl dX0_hangsFrom_101 ?_
            refine lv_iload hx hb dX0_hangsFrom_104 (lv_at hl 4 rfl) ?_
            obtain ⟨h12, hf⟩ := ob_gd hf
            refine xr_iald hx hb hK hP 7 (by decide) rfl 0 rfl (j := v4_3.toNatClampNeg) h12 rfl dX0_hangsFrom_106 ?_
            refine lv_aload_n hx hb dX0_hangsFrom_107 rfl (lv_at hl 0 rfl) ?_
            refine xr_get hx hb hts in_X0 hown hK hP 0 (by decide) rfl rfl 0 (by decide) (hts _ q252) (fun _ h => h) rfl (v := .ref (E 1)) rfl dX0_hangsFrom_108 ?_
            refine xr_getN (host := "QuarrelsPawned") hx hb hts in_X1 hown hK hP 1 (by decide) rfl rfl 6 (by decide) (hJ.nest hJs 6 rfl) (fun _ h => h) rfl (v := .ref (E 9)) rfl dX0_hangsFrom_111 ?_
            refine lv_iload_n hx hb dX0_hangsFrom_114 rfl (lv_at hl 1 rfl) ?_
            obtain ⟨h13, hf⟩ := ob_gd hf
            refine xr_iald hx hb hK hP 9 (by decide) rfl 0 rfl (j := a1.toNatClampNeg) h13 rfl dX0_hangsFrom_115 ?_
            refine lv_isub hx hb dX0_hangsFrom_116 ?_
            refine xr_mabs hx hb (hml.trans hl.1.symm) hown (hts _ q1325) (hts _ q1326) (hts _ q150) (hts _ q1327) (by show _ ≤ _ + (dp + 1); exact Nat.le_add_right_of_le (Nat.le_of_ble_eq_true rfl)) (by show _ ≤ _ + (dp + 1) * _; exact Nat.le_add_right_of_le (Nat.le_of_ble_eq_true rfl)) (Nat.zero_le _) (Nat.zero_le _) dX0_hangsFrom_117 ?_
            refine lv_iload_n hx hb dX0_hangsFrom_120 rfl (lv_at hl 3 rfl) ?_
            refine lv_icmp_le (tgt := 127) hx hb dX0_hangsFrom_121 (by decide) (fun c14 => ?_) (fun c14 => ?_)
            · replace hf := ob_t hf c14
              refine lv_aload_n hx hb dX0_hangsFrom_127 rfl (lv_at hl 0 rfl) ?_
              refine xr_get hx hb hts in_X0 hown hK hP 0 (by decide) rfl rfl 13 (by decide) (hts _ q265) (fun _ h => h) rfl (v := .ref (E 31)) rfl dX0_hangsFrom_128 ?_
              refine lv_iload_n hx hb dX0_hangsFrom_131 rfl (lv_at hl 1 rfl) ?_
              refine lv_iload hx hb dX0_hangsFrom_132 (lv_at hl 4 rfl) ?_
              obtain ⟨h15, hf⟩ := ob_gd hf
              obtain ⟨w16, ew16, hf⟩ := ob_bnd hf
              refine xr_iast hx hb hK hP hD hS 31 (by decide) rfl 0 rfl (j := a1.toNatClampNeg) (w' := w16) h15 rfl ew16 dX0_hangsFrom_134 (fun H locs hP hS => ?_)
              refine lv_aload_n hx hb dX0_hangsFrom_135 rfl (lv_at hl 0 rfl) ?_
              refine lv_iload_n hx hb dX0_hangsFrom_136 rfl (lv_at hl 1 rfl) ?_
              refine lv_iconst (v := 1) hx hb dX0_hangsFrom_137 (by decide) ?_
              refine lv_iadd hx hb dX0_hangsFrom_138 ?_
              refine lv_iload_n hx hb dX0_hangsFrom_139 rfl (lv_at hl 2 rfl) ?_
              refine lv_iconst (v := 1) hx hb dX0_hangsFrom_140 (by decide) ?_
              refine lv_iload hx hb dX0_hangsFrom_141 (lv_at hl 4 rfl) ?_
              refine lv_ishl hx hb dX0_hangsFrom_143 ?_
              refine lv_iconst (v := (-1)) hx hb dX0_hangsFrom_144 (by decide) ?_
              refine lv_ixor hx hb dX0_hangsFrom_145 ?_
              refine lv_iand hx hb dX0_hangsFrom_146 ?_
              refine lv_iload_n hx hb dX0_hangsFrom_147 rfl (lv_at hl 3 rfl) ?_
              obtain ⟨q18, g17, hf⟩ := ob_bind hf
              refine xc_v (xj_run (As := [.int (a1 + 1), .int (a2 &&& (((1 : Int32) <<< (v4_3 &&& 31)) ^^^ (-1))), .int a3]) (rest := []) hJ hJs hS ⟨hx, hb, hml, hown, hts⟩ (k0 := 0) (ihr w16 (a1 + 1) (a2 &&& (((1 : Int32) <<< (v4_3 &&& 31)) ^^^ (-1))) a3 g17) (cwV 3 hts (lw_V q1321 q1323 qs56 q136 q1324) rfl rfl rfl cdX0_hangsFrom ⟨by show _ + dp + 1 ≤ _ + (dp + 1); omega, by show 8 + (_ + 11) + (_ + dp * _) ≤ _ + (dp + 1) * _; omega⟩) hK hP (by decide) rfl rfl rfl hl.1 rfl rfl (Nat.le_of_ble_eq_true rfl) dX0_hangsFrom_148 ⟨Nat.zero_le _, Nat.zero_le _⟩) hS hD.2 (fun H locs hP hS => ?_)
              obtain ⟨v4_19, ev4_19, hf⟩ := ob_bnd hf
              refine lv_iinc (v := v4_19) (lv' := [(4, .int v4_19), (0, .ref (E 0)), (1, .int a1), (2, .int a2), (3, .int a3)]) hx hb dX0_hangsFrom_151 hl (k := 4) rfl (by rw [ev4_19]; rfl) (by decide) rfl (fun ls hl => ?_)
              refine lv_goto (tgt := 79) hx hb dX0_hangsFrom_154 (by decide) ?_
              obtain rfl := ob_s hf
              exact ih _ _ (h4a _ rfl) K4_0 H locs ls hP hS (lv_sub hl [1, 2, 3, 4, 0] rfl)
            · replace hf := ob_f hf c14
              refine lv_goto (tgt := 151) hx hb dX0_hangsFrom_124 (by decide) ?_
              obtain ⟨v4_20, ev4_20, hf⟩ := ob_bnd hf
              refine lv_iinc (v := v4_20) (lv' := [(4, .int v4_20), (0, .ref (E 0)), (1, .int a1), (2, .int a2), (3, .int a3)]) hx hb dX0_hangsFrom_151 hl (k := 4) rfl (by rw [ev4_20]; rfl) (by decide) rfl (fun ls hl => ?_)
              refine lv_goto (tgt := 79) hx hb dX0_hangsFrom_154 (by decide) ?_
              obtain rfl := ob_s hf
              exact ih _ _ (h4a _ rfl) K4_0 H locs ls hP hS (lv_sub hl [1, 2, 3, 4, 0] rfl)
    refine kL79 n4 w 0 hn4 (fun H locs ls hP hS hl => ?_) H locs ls hP hS (lv_sub hl [1, 2, 3, 4, 0] rfl)
    replace hf : X_hangsFrom_x79_157 b4 = some res := hf
    unfold X_hangsFrom_x79_157 at hf
    obtain rfl := ob_s hf
    subst hQ
    exact xe_v hx hb hr hlocks hP hS dX0_hangsFrom_157
  · replace hf := ob_t hf c1
    refine lv_aload_n hx hb dX0_hangsFrom_13 rfl (lv_at hl 0 rfl) ?_
    refine xr_get hx hb hts in_X0 hown hK hP 0 (by decide) rfl rfl 16 (by decide) (hts _ q268) (fun _ h => h) rfl (v := .int (w.1 0 16)) rfl dX0_hangsFrom_14 ?_
    have kj31 : ∀ (w21 : Mm) (H : Heap) (locs : List Loc) (ls : Array Slot), X_hangsFrom_j31 a1 w21 = some res → va_P D clX (wl shX 136 dA E w21) H → va_S (AE 136 E) s.heap H locs → lv_has ls 5 [(0, .ref (E 0)), (1, .int a1)] → W p l e (rmX0_hangsFrom (dp + 1)) s m args below meth c H locs 0 0 Q (F0 m 31 ls []) := by
      intro w21 H locs ls hf hP hS hl
      unfold X_hangsFrom_j31 at hf
      refine lv_iconst (v := 0) hx hb dX0_hangsFrom_31 (by decide) ?_
      refine lv_istore (lv' := [(4, .int 0), (0, .ref (E 0)), (1, .int a1)]) hx hb dX0_hangsFrom_32 hl (by decide) rfl (fun ls hl => ?_)
      obtain ⟨b24, hb24, hf⟩ := ob_bind hf
      obtain ⟨n24, hn24⟩ := lp_some hb24
      have kL34 : ∀ (n : Nat) (w22 : Mm) (v4_23 : Int32), lpF (fun (q24 : Mm × Int32) => X_hangsFrom_b34 a1 q24.1 q24.2) n (w22, v4_23) = some b24 → (∀ (H : Heap) (locs : List Loc) (ls : Array Slot), va_P D clX (wl shX 136 dA E b24) H → va_S (AE 136 E) s.heap H locs → lv_has ls 5 [(0, .ref (E 0))] → W p l e (rmX0_hangsFrom (dp + 1)) s m args below meth c H locs 0 0 Q (F0 m 65 ls [])) → ∀ (H : Heap) (locs : List Loc) (ls : Array Slot), va_P D clX (wl shX 136 dA E w22) H → va_S (AE 136 E) s.heap H locs → lv_has ls 5 [(0, .ref (E 0)), (1, .int a1), (4, .int v4_23)] → W p l e (rmX0_hangsFrom (dp + 1)) s m args below meth c H locs 0 0 Q (F0 m 34 ls []) := by
        intro n
        induction n with
        | zero =>
          intro w22 v4_23 hq9
          cases hq9
        | succ n ih =>
          intro w22 v4_23 hq9 K24_0 H locs ls hP hS hl
          obtain ⟨r24, hf, h24a, h24b⟩ := lpF_step hq9
          replace hf : X_hangsFrom_b34 a1 w22 v4_23 = some r24 := hf
          unfold X_hangsFrom_b34 at hf
          refine lv_iload hx hb dX0_hangsFrom_34 (lv_at hl 2 rfl) ?_
          refine lv_iload_n hx hb dX0_hangsFrom_36 rfl (lv_at hl 1 rfl) ?_
          refine lv_icmp_ge (tgt := 65) hx hb dX0_hangsFrom_37 (by decide) (fun c25 => ?_) (fun c25 => ?_)
          · replace hf := ob_t hf c25
            obtain rfl := ob_s hf
            obtain rfl := h24b _ rfl
            exact K24_0 H locs ls hP hS (lv_sub hl [0] rfl)
          · replace hf := ob_f hf c25
            refine lv_aload_n hx hb dX0_hangsFrom_40 rfl (lv_at hl 0 rfl) ?_
            refine xr_get hx hb hts in_X0 hown hK hP 0 (by decide) rfl rfl 15 (by decide) (hts _ q267) (fun _ h => h) rfl (v := .ref (E 33)) rfl dX0_hangsFrom_41 ?_
            refine lv_iload hx hb dX0_hangsFrom_44 (lv_at hl 2 rfl) ?_
            obtain ⟨h26, hf⟩ := ob_gd hf
            refine xr_aald hx hb hK hP 33 (by decide) rfl (j := v4_23.toNatClampNeg) h26 rfl dX0_hangsFrom_46 ?_
            refine lv_aload_n hx hb dX0_hangsFrom_47 rfl (lv_at hl 0 rfl) ?_
            refine xr_get hx hb hts in_X0 hown hK hP 0 (by decide) rfl rfl 13 (by decide) (hts _ q265) (fun _ h => h) rfl (v := .ref (E 31)) rfl dX0_hangsFrom_48 ?_
            refine lv_iload hx hb dX0_hangsFrom_51 (lv_at hl 2 rfl) ?_
            obtain ⟨h27, hf⟩ := ob_gd hf
            refine xr_iald hx hb hK hP 31 (by decide) rfl 0 rfl (j := v4_23.toNatClampNeg) h27 rfl dX0_hangsFrom_53 ?_
            refine lv_dup2_11 hx hb dX0_hangsFrom_54 rfl rfl ?_
            obtain ⟨h28, hf⟩ := ob_gd hf
            refine xr_iald hx hb hK hP (130 + v4_23.toNatClampNeg) (by have := vin_lt h26; omega) (shX_r5 (by have := vin_lt h26; omega)) 0 rfl (j := (w22.1 31 v4_23.toNatClampNeg).toNatClampNeg) h28 rfl dX0_hangsFrom_55 ?_
            refine lv_iconst (v := 1) hx hb dX0_hangsFrom_56 (by decide) ?_
            refine lv_iadd hx hb dX0_hangsFrom_57 ?_
            obtain ⟨h29, hf⟩ := ob_gd hf
            obtain ⟨w30, ew30, hf⟩ := ob_bnd hf
            refine xr_iast hx hb hK hP hD hS (130 + v4_23.toNatClampNeg) (by have := vin_lt h26; omega) (shX_r5 (by have := vin_lt h26; omega)) 0 rfl (j := (w22.1 31 v4_23.toNatClampNeg).toNatClampNeg) (w' := w30) h29 rfl ew30 dX0_hangsFrom_58 (fun H locs hP hS => ?_)
            obtain ⟨v4_31, ev4_31, hf⟩ := ob_bnd hf
            refine lv_iinc (v := v4_31) (lv' := [(4, .int v4_31), (0, .ref (E 0)), (1, .int a1)]) hx hb dX0_hangsFrom_59 hl (k := 2) rfl (by rw [ev4_31]; rfl) (by decide) rfl (fun ls hl => ?_)
            refine lv_goto (tgt := 34) hx hb dX0_hangsFrom_62 (by decide) ?_
            obtain rfl := ob_s hf
            exact ih _ _ (h24a _ rfl) K24_0 H locs ls hP hS (lv_sub hl [1, 2, 0] rfl)
      refine kL34 n24 w21 0 hn24 (fun H locs ls hP hS hl => ?_) H locs ls hP hS (lv_sub hl [1, 2, 0] rfl)
      replace hf : X_hangsFrom_x34_65 b24 = some res := hf
      unfold X_hangsFrom_x34_65 at hf
      refine lv_aload_n hx hb dX0_hangsFrom_65 rfl (lv_at hl 0 rfl) ?_
      refine lv_dup hx hb dX0_hangsFrom_66 rfl ?_
      refine xr_get hx hb hts in_X0 hown hK hP 0 (by decide) rfl rfl 16 (by decide) (hts _ q268) (fun _ h => h) rfl (v := .int (b24.1 0 16)) rfl dX0_hangsFrom_67 ?_
      refine lv_iconst (v := 1) hx hb dX0_hangsFrom_70 (by decide) ?_
      refine lv_iadd hx hb dX0_hangsFrom_71 ?_
      obtain ⟨w32, ew32, hf⟩ := ob_bnd hf
      refine xr_put hx hb hts in_X0 tyX0 tyX0_ok nmX0 hown hK hP hD hS 0 (by decide) rfl rfl 16 (by decide) (hts _ q268) (fun _ h => h) rfl rfl rfl rfl (w' := w32) ew32 dX0_hangsFrom_72 (fun H locs hP hS => ?_)
      obtain rfl := ob_s hf
      subst hQ
      exact xe_v hx hb hr hlocks hP hS dX0_hangsFrom_75
    refine lv_if_ne (tgt := 31) hx hb dX0_hangsFrom_17 (by decide) (fun c33 => ?_) (fun c33 => ?_)
    · replace hf := ob_f hf c33
      exact kj31 w H locs ls hf hP hS (lv_sub hl [0, 1] rfl)
    · replace hf := ob_t hf c33
      refine lv_aload_n hx hb dX0_hangsFrom_20 rfl (lv_at hl 0 rfl) ?_
      refine xr_get hx hb hts in_X0 hown hK hP 0 (by decide) rfl rfl 13 (by decide) (hts _ q265) (fun _ h => h) rfl (v := .ref (E 31)) rfl dX0_hangsFrom_21 ?_
      refine lv_aload_n hx hb dX0_hangsFrom_24 rfl (lv_at hl 0 rfl) ?_
      refine xr_get hx hb hts in_X0 hown hK hP 0 (by decide) rfl rfl 14 (by decide) (hts _ q266) (fun _ h => h) rfl (v := .ref (E 32)) rfl dX0_hangsFrom_25 ?_
      obtain ⟨q35, g34, hf⟩ := ob_bind hf
      refine xc_v (xj_runSN (As := [.ref (E 31), .ref (E 32)]) (rest := []) hJ hJs hS ⟨hx, hb, hml, hown, hts⟩ (wkX1_copy l D dA E hE T J hJ w 31 6 32 6 g34 (by decide) rfl (by decide) rfl) (va_cnB (host := "QuarrelsPawned") 2 hts (lw_meth q245) rfl rfl rfl (hJ.nest hJs 15 rfl) (hts _ q137) cdX1_copy.2 ⟨by show _ ≤ _ + (dp + 1); exact Nat.le_add_right_of_le (Nat.le_of_ble_eq_true rfl), by show _ ≤ _ + (dp + 1) * _; exact Nat.le_add_right_of_le (Nat.le_of_ble_eq_true rfl)⟩) (hts _ q244) hK hP hl.1 rfl rfl (Nat.le_of_ble_eq_true rfl) dX0_hangsFrom_28 ⟨Nat.zero_le _, Nat.zero_le _⟩) hS hD.2 (fun H locs hP hS => ?_)
      exact kj31 q35 H locs ls hf hP hS (lv_sub hl [0, 1] rfl)
abbrev rmX0_laysHung : Room := { frames := 10, cells := 0, slots := 0, locals := 273 }
theorem cdX0_laysHung : yX0_laysHung.cls = RX0 ∧ yX0_laysHung.cls ≠ "java/lang/invoke/MethodHandle" ∧ yX0_laysHung.cls ≠ "java/lang/invoke/VarHandle" ∧ (parseMethodDescriptor yX0_laysHung.desc).map (fun d => d.parameters.length) = some 1 := by decide +kernel
set_option maxHeartbeats 4000000 in
set_option maxRecDepth 100000 in
theorem wkX0_laysHung (l : Launch) (D : va_G) (dA : Nat → ClassId) (E : Nat → Nat) (hE : wInj 136 E) (T : Tx) (J : State → Heap → Prop) (hJ : JP D dA E T J) (w : Mm) (a1 : Int32) {res : Mm} (hf : X_laysHung w a1 = some res) : Met l yX0_laysHung (ws_ yX0_laysHung cX0_laysHung 3 (none)) rmX0_laysHung (Pj D dA E J [.ref (E 0), .int a1] w) (Qwv D clX shX 136 dA E res) 0 0 (AE 136 E) := by
  refine xj_head (own := RX0) (by decide) rfl (Nat.le_of_ble_eq_true rfl) ?_
  intro p e s m args below meth c ls Q hQ C hP hl
  obtain ⟨hx, hb, hr, hlocks, hml, hown, hts, hK, hJs⟩ := C
  replace hl : lv_has ls 3 [(0, .ref (E 0)), (1, .int a1)] := hl
  have hS : va_S (AE 136 E) s.heap s.heap [] := va_S.rf
  have hD : wD 136 E (AE 136 E) := wD.self hE
  unfold X_laysHung at hf
  obtain ⟨H, eH⟩ : ∃ H, H = s.heap := ⟨_, rfl⟩
  obtain ⟨locs, eL⟩ : ∃ locs : List Loc, locs = [] := ⟨_, rfl⟩
  rw [← eL] at hS ⊢
  rw [← eH] at hP
  have hS : va_S (AE 136 E) s.heap H locs := by rw [eH]; exact hS
  show W p l e rmX0_laysHung s m args below meth c s.heap locs 0 0 Q (F0 m 0 ls [])
  rw [← eH]
  refine lv_aload_n hx hb dX0_laysHung_0 rfl (lv_at hl 0 rfl) ?_
  refine lv_iconst (v := 0) hx hb dX0_laysHung_1 (by decide) ?_
  obtain ⟨w1, ew1, hf⟩ := ob_bnd hf
  refine xr_put hx hb hts in_X0 tyX0 tyX0_ok nmX0 hown hK hP hD hS 0 (by decide) rfl rfl 16 (by decide) (hts _ q268) (fun _ h => h) rfl rfl rfl rfl (w' := w1) ew1 dX0_laysHung_2 (fun H locs hP hS => ?_)
  refine lv_iconst (v := 0) hx hb dX0_laysHung_5 (by decide) ?_
  refine lv_istore_n (lv' := [(2, .int 0), (0, .ref (E 0)), (1, .int a1)]) hx hb dX0_laysHung_6 rfl hl (by decide) rfl (fun ls hl => ?_)
  obtain ⟨b4, hb4, hf⟩ := ob_bind hf
  obtain ⟨n4, hn4⟩ := lp_some hb4
  have kL7 : ∀ (n : Nat) (w2 : Mm) (v2_3 : Int32), lpF (fun (q4 : Mm × Int32) => X_laysHung_b7 q4.1 q4.2) n (w2, v2_3) = some b4 → (∀ (H : Heap) (locs : List Loc) (ls : Array Slot), va_P D clX (wl shX 136 dA E b4) H → va_S (AE 136 E) s.heap H locs → lv_has ls 3 [(0, .ref (E 0)), (1, .int a1)] → W p l e rmX0_laysHung s m args below meth c H locs 0 0 Q (F0 m 29 ls [])) → ∀ (H : Heap) (locs : List Loc) (ls : Array Slot), va_P D clX (wl shX 136 dA E w2) H → va_S (AE 136 E) s.heap H locs → lv_has ls 3 [(0, .ref (E 0)), (1, .int a1), (2, .int v2_3)] → W p l e rmX0_laysHung s m args below meth c H locs 0 0 Q (F0 m 7 ls []) := by
    intro n
    induction n with
    | zero =>
      intro w2 v2_3 hq9
      cases hq9
    | succ n ih =>
      intro w2 v2_3 hq9 K4_0 H locs ls hP hS hl
      obtain ⟨r4, hf, h4a, h4b⟩ := lpF_step hq9
      replace hf : X_laysHung_b7 w2 v2_3 = some r4 := hf
      unfold X_laysHung_b7 at hf
      refine lv_iload_n hx hb dX0_laysHung_7 rfl (lv_at hl 2 rfl) ?_
      refine lv_bipush (v := 6) hx hb dX0_laysHung_8 (by decide) ?_
      refine lv_icmp_ge (tgt := 29) hx hb dX0_laysHung_10 (by decide) (fun c5 => ?_) (fun c5 => ?_)
      · replace hf := ob_t hf c5
        obtain rfl := ob_s hf
        obtain rfl := h4b _ rfl
        exact K4_0 H locs ls hP hS (lv_sub hl [0, 1] rfl)
      · replace hf := ob_f hf c5
        refine lv_aload_n hx hb dX0_laysHung_13 rfl (lv_at hl 0 rfl) ?_
        refine xr_get hx hb hts in_X0 hown hK hP 0 (by decide) rfl rfl 15 (by decide) (hts _ q267) (fun _ h => h) rfl (v := .ref (E 33)) rfl dX0_laysHung_14 ?_
        refine lv_iload_n hx hb dX0_laysHung_17 rfl (lv_at hl 2 rfl) ?_
        obtain ⟨h6, hf⟩ := ob_gd hf
        refine xr_aald hx hb hK hP 33 (by decide) rfl (j := v2_3.toNatClampNeg) h6 rfl dX0_laysHung_18 ?_
        refine lv_iconst (v := 0) hx hb dX0_laysHung_19 (by decide) ?_
        obtain ⟨q8, g7, hf⟩ := ob_bind hf
        refine xc_v (xj_runS (As := [.ref (E (130 + v2_3.toNatClampNeg)), .int 0]) (rest := []) hJ hJs hS ⟨hx, hb, hml, hown, hts⟩ (wkJ0_fill l D dA E hE T J hJ w2 (130 + v2_3.toNatClampNeg) 8 0 g7 (by have := vin_lt h6; omega) (shX_r5 (by have := vin_lt h6; omega))) (va_cwS 2 hts (lw_S q1230 q190 q138 q191) rfl rfl rfl cdJ0_fill.2 ⟨Nat.le_of_ble_eq_true rfl, Nat.le_of_ble_eq_true rfl⟩) hK hP hl.1 rfl rfl (Nat.le_of_ble_eq_true rfl) dX0_laysHung_20 ⟨Nat.zero_le _, Nat.zero_le _⟩) hS hD.2 (fun H locs hP hS => ?_)
        obtain ⟨v2_9, ev2_9, hf⟩ := ob_bnd hf
        refine lv_iinc (v := v2_9) (lv' := [(2, .int v2_9), (0, .ref (E 0)), (1, .int a1)]) hx hb dX0_laysHung_23 hl (k := 2) rfl (by rw [ev2_9]; rfl) (by decide) rfl (fun ls hl => ?_)
        refine lv_goto (tgt := 7) hx hb dX0_laysHung_26 (by decide) ?_
        obtain rfl := ob_s hf
        exact ih _ _ (h4a _ rfl) K4_0 H locs ls hP hS (lv_sub hl [1, 2, 0] rfl)
  refine kL7 n4 w1 0 hn4 (fun H locs ls hP hS hl => ?_) H locs ls hP hS (lv_sub hl [1, 2, 0] rfl)
  replace hf : X_laysHung_x7_29 b4 a1 = some res := hf
  unfold X_laysHung_x7_29 at hf
  refine lv_aload_n hx hb dX0_laysHung_29 rfl (lv_at hl 0 rfl) ?_
  refine lv_iconst (v := 0) hx hb dX0_laysHung_30 (by decide) ?_
  refine lv_aload_n hx hb dX0_laysHung_31 rfl (lv_at hl 0 rfl) ?_
  refine lv_aload_n hx hb dX0_laysHung_32 rfl (lv_at hl 0 rfl) ?_
  refine xr_get hx hb hts in_X0 hown hK hP 0 (by decide) rfl rfl 0 (by decide) (hts _ q252) (fun _ h => h) rfl (v := .ref (E 1)) rfl dX0_laysHung_33 ?_
  refine xr_getN (host := "QuarrelsPawned") hx hb hts in_X1 hown hK hP 1 (by decide) rfl rfl 1 (by decide) (hJ.nest hJs 1 rfl) (fun _ h => h) rfl (v := .ref (E 4)) rfl dX0_laysHung_36 ?_
  obtain ⟨q11, g10, hf⟩ := ob_bind hf
  refine xc_i (xj_run (As := [.ref (E 4)]) (rest := [.int 0, .ref (E 0)]) hJ hJs hS ⟨hx, hb, hml, hown, hts⟩ (k0 := 0) (wkX0_pawnedIn l D dA E hE T J hJ b4 4 g10 (by decide) rfl) (cwV 1 hts (lw_V q1099 q1101 qs37 q136 q1102) rfl rfl rfl cdX0_pawnedIn ⟨Nat.le_of_ble_eq_true rfl, Nat.le_of_ble_eq_true rfl⟩) hK hP (by decide) rfl rfl rfl hl.1 rfl rfl (Nat.le_of_ble_eq_true rfl) dX0_laysHung_39 ⟨Nat.zero_le _, Nat.zero_le _⟩) hS hD.2 (fun H locs hP hS => ?_)
  refine lv_iload_n hx hb dX0_laysHung_42 rfl (lv_at hl 1 rfl) ?_
  obtain ⟨q13, g12, hf⟩ := ob_bind hf
  refine xc_v (xj_run (As := [.int 0, .int q11, .int a1]) (rest := []) hJ hJs hS ⟨hx, hb, hml, hown, hts⟩ (k0 := 0) (wkX0_hangsFrom l D dA E hE T J hJ 7 b4 0 q11 a1 g12) (cwV 3 hts (lw_V q1321 q1323 qs56 q136 q1324) rfl rfl rfl cdX0_hangsFrom ⟨Nat.le_of_ble_eq_true rfl, Nat.le_of_ble_eq_true rfl⟩) hK hP (by decide) rfl rfl rfl hl.1 rfl rfl (Nat.le_of_ble_eq_true rfl) dX0_laysHung_43 ⟨Nat.zero_le _, Nat.zero_le _⟩) hS hD.2 (fun H locs hP hS => ?_)
  obtain rfl := ob_s hf
  subst hQ
  exact xe_v hx hb hr hlocks hP hS dX0_laysHung_46
abbrev rmX0_hung : Room := { frames := 11, cells := 0, slots := 0, locals := 295 }
theorem cdX0_hung : yX0_hung.cls = RX0 ∧ yX0_hung.cls ≠ "java/lang/invoke/MethodHandle" ∧ yX0_hung.cls ≠ "java/lang/invoke/VarHandle" ∧ (parseMethodDescriptor yX0_hung.desc).map (fun d => d.parameters.length) = some 2 := by decide +kernel
set_option maxHeartbeats 4000000 in
set_option maxRecDepth 100000 in
theorem wkX0_hung (l : Launch) (D : va_G) (dA : Nat → ClassId) (E : Nat → Nat) (hE : wInj 136 E) (T : Tx) (J : State → Heap → Prop) (hJ : JP D dA E T J) (w : Mm) (a1 : Int32) (a2 : Int32) {res : Int32 × Mm} (hf : X_hung w a1 a2 = some res) : Met l yX0_hung (ws_ yX0_hung cX0_hung 3 (some .int)) rmX0_hung (Pj D dA E J [.ref (E 0), .int a1, .int a2] w) (Qwi D clX shX 136 dA E res.1 res.2) 0 0 (AE 136 E) := by
  refine xj_head (own := RX0) (by decide) rfl (Nat.le_of_ble_eq_true rfl) ?_
  intro p e s m args below meth c ls Q hQ C hP hl
  obtain ⟨hx, hb, hr, hlocks, hml, hown, hts, hK, hJs⟩ := C
  replace hl : lv_has ls 3 [(0, .ref (E 0)), (1, .int a1), (2, .int a2)] := hl
  have hS : va_S (AE 136 E) s.heap s.heap [] := va_S.rf
  have hD : wD 136 E (AE 136 E) := wD.self hE
  unfold X_hung at hf
  obtain ⟨H, eH⟩ : ∃ H, H = s.heap := ⟨_, rfl⟩
  obtain ⟨locs, eL⟩ : ∃ locs : List Loc, locs = [] := ⟨_, rfl⟩
  rw [← eL] at hS ⊢
  rw [← eH] at hP
  have hS : va_S (AE 136 E) s.heap H locs := by rw [eH]; exact hS
  show W p l e rmX0_hung s m args below meth c s.heap locs 0 0 Q (F0 m 0 ls [])
  rw [← eH]
  refine lv_iload_n hx hb dX0_hung_0 rfl (lv_at hl 1 rfl) ?_
  refine lv_iconst (v := 0) hx hb dX0_hung_1 (by decide) ?_
  refine lv_bipush (v := 9) hx hb dX0_hung_2 (by decide) ?_
  obtain ⟨q2, g1, hf⟩ := ob_bind hf
  refine xc_z (xj_runS (As := [.int a1, .int 0, .int 9]) (rest := []) hJ hJs hS ⟨hx, hb, hml, hown, hts⟩ (wkX0_in l D dA E hE T J hJ w a1 0 9 g1) (va_cwS 3 hts (lw_S q319 q320 q136 q321) rfl rfl rfl cdX0_in.2 ⟨Nat.le_of_ble_eq_true rfl, Nat.le_of_ble_eq_true rfl⟩) hK hP hl.1 rfl rfl (Nat.le_of_ble_eq_true rfl) dX0_hung_4 ⟨Nat.zero_le _, Nat.zero_le _⟩) hS hD.2 (fun H locs zq2 hP hS => ?_)
  refine lv_if_eq (tgt := 29) hx hb dX0_hung_7 (by decide) (fun c3 => ?_) (fun c3 => ?_)
  · replace hf := ob_t hf c3
    refine lv_bipush (v := (-2)) hx hb dX0_hung_29 (by decide) ?_
    obtain rfl := ob_s hf
    subst hQ
    exact xe_i hx hb hr hlocks hP hS dX0_hung_31
  · replace hf := ob_f hf c3
    refine lv_iload_n hx hb dX0_hung_10 rfl (lv_at hl 2 rfl) ?_
    refine lv_iconst (v := (-1)) hx hb dX0_hung_11 (by decide) ?_
    refine lv_aload_n hx hb dX0_hung_12 rfl (lv_at hl 0 rfl) ?_
    refine xr_get hx hb hts in_X0 hown hK hP 0 (by decide) rfl rfl 0 (by decide) (hts _ q252) (fun _ h => h) rfl (v := .ref (E 1)) rfl dX0_hung_13 ?_
    refine xr_getN (host := "QuarrelsPawned") hx hb hts in_X1 hown hK hP 1 (by decide) rfl rfl 0 (by decide) (hJ.nest hJs 0 rfl) (fun _ h => h) rfl (v := .ref (E 3)) rfl dX0_hung_16 ?_
    refine lv_iconst (v := 4) hx hb dX0_hung_19 (by decide) ?_
    refine xr_iald hx hb hK hP 3 (by decide) rfl 0 rfl (j := 4) (vin_c (by decide)) (by decide) dX0_hung_20 ?_
    refine lv_iconst (v := 1) hx hb dX0_hung_21 (by decide) ?_
    refine lv_isub hx hb dX0_hung_22 ?_
    obtain ⟨q5, g4, hf⟩ := ob_bind hf
    refine xc_z (xj_runS (As := [.int a2, .int (-1), .int ((w.1 3 4) - 1)]) (rest := []) hJ hJs hS ⟨hx, hb, hml, hown, hts⟩ (wkX0_in l D dA E hE T J hJ w a2 (-1) ((w.1 3 4) - 1) g4) (va_cwS 3 hts (lw_S q319 q320 q136 q321) rfl rfl rfl cdX0_in.2 ⟨Nat.le_of_ble_eq_true rfl, Nat.le_of_ble_eq_true rfl⟩) hK hP hl.1 rfl rfl (Nat.le_of_ble_eq_true rfl) dX0_hung_23 ⟨Nat.zero_le _, Nat.zero_le _⟩) hS hD.2 (fun H locs zq5 hP hS => ?_)
    refine lv_if_ne (tgt := 32) hx hb dX0_hung_26 (by decide) (fun c6 => ?_) (fun c6 => ?_)
    · replace hf := ob_f hf c6
      refine lv_aload_n hx hb dX0_hung_32 rfl (lv_at hl 0 rfl) ?_
      refine lv_iload_n hx hb dX0_hung_33 rfl (lv_at hl 1 rfl) ?_
      obtain ⟨q8, g7, hf⟩ := ob_bind hf
      refine xc_v (xj_run (As := [.int a1]) (rest := []) hJ hJs hS ⟨hx, hb, hml, hown, hts⟩ (k0 := 0) (wkX0_laysHung l D dA E hE T J hJ w a1 g7) (cwV 1 hts (lw_V q1317 q1319 qs55 q136 q1320) rfl rfl rfl cdX0_laysHung ⟨Nat.le_of_ble_eq_true rfl, Nat.le_of_ble_eq_true rfl⟩) hK hP (by decide) rfl rfl rfl hl.1 rfl rfl (Nat.le_of_ble_eq_true rfl) dX0_hung_34 ⟨Nat.zero_le _, Nat.zero_le _⟩) hS hD.2 (fun H locs hP hS => ?_)
      refine lv_iload_n hx hb dX0_hung_37 rfl (lv_at hl 2 rfl) ?_
      refine lv_iconst (v := (-1)) hx hb dX0_hung_38 (by decide) ?_
      refine lv_icmp_ne (tgt := 49) hx hb dX0_hung_39 (by decide) (fun c9 => ?_) (fun c9 => ?_)
      · replace hf := ob_f hf c9
        refine lv_aload_n hx hb dX0_hung_49 rfl (lv_at hl 0 rfl) ?_
        refine xr_get hx hb hts in_X0 hown hK hP 0 (by decide) rfl rfl 16 (by decide) (hts _ q268) (fun _ h => h) rfl (v := .int (q8.1 0 16)) rfl dX0_hung_50 ?_
        refine lv_if_ne (tgt := 61) hx hb dX0_hung_53 (by decide) (fun c10 => ?_) (fun c10 => ?_)
        · replace hf := ob_f hf c10
          refine lv_aload_n hx hb dX0_hung_61 rfl (lv_at hl 0 rfl) ?_
          refine xr_get hx hb hts in_X0 hown hK hP 0 (by decide) rfl rfl 14 (by decide) (hts _ q266) (fun _ h => h) rfl (v := .ref (E 32)) rfl dX0_hung_62 ?_
          refine lv_iload_n hx hb dX0_hung_65 rfl (lv_at hl 2 rfl) ?_
          obtain ⟨h11, hf⟩ := ob_gd hf
          refine xr_iald hx hb hK hP 32 (by decide) rfl 0 rfl (j := a2.toNatClampNeg) h11 rfl dX0_hung_66 ?_
          obtain rfl := ob_s hf
          subst hQ
          exact xe_i hx hb hr hlocks hP hS dX0_hung_67
        · replace hf := ob_t hf c10
          refine lv_bipush (v := (-2)) hx hb dX0_hung_56 (by decide) ?_
          refine lv_goto (tgt := 67) hx hb dX0_hung_58 (by decide) ?_
          obtain rfl := ob_s hf
          subst hQ
          exact xe_i hx hb hr hlocks hP hS dX0_hung_67
      · replace hf := ob_t hf c9
        refine lv_aload_n hx hb dX0_hung_42 rfl (lv_at hl 0 rfl) ?_
        refine xr_get hx hb hts in_X0 hown hK hP 0 (by decide) rfl rfl 16 (by decide) (hts _ q268) (fun _ h => h) rfl (v := .int (q8.1 0 16)) rfl dX0_hung_43 ?_
        refine lv_goto (tgt := 67) hx hb dX0_hung_46 (by decide) ?_
        obtain rfl := ob_s hf
        subst hQ
        exact xe_i hx hb hr hlocks hP hS dX0_hung_67
    · replace hf := ob_t hf c6
      refine lv_bipush (v := (-2)) hx hb dX0_hung_29 (by decide) ?_
      obtain rfl := ob_s hf
      subst hQ
      exact xe_i hx hb hr hlocks hP hS dX0_hung_31
abbrev rmX0_mostOn : Room := { frames := 1, cells := 0, slots := 0, locals := 24 }
theorem cdX0_mostOn : yX0_mostOn.cls = RX0 ∧ yX0_mostOn.cls ≠ "java/lang/invoke/MethodHandle" ∧ yX0_mostOn.cls ≠ "java/lang/invoke/VarHandle" ∧ (parseMethodDescriptor yX0_mostOn.desc).map (fun d => d.parameters.length) = some 1 := by decide +kernel
set_option maxHeartbeats 4000000 in
set_option maxRecDepth 100000 in
theorem wkX0_mostOn (l : Launch) (D : va_G) (dA : Nat → ClassId) (E : Nat → Nat) (hE : wInj 136 E) (T : Tx) (J : State → Heap → Prop) (hJ : JP D dA E T J) (w : Mm) (a1 : Int32) {res : Int32} (hf : X_mostOn w a1 = some res) : Met l yX0_mostOn (ws_ yX0_mostOn cX0_mostOn 4 (some .int)) rmX0_mostOn (Pj D dA E J [.ref (E 0), .int a1] w) (Qwi D clX shX 136 dA E res w) 0 0 (AE 136 E) := by
  refine xj_head (own := RX0) (by decide) rfl (Nat.le_of_ble_eq_true rfl) ?_
  intro p e s m args below meth c ls Q hQ C hP hl
  obtain ⟨hx, hb, hr, hlocks, hml, hown, hts, hK, hJs⟩ := C
  replace hl : lv_has ls 4 [(0, .ref (E 0)), (1, .int a1)] := hl
  have hS : va_S (AE 136 E) s.heap s.heap [] := va_S.rf
  have hD : wD 136 E (AE 136 E) := wD.self hE
  unfold X_mostOn at hf
  obtain ⟨H, eH⟩ : ∃ H, H = s.heap := ⟨_, rfl⟩
  obtain ⟨locs, eL⟩ : ∃ locs : List Loc, locs = [] := ⟨_, rfl⟩
  rw [← eL] at hS ⊢
  rw [← eH] at hP
  have hS : va_S (AE 136 E) s.heap H locs := by rw [eH]; exact hS
  show W p l e rmX0_mostOn s m args below meth c s.heap locs 0 0 Q (F0 m 0 ls [])
  rw [← eH]
  refine lv_iconst (v := 0) hx hb dX0_mostOn_0 (by decide) ?_
  refine lv_istore_n (lv' := [(2, .int 0), (0, .ref (E 0)), (1, .int a1)]) hx hb dX0_mostOn_1 rfl hl (by decide) rfl (fun ls hl => ?_)
  refine lv_iconst (v := 0) hx hb dX0_mostOn_2 (by decide) ?_
  refine lv_istore_n (lv' := [(3, .int 0), (2, .int 0), (0, .ref (E 0)), (1, .int a1)]) hx hb dX0_mostOn_3 rfl hl (by decide) rfl (fun ls hl => ?_)
  obtain ⟨b3, hb3, hf⟩ := ob_bind hf
  obtain ⟨n3, hn3⟩ := lp_some hb3
  have kL4 : ∀ (n : Nat) (v2_1 : Int32) (v3_2 : Int32), lpF (fun (q3 : Int32 × Int32) => X_mostOn_b4 a1 w q3.1 q3.2) n (v2_1, v3_2) = some b3 → (∀ (H : Heap) (locs : List Loc) (ls : Array Slot), va_P D clX (wl shX 136 dA E w) H → va_S (AE 136 E) s.heap H locs → lv_has ls 4 [(2, .int b3)] → W p l e rmX0_mostOn s m args below meth c H locs 0 0 Q (F0 m 29 ls [])) → ∀ (H : Heap) (locs : List Loc) (ls : Array Slot), va_P D clX (wl shX 136 dA E w) H → va_S (AE 136 E) s.heap H locs → lv_has ls 4 [(0, .ref (E 0)), (1, .int a1), (2, .int v2_1), (3, .int v3_2)] → W p l e rmX0_mostOn s m args below meth c H locs 0 0 Q (F0 m 4 ls []) := by
    intro n
    induction n with
    | zero =>
      intro v2_1 v3_2 hq9
      cases hq9
    | succ n ih =>
      intro v2_1 v3_2 hq9 K3_0 H locs ls hP hS hl
      obtain ⟨r3, hf, h3a, h3b⟩ := lpF_step hq9
      replace hf : X_mostOn_b4 a1 w v2_1 v3_2 = some r3 := hf
      unfold X_mostOn_b4 at hf
      refine lv_iload_n hx hb dX0_mostOn_4 rfl (lv_at hl 3 rfl) ?_
      refine lv_bipush (v := 8) hx hb dX0_mostOn_5 (by decide) ?_
      refine lv_icmp_ge (tgt := 29) hx hb dX0_mostOn_7 (by decide) (fun c4 => ?_) (fun c4 => ?_)
      · replace hf := ob_t hf c4
        obtain rfl := ob_s hf
        obtain rfl := h3b _ rfl
        exact K3_0 H locs ls hP hS (lv_sub hl [2] rfl)
      · replace hf := ob_f hf c4
        refine lv_iload_n hx hb dX0_mostOn_10 rfl (lv_at hl 2 rfl) ?_
        refine lv_aload_n hx hb dX0_mostOn_11 rfl (lv_at hl 0 rfl) ?_
        refine xr_get hx hb hts in_X0 hown hK hP 0 (by decide) rfl rfl 15 (by decide) (hts _ q267) (fun _ h => h) rfl (v := .ref (E 33)) rfl dX0_mostOn_12 ?_
        refine lv_iload_n hx hb dX0_mostOn_15 rfl (lv_at hl 1 rfl) ?_
        obtain ⟨h5, hf⟩ := ob_gd hf
        refine xr_aald hx hb hK hP 33 (by decide) rfl (j := a1.toNatClampNeg) h5 rfl dX0_mostOn_16 ?_
        refine lv_iload_n hx hb dX0_mostOn_17 rfl (lv_at hl 3 rfl) ?_
        obtain ⟨h6, hf⟩ := ob_gd hf
        refine xr_iald hx hb hK hP (130 + a1.toNatClampNeg) (by have := vin_lt h5; omega) (shX_r5 (by have := vin_lt h5; omega)) 0 rfl (j := v3_2.toNatClampNeg) h6 rfl dX0_mostOn_18 ?_
        refine xr_mmax hx hb (hml.trans hl.1.symm) hown (hts _ q1094) (hts _ q662) (hts _ q150) (hts _ q663) (Nat.le_of_ble_eq_true rfl) (Nat.le_of_ble_eq_true rfl) (Nat.zero_le _) (Nat.zero_le _) dX0_mostOn_19 ?_
        obtain ⟨v2_7, ev2_7, hf⟩ := ob_bnd hf
        refine xn_i ev2_7 ?_
        refine lv_istore_n (lv' := [(2, .int v2_7), (0, .ref (E 0)), (1, .int a1), (3, .int v3_2)]) hx hb dX0_mostOn_22 rfl hl (by decide) rfl (fun ls hl => ?_)
        obtain ⟨v3_8, ev3_8, hf⟩ := ob_bnd hf
        refine lv_iinc (v := v3_8) (lv' := [(3, .int v3_8), (2, .int v2_7), (0, .ref (E 0)), (1, .int a1)]) hx hb dX0_mostOn_23 hl (k := 3) rfl (by rw [ev3_8]; rfl) (by decide) rfl (fun ls hl => ?_)
        refine lv_goto (tgt := 4) hx hb dX0_mostOn_26 (by decide) ?_
        obtain rfl := ob_s hf
        exact ih _ _ (h3a _ rfl) K3_0 H locs ls hP hS (lv_sub hl [2, 3, 1, 0] rfl)
  refine kL4 n3 0 0 hn3 (fun H locs ls hP hS hl => ?_) H locs ls hP hS (lv_sub hl [2, 3, 1, 0] rfl)
  replace hf : X_mostOn_x4_29 b3 = some res := hf
  unfold X_mostOn_x4_29 at hf
  refine lv_iload_n hx hb dX0_mostOn_29 rfl (lv_at hl 0 rfl) ?_
  obtain rfl := ob_s hf
  subst hQ
  exact xe_i hx hb hr hlocks hP hS dX0_mostOn_30
