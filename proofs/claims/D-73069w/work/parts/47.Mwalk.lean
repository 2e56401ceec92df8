/-! QuarrelsPawnedModel: its methods walked (printed by gen.py) -/
abbrev rmX2_costOf : Room := { frames := 6, cells := 0, slots := 0, locals := 146 }
theorem cdX2_costOf : yX2_costOf.cls = RX2 ∧ yX2_costOf.cls ≠ "java/lang/invoke/MethodHandle" ∧ yX2_costOf.cls ≠ "java/lang/invoke/VarHandle" ∧ (parseMethodDescriptor yX2_costOf.desc).map (fun d => d.parameters.length) = some 2 := by decide +kernel
set_option maxHeartbeats 4000000 in
set_option maxRecDepth 100000 in
theorem wkX2_costOf (l : Launch) (D : va_G) (dA : Nat → ClassId) (E : Nat → Nat) (hE : wInj 19 E) (w : Mm) (a1 : Int32) (a2 : Int32) {res : Int32 × Mm} (hf : M_costOf w a1 a2 = some res) : Met l yX2_costOf (ws_ yX2_costOf cX2_costOf 5 (some .int)) rmX2_costOf (Pw D clM (tyM dA) shM 19 dA E [.ref (E 0), .int a1, .int a2] w) (Qwi D clM shM 19 dA E res.1 res.2) 0 0 (AE 19 E) := by
  refine xm_head (own := RX2) (by decide) rfl (Nat.le_of_ble_eq_true rfl) ?_
  intro p e s m args below meth c ls Q hQ C hP hl
  obtain ⟨hx, hb, hr, hlocks, hml, hown, hts, hK⟩ := C
  replace hl : lv_has ls 5 [(0, .ref (E 0)), (1, .int a1), (2, .int a2)] := hl
  have hS : va_S (AE 19 E) s.heap s.heap [] := va_S.rf
  have hD : wD 19 E (AE 19 E) := wD.self hE
  unfold M_costOf at hf
  obtain ⟨H, eH⟩ : ∃ H, H = s.heap := ⟨_, rfl⟩
  obtain ⟨locs, eL⟩ : ∃ locs : List Loc, locs = [] := ⟨_, rfl⟩
  rw [← eL] at hS ⊢
  rw [← eH] at hP
  have hS : va_S (AE 19 E) s.heap H locs := by rw [eH]; exact hS
  show W p l e rmX2_costOf s m args below meth c s.heap locs 0 0 Q (F0 m 0 ls [])
  rw [← eH]
  refine lv_iconst (v := 0) hx hb dX2_costOf_0 (by decide) ?_
  refine lv_istore_n (lv' := [(3, .int 0), (0, .ref (E 0)), (1, .int a1), (2, .int a2)]) hx hb dX2_costOf_1 rfl hl (by decide) rfl (fun ls hl => ?_)
  refine lv_iconst (v := 0) hx hb dX2_costOf_2 (by decide) ?_
  refine lv_istore (lv' := [(4, .int 0), (3, .int 0), (0, .ref (E 0)), (1, .int a1), (2, .int a2)]) hx hb dX2_costOf_3 hl (by decide) rfl (fun ls hl => ?_)
  obtain ⟨b4, hb4, hf⟩ := ob_bind hf
  obtain ⟨n4, hn4⟩ := lp_some hb4
  have kL5 : ∀ (n : Nat) (w1 : Mm) (v3_2 : Int32) (v4_3 : Int32), lpF (fun (q4 : Mm × Int32 × Int32) => M_costOf_b5 a1 a2 q4.1 q4.2.1 q4.2.2) n (w1, v3_2, v4_3) = some b4 → (∀ (x4_0 : Mm), b4 = .inl x4_0 → ∀ (H : Heap) (locs : List Loc) (ls : Array Slot), va_P D clM (wl shM 19 dA E x4_0) H → va_S (AE 19 E) s.heap H locs → lv_has ls 5 [] → W p l e rmX2_costOf s m args below meth c H locs 0 0 Q (F0 m 49 ls [])) → (∀ (x4_1 : Mm × Int32), b4 = .inr x4_1 → ∀ (H : Heap) (locs : List Loc) (ls : Array Slot), va_P D clM (wl shM 19 dA E x4_1.1) H → va_S (AE 19 E) s.heap H locs → lv_has ls 5 [(3, .int x4_1.2)] → W p l e rmX2_costOf s m args below meth c H locs 0 0 Q (F0 m 66 ls [])) → ∀ (H : Heap) (locs : List Loc) (ls : Array Slot), va_P D clM (wl shM 19 dA E w1) H → va_S (AE 19 E) s.heap H locs → lv_has ls 5 [(0, .ref (E 0)), (1, .int a1), (2, .int a2), (3, .int v3_2), (4, .int v4_3)] → W p l e rmX2_costOf s m args below meth c H locs 0 0 Q (F0 m 5 ls []) := by
    intro n
    induction n with
    | zero =>
      intro w1 v3_2 v4_3 h
      cases h
    | succ n ih =>
      intro w1 v3_2 v4_3 h K4_0 K4_1 H locs ls hP hS hl
      obtain ⟨r4, hf, h4a, h4b⟩ := lpF_step h
      replace hf : M_costOf_b5 a1 a2 w1 v3_2 v4_3 = some r4 := hf
      unfold M_costOf_b5 at hf
      refine lv_iload hx hb dX2_costOf_5 (lv_at hl 4 rfl) ?_
      refine lv_aload_n hx hb dX2_costOf_7 rfl (lv_at hl 0 rfl) ?_
      refine xr_get hx hb hts in_X2 hown hK hP 0 (by decide) rfl rfl 0 (by decide) (hts _ q1405) (fun _ h => h) rfl (v := .ref (E 1)) rfl dX2_costOf_8 ?_
      refine lv_iconst (v := 0) hx hb dX2_costOf_11 (by decide) ?_
      refine xr_iald hx hb hK hP 1 (by decide) rfl 0 rfl (j := 0) (vin_c (by decide)) (by decide) dX2_costOf_12 ?_
      refine lv_icmp_ge (tgt := 66) hx hb dX2_costOf_13 (by decide) (fun c5 => ?_) (fun c5 => ?_)
      · replace hf := ob_t hf c5
        obtain rfl := ob_s hf
        exact K4_1 _ (h4b _ rfl).symm H locs ls hP hS (lv_sub hl [3] rfl)
      · replace hf := ob_f hf c5
        refine lv_aload_n hx hb dX2_costOf_16 rfl (lv_at hl 0 rfl) ?_
        refine lv_iload hx hb dX2_costOf_17 (lv_at hl 4 rfl) ?_
        refine lv_iload_n hx hb dX2_costOf_19 rfl (lv_at hl 1 rfl) ?_
        refine lv_iload_n hx hb dX2_costOf_20 rfl (lv_at hl 2 rfl) ?_
        obtain ⟨q7, g6, hf⟩ := ob_bind hf
        refine xc_z (xw_run (As := [.int v4_3, .int a1, .int a2]) (rest := []) ⟨hx, hb, hml, hown, hts⟩ (k0 := 0) (wkX2_isOfTwo l D dA E hE w1 v4_3 a1 a2 g6) (cwV 3 hts (lw_V q1930 q1932 qs121 q140 q1933) rfl rfl rfl cdX2_isOfTwo ⟨Nat.le_of_ble_eq_true rfl, Nat.le_of_ble_eq_true rfl⟩) hK hP (by decide) rfl rfl rfl hl.1 rfl rfl (Nat.le_of_ble_eq_true rfl) dX2_costOf_21 ⟨Nat.zero_le _, Nat.zero_le _⟩) hS hD.2 (fun H locs zq7 hP hS => ?_)
        refine lv_if_eq (tgt := 60) hx hb dX2_costOf_24 (by decide) (fun c8 => ?_) (fun c8 => ?_)
        · replace hf := ob_t hf c8
          obtain ⟨v4_9, ev4_9, hf⟩ := ob_bnd hf
          refine lv_iinc (v := v4_9) (lv' := [(4, .int v4_9), (0, .ref (E 0)), (1, .int a1), (2, .int a2), (3, .int v3_2)]) hx hb dX2_costOf_60 hl (k := 4) rfl (by rw [ev4_9]; rfl) (by decide) rfl (fun ls hl => ?_)
          refine lv_goto (tgt := 5) hx hb dX2_costOf_63 (by decide) ?_
          obtain rfl := ob_s hf
          exact ih _ _ _ (h4a _ rfl) K4_0 K4_1 H locs ls hP hS (lv_sub hl [1, 2, 3, 4, 0] rfl)
        · replace hf := ob_f hf c8
          refine lv_aload_n hx hb dX2_costOf_27 rfl (lv_at hl 0 rfl) ?_
          refine lv_iload hx hb dX2_costOf_28 (lv_at hl 4 rfl) ?_
          obtain ⟨q11, g10, hf⟩ := ob_bind hf
          refine xc_i (xw_run (As := [.int v4_3]) (rest := []) ⟨hx, hb, hml, hown, hts⟩ (k0 := 0) (wkX2_howOf l D dA E hE w1 v4_3 g10) (cwV 1 hts (lw_V q1737 q1739 qs93 q140 q1740) rfl rfl rfl cdX2_howOf ⟨Nat.le_of_ble_eq_true rfl, Nat.le_of_ble_eq_true rfl⟩) hK hP (by decide) rfl rfl rfl hl.1 rfl rfl (Nat.le_of_ble_eq_true rfl) dX2_costOf_30 ⟨Nat.zero_le _, Nat.zero_le _⟩) hS hD.2 (fun H locs hP hS => ?_)
          refine lv_iconst (v := 2) hx hb dX2_costOf_33 (by decide) ?_
          refine lv_icmp_ne (tgt := 40) hx hb dX2_costOf_34 (by decide) (fun c12 => ?_) (fun c12 => ?_)
          · replace hf := ob_f hf c12
            refine lv_aload_n hx hb dX2_costOf_40 rfl (lv_at hl 0 rfl) ?_
            refine lv_iload hx hb dX2_costOf_41 (lv_at hl 4 rfl) ?_
            obtain ⟨q14, g13, hf⟩ := ob_bind hf
            refine xc_z (xw_run (As := [.int v4_3]) (rest := []) ⟨hx, hb, hml, hown, hts⟩ (k0 := 0) (wkX2_isPawned l D dA E hE w1 v4_3 g13) (cwV 1 hts (lw_V q1764 q1766 qs98 q140 q1767) rfl rfl rfl cdX2_isPawned ⟨Nat.le_of_ble_eq_true rfl, Nat.le_of_ble_eq_true rfl⟩) hK hP (by decide) rfl rfl rfl hl.1 rfl rfl (Nat.le_of_ble_eq_true rfl) dX2_costOf_43 ⟨Nat.zero_le _, Nat.zero_le _⟩) hS hD.2 (fun H locs zq14 hP hS => ?_)
            refine lv_if_ne (tgt := 51) hx hb dX2_costOf_46 (by decide) (fun c15 => ?_) (fun c15 => ?_)
            · replace hf := ob_f hf c15
              refine lv_iload_n hx hb dX2_costOf_51 rfl (lv_at hl 3 rfl) ?_
              refine lv_aload_n hx hb dX2_costOf_52 rfl (lv_at hl 0 rfl) ?_
              refine lv_iload hx hb dX2_costOf_53 (lv_at hl 4 rfl) ?_
              obtain ⟨q17, g16, hf⟩ := ob_bind hf
              refine xc_i (xw_run (As := [.int v4_3]) (rest := [.int v3_2]) ⟨hx, hb, hml, hown, hts⟩ (k0 := 0) (wkX2_duesOf l D dA E hE w1 v4_3 g16) (cwV 1 hts (lw_V q1768 q1770 qs99 q140 q1771) rfl rfl rfl cdX2_duesOf ⟨Nat.le_of_ble_eq_true rfl, Nat.le_of_ble_eq_true rfl⟩) hK hP (by decide) rfl rfl rfl hl.1 rfl rfl (Nat.le_of_ble_eq_true rfl) dX2_costOf_55 ⟨Nat.zero_le _, Nat.zero_le _⟩) hS hD.2 (fun H locs hP hS => ?_)
              refine lv_iadd hx hb dX2_costOf_58 ?_
              obtain ⟨v3_18, ev3_18, hf⟩ := ob_bnd hf
              refine xn_i ev3_18 ?_
              refine lv_istore_n (lv' := [(3, .int v3_18), (0, .ref (E 0)), (1, .int a1), (2, .int a2), (4, .int v4_3)]) hx hb dX2_costOf_59 rfl hl (by decide) rfl (fun ls hl => ?_)
              obtain ⟨v4_19, ev4_19, hf⟩ := ob_bnd hf
              refine lv_iinc (v := v4_19) (lv' := [(4, .int v4_19), (3, .int v3_18), (0, .ref (E 0)), (1, .int a1), (2, .int a2)]) hx hb dX2_costOf_60 hl (k := 4) rfl (by rw [ev4_19]; rfl) (by decide) rfl (fun ls hl => ?_)
              refine lv_goto (tgt := 5) hx hb dX2_costOf_63 (by decide) ?_
              obtain rfl := ob_s hf
              exact ih _ _ _ (h4a _ rfl) K4_0 K4_1 H locs ls hP hS (lv_sub hl [2, 3, 4, 1, 0] rfl)
            · replace hf := ob_t hf c15
              obtain rfl := ob_s hf
              exact K4_0 _ (h4b _ rfl).symm H locs ls hP hS (lv_sub hl [] rfl)
          · replace hf := ob_t hf c12
            refine lv_goto (tgt := 60) hx hb dX2_costOf_37 (by decide) ?_
            obtain ⟨v4_20, ev4_20, hf⟩ := ob_bnd hf
            refine lv_iinc (v := v4_20) (lv' := [(4, .int v4_20), (0, .ref (E 0)), (1, .int a1), (2, .int a2), (3, .int v3_2)]) hx hb dX2_costOf_60 hl (k := 4) rfl (by rw [ev4_20]; rfl) (by decide) rfl (fun ls hl => ?_)
            refine lv_goto (tgt := 5) hx hb dX2_costOf_63 (by decide) ?_
            obtain rfl := ob_s hf
            exact ih _ _ _ (h4a _ rfl) K4_0 K4_1 H locs ls hP hS (lv_sub hl [1, 2, 3, 4, 0] rfl)
  refine kL5 n4 w 0 0 hn4 (fun x4_0 ex4_0 H locs ls hP hS hl => ?_) (fun x4_1 ex4_1 H locs ls hP hS hl => ?_) H locs ls hP hS (lv_sub hl [2, 3, 4, 1, 0] rfl)
  · subst ex4_0
    replace hf : M_costOf_x5_49 x4_0 = some res := hf
    unfold M_costOf_x5_49 at hf
    refine lv_iconst (v := (-1)) hx hb dX2_costOf_49 (by decide) ?_
    obtain rfl := ob_s hf
    subst hQ
    exact xe_i hx hb hr hlocks hP hS dX2_costOf_50
  · subst ex4_1
    replace hf : M_costOf_x5_66 x4_1 = some res := hf
    unfold M_costOf_x5_66 at hf
    refine lv_iload_n hx hb dX2_costOf_66 rfl (lv_at hl 0 rfl) ?_
    obtain rfl := ob_s hf
    subst hQ
    exact xe_i hx hb hr hlocks hP hS dX2_costOf_67
abbrev rmX2_cost : Room := { frames := 7, cells := 0, slots := 0, locals := 170 }
theorem cdX2_cost : yX2_cost.cls = RX2 ∧ yX2_cost.cls ≠ "java/lang/invoke/MethodHandle" ∧ yX2_cost.cls ≠ "java/lang/invoke/VarHandle" ∧ (parseMethodDescriptor yX2_cost.desc).map (fun d => d.parameters.length) = some 2 := by decide +kernel
set_option maxHeartbeats 4000000 in
set_option maxRecDepth 100000 in
theorem wkX2_cost (l : Launch) (D : va_G) (dA : Nat → ClassId) (E : Nat → Nat) (hE : wInj 19 E) (w : Mm) (a1 : Int32) (a2 : Int32) {res : Int32 × Mm} (hf : M_cost w a1 a2 = some res) : Met l yX2_cost (ws_ yX2_cost cX2_cost 3 (some .int)) rmX2_cost (Pw D clM (tyM dA) shM 19 dA E [.ref (E 0), .int a1, .int a2] w) (Qwi D clM shM 19 dA E res.1 res.2) 0 0 (AE 19 E) := by
  refine xm_head (own := RX2) (by decide) rfl (Nat.le_of_ble_eq_true rfl) ?_
  intro p e s m args below meth c ls Q hQ C hP hl
  obtain ⟨hx, hb, hr, hlocks, hml, hown, hts, hK⟩ := C
  replace hl : lv_has ls 3 [(0, .ref (E 0)), (1, .int a1), (2, .int a2)] := hl
  have hS : va_S (AE 19 E) s.heap s.heap [] := va_S.rf
  have hD : wD 19 E (AE 19 E) := wD.self hE
  unfold M_cost at hf
  obtain ⟨H, eH⟩ : ∃ H, H = s.heap := ⟨_, rfl⟩
  obtain ⟨locs, eL⟩ : ∃ locs : List Loc, locs = [] := ⟨_, rfl⟩
  rw [← eL] at hS ⊢
  rw [← eH] at hP
  have hS : va_S (AE 19 E) s.heap H locs := by rw [eH]; exact hS
  show W p l e rmX2_cost s m args below meth c s.heap locs 0 0 Q (F0 m 0 ls [])
  rw [← eH]
  refine lv_iload_n hx hb dX2_cost_0 rfl (lv_at hl 1 rfl) ?_
  refine lv_iload_n hx hb dX2_cost_1 rfl (lv_at hl 2 rfl) ?_
  obtain ⟨q2, g1, hf⟩ := ob_bind hf
  refine xc_z (xw_runS (As := [.int a1, .int a2]) (rest := []) ⟨hx, hb, hml, hown, hts⟩ (wkX2_areTwo l D dA E hE w a1 a2 g1) (va_cwS 2 hts (lw_S q1923 q1924 q140 q1925) rfl rfl rfl cdX2_areTwo.2 ⟨Nat.le_of_ble_eq_true rfl, Nat.le_of_ble_eq_true rfl⟩) hK hP hl.1 rfl rfl (Nat.le_of_ble_eq_true rfl) dX2_cost_2 ⟨Nat.zero_le _, Nat.zero_le _⟩) hS hD.2 (fun H locs zq2 hP hS => ?_)
  refine lv_if_eq (tgt := 17) hx hb dX2_cost_5 (by decide) (fun c3 => ?_) (fun c3 => ?_)
  · replace hf := ob_t hf c3
    refine lv_iconst (v := (-1)) hx hb dX2_cost_17 (by decide) ?_
    obtain rfl := ob_s hf
    subst hQ
    exact xe_i hx hb hr hlocks hP hS dX2_cost_18
  · replace hf := ob_f hf c3
    refine lv_aload_n hx hb dX2_cost_8 rfl (lv_at hl 0 rfl) ?_
    refine lv_iload_n hx hb dX2_cost_9 rfl (lv_at hl 1 rfl) ?_
    refine lv_iload_n hx hb dX2_cost_10 rfl (lv_at hl 2 rfl) ?_
    obtain ⟨q5, g4, hf⟩ := ob_bind hf
    refine xc_i (xw_run (As := [.int a1, .int a2]) (rest := []) ⟨hx, hb, hml, hown, hts⟩ (k0 := 0) (wkX2_costOf l D dA E hE w a1 a2 g4) (cwV 2 hts (lw_V q1958 q1960 qs123 q140 q1961) rfl rfl rfl cdX2_costOf ⟨Nat.le_of_ble_eq_true rfl, Nat.le_of_ble_eq_true rfl⟩) hK hP (by decide) rfl rfl rfl hl.1 rfl rfl (Nat.le_of_ble_eq_true rfl) dX2_cost_11 ⟨Nat.zero_le _, Nat.zero_le _⟩) hS hD.2 (fun H locs hP hS => ?_)
    refine lv_goto (tgt := 18) hx hb dX2_cost_14 (by decide) ?_
    obtain rfl := ob_s hf
    subst hQ
    exact xe_i hx hb hr hlocks hP hS dX2_cost_18
abbrev rmX2_isNearer : Room := { frames := 0, cells := 0, slots := 0, locals := 0 }
theorem cdX2_isNearer : yX2_isNearer.cls = RX2 ∧ yX2_isNearer.cls ≠ "java/lang/invoke/MethodHandle" ∧ yX2_isNearer.cls ≠ "java/lang/invoke/VarHandle" ∧ (parseMethodDescriptor yX2_isNearer.desc).map (fun d => d.parameters.length) = some 3 := by decide +kernel
set_option maxHeartbeats 4000000 in
set_option maxRecDepth 100000 in
theorem wkX2_isNearer (l : Launch) (D : va_G) (dA : Nat → ClassId) (E : Nat → Nat) (hE : wInj 19 E) (w : Mm) (a1 : Int32) (a2 : Int32) (a3 : Int32) {res : Int32} (hf : M_isNearer w a1 a2 a3 = some res) : Met l yX2_isNearer (ws_ yX2_isNearer cX2_isNearer 4 (some .boolean)) rmX2_isNearer (Pw D clM (tyM dA) shM 19 dA E [.ref (E 0), .int a1, .int a2, .int a3] w) (Qwz D clM shM 19 dA E res w) 0 0 (AE 19 E) := by
  refine xm_head (own := RX2) (by decide) rfl (Nat.le_of_ble_eq_true rfl) ?_
  intro p e s m args below meth c ls Q hQ C hP hl
  obtain ⟨hx, hb, hr, hlocks, hml, hown, hts, hK⟩ := C
  replace hl : lv_has ls 4 [(0, .ref (E 0)), (1, .int a1), (2, .int a2), (3, .int a3)] := hl
  have hS : va_S (AE 19 E) s.heap s.heap [] := va_S.rf
  have hD : wD 19 E (AE 19 E) := wD.self hE
  unfold M_isNearer at hf
  obtain ⟨H, eH⟩ : ∃ H, H = s.heap := ⟨_, rfl⟩
  obtain ⟨locs, eL⟩ : ∃ locs : List Loc, locs = [] := ⟨_, rfl⟩
  rw [← eL] at hS ⊢
  rw [← eH] at hP
  have hS : va_S (AE 19 E) s.heap H locs := by rw [eH]; exact hS
  show W p l e rmX2_isNearer s m args below meth c s.heap locs 0 0 Q (F0 m 0 ls [])
  rw [← eH]
  refine lv_iload_n hx hb dX2_isNearer_0 rfl (lv_at hl 2 rfl) ?_
  refine lv_aload_n hx hb dX2_isNearer_1 rfl (lv_at hl 0 rfl) ?_
  refine xr_get hx hb hts in_X2 hown hK hP 0 (by decide) rfl rfl 26 (by decide) (hts _ q1431) (fun _ h => h) rfl (v := .ref (E 10)) rfl dX2_isNearer_2 ?_
  refine lv_iload_n hx hb dX2_isNearer_5 rfl (lv_at hl 1 rfl) ?_
  obtain ⟨h1, hf⟩ := ob_gd hf
  refine xr_iald hx hb hK hP 10 (by decide) rfl 0 rfl (j := a1.toNatClampNeg) h1 rfl dX2_isNearer_6 ?_
  have kj30 : ∀ (H : Heap) (locs : List Loc) (ls : Array Slot), M_isNearer_j30 = some res → va_P D clM (wl shM 19 dA E w) H → va_S (AE 19 E) s.heap H locs → lv_has ls 4 [] → W p l e rmX2_isNearer s m args below meth c H locs 0 0 Q (F0 m 30 ls []) := by
    intro H locs ls hf hP hS hl
    unfold M_isNearer_j30 at hf
    refine lv_iconst (v := 1) hx hb dX2_isNearer_30 (by decide) ?_
    refine lv_goto (tgt := 35) hx hb dX2_isNearer_31 (by decide) ?_
    obtain rfl := ob_s hf
    subst hQ
    exact xe_z hx hb hr hlocks hP hS (Or.inr rfl) dX2_isNearer_35
  refine lv_icmp_lt (tgt := 30) hx hb dX2_isNearer_7 (by decide) (fun c2 => ?_) (fun c2 => ?_)
  · replace hf := ob_t hf c2
    exact kj30 H locs ls hf hP hS (lv_sub hl [] rfl)
  · replace hf := ob_f hf c2
    refine lv_iload_n hx hb dX2_isNearer_10 rfl (lv_at hl 2 rfl) ?_
    refine lv_aload_n hx hb dX2_isNearer_11 rfl (lv_at hl 0 rfl) ?_
    refine xr_get hx hb hts in_X2 hown hK hP 0 (by decide) rfl rfl 26 (by decide) (hts _ q1431) (fun _ h => h) rfl (v := .ref (E 10)) rfl dX2_isNearer_12 ?_
    refine lv_iload_n hx hb dX2_isNearer_15 rfl (lv_at hl 1 rfl) ?_
    obtain ⟨h3, hf⟩ := ob_gd hf
    refine xr_iald hx hb hK hP 10 (by decide) rfl 0 rfl (j := a1.toNatClampNeg) h3 rfl dX2_isNearer_16 ?_
    refine lv_icmp_ne (tgt := 34) hx hb dX2_isNearer_17 (by decide) (fun c4 => ?_) (fun c4 => ?_)
    · replace hf := ob_f hf c4
      refine lv_iconst (v := 0) hx hb dX2_isNearer_34 (by decide) ?_
      obtain rfl := ob_s hf
      subst hQ
      exact xe_z hx hb hr hlocks hP hS (Or.inl rfl) dX2_isNearer_35
    · replace hf := ob_t hf c4
      refine lv_iload_n hx hb dX2_isNearer_20 rfl (lv_at hl 3 rfl) ?_
      refine lv_aload_n hx hb dX2_isNearer_21 rfl (lv_at hl 0 rfl) ?_
      refine xr_get hx hb hts in_X2 hown hK hP 0 (by decide) rfl rfl 27 (by decide) (hts _ q1432) (fun _ h => h) rfl (v := .ref (E 11)) rfl dX2_isNearer_22 ?_
      refine lv_iload_n hx hb dX2_isNearer_25 rfl (lv_at hl 1 rfl) ?_
      obtain ⟨h5, hf⟩ := ob_gd hf
      refine xr_iald hx hb hK hP 11 (by decide) rfl 0 rfl (j := a1.toNatClampNeg) h5 rfl dX2_isNearer_26 ?_
      refine lv_icmp_ge (tgt := 34) hx hb dX2_isNearer_27 (by decide) (fun c6 => ?_) (fun c6 => ?_)
      · replace hf := ob_t hf c6
        refine lv_iconst (v := 0) hx hb dX2_isNearer_34 (by decide) ?_
        obtain rfl := ob_s hf
        subst hQ
        exact xe_z hx hb hr hlocks hP hS (Or.inl rfl) dX2_isNearer_35
      · replace hf := ob_f hf c6
        exact kj30 H locs ls hf hP hS (lv_sub hl [] rfl)
abbrev rmX2_layFar : Room := { frames := 7, cells := 0, slots := 0, locals := 170 }
theorem cdX2_layFar : yX2_layFar.cls = RX2 ∧ yX2_layFar.cls ≠ "java/lang/invoke/MethodHandle" ∧ yX2_layFar.cls ≠ "java/lang/invoke/VarHandle" ∧ (parseMethodDescriptor yX2_layFar.desc).map (fun d => d.parameters.length) = some 1 := by decide +kernel
set_option maxHeartbeats 4000000 in
set_option maxRecDepth 100000 in
theorem wkX2_layFar (l : Launch) (D : va_G) (dA : Nat → ClassId) (E : Nat → Nat) (hE : wInj 19 E) (w : Mm) (a1 : Int32) {res : Mm} (hf : M_layFar w a1 = some res) : Met l yX2_layFar (ws_ yX2_layFar cX2_layFar 5 (none)) rmX2_layFar (Pw D clM (tyM dA) shM 19 dA E [.ref (E 0), .int a1] w) (Qwv D clM shM 19 dA E res) 0 0 (AE 19 E) := by
  refine xm_head (own := RX2) (by decide) rfl (Nat.le_of_ble_eq_true rfl) ?_
  intro p e s m args below meth c ls Q hQ C hP hl
  obtain ⟨hx, hb, hr, hlocks, hml, hown, hts, hK⟩ := C
  replace hl : lv_has ls 5 [(0, .ref (E 0)), (1, .int a1)] := hl
  have hS : va_S (AE 19 E) s.heap s.heap [] := va_S.rf
  have hD : wD 19 E (AE 19 E) := wD.self hE
  unfold M_layFar at hf
  obtain ⟨H, eH⟩ : ∃ H, H = s.heap := ⟨_, rfl⟩
  obtain ⟨locs, eL⟩ : ∃ locs : List Loc, locs = [] := ⟨_, rfl⟩
  rw [← eL] at hS ⊢
  rw [← eH] at hP
  have hS : va_S (AE 19 E) s.heap H locs := by rw [eH]; exact hS
  show W p l e rmX2_layFar s m args below meth c s.heap locs 0 0 Q (F0 m 0 ls [])
  rw [← eH]
  refine lv_iconst (v := 0) hx hb dX2_layFar_0 (by decide) ?_
  refine lv_istore_n (lv' := [(2, .int 0), (0, .ref (E 0)), (1, .int a1)]) hx hb dX2_layFar_1 rfl hl (by decide) rfl (fun ls hl => ?_)
  obtain ⟨b3, hb3, hf⟩ := ob_bind hf
  obtain ⟨n3, hn3⟩ := lp_some hb3
  have kL2 : ∀ (n : Nat) (w1 : Mm) (v2_2 : Int32), lpF (fun (q3 : Mm × Int32) => M_layFar_b2 a1 q3.1 q3.2) n (w1, v2_2) = some b3 → (∀ (H : Heap) (locs : List Loc) (ls : Array Slot), va_P D clM (wl shM 19 dA E b3) H → va_S (AE 19 E) s.heap H locs → lv_has ls 5 [(0, .ref (E 0))] → W p l e rmX2_layFar s m args below meth c H locs 0 0 Q (F0 m 48 ls [])) → ∀ (H : Heap) (locs : List Loc) (ls : Array Slot), va_P D clM (wl shM 19 dA E w1) H → va_S (AE 19 E) s.heap H locs → lv_has ls 5 [(0, .ref (E 0)), (1, .int a1), (2, .int v2_2)] → W p l e rmX2_layFar s m args below meth c H locs 0 0 Q (F0 m 2 ls []) := by
    intro n
    induction n with
    | zero =>
      intro w1 v2_2 h
      cases h
    | succ n ih =>
      intro w1 v2_2 h K3_0 H locs ls hP hS hl
      obtain ⟨r3, hf, h3a, h3b⟩ := lpF_step h
      replace hf : M_layFar_b2 a1 w1 v2_2 = some r3 := hf
      unfold M_layFar_b2 at hf
      refine lv_iload_n hx hb dX2_layFar_2 rfl (lv_at hl 2 rfl) ?_
      refine lv_bipush (v := 6) hx hb dX2_layFar_3 (by decide) ?_
      refine lv_icmp_ge (tgt := 48) hx hb dX2_layFar_5 (by decide) (fun c4 => ?_) (fun c4 => ?_)
      · replace hf := ob_t hf c4
        obtain rfl := ob_s hf
        obtain rfl := h3b _ rfl
        exact K3_0 H locs ls hP hS (lv_sub hl [0] rfl)
      · replace hf := ob_f hf c4
        refine lv_aload_n hx hb dX2_layFar_8 rfl (lv_at hl 0 rfl) ?_
        refine xr_get hx hb hts in_X2 hown hK hP 0 (by decide) rfl rfl 26 (by decide) (hts _ q1431) (fun _ h => h) rfl (v := .ref (E 10)) rfl dX2_layFar_9 ?_
        refine lv_iload_n hx hb dX2_layFar_12 rfl (lv_at hl 2 rfl) ?_
        refine lv_iload_n hx hb dX2_layFar_13 rfl (lv_at hl 2 rfl) ?_
        refine lv_iload_n hx hb dX2_layFar_14 rfl (lv_at hl 1 rfl) ?_
        have kj25 : ∀ (t5 : Int32) (H : Heap) (locs : List Loc) (ls : Array Slot), M_layFar_j25 v2_2 w1 t5 a1 = some r3 → va_P D clM (wl shM 19 dA E w1) H → va_S (AE 19 E) s.heap H locs → lv_has ls 5 [(0, .ref (E 0)), (1, .int a1), (2, .int v2_2)] → W p l e rmX2_layFar s m args below meth c H locs 0 0 Q (F0 m 25 ls [.int t5, .int v2_2, .ref (E 10)]) := by
          intro t5 H locs ls hf hP hS hl
          unfold M_layFar_j25 at hf
          obtain ⟨h6, hf⟩ := ob_gd hf
          obtain ⟨w7, ew7, hf⟩ := ob_bnd hf
          refine xr_iast hx hb hK hP hD hS 10 (by decide) rfl 0 rfl (j := v2_2.toNatClampNeg) (w' := w7) h6 rfl ew7 dX2_layFar_25 (fun H locs hP hS => ?_)
          refine lv_aload_n hx hb dX2_layFar_26 rfl (lv_at hl 0 rfl) ?_
          refine xr_get hx hb hts in_X2 hown hK hP 0 (by decide) rfl rfl 27 (by decide) (hts _ q1432) (fun _ h => h) rfl (v := .ref (E 11)) rfl dX2_layFar_27 ?_
          refine lv_iload_n hx hb dX2_layFar_30 rfl (lv_at hl 2 rfl) ?_
          refine lv_iload_n hx hb dX2_layFar_31 rfl (lv_at hl 2 rfl) ?_
          refine lv_iload_n hx hb dX2_layFar_32 rfl (lv_at hl 1 rfl) ?_
          refine lv_icmp_ne (tgt := 40) hx hb dX2_layFar_33 (by decide) (fun c8 => ?_) (fun c8 => ?_)
          · replace hf := ob_f hf c8
            refine lv_iconst (v := 0) hx hb dX2_layFar_40 (by decide) ?_
            obtain ⟨h9, hf⟩ := ob_gd hf
            obtain ⟨w10, ew10, hf⟩ := ob_bnd hf
            refine xr_iast hx hb hK hP hD hS 11 (by decide) rfl 0 rfl (j := v2_2.toNatClampNeg) (w' := w10) h9 rfl ew10 dX2_layFar_41 (fun H locs hP hS => ?_)
            obtain ⟨v2_11, ev2_11, hf⟩ := ob_bnd hf
            refine lv_iinc (v := v2_11) (lv' := [(2, .int v2_11), (0, .ref (E 0)), (1, .int a1)]) hx hb dX2_layFar_42 hl (k := 2) rfl (by rw [ev2_11]; rfl) (by decide) rfl (fun ls hl => ?_)
            refine lv_goto (tgt := 2) hx hb dX2_layFar_45 (by decide) ?_
            obtain rfl := ob_s hf
            exact ih _ _ (h3a _ rfl) K3_0 H locs ls hP hS (lv_sub hl [1, 2, 0] rfl)
          · replace hf := ob_t hf c8
            refine lv_iconst (v := 1) hx hb dX2_layFar_36 (by decide) ?_
            refine lv_goto (tgt := 41) hx hb dX2_layFar_37 (by decide) ?_
            obtain ⟨h12, hf⟩ := ob_gd hf
            obtain ⟨w13, ew13, hf⟩ := ob_bnd hf
            refine xr_iast hx hb hK hP hD hS 11 (by decide) rfl 0 rfl (j := v2_2.toNatClampNeg) (w' := w13) h12 rfl ew13 dX2_layFar_41 (fun H locs hP hS => ?_)
            obtain ⟨v2_14, ev2_14, hf⟩ := ob_bnd hf
            refine lv_iinc (v := v2_14) (lv' := [(2, .int v2_14), (0, .ref (E 0)), (1, .int a1)]) hx hb dX2_layFar_42 hl (k := 2) rfl (by rw [ev2_14]; rfl) (by decide) rfl (fun ls hl => ?_)
            refine lv_goto (tgt := 2) hx hb dX2_layFar_45 (by decide) ?_
            obtain rfl := ob_s hf
            exact ih _ _ (h3a _ rfl) K3_0 H locs ls hP hS (lv_sub hl [1, 2, 0] rfl)
        refine lv_icmp_ne (tgt := 22) hx hb dX2_layFar_15 (by decide) (fun c15 => ?_) (fun c15 => ?_)
        · replace hf := ob_f hf c15
          refine lv_ldcw (v := 1000000) hx hb hown (hts _ q1970) dX2_layFar_22 ?_
          exact kj25 1000000 H locs ls hf hP hS (lv_sub hl [0, 1, 2] rfl)
        · replace hf := ob_t hf c15
          refine lv_iconst (v := 0) hx hb dX2_layFar_18 (by decide) ?_
          refine lv_goto (tgt := 25) hx hb dX2_layFar_19 (by decide) ?_
          exact kj25 0 H locs ls hf hP hS (lv_sub hl [0, 1, 2] rfl)
  refine kL2 n3 w 0 hn3 (fun H locs ls hP hS hl => ?_) H locs ls hP hS (lv_sub hl [1, 2, 0] rfl)
  replace hf : M_layFar_x2_48 b3 = some res := hf
  unfold M_layFar_x2_48 at hf
  refine lv_iconst (v := 0) hx hb dX2_layFar_48 (by decide) ?_
  refine lv_istore_n (lv' := [(2, .int 0), (0, .ref (E 0))]) hx hb dX2_layFar_49 rfl hl (by decide) rfl (fun ls hl => ?_)
  obtain ⟨b18, hb18, hf⟩ := ob_bind hf
  obtain ⟨n18, hn18⟩ := lp_some hb18
  have kL50 : ∀ (n : Nat) (w16 : Mm) (v2_17 : Int32), lpF (fun (q18 : Mm × Int32) => M_layFar_b50 q18.1 q18.2) n (w16, v2_17) = some b18 → (∀ (H : Heap) (locs : List Loc) (ls : Array Slot), va_P D clM (wl shM 19 dA E b18) H → va_S (AE 19 E) s.heap H locs → lv_has ls 5 [] → W p l e rmX2_layFar s m args below meth c H locs 0 0 Q (F0 m 193 ls [])) → ∀ (H : Heap) (locs : List Loc) (ls : Array Slot), va_P D clM (wl shM 19 dA E w16) H → va_S (AE 19 E) s.heap H locs → lv_has ls 5 [(0, .ref (E 0)), (2, .int v2_17)] → W p l e rmX2_layFar s m args below meth c H locs 0 0 Q (F0 m 50 ls []) := by
    intro n
    induction n with
    | zero =>
      intro w16 v2_17 h
      cases h
    | succ n ih =>
      intro w16 v2_17 h K18_0 H locs ls hP hS hl
      obtain ⟨r18, hf, h18a, h18b⟩ := lpF_step h
      replace hf : M_layFar_b50 w16 v2_17 = some r18 := hf
      unfold M_layFar_b50 at hf
      refine lv_iload_n hx hb dX2_layFar_50 rfl (lv_at hl 1 rfl) ?_
      refine lv_bipush (v := 6) hx hb dX2_layFar_51 (by decide) ?_
      refine lv_icmp_ge (tgt := 193) hx hb dX2_layFar_53 (by decide) (fun c19 => ?_) (fun c19 => ?_)
      · replace hf := ob_t hf c19
        obtain rfl := ob_s hf
        obtain rfl := h18b _ rfl
        exact K18_0 H locs ls hP hS (lv_sub hl [] rfl)
      · replace hf := ob_f hf c19
        refine lv_iconst (v := 0) hx hb dX2_layFar_56 (by decide) ?_
        refine lv_istore_n (lv' := [(3, .int 0), (0, .ref (E 0)), (2, .int v2_17)]) hx hb dX2_layFar_57 rfl hl (by decide) rfl (fun ls hl => ?_)
        obtain ⟨b22, hb22, hf⟩ := ob_bind hf
        obtain ⟨n22, hn22⟩ := lp_some hb22
        have kL58 : ∀ (n : Nat) (w20 : Mm) (v3_21 : Int32), lpF (fun (q22 : Mm × Int32) => M_layFar_b58 q22.1 q22.2) n (w20, v3_21) = some b22 → (∀ (H : Heap) (locs : List Loc) (ls : Array Slot), va_P D clM (wl shM 19 dA E b22) H → va_S (AE 19 E) s.heap H locs → lv_has ls 5 [(0, .ref (E 0)), (2, .int v2_17)] → W p l e rmX2_layFar s m args below meth c H locs 0 0 Q (F0 m 187 ls [])) → ∀ (H : Heap) (locs : List Loc) (ls : Array Slot), va_P D clM (wl shM 19 dA E w20) H → va_S (AE 19 E) s.heap H locs → lv_has ls 5 [(0, .ref (E 0)), (2, .int v2_17), (3, .int v3_21)] → W p l e rmX2_layFar s m args below meth c H locs 0 0 Q (F0 m 58 ls []) := by
          intro n
          induction n with
          | zero =>
            intro w20 v3_21 h
            cases h
          | succ n ih =>
            intro w20 v3_21 h K22_0 H locs ls hP hS hl
            obtain ⟨r22, hf, h22a, h22b⟩ := lpF_step h
            replace hf : M_layFar_b58 w20 v3_21 = some r22 := hf
            unfold M_layFar_b58 at hf
            refine lv_iload_n hx hb dX2_layFar_58 rfl (lv_at hl 2 rfl) ?_
            refine lv_bipush (v := 6) hx hb dX2_layFar_59 (by decide) ?_
            refine lv_icmp_ge (tgt := 187) hx hb dX2_layFar_61 (by decide) (fun c23 => ?_) (fun c23 => ?_)
            · replace hf := ob_t hf c23
              obtain rfl := ob_s hf
              obtain rfl := h22b _ rfl
              exact K22_0 H locs ls hP hS (lv_sub hl [0, 1] rfl)
            · replace hf := ob_f hf c23
              refine lv_iconst (v := 0) hx hb dX2_layFar_64 (by decide) ?_
              refine lv_istore (lv' := [(4, .int 0), (0, .ref (E 0)), (2, .int v2_17), (3, .int v3_21)]) hx hb dX2_layFar_65 hl (by decide) rfl (fun ls hl => ?_)
              obtain ⟨b26, hb26, hf⟩ := ob_bind hf
              obtain ⟨n26, hn26⟩ := lp_some hb26
              have kL67 : ∀ (n : Nat) (w24 : Mm) (v4_25 : Int32), lpF (fun (q26 : Mm × Int32) => M_layFar_b67 v3_21 q26.1 q26.2) n (w24, v4_25) = some b26 → (∀ (H : Heap) (locs : List Loc) (ls : Array Slot), va_P D clM (wl shM 19 dA E b26) H → va_S (AE 19 E) s.heap H locs → lv_has ls 5 [(0, .ref (E 0)), (2, .int v2_17), (3, .int v3_21)] → W p l e rmX2_layFar s m args below meth c H locs 0 0 Q (F0 m 181 ls [])) → ∀ (H : Heap) (locs : List Loc) (ls : Array Slot), va_P D clM (wl shM 19 dA E w24) H → va_S (AE 19 E) s.heap H locs → lv_has ls 5 [(0, .ref (E 0)), (2, .int v2_17), (3, .int v3_21), (4, .int v4_25)] → W p l e rmX2_layFar s m args below meth c H locs 0 0 Q (F0 m 67 ls []) := by
                intro n
                induction n with
                | zero =>
                  intro w24 v4_25 h
                  cases h
                | succ n ih =>
                  intro w24 v4_25 h K26_0 H locs ls hP hS hl
                  obtain ⟨r26, hf, h26a, h26b⟩ := lpF_step h
                  replace hf : M_layFar_b67 v3_21 w24 v4_25 = some r26 := hf
                  unfold M_layFar_b67 at hf
                  refine lv_iload hx hb dX2_layFar_67 (lv_at hl 3 rfl) ?_
                  refine lv_bipush (v := 6) hx hb dX2_layFar_69 (by decide) ?_
                  refine lv_icmp_ge (tgt := 181) hx hb dX2_layFar_71 (by decide) (fun c27 => ?_) (fun c27 => ?_)
                  · replace hf := ob_t hf c27
                    obtain rfl := ob_s hf
                    obtain rfl := h26b _ rfl
                    exact K26_0 H locs ls hP hS (lv_sub hl [0, 1, 2] rfl)
                  · replace hf := ob_f hf c27
                    refine lv_iload_n hx hb dX2_layFar_74 rfl (lv_at hl 2 rfl) ?_
                    refine lv_iload hx hb dX2_layFar_75 (lv_at hl 3 rfl) ?_
                    have kj175 : ∀ (w28 : Mm) (H : Heap) (locs : List Loc) (ls : Array Slot), M_layFar_j175 v4_25 w28 = some r26 → va_P D clM (wl shM 19 dA E w28) H → va_S (AE 19 E) s.heap H locs → lv_has ls 5 [(0, .ref (E 0)), (2, .int v2_17), (3, .int v3_21), (4, .int v4_25)] → W p l e rmX2_layFar s m args below meth c H locs 0 0 Q (F0 m 175 ls []) := by
                      intro w28 H locs ls hf hP hS hl
                      unfold M_layFar_j175 at hf
                      obtain ⟨v4_29, ev4_29, hf⟩ := ob_bnd hf
                      refine lv_iinc (v := v4_29) (lv' := [(4, .int v4_29), (0, .ref (E 0)), (2, .int v2_17), (3, .int v3_21)]) hx hb dX2_layFar_175 hl (k := 3) rfl (by rw [ev4_29]; rfl) (by decide) rfl (fun ls hl => ?_)
                      refine lv_goto (tgt := 67) hx hb dX2_layFar_178 (by decide) ?_
                      obtain rfl := ob_s hf
                      exact ih _ _ (h26a _ rfl) K26_0 H locs ls hP hS (lv_sub hl [1, 2, 3, 0] rfl)
                    refine lv_icmp_eq (tgt := 175) hx hb dX2_layFar_77 (by decide) (fun c30 => ?_) (fun c30 => ?_)
                    · replace hf := ob_t hf c30
                      exact kj175 w24 H locs ls hf hP hS (lv_sub hl [0, 1, 2, 3] rfl)
                    · replace hf := ob_f hf c30
                      refine lv_aload_n hx hb dX2_layFar_80 rfl (lv_at hl 0 rfl) ?_
                      refine xr_get hx hb hts in_X2 hown hK hP 0 (by decide) rfl rfl 26 (by decide) (hts _ q1431) (fun _ h => h) rfl (v := .ref (E 10)) rfl dX2_layFar_81 ?_
                      refine lv_iload hx hb dX2_layFar_84 (lv_at hl 3 rfl) ?_
                      obtain ⟨h31, hf⟩ := ob_gd hf
                      refine xr_iald hx hb hK hP 10 (by decide) rfl 0 rfl (j := v4_25.toNatClampNeg) h31 rfl dX2_layFar_86 ?_
                      refine lv_ldcw (v := 1000000) hx hb hown (hts _ q1970) dX2_layFar_87 ?_
                      refine lv_icmp_eq (tgt := 175) hx hb dX2_layFar_90 (by decide) (fun c32 => ?_) (fun c32 => ?_)
                      · replace hf := ob_t hf c32
                        exact kj175 w24 H locs ls hf hP hS (lv_sub hl [0, 1, 2, 3] rfl)
                      · replace hf := ob_f hf c32
                        refine lv_aload_n hx hb dX2_layFar_93 rfl (lv_at hl 0 rfl) ?_
                        refine lv_iload_n hx hb dX2_layFar_94 rfl (lv_at hl 2 rfl) ?_
                        refine lv_iload hx hb dX2_layFar_95 (lv_at hl 3 rfl) ?_
                        obtain ⟨q34, g33, hf⟩ := ob_bind hf
                        refine xc_i (xw_run (As := [.int v3_21, .int v4_25]) (rest := []) ⟨hx, hb, hml, hown, hts⟩ (k0 := 0) (wkX2_costOf l D dA E hE w24 v3_21 v4_25 g33) (cwV 2 hts (lw_V q1958 q1960 qs123 q140 q1961) rfl rfl rfl cdX2_costOf ⟨Nat.le_of_ble_eq_true rfl, Nat.le_of_ble_eq_true rfl⟩) hK hP (by decide) rfl rfl rfl hl.1 rfl rfl (Nat.le_of_ble_eq_true rfl) dX2_layFar_97 ⟨Nat.zero_le _, Nat.zero_le _⟩) hS hD.2 (fun H locs hP hS => ?_)
                        refine lv_iconst (v := (-1)) hx hb dX2_layFar_100 (by decide) ?_
                        refine lv_icmp_eq (tgt := 175) hx hb dX2_layFar_101 (by decide) (fun c35 => ?_) (fun c35 => ?_)
                        · replace hf := ob_t hf c35
                          exact kj175 q34.2 H locs ls hf hP hS (lv_sub hl [0, 1, 2, 3] rfl)
                        · replace hf := ob_f hf c35
                          refine lv_aload_n hx hb dX2_layFar_104 rfl (lv_at hl 0 rfl) ?_
                          refine lv_iload_n hx hb dX2_layFar_105 rfl (lv_at hl 2 rfl) ?_
                          refine lv_aload_n hx hb dX2_layFar_106 rfl (lv_at hl 0 rfl) ?_
                          refine xr_get hx hb hts in_X2 hown hK hP 0 (by decide) rfl rfl 26 (by decide) (hts _ q1431) (fun _ h => h) rfl (v := .ref (E 10)) rfl dX2_layFar_107 ?_
                          refine lv_iload hx hb dX2_layFar_110 (lv_at hl 3 rfl) ?_
                          obtain ⟨h36, hf⟩ := ob_gd hf
                          refine xr_iald hx hb hK hP 10 (by decide) rfl 0 rfl (j := v4_25.toNatClampNeg) h36 rfl dX2_layFar_112 ?_
                          refine lv_aload_n hx hb dX2_layFar_113 rfl (lv_at hl 0 rfl) ?_
                          refine lv_iload_n hx hb dX2_layFar_114 rfl (lv_at hl 2 rfl) ?_
                          refine lv_iload hx hb dX2_layFar_115 (lv_at hl 3 rfl) ?_
                          obtain ⟨q38, g37, hf⟩ := ob_bind hf
                          refine xc_i (xw_run (As := [.int v3_21, .int v4_25]) (rest := [.int (q34.2.1 10 v4_25.toNatClampNeg), .int v3_21, .ref (E 0)]) ⟨hx, hb, hml, hown, hts⟩ (k0 := 0) (wkX2_costOf l D dA E hE q34.2 v3_21 v4_25 g37) (cwV 2 hts (lw_V q1958 q1960 qs123 q140 q1961) rfl rfl rfl cdX2_costOf ⟨Nat.le_of_ble_eq_true rfl, Nat.le_of_ble_eq_true rfl⟩) hK hP (by decide) rfl rfl rfl hl.1 rfl rfl (Nat.le_of_ble_eq_true rfl) dX2_layFar_117 ⟨Nat.zero_le _, Nat.zero_le _⟩) hS hD.2 (fun H locs hP hS => ?_)
                          refine lv_iadd hx hb dX2_layFar_120 ?_
                          refine lv_aload_n hx hb dX2_layFar_121 rfl (lv_at hl 0 rfl) ?_
                          refine xr_get hx hb hts in_X2 hown hK hP 0 (by decide) rfl rfl 27 (by decide) (hts _ q1432) (fun _ h => h) rfl (v := .ref (E 11)) rfl dX2_layFar_122 ?_
                          refine lv_iload hx hb dX2_layFar_125 (lv_at hl 3 rfl) ?_
                          obtain ⟨h39, hf⟩ := ob_gd hf
                          refine xr_iald hx hb hK hP 11 (by decide) rfl 0 rfl (j := v4_25.toNatClampNeg) h39 rfl dX2_layFar_127 ?_
                          refine lv_iconst (v := 1) hx hb dX2_layFar_128 (by decide) ?_
                          refine lv_iadd hx hb dX2_layFar_129 ?_
                          obtain ⟨q41, g40, hf⟩ := ob_bind hf
                          refine xc_z (xw_run (As := [.int v3_21, .int ((q34.2.1 10 v4_25.toNatClampNeg) + q38.1), .int ((q38.2.1 11 v4_25.toNatClampNeg) + 1)]) (rest := []) ⟨hx, hb, hml, hown, hts⟩ (k0 := 0) (wkX2_isNearer l D dA E hE q38.2 v3_21 ((q34.2.1 10 v4_25.toNatClampNeg) + q38.1) ((q38.2.1 11 v4_25.toNatClampNeg) + 1) g40) (cwV 3 hts (lw_V q1971 q1973 qs125 q140 q1974) rfl rfl rfl cdX2_isNearer ⟨Nat.le_of_ble_eq_true rfl, Nat.le_of_ble_eq_true rfl⟩) hK hP (by decide) rfl rfl rfl hl.1 rfl rfl (Nat.le_of_ble_eq_true rfl) dX2_layFar_130 ⟨Nat.zero_le _, Nat.zero_le _⟩) hS hD.2 (fun H locs zq41 hP hS => ?_)
                          refine lv_if_ne (tgt := 139) hx hb dX2_layFar_133 (by decide) (fun c42 => ?_) (fun c42 => ?_)
                          · replace hf := ob_f hf c42
                            refine lv_aload_n hx hb dX2_layFar_139 rfl (lv_at hl 0 rfl) ?_
                            refine xr_get hx hb hts in_X2 hown hK hP 0 (by decide) rfl rfl 26 (by decide) (hts _ q1431) (fun _ h => h) rfl (v := .ref (E 10)) rfl dX2_layFar_140 ?_
                            refine lv_iload_n hx hb dX2_layFar_143 rfl (lv_at hl 2 rfl) ?_
                            refine lv_aload_n hx hb dX2_layFar_144 rfl (lv_at hl 0 rfl) ?_
                            refine xr_get hx hb hts in_X2 hown hK hP 0 (by decide) rfl rfl 26 (by decide) (hts _ q1431) (fun _ h => h) rfl (v := .ref (E 10)) rfl dX2_layFar_145 ?_
                            refine lv_iload hx hb dX2_layFar_148 (lv_at hl 3 rfl) ?_
                            obtain ⟨h43, hf⟩ := ob_gd hf
                            refine xr_iald hx hb hK hP 10 (by decide) rfl 0 rfl (j := v4_25.toNatClampNeg) h43 rfl dX2_layFar_150 ?_
                            refine lv_aload_n hx hb dX2_layFar_151 rfl (lv_at hl 0 rfl) ?_
                            refine lv_iload_n hx hb dX2_layFar_152 rfl (lv_at hl 2 rfl) ?_
                            refine lv_iload hx hb dX2_layFar_153 (lv_at hl 3 rfl) ?_
                            obtain ⟨q45, g44, hf⟩ := ob_bind hf
                            refine xc_i (xw_run (As := [.int v3_21, .int v4_25]) (rest := [.int (q38.2.1 10 v4_25.toNatClampNeg), .int v3_21, .ref (E 10)]) ⟨hx, hb, hml, hown, hts⟩ (k0 := 0) (wkX2_costOf l D dA E hE q38.2 v3_21 v4_25 g44) (cwV 2 hts (lw_V q1958 q1960 qs123 q140 q1961) rfl rfl rfl cdX2_costOf ⟨Nat.le_of_ble_eq_true rfl, Nat.le_of_ble_eq_true rfl⟩) hK hP (by decide) rfl rfl rfl hl.1 rfl rfl (Nat.le_of_ble_eq_true rfl) dX2_layFar_155 ⟨Nat.zero_le _, Nat.zero_le _⟩) hS hD.2 (fun H locs hP hS => ?_)
                            refine lv_iadd hx hb dX2_layFar_158 ?_
                            obtain ⟨h46, hf⟩ := ob_gd hf
                            obtain ⟨w47, ew47, hf⟩ := ob_bnd hf
                            refine xr_iast hx hb hK hP hD hS 10 (by decide) rfl 0 rfl (j := v3_21.toNatClampNeg) (w' := w47) h46 rfl ew47 dX2_layFar_159 (fun H locs hP hS => ?_)
                            refine lv_aload_n hx hb dX2_layFar_160 rfl (lv_at hl 0 rfl) ?_
                            refine xr_get hx hb hts in_X2 hown hK hP 0 (by decide) rfl rfl 27 (by decide) (hts _ q1432) (fun _ h => h) rfl (v := .ref (E 11)) rfl dX2_layFar_161 ?_
                            refine lv_iload_n hx hb dX2_layFar_164 rfl (lv_at hl 2 rfl) ?_
                            refine lv_aload_n hx hb dX2_layFar_165 rfl (lv_at hl 0 rfl) ?_
                            refine xr_get hx hb hts in_X2 hown hK hP 0 (by decide) rfl rfl 27 (by decide) (hts _ q1432) (fun _ h => h) rfl (v := .ref (E 11)) rfl dX2_layFar_166 ?_
                            refine lv_iload hx hb dX2_layFar_169 (lv_at hl 3 rfl) ?_
                            obtain ⟨h48, hf⟩ := ob_gd hf
                            refine xr_iald hx hb hK hP 11 (by decide) rfl 0 rfl (j := v4_25.toNatClampNeg) h48 rfl dX2_layFar_171 ?_
                            refine lv_iconst (v := 1) hx hb dX2_layFar_172 (by decide) ?_
                            refine lv_iadd hx hb dX2_layFar_173 ?_
                            obtain ⟨h49, hf⟩ := ob_gd hf
                            obtain ⟨w50, ew50, hf⟩ := ob_bnd hf
                            refine xr_iast hx hb hK hP hD hS 11 (by decide) rfl 0 rfl (j := v3_21.toNatClampNeg) (w' := w50) h49 rfl ew50 dX2_layFar_174 (fun H locs hP hS => ?_)
                            exact kj175 w50 H locs ls hf hP hS (lv_sub hl [0, 1, 2, 3] rfl)
                          · replace hf := ob_t hf c42
                            refine lv_goto (tgt := 175) hx hb dX2_layFar_136 (by decide) ?_
                            exact kj175 q38.2 H locs ls hf hP hS (lv_sub hl [0, 1, 2, 3] rfl)
              refine kL67 n26 w20 0 hn26 (fun H locs ls hP hS hl => ?_) H locs ls hP hS (lv_sub hl [1, 2, 3, 0] rfl)
              replace hf : M_layFar_x67_181 v3_21 b26 = some r22 := hf
              unfold M_layFar_x67_181 at hf
              obtain ⟨v3_51, ev3_51, hf⟩ := ob_bnd hf
              refine lv_iinc (v := v3_51) (lv' := [(3, .int v3_51), (0, .ref (E 0)), (2, .int v2_17)]) hx hb dX2_layFar_181 hl (k := 2) rfl (by rw [ev3_51]; rfl) (by decide) rfl (fun ls hl => ?_)
              refine lv_goto (tgt := 58) hx hb dX2_layFar_184 (by decide) ?_
              obtain rfl := ob_s hf
              exact ih _ _ (h22a _ rfl) K22_0 H locs ls hP hS (lv_sub hl [1, 2, 0] rfl)
        refine kL58 n22 w16 0 hn22 (fun H locs ls hP hS hl => ?_) H locs ls hP hS (lv_sub hl [1, 2, 0] rfl)
        replace hf : M_layFar_x58_187 v2_17 b22 = some r18 := hf
        unfold M_layFar_x58_187 at hf
        obtain ⟨v2_52, ev2_52, hf⟩ := ob_bnd hf
        refine lv_iinc (v := v2_52) (lv' := [(2, .int v2_52), (0, .ref (E 0))]) hx hb dX2_layFar_187 hl (k := 1) rfl (by rw [ev2_52]; rfl) (by decide) rfl (fun ls hl => ?_)
        refine lv_goto (tgt := 50) hx hb dX2_layFar_190 (by decide) ?_
        obtain rfl := ob_s hf
        exact ih _ _ (h18a _ rfl) K18_0 H locs ls hP hS (lv_sub hl [1, 0] rfl)
  refine kL50 n18 b3 0 hn18 (fun H locs ls hP hS hl => ?_) H locs ls hP hS (lv_sub hl [1, 0] rfl)
  replace hf : M_layFar_x50_193 b18 = some res := hf
  unfold M_layFar_x50_193 at hf
  obtain rfl := ob_s hf
  subst hQ
  exact xe_v hx hb hr hlocks hP hS dX2_layFar_193
abbrev rmX2_word : Room := { frames := 8, cells := 0, slots := 0, locals := 194 }
theorem cdX2_word : yX2_word.cls = RX2 ∧ yX2_word.cls ≠ "java/lang/invoke/MethodHandle" ∧ yX2_word.cls ≠ "java/lang/invoke/VarHandle" ∧ (parseMethodDescriptor yX2_word.desc).map (fun d => d.parameters.length) = some 2 := by decide +kernel
set_option maxHeartbeats 4000000 in
set_option maxRecDepth 100000 in
theorem wkX2_word (l : Launch) (D : va_G) (dA : Nat → ClassId) (E : Nat → Nat) (hE : wInj 19 E) (w : Mm) (a1 : Int32) (a2 : Int32) {res : Int32 × Mm} (hf : M_word w a1 a2 = some res) : Met l yX2_word (ws_ yX2_word cX2_word 3 (some .int)) rmX2_word (Pw D clM (tyM dA) shM 19 dA E [.ref (E 0), .int a1, .int a2] w) (Qwi D clM shM 19 dA E res.1 res.2) 0 0 (AE 19 E) := by
  refine xm_head (own := RX2) (by decide) rfl (Nat.le_of_ble_eq_true rfl) ?_
  intro p e s m args below meth c ls Q hQ C hP hl
  obtain ⟨hx, hb, hr, hlocks, hml, hown, hts, hK⟩ := C
  replace hl : lv_has ls 3 [(0, .ref (E 0)), (1, .int a1), (2, .int a2)] := hl
  have hS : va_S (AE 19 E) s.heap s.heap [] := va_S.rf
  have hD : wD 19 E (AE 19 E) := wD.self hE
  unfold M_word at hf
  obtain ⟨H, eH⟩ : ∃ H, H = s.heap := ⟨_, rfl⟩
  obtain ⟨locs, eL⟩ : ∃ locs : List Loc, locs = [] := ⟨_, rfl⟩
  rw [← eL] at hS ⊢
  rw [← eH] at hP
  have hS : va_S (AE 19 E) s.heap H locs := by rw [eH]; exact hS
  show W p l e rmX2_word s m args below meth c s.heap locs 0 0 Q (F0 m 0 ls [])
  rw [← eH]
  refine lv_iload_n hx hb dX2_word_0 rfl (lv_at hl 1 rfl) ?_
  obtain ⟨q2, g1, hf⟩ := ob_bind hf
  refine xc_z (xw_runS (As := [.int a1]) (rest := []) ⟨hx, hb, hml, hown, hts⟩ (wkX2_isPerson l D dA E hE w a1 g1) (va_cwS 1 hts (lw_S q1535 q1536 q140 q1537) rfl rfl rfl cdX2_isPerson.2 ⟨Nat.le_of_ble_eq_true rfl, Nat.le_of_ble_eq_true rfl⟩) hK hP hl.1 rfl rfl (Nat.le_of_ble_eq_true rfl) dX2_word_1 ⟨Nat.zero_le _, Nat.zero_le _⟩) hS hD.2 (fun H locs zq2 hP hS => ?_)
  refine lv_if_eq (tgt := 14) hx hb dX2_word_4 (by decide) (fun c3 => ?_) (fun c3 => ?_)
  · replace hf := ob_t hf c3
    refine lv_iconst (v := (-1)) hx hb dX2_word_14 (by decide) ?_
    obtain rfl := ob_s hf
    subst hQ
    exact xe_i hx hb hr hlocks hP hS dX2_word_15
  · replace hf := ob_f hf c3
    refine lv_iload_n hx hb dX2_word_7 rfl (lv_at hl 2 rfl) ?_
    obtain ⟨q5, g4, hf⟩ := ob_bind hf
    refine xc_z (xw_runS (As := [.int a2]) (rest := []) ⟨hx, hb, hml, hown, hts⟩ (wkX2_isPerson l D dA E hE w a2 g4) (va_cwS 1 hts (lw_S q1535 q1536 q140 q1537) rfl rfl rfl cdX2_isPerson.2 ⟨Nat.le_of_ble_eq_true rfl, Nat.le_of_ble_eq_true rfl⟩) hK hP hl.1 rfl rfl (Nat.le_of_ble_eq_true rfl) dX2_word_8 ⟨Nat.zero_le _, Nat.zero_le _⟩) hS hD.2 (fun H locs zq5 hP hS => ?_)
    refine lv_if_ne (tgt := 16) hx hb dX2_word_11 (by decide) (fun c6 => ?_) (fun c6 => ?_)
    · replace hf := ob_f hf c6
      refine lv_aload_n hx hb dX2_word_16 rfl (lv_at hl 0 rfl) ?_
      refine lv_iload_n hx hb dX2_word_17 rfl (lv_at hl 2 rfl) ?_
      obtain ⟨q8, g7, hf⟩ := ob_bind hf
      refine xc_v (xw_run (As := [.int a2]) (rest := []) ⟨hx, hb, hml, hown, hts⟩ (k0 := 0) (wkX2_layFar l D dA E hE w a2 g7) (cwV 1 hts (lw_V q1966 q1968 qs124 q140 q1969) rfl rfl rfl cdX2_layFar ⟨Nat.le_of_ble_eq_true rfl, Nat.le_of_ble_eq_true rfl⟩) hK hP (by decide) rfl rfl rfl hl.1 rfl rfl (Nat.le_of_ble_eq_true rfl) dX2_word_18 ⟨Nat.zero_le _, Nat.zero_le _⟩) hS hD.2 (fun H locs hP hS => ?_)
      refine lv_aload_n hx hb dX2_word_21 rfl (lv_at hl 0 rfl) ?_
      refine xr_get hx hb hts in_X2 hown hK hP 0 (by decide) rfl rfl 26 (by decide) (hts _ q1431) (fun _ h => h) rfl (v := .ref (E 10)) rfl dX2_word_22 ?_
      refine lv_iload_n hx hb dX2_word_25 rfl (lv_at hl 1 rfl) ?_
      obtain ⟨h9, hf⟩ := ob_gd hf
      refine xr_iald hx hb hK hP 10 (by decide) rfl 0 rfl (j := a1.toNatClampNeg) h9 rfl dX2_word_26 ?_
      refine lv_ldcw (v := 1000000) hx hb hown (hts _ q1970) dX2_word_27 ?_
      refine lv_icmp_ne (tgt := 37) hx hb dX2_word_30 (by decide) (fun c10 => ?_) (fun c10 => ?_)
      · replace hf := ob_f hf c10
        refine lv_aload_n hx hb dX2_word_37 rfl (lv_at hl 0 rfl) ?_
        refine xr_get hx hb hts in_X2 hown hK hP 0 (by decide) rfl rfl 26 (by decide) (hts _ q1431) (fun _ h => h) rfl (v := .ref (E 10)) rfl dX2_word_38 ?_
        refine lv_iload_n hx hb dX2_word_41 rfl (lv_at hl 1 rfl) ?_
        obtain ⟨h11, hf⟩ := ob_gd hf
        refine xr_iald hx hb hK hP 10 (by decide) rfl 0 rfl (j := a1.toNatClampNeg) h11 rfl dX2_word_42 ?_
        obtain rfl := ob_s hf
        subst hQ
        exact xe_i hx hb hr hlocks hP hS dX2_word_43
      · replace hf := ob_t hf c10
        refine lv_iconst (v := (-1)) hx hb dX2_word_33 (by decide) ?_
        refine lv_goto (tgt := 43) hx hb dX2_word_34 (by decide) ?_
        obtain rfl := ob_s hf
        subst hQ
        exact xe_i hx hb hr hlocks hP hS dX2_word_43
    · replace hf := ob_t hf c6
      refine lv_iconst (v := (-1)) hx hb dX2_word_14 (by decide) ?_
      obtain rfl := ob_s hf
      subst hQ
      exact xe_i hx hb hr hlocks hP hS dX2_word_15
abbrev rmX2_nextOf : Room := { frames := 7, cells := 0, slots := 0, locals := 170 }
theorem cdX2_nextOf : yX2_nextOf.cls = RX2 ∧ yX2_nextOf.cls ≠ "java/lang/invoke/MethodHandle" ∧ yX2_nextOf.cls ≠ "java/lang/invoke/VarHandle" ∧ (parseMethodDescriptor yX2_nextOf.desc).map (fun d => d.parameters.length) = some 1 := by decide +kernel
set_option maxHeartbeats 4000000 in
set_option maxRecDepth 100000 in
theorem wkX2_nextOf (l : Launch) (D : va_G) (dA : Nat → ClassId) (E : Nat → Nat) (hE : wInj 19 E) (w : Mm) (a1 : Int32) {res : Int32 × Mm} (hf : M_nextOf w a1 = some res) : Met l yX2_nextOf (ws_ yX2_nextOf cX2_nextOf 3 (some .int)) rmX2_nextOf (Pw D clM (tyM dA) shM 19 dA E [.ref (E 0), .int a1] w) (Qwi D clM shM 19 dA E res.1 res.2) 0 0 (AE 19 E) := by
  refine xm_head (own := RX2) (by decide) rfl (Nat.le_of_ble_eq_true rfl) ?_
  intro p e s m args below meth c ls Q hQ C hP hl
  obtain ⟨hx, hb, hr, hlocks, hml, hown, hts, hK⟩ := C
  replace hl : lv_has ls 3 [(0, .ref (E 0)), (1, .int a1)] := hl
  have hS : va_S (AE 19 E) s.heap s.heap [] := va_S.rf
  have hD : wD 19 E (AE 19 E) := wD.self hE
  unfold M_nextOf at hf
  obtain ⟨H, eH⟩ : ∃ H, H = s.heap := ⟨_, rfl⟩
  obtain ⟨locs, eL⟩ : ∃ locs : List Loc, locs = [] := ⟨_, rfl⟩
  rw [← eL] at hS ⊢
  rw [← eH] at hP
  have hS : va_S (AE 19 E) s.heap H locs := by rw [eH]; exact hS
  show W p l e rmX2_nextOf s m args below meth c s.heap locs 0 0 Q (F0 m 0 ls [])
  rw [← eH]
  refine lv_iconst (v := 0) hx hb dX2_nextOf_0 (by decide) ?_
  refine lv_istore_n (lv' := [(2, .int 0), (0, .ref (E 0)), (1, .int a1)]) hx hb dX2_nextOf_1 rfl hl (by decide) rfl (fun ls hl => ?_)
  obtain ⟨b3, hb3, hf⟩ := ob_bind hf
  obtain ⟨n3, hn3⟩ := lp_some hb3
  have kL2 : ∀ (n : Nat) (w1 : Mm) (v2_2 : Int32), lpF (fun (q3 : Mm × Int32) => M_nextOf_b2 a1 q3.1 q3.2) n (w1, v2_2) = some b3 → (∀ (H : Heap) (locs : List Loc) (ls : Array Slot), va_P D clM (wl shM 19 dA E b3.1) H → va_S (AE 19 E) s.heap H locs → lv_has ls 3 [(2, .int b3.2)] → W p l e rmX2_nextOf s m args below meth c H locs 0 0 Q (F0 m 74 ls [])) → ∀ (H : Heap) (locs : List Loc) (ls : Array Slot), va_P D clM (wl shM 19 dA E w1) H → va_S (AE 19 E) s.heap H locs → lv_has ls 3 [(0, .ref (E 0)), (1, .int a1), (2, .int v2_2)] → W p l e rmX2_nextOf s m args below meth c H locs 0 0 Q (F0 m 2 ls []) := by
    intro n
    induction n with
    | zero =>
      intro w1 v2_2 h
      cases h
    | succ n ih =>
      intro w1 v2_2 h K3_0 H locs ls hP hS hl
      obtain ⟨r3, hf, h3a, h3b⟩ := lpF_step h
      replace hf : M_nextOf_b2 a1 w1 v2_2 = some r3 := hf
      unfold M_nextOf_b2 at hf
      refine lv_iload_n hx hb dX2_nextOf_2 rfl (lv_at hl 2 rfl) ?_
      refine lv_iload_n hx hb dX2_nextOf_3 rfl (lv_at hl 1 rfl) ?_
      have kj68 : ∀ (w4 : Mm) (H : Heap) (locs : List Loc) (ls : Array Slot), M_nextOf_j68 v2_2 w4 = some r3 → va_P D clM (wl shM 19 dA E w4) H → va_S (AE 19 E) s.heap H locs → lv_has ls 3 [(0, .ref (E 0)), (1, .int a1), (2, .int v2_2)] → W p l e rmX2_nextOf s m args below meth c H locs 0 0 Q (F0 m 68 ls []) := by
        intro w4 H locs ls hf hP hS hl
        unfold M_nextOf_j68 at hf
        obtain ⟨v2_5, ev2_5, hf⟩ := ob_bnd hf
        refine lv_iinc (v := v2_5) (lv' := [(2, .int v2_5), (0, .ref (E 0)), (1, .int a1)]) hx hb dX2_nextOf_68 hl (k := 2) rfl (by rw [ev2_5]; rfl) (by decide) rfl (fun ls hl => ?_)
        refine lv_goto (tgt := 2) hx hb dX2_nextOf_71 (by decide) ?_
        obtain rfl := ob_s hf
        exact ih _ _ (h3a _ rfl) K3_0 H locs ls hP hS (lv_sub hl [1, 2, 0] rfl)
      refine lv_icmp_eq (tgt := 68) hx hb dX2_nextOf_4 (by decide) (fun c6 => ?_) (fun c6 => ?_)
      · replace hf := ob_t hf c6
        exact kj68 w1 H locs ls hf hP hS (lv_sub hl [0, 1, 2] rfl)
      · replace hf := ob_f hf c6
        refine lv_aload_n hx hb dX2_nextOf_7 rfl (lv_at hl 0 rfl) ?_
        refine xr_get hx hb hts in_X2 hown hK hP 0 (by decide) rfl rfl 26 (by decide) (hts _ q1431) (fun _ h => h) rfl (v := .ref (E 10)) rfl dX2_nextOf_8 ?_
        refine lv_iload_n hx hb dX2_nextOf_11 rfl (lv_at hl 2 rfl) ?_
        obtain ⟨h7, hf⟩ := ob_gd hf
        refine xr_iald hx hb hK hP 10 (by decide) rfl 0 rfl (j := v2_2.toNatClampNeg) h7 rfl dX2_nextOf_12 ?_
        refine lv_ldcw (v := 1000000) hx hb hown (hts _ q1970) dX2_nextOf_13 ?_
        refine lv_icmp_eq (tgt := 68) hx hb dX2_nextOf_16 (by decide) (fun c8 => ?_) (fun c8 => ?_)
        · replace hf := ob_t hf c8
          exact kj68 w1 H locs ls hf hP hS (lv_sub hl [0, 1, 2] rfl)
        · replace hf := ob_f hf c8
          refine lv_aload_n hx hb dX2_nextOf_19 rfl (lv_at hl 0 rfl) ?_
          refine lv_iload_n hx hb dX2_nextOf_20 rfl (lv_at hl 1 rfl) ?_
          refine lv_iload_n hx hb dX2_nextOf_21 rfl (lv_at hl 2 rfl) ?_
          obtain ⟨q10, g9, hf⟩ := ob_bind hf
          refine xc_i (xw_run (As := [.int a1, .int v2_2]) (rest := []) ⟨hx, hb, hml, hown, hts⟩ (k0 := 0) (wkX2_costOf l D dA E hE w1 a1 v2_2 g9) (cwV 2 hts (lw_V q1958 q1960 qs123 q140 q1961) rfl rfl rfl cdX2_costOf ⟨Nat.le_of_ble_eq_true rfl, Nat.le_of_ble_eq_true rfl⟩) hK hP (by decide) rfl rfl rfl hl.1 rfl rfl (Nat.le_of_ble_eq_true rfl) dX2_nextOf_22 ⟨Nat.zero_le _, Nat.zero_le _⟩) hS hD.2 (fun H locs hP hS => ?_)
          refine lv_iconst (v := (-1)) hx hb dX2_nextOf_25 (by decide) ?_
          refine lv_icmp_eq (tgt := 68) hx hb dX2_nextOf_26 (by decide) (fun c11 => ?_) (fun c11 => ?_)
          · replace hf := ob_t hf c11
            exact kj68 q10.2 H locs ls hf hP hS (lv_sub hl [0, 1, 2] rfl)
          · replace hf := ob_f hf c11
            refine lv_aload_n hx hb dX2_nextOf_29 rfl (lv_at hl 0 rfl) ?_
            refine xr_get hx hb hts in_X2 hown hK hP 0 (by decide) rfl rfl 26 (by decide) (hts _ q1431) (fun _ h => h) rfl (v := .ref (E 10)) rfl dX2_nextOf_30 ?_
            refine lv_iload_n hx hb dX2_nextOf_33 rfl (lv_at hl 2 rfl) ?_
            obtain ⟨h12, hf⟩ := ob_gd hf
            refine xr_iald hx hb hK hP 10 (by decide) rfl 0 rfl (j := v2_2.toNatClampNeg) h12 rfl dX2_nextOf_34 ?_
            refine lv_aload_n hx hb dX2_nextOf_35 rfl (lv_at hl 0 rfl) ?_
            refine lv_iload_n hx hb dX2_nextOf_36 rfl (lv_at hl 1 rfl) ?_
            refine lv_iload_n hx hb dX2_nextOf_37 rfl (lv_at hl 2 rfl) ?_
            obtain ⟨q14, g13, hf⟩ := ob_bind hf
            refine xc_i (xw_run (As := [.int a1, .int v2_2]) (rest := [.int (q10.2.1 10 v2_2.toNatClampNeg)]) ⟨hx, hb, hml, hown, hts⟩ (k0 := 0) (wkX2_costOf l D dA E hE q10.2 a1 v2_2 g13) (cwV 2 hts (lw_V q1958 q1960 qs123 q140 q1961) rfl rfl rfl cdX2_costOf ⟨Nat.le_of_ble_eq_true rfl, Nat.le_of_ble_eq_true rfl⟩) hK hP (by decide) rfl rfl rfl hl.1 rfl rfl (Nat.le_of_ble_eq_true rfl) dX2_nextOf_38 ⟨Nat.zero_le _, Nat.zero_le _⟩) hS hD.2 (fun H locs hP hS => ?_)
            refine lv_iadd hx hb dX2_nextOf_41 ?_
            refine lv_aload_n hx hb dX2_nextOf_42 rfl (lv_at hl 0 rfl) ?_
            refine xr_get hx hb hts in_X2 hown hK hP 0 (by decide) rfl rfl 26 (by decide) (hts _ q1431) (fun _ h => h) rfl (v := .ref (E 10)) rfl dX2_nextOf_43 ?_
            refine lv_iload_n hx hb dX2_nextOf_46 rfl (lv_at hl 1 rfl) ?_
            obtain ⟨h15, hf⟩ := ob_gd hf
            refine xr_iald hx hb hK hP 10 (by decide) rfl 0 rfl (j := a1.toNatClampNeg) h15 rfl dX2_nextOf_47 ?_
            refine lv_icmp_ne (tgt := 68) hx hb dX2_nextOf_48 (by decide) (fun c16 => ?_) (fun c16 => ?_)
            · replace hf := ob_f hf c16
              exact kj68 q14.2 H locs ls hf hP hS (lv_sub hl [0, 1, 2] rfl)
            · replace hf := ob_t hf c16
              refine lv_aload_n hx hb dX2_nextOf_51 rfl (lv_at hl 0 rfl) ?_
              refine xr_get hx hb hts in_X2 hown hK hP 0 (by decide) rfl rfl 27 (by decide) (hts _ q1432) (fun _ h => h) rfl (v := .ref (E 11)) rfl dX2_nextOf_52 ?_
              refine lv_iload_n hx hb dX2_nextOf_55 rfl (lv_at hl 2 rfl) ?_
              obtain ⟨h17, hf⟩ := ob_gd hf
              refine xr_iald hx hb hK hP 11 (by decide) rfl 0 rfl (j := v2_2.toNatClampNeg) h17 rfl dX2_nextOf_56 ?_
              refine lv_iconst (v := 1) hx hb dX2_nextOf_57 (by decide) ?_
              refine lv_iadd hx hb dX2_nextOf_58 ?_
              refine lv_aload_n hx hb dX2_nextOf_59 rfl (lv_at hl 0 rfl) ?_
              refine xr_get hx hb hts in_X2 hown hK hP 0 (by decide) rfl rfl 27 (by decide) (hts _ q1432) (fun _ h => h) rfl (v := .ref (E 11)) rfl dX2_nextOf_60 ?_
              refine lv_iload_n hx hb dX2_nextOf_63 rfl (lv_at hl 1 rfl) ?_
              obtain ⟨h18, hf⟩ := ob_gd hf
              refine xr_iald hx hb hK hP 11 (by decide) rfl 0 rfl (j := a1.toNatClampNeg) h18 rfl dX2_nextOf_64 ?_
              refine lv_icmp_eq (tgt := 74) hx hb dX2_nextOf_65 (by decide) (fun c19 => ?_) (fun c19 => ?_)
              · replace hf := ob_t hf c19
                obtain rfl := ob_s hf
                obtain rfl := h3b _ rfl
                exact K3_0 H locs ls hP hS (lv_sub hl [2] rfl)
              · replace hf := ob_f hf c19
                exact kj68 q14.2 H locs ls hf hP hS (lv_sub hl [0, 1, 2] rfl)
  refine kL2 n3 w 0 hn3 (fun H locs ls hP hS hl => ?_) H locs ls hP hS (lv_sub hl [1, 2, 0] rfl)
  replace hf : M_nextOf_x2_74 b3 = some res := hf
  unfold M_nextOf_x2_74 at hf
  refine lv_iload_n hx hb dX2_nextOf_74 rfl (lv_at hl 0 rfl) ?_
  obtain rfl := ob_s hf
  subst hQ
  exact xe_i hx hb hr hlocks hP hS dX2_nextOf_75
abbrev rmX2_way : Room := { frames := 9, cells := 0, slots := 0, locals := 216 }
theorem cdX2_way : yX2_way.cls = RX2 ∧ yX2_way.cls ≠ "java/lang/invoke/MethodHandle" ∧ yX2_way.cls ≠ "java/lang/invoke/VarHandle" ∧ (parseMethodDescriptor yX2_way.desc).map (fun d => d.parameters.length) = some 3 := by decide +kernel
set_option maxHeartbeats 4000000 in
set_option maxRecDepth 100000 in
theorem wkX2_way (l : Launch) (D : va_G) (dA : Nat → ClassId) (E : Nat → Nat) (hE : wInj 19 E) (w : Mm) (a1 : Int32) (a2 : Int32) (a3 : Int32) {res : Int32 × Mm} (hf : M_way w a1 a2 a3 = some res) : Met l yX2_way (ws_ yX2_way cX2_way 6 (some .int)) rmX2_way (Pw D clM (tyM dA) shM 19 dA E [.ref (E 0), .int a1, .int a2, .int a3] w) (Qwi D clM shM 19 dA E res.1 res.2) 0 0 (AE 19 E) := by
  refine xm_head (own := RX2) (by decide) rfl (Nat.le_of_ble_eq_true rfl) ?_
  intro p e s m args below meth c ls Q hQ C hP hl
  obtain ⟨hx, hb, hr, hlocks, hml, hown, hts, hK⟩ := C
  replace hl : lv_has ls 6 [(0, .ref (E 0)), (1, .int a1), (2, .int a2), (3, .int a3)] := hl
  have hS : va_S (AE 19 E) s.heap s.heap [] := va_S.rf
  have hD : wD 19 E (AE 19 E) := wD.self hE
  unfold M_way at hf
  obtain ⟨H, eH⟩ : ∃ H, H = s.heap := ⟨_, rfl⟩
  obtain ⟨locs, eL⟩ : ∃ locs : List Loc, locs = [] := ⟨_, rfl⟩
  rw [← eL] at hS ⊢
  rw [← eH] at hP
  have hS : va_S (AE 19 E) s.heap H locs := by rw [eH]; exact hS
  show W p l e rmX2_way s m args below meth c s.heap locs 0 0 Q (F0 m 0 ls [])
  rw [← eH]
  refine lv_aload_n hx hb dX2_way_0 rfl (lv_at hl 0 rfl) ?_
  refine lv_iload_n hx hb dX2_way_1 rfl (lv_at hl 1 rfl) ?_
  refine lv_iload_n hx hb dX2_way_2 rfl (lv_at hl 2 rfl) ?_
  obtain ⟨q2, g1, hf⟩ := ob_bind hf
  refine xc_i (xw_run (As := [.int a1, .int a2]) (rest := []) ⟨hx, hb, hml, hown, hts⟩ (k0 := 0) (wkX2_word l D dA E hE w a1 a2 g1) (cwV 2 hts (lw_V q1979 q1963 q1964 q140 q1965) rfl rfl rfl cdX2_word ⟨Nat.le_of_ble_eq_true rfl, Nat.le_of_ble_eq_true rfl⟩) hK hP (by decide) rfl rfl rfl hl.1 rfl rfl (Nat.le_of_ble_eq_true rfl) dX2_way_3 ⟨Nat.zero_le _, Nat.zero_le _⟩) hS hD.2 (fun H locs hP hS => ?_)
  refine lv_iconst (v := (-1)) hx hb dX2_way_6 (by decide) ?_
  refine lv_icmp_ne (tgt := 13) hx hb dX2_way_7 (by decide) (fun c3 => ?_) (fun c3 => ?_)
  · replace hf := ob_f hf c3
    refine lv_iload_n hx hb dX2_way_13 rfl (lv_at hl 3 rfl) ?_
    refine lv_iconst (v := (-1)) hx hb dX2_way_14 (by decide) ?_
    refine lv_icmp_ne (tgt := 25) hx hb dX2_way_15 (by decide) (fun c4 => ?_) (fun c4 => ?_)
    · replace hf := ob_f hf c4
      refine lv_iload_n hx hb dX2_way_25 rfl (lv_at hl 3 rfl) ?_
      refine lv_iconst (v := 0) hx hb dX2_way_26 (by decide) ?_
      refine lv_aload_n hx hb dX2_way_27 rfl (lv_at hl 0 rfl) ?_
      refine xr_get hx hb hts in_X2 hown hK hP 0 (by decide) rfl rfl 27 (by decide) (hts _ q1432) (fun _ h => h) rfl (v := .ref (E 11)) rfl dX2_way_28 ?_
      refine lv_iload_n hx hb dX2_way_31 rfl (lv_at hl 1 rfl) ?_
      obtain ⟨h5, hf⟩ := ob_gd hf
      refine xr_iald hx hb hK hP 11 (by decide) rfl 0 rfl (j := a1.toNatClampNeg) h5 rfl dX2_way_32 ?_
      refine lv_iconst (v := 1) hx hb dX2_way_33 (by decide) ?_
      refine lv_isub hx hb dX2_way_34 ?_
      obtain ⟨q7, g6, hf⟩ := ob_bind hf
      refine xc_z (xw_runS (As := [.int a3, .int 0, .int ((q2.2.1 11 a1.toNatClampNeg) - 1)]) (rest := []) ⟨hx, hb, hml, hown, hts⟩ (wkX2_isIn l D dA E hE q2.2 a3 0 ((q2.2.1 11 a1.toNatClampNeg) - 1) g6) (va_cwS 3 hts (lw_S q1538 q1539 q140 q1540) rfl rfl rfl cdX2_isIn.2 ⟨Nat.le_of_ble_eq_true rfl, Nat.le_of_ble_eq_true rfl⟩) hK hP hl.1 rfl rfl (Nat.le_of_ble_eq_true rfl) dX2_way_35 ⟨Nat.zero_le _, Nat.zero_le _⟩) hS hD.2 (fun H locs zq7 hP hS => ?_)
      refine lv_if_ne (tgt := 44) hx hb dX2_way_38 (by decide) (fun c8 => ?_) (fun c8 => ?_)
      · replace hf := ob_f hf c8
        refine lv_iload_n hx hb dX2_way_44 rfl (lv_at hl 1 rfl) ?_
        refine lv_istore (lv' := [(4, .int a1), (0, .ref (E 0)), (1, .int a1), (2, .int a2), (3, .int a3)]) hx hb dX2_way_45 hl (by decide) rfl (fun ls hl => ?_)
        refine lv_iconst (v := 0) hx hb dX2_way_47 (by decide) ?_
        refine lv_istore (lv' := [(5, .int 0), (4, .int a1), (0, .ref (E 0)), (1, .int a1), (2, .int a2), (3, .int a3)]) hx hb dX2_way_48 hl (by decide) rfl (fun ls hl => ?_)
        obtain ⟨b12, hb12, hf⟩ := ob_bind hf
        obtain ⟨n12, hn12⟩ := lp_some hb12
        have kL50 : ∀ (n : Nat) (w9 : Mm) (v4_10 : Int32) (v5_11 : Int32), lpF (fun (q12 : Mm × Int32 × Int32) => M_way_b50 a3 q12.1 q12.2.1 q12.2.2) n (w9, v4_10, v5_11) = some b12 → (∀ (H : Heap) (locs : List Loc) (ls : Array Slot), va_P D clM (wl shM 19 dA E b12.1) H → va_S (AE 19 E) s.heap H locs → lv_has ls 6 [(4, .int b12.2)] → W p l e rmX2_way s m args below meth c H locs 0 0 Q (F0 m 70 ls [])) → ∀ (H : Heap) (locs : List Loc) (ls : Array Slot), va_P D clM (wl shM 19 dA E w9) H → va_S (AE 19 E) s.heap H locs → lv_has ls 6 [(0, .ref (E 0)), (3, .int a3), (4, .int v4_10), (5, .int v5_11)] → W p l e rmX2_way s m args below meth c H locs 0 0 Q (F0 m 50 ls []) := by
          intro n
          induction n with
          | zero =>
            intro w9 v4_10 v5_11 h
            cases h
          | succ n ih =>
            intro w9 v4_10 v5_11 h K12_0 H locs ls hP hS hl
            obtain ⟨r12, hf, h12a, h12b⟩ := lpF_step h
            replace hf : M_way_b50 a3 w9 v4_10 v5_11 = some r12 := hf
            unfold M_way_b50 at hf
            refine lv_iload hx hb dX2_way_50 (lv_at hl 3 rfl) ?_
            refine lv_iload_n hx hb dX2_way_52 rfl (lv_at hl 1 rfl) ?_
            refine lv_icmp_ge (tgt := 70) hx hb dX2_way_53 (by decide) (fun c13 => ?_) (fun c13 => ?_)
            · replace hf := ob_t hf c13
              obtain rfl := ob_s hf
              obtain rfl := h12b _ rfl
              exact K12_0 H locs ls hP hS (lv_sub hl [2] rfl)
            · replace hf := ob_f hf c13
              refine lv_aload_n hx hb dX2_way_56 rfl (lv_at hl 0 rfl) ?_
              refine lv_iload hx hb dX2_way_57 (lv_at hl 2 rfl) ?_
              obtain ⟨q15, g14, hf⟩ := ob_bind hf
              refine xc_i (xw_run (As := [.int v4_10]) (rest := []) ⟨hx, hb, hml, hown, hts⟩ (k0 := 0) (wkX2_nextOf l D dA E hE w9 v4_10 g14) (cwV 1 hts (lw_V q1980 q1982 qs126 q140 q1983) rfl rfl rfl cdX2_nextOf ⟨Nat.le_of_ble_eq_true rfl, Nat.le_of_ble_eq_true rfl⟩) hK hP (by decide) rfl rfl rfl hl.1 rfl rfl (Nat.le_of_ble_eq_true rfl) dX2_way_59 ⟨Nat.zero_le _, Nat.zero_le _⟩) hS hD.2 (fun H locs hP hS => ?_)
              refine lv_istore (lv' := [(4, .int q15.1), (0, .ref (E 0)), (3, .int a3), (5, .int v5_11)]) hx hb dX2_way_62 hl (by decide) rfl (fun ls hl => ?_)
              obtain ⟨v5_16, ev5_16, hf⟩ := ob_bnd hf
              refine lv_iinc (v := v5_16) (lv' := [(5, .int v5_16), (4, .int q15.1), (0, .ref (E 0)), (3, .int a3)]) hx hb dX2_way_64 hl (k := 3) rfl (by rw [ev5_16]; rfl) (by decide) rfl (fun ls hl => ?_)
              refine lv_goto (tgt := 50) hx hb dX2_way_67 (by decide) ?_
              obtain rfl := ob_s hf
              exact ih _ _ _ (h12a _ rfl) K12_0 H locs ls hP hS (lv_sub hl [2, 3, 1, 0] rfl)
        refine kL50 n12 q2.2 a1 0 hn12 (fun H locs ls hP hS hl => ?_) H locs ls hP hS (lv_sub hl [2, 5, 1, 0] rfl)
        replace hf : M_way_x50_70 b12 = some res := hf
        unfold M_way_x50_70 at hf
        refine lv_iload hx hb dX2_way_70 (lv_at hl 0 rfl) ?_
        obtain rfl := ob_s hf
        subst hQ
        exact xe_i hx hb hr hlocks hP hS dX2_way_72
      · replace hf := ob_t hf c8
        refine lv_bipush (v := (-2)) hx hb dX2_way_41 (by decide) ?_
        obtain rfl := ob_s hf
        subst hQ
        exact xe_i hx hb hr hlocks hP hS dX2_way_43
    · replace hf := ob_t hf c4
      refine lv_aload_n hx hb dX2_way_18 rfl (lv_at hl 0 rfl) ?_
      refine xr_get hx hb hts in_X2 hown hK hP 0 (by decide) rfl rfl 27 (by decide) (hts _ q1432) (fun _ h => h) rfl (v := .ref (E 11)) rfl dX2_way_19 ?_
      refine lv_iload_n hx hb dX2_way_22 rfl (lv_at hl 1 rfl) ?_
      obtain ⟨h17, hf⟩ := ob_gd hf
      refine xr_iald hx hb hK hP 11 (by decide) rfl 0 rfl (j := a1.toNatClampNeg) h17 rfl dX2_way_23 ?_
      obtain rfl := ob_s hf
      subst hQ
      exact xe_i hx hb hr hlocks hP hS dX2_way_24
  · replace hf := ob_t hf c3
    refine lv_bipush (v := (-2)) hx hb dX2_way_10 (by decide) ?_
    obtain rfl := ob_s hf
    subst hQ
    exact xe_i hx hb hr hlocks hP hS dX2_way_12
abbrev rmX2_all : Room := { frames := 7, cells := 0, slots := 0, locals := 170 }
theorem cdX2_all : yX2_all.cls = RX2 ∧ yX2_all.cls ≠ "java/lang/invoke/MethodHandle" ∧ yX2_all.cls ≠ "java/lang/invoke/VarHandle" ∧ (parseMethodDescriptor yX2_all.desc).map (fun d => d.parameters.length) = some 0 := by decide +kernel
set_option maxHeartbeats 4000000 in
set_option maxRecDepth 100000 in
theorem wkX2_all (l : Launch) (D : va_G) (dA : Nat → ClassId) (E : Nat → Nat) (hE : wInj 19 E) (w : Mm)  {res : Int32 × Mm} (hf : M_all w = some res) : Met l yX2_all (ws_ yX2_all cX2_all 8 (some .int)) rmX2_all (Pw D clM (tyM dA) shM 19 dA E [.ref (E 0)] w) (Qwi D clM shM 19 dA E res.1 res.2) 0 0 (AE 19 E) := by
  refine xm_head (own := RX2) (by decide) rfl (Nat.le_of_ble_eq_true rfl) ?_
  intro p e s m args below meth c ls Q hQ C hP hl
  obtain ⟨hx, hb, hr, hlocks, hml, hown, hts, hK⟩ := C
  replace hl : lv_has ls 8 [(0, .ref (E 0))] := hl
  have hS : va_S (AE 19 E) s.heap s.heap [] := va_S.rf
  have hD : wD 19 E (AE 19 E) := wD.self hE
  unfold M_all at hf
  obtain ⟨H, eH⟩ : ∃ H, H = s.heap := ⟨_, rfl⟩
  obtain ⟨locs, eL⟩ : ∃ locs : List Loc, locs = [] := ⟨_, rfl⟩
  rw [← eL] at hS ⊢
  rw [← eH] at hP
  have hS : va_S (AE 19 E) s.heap H locs := by rw [eH]; exact hS
  show W p l e rmX2_all s m args below meth c s.heap locs 0 0 Q (F0 m 0 ls [])
  rw [← eH]
  refine lv_iconst (v := 1) hx hb dX2_all_0 (by decide) ?_
  refine lv_istore_n (lv' := [(1, .int 1), (0, .ref (E 0))]) hx hb dX2_all_1 rfl hl (by decide) rfl (fun ls hl => ?_)
  refine lv_iconst (v := 0) hx hb dX2_all_2 (by decide) ?_
  refine lv_istore_n (lv' := [(2, .int 0), (1, .int 1), (0, .ref (E 0))]) hx hb dX2_all_3 rfl hl (by decide) rfl (fun ls hl => ?_)
  refine lv_iconst (v := 1) hx hb dX2_all_4 (by decide) ?_
  refine lv_istore_n (lv' := [(3, .int 1), (2, .int 0), (1, .int 1), (0, .ref (E 0))]) hx hb dX2_all_5 rfl hl (by decide) rfl (fun ls hl => ?_)
  obtain ⟨b5, hb5, hf⟩ := ob_bind hf
  obtain ⟨n5, hn5⟩ := lp_some hb5
  have kL6 : ∀ (n : Nat) (w1 : Mm) (v1_2 : Int32) (v2_3 : Int32) (v3_4 : Int32), lpF (fun (q5 : Mm × Int32 × Int32 × Int32) => M_all_b6 q5.1 q5.2.1 q5.2.2.1 q5.2.2.2) n (w1, v1_2, v2_3, v3_4) = some b5 → (∀ (x5_0 : Mm), b5 = .inl x5_0 → ∀ (H : Heap) (locs : List Loc) (ls : Array Slot), va_P D clM (wl shM 19 dA E x5_0) H → va_S (AE 19 E) s.heap H locs → lv_has ls 8 [] → W p l e rmX2_all s m args below meth c H locs 0 0 Q (F0 m 120 ls [])) → (∀ (x5_1 : Mm × Int32), b5 = .inr x5_1 → ∀ (H : Heap) (locs : List Loc) (ls : Array Slot), va_P D clM (wl shM 19 dA E x5_1.1) H → va_S (AE 19 E) s.heap H locs → lv_has ls 8 [(2, .int x5_1.2)] → W p l e rmX2_all s m args below meth c H locs 0 0 Q (F0 m 140 ls [])) → ∀ (H : Heap) (locs : List Loc) (ls : Array Slot), va_P D clM (wl shM 19 dA E w1) H → va_S (AE 19 E) s.heap H locs → lv_has ls 8 [(0, .ref (E 0)), (1, .int v1_2), (2, .int v2_3), (3, .int v3_4)] → W p l e rmX2_all s m args below meth c H locs 0 0 Q (F0 m 6 ls []) := by
    intro n
    induction n with
    | zero =>
      intro w1 v1_2 v2_3 v3_4 h
      cases h
    | succ n ih =>
      intro w1 v1_2 v2_3 v3_4 h K5_0 K5_1 H locs ls hP hS hl
      obtain ⟨r5, hf, h5a, h5b⟩ := lpF_step h
      replace hf : M_all_b6 w1 v1_2 v2_3 v3_4 = some r5 := hf
      unfold M_all_b6 at hf
      refine lv_iload_n hx hb dX2_all_6 rfl (lv_at hl 3 rfl) ?_
      refine lv_bipush (v := 6) hx hb dX2_all_7 (by decide) ?_
      refine lv_icmp_ge (tgt := 140) hx hb dX2_all_9 (by decide) (fun c6 => ?_) (fun c6 => ?_)
      · replace hf := ob_t hf c6
        obtain rfl := ob_s hf
        exact K5_1 _ (h5b _ rfl).symm H locs ls hP hS (lv_sub hl [2] rfl)
      · replace hf := ob_f hf c6
        refine lv_ldcw (v := 1000000) hx hb hown (hts _ q1970) dX2_all_12 ?_
        refine lv_istore (lv' := [(4, .int 1000000), (0, .ref (E 0)), (1, .int v1_2), (2, .int v2_3), (3, .int v3_4)]) hx hb dX2_all_15 hl (by decide) rfl (fun ls hl => ?_)
        refine lv_iconst (v := 0) hx hb dX2_all_17 (by decide) ?_
        refine lv_istore (lv' := [(5, .int 0), (4, .int 1000000), (0, .ref (E 0)), (1, .int v1_2), (2, .int v2_3), (3, .int v3_4)]) hx hb dX2_all_18 hl (by decide) rfl (fun ls hl => ?_)
        refine lv_iconst (v := 0) hx hb dX2_all_20 (by decide) ?_
        refine lv_istore (lv' := [(6, .int 0), (5, .int 0), (4, .int 1000000), (0, .ref (E 0)), (1, .int v1_2), (2, .int v2_3), (3, .int v3_4)]) hx hb dX2_all_21 hl (by decide) rfl (fun ls hl => ?_)
        obtain ⟨b11, hb11, hf⟩ := ob_bind hf
        obtain ⟨n11, hn11⟩ := lp_some hb11
        have kL23 : ∀ (n : Nat) (w7 : Mm) (v4_8 : Int32) (v5_9 : Int32) (v6_10 : Int32), lpF (fun (q11 : Mm × Int32 × Int32 × Int32) => M_all_b23 v1_2 q11.1 q11.2.1 q11.2.2.1 q11.2.2.2) n (w7, v4_8, v5_9, v6_10) = some b11 → (∀ (H : Heap) (locs : List Loc) (ls : Array Slot), va_P D clM (wl shM 19 dA E b11.1) H → va_S (AE 19 E) s.heap H locs → lv_has ls 8 [(0, .ref (E 0)), (1, .int v1_2), (2, .int v2_3), (3, .int v3_4), (4, .int b11.2.1), (5, .int b11.2.2)] → W p l e rmX2_all s m args below meth c H locs 0 0 Q (F0 m 112 ls [])) → ∀ (H : Heap) (locs : List Loc) (ls : Array Slot), va_P D clM (wl shM 19 dA E w7) H → va_S (AE 19 E) s.heap H locs → lv_has ls 8 [(0, .ref (E 0)), (1, .int v1_2), (2, .int v2_3), (3, .int v3_4), (4, .int v4_8), (5, .int v5_9), (6, .int v6_10)] → W p l e rmX2_all s m args below meth c H locs 0 0 Q (F0 m 23 ls []) := by
          intro n
          induction n with
          | zero =>
            intro w7 v4_8 v5_9 v6_10 h
            cases h
          | succ n ih =>
            intro w7 v4_8 v5_9 v6_10 h K11_0 H locs ls hP hS hl
            obtain ⟨r11, hf, h11a, h11b⟩ := lpF_step h
            replace hf : M_all_b23 v1_2 w7 v4_8 v5_9 v6_10 = some r11 := hf
            unfold M_all_b23 at hf
            refine lv_iload hx hb dX2_all_23 (lv_at hl 6 rfl) ?_
            refine lv_bipush (v := 6) hx hb dX2_all_25 (by decide) ?_
            refine lv_icmp_ge (tgt := 112) hx hb dX2_all_27 (by decide) (fun c12 => ?_) (fun c12 => ?_)
            · replace hf := ob_t hf c12
              obtain rfl := ob_s hf
              obtain rfl := h11b _ rfl
              exact K11_0 H locs ls hP hS (lv_sub hl [0, 1, 2, 3, 4, 5] rfl)
            · replace hf := ob_f hf c12
              refine lv_iconst (v := 0) hx hb dX2_all_30 (by decide) ?_
              refine lv_istore (lv' := [(7, .int 0), (0, .ref (E 0)), (1, .int v1_2), (2, .int v2_3), (3, .int v3_4), (4, .int v4_8), (5, .int v5_9), (6, .int v6_10)]) hx hb dX2_all_31 hl (by decide) rfl (fun ls hl => ?_)
              obtain ⟨b17, hb17, hf⟩ := ob_bind hf
              obtain ⟨n17, hn17⟩ := lp_some hb17
              have kL33 : ∀ (n : Nat) (w13 : Mm) (v4_14 : Int32) (v5_15 : Int32) (v7_16 : Int32), lpF (fun (q17 : Mm × Int32 × Int32 × Int32) => M_all_b33 v1_2 v6_10 q17.1 q17.2.1 q17.2.2.1 q17.2.2.2) n (w13, v4_14, v5_15, v7_16) = some b17 → (∀ (H : Heap) (locs : List Loc) (ls : Array Slot), va_P D clM (wl shM 19 dA E b17.1) H → va_S (AE 19 E) s.heap H locs → lv_has ls 8 [(0, .ref (E 0)), (1, .int v1_2), (2, .int v2_3), (3, .int v3_4), (4, .int b17.2.1), (5, .int b17.2.2), (6, .int v6_10)] → W p l e rmX2_all s m args below meth c H locs 0 0 Q (F0 m 106 ls [])) → ∀ (H : Heap) (locs : List Loc) (ls : Array Slot), va_P D clM (wl shM 19 dA E w13) H → va_S (AE 19 E) s.heap H locs → lv_has ls 8 [(0, .ref (E 0)), (1, .int v1_2), (2, .int v2_3), (3, .int v3_4), (4, .int v4_14), (5, .int v5_15), (6, .int v6_10), (7, .int v7_16)] → W p l e rmX2_all s m args below meth c H locs 0 0 Q (F0 m 33 ls []) := by
                intro n
                induction n with
                | zero =>
                  intro w13 v4_14 v5_15 v7_16 h
                  cases h
                | succ n ih =>
                  intro w13 v4_14 v5_15 v7_16 h K17_0 H locs ls hP hS hl
                  obtain ⟨r17, hf, h17a, h17b⟩ := lpF_step h
                  replace hf : M_all_b33 v1_2 v6_10 w13 v4_14 v5_15 v7_16 = some r17 := hf
                  unfold M_all_b33 at hf
                  refine lv_iload hx hb dX2_all_33 (lv_at hl 7 rfl) ?_
                  refine lv_bipush (v := 6) hx hb dX2_all_35 (by decide) ?_
                  refine lv_icmp_ge (tgt := 106) hx hb dX2_all_37 (by decide) (fun c18 => ?_) (fun c18 => ?_)
                  · replace hf := ob_t hf c18
                    obtain rfl := ob_s hf
                    obtain rfl := h17b _ rfl
                    exact K17_0 H locs ls hP hS (lv_sub hl [0, 1, 2, 3, 4, 5, 6] rfl)
                  · replace hf := ob_f hf c18
                    refine lv_iload_n hx hb dX2_all_40 rfl (lv_at hl 1 rfl) ?_
                    refine lv_iload hx hb dX2_all_41 (lv_at hl 6 rfl) ?_
                    obtain ⟨q20, g19, hf⟩ := ob_bind hf
                    refine xc_z (xw_runS (As := [.int v1_2, .int v6_10]) (rest := []) ⟨hx, hb, hml, hown, hts⟩ (wkX2_has l D dA E hE w13 v1_2 v6_10 g19) (va_cwS 2 hts (lw_S q1623 q1624 q140 q1625) rfl rfl rfl cdX2_has.2 ⟨Nat.le_of_ble_eq_true rfl, Nat.le_of_ble_eq_true rfl⟩) hK hP hl.1 rfl rfl (Nat.le_of_ble_eq_true rfl) dX2_all_43 ⟨Nat.zero_le _, Nat.zero_le _⟩) hS hD.2 (fun H locs zq20 hP hS => ?_)
                    have kj100 : ∀ (v4_21 : Int32) (v5_22 : Int32) (w23 : Mm) (H : Heap) (locs : List Loc) (ls : Array Slot), M_all_j100 v7_16 w23 v4_21 v5_22 = some r17 → va_P D clM (wl shM 19 dA E w23) H → va_S (AE 19 E) s.heap H locs → lv_has ls 8 [(0, .ref (E 0)), (1, .int v1_2), (2, .int v2_3), (3, .int v3_4), (4, .int v4_21), (5, .int v5_22), (6, .int v6_10), (7, .int v7_16)] → W p l e rmX2_all s m args below meth c H locs 0 0 Q (F0 m 100 ls []) := by
                      intro v4_21 v5_22 w23 H locs ls hf hP hS hl
                      unfold M_all_j100 at hf
                      obtain ⟨v7_24, ev7_24, hf⟩ := ob_bnd hf
                      refine lv_iinc (v := v7_24) (lv' := [(7, .int v7_24), (0, .ref (E 0)), (1, .int v1_2), (2, .int v2_3), (3, .int v3_4), (4, .int v4_21), (5, .int v5_22), (6, .int v6_10)]) hx hb dX2_all_100 hl (k := 7) rfl (by rw [ev7_24]; rfl) (by decide) rfl (fun ls hl => ?_)
                      refine lv_goto (tgt := 33) hx hb dX2_all_103 (by decide) ?_
                      obtain rfl := ob_s hf
                      exact ih _ _ _ _ (h17a _ rfl) K17_0 H locs ls hP hS (lv_sub hl [1, 2, 3, 4, 5, 6, 7, 0] rfl)
                    refine lv_if_eq (tgt := 100) hx hb dX2_all_46 (by decide) (fun c25 => ?_) (fun c25 => ?_)
                    · replace hf := ob_t hf c25
                      exact kj100 v4_14 v5_15 w13 H locs ls hf hP hS (lv_sub hl [0, 1, 2, 3, 4, 5, 6, 7] rfl)
                    · replace hf := ob_f hf c25
                      refine lv_iload_n hx hb dX2_all_49 rfl (lv_at hl 1 rfl) ?_
                      refine lv_iload hx hb dX2_all_50 (lv_at hl 7 rfl) ?_
                      obtain ⟨q27, g26, hf⟩ := ob_bind hf
                      refine xc_z (xw_runS (As := [.int v1_2, .int v7_16]) (rest := []) ⟨hx, hb, hml, hown, hts⟩ (wkX2_has l D dA E hE w13 v1_2 v7_16 g26) (va_cwS 2 hts (lw_S q1623 q1624 q140 q1625) rfl rfl rfl cdX2_has.2 ⟨Nat.le_of_ble_eq_true rfl, Nat.le_of_ble_eq_true rfl⟩) hK hP hl.1 rfl rfl (Nat.le_of_ble_eq_true rfl) dX2_all_52 ⟨Nat.zero_le _, Nat.zero_le _⟩) hS hD.2 (fun H locs zq27 hP hS => ?_)
                      refine lv_if_ne (tgt := 100) hx hb dX2_all_55 (by decide) (fun c28 => ?_) (fun c28 => ?_)
                      · replace hf := ob_f hf c28
                        exact kj100 v4_14 v5_15 w13 H locs ls hf hP hS (lv_sub hl [0, 1, 2, 3, 4, 5, 6, 7] rfl)
                      · replace hf := ob_t hf c28
                        refine lv_aload_n hx hb dX2_all_58 rfl (lv_at hl 0 rfl) ?_
                        refine lv_iload hx hb dX2_all_59 (lv_at hl 6 rfl) ?_
                        refine lv_iload hx hb dX2_all_61 (lv_at hl 7 rfl) ?_
                        obtain ⟨q30, g29, hf⟩ := ob_bind hf
                        refine xc_i (xw_run (As := [.int v6_10, .int v7_16]) (rest := []) ⟨hx, hb, hml, hown, hts⟩ (k0 := 0) (wkX2_costOf l D dA E hE w13 v6_10 v7_16 g29) (cwV 2 hts (lw_V q1958 q1960 qs123 q140 q1961) rfl rfl rfl cdX2_costOf ⟨Nat.le_of_ble_eq_true rfl, Nat.le_of_ble_eq_true rfl⟩) hK hP (by decide) rfl rfl rfl hl.1 rfl rfl (Nat.le_of_ble_eq_true rfl) dX2_all_63 ⟨Nat.zero_le _, Nat.zero_le _⟩) hS hD.2 (fun H locs hP hS => ?_)
                        refine lv_iconst (v := (-1)) hx hb dX2_all_66 (by decide) ?_
                        refine lv_icmp_eq (tgt := 100) hx hb dX2_all_67 (by decide) (fun c31 => ?_) (fun c31 => ?_)
                        · replace hf := ob_t hf c31
                          exact kj100 v4_14 v5_15 q30.2 H locs ls hf hP hS (lv_sub hl [0, 1, 2, 3, 4, 5, 6, 7] rfl)
                        · replace hf := ob_f hf c31
                          refine lv_aload_n hx hb dX2_all_70 rfl (lv_at hl 0 rfl) ?_
                          refine lv_iload hx hb dX2_all_71 (lv_at hl 6 rfl) ?_
                          refine lv_iload hx hb dX2_all_73 (lv_at hl 7 rfl) ?_
                          obtain ⟨q33, g32, hf⟩ := ob_bind hf
                          refine xc_i (xw_run (As := [.int v6_10, .int v7_16]) (rest := []) ⟨hx, hb, hml, hown, hts⟩ (k0 := 0) (wkX2_costOf l D dA E hE q30.2 v6_10 v7_16 g32) (cwV 2 hts (lw_V q1958 q1960 qs123 q140 q1961) rfl rfl rfl cdX2_costOf ⟨Nat.le_of_ble_eq_true rfl, Nat.le_of_ble_eq_true rfl⟩) hK hP (by decide) rfl rfl rfl hl.1 rfl rfl (Nat.le_of_ble_eq_true rfl) dX2_all_75 ⟨Nat.zero_le _, Nat.zero_le _⟩) hS hD.2 (fun H locs hP hS => ?_)
                          refine lv_iload hx hb dX2_all_78 (lv_at hl 4 rfl) ?_
                          refine lv_icmp_lt (tgt := 86) hx hb dX2_all_80 (by decide) (fun c34 => ?_) (fun c34 => ?_)
                          · replace hf := ob_t hf c34
                            refine lv_aload_n hx hb dX2_all_86 rfl (lv_at hl 0 rfl) ?_
                            refine lv_iload hx hb dX2_all_87 (lv_at hl 6 rfl) ?_
                            refine lv_iload hx hb dX2_all_89 (lv_at hl 7 rfl) ?_
                            obtain ⟨q36, g35, hf⟩ := ob_bind hf
                            refine xc_i (xw_run (As := [.int v6_10, .int v7_16]) (rest := []) ⟨hx, hb, hml, hown, hts⟩ (k0 := 0) (wkX2_costOf l D dA E hE q33.2 v6_10 v7_16 g35) (cwV 2 hts (lw_V q1958 q1960 qs123 q140 q1961) rfl rfl rfl cdX2_costOf ⟨Nat.le_of_ble_eq_true rfl, Nat.le_of_ble_eq_true rfl⟩) hK hP (by decide) rfl rfl rfl hl.1 rfl rfl (Nat.le_of_ble_eq_true rfl) dX2_all_91 ⟨Nat.zero_le _, Nat.zero_le _⟩) hS hD.2 (fun H locs hP hS => ?_)
                            refine lv_istore (lv' := [(4, .int q36.1), (0, .ref (E 0)), (1, .int v1_2), (2, .int v2_3), (3, .int v3_4), (5, .int v5_15), (6, .int v6_10), (7, .int v7_16)]) hx hb dX2_all_94 hl (by decide) rfl (fun ls hl => ?_)
                            refine lv_iload hx hb dX2_all_96 (lv_at hl 7 rfl) ?_
                            refine lv_istore (lv' := [(5, .int v7_16), (4, .int q36.1), (0, .ref (E 0)), (1, .int v1_2), (2, .int v2_3), (3, .int v3_4), (6, .int v6_10), (7, .int v7_16)]) hx hb dX2_all_98 hl (by decide) rfl (fun ls hl => ?_)
                            exact kj100 q36.1 v7_16 q36.2 H locs ls hf hP hS (lv_sub hl [2, 3, 4, 5, 1, 0, 6, 7] rfl)
                          · replace hf := ob_f hf c34
                            refine lv_goto (tgt := 100) hx hb dX2_all_83 (by decide) ?_
                            exact kj100 v4_14 v5_15 q33.2 H locs ls hf hP hS (lv_sub hl [0, 1, 2, 3, 4, 5, 6, 7] rfl)
              refine kL33 n17 w7 v4_8 v5_9 0 hn17 (fun H locs ls hP hS hl => ?_) H locs ls hP hS (lv_sub hl [1, 2, 3, 4, 5, 6, 7, 0] rfl)
              replace hf : M_all_x33_106 v6_10 b17 = some r11 := hf
              unfold M_all_x33_106 at hf
              obtain ⟨v6_37, ev6_37, hf⟩ := ob_bnd hf
              refine lv_iinc (v := v6_37) (lv' := [(6, .int v6_37), (0, .ref (E 0)), (1, .int v1_2), (2, .int v2_3), (3, .int v3_4), (4, .int b17.2.1), (5, .int b17.2.2)]) hx hb dX2_all_106 hl (k := 6) rfl (by rw [ev6_37]; rfl) (by decide) rfl (fun ls hl => ?_)
              refine lv_goto (tgt := 23) hx hb dX2_all_109 (by decide) ?_
              obtain rfl := ob_s hf
              exact ih _ _ _ _ (h11a _ rfl) K11_0 H locs ls hP hS (lv_sub hl [1, 2, 3, 4, 5, 6, 0] rfl)
        refine kL23 n11 w1 1000000 0 0 hn11 (fun H locs ls hP hS hl => ?_) H locs ls hP hS (lv_sub hl [3, 4, 5, 6, 2, 1, 0] rfl)
        replace hf : M_all_x23_112 b11 v1_2 v2_3 v3_4 = some r5 := hf
        unfold M_all_x23_112 at hf
        refine lv_iload hx hb dX2_all_112 (lv_at hl 4 rfl) ?_
        refine lv_ldcw (v := 1000000) hx hb hown (hts _ q1970) dX2_all_114 ?_
        refine lv_icmp_ne (tgt := 122) hx hb dX2_all_117 (by decide) (fun c38 => ?_) (fun c38 => ?_)
        · replace hf := ob_f hf c38
          refine lv_iload_n hx hb dX2_all_122 rfl (lv_at hl 1 rfl) ?_
          refine lv_iconst (v := 1) hx hb dX2_all_123 (by decide) ?_
          refine lv_iload hx hb dX2_all_124 (lv_at hl 5 rfl) ?_
          refine lv_ishl hx hb dX2_all_126 ?_
          refine lv_ior hx hb dX2_all_127 ?_
          obtain ⟨v1_39, ev1_39, hf⟩ := ob_bnd hf
          refine xn_i ev1_39 ?_
          refine lv_istore_n (lv' := [(1, .int v1_39), (0, .ref (E 0)), (2, .int v2_3), (3, .int v3_4), (4, .int b11.2.1), (5, .int b11.2.2)]) hx hb dX2_all_128 rfl hl (by decide) rfl (fun ls hl => ?_)
          refine lv_iload_n hx hb dX2_all_129 rfl (lv_at hl 2 rfl) ?_
          refine lv_iload hx hb dX2_all_130 (lv_at hl 4 rfl) ?_
          refine lv_iadd hx hb dX2_all_132 ?_
          obtain ⟨v2_40, ev2_40, hf⟩ := ob_bnd hf
          refine xn_i ev2_40 ?_
          refine lv_istore_n (lv' := [(2, .int v2_40), (1, .int v1_39), (0, .ref (E 0)), (3, .int v3_4), (4, .int b11.2.1), (5, .int b11.2.2)]) hx hb dX2_all_133 rfl hl (by decide) rfl (fun ls hl => ?_)
          obtain ⟨v3_41, ev3_41, hf⟩ := ob_bnd hf
          refine lv_iinc (v := v3_41) (lv' := [(3, .int v3_41), (2, .int v2_40), (1, .int v1_39), (0, .ref (E 0)), (4, .int b11.2.1), (5, .int b11.2.2)]) hx hb dX2_all_134 hl (k := 3) rfl (by rw [ev3_41]; rfl) (by decide) rfl (fun ls hl => ?_)
          refine lv_goto (tgt := 6) hx hb dX2_all_137 (by decide) ?_
          obtain rfl := ob_s hf
          exact ih _ _ _ _ (h5a _ rfl) K5_0 K5_1 H locs ls hP hS (lv_sub hl [3, 2, 1, 0] rfl)
        · replace hf := ob_t hf c38
          obtain rfl := ob_s hf
          exact K5_0 _ (h5b _ rfl).symm H locs ls hP hS (lv_sub hl [] rfl)
  refine kL6 n5 w 1 0 1 hn5 (fun x5_0 ex5_0 H locs ls hP hS hl => ?_) (fun x5_1 ex5_1 H locs ls hP hS hl => ?_) H locs ls hP hS (lv_sub hl [3, 2, 1, 0] rfl)
  · subst ex5_0
    replace hf : M_all_x6_120 x5_0 = some res := hf
    unfold M_all_x6_120 at hf
    refine lv_iconst (v := (-1)) hx hb dX2_all_120 (by decide) ?_
    obtain rfl := ob_s hf
    subst hQ
    exact xe_i hx hb hr hlocks hP hS dX2_all_121
  · subst ex5_1
    replace hf : M_all_x6_140 x5_1 = some res := hf
    unfold M_all_x6_140 at hf
    refine lv_iload_n hx hb dX2_all_140 rfl (lv_at hl 0 rfl) ?_
    obtain rfl := ob_s hf
    subst hQ
    exact xe_i hx hb hr hlocks hP hS dX2_all_141
abbrev rmX2_cut : Room := { frames := 3, cells := 0, slots := 0, locals := 63 }
theorem cdX2_cut : yX2_cut.cls = RX2 ∧ yX2_cut.cls ≠ "java/lang/invoke/MethodHandle" ∧ yX2_cut.cls ≠ "java/lang/invoke/VarHandle" ∧ (parseMethodDescriptor yX2_cut.desc).map (fun d => d.parameters.length) = some 2 := by decide +kernel
set_option maxHeartbeats 4000000 in
set_option maxRecDepth 100000 in
theorem wkX2_cut (l : Launch) (D : va_G) (dA : Nat → ClassId) (E : Nat → Nat) (hE : wInj 19 E) (w : Mm) (a1 : Int32) (a2 : Int32) {res : Int32} (hf : M_cut w a1 a2 = some res) : Met l yX2_cut (ws_ yX2_cut cX2_cut 8 (some .int)) rmX2_cut (Pw D clM (tyM dA) shM 19 dA E [.ref (E 0), .int a1, .int a2] w) (Qwi D clM shM 19 dA E res w) 0 0 (AE 19 E) := by
  refine xm_head (own := RX2) (by decide) rfl (Nat.le_of_ble_eq_true rfl) ?_
  intro p e s m args below meth c ls Q hQ C hP hl
  obtain ⟨hx, hb, hr, hlocks, hml, hown, hts, hK⟩ := C
  replace hl : lv_has ls 8 [(0, .ref (E 0)), (1, .int a1), (2, .int a2)] := hl
  have hS : va_S (AE 19 E) s.heap s.heap [] := va_S.rf
  have hD : wD 19 E (AE 19 E) := wD.self hE
  unfold M_cut at hf
  obtain ⟨H, eH⟩ : ∃ H, H = s.heap := ⟨_, rfl⟩
  obtain ⟨locs, eL⟩ : ∃ locs : List Loc, locs = [] := ⟨_, rfl⟩
  rw [← eL] at hS ⊢
  rw [← eH] at hP
  have hS : va_S (AE 19 E) s.heap H locs := by rw [eH]; exact hS
  show W p l e rmX2_cut s m args below meth c s.heap locs 0 0 Q (F0 m 0 ls [])
  rw [← eH]
  refine lv_iload_n hx hb dX2_cut_0 rfl (lv_at hl 1 rfl) ?_
  refine lv_iload_n hx hb dX2_cut_1 rfl (lv_at hl 2 rfl) ?_
  obtain ⟨q2, g1, hf⟩ := ob_bind hf
  refine xc_z (xw_runS (As := [.int a1, .int a2]) (rest := []) ⟨hx, hb, hml, hown, hts⟩ (wkX2_areTwo l D dA E hE w a1 a2 g1) (va_cwS 2 hts (lw_S q1923 q1924 q140 q1925) rfl rfl rfl cdX2_areTwo.2 ⟨Nat.le_of_ble_eq_true rfl, Nat.le_of_ble_eq_true rfl⟩) hK hP hl.1 rfl rfl (Nat.le_of_ble_eq_true rfl) dX2_cut_2 ⟨Nat.zero_le _, Nat.zero_le _⟩) hS hD.2 (fun H locs zq2 hP hS => ?_)
  refine lv_if_ne (tgt := 10) hx hb dX2_cut_5 (by decide) (fun c3 => ?_) (fun c3 => ?_)
  · replace hf := ob_f hf c3
    refine lv_ldcw (v := 1000000) hx hb hown (hts _ q1970) dX2_cut_10 ?_
    refine lv_istore_n (lv' := [(3, .int 1000000), (0, .ref (E 0)), (1, .int a1), (2, .int a2)]) hx hb dX2_cut_13 rfl hl (by decide) rfl (fun ls hl => ?_)
    refine lv_iconst (v := 0) hx hb dX2_cut_14 (by decide) ?_
    refine lv_istore (lv' := [(4, .int 0), (3, .int 1000000), (0, .ref (E 0)), (1, .int a1), (2, .int a2)]) hx hb dX2_cut_15 hl (by decide) rfl (fun ls hl => ?_)
    obtain ⟨b6, hb6, hf⟩ := ob_bind hf
    obtain ⟨n6, hn6⟩ := lp_some hb6
    have kL17 : ∀ (n : Nat) (v3_4 : Int32) (v4_5 : Int32), lpF (fun (q6 : Int32 × Int32) => M_cut_b17 a1 a2 w q6.1 q6.2) n (v3_4, v4_5) = some b6 → (∀ (H : Heap) (locs : List Loc) (ls : Array Slot), va_P D clM (wl shM 19 dA E w) H → va_S (AE 19 E) s.heap H locs → lv_has ls 8 [(3, .int b6)] → W p l e rmX2_cut s m args below meth c H locs 0 0 Q (F0 m 140 ls [])) → ∀ (H : Heap) (locs : List Loc) (ls : Array Slot), va_P D clM (wl shM 19 dA E w) H → va_S (AE 19 E) s.heap H locs → lv_has ls 8 [(0, .ref (E 0)), (1, .int a1), (2, .int a2), (3, .int v3_4), (4, .int v4_5)] → W p l e rmX2_cut s m args below meth c H locs 0 0 Q (F0 m 17 ls []) := by
      intro n
      induction n with
      | zero =>
        intro v3_4 v4_5 h
        cases h
      | succ n ih =>
        intro v3_4 v4_5 h K6_0 H locs ls hP hS hl
        obtain ⟨r6, hf, h6a, h6b⟩ := lpF_step h
        replace hf : M_cut_b17 a1 a2 w v3_4 v4_5 = some r6 := hf
        unfold M_cut_b17 at hf
        refine lv_iload hx hb dX2_cut_17 (lv_at hl 4 rfl) ?_
        refine lv_bipush (v := 64) hx hb dX2_cut_19 (by decide) ?_
        refine lv_icmp_ge (tgt := 140) hx hb dX2_cut_21 (by decide) (fun c7 => ?_) (fun c7 => ?_)
        · replace hf := ob_t hf c7
          obtain rfl := ob_s hf
          obtain rfl := h6b _ rfl
          exact K6_0 H locs ls hP hS (lv_sub hl [3] rfl)
        · replace hf := ob_f hf c7
          refine lv_iload hx hb dX2_cut_24 (lv_at hl 4 rfl) ?_
          refine lv_iload_n hx hb dX2_cut_26 rfl (lv_at hl 1 rfl) ?_
          obtain ⟨q9, g8, hf⟩ := ob_bind hf
          refine xc_z (xw_runS (As := [.int v4_5, .int a1]) (rest := []) ⟨hx, hb, hml, hown, hts⟩ (wkX2_has l D dA E hE w v4_5 a1 g8) (va_cwS 2 hts (lw_S q1623 q1624 q140 q1625) rfl rfl rfl cdX2_has.2 ⟨Nat.le_of_ble_eq_true rfl, Nat.le_of_ble_eq_true rfl⟩) hK hP hl.1 rfl rfl (Nat.le_of_ble_eq_true rfl) dX2_cut_27 ⟨Nat.zero_le _, Nat.zero_le _⟩) hS hD.2 (fun H locs zq9 hP hS => ?_)
          refine lv_if_eq (tgt := 134) hx hb dX2_cut_30 (by decide) (fun c10 => ?_) (fun c10 => ?_)
          · replace hf := ob_t hf c10
            obtain ⟨v4_11, ev4_11, hf⟩ := ob_bnd hf
            refine lv_iinc (v := v4_11) (lv' := [(4, .int v4_11), (0, .ref (E 0)), (1, .int a1), (2, .int a2), (3, .int v3_4)]) hx hb dX2_cut_134 hl (k := 4) rfl (by rw [ev4_11]; rfl) (by decide) rfl (fun ls hl => ?_)
            refine lv_goto (tgt := 17) hx hb dX2_cut_137 (by decide) ?_
            obtain rfl := ob_s hf
            exact ih _ _ (h6a _ rfl) K6_0 H locs ls hP hS (lv_sub hl [1, 2, 3, 4, 0] rfl)
          · replace hf := ob_f hf c10
            refine lv_iload hx hb dX2_cut_33 (lv_at hl 4 rfl) ?_
            refine lv_iload_n hx hb dX2_cut_35 rfl (lv_at hl 2 rfl) ?_
            obtain ⟨q13, g12, hf⟩ := ob_bind hf
            refine xc_z (xw_runS (As := [.int v4_5, .int a2]) (rest := []) ⟨hx, hb, hml, hown, hts⟩ (wkX2_has l D dA E hE w v4_5 a2 g12) (va_cwS 2 hts (lw_S q1623 q1624 q140 q1625) rfl rfl rfl cdX2_has.2 ⟨Nat.le_of_ble_eq_true rfl, Nat.le_of_ble_eq_true rfl⟩) hK hP hl.1 rfl rfl (Nat.le_of_ble_eq_true rfl) dX2_cut_36 ⟨Nat.zero_le _, Nat.zero_le _⟩) hS hD.2 (fun H locs zq13 hP hS => ?_)
            refine lv_if_eq (tgt := 45) hx hb dX2_cut_39 (by decide) (fun c14 => ?_) (fun c14 => ?_)
            · replace hf := ob_t hf c14
              refine lv_iconst (v := 0) hx hb dX2_cut_45 (by decide) ?_
              refine lv_istore (lv' := [(5, .int 0), (0, .ref (E 0)), (1, .int a1), (2, .int a2), (3, .int v3_4), (4, .int v4_5)]) hx hb dX2_cut_46 hl (by decide) rfl (fun ls hl => ?_)
              refine lv_iconst (v := 0) hx hb dX2_cut_48 (by decide) ?_
              refine lv_istore (lv' := [(6, .int 0), (5, .int 0), (0, .ref (E 0)), (1, .int a1), (2, .int a2), (3, .int v3_4), (4, .int v4_5)]) hx hb dX2_cut_49 hl (by decide) rfl (fun ls hl => ?_)
              obtain ⟨b17, hb17, hf⟩ := ob_bind hf
              obtain ⟨n17, hn17⟩ := lp_some hb17
              have kL51 : ∀ (n : Nat) (v5_15 : Int32) (v6_16 : Int32), lpF (fun (q17 : Int32 × Int32) => M_cut_b51 v4_5 w q17.1 q17.2) n (v5_15, v6_16) = some b17 → (∀ (H : Heap) (locs : List Loc) (ls : Array Slot), va_P D clM (wl shM 19 dA E w) H → va_S (AE 19 E) s.heap H locs → lv_has ls 8 [(0, .ref (E 0)), (1, .int a1), (2, .int a2), (3, .int v3_4), (4, .int v4_5), (5, .int b17)] → W p l e rmX2_cut s m args below meth c H locs 0 0 Q (F0 m 121 ls [])) → ∀ (H : Heap) (locs : List Loc) (ls : Array Slot), va_P D clM (wl shM 19 dA E w) H → va_S (AE 19 E) s.heap H locs → lv_has ls 8 [(0, .ref (E 0)), (1, .int a1), (2, .int a2), (3, .int v3_4), (4, .int v4_5), (5, .int v5_15), (6, .int v6_16)] → W p l e rmX2_cut s m args below meth c H locs 0 0 Q (F0 m 51 ls []) := by
                intro n
                induction n with
                | zero =>
                  intro v5_15 v6_16 h
                  cases h
                | succ n ih =>
                  intro v5_15 v6_16 h K17_0 H locs ls hP hS hl
                  obtain ⟨r17, hf, h17a, h17b⟩ := lpF_step h
                  replace hf : M_cut_b51 v4_5 w v5_15 v6_16 = some r17 := hf
                  unfold M_cut_b51 at hf
                  refine lv_iload hx hb dX2_cut_51 (lv_at hl 6 rfl) ?_
                  refine lv_bipush (v := 6) hx hb dX2_cut_53 (by decide) ?_
                  refine lv_icmp_ge (tgt := 121) hx hb dX2_cut_55 (by decide) (fun c18 => ?_) (fun c18 => ?_)
                  · replace hf := ob_t hf c18
                    obtain rfl := ob_s hf
                    obtain rfl := h17b _ rfl
                    exact K17_0 H locs ls hP hS (lv_sub hl [0, 1, 2, 3, 4, 5] rfl)
                  · replace hf := ob_f hf c18
                    refine lv_iconst (v := 0) hx hb dX2_cut_58 (by decide) ?_
                    refine lv_istore (lv' := [(7, .int 0), (0, .ref (E 0)), (1, .int a1), (2, .int a2), (3, .int v3_4), (4, .int v4_5), (5, .int v5_15), (6, .int v6_16)]) hx hb dX2_cut_59 hl (by decide) rfl (fun ls hl => ?_)
                    obtain ⟨b21, hb21, hf⟩ := ob_bind hf
                    obtain ⟨n21, hn21⟩ := lp_some hb21
                    have kL61 : ∀ (n : Nat) (v5_19 : Int32) (v7_20 : Int32), lpF (fun (q21 : Int32 × Int32) => M_cut_b61 v4_5 v6_16 w q21.1 q21.2) n (v5_19, v7_20) = some b21 → (∀ (H : Heap) (locs : List Loc) (ls : Array Slot), va_P D clM (wl shM 19 dA E w) H → va_S (AE 19 E) s.heap H locs → lv_has ls 8 [(0, .ref (E 0)), (1, .int a1), (2, .int a2), (3, .int v3_4), (4, .int v4_5), (5, .int b21), (6, .int v6_16)] → W p l e rmX2_cut s m args below meth c H locs 0 0 Q (F0 m 115 ls [])) → ∀ (H : Heap) (locs : List Loc) (ls : Array Slot), va_P D clM (wl shM 19 dA E w) H → va_S (AE 19 E) s.heap H locs → lv_has ls 8 [(0, .ref (E 0)), (1, .int a1), (2, .int a2), (3, .int v3_4), (4, .int v4_5), (5, .int v5_19), (6, .int v6_16), (7, .int v7_20)] → W p l e rmX2_cut s m args below meth c H locs 0 0 Q (F0 m 61 ls []) := by
                      intro n
                      induction n with
                      | zero =>
                        intro v5_19 v7_20 h
                        cases h
                      | succ n ih =>
                        intro v5_19 v7_20 h K21_0 H locs ls hP hS hl
                        obtain ⟨r21, hf, h21a, h21b⟩ := lpF_step h
                        replace hf : M_cut_b61 v4_5 v6_16 w v5_19 v7_20 = some r21 := hf
                        unfold M_cut_b61 at hf
                        refine lv_iload hx hb dX2_cut_61 (lv_at hl 7 rfl) ?_
                        refine lv_bipush (v := 6) hx hb dX2_cut_63 (by decide) ?_
                        refine lv_icmp_ge (tgt := 115) hx hb dX2_cut_65 (by decide) (fun c22 => ?_) (fun c22 => ?_)
                        · replace hf := ob_t hf c22
                          obtain rfl := ob_s hf
                          obtain rfl := h21b _ rfl
                          exact K21_0 H locs ls hP hS (lv_sub hl [0, 1, 2, 3, 4, 5, 6] rfl)
                        · replace hf := ob_f hf c22
                          refine lv_iload hx hb dX2_cut_68 (lv_at hl 5 rfl) ?_
                          refine lv_iload hx hb dX2_cut_70 (lv_at hl 4 rfl) ?_
                          refine lv_iload hx hb dX2_cut_72 (lv_at hl 6 rfl) ?_
                          obtain ⟨q24, g23, hf⟩ := ob_bind hf
                          refine xc_z (xw_runS (As := [.int v4_5, .int v6_16]) (rest := [.int v5_19]) ⟨hx, hb, hml, hown, hts⟩ (wkX2_has l D dA E hE w v4_5 v6_16 g23) (va_cwS 2 hts (lw_S q1623 q1624 q140 q1625) rfl rfl rfl cdX2_has.2 ⟨Nat.le_of_ble_eq_true rfl, Nat.le_of_ble_eq_true rfl⟩) hK hP hl.1 rfl rfl (Nat.le_of_ble_eq_true rfl) dX2_cut_74 ⟨Nat.zero_le _, Nat.zero_le _⟩) hS hD.2 (fun H locs zq24 hP hS => ?_)
                          refine lv_if_eq (tgt := 105) hx hb dX2_cut_77 (by decide) (fun c25 => ?_) (fun c25 => ?_)
                          · replace hf := ob_t hf c25
                            refine lv_iconst (v := 0) hx hb dX2_cut_105 (by decide) ?_
                            refine lv_iadd hx hb dX2_cut_106 ?_
                            obtain ⟨v5_26, ev5_26, hf⟩ := ob_bnd hf
                            refine xn_i ev5_26 ?_
                            refine lv_istore (lv' := [(5, .int v5_26), (0, .ref (E 0)), (1, .int a1), (2, .int a2), (3, .int v3_4), (4, .int v4_5), (6, .int v6_16), (7, .int v7_20)]) hx hb dX2_cut_107 hl (by decide) rfl (fun ls hl => ?_)
                            obtain ⟨v7_27, ev7_27, hf⟩ := ob_bnd hf
                            refine lv_iinc (v := v7_27) (lv' := [(7, .int v7_27), (5, .int v5_26), (0, .ref (E 0)), (1, .int a1), (2, .int a2), (3, .int v3_4), (4, .int v4_5), (6, .int v6_16)]) hx hb dX2_cut_109 hl (k := 7) rfl (by rw [ev7_27]; rfl) (by decide) rfl (fun ls hl => ?_)
                            refine lv_goto (tgt := 61) hx hb dX2_cut_112 (by decide) ?_
                            obtain rfl := ob_s hf
                            exact ih _ _ (h21a _ rfl) K21_0 H locs ls hP hS (lv_sub hl [2, 3, 4, 5, 6, 1, 7, 0] rfl)
                          · replace hf := ob_f hf c25
                            refine lv_iload hx hb dX2_cut_80 (lv_at hl 4 rfl) ?_
                            refine lv_iload hx hb dX2_cut_82 (lv_at hl 7 rfl) ?_
                            obtain ⟨q29, g28, hf⟩ := ob_bind hf
                            refine xc_z (xw_runS (As := [.int v4_5, .int v7_20]) (rest := [.int v5_19]) ⟨hx, hb, hml, hown, hts⟩ (wkX2_has l D dA E hE w v4_5 v7_20 g28) (va_cwS 2 hts (lw_S q1623 q1624 q140 q1625) rfl rfl rfl cdX2_has.2 ⟨Nat.le_of_ble_eq_true rfl, Nat.le_of_ble_eq_true rfl⟩) hK hP hl.1 rfl rfl (Nat.le_of_ble_eq_true rfl) dX2_cut_84 ⟨Nat.zero_le _, Nat.zero_le _⟩) hS hD.2 (fun H locs zq29 hP hS => ?_)
                            refine lv_if_ne (tgt := 105) hx hb dX2_cut_87 (by decide) (fun c30 => ?_) (fun c30 => ?_)
                            · replace hf := ob_f hf c30
                              refine lv_iconst (v := 0) hx hb dX2_cut_105 (by decide) ?_
                              refine lv_iadd hx hb dX2_cut_106 ?_
                              obtain ⟨v5_31, ev5_31, hf⟩ := ob_bnd hf
                              refine xn_i ev5_31 ?_
                              refine lv_istore (lv' := [(5, .int v5_31), (0, .ref (E 0)), (1, .int a1), (2, .int a2), (3, .int v3_4), (4, .int v4_5), (6, .int v6_16), (7, .int v7_20)]) hx hb dX2_cut_107 hl (by decide) rfl (fun ls hl => ?_)
                              obtain ⟨v7_32, ev7_32, hf⟩ := ob_bnd hf
                              refine lv_iinc (v := v7_32) (lv' := [(7, .int v7_32), (5, .int v5_31), (0, .ref (E 0)), (1, .int a1), (2, .int a2), (3, .int v3_4), (4, .int v4_5), (6, .int v6_16)]) hx hb dX2_cut_109 hl (k := 7) rfl (by rw [ev7_32]; rfl) (by decide) rfl (fun ls hl => ?_)
                              refine lv_goto (tgt := 61) hx hb dX2_cut_112 (by decide) ?_
                              obtain rfl := ob_s hf
                              exact ih _ _ (h21a _ rfl) K21_0 H locs ls hP hS (lv_sub hl [2, 3, 4, 5, 6, 1, 7, 0] rfl)
                            · replace hf := ob_t hf c30
                              refine lv_aload_n hx hb dX2_cut_90 rfl (lv_at hl 0 rfl) ?_
                              refine lv_iload hx hb dX2_cut_91 (lv_at hl 6 rfl) ?_
                              refine lv_iload hx hb dX2_cut_93 (lv_at hl 7 rfl) ?_
                              obtain ⟨q34, g33, hf⟩ := ob_bind hf
                              refine xc_z (xw_run (As := [.int v6_16, .int v7_20]) (rest := [.int v5_19]) ⟨hx, hb, hml, hown, hts⟩ (k0 := 0) (wkX2_doSpeak l D dA E hE w v6_16 v7_20 g33) (cwV 2 hts (lw_V q1926 q1928 qs120 q140 q1929) rfl rfl rfl cdX2_doSpeak ⟨Nat.le_of_ble_eq_true rfl, Nat.le_of_ble_eq_true rfl⟩) hK hP (by decide) rfl rfl rfl hl.1 rfl rfl (Nat.le_of_ble_eq_true rfl) dX2_cut_95 ⟨Nat.zero_le _, Nat.zero_le _⟩) hS hD.2 (fun H locs zq34 hP hS => ?_)
                              refine lv_if_eq (tgt := 105) hx hb dX2_cut_98 (by decide) (fun c35 => ?_) (fun c35 => ?_)
                              · replace hf := ob_t hf c35
                                refine lv_iconst (v := 0) hx hb dX2_cut_105 (by decide) ?_
                                refine lv_iadd hx hb dX2_cut_106 ?_
                                obtain ⟨v5_36, ev5_36, hf⟩ := ob_bnd hf
                                refine xn_i ev5_36 ?_
                                refine lv_istore (lv' := [(5, .int v5_36), (0, .ref (E 0)), (1, .int a1), (2, .int a2), (3, .int v3_4), (4, .int v4_5), (6, .int v6_16), (7, .int v7_20)]) hx hb dX2_cut_107 hl (by decide) rfl (fun ls hl => ?_)
                                obtain ⟨v7_37, ev7_37, hf⟩ := ob_bnd hf
                                refine lv_iinc (v := v7_37) (lv' := [(7, .int v7_37), (5, .int v5_36), (0, .ref (E 0)), (1, .int a1), (2, .int a2), (3, .int v3_4), (4, .int v4_5), (6, .int v6_16)]) hx hb dX2_cut_109 hl (k := 7) rfl (by rw [ev7_37]; rfl) (by decide) rfl (fun ls hl => ?_)
                                refine lv_goto (tgt := 61) hx hb dX2_cut_112 (by decide) ?_
                                obtain rfl := ob_s hf
                                exact ih _ _ (h21a _ rfl) K21_0 H locs ls hP hS (lv_sub hl [2, 3, 4, 5, 6, 1, 7, 0] rfl)
                              · replace hf := ob_f hf c35
                                refine lv_iconst (v := 1) hx hb dX2_cut_101 (by decide) ?_
                                refine lv_goto (tgt := 106) hx hb dX2_cut_102 (by decide) ?_
                                refine lv_iadd hx hb dX2_cut_106 ?_
                                obtain ⟨v5_38, ev5_38, hf⟩ := ob_bnd hf
                                refine xn_i ev5_38 ?_
                                refine lv_istore (lv' := [(5, .int v5_38), (0, .ref (E 0)), (1, .int a1), (2, .int a2), (3, .int v3_4), (4, .int v4_5), (6, .int v6_16), (7, .int v7_20)]) hx hb dX2_cut_107 hl (by decide) rfl (fun ls hl => ?_)
                                obtain ⟨v7_39, ev7_39, hf⟩ := ob_bnd hf
                                refine lv_iinc (v := v7_39) (lv' := [(7, .int v7_39), (5, .int v5_38), (0, .ref (E 0)), (1, .int a1), (2, .int a2), (3, .int v3_4), (4, .int v4_5), (6, .int v6_16)]) hx hb dX2_cut_109 hl (k := 7) rfl (by rw [ev7_39]; rfl) (by decide) rfl (fun ls hl => ?_)
                                refine lv_goto (tgt := 61) hx hb dX2_cut_112 (by decide) ?_
                                obtain rfl := ob_s hf
                                exact ih _ _ (h21a _ rfl) K21_0 H locs ls hP hS (lv_sub hl [2, 3, 4, 5, 6, 1, 7, 0] rfl)
                    refine kL61 n21 v5_15 0 hn21 (fun H locs ls hP hS hl => ?_) H locs ls hP hS (lv_sub hl [1, 2, 3, 4, 5, 6, 7, 0] rfl)
                    replace hf : M_cut_x61_115 v6_16 b21 = some r17 := hf
                    unfold M_cut_x61_115 at hf
                    obtain ⟨v6_40, ev6_40, hf⟩ := ob_bnd hf
                    refine lv_iinc (v := v6_40) (lv' := [(6, .int v6_40), (0, .ref (E 0)), (1, .int a1), (2, .int a2), (3, .int v3_4), (4, .int v4_5), (5, .int b21)]) hx hb dX2_cut_115 hl (k := 6) rfl (by rw [ev6_40]; rfl) (by decide) rfl (fun ls hl => ?_)
                    refine lv_goto (tgt := 51) hx hb dX2_cut_118 (by decide) ?_
                    obtain rfl := ob_s hf
                    exact ih _ _ (h17a _ rfl) K17_0 H locs ls hP hS (lv_sub hl [1, 2, 3, 4, 5, 6, 0] rfl)
              refine kL51 n17 0 0 hn17 (fun H locs ls hP hS hl => ?_) H locs ls hP hS (lv_sub hl [2, 3, 4, 5, 6, 1, 0] rfl)
              replace hf : M_cut_x51_121 v3_4 b17 v4_5 = some r6 := hf
              unfold M_cut_x51_121 at hf
              refine lv_iload hx hb dX2_cut_121 (lv_at hl 5 rfl) ?_
              refine lv_iload_n hx hb dX2_cut_123 rfl (lv_at hl 3 rfl) ?_
              refine lv_icmp_ge (tgt := 132) hx hb dX2_cut_124 (by decide) (fun c41 => ?_) (fun c41 => ?_)
              · replace hf := ob_t hf c41
                refine lv_iload_n hx hb dX2_cut_132 rfl (lv_at hl 3 rfl) ?_
                refine lv_istore_n (lv' := [(3, .int v3_4), (0, .ref (E 0)), (1, .int a1), (2, .int a2), (4, .int v4_5), (5, .int b17)]) hx hb dX2_cut_133 rfl hl (by decide) rfl (fun ls hl => ?_)
                obtain ⟨v4_42, ev4_42, hf⟩ := ob_bnd hf
                refine lv_iinc (v := v4_42) (lv' := [(4, .int v4_42), (3, .int v3_4), (0, .ref (E 0)), (1, .int a1), (2, .int a2), (5, .int b17)]) hx hb dX2_cut_134 hl (k := 4) rfl (by rw [ev4_42]; rfl) (by decide) rfl (fun ls hl => ?_)
                refine lv_goto (tgt := 17) hx hb dX2_cut_137 (by decide) ?_
                obtain rfl := ob_s hf
                exact ih _ _ (h6a _ rfl) K6_0 H locs ls hP hS (lv_sub hl [2, 3, 4, 1, 0] rfl)
              · replace hf := ob_f hf c41
                refine lv_iload hx hb dX2_cut_127 (lv_at hl 5 rfl) ?_
                refine lv_goto (tgt := 133) hx hb dX2_cut_129 (by decide) ?_
                refine lv_istore_n (lv' := [(3, .int b17), (0, .ref (E 0)), (1, .int a1), (2, .int a2), (4, .int v4_5), (5, .int b17)]) hx hb dX2_cut_133 rfl hl (by decide) rfl (fun ls hl => ?_)
                obtain ⟨v4_43, ev4_43, hf⟩ := ob_bnd hf
                refine lv_iinc (v := v4_43) (lv' := [(4, .int v4_43), (3, .int b17), (0, .ref (E 0)), (1, .int a1), (2, .int a2), (5, .int b17)]) hx hb dX2_cut_134 hl (k := 4) rfl (by rw [ev4_43]; rfl) (by decide) rfl (fun ls hl => ?_)
                refine lv_goto (tgt := 17) hx hb dX2_cut_137 (by decide) ?_
                obtain rfl := ob_s hf
                exact ih _ _ (h6a _ rfl) K6_0 H locs ls hP hS (lv_sub hl [2, 3, 4, 1, 0] rfl)
            · replace hf := ob_f hf c14
              refine lv_goto (tgt := 134) hx hb dX2_cut_42 (by decide) ?_
              obtain ⟨v4_44, ev4_44, hf⟩ := ob_bnd hf
              refine lv_iinc (v := v4_44) (lv' := [(4, .int v4_44), (0, .ref (E 0)), (1, .int a1), (2, .int a2), (3, .int v3_4)]) hx hb dX2_cut_134 hl (k := 4) rfl (by rw [ev4_44]; rfl) (by decide) rfl (fun ls hl => ?_)
              refine lv_goto (tgt := 17) hx hb dX2_cut_137 (by decide) ?_
              obtain rfl := ob_s hf
              exact ih _ _ (h6a _ rfl) K6_0 H locs ls hP hS (lv_sub hl [1, 2, 3, 4, 0] rfl)
    refine kL17 n6 1000000 0 hn6 (fun H locs ls hP hS hl => ?_) H locs ls hP hS (lv_sub hl [2, 3, 4, 1, 0] rfl)
    replace hf : M_cut_x17_140 b6 = some res := hf
    unfold M_cut_x17_140 at hf
    refine lv_iload_n hx hb dX2_cut_140 rfl (lv_at hl 0 rfl) ?_
    obtain rfl := ob_s hf
    subst hQ
    exact xe_i hx hb hr hlocks hP hS dX2_cut_141
  · replace hf := ob_t hf c3
    refine lv_iconst (v := (-1)) hx hb dX2_cut_8 (by decide) ?_
    obtain rfl := ob_s hf
    subst hQ
    exact xe_i hx hb hr hlocks hP hS dX2_cut_9
abbrev rmX2_heatOfAll : Room := { frames := 1, cells := 0, slots := 0, locals := 21 }
theorem cdX2_heatOfAll : yX2_heatOfAll.cls = RX2 ∧ yX2_heatOfAll.cls ≠ "java/lang/invoke/MethodHandle" ∧ yX2_heatOfAll.cls ≠ "java/lang/invoke/VarHandle" ∧ (parseMethodDescriptor yX2_heatOfAll.desc).map (fun d => d.parameters.length) = some 1 := by decide +kernel
set_option maxHeartbeats 4000000 in
set_option maxRecDepth 100000 in
theorem wkX2_heatOfAll (l : Launch) (D : va_G) (dA : Nat → ClassId) (E : Nat → Nat) (hE : wInj 19 E) (w : Mm) (a1 : Int32) {res : Int32} (hf : M_heatOfAll w a1 = some res) : Met l yX2_heatOfAll (ws_ yX2_heatOfAll cX2_heatOfAll 4 (some .int)) rmX2_heatOfAll (Pw D clM (tyM dA) shM 19 dA E [.ref (E 0), .int a1] w) (Qwi D clM shM 19 dA E res w) 0 0 (AE 19 E) := by
  refine xm_head (own := RX2) (by decide) rfl (Nat.le_of_ble_eq_true rfl) ?_
  intro p e s m args below meth c ls Q hQ C hP hl
  obtain ⟨hx, hb, hr, hlocks, hml, hown, hts, hK⟩ := C
  replace hl : lv_has ls 4 [(0, .ref (E 0)), (1, .int a1)] := hl
  have hS : va_S (AE 19 E) s.heap s.heap [] := va_S.rf
  have hD : wD 19 E (AE 19 E) := wD.self hE
  unfold M_heatOfAll at hf
  obtain ⟨H, eH⟩ : ∃ H, H = s.heap := ⟨_, rfl⟩
  obtain ⟨locs, eL⟩ : ∃ locs : List Loc, locs = [] := ⟨_, rfl⟩
  rw [← eL] at hS ⊢
  rw [← eH] at hP
  have hS : va_S (AE 19 E) s.heap H locs := by rw [eH]; exact hS
  show W p l e rmX2_heatOfAll s m args below meth c s.heap locs 0 0 Q (F0 m 0 ls [])
  rw [← eH]
  refine lv_iconst (v := 0) hx hb dX2_heatOfAll_0 (by decide) ?_
  refine lv_istore_n (lv' := [(2, .int 0), (0, .ref (E 0)), (1, .int a1)]) hx hb dX2_heatOfAll_1 rfl hl (by decide) rfl (fun ls hl => ?_)
  refine lv_iconst (v := 0) hx hb dX2_heatOfAll_2 (by decide) ?_
  refine lv_istore_n (lv' := [(3, .int 0), (2, .int 0), (0, .ref (E 0)), (1, .int a1)]) hx hb dX2_heatOfAll_3 rfl hl (by decide) rfl (fun ls hl => ?_)
  obtain ⟨b3, hb3, hf⟩ := ob_bind hf
  obtain ⟨n3, hn3⟩ := lp_some hb3
  have kL4 : ∀ (n : Nat) (v2_1 : Int32) (v3_2 : Int32), lpF (fun (q3 : Int32 × Int32) => M_heatOfAll_b4 w a1 q3.1 q3.2) n (v2_1, v3_2) = some b3 → (∀ (H : Heap) (locs : List Loc) (ls : Array Slot), va_P D clM (wl shM 19 dA E w) H → va_S (AE 19 E) s.heap H locs → lv_has ls 4 [(2, .int b3)] → W p l e rmX2_heatOfAll s m args below meth c H locs 0 0 Q (F0 m 40 ls [])) → ∀ (H : Heap) (locs : List Loc) (ls : Array Slot), va_P D clM (wl shM 19 dA E w) H → va_S (AE 19 E) s.heap H locs → lv_has ls 4 [(0, .ref (E 0)), (1, .int a1), (2, .int v2_1), (3, .int v3_2)] → W p l e rmX2_heatOfAll s m args below meth c H locs 0 0 Q (F0 m 4 ls []) := by
    intro n
    induction n with
    | zero =>
      intro v2_1 v3_2 h
      cases h
    | succ n ih =>
      intro v2_1 v3_2 h K3_0 H locs ls hP hS hl
      obtain ⟨r3, hf, h3a, h3b⟩ := lpF_step h
      replace hf : M_heatOfAll_b4 w a1 v2_1 v3_2 = some r3 := hf
      unfold M_heatOfAll_b4 at hf
      refine lv_iload_n hx hb dX2_heatOfAll_4 rfl (lv_at hl 3 rfl) ?_
      refine lv_aload_n hx hb dX2_heatOfAll_5 rfl (lv_at hl 0 rfl) ?_
      refine xr_get hx hb hts in_X2 hown hK hP 0 (by decide) rfl rfl 0 (by decide) (hts _ q1405) (fun _ h => h) rfl (v := .ref (E 1)) rfl dX2_heatOfAll_6 ?_
      refine lv_iconst (v := 0) hx hb dX2_heatOfAll_9 (by decide) ?_
      refine xr_iald hx hb hK hP 1 (by decide) rfl 0 rfl (j := 0) (vin_c (by decide)) (by decide) dX2_heatOfAll_10 ?_
      refine lv_icmp_ge (tgt := 40) hx hb dX2_heatOfAll_11 (by decide) (fun c4 => ?_) (fun c4 => ?_)
      · replace hf := ob_t hf c4
        obtain rfl := ob_s hf
        obtain rfl := h3b _ rfl
        exact K3_0 H locs ls hP hS (lv_sub hl [2] rfl)
      · replace hf := ob_f hf c4
        refine lv_iload_n hx hb dX2_heatOfAll_14 rfl (lv_at hl 2 rfl) ?_
        refine lv_iload_n hx hb dX2_heatOfAll_15 rfl (lv_at hl 1 rfl) ?_
        refine lv_iload_n hx hb dX2_heatOfAll_16 rfl (lv_at hl 3 rfl) ?_
        obtain ⟨q6, g5, hf⟩ := ob_bind hf
        refine xc_z (xw_runS (As := [.int a1, .int v3_2]) (rest := [.int v2_1]) ⟨hx, hb, hml, hown, hts⟩ (wkX2_has l D dA E hE w a1 v3_2 g5) (va_cwS 2 hts (lw_S q1623 q1624 q140 q1625) rfl rfl rfl cdX2_has.2 ⟨Nat.le_of_ble_eq_true rfl, Nat.le_of_ble_eq_true rfl⟩) hK hP hl.1 rfl rfl (Nat.le_of_ble_eq_true rfl) dX2_heatOfAll_17 ⟨Nat.zero_le _, Nat.zero_le _⟩) hS hD.2 (fun H locs zq6 hP hS => ?_)
        refine lv_if_eq (tgt := 31) hx hb dX2_heatOfAll_20 (by decide) (fun c7 => ?_) (fun c7 => ?_)
        · replace hf := ob_t hf c7
          refine lv_iconst (v := 0) hx hb dX2_heatOfAll_31 (by decide) ?_
          refine lv_iadd hx hb dX2_heatOfAll_32 ?_
          obtain ⟨v2_8, ev2_8, hf⟩ := ob_bnd hf
          refine xn_i ev2_8 ?_
          refine lv_istore_n (lv' := [(2, .int v2_8), (0, .ref (E 0)), (1, .int a1), (3, .int v3_2)]) hx hb dX2_heatOfAll_33 rfl hl (by decide) rfl (fun ls hl => ?_)
          obtain ⟨v3_9, ev3_9, hf⟩ := ob_bnd hf
          refine lv_iinc (v := v3_9) (lv' := [(3, .int v3_9), (2, .int v2_8), (0, .ref (E 0)), (1, .int a1)]) hx hb dX2_heatOfAll_34 hl (k := 3) rfl (by rw [ev3_9]; rfl) (by decide) rfl (fun ls hl => ?_)
          refine lv_goto (tgt := 4) hx hb dX2_heatOfAll_37 (by decide) ?_
          obtain rfl := ob_s hf
          exact ih _ _ (h3a _ rfl) K3_0 H locs ls hP hS (lv_sub hl [2, 3, 1, 0] rfl)
        · replace hf := ob_f hf c7
          refine lv_aload_n hx hb dX2_heatOfAll_23 rfl (lv_at hl 0 rfl) ?_
          refine lv_iload_n hx hb dX2_heatOfAll_24 rfl (lv_at hl 3 rfl) ?_
          obtain ⟨q11, g10, hf⟩ := ob_bind hf
          refine xc_i (xw_run (As := [.int v3_2]) (rest := [.int v2_1]) ⟨hx, hb, hml, hown, hts⟩ (k0 := 0) (wkX2_heatOf l D dA E hE w v3_2 g10) (cwV 1 hts (lw_V q1780 q1782 qs102 q140 q1783) rfl rfl rfl cdX2_heatOf ⟨Nat.le_of_ble_eq_true rfl, Nat.le_of_ble_eq_true rfl⟩) hK hP (by decide) rfl rfl rfl hl.1 rfl rfl (Nat.le_of_ble_eq_true rfl) dX2_heatOfAll_25 ⟨Nat.zero_le _, Nat.zero_le _⟩) hS hD.2 (fun H locs hP hS => ?_)
          refine lv_goto (tgt := 32) hx hb dX2_heatOfAll_28 (by decide) ?_
          refine lv_iadd hx hb dX2_heatOfAll_32 ?_
          obtain ⟨v2_12, ev2_12, hf⟩ := ob_bnd hf
          refine xn_i ev2_12 ?_
          refine lv_istore_n (lv' := [(2, .int v2_12), (0, .ref (E 0)), (1, .int a1), (3, .int v3_2)]) hx hb dX2_heatOfAll_33 rfl hl (by decide) rfl (fun ls hl => ?_)
          obtain ⟨v3_13, ev3_13, hf⟩ := ob_bnd hf
          refine lv_iinc (v := v3_13) (lv' := [(3, .int v3_13), (2, .int v2_12), (0, .ref (E 0)), (1, .int a1)]) hx hb dX2_heatOfAll_34 hl (k := 3) rfl (by rw [ev3_13]; rfl) (by decide) rfl (fun ls hl => ?_)
          refine lv_goto (tgt := 4) hx hb dX2_heatOfAll_37 (by decide) ?_
          obtain rfl := ob_s hf
          exact ih _ _ (h3a _ rfl) K3_0 H locs ls hP hS (lv_sub hl [2, 3, 1, 0] rfl)
  refine kL4 n3 0 0 hn3 (fun H locs ls hP hS hl => ?_) H locs ls hP hS (lv_sub hl [2, 3, 1, 0] rfl)
  replace hf : M_heatOfAll_x4_40 b3 = some res := hf
  unfold M_heatOfAll_x4_40 at hf
  refine lv_iload_n hx hb dX2_heatOfAll_40 rfl (lv_at hl 0 rfl) ?_
  obtain rfl := ob_s hf
  subst hQ
  exact xe_i hx hb hr hlocks hP hS dX2_heatOfAll_41
abbrev rmX2_cool : Room := { frames := 7, cells := 0, slots := 0, locals := 169 }
theorem cdX2_cool : yX2_cool.cls = RX2 ∧ yX2_cool.cls ≠ "java/lang/invoke/MethodHandle" ∧ yX2_cool.cls ≠ "java/lang/invoke/VarHandle" ∧ (parseMethodDescriptor yX2_cool.desc).map (fun d => d.parameters.length) = some 1 := by decide +kernel
set_option maxHeartbeats 4000000 in
set_option maxRecDepth 100000 in
theorem wkX2_cool (l : Launch) (D : va_G) (dA : Nat → ClassId) (E : Nat → Nat) (hE : wInj 19 E) (w : Mm) (a1 : Int32) {res : Int32 × Mm} (hf : M_cool w a1 = some res) : Met l yX2_cool (ws_ yX2_cool cX2_cool 5 (some .int)) rmX2_cool (Pw D clM (tyM dA) shM 19 dA E [.ref (E 0), .int a1] w) (Qwi D clM shM 19 dA E res.1 res.2) 0 0 (AE 19 E) := by
  refine xm_head (own := RX2) (by decide) rfl (Nat.le_of_ble_eq_true rfl) ?_
  intro p e s m args below meth c ls Q hQ C hP hl
  obtain ⟨hx, hb, hr, hlocks, hml, hown, hts, hK⟩ := C
  replace hl : lv_has ls 5 [(0, .ref (E 0)), (1, .int a1)] := hl
  have hS : va_S (AE 19 E) s.heap s.heap [] := va_S.rf
  have hD : wD 19 E (AE 19 E) := wD.self hE
  unfold M_cool at hf
  obtain ⟨H, eH⟩ : ∃ H, H = s.heap := ⟨_, rfl⟩
  obtain ⟨locs, eL⟩ : ∃ locs : List Loc, locs = [] := ⟨_, rfl⟩
  rw [← eL] at hS ⊢
  rw [← eH] at hP
  have hS : va_S (AE 19 E) s.heap H locs := by rw [eH]; exact hS
  show W p l e rmX2_cool s m args below meth c s.heap locs 0 0 Q (F0 m 0 ls [])
  rw [← eH]
  refine lv_iload_n hx hb dX2_cool_0 rfl (lv_at hl 1 rfl) ?_
  refine lv_iconst (v := 0) hx hb dX2_cool_1 (by decide) ?_
  refine lv_iconst (v := 2) hx hb dX2_cool_2 (by decide) ?_
  obtain ⟨q2, g1, hf⟩ := ob_bind hf
  refine xc_z (xw_runS (As := [.int a1, .int 0, .int 2]) (rest := []) ⟨hx, hb, hml, hown, hts⟩ (wkX2_isIn l D dA E hE w a1 0 2 g1) (va_cwS 3 hts (lw_S q1538 q1539 q140 q1540) rfl rfl rfl cdX2_isIn.2 ⟨Nat.le_of_ble_eq_true rfl, Nat.le_of_ble_eq_true rfl⟩) hK hP hl.1 rfl rfl (Nat.le_of_ble_eq_true rfl) dX2_cool_3 ⟨Nat.zero_le _, Nat.zero_le _⟩) hS hD.2 (fun H locs zq2 hP hS => ?_)
  refine lv_if_ne (tgt := 11) hx hb dX2_cool_6 (by decide) (fun c3 => ?_) (fun c3 => ?_)
  · replace hf := ob_f hf c3
    refine lv_iconst (v := 0) hx hb dX2_cool_11 (by decide) ?_
    refine lv_istore_n (lv' := [(2, .int 0), (0, .ref (E 0)), (1, .int a1)]) hx hb dX2_cool_12 rfl hl (by decide) rfl (fun ls hl => ?_)
    refine lv_iconst (v := 1) hx hb dX2_cool_13 (by decide) ?_
    refine lv_istore_n (lv' := [(3, .int 1), (2, .int 0), (0, .ref (E 0)), (1, .int a1)]) hx hb dX2_cool_14 rfl hl (by decide) rfl (fun ls hl => ?_)
    obtain ⟨b7, hb7, hf⟩ := ob_bind hf
    obtain ⟨n7, hn7⟩ := lp_some hb7
    have kL15 : ∀ (n : Nat) (w4 : Mm) (v2_5 : Int32) (v3_6 : Int32), lpF (fun (q7 : Mm × Int32 × Int32) => M_cool_b15 q7.1 q7.2.1 q7.2.2) n (w4, v2_5, v3_6) = some b7 → (∀ (H : Heap) (locs : List Loc) (ls : Array Slot), va_P D clM (wl shM 19 dA E b7.1) H → va_S (AE 19 E) s.heap H locs → lv_has ls 5 [(0, .ref (E 0)), (1, .int a1), (2, .int b7.2)] → W p l e rmX2_cool s m args below meth c H locs 0 0 Q (F0 m 100 ls [])) → ∀ (H : Heap) (locs : List Loc) (ls : Array Slot), va_P D clM (wl shM 19 dA E w4) H → va_S (AE 19 E) s.heap H locs → lv_has ls 5 [(0, .ref (E 0)), (1, .int a1), (2, .int v2_5), (3, .int v3_6)] → W p l e rmX2_cool s m args below meth c H locs 0 0 Q (F0 m 15 ls []) := by
      intro n
      induction n with
      | zero =>
        intro w4 v2_5 v3_6 h
        cases h
      | succ n ih =>
        intro w4 v2_5 v3_6 h K7_0 H locs ls hP hS hl
        obtain ⟨r7, hf, h7a, h7b⟩ := lpF_step h
        replace hf : M_cool_b15 w4 v2_5 v3_6 = some r7 := hf
        unfold M_cool_b15 at hf
        refine lv_iload_n hx hb dX2_cool_15 rfl (lv_at hl 3 rfl) ?_
        refine lv_iconst (v := 1) hx hb dX2_cool_16 (by decide) ?_
        refine lv_aload_n hx hb dX2_cool_17 rfl (lv_at hl 0 rfl) ?_
        refine xr_get hx hb hts in_X2 hown hK hP 0 (by decide) rfl rfl 0 (by decide) (hts _ q1405) (fun _ h => h) rfl (v := .ref (E 1)) rfl dX2_cool_18 ?_
        refine lv_iconst (v := 0) hx hb dX2_cool_21 (by decide) ?_
        refine xr_iald hx hb hK hP 1 (by decide) rfl 0 rfl (j := 0) (vin_c (by decide)) (by decide) dX2_cool_22 ?_
        refine lv_ishl hx hb dX2_cool_23 ?_
        refine lv_icmp_ge (tgt := 100) hx hb dX2_cool_24 (by decide) (fun c8 => ?_) (fun c8 => ?_)
        · replace hf := ob_t hf c8
          obtain rfl := ob_s hf
          obtain rfl := h7b _ rfl
          exact K7_0 H locs ls hP hS (lv_sub hl [0, 1, 2] rfl)
        · replace hf := ob_f hf c8
          refine lv_iload_n hx hb dX2_cool_27 rfl (lv_at hl 3 rfl) ?_
          refine lv_aload_n hx hb dX2_cool_28 rfl (lv_at hl 0 rfl) ?_
          obtain ⟨q10, g9, hf⟩ := ob_bind hf
          refine xc_i (xw_run (As := []) (rest := [.int v3_6]) ⟨hx, hb, hml, hown, hts⟩ (k0 := 0) (wkX2_pawnedNow l D dA E hE w4 g9) (cwV 0 hts (lw_V q1860 q1862 qs115 q140 q1863) rfl rfl rfl cdX2_pawnedNow ⟨Nat.le_of_ble_eq_true rfl, Nat.le_of_ble_eq_true rfl⟩) hK hP (by decide) rfl rfl rfl hl.1 rfl rfl (Nat.le_of_ble_eq_true rfl) dX2_cool_29 ⟨Nat.zero_le _, Nat.zero_le _⟩) hS hD.2 (fun H locs hP hS => ?_)
          refine lv_iconst (v := (-1)) hx hb dX2_cool_32 (by decide) ?_
          refine lv_ixor hx hb dX2_cool_33 ?_
          refine lv_iand hx hb dX2_cool_34 ?_
          have kj94 : ∀ (v2_11 : Int32) (w12 : Mm) (H : Heap) (locs : List Loc) (ls : Array Slot), M_cool_j94 v3_6 w12 v2_11 = some r7 → va_P D clM (wl shM 19 dA E w12) H → va_S (AE 19 E) s.heap H locs → lv_has ls 5 [(0, .ref (E 0)), (1, .int a1), (2, .int v2_11), (3, .int v3_6)] → W p l e rmX2_cool s m args below meth c H locs 0 0 Q (F0 m 94 ls []) := by
            intro v2_11 w12 H locs ls hf hP hS hl
            unfold M_cool_j94 at hf
            obtain ⟨v3_13, ev3_13, hf⟩ := ob_bnd hf
            refine lv_iinc (v := v3_13) (lv' := [(3, .int v3_13), (0, .ref (E 0)), (1, .int a1), (2, .int v2_11)]) hx hb dX2_cool_94 hl (k := 3) rfl (by rw [ev3_13]; rfl) (by decide) rfl (fun ls hl => ?_)
            refine lv_goto (tgt := 15) hx hb dX2_cool_97 (by decide) ?_
            obtain rfl := ob_s hf
            exact ih _ _ _ (h7a _ rfl) K7_0 H locs ls hP hS (lv_sub hl [1, 2, 3, 0] rfl)
          refine lv_if_ne (tgt := 94) hx hb dX2_cool_35 (by decide) (fun c14 => ?_) (fun c14 => ?_)
          · replace hf := ob_f hf c14
            exact kj94 v2_5 w4 H locs ls hf hP hS (lv_sub hl [0, 1, 2, 3] rfl)
          · replace hf := ob_t hf c14
            refine lv_aload_n hx hb dX2_cool_38 rfl (lv_at hl 0 rfl) ?_
            refine lv_iload_n hx hb dX2_cool_39 rfl (lv_at hl 3 rfl) ?_
            obtain ⟨q16, g15, hf⟩ := ob_bind hf
            refine xc_i (xw_run (As := [.int v3_6]) (rest := []) ⟨hx, hb, hml, hown, hts⟩ (k0 := 0) (wkX2_duesOfAll l D dA E hE w4 v3_6 g15) (cwV 1 hts (lw_V q1895 q1897 qs118 q140 q1898) rfl rfl rfl cdX2_duesOfAll ⟨Nat.le_of_ble_eq_true rfl, Nat.le_of_ble_eq_true rfl⟩) hK hP (by decide) rfl rfl rfl hl.1 rfl rfl (Nat.le_of_ble_eq_true rfl) dX2_cool_40 ⟨Nat.zero_le _, Nat.zero_le _⟩) hS hD.2 (fun H locs hP hS => ?_)
            refine lv_aload_n hx hb dX2_cool_43 rfl (lv_at hl 0 rfl) ?_
            refine xr_get hx hb hts in_X2 hown hK hP 0 (by decide) rfl rfl 0 (by decide) (hts _ q1405) (fun _ h => h) rfl (v := .ref (E 1)) rfl dX2_cool_44 ?_
            refine lv_bipush (v := 9) hx hb dX2_cool_47 (by decide) ?_
            refine xr_iald hx hb hK hP 1 (by decide) rfl 0 rfl (j := 9) (vin_c (by decide)) (by decide) dX2_cool_49 ?_
            refine lv_icmp_le (tgt := 56) hx hb dX2_cool_50 (by decide) (fun c17 => ?_) (fun c17 => ?_)
            · replace hf := ob_t hf c17
              refine lv_aload_n hx hb dX2_cool_56 rfl (lv_at hl 0 rfl) ?_
              refine lv_iload_n hx hb dX2_cool_57 rfl (lv_at hl 3 rfl) ?_
              obtain ⟨q19, g18, hf⟩ := ob_bind hf
              refine xc_i (xw_run (As := [.int v3_6]) (rest := []) ⟨hx, hb, hml, hown, hts⟩ (k0 := 0) (wkX2_heatOfAll l D dA E hE q16.2 v3_6 g18) (cwV 1 hts (lw_V q1996 q1998 qs127 q140 q1999) rfl rfl rfl cdX2_heatOfAll ⟨Nat.le_of_ble_eq_true rfl, Nat.le_of_ble_eq_true rfl⟩) hK hP (by decide) rfl rfl rfl hl.1 rfl rfl (Nat.le_of_ble_eq_true rfl) dX2_cool_58 ⟨Nat.zero_le _, Nat.zero_le _⟩) hS hD.2 (fun H locs hP hS => ?_)
              refine lv_aload_n hx hb dX2_cool_61 rfl (lv_at hl 0 rfl) ?_
              refine lv_iload_n hx hb dX2_cool_62 rfl (lv_at hl 2 rfl) ?_
              obtain ⟨q21, g20, hf⟩ := ob_bind hf
              refine xc_i (xw_run (As := [.int v2_5]) (rest := [.int q19]) ⟨hx, hb, hml, hown, hts⟩ (k0 := 0) (wkX2_heatOfAll l D dA E hE q16.2 v2_5 g20) (cwV 1 hts (lw_V q1996 q1998 qs127 q140 q1999) rfl rfl rfl cdX2_heatOfAll ⟨Nat.le_of_ble_eq_true rfl, Nat.le_of_ble_eq_true rfl⟩) hK hP (by decide) rfl rfl rfl hl.1 rfl rfl (Nat.le_of_ble_eq_true rfl) dX2_cool_63 ⟨Nat.zero_le _, Nat.zero_le _⟩) hS hD.2 (fun H locs hP hS => ?_)
              refine lv_isub hx hb dX2_cool_66 ?_
              obtain ⟨v4_22, ev4_22, hf⟩ := ob_bnd hf
              refine xn_i ev4_22 ?_
              refine lv_istore (lv' := [(4, .int v4_22), (0, .ref (E 0)), (1, .int a1), (2, .int v2_5), (3, .int v3_6)]) hx hb dX2_cool_67 hl (by decide) rfl (fun ls hl => ?_)
              refine lv_iload hx hb dX2_cool_69 (lv_at hl 0 rfl) ?_
              refine lv_if_gt (tgt := 92) hx hb dX2_cool_71 (by decide) (fun c23 => ?_) (fun c23 => ?_)
              · replace hf := ob_t hf c23
                refine lv_iload_n hx hb dX2_cool_92 rfl (lv_at hl 4 rfl) ?_
                refine lv_istore_n (lv' := [(2, .int v3_6), (4, .int v4_22), (0, .ref (E 0)), (1, .int a1), (3, .int v3_6)]) hx hb dX2_cool_93 rfl hl (by decide) rfl (fun ls hl => ?_)
                exact kj94 v3_6 q16.2 H locs ls hf hP hS (lv_sub hl [2, 3, 0, 4] rfl)
              · replace hf := ob_f hf c23
                refine lv_iload hx hb dX2_cool_74 (lv_at hl 0 rfl) ?_
                refine lv_if_ne (tgt := 94) hx hb dX2_cool_76 (by decide) (fun c24 => ?_) (fun c24 => ?_)
                · replace hf := ob_f hf c24
                  exact kj94 v2_5 q16.2 H locs ls hf hP hS (lv_sub hl [1, 2, 3, 4] rfl)
                · replace hf := ob_t hf c24
                  refine lv_aload_n hx hb dX2_cool_79 rfl (lv_at hl 1 rfl) ?_
                  refine lv_iload_n hx hb dX2_cool_80 rfl (lv_at hl 4 rfl) ?_
                  obtain ⟨q26, g25, hf⟩ := ob_bind hf
                  refine xc_i (xw_run (As := [.int v3_6]) (rest := []) ⟨hx, hb, hml, hown, hts⟩ (k0 := 0) (wkX2_duesOfAll l D dA E hE q16.2 v3_6 g25) (cwV 1 hts (lw_V q1895 q1897 qs118 q140 q1898) rfl rfl rfl cdX2_duesOfAll ⟨Nat.le_of_ble_eq_true rfl, Nat.le_of_ble_eq_true rfl⟩) hK hP (by decide) rfl rfl rfl hl.1 rfl rfl (Nat.le_of_ble_eq_true rfl) dX2_cool_81 ⟨Nat.zero_le _, Nat.zero_le _⟩) hS hD.2 (fun H locs hP hS => ?_)
                  refine lv_aload_n hx hb dX2_cool_84 rfl (lv_at hl 1 rfl) ?_
                  refine lv_iload_n hx hb dX2_cool_85 rfl (lv_at hl 3 rfl) ?_
                  obtain ⟨q28, g27, hf⟩ := ob_bind hf
                  refine xc_i (xw_run (As := [.int v2_5]) (rest := [.int q26.1]) ⟨hx, hb, hml, hown, hts⟩ (k0 := 0) (wkX2_duesOfAll l D dA E hE q26.2 v2_5 g27) (cwV 1 hts (lw_V q1895 q1897 qs118 q140 q1898) rfl rfl rfl cdX2_duesOfAll ⟨Nat.le_of_ble_eq_true rfl, Nat.le_of_ble_eq_true rfl⟩) hK hP (by decide) rfl rfl rfl hl.1 rfl rfl (Nat.le_of_ble_eq_true rfl) dX2_cool_86 ⟨Nat.zero_le _, Nat.zero_le _⟩) hS hD.2 (fun H locs hP hS => ?_)
                  refine lv_icmp_ge (tgt := 94) hx hb dX2_cool_89 (by decide) (fun c29 => ?_) (fun c29 => ?_)
                  · replace hf := ob_t hf c29
                    exact kj94 v2_5 q28.2 H locs ls hf hP hS (lv_sub hl [1, 2, 3, 4] rfl)
                  · replace hf := ob_f hf c29
                    refine lv_iload_n hx hb dX2_cool_92 rfl (lv_at hl 4 rfl) ?_
                    refine lv_istore_n (lv' := [(2, .int v3_6), (4, .int v4_22), (0, .ref (E 0)), (1, .int a1), (3, .int v3_6)]) hx hb dX2_cool_93 rfl hl (by decide) rfl (fun ls hl => ?_)
                    exact kj94 v3_6 q28.2 H locs ls hf hP hS (lv_sub hl [2, 3, 0, 4] rfl)
            · replace hf := ob_f hf c17
              refine lv_goto (tgt := 94) hx hb dX2_cool_53 (by decide) ?_
              exact kj94 v2_5 q16.2 H locs ls hf hP hS (lv_sub hl [0, 1, 2, 3] rfl)
    refine kL15 n7 w 0 1 hn7 (fun H locs ls hP hS hl => ?_) H locs ls hP hS (lv_sub hl [2, 3, 1, 0] rfl)
    replace hf : M_cool_x15_100 a1 b7 = some res := hf
    unfold M_cool_x15_100 at hf
    refine lv_iload_n hx hb dX2_cool_100 rfl (lv_at hl 1 rfl) ?_
    refine lv_if_ne (tgt := 108) hx hb dX2_cool_101 (by decide) (fun c30 => ?_) (fun c30 => ?_)
    · replace hf := ob_f hf c30
      refine lv_iload_n hx hb dX2_cool_108 rfl (lv_at hl 1 rfl) ?_
      refine lv_iconst (v := 1) hx hb dX2_cool_109 (by decide) ?_
      refine lv_icmp_ne (tgt := 121) hx hb dX2_cool_110 (by decide) (fun c31 => ?_) (fun c31 => ?_)
      · replace hf := ob_f hf c31
        refine lv_aload_n hx hb dX2_cool_121 rfl (lv_at hl 0 rfl) ?_
        refine lv_iload_n hx hb dX2_cool_122 rfl (lv_at hl 2 rfl) ?_
        obtain ⟨q33, g32, hf⟩ := ob_bind hf
        refine xc_i (xw_run (As := [.int b7.2]) (rest := []) ⟨hx, hb, hml, hown, hts⟩ (k0 := 0) (wkX2_duesOfAll l D dA E hE b7.1 b7.2 g32) (cwV 1 hts (lw_V q1895 q1897 qs118 q140 q1898) rfl rfl rfl cdX2_duesOfAll ⟨Nat.le_of_ble_eq_true rfl, Nat.le_of_ble_eq_true rfl⟩) hK hP (by decide) rfl rfl rfl hl.1 rfl rfl (Nat.le_of_ble_eq_true rfl) dX2_cool_123 ⟨Nat.zero_le _, Nat.zero_le _⟩) hS hD.2 (fun H locs hP hS => ?_)
        obtain rfl := ob_s hf
        subst hQ
        exact xe_i hx hb hr hlocks hP hS dX2_cool_126
      · replace hf := ob_t hf c31
        refine lv_aload_n hx hb dX2_cool_113 rfl (lv_at hl 0 rfl) ?_
        refine lv_iload_n hx hb dX2_cool_114 rfl (lv_at hl 2 rfl) ?_
        obtain ⟨q35, g34, hf⟩ := ob_bind hf
        refine xc_i (xw_run (As := [.int b7.2]) (rest := []) ⟨hx, hb, hml, hown, hts⟩ (k0 := 0) (wkX2_heatOfAll l D dA E hE b7.1 b7.2 g34) (cwV 1 hts (lw_V q1996 q1998 qs127 q140 q1999) rfl rfl rfl cdX2_heatOfAll ⟨Nat.le_of_ble_eq_true rfl, Nat.le_of_ble_eq_true rfl⟩) hK hP (by decide) rfl rfl rfl hl.1 rfl rfl (Nat.le_of_ble_eq_true rfl) dX2_cool_115 ⟨Nat.zero_le _, Nat.zero_le _⟩) hS hD.2 (fun H locs hP hS => ?_)
        refine lv_goto (tgt := 126) hx hb dX2_cool_118 (by decide) ?_
        obtain rfl := ob_s hf
        subst hQ
        exact xe_i hx hb hr hlocks hP hS dX2_cool_126
    · replace hf := ob_t hf c30
      refine lv_iload_n hx hb dX2_cool_104 rfl (lv_at hl 2 rfl) ?_
      refine lv_goto (tgt := 126) hx hb dX2_cool_105 (by decide) ?_
      obtain rfl := ob_s hf
      subst hQ
      exact xe_i hx hb hr hlocks hP hS dX2_cool_126
  · replace hf := ob_t hf c3
    refine lv_iconst (v := (-1)) hx hb dX2_cool_9 (by decide) ?_
    obtain rfl := ob_s hf
    subst hQ
    exact xe_i hx hb hr hlocks hP hS dX2_cool_10
