/-! QuarrelsPawnedModel: its methods walked (printed by gen.py) -/
abbrev rmX2_factorial : Room := { frames := 0, cells := 0, slots := 0, locals := 0 }
theorem cdX2_factorial : yX2_factorial.cls = RX2 ∧ yX2_factorial.cls ≠ "java/lang/invoke/MethodHandle" ∧ yX2_factorial.cls ≠ "java/lang/invoke/VarHandle" ∧ (parseMethodDescriptor yX2_factorial.desc).map (fun d => d.parameters.length) = some 1 := by decide +kernel
set_option maxHeartbeats 4000000 in
set_option maxRecDepth 100000 in
theorem wkX2_factorial (l : Launch) (D : va_G) (dA : Nat → ClassId) (E : Nat → Nat) (hE : wInj 19 E) (w : Mm) (a0 : Int32) {res : Int32} (hf : M_factorial a0 = some res) : Met l yX2_factorial (ws_ yX2_factorial cX2_factorial 3 (some .int)) rmX2_factorial (Pw D clM (tyM dA) shM 19 dA E [.int a0] w) (Qwi D clM shM 19 dA E res w) 0 0 (AE 19 E) := by
  refine xm_head (own := RX2) (by decide) rfl (Nat.le_of_ble_eq_true rfl) ?_
  intro p e s m args below meth c ls Q hQ C hP hl
  obtain ⟨hx, hb, hr, hlocks, hml, hown, hts, hK⟩ := C
  replace hl : lv_has ls 3 [(0, .int a0)] := hl
  have hS : va_S (AE 19 E) s.heap s.heap [] := va_S.rf
  have hD : wD 19 E (AE 19 E) := wD.self hE
  unfold M_factorial at hf
  obtain ⟨H, eH⟩ : ∃ H, H = s.heap := ⟨_, rfl⟩
  obtain ⟨locs, eL⟩ : ∃ locs : List Loc, locs = [] := ⟨_, rfl⟩
  rw [← eL] at hS ⊢
  rw [← eH] at hP
  have hS : va_S (AE 19 E) s.heap H locs := by rw [eH]; exact hS
  show W p l e rmX2_factorial s m args below meth c s.heap locs 0 0 Q (F0 m 0 ls [])
  rw [← eH]
  refine lv_iconst (v := 1) hx hb dX2_factorial_0 (by decide) ?_
  refine lv_istore_n (lv' := [(1, .int 1), (0, .int a0)]) hx hb dX2_factorial_1 rfl hl (by decide) rfl (fun ls hl => ?_)
  refine lv_iconst (v := 2) hx hb dX2_factorial_2 (by decide) ?_
  refine lv_istore_n (lv' := [(2, .int 2), (1, .int 1), (0, .int a0)]) hx hb dX2_factorial_3 rfl hl (by decide) rfl (fun ls hl => ?_)
  obtain ⟨b3, hb3, hf⟩ := ob_bind hf
  obtain ⟨n3, hn3⟩ := lp_some hb3
  have kL4 : ∀ (n : Nat) (v1_1 : Int32) (v2_2 : Int32), lpF (fun (q3 : Int32 × Int32) => M_factorial_b4 a0 q3.1 q3.2) n (v1_1, v2_2) = some b3 → (∀ (H : Heap) (locs : List Loc) (ls : Array Slot), va_P D clM (wl shM 19 dA E w) H → va_S (AE 19 E) s.heap H locs → lv_has ls 3 [(1, .int b3)] → W p l e rmX2_factorial s m args below meth c H locs 0 0 Q (F0 m 19 ls [])) → ∀ (H : Heap) (locs : List Loc) (ls : Array Slot), va_P D clM (wl shM 19 dA E w) H → va_S (AE 19 E) s.heap H locs → lv_has ls 3 [(0, .int a0), (1, .int v1_1), (2, .int v2_2)] → W p l e rmX2_factorial s m args below meth c H locs 0 0 Q (F0 m 4 ls []) := by
    intro n
    induction n with
    | zero =>
      intro v1_1 v2_2 h
      cases h
    | succ n ih =>
      intro v1_1 v2_2 h K3_0 H locs ls hP hS hl
      obtain ⟨r3, hf, h3a, h3b⟩ := lpF_step h
      replace hf : M_factorial_b4 a0 v1_1 v2_2 = some r3 := hf
      unfold M_factorial_b4 at hf
      refine lv_iload_n hx hb dX2_factorial_4 rfl (lv_at hl 2 rfl) ?_
      refine lv_iload_n hx hb dX2_factorial_5 rfl (lv_at hl 0 rfl) ?_
      refine lv_icmp_gt (tgt := 19) hx hb dX2_factorial_6 (by decide) (fun c4 => ?_) (fun c4 => ?_)
      · replace hf := ob_t hf c4
        obtain rfl := ob_s hf
        obtain rfl := h3b _ rfl
        exact K3_0 H locs ls hP hS (lv_sub hl [1] rfl)
      · replace hf := ob_f hf c4
        refine lv_iload_n hx hb dX2_factorial_9 rfl (lv_at hl 1 rfl) ?_
        refine lv_iload_n hx hb dX2_factorial_10 rfl (lv_at hl 2 rfl) ?_
        refine lv_imul hx hb dX2_factorial_11 ?_
        obtain ⟨v1_5, ev1_5, hf⟩ := ob_bnd hf
        refine xn_i ev1_5 ?_
        refine lv_istore_n (lv' := [(1, .int v1_5), (0, .int a0), (2, .int v2_2)]) hx hb dX2_factorial_12 rfl hl (by decide) rfl (fun ls hl => ?_)
        obtain ⟨v2_6, ev2_6, hf⟩ := ob_bnd hf
        refine lv_iinc (v := v2_6) (lv' := [(2, .int v2_6), (1, .int v1_5), (0, .int a0)]) hx hb dX2_factorial_13 hl (k := 2) rfl (by rw [ev2_6]; rfl) (by decide) rfl (fun ls hl => ?_)
        refine lv_goto (tgt := 4) hx hb dX2_factorial_16 (by decide) ?_
        obtain rfl := ob_s hf
        exact ih _ _ (h3a _ rfl) K3_0 H locs ls hP hS (lv_sub hl [2, 1, 0] rfl)
  refine kL4 n3 1 2 hn3 (fun H locs ls hP hS hl => ?_) H locs ls hP hS (lv_sub hl [2, 1, 0] rfl)
  replace hf : M_factorial_x4_19 b3 = some res := hf
  unfold M_factorial_x4_19 at hf
  refine lv_iload_n hx hb dX2_factorial_19 rfl (lv_at hl 0 rfl) ?_
  obtain rfl := ob_s hf
  subst hQ
  exact xe_i hx hb hr hlocks hP hS dX2_factorial_20
abbrev rmX2_layOrder : Room := { frames := 1, cells := 0, slots := 0, locals := 22 }
theorem cdX2_layOrder : yX2_layOrder.cls = RX2 ∧ yX2_layOrder.cls ≠ "java/lang/invoke/MethodHandle" ∧ yX2_layOrder.cls ≠ "java/lang/invoke/VarHandle" ∧ (parseMethodDescriptor yX2_layOrder.desc).map (fun d => d.parameters.length) = some 3 := by decide +kernel
set_option maxHeartbeats 4000000 in
set_option maxRecDepth 100000 in
theorem wkX2_layOrder (l : Launch) (D : va_G) (dA : Nat → ClassId) (E : Nat → Nat) (hE : wInj 19 E) (w : Mm) (a1 : Int32) (a2 : Int32) (a3 : Int32) {res : Mm} (hf : M_layOrder w a1 a2 a3 = some res) : Met l yX2_layOrder (ws_ yX2_layOrder cX2_layOrder 9 (none)) rmX2_layOrder (Pw D clM (tyM dA) shM 19 dA E [.ref (E 0), .int a1, .int a2, .int a3] w) (Qwv D clM shM 19 dA E res) 0 0 (AE 19 E) := by
  refine xm_head (own := RX2) (by decide) rfl (Nat.le_of_ble_eq_true rfl) ?_
  intro p e s m args below meth c ls Q hQ C hP hl
  obtain ⟨hx, hb, hr, hlocks, hml, hown, hts, hK⟩ := C
  replace hl : lv_has ls 9 [(0, .ref (E 0)), (1, .int a1), (2, .int a2), (3, .int a3)] := hl
  have hS : va_S (AE 19 E) s.heap s.heap [] := va_S.rf
  have hD : wD 19 E (AE 19 E) := wD.self hE
  unfold M_layOrder at hf
  obtain ⟨H, eH⟩ : ∃ H, H = s.heap := ⟨_, rfl⟩
  obtain ⟨locs, eL⟩ : ∃ locs : List Loc, locs = [] := ⟨_, rfl⟩
  rw [← eL] at hS ⊢
  rw [← eH] at hP
  have hS : va_S (AE 19 E) s.heap H locs := by rw [eH]; exact hS
  show W p l e rmX2_layOrder s m args below meth c s.heap locs 0 0 Q (F0 m 0 ls [])
  rw [← eH]
  refine lv_iload_n hx hb dX2_layOrder_0 rfl (lv_at hl 2 rfl) ?_
  refine lv_istore (lv' := [(4, .int a2), (0, .ref (E 0)), (1, .int a1), (2, .int a2), (3, .int a3)]) hx hb dX2_layOrder_1 hl (by decide) rfl (fun ls hl => ?_)
  refine lv_iconst (v := 0) hx hb dX2_layOrder_3 (by decide) ?_
  refine lv_istore (lv' := [(5, .int 0), (4, .int a2), (0, .ref (E 0)), (1, .int a1), (2, .int a2), (3, .int a3)]) hx hb dX2_layOrder_4 hl (by decide) rfl (fun ls hl => ?_)
  refine lv_iconst (v := 0) hx hb dX2_layOrder_6 (by decide) ?_
  refine lv_istore (lv' := [(6, .int 0), (5, .int 0), (4, .int a2), (0, .ref (E 0)), (1, .int a1), (2, .int a2), (3, .int a3)]) hx hb dX2_layOrder_7 hl (by decide) rfl (fun ls hl => ?_)
  obtain ⟨b5, hb5, hf⟩ := ob_bind hf
  obtain ⟨n5, hn5⟩ := lp_some hb5
  have kL9 : ∀ (n : Nat) (w1 : Mm) (v4_2 : Int32) (v5_3 : Int32) (v6_4 : Int32), lpF (fun (q5 : Mm × Int32 × Int32 × Int32) => M_layOrder_b9 a3 a1 q5.1 q5.2.1 q5.2.2.1 q5.2.2.2) n (w1, v4_2, v5_3, v6_4) = some b5 → (∀ (H : Heap) (locs : List Loc) (ls : Array Slot), va_P D clM (wl shM 19 dA E b5) H → va_S (AE 19 E) s.heap H locs → lv_has ls 9 [] → W p l e rmX2_layOrder s m args below meth c H locs 0 0 Q (F0 m 119 ls [])) → ∀ (H : Heap) (locs : List Loc) (ls : Array Slot), va_P D clM (wl shM 19 dA E w1) H → va_S (AE 19 E) s.heap H locs → lv_has ls 9 [(0, .ref (E 0)), (1, .int a1), (3, .int a3), (4, .int v4_2), (5, .int v5_3), (6, .int v6_4)] → W p l e rmX2_layOrder s m args below meth c H locs 0 0 Q (F0 m 9 ls []) := by
    intro n
    induction n with
    | zero =>
      intro w1 v4_2 v5_3 v6_4 h
      cases h
    | succ n ih =>
      intro w1 v4_2 v5_3 v6_4 h K5_0 H locs ls hP hS hl
      obtain ⟨r5, hf, h5a, h5b⟩ := lpF_step h
      replace hf : M_layOrder_b9 a3 a1 w1 v4_2 v5_3 v6_4 = some r5 := hf
      unfold M_layOrder_b9 at hf
      refine lv_iload hx hb dX2_layOrder_9 (lv_at hl 5 rfl) ?_
      refine lv_iload_n hx hb dX2_layOrder_11 rfl (lv_at hl 2 rfl) ?_
      refine lv_icmp_ge (tgt := 119) hx hb dX2_layOrder_12 (by decide) (fun c6 => ?_) (fun c6 => ?_)
      · replace hf := ob_t hf c6
        obtain rfl := ob_s hf
        obtain rfl := h5b _ rfl
        exact K5_0 H locs ls hP hS (lv_sub hl [] rfl)
      · replace hf := ob_f hf c6
        refine lv_iload hx hb dX2_layOrder_15 (lv_at hl 3 rfl) ?_
        refine lv_iload_n hx hb dX2_layOrder_17 rfl (lv_at hl 2 rfl) ?_
        refine lv_iconst (v := 1) hx hb dX2_layOrder_18 (by decide) ?_
        refine lv_isub hx hb dX2_layOrder_19 ?_
        refine lv_iload hx hb dX2_layOrder_20 (lv_at hl 5 rfl) ?_
        refine lv_isub hx hb dX2_layOrder_22 ?_
        obtain ⟨q8, g7, hf⟩ := ob_bind hf
        refine xc_i (xw_runS (As := [.int ((a3 - 1) - v6_4)]) (rest := [.int v4_2]) ⟨hx, hb, hml, hown, hts⟩ (wkX2_factorial l D dA E hE w1 ((a3 - 1) - v6_4) g7) (va_cwS 1 hts (lw_S q2008 q2009 q140 q2010) rfl rfl rfl cdX2_factorial.2 ⟨Nat.le_of_ble_eq_true rfl, Nat.le_of_ble_eq_true rfl⟩) hK hP hl.1 rfl rfl (Nat.le_of_ble_eq_true rfl) dX2_layOrder_23 ⟨Nat.zero_le _, Nat.zero_le _⟩) hS hD.2 (fun H locs hP hS => ?_)
        obtain ⟨h9, hf⟩ := ob_gz hf
        refine lv_idiv hx hb dX2_layOrder_26 h9 ?_
        obtain ⟨v7_10, ev7_10, hf⟩ := ob_bnd hf
        refine xn_i ev7_10 ?_
        refine lv_istore (lv' := [(7, .int v7_10), (0, .ref (E 0)), (1, .int a1), (3, .int a3), (4, .int v4_2), (5, .int v5_3), (6, .int v6_4)]) hx hb dX2_layOrder_27 hl (by decide) rfl (fun ls hl => ?_)
        refine lv_iload hx hb dX2_layOrder_29 (lv_at hl 4 rfl) ?_
        refine lv_iload_n hx hb dX2_layOrder_31 rfl (lv_at hl 3 rfl) ?_
        refine lv_iconst (v := 1) hx hb dX2_layOrder_32 (by decide) ?_
        refine lv_isub hx hb dX2_layOrder_33 ?_
        refine lv_iload hx hb dX2_layOrder_34 (lv_at hl 6 rfl) ?_
        refine lv_isub hx hb dX2_layOrder_36 ?_
        obtain ⟨q12, g11, hf⟩ := ob_bind hf
        refine xc_i (xw_runS (As := [.int ((a3 - 1) - v6_4)]) (rest := [.int v4_2]) ⟨hx, hb, hml, hown, hts⟩ (wkX2_factorial l D dA E hE w1 ((a3 - 1) - v6_4) g11) (va_cwS 1 hts (lw_S q2008 q2009 q140 q2010) rfl rfl rfl cdX2_factorial.2 ⟨Nat.le_of_ble_eq_true rfl, Nat.le_of_ble_eq_true rfl⟩) hK hP hl.1 rfl rfl (Nat.le_of_ble_eq_true rfl) dX2_layOrder_37 ⟨Nat.zero_le _, Nat.zero_le _⟩) hS hD.2 (fun H locs hP hS => ?_)
        obtain ⟨h13, hf⟩ := ob_gz hf
        refine xr_irem hx hb dX2_layOrder_40 h13 ?_
        obtain ⟨v4_14, ev4_14, hf⟩ := ob_bnd hf
        refine xn_i ev4_14 ?_
        refine lv_istore (lv' := [(4, .int v4_14), (7, .int v7_10), (0, .ref (E 0)), (1, .int a1), (3, .int a3), (5, .int v5_3), (6, .int v6_4)]) hx hb dX2_layOrder_41 hl (by decide) rfl (fun ls hl => ?_)
        refine lv_iconst (v := 0) hx hb dX2_layOrder_43 (by decide) ?_
        refine lv_istore (lv' := [(8, .int 0), (4, .int v4_14), (7, .int v7_10), (0, .ref (E 0)), (1, .int a1), (3, .int a3), (5, .int v5_3), (6, .int v6_4)]) hx hb dX2_layOrder_44 hl (by decide) rfl (fun ls hl => ?_)
        obtain ⟨b17, hb17, hf⟩ := ob_bind hf
        obtain ⟨n17, hn17⟩ := lp_some hb17
        have kL46 : ∀ (n : Nat) (v7_15 : Int32) (v8_16 : Int32), lpF (fun (q17 : Int32 × Int32) => M_layOrder_b46 a1 v5_3 q17.1 q17.2) n (v7_15, v8_16) = some b17 → (∀ (H : Heap) (locs : List Loc) (ls : Array Slot), va_P D clM (wl shM 19 dA E w1) H → va_S (AE 19 E) s.heap H locs → lv_has ls 9 [(0, .ref (E 0)), (1, .int a1), (3, .int a3), (4, .int v4_14), (5, .int v5_3), (6, .int v6_4), (8, .int b17)] → W p l e rmX2_layOrder s m args below meth c H locs 0 0 Q (F0 m 95 ls [])) → ∀ (H : Heap) (locs : List Loc) (ls : Array Slot), va_P D clM (wl shM 19 dA E w1) H → va_S (AE 19 E) s.heap H locs → lv_has ls 9 [(0, .ref (E 0)), (1, .int a1), (3, .int a3), (4, .int v4_14), (5, .int v5_3), (6, .int v6_4), (7, .int v7_15), (8, .int v8_16)] → W p l e rmX2_layOrder s m args below meth c H locs 0 0 Q (F0 m 46 ls []) := by
          intro n
          induction n with
          | zero =>
            intro v7_15 v8_16 h
            cases h
          | succ n ih =>
            intro v7_15 v8_16 h K17_0 H locs ls hP hS hl
            obtain ⟨r17, hf, h17a, h17b⟩ := lpF_step h
            replace hf : M_layOrder_b46 a1 v5_3 v7_15 v8_16 = some r17 := hf
            unfold M_layOrder_b46 at hf
            refine lv_iload_n hx hb dX2_layOrder_46 rfl (lv_at hl 1 rfl) ?_
            refine lv_iload hx hb dX2_layOrder_47 (lv_at hl 4 rfl) ?_
            refine lv_iconst (v := (-1)) hx hb dX2_layOrder_49 (by decide) ?_
            refine lv_ixor hx hb dX2_layOrder_50 ?_
            refine lv_iand hx hb dX2_layOrder_51 ?_
            refine lv_iload hx hb dX2_layOrder_52 (lv_at hl 7 rfl) ?_
            obtain ⟨q19, g18, hf⟩ := ob_bind hf
            refine xc_z (xw_runS (As := [.int (a1 &&& (v5_3 ^^^ (-1))), .int v8_16]) (rest := []) ⟨hx, hb, hml, hown, hts⟩ (wkX2_has l D dA E hE w1 (a1 &&& (v5_3 ^^^ (-1))) v8_16 g18) (va_cwS 2 hts (lw_S q1623 q1624 q140 q1625) rfl rfl rfl cdX2_has.2 ⟨Nat.le_of_ble_eq_true rfl, Nat.le_of_ble_eq_true rfl⟩) hK hP hl.1 rfl rfl (Nat.le_of_ble_eq_true rfl) dX2_layOrder_54 ⟨Nat.zero_le _, Nat.zero_le _⟩) hS hD.2 (fun H locs zq19 hP hS => ?_)
            have kj65 : ∀ (H : Heap) (locs : List Loc) (ls : Array Slot), M_layOrder_j65 a1 v5_3 v8_16 v7_15 = some r17 → va_P D clM (wl shM 19 dA E w1) H → va_S (AE 19 E) s.heap H locs → lv_has ls 9 [(0, .ref (E 0)), (1, .int a1), (3, .int a3), (4, .int v4_14), (5, .int v5_3), (6, .int v6_4), (7, .int v7_15), (8, .int v8_16)] → W p l e rmX2_layOrder s m args below meth c H locs 0 0 Q (F0 m 65 ls []) := by
              intro H locs ls hf hP hS hl
              unfold M_layOrder_j65 at hf
              refine lv_iload hx hb dX2_layOrder_65 (lv_at hl 6 rfl) ?_
              refine lv_iload_n hx hb dX2_layOrder_67 rfl (lv_at hl 1 rfl) ?_
              refine lv_iload hx hb dX2_layOrder_68 (lv_at hl 4 rfl) ?_
              refine lv_iconst (v := (-1)) hx hb dX2_layOrder_70 (by decide) ?_
              refine lv_ixor hx hb dX2_layOrder_71 ?_
              refine lv_iand hx hb dX2_layOrder_72 ?_
              refine lv_iload hx hb dX2_layOrder_73 (lv_at hl 7 rfl) ?_
              obtain ⟨q21, g20, hf⟩ := ob_bind hf
              refine xc_z (xw_runS (As := [.int (a1 &&& (v5_3 ^^^ (-1))), .int v8_16]) (rest := [.int v7_15]) ⟨hx, hb, hml, hown, hts⟩ (wkX2_has l D dA E hE w1 (a1 &&& (v5_3 ^^^ (-1))) v8_16 g20) (va_cwS 2 hts (lw_S q1623 q1624 q140 q1625) rfl rfl rfl cdX2_has.2 ⟨Nat.le_of_ble_eq_true rfl, Nat.le_of_ble_eq_true rfl⟩) hK hP hl.1 rfl rfl (Nat.le_of_ble_eq_true rfl) dX2_layOrder_75 ⟨Nat.zero_le _, Nat.zero_le _⟩) hS hD.2 (fun H locs zq21 hP hS => ?_)
              refine lv_if_eq (tgt := 85) hx hb dX2_layOrder_78 (by decide) (fun c22 => ?_) (fun c22 => ?_)
              · replace hf := ob_t hf c22
                refine lv_iconst (v := 0) hx hb dX2_layOrder_85 (by decide) ?_
                refine lv_isub hx hb dX2_layOrder_86 ?_
                obtain ⟨v7_23, ev7_23, hf⟩ := ob_bnd hf
                refine xn_i ev7_23 ?_
                refine lv_istore (lv' := [(7, .int v7_23), (0, .ref (E 0)), (1, .int a1), (3, .int a3), (4, .int v4_14), (5, .int v5_3), (6, .int v6_4), (8, .int v8_16)]) hx hb dX2_layOrder_87 hl (by decide) rfl (fun ls hl => ?_)
                obtain ⟨v8_24, ev8_24, hf⟩ := ob_bnd hf
                refine lv_iinc (v := v8_24) (lv' := [(8, .int v8_24), (7, .int v7_23), (0, .ref (E 0)), (1, .int a1), (3, .int a3), (4, .int v4_14), (5, .int v5_3), (6, .int v6_4)]) hx hb dX2_layOrder_89 hl (k := 7) rfl (by rw [ev8_24]; rfl) (by decide) rfl (fun ls hl => ?_)
                refine lv_goto (tgt := 46) hx hb dX2_layOrder_92 (by decide) ?_
                obtain rfl := ob_s hf
                exact ih _ _ (h17a _ rfl) K17_0 H locs ls hP hS (lv_sub hl [2, 3, 4, 5, 6, 7, 1, 0] rfl)
              · replace hf := ob_f hf c22
                refine lv_iconst (v := 1) hx hb dX2_layOrder_81 (by decide) ?_
                refine lv_goto (tgt := 86) hx hb dX2_layOrder_82 (by decide) ?_
                refine lv_isub hx hb dX2_layOrder_86 ?_
                obtain ⟨v7_25, ev7_25, hf⟩ := ob_bnd hf
                refine xn_i ev7_25 ?_
                refine lv_istore (lv' := [(7, .int v7_25), (0, .ref (E 0)), (1, .int a1), (3, .int a3), (4, .int v4_14), (5, .int v5_3), (6, .int v6_4), (8, .int v8_16)]) hx hb dX2_layOrder_87 hl (by decide) rfl (fun ls hl => ?_)
                obtain ⟨v8_26, ev8_26, hf⟩ := ob_bnd hf
                refine lv_iinc (v := v8_26) (lv' := [(8, .int v8_26), (7, .int v7_25), (0, .ref (E 0)), (1, .int a1), (3, .int a3), (4, .int v4_14), (5, .int v5_3), (6, .int v6_4)]) hx hb dX2_layOrder_89 hl (k := 7) rfl (by rw [ev8_26]; rfl) (by decide) rfl (fun ls hl => ?_)
                refine lv_goto (tgt := 46) hx hb dX2_layOrder_92 (by decide) ?_
                obtain rfl := ob_s hf
                exact ih _ _ (h17a _ rfl) K17_0 H locs ls hP hS (lv_sub hl [2, 3, 4, 5, 6, 7, 1, 0] rfl)
            refine lv_if_eq (tgt := 65) hx hb dX2_layOrder_57 (by decide) (fun c27 => ?_) (fun c27 => ?_)
            · replace hf := ob_t hf c27
              exact kj65 H locs ls hf hP hS (lv_sub hl [0, 1, 2, 3, 4, 5, 6, 7] rfl)
            · replace hf := ob_f hf c27
              refine lv_iload hx hb dX2_layOrder_60 (lv_at hl 6 rfl) ?_
              refine lv_if_le (tgt := 95) hx hb dX2_layOrder_62 (by decide) (fun c28 => ?_) (fun c28 => ?_)
              · replace hf := ob_t hf c28
                obtain rfl := ob_s hf
                obtain rfl := h17b _ rfl
                exact K17_0 H locs ls hP hS (lv_sub hl [0, 1, 2, 3, 4, 5, 7] rfl)
              · replace hf := ob_f hf c28
                exact kj65 H locs ls hf hP hS (lv_sub hl [0, 1, 2, 3, 4, 5, 6, 7] rfl)
        refine kL46 n17 v7_10 0 hn17 (fun H locs ls hP hS hl => ?_) H locs ls hP hS (lv_sub hl [3, 4, 5, 1, 6, 7, 2, 0] rfl)
        replace hf : M_layOrder_x46_95 v5_3 b17 v6_4 w1 v4_14 = some r5 := hf
        unfold M_layOrder_x46_95 at hf
        refine lv_iload hx hb dX2_layOrder_95 (lv_at hl 4 rfl) ?_
        refine lv_iconst (v := 1) hx hb dX2_layOrder_97 (by decide) ?_
        refine lv_iload hx hb dX2_layOrder_98 (lv_at hl 6 rfl) ?_
        refine lv_ishl hx hb dX2_layOrder_100 ?_
        refine lv_ior hx hb dX2_layOrder_101 ?_
        obtain ⟨v5_29, ev5_29, hf⟩ := ob_bnd hf
        refine xn_i ev5_29 ?_
        refine lv_istore (lv' := [(5, .int v5_29), (0, .ref (E 0)), (1, .int a1), (3, .int a3), (4, .int v4_14), (6, .int v6_4), (8, .int b17)]) hx hb dX2_layOrder_102 hl (by decide) rfl (fun ls hl => ?_)
        refine lv_aload_n hx hb dX2_layOrder_104 rfl (lv_at hl 1 rfl) ?_
        refine xr_get hx hb hts in_X2 hown hK hP 0 (by decide) rfl rfl 28 (by decide) (hts _ q1433) (fun _ h => h) rfl (v := .ref (E 12)) rfl dX2_layOrder_105 ?_
        refine lv_iload hx hb dX2_layOrder_108 (lv_at hl 5 rfl) ?_
        refine lv_iload hx hb dX2_layOrder_110 (lv_at hl 6 rfl) ?_
        obtain ⟨h30, hf⟩ := ob_gd hf
        obtain ⟨w31, ew31, hf⟩ := ob_bnd hf
        refine xr_iast hx hb hK hP hD hS 12 (by decide) rfl 0 rfl (j := v6_4.toNatClampNeg) (w' := w31) h30 rfl ew31 dX2_layOrder_112 (fun H locs hP hS => ?_)
        obtain ⟨v6_32, ev6_32, hf⟩ := ob_bnd hf
        refine lv_iinc (v := v6_32) (lv' := [(6, .int v6_32), (5, .int v5_29), (0, .ref (E 0)), (1, .int a1), (3, .int a3), (4, .int v4_14), (8, .int b17)]) hx hb dX2_layOrder_113 hl (k := 5) rfl (by rw [ev6_32]; rfl) (by decide) rfl (fun ls hl => ?_)
        refine lv_goto (tgt := 9) hx hb dX2_layOrder_116 (by decide) ?_
        obtain rfl := ob_s hf
        exact ih _ _ _ _ (h5a _ rfl) K5_0 H locs ls hP hS (lv_sub hl [2, 3, 4, 5, 1, 0] rfl)
  refine kL9 n5 w a2 0 0 hn5 (fun H locs ls hP hS hl => ?_) H locs ls hP hS (lv_sub hl [3, 4, 6, 2, 1, 0] rfl)
  replace hf : M_layOrder_x9_119 b5 = some res := hf
  unfold M_layOrder_x9_119 at hf
  obtain rfl := ob_s hf
  subst hQ
  exact xe_v hx hb hr hlocks hP hS dX2_layOrder_119
abbrev rmX2_doneBy : Room := { frames := 5, cells := 0, slots := 0, locals := 125 }
theorem cdX2_doneBy : yX2_doneBy.cls = RX2 ∧ yX2_doneBy.cls ≠ "java/lang/invoke/MethodHandle" ∧ yX2_doneBy.cls ≠ "java/lang/invoke/VarHandle" ∧ (parseMethodDescriptor yX2_doneBy.desc).map (fun d => d.parameters.length) = some 1 := by decide +kernel
set_option maxHeartbeats 4000000 in
set_option maxRecDepth 100000 in
theorem wkX2_doneBy (l : Launch) (D : va_G) (dA : Nat → ClassId) (E : Nat → Nat) (hE : wInj 19 E) (w : Mm) (a1 : Int32) {res : Int32 × Mm} (hf : M_doneBy w a1 = some res) : Met l yX2_doneBy (ws_ yX2_doneBy cX2_doneBy 6 (some .int)) rmX2_doneBy (Pw D clM (tyM dA) shM 19 dA E [.ref (E 0), .int a1] w) (Qwi D clM shM 19 dA E res.1 res.2) 0 0 (AE 19 E) := by
  refine xm_head (own := RX2) (by decide) rfl (Nat.le_of_ble_eq_true rfl) ?_
  intro p e s m args below meth c ls Q hQ C hP hl
  obtain ⟨hx, hb, hr, hlocks, hml, hown, hts, hK⟩ := C
  replace hl : lv_has ls 6 [(0, .ref (E 0)), (1, .int a1)] := hl
  have hS : va_S (AE 19 E) s.heap s.heap [] := va_S.rf
  have hD : wD 19 E (AE 19 E) := wD.self hE
  unfold M_doneBy at hf
  obtain ⟨H, eH⟩ : ∃ H, H = s.heap := ⟨_, rfl⟩
  obtain ⟨locs, eL⟩ : ∃ locs : List Loc, locs = [] := ⟨_, rfl⟩
  rw [← eL] at hS ⊢
  rw [← eH] at hP
  have hS : va_S (AE 19 E) s.heap H locs := by rw [eH]; exact hS
  show W p l e rmX2_doneBy s m args below meth c s.heap locs 0 0 Q (F0 m 0 ls [])
  rw [← eH]
  refine lv_aload_n hx hb dX2_doneBy_0 rfl (lv_at hl 0 rfl) ?_
  refine xr_get hx hb hts in_X2 hown hK hP 0 (by decide) rfl rfl 0 (by decide) (hts _ q1405) (fun _ h => h) rfl (v := .ref (E 1)) rfl dX2_doneBy_1 ?_
  refine lv_bipush (v := 9) hx hb dX2_doneBy_4 (by decide) ?_
  refine xr_iald hx hb hK hP 1 (by decide) rfl 0 rfl (j := 9) (vin_c (by decide)) (by decide) dX2_doneBy_6 ?_
  obtain ⟨v2_1, ev2_1, hf⟩ := ob_bnd hf
  refine xn_i ev2_1 ?_
  refine lv_istore_n (lv' := [(2, .int v2_1), (0, .ref (E 0)), (1, .int a1)]) hx hb dX2_doneBy_7 rfl hl (by decide) rfl (fun ls hl => ?_)
  refine lv_iconst (v := 0) hx hb dX2_doneBy_8 (by decide) ?_
  refine lv_istore_n (lv' := [(3, .int 0), (2, .int v2_1), (0, .ref (E 0)), (1, .int a1)]) hx hb dX2_doneBy_9 rfl hl (by decide) rfl (fun ls hl => ?_)
  refine lv_aload_n hx hb dX2_doneBy_10 rfl (lv_at hl 2 rfl) ?_
  refine lv_iconst (v := 0) hx hb dX2_doneBy_11 (by decide) ?_
  obtain ⟨w2, ew2, hf⟩ := ob_bnd hf
  refine xr_put hx hb hts in_X2 tyX2 tyX2_ok nmX2 hown hK hP hD hS 0 (by decide) rfl rfl 30 (by decide) (hts _ q1435) (fun _ h => h) rfl rfl rfl rfl (w' := w2) ew2 dX2_doneBy_12 (fun H locs hP hS => ?_)
  refine lv_iconst (v := 0) hx hb dX2_doneBy_15 (by decide) ?_
  refine lv_istore (lv' := [(4, .int 0), (3, .int 0), (2, .int v2_1), (0, .ref (E 0)), (1, .int a1)]) hx hb dX2_doneBy_16 hl (by decide) rfl (fun ls hl => ?_)
  obtain ⟨b7, hb7, hf⟩ := ob_bind hf
  obtain ⟨n7, hn7⟩ := lp_some hb7
  have kL18 : ∀ (n : Nat) (w3 : Mm) (v2_4 : Int32) (v3_5 : Int32) (v4_6 : Int32), lpF (fun (q7 : Mm × Int32 × Int32 × Int32) => M_doneBy_b18 a1 q7.1 q7.2.1 q7.2.2.1 q7.2.2.2) n (w3, v2_4, v3_5, v4_6) = some b7 → (∀ (x7_0 : Mm), b7 = .inl x7_0 → ∀ (H : Heap) (locs : List Loc) (ls : Array Slot), va_P D clM (wl shM 19 dA E x7_0) H → va_S (AE 19 E) s.heap H locs → lv_has ls 6 [] → W p l e rmX2_doneBy s m args below meth c H locs 0 0 Q (F0 m 75 ls [])) → (∀ (x7_1 : Mm × Int32), b7 = .inr x7_1 → ∀ (H : Heap) (locs : List Loc) (ls : Array Slot), va_P D clM (wl shM 19 dA E x7_1.1) H → va_S (AE 19 E) s.heap H locs → lv_has ls 6 [(3, .int x7_1.2)] → W p l e rmX2_doneBy s m args below meth c H locs 0 0 Q (F0 m 120 ls [])) → ∀ (H : Heap) (locs : List Loc) (ls : Array Slot), va_P D clM (wl shM 19 dA E w3) H → va_S (AE 19 E) s.heap H locs → lv_has ls 6 [(0, .ref (E 0)), (1, .int a1), (2, .int v2_4), (3, .int v3_5), (4, .int v4_6)] → W p l e rmX2_doneBy s m args below meth c H locs 0 0 Q (F0 m 18 ls []) := by
    intro n
    induction n with
    | zero =>
      intro w3 v2_4 v3_5 v4_6 h
      cases h
    | succ n ih =>
      intro w3 v2_4 v3_5 v4_6 h K7_0 K7_1 H locs ls hP hS hl
      obtain ⟨r7, hf, h7a, h7b⟩ := lpF_step h
      replace hf : M_doneBy_b18 a1 w3 v2_4 v3_5 v4_6 = some r7 := hf
      unfold M_doneBy_b18 at hf
      refine lv_iload hx hb dX2_doneBy_18 (lv_at hl 4 rfl) ?_
      refine lv_iload_n hx hb dX2_doneBy_20 rfl (lv_at hl 1 rfl) ?_
      refine lv_icmp_ge (tgt := 120) hx hb dX2_doneBy_21 (by decide) (fun c8 => ?_) (fun c8 => ?_)
      · replace hf := ob_t hf c8
        obtain rfl := ob_s hf
        exact K7_1 _ (h7b _ rfl).symm H locs ls hP hS (lv_sub hl [3] rfl)
      · replace hf := ob_f hf c8
        obtain ⟨b12, hb12, hf⟩ := ob_bind hf
        obtain ⟨n12, hn12⟩ := lp_some hb12
        have kL24 : ∀ (n : Nat) (w9 : Mm) (v2_10 : Int32) (v3_11 : Int32), lpF (fun (q12 : Mm × Int32 × Int32) => M_doneBy_b24 v4_6 q12.1 q12.2.1 q12.2.2) n (w9, v2_10, v3_11) = some b12 → (∀ (H : Heap) (locs : List Loc) (ls : Array Slot), va_P D clM (wl shM 19 dA E b12.1) H → va_S (AE 19 E) s.heap H locs → lv_has ls 6 [(0, .ref (E 0)), (1, .int a1), (2, .int b12.2.1), (3, .int b12.2.2), (4, .int v4_6)] → W p l e rmX2_doneBy s m args below meth c H locs 0 0 Q (F0 m 69 ls [])) → ∀ (H : Heap) (locs : List Loc) (ls : Array Slot), va_P D clM (wl shM 19 dA E w9) H → va_S (AE 19 E) s.heap H locs → lv_has ls 6 [(0, .ref (E 0)), (1, .int a1), (2, .int v2_10), (3, .int v3_11), (4, .int v4_6)] → W p l e rmX2_doneBy s m args below meth c H locs 0 0 Q (F0 m 24 ls []) := by
          intro n
          induction n with
          | zero =>
            intro w9 v2_10 v3_11 h
            cases h
          | succ n ih =>
            intro w9 v2_10 v3_11 h K12_0 H locs ls hP hS hl
            obtain ⟨r12, hf, h12a, h12b⟩ := lpF_step h
            replace hf : M_doneBy_b24 v4_6 w9 v2_10 v3_11 = some r12 := hf
            unfold M_doneBy_b24 at hf
            refine lv_iload_n hx hb dX2_doneBy_24 rfl (lv_at hl 3 rfl) ?_
            refine lv_bipush (v := 60) hx hb dX2_doneBy_25 (by decide) ?_
            refine lv_icmp_gt (tgt := 69) hx hb dX2_doneBy_27 (by decide) (fun c13 => ?_) (fun c13 => ?_)
            · replace hf := ob_t hf c13
              obtain rfl := ob_s hf
              obtain rfl := h12b _ rfl
              exact K12_0 H locs ls hP hS (lv_sub hl [0, 1, 2, 3, 4] rfl)
            · replace hf := ob_f hf c13
              refine lv_iload_n hx hb dX2_doneBy_30 rfl (lv_at hl 2 rfl) ?_
              refine lv_aload_n hx hb dX2_doneBy_31 rfl (lv_at hl 0 rfl) ?_
              refine lv_aload_n hx hb dX2_doneBy_32 rfl (lv_at hl 0 rfl) ?_
              refine xr_get hx hb hts in_X2 hown hK hP 0 (by decide) rfl rfl 0 (by decide) (hts _ q1405) (fun _ h => h) rfl (v := .ref (E 1)) rfl dX2_doneBy_33 ?_
              refine lv_iconst (v := 2) hx hb dX2_doneBy_36 (by decide) ?_
              refine xr_iald hx hb hK hP 1 (by decide) rfl 0 rfl (j := 2) (vin_c (by decide)) (by decide) dX2_doneBy_37 ?_
              refine lv_aload_n hx hb dX2_doneBy_38 rfl (lv_at hl 0 rfl) ?_
              refine xr_get hx hb hts in_X2 hown hK hP 0 (by decide) rfl rfl 28 (by decide) (hts _ q1433) (fun _ h => h) rfl (v := .ref (E 12)) rfl dX2_doneBy_39 ?_
              refine lv_iload hx hb dX2_doneBy_42 (lv_at hl 4 rfl) ?_
              obtain ⟨h14, hf⟩ := ob_gd hf
              refine xr_iald hx hb hK hP 12 (by decide) rfl 0 rfl (j := v4_6.toNatClampNeg) h14 rfl dX2_doneBy_44 ?_
              refine lv_iload_n hx hb dX2_doneBy_45 rfl (lv_at hl 3 rfl) ?_
              refine lv_iload_n hx hb dX2_doneBy_46 rfl (lv_at hl 2 rfl) ?_
              obtain ⟨q16, g15, hf⟩ := ob_bind hf
              refine xc_i (xw_run (As := [.int (w9.1 1 2), .int (w9.1 12 v4_6.toNatClampNeg), .int v3_11, .int v2_10]) (rest := [.int v2_10]) ⟨hx, hb, hml, hown, hts⟩ (k0 := 0) (wkX2_duesBy l D dA E hE w9 (w9.1 1 2) (w9.1 12 v4_6.toNatClampNeg) v3_11 v2_10 g15) (cwV 4 hts (lw_V q1772 q1774 qs100 q140 q1775) rfl rfl rfl cdX2_duesBy ⟨Nat.le_of_ble_eq_true rfl, Nat.le_of_ble_eq_true rfl⟩) hK hP (by decide) rfl rfl rfl hl.1 rfl rfl (Nat.le_of_ble_eq_true rfl) dX2_doneBy_47 ⟨Nat.zero_le _, Nat.zero_le _⟩) hS hD.2 (fun H locs hP hS => ?_)
              refine lv_icmp_ge (tgt := 69) hx hb dX2_doneBy_50 (by decide) (fun c17 => ?_) (fun c17 => ?_)
              · replace hf := ob_t hf c17
                obtain rfl := ob_s hf
                obtain rfl := h12b _ rfl
                exact K12_0 H locs ls hP hS (lv_sub hl [0, 1, 2, 3, 4] rfl)
              · replace hf := ob_f hf c17
                obtain ⟨v3_18, ev3_18, hf⟩ := ob_bnd hf
                refine lv_iinc (v := v3_18) (lv' := [(3, .int v3_18), (0, .ref (E 0)), (1, .int a1), (2, .int v2_10), (4, .int v4_6)]) hx hb dX2_doneBy_53 hl (k := 3) rfl (by rw [ev3_18]; rfl) (by decide) rfl (fun ls hl => ?_)
                refine lv_iload_n hx hb dX2_doneBy_56 rfl (lv_at hl 3 rfl) ?_
                refine lv_aload_n hx hb dX2_doneBy_57 rfl (lv_at hl 1 rfl) ?_
                refine xr_get hx hb hts in_X2 hown hK hP 0 (by decide) rfl rfl 0 (by decide) (hts _ q1405) (fun _ h => h) rfl (v := .ref (E 1)) rfl dX2_doneBy_58 ?_
                refine lv_bipush (v := 114) hx hb dX2_doneBy_61 (by decide) ?_
                refine xr_iald hx hb hK hP 1 (by decide) rfl 0 rfl (j := 114) (vin_c (by decide)) (by decide) dX2_doneBy_63 ?_
                refine lv_iadd hx hb dX2_doneBy_64 ?_
                obtain ⟨v2_19, ev2_19, hf⟩ := ob_bnd hf
                refine xn_i ev2_19 ?_
                refine lv_istore_n (lv' := [(2, .int v2_19), (3, .int v3_18), (0, .ref (E 0)), (1, .int a1), (4, .int v4_6)]) hx hb dX2_doneBy_65 rfl hl (by decide) rfl (fun ls hl => ?_)
                refine lv_goto (tgt := 24) hx hb dX2_doneBy_66 (by decide) ?_
                obtain rfl := ob_s hf
                exact ih _ _ _ (h12a _ rfl) K12_0 H locs ls hP hS (lv_sub hl [2, 3, 0, 1, 4] rfl)
        refine kL24 n12 w3 v2_4 v3_5 hn12 (fun H locs ls hP hS hl => ?_) H locs ls hP hS (lv_sub hl [0, 1, 2, 3, 4] rfl)
        replace hf : M_doneBy_x24_69 b12 v4_6 = some r7 := hf
        unfold M_doneBy_x24_69 at hf
        refine lv_iload_n hx hb dX2_doneBy_69 rfl (lv_at hl 3 rfl) ?_
        refine lv_bipush (v := 60) hx hb dX2_doneBy_70 (by decide) ?_
        refine lv_icmp_le (tgt := 77) hx hb dX2_doneBy_72 (by decide) (fun c20 => ?_) (fun c20 => ?_)
        · replace hf := ob_t hf c20
          refine lv_aload_n hx hb dX2_doneBy_77 rfl (lv_at hl 0 rfl) ?_
          refine lv_aload_n hx hb dX2_doneBy_78 rfl (lv_at hl 0 rfl) ?_
          refine xr_get hx hb hts in_X2 hown hK hP 0 (by decide) rfl rfl 0 (by decide) (hts _ q1405) (fun _ h => h) rfl (v := .ref (E 1)) rfl dX2_doneBy_79 ?_
          refine lv_iconst (v := 2) hx hb dX2_doneBy_82 (by decide) ?_
          refine xr_iald hx hb hK hP 1 (by decide) rfl 0 rfl (j := 2) (vin_c (by decide)) (by decide) dX2_doneBy_83 ?_
          refine lv_aload_n hx hb dX2_doneBy_84 rfl (lv_at hl 0 rfl) ?_
          refine xr_get hx hb hts in_X2 hown hK hP 0 (by decide) rfl rfl 28 (by decide) (hts _ q1433) (fun _ h => h) rfl (v := .ref (E 12)) rfl dX2_doneBy_85 ?_
          refine lv_iload hx hb dX2_doneBy_88 (lv_at hl 4 rfl) ?_
          obtain ⟨h21, hf⟩ := ob_gd hf
          refine xr_iald hx hb hK hP 12 (by decide) rfl 0 rfl (j := v4_6.toNatClampNeg) h21 rfl dX2_doneBy_90 ?_
          refine lv_iload_n hx hb dX2_doneBy_91 rfl (lv_at hl 3 rfl) ?_
          refine lv_iload_n hx hb dX2_doneBy_92 rfl (lv_at hl 2 rfl) ?_
          obtain ⟨q23, g22, hf⟩ := ob_bind hf
          refine xc_i (xw_run (As := [.int (b12.1.1 1 2), .int (b12.1.1 12 v4_6.toNatClampNeg), .int b12.2.2, .int b12.2.1]) (rest := []) ⟨hx, hb, hml, hown, hts⟩ (k0 := 0) (wkX2_duesBy l D dA E hE b12.1 (b12.1.1 1 2) (b12.1.1 12 v4_6.toNatClampNeg) b12.2.2 b12.2.1 g22) (cwV 4 hts (lw_V q1772 q1774 qs100 q140 q1775) rfl rfl rfl cdX2_duesBy ⟨Nat.le_of_ble_eq_true rfl, Nat.le_of_ble_eq_true rfl⟩) hK hP (by decide) rfl rfl rfl hl.1 rfl rfl (Nat.le_of_ble_eq_true rfl) dX2_doneBy_93 ⟨Nat.zero_le _, Nat.zero_le _⟩) hS hD.2 (fun H locs hP hS => ?_)
          refine lv_istore (lv' := [(5, .int q23.1), (0, .ref (E 0)), (1, .int a1), (2, .int b12.2.1), (3, .int b12.2.2), (4, .int v4_6)]) hx hb dX2_doneBy_96 hl (by decide) rfl (fun ls hl => ?_)
          refine lv_iload_n hx hb dX2_doneBy_98 rfl (lv_at hl 3 rfl) ?_
          refine lv_iload hx hb dX2_doneBy_99 (lv_at hl 0 rfl) ?_
          refine lv_isub hx hb dX2_doneBy_101 ?_
          obtain ⟨v2_24, ev2_24, hf⟩ := ob_bnd hf
          refine xn_i ev2_24 ?_
          refine lv_istore_n (lv' := [(2, .int v2_24), (5, .int q23.1), (0, .ref (E 0)), (1, .int a1), (3, .int b12.2.2), (4, .int v4_6)]) hx hb dX2_doneBy_102 rfl hl (by decide) rfl (fun ls hl => ?_)
          refine lv_aload_n hx hb dX2_doneBy_103 rfl (lv_at hl 2 rfl) ?_
          refine lv_dup hx hb dX2_doneBy_104 rfl ?_
          refine xr_get hx hb hts in_X2 hown hK hP 0 (by decide) rfl rfl 30 (by decide) (hts _ q1435) (fun _ h => h) rfl (v := .int (q23.2.1 0 30)) rfl dX2_doneBy_105 ?_
          refine lv_iload hx hb dX2_doneBy_108 (lv_at hl 1 rfl) ?_
          refine lv_iadd hx hb dX2_doneBy_110 ?_
          obtain ⟨w25, ew25, hf⟩ := ob_bnd hf
          refine xr_put hx hb hts in_X2 tyX2 tyX2_ok nmX2 hown hK hP hD hS 0 (by decide) rfl rfl 30 (by decide) (hts _ q1435) (fun _ h => h) rfl rfl rfl rfl (w' := w25) ew25 dX2_doneBy_111 (fun H locs hP hS => ?_)
          obtain ⟨v4_26, ev4_26, hf⟩ := ob_bnd hf
          refine lv_iinc (v := v4_26) (lv' := [(4, .int v4_26), (2, .int v2_24), (5, .int q23.1), (0, .ref (E 0)), (1, .int a1), (3, .int b12.2.2)]) hx hb dX2_doneBy_114 hl (k := 5) rfl (by rw [ev4_26]; rfl) (by decide) rfl (fun ls hl => ?_)
          refine lv_goto (tgt := 18) hx hb dX2_doneBy_117 (by decide) ?_
          obtain rfl := ob_s hf
          exact ih _ _ _ _ (h7a _ rfl) K7_0 K7_1 H locs ls hP hS (lv_sub hl [3, 4, 1, 5, 0] rfl)
        · replace hf := ob_f hf c20
          obtain rfl := ob_s hf
          exact K7_0 _ (h7b _ rfl).symm H locs ls hP hS (lv_sub hl [] rfl)
  refine kL18 n7 w2 v2_1 0 0 hn7 (fun x7_0 ex7_0 H locs ls hP hS hl => ?_) (fun x7_1 ex7_1 H locs ls hP hS hl => ?_) H locs ls hP hS (lv_sub hl [3, 4, 2, 1, 0] rfl)
  · subst ex7_0
    replace hf : M_doneBy_x18_75 x7_0 = some res := hf
    unfold M_doneBy_x18_75 at hf
    refine lv_iconst (v := (-1)) hx hb dX2_doneBy_75 (by decide) ?_
    obtain rfl := ob_s hf
    subst hQ
    exact xe_i hx hb hr hlocks hP hS dX2_doneBy_76
  · subst ex7_1
    replace hf : M_doneBy_x18_120 x7_1 = some res := hf
    unfold M_doneBy_x18_120 at hf
    refine lv_iload_n hx hb dX2_doneBy_120 rfl (lv_at hl 0 rfl) ?_
    obtain rfl := ob_s hf
    subst hQ
    exact xe_i hx hb hr hlocks hP hS dX2_doneBy_121
abbrev rmX2_layPlan : Room := { frames := 6, cells := 0, slots := 0, locals := 150 }
theorem cdX2_layPlan : yX2_layPlan.cls = RX2 ∧ yX2_layPlan.cls ≠ "java/lang/invoke/MethodHandle" ∧ yX2_layPlan.cls ≠ "java/lang/invoke/VarHandle" ∧ (parseMethodDescriptor yX2_layPlan.desc).map (fun d => d.parameters.length) = some 1 := by decide +kernel
set_option maxHeartbeats 4000000 in
set_option maxRecDepth 100000 in
theorem wkX2_layPlan (l : Launch) (D : va_G) (dA : Nat → ClassId) (E : Nat → Nat) (hE : wInj 19 E) (w : Mm) (a1 : Int32) {res : Mm} (hf : M_layPlan w a1 = some res) : Met l yX2_layPlan (ws_ yX2_layPlan cX2_layPlan 6 (none)) rmX2_layPlan (Pw D clM (tyM dA) shM 19 dA E [.ref (E 0), .int a1] w) (Qwv D clM shM 19 dA E res) 0 0 (AE 19 E) := by
  refine xm_head (own := RX2) (by decide) rfl (Nat.le_of_ble_eq_true rfl) ?_
  intro p e s m args below meth c ls Q hQ C hP hl
  obtain ⟨hx, hb, hr, hlocks, hml, hown, hts, hK⟩ := C
  replace hl : lv_has ls 6 [(0, .ref (E 0)), (1, .int a1)] := hl
  have hS : va_S (AE 19 E) s.heap s.heap [] := va_S.rf
  have hD : wD 19 E (AE 19 E) := wD.self hE
  unfold M_layPlan at hf
  obtain ⟨H, eH⟩ : ∃ H, H = s.heap := ⟨_, rfl⟩
  obtain ⟨locs, eL⟩ : ∃ locs : List Loc, locs = [] := ⟨_, rfl⟩
  rw [← eL] at hS ⊢
  rw [← eH] at hP
  have hS : va_S (AE 19 E) s.heap H locs := by rw [eH]; exact hS
  show W p l e rmX2_layPlan s m args below meth c s.heap locs 0 0 Q (F0 m 0 ls [])
  rw [← eH]
  refine lv_iload_n hx hb dX2_layPlan_0 rfl (lv_at hl 1 rfl) ?_
  obtain ⟨q2, g1, hf⟩ := ob_bind hf
  refine xc_i (xw_runS (As := [.int a1]) (rest := []) ⟨hx, hb, hml, hown, hts⟩ (wkX2_bits l D dA E hE w a1 g1) (va_cwS 1 hts (lw_S q1864 q1865 q140 q1866) rfl rfl rfl cdX2_bits.2 ⟨Nat.le_of_ble_eq_true rfl, Nat.le_of_ble_eq_true rfl⟩) hK hP hl.1 rfl rfl (Nat.le_of_ble_eq_true rfl) dX2_layPlan_1 ⟨Nat.zero_le _, Nat.zero_le _⟩) hS hD.2 (fun H locs hP hS => ?_)
  refine lv_istore_n (lv' := [(2, .int q2), (0, .ref (E 0)), (1, .int a1)]) hx hb dX2_layPlan_4 rfl hl (by decide) rfl (fun ls hl => ?_)
  refine lv_aload_n hx hb dX2_layPlan_5 rfl (lv_at hl 1 rfl) ?_
  refine lv_iconst (v := (-1)) hx hb dX2_layPlan_6 (by decide) ?_
  obtain ⟨w3, ew3, hf⟩ := ob_bnd hf
  refine xr_put hx hb hts in_X2 tyX2 tyX2_ok nmX2 hown hK hP hD hS 0 (by decide) rfl rfl 31 (by decide) (hts _ q1436) (fun _ h => h) rfl rfl rfl rfl (w' := w3) ew3 dX2_layPlan_7 (fun H locs hP hS => ?_)
  refine lv_iconst (v := 0) hx hb dX2_layPlan_10 (by decide) ?_
  refine lv_istore_n (lv' := [(3, .int 0), (2, .int q2), (0, .ref (E 0)), (1, .int a1)]) hx hb dX2_layPlan_11 rfl hl (by decide) rfl (fun ls hl => ?_)
  obtain ⟨b6, hb6, hf⟩ := ob_bind hf
  obtain ⟨n6, hn6⟩ := lp_some hb6
  have kL12 : ∀ (n : Nat) (w4 : Mm) (v3_5 : Int32), lpF (fun (q6 : Mm × Int32) => M_layPlan_b12 q2 a1 q6.1 q6.2) n (w4, v3_5) = some b6 → (∀ (H : Heap) (locs : List Loc) (ls : Array Slot), va_P D clM (wl shM 19 dA E b6) H → va_S (AE 19 E) s.heap H locs → lv_has ls 6 [] → W p l e rmX2_layPlan s m args below meth c H locs 0 0 Q (F0 m 129 ls [])) → ∀ (H : Heap) (locs : List Loc) (ls : Array Slot), va_P D clM (wl shM 19 dA E w4) H → va_S (AE 19 E) s.heap H locs → lv_has ls 6 [(0, .ref (E 0)), (1, .int a1), (2, .int q2), (3, .int v3_5)] → W p l e rmX2_layPlan s m args below meth c H locs 0 0 Q (F0 m 12 ls []) := by
    intro n
    induction n with
    | zero =>
      intro w4 v3_5 h
      cases h
    | succ n ih =>
      intro w4 v3_5 h K6_0 H locs ls hP hS hl
      obtain ⟨r6, hf, h6a, h6b⟩ := lpF_step h
      replace hf : M_layPlan_b12 q2 a1 w4 v3_5 = some r6 := hf
      unfold M_layPlan_b12 at hf
      refine lv_iload_n hx hb dX2_layPlan_12 rfl (lv_at hl 3 rfl) ?_
      refine lv_iload_n hx hb dX2_layPlan_13 rfl (lv_at hl 2 rfl) ?_
      obtain ⟨q8, g7, hf⟩ := ob_bind hf
      refine xc_i (xw_runS (As := [.int q2]) (rest := [.int v3_5]) ⟨hx, hb, hml, hown, hts⟩ (wkX2_factorial l D dA E hE w4 q2 g7) (va_cwS 1 hts (lw_S q2008 q2009 q140 q2010) rfl rfl rfl cdX2_factorial.2 ⟨Nat.le_of_ble_eq_true rfl, Nat.le_of_ble_eq_true rfl⟩) hK hP hl.1 rfl rfl (Nat.le_of_ble_eq_true rfl) dX2_layPlan_14 ⟨Nat.zero_le _, Nat.zero_le _⟩) hS hD.2 (fun H locs hP hS => ?_)
      refine lv_icmp_ge (tgt := 129) hx hb dX2_layPlan_17 (by decide) (fun c9 => ?_) (fun c9 => ?_)
      · replace hf := ob_t hf c9
        obtain rfl := ob_s hf
        obtain rfl := h6b _ rfl
        exact K6_0 H locs ls hP hS (lv_sub hl [] rfl)
      · replace hf := ob_f hf c9
        refine lv_aload_n hx hb dX2_layPlan_20 rfl (lv_at hl 0 rfl) ?_
        refine lv_iload_n hx hb dX2_layPlan_21 rfl (lv_at hl 1 rfl) ?_
        refine lv_iload_n hx hb dX2_layPlan_22 rfl (lv_at hl 3 rfl) ?_
        refine lv_iload_n hx hb dX2_layPlan_23 rfl (lv_at hl 2 rfl) ?_
        obtain ⟨q11, g10, hf⟩ := ob_bind hf
        refine xc_v (xw_run (As := [.int a1, .int v3_5, .int q2]) (rest := []) ⟨hx, hb, hml, hown, hts⟩ (k0 := 0) (wkX2_layOrder l D dA E hE w4 a1 v3_5 q2 g10) (cwV 3 hts (lw_V q2011 q2013 qs129 q140 q2014) rfl rfl rfl cdX2_layOrder ⟨Nat.le_of_ble_eq_true rfl, Nat.le_of_ble_eq_true rfl⟩) hK hP (by decide) rfl rfl rfl hl.1 rfl rfl (Nat.le_of_ble_eq_true rfl) dX2_layPlan_24 ⟨Nat.zero_le _, Nat.zero_le _⟩) hS hD.2 (fun H locs hP hS => ?_)
        refine lv_aload_n hx hb dX2_layPlan_27 rfl (lv_at hl 0 rfl) ?_
        refine lv_iload_n hx hb dX2_layPlan_28 rfl (lv_at hl 2 rfl) ?_
        obtain ⟨q13, g12, hf⟩ := ob_bind hf
        refine xc_i (xw_run (As := [.int q2]) (rest := []) ⟨hx, hb, hml, hown, hts⟩ (k0 := 0) (wkX2_doneBy l D dA E hE q11 q2 g12) (cwV 1 hts (lw_V q2015 q2017 qs130 q140 q2018) rfl rfl rfl cdX2_doneBy ⟨Nat.le_of_ble_eq_true rfl, Nat.le_of_ble_eq_true rfl⟩) hK hP (by decide) rfl rfl rfl hl.1 rfl rfl (Nat.le_of_ble_eq_true rfl) dX2_layPlan_29 ⟨Nat.zero_le _, Nat.zero_le _⟩) hS hD.2 (fun H locs hP hS => ?_)
        refine lv_istore (lv' := [(4, .int q13.1), (0, .ref (E 0)), (1, .int a1), (2, .int q2), (3, .int v3_5)]) hx hb dX2_layPlan_32 hl (by decide) rfl (fun ls hl => ?_)
        refine lv_iload hx hb dX2_layPlan_34 (lv_at hl 0 rfl) ?_
        refine lv_iconst (v := (-1)) hx hb dX2_layPlan_36 (by decide) ?_
        have kj123 : ∀ (w14 : Mm) (H : Heap) (locs : List Loc) (ls : Array Slot), M_layPlan_j123 v3_5 w14 = some r6 → va_P D clM (wl shM 19 dA E w14) H → va_S (AE 19 E) s.heap H locs → lv_has ls 6 [(0, .ref (E 0)), (1, .int a1), (2, .int q2), (3, .int v3_5)] → W p l e rmX2_layPlan s m args below meth c H locs 0 0 Q (F0 m 123 ls []) := by
          intro w14 H locs ls hf hP hS hl
          unfold M_layPlan_j123 at hf
          obtain ⟨v3_15, ev3_15, hf⟩ := ob_bnd hf
          refine lv_iinc (v := v3_15) (lv' := [(3, .int v3_15), (0, .ref (E 0)), (1, .int a1), (2, .int q2)]) hx hb dX2_layPlan_123 hl (k := 3) rfl (by rw [ev3_15]; rfl) (by decide) rfl (fun ls hl => ?_)
          refine lv_goto (tgt := 12) hx hb dX2_layPlan_126 (by decide) ?_
          obtain rfl := ob_s hf
          exact ih _ _ (h6a _ rfl) K6_0 H locs ls hP hS (lv_sub hl [1, 2, 3, 0] rfl)
        refine lv_icmp_eq (tgt := 123) hx hb dX2_layPlan_37 (by decide) (fun c16 => ?_) (fun c16 => ?_)
        · replace hf := ob_t hf c16
          exact kj123 q13.2 H locs ls hf hP hS (lv_sub hl [1, 2, 3, 4] rfl)
        · replace hf := ob_f hf c16
          refine lv_aload_n hx hb dX2_layPlan_40 rfl (lv_at hl 1 rfl) ?_
          refine xr_get hx hb hts in_X2 hown hK hP 0 (by decide) rfl rfl 31 (by decide) (hts _ q1436) (fun _ h => h) rfl (v := .int (q13.2.1 0 31)) rfl dX2_layPlan_41 ?_
          refine lv_iconst (v := (-1)) hx hb dX2_layPlan_44 (by decide) ?_
          have kj80 : ∀ (H : Heap) (locs : List Loc) (ls : Array Slot), M_layPlan_j80 q13 q2 v3_5 = some r6 → va_P D clM (wl shM 19 dA E q13.2) H → va_S (AE 19 E) s.heap H locs → lv_has ls 6 [(0, .ref (E 0)), (1, .int a1), (2, .int q2), (3, .int v3_5), (4, .int q13.1)] → W p l e rmX2_layPlan s m args below meth c H locs 0 0 Q (F0 m 80 ls []) := by
            intro H locs ls hf hP hS hl
            unfold M_layPlan_j80 at hf
            refine lv_aload_n hx hb dX2_layPlan_80 rfl (lv_at hl 0 rfl) ?_
            refine lv_iload hx hb dX2_layPlan_81 (lv_at hl 4 rfl) ?_
            obtain ⟨w17, ew17, hf⟩ := ob_bnd hf
            refine xr_put hx hb hts in_X2 tyX2 tyX2_ok nmX2 hown hK hP hD hS 0 (by decide) rfl rfl 31 (by decide) (hts _ q1436) (fun _ h => h) rfl rfl rfl rfl (w' := w17) ew17 dX2_layPlan_83 (fun H locs hP hS => ?_)
            refine lv_aload_n hx hb dX2_layPlan_86 rfl (lv_at hl 0 rfl) ?_
            refine lv_aload_n hx hb dX2_layPlan_87 rfl (lv_at hl 0 rfl) ?_
            refine xr_get hx hb hts in_X2 hown hK hP 0 (by decide) rfl rfl 30 (by decide) (hts _ q1435) (fun _ h => h) rfl (v := .int (w17.1 0 30)) rfl dX2_layPlan_88 ?_
            obtain ⟨w18, ew18, hf⟩ := ob_bnd hf
            refine xr_put hx hb hts in_X2 tyX2 tyX2_ok nmX2 hown hK hP hD hS 0 (by decide) rfl rfl 32 (by decide) (hts _ q1437) (fun _ h => h) rfl rfl rfl rfl (w' := w18) ew18 dX2_layPlan_91 (fun H locs hP hS => ?_)
            refine lv_iconst (v := 0) hx hb dX2_layPlan_94 (by decide) ?_
            refine lv_istore (lv' := [(5, .int 0), (0, .ref (E 0)), (1, .int a1), (2, .int q2), (3, .int v3_5), (4, .int q13.1)]) hx hb dX2_layPlan_95 hl (by decide) rfl (fun ls hl => ?_)
            obtain ⟨b21, hb21, hf⟩ := ob_bind hf
            obtain ⟨n21, hn21⟩ := lp_some hb21
            have kL97 : ∀ (n : Nat) (w19 : Mm) (v5_20 : Int32), lpF (fun (q21 : Mm × Int32) => M_layPlan_b97 q2 q21.1 q21.2) n (w19, v5_20) = some b21 → (∀ (H : Heap) (locs : List Loc) (ls : Array Slot), va_P D clM (wl shM 19 dA E b21) H → va_S (AE 19 E) s.heap H locs → lv_has ls 6 [(0, .ref (E 0)), (1, .int a1), (2, .int q2), (3, .int v3_5)] → W p l e rmX2_layPlan s m args below meth c H locs 0 0 Q (F0 m 123 ls [])) → ∀ (H : Heap) (locs : List Loc) (ls : Array Slot), va_P D clM (wl shM 19 dA E w19) H → va_S (AE 19 E) s.heap H locs → lv_has ls 6 [(0, .ref (E 0)), (1, .int a1), (2, .int q2), (3, .int v3_5), (5, .int v5_20)] → W p l e rmX2_layPlan s m args below meth c H locs 0 0 Q (F0 m 97 ls []) := by
              intro n
              induction n with
              | zero =>
                intro w19 v5_20 h
                cases h
              | succ n ih =>
                intro w19 v5_20 h K21_0 H locs ls hP hS hl
                obtain ⟨r21, hf, h21a, h21b⟩ := lpF_step h
                replace hf : M_layPlan_b97 q2 w19 v5_20 = some r21 := hf
                unfold M_layPlan_b97 at hf
                refine lv_iload hx hb dX2_layPlan_97 (lv_at hl 4 rfl) ?_
                refine lv_iload_n hx hb dX2_layPlan_99 rfl (lv_at hl 2 rfl) ?_
                refine lv_icmp_ge (tgt := 123) hx hb dX2_layPlan_100 (by decide) (fun c22 => ?_) (fun c22 => ?_)
                · replace hf := ob_t hf c22
                  obtain rfl := ob_s hf
                  obtain rfl := h21b _ rfl
                  exact K21_0 H locs ls hP hS (lv_sub hl [0, 1, 2, 3] rfl)
                · replace hf := ob_f hf c22
                  refine lv_aload_n hx hb dX2_layPlan_103 rfl (lv_at hl 0 rfl) ?_
                  refine xr_get hx hb hts in_X2 hown hK hP 0 (by decide) rfl rfl 29 (by decide) (hts _ q1434) (fun _ h => h) rfl (v := .ref (E 13)) rfl dX2_layPlan_104 ?_
                  refine lv_iload hx hb dX2_layPlan_107 (lv_at hl 4 rfl) ?_
                  refine lv_aload_n hx hb dX2_layPlan_109 rfl (lv_at hl 0 rfl) ?_
                  refine xr_get hx hb hts in_X2 hown hK hP 0 (by decide) rfl rfl 28 (by decide) (hts _ q1433) (fun _ h => h) rfl (v := .ref (E 12)) rfl dX2_layPlan_110 ?_
                  refine lv_iload hx hb dX2_layPlan_113 (lv_at hl 4 rfl) ?_
                  obtain ⟨h23, hf⟩ := ob_gd hf
                  refine xr_iald hx hb hK hP 12 (by decide) rfl 0 rfl (j := v5_20.toNatClampNeg) h23 rfl dX2_layPlan_115 ?_
                  obtain ⟨h24, hf⟩ := ob_gd hf
                  obtain ⟨w25, ew25, hf⟩ := ob_bnd hf
                  refine xr_iast hx hb hK hP hD hS 13 (by decide) rfl 0 rfl (j := v5_20.toNatClampNeg) (w' := w25) h24 rfl ew25 dX2_layPlan_116 (fun H locs hP hS => ?_)
                  obtain ⟨v5_26, ev5_26, hf⟩ := ob_bnd hf
                  refine lv_iinc (v := v5_26) (lv' := [(5, .int v5_26), (0, .ref (E 0)), (1, .int a1), (2, .int q2), (3, .int v3_5)]) hx hb dX2_layPlan_117 hl (k := 4) rfl (by rw [ev5_26]; rfl) (by decide) rfl (fun ls hl => ?_)
                  refine lv_goto (tgt := 97) hx hb dX2_layPlan_120 (by decide) ?_
                  obtain rfl := ob_s hf
                  exact ih _ _ (h21a _ rfl) K21_0 H locs ls hP hS (lv_sub hl [1, 2, 3, 4, 0] rfl)
            refine kL97 n21 w18 0 hn21 (fun H locs ls hP hS hl => ?_) H locs ls hP hS (lv_sub hl [1, 2, 3, 4, 0] rfl)
            replace hf : M_layPlan_x97_123 v3_5 b21 = some r6 := hf
            unfold M_layPlan_x97_123 at hf
            exact kj123 b21 H locs ls hf hP hS (lv_sub hl [0, 1, 2, 3] rfl)
          refine lv_icmp_eq (tgt := 80) hx hb dX2_layPlan_45 (by decide) (fun c27 => ?_) (fun c27 => ?_)
          · replace hf := ob_t hf c27
            exact kj80 H locs ls hf hP hS (lv_sub hl [1, 2, 3, 4, 0] rfl)
          · replace hf := ob_f hf c27
            refine lv_iload hx hb dX2_layPlan_48 (lv_at hl 0 rfl) ?_
            refine lv_aload_n hx hb dX2_layPlan_50 rfl (lv_at hl 1 rfl) ?_
            refine xr_get hx hb hts in_X2 hown hK hP 0 (by decide) rfl rfl 31 (by decide) (hts _ q1436) (fun _ h => h) rfl (v := .int (q13.2.1 0 31)) rfl dX2_layPlan_51 ?_
            refine lv_icmp_gt (tgt := 123) hx hb dX2_layPlan_54 (by decide) (fun c28 => ?_) (fun c28 => ?_)
            · replace hf := ob_t hf c28
              exact kj123 q13.2 H locs ls hf hP hS (lv_sub hl [1, 2, 3, 4] rfl)
            · replace hf := ob_f hf c28
              refine lv_iload hx hb dX2_layPlan_57 (lv_at hl 0 rfl) ?_
              refine lv_aload_n hx hb dX2_layPlan_59 rfl (lv_at hl 1 rfl) ?_
              refine xr_get hx hb hts in_X2 hown hK hP 0 (by decide) rfl rfl 31 (by decide) (hts _ q1436) (fun _ h => h) rfl (v := .int (q13.2.1 0 31)) rfl dX2_layPlan_60 ?_
              refine lv_icmp_ne (tgt := 80) hx hb dX2_layPlan_63 (by decide) (fun c29 => ?_) (fun c29 => ?_)
              · replace hf := ob_f hf c29
                exact kj80 H locs ls hf hP hS (lv_sub hl [1, 2, 3, 4, 0] rfl)
              · replace hf := ob_t hf c29
                refine lv_aload_n hx hb dX2_layPlan_66 rfl (lv_at hl 1 rfl) ?_
                refine xr_get hx hb hts in_X2 hown hK hP 0 (by decide) rfl rfl 30 (by decide) (hts _ q1435) (fun _ h => h) rfl (v := .int (q13.2.1 0 30)) rfl dX2_layPlan_67 ?_
                refine lv_aload_n hx hb dX2_layPlan_70 rfl (lv_at hl 1 rfl) ?_
                refine xr_get hx hb hts in_X2 hown hK hP 0 (by decide) rfl rfl 32 (by decide) (hts _ q1437) (fun _ h => h) rfl (v := .int (q13.2.1 0 32)) rfl dX2_layPlan_71 ?_
                refine lv_icmp_lt (tgt := 80) hx hb dX2_layPlan_74 (by decide) (fun c30 => ?_) (fun c30 => ?_)
                · replace hf := ob_t hf c30
                  exact kj80 H locs ls hf hP hS (lv_sub hl [1, 2, 3, 4, 0] rfl)
                · replace hf := ob_f hf c30
                  refine lv_goto (tgt := 123) hx hb dX2_layPlan_77 (by decide) ?_
                  exact kj123 q13.2 H locs ls hf hP hS (lv_sub hl [1, 2, 3, 4] rfl)
  refine kL12 n6 w3 0 hn6 (fun H locs ls hP hS hl => ?_) H locs ls hP hS (lv_sub hl [2, 3, 1, 0] rfl)
  replace hf : M_layPlan_x12_129 b6 = some res := hf
  unfold M_layPlan_x12_129 at hf
  obtain rfl := ob_s hf
  subst hQ
  exact xe_v hx hb hr hlocks hP hS dX2_layPlan_129
abbrev rmX2_plan : Room := { frames := 7, cells := 0, slots := 0, locals := 175 }
theorem cdX2_plan : yX2_plan.cls = RX2 ∧ yX2_plan.cls ≠ "java/lang/invoke/MethodHandle" ∧ yX2_plan.cls ≠ "java/lang/invoke/VarHandle" ∧ (parseMethodDescriptor yX2_plan.desc).map (fun d => d.parameters.length) = some 2 := by decide +kernel
set_option maxHeartbeats 4000000 in
set_option maxRecDepth 100000 in
theorem wkX2_plan (l : Launch) (D : va_G) (dA : Nat → ClassId) (E : Nat → Nat) (hE : wInj 19 E) (w : Mm) (a1 : Int32) (a2 : Int32) {res : Int32 × Mm} (hf : M_plan w a1 a2 = some res) : Met l yX2_plan (ws_ yX2_plan cX2_plan 3 (some .int)) rmX2_plan (Pw D clM (tyM dA) shM 19 dA E [.ref (E 0), .int a1, .int a2] w) (Qwi D clM shM 19 dA E res.1 res.2) 0 0 (AE 19 E) := by
  refine xm_head (own := RX2) (by decide) rfl (Nat.le_of_ble_eq_true rfl) ?_
  intro p e s m args below meth c ls Q hQ C hP hl
  obtain ⟨hx, hb, hr, hlocks, hml, hown, hts, hK⟩ := C
  replace hl : lv_has ls 3 [(0, .ref (E 0)), (1, .int a1), (2, .int a2)] := hl
  have hS : va_S (AE 19 E) s.heap s.heap [] := va_S.rf
  have hD : wD 19 E (AE 19 E) := wD.self hE
  unfold M_plan at hf
  obtain ⟨H, eH⟩ : ∃ H, H = s.heap := ⟨_, rfl⟩
  obtain ⟨locs, eL⟩ : ∃ locs : List Loc, locs = [] := ⟨_, rfl⟩
  rw [← eL] at hS ⊢
  rw [← eH] at hP
  have hS : va_S (AE 19 E) s.heap H locs := by rw [eH]; exact hS
  show W p l e rmX2_plan s m args below meth c s.heap locs 0 0 Q (F0 m 0 ls [])
  rw [← eH]
  refine lv_iload_n hx hb dX2_plan_0 rfl (lv_at hl 1 rfl) ?_
  refine lv_iconst (v := 0) hx hb dX2_plan_1 (by decide) ?_
  refine lv_sipush (v := 255) hx hb dX2_plan_2 (by decide) ?_
  obtain ⟨q2, g1, hf⟩ := ob_bind hf
  refine xc_z (xw_runS (As := [.int a1, .int 0, .int 255]) (rest := []) ⟨hx, hb, hml, hown, hts⟩ (wkX2_isIn l D dA E hE w a1 0 255 g1) (va_cwS 3 hts (lw_S q1538 q1539 q140 q1540) rfl rfl rfl cdX2_isIn.2 ⟨Nat.le_of_ble_eq_true rfl, Nat.le_of_ble_eq_true rfl⟩) hK hP hl.1 rfl rfl (Nat.le_of_ble_eq_true rfl) dX2_plan_5 ⟨Nat.zero_le _, Nat.zero_le _⟩) hS hD.2 (fun H locs zq2 hP hS => ?_)
  refine lv_if_eq (tgt := 44) hx hb dX2_plan_8 (by decide) (fun c3 => ?_) (fun c3 => ?_)
  · replace hf := ob_t hf c3
    refine lv_iconst (v := (-1)) hx hb dX2_plan_44 (by decide) ?_
    obtain rfl := ob_s hf
    subst hQ
    exact xe_i hx hb hr hlocks hP hS dX2_plan_45
  · replace hf := ob_f hf c3
    refine lv_iload_n hx hb dX2_plan_11 rfl (lv_at hl 1 rfl) ?_
    refine lv_aload_n hx hb dX2_plan_12 rfl (lv_at hl 0 rfl) ?_
    obtain ⟨q5, g4, hf⟩ := ob_bind hf
    refine xc_i (xw_run (As := []) (rest := [.int a1]) ⟨hx, hb, hml, hown, hts⟩ (k0 := 0) (wkX2_pawnedNow l D dA E hE w g4) (cwV 0 hts (lw_V q1860 q1862 qs115 q140 q1863) rfl rfl rfl cdX2_pawnedNow ⟨Nat.le_of_ble_eq_true rfl, Nat.le_of_ble_eq_true rfl⟩) hK hP (by decide) rfl rfl rfl hl.1 rfl rfl (Nat.le_of_ble_eq_true rfl) dX2_plan_13 ⟨Nat.zero_le _, Nat.zero_le _⟩) hS hD.2 (fun H locs hP hS => ?_)
    refine lv_iconst (v := (-1)) hx hb dX2_plan_16 (by decide) ?_
    refine lv_ixor hx hb dX2_plan_17 ?_
    refine lv_iand hx hb dX2_plan_18 ?_
    refine lv_if_ne (tgt := 44) hx hb dX2_plan_19 (by decide) (fun c6 => ?_) (fun c6 => ?_)
    · replace hf := ob_f hf c6
      refine lv_iconst (v := (-1)) hx hb dX2_plan_44 (by decide) ?_
      obtain rfl := ob_s hf
      subst hQ
      exact xe_i hx hb hr hlocks hP hS dX2_plan_45
    · replace hf := ob_t hf c6
      refine lv_iload_n hx hb dX2_plan_22 rfl (lv_at hl 1 rfl) ?_
      obtain ⟨q8, g7, hf⟩ := ob_bind hf
      refine xc_i (xw_runS (As := [.int a1]) (rest := []) ⟨hx, hb, hml, hown, hts⟩ (wkX2_bits l D dA E hE w a1 g7) (va_cwS 1 hts (lw_S q1864 q1865 q140 q1866) rfl rfl rfl cdX2_bits.2 ⟨Nat.le_of_ble_eq_true rfl, Nat.le_of_ble_eq_true rfl⟩) hK hP hl.1 rfl rfl (Nat.le_of_ble_eq_true rfl) dX2_plan_23 ⟨Nat.zero_le _, Nat.zero_le _⟩) hS hD.2 (fun H locs hP hS => ?_)
      refine lv_iconst (v := 5) hx hb dX2_plan_26 (by decide) ?_
      refine lv_icmp_gt (tgt := 44) hx hb dX2_plan_27 (by decide) (fun c9 => ?_) (fun c9 => ?_)
      · replace hf := ob_t hf c9
        refine lv_iconst (v := (-1)) hx hb dX2_plan_44 (by decide) ?_
        obtain rfl := ob_s hf
        subst hQ
        exact xe_i hx hb hr hlocks hP hS dX2_plan_45
      · replace hf := ob_f hf c9
        refine lv_iload_n hx hb dX2_plan_30 rfl (lv_at hl 2 rfl) ?_
        refine lv_iconst (v := 0) hx hb dX2_plan_31 (by decide) ?_
        refine lv_iload_n hx hb dX2_plan_32 rfl (lv_at hl 1 rfl) ?_
        obtain ⟨q11, g10, hf⟩ := ob_bind hf
        refine xc_i (xw_runS (As := [.int a1]) (rest := [.int 0, .int a2]) ⟨hx, hb, hml, hown, hts⟩ (wkX2_bits l D dA E hE w a1 g10) (va_cwS 1 hts (lw_S q1864 q1865 q140 q1866) rfl rfl rfl cdX2_bits.2 ⟨Nat.le_of_ble_eq_true rfl, Nat.le_of_ble_eq_true rfl⟩) hK hP hl.1 rfl rfl (Nat.le_of_ble_eq_true rfl) dX2_plan_33 ⟨Nat.zero_le _, Nat.zero_le _⟩) hS hD.2 (fun H locs hP hS => ?_)
        refine lv_iconst (v := 1) hx hb dX2_plan_36 (by decide) ?_
        refine lv_iadd hx hb dX2_plan_37 ?_
        obtain ⟨q13, g12, hf⟩ := ob_bind hf
        refine xc_z (xw_runS (As := [.int a2, .int 0, .int (q11 + 1)]) (rest := []) ⟨hx, hb, hml, hown, hts⟩ (wkX2_isIn l D dA E hE w a2 0 (q11 + 1) g12) (va_cwS 3 hts (lw_S q1538 q1539 q140 q1540) rfl rfl rfl cdX2_isIn.2 ⟨Nat.le_of_ble_eq_true rfl, Nat.le_of_ble_eq_true rfl⟩) hK hP hl.1 rfl rfl (Nat.le_of_ble_eq_true rfl) dX2_plan_38 ⟨Nat.zero_le _, Nat.zero_le _⟩) hS hD.2 (fun H locs zq13 hP hS => ?_)
        refine lv_if_ne (tgt := 46) hx hb dX2_plan_41 (by decide) (fun c14 => ?_) (fun c14 => ?_)
        · replace hf := ob_f hf c14
          refine lv_aload_n hx hb dX2_plan_46 rfl (lv_at hl 0 rfl) ?_
          refine lv_iload_n hx hb dX2_plan_47 rfl (lv_at hl 1 rfl) ?_
          obtain ⟨q16, g15, hf⟩ := ob_bind hf
          refine xc_v (xw_run (As := [.int a1]) (rest := []) ⟨hx, hb, hml, hown, hts⟩ (k0 := 0) (wkX2_layPlan l D dA E hE w a1 g15) (cwV 1 hts (lw_V q2004 q2006 qs128 q140 q2007) rfl rfl rfl cdX2_layPlan ⟨Nat.le_of_ble_eq_true rfl, Nat.le_of_ble_eq_true rfl⟩) hK hP (by decide) rfl rfl rfl hl.1 rfl rfl (Nat.le_of_ble_eq_true rfl) dX2_plan_48 ⟨Nat.zero_le _, Nat.zero_le _⟩) hS hD.2 (fun H locs hP hS => ?_)
          refine lv_aload_n hx hb dX2_plan_51 rfl (lv_at hl 0 rfl) ?_
          refine xr_get hx hb hts in_X2 hown hK hP 0 (by decide) rfl rfl 31 (by decide) (hts _ q1436) (fun _ h => h) rfl (v := .int (q16.1 0 31)) rfl dX2_plan_52 ?_
          refine lv_iconst (v := (-1)) hx hb dX2_plan_55 (by decide) ?_
          refine lv_icmp_ne (tgt := 63) hx hb dX2_plan_56 (by decide) (fun c17 => ?_) (fun c17 => ?_)
          · replace hf := ob_f hf c17
            refine lv_iload_n hx hb dX2_plan_63 rfl (lv_at hl 2 rfl) ?_
            refine lv_if_ne (tgt := 74) hx hb dX2_plan_64 (by decide) (fun c18 => ?_) (fun c18 => ?_)
            · replace hf := ob_f hf c18
              refine lv_iload_n hx hb dX2_plan_74 rfl (lv_at hl 2 rfl) ?_
              refine lv_iconst (v := 1) hx hb dX2_plan_75 (by decide) ?_
              refine lv_icmp_ne (tgt := 86) hx hb dX2_plan_76 (by decide) (fun c19 => ?_) (fun c19 => ?_)
              · replace hf := ob_f hf c19
                refine lv_aload_n hx hb dX2_plan_86 rfl (lv_at hl 0 rfl) ?_
                refine xr_get hx hb hts in_X2 hown hK hP 0 (by decide) rfl rfl 29 (by decide) (hts _ q1434) (fun _ h => h) rfl (v := .ref (E 13)) rfl dX2_plan_87 ?_
                refine lv_iload_n hx hb dX2_plan_90 rfl (lv_at hl 2 rfl) ?_
                refine lv_iconst (v := 2) hx hb dX2_plan_91 (by decide) ?_
                refine lv_isub hx hb dX2_plan_92 ?_
                obtain ⟨h20, hf⟩ := ob_gd hf
                refine xr_iald hx hb hK hP 13 (by decide) rfl 0 rfl (j := (a2 - 2).toNatClampNeg) h20 rfl dX2_plan_93 ?_
                obtain rfl := ob_s hf
                subst hQ
                exact xe_i hx hb hr hlocks hP hS dX2_plan_94
              · replace hf := ob_t hf c19
                refine lv_aload_n hx hb dX2_plan_79 rfl (lv_at hl 0 rfl) ?_
                refine xr_get hx hb hts in_X2 hown hK hP 0 (by decide) rfl rfl 32 (by decide) (hts _ q1437) (fun _ h => h) rfl (v := .int (q16.1 0 32)) rfl dX2_plan_80 ?_
                refine lv_goto (tgt := 94) hx hb dX2_plan_83 (by decide) ?_
                obtain rfl := ob_s hf
                subst hQ
                exact xe_i hx hb hr hlocks hP hS dX2_plan_94
            · replace hf := ob_t hf c18
              refine lv_aload_n hx hb dX2_plan_67 rfl (lv_at hl 0 rfl) ?_
              refine xr_get hx hb hts in_X2 hown hK hP 0 (by decide) rfl rfl 31 (by decide) (hts _ q1436) (fun _ h => h) rfl (v := .int (q16.1 0 31)) rfl dX2_plan_68 ?_
              refine lv_goto (tgt := 94) hx hb dX2_plan_71 (by decide) ?_
              obtain rfl := ob_s hf
              subst hQ
              exact xe_i hx hb hr hlocks hP hS dX2_plan_94
          · replace hf := ob_t hf c17
            refine lv_iconst (v := (-1)) hx hb dX2_plan_59 (by decide) ?_
            refine lv_goto (tgt := 94) hx hb dX2_plan_60 (by decide) ?_
            obtain rfl := ob_s hf
            subst hQ
            exact xe_i hx hb hr hlocks hP hS dX2_plan_94
        · replace hf := ob_t hf c14
          refine lv_iconst (v := (-1)) hx hb dX2_plan_44 (by decide) ?_
          obtain rfl := ob_s hf
          subst hQ
          exact xe_i hx hb hr hlocks hP hS dX2_plan_45
abbrev rmX2_best : Room := { frames := 6, cells := 0, slots := 0, locals := 146 }
theorem cdX2_best : yX2_best.cls = RX2 ∧ yX2_best.cls ≠ "java/lang/invoke/MethodHandle" ∧ yX2_best.cls ≠ "java/lang/invoke/VarHandle" ∧ (parseMethodDescriptor yX2_best.desc).map (fun d => d.parameters.length) = some 3 := by decide +kernel
set_option maxHeartbeats 4000000 in
set_option maxRecDepth 100000 in
theorem wkX2_best (l : Launch) (D : va_G) (dA : Nat → ClassId) (E : Nat → Nat) (hE : wInj 19 E) (w : Mm) (a1 : Int32) (a2 : Int32) (a3 : Int32) {res : Int32 × Mm} (hf : M_best w a1 a2 a3 = some res) : Met l yX2_best (ws_ yX2_best cX2_best 8 (some .int)) rmX2_best (Pw D clM (tyM dA) shM 19 dA E [.ref (E 0), .int a1, .int a2, .int a3] w) (Qwi D clM shM 19 dA E res.1 res.2) 0 0 (AE 19 E) := by
  refine xm_head (own := RX2) (by decide) rfl (Nat.le_of_ble_eq_true rfl) ?_
  intro p e s m args below meth c ls Q hQ C hP hl
  obtain ⟨hx, hb, hr, hlocks, hml, hown, hts, hK⟩ := C
  replace hl : lv_has ls 8 [(0, .ref (E 0)), (1, .int a1), (2, .int a2), (3, .int a3)] := hl
  have hS : va_S (AE 19 E) s.heap s.heap [] := va_S.rf
  have hD : wD 19 E (AE 19 E) := wD.self hE
  unfold M_best at hf
  obtain ⟨H, eH⟩ : ∃ H, H = s.heap := ⟨_, rfl⟩
  obtain ⟨locs, eL⟩ : ∃ locs : List Loc, locs = [] := ⟨_, rfl⟩
  rw [← eL] at hS ⊢
  rw [← eH] at hP
  have hS : va_S (AE 19 E) s.heap H locs := by rw [eH]; exact hS
  show W p l e rmX2_best s m args below meth c s.heap locs 0 0 Q (F0 m 0 ls [])
  rw [← eH]
  refine lv_aload_n hx hb dX2_best_0 rfl (lv_at hl 0 rfl) ?_
  refine lv_iload_n hx hb dX2_best_1 rfl (lv_at hl 1 rfl) ?_
  obtain ⟨q2, g1, hf⟩ := ob_bind hf
  refine xc_z (xw_run (As := [.int a1]) (rest := []) ⟨hx, hb, hml, hown, hts⟩ (k0 := 0) (wkX2_isQuarrel l D dA E hE w a1 g1) (cwV 1 hts (lw_V q1733 q1735 qs92 q140 q1736) rfl rfl rfl cdX2_isQuarrel ⟨Nat.le_of_ble_eq_true rfl, Nat.le_of_ble_eq_true rfl⟩) hK hP (by decide) rfl rfl rfl hl.1 rfl rfl (Nat.le_of_ble_eq_true rfl) dX2_best_2 ⟨Nat.zero_le _, Nat.zero_le _⟩) hS hD.2 (fun H locs zq2 hP hS => ?_)
  refine lv_if_eq (tgt := 26) hx hb dX2_best_5 (by decide) (fun c3 => ?_) (fun c3 => ?_)
  · replace hf := ob_t hf c3
    refine lv_iconst (v := (-1)) hx hb dX2_best_26 (by decide) ?_
    obtain rfl := ob_s hf
    subst hQ
    exact xe_i hx hb hr hlocks hP hS dX2_best_27
  · replace hf := ob_f hf c3
    refine lv_aload_n hx hb dX2_best_8 rfl (lv_at hl 0 rfl) ?_
    refine lv_iload_n hx hb dX2_best_9 rfl (lv_at hl 1 rfl) ?_
    obtain ⟨q5, g4, hf⟩ := ob_bind hf
    refine xc_z (xw_run (As := [.int a1]) (rest := []) ⟨hx, hb, hml, hown, hts⟩ (k0 := 0) (wkX2_isPawned l D dA E hE w a1 g4) (cwV 1 hts (lw_V q1764 q1766 qs98 q140 q1767) rfl rfl rfl cdX2_isPawned ⟨Nat.le_of_ble_eq_true rfl, Nat.le_of_ble_eq_true rfl⟩) hK hP (by decide) rfl rfl rfl hl.1 rfl rfl (Nat.le_of_ble_eq_true rfl) dX2_best_10 ⟨Nat.zero_le _, Nat.zero_le _⟩) hS hD.2 (fun H locs zq5 hP hS => ?_)
    refine lv_if_eq (tgt := 26) hx hb dX2_best_13 (by decide) (fun c6 => ?_) (fun c6 => ?_)
    · replace hf := ob_t hf c6
      refine lv_iconst (v := (-1)) hx hb dX2_best_26 (by decide) ?_
      obtain rfl := ob_s hf
      subst hQ
      exact xe_i hx hb hr hlocks hP hS dX2_best_27
    · replace hf := ob_f hf c6
      refine lv_iload_n hx hb dX2_best_16 rfl (lv_at hl 2 rfl) ?_
      refine lv_iconst (v := 0) hx hb dX2_best_17 (by decide) ?_
      refine lv_bipush (v := 60) hx hb dX2_best_18 (by decide) ?_
      obtain ⟨q8, g7, hf⟩ := ob_bind hf
      refine xc_z (xw_runS (As := [.int a2, .int 0, .int 60]) (rest := []) ⟨hx, hb, hml, hown, hts⟩ (wkX2_isIn l D dA E hE w a2 0 60 g7) (va_cwS 3 hts (lw_S q1538 q1539 q140 q1540) rfl rfl rfl cdX2_isIn.2 ⟨Nat.le_of_ble_eq_true rfl, Nat.le_of_ble_eq_true rfl⟩) hK hP hl.1 rfl rfl (Nat.le_of_ble_eq_true rfl) dX2_best_20 ⟨Nat.zero_le _, Nat.zero_le _⟩) hS hD.2 (fun H locs zq8 hP hS => ?_)
      refine lv_if_ne (tgt := 28) hx hb dX2_best_23 (by decide) (fun c9 => ?_) (fun c9 => ?_)
      · replace hf := ob_f hf c9
        refine lv_iconst (v := 0) hx hb dX2_best_28 (by decide) ?_
        refine lv_istore (lv' := [(4, .int 0), (0, .ref (E 0)), (1, .int a1), (2, .int a2), (3, .int a3)]) hx hb dX2_best_29 hl (by decide) rfl (fun ls hl => ?_)
        refine lv_aload_n hx hb dX2_best_31 rfl (lv_at hl 1 rfl) ?_
        refine lv_iload_n hx hb dX2_best_32 rfl (lv_at hl 2 rfl) ?_
        obtain ⟨q11, g10, hf⟩ := ob_bind hf
        refine xc_i (xw_run (As := [.int a1]) (rest := []) ⟨hx, hb, hml, hown, hts⟩ (k0 := 0) (wkX2_duesOf l D dA E hE w a1 g10) (cwV 1 hts (lw_V q1768 q1770 qs99 q140 q1771) rfl rfl rfl cdX2_duesOf ⟨Nat.le_of_ble_eq_true rfl, Nat.le_of_ble_eq_true rfl⟩) hK hP (by decide) rfl rfl rfl hl.1 rfl rfl (Nat.le_of_ble_eq_true rfl) dX2_best_33 ⟨Nat.zero_le _, Nat.zero_le _⟩) hS hD.2 (fun H locs hP hS => ?_)
        refine lv_istore (lv' := [(5, .int q11.1), (4, .int 0), (0, .ref (E 0)), (1, .int a1), (2, .int a2), (3, .int a3)]) hx hb dX2_best_36 hl (by decide) rfl (fun ls hl => ?_)
        refine lv_iconst (v := 1) hx hb dX2_best_38 (by decide) ?_
        refine lv_istore (lv' := [(6, .int 1), (5, .int q11.1), (4, .int 0), (0, .ref (E 0)), (1, .int a1), (2, .int a2), (3, .int a3)]) hx hb dX2_best_39 hl (by decide) rfl (fun ls hl => ?_)
        obtain ⟨b16, hb16, hf⟩ := ob_bind hf
        obtain ⟨n16, hn16⟩ := lp_some hb16
        have kL41 : ∀ (n : Nat) (w12 : Mm) (v4_13 : Int32) (v5_14 : Int32) (v6_15 : Int32), lpF (fun (q16 : Mm × Int32 × Int32 × Int32) => M_best_b41 a2 a1 q16.1 q16.2.1 q16.2.2.1 q16.2.2.2) n (w12, v4_13, v5_14, v6_15) = some b16 → (∀ (H : Heap) (locs : List Loc) (ls : Array Slot), va_P D clM (wl shM 19 dA E b16.1) H → va_S (AE 19 E) s.heap H locs → lv_has ls 8 [(3, .int a3), (4, .int b16.2.1), (5, .int b16.2.2)] → W p l e rmX2_best s m args below meth c H locs 0 0 Q (F0 m 93 ls [])) → ∀ (H : Heap) (locs : List Loc) (ls : Array Slot), va_P D clM (wl shM 19 dA E w12) H → va_S (AE 19 E) s.heap H locs → lv_has ls 8 [(0, .ref (E 0)), (1, .int a1), (2, .int a2), (3, .int a3), (4, .int v4_13), (5, .int v5_14), (6, .int v6_15)] → W p l e rmX2_best s m args below meth c H locs 0 0 Q (F0 m 41 ls []) := by
          intro n
          induction n with
          | zero =>
            intro w12 v4_13 v5_14 v6_15 h
            cases h
          | succ n ih =>
            intro w12 v4_13 v5_14 v6_15 h K16_0 H locs ls hP hS hl
            obtain ⟨r16, hf, h16a, h16b⟩ := lpF_step h
            replace hf : M_best_b41 a2 a1 w12 v4_13 v5_14 v6_15 = some r16 := hf
            unfold M_best_b41 at hf
            refine lv_iload hx hb dX2_best_41 (lv_at hl 6 rfl) ?_
            refine lv_iload_n hx hb dX2_best_43 rfl (lv_at hl 2 rfl) ?_
            refine lv_icmp_gt (tgt := 93) hx hb dX2_best_44 (by decide) (fun c17 => ?_) (fun c17 => ?_)
            · replace hf := ob_t hf c17
              obtain rfl := ob_s hf
              obtain rfl := h16b _ rfl
              exact K16_0 H locs ls hP hS (lv_sub hl [3, 4, 5] rfl)
            · replace hf := ob_f hf c17
              refine lv_aload_n hx hb dX2_best_47 rfl (lv_at hl 0 rfl) ?_
              refine lv_aload_n hx hb dX2_best_48 rfl (lv_at hl 0 rfl) ?_
              refine xr_get hx hb hts in_X2 hown hK hP 0 (by decide) rfl rfl 0 (by decide) (hts _ q1405) (fun _ h => h) rfl (v := .ref (E 1)) rfl dX2_best_49 ?_
              refine lv_iconst (v := 2) hx hb dX2_best_52 (by decide) ?_
              refine xr_iald hx hb hK hP 1 (by decide) rfl 0 rfl (j := 2) (vin_c (by decide)) (by decide) dX2_best_53 ?_
              refine lv_iload_n hx hb dX2_best_54 rfl (lv_at hl 1 rfl) ?_
              refine lv_iload hx hb dX2_best_55 (lv_at hl 6 rfl) ?_
              refine lv_aload_n hx hb dX2_best_57 rfl (lv_at hl 0 rfl) ?_
              refine xr_get hx hb hts in_X2 hown hK hP 0 (by decide) rfl rfl 0 (by decide) (hts _ q1405) (fun _ h => h) rfl (v := .ref (E 1)) rfl dX2_best_58 ?_
              refine lv_bipush (v := 9) hx hb dX2_best_61 (by decide) ?_
              refine xr_iald hx hb hK hP 1 (by decide) rfl 0 rfl (j := 9) (vin_c (by decide)) (by decide) dX2_best_63 ?_
              obtain ⟨q19, g18, hf⟩ := ob_bind hf
              refine xc_i (xw_run (As := [.int (w12.1 1 2), .int a1, .int v6_15, .int (w12.1 1 9)]) (rest := []) ⟨hx, hb, hml, hown, hts⟩ (k0 := 0) (wkX2_duesBy l D dA E hE w12 (w12.1 1 2) a1 v6_15 (w12.1 1 9) g18) (cwV 4 hts (lw_V q1772 q1774 qs100 q140 q1775) rfl rfl rfl cdX2_duesBy ⟨Nat.le_of_ble_eq_true rfl, Nat.le_of_ble_eq_true rfl⟩) hK hP (by decide) rfl rfl rfl hl.1 rfl rfl (Nat.le_of_ble_eq_true rfl) dX2_best_64 ⟨Nat.zero_le _, Nat.zero_le _⟩) hS hD.2 (fun H locs hP hS => ?_)
              refine lv_istore (lv' := [(7, .int q19.1), (0, .ref (E 0)), (1, .int a1), (2, .int a2), (3, .int a3), (4, .int v4_13), (5, .int v5_14), (6, .int v6_15)]) hx hb dX2_best_67 hl (by decide) rfl (fun ls hl => ?_)
              refine lv_iload hx hb dX2_best_69 (lv_at hl 0 rfl) ?_
              refine lv_iload hx hb dX2_best_71 (lv_at hl 6 rfl) ?_
              refine lv_icmp_lt (tgt := 79) hx hb dX2_best_73 (by decide) (fun c20 => ?_) (fun c20 => ?_)
              · replace hf := ob_t hf c20
                refine lv_iload hx hb dX2_best_79 (lv_at hl 0 rfl) ?_
                refine lv_istore (lv' := [(5, .int q19.1), (7, .int q19.1), (0, .ref (E 0)), (1, .int a1), (2, .int a2), (3, .int a3), (4, .int v4_13), (6, .int v6_15)]) hx hb dX2_best_81 hl (by decide) rfl (fun ls hl => ?_)
                refine lv_iload hx hb dX2_best_83 (lv_at hl 7 rfl) ?_
                refine lv_istore (lv' := [(4, .int v6_15), (5, .int q19.1), (7, .int q19.1), (0, .ref (E 0)), (1, .int a1), (2, .int a2), (3, .int a3), (6, .int v6_15)]) hx hb dX2_best_85 hl (by decide) rfl (fun ls hl => ?_)
                obtain ⟨v6_21, ev6_21, hf⟩ := ob_bnd hf
                refine lv_iinc (v := v6_21) (lv' := [(6, .int v6_21), (4, .int v6_15), (5, .int q19.1), (7, .int q19.1), (0, .ref (E 0)), (1, .int a1), (2, .int a2), (3, .int a3)]) hx hb dX2_best_87 hl (k := 7) rfl (by rw [ev6_21]; rfl) (by decide) rfl (fun ls hl => ?_)
                refine lv_goto (tgt := 41) hx hb dX2_best_90 (by decide) ?_
                obtain rfl := ob_s hf
                exact ih _ _ _ _ (h16a _ rfl) K16_0 H locs ls hP hS (lv_sub hl [4, 5, 6, 7, 1, 2, 0] rfl)
              · replace hf := ob_f hf c20
                refine lv_goto (tgt := 87) hx hb dX2_best_76 (by decide) ?_
                obtain ⟨v6_22, ev6_22, hf⟩ := ob_bnd hf
                refine lv_iinc (v := v6_22) (lv' := [(6, .int v6_22), (7, .int q19.1), (0, .ref (E 0)), (1, .int a1), (2, .int a2), (3, .int a3), (4, .int v4_13), (5, .int v5_14)]) hx hb dX2_best_87 hl (k := 7) rfl (by rw [ev6_22]; rfl) (by decide) rfl (fun ls hl => ?_)
                refine lv_goto (tgt := 41) hx hb dX2_best_90 (by decide) ?_
                obtain rfl := ob_s hf
                exact ih _ _ _ _ (h16a _ rfl) K16_0 H locs ls hP hS (lv_sub hl [2, 3, 4, 5, 6, 7, 0] rfl)
        refine kL41 n16 q11.2 0 q11.1 1 hn16 (fun H locs ls hP hS hl => ?_) H locs ls hP hS (lv_sub hl [3, 4, 5, 6, 2, 1, 0] rfl)
        replace hf : M_best_x41_93 a3 b16 = some res := hf
        unfold M_best_x41_93 at hf
        refine lv_iload_n hx hb dX2_best_93 rfl (lv_at hl 0 rfl) ?_
        refine lv_if_eq (tgt := 102) hx hb dX2_best_94 (by decide) (fun c23 => ?_) (fun c23 => ?_)
        · replace hf := ob_t hf c23
          refine lv_iload hx hb dX2_best_102 (lv_at hl 2 rfl) ?_
          obtain rfl := ob_s hf
          subst hQ
          exact xe_i hx hb hr hlocks hP hS dX2_best_104
        · replace hf := ob_f hf c23
          refine lv_iload hx hb dX2_best_97 (lv_at hl 1 rfl) ?_
          refine lv_goto (tgt := 104) hx hb dX2_best_99 (by decide) ?_
          obtain rfl := ob_s hf
          subst hQ
          exact xe_i hx hb hr hlocks hP hS dX2_best_104
      · replace hf := ob_t hf c9
        refine lv_iconst (v := (-1)) hx hb dX2_best_26 (by decide) ?_
        obtain rfl := ob_s hf
        subst hQ
        exact xe_i hx hb hr hlocks hP hS dX2_best_27
abbrev rmX2_digitOf : Room := { frames := 0, cells := 0, slots := 0, locals := 0 }
theorem cdX2_digitOf : yX2_digitOf.cls = RX2 ∧ yX2_digitOf.cls ≠ "java/lang/invoke/MethodHandle" ∧ yX2_digitOf.cls ≠ "java/lang/invoke/VarHandle" ∧ (parseMethodDescriptor yX2_digitOf.desc).map (fun d => d.parameters.length) = some 2 := by decide +kernel
set_option maxHeartbeats 4000000 in
set_option maxRecDepth 100000 in
theorem wkX2_digitOf (l : Launch) (D : va_G) (dA : Nat → ClassId) (E : Nat → Nat) (hE : wInj 19 E) (w : Mm) (a0 : Int32) (a1 : Int32) {res : Int32} (hf : M_digitOf a0 a1 = some res) : Met l yX2_digitOf (ws_ yX2_digitOf cX2_digitOf 2 (some .int)) rmX2_digitOf (Pw D clM (tyM dA) shM 19 dA E [.int a0, .int a1] w) (Qwi D clM shM 19 dA E res w) 0 0 (AE 19 E) := by
  refine xm_head (own := RX2) (by decide) rfl (Nat.le_of_ble_eq_true rfl) ?_
  intro p e s m args below meth c ls Q hQ C hP hl
  obtain ⟨hx, hb, hr, hlocks, hml, hown, hts, hK⟩ := C
  replace hl : lv_has ls 2 [(0, .int a0), (1, .int a1)] := hl
  have hS : va_S (AE 19 E) s.heap s.heap [] := va_S.rf
  have hD : wD 19 E (AE 19 E) := wD.self hE
  unfold M_digitOf at hf
  obtain ⟨H, eH⟩ : ∃ H, H = s.heap := ⟨_, rfl⟩
  obtain ⟨locs, eL⟩ : ∃ locs : List Loc, locs = [] := ⟨_, rfl⟩
  rw [← eL] at hS ⊢
  rw [← eH] at hP
  have hS : va_S (AE 19 E) s.heap H locs := by rw [eH]; exact hS
  show W p l e rmX2_digitOf s m args below meth c s.heap locs 0 0 Q (F0 m 0 ls [])
  rw [← eH]
  refine lv_iload_n hx hb dX2_digitOf_0 rfl (lv_at hl 1 rfl) ?_
  refine lv_if_ne (tgt := 12) hx hb dX2_digitOf_1 (by decide) (fun c1 => ?_) (fun c1 => ?_)
  · replace hf := ob_f hf c1
    refine lv_iload_n hx hb dX2_digitOf_12 rfl (lv_at hl 1 rfl) ?_
    refine lv_iconst (v := 1) hx hb dX2_digitOf_13 (by decide) ?_
    refine lv_icmp_ne (tgt := 27) hx hb dX2_digitOf_14 (by decide) (fun c2 => ?_) (fun c2 => ?_)
    · replace hf := ob_f hf c2
      refine lv_iload_n hx hb dX2_digitOf_27 rfl (lv_at hl 1 rfl) ?_
      refine lv_iconst (v := 2) hx hb dX2_digitOf_28 (by decide) ?_
      refine lv_icmp_ne (tgt := 42) hx hb dX2_digitOf_29 (by decide) (fun c3 => ?_) (fun c3 => ?_)
      · replace hf := ob_f hf c3
        refine lv_iload_n hx hb dX2_digitOf_42 rfl (lv_at hl 0 rfl) ?_
        refine lv_bipush (v := 10) hx hb dX2_digitOf_43 (by decide) ?_
        refine xr_irem hx hb dX2_digitOf_45 (by decide) ?_
        obtain rfl := ob_s hf
        subst hQ
        exact xe_i hx hb hr hlocks hP hS dX2_digitOf_46
      · replace hf := ob_t hf c3
        refine lv_iload_n hx hb dX2_digitOf_32 rfl (lv_at hl 0 rfl) ?_
        refine lv_bipush (v := 10) hx hb dX2_digitOf_33 (by decide) ?_
        refine lv_idiv hx hb dX2_digitOf_35 (by decide) ?_
        refine lv_bipush (v := 10) hx hb dX2_digitOf_36 (by decide) ?_
        refine xr_irem hx hb dX2_digitOf_38 (by decide) ?_
        refine lv_goto (tgt := 46) hx hb dX2_digitOf_39 (by decide) ?_
        obtain rfl := ob_s hf
        subst hQ
        exact xe_i hx hb hr hlocks hP hS dX2_digitOf_46
    · replace hf := ob_t hf c2
      refine lv_iload_n hx hb dX2_digitOf_17 rfl (lv_at hl 0 rfl) ?_
      refine lv_bipush (v := 100) hx hb dX2_digitOf_18 (by decide) ?_
      refine lv_idiv hx hb dX2_digitOf_20 (by decide) ?_
      refine lv_bipush (v := 10) hx hb dX2_digitOf_21 (by decide) ?_
      refine xr_irem hx hb dX2_digitOf_23 (by decide) ?_
      refine lv_goto (tgt := 46) hx hb dX2_digitOf_24 (by decide) ?_
      obtain rfl := ob_s hf
      subst hQ
      exact xe_i hx hb hr hlocks hP hS dX2_digitOf_46
  · replace hf := ob_t hf c1
    refine lv_iload_n hx hb dX2_digitOf_4 rfl (lv_at hl 0 rfl) ?_
    refine lv_sipush (v := 1000) hx hb dX2_digitOf_5 (by decide) ?_
    refine lv_idiv hx hb dX2_digitOf_8 (by decide) ?_
    refine lv_goto (tgt := 46) hx hb dX2_digitOf_9 (by decide) ?_
    obtain rfl := ob_s hf
    subst hQ
    exact xe_i hx hb hr hlocks hP hS dX2_digitOf_46
abbrev rmX2_isTicket : Room := { frames := 1, cells := 0, slots := 0, locals := 21 }
theorem cdX2_isTicket : yX2_isTicket.cls = RX2 ∧ yX2_isTicket.cls ≠ "java/lang/invoke/MethodHandle" ∧ yX2_isTicket.cls ≠ "java/lang/invoke/VarHandle" ∧ (parseMethodDescriptor yX2_isTicket.desc).map (fun d => d.parameters.length) = some 1 := by decide +kernel
set_option maxHeartbeats 4000000 in
set_option maxRecDepth 100000 in
theorem wkX2_isTicket (l : Launch) (D : va_G) (dA : Nat → ClassId) (E : Nat → Nat) (hE : wInj 19 E) (w : Mm) (a1 : Int32) {res : Int32} (hf : M_isTicket w a1 = some res) : Met l yX2_isTicket (ws_ yX2_isTicket cX2_isTicket 3 (some .boolean)) rmX2_isTicket (Pw D clM (tyM dA) shM 19 dA E [.ref (E 0), .int a1] w) (Qwz D clM shM 19 dA E res w) 0 0 (AE 19 E) := by
  refine xm_head (own := RX2) (by decide) rfl (Nat.le_of_ble_eq_true rfl) ?_
  intro p e s m args below meth c ls Q hQ C hP hl
  obtain ⟨hx, hb, hr, hlocks, hml, hown, hts, hK⟩ := C
  replace hl : lv_has ls 3 [(0, .ref (E 0)), (1, .int a1)] := hl
  have hS : va_S (AE 19 E) s.heap s.heap [] := va_S.rf
  have hD : wD 19 E (AE 19 E) := wD.self hE
  unfold M_isTicket at hf
  obtain ⟨H, eH⟩ : ∃ H, H = s.heap := ⟨_, rfl⟩
  obtain ⟨locs, eL⟩ : ∃ locs : List Loc, locs = [] := ⟨_, rfl⟩
  rw [← eL] at hS ⊢
  rw [← eH] at hP
  have hS : va_S (AE 19 E) s.heap H locs := by rw [eH]; exact hS
  show W p l e rmX2_isTicket s m args below meth c s.heap locs 0 0 Q (F0 m 0 ls [])
  rw [← eH]
  refine lv_iconst (v := 0) hx hb dX2_isTicket_0 (by decide) ?_
  refine lv_istore_n (lv' := [(2, .int 0), (0, .ref (E 0)), (1, .int a1)]) hx hb dX2_isTicket_1 rfl hl (by decide) rfl (fun ls hl => ?_)
  obtain ⟨b2, hb2, hf⟩ := ob_bind hf
  obtain ⟨n2, hn2⟩ := lp_some hb2
  have kL2 : ∀ (n : Nat) (v2_1 : Int32), lpF (fun (q2 : Int32) => M_isTicket_b2 w a1 q2) n v2_1 = some b2 → (∀ (x2_0 : Unit), b2 = .inl x2_0 → ∀ (H : Heap) (locs : List Loc) (ls : Array Slot), va_P D clM (wl shM 19 dA E w) H → va_S (AE 19 E) s.heap H locs → lv_has ls 3 [] → W p l e rmX2_isTicket s m args below meth c H locs 0 0 Q (F0 m 37 ls [])) → (∀ (x2_1 : Unit), b2 = .inr x2_1 → ∀ (H : Heap) (locs : List Loc) (ls : Array Slot), va_P D clM (wl shM 19 dA E w) H → va_S (AE 19 E) s.heap H locs → lv_has ls 3 [(1, .int a1)] → W p l e rmX2_isTicket s m args below meth c H locs 0 0 Q (F0 m 45 ls [])) → ∀ (H : Heap) (locs : List Loc) (ls : Array Slot), va_P D clM (wl shM 19 dA E w) H → va_S (AE 19 E) s.heap H locs → lv_has ls 3 [(0, .ref (E 0)), (1, .int a1), (2, .int v2_1)] → W p l e rmX2_isTicket s m args below meth c H locs 0 0 Q (F0 m 2 ls []) := by
    intro n
    induction n with
    | zero =>
      intro v2_1 h
      cases h
    | succ n ih =>
      intro v2_1 h K2_0 K2_1 H locs ls hP hS hl
      obtain ⟨r2, hf, h2a, h2b⟩ := lpF_step h
      replace hf : M_isTicket_b2 w a1 v2_1 = some r2 := hf
      unfold M_isTicket_b2 at hf
      refine lv_iload_n hx hb dX2_isTicket_2 rfl (lv_at hl 2 rfl) ?_
      refine lv_iconst (v := 4) hx hb dX2_isTicket_3 (by decide) ?_
      refine lv_icmp_ge (tgt := 45) hx hb dX2_isTicket_4 (by decide) (fun c3 => ?_) (fun c3 => ?_)
      · replace hf := ob_t hf c3
        obtain rfl := ob_s hf
        exact K2_1 _ (h2b _ rfl).symm H locs ls hP hS (lv_sub hl [1] rfl)
      · replace hf := ob_f hf c3
        refine lv_aload_n hx hb dX2_isTicket_7 rfl (lv_at hl 0 rfl) ?_
        refine xr_get hx hb hts in_X2 hown hK hP 0 (by decide) rfl rfl 0 (by decide) (hts _ q1405) (fun _ h => h) rfl (v := .ref (E 1)) rfl dX2_isTicket_8 ?_
        refine lv_bipush (v := 110) hx hb dX2_isTicket_11 (by decide) ?_
        refine lv_iload_n hx hb dX2_isTicket_13 rfl (lv_at hl 2 rfl) ?_
        refine lv_iadd hx hb dX2_isTicket_14 ?_
        obtain ⟨h4, hf⟩ := ob_gd hf
        refine xr_iald hx hb hK hP 1 (by decide) rfl 0 rfl (j := (110 + v2_1).toNatClampNeg) h4 rfl dX2_isTicket_15 ?_
        refine lv_iconst (v := (-1)) hx hb dX2_isTicket_16 (by decide) ?_
        refine lv_icmp_eq (tgt := 39) hx hb dX2_isTicket_17 (by decide) (fun c5 => ?_) (fun c5 => ?_)
        · replace hf := ob_t hf c5
          obtain ⟨v2_6, ev2_6, hf⟩ := ob_bnd hf
          refine lv_iinc (v := v2_6) (lv' := [(2, .int v2_6), (0, .ref (E 0)), (1, .int a1)]) hx hb dX2_isTicket_39 hl (k := 2) rfl (by rw [ev2_6]; rfl) (by decide) rfl (fun ls hl => ?_)
          refine lv_goto (tgt := 2) hx hb dX2_isTicket_42 (by decide) ?_
          obtain rfl := ob_s hf
          exact ih _ (h2a _ rfl) K2_0 K2_1 H locs ls hP hS (lv_sub hl [1, 2, 0] rfl)
        · replace hf := ob_f hf c5
          refine lv_aload_n hx hb dX2_isTicket_20 rfl (lv_at hl 0 rfl) ?_
          refine xr_get hx hb hts in_X2 hown hK hP 0 (by decide) rfl rfl 0 (by decide) (hts _ q1405) (fun _ h => h) rfl (v := .ref (E 1)) rfl dX2_isTicket_21 ?_
          refine lv_bipush (v := 110) hx hb dX2_isTicket_24 (by decide) ?_
          refine lv_iload_n hx hb dX2_isTicket_26 rfl (lv_at hl 2 rfl) ?_
          refine lv_iadd hx hb dX2_isTicket_27 ?_
          obtain ⟨h7, hf⟩ := ob_gd hf
          refine xr_iald hx hb hK hP 1 (by decide) rfl 0 rfl (j := (110 + v2_1).toNatClampNeg) h7 rfl dX2_isTicket_28 ?_
          refine lv_iload_n hx hb dX2_isTicket_29 rfl (lv_at hl 1 rfl) ?_
          refine lv_iload_n hx hb dX2_isTicket_30 rfl (lv_at hl 2 rfl) ?_
          obtain ⟨q9, g8, hf⟩ := ob_bind hf
          refine xc_i (xw_runS (As := [.int a1, .int v2_1]) (rest := [.int (w.1 1 (110 + v2_1).toNatClampNeg)]) ⟨hx, hb, hml, hown, hts⟩ (wkX2_digitOf l D dA E hE w a1 v2_1 g8) (va_cwS 2 hts (lw_S q2031 q2032 q140 q2033) rfl rfl rfl cdX2_digitOf.2 ⟨Nat.le_of_ble_eq_true rfl, Nat.le_of_ble_eq_true rfl⟩) hK hP hl.1 rfl rfl (Nat.le_of_ble_eq_true rfl) dX2_isTicket_31 ⟨Nat.zero_le _, Nat.zero_le _⟩) hS hD.2 (fun H locs hP hS => ?_)
          refine lv_icmp_eq (tgt := 39) hx hb dX2_isTicket_34 (by decide) (fun c10 => ?_) (fun c10 => ?_)
          · replace hf := ob_t hf c10
            obtain ⟨v2_11, ev2_11, hf⟩ := ob_bnd hf
            refine lv_iinc (v := v2_11) (lv' := [(2, .int v2_11), (0, .ref (E 0)), (1, .int a1)]) hx hb dX2_isTicket_39 hl (k := 2) rfl (by rw [ev2_11]; rfl) (by decide) rfl (fun ls hl => ?_)
            refine lv_goto (tgt := 2) hx hb dX2_isTicket_42 (by decide) ?_
            obtain rfl := ob_s hf
            exact ih _ (h2a _ rfl) K2_0 K2_1 H locs ls hP hS (lv_sub hl [1, 2, 0] rfl)
          · replace hf := ob_f hf c10
            obtain rfl := ob_s hf
            exact K2_0 _ (h2b _ rfl).symm H locs ls hP hS (lv_sub hl [] rfl)
  refine kL2 n2 0 hn2 (fun x2_0 ex2_0 H locs ls hP hS hl => ?_) (fun x2_1 ex2_1 H locs ls hP hS hl => ?_) H locs ls hP hS (lv_sub hl [1, 2, 0] rfl)
  · subst ex2_0
    replace hf : M_isTicket_x2_37 = some res := hf
    unfold M_isTicket_x2_37 at hf
    refine lv_iconst (v := 0) hx hb dX2_isTicket_37 (by decide) ?_
    obtain rfl := ob_s hf
    subst hQ
    exact xe_z hx hb hr hlocks hP hS (Or.inl rfl) dX2_isTicket_38
  · subst ex2_1
    replace hf : M_isTicket_x2_45 a1 = some res := hf
    unfold M_isTicket_x2_45 at hf
    refine lv_iload_n hx hb dX2_isTicket_45 rfl (lv_at hl 0 rfl) ?_
    refine lv_iconst (v := 0) hx hb dX2_isTicket_46 (by decide) ?_
    obtain ⟨q13, g12, hf⟩ := ob_bind hf
    refine xc_i (xw_runS (As := [.int a1, .int 0]) (rest := []) ⟨hx, hb, hml, hown, hts⟩ (wkX2_digitOf l D dA E hE w a1 0 g12) (va_cwS 2 hts (lw_S q2031 q2032 q140 q2033) rfl rfl rfl cdX2_digitOf.2 ⟨Nat.le_of_ble_eq_true rfl, Nat.le_of_ble_eq_true rfl⟩) hK hP hl.1 rfl rfl (Nat.le_of_ble_eq_true rfl) dX2_isTicket_47 ⟨Nat.zero_le _, Nat.zero_le _⟩) hS hD.2 (fun H locs hP hS => ?_)
    refine lv_iconst (v := 3) hx hb dX2_isTicket_50 (by decide) ?_
    refine lv_iload_n hx hb dX2_isTicket_51 rfl (lv_at hl 0 rfl) ?_
    refine lv_iconst (v := 1) hx hb dX2_isTicket_52 (by decide) ?_
    obtain ⟨q15, g14, hf⟩ := ob_bind hf
    refine xc_i (xw_runS (As := [.int a1, .int 1]) (rest := [.int 3, .int q13]) ⟨hx, hb, hml, hown, hts⟩ (wkX2_digitOf l D dA E hE w a1 1 g14) (va_cwS 2 hts (lw_S q2031 q2032 q140 q2033) rfl rfl rfl cdX2_digitOf.2 ⟨Nat.le_of_ble_eq_true rfl, Nat.le_of_ble_eq_true rfl⟩) hK hP hl.1 rfl rfl (Nat.le_of_ble_eq_true rfl) dX2_isTicket_53 ⟨Nat.zero_le _, Nat.zero_le _⟩) hS hD.2 (fun H locs hP hS => ?_)
    refine lv_imul hx hb dX2_isTicket_56 ?_
    refine lv_iadd hx hb dX2_isTicket_57 ?_
    refine lv_bipush (v := 7) hx hb dX2_isTicket_58 (by decide) ?_
    refine lv_iload_n hx hb dX2_isTicket_60 rfl (lv_at hl 0 rfl) ?_
    refine lv_iconst (v := 2) hx hb dX2_isTicket_61 (by decide) ?_
    obtain ⟨q17, g16, hf⟩ := ob_bind hf
    refine xc_i (xw_runS (As := [.int a1, .int 2]) (rest := [.int 7, .int (q13 + (3 * q15))]) ⟨hx, hb, hml, hown, hts⟩ (wkX2_digitOf l D dA E hE w a1 2 g16) (va_cwS 2 hts (lw_S q2031 q2032 q140 q2033) rfl rfl rfl cdX2_digitOf.2 ⟨Nat.le_of_ble_eq_true rfl, Nat.le_of_ble_eq_true rfl⟩) hK hP hl.1 rfl rfl (Nat.le_of_ble_eq_true rfl) dX2_isTicket_62 ⟨Nat.zero_le _, Nat.zero_le _⟩) hS hD.2 (fun H locs hP hS => ?_)
    refine lv_imul hx hb dX2_isTicket_65 ?_
    refine lv_iadd hx hb dX2_isTicket_66 ?_
    refine lv_bipush (v := 9) hx hb dX2_isTicket_67 (by decide) ?_
    refine lv_iload_n hx hb dX2_isTicket_69 rfl (lv_at hl 0 rfl) ?_
    refine lv_iconst (v := 3) hx hb dX2_isTicket_70 (by decide) ?_
    obtain ⟨q19, g18, hf⟩ := ob_bind hf
    refine xc_i (xw_runS (As := [.int a1, .int 3]) (rest := [.int 9, .int ((q13 + (3 * q15)) + (7 * q17))]) ⟨hx, hb, hml, hown, hts⟩ (wkX2_digitOf l D dA E hE w a1 3 g18) (va_cwS 2 hts (lw_S q2031 q2032 q140 q2033) rfl rfl rfl cdX2_digitOf.2 ⟨Nat.le_of_ble_eq_true rfl, Nat.le_of_ble_eq_true rfl⟩) hK hP hl.1 rfl rfl (Nat.le_of_ble_eq_true rfl) dX2_isTicket_71 ⟨Nat.zero_le _, Nat.zero_le _⟩) hS hD.2 (fun H locs hP hS => ?_)
    refine lv_imul hx hb dX2_isTicket_74 ?_
    refine lv_iadd hx hb dX2_isTicket_75 ?_
    refine lv_bipush (v := 10) hx hb dX2_isTicket_76 (by decide) ?_
    refine xr_irem hx hb dX2_isTicket_78 (by decide) ?_
    refine lv_if_ne (tgt := 86) hx hb dX2_isTicket_79 (by decide) (fun c20 => ?_) (fun c20 => ?_)
    · replace hf := ob_f hf c20
      refine lv_iconst (v := 0) hx hb dX2_isTicket_86 (by decide) ?_
      obtain rfl := ob_s hf
      subst hQ
      exact xe_z hx hb hr hlocks hP hS (Or.inl rfl) dX2_isTicket_87
    · replace hf := ob_t hf c20
      refine lv_iconst (v := 1) hx hb dX2_isTicket_82 (by decide) ?_
      refine lv_goto (tgt := 87) hx hb dX2_isTicket_83 (by decide) ?_
      obtain rfl := ob_s hf
      subst hQ
      exact xe_z hx hb hr hlocks hP hS (Or.inr rfl) dX2_isTicket_87
abbrev rmX2_tickets : Room := { frames := 2, cells := 0, slots := 0, locals := 43 }
theorem cdX2_tickets : yX2_tickets.cls = RX2 ∧ yX2_tickets.cls ≠ "java/lang/invoke/MethodHandle" ∧ yX2_tickets.cls ≠ "java/lang/invoke/VarHandle" ∧ (parseMethodDescriptor yX2_tickets.desc).map (fun d => d.parameters.length) = some 1 := by decide +kernel
set_option maxHeartbeats 4000000 in
set_option maxRecDepth 100000 in
theorem wkX2_tickets (l : Launch) (D : va_G) (dA : Nat → ClassId) (E : Nat → Nat) (hE : wInj 19 E) (w : Mm) (a1 : Int32) {res : Int32} (hf : M_tickets w a1 = some res) : Met l yX2_tickets (ws_ yX2_tickets cX2_tickets 5 (some .int)) rmX2_tickets (Pw D clM (tyM dA) shM 19 dA E [.ref (E 0), .int a1] w) (Qwi D clM shM 19 dA E res w) 0 0 (AE 19 E) := by
  refine xm_head (own := RX2) (by decide) rfl (Nat.le_of_ble_eq_true rfl) ?_
  intro p e s m args below meth c ls Q hQ C hP hl
  obtain ⟨hx, hb, hr, hlocks, hml, hown, hts, hK⟩ := C
  replace hl : lv_has ls 5 [(0, .ref (E 0)), (1, .int a1)] := hl
  have hS : va_S (AE 19 E) s.heap s.heap [] := va_S.rf
  have hD : wD 19 E (AE 19 E) := wD.self hE
  unfold M_tickets at hf
  obtain ⟨H, eH⟩ : ∃ H, H = s.heap := ⟨_, rfl⟩
  obtain ⟨locs, eL⟩ : ∃ locs : List Loc, locs = [] := ⟨_, rfl⟩
  rw [← eL] at hS ⊢
  rw [← eH] at hP
  have hS : va_S (AE 19 E) s.heap H locs := by rw [eH]; exact hS
  show W p l e rmX2_tickets s m args below meth c s.heap locs 0 0 Q (F0 m 0 ls [])
  rw [← eH]
  refine lv_iconst (v := 0) hx hb dX2_tickets_0 (by decide) ?_
  refine lv_istore_n (lv' := [(2, .int 0), (0, .ref (E 0)), (1, .int a1)]) hx hb dX2_tickets_1 rfl hl (by decide) rfl (fun ls hl => ?_)
  refine lv_bipush (v := (-2)) hx hb dX2_tickets_2 (by decide) ?_
  refine lv_istore_n (lv' := [(3, .int (-2)), (2, .int 0), (0, .ref (E 0)), (1, .int a1)]) hx hb dX2_tickets_4 rfl hl (by decide) rfl (fun ls hl => ?_)
  refine lv_iconst (v := 0) hx hb dX2_tickets_5 (by decide) ?_
  refine lv_istore (lv' := [(4, .int 0), (3, .int (-2)), (2, .int 0), (0, .ref (E 0)), (1, .int a1)]) hx hb dX2_tickets_6 hl (by decide) rfl (fun ls hl => ?_)
  obtain ⟨b4, hb4, hf⟩ := ob_bind hf
  obtain ⟨n4, hn4⟩ := lp_some hb4
  have kL8 : ∀ (n : Nat) (v2_1 : Int32) (v3_2 : Int32) (v4_3 : Int32), lpF (fun (q4 : Int32 × Int32 × Int32) => M_tickets_b8 w a1 q4.1 q4.2.1 q4.2.2) n (v2_1, v3_2, v4_3) = some b4 → (∀ (H : Heap) (locs : List Loc) (ls : Array Slot), va_P D clM (wl shM 19 dA E w) H → va_S (AE 19 E) s.heap H locs → lv_has ls 5 [(1, .int a1), (2, .int b4.1), (3, .int b4.2)] → W p l e rmX2_tickets s m args below meth c H locs 0 0 Q (F0 m 45 ls [])) → ∀ (H : Heap) (locs : List Loc) (ls : Array Slot), va_P D clM (wl shM 19 dA E w) H → va_S (AE 19 E) s.heap H locs → lv_has ls 5 [(0, .ref (E 0)), (1, .int a1), (2, .int v2_1), (3, .int v3_2), (4, .int v4_3)] → W p l e rmX2_tickets s m args below meth c H locs 0 0 Q (F0 m 8 ls []) := by
    intro n
    induction n with
    | zero =>
      intro v2_1 v3_2 v4_3 h
      cases h
    | succ n ih =>
      intro v2_1 v3_2 v4_3 h K4_0 H locs ls hP hS hl
      obtain ⟨r4, hf, h4a, h4b⟩ := lpF_step h
      replace hf : M_tickets_b8 w a1 v2_1 v3_2 v4_3 = some r4 := hf
      unfold M_tickets_b8 at hf
      refine lv_iload hx hb dX2_tickets_8 (lv_at hl 4 rfl) ?_
      refine lv_sipush (v := 10000) hx hb dX2_tickets_10 (by decide) ?_
      refine lv_icmp_ge (tgt := 45) hx hb dX2_tickets_13 (by decide) (fun c5 => ?_) (fun c5 => ?_)
      · replace hf := ob_t hf c5
        obtain rfl := ob_s hf
        obtain rfl := h4b _ rfl
        exact K4_0 H locs ls hP hS (lv_sub hl [1, 2, 3] rfl)
      · replace hf := ob_f hf c5
        refine lv_aload_n hx hb dX2_tickets_16 rfl (lv_at hl 0 rfl) ?_
        refine lv_iload hx hb dX2_tickets_17 (lv_at hl 4 rfl) ?_
        obtain ⟨q7, g6, hf⟩ := ob_bind hf
        refine xc_z (xw_run (As := [.int v4_3]) (rest := []) ⟨hx, hb, hml, hown, hts⟩ (k0 := 0) (wkX2_isTicket l D dA E hE w v4_3 g6) (cwV 1 hts (lw_V q2027 q2029 qs131 q140 q2030) rfl rfl rfl cdX2_isTicket ⟨Nat.le_of_ble_eq_true rfl, Nat.le_of_ble_eq_true rfl⟩) hK hP (by decide) rfl rfl rfl hl.1 rfl rfl (Nat.le_of_ble_eq_true rfl) dX2_tickets_19 ⟨Nat.zero_le _, Nat.zero_le _⟩) hS hD.2 (fun H locs zq7 hP hS => ?_)
        refine lv_if_ne (tgt := 28) hx hb dX2_tickets_22 (by decide) (fun c8 => ?_) (fun c8 => ?_)
        · replace hf := ob_f hf c8
          refine lv_iload_n hx hb dX2_tickets_28 rfl (lv_at hl 2 rfl) ?_
          refine lv_iload_n hx hb dX2_tickets_29 rfl (lv_at hl 1 rfl) ?_
          refine lv_icmp_ne (tgt := 36) hx hb dX2_tickets_30 (by decide) (fun c9 => ?_) (fun c9 => ?_)
          · replace hf := ob_f hf c9
            obtain ⟨v2_10, ev2_10, hf⟩ := ob_bnd hf
            refine lv_iinc (v := v2_10) (lv' := [(2, .int v2_10), (0, .ref (E 0)), (1, .int a1), (3, .int v3_2), (4, .int v4_3)]) hx hb dX2_tickets_36 hl (k := 2) rfl (by rw [ev2_10]; rfl) (by decide) rfl (fun ls hl => ?_)
            obtain ⟨v4_11, ev4_11, hf⟩ := ob_bnd hf
            refine lv_iinc (v := v4_11) (lv' := [(4, .int v4_11), (2, .int v2_10), (0, .ref (E 0)), (1, .int a1), (3, .int v3_2)]) hx hb dX2_tickets_39 hl (k := 4) rfl (by rw [ev4_11]; rfl) (by decide) rfl (fun ls hl => ?_)
            refine lv_goto (tgt := 8) hx hb dX2_tickets_42 (by decide) ?_
            obtain rfl := ob_s hf
            exact ih _ _ _ (h4a _ rfl) K4_0 H locs ls hP hS (lv_sub hl [2, 3, 1, 4, 0] rfl)
          · replace hf := ob_t hf c9
            refine lv_iload hx hb dX2_tickets_33 (lv_at hl 4 rfl) ?_
            refine lv_istore_n (lv' := [(3, .int v4_3), (0, .ref (E 0)), (1, .int a1), (2, .int v2_1), (4, .int v4_3)]) hx hb dX2_tickets_35 rfl hl (by decide) rfl (fun ls hl => ?_)
            obtain ⟨v2_12, ev2_12, hf⟩ := ob_bnd hf
            refine lv_iinc (v := v2_12) (lv' := [(2, .int v2_12), (3, .int v4_3), (0, .ref (E 0)), (1, .int a1), (4, .int v4_3)]) hx hb dX2_tickets_36 hl (k := 3) rfl (by rw [ev2_12]; rfl) (by decide) rfl (fun ls hl => ?_)
            obtain ⟨v4_13, ev4_13, hf⟩ := ob_bnd hf
            refine lv_iinc (v := v4_13) (lv' := [(4, .int v4_13), (2, .int v2_12), (3, .int v4_3), (0, .ref (E 0)), (1, .int a1)]) hx hb dX2_tickets_39 hl (k := 4) rfl (by rw [ev4_13]; rfl) (by decide) rfl (fun ls hl => ?_)
            refine lv_goto (tgt := 8) hx hb dX2_tickets_42 (by decide) ?_
            obtain rfl := ob_s hf
            exact ih _ _ _ (h4a _ rfl) K4_0 H locs ls hP hS (lv_sub hl [3, 4, 1, 2, 0] rfl)
        · replace hf := ob_t hf c8
          refine lv_goto (tgt := 39) hx hb dX2_tickets_25 (by decide) ?_
          obtain ⟨v4_14, ev4_14, hf⟩ := ob_bnd hf
          refine lv_iinc (v := v4_14) (lv' := [(4, .int v4_14), (0, .ref (E 0)), (1, .int a1), (2, .int v2_1), (3, .int v3_2)]) hx hb dX2_tickets_39 hl (k := 4) rfl (by rw [ev4_14]; rfl) (by decide) rfl (fun ls hl => ?_)
          refine lv_goto (tgt := 8) hx hb dX2_tickets_42 (by decide) ?_
          obtain rfl := ob_s hf
          exact ih _ _ _ (h4a _ rfl) K4_0 H locs ls hP hS (lv_sub hl [1, 2, 3, 4, 0] rfl)
  refine kL8 n4 0 (-2) 0 hn4 (fun H locs ls hP hS hl => ?_) H locs ls hP hS (lv_sub hl [3, 4, 2, 1, 0] rfl)
  replace hf : M_tickets_x8_45 a1 b4 = some res := hf
  unfold M_tickets_x8_45 at hf
  refine lv_iload_n hx hb dX2_tickets_45 rfl (lv_at hl 0 rfl) ?_
  refine lv_iconst (v := (-1)) hx hb dX2_tickets_46 (by decide) ?_
  refine lv_icmp_ne (tgt := 54) hx hb dX2_tickets_47 (by decide) (fun c15 => ?_) (fun c15 => ?_)
  · replace hf := ob_f hf c15
    refine lv_iload_n hx hb dX2_tickets_54 rfl (lv_at hl 2 rfl) ?_
    obtain rfl := ob_s hf
    subst hQ
    exact xe_i hx hb hr hlocks hP hS dX2_tickets_55
  · replace hf := ob_t hf c15
    refine lv_iload_n hx hb dX2_tickets_50 rfl (lv_at hl 1 rfl) ?_
    refine lv_goto (tgt := 55) hx hb dX2_tickets_51 (by decide) ?_
    obtain rfl := ob_s hf
    subst hQ
    exact xe_i hx hb hr hlocks hP hS dX2_tickets_55
abbrev rmX2_hook : Room := { frames := 1, cells := 0, slots := 0, locals := 22 }
theorem cdX2_hook : yX2_hook.cls = RX2 ∧ yX2_hook.cls ≠ "java/lang/invoke/MethodHandle" ∧ yX2_hook.cls ≠ "java/lang/invoke/VarHandle" ∧ (parseMethodDescriptor yX2_hook.desc).map (fun d => d.parameters.length) = some 1 := by decide +kernel
set_option maxHeartbeats 4000000 in
set_option maxRecDepth 100000 in
theorem wkX2_hook (l : Launch) (D : va_G) (dA : Nat → ClassId) (E : Nat → Nat) (hE : wInj 19 E) (w : Mm) (a1 : Int32) {res : Int32 × Mm} (hf : M_hook w a1 = some res) : Met l yX2_hook (ws_ yX2_hook cX2_hook 2 (some .int)) rmX2_hook (Pw D clM (tyM dA) shM 19 dA E [.ref (E 0), .int a1] w) (Qwi D clM shM 19 dA E res.1 res.2) 0 0 (AE 19 E) := by
  refine xm_head (own := RX2) (by decide) rfl (Nat.le_of_ble_eq_true rfl) ?_
  intro p e s m args below meth c ls Q hQ C hP hl
  obtain ⟨hx, hb, hr, hlocks, hml, hown, hts, hK⟩ := C
  replace hl : lv_has ls 2 [(0, .ref (E 0)), (1, .int a1)] := hl
  have hS : va_S (AE 19 E) s.heap s.heap [] := va_S.rf
  have hD : wD 19 E (AE 19 E) := wD.self hE
  unfold M_hook at hf
  obtain ⟨H, eH⟩ : ∃ H, H = s.heap := ⟨_, rfl⟩
  obtain ⟨locs, eL⟩ : ∃ locs : List Loc, locs = [] := ⟨_, rfl⟩
  rw [← eL] at hS ⊢
  rw [← eH] at hP
  have hS : va_S (AE 19 E) s.heap H locs := by rw [eH]; exact hS
  show W p l e rmX2_hook s m args below meth c s.heap locs 0 0 Q (F0 m 0 ls [])
  rw [← eH]
  refine lv_iload_n hx hb dX2_hook_0 rfl (lv_at hl 1 rfl) ?_
  refine lv_iconst (v := (-1)) hx hb dX2_hook_1 (by decide) ?_
  refine lv_icmp_ne (tgt := 14) hx hb dX2_hook_2 (by decide) (fun c1 => ?_) (fun c1 => ?_)
  · replace hf := ob_f hf c1
    refine lv_iload_n hx hb dX2_hook_14 rfl (lv_at hl 1 rfl) ?_
    refine lv_iconst (v := 1) hx hb dX2_hook_15 (by decide) ?_
    refine lv_bipush (v := 99) hx hb dX2_hook_16 (by decide) ?_
    obtain ⟨q3, g2, hf⟩ := ob_bind hf
    refine xc_z (xw_runS (As := [.int a1, .int 1, .int 99]) (rest := []) ⟨hx, hb, hml, hown, hts⟩ (wkX2_isIn l D dA E hE w a1 1 99 g2) (va_cwS 3 hts (lw_S q1538 q1539 q140 q1540) rfl rfl rfl cdX2_isIn.2 ⟨Nat.le_of_ble_eq_true rfl, Nat.le_of_ble_eq_true rfl⟩) hK hP hl.1 rfl rfl (Nat.le_of_ble_eq_true rfl) dX2_hook_18 ⟨Nat.zero_le _, Nat.zero_le _⟩) hS hD.2 (fun H locs zq3 hP hS => ?_)
    refine lv_if_eq (tgt := 35) hx hb dX2_hook_21 (by decide) (fun c4 => ?_) (fun c4 => ?_)
    · replace hf := ob_t hf c4
      refine lv_bipush (v := (-2)) hx hb dX2_hook_35 (by decide) ?_
      obtain rfl := ob_s hf
      subst hQ
      exact xe_i hx hb hr hlocks hP hS dX2_hook_37
    · replace hf := ob_f hf c4
      refine lv_aload_n hx hb dX2_hook_24 rfl (lv_at hl 0 rfl) ?_
      refine xr_get hx hb hts in_X2 hown hK hP 0 (by decide) rfl rfl 0 (by decide) (hts _ q1405) (fun _ h => h) rfl (v := .ref (E 1)) rfl dX2_hook_25 ?_
      refine lv_iconst (v := 4) hx hb dX2_hook_28 (by decide) ?_
      refine xr_iald hx hb hK hP 1 (by decide) rfl 0 rfl (j := 4) (vin_c (by decide)) (by decide) dX2_hook_29 ?_
      refine lv_bipush (v := 6) hx hb dX2_hook_30 (by decide) ?_
      refine lv_icmp_ne (tgt := 38) hx hb dX2_hook_32 (by decide) (fun c5 => ?_) (fun c5 => ?_)
      · replace hf := ob_f hf c5
        refine lv_aload_n hx hb dX2_hook_38 rfl (lv_at hl 0 rfl) ?_
        refine xr_get hx hb hts in_X2 hown hK hP 0 (by decide) rfl rfl 0 (by decide) (hts _ q1405) (fun _ h => h) rfl (v := .ref (E 1)) rfl dX2_hook_39 ?_
        refine lv_bipush (v := 68) hx hb dX2_hook_42 (by decide) ?_
        refine lv_aload_n hx hb dX2_hook_44 rfl (lv_at hl 0 rfl) ?_
        refine xr_get hx hb hts in_X2 hown hK hP 0 (by decide) rfl rfl 0 (by decide) (hts _ q1405) (fun _ h => h) rfl (v := .ref (E 1)) rfl dX2_hook_45 ?_
        refine lv_iconst (v := 4) hx hb dX2_hook_48 (by decide) ?_
        refine xr_iald hx hb hK hP 1 (by decide) rfl 0 rfl (j := 4) (vin_c (by decide)) (by decide) dX2_hook_49 ?_
        refine lv_iadd hx hb dX2_hook_50 ?_
        refine lv_iload_n hx hb dX2_hook_51 rfl (lv_at hl 1 rfl) ?_
        obtain ⟨h6, hf⟩ := ob_gd hf
        obtain ⟨w7, ew7, hf⟩ := ob_bnd hf
        refine xr_iast hx hb hK hP hD hS 1 (by decide) rfl 0 rfl (j := (68 + (w.1 1 4)).toNatClampNeg) (w' := w7) h6 rfl ew7 dX2_hook_52 (fun H locs hP hS => ?_)
        refine lv_aload_n hx hb dX2_hook_53 rfl (lv_at hl 0 rfl) ?_
        refine xr_get hx hb hts in_X2 hown hK hP 0 (by decide) rfl rfl 0 (by decide) (hts _ q1405) (fun _ h => h) rfl (v := .ref (E 1)) rfl dX2_hook_54 ?_
        refine lv_iconst (v := 4) hx hb dX2_hook_57 (by decide) ?_
        refine lv_dup2_11 hx hb dX2_hook_58 rfl rfl ?_
        refine xr_iald hx hb hK hP 1 (by decide) rfl 0 rfl (j := 4) (vin_c (by decide)) (by decide) dX2_hook_59 ?_
        refine lv_iconst (v := 1) hx hb dX2_hook_60 (by decide) ?_
        refine lv_iadd hx hb dX2_hook_61 ?_
        obtain ⟨w8, ew8, hf⟩ := ob_bnd hf
        refine xr_iast hx hb hK hP hD hS 1 (by decide) rfl 0 rfl (j := 4) (w' := w8) (vin_c (by decide)) (by decide) ew8 dX2_hook_62 (fun H locs hP hS => ?_)
        refine lv_aload_n hx hb dX2_hook_63 rfl (lv_at hl 0 rfl) ?_
        refine xr_get hx hb hts in_X2 hown hK hP 0 (by decide) rfl rfl 0 (by decide) (hts _ q1405) (fun _ h => h) rfl (v := .ref (E 1)) rfl dX2_hook_64 ?_
        refine lv_iconst (v := 4) hx hb dX2_hook_67 (by decide) ?_
        refine xr_iald hx hb hK hP 1 (by decide) rfl 0 rfl (j := 4) (vin_c (by decide)) (by decide) dX2_hook_68 ?_
        obtain rfl := ob_s hf
        subst hQ
        exact xe_i hx hb hr hlocks hP hS dX2_hook_69
      · replace hf := ob_t hf c5
        refine lv_bipush (v := (-2)) hx hb dX2_hook_35 (by decide) ?_
        obtain rfl := ob_s hf
        subst hQ
        exact xe_i hx hb hr hlocks hP hS dX2_hook_37
  · replace hf := ob_t hf c1
    refine lv_aload_n hx hb dX2_hook_5 rfl (lv_at hl 0 rfl) ?_
    refine xr_get hx hb hts in_X2 hown hK hP 0 (by decide) rfl rfl 0 (by decide) (hts _ q1405) (fun _ h => h) rfl (v := .ref (E 1)) rfl dX2_hook_6 ?_
    refine lv_iconst (v := 4) hx hb dX2_hook_9 (by decide) ?_
    refine lv_iconst (v := 0) hx hb dX2_hook_10 (by decide) ?_
    obtain ⟨w9, ew9, hf⟩ := ob_bnd hf
    refine xr_iast hx hb hK hP hD hS 1 (by decide) rfl 0 rfl (j := 4) (w' := w9) (vin_c (by decide)) (by decide) ew9 dX2_hook_11 (fun H locs hP hS => ?_)
    refine lv_iconst (v := 0) hx hb dX2_hook_12 (by decide) ?_
    obtain rfl := ob_s hf
    subst hQ
    exact xe_i hx hb hr hlocks hP hS dX2_hook_13
abbrev rmX2_noteHung : Room := { frames := 0, cells := 0, slots := 0, locals := 0 }
theorem cdX2_noteHung : yX2_noteHung.cls = RX2 ∧ yX2_noteHung.cls ≠ "java/lang/invoke/MethodHandle" ∧ yX2_noteHung.cls ≠ "java/lang/invoke/VarHandle" ∧ (parseMethodDescriptor yX2_noteHung.desc).map (fun d => d.parameters.length) = some 0 := by decide +kernel
set_option maxHeartbeats 4000000 in
set_option maxRecDepth 100000 in
theorem wkX2_noteHung (l : Launch) (D : va_G) (dA : Nat → ClassId) (E : Nat → Nat) (hE : wInj 19 E) (w : Mm)  {res : Mm} (hf : M_noteHung w = some res) : Met l yX2_noteHung (ws_ yX2_noteHung cX2_noteHung 2 (none)) rmX2_noteHung (Pw D clM (tyM dA) shM 19 dA E [.ref (E 0)] w) (Qwv D clM shM 19 dA E res) 0 0 (AE 19 E) := by
  refine xm_head (own := RX2) (by decide) rfl (Nat.le_of_ble_eq_true rfl) ?_
  intro p e s m args below meth c ls Q hQ C hP hl
  obtain ⟨hx, hb, hr, hlocks, hml, hown, hts, hK⟩ := C
  replace hl : lv_has ls 2 [(0, .ref (E 0))] := hl
  have hS : va_S (AE 19 E) s.heap s.heap [] := va_S.rf
  have hD : wD 19 E (AE 19 E) := wD.self hE
  unfold M_noteHung at hf
  obtain ⟨H, eH⟩ : ∃ H, H = s.heap := ⟨_, rfl⟩
  obtain ⟨locs, eL⟩ : ∃ locs : List Loc, locs = [] := ⟨_, rfl⟩
  rw [← eL] at hS ⊢
  rw [← eH] at hP
  have hS : va_S (AE 19 E) s.heap H locs := by rw [eH]; exact hS
  show W p l e rmX2_noteHung s m args below meth c s.heap locs 0 0 Q (F0 m 0 ls [])
  rw [← eH]
  refine lv_iconst (v := 0) hx hb dX2_noteHung_0 (by decide) ?_
  refine lv_istore_n (lv' := [(1, .int 0), (0, .ref (E 0))]) hx hb dX2_noteHung_1 rfl hl (by decide) rfl (fun ls hl => ?_)
  obtain ⟨b3, hb3, hf⟩ := ob_bind hf
  obtain ⟨n3, hn3⟩ := lp_some hb3
  have kL2 : ∀ (n : Nat) (w1 : Mm) (v1_2 : Int32), lpF (fun (q3 : Mm × Int32) => M_noteHung_b2 q3.1 q3.2) n (w1, v1_2) = some b3 → (∀ (H : Heap) (locs : List Loc) (ls : Array Slot), va_P D clM (wl shM 19 dA E b3) H → va_S (AE 19 E) s.heap H locs → lv_has ls 2 [(0, .ref (E 0))] → W p l e rmX2_noteHung s m args below meth c H locs 0 0 Q (F0 m 57 ls [])) → ∀ (H : Heap) (locs : List Loc) (ls : Array Slot), va_P D clM (wl shM 19 dA E w1) H → va_S (AE 19 E) s.heap H locs → lv_has ls 2 [(0, .ref (E 0)), (1, .int v1_2)] → W p l e rmX2_noteHung s m args below meth c H locs 0 0 Q (F0 m 2 ls []) := by
    intro n
    induction n with
    | zero =>
      intro w1 v1_2 h
      cases h
    | succ n ih =>
      intro w1 v1_2 h K3_0 H locs ls hP hS hl
      obtain ⟨r3, hf, h3a, h3b⟩ := lpF_step h
      replace hf : M_noteHung_b2 w1 v1_2 = some r3 := hf
      unfold M_noteHung_b2 at hf
      refine lv_iload_n hx hb dX2_noteHung_2 rfl (lv_at hl 1 rfl) ?_
      refine lv_aload_n hx hb dX2_noteHung_3 rfl (lv_at hl 0 rfl) ?_
      refine xr_get hx hb hts in_X2 hown hK hP 0 (by decide) rfl rfl 0 (by decide) (hts _ q1405) (fun _ h => h) rfl (v := .ref (E 1)) rfl dX2_noteHung_4 ?_
      refine lv_iconst (v := 4) hx hb dX2_noteHung_7 (by decide) ?_
      refine xr_iald hx hb hK hP 1 (by decide) rfl 0 rfl (j := 4) (vin_c (by decide)) (by decide) dX2_noteHung_8 ?_
      refine lv_icmp_ge (tgt := 57) hx hb dX2_noteHung_9 (by decide) (fun c4 => ?_) (fun c4 => ?_)
      · replace hf := ob_t hf c4
        obtain rfl := ob_s hf
        obtain rfl := h3b _ rfl
        exact K3_0 H locs ls hP hS (lv_sub hl [0] rfl)
      · replace hf := ob_f hf c4
        refine lv_aload_n hx hb dX2_noteHung_12 rfl (lv_at hl 0 rfl) ?_
        refine xr_get hx hb hts in_X2 hown hK hP 0 (by decide) rfl rfl 36 (by decide) (hts _ q1441) (fun _ h => h) rfl (v := .int (w1.1 0 36)) rfl dX2_noteHung_13 ?_
        have kj31 : ∀ (w5 : Mm) (H : Heap) (locs : List Loc) (ls : Array Slot), M_noteHung_j31 v1_2 w5 = some r3 → va_P D clM (wl shM 19 dA E w5) H → va_S (AE 19 E) s.heap H locs → lv_has ls 2 [(0, .ref (E 0)), (1, .int v1_2)] → W p l e rmX2_noteHung s m args below meth c H locs 0 0 Q (F0 m 31 ls []) := by
          intro w5 H locs ls hf hP hS hl
          unfold M_noteHung_j31 at hf
          refine lv_aload_n hx hb dX2_noteHung_31 rfl (lv_at hl 0 rfl) ?_
          refine xr_get hx hb hts in_X2 hown hK hP 0 (by decide) rfl rfl 35 (by decide) (hts _ q1440) (fun _ h => h) rfl (v := .ref (E 16)) rfl dX2_noteHung_32 ?_
          refine lv_bipush (v := 8) hx hb dX2_noteHung_35 (by decide) ?_
          refine lv_iload_n hx hb dX2_noteHung_37 rfl (lv_at hl 1 rfl) ?_
          refine lv_imul hx hb dX2_noteHung_38 ?_
          refine lv_aload_n hx hb dX2_noteHung_39 rfl (lv_at hl 0 rfl) ?_
          refine xr_get hx hb hts in_X2 hown hK hP 0 (by decide) rfl rfl 33 (by decide) (hts _ q1438) (fun _ h => h) rfl (v := .ref (E 14)) rfl dX2_noteHung_40 ?_
          refine lv_iload_n hx hb dX2_noteHung_43 rfl (lv_at hl 1 rfl) ?_
          obtain ⟨h6, hf⟩ := ob_gd hf
          refine xr_iald hx hb hK hP 14 (by decide) rfl 0 rfl (j := v1_2.toNatClampNeg) h6 rfl dX2_noteHung_44 ?_
          refine lv_iadd hx hb dX2_noteHung_45 ?_
          refine lv_dup2_11 hx hb dX2_noteHung_46 rfl rfl ?_
          obtain ⟨h7, hf⟩ := ob_gd hf
          refine xr_iald hx hb hK hP 16 (by decide) rfl 0 rfl (j := ((8 * v1_2) + (w5.1 14 v1_2.toNatClampNeg)).toNatClampNeg) h7 rfl dX2_noteHung_47 ?_
          refine lv_iconst (v := 1) hx hb dX2_noteHung_48 (by decide) ?_
          refine lv_iadd hx hb dX2_noteHung_49 ?_
          obtain ⟨h8, hf⟩ := ob_gd hf
          obtain ⟨w9, ew9, hf⟩ := ob_bnd hf
          refine xr_iast hx hb hK hP hD hS 16 (by decide) rfl 0 rfl (j := ((8 * v1_2) + (w5.1 14 v1_2.toNatClampNeg)).toNatClampNeg) (w' := w9) h8 rfl ew9 dX2_noteHung_50 (fun H locs hP hS => ?_)
          obtain ⟨v1_10, ev1_10, hf⟩ := ob_bnd hf
          refine lv_iinc (v := v1_10) (lv' := [(1, .int v1_10), (0, .ref (E 0))]) hx hb dX2_noteHung_51 hl (k := 1) rfl (by rw [ev1_10]; rfl) (by decide) rfl (fun ls hl => ?_)
          refine lv_goto (tgt := 2) hx hb dX2_noteHung_54 (by decide) ?_
          obtain rfl := ob_s hf
          exact ih _ _ (h3a _ rfl) K3_0 H locs ls hP hS (lv_sub hl [1, 0] rfl)
        refine lv_if_ne (tgt := 31) hx hb dX2_noteHung_16 (by decide) (fun c11 => ?_) (fun c11 => ?_)
        · replace hf := ob_f hf c11
          exact kj31 w1 H locs ls hf hP hS (lv_sub hl [0, 1] rfl)
        · replace hf := ob_t hf c11
          refine lv_aload_n hx hb dX2_noteHung_19 rfl (lv_at hl 0 rfl) ?_
          refine xr_get hx hb hts in_X2 hown hK hP 0 (by decide) rfl rfl 34 (by decide) (hts _ q1439) (fun _ h => h) rfl (v := .ref (E 15)) rfl dX2_noteHung_20 ?_
          refine lv_iload_n hx hb dX2_noteHung_23 rfl (lv_at hl 1 rfl) ?_
          refine lv_aload_n hx hb dX2_noteHung_24 rfl (lv_at hl 0 rfl) ?_
          refine xr_get hx hb hts in_X2 hown hK hP 0 (by decide) rfl rfl 33 (by decide) (hts _ q1438) (fun _ h => h) rfl (v := .ref (E 14)) rfl dX2_noteHung_25 ?_
          refine lv_iload_n hx hb dX2_noteHung_28 rfl (lv_at hl 1 rfl) ?_
          obtain ⟨h12, hf⟩ := ob_gd hf
          refine xr_iald hx hb hK hP 14 (by decide) rfl 0 rfl (j := v1_2.toNatClampNeg) h12 rfl dX2_noteHung_29 ?_
          obtain ⟨h13, hf⟩ := ob_gd hf
          obtain ⟨w14, ew14, hf⟩ := ob_bnd hf
          refine xr_iast hx hb hK hP hD hS 15 (by decide) rfl 0 rfl (j := v1_2.toNatClampNeg) (w' := w14) h13 rfl ew14 dX2_noteHung_30 (fun H locs hP hS => ?_)
          exact kj31 w14 H locs ls hf hP hS (lv_sub hl [0, 1] rfl)
  refine kL2 n3 w 0 hn3 (fun H locs ls hP hS hl => ?_) H locs ls hP hS (lv_sub hl [1, 0] rfl)
  replace hf : M_noteHung_x2_57 b3 = some res := hf
  unfold M_noteHung_x2_57 at hf
  refine lv_aload_n hx hb dX2_noteHung_57 rfl (lv_at hl 0 rfl) ?_
  refine lv_dup hx hb dX2_noteHung_58 rfl ?_
  refine xr_get hx hb hts in_X2 hown hK hP 0 (by decide) rfl rfl 36 (by decide) (hts _ q1441) (fun _ h => h) rfl (v := .int (b3.1 0 36)) rfl dX2_noteHung_59 ?_
  refine lv_iconst (v := 1) hx hb dX2_noteHung_62 (by decide) ?_
  refine lv_iadd hx hb dX2_noteHung_63 ?_
  obtain ⟨w15, ew15, hf⟩ := ob_bnd hf
  refine xr_put hx hb hts in_X2 tyX2 tyX2_ok nmX2 hown hK hP hD hS 0 (by decide) rfl rfl 36 (by decide) (hts _ q1441) (fun _ h => h) rfl rfl rfl rfl (w' := w15) ew15 dX2_noteHung_64 (fun H locs hP hS => ?_)
  obtain rfl := ob_s hf
  subst hQ
  exact xe_v hx hb hr hlocks hP hS dX2_noteHung_67
abbrev rmX2_size : Room := { frames := 0, cells := 0, slots := 0, locals := 0 }
theorem cdX2_size : yX2_size.cls = RX2 ∧ yX2_size.cls ≠ "java/lang/invoke/MethodHandle" ∧ yX2_size.cls ≠ "java/lang/invoke/VarHandle" ∧ (parseMethodDescriptor yX2_size.desc).map (fun d => d.parameters.length) = some 1 := by decide +kernel
set_option maxHeartbeats 4000000 in
set_option maxRecDepth 100000 in
theorem wkX2_size (l : Launch) (D : va_G) (dA : Nat → ClassId) (E : Nat → Nat) (hE : wInj 19 E) (w : Mm) (a0 : Int32) {res : Int32} (hf : M_size a0 = some res) : Met l yX2_size (ws_ yX2_size cX2_size 1 (some .int)) rmX2_size (Pw D clM (tyM dA) shM 19 dA E [.int a0] w) (Qwi D clM shM 19 dA E res w) 0 0 (AE 19 E) := by
  refine xm_head (own := RX2) (by decide) rfl (Nat.le_of_ble_eq_true rfl) ?_
  intro p e s m args below meth c ls Q hQ C hP hl
  obtain ⟨hx, hb, hr, hlocks, hml, hown, hts, hK⟩ := C
  replace hl : lv_has ls 1 [(0, .int a0)] := hl
  have hS : va_S (AE 19 E) s.heap s.heap [] := va_S.rf
  have hD : wD 19 E (AE 19 E) := wD.self hE
  unfold M_size at hf
  obtain ⟨H, eH⟩ : ∃ H, H = s.heap := ⟨_, rfl⟩
  obtain ⟨locs, eL⟩ : ∃ locs : List Loc, locs = [] := ⟨_, rfl⟩
  rw [← eL] at hS ⊢
  rw [← eH] at hP
  have hS : va_S (AE 19 E) s.heap H locs := by rw [eH]; exact hS
  show W p l e rmX2_size s m args below meth c s.heap locs 0 0 Q (F0 m 0 ls [])
  rw [← eH]
  refine lv_iload_n hx hb dX2_size_0 rfl (lv_at hl 0 rfl) ?_
  refine lv_if_ge (tgt := 9) hx hb dX2_size_1 (by decide) (fun c1 => ?_) (fun c1 => ?_)
  · replace hf := ob_t hf c1
    refine lv_iload_n hx hb dX2_size_9 rfl (lv_at hl 0 rfl) ?_
    obtain rfl := ob_s hf
    subst hQ
    exact xe_i hx hb hr hlocks hP hS dX2_size_10
  · replace hf := ob_f hf c1
    refine lv_iload_n hx hb dX2_size_4 rfl (lv_at hl 0 rfl) ?_
    refine lv_ineg hx hb dX2_size_5 ?_
    refine lv_goto (tgt := 10) hx hb dX2_size_6 (by decide) ?_
    obtain rfl := ob_s hf
    subst hQ
    exact xe_i hx hb hr hlocks hP hS dX2_size_10
abbrev rmX2_layHung : Room := { frames := 2, cells := 0, slots := 0, locals := 42 }
theorem cdX2_layHung : yX2_layHung.cls = RX2 ∧ yX2_layHung.cls ≠ "java/lang/invoke/MethodHandle" ∧ yX2_layHung.cls ≠ "java/lang/invoke/VarHandle" ∧ (parseMethodDescriptor yX2_layHung.desc).map (fun d => d.parameters.length) = some 1 := by decide +kernel
set_option maxHeartbeats 4000000 in
set_option maxRecDepth 100000 in
theorem wkX2_layHung (l : Launch) (D : va_G) (dA : Nat → ClassId) (E : Nat → Nat) (hE : wInj 19 E) (w : Mm) (a1 : Int32) {res : Mm} (hf : M_layHung w a1 = some res) : Met l yX2_layHung (ws_ yX2_layHung cX2_layHung 4 (none)) rmX2_layHung (Pw D clM (tyM dA) shM 19 dA E [.ref (E 0), .int a1] w) (Qwv D clM shM 19 dA E res) 0 0 (AE 19 E) := by
  refine xm_head (own := RX2) (by decide) rfl (Nat.le_of_ble_eq_true rfl) ?_
  intro p e s m args below meth c ls Q hQ C hP hl
  obtain ⟨hx, hb, hr, hlocks, hml, hown, hts, hK⟩ := C
  replace hl : lv_has ls 4 [(0, .ref (E 0)), (1, .int a1)] := hl
  have hS : va_S (AE 19 E) s.heap s.heap [] := va_S.rf
  have hD : wD 19 E (AE 19 E) := wD.self hE
  unfold M_layHung at hf
  obtain ⟨H, eH⟩ : ∃ H, H = s.heap := ⟨_, rfl⟩
  obtain ⟨locs, eL⟩ : ∃ locs : List Loc, locs = [] := ⟨_, rfl⟩
  rw [← eL] at hS ⊢
  rw [← eH] at hP
  have hS : va_S (AE 19 E) s.heap H locs := by rw [eH]; exact hS
  show W p l e rmX2_layHung s m args below meth c s.heap locs 0 0 Q (F0 m 0 ls [])
  rw [← eH]
  refine lv_aload_n hx hb dX2_layHung_0 rfl (lv_at hl 0 rfl) ?_
  refine lv_iconst (v := 0) hx hb dX2_layHung_1 (by decide) ?_
  obtain ⟨w1, ew1, hf⟩ := ob_bnd hf
  refine xr_put hx hb hts in_X2 tyX2 tyX2_ok nmX2 hown hK hP hD hS 0 (by decide) rfl rfl 36 (by decide) (hts _ q1441) (fun _ h => h) rfl rfl rfl rfl (w' := w1) ew1 dX2_layHung_2 (fun H locs hP hS => ?_)
  refine lv_iconst (v := 0) hx hb dX2_layHung_5 (by decide) ?_
  refine lv_istore_n (lv' := [(2, .int 0), (0, .ref (E 0)), (1, .int a1)]) hx hb dX2_layHung_6 rfl hl (by decide) rfl (fun ls hl => ?_)
  obtain ⟨b4, hb4, hf⟩ := ob_bind hf
  obtain ⟨n4, hn4⟩ := lp_some hb4
  have kL7 : ∀ (n : Nat) (w2 : Mm) (v2_3 : Int32), lpF (fun (q4 : Mm × Int32) => M_layHung_b7 q4.1 q4.2) n (w2, v2_3) = some b4 → (∀ (H : Heap) (locs : List Loc) (ls : Array Slot), va_P D clM (wl shM 19 dA E b4) H → va_S (AE 19 E) s.heap H locs → lv_has ls 4 [(0, .ref (E 0)), (1, .int a1)] → W p l e rmX2_layHung s m args below meth c H locs 0 0 Q (F0 m 26 ls [])) → ∀ (H : Heap) (locs : List Loc) (ls : Array Slot), va_P D clM (wl shM 19 dA E w2) H → va_S (AE 19 E) s.heap H locs → lv_has ls 4 [(0, .ref (E 0)), (1, .int a1), (2, .int v2_3)] → W p l e rmX2_layHung s m args below meth c H locs 0 0 Q (F0 m 7 ls []) := by
    intro n
    induction n with
    | zero =>
      intro w2 v2_3 h
      cases h
    | succ n ih =>
      intro w2 v2_3 h K4_0 H locs ls hP hS hl
      obtain ⟨r4, hf, h4a, h4b⟩ := lpF_step h
      replace hf : M_layHung_b7 w2 v2_3 = some r4 := hf
      unfold M_layHung_b7 at hf
      refine lv_iload_n hx hb dX2_layHung_7 rfl (lv_at hl 2 rfl) ?_
      refine lv_bipush (v := 48) hx hb dX2_layHung_8 (by decide) ?_
      refine lv_icmp_ge (tgt := 26) hx hb dX2_layHung_10 (by decide) (fun c5 => ?_) (fun c5 => ?_)
      · replace hf := ob_t hf c5
        obtain rfl := ob_s hf
        obtain rfl := h4b _ rfl
        exact K4_0 H locs ls hP hS (lv_sub hl [0, 1] rfl)
      · replace hf := ob_f hf c5
        refine lv_aload_n hx hb dX2_layHung_13 rfl (lv_at hl 0 rfl) ?_
        refine xr_get hx hb hts in_X2 hown hK hP 0 (by decide) rfl rfl 35 (by decide) (hts _ q1440) (fun _ h => h) rfl (v := .ref (E 16)) rfl dX2_layHung_14 ?_
        refine lv_iload_n hx hb dX2_layHung_17 rfl (lv_at hl 2 rfl) ?_
        refine lv_iconst (v := 0) hx hb dX2_layHung_18 (by decide) ?_
        obtain ⟨h6, hf⟩ := ob_gd hf
        obtain ⟨w7, ew7, hf⟩ := ob_bnd hf
        refine xr_iast hx hb hK hP hD hS 16 (by decide) rfl 0 rfl (j := v2_3.toNatClampNeg) (w' := w7) h6 rfl ew7 dX2_layHung_19 (fun H locs hP hS => ?_)
        obtain ⟨v2_8, ev2_8, hf⟩ := ob_bnd hf
        refine lv_iinc (v := v2_8) (lv' := [(2, .int v2_8), (0, .ref (E 0)), (1, .int a1)]) hx hb dX2_layHung_20 hl (k := 2) rfl (by rw [ev2_8]; rfl) (by decide) rfl (fun ls hl => ?_)
        refine lv_goto (tgt := 7) hx hb dX2_layHung_23 (by decide) ?_
        obtain rfl := ob_s hf
        exact ih _ _ (h4a _ rfl) K4_0 H locs ls hP hS (lv_sub hl [1, 2, 0] rfl)
  refine kL7 n4 w1 0 hn4 (fun H locs ls hP hS hl => ?_) H locs ls hP hS (lv_sub hl [1, 2, 0] rfl)
  replace hf : M_layHung_x7_26 b4 a1 = some res := hf
  unfold M_layHung_x7_26 at hf
  refine lv_aload_n hx hb dX2_layHung_26 rfl (lv_at hl 0 rfl) ?_
  refine xr_get hx hb hts in_X2 hown hK hP 0 (by decide) rfl rfl 0 (by decide) (hts _ q1405) (fun _ h => h) rfl (v := .ref (E 1)) rfl dX2_layHung_27 ?_
  refine lv_iconst (v := 4) hx hb dX2_layHung_30 (by decide) ?_
  refine xr_iald hx hb hK hP 1 (by decide) rfl 0 rfl (j := 4) (vin_c (by decide)) (by decide) dX2_layHung_31 ?_
  refine lv_if_ne (tgt := 40) hx hb dX2_layHung_32 (by decide) (fun c9 => ?_) (fun c9 => ?_)
  · replace hf := ob_f hf c9
    refine lv_iconst (v := 0) hx hb dX2_layHung_40 (by decide) ?_
    refine lv_istore_n (lv' := [(2, .int 0), (0, .ref (E 0)), (1, .int a1)]) hx hb dX2_layHung_41 rfl hl (by decide) rfl (fun ls hl => ?_)
    refine lv_iconst (v := 0) hx hb dX2_layHung_42 (by decide) ?_
    refine lv_istore_n (lv' := [(3, .int 0), (2, .int 0), (0, .ref (E 0)), (1, .int a1)]) hx hb dX2_layHung_43 rfl hl (by decide) rfl (fun ls hl => ?_)
    refine lv_aload_n hx hb dX2_layHung_44 rfl (lv_at hl 2 rfl) ?_
    refine xr_get hx hb hts in_X2 hown hK hP 0 (by decide) rfl rfl 33 (by decide) (hts _ q1438) (fun _ h => h) rfl (v := .ref (E 14)) rfl dX2_layHung_45 ?_
    refine lv_iconst (v := 0) hx hb dX2_layHung_48 (by decide) ?_
    refine lv_iconst (v := (-1)) hx hb dX2_layHung_49 (by decide) ?_
    obtain ⟨w10, ew10, hf⟩ := ob_bnd hf
    refine xr_iast hx hb hK hP hD hS 14 (by decide) rfl 0 rfl (j := 0) (w' := w10) (vin_c (by decide)) (by decide) ew10 dX2_layHung_50 (fun H locs hP hS => ?_)
    obtain ⟨b14, hb14, hf⟩ := ob_bind hf
    obtain ⟨n14, hn14⟩ := lp_some hb14
    have kL51 : ∀ (n : Nat) (w11 : Mm) (v2_12 : Int32) (v3_13 : Int32), lpF (fun (q14 : Mm × Int32 × Int32) => M_layHung_b51 a1 q14.1 q14.2.1 q14.2.2) n (w11, v2_12, v3_13) = some b14 → (∀ (H : Heap) (locs : List Loc) (ls : Array Slot), va_P D clM (wl shM 19 dA E b14) H → va_S (AE 19 E) s.heap H locs → lv_has ls 4 [] → W p l e rmX2_layHung s m args below meth c H locs 0 0 Q (F0 m 243 ls [])) → ∀ (H : Heap) (locs : List Loc) (ls : Array Slot), va_P D clM (wl shM 19 dA E w11) H → va_S (AE 19 E) s.heap H locs → lv_has ls 4 [(0, .ref (E 0)), (1, .int a1), (2, .int v2_12), (3, .int v3_13)] → W p l e rmX2_layHung s m args below meth c H locs 0 0 Q (F0 m 51 ls []) := by
      intro n
      induction n with
      | zero =>
        intro w11 v2_12 v3_13 h
        cases h
      | succ n ih =>
        intro w11 v2_12 v3_13 h K14_0 H locs ls hP hS hl
        obtain ⟨r14, hf, h14a, h14b⟩ := lpF_step h
        replace hf : M_layHung_b51 a1 w11 v2_12 v3_13 = some r14 := hf
        unfold M_layHung_b51 at hf
        refine lv_iload_n hx hb dX2_layHung_51 rfl (lv_at hl 2 rfl) ?_
        refine lv_if_lt (tgt := 243) hx hb dX2_layHung_52 (by decide) (fun c15 => ?_) (fun c15 => ?_)
        · replace hf := ob_t hf c15
          obtain rfl := ob_s hf
          obtain rfl := h14b _ rfl
          exact K14_0 H locs ls hP hS (lv_sub hl [] rfl)
        · replace hf := ob_f hf c15
          refine lv_aload_n hx hb dX2_layHung_55 rfl (lv_at hl 0 rfl) ?_
          refine xr_get hx hb hts in_X2 hown hK hP 0 (by decide) rfl rfl 33 (by decide) (hts _ q1438) (fun _ h => h) rfl (v := .ref (E 14)) rfl dX2_layHung_56 ?_
          refine lv_iload_n hx hb dX2_layHung_59 rfl (lv_at hl 2 rfl) ?_
          obtain ⟨h16, hf⟩ := ob_gd hf
          refine xr_iald hx hb hK hP 14 (by decide) rfl 0 rfl (j := v2_12.toNatClampNeg) h16 rfl dX2_layHung_60 ?_
          have kj77 : ∀ (v3_17 : Int32) (H : Heap) (locs : List Loc) (ls : Array Slot), M_layHung_j77 v2_12 w11 v3_17 a1 = some r14 → va_P D clM (wl shM 19 dA E w11) H → va_S (AE 19 E) s.heap H locs → lv_has ls 4 [(0, .ref (E 0)), (1, .int a1), (2, .int v2_12), (3, .int v3_17)] → W p l e rmX2_layHung s m args below meth c H locs 0 0 Q (F0 m 77 ls []) := by
            intro v3_17 H locs ls hf hP hS hl
            unfold M_layHung_j77 at hf
            refine lv_aload_n hx hb dX2_layHung_77 rfl (lv_at hl 0 rfl) ?_
            refine xr_get hx hb hts in_X2 hown hK hP 0 (by decide) rfl rfl 33 (by decide) (hts _ q1438) (fun _ h => h) rfl (v := .ref (E 14)) rfl dX2_layHung_78 ?_
            refine lv_iload_n hx hb dX2_layHung_81 rfl (lv_at hl 2 rfl) ?_
            refine lv_dup2_11 hx hb dX2_layHung_82 rfl rfl ?_
            obtain ⟨h18, hf⟩ := ob_gd hf
            refine xr_iald hx hb hK hP 14 (by decide) rfl 0 rfl (j := v2_12.toNatClampNeg) h18 rfl dX2_layHung_83 ?_
            refine lv_iconst (v := 1) hx hb dX2_layHung_84 (by decide) ?_
            refine lv_iadd hx hb dX2_layHung_85 ?_
            obtain ⟨h19, hf⟩ := ob_gd hf
            obtain ⟨w20, ew20, hf⟩ := ob_bnd hf
            refine xr_iast hx hb hK hP hD hS 14 (by decide) rfl 0 rfl (j := v2_12.toNatClampNeg) (w' := w20) h19 rfl ew20 dX2_layHung_86 (fun H locs hP hS => ?_)
            obtain ⟨b22, hb22, hf⟩ := ob_bind hf
            obtain ⟨n22, hn22⟩ := lp_some hb22
            have kL87 : ∀ (n : Nat) (w21 : Mm), lpF (fun (q22 : Mm) => M_layHung_b87 v2_12 v3_17 a1 q22) n w21 = some b22 → (∀ (H : Heap) (locs : List Loc) (ls : Array Slot), va_P D clM (wl shM 19 dA E b22) H → va_S (AE 19 E) s.heap H locs → lv_has ls 4 [(0, .ref (E 0)), (1, .int a1), (2, .int v2_12), (3, .int v3_17)] → W p l e rmX2_layHung s m args below meth c H locs 0 0 Q (F0 m 172 ls [])) → ∀ (H : Heap) (locs : List Loc) (ls : Array Slot), va_P D clM (wl shM 19 dA E w21) H → va_S (AE 19 E) s.heap H locs → lv_has ls 4 [(0, .ref (E 0)), (1, .int a1), (2, .int v2_12), (3, .int v3_17)] → W p l e rmX2_layHung s m args below meth c H locs 0 0 Q (F0 m 87 ls []) := by
              intro n
              induction n with
              | zero =>
                intro w21 h
                cases h
              | succ n ih =>
                intro w21 h K22_0 H locs ls hP hS hl
                obtain ⟨r22, hf, h22a, h22b⟩ := lpF_step h
                replace hf : M_layHung_b87 v2_12 v3_17 a1 w21 = some r22 := hf
                unfold M_layHung_b87 at hf
                refine lv_aload_n hx hb dX2_layHung_87 rfl (lv_at hl 0 rfl) ?_
                refine xr_get hx hb hts in_X2 hown hK hP 0 (by decide) rfl rfl 33 (by decide) (hts _ q1438) (fun _ h => h) rfl (v := .ref (E 14)) rfl dX2_layHung_88 ?_
                refine lv_iload_n hx hb dX2_layHung_91 rfl (lv_at hl 2 rfl) ?_
                obtain ⟨h23, hf⟩ := ob_gd hf
                refine xr_iald hx hb hK hP 14 (by decide) rfl 0 rfl (j := v2_12.toNatClampNeg) h23 rfl dX2_layHung_92 ?_
                refine lv_aload_n hx hb dX2_layHung_93 rfl (lv_at hl 0 rfl) ?_
                refine xr_get hx hb hts in_X2 hown hK hP 0 (by decide) rfl rfl 0 (by decide) (hts _ q1405) (fun _ h => h) rfl (v := .ref (E 1)) rfl dX2_layHung_94 ?_
                refine lv_iconst (v := 0) hx hb dX2_layHung_97 (by decide) ?_
                refine xr_iald hx hb hK hP 1 (by decide) rfl 0 rfl (j := 0) (vin_c (by decide)) (by decide) dX2_layHung_98 ?_
                refine lv_icmp_ge (tgt := 172) hx hb dX2_layHung_99 (by decide) (fun c24 => ?_) (fun c24 => ?_)
                · replace hf := ob_t hf c24
                  obtain rfl := ob_s hf
                  obtain rfl := h22b _ rfl
                  exact K22_0 H locs ls hP hS (lv_sub hl [0, 1, 2, 3] rfl)
                · replace hf := ob_f hf c24
                  refine lv_iload_n hx hb dX2_layHung_102 rfl (lv_at hl 3 rfl) ?_
                  refine lv_aload_n hx hb dX2_layHung_103 rfl (lv_at hl 0 rfl) ?_
                  refine xr_get hx hb hts in_X2 hown hK hP 0 (by decide) rfl rfl 33 (by decide) (hts _ q1438) (fun _ h => h) rfl (v := .ref (E 14)) rfl dX2_layHung_104 ?_
                  refine lv_iload_n hx hb dX2_layHung_107 rfl (lv_at hl 2 rfl) ?_
                  obtain ⟨h25, hf⟩ := ob_gd hf
                  refine xr_iald hx hb hK hP 14 (by decide) rfl 0 rfl (j := v2_12.toNatClampNeg) h25 rfl dX2_layHung_108 ?_
                  obtain ⟨q27, g26, hf⟩ := ob_bind hf
                  refine xc_z (xw_runS (As := [.int v3_17, .int (w21.1 14 v2_12.toNatClampNeg)]) (rest := []) ⟨hx, hb, hml, hown, hts⟩ (wkX2_has l D dA E hE w21 v3_17 (w21.1 14 v2_12.toNatClampNeg) g26) (va_cwS 2 hts (lw_S q1623 q1624 q140 q1625) rfl rfl rfl cdX2_has.2 ⟨Nat.le_of_ble_eq_true rfl, Nat.le_of_ble_eq_true rfl⟩) hK hP hl.1 rfl rfl (Nat.le_of_ble_eq_true rfl) dX2_layHung_109 ⟨Nat.zero_le _, Nat.zero_le _⟩) hS hD.2 (fun H locs zq27 hP hS => ?_)
                  have kj159 : ∀ (H : Heap) (locs : List Loc) (ls : Array Slot), M_layHung_j159 v2_12 w21 = some r22 → va_P D clM (wl shM 19 dA E w21) H → va_S (AE 19 E) s.heap H locs → lv_has ls 4 [(0, .ref (E 0)), (1, .int a1), (2, .int v2_12), (3, .int v3_17)] → W p l e rmX2_layHung s m args below meth c H locs 0 0 Q (F0 m 159 ls []) := by
                    intro H locs ls hf hP hS hl
                    unfold M_layHung_j159 at hf
                    refine lv_aload_n hx hb dX2_layHung_159 rfl (lv_at hl 0 rfl) ?_
                    refine xr_get hx hb hts in_X2 hown hK hP 0 (by decide) rfl rfl 33 (by decide) (hts _ q1438) (fun _ h => h) rfl (v := .ref (E 14)) rfl dX2_layHung_160 ?_
                    refine lv_iload_n hx hb dX2_layHung_163 rfl (lv_at hl 2 rfl) ?_
                    refine lv_dup2_11 hx hb dX2_layHung_164 rfl rfl ?_
                    obtain ⟨h28, hf⟩ := ob_gd hf
                    refine xr_iald hx hb hK hP 14 (by decide) rfl 0 rfl (j := v2_12.toNatClampNeg) h28 rfl dX2_layHung_165 ?_
                    refine lv_iconst (v := 1) hx hb dX2_layHung_166 (by decide) ?_
                    refine lv_iadd hx hb dX2_layHung_167 ?_
                    obtain ⟨h29, hf⟩ := ob_gd hf
                    obtain ⟨w30, ew30, hf⟩ := ob_bnd hf
                    refine xr_iast hx hb hK hP hD hS 14 (by decide) rfl 0 rfl (j := v2_12.toNatClampNeg) (w' := w30) h29 rfl ew30 dX2_layHung_168 (fun H locs hP hS => ?_)
                    refine lv_goto (tgt := 87) hx hb dX2_layHung_169 (by decide) ?_
                    obtain rfl := ob_s hf
                    exact ih _ (h22a _ rfl) K22_0 H locs ls hP hS (lv_sub hl [0, 1, 2, 3] rfl)
                  refine lv_if_ne (tgt := 159) hx hb dX2_layHung_112 (by decide) (fun c31 => ?_) (fun c31 => ?_)
                  · replace hf := ob_f hf c31
                    exact kj159 H locs ls hf hP hS (lv_sub hl [0, 1, 2, 3] rfl)
                  · replace hf := ob_t hf c31
                    refine lv_aload_n hx hb dX2_layHung_115 rfl (lv_at hl 0 rfl) ?_
                    refine lv_aload_n hx hb dX2_layHung_116 rfl (lv_at hl 0 rfl) ?_
                    refine xr_get hx hb hts in_X2 hown hK hP 0 (by decide) rfl rfl 33 (by decide) (hts _ q1438) (fun _ h => h) rfl (v := .ref (E 14)) rfl dX2_layHung_117 ?_
                    refine lv_iload_n hx hb dX2_layHung_120 rfl (lv_at hl 2 rfl) ?_
                    obtain ⟨h32, hf⟩ := ob_gd hf
                    refine xr_iald hx hb hK hP 14 (by decide) rfl 0 rfl (j := v2_12.toNatClampNeg) h32 rfl dX2_layHung_121 ?_
                    obtain ⟨q34, g33, hf⟩ := ob_bind hf
                    refine xc_z (xw_run (As := [.int (w21.1 14 v2_12.toNatClampNeg)]) (rest := []) ⟨hx, hb, hml, hown, hts⟩ (k0 := 0) (wkX2_isPawned l D dA E hE w21 (w21.1 14 v2_12.toNatClampNeg) g33) (cwV 1 hts (lw_V q1764 q1766 qs98 q140 q1767) rfl rfl rfl cdX2_isPawned ⟨Nat.le_of_ble_eq_true rfl, Nat.le_of_ble_eq_true rfl⟩) hK hP (by decide) rfl rfl rfl hl.1 rfl rfl (Nat.le_of_ble_eq_true rfl) dX2_layHung_122 ⟨Nat.zero_le _, Nat.zero_le _⟩) hS hD.2 (fun H locs zq34 hP hS => ?_)
                    refine lv_if_eq (tgt := 159) hx hb dX2_layHung_125 (by decide) (fun c35 => ?_) (fun c35 => ?_)
                    · replace hf := ob_t hf c35
                      exact kj159 H locs ls hf hP hS (lv_sub hl [0, 1, 2, 3] rfl)
                    · replace hf := ob_f hf c35
                      refine lv_aload_n hx hb dX2_layHung_128 rfl (lv_at hl 0 rfl) ?_
                      refine xr_get hx hb hts in_X2 hown hK hP 0 (by decide) rfl rfl 0 (by decide) (hts _ q1405) (fun _ h => h) rfl (v := .ref (E 1)) rfl dX2_layHung_129 ?_
                      refine lv_bipush (v := 52) hx hb dX2_layHung_132 (by decide) ?_
                      refine lv_aload_n hx hb dX2_layHung_134 rfl (lv_at hl 0 rfl) ?_
                      refine xr_get hx hb hts in_X2 hown hK hP 0 (by decide) rfl rfl 33 (by decide) (hts _ q1438) (fun _ h => h) rfl (v := .ref (E 14)) rfl dX2_layHung_135 ?_
                      refine lv_iload_n hx hb dX2_layHung_138 rfl (lv_at hl 2 rfl) ?_
                      obtain ⟨h36, hf⟩ := ob_gd hf
                      refine xr_iald hx hb hK hP 14 (by decide) rfl 0 rfl (j := v2_12.toNatClampNeg) h36 rfl dX2_layHung_139 ?_
                      refine lv_iadd hx hb dX2_layHung_140 ?_
                      obtain ⟨h37, hf⟩ := ob_gd hf
                      refine xr_iald hx hb hK hP 1 (by decide) rfl 0 rfl (j := (52 + (w21.1 14 v2_12.toNatClampNeg)).toNatClampNeg) h37 rfl dX2_layHung_141 ?_
                      refine lv_aload_n hx hb dX2_layHung_142 rfl (lv_at hl 0 rfl) ?_
                      refine xr_get hx hb hts in_X2 hown hK hP 0 (by decide) rfl rfl 0 (by decide) (hts _ q1405) (fun _ h => h) rfl (v := .ref (E 1)) rfl dX2_layHung_143 ?_
                      refine lv_bipush (v := 68) hx hb dX2_layHung_146 (by decide) ?_
                      refine lv_iload_n hx hb dX2_layHung_148 rfl (lv_at hl 2 rfl) ?_
                      refine lv_iadd hx hb dX2_layHung_149 ?_
                      obtain ⟨h38, hf⟩ := ob_gd hf
                      refine xr_iald hx hb hK hP 1 (by decide) rfl 0 rfl (j := (68 + v2_12).toNatClampNeg) h38 rfl dX2_layHung_150 ?_
                      refine lv_isub hx hb dX2_layHung_151 ?_
                      obtain ⟨q40, g39, hf⟩ := ob_bind hf
                      refine xc_i (xw_runS (As := [.int ((w21.1 1 (52 + (w21.1 14 v2_12.toNatClampNeg)).toNatClampNeg) - (w21.1 1 (68 + v2_12).toNatClampNeg))]) (rest := []) ⟨hx, hb, hml, hown, hts⟩ (wkX2_size l D dA E hE w21 ((w21.1 1 (52 + (w21.1 14 v2_12.toNatClampNeg)).toNatClampNeg) - (w21.1 1 (68 + v2_12).toNatClampNeg)) g39) (va_cwS 1 hts (lw_S q2050 q2051 q140 q2052) rfl rfl rfl cdX2_size.2 ⟨Nat.le_of_ble_eq_true rfl, Nat.le_of_ble_eq_true rfl⟩) hK hP hl.1 rfl rfl (Nat.le_of_ble_eq_true rfl) dX2_layHung_152 ⟨Nat.zero_le _, Nat.zero_le _⟩) hS hD.2 (fun H locs hP hS => ?_)
                      refine lv_iload_n hx hb dX2_layHung_155 rfl (lv_at hl 1 rfl) ?_
                      refine lv_icmp_le (tgt := 172) hx hb dX2_layHung_156 (by decide) (fun c41 => ?_) (fun c41 => ?_)
                      · replace hf := ob_t hf c41
                        obtain rfl := ob_s hf
                        obtain rfl := h22b _ rfl
                        exact K22_0 H locs ls hP hS (lv_sub hl [0, 1, 2, 3] rfl)
                      · replace hf := ob_f hf c41
                        exact kj159 H locs ls hf hP hS (lv_sub hl [0, 1, 2, 3] rfl)
            refine kL87 n22 w20 hn22 (fun H locs ls hP hS hl => ?_) H locs ls hP hS (lv_sub hl [0, 1, 2, 3] rfl)
            replace hf : M_layHung_x87_172 v2_12 b22 v3_17 = some r14 := hf
            unfold M_layHung_x87_172 at hf
            refine lv_aload_n hx hb dX2_layHung_172 rfl (lv_at hl 0 rfl) ?_
            refine xr_get hx hb hts in_X2 hown hK hP 0 (by decide) rfl rfl 33 (by decide) (hts _ q1438) (fun _ h => h) rfl (v := .ref (E 14)) rfl dX2_layHung_173 ?_
            refine lv_iload_n hx hb dX2_layHung_176 rfl (lv_at hl 2 rfl) ?_
            obtain ⟨h42, hf⟩ := ob_gd hf
            refine xr_iald hx hb hK hP 14 (by decide) rfl 0 rfl (j := v2_12.toNatClampNeg) h42 rfl dX2_layHung_177 ?_
            refine lv_aload_n hx hb dX2_layHung_178 rfl (lv_at hl 0 rfl) ?_
            refine xr_get hx hb hts in_X2 hown hK hP 0 (by decide) rfl rfl 0 (by decide) (hts _ q1405) (fun _ h => h) rfl (v := .ref (E 1)) rfl dX2_layHung_179 ?_
            refine lv_iconst (v := 0) hx hb dX2_layHung_182 (by decide) ?_
            refine xr_iald hx hb hK hP 1 (by decide) rfl 0 rfl (j := 0) (vin_c (by decide)) (by decide) dX2_layHung_183 ?_
            refine lv_icmp_lt (tgt := 200) hx hb dX2_layHung_184 (by decide) (fun c43 => ?_) (fun c43 => ?_)
            · replace hf := ob_t hf c43
              refine lv_iload_n hx hb dX2_layHung_200 rfl (lv_at hl 3 rfl) ?_
              refine lv_iconst (v := 1) hx hb dX2_layHung_201 (by decide) ?_
              refine lv_aload_n hx hb dX2_layHung_202 rfl (lv_at hl 0 rfl) ?_
              refine xr_get hx hb hts in_X2 hown hK hP 0 (by decide) rfl rfl 33 (by decide) (hts _ q1438) (fun _ h => h) rfl (v := .ref (E 14)) rfl dX2_layHung_203 ?_
              refine lv_iload_n hx hb dX2_layHung_206 rfl (lv_at hl 2 rfl) ?_
              obtain ⟨h44, hf⟩ := ob_gd hf
              refine xr_iald hx hb hK hP 14 (by decide) rfl 0 rfl (j := v2_12.toNatClampNeg) h44 rfl dX2_layHung_207 ?_
              refine lv_ishl hx hb dX2_layHung_208 ?_
              refine lv_ior hx hb dX2_layHung_209 ?_
              obtain ⟨v3_45, ev3_45, hf⟩ := ob_bnd hf
              refine xn_i ev3_45 ?_
              refine lv_istore_n (lv' := [(3, .int v3_45), (0, .ref (E 0)), (1, .int a1), (2, .int v2_12)]) hx hb dX2_layHung_210 rfl hl (by decide) rfl (fun ls hl => ?_)
              refine lv_iload_n hx hb dX2_layHung_211 rfl (lv_at hl 3 rfl) ?_
              refine lv_aload_n hx hb dX2_layHung_212 rfl (lv_at hl 1 rfl) ?_
              refine xr_get hx hb hts in_X2 hown hK hP 0 (by decide) rfl rfl 0 (by decide) (hts _ q1405) (fun _ h => h) rfl (v := .ref (E 1)) rfl dX2_layHung_213 ?_
              refine lv_iconst (v := 4) hx hb dX2_layHung_216 (by decide) ?_
              refine xr_iald hx hb hK hP 1 (by decide) rfl 0 rfl (j := 4) (vin_c (by decide)) (by decide) dX2_layHung_217 ?_
              refine lv_iconst (v := 1) hx hb dX2_layHung_218 (by decide) ?_
              refine lv_isub hx hb dX2_layHung_219 ?_
              refine lv_icmp_ne (tgt := 230) hx hb dX2_layHung_220 (by decide) (fun c46 => ?_) (fun c46 => ?_)
              · replace hf := ob_f hf c46
                obtain ⟨v2_47, ev2_47, hf⟩ := ob_bnd hf
                refine lv_iinc (v := v2_47) (lv' := [(2, .int v2_47), (3, .int v3_45), (0, .ref (E 0)), (1, .int a1)]) hx hb dX2_layHung_230 hl (k := 3) rfl (by rw [ev2_47]; rfl) (by decide) rfl (fun ls hl => ?_)
                refine lv_aload_n hx hb dX2_layHung_233 rfl (lv_at hl 2 rfl) ?_
                refine xr_get hx hb hts in_X2 hown hK hP 0 (by decide) rfl rfl 33 (by decide) (hts _ q1438) (fun _ h => h) rfl (v := .ref (E 14)) rfl dX2_layHung_234 ?_
                refine lv_iload_n hx hb dX2_layHung_237 rfl (lv_at hl 0 rfl) ?_
                refine lv_iconst (v := (-1)) hx hb dX2_layHung_238 (by decide) ?_
                obtain ⟨h48, hf⟩ := ob_gd hf
                obtain ⟨w49, ew49, hf⟩ := ob_bnd hf
                refine xr_iast hx hb hK hP hD hS 14 (by decide) rfl 0 rfl (j := v2_47.toNatClampNeg) (w' := w49) h48 rfl ew49 dX2_layHung_239 (fun H locs hP hS => ?_)
                refine lv_goto (tgt := 51) hx hb dX2_layHung_240 (by decide) ?_
                obtain rfl := ob_s hf
                exact ih _ _ _ (h14a _ rfl) K14_0 H locs ls hP hS (lv_sub hl [2, 3, 0, 1] rfl)
              · replace hf := ob_t hf c46
                refine lv_aload_n hx hb dX2_layHung_223 rfl (lv_at hl 1 rfl) ?_
                obtain ⟨q51, g50, hf⟩ := ob_bind hf
                refine xc_v (xw_run (As := []) (rest := []) ⟨hx, hb, hml, hown, hts⟩ (k0 := 0) (wkX2_noteHung l D dA E hE b22 g50) (cwV 0 hts (lw_V q2046 q2048 qs133 q140 q2049) rfl rfl rfl cdX2_noteHung ⟨Nat.le_of_ble_eq_true rfl, Nat.le_of_ble_eq_true rfl⟩) hK hP (by decide) rfl rfl rfl hl.1 rfl rfl (Nat.le_of_ble_eq_true rfl) dX2_layHung_224 ⟨Nat.zero_le _, Nat.zero_le _⟩) hS hD.2 (fun H locs hP hS => ?_)
                refine lv_goto (tgt := 51) hx hb dX2_layHung_227 (by decide) ?_
                obtain rfl := ob_s hf
                exact ih _ _ _ (h14a _ rfl) K14_0 H locs ls hP hS (lv_sub hl [1, 2, 3, 0] rfl)
            · replace hf := ob_f hf c43
              refine lv_aload_n hx hb dX2_layHung_187 rfl (lv_at hl 0 rfl) ?_
              refine xr_get hx hb hts in_X2 hown hK hP 0 (by decide) rfl rfl 33 (by decide) (hts _ q1438) (fun _ h => h) rfl (v := .ref (E 14)) rfl dX2_layHung_188 ?_
              refine lv_iload_n hx hb dX2_layHung_191 rfl (lv_at hl 2 rfl) ?_
              refine lv_iconst (v := (-1)) hx hb dX2_layHung_192 (by decide) ?_
              obtain ⟨h52, hf⟩ := ob_gd hf
              obtain ⟨w53, ew53, hf⟩ := ob_bnd hf
              refine xr_iast hx hb hK hP hD hS 14 (by decide) rfl 0 rfl (j := v2_12.toNatClampNeg) (w' := w53) h52 rfl ew53 dX2_layHung_193 (fun H locs hP hS => ?_)
              obtain ⟨v2_54, ev2_54, hf⟩ := ob_bnd hf
              refine lv_iinc (v := v2_54) (lv' := [(2, .int v2_54), (0, .ref (E 0)), (1, .int a1), (3, .int v3_17)]) hx hb dX2_layHung_194 hl (k := 2) rfl (by rw [ev2_54]; rfl) (by decide) rfl (fun ls hl => ?_)
              refine lv_goto (tgt := 51) hx hb dX2_layHung_197 (by decide) ?_
              obtain rfl := ob_s hf
              exact ih _ _ _ (h14a _ rfl) K14_0 H locs ls hP hS (lv_sub hl [1, 2, 0, 3] rfl)
          refine lv_if_lt (tgt := 77) hx hb dX2_layHung_61 (by decide) (fun c55 => ?_) (fun c55 => ?_)
          · replace hf := ob_t hf c55
            exact kj77 v3_13 H locs ls hf hP hS (lv_sub hl [0, 1, 2, 3] rfl)
          · replace hf := ob_f hf c55
            refine lv_iload_n hx hb dX2_layHung_64 rfl (lv_at hl 3 rfl) ?_
            refine lv_iconst (v := 1) hx hb dX2_layHung_65 (by decide) ?_
            refine lv_aload_n hx hb dX2_layHung_66 rfl (lv_at hl 0 rfl) ?_
            refine xr_get hx hb hts in_X2 hown hK hP 0 (by decide) rfl rfl 33 (by decide) (hts _ q1438) (fun _ h => h) rfl (v := .ref (E 14)) rfl dX2_layHung_67 ?_
            refine lv_iload_n hx hb dX2_layHung_70 rfl (lv_at hl 2 rfl) ?_
            obtain ⟨h56, hf⟩ := ob_gd hf
            refine xr_iald hx hb hK hP 14 (by decide) rfl 0 rfl (j := v2_12.toNatClampNeg) h56 rfl dX2_layHung_71 ?_
            refine lv_ishl hx hb dX2_layHung_72 ?_
            refine lv_iconst (v := (-1)) hx hb dX2_layHung_73 (by decide) ?_
            refine lv_ixor hx hb dX2_layHung_74 ?_
            refine lv_iand hx hb dX2_layHung_75 ?_
            obtain ⟨v3_57, ev3_57, hf⟩ := ob_bnd hf
            refine xn_i ev3_57 ?_
            refine lv_istore_n (lv' := [(3, .int v3_57), (0, .ref (E 0)), (1, .int a1), (2, .int v2_12)]) hx hb dX2_layHung_76 rfl hl (by decide) rfl (fun ls hl => ?_)
            exact kj77 v3_57 H locs ls hf hP hS (lv_sub hl [1, 2, 3, 0] rfl)
    refine kL51 n14 w10 0 0 hn14 (fun H locs ls hP hS hl => ?_) H locs ls hP hS (lv_sub hl [2, 3, 1, 0] rfl)
    replace hf : M_layHung_x51_243 b14 = some res := hf
    unfold M_layHung_x51_243 at hf
    obtain rfl := ob_s hf
    subst hQ
    exact xe_v hx hb hr hlocks hP hS dX2_layHung_243
  · replace hf := ob_t hf c9
    refine lv_aload_n hx hb dX2_layHung_35 rfl (lv_at hl 0 rfl) ?_
    obtain ⟨q59, g58, hf⟩ := ob_bind hf
    refine xc_v (xw_run (As := []) (rest := []) ⟨hx, hb, hml, hown, hts⟩ (k0 := 0) (wkX2_noteHung l D dA E hE b4 g58) (cwV 0 hts (lw_V q2046 q2048 qs133 q140 q2049) rfl rfl rfl cdX2_noteHung ⟨Nat.le_of_ble_eq_true rfl, Nat.le_of_ble_eq_true rfl⟩) hK hP (by decide) rfl rfl rfl hl.1 rfl rfl (Nat.le_of_ble_eq_true rfl) dX2_layHung_36 ⟨Nat.zero_le _, Nat.zero_le _⟩) hS hD.2 (fun H locs hP hS => ?_)
    obtain rfl := ob_s hf
    subst hQ
    exact xe_v hx hb hr hlocks hP hS dX2_layHung_39
