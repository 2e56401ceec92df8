/-! QuarrelsPawned: its methods walked (printed by run_x.py) -/
set_option maxHeartbeats 4000000 in
set_option maxRecDepth 100000 in
theorem wkX1_copy_2_21_10 (l : Launch) (D : va_G) (dA : Nat → ClassId) (E : Nat → Nat) (hE : wInj 136 E) (T : Tx) (J : State → Heap → Prop) (hJ : JP D dA E T J) (w : Mm)  {res : Mm} (hf : X_X1_copy_2_21_10 w = some res) : Met l yX1_copy_2 (ws_ yX1_copy_2 cX1_copy_2 3 (none)) rmX1_copy_2 (Pj D dA E J [.ref (E 21), .ref (E 10)] w) (Qwv D clX shX 136 dA E res) 0 0 (AE 136 E) := by
  refine xj_head (own := RX1) (by decide) rfl (Nat.le_of_ble_eq_true rfl) ?_
  intro p e s m args below meth c ls Q hQ C hP hl
  obtain ⟨hx, hb, hr, hlocks, hml, hown, hts, hK, hJs⟩ := C
  replace hl : lv_has ls 3 [(0, .ref (E 21)), (1, .ref (E 10))] := hl
  have hS : va_S (AE 136 E) s.heap s.heap [] := va_S.rf
  have hD : wD 136 E (AE 136 E) := wD.self hE
  unfold X_X1_copy_2_21_10 at hf
  obtain ⟨H, eH⟩ : ∃ H, H = s.heap := ⟨_, rfl⟩
  obtain ⟨locs, eL⟩ : ∃ locs : List Loc, locs = [] := ⟨_, rfl⟩
  rw [← eL] at hS ⊢
  rw [← eH] at hP
  have hS : va_S (AE 136 E) s.heap H locs := by rw [eH]; exact hS
  show W p l e rmX1_copy_2 s m args below meth c s.heap locs 0 0 Q (F0 m 0 ls [])
  rw [← eH]
  refine lv_iconst (v := 0) hx hb dX1_copy_2_0 (by decide) ?_
  refine lv_istore_n (lv' := [(2, .int 0), (0, .ref (E 21)), (1, .ref (E 10))]) hx hb dX1_copy_2_1 rfl hl (by decide) rfl (fun ls hl => ?_)
  obtain ⟨b3, hb3, hf⟩ := ob_bind hf
  obtain ⟨n3, hn3⟩ := lp_some hb3
  have kL2 : ∀ (n : Nat) (w1 : Mm) (v2_2 : Int32), lpF (fun (q3 : Mm × Int32) => X_X1_copy_2_21_10_b2 q3.1 q3.2) n (w1, v2_2) = some b3 → (∀ (H : Heap) (locs : List Loc) (ls : Array Slot), va_P D clX (wl shX 136 dA E b3) H → va_S (AE 136 E) s.heap H locs → lv_has ls 3 [] → W p l e rmX1_copy_2 s m args below meth c H locs 0 0 Q (F0 m 23 ls [])) → ∀ (H : Heap) (locs : List Loc) (ls : Array Slot), va_P D clX (wl shX 136 dA E w1) H → va_S (AE 136 E) s.heap H locs → lv_has ls 3 [(0, .ref (E 21)), (1, .ref (E 10)), (2, .int v2_2)] → W p l e rmX1_copy_2 s m args below meth c H locs 0 0 Q (F0 m 2 ls []) := by
    intro n
    induction n with
    | zero =>
      intro w1 v2_2 hq9
      cases hq9
    | succ n ih =>
      intro w1 v2_2 hq9 K3_0 H locs ls hP hS hl
      obtain ⟨r3, hf, h3a, h3b⟩ := lpF_step hq9
      replace hf : X_X1_copy_2_21_10_b2 w1 v2_2 = some r3 := hf
      unfold X_X1_copy_2_21_10_b2 at hf
      refine lv_iload_n hx hb dX1_copy_2_2 rfl (lv_at hl 2 rfl) ?_
      refine lv_aload_n hx hb dX1_copy_2_3 rfl (lv_at hl 0 rfl) ?_
      refine xr_alen (n := 0) (z := []) hx hb hK hP 21 (by decide) (by rw [show shX 21 = _ from rfl]; rfl) 2 rfl (v := 10) rfl dX1_copy_2_4 ?_
      refine lv_icmp_ge (tgt := 23) hx hb dX1_copy_2_5 (by decide) (fun c4 => ?_) (fun c4 => ?_)
      · replace hf := ob_t hf c4
        obtain rfl := ob_s hf
        obtain rfl := h3b _ rfl
        exact K3_0 H locs ls hP hS (lv_sub hl [] rfl)
      · replace hf := ob_f hf c4
        refine lv_aload_n hx hb dX1_copy_2_8 rfl (lv_at hl 0 rfl) ?_
        refine lv_iload_n hx hb dX1_copy_2_9 rfl (lv_at hl 2 rfl) ?_
        obtain ⟨h5, hf⟩ := ob_gd hf
        refine xr_aald hx hb hK hP 21 (by decide) rfl (j := v2_2.toNatClampNeg) h5 rfl dX1_copy_2_10 ?_
        refine lv_aload_n hx hb dX1_copy_2_11 rfl (lv_at hl 1 rfl) ?_
        refine lv_iload_n hx hb dX1_copy_2_12 rfl (lv_at hl 2 rfl) ?_
        obtain ⟨h6, hf⟩ := ob_gd hf
        refine xr_aald hx hb hK hP 10 (by decide) rfl (j := v2_2.toNatClampNeg) h6 rfl dX1_copy_2_13 ?_
        obtain ⟨q8, g7, hf⟩ := ob_bind hf
        refine xc_v (xj_runS (As := [.ref (E (82 + v2_2.toNatClampNeg)), .ref (E (34 + v2_2.toNatClampNeg))]) (rest := []) hJ hJs hS ⟨hx, hb, hml, hown, hts⟩ (wkX1_copy l D dA E hE T J hJ w1 (82 + v2_2.toNatClampNeg) 2 (34 + v2_2.toNatClampNeg) 2 g7 (by have := vin_lt h5; omega) (shX_r3 (by have := vin_lt h5; omega)) (by have := vin_lt h6; omega) (shX_r1 (by have := vin_lt h6; omega))) (va_cwS 2 hts (lw_S q243 q244 q137 q245) rfl rfl rfl cdX1_copy.2 ⟨Nat.le_of_ble_eq_true rfl, Nat.le_of_ble_eq_true rfl⟩) hK hP hl.1 rfl rfl (Nat.le_of_ble_eq_true rfl) dX1_copy_2_14 ⟨Nat.zero_le _, Nat.zero_le _⟩) hS hD.2 (fun H locs hP hS => ?_)
        obtain ⟨v2_9, ev2_9, hf⟩ := ob_bnd hf
        refine lv_iinc (v := v2_9) (lv' := [(2, .int v2_9), (0, .ref (E 21)), (1, .ref (E 10))]) hx hb dX1_copy_2_17 hl (k := 2) rfl (by rw [ev2_9]; rfl) (by decide) rfl (fun ls hl => ?_)
        refine lv_goto (tgt := 2) hx hb dX1_copy_2_20 (by decide) ?_
        obtain rfl := ob_s hf
        exact ih _ _ (h3a _ rfl) K3_0 H locs ls hP hS (lv_sub hl [1, 2, 0] rfl)
  refine kL2 n3 w 0 hn3 (fun H locs ls hP hS hl => ?_) H locs ls hP hS (lv_sub hl [1, 2, 0] rfl)
  replace hf : X_X1_copy_2_21_10_x2_23 b3 = some res := hf
  unfold X_X1_copy_2_21_10_x2_23 at hf
  obtain rfl := ob_s hf
  subst hQ
  exact xe_v hx hb hr hlocks hP hS dX1_copy_2_23
set_option maxHeartbeats 4000000 in
set_option maxRecDepth 100000 in
theorem wkX1_copy_2_22_11 (l : Launch) (D : va_G) (dA : Nat → ClassId) (E : Nat → Nat) (hE : wInj 136 E) (T : Tx) (J : State → Heap → Prop) (hJ : JP D dA E T J) (w : Mm)  {res : Mm} (hf : X_X1_copy_2_22_11 w = some res) : Met l yX1_copy_2 (ws_ yX1_copy_2 cX1_copy_2 3 (none)) rmX1_copy_2 (Pj D dA E J [.ref (E 22), .ref (E 11)] w) (Qwv D clX shX 136 dA E res) 0 0 (AE 136 E) := by
  refine xj_head (own := RX1) (by decide) rfl (Nat.le_of_ble_eq_true rfl) ?_
  intro p e s m args below meth c ls Q hQ C hP hl
  obtain ⟨hx, hb, hr, hlocks, hml, hown, hts, hK, hJs⟩ := C
  replace hl : lv_has ls 3 [(0, .ref (E 22)), (1, .ref (E 11))] := hl
  have hS : va_S (AE 136 E) s.heap s.heap [] := va_S.rf
  have hD : wD 136 E (AE 136 E) := wD.self hE
  unfold X_X1_copy_2_22_11 at hf
  obtain ⟨H, eH⟩ : ∃ H, H = s.heap := ⟨_, rfl⟩
  obtain ⟨locs, eL⟩ : ∃ locs : List Loc, locs = [] := ⟨_, rfl⟩
  rw [← eL] at hS ⊢
  rw [← eH] at hP
  have hS : va_S (AE 136 E) s.heap H locs := by rw [eH]; exact hS
  show W p l e rmX1_copy_2 s m args below meth c s.heap locs 0 0 Q (F0 m 0 ls [])
  rw [← eH]
  refine lv_iconst (v := 0) hx hb dX1_copy_2_0 (by decide) ?_
  refine lv_istore_n (lv' := [(2, .int 0), (0, .ref (E 22)), (1, .ref (E 11))]) hx hb dX1_copy_2_1 rfl hl (by decide) rfl (fun ls hl => ?_)
  obtain ⟨b3, hb3, hf⟩ := ob_bind hf
  obtain ⟨n3, hn3⟩ := lp_some hb3
  have kL2 : ∀ (n : Nat) (w1 : Mm) (v2_2 : Int32), lpF (fun (q3 : Mm × Int32) => X_X1_copy_2_22_11_b2 q3.1 q3.2) n (w1, v2_2) = some b3 → (∀ (H : Heap) (locs : List Loc) (ls : Array Slot), va_P D clX (wl shX 136 dA E b3) H → va_S (AE 136 E) s.heap H locs → lv_has ls 3 [] → W p l e rmX1_copy_2 s m args below meth c H locs 0 0 Q (F0 m 23 ls [])) → ∀ (H : Heap) (locs : List Loc) (ls : Array Slot), va_P D clX (wl shX 136 dA E w1) H → va_S (AE 136 E) s.heap H locs → lv_has ls 3 [(0, .ref (E 22)), (1, .ref (E 11)), (2, .int v2_2)] → W p l e rmX1_copy_2 s m args below meth c H locs 0 0 Q (F0 m 2 ls []) := by
    intro n
    induction n with
    | zero =>
      intro w1 v2_2 hq9
      cases hq9
    | succ n ih =>
      intro w1 v2_2 hq9 K3_0 H locs ls hP hS hl
      obtain ⟨r3, hf, h3a, h3b⟩ := lpF_step hq9
      replace hf : X_X1_copy_2_22_11_b2 w1 v2_2 = some r3 := hf
      unfold X_X1_copy_2_22_11_b2 at hf
      refine lv_iload_n hx hb dX1_copy_2_2 rfl (lv_at hl 2 rfl) ?_
      refine lv_aload_n hx hb dX1_copy_2_3 rfl (lv_at hl 0 rfl) ?_
      refine xr_alen (n := 0) (z := []) hx hb hK hP 22 (by decide) (by rw [show shX 22 = _ from rfl]; rfl) 2 rfl (v := 8) rfl dX1_copy_2_4 ?_
      refine lv_icmp_ge (tgt := 23) hx hb dX1_copy_2_5 (by decide) (fun c4 => ?_) (fun c4 => ?_)
      · replace hf := ob_t hf c4
        obtain rfl := ob_s hf
        obtain rfl := h3b _ rfl
        exact K3_0 H locs ls hP hS (lv_sub hl [] rfl)
      · replace hf := ob_f hf c4
        refine lv_aload_n hx hb dX1_copy_2_8 rfl (lv_at hl 0 rfl) ?_
        refine lv_iload_n hx hb dX1_copy_2_9 rfl (lv_at hl 2 rfl) ?_
        obtain ⟨h5, hf⟩ := ob_gd hf
        refine xr_aald hx hb hK hP 22 (by decide) rfl (j := v2_2.toNatClampNeg) h5 rfl dX1_copy_2_10 ?_
        refine lv_aload_n hx hb dX1_copy_2_11 rfl (lv_at hl 1 rfl) ?_
        refine lv_iload_n hx hb dX1_copy_2_12 rfl (lv_at hl 2 rfl) ?_
        obtain ⟨h6, hf⟩ := ob_gd hf
        refine xr_aald hx hb hK hP 11 (by decide) rfl (j := v2_2.toNatClampNeg) h6 rfl dX1_copy_2_13 ?_
        obtain ⟨q8, g7, hf⟩ := ob_bind hf
        refine xc_v (xj_runS (As := [.ref (E (92 + v2_2.toNatClampNeg)), .ref (E (44 + v2_2.toNatClampNeg))]) (rest := []) hJ hJs hS ⟨hx, hb, hml, hown, hts⟩ (wkX1_copy l D dA E hE T J hJ w1 (92 + v2_2.toNatClampNeg) 2 (44 + v2_2.toNatClampNeg) 2 g7 (by have := vin_lt h5; omega) (shX_s92 (by have := vin_lt h5; omega)) (by have := vin_lt h6; omega) (shX_s44 (by have := vin_lt h6; omega))) (va_cwS 2 hts (lw_S q243 q244 q137 q245) rfl rfl rfl cdX1_copy.2 ⟨Nat.le_of_ble_eq_true rfl, Nat.le_of_ble_eq_true rfl⟩) hK hP hl.1 rfl rfl (Nat.le_of_ble_eq_true rfl) dX1_copy_2_14 ⟨Nat.zero_le _, Nat.zero_le _⟩) hS hD.2 (fun H locs hP hS => ?_)
        obtain ⟨v2_9, ev2_9, hf⟩ := ob_bnd hf
        refine lv_iinc (v := v2_9) (lv' := [(2, .int v2_9), (0, .ref (E 22)), (1, .ref (E 11))]) hx hb dX1_copy_2_17 hl (k := 2) rfl (by rw [ev2_9]; rfl) (by decide) rfl (fun ls hl => ?_)
        refine lv_goto (tgt := 2) hx hb dX1_copy_2_20 (by decide) ?_
        obtain rfl := ob_s hf
        exact ih _ _ (h3a _ rfl) K3_0 H locs ls hP hS (lv_sub hl [1, 2, 0] rfl)
  refine kL2 n3 w 0 hn3 (fun H locs ls hP hS hl => ?_) H locs ls hP hS (lv_sub hl [1, 2, 0] rfl)
  replace hf : X_X1_copy_2_22_11_x2_23 b3 = some res := hf
  unfold X_X1_copy_2_22_11_x2_23 at hf
  obtain rfl := ob_s hf
  subst hQ
  exact xe_v hx hb hr hlocks hP hS dX1_copy_2_23
set_option maxHeartbeats 4000000 in
set_option maxRecDepth 100000 in
theorem wkX1_copy_2_23_12 (l : Launch) (D : va_G) (dA : Nat → ClassId) (E : Nat → Nat) (hE : wInj 136 E) (T : Tx) (J : State → Heap → Prop) (hJ : JP D dA E T J) (w : Mm)  {res : Mm} (hf : X_X1_copy_2_23_12 w = some res) : Met l yX1_copy_2 (ws_ yX1_copy_2 cX1_copy_2 3 (none)) rmX1_copy_2 (Pj D dA E J [.ref (E 23), .ref (E 12)] w) (Qwv D clX shX 136 dA E res) 0 0 (AE 136 E) := by
  refine xj_head (own := RX1) (by decide) rfl (Nat.le_of_ble_eq_true rfl) ?_
  intro p e s m args below meth c ls Q hQ C hP hl
  obtain ⟨hx, hb, hr, hlocks, hml, hown, hts, hK, hJs⟩ := C
  replace hl : lv_has ls 3 [(0, .ref (E 23)), (1, .ref (E 12))] := hl
  have hS : va_S (AE 136 E) s.heap s.heap [] := va_S.rf
  have hD : wD 136 E (AE 136 E) := wD.self hE
  unfold X_X1_copy_2_23_12 at hf
  obtain ⟨H, eH⟩ : ∃ H, H = s.heap := ⟨_, rfl⟩
  obtain ⟨locs, eL⟩ : ∃ locs : List Loc, locs = [] := ⟨_, rfl⟩
  rw [← eL] at hS ⊢
  rw [← eH] at hP
  have hS : va_S (AE 136 E) s.heap H locs := by rw [eH]; exact hS
  show W p l e rmX1_copy_2 s m args below meth c s.heap locs 0 0 Q (F0 m 0 ls [])
  rw [← eH]
  refine lv_iconst (v := 0) hx hb dX1_copy_2_0 (by decide) ?_
  refine lv_istore_n (lv' := [(2, .int 0), (0, .ref (E 23)), (1, .ref (E 12))]) hx hb dX1_copy_2_1 rfl hl (by decide) rfl (fun ls hl => ?_)
  obtain ⟨b3, hb3, hf⟩ := ob_bind hf
  obtain ⟨n3, hn3⟩ := lp_some hb3
  have kL2 : ∀ (n : Nat) (w1 : Mm) (v2_2 : Int32), lpF (fun (q3 : Mm × Int32) => X_X1_copy_2_23_12_b2 q3.1 q3.2) n (w1, v2_2) = some b3 → (∀ (H : Heap) (locs : List Loc) (ls : Array Slot), va_P D clX (wl shX 136 dA E b3) H → va_S (AE 136 E) s.heap H locs → lv_has ls 3 [] → W p l e rmX1_copy_2 s m args below meth c H locs 0 0 Q (F0 m 23 ls [])) → ∀ (H : Heap) (locs : List Loc) (ls : Array Slot), va_P D clX (wl shX 136 dA E w1) H → va_S (AE 136 E) s.heap H locs → lv_has ls 3 [(0, .ref (E 23)), (1, .ref (E 12)), (2, .int v2_2)] → W p l e rmX1_copy_2 s m args below meth c H locs 0 0 Q (F0 m 2 ls []) := by
    intro n
    induction n with
    | zero =>
      intro w1 v2_2 hq9
      cases hq9
    | succ n ih =>
      intro w1 v2_2 hq9 K3_0 H locs ls hP hS hl
      obtain ⟨r3, hf, h3a, h3b⟩ := lpF_step hq9
      replace hf : X_X1_copy_2_23_12_b2 w1 v2_2 = some r3 := hf
      unfold X_X1_copy_2_23_12_b2 at hf
      refine lv_iload_n hx hb dX1_copy_2_2 rfl (lv_at hl 2 rfl) ?_
      refine lv_aload_n hx hb dX1_copy_2_3 rfl (lv_at hl 0 rfl) ?_
      refine xr_alen (n := 0) (z := []) hx hb hK hP 23 (by decide) (by rw [show shX 23 = _ from rfl]; rfl) 2 rfl (v := 30) rfl dX1_copy_2_4 ?_
      refine lv_icmp_ge (tgt := 23) hx hb dX1_copy_2_5 (by decide) (fun c4 => ?_) (fun c4 => ?_)
      · replace hf := ob_t hf c4
        obtain rfl := ob_s hf
        obtain rfl := h3b _ rfl
        exact K3_0 H locs ls hP hS (lv_sub hl [] rfl)
      · replace hf := ob_f hf c4
        refine lv_aload_n hx hb dX1_copy_2_8 rfl (lv_at hl 0 rfl) ?_
        refine lv_iload_n hx hb dX1_copy_2_9 rfl (lv_at hl 2 rfl) ?_
        obtain ⟨h5, hf⟩ := ob_gd hf
        refine xr_aald hx hb hK hP 23 (by decide) rfl (j := v2_2.toNatClampNeg) h5 rfl dX1_copy_2_10 ?_
        refine lv_aload_n hx hb dX1_copy_2_11 rfl (lv_at hl 1 rfl) ?_
        refine lv_iload_n hx hb dX1_copy_2_12 rfl (lv_at hl 2 rfl) ?_
        obtain ⟨h6, hf⟩ := ob_gd hf
        refine xr_aald hx hb hK hP 12 (by decide) rfl (j := v2_2.toNatClampNeg) h6 rfl dX1_copy_2_13 ?_
        obtain ⟨q8, g7, hf⟩ := ob_bind hf
        refine xc_v (xj_runS (As := [.ref (E (100 + v2_2.toNatClampNeg)), .ref (E (52 + v2_2.toNatClampNeg))]) (rest := []) hJ hJs hS ⟨hx, hb, hml, hown, hts⟩ (wkX1_copy l D dA E hE T J hJ w1 (100 + v2_2.toNatClampNeg) 149 (52 + v2_2.toNatClampNeg) 149 g7 (by have := vin_lt h5; omega) (shX_r4 (by have := vin_lt h5; omega)) (by have := vin_lt h6; omega) (shX_r2 (by have := vin_lt h6; omega))) (va_cwS 2 hts (lw_S q243 q244 q137 q245) rfl rfl rfl cdX1_copy.2 ⟨Nat.le_of_ble_eq_true rfl, Nat.le_of_ble_eq_true rfl⟩) hK hP hl.1 rfl rfl (Nat.le_of_ble_eq_true rfl) dX1_copy_2_14 ⟨Nat.zero_le _, Nat.zero_le _⟩) hS hD.2 (fun H locs hP hS => ?_)
        obtain ⟨v2_9, ev2_9, hf⟩ := ob_bnd hf
        refine lv_iinc (v := v2_9) (lv' := [(2, .int v2_9), (0, .ref (E 23)), (1, .ref (E 12))]) hx hb dX1_copy_2_17 hl (k := 2) rfl (by rw [ev2_9]; rfl) (by decide) rfl (fun ls hl => ?_)
        refine lv_goto (tgt := 2) hx hb dX1_copy_2_20 (by decide) ?_
        obtain rfl := ob_s hf
        exact ih _ _ (h3a _ rfl) K3_0 H locs ls hP hS (lv_sub hl [1, 2, 0] rfl)
  refine kL2 n3 w 0 hn3 (fun H locs ls hP hS hl => ?_) H locs ls hP hS (lv_sub hl [1, 2, 0] rfl)
  replace hf : X_X1_copy_2_23_12_x2_23 b3 = some res := hf
  unfold X_X1_copy_2_23_12_x2_23 at hf
  obtain rfl := ob_s hf
  subst hQ
  exact xe_v hx hb hr hlocks hP hS dX1_copy_2_23
abbrev rmX1_be : Room := { frames := 3, cells := 0, slots := 0, locals := 103 }
theorem cdX1_be : yX1_be.cls = RX1 ∧ yX1_be.cls ≠ "java/lang/invoke/MethodHandle" ∧ yX1_be.cls ≠ "java/lang/invoke/VarHandle" ∧ (parseMethodDescriptor yX1_be.desc).map (fun d => d.parameters.length) = some 1 := by decide +kernel
set_option maxHeartbeats 4000000 in
set_option maxRecDepth 100000 in
theorem wkX1_be_i (l : Launch) (D : va_G) (dA : Nat → ClassId) (E : Nat → Nat) (hE : wInj 136 E) (T : Tx) (J : State → Heap → Prop) (hJ : JP D dA E T J) (w : Mm)  {res : Mm} (hf : X_X1_be_i T w = some res) : Met l yX1_be (ws_ yX1_be cX1_be 2 (none)) rmX1_be (Pj D dA E J [.ref (E 2), .ref (E 1)] w) (Qwv D clX shX 136 dA E res) 0 0 (AE 136 E) := by
  refine xj_head (own := RX1) (by decide) rfl (Nat.le_of_ble_eq_true rfl) ?_
  intro p e s m args below meth c ls Q hQ C hP hl
  obtain ⟨hx, hb, hr, hlocks, hml, hown, hts, hK, hJs⟩ := C
  replace hl : lv_has ls 2 [(0, .ref (E 2)), (1, .ref (E 1))] := hl
  have hS : va_S (AE 136 E) s.heap s.heap [] := va_S.rf
  have hD : wD 136 E (AE 136 E) := wD.self hE
  unfold X_X1_be_i at hf
  obtain ⟨H, eH⟩ : ∃ H, H = s.heap := ⟨_, rfl⟩
  obtain ⟨locs, eL⟩ : ∃ locs : List Loc, locs = [] := ⟨_, rfl⟩
  rw [← eL] at hS ⊢
  rw [← eH] at hP
  have hS : va_S (AE 136 E) s.heap H locs := by rw [eH]; exact hS
  show W p l e rmX1_be s m args below meth c s.heap locs 0 0 Q (F0 m 0 ls [])
  rw [← eH]
  refine lv_aload_n hx hb dX1_be_0 rfl (lv_at hl 1 rfl) ?_
  refine xr_get hx hb hts in_X1 hown hK hP 1 (by decide) rfl rfl 0 (by decide) (hts _ q192) (fun _ h => h) rfl (v := .ref (E 3)) rfl dX1_be_1 ?_
  refine lv_aload_n hx hb dX1_be_4 rfl (lv_at hl 0 rfl) ?_
  refine xr_get hx hb hts in_X1 hown hK hP 2 (by decide) rfl rfl 0 (by decide) (hts _ q192) (fun _ h => h) rfl (v := .ref (E 14)) rfl dX1_be_5 ?_
  obtain ⟨q2, g1, hf⟩ := ob_bind hf
  refine xc_v (xj_runS (As := [.ref (E 3), .ref (E 14)]) (rest := []) hJ hJs hS ⟨hx, hb, hml, hown, hts⟩ (wkX1_copy l D dA E hE T J hJ w 3 8 14 8 g1 (by decide) rfl (by decide) rfl) (va_cwS 2 hts (lw_S q243 q244 q137 q245) rfl rfl rfl cdX1_copy.2 ⟨Nat.le_of_ble_eq_true rfl, Nat.le_of_ble_eq_true rfl⟩) hK hP hl.1 rfl rfl (Nat.le_of_ble_eq_true rfl) dX1_be_8 ⟨Nat.zero_le _, Nat.zero_le _⟩) hS hD.2 (fun H locs hP hS => ?_)
  refine lv_aload_n hx hb dX1_be_11 rfl (lv_at hl 1 rfl) ?_
  refine xr_get hx hb hts in_X1 hown hK hP 1 (by decide) rfl rfl 1 (by decide) (hts _ q194) (fun _ h => h) rfl (v := .ref (E 4)) rfl dX1_be_12 ?_
  refine lv_aload_n hx hb dX1_be_15 rfl (lv_at hl 0 rfl) ?_
  refine xr_get hx hb hts in_X1 hown hK hP 2 (by decide) rfl rfl 1 (by decide) (hts _ q194) (fun _ h => h) rfl (v := .ref (E 15)) rfl dX1_be_16 ?_
  obtain ⟨q4, g3, hf⟩ := ob_bind hf
  refine xc_v (xj_runS (As := [.ref (E 4), .ref (E 15)]) (rest := []) hJ hJs hS ⟨hx, hb, hml, hown, hts⟩ (wkX1_copy l D dA E hE T J hJ q2 4 149 15 149 g3 (by decide) rfl (by decide) rfl) (va_cwS 2 hts (lw_S q243 q244 q137 q245) rfl rfl rfl cdX1_copy.2 ⟨Nat.le_of_ble_eq_true rfl, Nat.le_of_ble_eq_true rfl⟩) hK hP hl.1 rfl rfl (Nat.le_of_ble_eq_true rfl) dX1_be_19 ⟨Nat.zero_le _, Nat.zero_le _⟩) hS hD.2 (fun H locs hP hS => ?_)
  refine lv_aload_n hx hb dX1_be_22 rfl (lv_at hl 1 rfl) ?_
  refine xr_get hx hb hts in_X1 hown hK hP 1 (by decide) rfl rfl 2 (by decide) (hts _ q196) (fun _ h => h) rfl (v := .ref (E 5)) rfl dX1_be_23 ?_
  refine lv_aload_n hx hb dX1_be_26 rfl (lv_at hl 0 rfl) ?_
  refine xr_get hx hb hts in_X1 hown hK hP 2 (by decide) rfl rfl 2 (by decide) (hts _ q196) (fun _ h => h) rfl (v := .ref (E 16)) rfl dX1_be_27 ?_
  obtain ⟨q6, g5, hf⟩ := ob_bind hf
  refine xc_v (xj_runS (As := [.ref (E 5), .ref (E 16)]) (rest := []) hJ hJs hS ⟨hx, hb, hml, hown, hts⟩ (wkX1_copy l D dA E hE T J hJ q4 5 8 16 8 g5 (by decide) rfl (by decide) rfl) (va_cwS 2 hts (lw_S q243 q244 q137 q245) rfl rfl rfl cdX1_copy.2 ⟨Nat.le_of_ble_eq_true rfl, Nat.le_of_ble_eq_true rfl⟩) hK hP hl.1 rfl rfl (Nat.le_of_ble_eq_true rfl) dX1_be_30 ⟨Nat.zero_le _, Nat.zero_le _⟩) hS hD.2 (fun H locs hP hS => ?_)
  refine lv_aload_n hx hb dX1_be_33 rfl (lv_at hl 1 rfl) ?_
  refine xr_get hx hb hts in_X1 hown hK hP 1 (by decide) rfl rfl 3 (by decide) (hts _ q198) (fun _ h => h) rfl (v := .ref (E 6)) rfl dX1_be_34 ?_
  refine lv_aload_n hx hb dX1_be_37 rfl (lv_at hl 0 rfl) ?_
  refine xr_get hx hb hts in_X1 hown hK hP 2 (by decide) rfl rfl 3 (by decide) (hts _ q198) (fun _ h => h) rfl (v := .ref (E 17)) rfl dX1_be_38 ?_
  obtain ⟨q8, g7, hf⟩ := ob_bind hf
  refine xc_v (xj_runS (As := [.ref (E 6), .ref (E 17)]) (rest := []) hJ hJs hS ⟨hx, hb, hml, hown, hts⟩ (wkX1_copy l D dA E hE T J hJ q6 6 8 17 8 g7 (by decide) rfl (by decide) rfl) (va_cwS 2 hts (lw_S q243 q244 q137 q245) rfl rfl rfl cdX1_copy.2 ⟨Nat.le_of_ble_eq_true rfl, Nat.le_of_ble_eq_true rfl⟩) hK hP hl.1 rfl rfl (Nat.le_of_ble_eq_true rfl) dX1_be_41 ⟨Nat.zero_le _, Nat.zero_le _⟩) hS hD.2 (fun H locs hP hS => ?_)
  refine lv_aload_n hx hb dX1_be_44 rfl (lv_at hl 1 rfl) ?_
  refine xr_get hx hb hts in_X1 hown hK hP 1 (by decide) rfl rfl 4 (by decide) (hts _ q200) (fun _ h => h) rfl (v := .ref (E 7)) rfl dX1_be_45 ?_
  refine lv_aload_n hx hb dX1_be_48 rfl (lv_at hl 0 rfl) ?_
  refine xr_get hx hb hts in_X1 hown hK hP 2 (by decide) rfl rfl 4 (by decide) (hts _ q200) (fun _ h => h) rfl (v := .ref (E 18)) rfl dX1_be_49 ?_
  obtain ⟨q10, g9, hf⟩ := ob_bind hf
  refine xc_v (xj_runS (As := [.ref (E 7), .ref (E 18)]) (rest := []) hJ hJs hS ⟨hx, hb, hml, hown, hts⟩ (wkX1_copy l D dA E hE T J hJ q8 7 8 18 8 g9 (by decide) rfl (by decide) rfl) (va_cwS 2 hts (lw_S q243 q244 q137 q245) rfl rfl rfl cdX1_copy.2 ⟨Nat.le_of_ble_eq_true rfl, Nat.le_of_ble_eq_true rfl⟩) hK hP hl.1 rfl rfl (Nat.le_of_ble_eq_true rfl) dX1_be_52 ⟨Nat.zero_le _, Nat.zero_le _⟩) hS hD.2 (fun H locs hP hS => ?_)
  refine lv_aload_n hx hb dX1_be_55 rfl (lv_at hl 1 rfl) ?_
  refine xr_get hx hb hts in_X1 hown hK hP 1 (by decide) rfl rfl 5 (by decide) (hts _ q202) (fun _ h => h) rfl (v := .ref (E 8)) rfl dX1_be_56 ?_
  refine lv_aload_n hx hb dX1_be_59 rfl (lv_at hl 0 rfl) ?_
  refine xr_get hx hb hts in_X1 hown hK hP 2 (by decide) rfl rfl 5 (by decide) (hts _ q202) (fun _ h => h) rfl (v := .ref (E 19)) rfl dX1_be_60 ?_
  obtain ⟨q12, g11, hf⟩ := ob_bind hf
  refine xc_v (xj_runS (As := [.ref (E 8), .ref (E 19)]) (rest := []) hJ hJs hS ⟨hx, hb, hml, hown, hts⟩ (wkX1_copy l D dA E hE T J hJ q10 8 4 19 4 g11 (by decide) rfl (by decide) rfl) (va_cwS 2 hts (lw_S q243 q244 q137 q245) rfl rfl rfl cdX1_copy.2 ⟨Nat.le_of_ble_eq_true rfl, Nat.le_of_ble_eq_true rfl⟩) hK hP hl.1 rfl rfl (Nat.le_of_ble_eq_true rfl) dX1_be_63 ⟨Nat.zero_le _, Nat.zero_le _⟩) hS hD.2 (fun H locs hP hS => ?_)
  refine lv_aload_n hx hb dX1_be_66 rfl (lv_at hl 1 rfl) ?_
  refine xr_get hx hb hts in_X1 hown hK hP 1 (by decide) rfl rfl 6 (by decide) (hts _ q204) (fun _ h => h) rfl (v := .ref (E 9)) rfl dX1_be_67 ?_
  refine lv_aload_n hx hb dX1_be_70 rfl (lv_at hl 0 rfl) ?_
  refine xr_get hx hb hts in_X1 hown hK hP 2 (by decide) rfl rfl 6 (by decide) (hts _ q204) (fun _ h => h) rfl (v := .ref (E 20)) rfl dX1_be_71 ?_
  obtain ⟨q14, g13, hf⟩ := ob_bind hf
  refine xc_v (xj_runS (As := [.ref (E 9), .ref (E 20)]) (rest := []) hJ hJs hS ⟨hx, hb, hml, hown, hts⟩ (wkX1_copy l D dA E hE T J hJ q12 9 6 20 6 g13 (by decide) rfl (by decide) rfl) (va_cwS 2 hts (lw_S q243 q244 q137 q245) rfl rfl rfl cdX1_copy.2 ⟨Nat.le_of_ble_eq_true rfl, Nat.le_of_ble_eq_true rfl⟩) hK hP hl.1 rfl rfl (Nat.le_of_ble_eq_true rfl) dX1_be_74 ⟨Nat.zero_le _, Nat.zero_le _⟩) hS hD.2 (fun H locs hP hS => ?_)
  refine lv_aload_n hx hb dX1_be_77 rfl (lv_at hl 1 rfl) ?_
  refine xr_get hx hb hts in_X1 hown hK hP 1 (by decide) rfl rfl 7 (by decide) (hts _ q206) (fun _ h => h) rfl (v := .ref (E 10)) rfl dX1_be_78 ?_
  refine lv_aload_n hx hb dX1_be_81 rfl (lv_at hl 0 rfl) ?_
  refine xr_get hx hb hts in_X1 hown hK hP 2 (by decide) rfl rfl 7 (by decide) (hts _ q206) (fun _ h => h) rfl (v := .ref (E 21)) rfl dX1_be_82 ?_
  obtain ⟨q16, g15, hf⟩ := ob_bind hf
  refine xc_v (xj_runS (As := [.ref (E 10), .ref (E 21)]) (rest := []) hJ hJs hS ⟨hx, hb, hml, hown, hts⟩ (wkX1_copy_2_10_21 l D dA E hE T J hJ q14 g15) (va_cwS 2 hts (lw_S q249 q250 q137 q251) rfl rfl rfl cdX1_copy_2.2 ⟨Nat.le_of_ble_eq_true rfl, Nat.le_of_ble_eq_true rfl⟩) hK hP hl.1 rfl rfl (Nat.le_of_ble_eq_true rfl) dX1_be_85 ⟨Nat.zero_le _, Nat.zero_le _⟩) hS hD.2 (fun H locs hP hS => ?_)
  refine lv_aload_n hx hb dX1_be_88 rfl (lv_at hl 1 rfl) ?_
  refine xr_get hx hb hts in_X1 hown hK hP 1 (by decide) rfl rfl 8 (by decide) (hts _ q208) (fun _ h => h) rfl (v := .ref (E 11)) rfl dX1_be_89 ?_
  refine lv_aload_n hx hb dX1_be_92 rfl (lv_at hl 0 rfl) ?_
  refine xr_get hx hb hts in_X1 hown hK hP 2 (by decide) rfl rfl 8 (by decide) (hts _ q208) (fun _ h => h) rfl (v := .ref (E 22)) rfl dX1_be_93 ?_
  obtain ⟨q18, g17, hf⟩ := ob_bind hf
  refine xc_v (xj_runS (As := [.ref (E 11), .ref (E 22)]) (rest := []) hJ hJs hS ⟨hx, hb, hml, hown, hts⟩ (wkX1_copy_2_11_22 l D dA E hE T J hJ q16 g17) (va_cwS 2 hts (lw_S q249 q250 q137 q251) rfl rfl rfl cdX1_copy_2.2 ⟨Nat.le_of_ble_eq_true rfl, Nat.le_of_ble_eq_true rfl⟩) hK hP hl.1 rfl rfl (Nat.le_of_ble_eq_true rfl) dX1_be_96 ⟨Nat.zero_le _, Nat.zero_le _⟩) hS hD.2 (fun H locs hP hS => ?_)
  refine lv_aload_n hx hb dX1_be_99 rfl (lv_at hl 1 rfl) ?_
  refine xr_get hx hb hts in_X1 hown hK hP 1 (by decide) rfl rfl 9 (by decide) (hts _ q210) (fun _ h => h) rfl (v := .ref (E 12)) rfl dX1_be_100 ?_
  refine lv_aload_n hx hb dX1_be_103 rfl (lv_at hl 0 rfl) ?_
  refine xr_get hx hb hts in_X1 hown hK hP 2 (by decide) rfl rfl 9 (by decide) (hts _ q210) (fun _ h => h) rfl (v := .ref (E 23)) rfl dX1_be_104 ?_
  obtain ⟨q20, g19, hf⟩ := ob_bind hf
  refine xc_v (xj_runS (As := [.ref (E 12), .ref (E 23)]) (rest := []) hJ hJs hS ⟨hx, hb, hml, hown, hts⟩ (wkX1_copy_2_12_23 l D dA E hE T J hJ q18 g19) (va_cwS 2 hts (lw_S q249 q250 q137 q251) rfl rfl rfl cdX1_copy_2.2 ⟨Nat.le_of_ble_eq_true rfl, Nat.le_of_ble_eq_true rfl⟩) hK hP hl.1 rfl rfl (Nat.le_of_ble_eq_true rfl) dX1_be_107 ⟨Nat.zero_le _, Nat.zero_le _⟩) hS hD.2 (fun H locs hP hS => ?_)
  refine lv_aload_n hx hb dX1_be_110 rfl (lv_at hl 1 rfl) ?_
  refine xr_get hx hb hts in_X1 hown hK hP 1 (by decide) rfl rfl 10 (by decide) (hts _ q212) (fun _ h => h) rfl (v := .ref (E 13)) rfl dX1_be_111 ?_
  refine lv_iconst (v := 0) hx hb dX1_be_114 (by decide) ?_
  refine lv_aload_n hx hb dX1_be_115 rfl (lv_at hl 0 rfl) ?_
  refine xr_get hx hb hts in_X1 hown hK hP 2 (by decide) rfl rfl 10 (by decide) (hts _ q212) (fun _ h => h) rfl (v := .ref (E 24)) rfl dX1_be_116 ?_
  refine lv_iconst (v := 0) hx hb dX1_be_119 (by decide) ?_
  refine lv_iconst (v := 4) hx hb dX1_be_120 (by decide) ?_
  obtain ⟨h22, hf⟩ := ob_gp hf
  obtain ⟨h23, hf⟩ := ob_gp hf
  obtain ⟨w21, ew21, hf⟩ := ob_bnd hf
  refine xr_tcopy hx hb (hml.trans hl.1.symm) hown (hts _ q246) (hts _ q248) (hts _ q247) (hts _ q139) hK hP hD hS (hJ.at hJs hS) hJ 13 24 (by decide) (by decide) rfl rfl (w' := w21) h22 h23 ew21 (Nat.le_of_ble_eq_true rfl) (Nat.le_of_ble_eq_true rfl) dX1_be_121 (fun H locs hP hS => ?_)
  obtain rfl := ob_s hf
  subst hQ
  exact xe_v hx hb hr hlocks hP hS dX1_be_124
set_option maxHeartbeats 4000000 in
set_option maxRecDepth 100000 in
theorem wkX1_be_b (l : Launch) (D : va_G) (dA : Nat → ClassId) (E : Nat → Nat) (hE : wInj 136 E) (T : Tx) (J : State → Heap → Prop) (hJ : JP D dA E T J) (w : Mm)  {res : Mm} (hf : X_X1_be_b T w = some res) : Met l yX1_be (ws_ yX1_be cX1_be 2 (none)) rmX1_be (Pj D dA E J [.ref (E 1), .ref (E 2)] w) (Qwv D clX shX 136 dA E res) 0 0 (AE 136 E) := by
  refine xj_head (own := RX1) (by decide) rfl (Nat.le_of_ble_eq_true rfl) ?_
  intro p e s m args below meth c ls Q hQ C hP hl
  obtain ⟨hx, hb, hr, hlocks, hml, hown, hts, hK, hJs⟩ := C
  replace hl : lv_has ls 2 [(0, .ref (E 1)), (1, .ref (E 2))] := hl
  have hS : va_S (AE 136 E) s.heap s.heap [] := va_S.rf
  have hD : wD 136 E (AE 136 E) := wD.self hE
  unfold X_X1_be_b at hf
  obtain ⟨H, eH⟩ : ∃ H, H = s.heap := ⟨_, rfl⟩
  obtain ⟨locs, eL⟩ : ∃ locs : List Loc, locs = [] := ⟨_, rfl⟩
  rw [← eL] at hS ⊢
  rw [← eH] at hP
  have hS : va_S (AE 136 E) s.heap H locs := by rw [eH]; exact hS
  show W p l e rmX1_be s m args below meth c s.heap locs 0 0 Q (F0 m 0 ls [])
  rw [← eH]
  refine lv_aload_n hx hb dX1_be_0 rfl (lv_at hl 1 rfl) ?_
  refine xr_get hx hb hts in_X1 hown hK hP 2 (by decide) rfl rfl 0 (by decide) (hts _ q192) (fun _ h => h) rfl (v := .ref (E 14)) rfl dX1_be_1 ?_
  refine lv_aload_n hx hb dX1_be_4 rfl (lv_at hl 0 rfl) ?_
  refine xr_get hx hb hts in_X1 hown hK hP 1 (by decide) rfl rfl 0 (by decide) (hts _ q192) (fun _ h => h) rfl (v := .ref (E 3)) rfl dX1_be_5 ?_
  obtain ⟨q2, g1, hf⟩ := ob_bind hf
  refine xc_v (xj_runS (As := [.ref (E 14), .ref (E 3)]) (rest := []) hJ hJs hS ⟨hx, hb, hml, hown, hts⟩ (wkX1_copy l D dA E hE T J hJ w 14 8 3 8 g1 (by decide) rfl (by decide) rfl) (va_cwS 2 hts (lw_S q243 q244 q137 q245) rfl rfl rfl cdX1_copy.2 ⟨Nat.le_of_ble_eq_true rfl, Nat.le_of_ble_eq_true rfl⟩) hK hP hl.1 rfl rfl (Nat.le_of_ble_eq_true rfl) dX1_be_8 ⟨Nat.zero_le _, Nat.zero_le _⟩) hS hD.2 (fun H locs hP hS => ?_)
  refine lv_aload_n hx hb dX1_be_11 rfl (lv_at hl 1 rfl) ?_
  refine xr_get hx hb hts in_X1 hown hK hP 2 (by decide) rfl rfl 1 (by decide) (hts _ q194) (fun _ h => h) rfl (v := .ref (E 15)) rfl dX1_be_12 ?_
  refine lv_aload_n hx hb dX1_be_15 rfl (lv_at hl 0 rfl) ?_
  refine xr_get hx hb hts in_X1 hown hK hP 1 (by decide) rfl rfl 1 (by decide) (hts _ q194) (fun _ h => h) rfl (v := .ref (E 4)) rfl dX1_be_16 ?_
  obtain ⟨q4, g3, hf⟩ := ob_bind hf
  refine xc_v (xj_runS (As := [.ref (E 15), .ref (E 4)]) (rest := []) hJ hJs hS ⟨hx, hb, hml, hown, hts⟩ (wkX1_copy l D dA E hE T J hJ q2 15 149 4 149 g3 (by decide) rfl (by decide) rfl) (va_cwS 2 hts (lw_S q243 q244 q137 q245) rfl rfl rfl cdX1_copy.2 ⟨Nat.le_of_ble_eq_true rfl, Nat.le_of_ble_eq_true rfl⟩) hK hP hl.1 rfl rfl (Nat.le_of_ble_eq_true rfl) dX1_be_19 ⟨Nat.zero_le _, Nat.zero_le _⟩) hS hD.2 (fun H locs hP hS => ?_)
  refine lv_aload_n hx hb dX1_be_22 rfl (lv_at hl 1 rfl) ?_
  refine xr_get hx hb hts in_X1 hown hK hP 2 (by decide) rfl rfl 2 (by decide) (hts _ q196) (fun _ h => h) rfl (v := .ref (E 16)) rfl dX1_be_23 ?_
  refine lv_aload_n hx hb dX1_be_26 rfl (lv_at hl 0 rfl) ?_
  refine xr_get hx hb hts in_X1 hown hK hP 1 (by decide) rfl rfl 2 (by decide) (hts _ q196) (fun _ h => h) rfl (v := .ref (E 5)) rfl dX1_be_27 ?_
  obtain ⟨q6, g5, hf⟩ := ob_bind hf
  refine xc_v (xj_runS (As := [.ref (E 16), .ref (E 5)]) (rest := []) hJ hJs hS ⟨hx, hb, hml, hown, hts⟩ (wkX1_copy l D dA E hE T J hJ q4 16 8 5 8 g5 (by decide) rfl (by decide) rfl) (va_cwS 2 hts (lw_S q243 q244 q137 q245) rfl rfl rfl cdX1_copy.2 ⟨Nat.le_of_ble_eq_true rfl, Nat.le_of_ble_eq_true rfl⟩) hK hP hl.1 rfl rfl (Nat.le_of_ble_eq_true rfl) dX1_be_30 ⟨Nat.zero_le _, Nat.zero_le _⟩) hS hD.2 (fun H locs hP hS => ?_)
  refine lv_aload_n hx hb dX1_be_33 rfl (lv_at hl 1 rfl) ?_
  refine xr_get hx hb hts in_X1 hown hK hP 2 (by decide) rfl rfl 3 (by decide) (hts _ q198) (fun _ h => h) rfl (v := .ref (E 17)) rfl dX1_be_34 ?_
  refine lv_aload_n hx hb dX1_be_37 rfl (lv_at hl 0 rfl) ?_
  refine xr_get hx hb hts in_X1 hown hK hP 1 (by decide) rfl rfl 3 (by decide) (hts _ q198) (fun _ h => h) rfl (v := .ref (E 6)) rfl dX1_be_38 ?_
  obtain ⟨q8, g7, hf⟩ := ob_bind hf
  refine xc_v (xj_runS (As := [.ref (E 17), .ref (E 6)]) (rest := []) hJ hJs hS ⟨hx, hb, hml, hown, hts⟩ (wkX1_copy l D dA E hE T J hJ q6 17 8 6 8 g7 (by decide) rfl (by decide) rfl) (va_cwS 2 hts (lw_S q243 q244 q137 q245) rfl rfl rfl cdX1_copy.2 ⟨Nat.le_of_ble_eq_true rfl, Nat.le_of_ble_eq_true rfl⟩) hK hP hl.1 rfl rfl (Nat.le_of_ble_eq_true rfl) dX1_be_41 ⟨Nat.zero_le _, Nat.zero_le _⟩) hS hD.2 (fun H locs hP hS => ?_)
  refine lv_aload_n hx hb dX1_be_44 rfl (lv_at hl 1 rfl) ?_
  refine xr_get hx hb hts in_X1 hown hK hP 2 (by decide) rfl rfl 4 (by decide) (hts _ q200) (fun _ h => h) rfl (v := .ref (E 18)) rfl dX1_be_45 ?_
  refine lv_aload_n hx hb dX1_be_48 rfl (lv_at hl 0 rfl) ?_
  refine xr_get hx hb hts in_X1 hown hK hP 1 (by decide) rfl rfl 4 (by decide) (hts _ q200) (fun _ h => h) rfl (v := .ref (E 7)) rfl dX1_be_49 ?_
  obtain ⟨q10, g9, hf⟩ := ob_bind hf
  refine xc_v (xj_runS (As := [.ref (E 18), .ref (E 7)]) (rest := []) hJ hJs hS ⟨hx, hb, hml, hown, hts⟩ (wkX1_copy l D dA E hE T J hJ q8 18 8 7 8 g9 (by decide) rfl (by decide) rfl) (va_cwS 2 hts (lw_S q243 q244 q137 q245) rfl rfl rfl cdX1_copy.2 ⟨Nat.le_of_ble_eq_true rfl, Nat.le_of_ble_eq_true rfl⟩) hK hP hl.1 rfl rfl (Nat.le_of_ble_eq_true rfl) dX1_be_52 ⟨Nat.zero_le _, Nat.zero_le _⟩) hS hD.2 (fun H locs hP hS => ?_)
  refine lv_aload_n hx hb dX1_be_55 rfl (lv_at hl 1 rfl) ?_
  refine xr_get hx hb hts in_X1 hown hK hP 2 (by decide) rfl rfl 5 (by decide) (hts _ q202) (fun _ h => h) rfl (v := .ref (E 19)) rfl dX1_be_56 ?_
  refine lv_aload_n hx hb dX1_be_59 rfl (lv_at hl 0 rfl) ?_
  refine xr_get hx hb hts in_X1 hown hK hP 1 (by decide) rfl rfl 5 (by decide) (hts _ q202) (fun _ h => h) rfl (v := .ref (E 8)) rfl dX1_be_60 ?_
  obtain ⟨q12, g11, hf⟩ := ob_bind hf
  refine xc_v (xj_runS (As := [.ref (E 19), .ref (E 8)]) (rest := []) hJ hJs hS ⟨hx, hb, hml, hown, hts⟩ (wkX1_copy l D dA E hE T J hJ q10 19 4 8 4 g11 (by decide) rfl (by decide) rfl) (va_cwS 2 hts (lw_S q243 q244 q137 q245) rfl rfl rfl cdX1_copy.2 ⟨Nat.le_of_ble_eq_true rfl, Nat.le_of_ble_eq_true rfl⟩) hK hP hl.1 rfl rfl (Nat.le_of_ble_eq_true rfl) dX1_be_63 ⟨Nat.zero_le _, Nat.zero_le _⟩) hS hD.2 (fun H locs hP hS => ?_)
  refine lv_aload_n hx hb dX1_be_66 rfl (lv_at hl 1 rfl) ?_
  refine xr_get hx hb hts in_X1 hown hK hP 2 (by decide) rfl rfl 6 (by decide) (hts _ q204) (fun _ h => h) rfl (v := .ref (E 20)) rfl dX1_be_67 ?_
  refine lv_aload_n hx hb dX1_be_70 rfl (lv_at hl 0 rfl) ?_
  refine xr_get hx hb hts in_X1 hown hK hP 1 (by decide) rfl rfl 6 (by decide) (hts _ q204) (fun _ h => h) rfl (v := .ref (E 9)) rfl dX1_be_71 ?_
  obtain ⟨q14, g13, hf⟩ := ob_bind hf
  refine xc_v (xj_runS (As := [.ref (E 20), .ref (E 9)]) (rest := []) hJ hJs hS ⟨hx, hb, hml, hown, hts⟩ (wkX1_copy l D dA E hE T J hJ q12 20 6 9 6 g13 (by decide) rfl (by decide) rfl) (va_cwS 2 hts (lw_S q243 q244 q137 q245) rfl rfl rfl cdX1_copy.2 ⟨Nat.le_of_ble_eq_true rfl, Nat.le_of_ble_eq_true rfl⟩) hK hP hl.1 rfl rfl (Nat.le_of_ble_eq_true rfl) dX1_be_74 ⟨Nat.zero_le _, Nat.zero_le _⟩) hS hD.2 (fun H locs hP hS => ?_)
  refine lv_aload_n hx hb dX1_be_77 rfl (lv_at hl 1 rfl) ?_
  refine xr_get hx hb hts in_X1 hown hK hP 2 (by decide) rfl rfl 7 (by decide) (hts _ q206) (fun _ h => h) rfl (v := .ref (E 21)) rfl dX1_be_78 ?_
  refine lv_aload_n hx hb dX1_be_81 rfl (lv_at hl 0 rfl) ?_
  refine xr_get hx hb hts in_X1 hown hK hP 1 (by decide) rfl rfl 7 (by decide) (hts _ q206) (fun _ h => h) rfl (v := .ref (E 10)) rfl dX1_be_82 ?_
  obtain ⟨q16, g15, hf⟩ := ob_bind hf
  refine xc_v (xj_runS (As := [.ref (E 21), .ref (E 10)]) (rest := []) hJ hJs hS ⟨hx, hb, hml, hown, hts⟩ (wkX1_copy_2_21_10 l D dA E hE T J hJ q14 g15) (va_cwS 2 hts (lw_S q249 q250 q137 q251) rfl rfl rfl cdX1_copy_2.2 ⟨Nat.le_of_ble_eq_true rfl, Nat.le_of_ble_eq_true rfl⟩) hK hP hl.1 rfl rfl (Nat.le_of_ble_eq_true rfl) dX1_be_85 ⟨Nat.zero_le _, Nat.zero_le _⟩) hS hD.2 (fun H locs hP hS => ?_)
  refine lv_aload_n hx hb dX1_be_88 rfl (lv_at hl 1 rfl) ?_
  refine xr_get hx hb hts in_X1 hown hK hP 2 (by decide) rfl rfl 8 (by decide) (hts _ q208) (fun _ h => h) rfl (v := .ref (E 22)) rfl dX1_be_89 ?_
  refine lv_aload_n hx hb dX1_be_92 rfl (lv_at hl 0 rfl) ?_
  refine xr_get hx hb hts in_X1 hown hK hP 1 (by decide) rfl rfl 8 (by decide) (hts _ q208) (fun _ h => h) rfl (v := .ref (E 11)) rfl dX1_be_93 ?_
  obtain ⟨q18, g17, hf⟩ := ob_bind hf
  refine xc_v (xj_runS (As := [.ref (E 22), .ref (E 11)]) (rest := []) hJ hJs hS ⟨hx, hb, hml, hown, hts⟩ (wkX1_copy_2_22_11 l D dA E hE T J hJ q16 g17) (va_cwS 2 hts (lw_S q249 q250 q137 q251) rfl rfl rfl cdX1_copy_2.2 ⟨Nat.le_of_ble_eq_true rfl, Nat.le_of_ble_eq_true rfl⟩) hK hP hl.1 rfl rfl (Nat.le_of_ble_eq_true rfl) dX1_be_96 ⟨Nat.zero_le _, Nat.zero_le _⟩) hS hD.2 (fun H locs hP hS => ?_)
  refine lv_aload_n hx hb dX1_be_99 rfl (lv_at hl 1 rfl) ?_
  refine xr_get hx hb hts in_X1 hown hK hP 2 (by decide) rfl rfl 9 (by decide) (hts _ q210) (fun _ h => h) rfl (v := .ref (E 23)) rfl dX1_be_100 ?_
  refine lv_aload_n hx hb dX1_be_103 rfl (lv_at hl 0 rfl) ?_
  refine xr_get hx hb hts in_X1 hown hK hP 1 (by decide) rfl rfl 9 (by decide) (hts _ q210) (fun _ h => h) rfl (v := .ref (E 12)) rfl dX1_be_104 ?_
  obtain ⟨q20, g19, hf⟩ := ob_bind hf
  refine xc_v (xj_runS (As := [.ref (E 23), .ref (E 12)]) (rest := []) hJ hJs hS ⟨hx, hb, hml, hown, hts⟩ (wkX1_copy_2_23_12 l D dA E hE T J hJ q18 g19) (va_cwS 2 hts (lw_S q249 q250 q137 q251) rfl rfl rfl cdX1_copy_2.2 ⟨Nat.le_of_ble_eq_true rfl, Nat.le_of_ble_eq_true rfl⟩) hK hP hl.1 rfl rfl (Nat.le_of_ble_eq_true rfl) dX1_be_107 ⟨Nat.zero_le _, Nat.zero_le _⟩) hS hD.2 (fun H locs hP hS => ?_)
  refine lv_aload_n hx hb dX1_be_110 rfl (lv_at hl 1 rfl) ?_
  refine xr_get hx hb hts in_X1 hown hK hP 2 (by decide) rfl rfl 10 (by decide) (hts _ q212) (fun _ h => h) rfl (v := .ref (E 24)) rfl dX1_be_111 ?_
  refine lv_iconst (v := 0) hx hb dX1_be_114 (by decide) ?_
  refine lv_aload_n hx hb dX1_be_115 rfl (lv_at hl 0 rfl) ?_
  refine xr_get hx hb hts in_X1 hown hK hP 1 (by decide) rfl rfl 10 (by decide) (hts _ q212) (fun _ h => h) rfl (v := .ref (E 13)) rfl dX1_be_116 ?_
  refine lv_iconst (v := 0) hx hb dX1_be_119 (by decide) ?_
  refine lv_iconst (v := 4) hx hb dX1_be_120 (by decide) ?_
  obtain ⟨h22, hf⟩ := ob_gp hf
  obtain ⟨h23, hf⟩ := ob_gp hf
  obtain ⟨w21, ew21, hf⟩ := ob_bnd hf
  refine xr_tcopy hx hb (hml.trans hl.1.symm) hown (hts _ q246) (hts _ q248) (hts _ q247) (hts _ q139) hK hP hD hS (hJ.at hJs hS) hJ 24 13 (by decide) (by decide) rfl rfl (w' := w21) h22 h23 ew21 (Nat.le_of_ble_eq_true rfl) (Nat.le_of_ble_eq_true rfl) dX1_be_121 (fun H locs hP hS => ?_)
  obtain rfl := ob_s hf
  subst hQ
  exact xe_v hx hb hr hlocks hP hS dX1_be_124
abbrev rmX0_image : Room := { frames := 4, cells := 0, slots := 0, locals := 124 }
theorem cdX0_image : yX0_image.cls = RX0 ∧ yX0_image.cls ≠ "java/lang/invoke/MethodHandle" ∧ yX0_image.cls ≠ "java/lang/invoke/VarHandle" ∧ (parseMethodDescriptor yX0_image.desc).map (fun d => d.parameters.length) = some 0 := by decide +kernel
set_option maxHeartbeats 4000000 in
set_option maxRecDepth 100000 in
theorem wkX0_image (l : Launch) (D : va_G) (dA : Nat → ClassId) (E : Nat → Nat) (hE : wInj 136 E) (T : Tx) (J : State → Heap → Prop) (hJ : JP D dA E T J) (w : Mm)  {res : Int32 × Mm} (hf : X_image T w = some res) : Met l yX0_image (ws_ yX0_image cX0_image 1 (some .int)) rmX0_image (Pj D dA E J [.ref (E 0)] w) (Qwi D clX shX 136 dA E res.1 res.2) 0 0 (AE 136 E) := by
  refine xj_head (own := RX0) (by decide) rfl (Nat.le_of_ble_eq_true rfl) ?_
  intro p e s m args below meth c ls Q hQ C hP hl
  obtain ⟨hx, hb, hr, hlocks, hml, hown, hts, hK, hJs⟩ := C
  replace hl : lv_has ls 1 [(0, .ref (E 0))] := hl
  have hS : va_S (AE 136 E) s.heap s.heap [] := va_S.rf
  have hD : wD 136 E (AE 136 E) := wD.self hE
  unfold X_image at hf
  obtain ⟨H, eH⟩ : ∃ H, H = s.heap := ⟨_, rfl⟩
  obtain ⟨locs, eL⟩ : ∃ locs : List Loc, locs = [] := ⟨_, rfl⟩
  rw [← eL] at hS ⊢
  rw [← eH] at hP
  have hS : va_S (AE 136 E) s.heap H locs := by rw [eH]; exact hS
  show W p l e rmX0_image s m args below meth c s.heap locs 0 0 Q (F0 m 0 ls [])
  rw [← eH]
  refine lv_aload_n hx hb dX0_image_0 rfl (lv_at hl 0 rfl) ?_
  refine xr_get hx hb hts in_X0 hown hK hP 0 (by decide) rfl rfl 1 (by decide) (hts _ q253) (fun _ h => h) rfl (v := .ref (E 2)) rfl dX0_image_1 ?_
  refine lv_aload_n hx hb dX0_image_4 rfl (lv_at hl 0 rfl) ?_
  refine xr_get hx hb hts in_X0 hown hK hP 0 (by decide) rfl rfl 0 (by decide) (hts _ q252) (fun _ h => h) rfl (v := .ref (E 1)) rfl dX0_image_5 ?_
  obtain ⟨q2, g1, hf⟩ := ob_bind hf
  refine xc_v (xj_run (As := [.ref (E 1)]) (rest := []) hJ hJs hS ⟨hx, hb, hml, hown, hts⟩ (k0 := 2) (wkX1_be_i l D dA E hE T J hJ w g1) (cwV 1 hts (lw_V q239 q240 q241 q137 q242) rfl rfl rfl cdX1_be ⟨Nat.le_of_ble_eq_true rfl, Nat.le_of_ble_eq_true rfl⟩) hK hP (by decide) rfl rfl rfl hl.1 rfl rfl (Nat.le_of_ble_eq_true rfl) dX0_image_8 ⟨Nat.zero_le _, Nat.zero_le _⟩) hS hD.2 (fun H locs hP hS => ?_)
  refine lv_aload_n hx hb dX0_image_11 rfl (lv_at hl 0 rfl) ?_
  refine xr_get hx hb hts in_X0 hown hK hP 0 (by decide) rfl rfl 0 (by decide) (hts _ q252) (fun _ h => h) rfl (v := .ref (E 1)) rfl dX0_image_12 ?_
  refine xr_getN (host := "QuarrelsPawned") hx hb hts in_X1 hown hK hP 1 (by decide) rfl rfl 1 (by decide) (hJ.nest hJs 1 rfl) (fun _ h => h) rfl (v := .ref (E 4)) rfl dX0_image_15 ?_
  refine lv_iconst (v := 0) hx hb dX0_image_18 (by decide) ?_
  refine xr_iald hx hb hK hP 4 (by decide) rfl 0 rfl (j := 0) (vin_c (by decide)) (by decide) dX0_image_19 ?_
  obtain rfl := ob_s hf
  subst hQ
  exact xe_i hx hb hr hlocks hP hS dX0_image_20
abbrev rmX0_back : Room := { frames := 4, cells := 0, slots := 0, locals := 124 }
theorem cdX0_back : yX0_back.cls = RX0 ∧ yX0_back.cls ≠ "java/lang/invoke/MethodHandle" ∧ yX0_back.cls ≠ "java/lang/invoke/VarHandle" ∧ (parseMethodDescriptor yX0_back.desc).map (fun d => d.parameters.length) = some 0 := by decide +kernel
set_option maxHeartbeats 4000000 in
set_option maxRecDepth 100000 in
theorem wkX0_back (l : Launch) (D : va_G) (dA : Nat → ClassId) (E : Nat → Nat) (hE : wInj 136 E) (T : Tx) (J : State → Heap → Prop) (hJ : JP D dA E T J) (w : Mm)  {res : Int32 × Mm} (hf : X_back T w = some res) : Met l yX0_back (ws_ yX0_back cX0_back 1 (some .int)) rmX0_back (Pj D dA E J [.ref (E 0)] w) (Qwi D clX shX 136 dA E res.1 res.2) 0 0 (AE 136 E) := by
  refine xj_head (own := RX0) (by decide) rfl (Nat.le_of_ble_eq_true rfl) ?_
  intro p e s m args below meth c ls Q hQ C hP hl
  obtain ⟨hx, hb, hr, hlocks, hml, hown, hts, hK, hJs⟩ := C
  replace hl : lv_has ls 1 [(0, .ref (E 0))] := hl
  have hS : va_S (AE 136 E) s.heap s.heap [] := va_S.rf
  have hD : wD 136 E (AE 136 E) := wD.self hE
  unfold X_back at hf
  obtain ⟨H, eH⟩ : ∃ H, H = s.heap := ⟨_, rfl⟩
  obtain ⟨locs, eL⟩ : ∃ locs : List Loc, locs = [] := ⟨_, rfl⟩
  rw [← eL] at hS ⊢
  rw [← eH] at hP
  have hS : va_S (AE 136 E) s.heap H locs := by rw [eH]; exact hS
  show W p l e rmX0_back s m args below meth c s.heap locs 0 0 Q (F0 m 0 ls [])
  rw [← eH]
  refine lv_aload_n hx hb dX0_back_0 rfl (lv_at hl 0 rfl) ?_
  refine xr_get hx hb hts in_X0 hown hK hP 0 (by decide) rfl rfl 0 (by decide) (hts _ q252) (fun _ h => h) rfl (v := .ref (E 1)) rfl dX0_back_1 ?_
  refine lv_aload_n hx hb dX0_back_4 rfl (lv_at hl 0 rfl) ?_
  refine xr_get hx hb hts in_X0 hown hK hP 0 (by decide) rfl rfl 1 (by decide) (hts _ q253) (fun _ h => h) rfl (v := .ref (E 2)) rfl dX0_back_5 ?_
  obtain ⟨q2, g1, hf⟩ := ob_bind hf
  refine xc_v (xj_run (As := [.ref (E 2)]) (rest := []) hJ hJs hS ⟨hx, hb, hml, hown, hts⟩ (k0 := 1) (wkX1_be_b l D dA E hE T J hJ w g1) (cwV 1 hts (lw_V q239 q240 q241 q137 q242) rfl rfl rfl cdX1_be ⟨Nat.le_of_ble_eq_true rfl, Nat.le_of_ble_eq_true rfl⟩) hK hP (by decide) rfl rfl rfl hl.1 rfl rfl (Nat.le_of_ble_eq_true rfl) dX0_back_8 ⟨Nat.zero_le _, Nat.zero_le _⟩) hS hD.2 (fun H locs hP hS => ?_)
  refine lv_aload_n hx hb dX0_back_11 rfl (lv_at hl 0 rfl) ?_
  refine xr_get hx hb hts in_X0 hown hK hP 0 (by decide) rfl rfl 0 (by decide) (hts _ q252) (fun _ h => h) rfl (v := .ref (E 1)) rfl dX0_back_12 ?_
  refine xr_getN (host := "QuarrelsPawned") hx hb hts in_X1 hown hK hP 1 (by decide) rfl rfl 1 (by decide) (hJ.nest hJs 1 rfl) (fun _ h => h) rfl (v := .ref (E 4)) rfl dX0_back_15 ?_
  refine lv_iconst (v := 0) hx hb dX0_back_18 (by decide) ?_
  refine xr_iald hx hb hK hP 4 (by decide) rfl 0 rfl (j := 0) (vin_c (by decide)) (by decide) dX0_back_19 ?_
  obtain rfl := ob_s hf
  subst hQ
  exact xe_i hx hb hr hlocks hP hS dX0_back_20
abbrev rmX0_about : Room := { frames := 1, cells := 0, slots := 0, locals := 20 }
theorem cdX0_about : yX0_about.cls = RX0 ∧ yX0_about.cls ≠ "java/lang/invoke/MethodHandle" ∧ yX0_about.cls ≠ "java/lang/invoke/VarHandle" ∧ (parseMethodDescriptor yX0_about.desc).map (fun d => d.parameters.length) = some 1 := by decide +kernel
set_option maxHeartbeats 4000000 in
set_option maxRecDepth 100000 in
theorem wkX0_about (l : Launch) (D : va_G) (dA : Nat → ClassId) (E : Nat → Nat) (hE : wInj 136 E) (T : Tx) (J : State → Heap → Prop) (hJ : JP D dA E T J) (w : Mm) (a1 : Int32) {res : Int32} (hf : X_about w a1 = some res) : Met l yX0_about (ws_ yX0_about cX0_about 2 (some .int)) rmX0_about (Pj D dA E J [.ref (E 0), .int a1] w) (Qwi D clX shX 136 dA E res w) 0 0 (AE 136 E) := by
  refine xj_head (own := RX0) (by decide) rfl (Nat.le_of_ble_eq_true rfl) ?_
  intro p e s m args below meth c ls Q hQ C hP hl
  obtain ⟨hx, hb, hr, hlocks, hml, hown, hts, hK, hJs⟩ := C
  replace hl : lv_has ls 2 [(0, .ref (E 0)), (1, .int a1)] := hl
  have hS : va_S (AE 136 E) s.heap s.heap [] := va_S.rf
  have hD : wD 136 E (AE 136 E) := wD.self hE
  unfold X_about at hf
  obtain ⟨H, eH⟩ : ∃ H, H = s.heap := ⟨_, rfl⟩
  obtain ⟨locs, eL⟩ : ∃ locs : List Loc, locs = [] := ⟨_, rfl⟩
  rw [← eL] at hS ⊢
  rw [← eH] at hP
  have hS : va_S (AE 136 E) s.heap H locs := by rw [eH]; exact hS
  show W p l e rmX0_about s m args below meth c s.heap locs 0 0 Q (F0 m 0 ls [])
  rw [← eH]
  refine lv_iload_n hx hb dX0_about_0 rfl (lv_at hl 1 rfl) ?_
  by_cases c1 : a1 = 0
  · replace hf := ob_t hf c1
    refine lv_tableIn (tgt := 48) (off := 47) hx hb dX0_about_1 (by rw [c1]; decide) (by rw [c1]; decide) (by rw [c1]; rfl) (by decide) ?_
    refine lv_aload_n hx hb dX0_about_48 rfl (lv_at hl 0 rfl) ?_
    obtain ⟨q3, g2, hf⟩ := ob_bind hf
    refine xc_i (xj_run (As := []) (rest := []) hJ hJs hS ⟨hx, hb, hml, hown, hts⟩ (k0 := 0) (wkX0_quarrels l D dA E hE T J hJ w g2) (cwV 0 hts (lw_V q309 q311 qs0 q136 q312) rfl rfl rfl cdX0_quarrels ⟨Nat.le_of_ble_eq_true rfl, Nat.le_of_ble_eq_true rfl⟩) hK hP (by decide) rfl rfl rfl hl.1 rfl rfl (Nat.le_of_ble_eq_true rfl) dX0_about_49 ⟨Nat.zero_le _, Nat.zero_le _⟩) hS hD.2 (fun H locs hP hS => ?_)
    obtain rfl := ob_s hf
    subst hQ
    exact xe_i hx hb hr hlocks hP hS dX0_about_52
  · replace hf := ob_f hf c1
    by_cases c4 : a1 = 1
    · replace hf := ob_t hf c4
      refine lv_tableIn (tgt := 53) (off := 52) hx hb dX0_about_1 (by rw [c4]; decide) (by rw [c4]; decide) (by rw [c4]; rfl) (by decide) ?_
      refine lv_aload_n hx hb dX0_about_53 rfl (lv_at hl 0 rfl) ?_
      refine xr_get hx hb hts in_X0 hown hK hP 0 (by decide) rfl rfl 0 (by decide) (hts _ q252) (fun _ h => h) rfl (v := .ref (E 1)) rfl dX0_about_54 ?_
      refine xr_getN (host := "QuarrelsPawned") hx hb hts in_X1 hown hK hP 1 (by decide) rfl rfl 0 (by decide) (hJ.nest hJs 0 rfl) (fun _ h => h) rfl (v := .ref (E 3)) rfl dX0_about_57 ?_
      refine lv_iconst (v := 1) hx hb dX0_about_60 (by decide) ?_
      refine xr_iald hx hb hK hP 3 (by decide) rfl 0 rfl (j := 1) (vin_c (by decide)) (by decide) dX0_about_61 ?_
      obtain rfl := ob_s hf
      subst hQ
      exact xe_i hx hb hr hlocks hP hS dX0_about_62
    · replace hf := ob_f hf c4
      by_cases c5 : a1 = 2
      · replace hf := ob_t hf c5
        refine lv_tableIn (tgt := 63) (off := 62) hx hb dX0_about_1 (by rw [c5]; decide) (by rw [c5]; decide) (by rw [c5]; rfl) (by decide) ?_
        refine lv_aload_n hx hb dX0_about_63 rfl (lv_at hl 0 rfl) ?_
        refine xr_get hx hb hts in_X0 hown hK hP 0 (by decide) rfl rfl 0 (by decide) (hts _ q252) (fun _ h => h) rfl (v := .ref (E 1)) rfl dX0_about_64 ?_
        refine xr_getN (host := "QuarrelsPawned") hx hb hts in_X1 hown hK hP 1 (by decide) rfl rfl 0 (by decide) (hJ.nest hJs 0 rfl) (fun _ h => h) rfl (v := .ref (E 3)) rfl dX0_about_67 ?_
        refine lv_iconst (v := 2) hx hb dX0_about_70 (by decide) ?_
        refine xr_iald hx hb hK hP 3 (by decide) rfl 0 rfl (j := 2) (vin_c (by decide)) (by decide) dX0_about_71 ?_
        obtain rfl := ob_s hf
        subst hQ
        exact xe_i hx hb hr hlocks hP hS dX0_about_72
      · replace hf := ob_f hf c5
        by_cases c6 : a1 = 3
        · replace hf := ob_t hf c6
          refine lv_tableIn (tgt := 73) (off := 72) hx hb dX0_about_1 (by rw [c6]; decide) (by rw [c6]; decide) (by rw [c6]; rfl) (by decide) ?_
          refine lv_aload_n hx hb dX0_about_73 rfl (lv_at hl 0 rfl) ?_
          refine xr_get hx hb hts in_X0 hown hK hP 0 (by decide) rfl rfl 0 (by decide) (hts _ q252) (fun _ h => h) rfl (v := .ref (E 1)) rfl dX0_about_74 ?_
          refine xr_getN (host := "QuarrelsPawned") hx hb hts in_X1 hown hK hP 1 (by decide) rfl rfl 0 (by decide) (hJ.nest hJs 0 rfl) (fun _ h => h) rfl (v := .ref (E 3)) rfl dX0_about_77 ?_
          refine lv_iconst (v := 3) hx hb dX0_about_80 (by decide) ?_
          refine xr_iald hx hb hK hP 3 (by decide) rfl 0 rfl (j := 3) (vin_c (by decide)) (by decide) dX0_about_81 ?_
          obtain rfl := ob_s hf
          subst hQ
          exact xe_i hx hb hr hlocks hP hS dX0_about_82
        · replace hf := ob_f hf c6
          by_cases c7 : a1 = 4
          · replace hf := ob_t hf c7
            refine lv_tableIn (tgt := 83) (off := 82) hx hb dX0_about_1 (by rw [c7]; decide) (by rw [c7]; decide) (by rw [c7]; rfl) (by decide) ?_
            refine lv_aload_n hx hb dX0_about_83 rfl (lv_at hl 0 rfl) ?_
            refine xr_get hx hb hts in_X0 hown hK hP 0 (by decide) rfl rfl 0 (by decide) (hts _ q252) (fun _ h => h) rfl (v := .ref (E 1)) rfl dX0_about_84 ?_
            refine xr_getN (host := "QuarrelsPawned") hx hb hts in_X1 hown hK hP 1 (by decide) rfl rfl 0 (by decide) (hJ.nest hJs 0 rfl) (fun _ h => h) rfl (v := .ref (E 3)) rfl dX0_about_87 ?_
            refine lv_iconst (v := 4) hx hb dX0_about_90 (by decide) ?_
            refine xr_iald hx hb hK hP 3 (by decide) rfl 0 rfl (j := 4) (vin_c (by decide)) (by decide) dX0_about_91 ?_
            obtain rfl := ob_s hf
            subst hQ
            exact xe_i hx hb hr hlocks hP hS dX0_about_92
          · replace hf := ob_f hf c7
            by_cases c8 : a1 = 5
            · replace hf := ob_t hf c8
              refine lv_tableIn (tgt := 93) (off := 92) hx hb dX0_about_1 (by rw [c8]; decide) (by rw [c8]; decide) (by rw [c8]; rfl) (by decide) ?_
              refine lv_aload_n hx hb dX0_about_93 rfl (lv_at hl 0 rfl) ?_
              refine xr_get hx hb hts in_X0 hown hK hP 0 (by decide) rfl rfl 0 (by decide) (hts _ q252) (fun _ h => h) rfl (v := .ref (E 1)) rfl dX0_about_94 ?_
              refine xr_getN (host := "QuarrelsPawned") hx hb hts in_X1 hown hK hP 1 (by decide) rfl rfl 0 (by decide) (hJ.nest hJs 0 rfl) (fun _ h => h) rfl (v := .ref (E 3)) rfl dX0_about_97 ?_
              refine lv_iconst (v := 5) hx hb dX0_about_100 (by decide) ?_
              refine xr_iald hx hb hK hP 3 (by decide) rfl 0 rfl (j := 5) (vin_c (by decide)) (by decide) dX0_about_101 ?_
              obtain rfl := ob_s hf
              subst hQ
              exact xe_i hx hb hr hlocks hP hS dX0_about_102
            · replace hf := ob_f hf c8
              by_cases c9 : a1 = 6
              · replace hf := ob_t hf c9
                refine lv_tableIn (tgt := 103) (off := 102) hx hb dX0_about_1 (by rw [c9]; decide) (by rw [c9]; decide) (by rw [c9]; rfl) (by decide) ?_
                refine lv_aload_n hx hb dX0_about_103 rfl (lv_at hl 0 rfl) ?_
                refine xr_get hx hb hts in_X0 hown hK hP 0 (by decide) rfl rfl 0 (by decide) (hts _ q252) (fun _ h => h) rfl (v := .ref (E 1)) rfl dX0_about_104 ?_
                refine xr_getN (host := "QuarrelsPawned") hx hb hts in_X1 hown hK hP 1 (by decide) rfl rfl 0 (by decide) (hJ.nest hJs 0 rfl) (fun _ h => h) rfl (v := .ref (E 3)) rfl dX0_about_107 ?_
                refine lv_bipush (v := 6) hx hb dX0_about_110 (by decide) ?_
                refine xr_iald hx hb hK hP 3 (by decide) rfl 0 rfl (j := 6) (vin_c (by decide)) (by decide) dX0_about_112 ?_
                obtain rfl := ob_s hf
                subst hQ
                exact xe_i hx hb hr hlocks hP hS dX0_about_113
              · replace hf := ob_f hf c9
                by_cases c10 : a1 = 7
                · replace hf := ob_t hf c10
                  refine lv_tableIn (tgt := 114) (off := 113) hx hb dX0_about_1 (by rw [c10]; decide) (by rw [c10]; decide) (by rw [c10]; rfl) (by decide) ?_
                  refine lv_aload_n hx hb dX0_about_114 rfl (lv_at hl 0 rfl) ?_
                  refine xr_get hx hb hts in_X0 hown hK hP 0 (by decide) rfl rfl 3 (by decide) (hts _ q255) (fun _ h => h) rfl (v := .int (w.1 0 3)) rfl dX0_about_115 ?_
                  obtain rfl := ob_s hf
                  subst hQ
                  exact xe_i hx hb hr hlocks hP hS dX0_about_118
                · replace hf := ob_f hf c10
                  refine xr_tswD (tgt := 119) (vs := [0, 1, 2, 3, 4, 5, 6, 7]) hx hb dX0_about_1 (List.forall_mem_cons.mpr ⟨c1, List.forall_mem_cons.mpr ⟨c4, List.forall_mem_cons.mpr ⟨c5, List.forall_mem_cons.mpr ⟨c6, List.forall_mem_cons.mpr ⟨c7, List.forall_mem_cons.mpr ⟨c8, List.forall_mem_cons.mpr ⟨c9, List.forall_mem_cons.mpr ⟨c10, fun _ h => absurd h List.not_mem_nil⟩⟩⟩⟩⟩⟩⟩⟩) (by decide +kernel) (by decide) ?_
                  refine lv_bipush (v := (-2)) hx hb dX0_about_119 (by decide) ?_
                  obtain rfl := ob_s hf
                  subst hQ
                  exact xe_i hx hb hr hlocks hP hS dX0_about_121
