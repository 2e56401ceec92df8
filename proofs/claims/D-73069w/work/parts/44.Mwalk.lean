/-! QuarrelsPawnedModel: its methods walked (printed by gen.py) -/
abbrev rmX2_held : Room := { frames := 0, cells := 0, slots := 0, locals := 0 }
theorem cdX2_held : yX2_held.cls = RX2 ∧ yX2_held.cls ≠ "java/lang/invoke/MethodHandle" ∧ yX2_held.cls ≠ "java/lang/invoke/VarHandle" ∧ (parseMethodDescriptor yX2_held.desc).map (fun d => d.parameters.length) = some 3 := by decide +kernel
set_option maxHeartbeats 4000000 in
set_option maxRecDepth 100000 in
theorem wkX2_held (l : Launch) (D : va_G) (dA : Nat → ClassId) (E : Nat → Nat) (hE : wInj 19 E) (w : Mm) (a0 : Int64) (a2 : Int32) (a3 : Int32) {res : Int32} (hf : M_held a0 a2 a3 = some res) : Met l yX2_held (ws_ yX2_held cX2_held 4 (some .int)) rmX2_held (Pw D clM (tyM dA) shM 19 dA E [.long a0, .int a2, .int a3] w) (Qwi D clM shM 19 dA E res w) 0 0 (AE 19 E) := by
  refine xm_head (own := RX2) (by decide) rfl (Nat.le_of_ble_eq_true rfl) ?_
  intro p e s m args below meth c ls Q hQ C hP hl
  obtain ⟨hx, hb, hr, hlocks, hml, hown, hts, hK⟩ := C
  replace hl : lv_has ls 4 [(0, .long a0), (2, .int a2), (3, .int a3)] := hl
  have hS : va_S (AE 19 E) s.heap s.heap [] := va_S.rf
  have hD : wD 19 E (AE 19 E) := wD.self hE
  unfold M_held at hf
  obtain ⟨H, eH⟩ : ∃ H, H = s.heap := ⟨_, rfl⟩
  obtain ⟨locs, eL⟩ : ∃ locs : List Loc, locs = [] := ⟨_, rfl⟩
  rw [← eL] at hS ⊢
  rw [← eH] at hP
  have hS : va_S (AE 19 E) s.heap H locs := by rw [eH]; exact hS
  show W p l e rmX2_held s m args below meth c s.heap locs 0 0 Q (F0 m 0 ls [])
  rw [← eH]
  refine lv_lload_n hx hb dX2_held_0 rfl (lv_at hl 0 rfl) ?_
  refine lv_iload_n hx hb dX2_held_1 rfl (lv_at hl 1 rfl) ?_
  refine lv_i2l hx hb dX2_held_2 rfl ?_
  refine W.lcmp hx hb dX2_held_3 ?_
  refine lv_if_ge (tgt := 11) hx hb dX2_held_4 (by decide) (fun c1 => ?_) (fun c1 => ?_)
  · replace hf := ob_t hf c1
    refine lv_lload_n hx hb dX2_held_11 rfl (lv_at hl 0 rfl) ?_
    refine lv_iload_n hx hb dX2_held_12 rfl (lv_at hl 2 rfl) ?_
    refine lv_i2l hx hb dX2_held_13 rfl ?_
    refine W.lcmp hx hb dX2_held_14 ?_
    refine lv_if_le (tgt := 22) hx hb dX2_held_15 (by decide) (fun c2 => ?_) (fun c2 => ?_)
    · replace hf := ob_t hf c2
      refine lv_lload_n hx hb dX2_held_22 rfl (lv_at hl 0 rfl) ?_
      refine lv_l2i hx hb dX2_held_23 rfl ?_
      obtain rfl := ob_s hf
      subst hQ
      exact xe_i hx hb hr hlocks hP hS dX2_held_24
    · replace hf := ob_f hf c2
      refine lv_iload_n hx hb dX2_held_18 rfl (lv_at hl 2 rfl) ?_
      refine lv_goto (tgt := 24) hx hb dX2_held_19 (by decide) ?_
      obtain rfl := ob_s hf
      subst hQ
      exact xe_i hx hb hr hlocks hP hS dX2_held_24
  · replace hf := ob_f hf c1
    refine lv_iload_n hx hb dX2_held_7 rfl (lv_at hl 1 rfl) ?_
    refine lv_goto (tgt := 24) hx hb dX2_held_8 (by decide) ?_
    obtain rfl := ob_s hf
    subst hQ
    exact xe_i hx hb hr hlocks hP hS dX2_held_24
abbrev rmX2_write : Room := { frames := 0, cells := 0, slots := 0, locals := 0 }
theorem cdX2_write : yX2_write.cls = RX2 ∧ yX2_write.cls ≠ "java/lang/invoke/MethodHandle" ∧ yX2_write.cls ≠ "java/lang/invoke/VarHandle" ∧ (parseMethodDescriptor yX2_write.desc).map (fun d => d.parameters.length) = some 2 := by decide +kernel
set_option maxHeartbeats 4000000 in
set_option maxRecDepth 100000 in
theorem wkX2_write (l : Launch) (D : va_G) (dA : Nat → ClassId) (E : Nat → Nat) (hE : wInj 19 E) (w : Mm) (a1 : Int32) (a2 : Int32) {res : Mm} (hf : M_write w a1 a2 = some res) : Met l yX2_write (ws_ yX2_write cX2_write 4 (none)) rmX2_write (Pw D clM (tyM dA) shM 19 dA E [.ref (E 0), .int a1, .int a2] w) (Qwv D clM shM 19 dA E res) 0 0 (AE 19 E) := by
  refine xm_head (own := RX2) (by decide) rfl (Nat.le_of_ble_eq_true rfl) ?_
  intro p e s m args below meth c ls Q hQ C hP hl
  obtain ⟨hx, hb, hr, hlocks, hml, hown, hts, hK⟩ := C
  replace hl : lv_has ls 4 [(0, .ref (E 0)), (1, .int a1), (2, .int a2)] := hl
  have hS : va_S (AE 19 E) s.heap s.heap [] := va_S.rf
  have hD : wD 19 E (AE 19 E) := wD.self hE
  unfold M_write at hf
  obtain ⟨H, eH⟩ : ∃ H, H = s.heap := ⟨_, rfl⟩
  obtain ⟨locs, eL⟩ : ∃ locs : List Loc, locs = [] := ⟨_, rfl⟩
  rw [← eL] at hS ⊢
  rw [← eH] at hP
  have hS : va_S (AE 19 E) s.heap H locs := by rw [eH]; exact hS
  show W p l e rmX2_write s m args below meth c s.heap locs 0 0 Q (F0 m 0 ls [])
  rw [← eH]
  refine lv_aload_n hx hb dX2_write_0 rfl (lv_at hl 0 rfl) ?_
  refine xr_get hx hb hts in_X2 hown hK hP 0 (by decide) rfl rfl 23 (by decide) (hts _ q1428) (fun _ h => h) rfl (v := .int (w.1 0 23)) rfl dX2_write_1 ?_
  refine lv_if_ne (tgt := 8) hx hb dX2_write_4 (by decide) (fun c1 => ?_) (fun c1 => ?_)
  · replace hf := ob_f hf c1
    refine lv_aload_n hx hb dX2_write_8 rfl (lv_at hl 0 rfl) ?_
    refine xr_get hx hb hts in_X2 hown hK hP 0 (by decide) rfl rfl 0 (by decide) (hts _ q1405) (fun _ h => h) rfl (v := .ref (E 1)) rfl dX2_write_9 ?_
    refine lv_bipush (v := 11) hx hb dX2_write_12 (by decide) ?_
    refine xr_iald hx hb hK hP 1 (by decide) rfl 0 rfl (j := 11) (vin_c (by decide)) (by decide) dX2_write_14 ?_
    refine lv_bipush (v := 30) hx hb dX2_write_15 (by decide) ?_
    have kj89 : ∀ (w2 : Mm) (H : Heap) (locs : List Loc) (ls : Array Slot), M_write_j89 w2 a1 a2 = some res → va_P D clM (wl shM 19 dA E w2) H → va_S (AE 19 E) s.heap H locs → lv_has ls 4 [(0, .ref (E 0)), (1, .int a1), (2, .int a2)] → W p l e rmX2_write s m args below meth c H locs 0 0 Q (F0 m 89 ls []) := by
      intro w2 H locs ls hf hP hS hl
      unfold M_write_j89 at hf
      refine lv_aload_n hx hb dX2_write_89 rfl (lv_at hl 0 rfl) ?_
      refine xr_get hx hb hts in_X2 hown hK hP 0 (by decide) rfl rfl 0 (by decide) (hts _ q1405) (fun _ h => h) rfl (v := .ref (E 1)) rfl dX2_write_90 ?_
      refine lv_sipush (v := 2815) hx hb dX2_write_93 (by decide) ?_
      refine lv_aload_n hx hb dX2_write_96 rfl (lv_at hl 0 rfl) ?_
      refine xr_get hx hb hts in_X2 hown hK hP 0 (by decide) rfl rfl 0 (by decide) (hts _ q1405) (fun _ h => h) rfl (v := .ref (E 1)) rfl dX2_write_97 ?_
      refine lv_bipush (v := 11) hx hb dX2_write_100 (by decide) ?_
      refine xr_iald hx hb hK hP 1 (by decide) rfl 0 rfl (j := 11) (vin_c (by decide)) (by decide) dX2_write_102 ?_
      refine lv_iadd hx hb dX2_write_103 ?_
      refine lv_aload_n hx hb dX2_write_104 rfl (lv_at hl 0 rfl) ?_
      refine xr_get hx hb hts in_X2 hown hK hP 0 (by decide) rfl rfl 0 (by decide) (hts _ q1405) (fun _ h => h) rfl (v := .ref (E 1)) rfl dX2_write_105 ?_
      refine lv_bipush (v := 7) hx hb dX2_write_108 (by decide) ?_
      refine xr_iald hx hb hK hP 1 (by decide) rfl 0 rfl (j := 7) (vin_c (by decide)) (by decide) dX2_write_110 ?_
      refine lv_bipush (v := 8) hx hb dX2_write_111 (by decide) ?_
      refine lv_imul hx hb dX2_write_113 ?_
      refine lv_iload_n hx hb dX2_write_114 rfl (lv_at hl 1 rfl) ?_
      refine lv_iadd hx hb dX2_write_115 ?_
      refine lv_iconst (v := 3) hx hb dX2_write_116 (by decide) ?_
      refine lv_imul hx hb dX2_write_117 ?_
      refine lv_iload_n hx hb dX2_write_118 rfl (lv_at hl 2 rfl) ?_
      refine lv_iadd hx hb dX2_write_119 ?_
      obtain ⟨h3, hf⟩ := ob_gd hf
      obtain ⟨w4, ew4, hf⟩ := ob_bnd hf
      refine xr_iast hx hb hK hP hD hS 1 (by decide) rfl 0 rfl (j := (2815 + (w2.1 1 11)).toNatClampNeg) (w' := w4) h3 rfl ew4 dX2_write_120 (fun H locs hP hS => ?_)
      refine lv_aload_n hx hb dX2_write_121 rfl (lv_at hl 0 rfl) ?_
      refine xr_get hx hb hts in_X2 hown hK hP 0 (by decide) rfl rfl 0 (by decide) (hts _ q1405) (fun _ h => h) rfl (v := .ref (E 1)) rfl dX2_write_122 ?_
      refine lv_sipush (v := 2845) hx hb dX2_write_125 (by decide) ?_
      refine lv_aload_n hx hb dX2_write_128 rfl (lv_at hl 0 rfl) ?_
      refine xr_get hx hb hts in_X2 hown hK hP 0 (by decide) rfl rfl 0 (by decide) (hts _ q1405) (fun _ h => h) rfl (v := .ref (E 1)) rfl dX2_write_129 ?_
      refine lv_bipush (v := 11) hx hb dX2_write_132 (by decide) ?_
      refine xr_iald hx hb hK hP 1 (by decide) rfl 0 rfl (j := 11) (vin_c (by decide)) (by decide) dX2_write_134 ?_
      refine lv_iadd hx hb dX2_write_135 ?_
      refine lv_aload_n hx hb dX2_write_136 rfl (lv_at hl 0 rfl) ?_
      refine xr_get hx hb hts in_X2 hown hK hP 0 (by decide) rfl rfl 0 (by decide) (hts _ q1405) (fun _ h => h) rfl (v := .ref (E 1)) rfl dX2_write_137 ?_
      refine lv_bipush (v := 9) hx hb dX2_write_140 (by decide) ?_
      refine xr_iald hx hb hK hP 1 (by decide) rfl 0 rfl (j := 9) (vin_c (by decide)) (by decide) dX2_write_142 ?_
      obtain ⟨h5, hf⟩ := ob_gd hf
      obtain ⟨w6, ew6, hf⟩ := ob_bnd hf
      refine xr_iast hx hb hK hP hD hS 1 (by decide) rfl 0 rfl (j := (2845 + (w4.1 1 11)).toNatClampNeg) (w' := w6) h5 rfl ew6 dX2_write_143 (fun H locs hP hS => ?_)
      refine lv_aload_n hx hb dX2_write_144 rfl (lv_at hl 0 rfl) ?_
      refine xr_get hx hb hts in_X2 hown hK hP 0 (by decide) rfl rfl 0 (by decide) (hts _ q1405) (fun _ h => h) rfl (v := .ref (E 1)) rfl dX2_write_145 ?_
      refine lv_bipush (v := 11) hx hb dX2_write_148 (by decide) ?_
      refine lv_dup2_11 hx hb dX2_write_150 rfl rfl ?_
      refine xr_iald hx hb hK hP 1 (by decide) rfl 0 rfl (j := 11) (vin_c (by decide)) (by decide) dX2_write_151 ?_
      refine lv_iconst (v := 1) hx hb dX2_write_152 (by decide) ?_
      refine lv_iadd hx hb dX2_write_153 ?_
      obtain ⟨w7, ew7, hf⟩ := ob_bnd hf
      refine xr_iast hx hb hK hP hD hS 1 (by decide) rfl 0 rfl (j := 11) (w' := w7) (vin_c (by decide)) (by decide) ew7 dX2_write_154 (fun H locs hP hS => ?_)
      obtain rfl := ob_s hf
      subst hQ
      exact xe_v hx hb hr hlocks hP hS dX2_write_155
    refine lv_icmp_ne (tgt := 89) hx hb dX2_write_17 (by decide) (fun c8 => ?_) (fun c8 => ?_)
    · replace hf := ob_f hf c8
      exact kj89 w H locs ls hf hP hS (lv_sub hl [0, 1, 2] rfl)
    · replace hf := ob_t hf c8
      refine lv_iconst (v := 1) hx hb dX2_write_20 (by decide) ?_
      refine lv_istore_n (lv' := [(3, .int 1), (0, .ref (E 0)), (1, .int a1), (2, .int a2)]) hx hb dX2_write_21 rfl hl (by decide) rfl (fun ls hl => ?_)
      obtain ⟨b11, hb11, hf⟩ := ob_bind hf
      obtain ⟨n11, hn11⟩ := lp_some hb11
      have kL22 : ∀ (n : Nat) (w9 : Mm) (v3_10 : Int32), lpF (fun (q11 : Mm × Int32) => M_write_b22 q11.1 q11.2) n (w9, v3_10) = some b11 → (∀ (H : Heap) (locs : List Loc) (ls : Array Slot), va_P D clM (wl shM 19 dA E b11) H → va_S (AE 19 E) s.heap H locs → lv_has ls 4 [(0, .ref (E 0)), (1, .int a1), (2, .int a2)] → W p l e rmX2_write s m args below meth c H locs 0 0 Q (F0 m 78 ls [])) → ∀ (H : Heap) (locs : List Loc) (ls : Array Slot), va_P D clM (wl shM 19 dA E w9) H → va_S (AE 19 E) s.heap H locs → lv_has ls 4 [(0, .ref (E 0)), (1, .int a1), (2, .int a2), (3, .int v3_10)] → W p l e rmX2_write s m args below meth c H locs 0 0 Q (F0 m 22 ls []) := by
        intro n
        induction n with
        | zero =>
          intro w9 v3_10 h
          cases h
        | succ n ih =>
          intro w9 v3_10 h K11_0 H locs ls hP hS hl
          obtain ⟨r11, hf, h11a, h11b⟩ := lpF_step h
          replace hf : M_write_b22 w9 v3_10 = some r11 := hf
          unfold M_write_b22 at hf
          refine lv_iload_n hx hb dX2_write_22 rfl (lv_at hl 3 rfl) ?_
          refine lv_bipush (v := 30) hx hb dX2_write_23 (by decide) ?_
          refine lv_icmp_ge (tgt := 78) hx hb dX2_write_25 (by decide) (fun c12 => ?_) (fun c12 => ?_)
          · replace hf := ob_t hf c12
            obtain rfl := ob_s hf
            obtain rfl := h11b _ rfl
            exact K11_0 H locs ls hP hS (lv_sub hl [0, 1, 2] rfl)
          · replace hf := ob_f hf c12
            refine lv_aload_n hx hb dX2_write_28 rfl (lv_at hl 0 rfl) ?_
            refine xr_get hx hb hts in_X2 hown hK hP 0 (by decide) rfl rfl 0 (by decide) (hts _ q1405) (fun _ h => h) rfl (v := .ref (E 1)) rfl dX2_write_29 ?_
            refine lv_sipush (v := 2815) hx hb dX2_write_32 (by decide) ?_
            refine lv_iload_n hx hb dX2_write_35 rfl (lv_at hl 3 rfl) ?_
            refine lv_iadd hx hb dX2_write_36 ?_
            refine lv_iconst (v := 1) hx hb dX2_write_37 (by decide) ?_
            refine lv_isub hx hb dX2_write_38 ?_
            refine lv_aload_n hx hb dX2_write_39 rfl (lv_at hl 0 rfl) ?_
            refine xr_get hx hb hts in_X2 hown hK hP 0 (by decide) rfl rfl 0 (by decide) (hts _ q1405) (fun _ h => h) rfl (v := .ref (E 1)) rfl dX2_write_40 ?_
            refine lv_sipush (v := 2815) hx hb dX2_write_43 (by decide) ?_
            refine lv_iload_n hx hb dX2_write_46 rfl (lv_at hl 3 rfl) ?_
            refine lv_iadd hx hb dX2_write_47 ?_
            obtain ⟨h13, hf⟩ := ob_gd hf
            refine xr_iald hx hb hK hP 1 (by decide) rfl 0 rfl (j := (2815 + v3_10).toNatClampNeg) h13 rfl dX2_write_48 ?_
            obtain ⟨h14, hf⟩ := ob_gd hf
            obtain ⟨w15, ew15, hf⟩ := ob_bnd hf
            refine xr_iast hx hb hK hP hD hS 1 (by decide) rfl 0 rfl (j := ((2815 + v3_10) - 1).toNatClampNeg) (w' := w15) h14 rfl ew15 dX2_write_49 (fun H locs hP hS => ?_)
            refine lv_aload_n hx hb dX2_write_50 rfl (lv_at hl 0 rfl) ?_
            refine xr_get hx hb hts in_X2 hown hK hP 0 (by decide) rfl rfl 0 (by decide) (hts _ q1405) (fun _ h => h) rfl (v := .ref (E 1)) rfl dX2_write_51 ?_
            refine lv_sipush (v := 2845) hx hb dX2_write_54 (by decide) ?_
            refine lv_iload_n hx hb dX2_write_57 rfl (lv_at hl 3 rfl) ?_
            refine lv_iadd hx hb dX2_write_58 ?_
            refine lv_iconst (v := 1) hx hb dX2_write_59 (by decide) ?_
            refine lv_isub hx hb dX2_write_60 ?_
            refine lv_aload_n hx hb dX2_write_61 rfl (lv_at hl 0 rfl) ?_
            refine xr_get hx hb hts in_X2 hown hK hP 0 (by decide) rfl rfl 0 (by decide) (hts _ q1405) (fun _ h => h) rfl (v := .ref (E 1)) rfl dX2_write_62 ?_
            refine lv_sipush (v := 2845) hx hb dX2_write_65 (by decide) ?_
            refine lv_iload_n hx hb dX2_write_68 rfl (lv_at hl 3 rfl) ?_
            refine lv_iadd hx hb dX2_write_69 ?_
            obtain ⟨h16, hf⟩ := ob_gd hf
            refine xr_iald hx hb hK hP 1 (by decide) rfl 0 rfl (j := (2845 + v3_10).toNatClampNeg) h16 rfl dX2_write_70 ?_
            obtain ⟨h17, hf⟩ := ob_gd hf
            obtain ⟨w18, ew18, hf⟩ := ob_bnd hf
            refine xr_iast hx hb hK hP hD hS 1 (by decide) rfl 0 rfl (j := ((2845 + v3_10) - 1).toNatClampNeg) (w' := w18) h17 rfl ew18 dX2_write_71 (fun H locs hP hS => ?_)
            obtain ⟨v3_19, ev3_19, hf⟩ := ob_bnd hf
            refine lv_iinc (v := v3_19) (lv' := [(3, .int v3_19), (0, .ref (E 0)), (1, .int a1), (2, .int a2)]) hx hb dX2_write_72 hl (k := 3) rfl (by rw [ev3_19]; rfl) (by decide) rfl (fun ls hl => ?_)
            refine lv_goto (tgt := 22) hx hb dX2_write_75 (by decide) ?_
            obtain rfl := ob_s hf
            exact ih _ _ (h11a _ rfl) K11_0 H locs ls hP hS (lv_sub hl [1, 2, 3, 0] rfl)
      refine kL22 n11 w 1 hn11 (fun H locs ls hP hS hl => ?_) H locs ls hP hS (lv_sub hl [1, 2, 3, 0] rfl)
      replace hf : M_write_x22_78 b11 a1 a2 = some res := hf
      unfold M_write_x22_78 at hf
      refine lv_aload_n hx hb dX2_write_78 rfl (lv_at hl 0 rfl) ?_
      refine xr_get hx hb hts in_X2 hown hK hP 0 (by decide) rfl rfl 0 (by decide) (hts _ q1405) (fun _ h => h) rfl (v := .ref (E 1)) rfl dX2_write_79 ?_
      refine lv_bipush (v := 11) hx hb dX2_write_82 (by decide) ?_
      refine lv_dup2_11 hx hb dX2_write_84 rfl rfl ?_
      refine xr_iald hx hb hK hP 1 (by decide) rfl 0 rfl (j := 11) (vin_c (by decide)) (by decide) dX2_write_85 ?_
      refine lv_iconst (v := 1) hx hb dX2_write_86 (by decide) ?_
      refine lv_isub hx hb dX2_write_87 ?_
      obtain ⟨w20, ew20, hf⟩ := ob_bnd hf
      refine xr_iast hx hb hK hP hD hS 1 (by decide) rfl 0 rfl (j := 11) (w' := w20) (vin_c (by decide)) (by decide) ew20 dX2_write_88 (fun H locs hP hS => ?_)
      exact kj89 w20 H locs ls hf hP hS (lv_sub hl [0, 1, 2] rfl)
  · replace hf := ob_t hf c1
    obtain rfl := ob_s hf
    subst hQ
    exact xe_v hx hb hr hlocks hP hS dX2_write_7
abbrev rmX2_pawnNow : Room := { frames := 1, cells := 0, slots := 0, locals := 23 }
theorem cdX2_pawnNow : yX2_pawnNow.cls = RX2 ∧ yX2_pawnNow.cls ≠ "java/lang/invoke/MethodHandle" ∧ yX2_pawnNow.cls ≠ "java/lang/invoke/VarHandle" ∧ (parseMethodDescriptor yX2_pawnNow.desc).map (fun d => d.parameters.length) = some 1 := by decide +kernel
set_option maxHeartbeats 4000000 in
set_option maxRecDepth 100000 in
theorem wkX2_pawnNow (l : Launch) (D : va_G) (dA : Nat → ClassId) (E : Nat → Nat) (hE : wInj 19 E) (w : Mm) (a1 : Int32) {res : Mm} (hf : M_pawnNow w a1 = some res) : Met l yX2_pawnNow (ws_ yX2_pawnNow cX2_pawnNow 2 (none)) rmX2_pawnNow (Pw D clM (tyM dA) shM 19 dA E [.ref (E 0), .int a1] w) (Qwv D clM shM 19 dA E res) 0 0 (AE 19 E) := by
  refine xm_head (own := RX2) (by decide) rfl (Nat.le_of_ble_eq_true rfl) ?_
  intro p e s m args below meth c ls Q hQ C hP hl
  obtain ⟨hx, hb, hr, hlocks, hml, hown, hts, hK⟩ := C
  replace hl : lv_has ls 2 [(0, .ref (E 0)), (1, .int a1)] := hl
  have hS : va_S (AE 19 E) s.heap s.heap [] := va_S.rf
  have hD : wD 19 E (AE 19 E) := wD.self hE
  unfold M_pawnNow at hf
  obtain ⟨H, eH⟩ : ∃ H, H = s.heap := ⟨_, rfl⟩
  obtain ⟨locs, eL⟩ : ∃ locs : List Loc, locs = [] := ⟨_, rfl⟩
  rw [← eL] at hS ⊢
  rw [← eH] at hP
  have hS : va_S (AE 19 E) s.heap H locs := by rw [eH]; exact hS
  show W p l e rmX2_pawnNow s m args below meth c s.heap locs 0 0 Q (F0 m 0 ls [])
  rw [← eH]
  refine lv_aload_n hx hb dX2_pawnNow_0 rfl (lv_at hl 0 rfl) ?_
  refine xr_get hx hb hts in_X2 hown hK hP 0 (by decide) rfl rfl 0 (by decide) (hts _ q1405) (fun _ h => h) rfl (v := .ref (E 1)) rfl dX2_pawnNow_1 ?_
  refine lv_bipush (v := 12) hx hb dX2_pawnNow_4 (by decide) ?_
  refine lv_iconst (v := 3) hx hb dX2_pawnNow_6 (by decide) ?_
  refine lv_iload_n hx hb dX2_pawnNow_7 rfl (lv_at hl 1 rfl) ?_
  refine lv_imul hx hb dX2_pawnNow_8 ?_
  refine lv_iadd hx hb dX2_pawnNow_9 ?_
  refine lv_iconst (v := 1) hx hb dX2_pawnNow_10 (by decide) ?_
  obtain ⟨h1, hf⟩ := ob_gd hf
  obtain ⟨w2, ew2, hf⟩ := ob_bnd hf
  refine xr_iast hx hb hK hP hD hS 1 (by decide) rfl 0 rfl (j := (12 + (3 * a1)).toNatClampNeg) (w' := w2) h1 rfl ew2 dX2_pawnNow_11 (fun H locs hP hS => ?_)
  refine lv_aload_n hx hb dX2_pawnNow_12 rfl (lv_at hl 0 rfl) ?_
  refine xr_get hx hb hts in_X2 hown hK hP 0 (by decide) rfl rfl 0 (by decide) (hts _ q1405) (fun _ h => h) rfl (v := .ref (E 1)) rfl dX2_pawnNow_13 ?_
  refine lv_bipush (v := 12) hx hb dX2_pawnNow_16 (by decide) ?_
  refine lv_iconst (v := 3) hx hb dX2_pawnNow_18 (by decide) ?_
  refine lv_iload_n hx hb dX2_pawnNow_19 rfl (lv_at hl 1 rfl) ?_
  refine lv_imul hx hb dX2_pawnNow_20 ?_
  refine lv_iadd hx hb dX2_pawnNow_21 ?_
  refine lv_iconst (v := 1) hx hb dX2_pawnNow_22 (by decide) ?_
  refine lv_iadd hx hb dX2_pawnNow_23 ?_
  refine lv_aload_n hx hb dX2_pawnNow_24 rfl (lv_at hl 0 rfl) ?_
  refine xr_get hx hb hts in_X2 hown hK hP 0 (by decide) rfl rfl 0 (by decide) (hts _ q1405) (fun _ h => h) rfl (v := .ref (E 1)) rfl dX2_pawnNow_25 ?_
  refine lv_bipush (v := 7) hx hb dX2_pawnNow_28 (by decide) ?_
  refine xr_iald hx hb hK hP 1 (by decide) rfl 0 rfl (j := 7) (vin_c (by decide)) (by decide) dX2_pawnNow_30 ?_
  obtain ⟨h3, hf⟩ := ob_gd hf
  obtain ⟨w4, ew4, hf⟩ := ob_bnd hf
  refine xr_iast hx hb hK hP hD hS 1 (by decide) rfl 0 rfl (j := ((12 + (3 * a1)) + 1).toNatClampNeg) (w' := w4) h3 rfl ew4 dX2_pawnNow_31 (fun H locs hP hS => ?_)
  refine lv_aload_n hx hb dX2_pawnNow_32 rfl (lv_at hl 0 rfl) ?_
  refine xr_get hx hb hts in_X2 hown hK hP 0 (by decide) rfl rfl 0 (by decide) (hts _ q1405) (fun _ h => h) rfl (v := .ref (E 1)) rfl dX2_pawnNow_33 ?_
  refine lv_bipush (v := 9) hx hb dX2_pawnNow_36 (by decide) ?_
  refine lv_aload_n hx hb dX2_pawnNow_38 rfl (lv_at hl 0 rfl) ?_
  refine xr_get hx hb hts in_X2 hown hK hP 0 (by decide) rfl rfl 0 (by decide) (hts _ q1405) (fun _ h => h) rfl (v := .ref (E 1)) rfl dX2_pawnNow_39 ?_
  refine lv_bipush (v := 9) hx hb dX2_pawnNow_42 (by decide) ?_
  refine xr_iald hx hb hK hP 1 (by decide) rfl 0 rfl (j := 9) (vin_c (by decide)) (by decide) dX2_pawnNow_44 ?_
  refine lv_aload_n hx hb dX2_pawnNow_45 rfl (lv_at hl 0 rfl) ?_
  refine xr_get hx hb hts in_X2 hown hK hP 0 (by decide) rfl rfl 0 (by decide) (hts _ q1405) (fun _ h => h) rfl (v := .ref (E 1)) rfl dX2_pawnNow_46 ?_
  refine lv_bipush (v := 52) hx hb dX2_pawnNow_49 (by decide) ?_
  refine lv_iload_n hx hb dX2_pawnNow_51 rfl (lv_at hl 1 rfl) ?_
  refine lv_iadd hx hb dX2_pawnNow_52 ?_
  obtain ⟨h5, hf⟩ := ob_gd hf
  refine xr_iald hx hb hK hP 1 (by decide) rfl 0 rfl (j := (52 + a1).toNatClampNeg) h5 rfl dX2_pawnNow_53 ?_
  refine lv_iconst (v := 2) hx hb dX2_pawnNow_54 (by decide) ?_
  refine lv_idiv hx hb dX2_pawnNow_55 (by decide) ?_
  refine lv_iadd hx hb dX2_pawnNow_56 ?_
  refine lv_i2l hx hb dX2_pawnNow_57 rfl ?_
  refine lv_iconst (v := 0) hx hb dX2_pawnNow_58 (by decide) ?_
  refine lv_sipush (v := 9999) hx hb dX2_pawnNow_59 (by decide) ?_
  obtain ⟨q7, g6, hf⟩ := ob_bind hf
  refine xc_i (xw_runS (As := [.long (((w4.1 1 9) + ((w4.1 1 (52 + a1).toNatClampNeg) / 2)).toInt64), .int 0, .int 9999]) (rest := [.int 9, .ref (E 1)]) ⟨hx, hb, hml, hown, hts⟩ (wkX2_held l D dA E hE w4 (((w4.1 1 9) + ((w4.1 1 (52 + a1).toNatClampNeg) / 2)).toInt64) 0 9999 g6) (va_cwS 3 hts (lw_S q1749 q1750 q140 q1751) rfl rfl rfl cdX2_held.2 ⟨Nat.le_of_ble_eq_true rfl, Nat.le_of_ble_eq_true rfl⟩) hK hP hl.1 rfl rfl (Nat.le_of_ble_eq_true rfl) dX2_pawnNow_62 ⟨Nat.zero_le _, Nat.zero_le _⟩) hS hD.2 (fun H locs hP hS => ?_)
  obtain ⟨w8, ew8, hf⟩ := ob_bnd hf
  refine xr_iast hx hb hK hP hD hS 1 (by decide) rfl 0 rfl (j := 9) (w' := w8) (vin_c (by decide)) (by decide) ew8 dX2_pawnNow_65 (fun H locs hP hS => ?_)
  refine lv_aload_n hx hb dX2_pawnNow_66 rfl (lv_at hl 0 rfl) ?_
  refine lv_iload_n hx hb dX2_pawnNow_67 rfl (lv_at hl 1 rfl) ?_
  refine lv_iconst (v := 0) hx hb dX2_pawnNow_68 (by decide) ?_
  obtain ⟨q10, g9, hf⟩ := ob_bind hf
  refine xc_v (xw_run (As := [.int a1, .int 0]) (rest := []) ⟨hx, hb, hml, hown, hts⟩ (k0 := 0) (wkX2_write l D dA E hE w8 a1 0 g9) (cwV 2 hts (lw_V q1752 q1754 qs96 q140 q1755) rfl rfl rfl cdX2_write ⟨Nat.le_of_ble_eq_true rfl, Nat.le_of_ble_eq_true rfl⟩) hK hP (by decide) rfl rfl rfl hl.1 rfl rfl (Nat.le_of_ble_eq_true rfl) dX2_pawnNow_69 ⟨Nat.zero_le _, Nat.zero_le _⟩) hS hD.2 (fun H locs hP hS => ?_)
  obtain rfl := ob_s hf
  subst hQ
  exact xe_v hx hb hr hlocks hP hS dX2_pawnNow_72
abbrev rmX2_pawn : Room := { frames := 3, cells := 0, slots := 0, locals := 64 }
theorem cdX2_pawn : yX2_pawn.cls = RX2 ∧ yX2_pawn.cls ≠ "java/lang/invoke/MethodHandle" ∧ yX2_pawn.cls ≠ "java/lang/invoke/VarHandle" ∧ (parseMethodDescriptor yX2_pawn.desc).map (fun d => d.parameters.length) = some 1 := by decide +kernel
set_option maxHeartbeats 4000000 in
set_option maxRecDepth 100000 in
theorem wkX2_pawn (l : Launch) (D : va_G) (dA : Nat → ClassId) (E : Nat → Nat) (hE : wInj 19 E) (w : Mm) (a1 : Int32) {res : Int32 × Mm} (hf : M_pawn w a1 = some res) : Met l yX2_pawn (ws_ yX2_pawn cX2_pawn 2 (some .boolean)) rmX2_pawn (Pw D clM (tyM dA) shM 19 dA E [.ref (E 0), .int a1] w) (Qwz D clM shM 19 dA E res.1 res.2) 0 0 (AE 19 E) := by
  refine xm_head (own := RX2) (by decide) rfl (Nat.le_of_ble_eq_true rfl) ?_
  intro p e s m args below meth c ls Q hQ C hP hl
  obtain ⟨hx, hb, hr, hlocks, hml, hown, hts, hK⟩ := C
  replace hl : lv_has ls 2 [(0, .ref (E 0)), (1, .int a1)] := hl
  have hS : va_S (AE 19 E) s.heap s.heap [] := va_S.rf
  have hD : wD 19 E (AE 19 E) := wD.self hE
  unfold M_pawn at hf
  obtain ⟨H, eH⟩ : ∃ H, H = s.heap := ⟨_, rfl⟩
  obtain ⟨locs, eL⟩ : ∃ locs : List Loc, locs = [] := ⟨_, rfl⟩
  rw [← eL] at hS ⊢
  rw [← eH] at hP
  have hS : va_S (AE 19 E) s.heap H locs := by rw [eH]; exact hS
  show W p l e rmX2_pawn s m args below meth c s.heap locs 0 0 Q (F0 m 0 ls [])
  rw [← eH]
  refine lv_aload_n hx hb dX2_pawn_0 rfl (lv_at hl 0 rfl) ?_
  refine lv_iload_n hx hb dX2_pawn_1 rfl (lv_at hl 1 rfl) ?_
  obtain ⟨q2, g1, hf⟩ := ob_bind hf
  refine xc_z (xw_run (As := [.int a1]) (rest := []) ⟨hx, hb, hml, hown, hts⟩ (k0 := 0) (wkX2_canPawn l D dA E hE w a1 g1) (cwV 1 hts (lw_V q1729 q1731 qs91 q140 q1732) rfl rfl rfl cdX2_canPawn ⟨Nat.le_of_ble_eq_true rfl, Nat.le_of_ble_eq_true rfl⟩) hK hP (by decide) rfl rfl rfl hl.1 rfl rfl (Nat.le_of_ble_eq_true rfl) dX2_pawn_2 ⟨Nat.zero_le _, Nat.zero_le _⟩) hS hD.2 (fun H locs zq2 hP hS => ?_)
  refine lv_if_ne (tgt := 10) hx hb dX2_pawn_5 (by decide) (fun c3 => ?_) (fun c3 => ?_)
  · replace hf := ob_f hf c3
    refine lv_aload_n hx hb dX2_pawn_10 rfl (lv_at hl 0 rfl) ?_
    obtain ⟨q5, g4, hf⟩ := ob_bind hf
    refine xc_v (xw_run (As := []) (rest := []) ⟨hx, hb, hml, hown, hts⟩ (k0 := 0) (wkX2_keep l D dA E hE w g4) (cwV 0 hts (lw_V q1741 q1743 qs94 q140 q1744) rfl rfl rfl cdX2_keep ⟨Nat.le_of_ble_eq_true rfl, Nat.le_of_ble_eq_true rfl⟩) hK hP (by decide) rfl rfl rfl hl.1 rfl rfl (Nat.le_of_ble_eq_true rfl) dX2_pawn_11 ⟨Nat.zero_le _, Nat.zero_le _⟩) hS hD.2 (fun H locs hP hS => ?_)
    refine lv_aload_n hx hb dX2_pawn_14 rfl (lv_at hl 0 rfl) ?_
    refine lv_iload_n hx hb dX2_pawn_15 rfl (lv_at hl 1 rfl) ?_
    obtain ⟨q7, g6, hf⟩ := ob_bind hf
    refine xc_v (xw_run (As := [.int a1]) (rest := []) ⟨hx, hb, hml, hown, hts⟩ (k0 := 0) (wkX2_pawnNow l D dA E hE q5 a1 g6) (cwV 1 hts (lw_V q1745 q1747 qs95 q140 q1748) rfl rfl rfl cdX2_pawnNow ⟨Nat.le_of_ble_eq_true rfl, Nat.le_of_ble_eq_true rfl⟩) hK hP (by decide) rfl rfl rfl hl.1 rfl rfl (Nat.le_of_ble_eq_true rfl) dX2_pawn_16 ⟨Nat.zero_le _, Nat.zero_le _⟩) hS hD.2 (fun H locs hP hS => ?_)
    refine lv_iconst (v := 1) hx hb dX2_pawn_19 (by decide) ?_
    obtain rfl := ob_s hf
    subst hQ
    exact xe_z hx hb hr hlocks hP hS (Or.inr rfl) dX2_pawn_20
  · replace hf := ob_t hf c3
    refine lv_iconst (v := 0) hx hb dX2_pawn_8 (by decide) ?_
    obtain rfl := ob_s hf
    subst hQ
    exact xe_z hx hb hr hlocks hP hS (Or.inl rfl) dX2_pawn_9
abbrev rmX2_isPawned : Room := { frames := 1, cells := 0, slots := 0, locals := 21 }
theorem cdX2_isPawned : yX2_isPawned.cls = RX2 ∧ yX2_isPawned.cls ≠ "java/lang/invoke/MethodHandle" ∧ yX2_isPawned.cls ≠ "java/lang/invoke/VarHandle" ∧ (parseMethodDescriptor yX2_isPawned.desc).map (fun d => d.parameters.length) = some 1 := by decide +kernel
set_option maxHeartbeats 4000000 in
set_option maxRecDepth 100000 in
theorem wkX2_isPawned (l : Launch) (D : va_G) (dA : Nat → ClassId) (E : Nat → Nat) (hE : wInj 19 E) (w : Mm) (a1 : Int32) {res : Int32} (hf : M_isPawned w a1 = some res) : Met l yX2_isPawned (ws_ yX2_isPawned cX2_isPawned 2 (some .boolean)) rmX2_isPawned (Pw D clM (tyM dA) shM 19 dA E [.ref (E 0), .int a1] w) (Qwz D clM shM 19 dA E res w) 0 0 (AE 19 E) := by
  refine xm_head (own := RX2) (by decide) rfl (Nat.le_of_ble_eq_true rfl) ?_
  intro p e s m args below meth c ls Q hQ C hP hl
  obtain ⟨hx, hb, hr, hlocks, hml, hown, hts, hK⟩ := C
  replace hl : lv_has ls 2 [(0, .ref (E 0)), (1, .int a1)] := hl
  have hS : va_S (AE 19 E) s.heap s.heap [] := va_S.rf
  have hD : wD 19 E (AE 19 E) := wD.self hE
  unfold M_isPawned at hf
  obtain ⟨H, eH⟩ : ∃ H, H = s.heap := ⟨_, rfl⟩
  obtain ⟨locs, eL⟩ : ∃ locs : List Loc, locs = [] := ⟨_, rfl⟩
  rw [← eL] at hS ⊢
  rw [← eH] at hP
  have hS : va_S (AE 19 E) s.heap H locs := by rw [eH]; exact hS
  show W p l e rmX2_isPawned s m args below meth c s.heap locs 0 0 Q (F0 m 0 ls [])
  rw [← eH]
  refine lv_aload_n hx hb dX2_isPawned_0 rfl (lv_at hl 0 rfl) ?_
  refine lv_iload_n hx hb dX2_isPawned_1 rfl (lv_at hl 1 rfl) ?_
  obtain ⟨q2, g1, hf⟩ := ob_bind hf
  refine xc_i (xw_run (As := [.int a1]) (rest := []) ⟨hx, hb, hml, hown, hts⟩ (k0 := 0) (wkX2_howOf l D dA E hE w a1 g1) (cwV 1 hts (lw_V q1737 q1739 qs93 q140 q1740) rfl rfl rfl cdX2_howOf ⟨Nat.le_of_ble_eq_true rfl, Nat.le_of_ble_eq_true rfl⟩) hK hP (by decide) rfl rfl rfl hl.1 rfl rfl (Nat.le_of_ble_eq_true rfl) dX2_isPawned_2 ⟨Nat.zero_le _, Nat.zero_le _⟩) hS hD.2 (fun H locs hP hS => ?_)
  refine lv_iconst (v := 1) hx hb dX2_isPawned_5 (by decide) ?_
  refine lv_icmp_ne (tgt := 13) hx hb dX2_isPawned_6 (by decide) (fun c3 => ?_) (fun c3 => ?_)
  · replace hf := ob_f hf c3
    refine lv_iconst (v := 0) hx hb dX2_isPawned_13 (by decide) ?_
    obtain rfl := ob_s hf
    subst hQ
    exact xe_z hx hb hr hlocks hP hS (Or.inl rfl) dX2_isPawned_14
  · replace hf := ob_t hf c3
    refine lv_iconst (v := 1) hx hb dX2_isPawned_9 (by decide) ?_
    refine lv_goto (tgt := 14) hx hb dX2_isPawned_10 (by decide) ?_
    obtain rfl := ob_s hf
    subst hQ
    exact xe_z hx hb hr hlocks hP hS (Or.inr rfl) dX2_isPawned_14
abbrev rmX2_heatOf : Room := { frames := 0, cells := 0, slots := 0, locals := 0 }
theorem cdX2_heatOf : yX2_heatOf.cls = RX2 ∧ yX2_heatOf.cls ≠ "java/lang/invoke/MethodHandle" ∧ yX2_heatOf.cls ≠ "java/lang/invoke/VarHandle" ∧ (parseMethodDescriptor yX2_heatOf.desc).map (fun d => d.parameters.length) = some 1 := by decide +kernel
set_option maxHeartbeats 4000000 in
set_option maxRecDepth 100000 in
theorem wkX2_heatOf (l : Launch) (D : va_G) (dA : Nat → ClassId) (E : Nat → Nat) (hE : wInj 19 E) (w : Mm) (a1 : Int32) {res : Int32} (hf : M_heatOf w a1 = some res) : Met l yX2_heatOf (ws_ yX2_heatOf cX2_heatOf 2 (some .int)) rmX2_heatOf (Pw D clM (tyM dA) shM 19 dA E [.ref (E 0), .int a1] w) (Qwi D clM shM 19 dA E res w) 0 0 (AE 19 E) := by
  refine xm_head (own := RX2) (by decide) rfl (Nat.le_of_ble_eq_true rfl) ?_
  intro p e s m args below meth c ls Q hQ C hP hl
  obtain ⟨hx, hb, hr, hlocks, hml, hown, hts, hK⟩ := C
  replace hl : lv_has ls 2 [(0, .ref (E 0)), (1, .int a1)] := hl
  have hS : va_S (AE 19 E) s.heap s.heap [] := va_S.rf
  have hD : wD 19 E (AE 19 E) := wD.self hE
  unfold M_heatOf at hf
  obtain ⟨H, eH⟩ : ∃ H, H = s.heap := ⟨_, rfl⟩
  obtain ⟨locs, eL⟩ : ∃ locs : List Loc, locs = [] := ⟨_, rfl⟩
  rw [← eL] at hS ⊢
  rw [← eH] at hP
  have hS : va_S (AE 19 E) s.heap H locs := by rw [eH]; exact hS
  show W p l e rmX2_heatOf s m args below meth c s.heap locs 0 0 Q (F0 m 0 ls [])
  rw [← eH]
  refine lv_aload_n hx hb dX2_heatOf_0 rfl (lv_at hl 0 rfl) ?_
  refine xr_get hx hb hts in_X2 hown hK hP 0 (by decide) rfl rfl 0 (by decide) (hts _ q1405) (fun _ h => h) rfl (v := .ref (E 1)) rfl dX2_heatOf_1 ?_
  refine lv_bipush (v := 12) hx hb dX2_heatOf_4 (by decide) ?_
  refine lv_iconst (v := 3) hx hb dX2_heatOf_6 (by decide) ?_
  refine lv_iload_n hx hb dX2_heatOf_7 rfl (lv_at hl 1 rfl) ?_
  refine lv_imul hx hb dX2_heatOf_8 ?_
  refine lv_iadd hx hb dX2_heatOf_9 ?_
  refine lv_iconst (v := 2) hx hb dX2_heatOf_10 (by decide) ?_
  refine lv_iadd hx hb dX2_heatOf_11 ?_
  obtain ⟨h1, hf⟩ := ob_gd hf
  refine xr_iald hx hb hK hP 1 (by decide) rfl 0 rfl (j := ((12 + (3 * a1)) + 2).toNatClampNeg) h1 rfl dX2_heatOf_12 ?_
  obtain rfl := ob_s hf
  subst hQ
  exact xe_i hx hb hr hlocks hP hS dX2_heatOf_13
abbrev rmX2_daysOf : Room := { frames := 2, cells := 0, slots := 0, locals := 42 }
theorem cdX2_daysOf : yX2_daysOf.cls = RX2 ∧ yX2_daysOf.cls ≠ "java/lang/invoke/MethodHandle" ∧ yX2_daysOf.cls ≠ "java/lang/invoke/VarHandle" ∧ (parseMethodDescriptor yX2_daysOf.desc).map (fun d => d.parameters.length) = some 1 := by decide +kernel
set_option maxHeartbeats 4000000 in
set_option maxRecDepth 100000 in
theorem wkX2_daysOf (l : Launch) (D : va_G) (dA : Nat → ClassId) (E : Nat → Nat) (hE : wInj 19 E) (w : Mm) (a1 : Int32) {res : Int32} (hf : M_daysOf w a1 = some res) : Met l yX2_daysOf (ws_ yX2_daysOf cX2_daysOf 2 (some .int)) rmX2_daysOf (Pw D clM (tyM dA) shM 19 dA E [.ref (E 0), .int a1] w) (Qwi D clM shM 19 dA E res w) 0 0 (AE 19 E) := by
  refine xm_head (own := RX2) (by decide) rfl (Nat.le_of_ble_eq_true rfl) ?_
  intro p e s m args below meth c ls Q hQ C hP hl
  obtain ⟨hx, hb, hr, hlocks, hml, hown, hts, hK⟩ := C
  replace hl : lv_has ls 2 [(0, .ref (E 0)), (1, .int a1)] := hl
  have hS : va_S (AE 19 E) s.heap s.heap [] := va_S.rf
  have hD : wD 19 E (AE 19 E) := wD.self hE
  unfold M_daysOf at hf
  obtain ⟨H, eH⟩ : ∃ H, H = s.heap := ⟨_, rfl⟩
  obtain ⟨locs, eL⟩ : ∃ locs : List Loc, locs = [] := ⟨_, rfl⟩
  rw [← eL] at hS ⊢
  rw [← eH] at hP
  have hS : va_S (AE 19 E) s.heap H locs := by rw [eH]; exact hS
  show W p l e rmX2_daysOf s m args below meth c s.heap locs 0 0 Q (F0 m 0 ls [])
  rw [← eH]
  refine lv_aload_n hx hb dX2_daysOf_0 rfl (lv_at hl 0 rfl) ?_
  refine lv_iload_n hx hb dX2_daysOf_1 rfl (lv_at hl 1 rfl) ?_
  obtain ⟨q2, g1, hf⟩ := ob_bind hf
  refine xc_z (xw_run (As := [.int a1]) (rest := []) ⟨hx, hb, hml, hown, hts⟩ (k0 := 0) (wkX2_isPawned l D dA E hE w a1 g1) (cwV 1 hts (lw_V q1764 q1766 qs98 q140 q1767) rfl rfl rfl cdX2_isPawned ⟨Nat.le_of_ble_eq_true rfl, Nat.le_of_ble_eq_true rfl⟩) hK hP (by decide) rfl rfl rfl hl.1 rfl rfl (Nat.le_of_ble_eq_true rfl) dX2_daysOf_2 ⟨Nat.zero_le _, Nat.zero_le _⟩) hS hD.2 (fun H locs zq2 hP hS => ?_)
  refine lv_if_eq (tgt := 32) hx hb dX2_daysOf_5 (by decide) (fun c3 => ?_) (fun c3 => ?_)
  · replace hf := ob_t hf c3
    refine lv_iconst (v := 0) hx hb dX2_daysOf_32 (by decide) ?_
    obtain rfl := ob_s hf
    subst hQ
    exact xe_i hx hb hr hlocks hP hS dX2_daysOf_33
  · replace hf := ob_f hf c3
    refine lv_aload_n hx hb dX2_daysOf_8 rfl (lv_at hl 0 rfl) ?_
    refine xr_get hx hb hts in_X2 hown hK hP 0 (by decide) rfl rfl 0 (by decide) (hts _ q1405) (fun _ h => h) rfl (v := .ref (E 1)) rfl dX2_daysOf_9 ?_
    refine lv_bipush (v := 7) hx hb dX2_daysOf_12 (by decide) ?_
    refine xr_iald hx hb hK hP 1 (by decide) rfl 0 rfl (j := 7) (vin_c (by decide)) (by decide) dX2_daysOf_14 ?_
    refine lv_aload_n hx hb dX2_daysOf_15 rfl (lv_at hl 0 rfl) ?_
    refine xr_get hx hb hts in_X2 hown hK hP 0 (by decide) rfl rfl 0 (by decide) (hts _ q1405) (fun _ h => h) rfl (v := .ref (E 1)) rfl dX2_daysOf_16 ?_
    refine lv_bipush (v := 12) hx hb dX2_daysOf_19 (by decide) ?_
    refine lv_iconst (v := 3) hx hb dX2_daysOf_21 (by decide) ?_
    refine lv_iload_n hx hb dX2_daysOf_22 rfl (lv_at hl 1 rfl) ?_
    refine lv_imul hx hb dX2_daysOf_23 ?_
    refine lv_iadd hx hb dX2_daysOf_24 ?_
    refine lv_iconst (v := 1) hx hb dX2_daysOf_25 (by decide) ?_
    refine lv_iadd hx hb dX2_daysOf_26 ?_
    obtain ⟨h4, hf⟩ := ob_gd hf
    refine xr_iald hx hb hK hP 1 (by decide) rfl 0 rfl (j := ((12 + (3 * a1)) + 1).toNatClampNeg) h4 rfl dX2_daysOf_27 ?_
    refine lv_isub hx hb dX2_daysOf_28 ?_
    refine lv_goto (tgt := 33) hx hb dX2_daysOf_29 (by decide) ?_
    obtain rfl := ob_s hf
    subst hQ
    exact xe_i hx hb hr hlocks hP hS dX2_daysOf_33
abbrev rmX2_name : Room := { frames := 3, cells := 0, slots := 0, locals := 63 }
theorem cdX2_name : yX2_name.cls = RX2 ∧ yX2_name.cls ≠ "java/lang/invoke/MethodHandle" ∧ yX2_name.cls ≠ "java/lang/invoke/VarHandle" ∧ (parseMethodDescriptor yX2_name.desc).map (fun d => d.parameters.length) = some 2 := by decide +kernel
set_option maxHeartbeats 4000000 in
set_option maxRecDepth 100000 in
theorem wkX2_name (l : Launch) (D : va_G) (dA : Nat → ClassId) (E : Nat → Nat) (hE : wInj 19 E) (w : Mm) (a1 : Int32) (a2 : Int32) {res : Mm} (hf : M_name w a1 a2 = some res) : Met l yX2_name (ws_ yX2_name cX2_name 3 (none)) rmX2_name (Pw D clM (tyM dA) shM 19 dA E [.ref (E 0), .int a1, .int a2] w) (Qwv D clM shM 19 dA E res) 0 0 (AE 19 E) := by
  refine xm_head (own := RX2) (by decide) rfl (Nat.le_of_ble_eq_true rfl) ?_
  intro p e s m args below meth c ls Q hQ C hP hl
  obtain ⟨hx, hb, hr, hlocks, hml, hown, hts, hK⟩ := C
  replace hl : lv_has ls 3 [(0, .ref (E 0)), (1, .int a1), (2, .int a2)] := hl
  have hS : va_S (AE 19 E) s.heap s.heap [] := va_S.rf
  have hD : wD 19 E (AE 19 E) := wD.self hE
  unfold M_name at hf
  obtain ⟨H, eH⟩ : ∃ H, H = s.heap := ⟨_, rfl⟩
  obtain ⟨locs, eL⟩ : ∃ locs : List Loc, locs = [] := ⟨_, rfl⟩
  rw [← eL] at hS ⊢
  rw [← eH] at hP
  have hS : va_S (AE 19 E) s.heap H locs := by rw [eH]; exact hS
  show W p l e rmX2_name s m args below meth c s.heap locs 0 0 Q (F0 m 0 ls [])
  rw [← eH]
  refine lv_aload_n hx hb dX2_name_0 rfl (lv_at hl 0 rfl) ?_
  refine xr_get hx hb hts in_X2 hown hK hP 0 (by decide) rfl rfl 20 (by decide) (hts _ q1425) (fun _ h => h) rfl (v := .ref (E 6)) rfl dX2_name_1 ?_
  refine lv_iconst (v := 0) hx hb dX2_name_4 (by decide) ?_
  refine lv_aload_n hx hb dX2_name_5 rfl (lv_at hl 0 rfl) ?_
  refine xr_get hx hb hts in_X2 hown hK hP 0 (by decide) rfl rfl 0 (by decide) (hts _ q1405) (fun _ h => h) rfl (v := .ref (E 1)) rfl dX2_name_6 ?_
  refine lv_bipush (v := 7) hx hb dX2_name_9 (by decide) ?_
  refine xr_iald hx hb hK hP 1 (by decide) rfl 0 rfl (j := 7) (vin_c (by decide)) (by decide) dX2_name_11 ?_
  refine lv_iload_n hx hb dX2_name_12 rfl (lv_at hl 2 rfl) ?_
  refine lv_iadd hx hb dX2_name_13 ?_
  obtain ⟨w1, ew1, hf⟩ := ob_bnd hf
  refine xr_iast hx hb hK hP hD hS 6 (by decide) rfl 0 rfl (j := 0) (w' := w1) (vin_c (by decide)) (by decide) ew1 dX2_name_14 (fun H locs hP hS => ?_)
  refine lv_aload_n hx hb dX2_name_15 rfl (lv_at hl 0 rfl) ?_
  refine xr_get hx hb hts in_X2 hown hK hP 0 (by decide) rfl rfl 20 (by decide) (hts _ q1425) (fun _ h => h) rfl (v := .ref (E 6)) rfl dX2_name_16 ?_
  refine lv_iconst (v := 1) hx hb dX2_name_19 (by decide) ?_
  refine lv_aload_n hx hb dX2_name_20 rfl (lv_at hl 0 rfl) ?_
  refine xr_get hx hb hts in_X2 hown hK hP 0 (by decide) rfl rfl 0 (by decide) (hts _ q1405) (fun _ h => h) rfl (v := .ref (E 1)) rfl dX2_name_21 ?_
  refine lv_bipush (v := 10) hx hb dX2_name_24 (by decide) ?_
  refine xr_iald hx hb hK hP 1 (by decide) rfl 0 rfl (j := 10) (vin_c (by decide)) (by decide) dX2_name_26 ?_
  obtain ⟨w2, ew2, hf⟩ := ob_bnd hf
  refine xr_iast hx hb hK hP hD hS 6 (by decide) rfl 0 rfl (j := 1) (w' := w2) (vin_c (by decide)) (by decide) ew2 dX2_name_27 (fun H locs hP hS => ?_)
  refine lv_aload_n hx hb dX2_name_28 rfl (lv_at hl 0 rfl) ?_
  refine xr_get hx hb hts in_X2 hown hK hP 0 (by decide) rfl rfl 20 (by decide) (hts _ q1425) (fun _ h => h) rfl (v := .ref (E 6)) rfl dX2_name_29 ?_
  refine lv_iconst (v := 2) hx hb dX2_name_32 (by decide) ?_
  refine lv_iload_n hx hb dX2_name_33 rfl (lv_at hl 1 rfl) ?_
  obtain ⟨w3, ew3, hf⟩ := ob_bnd hf
  refine xr_iast hx hb hK hP hD hS 6 (by decide) rfl 0 rfl (j := 2) (w' := w3) (vin_c (by decide)) (by decide) ew3 dX2_name_34 (fun H locs hP hS => ?_)
  refine lv_aload_n hx hb dX2_name_35 rfl (lv_at hl 0 rfl) ?_
  refine xr_get hx hb hts in_X2 hown hK hP 0 (by decide) rfl rfl 20 (by decide) (hts _ q1425) (fun _ h => h) rfl (v := .ref (E 6)) rfl dX2_name_36 ?_
  refine lv_iconst (v := 3) hx hb dX2_name_39 (by decide) ?_
  refine lv_aload_n hx hb dX2_name_40 rfl (lv_at hl 0 rfl) ?_
  refine xr_get hx hb hts in_X2 hown hK hP 0 (by decide) rfl rfl 0 (by decide) (hts _ q1405) (fun _ h => h) rfl (v := .ref (E 1)) rfl dX2_name_41 ?_
  refine lv_bipush (v := 52) hx hb dX2_name_44 (by decide) ?_
  refine lv_iload_n hx hb dX2_name_46 rfl (lv_at hl 1 rfl) ?_
  refine lv_iadd hx hb dX2_name_47 ?_
  obtain ⟨h4, hf⟩ := ob_gd hf
  refine xr_iald hx hb hK hP 1 (by decide) rfl 0 rfl (j := (52 + a1).toNatClampNeg) h4 rfl dX2_name_48 ?_
  obtain ⟨w5, ew5, hf⟩ := ob_bnd hf
  refine xr_iast hx hb hK hP hD hS 6 (by decide) rfl 0 rfl (j := 3) (w' := w5) (vin_c (by decide)) (by decide) ew5 dX2_name_49 (fun H locs hP hS => ?_)
  refine lv_aload_n hx hb dX2_name_50 rfl (lv_at hl 0 rfl) ?_
  refine xr_get hx hb hts in_X2 hown hK hP 0 (by decide) rfl rfl 20 (by decide) (hts _ q1425) (fun _ h => h) rfl (v := .ref (E 6)) rfl dX2_name_51 ?_
  refine lv_iconst (v := 4) hx hb dX2_name_54 (by decide) ?_
  refine lv_aload_n hx hb dX2_name_55 rfl (lv_at hl 0 rfl) ?_
  refine lv_iload_n hx hb dX2_name_56 rfl (lv_at hl 1 rfl) ?_
  obtain ⟨q7, g6, hf⟩ := ob_bind hf
  refine xc_i (xw_run (As := [.int a1]) (rest := [.int 4, .ref (E 6)]) ⟨hx, hb, hml, hown, hts⟩ (k0 := 0) (wkX2_heatOf l D dA E hE w5 a1 g6) (cwV 1 hts (lw_V q1780 q1782 qs102 q140 q1783) rfl rfl rfl cdX2_heatOf ⟨Nat.le_of_ble_eq_true rfl, Nat.le_of_ble_eq_true rfl⟩) hK hP (by decide) rfl rfl rfl hl.1 rfl rfl (Nat.le_of_ble_eq_true rfl) dX2_name_57 ⟨Nat.zero_le _, Nat.zero_le _⟩) hS hD.2 (fun H locs hP hS => ?_)
  obtain ⟨w8, ew8, hf⟩ := ob_bnd hf
  refine xr_iast hx hb hK hP hD hS 6 (by decide) rfl 0 rfl (j := 4) (w' := w8) (vin_c (by decide)) (by decide) ew8 dX2_name_60 (fun H locs hP hS => ?_)
  refine lv_aload_n hx hb dX2_name_61 rfl (lv_at hl 0 rfl) ?_
  refine xr_get hx hb hts in_X2 hown hK hP 0 (by decide) rfl rfl 20 (by decide) (hts _ q1425) (fun _ h => h) rfl (v := .ref (E 6)) rfl dX2_name_62 ?_
  refine lv_iconst (v := 5) hx hb dX2_name_65 (by decide) ?_
  refine lv_aload_n hx hb dX2_name_66 rfl (lv_at hl 0 rfl) ?_
  refine lv_iload_n hx hb dX2_name_67 rfl (lv_at hl 1 rfl) ?_
  obtain ⟨q10, g9, hf⟩ := ob_bind hf
  refine xc_z (xw_run (As := [.int a1]) (rest := [.int 5, .ref (E 6)]) ⟨hx, hb, hml, hown, hts⟩ (k0 := 0) (wkX2_isPawned l D dA E hE w8 a1 g9) (cwV 1 hts (lw_V q1764 q1766 qs98 q140 q1767) rfl rfl rfl cdX2_isPawned ⟨Nat.le_of_ble_eq_true rfl, Nat.le_of_ble_eq_true rfl⟩) hK hP (by decide) rfl rfl rfl hl.1 rfl rfl (Nat.le_of_ble_eq_true rfl) dX2_name_68 ⟨Nat.zero_le _, Nat.zero_le _⟩) hS hD.2 (fun H locs zq10 hP hS => ?_)
  refine lv_if_eq (tgt := 84) hx hb dX2_name_71 (by decide) (fun c11 => ?_) (fun c11 => ?_)
  · replace hf := ob_t hf c11
    refine lv_iconst (v := 0) hx hb dX2_name_84 (by decide) ?_
    obtain ⟨w12, ew12, hf⟩ := ob_bnd hf
    refine xr_iast hx hb hK hP hD hS 6 (by decide) rfl 0 rfl (j := 5) (w' := w12) (vin_c (by decide)) (by decide) ew12 dX2_name_85 (fun H locs hP hS => ?_)
    obtain rfl := ob_s hf
    subst hQ
    exact xe_v hx hb hr hlocks hP hS dX2_name_86
  · replace hf := ob_f hf c11
    refine lv_aload_n hx hb dX2_name_74 rfl (lv_at hl 0 rfl) ?_
    refine lv_iload_n hx hb dX2_name_75 rfl (lv_at hl 1 rfl) ?_
    obtain ⟨q14, g13, hf⟩ := ob_bind hf
    refine xc_i (xw_run (As := [.int a1]) (rest := [.int 5, .ref (E 6)]) ⟨hx, hb, hml, hown, hts⟩ (k0 := 0) (wkX2_daysOf l D dA E hE w8 a1 g13) (cwV 1 hts (lw_V q1784 q1786 qs103 q140 q1787) rfl rfl rfl cdX2_daysOf ⟨Nat.le_of_ble_eq_true rfl, Nat.le_of_ble_eq_true rfl⟩) hK hP (by decide) rfl rfl rfl hl.1 rfl rfl (Nat.le_of_ble_eq_true rfl) dX2_name_76 ⟨Nat.zero_le _, Nat.zero_le _⟩) hS hD.2 (fun H locs hP hS => ?_)
    refine lv_iload_n hx hb dX2_name_79 rfl (lv_at hl 2 rfl) ?_
    refine lv_iadd hx hb dX2_name_80 ?_
    refine lv_goto (tgt := 85) hx hb dX2_name_81 (by decide) ?_
    obtain ⟨w15, ew15, hf⟩ := ob_bnd hf
    refine xr_iast hx hb hK hP hD hS 6 (by decide) rfl 0 rfl (j := 5) (w' := w15) (vin_c (by decide)) (by decide) ew15 dX2_name_85 (fun H locs hP hS => ?_)
    obtain rfl := ob_s hf
    subst hQ
    exact xe_v hx hb hr hlocks hP hS dX2_name_86
abbrev rmX2_hotOf : Room := { frames := 1, cells := 0, slots := 0, locals := 21 }
theorem cdX2_hotOf : yX2_hotOf.cls = RX2 ∧ yX2_hotOf.cls ≠ "java/lang/invoke/MethodHandle" ∧ yX2_hotOf.cls ≠ "java/lang/invoke/VarHandle" ∧ (parseMethodDescriptor yX2_hotOf.desc).map (fun d => d.parameters.length) = some 1 := by decide +kernel
set_option maxHeartbeats 4000000 in
set_option maxRecDepth 100000 in
theorem wkX2_hotOf (l : Launch) (D : va_G) (dA : Nat → ClassId) (E : Nat → Nat) (hE : wInj 19 E) (w : Mm) (a1 : Int64) {res : Int64} (hf : M_hotOf w a1 = some res) : Met l yX2_hotOf (ws_ yX2_hotOf cX2_hotOf 3 (some .long)) rmX2_hotOf (Pw D clM (tyM dA) shM 19 dA E [.ref (E 0), .long a1] w) (Qwl D clM shM 19 dA E res w) 0 0 (AE 19 E) := by
  refine xm_head (own := RX2) (by decide) rfl (Nat.le_of_ble_eq_true rfl) ?_
  intro p e s m args below meth c ls Q hQ C hP hl
  obtain ⟨hx, hb, hr, hlocks, hml, hown, hts, hK⟩ := C
  replace hl : lv_has ls 3 [(0, .ref (E 0)), (1, .long a1)] := hl
  have hS : va_S (AE 19 E) s.heap s.heap [] := va_S.rf
  have hD : wD 19 E (AE 19 E) := wD.self hE
  unfold M_hotOf at hf
  obtain ⟨H, eH⟩ : ∃ H, H = s.heap := ⟨_, rfl⟩
  obtain ⟨locs, eL⟩ : ∃ locs : List Loc, locs = [] := ⟨_, rfl⟩
  rw [← eL] at hS ⊢
  rw [← eH] at hP
  have hS : va_S (AE 19 E) s.heap H locs := by rw [eH]; exact hS
  show W p l e rmX2_hotOf s m args below meth c s.heap locs 0 0 Q (F0 m 0 ls [])
  rw [← eH]
  refine lv_lload_n hx hb dX2_hotOf_0 rfl (lv_at hl 1 rfl) ?_
  refine lv_lconst (v := 0) hx hb dX2_hotOf_1 (by decide) ?_
  refine W.lcmp hx hb dX2_hotOf_2 ?_
  refine lv_if_lt (tgt := 28) hx hb dX2_hotOf_3 (by decide) (fun c1 => ?_) (fun c1 => ?_)
  · replace hf := ob_t hf c1
    refine lv_lconst (v := 0) hx hb dX2_hotOf_28 (by decide) ?_
    obtain rfl := ob_s hf
    subst hQ
    exact xe_l hx hb hr hlocks hP hS dX2_hotOf_29
  · replace hf := ob_f hf c1
    refine lv_lload_n hx hb dX2_hotOf_6 rfl (lv_at hl 1 rfl) ?_
    refine lv_aload_n hx hb dX2_hotOf_7 rfl (lv_at hl 0 rfl) ?_
    refine xr_get hx hb hts in_X2 hown hK hP 0 (by decide) rfl rfl 0 (by decide) (hts _ q1405) (fun _ h => h) rfl (v := .ref (E 1)) rfl dX2_hotOf_8 ?_
    refine lv_iconst (v := 0) hx hb dX2_hotOf_11 (by decide) ?_
    refine xr_iald hx hb hK hP 1 (by decide) rfl 0 rfl (j := 0) (vin_c (by decide)) (by decide) dX2_hotOf_12 ?_
    refine lv_i2l hx hb dX2_hotOf_13 rfl ?_
    refine W.lcmp hx hb dX2_hotOf_14 ?_
    refine lv_if_ge (tgt := 28) hx hb dX2_hotOf_15 (by decide) (fun c2 => ?_) (fun c2 => ?_)
    · replace hf := ob_t hf c2
      refine lv_lconst (v := 0) hx hb dX2_hotOf_28 (by decide) ?_
      obtain rfl := ob_s hf
      subst hQ
      exact xe_l hx hb hr hlocks hP hS dX2_hotOf_29
    · replace hf := ob_f hf c2
      refine lv_aload_n hx hb dX2_hotOf_18 rfl (lv_at hl 0 rfl) ?_
      refine lv_lload_n hx hb dX2_hotOf_19 rfl (lv_at hl 1 rfl) ?_
      refine lv_l2i hx hb dX2_hotOf_20 rfl ?_
      obtain ⟨q4, g3, hf⟩ := ob_bind hf
      refine xc_i (xw_run (As := [.int a1.toInt32]) (rest := []) ⟨hx, hb, hml, hown, hts⟩ (k0 := 0) (wkX2_heatOf l D dA E hE w a1.toInt32 g3) (cwV 1 hts (lw_V q1780 q1782 qs102 q140 q1783) rfl rfl rfl cdX2_heatOf ⟨Nat.le_of_ble_eq_true rfl, Nat.le_of_ble_eq_true rfl⟩) hK hP (by decide) rfl rfl rfl hl.1 rfl rfl (Nat.le_of_ble_eq_true rfl) dX2_hotOf_21 ⟨Nat.zero_le _, Nat.zero_le _⟩) hS hD.2 (fun H locs hP hS => ?_)
      refine lv_i2l hx hb dX2_hotOf_24 rfl ?_
      refine lv_goto (tgt := 29) hx hb dX2_hotOf_25 (by decide) ?_
      obtain rfl := ob_s hf
      subst hQ
      exact xe_l hx hb hr hlocks hP hS dX2_hotOf_29
abbrev rmX2_restOf : Room := { frames := 0, cells := 0, slots := 0, locals := 0 }
theorem cdX2_restOf : yX2_restOf.cls = RX2 ∧ yX2_restOf.cls ≠ "java/lang/invoke/MethodHandle" ∧ yX2_restOf.cls ≠ "java/lang/invoke/VarHandle" ∧ (parseMethodDescriptor yX2_restOf.desc).map (fun d => d.parameters.length) = some 2 := by decide +kernel
set_option maxHeartbeats 4000000 in
set_option maxRecDepth 100000 in
theorem wkX2_restOf (l : Launch) (D : va_G) (dA : Nat → ClassId) (E : Nat → Nat) (hE : wInj 19 E) (w : Mm) (a0 : Int64) (a2 : Int64) {res : Int64} (hf : M_restOf a0 a2 = some res) : Met l yX2_restOf (ws_ yX2_restOf cX2_restOf 4 (some .long)) rmX2_restOf (Pw D clM (tyM dA) shM 19 dA E [.long a0, .long a2] w) (Qwl D clM shM 19 dA E res w) 0 0 (AE 19 E) := by
  refine xm_head (own := RX2) (by decide) rfl (Nat.le_of_ble_eq_true rfl) ?_
  intro p e s m args below meth c ls Q hQ C hP hl
  obtain ⟨hx, hb, hr, hlocks, hml, hown, hts, hK⟩ := C
  replace hl : lv_has ls 4 [(0, .long a0), (2, .long a2)] := hl
  have hS : va_S (AE 19 E) s.heap s.heap [] := va_S.rf
  have hD : wD 19 E (AE 19 E) := wD.self hE
  unfold M_restOf at hf
  obtain ⟨H, eH⟩ : ∃ H, H = s.heap := ⟨_, rfl⟩
  obtain ⟨locs, eL⟩ : ∃ locs : List Loc, locs = [] := ⟨_, rfl⟩
  rw [← eL] at hS ⊢
  rw [← eH] at hP
  have hS : va_S (AE 19 E) s.heap H locs := by rw [eH]; exact hS
  show W p l e rmX2_restOf s m args below meth c s.heap locs 0 0 Q (F0 m 0 ls [])
  rw [← eH]
  refine lv_lload_n hx hb dX2_restOf_0 rfl (lv_at hl 1 rfl) ?_
  refine lv_lconst (v := 0) hx hb dX2_restOf_1 (by decide) ?_
  refine W.lcmp hx hb dX2_restOf_2 ?_
  refine lv_if_ne (tgt := 10) hx hb dX2_restOf_3 (by decide) (fun c1 => ?_) (fun c1 => ?_)
  · replace hf := ob_f hf c1
    refine lv_lload_n hx hb dX2_restOf_10 rfl (lv_at hl 0 rfl) ?_
    refine lv_lconst (v := 0) hx hb dX2_restOf_11 (by decide) ?_
    refine W.lcmp hx hb dX2_restOf_12 ?_
    have kj22 : ∀ (t2 : Int64) (H : Heap) (locs : List Loc) (ls : Array Slot), M_restOf_j22 a2 t2 = some res → va_P D clM (wl shM 19 dA E w) H → va_S (AE 19 E) s.heap H locs → lv_has ls 4 [(2, .long a2)] → W p l e rmX2_restOf s m args below meth c H locs 0 0 Q (F0 m 22 ls [.long t2]) := by
      intro t2 H locs ls hf hP hS hl
      unfold M_restOf_j22 at hf
      refine lv_lload_n hx hb dX2_restOf_22 rfl (lv_at hl 0 rfl) ?_
      refine lv_lconst (v := 0) hx hb dX2_restOf_23 (by decide) ?_
      refine W.lcmp hx hb dX2_restOf_24 ?_
      refine lv_if_ge (tgt := 33) hx hb dX2_restOf_25 (by decide) (fun c3 => ?_) (fun c3 => ?_)
      · replace hf := ob_t hf c3
        refine lv_lload_n hx hb dX2_restOf_33 rfl (lv_at hl 0 rfl) ?_
        obtain ⟨h4, hf⟩ := ob_gzL hf
        refine xr_lrem hx hb dX2_restOf_34 h4 ?_
        obtain rfl := ob_s hf
        subst hQ
        exact xe_l hx hb hr hlocks hP hS dX2_restOf_35
      · replace hf := ob_f hf c3
        refine lv_lload_n hx hb dX2_restOf_28 rfl (lv_at hl 0 rfl) ?_
        refine lv_lneg hx hb dX2_restOf_29 ?_
        refine lv_goto (tgt := 34) hx hb dX2_restOf_30 (by decide) ?_
        obtain ⟨h5, hf⟩ := ob_gzL hf
        refine xr_lrem hx hb dX2_restOf_34 h5 ?_
        obtain rfl := ob_s hf
        subst hQ
        exact xe_l hx hb hr hlocks hP hS dX2_restOf_35
    refine lv_if_ge (tgt := 21) hx hb dX2_restOf_13 (by decide) (fun c6 => ?_) (fun c6 => ?_)
    · replace hf := ob_t hf c6
      refine lv_lload_n hx hb dX2_restOf_21 rfl (lv_at hl 0 rfl) ?_
      exact kj22 a0 H locs ls hf hP hS (lv_sub hl [1] rfl)
    · replace hf := ob_f hf c6
      refine lv_lload_n hx hb dX2_restOf_16 rfl (lv_at hl 0 rfl) ?_
      refine lv_lneg hx hb dX2_restOf_17 ?_
      refine lv_goto (tgt := 22) hx hb dX2_restOf_18 (by decide) ?_
      exact kj22 (-a0) H locs ls hf hP hS (lv_sub hl [1] rfl)
  · replace hf := ob_t hf c1
    refine lv_lconst (v := 0) hx hb dX2_restOf_6 (by decide) ?_
    refine lv_goto (tgt := 35) hx hb dX2_restOf_7 (by decide) ?_
    obtain rfl := ob_s hf
    subst hQ
    exact xe_l hx hb hr hlocks hP hS dX2_restOf_35
abbrev rmX2_clip : Room := { frames := 0, cells := 0, slots := 0, locals := 0 }
theorem cdX2_clip : yX2_clip.cls = RX2 ∧ yX2_clip.cls ≠ "java/lang/invoke/MethodHandle" ∧ yX2_clip.cls ≠ "java/lang/invoke/VarHandle" ∧ (parseMethodDescriptor yX2_clip.desc).map (fun d => d.parameters.length) = some 1 := by decide +kernel
set_option maxHeartbeats 4000000 in
set_option maxRecDepth 100000 in
theorem wkX2_clip (l : Launch) (D : va_G) (dA : Nat → ClassId) (E : Nat → Nat) (hE : wInj 19 E) (w : Mm) (a0 : Int64) {res : Int64} (hf : M_clip a0 = some res) : Met l yX2_clip (ws_ yX2_clip cX2_clip 2 (some .long)) rmX2_clip (Pw D clM (tyM dA) shM 19 dA E [.long a0] w) (Qwl D clM shM 19 dA E res w) 0 0 (AE 19 E) := by
  refine xm_head (own := RX2) (by decide) rfl (Nat.le_of_ble_eq_true rfl) ?_
  intro p e s m args below meth c ls Q hQ C hP hl
  obtain ⟨hx, hb, hr, hlocks, hml, hown, hts, hK⟩ := C
  replace hl : lv_has ls 2 [(0, .long a0)] := hl
  have hS : va_S (AE 19 E) s.heap s.heap [] := va_S.rf
  have hD : wD 19 E (AE 19 E) := wD.self hE
  unfold M_clip at hf
  obtain ⟨H, eH⟩ : ∃ H, H = s.heap := ⟨_, rfl⟩
  obtain ⟨locs, eL⟩ : ∃ locs : List Loc, locs = [] := ⟨_, rfl⟩
  rw [← eL] at hS ⊢
  rw [← eH] at hP
  have hS : va_S (AE 19 E) s.heap H locs := by rw [eH]; exact hS
  show W p l e rmX2_clip s m args below meth c s.heap locs 0 0 Q (F0 m 0 ls [])
  rw [← eH]
  refine lv_lload_n hx hb dX2_clip_0 rfl (lv_at hl 0 rfl) ?_
  refine lv_ldc2 (v := (1000000 : Int64)) hx hb hown (hts _ q1809) dX2_clip_1 ?_
  refine W.lcmp hx hb dX2_clip_4 ?_
  refine lv_if_le (tgt := 14) hx hb dX2_clip_5 (by decide) (fun c1 => ?_) (fun c1 => ?_)
  · replace hf := ob_t hf c1
    refine lv_lload_n hx hb dX2_clip_14 rfl (lv_at hl 0 rfl) ?_
    refine lv_ldc2 (v := ((-1000000) : Int64)) hx hb hown (hts _ q1810) dX2_clip_15 ?_
    refine W.lcmp hx hb dX2_clip_18 ?_
    refine lv_if_ge (tgt := 28) hx hb dX2_clip_19 (by decide) (fun c2 => ?_) (fun c2 => ?_)
    · replace hf := ob_t hf c2
      refine lv_lload_n hx hb dX2_clip_28 rfl (lv_at hl 0 rfl) ?_
      obtain rfl := ob_s hf
      subst hQ
      exact xe_l hx hb hr hlocks hP hS dX2_clip_29
    · replace hf := ob_f hf c2
      refine lv_ldc2 (v := ((-1000000) : Int64)) hx hb hown (hts _ q1810) dX2_clip_22 ?_
      refine lv_goto (tgt := 29) hx hb dX2_clip_25 (by decide) ?_
      obtain rfl := ob_s hf
      subst hQ
      exact xe_l hx hb hr hlocks hP hS dX2_clip_29
  · replace hf := ob_f hf c1
    refine lv_ldc2 (v := (1000000 : Int64)) hx hb hown (hts _ q1809) dX2_clip_8 ?_
    refine lv_goto (tgt := 29) hx hb dX2_clip_11 (by decide) ?_
    obtain rfl := ob_s hf
    subst hQ
    exact xe_l hx hb hr hlocks hP hS dX2_clip_29
abbrev rmX2_two : Room := { frames := 1, cells := 0, slots := 0, locals := 21 }
theorem cdX2_two : yX2_two.cls = RX2 ∧ yX2_two.cls ≠ "java/lang/invoke/MethodHandle" ∧ yX2_two.cls ≠ "java/lang/invoke/VarHandle" ∧ (parseMethodDescriptor yX2_two.desc).map (fun d => d.parameters.length) = some 3 := by decide +kernel
set_option maxHeartbeats 4000000 in
set_option maxRecDepth 100000 in
theorem wkX2_two (l : Launch) (D : va_G) (dA : Nat → ClassId) (E : Nat → Nat) (hE : wInj 19 E) (w : Mm) (a0 : Int32) (a1 : Int64) (a3 : Int64) {res : Int64} (hf : M_two a0 a1 a3 = some res) : Met l yX2_two (ws_ yX2_two cX2_two 5 (some .long)) rmX2_two (Pw D clM (tyM dA) shM 19 dA E [.int a0, .long a1, .long a3] w) (Qwl D clM shM 19 dA E res w) 0 0 (AE 19 E) := by
  refine xm_head (own := RX2) (by decide) rfl (Nat.le_of_ble_eq_true rfl) ?_
  intro p e s m args below meth c ls Q hQ C hP hl
  obtain ⟨hx, hb, hr, hlocks, hml, hown, hts, hK⟩ := C
  replace hl : lv_has ls 5 [(0, .int a0), (1, .long a1), (3, .long a3)] := hl
  have hS : va_S (AE 19 E) s.heap s.heap [] := va_S.rf
  have hD : wD 19 E (AE 19 E) := wD.self hE
  unfold M_two at hf
  obtain ⟨H, eH⟩ : ∃ H, H = s.heap := ⟨_, rfl⟩
  obtain ⟨locs, eL⟩ : ∃ locs : List Loc, locs = [] := ⟨_, rfl⟩
  rw [← eL] at hS ⊢
  rw [← eH] at hP
  have hS : va_S (AE 19 E) s.heap H locs := by rw [eH]; exact hS
  show W p l e rmX2_two s m args below meth c s.heap locs 0 0 Q (F0 m 0 ls [])
  rw [← eH]
  refine lv_iload_n hx hb dX2_two_0 rfl (lv_at hl 0 rfl) ?_
  by_cases c1 : a0 = 6
  · replace hf := ob_t hf c1
    refine lv_tableIn (tgt := 28) (off := 27) hx hb dX2_two_1 (by rw [c1]; decide) (by rw [c1]; decide) (by rw [c1]; rfl) (by decide) ?_
    refine lv_lload_n hx hb dX2_two_28 rfl (lv_at hl 1 rfl) ?_
    refine lv_lload_n hx hb dX2_two_29 rfl (lv_at hl 2 rfl) ?_
    refine lv_ladd hx hb dX2_two_30 ?_
    obtain ⟨q3, g2, hf⟩ := ob_bind hf
    refine xc_l (xw_runS (As := [.long (a1 + a3)]) (rest := []) ⟨hx, hb, hml, hown, hts⟩ (wkX2_clip l D dA E hE w (a1 + a3) g2) (va_cwS 1 hts (lw_S q1806 q1807 q140 q1808) rfl rfl rfl cdX2_clip.2 ⟨Nat.le_of_ble_eq_true rfl, Nat.le_of_ble_eq_true rfl⟩) hK hP hl.1 rfl rfl (Nat.le_of_ble_eq_true rfl) dX2_two_31 ⟨Nat.zero_le _, Nat.zero_le _⟩) hS hD.2 (fun H locs hP hS => ?_)
    obtain rfl := ob_s hf
    subst hQ
    exact xe_l hx hb hr hlocks hP hS dX2_two_34
  · replace hf := ob_f hf c1
    by_cases c4 : a0 = 7
    · replace hf := ob_t hf c4
      refine lv_tableIn (tgt := 35) (off := 34) hx hb dX2_two_1 (by rw [c4]; decide) (by rw [c4]; decide) (by rw [c4]; rfl) (by decide) ?_
      refine lv_lload_n hx hb dX2_two_35 rfl (lv_at hl 1 rfl) ?_
      refine lv_lload_n hx hb dX2_two_36 rfl (lv_at hl 2 rfl) ?_
      refine lv_lsub hx hb dX2_two_37 ?_
      obtain ⟨q6, g5, hf⟩ := ob_bind hf
      refine xc_l (xw_runS (As := [.long (a1 - a3)]) (rest := []) ⟨hx, hb, hml, hown, hts⟩ (wkX2_clip l D dA E hE w (a1 - a3) g5) (va_cwS 1 hts (lw_S q1806 q1807 q140 q1808) rfl rfl rfl cdX2_clip.2 ⟨Nat.le_of_ble_eq_true rfl, Nat.le_of_ble_eq_true rfl⟩) hK hP hl.1 rfl rfl (Nat.le_of_ble_eq_true rfl) dX2_two_38 ⟨Nat.zero_le _, Nat.zero_le _⟩) hS hD.2 (fun H locs hP hS => ?_)
      obtain rfl := ob_s hf
      subst hQ
      exact xe_l hx hb hr hlocks hP hS dX2_two_41
    · replace hf := ob_f hf c4
      by_cases c7 : a0 = 8
      · replace hf := ob_t hf c7
        refine lv_tableIn (tgt := 42) (off := 41) hx hb dX2_two_1 (by rw [c7]; decide) (by rw [c7]; decide) (by rw [c7]; rfl) (by decide) ?_
        refine lv_lload_n hx hb dX2_two_42 rfl (lv_at hl 1 rfl) ?_
        refine lv_lload_n hx hb dX2_two_43 rfl (lv_at hl 2 rfl) ?_
        refine lv_lmul hx hb dX2_two_44 ?_
        obtain ⟨q9, g8, hf⟩ := ob_bind hf
        refine xc_l (xw_runS (As := [.long (a1 * a3)]) (rest := []) ⟨hx, hb, hml, hown, hts⟩ (wkX2_clip l D dA E hE w (a1 * a3) g8) (va_cwS 1 hts (lw_S q1806 q1807 q140 q1808) rfl rfl rfl cdX2_clip.2 ⟨Nat.le_of_ble_eq_true rfl, Nat.le_of_ble_eq_true rfl⟩) hK hP hl.1 rfl rfl (Nat.le_of_ble_eq_true rfl) dX2_two_45 ⟨Nat.zero_le _, Nat.zero_le _⟩) hS hD.2 (fun H locs hP hS => ?_)
        obtain rfl := ob_s hf
        subst hQ
        exact xe_l hx hb hr hlocks hP hS dX2_two_48
      · replace hf := ob_f hf c7
        refine xr_tswD (tgt := 49) (vs := [6, 7, 8]) hx hb dX2_two_1 (List.forall_mem_cons.mpr ⟨c1, List.forall_mem_cons.mpr ⟨c4, List.forall_mem_cons.mpr ⟨c7, fun _ h => absurd h List.not_mem_nil⟩⟩⟩) (by decide +kernel) (by decide) ?_
        refine lv_lload_n hx hb dX2_two_49 rfl (lv_at hl 2 rfl) ?_
        refine lv_lconst (v := 0) hx hb dX2_two_50 (by decide) ?_
        refine W.lcmp hx hb dX2_two_51 ?_
        refine lv_if_ne (tgt := 59) hx hb dX2_two_52 (by decide) (fun c10 => ?_) (fun c10 => ?_)
        · replace hf := ob_f hf c10
          refine lv_lload_n hx hb dX2_two_59 rfl (lv_at hl 1 rfl) ?_
          refine lv_lload_n hx hb dX2_two_60 rfl (lv_at hl 2 rfl) ?_
          obtain ⟨h11, hf⟩ := ob_gzL hf
          refine lv_ldiv hx hb dX2_two_61 h11 ?_
          obtain ⟨q13, g12, hf⟩ := ob_bind hf
          refine xc_l (xw_runS (As := [.long (a1 / a3)]) (rest := []) ⟨hx, hb, hml, hown, hts⟩ (wkX2_clip l D dA E hE w (a1 / a3) g12) (va_cwS 1 hts (lw_S q1806 q1807 q140 q1808) rfl rfl rfl cdX2_clip.2 ⟨Nat.le_of_ble_eq_true rfl, Nat.le_of_ble_eq_true rfl⟩) hK hP hl.1 rfl rfl (Nat.le_of_ble_eq_true rfl) dX2_two_62 ⟨Nat.zero_le _, Nat.zero_le _⟩) hS hD.2 (fun H locs hP hS => ?_)
          obtain rfl := ob_s hf
          subst hQ
          exact xe_l hx hb hr hlocks hP hS dX2_two_65
        · replace hf := ob_t hf c10
          refine lv_lconst (v := 0) hx hb dX2_two_55 (by decide) ?_
          refine lv_goto (tgt := 65) hx hb dX2_two_56 (by decide) ?_
          obtain rfl := ob_s hf
          subst hQ
          exact xe_l hx hb hr hlocks hP hS dX2_two_65
abbrev rmX2_isAsked : Room := { frames := 0, cells := 0, slots := 0, locals := 0 }
theorem cdX2_isAsked : yX2_isAsked.cls = RX2 ∧ yX2_isAsked.cls ≠ "java/lang/invoke/MethodHandle" ∧ yX2_isAsked.cls ≠ "java/lang/invoke/VarHandle" ∧ (parseMethodDescriptor yX2_isAsked.desc).map (fun d => d.parameters.length) = some 3 := by decide +kernel
set_option maxHeartbeats 4000000 in
set_option maxRecDepth 100000 in
theorem wkX2_isAsked (l : Launch) (D : va_G) (dA : Nat → ClassId) (E : Nat → Nat) (hE : wInj 19 E) (w : Mm) (a0 : Int32) (a1 : Int64) (a3 : Int64) {res : Int32} (hf : M_isAsked a0 a1 a3 = some res) : Met l yX2_isAsked (ws_ yX2_isAsked cX2_isAsked 5 (some .boolean)) rmX2_isAsked (Pw D clM (tyM dA) shM 19 dA E [.int a0, .long a1, .long a3] w) (Qwz D clM shM 19 dA E res w) 0 0 (AE 19 E) := by
  refine xm_head (own := RX2) (by decide) rfl (Nat.le_of_ble_eq_true rfl) ?_
  intro p e s m args below meth c ls Q hQ C hP hl
  obtain ⟨hx, hb, hr, hlocks, hml, hown, hts, hK⟩ := C
  replace hl : lv_has ls 5 [(0, .int a0), (1, .long a1), (3, .long a3)] := hl
  have hS : va_S (AE 19 E) s.heap s.heap [] := va_S.rf
  have hD : wD 19 E (AE 19 E) := wD.self hE
  unfold M_isAsked at hf
  obtain ⟨H, eH⟩ : ∃ H, H = s.heap := ⟨_, rfl⟩
  obtain ⟨locs, eL⟩ : ∃ locs : List Loc, locs = [] := ⟨_, rfl⟩
  rw [← eL] at hS ⊢
  rw [← eH] at hP
  have hS : va_S (AE 19 E) s.heap H locs := by rw [eH]; exact hS
  show W p l e rmX2_isAsked s m args below meth c s.heap locs 0 0 Q (F0 m 0 ls [])
  rw [← eH]
  refine lv_iload_n hx hb dX2_isAsked_0 rfl (lv_at hl 0 rfl) ?_
  refine lv_bipush (v := 10) hx hb dX2_isAsked_1 (by decide) ?_
  refine lv_icmp_ne (tgt := 20) hx hb dX2_isAsked_3 (by decide) (fun c1 => ?_) (fun c1 => ?_)
  · replace hf := ob_f hf c1
    refine lv_iload_n hx hb dX2_isAsked_20 rfl (lv_at hl 0 rfl) ?_
    refine lv_bipush (v := 11) hx hb dX2_isAsked_21 (by decide) ?_
    refine lv_icmp_ne (tgt := 40) hx hb dX2_isAsked_23 (by decide) (fun c2 => ?_) (fun c2 => ?_)
    · replace hf := ob_f hf c2
      refine lv_iload_n hx hb dX2_isAsked_40 rfl (lv_at hl 0 rfl) ?_
      refine lv_bipush (v := 12) hx hb dX2_isAsked_41 (by decide) ?_
      refine lv_icmp_ne (tgt := 60) hx hb dX2_isAsked_43 (by decide) (fun c3 => ?_) (fun c3 => ?_)
      · replace hf := ob_f hf c3
        refine lv_iload_n hx hb dX2_isAsked_60 rfl (lv_at hl 0 rfl) ?_
        refine lv_bipush (v := 13) hx hb dX2_isAsked_61 (by decide) ?_
        refine lv_icmp_ne (tgt := 80) hx hb dX2_isAsked_63 (by decide) (fun c4 => ?_) (fun c4 => ?_)
        · replace hf := ob_f hf c4
          refine lv_iload_n hx hb dX2_isAsked_80 rfl (lv_at hl 0 rfl) ?_
          refine lv_bipush (v := 14) hx hb dX2_isAsked_81 (by decide) ?_
          refine lv_icmp_ne (tgt := 100) hx hb dX2_isAsked_83 (by decide) (fun c5 => ?_) (fun c5 => ?_)
          · replace hf := ob_f hf c5
            refine lv_lload_n hx hb dX2_isAsked_100 rfl (lv_at hl 1 rfl) ?_
            refine lv_lload_n hx hb dX2_isAsked_101 rfl (lv_at hl 2 rfl) ?_
            refine W.lcmp hx hb dX2_isAsked_102 ?_
            refine lv_if_eq (tgt := 110) hx hb dX2_isAsked_103 (by decide) (fun c6 => ?_) (fun c6 => ?_)
            · replace hf := ob_t hf c6
              refine lv_iconst (v := 0) hx hb dX2_isAsked_110 (by decide) ?_
              obtain rfl := ob_s hf
              subst hQ
              exact xe_z hx hb hr hlocks hP hS (Or.inl rfl) dX2_isAsked_111
            · replace hf := ob_f hf c6
              refine lv_iconst (v := 1) hx hb dX2_isAsked_106 (by decide) ?_
              refine lv_goto (tgt := 111) hx hb dX2_isAsked_107 (by decide) ?_
              obtain rfl := ob_s hf
              subst hQ
              exact xe_z hx hb hr hlocks hP hS (Or.inr rfl) dX2_isAsked_111
          · replace hf := ob_t hf c5
            refine lv_lload_n hx hb dX2_isAsked_86 rfl (lv_at hl 1 rfl) ?_
            refine lv_lload_n hx hb dX2_isAsked_87 rfl (lv_at hl 2 rfl) ?_
            refine W.lcmp hx hb dX2_isAsked_88 ?_
            refine lv_if_ne (tgt := 96) hx hb dX2_isAsked_89 (by decide) (fun c7 => ?_) (fun c7 => ?_)
            · replace hf := ob_f hf c7
              refine lv_iconst (v := 0) hx hb dX2_isAsked_96 (by decide) ?_
              refine lv_goto (tgt := 111) hx hb dX2_isAsked_97 (by decide) ?_
              obtain rfl := ob_s hf
              subst hQ
              exact xe_z hx hb hr hlocks hP hS (Or.inl rfl) dX2_isAsked_111
            · replace hf := ob_t hf c7
              refine lv_iconst (v := 1) hx hb dX2_isAsked_92 (by decide) ?_
              refine lv_goto (tgt := 111) hx hb dX2_isAsked_93 (by decide) ?_
              obtain rfl := ob_s hf
              subst hQ
              exact xe_z hx hb hr hlocks hP hS (Or.inr rfl) dX2_isAsked_111
        · replace hf := ob_t hf c4
          refine lv_lload_n hx hb dX2_isAsked_66 rfl (lv_at hl 1 rfl) ?_
          refine lv_lload_n hx hb dX2_isAsked_67 rfl (lv_at hl 2 rfl) ?_
          refine W.lcmp hx hb dX2_isAsked_68 ?_
          refine lv_if_lt (tgt := 76) hx hb dX2_isAsked_69 (by decide) (fun c8 => ?_) (fun c8 => ?_)
          · replace hf := ob_t hf c8
            refine lv_iconst (v := 0) hx hb dX2_isAsked_76 (by decide) ?_
            refine lv_goto (tgt := 111) hx hb dX2_isAsked_77 (by decide) ?_
            obtain rfl := ob_s hf
            subst hQ
            exact xe_z hx hb hr hlocks hP hS (Or.inl rfl) dX2_isAsked_111
          · replace hf := ob_f hf c8
            refine lv_iconst (v := 1) hx hb dX2_isAsked_72 (by decide) ?_
            refine lv_goto (tgt := 111) hx hb dX2_isAsked_73 (by decide) ?_
            obtain rfl := ob_s hf
            subst hQ
            exact xe_z hx hb hr hlocks hP hS (Or.inr rfl) dX2_isAsked_111
      · replace hf := ob_t hf c3
        refine lv_lload_n hx hb dX2_isAsked_46 rfl (lv_at hl 1 rfl) ?_
        refine lv_lload_n hx hb dX2_isAsked_47 rfl (lv_at hl 2 rfl) ?_
        refine W.lcmp hx hb dX2_isAsked_48 ?_
        refine lv_if_le (tgt := 56) hx hb dX2_isAsked_49 (by decide) (fun c9 => ?_) (fun c9 => ?_)
        · replace hf := ob_t hf c9
          refine lv_iconst (v := 0) hx hb dX2_isAsked_56 (by decide) ?_
          refine lv_goto (tgt := 111) hx hb dX2_isAsked_57 (by decide) ?_
          obtain rfl := ob_s hf
          subst hQ
          exact xe_z hx hb hr hlocks hP hS (Or.inl rfl) dX2_isAsked_111
        · replace hf := ob_f hf c9
          refine lv_iconst (v := 1) hx hb dX2_isAsked_52 (by decide) ?_
          refine lv_goto (tgt := 111) hx hb dX2_isAsked_53 (by decide) ?_
          obtain rfl := ob_s hf
          subst hQ
          exact xe_z hx hb hr hlocks hP hS (Or.inr rfl) dX2_isAsked_111
    · replace hf := ob_t hf c2
      refine lv_lload_n hx hb dX2_isAsked_26 rfl (lv_at hl 1 rfl) ?_
      refine lv_lload_n hx hb dX2_isAsked_27 rfl (lv_at hl 2 rfl) ?_
      refine W.lcmp hx hb dX2_isAsked_28 ?_
      refine lv_if_gt (tgt := 36) hx hb dX2_isAsked_29 (by decide) (fun c10 => ?_) (fun c10 => ?_)
      · replace hf := ob_t hf c10
        refine lv_iconst (v := 0) hx hb dX2_isAsked_36 (by decide) ?_
        refine lv_goto (tgt := 111) hx hb dX2_isAsked_37 (by decide) ?_
        obtain rfl := ob_s hf
        subst hQ
        exact xe_z hx hb hr hlocks hP hS (Or.inl rfl) dX2_isAsked_111
      · replace hf := ob_f hf c10
        refine lv_iconst (v := 1) hx hb dX2_isAsked_32 (by decide) ?_
        refine lv_goto (tgt := 111) hx hb dX2_isAsked_33 (by decide) ?_
        obtain rfl := ob_s hf
        subst hQ
        exact xe_z hx hb hr hlocks hP hS (Or.inr rfl) dX2_isAsked_111
  · replace hf := ob_t hf c1
    refine lv_lload_n hx hb dX2_isAsked_6 rfl (lv_at hl 1 rfl) ?_
    refine lv_lload_n hx hb dX2_isAsked_7 rfl (lv_at hl 2 rfl) ?_
    refine W.lcmp hx hb dX2_isAsked_8 ?_
    refine lv_if_ge (tgt := 16) hx hb dX2_isAsked_9 (by decide) (fun c11 => ?_) (fun c11 => ?_)
    · replace hf := ob_t hf c11
      refine lv_iconst (v := 0) hx hb dX2_isAsked_16 (by decide) ?_
      refine lv_goto (tgt := 111) hx hb dX2_isAsked_17 (by decide) ?_
      obtain rfl := ob_s hf
      subst hQ
      exact xe_z hx hb hr hlocks hP hS (Or.inl rfl) dX2_isAsked_111
    · replace hf := ob_f hf c11
      refine lv_iconst (v := 1) hx hb dX2_isAsked_12 (by decide) ?_
      refine lv_goto (tgt := 111) hx hb dX2_isAsked_13 (by decide) ?_
      obtain rfl := ob_s hf
      subst hQ
      exact xe_z hx hb hr hlocks hP hS (Or.inr rfl) dX2_isAsked_111
abbrev rmX2_joined : Room := { frames := 0, cells := 0, slots := 0, locals := 0 }
theorem cdX2_joined : yX2_joined.cls = RX2 ∧ yX2_joined.cls ≠ "java/lang/invoke/MethodHandle" ∧ yX2_joined.cls ≠ "java/lang/invoke/VarHandle" ∧ (parseMethodDescriptor yX2_joined.desc).map (fun d => d.parameters.length) = some 3 := by decide +kernel
set_option maxHeartbeats 4000000 in
set_option maxRecDepth 100000 in
theorem wkX2_joined (l : Launch) (D : va_G) (dA : Nat → ClassId) (E : Nat → Nat) (hE : wInj 19 E) (w : Mm) (a0 : Int32) (a1 : Int32) (a2 : Int32) {res : Int32} (hf : M_joined a0 a1 a2 = some res) : Met l yX2_joined (ws_ yX2_joined cX2_joined 3 (some .boolean)) rmX2_joined (Pw D clM (tyM dA) shM 19 dA E [.int a0, .int a1, .int a2] w) (Qwz D clM shM 19 dA E res w) 0 0 (AE 19 E) := by
  refine xm_head (own := RX2) (by decide) rfl (Nat.le_of_ble_eq_true rfl) ?_
  intro p e s m args below meth c ls Q hQ C hP hl
  obtain ⟨hx, hb, hr, hlocks, hml, hown, hts, hK⟩ := C
  replace hl : lv_has ls 3 [(0, .int a0), (1, .int a1), (2, .int a2)] := hl
  have hS : va_S (AE 19 E) s.heap s.heap [] := va_S.rf
  have hD : wD 19 E (AE 19 E) := wD.self hE
  unfold M_joined at hf
  obtain ⟨H, eH⟩ : ∃ H, H = s.heap := ⟨_, rfl⟩
  obtain ⟨locs, eL⟩ : ∃ locs : List Loc, locs = [] := ⟨_, rfl⟩
  rw [← eL] at hS ⊢
  rw [← eH] at hP
  have hS : va_S (AE 19 E) s.heap H locs := by rw [eH]; exact hS
  show W p l e rmX2_joined s m args below meth c s.heap locs 0 0 Q (F0 m 0 ls [])
  rw [← eH]
  refine lv_iload_n hx hb dX2_joined_0 rfl (lv_at hl 0 rfl) ?_
  refine lv_bipush (v := 21) hx hb dX2_joined_1 (by decide) ?_
  refine lv_icmp_ne (tgt := 22) hx hb dX2_joined_3 (by decide) (fun c1 => ?_) (fun c1 => ?_)
  · replace hf := ob_f hf c1
    refine lv_iload_n hx hb dX2_joined_22 rfl (lv_at hl 1 rfl) ?_
    have kj30 : ∀ (H : Heap) (locs : List Loc) (ls : Array Slot), M_joined_j30 = some res → va_P D clM (wl shM 19 dA E w) H → va_S (AE 19 E) s.heap H locs → lv_has ls 3 [] → W p l e rmX2_joined s m args below meth c H locs 0 0 Q (F0 m 30 ls []) := by
      intro H locs ls hf hP hS hl
      unfold M_joined_j30 at hf
      refine lv_iconst (v := 1) hx hb dX2_joined_30 (by decide) ?_
      refine lv_goto (tgt := 35) hx hb dX2_joined_31 (by decide) ?_
      obtain rfl := ob_s hf
      subst hQ
      exact xe_z hx hb hr hlocks hP hS (Or.inr rfl) dX2_joined_35
    refine lv_if_ne (tgt := 30) hx hb dX2_joined_23 (by decide) (fun c2 => ?_) (fun c2 => ?_)
    · replace hf := ob_f hf c2
      exact kj30 H locs ls hf hP hS (lv_sub hl [] rfl)
    · replace hf := ob_t hf c2
      refine lv_iload_n hx hb dX2_joined_26 rfl (lv_at hl 2 rfl) ?_
      refine lv_if_eq (tgt := 34) hx hb dX2_joined_27 (by decide) (fun c3 => ?_) (fun c3 => ?_)
      · replace hf := ob_t hf c3
        refine lv_iconst (v := 0) hx hb dX2_joined_34 (by decide) ?_
        obtain rfl := ob_s hf
        subst hQ
        exact xe_z hx hb hr hlocks hP hS (Or.inl rfl) dX2_joined_35
      · replace hf := ob_f hf c3
        exact kj30 H locs ls hf hP hS (lv_sub hl [] rfl)
  · replace hf := ob_t hf c1
    refine lv_iload_n hx hb dX2_joined_6 rfl (lv_at hl 1 rfl) ?_
    have kj18 : ∀ (H : Heap) (locs : List Loc) (ls : Array Slot), M_joined_j18 = some res → va_P D clM (wl shM 19 dA E w) H → va_S (AE 19 E) s.heap H locs → lv_has ls 3 [] → W p l e rmX2_joined s m args below meth c H locs 0 0 Q (F0 m 18 ls []) := by
      intro H locs ls hf hP hS hl
      unfold M_joined_j18 at hf
      refine lv_iconst (v := 0) hx hb dX2_joined_18 (by decide) ?_
      refine lv_goto (tgt := 35) hx hb dX2_joined_19 (by decide) ?_
      obtain rfl := ob_s hf
      subst hQ
      exact xe_z hx hb hr hlocks hP hS (Or.inl rfl) dX2_joined_35
    refine lv_if_eq (tgt := 18) hx hb dX2_joined_7 (by decide) (fun c4 => ?_) (fun c4 => ?_)
    · replace hf := ob_t hf c4
      exact kj18 H locs ls hf hP hS (lv_sub hl [] rfl)
    · replace hf := ob_f hf c4
      refine lv_iload_n hx hb dX2_joined_10 rfl (lv_at hl 2 rfl) ?_
      refine lv_if_eq (tgt := 18) hx hb dX2_joined_11 (by decide) (fun c5 => ?_) (fun c5 => ?_)
      · replace hf := ob_t hf c5
        exact kj18 H locs ls hf hP hS (lv_sub hl [] rfl)
      · replace hf := ob_f hf c5
        refine lv_iconst (v := 1) hx hb dX2_joined_14 (by decide) ?_
        refine lv_goto (tgt := 35) hx hb dX2_joined_15 (by decide) ?_
        obtain rfl := ob_s hf
        subst hQ
        exact xe_z hx hb hr hlocks hP hS (Or.inr rfl) dX2_joined_35
abbrev rmX2_summedUp : Room := { frames := 2, cells := 0, slots := 0, locals := 45 }
theorem cdX2_summedUp : yX2_summedUp.cls = RX2 ∧ yX2_summedUp.cls ≠ "java/lang/invoke/MethodHandle" ∧ yX2_summedUp.cls ≠ "java/lang/invoke/VarHandle" ∧ (parseMethodDescriptor yX2_summedUp.desc).map (fun d => d.parameters.length) = some 2 := by decide +kernel
set_option maxHeartbeats 4000000 in
set_option maxRecDepth 100000 in
theorem wkX2_summedUp (l : Launch) (D : va_G) (dA : Nat → ClassId) (E : Nat → Nat) (hE : wInj 19 E) (w : Mm) (a1 : Int32) (a2 : Int32) {res : Int64 × Mm} (hf : M_summedUp w a1 a2 = some res) : Met l yX2_summedUp (ws_ yX2_summedUp cX2_summedUp 10 (some .long)) rmX2_summedUp (Pw D clM (tyM dA) shM 19 dA E [.ref (E 0), .int a1, .int a2] w) (Qwl D clM shM 19 dA E res.1 res.2) 0 0 (AE 19 E) := by
  refine xm_head (own := RX2) (by decide) rfl (Nat.le_of_ble_eq_true rfl) ?_
  intro p e s m args below meth c ls Q hQ C hP hl
  obtain ⟨hx, hb, hr, hlocks, hml, hown, hts, hK⟩ := C
  replace hl : lv_has ls 10 [(0, .ref (E 0)), (1, .int a1), (2, .int a2)] := hl
  have hS : va_S (AE 19 E) s.heap s.heap [] := va_S.rf
  have hD : wD 19 E (AE 19 E) := wD.self hE
  unfold M_summedUp at hf
  obtain ⟨H, eH⟩ : ∃ H, H = s.heap := ⟨_, rfl⟩
  obtain ⟨locs, eL⟩ : ∃ locs : List Loc, locs = [] := ⟨_, rfl⟩
  rw [← eL] at hS ⊢
  rw [← eH] at hP
  have hS : va_S (AE 19 E) s.heap H locs := by rw [eH]; exact hS
  show W p l e rmX2_summedUp s m args below meth c s.heap locs 0 0 Q (F0 m 0 ls [])
  rw [← eH]
  refine lv_sipush (v := 705) hx hb dX2_summedUp_0 (by decide) ?_
  refine lv_iload_n hx hb dX2_summedUp_3 rfl (lv_at hl 1 rfl) ?_
  refine lv_imul hx hb dX2_summedUp_4 ?_
  refine lv_iconst (v := 1) hx hb dX2_summedUp_5 (by decide) ?_
  refine lv_iadd hx hb dX2_summedUp_6 ?_
  refine lv_iconst (v := 4) hx hb dX2_summedUp_7 (by decide) ?_
  refine lv_iload_n hx hb dX2_summedUp_8 rfl (lv_at hl 2 rfl) ?_
  refine lv_imul hx hb dX2_summedUp_9 ?_
  refine lv_iadd hx hb dX2_summedUp_10 ?_
  obtain ⟨v3_1, ev3_1, hf⟩ := ob_bnd hf
  refine xn_i ev3_1 ?_
  refine lv_istore_n (lv' := [(3, .int v3_1), (0, .ref (E 0)), (1, .int a1), (2, .int a2)]) hx hb dX2_summedUp_11 rfl hl (by decide) rfl (fun ls hl => ?_)
  refine lv_sipush (v := 705) hx hb dX2_summedUp_12 (by decide) ?_
  refine lv_iload_n hx hb dX2_summedUp_15 rfl (lv_at hl 2 rfl) ?_
  refine lv_imul hx hb dX2_summedUp_16 ?_
  refine lv_bipush (v := 97) hx hb dX2_summedUp_17 (by decide) ?_
  refine lv_iadd hx hb dX2_summedUp_19 ?_
  obtain ⟨v4_2, ev4_2, hf⟩ := ob_bnd hf
  refine xn_i ev4_2 ?_
  refine lv_istore (lv' := [(4, .int v4_2), (3, .int v3_1), (0, .ref (E 0)), (1, .int a1), (2, .int a2)]) hx hb dX2_summedUp_20 hl (by decide) rfl (fun ls hl => ?_)
  refine lv_iconst (v := 0) hx hb dX2_summedUp_22 (by decide) ?_
  refine lv_istore (lv' := [(5, .int 0), (4, .int v4_2), (3, .int v3_1), (0, .ref (E 0)), (1, .int a1), (2, .int a2)]) hx hb dX2_summedUp_23 hl (by decide) rfl (fun ls hl => ?_)
  refine lv_iconst (v := 0) hx hb dX2_summedUp_25 (by decide) ?_
  refine lv_istore (lv' := [(6, .int 0), (5, .int 0), (4, .int v4_2), (3, .int v3_1), (0, .ref (E 0)), (1, .int a1), (2, .int a2)]) hx hb dX2_summedUp_26 hl (by decide) rfl (fun ls hl => ?_)
  refine lv_aload_n hx hb dX2_summedUp_28 rfl (lv_at hl 4 rfl) ?_
  refine xr_get hx hb hts in_X2 hown hK hP 0 (by decide) rfl rfl 2 (by decide) (hts _ q1407) (fun _ h => h) rfl (v := .ref (E 3)) rfl dX2_summedUp_29 ?_
  refine lv_iload_n hx hb dX2_summedUp_32 rfl (lv_at hl 3 rfl) ?_
  refine lv_iconst (v := 1) hx hb dX2_summedUp_33 (by decide) ?_
  refine lv_iadd hx hb dX2_summedUp_34 ?_
  obtain ⟨h3, hf⟩ := ob_gd hf
  refine xr_iald hx hb hK hP 3 (by decide) rfl 0 rfl (j := (v3_1 + 1).toNatClampNeg) h3 rfl dX2_summedUp_35 ?_
  obtain ⟨v7_4, ev7_4, hf⟩ := ob_bnd hf
  refine xn_i ev7_4 ?_
  refine lv_istore (lv' := [(7, .int v7_4), (6, .int 0), (5, .int 0), (4, .int v4_2), (3, .int v3_1), (0, .ref (E 0)), (1, .int a1), (2, .int a2)]) hx hb dX2_summedUp_36 hl (by decide) rfl (fun ls hl => ?_)
  obtain ⟨b9, hb9, hf⟩ := ob_bind hf
  obtain ⟨n9, hn9⟩ := lp_some hb9
  have kL38 : ∀ (n : Nat) (w5 : Mm) (v5_6 : Int32) (v6_7 : Int32) (v7_8 : Int32), lpF (fun (q9 : Mm × Int32 × Int32 × Int32) => M_summedUp_b38 v3_1 v4_2 q9.1 q9.2.1 q9.2.2.1 q9.2.2.2) n (w5, v5_6, v6_7, v7_8) = some b9 → (∀ (H : Heap) (locs : List Loc) (ls : Array Slot), va_P D clM (wl shM 19 dA E b9) H → va_S (AE 19 E) s.heap H locs → lv_has ls 10 [(0, .ref (E 0))] → W p l e rmX2_summedUp s m args below meth c H locs 0 0 Q (F0 m 406 ls [])) → ∀ (H : Heap) (locs : List Loc) (ls : Array Slot), va_P D clM (wl shM 19 dA E w5) H → va_S (AE 19 E) s.heap H locs → lv_has ls 10 [(0, .ref (E 0)), (3, .int v3_1), (4, .int v4_2), (5, .int v5_6), (6, .int v6_7), (7, .int v7_8)] → W p l e rmX2_summedUp s m args below meth c H locs 0 0 Q (F0 m 38 ls []) := by
    intro n
    induction n with
    | zero =>
      intro w5 v5_6 v6_7 v7_8 h
      cases h
    | succ n ih =>
      intro w5 v5_6 v6_7 v7_8 h K9_0 H locs ls hP hS hl
      obtain ⟨r9, hf, h9a, h9b⟩ := lpF_step h
      replace hf : M_summedUp_b38 v3_1 v4_2 w5 v5_6 v6_7 v7_8 = some r9 := hf
      unfold M_summedUp_b38 at hf
      refine lv_iload hx hb dX2_summedUp_38 (lv_at hl 5 rfl) ?_
      refine lv_aload_n hx hb dX2_summedUp_40 rfl (lv_at hl 0 rfl) ?_
      refine xr_get hx hb hts in_X2 hown hK hP 0 (by decide) rfl rfl 2 (by decide) (hts _ q1407) (fun _ h => h) rfl (v := .ref (E 3)) rfl dX2_summedUp_41 ?_
      refine lv_iload_n hx hb dX2_summedUp_44 rfl (lv_at hl 1 rfl) ?_
      refine lv_iconst (v := 2) hx hb dX2_summedUp_45 (by decide) ?_
      refine lv_iadd hx hb dX2_summedUp_46 ?_
      obtain ⟨h10, hf⟩ := ob_gd hf
      refine xr_iald hx hb hK hP 3 (by decide) rfl 0 rfl (j := (v3_1 + 2).toNatClampNeg) h10 rfl dX2_summedUp_47 ?_
      refine lv_icmp_ge (tgt := 406) hx hb dX2_summedUp_48 (by decide) (fun c11 => ?_) (fun c11 => ?_)
      · replace hf := ob_t hf c11
        obtain rfl := ob_s hf
        obtain rfl := h9b _ rfl
        exact K9_0 H locs ls hP hS (lv_sub hl [0] rfl)
      · replace hf := ob_f hf c11
        refine lv_aload_n hx hb dX2_summedUp_51 rfl (lv_at hl 0 rfl) ?_
        refine xr_get hx hb hts in_X2 hown hK hP 0 (by decide) rfl rfl 2 (by decide) (hts _ q1407) (fun _ h => h) rfl (v := .ref (E 3)) rfl dX2_summedUp_52 ?_
        refine lv_iload hx hb dX2_summedUp_55 (lv_at hl 2 rfl) ?_
        refine lv_iconst (v := 2) hx hb dX2_summedUp_57 (by decide) ?_
        refine lv_iload hx hb dX2_summedUp_58 (lv_at hl 5 rfl) ?_
        refine lv_imul hx hb dX2_summedUp_60 ?_
        refine lv_iadd hx hb dX2_summedUp_61 ?_
        obtain ⟨h12, hf⟩ := ob_gd hf
        refine xr_iald hx hb hK hP 3 (by decide) rfl 0 rfl (j := (v4_2 + (2 * v7_8)).toNatClampNeg) h12 rfl dX2_summedUp_62 ?_
        obtain ⟨v8_13, ev8_13, hf⟩ := ob_bnd hf
        refine xn_i ev8_13 ?_
        refine lv_istore (lv' := [(8, .int v8_13), (0, .ref (E 0)), (3, .int v3_1), (4, .int v4_2), (5, .int v5_6), (6, .int v6_7), (7, .int v7_8)]) hx hb dX2_summedUp_63 hl (by decide) rfl (fun ls hl => ?_)
        refine lv_aload_n hx hb dX2_summedUp_65 rfl (lv_at hl 1 rfl) ?_
        refine xr_get hx hb hts in_X2 hown hK hP 0 (by decide) rfl rfl 2 (by decide) (hts _ q1407) (fun _ h => h) rfl (v := .ref (E 3)) rfl dX2_summedUp_66 ?_
        refine lv_iload hx hb dX2_summedUp_69 (lv_at hl 3 rfl) ?_
        refine lv_iconst (v := 2) hx hb dX2_summedUp_71 (by decide) ?_
        refine lv_iload hx hb dX2_summedUp_72 (lv_at hl 6 rfl) ?_
        refine lv_imul hx hb dX2_summedUp_74 ?_
        refine lv_iadd hx hb dX2_summedUp_75 ?_
        refine lv_iconst (v := 1) hx hb dX2_summedUp_76 (by decide) ?_
        refine lv_iadd hx hb dX2_summedUp_77 ?_
        obtain ⟨h14, hf⟩ := ob_gd hf
        refine xr_iald hx hb hK hP 3 (by decide) rfl 0 rfl (j := ((v4_2 + (2 * v7_8)) + 1).toNatClampNeg) h14 rfl dX2_summedUp_78 ?_
        obtain ⟨v9_15, ev9_15, hf⟩ := ob_bnd hf
        refine xn_i ev9_15 ?_
        refine lv_istore (lv' := [(9, .int v9_15), (8, .int v8_13), (0, .ref (E 0)), (3, .int v3_1), (4, .int v4_2), (5, .int v5_6), (6, .int v6_7), (7, .int v7_8)]) hx hb dX2_summedUp_79 hl (by decide) rfl (fun ls hl => ?_)
        refine lv_iload hx hb dX2_summedUp_81 (lv_at hl 1 rfl) ?_
        refine lv_iconst (v := 1) hx hb dX2_summedUp_83 (by decide) ?_
        have kj400 : ∀ (v5_16 : Int32) (v6_17 : Int32) (w18 : Mm) (H : Heap) (locs : List Loc) (ls : Array Slot), M_summedUp_j400 v7_8 w18 v5_16 v6_17 = some r9 → va_P D clM (wl shM 19 dA E w18) H → va_S (AE 19 E) s.heap H locs → lv_has ls 10 [(0, .ref (E 0)), (3, .int v3_1), (4, .int v4_2), (5, .int v5_16), (6, .int v6_17), (7, .int v7_8)] → W p l e rmX2_summedUp s m args below meth c H locs 0 0 Q (F0 m 400 ls []) := by
          intro v5_16 v6_17 w18 H locs ls hf hP hS hl
          unfold M_summedUp_j400 at hf
          obtain ⟨v7_19, ev7_19, hf⟩ := ob_bnd hf
          refine lv_iinc (v := v7_19) (lv' := [(7, .int v7_19), (0, .ref (E 0)), (3, .int v3_1), (4, .int v4_2), (5, .int v5_16), (6, .int v6_17)]) hx hb dX2_summedUp_400 hl (k := 5) rfl (by rw [ev7_19]; rfl) (by decide) rfl (fun ls hl => ?_)
          refine lv_goto (tgt := 38) hx hb dX2_summedUp_403 (by decide) ?_
          obtain rfl := ob_s hf
          exact ih _ _ _ _ (h9a _ rfl) K9_0 H locs ls hP hS (lv_sub hl [1, 2, 3, 4, 5, 0] rfl)
        refine lv_icmp_gt (tgt := 119) hx hb dX2_summedUp_84 (by decide) (fun c20 => ?_) (fun c20 => ?_)
        · replace hf := ob_t hf c20
          refine lv_iload hx hb dX2_summedUp_119 (lv_at hl 1 rfl) ?_
          refine lv_iconst (v := 3) hx hb dX2_summedUp_121 (by decide) ?_
          refine lv_icmp_ne (tgt := 160) hx hb dX2_summedUp_122 (by decide) (fun c21 => ?_) (fun c21 => ?_)
          · replace hf := ob_f hf c21
            refine lv_iload hx hb dX2_summedUp_160 (lv_at hl 1 rfl) ?_
            refine lv_iconst (v := 5) hx hb dX2_summedUp_162 (by decide) ?_
            have kj172 : ∀ (H : Heap) (locs : List Loc) (ls : Array Slot), M_summedUp_j172 v8_13 v5_6 w5 v7_8 v6_7 = some r9 → va_P D clM (wl shM 19 dA E w5) H → va_S (AE 19 E) s.heap H locs → lv_has ls 10 [(0, .ref (E 0)), (3, .int v3_1), (4, .int v4_2), (5, .int v5_6), (6, .int v6_7), (7, .int v7_8), (8, .int v8_13)] → W p l e rmX2_summedUp s m args below meth c H locs 0 0 Q (F0 m 172 ls []) := by
              intro H locs ls hf hP hS hl
              unfold M_summedUp_j172 at hf
              refine lv_aload_n hx hb dX2_summedUp_172 rfl (lv_at hl 0 rfl) ?_
              refine xr_get hx hb hts in_X2 hown hK hP 0 (by decide) rfl rfl 21 (by decide) (hts _ q1426) (fun _ h => h) rfl (v := .ref (E 7)) rfl dX2_summedUp_173 ?_
              refine lv_iload hx hb dX2_summedUp_176 (lv_at hl 3 rfl) ?_
              refine lv_iconst (v := 1) hx hb dX2_summedUp_178 (by decide) ?_
              refine lv_isub hx hb dX2_summedUp_179 ?_
              refine lv_iload hx hb dX2_summedUp_180 (lv_at hl 6 rfl) ?_
              refine lv_iconst (v := 5) hx hb dX2_summedUp_182 (by decide) ?_
              have kj212 : ∀ (t22 : Int64) (H : Heap) (locs : List Loc) (ls : Array Slot), M_summedUp_j212 v5_6 w5 t22 v7_8 v6_7 = some r9 → va_P D clM (wl shM 19 dA E w5) H → va_S (AE 19 E) s.heap H locs → lv_has ls 10 [(0, .ref (E 0)), (3, .int v3_1), (4, .int v4_2), (5, .int v5_6), (6, .int v6_7), (7, .int v7_8)] → W p l e rmX2_summedUp s m args below meth c H locs 0 0 Q (F0 m 212 ls [.long t22, .int (v5_6 - 1), .ref (E 7)]) := by
                intro t22 H locs ls hf hP hS hl
                unfold M_summedUp_j212 at hf
                obtain ⟨h23, hf⟩ := ob_gd hf
                obtain ⟨w24, ew24, hf⟩ := ob_bnd hf
                refine xr_last hx hb hK hP hD hS 7 (by decide) rfl 2 rfl (j := (v5_6 - 1).toNatClampNeg) (w' := w24) h23 rfl ew24 dX2_summedUp_212 (fun H locs hP hS => ?_)
                refine lv_goto (tgt := 400) hx hb dX2_summedUp_213 (by decide) ?_
                exact kj400 v5_6 v6_7 w24 H locs ls hf hP hS (lv_sub hl [0, 1, 2, 3, 4, 5] rfl)
              refine lv_icmp_ne (tgt := 199) hx hb dX2_summedUp_183 (by decide) (fun c25 => ?_) (fun c25 => ?_)
              · replace hf := ob_f hf c25
                refine lv_aload_n hx hb dX2_summedUp_199 rfl (lv_at hl 0 rfl) ?_
                refine lv_aload_n hx hb dX2_summedUp_200 rfl (lv_at hl 0 rfl) ?_
                refine xr_get hx hb hts in_X2 hown hK hP 0 (by decide) rfl rfl 21 (by decide) (hts _ q1426) (fun _ h => h) rfl (v := .ref (E 7)) rfl dX2_summedUp_201 ?_
                refine lv_iload hx hb dX2_summedUp_204 (lv_at hl 3 rfl) ?_
                refine lv_iconst (v := 1) hx hb dX2_summedUp_206 (by decide) ?_
                refine lv_isub hx hb dX2_summedUp_207 ?_
                obtain ⟨h26, hf⟩ := ob_gd hf
                refine xr_lald hx hb hK hP 7 (by decide) rfl 2 rfl (j := (v5_6 - 1).toNatClampNeg) h26 rfl dX2_summedUp_208 ?_
                obtain ⟨q28, g27, hf⟩ := ob_bind hf
                refine xc_l (xw_run (As := [.long (w5.2.1 7 (v5_6 - 1).toNatClampNeg)]) (rest := [.int (v5_6 - 1), .ref (E 7)]) ⟨hx, hb, hml, hown, hts⟩ (k0 := 0) (wkX2_hotOf l D dA E hE w5 (w5.2.1 7 (v5_6 - 1).toNatClampNeg) g27) (cwV 1 hts (lw_V q1796 q1798 qs106 q140 q1799) rfl rfl rfl cdX2_hotOf ⟨Nat.le_of_ble_eq_true rfl, Nat.le_of_ble_eq_true rfl⟩) hK hP (by decide) rfl rfl rfl hl.1 rfl rfl (Nat.le_of_ble_eq_true rfl) dX2_summedUp_209 ⟨Nat.zero_le _, Nat.zero_le _⟩) hS hD.2 (fun H locs hP hS => ?_)
                exact kj212 q28 H locs ls hf hP hS (lv_sub hl [0, 1, 2, 3, 4, 5] rfl)
              · replace hf := ob_t hf c25
                refine lv_aload_n hx hb dX2_summedUp_186 rfl (lv_at hl 0 rfl) ?_
                refine xr_get hx hb hts in_X2 hown hK hP 0 (by decide) rfl rfl 21 (by decide) (hts _ q1426) (fun _ h => h) rfl (v := .ref (E 7)) rfl dX2_summedUp_187 ?_
                refine lv_iload hx hb dX2_summedUp_190 (lv_at hl 3 rfl) ?_
                refine lv_iconst (v := 1) hx hb dX2_summedUp_192 (by decide) ?_
                refine lv_isub hx hb dX2_summedUp_193 ?_
                obtain ⟨h29, hf⟩ := ob_gd hf
                refine xr_lald hx hb hK hP 7 (by decide) rfl 2 rfl (j := (v5_6 - 1).toNatClampNeg) h29 rfl dX2_summedUp_194 ?_
                refine lv_lneg hx hb dX2_summedUp_195 ?_
                refine lv_goto (tgt := 212) hx hb dX2_summedUp_196 (by decide) ?_
                exact kj212 (-(w5.2.1 7 (v5_6 - 1).toNatClampNeg)) H locs ls hf hP hS (lv_sub hl [0, 1, 2, 3, 4, 5] rfl)
            refine lv_icmp_eq (tgt := 172) hx hb dX2_summedUp_163 (by decide) (fun c30 => ?_) (fun c30 => ?_)
            · replace hf := ob_t hf c30
              exact kj172 H locs ls hf hP hS (lv_sub hl [2, 3, 4, 5, 6, 7, 1] rfl)
            · replace hf := ob_f hf c30
              refine lv_iload hx hb dX2_summedUp_166 (lv_at hl 1 rfl) ?_
              refine lv_iconst (v := 2) hx hb dX2_summedUp_168 (by decide) ?_
              refine lv_icmp_ne (tgt := 216) hx hb dX2_summedUp_169 (by decide) (fun c31 => ?_) (fun c31 => ?_)
              · replace hf := ob_f hf c31
                refine lv_iload hx hb dX2_summedUp_216 (lv_at hl 1 rfl) ?_
                refine lv_bipush (v := 10) hx hb dX2_summedUp_218 (by decide) ?_
                refine lv_icmp_ge (tgt := 287) hx hb dX2_summedUp_220 (by decide) (fun c32 => ?_) (fun c32 => ?_)
                · replace hf := ob_t hf c32
                  refine lv_iload hx hb dX2_summedUp_287 (lv_at hl 1 rfl) ?_
                  refine lv_bipush (v := 20) hx hb dX2_summedUp_289 (by decide) ?_
                  refine lv_icmp_ge (tgt := 331) hx hb dX2_summedUp_291 (by decide) (fun c33 => ?_) (fun c33 => ?_)
                  · replace hf := ob_t hf c33
                    refine lv_iload hx hb dX2_summedUp_331 (lv_at hl 1 rfl) ?_
                    refine lv_bipush (v := 20) hx hb dX2_summedUp_333 (by decide) ?_
                    refine lv_icmp_ne (tgt := 367) hx hb dX2_summedUp_335 (by decide) (fun c34 => ?_) (fun c34 => ?_)
                    · replace hf := ob_f hf c34
                      obtain ⟨v6_35, ev6_35, hf⟩ := ob_bnd hf
                      refine lv_iinc (v := v6_35) (lv' := [(6, .int v6_35), (9, .int v9_15), (8, .int v8_13), (0, .ref (E 0)), (3, .int v3_1), (4, .int v4_2), (5, .int v5_6), (7, .int v7_8)]) hx hb dX2_summedUp_367 hl (k := 6) rfl (by rw [ev6_35]; rfl) (by decide) rfl (fun ls hl => ?_)
                      refine lv_aload_n hx hb dX2_summedUp_370 rfl (lv_at hl 3 rfl) ?_
                      refine xr_get hx hb hts in_X2 hown hK hP 0 (by decide) rfl rfl 22 (by decide) (hts _ q1427) (fun _ h => h) rfl (v := .ref (E 8)) rfl dX2_summedUp_371 ?_
                      refine lv_iload hx hb dX2_summedUp_374 (lv_at hl 0 rfl) ?_
                      refine lv_iconst (v := 1) hx hb dX2_summedUp_376 (by decide) ?_
                      refine lv_isub hx hb dX2_summedUp_377 ?_
                      refine lv_iload hx hb dX2_summedUp_378 (lv_at hl 2 rfl) ?_
                      refine lv_aload_n hx hb dX2_summedUp_380 rfl (lv_at hl 3 rfl) ?_
                      refine xr_get hx hb hts in_X2 hown hK hP 0 (by decide) rfl rfl 22 (by decide) (hts _ q1427) (fun _ h => h) rfl (v := .ref (E 8)) rfl dX2_summedUp_381 ?_
                      refine lv_iload hx hb dX2_summedUp_384 (lv_at hl 0 rfl) ?_
                      refine lv_iconst (v := 1) hx hb dX2_summedUp_386 (by decide) ?_
                      refine lv_isub hx hb dX2_summedUp_387 ?_
                      obtain ⟨h36, hf⟩ := ob_gd hf
                      refine xr_zald hx hb hK hP 8 (by decide) rfl 1 rfl (j := (v6_35 - 1).toNatClampNeg) h36 rfl dX2_summedUp_388 ?_
                      refine lv_aload_n hx hb dX2_summedUp_389 rfl (lv_at hl 3 rfl) ?_
                      refine xr_get hx hb hts in_X2 hown hK hP 0 (by decide) rfl rfl 22 (by decide) (hts _ q1427) (fun _ h => h) rfl (v := .ref (E 8)) rfl dX2_summedUp_390 ?_
                      refine lv_iload hx hb dX2_summedUp_393 (lv_at hl 0 rfl) ?_
                      obtain ⟨h37, hf⟩ := ob_gd hf
                      refine xr_zald hx hb hK hP 8 (by decide) rfl 1 rfl (j := v6_35.toNatClampNeg) h37 rfl dX2_summedUp_395 ?_
                      obtain ⟨q39, g38, hf⟩ := ob_bind hf
                      refine xc_z (xw_runS (As := [.int v8_13, .int (w5.1 8 (v6_35 - 1).toNatClampNeg), .int (w5.1 8 v6_35.toNatClampNeg)]) (rest := [.int (v6_35 - 1), .ref (E 8)]) ⟨hx, hb, hml, hown, hts⟩ (wkX2_joined l D dA E hE w5 v8_13 (w5.1 8 (v6_35 - 1).toNatClampNeg) (w5.1 8 v6_35.toNatClampNeg) g38) (va_cwS 3 hts (lw_S q1814 q1815 q140 q1816) rfl rfl rfl cdX2_joined.2 ⟨Nat.le_of_ble_eq_true rfl, Nat.le_of_ble_eq_true rfl⟩) hK hP hl.1 rfl rfl (Nat.le_of_ble_eq_true rfl) dX2_summedUp_396 ⟨Nat.zero_le _, Nat.zero_le _⟩) hS hD.2 (fun H locs zq39 hP hS => ?_)
                      obtain ⟨h40, hf⟩ := ob_gd hf
                      obtain ⟨w41, ew41, hf⟩ := ob_bnd hf
                      refine xr_zast hx hb hK hP hD hS 8 (by decide) rfl 1 rfl (j := (v6_35 - 1).toNatClampNeg) (w' := w41) h40 rfl zq39 ew41 dX2_summedUp_399 (fun H locs hP hS => ?_)
                      exact kj400 v5_6 v6_35 w41 H locs ls hf hP hS (lv_sub hl [3, 4, 5, 6, 0, 7] rfl)
                    · replace hf := ob_t hf c34
                      refine lv_aload_n hx hb dX2_summedUp_338 rfl (lv_at hl 2 rfl) ?_
                      refine xr_get hx hb hts in_X2 hown hK hP 0 (by decide) rfl rfl 22 (by decide) (hts _ q1427) (fun _ h => h) rfl (v := .ref (E 8)) rfl dX2_summedUp_339 ?_
                      refine lv_iload hx hb dX2_summedUp_342 (lv_at hl 6 rfl) ?_
                      refine lv_iconst (v := 1) hx hb dX2_summedUp_344 (by decide) ?_
                      refine lv_isub hx hb dX2_summedUp_345 ?_
                      refine lv_aload_n hx hb dX2_summedUp_346 rfl (lv_at hl 2 rfl) ?_
                      refine xr_get hx hb hts in_X2 hown hK hP 0 (by decide) rfl rfl 22 (by decide) (hts _ q1427) (fun _ h => h) rfl (v := .ref (E 8)) rfl dX2_summedUp_347 ?_
                      refine lv_iload hx hb dX2_summedUp_350 (lv_at hl 6 rfl) ?_
                      refine lv_iconst (v := 1) hx hb dX2_summedUp_352 (by decide) ?_
                      refine lv_isub hx hb dX2_summedUp_353 ?_
                      obtain ⟨h42, hf⟩ := ob_gd hf
                      refine xr_zald hx hb hK hP 8 (by decide) rfl 1 rfl (j := (v6_7 - 1).toNatClampNeg) h42 rfl dX2_summedUp_354 ?_
                      have kj363 : ∀ (t43 : Int32) (H : Heap) (locs : List Loc) (ls : Array Slot), M_summedUp_j363 v6_7 w5 t43 v7_8 v5_6 = some r9 → t43 = 0 ∨ t43 = 1 → va_P D clM (wl shM 19 dA E w5) H → va_S (AE 19 E) s.heap H locs → lv_has ls 10 [(0, .ref (E 0)), (3, .int v3_1), (4, .int v4_2), (5, .int v5_6), (6, .int v6_7), (7, .int v7_8)] → W p l e rmX2_summedUp s m args below meth c H locs 0 0 Q (F0 m 363 ls [.int t43, .int (v6_7 - 1), .ref (E 8)]) := by
                        intro t43 H locs ls hf zt43 hP hS hl
                        unfold M_summedUp_j363 at hf
                        obtain ⟨h44, hf⟩ := ob_gd hf
                        obtain ⟨w45, ew45, hf⟩ := ob_bnd hf
                        refine xr_zast hx hb hK hP hD hS 8 (by decide) rfl 1 rfl (j := (v6_7 - 1).toNatClampNeg) (w' := w45) h44 rfl zt43 ew45 dX2_summedUp_363 (fun H locs hP hS => ?_)
                        refine lv_goto (tgt := 400) hx hb dX2_summedUp_364 (by decide) ?_
                        exact kj400 v5_6 v6_7 w45 H locs ls hf hP hS (lv_sub hl [0, 1, 2, 3, 4, 5] rfl)
                      refine lv_if_ne (tgt := 362) hx hb dX2_summedUp_355 (by decide) (fun c46 => ?_) (fun c46 => ?_)
                      · replace hf := ob_f hf c46
                        refine lv_iconst (v := 0) hx hb dX2_summedUp_362 (by decide) ?_
                        exact kj363 0 H locs ls hf (Or.inl rfl) hP hS (lv_sub hl [2, 3, 4, 5, 6, 7] rfl)
                      · replace hf := ob_t hf c46
                        refine lv_iconst (v := 1) hx hb dX2_summedUp_358 (by decide) ?_
                        refine lv_goto (tgt := 363) hx hb dX2_summedUp_359 (by decide) ?_
                        exact kj363 1 H locs ls hf (Or.inr rfl) hP hS (lv_sub hl [2, 3, 4, 5, 6, 7] rfl)
                  · replace hf := ob_f hf c33
                    obtain ⟨v5_47, ev5_47, hf⟩ := ob_bnd hf
                    refine lv_iinc (v := v5_47) (lv' := [(5, .int v5_47), (9, .int v9_15), (8, .int v8_13), (0, .ref (E 0)), (3, .int v3_1), (4, .int v4_2), (6, .int v6_7), (7, .int v7_8)]) hx hb dX2_summedUp_294 hl (k := 5) rfl (by rw [ev5_47]; rfl) (by decide) rfl (fun ls hl => ?_)
                    refine lv_aload_n hx hb dX2_summedUp_297 rfl (lv_at hl 3 rfl) ?_
                    refine xr_get hx hb hts in_X2 hown hK hP 0 (by decide) rfl rfl 22 (by decide) (hts _ q1427) (fun _ h => h) rfl (v := .ref (E 8)) rfl dX2_summedUp_298 ?_
                    refine lv_iload hx hb dX2_summedUp_301 (lv_at hl 6 rfl) ?_
                    refine lv_iload hx hb dX2_summedUp_303 (lv_at hl 2 rfl) ?_
                    refine lv_aload_n hx hb dX2_summedUp_305 rfl (lv_at hl 3 rfl) ?_
                    refine xr_get hx hb hts in_X2 hown hK hP 0 (by decide) rfl rfl 21 (by decide) (hts _ q1426) (fun _ h => h) rfl (v := .ref (E 7)) rfl dX2_summedUp_306 ?_
                    refine lv_iload hx hb dX2_summedUp_309 (lv_at hl 0 rfl) ?_
                    obtain ⟨h48, hf⟩ := ob_gd hf
                    refine xr_lald hx hb hK hP 7 (by decide) rfl 2 rfl (j := v5_47.toNatClampNeg) h48 rfl dX2_summedUp_311 ?_
                    refine lv_aload_n hx hb dX2_summedUp_312 rfl (lv_at hl 3 rfl) ?_
                    refine xr_get hx hb hts in_X2 hown hK hP 0 (by decide) rfl rfl 21 (by decide) (hts _ q1426) (fun _ h => h) rfl (v := .ref (E 7)) rfl dX2_summedUp_313 ?_
                    refine lv_iload hx hb dX2_summedUp_316 (lv_at hl 0 rfl) ?_
                    refine lv_iconst (v := 1) hx hb dX2_summedUp_318 (by decide) ?_
                    refine lv_iadd hx hb dX2_summedUp_319 ?_
                    obtain ⟨h49, hf⟩ := ob_gd hf
                    refine xr_lald hx hb hK hP 7 (by decide) rfl 2 rfl (j := (v5_47 + 1).toNatClampNeg) h49 rfl dX2_summedUp_320 ?_
                    obtain ⟨q51, g50, hf⟩ := ob_bind hf
                    refine xc_z (xw_runS (As := [.int v8_13, .long (w5.2.1 7 v5_47.toNatClampNeg), .long (w5.2.1 7 (v5_47 + 1).toNatClampNeg)]) (rest := [.int v6_7, .ref (E 8)]) ⟨hx, hb, hml, hown, hts⟩ (wkX2_isAsked l D dA E hE w5 v8_13 (w5.2.1 7 v5_47.toNatClampNeg) (w5.2.1 7 (v5_47 + 1).toNatClampNeg) g50) (va_cwS 3 hts (lw_S q1811 q1812 q140 q1813) rfl rfl rfl cdX2_isAsked.2 ⟨Nat.le_of_ble_eq_true rfl, Nat.le_of_ble_eq_true rfl⟩) hK hP hl.1 rfl rfl (Nat.le_of_ble_eq_true rfl) dX2_summedUp_321 ⟨Nat.zero_le _, Nat.zero_le _⟩) hS hD.2 (fun H locs zq51 hP hS => ?_)
                    obtain ⟨h52, hf⟩ := ob_gd hf
                    obtain ⟨w53, ew53, hf⟩ := ob_bnd hf
                    refine xr_zast hx hb hK hP hD hS 8 (by decide) rfl 1 rfl (j := v6_7.toNatClampNeg) (w' := w53) h52 rfl zq51 ew53 dX2_summedUp_324 (fun H locs hP hS => ?_)
                    obtain ⟨v6_54, ev6_54, hf⟩ := ob_bnd hf
                    refine lv_iinc (v := v6_54) (lv' := [(6, .int v6_54), (5, .int v5_47), (9, .int v9_15), (8, .int v8_13), (0, .ref (E 0)), (3, .int v3_1), (4, .int v4_2), (7, .int v7_8)]) hx hb dX2_summedUp_325 hl (k := 6) rfl (by rw [ev6_54]; rfl) (by decide) rfl (fun ls hl => ?_)
                    refine lv_goto (tgt := 400) hx hb dX2_summedUp_328 (by decide) ?_
                    exact kj400 v5_47 v6_54 w53 H locs ls hf hP hS (lv_sub hl [4, 5, 6, 1, 0, 7] rfl)
                · replace hf := ob_f hf c32
                  obtain ⟨v5_55, ev5_55, hf⟩ := ob_bnd hf
                  refine lv_iinc (v := v5_55) (lv' := [(5, .int v5_55), (9, .int v9_15), (8, .int v8_13), (0, .ref (E 0)), (3, .int v3_1), (4, .int v4_2), (6, .int v6_7), (7, .int v7_8)]) hx hb dX2_summedUp_223 hl (k := 5) rfl (by rw [ev5_55]; rfl) (by decide) rfl (fun ls hl => ?_)
                  refine lv_aload_n hx hb dX2_summedUp_226 rfl (lv_at hl 3 rfl) ?_
                  refine xr_get hx hb hts in_X2 hown hK hP 0 (by decide) rfl rfl 21 (by decide) (hts _ q1426) (fun _ h => h) rfl (v := .ref (E 7)) rfl dX2_summedUp_227 ?_
                  refine lv_iload hx hb dX2_summedUp_230 (lv_at hl 0 rfl) ?_
                  refine lv_iconst (v := 1) hx hb dX2_summedUp_232 (by decide) ?_
                  refine lv_isub hx hb dX2_summedUp_233 ?_
                  refine lv_iload hx hb dX2_summedUp_234 (lv_at hl 2 rfl) ?_
                  refine lv_iconst (v := 4) hx hb dX2_summedUp_236 (by decide) ?_
                  have kj283 : ∀ (t56 : Int64) (H : Heap) (locs : List Loc) (ls : Array Slot), M_summedUp_j283 v5_55 w5 t56 v7_8 v6_7 = some r9 → va_P D clM (wl shM 19 dA E w5) H → va_S (AE 19 E) s.heap H locs → lv_has ls 10 [(0, .ref (E 0)), (3, .int v3_1), (4, .int v4_2), (5, .int v5_55), (6, .int v6_7), (7, .int v7_8)] → W p l e rmX2_summedUp s m args below meth c H locs 0 0 Q (F0 m 283 ls [.long t56, .int (v5_55 - 1), .ref (E 7)]) := by
                    intro t56 H locs ls hf hP hS hl
                    unfold M_summedUp_j283 at hf
                    obtain ⟨h57, hf⟩ := ob_gd hf
                    obtain ⟨w58, ew58, hf⟩ := ob_bnd hf
                    refine xr_last hx hb hK hP hD hS 7 (by decide) rfl 2 rfl (j := (v5_55 - 1).toNatClampNeg) (w' := w58) h57 rfl ew58 dX2_summedUp_283 (fun H locs hP hS => ?_)
                    refine lv_goto (tgt := 400) hx hb dX2_summedUp_284 (by decide) ?_
                    exact kj400 v5_55 v6_7 w58 H locs ls hf hP hS (lv_sub hl [0, 1, 2, 3, 4, 5] rfl)
                  refine lv_icmp_ne (tgt := 262) hx hb dX2_summedUp_237 (by decide) (fun c59 => ?_) (fun c59 => ?_)
                  · replace hf := ob_f hf c59
                    refine lv_iload hx hb dX2_summedUp_262 (lv_at hl 2 rfl) ?_
                    refine lv_aload_n hx hb dX2_summedUp_264 rfl (lv_at hl 3 rfl) ?_
                    refine xr_get hx hb hts in_X2 hown hK hP 0 (by decide) rfl rfl 21 (by decide) (hts _ q1426) (fun _ h => h) rfl (v := .ref (E 7)) rfl dX2_summedUp_265 ?_
                    refine lv_iload hx hb dX2_summedUp_268 (lv_at hl 0 rfl) ?_
                    refine lv_iconst (v := 1) hx hb dX2_summedUp_270 (by decide) ?_
                    refine lv_isub hx hb dX2_summedUp_271 ?_
                    obtain ⟨h60, hf⟩ := ob_gd hf
                    refine xr_lald hx hb hK hP 7 (by decide) rfl 2 rfl (j := (v5_55 - 1).toNatClampNeg) h60 rfl dX2_summedUp_272 ?_
                    refine lv_aload_n hx hb dX2_summedUp_273 rfl (lv_at hl 3 rfl) ?_
                    refine xr_get hx hb hts in_X2 hown hK hP 0 (by decide) rfl rfl 21 (by decide) (hts _ q1426) (fun _ h => h) rfl (v := .ref (E 7)) rfl dX2_summedUp_274 ?_
                    refine lv_iload hx hb dX2_summedUp_277 (lv_at hl 0 rfl) ?_
                    obtain ⟨h61, hf⟩ := ob_gd hf
                    refine xr_lald hx hb hK hP 7 (by decide) rfl 2 rfl (j := v5_55.toNatClampNeg) h61 rfl dX2_summedUp_279 ?_
                    obtain ⟨q63, g62, hf⟩ := ob_bind hf
                    refine xc_l (xw_runS (As := [.int v8_13, .long (w5.2.1 7 (v5_55 - 1).toNatClampNeg), .long (w5.2.1 7 v5_55.toNatClampNeg)]) (rest := [.int (v5_55 - 1), .ref (E 7)]) ⟨hx, hb, hml, hown, hts⟩ (wkX2_two l D dA E hE w5 v8_13 (w5.2.1 7 (v5_55 - 1).toNatClampNeg) (w5.2.1 7 v5_55.toNatClampNeg) g62) (va_cwS 3 hts (lw_S q1803 q1804 q140 q1805) rfl rfl rfl cdX2_two.2 ⟨Nat.le_of_ble_eq_true rfl, Nat.le_of_ble_eq_true rfl⟩) hK hP hl.1 rfl rfl (Nat.le_of_ble_eq_true rfl) dX2_summedUp_280 ⟨Nat.zero_le _, Nat.zero_le _⟩) hS hD.2 (fun H locs hP hS => ?_)
                    exact kj283 q63 H locs ls hf hP hS (lv_sub hl [3, 4, 5, 0, 6, 7] rfl)
                  · replace hf := ob_t hf c59
                    refine lv_aload_n hx hb dX2_summedUp_240 rfl (lv_at hl 3 rfl) ?_
                    refine xr_get hx hb hts in_X2 hown hK hP 0 (by decide) rfl rfl 21 (by decide) (hts _ q1426) (fun _ h => h) rfl (v := .ref (E 7)) rfl dX2_summedUp_241 ?_
                    refine lv_iload hx hb dX2_summedUp_244 (lv_at hl 0 rfl) ?_
                    refine lv_iconst (v := 1) hx hb dX2_summedUp_246 (by decide) ?_
                    refine lv_isub hx hb dX2_summedUp_247 ?_
                    obtain ⟨h64, hf⟩ := ob_gd hf
                    refine xr_lald hx hb hK hP 7 (by decide) rfl 2 rfl (j := (v5_55 - 1).toNatClampNeg) h64 rfl dX2_summedUp_248 ?_
                    refine lv_aload_n hx hb dX2_summedUp_249 rfl (lv_at hl 3 rfl) ?_
                    refine xr_get hx hb hts in_X2 hown hK hP 0 (by decide) rfl rfl 21 (by decide) (hts _ q1426) (fun _ h => h) rfl (v := .ref (E 7)) rfl dX2_summedUp_250 ?_
                    refine lv_iload hx hb dX2_summedUp_253 (lv_at hl 0 rfl) ?_
                    obtain ⟨h65, hf⟩ := ob_gd hf
                    refine xr_lald hx hb hK hP 7 (by decide) rfl 2 rfl (j := v5_55.toNatClampNeg) h65 rfl dX2_summedUp_255 ?_
                    obtain ⟨q67, g66, hf⟩ := ob_bind hf
                    refine xc_l (xw_runS (As := [.long (w5.2.1 7 (v5_55 - 1).toNatClampNeg), .long (w5.2.1 7 v5_55.toNatClampNeg)]) (rest := [.int (v5_55 - 1), .ref (E 7)]) ⟨hx, hb, hml, hown, hts⟩ (wkX2_restOf l D dA E hE w5 (w5.2.1 7 (v5_55 - 1).toNatClampNeg) (w5.2.1 7 v5_55.toNatClampNeg) g66) (va_cwS 2 hts (lw_S q1800 q1801 q140 q1802) rfl rfl rfl cdX2_restOf.2 ⟨Nat.le_of_ble_eq_true rfl, Nat.le_of_ble_eq_true rfl⟩) hK hP hl.1 rfl rfl (Nat.le_of_ble_eq_true rfl) dX2_summedUp_256 ⟨Nat.zero_le _, Nat.zero_le _⟩) hS hD.2 (fun H locs hP hS => ?_)
                    refine lv_goto (tgt := 283) hx hb dX2_summedUp_259 (by decide) ?_
                    exact kj283 q67 H locs ls hf hP hS (lv_sub hl [3, 4, 5, 0, 6, 7] rfl)
              · replace hf := ob_t hf c31
                exact kj172 H locs ls hf hP hS (lv_sub hl [2, 3, 4, 5, 6, 7, 1] rfl)
          · replace hf := ob_t hf c21
            obtain ⟨v5_68, ev5_68, hf⟩ := ob_bnd hf
            refine lv_iinc (v := v5_68) (lv' := [(5, .int v5_68), (9, .int v9_15), (8, .int v8_13), (0, .ref (E 0)), (3, .int v3_1), (4, .int v4_2), (6, .int v6_7), (7, .int v7_8)]) hx hb dX2_summedUp_125 hl (k := 5) rfl (by rw [ev5_68]; rfl) (by decide) rfl (fun ls hl => ?_)
            obtain ⟨v6_69, ev6_69, hf⟩ := ob_bnd hf
            refine lv_iinc (v := v6_69) (lv' := [(6, .int v6_69), (5, .int v5_68), (9, .int v9_15), (8, .int v8_13), (0, .ref (E 0)), (3, .int v3_1), (4, .int v4_2), (7, .int v7_8)]) hx hb dX2_summedUp_128 hl (k := 6) rfl (by rw [ev6_69]; rfl) (by decide) rfl (fun ls hl => ?_)
            refine lv_aload_n hx hb dX2_summedUp_131 rfl (lv_at hl 4 rfl) ?_
            refine xr_get hx hb hts in_X2 hown hK hP 0 (by decide) rfl rfl 22 (by decide) (hts _ q1427) (fun _ h => h) rfl (v := .ref (E 8)) rfl dX2_summedUp_132 ?_
            refine lv_iload hx hb dX2_summedUp_135 (lv_at hl 0 rfl) ?_
            obtain ⟨h70, hf⟩ := ob_gd hf
            refine xr_zald hx hb hK hP 8 (by decide) rfl 1 rfl (j := v6_69.toNatClampNeg) h70 rfl dX2_summedUp_137 ?_
            refine lv_if_ne (tgt := 400) hx hb dX2_summedUp_138 (by decide) (fun c71 => ?_) (fun c71 => ?_)
            · replace hf := ob_f hf c71
              exact kj400 v5_68 v6_69 w5 H locs ls hf hP hS (lv_sub hl [4, 5, 6, 1, 0, 7] rfl)
            · replace hf := ob_t hf c71
              refine lv_aload_n hx hb dX2_summedUp_141 rfl (lv_at hl 4 rfl) ?_
              refine xr_get hx hb hts in_X2 hown hK hP 0 (by decide) rfl rfl 21 (by decide) (hts _ q1426) (fun _ h => h) rfl (v := .ref (E 7)) rfl dX2_summedUp_142 ?_
              refine lv_iload hx hb dX2_summedUp_145 (lv_at hl 1 rfl) ?_
              refine lv_iconst (v := 1) hx hb dX2_summedUp_147 (by decide) ?_
              refine lv_isub hx hb dX2_summedUp_148 ?_
              refine lv_aload_n hx hb dX2_summedUp_149 rfl (lv_at hl 4 rfl) ?_
              refine xr_get hx hb hts in_X2 hown hK hP 0 (by decide) rfl rfl 21 (by decide) (hts _ q1426) (fun _ h => h) rfl (v := .ref (E 7)) rfl dX2_summedUp_150 ?_
              refine lv_iload hx hb dX2_summedUp_153 (lv_at hl 1 rfl) ?_
              obtain ⟨h72, hf⟩ := ob_gd hf
              refine xr_lald hx hb hK hP 7 (by decide) rfl 2 rfl (j := v5_68.toNatClampNeg) h72 rfl dX2_summedUp_155 ?_
              obtain ⟨h73, hf⟩ := ob_gd hf
              obtain ⟨w74, ew74, hf⟩ := ob_bnd hf
              refine xr_last hx hb hK hP hD hS 7 (by decide) rfl 2 rfl (j := (v5_68 - 1).toNatClampNeg) (w' := w74) h73 rfl ew74 dX2_summedUp_156 (fun H locs hP hS => ?_)
              refine lv_goto (tgt := 400) hx hb dX2_summedUp_157 (by decide) ?_
              exact kj400 v5_68 v6_69 w74 H locs ls hf hP hS (lv_sub hl [4, 5, 6, 1, 0, 7] rfl)
        · replace hf := ob_f hf c20
          refine lv_aload_n hx hb dX2_summedUp_87 rfl (lv_at hl 2 rfl) ?_
          refine xr_get hx hb hts in_X2 hown hK hP 0 (by decide) rfl rfl 21 (by decide) (hts _ q1426) (fun _ h => h) rfl (v := .ref (E 7)) rfl dX2_summedUp_88 ?_
          refine lv_iload hx hb dX2_summedUp_91 (lv_at hl 5 rfl) ?_
          refine lv_iload hx hb dX2_summedUp_93 (lv_at hl 1 rfl) ?_
          have kj112 : ∀ (t75 : Int64) (H : Heap) (locs : List Loc) (ls : Array Slot), M_summedUp_j112 v5_6 w5 t75 v7_8 v6_7 = some r9 → va_P D clM (wl shM 19 dA E w5) H → va_S (AE 19 E) s.heap H locs → lv_has ls 10 [(0, .ref (E 0)), (3, .int v3_1), (4, .int v4_2), (5, .int v5_6), (6, .int v6_7), (7, .int v7_8)] → W p l e rmX2_summedUp s m args below meth c H locs 0 0 Q (F0 m 112 ls [.long t75, .int v5_6, .ref (E 7)]) := by
            intro t75 H locs ls hf hP hS hl
            unfold M_summedUp_j112 at hf
            obtain ⟨h76, hf⟩ := ob_gd hf
            obtain ⟨w77, ew77, hf⟩ := ob_bnd hf
            refine xr_last hx hb hK hP hD hS 7 (by decide) rfl 2 rfl (j := v5_6.toNatClampNeg) (w' := w77) h76 rfl ew77 dX2_summedUp_112 (fun H locs hP hS => ?_)
            obtain ⟨v5_78, ev5_78, hf⟩ := ob_bnd hf
            refine lv_iinc (v := v5_78) (lv' := [(5, .int v5_78), (0, .ref (E 0)), (3, .int v3_1), (4, .int v4_2), (6, .int v6_7), (7, .int v7_8)]) hx hb dX2_summedUp_113 hl (k := 3) rfl (by rw [ev5_78]; rfl) (by decide) rfl (fun ls hl => ?_)
            refine lv_goto (tgt := 400) hx hb dX2_summedUp_116 (by decide) ?_
            exact kj400 v5_78 v6_7 w77 H locs ls hf hP hS (lv_sub hl [1, 2, 3, 0, 4, 5] rfl)
          refine lv_if_ne (tgt := 104) hx hb dX2_summedUp_95 (by decide) (fun c79 => ?_) (fun c79 => ?_)
          · replace hf := ob_f hf c79
            refine lv_aload_n hx hb dX2_summedUp_104 rfl (lv_at hl 2 rfl) ?_
            refine xr_get hx hb hts in_X2 hown hK hP 0 (by decide) rfl rfl 20 (by decide) (hts _ q1425) (fun _ h => h) rfl (v := .ref (E 6)) rfl dX2_summedUp_105 ?_
            refine lv_iload hx hb dX2_summedUp_108 (lv_at hl 0 rfl) ?_
            obtain ⟨h80, hf⟩ := ob_gd hf
            refine xr_iald hx hb hK hP 6 (by decide) rfl 0 rfl (j := v9_15.toNatClampNeg) h80 rfl dX2_summedUp_110 ?_
            refine lv_i2l hx hb dX2_summedUp_111 rfl ?_
            exact kj112 ((w5.1 6 v9_15.toNatClampNeg).toInt64) H locs ls hf hP hS (lv_sub hl [2, 3, 4, 5, 6, 7] rfl)
          · replace hf := ob_t hf c79
            refine lv_iload hx hb dX2_summedUp_98 (lv_at hl 0 rfl) ?_
            refine lv_i2l hx hb dX2_summedUp_100 rfl ?_
            refine lv_goto (tgt := 112) hx hb dX2_summedUp_101 (by decide) ?_
            exact kj112 v9_15.toInt64 H locs ls hf hP hS (lv_sub hl [2, 3, 4, 5, 6, 7] rfl)
  refine kL38 n9 w 0 0 v7_4 hn9 (fun H locs ls hP hS hl => ?_) H locs ls hP hS (lv_sub hl [5, 4, 3, 2, 1, 0] rfl)
  replace hf : M_summedUp_x38_406 b9 = some res := hf
  unfold M_summedUp_x38_406 at hf
  refine lv_aload_n hx hb dX2_summedUp_406 rfl (lv_at hl 0 rfl) ?_
  refine xr_get hx hb hts in_X2 hown hK hP 0 (by decide) rfl rfl 21 (by decide) (hts _ q1426) (fun _ h => h) rfl (v := .ref (E 7)) rfl dX2_summedUp_407 ?_
  refine lv_iconst (v := 0) hx hb dX2_summedUp_410 (by decide) ?_
  refine xr_lald hx hb hK hP 7 (by decide) rfl 2 rfl (j := 0) (vin_c (by decide)) (by decide) dX2_summedUp_411 ?_
  obtain rfl := ob_s hf
  subst hQ
  exact xe_l hx hb hr hlocks hP hS dX2_summedUp_412
abbrev rmX2_says : Room := { frames := 3, cells := 0, slots := 0, locals := 74 }
theorem cdX2_says : yX2_says.cls = RX2 ∧ yX2_says.cls ≠ "java/lang/invoke/MethodHandle" ∧ yX2_says.cls ≠ "java/lang/invoke/VarHandle" ∧ (parseMethodDescriptor yX2_says.desc).map (fun d => d.parameters.length) = some 5 := by decide +kernel
set_option maxHeartbeats 4000000 in
set_option maxRecDepth 100000 in
theorem wkX2_says (l : Launch) (D : va_G) (dA : Nat → ClassId) (E : Nat → Nat) (hE : wInj 19 E) (w : Mm) (a1 : Int32) (a2 : Int32) (a3 : Int64) (a5 : Int32) (a6 : Int32) {res : Int32 × Mm} (hf : M_says w a1 a2 a3 a5 a6 = some res) : Met l yX2_says (ws_ yX2_says cX2_says 8 (some .int)) rmX2_says (Pw D clM (tyM dA) shM 19 dA E [.ref (E 0), .int a1, .int a2, .long a3, .int a5, .int a6] w) (Qwi D clM shM 19 dA E res.1 res.2) 0 0 (AE 19 E) := by
  refine xm_head (own := RX2) (by decide) rfl (Nat.le_of_ble_eq_true rfl) ?_
  intro p e s m args below meth c ls Q hQ C hP hl
  obtain ⟨hx, hb, hr, hlocks, hml, hown, hts, hK⟩ := C
  replace hl : lv_has ls 8 [(0, .ref (E 0)), (1, .int a1), (2, .int a2), (3, .long a3), (5, .int a5), (6, .int a6)] := hl
  have hS : va_S (AE 19 E) s.heap s.heap [] := va_S.rf
  have hD : wD 19 E (AE 19 E) := wD.self hE
  unfold M_says at hf
  obtain ⟨H, eH⟩ : ∃ H, H = s.heap := ⟨_, rfl⟩
  obtain ⟨locs, eL⟩ : ∃ locs : List Loc, locs = [] := ⟨_, rfl⟩
  rw [← eL] at hS ⊢
  rw [← eH] at hP
  have hS : va_S (AE 19 E) s.heap H locs := by rw [eH]; exact hS
  show W p l e rmX2_says s m args below meth c s.heap locs 0 0 Q (F0 m 0 ls [])
  rw [← eH]
  refine lv_iconst (v := 0) hx hb dX2_says_0 (by decide) ?_
  refine lv_istore (lv' := [(7, .int 0), (0, .ref (E 0)), (1, .int a1), (2, .int a2), (3, .long a3), (5, .int a5), (6, .int a6)]) hx hb dX2_says_1 hl (by decide) rfl (fun ls hl => ?_)
  obtain ⟨b2, hb2, hf⟩ := ob_bind hf
  obtain ⟨n2, hn2⟩ := lp_some hb2
  have kL3 : ∀ (n : Nat) (v7_1 : Int32), lpF (fun (q2 : Int32) => M_says_b3 a1 w a2 q2) n v7_1 = some b2 → (∀ (x2_0 : Int32), b2 = .inl x2_0 → ∀ (H : Heap) (locs : List Loc) (ls : Array Slot), va_P D clM (wl shM 19 dA E w) H → va_S (AE 19 E) s.heap H locs → lv_has ls 8 [(0, .ref (E 0)), (1, .int a1), (5, .int a5), (6, .int a6), (7, .int x2_0)] → W p l e rmX2_says s m args below meth c H locs 0 0 Q (F0 m 43 ls [])) → (∀ (x2_1 : Unit), b2 = .inr x2_1 → ∀ (H : Heap) (locs : List Loc) (ls : Array Slot), va_P D clM (wl shM 19 dA E w) H → va_S (AE 19 E) s.heap H locs → lv_has ls 8 [(3, .long a3), (5, .int a5), (6, .int a6)] → W p l e rmX2_says s m args below meth c H locs 0 0 Q (F0 m 64 ls [])) → ∀ (H : Heap) (locs : List Loc) (ls : Array Slot), va_P D clM (wl shM 19 dA E w) H → va_S (AE 19 E) s.heap H locs → lv_has ls 8 [(0, .ref (E 0)), (1, .int a1), (2, .int a2), (3, .long a3), (5, .int a5), (6, .int a6), (7, .int v7_1)] → W p l e rmX2_says s m args below meth c H locs 0 0 Q (F0 m 3 ls []) := by
    intro n
    induction n with
    | zero =>
      intro v7_1 h
      cases h
    | succ n ih =>
      intro v7_1 h K2_0 K2_1 H locs ls hP hS hl
      obtain ⟨r2, hf, h2a, h2b⟩ := lpF_step h
      replace hf : M_says_b3 a1 w a2 v7_1 = some r2 := hf
      unfold M_says_b3 at hf
      refine lv_iload_n hx hb dX2_says_3 rfl (lv_at hl 1 rfl) ?_
      refine lv_if_lt (tgt := 64) hx hb dX2_says_4 (by decide) (fun c3 => ?_) (fun c3 => ?_)
      · replace hf := ob_t hf c3
        obtain rfl := ob_s hf
        exact K2_1 _ (h2b _ rfl).symm H locs ls hP hS (lv_sub hl [3, 4, 5] rfl)
      · replace hf := ob_f hf c3
        refine lv_iload hx hb dX2_says_7 (lv_at hl 6 rfl) ?_
        refine lv_aload_n hx hb dX2_says_9 rfl (lv_at hl 0 rfl) ?_
        refine xr_get hx hb hts in_X2 hown hK hP 0 (by decide) rfl rfl 2 (by decide) (hts _ q1407) (fun _ h => h) rfl (v := .ref (E 3)) rfl dX2_says_10 ?_
        refine lv_sipush (v := 705) hx hb dX2_says_13 (by decide) ?_
        refine lv_iload_n hx hb dX2_says_16 rfl (lv_at hl 1 rfl) ?_
        refine lv_imul hx hb dX2_says_17 ?_
        obtain ⟨h4, hf⟩ := ob_gd hf
        refine xr_iald hx hb hK hP 3 (by decide) rfl 0 rfl (j := (705 * a1).toNatClampNeg) h4 rfl dX2_says_18 ?_
        refine lv_icmp_ge (tgt := 64) hx hb dX2_says_19 (by decide) (fun c5 => ?_) (fun c5 => ?_)
        · replace hf := ob_t hf c5
          obtain rfl := ob_s hf
          exact K2_1 _ (h2b _ rfl).symm H locs ls hP hS (lv_sub hl [3, 4, 5] rfl)
        · replace hf := ob_f hf c5
          refine lv_aload_n hx hb dX2_says_22 rfl (lv_at hl 0 rfl) ?_
          refine xr_get hx hb hts in_X2 hown hK hP 0 (by decide) rfl rfl 2 (by decide) (hts _ q1407) (fun _ h => h) rfl (v := .ref (E 3)) rfl dX2_says_23 ?_
          refine lv_sipush (v := 705) hx hb dX2_says_26 (by decide) ?_
          refine lv_iload_n hx hb dX2_says_29 rfl (lv_at hl 1 rfl) ?_
          refine lv_imul hx hb dX2_says_30 ?_
          refine lv_iconst (v := 1) hx hb dX2_says_31 (by decide) ?_
          refine lv_iadd hx hb dX2_says_32 ?_
          refine lv_iconst (v := 4) hx hb dX2_says_33 (by decide) ?_
          refine lv_iload hx hb dX2_says_34 (lv_at hl 6 rfl) ?_
          refine lv_imul hx hb dX2_says_36 ?_
          refine lv_iadd hx hb dX2_says_37 ?_
          obtain ⟨h6, hf⟩ := ob_gd hf
          refine xr_iald hx hb hK hP 3 (by decide) rfl 0 rfl (j := (((705 * a1) + 1) + (4 * v7_1)).toNatClampNeg) h6 rfl dX2_says_38 ?_
          refine lv_iload_n hx hb dX2_says_39 rfl (lv_at hl 2 rfl) ?_
          refine lv_icmp_ne (tgt := 58) hx hb dX2_says_40 (by decide) (fun c7 => ?_) (fun c7 => ?_)
          · replace hf := ob_f hf c7
            obtain ⟨v7_8, ev7_8, hf⟩ := ob_bnd hf
            refine lv_iinc (v := v7_8) (lv' := [(7, .int v7_8), (0, .ref (E 0)), (1, .int a1), (2, .int a2), (3, .long a3), (5, .int a5), (6, .int a6)]) hx hb dX2_says_58 hl (k := 6) rfl (by rw [ev7_8]; rfl) (by decide) rfl (fun ls hl => ?_)
            refine lv_goto (tgt := 3) hx hb dX2_says_61 (by decide) ?_
            obtain rfl := ob_s hf
            exact ih _ (h2a _ rfl) K2_0 K2_1 H locs ls hP hS (lv_sub hl [1, 2, 3, 4, 5, 6, 0] rfl)
          · replace hf := ob_t hf c7
            obtain rfl := ob_s hf
            exact K2_0 _ (h2b _ rfl).symm H locs ls hP hS (lv_sub hl [0, 1, 4, 5, 6] rfl)
  refine kL3 n2 0 hn2 (fun x2_0 ex2_0 H locs ls hP hS hl => ?_) (fun x2_1 ex2_1 H locs ls hP hS hl => ?_) H locs ls hP hS (lv_sub hl [1, 2, 3, 4, 5, 6, 0] rfl)
  · subst ex2_0
    replace hf : M_says_x3_43 w a1 x2_0 a5 a6 = some res := hf
    unfold M_says_x3_43 at hf
    refine lv_aload_n hx hb dX2_says_43 rfl (lv_at hl 0 rfl) ?_
    refine lv_iload_n hx hb dX2_says_44 rfl (lv_at hl 1 rfl) ?_
    refine lv_iload hx hb dX2_says_45 (lv_at hl 4 rfl) ?_
    obtain ⟨q10, g9, hf⟩ := ob_bind hf
    refine xc_l (xw_run (As := [.int a1, .int x2_0]) (rest := []) ⟨hx, hb, hml, hown, hts⟩ (k0 := 0) (wkX2_summedUp l D dA E hE w a1 x2_0 g9) (cwV 2 hts (lw_V q1792 q1794 qs105 q140 q1795) rfl rfl rfl cdX2_summedUp ⟨Nat.le_of_ble_eq_true rfl, Nat.le_of_ble_eq_true rfl⟩) hK hP (by decide) rfl rfl rfl hl.1 rfl rfl (Nat.le_of_ble_eq_true rfl) dX2_says_47 ⟨Nat.zero_le _, Nat.zero_le _⟩) hS hD.2 (fun H locs hP hS => ?_)
    refine lv_iload hx hb dX2_says_50 (lv_at hl 2 rfl) ?_
    refine lv_iload hx hb dX2_says_52 (lv_at hl 3 rfl) ?_
    obtain ⟨q12, g11, hf⟩ := ob_bind hf
    refine xc_i (xw_runS (As := [.long q10.1, .int a5, .int a6]) (rest := []) ⟨hx, hb, hml, hown, hts⟩ (wkX2_held l D dA E hE q10.2 q10.1 a5 a6 g11) (va_cwS 3 hts (lw_S q1749 q1750 q140 q1751) rfl rfl rfl cdX2_held.2 ⟨Nat.le_of_ble_eq_true rfl, Nat.le_of_ble_eq_true rfl⟩) hK hP hl.1 rfl rfl (Nat.le_of_ble_eq_true rfl) dX2_says_54 ⟨Nat.zero_le _, Nat.zero_le _⟩) hS hD.2 (fun H locs hP hS => ?_)
    obtain rfl := ob_s hf
    subst hQ
    exact xe_i hx hb hr hlocks hP hS dX2_says_57
  · subst ex2_1
    replace hf : M_says_x3_64 a3 a5 a6 w = some res := hf
    unfold M_says_x3_64 at hf
    refine lv_lload_n hx hb dX2_says_64 rfl (lv_at hl 0 rfl) ?_
    refine lv_iload hx hb dX2_says_65 (lv_at hl 1 rfl) ?_
    refine lv_iload hx hb dX2_says_67 (lv_at hl 2 rfl) ?_
    obtain ⟨q14, g13, hf⟩ := ob_bind hf
    refine xc_i (xw_runS (As := [.long a3, .int a5, .int a6]) (rest := []) ⟨hx, hb, hml, hown, hts⟩ (wkX2_held l D dA E hE w a3 a5 a6 g13) (va_cwS 3 hts (lw_S q1749 q1750 q140 q1751) rfl rfl rfl cdX2_held.2 ⟨Nat.le_of_ble_eq_true rfl, Nat.le_of_ble_eq_true rfl⟩) hK hP hl.1 rfl rfl (Nat.le_of_ble_eq_true rfl) dX2_says_69 ⟨Nat.zero_le _, Nat.zero_le _⟩) hS hD.2 (fun H locs hP hS => ?_)
    obtain rfl := ob_s hf
    subst hQ
    exact xe_i hx hb hr hlocks hP hS dX2_says_72
abbrev rmX2_duesBy : Room := { frames := 4, cells := 0, slots := 0, locals := 101 }
theorem cdX2_duesBy : yX2_duesBy.cls = RX2 ∧ yX2_duesBy.cls ≠ "java/lang/invoke/MethodHandle" ∧ yX2_duesBy.cls ≠ "java/lang/invoke/VarHandle" ∧ (parseMethodDescriptor yX2_duesBy.desc).map (fun d => d.parameters.length) = some 4 := by decide +kernel
set_option maxHeartbeats 4000000 in
set_option maxRecDepth 100000 in
theorem wkX2_duesBy (l : Launch) (D : va_G) (dA : Nat → ClassId) (E : Nat → Nat) (hE : wInj 19 E) (w : Mm) (a1 : Int32) (a2 : Int32) (a3 : Int32) (a4 : Int32) {res : Int32 × Mm} (hf : M_duesBy w a1 a2 a3 a4 = some res) : Met l yX2_duesBy (ws_ yX2_duesBy cX2_duesBy 5 (some .int)) rmX2_duesBy (Pw D clM (tyM dA) shM 19 dA E [.ref (E 0), .int a1, .int a2, .int a3, .int a4] w) (Qwi D clM shM 19 dA E res.1 res.2) 0 0 (AE 19 E) := by
  refine xm_head (own := RX2) (by decide) rfl (Nat.le_of_ble_eq_true rfl) ?_
  intro p e s m args below meth c ls Q hQ C hP hl
  obtain ⟨hx, hb, hr, hlocks, hml, hown, hts, hK⟩ := C
  replace hl : lv_has ls 5 [(0, .ref (E 0)), (1, .int a1), (2, .int a2), (3, .int a3), (4, .int a4)] := hl
  have hS : va_S (AE 19 E) s.heap s.heap [] := va_S.rf
  have hD : wD 19 E (AE 19 E) := wD.self hE
  unfold M_duesBy at hf
  obtain ⟨H, eH⟩ : ∃ H, H = s.heap := ⟨_, rfl⟩
  obtain ⟨locs, eL⟩ : ∃ locs : List Loc, locs = [] := ⟨_, rfl⟩
  rw [← eL] at hS ⊢
  rw [← eH] at hP
  have hS : va_S (AE 19 E) s.heap H locs := by rw [eH]; exact hS
  show W p l e rmX2_duesBy s m args below meth c s.heap locs 0 0 Q (F0 m 0 ls [])
  rw [← eH]
  refine lv_aload_n hx hb dX2_duesBy_0 rfl (lv_at hl 0 rfl) ?_
  refine lv_iload_n hx hb dX2_duesBy_1 rfl (lv_at hl 2 rfl) ?_
  refine lv_iload_n hx hb dX2_duesBy_2 rfl (lv_at hl 3 rfl) ?_
  obtain ⟨q2, g1, hf⟩ := ob_bind hf
  refine xc_v (xw_run (As := [.int a2, .int a3]) (rest := []) ⟨hx, hb, hml, hown, hts⟩ (k0 := 0) (wkX2_name l D dA E hE w a2 a3 g1) (cwV 2 hts (lw_V q1776 q1778 qs101 q140 q1779) rfl rfl rfl cdX2_name ⟨Nat.le_of_ble_eq_true rfl, Nat.le_of_ble_eq_true rfl⟩) hK hP (by decide) rfl rfl rfl hl.1 rfl rfl (Nat.le_of_ble_eq_true rfl) dX2_duesBy_3 ⟨Nat.zero_le _, Nat.zero_le _⟩) hS hD.2 (fun H locs hP hS => ?_)
  refine lv_aload_n hx hb dX2_duesBy_6 rfl (lv_at hl 0 rfl) ?_
  refine xr_get hx hb hts in_X2 hown hK hP 0 (by decide) rfl rfl 20 (by decide) (hts _ q1425) (fun _ h => h) rfl (v := .ref (E 6)) rfl dX2_duesBy_7 ?_
  refine lv_bipush (v := 6) hx hb dX2_duesBy_10 (by decide) ?_
  refine lv_iload hx hb dX2_duesBy_12 (lv_at hl 4 rfl) ?_
  obtain ⟨w3, ew3, hf⟩ := ob_bnd hf
  refine xr_iast hx hb hK hP hD hS 6 (by decide) rfl 0 rfl (j := 6) (w' := w3) (vin_c (by decide)) (by decide) ew3 dX2_duesBy_14 (fun H locs hP hS => ?_)
  refine lv_aload_n hx hb dX2_duesBy_15 rfl (lv_at hl 0 rfl) ?_
  refine lv_iload_n hx hb dX2_duesBy_16 rfl (lv_at hl 1 rfl) ?_
  refine lv_iconst (v := 0) hx hb dX2_duesBy_17 (by decide) ?_
  refine lv_aload_n hx hb dX2_duesBy_18 rfl (lv_at hl 0 rfl) ?_
  refine xr_get hx hb hts in_X2 hown hK hP 0 (by decide) rfl rfl 20 (by decide) (hts _ q1425) (fun _ h => h) rfl (v := .ref (E 6)) rfl dX2_duesBy_19 ?_
  refine lv_iconst (v := 3) hx hb dX2_duesBy_22 (by decide) ?_
  refine xr_iald hx hb hK hP 6 (by decide) rfl 0 rfl (j := 3) (vin_c (by decide)) (by decide) dX2_duesBy_23 ?_
  refine lv_aload_n hx hb dX2_duesBy_24 rfl (lv_at hl 0 rfl) ?_
  refine xr_get hx hb hts in_X2 hown hK hP 0 (by decide) rfl rfl 20 (by decide) (hts _ q1425) (fun _ h => h) rfl (v := .ref (E 6)) rfl dX2_duesBy_25 ?_
  refine lv_iconst (v := 5) hx hb dX2_duesBy_28 (by decide) ?_
  refine xr_iald hx hb hK hP 6 (by decide) rfl 0 rfl (j := 5) (vin_c (by decide)) (by decide) dX2_duesBy_29 ?_
  refine lv_aload_n hx hb dX2_duesBy_30 rfl (lv_at hl 0 rfl) ?_
  refine xr_get hx hb hts in_X2 hown hK hP 0 (by decide) rfl rfl 20 (by decide) (hts _ q1425) (fun _ h => h) rfl (v := .ref (E 6)) rfl dX2_duesBy_31 ?_
  refine lv_iconst (v := 3) hx hb dX2_duesBy_34 (by decide) ?_
  refine xr_iald hx hb hK hP 6 (by decide) rfl 0 rfl (j := 3) (vin_c (by decide)) (by decide) dX2_duesBy_35 ?_
  refine lv_imul hx hb dX2_duesBy_36 ?_
  refine lv_bipush (v := 50) hx hb dX2_duesBy_37 (by decide) ?_
  refine lv_idiv hx hb dX2_duesBy_39 (by decide) ?_
  refine lv_iadd hx hb dX2_duesBy_40 ?_
  refine lv_i2l hx hb dX2_duesBy_41 rfl ?_
  refine lv_iconst (v := 0) hx hb dX2_duesBy_42 (by decide) ?_
  refine lv_sipush (v := 9999) hx hb dX2_duesBy_43 (by decide) ?_
  obtain ⟨q5, g4, hf⟩ := ob_bind hf
  refine xc_i (xw_run (As := [.int a1, .int 0, .long (((w3.1 6 3) + (((w3.1 6 5) * (w3.1 6 3)) / 50)).toInt64), .int 0, .int 9999]) (rest := []) ⟨hx, hb, hml, hown, hts⟩ (k0 := 0) (wkX2_says l D dA E hE w3 a1 0 (((w3.1 6 3) + (((w3.1 6 5) * (w3.1 6 3)) / 50)).toInt64) 0 9999 g4) (cwV 5 hts (lw_V q1788 q1790 qs104 q140 q1791) rfl rfl rfl cdX2_says ⟨Nat.le_of_ble_eq_true rfl, Nat.le_of_ble_eq_true rfl⟩) hK hP (by decide) rfl rfl rfl hl.1 rfl rfl (Nat.le_of_ble_eq_true rfl) dX2_duesBy_46 ⟨Nat.zero_le _, Nat.zero_le _⟩) hS hD.2 (fun H locs hP hS => ?_)
  obtain rfl := ob_s hf
  subst hQ
  exact xe_i hx hb hr hlocks hP hS dX2_duesBy_49
