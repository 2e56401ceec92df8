/-! reading: the methods walked (printed by genr.py) -/
abbrev rmJ6_checkIndex : Room := { frames := 0, cells := 0, slots := 0, locals := 0 }
theorem cdJ6_checkIndex : yJ6_checkIndex.cls = RJ6 ∧ yJ6_checkIndex.cls ≠ "java/lang/invoke/MethodHandle" ∧ yJ6_checkIndex.cls ≠ "java/lang/invoke/VarHandle" ∧ (parseMethodDescriptor yJ6_checkIndex.desc).map (fun d => d.parameters.length) = some 3 := by decide +kernel
set_option maxHeartbeats 4000000 in
set_option maxRecDepth 100000 in
theorem wkJ6_checkIndex (l : Launch) (D : va_G) (dA : Nat → ClassId) (J : State → Heap → Prop) (hJ : JR J) (h : Hv) (a0 : Int32) (a1 : Int32) {res : Int32} (hf : O_J6_checkIndex a0 a1 = some res) : Met l yJ6_checkIndex (ws_ yJ6_checkIndex cJ6_checkIndex 3 (some .int)) rmJ6_checkIndex (Pr D dA J [.int a0, .int a1, .null] h) (Qri res) 0 0 nA := by
  refine xh_head (own := RJ6) (by decide) rfl (Nat.le_of_ble_eq_true rfl) ?_
  intro p e s m args below meth c ls Q hQ C hP hl
  obtain ⟨hx, hb, hr, hlocks, hml, hown, hts, hK, hJs⟩ := C
  replace hl : lv_has ls 3 [(0, .int a0), (1, .int a1), (2, .null)] := hl
  have hS : va_S nA s.heap s.heap [] := va_S.rf
  unfold O_J6_checkIndex at hf
  obtain ⟨H, eH⟩ : ∃ H, H = s.heap := ⟨_, rfl⟩
  obtain ⟨locs, eL⟩ : ∃ locs : List Loc, locs = [] := ⟨_, rfl⟩
  rw [← eL] at hS ⊢
  rw [← eH] at hP
  have hS : va_S nA s.heap H locs := by rw [eH]; exact hS
  show W p l e rmJ6_checkIndex s m args below meth c s.heap locs 0 0 Q (F0 m 0 ls [])
  rw [← eH]
  refine lv_iload_n hx hb dJ6_checkIndex_0 rfl (lv_at hl 0 rfl) ?_
  refine lv_if_lt (tgt := 9) hx hb dJ6_checkIndex_1 (by decide) (fun c1 => ?_) (fun c1 => ?_)
  · replace hf := ob_t hf c1
    cases hf
  · replace hf := ob_f hf c1
    refine lv_iload_n hx hb dJ6_checkIndex_4 rfl (lv_at hl 0 rfl) ?_
    refine lv_iload_n hx hb dJ6_checkIndex_5 rfl (lv_at hl 1 rfl) ?_
    refine lv_icmp_lt (tgt := 16) hx hb dJ6_checkIndex_6 (by decide) (fun c2 => ?_) (fun c2 => ?_)
    · replace hf := ob_t hf c2
      refine lv_iload_n hx hb dJ6_checkIndex_16 rfl (lv_at hl 0 rfl) ?_
      obtain rfl := ob_s hf
      subst hQ
      exact xg_i hx hb hr hlocks hS dJ6_checkIndex_17
    · replace hf := ob_f hf c2
      cases hf
set_option maxHeartbeats 4000000 in
set_option maxRecDepth 100000 in
theorem wkJ6_checkIndexR (l : Launch) (D : va_G) (dA : Nat → ClassId) (J : State → Heap → Prop) (hJ : JR J) (h : Hv) (a0 : Int32) (a1 : Int32) (a2 : Nat) {res : Int32} (hf : O_J6_checkIndexR a0 a1 a2 = some res) : Met l yJ6_checkIndex (ws_ yJ6_checkIndex cJ6_checkIndex 3 (some .int)) rmJ6_checkIndex (Pr D dA J [.int a0, .int a1, .ref a2] h) (Qri res) 0 0 nA := by
  refine xh_head (own := RJ6) (by decide) rfl (Nat.le_of_ble_eq_true rfl) ?_
  intro p e s m args below meth c ls Q hQ C hP hl
  obtain ⟨hx, hb, hr, hlocks, hml, hown, hts, hK, hJs⟩ := C
  replace hl : lv_has ls 3 [(0, .int a0), (1, .int a1), (2, .ref a2)] := hl
  have hS : va_S nA s.heap s.heap [] := va_S.rf
  unfold O_J6_checkIndexR at hf
  obtain ⟨H, eH⟩ : ∃ H, H = s.heap := ⟨_, rfl⟩
  obtain ⟨locs, eL⟩ : ∃ locs : List Loc, locs = [] := ⟨_, rfl⟩
  rw [← eL] at hS ⊢
  rw [← eH] at hP
  have hS : va_S nA s.heap H locs := by rw [eH]; exact hS
  show W p l e rmJ6_checkIndex s m args below meth c s.heap locs 0 0 Q (F0 m 0 ls [])
  rw [← eH]
  refine lv_iload_n hx hb dJ6_checkIndex_0 rfl (lv_at hl 0 rfl) ?_
  refine lv_if_lt (tgt := 9) hx hb dJ6_checkIndex_1 (by decide) (fun c1 => ?_) (fun c1 => ?_)
  · replace hf := ob_t hf c1
    cases hf
  · replace hf := ob_f hf c1
    refine lv_iload_n hx hb dJ6_checkIndex_4 rfl (lv_at hl 0 rfl) ?_
    refine lv_iload_n hx hb dJ6_checkIndex_5 rfl (lv_at hl 1 rfl) ?_
    refine lv_icmp_lt (tgt := 16) hx hb dJ6_checkIndex_6 (by decide) (fun c2 => ?_) (fun c2 => ?_)
    · replace hf := ob_t hf c2
      refine lv_iload_n hx hb dJ6_checkIndex_16 rfl (lv_at hl 0 rfl) ?_
      obtain rfl := ob_s hf
      subst hQ
      exact xg_i hx hb hr hlocks hS dJ6_checkIndex_17
    · replace hf := ob_f hf c2
      cases hf
abbrev rmX3_isLetter : Room := { frames := 0, cells := 0, slots := 0, locals := 0 }
theorem cdX3_isLetter : yX3_isLetter.cls = RX3 ∧ yX3_isLetter.cls ≠ "java/lang/invoke/MethodHandle" ∧ yX3_isLetter.cls ≠ "java/lang/invoke/VarHandle" ∧ (parseMethodDescriptor yX3_isLetter.desc).map (fun d => d.parameters.length) = some 1 := by decide +kernel
set_option maxHeartbeats 4000000 in
set_option maxRecDepth 100000 in
theorem wkX3_isLetter (l : Launch) (D : va_G) (dA : Nat → ClassId) (J : State → Heap → Prop) (hJ : JR J) (h : Hv) (a0 : Int32) {res : Int32} (hf : O_X3_isLetter a0 = some res) : Met l yX3_isLetter (ws_ yX3_isLetter cX3_isLetter 1 (some .boolean)) rmX3_isLetter (Pr D dA J [.int a0] h) (Qrz res) 0 0 nA := by
  refine xh_head (own := RX3) (by decide) rfl (Nat.le_of_ble_eq_true rfl) ?_
  intro p e s m args below meth c ls Q hQ C hP hl
  obtain ⟨hx, hb, hr, hlocks, hml, hown, hts, hK, hJs⟩ := C
  replace hl : lv_has ls 1 [(0, .int a0)] := hl
  have hS : va_S nA s.heap s.heap [] := va_S.rf
  unfold O_X3_isLetter at hf
  obtain ⟨H, eH⟩ : ∃ H, H = s.heap := ⟨_, rfl⟩
  obtain ⟨locs, eL⟩ : ∃ locs : List Loc, locs = [] := ⟨_, rfl⟩
  rw [← eL] at hS ⊢
  rw [← eH] at hP
  have hS : va_S nA s.heap H locs := by rw [eH]; exact hS
  show W p l e rmX3_isLetter s m args below meth c s.heap locs 0 0 Q (F0 m 0 ls [])
  rw [← eH]
  refine lv_iload_n hx hb dX3_isLetter_0 rfl (lv_at hl 0 rfl) ?_
  refine lv_bipush (v := 97) hx hb dX3_isLetter_1 (by decide) ?_
  have kj24 : ∀ (H : Heap) (locs : List Loc) (ls : Array Slot), O_X3_isLetter_j24 = some res → HF D dA h H → va_S nA s.heap H locs → lv_has ls 1 [] → W p l e rmX3_isLetter s m args below meth c H locs 0 0 Q (F0 m 24 ls []) := by
    intro H locs ls hf hP hS hl
    unfold O_X3_isLetter_j24 at hf
    refine lv_iconst (v := 1) hx hb dX3_isLetter_24 (by decide) ?_
    refine lv_goto (tgt := 29) hx hb dX3_isLetter_25 (by decide) ?_
    obtain rfl := ob_s hf
    subst hQ
    exact xg_z hx hb hr hlocks hS (Or.inr rfl) dX3_isLetter_29
  have kj12 : ∀ (H : Heap) (locs : List Loc) (ls : Array Slot), O_X3_isLetter_j12 a0 = some res → HF D dA h H → va_S nA s.heap H locs → lv_has ls 1 [(0, .int a0)] → W p l e rmX3_isLetter s m args below meth c H locs 0 0 Q (F0 m 12 ls []) := by
    intro H locs ls hf hP hS hl
    unfold O_X3_isLetter_j12 at hf
    refine lv_iload_n hx hb dX3_isLetter_12 rfl (lv_at hl 0 rfl) ?_
    refine lv_bipush (v := 65) hx hb dX3_isLetter_13 (by decide) ?_
    refine lv_icmp_lt (tgt := 28) hx hb dX3_isLetter_15 (by decide) (fun c1 => ?_) (fun c1 => ?_)
    · replace hf := ob_t hf c1
      refine lv_iconst (v := 0) hx hb dX3_isLetter_28 (by decide) ?_
      obtain rfl := ob_s hf
      subst hQ
      exact xg_z hx hb hr hlocks hS (Or.inl rfl) dX3_isLetter_29
    · replace hf := ob_f hf c1
      refine lv_iload_n hx hb dX3_isLetter_18 rfl (lv_at hl 0 rfl) ?_
      refine lv_bipush (v := 90) hx hb dX3_isLetter_19 (by decide) ?_
      refine lv_icmp_gt (tgt := 28) hx hb dX3_isLetter_21 (by decide) (fun c2 => ?_) (fun c2 => ?_)
      · replace hf := ob_t hf c2
        refine lv_iconst (v := 0) hx hb dX3_isLetter_28 (by decide) ?_
        obtain rfl := ob_s hf
        subst hQ
        exact xg_z hx hb hr hlocks hS (Or.inl rfl) dX3_isLetter_29
      · replace hf := ob_f hf c2
        exact kj24 H locs ls hf hP hS (lv_sub hl [] rfl)
  refine lv_icmp_lt (tgt := 12) hx hb dX3_isLetter_3 (by decide) (fun c3 => ?_) (fun c3 => ?_)
  · replace hf := ob_t hf c3
    exact kj12 H locs ls hf hP hS (lv_sub hl [0] rfl)
  · replace hf := ob_f hf c3
    refine lv_iload_n hx hb dX3_isLetter_6 rfl (lv_at hl 0 rfl) ?_
    refine lv_bipush (v := 122) hx hb dX3_isLetter_7 (by decide) ?_
    refine lv_icmp_le (tgt := 24) hx hb dX3_isLetter_9 (by decide) (fun c4 => ?_) (fun c4 => ?_)
    · replace hf := ob_t hf c4
      exact kj24 H locs ls hf hP hS (lv_sub hl [] rfl)
    · replace hf := ob_f hf c4
      exact kj12 H locs ls hf hP hS (lv_sub hl [0] rfl)
abbrev rmX3_isDigit : Room := { frames := 0, cells := 0, slots := 0, locals := 0 }
theorem cdX3_isDigit : yX3_isDigit.cls = RX3 ∧ yX3_isDigit.cls ≠ "java/lang/invoke/MethodHandle" ∧ yX3_isDigit.cls ≠ "java/lang/invoke/VarHandle" ∧ (parseMethodDescriptor yX3_isDigit.desc).map (fun d => d.parameters.length) = some 1 := by decide +kernel
set_option maxHeartbeats 4000000 in
set_option maxRecDepth 100000 in
theorem wkX3_isDigit (l : Launch) (D : va_G) (dA : Nat → ClassId) (J : State → Heap → Prop) (hJ : JR J) (h : Hv) (a0 : Int32) {res : Int32} (hf : O_X3_isDigit a0 = some res) : Met l yX3_isDigit (ws_ yX3_isDigit cX3_isDigit 1 (some .boolean)) rmX3_isDigit (Pr D dA J [.int a0] h) (Qrz res) 0 0 nA := by
  refine xh_head (own := RX3) (by decide) rfl (Nat.le_of_ble_eq_true rfl) ?_
  intro p e s m args below meth c ls Q hQ C hP hl
  obtain ⟨hx, hb, hr, hlocks, hml, hown, hts, hK, hJs⟩ := C
  replace hl : lv_has ls 1 [(0, .int a0)] := hl
  have hS : va_S nA s.heap s.heap [] := va_S.rf
  unfold O_X3_isDigit at hf
  obtain ⟨H, eH⟩ : ∃ H, H = s.heap := ⟨_, rfl⟩
  obtain ⟨locs, eL⟩ : ∃ locs : List Loc, locs = [] := ⟨_, rfl⟩
  rw [← eL] at hS ⊢
  rw [← eH] at hP
  have hS : va_S nA s.heap H locs := by rw [eH]; exact hS
  show W p l e rmX3_isDigit s m args below meth c s.heap locs 0 0 Q (F0 m 0 ls [])
  rw [← eH]
  refine lv_iload_n hx hb dX3_isDigit_0 rfl (lv_at hl 0 rfl) ?_
  refine lv_bipush (v := 48) hx hb dX3_isDigit_1 (by decide) ?_
  refine lv_icmp_lt (tgt := 16) hx hb dX3_isDigit_3 (by decide) (fun c1 => ?_) (fun c1 => ?_)
  · replace hf := ob_t hf c1
    refine lv_iconst (v := 0) hx hb dX3_isDigit_16 (by decide) ?_
    obtain rfl := ob_s hf
    subst hQ
    exact xg_z hx hb hr hlocks hS (Or.inl rfl) dX3_isDigit_17
  · replace hf := ob_f hf c1
    refine lv_iload_n hx hb dX3_isDigit_6 rfl (lv_at hl 0 rfl) ?_
    refine lv_bipush (v := 57) hx hb dX3_isDigit_7 (by decide) ?_
    refine lv_icmp_gt (tgt := 16) hx hb dX3_isDigit_9 (by decide) (fun c2 => ?_) (fun c2 => ?_)
    · replace hf := ob_t hf c2
      refine lv_iconst (v := 0) hx hb dX3_isDigit_16 (by decide) ?_
      obtain rfl := ob_s hf
      subst hQ
      exact xg_z hx hb hr hlocks hS (Or.inl rfl) dX3_isDigit_17
    · replace hf := ob_f hf c2
      refine lv_iconst (v := 1) hx hb dX3_isDigit_12 (by decide) ?_
      refine lv_goto (tgt := 17) hx hb dX3_isDigit_13 (by decide) ?_
      obtain rfl := ob_s hf
      subst hQ
      exact xg_z hx hb hr hlocks hS (Or.inr rfl) dX3_isDigit_17
abbrev rmJ13_checkIndex : Room := { frames := 1, cells := 0, slots := 0, locals := 22 }
theorem cdJ13_checkIndex : yJ13_checkIndex.cls = RJ13 ∧ yJ13_checkIndex.cls ≠ "java/lang/invoke/MethodHandle" ∧ yJ13_checkIndex.cls ≠ "java/lang/invoke/VarHandle" ∧ (parseMethodDescriptor yJ13_checkIndex.desc).map (fun d => d.parameters.length) = some 2 := by decide +kernel
set_option maxHeartbeats 4000000 in
set_option maxRecDepth 100000 in
theorem wkJ13_checkIndex (l : Launch) (D : va_G) (dA : Nat → ClassId) (J : State → Heap → Prop) (hJ : JR J) (h : Hv) (a0 : Int32) (a1 : Int32) {res : Int32} (hf : O_J13_checkIndex a0 a1 = some res) : Met l yJ13_checkIndex (ws_ yJ13_checkIndex cJ13_checkIndex 2 (some .int)) rmJ13_checkIndex (Pr D dA J [.int a0, .int a1] h) (Qri res) 0 0 nA := by
  refine xh_head (own := RJ13) (by decide) rfl (Nat.le_of_ble_eq_true rfl) ?_
  intro p e s m args below meth c ls Q hQ C hP hl
  obtain ⟨hx, hb, hr, hlocks, hml, hown, hts, hK, hJs⟩ := C
  replace hl : lv_has ls 2 [(0, .int a0), (1, .int a1)] := hl
  have hS : va_S nA s.heap s.heap [] := va_S.rf
  unfold O_J13_checkIndex at hf
  obtain ⟨H, eH⟩ : ∃ H, H = s.heap := ⟨_, rfl⟩
  obtain ⟨locs, eL⟩ : ∃ locs : List Loc, locs = [] := ⟨_, rfl⟩
  rw [← eL] at hS ⊢
  rw [← eH] at hP
  have hS : va_S nA s.heap H locs := by rw [eH]; exact hS
  show W p l e rmJ13_checkIndex s m args below meth c s.heap locs 0 0 Q (F0 m 0 ls [])
  rw [← eH]
  refine lv_iload_n hx hb dJ13_checkIndex_0 rfl (lv_at hl 0 rfl) ?_
  refine lv_iload_n hx hb dJ13_checkIndex_1 rfl (lv_at hl 1 rfl) ?_
  refine lv_null hx hb dJ13_checkIndex_2 ?_
  obtain ⟨q1, g2, hf⟩ := ob_bind hf
  refine xh_i (xh_runS (As := [.int a0, .int a1, .null]) (rest := []) hJ hJs hS ⟨hx, hb, hml, hown, hts⟩ (wkJ6_checkIndex l D dA J hJ h a0 a1 g2) (va_cwS 3 hts (lw_S q715 q466 q148 q467) rfl rfl rfl cdJ6_checkIndex.2 ⟨Nat.le_of_ble_eq_true rfl, Nat.le_of_ble_eq_true rfl⟩) hK hP hl.1 rfl rfl (Nat.le_of_ble_eq_true rfl) dJ13_checkIndex_3 ⟨Nat.zero_le _, Nat.zero_le _⟩) hP hS (fun H locs hP hS => ?_)
  obtain rfl := ob_s hf
  subst hQ
  exact xg_i hx hb hr hlocks hS dJ13_checkIndex_6
abbrev rmJ3_size : Room := { frames := 0, cells := 0, slots := 0, locals := 0 }
theorem cdJ3_size : yJ3_size.cls = RJ3 ∧ yJ3_size.cls ≠ "java/lang/invoke/MethodHandle" ∧ yJ3_size.cls ≠ "java/lang/invoke/VarHandle" ∧ (parseMethodDescriptor yJ3_size.desc).map (fun d => d.parameters.length) = some 0 := by decide +kernel
set_option maxHeartbeats 4000000 in
set_option maxRecDepth 100000 in
theorem wkJ3_size (l : Launch) (D : va_G) (dA : Nat → ClassId) (J : State → Heap → Prop) (hJ : JR J) (h : Hv) (a0 : Nat) {res : Int32} (hf : O_J3_size h a0 = some res) : Met l yJ3_size (ws_ yJ3_size cJ3_size 1 (some .int)) rmJ3_size (Pr D dA J [.ref a0] h) (Qri res) 0 0 nA := by
  refine xh_head (own := RJ3) (by decide) rfl (Nat.le_of_ble_eq_true rfl) ?_
  intro p e s m args below meth c ls Q hQ C hP hl
  obtain ⟨hx, hb, hr, hlocks, hml, hown, hts, hK, hJs⟩ := C
  replace hl : lv_has ls 1 [(0, .ref a0)] := hl
  have hS : va_S nA s.heap s.heap [] := va_S.rf
  unfold O_J3_size at hf
  obtain ⟨H, eH⟩ : ∃ H, H = s.heap := ⟨_, rfl⟩
  obtain ⟨locs, eL⟩ : ∃ locs : List Loc, locs = [] := ⟨_, rfl⟩
  rw [← eL] at hS ⊢
  rw [← eH] at hP
  have hS : va_S nA s.heap H locs := by rw [eH]; exact hS
  show W p l e rmJ3_size s m args below meth c s.heap locs 0 0 Q (F0 m 0 ls [])
  rw [← eH]
  refine lv_aload_n hx hb dJ3_size_0 rfl (lv_at hl 0 rfl) ?_
  obtain ⟨x2, g1, hf⟩ := ob_bind hf
  refine xh_geti hx hb hts in_J3 hown hK hP (ci := 4) rfl 2 (by decide) (hts _ q401) (fun _ h => h) g1 dJ3_size_1 ?_
  obtain rfl := ob_s hf
  subst hQ
  exact xg_i hx hb hr hlocks hS dJ3_size_4
abbrev rmJ3_elementData : Room := { frames := 0, cells := 0, slots := 0, locals := 0 }
theorem cdJ3_elementData : yJ3_elementData.cls = RJ3 ∧ yJ3_elementData.cls ≠ "java/lang/invoke/MethodHandle" ∧ yJ3_elementData.cls ≠ "java/lang/invoke/VarHandle" ∧ (parseMethodDescriptor yJ3_elementData.desc).map (fun d => d.parameters.length) = some 1 := by decide +kernel
set_option maxHeartbeats 4000000 in
set_option maxRecDepth 100000 in
theorem wkJ3_elementData (l : Launch) (D : va_G) (dA : Nat → ClassId) (J : State → Heap → Prop) (hJ : JR J) (h : Hv) (a0 : Nat) (a1 : Int32) {res : Nat} (hf : O_J3_elementData h a0 a1 = some res) : Met l yJ3_elementData (ws_ yJ3_elementData cJ3_elementData 2 (some (.object "java/lang/Object"))) rmJ3_elementData (Pr D dA J [.ref a0, .int a1] h) (Qra res) 0 0 nA := by
  refine xh_head (own := RJ3) (by decide) rfl (Nat.le_of_ble_eq_true rfl) ?_
  intro p e s m args below meth c ls Q hQ C hP hl
  obtain ⟨hx, hb, hr, hlocks, hml, hown, hts, hK, hJs⟩ := C
  replace hl : lv_has ls 2 [(0, .ref a0), (1, .int a1)] := hl
  have hS : va_S nA s.heap s.heap [] := va_S.rf
  unfold O_J3_elementData at hf
  obtain ⟨H, eH⟩ : ∃ H, H = s.heap := ⟨_, rfl⟩
  obtain ⟨locs, eL⟩ : ∃ locs : List Loc, locs = [] := ⟨_, rfl⟩
  rw [← eL] at hS ⊢
  rw [← eH] at hP
  have hS : va_S nA s.heap H locs := by rw [eH]; exact hS
  show W p l e rmJ3_elementData s m args below meth c s.heap locs 0 0 Q (F0 m 0 ls [])
  rw [← eH]
  refine lv_aload_n hx hb dJ3_elementData_0 rfl (lv_at hl 0 rfl) ?_
  obtain ⟨r2, g1, hf⟩ := ob_bind hf
  refine xh_getr hx hb hts in_J3 hown hK hP (ci := 4) rfl 1 (by decide) (hts _ q400) (fun _ h => h) g1 dJ3_elementData_1 ?_
  refine lv_iload_n hx hb dJ3_elementData_4 rfl (lv_at hl 1 rfl) ?_
  obtain ⟨y3, g4, hf⟩ := ob_bind hf
  obtain ⟨h5, hf⟩ := ob_gd hf
  obtain ⟨r6, g7, hf⟩ := ob_bind hf
  refine xh_aald hx hb hK hP 8 5 rfl g4 (j := a1.toNatClampNeg) h5 rfl dJ3_elementData_5 ?_
  refine xn_a g7 ?_
  obtain rfl := ob_s hf
  subst hQ
  exact xg_a hx hb hr hlocks hS dJ3_elementData_6
abbrev rmJ3_get : Room := { frames := 2, cells := 0, slots := 0, locals := 43 }
theorem cdJ3_get : yJ3_get.cls = RJ3 ∧ yJ3_get.cls ≠ "java/lang/invoke/MethodHandle" ∧ yJ3_get.cls ≠ "java/lang/invoke/VarHandle" ∧ (parseMethodDescriptor yJ3_get.desc).map (fun d => d.parameters.length) = some 1 := by decide +kernel
set_option maxHeartbeats 4000000 in
set_option maxRecDepth 100000 in
theorem wkJ3_get (l : Launch) (D : va_G) (dA : Nat → ClassId) (J : State → Heap → Prop) (hJ : JR J) (h : Hv) (a0 : Nat) (a1 : Int32) {res : Nat} (hf : O_J3_get h a0 a1 = some res) : Met l yJ3_get (ws_ yJ3_get cJ3_get 2 (some (.object "java/lang/Object"))) rmJ3_get (Pr D dA J [.ref a0, .int a1] h) (Qra res) 0 0 nA := by
  refine xh_head (own := RJ3) (by decide) rfl (Nat.le_of_ble_eq_true rfl) ?_
  intro p e s m args below meth c ls Q hQ C hP hl
  obtain ⟨hx, hb, hr, hlocks, hml, hown, hts, hK, hJs⟩ := C
  replace hl : lv_has ls 2 [(0, .ref a0), (1, .int a1)] := hl
  have hS : va_S nA s.heap s.heap [] := va_S.rf
  unfold O_J3_get at hf
  obtain ⟨H, eH⟩ : ∃ H, H = s.heap := ⟨_, rfl⟩
  obtain ⟨locs, eL⟩ : ∃ locs : List Loc, locs = [] := ⟨_, rfl⟩
  rw [← eL] at hS ⊢
  rw [← eH] at hP
  have hS : va_S nA s.heap H locs := by rw [eH]; exact hS
  show W p l e rmJ3_get s m args below meth c s.heap locs 0 0 Q (F0 m 0 ls [])
  rw [← eH]
  refine lv_iload_n hx hb dJ3_get_0 rfl (lv_at hl 1 rfl) ?_
  refine lv_aload_n hx hb dJ3_get_1 rfl (lv_at hl 0 rfl) ?_
  obtain ⟨x2, g1, hf⟩ := ob_bind hf
  refine xh_geti hx hb hts in_J3 hown hK hP (ci := 4) rfl 2 (by decide) (hts _ q401) (fun _ h => h) g1 dJ3_get_2 ?_
  obtain ⟨q3, g4, hf⟩ := ob_bind hf
  refine xh_i (xh_runS (As := [.int a1, .int x2]) (rest := []) hJ hJs hS ⟨hx, hb, hml, hown, hts⟩ (wkJ13_checkIndex l D dA J hJ h a1 x2 g4) (va_cwS 2 hts (lw_S q712 q713 q160 q714) rfl rfl rfl cdJ13_checkIndex.2 ⟨Nat.le_of_ble_eq_true rfl, Nat.le_of_ble_eq_true rfl⟩) hK hP hl.1 rfl rfl (Nat.le_of_ble_eq_true rfl) dJ3_get_5 ⟨Nat.zero_le _, Nat.zero_le _⟩) hP hS (fun H locs hP hS => ?_)
  refine lv_pop hx hb dJ3_get_8 rfl ?_
  refine lv_aload_n hx hb dJ3_get_9 rfl (lv_at hl 0 rfl) ?_
  refine lv_iload_n hx hb dJ3_get_10 rfl (lv_at hl 1 rfl) ?_
  obtain ⟨g5, hf⟩ := ob_gp hf
  obtain ⟨q6, g7, hf⟩ := ob_bind hf
  refine xh_a (xh_run (As := [.int a1]) (rest := []) hJ hJs hS ⟨hx, hb, hml, hown, hts⟩ (wkJ3_elementData l D dA J hJ h a0 a1 g7) (cwV 1 hts (lw_V q716 q717 q718 q145 q719) rfl rfl rfl cdJ3_elementData ⟨Nat.le_of_ble_eq_true rfl, Nat.le_of_ble_eq_true rfl⟩) hK hP (of_decide_eq_true g5) (q := (RJ3, TJ3, 3)) rfl rfl hl.1 rfl rfl (Nat.le_of_ble_eq_true rfl) dJ3_get_11 ⟨Nat.zero_le _, Nat.zero_le _⟩) hP hS (fun H locs hP hS => ?_)
  obtain rfl := ob_s hf
  subst hQ
  exact xg_a hx hb hr hlocks hS dJ3_get_14
abbrev rmJ3_isEmpty : Room := { frames := 0, cells := 0, slots := 0, locals := 0 }
theorem cdJ3_isEmpty : yJ3_isEmpty.cls = RJ3 ∧ yJ3_isEmpty.cls ≠ "java/lang/invoke/MethodHandle" ∧ yJ3_isEmpty.cls ≠ "java/lang/invoke/VarHandle" ∧ (parseMethodDescriptor yJ3_isEmpty.desc).map (fun d => d.parameters.length) = some 0 := by decide +kernel
set_option maxHeartbeats 4000000 in
set_option maxRecDepth 100000 in
theorem wkJ3_isEmpty (l : Launch) (D : va_G) (dA : Nat → ClassId) (J : State → Heap → Prop) (hJ : JR J) (h : Hv) (a0 : Nat) {res : Int32} (hf : O_J3_isEmpty h a0 = some res) : Met l yJ3_isEmpty (ws_ yJ3_isEmpty cJ3_isEmpty 1 (some .boolean)) rmJ3_isEmpty (Pr D dA J [.ref a0] h) (Qrz res) 0 0 nA := by
  refine xh_head (own := RJ3) (by decide) rfl (Nat.le_of_ble_eq_true rfl) ?_
  intro p e s m args below meth c ls Q hQ C hP hl
  obtain ⟨hx, hb, hr, hlocks, hml, hown, hts, hK, hJs⟩ := C
  replace hl : lv_has ls 1 [(0, .ref a0)] := hl
  have hS : va_S nA s.heap s.heap [] := va_S.rf
  unfold O_J3_isEmpty at hf
  obtain ⟨H, eH⟩ : ∃ H, H = s.heap := ⟨_, rfl⟩
  obtain ⟨locs, eL⟩ : ∃ locs : List Loc, locs = [] := ⟨_, rfl⟩
  rw [← eL] at hS ⊢
  rw [← eH] at hP
  have hS : va_S nA s.heap H locs := by rw [eH]; exact hS
  show W p l e rmJ3_isEmpty s m args below meth c s.heap locs 0 0 Q (F0 m 0 ls [])
  rw [← eH]
  refine lv_aload_n hx hb dJ3_isEmpty_0 rfl (lv_at hl 0 rfl) ?_
  obtain ⟨x2, g1, hf⟩ := ob_bind hf
  refine xh_geti hx hb hts in_J3 hown hK hP (ci := 4) rfl 2 (by decide) (hts _ q401) (fun _ h => h) g1 dJ3_isEmpty_1 ?_
  refine lv_if_ne (tgt := 11) hx hb dJ3_isEmpty_4 (by decide) (fun c3 => ?_) (fun c3 => ?_)
  · replace hf := ob_f hf c3
    refine lv_iconst (v := 0) hx hb dJ3_isEmpty_11 (by decide) ?_
    obtain rfl := ob_s hf
    subst hQ
    exact xg_z hx hb hr hlocks hS (Or.inl rfl) dJ3_isEmpty_12
  · replace hf := ob_t hf c3
    refine lv_iconst (v := 1) hx hb dJ3_isEmpty_7 (by decide) ?_
    refine lv_goto (tgt := 12) hx hb dJ3_isEmpty_8 (by decide) ?_
    obtain rfl := ob_s hf
    subst hQ
    exact xg_z hx hb hr hlocks hS (Or.inr rfl) dJ3_isEmpty_12
abbrev rmJ15_intValue : Room := { frames := 0, cells := 0, slots := 0, locals := 0 }
theorem cdJ15_intValue : yJ15_intValue.cls = RJ15 ∧ yJ15_intValue.cls ≠ "java/lang/invoke/MethodHandle" ∧ yJ15_intValue.cls ≠ "java/lang/invoke/VarHandle" ∧ (parseMethodDescriptor yJ15_intValue.desc).map (fun d => d.parameters.length) = some 0 := by decide +kernel
set_option maxHeartbeats 4000000 in
set_option maxRecDepth 100000 in
theorem wkJ15_intValue (l : Launch) (D : va_G) (dA : Nat → ClassId) (J : State → Heap → Prop) (hJ : JR J) (h : Hv) (a0 : Nat) {res : Int32} (hf : O_J15_intValue h a0 = some res) : Met l yJ15_intValue (ws_ yJ15_intValue cJ15_intValue 1 (some .int)) rmJ15_intValue (Pr D dA J [.ref a0] h) (Qri res) 0 0 nA := by
  refine xh_head (own := RJ15) (by decide) rfl (Nat.le_of_ble_eq_true rfl) ?_
  intro p e s m args below meth c ls Q hQ C hP hl
  obtain ⟨hx, hb, hr, hlocks, hml, hown, hts, hK, hJs⟩ := C
  replace hl : lv_has ls 1 [(0, .ref a0)] := hl
  have hS : va_S nA s.heap s.heap [] := va_S.rf
  unfold O_J15_intValue at hf
  obtain ⟨H, eH⟩ : ∃ H, H = s.heap := ⟨_, rfl⟩
  obtain ⟨locs, eL⟩ : ∃ locs : List Loc, locs = [] := ⟨_, rfl⟩
  rw [← eL] at hS ⊢
  rw [← eH] at hP
  have hS : va_S nA s.heap H locs := by rw [eH]; exact hS
  show W p l e rmJ15_intValue s m args below meth c s.heap locs 0 0 Q (F0 m 0 ls [])
  rw [← eH]
  refine lv_aload_n hx hb dJ15_intValue_0 rfl (lv_at hl 0 rfl) ?_
  obtain ⟨x2, g1, hf⟩ := ob_bind hf
  refine xh_geti hx hb hts in_J15 hown hK hP (ci := 16) rfl 0 (by decide) (hts _ q847) (fun _ h => h) g1 dJ15_intValue_1 ?_
  obtain rfl := ob_s hf
  subst hQ
  exact xg_i hx hb hr hlocks hS dJ15_intValue_4
abbrev rmX16_sort : Room := { frames := 0, cells := 0, slots := 0, locals := 0 }
theorem cdX16_sort : yX16_sort.cls = RX16 ∧ yX16_sort.cls ≠ "java/lang/invoke/MethodHandle" ∧ yX16_sort.cls ≠ "java/lang/invoke/VarHandle" ∧ (parseMethodDescriptor yX16_sort.desc).map (fun d => d.parameters.length) = some 0 := by decide +kernel
set_option maxHeartbeats 4000000 in
set_option maxRecDepth 100000 in
theorem wkX16_sort (l : Launch) (D : va_G) (dA : Nat → ClassId) (J : State → Heap → Prop) (hJ : JR J) (h : Hv) (a0 : Nat) {res : Int32} (hf : O_X16_sort h a0 = some res) : Met l yX16_sort (ws_ yX16_sort cX16_sort 1 (some .int)) rmX16_sort (Pr D dA J [.ref a0] h) (Qri res) 0 0 nA := by
  refine xh_head (own := RX16) (by decide) rfl (Nat.le_of_ble_eq_true rfl) ?_
  intro p e s m args below meth c ls Q hQ C hP hl
  obtain ⟨hx, hb, hr, hlocks, hml, hown, hts, hK, hJs⟩ := C
  replace hl : lv_has ls 1 [(0, .ref a0)] := hl
  have hS : va_S nA s.heap s.heap [] := va_S.rf
  unfold O_X16_sort at hf
  obtain ⟨H, eH⟩ : ∃ H, H = s.heap := ⟨_, rfl⟩
  obtain ⟨locs, eL⟩ : ∃ locs : List Loc, locs = [] := ⟨_, rfl⟩
  rw [← eL] at hS ⊢
  rw [← eH] at hP
  have hS : va_S nA s.heap H locs := by rw [eH]; exact hS
  show W p l e rmX16_sort s m args below meth c s.heap locs 0 0 Q (F0 m 0 ls [])
  rw [← eH]
  refine lv_aload_n hx hb dX16_sort_0 rfl (lv_at hl 0 rfl) ?_
  obtain ⟨x2, g1, hf⟩ := ob_bind hf
  refine xh_geti hx hb hts in_X16 hown hK hP (ci := 3) rfl 0 (by decide) (hts _ q870) (fun _ h => h) g1 dX16_sort_1 ?_
  obtain rfl := ob_s hf
  subst hQ
  exact xg_i hx hb hr hlocks hS dX16_sort_4
abbrev rmX16_a : Room := { frames := 0, cells := 0, slots := 0, locals := 0 }
theorem cdX16_a : yX16_a.cls = RX16 ∧ yX16_a.cls ≠ "java/lang/invoke/MethodHandle" ∧ yX16_a.cls ≠ "java/lang/invoke/VarHandle" ∧ (parseMethodDescriptor yX16_a.desc).map (fun d => d.parameters.length) = some 0 := by decide +kernel
set_option maxHeartbeats 4000000 in
set_option maxRecDepth 100000 in
theorem wkX16_a (l : Launch) (D : va_G) (dA : Nat → ClassId) (J : State → Heap → Prop) (hJ : JR J) (h : Hv) (a0 : Nat) {res : Int32} (hf : O_X16_a h a0 = some res) : Met l yX16_a (ws_ yX16_a cX16_a 1 (some .int)) rmX16_a (Pr D dA J [.ref a0] h) (Qri res) 0 0 nA := by
  refine xh_head (own := RX16) (by decide) rfl (Nat.le_of_ble_eq_true rfl) ?_
  intro p e s m args below meth c ls Q hQ C hP hl
  obtain ⟨hx, hb, hr, hlocks, hml, hown, hts, hK, hJs⟩ := C
  replace hl : lv_has ls 1 [(0, .ref a0)] := hl
  have hS : va_S nA s.heap s.heap [] := va_S.rf
  unfold O_X16_a at hf
  obtain ⟨H, eH⟩ : ∃ H, H = s.heap := ⟨_, rfl⟩
  obtain ⟨locs, eL⟩ : ∃ locs : List Loc, locs = [] := ⟨_, rfl⟩
  rw [← eL] at hS ⊢
  rw [← eH] at hP
  have hS : va_S nA s.heap H locs := by rw [eH]; exact hS
  show W p l e rmX16_a s m args below meth c s.heap locs 0 0 Q (F0 m 0 ls [])
  rw [← eH]
  refine lv_aload_n hx hb dX16_a_0 rfl (lv_at hl 0 rfl) ?_
  obtain ⟨x2, g1, hf⟩ := ob_bind hf
  refine xh_geti hx hb hts in_X16 hown hK hP (ci := 3) rfl 1 (by decide) (hts _ q871) (fun _ h => h) g1 dX16_a_1 ?_
  obtain rfl := ob_s hf
  subst hQ
  exact xg_i hx hb hr hlocks hS dX16_a_4
abbrev rmX16_b : Room := { frames := 0, cells := 0, slots := 0, locals := 0 }
theorem cdX16_b : yX16_b.cls = RX16 ∧ yX16_b.cls ≠ "java/lang/invoke/MethodHandle" ∧ yX16_b.cls ≠ "java/lang/invoke/VarHandle" ∧ (parseMethodDescriptor yX16_b.desc).map (fun d => d.parameters.length) = some 0 := by decide +kernel
set_option maxHeartbeats 4000000 in
set_option maxRecDepth 100000 in
theorem wkX16_b (l : Launch) (D : va_G) (dA : Nat → ClassId) (J : State → Heap → Prop) (hJ : JR J) (h : Hv) (a0 : Nat) {res : Int32} (hf : O_X16_b h a0 = some res) : Met l yX16_b (ws_ yX16_b cX16_b 1 (some .int)) rmX16_b (Pr D dA J [.ref a0] h) (Qri res) 0 0 nA := by
  refine xh_head (own := RX16) (by decide) rfl (Nat.le_of_ble_eq_true rfl) ?_
  intro p e s m args below meth c ls Q hQ C hP hl
  obtain ⟨hx, hb, hr, hlocks, hml, hown, hts, hK, hJs⟩ := C
  replace hl : lv_has ls 1 [(0, .ref a0)] := hl
  have hS : va_S nA s.heap s.heap [] := va_S.rf
  unfold O_X16_b at hf
  obtain ⟨H, eH⟩ : ∃ H, H = s.heap := ⟨_, rfl⟩
  obtain ⟨locs, eL⟩ : ∃ locs : List Loc, locs = [] := ⟨_, rfl⟩
  rw [← eL] at hS ⊢
  rw [← eH] at hP
  have hS : va_S nA s.heap H locs := by rw [eH]; exact hS
  show W p l e rmX16_b s m args below meth c s.heap locs 0 0 Q (F0 m 0 ls [])
  rw [← eH]
  refine lv_aload_n hx hb dX16_b_0 rfl (lv_at hl 0 rfl) ?_
  obtain ⟨x2, g1, hf⟩ := ob_bind hf
  refine xh_geti hx hb hts in_X16 hown hK hP (ci := 3) rfl 2 (by decide) (hts _ q872) (fun _ h => h) g1 dX16_b_1 ?_
  obtain rfl := ob_s hf
  subst hQ
  exact xg_i hx hb hr hlocks hS dX16_b_4
abbrev rmX16_c : Room := { frames := 0, cells := 0, slots := 0, locals := 0 }
theorem cdX16_c : yX16_c.cls = RX16 ∧ yX16_c.cls ≠ "java/lang/invoke/MethodHandle" ∧ yX16_c.cls ≠ "java/lang/invoke/VarHandle" ∧ (parseMethodDescriptor yX16_c.desc).map (fun d => d.parameters.length) = some 0 := by decide +kernel
set_option maxHeartbeats 4000000 in
set_option maxRecDepth 100000 in
theorem wkX16_c (l : Launch) (D : va_G) (dA : Nat → ClassId) (J : State → Heap → Prop) (hJ : JR J) (h : Hv) (a0 : Nat) {res : Int32} (hf : O_X16_c h a0 = some res) : Met l yX16_c (ws_ yX16_c cX16_c 1 (some .int)) rmX16_c (Pr D dA J [.ref a0] h) (Qri res) 0 0 nA := by
  refine xh_head (own := RX16) (by decide) rfl (Nat.le_of_ble_eq_true rfl) ?_
  intro p e s m args below meth c ls Q hQ C hP hl
  obtain ⟨hx, hb, hr, hlocks, hml, hown, hts, hK, hJs⟩ := C
  replace hl : lv_has ls 1 [(0, .ref a0)] := hl
  have hS : va_S nA s.heap s.heap [] := va_S.rf
  unfold O_X16_c at hf
  obtain ⟨H, eH⟩ : ∃ H, H = s.heap := ⟨_, rfl⟩
  obtain ⟨locs, eL⟩ : ∃ locs : List Loc, locs = [] := ⟨_, rfl⟩
  rw [← eL] at hS ⊢
  rw [← eH] at hP
  have hS : va_S nA s.heap H locs := by rw [eH]; exact hS
  show W p l e rmX16_c s m args below meth c s.heap locs 0 0 Q (F0 m 0 ls [])
  rw [← eH]
  refine lv_aload_n hx hb dX16_c_0 rfl (lv_at hl 0 rfl) ?_
  obtain ⟨x2, g1, hf⟩ := ob_bind hf
  refine xh_geti hx hb hts in_X16 hown hK hP (ci := 3) rfl 3 (by decide) (hts _ q873) (fun _ h => h) g1 dX16_c_1 ?_
  obtain rfl := ob_s hf
  subst hQ
  exact xg_i hx hb hr hlocks hS dX16_c_4
abbrev rmX16_number : Room := { frames := 0, cells := 0, slots := 0, locals := 0 }
theorem cdX16_number : yX16_number.cls = RX16 ∧ yX16_number.cls ≠ "java/lang/invoke/MethodHandle" ∧ yX16_number.cls ≠ "java/lang/invoke/VarHandle" ∧ (parseMethodDescriptor yX16_number.desc).map (fun d => d.parameters.length) = some 0 := by decide +kernel
set_option maxHeartbeats 4000000 in
set_option maxRecDepth 100000 in
theorem wkX16_number (l : Launch) (D : va_G) (dA : Nat → ClassId) (J : State → Heap → Prop) (hJ : JR J) (h : Hv) (a0 : Nat) {res : Int32} (hf : O_X16_number h a0 = some res) : Met l yX16_number (ws_ yX16_number cX16_number 1 (some .int)) rmX16_number (Pr D dA J [.ref a0] h) (Qri res) 0 0 nA := by
  refine xh_head (own := RX16) (by decide) rfl (Nat.le_of_ble_eq_true rfl) ?_
  intro p e s m args below meth c ls Q hQ C hP hl
  obtain ⟨hx, hb, hr, hlocks, hml, hown, hts, hK, hJs⟩ := C
  replace hl : lv_has ls 1 [(0, .ref a0)] := hl
  have hS : va_S nA s.heap s.heap [] := va_S.rf
  unfold O_X16_number at hf
  obtain ⟨H, eH⟩ : ∃ H, H = s.heap := ⟨_, rfl⟩
  obtain ⟨locs, eL⟩ : ∃ locs : List Loc, locs = [] := ⟨_, rfl⟩
  rw [← eL] at hS ⊢
  rw [← eH] at hP
  have hS : va_S nA s.heap H locs := by rw [eH]; exact hS
  show W p l e rmX16_number s m args below meth c s.heap locs 0 0 Q (F0 m 0 ls [])
  rw [← eH]
  refine lv_aload_n hx hb dX16_number_0 rfl (lv_at hl 0 rfl) ?_
  obtain ⟨x2, g1, hf⟩ := ob_bind hf
  refine xh_geti hx hb hts in_X16 hown hK hP (ci := 3) rfl 4 (by decide) (hts _ q874) (fun _ h => h) g1 dX16_number_1 ?_
  obtain rfl := ob_s hf
  subst hQ
  exact xg_i hx hb hr hlocks hS dX16_number_4
set_option maxHeartbeats 4000000 in
set_option maxRecDepth 100000 in
theorem wkX7_of (l : Launch) (D : va_G) (dA : Nat → ClassId) (J : State → Heap → Prop) (hJ : JR J) (h : Hv) {F L : Nat} {rS : Nat → Nat → Option Int64} {rA : Nat → Nat → Option Int32} (hdS : ∀ q v r, rS q v = some r → DiS l D dA J h F L q v r) (hdA : ∀ q v r, rA q v = some r → DiA l D dA J h F L q v r) (a0 : Nat) (a1 : Nat) {res : Int64} (hf : O_X7_of h rS rA a0 a1 = some res) : Met l yX7_of (ws_ yX7_of cX7_of 2 (some .long)) (rmT (F + 1) (L + 40)) (Pr D dA J [.ref a0, .ref a1] h) (Qrl res) 0 0 nA := by
  refine xh_head (own := RX7) (by decide) rfl (Nat.le_of_ble_eq_true rfl) ?_
  intro p e s m args below meth c ls Q hQ C hP hl
  obtain ⟨hx, hb, hr, hlocks, hml, hown, hts, hK, hJs⟩ := C
  replace hl : lv_has ls 2 [(0, .ref a0), (1, .ref a1)] := hl
  have hS : va_S nA s.heap s.heap [] := va_S.rf
  unfold O_X7_of at hf
  obtain ⟨H, eH⟩ : ∃ H, H = s.heap := ⟨_, rfl⟩
  obtain ⟨locs, eL⟩ : ∃ locs : List Loc, locs = [] := ⟨_, rfl⟩
  rw [← eL] at hS ⊢
  rw [← eH] at hP
  have hS : va_S nA s.heap H locs := by rw [eH]; exact hS
  show W p l e (rmT (F + 1) (L + 40)) s m args below meth c s.heap locs 0 0 Q (F0 m 0 ls [])
  rw [← eH]
  refine lv_aload_n hx hb dX7_of_0 rfl (lv_at hl 0 rfl) ?_
  obtain ⟨x2, g1, hf⟩ := ob_bind hf
  refine xh_geti hx hb hts in_X7 hown hK hP (ci := 5) rfl 0 (by decide) (hts _ q590) (fun _ h => h) g1 dX7_of_1 ?_
  refine lv_i2l hx hb dX7_of_4 rfl ?_
  obtain rfl := ob_s hf
  subst hQ
  exact xg_l hx hb hr hlocks hS dX7_of_5
set_option maxHeartbeats 4000000 in
set_option maxRecDepth 100000 in
theorem wkX13_of (l : Launch) (D : va_G) (dA : Nat → ClassId) (J : State → Heap → Prop) (hJ : JR J) (h : Hv) {F L : Nat} {rS : Nat → Nat → Option Int64} {rA : Nat → Nat → Option Int32} (hdS : ∀ q v r, rS q v = some r → DiS l D dA J h F L q v r) (hdA : ∀ q v r, rA q v = some r → DiA l D dA J h F L q v r) (a0 : Nat) (a1 : Nat) {res : Int64} (hf : O_X13_of h rS rA a0 a1 = some res) : Met l yX13_of (ws_ yX13_of cX13_of 2 (some .long)) (rmT (F + 1) (L + 40)) (Pr D dA J [.ref a0, .ref a1] h) (Qrl res) 0 0 nA := by
  refine xh_head (own := RX13) (by decide) rfl (Nat.le_of_ble_eq_true rfl) ?_
  intro p e s m args below meth c ls Q hQ C hP hl
  obtain ⟨hx, hb, hr, hlocks, hml, hown, hts, hK, hJs⟩ := C
  replace hl : lv_has ls 2 [(0, .ref a0), (1, .ref a1)] := hl
  have hS : va_S nA s.heap s.heap [] := va_S.rf
  unfold O_X13_of at hf
  obtain ⟨H, eH⟩ : ∃ H, H = s.heap := ⟨_, rfl⟩
  obtain ⟨locs, eL⟩ : ∃ locs : List Loc, locs = [] := ⟨_, rfl⟩
  rw [← eL] at hS ⊢
  rw [← eH] at hP
  have hS : va_S nA s.heap H locs := by rw [eH]; exact hS
  show W p l e (rmT (F + 1) (L + 40)) s m args below meth c s.heap locs 0 0 Q (F0 m 0 ls [])
  rw [← eH]
  refine lv_aload_n hx hb dX13_of_0 rfl (lv_at hl 1 rfl) ?_
  refine lv_aload_n hx hb dX13_of_1 rfl (lv_at hl 0 rfl) ?_
  obtain ⟨x2, g1, hf⟩ := ob_bind hf
  refine xh_geti hx hb hts in_X13 hown hK hP (ci := 6) rfl 0 (by decide) (hts _ q787) (fun _ h => h) g1 dX13_of_2 ?_
  obtain ⟨y3, g4, hf⟩ := ob_bind hf
  obtain ⟨h5, hf⟩ := ob_gd hf
  refine xh_iald hx hb hK hP g4 (j := x2.toNatClampNeg) h5 rfl dX13_of_5 ?_
  refine lv_i2l hx hb dX13_of_6 rfl ?_
  obtain rfl := ob_s hf
  subst hQ
  exact xg_l hx hb hr hlocks hS dX13_of_7
set_option maxHeartbeats 4000000 in
set_option maxRecDepth 100000 in
theorem wkX15_of (l : Launch) (D : va_G) (dA : Nat → ClassId) (J : State → Heap → Prop) (hJ : JR J) (h : Hv) {F L : Nat} {rS : Nat → Nat → Option Int64} {rA : Nat → Nat → Option Int32} (hdS : ∀ q v r, rS q v = some r → DiS l D dA J h F L q v r) (hdA : ∀ q v r, rA q v = some r → DiA l D dA J h F L q v r) (a0 : Nat) (a1 : Nat) {res : Int64} (hf : O_X15_of h rS rA a0 a1 = some res) : Met l yX15_of (ws_ yX15_of cX15_of 2 (some .long)) (rmT (F + 1) (L + 40)) (Pr D dA J [.ref a0, .ref a1] h) (Qrl res) 0 0 nA := by
  refine xh_head (own := RX15) (by decide) rfl (Nat.le_of_ble_eq_true rfl) ?_
  intro p e s m args below meth c ls Q hQ C hP hl
  obtain ⟨hx, hb, hr, hlocks, hml, hown, hts, hK, hJs⟩ := C
  replace hl : lv_has ls 2 [(0, .ref a0), (1, .ref a1)] := hl
  have hS : va_S nA s.heap s.heap [] := va_S.rf
  unfold O_X15_of at hf
  obtain ⟨H, eH⟩ : ∃ H, H = s.heap := ⟨_, rfl⟩
  obtain ⟨locs, eL⟩ : ∃ locs : List Loc, locs = [] := ⟨_, rfl⟩
  rw [← eL] at hS ⊢
  rw [← eH] at hP
  have hS : va_S nA s.heap H locs := by rw [eH]; exact hS
  show W p l e (rmT (F + 1) (L + 40)) s m args below meth c s.heap locs 0 0 Q (F0 m 0 ls [])
  rw [← eH]
  refine lv_aload_n hx hb dX15_of_0 rfl (lv_at hl 0 rfl) ?_
  obtain ⟨r2, g1, hf⟩ := ob_bind hf
  refine xh_getr hx hb hts in_X15 hown hK hP (ci := 7) rfl 0 (by decide) (hts _ q807) (fun _ h => h) g1 dX15_of_1 ?_
  refine lv_aload_n hx hb dX15_of_4 rfl (lv_at hl 1 rfl) ?_
  obtain ⟨y3, g4, hf⟩ := ob_bind hf
  refine xh_ifS hJ hJs (hJ.at hJs hS) ⟨hx, hb, hml, hown, hts⟩ hK hP (hdS _ _ _ g4) q1012 hl.1 (Nat.le_of_ble_eq_true rfl) ⟨by show F + 11 ≤ F + 1 + 10; omega, by show L + 340 ≤ L + 40 + 300; omega⟩ ⟨Nat.zero_le _, Nat.zero_le _⟩ dX15_of_5 hS (fun H9 locs hz hk hS => ?_)
  replace hP : HF D dA h H9 := hP.kept (fun q hq _ => hk q hq)
  generalize H9 = H at hP hS ⊢
  refine lv_lneg hx hb dX15_of_10 ?_
  obtain rfl := ob_s hf
  subst hQ
  exact xg_l hx hb hr hlocks hS dX15_of_11
set_option maxHeartbeats 4000000 in
set_option maxRecDepth 100000 in
theorem wkX6_of (l : Launch) (D : va_G) (dA : Nat → ClassId) (J : State → Heap → Prop) (hJ : JR J) (h : Hv) {F L : Nat} {rS : Nat → Nat → Option Int64} {rA : Nat → Nat → Option Int32} (hdS : ∀ q v r, rS q v = some r → DiS l D dA J h F L q v r) (hdA : ∀ q v r, rA q v = some r → DiA l D dA J h F L q v r) (a0 : Nat) (a1 : Nat) {res : Int64} (hf : O_X6_of h rS rA a0 a1 = some res) : Met l yX6_of (ws_ yX6_of cX6_of 10 (some .long)) (rmT (F + 1) (L + 40)) (Pr D dA J [.ref a0, .ref a1] h) (Qrl res) 0 0 nA := by
  refine xh_head (own := RX6) (by decide) rfl (Nat.le_of_ble_eq_true rfl) ?_
  intro p e s m args below meth c ls Q hQ C hP hl
  obtain ⟨hx, hb, hr, hlocks, hml, hown, hts, hK, hJs⟩ := C
  replace hl : lv_has ls 10 [(0, .ref a0), (1, .ref a1)] := hl
  have hS : va_S nA s.heap s.heap [] := va_S.rf
  unfold O_X6_of at hf
  obtain ⟨H, eH⟩ : ∃ H, H = s.heap := ⟨_, rfl⟩
  obtain ⟨locs, eL⟩ : ∃ locs : List Loc, locs = [] := ⟨_, rfl⟩
  rw [← eL] at hS ⊢
  rw [← eH] at hP
  have hS : va_S nA s.heap H locs := by rw [eH]; exact hS
  show W p l e (rmT (F + 1) (L + 40)) s m args below meth c s.heap locs 0 0 Q (F0 m 0 ls [])
  rw [← eH]
  refine lv_aload_n hx hb dX6_of_0 rfl (lv_at hl 0 rfl) ?_
  obtain ⟨r2, g1, hf⟩ := ob_bind hf
  refine xh_getr hx hb hts in_X6 hown hK hP (ci := 8) rfl 0 (by decide) (hts _ q817) (fun _ h => h) g1 dX6_of_1 ?_
  refine lv_aload_n hx hb dX6_of_4 rfl (lv_at hl 1 rfl) ?_
  obtain ⟨y3, g4, hf⟩ := ob_bind hf
  refine xh_ifS hJ hJs (hJ.at hJs hS) ⟨hx, hb, hml, hown, hts⟩ hK hP (hdS _ _ _ g4) q967 hl.1 (Nat.le_of_ble_eq_true rfl) ⟨by show F + 11 ≤ F + 1 + 10; omega, by show L + 340 ≤ L + 40 + 300; omega⟩ ⟨Nat.zero_le _, Nat.zero_le _⟩ dX6_of_5 hS (fun H9 locs hz hk hS => ?_)
  replace hP : HF D dA h H9 := hP.kept (fun q hq _ => hk q hq)
  generalize H9 = H at hP hS ⊢
  refine lv_lstore_n (lv' := [(2, .long y3), (0, .ref a0), (1, .ref a1)]) hx hb dX6_of_10 rfl hl (by decide) rfl (fun ls hl => ?_)
  refine lv_iconst (v := 0) hx hb dX6_of_11 (by decide) ?_
  refine lv_istore (lv' := [(4, .int 0), (2, .long y3), (0, .ref a0), (1, .ref a1)]) hx hb dX6_of_12 hl (by decide) rfl (fun ls hl => ?_)
  obtain ⟨b7, hb7, hf⟩ := ob_bind hf
  obtain ⟨n7, hn7⟩ := lp_some hb7
  have kL14 : ∀ (n : Nat) (v2_5 : Int64) (v4_6 : Int32), lpF (fun (q7 : Int64 × Int32) => O_X6_of_b14 h a0 rS a1 q7.1 q7.2) n (v2_5, v4_6) = some b7 → (∀ (H : Heap) (locs : List Loc) (ls : Array Slot), HF D dA h H → va_S nA s.heap H locs → lv_has ls 10 [(2, .long b7)] → W p l e (rmT (F + 1) (L + 40)) s m args below meth c H locs 0 0 Q (F0 m 143 ls [])) → ∀ (H : Heap) (locs : List Loc) (ls : Array Slot), HF D dA h H → va_S nA s.heap H locs → lv_has ls 10 [(0, .ref a0), (1, .ref a1), (2, .long v2_5), (4, .int v4_6)] → W p l e (rmT (F + 1) (L + 40)) s m args below meth c H locs 0 0 Q (F0 m 14 ls []) := by
    intro n
    induction n with
    | zero =>
      intro v2_5 v4_6 hq9
      cases hq9
    | succ n ih =>
      intro v2_5 v4_6 hq9 K7_0 H locs ls hP hS hl
      obtain ⟨r7, hf, h7a, h7b⟩ := lpF_step hq9
      replace hf : O_X6_of_b14 h a0 rS a1 v2_5 v4_6 = some r7 := hf
      unfold O_X6_of_b14 at hf
      refine lv_iload hx hb dX6_of_14 (lv_at hl 3 rfl) ?_
      refine lv_aload_n hx hb dX6_of_16 rfl (lv_at hl 0 rfl) ?_
      obtain ⟨r9, g8, hf⟩ := ob_bind hf
      refine xh_getr hx hb hts in_X6 hown hK hP (ci := 8) rfl 1 (by decide) (hts _ q818) (fun _ h => h) g8 dX6_of_17 ?_
      obtain ⟨g10, hf⟩ := ob_gp hf
      obtain ⟨q11, g12, hf⟩ := ob_bind hf
      refine xh_i (xh_run (As := []) (rest := [.int v4_6]) hJ hJs hS ⟨hx, hb, hml, hown, hts⟩ (wkJ3_size l D dA J hJ h r9 g12) (cwV 0 hts (lw_V q1047 q705 q706 q145 q707) rfl rfl rfl cdJ3_size ⟨by show 1 ≤ F + 1 + 10; omega, by show 20 ≤ L + 40 + 300; omega⟩) hK hP (of_decide_eq_true g10) (q := (RJ3, TJ3, 3)) rfl rfl hl.1 rfl rfl (Nat.le_of_ble_eq_true rfl) dX6_of_20 ⟨Nat.zero_le _, Nat.zero_le _⟩) hP hS (fun H locs hP hS => ?_)
      refine lv_icmp_ge (tgt := 143) hx hb dX6_of_23 (by decide) (fun c13 => ?_) (fun c13 => ?_)
      · replace hf := ob_t hf c13
        obtain rfl := ob_s hf
        obtain rfl := h7b _ rfl
        exact K7_0 H locs ls hP hS (lv_sub hl [2] rfl)
      · replace hf := ob_f hf c13
        refine lv_aload_n hx hb dX6_of_26 rfl (lv_at hl 0 rfl) ?_
        obtain ⟨r15, g14, hf⟩ := ob_bind hf
        refine xh_getr hx hb hts in_X6 hown hK hP (ci := 8) rfl 1 (by decide) (hts _ q818) (fun _ h => h) g14 dX6_of_27 ?_
        refine lv_iload hx hb dX6_of_30 (lv_at hl 3 rfl) ?_
        obtain ⟨g16, hf⟩ := ob_gp hf
        obtain ⟨q17, g18, hf⟩ := ob_bind hf
        refine xh_a (xh_run (As := [.int v4_6]) (rest := []) hJ hJs hS ⟨hx, hb, hml, hown, hts⟩ (wkJ3_get l D dA J hJ h r15 v4_6 g18) (cwV 1 hts (lw_V q1048 q709 q710 q145 q711) rfl rfl rfl cdJ3_get ⟨by show 3 ≤ F + 1 + 10; omega, by show 64 ≤ L + 40 + 300; omega⟩) hK hP (of_decide_eq_true g16) (q := (RJ3, TJ3, 3)) rfl rfl hl.1 rfl rfl (Nat.le_of_ble_eq_true rfl) dX6_of_32 ⟨Nat.zero_le _, Nat.zero_le _⟩) hP hS (fun H locs hP hS => ?_)
        obtain ⟨g19, hf⟩ := ob_gp hf
        refine xh_castSum hx hb hown (hts _ q1049) (hJ.2.2.2 s s.heap hJs) hK hP g19 dX6_of_35 ?_
        refine lv_aload_n hx hb dX6_of_38 rfl (lv_at hl 1 rfl) ?_
        obtain ⟨y20, g21, hf⟩ := ob_bind hf
        refine xh_ifS hJ hJs (hJ.at hJs hS) ⟨hx, hb, hml, hown, hts⟩ hK hP (hdS _ _ _ g21) q967 hl.1 (Nat.le_of_ble_eq_true rfl) ⟨by show F + 11 ≤ F + 1 + 10; omega, by show L + 340 ≤ L + 40 + 300; omega⟩ ⟨Nat.zero_le _, Nat.zero_le _⟩ dX6_of_39 hS (fun H9 locs hz hk hS => ?_)
        replace hP : HF D dA h H9 := hP.kept (fun q hq _ => hk q hq)
        generalize H9 = H at hP hS ⊢
        refine lv_lstore (lv' := [(5, .long y20), (0, .ref a0), (1, .ref a1), (2, .long v2_5), (4, .int v4_6)]) hx hb dX6_of_44 hl (by decide) rfl (fun ls hl => ?_)
        refine lv_aload_n hx hb dX6_of_46 rfl (lv_at hl 1 rfl) ?_
        obtain ⟨r23, g22, hf⟩ := ob_bind hf
        refine xh_getr hx hb hts in_X6 hown hK hP (ci := 8) rfl 2 (by decide) (hts _ q819) (fun _ h => h) g22 dX6_of_47 ?_
        refine lv_iload hx hb dX6_of_50 (lv_at hl 4 rfl) ?_
        obtain ⟨g24, hf⟩ := ob_gp hf
        obtain ⟨q25, g26, hf⟩ := ob_bind hf
        refine xh_a (xh_run (As := [.int v4_6]) (rest := []) hJ hJs hS ⟨hx, hb, hml, hown, hts⟩ (wkJ3_get l D dA J hJ h r23 v4_6 g26) (cwV 1 hts (lw_V q1048 q709 q710 q145 q711) rfl rfl rfl cdJ3_get ⟨by show 3 ≤ F + 1 + 10; omega, by show 64 ≤ L + 40 + 300; omega⟩) hK hP (of_decide_eq_true g24) (q := (RJ3, TJ3, 3)) rfl rfl hl.1 rfl rfl (Nat.le_of_ble_eq_true rfl) dX6_of_52 ⟨Nat.zero_le _, Nat.zero_le _⟩) hP hS (fun H locs hP hS => ?_)
        obtain ⟨g27, hf⟩ := ob_gp hf
        refine xh_castS hx hb hown (hts _ q1050) hK hP (of_decide_eq_true g27) (q := (RJ15, TJ15, 1)) rfl rfl dX6_of_55 ?_
        obtain ⟨g28, hf⟩ := ob_gp hf
        obtain ⟨q29, g30, hf⟩ := ob_bind hf
        refine xh_i (xh_run (As := []) (rest := []) hJ hJs hS ⟨hx, hb, hml, hown, hts⟩ (wkJ15_intValue l D dA J hJ h q25 g30) (cwV 0 hts (lw_V q1051 q1052 q1053 q168 q1054) rfl rfl rfl cdJ15_intValue ⟨by show 1 ≤ F + 1 + 10; omega, by show 20 ≤ L + 40 + 300; omega⟩) hK hP (of_decide_eq_true g28) (q := (RJ15, TJ15, 1)) rfl rfl hl.1 rfl rfl (Nat.le_of_ble_eq_true rfl) dX6_of_58 ⟨Nat.zero_le _, Nat.zero_le _⟩) hP hS (fun H locs hP hS => ?_)
        refine lv_istore (lv' := [(7, .int q29), (5, .long y20), (0, .ref a0), (1, .ref a1), (2, .long v2_5), (4, .int v4_6)]) hx hb dX6_of_61 hl (by decide) rfl (fun ls hl => ?_)
        refine lv_iload hx hb dX6_of_63 (lv_at hl 0 rfl) ?_
        refine lv_bipush (v := 43) hx hb dX6_of_65 (by decide) ?_
        have kj120 : ∀ (t31 : Int64) (H : Heap) (locs : List Loc) (ls : Array Slot), O_X6_of_j120 t31 v4_6 = some r7 → HF D dA h H → va_S nA s.heap H locs → lv_has ls 10 [(0, .ref a0), (1, .ref a1), (4, .int v4_6)] → W p l e (rmT (F + 1) (L + 40)) s m args below meth c H locs 0 0 Q (F0 m 120 ls [.long t31]) := by
          intro t31 H locs ls hf hP hS hl
          unfold O_X6_of_j120 at hf
          refine lv_lstore (lv' := [(8, .long t31), (0, .ref a0), (1, .ref a1), (4, .int v4_6)]) hx hb dX6_of_120 hl (by decide) rfl (fun ls hl => ?_)
          refine lv_ldc2 (v := ((-1000000) : Int64)) hx hb hown (hts _ q1055) dX6_of_122 ?_
          refine lv_ldc2 (v := (1000000 : Int64)) hx hb hown (hts _ q1056) dX6_of_125 ?_
          refine lv_lload hx hb dX6_of_128 (lv_at hl 0 rfl) ?_
          refine xr_mmin_long hx hb (hml.trans hl.1.symm) hown (hts _ q1057) (hts _ q1058) (hts _ q150) (hts _ q1059) (by show 1 ≤ F + 1 + 10; omega) (by simp only [List.map, Value.category, List.sum_cons, List.sum_nil]; show _ ≤ L + 40 + 300; omega) (Nat.zero_le _) (Nat.zero_le _) dX6_of_130 ?_
          refine xr_mmax_long hx hb (hml.trans hl.1.symm) hown (hts _ q1060) (hts _ q1061) (hts _ q150) (hts _ q1062) (by show 1 ≤ F + 1 + 10; omega) (by simp only [List.map, Value.category, List.sum_cons, List.sum_nil]; show _ ≤ L + 40 + 300; omega) (Nat.zero_le _) (Nat.zero_le _) dX6_of_133 ?_
          obtain ⟨v2_32, ev2_32, hf⟩ := ob_bnd hf
          refine xn_j ev2_32 ?_
          refine lv_lstore_n (lv' := [(2, .long v2_32), (8, .long t31), (0, .ref a0), (1, .ref a1), (4, .int v4_6)]) hx hb dX6_of_136 rfl hl (by decide) rfl (fun ls hl => ?_)
          obtain ⟨v4_33, ev4_33, hf⟩ := ob_bnd hf
          refine lv_iinc (v := v4_33) (lv' := [(4, .int v4_33), (2, .long v2_32), (8, .long t31), (0, .ref a0), (1, .ref a1)]) hx hb dX6_of_137 hl (k := 4) rfl (by rw [ev4_33]; rfl) (by decide) rfl (fun ls hl => ?_)
          refine lv_goto (tgt := 14) hx hb dX6_of_140 (by decide) ?_
          obtain rfl := ob_s hf
          exact ih _ _ (h7a _ rfl) K7_0 H locs ls hP hS (lv_sub hl [3, 4, 1, 0] rfl)
        refine lv_icmp_ne (tgt := 77) hx hb dX6_of_67 (by decide) (fun c34 => ?_) (fun c34 => ?_)
        · replace hf := ob_f hf c34
          refine lv_iload hx hb dX6_of_77 (lv_at hl 0 rfl) ?_
          refine lv_bipush (v := 45) hx hb dX6_of_79 (by decide) ?_
          refine lv_icmp_ne (tgt := 91) hx hb dX6_of_81 (by decide) (fun c35 => ?_) (fun c35 => ?_)
          · replace hf := ob_f hf c35
            refine lv_iload hx hb dX6_of_91 (lv_at hl 0 rfl) ?_
            refine lv_bipush (v := 42) hx hb dX6_of_93 (by decide) ?_
            refine lv_icmp_ne (tgt := 105) hx hb dX6_of_95 (by decide) (fun c36 => ?_) (fun c36 => ?_)
            · replace hf := ob_f hf c36
              refine lv_lload hx hb dX6_of_105 (lv_at hl 1 rfl) ?_
              refine lv_lconst (v := 0) hx hb dX6_of_107 (by decide) ?_
              refine W.lcmp hx hb dX6_of_108 ?_
              refine lv_if_ne (tgt := 116) hx hb dX6_of_109 (by decide) (fun c37 => ?_) (fun c37 => ?_)
              · replace hf := ob_f hf c37
                refine lv_lload_n hx hb dX6_of_116 rfl (lv_at hl 4 rfl) ?_
                refine lv_lload hx hb dX6_of_117 (lv_at hl 1 rfl) ?_
                obtain ⟨h38, hf⟩ := ob_gzL hf
                refine lv_ldiv hx hb dX6_of_119 h38 ?_
                exact kj120 (v2_5 / y20) H locs ls hf hP hS (lv_sub hl [2, 3, 5] rfl)
              · replace hf := ob_t hf c37
                refine lv_lconst (v := 0) hx hb dX6_of_112 (by decide) ?_
                refine lv_goto (tgt := 120) hx hb dX6_of_113 (by decide) ?_
                exact kj120 (0 : Int64) H locs ls hf hP hS (lv_sub hl [2, 3, 5] rfl)
            · replace hf := ob_t hf c36
              refine lv_lload_n hx hb dX6_of_98 rfl (lv_at hl 4 rfl) ?_
              refine lv_lload hx hb dX6_of_99 (lv_at hl 1 rfl) ?_
              refine lv_lmul hx hb dX6_of_101 ?_
              refine lv_goto (tgt := 120) hx hb dX6_of_102 (by decide) ?_
              exact kj120 (v2_5 * y20) H locs ls hf hP hS (lv_sub hl [2, 3, 5] rfl)
          · replace hf := ob_t hf c35
            refine lv_lload_n hx hb dX6_of_84 rfl (lv_at hl 4 rfl) ?_
            refine lv_lload hx hb dX6_of_85 (lv_at hl 1 rfl) ?_
            refine lv_lsub hx hb dX6_of_87 ?_
            refine lv_goto (tgt := 120) hx hb dX6_of_88 (by decide) ?_
            exact kj120 (v2_5 - y20) H locs ls hf hP hS (lv_sub hl [2, 3, 5] rfl)
        · replace hf := ob_t hf c34
          refine lv_lload_n hx hb dX6_of_70 rfl (lv_at hl 4 rfl) ?_
          refine lv_lload hx hb dX6_of_71 (lv_at hl 1 rfl) ?_
          refine lv_ladd hx hb dX6_of_73 ?_
          refine lv_goto (tgt := 120) hx hb dX6_of_74 (by decide) ?_
          exact kj120 (v2_5 + y20) H locs ls hf hP hS (lv_sub hl [2, 3, 5] rfl)
  refine kL14 n7 y3 0 hn7 (fun H locs ls hP hS hl => ?_) H locs ls hP hS (lv_sub hl [2, 3, 1, 0] rfl)
  replace hf : O_X6_of_x14_143 b7 = some res := hf
  unfold O_X6_of_x14_143 at hf
  refine lv_lload_n hx hb dX6_of_143 rfl (lv_at hl 0 rfl) ?_
  obtain rfl := ob_s hf
  subst hQ
  exact xg_l hx hb hr hlocks hS dX6_of_144
set_option maxHeartbeats 4000000 in
set_option maxRecDepth 100000 in
theorem wkX12_of (l : Launch) (D : va_G) (dA : Nat → ClassId) (J : State → Heap → Prop) (hJ : JR J) (h : Hv) {F L : Nat} {rS : Nat → Nat → Option Int64} {rA : Nat → Nat → Option Int32} (hdS : ∀ q v r, rS q v = some r → DiS l D dA J h F L q v r) (hdA : ∀ q v r, rA q v = some r → DiA l D dA J h F L q v r) (a0 : Nat) (a1 : Nat) {res : Int64} (hf : O_X12_of h rS rA a0 a1 = some res) : Met l yX12_of (ws_ yX12_of cX12_of 6 (some .long)) (rmT (F + 1) (L + 40)) (Pr D dA J [.ref a0, .ref a1] h) (Qrl res) 0 0 nA := by
  refine xh_head (own := RX12) (by decide) rfl (Nat.le_of_ble_eq_true rfl) ?_
  intro p e s m args below meth c ls Q hQ C hP hl
  obtain ⟨hx, hb, hr, hlocks, hml, hown, hts, hK, hJs⟩ := C
  replace hl : lv_has ls 6 [(0, .ref a0), (1, .ref a1)] := hl
  have hS : va_S nA s.heap s.heap [] := va_S.rf
  unfold O_X12_of at hf
  obtain ⟨H, eH⟩ : ∃ H, H = s.heap := ⟨_, rfl⟩
  obtain ⟨locs, eL⟩ : ∃ locs : List Loc, locs = [] := ⟨_, rfl⟩
  rw [← eL] at hS ⊢
  rw [← eH] at hP
  have hS : va_S nA s.heap H locs := by rw [eH]; exact hS
  show W p l e (rmT (F + 1) (L + 40)) s m args below meth c s.heap locs 0 0 Q (F0 m 0 ls [])
  rw [← eH]
  refine lv_aload_n hx hb dX12_of_0 rfl (lv_at hl 0 rfl) ?_
  obtain ⟨r2, g1, hf⟩ := ob_bind hf
  refine xh_getr hx hb hts in_X12 hown hK hP (ci := 12) rfl 0 (by decide) (hts _ q764) (fun _ h => h) g1 dX12_of_1 ?_
  refine lv_aload_n hx hb dX12_of_4 rfl (lv_at hl 1 rfl) ?_
  obtain ⟨y3, g4, hf⟩ := ob_bind hf
  refine xh_ifS hJ hJs (hJ.at hJs hS) ⟨hx, hb, hml, hown, hts⟩ hK hP (hdS _ _ _ g4) q1032 hl.1 (Nat.le_of_ble_eq_true rfl) ⟨by show F + 11 ≤ F + 1 + 10; omega, by show L + 340 ≤ L + 40 + 300; omega⟩ ⟨Nat.zero_le _, Nat.zero_le _⟩ dX12_of_5 hS (fun H9 locs hz hk hS => ?_)
  replace hP : HF D dA h H9 := hP.kept (fun q hq _ => hk q hq)
  generalize H9 = H at hP hS ⊢
  refine xr_mabs_long hx hb (hml.trans hl.1.symm) hown (hts _ q1033) (hts _ q1034) (hts _ q150) (hts _ q1035) (by show 1 ≤ F + 1 + 10; omega) (by simp only [List.map, Value.category, List.sum_cons, List.sum_nil]; show _ ≤ L + 40 + 300; omega) (Nat.zero_le _) (Nat.zero_le _) dX12_of_10 ?_
  obtain ⟨v2_5, ev2_5, hf⟩ := ob_bnd hf
  refine xn_j ev2_5 ?_
  refine lv_lstore_n (lv' := [(2, .long v2_5), (0, .ref a0), (1, .ref a1)]) hx hb dX12_of_13 rfl hl (by decide) rfl (fun ls hl => ?_)
  refine lv_aload_n hx hb dX12_of_14 rfl (lv_at hl 1 rfl) ?_
  obtain ⟨r7, g6, hf⟩ := ob_bind hf
  refine xh_getr hx hb hts in_X12 hown hK hP (ci := 12) rfl 1 (by decide) (hts _ q765) (fun _ h => h) g6 dX12_of_15 ?_
  refine lv_aload_n hx hb dX12_of_18 rfl (lv_at hl 2 rfl) ?_
  obtain ⟨y8, g9, hf⟩ := ob_bind hf
  refine xh_ifS hJ hJs (hJ.at hJs hS) ⟨hx, hb, hml, hown, hts⟩ hK hP (hdS _ _ _ g9) q1032 hl.1 (Nat.le_of_ble_eq_true rfl) ⟨by show F + 11 ≤ F + 1 + 10; omega, by show L + 340 ≤ L + 40 + 300; omega⟩ ⟨Nat.zero_le _, Nat.zero_le _⟩ dX12_of_19 hS (fun H9 locs hz hk hS => ?_)
  replace hP : HF D dA h H9 := hP.kept (fun q hq _ => hk q hq)
  generalize H9 = H at hP hS ⊢
  refine xr_mabs_long hx hb (hml.trans hl.1.symm) hown (hts _ q1033) (hts _ q1034) (hts _ q150) (hts _ q1035) (by show 1 ≤ F + 1 + 10; omega) (by simp only [List.map, Value.category, List.sum_cons, List.sum_nil]; show _ ≤ L + 40 + 300; omega) (Nat.zero_le _) (Nat.zero_le _) dX12_of_24 ?_
  obtain ⟨v4_10, ev4_10, hf⟩ := ob_bnd hf
  refine xn_j ev4_10 ?_
  refine lv_lstore (lv' := [(4, .long v4_10), (2, .long v2_5), (0, .ref a0), (1, .ref a1)]) hx hb dX12_of_27 hl (by decide) rfl (fun ls hl => ?_)
  refine lv_lload hx hb dX12_of_29 (lv_at hl 0 rfl) ?_
  refine lv_lconst (v := 0) hx hb dX12_of_31 (by decide) ?_
  refine W.lcmp hx hb dX12_of_32 ?_
  refine lv_if_ne (tgt := 40) hx hb dX12_of_33 (by decide) (fun c11 => ?_) (fun c11 => ?_)
  · replace hf := ob_f hf c11
    refine lv_lload_n hx hb dX12_of_40 rfl (lv_at hl 1 rfl) ?_
    refine lv_lload hx hb dX12_of_41 (lv_at hl 0 rfl) ?_
    obtain ⟨h12, hf⟩ := ob_gzL hf
    refine xr_lrem hx hb dX12_of_43 h12 ?_
    obtain rfl := ob_s hf
    subst hQ
    exact xg_l hx hb hr hlocks hS dX12_of_44
  · replace hf := ob_t hf c11
    refine lv_lconst (v := 0) hx hb dX12_of_36 (by decide) ?_
    refine lv_goto (tgt := 44) hx hb dX12_of_37 (by decide) ?_
    obtain rfl := ob_s hf
    subst hQ
    exact xg_l hx hb hr hlocks hS dX12_of_44
set_option maxHeartbeats 4000000 in
set_option maxRecDepth 100000 in
theorem wkX14_of (l : Launch) (D : va_G) (dA : Nat → ClassId) (J : State → Heap → Prop) (hJ : JR J) (h : Hv) {F L : Nat} {rS : Nat → Nat → Option Int64} {rA : Nat → Nat → Option Int32} (hdS : ∀ q v r, rS q v = some r → DiS l D dA J h F L q v r) (hdA : ∀ q v r, rA q v = some r → DiA l D dA J h F L q v r) (a0 : Nat) (a1 : Nat) {res : Int64} (hf : O_X14_of h rS rA a0 a1 = some res) : Met l yX14_of (ws_ yX14_of cX14_of 4 (some .long)) (rmT (F + 1) (L + 40)) (Pr D dA J [.ref a0, .ref a1] h) (Qrl res) 0 0 nA := by
  refine xh_head (own := RX14) (by decide) rfl (Nat.le_of_ble_eq_true rfl) ?_
  intro p e s m args below meth c ls Q hQ C hP hl
  obtain ⟨hx, hb, hr, hlocks, hml, hown, hts, hK, hJs⟩ := C
  replace hl : lv_has ls 4 [(0, .ref a0), (1, .ref a1)] := hl
  have hS : va_S nA s.heap s.heap [] := va_S.rf
  unfold O_X14_of at hf
  obtain ⟨H, eH⟩ : ∃ H, H = s.heap := ⟨_, rfl⟩
  obtain ⟨locs, eL⟩ : ∃ locs : List Loc, locs = [] := ⟨_, rfl⟩
  rw [← eL] at hS ⊢
  rw [← eH] at hP
  have hS : va_S nA s.heap H locs := by rw [eH]; exact hS
  show W p l e (rmT (F + 1) (L + 40)) s m args below meth c s.heap locs 0 0 Q (F0 m 0 ls [])
  rw [← eH]
  refine lv_aload_n hx hb dX14_of_0 rfl (lv_at hl 0 rfl) ?_
  obtain ⟨r2, g1, hf⟩ := ob_bind hf
  refine xh_getr hx hb hts in_X14 hown hK hP (ci := 13) rfl 0 (by decide) (hts _ q797) (fun _ h => h) g1 dX14_of_1 ?_
  refine lv_aload_n hx hb dX14_of_4 rfl (lv_at hl 1 rfl) ?_
  obtain ⟨y3, g4, hf⟩ := ob_bind hf
  refine xh_ifS hJ hJs (hJ.at hJs hS) ⟨hx, hb, hml, hown, hts⟩ hK hP (hdS _ _ _ g4) q975 hl.1 (Nat.le_of_ble_eq_true rfl) ⟨by show F + 11 ≤ F + 1 + 10; omega, by show L + 340 ≤ L + 40 + 300; omega⟩ ⟨Nat.zero_le _, Nat.zero_le _⟩ dX14_of_5 hS (fun H9 locs hz hk hS => ?_)
  replace hP : HF D dA h H9 := hP.kept (fun q hq _ => hk q hq)
  generalize H9 = H at hP hS ⊢
  refine lv_lstore_n (lv' := [(2, .long y3), (0, .ref a0), (1, .ref a1)]) hx hb dX14_of_10 rfl hl (by decide) rfl (fun ls hl => ?_)
  refine lv_lload_n hx hb dX14_of_11 rfl (lv_at hl 0 rfl) ?_
  refine lv_lconst (v := 0) hx hb dX14_of_12 (by decide) ?_
  refine W.lcmp hx hb dX14_of_13 ?_
  have kj25 : ∀ (H : Heap) (locs : List Loc) (ls : Array Slot), O_X14_of_j25 = some res → HF D dA h H → va_S nA s.heap H locs → lv_has ls 4 [] → W p l e (rmT (F + 1) (L + 40)) s m args below meth c H locs 0 0 Q (F0 m 25 ls []) := by
    intro H locs ls hf hP hS hl
    unfold O_X14_of_j25 at hf
    refine lv_lconst (v := 0) hx hb dX14_of_25 (by decide) ?_
    refine lv_goto (tgt := 37) hx hb dX14_of_26 (by decide) ?_
    obtain rfl := ob_s hf
    subst hQ
    exact xg_l hx hb hr hlocks hS dX14_of_37
  refine lv_if_lt (tgt := 25) hx hb dX14_of_14 (by decide) (fun c5 => ?_) (fun c5 => ?_)
  · replace hf := ob_t hf c5
    exact kj25 H locs ls hf hP hS (lv_sub hl [] rfl)
  · replace hf := ob_f hf c5
    refine lv_lload_n hx hb dX14_of_17 rfl (lv_at hl 0 rfl) ?_
    refine lv_ldc2 (v := (8 : Int64)) hx hb hown (hts _ q1046) dX14_of_18 ?_
    refine W.lcmp hx hb dX14_of_21 ?_
    refine lv_if_lt (tgt := 29) hx hb dX14_of_22 (by decide) (fun c6 => ?_) (fun c6 => ?_)
    · replace hf := ob_t hf c6
      refine lv_aload_n hx hb dX14_of_29 rfl (lv_at hl 2 rfl) ?_
      refine lv_bipush (v := 8) hx hb dX14_of_30 (by decide) ?_
      refine lv_lload_n hx hb dX14_of_32 rfl (lv_at hl 0 rfl) ?_
      refine lv_l2i hx hb dX14_of_33 rfl ?_
      refine lv_iadd hx hb dX14_of_34 ?_
      obtain ⟨y7, g8, hf⟩ := ob_bind hf
      obtain ⟨h9, hf⟩ := ob_gd hf
      refine xh_iald hx hb hK hP g8 (j := (8 + y3.toInt32).toNatClampNeg) h9 rfl dX14_of_35 ?_
      refine lv_i2l hx hb dX14_of_36 rfl ?_
      obtain rfl := ob_s hf
      subst hQ
      exact xg_l hx hb hr hlocks hS dX14_of_37
    · replace hf := ob_f hf c6
      exact kj25 H locs ls hf hP hS (lv_sub hl [] rfl)
set_option maxHeartbeats 4000000 in
set_option maxRecDepth 100000 in
theorem wkX11_of (l : Launch) (D : va_G) (dA : Nat → ClassId) (J : State → Heap → Prop) (hJ : JR J) (h : Hv) {F L : Nat} {rS : Nat → Nat → Option Int64} {rA : Nat → Nat → Option Int32} (hdS : ∀ q v r, rS q v = some r → DiS l D dA J h F L q v r) (hdA : ∀ q v r, rA q v = some r → DiA l D dA J h F L q v r) (a0 : Nat) (a1 : Nat) {res : Int64} (hf : O_X11_of h rS rA a0 a1 = some res) : Met l yX11_of (ws_ yX11_of cX11_of 2 (some .long)) (rmT (F + 1) (L + 40)) (Pr D dA J [.ref a0, .ref a1] h) (Qrl res) 0 0 nA := by
  refine xh_head (own := RX11) (by decide) rfl (Nat.le_of_ble_eq_true rfl) ?_
  intro p e s m args below meth c ls Q hQ C hP hl
  obtain ⟨hx, hb, hr, hlocks, hml, hown, hts, hK, hJs⟩ := C
  replace hl : lv_has ls 2 [(0, .ref a0), (1, .ref a1)] := hl
  have hS : va_S nA s.heap s.heap [] := va_S.rf
  unfold O_X11_of at hf
  obtain ⟨H, eH⟩ : ∃ H, H = s.heap := ⟨_, rfl⟩
  obtain ⟨locs, eL⟩ : ∃ locs : List Loc, locs = [] := ⟨_, rfl⟩
  rw [← eL] at hS ⊢
  rw [← eH] at hP
  have hS : va_S nA s.heap H locs := by rw [eH]; exact hS
  show W p l e (rmT (F + 1) (L + 40)) s m args below meth c s.heap locs 0 0 Q (F0 m 0 ls [])
  rw [← eH]
  refine lv_aload_n hx hb dX11_of_0 rfl (lv_at hl 0 rfl) ?_
  obtain ⟨r2, g1, hf⟩ := ob_bind hf
  refine xh_getr hx hb hts in_X11 hown hK hP (ci := 14) rfl 0 (by decide) (hts _ q744) (fun _ h => h) g1 dX11_of_1 ?_
  refine lv_aload_n hx hb dX11_of_4 rfl (lv_at hl 1 rfl) ?_
  obtain ⟨y3, g4, hf⟩ := ob_bind hf
  refine xh_ifA hJ hJs (hJ.at hJs hS) ⟨hx, hb, hml, hown, hts⟩ hK hP (hdA _ _ _ g4) q983 hl.1 (Nat.le_of_ble_eq_true rfl) ⟨by show F + 11 ≤ F + 1 + 10; omega, by show L + 340 ≤ L + 40 + 300; omega⟩ ⟨Nat.zero_le _, Nat.zero_le _⟩ dX11_of_5 hS (fun H9 locs zy3 hz hk hS => ?_)
  replace hP : HF D dA h H9 := hP.kept (fun q hq _ => hk q hq)
  generalize H9 = H at hP hS ⊢
  refine lv_if_eq (tgt := 26) hx hb dX11_of_10 (by decide) (fun c5 => ?_) (fun c5 => ?_)
  · replace hf := ob_t hf c5
    refine lv_aload_n hx hb dX11_of_26 rfl (lv_at hl 0 rfl) ?_
    obtain ⟨r7, g6, hf⟩ := ob_bind hf
    refine xh_getr hx hb hts in_X11 hown hK hP (ci := 14) rfl 2 (by decide) (hts _ q746) (fun _ h => h) g6 dX11_of_27 ?_
    refine lv_aload_n hx hb dX11_of_30 rfl (lv_at hl 1 rfl) ?_
    obtain ⟨y8, g9, hf⟩ := ob_bind hf
    refine xh_ifS hJ hJs (hJ.at hJs hS) ⟨hx, hb, hml, hown, hts⟩ hK hP (hdS _ _ _ g9) q1045 hl.1 (Nat.le_of_ble_eq_true rfl) ⟨by show F + 11 ≤ F + 1 + 10; omega, by show L + 340 ≤ L + 40 + 300; omega⟩ ⟨Nat.zero_le _, Nat.zero_le _⟩ dX11_of_31 hS (fun H9 locs hz hk hS => ?_)
    replace hP : HF D dA h H9 := hP.kept (fun q hq _ => hk q hq)
    generalize H9 = H at hP hS ⊢
    obtain rfl := ob_s hf
    subst hQ
    exact xg_l hx hb hr hlocks hS dX11_of_36
  · replace hf := ob_f hf c5
    refine lv_aload_n hx hb dX11_of_13 rfl (lv_at hl 0 rfl) ?_
    obtain ⟨r11, g10, hf⟩ := ob_bind hf
    refine xh_getr hx hb hts in_X11 hown hK hP (ci := 14) rfl 1 (by decide) (hts _ q745) (fun _ h => h) g10 dX11_of_14 ?_
    refine lv_aload_n hx hb dX11_of_17 rfl (lv_at hl 1 rfl) ?_
    obtain ⟨y12, g13, hf⟩ := ob_bind hf
    refine xh_ifS hJ hJs (hJ.at hJs hS) ⟨hx, hb, hml, hown, hts⟩ hK hP (hdS _ _ _ g13) q1045 hl.1 (Nat.le_of_ble_eq_true rfl) ⟨by show F + 11 ≤ F + 1 + 10; omega, by show L + 340 ≤ L + 40 + 300; omega⟩ ⟨Nat.zero_le _, Nat.zero_le _⟩ dX11_of_18 hS (fun H9 locs hz hk hS => ?_)
    replace hP : HF D dA h H9 := hP.kept (fun q hq _ => hk q hq)
    generalize H9 = H at hP hS ⊢
    refine lv_goto (tgt := 36) hx hb dX11_of_23 (by decide) ?_
    obtain rfl := ob_s hf
    subst hQ
    exact xg_l hx hb hr hlocks hS dX11_of_36
set_option maxHeartbeats 4000000 in
set_option maxRecDepth 100000 in
theorem wkX9_is (l : Launch) (D : va_G) (dA : Nat → ClassId) (J : State → Heap → Prop) (hJ : JR J) (h : Hv) {F L : Nat} {rS : Nat → Nat → Option Int64} {rA : Nat → Nat → Option Int32} (hdS : ∀ q v r, rS q v = some r → DiS l D dA J h F L q v r) (hdA : ∀ q v r, rA q v = some r → DiA l D dA J h F L q v r) (a0 : Nat) (a1 : Nat) {res : Int32} (hf : O_X9_is h rS rA a0 a1 = some res) : Met l yX9_is (ws_ yX9_is cX9_is 4 (some .boolean)) (rmT (F + 1) (L + 40)) (Pr D dA J [.ref a0, .ref a1] h) (Qrz res) 0 0 nA := by
  refine xh_head (own := RX9) (by decide) rfl (Nat.le_of_ble_eq_true rfl) ?_
  intro p e s m args below meth c ls Q hQ C hP hl
  obtain ⟨hx, hb, hr, hlocks, hml, hown, hts, hK, hJs⟩ := C
  replace hl : lv_has ls 4 [(0, .ref a0), (1, .ref a1)] := hl
  have hS : va_S nA s.heap s.heap [] := va_S.rf
  unfold O_X9_is at hf
  obtain ⟨H, eH⟩ : ∃ H, H = s.heap := ⟨_, rfl⟩
  obtain ⟨locs, eL⟩ : ∃ locs : List Loc, locs = [] := ⟨_, rfl⟩
  rw [← eL] at hS ⊢
  rw [← eH] at hP
  have hS : va_S nA s.heap H locs := by rw [eH]; exact hS
  show W p l e (rmT (F + 1) (L + 40)) s m args below meth c s.heap locs 0 0 Q (F0 m 0 ls [])
  rw [← eH]
  refine lv_aload_n hx hb dX9_is_0 rfl (lv_at hl 0 rfl) ?_
  obtain ⟨r2, g1, hf⟩ := ob_bind hf
  refine xh_getr hx hb hts in_X9 hown hK hP (ci := 9) rfl 1 (by decide) (hts _ q633) (fun _ h => h) g1 dX9_is_1 ?_
  refine lv_aload_n hx hb dX9_is_4 rfl (lv_at hl 1 rfl) ?_
  obtain ⟨y3, g4, hf⟩ := ob_bind hf
  refine xh_ifS hJ hJs (hJ.at hJs hS) ⟨hx, hb, hml, hown, hts⟩ hK hP (hdS _ _ _ g4) q1004 hl.1 (Nat.le_of_ble_eq_true rfl) ⟨by show F + 11 ≤ F + 1 + 10; omega, by show L + 340 ≤ L + 40 + 300; omega⟩ ⟨Nat.zero_le _, Nat.zero_le _⟩ dX9_is_5 hS (fun H9 locs hz hk hS => ?_)
  replace hP : HF D dA h H9 := hP.kept (fun q hq _ => hk q hq)
  generalize H9 = H at hP hS ⊢
  refine lv_aload_n hx hb dX9_is_10 rfl (lv_at hl 0 rfl) ?_
  obtain ⟨r6, g5, hf⟩ := ob_bind hf
  refine xh_getr hx hb hts in_X9 hown hK hP (ci := 9) rfl 2 (by decide) (hts _ q634) (fun _ h => h) g5 dX9_is_11 ?_
  refine lv_aload_n hx hb dX9_is_14 rfl (lv_at hl 1 rfl) ?_
  obtain ⟨y7, g8, hf⟩ := ob_bind hf
  refine xh_ifS hJ hJs (hJ.at hJs hS) ⟨hx, hb, hml, hown, hts⟩ hK hP (hdS _ _ _ g8) q1004 hl.1 (Nat.le_of_ble_eq_true rfl) ⟨by show F + 11 ≤ F + 1 + 10; omega, by show L + 340 ≤ L + 40 + 300; omega⟩ ⟨Nat.zero_le _, Nat.zero_le _⟩ dX9_is_15 hS (fun H9 locs hz hk hS => ?_)
  replace hP : HF D dA h H9 := hP.kept (fun q hq _ => hk q hq)
  generalize H9 = H at hP hS ⊢
  refine lv_lsub hx hb dX9_is_20 ?_
  obtain ⟨v2_9, ev2_9, hf⟩ := ob_bnd hf
  refine xn_j ev2_9 ?_
  refine lv_lstore_n (lv' := [(2, .long v2_9), (0, .ref a0), (1, .ref a1)]) hx hb dX9_is_21 rfl hl (by decide) rfl (fun ls hl => ?_)
  refine lv_aload_n hx hb dX9_is_22 rfl (lv_at hl 1 rfl) ?_
  obtain ⟨x11, g10, hf⟩ := ob_bind hf
  refine xh_geti hx hb hts in_X9 hown hK hP (ci := 9) rfl 0 (by decide) (hts _ q632) (fun _ h => h) g10 dX9_is_23 ?_
  by_cases c12 : x11 = 35
  · replace hf := ob_t hf c12
    refine lv_lookup (tgt := 112) (off := 86) hx hb dX9_is_26 (by decide) (by rw [c12]; decide) (by decide) ?_
    refine lv_lload_n hx hb dX9_is_112 rfl (lv_at hl 0 rfl) ?_
    refine lv_lconst (v := 0) hx hb dX9_is_113 (by decide) ?_
    refine W.lcmp hx hb dX9_is_114 ?_
    refine lv_if_eq (tgt := 122) hx hb dX9_is_115 (by decide) (fun c13 => ?_) (fun c13 => ?_)
    · replace hf := ob_t hf c13
      refine lv_iconst (v := 0) hx hb dX9_is_122 (by decide) ?_
      obtain rfl := ob_s hf
      subst hQ
      exact xg_z hx hb hr hlocks hS (Or.inl rfl) dX9_is_123
    · replace hf := ob_f hf c13
      refine lv_iconst (v := 1) hx hb dX9_is_118 (by decide) ?_
      refine lv_goto (tgt := 123) hx hb dX9_is_119 (by decide) ?_
      obtain rfl := ob_s hf
      subst hQ
      exact xg_z hx hb hr hlocks hS (Or.inr rfl) dX9_is_123
  · replace hf := ob_f hf c12
    by_cases c14 : x11 = 60
    · replace hf := ob_t hf c14
      refine lv_lookup (tgt := 76) (off := 50) hx hb dX9_is_26 (by decide) (by rw [c14]; decide) (by decide) ?_
      refine lv_lload_n hx hb dX9_is_76 rfl (lv_at hl 0 rfl) ?_
      refine lv_lconst (v := 0) hx hb dX9_is_77 (by decide) ?_
      refine W.lcmp hx hb dX9_is_78 ?_
      refine lv_if_ge (tgt := 86) hx hb dX9_is_79 (by decide) (fun c15 => ?_) (fun c15 => ?_)
      · replace hf := ob_t hf c15
        refine lv_iconst (v := 0) hx hb dX9_is_86 (by decide) ?_
        obtain rfl := ob_s hf
        subst hQ
        exact xg_z hx hb hr hlocks hS (Or.inl rfl) dX9_is_87
      · replace hf := ob_f hf c15
        refine lv_iconst (v := 1) hx hb dX9_is_82 (by decide) ?_
        refine lv_goto (tgt := 87) hx hb dX9_is_83 (by decide) ?_
        obtain rfl := ob_s hf
        subst hQ
        exact xg_z hx hb hr hlocks hS (Or.inr rfl) dX9_is_87
    · replace hf := ob_f hf c14
      by_cases c16 : x11 = 61
      · replace hf := ob_t hf c16
        refine lv_lookup (tgt := 100) (off := 74) hx hb dX9_is_26 (by decide) (by rw [c16]; decide) (by decide) ?_
        refine lv_lload_n hx hb dX9_is_100 rfl (lv_at hl 0 rfl) ?_
        refine lv_lconst (v := 0) hx hb dX9_is_101 (by decide) ?_
        refine W.lcmp hx hb dX9_is_102 ?_
        refine lv_if_ne (tgt := 110) hx hb dX9_is_103 (by decide) (fun c17 => ?_) (fun c17 => ?_)
        · replace hf := ob_f hf c17
          refine lv_iconst (v := 0) hx hb dX9_is_110 (by decide) ?_
          obtain rfl := ob_s hf
          subst hQ
          exact xg_z hx hb hr hlocks hS (Or.inl rfl) dX9_is_111
        · replace hf := ob_t hf c17
          refine lv_iconst (v := 1) hx hb dX9_is_106 (by decide) ?_
          refine lv_goto (tgt := 111) hx hb dX9_is_107 (by decide) ?_
          obtain rfl := ob_s hf
          subst hQ
          exact xg_z hx hb hr hlocks hS (Or.inr rfl) dX9_is_111
      · replace hf := ob_f hf c16
        by_cases c18 : x11 = 62
        · replace hf := ob_t hf c18
          refine lv_lookup (tgt := 88) (off := 62) hx hb dX9_is_26 (by decide) (by rw [c18]; decide) (by decide) ?_
          refine lv_lload_n hx hb dX9_is_88 rfl (lv_at hl 0 rfl) ?_
          refine lv_lconst (v := 0) hx hb dX9_is_89 (by decide) ?_
          refine W.lcmp hx hb dX9_is_90 ?_
          refine lv_if_le (tgt := 98) hx hb dX9_is_91 (by decide) (fun c19 => ?_) (fun c19 => ?_)
          · replace hf := ob_t hf c19
            refine lv_iconst (v := 0) hx hb dX9_is_98 (by decide) ?_
            obtain rfl := ob_s hf
            subst hQ
            exact xg_z hx hb hr hlocks hS (Or.inl rfl) dX9_is_99
          · replace hf := ob_f hf c19
            refine lv_iconst (v := 1) hx hb dX9_is_94 (by decide) ?_
            refine lv_goto (tgt := 99) hx hb dX9_is_95 (by decide) ?_
            obtain rfl := ob_s hf
            subst hQ
            exact xg_z hx hb hr hlocks hS (Or.inr rfl) dX9_is_99
        · replace hf := ob_f hf c18
          by_cases c20 : x11 = 303
          · replace hf := ob_t hf c20
            refine lv_lookup (tgt := 124) (off := 98) hx hb dX9_is_26 (by decide) (by rw [c20]; decide) (by decide) ?_
            refine lv_lload_n hx hb dX9_is_124 rfl (lv_at hl 0 rfl) ?_
            refine lv_lconst (v := 0) hx hb dX9_is_125 (by decide) ?_
            refine W.lcmp hx hb dX9_is_126 ?_
            refine lv_if_gt (tgt := 134) hx hb dX9_is_127 (by decide) (fun c21 => ?_) (fun c21 => ?_)
            · replace hf := ob_t hf c21
              refine lv_iconst (v := 0) hx hb dX9_is_134 (by decide) ?_
              obtain rfl := ob_s hf
              subst hQ
              exact xg_z hx hb hr hlocks hS (Or.inl rfl) dX9_is_135
            · replace hf := ob_f hf c21
              refine lv_iconst (v := 1) hx hb dX9_is_130 (by decide) ?_
              refine lv_goto (tgt := 135) hx hb dX9_is_131 (by decide) ?_
              obtain rfl := ob_s hf
              subst hQ
              exact xg_z hx hb hr hlocks hS (Or.inr rfl) dX9_is_135
          · replace hf := ob_f hf c20
            refine xr_lswD (tgt := 136) (vs := [35, 60, 61, 62, 303]) hx hb dX9_is_26 (by decide) (List.forall_mem_cons.mpr ⟨c12, List.forall_mem_cons.mpr ⟨c14, List.forall_mem_cons.mpr ⟨c16, List.forall_mem_cons.mpr ⟨c18, List.forall_mem_cons.mpr ⟨c20, fun _ h => absurd h List.not_mem_nil⟩⟩⟩⟩⟩) (by decide +kernel) (by decide) ?_
            refine lv_lload_n hx hb dX9_is_136 rfl (lv_at hl 0 rfl) ?_
            refine lv_lconst (v := 0) hx hb dX9_is_137 (by decide) ?_
            refine W.lcmp hx hb dX9_is_138 ?_
            refine lv_if_lt (tgt := 146) hx hb dX9_is_139 (by decide) (fun c22 => ?_) (fun c22 => ?_)
            · replace hf := ob_t hf c22
              refine lv_iconst (v := 0) hx hb dX9_is_146 (by decide) ?_
              obtain rfl := ob_s hf
              subst hQ
              exact xg_z hx hb hr hlocks hS (Or.inl rfl) dX9_is_147
            · replace hf := ob_f hf c22
              refine lv_iconst (v := 1) hx hb dX9_is_142 (by decide) ?_
              refine lv_goto (tgt := 147) hx hb dX9_is_143 (by decide) ?_
              obtain rfl := ob_s hf
              subst hQ
              exact xg_z hx hb hr hlocks hS (Or.inr rfl) dX9_is_147
set_option maxHeartbeats 4000000 in
set_option maxRecDepth 100000 in
theorem wkX8_is (l : Launch) (D : va_G) (dA : Nat → ClassId) (J : State → Heap → Prop) (hJ : JR J) (h : Hv) {F L : Nat} {rS : Nat → Nat → Option Int64} {rA : Nat → Nat → Option Int32} (hdS : ∀ q v r, rS q v = some r → DiS l D dA J h F L q v r) (hdA : ∀ q v r, rA q v = some r → DiA l D dA J h F L q v r) (a0 : Nat) (a1 : Nat) {res : Int32} (hf : O_X8_is h rS rA a0 a1 = some res) : Met l yX8_is (ws_ yX8_is cX8_is 2 (some .boolean)) (rmT (F + 1) (L + 40)) (Pr D dA J [.ref a0, .ref a1] h) (Qrz res) 0 0 nA := by
  refine xh_head (own := RX8) (by decide) rfl (Nat.le_of_ble_eq_true rfl) ?_
  intro p e s m args below meth c ls Q hQ C hP hl
  obtain ⟨hx, hb, hr, hlocks, hml, hown, hts, hK, hJs⟩ := C
  replace hl : lv_has ls 2 [(0, .ref a0), (1, .ref a1)] := hl
  have hS : va_S nA s.heap s.heap [] := va_S.rf
  unfold O_X8_is at hf
  obtain ⟨H, eH⟩ : ∃ H, H = s.heap := ⟨_, rfl⟩
  obtain ⟨locs, eL⟩ : ∃ locs : List Loc, locs = [] := ⟨_, rfl⟩
  rw [← eL] at hS ⊢
  rw [← eH] at hP
  have hS : va_S nA s.heap H locs := by rw [eH]; exact hS
  show W p l e (rmT (F + 1) (L + 40)) s m args below meth c s.heap locs 0 0 Q (F0 m 0 ls [])
  rw [← eH]
  refine lv_aload_n hx hb dX8_is_0 rfl (lv_at hl 0 rfl) ?_
  obtain ⟨r2, g1, hf⟩ := ob_bind hf
  refine xh_getr hx hb hts in_X8 hown hK hP (ci := 10) rfl 0 (by decide) (hts _ q622) (fun _ h => h) g1 dX8_is_1 ?_
  refine lv_aload_n hx hb dX8_is_4 rfl (lv_at hl 1 rfl) ?_
  obtain ⟨y3, g4, hf⟩ := ob_bind hf
  refine xh_ifA hJ hJs (hJ.at hJs hS) ⟨hx, hb, hml, hown, hts⟩ hK hP (hdA _ _ _ g4) q1043 hl.1 (Nat.le_of_ble_eq_true rfl) ⟨by show F + 11 ≤ F + 1 + 10; omega, by show L + 340 ≤ L + 40 + 300; omega⟩ ⟨Nat.zero_le _, Nat.zero_le _⟩ dX8_is_5 hS (fun H9 locs zy3 hz hk hS => ?_)
  replace hP : HF D dA h H9 := hP.kept (fun q hq _ => hk q hq)
  generalize H9 = H at hP hS ⊢
  refine lv_if_ne (tgt := 17) hx hb dX8_is_10 (by decide) (fun c5 => ?_) (fun c5 => ?_)
  · replace hf := ob_f hf c5
    refine lv_iconst (v := 0) hx hb dX8_is_17 (by decide) ?_
    obtain rfl := ob_s hf
    subst hQ
    exact xg_z hx hb hr hlocks hS (Or.inl rfl) dX8_is_18
  · replace hf := ob_t hf c5
    refine lv_iconst (v := 1) hx hb dX8_is_13 (by decide) ?_
    refine lv_goto (tgt := 18) hx hb dX8_is_14 (by decide) ?_
    obtain rfl := ob_s hf
    subst hQ
    exact xg_z hx hb hr hlocks hS (Or.inr rfl) dX8_is_18
set_option maxHeartbeats 4000000 in
set_option maxRecDepth 100000 in
theorem wkX10_is (l : Launch) (D : va_G) (dA : Nat → ClassId) (J : State → Heap → Prop) (hJ : JR J) (h : Hv) {F L : Nat} {rS : Nat → Nat → Option Int64} {rA : Nat → Nat → Option Int32} (hdS : ∀ q v r, rS q v = some r → DiS l D dA J h F L q v r) (hdA : ∀ q v r, rA q v = some r → DiA l D dA J h F L q v r) (a0 : Nat) (a1 : Nat) {res : Int32} (hf : O_X10_is h rS rA a0 a1 = some res) : Met l yX10_is (ws_ yX10_is cX10_is 4 (some .boolean)) (rmT (F + 1) (L + 40)) (Pr D dA J [.ref a0, .ref a1] h) (Qrz res) 0 0 nA := by
  refine xh_head (own := RX10) (by decide) rfl (Nat.le_of_ble_eq_true rfl) ?_
  intro p e s m args below meth c ls Q hQ C hP hl
  obtain ⟨hx, hb, hr, hlocks, hml, hown, hts, hK, hJs⟩ := C
  replace hl : lv_has ls 4 [(0, .ref a0), (1, .ref a1)] := hl
  have hS : va_S nA s.heap s.heap [] := va_S.rf
  unfold O_X10_is at hf
  obtain ⟨H, eH⟩ : ∃ H, H = s.heap := ⟨_, rfl⟩
  obtain ⟨locs, eL⟩ : ∃ locs : List Loc, locs = [] := ⟨_, rfl⟩
  rw [← eL] at hS ⊢
  rw [← eH] at hP
  have hS : va_S nA s.heap H locs := by rw [eH]; exact hS
  show W p l e (rmT (F + 1) (L + 40)) s m args below meth c s.heap locs 0 0 Q (F0 m 0 ls [])
  rw [← eH]
  refine lv_iconst (v := 0) hx hb dX10_is_0 (by decide) ?_
  refine lv_istore_n (lv' := [(2, .int 0), (0, .ref a0), (1, .ref a1)]) hx hb dX10_is_1 rfl hl (by decide) rfl (fun ls hl => ?_)
  refine lv_iconst (v := 0) hx hb dX10_is_2 (by decide) ?_
  refine lv_istore_n (lv' := [(3, .int 0), (2, .int 0), (0, .ref a0), (1, .ref a1)]) hx hb dX10_is_3 rfl hl (by decide) rfl (fun ls hl => ?_)
  obtain ⟨b3, hb3, hf⟩ := ob_bind hf
  obtain ⟨n3, hn3⟩ := lp_some hb3
  have kL4 : ∀ (n : Nat) (v2_1 : Int32) (v3_2 : Int32), lpF (fun (q3 : Int32 × Int32) => O_X10_is_b4 h a0 rA a1 q3.1 q3.2) n (v2_1, v3_2) = some b3 → (∀ (H : Heap) (locs : List Loc) (ls : Array Slot), HF D dA h H → va_S nA s.heap H locs → lv_has ls 4 [(0, .ref a0), (2, .int b3)] → W p l e (rmT (F + 1) (L + 40)) s m args below meth c H locs 0 0 Q (F0 m 49 ls [])) → ∀ (H : Heap) (locs : List Loc) (ls : Array Slot), HF D dA h H → va_S nA s.heap H locs → lv_has ls 4 [(0, .ref a0), (1, .ref a1), (2, .int v2_1), (3, .int v3_2)] → W p l e (rmT (F + 1) (L + 40)) s m args below meth c H locs 0 0 Q (F0 m 4 ls []) := by
    intro n
    induction n with
    | zero =>
      intro v2_1 v3_2 hq9
      cases hq9
    | succ n ih =>
      intro v2_1 v3_2 hq9 K3_0 H locs ls hP hS hl
      obtain ⟨r3, hf, h3a, h3b⟩ := lpF_step hq9
      replace hf : O_X10_is_b4 h a0 rA a1 v2_1 v3_2 = some r3 := hf
      unfold O_X10_is_b4 at hf
      refine lv_iload_n hx hb dX10_is_4 rfl (lv_at hl 3 rfl) ?_
      refine lv_aload_n hx hb dX10_is_5 rfl (lv_at hl 0 rfl) ?_
      obtain ⟨r5, g4, hf⟩ := ob_bind hf
      refine xh_getr hx hb hts in_X10 hown hK hP (ci := 11) rfl 1 (by decide) (hts _ q728) (fun _ h => h) g4 dX10_is_6 ?_
      obtain ⟨g6, hf⟩ := ob_gp hf
      obtain ⟨q7, g8, hf⟩ := ob_bind hf
      refine xh_i (xh_run (As := []) (rest := [.int v3_2]) hJ hJs hS ⟨hx, hb, hml, hown, hts⟩ (wkJ3_size l D dA J hJ h r5 g8) (cwV 0 hts (lw_V q992 q705 q706 q145 q707) rfl rfl rfl cdJ3_size ⟨by show 1 ≤ F + 1 + 10; omega, by show 20 ≤ L + 40 + 300; omega⟩) hK hP (of_decide_eq_true g6) (q := (RJ3, TJ3, 3)) rfl rfl hl.1 rfl rfl (Nat.le_of_ble_eq_true rfl) dX10_is_9 ⟨Nat.zero_le _, Nat.zero_le _⟩) hP hS (fun H locs hP hS => ?_)
      refine lv_icmp_ge (tgt := 49) hx hb dX10_is_12 (by decide) (fun c9 => ?_) (fun c9 => ?_)
      · replace hf := ob_t hf c9
        obtain rfl := ob_s hf
        obtain rfl := h3b _ rfl
        exact K3_0 H locs ls hP hS (lv_sub hl [0, 2] rfl)
      · replace hf := ob_f hf c9
        refine lv_iload_n hx hb dX10_is_15 rfl (lv_at hl 2 rfl) ?_
        refine lv_aload_n hx hb dX10_is_16 rfl (lv_at hl 0 rfl) ?_
        obtain ⟨r11, g10, hf⟩ := ob_bind hf
        refine xh_getr hx hb hts in_X10 hown hK hP (ci := 11) rfl 1 (by decide) (hts _ q728) (fun _ h => h) g10 dX10_is_17 ?_
        refine lv_iload_n hx hb dX10_is_20 rfl (lv_at hl 3 rfl) ?_
        obtain ⟨g12, hf⟩ := ob_gp hf
        obtain ⟨q13, g14, hf⟩ := ob_bind hf
        refine xh_a (xh_run (As := [.int v3_2]) (rest := [.int v2_1]) hJ hJs hS ⟨hx, hb, hml, hown, hts⟩ (wkJ3_get l D dA J hJ h r11 v3_2 g14) (cwV 1 hts (lw_V q993 q709 q710 q145 q711) rfl rfl rfl cdJ3_get ⟨by show 3 ≤ F + 1 + 10; omega, by show 64 ≤ L + 40 + 300; omega⟩) hK hP (of_decide_eq_true g12) (q := (RJ3, TJ3, 3)) rfl rfl hl.1 rfl rfl (Nat.le_of_ble_eq_true rfl) dX10_is_21 ⟨Nat.zero_le _, Nat.zero_le _⟩) hP hS (fun H locs hP hS => ?_)
        obtain ⟨g15, hf⟩ := ob_gp hf
        refine xh_castAsk hx hb hown (hts _ q994) (hJ.2.2.2 s s.heap hJs) hK hP g15 dX10_is_24 ?_
        refine lv_aload_n hx hb dX10_is_27 rfl (lv_at hl 1 rfl) ?_
        obtain ⟨y16, g17, hf⟩ := ob_bind hf
        refine xh_ifA hJ hJs (hJ.at hJs hS) ⟨hx, hb, hml, hown, hts⟩ hK hP (hdA _ _ _ g17) q996 hl.1 (Nat.le_of_ble_eq_true rfl) ⟨by show F + 11 ≤ F + 1 + 10; omega, by show L + 340 ≤ L + 40 + 300; omega⟩ ⟨Nat.zero_le _, Nat.zero_le _⟩ dX10_is_28 hS (fun H9 locs zy16 hz hk hS => ?_)
        replace hP : HF D dA h H9 := hP.kept (fun q hq _ => hk q hq)
        generalize H9 = H at hP hS ⊢
        refine lv_if_eq (tgt := 40) hx hb dX10_is_33 (by decide) (fun c18 => ?_) (fun c18 => ?_)
        · replace hf := ob_t hf c18
          refine lv_iconst (v := 0) hx hb dX10_is_40 (by decide) ?_
          refine lv_iadd hx hb dX10_is_41 ?_
          obtain ⟨v2_19, ev2_19, hf⟩ := ob_bnd hf
          refine xn_i ev2_19 ?_
          refine lv_istore_n (lv' := [(2, .int v2_19), (0, .ref a0), (1, .ref a1), (3, .int v3_2)]) hx hb dX10_is_42 rfl hl (by decide) rfl (fun ls hl => ?_)
          obtain ⟨v3_20, ev3_20, hf⟩ := ob_bnd hf
          refine lv_iinc (v := v3_20) (lv' := [(3, .int v3_20), (2, .int v2_19), (0, .ref a0), (1, .ref a1)]) hx hb dX10_is_43 hl (k := 3) rfl (by rw [ev3_20]; rfl) (by decide) rfl (fun ls hl => ?_)
          refine lv_goto (tgt := 4) hx hb dX10_is_46 (by decide) ?_
          obtain rfl := ob_s hf
          exact ih _ _ (h3a _ rfl) K3_0 H locs ls hP hS (lv_sub hl [2, 3, 1, 0] rfl)
        · replace hf := ob_f hf c18
          refine lv_iconst (v := 1) hx hb dX10_is_36 (by decide) ?_
          refine lv_goto (tgt := 41) hx hb dX10_is_37 (by decide) ?_
          refine lv_iadd hx hb dX10_is_41 ?_
          obtain ⟨v2_21, ev2_21, hf⟩ := ob_bnd hf
          refine xn_i ev2_21 ?_
          refine lv_istore_n (lv' := [(2, .int v2_21), (0, .ref a0), (1, .ref a1), (3, .int v3_2)]) hx hb dX10_is_42 rfl hl (by decide) rfl (fun ls hl => ?_)
          obtain ⟨v3_22, ev3_22, hf⟩ := ob_bnd hf
          refine lv_iinc (v := v3_22) (lv' := [(3, .int v3_22), (2, .int v2_21), (0, .ref a0), (1, .ref a1)]) hx hb dX10_is_43 hl (k := 3) rfl (by rw [ev3_22]; rfl) (by decide) rfl (fun ls hl => ?_)
          refine lv_goto (tgt := 4) hx hb dX10_is_46 (by decide) ?_
          obtain rfl := ob_s hf
          exact ih _ _ (h3a _ rfl) K3_0 H locs ls hP hS (lv_sub hl [2, 3, 1, 0] rfl)
  refine kL4 n3 0 0 hn3 (fun H locs ls hP hS hl => ?_) H locs ls hP hS (lv_sub hl [2, 3, 1, 0] rfl)
  replace hf : O_X10_is_x4_49 h a0 b3 = some res := hf
  unfold O_X10_is_x4_49 at hf
  refine lv_aload_n hx hb dX10_is_49 rfl (lv_at hl 0 rfl) ?_
  obtain ⟨x24, g23, hf⟩ := ob_bind hf
  refine xh_geti hx hb hts in_X10 hown hK hP (ci := 11) rfl 0 (by decide) (hts _ q727) (fun _ h => h) g23 dX10_is_50 ?_
  refine lv_if_eq (tgt := 75) hx hb dX10_is_53 (by decide) (fun c25 => ?_) (fun c25 => ?_)
  · replace hf := ob_t hf c25
    refine lv_iload_n hx hb dX10_is_75 rfl (lv_at hl 1 rfl) ?_
    refine lv_if_le (tgt := 83) hx hb dX10_is_76 (by decide) (fun c26 => ?_) (fun c26 => ?_)
    · replace hf := ob_t hf c26
      refine lv_iconst (v := 0) hx hb dX10_is_83 (by decide) ?_
      obtain rfl := ob_s hf
      subst hQ
      exact xg_z hx hb hr hlocks hS (Or.inl rfl) dX10_is_84
    · replace hf := ob_f hf c26
      refine lv_iconst (v := 1) hx hb dX10_is_79 (by decide) ?_
      refine lv_goto (tgt := 84) hx hb dX10_is_80 (by decide) ?_
      obtain rfl := ob_s hf
      subst hQ
      exact xg_z hx hb hr hlocks hS (Or.inr rfl) dX10_is_84
  · replace hf := ob_f hf c25
    refine lv_iload_n hx hb dX10_is_56 rfl (lv_at hl 1 rfl) ?_
    refine lv_aload_n hx hb dX10_is_57 rfl (lv_at hl 0 rfl) ?_
    obtain ⟨r28, g27, hf⟩ := ob_bind hf
    refine xh_getr hx hb hts in_X10 hown hK hP (ci := 11) rfl 1 (by decide) (hts _ q728) (fun _ h => h) g27 dX10_is_58 ?_
    obtain ⟨g29, hf⟩ := ob_gp hf
    obtain ⟨q30, g31, hf⟩ := ob_bind hf
    refine xh_i (xh_run (As := []) (rest := [.int b3]) hJ hJs hS ⟨hx, hb, hml, hown, hts⟩ (wkJ3_size l D dA J hJ h r28 g31) (cwV 0 hts (lw_V q992 q705 q706 q145 q707) rfl rfl rfl cdJ3_size ⟨by show 1 ≤ F + 1 + 10; omega, by show 20 ≤ L + 40 + 300; omega⟩) hK hP (of_decide_eq_true g29) (q := (RJ3, TJ3, 3)) rfl rfl hl.1 rfl rfl (Nat.le_of_ble_eq_true rfl) dX10_is_61 ⟨Nat.zero_le _, Nat.zero_le _⟩) hP hS (fun H locs hP hS => ?_)
    refine lv_icmp_ne (tgt := 71) hx hb dX10_is_64 (by decide) (fun c32 => ?_) (fun c32 => ?_)
    · replace hf := ob_f hf c32
      refine lv_iconst (v := 0) hx hb dX10_is_71 (by decide) ?_
      refine lv_goto (tgt := 84) hx hb dX10_is_72 (by decide) ?_
      obtain rfl := ob_s hf
      subst hQ
      exact xg_z hx hb hr hlocks hS (Or.inl rfl) dX10_is_84
    · replace hf := ob_t hf c32
      refine lv_iconst (v := 1) hx hb dX10_is_67 (by decide) ?_
      refine lv_goto (tgt := 84) hx hb dX10_is_68 (by decide) ?_
      obtain rfl := ob_s hf
      subst hQ
      exact xg_z hx hb hr hlocks hS (Or.inr rfl) dX10_is_84
theorem ev_disp (l : Launch) (D : va_G) (dA : Nat → ClassId) (J : State → Heap → Prop) (hJ : JR J) (h : Hv) : ∀ dp : Nat, (∀ q v r, (O_ev dp h).1 q v = some r → DiS l D dA J h dp (40 * dp) q v r) ∧ (∀ q v r, (O_ev dp h).2 q v = some r → DiA l D dA J h dp (40 * dp) q v r) := by
  intro dp
  induction dp with
  | zero => exact ⟨fun q v r e => (by cases e), fun q v r e => (by cases e)⟩
  | succ dp ih =>
    obtain ⟨iS, iA⟩ := ih
    constructor
    · intro q v r e
      unfold O_ev at e
      dsimp only at e
      by_cases c0 : hC h q = some 5
      · replace e := ob_t e c0
        exact ⟨5, c0, Or.inl ⟨rfl, wkX7_of l D dA J hJ h iS iA q v e⟩⟩
      · replace e := ob_f e c0
        by_cases c1 : hC h q = some 6
        · replace e := ob_t e c1
          exact ⟨6, c1, Or.inr (Or.inl ⟨rfl, wkX13_of l D dA J hJ h iS iA q v e⟩)⟩
        · replace e := ob_f e c1
          by_cases c2 : hC h q = some 7
          · replace e := ob_t e c2
            exact ⟨7, c2, Or.inr (Or.inr (Or.inl ⟨rfl, wkX15_of l D dA J hJ h iS iA q v e⟩))⟩
          · replace e := ob_f e c2
            by_cases c3 : hC h q = some 8
            · replace e := ob_t e c3
              exact ⟨8, c3, Or.inr (Or.inr (Or.inr (Or.inl ⟨rfl, wkX6_of l D dA J hJ h iS iA q v e⟩)))⟩
            · replace e := ob_f e c3
              by_cases c4 : hC h q = some 12
              · replace e := ob_t e c4
                exact ⟨12, c4, Or.inr (Or.inr (Or.inr (Or.inr (Or.inl ⟨rfl, wkX12_of l D dA J hJ h iS iA q v e⟩))))⟩
              · replace e := ob_f e c4
                by_cases c5 : hC h q = some 13
                · replace e := ob_t e c5
                  exact ⟨13, c5, Or.inr (Or.inr (Or.inr (Or.inr (Or.inr (Or.inl ⟨rfl, wkX14_of l D dA J hJ h iS iA q v e⟩)))))⟩
                · replace e := ob_f e c5
                  by_cases c6 : hC h q = some 14
                  · replace e := ob_t e c6
                    exact ⟨14, c6, Or.inr (Or.inr (Or.inr (Or.inr (Or.inr (Or.inr (⟨rfl, wkX11_of l D dA J hJ h iS iA q v e⟩))))))⟩
                  · replace e := ob_f e c6
                    cases e
    · intro q v r e
      unfold O_ev at e
      dsimp only at e
      by_cases c0 : hC h q = some 9
      · replace e := ob_t e c0
        exact ⟨9, c0, Or.inl ⟨rfl, wkX9_is l D dA J hJ h iS iA q v e⟩⟩
      · replace e := ob_f e c0
        by_cases c1 : hC h q = some 10
        · replace e := ob_t e c1
          exact ⟨10, c1, Or.inr (Or.inl ⟨rfl, wkX8_is l D dA J hJ h iS iA q v e⟩)⟩
        · replace e := ob_f e c1
          by_cases c2 : hC h q = some 11
          · replace e := ob_t e c2
            exact ⟨11, c2, Or.inr (Or.inr (⟨rfl, wkX10_is l D dA J hJ h iS iA q v e⟩))⟩
          · replace e := ob_f e c2
            cases e
