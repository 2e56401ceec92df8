/-! making: the methods walked (printed by gend.py) -/
theorem cdX3_sum : yX3_sum.cls = RX3 ∧ yX3_sum.cls ≠ "java/lang/invoke/MethodHandle" ∧ yX3_sum.cls ≠ "java/lang/invoke/VarHandle" ∧ (parseMethodDescriptor yX3_sum.desc).map (fun d => d.parameters.length) = some 0 := by decide +kernel
theorem cdX3_product : yX3_product.cls = RX3 ∧ yX3_product.cls ≠ "java/lang/invoke/MethodHandle" ∧ yX3_product.cls ≠ "java/lang/invoke/VarHandle" ∧ (parseMethodDescriptor yX3_product.desc).map (fun d => d.parameters.length) = some 0 := by decide +kernel
theorem cdX3_one : yX3_one.cls = RX3 ∧ yX3_one.cls ≠ "java/lang/invoke/MethodHandle" ∧ yX3_one.cls ≠ "java/lang/invoke/VarHandle" ∧ (parseMethodDescriptor yX3_one.desc).map (fun d => d.parameters.length) = some 0 := by decide +kernel
theorem cdX3_rest : yX3_rest.cls = RX3 ∧ yX3_rest.cls ≠ "java/lang/invoke/MethodHandle" ∧ yX3_rest.cls ≠ "java/lang/invoke/VarHandle" ∧ (parseMethodDescriptor yX3_rest.desc).map (fun d => d.parameters.length) = some 0 := by decide +kernel
theorem cdX3_choice : yX3_choice.cls = RX3 ∧ yX3_choice.cls ≠ "java/lang/invoke/MethodHandle" ∧ yX3_choice.cls ≠ "java/lang/invoke/VarHandle" ∧ (parseMethodDescriptor yX3_choice.desc).map (fun d => d.parameters.length) = some 0 := by decide +kernel
theorem cdX3_either : yX3_either.cls = RX3 ∧ yX3_either.cls ≠ "java/lang/invoke/MethodHandle" ∧ yX3_either.cls ≠ "java/lang/invoke/VarHandle" ∧ (parseMethodDescriptor yX3_either.desc).map (fun d => d.parameters.length) = some 0 := by decide +kernel
theorem cdX3_both : yX3_both.cls = RX3 ∧ yX3_both.cls ≠ "java/lang/invoke/MethodHandle" ∧ yX3_both.cls ≠ "java/lang/invoke/VarHandle" ∧ (parseMethodDescriptor yX3_both.desc).map (fun d => d.parameters.length) = some 0 := by decide +kernel
theorem cdX3_ask : yX3_ask.cls = RX3 ∧ yX3_ask.cls ≠ "java/lang/invoke/MethodHandle" ∧ yX3_ask.cls ≠ "java/lang/invoke/VarHandle" ∧ (parseMethodDescriptor yX3_ask.desc).map (fun d => d.parameters.length) = some 0 := by decide +kernel
/-- what the parser's methods answer, one by one -/
def KC (l : Launch) (D : va_G) (dA : Nat → ClassId) (ro : Nat → Bool) (J : State → Heap → Prop) (F L k : Nat) (h : Hv) (n a : Nat) (res : (Nat ⊕ Nat) × Hv × Nat × Nat) : Prop := match k with
  | 0 => vy_Met l yX3_sum (ws_ yX3_sum cX3_sum 3 (some (Jvm.ClassFile.FieldType.object "QuarrelsPawned$Sum"))) (rmD (F + 30) (L + 900) res.2.2.1 res.2.2.2) (Pd D dA ro J [.ref a] h n) (Qta D dA ro h n res) (Xt D dA ro h n res) res.2.2.1 res.2.2.2 (fD ro h n)
  | 1 => vy_Met l yX3_product (ws_ yX3_product cX3_product 3 (some (Jvm.ClassFile.FieldType.object "QuarrelsPawned$Sum"))) (rmD (F + 30) (L + 900) res.2.2.1 res.2.2.2) (Pd D dA ro J [.ref a] h n) (Qta D dA ro h n res) (Xt D dA ro h n res) res.2.2.1 res.2.2.2 (fD ro h n)
  | 2 => vy_Met l yX3_one (ws_ yX3_one cX3_one 5 (some (Jvm.ClassFile.FieldType.object "QuarrelsPawned$Sum"))) (rmD (F + 30) (L + 900) res.2.2.1 res.2.2.2) (Pd D dA ro J [.ref a] h n) (Qta D dA ro h n res) (Xt D dA ro h n res) res.2.2.1 res.2.2.2 (fD ro h n)
  | 3 => vy_Met l yX3_rest (ws_ yX3_rest cX3_rest 3 (some (Jvm.ClassFile.FieldType.object "QuarrelsPawned$Sum"))) (rmD (F + 30) (L + 900) res.2.2.1 res.2.2.2) (Pd D dA ro J [.ref a] h n) (Qta D dA ro h n res) (Xt D dA ro h n res) res.2.2.1 res.2.2.2 (fD ro h n)
  | 4 => vy_Met l yX3_choice (ws_ yX3_choice cX3_choice 4 (some (Jvm.ClassFile.FieldType.object "QuarrelsPawned$Sum"))) (rmD (F + 30) (L + 900) res.2.2.1 res.2.2.2) (Pd D dA ro J [.ref a] h n) (Qta D dA ro h n res) (Xt D dA ro h n res) res.2.2.1 res.2.2.2 (fD ro h n)
  | 5 => vy_Met l yX3_either (ws_ yX3_either cX3_either 2 (some (Jvm.ClassFile.FieldType.object "QuarrelsPawned$Asked"))) (rmD (F + 30) (L + 900) res.2.2.1 res.2.2.2) (Pd D dA ro J [.ref a] h n) (Qta D dA ro h n res) (Xt D dA ro h n res) res.2.2.1 res.2.2.2 (fD ro h n)
  | 6 => vy_Met l yX3_both (ws_ yX3_both cX3_both 2 (some (Jvm.ClassFile.FieldType.object "QuarrelsPawned$Asked"))) (rmD (F + 30) (L + 900) res.2.2.1 res.2.2.2) (Pd D dA ro J [.ref a] h n) (Qta D dA ro h n res) (Xt D dA ro h n res) res.2.2.1 res.2.2.2 (fD ro h n)
  | _ => vy_Met l yX3_ask (ws_ yX3_ask cX3_ask 3 (some (Jvm.ClassFile.FieldType.object "QuarrelsPawned$Asked"))) (rmD (F + 30) (L + 900) res.2.2.1 res.2.2.2) (Pd D dA ro J [.ref a] h n) (Qta D dA ro h n res) (Xt D dA ro h n res) res.2.2.1 res.2.2.2 (fD ro h n)
theorem cdJ1_init : yJ1_init.cls = RJ1 ∧ yJ1_init.cls ≠ "java/lang/invoke/MethodHandle" ∧ yJ1_init.cls ≠ "java/lang/invoke/VarHandle" ∧ (parseMethodDescriptor yJ1_init.desc).map (fun d => d.parameters.length) = some 0 := by decide +kernel
set_option maxHeartbeats 4000000 in
set_option maxRecDepth 100000 in
theorem wkJ1_init (l : Launch) (hl9 : l.stackTraces = false) (D : va_G) (dA : Nat → ClassId) (ro : Nat → Bool) (G : Gs) (J : State → Heap → Prop) (hJ : JD ro G J) (h0 : Hv) (n0 : Nat) (a0 : Nat) {res : Unit × Hv × Nat × Nat} (hf : P_J1_init G ro h0 n0 a0 = some res) : Met l yJ1_init (ws_ yJ1_init cJ1_init 1 (none)) (rmD 1 60 res.2.2.1 res.2.2.2) (Pd D dA ro J [.ref a0] h0 n0) (Qdv D dA ro h0 n0 res) res.2.2.1 res.2.2.2 (fD ro h0 n0) := by
  refine xd_head (own := RJ1) (by decide) rfl (Nat.le_of_ble_eq_true rfl) ?_
  intro p e s m args below meth c ls Q hQ hname C hn0 hH hl
  obtain ⟨hx, hb, hr, hlocks, hml, hown, hts, hK, hJs⟩ := C
  replace hl : lv_has ls 1 [(0, .ref a0)] := hl
  have hS : va_S (fD ro h0 n0) s.heap s.heap [] := va_S.rf
  have hR : rD ro (fD ro h0 n0) n0 := fD_rD hH
  have hA9 : ∀ q, s.heap.size ≤ q → fD ro h0 n0 q := fun q hq => hR.2 q (hn0 ▸ hq)
  unfold P_J1_init at hf
  obtain ⟨r, er⟩ : ∃ r, r = res := ⟨_, rfl⟩
  have hq : qI r res 0 0 := by rw [er]; exact ⟨rfl, rfl, Nat.zero_add _, Nat.zero_add _⟩
  rw [← er] at hf
  have hn : n0 = n0 + 0 := rfl
  obtain ⟨H, eH⟩ : ∃ H, H = s.heap := ⟨_, rfl⟩
  obtain ⟨locs, eL⟩ : ∃ locs : List Loc, locs = [] := ⟨_, rfl⟩
  rw [← eL] at hS ⊢
  rw [← eH] at hH
  have hS : va_S (fD ro h0 n0) s.heap H locs := by rw [eH]; exact hS
  show W p l e (rmD 1 60 res.2.2.1 res.2.2.2) s m args below meth c s.heap locs 0 0 Q (F0 m 0 ls [])
  rw [← eH]
  clear er
  refine lv_aload_n hx hb dJ1_init_0 rfl (lv_at hl 0 rfl) ?_
  refine W.objInit hx hb hown (hts _ q397) (hts _ q177) (hts _ q178) rfl (by rw [hml]; exact hl.1) rfl dJ1_init_1 (Nat.le_of_ble_eq_true rfl) (Nat.le_of_ble_eq_true rfl) ?_
  subst hQ
  exact xe_dv hx hb hr hlocks hH hn hS (hq.end (Option.some.inj hf)) dJ1_init_4
theorem cdJ2_init : yJ2_init.cls = RJ2 ∧ yJ2_init.cls ≠ "java/lang/invoke/MethodHandle" ∧ yJ2_init.cls ≠ "java/lang/invoke/VarHandle" ∧ (parseMethodDescriptor yJ2_init.desc).map (fun d => d.parameters.length) = some 0 := by decide +kernel
set_option maxHeartbeats 4000000 in
set_option maxRecDepth 100000 in
theorem wkJ2_init (l : Launch) (hl9 : l.stackTraces = false) (D : va_G) (dA : Nat → ClassId) (ro : Nat → Bool) (G : Gs) (J : State → Heap → Prop) (hJ : JD ro G J) (h0 : Hv) (n0 : Nat) (a0 : Nat) {res : Unit × Hv × Nat × Nat} (hf : P_J2_init G ro h0 n0 a0 = some res) : Met l yJ2_init (ws_ yJ2_init cJ2_init 1 (none)) (rmD 2 80 res.2.2.1 res.2.2.2) (Pd D dA ro J [.ref a0] h0 n0) (Qdv D dA ro h0 n0 res) res.2.2.1 res.2.2.2 (fD ro h0 n0) := by
  refine xd_head (own := RJ2) (by decide) rfl (Nat.le_of_ble_eq_true rfl) ?_
  intro p e s m args below meth c ls Q hQ hname C hn0 hH hl
  obtain ⟨hx, hb, hr, hlocks, hml, hown, hts, hK, hJs⟩ := C
  replace hl : lv_has ls 1 [(0, .ref a0)] := hl
  have hS : va_S (fD ro h0 n0) s.heap s.heap [] := va_S.rf
  have hR : rD ro (fD ro h0 n0) n0 := fD_rD hH
  have hA9 : ∀ q, s.heap.size ≤ q → fD ro h0 n0 q := fun q hq => hR.2 q (hn0 ▸ hq)
  unfold P_J2_init at hf
  obtain ⟨r, er⟩ : ∃ r, r = res := ⟨_, rfl⟩
  have hq : qI r res 0 0 := by rw [er]; exact ⟨rfl, rfl, Nat.zero_add _, Nat.zero_add _⟩
  rw [← er] at hf
  have hn : n0 = n0 + 0 := rfl
  obtain ⟨H, eH⟩ : ∃ H, H = s.heap := ⟨_, rfl⟩
  obtain ⟨locs, eL⟩ : ∃ locs : List Loc, locs = [] := ⟨_, rfl⟩
  rw [← eL] at hS ⊢
  rw [← eH] at hH
  have hS : va_S (fD ro h0 n0) s.heap H locs := by rw [eH]; exact hS
  show W p l e (rmD 2 80 res.2.2.1 res.2.2.2) s m args below meth c s.heap locs 0 0 Q (F0 m 0 ls [])
  rw [← eH]
  clear er
  refine lv_aload_n hx hb dJ2_init_0 rfl (lv_at hl 0 rfl) ?_
  obtain ⟨q1, g2, hf⟩ := ob_bind hf
  obtain ⟨r, hf, hq, hc9, hs9⟩ := hq.add hf
  refine xdc_v (xd_runI (As := []) (rest := []) hJ hR hJs hS ⟨hx, hb, hml, hown, hts⟩ (wkJ1_init l hl9 D dA ro G J hJ h0 n0 a0 g2) ⟨callB_of 0 hts (lw_meth q396) rfl rfl rfl (hts _ q143) (hts _ q394) cdJ1_init.2 ⟨Nat.le_of_ble_eq_true rfl, Nat.le_of_ble_eq_true rfl⟩, rfl, hts _ q395⟩ hK hH hl.1 rfl rfl (Nat.le_of_ble_eq_true rfl) dJ2_init_1 ⟨hc9, hs9⟩) hH hR (by omega) hS (fun H locs hH hS => ?_)
  replace hn : (n0 + q1.2.2.1) = n0 + (0 + q1.2.2.1) := by omega
  refine lv_aload_n hx hb dJ2_init_4 rfl (lv_at hl 0 rfl) ?_
  refine lv_iconst (v := 0) hx hb dJ2_init_5 (by decide) ?_
  obtain ⟨h4, g3, hf⟩ := ob_bind hf
  refine xd_put hx hb hts in_J3 tyJ3 tyJ3_ok nmJ3 hown hK hH hS (ci := 4) rfl 0 (by decide) (hts _ q402) (fun _ h => h) rfl (v := .int 0) rfl rfl g3 dJ2_init_6 (fun H locs hH hS => ?_)
  subst hQ
  exact xe_dv hx hb hr hlocks hH hn hS (hq.end (Option.some.inj hf)) dJ2_init_9
theorem cdJ3_init : yJ3_init.cls = RJ3 ∧ yJ3_init.cls ≠ "java/lang/invoke/MethodHandle" ∧ yJ3_init.cls ≠ "java/lang/invoke/VarHandle" ∧ (parseMethodDescriptor yJ3_init.desc).map (fun d => d.parameters.length) = some 0 := by decide +kernel
set_option maxHeartbeats 4000000 in
set_option maxRecDepth 100000 in
theorem wkJ3_init (l : Launch) (hl9 : l.stackTraces = false) (D : va_G) (dA : Nat → ClassId) (ro : Nat → Bool) (G : Gs) (J : State → Heap → Prop) (hJ : JD ro G J) (h0 : Hv) (n0 : Nat) (a0 : Nat) {res : Unit × Hv × Nat × Nat} (hf : P_J3_init G ro h0 n0 a0 = some res) : Met l yJ3_init (ws_ yJ3_init cJ3_init 1 (none)) (rmD 3 100 res.2.2.1 res.2.2.2) (Pd D dA ro J [.ref a0] h0 n0) (Qdv D dA ro h0 n0 res) res.2.2.1 res.2.2.2 (fD ro h0 n0) := by
  refine xd_head (own := RJ3) (by decide) rfl (Nat.le_of_ble_eq_true rfl) ?_
  intro p e s m args below meth c ls Q hQ hname C hn0 hH hl
  obtain ⟨hx, hb, hr, hlocks, hml, hown, hts, hK, hJs⟩ := C
  replace hl : lv_has ls 1 [(0, .ref a0)] := hl
  have hS : va_S (fD ro h0 n0) s.heap s.heap [] := va_S.rf
  have hR : rD ro (fD ro h0 n0) n0 := fD_rD hH
  have hA9 : ∀ q, s.heap.size ≤ q → fD ro h0 n0 q := fun q hq => hR.2 q (hn0 ▸ hq)
  unfold P_J3_init at hf
  obtain ⟨r, er⟩ : ∃ r, r = res := ⟨_, rfl⟩
  have hq : qI r res 0 0 := by rw [er]; exact ⟨rfl, rfl, Nat.zero_add _, Nat.zero_add _⟩
  rw [← er] at hf
  have hn : n0 = n0 + 0 := rfl
  obtain ⟨H, eH⟩ : ∃ H, H = s.heap := ⟨_, rfl⟩
  obtain ⟨locs, eL⟩ : ∃ locs : List Loc, locs = [] := ⟨_, rfl⟩
  rw [← eL] at hS ⊢
  rw [← eH] at hH
  have hS : va_S (fD ro h0 n0) s.heap H locs := by rw [eH]; exact hS
  show W p l e (rmD 3 100 res.2.2.1 res.2.2.2) s m args below meth c s.heap locs 0 0 Q (F0 m 0 ls [])
  rw [← eH]
  clear er
  refine lv_aload_n hx hb dJ3_init_0 rfl (lv_at hl 0 rfl) ?_
  obtain ⟨q1, g2, hf⟩ := ob_bind hf
  obtain ⟨r, hf, hq, hc9, hs9⟩ := hq.add hf
  refine xdc_v (xd_runI (As := []) (rest := []) hJ hR hJs hS ⟨hx, hb, hml, hown, hts⟩ (wkJ2_init l hl9 D dA ro G J hJ h0 n0 a0 g2) ⟨callB_of 0 hts (lw_meth q393) rfl rfl rfl (hts _ q144) (hts _ q391) cdJ2_init.2 ⟨Nat.le_of_ble_eq_true rfl, Nat.le_of_ble_eq_true rfl⟩, rfl, hts _ q392⟩ hK hH hl.1 rfl rfl (Nat.le_of_ble_eq_true rfl) dJ3_init_1 ⟨hc9, hs9⟩) hH hR (by omega) hS (fun H locs hH hS => ?_)
  replace hn : (n0 + q1.2.2.1) = n0 + (0 + q1.2.2.1) := by omega
  refine lv_aload_n hx hb dJ3_init_4 rfl (lv_at hl 0 rfl) ?_
  refine va_gets hx hb (hJ.z hR hJs).1 hS hown (hts _ q398) (fun _ h => h) dJ3_init_5 ?_
  obtain ⟨h4, g3, hf⟩ := ob_bind hf
  refine xd_put hx hb hts in_J3 tyJ3 tyJ3_ok nmJ3 hown hK hH hS (ci := 4) rfl 1 (by decide) (hts _ q400) (fun _ h => h) rfl (v := .ref (gE G)) rfl rfl g3 dJ3_init_8 (fun H locs hH hS => ?_)
  subst hQ
  exact xe_dv hx hb hr hlocks hH hn hS (hq.end (Option.some.inj hf)) dJ3_init_11
theorem cdJ11_init : yJ11_init.cls = RJ11 ∧ yJ11_init.cls ≠ "java/lang/invoke/MethodHandle" ∧ yJ11_init.cls ≠ "java/lang/invoke/VarHandle" ∧ (parseMethodDescriptor yJ11_init.desc).map (fun d => d.parameters.length) = some 0 := by decide +kernel
set_option maxHeartbeats 4000000 in
set_option maxRecDepth 100000 in
theorem wkJ11_init (l : Launch) (hl9 : l.stackTraces = false) (D : va_G) (dA : Nat → ClassId) (ro : Nat → Bool) (G : Gs) (J : State → Heap → Prop) (hJ : JD ro G J) (h0 : Hv) (n0 : Nat) (a0 : Nat) {res : Unit × Hv × Nat × Nat} (hf : P_J11_init G ro h0 n0 a0 = some res) : Met l yJ11_init (ws_ yJ11_init cJ11_init 1 (none)) (rmD 1 60 res.2.2.1 res.2.2.2) (Pd D dA ro J [.ref a0] h0 n0) (Qdv D dA ro h0 n0 res) res.2.2.1 res.2.2.2 (fD ro h0 n0) := by
  refine xd_head (own := RJ11) (by decide) rfl (Nat.le_of_ble_eq_true rfl) ?_
  intro p e s m args below meth c ls Q hQ hname C hn0 hH hl
  obtain ⟨hx, hb, hr, hlocks, hml, hown, hts, hK, hJs⟩ := C
  replace hl : lv_has ls 1 [(0, .ref a0)] := hl
  have hS : va_S (fD ro h0 n0) s.heap s.heap [] := va_S.rf
  have hR : rD ro (fD ro h0 n0) n0 := fD_rD hH
  have hA9 : ∀ q, s.heap.size ≤ q → fD ro h0 n0 q := fun q hq => hR.2 q (hn0 ▸ hq)
  unfold P_J11_init at hf
  obtain ⟨r, er⟩ : ∃ r, r = res := ⟨_, rfl⟩
  have hq : qI r res 0 0 := by rw [er]; exact ⟨rfl, rfl, Nat.zero_add _, Nat.zero_add _⟩
  rw [← er] at hf
  have hn : n0 = n0 + 0 := rfl
  obtain ⟨H, eH⟩ : ∃ H, H = s.heap := ⟨_, rfl⟩
  obtain ⟨locs, eL⟩ : ∃ locs : List Loc, locs = [] := ⟨_, rfl⟩
  rw [← eL] at hS ⊢
  rw [← eH] at hH
  have hS : va_S (fD ro h0 n0) s.heap H locs := by rw [eH]; exact hS
  show W p l e (rmD 1 60 res.2.2.1 res.2.2.2) s m args below meth c s.heap locs 0 0 Q (F0 m 0 ls [])
  rw [← eH]
  clear er
  refine lv_aload_n hx hb dJ11_init_0 rfl (lv_at hl 0 rfl) ?_
  refine W.objInit hx hb hown (hts _ q589) (hts _ q177) (hts _ q178) rfl (by rw [hml]; exact hl.1) rfl dJ11_init_1 (Nat.le_of_ble_eq_true rfl) (Nat.le_of_ble_eq_true rfl) ?_
  subst hQ
  exact xe_dv hx hb hr hlocks hH hn hS (hq.end (Option.some.inj hf)) dJ11_init_4
theorem cdJ12_newLength : yJ12_newLength.cls = RJ12 ∧ yJ12_newLength.cls ≠ "java/lang/invoke/MethodHandle" ∧ yJ12_newLength.cls ≠ "java/lang/invoke/VarHandle" ∧ (parseMethodDescriptor yJ12_newLength.desc).map (fun d => d.parameters.length) = some 3 := by decide +kernel
set_option maxHeartbeats 4000000 in
set_option maxRecDepth 100000 in
theorem wkJ12_newLength (l : Launch) (hl9 : l.stackTraces = false) (D : va_G) (dA : Nat → ClassId) (ro : Nat → Bool) (G : Gs) (J : State → Heap → Prop) (hJ : JD ro G J) (h0 : Hv) (n0 : Nat) (a0 : Int32) (a1 : Int32) (a2 : Int32) {res : Int32 × Hv × Nat × Nat} (hf : P_J12_newLength G ro h0 n0 a0 a1 a2 = some res) : Met l yJ12_newLength (ws_ yJ12_newLength cJ12_newLength 4 (some .int)) (rmD 1 60 res.2.2.1 res.2.2.2) (Pd D dA ro J [.int a0, .int a1, .int a2] h0 n0) (Qdi D dA ro h0 n0 res) res.2.2.1 res.2.2.2 (fD ro h0 n0) := by
  refine xd_head (own := RJ12) (by decide) rfl (Nat.le_of_ble_eq_true rfl) ?_
  intro p e s m args below meth c ls Q hQ hname C hn0 hH hl
  obtain ⟨hx, hb, hr, hlocks, hml, hown, hts, hK, hJs⟩ := C
  replace hl : lv_has ls 4 [(0, .int a0), (1, .int a1), (2, .int a2)] := hl
  have hS : va_S (fD ro h0 n0) s.heap s.heap [] := va_S.rf
  have hR : rD ro (fD ro h0 n0) n0 := fD_rD hH
  have hA9 : ∀ q, s.heap.size ≤ q → fD ro h0 n0 q := fun q hq => hR.2 q (hn0 ▸ hq)
  unfold P_J12_newLength at hf
  obtain ⟨r, er⟩ : ∃ r, r = res := ⟨_, rfl⟩
  have hq : qI r res 0 0 := by rw [er]; exact ⟨rfl, rfl, Nat.zero_add _, Nat.zero_add _⟩
  rw [← er] at hf
  have hn : n0 = n0 + 0 := rfl
  obtain ⟨H, eH⟩ : ∃ H, H = s.heap := ⟨_, rfl⟩
  obtain ⟨locs, eL⟩ : ∃ locs : List Loc, locs = [] := ⟨_, rfl⟩
  rw [← eL] at hS ⊢
  rw [← eH] at hH
  have hS : va_S (fD ro h0 n0) s.heap H locs := by rw [eH]; exact hS
  show W p l e (rmD 1 60 res.2.2.1 res.2.2.2) s m args below meth c s.heap locs 0 0 Q (F0 m 0 ls [])
  rw [← eH]
  clear er
  refine lv_iload_n hx hb dJ12_newLength_0 rfl (lv_at hl 0 rfl) ?_
  refine lv_iload_n hx hb dJ12_newLength_1 rfl (lv_at hl 1 rfl) ?_
  refine lv_iload_n hx hb dJ12_newLength_2 rfl (lv_at hl 2 rfl) ?_
  refine xr_mmax hx hb (hml.trans hl.1.symm) hown (hts _ q661) (hts _ q662) (hts _ q150) (hts _ q663) (Nat.le_of_ble_eq_true rfl) (Nat.le_of_ble_eq_true rfl) (xg_le0 hq).1 (xg_le0 hq).2 dJ12_newLength_3 ?_
  refine lv_iadd hx hb dJ12_newLength_6 ?_
  obtain ⟨v3_1, ev3_1, hf⟩ := ob_bnd hf
  refine xn_i ev3_1 ?_
  refine lv_istore_n (lv' := [(3, .int v3_1), (0, .int a0), (1, .int a1), (2, .int a2)]) hx hb dJ12_newLength_7 rfl hl (by decide) rfl (fun ls hl => ?_)
  refine lv_iconst (v := 0) hx hb dJ12_newLength_8 (by decide) ?_
  refine lv_iload_n hx hb dJ12_newLength_9 rfl (lv_at hl 0 rfl) ?_
  refine lv_icmp_ge (tgt := 21) hx hb dJ12_newLength_10 (by decide) (fun c2 => ?_) (fun c2 => ?_)
  · replace hf := ob_t hf c2
    cases hf
  · replace hf := ob_f hf c2
    refine lv_iload_n hx hb dJ12_newLength_13 rfl (lv_at hl 0 rfl) ?_
    refine lv_ldc (v := 2147483639) hx hb hown (hts _ q664) dJ12_newLength_14 ?_
    refine lv_icmp_gt (tgt := 21) hx hb dJ12_newLength_16 (by decide) (fun c3 => ?_) (fun c3 => ?_)
    · replace hf := ob_t hf c3
      cases hf
    · replace hf := ob_f hf c3
      refine lv_iload_n hx hb dJ12_newLength_19 rfl (lv_at hl 0 rfl) ?_
      subst hQ
      exact xe_di hx hb hr hlocks hH hn hS (hq.end (Option.some.inj hf)) dJ12_newLength_20
theorem cdJ0_copyOf_2 : yJ0_copyOf_2.cls = RJ0 ∧ yJ0_copyOf_2.cls ≠ "java/lang/invoke/MethodHandle" ∧ yJ0_copyOf_2.cls ≠ "java/lang/invoke/VarHandle" ∧ (parseMethodDescriptor yJ0_copyOf_2.desc).map (fun d => d.parameters.length) = some 3 := by decide +kernel
set_option maxHeartbeats 4000000 in
set_option maxRecDepth 100000 in
theorem wkJ0_copyOf_2 (l : Launch) (hl9 : l.stackTraces = false) (D : va_G) (dA : Nat → ClassId) (ro : Nat → Bool) (G : Gs) (J : State → Heap → Prop) (hJ : JD ro G J) (h0 : Hv) (n0 : Nat) (a0 : Nat) (a1 : Int32) {res : Nat × Hv × Nat × Nat} (hf : P_J0_copyOf_2 G ro h0 n0 a0 a1 = some res) : Met l yJ0_copyOf_2 (ws_ yJ0_copyOf_2 cJ0_copyOf_2 4 (some (Jvm.ClassFile.FieldType.array (Jvm.ClassFile.FieldType.object "java/lang/Object")))) (rmD 1 60 res.2.2.1 res.2.2.2) (Pd D dA ro J [.ref a0, .int a1, .ref (gM G)] h0 n0) (Qda D dA ro h0 n0 res) res.2.2.1 res.2.2.2 (fD ro h0 n0) := by
  refine xd_head (own := RJ0) (by decide) rfl (Nat.le_of_ble_eq_true rfl) ?_
  intro p e s m args below meth c ls Q hQ hname C hn0 hH hl
  obtain ⟨hx, hb, hr, hlocks, hml, hown, hts, hK, hJs⟩ := C
  replace hl : lv_has ls 4 [(0, .ref a0), (1, .int a1), (2, .ref (gM G))] := hl
  have hS : va_S (fD ro h0 n0) s.heap s.heap [] := va_S.rf
  have hR : rD ro (fD ro h0 n0) n0 := fD_rD hH
  have hA9 : ∀ q, s.heap.size ≤ q → fD ro h0 n0 q := fun q hq => hR.2 q (hn0 ▸ hq)
  unfold P_J0_copyOf_2 at hf
  obtain ⟨r, er⟩ : ∃ r, r = res := ⟨_, rfl⟩
  have hq : qI r res 0 0 := by rw [er]; exact ⟨rfl, rfl, Nat.zero_add _, Nat.zero_add _⟩
  rw [← er] at hf
  have hn : n0 = n0 + 0 := rfl
  obtain ⟨H, eH⟩ : ∃ H, H = s.heap := ⟨_, rfl⟩
  obtain ⟨locs, eL⟩ : ∃ locs : List Loc, locs = [] := ⟨_, rfl⟩
  rw [← eL] at hS ⊢
  rw [← eH] at hH
  have hS : va_S (fD ro h0 n0) s.heap H locs := by rw [eH]; exact hS
  show W p l e (rmD 1 60 res.2.2.1 res.2.2.2) s m args below meth c s.heap locs 0 0 Q (F0 m 0 ls [])
  rw [← eH]
  clear er
  refine lv_aload_n hx hb dJ0_copyOf_2_0 rfl (lv_at hl 2 rfl) ?_
  refine va_ldcM hx hb hown (hts _ q697) (hJ.f hJs).2.2.2.2.2.1.1 dJ0_copyOf_2_1 ?_
  refine lv_acmp_ne (rx := some (gM G)) (ry := some (gM G)) (tgt := 13) hx hb dJ0_copyOf_2_3 (by decide) (fun c1 => ?_) (fun c1 => ?_)
  · replace hf := ob_f hf (fun z => c1 (congrArg some z))
    cases hf
  · replace hf := ob_t hf (Option.some.inj c1)
    refine lv_iload_n hx hb dJ0_copyOf_2_6 rfl (lv_at hl 1 rfl) ?_
    obtain ⟨g2, hf⟩ := ob_gp hf
    obtain ⟨r, hf, hq, hc9, hs9⟩ := hq.add hf
    obtain ⟨h3, eh3, hf⟩ := ob_bnd hf
    refine xd_newq hx hb 8 5 rfl hown (hts _ q699) (hJ.f hJs).2.2.2.1.1 hK hH hS hA9 (N := a1.toNatClampNeg) (xg_n0 g2) rfl (xg_n1 g2) hc9 hs9 dJ0_copyOf_2_7 (fun H hH hS => ?_)
    rw [← eh3] at hH
    replace hn : (n0 + 1) = n0 + (0 + 1) := by omega
    refine lv_goto (tgt := 24) hx hb dJ0_copyOf_2_10 (by decide) ?_
    refine lv_astore_n (lv' := [(3, .ref n0), (0, .ref a0), (1, .int a1), (2, .ref (gM G))]) hx hb dJ0_copyOf_2_24 rfl hl (by decide) rfl (fun ls hl => ?_)
    refine lv_aload_n hx hb dJ0_copyOf_2_25 rfl (lv_at hl 1 rfl) ?_
    refine lv_iconst (v := 0) hx hb dJ0_copyOf_2_26 (by decide) ?_
    refine lv_aload_n hx hb dJ0_copyOf_2_27 rfl (lv_at hl 0 rfl) ?_
    refine lv_iconst (v := 0) hx hb dJ0_copyOf_2_28 (by decide) ?_
    refine lv_aload_n hx hb dJ0_copyOf_2_29 rfl (lv_at hl 1 rfl) ?_
    obtain ⟨y4, g5, hf⟩ := ob_bind hf
    refine xh_alenG hx hb (hJ.z hR hJs).2.2.2.2.2.2.2.2.2.2.2.2.2 hS hK hH.1 g5 dJ0_copyOf_2_30 ?_
    refine lv_iload_n hx hb dJ0_copyOf_2_31 rfl (lv_at hl 2 rfl) ?_
    refine xr_mmin hx hb (hml.trans hl.1.symm) hown (hts _ q700) (hts _ q492) (hts _ q150) (hts _ q493) (Nat.le_of_ble_eq_true rfl) (Nat.le_of_ble_eq_true rfl) (xg_le0 hq).1 (xg_le0 hq).2 dJ0_copyOf_2_32 ?_
    obtain ⟨y6, g8, hf⟩ := ob_bind hf
    obtain ⟨y7, g9, hf⟩ := ob_bind hf
    obtain ⟨g109, hf⟩ := ob_gp hf
    obtain ⟨g10, hf⟩ := ob_gp hf
    obtain ⟨g11, hf⟩ := ob_gp hf
    obtain ⟨g12, hf⟩ := ob_gp hf
    obtain ⟨h13, eh13, hf⟩ := ob_bnd hf
    refine xd_copyq hx hb (hml.trans hl.1.symm) hown (hts _ q701) (hts _ q248) (hts _ q247) (hts _ q139) hK hH hS (hJ.f hJs).2.1 g8 g9 g109 g10 g11 g12 eh13 (Nat.le_of_ble_eq_true rfl) (Nat.le_of_ble_eq_true rfl) dJ0_copyOf_2_35 (fun H locs hH hS => ?_)
    refine lv_aload_n hx hb dJ0_copyOf_2_38 rfl (lv_at hl 0 rfl) ?_
    subst hQ
    exact xe_da (Or.inr ⟨_, rfl⟩) hx hb hr hlocks hH hn hS (hq.end (Option.some.inj hf)) dJ0_copyOf_2_39
theorem cdJ0_copyOf : yJ0_copyOf.cls = RJ0 ∧ yJ0_copyOf.cls ≠ "java/lang/invoke/MethodHandle" ∧ yJ0_copyOf.cls ≠ "java/lang/invoke/VarHandle" ∧ (parseMethodDescriptor yJ0_copyOf.desc).map (fun d => d.parameters.length) = some 2 := by decide +kernel
set_option maxHeartbeats 4000000 in
set_option maxRecDepth 100000 in
theorem wkJ0_copyOf (l : Launch) (hl9 : l.stackTraces = false) (D : va_G) (dA : Nat → ClassId) (ro : Nat → Bool) (G : Gs) (J : State → Heap → Prop) (hJ : JD ro G J) (h0 : Hv) (n0 : Nat) (a0 : Nat) (a1 : Int32) {res : Nat × Hv × Nat × Nat} (hf : P_J0_copyOf G ro h0 n0 a0 a1 = some res) : Met l yJ0_copyOf (ws_ yJ0_copyOf cJ0_copyOf 2 (some (Jvm.ClassFile.FieldType.array (Jvm.ClassFile.FieldType.object "java/lang/Object")))) (rmD 2 83 res.2.2.1 res.2.2.2) (Pd D dA ro J [.ref a0, .int a1] h0 n0) (Qda D dA ro h0 n0 res) res.2.2.1 res.2.2.2 (fD ro h0 n0) := by
  refine xd_head (own := RJ0) (by decide) rfl (Nat.le_of_ble_eq_true rfl) ?_
  intro p e s m args below meth c ls Q hQ hname C hn0 hH hl
  obtain ⟨hx, hb, hr, hlocks, hml, hown, hts, hK, hJs⟩ := C
  replace hl : lv_has ls 2 [(0, .ref a0), (1, .int a1)] := hl
  have hS : va_S (fD ro h0 n0) s.heap s.heap [] := va_S.rf
  have hR : rD ro (fD ro h0 n0) n0 := fD_rD hH
  have hA9 : ∀ q, s.heap.size ≤ q → fD ro h0 n0 q := fun q hq => hR.2 q (hn0 ▸ hq)
  unfold P_J0_copyOf at hf
  obtain ⟨r, er⟩ : ∃ r, r = res := ⟨_, rfl⟩
  have hq : qI r res 0 0 := by rw [er]; exact ⟨rfl, rfl, Nat.zero_add _, Nat.zero_add _⟩
  rw [← er] at hf
  have hn : n0 = n0 + 0 := rfl
  obtain ⟨H, eH⟩ : ∃ H, H = s.heap := ⟨_, rfl⟩
  obtain ⟨locs, eL⟩ : ∃ locs : List Loc, locs = [] := ⟨_, rfl⟩
  rw [← eL] at hS ⊢
  rw [← eH] at hH
  have hS : va_S (fD ro h0 n0) s.heap H locs := by rw [eH]; exact hS
  show W p l e (rmD 2 83 res.2.2.1 res.2.2.2) s m args below meth c s.heap locs 0 0 Q (F0 m 0 ls [])
  rw [← eH]
  clear er
  refine lv_aload_n hx hb dJ0_copyOf_0 rfl (lv_at hl 0 rfl) ?_
  refine lv_iload_n hx hb dJ0_copyOf_1 rfl (lv_at hl 1 rfl) ?_
  refine lv_aload_n hx hb dJ0_copyOf_2 rfl (lv_at hl 0 rfl) ?_
  obtain ⟨y1, g2, hf⟩ := ob_bind hf
  refine va_getC hx hb (hml.trans hl.1.symm) (C := "[Ljava/lang/Object;") hown (hts _ q671) (hJ.f hJs).2.2.2.2.2.1.2.use (hts _ q2121) (hts _ q672) (hts _ q693) (hJ.f hJs).2.2.2.2.2.1.1 (xh_recvO hK hH.1 g2) (Nat.le_of_ble_eq_true rfl) (Nat.le_of_ble_eq_true rfl) dJ0_copyOf_3 ?_
  obtain ⟨q3, g4, hf⟩ := ob_bind hf
  obtain ⟨r, hf, hq, hc9, hs9⟩ := hq.add hf
  refine xdc_a (xd_runS (As := [.ref a0, .int a1, .ref (gM G)]) (rest := []) hJ hR hJs hS ⟨hx, hb, hml, hown, hts⟩ (wkJ0_copyOf_2 l hl9 D dA ro G J hJ h0 n0 a0 a1 g4) (va_cwS 3 hts (lw_S q694 q695 q138 q696) rfl rfl rfl cdJ0_copyOf_2.2 ⟨Nat.le_of_ble_eq_true rfl, Nat.le_of_ble_eq_true rfl⟩) hK hH hl.1 rfl rfl (Nat.le_of_ble_eq_true rfl) dJ0_copyOf_6 ⟨hc9, hs9⟩) hH hR (by omega) hS (fun H locs hH hS => ?_)
  replace hn : (n0 + q3.2.2.1) = n0 + (0 + q3.2.2.1) := by omega
  subst hQ
  exact xe_da (Or.inr ⟨_, rfl⟩) hx hb hr hlocks hH hn hS (hq.end (Option.some.inj hf)) dJ0_copyOf_9
theorem cdJ3_grow_2 : yJ3_grow_2.cls = RJ3 ∧ yJ3_grow_2.cls ≠ "java/lang/invoke/MethodHandle" ∧ yJ3_grow_2.cls ≠ "java/lang/invoke/VarHandle" ∧ (parseMethodDescriptor yJ3_grow_2.desc).map (fun d => d.parameters.length) = some 1 := by decide +kernel
set_option maxHeartbeats 4000000 in
set_option maxRecDepth 100000 in
theorem wkJ3_grow_2 (l : Launch) (hl9 : l.stackTraces = false) (D : va_G) (dA : Nat → ClassId) (ro : Nat → Bool) (G : Gs) (J : State → Heap → Prop) (hJ : JD ro G J) (h0 : Hv) (n0 : Nat) (a0 : Nat) (a1 : Int32) {res : Nat × Hv × Nat × Nat} (hf : P_J3_grow_2 G ro h0 n0 a0 a1 = some res) : Met l yJ3_grow_2 (ws_ yJ3_grow_2 cJ3_grow_2 4 (some (Jvm.ClassFile.FieldType.array (Jvm.ClassFile.FieldType.object "java/lang/Object")))) (rmD 3 104 res.2.2.1 res.2.2.2) (Pd D dA ro J [.ref a0, .int a1] h0 n0) (Qda D dA ro h0 n0 res) res.2.2.1 res.2.2.2 (fD ro h0 n0) := by
  refine xd_head (own := RJ3) (by decide) rfl (Nat.le_of_ble_eq_true rfl) ?_
  intro p e s m args below meth c ls Q hQ hname C hn0 hH hl
  obtain ⟨hx, hb, hr, hlocks, hml, hown, hts, hK, hJs⟩ := C
  replace hl : lv_has ls 4 [(0, .ref a0), (1, .int a1)] := hl
  have hS : va_S (fD ro h0 n0) s.heap s.heap [] := va_S.rf
  have hR : rD ro (fD ro h0 n0) n0 := fD_rD hH
  have hA9 : ∀ q, s.heap.size ≤ q → fD ro h0 n0 q := fun q hq => hR.2 q (hn0 ▸ hq)
  unfold P_J3_grow_2 at hf
  obtain ⟨r, er⟩ : ∃ r, r = res := ⟨_, rfl⟩
  have hq : qI r res 0 0 := by rw [er]; exact ⟨rfl, rfl, Nat.zero_add _, Nat.zero_add _⟩
  rw [← er] at hf
  have hn : n0 = n0 + 0 := rfl
  obtain ⟨H, eH⟩ : ∃ H, H = s.heap := ⟨_, rfl⟩
  obtain ⟨locs, eL⟩ : ∃ locs : List Loc, locs = [] := ⟨_, rfl⟩
  rw [← eL] at hS ⊢
  rw [← eH] at hH
  have hS : va_S (fD ro h0 n0) s.heap H locs := by rw [eH]; exact hS
  show W p l e (rmD 3 104 res.2.2.1 res.2.2.2) s m args below meth c s.heap locs 0 0 Q (F0 m 0 ls [])
  rw [← eH]
  clear er
  refine lv_aload_n hx hb dJ3_grow_2_0 rfl (lv_at hl 0 rfl) ?_
  obtain ⟨r2, g1, hf⟩ := ob_bind hf
  refine xh_getr hx hb hts in_J3 hown hK hH.1 (ci := 4) rfl 1 (by decide) (hts _ q400) (fun _ h => h) g1 dJ3_grow_2_1 ?_
  obtain ⟨y3, g4, hf⟩ := ob_bind hf
  refine xh_alenG hx hb (hJ.z hR hJs).2.2.2.2.2.2.2.2.2.2.2.2.2 hS hK hH.1 g4 dJ3_grow_2_4 ?_
  obtain ⟨v2_5, ev2_5, hf⟩ := ob_bnd hf
  refine xn_i ev2_5 ?_
  refine lv_istore_n (lv' := [(2, .int v2_5), (0, .ref a0), (1, .int a1)]) hx hb dJ3_grow_2_5 rfl hl (by decide) rfl (fun ls hl => ?_)
  refine lv_iload_n hx hb dJ3_grow_2_6 rfl (lv_at hl 0 rfl) ?_
  have kj20 : ∀ (h6 : Hv) (n7 : Nat) (kc7 ks7 : Nat) (r : Nat × Hv × Nat × Nat) (H : Heap) (locs : List Loc) (ls : Array Slot), P_J3_grow_2_j20 G ro v2_5 a1 a0 h6 n7 = some r → qI r res kc7 ks7 → n7 = n0 + kc7 → DS D dA ro h6 n7 (fD ro h0 n0) H → va_S (fD ro h0 n0) s.heap H locs → lv_has ls 4 [(0, .ref a0), (1, .int a1), (2, .int v2_5)] → W p l e (rmD 3 104 res.2.2.1 res.2.2.2) s m args below meth c H locs kc7 ks7 Q (F0 m 20 ls []) := by
    intro h6 n7 kc7 ks7 r H locs ls hf hq hn hH hS hl
    unfold P_J3_grow_2_j20 at hf
    refine lv_iload_n hx hb dJ3_grow_2_20 rfl (lv_at hl 2 rfl) ?_
    refine lv_iload_n hx hb dJ3_grow_2_21 rfl (lv_at hl 1 rfl) ?_
    refine lv_iload_n hx hb dJ3_grow_2_22 rfl (lv_at hl 2 rfl) ?_
    refine lv_isub hx hb dJ3_grow_2_23 ?_
    refine lv_iload_n hx hb dJ3_grow_2_24 rfl (lv_at hl 2 rfl) ?_
    refine lv_iconst (v := 1) hx hb dJ3_grow_2_25 (by decide) ?_
    refine lv_ishr hx hb dJ3_grow_2_26 ?_
    obtain ⟨q8, g9, hf⟩ := ob_bind hf
    obtain ⟨r, hf, hq, hc9, hs9⟩ := hq.add hf
    refine xdc_i (xd_runS (As := [.int v2_5, .int (a1 - v2_5), .int (v2_5 >>> ((1 : Int32) &&& 31))]) (rest := []) hJ hR hJs hS ⟨hx, hb, hml, hown, hts⟩ (wkJ12_newLength l hl9 D dA ro G J hJ h6 n7 v2_5 (a1 - v2_5) (v2_5 >>> ((1 : Int32) &&& 31)) g9) (va_cwS 3 hts (lw_S q658 q659 q159 q660) rfl rfl rfl cdJ12_newLength.2 ⟨Nat.le_of_ble_eq_true rfl, Nat.le_of_ble_eq_true rfl⟩) hK hH hl.1 rfl rfl (Nat.le_of_ble_eq_true rfl) dJ3_grow_2_27 ⟨hc9, hs9⟩) hH hR (by omega) hS (fun H locs hH hS => ?_)
    replace hn : (n7 + q8.2.2.1) = n0 + (kc7 + q8.2.2.1) := by omega
    refine lv_istore_n (lv' := [(3, .int q8.1), (0, .ref a0), (1, .int a1), (2, .int v2_5)]) hx hb dJ3_grow_2_30 rfl hl (by decide) rfl (fun ls hl => ?_)
    refine lv_aload_n hx hb dJ3_grow_2_31 rfl (lv_at hl 1 rfl) ?_
    refine lv_aload_n hx hb dJ3_grow_2_32 rfl (lv_at hl 1 rfl) ?_
    obtain ⟨r11, g10, hf⟩ := ob_bind hf
    refine xh_getr hx hb hts in_J3 hown hK hH.1 (ci := 4) rfl 1 (by decide) (hts _ q400) (fun _ h => h) g10 dJ3_grow_2_33 ?_
    refine lv_iload_n hx hb dJ3_grow_2_36 rfl (lv_at hl 0 rfl) ?_
    obtain ⟨q12, g13, hf⟩ := ob_bind hf
    obtain ⟨r, hf, hq, hc9, hs9⟩ := hq.add hf
    refine xdc_a (xd_runS (As := [.ref r11, .int q8.1]) (rest := [.ref a0]) hJ hR hJs hS ⟨hx, hb, hml, hown, hts⟩ (wkJ0_copyOf l hl9 D dA ro G J hJ q8.2.1 (n7 + q8.2.2.1) r11 q8.1 g13) (va_cwS 2 hts (lw_S q668 q669 q138 q670) rfl rfl rfl cdJ0_copyOf.2 ⟨Nat.le_of_ble_eq_true rfl, Nat.le_of_ble_eq_true rfl⟩) hK hH hl.1 rfl rfl (Nat.le_of_ble_eq_true rfl) dJ3_grow_2_37 ⟨hc9, hs9⟩) hH hR (by omega) hS (fun H locs hH hS => ?_)
    replace hn : ((n7 + q8.2.2.1) + q12.2.2.1) = n0 + ((kc7 + q8.2.2.1) + q12.2.2.1) := by omega
    refine lv_dup_x1 hx hb dJ3_grow_2_40 rfl rfl ?_
    obtain ⟨h15, g14, hf⟩ := ob_bind hf
    refine xd_put hx hb hts in_J3 tyJ3 tyJ3_ok nmJ3 hown hK hH hS (ci := 4) rfl 1 (by decide) (hts _ q400) (fun _ h => h) rfl (v := .ref q12.1) rfl rfl g14 dJ3_grow_2_41 (fun H locs hH hS => ?_)
    subst hQ
    exact xe_da (Or.inr ⟨_, rfl⟩) hx hb hr hlocks hH hn hS (hq.end (Option.some.inj hf)) dJ3_grow_2_44
  refine lv_if_gt (tgt := 20) hx hb dJ3_grow_2_7 (by decide) (fun c16 => ?_) (fun c16 => ?_)
  · replace hf := ob_t hf c16
    exact kj20 h0 n0 _ _ r H locs ls hf hq hn hH hS (lv_sub hl [1, 2, 0] rfl)
  · replace hf := ob_f hf c16
    refine lv_aload_n hx hb dJ3_grow_2_10 rfl (lv_at hl 1 rfl) ?_
    obtain ⟨r18, g17, hf⟩ := ob_bind hf
    refine xh_getr hx hb hts in_J3 hown hK hH.1 (ci := 4) rfl 1 (by decide) (hts _ q400) (fun _ h => h) g17 dJ3_grow_2_11 ?_
    refine va_gets hx hb (hJ.z hR hJs).1 hS hown (hts _ q398) (fun _ h => h) dJ3_grow_2_14 ?_
    refine lv_acmp_eq (rx := some r18) (ry := some (gE G)) (tgt := 45) hx hb dJ3_grow_2_17 (by decide) (fun c19 => ?_) (fun c19 => ?_)
    · replace hf := ob_t hf (Option.some.inj c19)
      refine lv_aload_n hx hb dJ3_grow_2_45 rfl (lv_at hl 1 rfl) ?_
      refine lv_bipush (v := 10) hx hb dJ3_grow_2_46 (by decide) ?_
      refine lv_iload_n hx hb dJ3_grow_2_48 rfl (lv_at hl 2 rfl) ?_
      refine xr_mmax hx hb (hml.trans hl.1.symm) hown (hts _ q702) (hts _ q662) (hts _ q150) (hts _ q663) (Nat.le_of_ble_eq_true rfl) (Nat.le_of_ble_eq_true rfl) (xg_le0 hq).1 (xg_le0 hq).2 dJ3_grow_2_49 ?_
      obtain ⟨g20, hf⟩ := ob_gp hf
      obtain ⟨r, hf, hq, hc9, hs9⟩ := hq.add hf
      obtain ⟨h21, eh21, hf⟩ := ob_bnd hf
      refine xd_newq hx hb 8 5 rfl hown (hts _ q703) (hJ.f hJs).2.2.2.1.1 hK hH hS hA9 (N := (mxI 10 a1).toNatClampNeg) (xg_n0 g20) rfl (xg_n1 g20) hc9 hs9 dJ3_grow_2_52 (fun H hH hS => ?_)
      rw [← eh21] at hH
      replace hn : (n0 + 1) = n0 + (0 + 1) := by omega
      refine lv_dup_x1 hx hb dJ3_grow_2_55 rfl rfl ?_
      obtain ⟨h23, g22, hf⟩ := ob_bind hf
      refine xd_put hx hb hts in_J3 tyJ3 tyJ3_ok nmJ3 hown hK hH hS (ci := 4) rfl 1 (by decide) (hts _ q400) (fun _ h => h) rfl (v := .ref n0) rfl rfl g22 dJ3_grow_2_56 (fun H locs hH hS => ?_)
      subst hQ
      exact xe_da (Or.inr ⟨_, rfl⟩) hx hb hr hlocks hH hn hS (hq.end (Option.some.inj hf)) dJ3_grow_2_59
    · replace hf := ob_f hf (fun z => c19 (congrArg some z))
      exact kj20 h0 n0 _ _ r H locs ls hf hq hn hH hS (lv_sub hl [1, 2, 0] rfl)
theorem cdJ3_grow : yJ3_grow.cls = RJ3 ∧ yJ3_grow.cls ≠ "java/lang/invoke/MethodHandle" ∧ yJ3_grow.cls ≠ "java/lang/invoke/VarHandle" ∧ (parseMethodDescriptor yJ3_grow.desc).map (fun d => d.parameters.length) = some 0 := by decide +kernel
set_option maxHeartbeats 4000000 in
set_option maxRecDepth 100000 in
theorem wkJ3_grow (l : Launch) (hl9 : l.stackTraces = false) (D : va_G) (dA : Nat → ClassId) (ro : Nat → Bool) (G : Gs) (J : State → Heap → Prop) (hJ : JD ro G J) (h0 : Hv) (n0 : Nat) (a0 : Nat) {res : Nat × Hv × Nat × Nat} (hf : P_J3_grow G ro h0 n0 a0 = some res) : Met l yJ3_grow (ws_ yJ3_grow cJ3_grow 1 (some (Jvm.ClassFile.FieldType.array (Jvm.ClassFile.FieldType.object "java/lang/Object")))) (rmD 4 127 res.2.2.1 res.2.2.2) (Pd D dA ro J [.ref a0] h0 n0) (Qda D dA ro h0 n0 res) res.2.2.1 res.2.2.2 (fD ro h0 n0) := by
  refine xd_head (own := RJ3) (by decide) rfl (Nat.le_of_ble_eq_true rfl) ?_
  intro p e s m args below meth c ls Q hQ hname C hn0 hH hl
  obtain ⟨hx, hb, hr, hlocks, hml, hown, hts, hK, hJs⟩ := C
  replace hl : lv_has ls 1 [(0, .ref a0)] := hl
  have hS : va_S (fD ro h0 n0) s.heap s.heap [] := va_S.rf
  have hR : rD ro (fD ro h0 n0) n0 := fD_rD hH
  have hA9 : ∀ q, s.heap.size ≤ q → fD ro h0 n0 q := fun q hq => hR.2 q (hn0 ▸ hq)
  unfold P_J3_grow at hf
  obtain ⟨r, er⟩ : ∃ r, r = res := ⟨_, rfl⟩
  have hq : qI r res 0 0 := by rw [er]; exact ⟨rfl, rfl, Nat.zero_add _, Nat.zero_add _⟩
  rw [← er] at hf
  have hn : n0 = n0 + 0 := rfl
  obtain ⟨H, eH⟩ : ∃ H, H = s.heap := ⟨_, rfl⟩
  obtain ⟨locs, eL⟩ : ∃ locs : List Loc, locs = [] := ⟨_, rfl⟩
  rw [← eL] at hS ⊢
  rw [← eH] at hH
  have hS : va_S (fD ro h0 n0) s.heap H locs := by rw [eH]; exact hS
  show W p l e (rmD 4 127 res.2.2.1 res.2.2.2) s m args below meth c s.heap locs 0 0 Q (F0 m 0 ls [])
  rw [← eH]
  clear er
  refine lv_aload_n hx hb dJ3_grow_0 rfl (lv_at hl 0 rfl) ?_
  refine lv_aload_n hx hb dJ3_grow_1 rfl (lv_at hl 0 rfl) ?_
  obtain ⟨x2, g1, hf⟩ := ob_bind hf
  refine xh_geti hx hb hts in_J3 hown hK hH.1 (ci := 4) rfl 2 (by decide) (hts _ q401) (fun _ h => h) g1 dJ3_grow_2 ?_
  refine lv_iconst (v := 1) hx hb dJ3_grow_5 (by decide) ?_
  refine lv_iadd hx hb dJ3_grow_6 ?_
  obtain ⟨g5, hf⟩ := ob_gp hf
  obtain ⟨q3, g4, hf⟩ := ob_bind hf
  obtain ⟨r, hf, hq, hc9, hs9⟩ := hq.add hf
  refine xdc_a (xd_run (As := [.int (x2 + 1)]) (rest := []) hJ hR hJs hS ⟨hx, hb, hml, hown, hts⟩ (wkJ3_grow_2 l hl9 D dA ro G J hJ h0 n0 a0 (x2 + 1) g4) (cwV 1 hts (lw_V q654 q656 qs17 q145 q657) rfl rfl rfl cdJ3_grow_2 ⟨Nat.le_of_ble_eq_true rfl, Nat.le_of_ble_eq_true rfl⟩) hK hH (of_decide_eq_true g5) (q := (RJ3, TJ3, 3)) rfl rfl hl.1 rfl rfl (Nat.le_of_ble_eq_true rfl) dJ3_grow_7 ⟨hc9, hs9⟩) hH hR (by omega) hS (fun H locs hH hS => ?_)
  replace hn : (n0 + q3.2.2.1) = n0 + (0 + q3.2.2.1) := by omega
  subst hQ
  exact xe_da (Or.inr ⟨_, rfl⟩) hx hb hr hlocks hH hn hS (hq.end (Option.some.inj hf)) dJ3_grow_10
theorem cdJ3_add_2 : yJ3_add_2.cls = RJ3 ∧ yJ3_add_2.cls ≠ "java/lang/invoke/MethodHandle" ∧ yJ3_add_2.cls ≠ "java/lang/invoke/VarHandle" ∧ (parseMethodDescriptor yJ3_add_2.desc).map (fun d => d.parameters.length) = some 3 := by decide +kernel
set_option maxHeartbeats 4000000 in
set_option maxRecDepth 100000 in
theorem wkJ3_add_2 (l : Launch) (hl9 : l.stackTraces = false) (D : va_G) (dA : Nat → ClassId) (ro : Nat → Bool) (G : Gs) (J : State → Heap → Prop) (hJ : JD ro G J) (h0 : Hv) (n0 : Nat) (a0 : Nat) (a1 : Nat) (a2 : Nat) (a3 : Int32) {res : Unit × Hv × Nat × Nat} (hf : P_J3_add_2 G ro h0 n0 a0 a1 a2 a3 = some res) : Met l yJ3_add_2 (ws_ yJ3_add_2 cJ3_add_2 4 (none)) (rmD 5 147 res.2.2.1 res.2.2.2) (Pd D dA ro J [.ref a0, .ref a1, .ref a2, .int a3] h0 n0) (Qdv D dA ro h0 n0 res) res.2.2.1 res.2.2.2 (fD ro h0 n0) := by
  refine xd_head (own := RJ3) (by decide) rfl (Nat.le_of_ble_eq_true rfl) ?_
  intro p e s m args below meth c ls Q hQ hname C hn0 hH hl
  obtain ⟨hx, hb, hr, hlocks, hml, hown, hts, hK, hJs⟩ := C
  replace hl : lv_has ls 4 [(0, .ref a0), (1, .ref a1), (2, .ref a2), (3, .int a3)] := hl
  have hS : va_S (fD ro h0 n0) s.heap s.heap [] := va_S.rf
  have hR : rD ro (fD ro h0 n0) n0 := fD_rD hH
  have hA9 : ∀ q, s.heap.size ≤ q → fD ro h0 n0 q := fun q hq => hR.2 q (hn0 ▸ hq)
  unfold P_J3_add_2 at hf
  obtain ⟨r, er⟩ : ∃ r, r = res := ⟨_, rfl⟩
  have hq : qI r res 0 0 := by rw [er]; exact ⟨rfl, rfl, Nat.zero_add _, Nat.zero_add _⟩
  rw [← er] at hf
  have hn : n0 = n0 + 0 := rfl
  obtain ⟨H, eH⟩ : ∃ H, H = s.heap := ⟨_, rfl⟩
  obtain ⟨locs, eL⟩ : ∃ locs : List Loc, locs = [] := ⟨_, rfl⟩
  rw [← eL] at hS ⊢
  rw [← eH] at hH
  have hS : va_S (fD ro h0 n0) s.heap H locs := by rw [eH]; exact hS
  show W p l e (rmD 5 147 res.2.2.1 res.2.2.2) s m args below meth c s.heap locs 0 0 Q (F0 m 0 ls [])
  rw [← eH]
  clear er
  refine lv_iload_n hx hb dJ3_add_2_0 rfl (lv_at hl 3 rfl) ?_
  refine lv_aload_n hx hb dJ3_add_2_1 rfl (lv_at hl 2 rfl) ?_
  obtain ⟨y1, g2, hf⟩ := ob_bind hf
  refine xh_alenG hx hb (hJ.z hR hJs).2.2.2.2.2.2.2.2.2.2.2.2.2 hS hK hH.1 g2 dJ3_add_2_2 ?_
  have kj11 : ∀ (h3 : Hv) (n4 : Nat) (v2_5 : Nat) (kc5 ks5 : Nat) (r : Unit × Hv × Nat × Nat) (H : Heap) (locs : List Loc) (ls : Array Slot), P_J3_add_2_j11 a1 a3 ro a0 h3 n4 v2_5 = some r → qI r res kc5 ks5 → n4 = n0 + kc5 → DS D dA ro h3 n4 (fD ro h0 n0) H → va_S (fD ro h0 n0) s.heap H locs → lv_has ls 4 [(0, .ref a0), (1, .ref a1), (2, .ref v2_5), (3, .int a3)] → W p l e (rmD 5 147 res.2.2.1 res.2.2.2) s m args below meth c H locs kc5 ks5 Q (F0 m 11 ls []) := by
    intro h3 n4 v2_5 kc5 ks5 r H locs ls hf hq hn hH hS hl
    unfold P_J3_add_2_j11 at hf
    refine lv_aload_n hx hb dJ3_add_2_11 rfl (lv_at hl 2 rfl) ?_
    refine lv_iload_n hx hb dJ3_add_2_12 rfl (lv_at hl 3 rfl) ?_
    refine lv_aload_n hx hb dJ3_add_2_13 rfl (lv_at hl 1 rfl) ?_
    obtain ⟨g6, hf⟩ := ob_gp hf
    obtain ⟨g7, hf⟩ := ob_gp hf
    obtain ⟨h9, g8, hf⟩ := ob_bind hf
    obtain ⟨C10, cC10, dC10⟩ := xd_isO hK hH.1 (hJ.f hJs).2.1 g6
    refine xd_aast hx hb 8 5 rfl hK hH hS cC10 dC10 (j := a3.toNatClampNeg) (xg_nn g7) rfl g8 dJ3_add_2_14 (fun H locs hH hS => ?_)
    refine lv_aload_n hx hb dJ3_add_2_15 rfl (lv_at hl 0 rfl) ?_
    refine lv_iload_n hx hb dJ3_add_2_16 rfl (lv_at hl 3 rfl) ?_
    refine lv_iconst (v := 1) hx hb dJ3_add_2_17 (by decide) ?_
    refine lv_iadd hx hb dJ3_add_2_18 ?_
    obtain ⟨h12, g11, hf⟩ := ob_bind hf
    refine xd_put hx hb hts in_J3 tyJ3 tyJ3_ok nmJ3 hown hK hH hS (ci := 4) rfl 2 (by decide) (hts _ q401) (fun _ h => h) rfl (v := .int (a3 + 1)) rfl rfl g11 dJ3_add_2_19 (fun H locs hH hS => ?_)
    subst hQ
    exact xe_dv hx hb hr hlocks hH hn hS (hq.end (Option.some.inj hf)) dJ3_add_2_22
  refine lv_icmp_ne (tgt := 11) hx hb dJ3_add_2_3 (by decide) (fun c13 => ?_) (fun c13 => ?_)
  · replace hf := ob_f hf c13
    exact kj11 h0 n0 a2 _ _ r H locs ls hf hq hn hH hS (lv_sub hl [0, 1, 2, 3] rfl)
  · replace hf := ob_t hf c13
    refine lv_aload_n hx hb dJ3_add_2_6 rfl (lv_at hl 0 rfl) ?_
    obtain ⟨g16, hf⟩ := ob_gp hf
    obtain ⟨q14, g15, hf⟩ := ob_bind hf
    obtain ⟨r, hf, hq, hc9, hs9⟩ := hq.add hf
    refine xdc_a (xd_run (As := []) (rest := []) hJ hR hJs hS ⟨hx, hb, hml, hown, hts⟩ (wkJ3_grow l hl9 D dA ro G J hJ h0 n0 a0 g15) (cwV 0 hts (lw_V q650 q652 qs16 q145 q653) rfl rfl rfl cdJ3_grow ⟨Nat.le_of_ble_eq_true rfl, Nat.le_of_ble_eq_true rfl⟩) hK hH (of_decide_eq_true g16) (q := (RJ3, TJ3, 3)) rfl rfl hl.1 rfl rfl (Nat.le_of_ble_eq_true rfl) dJ3_add_2_7 ⟨hc9, hs9⟩) hH hR (by omega) hS (fun H locs hH hS => ?_)
    replace hn : (n0 + q14.2.2.1) = n0 + (0 + q14.2.2.1) := by omega
    refine lv_astore_n (lv' := [(2, .ref q14.1), (0, .ref a0), (1, .ref a1), (3, .int a3)]) hx hb dJ3_add_2_10 rfl hl (by decide) rfl (fun ls hl => ?_)
    exact kj11 q14.2.1 (n0 + q14.2.2.1) q14.1 _ _ r H locs ls hf hq hn hH hS (lv_sub hl [1, 2, 0, 3] rfl)
theorem cdJ3_add : yJ3_add.cls = RJ3 ∧ yJ3_add.cls ≠ "java/lang/invoke/MethodHandle" ∧ yJ3_add.cls ≠ "java/lang/invoke/VarHandle" ∧ (parseMethodDescriptor yJ3_add.desc).map (fun d => d.parameters.length) = some 1 := by decide +kernel
set_option maxHeartbeats 4000000 in
set_option maxRecDepth 100000 in
theorem wkJ3_add (l : Launch) (hl9 : l.stackTraces = false) (D : va_G) (dA : Nat → ClassId) (ro : Nat → Bool) (G : Gs) (J : State → Heap → Prop) (hJ : JD ro G J) (h0 : Hv) (n0 : Nat) (a0 : Nat) (a1 : Nat) {res : Int32 × Hv × Nat × Nat} (hf : P_J3_add G ro h0 n0 a0 a1 = some res) : Met l yJ3_add (ws_ yJ3_add cJ3_add 2 (some .boolean)) (rmD 6 170 res.2.2.1 res.2.2.2) (Pd D dA ro J [.ref a0, .ref a1] h0 n0) (Qdz D dA ro h0 n0 res) res.2.2.1 res.2.2.2 (fD ro h0 n0) := by
  refine xd_head (own := RJ3) (by decide) rfl (Nat.le_of_ble_eq_true rfl) ?_
  intro p e s m args below meth c ls Q hQ hname C hn0 hH hl
  obtain ⟨hx, hb, hr, hlocks, hml, hown, hts, hK, hJs⟩ := C
  replace hl : lv_has ls 2 [(0, .ref a0), (1, .ref a1)] := hl
  have hS : va_S (fD ro h0 n0) s.heap s.heap [] := va_S.rf
  have hR : rD ro (fD ro h0 n0) n0 := fD_rD hH
  have hA9 : ∀ q, s.heap.size ≤ q → fD ro h0 n0 q := fun q hq => hR.2 q (hn0 ▸ hq)
  unfold P_J3_add at hf
  obtain ⟨r, er⟩ : ∃ r, r = res := ⟨_, rfl⟩
  have hq : qI r res 0 0 := by rw [er]; exact ⟨rfl, rfl, Nat.zero_add _, Nat.zero_add _⟩
  rw [← er] at hf
  have hn : n0 = n0 + 0 := rfl
  obtain ⟨H, eH⟩ : ∃ H, H = s.heap := ⟨_, rfl⟩
  obtain ⟨locs, eL⟩ : ∃ locs : List Loc, locs = [] := ⟨_, rfl⟩
  rw [← eL] at hS ⊢
  rw [← eH] at hH
  have hS : va_S (fD ro h0 n0) s.heap H locs := by rw [eH]; exact hS
  show W p l e (rmD 6 170 res.2.2.1 res.2.2.2) s m args below meth c s.heap locs 0 0 Q (F0 m 0 ls [])
  rw [← eH]
  clear er
  refine lv_aload_n hx hb dJ3_add_0 rfl (lv_at hl 0 rfl) ?_
  refine lv_dup hx hb dJ3_add_1 rfl ?_
  obtain ⟨x2, g1, hf⟩ := ob_bind hf
  refine xh_geti hx hb hts in_J3 hown hK hH.1 (ci := 4) rfl 0 (by decide) (hts _ q403) (fun x h => u_same (hts _ q404) x h) g1 dJ3_add_2 ?_
  refine lv_iconst (v := 1) hx hb dJ3_add_5 (by decide) ?_
  refine lv_iadd hx hb dJ3_add_6 ?_
  obtain ⟨h4, g3, hf⟩ := ob_bind hf
  refine xd_put hx hb hts in_J3 tyJ3 tyJ3_ok nmJ3 hown hK hH hS (ci := 4) rfl 0 (by decide) (hts _ q403) (fun x h => u_same (hts _ q404) x h) rfl (v := .int (x2 + 1)) rfl rfl g3 dJ3_add_7 (fun H locs hH hS => ?_)
  refine lv_aload_n hx hb dJ3_add_10 rfl (lv_at hl 0 rfl) ?_
  refine lv_aload_n hx hb dJ3_add_11 rfl (lv_at hl 1 rfl) ?_
  refine lv_aload_n hx hb dJ3_add_12 rfl (lv_at hl 0 rfl) ?_
  obtain ⟨r6, g5, hf⟩ := ob_bind hf
  refine xh_getr hx hb hts in_J3 hown hK hH.1 (ci := 4) rfl 1 (by decide) (hts _ q400) (fun _ h => h) g5 dJ3_add_13 ?_
  refine lv_aload_n hx hb dJ3_add_16 rfl (lv_at hl 0 rfl) ?_
  obtain ⟨x8, g7, hf⟩ := ob_bind hf
  refine xh_geti hx hb hts in_J3 hown hK hH.1 (ci := 4) rfl 2 (by decide) (hts _ q401) (fun _ h => h) g7 dJ3_add_17 ?_
  obtain ⟨g11, hf⟩ := ob_gp hf
  obtain ⟨q9, g10, hf⟩ := ob_bind hf
  obtain ⟨r, hf, hq, hc9, hs9⟩ := hq.add hf
  refine xdc_v (xd_run (As := [.ref a1, .ref r6, .int x8]) (rest := []) hJ hR hJs hS ⟨hx, hb, hml, hown, hts⟩ (wkJ3_add_2 l hl9 D dA ro G J hJ h4 n0 a0 a1 r6 x8 g10) (cwV 3 hts (lw_V q646 q648 qs15 q145 q649) rfl rfl rfl cdJ3_add_2 ⟨Nat.le_of_ble_eq_true rfl, Nat.le_of_ble_eq_true rfl⟩) hK hH (of_decide_eq_true g11) (q := (RJ3, TJ3, 3)) rfl rfl hl.1 rfl rfl (Nat.le_of_ble_eq_true rfl) dJ3_add_20 ⟨hc9, hs9⟩) hH hR (by omega) hS (fun H locs hH hS => ?_)
  replace hn : (n0 + q9.2.2.1) = n0 + (0 + q9.2.2.1) := by omega
  refine lv_iconst (v := 1) hx hb dJ3_add_23 (by decide) ?_
  subst hQ
  exact xe_dz hx hb hr hlocks hH hn hS (Or.inr rfl) (hq.end (Option.some.inj hf)) dJ3_add_24
theorem cdJ15_valueOf : yJ15_valueOf.cls = RJ15 ∧ yJ15_valueOf.cls ≠ "java/lang/invoke/MethodHandle" ∧ yJ15_valueOf.cls ≠ "java/lang/invoke/VarHandle" ∧ (parseMethodDescriptor yJ15_valueOf.desc).map (fun d => d.parameters.length) = some 1 := by decide +kernel
set_option maxHeartbeats 4000000 in
set_option maxRecDepth 100000 in
theorem wkJ15_valueOf (l : Launch) (hl9 : l.stackTraces = false) (D : va_G) (dA : Nat → ClassId) (ro : Nat → Bool) (G : Gs) (J : State → Heap → Prop) (hJ : JD ro G J) (h0 : Hv) (n0 : Nat) (a0 : Int32) {res : Nat × Hv × Nat × Nat} (hf : P_J15_valueOf G ro h0 n0 a0 = some res) : Met l yJ15_valueOf (ws_ yJ15_valueOf cJ15_valueOf 1 (some (Jvm.ClassFile.FieldType.object "java/lang/Integer"))) (rmD 0 0 res.2.2.1 res.2.2.2) (Pd D dA ro J [.int a0] h0 n0) (Qda D dA ro h0 n0 res) res.2.2.1 res.2.2.2 (fD ro h0 n0) := by
  refine xd_head (own := RJ15) (by decide) rfl (Nat.le_of_ble_eq_true rfl) ?_
  intro p e s m args below meth c ls Q hQ hname C hn0 hH hl
  obtain ⟨hx, hb, hr, hlocks, hml, hown, hts, hK, hJs⟩ := C
  replace hl : lv_has ls 1 [(0, .int a0)] := hl
  have hS : va_S (fD ro h0 n0) s.heap s.heap [] := va_S.rf
  have hR : rD ro (fD ro h0 n0) n0 := fD_rD hH
  have hA9 : ∀ q, s.heap.size ≤ q → fD ro h0 n0 q := fun q hq => hR.2 q (hn0 ▸ hq)
  unfold P_J15_valueOf at hf
  obtain ⟨r, er⟩ : ∃ r, r = res := ⟨_, rfl⟩
  have hq : qI r res 0 0 := by rw [er]; exact ⟨rfl, rfl, Nat.zero_add _, Nat.zero_add _⟩
  rw [← er] at hf
  have hn : n0 = n0 + 0 := rfl
  obtain ⟨H, eH⟩ : ∃ H, H = s.heap := ⟨_, rfl⟩
  obtain ⟨locs, eL⟩ : ∃ locs : List Loc, locs = [] := ⟨_, rfl⟩
  rw [← eL] at hS ⊢
  rw [← eH] at hH
  have hS : va_S (fD ro h0 n0) s.heap H locs := by rw [eH]; exact hS
  show W p l e (rmD 0 0 res.2.2.1 res.2.2.2) s m args below meth c s.heap locs 0 0 Q (F0 m 0 ls [])
  rw [← eH]
  clear er
  refine lv_iload_n hx hb dJ15_valueOf_0 rfl (lv_at hl 0 rfl) ?_
  refine lv_bipush (v := (-128)) hx hb dJ15_valueOf_1 (by decide) ?_
  refine lv_icmp_lt (tgt := 23) hx hb dJ15_valueOf_3 (by decide) (fun c1 => ?_) (fun c1 => ?_)
  · replace hf := ob_t hf c1
    cases hf
  · replace hf := ob_f hf c1
    refine lv_iload_n hx hb dJ15_valueOf_6 rfl (lv_at hl 0 rfl) ?_
    refine va_gets hx hb (hJ.z hR hJs).2.2.2.2.2.1 hS hown (hts _ q834) (fun _ h => h) dJ15_valueOf_7 ?_
    refine lv_icmp_gt (tgt := 23) hx hb dJ15_valueOf_10 (by decide) (fun c2 => ?_) (fun c2 => ?_)
    · replace hf := ob_t hf c2
      cases hf
    · replace hf := ob_f hf c2
      refine va_gets hx hb (hJ.z hR hJs).2.2.2.2.2.2.1 hS hown (hts _ q836) (fun _ h => h) dJ15_valueOf_13 ?_
      refine lv_iload_n hx hb dJ15_valueOf_16 rfl (lv_at hl 0 rfl) ?_
      refine lv_sipush (v := 128) hx hb dJ15_valueOf_17 (by decide) ?_
      refine lv_iadd hx hb dJ15_valueOf_20 ?_
      obtain ⟨h3, hf⟩ := ob_gd hf
      refine xd_talq hx hb (hJ.z hR hJs).2.2.2.2.2.2.2.1 hS h3 dJ15_valueOf_21 ?_
      subst hQ
      exact xe_da (Or.inl ⟨_, rfl⟩) hx hb hr hlocks hH hn hS (hq.end (Option.some.inj hf)) dJ15_valueOf_22
theorem cdX4_init : yX4_init.cls = RX4 ∧ yX4_init.cls ≠ "java/lang/invoke/MethodHandle" ∧ yX4_init.cls ≠ "java/lang/invoke/VarHandle" ∧ (parseMethodDescriptor yX4_init.desc).map (fun d => d.parameters.length) = some 0 := by decide +kernel
set_option maxHeartbeats 4000000 in
set_option maxRecDepth 100000 in
theorem wkX4_init (l : Launch) (hl9 : l.stackTraces = false) (D : va_G) (dA : Nat → ClassId) (ro : Nat → Bool) (G : Gs) (J : State → Heap → Prop) (hJ : JD ro G J) (h0 : Hv) (n0 : Nat) (a0 : Nat) {res : Unit × Hv × Nat × Nat} (hf : P_X4_init G ro h0 n0 a0 = some res) : Met l yX4_init (ws_ yX4_init cX4_init 1 (none)) (rmD 4 120 res.2.2.1 res.2.2.2) (Pd D dA ro J [.ref a0] h0 n0) (Qdv D dA ro h0 n0 res) res.2.2.1 res.2.2.2 (fD ro h0 n0) := by
  refine xd_head (own := RX4) (by decide) rfl (Nat.le_of_ble_eq_true rfl) ?_
  intro p e s m args below meth c ls Q hQ hname C hn0 hH hl
  obtain ⟨hx, hb, hr, hlocks, hml, hown, hts, hK, hJs⟩ := C
  replace hl : lv_has ls 1 [(0, .ref a0)] := hl
  have hS : va_S (fD ro h0 n0) s.heap s.heap [] := va_S.rf
  have hR : rD ro (fD ro h0 n0) n0 := fD_rD hH
  have hA9 : ∀ q, s.heap.size ≤ q → fD ro h0 n0 q := fun q hq => hR.2 q (hn0 ▸ hq)
  unfold P_X4_init at hf
  obtain ⟨r, er⟩ : ∃ r, r = res := ⟨_, rfl⟩
  have hq : qI r res 0 0 := by rw [er]; exact ⟨rfl, rfl, Nat.zero_add _, Nat.zero_add _⟩
  rw [← er] at hf
  have hn : n0 = n0 + 0 := rfl
  obtain ⟨H, eH⟩ : ∃ H, H = s.heap := ⟨_, rfl⟩
  obtain ⟨locs, eL⟩ : ∃ locs : List Loc, locs = [] := ⟨_, rfl⟩
  rw [← eL] at hS ⊢
  rw [← eH] at hH
  have hS : va_S (fD ro h0 n0) s.heap H locs := by rw [eH]; exact hS
  show W p l e (rmD 4 120 res.2.2.1 res.2.2.2) s m args below meth c s.heap locs 0 0 Q (F0 m 0 ls [])
  rw [← eH]
  clear er
  refine lv_aload_n hx hb dX4_init_0 rfl (lv_at hl 0 rfl) ?_
  refine W.objInit hx hb hown (hts _ q383) (hts _ q177) (hts _ q178) rfl (by rw [hml]; exact hl.1) rfl dX4_init_1 (Nat.le_of_ble_eq_true rfl) (Nat.le_of_ble_eq_true rfl) ?_
  refine lv_aload_n hx hb dX4_init_4 rfl (lv_at hl 0 rfl) ?_
  refine lv_iconst (v := 2) hx hb dX4_init_5 (by decide) ?_
  obtain ⟨g1, hf⟩ := ob_gp hf
  obtain ⟨r, hf, hq, hc9, hs9⟩ := hq.add hf
  obtain ⟨h2, eh2, hf⟩ := ob_bnd hf
  refine xd_newq hx hb 7 4 rfl hown (hts _ q384) (hJ.f hJs).2.2.2.1.2.1 hK hH hS hA9 (N := (2 : Int32).toNatClampNeg) (xg_n0 g1) rfl (xg_n1 g1) hc9 hs9 dX4_init_6 (fun H hH hS => ?_)
  rw [← eh2] at hH
  replace hn : (n0 + 1) = n0 + (0 + 1) := by omega
  obtain ⟨h4, g3, hf⟩ := ob_bind hf
  refine xd_putF hx hb hts in_X4 tyX4 tyX4_ok nmX4 hown hK hH hS (ci := 2) rfl 0 (by decide) (hts _ q412) (fun _ h => h) rfl (hname.trans rfl) rfl (v := .ref n0) rfl rfl g3 dX4_init_9 (fun H locs hH hS => ?_)
  refine lv_aload_n hx hb dX4_init_12 rfl (lv_at hl 0 rfl) ?_
  obtain ⟨r, hf, hq, hc9, hs9⟩ := hq.add hf
  obtain ⟨h5, eh5, hf⟩ := ob_bnd hf
  refine xd_new hx hb (N := 3) hts in_J3 tyJ3 tyJ3_ok hown (hts _ q386) (hts _ q387) (hts _ q145) hK hH hS hA9 (ci := 4) rfl (fs := [.int 0, .null, .int 0]) df_J3 hc9 hs9 dX4_init_13 (fun H hH hS => ?_)
  rw [← eh5] at hH
  replace hn : ((n0 + 1) + 1) = n0 + ((0 + 1) + 1) := by omega
  refine lv_dup hx hb dX4_init_16 rfl ?_
  obtain ⟨q6, g7, hf⟩ := ob_bind hf
  obtain ⟨r, hf, hq, hc9, hs9⟩ := hq.add hf
  refine xdc_v (xd_runI (As := []) (rest := [.ref (n0 + 1), .ref a0]) hJ hR hJs hS ⟨hx, hb, hml, hown, hts⟩ (wkJ3_init l hl9 D dA ro G J hJ h5 ((n0 + 1) + 1) (n0 + 1) g7) ⟨callB_of 0 hts (lw_meth q390) rfl rfl rfl (hts _ q145) (hts _ q388) cdJ3_init.2 ⟨Nat.le_of_ble_eq_true rfl, Nat.le_of_ble_eq_true rfl⟩, rfl, hts _ q389⟩ hK hH hl.1 rfl rfl (Nat.le_of_ble_eq_true rfl) dX4_init_17 ⟨hc9, hs9⟩) hH hR (by omega) hS (fun H locs hH hS => ?_)
  replace hn : (((n0 + 1) + 1) + q6.2.2.1) = n0 + (((0 + 1) + 1) + q6.2.2.1) := by omega
  obtain ⟨h9, g8, hf⟩ := ob_bind hf
  refine xd_putF hx hb hts in_X4 tyX4 tyX4_ok nmX4 hown hK hH hS (ci := 2) rfl 2 (by decide) (hts _ q416) (fun _ h => h) rfl (hname.trans rfl) rfl (v := .ref (n0 + 1)) rfl rfl g8 dX4_init_20 (fun H locs hH hS => ?_)
  subst hQ
  exact xe_dv hx hb hr hlocks hH hn hS (hq.end (Option.some.inj hf)) dX4_init_23
theorem cdX16_init : yX16_init.cls = RX16 ∧ yX16_init.cls ≠ "java/lang/invoke/MethodHandle" ∧ yX16_init.cls ≠ "java/lang/invoke/VarHandle" ∧ (parseMethodDescriptor yX16_init.desc).map (fun d => d.parameters.length) = some 5 := by decide +kernel
set_option maxHeartbeats 4000000 in
set_option maxRecDepth 100000 in
theorem wkX16_init (l : Launch) (hl9 : l.stackTraces = false) (D : va_G) (dA : Nat → ClassId) (ro : Nat → Bool) (G : Gs) (J : State → Heap → Prop) (hJ : JD ro G J) (h0 : Hv) (n0 : Nat) (a0 : Nat) (a1 : Int32) (a2 : Int32) (a3 : Int32) (a4 : Int32) (a5 : Int32) {res : Unit × Hv × Nat × Nat} (hf : P_X16_init G ro h0 n0 a0 a1 a2 a3 a4 a5 = some res) : Met l yX16_init (ws_ yX16_init cX16_init 6 (none)) (rmD 2 80 res.2.2.1 res.2.2.2) (Pd D dA ro J [.ref a0, .int a1, .int a2, .int a3, .int a4, .int a5] h0 n0) (Qdv D dA ro h0 n0 res) res.2.2.1 res.2.2.2 (fD ro h0 n0) := by
  refine xd_head (own := RX16) (by decide) rfl (Nat.le_of_ble_eq_true rfl) ?_
  intro p e s m args below meth c ls Q hQ hname C hn0 hH hl
  obtain ⟨hx, hb, hr, hlocks, hml, hown, hts, hK, hJs⟩ := C
  replace hl : lv_has ls 6 [(0, .ref a0), (1, .int a1), (2, .int a2), (3, .int a3), (4, .int a4), (5, .int a5)] := hl
  have hS : va_S (fD ro h0 n0) s.heap s.heap [] := va_S.rf
  have hR : rD ro (fD ro h0 n0) n0 := fD_rD hH
  have hA9 : ∀ q, s.heap.size ≤ q → fD ro h0 n0 q := fun q hq => hR.2 q (hn0 ▸ hq)
  unfold P_X16_init at hf
  obtain ⟨r, er⟩ : ∃ r, r = res := ⟨_, rfl⟩
  have hq : qI r res 0 0 := by rw [er]; exact ⟨rfl, rfl, Nat.zero_add _, Nat.zero_add _⟩
  rw [← er] at hf
  have hn : n0 = n0 + 0 := rfl
  obtain ⟨H, eH⟩ : ∃ H, H = s.heap := ⟨_, rfl⟩
  obtain ⟨locs, eL⟩ : ∃ locs : List Loc, locs = [] := ⟨_, rfl⟩
  rw [← eL] at hS ⊢
  rw [← eH] at hH
  have hS : va_S (fD ro h0 n0) s.heap H locs := by rw [eH]; exact hS
  show W p l e (rmD 2 80 res.2.2.1 res.2.2.2) s m args below meth c s.heap locs 0 0 Q (F0 m 0 ls [])
  rw [← eH]
  clear er
  refine lv_aload_n hx hb dX16_init_0 rfl (lv_at hl 0 rfl) ?_
  obtain ⟨q1, g2, hf⟩ := ob_bind hf
  obtain ⟨r, hf, hq, hc9, hs9⟩ := hq.add hf
  refine xdc_v (xd_runI (As := []) (rest := []) hJ hR hJs hS ⟨hx, hb, hml, hown, hts⟩ (wkJ11_init l hl9 D dA ro G J hJ h0 n0 a0 g2) ⟨callB_of 0 hts (lw_meth q588) rfl rfl rfl (hts _ q155) (hts _ q869) cdJ11_init.2 ⟨Nat.le_of_ble_eq_true rfl, Nat.le_of_ble_eq_true rfl⟩, rfl, hts _ q587⟩ hK hH hl.1 rfl rfl (Nat.le_of_ble_eq_true rfl) dX16_init_1 ⟨hc9, hs9⟩) hH hR (by omega) hS (fun H locs hH hS => ?_)
  replace hn : (n0 + q1.2.2.1) = n0 + (0 + q1.2.2.1) := by omega
  refine lv_aload_n hx hb dX16_init_4 rfl (lv_at hl 0 rfl) ?_
  refine lv_iload_n hx hb dX16_init_5 rfl (lv_at hl 1 rfl) ?_
  obtain ⟨h4, g3, hf⟩ := ob_bind hf
  refine xd_putF hx hb hts in_X16 tyX16 tyX16_ok nmX16 hown hK hH hS (ci := 3) rfl 0 (by decide) (hts _ q870) (fun _ h => h) rfl (hname.trans rfl) rfl (v := .int a1) rfl rfl g3 dX16_init_6 (fun H locs hH hS => ?_)
  refine lv_aload_n hx hb dX16_init_9 rfl (lv_at hl 0 rfl) ?_
  refine lv_iload_n hx hb dX16_init_10 rfl (lv_at hl 2 rfl) ?_
  obtain ⟨h6, g5, hf⟩ := ob_bind hf
  refine xd_putF hx hb hts in_X16 tyX16 tyX16_ok nmX16 hown hK hH hS (ci := 3) rfl 1 (by decide) (hts _ q871) (fun _ h => h) rfl (hname.trans rfl) rfl (v := .int a2) rfl rfl g5 dX16_init_11 (fun H locs hH hS => ?_)
  refine lv_aload_n hx hb dX16_init_14 rfl (lv_at hl 0 rfl) ?_
  refine lv_iload_n hx hb dX16_init_15 rfl (lv_at hl 3 rfl) ?_
  obtain ⟨h8, g7, hf⟩ := ob_bind hf
  refine xd_putF hx hb hts in_X16 tyX16 tyX16_ok nmX16 hown hK hH hS (ci := 3) rfl 2 (by decide) (hts _ q872) (fun _ h => h) rfl (hname.trans rfl) rfl (v := .int a3) rfl rfl g7 dX16_init_16 (fun H locs hH hS => ?_)
  refine lv_aload_n hx hb dX16_init_19 rfl (lv_at hl 0 rfl) ?_
  refine lv_iload hx hb dX16_init_20 (lv_at hl 4 rfl) ?_
  obtain ⟨h10, g9, hf⟩ := ob_bind hf
  refine xd_putF hx hb hts in_X16 tyX16 tyX16_ok nmX16 hown hK hH hS (ci := 3) rfl 3 (by decide) (hts _ q873) (fun _ h => h) rfl (hname.trans rfl) rfl (v := .int a4) rfl rfl g9 dX16_init_22 (fun H locs hH hS => ?_)
  refine lv_aload_n hx hb dX16_init_25 rfl (lv_at hl 0 rfl) ?_
  refine lv_iload hx hb dX16_init_26 (lv_at hl 5 rfl) ?_
  obtain ⟨h12, g11, hf⟩ := ob_bind hf
  refine xd_putF hx hb hts in_X16 tyX16 tyX16_ok nmX16 hown hK hH hS (ci := 3) rfl 4 (by decide) (hts _ q874) (fun _ h => h) rfl (hname.trans rfl) rfl (v := .int a5) rfl rfl g11 dX16_init_28 (fun H locs hH hS => ?_)
  subst hQ
  exact xe_dv hx hb hr hlocks hH hn hS (hq.end (Option.some.inj hf)) dX16_init_31
theorem cdX6_init : yX6_init.cls = RX6 ∧ yX6_init.cls ≠ "java/lang/invoke/MethodHandle" ∧ yX6_init.cls ≠ "java/lang/invoke/VarHandle" ∧ (parseMethodDescriptor yX6_init.desc).map (fun d => d.parameters.length) = some 1 := by decide +kernel
set_option maxHeartbeats 4000000 in
set_option maxRecDepth 100000 in
theorem wkX6_init (l : Launch) (hl9 : l.stackTraces = false) (D : va_G) (dA : Nat → ClassId) (ro : Nat → Bool) (G : Gs) (J : State → Heap → Prop) (hJ : JD ro G J) (h0 : Hv) (n0 : Nat) (a0 : Nat) (a1 : Nat) {res : Unit × Hv × Nat × Nat} (hf : P_X6_init G ro h0 n0 a0 a1 = some res) : Met l yX6_init (ws_ yX6_init cX6_init 2 (none)) (rmD 4 120 res.2.2.1 res.2.2.2) (Pd D dA ro J [.ref a0, .ref a1] h0 n0) (Qdv D dA ro h0 n0 res) res.2.2.1 res.2.2.2 (fD ro h0 n0) := by
  refine xd_head (own := RX6) (by decide) rfl (Nat.le_of_ble_eq_true rfl) ?_
  intro p e s m args below meth c ls Q hQ hname C hn0 hH hl
  obtain ⟨hx, hb, hr, hlocks, hml, hown, hts, hK, hJs⟩ := C
  replace hl : lv_has ls 2 [(0, .ref a0), (1, .ref a1)] := hl
  have hS : va_S (fD ro h0 n0) s.heap s.heap [] := va_S.rf
  have hR : rD ro (fD ro h0 n0) n0 := fD_rD hH
  have hA9 : ∀ q, s.heap.size ≤ q → fD ro h0 n0 q := fun q hq => hR.2 q (hn0 ▸ hq)
  unfold P_X6_init at hf
  obtain ⟨r, er⟩ : ∃ r, r = res := ⟨_, rfl⟩
  have hq : qI r res 0 0 := by rw [er]; exact ⟨rfl, rfl, Nat.zero_add _, Nat.zero_add _⟩
  rw [← er] at hf
  have hn : n0 = n0 + 0 := rfl
  obtain ⟨H, eH⟩ : ∃ H, H = s.heap := ⟨_, rfl⟩
  obtain ⟨locs, eL⟩ : ∃ locs : List Loc, locs = [] := ⟨_, rfl⟩
  rw [← eL] at hS ⊢
  rw [← eH] at hH
  have hS : va_S (fD ro h0 n0) s.heap H locs := by rw [eH]; exact hS
  show W p l e (rmD 4 120 res.2.2.1 res.2.2.2) s m args below meth c s.heap locs 0 0 Q (F0 m 0 ls [])
  rw [← eH]
  clear er
  refine lv_aload_n hx hb dX6_init_0 rfl (lv_at hl 0 rfl) ?_
  refine W.objInit hx hb hown (hts _ q814) (hts _ q177) (hts _ q178) rfl (by rw [hml]; exact hl.1) rfl dX6_init_1 (Nat.le_of_ble_eq_true rfl) (Nat.le_of_ble_eq_true rfl) ?_
  refine lv_aload_n hx hb dX6_init_4 rfl (lv_at hl 0 rfl) ?_
  obtain ⟨r, hf, hq, hc9, hs9⟩ := hq.add hf
  obtain ⟨h1, eh1, hf⟩ := ob_bnd hf
  refine xd_new hx hb (N := 3) hts in_J3 tyJ3 tyJ3_ok hown (hts _ q815) (hts _ q387) (hts _ q145) hK hH hS hA9 (ci := 4) rfl (fs := [.int 0, .null, .int 0]) df_J3 hc9 hs9 dX6_init_5 (fun H hH hS => ?_)
  rw [← eh1] at hH
  replace hn : (n0 + 1) = n0 + (0 + 1) := by omega
  refine lv_dup hx hb dX6_init_8 rfl ?_
  obtain ⟨q2, g3, hf⟩ := ob_bind hf
  obtain ⟨r, hf, hq, hc9, hs9⟩ := hq.add hf
  refine xdc_v (xd_runI (As := []) (rest := [.ref n0, .ref a0]) hJ hR hJs hS ⟨hx, hb, hml, hown, hts⟩ (wkJ3_init l hl9 D dA ro G J hJ h1 (n0 + 1) n0 g3) ⟨callB_of 0 hts (lw_meth q390) rfl rfl rfl (hts _ q145) (hts _ q816) cdJ3_init.2 ⟨Nat.le_of_ble_eq_true rfl, Nat.le_of_ble_eq_true rfl⟩, rfl, hts _ q389⟩ hK hH hl.1 rfl rfl (Nat.le_of_ble_eq_true rfl) dX6_init_9 ⟨hc9, hs9⟩) hH hR (by omega) hS (fun H locs hH hS => ?_)
  replace hn : ((n0 + 1) + q2.2.2.1) = n0 + ((0 + 1) + q2.2.2.1) := by omega
  obtain ⟨h5, g4, hf⟩ := ob_bind hf
  refine xd_putF hx hb hts in_X6 tyX6 tyX6_ok nmX6 hown hK hH hS (ci := 8) rfl 1 (by decide) (hts _ q818) (fun _ h => h) rfl (hname.trans rfl) rfl (v := .ref n0) rfl rfl g4 dX6_init_12 (fun H locs hH hS => ?_)
  refine lv_aload_n hx hb dX6_init_15 rfl (lv_at hl 0 rfl) ?_
  obtain ⟨r, hf, hq, hc9, hs9⟩ := hq.add hf
  obtain ⟨h6, eh6, hf⟩ := ob_bnd hf
  refine xd_new hx hb (N := 3) hts in_J3 tyJ3 tyJ3_ok hown (hts _ q815) (hts _ q387) (hts _ q145) hK hH hS hA9 (ci := 4) rfl (fs := [.int 0, .null, .int 0]) df_J3 hc9 hs9 dX6_init_16 (fun H hH hS => ?_)
  rw [← eh6] at hH
  replace hn : (((n0 + 1) + q2.2.2.1) + 1) = n0 + (((0 + 1) + q2.2.2.1) + 1) := by omega
  refine lv_dup hx hb dX6_init_19 rfl ?_
  obtain ⟨q7, g8, hf⟩ := ob_bind hf
  obtain ⟨r, hf, hq, hc9, hs9⟩ := hq.add hf
  refine xdc_v (xd_runI (As := []) (rest := [.ref ((n0 + 1) + q2.2.2.1), .ref a0]) hJ hR hJs hS ⟨hx, hb, hml, hown, hts⟩ (wkJ3_init l hl9 D dA ro G J hJ h6 (((n0 + 1) + q2.2.2.1) + 1) ((n0 + 1) + q2.2.2.1) g8) ⟨callB_of 0 hts (lw_meth q390) rfl rfl rfl (hts _ q145) (hts _ q816) cdJ3_init.2 ⟨Nat.le_of_ble_eq_true rfl, Nat.le_of_ble_eq_true rfl⟩, rfl, hts _ q389⟩ hK hH hl.1 rfl rfl (Nat.le_of_ble_eq_true rfl) dX6_init_20 ⟨hc9, hs9⟩) hH hR (by omega) hS (fun H locs hH hS => ?_)
  replace hn : ((((n0 + 1) + q2.2.2.1) + 1) + q7.2.2.1) = n0 + ((((0 + 1) + q2.2.2.1) + 1) + q7.2.2.1) := by omega
  obtain ⟨h10, g9, hf⟩ := ob_bind hf
  refine xd_putF hx hb hts in_X6 tyX6 tyX6_ok nmX6 hown hK hH hS (ci := 8) rfl 2 (by decide) (hts _ q819) (fun _ h => h) rfl (hname.trans rfl) rfl (v := .ref ((n0 + 1) + q2.2.2.1)) rfl rfl g9 dX6_init_23 (fun H locs hH hS => ?_)
  refine lv_aload_n hx hb dX6_init_26 rfl (lv_at hl 0 rfl) ?_
  refine lv_aload_n hx hb dX6_init_27 rfl (lv_at hl 1 rfl) ?_
  obtain ⟨h12, g11, hf⟩ := ob_bind hf
  refine xd_putF hx hb hts in_X6 tyX6 tyX6_ok nmX6 hown hK hH hS (ci := 8) rfl 0 (by decide) (hts _ q817) (fun _ h => h) rfl (hname.trans rfl) rfl (v := .ref a1) rfl rfl g11 dX6_init_28 (fun H locs hH hS => ?_)
  subst hQ
  exact xe_dv hx hb hr hlocks hH hn hS (hq.end (Option.some.inj hf)) dX6_init_31
theorem cdX7_init : yX7_init.cls = RX7 ∧ yX7_init.cls ≠ "java/lang/invoke/MethodHandle" ∧ yX7_init.cls ≠ "java/lang/invoke/VarHandle" ∧ (parseMethodDescriptor yX7_init.desc).map (fun d => d.parameters.length) = some 1 := by decide +kernel
set_option maxHeartbeats 4000000 in
set_option maxRecDepth 100000 in
theorem wkX7_init (l : Launch) (hl9 : l.stackTraces = false) (D : va_G) (dA : Nat → ClassId) (ro : Nat → Bool) (G : Gs) (J : State → Heap → Prop) (hJ : JD ro G J) (h0 : Hv) (n0 : Nat) (a0 : Nat) (a1 : Int32) {res : Unit × Hv × Nat × Nat} (hf : P_X7_init G ro h0 n0 a0 a1 = some res) : Met l yX7_init (ws_ yX7_init cX7_init 2 (none)) (rmD 2 80 res.2.2.1 res.2.2.2) (Pd D dA ro J [.ref a0, .int a1] h0 n0) (Qdv D dA ro h0 n0 res) res.2.2.1 res.2.2.2 (fD ro h0 n0) := by
  refine xd_head (own := RX7) (by decide) rfl (Nat.le_of_ble_eq_true rfl) ?_
  intro p e s m args below meth c ls Q hQ hname C hn0 hH hl
  obtain ⟨hx, hb, hr, hlocks, hml, hown, hts, hK, hJs⟩ := C
  replace hl : lv_has ls 2 [(0, .ref a0), (1, .int a1)] := hl
  have hS : va_S (fD ro h0 n0) s.heap s.heap [] := va_S.rf
  have hR : rD ro (fD ro h0 n0) n0 := fD_rD hH
  have hA9 : ∀ q, s.heap.size ≤ q → fD ro h0 n0 q := fun q hq => hR.2 q (hn0 ▸ hq)
  unfold P_X7_init at hf
  obtain ⟨r, er⟩ : ∃ r, r = res := ⟨_, rfl⟩
  have hq : qI r res 0 0 := by rw [er]; exact ⟨rfl, rfl, Nat.zero_add _, Nat.zero_add _⟩
  rw [← er] at hf
  have hn : n0 = n0 + 0 := rfl
  obtain ⟨H, eH⟩ : ∃ H, H = s.heap := ⟨_, rfl⟩
  obtain ⟨locs, eL⟩ : ∃ locs : List Loc, locs = [] := ⟨_, rfl⟩
  rw [← eL] at hS ⊢
  rw [← eH] at hH
  have hS : va_S (fD ro h0 n0) s.heap H locs := by rw [eH]; exact hS
  show W p l e (rmD 2 80 res.2.2.1 res.2.2.2) s m args below meth c s.heap locs 0 0 Q (F0 m 0 ls [])
  rw [← eH]
  clear er
  refine lv_aload_n hx hb dX7_init_0 rfl (lv_at hl 0 rfl) ?_
  obtain ⟨q1, g2, hf⟩ := ob_bind hf
  obtain ⟨r, hf, hq, hc9, hs9⟩ := hq.add hf
  refine xdc_v (xd_runI (As := []) (rest := []) hJ hR hJs hS ⟨hx, hb, hml, hown, hts⟩ (wkJ11_init l hl9 D dA ro G J hJ h0 n0 a0 g2) ⟨callB_of 0 hts (lw_meth q588) rfl rfl rfl (hts _ q155) (hts _ q586) cdJ11_init.2 ⟨Nat.le_of_ble_eq_true rfl, Nat.le_of_ble_eq_true rfl⟩, rfl, hts _ q587⟩ hK hH hl.1 rfl rfl (Nat.le_of_ble_eq_true rfl) dX7_init_1 ⟨hc9, hs9⟩) hH hR (by omega) hS (fun H locs hH hS => ?_)
  replace hn : (n0 + q1.2.2.1) = n0 + (0 + q1.2.2.1) := by omega
  refine lv_aload_n hx hb dX7_init_4 rfl (lv_at hl 0 rfl) ?_
  refine lv_iload_n hx hb dX7_init_5 rfl (lv_at hl 1 rfl) ?_
  obtain ⟨h4, g3, hf⟩ := ob_bind hf
  refine xd_putF hx hb hts in_X7 tyX7 tyX7_ok nmX7 hown hK hH hS (ci := 5) rfl 0 (by decide) (hts _ q590) (fun _ h => h) rfl (hname.trans rfl) rfl (v := .int a1) rfl rfl g3 dX7_init_6 (fun H locs hH hS => ?_)
  subst hQ
  exact xe_dv hx hb hr hlocks hH hn hS (hq.end (Option.some.inj hf)) dX7_init_9
theorem cdX8_init : yX8_init.cls = RX8 ∧ yX8_init.cls ≠ "java/lang/invoke/MethodHandle" ∧ yX8_init.cls ≠ "java/lang/invoke/VarHandle" ∧ (parseMethodDescriptor yX8_init.desc).map (fun d => d.parameters.length) = some 1 := by decide +kernel
set_option maxHeartbeats 4000000 in
set_option maxRecDepth 100000 in
theorem wkX8_init (l : Launch) (hl9 : l.stackTraces = false) (D : va_G) (dA : Nat → ClassId) (ro : Nat → Bool) (G : Gs) (J : State → Heap → Prop) (hJ : JD ro G J) (h0 : Hv) (n0 : Nat) (a0 : Nat) (a1 : Nat) {res : Unit × Hv × Nat × Nat} (hf : P_X8_init G ro h0 n0 a0 a1 = some res) : Met l yX8_init (ws_ yX8_init cX8_init 2 (none)) (rmD 2 80 res.2.2.1 res.2.2.2) (Pd D dA ro J [.ref a0, .ref a1] h0 n0) (Qdv D dA ro h0 n0 res) res.2.2.1 res.2.2.2 (fD ro h0 n0) := by
  refine xd_head (own := RX8) (by decide) rfl (Nat.le_of_ble_eq_true rfl) ?_
  intro p e s m args below meth c ls Q hQ hname C hn0 hH hl
  obtain ⟨hx, hb, hr, hlocks, hml, hown, hts, hK, hJs⟩ := C
  replace hl : lv_has ls 2 [(0, .ref a0), (1, .ref a1)] := hl
  have hS : va_S (fD ro h0 n0) s.heap s.heap [] := va_S.rf
  have hR : rD ro (fD ro h0 n0) n0 := fD_rD hH
  have hA9 : ∀ q, s.heap.size ≤ q → fD ro h0 n0 q := fun q hq => hR.2 q (hn0 ▸ hq)
  unfold P_X8_init at hf
  obtain ⟨r, er⟩ : ∃ r, r = res := ⟨_, rfl⟩
  have hq : qI r res 0 0 := by rw [er]; exact ⟨rfl, rfl, Nat.zero_add _, Nat.zero_add _⟩
  rw [← er] at hf
  have hn : n0 = n0 + 0 := rfl
  obtain ⟨H, eH⟩ : ∃ H, H = s.heap := ⟨_, rfl⟩
  obtain ⟨locs, eL⟩ : ∃ locs : List Loc, locs = [] := ⟨_, rfl⟩
  rw [← eL] at hS ⊢
  rw [← eH] at hH
  have hS : va_S (fD ro h0 n0) s.heap H locs := by rw [eH]; exact hS
  show W p l e (rmD 2 80 res.2.2.1 res.2.2.2) s m args below meth c s.heap locs 0 0 Q (F0 m 0 ls [])
  rw [← eH]
  clear er
  refine lv_aload_n hx hb dX8_init_0 rfl (lv_at hl 0 rfl) ?_
  obtain ⟨q1, g2, hf⟩ := ob_bind hf
  obtain ⟨r, hf, hq, hc9, hs9⟩ := hq.add hf
  refine xdc_v (xd_runI (As := []) (rest := []) hJ hR hJs hS ⟨hx, hb, hml, hown, hts⟩ (wkJ11_init l hl9 D dA ro G J hJ h0 n0 a0 g2) ⟨callB_of 0 hts (lw_meth q588) rfl rfl rfl (hts _ q155) (hts _ q621) cdJ11_init.2 ⟨Nat.le_of_ble_eq_true rfl, Nat.le_of_ble_eq_true rfl⟩, rfl, hts _ q587⟩ hK hH hl.1 rfl rfl (Nat.le_of_ble_eq_true rfl) dX8_init_1 ⟨hc9, hs9⟩) hH hR (by omega) hS (fun H locs hH hS => ?_)
  replace hn : (n0 + q1.2.2.1) = n0 + (0 + q1.2.2.1) := by omega
  refine lv_aload_n hx hb dX8_init_4 rfl (lv_at hl 0 rfl) ?_
  refine lv_aload_n hx hb dX8_init_5 rfl (lv_at hl 1 rfl) ?_
  obtain ⟨h4, g3, hf⟩ := ob_bind hf
  refine xd_putF hx hb hts in_X8 tyX8 tyX8_ok nmX8 hown hK hH hS (ci := 10) rfl 0 (by decide) (hts _ q622) (fun _ h => h) rfl (hname.trans rfl) rfl (v := .ref a1) rfl rfl g3 dX8_init_6 (fun H locs hH hS => ?_)
  subst hQ
  exact xe_dv hx hb hr hlocks hH hn hS (hq.end (Option.some.inj hf)) dX8_init_9
theorem cdX9_init : yX9_init.cls = RX9 ∧ yX9_init.cls ≠ "java/lang/invoke/MethodHandle" ∧ yX9_init.cls ≠ "java/lang/invoke/VarHandle" ∧ (parseMethodDescriptor yX9_init.desc).map (fun d => d.parameters.length) = some 3 := by decide +kernel
set_option maxHeartbeats 4000000 in
set_option maxRecDepth 100000 in
theorem wkX9_init (l : Launch) (hl9 : l.stackTraces = false) (D : va_G) (dA : Nat → ClassId) (ro : Nat → Bool) (G : Gs) (J : State → Heap → Prop) (hJ : JD ro G J) (h0 : Hv) (n0 : Nat) (a0 : Nat) (a1 : Int32) (a2 : Nat) (a3 : Nat) {res : Unit × Hv × Nat × Nat} (hf : P_X9_init G ro h0 n0 a0 a1 a2 a3 = some res) : Met l yX9_init (ws_ yX9_init cX9_init 4 (none)) (rmD 2 80 res.2.2.1 res.2.2.2) (Pd D dA ro J [.ref a0, .int a1, .ref a2, .ref a3] h0 n0) (Qdv D dA ro h0 n0 res) res.2.2.1 res.2.2.2 (fD ro h0 n0) := by
  refine xd_head (own := RX9) (by decide) rfl (Nat.le_of_ble_eq_true rfl) ?_
  intro p e s m args below meth c ls Q hQ hname C hn0 hH hl
  obtain ⟨hx, hb, hr, hlocks, hml, hown, hts, hK, hJs⟩ := C
  replace hl : lv_has ls 4 [(0, .ref a0), (1, .int a1), (2, .ref a2), (3, .ref a3)] := hl
  have hS : va_S (fD ro h0 n0) s.heap s.heap [] := va_S.rf
  have hR : rD ro (fD ro h0 n0) n0 := fD_rD hH
  have hA9 : ∀ q, s.heap.size ≤ q → fD ro h0 n0 q := fun q hq => hR.2 q (hn0 ▸ hq)
  unfold P_X9_init at hf
  obtain ⟨r, er⟩ : ∃ r, r = res := ⟨_, rfl⟩
  have hq : qI r res 0 0 := by rw [er]; exact ⟨rfl, rfl, Nat.zero_add _, Nat.zero_add _⟩
  rw [← er] at hf
  have hn : n0 = n0 + 0 := rfl
  obtain ⟨H, eH⟩ : ∃ H, H = s.heap := ⟨_, rfl⟩
  obtain ⟨locs, eL⟩ : ∃ locs : List Loc, locs = [] := ⟨_, rfl⟩
  rw [← eL] at hS ⊢
  rw [← eH] at hH
  have hS : va_S (fD ro h0 n0) s.heap H locs := by rw [eH]; exact hS
  show W p l e (rmD 2 80 res.2.2.1 res.2.2.2) s m args below meth c s.heap locs 0 0 Q (F0 m 0 ls [])
  rw [← eH]
  clear er
  refine lv_aload_n hx hb dX9_init_0 rfl (lv_at hl 0 rfl) ?_
  obtain ⟨q1, g2, hf⟩ := ob_bind hf
  obtain ⟨r, hf, hq, hc9, hs9⟩ := hq.add hf
  refine xdc_v (xd_runI (As := []) (rest := []) hJ hR hJs hS ⟨hx, hb, hml, hown, hts⟩ (wkJ11_init l hl9 D dA ro G J hJ h0 n0 a0 g2) ⟨callB_of 0 hts (lw_meth q588) rfl rfl rfl (hts _ q155) (hts _ q631) cdJ11_init.2 ⟨Nat.le_of_ble_eq_true rfl, Nat.le_of_ble_eq_true rfl⟩, rfl, hts _ q587⟩ hK hH hl.1 rfl rfl (Nat.le_of_ble_eq_true rfl) dX9_init_1 ⟨hc9, hs9⟩) hH hR (by omega) hS (fun H locs hH hS => ?_)
  replace hn : (n0 + q1.2.2.1) = n0 + (0 + q1.2.2.1) := by omega
  refine lv_aload_n hx hb dX9_init_4 rfl (lv_at hl 0 rfl) ?_
  refine lv_iload_n hx hb dX9_init_5 rfl (lv_at hl 1 rfl) ?_
  obtain ⟨h4, g3, hf⟩ := ob_bind hf
  refine xd_putF hx hb hts in_X9 tyX9 tyX9_ok nmX9 hown hK hH hS (ci := 9) rfl 0 (by decide) (hts _ q632) (fun _ h => h) rfl (hname.trans rfl) rfl (v := .int a1) rfl rfl g3 dX9_init_6 (fun H locs hH hS => ?_)
  refine lv_aload_n hx hb dX9_init_9 rfl (lv_at hl 0 rfl) ?_
  refine lv_aload_n hx hb dX9_init_10 rfl (lv_at hl 2 rfl) ?_
  obtain ⟨h6, g5, hf⟩ := ob_bind hf
  refine xd_putF hx hb hts in_X9 tyX9 tyX9_ok nmX9 hown hK hH hS (ci := 9) rfl 1 (by decide) (hts _ q633) (fun _ h => h) rfl (hname.trans rfl) rfl (v := .ref a2) rfl rfl g5 dX9_init_11 (fun H locs hH hS => ?_)
  refine lv_aload_n hx hb dX9_init_14 rfl (lv_at hl 0 rfl) ?_
  refine lv_aload_n hx hb dX9_init_15 rfl (lv_at hl 3 rfl) ?_
  obtain ⟨h8, g7, hf⟩ := ob_bind hf
  refine xd_putF hx hb hts in_X9 tyX9 tyX9_ok nmX9 hown hK hH hS (ci := 9) rfl 2 (by decide) (hts _ q634) (fun _ h => h) rfl (hname.trans rfl) rfl (v := .ref a3) rfl rfl g7 dX9_init_16 (fun H locs hH hS => ?_)
  subst hQ
  exact xe_dv hx hb hr hlocks hH hn hS (hq.end (Option.some.inj hf)) dX9_init_19
theorem cdX10_init : yX10_init.cls = RX10 ∧ yX10_init.cls ≠ "java/lang/invoke/MethodHandle" ∧ yX10_init.cls ≠ "java/lang/invoke/VarHandle" ∧ (parseMethodDescriptor yX10_init.desc).map (fun d => d.parameters.length) = some 2 := by decide +kernel
set_option maxHeartbeats 4000000 in
set_option maxRecDepth 100000 in
theorem wkX10_init (l : Launch) (hl9 : l.stackTraces = false) (D : va_G) (dA : Nat → ClassId) (ro : Nat → Bool) (G : Gs) (J : State → Heap → Prop) (hJ : JD ro G J) (h0 : Hv) (n0 : Nat) (a0 : Nat) (a1 : Int32) (a2 : Nat) {res : Unit × Hv × Nat × Nat} (hf : P_X10_init G ro h0 n0 a0 a1 a2 = some res) : Met l yX10_init (ws_ yX10_init cX10_init 3 (none)) (rmD 2 80 res.2.2.1 res.2.2.2) (Pd D dA ro J [.ref a0, .int a1, .ref a2] h0 n0) (Qdv D dA ro h0 n0 res) res.2.2.1 res.2.2.2 (fD ro h0 n0) := by
  refine xd_head (own := RX10) (by decide) rfl (Nat.le_of_ble_eq_true rfl) ?_
  intro p e s m args below meth c ls Q hQ hname C hn0 hH hl
  obtain ⟨hx, hb, hr, hlocks, hml, hown, hts, hK, hJs⟩ := C
  replace hl : lv_has ls 3 [(0, .ref a0), (1, .int a1), (2, .ref a2)] := hl
  have hS : va_S (fD ro h0 n0) s.heap s.heap [] := va_S.rf
  have hR : rD ro (fD ro h0 n0) n0 := fD_rD hH
  have hA9 : ∀ q, s.heap.size ≤ q → fD ro h0 n0 q := fun q hq => hR.2 q (hn0 ▸ hq)
  unfold P_X10_init at hf
  obtain ⟨r, er⟩ : ∃ r, r = res := ⟨_, rfl⟩
  have hq : qI r res 0 0 := by rw [er]; exact ⟨rfl, rfl, Nat.zero_add _, Nat.zero_add _⟩
  rw [← er] at hf
  have hn : n0 = n0 + 0 := rfl
  obtain ⟨H, eH⟩ : ∃ H, H = s.heap := ⟨_, rfl⟩
  obtain ⟨locs, eL⟩ : ∃ locs : List Loc, locs = [] := ⟨_, rfl⟩
  rw [← eL] at hS ⊢
  rw [← eH] at hH
  have hS : va_S (fD ro h0 n0) s.heap H locs := by rw [eH]; exact hS
  show W p l e (rmD 2 80 res.2.2.1 res.2.2.2) s m args below meth c s.heap locs 0 0 Q (F0 m 0 ls [])
  rw [← eH]
  clear er
  refine lv_aload_n hx hb dX10_init_0 rfl (lv_at hl 0 rfl) ?_
  obtain ⟨q1, g2, hf⟩ := ob_bind hf
  obtain ⟨r, hf, hq, hc9, hs9⟩ := hq.add hf
  refine xdc_v (xd_runI (As := []) (rest := []) hJ hR hJs hS ⟨hx, hb, hml, hown, hts⟩ (wkJ11_init l hl9 D dA ro G J hJ h0 n0 a0 g2) ⟨callB_of 0 hts (lw_meth q588) rfl rfl rfl (hts _ q155) (hts _ q726) cdJ11_init.2 ⟨Nat.le_of_ble_eq_true rfl, Nat.le_of_ble_eq_true rfl⟩, rfl, hts _ q587⟩ hK hH hl.1 rfl rfl (Nat.le_of_ble_eq_true rfl) dX10_init_1 ⟨hc9, hs9⟩) hH hR (by omega) hS (fun H locs hH hS => ?_)
  replace hn : (n0 + q1.2.2.1) = n0 + (0 + q1.2.2.1) := by omega
  refine lv_aload_n hx hb dX10_init_4 rfl (lv_at hl 0 rfl) ?_
  refine lv_iload_n hx hb dX10_init_5 rfl (lv_at hl 1 rfl) ?_
  obtain ⟨z5, hf⟩ := ob_gp hf
  obtain ⟨h4, g3, hf⟩ := ob_bind hf
  refine xd_putF hx hb hts in_X10 tyX10 tyX10_ok nmX10 hown hK hH hS (ci := 11) rfl 0 (by decide) (hts _ q727) (fun _ h => h) rfl (hname.trans rfl) rfl (v := .int a1) (xz_nar (of_decide_eq_true z5)) (xz_fit (of_decide_eq_true z5)) g3 dX10_init_6 (fun H locs hH hS => ?_)
  refine lv_aload_n hx hb dX10_init_9 rfl (lv_at hl 0 rfl) ?_
  refine lv_aload_n hx hb dX10_init_10 rfl (lv_at hl 2 rfl) ?_
  obtain ⟨h7, g6, hf⟩ := ob_bind hf
  refine xd_putF hx hb hts in_X10 tyX10 tyX10_ok nmX10 hown hK hH hS (ci := 11) rfl 1 (by decide) (hts _ q728) (fun _ h => h) rfl (hname.trans rfl) rfl (v := .ref a2) rfl rfl g6 dX10_init_11 (fun H locs hH hS => ?_)
  subst hQ
  exact xe_dv hx hb hr hlocks hH hn hS (hq.end (Option.some.inj hf)) dX10_init_14
theorem cdX11_init : yX11_init.cls = RX11 ∧ yX11_init.cls ≠ "java/lang/invoke/MethodHandle" ∧ yX11_init.cls ≠ "java/lang/invoke/VarHandle" ∧ (parseMethodDescriptor yX11_init.desc).map (fun d => d.parameters.length) = some 3 := by decide +kernel
set_option maxHeartbeats 4000000 in
set_option maxRecDepth 100000 in
theorem wkX11_init (l : Launch) (hl9 : l.stackTraces = false) (D : va_G) (dA : Nat → ClassId) (ro : Nat → Bool) (G : Gs) (J : State → Heap → Prop) (hJ : JD ro G J) (h0 : Hv) (n0 : Nat) (a0 : Nat) (a1 : Nat) (a2 : Nat) (a3 : Nat) {res : Unit × Hv × Nat × Nat} (hf : P_X11_init G ro h0 n0 a0 a1 a2 a3 = some res) : Met l yX11_init (ws_ yX11_init cX11_init 4 (none)) (rmD 2 80 res.2.2.1 res.2.2.2) (Pd D dA ro J [.ref a0, .ref a1, .ref a2, .ref a3] h0 n0) (Qdv D dA ro h0 n0 res) res.2.2.1 res.2.2.2 (fD ro h0 n0) := by
  refine xd_head (own := RX11) (by decide) rfl (Nat.le_of_ble_eq_true rfl) ?_
  intro p e s m args below meth c ls Q hQ hname C hn0 hH hl
  obtain ⟨hx, hb, hr, hlocks, hml, hown, hts, hK, hJs⟩ := C
  replace hl : lv_has ls 4 [(0, .ref a0), (1, .ref a1), (2, .ref a2), (3, .ref a3)] := hl
  have hS : va_S (fD ro h0 n0) s.heap s.heap [] := va_S.rf
  have hR : rD ro (fD ro h0 n0) n0 := fD_rD hH
  have hA9 : ∀ q, s.heap.size ≤ q → fD ro h0 n0 q := fun q hq => hR.2 q (hn0 ▸ hq)
  unfold P_X11_init at hf
  obtain ⟨r, er⟩ : ∃ r, r = res := ⟨_, rfl⟩
  have hq : qI r res 0 0 := by rw [er]; exact ⟨rfl, rfl, Nat.zero_add _, Nat.zero_add _⟩
  rw [← er] at hf
  have hn : n0 = n0 + 0 := rfl
  obtain ⟨H, eH⟩ : ∃ H, H = s.heap := ⟨_, rfl⟩
  obtain ⟨locs, eL⟩ : ∃ locs : List Loc, locs = [] := ⟨_, rfl⟩
  rw [← eL] at hS ⊢
  rw [← eH] at hH
  have hS : va_S (fD ro h0 n0) s.heap H locs := by rw [eH]; exact hS
  show W p l e (rmD 2 80 res.2.2.1 res.2.2.2) s m args below meth c s.heap locs 0 0 Q (F0 m 0 ls [])
  rw [← eH]
  clear er
  refine lv_aload_n hx hb dX11_init_0 rfl (lv_at hl 0 rfl) ?_
  obtain ⟨q1, g2, hf⟩ := ob_bind hf
  obtain ⟨r, hf, hq, hc9, hs9⟩ := hq.add hf
  refine xdc_v (xd_runI (As := []) (rest := []) hJ hR hJs hS ⟨hx, hb, hml, hown, hts⟩ (wkJ11_init l hl9 D dA ro G J hJ h0 n0 a0 g2) ⟨callB_of 0 hts (lw_meth q588) rfl rfl rfl (hts _ q155) (hts _ q743) cdJ11_init.2 ⟨Nat.le_of_ble_eq_true rfl, Nat.le_of_ble_eq_true rfl⟩, rfl, hts _ q587⟩ hK hH hl.1 rfl rfl (Nat.le_of_ble_eq_true rfl) dX11_init_1 ⟨hc9, hs9⟩) hH hR (by omega) hS (fun H locs hH hS => ?_)
  replace hn : (n0 + q1.2.2.1) = n0 + (0 + q1.2.2.1) := by omega
  refine lv_aload_n hx hb dX11_init_4 rfl (lv_at hl 0 rfl) ?_
  refine lv_aload_n hx hb dX11_init_5 rfl (lv_at hl 1 rfl) ?_
  obtain ⟨h4, g3, hf⟩ := ob_bind hf
  refine xd_putF hx hb hts in_X11 tyX11 tyX11_ok nmX11 hown hK hH hS (ci := 14) rfl 0 (by decide) (hts _ q744) (fun _ h => h) rfl (hname.trans rfl) rfl (v := .ref a1) rfl rfl g3 dX11_init_6 (fun H locs hH hS => ?_)
  refine lv_aload_n hx hb dX11_init_9 rfl (lv_at hl 0 rfl) ?_
  refine lv_aload_n hx hb dX11_init_10 rfl (lv_at hl 2 rfl) ?_
  obtain ⟨h6, g5, hf⟩ := ob_bind hf
  refine xd_putF hx hb hts in_X11 tyX11 tyX11_ok nmX11 hown hK hH hS (ci := 14) rfl 1 (by decide) (hts _ q745) (fun _ h => h) rfl (hname.trans rfl) rfl (v := .ref a2) rfl rfl g5 dX11_init_11 (fun H locs hH hS => ?_)
  refine lv_aload_n hx hb dX11_init_14 rfl (lv_at hl 0 rfl) ?_
  refine lv_aload_n hx hb dX11_init_15 rfl (lv_at hl 3 rfl) ?_
  obtain ⟨h8, g7, hf⟩ := ob_bind hf
  refine xd_putF hx hb hts in_X11 tyX11 tyX11_ok nmX11 hown hK hH hS (ci := 14) rfl 2 (by decide) (hts _ q746) (fun _ h => h) rfl (hname.trans rfl) rfl (v := .ref a3) rfl rfl g7 dX11_init_16 (fun H locs hH hS => ?_)
  subst hQ
  exact xe_dv hx hb hr hlocks hH hn hS (hq.end (Option.some.inj hf)) dX11_init_19
theorem cdX12_init : yX12_init.cls = RX12 ∧ yX12_init.cls ≠ "java/lang/invoke/MethodHandle" ∧ yX12_init.cls ≠ "java/lang/invoke/VarHandle" ∧ (parseMethodDescriptor yX12_init.desc).map (fun d => d.parameters.length) = some 2 := by decide +kernel
set_option maxHeartbeats 4000000 in
set_option maxRecDepth 100000 in
theorem wkX12_init (l : Launch) (hl9 : l.stackTraces = false) (D : va_G) (dA : Nat → ClassId) (ro : Nat → Bool) (G : Gs) (J : State → Heap → Prop) (hJ : JD ro G J) (h0 : Hv) (n0 : Nat) (a0 : Nat) (a1 : Nat) (a2 : Nat) {res : Unit × Hv × Nat × Nat} (hf : P_X12_init G ro h0 n0 a0 a1 a2 = some res) : Met l yX12_init (ws_ yX12_init cX12_init 3 (none)) (rmD 2 80 res.2.2.1 res.2.2.2) (Pd D dA ro J [.ref a0, .ref a1, .ref a2] h0 n0) (Qdv D dA ro h0 n0 res) res.2.2.1 res.2.2.2 (fD ro h0 n0) := by
  refine xd_head (own := RX12) (by decide) rfl (Nat.le_of_ble_eq_true rfl) ?_
  intro p e s m args below meth c ls Q hQ hname C hn0 hH hl
  obtain ⟨hx, hb, hr, hlocks, hml, hown, hts, hK, hJs⟩ := C
  replace hl : lv_has ls 3 [(0, .ref a0), (1, .ref a1), (2, .ref a2)] := hl
  have hS : va_S (fD ro h0 n0) s.heap s.heap [] := va_S.rf
  have hR : rD ro (fD ro h0 n0) n0 := fD_rD hH
  have hA9 : ∀ q, s.heap.size ≤ q → fD ro h0 n0 q := fun q hq => hR.2 q (hn0 ▸ hq)
  unfold P_X12_init at hf
  obtain ⟨r, er⟩ : ∃ r, r = res := ⟨_, rfl⟩
  have hq : qI r res 0 0 := by rw [er]; exact ⟨rfl, rfl, Nat.zero_add _, Nat.zero_add _⟩
  rw [← er] at hf
  have hn : n0 = n0 + 0 := rfl
  obtain ⟨H, eH⟩ : ∃ H, H = s.heap := ⟨_, rfl⟩
  obtain ⟨locs, eL⟩ : ∃ locs : List Loc, locs = [] := ⟨_, rfl⟩
  rw [← eL] at hS ⊢
  rw [← eH] at hH
  have hS : va_S (fD ro h0 n0) s.heap H locs := by rw [eH]; exact hS
  show W p l e (rmD 2 80 res.2.2.1 res.2.2.2) s m args below meth c s.heap locs 0 0 Q (F0 m 0 ls [])
  rw [← eH]
  clear er
  refine lv_aload_n hx hb dX12_init_0 rfl (lv_at hl 0 rfl) ?_
  obtain ⟨q1, g2, hf⟩ := ob_bind hf
  obtain ⟨r, hf, hq, hc9, hs9⟩ := hq.add hf
  refine xdc_v (xd_runI (As := []) (rest := []) hJ hR hJs hS ⟨hx, hb, hml, hown, hts⟩ (wkJ11_init l hl9 D dA ro G J hJ h0 n0 a0 g2) ⟨callB_of 0 hts (lw_meth q588) rfl rfl rfl (hts _ q155) (hts _ q763) cdJ11_init.2 ⟨Nat.le_of_ble_eq_true rfl, Nat.le_of_ble_eq_true rfl⟩, rfl, hts _ q587⟩ hK hH hl.1 rfl rfl (Nat.le_of_ble_eq_true rfl) dX12_init_1 ⟨hc9, hs9⟩) hH hR (by omega) hS (fun H locs hH hS => ?_)
  replace hn : (n0 + q1.2.2.1) = n0 + (0 + q1.2.2.1) := by omega
  refine lv_aload_n hx hb dX12_init_4 rfl (lv_at hl 0 rfl) ?_
  refine lv_aload_n hx hb dX12_init_5 rfl (lv_at hl 1 rfl) ?_
  obtain ⟨h4, g3, hf⟩ := ob_bind hf
  refine xd_putF hx hb hts in_X12 tyX12 tyX12_ok nmX12 hown hK hH hS (ci := 12) rfl 0 (by decide) (hts _ q764) (fun _ h => h) rfl (hname.trans rfl) rfl (v := .ref a1) rfl rfl g3 dX12_init_6 (fun H locs hH hS => ?_)
  refine lv_aload_n hx hb dX12_init_9 rfl (lv_at hl 0 rfl) ?_
  refine lv_aload_n hx hb dX12_init_10 rfl (lv_at hl 2 rfl) ?_
  obtain ⟨h6, g5, hf⟩ := ob_bind hf
  refine xd_putF hx hb hts in_X12 tyX12 tyX12_ok nmX12 hown hK hH hS (ci := 12) rfl 1 (by decide) (hts _ q765) (fun _ h => h) rfl (hname.trans rfl) rfl (v := .ref a2) rfl rfl g5 dX12_init_11 (fun H locs hH hS => ?_)
  subst hQ
  exact xe_dv hx hb hr hlocks hH hn hS (hq.end (Option.some.inj hf)) dX12_init_14
theorem cdX13_init : yX13_init.cls = RX13 ∧ yX13_init.cls ≠ "java/lang/invoke/MethodHandle" ∧ yX13_init.cls ≠ "java/lang/invoke/VarHandle" ∧ (parseMethodDescriptor yX13_init.desc).map (fun d => d.parameters.length) = some 1 := by decide +kernel
set_option maxHeartbeats 4000000 in
set_option maxRecDepth 100000 in
theorem wkX13_init (l : Launch) (hl9 : l.stackTraces = false) (D : va_G) (dA : Nat → ClassId) (ro : Nat → Bool) (G : Gs) (J : State → Heap → Prop) (hJ : JD ro G J) (h0 : Hv) (n0 : Nat) (a0 : Nat) (a1 : Int32) {res : Unit × Hv × Nat × Nat} (hf : P_X13_init G ro h0 n0 a0 a1 = some res) : Met l yX13_init (ws_ yX13_init cX13_init 2 (none)) (rmD 2 80 res.2.2.1 res.2.2.2) (Pd D dA ro J [.ref a0, .int a1] h0 n0) (Qdv D dA ro h0 n0 res) res.2.2.1 res.2.2.2 (fD ro h0 n0) := by
  refine xd_head (own := RX13) (by decide) rfl (Nat.le_of_ble_eq_true rfl) ?_
  intro p e s m args below meth c ls Q hQ hname C hn0 hH hl
  obtain ⟨hx, hb, hr, hlocks, hml, hown, hts, hK, hJs⟩ := C
  replace hl : lv_has ls 2 [(0, .ref a0), (1, .int a1)] := hl
  have hS : va_S (fD ro h0 n0) s.heap s.heap [] := va_S.rf
  have hR : rD ro (fD ro h0 n0) n0 := fD_rD hH
  have hA9 : ∀ q, s.heap.size ≤ q → fD ro h0 n0 q := fun q hq => hR.2 q (hn0 ▸ hq)
  unfold P_X13_init at hf
  obtain ⟨r, er⟩ : ∃ r, r = res := ⟨_, rfl⟩
  have hq : qI r res 0 0 := by rw [er]; exact ⟨rfl, rfl, Nat.zero_add _, Nat.zero_add _⟩
  rw [← er] at hf
  have hn : n0 = n0 + 0 := rfl
  obtain ⟨H, eH⟩ : ∃ H, H = s.heap := ⟨_, rfl⟩
  obtain ⟨locs, eL⟩ : ∃ locs : List Loc, locs = [] := ⟨_, rfl⟩
  rw [← eL] at hS ⊢
  rw [← eH] at hH
  have hS : va_S (fD ro h0 n0) s.heap H locs := by rw [eH]; exact hS
  show W p l e (rmD 2 80 res.2.2.1 res.2.2.2) s m args below meth c s.heap locs 0 0 Q (F0 m 0 ls [])
  rw [← eH]
  clear er
  refine lv_aload_n hx hb dX13_init_0 rfl (lv_at hl 0 rfl) ?_
  obtain ⟨q1, g2, hf⟩ := ob_bind hf
  obtain ⟨r, hf, hq, hc9, hs9⟩ := hq.add hf
  refine xdc_v (xd_runI (As := []) (rest := []) hJ hR hJs hS ⟨hx, hb, hml, hown, hts⟩ (wkJ11_init l hl9 D dA ro G J hJ h0 n0 a0 g2) ⟨callB_of 0 hts (lw_meth q588) rfl rfl rfl (hts _ q155) (hts _ q786) cdJ11_init.2 ⟨Nat.le_of_ble_eq_true rfl, Nat.le_of_ble_eq_true rfl⟩, rfl, hts _ q587⟩ hK hH hl.1 rfl rfl (Nat.le_of_ble_eq_true rfl) dX13_init_1 ⟨hc9, hs9⟩) hH hR (by omega) hS (fun H locs hH hS => ?_)
  replace hn : (n0 + q1.2.2.1) = n0 + (0 + q1.2.2.1) := by omega
  refine lv_aload_n hx hb dX13_init_4 rfl (lv_at hl 0 rfl) ?_
  refine lv_iload_n hx hb dX13_init_5 rfl (lv_at hl 1 rfl) ?_
  obtain ⟨h4, g3, hf⟩ := ob_bind hf
  refine xd_putF hx hb hts in_X13 tyX13 tyX13_ok nmX13 hown hK hH hS (ci := 6) rfl 0 (by decide) (hts _ q787) (fun _ h => h) rfl (hname.trans rfl) rfl (v := .int a1) rfl rfl g3 dX13_init_6 (fun H locs hH hS => ?_)
  subst hQ
  exact xe_dv hx hb hr hlocks hH hn hS (hq.end (Option.some.inj hf)) dX13_init_9
theorem cdX14_init : yX14_init.cls = RX14 ∧ yX14_init.cls ≠ "java/lang/invoke/MethodHandle" ∧ yX14_init.cls ≠ "java/lang/invoke/VarHandle" ∧ (parseMethodDescriptor yX14_init.desc).map (fun d => d.parameters.length) = some 1 := by decide +kernel
set_option maxHeartbeats 4000000 in
set_option maxRecDepth 100000 in
theorem wkX14_init (l : Launch) (hl9 : l.stackTraces = false) (D : va_G) (dA : Nat → ClassId) (ro : Nat → Bool) (G : Gs) (J : State → Heap → Prop) (hJ : JD ro G J) (h0 : Hv) (n0 : Nat) (a0 : Nat) (a1 : Nat) {res : Unit × Hv × Nat × Nat} (hf : P_X14_init G ro h0 n0 a0 a1 = some res) : Met l yX14_init (ws_ yX14_init cX14_init 2 (none)) (rmD 2 80 res.2.2.1 res.2.2.2) (Pd D dA ro J [.ref a0, .ref a1] h0 n0) (Qdv D dA ro h0 n0 res) res.2.2.1 res.2.2.2 (fD ro h0 n0) := by
  refine xd_head (own := RX14) (by decide) rfl (Nat.le_of_ble_eq_true rfl) ?_
  intro p e s m args below meth c ls Q hQ hname C hn0 hH hl
  obtain ⟨hx, hb, hr, hlocks, hml, hown, hts, hK, hJs⟩ := C
  replace hl : lv_has ls 2 [(0, .ref a0), (1, .ref a1)] := hl
  have hS : va_S (fD ro h0 n0) s.heap s.heap [] := va_S.rf
  have hR : rD ro (fD ro h0 n0) n0 := fD_rD hH
  have hA9 : ∀ q, s.heap.size ≤ q → fD ro h0 n0 q := fun q hq => hR.2 q (hn0 ▸ hq)
  unfold P_X14_init at hf
  obtain ⟨r, er⟩ : ∃ r, r = res := ⟨_, rfl⟩
  have hq : qI r res 0 0 := by rw [er]; exact ⟨rfl, rfl, Nat.zero_add _, Nat.zero_add _⟩
  rw [← er] at hf
  have hn : n0 = n0 + 0 := rfl
  obtain ⟨H, eH⟩ : ∃ H, H = s.heap := ⟨_, rfl⟩
  obtain ⟨locs, eL⟩ : ∃ locs : List Loc, locs = [] := ⟨_, rfl⟩
  rw [← eL] at hS ⊢
  rw [← eH] at hH
  have hS : va_S (fD ro h0 n0) s.heap H locs := by rw [eH]; exact hS
  show W p l e (rmD 2 80 res.2.2.1 res.2.2.2) s m args below meth c s.heap locs 0 0 Q (F0 m 0 ls [])
  rw [← eH]
  clear er
  refine lv_aload_n hx hb dX14_init_0 rfl (lv_at hl 0 rfl) ?_
  obtain ⟨q1, g2, hf⟩ := ob_bind hf
  obtain ⟨r, hf, hq, hc9, hs9⟩ := hq.add hf
  refine xdc_v (xd_runI (As := []) (rest := []) hJ hR hJs hS ⟨hx, hb, hml, hown, hts⟩ (wkJ11_init l hl9 D dA ro G J hJ h0 n0 a0 g2) ⟨callB_of 0 hts (lw_meth q588) rfl rfl rfl (hts _ q155) (hts _ q796) cdJ11_init.2 ⟨Nat.le_of_ble_eq_true rfl, Nat.le_of_ble_eq_true rfl⟩, rfl, hts _ q587⟩ hK hH hl.1 rfl rfl (Nat.le_of_ble_eq_true rfl) dX14_init_1 ⟨hc9, hs9⟩) hH hR (by omega) hS (fun H locs hH hS => ?_)
  replace hn : (n0 + q1.2.2.1) = n0 + (0 + q1.2.2.1) := by omega
  refine lv_aload_n hx hb dX14_init_4 rfl (lv_at hl 0 rfl) ?_
  refine lv_aload_n hx hb dX14_init_5 rfl (lv_at hl 1 rfl) ?_
  obtain ⟨h4, g3, hf⟩ := ob_bind hf
  refine xd_putF hx hb hts in_X14 tyX14 tyX14_ok nmX14 hown hK hH hS (ci := 13) rfl 0 (by decide) (hts _ q797) (fun _ h => h) rfl (hname.trans rfl) rfl (v := .ref a1) rfl rfl g3 dX14_init_6 (fun H locs hH hS => ?_)
  subst hQ
  exact xe_dv hx hb hr hlocks hH hn hS (hq.end (Option.some.inj hf)) dX14_init_9
theorem cdX15_init : yX15_init.cls = RX15 ∧ yX15_init.cls ≠ "java/lang/invoke/MethodHandle" ∧ yX15_init.cls ≠ "java/lang/invoke/VarHandle" ∧ (parseMethodDescriptor yX15_init.desc).map (fun d => d.parameters.length) = some 1 := by decide +kernel
set_option maxHeartbeats 4000000 in
set_option maxRecDepth 100000 in
theorem wkX15_init (l : Launch) (hl9 : l.stackTraces = false) (D : va_G) (dA : Nat → ClassId) (ro : Nat → Bool) (G : Gs) (J : State → Heap → Prop) (hJ : JD ro G J) (h0 : Hv) (n0 : Nat) (a0 : Nat) (a1 : Nat) {res : Unit × Hv × Nat × Nat} (hf : P_X15_init G ro h0 n0 a0 a1 = some res) : Met l yX15_init (ws_ yX15_init cX15_init 2 (none)) (rmD 2 80 res.2.2.1 res.2.2.2) (Pd D dA ro J [.ref a0, .ref a1] h0 n0) (Qdv D dA ro h0 n0 res) res.2.2.1 res.2.2.2 (fD ro h0 n0) := by
  refine xd_head (own := RX15) (by decide) rfl (Nat.le_of_ble_eq_true rfl) ?_
  intro p e s m args below meth c ls Q hQ hname C hn0 hH hl
  obtain ⟨hx, hb, hr, hlocks, hml, hown, hts, hK, hJs⟩ := C
  replace hl : lv_has ls 2 [(0, .ref a0), (1, .ref a1)] := hl
  have hS : va_S (fD ro h0 n0) s.heap s.heap [] := va_S.rf
  have hR : rD ro (fD ro h0 n0) n0 := fD_rD hH
  have hA9 : ∀ q, s.heap.size ≤ q → fD ro h0 n0 q := fun q hq => hR.2 q (hn0 ▸ hq)
  unfold P_X15_init at hf
  obtain ⟨r, er⟩ : ∃ r, r = res := ⟨_, rfl⟩
  have hq : qI r res 0 0 := by rw [er]; exact ⟨rfl, rfl, Nat.zero_add _, Nat.zero_add _⟩
  rw [← er] at hf
  have hn : n0 = n0 + 0 := rfl
  obtain ⟨H, eH⟩ : ∃ H, H = s.heap := ⟨_, rfl⟩
  obtain ⟨locs, eL⟩ : ∃ locs : List Loc, locs = [] := ⟨_, rfl⟩
  rw [← eL] at hS ⊢
  rw [← eH] at hH
  have hS : va_S (fD ro h0 n0) s.heap H locs := by rw [eH]; exact hS
  show W p l e (rmD 2 80 res.2.2.1 res.2.2.2) s m args below meth c s.heap locs 0 0 Q (F0 m 0 ls [])
  rw [← eH]
  clear er
  refine lv_aload_n hx hb dX15_init_0 rfl (lv_at hl 0 rfl) ?_
  obtain ⟨q1, g2, hf⟩ := ob_bind hf
  obtain ⟨r, hf, hq, hc9, hs9⟩ := hq.add hf
  refine xdc_v (xd_runI (As := []) (rest := []) hJ hR hJs hS ⟨hx, hb, hml, hown, hts⟩ (wkJ11_init l hl9 D dA ro G J hJ h0 n0 a0 g2) ⟨callB_of 0 hts (lw_meth q588) rfl rfl rfl (hts _ q155) (hts _ q806) cdJ11_init.2 ⟨Nat.le_of_ble_eq_true rfl, Nat.le_of_ble_eq_true rfl⟩, rfl, hts _ q587⟩ hK hH hl.1 rfl rfl (Nat.le_of_ble_eq_true rfl) dX15_init_1 ⟨hc9, hs9⟩) hH hR (by omega) hS (fun H locs hH hS => ?_)
  replace hn : (n0 + q1.2.2.1) = n0 + (0 + q1.2.2.1) := by omega
  refine lv_aload_n hx hb dX15_init_4 rfl (lv_at hl 0 rfl) ?_
  refine lv_aload_n hx hb dX15_init_5 rfl (lv_at hl 1 rfl) ?_
  obtain ⟨h4, g3, hf⟩ := ob_bind hf
  refine xd_putF hx hb hts in_X15 tyX15 tyX15_ok nmX15 hown hK hH hS (ci := 7) rfl 0 (by decide) (hts _ q807) (fun _ h => h) rfl (hname.trans rfl) rfl (v := .ref a1) rfl rfl g3 dX15_init_6 (fun H locs hH hS => ?_)
  subst hQ
  exact xe_dv hx hb hr hlocks hH hn hS (hq.end (Option.some.inj hf)) dX15_init_9
theorem cdX6_add : yX6_add.cls = RX6 ∧ yX6_add.cls ≠ "java/lang/invoke/MethodHandle" ∧ yX6_add.cls ≠ "java/lang/invoke/VarHandle" ∧ (parseMethodDescriptor yX6_add.desc).map (fun d => d.parameters.length) = some 2 := by decide +kernel
set_option maxHeartbeats 4000000 in
set_option maxRecDepth 100000 in
theorem wkX6_add (l : Launch) (hl9 : l.stackTraces = false) (D : va_G) (dA : Nat → ClassId) (ro : Nat → Bool) (G : Gs) (J : State → Heap → Prop) (hJ : JD ro G J) (h0 : Hv) (n0 : Nat) (a0 : Nat) (a1 : Int32) (a2 : Nat) {res : Unit × Hv × Nat × Nat} (hf : P_X6_add G ro h0 n0 a0 a1 a2 = some res) : Met l yX6_add (ws_ yX6_add cX6_add 3 (none)) (rmD 7 191 res.2.2.1 res.2.2.2) (Pd D dA ro J [.ref a0, .int a1, .ref a2] h0 n0) (Qdv D dA ro h0 n0 res) res.2.2.1 res.2.2.2 (fD ro h0 n0) := by
  refine xd_head (own := RX6) (by decide) rfl (Nat.le_of_ble_eq_true rfl) ?_
  intro p e s m args below meth c ls Q hQ hname C hn0 hH hl
  obtain ⟨hx, hb, hr, hlocks, hml, hown, hts, hK, hJs⟩ := C
  replace hl : lv_has ls 3 [(0, .ref a0), (1, .int a1), (2, .ref a2)] := hl
  have hS : va_S (fD ro h0 n0) s.heap s.heap [] := va_S.rf
  have hR : rD ro (fD ro h0 n0) n0 := fD_rD hH
  have hA9 : ∀ q, s.heap.size ≤ q → fD ro h0 n0 q := fun q hq => hR.2 q (hn0 ▸ hq)
  unfold P_X6_add at hf
  obtain ⟨r, er⟩ : ∃ r, r = res := ⟨_, rfl⟩
  have hq : qI r res 0 0 := by rw [er]; exact ⟨rfl, rfl, Nat.zero_add _, Nat.zero_add _⟩
  rw [← er] at hf
  have hn : n0 = n0 + 0 := rfl
  obtain ⟨H, eH⟩ : ∃ H, H = s.heap := ⟨_, rfl⟩
  obtain ⟨locs, eL⟩ : ∃ locs : List Loc, locs = [] := ⟨_, rfl⟩
  rw [← eL] at hS ⊢
  rw [← eH] at hH
  have hS : va_S (fD ro h0 n0) s.heap H locs := by rw [eH]; exact hS
  show W p l e (rmD 7 191 res.2.2.1 res.2.2.2) s m args below meth c s.heap locs 0 0 Q (F0 m 0 ls [])
  rw [← eH]
  clear er
  refine lv_aload_n hx hb dX6_add_0 rfl (lv_at hl 0 rfl) ?_
  obtain ⟨r2, g1, hf⟩ := ob_bind hf
  refine xh_getr hx hb hts in_X6 hown hK hH.1 (ci := 8) rfl 2 (by decide) (hts _ q819) (fun _ h => h) g1 dX6_add_1 ?_
  refine lv_iload_n hx hb dX6_add_4 rfl (lv_at hl 1 rfl) ?_
  obtain ⟨q3, g4, hf⟩ := ob_bind hf
  obtain ⟨r, hf, hq, hc9, hs9⟩ := hq.add hf
  refine xdc_a (xd_runS (As := [.int a1]) (rest := [.ref r2]) hJ hR hJs hS ⟨hx, hb, hml, hown, hts⟩ (wkJ15_valueOf l hl9 D dA ro G J hJ h0 n0 a1 g4) (va_cwS 1 hts (lw_S q831 q832 q168 q833) rfl rfl rfl cdJ15_valueOf.2 ⟨Nat.le_of_ble_eq_true rfl, Nat.le_of_ble_eq_true rfl⟩) hK hH hl.1 rfl rfl (Nat.le_of_ble_eq_true rfl) dX6_add_5 ⟨hc9, hs9⟩) hH hR (by omega) hS (fun H locs hH hS => ?_)
  replace hn : (n0 + q3.2.2.1) = n0 + (0 + q3.2.2.1) := by omega
  obtain ⟨g7, hf⟩ := ob_gp hf
  obtain ⟨q5, g6, hf⟩ := ob_bind hf
  obtain ⟨r, hf, hq, hc9, hs9⟩ := hq.add hf
  refine xdc_z (xd_run (As := [.ref q3.1]) (rest := []) hJ hR hJs hS ⟨hx, hb, hml, hown, hts⟩ (wkJ3_add l hl9 D dA ro G J hJ q3.2.1 (n0 + q3.2.2.1) r2 q3.1 g6) (cwV 1 hts (lw_V q851 q643 q644 q145 q645) rfl rfl rfl cdJ3_add ⟨Nat.le_of_ble_eq_true rfl, Nat.le_of_ble_eq_true rfl⟩) hK hH (of_decide_eq_true g7) (q := (RJ3, TJ3, 3)) rfl rfl hl.1 rfl rfl (Nat.le_of_ble_eq_true rfl) dX6_add_8 ⟨hc9, hs9⟩) hH hR (by omega) hS (fun H locs zq5 hH hS => ?_)
  replace hn : ((n0 + q3.2.2.1) + q5.2.2.1) = n0 + ((0 + q3.2.2.1) + q5.2.2.1) := by omega
  refine lv_pop hx hb dX6_add_11 rfl ?_
  refine lv_aload_n hx hb dX6_add_12 rfl (lv_at hl 0 rfl) ?_
  obtain ⟨r9, g8, hf⟩ := ob_bind hf
  refine xh_getr hx hb hts in_X6 hown hK hH.1 (ci := 8) rfl 1 (by decide) (hts _ q818) (fun _ h => h) g8 dX6_add_13 ?_
  refine lv_aload_n hx hb dX6_add_16 rfl (lv_at hl 2 rfl) ?_
  obtain ⟨g12, hf⟩ := ob_gp hf
  obtain ⟨q10, g11, hf⟩ := ob_bind hf
  obtain ⟨r, hf, hq, hc9, hs9⟩ := hq.add hf
  refine xdc_z (xd_run (As := [.ref a2]) (rest := []) hJ hR hJs hS ⟨hx, hb, hml, hown, hts⟩ (wkJ3_add l hl9 D dA ro G J hJ q5.2.1 ((n0 + q3.2.2.1) + q5.2.2.1) r9 a2 g11) (cwV 1 hts (lw_V q851 q643 q644 q145 q645) rfl rfl rfl cdJ3_add ⟨Nat.le_of_ble_eq_true rfl, Nat.le_of_ble_eq_true rfl⟩) hK hH (of_decide_eq_true g12) (q := (RJ3, TJ3, 3)) rfl rfl hl.1 rfl rfl (Nat.le_of_ble_eq_true rfl) dX6_add_17 ⟨hc9, hs9⟩) hH hR (by omega) hS (fun H locs zq10 hH hS => ?_)
  replace hn : (((n0 + q3.2.2.1) + q5.2.2.1) + q10.2.2.1) = n0 + (((0 + q3.2.2.1) + q5.2.2.1) + q10.2.2.1) := by omega
  refine lv_pop hx hb dX6_add_20 rfl ?_
  subst hQ
  exact xe_dv hx hb hr hlocks hH hn hS (hq.end (Option.some.inj hf)) dX6_add_21
theorem cdX6_itself : yX6_itself.cls = RX6 ∧ yX6_itself.cls ≠ "java/lang/invoke/MethodHandle" ∧ yX6_itself.cls ≠ "java/lang/invoke/VarHandle" ∧ (parseMethodDescriptor yX6_itself.desc).map (fun d => d.parameters.length) = some 0 := by decide +kernel
set_option maxHeartbeats 4000000 in
set_option maxRecDepth 100000 in
theorem wkX6_itself (l : Launch) (hl9 : l.stackTraces = false) (D : va_G) (dA : Nat → ClassId) (ro : Nat → Bool) (G : Gs) (J : State → Heap → Prop) (hJ : JD ro G J) (h0 : Hv) (n0 : Nat) (a0 : Nat) {res : Nat × Hv × Nat × Nat} (hf : P_X6_itself G ro h0 n0 a0 = some res) : Met l yX6_itself (ws_ yX6_itself cX6_itself 1 (some (Jvm.ClassFile.FieldType.object "QuarrelsPawned$Sum"))) (rmD 1 20 res.2.2.1 res.2.2.2) (Pd D dA ro J [.ref a0] h0 n0) (Qda D dA ro h0 n0 res) res.2.2.1 res.2.2.2 (fD ro h0 n0) := by
  refine xd_head (own := RX6) (by decide) rfl (Nat.le_of_ble_eq_true rfl) ?_
  intro p e s m args below meth c ls Q hQ hname C hn0 hH hl
  obtain ⟨hx, hb, hr, hlocks, hml, hown, hts, hK, hJs⟩ := C
  replace hl : lv_has ls 1 [(0, .ref a0)] := hl
  have hS : va_S (fD ro h0 n0) s.heap s.heap [] := va_S.rf
  have hR : rD ro (fD ro h0 n0) n0 := fD_rD hH
  have hA9 : ∀ q, s.heap.size ≤ q → fD ro h0 n0 q := fun q hq => hR.2 q (hn0 ▸ hq)
  unfold P_X6_itself at hf
  obtain ⟨r, er⟩ : ∃ r, r = res := ⟨_, rfl⟩
  have hq : qI r res 0 0 := by rw [er]; exact ⟨rfl, rfl, Nat.zero_add _, Nat.zero_add _⟩
  rw [← er] at hf
  have hn : n0 = n0 + 0 := rfl
  obtain ⟨H, eH⟩ : ∃ H, H = s.heap := ⟨_, rfl⟩
  obtain ⟨locs, eL⟩ : ∃ locs : List Loc, locs = [] := ⟨_, rfl⟩
  rw [← eL] at hS ⊢
  rw [← eH] at hH
  have hS : va_S (fD ro h0 n0) s.heap H locs := by rw [eH]; exact hS
  show W p l e (rmD 1 20 res.2.2.1 res.2.2.2) s m args below meth c s.heap locs 0 0 Q (F0 m 0 ls [])
  rw [← eH]
  clear er
  refine lv_aload_n hx hb dX6_itself_0 rfl (lv_at hl 0 rfl) ?_
  obtain ⟨r2, g1, hf⟩ := ob_bind hf
  refine xh_getr hx hb hts in_X6 hown hK hH.1 (ci := 8) rfl 1 (by decide) (hts _ q818) (fun _ h => h) g1 dX6_itself_1 ?_
  obtain ⟨g5, hf⟩ := ob_gp hf
  obtain ⟨q3, g4, hf⟩ := ob_bind hf
  refine xdr_z (xd_runR (As := []) (rest := []) hJ hR hJs hS ⟨hx, hb, hml, hown, hts⟩ (wkJ3_isEmpty l D dA J hJ.jr h0 r2 g4) (cwV 0 hts (lw_V q856 q857 q858 q145 q859) rfl rfl rfl cdJ3_isEmpty ⟨Nat.le_of_ble_eq_true rfl, Nat.le_of_ble_eq_true rfl⟩) hK hH (of_decide_eq_true g5) (q := (RJ3, TJ3, 3)) rfl rfl hl.1 rfl rfl (Nat.le_of_ble_eq_true rfl) dX6_itself_4 ⟨(xg_le0 hq).1, (xg_le0 hq).2⟩) hH (by rw [hn0]; exact hn) hS (fun H locs zq3 hH hS => ?_)
  refine lv_if_eq (tgt := 17) hx hb dX6_itself_7 (by decide) (fun c6 => ?_) (fun c6 => ?_)
  · replace hf := ob_t hf c6
    refine lv_aload_n hx hb dX6_itself_17 rfl (lv_at hl 0 rfl) ?_
    subst hQ
    exact xe_da (Or.inl ⟨_, rfl⟩) hx hb hr hlocks hH hn hS (hq.end (Option.some.inj hf)) dX6_itself_18
  · replace hf := ob_f hf c6
    refine lv_aload_n hx hb dX6_itself_10 rfl (lv_at hl 0 rfl) ?_
    obtain ⟨r8, g7, hf⟩ := ob_bind hf
    refine xh_getr hx hb hts in_X6 hown hK hH.1 (ci := 8) rfl 0 (by decide) (hts _ q817) (fun _ h => h) g7 dX6_itself_11 ?_
    refine lv_goto (tgt := 18) hx hb dX6_itself_14 (by decide) ?_
    subst hQ
    exact xe_da (Or.inl ⟨_, rfl⟩) hx hb hr hlocks hH hn hS (hq.end (Option.some.inj hf)) dX6_itself_18
theorem cdX3_init : yX3_init.cls = RX3 ∧ yX3_init.cls ≠ "java/lang/invoke/MethodHandle" ∧ yX3_init.cls ≠ "java/lang/invoke/VarHandle" ∧ (parseMethodDescriptor yX3_init.desc).map (fun d => d.parameters.length) = some 2 := by decide +kernel
set_option maxHeartbeats 4000000 in
set_option maxRecDepth 100000 in
theorem wkX3_init (l : Launch) (hl9 : l.stackTraces = false) (D : va_G) (dA : Nat → ClassId) (ro : Nat → Bool) (G : Gs) (J : State → Heap → Prop) (hJ : JD ro G J) (h0 : Hv) (n0 : Nat) (a0 : Nat) (a1 : Nat) (a2 : Int32) {res : Unit × Hv × Nat × Nat} (hf : P_X3_init G ro h0 n0 a0 a1 a2 = some res) : Met l yX3_init (ws_ yX3_init cX3_init 3 (none)) (rmD 1 60 res.2.2.1 res.2.2.2) (Pd D dA ro J [.ref a0, .ref a1, .int a2] h0 n0) (Qdv D dA ro h0 n0 res) res.2.2.1 res.2.2.2 (fD ro h0 n0) := by
  refine xd_head (own := RX3) (by decide) rfl (Nat.le_of_ble_eq_true rfl) ?_
  intro p e s m args below meth c ls Q hQ hname C hn0 hH hl
  obtain ⟨hx, hb, hr, hlocks, hml, hown, hts, hK, hJs⟩ := C
  replace hl : lv_has ls 3 [(0, .ref a0), (1, .ref a1), (2, .int a2)] := hl
  have hS : va_S (fD ro h0 n0) s.heap s.heap [] := va_S.rf
  have hR : rD ro (fD ro h0 n0) n0 := fD_rD hH
  have hA9 : ∀ q, s.heap.size ≤ q → fD ro h0 n0 q := fun q hq => hR.2 q (hn0 ▸ hq)
  unfold P_X3_init at hf
  obtain ⟨r, er⟩ : ∃ r, r = res := ⟨_, rfl⟩
  have hq : qI r res 0 0 := by rw [er]; exact ⟨rfl, rfl, Nat.zero_add _, Nat.zero_add _⟩
  rw [← er] at hf
  have hn : n0 = n0 + 0 := rfl
  obtain ⟨H, eH⟩ : ∃ H, H = s.heap := ⟨_, rfl⟩
  obtain ⟨locs, eL⟩ : ∃ locs : List Loc, locs = [] := ⟨_, rfl⟩
  rw [← eL] at hS ⊢
  rw [← eH] at hH
  have hS : va_S (fD ro h0 n0) s.heap H locs := by rw [eH]; exact hS
  show W p l e (rmD 1 60 res.2.2.1 res.2.2.2) s m args below meth c s.heap locs 0 0 Q (F0 m 0 ls [])
  rw [← eH]
  clear er
  refine lv_aload_n hx hb dX3_init_0 rfl (lv_at hl 0 rfl) ?_
  refine W.objInit hx hb hown (hts _ q348) (hts _ q177) (hts _ q178) rfl (by rw [hml]; exact hl.1) rfl dX3_init_1 (Nat.le_of_ble_eq_true rfl) (Nat.le_of_ble_eq_true rfl) ?_
  refine lv_aload_n hx hb dX3_init_4 rfl (lv_at hl 0 rfl) ?_
  refine lv_aload_n hx hb dX3_init_5 rfl (lv_at hl 1 rfl) ?_
  obtain ⟨h2, g1, hf⟩ := ob_bind hf
  refine xd_putF hx hb hts in_X3 tyX3 tyX3_ok nmX3 hown hK hH hS (ci := 15) rfl 0 (by decide) (hts _ q349) (fun _ h => h) rfl (hname.trans rfl) rfl (v := .ref a1) rfl rfl g1 dX3_init_6 (fun H locs hH hS => ?_)
  refine lv_aload_n hx hb dX3_init_9 rfl (lv_at hl 0 rfl) ?_
  refine lv_iload_n hx hb dX3_init_10 rfl (lv_at hl 2 rfl) ?_
  obtain ⟨h4, g3, hf⟩ := ob_bind hf
  refine xd_putF hx hb hts in_X3 tyX3 tyX3_ok nmX3 hown hK hH hS (ci := 15) rfl 1 (by decide) (hts _ q350) (fun _ h => h) rfl (hname.trans rfl) rfl (v := .int a2) rfl rfl g3 dX3_init_11 (fun H locs hH hS => ?_)
  subst hQ
  exact xe_dv hx hb hr hlocks hH hn hS (hq.end (Option.some.inj hf)) dX3_init_14
theorem cdX3_isWord : yX3_isWord.cls = RX3 ∧ yX3_isWord.cls ≠ "java/lang/invoke/MethodHandle" ∧ yX3_isWord.cls ≠ "java/lang/invoke/VarHandle" ∧ (parseMethodDescriptor yX3_isWord.desc).map (fun d => d.parameters.length) = some 1 := by decide +kernel
set_option maxHeartbeats 4000000 in
set_option maxRecDepth 100000 in
theorem wkX3_isWord (l : Launch) (hl9 : l.stackTraces = false) (D : va_G) (dA : Nat → ClassId) (ro : Nat → Bool) (G : Gs) (J : State → Heap → Prop) (hJ : JD ro G J) (h0 : Hv) (n0 : Nat) (a0 : Nat) (a1 : Nat) {res : Int32 × Hv × Nat × Nat} (hf : P_X3_isWord G ro h0 n0 a0 a1 = some res) : Met l yX3_isWord (ws_ yX3_isWord cX3_isWord 3 (some .boolean)) (rmD 5 106 res.2.2.1 res.2.2.2) (Pd D dA ro J [.ref a0, .ref (gK G a1)] h0 n0) (Qdz D dA ro h0 n0 res) res.2.2.1 res.2.2.2 (fD ro h0 n0) := by
  refine xd_head (own := RX3) (by decide) rfl (Nat.le_of_ble_eq_true rfl) ?_
  intro p e s m args below meth c ls Q hQ hname C hn0 hH hl
  obtain ⟨hx, hb, hr, hlocks, hml, hown, hts, hK, hJs⟩ := C
  replace hl : lv_has ls 3 [(0, .ref a0), (1, .ref (gK G a1))] := hl
  have hS : va_S (fD ro h0 n0) s.heap s.heap [] := va_S.rf
  have hR : rD ro (fD ro h0 n0) n0 := fD_rD hH
  have hA9 : ∀ q, s.heap.size ≤ q → fD ro h0 n0 q := fun q hq => hR.2 q (hn0 ▸ hq)
  unfold P_X3_isWord at hf
  obtain ⟨r, er⟩ : ∃ r, r = res := ⟨_, rfl⟩
  have hq : qI r res 0 0 := by rw [er]; exact ⟨rfl, rfl, Nat.zero_add _, Nat.zero_add _⟩
  rw [← er] at hf
  have hn : n0 = n0 + 0 := rfl
  obtain ⟨H, eH⟩ : ∃ H, H = s.heap := ⟨_, rfl⟩
  obtain ⟨locs, eL⟩ : ∃ locs : List Loc, locs = [] := ⟨_, rfl⟩
  rw [← eL] at hS ⊢
  rw [← eH] at hH
  have hS : va_S (fD ro h0 n0) s.heap H locs := by rw [eH]; exact hS
  show W p l e (rmD 5 106 res.2.2.1 res.2.2.2) s m args below meth c s.heap locs 0 0 Q (F0 m 0 ls [])
  rw [← eH]
  clear er
  refine lv_aload_n hx hb dX3_isWord_0 rfl (lv_at hl 0 rfl) ?_
  obtain ⟨x2, g1, hf⟩ := ob_bind hf
  refine xh_geti hx hb hts in_X3 hown hK hH.1 (ci := 15) rfl 2 (by decide) (hts _ q351) (fun _ h => h) g1 dX3_isWord_1 ?_
  refine lv_aload_n hx hb dX3_isWord_4 rfl (lv_at hl 0 rfl) ?_
  obtain ⟨x4, g3, hf⟩ := ob_bind hf
  refine xh_geti hx hb hts in_X3 hown hK hH.1 (ci := 15) rfl 3 (by decide) (hts _ q352) (fun _ h => h) g3 dX3_isWord_5 ?_
  refine lv_isub hx hb dX3_isWord_8 ?_
  refine lv_aload_n hx hb dX3_isWord_9 rfl (lv_at hl 1 rfl) ?_
  obtain ⟨g7, hf⟩ := ob_gp hf
  obtain ⟨q5, g6, hf⟩ := ob_bind hf
  refine xdr_i (xd_runK (As := []) (rest := [.int (x2 - x4)]) hJ hR hJs hS ⟨hx, hb, hml, hown, hts⟩ (of_decide_eq_true g7) (wkJ4_length l D dA J ro G hJ h0 a1 (of_decide_eq_true g7) g6) (cwV 0 hts (lw_V q439 q440 q441 q146 q442) rfl rfl rfl cdJ4_length ⟨Nat.le_of_ble_eq_true rfl, Nat.le_of_ble_eq_true rfl⟩) hK hH hl.1 rfl rfl (Nat.le_of_ble_eq_true rfl) dX3_isWord_10 ⟨(xg_le0 hq).1, (xg_le0 hq).2⟩) hH (by rw [hn0]; exact hn) hS (fun H locs hH hS => ?_)
  refine lv_icmp_eq (tgt := 18) hx hb dX3_isWord_13 (by decide) (fun c8 => ?_) (fun c8 => ?_)
  · replace hf := ob_t hf c8
    refine lv_iconst (v := 0) hx hb dX3_isWord_18 (by decide) ?_
    refine lv_istore_n (lv' := [(2, .int 0), (0, .ref a0), (1, .ref (gK G a1))]) hx hb dX3_isWord_19 rfl hl (by decide) rfl (fun ls hl => ?_)
    have kl20 : ∀ (f : Nat) (h9 : Hv) (n10 : Nat) (v2_11 : Int32) (kc11 ks11 : Nat) (r : Int32 × Hv × Nat × Nat) (H : Heap) (locs : List Loc) (ls : Array Slot), P_X3_isWord_l20 a1 a0 f h9 n10 v2_11 = some r → qI r res kc11 ks11 → n10 = n0 + kc11 → DS D dA ro h9 n10 (fD ro h0 n0) H → va_S (fD ro h0 n0) s.heap H locs → lv_has ls 3 [(0, .ref a0), (1, .ref (gK G a1)), (2, .int v2_11)] → W p l e (rmD 5 106 res.2.2.1 res.2.2.2) s m args below meth c H locs kc11 ks11 Q (F0 m 20 ls []) := by
      intro f
      induction f with
      | zero =>
        intro h9 n10 v2_11 kc11 ks11 r H locs ls hf
        cases hf
      | succ f ihl20 =>
        intro h9 n10 v2_11 kc11 ks11 r H locs ls hf hq hn hH hS hl
        obtain ⟨rl20, erl20⟩ : ∃ x, x = P_X3_isWord_l20 a1 a0 f := ⟨_, rfl⟩
        replace hf : P_X3_isWord_b20 a1 a0 (P_X3_isWord_l20 a1 a0 f) h9 n10 v2_11 = some r := hf
        rw [← erl20] at hf ihl20
        unfold P_X3_isWord_b20 at hf
        refine lv_iload_n hx hb dX3_isWord_20 rfl (lv_at hl 2 rfl) ?_
        refine lv_aload_n hx hb dX3_isWord_21 rfl (lv_at hl 1 rfl) ?_
        obtain ⟨g14, hf⟩ := ob_gp hf
        obtain ⟨q12, g13, hf⟩ := ob_bind hf
        refine xdr_i (xd_runK (As := []) (rest := [.int v2_11]) hJ hR hJs hS ⟨hx, hb, hml, hown, hts⟩ (of_decide_eq_true g14) (wkJ4_length l D dA J ro G hJ h9 a1 (of_decide_eq_true g14) g13) (cwV 0 hts (lw_V q439 q440 q441 q146 q442) rfl rfl rfl cdJ4_length ⟨Nat.le_of_ble_eq_true rfl, Nat.le_of_ble_eq_true rfl⟩) hK hH hl.1 rfl rfl (Nat.le_of_ble_eq_true rfl) dX3_isWord_22 ⟨(xg_le0 hq).1, (xg_le0 hq).2⟩) hH (by rw [hn0]; exact hn) hS (fun H locs hH hS => ?_)
        refine lv_icmp_ge (tgt := 55) hx hb dX3_isWord_25 (by decide) (fun c15 => ?_) (fun c15 => ?_)
        · replace hf := ob_t hf c15
          refine lv_iconst (v := 1) hx hb dX3_isWord_55 (by decide) ?_
          subst hQ
          exact xe_dz hx hb hr hlocks hH hn hS (Or.inr rfl) (hq.end (Option.some.inj hf)) dX3_isWord_56
        · replace hf := ob_f hf c15
          refine lv_aload_n hx hb dX3_isWord_28 rfl (lv_at hl 0 rfl) ?_
          obtain ⟨r17, g16, hf⟩ := ob_bind hf
          refine xh_getr hx hb hts in_X3 hown hK hH.1 (ci := 15) rfl 0 (by decide) (hts _ q349) (fun _ h => h) g16 dX3_isWord_29 ?_
          refine lv_aload_n hx hb dX3_isWord_32 rfl (lv_at hl 0 rfl) ?_
          obtain ⟨x19, g18, hf⟩ := ob_bind hf
          refine xh_geti hx hb hts in_X3 hown hK hH.1 (ci := 15) rfl 3 (by decide) (hts _ q352) (fun _ h => h) g18 dX3_isWord_33 ?_
          refine lv_iload_n hx hb dX3_isWord_36 rfl (lv_at hl 2 rfl) ?_
          refine lv_iadd hx hb dX3_isWord_37 ?_
          obtain ⟨y21, g22, hf⟩ := ob_bind hf
          obtain ⟨h20, hf⟩ := ob_gd hf
          refine xh_bald hx hb hK hH.1 g22 (j := (x19 + v2_11).toNatClampNeg) h20 rfl dX3_isWord_38 ?_
          refine lv_aload_n hx hb dX3_isWord_39 rfl (lv_at hl 1 rfl) ?_
          refine lv_iload_n hx hb dX3_isWord_40 rfl (lv_at hl 2 rfl) ?_
          obtain ⟨g25, hf⟩ := ob_gp hf
          obtain ⟨q23, g24, hf⟩ := ob_bind hf
          refine xdr_i (xd_runK (As := [.int v2_11]) (rest := [.int (y21.2 (x19 + v2_11).toNatClampNeg)]) hJ hR hJs hS ⟨hx, hb, hml, hown, hts⟩ (of_decide_eq_true g25) (wkJ4_charAt l D dA J ro G hJ h9 a1 v2_11 (of_decide_eq_true g25) g24) (cwV 1 hts (lw_V q449 q450 q451 q146 q452) rfl rfl rfl cdJ4_charAt ⟨Nat.le_of_ble_eq_true rfl, Nat.le_of_ble_eq_true rfl⟩) hK hH hl.1 rfl rfl (Nat.le_of_ble_eq_true rfl) dX3_isWord_41 ⟨(xg_le0 hq).1, (xg_le0 hq).2⟩) hH (by rw [hn0]; exact hn) hS (fun H locs hH hS => ?_)
          refine lv_icmp_eq (tgt := 49) hx hb dX3_isWord_44 (by decide) (fun c26 => ?_) (fun c26 => ?_)
          · replace hf := ob_t hf c26
            obtain ⟨v2_27, ev2_27, hf⟩ := ob_bnd hf
            refine lv_iinc (v := v2_27) (lv' := [(2, .int v2_27), (0, .ref a0), (1, .ref (gK G a1))]) hx hb dX3_isWord_49 hl (k := 2) rfl (by rw [ev2_27]; rfl) (by decide) rfl (fun ls hl => ?_)
            refine lv_goto (tgt := 20) hx hb dX3_isWord_52 (by decide) ?_
            exact ihl20 h9 n10 v2_27 _ _ r H locs ls hf hq hn hH hS (lv_sub hl [1, 2, 0] rfl)
          · replace hf := ob_f hf c26
            refine lv_iconst (v := 0) hx hb dX3_isWord_47 (by decide) ?_
            subst hQ
            exact xe_dz hx hb hr hlocks hH hn hS (Or.inl rfl) (hq.end (Option.some.inj hf)) dX3_isWord_48
    exact kl20 400 h0 n0 0 _ _ r H locs ls hf hq hn hH hS (lv_sub hl [1, 2, 0] rfl)
  · replace hf := ob_f hf c8
    refine lv_iconst (v := 0) hx hb dX3_isWord_16 (by decide) ?_
    subst hQ
    exact xe_dz hx hb hr hlocks hH hn hS (Or.inl rfl) (hq.end (Option.some.inj hf)) dX3_isWord_17
theorem cdX3_next : yX3_next.cls = RX3 ∧ yX3_next.cls ≠ "java/lang/invoke/MethodHandle" ∧ yX3_next.cls ≠ "java/lang/invoke/VarHandle" ∧ (parseMethodDescriptor yX3_next.desc).map (fun d => d.parameters.length) = some 0 := by decide +kernel
set_option maxHeartbeats 4000000 in
set_option maxRecDepth 100000 in
theorem wkX3_next (l : Launch) (hl9 : l.stackTraces = false) (D : va_G) (dA : Nat → ClassId) (ro : Nat → Bool) (G : Gs) (J : State → Heap → Prop) (hJ : JD ro G J) (h0 : Hv) (n0 : Nat) (a0 : Nat) {res : Unit × Hv × Nat × Nat} (hf : P_X3_next G ro h0 n0 a0 = some res) : Met l yX3_next (ws_ yX3_next cX3_next 3 (none)) (rmD 6 128 res.2.2.1 res.2.2.2) (Pd D dA ro J [.ref a0] h0 n0) (Qdv D dA ro h0 n0 res) res.2.2.1 res.2.2.2 (fD ro h0 n0) := by
  refine xd_head (own := RX3) (by decide) rfl (Nat.le_of_ble_eq_true rfl) ?_
  intro p e s m args below meth c ls Q hQ hname C hn0 hH hl
  obtain ⟨hx, hb, hr, hlocks, hml, hown, hts, hK, hJs⟩ := C
  replace hl : lv_has ls 3 [(0, .ref a0)] := hl
  have hS : va_S (fD ro h0 n0) s.heap s.heap [] := va_S.rf
  have hR : rD ro (fD ro h0 n0) n0 := fD_rD hH
  have hA9 : ∀ q, s.heap.size ≤ q → fD ro h0 n0 q := fun q hq => hR.2 q (hn0 ▸ hq)
  unfold P_X3_next at hf
  obtain ⟨r, er⟩ : ∃ r, r = res := ⟨_, rfl⟩
  have hq : qI r res 0 0 := by rw [er]; exact ⟨rfl, rfl, Nat.zero_add _, Nat.zero_add _⟩
  rw [← er] at hf
  have hn : n0 = n0 + 0 := rfl
  obtain ⟨H, eH⟩ : ∃ H, H = s.heap := ⟨_, rfl⟩
  obtain ⟨locs, eL⟩ : ∃ locs : List Loc, locs = [] := ⟨_, rfl⟩
  rw [← eL] at hS ⊢
  rw [← eH] at hH
  have hS : va_S (fD ro h0 n0) s.heap H locs := by rw [eH]; exact hS
  show W p l e (rmD 6 128 res.2.2.1 res.2.2.2) s m args below meth c s.heap locs 0 0 Q (F0 m 0 ls [])
  rw [← eH]
  clear er
  have kl0 : ∀ (f : Nat) (h1 : Hv) (n2 : Nat) (kc2 ks2 : Nat) (r : Unit × Hv × Nat × Nat) (H : Heap) (locs : List Loc) (ls : Array Slot), P_X3_next_l0 a0 ro G f h1 n2 = some r → qI r res kc2 ks2 → n2 = n0 + kc2 → DS D dA ro h1 n2 (fD ro h0 n0) H → va_S (fD ro h0 n0) s.heap H locs → lv_has ls 3 [(0, .ref a0)] → W p l e (rmD 6 128 res.2.2.1 res.2.2.2) s m args below meth c H locs kc2 ks2 Q (F0 m 0 ls []) := by
    intro f
    induction f with
    | zero =>
      intro h1 n2 kc2 ks2 r H locs ls hf
      cases hf
    | succ f ihl0 =>
      intro h1 n2 kc2 ks2 r H locs ls hf hq hn hH hS hl
      obtain ⟨rl0, erl0⟩ : ∃ x, x = P_X3_next_l0 a0 ro G f := ⟨_, rfl⟩
      replace hf : P_X3_next_b0 a0 ro G (P_X3_next_l0 a0 ro G f) h1 n2 = some r := hf
      rw [← erl0] at hf ihl0
      unfold P_X3_next_b0 at hf
      refine lv_aload_n hx hb dX3_next_0 rfl (lv_at hl 0 rfl) ?_
      obtain ⟨x4, g3, hf⟩ := ob_bind hf
      refine xh_geti hx hb hts in_X3 hown hK hH.1 (ci := 15) rfl 2 (by decide) (hts _ q351) (fun _ h => h) g3 dX3_next_1 ?_
      refine lv_aload_n hx hb dX3_next_4 rfl (lv_at hl 0 rfl) ?_
      obtain ⟨x6, g5, hf⟩ := ob_bind hf
      refine xh_geti hx hb hts in_X3 hown hK hH.1 (ci := 15) rfl 1 (by decide) (hts _ q350) (fun _ h => h) g5 dX3_next_5 ?_
      have kj52 : ∀ (h7 : Hv) (n8 : Nat) (kc8 ks8 : Nat) (r : Unit × Hv × Nat × Nat) (H : Heap) (locs : List Loc) (ls : Array Slot), P_X3_next_j52 a0 ro G h7 n8 = some r → qI r res kc8 ks8 → n8 = n0 + kc8 → DS D dA ro h7 n8 (fD ro h0 n0) H → va_S (fD ro h0 n0) s.heap H locs → lv_has ls 3 [(0, .ref a0)] → W p l e (rmD 6 128 res.2.2.1 res.2.2.2) s m args below meth c H locs kc8 ks8 Q (F0 m 52 ls []) := by
        intro h7 n8 kc8 ks8 r H locs ls hf hq hn hH hS hl
        unfold P_X3_next_j52 at hf
        refine lv_aload_n hx hb dX3_next_52 rfl (lv_at hl 0 rfl) ?_
        refine lv_aload_n hx hb dX3_next_53 rfl (lv_at hl 0 rfl) ?_
        obtain ⟨x10, g9, hf⟩ := ob_bind hf
        refine xh_geti hx hb hts in_X3 hown hK hH.1 (ci := 15) rfl 2 (by decide) (hts _ q351) (fun _ h => h) g9 dX3_next_54 ?_
        obtain ⟨h12, g11, hf⟩ := ob_bind hf
        refine xd_put hx hb hts in_X3 tyX3 tyX3_ok nmX3 hown hK hH hS (ci := 15) rfl 3 (by decide) (hts _ q352) (fun _ h => h) rfl (v := .int x10) rfl rfl g11 dX3_next_57 (fun H locs hH hS => ?_)
        refine lv_aload_n hx hb dX3_next_60 rfl (lv_at hl 0 rfl) ?_
        obtain ⟨x14, g13, hf⟩ := ob_bind hf
        refine xh_geti hx hb hts in_X3 hown hK hH.1 (ci := 15) rfl 2 (by decide) (hts _ q351) (fun _ h => h) g13 dX3_next_61 ?_
        refine lv_aload_n hx hb dX3_next_64 rfl (lv_at hl 0 rfl) ?_
        obtain ⟨x16, g15, hf⟩ := ob_bind hf
        refine xh_geti hx hb hts in_X3 hown hK hH.1 (ci := 15) rfl 1 (by decide) (hts _ q350) (fun _ h => h) g15 dX3_next_65 ?_
        refine lv_icmp_ne (tgt := 81) hx hb dX3_next_68 (by decide) (fun c17 => ?_) (fun c17 => ?_)
        · replace hf := ob_f hf c17
          refine lv_aload_n hx hb dX3_next_81 rfl (lv_at hl 0 rfl) ?_
          obtain ⟨r19, g18, hf⟩ := ob_bind hf
          refine xh_getr hx hb hts in_X3 hown hK hH.1 (ci := 15) rfl 0 (by decide) (hts _ q349) (fun _ h => h) g18 dX3_next_82 ?_
          refine lv_aload_n hx hb dX3_next_85 rfl (lv_at hl 0 rfl) ?_
          obtain ⟨x21, g20, hf⟩ := ob_bind hf
          refine xh_geti hx hb hts in_X3 hown hK hH.1 (ci := 15) rfl 2 (by decide) (hts _ q351) (fun _ h => h) g20 dX3_next_86 ?_
          obtain ⟨y23, g24, hf⟩ := ob_bind hf
          obtain ⟨h22, hf⟩ := ob_gd hf
          refine xh_bald hx hb hK hH.1 g24 (j := x21.toNatClampNeg) h22 rfl dX3_next_89 ?_
          obtain ⟨q25, g26, hf⟩ := ob_bind hf
          refine xdr_z (xd_runSR (As := [.int (y23.2 x21.toNatClampNeg)]) (rest := []) hJ hR hJs hS ⟨hx, hb, hml, hown, hts⟩ (wkX3_isLetter l D dA J hJ.jr h12 (y23.2 x21.toNatClampNeg) g26) (va_cwS 1 hts (lw_S q430 q431 q141 q432) rfl rfl rfl cdX3_isLetter.2 ⟨Nat.le_of_ble_eq_true rfl, Nat.le_of_ble_eq_true rfl⟩) hK hH hl.1 rfl rfl (Nat.le_of_ble_eq_true rfl) dX3_next_90 ⟨(xg_le0 hq).1, (xg_le0 hq).2⟩) hH (by rw [hn0]; exact hn) hS (fun H locs zq25 hH hS => ?_)
          refine lv_if_eq (tgt := 182) hx hb dX3_next_93 (by decide) (fun c27 => ?_) (fun c27 => ?_)
          · replace hf := ob_t hf c27
            refine lv_aload_n hx hb dX3_next_182 rfl (lv_at hl 0 rfl) ?_
            obtain ⟨r29, g28, hf⟩ := ob_bind hf
            refine xh_getr hx hb hts in_X3 hown hK hH.1 (ci := 15) rfl 0 (by decide) (hts _ q349) (fun _ h => h) g28 dX3_next_183 ?_
            refine lv_aload_n hx hb dX3_next_186 rfl (lv_at hl 0 rfl) ?_
            obtain ⟨x31, g30, hf⟩ := ob_bind hf
            refine xh_geti hx hb hts in_X3 hown hK hH.1 (ci := 15) rfl 2 (by decide) (hts _ q351) (fun _ h => h) g30 dX3_next_187 ?_
            obtain ⟨y33, g34, hf⟩ := ob_bind hf
            obtain ⟨h32, hf⟩ := ob_gd hf
            refine xh_bald hx hb hK hH.1 g34 (j := x31.toNatClampNeg) h32 rfl dX3_next_190 ?_
            obtain ⟨q35, g36, hf⟩ := ob_bind hf
            refine xdr_z (xd_runSR (As := [.int (y33.2 x31.toNatClampNeg)]) (rest := []) hJ hR hJs hS ⟨hx, hb, hml, hown, hts⟩ (wkX3_isDigit l D dA J hJ.jr h12 (y33.2 x31.toNatClampNeg) g36) (va_cwS 1 hts (lw_S q487 q488 q141 q489) rfl rfl rfl cdX3_isDigit.2 ⟨Nat.le_of_ble_eq_true rfl, Nat.le_of_ble_eq_true rfl⟩) hK hH hl.1 rfl rfl (Nat.le_of_ble_eq_true rfl) dX3_next_191 ⟨(xg_le0 hq).1, (xg_le0 hq).2⟩) hH (by rw [hn0]; exact hn) hS (fun H locs zq35 hH hS => ?_)
            refine lv_if_eq (tgt := 277) hx hb dX3_next_194 (by decide) (fun c37 => ?_) (fun c37 => ?_)
            · replace hf := ob_t hf c37
              refine lv_aload_n hx hb dX3_next_277 rfl (lv_at hl 0 rfl) ?_
              obtain ⟨r39, g38, hf⟩ := ob_bind hf
              refine xh_getr hx hb hts in_X3 hown hK hH.1 (ci := 15) rfl 0 (by decide) (hts _ q349) (fun _ h => h) g38 dX3_next_278 ?_
              refine lv_aload_n hx hb dX3_next_281 rfl (lv_at hl 0 rfl) ?_
              obtain ⟨x41, g40, hf⟩ := ob_bind hf
              refine xh_geti hx hb hts in_X3 hown hK hH.1 (ci := 15) rfl 2 (by decide) (hts _ q351) (fun _ h => h) g40 dX3_next_282 ?_
              obtain ⟨y43, g44, hf⟩ := ob_bind hf
              obtain ⟨h42, hf⟩ := ob_gd hf
              refine xh_bald hx hb hK hH.1 g44 (j := x41.toNatClampNeg) h42 rfl dX3_next_285 ?_
              obtain ⟨v1_45, ev1_45, hf⟩ := ob_bnd hf
              refine xn_i ev1_45 ?_
              refine lv_istore_n (lv' := [(1, .int v1_45), (0, .ref a0)]) hx hb dX3_next_286 rfl hl (by decide) rfl (fun ls hl => ?_)
              refine lv_aload_n hx hb dX3_next_287 rfl (lv_at hl 1 rfl) ?_
              refine lv_dup hx hb dX3_next_288 rfl ?_
              obtain ⟨x47, g46, hf⟩ := ob_bind hf
              refine xh_geti hx hb hts in_X3 hown hK hH.1 (ci := 15) rfl 2 (by decide) (hts _ q351) (fun _ h => h) g46 dX3_next_289 ?_
              refine lv_iconst (v := 1) hx hb dX3_next_292 (by decide) ?_
              refine lv_iadd hx hb dX3_next_293 ?_
              obtain ⟨h49, g48, hf⟩ := ob_bind hf
              refine xd_put hx hb hts in_X3 tyX3 tyX3_ok nmX3 hown hK hH hS (ci := 15) rfl 2 (by decide) (hts _ q351) (fun _ h => h) rfl (v := .int (x47 + 1)) rfl rfl g48 dX3_next_294 (fun H locs hH hS => ?_)
              refine lv_aload_n hx hb dX3_next_297 rfl (lv_at hl 1 rfl) ?_
              refine lv_sipush (v := 302) hx hb dX3_next_298 (by decide) ?_
              obtain ⟨h51, g50, hf⟩ := ob_bind hf
              refine xd_put hx hb hts in_X3 tyX3 tyX3_ok nmX3 hown hK hH hS (ci := 15) rfl 4 (by decide) (hts _ q353) (fun _ h => h) rfl (v := .int 302) rfl rfl g50 dX3_next_301 (fun H locs hH hS => ?_)
              refine lv_iconst (v := 0) hx hb dX3_next_304 (by decide) ?_
              refine lv_istore_n (lv' := [(2, .int 0), (1, .int v1_45), (0, .ref a0)]) hx hb dX3_next_305 rfl hl (by decide) rfl (fun ls hl => ?_)
              have kl306 : ∀ (f : Nat) (h52 : Hv) (n53 : Nat) (v2_54 : Int32) (kc54 ks54 : Nat) (r : Unit × Hv × Nat × Nat) (H : Heap) (locs : List Loc) (ls : Array Slot), P_X3_next_l306 v1_45 a0 ro f h52 n53 v2_54 = some r → qI r res kc54 ks54 → n53 = n0 + kc54 → DS D dA ro h52 n53 (fD ro h0 n0) H → va_S (fD ro h0 n0) s.heap H locs → lv_has ls 3 [(0, .ref a0), (1, .int v1_45), (2, .int v2_54)] → W p l e (rmD 6 128 res.2.2.1 res.2.2.2) s m args below meth c H locs kc54 ks54 Q (F0 m 306 ls []) := by
                intro f
                induction f with
                | zero =>
                  intro h52 n53 v2_54 kc54 ks54 r H locs ls hf
                  cases hf
                | succ f ihl306 =>
                  intro h52 n53 v2_54 kc54 ks54 r H locs ls hf hq hn hH hS hl
                  obtain ⟨rl306, erl306⟩ : ∃ x, x = P_X3_next_l306 v1_45 a0 ro f := ⟨_, rfl⟩
                  replace hf : P_X3_next_b306 v1_45 a0 ro (P_X3_next_l306 v1_45 a0 ro f) h52 n53 v2_54 = some r := hf
                  rw [← erl306] at hf ihl306
                  unfold P_X3_next_b306 at hf
                  refine lv_iload_n hx hb dX3_next_306 rfl (lv_at hl 2 rfl) ?_
                  refine va_ldcS hx hb hown (hJ.f hJs).2.2.2.2.2.2 dX3_next_307 ?_
                  obtain ⟨g57, hf⟩ := ob_gp hf
                  obtain ⟨q55, g56, hf⟩ := ob_bind hf
                  refine xdr_i (xd_runK (As := []) (rest := [.int v2_54]) hJ hR hJs hS ⟨hx, hb, hml, hown, hts⟩ (of_decide_eq_true g57) (wkJ4_length l D dA J ro G hJ h52 24 (of_decide_eq_true g57) g56) (cwV 0 hts (lw_V q439 q440 q441 q146 q442) rfl rfl rfl cdJ4_length ⟨Nat.le_of_ble_eq_true rfl, Nat.le_of_ble_eq_true rfl⟩) hK hH hl.1 rfl rfl (Nat.le_of_ble_eq_true rfl) dX3_next_309 ⟨(xg_le0 hq).1, (xg_le0 hq).2⟩) hH (by rw [hn0]; exact hn) hS (fun H locs hH hS => ?_)
                  refine lv_icmp_ge (tgt := 336) hx hb dX3_next_312 (by decide) (fun c58 => ?_) (fun c58 => ?_)
                  · replace hf := ob_t hf c58
                    refine lv_iload_n hx hb dX3_next_336 rfl (lv_at hl 1 rfl) ?_
                    refine lv_bipush (v := 60) hx hb dX3_next_337 (by decide) ?_
                    have kj348 : ∀ (h59 : Hv) (n60 : Nat) (kc60 ks60 : Nat) (r : Unit × Hv × Nat × Nat) (H : Heap) (locs : List Loc) (ls : Array Slot), P_X3_next_j348 a0 v1_45 ro h59 n60 = some r → qI r res kc60 ks60 → n60 = n0 + kc60 → DS D dA ro h59 n60 (fD ro h0 n0) H → va_S (fD ro h0 n0) s.heap H locs → lv_has ls 3 [(0, .ref a0), (1, .int v1_45)] → W p l e (rmD 6 128 res.2.2.1 res.2.2.2) s m args below meth c H locs kc60 ks60 Q (F0 m 348 ls []) := by
                      intro h59 n60 kc60 ks60 r H locs ls hf hq hn hH hS hl
                      unfold P_X3_next_j348 at hf
                      refine lv_aload_n hx hb dX3_next_348 rfl (lv_at hl 0 rfl) ?_
                      obtain ⟨x62, g61, hf⟩ := ob_bind hf
                      refine xh_geti hx hb hts in_X3 hown hK hH.1 (ci := 15) rfl 2 (by decide) (hts _ q351) (fun _ h => h) g61 dX3_next_349 ?_
                      refine lv_aload_n hx hb dX3_next_352 rfl (lv_at hl 0 rfl) ?_
                      obtain ⟨x64, g63, hf⟩ := ob_bind hf
                      refine xh_geti hx hb hts in_X3 hown hK hH.1 (ci := 15) rfl 1 (by decide) (hts _ q350) (fun _ h => h) g63 dX3_next_353 ?_
                      refine lv_icmp_ge (tgt := 402) hx hb dX3_next_356 (by decide) (fun c65 => ?_) (fun c65 => ?_)
                      · replace hf := ob_t hf c65
                        subst hQ
                        exact xe_dv hx hb hr hlocks hH hn hS (hq.end (Option.some.inj hf)) dX3_next_402
                      · replace hf := ob_f hf c65
                        refine lv_aload_n hx hb dX3_next_359 rfl (lv_at hl 0 rfl) ?_
                        obtain ⟨r67, g66, hf⟩ := ob_bind hf
                        refine xh_getr hx hb hts in_X3 hown hK hH.1 (ci := 15) rfl 0 (by decide) (hts _ q349) (fun _ h => h) g66 dX3_next_360 ?_
                        refine lv_aload_n hx hb dX3_next_363 rfl (lv_at hl 0 rfl) ?_
                        obtain ⟨x69, g68, hf⟩ := ob_bind hf
                        refine xh_geti hx hb hts in_X3 hown hK hH.1 (ci := 15) rfl 2 (by decide) (hts _ q351) (fun _ h => h) g68 dX3_next_364 ?_
                        obtain ⟨y71, g72, hf⟩ := ob_bind hf
                        obtain ⟨h70, hf⟩ := ob_gd hf
                        refine xh_bald hx hb hK hH.1 g72 (j := x69.toNatClampNeg) h70 rfl dX3_next_367 ?_
                        refine lv_bipush (v := 61) hx hb dX3_next_368 (by decide) ?_
                        refine lv_icmp_ne (tgt := 402) hx hb dX3_next_370 (by decide) (fun c73 => ?_) (fun c73 => ?_)
                        · replace hf := ob_f hf c73
                          subst hQ
                          exact xe_dv hx hb hr hlocks hH hn hS (hq.end (Option.some.inj hf)) dX3_next_402
                        · replace hf := ob_t hf c73
                          refine lv_aload_n hx hb dX3_next_373 rfl (lv_at hl 0 rfl) ?_
                          refine lv_iload_n hx hb dX3_next_374 rfl (lv_at hl 1 rfl) ?_
                          refine lv_bipush (v := 60) hx hb dX3_next_375 (by decide) ?_
                          have kj389 : ∀ (h75 : Hv) (n76 : Nat) (t74 : Int32) (kc76 ks76 : Nat) (r : Unit × Hv × Nat × Nat) (H : Heap) (locs : List Loc) (ls : Array Slot), P_X3_next_j389 ro a0 h75 n76 t74 = some r → qI r res kc76 ks76 → n76 = n0 + kc76 → DS D dA ro h75 n76 (fD ro h0 n0) H → va_S (fD ro h0 n0) s.heap H locs → lv_has ls 3 [(0, .ref a0)] → W p l e (rmD 6 128 res.2.2.1 res.2.2.2) s m args below meth c H locs kc76 ks76 Q (F0 m 389 ls [.int t74, .ref a0]) := by
                            intro h75 n76 t74 kc76 ks76 r H locs ls hf hq hn hH hS hl
                            unfold P_X3_next_j389 at hf
                            obtain ⟨h78, g77, hf⟩ := ob_bind hf
                            refine xd_put hx hb hts in_X3 tyX3 tyX3_ok nmX3 hown hK hH hS (ci := 15) rfl 4 (by decide) (hts _ q353) (fun _ h => h) rfl (v := .int t74) rfl rfl g77 dX3_next_389 (fun H locs hH hS => ?_)
                            refine lv_aload_n hx hb dX3_next_392 rfl (lv_at hl 0 rfl) ?_
                            refine lv_dup hx hb dX3_next_393 rfl ?_
                            obtain ⟨x80, g79, hf⟩ := ob_bind hf
                            refine xh_geti hx hb hts in_X3 hown hK hH.1 (ci := 15) rfl 2 (by decide) (hts _ q351) (fun _ h => h) g79 dX3_next_394 ?_
                            refine lv_iconst (v := 1) hx hb dX3_next_397 (by decide) ?_
                            refine lv_iadd hx hb dX3_next_398 ?_
                            obtain ⟨h82, g81, hf⟩ := ob_bind hf
                            refine xd_put hx hb hts in_X3 tyX3 tyX3_ok nmX3 hown hK hH hS (ci := 15) rfl 2 (by decide) (hts _ q351) (fun _ h => h) rfl (v := .int (x80 + 1)) rfl rfl g81 dX3_next_399 (fun H locs hH hS => ?_)
                            subst hQ
                            exact xe_dv hx hb hr hlocks hH hn hS (hq.end (Option.some.inj hf)) dX3_next_402
                          refine lv_icmp_ne (tgt := 386) hx hb dX3_next_377 (by decide) (fun c83 => ?_) (fun c83 => ?_)
                          · replace hf := ob_f hf c83
                            refine lv_sipush (v := 304) hx hb dX3_next_386 (by decide) ?_
                            exact kj389 h59 n60 304 _ _ r H locs ls hf hq hn hH hS (lv_sub hl [0] rfl)
                          · replace hf := ob_t hf c83
                            refine lv_sipush (v := 303) hx hb dX3_next_380 (by decide) ?_
                            refine lv_goto (tgt := 389) hx hb dX3_next_383 (by decide) ?_
                            exact kj389 h59 n60 303 _ _ r H locs ls hf hq hn hH hS (lv_sub hl [0] rfl)
                    refine lv_icmp_eq (tgt := 348) hx hb dX3_next_339 (by decide) (fun c84 => ?_) (fun c84 => ?_)
                    · replace hf := ob_t hf c84
                      exact kj348 h52 n53 _ _ r H locs ls hf hq hn hH hS (lv_sub hl [0, 1] rfl)
                    · replace hf := ob_f hf c84
                      refine lv_iload_n hx hb dX3_next_342 rfl (lv_at hl 1 rfl) ?_
                      refine lv_bipush (v := 62) hx hb dX3_next_343 (by decide) ?_
                      refine lv_icmp_ne (tgt := 402) hx hb dX3_next_345 (by decide) (fun c85 => ?_) (fun c85 => ?_)
                      · replace hf := ob_f hf c85
                        subst hQ
                        exact xe_dv hx hb hr hlocks hH hn hS (hq.end (Option.some.inj hf)) dX3_next_402
                      · replace hf := ob_t hf c85
                        exact kj348 h52 n53 _ _ r H locs ls hf hq hn hH hS (lv_sub hl [0, 1] rfl)
                  · replace hf := ob_f hf c58
                    refine va_ldcS hx hb hown (hJ.f hJs).2.2.2.2.2.2 dX3_next_315 ?_
                    refine lv_iload_n hx hb dX3_next_317 rfl (lv_at hl 2 rfl) ?_
                    obtain ⟨g88, hf⟩ := ob_gp hf
                    obtain ⟨q86, g87, hf⟩ := ob_bind hf
                    refine xdr_i (xd_runK (As := [.int v2_54]) (rest := []) hJ hR hJs hS ⟨hx, hb, hml, hown, hts⟩ (of_decide_eq_true g88) (wkJ4_charAt l D dA J ro G hJ h52 24 v2_54 (of_decide_eq_true g88) g87) (cwV 1 hts (lw_V q449 q450 q451 q146 q452) rfl rfl rfl cdJ4_charAt ⟨Nat.le_of_ble_eq_true rfl, Nat.le_of_ble_eq_true rfl⟩) hK hH hl.1 rfl rfl (Nat.le_of_ble_eq_true rfl) dX3_next_318 ⟨(xg_le0 hq).1, (xg_le0 hq).2⟩) hH (by rw [hn0]; exact hn) hS (fun H locs hH hS => ?_)
                    refine lv_iload_n hx hb dX3_next_321 rfl (lv_at hl 1 rfl) ?_
                    refine lv_icmp_ne (tgt := 330) hx hb dX3_next_322 (by decide) (fun c89 => ?_) (fun c89 => ?_)
                    · replace hf := ob_f hf c89
                      obtain ⟨v2_90, ev2_90, hf⟩ := ob_bnd hf
                      refine lv_iinc (v := v2_90) (lv' := [(2, .int v2_90), (0, .ref a0), (1, .int v1_45)]) hx hb dX3_next_330 hl (k := 2) rfl (by rw [ev2_90]; rfl) (by decide) rfl (fun ls hl => ?_)
                      refine lv_goto (tgt := 306) hx hb dX3_next_333 (by decide) ?_
                      exact ihl306 h52 n53 v2_90 _ _ r H locs ls hf hq hn hH hS (lv_sub hl [1, 2, 0] rfl)
                    · replace hf := ob_t hf c89
                      refine lv_aload_n hx hb dX3_next_325 rfl (lv_at hl 0 rfl) ?_
                      refine lv_iload_n hx hb dX3_next_326 rfl (lv_at hl 1 rfl) ?_
                      obtain ⟨h92, g91, hf⟩ := ob_bind hf
                      refine xd_put hx hb hts in_X3 tyX3 tyX3_ok nmX3 hown hK hH hS (ci := 15) rfl 4 (by decide) (hts _ q353) (fun _ h => h) rfl (v := .int v1_45) rfl rfl g91 dX3_next_327 (fun H locs hH hS => ?_)
                      obtain ⟨v2_93, ev2_93, hf⟩ := ob_bnd hf
                      refine lv_iinc (v := v2_93) (lv' := [(2, .int v2_93), (0, .ref a0), (1, .int v1_45)]) hx hb dX3_next_330 hl (k := 2) rfl (by rw [ev2_93]; rfl) (by decide) rfl (fun ls hl => ?_)
                      refine lv_goto (tgt := 306) hx hb dX3_next_333 (by decide) ?_
                      exact ihl306 h92 n53 v2_93 _ _ r H locs ls hf hq hn hH hS (lv_sub hl [1, 2, 0] rfl)
              exact kl306 400 h51 n8 0 _ _ r H locs ls hf hq hn hH hS (lv_sub hl [2, 1, 0] rfl)
            · replace hf := ob_f hf c37
              refine lv_aload_n hx hb dX3_next_197 rfl (lv_at hl 0 rfl) ?_
              refine lv_sipush (v := 300) hx hb dX3_next_198 (by decide) ?_
              obtain ⟨h95, g94, hf⟩ := ob_bind hf
              refine xd_put hx hb hts in_X3 tyX3 tyX3_ok nmX3 hown hK hH hS (ci := 15) rfl 4 (by decide) (hts _ q353) (fun _ h => h) rfl (v := .int 300) rfl rfl g94 dX3_next_201 (fun H locs hH hS => ?_)
              refine lv_aload_n hx hb dX3_next_204 rfl (lv_at hl 0 rfl) ?_
              refine lv_iconst (v := 0) hx hb dX3_next_205 (by decide) ?_
              obtain ⟨h97, g96, hf⟩ := ob_bind hf
              refine xd_put hx hb hts in_X3 tyX3 tyX3_ok nmX3 hown hK hH hS (ci := 15) rfl 5 (by decide) (hts _ q354) (fun _ h => h) rfl (v := .int 0) rfl rfl g96 dX3_next_206 (fun H locs hH hS => ?_)
              have kl209 : ∀ (f : Nat) (h98 : Hv) (n99 : Nat) (kc99 ks99 : Nat) (r : Unit × Hv × Nat × Nat) (H : Heap) (locs : List Loc) (ls : Array Slot), P_X3_next_l209 a0 ro f h98 n99 = some r → qI r res kc99 ks99 → n99 = n0 + kc99 → DS D dA ro h98 n99 (fD ro h0 n0) H → va_S (fD ro h0 n0) s.heap H locs → lv_has ls 3 [(0, .ref a0)] → W p l e (rmD 6 128 res.2.2.1 res.2.2.2) s m args below meth c H locs kc99 ks99 Q (F0 m 209 ls []) := by
                intro f
                induction f with
                | zero =>
                  intro h98 n99 kc99 ks99 r H locs ls hf
                  cases hf
                | succ f ihl209 =>
                  intro h98 n99 kc99 ks99 r H locs ls hf hq hn hH hS hl
                  obtain ⟨rl209, erl209⟩ : ∃ x, x = P_X3_next_l209 a0 ro f := ⟨_, rfl⟩
                  replace hf : P_X3_next_b209 a0 ro (P_X3_next_l209 a0 ro f) h98 n99 = some r := hf
                  rw [← erl209] at hf ihl209
                  unfold P_X3_next_b209 at hf
                  refine lv_aload_n hx hb dX3_next_209 rfl (lv_at hl 0 rfl) ?_
                  obtain ⟨x101, g100, hf⟩ := ob_bind hf
                  refine xh_geti hx hb hts in_X3 hown hK hH.1 (ci := 15) rfl 2 (by decide) (hts _ q351) (fun _ h => h) g100 dX3_next_210 ?_
                  refine lv_aload_n hx hb dX3_next_213 rfl (lv_at hl 0 rfl) ?_
                  obtain ⟨x103, g102, hf⟩ := ob_bind hf
                  refine xh_geti hx hb hts in_X3 hown hK hH.1 (ci := 15) rfl 1 (by decide) (hts _ q350) (fun _ h => h) g102 dX3_next_214 ?_
                  refine lv_icmp_ge (tgt := 402) hx hb dX3_next_217 (by decide) (fun c104 => ?_) (fun c104 => ?_)
                  · replace hf := ob_t hf c104
                    subst hQ
                    exact xe_dv hx hb hr hlocks hH hn hS (hq.end (Option.some.inj hf)) dX3_next_402
                  · replace hf := ob_f hf c104
                    refine lv_aload_n hx hb dX3_next_220 rfl (lv_at hl 0 rfl) ?_
                    obtain ⟨r106, g105, hf⟩ := ob_bind hf
                    refine xh_getr hx hb hts in_X3 hown hK hH.1 (ci := 15) rfl 0 (by decide) (hts _ q349) (fun _ h => h) g105 dX3_next_221 ?_
                    refine lv_aload_n hx hb dX3_next_224 rfl (lv_at hl 0 rfl) ?_
                    obtain ⟨x108, g107, hf⟩ := ob_bind hf
                    refine xh_geti hx hb hts in_X3 hown hK hH.1 (ci := 15) rfl 2 (by decide) (hts _ q351) (fun _ h => h) g107 dX3_next_225 ?_
                    obtain ⟨y110, g111, hf⟩ := ob_bind hf
                    obtain ⟨h109, hf⟩ := ob_gd hf
                    refine xh_bald hx hb hK hH.1 g111 (j := x108.toNatClampNeg) h109 rfl dX3_next_228 ?_
                    obtain ⟨q112, g113, hf⟩ := ob_bind hf
                    refine xdr_z (xd_runSR (As := [.int (y110.2 x108.toNatClampNeg)]) (rest := []) hJ hR hJs hS ⟨hx, hb, hml, hown, hts⟩ (wkX3_isDigit l D dA J hJ.jr h98 (y110.2 x108.toNatClampNeg) g113) (va_cwS 1 hts (lw_S q487 q488 q141 q489) rfl rfl rfl cdX3_isDigit.2 ⟨Nat.le_of_ble_eq_true rfl, Nat.le_of_ble_eq_true rfl⟩) hK hH hl.1 rfl rfl (Nat.le_of_ble_eq_true rfl) dX3_next_229 ⟨(xg_le0 hq).1, (xg_le0 hq).2⟩) hH (by rw [hn0]; exact hn) hS (fun H locs zq112 hH hS => ?_)
                    refine lv_if_eq (tgt := 402) hx hb dX3_next_232 (by decide) (fun c114 => ?_) (fun c114 => ?_)
                    · replace hf := ob_t hf c114
                      subst hQ
                      exact xe_dv hx hb hr hlocks hH hn hS (hq.end (Option.some.inj hf)) dX3_next_402
                    · replace hf := ob_f hf c114
                      refine lv_aload_n hx hb dX3_next_235 rfl (lv_at hl 0 rfl) ?_
                      refine lv_ldc (v := 99999) hx hb hown (hts _ q490) dX3_next_236 ?_
                      refine lv_bipush (v := 10) hx hb dX3_next_238 (by decide) ?_
                      refine lv_aload_n hx hb dX3_next_240 rfl (lv_at hl 0 rfl) ?_
                      obtain ⟨x116, g115, hf⟩ := ob_bind hf
                      refine xh_geti hx hb hts in_X3 hown hK hH.1 (ci := 15) rfl 5 (by decide) (hts _ q354) (fun _ h => h) g115 dX3_next_241 ?_
                      refine lv_imul hx hb dX3_next_244 ?_
                      refine lv_aload_n hx hb dX3_next_245 rfl (lv_at hl 0 rfl) ?_
                      obtain ⟨r118, g117, hf⟩ := ob_bind hf
                      refine xh_getr hx hb hts in_X3 hown hK hH.1 (ci := 15) rfl 0 (by decide) (hts _ q349) (fun _ h => h) g117 dX3_next_246 ?_
                      refine lv_aload_n hx hb dX3_next_249 rfl (lv_at hl 0 rfl) ?_
                      obtain ⟨x120, g119, hf⟩ := ob_bind hf
                      refine xh_geti hx hb hts in_X3 hown hK hH.1 (ci := 15) rfl 2 (by decide) (hts _ q351) (fun _ h => h) g119 dX3_next_250 ?_
                      obtain ⟨y122, g123, hf⟩ := ob_bind hf
                      obtain ⟨h121, hf⟩ := ob_gd hf
                      refine xh_bald hx hb hK hH.1 g123 (j := x120.toNatClampNeg) h121 rfl dX3_next_253 ?_
                      refine lv_iadd hx hb dX3_next_254 ?_
                      refine lv_bipush (v := 48) hx hb dX3_next_255 (by decide) ?_
                      refine lv_isub hx hb dX3_next_257 ?_
                      refine xr_mmin hx hb (hml.trans hl.1.symm) hown (hts _ q491) (hts _ q492) (hts _ q150) (hts _ q493) (Nat.le_of_ble_eq_true rfl) (Nat.le_of_ble_eq_true rfl) (xg_le0 hq).1 (xg_le0 hq).2 dX3_next_258 ?_
                      obtain ⟨h125, g124, hf⟩ := ob_bind hf
                      refine xd_put hx hb hts in_X3 tyX3 tyX3_ok nmX3 hown hK hH hS (ci := 15) rfl 5 (by decide) (hts _ q354) (fun _ h => h) rfl (v := .int (mnI 99999 (((10 * x116) + (y122.2 x120.toNatClampNeg)) - 48))) rfl rfl g124 dX3_next_261 (fun H locs hH hS => ?_)
                      refine lv_aload_n hx hb dX3_next_264 rfl (lv_at hl 0 rfl) ?_
                      refine lv_dup hx hb dX3_next_265 rfl ?_
                      obtain ⟨x127, g126, hf⟩ := ob_bind hf
                      refine xh_geti hx hb hts in_X3 hown hK hH.1 (ci := 15) rfl 2 (by decide) (hts _ q351) (fun _ h => h) g126 dX3_next_266 ?_
                      refine lv_iconst (v := 1) hx hb dX3_next_269 (by decide) ?_
                      refine lv_iadd hx hb dX3_next_270 ?_
                      obtain ⟨h129, g128, hf⟩ := ob_bind hf
                      refine xd_put hx hb hts in_X3 tyX3 tyX3_ok nmX3 hown hK hH hS (ci := 15) rfl 2 (by decide) (hts _ q351) (fun _ h => h) rfl (v := .int (x127 + 1)) rfl rfl g128 dX3_next_271 (fun H locs hH hS => ?_)
                      refine lv_goto (tgt := 209) hx hb dX3_next_274 (by decide) ?_
                      exact ihl209 h129 n99 _ _ r H locs ls hf hq hn hH hS (lv_sub hl [0] rfl)
              exact kl209 400 h97 n8 _ _ r H locs ls hf hq hn hH hS (lv_sub hl [0] rfl)
          · replace hf := ob_f hf c27
            have kl96 : ∀ (f : Nat) (h130 : Hv) (n131 : Nat) (kc131 ks131 : Nat) (r : Unit × Hv × Nat × Nat) (H : Heap) (locs : List Loc) (ls : Array Slot), P_X3_next_l96 a0 ro G f h130 n131 = some r → qI r res kc131 ks131 → n131 = n0 + kc131 → DS D dA ro h130 n131 (fD ro h0 n0) H → va_S (fD ro h0 n0) s.heap H locs → lv_has ls 3 [(0, .ref a0)] → W p l e (rmD 6 128 res.2.2.1 res.2.2.2) s m args below meth c H locs kc131 ks131 Q (F0 m 96 ls []) := by
              intro f
              induction f with
              | zero =>
                intro h130 n131 kc131 ks131 r H locs ls hf
                cases hf
              | succ f ihl96 =>
                intro h130 n131 kc131 ks131 r H locs ls hf hq hn hH hS hl
                obtain ⟨rl96, erl96⟩ : ∃ x, x = P_X3_next_l96 a0 ro G f := ⟨_, rfl⟩
                replace hf : P_X3_next_b96 a0 ro G (P_X3_next_l96 a0 ro G f) h130 n131 = some r := hf
                rw [← erl96] at hf ihl96
                unfold P_X3_next_b96 at hf
                refine lv_aload_n hx hb dX3_next_96 rfl (lv_at hl 0 rfl) ?_
                obtain ⟨x133, g132, hf⟩ := ob_bind hf
                refine xh_geti hx hb hts in_X3 hown hK hH.1 (ci := 15) rfl 2 (by decide) (hts _ q351) (fun _ h => h) g132 dX3_next_97 ?_
                refine lv_aload_n hx hb dX3_next_100 rfl (lv_at hl 0 rfl) ?_
                obtain ⟨x135, g134, hf⟩ := ob_bind hf
                refine xh_geti hx hb hts in_X3 hown hK hH.1 (ci := 15) rfl 1 (by decide) (hts _ q350) (fun _ h => h) g134 dX3_next_101 ?_
                have kj135 : ∀ (h136 : Hv) (n137 : Nat) (kc137 ks137 : Nat) (r : Unit × Hv × Nat × Nat) (H : Heap) (locs : List Loc) (ls : Array Slot), P_X3_next_j135 ro a0 G h136 n137 = some r → qI r res kc137 ks137 → n137 = n0 + kc137 → DS D dA ro h136 n137 (fD ro h0 n0) H → va_S (fD ro h0 n0) s.heap H locs → lv_has ls 3 [(0, .ref a0)] → W p l e (rmD 6 128 res.2.2.1 res.2.2.2) s m args below meth c H locs kc137 ks137 Q (F0 m 135 ls []) := by
                  intro h136 n137 kc137 ks137 r H locs ls hf hq hn hH hS hl
                  unfold P_X3_next_j135 at hf
                  refine lv_aload_n hx hb dX3_next_135 rfl (lv_at hl 0 rfl) ?_
                  refine lv_sipush (v := 302) hx hb dX3_next_136 (by decide) ?_
                  obtain ⟨h139, g138, hf⟩ := ob_bind hf
                  refine xd_put hx hb hts in_X3 tyX3 tyX3_ok nmX3 hown hK hH hS (ci := 15) rfl 4 (by decide) (hts _ q353) (fun _ h => h) rfl (v := .int 302) rfl rfl g138 dX3_next_139 (fun H locs hH hS => ?_)
                  refine lv_iconst (v := 0) hx hb dX3_next_142 (by decide) ?_
                  refine lv_istore_n (lv' := [(1, .int 0), (0, .ref a0)]) hx hb dX3_next_143 rfl hl (by decide) rfl (fun ls hl => ?_)
                  have kl144 : ∀ (f : Nat) (h140 : Hv) (n141 : Nat) (v1_142 : Int32) (kc142 ks142 : Nat) (r : Unit × Hv × Nat × Nat) (H : Heap) (locs : List Loc) (ls : Array Slot), P_X3_next_l144 a0 G ro f h140 n141 v1_142 = some r → qI r res kc142 ks142 → n141 = n0 + kc142 → DS D dA ro h140 n141 (fD ro h0 n0) H → va_S (fD ro h0 n0) s.heap H locs → lv_has ls 3 [(0, .ref a0), (1, .int v1_142)] → W p l e (rmD 6 128 res.2.2.1 res.2.2.2) s m args below meth c H locs kc142 ks142 Q (F0 m 144 ls []) := by
                    intro f
                    induction f with
                    | zero =>
                      intro h140 n141 v1_142 kc142 ks142 r H locs ls hf
                      cases hf
                    | succ f ihl144 =>
                      intro h140 n141 v1_142 kc142 ks142 r H locs ls hf hq hn hH hS hl
                      obtain ⟨rl144, erl144⟩ : ∃ x, x = P_X3_next_l144 a0 G ro f := ⟨_, rfl⟩
                      replace hf : P_X3_next_b144 a0 G ro (P_X3_next_l144 a0 G ro f) h140 n141 v1_142 = some r := hf
                      rw [← erl144] at hf ihl144
                      unfold P_X3_next_b144 at hf
                      refine lv_iload_n hx hb dX3_next_144 rfl (lv_at hl 1 rfl) ?_
                      refine va_gets hx hb (hJ.z hR hJs).2.1 hS hown (hts _ q433) (fun _ h => h) dX3_next_145 ?_
                      refine va_tlen hx hb (hJ.z hR hJs).2.2.1 hS (v := 24) rfl dX3_next_148 ?_
                      refine lv_icmp_ge (tgt := 179) hx hb dX3_next_149 (by decide) (fun c143 => ?_) (fun c143 => ?_)
                      · replace hf := ob_t hf c143
                        refine lv_goto (tgt := 402) hx hb dX3_next_179 (by decide) ?_
                        subst hQ
                        exact xe_dv hx hb hr hlocks hH hn hS (hq.end (Option.some.inj hf)) dX3_next_402
                      · replace hf := ob_f hf c143
                        refine lv_aload_n hx hb dX3_next_152 rfl (lv_at hl 0 rfl) ?_
                        refine va_gets hx hb (hJ.z hR hJs).2.1 hS hown (hts _ q433) (fun _ h => h) dX3_next_153 ?_
                        refine lv_iload_n hx hb dX3_next_156 rfl (lv_at hl 1 rfl) ?_
                        obtain ⟨h144, hf⟩ := ob_gd hf
                        refine xd_talq hx hb (hJ.z hR hJs).2.2.1 hS h144 dX3_next_157 ?_
                        obtain ⟨g147, hf⟩ := ob_gp hf
                        obtain ⟨q145, g146, hf⟩ := ob_bind hf
                        obtain ⟨r, hf, hq, hc9, hs9⟩ := hq.add hf
                        refine xdc_z (xd_run (As := [.ref (gK G v1_142.toNatClampNeg)]) (rest := []) hJ hR hJs hS ⟨hx, hb, hml, hown, hts⟩ (wkX3_isWord l hl9 D dA ro G J hJ h140 n141 a0 v1_142.toNatClampNeg g146) (cwV 1 hts (lw_V q435 q437 qs3 q141 q438) rfl rfl rfl cdX3_isWord ⟨Nat.le_of_ble_eq_true rfl, Nat.le_of_ble_eq_true rfl⟩) hK hH (of_decide_eq_true g147) (q := (RX3, TX3, 8)) rfl rfl hl.1 rfl rfl (Nat.le_of_ble_eq_true rfl) dX3_next_158 ⟨hc9, hs9⟩) hH hR (by omega) hS (fun H locs zq145 hH hS => ?_)
                        replace hn : (n141 + q145.2.2.1) = n0 + (kc142 + q145.2.2.1) := by omega
                        refine lv_if_eq (tgt := 173) hx hb dX3_next_161 (by decide) (fun c148 => ?_) (fun c148 => ?_)
                        · replace hf := ob_t hf c148
                          obtain ⟨v1_149, ev1_149, hf⟩ := ob_bnd hf
                          refine lv_iinc (v := v1_149) (lv' := [(1, .int v1_149), (0, .ref a0)]) hx hb dX3_next_173 hl (k := 1) rfl (by rw [ev1_149]; rfl) (by decide) rfl (fun ls hl => ?_)
                          refine lv_goto (tgt := 144) hx hb dX3_next_176 (by decide) ?_
                          exact ihl144 q145.2.1 (n141 + q145.2.2.1) v1_149 _ _ r H locs ls hf hq hn hH hS (lv_sub hl [1, 0] rfl)
                        · replace hf := ob_f hf c148
                          refine lv_aload_n hx hb dX3_next_164 rfl (lv_at hl 0 rfl) ?_
                          refine lv_sipush (v := 200) hx hb dX3_next_165 (by decide) ?_
                          refine lv_iload_n hx hb dX3_next_168 rfl (lv_at hl 1 rfl) ?_
                          refine lv_iadd hx hb dX3_next_169 ?_
                          obtain ⟨h151, g150, hf⟩ := ob_bind hf
                          refine xd_put hx hb hts in_X3 tyX3 tyX3_ok nmX3 hown hK hH hS (ci := 15) rfl 4 (by decide) (hts _ q353) (fun _ h => h) rfl (v := .int (200 + v1_142)) rfl rfl g150 dX3_next_170 (fun H locs hH hS => ?_)
                          obtain ⟨v1_152, ev1_152, hf⟩ := ob_bnd hf
                          refine lv_iinc (v := v1_152) (lv' := [(1, .int v1_152), (0, .ref a0)]) hx hb dX3_next_173 hl (k := 1) rfl (by rw [ev1_152]; rfl) (by decide) rfl (fun ls hl => ?_)
                          refine lv_goto (tgt := 144) hx hb dX3_next_176 (by decide) ?_
                          exact ihl144 h151 (n141 + q145.2.2.1) v1_152 _ _ r H locs ls hf hq hn hH hS (lv_sub hl [1, 0] rfl)
                  exact kl144 400 h139 n137 0 _ _ r H locs ls hf hq hn hH hS (lv_sub hl [1, 0] rfl)
                refine lv_icmp_ge (tgt := 135) hx hb dX3_next_104 (by decide) (fun c153 => ?_) (fun c153 => ?_)
                · replace hf := ob_t hf c153
                  exact kj135 h130 n131 _ _ r H locs ls hf hq hn hH hS (lv_sub hl [0] rfl)
                · replace hf := ob_f hf c153
                  refine lv_aload_n hx hb dX3_next_107 rfl (lv_at hl 0 rfl) ?_
                  obtain ⟨r155, g154, hf⟩ := ob_bind hf
                  refine xh_getr hx hb hts in_X3 hown hK hH.1 (ci := 15) rfl 0 (by decide) (hts _ q349) (fun _ h => h) g154 dX3_next_108 ?_
                  refine lv_aload_n hx hb dX3_next_111 rfl (lv_at hl 0 rfl) ?_
                  obtain ⟨x157, g156, hf⟩ := ob_bind hf
                  refine xh_geti hx hb hts in_X3 hown hK hH.1 (ci := 15) rfl 2 (by decide) (hts _ q351) (fun _ h => h) g156 dX3_next_112 ?_
                  obtain ⟨y159, g160, hf⟩ := ob_bind hf
                  obtain ⟨h158, hf⟩ := ob_gd hf
                  refine xh_bald hx hb hK hH.1 g160 (j := x157.toNatClampNeg) h158 rfl dX3_next_115 ?_
                  obtain ⟨q161, g162, hf⟩ := ob_bind hf
                  refine xdr_z (xd_runSR (As := [.int (y159.2 x157.toNatClampNeg)]) (rest := []) hJ hR hJs hS ⟨hx, hb, hml, hown, hts⟩ (wkX3_isLetter l D dA J hJ.jr h130 (y159.2 x157.toNatClampNeg) g162) (va_cwS 1 hts (lw_S q430 q431 q141 q432) rfl rfl rfl cdX3_isLetter.2 ⟨Nat.le_of_ble_eq_true rfl, Nat.le_of_ble_eq_true rfl⟩) hK hH hl.1 rfl rfl (Nat.le_of_ble_eq_true rfl) dX3_next_116 ⟨(xg_le0 hq).1, (xg_le0 hq).2⟩) hH (by rw [hn0]; exact hn) hS (fun H locs zq161 hH hS => ?_)
                  refine lv_if_eq (tgt := 135) hx hb dX3_next_119 (by decide) (fun c163 => ?_) (fun c163 => ?_)
                  · replace hf := ob_t hf c163
                    exact kj135 h130 n131 _ _ r H locs ls hf hq hn hH hS (lv_sub hl [0] rfl)
                  · replace hf := ob_f hf c163
                    refine lv_aload_n hx hb dX3_next_122 rfl (lv_at hl 0 rfl) ?_
                    refine lv_dup hx hb dX3_next_123 rfl ?_
                    obtain ⟨x165, g164, hf⟩ := ob_bind hf
                    refine xh_geti hx hb hts in_X3 hown hK hH.1 (ci := 15) rfl 2 (by decide) (hts _ q351) (fun _ h => h) g164 dX3_next_124 ?_
                    refine lv_iconst (v := 1) hx hb dX3_next_127 (by decide) ?_
                    refine lv_iadd hx hb dX3_next_128 ?_
                    obtain ⟨h167, g166, hf⟩ := ob_bind hf
                    refine xd_put hx hb hts in_X3 tyX3 tyX3_ok nmX3 hown hK hH hS (ci := 15) rfl 2 (by decide) (hts _ q351) (fun _ h => h) rfl (v := .int (x165 + 1)) rfl rfl g166 dX3_next_129 (fun H locs hH hS => ?_)
                    refine lv_goto (tgt := 96) hx hb dX3_next_132 (by decide) ?_
                    exact ihl96 h167 n131 _ _ r H locs ls hf hq hn hH hS (lv_sub hl [0] rfl)
            exact kl96 400 h12 n8 _ _ r H locs ls hf hq hn hH hS (lv_sub hl [0] rfl)
        · replace hf := ob_t hf c17
          refine lv_aload_n hx hb dX3_next_71 rfl (lv_at hl 0 rfl) ?_
          refine lv_sipush (v := 301) hx hb dX3_next_72 (by decide) ?_
          obtain ⟨h169, g168, hf⟩ := ob_bind hf
          refine xd_put hx hb hts in_X3 tyX3 tyX3_ok nmX3 hown hK hH hS (ci := 15) rfl 4 (by decide) (hts _ q353) (fun _ h => h) rfl (v := .int 301) rfl rfl g168 dX3_next_75 (fun H locs hH hS => ?_)
          refine lv_goto (tgt := 402) hx hb dX3_next_78 (by decide) ?_
          subst hQ
          exact xe_dv hx hb hr hlocks hH hn hS (hq.end (Option.some.inj hf)) dX3_next_402
      refine lv_icmp_ge (tgt := 52) hx hb dX3_next_8 (by decide) (fun c170 => ?_) (fun c170 => ?_)
      · replace hf := ob_t hf c170
        exact kj52 h1 n2 _ _ r H locs ls hf hq hn hH hS (lv_sub hl [0] rfl)
      · replace hf := ob_f hf c170
        refine lv_aload_n hx hb dX3_next_11 rfl (lv_at hl 0 rfl) ?_
        obtain ⟨r172, g171, hf⟩ := ob_bind hf
        refine xh_getr hx hb hts in_X3 hown hK hH.1 (ci := 15) rfl 0 (by decide) (hts _ q349) (fun _ h => h) g171 dX3_next_12 ?_
        refine lv_aload_n hx hb dX3_next_15 rfl (lv_at hl 0 rfl) ?_
        obtain ⟨x174, g173, hf⟩ := ob_bind hf
        refine xh_geti hx hb hts in_X3 hown hK hH.1 (ci := 15) rfl 2 (by decide) (hts _ q351) (fun _ h => h) g173 dX3_next_16 ?_
        obtain ⟨y176, g177, hf⟩ := ob_bind hf
        obtain ⟨h175, hf⟩ := ob_gd hf
        refine xh_bald hx hb hK hH.1 g177 (j := x174.toNatClampNeg) h175 rfl dX3_next_19 ?_
        refine lv_bipush (v := 32) hx hb dX3_next_20 (by decide) ?_
        refine lv_icmp_eq (tgt := 39) hx hb dX3_next_22 (by decide) (fun c178 => ?_) (fun c178 => ?_)
        · replace hf := ob_t hf c178
          refine lv_aload_n hx hb dX3_next_39 rfl (lv_at hl 0 rfl) ?_
          refine lv_dup hx hb dX3_next_40 rfl ?_
          obtain ⟨x180, g179, hf⟩ := ob_bind hf
          refine xh_geti hx hb hts in_X3 hown hK hH.1 (ci := 15) rfl 2 (by decide) (hts _ q351) (fun _ h => h) g179 dX3_next_41 ?_
          refine lv_iconst (v := 1) hx hb dX3_next_44 (by decide) ?_
          refine lv_iadd hx hb dX3_next_45 ?_
          obtain ⟨h182, g181, hf⟩ := ob_bind hf
          refine xd_put hx hb hts in_X3 tyX3 tyX3_ok nmX3 hown hK hH hS (ci := 15) rfl 2 (by decide) (hts _ q351) (fun _ h => h) rfl (v := .int (x180 + 1)) rfl rfl g181 dX3_next_46 (fun H locs hH hS => ?_)
          refine lv_goto (tgt := 0) hx hb dX3_next_49 (by decide) ?_
          exact ihl0 h182 n2 _ _ r H locs ls hf hq hn hH hS (lv_sub hl [0] rfl)
        · replace hf := ob_f hf c178
          refine lv_aload_n hx hb dX3_next_25 rfl (lv_at hl 0 rfl) ?_
          obtain ⟨r184, g183, hf⟩ := ob_bind hf
          refine xh_getr hx hb hts in_X3 hown hK hH.1 (ci := 15) rfl 0 (by decide) (hts _ q349) (fun _ h => h) g183 dX3_next_26 ?_
          refine lv_aload_n hx hb dX3_next_29 rfl (lv_at hl 0 rfl) ?_
          obtain ⟨x186, g185, hf⟩ := ob_bind hf
          refine xh_geti hx hb hts in_X3 hown hK hH.1 (ci := 15) rfl 2 (by decide) (hts _ q351) (fun _ h => h) g185 dX3_next_30 ?_
          obtain ⟨y188, g189, hf⟩ := ob_bind hf
          obtain ⟨h187, hf⟩ := ob_gd hf
          refine xh_bald hx hb hK hH.1 g189 (j := x186.toNatClampNeg) h187 rfl dX3_next_33 ?_
          refine lv_bipush (v := 10) hx hb dX3_next_34 (by decide) ?_
          refine lv_icmp_ne (tgt := 52) hx hb dX3_next_36 (by decide) (fun c190 => ?_) (fun c190 => ?_)
          · replace hf := ob_f hf c190
            exact kj52 h1 n2 _ _ r H locs ls hf hq hn hH hS (lv_sub hl [0] rfl)
          · replace hf := ob_t hf c190
            refine lv_aload_n hx hb dX3_next_39 rfl (lv_at hl 0 rfl) ?_
            refine lv_dup hx hb dX3_next_40 rfl ?_
            obtain ⟨x192, g191, hf⟩ := ob_bind hf
            refine xh_geti hx hb hts in_X3 hown hK hH.1 (ci := 15) rfl 2 (by decide) (hts _ q351) (fun _ h => h) g191 dX3_next_41 ?_
            refine lv_iconst (v := 1) hx hb dX3_next_44 (by decide) ?_
            refine lv_iadd hx hb dX3_next_45 ?_
            obtain ⟨h194, g193, hf⟩ := ob_bind hf
            refine xd_put hx hb hts in_X3 tyX3 tyX3_ok nmX3 hown hK hH hS (ci := 15) rfl 2 (by decide) (hts _ q351) (fun _ h => h) rfl (v := .int (x192 + 1)) rfl rfl g193 dX3_next_46 (fun H locs hH hS => ?_)
            refine lv_goto (tgt := 0) hx hb dX3_next_49 (by decide) ?_
            exact ihl0 h194 n2 _ _ r H locs ls hf hq hn hH hS (lv_sub hl [0] rfl)
  exact kl0 400 h0 n0 _ _ r H locs ls hf hq hn hH hS (lv_sub hl [0] rfl)
theorem cdX5_init : yX5_init.cls = RX5 ∧ yX5_init.cls ≠ "java/lang/invoke/MethodHandle" ∧ yX5_init.cls ≠ "java/lang/invoke/VarHandle" ∧ (parseMethodDescriptor yX5_init.desc).map (fun d => d.parameters.length) = some 2 := by decide +kernel
set_option maxHeartbeats 4000000 in
set_option maxRecDepth 100000 in
theorem wkX5_init (l : Launch) (hl9 : l.stackTraces = false) (D : va_G) (dA : Nat → ClassId) (ro : Nat → Bool) (G : Gs) (J : State → Heap → Prop) (hJ : JD ro G J) (h0 : Hv) (n0 : Nat) (a0 : Nat) (a1 : Int32) (a2 : Int32) {res : Unit × Hv × Nat × Nat} (hf : P_X5_init G ro h0 n0 a0 a1 a2 = some res) : Met l yX5_init (ws_ yX5_init cX5_init 3 (none)) (rmD 4 80 res.2.2.1 res.2.2.2) (Pdm D dA ro J a0 [.ref a0, .int a1, .int a2] h0 n0) (Qdv D dA ro h0 n0 res) res.2.2.1 res.2.2.2 (fD ro h0 n0) := by
  refine xdm_head (own := RX5) (by decide) rfl (Nat.le_of_ble_eq_true rfl) ?_
  intro p e s m args below meth c ls Q hQ hname hraw C hn0 hH hl
  obtain ⟨hx, hb, hr, hlocks, hml, hown, hts, hK, hJs⟩ := C
  replace hl : lv_has ls 3 [(0, .ref a0), (1, .int a1), (2, .int a2)] := hl
  have hS : va_S (fD ro h0 n0) s.heap s.heap [] := va_S.rf
  have hR : rD ro (fD ro h0 n0) n0 := fD_rD hH
  have hA9 : ∀ q, s.heap.size ≤ q → fD ro h0 n0 q := fun q hq => hR.2 q (hn0 ▸ hq)
  unfold P_X5_init at hf
  obtain ⟨r, er⟩ : ∃ r, r = res := ⟨_, rfl⟩
  have hq : qI r res 0 0 := by rw [er]; exact ⟨rfl, rfl, Nat.zero_add _, Nat.zero_add _⟩
  rw [← er] at hf
  have hn : n0 = n0 + 0 := rfl
  obtain ⟨H, eH⟩ : ∃ H, H = s.heap := ⟨_, rfl⟩
  obtain ⟨locs, eL⟩ : ∃ locs : List Loc, locs = [] := ⟨_, rfl⟩
  rw [← eL] at hS ⊢
  rw [← eH] at hH hraw
  have hS : va_S (fD ro h0 n0) s.heap H locs := by rw [eH]; exact hS
  show W p l e (rmD 4 80 res.2.2.1 res.2.2.2) s m args below meth c s.heap locs 0 0 Q (F0 m 0 ls [])
  rw [← eH]
  clear er
  refine lv_aload_n hx hb dX5_init_0 rfl (lv_at hl 0 rfl) ?_
  obtain ⟨h2, g1, hf⟩ := ob_bind hf
  refine xd_exc0 hx hb hl9 (hml.trans hl.1.symm) hown hts hJ hR hJs hK hH hS hraw g1 (Nat.le_of_ble_eq_true rfl) (Nat.le_of_ble_eq_true rfl) dX5_init_1 (fun H locs hH hS => ?_)
  refine lv_aload_n hx hb dX5_init_4 rfl (lv_at hl 0 rfl) ?_
  refine lv_iload_n hx hb dX5_init_5 rfl (lv_at hl 1 rfl) ?_
  obtain ⟨h4, g3, hf⟩ := ob_bind hf
  refine xd_putF hx hb hts in_X5 tyX5 tyX5_ok nmX5 hown hK hH hS (ci := 17) rfl 6 (by decide) (hts _ q543) (fun _ h => h) rfl (hname.trans rfl) rfl (v := .int a1) rfl rfl g3 dX5_init_6 (fun H locs hH hS => ?_)
  refine lv_aload_n hx hb dX5_init_9 rfl (lv_at hl 0 rfl) ?_
  refine lv_iload_n hx hb dX5_init_10 rfl (lv_at hl 2 rfl) ?_
  obtain ⟨h6, g5, hf⟩ := ob_bind hf
  refine xd_putF hx hb hts in_X5 tyX5 tyX5_ok nmX5 hown hK hH hS (ci := 17) rfl 7 (by decide) (hts _ q545) (fun _ h => h) rfl (hname.trans rfl) rfl (v := .int a2) rfl rfl g5 dX5_init_11 (fun H locs hH hS => ?_)
  subst hQ
  exact xe_dv hx hb hr hlocks hH hn hS (hq.end (Option.some.inj hf)) dX5_init_14
theorem cdX3_wrong : yX3_wrong.cls = RX3 ∧ yX3_wrong.cls ≠ "java/lang/invoke/MethodHandle" ∧ yX3_wrong.cls ≠ "java/lang/invoke/VarHandle" ∧ (parseMethodDescriptor yX3_wrong.desc).map (fun d => d.parameters.length) = some 1 := by decide +kernel
set_option maxHeartbeats 4000000 in
set_option maxRecDepth 100000 in
theorem wkX3_wrong (l : Launch) (hl9 : l.stackTraces = false) (D : va_G) (dA : Nat → ClassId) (ro : Nat → Bool) (G : Gs) (J : State → Heap → Prop) (hJ : JD ro G J) (h0 : Hv) (n0 : Nat) (a0 : Nat) (a1 : Int32) {res : Nat × Hv × Nat × Nat} (hf : P_X3_wrong G ro h0 n0 a0 a1 = some res) : Met l yX3_wrong (ws_ yX3_wrong cX3_wrong 2 (some (Jvm.ClassFile.FieldType.object "QuarrelsPawned$Wrong"))) (rmD 5 102 res.2.2.1 res.2.2.2) (Pd D dA ro J [.ref a0, .int a1] h0 n0) (Qda D dA ro h0 n0 res) res.2.2.1 res.2.2.2 (fD ro h0 n0) := by
  refine xd_head (own := RX3) (by decide) rfl (Nat.le_of_ble_eq_true rfl) ?_
  intro p e s m args below meth c ls Q hQ hname C hn0 hH hl
  obtain ⟨hx, hb, hr, hlocks, hml, hown, hts, hK, hJs⟩ := C
  replace hl : lv_has ls 2 [(0, .ref a0), (1, .int a1)] := hl
  have hS : va_S (fD ro h0 n0) s.heap s.heap [] := va_S.rf
  have hR : rD ro (fD ro h0 n0) n0 := fD_rD hH
  have hA9 : ∀ q, s.heap.size ≤ q → fD ro h0 n0 q := fun q hq => hR.2 q (hn0 ▸ hq)
  unfold P_X3_wrong at hf
  obtain ⟨r, er⟩ : ∃ r, r = res := ⟨_, rfl⟩
  have hq : qI r res 0 0 := by rw [er]; exact ⟨rfl, rfl, Nat.zero_add _, Nat.zero_add _⟩
  rw [← er] at hf
  have hn : n0 = n0 + 0 := rfl
  obtain ⟨H, eH⟩ : ∃ H, H = s.heap := ⟨_, rfl⟩
  obtain ⟨locs, eL⟩ : ∃ locs : List Loc, locs = [] := ⟨_, rfl⟩
  rw [← eL] at hS ⊢
  rw [← eH] at hH
  have hS : va_S (fD ro h0 n0) s.heap H locs := by rw [eH]; exact hS
  show W p l e (rmD 5 102 res.2.2.1 res.2.2.2) s m args below meth c s.heap locs 0 0 Q (F0 m 0 ls [])
  rw [← eH]
  clear er
  obtain ⟨r, hf, hq, hc9, hs9⟩ := hq.add hf
  obtain ⟨h1, eh1, hf⟩ := ob_bnd hf
  refine xd_newM hx hb (N := 8) hts in_X5 tyX5 tyX5_ok hown (hts _ q499) (hts _ q500) (hts _ q153) hK hH hS hA9 (ci := 17) rfl (fs := [.null, .null, .null, .null, .null, .int 0, .int 0, .int 0]) df_X5 hc9 hs9 dX3_wrong_0 (fun H hH hS hraw => ?_)
  rw [← eh1] at hH
  replace hn : (n0 + 1) = n0 + (0 + 1) := by omega
  refine lv_dup hx hb dX3_wrong_3 rfl ?_
  refine lv_iload_n hx hb dX3_wrong_4 rfl (lv_at hl 1 rfl) ?_
  refine lv_aload_n hx hb dX3_wrong_5 rfl (lv_at hl 0 rfl) ?_
  obtain ⟨x3, g2, hf⟩ := ob_bind hf
  refine xh_geti hx hb hts in_X3 hown hK hH.1 (ci := 15) rfl 3 (by decide) (hts _ q352) (fun _ h => h) g2 dX3_wrong_6 ?_
  obtain ⟨q4, g5, hf⟩ := ob_bind hf
  obtain ⟨r, hf, hq, hc9, hs9⟩ := hq.add hf
  refine xdc_v (xd_runIM (As := [.int a1, .int x3]) (rest := [.ref n0]) hJ hR hJs hS ⟨hx, hb, hml, hown, hts⟩ (wkX5_init l hl9 D dA ro G J hJ h1 (n0 + 1) n0 a1 x3 g5) ⟨callB_of 2 hts (lw_meth q538) rfl rfl rfl (hts _ q153) (hts _ q536) cdX5_init.2 ⟨Nat.le_of_ble_eq_true rfl, Nat.le_of_ble_eq_true rfl⟩, rfl, hts _ q537⟩ hraw hK hH hl.1 rfl rfl (Nat.le_of_ble_eq_true rfl) dX3_wrong_9 ⟨hc9, hs9⟩) hH hR (by omega) hS (fun H locs hH hS => ?_)
  replace hn : ((n0 + 1) + q4.2.2.1) = n0 + ((0 + 1) + q4.2.2.1) := by omega
  subst hQ
  exact xe_da (Or.inl ⟨_, rfl⟩) hx hb hr hlocks hH hn hS (hq.end (Option.some.inj hf)) dX3_wrong_12
theorem cdX3_want : yX3_want.cls = RX3 ∧ yX3_want.cls ≠ "java/lang/invoke/MethodHandle" ∧ yX3_want.cls ≠ "java/lang/invoke/VarHandle" ∧ (parseMethodDescriptor yX3_want.desc).map (fun d => d.parameters.length) = some 1 := by decide +kernel
set_option maxHeartbeats 4000000 in
set_option maxRecDepth 100000 in
theorem wkX3_want (l : Launch) (hl9 : l.stackTraces = false) (D : va_G) (dA : Nat → ClassId) (ro : Nat → Bool) (G : Gs) (J : State → Heap → Prop) (hJ : JD ro G J) (h0 : Hv) (n0 : Nat) (a0 : Nat) (a1 : Int32) {res : (Nat ⊕ Unit) × Hv × Nat × Nat} (hf : P_X3_want G ro h0 n0 a0 a1 = some res) : vy_Met l yX3_want (ws_ yX3_want cX3_want 2 (none)) (rmD 7 150 res.2.2.1 res.2.2.2) (Pd D dA ro J [.ref a0, .int a1] h0 n0) (Qtv D dA ro h0 n0 res) (Xt D dA ro h0 n0 res) res.2.2.1 res.2.2.2 (fD ro h0 n0) := by
  refine xt_head (own := RX3) (by decide) rfl (Nat.le_of_ble_eq_true rfl) ?_
  intro p e s m args below meth c ls Q hQ hname hno C hn0 hH hl
  obtain ⟨hx, hb, hr, hlocks, hml, hown, hts, hK, hJs⟩ := C
  replace hl : lv_has ls 2 [(0, .ref a0), (1, .int a1)] := hl
  have hS : va_S (fD ro h0 n0) s.heap s.heap [] := va_S.rf
  have hR : rD ro (fD ro h0 n0) n0 := fD_rD hH
  have hA9 : ∀ q, s.heap.size ≤ q → fD ro h0 n0 q := fun q hq => hR.2 q (hn0 ▸ hq)
  unfold P_X3_want at hf
  obtain ⟨r, er⟩ : ∃ r, r = res := ⟨_, rfl⟩
  have hq : qI r res 0 0 := by rw [er]; exact ⟨rfl, rfl, Nat.zero_add _, Nat.zero_add _⟩
  rw [← er] at hf
  have hn : n0 = n0 + 0 := rfl
  obtain ⟨H, eH⟩ : ∃ H, H = s.heap := ⟨_, rfl⟩
  obtain ⟨locs, eL⟩ : ∃ locs : List Loc, locs = [] := ⟨_, rfl⟩
  rw [← eL] at hS ⊢
  rw [← eH] at hH
  have hS : va_S (fD ro h0 n0) s.heap H locs := by rw [eH]; exact hS
  show W p l e (rmD 7 150 res.2.2.1 res.2.2.2) s m args below meth c s.heap locs 0 0 Q (F0 m 0 ls [])
  rw [← eH]
  clear er
  refine lv_aload_n hx hb dX3_want_0 rfl (lv_at hl 0 rfl) ?_
  obtain ⟨x2, g1, hf⟩ := ob_bind hf
  refine xh_geti hx hb hts in_X3 hown hK hH.1 (ci := 15) rfl 4 (by decide) (hts _ q353) (fun _ h => h) g1 dX3_want_1 ?_
  refine lv_iload_n hx hb dX3_want_4 rfl (lv_at hl 1 rfl) ?_
  refine lv_icmp_eq (tgt := 14) hx hb dX3_want_5 (by decide) (fun c3 => ?_) (fun c3 => ?_)
  · replace hf := ob_t hf c3
    refine lv_aload_n hx hb dX3_want_14 rfl (lv_at hl 0 rfl) ?_
    obtain ⟨g6, hf⟩ := ob_gp hf
    obtain ⟨q4, g5, hf⟩ := ob_bind hf
    obtain ⟨r, hf, hq, hc9, hs9⟩ := hq.add hf
    refine xdc_v (xd_run (As := []) (rest := []) hJ hR hJs hS ⟨hx, hb, hml, hown, hts⟩ (wkX3_next l hl9 D dA ro G J hJ h0 n0 a0 g5) (cwV 0 hts (lw_V q426 q428 qs2 q141 q429) rfl rfl rfl cdX3_next ⟨Nat.le_of_ble_eq_true rfl, Nat.le_of_ble_eq_true rfl⟩) hK hH (of_decide_eq_true g6) (q := (RX3, TX3, 8)) rfl rfl hl.1 rfl rfl (Nat.le_of_ble_eq_true rfl) dX3_want_15 ⟨hc9, hs9⟩) hH hR (by omega) hS (fun H locs hH hS => ?_)
    replace hn : (n0 + q4.2.2.1) = n0 + (0 + q4.2.2.1) := by omega
    subst hQ
    exact xe_tv hx hb hr hlocks hH hn hS (hq.end (Option.some.inj hf)) dX3_want_18
  · replace hf := ob_f hf c3
    refine lv_aload_n hx hb dX3_want_8 rfl (lv_at hl 0 rfl) ?_
    refine lv_iconst (v := 1) hx hb dX3_want_9 (by decide) ?_
    obtain ⟨g9, hf⟩ := ob_gp hf
    obtain ⟨q7, g8, hf⟩ := ob_bind hf
    obtain ⟨r, hf, hq, hc9, hs9⟩ := hq.add hf
    refine xdc_a (xd_run (As := [.int 1]) (rest := []) hJ hR hJs hS ⟨hx, hb, hml, hown, hts⟩ (wkX3_wrong l hl9 D dA ro G J hJ h0 n0 a0 1 g8) (cwV 1 hts (lw_V q495 q497 qs4 q141 q498) rfl rfl rfl cdX3_wrong ⟨Nat.le_of_ble_eq_true rfl, Nat.le_of_ble_eq_true rfl⟩) hK hH (of_decide_eq_true g9) (q := (RX3, TX3, 8)) rfl rfl hl.1 rfl rfl (Nat.le_of_ble_eq_true rfl) dX3_want_10 ⟨hc9, hs9⟩) hH hR (by omega) hS (fun H locs hH hS => ?_)
    replace hn : (n0 + q7.2.2.1) = n0 + (0 + q7.2.2.1) := by omega
    obtain ⟨g10, hf⟩ := ob_gp hf
    obtain ⟨g109, hf⟩ := ob_gp hf
    subst hQ
    exact xt_throw hx hb hno hlocks hK hH hn hS (of_decide_eq_true g10) g109 (hq.end (Option.some.inj hf)) dX3_want_13
theorem cdX3_number : yX3_number.cls = RX3 ∧ yX3_number.cls ≠ "java/lang/invoke/MethodHandle" ∧ yX3_number.cls ≠ "java/lang/invoke/VarHandle" ∧ (parseMethodDescriptor yX3_number.desc).map (fun d => d.parameters.length) = some 2 := by decide +kernel
set_option maxHeartbeats 4000000 in
set_option maxRecDepth 100000 in
theorem wkX3_number (l : Launch) (hl9 : l.stackTraces = false) (D : va_G) (dA : Nat → ClassId) (ro : Nat → Bool) (G : Gs) (J : State → Heap → Prop) (hJ : JD ro G J) (h0 : Hv) (n0 : Nat) (a0 : Nat) (a1 : Int32) (a2 : Int32) {res : (Nat ⊕ Int32) × Hv × Nat × Nat} (hf : P_X3_number G ro h0 n0 a0 a1 a2 = some res) : vy_Met l yX3_number (ws_ yX3_number cX3_number 4 (some .int)) (rmD 7 150 res.2.2.1 res.2.2.2) (Pd D dA ro J [.ref a0, .int a1, .int a2] h0 n0) (Qti D dA ro h0 n0 res) (Xt D dA ro h0 n0 res) res.2.2.1 res.2.2.2 (fD ro h0 n0) := by
  refine xt_head (own := RX3) (by decide) rfl (Nat.le_of_ble_eq_true rfl) ?_
  intro p e s m args below meth c ls Q hQ hname hno C hn0 hH hl
  obtain ⟨hx, hb, hr, hlocks, hml, hown, hts, hK, hJs⟩ := C
  replace hl : lv_has ls 4 [(0, .ref a0), (1, .int a1), (2, .int a2)] := hl
  have hS : va_S (fD ro h0 n0) s.heap s.heap [] := va_S.rf
  have hR : rD ro (fD ro h0 n0) n0 := fD_rD hH
  have hA9 : ∀ q, s.heap.size ≤ q → fD ro h0 n0 q := fun q hq => hR.2 q (hn0 ▸ hq)
  unfold P_X3_number at hf
  obtain ⟨r, er⟩ : ∃ r, r = res := ⟨_, rfl⟩
  have hq : qI r res 0 0 := by rw [er]; exact ⟨rfl, rfl, Nat.zero_add _, Nat.zero_add _⟩
  rw [← er] at hf
  have hn : n0 = n0 + 0 := rfl
  obtain ⟨H, eH⟩ : ∃ H, H = s.heap := ⟨_, rfl⟩
  obtain ⟨locs, eL⟩ : ∃ locs : List Loc, locs = [] := ⟨_, rfl⟩
  rw [← eL] at hS ⊢
  rw [← eH] at hH
  have hS : va_S (fD ro h0 n0) s.heap H locs := by rw [eH]; exact hS
  show W p l e (rmD 7 150 res.2.2.1 res.2.2.2) s m args below meth c s.heap locs 0 0 Q (F0 m 0 ls [])
  rw [← eH]
  clear er
  refine lv_aload_n hx hb dX3_number_0 rfl (lv_at hl 0 rfl) ?_
  obtain ⟨x2, g1, hf⟩ := ob_bind hf
  refine xh_geti hx hb hts in_X3 hown hK hH.1 (ci := 15) rfl 4 (by decide) (hts _ q353) (fun _ h => h) g1 dX3_number_1 ?_
  refine lv_sipush (v := 300) hx hb dX3_number_4 (by decide) ?_
  refine lv_icmp_eq (tgt := 16) hx hb dX3_number_7 (by decide) (fun c3 => ?_) (fun c3 => ?_)
  · replace hf := ob_t hf c3
    refine lv_aload_n hx hb dX3_number_16 rfl (lv_at hl 0 rfl) ?_
    obtain ⟨x5, g4, hf⟩ := ob_bind hf
    refine xh_geti hx hb hts in_X3 hown hK hH.1 (ci := 15) rfl 5 (by decide) (hts _ q354) (fun _ h => h) g4 dX3_number_17 ?_
    refine lv_iload_n hx hb dX3_number_20 rfl (lv_at hl 1 rfl) ?_
    have kj32 : ∀ (h6 : Hv) (n7 : Nat) (kc7 ks7 : Nat) (r : (Nat ⊕ Int32) × Hv × Nat × Nat) (H : Heap) (locs : List Loc) (ls : Array Slot), P_X3_number_j32 a0 G ro h6 n7 = some r → qI r res kc7 ks7 → n7 = n0 + kc7 → DS D dA ro h6 n7 (fD ro h0 n0) H → va_S (fD ro h0 n0) s.heap H locs → lv_has ls 4 [(0, .ref a0)] → W p l e (rmD 7 150 res.2.2.1 res.2.2.2) s m args below meth c H locs kc7 ks7 Q (F0 m 32 ls []) := by
      intro h6 n7 kc7 ks7 r H locs ls hf hq hn hH hS hl
      unfold P_X3_number_j32 at hf
      refine lv_aload_n hx hb dX3_number_32 rfl (lv_at hl 0 rfl) ?_
      refine lv_iconst (v := 2) hx hb dX3_number_33 (by decide) ?_
      obtain ⟨g10, hf⟩ := ob_gp hf
      obtain ⟨q8, g9, hf⟩ := ob_bind hf
      obtain ⟨r, hf, hq, hc9, hs9⟩ := hq.add hf
      refine xdc_a (xd_run (As := [.int 2]) (rest := []) hJ hR hJs hS ⟨hx, hb, hml, hown, hts⟩ (wkX3_wrong l hl9 D dA ro G J hJ h6 n7 a0 2 g9) (cwV 1 hts (lw_V q495 q497 qs4 q141 q498) rfl rfl rfl cdX3_wrong ⟨Nat.le_of_ble_eq_true rfl, Nat.le_of_ble_eq_true rfl⟩) hK hH (of_decide_eq_true g10) (q := (RX3, TX3, 8)) rfl rfl hl.1 rfl rfl (Nat.le_of_ble_eq_true rfl) dX3_number_34 ⟨hc9, hs9⟩) hH hR (by omega) hS (fun H locs hH hS => ?_)
      replace hn : (n7 + q8.2.2.1) = n0 + (kc7 + q8.2.2.1) := by omega
      obtain ⟨g11, hf⟩ := ob_gp hf
      obtain ⟨g119, hf⟩ := ob_gp hf
      subst hQ
      exact xt_throw hx hb hno hlocks hK hH hn hS (of_decide_eq_true g11) g119 (hq.end (Option.some.inj hf)) dX3_number_37
    refine lv_icmp_lt (tgt := 32) hx hb dX3_number_21 (by decide) (fun c12 => ?_) (fun c12 => ?_)
    · replace hf := ob_t hf c12
      exact kj32 h0 n0 _ _ r H locs ls hf hq hn hH hS (lv_sub hl [0] rfl)
    · replace hf := ob_f hf c12
      refine lv_aload_n hx hb dX3_number_24 rfl (lv_at hl 0 rfl) ?_
      obtain ⟨x14, g13, hf⟩ := ob_bind hf
      refine xh_geti hx hb hts in_X3 hown hK hH.1 (ci := 15) rfl 5 (by decide) (hts _ q354) (fun _ h => h) g13 dX3_number_25 ?_
      refine lv_iload_n hx hb dX3_number_28 rfl (lv_at hl 2 rfl) ?_
      refine lv_icmp_le (tgt := 38) hx hb dX3_number_29 (by decide) (fun c15 => ?_) (fun c15 => ?_)
      · replace hf := ob_t hf c15
        refine lv_aload_n hx hb dX3_number_38 rfl (lv_at hl 0 rfl) ?_
        obtain ⟨x17, g16, hf⟩ := ob_bind hf
        refine xh_geti hx hb hts in_X3 hown hK hH.1 (ci := 15) rfl 5 (by decide) (hts _ q354) (fun _ h => h) g16 dX3_number_39 ?_
        refine lv_istore_n (lv' := [(3, .int x17), (0, .ref a0), (1, .int a1), (2, .int a2)]) hx hb dX3_number_42 rfl hl (by decide) rfl (fun ls hl => ?_)
        refine lv_aload_n hx hb dX3_number_43 rfl (lv_at hl 1 rfl) ?_
        obtain ⟨g20, hf⟩ := ob_gp hf
        obtain ⟨q18, g19, hf⟩ := ob_bind hf
        obtain ⟨r, hf, hq, hc9, hs9⟩ := hq.add hf
        refine xdc_v (xd_run (As := []) (rest := []) hJ hR hJs hS ⟨hx, hb, hml, hown, hts⟩ (wkX3_next l hl9 D dA ro G J hJ h0 n0 a0 g19) (cwV 0 hts (lw_V q426 q428 qs2 q141 q429) rfl rfl rfl cdX3_next ⟨Nat.le_of_ble_eq_true rfl, Nat.le_of_ble_eq_true rfl⟩) hK hH (of_decide_eq_true g20) (q := (RX3, TX3, 8)) rfl rfl hl.1 rfl rfl (Nat.le_of_ble_eq_true rfl) dX3_number_44 ⟨hc9, hs9⟩) hH hR (by omega) hS (fun H locs hH hS => ?_)
        replace hn : (n0 + q18.2.2.1) = n0 + (0 + q18.2.2.1) := by omega
        refine lv_iload_n hx hb dX3_number_47 rfl (lv_at hl 0 rfl) ?_
        subst hQ
        exact xe_ti hx hb hr hlocks hH hn hS (hq.end (Option.some.inj hf)) dX3_number_48
      · replace hf := ob_f hf c15
        exact kj32 h0 n0 _ _ r H locs ls hf hq hn hH hS (lv_sub hl [0] rfl)
  · replace hf := ob_f hf c3
    refine lv_aload_n hx hb dX3_number_10 rfl (lv_at hl 0 rfl) ?_
    refine lv_iconst (v := 1) hx hb dX3_number_11 (by decide) ?_
    obtain ⟨g23, hf⟩ := ob_gp hf
    obtain ⟨q21, g22, hf⟩ := ob_bind hf
    obtain ⟨r, hf, hq, hc9, hs9⟩ := hq.add hf
    refine xdc_a (xd_run (As := [.int 1]) (rest := []) hJ hR hJs hS ⟨hx, hb, hml, hown, hts⟩ (wkX3_wrong l hl9 D dA ro G J hJ h0 n0 a0 1 g22) (cwV 1 hts (lw_V q495 q497 qs4 q141 q498) rfl rfl rfl cdX3_wrong ⟨Nat.le_of_ble_eq_true rfl, Nat.le_of_ble_eq_true rfl⟩) hK hH (of_decide_eq_true g23) (q := (RX3, TX3, 8)) rfl rfl hl.1 rfl rfl (Nat.le_of_ble_eq_true rfl) dX3_number_12 ⟨hc9, hs9⟩) hH hR (by omega) hS (fun H locs hH hS => ?_)
    replace hn : (n0 + q21.2.2.1) = n0 + (0 + q21.2.2.1) := by omega
    obtain ⟨g24, hf⟩ := ob_gp hf
    obtain ⟨g249, hf⟩ := ob_gp hf
    subst hQ
    exact xt_throw hx hb hno hlocks hK hH hn hS (of_decide_eq_true g24) g249 (hq.end (Option.some.inj hf)) dX3_number_15
theorem cdX3_opens : yX3_opens.cls = RX3 ∧ yX3_opens.cls ≠ "java/lang/invoke/MethodHandle" ∧ yX3_opens.cls ≠ "java/lang/invoke/VarHandle" ∧ (parseMethodDescriptor yX3_opens.desc).map (fun d => d.parameters.length) = some 0 := by decide +kernel
set_option maxHeartbeats 4000000 in
set_option maxRecDepth 100000 in
theorem wkX3_opens (l : Launch) (hl9 : l.stackTraces = false) (D : va_G) (dA : Nat → ClassId) (ro : Nat → Bool) (G : Gs) (J : State → Heap → Prop) (hJ : JD ro G J) (h0 : Hv) (n0 : Nat) (a0 : Nat) {res : (Nat ⊕ Unit) × Hv × Nat × Nat} (hf : P_X3_opens G ro h0 n0 a0 = some res) : vy_Met l yX3_opens (ws_ yX3_opens cX3_opens 1 (none)) (rmD 7 150 res.2.2.1 res.2.2.2) (Pd D dA ro J [.ref a0] h0 n0) (Qtv D dA ro h0 n0 res) (Xt D dA ro h0 n0 res) res.2.2.1 res.2.2.2 (fD ro h0 n0) := by
  refine xt_head (own := RX3) (by decide) rfl (Nat.le_of_ble_eq_true rfl) ?_
  intro p e s m args below meth c ls Q hQ hname hno C hn0 hH hl
  obtain ⟨hx, hb, hr, hlocks, hml, hown, hts, hK, hJs⟩ := C
  replace hl : lv_has ls 1 [(0, .ref a0)] := hl
  have hS : va_S (fD ro h0 n0) s.heap s.heap [] := va_S.rf
  have hR : rD ro (fD ro h0 n0) n0 := fD_rD hH
  have hA9 : ∀ q, s.heap.size ≤ q → fD ro h0 n0 q := fun q hq => hR.2 q (hn0 ▸ hq)
  unfold P_X3_opens at hf
  obtain ⟨r, er⟩ : ∃ r, r = res := ⟨_, rfl⟩
  have hq : qI r res 0 0 := by rw [er]; exact ⟨rfl, rfl, Nat.zero_add _, Nat.zero_add _⟩
  rw [← er] at hf
  have hn : n0 = n0 + 0 := rfl
  obtain ⟨H, eH⟩ : ∃ H, H = s.heap := ⟨_, rfl⟩
  obtain ⟨locs, eL⟩ : ∃ locs : List Loc, locs = [] := ⟨_, rfl⟩
  rw [← eL] at hS ⊢
  rw [← eH] at hH
  have hS : va_S (fD ro h0 n0) s.heap H locs := by rw [eH]; exact hS
  show W p l e (rmD 7 150 res.2.2.1 res.2.2.2) s m args below meth c s.heap locs 0 0 Q (F0 m 0 ls [])
  rw [← eH]
  clear er
  refine lv_aload_n hx hb dX3_opens_0 rfl (lv_at hl 0 rfl) ?_
  obtain ⟨x2, g1, hf⟩ := ob_bind hf
  refine xh_geti hx hb hts in_X3 hown hK hH.1 (ci := 15) rfl 6 (by decide) (hts _ q355) (fun _ h => h) g1 dX3_opens_1 ?_
  refine lv_bipush (v := 8) hx hb dX3_opens_4 (by decide) ?_
  refine lv_icmp_ne (tgt := 15) hx hb dX3_opens_6 (by decide) (fun c3 => ?_) (fun c3 => ?_)
  · replace hf := ob_f hf c3
    refine lv_aload_n hx hb dX3_opens_15 rfl (lv_at hl 0 rfl) ?_
    refine lv_dup hx hb dX3_opens_16 rfl ?_
    obtain ⟨x5, g4, hf⟩ := ob_bind hf
    refine xh_geti hx hb hts in_X3 hown hK hH.1 (ci := 15) rfl 6 (by decide) (hts _ q355) (fun _ h => h) g4 dX3_opens_17 ?_
    refine lv_iconst (v := 1) hx hb dX3_opens_20 (by decide) ?_
    refine lv_iadd hx hb dX3_opens_21 ?_
    obtain ⟨h7, g6, hf⟩ := ob_bind hf
    refine xd_put hx hb hts in_X3 tyX3 tyX3_ok nmX3 hown hK hH hS (ci := 15) rfl 6 (by decide) (hts _ q355) (fun _ h => h) rfl (v := .int (x5 + 1)) rfl rfl g6 dX3_opens_22 (fun H locs hH hS => ?_)
    refine lv_aload_n hx hb dX3_opens_25 rfl (lv_at hl 0 rfl) ?_
    obtain ⟨g10, hf⟩ := ob_gp hf
    obtain ⟨q8, g9, hf⟩ := ob_bind hf
    obtain ⟨r, hf, hq, hc9, hs9⟩ := hq.add hf
    refine xdc_v (xd_run (As := []) (rest := []) hJ hR hJs hS ⟨hx, hb, hml, hown, hts⟩ (wkX3_next l hl9 D dA ro G J hJ h7 n0 a0 g9) (cwV 0 hts (lw_V q426 q428 qs2 q141 q429) rfl rfl rfl cdX3_next ⟨Nat.le_of_ble_eq_true rfl, Nat.le_of_ble_eq_true rfl⟩) hK hH (of_decide_eq_true g10) (q := (RX3, TX3, 8)) rfl rfl hl.1 rfl rfl (Nat.le_of_ble_eq_true rfl) dX3_opens_26 ⟨hc9, hs9⟩) hH hR (by omega) hS (fun H locs hH hS => ?_)
    replace hn : (n0 + q8.2.2.1) = n0 + (0 + q8.2.2.1) := by omega
    subst hQ
    exact xe_tv hx hb hr hlocks hH hn hS (hq.end (Option.some.inj hf)) dX3_opens_29
  · replace hf := ob_t hf c3
    refine lv_aload_n hx hb dX3_opens_9 rfl (lv_at hl 0 rfl) ?_
    refine lv_iconst (v := 3) hx hb dX3_opens_10 (by decide) ?_
    obtain ⟨g13, hf⟩ := ob_gp hf
    obtain ⟨q11, g12, hf⟩ := ob_bind hf
    obtain ⟨r, hf, hq, hc9, hs9⟩ := hq.add hf
    refine xdc_a (xd_run (As := [.int 3]) (rest := []) hJ hR hJs hS ⟨hx, hb, hml, hown, hts⟩ (wkX3_wrong l hl9 D dA ro G J hJ h0 n0 a0 3 g12) (cwV 1 hts (lw_V q495 q497 qs4 q141 q498) rfl rfl rfl cdX3_wrong ⟨Nat.le_of_ble_eq_true rfl, Nat.le_of_ble_eq_true rfl⟩) hK hH (of_decide_eq_true g13) (q := (RX3, TX3, 8)) rfl rfl hl.1 rfl rfl (Nat.le_of_ble_eq_true rfl) dX3_opens_11 ⟨hc9, hs9⟩) hH hR (by omega) hS (fun H locs hH hS => ?_)
    replace hn : (n0 + q11.2.2.1) = n0 + (0 + q11.2.2.1) := by omega
    obtain ⟨g14, hf⟩ := ob_gp hf
    obtain ⟨g149, hf⟩ := ob_gp hf
    subst hQ
    exact xt_throw hx hb hno hlocks hK hH hn hS (of_decide_eq_true g14) g149 (hq.end (Option.some.inj hf)) dX3_opens_14
theorem cdX3_nameNow : yX3_nameNow.cls = RX3 ∧ yX3_nameNow.cls ≠ "java/lang/invoke/MethodHandle" ∧ yX3_nameNow.cls ≠ "java/lang/invoke/VarHandle" ∧ (parseMethodDescriptor yX3_nameNow.desc).map (fun d => d.parameters.length) = some 0 := by decide +kernel
set_option maxHeartbeats 4000000 in
set_option maxRecDepth 100000 in
theorem wkX3_nameNow (l : Launch) (hl9 : l.stackTraces = false) (D : va_G) (dA : Nat → ClassId) (ro : Nat → Bool) (G : Gs) (J : State → Heap → Prop) (hJ : JD ro G J) (h0 : Hv) (n0 : Nat) (a0 : Nat) {res : Int32 × Hv × Nat × Nat} (hf : P_X3_nameNow G ro h0 n0 a0 = some res) : Met l yX3_nameNow (ws_ yX3_nameNow cX3_nameNow 2 (some .int)) (rmD 0 0 res.2.2.1 res.2.2.2) (Pd D dA ro J [.ref a0] h0 n0) (Qdi D dA ro h0 n0 res) res.2.2.1 res.2.2.2 (fD ro h0 n0) := by
  refine xd_head (own := RX3) (by decide) rfl (Nat.le_of_ble_eq_true rfl) ?_
  intro p e s m args below meth c ls Q hQ hname C hn0 hH hl
  obtain ⟨hx, hb, hr, hlocks, hml, hown, hts, hK, hJs⟩ := C
  replace hl : lv_has ls 2 [(0, .ref a0)] := hl
  have hS : va_S (fD ro h0 n0) s.heap s.heap [] := va_S.rf
  have hR : rD ro (fD ro h0 n0) n0 := fD_rD hH
  have hA9 : ∀ q, s.heap.size ≤ q → fD ro h0 n0 q := fun q hq => hR.2 q (hn0 ▸ hq)
  unfold P_X3_nameNow at hf
  obtain ⟨r, er⟩ : ∃ r, r = res := ⟨_, rfl⟩
  have hq : qI r res 0 0 := by rw [er]; exact ⟨rfl, rfl, Nat.zero_add _, Nat.zero_add _⟩
  rw [← er] at hf
  have hn : n0 = n0 + 0 := rfl
  obtain ⟨H, eH⟩ : ∃ H, H = s.heap := ⟨_, rfl⟩
  obtain ⟨locs, eL⟩ : ∃ locs : List Loc, locs = [] := ⟨_, rfl⟩
  rw [← eL] at hS ⊢
  rw [← eH] at hH
  have hS : va_S (fD ro h0 n0) s.heap H locs := by rw [eH]; exact hS
  show W p l e (rmD 0 0 res.2.2.1 res.2.2.2) s m args below meth c s.heap locs 0 0 Q (F0 m 0 ls [])
  rw [← eH]
  clear er
  refine lv_iconst (v := 0) hx hb dX3_nameNow_0 (by decide) ?_
  refine lv_istore_n (lv' := [(1, .int 0), (0, .ref a0)]) hx hb dX3_nameNow_1 rfl hl (by decide) rfl (fun ls hl => ?_)
  have kl2 : ∀ (f : Nat) (h1 : Hv) (n2 : Nat) (v1_3 : Int32) (kc3 ks3 : Nat) (r : Int32 × Hv × Nat × Nat) (H : Heap) (locs : List Loc) (ls : Array Slot), P_X3_nameNow_l2 a0 f h1 n2 v1_3 = some r → qI r res kc3 ks3 → n2 = n0 + kc3 → DS D dA ro h1 n2 (fD ro h0 n0) H → va_S (fD ro h0 n0) s.heap H locs → lv_has ls 2 [(0, .ref a0), (1, .int v1_3)] → W p l e (rmD 0 0 res.2.2.1 res.2.2.2) s m args below meth c H locs kc3 ks3 Q (F0 m 2 ls []) := by
    intro f
    induction f with
    | zero =>
      intro h1 n2 v1_3 kc3 ks3 r H locs ls hf
      cases hf
    | succ f ihl2 =>
      intro h1 n2 v1_3 kc3 ks3 r H locs ls hf hq hn hH hS hl
      obtain ⟨rl2, erl2⟩ : ∃ x, x = P_X3_nameNow_l2 a0 f := ⟨_, rfl⟩
      replace hf : P_X3_nameNow_b2 a0 (P_X3_nameNow_l2 a0 f) h1 n2 v1_3 = some r := hf
      rw [← erl2] at hf ihl2
      unfold P_X3_nameNow_b2 at hf
      refine lv_iload_n hx hb dX3_nameNow_2 rfl (lv_at hl 1 rfl) ?_
      refine va_gets hx hb (hJ.z hR hJs).2.2.2.1 hS hown (hts _ q775) (fun _ h => h) dX3_nameNow_3 ?_
      refine va_tlen hx hb (hJ.z hR hJs).2.2.2.2.1 hS (v := 8) rfl dX3_nameNow_6 ?_
      refine lv_icmp_ge (tgt := 30) hx hb dX3_nameNow_7 (by decide) (fun c4 => ?_) (fun c4 => ?_)
      · replace hf := ob_t hf c4
        refine lv_iconst (v := (-1)) hx hb dX3_nameNow_30 (by decide) ?_
        subst hQ
        exact xe_di hx hb hr hlocks hH hn hS (hq.end (Option.some.inj hf)) dX3_nameNow_31
      · replace hf := ob_f hf c4
        refine va_gets hx hb (hJ.z hR hJs).2.2.2.1 hS hown (hts _ q775) (fun _ h => h) dX3_nameNow_10 ?_
        refine lv_iload_n hx hb dX3_nameNow_13 rfl (lv_at hl 1 rfl) ?_
        obtain ⟨h5, hf⟩ := ob_gd hf
        refine va_ti hx hb (hJ.z hR hJs).2.2.2.2.1 hS h5 (v := .int (nmF v1_3.toNatClampNeg)) rfl dX3_nameNow_14 ?_
        refine lv_aload_n hx hb dX3_nameNow_15 rfl (lv_at hl 0 rfl) ?_
        obtain ⟨x7, g6, hf⟩ := ob_bind hf
        refine xh_geti hx hb hts in_X3 hown hK hH.1 (ci := 15) rfl 4 (by decide) (hts _ q353) (fun _ h => h) g6 dX3_nameNow_16 ?_
        refine lv_icmp_ne (tgt := 24) hx hb dX3_nameNow_19 (by decide) (fun c8 => ?_) (fun c8 => ?_)
        · replace hf := ob_f hf c8
          obtain ⟨v1_9, ev1_9, hf⟩ := ob_bnd hf
          refine lv_iinc (v := v1_9) (lv' := [(1, .int v1_9), (0, .ref a0)]) hx hb dX3_nameNow_24 hl (k := 1) rfl (by rw [ev1_9]; rfl) (by decide) rfl (fun ls hl => ?_)
          refine lv_goto (tgt := 2) hx hb dX3_nameNow_27 (by decide) ?_
          exact ihl2 h1 n2 v1_9 _ _ r H locs ls hf hq hn hH hS (lv_sub hl [1, 0] rfl)
        · replace hf := ob_t hf c8
          refine lv_iload_n hx hb dX3_nameNow_22 rfl (lv_at hl 1 rfl) ?_
          subst hQ
          exact xe_di hx hb hr hlocks hH hn hS (hq.end (Option.some.inj hf)) dX3_nameNow_23
  exact kl2 400 h0 n0 0 _ _ r H locs ls hf hq hn hH hS (lv_sub hl [1, 0] rfl)
theorem cdX3_mayName : yX3_mayName.cls = RX3 ∧ yX3_mayName.cls ≠ "java/lang/invoke/MethodHandle" ∧ yX3_mayName.cls ≠ "java/lang/invoke/VarHandle" ∧ (parseMethodDescriptor yX3_mayName.desc).map (fun d => d.parameters.length) = some 1 := by decide +kernel
set_option maxHeartbeats 4000000 in
set_option maxRecDepth 100000 in
theorem wkX3_mayName (l : Launch) (hl9 : l.stackTraces = false) (D : va_G) (dA : Nat → ClassId) (ro : Nat → Bool) (G : Gs) (J : State → Heap → Prop) (hJ : JD ro G J) (h0 : Hv) (n0 : Nat) (a0 : Nat) (a1 : Int32) {res : Int32 × Hv × Nat × Nat} (hf : P_X3_mayName G ro h0 n0 a0 a1 = some res) : Met l yX3_mayName (ws_ yX3_mayName cX3_mayName 2 (some .boolean)) (rmD 0 0 res.2.2.1 res.2.2.2) (Pd D dA ro J [.ref a0, .int a1] h0 n0) (Qdz D dA ro h0 n0 res) res.2.2.1 res.2.2.2 (fD ro h0 n0) := by
  refine xd_head (own := RX3) (by decide) rfl (Nat.le_of_ble_eq_true rfl) ?_
  intro p e s m args below meth c ls Q hQ hname C hn0 hH hl
  obtain ⟨hx, hb, hr, hlocks, hml, hown, hts, hK, hJs⟩ := C
  replace hl : lv_has ls 2 [(0, .ref a0), (1, .int a1)] := hl
  have hS : va_S (fD ro h0 n0) s.heap s.heap [] := va_S.rf
  have hR : rD ro (fD ro h0 n0) n0 := fD_rD hH
  have hA9 : ∀ q, s.heap.size ≤ q → fD ro h0 n0 q := fun q hq => hR.2 q (hn0 ▸ hq)
  unfold P_X3_mayName at hf
  obtain ⟨r, er⟩ : ∃ r, r = res := ⟨_, rfl⟩
  have hq : qI r res 0 0 := by rw [er]; exact ⟨rfl, rfl, Nat.zero_add _, Nat.zero_add _⟩
  rw [← er] at hf
  have hn : n0 = n0 + 0 := rfl
  obtain ⟨H, eH⟩ : ∃ H, H = s.heap := ⟨_, rfl⟩
  obtain ⟨locs, eL⟩ : ∃ locs : List Loc, locs = [] := ⟨_, rfl⟩
  rw [← eL] at hS ⊢
  rw [← eH] at hH
  have hS : va_S (fD ro h0 n0) s.heap H locs := by rw [eH]; exact hS
  show W p l e (rmD 0 0 res.2.2.1 res.2.2.2) s m args below meth c s.heap locs 0 0 Q (F0 m 0 ls [])
  rw [← eH]
  clear er
  refine lv_iload_n hx hb dX3_mayName_0 rfl (lv_at hl 1 rfl) ?_
  refine lv_bipush (v := 6) hx hb dX3_mayName_1 (by decide) ?_
  refine lv_icmp_lt (tgt := 35) hx hb dX3_mayName_3 (by decide) (fun c1 => ?_) (fun c1 => ?_)
  · replace hf := ob_t hf c1
    refine lv_iconst (v := 1) hx hb dX3_mayName_35 (by decide) ?_
    refine lv_goto (tgt := 40) hx hb dX3_mayName_36 (by decide) ?_
    subst hQ
    exact xe_dz hx hb hr hlocks hH hn hS (Or.inr rfl) (hq.end (Option.some.inj hf)) dX3_mayName_40
  · replace hf := ob_f hf c1
    refine lv_iload_n hx hb dX3_mayName_6 rfl (lv_at hl 1 rfl) ?_
    refine lv_bipush (v := 6) hx hb dX3_mayName_7 (by decide) ?_
    have kj17 : ∀ (h3 : Hv) (n4 : Nat) (t2 : Int32) (kc4 ks4 : Nat) (r : Int32 × Hv × Nat × Nat) (H : Heap) (locs : List Loc) (ls : Array Slot), P_X3_mayName_j17 a0 h3 n4 t2 = some r → qI r res kc4 ks4 → n4 = n0 + kc4 → DS D dA ro h3 n4 (fD ro h0 n0) H → va_S (fD ro h0 n0) s.heap H locs → lv_has ls 2 [(0, .ref a0)] → W p l e (rmD 0 0 res.2.2.1 res.2.2.2) s m args below meth c H locs kc4 ks4 Q (F0 m 17 ls [.int t2]) := by
      intro h3 n4 t2 kc4 ks4 r H locs ls hf hq hn hH hS hl
      unfold P_X3_mayName_j17 at hf
      refine lv_aload_n hx hb dX3_mayName_17 rfl (lv_at hl 0 rfl) ?_
      obtain ⟨x6, g5, hf⟩ := ob_bind hf
      refine xh_geti hx hb hts in_X3 hown hK hH.1 (ci := 15) rfl 7 (by decide) (hts _ q356) (fun _ h => h) g5 dX3_mayName_18 ?_
      refine lv_sipush (v := 200) hx hb dX3_mayName_21 (by decide) ?_
      have kj32 : ∀ (h8 : Hv) (n9 : Nat) (t7 : Int32) (kc9 ks9 : Nat) (r : Int32 × Hv × Nat × Nat) (H : Heap) (locs : List Loc) (ls : Array Slot), P_X3_mayName_j32 t2 h8 n9 t7 = some r → qI r res kc9 ks9 → n9 = n0 + kc9 → DS D dA ro h8 n9 (fD ro h0 n0) H → va_S (fD ro h0 n0) s.heap H locs → lv_has ls 2 [] → W p l e (rmD 0 0 res.2.2.1 res.2.2.2) s m args below meth c H locs kc9 ks9 Q (F0 m 32 ls [.int t7, .int t2]) := by
        intro h8 n9 t7 kc9 ks9 r H locs ls hf hq hn hH hS hl
        unfold P_X3_mayName_j32 at hf
        refine lv_icmp_ne (tgt := 39) hx hb dX3_mayName_32 (by decide) (fun c10 => ?_) (fun c10 => ?_)
        · replace hf := ob_f hf c10
          refine lv_iconst (v := 0) hx hb dX3_mayName_39 (by decide) ?_
          subst hQ
          exact xe_dz hx hb hr hlocks hH hn hS (Or.inl rfl) (hq.end (Option.some.inj hf)) dX3_mayName_40
        · replace hf := ob_t hf c10
          refine lv_iconst (v := 1) hx hb dX3_mayName_35 (by decide) ?_
          refine lv_goto (tgt := 40) hx hb dX3_mayName_36 (by decide) ?_
          subst hQ
          exact xe_dz hx hb hr hlocks hH hn hS (Or.inr rfl) (hq.end (Option.some.inj hf)) dX3_mayName_40
      refine lv_icmp_ne (tgt := 31) hx hb dX3_mayName_24 (by decide) (fun c11 => ?_) (fun c11 => ?_)
      · replace hf := ob_f hf c11
        refine lv_iconst (v := 0) hx hb dX3_mayName_31 (by decide) ?_
        exact kj32 h3 n4 0 _ _ r H locs ls hf hq hn hH hS (lv_sub hl [] rfl)
      · replace hf := ob_t hf c11
        refine lv_iconst (v := 1) hx hb dX3_mayName_27 (by decide) ?_
        refine lv_goto (tgt := 32) hx hb dX3_mayName_28 (by decide) ?_
        exact kj32 h3 n4 1 _ _ r H locs ls hf hq hn hH hS (lv_sub hl [] rfl)
    refine lv_icmp_ne (tgt := 16) hx hb dX3_mayName_9 (by decide) (fun c12 => ?_) (fun c12 => ?_)
    · replace hf := ob_f hf c12
      refine lv_iconst (v := 0) hx hb dX3_mayName_16 (by decide) ?_
      exact kj17 h0 n0 0 _ _ r H locs ls hf hq hn hH hS (lv_sub hl [0] rfl)
    · replace hf := ob_t hf c12
      refine lv_iconst (v := 1) hx hb dX3_mayName_12 (by decide) ?_
      refine lv_goto (tgt := 17) hx hb dX3_mayName_13 (by decide) ?_
      exact kj17 h0 n0 1 _ _ r H locs ls hf hq hn hH hS (lv_sub hl [0] rfl)
set_option maxHeartbeats 4000000 in
set_option maxRecDepth 100000 in
theorem wkX3_sum (l : Launch) (hl9 : l.stackTraces = false) (D : va_G) (dA : Nat → ClassId) (ro : Nat → Bool) (G : Gs) (J : State → Heap → Prop) (hJ : JD ro G J) {F L : Nat} {rc : Nat → Hv → Nat → Nat → Option ((Nat ⊕ Nat) × Hv × Nat × Nat)} (hrc : ∀ k h n a res, rc k h n a = some res → KC l D dA ro J F L k h n a res) (h0 : Hv) (n0 : Nat) (a0 : Nat) {res : (Nat ⊕ Nat) × Hv × Nat × Nat} (hf : P_X3_sum G ro rc h0 n0 a0 = some res) : vy_Met l yX3_sum (ws_ yX3_sum cX3_sum 3 (some (Jvm.ClassFile.FieldType.object "QuarrelsPawned$Sum"))) (rmD (F + 31) (L + 940) res.2.2.1 res.2.2.2) (Pd D dA ro J [.ref a0] h0 n0) (Qta D dA ro h0 n0 res) (Xt D dA ro h0 n0 res) res.2.2.1 res.2.2.2 (fD ro h0 n0) := by
  refine xt_head (own := RX3) (by decide) rfl (Nat.le_of_ble_eq_true rfl) ?_
  intro p e s m args below meth c ls Q hQ hname hno C hn0 hH hl
  obtain ⟨hx, hb, hr, hlocks, hml, hown, hts, hK, hJs⟩ := C
  replace hl : lv_has ls 3 [(0, .ref a0)] := hl
  have hS : va_S (fD ro h0 n0) s.heap s.heap [] := va_S.rf
  have hR : rD ro (fD ro h0 n0) n0 := fD_rD hH
  have hA9 : ∀ q, s.heap.size ≤ q → fD ro h0 n0 q := fun q hq => hR.2 q (hn0 ▸ hq)
  unfold P_X3_sum at hf
  obtain ⟨r, er⟩ : ∃ r, r = res := ⟨_, rfl⟩
  have hq : qI r res 0 0 := by rw [er]; exact ⟨rfl, rfl, Nat.zero_add _, Nat.zero_add _⟩
  rw [← er] at hf
  have hn : n0 = n0 + 0 := rfl
  obtain ⟨H, eH⟩ : ∃ H, H = s.heap := ⟨_, rfl⟩
  obtain ⟨locs, eL⟩ : ∃ locs : List Loc, locs = [] := ⟨_, rfl⟩
  rw [← eL] at hS ⊢
  rw [← eH] at hH
  have hS : va_S (fD ro h0 n0) s.heap H locs := by rw [eH]; exact hS
  show W p l e (rmD (F + 31) (L + 940) res.2.2.1 res.2.2.2) s m args below meth c s.heap locs 0 0 Q (F0 m 0 ls [])
  rw [← eH]
  clear er
  obtain ⟨r, hf, hq, hc9, hs9⟩ := hq.add hf
  obtain ⟨h1, eh1, hf⟩ := ob_bnd hf
  refine xd_new hx hb (N := 3) hts in_X6 tyX6 tyX6_ok hown (hts _ q567) (hts _ q568) (hts _ q154) hK hH hS hA9 (ci := 8) rfl (fs := [.null, .null, .null]) df_X6 hc9 hs9 dX3_sum_0 (fun H hH hS => ?_)
  rw [← eh1] at hH
  replace hn : (n0 + 1) = n0 + (0 + 1) := by omega
  refine lv_dup hx hb dX3_sum_3 rfl ?_
  refine lv_aload_n hx hb dX3_sum_4 rfl (lv_at hl 0 rfl) ?_
  obtain ⟨g4, hf⟩ := ob_gp hf
  obtain ⟨q2, g3, hf⟩ := ob_bind hf
  rcases ob_tk hf with ⟨xq2, yq2, hf⟩ | ⟨v5, yq2, hf⟩
  · subst hQ
    exact xtx_a hno hlocks (xt_run (As := []) (rest := [.ref n0, .ref n0]) hJ hR hJs hS ⟨hx, hb, hml, hown, hts⟩ (show vy_Met _ yX3_product _ _ _ _ _ _ _ _ from hrc 1 h1 (n0 + 1) a0 _ g3) (cwV 0 hts (lw_V q569 q571 qs7 q141 q572) rfl rfl rfl cdX3_product ⟨by show F + 30 + 1 ≤ F + 31; omega, by show 8 + (_ + 11) + (L + 900) ≤ L + 940; omega⟩) hK hH (of_decide_eq_true g4) (q := (RX3, TX3, 8)) rfl rfl hl.1 rfl rfl (Nat.le_of_ble_eq_true rfl) dX3_sum_5 (xg_thr hq hf)) hH hR (by omega) hn hS yq2 rfl rfl (hq.thr hf)
  · obtain ⟨r, hf, hq, hc9, hs9⟩ := hq.add hf
    refine xtc_a (xt_run (As := []) (rest := [.ref n0, .ref n0]) hJ hR hJs hS ⟨hx, hb, hml, hown, hts⟩ (show vy_Met _ yX3_product _ _ _ _ _ _ _ _ from hrc 1 h1 (n0 + 1) a0 _ g3) (cwV 0 hts (lw_V q569 q571 qs7 q141 q572) rfl rfl rfl cdX3_product ⟨by show F + 30 + 1 ≤ F + 31; omega, by show 8 + (_ + 11) + (L + 900) ≤ L + 940; omega⟩) hK hH (of_decide_eq_true g4) (q := (RX3, TX3, 8)) rfl rfl hl.1 rfl rfl (Nat.le_of_ble_eq_true rfl) dX3_sum_5 ⟨hc9, hs9⟩) hH hR (by omega) hS yq2 (fun H locs hH hS => ?_)
    replace hn : ((n0 + 1) + q2.2.2.1) = n0 + ((0 + 1) + q2.2.2.1) := by omega
    obtain ⟨q6, g7, hf⟩ := ob_bind hf
    obtain ⟨r, hf, hq, hc9, hs9⟩ := hq.add hf
    refine xdc_v (xd_runI (As := [.ref v5]) (rest := [.ref n0]) hJ hR hJs hS ⟨hx, hb, hml, hown, hts⟩ (wkX6_init l hl9 D dA ro G J hJ q2.2.1 ((n0 + 1) + q2.2.2.1) n0 v5 g7) ⟨callB_of 1 hts (lw_meth q813) rfl rfl rfl (hts _ q154) (hts _ q811) cdX6_init.2 ⟨by show 5 ≤ F + 31; omega, by show 141 ≤ L + 940; omega⟩, rfl, hts _ q812⟩ hK hH hl.1 rfl rfl (Nat.le_of_ble_eq_true rfl) dX3_sum_8 ⟨hc9, hs9⟩) hH hR (by omega) hS (fun H locs hH hS => ?_)
    replace hn : (((n0 + 1) + q2.2.2.1) + q6.2.2.1) = n0 + (((0 + 1) + q2.2.2.1) + q6.2.2.1) := by omega
    refine lv_astore_n (lv' := [(1, .ref n0), (0, .ref a0)]) hx hb dX3_sum_11 rfl hl (by decide) rfl (fun ls hl => ?_)
    have kl12 : ∀ (f : Nat) (h8 : Hv) (n9 : Nat) (kc9 ks9 : Nat) (r : (Nat ⊕ Nat) × Hv × Nat × Nat) (H : Heap) (locs : List Loc) (ls : Array Slot), P_X3_sum_l12 a0 G ro rc n0 f h8 n9 = some r → qI r res kc9 ks9 → n9 = n0 + kc9 → DS D dA ro h8 n9 (fD ro h0 n0) H → va_S (fD ro h0 n0) s.heap H locs → lv_has ls 3 [(0, .ref a0), (1, .ref n0)] → W p l e (rmD (F + 31) (L + 940) res.2.2.1 res.2.2.2) s m args below meth c H locs kc9 ks9 Q (F0 m 12 ls []) := by
      intro f
      induction f with
      | zero =>
        intro h8 n9 kc9 ks9 r H locs ls hf
        cases hf
      | succ f ihl12 =>
        intro h8 n9 kc9 ks9 r H locs ls hf hq hn hH hS hl
        obtain ⟨rl12, erl12⟩ : ∃ x, x = P_X3_sum_l12 a0 G ro rc n0 f := ⟨_, rfl⟩
        replace hf : P_X3_sum_b12 a0 G ro rc n0 (P_X3_sum_l12 a0 G ro rc n0 f) h8 n9 = some r := hf
        rw [← erl12] at hf ihl12
        unfold P_X3_sum_b12 at hf
        refine lv_aload_n hx hb dX3_sum_12 rfl (lv_at hl 0 rfl) ?_
        obtain ⟨x11, g10, hf⟩ := ob_bind hf
        refine xh_geti hx hb hts in_X3 hown hK hH.1 (ci := 15) rfl 4 (by decide) (hts _ q353) (fun _ h => h) g10 dX3_sum_13 ?_
        refine lv_bipush (v := 43) hx hb dX3_sum_16 (by decide) ?_
        have kj30 : ∀ (h12 : Hv) (n13 : Nat) (kc13 ks13 : Nat) (r : (Nat ⊕ Nat) × Hv × Nat × Nat) (H : Heap) (locs : List Loc) (ls : Array Slot), P_X3_sum_j30 a0 G ro rc n0 rl12 h12 n13 = some r → qI r res kc13 ks13 → n13 = n0 + kc13 → DS D dA ro h12 n13 (fD ro h0 n0) H → va_S (fD ro h0 n0) s.heap H locs → lv_has ls 3 [(0, .ref a0), (1, .ref n0)] → W p l e (rmD (F + 31) (L + 940) res.2.2.1 res.2.2.2) s m args below meth c H locs kc13 ks13 Q (F0 m 30 ls []) := by
          intro h12 n13 kc13 ks13 r H locs ls hf hq hn hH hS hl
          unfold P_X3_sum_j30 at hf
          refine lv_aload_n hx hb dX3_sum_30 rfl (lv_at hl 0 rfl) ?_
          obtain ⟨x15, g14, hf⟩ := ob_bind hf
          refine xh_geti hx hb hts in_X3 hown hK hH.1 (ci := 15) rfl 4 (by decide) (hts _ q353) (fun _ h => h) g14 dX3_sum_31 ?_
          refine lv_istore_n (lv' := [(2, .int x15), (0, .ref a0), (1, .ref n0)]) hx hb dX3_sum_34 rfl hl (by decide) rfl (fun ls hl => ?_)
          refine lv_aload_n hx hb dX3_sum_35 rfl (lv_at hl 1 rfl) ?_
          obtain ⟨g18, hf⟩ := ob_gp hf
          obtain ⟨q16, g17, hf⟩ := ob_bind hf
          obtain ⟨r, hf, hq, hc9, hs9⟩ := hq.add hf
          refine xdc_v (xd_run (As := []) (rest := []) hJ hR hJs hS ⟨hx, hb, hml, hown, hts⟩ (wkX3_next l hl9 D dA ro G J hJ h12 n13 a0 g17) (cwV 0 hts (lw_V q426 q428 qs2 q141 q429) rfl rfl rfl cdX3_next ⟨by show 7 ≤ F + 31; omega, by show 150 ≤ L + 940; omega⟩) hK hH (of_decide_eq_true g18) (q := (RX3, TX3, 8)) rfl rfl hl.1 rfl rfl (Nat.le_of_ble_eq_true rfl) dX3_sum_36 ⟨hc9, hs9⟩) hH hR (by omega) hS (fun H locs hH hS => ?_)
          replace hn : (n13 + q16.2.2.1) = n0 + (kc13 + q16.2.2.1) := by omega
          refine lv_aload_n hx hb dX3_sum_39 rfl (lv_at hl 2 rfl) ?_
          refine lv_iload_n hx hb dX3_sum_40 rfl (lv_at hl 0 rfl) ?_
          refine lv_aload_n hx hb dX3_sum_41 rfl (lv_at hl 1 rfl) ?_
          obtain ⟨g21, hf⟩ := ob_gp hf
          obtain ⟨q19, g20, hf⟩ := ob_bind hf
          rcases ob_tk hf with ⟨xq19, yq19, hf⟩ | ⟨v22, yq19, hf⟩
          · subst hQ
            exact xtx_a hno hlocks (xt_run (As := []) (rest := [.int x15, .ref n0]) hJ hR hJs hS ⟨hx, hb, hml, hown, hts⟩ (show vy_Met _ yX3_product _ _ _ _ _ _ _ _ from hrc 1 q16.2.1 (n13 + q16.2.2.1) a0 _ g20) (cwV 0 hts (lw_V q569 q571 qs7 q141 q572) rfl rfl rfl cdX3_product ⟨by show F + 30 + 1 ≤ F + 31; omega, by show 8 + (_ + 11) + (L + 900) ≤ L + 940; omega⟩) hK hH (of_decide_eq_true g21) (q := (RX3, TX3, 8)) rfl rfl hl.1 rfl rfl (Nat.le_of_ble_eq_true rfl) dX3_sum_42 (xg_thr hq hf)) hH hR (by omega) hn hS yq19 rfl rfl (hq.thr hf)
          · obtain ⟨r, hf, hq, hc9, hs9⟩ := hq.add hf
            refine xtc_a (xt_run (As := []) (rest := [.int x15, .ref n0]) hJ hR hJs hS ⟨hx, hb, hml, hown, hts⟩ (show vy_Met _ yX3_product _ _ _ _ _ _ _ _ from hrc 1 q16.2.1 (n13 + q16.2.2.1) a0 _ g20) (cwV 0 hts (lw_V q569 q571 qs7 q141 q572) rfl rfl rfl cdX3_product ⟨by show F + 30 + 1 ≤ F + 31; omega, by show 8 + (_ + 11) + (L + 900) ≤ L + 940; omega⟩) hK hH (of_decide_eq_true g21) (q := (RX3, TX3, 8)) rfl rfl hl.1 rfl rfl (Nat.le_of_ble_eq_true rfl) dX3_sum_42 ⟨hc9, hs9⟩) hH hR (by omega) hS yq19 (fun H locs hH hS => ?_)
            replace hn : ((n13 + q16.2.2.1) + q19.2.2.1) = n0 + ((kc13 + q16.2.2.1) + q19.2.2.1) := by omega
            obtain ⟨g25, hf⟩ := ob_gp hf
            obtain ⟨q23, g24, hf⟩ := ob_bind hf
            obtain ⟨r, hf, hq, hc9, hs9⟩ := hq.add hf
            refine xdc_v (xd_run (As := [.int x15, .ref v22]) (rest := []) hJ hR hJs hS ⟨hx, hb, hml, hown, hts⟩ (wkX6_add l hl9 D dA ro G J hJ q19.2.1 ((n13 + q16.2.2.1) + q19.2.2.1) n0 x15 v22 g24) (cwV 2 hts (lw_V q827 q828 q829 q154 q830) rfl rfl rfl cdX6_add ⟨by show 8 ≤ F + 31; omega, by show 213 ≤ L + 940; omega⟩) hK hH (of_decide_eq_true g25) (q := (RX6, TX6, 3)) rfl rfl hl.1 rfl rfl (Nat.le_of_ble_eq_true rfl) dX3_sum_45 ⟨hc9, hs9⟩) hH hR (by omega) hS (fun H locs hH hS => ?_)
            replace hn : (((n13 + q16.2.2.1) + q19.2.2.1) + q23.2.2.1) = n0 + (((kc13 + q16.2.2.1) + q19.2.2.1) + q23.2.2.1) := by omega
            refine lv_goto (tgt := 12) hx hb dX3_sum_48 (by decide) ?_
            exact ihl12 q23.2.1 (((n13 + q16.2.2.1) + q19.2.2.1) + q23.2.2.1) _ _ r H locs ls hf hq hn hH hS (lv_sub hl [1, 2] rfl)
        refine lv_icmp_eq (tgt := 30) hx hb dX3_sum_18 (by decide) (fun c26 => ?_) (fun c26 => ?_)
        · replace hf := ob_t hf c26
          exact kj30 h8 n9 _ _ r H locs ls hf hq hn hH hS (lv_sub hl [0, 1] rfl)
        · replace hf := ob_f hf c26
          refine lv_aload_n hx hb dX3_sum_21 rfl (lv_at hl 0 rfl) ?_
          obtain ⟨x28, g27, hf⟩ := ob_bind hf
          refine xh_geti hx hb hts in_X3 hown hK hH.1 (ci := 15) rfl 4 (by decide) (hts _ q353) (fun _ h => h) g27 dX3_sum_22 ?_
          refine lv_bipush (v := 45) hx hb dX3_sum_25 (by decide) ?_
          refine lv_icmp_ne (tgt := 51) hx hb dX3_sum_27 (by decide) (fun c29 => ?_) (fun c29 => ?_)
          · replace hf := ob_f hf c29
            refine lv_aload_n hx hb dX3_sum_51 rfl (lv_at hl 1 rfl) ?_
            obtain ⟨g32, hf⟩ := ob_gp hf
            obtain ⟨q30, g31, hf⟩ := ob_bind hf
            obtain ⟨r, hf, hq, hc9, hs9⟩ := hq.add hf
            refine xdc_a (xd_run (As := []) (rest := []) hJ hR hJs hS ⟨hx, hb, hml, hown, hts⟩ (wkX6_itself l hl9 D dA ro G J hJ h8 n9 n0 g31) (cwV 0 hts (lw_V q852 q853 q854 q154 q855) rfl rfl rfl cdX6_itself ⟨by show 2 ≤ F + 31; omega, by show 40 ≤ L + 940; omega⟩) hK hH (of_decide_eq_true g32) (q := (RX6, TX6, 3)) rfl rfl hl.1 rfl rfl (Nat.le_of_ble_eq_true rfl) dX3_sum_52 ⟨hc9, hs9⟩) hH hR (by omega) hS (fun H locs hH hS => ?_)
            replace hn : (n9 + q30.2.2.1) = n0 + (kc9 + q30.2.2.1) := by omega
            subst hQ
            exact xe_ta (Or.inl ⟨_, rfl⟩) hx hb hr hlocks hH hn hS (hq.end (Option.some.inj hf)) dX3_sum_55
          · replace hf := ob_t hf c29
            exact kj30 h8 n9 _ _ r H locs ls hf hq hn hH hS (lv_sub hl [0, 1] rfl)
    exact kl12 400 q6.2.1 (((n0 + 1) + q2.2.2.1) + q6.2.2.1) _ _ r H locs ls hf hq hn hH hS (lv_sub hl [1, 0] rfl)
set_option maxHeartbeats 4000000 in
set_option maxRecDepth 100000 in
theorem wkX3_product (l : Launch) (hl9 : l.stackTraces = false) (D : va_G) (dA : Nat → ClassId) (ro : Nat → Bool) (G : Gs) (J : State → Heap → Prop) (hJ : JD ro G J) {F L : Nat} {rc : Nat → Hv → Nat → Nat → Option ((Nat ⊕ Nat) × Hv × Nat × Nat)} (hrc : ∀ k h n a res, rc k h n a = some res → KC l D dA ro J F L k h n a res) (h0 : Hv) (n0 : Nat) (a0 : Nat) {res : (Nat ⊕ Nat) × Hv × Nat × Nat} (hf : P_X3_product G ro rc h0 n0 a0 = some res) : vy_Met l yX3_product (ws_ yX3_product cX3_product 3 (some (Jvm.ClassFile.FieldType.object "QuarrelsPawned$Sum"))) (rmD (F + 31) (L + 940) res.2.2.1 res.2.2.2) (Pd D dA ro J [.ref a0] h0 n0) (Qta D dA ro h0 n0 res) (Xt D dA ro h0 n0 res) res.2.2.1 res.2.2.2 (fD ro h0 n0) := by
  refine xt_head (own := RX3) (by decide) rfl (Nat.le_of_ble_eq_true rfl) ?_
  intro p e s m args below meth c ls Q hQ hname hno C hn0 hH hl
  obtain ⟨hx, hb, hr, hlocks, hml, hown, hts, hK, hJs⟩ := C
  replace hl : lv_has ls 3 [(0, .ref a0)] := hl
  have hS : va_S (fD ro h0 n0) s.heap s.heap [] := va_S.rf
  have hR : rD ro (fD ro h0 n0) n0 := fD_rD hH
  have hA9 : ∀ q, s.heap.size ≤ q → fD ro h0 n0 q := fun q hq => hR.2 q (hn0 ▸ hq)
  unfold P_X3_product at hf
  obtain ⟨r, er⟩ : ∃ r, r = res := ⟨_, rfl⟩
  have hq : qI r res 0 0 := by rw [er]; exact ⟨rfl, rfl, Nat.zero_add _, Nat.zero_add _⟩
  rw [← er] at hf
  have hn : n0 = n0 + 0 := rfl
  obtain ⟨H, eH⟩ : ∃ H, H = s.heap := ⟨_, rfl⟩
  obtain ⟨locs, eL⟩ : ∃ locs : List Loc, locs = [] := ⟨_, rfl⟩
  rw [← eL] at hS ⊢
  rw [← eH] at hH
  have hS : va_S (fD ro h0 n0) s.heap H locs := by rw [eH]; exact hS
  show W p l e (rmD (F + 31) (L + 940) res.2.2.1 res.2.2.2) s m args below meth c s.heap locs 0 0 Q (F0 m 0 ls [])
  rw [← eH]
  clear er
  obtain ⟨r, hf, hq, hc9, hs9⟩ := hq.add hf
  obtain ⟨h1, eh1, hf⟩ := ob_bnd hf
  refine xd_new hx hb (N := 3) hts in_X6 tyX6 tyX6_ok hown (hts _ q567) (hts _ q568) (hts _ q154) hK hH hS hA9 (ci := 8) rfl (fs := [.null, .null, .null]) df_X6 hc9 hs9 dX3_product_0 (fun H hH hS => ?_)
  rw [← eh1] at hH
  replace hn : (n0 + 1) = n0 + (0 + 1) := by omega
  refine lv_dup hx hb dX3_product_3 rfl ?_
  refine lv_aload_n hx hb dX3_product_4 rfl (lv_at hl 0 rfl) ?_
  obtain ⟨g4, hf⟩ := ob_gp hf
  obtain ⟨q2, g3, hf⟩ := ob_bind hf
  rcases ob_tk hf with ⟨xq2, yq2, hf⟩ | ⟨v5, yq2, hf⟩
  · subst hQ
    exact xtx_a hno hlocks (xt_run (As := []) (rest := [.ref n0, .ref n0]) hJ hR hJs hS ⟨hx, hb, hml, hown, hts⟩ (show vy_Met _ yX3_one _ _ _ _ _ _ _ _ from hrc 2 h1 (n0 + 1) a0 _ g3) (cwV 0 hts (lw_V q573 q575 qs8 q141 q576) rfl rfl rfl cdX3_one ⟨by show F + 30 + 1 ≤ F + 31; omega, by show 8 + (_ + 11) + (L + 900) ≤ L + 940; omega⟩) hK hH (of_decide_eq_true g4) (q := (RX3, TX3, 8)) rfl rfl hl.1 rfl rfl (Nat.le_of_ble_eq_true rfl) dX3_product_5 (xg_thr hq hf)) hH hR (by omega) hn hS yq2 rfl rfl (hq.thr hf)
  · obtain ⟨r, hf, hq, hc9, hs9⟩ := hq.add hf
    refine xtc_a (xt_run (As := []) (rest := [.ref n0, .ref n0]) hJ hR hJs hS ⟨hx, hb, hml, hown, hts⟩ (show vy_Met _ yX3_one _ _ _ _ _ _ _ _ from hrc 2 h1 (n0 + 1) a0 _ g3) (cwV 0 hts (lw_V q573 q575 qs8 q141 q576) rfl rfl rfl cdX3_one ⟨by show F + 30 + 1 ≤ F + 31; omega, by show 8 + (_ + 11) + (L + 900) ≤ L + 940; omega⟩) hK hH (of_decide_eq_true g4) (q := (RX3, TX3, 8)) rfl rfl hl.1 rfl rfl (Nat.le_of_ble_eq_true rfl) dX3_product_5 ⟨hc9, hs9⟩) hH hR (by omega) hS yq2 (fun H locs hH hS => ?_)
    replace hn : ((n0 + 1) + q2.2.2.1) = n0 + ((0 + 1) + q2.2.2.1) := by omega
    obtain ⟨q6, g7, hf⟩ := ob_bind hf
    obtain ⟨r, hf, hq, hc9, hs9⟩ := hq.add hf
    refine xdc_v (xd_runI (As := [.ref v5]) (rest := [.ref n0]) hJ hR hJs hS ⟨hx, hb, hml, hown, hts⟩ (wkX6_init l hl9 D dA ro G J hJ q2.2.1 ((n0 + 1) + q2.2.2.1) n0 v5 g7) ⟨callB_of 1 hts (lw_meth q813) rfl rfl rfl (hts _ q154) (hts _ q811) cdX6_init.2 ⟨by show 5 ≤ F + 31; omega, by show 141 ≤ L + 940; omega⟩, rfl, hts _ q812⟩ hK hH hl.1 rfl rfl (Nat.le_of_ble_eq_true rfl) dX3_product_8 ⟨hc9, hs9⟩) hH hR (by omega) hS (fun H locs hH hS => ?_)
    replace hn : (((n0 + 1) + q2.2.2.1) + q6.2.2.1) = n0 + (((0 + 1) + q2.2.2.1) + q6.2.2.1) := by omega
    refine lv_astore_n (lv' := [(1, .ref n0), (0, .ref a0)]) hx hb dX3_product_11 rfl hl (by decide) rfl (fun ls hl => ?_)
    have kl12 : ∀ (f : Nat) (h8 : Hv) (n9 : Nat) (kc9 ks9 : Nat) (r : (Nat ⊕ Nat) × Hv × Nat × Nat) (H : Heap) (locs : List Loc) (ls : Array Slot), P_X3_product_l12 a0 G ro rc n0 f h8 n9 = some r → qI r res kc9 ks9 → n9 = n0 + kc9 → DS D dA ro h8 n9 (fD ro h0 n0) H → va_S (fD ro h0 n0) s.heap H locs → lv_has ls 3 [(0, .ref a0), (1, .ref n0)] → W p l e (rmD (F + 31) (L + 940) res.2.2.1 res.2.2.2) s m args below meth c H locs kc9 ks9 Q (F0 m 12 ls []) := by
      intro f
      induction f with
      | zero =>
        intro h8 n9 kc9 ks9 r H locs ls hf
        cases hf
      | succ f ihl12 =>
        intro h8 n9 kc9 ks9 r H locs ls hf hq hn hH hS hl
        obtain ⟨rl12, erl12⟩ : ∃ x, x = P_X3_product_l12 a0 G ro rc n0 f := ⟨_, rfl⟩
        replace hf : P_X3_product_b12 a0 G ro rc n0 (P_X3_product_l12 a0 G ro rc n0 f) h8 n9 = some r := hf
        rw [← erl12] at hf ihl12
        unfold P_X3_product_b12 at hf
        refine lv_aload_n hx hb dX3_product_12 rfl (lv_at hl 0 rfl) ?_
        obtain ⟨x11, g10, hf⟩ := ob_bind hf
        refine xh_geti hx hb hts in_X3 hown hK hH.1 (ci := 15) rfl 4 (by decide) (hts _ q353) (fun _ h => h) g10 dX3_product_13 ?_
        refine lv_bipush (v := 42) hx hb dX3_product_16 (by decide) ?_
        have kj30 : ∀ (h12 : Hv) (n13 : Nat) (kc13 ks13 : Nat) (r : (Nat ⊕ Nat) × Hv × Nat × Nat) (H : Heap) (locs : List Loc) (ls : Array Slot), P_X3_product_j30 a0 G ro rc n0 rl12 h12 n13 = some r → qI r res kc13 ks13 → n13 = n0 + kc13 → DS D dA ro h12 n13 (fD ro h0 n0) H → va_S (fD ro h0 n0) s.heap H locs → lv_has ls 3 [(0, .ref a0), (1, .ref n0)] → W p l e (rmD (F + 31) (L + 940) res.2.2.1 res.2.2.2) s m args below meth c H locs kc13 ks13 Q (F0 m 30 ls []) := by
          intro h12 n13 kc13 ks13 r H locs ls hf hq hn hH hS hl
          unfold P_X3_product_j30 at hf
          refine lv_aload_n hx hb dX3_product_30 rfl (lv_at hl 0 rfl) ?_
          obtain ⟨x15, g14, hf⟩ := ob_bind hf
          refine xh_geti hx hb hts in_X3 hown hK hH.1 (ci := 15) rfl 4 (by decide) (hts _ q353) (fun _ h => h) g14 dX3_product_31 ?_
          refine lv_istore_n (lv' := [(2, .int x15), (0, .ref a0), (1, .ref n0)]) hx hb dX3_product_34 rfl hl (by decide) rfl (fun ls hl => ?_)
          refine lv_aload_n hx hb dX3_product_35 rfl (lv_at hl 1 rfl) ?_
          obtain ⟨g18, hf⟩ := ob_gp hf
          obtain ⟨q16, g17, hf⟩ := ob_bind hf
          obtain ⟨r, hf, hq, hc9, hs9⟩ := hq.add hf
          refine xdc_v (xd_run (As := []) (rest := []) hJ hR hJs hS ⟨hx, hb, hml, hown, hts⟩ (wkX3_next l hl9 D dA ro G J hJ h12 n13 a0 g17) (cwV 0 hts (lw_V q426 q428 qs2 q141 q429) rfl rfl rfl cdX3_next ⟨by show 7 ≤ F + 31; omega, by show 150 ≤ L + 940; omega⟩) hK hH (of_decide_eq_true g18) (q := (RX3, TX3, 8)) rfl rfl hl.1 rfl rfl (Nat.le_of_ble_eq_true rfl) dX3_product_36 ⟨hc9, hs9⟩) hH hR (by omega) hS (fun H locs hH hS => ?_)
          replace hn : (n13 + q16.2.2.1) = n0 + (kc13 + q16.2.2.1) := by omega
          refine lv_aload_n hx hb dX3_product_39 rfl (lv_at hl 2 rfl) ?_
          refine lv_iload_n hx hb dX3_product_40 rfl (lv_at hl 0 rfl) ?_
          refine lv_aload_n hx hb dX3_product_41 rfl (lv_at hl 1 rfl) ?_
          obtain ⟨g21, hf⟩ := ob_gp hf
          obtain ⟨q19, g20, hf⟩ := ob_bind hf
          rcases ob_tk hf with ⟨xq19, yq19, hf⟩ | ⟨v22, yq19, hf⟩
          · subst hQ
            exact xtx_a hno hlocks (xt_run (As := []) (rest := [.int x15, .ref n0]) hJ hR hJs hS ⟨hx, hb, hml, hown, hts⟩ (show vy_Met _ yX3_one _ _ _ _ _ _ _ _ from hrc 2 q16.2.1 (n13 + q16.2.2.1) a0 _ g20) (cwV 0 hts (lw_V q573 q575 qs8 q141 q576) rfl rfl rfl cdX3_one ⟨by show F + 30 + 1 ≤ F + 31; omega, by show 8 + (_ + 11) + (L + 900) ≤ L + 940; omega⟩) hK hH (of_decide_eq_true g21) (q := (RX3, TX3, 8)) rfl rfl hl.1 rfl rfl (Nat.le_of_ble_eq_true rfl) dX3_product_42 (xg_thr hq hf)) hH hR (by omega) hn hS yq19 rfl rfl (hq.thr hf)
          · obtain ⟨r, hf, hq, hc9, hs9⟩ := hq.add hf
            refine xtc_a (xt_run (As := []) (rest := [.int x15, .ref n0]) hJ hR hJs hS ⟨hx, hb, hml, hown, hts⟩ (show vy_Met _ yX3_one _ _ _ _ _ _ _ _ from hrc 2 q16.2.1 (n13 + q16.2.2.1) a0 _ g20) (cwV 0 hts (lw_V q573 q575 qs8 q141 q576) rfl rfl rfl cdX3_one ⟨by show F + 30 + 1 ≤ F + 31; omega, by show 8 + (_ + 11) + (L + 900) ≤ L + 940; omega⟩) hK hH (of_decide_eq_true g21) (q := (RX3, TX3, 8)) rfl rfl hl.1 rfl rfl (Nat.le_of_ble_eq_true rfl) dX3_product_42 ⟨hc9, hs9⟩) hH hR (by omega) hS yq19 (fun H locs hH hS => ?_)
            replace hn : ((n13 + q16.2.2.1) + q19.2.2.1) = n0 + ((kc13 + q16.2.2.1) + q19.2.2.1) := by omega
            obtain ⟨g25, hf⟩ := ob_gp hf
            obtain ⟨q23, g24, hf⟩ := ob_bind hf
            obtain ⟨r, hf, hq, hc9, hs9⟩ := hq.add hf
            refine xdc_v (xd_run (As := [.int x15, .ref v22]) (rest := []) hJ hR hJs hS ⟨hx, hb, hml, hown, hts⟩ (wkX6_add l hl9 D dA ro G J hJ q19.2.1 ((n13 + q16.2.2.1) + q19.2.2.1) n0 x15 v22 g24) (cwV 2 hts (lw_V q827 q828 q829 q154 q830) rfl rfl rfl cdX6_add ⟨by show 8 ≤ F + 31; omega, by show 213 ≤ L + 940; omega⟩) hK hH (of_decide_eq_true g25) (q := (RX6, TX6, 3)) rfl rfl hl.1 rfl rfl (Nat.le_of_ble_eq_true rfl) dX3_product_45 ⟨hc9, hs9⟩) hH hR (by omega) hS (fun H locs hH hS => ?_)
            replace hn : (((n13 + q16.2.2.1) + q19.2.2.1) + q23.2.2.1) = n0 + (((kc13 + q16.2.2.1) + q19.2.2.1) + q23.2.2.1) := by omega
            refine lv_goto (tgt := 12) hx hb dX3_product_48 (by decide) ?_
            exact ihl12 q23.2.1 (((n13 + q16.2.2.1) + q19.2.2.1) + q23.2.2.1) _ _ r H locs ls hf hq hn hH hS (lv_sub hl [1, 2] rfl)
        refine lv_icmp_eq (tgt := 30) hx hb dX3_product_18 (by decide) (fun c26 => ?_) (fun c26 => ?_)
        · replace hf := ob_t hf c26
          exact kj30 h8 n9 _ _ r H locs ls hf hq hn hH hS (lv_sub hl [0, 1] rfl)
        · replace hf := ob_f hf c26
          refine lv_aload_n hx hb dX3_product_21 rfl (lv_at hl 0 rfl) ?_
          obtain ⟨x28, g27, hf⟩ := ob_bind hf
          refine xh_geti hx hb hts in_X3 hown hK hH.1 (ci := 15) rfl 4 (by decide) (hts _ q353) (fun _ h => h) g27 dX3_product_22 ?_
          refine lv_bipush (v := 47) hx hb dX3_product_25 (by decide) ?_
          refine lv_icmp_ne (tgt := 51) hx hb dX3_product_27 (by decide) (fun c29 => ?_) (fun c29 => ?_)
          · replace hf := ob_f hf c29
            refine lv_aload_n hx hb dX3_product_51 rfl (lv_at hl 1 rfl) ?_
            obtain ⟨g32, hf⟩ := ob_gp hf
            obtain ⟨q30, g31, hf⟩ := ob_bind hf
            obtain ⟨r, hf, hq, hc9, hs9⟩ := hq.add hf
            refine xdc_a (xd_run (As := []) (rest := []) hJ hR hJs hS ⟨hx, hb, hml, hown, hts⟩ (wkX6_itself l hl9 D dA ro G J hJ h8 n9 n0 g31) (cwV 0 hts (lw_V q852 q853 q854 q154 q855) rfl rfl rfl cdX6_itself ⟨by show 2 ≤ F + 31; omega, by show 40 ≤ L + 940; omega⟩) hK hH (of_decide_eq_true g32) (q := (RX6, TX6, 3)) rfl rfl hl.1 rfl rfl (Nat.le_of_ble_eq_true rfl) dX3_product_52 ⟨hc9, hs9⟩) hH hR (by omega) hS (fun H locs hH hS => ?_)
            replace hn : (n9 + q30.2.2.1) = n0 + (kc9 + q30.2.2.1) := by omega
            subst hQ
            exact xe_ta (Or.inl ⟨_, rfl⟩) hx hb hr hlocks hH hn hS (hq.end (Option.some.inj hf)) dX3_product_55
          · replace hf := ob_t hf c29
            exact kj30 h8 n9 _ _ r H locs ls hf hq hn hH hS (lv_sub hl [0, 1] rfl)
    exact kl12 400 q6.2.1 (((n0 + 1) + q2.2.2.1) + q6.2.2.1) _ _ r H locs ls hf hq hn hH hS (lv_sub hl [1, 0] rfl)
set_option maxHeartbeats 4000000 in
set_option maxRecDepth 100000 in
theorem wkX3_one (l : Launch) (hl9 : l.stackTraces = false) (D : va_G) (dA : Nat → ClassId) (ro : Nat → Bool) (G : Gs) (J : State → Heap → Prop) (hJ : JD ro G J) {F L : Nat} {rc : Nat → Hv → Nat → Nat → Option ((Nat ⊕ Nat) × Hv × Nat × Nat)} (hrc : ∀ k h n a res, rc k h n a = some res → KC l D dA ro J F L k h n a res) (h0 : Hv) (n0 : Nat) (a0 : Nat) {res : (Nat ⊕ Nat) × Hv × Nat × Nat} (hf : P_X3_one G ro rc h0 n0 a0 = some res) : vy_Met l yX3_one (ws_ yX3_one cX3_one 5 (some (Jvm.ClassFile.FieldType.object "QuarrelsPawned$Sum"))) (rmD (F + 31) (L + 940) res.2.2.1 res.2.2.2) (Pd D dA ro J [.ref a0] h0 n0) (Qta D dA ro h0 n0 res) (Xt D dA ro h0 n0 res) res.2.2.1 res.2.2.2 (fD ro h0 n0) := by
  refine xt_head (own := RX3) (by decide) rfl (Nat.le_of_ble_eq_true rfl) ?_
  intro p e s m args below meth c ls Q hQ hname hno C hn0 hH hl
  obtain ⟨hx, hb, hr, hlocks, hml, hown, hts, hK, hJs⟩ := C
  replace hl : lv_has ls 5 [(0, .ref a0)] := hl
  have hS : va_S (fD ro h0 n0) s.heap s.heap [] := va_S.rf
  have hR : rD ro (fD ro h0 n0) n0 := fD_rD hH
  have hA9 : ∀ q, s.heap.size ≤ q → fD ro h0 n0 q := fun q hq => hR.2 q (hn0 ▸ hq)
  unfold P_X3_one at hf
  obtain ⟨r, er⟩ : ∃ r, r = res := ⟨_, rfl⟩
  have hq : qI r res 0 0 := by rw [er]; exact ⟨rfl, rfl, Nat.zero_add _, Nat.zero_add _⟩
  rw [← er] at hf
  have hn : n0 = n0 + 0 := rfl
  obtain ⟨H, eH⟩ : ∃ H, H = s.heap := ⟨_, rfl⟩
  obtain ⟨locs, eL⟩ : ∃ locs : List Loc, locs = [] := ⟨_, rfl⟩
  rw [← eL] at hS ⊢
  rw [← eH] at hH
  have hS : va_S (fD ro h0 n0) s.heap H locs := by rw [eH]; exact hS
  show W p l e (rmD (F + 31) (L + 940) res.2.2.1 res.2.2.2) s m args below meth c s.heap locs 0 0 Q (F0 m 0 ls [])
  rw [← eH]
  clear er
  refine lv_aload_n hx hb dX3_one_0 rfl (lv_at hl 0 rfl) ?_
  obtain ⟨x2, g1, hf⟩ := ob_bind hf
  refine xh_geti hx hb hts in_X3 hown hK hH.1 (ci := 15) rfl 4 (by decide) (hts _ q353) (fun _ h => h) g1 dX3_one_1 ?_
  refine lv_sipush (v := 300) hx hb dX3_one_4 (by decide) ?_
  refine lv_icmp_ne (tgt := 26) hx hb dX3_one_7 (by decide) (fun c3 => ?_) (fun c3 => ?_)
  · replace hf := ob_f hf c3
    refine lv_aload_n hx hb dX3_one_26 rfl (lv_at hl 0 rfl) ?_
    obtain ⟨x5, g4, hf⟩ := ob_bind hf
    refine xh_geti hx hb hts in_X3 hown hK hH.1 (ci := 15) rfl 4 (by decide) (hts _ q353) (fun _ h => h) g4 dX3_one_27 ?_
    refine lv_sipush (v := 211) hx hb dX3_one_30 (by decide) ?_
    refine lv_icmp_ne (tgt := 41) hx hb dX3_one_33 (by decide) (fun c6 => ?_) (fun c6 => ?_)
    · replace hf := ob_f hf c6
      refine lv_aload_n hx hb dX3_one_41 rfl (lv_at hl 0 rfl) ?_
      obtain ⟨x8, g7, hf⟩ := ob_bind hf
      refine xh_geti hx hb hts in_X3 hown hK hH.1 (ci := 15) rfl 4 (by decide) (hts _ q353) (fun _ h => h) g7 dX3_one_42 ?_
      refine lv_sipush (v := 209) hx hb dX3_one_45 (by decide) ?_
      refine lv_icmp_ne (tgt := 56) hx hb dX3_one_48 (by decide) (fun c9 => ?_) (fun c9 => ?_)
      · replace hf := ob_f hf c9
        refine lv_aload_n hx hb dX3_one_56 rfl (lv_at hl 0 rfl) ?_
        obtain ⟨g12, hf⟩ := ob_gp hf
        obtain ⟨q10, g11, hf⟩ := ob_bind hf
        obtain ⟨r, hf, hq, hc9, hs9⟩ := hq.add hf
        refine xdc_i (xd_run (As := []) (rest := []) hJ hR hJs hS ⟨hx, hb, hml, hown, hts⟩ (wkX3_nameNow l hl9 D dA ro G J hJ h0 n0 a0 g11) (cwV 0 hts (lw_V q771 q773 qs20 q141 q774) rfl rfl rfl cdX3_nameNow ⟨by show 1 ≤ F + 31; omega, by show 21 ≤ L + 940; omega⟩) hK hH (of_decide_eq_true g12) (q := (RX3, TX3, 8)) rfl rfl hl.1 rfl rfl (Nat.le_of_ble_eq_true rfl) dX3_one_57 ⟨hc9, hs9⟩) hH hR (by omega) hS (fun H locs hH hS => ?_)
        replace hn : (n0 + q10.2.2.1) = n0 + (0 + q10.2.2.1) := by omega
        refine lv_istore_n (lv' := [(1, .int q10.1), (0, .ref a0)]) hx hb dX3_one_60 rfl hl (by decide) rfl (fun ls hl => ?_)
        refine lv_iload_n hx hb dX3_one_61 rfl (lv_at hl 0 rfl) ?_
        refine lv_iconst (v := (-1)) hx hb dX3_one_62 (by decide) ?_
        refine lv_icmp_eq (tgt := 93) hx hb dX3_one_63 (by decide) (fun c13 => ?_) (fun c13 => ?_)
        · replace hf := ob_t hf c13
          refine lv_aload_n hx hb dX3_one_93 rfl (lv_at hl 1 rfl) ?_
          obtain ⟨x15, g14, hf⟩ := ob_bind hf
          refine xh_geti hx hb hts in_X3 hown hK hH.1 (ci := 15) rfl 4 (by decide) (hts _ q353) (fun _ h => h) g14 dX3_one_94 ?_
          refine lv_bipush (v := 40) hx hb dX3_one_97 (by decide) ?_
          have kj192 : ∀ (h16 : Hv) (n17 : Nat) (v2_18 : Nat) (kc18 ks18 : Nat) (r : (Nat ⊕ Nat) × Hv × Nat × Nat) (H : Heap) (locs : List Loc) (ls : Array Slot), P_X3_one_j192 a0 ro h16 n17 v2_18 = some r → qI r res kc18 ks18 → n17 = n0 + kc18 → DS D dA ro h16 n17 (fD ro h0 n0) H → va_S (fD ro h0 n0) s.heap H locs → lv_has ls 5 [(0, .ref a0), (2, .ref v2_18)] → W p l e (rmD (F + 31) (L + 940) res.2.2.1 res.2.2.2) s m args below meth c H locs kc18 ks18 Q (F0 m 192 ls []) := by
            intro h16 n17 v2_18 kc18 ks18 r H locs ls hf hq hn hH hS hl
            unfold P_X3_one_j192 at hf
            refine lv_aload_n hx hb dX3_one_192 rfl (lv_at hl 0 rfl) ?_
            refine lv_dup hx hb dX3_one_193 rfl ?_
            obtain ⟨x20, g19, hf⟩ := ob_bind hf
            refine xh_geti hx hb hts in_X3 hown hK hH.1 (ci := 15) rfl 6 (by decide) (hts _ q355) (fun _ h => h) g19 dX3_one_194 ?_
            refine lv_iconst (v := 1) hx hb dX3_one_197 (by decide) ?_
            refine lv_isub hx hb dX3_one_198 ?_
            obtain ⟨h22, g21, hf⟩ := ob_bind hf
            refine xd_put hx hb hts in_X3 tyX3 tyX3_ok nmX3 hown hK hH hS (ci := 15) rfl 6 (by decide) (hts _ q355) (fun _ h => h) rfl (v := .int (x20 - 1)) rfl rfl g21 dX3_one_199 (fun H locs hH hS => ?_)
            refine lv_aload_n hx hb dX3_one_202 rfl (lv_at hl 1 rfl) ?_
            subst hQ
            exact xe_ta (Or.inl ⟨_, rfl⟩) hx hb hr hlocks hH hn hS (hq.end (Option.some.inj hf)) dX3_one_203
          refine lv_icmp_ne (tgt := 120) hx hb dX3_one_99 (by decide) (fun c23 => ?_) (fun c23 => ?_)
          · replace hf := ob_f hf c23
            refine lv_aload_n hx hb dX3_one_120 rfl (lv_at hl 1 rfl) ?_
            obtain ⟨x25, g24, hf⟩ := ob_bind hf
            refine xh_geti hx hb hts in_X3 hown hK hH.1 (ci := 15) rfl 4 (by decide) (hts _ q353) (fun _ h => h) g24 dX3_one_121 ?_
            refine lv_bipush (v := 45) hx hb dX3_one_124 (by decide) ?_
            have kj139 : ∀ (h26 : Hv) (n27 : Nat) (kc27 ks27 : Nat) (r : (Nat ⊕ Nat) × Hv × Nat × Nat) (H : Heap) (locs : List Loc) (ls : Array Slot), P_X3_one_j139 a0 G ro rc h26 n27 = some r → qI r res kc27 ks27 → n27 = n0 + kc27 → DS D dA ro h26 n27 (fD ro h0 n0) H → va_S (fD ro h0 n0) s.heap H locs → lv_has ls 5 [(0, .ref a0)] → W p l e (rmD (F + 31) (L + 940) res.2.2.1 res.2.2.2) s m args below meth c H locs kc27 ks27 Q (F0 m 139 ls []) := by
              intro h26 n27 kc27 ks27 r H locs ls hf hq hn hH hS hl
              unfold P_X3_one_j139 at hf
              refine lv_aload_n hx hb dX3_one_139 rfl (lv_at hl 0 rfl) ?_
              obtain ⟨x29, g28, hf⟩ := ob_bind hf
              refine xh_geti hx hb hts in_X3 hown hK hH.1 (ci := 15) rfl 4 (by decide) (hts _ q353) (fun _ h => h) g28 dX3_one_140 ?_
              refine lv_istore_n (lv' := [(3, .int x29), (0, .ref a0)]) hx hb dX3_one_143 rfl hl (by decide) rfl (fun ls hl => ?_)
              refine lv_aload_n hx hb dX3_one_144 rfl (lv_at hl 1 rfl) ?_
              obtain ⟨g32, hf⟩ := ob_gp hf
              obtain ⟨q30, g31, hf⟩ := ob_bind hf
              rcases ob_tk hf with ⟨xq30, yq30, hf⟩ | ⟨v33, yq30, hf⟩
              · subst hQ
                exact xtx_v hno hlocks (xt_run (As := []) (rest := []) hJ hR hJs hS ⟨hx, hb, hml, hown, hts⟩ (wkX3_opens l hl9 D dA ro G J hJ h26 n27 a0 g31) (cwV 0 hts (lw_V q598 q600 qs11 q141 q601) rfl rfl rfl cdX3_opens ⟨by show 8 ≤ F + 31; omega, by show 170 ≤ L + 940; omega⟩) hK hH (of_decide_eq_true g32) (q := (RX3, TX3, 8)) rfl rfl hl.1 rfl rfl (Nat.le_of_ble_eq_true rfl) dX3_one_145 (xg_thr hq hf)) hH hR (by omega) hn hS yq30 rfl rfl (hq.thr hf)
              · obtain ⟨r, hf, hq, hc9, hs9⟩ := hq.add hf
                refine xtc_v (xt_run (As := []) (rest := []) hJ hR hJs hS ⟨hx, hb, hml, hown, hts⟩ (wkX3_opens l hl9 D dA ro G J hJ h26 n27 a0 g31) (cwV 0 hts (lw_V q598 q600 qs11 q141 q601) rfl rfl rfl cdX3_opens ⟨by show 8 ≤ F + 31; omega, by show 170 ≤ L + 940; omega⟩) hK hH (of_decide_eq_true g32) (q := (RX3, TX3, 8)) rfl rfl hl.1 rfl rfl (Nat.le_of_ble_eq_true rfl) dX3_one_145 ⟨hc9, hs9⟩) hH hR (by omega) hS yq30 (fun H locs hH hS => ?_)
                replace hn : (n27 + q30.2.2.1) = n0 + (kc27 + q30.2.2.1) := by omega
                refine lv_aload_n hx hb dX3_one_148 rfl (lv_at hl 1 rfl) ?_
                obtain ⟨g36, hf⟩ := ob_gp hf
                obtain ⟨q34, g35, hf⟩ := ob_bind hf
                rcases ob_tk hf with ⟨xq34, yq34, hf⟩ | ⟨v37, yq34, hf⟩
                · subst hQ
                  exact xtx_a hno hlocks (xt_run (As := []) (rest := []) hJ hR hJs hS ⟨hx, hb, hml, hown, hts⟩ (show vy_Met _ yX3_one _ _ _ _ _ _ _ _ from hrc 2 q30.2.1 (n27 + q30.2.2.1) a0 _ g35) (cwV 0 hts (lw_V q573 q575 qs8 q141 q576) rfl rfl rfl cdX3_one ⟨by show F + 30 + 1 ≤ F + 31; omega, by show 8 + (_ + 11) + (L + 900) ≤ L + 940; omega⟩) hK hH (of_decide_eq_true g36) (q := (RX3, TX3, 8)) rfl rfl hl.1 rfl rfl (Nat.le_of_ble_eq_true rfl) dX3_one_149 (xg_thr hq hf)) hH hR (by omega) hn hS yq34 rfl rfl (hq.thr hf)
                · obtain ⟨r, hf, hq, hc9, hs9⟩ := hq.add hf
                  refine xtc_a (xt_run (As := []) (rest := []) hJ hR hJs hS ⟨hx, hb, hml, hown, hts⟩ (show vy_Met _ yX3_one _ _ _ _ _ _ _ _ from hrc 2 q30.2.1 (n27 + q30.2.2.1) a0 _ g35) (cwV 0 hts (lw_V q573 q575 qs8 q141 q576) rfl rfl rfl cdX3_one ⟨by show F + 30 + 1 ≤ F + 31; omega, by show 8 + (_ + 11) + (L + 900) ≤ L + 940; omega⟩) hK hH (of_decide_eq_true g36) (q := (RX3, TX3, 8)) rfl rfl hl.1 rfl rfl (Nat.le_of_ble_eq_true rfl) dX3_one_149 ⟨hc9, hs9⟩) hH hR (by omega) hS yq34 (fun H locs hH hS => ?_)
                  replace hn : ((n27 + q30.2.2.1) + q34.2.2.1) = n0 + ((kc27 + q30.2.2.1) + q34.2.2.1) := by omega
                  refine lv_astore (lv' := [(4, .ref v37), (3, .int x29), (0, .ref a0)]) hx hb dX3_one_152 hl (by decide) rfl (fun ls hl => ?_)
                  refine lv_iload_n hx hb dX3_one_154 rfl (lv_at hl 1 rfl) ?_
                  refine lv_sipush (v := 210) hx hb dX3_one_155 (by decide) ?_
                  have kj182 : ∀ (h39 : Hv) (n40 : Nat) (t38 : Nat) (kc40 ks40 : Nat) (r : (Nat ⊕ Nat) × Hv × Nat × Nat) (H : Heap) (locs : List Loc) (ls : Array Slot), P_X3_one_j182 a0 ro h39 n40 t38 = some r → qI r res kc40 ks40 → n40 = n0 + kc40 → DS D dA ro h39 n40 (fD ro h0 n0) H → va_S (fD ro h0 n0) s.heap H locs → lv_has ls 5 [(0, .ref a0)] → W p l e (rmD (F + 31) (L + 940) res.2.2.1 res.2.2.2) s m args below meth c H locs kc40 ks40 Q (F0 m 182 ls [.ref t38]) := by
                    intro h39 n40 t38 kc40 ks40 r H locs ls hf hq hn hH hS hl
                    unfold P_X3_one_j182 at hf
                    refine lv_astore_n (lv' := [(2, .ref t38), (0, .ref a0)]) hx hb dX3_one_182 rfl hl (by decide) rfl (fun ls hl => ?_)
                    refine lv_goto (tgt := 192) hx hb dX3_one_183 (by decide) ?_
                    exact kj192 h39 n40 t38 _ _ r H locs ls hf hq hn hH hS (lv_sub hl [1, 0] rfl)
                  refine lv_icmp_ne (tgt := 173) hx hb dX3_one_158 (by decide) (fun c41 => ?_) (fun c41 => ?_)
                  · replace hf := ob_f hf c41
                    obtain ⟨r, hf, hq, hc9, hs9⟩ := hq.add hf
                    obtain ⟨h42, eh42, hf⟩ := ob_bnd hf
                    refine xd_new hx hb (N := 1) hts in_X15 tyX15 tyX15_ok hown (hts _ q801) (hts _ q802) (hts _ q166) hK hH hS hA9 (ci := 7) rfl (fs := [.null]) df_X15 hc9 hs9 dX3_one_173 (fun H hH hS => ?_)
                    rw [← eh42] at hH
                    replace hn : (((n27 + q30.2.2.1) + q34.2.2.1) + 1) = n0 + (((kc27 + q30.2.2.1) + q34.2.2.1) + 1) := by omega
                    refine lv_dup hx hb dX3_one_176 rfl ?_
                    refine lv_aload hx hb dX3_one_177 (lv_at hl 0 rfl) ?_
                    obtain ⟨q43, g44, hf⟩ := ob_bind hf
                    obtain ⟨r, hf, hq, hc9, hs9⟩ := hq.add hf
                    refine xdc_v (xd_runIN (As := [.ref v37]) (rest := [.ref ((n27 + q30.2.2.1) + q34.2.2.1)]) hJ hR hJs hS ⟨hx, hb, hml, hown, hts⟩ (wkX15_init l hl9 D dA ro G J hJ h42 (((n27 + q30.2.2.1) + q34.2.2.1) + 1) ((n27 + q30.2.2.1) + q34.2.2.1) v37 g44) ⟨va_cnB (host := "QuarrelsPawned") 1 hts (lw_meth q805) rfl rfl rfl (hJ.nest hJs 9 rfl) (hts _ q166) cdX15_init.2 ⟨by show 3 ≤ F + 31; omega, by show 101 ≤ L + 940; omega⟩, rfl, hts _ q804⟩ hK hH hl.1 rfl rfl (Nat.le_of_ble_eq_true rfl) dX3_one_179 ⟨hc9, hs9⟩) hH hR (by omega) hS (fun H locs hH hS => ?_)
                    replace hn : ((((n27 + q30.2.2.1) + q34.2.2.1) + 1) + q43.2.2.1) = n0 + ((((kc27 + q30.2.2.1) + q34.2.2.1) + 1) + q43.2.2.1) := by omega
                    exact kj182 q43.2.1 ((((n27 + q30.2.2.1) + q34.2.2.1) + 1) + q43.2.2.1) ((n27 + q30.2.2.1) + q34.2.2.1) _ _ r H locs ls hf hq hn hH hS (lv_sub hl [2] rfl)
                  · replace hf := ob_t hf c41
                    obtain ⟨r, hf, hq, hc9, hs9⟩ := hq.add hf
                    obtain ⟨h45, eh45, hf⟩ := ob_bnd hf
                    refine xd_new hx hb (N := 1) hts in_X14 tyX14 tyX14_ok hown (hts _ q791) (hts _ q792) (hts _ q165) hK hH hS hA9 (ci := 13) rfl (fs := [.null]) df_X14 hc9 hs9 dX3_one_161 (fun H hH hS => ?_)
                    rw [← eh45] at hH
                    replace hn : (((n27 + q30.2.2.1) + q34.2.2.1) + 1) = n0 + (((kc27 + q30.2.2.1) + q34.2.2.1) + 1) := by omega
                    refine lv_dup hx hb dX3_one_164 rfl ?_
                    refine lv_aload hx hb dX3_one_165 (lv_at hl 0 rfl) ?_
                    obtain ⟨q46, g47, hf⟩ := ob_bind hf
                    obtain ⟨r, hf, hq, hc9, hs9⟩ := hq.add hf
                    refine xdc_v (xd_runIN (As := [.ref v37]) (rest := [.ref ((n27 + q30.2.2.1) + q34.2.2.1)]) hJ hR hJs hS ⟨hx, hb, hml, hown, hts⟩ (wkX14_init l hl9 D dA ro G J hJ h45 (((n27 + q30.2.2.1) + q34.2.2.1) + 1) ((n27 + q30.2.2.1) + q34.2.2.1) v37 g47) ⟨va_cnB (host := "QuarrelsPawned") 1 hts (lw_meth q795) rfl rfl rfl (hJ.nest hJs 8 rfl) (hts _ q165) cdX14_init.2 ⟨by show 3 ≤ F + 31; omega, by show 101 ≤ L + 940; omega⟩, rfl, hts _ q794⟩ hK hH hl.1 rfl rfl (Nat.le_of_ble_eq_true rfl) dX3_one_167 ⟨hc9, hs9⟩) hH hR (by omega) hS (fun H locs hH hS => ?_)
                    replace hn : ((((n27 + q30.2.2.1) + q34.2.2.1) + 1) + q46.2.2.1) = n0 + ((((kc27 + q30.2.2.1) + q34.2.2.1) + 1) + q46.2.2.1) := by omega
                    refine lv_goto (tgt := 182) hx hb dX3_one_170 (by decide) ?_
                    exact kj182 q46.2.1 ((((n27 + q30.2.2.1) + q34.2.2.1) + 1) + q46.2.2.1) ((n27 + q30.2.2.1) + q34.2.2.1) _ _ r H locs ls hf hq hn hH hS (lv_sub hl [2] rfl)
            refine lv_icmp_eq (tgt := 139) hx hb dX3_one_126 (by decide) (fun c48 => ?_) (fun c48 => ?_)
            · replace hf := ob_t hf c48
              exact kj139 q10.2.1 (n0 + q10.2.2.1) _ _ r H locs ls hf hq hn hH hS (lv_sub hl [1] rfl)
            · replace hf := ob_f hf c48
              refine lv_aload_n hx hb dX3_one_129 rfl (lv_at hl 1 rfl) ?_
              obtain ⟨x50, g49, hf⟩ := ob_bind hf
              refine xh_geti hx hb hts in_X3 hown hK hH.1 (ci := 15) rfl 4 (by decide) (hts _ q353) (fun _ h => h) g49 dX3_one_130 ?_
              refine lv_sipush (v := 210) hx hb dX3_one_133 (by decide) ?_
              refine lv_icmp_ne (tgt := 186) hx hb dX3_one_136 (by decide) (fun c51 => ?_) (fun c51 => ?_)
              · replace hf := ob_f hf c51
                refine lv_aload_n hx hb dX3_one_186 rfl (lv_at hl 1 rfl) ?_
                refine lv_iconst (v := 1) hx hb dX3_one_187 (by decide) ?_
                obtain ⟨g54, hf⟩ := ob_gp hf
                obtain ⟨q52, g53, hf⟩ := ob_bind hf
                obtain ⟨r, hf, hq, hc9, hs9⟩ := hq.add hf
                refine xdc_a (xd_run (As := [.int 1]) (rest := []) hJ hR hJs hS ⟨hx, hb, hml, hown, hts⟩ (wkX3_wrong l hl9 D dA ro G J hJ q10.2.1 (n0 + q10.2.2.1) a0 1 g53) (cwV 1 hts (lw_V q495 q497 qs4 q141 q498) rfl rfl rfl cdX3_wrong ⟨by show 6 ≤ F + 31; omega, by show 123 ≤ L + 940; omega⟩) hK hH (of_decide_eq_true g54) (q := (RX3, TX3, 8)) rfl rfl hl.1 rfl rfl (Nat.le_of_ble_eq_true rfl) dX3_one_188 ⟨hc9, hs9⟩) hH hR (by omega) hS (fun H locs hH hS => ?_)
                replace hn : ((n0 + q10.2.2.1) + q52.2.2.1) = n0 + ((0 + q10.2.2.1) + q52.2.2.1) := by omega
                obtain ⟨g55, hf⟩ := ob_gp hf
                obtain ⟨g559, hf⟩ := ob_gp hf
                subst hQ
                exact xt_throw hx hb hno hlocks hK hH hn hS (of_decide_eq_true g55) g559 (hq.end (Option.some.inj hf)) dX3_one_191
              · replace hf := ob_t hf c51
                exact kj139 q10.2.1 (n0 + q10.2.2.1) _ _ r H locs ls hf hq hn hH hS (lv_sub hl [1] rfl)
          · replace hf := ob_t hf c23
            refine lv_aload_n hx hb dX3_one_102 rfl (lv_at hl 1 rfl) ?_
            obtain ⟨g58, hf⟩ := ob_gp hf
            obtain ⟨q56, g57, hf⟩ := ob_bind hf
            rcases ob_tk hf with ⟨xq56, yq56, hf⟩ | ⟨v59, yq56, hf⟩
            · subst hQ
              exact xtx_v hno hlocks (xt_run (As := []) (rest := []) hJ hR hJs hS ⟨hx, hb, hml, hown, hts⟩ (wkX3_opens l hl9 D dA ro G J hJ q10.2.1 (n0 + q10.2.2.1) a0 g57) (cwV 0 hts (lw_V q598 q600 qs11 q141 q601) rfl rfl rfl cdX3_opens ⟨by show 8 ≤ F + 31; omega, by show 170 ≤ L + 940; omega⟩) hK hH (of_decide_eq_true g58) (q := (RX3, TX3, 8)) rfl rfl hl.1 rfl rfl (Nat.le_of_ble_eq_true rfl) dX3_one_103 (xg_thr hq hf)) hH hR (by omega) hn hS yq56 rfl rfl (hq.thr hf)
            · obtain ⟨r, hf, hq, hc9, hs9⟩ := hq.add hf
              refine xtc_v (xt_run (As := []) (rest := []) hJ hR hJs hS ⟨hx, hb, hml, hown, hts⟩ (wkX3_opens l hl9 D dA ro G J hJ q10.2.1 (n0 + q10.2.2.1) a0 g57) (cwV 0 hts (lw_V q598 q600 qs11 q141 q601) rfl rfl rfl cdX3_opens ⟨by show 8 ≤ F + 31; omega, by show 170 ≤ L + 940; omega⟩) hK hH (of_decide_eq_true g58) (q := (RX3, TX3, 8)) rfl rfl hl.1 rfl rfl (Nat.le_of_ble_eq_true rfl) dX3_one_103 ⟨hc9, hs9⟩) hH hR (by omega) hS yq56 (fun H locs hH hS => ?_)
              replace hn : ((n0 + q10.2.2.1) + q56.2.2.1) = n0 + ((0 + q10.2.2.1) + q56.2.2.1) := by omega
              refine lv_aload_n hx hb dX3_one_106 rfl (lv_at hl 1 rfl) ?_
              obtain ⟨g62, hf⟩ := ob_gp hf
              obtain ⟨q60, g61, hf⟩ := ob_bind hf
              rcases ob_tk hf with ⟨xq60, yq60, hf⟩ | ⟨v63, yq60, hf⟩
              · subst hQ
                exact xtx_a hno hlocks (xt_run (As := []) (rest := []) hJ hR hJs hS ⟨hx, hb, hml, hown, hts⟩ (show vy_Met _ yX3_sum _ _ _ _ _ _ _ _ from hrc 0 q56.2.1 ((n0 + q10.2.2.1) + q56.2.2.1) a0 _ g61) (cwV 0 hts (lw_V q563 q565 qs6 q141 q566) rfl rfl rfl cdX3_sum ⟨by show F + 30 + 1 ≤ F + 31; omega, by show 8 + (_ + 11) + (L + 900) ≤ L + 940; omega⟩) hK hH (of_decide_eq_true g62) (q := (RX3, TX3, 8)) rfl rfl hl.1 rfl rfl (Nat.le_of_ble_eq_true rfl) dX3_one_107 (xg_thr hq hf)) hH hR (by omega) hn hS yq60 rfl rfl (hq.thr hf)
              · obtain ⟨r, hf, hq, hc9, hs9⟩ := hq.add hf
                refine xtc_a (xt_run (As := []) (rest := []) hJ hR hJs hS ⟨hx, hb, hml, hown, hts⟩ (show vy_Met _ yX3_sum _ _ _ _ _ _ _ _ from hrc 0 q56.2.1 ((n0 + q10.2.2.1) + q56.2.2.1) a0 _ g61) (cwV 0 hts (lw_V q563 q565 qs6 q141 q566) rfl rfl rfl cdX3_sum ⟨by show F + 30 + 1 ≤ F + 31; omega, by show 8 + (_ + 11) + (L + 900) ≤ L + 940; omega⟩) hK hH (of_decide_eq_true g62) (q := (RX3, TX3, 8)) rfl rfl hl.1 rfl rfl (Nat.le_of_ble_eq_true rfl) dX3_one_107 ⟨hc9, hs9⟩) hH hR (by omega) hS yq60 (fun H locs hH hS => ?_)
                replace hn : (((n0 + q10.2.2.1) + q56.2.2.1) + q60.2.2.1) = n0 + (((0 + q10.2.2.1) + q56.2.2.1) + q60.2.2.1) := by omega
                refine lv_astore_n (lv' := [(2, .ref v63), (1, .int q10.1), (0, .ref a0)]) hx hb dX3_one_110 rfl hl (by decide) rfl (fun ls hl => ?_)
                refine lv_aload_n hx hb dX3_one_111 rfl (lv_at hl 2 rfl) ?_
                refine lv_bipush (v := 41) hx hb dX3_one_112 (by decide) ?_
                obtain ⟨g66, hf⟩ := ob_gp hf
                obtain ⟨q64, g65, hf⟩ := ob_bind hf
                rcases ob_tk hf with ⟨xq64, yq64, hf⟩ | ⟨v67, yq64, hf⟩
                · subst hQ
                  exact xtx_v hno hlocks (xt_run (As := [.int 41]) (rest := []) hJ hR hJs hS ⟨hx, hb, hml, hown, hts⟩ (wkX3_want l hl9 D dA ro G J hJ q60.2.1 (((n0 + q10.2.2.1) + q56.2.2.1) + q60.2.2.1) a0 41 g65) (cwV 1 hts (lw_V q734 q736 qs18 q141 q737) rfl rfl rfl cdX3_want ⟨by show 8 ≤ F + 31; omega, by show 171 ≤ L + 940; omega⟩) hK hH (of_decide_eq_true g66) (q := (RX3, TX3, 8)) rfl rfl hl.1 rfl rfl (Nat.le_of_ble_eq_true rfl) dX3_one_114 (xg_thr hq hf)) hH hR (by omega) hn hS yq64 rfl rfl (hq.thr hf)
                · obtain ⟨r, hf, hq, hc9, hs9⟩ := hq.add hf
                  refine xtc_v (xt_run (As := [.int 41]) (rest := []) hJ hR hJs hS ⟨hx, hb, hml, hown, hts⟩ (wkX3_want l hl9 D dA ro G J hJ q60.2.1 (((n0 + q10.2.2.1) + q56.2.2.1) + q60.2.2.1) a0 41 g65) (cwV 1 hts (lw_V q734 q736 qs18 q141 q737) rfl rfl rfl cdX3_want ⟨by show 8 ≤ F + 31; omega, by show 171 ≤ L + 940; omega⟩) hK hH (of_decide_eq_true g66) (q := (RX3, TX3, 8)) rfl rfl hl.1 rfl rfl (Nat.le_of_ble_eq_true rfl) dX3_one_114 ⟨hc9, hs9⟩) hH hR (by omega) hS yq64 (fun H locs hH hS => ?_)
                  replace hn : ((((n0 + q10.2.2.1) + q56.2.2.1) + q60.2.2.1) + q64.2.2.1) = n0 + ((((0 + q10.2.2.1) + q56.2.2.1) + q60.2.2.1) + q64.2.2.1) := by omega
                  refine lv_goto (tgt := 192) hx hb dX3_one_117 (by decide) ?_
                  exact kj192 q64.2.1 ((((n0 + q10.2.2.1) + q56.2.2.1) + q60.2.2.1) + q64.2.2.1) v63 _ _ r H locs ls hf hq hn hH hS (lv_sub hl [2, 0] rfl)
        · replace hf := ob_f hf c13
          refine lv_aload_n hx hb dX3_one_66 rfl (lv_at hl 1 rfl) ?_
          refine lv_iload_n hx hb dX3_one_67 rfl (lv_at hl 0 rfl) ?_
          obtain ⟨g70, hf⟩ := ob_gp hf
          obtain ⟨q68, g69, hf⟩ := ob_bind hf
          obtain ⟨r, hf, hq, hc9, hs9⟩ := hq.add hf
          refine xdc_z (xd_run (As := [.int q10.1]) (rest := []) hJ hR hJs hS ⟨hx, hb, hml, hown, hts⟩ (wkX3_mayName l hl9 D dA ro G J hJ q10.2.1 (n0 + q10.2.2.1) a0 q10.1 g69) (cwV 1 hts (lw_V q777 q779 qs21 q141 q780) rfl rfl rfl cdX3_mayName ⟨by show 1 ≤ F + 31; omega, by show 21 ≤ L + 940; omega⟩) hK hH (of_decide_eq_true g70) (q := (RX3, TX3, 8)) rfl rfl hl.1 rfl rfl (Nat.le_of_ble_eq_true rfl) dX3_one_68 ⟨hc9, hs9⟩) hH hR (by omega) hS (fun H locs zq68 hH hS => ?_)
          replace hn : ((n0 + q10.2.2.1) + q68.2.2.1) = n0 + ((0 + q10.2.2.1) + q68.2.2.1) := by omega
          refine lv_if_ne (tgt := 80) hx hb dX3_one_71 (by decide) (fun c71 => ?_) (fun c71 => ?_)
          · replace hf := ob_f hf c71
            refine lv_aload_n hx hb dX3_one_80 rfl (lv_at hl 1 rfl) ?_
            obtain ⟨g74, hf⟩ := ob_gp hf
            obtain ⟨q72, g73, hf⟩ := ob_bind hf
            obtain ⟨r, hf, hq, hc9, hs9⟩ := hq.add hf
            refine xdc_v (xd_run (As := []) (rest := []) hJ hR hJs hS ⟨hx, hb, hml, hown, hts⟩ (wkX3_next l hl9 D dA ro G J hJ q68.2.1 ((n0 + q10.2.2.1) + q68.2.2.1) a0 g73) (cwV 0 hts (lw_V q426 q428 qs2 q141 q429) rfl rfl rfl cdX3_next ⟨by show 7 ≤ F + 31; omega, by show 150 ≤ L + 940; omega⟩) hK hH (of_decide_eq_true g74) (q := (RX3, TX3, 8)) rfl rfl hl.1 rfl rfl (Nat.le_of_ble_eq_true rfl) dX3_one_81 ⟨hc9, hs9⟩) hH hR (by omega) hS (fun H locs hH hS => ?_)
            replace hn : (((n0 + q10.2.2.1) + q68.2.2.1) + q72.2.2.1) = n0 + (((0 + q10.2.2.1) + q68.2.2.1) + q72.2.2.1) := by omega
            obtain ⟨r, hf, hq, hc9, hs9⟩ := hq.add hf
            obtain ⟨h75, eh75, hf⟩ := ob_bnd hf
            refine xd_new hx hb (N := 1) hts in_X13 tyX13 tyX13_ok hown (hts _ q781) (hts _ q782) (hts _ q164) hK hH hS hA9 (ci := 6) rfl (fs := [.int 0]) df_X13 hc9 hs9 dX3_one_84 (fun H hH hS => ?_)
            rw [← eh75] at hH
            replace hn : ((((n0 + q10.2.2.1) + q68.2.2.1) + q72.2.2.1) + 1) = n0 + ((((0 + q10.2.2.1) + q68.2.2.1) + q72.2.2.1) + 1) := by omega
            refine lv_dup hx hb dX3_one_87 rfl ?_
            refine lv_iload_n hx hb dX3_one_88 rfl (lv_at hl 0 rfl) ?_
            obtain ⟨q76, g77, hf⟩ := ob_bind hf
            obtain ⟨r, hf, hq, hc9, hs9⟩ := hq.add hf
            refine xdc_v (xd_runIN (As := [.int q10.1]) (rest := [.ref (((n0 + q10.2.2.1) + q68.2.2.1) + q72.2.2.1)]) hJ hR hJs hS ⟨hx, hb, hml, hown, hts⟩ (wkX13_init l hl9 D dA ro G J hJ h75 ((((n0 + q10.2.2.1) + q68.2.2.1) + q72.2.2.1) + 1) (((n0 + q10.2.2.1) + q68.2.2.1) + q72.2.2.1) q10.1 g77) ⟨va_cnB (host := "QuarrelsPawned") 1 hts (lw_meth q785) rfl rfl rfl (hJ.nest hJs 7 rfl) (hts _ q164) cdX13_init.2 ⟨by show 3 ≤ F + 31; omega, by show 101 ≤ L + 940; omega⟩, rfl, hts _ q784⟩ hK hH hl.1 rfl rfl (Nat.le_of_ble_eq_true rfl) dX3_one_89 ⟨hc9, hs9⟩) hH hR (by omega) hS (fun H locs hH hS => ?_)
            replace hn : (((((n0 + q10.2.2.1) + q68.2.2.1) + q72.2.2.1) + 1) + q76.2.2.1) = n0 + (((((0 + q10.2.2.1) + q68.2.2.1) + q72.2.2.1) + 1) + q76.2.2.1) := by omega
            subst hQ
            exact xe_ta (Or.inl ⟨_, rfl⟩) hx hb hr hlocks hH hn hS (hq.end (Option.some.inj hf)) dX3_one_92
          · replace hf := ob_t hf c71
            refine lv_aload_n hx hb dX3_one_74 rfl (lv_at hl 1 rfl) ?_
            refine lv_iconst (v := 5) hx hb dX3_one_75 (by decide) ?_
            obtain ⟨g80, hf⟩ := ob_gp hf
            obtain ⟨q78, g79, hf⟩ := ob_bind hf
            obtain ⟨r, hf, hq, hc9, hs9⟩ := hq.add hf
            refine xdc_a (xd_run (As := [.int 5]) (rest := []) hJ hR hJs hS ⟨hx, hb, hml, hown, hts⟩ (wkX3_wrong l hl9 D dA ro G J hJ q68.2.1 ((n0 + q10.2.2.1) + q68.2.2.1) a0 5 g79) (cwV 1 hts (lw_V q495 q497 qs4 q141 q498) rfl rfl rfl cdX3_wrong ⟨by show 6 ≤ F + 31; omega, by show 123 ≤ L + 940; omega⟩) hK hH (of_decide_eq_true g80) (q := (RX3, TX3, 8)) rfl rfl hl.1 rfl rfl (Nat.le_of_ble_eq_true rfl) dX3_one_76 ⟨hc9, hs9⟩) hH hR (by omega) hS (fun H locs hH hS => ?_)
            replace hn : (((n0 + q10.2.2.1) + q68.2.2.1) + q78.2.2.1) = n0 + (((0 + q10.2.2.1) + q68.2.2.1) + q78.2.2.1) := by omega
            obtain ⟨g81, hf⟩ := ob_gp hf
            obtain ⟨g819, hf⟩ := ob_gp hf
            subst hQ
            exact xt_throw hx hb hno hlocks hK hH hn hS (of_decide_eq_true g81) g819 (hq.end (Option.some.inj hf)) dX3_one_79
      · replace hf := ob_t hf c9
        refine lv_aload_n hx hb dX3_one_51 rfl (lv_at hl 0 rfl) ?_
        obtain ⟨g84, hf⟩ := ob_gp hf
        obtain ⟨q82, g83, hf⟩ := ob_bind hf
        rcases ob_tk hf with ⟨xq82, yq82, hf⟩ | ⟨v85, yq82, hf⟩
        · subst hQ
          exact xtx_a hno hlocks (xt_run (As := []) (rest := []) hJ hR hJs hS ⟨hx, hb, hml, hown, hts⟩ (show vy_Met _ yX3_rest _ _ _ _ _ _ _ _ from hrc 3 h0 n0 a0 _ g83) (cwV 0 hts (lw_V q754 q756 qs19 q141 q757) rfl rfl rfl cdX3_rest ⟨by show F + 30 + 1 ≤ F + 31; omega, by show 8 + (_ + 11) + (L + 900) ≤ L + 940; omega⟩) hK hH (of_decide_eq_true g84) (q := (RX3, TX3, 8)) rfl rfl hl.1 rfl rfl (Nat.le_of_ble_eq_true rfl) dX3_one_52 (xg_thr hq hf)) hH hR (by omega) hn hS yq82 rfl rfl (hq.thr hf)
        · obtain ⟨r, hf, hq, hc9, hs9⟩ := hq.add hf
          refine xtc_a (xt_run (As := []) (rest := []) hJ hR hJs hS ⟨hx, hb, hml, hown, hts⟩ (show vy_Met _ yX3_rest _ _ _ _ _ _ _ _ from hrc 3 h0 n0 a0 _ g83) (cwV 0 hts (lw_V q754 q756 qs19 q141 q757) rfl rfl rfl cdX3_rest ⟨by show F + 30 + 1 ≤ F + 31; omega, by show 8 + (_ + 11) + (L + 900) ≤ L + 940; omega⟩) hK hH (of_decide_eq_true g84) (q := (RX3, TX3, 8)) rfl rfl hl.1 rfl rfl (Nat.le_of_ble_eq_true rfl) dX3_one_52 ⟨hc9, hs9⟩) hH hR (by omega) hS yq82 (fun H locs hH hS => ?_)
          replace hn : (n0 + q82.2.2.1) = n0 + (0 + q82.2.2.1) := by omega
          subst hQ
          exact xe_ta (Or.inl ⟨_, rfl⟩) hx hb hr hlocks hH hn hS (hq.end (Option.some.inj hf)) dX3_one_55
    · replace hf := ob_t hf c6
      refine lv_aload_n hx hb dX3_one_36 rfl (lv_at hl 0 rfl) ?_
      obtain ⟨g88, hf⟩ := ob_gp hf
      obtain ⟨q86, g87, hf⟩ := ob_bind hf
      rcases ob_tk hf with ⟨xq86, yq86, hf⟩ | ⟨v89, yq86, hf⟩
      · subst hQ
        exact xtx_a hno hlocks (xt_run (As := []) (rest := []) hJ hR hJs hS ⟨hx, hb, hml, hown, hts⟩ (show vy_Met _ yX3_choice _ _ _ _ _ _ _ _ from hrc 4 h0 n0 a0 _ g87) (cwV 0 hts (lw_V q594 q596 qs10 q141 q597) rfl rfl rfl cdX3_choice ⟨by show F + 30 + 1 ≤ F + 31; omega, by show 8 + (_ + 11) + (L + 900) ≤ L + 940; omega⟩) hK hH (of_decide_eq_true g88) (q := (RX3, TX3, 8)) rfl rfl hl.1 rfl rfl (Nat.le_of_ble_eq_true rfl) dX3_one_37 (xg_thr hq hf)) hH hR (by omega) hn hS yq86 rfl rfl (hq.thr hf)
      · obtain ⟨r, hf, hq, hc9, hs9⟩ := hq.add hf
        refine xtc_a (xt_run (As := []) (rest := []) hJ hR hJs hS ⟨hx, hb, hml, hown, hts⟩ (show vy_Met _ yX3_choice _ _ _ _ _ _ _ _ from hrc 4 h0 n0 a0 _ g87) (cwV 0 hts (lw_V q594 q596 qs10 q141 q597) rfl rfl rfl cdX3_choice ⟨by show F + 30 + 1 ≤ F + 31; omega, by show 8 + (_ + 11) + (L + 900) ≤ L + 940; omega⟩) hK hH (of_decide_eq_true g88) (q := (RX3, TX3, 8)) rfl rfl hl.1 rfl rfl (Nat.le_of_ble_eq_true rfl) dX3_one_37 ⟨hc9, hs9⟩) hH hR (by omega) hS yq86 (fun H locs hH hS => ?_)
        replace hn : (n0 + q86.2.2.1) = n0 + (0 + q86.2.2.1) := by omega
        subst hQ
        exact xe_ta (Or.inl ⟨_, rfl⟩) hx hb hr hlocks hH hn hS (hq.end (Option.some.inj hf)) dX3_one_40
  · replace hf := ob_t hf c3
    obtain ⟨r, hf, hq, hc9, hs9⟩ := hq.add hf
    obtain ⟨h90, eh90, hf⟩ := ob_bnd hf
    refine xd_new hx hb (N := 1) hts in_X7 tyX7 tyX7_ok hown (hts _ q577) (hts _ q578) (hts _ q156) hK hH hS hA9 (ci := 5) rfl (fs := [.int 0]) df_X7 hc9 hs9 dX3_one_10 (fun H hH hS => ?_)
    rw [← eh90] at hH
    replace hn : (n0 + 1) = n0 + (0 + 1) := by omega
    refine lv_dup hx hb dX3_one_13 rfl ?_
    refine lv_aload_n hx hb dX3_one_14 rfl (lv_at hl 0 rfl) ?_
    refine lv_iconst (v := 0) hx hb dX3_one_15 (by decide) ?_
    refine lv_sipush (v := 9999) hx hb dX3_one_16 (by decide) ?_
    obtain ⟨g93, hf⟩ := ob_gp hf
    obtain ⟨q91, g92, hf⟩ := ob_bind hf
    rcases ob_tk hf with ⟨xq91, yq91, hf⟩ | ⟨v94, yq91, hf⟩
    · subst hQ
      exact xtx_i hno hlocks (xt_run (As := [.int 0, .int 9999]) (rest := [.ref n0, .ref n0]) hJ hR hJs hS ⟨hx, hb, hml, hown, hts⟩ (wkX3_number l hl9 D dA ro G J hJ h90 (n0 + 1) a0 0 9999 g92) (cwV 2 hts (lw_V q579 q581 qs9 q141 q582) rfl rfl rfl cdX3_number ⟨by show 8 ≤ F + 31; omega, by show 173 ≤ L + 940; omega⟩) hK hH (of_decide_eq_true g93) (q := (RX3, TX3, 8)) rfl rfl hl.1 rfl rfl (Nat.le_of_ble_eq_true rfl) dX3_one_19 (xg_thr hq hf)) hH hR (by omega) hn hS yq91 rfl rfl (hq.thr hf)
    · obtain ⟨r, hf, hq, hc9, hs9⟩ := hq.add hf
      refine xtc_i (xt_run (As := [.int 0, .int 9999]) (rest := [.ref n0, .ref n0]) hJ hR hJs hS ⟨hx, hb, hml, hown, hts⟩ (wkX3_number l hl9 D dA ro G J hJ h90 (n0 + 1) a0 0 9999 g92) (cwV 2 hts (lw_V q579 q581 qs9 q141 q582) rfl rfl rfl cdX3_number ⟨by show 8 ≤ F + 31; omega, by show 173 ≤ L + 940; omega⟩) hK hH (of_decide_eq_true g93) (q := (RX3, TX3, 8)) rfl rfl hl.1 rfl rfl (Nat.le_of_ble_eq_true rfl) dX3_one_19 ⟨hc9, hs9⟩) hH hR (by omega) hS yq91 (fun H locs hH hS => ?_)
      replace hn : ((n0 + 1) + q91.2.2.1) = n0 + ((0 + 1) + q91.2.2.1) := by omega
      obtain ⟨q95, g96, hf⟩ := ob_bind hf
      obtain ⟨r, hf, hq, hc9, hs9⟩ := hq.add hf
      refine xdc_v (xd_runIN (As := [.int v94]) (rest := [.ref n0]) hJ hR hJs hS ⟨hx, hb, hml, hown, hts⟩ (wkX7_init l hl9 D dA ro G J hJ q91.2.1 ((n0 + 1) + q91.2.2.1) n0 v94 g96) ⟨va_cnB (host := "QuarrelsPawned") 1 hts (lw_meth q585) rfl rfl rfl (hJ.nest hJs 1 rfl) (hts _ q156) cdX7_init.2 ⟨by show 3 ≤ F + 31; omega, by show 101 ≤ L + 940; omega⟩, rfl, hts _ q584⟩ hK hH hl.1 rfl rfl (Nat.le_of_ble_eq_true rfl) dX3_one_22 ⟨hc9, hs9⟩) hH hR (by omega) hS (fun H locs hH hS => ?_)
      replace hn : (((n0 + 1) + q91.2.2.1) + q95.2.2.1) = n0 + (((0 + 1) + q91.2.2.1) + q95.2.2.1) := by omega
      subst hQ
      exact xe_ta (Or.inl ⟨_, rfl⟩) hx hb hr hlocks hH hn hS (hq.end (Option.some.inj hf)) dX3_one_25
set_option maxHeartbeats 4000000 in
set_option maxRecDepth 100000 in
theorem wkX3_rest (l : Launch) (hl9 : l.stackTraces = false) (D : va_G) (dA : Nat → ClassId) (ro : Nat → Bool) (G : Gs) (J : State → Heap → Prop) (hJ : JD ro G J) {F L : Nat} {rc : Nat → Hv → Nat → Nat → Option ((Nat ⊕ Nat) × Hv × Nat × Nat)} (hrc : ∀ k h n a res, rc k h n a = some res → KC l D dA ro J F L k h n a res) (h0 : Hv) (n0 : Nat) (a0 : Nat) {res : (Nat ⊕ Nat) × Hv × Nat × Nat} (hf : P_X3_rest G ro rc h0 n0 a0 = some res) : vy_Met l yX3_rest (ws_ yX3_rest cX3_rest 3 (some (Jvm.ClassFile.FieldType.object "QuarrelsPawned$Sum"))) (rmD (F + 31) (L + 940) res.2.2.1 res.2.2.2) (Pd D dA ro J [.ref a0] h0 n0) (Qta D dA ro h0 n0 res) (Xt D dA ro h0 n0 res) res.2.2.1 res.2.2.2 (fD ro h0 n0) := by
  refine xt_head (own := RX3) (by decide) rfl (Nat.le_of_ble_eq_true rfl) ?_
  intro p e s m args below meth c ls Q hQ hname hno C hn0 hH hl
  obtain ⟨hx, hb, hr, hlocks, hml, hown, hts, hK, hJs⟩ := C
  replace hl : lv_has ls 3 [(0, .ref a0)] := hl
  have hS : va_S (fD ro h0 n0) s.heap s.heap [] := va_S.rf
  have hR : rD ro (fD ro h0 n0) n0 := fD_rD hH
  have hA9 : ∀ q, s.heap.size ≤ q → fD ro h0 n0 q := fun q hq => hR.2 q (hn0 ▸ hq)
  unfold P_X3_rest at hf
  obtain ⟨r, er⟩ : ∃ r, r = res := ⟨_, rfl⟩
  have hq : qI r res 0 0 := by rw [er]; exact ⟨rfl, rfl, Nat.zero_add _, Nat.zero_add _⟩
  rw [← er] at hf
  have hn : n0 = n0 + 0 := rfl
  obtain ⟨H, eH⟩ : ∃ H, H = s.heap := ⟨_, rfl⟩
  obtain ⟨locs, eL⟩ : ∃ locs : List Loc, locs = [] := ⟨_, rfl⟩
  rw [← eL] at hS ⊢
  rw [← eH] at hH
  have hS : va_S (fD ro h0 n0) s.heap H locs := by rw [eH]; exact hS
  show W p l e (rmD (F + 31) (L + 940) res.2.2.1 res.2.2.2) s m args below meth c s.heap locs 0 0 Q (F0 m 0 ls [])
  rw [← eH]
  clear er
  refine lv_aload_n hx hb dX3_rest_0 rfl (lv_at hl 0 rfl) ?_
  obtain ⟨g3, hf⟩ := ob_gp hf
  obtain ⟨q1, g2, hf⟩ := ob_bind hf
  rcases ob_tk hf with ⟨xq1, yq1, hf⟩ | ⟨v4, yq1, hf⟩
  · subst hQ
    exact xtx_v hno hlocks (xt_run (As := []) (rest := []) hJ hR hJs hS ⟨hx, hb, hml, hown, hts⟩ (wkX3_opens l hl9 D dA ro G J hJ h0 n0 a0 g2) (cwV 0 hts (lw_V q598 q600 qs11 q141 q601) rfl rfl rfl cdX3_opens ⟨by show 8 ≤ F + 31; omega, by show 170 ≤ L + 940; omega⟩) hK hH (of_decide_eq_true g3) (q := (RX3, TX3, 8)) rfl rfl hl.1 rfl rfl (Nat.le_of_ble_eq_true rfl) dX3_rest_1 (xg_thr hq hf)) hH hR (by omega) hn hS yq1 rfl rfl (hq.thr hf)
  · obtain ⟨r, hf, hq, hc9, hs9⟩ := hq.add hf
    refine xtc_v (xt_run (As := []) (rest := []) hJ hR hJs hS ⟨hx, hb, hml, hown, hts⟩ (wkX3_opens l hl9 D dA ro G J hJ h0 n0 a0 g2) (cwV 0 hts (lw_V q598 q600 qs11 q141 q601) rfl rfl rfl cdX3_opens ⟨by show 8 ≤ F + 31; omega, by show 170 ≤ L + 940; omega⟩) hK hH (of_decide_eq_true g3) (q := (RX3, TX3, 8)) rfl rfl hl.1 rfl rfl (Nat.le_of_ble_eq_true rfl) dX3_rest_1 ⟨hc9, hs9⟩) hH hR (by omega) hS yq1 (fun H locs hH hS => ?_)
    replace hn : (n0 + q1.2.2.1) = n0 + (0 + q1.2.2.1) := by omega
    refine lv_aload_n hx hb dX3_rest_4 rfl (lv_at hl 0 rfl) ?_
    obtain ⟨g7, hf⟩ := ob_gp hf
    obtain ⟨q5, g6, hf⟩ := ob_bind hf
    rcases ob_tk hf with ⟨xq5, yq5, hf⟩ | ⟨v8, yq5, hf⟩
    · subst hQ
      exact xtx_a hno hlocks (xt_run (As := []) (rest := []) hJ hR hJs hS ⟨hx, hb, hml, hown, hts⟩ (show vy_Met _ yX3_one _ _ _ _ _ _ _ _ from hrc 2 q1.2.1 (n0 + q1.2.2.1) a0 _ g6) (cwV 0 hts (lw_V q573 q575 qs8 q141 q576) rfl rfl rfl cdX3_one ⟨by show F + 30 + 1 ≤ F + 31; omega, by show 8 + (_ + 11) + (L + 900) ≤ L + 940; omega⟩) hK hH (of_decide_eq_true g7) (q := (RX3, TX3, 8)) rfl rfl hl.1 rfl rfl (Nat.le_of_ble_eq_true rfl) dX3_rest_5 (xg_thr hq hf)) hH hR (by omega) hn hS yq5 rfl rfl (hq.thr hf)
    · obtain ⟨r, hf, hq, hc9, hs9⟩ := hq.add hf
      refine xtc_a (xt_run (As := []) (rest := []) hJ hR hJs hS ⟨hx, hb, hml, hown, hts⟩ (show vy_Met _ yX3_one _ _ _ _ _ _ _ _ from hrc 2 q1.2.1 (n0 + q1.2.2.1) a0 _ g6) (cwV 0 hts (lw_V q573 q575 qs8 q141 q576) rfl rfl rfl cdX3_one ⟨by show F + 30 + 1 ≤ F + 31; omega, by show 8 + (_ + 11) + (L + 900) ≤ L + 940; omega⟩) hK hH (of_decide_eq_true g7) (q := (RX3, TX3, 8)) rfl rfl hl.1 rfl rfl (Nat.le_of_ble_eq_true rfl) dX3_rest_5 ⟨hc9, hs9⟩) hH hR (by omega) hS yq5 (fun H locs hH hS => ?_)
      replace hn : ((n0 + q1.2.2.1) + q5.2.2.1) = n0 + ((0 + q1.2.2.1) + q5.2.2.1) := by omega
      refine lv_astore_n (lv' := [(1, .ref v8), (0, .ref a0)]) hx hb dX3_rest_8 rfl hl (by decide) rfl (fun ls hl => ?_)
      refine lv_aload_n hx hb dX3_rest_9 rfl (lv_at hl 1 rfl) ?_
      refine lv_sipush (v := 207) hx hb dX3_rest_10 (by decide) ?_
      obtain ⟨g11, hf⟩ := ob_gp hf
      obtain ⟨q9, g10, hf⟩ := ob_bind hf
      rcases ob_tk hf with ⟨xq9, yq9, hf⟩ | ⟨v12, yq9, hf⟩
      · subst hQ
        exact xtx_v hno hlocks (xt_run (As := [.int 207]) (rest := []) hJ hR hJs hS ⟨hx, hb, hml, hown, hts⟩ (wkX3_want l hl9 D dA ro G J hJ q5.2.1 ((n0 + q1.2.2.1) + q5.2.2.1) a0 207 g10) (cwV 1 hts (lw_V q734 q736 qs18 q141 q737) rfl rfl rfl cdX3_want ⟨by show 8 ≤ F + 31; omega, by show 171 ≤ L + 940; omega⟩) hK hH (of_decide_eq_true g11) (q := (RX3, TX3, 8)) rfl rfl hl.1 rfl rfl (Nat.le_of_ble_eq_true rfl) dX3_rest_13 (xg_thr hq hf)) hH hR (by omega) hn hS yq9 rfl rfl (hq.thr hf)
      · obtain ⟨r, hf, hq, hc9, hs9⟩ := hq.add hf
        refine xtc_v (xt_run (As := [.int 207]) (rest := []) hJ hR hJs hS ⟨hx, hb, hml, hown, hts⟩ (wkX3_want l hl9 D dA ro G J hJ q5.2.1 ((n0 + q1.2.2.1) + q5.2.2.1) a0 207 g10) (cwV 1 hts (lw_V q734 q736 qs18 q141 q737) rfl rfl rfl cdX3_want ⟨by show 8 ≤ F + 31; omega, by show 171 ≤ L + 940; omega⟩) hK hH (of_decide_eq_true g11) (q := (RX3, TX3, 8)) rfl rfl hl.1 rfl rfl (Nat.le_of_ble_eq_true rfl) dX3_rest_13 ⟨hc9, hs9⟩) hH hR (by omega) hS yq9 (fun H locs hH hS => ?_)
        replace hn : (((n0 + q1.2.2.1) + q5.2.2.1) + q9.2.2.1) = n0 + (((0 + q1.2.2.1) + q5.2.2.1) + q9.2.2.1) := by omega
        refine lv_aload_n hx hb dX3_rest_16 rfl (lv_at hl 1 rfl) ?_
        obtain ⟨g15, hf⟩ := ob_gp hf
        obtain ⟨q13, g14, hf⟩ := ob_bind hf
        rcases ob_tk hf with ⟨xq13, yq13, hf⟩ | ⟨v16, yq13, hf⟩
        · subst hQ
          exact xtx_a hno hlocks (xt_run (As := []) (rest := []) hJ hR hJs hS ⟨hx, hb, hml, hown, hts⟩ (show vy_Met _ yX3_one _ _ _ _ _ _ _ _ from hrc 2 q9.2.1 (((n0 + q1.2.2.1) + q5.2.2.1) + q9.2.2.1) a0 _ g14) (cwV 0 hts (lw_V q573 q575 qs8 q141 q576) rfl rfl rfl cdX3_one ⟨by show F + 30 + 1 ≤ F + 31; omega, by show 8 + (_ + 11) + (L + 900) ≤ L + 940; omega⟩) hK hH (of_decide_eq_true g15) (q := (RX3, TX3, 8)) rfl rfl hl.1 rfl rfl (Nat.le_of_ble_eq_true rfl) dX3_rest_17 (xg_thr hq hf)) hH hR (by omega) hn hS yq13 rfl rfl (hq.thr hf)
        · obtain ⟨r, hf, hq, hc9, hs9⟩ := hq.add hf
          refine xtc_a (xt_run (As := []) (rest := []) hJ hR hJs hS ⟨hx, hb, hml, hown, hts⟩ (show vy_Met _ yX3_one _ _ _ _ _ _ _ _ from hrc 2 q9.2.1 (((n0 + q1.2.2.1) + q5.2.2.1) + q9.2.2.1) a0 _ g14) (cwV 0 hts (lw_V q573 q575 qs8 q141 q576) rfl rfl rfl cdX3_one ⟨by show F + 30 + 1 ≤ F + 31; omega, by show 8 + (_ + 11) + (L + 900) ≤ L + 940; omega⟩) hK hH (of_decide_eq_true g15) (q := (RX3, TX3, 8)) rfl rfl hl.1 rfl rfl (Nat.le_of_ble_eq_true rfl) dX3_rest_17 ⟨hc9, hs9⟩) hH hR (by omega) hS yq13 (fun H locs hH hS => ?_)
          replace hn : ((((n0 + q1.2.2.1) + q5.2.2.1) + q9.2.2.1) + q13.2.2.1) = n0 + ((((0 + q1.2.2.1) + q5.2.2.1) + q9.2.2.1) + q13.2.2.1) := by omega
          refine lv_astore_n (lv' := [(2, .ref v16), (1, .ref v8), (0, .ref a0)]) hx hb dX3_rest_20 rfl hl (by decide) rfl (fun ls hl => ?_)
          refine lv_aload_n hx hb dX3_rest_21 rfl (lv_at hl 2 rfl) ?_
          refine lv_dup hx hb dX3_rest_22 rfl ?_
          obtain ⟨x18, g17, hf⟩ := ob_bind hf
          refine xh_geti hx hb hts in_X3 hown hK hH.1 (ci := 15) rfl 6 (by decide) (hts _ q355) (fun _ h => h) g17 dX3_rest_23 ?_
          refine lv_iconst (v := 1) hx hb dX3_rest_26 (by decide) ?_
          refine lv_isub hx hb dX3_rest_27 ?_
          obtain ⟨h20, g19, hf⟩ := ob_bind hf
          refine xd_put hx hb hts in_X3 tyX3 tyX3_ok nmX3 hown hK hH hS (ci := 15) rfl 6 (by decide) (hts _ q355) (fun _ h => h) rfl (v := .int (x18 - 1)) rfl rfl g19 dX3_rest_28 (fun H locs hH hS => ?_)
          obtain ⟨r, hf, hq, hc9, hs9⟩ := hq.add hf
          obtain ⟨h21, eh21, hf⟩ := ob_bnd hf
          refine xd_new hx hb (N := 2) hts in_X12 tyX12 tyX12_ok hown (hts _ q758) (hts _ q759) (hts _ q163) hK hH hS hA9 (ci := 12) rfl (fs := [.null, .null]) df_X12 hc9 hs9 dX3_rest_31 (fun H hH hS => ?_)
          rw [← eh21] at hH
          replace hn : (((((n0 + q1.2.2.1) + q5.2.2.1) + q9.2.2.1) + q13.2.2.1) + 1) = n0 + (((((0 + q1.2.2.1) + q5.2.2.1) + q9.2.2.1) + q13.2.2.1) + 1) := by omega
          refine lv_dup hx hb dX3_rest_34 rfl ?_
          refine lv_aload_n hx hb dX3_rest_35 rfl (lv_at hl 1 rfl) ?_
          refine lv_aload_n hx hb dX3_rest_36 rfl (lv_at hl 0 rfl) ?_
          obtain ⟨q22, g23, hf⟩ := ob_bind hf
          obtain ⟨r, hf, hq, hc9, hs9⟩ := hq.add hf
          refine xdc_v (xd_runIN (As := [.ref v8, .ref v16]) (rest := [.ref ((((n0 + q1.2.2.1) + q5.2.2.1) + q9.2.2.1) + q13.2.2.1)]) hJ hR hJs hS ⟨hx, hb, hml, hown, hts⟩ (wkX12_init l hl9 D dA ro G J hJ h21 (((((n0 + q1.2.2.1) + q5.2.2.1) + q9.2.2.1) + q13.2.2.1) + 1) ((((n0 + q1.2.2.1) + q5.2.2.1) + q9.2.2.1) + q13.2.2.1) v8 v16 g23) ⟨va_cnB (host := "QuarrelsPawned") 2 hts (lw_meth q762) rfl rfl rfl (hJ.nest hJs 6 rfl) (hts _ q163) cdX12_init.2 ⟨by show 3 ≤ F + 31; omega, by show 102 ≤ L + 940; omega⟩, rfl, hts _ q761⟩ hK hH hl.1 rfl rfl (Nat.le_of_ble_eq_true rfl) dX3_rest_37 ⟨hc9, hs9⟩) hH hR (by omega) hS (fun H locs hH hS => ?_)
          replace hn : ((((((n0 + q1.2.2.1) + q5.2.2.1) + q9.2.2.1) + q13.2.2.1) + 1) + q22.2.2.1) = n0 + ((((((0 + q1.2.2.1) + q5.2.2.1) + q9.2.2.1) + q13.2.2.1) + 1) + q22.2.2.1) := by omega
          subst hQ
          exact xe_ta (Or.inl ⟨_, rfl⟩) hx hb hr hlocks hH hn hS (hq.end (Option.some.inj hf)) dX3_rest_40
set_option maxHeartbeats 4000000 in
set_option maxRecDepth 100000 in
theorem wkX3_choice (l : Launch) (hl9 : l.stackTraces = false) (D : va_G) (dA : Nat → ClassId) (ro : Nat → Bool) (G : Gs) (J : State → Heap → Prop) (hJ : JD ro G J) {F L : Nat} {rc : Nat → Hv → Nat → Nat → Option ((Nat ⊕ Nat) × Hv × Nat × Nat)} (hrc : ∀ k h n a res, rc k h n a = some res → KC l D dA ro J F L k h n a res) (h0 : Hv) (n0 : Nat) (a0 : Nat) {res : (Nat ⊕ Nat) × Hv × Nat × Nat} (hf : P_X3_choice G ro rc h0 n0 a0 = some res) : vy_Met l yX3_choice (ws_ yX3_choice cX3_choice 4 (some (Jvm.ClassFile.FieldType.object "QuarrelsPawned$Sum"))) (rmD (F + 31) (L + 940) res.2.2.1 res.2.2.2) (Pd D dA ro J [.ref a0] h0 n0) (Qta D dA ro h0 n0 res) (Xt D dA ro h0 n0 res) res.2.2.1 res.2.2.2 (fD ro h0 n0) := by
  refine xt_head (own := RX3) (by decide) rfl (Nat.le_of_ble_eq_true rfl) ?_
  intro p e s m args below meth c ls Q hQ hname hno C hn0 hH hl
  obtain ⟨hx, hb, hr, hlocks, hml, hown, hts, hK, hJs⟩ := C
  replace hl : lv_has ls 4 [(0, .ref a0)] := hl
  have hS : va_S (fD ro h0 n0) s.heap s.heap [] := va_S.rf
  have hR : rD ro (fD ro h0 n0) n0 := fD_rD hH
  have hA9 : ∀ q, s.heap.size ≤ q → fD ro h0 n0 q := fun q hq => hR.2 q (hn0 ▸ hq)
  unfold P_X3_choice at hf
  obtain ⟨r, er⟩ : ∃ r, r = res := ⟨_, rfl⟩
  have hq : qI r res 0 0 := by rw [er]; exact ⟨rfl, rfl, Nat.zero_add _, Nat.zero_add _⟩
  rw [← er] at hf
  have hn : n0 = n0 + 0 := rfl
  obtain ⟨H, eH⟩ : ∃ H, H = s.heap := ⟨_, rfl⟩
  obtain ⟨locs, eL⟩ : ∃ locs : List Loc, locs = [] := ⟨_, rfl⟩
  rw [← eL] at hS ⊢
  rw [← eH] at hH
  have hS : va_S (fD ro h0 n0) s.heap H locs := by rw [eH]; exact hS
  show W p l e (rmD (F + 31) (L + 940) res.2.2.1 res.2.2.2) s m args below meth c s.heap locs 0 0 Q (F0 m 0 ls [])
  rw [← eH]
  clear er
  refine lv_aload_n hx hb dX3_choice_0 rfl (lv_at hl 0 rfl) ?_
  obtain ⟨g3, hf⟩ := ob_gp hf
  obtain ⟨q1, g2, hf⟩ := ob_bind hf
  rcases ob_tk hf with ⟨xq1, yq1, hf⟩ | ⟨v4, yq1, hf⟩
  · subst hQ
    exact xtx_v hno hlocks (xt_run (As := []) (rest := []) hJ hR hJs hS ⟨hx, hb, hml, hown, hts⟩ (wkX3_opens l hl9 D dA ro G J hJ h0 n0 a0 g2) (cwV 0 hts (lw_V q598 q600 qs11 q141 q601) rfl rfl rfl cdX3_opens ⟨by show 8 ≤ F + 31; omega, by show 170 ≤ L + 940; omega⟩) hK hH (of_decide_eq_true g3) (q := (RX3, TX3, 8)) rfl rfl hl.1 rfl rfl (Nat.le_of_ble_eq_true rfl) dX3_choice_1 (xg_thr hq hf)) hH hR (by omega) hn hS yq1 rfl rfl (hq.thr hf)
  · obtain ⟨r, hf, hq, hc9, hs9⟩ := hq.add hf
    refine xtc_v (xt_run (As := []) (rest := []) hJ hR hJs hS ⟨hx, hb, hml, hown, hts⟩ (wkX3_opens l hl9 D dA ro G J hJ h0 n0 a0 g2) (cwV 0 hts (lw_V q598 q600 qs11 q141 q601) rfl rfl rfl cdX3_opens ⟨by show 8 ≤ F + 31; omega, by show 170 ≤ L + 940; omega⟩) hK hH (of_decide_eq_true g3) (q := (RX3, TX3, 8)) rfl rfl hl.1 rfl rfl (Nat.le_of_ble_eq_true rfl) dX3_choice_1 ⟨hc9, hs9⟩) hH hR (by omega) hS yq1 (fun H locs hH hS => ?_)
    replace hn : (n0 + q1.2.2.1) = n0 + (0 + q1.2.2.1) := by omega
    refine lv_aload_n hx hb dX3_choice_4 rfl (lv_at hl 0 rfl) ?_
    obtain ⟨g7, hf⟩ := ob_gp hf
    obtain ⟨q5, g6, hf⟩ := ob_bind hf
    rcases ob_tk hf with ⟨xq5, yq5, hf⟩ | ⟨v8, yq5, hf⟩
    · subst hQ
      exact xtx_a hno hlocks (xt_run (As := []) (rest := []) hJ hR hJs hS ⟨hx, hb, hml, hown, hts⟩ (show vy_Met _ yX3_either _ _ _ _ _ _ _ _ from hrc 5 q1.2.1 (n0 + q1.2.2.1) a0 _ g6) (cwV 0 hts (lw_V q602 q604 qs12 q141 q605) rfl rfl rfl cdX3_either ⟨by show F + 30 + 1 ≤ F + 31; omega, by show 8 + (_ + 11) + (L + 900) ≤ L + 940; omega⟩) hK hH (of_decide_eq_true g7) (q := (RX3, TX3, 8)) rfl rfl hl.1 rfl rfl (Nat.le_of_ble_eq_true rfl) dX3_choice_5 (xg_thr hq hf)) hH hR (by omega) hn hS yq5 rfl rfl (hq.thr hf)
    · obtain ⟨r, hf, hq, hc9, hs9⟩ := hq.add hf
      refine xtc_a (xt_run (As := []) (rest := []) hJ hR hJs hS ⟨hx, hb, hml, hown, hts⟩ (show vy_Met _ yX3_either _ _ _ _ _ _ _ _ from hrc 5 q1.2.1 (n0 + q1.2.2.1) a0 _ g6) (cwV 0 hts (lw_V q602 q604 qs12 q141 q605) rfl rfl rfl cdX3_either ⟨by show F + 30 + 1 ≤ F + 31; omega, by show 8 + (_ + 11) + (L + 900) ≤ L + 940; omega⟩) hK hH (of_decide_eq_true g7) (q := (RX3, TX3, 8)) rfl rfl hl.1 rfl rfl (Nat.le_of_ble_eq_true rfl) dX3_choice_5 ⟨hc9, hs9⟩) hH hR (by omega) hS yq5 (fun H locs hH hS => ?_)
      replace hn : ((n0 + q1.2.2.1) + q5.2.2.1) = n0 + ((0 + q1.2.2.1) + q5.2.2.1) := by omega
      refine lv_astore_n (lv' := [(1, .ref v8), (0, .ref a0)]) hx hb dX3_choice_8 rfl hl (by decide) rfl (fun ls hl => ?_)
      refine lv_aload_n hx hb dX3_choice_9 rfl (lv_at hl 1 rfl) ?_
      refine lv_sipush (v := 212) hx hb dX3_choice_10 (by decide) ?_
      obtain ⟨g11, hf⟩ := ob_gp hf
      obtain ⟨q9, g10, hf⟩ := ob_bind hf
      rcases ob_tk hf with ⟨xq9, yq9, hf⟩ | ⟨v12, yq9, hf⟩
      · subst hQ
        exact xtx_v hno hlocks (xt_run (As := [.int 212]) (rest := []) hJ hR hJs hS ⟨hx, hb, hml, hown, hts⟩ (wkX3_want l hl9 D dA ro G J hJ q5.2.1 ((n0 + q1.2.2.1) + q5.2.2.1) a0 212 g10) (cwV 1 hts (lw_V q734 q736 qs18 q141 q737) rfl rfl rfl cdX3_want ⟨by show 8 ≤ F + 31; omega, by show 171 ≤ L + 940; omega⟩) hK hH (of_decide_eq_true g11) (q := (RX3, TX3, 8)) rfl rfl hl.1 rfl rfl (Nat.le_of_ble_eq_true rfl) dX3_choice_13 (xg_thr hq hf)) hH hR (by omega) hn hS yq9 rfl rfl (hq.thr hf)
      · obtain ⟨r, hf, hq, hc9, hs9⟩ := hq.add hf
        refine xtc_v (xt_run (As := [.int 212]) (rest := []) hJ hR hJs hS ⟨hx, hb, hml, hown, hts⟩ (wkX3_want l hl9 D dA ro G J hJ q5.2.1 ((n0 + q1.2.2.1) + q5.2.2.1) a0 212 g10) (cwV 1 hts (lw_V q734 q736 qs18 q141 q737) rfl rfl rfl cdX3_want ⟨by show 8 ≤ F + 31; omega, by show 171 ≤ L + 940; omega⟩) hK hH (of_decide_eq_true g11) (q := (RX3, TX3, 8)) rfl rfl hl.1 rfl rfl (Nat.le_of_ble_eq_true rfl) dX3_choice_13 ⟨hc9, hs9⟩) hH hR (by omega) hS yq9 (fun H locs hH hS => ?_)
        replace hn : (((n0 + q1.2.2.1) + q5.2.2.1) + q9.2.2.1) = n0 + (((0 + q1.2.2.1) + q5.2.2.1) + q9.2.2.1) := by omega
        refine lv_aload_n hx hb dX3_choice_16 rfl (lv_at hl 1 rfl) ?_
        obtain ⟨g15, hf⟩ := ob_gp hf
        obtain ⟨q13, g14, hf⟩ := ob_bind hf
        rcases ob_tk hf with ⟨xq13, yq13, hf⟩ | ⟨v16, yq13, hf⟩
        · subst hQ
          exact xtx_a hno hlocks (xt_run (As := []) (rest := []) hJ hR hJs hS ⟨hx, hb, hml, hown, hts⟩ (show vy_Met _ yX3_sum _ _ _ _ _ _ _ _ from hrc 0 q9.2.1 (((n0 + q1.2.2.1) + q5.2.2.1) + q9.2.2.1) a0 _ g14) (cwV 0 hts (lw_V q563 q565 qs6 q141 q566) rfl rfl rfl cdX3_sum ⟨by show F + 30 + 1 ≤ F + 31; omega, by show 8 + (_ + 11) + (L + 900) ≤ L + 940; omega⟩) hK hH (of_decide_eq_true g15) (q := (RX3, TX3, 8)) rfl rfl hl.1 rfl rfl (Nat.le_of_ble_eq_true rfl) dX3_choice_17 (xg_thr hq hf)) hH hR (by omega) hn hS yq13 rfl rfl (hq.thr hf)
        · obtain ⟨r, hf, hq, hc9, hs9⟩ := hq.add hf
          refine xtc_a (xt_run (As := []) (rest := []) hJ hR hJs hS ⟨hx, hb, hml, hown, hts⟩ (show vy_Met _ yX3_sum _ _ _ _ _ _ _ _ from hrc 0 q9.2.1 (((n0 + q1.2.2.1) + q5.2.2.1) + q9.2.2.1) a0 _ g14) (cwV 0 hts (lw_V q563 q565 qs6 q141 q566) rfl rfl rfl cdX3_sum ⟨by show F + 30 + 1 ≤ F + 31; omega, by show 8 + (_ + 11) + (L + 900) ≤ L + 940; omega⟩) hK hH (of_decide_eq_true g15) (q := (RX3, TX3, 8)) rfl rfl hl.1 rfl rfl (Nat.le_of_ble_eq_true rfl) dX3_choice_17 ⟨hc9, hs9⟩) hH hR (by omega) hS yq13 (fun H locs hH hS => ?_)
          replace hn : ((((n0 + q1.2.2.1) + q5.2.2.1) + q9.2.2.1) + q13.2.2.1) = n0 + ((((0 + q1.2.2.1) + q5.2.2.1) + q9.2.2.1) + q13.2.2.1) := by omega
          refine lv_astore_n (lv' := [(2, .ref v16), (1, .ref v8), (0, .ref a0)]) hx hb dX3_choice_20 rfl hl (by decide) rfl (fun ls hl => ?_)
          refine lv_aload_n hx hb dX3_choice_21 rfl (lv_at hl 2 rfl) ?_
          refine lv_sipush (v := 213) hx hb dX3_choice_22 (by decide) ?_
          obtain ⟨g19, hf⟩ := ob_gp hf
          obtain ⟨q17, g18, hf⟩ := ob_bind hf
          rcases ob_tk hf with ⟨xq17, yq17, hf⟩ | ⟨v20, yq17, hf⟩
          · subst hQ
            exact xtx_v hno hlocks (xt_run (As := [.int 213]) (rest := []) hJ hR hJs hS ⟨hx, hb, hml, hown, hts⟩ (wkX3_want l hl9 D dA ro G J hJ q13.2.1 ((((n0 + q1.2.2.1) + q5.2.2.1) + q9.2.2.1) + q13.2.2.1) a0 213 g18) (cwV 1 hts (lw_V q734 q736 qs18 q141 q737) rfl rfl rfl cdX3_want ⟨by show 8 ≤ F + 31; omega, by show 171 ≤ L + 940; omega⟩) hK hH (of_decide_eq_true g19) (q := (RX3, TX3, 8)) rfl rfl hl.1 rfl rfl (Nat.le_of_ble_eq_true rfl) dX3_choice_25 (xg_thr hq hf)) hH hR (by omega) hn hS yq17 rfl rfl (hq.thr hf)
          · obtain ⟨r, hf, hq, hc9, hs9⟩ := hq.add hf
            refine xtc_v (xt_run (As := [.int 213]) (rest := []) hJ hR hJs hS ⟨hx, hb, hml, hown, hts⟩ (wkX3_want l hl9 D dA ro G J hJ q13.2.1 ((((n0 + q1.2.2.1) + q5.2.2.1) + q9.2.2.1) + q13.2.2.1) a0 213 g18) (cwV 1 hts (lw_V q734 q736 qs18 q141 q737) rfl rfl rfl cdX3_want ⟨by show 8 ≤ F + 31; omega, by show 171 ≤ L + 940; omega⟩) hK hH (of_decide_eq_true g19) (q := (RX3, TX3, 8)) rfl rfl hl.1 rfl rfl (Nat.le_of_ble_eq_true rfl) dX3_choice_25 ⟨hc9, hs9⟩) hH hR (by omega) hS yq17 (fun H locs hH hS => ?_)
            replace hn : (((((n0 + q1.2.2.1) + q5.2.2.1) + q9.2.2.1) + q13.2.2.1) + q17.2.2.1) = n0 + (((((0 + q1.2.2.1) + q5.2.2.1) + q9.2.2.1) + q13.2.2.1) + q17.2.2.1) := by omega
            refine lv_aload_n hx hb dX3_choice_28 rfl (lv_at hl 2 rfl) ?_
            obtain ⟨g23, hf⟩ := ob_gp hf
            obtain ⟨q21, g22, hf⟩ := ob_bind hf
            rcases ob_tk hf with ⟨xq21, yq21, hf⟩ | ⟨v24, yq21, hf⟩
            · subst hQ
              exact xtx_a hno hlocks (xt_run (As := []) (rest := []) hJ hR hJs hS ⟨hx, hb, hml, hown, hts⟩ (show vy_Met _ yX3_sum _ _ _ _ _ _ _ _ from hrc 0 q17.2.1 (((((n0 + q1.2.2.1) + q5.2.2.1) + q9.2.2.1) + q13.2.2.1) + q17.2.2.1) a0 _ g22) (cwV 0 hts (lw_V q563 q565 qs6 q141 q566) rfl rfl rfl cdX3_sum ⟨by show F + 30 + 1 ≤ F + 31; omega, by show 8 + (_ + 11) + (L + 900) ≤ L + 940; omega⟩) hK hH (of_decide_eq_true g23) (q := (RX3, TX3, 8)) rfl rfl hl.1 rfl rfl (Nat.le_of_ble_eq_true rfl) dX3_choice_29 (xg_thr hq hf)) hH hR (by omega) hn hS yq21 rfl rfl (hq.thr hf)
            · obtain ⟨r, hf, hq, hc9, hs9⟩ := hq.add hf
              refine xtc_a (xt_run (As := []) (rest := []) hJ hR hJs hS ⟨hx, hb, hml, hown, hts⟩ (show vy_Met _ yX3_sum _ _ _ _ _ _ _ _ from hrc 0 q17.2.1 (((((n0 + q1.2.2.1) + q5.2.2.1) + q9.2.2.1) + q13.2.2.1) + q17.2.2.1) a0 _ g22) (cwV 0 hts (lw_V q563 q565 qs6 q141 q566) rfl rfl rfl cdX3_sum ⟨by show F + 30 + 1 ≤ F + 31; omega, by show 8 + (_ + 11) + (L + 900) ≤ L + 940; omega⟩) hK hH (of_decide_eq_true g23) (q := (RX3, TX3, 8)) rfl rfl hl.1 rfl rfl (Nat.le_of_ble_eq_true rfl) dX3_choice_29 ⟨hc9, hs9⟩) hH hR (by omega) hS yq21 (fun H locs hH hS => ?_)
              replace hn : ((((((n0 + q1.2.2.1) + q5.2.2.1) + q9.2.2.1) + q13.2.2.1) + q17.2.2.1) + q21.2.2.1) = n0 + ((((((0 + q1.2.2.1) + q5.2.2.1) + q9.2.2.1) + q13.2.2.1) + q17.2.2.1) + q21.2.2.1) := by omega
              refine lv_astore_n (lv' := [(3, .ref v24), (2, .ref v16), (1, .ref v8), (0, .ref a0)]) hx hb dX3_choice_32 rfl hl (by decide) rfl (fun ls hl => ?_)
              refine lv_aload_n hx hb dX3_choice_33 rfl (lv_at hl 3 rfl) ?_
              refine lv_sipush (v := 214) hx hb dX3_choice_34 (by decide) ?_
              obtain ⟨g27, hf⟩ := ob_gp hf
              obtain ⟨q25, g26, hf⟩ := ob_bind hf
              rcases ob_tk hf with ⟨xq25, yq25, hf⟩ | ⟨v28, yq25, hf⟩
              · subst hQ
                exact xtx_v hno hlocks (xt_run (As := [.int 214]) (rest := []) hJ hR hJs hS ⟨hx, hb, hml, hown, hts⟩ (wkX3_want l hl9 D dA ro G J hJ q21.2.1 ((((((n0 + q1.2.2.1) + q5.2.2.1) + q9.2.2.1) + q13.2.2.1) + q17.2.2.1) + q21.2.2.1) a0 214 g26) (cwV 1 hts (lw_V q734 q736 qs18 q141 q737) rfl rfl rfl cdX3_want ⟨by show 8 ≤ F + 31; omega, by show 171 ≤ L + 940; omega⟩) hK hH (of_decide_eq_true g27) (q := (RX3, TX3, 8)) rfl rfl hl.1 rfl rfl (Nat.le_of_ble_eq_true rfl) dX3_choice_37 (xg_thr hq hf)) hH hR (by omega) hn hS yq25 rfl rfl (hq.thr hf)
              · obtain ⟨r, hf, hq, hc9, hs9⟩ := hq.add hf
                refine xtc_v (xt_run (As := [.int 214]) (rest := []) hJ hR hJs hS ⟨hx, hb, hml, hown, hts⟩ (wkX3_want l hl9 D dA ro G J hJ q21.2.1 ((((((n0 + q1.2.2.1) + q5.2.2.1) + q9.2.2.1) + q13.2.2.1) + q17.2.2.1) + q21.2.2.1) a0 214 g26) (cwV 1 hts (lw_V q734 q736 qs18 q141 q737) rfl rfl rfl cdX3_want ⟨by show 8 ≤ F + 31; omega, by show 171 ≤ L + 940; omega⟩) hK hH (of_decide_eq_true g27) (q := (RX3, TX3, 8)) rfl rfl hl.1 rfl rfl (Nat.le_of_ble_eq_true rfl) dX3_choice_37 ⟨hc9, hs9⟩) hH hR (by omega) hS yq25 (fun H locs hH hS => ?_)
                replace hn : (((((((n0 + q1.2.2.1) + q5.2.2.1) + q9.2.2.1) + q13.2.2.1) + q17.2.2.1) + q21.2.2.1) + q25.2.2.1) = n0 + (((((((0 + q1.2.2.1) + q5.2.2.1) + q9.2.2.1) + q13.2.2.1) + q17.2.2.1) + q21.2.2.1) + q25.2.2.1) := by omega
                refine lv_aload_n hx hb dX3_choice_40 rfl (lv_at hl 3 rfl) ?_
                refine lv_dup hx hb dX3_choice_41 rfl ?_
                obtain ⟨x30, g29, hf⟩ := ob_bind hf
                refine xh_geti hx hb hts in_X3 hown hK hH.1 (ci := 15) rfl 6 (by decide) (hts _ q355) (fun _ h => h) g29 dX3_choice_42 ?_
                refine lv_iconst (v := 1) hx hb dX3_choice_45 (by decide) ?_
                refine lv_isub hx hb dX3_choice_46 ?_
                obtain ⟨h32, g31, hf⟩ := ob_bind hf
                refine xd_put hx hb hts in_X3 tyX3 tyX3_ok nmX3 hown hK hH hS (ci := 15) rfl 6 (by decide) (hts _ q355) (fun _ h => h) rfl (v := .int (x30 - 1)) rfl rfl g31 dX3_choice_47 (fun H locs hH hS => ?_)
                obtain ⟨r, hf, hq, hc9, hs9⟩ := hq.add hf
                obtain ⟨h33, eh33, hf⟩ := ob_bnd hf
                refine xd_new hx hb (N := 3) hts in_X11 tyX11 tyX11_ok hown (hts _ q738) (hts _ q739) (hts _ q162) hK hH hS hA9 (ci := 14) rfl (fs := [.null, .null, .null]) df_X11 hc9 hs9 dX3_choice_50 (fun H hH hS => ?_)
                rw [← eh33] at hH
                replace hn : ((((((((n0 + q1.2.2.1) + q5.2.2.1) + q9.2.2.1) + q13.2.2.1) + q17.2.2.1) + q21.2.2.1) + q25.2.2.1) + 1) = n0 + ((((((((0 + q1.2.2.1) + q5.2.2.1) + q9.2.2.1) + q13.2.2.1) + q17.2.2.1) + q21.2.2.1) + q25.2.2.1) + 1) := by omega
                refine lv_dup hx hb dX3_choice_53 rfl ?_
                refine lv_aload_n hx hb dX3_choice_54 rfl (lv_at hl 2 rfl) ?_
                refine lv_aload_n hx hb dX3_choice_55 rfl (lv_at hl 1 rfl) ?_
                refine lv_aload_n hx hb dX3_choice_56 rfl (lv_at hl 0 rfl) ?_
                obtain ⟨q34, g35, hf⟩ := ob_bind hf
                obtain ⟨r, hf, hq, hc9, hs9⟩ := hq.add hf
                refine xdc_v (xd_runIN (As := [.ref v8, .ref v16, .ref v24]) (rest := [.ref (((((((n0 + q1.2.2.1) + q5.2.2.1) + q9.2.2.1) + q13.2.2.1) + q17.2.2.1) + q21.2.2.1) + q25.2.2.1)]) hJ hR hJs hS ⟨hx, hb, hml, hown, hts⟩ (wkX11_init l hl9 D dA ro G J hJ h33 ((((((((n0 + q1.2.2.1) + q5.2.2.1) + q9.2.2.1) + q13.2.2.1) + q17.2.2.1) + q21.2.2.1) + q25.2.2.1) + 1) (((((((n0 + q1.2.2.1) + q5.2.2.1) + q9.2.2.1) + q13.2.2.1) + q17.2.2.1) + q21.2.2.1) + q25.2.2.1) v8 v16 v24 g35) ⟨va_cnB (host := "QuarrelsPawned") 3 hts (lw_meth q742) rfl rfl rfl (hJ.nest hJs 5 rfl) (hts _ q162) cdX11_init.2 ⟨by show 3 ≤ F + 31; omega, by show 103 ≤ L + 940; omega⟩, rfl, hts _ q741⟩ hK hH hl.1 rfl rfl (Nat.le_of_ble_eq_true rfl) dX3_choice_57 ⟨hc9, hs9⟩) hH hR (by omega) hS (fun H locs hH hS => ?_)
                replace hn : (((((((((n0 + q1.2.2.1) + q5.2.2.1) + q9.2.2.1) + q13.2.2.1) + q17.2.2.1) + q21.2.2.1) + q25.2.2.1) + 1) + q34.2.2.1) = n0 + (((((((((0 + q1.2.2.1) + q5.2.2.1) + q9.2.2.1) + q13.2.2.1) + q17.2.2.1) + q21.2.2.1) + q25.2.2.1) + 1) + q34.2.2.1) := by omega
                subst hQ
                exact xe_ta (Or.inl ⟨_, rfl⟩) hx hb hr hlocks hH hn hS (hq.end (Option.some.inj hf)) dX3_choice_60
set_option maxHeartbeats 4000000 in
set_option maxRecDepth 100000 in
theorem wkX3_either (l : Launch) (hl9 : l.stackTraces = false) (D : va_G) (dA : Nat → ClassId) (ro : Nat → Bool) (G : Gs) (J : State → Heap → Prop) (hJ : JD ro G J) {F L : Nat} {rc : Nat → Hv → Nat → Nat → Option ((Nat ⊕ Nat) × Hv × Nat × Nat)} (hrc : ∀ k h n a res, rc k h n a = some res → KC l D dA ro J F L k h n a res) (h0 : Hv) (n0 : Nat) (a0 : Nat) {res : (Nat ⊕ Nat) × Hv × Nat × Nat} (hf : P_X3_either G ro rc h0 n0 a0 = some res) : vy_Met l yX3_either (ws_ yX3_either cX3_either 2 (some (Jvm.ClassFile.FieldType.object "QuarrelsPawned$Asked"))) (rmD (F + 31) (L + 940) res.2.2.1 res.2.2.2) (Pd D dA ro J [.ref a0] h0 n0) (Qta D dA ro h0 n0 res) (Xt D dA ro h0 n0 res) res.2.2.1 res.2.2.2 (fD ro h0 n0) := by
  refine xt_head (own := RX3) (by decide) rfl (Nat.le_of_ble_eq_true rfl) ?_
  intro p e s m args below meth c ls Q hQ hname hno C hn0 hH hl
  obtain ⟨hx, hb, hr, hlocks, hml, hown, hts, hK, hJs⟩ := C
  replace hl : lv_has ls 2 [(0, .ref a0)] := hl
  have hS : va_S (fD ro h0 n0) s.heap s.heap [] := va_S.rf
  have hR : rD ro (fD ro h0 n0) n0 := fD_rD hH
  have hA9 : ∀ q, s.heap.size ≤ q → fD ro h0 n0 q := fun q hq => hR.2 q (hn0 ▸ hq)
  unfold P_X3_either at hf
  obtain ⟨r, er⟩ : ∃ r, r = res := ⟨_, rfl⟩
  have hq : qI r res 0 0 := by rw [er]; exact ⟨rfl, rfl, Nat.zero_add _, Nat.zero_add _⟩
  rw [← er] at hf
  have hn : n0 = n0 + 0 := rfl
  obtain ⟨H, eH⟩ : ∃ H, H = s.heap := ⟨_, rfl⟩
  obtain ⟨locs, eL⟩ : ∃ locs : List Loc, locs = [] := ⟨_, rfl⟩
  rw [← eL] at hS ⊢
  rw [← eH] at hH
  have hS : va_S (fD ro h0 n0) s.heap H locs := by rw [eH]; exact hS
  show W p l e (rmD (F + 31) (L + 940) res.2.2.1 res.2.2.2) s m args below meth c s.heap locs 0 0 Q (F0 m 0 ls [])
  rw [← eH]
  clear er
  obtain ⟨r, hf, hq, hc9, hs9⟩ := hq.add hf
  obtain ⟨h1, eh1, hf⟩ := ob_bnd hf
  refine xd_new hx hb (N := 3) hts in_J3 tyJ3 tyJ3_ok hown (hts _ q606) (hts _ q387) (hts _ q145) hK hH hS hA9 (ci := 4) rfl (fs := [.int 0, .null, .int 0]) df_J3 hc9 hs9 dX3_either_0 (fun H hH hS => ?_)
  rw [← eh1] at hH
  replace hn : (n0 + 1) = n0 + (0 + 1) := by omega
  refine lv_dup hx hb dX3_either_3 rfl ?_
  obtain ⟨q2, g3, hf⟩ := ob_bind hf
  obtain ⟨r, hf, hq, hc9, hs9⟩ := hq.add hf
  refine xdc_v (xd_runI (As := []) (rest := [.ref n0]) hJ hR hJs hS ⟨hx, hb, hml, hown, hts⟩ (wkJ3_init l hl9 D dA ro G J hJ h1 (n0 + 1) n0 g3) ⟨callB_of 0 hts (lw_meth q390) rfl rfl rfl (hts _ q145) (hts _ q607) cdJ3_init.2 ⟨by show 4 ≤ F + 31; omega, by show 120 ≤ L + 940; omega⟩, rfl, hts _ q389⟩ hK hH hl.1 rfl rfl (Nat.le_of_ble_eq_true rfl) dX3_either_4 ⟨hc9, hs9⟩) hH hR (by omega) hS (fun H locs hH hS => ?_)
  replace hn : ((n0 + 1) + q2.2.2.1) = n0 + ((0 + 1) + q2.2.2.1) := by omega
  refine lv_astore_n (lv' := [(1, .ref n0), (0, .ref a0)]) hx hb dX3_either_7 rfl hl (by decide) rfl (fun ls hl => ?_)
  refine lv_aload_n hx hb dX3_either_8 rfl (lv_at hl 0 rfl) ?_
  refine lv_aload_n hx hb dX3_either_9 rfl (lv_at hl 1 rfl) ?_
  obtain ⟨g6, hf⟩ := ob_gp hf
  obtain ⟨q4, g5, hf⟩ := ob_bind hf
  rcases ob_tk hf with ⟨xq4, yq4, hf⟩ | ⟨v7, yq4, hf⟩
  · subst hQ
    exact xtx_a hno hlocks (xt_run (As := []) (rest := [.ref n0]) hJ hR hJs hS ⟨hx, hb, hml, hown, hts⟩ (show vy_Met _ yX3_both _ _ _ _ _ _ _ _ from hrc 6 q2.2.1 ((n0 + 1) + q2.2.2.1) a0 _ g5) (cwV 0 hts (lw_V q608 q610 qs13 q141 q611) rfl rfl rfl cdX3_both ⟨by show F + 30 + 1 ≤ F + 31; omega, by show 8 + (_ + 11) + (L + 900) ≤ L + 940; omega⟩) hK hH (of_decide_eq_true g6) (q := (RX3, TX3, 8)) rfl rfl hl.1 rfl rfl (Nat.le_of_ble_eq_true rfl) dX3_either_10 (xg_thr hq hf)) hH hR (by omega) hn hS yq4 rfl rfl (hq.thr hf)
  · obtain ⟨r, hf, hq, hc9, hs9⟩ := hq.add hf
    refine xtc_a (xt_run (As := []) (rest := [.ref n0]) hJ hR hJs hS ⟨hx, hb, hml, hown, hts⟩ (show vy_Met _ yX3_both _ _ _ _ _ _ _ _ from hrc 6 q2.2.1 ((n0 + 1) + q2.2.2.1) a0 _ g5) (cwV 0 hts (lw_V q608 q610 qs13 q141 q611) rfl rfl rfl cdX3_both ⟨by show F + 30 + 1 ≤ F + 31; omega, by show 8 + (_ + 11) + (L + 900) ≤ L + 940; omega⟩) hK hH (of_decide_eq_true g6) (q := (RX3, TX3, 8)) rfl rfl hl.1 rfl rfl (Nat.le_of_ble_eq_true rfl) dX3_either_10 ⟨hc9, hs9⟩) hH hR (by omega) hS yq4 (fun H locs hH hS => ?_)
    replace hn : (((n0 + 1) + q2.2.2.1) + q4.2.2.1) = n0 + (((0 + 1) + q2.2.2.1) + q4.2.2.1) := by omega
    obtain ⟨g10, hf⟩ := ob_gp hf
    obtain ⟨q8, g9, hf⟩ := ob_bind hf
    obtain ⟨r, hf, hq, hc9, hs9⟩ := hq.add hf
    refine xdc_z (xd_run (As := [.ref v7]) (rest := []) hJ hR hJs hS ⟨hx, hb, hml, hown, hts⟩ (wkJ3_add l hl9 D dA ro G J hJ q4.2.1 (((n0 + 1) + q2.2.2.1) + q4.2.2.1) n0 v7 g9) (cwV 1 hts (lw_V q642 q643 q644 q145 q645) rfl rfl rfl cdJ3_add ⟨by show 7 ≤ F + 31; omega, by show 191 ≤ L + 940; omega⟩) hK hH (of_decide_eq_true g10) (q := (RJ3, TJ3, 3)) rfl rfl hl.1 rfl rfl (Nat.le_of_ble_eq_true rfl) dX3_either_13 ⟨hc9, hs9⟩) hH hR (by omega) hS (fun H locs zq8 hH hS => ?_)
    replace hn : ((((n0 + 1) + q2.2.2.1) + q4.2.2.1) + q8.2.2.1) = n0 + ((((0 + 1) + q2.2.2.1) + q4.2.2.1) + q8.2.2.1) := by omega
    refine lv_pop hx hb dX3_either_16 rfl ?_
    have kl17 : ∀ (f : Nat) (h11 : Hv) (n12 : Nat) (kc12 ks12 : Nat) (r : (Nat ⊕ Nat) × Hv × Nat × Nat) (H : Heap) (locs : List Loc) (ls : Array Slot), P_X3_either_l17 a0 G ro rc n0 f h11 n12 = some r → qI r res kc12 ks12 → n12 = n0 + kc12 → DS D dA ro h11 n12 (fD ro h0 n0) H → va_S (fD ro h0 n0) s.heap H locs → lv_has ls 2 [(0, .ref a0), (1, .ref n0)] → W p l e (rmD (F + 31) (L + 940) res.2.2.1 res.2.2.2) s m args below meth c H locs kc12 ks12 Q (F0 m 17 ls []) := by
      intro f
      induction f with
      | zero =>
        intro h11 n12 kc12 ks12 r H locs ls hf
        cases hf
      | succ f ihl17 =>
        intro h11 n12 kc12 ks12 r H locs ls hf hq hn hH hS hl
        obtain ⟨rl17, erl17⟩ : ∃ x, x = P_X3_either_l17 a0 G ro rc n0 f := ⟨_, rfl⟩
        replace hf : P_X3_either_b17 a0 G ro rc n0 (P_X3_either_l17 a0 G ro rc n0 f) h11 n12 = some r := hf
        rw [← erl17] at hf ihl17
        unfold P_X3_either_b17 at hf
        refine lv_aload_n hx hb dX3_either_17 rfl (lv_at hl 0 rfl) ?_
        obtain ⟨x14, g13, hf⟩ := ob_bind hf
        refine xh_geti hx hb hts in_X3 hown hK hH.1 (ci := 15) rfl 4 (by decide) (hts _ q353) (fun _ h => h) g13 dX3_either_18 ?_
        refine lv_sipush (v := 215) hx hb dX3_either_21 (by decide) ?_
        refine lv_icmp_ne (tgt := 43) hx hb dX3_either_24 (by decide) (fun c15 => ?_) (fun c15 => ?_)
        · replace hf := ob_f hf c15
          refine lv_aload_n hx hb dX3_either_43 rfl (lv_at hl 1 rfl) ?_
          obtain ⟨g18, hf⟩ := ob_gp hf
          obtain ⟨q16, g17, hf⟩ := ob_bind hf
          refine xdr_i (xd_runR (As := []) (rest := []) hJ hR hJs hS ⟨hx, hb, hml, hown, hts⟩ (wkJ3_size l D dA J hJ.jr h11 n0 g17) (cwV 0 hts (lw_V q704 q705 q706 q145 q707) rfl rfl rfl cdJ3_size ⟨by show 1 ≤ F + 31; omega, by show 20 ≤ L + 940; omega⟩) hK hH (of_decide_eq_true g18) (q := (RJ3, TJ3, 3)) rfl rfl hl.1 rfl rfl (Nat.le_of_ble_eq_true rfl) dX3_either_44 ⟨(xg_le0 hq).1, (xg_le0 hq).2⟩) hH (by rw [hn0]; exact hn) hS (fun H locs hH hS => ?_)
          refine lv_iconst (v := 1) hx hb dX3_either_47 (by decide) ?_
          refine lv_icmp_ne (tgt := 62) hx hb dX3_either_48 (by decide) (fun c19 => ?_) (fun c19 => ?_)
          · replace hf := ob_f hf c19
            obtain ⟨r, hf, hq, hc9, hs9⟩ := hq.add hf
            obtain ⟨h20, eh20, hf⟩ := ob_bnd hf
            refine xd_new hx hb (N := 2) hts in_X10 tyX10 tyX10_ok hown (hts _ q721) (hts _ q722) (hts _ q161) hK hH hS hA9 (ci := 11) rfl (fs := [.int 0, .null]) df_X10 hc9 hs9 dX3_either_62 (fun H hH hS => ?_)
            rw [← eh20] at hH
            replace hn : (n12 + 1) = n0 + (kc12 + 1) := by omega
            refine lv_dup hx hb dX3_either_65 rfl ?_
            refine lv_iconst (v := 0) hx hb dX3_either_66 (by decide) ?_
            refine lv_aload_n hx hb dX3_either_67 rfl (lv_at hl 1 rfl) ?_
            obtain ⟨q21, g22, hf⟩ := ob_bind hf
            obtain ⟨r, hf, hq, hc9, hs9⟩ := hq.add hf
            refine xdc_v (xd_runIN (As := [.int 0, .ref n0]) (rest := [.ref n12]) hJ hR hJs hS ⟨hx, hb, hml, hown, hts⟩ (wkX10_init l hl9 D dA ro G J hJ h20 (n12 + 1) n12 0 n0 g22) ⟨va_cnB (host := "QuarrelsPawned") 2 hts (lw_meth q725) rfl rfl rfl (hJ.nest hJs 4 rfl) (hts _ q161) cdX10_init.2 ⟨by show 3 ≤ F + 31; omega, by show 102 ≤ L + 940; omega⟩, rfl, hts _ q724⟩ hK hH hl.1 rfl rfl (Nat.le_of_ble_eq_true rfl) dX3_either_68 ⟨hc9, hs9⟩) hH hR (by omega) hS (fun H locs hH hS => ?_)
            replace hn : ((n12 + 1) + q21.2.2.1) = n0 + ((kc12 + 1) + q21.2.2.1) := by omega
            subst hQ
            exact xe_ta (Or.inl ⟨_, rfl⟩) hx hb hr hlocks hH hn hS (hq.end (Option.some.inj hf)) dX3_either_71
          · replace hf := ob_t hf c19
            refine lv_aload_n hx hb dX3_either_51 rfl (lv_at hl 1 rfl) ?_
            refine lv_iconst (v := 0) hx hb dX3_either_52 (by decide) ?_
            obtain ⟨g25, hf⟩ := ob_gp hf
            obtain ⟨q23, g24, hf⟩ := ob_bind hf
            refine xdr_a (xd_runR (As := [.int 0]) (rest := []) hJ hR hJs hS ⟨hx, hb, hml, hown, hts⟩ (wkJ3_get l D dA J hJ.jr h11 n0 0 g24) (cwV 1 hts (lw_V q708 q709 q710 q145 q711) rfl rfl rfl cdJ3_get ⟨by show 3 ≤ F + 31; omega, by show 64 ≤ L + 940; omega⟩) hK hH (of_decide_eq_true g25) (q := (RJ3, TJ3, 3)) rfl rfl hl.1 rfl rfl (Nat.le_of_ble_eq_true rfl) dX3_either_53 ⟨(xg_le0 hq).1, (xg_le0 hq).2⟩) hH (by rw [hn0]; exact hn) hS (fun H locs hH hS => ?_)
            obtain ⟨g26, hf⟩ := ob_gp hf
            refine xh_castAsk hx hb hown (hts _ q720) (hJ.f hJs).1 hK hH.1 g26 dX3_either_56 ?_
            refine lv_goto (tgt := 71) hx hb dX3_either_59 (by decide) ?_
            subst hQ
            exact xe_ta (Or.inl ⟨_, rfl⟩) hx hb hr hlocks hH hn hS (hq.end (Option.some.inj hf)) dX3_either_71
        · replace hf := ob_t hf c15
          refine lv_aload_n hx hb dX3_either_27 rfl (lv_at hl 0 rfl) ?_
          obtain ⟨g29, hf⟩ := ob_gp hf
          obtain ⟨q27, g28, hf⟩ := ob_bind hf
          obtain ⟨r, hf, hq, hc9, hs9⟩ := hq.add hf
          refine xdc_v (xd_run (As := []) (rest := []) hJ hR hJs hS ⟨hx, hb, hml, hown, hts⟩ (wkX3_next l hl9 D dA ro G J hJ h11 n12 a0 g28) (cwV 0 hts (lw_V q426 q428 qs2 q141 q429) rfl rfl rfl cdX3_next ⟨by show 7 ≤ F + 31; omega, by show 150 ≤ L + 940; omega⟩) hK hH (of_decide_eq_true g29) (q := (RX3, TX3, 8)) rfl rfl hl.1 rfl rfl (Nat.le_of_ble_eq_true rfl) dX3_either_28 ⟨hc9, hs9⟩) hH hR (by omega) hS (fun H locs hH hS => ?_)
          replace hn : (n12 + q27.2.2.1) = n0 + (kc12 + q27.2.2.1) := by omega
          refine lv_aload_n hx hb dX3_either_31 rfl (lv_at hl 1 rfl) ?_
          refine lv_aload_n hx hb dX3_either_32 rfl (lv_at hl 0 rfl) ?_
          obtain ⟨g32, hf⟩ := ob_gp hf
          obtain ⟨q30, g31, hf⟩ := ob_bind hf
          rcases ob_tk hf with ⟨xq30, yq30, hf⟩ | ⟨v33, yq30, hf⟩
          · subst hQ
            exact xtx_a hno hlocks (xt_run (As := []) (rest := [.ref n0]) hJ hR hJs hS ⟨hx, hb, hml, hown, hts⟩ (show vy_Met _ yX3_both _ _ _ _ _ _ _ _ from hrc 6 q27.2.1 (n12 + q27.2.2.1) a0 _ g31) (cwV 0 hts (lw_V q608 q610 qs13 q141 q611) rfl rfl rfl cdX3_both ⟨by show F + 30 + 1 ≤ F + 31; omega, by show 8 + (_ + 11) + (L + 900) ≤ L + 940; omega⟩) hK hH (of_decide_eq_true g32) (q := (RX3, TX3, 8)) rfl rfl hl.1 rfl rfl (Nat.le_of_ble_eq_true rfl) dX3_either_33 (xg_thr hq hf)) hH hR (by omega) hn hS yq30 rfl rfl (hq.thr hf)
          · obtain ⟨r, hf, hq, hc9, hs9⟩ := hq.add hf
            refine xtc_a (xt_run (As := []) (rest := [.ref n0]) hJ hR hJs hS ⟨hx, hb, hml, hown, hts⟩ (show vy_Met _ yX3_both _ _ _ _ _ _ _ _ from hrc 6 q27.2.1 (n12 + q27.2.2.1) a0 _ g31) (cwV 0 hts (lw_V q608 q610 qs13 q141 q611) rfl rfl rfl cdX3_both ⟨by show F + 30 + 1 ≤ F + 31; omega, by show 8 + (_ + 11) + (L + 900) ≤ L + 940; omega⟩) hK hH (of_decide_eq_true g32) (q := (RX3, TX3, 8)) rfl rfl hl.1 rfl rfl (Nat.le_of_ble_eq_true rfl) dX3_either_33 ⟨hc9, hs9⟩) hH hR (by omega) hS yq30 (fun H locs hH hS => ?_)
            replace hn : ((n12 + q27.2.2.1) + q30.2.2.1) = n0 + ((kc12 + q27.2.2.1) + q30.2.2.1) := by omega
            obtain ⟨g36, hf⟩ := ob_gp hf
            obtain ⟨q34, g35, hf⟩ := ob_bind hf
            obtain ⟨r, hf, hq, hc9, hs9⟩ := hq.add hf
            refine xdc_z (xd_run (As := [.ref v33]) (rest := []) hJ hR hJs hS ⟨hx, hb, hml, hown, hts⟩ (wkJ3_add l hl9 D dA ro G J hJ q30.2.1 ((n12 + q27.2.2.1) + q30.2.2.1) n0 v33 g35) (cwV 1 hts (lw_V q642 q643 q644 q145 q645) rfl rfl rfl cdJ3_add ⟨by show 7 ≤ F + 31; omega, by show 191 ≤ L + 940; omega⟩) hK hH (of_decide_eq_true g36) (q := (RJ3, TJ3, 3)) rfl rfl hl.1 rfl rfl (Nat.le_of_ble_eq_true rfl) dX3_either_36 ⟨hc9, hs9⟩) hH hR (by omega) hS (fun H locs zq34 hH hS => ?_)
            replace hn : (((n12 + q27.2.2.1) + q30.2.2.1) + q34.2.2.1) = n0 + (((kc12 + q27.2.2.1) + q30.2.2.1) + q34.2.2.1) := by omega
            refine lv_pop hx hb dX3_either_39 rfl ?_
            refine lv_goto (tgt := 17) hx hb dX3_either_40 (by decide) ?_
            exact ihl17 q34.2.1 (((n12 + q27.2.2.1) + q30.2.2.1) + q34.2.2.1) _ _ r H locs ls hf hq hn hH hS (lv_sub hl [0, 1] rfl)
    exact kl17 400 q8.2.1 ((((n0 + 1) + q2.2.2.1) + q4.2.2.1) + q8.2.2.1) _ _ r H locs ls hf hq hn hH hS (lv_sub hl [1, 0] rfl)
set_option maxHeartbeats 4000000 in
set_option maxRecDepth 100000 in
theorem wkX3_both (l : Launch) (hl9 : l.stackTraces = false) (D : va_G) (dA : Nat → ClassId) (ro : Nat → Bool) (G : Gs) (J : State → Heap → Prop) (hJ : JD ro G J) {F L : Nat} {rc : Nat → Hv → Nat → Nat → Option ((Nat ⊕ Nat) × Hv × Nat × Nat)} (hrc : ∀ k h n a res, rc k h n a = some res → KC l D dA ro J F L k h n a res) (h0 : Hv) (n0 : Nat) (a0 : Nat) {res : (Nat ⊕ Nat) × Hv × Nat × Nat} (hf : P_X3_both G ro rc h0 n0 a0 = some res) : vy_Met l yX3_both (ws_ yX3_both cX3_both 2 (some (Jvm.ClassFile.FieldType.object "QuarrelsPawned$Asked"))) (rmD (F + 31) (L + 940) res.2.2.1 res.2.2.2) (Pd D dA ro J [.ref a0] h0 n0) (Qta D dA ro h0 n0 res) (Xt D dA ro h0 n0 res) res.2.2.1 res.2.2.2 (fD ro h0 n0) := by
  refine xt_head (own := RX3) (by decide) rfl (Nat.le_of_ble_eq_true rfl) ?_
  intro p e s m args below meth c ls Q hQ hname hno C hn0 hH hl
  obtain ⟨hx, hb, hr, hlocks, hml, hown, hts, hK, hJs⟩ := C
  replace hl : lv_has ls 2 [(0, .ref a0)] := hl
  have hS : va_S (fD ro h0 n0) s.heap s.heap [] := va_S.rf
  have hR : rD ro (fD ro h0 n0) n0 := fD_rD hH
  have hA9 : ∀ q, s.heap.size ≤ q → fD ro h0 n0 q := fun q hq => hR.2 q (hn0 ▸ hq)
  unfold P_X3_both at hf
  obtain ⟨r, er⟩ : ∃ r, r = res := ⟨_, rfl⟩
  have hq : qI r res 0 0 := by rw [er]; exact ⟨rfl, rfl, Nat.zero_add _, Nat.zero_add _⟩
  rw [← er] at hf
  have hn : n0 = n0 + 0 := rfl
  obtain ⟨H, eH⟩ : ∃ H, H = s.heap := ⟨_, rfl⟩
  obtain ⟨locs, eL⟩ : ∃ locs : List Loc, locs = [] := ⟨_, rfl⟩
  rw [← eL] at hS ⊢
  rw [← eH] at hH
  have hS : va_S (fD ro h0 n0) s.heap H locs := by rw [eH]; exact hS
  show W p l e (rmD (F + 31) (L + 940) res.2.2.1 res.2.2.2) s m args below meth c s.heap locs 0 0 Q (F0 m 0 ls [])
  rw [← eH]
  clear er
  obtain ⟨r, hf, hq, hc9, hs9⟩ := hq.add hf
  obtain ⟨h1, eh1, hf⟩ := ob_bnd hf
  refine xd_new hx hb (N := 3) hts in_J3 tyJ3 tyJ3_ok hown (hts _ q606) (hts _ q387) (hts _ q145) hK hH hS hA9 (ci := 4) rfl (fs := [.int 0, .null, .int 0]) df_J3 hc9 hs9 dX3_both_0 (fun H hH hS => ?_)
  rw [← eh1] at hH
  replace hn : (n0 + 1) = n0 + (0 + 1) := by omega
  refine lv_dup hx hb dX3_both_3 rfl ?_
  obtain ⟨q2, g3, hf⟩ := ob_bind hf
  obtain ⟨r, hf, hq, hc9, hs9⟩ := hq.add hf
  refine xdc_v (xd_runI (As := []) (rest := [.ref n0]) hJ hR hJs hS ⟨hx, hb, hml, hown, hts⟩ (wkJ3_init l hl9 D dA ro G J hJ h1 (n0 + 1) n0 g3) ⟨callB_of 0 hts (lw_meth q390) rfl rfl rfl (hts _ q145) (hts _ q607) cdJ3_init.2 ⟨by show 4 ≤ F + 31; omega, by show 120 ≤ L + 940; omega⟩, rfl, hts _ q389⟩ hK hH hl.1 rfl rfl (Nat.le_of_ble_eq_true rfl) dX3_both_4 ⟨hc9, hs9⟩) hH hR (by omega) hS (fun H locs hH hS => ?_)
  replace hn : ((n0 + 1) + q2.2.2.1) = n0 + ((0 + 1) + q2.2.2.1) := by omega
  refine lv_astore_n (lv' := [(1, .ref n0), (0, .ref a0)]) hx hb dX3_both_7 rfl hl (by decide) rfl (fun ls hl => ?_)
  refine lv_aload_n hx hb dX3_both_8 rfl (lv_at hl 0 rfl) ?_
  refine lv_aload_n hx hb dX3_both_9 rfl (lv_at hl 1 rfl) ?_
  obtain ⟨g6, hf⟩ := ob_gp hf
  obtain ⟨q4, g5, hf⟩ := ob_bind hf
  rcases ob_tk hf with ⟨xq4, yq4, hf⟩ | ⟨v7, yq4, hf⟩
  · subst hQ
    exact xtx_a hno hlocks (xt_run (As := []) (rest := [.ref n0]) hJ hR hJs hS ⟨hx, hb, hml, hown, hts⟩ (show vy_Met _ yX3_ask _ _ _ _ _ _ _ _ from hrc 7 q2.2.1 ((n0 + 1) + q2.2.2.1) a0 _ g5) (cwV 0 hts (lw_V q612 q614 qs14 q141 q615) rfl rfl rfl cdX3_ask ⟨by show F + 30 + 1 ≤ F + 31; omega, by show 8 + (_ + 11) + (L + 900) ≤ L + 940; omega⟩) hK hH (of_decide_eq_true g6) (q := (RX3, TX3, 8)) rfl rfl hl.1 rfl rfl (Nat.le_of_ble_eq_true rfl) dX3_both_10 (xg_thr hq hf)) hH hR (by omega) hn hS yq4 rfl rfl (hq.thr hf)
  · obtain ⟨r, hf, hq, hc9, hs9⟩ := hq.add hf
    refine xtc_a (xt_run (As := []) (rest := [.ref n0]) hJ hR hJs hS ⟨hx, hb, hml, hown, hts⟩ (show vy_Met _ yX3_ask _ _ _ _ _ _ _ _ from hrc 7 q2.2.1 ((n0 + 1) + q2.2.2.1) a0 _ g5) (cwV 0 hts (lw_V q612 q614 qs14 q141 q615) rfl rfl rfl cdX3_ask ⟨by show F + 30 + 1 ≤ F + 31; omega, by show 8 + (_ + 11) + (L + 900) ≤ L + 940; omega⟩) hK hH (of_decide_eq_true g6) (q := (RX3, TX3, 8)) rfl rfl hl.1 rfl rfl (Nat.le_of_ble_eq_true rfl) dX3_both_10 ⟨hc9, hs9⟩) hH hR (by omega) hS yq4 (fun H locs hH hS => ?_)
    replace hn : (((n0 + 1) + q2.2.2.1) + q4.2.2.1) = n0 + (((0 + 1) + q2.2.2.1) + q4.2.2.1) := by omega
    obtain ⟨g10, hf⟩ := ob_gp hf
    obtain ⟨q8, g9, hf⟩ := ob_bind hf
    obtain ⟨r, hf, hq, hc9, hs9⟩ := hq.add hf
    refine xdc_z (xd_run (As := [.ref v7]) (rest := []) hJ hR hJs hS ⟨hx, hb, hml, hown, hts⟩ (wkJ3_add l hl9 D dA ro G J hJ q4.2.1 (((n0 + 1) + q2.2.2.1) + q4.2.2.1) n0 v7 g9) (cwV 1 hts (lw_V q642 q643 q644 q145 q645) rfl rfl rfl cdJ3_add ⟨by show 7 ≤ F + 31; omega, by show 191 ≤ L + 940; omega⟩) hK hH (of_decide_eq_true g10) (q := (RJ3, TJ3, 3)) rfl rfl hl.1 rfl rfl (Nat.le_of_ble_eq_true rfl) dX3_both_13 ⟨hc9, hs9⟩) hH hR (by omega) hS (fun H locs zq8 hH hS => ?_)
    replace hn : ((((n0 + 1) + q2.2.2.1) + q4.2.2.1) + q8.2.2.1) = n0 + ((((0 + 1) + q2.2.2.1) + q4.2.2.1) + q8.2.2.1) := by omega
    refine lv_pop hx hb dX3_both_16 rfl ?_
    have kl17 : ∀ (f : Nat) (h11 : Hv) (n12 : Nat) (kc12 ks12 : Nat) (r : (Nat ⊕ Nat) × Hv × Nat × Nat) (H : Heap) (locs : List Loc) (ls : Array Slot), P_X3_both_l17 a0 G ro rc n0 f h11 n12 = some r → qI r res kc12 ks12 → n12 = n0 + kc12 → DS D dA ro h11 n12 (fD ro h0 n0) H → va_S (fD ro h0 n0) s.heap H locs → lv_has ls 2 [(0, .ref a0), (1, .ref n0)] → W p l e (rmD (F + 31) (L + 940) res.2.2.1 res.2.2.2) s m args below meth c H locs kc12 ks12 Q (F0 m 17 ls []) := by
      intro f
      induction f with
      | zero =>
        intro h11 n12 kc12 ks12 r H locs ls hf
        cases hf
      | succ f ihl17 =>
        intro h11 n12 kc12 ks12 r H locs ls hf hq hn hH hS hl
        obtain ⟨rl17, erl17⟩ : ∃ x, x = P_X3_both_l17 a0 G ro rc n0 f := ⟨_, rfl⟩
        replace hf : P_X3_both_b17 a0 G ro rc n0 (P_X3_both_l17 a0 G ro rc n0 f) h11 n12 = some r := hf
        rw [← erl17] at hf ihl17
        unfold P_X3_both_b17 at hf
        refine lv_aload_n hx hb dX3_both_17 rfl (lv_at hl 0 rfl) ?_
        obtain ⟨x14, g13, hf⟩ := ob_bind hf
        refine xh_geti hx hb hts in_X3 hown hK hH.1 (ci := 15) rfl 4 (by decide) (hts _ q353) (fun _ h => h) g13 dX3_both_18 ?_
        refine lv_sipush (v := 216) hx hb dX3_both_21 (by decide) ?_
        refine lv_icmp_ne (tgt := 43) hx hb dX3_both_24 (by decide) (fun c15 => ?_) (fun c15 => ?_)
        · replace hf := ob_f hf c15
          refine lv_aload_n hx hb dX3_both_43 rfl (lv_at hl 1 rfl) ?_
          obtain ⟨g18, hf⟩ := ob_gp hf
          obtain ⟨q16, g17, hf⟩ := ob_bind hf
          refine xdr_i (xd_runR (As := []) (rest := []) hJ hR hJs hS ⟨hx, hb, hml, hown, hts⟩ (wkJ3_size l D dA J hJ.jr h11 n0 g17) (cwV 0 hts (lw_V q704 q705 q706 q145 q707) rfl rfl rfl cdJ3_size ⟨by show 1 ≤ F + 31; omega, by show 20 ≤ L + 940; omega⟩) hK hH (of_decide_eq_true g18) (q := (RJ3, TJ3, 3)) rfl rfl hl.1 rfl rfl (Nat.le_of_ble_eq_true rfl) dX3_both_44 ⟨(xg_le0 hq).1, (xg_le0 hq).2⟩) hH (by rw [hn0]; exact hn) hS (fun H locs hH hS => ?_)
          refine lv_iconst (v := 1) hx hb dX3_both_47 (by decide) ?_
          refine lv_icmp_ne (tgt := 62) hx hb dX3_both_48 (by decide) (fun c19 => ?_) (fun c19 => ?_)
          · replace hf := ob_f hf c19
            obtain ⟨r, hf, hq, hc9, hs9⟩ := hq.add hf
            obtain ⟨h20, eh20, hf⟩ := ob_bnd hf
            refine xd_new hx hb (N := 2) hts in_X10 tyX10 tyX10_ok hown (hts _ q721) (hts _ q722) (hts _ q161) hK hH hS hA9 (ci := 11) rfl (fs := [.int 0, .null]) df_X10 hc9 hs9 dX3_both_62 (fun H hH hS => ?_)
            rw [← eh20] at hH
            replace hn : (n12 + 1) = n0 + (kc12 + 1) := by omega
            refine lv_dup hx hb dX3_both_65 rfl ?_
            refine lv_iconst (v := 1) hx hb dX3_both_66 (by decide) ?_
            refine lv_aload_n hx hb dX3_both_67 rfl (lv_at hl 1 rfl) ?_
            obtain ⟨q21, g22, hf⟩ := ob_bind hf
            obtain ⟨r, hf, hq, hc9, hs9⟩ := hq.add hf
            refine xdc_v (xd_runIN (As := [.int 1, .ref n0]) (rest := [.ref n12]) hJ hR hJs hS ⟨hx, hb, hml, hown, hts⟩ (wkX10_init l hl9 D dA ro G J hJ h20 (n12 + 1) n12 1 n0 g22) ⟨va_cnB (host := "QuarrelsPawned") 2 hts (lw_meth q725) rfl rfl rfl (hJ.nest hJs 4 rfl) (hts _ q161) cdX10_init.2 ⟨by show 3 ≤ F + 31; omega, by show 102 ≤ L + 940; omega⟩, rfl, hts _ q724⟩ hK hH hl.1 rfl rfl (Nat.le_of_ble_eq_true rfl) dX3_both_68 ⟨hc9, hs9⟩) hH hR (by omega) hS (fun H locs hH hS => ?_)
            replace hn : ((n12 + 1) + q21.2.2.1) = n0 + ((kc12 + 1) + q21.2.2.1) := by omega
            subst hQ
            exact xe_ta (Or.inl ⟨_, rfl⟩) hx hb hr hlocks hH hn hS (hq.end (Option.some.inj hf)) dX3_both_71
          · replace hf := ob_t hf c19
            refine lv_aload_n hx hb dX3_both_51 rfl (lv_at hl 1 rfl) ?_
            refine lv_iconst (v := 0) hx hb dX3_both_52 (by decide) ?_
            obtain ⟨g25, hf⟩ := ob_gp hf
            obtain ⟨q23, g24, hf⟩ := ob_bind hf
            refine xdr_a (xd_runR (As := [.int 0]) (rest := []) hJ hR hJs hS ⟨hx, hb, hml, hown, hts⟩ (wkJ3_get l D dA J hJ.jr h11 n0 0 g24) (cwV 1 hts (lw_V q708 q709 q710 q145 q711) rfl rfl rfl cdJ3_get ⟨by show 3 ≤ F + 31; omega, by show 64 ≤ L + 940; omega⟩) hK hH (of_decide_eq_true g25) (q := (RJ3, TJ3, 3)) rfl rfl hl.1 rfl rfl (Nat.le_of_ble_eq_true rfl) dX3_both_53 ⟨(xg_le0 hq).1, (xg_le0 hq).2⟩) hH (by rw [hn0]; exact hn) hS (fun H locs hH hS => ?_)
            obtain ⟨g26, hf⟩ := ob_gp hf
            refine xh_castAsk hx hb hown (hts _ q720) (hJ.f hJs).1 hK hH.1 g26 dX3_both_56 ?_
            refine lv_goto (tgt := 71) hx hb dX3_both_59 (by decide) ?_
            subst hQ
            exact xe_ta (Or.inl ⟨_, rfl⟩) hx hb hr hlocks hH hn hS (hq.end (Option.some.inj hf)) dX3_both_71
        · replace hf := ob_t hf c15
          refine lv_aload_n hx hb dX3_both_27 rfl (lv_at hl 0 rfl) ?_
          obtain ⟨g29, hf⟩ := ob_gp hf
          obtain ⟨q27, g28, hf⟩ := ob_bind hf
          obtain ⟨r, hf, hq, hc9, hs9⟩ := hq.add hf
          refine xdc_v (xd_run (As := []) (rest := []) hJ hR hJs hS ⟨hx, hb, hml, hown, hts⟩ (wkX3_next l hl9 D dA ro G J hJ h11 n12 a0 g28) (cwV 0 hts (lw_V q426 q428 qs2 q141 q429) rfl rfl rfl cdX3_next ⟨by show 7 ≤ F + 31; omega, by show 150 ≤ L + 940; omega⟩) hK hH (of_decide_eq_true g29) (q := (RX3, TX3, 8)) rfl rfl hl.1 rfl rfl (Nat.le_of_ble_eq_true rfl) dX3_both_28 ⟨hc9, hs9⟩) hH hR (by omega) hS (fun H locs hH hS => ?_)
          replace hn : (n12 + q27.2.2.1) = n0 + (kc12 + q27.2.2.1) := by omega
          refine lv_aload_n hx hb dX3_both_31 rfl (lv_at hl 1 rfl) ?_
          refine lv_aload_n hx hb dX3_both_32 rfl (lv_at hl 0 rfl) ?_
          obtain ⟨g32, hf⟩ := ob_gp hf
          obtain ⟨q30, g31, hf⟩ := ob_bind hf
          rcases ob_tk hf with ⟨xq30, yq30, hf⟩ | ⟨v33, yq30, hf⟩
          · subst hQ
            exact xtx_a hno hlocks (xt_run (As := []) (rest := [.ref n0]) hJ hR hJs hS ⟨hx, hb, hml, hown, hts⟩ (show vy_Met _ yX3_ask _ _ _ _ _ _ _ _ from hrc 7 q27.2.1 (n12 + q27.2.2.1) a0 _ g31) (cwV 0 hts (lw_V q612 q614 qs14 q141 q615) rfl rfl rfl cdX3_ask ⟨by show F + 30 + 1 ≤ F + 31; omega, by show 8 + (_ + 11) + (L + 900) ≤ L + 940; omega⟩) hK hH (of_decide_eq_true g32) (q := (RX3, TX3, 8)) rfl rfl hl.1 rfl rfl (Nat.le_of_ble_eq_true rfl) dX3_both_33 (xg_thr hq hf)) hH hR (by omega) hn hS yq30 rfl rfl (hq.thr hf)
          · obtain ⟨r, hf, hq, hc9, hs9⟩ := hq.add hf
            refine xtc_a (xt_run (As := []) (rest := [.ref n0]) hJ hR hJs hS ⟨hx, hb, hml, hown, hts⟩ (show vy_Met _ yX3_ask _ _ _ _ _ _ _ _ from hrc 7 q27.2.1 (n12 + q27.2.2.1) a0 _ g31) (cwV 0 hts (lw_V q612 q614 qs14 q141 q615) rfl rfl rfl cdX3_ask ⟨by show F + 30 + 1 ≤ F + 31; omega, by show 8 + (_ + 11) + (L + 900) ≤ L + 940; omega⟩) hK hH (of_decide_eq_true g32) (q := (RX3, TX3, 8)) rfl rfl hl.1 rfl rfl (Nat.le_of_ble_eq_true rfl) dX3_both_33 ⟨hc9, hs9⟩) hH hR (by omega) hS yq30 (fun H locs hH hS => ?_)
            replace hn : ((n12 + q27.2.2.1) + q30.2.2.1) = n0 + ((kc12 + q27.2.2.1) + q30.2.2.1) := by omega
            obtain ⟨g36, hf⟩ := ob_gp hf
            obtain ⟨q34, g35, hf⟩ := ob_bind hf
            obtain ⟨r, hf, hq, hc9, hs9⟩ := hq.add hf
            refine xdc_z (xd_run (As := [.ref v33]) (rest := []) hJ hR hJs hS ⟨hx, hb, hml, hown, hts⟩ (wkJ3_add l hl9 D dA ro G J hJ q30.2.1 ((n12 + q27.2.2.1) + q30.2.2.1) n0 v33 g35) (cwV 1 hts (lw_V q642 q643 q644 q145 q645) rfl rfl rfl cdJ3_add ⟨by show 7 ≤ F + 31; omega, by show 191 ≤ L + 940; omega⟩) hK hH (of_decide_eq_true g36) (q := (RJ3, TJ3, 3)) rfl rfl hl.1 rfl rfl (Nat.le_of_ble_eq_true rfl) dX3_both_36 ⟨hc9, hs9⟩) hH hR (by omega) hS (fun H locs zq34 hH hS => ?_)
            replace hn : (((n12 + q27.2.2.1) + q30.2.2.1) + q34.2.2.1) = n0 + (((kc12 + q27.2.2.1) + q30.2.2.1) + q34.2.2.1) := by omega
            refine lv_pop hx hb dX3_both_39 rfl ?_
            refine lv_goto (tgt := 17) hx hb dX3_both_40 (by decide) ?_
            exact ihl17 q34.2.1 (((n12 + q27.2.2.1) + q30.2.2.1) + q34.2.2.1) _ _ r H locs ls hf hq hn hH hS (lv_sub hl [0, 1] rfl)
    exact kl17 400 q8.2.1 ((((n0 + 1) + q2.2.2.1) + q4.2.2.1) + q8.2.2.1) _ _ r H locs ls hf hq hn hH hS (lv_sub hl [1, 0] rfl)
set_option maxHeartbeats 4000000 in
set_option maxRecDepth 100000 in
theorem wkX3_ask (l : Launch) (hl9 : l.stackTraces = false) (D : va_G) (dA : Nat → ClassId) (ro : Nat → Bool) (G : Gs) (J : State → Heap → Prop) (hJ : JD ro G J) {F L : Nat} {rc : Nat → Hv → Nat → Nat → Option ((Nat ⊕ Nat) × Hv × Nat × Nat)} (hrc : ∀ k h n a res, rc k h n a = some res → KC l D dA ro J F L k h n a res) (h0 : Hv) (n0 : Nat) (a0 : Nat) {res : (Nat ⊕ Nat) × Hv × Nat × Nat} (hf : P_X3_ask G ro rc h0 n0 a0 = some res) : vy_Met l yX3_ask (ws_ yX3_ask cX3_ask 3 (some (Jvm.ClassFile.FieldType.object "QuarrelsPawned$Asked"))) (rmD (F + 31) (L + 940) res.2.2.1 res.2.2.2) (Pd D dA ro J [.ref a0] h0 n0) (Qta D dA ro h0 n0 res) (Xt D dA ro h0 n0 res) res.2.2.1 res.2.2.2 (fD ro h0 n0) := by
  refine xt_head (own := RX3) (by decide) rfl (Nat.le_of_ble_eq_true rfl) ?_
  intro p e s m args below meth c ls Q hQ hname hno C hn0 hH hl
  obtain ⟨hx, hb, hr, hlocks, hml, hown, hts, hK, hJs⟩ := C
  replace hl : lv_has ls 3 [(0, .ref a0)] := hl
  have hS : va_S (fD ro h0 n0) s.heap s.heap [] := va_S.rf
  have hR : rD ro (fD ro h0 n0) n0 := fD_rD hH
  have hA9 : ∀ q, s.heap.size ≤ q → fD ro h0 n0 q := fun q hq => hR.2 q (hn0 ▸ hq)
  unfold P_X3_ask at hf
  obtain ⟨r, er⟩ : ∃ r, r = res := ⟨_, rfl⟩
  have hq : qI r res 0 0 := by rw [er]; exact ⟨rfl, rfl, Nat.zero_add _, Nat.zero_add _⟩
  rw [← er] at hf
  have hn : n0 = n0 + 0 := rfl
  obtain ⟨H, eH⟩ : ∃ H, H = s.heap := ⟨_, rfl⟩
  obtain ⟨locs, eL⟩ : ∃ locs : List Loc, locs = [] := ⟨_, rfl⟩
  rw [← eL] at hS ⊢
  rw [← eH] at hH
  have hS : va_S (fD ro h0 n0) s.heap H locs := by rw [eH]; exact hS
  show W p l e (rmD (F + 31) (L + 940) res.2.2.1 res.2.2.2) s m args below meth c s.heap locs 0 0 Q (F0 m 0 ls [])
  rw [← eH]
  clear er
  refine lv_aload_n hx hb dX3_ask_0 rfl (lv_at hl 0 rfl) ?_
  obtain ⟨x2, g1, hf⟩ := ob_bind hf
  refine xh_geti hx hb hts in_X3 hown hK hH.1 (ci := 15) rfl 4 (by decide) (hts _ q353) (fun _ h => h) g1 dX3_ask_1 ?_
  refine lv_sipush (v := 217) hx hb dX3_ask_4 (by decide) ?_
  refine lv_icmp_ne (tgt := 38) hx hb dX3_ask_7 (by decide) (fun c3 => ?_) (fun c3 => ?_)
  · replace hf := ob_f hf c3
    refine lv_aload_n hx hb dX3_ask_38 rfl (lv_at hl 0 rfl) ?_
    obtain ⟨g6, hf⟩ := ob_gp hf
    obtain ⟨q4, g5, hf⟩ := ob_bind hf
    rcases ob_tk hf with ⟨xq4, yq4, hf⟩ | ⟨v7, yq4, hf⟩
    · subst hQ
      exact xtx_a hno hlocks (xt_run (As := []) (rest := []) hJ hR hJs hS ⟨hx, hb, hml, hown, hts⟩ (show vy_Met _ yX3_sum _ _ _ _ _ _ _ _ from hrc 0 h0 n0 a0 _ g5) (cwV 0 hts (lw_V q563 q565 qs6 q141 q566) rfl rfl rfl cdX3_sum ⟨by show F + 30 + 1 ≤ F + 31; omega, by show 8 + (_ + 11) + (L + 900) ≤ L + 940; omega⟩) hK hH (of_decide_eq_true g6) (q := (RX3, TX3, 8)) rfl rfl hl.1 rfl rfl (Nat.le_of_ble_eq_true rfl) dX3_ask_39 (xg_thr hq hf)) hH hR (by omega) hn hS yq4 rfl rfl (hq.thr hf)
    · obtain ⟨r, hf, hq, hc9, hs9⟩ := hq.add hf
      refine xtc_a (xt_run (As := []) (rest := []) hJ hR hJs hS ⟨hx, hb, hml, hown, hts⟩ (show vy_Met _ yX3_sum _ _ _ _ _ _ _ _ from hrc 0 h0 n0 a0 _ g5) (cwV 0 hts (lw_V q563 q565 qs6 q141 q566) rfl rfl rfl cdX3_sum ⟨by show F + 30 + 1 ≤ F + 31; omega, by show 8 + (_ + 11) + (L + 900) ≤ L + 940; omega⟩) hK hH (of_decide_eq_true g6) (q := (RX3, TX3, 8)) rfl rfl hl.1 rfl rfl (Nat.le_of_ble_eq_true rfl) dX3_ask_39 ⟨hc9, hs9⟩) hH hR (by omega) hS yq4 (fun H locs hH hS => ?_)
      replace hn : (n0 + q4.2.2.1) = n0 + (0 + q4.2.2.1) := by omega
      refine lv_astore_n (lv' := [(1, .ref v7), (0, .ref a0)]) hx hb dX3_ask_42 rfl hl (by decide) rfl (fun ls hl => ?_)
      refine lv_aload_n hx hb dX3_ask_43 rfl (lv_at hl 1 rfl) ?_
      obtain ⟨x9, g8, hf⟩ := ob_bind hf
      refine xh_geti hx hb hts in_X3 hown hK hH.1 (ci := 15) rfl 4 (by decide) (hts _ q353) (fun _ h => h) g8 dX3_ask_44 ?_
      refine lv_istore_n (lv' := [(2, .int x9), (1, .ref v7), (0, .ref a0)]) hx hb dX3_ask_47 rfl hl (by decide) rfl (fun ls hl => ?_)
      refine lv_iload_n hx hb dX3_ask_48 rfl (lv_at hl 0 rfl) ?_
      refine lv_bipush (v := 60) hx hb dX3_ask_49 (by decide) ?_
      have kj92 : ∀ (h10 : Hv) (n11 : Nat) (kc11 ks11 : Nat) (r : (Nat ⊕ Nat) × Hv × Nat × Nat) (H : Heap) (locs : List Loc) (ls : Array Slot), P_X3_ask_j92 a0 G ro rc x9 v7 h10 n11 = some r → qI r res kc11 ks11 → n11 = n0 + kc11 → DS D dA ro h10 n11 (fD ro h0 n0) H → va_S (fD ro h0 n0) s.heap H locs → lv_has ls 3 [(0, .ref a0), (1, .ref v7), (2, .int x9)] → W p l e (rmD (F + 31) (L + 940) res.2.2.1 res.2.2.2) s m args below meth c H locs kc11 ks11 Q (F0 m 92 ls []) := by
        intro h10 n11 kc11 ks11 r H locs ls hf hq hn hH hS hl
        unfold P_X3_ask_j92 at hf
        refine lv_aload_n hx hb dX3_ask_92 rfl (lv_at hl 0 rfl) ?_
        obtain ⟨g14, hf⟩ := ob_gp hf
        obtain ⟨q12, g13, hf⟩ := ob_bind hf
        obtain ⟨r, hf, hq, hc9, hs9⟩ := hq.add hf
        refine xdc_v (xd_run (As := []) (rest := []) hJ hR hJs hS ⟨hx, hb, hml, hown, hts⟩ (wkX3_next l hl9 D dA ro G J hJ h10 n11 a0 g13) (cwV 0 hts (lw_V q426 q428 qs2 q141 q429) rfl rfl rfl cdX3_next ⟨by show 7 ≤ F + 31; omega, by show 150 ≤ L + 940; omega⟩) hK hH (of_decide_eq_true g14) (q := (RX3, TX3, 8)) rfl rfl hl.1 rfl rfl (Nat.le_of_ble_eq_true rfl) dX3_ask_93 ⟨hc9, hs9⟩) hH hR (by omega) hS (fun H locs hH hS => ?_)
        replace hn : (n11 + q12.2.2.1) = n0 + (kc11 + q12.2.2.1) := by omega
        obtain ⟨r, hf, hq, hc9, hs9⟩ := hq.add hf
        obtain ⟨h15, eh15, hf⟩ := ob_bnd hf
        refine xd_new hx hb (N := 3) hts in_X9 tyX9 tyX9_ok hown (hts _ q626) (hts _ q627) (hts _ q158) hK hH hS hA9 (ci := 9) rfl (fs := [.int 0, .null, .null]) df_X9 hc9 hs9 dX3_ask_96 (fun H hH hS => ?_)
        rw [← eh15] at hH
        replace hn : ((n11 + q12.2.2.1) + 1) = n0 + ((kc11 + q12.2.2.1) + 1) := by omega
        refine lv_dup hx hb dX3_ask_99 rfl ?_
        refine lv_iload_n hx hb dX3_ask_100 rfl (lv_at hl 2 rfl) ?_
        refine lv_aload_n hx hb dX3_ask_101 rfl (lv_at hl 1 rfl) ?_
        refine lv_aload_n hx hb dX3_ask_102 rfl (lv_at hl 0 rfl) ?_
        obtain ⟨g18, hf⟩ := ob_gp hf
        obtain ⟨q16, g17, hf⟩ := ob_bind hf
        rcases ob_tk hf with ⟨xq16, yq16, hf⟩ | ⟨v19, yq16, hf⟩
        · subst hQ
          exact xtx_a hno hlocks (xt_run (As := []) (rest := [.ref v7, .int x9, .ref (n11 + q12.2.2.1), .ref (n11 + q12.2.2.1)]) hJ hR hJs hS ⟨hx, hb, hml, hown, hts⟩ (show vy_Met _ yX3_sum _ _ _ _ _ _ _ _ from hrc 0 h15 ((n11 + q12.2.2.1) + 1) a0 _ g17) (cwV 0 hts (lw_V q563 q565 qs6 q141 q566) rfl rfl rfl cdX3_sum ⟨by show F + 30 + 1 ≤ F + 31; omega, by show 8 + (_ + 11) + (L + 900) ≤ L + 940; omega⟩) hK hH (of_decide_eq_true g18) (q := (RX3, TX3, 8)) rfl rfl hl.1 rfl rfl (Nat.le_of_ble_eq_true rfl) dX3_ask_103 (xg_thr hq hf)) hH hR (by omega) hn hS yq16 rfl rfl (hq.thr hf)
        · obtain ⟨r, hf, hq, hc9, hs9⟩ := hq.add hf
          refine xtc_a (xt_run (As := []) (rest := [.ref v7, .int x9, .ref (n11 + q12.2.2.1), .ref (n11 + q12.2.2.1)]) hJ hR hJs hS ⟨hx, hb, hml, hown, hts⟩ (show vy_Met _ yX3_sum _ _ _ _ _ _ _ _ from hrc 0 h15 ((n11 + q12.2.2.1) + 1) a0 _ g17) (cwV 0 hts (lw_V q563 q565 qs6 q141 q566) rfl rfl rfl cdX3_sum ⟨by show F + 30 + 1 ≤ F + 31; omega, by show 8 + (_ + 11) + (L + 900) ≤ L + 940; omega⟩) hK hH (of_decide_eq_true g18) (q := (RX3, TX3, 8)) rfl rfl hl.1 rfl rfl (Nat.le_of_ble_eq_true rfl) dX3_ask_103 ⟨hc9, hs9⟩) hH hR (by omega) hS yq16 (fun H locs hH hS => ?_)
          replace hn : (((n11 + q12.2.2.1) + 1) + q16.2.2.1) = n0 + (((kc11 + q12.2.2.1) + 1) + q16.2.2.1) := by omega
          obtain ⟨q20, g21, hf⟩ := ob_bind hf
          obtain ⟨r, hf, hq, hc9, hs9⟩ := hq.add hf
          refine xdc_v (xd_runIN (As := [.int x9, .ref v7, .ref v19]) (rest := [.ref (n11 + q12.2.2.1)]) hJ hR hJs hS ⟨hx, hb, hml, hown, hts⟩ (wkX9_init l hl9 D dA ro G J hJ q16.2.1 (((n11 + q12.2.2.1) + 1) + q16.2.2.1) (n11 + q12.2.2.1) x9 v7 v19 g21) ⟨va_cnB (host := "QuarrelsPawned") 3 hts (lw_meth q630) rfl rfl rfl (hJ.nest hJs 3 rfl) (hts _ q158) cdX9_init.2 ⟨by show 3 ≤ F + 31; omega, by show 103 ≤ L + 940; omega⟩, rfl, hts _ q629⟩ hK hH hl.1 rfl rfl (Nat.le_of_ble_eq_true rfl) dX3_ask_106 ⟨hc9, hs9⟩) hH hR (by omega) hS (fun H locs hH hS => ?_)
          replace hn : ((((n11 + q12.2.2.1) + 1) + q16.2.2.1) + q20.2.2.1) = n0 + ((((kc11 + q12.2.2.1) + 1) + q16.2.2.1) + q20.2.2.1) := by omega
          subst hQ
          exact xe_ta (Or.inl ⟨_, rfl⟩) hx hb hr hlocks hH hn hS (hq.end (Option.some.inj hf)) dX3_ask_109
      refine lv_icmp_eq (tgt := 92) hx hb dX3_ask_51 (by decide) (fun c22 => ?_) (fun c22 => ?_)
      · replace hf := ob_t hf c22
        exact kj92 q4.2.1 (n0 + q4.2.2.1) _ _ r H locs ls hf hq hn hH hS (lv_sub hl [2, 1, 0] rfl)
      · replace hf := ob_f hf c22
        refine lv_iload_n hx hb dX3_ask_54 rfl (lv_at hl 0 rfl) ?_
        refine lv_bipush (v := 62) hx hb dX3_ask_55 (by decide) ?_
        refine lv_icmp_eq (tgt := 92) hx hb dX3_ask_57 (by decide) (fun c23 => ?_) (fun c23 => ?_)
        · replace hf := ob_t hf c23
          exact kj92 q4.2.1 (n0 + q4.2.2.1) _ _ r H locs ls hf hq hn hH hS (lv_sub hl [2, 1, 0] rfl)
        · replace hf := ob_f hf c23
          refine lv_iload_n hx hb dX3_ask_60 rfl (lv_at hl 0 rfl) ?_
          refine lv_bipush (v := 61) hx hb dX3_ask_61 (by decide) ?_
          refine lv_icmp_eq (tgt := 92) hx hb dX3_ask_63 (by decide) (fun c24 => ?_) (fun c24 => ?_)
          · replace hf := ob_t hf c24
            exact kj92 q4.2.1 (n0 + q4.2.2.1) _ _ r H locs ls hf hq hn hH hS (lv_sub hl [2, 1, 0] rfl)
          · replace hf := ob_f hf c24
            refine lv_iload_n hx hb dX3_ask_66 rfl (lv_at hl 0 rfl) ?_
            refine lv_bipush (v := 35) hx hb dX3_ask_67 (by decide) ?_
            refine lv_icmp_eq (tgt := 92) hx hb dX3_ask_69 (by decide) (fun c25 => ?_) (fun c25 => ?_)
            · replace hf := ob_t hf c25
              exact kj92 q4.2.1 (n0 + q4.2.2.1) _ _ r H locs ls hf hq hn hH hS (lv_sub hl [2, 1, 0] rfl)
            · replace hf := ob_f hf c25
              refine lv_iload_n hx hb dX3_ask_72 rfl (lv_at hl 0 rfl) ?_
              refine lv_sipush (v := 303) hx hb dX3_ask_73 (by decide) ?_
              refine lv_icmp_eq (tgt := 92) hx hb dX3_ask_76 (by decide) (fun c26 => ?_) (fun c26 => ?_)
              · replace hf := ob_t hf c26
                exact kj92 q4.2.1 (n0 + q4.2.2.1) _ _ r H locs ls hf hq hn hH hS (lv_sub hl [2, 1, 0] rfl)
              · replace hf := ob_f hf c26
                refine lv_iload_n hx hb dX3_ask_79 rfl (lv_at hl 0 rfl) ?_
                refine lv_sipush (v := 304) hx hb dX3_ask_80 (by decide) ?_
                refine lv_icmp_eq (tgt := 92) hx hb dX3_ask_83 (by decide) (fun c27 => ?_) (fun c27 => ?_)
                · replace hf := ob_t hf c27
                  exact kj92 q4.2.1 (n0 + q4.2.2.1) _ _ r H locs ls hf hq hn hH hS (lv_sub hl [2, 1, 0] rfl)
                · replace hf := ob_f hf c27
                  refine lv_aload_n hx hb dX3_ask_86 rfl (lv_at hl 2 rfl) ?_
                  refine lv_iconst (v := 1) hx hb dX3_ask_87 (by decide) ?_
                  obtain ⟨g30, hf⟩ := ob_gp hf
                  obtain ⟨q28, g29, hf⟩ := ob_bind hf
                  obtain ⟨r, hf, hq, hc9, hs9⟩ := hq.add hf
                  refine xdc_a (xd_run (As := [.int 1]) (rest := []) hJ hR hJs hS ⟨hx, hb, hml, hown, hts⟩ (wkX3_wrong l hl9 D dA ro G J hJ q4.2.1 (n0 + q4.2.2.1) a0 1 g29) (cwV 1 hts (lw_V q495 q497 qs4 q141 q498) rfl rfl rfl cdX3_wrong ⟨by show 6 ≤ F + 31; omega, by show 123 ≤ L + 940; omega⟩) hK hH (of_decide_eq_true g30) (q := (RX3, TX3, 8)) rfl rfl hl.1 rfl rfl (Nat.le_of_ble_eq_true rfl) dX3_ask_88 ⟨hc9, hs9⟩) hH hR (by omega) hS (fun H locs hH hS => ?_)
                  replace hn : ((n0 + q4.2.2.1) + q28.2.2.1) = n0 + ((0 + q4.2.2.1) + q28.2.2.1) := by omega
                  obtain ⟨g31, hf⟩ := ob_gp hf
                  obtain ⟨g319, hf⟩ := ob_gp hf
                  subst hQ
                  exact xt_throw hx hb hno hlocks hK hH hn hS (of_decide_eq_true g31) g319 (hq.end (Option.some.inj hf)) dX3_ask_91
  · replace hf := ob_t hf c3
    refine lv_aload_n hx hb dX3_ask_10 rfl (lv_at hl 0 rfl) ?_
    obtain ⟨g34, hf⟩ := ob_gp hf
    obtain ⟨q32, g33, hf⟩ := ob_bind hf
    rcases ob_tk hf with ⟨xq32, yq32, hf⟩ | ⟨v35, yq32, hf⟩
    · subst hQ
      exact xtx_v hno hlocks (xt_run (As := []) (rest := []) hJ hR hJs hS ⟨hx, hb, hml, hown, hts⟩ (wkX3_opens l hl9 D dA ro G J hJ h0 n0 a0 g33) (cwV 0 hts (lw_V q598 q600 qs11 q141 q601) rfl rfl rfl cdX3_opens ⟨by show 8 ≤ F + 31; omega, by show 170 ≤ L + 940; omega⟩) hK hH (of_decide_eq_true g34) (q := (RX3, TX3, 8)) rfl rfl hl.1 rfl rfl (Nat.le_of_ble_eq_true rfl) dX3_ask_11 (xg_thr hq hf)) hH hR (by omega) hn hS yq32 rfl rfl (hq.thr hf)
    · obtain ⟨r, hf, hq, hc9, hs9⟩ := hq.add hf
      refine xtc_v (xt_run (As := []) (rest := []) hJ hR hJs hS ⟨hx, hb, hml, hown, hts⟩ (wkX3_opens l hl9 D dA ro G J hJ h0 n0 a0 g33) (cwV 0 hts (lw_V q598 q600 qs11 q141 q601) rfl rfl rfl cdX3_opens ⟨by show 8 ≤ F + 31; omega, by show 170 ≤ L + 940; omega⟩) hK hH (of_decide_eq_true g34) (q := (RX3, TX3, 8)) rfl rfl hl.1 rfl rfl (Nat.le_of_ble_eq_true rfl) dX3_ask_11 ⟨hc9, hs9⟩) hH hR (by omega) hS yq32 (fun H locs hH hS => ?_)
      replace hn : (n0 + q32.2.2.1) = n0 + (0 + q32.2.2.1) := by omega
      obtain ⟨r, hf, hq, hc9, hs9⟩ := hq.add hf
      obtain ⟨h36, eh36, hf⟩ := ob_bnd hf
      refine xd_new hx hb (N := 1) hts in_X8 tyX8 tyX8_ok hown (hts _ q616) (hts _ q617) (hts _ q157) hK hH hS hA9 (ci := 10) rfl (fs := [.null]) df_X8 hc9 hs9 dX3_ask_14 (fun H hH hS => ?_)
      rw [← eh36] at hH
      replace hn : ((n0 + q32.2.2.1) + 1) = n0 + ((0 + q32.2.2.1) + 1) := by omega
      refine lv_dup hx hb dX3_ask_17 rfl ?_
      refine lv_aload_n hx hb dX3_ask_18 rfl (lv_at hl 0 rfl) ?_
      obtain ⟨g39, hf⟩ := ob_gp hf
      obtain ⟨q37, g38, hf⟩ := ob_bind hf
      rcases ob_tk hf with ⟨xq37, yq37, hf⟩ | ⟨v40, yq37, hf⟩
      · subst hQ
        exact xtx_a hno hlocks (xt_run (As := []) (rest := [.ref (n0 + q32.2.2.1), .ref (n0 + q32.2.2.1)]) hJ hR hJs hS ⟨hx, hb, hml, hown, hts⟩ (show vy_Met _ yX3_ask _ _ _ _ _ _ _ _ from hrc 7 h36 ((n0 + q32.2.2.1) + 1) a0 _ g38) (cwV 0 hts (lw_V q612 q614 qs14 q141 q615) rfl rfl rfl cdX3_ask ⟨by show F + 30 + 1 ≤ F + 31; omega, by show 8 + (_ + 11) + (L + 900) ≤ L + 940; omega⟩) hK hH (of_decide_eq_true g39) (q := (RX3, TX3, 8)) rfl rfl hl.1 rfl rfl (Nat.le_of_ble_eq_true rfl) dX3_ask_19 (xg_thr hq hf)) hH hR (by omega) hn hS yq37 rfl rfl (hq.thr hf)
      · obtain ⟨r, hf, hq, hc9, hs9⟩ := hq.add hf
        refine xtc_a (xt_run (As := []) (rest := [.ref (n0 + q32.2.2.1), .ref (n0 + q32.2.2.1)]) hJ hR hJs hS ⟨hx, hb, hml, hown, hts⟩ (show vy_Met _ yX3_ask _ _ _ _ _ _ _ _ from hrc 7 h36 ((n0 + q32.2.2.1) + 1) a0 _ g38) (cwV 0 hts (lw_V q612 q614 qs14 q141 q615) rfl rfl rfl cdX3_ask ⟨by show F + 30 + 1 ≤ F + 31; omega, by show 8 + (_ + 11) + (L + 900) ≤ L + 940; omega⟩) hK hH (of_decide_eq_true g39) (q := (RX3, TX3, 8)) rfl rfl hl.1 rfl rfl (Nat.le_of_ble_eq_true rfl) dX3_ask_19 ⟨hc9, hs9⟩) hH hR (by omega) hS yq37 (fun H locs hH hS => ?_)
        replace hn : (((n0 + q32.2.2.1) + 1) + q37.2.2.1) = n0 + (((0 + q32.2.2.1) + 1) + q37.2.2.1) := by omega
        obtain ⟨q41, g42, hf⟩ := ob_bind hf
        obtain ⟨r, hf, hq, hc9, hs9⟩ := hq.add hf
        refine xdc_v (xd_runIN (As := [.ref v40]) (rest := [.ref (n0 + q32.2.2.1)]) hJ hR hJs hS ⟨hx, hb, hml, hown, hts⟩ (wkX8_init l hl9 D dA ro G J hJ q37.2.1 (((n0 + q32.2.2.1) + 1) + q37.2.2.1) (n0 + q32.2.2.1) v40 g42) ⟨va_cnB (host := "QuarrelsPawned") 1 hts (lw_meth q620) rfl rfl rfl (hJ.nest hJs 2 rfl) (hts _ q157) cdX8_init.2 ⟨by show 3 ≤ F + 31; omega, by show 101 ≤ L + 940; omega⟩, rfl, hts _ q619⟩ hK hH hl.1 rfl rfl (Nat.le_of_ble_eq_true rfl) dX3_ask_22 ⟨hc9, hs9⟩) hH hR (by omega) hS (fun H locs hH hS => ?_)
        replace hn : ((((n0 + q32.2.2.1) + 1) + q37.2.2.1) + q41.2.2.1) = n0 + ((((0 + q32.2.2.1) + 1) + q37.2.2.1) + q41.2.2.1) := by omega
        refine lv_astore_n (lv' := [(1, .ref (n0 + q32.2.2.1)), (0, .ref a0)]) hx hb dX3_ask_25 rfl hl (by decide) rfl (fun ls hl => ?_)
        refine lv_aload_n hx hb dX3_ask_26 rfl (lv_at hl 1 rfl) ?_
        refine lv_dup hx hb dX3_ask_27 rfl ?_
        obtain ⟨x44, g43, hf⟩ := ob_bind hf
        refine xh_geti hx hb hts in_X3 hown hK hH.1 (ci := 15) rfl 6 (by decide) (hts _ q355) (fun _ h => h) g43 dX3_ask_28 ?_
        refine lv_iconst (v := 1) hx hb dX3_ask_31 (by decide) ?_
        refine lv_isub hx hb dX3_ask_32 ?_
        obtain ⟨h46, g45, hf⟩ := ob_bind hf
        refine xd_put hx hb hts in_X3 tyX3 tyX3_ok nmX3 hown hK hH hS (ci := 15) rfl 6 (by decide) (hts _ q355) (fun _ h => h) rfl (v := .int (x44 - 1)) rfl rfl g45 dX3_ask_33 (fun H locs hH hS => ?_)
        refine lv_aload_n hx hb dX3_ask_36 rfl (lv_at hl 0 rfl) ?_
        subst hQ
        exact xe_ta (Or.inl ⟨_, rfl⟩) hx hb hr hlocks hH hn hS (hq.end (Option.some.inj hf)) dX3_ask_37
theorem wk_rec (l : Launch) (hl9 : l.stackTraces = false) (D : va_G) (dA : Nat → ClassId) (ro : Nat → Bool) (G : Gs) (J : State → Heap → Prop) (hJ : JD ro G J) : ∀ (dp k : Nat) (h : Hv) (n a : Nat) (res : (Nat ⊕ Nat) × Hv × Nat × Nat), P_rec G ro dp k h n a = some res → KC l D dA ro J dp (40 * dp) k h n a res := by
  intro dp
  induction dp with
  | zero => exact fun k h n a res e => by cases e
  | succ dp ih =>
    intro k h n a res e
    match k, e with
    | 0, e => exact wkX3_sum l hl9 D dA ro G J hJ (F := dp) (L := 40 * dp) ih h n a e
    | 1, e => exact wkX3_product l hl9 D dA ro G J hJ (F := dp) (L := 40 * dp) ih h n a e
    | 2, e => exact wkX3_one l hl9 D dA ro G J hJ (F := dp) (L := 40 * dp) ih h n a e
    | 3, e => exact wkX3_rest l hl9 D dA ro G J hJ (F := dp) (L := 40 * dp) ih h n a e
    | 4, e => exact wkX3_choice l hl9 D dA ro G J hJ (F := dp) (L := 40 * dp) ih h n a e
    | 5, e => exact wkX3_either l hl9 D dA ro G J hJ (F := dp) (L := 40 * dp) ih h n a e
    | 6, e => exact wkX3_both l hl9 D dA ro G J hJ (F := dp) (L := 40 * dp) ih h n a e
    | _ + 7, e => exact wkX3_ask l hl9 D dA ro G J hJ (F := dp) (L := 40 * dp) ih h n a e
theorem cdX3_doing : yX3_doing.cls = RX3 ∧ yX3_doing.cls ≠ "java/lang/invoke/MethodHandle" ∧ yX3_doing.cls ≠ "java/lang/invoke/VarHandle" ∧ (parseMethodDescriptor yX3_doing.desc).map (fun d => d.parameters.length) = some 1 := by decide +kernel
set_option maxHeartbeats 4000000 in
set_option maxRecDepth 100000 in
theorem wkX3_doing (l : Launch) (hl9 : l.stackTraces = false) (D : va_G) (dA : Nat → ClassId) (ro : Nat → Bool) (G : Gs) (J : State → Heap → Prop) (hJ : JD ro G J) (h0 : Hv) (n0 : Nat) (a0 : Nat) (a1 : Int32) {res : (Nat ⊕ Nat) × Hv × Nat × Nat} (hf : P_X3_doing G ro h0 n0 a0 a1 = some res) : vy_Met l yX3_doing (ws_ yX3_doing cX3_doing 4 (some (Jvm.ClassFile.FieldType.object "QuarrelsPawned$Doing"))) (rmD 8 173 res.2.2.1 res.2.2.2) (Pd D dA ro J [.ref a0, .int a1] h0 n0) (Qta D dA ro h0 n0 res) (Xt D dA ro h0 n0 res) res.2.2.1 res.2.2.2 (fD ro h0 n0) := by
  refine xt_head (own := RX3) (by decide) rfl (Nat.le_of_ble_eq_true rfl) ?_
  intro p e s m args below meth c ls Q hQ hname hno C hn0 hH hl
  obtain ⟨hx, hb, hr, hlocks, hml, hown, hts, hK, hJs⟩ := C
  replace hl : lv_has ls 4 [(0, .ref a0), (1, .int a1)] := hl
  have hS : va_S (fD ro h0 n0) s.heap s.heap [] := va_S.rf
  have hR : rD ro (fD ro h0 n0) n0 := fD_rD hH
  have hA9 : ∀ q, s.heap.size ≤ q → fD ro h0 n0 q := fun q hq => hR.2 q (hn0 ▸ hq)
  unfold P_X3_doing at hf
  obtain ⟨r, er⟩ : ∃ r, r = res := ⟨_, rfl⟩
  have hq : qI r res 0 0 := by rw [er]; exact ⟨rfl, rfl, Nat.zero_add _, Nat.zero_add _⟩
  rw [← er] at hf
  have hn : n0 = n0 + 0 := rfl
  obtain ⟨H, eH⟩ : ∃ H, H = s.heap := ⟨_, rfl⟩
  obtain ⟨locs, eL⟩ : ∃ locs : List Loc, locs = [] := ⟨_, rfl⟩
  rw [← eL] at hS ⊢
  rw [← eH] at hH
  have hS : va_S (fD ro h0 n0) s.heap H locs := by rw [eH]; exact hS
  show W p l e (rmD 8 173 res.2.2.1 res.2.2.2) s m args below meth c s.heap locs 0 0 Q (F0 m 0 ls [])
  rw [← eH]
  clear er
  refine lv_aload_n hx hb dX3_doing_0 rfl (lv_at hl 0 rfl) ?_
  obtain ⟨x2, g1, hf⟩ := ob_bind hf
  refine xh_geti hx hb hts in_X3 hown hK hH.1 (ci := 15) rfl 7 (by decide) (hts _ q356) (fun _ h => h) g1 dX3_doing_1 ?_
  by_cases c3 : x2 = 202
  · replace hf := ob_t hf c3
    refine lv_tableIn (tgt := 40) (off := 36) hx hb dX3_doing_4 (by rw [c3]; decide) (by rw [c3]; decide) (by rw [c3]; rfl) (by decide) ?_
    refine lv_aload_n hx hb dX3_doing_40 rfl (lv_at hl 0 rfl) ?_
    refine lv_iconst (v := 0) hx hb dX3_doing_41 (by decide) ?_
    refine lv_iconst (v := 5) hx hb dX3_doing_42 (by decide) ?_
    obtain ⟨g6, hf⟩ := ob_gp hf
    obtain ⟨q4, g5, hf⟩ := ob_bind hf
    rcases ob_tk hf with ⟨xq4, yq4, hf⟩ | ⟨v7, yq4, hf⟩
    · subst hQ
      exact xtx_i hno hlocks (xt_run (As := [.int 0, .int 5]) (rest := []) hJ hR hJs hS ⟨hx, hb, hml, hown, hts⟩ (wkX3_number l hl9 D dA ro G J hJ h0 n0 a0 0 5 g5) (cwV 2 hts (lw_V q579 q581 qs9 q141 q582) rfl rfl rfl cdX3_number ⟨Nat.le_of_ble_eq_true rfl, Nat.le_of_ble_eq_true rfl⟩) hK hH (of_decide_eq_true g6) (q := (RX3, TX3, 8)) rfl rfl hl.1 rfl rfl (Nat.le_of_ble_eq_true rfl) dX3_doing_43 (xg_thr hq hf)) hH hR (by omega) hn hS yq4 rfl rfl (hq.thr hf)
    · obtain ⟨r, hf, hq, hc9, hs9⟩ := hq.add hf
      refine xtc_i (xt_run (As := [.int 0, .int 5]) (rest := []) hJ hR hJs hS ⟨hx, hb, hml, hown, hts⟩ (wkX3_number l hl9 D dA ro G J hJ h0 n0 a0 0 5 g5) (cwV 2 hts (lw_V q579 q581 qs9 q141 q582) rfl rfl rfl cdX3_number ⟨Nat.le_of_ble_eq_true rfl, Nat.le_of_ble_eq_true rfl⟩) hK hH (of_decide_eq_true g6) (q := (RX3, TX3, 8)) rfl rfl hl.1 rfl rfl (Nat.le_of_ble_eq_true rfl) dX3_doing_43 ⟨hc9, hs9⟩) hH hR (by omega) hS yq4 (fun H locs hH hS => ?_)
      replace hn : (n0 + q4.2.2.1) = n0 + (0 + q4.2.2.1) := by omega
      refine lv_istore_n (lv' := [(2, .int v7), (0, .ref a0), (1, .int a1)]) hx hb dX3_doing_46 rfl hl (by decide) rfl (fun ls hl => ?_)
      refine lv_aload_n hx hb dX3_doing_47 rfl (lv_at hl 1 rfl) ?_
      refine lv_sipush (v := 207) hx hb dX3_doing_48 (by decide) ?_
      obtain ⟨g10, hf⟩ := ob_gp hf
      obtain ⟨q8, g9, hf⟩ := ob_bind hf
      rcases ob_tk hf with ⟨xq8, yq8, hf⟩ | ⟨v11, yq8, hf⟩
      · subst hQ
        exact xtx_v hno hlocks (xt_run (As := [.int 207]) (rest := []) hJ hR hJs hS ⟨hx, hb, hml, hown, hts⟩ (wkX3_want l hl9 D dA ro G J hJ q4.2.1 (n0 + q4.2.2.1) a0 207 g9) (cwV 1 hts (lw_V q734 q736 qs18 q141 q737) rfl rfl rfl cdX3_want ⟨Nat.le_of_ble_eq_true rfl, Nat.le_of_ble_eq_true rfl⟩) hK hH (of_decide_eq_true g10) (q := (RX3, TX3, 8)) rfl rfl hl.1 rfl rfl (Nat.le_of_ble_eq_true rfl) dX3_doing_51 (xg_thr hq hf)) hH hR (by omega) hn hS yq8 rfl rfl (hq.thr hf)
      · obtain ⟨r, hf, hq, hc9, hs9⟩ := hq.add hf
        refine xtc_v (xt_run (As := [.int 207]) (rest := []) hJ hR hJs hS ⟨hx, hb, hml, hown, hts⟩ (wkX3_want l hl9 D dA ro G J hJ q4.2.1 (n0 + q4.2.2.1) a0 207 g9) (cwV 1 hts (lw_V q734 q736 qs18 q141 q737) rfl rfl rfl cdX3_want ⟨Nat.le_of_ble_eq_true rfl, Nat.le_of_ble_eq_true rfl⟩) hK hH (of_decide_eq_true g10) (q := (RX3, TX3, 8)) rfl rfl hl.1 rfl rfl (Nat.le_of_ble_eq_true rfl) dX3_doing_51 ⟨hc9, hs9⟩) hH hR (by omega) hS yq8 (fun H locs hH hS => ?_)
        replace hn : ((n0 + q4.2.2.1) + q8.2.2.1) = n0 + ((0 + q4.2.2.1) + q8.2.2.1) := by omega
        refine lv_aload_n hx hb dX3_doing_54 rfl (lv_at hl 1 rfl) ?_
        refine lv_iconst (v := 0) hx hb dX3_doing_55 (by decide) ?_
        refine lv_iconst (v := 5) hx hb dX3_doing_56 (by decide) ?_
        obtain ⟨g14, hf⟩ := ob_gp hf
        obtain ⟨q12, g13, hf⟩ := ob_bind hf
        rcases ob_tk hf with ⟨xq12, yq12, hf⟩ | ⟨v15, yq12, hf⟩
        · subst hQ
          exact xtx_i hno hlocks (xt_run (As := [.int 0, .int 5]) (rest := []) hJ hR hJs hS ⟨hx, hb, hml, hown, hts⟩ (wkX3_number l hl9 D dA ro G J hJ q8.2.1 ((n0 + q4.2.2.1) + q8.2.2.1) a0 0 5 g13) (cwV 2 hts (lw_V q579 q581 qs9 q141 q582) rfl rfl rfl cdX3_number ⟨Nat.le_of_ble_eq_true rfl, Nat.le_of_ble_eq_true rfl⟩) hK hH (of_decide_eq_true g14) (q := (RX3, TX3, 8)) rfl rfl hl.1 rfl rfl (Nat.le_of_ble_eq_true rfl) dX3_doing_57 (xg_thr hq hf)) hH hR (by omega) hn hS yq12 rfl rfl (hq.thr hf)
        · obtain ⟨r, hf, hq, hc9, hs9⟩ := hq.add hf
          refine xtc_i (xt_run (As := [.int 0, .int 5]) (rest := []) hJ hR hJs hS ⟨hx, hb, hml, hown, hts⟩ (wkX3_number l hl9 D dA ro G J hJ q8.2.1 ((n0 + q4.2.2.1) + q8.2.2.1) a0 0 5 g13) (cwV 2 hts (lw_V q579 q581 qs9 q141 q582) rfl rfl rfl cdX3_number ⟨Nat.le_of_ble_eq_true rfl, Nat.le_of_ble_eq_true rfl⟩) hK hH (of_decide_eq_true g14) (q := (RX3, TX3, 8)) rfl rfl hl.1 rfl rfl (Nat.le_of_ble_eq_true rfl) dX3_doing_57 ⟨hc9, hs9⟩) hH hR (by omega) hS yq12 (fun H locs hH hS => ?_)
          replace hn : (((n0 + q4.2.2.1) + q8.2.2.1) + q12.2.2.1) = n0 + (((0 + q4.2.2.1) + q8.2.2.1) + q12.2.2.1) := by omega
          refine lv_istore_n (lv' := [(3, .int v15), (2, .int v7), (0, .ref a0), (1, .int a1)]) hx hb dX3_doing_60 rfl hl (by decide) rfl (fun ls hl => ?_)
          refine lv_aload_n hx hb dX3_doing_61 rfl (lv_at hl 2 rfl) ?_
          refine lv_sipush (v := 208) hx hb dX3_doing_62 (by decide) ?_
          obtain ⟨g18, hf⟩ := ob_gp hf
          obtain ⟨q16, g17, hf⟩ := ob_bind hf
          rcases ob_tk hf with ⟨xq16, yq16, hf⟩ | ⟨v19, yq16, hf⟩
          · subst hQ
            exact xtx_v hno hlocks (xt_run (As := [.int 208]) (rest := []) hJ hR hJs hS ⟨hx, hb, hml, hown, hts⟩ (wkX3_want l hl9 D dA ro G J hJ q12.2.1 (((n0 + q4.2.2.1) + q8.2.2.1) + q12.2.2.1) a0 208 g17) (cwV 1 hts (lw_V q734 q736 qs18 q141 q737) rfl rfl rfl cdX3_want ⟨Nat.le_of_ble_eq_true rfl, Nat.le_of_ble_eq_true rfl⟩) hK hH (of_decide_eq_true g18) (q := (RX3, TX3, 8)) rfl rfl hl.1 rfl rfl (Nat.le_of_ble_eq_true rfl) dX3_doing_65 (xg_thr hq hf)) hH hR (by omega) hn hS yq16 rfl rfl (hq.thr hf)
          · obtain ⟨r, hf, hq, hc9, hs9⟩ := hq.add hf
            refine xtc_v (xt_run (As := [.int 208]) (rest := []) hJ hR hJs hS ⟨hx, hb, hml, hown, hts⟩ (wkX3_want l hl9 D dA ro G J hJ q12.2.1 (((n0 + q4.2.2.1) + q8.2.2.1) + q12.2.2.1) a0 208 g17) (cwV 1 hts (lw_V q734 q736 qs18 q141 q737) rfl rfl rfl cdX3_want ⟨Nat.le_of_ble_eq_true rfl, Nat.le_of_ble_eq_true rfl⟩) hK hH (of_decide_eq_true g18) (q := (RX3, TX3, 8)) rfl rfl hl.1 rfl rfl (Nat.le_of_ble_eq_true rfl) dX3_doing_65 ⟨hc9, hs9⟩) hH hR (by omega) hS yq16 (fun H locs hH hS => ?_)
            replace hn : ((((n0 + q4.2.2.1) + q8.2.2.1) + q12.2.2.1) + q16.2.2.1) = n0 + ((((0 + q4.2.2.1) + q8.2.2.1) + q12.2.2.1) + q16.2.2.1) := by omega
            obtain ⟨r, hf, hq, hc9, hs9⟩ := hq.add hf
            obtain ⟨h20, eh20, hf⟩ := ob_bnd hf
            refine xd_new hx hb (N := 5) hts in_X16 tyX16 tyX16_ok hown (hts _ q864) (hts _ q865) (hts _ q170) hK hH hS hA9 (ci := 3) rfl (fs := [.int 0, .int 0, .int 0, .int 0, .int 0]) df_X16 hc9 hs9 dX3_doing_68 (fun H hH hS => ?_)
            rw [← eh20] at hH
            replace hn : (((((n0 + q4.2.2.1) + q8.2.2.1) + q12.2.2.1) + q16.2.2.1) + 1) = n0 + (((((0 + q4.2.2.1) + q8.2.2.1) + q12.2.2.1) + q16.2.2.1) + 1) := by omega
            refine lv_dup hx hb dX3_doing_71 rfl ?_
            refine lv_aload_n hx hb dX3_doing_72 rfl (lv_at hl 2 rfl) ?_
            obtain ⟨x22, g21, hf⟩ := ob_bind hf
            refine xh_geti hx hb hts in_X3 hown hK hH.1 (ci := 15) rfl 7 (by decide) (hts _ q356) (fun _ h => h) g21 dX3_doing_73 ?_
            refine lv_iload_n hx hb dX3_doing_76 rfl (lv_at hl 1 rfl) ?_
            refine lv_iload_n hx hb dX3_doing_77 rfl (lv_at hl 0 rfl) ?_
            refine lv_aload_n hx hb dX3_doing_78 rfl (lv_at hl 2 rfl) ?_
            refine lv_iconst (v := 1) hx hb dX3_doing_79 (by decide) ?_
            refine lv_bipush (v := 99) hx hb dX3_doing_80 (by decide) ?_
            obtain ⟨g25, hf⟩ := ob_gp hf
            obtain ⟨q23, g24, hf⟩ := ob_bind hf
            rcases ob_tk hf with ⟨xq23, yq23, hf⟩ | ⟨v26, yq23, hf⟩
            · subst hQ
              exact xtx_i hno hlocks (xt_run (As := [.int 1, .int 99]) (rest := [.int v15, .int v7, .int x22, .ref ((((n0 + q4.2.2.1) + q8.2.2.1) + q12.2.2.1) + q16.2.2.1), .ref ((((n0 + q4.2.2.1) + q8.2.2.1) + q12.2.2.1) + q16.2.2.1)]) hJ hR hJs hS ⟨hx, hb, hml, hown, hts⟩ (wkX3_number l hl9 D dA ro G J hJ h20 (((((n0 + q4.2.2.1) + q8.2.2.1) + q12.2.2.1) + q16.2.2.1) + 1) a0 1 99 g24) (cwV 2 hts (lw_V q579 q581 qs9 q141 q582) rfl rfl rfl cdX3_number ⟨Nat.le_of_ble_eq_true rfl, Nat.le_of_ble_eq_true rfl⟩) hK hH (of_decide_eq_true g25) (q := (RX3, TX3, 8)) rfl rfl hl.1 rfl rfl (Nat.le_of_ble_eq_true rfl) dX3_doing_82 (xg_thr hq hf)) hH hR (by omega) hn hS yq23 rfl rfl (hq.thr hf)
            · obtain ⟨r, hf, hq, hc9, hs9⟩ := hq.add hf
              refine xtc_i (xt_run (As := [.int 1, .int 99]) (rest := [.int v15, .int v7, .int x22, .ref ((((n0 + q4.2.2.1) + q8.2.2.1) + q12.2.2.1) + q16.2.2.1), .ref ((((n0 + q4.2.2.1) + q8.2.2.1) + q12.2.2.1) + q16.2.2.1)]) hJ hR hJs hS ⟨hx, hb, hml, hown, hts⟩ (wkX3_number l hl9 D dA ro G J hJ h20 (((((n0 + q4.2.2.1) + q8.2.2.1) + q12.2.2.1) + q16.2.2.1) + 1) a0 1 99 g24) (cwV 2 hts (lw_V q579 q581 qs9 q141 q582) rfl rfl rfl cdX3_number ⟨Nat.le_of_ble_eq_true rfl, Nat.le_of_ble_eq_true rfl⟩) hK hH (of_decide_eq_true g25) (q := (RX3, TX3, 8)) rfl rfl hl.1 rfl rfl (Nat.le_of_ble_eq_true rfl) dX3_doing_82 ⟨hc9, hs9⟩) hH hR (by omega) hS yq23 (fun H locs hH hS => ?_)
              replace hn : ((((((n0 + q4.2.2.1) + q8.2.2.1) + q12.2.2.1) + q16.2.2.1) + 1) + q23.2.2.1) = n0 + ((((((0 + q4.2.2.1) + q8.2.2.1) + q12.2.2.1) + q16.2.2.1) + 1) + q23.2.2.1) := by omega
              refine lv_iload_n hx hb dX3_doing_85 rfl (lv_at hl 3 rfl) ?_
              obtain ⟨q27, g28, hf⟩ := ob_bind hf
              obtain ⟨r, hf, hq, hc9, hs9⟩ := hq.add hf
              refine xdc_v (xd_runIN (As := [.int x22, .int v7, .int v15, .int v26, .int a1]) (rest := [.ref ((((n0 + q4.2.2.1) + q8.2.2.1) + q12.2.2.1) + q16.2.2.1)]) hJ hR hJs hS ⟨hx, hb, hml, hown, hts⟩ (wkX16_init l hl9 D dA ro G J hJ q23.2.1 ((((((n0 + q4.2.2.1) + q8.2.2.1) + q12.2.2.1) + q16.2.2.1) + 1) + q23.2.2.1) ((((n0 + q4.2.2.1) + q8.2.2.1) + q12.2.2.1) + q16.2.2.1) x22 v7 v15 v26 a1 g28) ⟨va_cnB (host := "QuarrelsPawned") 5 hts (lw_meth q868) rfl rfl rfl (hJ.nest hJs 10 rfl) (hts _ q170) cdX16_init.2 ⟨Nat.le_of_ble_eq_true rfl, Nat.le_of_ble_eq_true rfl⟩, rfl, hts _ q867⟩ hK hH hl.1 rfl rfl (Nat.le_of_ble_eq_true rfl) dX3_doing_86 ⟨hc9, hs9⟩) hH hR (by omega) hS (fun H locs hH hS => ?_)
              replace hn : (((((((n0 + q4.2.2.1) + q8.2.2.1) + q12.2.2.1) + q16.2.2.1) + 1) + q23.2.2.1) + q27.2.2.1) = n0 + (((((((0 + q4.2.2.1) + q8.2.2.1) + q12.2.2.1) + q16.2.2.1) + 1) + q23.2.2.1) + q27.2.2.1) := by omega
              subst hQ
              exact xe_ta (Or.inl ⟨_, rfl⟩) hx hb hr hlocks hH hn hS (hq.end (Option.some.inj hf)) dX3_doing_89
  · replace hf := ob_f hf c3
    by_cases c29 : x2 = 205
    · replace hf := ob_t hf c29
      refine lv_tableIn (tgt := 90) (off := 86) hx hb dX3_doing_4 (by rw [c29]; decide) (by rw [c29]; decide) (by rw [c29]; rfl) (by decide) ?_
      obtain ⟨r, hf, hq, hc9, hs9⟩ := hq.add hf
      obtain ⟨h30, eh30, hf⟩ := ob_bnd hf
      refine xd_new hx hb (N := 5) hts in_X16 tyX16 tyX16_ok hown (hts _ q864) (hts _ q865) (hts _ q170) hK hH hS hA9 (ci := 3) rfl (fs := [.int 0, .int 0, .int 0, .int 0, .int 0]) df_X16 hc9 hs9 dX3_doing_90 (fun H hH hS => ?_)
      rw [← eh30] at hH
      replace hn : (n0 + 1) = n0 + (0 + 1) := by omega
      refine lv_dup hx hb dX3_doing_93 rfl ?_
      refine lv_aload_n hx hb dX3_doing_94 rfl (lv_at hl 0 rfl) ?_
      obtain ⟨x32, g31, hf⟩ := ob_bind hf
      refine xh_geti hx hb hts in_X3 hown hK hH.1 (ci := 15) rfl 7 (by decide) (hts _ q356) (fun _ h => h) g31 dX3_doing_95 ?_
      refine lv_aload_n hx hb dX3_doing_98 rfl (lv_at hl 0 rfl) ?_
      refine lv_iconst (v := 1) hx hb dX3_doing_99 (by decide) ?_
      refine lv_sipush (v := 999) hx hb dX3_doing_100 (by decide) ?_
      obtain ⟨g35, hf⟩ := ob_gp hf
      obtain ⟨q33, g34, hf⟩ := ob_bind hf
      rcases ob_tk hf with ⟨xq33, yq33, hf⟩ | ⟨v36, yq33, hf⟩
      · subst hQ
        exact xtx_i hno hlocks (xt_run (As := [.int 1, .int 999]) (rest := [.int x32, .ref n0, .ref n0]) hJ hR hJs hS ⟨hx, hb, hml, hown, hts⟩ (wkX3_number l hl9 D dA ro G J hJ h30 (n0 + 1) a0 1 999 g34) (cwV 2 hts (lw_V q579 q581 qs9 q141 q582) rfl rfl rfl cdX3_number ⟨Nat.le_of_ble_eq_true rfl, Nat.le_of_ble_eq_true rfl⟩) hK hH (of_decide_eq_true g35) (q := (RX3, TX3, 8)) rfl rfl hl.1 rfl rfl (Nat.le_of_ble_eq_true rfl) dX3_doing_103 (xg_thr hq hf)) hH hR (by omega) hn hS yq33 rfl rfl (hq.thr hf)
      · obtain ⟨r, hf, hq, hc9, hs9⟩ := hq.add hf
        refine xtc_i (xt_run (As := [.int 1, .int 999]) (rest := [.int x32, .ref n0, .ref n0]) hJ hR hJs hS ⟨hx, hb, hml, hown, hts⟩ (wkX3_number l hl9 D dA ro G J hJ h30 (n0 + 1) a0 1 999 g34) (cwV 2 hts (lw_V q579 q581 qs9 q141 q582) rfl rfl rfl cdX3_number ⟨Nat.le_of_ble_eq_true rfl, Nat.le_of_ble_eq_true rfl⟩) hK hH (of_decide_eq_true g35) (q := (RX3, TX3, 8)) rfl rfl hl.1 rfl rfl (Nat.le_of_ble_eq_true rfl) dX3_doing_103 ⟨hc9, hs9⟩) hH hR (by omega) hS yq33 (fun H locs hH hS => ?_)
        replace hn : ((n0 + 1) + q33.2.2.1) = n0 + ((0 + 1) + q33.2.2.1) := by omega
        refine lv_iconst (v := (-1)) hx hb dX3_doing_106 (by decide) ?_
        refine lv_iconst (v := (-1)) hx hb dX3_doing_107 (by decide) ?_
        refine lv_iload_n hx hb dX3_doing_108 rfl (lv_at hl 1 rfl) ?_
        obtain ⟨q37, g38, hf⟩ := ob_bind hf
        obtain ⟨r, hf, hq, hc9, hs9⟩ := hq.add hf
        refine xdc_v (xd_runIN (As := [.int x32, .int v36, .int (-1), .int (-1), .int a1]) (rest := [.ref n0]) hJ hR hJs hS ⟨hx, hb, hml, hown, hts⟩ (wkX16_init l hl9 D dA ro G J hJ q33.2.1 ((n0 + 1) + q33.2.2.1) n0 x32 v36 (-1) (-1) a1 g38) ⟨va_cnB (host := "QuarrelsPawned") 5 hts (lw_meth q868) rfl rfl rfl (hJ.nest hJs 10 rfl) (hts _ q170) cdX16_init.2 ⟨Nat.le_of_ble_eq_true rfl, Nat.le_of_ble_eq_true rfl⟩, rfl, hts _ q867⟩ hK hH hl.1 rfl rfl (Nat.le_of_ble_eq_true rfl) dX3_doing_109 ⟨hc9, hs9⟩) hH hR (by omega) hS (fun H locs hH hS => ?_)
        replace hn : (((n0 + 1) + q33.2.2.1) + q37.2.2.1) = n0 + (((0 + 1) + q33.2.2.1) + q37.2.2.1) := by omega
        subst hQ
        exact xe_ta (Or.inl ⟨_, rfl⟩) hx hb hr hlocks hH hn hS (hq.end (Option.some.inj hf)) dX3_doing_112
    · replace hf := ob_f hf c29
      by_cases c39 : x2 = 206
      · replace hf := ob_t hf c39
        refine lv_tableIn (tgt := 113) (off := 109) hx hb dX3_doing_4 (by rw [c39]; decide) (by rw [c39]; decide) (by rw [c39]; rfl) (by decide) ?_
        obtain ⟨r, hf, hq, hc9, hs9⟩ := hq.add hf
        obtain ⟨h40, eh40, hf⟩ := ob_bnd hf
        refine xd_new hx hb (N := 5) hts in_X16 tyX16 tyX16_ok hown (hts _ q864) (hts _ q865) (hts _ q170) hK hH hS hA9 (ci := 3) rfl (fs := [.int 0, .int 0, .int 0, .int 0, .int 0]) df_X16 hc9 hs9 dX3_doing_113 (fun H hH hS => ?_)
        rw [← eh40] at hH
        replace hn : (n0 + 1) = n0 + (0 + 1) := by omega
        refine lv_dup hx hb dX3_doing_116 rfl ?_
        refine lv_aload_n hx hb dX3_doing_117 rfl (lv_at hl 0 rfl) ?_
        obtain ⟨x42, g41, hf⟩ := ob_bind hf
        refine xh_geti hx hb hts in_X3 hown hK hH.1 (ci := 15) rfl 7 (by decide) (hts _ q356) (fun _ h => h) g41 dX3_doing_118 ?_
        refine lv_aload_n hx hb dX3_doing_121 rfl (lv_at hl 0 rfl) ?_
        refine lv_iconst (v := 1) hx hb dX3_doing_122 (by decide) ?_
        refine lv_bipush (v := 60) hx hb dX3_doing_123 (by decide) ?_
        obtain ⟨g45, hf⟩ := ob_gp hf
        obtain ⟨q43, g44, hf⟩ := ob_bind hf
        rcases ob_tk hf with ⟨xq43, yq43, hf⟩ | ⟨v46, yq43, hf⟩
        · subst hQ
          exact xtx_i hno hlocks (xt_run (As := [.int 1, .int 60]) (rest := [.int x42, .ref n0, .ref n0]) hJ hR hJs hS ⟨hx, hb, hml, hown, hts⟩ (wkX3_number l hl9 D dA ro G J hJ h40 (n0 + 1) a0 1 60 g44) (cwV 2 hts (lw_V q579 q581 qs9 q141 q582) rfl rfl rfl cdX3_number ⟨Nat.le_of_ble_eq_true rfl, Nat.le_of_ble_eq_true rfl⟩) hK hH (of_decide_eq_true g45) (q := (RX3, TX3, 8)) rfl rfl hl.1 rfl rfl (Nat.le_of_ble_eq_true rfl) dX3_doing_125 (xg_thr hq hf)) hH hR (by omega) hn hS yq43 rfl rfl (hq.thr hf)
        · obtain ⟨r, hf, hq, hc9, hs9⟩ := hq.add hf
          refine xtc_i (xt_run (As := [.int 1, .int 60]) (rest := [.int x42, .ref n0, .ref n0]) hJ hR hJs hS ⟨hx, hb, hml, hown, hts⟩ (wkX3_number l hl9 D dA ro G J hJ h40 (n0 + 1) a0 1 60 g44) (cwV 2 hts (lw_V q579 q581 qs9 q141 q582) rfl rfl rfl cdX3_number ⟨Nat.le_of_ble_eq_true rfl, Nat.le_of_ble_eq_true rfl⟩) hK hH (of_decide_eq_true g45) (q := (RX3, TX3, 8)) rfl rfl hl.1 rfl rfl (Nat.le_of_ble_eq_true rfl) dX3_doing_125 ⟨hc9, hs9⟩) hH hR (by omega) hS yq43 (fun H locs hH hS => ?_)
          replace hn : ((n0 + 1) + q43.2.2.1) = n0 + ((0 + 1) + q43.2.2.1) := by omega
          refine lv_iconst (v := (-1)) hx hb dX3_doing_128 (by decide) ?_
          refine lv_iconst (v := (-1)) hx hb dX3_doing_129 (by decide) ?_
          refine lv_iload_n hx hb dX3_doing_130 rfl (lv_at hl 1 rfl) ?_
          obtain ⟨q47, g48, hf⟩ := ob_bind hf
          obtain ⟨r, hf, hq, hc9, hs9⟩ := hq.add hf
          refine xdc_v (xd_runIN (As := [.int x42, .int v46, .int (-1), .int (-1), .int a1]) (rest := [.ref n0]) hJ hR hJs hS ⟨hx, hb, hml, hown, hts⟩ (wkX16_init l hl9 D dA ro G J hJ q43.2.1 ((n0 + 1) + q43.2.2.1) n0 x42 v46 (-1) (-1) a1 g48) ⟨va_cnB (host := "QuarrelsPawned") 5 hts (lw_meth q868) rfl rfl rfl (hJ.nest hJs 10 rfl) (hts _ q170) cdX16_init.2 ⟨Nat.le_of_ble_eq_true rfl, Nat.le_of_ble_eq_true rfl⟩, rfl, hts _ q867⟩ hK hH hl.1 rfl rfl (Nat.le_of_ble_eq_true rfl) dX3_doing_131 ⟨hc9, hs9⟩) hH hR (by omega) hS (fun H locs hH hS => ?_)
          replace hn : (((n0 + 1) + q43.2.2.1) + q47.2.2.1) = n0 + (((0 + 1) + q43.2.2.1) + q47.2.2.1) := by omega
          subst hQ
          exact xe_ta (Or.inl ⟨_, rfl⟩) hx hb hr hlocks hH hn hS (hq.end (Option.some.inj hf)) dX3_doing_134
      · replace hf := ob_f hf c39
        refine xr_tswD (tgt := 135) (vs := [202, 205, 206]) hx hb dX3_doing_4 (List.forall_mem_cons.mpr ⟨c3, List.forall_mem_cons.mpr ⟨c29, List.forall_mem_cons.mpr ⟨c39, fun _ h => absurd h List.not_mem_nil⟩⟩⟩) (by decide +kernel) (by decide) ?_
        obtain ⟨r, hf, hq, hc9, hs9⟩ := hq.add hf
        obtain ⟨h49, eh49, hf⟩ := ob_bnd hf
        refine xd_new hx hb (N := 5) hts in_X16 tyX16 tyX16_ok hown (hts _ q864) (hts _ q865) (hts _ q170) hK hH hS hA9 (ci := 3) rfl (fs := [.int 0, .int 0, .int 0, .int 0, .int 0]) df_X16 hc9 hs9 dX3_doing_135 (fun H hH hS => ?_)
        rw [← eh49] at hH
        replace hn : (n0 + 1) = n0 + (0 + 1) := by omega
        refine lv_dup hx hb dX3_doing_138 rfl ?_
        refine lv_aload_n hx hb dX3_doing_139 rfl (lv_at hl 0 rfl) ?_
        obtain ⟨x51, g50, hf⟩ := ob_bind hf
        refine xh_geti hx hb hts in_X3 hown hK hH.1 (ci := 15) rfl 7 (by decide) (hts _ q356) (fun _ h => h) g50 dX3_doing_140 ?_
        refine lv_aload_n hx hb dX3_doing_143 rfl (lv_at hl 0 rfl) ?_
        refine lv_iconst (v := 0) hx hb dX3_doing_144 (by decide) ?_
        refine lv_bipush (v := 7) hx hb dX3_doing_145 (by decide) ?_
        obtain ⟨g54, hf⟩ := ob_gp hf
        obtain ⟨q52, g53, hf⟩ := ob_bind hf
        rcases ob_tk hf with ⟨xq52, yq52, hf⟩ | ⟨v55, yq52, hf⟩
        · subst hQ
          exact xtx_i hno hlocks (xt_run (As := [.int 0, .int 7]) (rest := [.int x51, .ref n0, .ref n0]) hJ hR hJs hS ⟨hx, hb, hml, hown, hts⟩ (wkX3_number l hl9 D dA ro G J hJ h49 (n0 + 1) a0 0 7 g53) (cwV 2 hts (lw_V q579 q581 qs9 q141 q582) rfl rfl rfl cdX3_number ⟨Nat.le_of_ble_eq_true rfl, Nat.le_of_ble_eq_true rfl⟩) hK hH (of_decide_eq_true g54) (q := (RX3, TX3, 8)) rfl rfl hl.1 rfl rfl (Nat.le_of_ble_eq_true rfl) dX3_doing_147 (xg_thr hq hf)) hH hR (by omega) hn hS yq52 rfl rfl (hq.thr hf)
        · obtain ⟨r, hf, hq, hc9, hs9⟩ := hq.add hf
          refine xtc_i (xt_run (As := [.int 0, .int 7]) (rest := [.int x51, .ref n0, .ref n0]) hJ hR hJs hS ⟨hx, hb, hml, hown, hts⟩ (wkX3_number l hl9 D dA ro G J hJ h49 (n0 + 1) a0 0 7 g53) (cwV 2 hts (lw_V q579 q581 qs9 q141 q582) rfl rfl rfl cdX3_number ⟨Nat.le_of_ble_eq_true rfl, Nat.le_of_ble_eq_true rfl⟩) hK hH (of_decide_eq_true g54) (q := (RX3, TX3, 8)) rfl rfl hl.1 rfl rfl (Nat.le_of_ble_eq_true rfl) dX3_doing_147 ⟨hc9, hs9⟩) hH hR (by omega) hS yq52 (fun H locs hH hS => ?_)
          replace hn : ((n0 + 1) + q52.2.2.1) = n0 + ((0 + 1) + q52.2.2.1) := by omega
          refine lv_iconst (v := (-1)) hx hb dX3_doing_150 (by decide) ?_
          refine lv_iconst (v := (-1)) hx hb dX3_doing_151 (by decide) ?_
          refine lv_iload_n hx hb dX3_doing_152 rfl (lv_at hl 1 rfl) ?_
          obtain ⟨q56, g57, hf⟩ := ob_bind hf
          obtain ⟨r, hf, hq, hc9, hs9⟩ := hq.add hf
          refine xdc_v (xd_runIN (As := [.int x51, .int v55, .int (-1), .int (-1), .int a1]) (rest := [.ref n0]) hJ hR hJs hS ⟨hx, hb, hml, hown, hts⟩ (wkX16_init l hl9 D dA ro G J hJ q52.2.1 ((n0 + 1) + q52.2.2.1) n0 x51 v55 (-1) (-1) a1 g57) ⟨va_cnB (host := "QuarrelsPawned") 5 hts (lw_meth q868) rfl rfl rfl (hJ.nest hJs 10 rfl) (hts _ q170) cdX16_init.2 ⟨Nat.le_of_ble_eq_true rfl, Nat.le_of_ble_eq_true rfl⟩, rfl, hts _ q867⟩ hK hH hl.1 rfl rfl (Nat.le_of_ble_eq_true rfl) dX3_doing_153 ⟨hc9, hs9⟩) hH hR (by omega) hS (fun H locs hH hS => ?_)
          replace hn : (((n0 + 1) + q52.2.2.1) + q56.2.2.1) = n0 + (((0 + 1) + q52.2.2.1) + q56.2.2.1) := by omega
          subst hQ
          exact xe_ta (Or.inl ⟨_, rfl⟩) hx hb hr hlocks hH hn hS (hq.end (Option.some.inj hf)) dX3_doing_156
theorem cdX3_read : yX3_read.cls = RX3 ∧ yX3_read.cls ≠ "java/lang/invoke/MethodHandle" ∧ yX3_read.cls ≠ "java/lang/invoke/VarHandle" ∧ (parseMethodDescriptor yX3_read.desc).map (fun d => d.parameters.length) = some 0 := by decide +kernel
set_option maxHeartbeats 4000000 in
set_option maxRecDepth 100000 in
theorem wkX3_read (l : Launch) (hl9 : l.stackTraces = false) (D : va_G) (dA : Nat → ClassId) (ro : Nat → Bool) (G : Gs) (J : State → Heap → Prop) (hJ : JD ro G J) (h0 : Hv) (n0 : Nat) (a0 : Nat) {res : (Nat ⊕ Nat) × Hv × Nat × Nat} (hf : P_X3_read G ro h0 n0 a0 = some res) : vy_Met l yX3_read (ws_ yX3_read cX3_read 2 (some (Jvm.ClassFile.FieldType.object "QuarrelsPawned$Text"))) (rmD 131 4922 res.2.2.1 res.2.2.2) (Pd D dA ro J [.ref a0] h0 n0) (Qta D dA ro h0 n0 res) (Xt D dA ro h0 n0 res) res.2.2.1 res.2.2.2 (fD ro h0 n0) := by
  refine xt_head (own := RX3) (by decide) rfl (Nat.le_of_ble_eq_true rfl) ?_
  intro p e s m args below meth c ls Q hQ hname hno C hn0 hH hl
  obtain ⟨hx, hb, hr, hlocks, hml, hown, hts, hK, hJs⟩ := C
  replace hl : lv_has ls 2 [(0, .ref a0)] := hl
  have hS : va_S (fD ro h0 n0) s.heap s.heap [] := va_S.rf
  have hR : rD ro (fD ro h0 n0) n0 := fD_rD hH
  have hA9 : ∀ q, s.heap.size ≤ q → fD ro h0 n0 q := fun q hq => hR.2 q (hn0 ▸ hq)
  unfold P_X3_read at hf
  obtain ⟨r, er⟩ : ∃ r, r = res := ⟨_, rfl⟩
  have hq : qI r res 0 0 := by rw [er]; exact ⟨rfl, rfl, Nat.zero_add _, Nat.zero_add _⟩
  rw [← er] at hf
  have hn : n0 = n0 + 0 := rfl
  obtain ⟨H, eH⟩ : ∃ H, H = s.heap := ⟨_, rfl⟩
  obtain ⟨locs, eL⟩ : ∃ locs : List Loc, locs = [] := ⟨_, rfl⟩
  rw [← eL] at hS ⊢
  rw [← eH] at hH
  have hS : va_S (fD ro h0 n0) s.heap H locs := by rw [eH]; exact hS
  show W p l e (rmD 131 4922 res.2.2.1 res.2.2.2) s m args below meth c s.heap locs 0 0 Q (F0 m 0 ls [])
  rw [← eH]
  clear er
  obtain ⟨r, hf, hq, hc9, hs9⟩ := hq.add hf
  obtain ⟨h1, eh1, hf⟩ := ob_bnd hf
  refine xd_new hx hb (N := 3) hts in_X4 tyX4 tyX4_ok hown (hts _ q378) (hts _ q379) (hts _ q142) hK hH hS hA9 (ci := 2) rfl (fs := [.null, .int 0, .null]) df_X4 hc9 hs9 dX3_read_0 (fun H hH hS => ?_)
  rw [← eh1] at hH
  replace hn : (n0 + 1) = n0 + (0 + 1) := by omega
  refine lv_dup hx hb dX3_read_3 rfl ?_
  obtain ⟨q2, g3, hf⟩ := ob_bind hf
  obtain ⟨r, hf, hq, hc9, hs9⟩ := hq.add hf
  refine xdc_v (xd_runIN (As := []) (rest := [.ref n0]) hJ hR hJs hS ⟨hx, hb, hml, hown, hts⟩ (wkX4_init l hl9 D dA ro G J hJ h1 (n0 + 1) n0 g3) ⟨va_cnB (host := "QuarrelsPawned") 0 hts (lw_meth q382) rfl rfl rfl (hJ.nest hJs 0 rfl) (hts _ q142) cdX4_init.2 ⟨Nat.le_of_ble_eq_true rfl, Nat.le_of_ble_eq_true rfl⟩, rfl, hts _ q381⟩ hK hH hl.1 rfl rfl (Nat.le_of_ble_eq_true rfl) dX3_read_4 ⟨hc9, hs9⟩) hH hR (by omega) hS (fun H locs hH hS => ?_)
  replace hn : ((n0 + 1) + q2.2.2.1) = n0 + ((0 + 1) + q2.2.2.1) := by omega
  refine lv_astore_n (lv' := [(1, .ref n0), (0, .ref a0)]) hx hb dX3_read_7 rfl hl (by decide) rfl (fun ls hl => ?_)
  refine lv_aload_n hx hb dX3_read_8 rfl (lv_at hl 1 rfl) ?_
  obtain ⟨g6, hf⟩ := ob_gp hf
  obtain ⟨q4, g5, hf⟩ := ob_bind hf
  obtain ⟨r, hf, hq, hc9, hs9⟩ := hq.add hf
  refine xdc_v (xd_run (As := []) (rest := []) hJ hR hJs hS ⟨hx, hb, hml, hown, hts⟩ (wkX3_next l hl9 D dA ro G J hJ q2.2.1 ((n0 + 1) + q2.2.2.1) a0 g5) (cwV 0 hts (lw_V q426 q428 qs2 q141 q429) rfl rfl rfl cdX3_next ⟨Nat.le_of_ble_eq_true rfl, Nat.le_of_ble_eq_true rfl⟩) hK hH (of_decide_eq_true g6) (q := (RX3, TX3, 8)) rfl rfl hl.1 rfl rfl (Nat.le_of_ble_eq_true rfl) dX3_read_9 ⟨hc9, hs9⟩) hH hR (by omega) hS (fun H locs hH hS => ?_)
  replace hn : (((n0 + 1) + q2.2.2.1) + q4.2.2.1) = n0 + (((0 + 1) + q2.2.2.1) + q4.2.2.1) := by omega
  have kl12 : ∀ (f : Nat) (h7 : Hv) (n8 : Nat) (kc8 ks8 : Nat) (r : (Nat ⊕ Nat) × Hv × Nat × Nat) (H : Heap) (locs : List Loc) (ls : Array Slot), P_X3_read_l12 a0 n0 G ro f h7 n8 = some r → qI r res kc8 ks8 → n8 = n0 + kc8 → DS D dA ro h7 n8 (fD ro h0 n0) H → va_S (fD ro h0 n0) s.heap H locs → lv_has ls 2 [(0, .ref a0), (1, .ref n0)] → W p l e (rmD 131 4922 res.2.2.1 res.2.2.2) s m args below meth c H locs kc8 ks8 Q (F0 m 12 ls []) := by
    intro f
    induction f with
    | zero =>
      intro h7 n8 kc8 ks8 r H locs ls hf
      cases hf
    | succ f ihl12 =>
      intro h7 n8 kc8 ks8 r H locs ls hf hq hn hH hS hl
      obtain ⟨rl12, erl12⟩ : ∃ x, x = P_X3_read_l12 a0 n0 G ro f := ⟨_, rfl⟩
      replace hf : P_X3_read_b12 a0 n0 G ro (P_X3_read_l12 a0 n0 G ro f) h7 n8 = some r := hf
      rw [← erl12] at hf ihl12
      unfold P_X3_read_b12 at hf
      refine lv_aload_n hx hb dX3_read_12 rfl (lv_at hl 0 rfl) ?_
      obtain ⟨x10, g9, hf⟩ := ob_bind hf
      refine xh_geti hx hb hts in_X3 hown hK hH.1 (ci := 15) rfl 4 (by decide) (hts _ q353) (fun _ h => h) g9 dX3_read_13 ?_
      refine lv_sipush (v := 301) hx hb dX3_read_16 (by decide) ?_
      refine lv_icmp_eq (tgt := 173) hx hb dX3_read_19 (by decide) (fun c11 => ?_) (fun c11 => ?_)
      · replace hf := ob_t hf c11
        refine lv_aload_n hx hb dX3_read_173 rfl (lv_at hl 1 rfl) ?_
        subst hQ
        exact xe_ta (Or.inl ⟨_, rfl⟩) hx hb hr hlocks hH hn hS (hq.end (Option.some.inj hf)) dX3_read_174
      · replace hf := ob_f hf c11
        refine lv_aload_n hx hb dX3_read_22 rfl (lv_at hl 0 rfl) ?_
        obtain ⟨x13, g12, hf⟩ := ob_bind hf
        refine xh_geti hx hb hts in_X3 hown hK hH.1 (ci := 15) rfl 4 (by decide) (hts _ q353) (fun _ h => h) g12 dX3_read_23 ?_
        refine lv_sipush (v := 200) hx hb dX3_read_26 (by decide) ?_
        have kj42 : ∀ (h14 : Hv) (n15 : Nat) (kc15 ks15 : Nat) (r : (Nat ⊕ Nat) × Hv × Nat × Nat) (H : Heap) (locs : List Loc) (ls : Array Slot), P_X3_read_j42 a0 G ro h14 n15 = some r → qI r res kc15 ks15 → n15 = n0 + kc15 → DS D dA ro h14 n15 (fD ro h0 n0) H → va_S (fD ro h0 n0) s.heap H locs → lv_has ls 2 [(0, .ref a0)] → W p l e (rmD 131 4922 res.2.2.1 res.2.2.2) s m args below meth c H locs kc15 ks15 Q (F0 m 42 ls []) := by
          intro h14 n15 kc15 ks15 r H locs ls hf hq hn hH hS hl
          unfold P_X3_read_j42 at hf
          refine lv_aload_n hx hb dX3_read_42 rfl (lv_at hl 0 rfl) ?_
          refine lv_iconst (v := 1) hx hb dX3_read_43 (by decide) ?_
          obtain ⟨g18, hf⟩ := ob_gp hf
          obtain ⟨q16, g17, hf⟩ := ob_bind hf
          obtain ⟨r, hf, hq, hc9, hs9⟩ := hq.add hf
          refine xdc_a (xd_run (As := [.int 1]) (rest := []) hJ hR hJs hS ⟨hx, hb, hml, hown, hts⟩ (wkX3_wrong l hl9 D dA ro G J hJ h14 n15 a0 1 g17) (cwV 1 hts (lw_V q495 q497 qs4 q141 q498) rfl rfl rfl cdX3_wrong ⟨Nat.le_of_ble_eq_true rfl, Nat.le_of_ble_eq_true rfl⟩) hK hH (of_decide_eq_true g18) (q := (RX3, TX3, 8)) rfl rfl hl.1 rfl rfl (Nat.le_of_ble_eq_true rfl) dX3_read_44 ⟨hc9, hs9⟩) hH hR (by omega) hS (fun H locs hH hS => ?_)
          replace hn : (n15 + q16.2.2.1) = n0 + (kc15 + q16.2.2.1) := by omega
          obtain ⟨g19, hf⟩ := ob_gp hf
          obtain ⟨g199, hf⟩ := ob_gp hf
          subst hQ
          exact xt_throw hx hb hno hlocks hK hH hn hS (of_decide_eq_true g19) g199 (hq.end (Option.some.inj hf)) dX3_read_47
        refine lv_icmp_lt (tgt := 42) hx hb dX3_read_29 (by decide) (fun c20 => ?_) (fun c20 => ?_)
        · replace hf := ob_t hf c20
          exact kj42 h7 n8 _ _ r H locs ls hf hq hn hH hS (lv_sub hl [0] rfl)
        · replace hf := ob_f hf c20
          refine lv_aload_n hx hb dX3_read_32 rfl (lv_at hl 0 rfl) ?_
          obtain ⟨x22, g21, hf⟩ := ob_bind hf
          refine xh_geti hx hb hts in_X3 hown hK hH.1 (ci := 15) rfl 4 (by decide) (hts _ q353) (fun _ h => h) g21 dX3_read_33 ?_
          refine lv_sipush (v := 206) hx hb dX3_read_36 (by decide) ?_
          refine lv_icmp_le (tgt := 48) hx hb dX3_read_39 (by decide) (fun c23 => ?_) (fun c23 => ?_)
          · replace hf := ob_t hf c23
            refine lv_aload_n hx hb dX3_read_48 rfl (lv_at hl 0 rfl) ?_
            refine lv_aload_n hx hb dX3_read_49 rfl (lv_at hl 0 rfl) ?_
            obtain ⟨x25, g24, hf⟩ := ob_bind hf
            refine xh_geti hx hb hts in_X3 hown hK hH.1 (ci := 15) rfl 4 (by decide) (hts _ q353) (fun _ h => h) g24 dX3_read_50 ?_
            obtain ⟨h27, g26, hf⟩ := ob_bind hf
            refine xd_put hx hb hts in_X3 tyX3 tyX3_ok nmX3 hown hK hH hS (ci := 15) rfl 7 (by decide) (hts _ q356) (fun _ h => h) rfl (v := .int x25) rfl rfl g26 dX3_read_53 (fun H locs hH hS => ?_)
            refine lv_aload_n hx hb dX3_read_56 rfl (lv_at hl 0 rfl) ?_
            obtain ⟨x29, g28, hf⟩ := ob_bind hf
            refine xh_geti hx hb hts in_X3 hown hK hH.1 (ci := 15) rfl 7 (by decide) (hts _ q356) (fun _ h => h) g28 dX3_read_57 ?_
            refine lv_sipush (v := 201) hx hb dX3_read_60 (by decide) ?_
            have kj88 : ∀ (h30 : Hv) (n31 : Nat) (kc31 ks31 : Nat) (r : (Nat ⊕ Nat) × Hv × Nat × Nat) (H : Heap) (locs : List Loc) (ls : Array Slot), P_X3_read_j88 n0 a0 G ro rl12 h30 n31 = some r → qI r res kc31 ks31 → n31 = n0 + kc31 → DS D dA ro h30 n31 (fD ro h0 n0) H → va_S (fD ro h0 n0) s.heap H locs → lv_has ls 2 [(0, .ref a0), (1, .ref n0)] → W p l e (rmD 131 4922 res.2.2.1 res.2.2.2) s m args below meth c H locs kc31 ks31 Q (F0 m 88 ls []) := by
              intro h30 n31 kc31 ks31 r H locs ls hf hq hn hH hS hl
              unfold P_X3_read_j88 at hf
              refine lv_aload_n hx hb dX3_read_88 rfl (lv_at hl 1 rfl) ?_
              obtain ⟨x33, g32, hf⟩ := ob_bind hf
              refine xh_getiN (host := "QuarrelsPawned") hx hb hts in_X4 hown hK hH.1 (ci := 2) rfl 1 (by decide) (hJ.nest hJs 12 rfl) (fun _ h => h) g32 dX3_read_89 ?_
              refine lv_bipush (v := 24) hx hb dX3_read_92 (by decide) ?_
              refine lv_icmp_ne (tgt := 104) hx hb dX3_read_94 (by decide) (fun c34 => ?_) (fun c34 => ?_)
              · replace hf := ob_f hf c34
                refine lv_aload_n hx hb dX3_read_104 rfl (lv_at hl 0 rfl) ?_
                obtain ⟨g37, hf⟩ := ob_gp hf
                obtain ⟨q35, g36, hf⟩ := ob_bind hf
                obtain ⟨r, hf, hq, hc9, hs9⟩ := hq.add hf
                refine xdc_v (xd_run (As := []) (rest := []) hJ hR hJs hS ⟨hx, hb, hml, hown, hts⟩ (wkX3_next l hl9 D dA ro G J hJ h30 n31 a0 g36) (cwV 0 hts (lw_V q426 q428 qs2 q141 q429) rfl rfl rfl cdX3_next ⟨Nat.le_of_ble_eq_true rfl, Nat.le_of_ble_eq_true rfl⟩) hK hH (of_decide_eq_true g37) (q := (RX3, TX3, 8)) rfl rfl hl.1 rfl rfl (Nat.le_of_ble_eq_true rfl) dX3_read_105 ⟨hc9, hs9⟩) hH hR (by omega) hS (fun H locs hH hS => ?_)
                replace hn : (n31 + q35.2.2.1) = n0 + (kc31 + q35.2.2.1) := by omega
                refine lv_aload_n hx hb dX3_read_108 rfl (lv_at hl 0 rfl) ?_
                obtain ⟨x39, g38, hf⟩ := ob_bind hf
                refine xh_geti hx hb hts in_X3 hown hK hH.1 (ci := 15) rfl 7 (by decide) (hts _ q356) (fun _ h => h) g38 dX3_read_109 ?_
                refine lv_sipush (v := 201) hx hb dX3_read_112 (by decide) ?_
                have kj154 : ∀ (h40 : Hv) (n41 : Nat) (kc41 ks41 : Nat) (r : (Nat ⊕ Nat) × Hv × Nat × Nat) (H : Heap) (locs : List Loc) (ls : Array Slot), P_X3_read_j154 a0 G ro n0 rl12 h40 n41 = some r → qI r res kc41 ks41 → n41 = n0 + kc41 → DS D dA ro h40 n41 (fD ro h0 n0) H → va_S (fD ro h0 n0) s.heap H locs → lv_has ls 2 [(0, .ref a0), (1, .ref n0)] → W p l e (rmD 131 4922 res.2.2.1 res.2.2.2) s m args below meth c H locs kc41 ks41 Q (F0 m 154 ls []) := by
                  intro h40 n41 kc41 ks41 r H locs ls hf hq hn hH hS hl
                  unfold P_X3_read_j154 at hf
                  refine lv_aload_n hx hb dX3_read_154 rfl (lv_at hl 0 rfl) ?_
                  refine lv_bipush (v := 59) hx hb dX3_read_155 (by decide) ?_
                  obtain ⟨g44, hf⟩ := ob_gp hf
                  obtain ⟨q42, g43, hf⟩ := ob_bind hf
                  rcases ob_tk hf with ⟨xq42, yq42, hf⟩ | ⟨v45, yq42, hf⟩
                  · subst hQ
                    exact xtx_v hno hlocks (xt_run (As := [.int 59]) (rest := []) hJ hR hJs hS ⟨hx, hb, hml, hown, hts⟩ (wkX3_want l hl9 D dA ro G J hJ h40 n41 a0 59 g43) (cwV 1 hts (lw_V q734 q736 qs18 q141 q737) rfl rfl rfl cdX3_want ⟨Nat.le_of_ble_eq_true rfl, Nat.le_of_ble_eq_true rfl⟩) hK hH (of_decide_eq_true g44) (q := (RX3, TX3, 8)) rfl rfl hl.1 rfl rfl (Nat.le_of_ble_eq_true rfl) dX3_read_157 (xg_thr hq hf)) hH hR (by omega) hn hS yq42 rfl rfl (hq.thr hf)
                  · obtain ⟨r, hf, hq, hc9, hs9⟩ := hq.add hf
                    refine xtc_v (xt_run (As := [.int 59]) (rest := []) hJ hR hJs hS ⟨hx, hb, hml, hown, hts⟩ (wkX3_want l hl9 D dA ro G J hJ h40 n41 a0 59 g43) (cwV 1 hts (lw_V q734 q736 qs18 q141 q737) rfl rfl rfl cdX3_want ⟨Nat.le_of_ble_eq_true rfl, Nat.le_of_ble_eq_true rfl⟩) hK hH (of_decide_eq_true g44) (q := (RX3, TX3, 8)) rfl rfl hl.1 rfl rfl (Nat.le_of_ble_eq_true rfl) dX3_read_157 ⟨hc9, hs9⟩) hH hR (by omega) hS yq42 (fun H locs hH hS => ?_)
                    replace hn : (n41 + q42.2.2.1) = n0 + (kc41 + q42.2.2.1) := by omega
                    refine lv_aload_n hx hb dX3_read_160 rfl (lv_at hl 1 rfl) ?_
                    refine lv_dup hx hb dX3_read_161 rfl ?_
                    obtain ⟨x47, g46, hf⟩ := ob_bind hf
                    refine xh_getiN (host := "QuarrelsPawned") hx hb hts in_X4 hown hK hH.1 (ci := 2) rfl 1 (by decide) (hJ.nest hJs 12 rfl) (fun _ h => h) g46 dX3_read_162 ?_
                    refine lv_iconst (v := 1) hx hb dX3_read_165 (by decide) ?_
                    refine lv_iadd hx hb dX3_read_166 ?_
                    obtain ⟨h49, g48, hf⟩ := ob_bind hf
                    refine xd_putN (host := "QuarrelsPawned") hx hb hts in_X4 tyX4 tyX4_ok nmX4 hown hK hH hS (ci := 2) rfl 1 (by decide) (hJ.nest hJs 12 rfl) (fun _ h => h) rfl (v := .int (x47 + 1)) rfl rfl g48 dX3_read_167 (fun H locs hH hS => ?_)
                    refine lv_goto (tgt := 12) hx hb dX3_read_170 (by decide) ?_
                    exact ihl12 h49 (n41 + q42.2.2.1) _ _ r H locs ls hf hq hn hH hS (lv_sub hl [0, 1] rfl)
                refine lv_icmp_gt (tgt := 138) hx hb dX3_read_115 (by decide) (fun c50 => ?_) (fun c50 => ?_)
                · replace hf := ob_t hf c50
                  refine lv_aload_n hx hb dX3_read_138 rfl (lv_at hl 1 rfl) ?_
                  obtain ⟨r52, g51, hf⟩ := ob_bind hf
                  refine xh_getrN (host := "QuarrelsPawned") hx hb hts in_X4 hown hK hH.1 (ci := 2) rfl 2 (by decide) (hJ.nest hJs 13 rfl) (fun _ h => h) g51 dX3_read_139 ?_
                  refine lv_aload_n hx hb dX3_read_142 rfl (lv_at hl 0 rfl) ?_
                  refine lv_aload_n hx hb dX3_read_143 rfl (lv_at hl 1 rfl) ?_
                  obtain ⟨x54, g53, hf⟩ := ob_bind hf
                  refine xh_getiN (host := "QuarrelsPawned") hx hb hts in_X4 hown hK hH.1 (ci := 2) rfl 1 (by decide) (hJ.nest hJs 12 rfl) (fun _ h => h) g53 dX3_read_144 ?_
                  obtain ⟨g57, hf⟩ := ob_gp hf
                  obtain ⟨q55, g56, hf⟩ := ob_bind hf
                  rcases ob_tk hf with ⟨xq55, yq55, hf⟩ | ⟨v58, yq55, hf⟩
                  · subst hQ
                    exact xtx_a hno hlocks (xt_run (As := [.int x54]) (rest := [.ref r52]) hJ hR hJs hS ⟨hx, hb, hml, hown, hts⟩ (wkX3_doing l hl9 D dA ro G J hJ q35.2.1 (n31 + q35.2.2.1) a0 x54 g56) (cwV 1 hts (lw_V q860 q862 qs22 q141 q863) rfl rfl rfl cdX3_doing ⟨Nat.le_of_ble_eq_true rfl, Nat.le_of_ble_eq_true rfl⟩) hK hH (of_decide_eq_true g57) (q := (RX3, TX3, 8)) rfl rfl hl.1 rfl rfl (Nat.le_of_ble_eq_true rfl) dX3_read_147 (xg_thr hq hf)) hH hR (by omega) hn hS yq55 rfl rfl (hq.thr hf)
                  · obtain ⟨r, hf, hq, hc9, hs9⟩ := hq.add hf
                    refine xtc_a (xt_run (As := [.int x54]) (rest := [.ref r52]) hJ hR hJs hS ⟨hx, hb, hml, hown, hts⟩ (wkX3_doing l hl9 D dA ro G J hJ q35.2.1 (n31 + q35.2.2.1) a0 x54 g56) (cwV 1 hts (lw_V q860 q862 qs22 q141 q863) rfl rfl rfl cdX3_doing ⟨Nat.le_of_ble_eq_true rfl, Nat.le_of_ble_eq_true rfl⟩) hK hH (of_decide_eq_true g57) (q := (RX3, TX3, 8)) rfl rfl hl.1 rfl rfl (Nat.le_of_ble_eq_true rfl) dX3_read_147 ⟨hc9, hs9⟩) hH hR (by omega) hS yq55 (fun H locs hH hS => ?_)
                    replace hn : ((n31 + q35.2.2.1) + q55.2.2.1) = n0 + ((kc31 + q35.2.2.1) + q55.2.2.1) := by omega
                    obtain ⟨g61, hf⟩ := ob_gp hf
                    obtain ⟨q59, g60, hf⟩ := ob_bind hf
                    obtain ⟨r, hf, hq, hc9, hs9⟩ := hq.add hf
                    refine xdc_z (xd_run (As := [.ref v58]) (rest := []) hJ hR hJs hS ⟨hx, hb, hml, hown, hts⟩ (wkJ3_add l hl9 D dA ro G J hJ q55.2.1 ((n31 + q35.2.2.1) + q55.2.2.1) r52 v58 g60) (cwV 1 hts (lw_V q642 q643 q644 q145 q645) rfl rfl rfl cdJ3_add ⟨Nat.le_of_ble_eq_true rfl, Nat.le_of_ble_eq_true rfl⟩) hK hH (of_decide_eq_true g61) (q := (RJ3, TJ3, 3)) rfl rfl hl.1 rfl rfl (Nat.le_of_ble_eq_true rfl) dX3_read_150 ⟨hc9, hs9⟩) hH hR (by omega) hS (fun H locs zq59 hH hS => ?_)
                    replace hn : (((n31 + q35.2.2.1) + q55.2.2.1) + q59.2.2.1) = n0 + (((kc31 + q35.2.2.1) + q55.2.2.1) + q59.2.2.1) := by omega
                    refine lv_pop hx hb dX3_read_153 rfl ?_
                    exact kj154 q59.2.1 (((n31 + q35.2.2.1) + q55.2.2.1) + q59.2.2.1) _ _ r H locs ls hf hq hn hH hS (lv_sub hl [0, 1] rfl)
                · replace hf := ob_f hf c50
                  refine lv_aload_n hx hb dX3_read_118 rfl (lv_at hl 1 rfl) ?_
                  obtain ⟨r63, g62, hf⟩ := ob_bind hf
                  refine xh_getrN (host := "QuarrelsPawned") hx hb hts in_X4 hown hK hH.1 (ci := 2) rfl 0 (by decide) (hJ.nest hJs 11 rfl) (fun _ h => h) g62 dX3_read_119 ?_
                  refine lv_aload_n hx hb dX3_read_122 rfl (lv_at hl 0 rfl) ?_
                  obtain ⟨x65, g64, hf⟩ := ob_bind hf
                  refine xh_geti hx hb hts in_X3 hown hK hH.1 (ci := 15) rfl 7 (by decide) (hts _ q356) (fun _ h => h) g64 dX3_read_123 ?_
                  refine lv_sipush (v := 200) hx hb dX3_read_126 (by decide) ?_
                  refine lv_isub hx hb dX3_read_129 ?_
                  refine lv_aload_n hx hb dX3_read_130 rfl (lv_at hl 0 rfl) ?_
                  obtain ⟨g68, hf⟩ := ob_gp hf
                  obtain ⟨q66, g67, hf⟩ := ob_bind hf
                  rcases ob_tk hf with ⟨xq66, yq66, hf⟩ | ⟨v69, yq66, hf⟩
                  · subst hQ
                    exact xtx_a hno hlocks (xt_run (As := []) (rest := [.int (x65 - 200), .ref r63]) hJ hR hJs hS ⟨hx, hb, hml, hown, hts⟩ (show vy_Met _ yX3_sum _ _ _ _ _ _ _ _ from wk_rec l hl9 D dA ro G J hJ 100 0 q35.2.1 (n31 + q35.2.2.1) a0 _ g67) (cwV 0 hts (lw_V q563 q565 qs6 q141 q566) rfl rfl rfl cdX3_sum ⟨Nat.le_of_ble_eq_true rfl, Nat.le_of_ble_eq_true rfl⟩) hK hH (of_decide_eq_true g68) (q := (RX3, TX3, 8)) rfl rfl hl.1 rfl rfl (Nat.le_of_ble_eq_true rfl) dX3_read_131 (xg_thr hq hf)) hH hR (by omega) hn hS yq66 rfl rfl (hq.thr hf)
                  · obtain ⟨r, hf, hq, hc9, hs9⟩ := hq.add hf
                    refine xtc_a (xt_run (As := []) (rest := [.int (x65 - 200), .ref r63]) hJ hR hJs hS ⟨hx, hb, hml, hown, hts⟩ (show vy_Met _ yX3_sum _ _ _ _ _ _ _ _ from wk_rec l hl9 D dA ro G J hJ 100 0 q35.2.1 (n31 + q35.2.2.1) a0 _ g67) (cwV 0 hts (lw_V q563 q565 qs6 q141 q566) rfl rfl rfl cdX3_sum ⟨Nat.le_of_ble_eq_true rfl, Nat.le_of_ble_eq_true rfl⟩) hK hH (of_decide_eq_true g68) (q := (RX3, TX3, 8)) rfl rfl hl.1 rfl rfl (Nat.le_of_ble_eq_true rfl) dX3_read_131 ⟨hc9, hs9⟩) hH hR (by omega) hS yq66 (fun H locs hH hS => ?_)
                    replace hn : ((n31 + q35.2.2.1) + q66.2.2.1) = n0 + ((kc31 + q35.2.2.1) + q66.2.2.1) := by omega
                    obtain ⟨g70, hf⟩ := ob_gp hf
                    obtain ⟨g71, hf⟩ := ob_gp hf
                    obtain ⟨h73, g72, hf⟩ := ob_bind hf
                    obtain ⟨C74, cC74, dC74⟩ := xd_isS hK hH.1 (hJ.f hJs).1 g70
                    refine xd_aast hx hb 7 4 rfl hK hH hS cC74 dC74 (j := (x65 - 200).toNatClampNeg) (xg_nn g71) rfl g72 dX3_read_134 (fun H locs hH hS => ?_)
                    refine lv_goto (tgt := 154) hx hb dX3_read_135 (by decide) ?_
                    exact kj154 h73 ((n31 + q35.2.2.1) + q66.2.2.1) _ _ r H locs ls hf hq hn hH hS (lv_sub hl [0, 1] rfl)
              · replace hf := ob_t hf c34
                refine lv_aload_n hx hb dX3_read_97 rfl (lv_at hl 0 rfl) ?_
                refine lv_bipush (v := 6) hx hb dX3_read_98 (by decide) ?_
                obtain ⟨g77, hf⟩ := ob_gp hf
                obtain ⟨q75, g76, hf⟩ := ob_bind hf
                obtain ⟨r, hf, hq, hc9, hs9⟩ := hq.add hf
                refine xdc_a (xd_run (As := [.int 6]) (rest := []) hJ hR hJs hS ⟨hx, hb, hml, hown, hts⟩ (wkX3_wrong l hl9 D dA ro G J hJ h30 n31 a0 6 g76) (cwV 1 hts (lw_V q495 q497 qs4 q141 q498) rfl rfl rfl cdX3_wrong ⟨Nat.le_of_ble_eq_true rfl, Nat.le_of_ble_eq_true rfl⟩) hK hH (of_decide_eq_true g77) (q := (RX3, TX3, 8)) rfl rfl hl.1 rfl rfl (Nat.le_of_ble_eq_true rfl) dX3_read_100 ⟨hc9, hs9⟩) hH hR (by omega) hS (fun H locs hH hS => ?_)
                replace hn : (n31 + q75.2.2.1) = n0 + (kc31 + q75.2.2.1) := by omega
                obtain ⟨g78, hf⟩ := ob_gp hf
                obtain ⟨g789, hf⟩ := ob_gp hf
                subst hQ
                exact xt_throw hx hb hno hlocks hK hH hn hS (of_decide_eq_true g78) g789 (hq.end (Option.some.inj hf)) dX3_read_103
            refine lv_icmp_gt (tgt := 88) hx hb dX3_read_63 (by decide) (fun c79 => ?_) (fun c79 => ?_)
            · replace hf := ob_t hf c79
              exact kj88 h27 n8 _ _ r H locs ls hf hq hn hH hS (lv_sub hl [0, 1] rfl)
            · replace hf := ob_f hf c79
              refine lv_aload_n hx hb dX3_read_66 rfl (lv_at hl 1 rfl) ?_
              obtain ⟨r81, g80, hf⟩ := ob_bind hf
              refine xh_getrN (host := "QuarrelsPawned") hx hb hts in_X4 hown hK hH.1 (ci := 2) rfl 0 (by decide) (hJ.nest hJs 11 rfl) (fun _ h => h) g80 dX3_read_67 ?_
              refine lv_aload_n hx hb dX3_read_70 rfl (lv_at hl 0 rfl) ?_
              obtain ⟨x83, g82, hf⟩ := ob_bind hf
              refine xh_geti hx hb hts in_X3 hown hK hH.1 (ci := 15) rfl 7 (by decide) (hts _ q356) (fun _ h => h) g82 dX3_read_71 ?_
              refine lv_sipush (v := 200) hx hb dX3_read_74 (by decide) ?_
              refine lv_isub hx hb dX3_read_77 ?_
              obtain ⟨y85, g86, hf⟩ := ob_bind hf
              obtain ⟨h84, hf⟩ := ob_gd hf
              refine xh_aald hx hb hK hH.1 7 4 rfl g86 (j := (x83 - 200).toNatClampNeg) h84 rfl dX3_read_78 ?_
              refine xr_ifnull (tgt := 88) hx hb dX3_read_79 (by decide) (fun c87 => ?_) (fun c87 => ?_)
              · replace hf := ob_t hf c87
                exact kj88 h27 n8 _ _ r H locs ls hf hq hn hH hS (lv_sub hl [0, 1] rfl)
              · replace hf := ob_f hf c87
                refine lv_aload_n hx hb dX3_read_82 rfl (lv_at hl 0 rfl) ?_
                refine lv_iconst (v := 4) hx hb dX3_read_83 (by decide) ?_
                obtain ⟨g90, hf⟩ := ob_gp hf
                obtain ⟨q88, g89, hf⟩ := ob_bind hf
                obtain ⟨r, hf, hq, hc9, hs9⟩ := hq.add hf
                refine xdc_a (xd_run (As := [.int 4]) (rest := []) hJ hR hJs hS ⟨hx, hb, hml, hown, hts⟩ (wkX3_wrong l hl9 D dA ro G J hJ h27 n8 a0 4 g89) (cwV 1 hts (lw_V q495 q497 qs4 q141 q498) rfl rfl rfl cdX3_wrong ⟨Nat.le_of_ble_eq_true rfl, Nat.le_of_ble_eq_true rfl⟩) hK hH (of_decide_eq_true g90) (q := (RX3, TX3, 8)) rfl rfl hl.1 rfl rfl (Nat.le_of_ble_eq_true rfl) dX3_read_84 ⟨hc9, hs9⟩) hH hR (by omega) hS (fun H locs hH hS => ?_)
                replace hn : (n8 + q88.2.2.1) = n0 + (kc8 + q88.2.2.1) := by omega
                obtain ⟨g91, hf⟩ := ob_gp hf
                obtain ⟨g919, hf⟩ := ob_gp hf
                subst hQ
                exact xt_throw hx hb hno hlocks hK hH hn hS (of_decide_eq_true g91) g919 (hq.end (Option.some.inj hf)) dX3_read_87
          · replace hf := ob_f hf c23
            exact kj42 h7 n8 _ _ r H locs ls hf hq hn hH hS (lv_sub hl [0] rfl)
  exact kl12 400 q4.2.1 (((n0 + 1) + q2.2.2.1) + q4.2.2.1) _ _ r H locs ls hf hq hn hH hS (lv_sub hl [1, 0] rfl)
