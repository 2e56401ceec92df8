/-! reading literals (printed by gens.py) -/
theorem O_cR {a b : Int32} {t : Nat} {r : Int32} (h : O_J6_checkIndex a b = some r) : O_J6_checkIndexR a b t = some r := h
def Qrv : Array Value → State → Outcome → State → Prop := va_Qv (fun (_ : Unit) => True) (fun _ _ => True) nA
section XS
variable {p : Program} {l : Launch} {e : Env} {R : Room} {s : State} {m : MethodId} {args : Array Value} {below : List Frame} {meth : Method} {c : Code} {H : Heap} {locs : List Loc} {cells slots : Nat} {Q : State → Prop}
variable {cc : ByteArray} {pc : Nat} {ls : Array Slot} {rest st0 : List Value} {A : Nat → Prop} {H0 : Heap}
variable {D : va_G} {dA : Nat → ClassId} {h : Hv} {J : State → Heap → Prop} {G : Gs}
variable {y : MethodName} {bytes : ByteArray} {maxL nL n index : Nat} {ret : Option FieldType} {rm : Room} {own C : String} {As : List Value}
theorem xs_runK {Qc : Array Value → State → Outcome → State → Prop} (hJ : JR J) (hJs : J s s.heap) (hS : va_S nA s.heap H locs) (S : CallFix p m c cc nL s args lw_all own) (hZ : ZG G nA s s.heap) {i : Nat} (hi : i < 25) (hM : Met l y (ws_ y bytes maxL ret) rm (Pr D dA J (Value.ref (gK G i) :: As) h) Qc 0 0 nA) (cw : CallW R s args own "java/lang/String" index y bytes maxL ret (ws_ y bytes maxL ret) rm 0 0 n) (hK : va_K D clX (tyX dA) s) (hH : HF D dA h H)
    (hsz : ls.size = nL) (hn : As.length = n) (hst : st0 = As.reverse ++ .ref (gK G i) :: rest) (hW : (rest.map fun v => v.category).sum ≤ 8) (hdg : decode cc pc = .ok (.invokevirtual index, 3)) (hf : cells ≤ R.cells ∧ slots ≤ R.slots) :
    va_Run p l e R s m args below meth c H locs cells slots 0 0 (F0 m pc ls st0) rest (Qc (Value.ref (gK G i) :: As).toArray) nA :=
  va_runV S hM cw ⟨Pr_blind hJ, vk_recv hZ.2.2.2.2.2.2.2.2.2.2.2.2.1 hi hS, fun U hU hW9 => ⟨rfl, by rw [hU]; exact hH, va_K.moved hW9.alike hK, by rw [hU]; exact hJ.1 s U H hW9 (hJ.at hJs hS)⟩⟩ rfl hn hsz hst (lv_room hW) hdg hf
theorem xh_v {a : Array Value} (hr : va_Run p l e R s m args below meth c H locs cells slots 0 0 (F0 m pc ls st0) rest (Qrv a) nA) (hH : HF D dA h H) (hS : va_S nA s.heap H locs)
    (kk : ∀ (H1 : Heap) (locs1 : List Loc), HF D dA h H1 → va_S nA s.heap H1 locs1 → W p l e R s m args below meth c H1 locs1 cells slots Q (F0 m (pc + 3) ls rest)) : W p l e R s m args below meth c H locs cells slots Q (F0 m pc ls st0) := by
  refine va_callv hr hS (fun q _ h => h.elim) (fun _ h => h.elim) (fun u t H1 locs1 ht _ hp _ hz hk hS1 => ?_)
  exact kk H1 locs1 (hH.kept (fun q hq _ => hk q hq (fun z => z))) hS1
theorem xg_v (hexec : p.tables.exec = Jvm.exec) (hb : c.code = cc) (hr : meth.sig.returnType = none) (hlocks : meth.locks = false) (hS : va_S nA s.heap H locs) (hdg : decode cc pc = .ok (.return_, 1)) : W p l e R s m args below meth c H locs cells slots (MQ below Qrv args s cells slots nA) (F0 m pc ls []) :=
  W.vret hexec hb hr (fun t ht _ => ⟨⟨(), rfl, trivial, trivial⟩, hS.F ht⟩) hS.2.2 hdg hlocks
theorem xg_n (hexec : p.tables.exec = Jvm.exec) (hb : c.code = cc) {ty : FieldType} (hr : meth.sig.returnType = some ty) {v : Int32} (hn : narrow ty (.int v) = .int v) (hlocks : meth.locks = false) (hS : va_S nA s.heap H locs) (hdg : decode cc pc = .ok (.ireturn, 1)) : W p l e R s m args below meth c H locs cells slots (MQ below (Qri v) args s cells slots nA) (F0 m pc ls [.int v]) :=
  W.zret hexec hb hr hn (fun t ht _ => ⟨⟨v, (), rfl, rfl, trivial⟩, hS.F ht⟩) hS.2.2 hdg hlocks
theorem xg_narB {v : Int32} (h : v.toInt8.toInt32 = v) : narrow .byte (.int v) = .int v := congrArg Value.int h
theorem xg_narC {v : Int32} (h : (v.toUInt32 % 65536).toInt32 = v) : narrow .char (.int v) = .int v := congrArg Value.int h
theorem xs_tb (hexec : p.tables.exec = Jvm.exec) (hb : c.code = cc) {t N : Nat} {f : Nat → Int32} (hT : va_T .byte t N (fun j => .int (f j)) A s s.heap) (hS : va_S A s.heap H locs) {i : Int32} (hin : vp_in i N) (hdg : decode cc pc = .ok (.baload, 1))
    (kk : W p l e R s m args below meth c H locs cells slots Q (F0 m (pc + 1) ls (.int (f i.toNatClampNeg) :: rest))) : W p l e R s m args below meth c H locs cells slots Q (F0 m pc ls (.int i :: .ref t :: rest)) := by
  obtain ⟨cell, h1, h2, h3, h4, h5, h6, h7⟩ := hT
  have hlt : i.toNatClampNeg < N := Nat.not_le.mp fun q => hin (Or.inr q)
  have hin' : ¬ (i < 0 ∨ cell.slots.size ≤ i.toNatClampNeg) := by
    intro q
    rcases q with q | q
    · exact hin (Or.inl q)
    · omega
  exact W.bald (v := .int (f i.toNatClampNeg)) hexec hb (by rw [hS.2.1 t (Array.getElem?_eq_some_iff.mp h1).1 h7]; exact h1) h2 h3 hin' (by rw [h6 _ hlt]) rfl rfl hdg kk
end XS
noncomputable def O_J4_coder (a0 : Nat) : Option (Int32) := (if (1 : Int32) = 0 then gp (decide ((1 : Int32).toInt8.toInt32 = (1 : Int32))) (some 1) else gp (decide ((0 : Int32).toInt8.toInt32 = (0 : Int32))) (some 0))
noncomputable def O_J4_isLatin1 (a0 : Nat) : Option (Int32) := (if (1 : Int32) = 0 then some 0 else (if (0 : Int32) = 0 then some 1 else some 0))
noncomputable def O_J4_length (a0 : Nat) : Option (Int32) := (O_J4_coder a0).bind (fun (q1 : Int32) => some ((Int32.ofNat (lnX.getD a0 0)) >>> (q1 &&& 31)))
noncomputable def O_J4_checkIndex (a0 : Int32) (a1 : Int32) : Option (Unit) := (O_J6_checkIndex a0 a1).bind (fun (q1 : Int32) => some ())
noncomputable def O_J5_charAt (a0 : Nat) (a1 : Int32) : Option (Int32) := (O_J4_checkIndex a1 (Int32.ofNat (lnX.getD a0 0))).bind (fun (q1 : Unit) => gd a1 (lnX.getD a0 0) (gp (decide (((((((byX.getD a0 []).getD a1.toNatClampNeg 0) &&& 255).toUInt32 % 65536).toInt32).toUInt32 % 65536).toInt32 = (((((byX.getD a0 []).getD a1.toNatClampNeg 0) &&& 255).toUInt32 % 65536).toInt32))) (some (((((byX.getD a0 []).getD a1.toNatClampNeg 0) &&& 255).toUInt32 % 65536).toInt32))))
noncomputable def O_J4_charAt (a0 : Nat) (a1 : Int32) : Option (Int32) := (O_J4_isLatin1 a0).bind (fun (q1 : Int32) => (if q1 = 0 then none else (O_J5_charAt a0 a1).bind (fun (q4 : Int32) => gp (decide ((q4.toUInt32 % 65536).toInt32 = q4)) (some q4))))
abbrev rmJ4_coder : Room := { frames := 0, cells := 0, slots := 0, locals := 0 }
theorem cdJ4_coder : yJ4_coder.cls = RJ4 ∧ yJ4_coder.cls ≠ "java/lang/invoke/MethodHandle" ∧ yJ4_coder.cls ≠ "java/lang/invoke/VarHandle" ∧ (parseMethodDescriptor yJ4_coder.desc).map (fun d => d.parameters.length) = some 0 := by decide +kernel
set_option maxHeartbeats 4000000 in
set_option maxRecDepth 100000 in
theorem wkJ4_coder (l : Launch) (D : va_G) (dA : Nat → ClassId) (J : State → Heap → Prop) (ro : Nat → Bool) (G : Gs) (hJD : JD ro G J) (h : Hv) (a0 : Nat) (ha0 : a0 < 25) {res : Int32} (hf : O_J4_coder a0 = some res) : Met l yJ4_coder (ws_ yJ4_coder cJ4_coder 1 (some .byte)) rmJ4_coder (Pr D dA J [.ref (gK G a0)] h) (Qri res) 0 0 nA := by
  have hJ : JR J := hJD.jr
  refine xh_head (own := RJ4) (by decide) rfl (Nat.le_of_ble_eq_true rfl) ?_
  intro p e s m args below meth c ls Q hQ C hP hl
  obtain ⟨hx, hb, hr, hlocks, hml, hown, hts, hK, hJs⟩ := C
  have hZ : ZG G nA s s.heap := (hJD.f hJs).2.2.2.2.1.narrow (fun _ z => z.elim)
  replace hl : lv_has ls 1 [(0, .ref (gK G a0))] := hl
  have hS : va_S nA s.heap s.heap [] := va_S.rf
  unfold O_J4_coder at hf
  obtain ⟨H, eH⟩ : ∃ H, H = s.heap := ⟨_, rfl⟩
  obtain ⟨locs, eL⟩ : ∃ locs : List Loc, locs = [] := ⟨_, rfl⟩
  rw [← eL] at hS ⊢
  rw [← eH] at hP
  have hS : va_S nA s.heap H locs := by rw [eH]; exact hS
  show W p l e rmJ4_coder s m args below meth c s.heap locs 0 0 Q (F0 m 0 ls [])
  rw [← eH]
  refine va_gets hx hb hZ.2.2.2.2.2.2.2.2.1 hS hown (hts _ q447) (fun _ h => h) dJ4_coder_0 ?_
  refine lv_if_eq (tgt := 13) hx hb dJ4_coder_3 (by decide) (fun c1 => ?_) (fun c1 => ?_)
  · replace hf := ob_t hf c1
    refine lv_iconst (v := 1) hx hb dJ4_coder_13 (by decide) ?_
    obtain ⟨g2, hf⟩ := ob_gp hf
    obtain rfl := ob_s hf
    subst hQ
    exact xg_n hx hb hr (xg_narB (of_decide_eq_true g2)) hlocks hS dJ4_coder_14
  · replace hf := ob_f hf c1
    refine lv_aload_n hx hb dJ4_coder_6 rfl (lv_at hl 0 rfl) ?_
    refine vk_getf hx hb (hZ.2.2.2.2.2.2.2.2.2.2.2.2.1.1 _ ha0).2.1 hS hown (hts _ q2133) (fun _ h => h) dJ4_coder_7 ?_
    refine lv_goto (tgt := 14) hx hb dJ4_coder_10 (by decide) ?_
    obtain ⟨g3, hf⟩ := ob_gp hf
    obtain rfl := ob_s hf
    subst hQ
    exact xg_n hx hb hr (xg_narB (of_decide_eq_true g3)) hlocks hS dJ4_coder_14
abbrev rmJ4_isLatin1 : Room := { frames := 0, cells := 0, slots := 0, locals := 0 }
theorem cdJ4_isLatin1 : yJ4_isLatin1.cls = RJ4 ∧ yJ4_isLatin1.cls ≠ "java/lang/invoke/MethodHandle" ∧ yJ4_isLatin1.cls ≠ "java/lang/invoke/VarHandle" ∧ (parseMethodDescriptor yJ4_isLatin1.desc).map (fun d => d.parameters.length) = some 0 := by decide +kernel
set_option maxHeartbeats 4000000 in
set_option maxRecDepth 100000 in
theorem wkJ4_isLatin1 (l : Launch) (D : va_G) (dA : Nat → ClassId) (J : State → Heap → Prop) (ro : Nat → Bool) (G : Gs) (hJD : JD ro G J) (h : Hv) (a0 : Nat) (ha0 : a0 < 25) {res : Int32} (hf : O_J4_isLatin1 a0 = some res) : Met l yJ4_isLatin1 (ws_ yJ4_isLatin1 cJ4_isLatin1 1 (some .boolean)) rmJ4_isLatin1 (Pr D dA J [.ref (gK G a0)] h) (Qrz res) 0 0 nA := by
  have hJ : JR J := hJD.jr
  refine xh_head (own := RJ4) (by decide) rfl (Nat.le_of_ble_eq_true rfl) ?_
  intro p e s m args below meth c ls Q hQ C hP hl
  obtain ⟨hx, hb, hr, hlocks, hml, hown, hts, hK, hJs⟩ := C
  have hZ : ZG G nA s s.heap := (hJD.f hJs).2.2.2.2.1.narrow (fun _ z => z.elim)
  replace hl : lv_has ls 1 [(0, .ref (gK G a0))] := hl
  have hS : va_S nA s.heap s.heap [] := va_S.rf
  unfold O_J4_isLatin1 at hf
  obtain ⟨H, eH⟩ : ∃ H, H = s.heap := ⟨_, rfl⟩
  obtain ⟨locs, eL⟩ : ∃ locs : List Loc, locs = [] := ⟨_, rfl⟩
  rw [← eL] at hS ⊢
  rw [← eH] at hP
  have hS : va_S nA s.heap H locs := by rw [eH]; exact hS
  show W p l e rmJ4_isLatin1 s m args below meth c s.heap locs 0 0 Q (F0 m 0 ls [])
  rw [← eH]
  refine va_gets hx hb hZ.2.2.2.2.2.2.2.2.1 hS hown (hts _ q447) (fun _ h => h) dJ4_isLatin1_0 ?_
  refine lv_if_eq (tgt := 17) hx hb dJ4_isLatin1_3 (by decide) (fun c1 => ?_) (fun c1 => ?_)
  · replace hf := ob_t hf c1
    refine lv_iconst (v := 0) hx hb dJ4_isLatin1_17 (by decide) ?_
    obtain rfl := ob_s hf
    subst hQ
    exact xg_z hx hb hr hlocks hS (Or.inl rfl) dJ4_isLatin1_18
  · replace hf := ob_f hf c1
    refine lv_aload_n hx hb dJ4_isLatin1_6 rfl (lv_at hl 0 rfl) ?_
    refine vk_getf hx hb (hZ.2.2.2.2.2.2.2.2.2.2.2.2.1.1 _ ha0).2.1 hS hown (hts _ q2133) (fun _ h => h) dJ4_isLatin1_7 ?_
    refine lv_if_ne (tgt := 17) hx hb dJ4_isLatin1_10 (by decide) (fun c2 => ?_) (fun c2 => ?_)
    · replace hf := ob_f hf c2
      refine lv_iconst (v := 0) hx hb dJ4_isLatin1_17 (by decide) ?_
      obtain rfl := ob_s hf
      subst hQ
      exact xg_z hx hb hr hlocks hS (Or.inl rfl) dJ4_isLatin1_18
    · replace hf := ob_t hf c2
      refine lv_iconst (v := 1) hx hb dJ4_isLatin1_13 (by decide) ?_
      refine lv_goto (tgt := 18) hx hb dJ4_isLatin1_14 (by decide) ?_
      obtain rfl := ob_s hf
      subst hQ
      exact xg_z hx hb hr hlocks hS (Or.inr rfl) dJ4_isLatin1_18
abbrev rmJ4_length : Room := { frames := 1, cells := 0, slots := 0, locals := 20 }
theorem cdJ4_length : yJ4_length.cls = RJ4 ∧ yJ4_length.cls ≠ "java/lang/invoke/MethodHandle" ∧ yJ4_length.cls ≠ "java/lang/invoke/VarHandle" ∧ (parseMethodDescriptor yJ4_length.desc).map (fun d => d.parameters.length) = some 0 := by decide +kernel
set_option maxHeartbeats 4000000 in
set_option maxRecDepth 100000 in
theorem wkJ4_length (l : Launch) (D : va_G) (dA : Nat → ClassId) (J : State → Heap → Prop) (ro : Nat → Bool) (G : Gs) (hJD : JD ro G J) (h : Hv) (a0 : Nat) (ha0 : a0 < 25) {res : Int32} (hf : O_J4_length a0 = some res) : Met l yJ4_length (ws_ yJ4_length cJ4_length 1 (some .int)) rmJ4_length (Pr D dA J [.ref (gK G a0)] h) (Qri res) 0 0 nA := by
  have hJ : JR J := hJD.jr
  refine xh_head (own := RJ4) (by decide) rfl (Nat.le_of_ble_eq_true rfl) ?_
  intro p e s m args below meth c ls Q hQ C hP hl
  obtain ⟨hx, hb, hr, hlocks, hml, hown, hts, hK, hJs⟩ := C
  have hZ : ZG G nA s s.heap := (hJD.f hJs).2.2.2.2.1.narrow (fun _ z => z.elim)
  replace hl : lv_has ls 1 [(0, .ref (gK G a0))] := hl
  have hS : va_S nA s.heap s.heap [] := va_S.rf
  unfold O_J4_length at hf
  obtain ⟨H, eH⟩ : ∃ H, H = s.heap := ⟨_, rfl⟩
  obtain ⟨locs, eL⟩ : ∃ locs : List Loc, locs = [] := ⟨_, rfl⟩
  rw [← eL] at hS ⊢
  rw [← eH] at hP
  have hS : va_S nA s.heap H locs := by rw [eH]; exact hS
  show W p l e rmJ4_length s m args below meth c s.heap locs 0 0 Q (F0 m 0 ls [])
  rw [← eH]
  refine lv_aload_n hx hb dJ4_length_0 rfl (lv_at hl 0 rfl) ?_
  refine vk_getf hx hb (hZ.2.2.2.2.2.2.2.2.2.2.2.2.1.1 _ ha0).2.2.1 hS hown (hts _ q2132) (fun _ h => h) dJ4_length_1 ?_
  refine va_tlen hx hb (hZ.2.2.2.2.2.2.2.2.2.2.2.2.1.1 _ ha0).2.2.2 hS rfl dJ4_length_4 ?_
  refine lv_aload_n hx hb dJ4_length_5 rfl (lv_at hl 0 rfl) ?_
  obtain ⟨q1, g2, hf⟩ := ob_bind hf
  refine xh_i (xs_runK (As := []) (rest := [.int (Int32.ofNat (lnX.getD a0 0))]) hJ hJs hS ⟨hx, hb, hml, hown, hts⟩ hZ ha0 (wkJ4_coder l D dA J ro G hJD h a0 ha0 g2) (cwV 0 hts (lw_V q443 q444 q445 q146 q446) rfl rfl rfl cdJ4_coder ⟨Nat.le_of_ble_eq_true rfl, Nat.le_of_ble_eq_true rfl⟩) hK hP hl.1 rfl rfl (Nat.le_of_ble_eq_true rfl) dJ4_length_6 ⟨Nat.zero_le _, Nat.zero_le _⟩) hP hS (fun H locs hP hS => ?_)
  refine lv_ishr hx hb dJ4_length_9 ?_
  obtain rfl := ob_s hf
  subst hQ
  exact xg_i hx hb hr hlocks hS dJ4_length_10
abbrev rmJ4_checkIndex : Room := { frames := 1, cells := 0, slots := 0, locals := 22 }
theorem cdJ4_checkIndex : yJ4_checkIndex.cls = RJ4 ∧ yJ4_checkIndex.cls ≠ "java/lang/invoke/MethodHandle" ∧ yJ4_checkIndex.cls ≠ "java/lang/invoke/VarHandle" ∧ (parseMethodDescriptor yJ4_checkIndex.desc).map (fun d => d.parameters.length) = some 2 := by decide +kernel
set_option maxHeartbeats 4000000 in
set_option maxRecDepth 100000 in
theorem wkJ4_checkIndex (l : Launch) (D : va_G) (dA : Nat → ClassId) (J : State → Heap → Prop) (ro : Nat → Bool) (G : Gs) (hJD : JD ro G J) (h : Hv) (a0 : Int32) (a1 : Int32) {res : Unit} (hf : O_J4_checkIndex a0 a1 = some res) : Met l yJ4_checkIndex (ws_ yJ4_checkIndex cJ4_checkIndex 2 (none)) rmJ4_checkIndex (Pr D dA J [.int a0, .int a1] h) (Qrv) 0 0 nA := by
  have hJ : JR J := hJD.jr
  refine xh_head (own := RJ4) (by decide) rfl (Nat.le_of_ble_eq_true rfl) ?_
  intro p e s m args below meth c ls Q hQ C hP hl
  obtain ⟨hx, hb, hr, hlocks, hml, hown, hts, hK, hJs⟩ := C
  have hZ : ZG G nA s s.heap := (hJD.f hJs).2.2.2.2.1.narrow (fun _ z => z.elim)
  replace hl : lv_has ls 2 [(0, .int a0), (1, .int a1)] := hl
  have hS : va_S nA s.heap s.heap [] := va_S.rf
  unfold O_J4_checkIndex at hf
  obtain ⟨H, eH⟩ : ∃ H, H = s.heap := ⟨_, rfl⟩
  obtain ⟨locs, eL⟩ : ∃ locs : List Loc, locs = [] := ⟨_, rfl⟩
  rw [← eL] at hS ⊢
  rw [← eH] at hP
  have hS : va_S nA s.heap H locs := by rw [eH]; exact hS
  show W p l e rmJ4_checkIndex s m args below meth c s.heap locs 0 0 Q (F0 m 0 ls [])
  rw [← eH]
  refine lv_iload_n hx hb dJ4_checkIndex_0 rfl (lv_at hl 0 rfl) ?_
  refine lv_iload_n hx hb dJ4_checkIndex_1 rfl (lv_at hl 1 rfl) ?_
  rcases hZ.2.2.2.2.2.2.2.2.2.1 with hz9 | ⟨t9, hz9⟩
  · refine va_gets hx hb hz9 hS hown (hts _ q463) (fun _ h => h) dJ4_checkIndex_2 ?_
    obtain ⟨q1, g2, hf⟩ := ob_bind hf
    refine xh_i (xh_runS (As := [.int a0, .int a1, .null]) (rest := []) hJ hJs hS ⟨hx, hb, hml, hown, hts⟩ (wkJ6_checkIndex l D dA J hJ h a0 a1 g2) (va_cwS 3 hts (lw_S q465 q466 q148 q467) rfl rfl rfl cdJ6_checkIndex.2 ⟨Nat.le_of_ble_eq_true rfl, Nat.le_of_ble_eq_true rfl⟩) hK hP hl.1 rfl rfl (Nat.le_of_ble_eq_true rfl) dJ4_checkIndex_5 ⟨Nat.zero_le _, Nat.zero_le _⟩) hP hS (fun H locs hP hS => ?_)
    refine lv_pop hx hb dJ4_checkIndex_8 rfl ?_
    subst hQ
    exact xg_v hx hb hr hlocks hS dJ4_checkIndex_9
  · refine va_gets hx hb hz9 hS hown (hts _ q463) (fun _ h => h) dJ4_checkIndex_2 ?_
    obtain ⟨q3, g4, hf⟩ := ob_bind hf
    refine xh_i (xh_runS (As := [.int a0, .int a1, .ref t9]) (rest := []) hJ hJs hS ⟨hx, hb, hml, hown, hts⟩ (wkJ6_checkIndexR l D dA J hJ h a0 a1 t9 (O_cR g4)) (va_cwS 3 hts (lw_S q465 q466 q148 q467) rfl rfl rfl cdJ6_checkIndex.2 ⟨Nat.le_of_ble_eq_true rfl, Nat.le_of_ble_eq_true rfl⟩) hK hP hl.1 rfl rfl (Nat.le_of_ble_eq_true rfl) dJ4_checkIndex_5 ⟨Nat.zero_le _, Nat.zero_le _⟩) hP hS (fun H locs hP hS => ?_)
    refine lv_pop hx hb dJ4_checkIndex_8 rfl ?_
    subst hQ
    exact xg_v hx hb hr hlocks hS dJ4_checkIndex_9
abbrev rmJ5_charAt : Room := { frames := 2, cells := 0, slots := 0, locals := 43 }
theorem cdJ5_charAt : yJ5_charAt.cls = RJ5 ∧ yJ5_charAt.cls ≠ "java/lang/invoke/MethodHandle" ∧ yJ5_charAt.cls ≠ "java/lang/invoke/VarHandle" ∧ (parseMethodDescriptor yJ5_charAt.desc).map (fun d => d.parameters.length) = some 2 := by decide +kernel
set_option maxHeartbeats 4000000 in
set_option maxRecDepth 100000 in
theorem wkJ5_charAt (l : Launch) (D : va_G) (dA : Nat → ClassId) (J : State → Heap → Prop) (ro : Nat → Bool) (G : Gs) (hJD : JD ro G J) (h : Hv) (a0 : Nat) (a1 : Int32) (ha0 : a0 < 25) {res : Int32} (hf : O_J5_charAt a0 a1 = some res) : Met l yJ5_charAt (ws_ yJ5_charAt cJ5_charAt 2 (some .char)) rmJ5_charAt (Pr D dA J [.ref (gV G a0), .int a1] h) (Qri res) 0 0 nA := by
  have hJ : JR J := hJD.jr
  refine xh_head (own := RJ5) (by decide) rfl (Nat.le_of_ble_eq_true rfl) ?_
  intro p e s m args below meth c ls Q hQ C hP hl
  obtain ⟨hx, hb, hr, hlocks, hml, hown, hts, hK, hJs⟩ := C
  have hZ : ZG G nA s s.heap := (hJD.f hJs).2.2.2.2.1.narrow (fun _ z => z.elim)
  replace hl : lv_has ls 2 [(0, .ref (gV G a0)), (1, .int a1)] := hl
  have hS : va_S nA s.heap s.heap [] := va_S.rf
  unfold O_J5_charAt at hf
  obtain ⟨H, eH⟩ : ∃ H, H = s.heap := ⟨_, rfl⟩
  obtain ⟨locs, eL⟩ : ∃ locs : List Loc, locs = [] := ⟨_, rfl⟩
  rw [← eL] at hS ⊢
  rw [← eH] at hP
  have hS : va_S nA s.heap H locs := by rw [eH]; exact hS
  show W p l e rmJ5_charAt s m args below meth c s.heap locs 0 0 Q (F0 m 0 ls [])
  rw [← eH]
  refine lv_iload_n hx hb dJ5_charAt_0 rfl (lv_at hl 1 rfl) ?_
  refine lv_aload_n hx hb dJ5_charAt_1 rfl (lv_at hl 0 rfl) ?_
  refine va_tlen hx hb (hZ.2.2.2.2.2.2.2.2.2.2.2.2.1.1 _ ha0).2.2.2 hS rfl dJ5_charAt_2 ?_
  obtain ⟨q1, g2, hf⟩ := ob_bind hf
  refine xh_v (xh_runS (As := [.int a1, .int (Int32.ofNat (lnX.getD a0 0))]) (rest := []) hJ hJs hS ⟨hx, hb, hml, hown, hts⟩ (wkJ4_checkIndex l D dA J ro G hJD h a1 (Int32.ofNat (lnX.getD a0 0)) g2) (va_cwS 2 hts (lw_S q460 q461 q146 q462) rfl rfl rfl cdJ4_checkIndex.2 ⟨Nat.le_of_ble_eq_true rfl, Nat.le_of_ble_eq_true rfl⟩) hK hP hl.1 rfl rfl (Nat.le_of_ble_eq_true rfl) dJ5_charAt_3 ⟨Nat.zero_le _, Nat.zero_le _⟩) hP hS (fun H locs hP hS => ?_)
  refine lv_aload_n hx hb dJ5_charAt_6 rfl (lv_at hl 0 rfl) ?_
  refine lv_iload_n hx hb dJ5_charAt_7 rfl (lv_at hl 1 rfl) ?_
  obtain ⟨h3, hf⟩ := ob_gd hf
  refine xs_tb hx hb (hZ.2.2.2.2.2.2.2.2.2.2.2.2.1.1 _ ha0).2.2.2 hS h3 dJ5_charAt_8 ?_
  refine lv_sipush (v := 255) hx hb dJ5_charAt_9 (by decide) ?_
  refine lv_iand hx hb dJ5_charAt_12 ?_
  refine lv_i2c hx hb dJ5_charAt_13 rfl ?_
  obtain ⟨g4, hf⟩ := ob_gp hf
  obtain rfl := ob_s hf
  subst hQ
  exact xg_n hx hb hr (xg_narC (of_decide_eq_true g4)) hlocks hS dJ5_charAt_14
abbrev rmJ4_charAt : Room := { frames := 4, cells := 0, slots := 0, locals := 85 }
theorem cdJ4_charAt : yJ4_charAt.cls = RJ4 ∧ yJ4_charAt.cls ≠ "java/lang/invoke/MethodHandle" ∧ yJ4_charAt.cls ≠ "java/lang/invoke/VarHandle" ∧ (parseMethodDescriptor yJ4_charAt.desc).map (fun d => d.parameters.length) = some 1 := by decide +kernel
set_option maxHeartbeats 4000000 in
set_option maxRecDepth 100000 in
theorem wkJ4_charAt (l : Launch) (D : va_G) (dA : Nat → ClassId) (J : State → Heap → Prop) (ro : Nat → Bool) (G : Gs) (hJD : JD ro G J) (h : Hv) (a0 : Nat) (a1 : Int32) (ha0 : a0 < 25) {res : Int32} (hf : O_J4_charAt a0 a1 = some res) : Met l yJ4_charAt (ws_ yJ4_charAt cJ4_charAt 2 (some .char)) rmJ4_charAt (Pr D dA J [.ref (gK G a0), .int a1] h) (Qri res) 0 0 nA := by
  have hJ : JR J := hJD.jr
  refine xh_head (own := RJ4) (by decide) rfl (Nat.le_of_ble_eq_true rfl) ?_
  intro p e s m args below meth c ls Q hQ C hP hl
  obtain ⟨hx, hb, hr, hlocks, hml, hown, hts, hK, hJs⟩ := C
  have hZ : ZG G nA s s.heap := (hJD.f hJs).2.2.2.2.1.narrow (fun _ z => z.elim)
  replace hl : lv_has ls 2 [(0, .ref (gK G a0)), (1, .int a1)] := hl
  have hS : va_S nA s.heap s.heap [] := va_S.rf
  unfold O_J4_charAt at hf
  obtain ⟨H, eH⟩ : ∃ H, H = s.heap := ⟨_, rfl⟩
  obtain ⟨locs, eL⟩ : ∃ locs : List Loc, locs = [] := ⟨_, rfl⟩
  rw [← eL] at hS ⊢
  rw [← eH] at hP
  have hS : va_S nA s.heap H locs := by rw [eH]; exact hS
  show W p l e rmJ4_charAt s m args below meth c s.heap locs 0 0 Q (F0 m 0 ls [])
  rw [← eH]
  refine lv_aload_n hx hb dJ4_charAt_0 rfl (lv_at hl 0 rfl) ?_
  obtain ⟨q1, g2, hf⟩ := ob_bind hf
  refine xh_z (xs_runK (As := []) (rest := []) hJ hJs hS ⟨hx, hb, hml, hown, hts⟩ hZ ha0 (wkJ4_isLatin1 l D dA J ro G hJD h a0 ha0 g2) (cwV 0 hts (lw_V q453 q454 q455 q146 q456) rfl rfl rfl cdJ4_isLatin1 ⟨Nat.le_of_ble_eq_true rfl, Nat.le_of_ble_eq_true rfl⟩) hK hP hl.1 rfl rfl (Nat.le_of_ble_eq_true rfl) dJ4_charAt_1 ⟨Nat.zero_le _, Nat.zero_le _⟩) hP hS (fun H locs zq1 hP hS => ?_)
  refine lv_if_eq (tgt := 16) hx hb dJ4_charAt_4 (by decide) (fun c3 => ?_) (fun c3 => ?_)
  · replace hf := ob_t hf c3
    cases hf
  · replace hf := ob_f hf c3
    refine lv_aload_n hx hb dJ4_charAt_7 rfl (lv_at hl 0 rfl) ?_
    refine vk_getf hx hb (hZ.2.2.2.2.2.2.2.2.2.2.2.2.1.1 _ ha0).2.2.1 hS hown (hts _ q2132) (fun _ h => h) dJ4_charAt_8 ?_
    refine lv_iload_n hx hb dJ4_charAt_11 rfl (lv_at hl 1 rfl) ?_
    obtain ⟨q4, g5, hf⟩ := ob_bind hf
    refine xh_i (xh_runS (As := [.ref (gV G a0), .int a1]) (rest := []) hJ hJs hS ⟨hx, hb, hml, hown, hts⟩ (wkJ5_charAt l D dA J ro G hJD h a0 a1 ha0 g5) (va_cwS 2 hts (lw_S q457 q458 q147 q459) rfl rfl rfl cdJ5_charAt.2 ⟨Nat.le_of_ble_eq_true rfl, Nat.le_of_ble_eq_true rfl⟩) hK hP hl.1 rfl rfl (Nat.le_of_ble_eq_true rfl) dJ4_charAt_12 ⟨Nat.zero_le _, Nat.zero_le _⟩) hP hS (fun H locs hP hS => ?_)
    obtain ⟨g6, hf⟩ := ob_gp hf
    obtain rfl := ob_s hf
    subst hQ
    exact xg_n hx hb hr (xg_narC (of_decide_eq_true g6)) hlocks hS dJ4_charAt_15
