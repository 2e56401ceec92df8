/-! constructors (printed by genc.py) -/
theorem xh_aleni {p : Program} {l : Launch} {e : Env} {R : Room} {s : State} {m : MethodId} {args : Array Value} {below : List Frame} {meth : Method} {c : Code} {H : Heap} {locs : List Loc} {cells slots : Nat} {Q : State → Prop} {cc : ByteArray} {pc : Nat} {ls : Array Slot} {rest : List Value} {D : va_G} {dA : Nat → ClassId} {h : Hv}
    (hexec : p.tables.exec = Jvm.exec) (hb : c.code = cc) (hK : va_K D clX (tyX dA) s) (hH : HF D dA h H) {a : Nat} {x : Nat × (Nat → Int32)} (hx : hAi h a 1 = some x) (hdg : decode cc pc = .ok (.arraylength, 1))
    (kk : W p l e R s m args below meth c H locs cells slots Q (F0 m (pc + 1) ls (.int (Int32.ofNat x.1) :: rest))) : W p l e R s m args below meth c H locs cells slots Q (F0 m pc ls (.ref a :: rest)) := by
  obtain ⟨h1, h2⟩ := hAi_spec hx
  have hat := hH a h1
  rw [h2] at hat
  obtain ⟨cell, q1, q3, q5, q2, q6⟩ := hat
  exact W.alen (n := Int32.ofNat x.1) hexec hb q1 (arr_weak (hK.2 0 _ rfl).1 q2 q5) (by rw [q6]; show (arrV _ _ _).slots.size.toInt32 = _; rw [arrV_size] <;> rfl) rfl rfl hdg kk
theorem df_X1 : ∀ j, j < 11 → defaultValue (tyX1 j) = vp_V [.null, .null, .null, .null, .null, .null, .null, .null, .null, .null, .null] j := fun j hj => match j, hj with
  | 0, _ => rfl
  | 1, _ => rfl
  | 2, _ => rfl
  | 3, _ => rfl
  | 4, _ => rfl
  | 5, _ => rfl
  | 6, _ => rfl
  | 7, _ => rfl
  | 8, _ => rfl
  | 9, _ => rfl
  | 10, _ => rfl
  | n + 11, h => absurd h (by omega)
noncomputable def P_J0_fill_b5 (v3_3 : Int32) (ro : Nat → Bool) (a0 : Nat) (a1 : Int32) (rl5 : Hv → Nat → Int32 → Option (Unit × Hv × Nat × Nat)) (h4 : Hv) (n5 : Nat) (v2_6 : Int32) : Option (Unit × Hv × Nat × Nat) := (if v3_3 ≤ v2_6 then some ((), h4, 0, 0) else gp (!decide (v2_6 < 0)) ((hasti ro h4 a0 v2_6.toNatClampNeg a1).bind (fun (h10 : Hv) => bnd (v2_6 + 1) (fun (v2_11 : Int32) => rl5 h10 n5 v2_11))))
noncomputable def P_J0_fill_l5 (v3_3 : Int32) (ro : Nat → Bool) (a0 : Nat) (a1 : Int32) : Nat → Hv → Nat → Int32 → Option (Unit × Hv × Nat × Nat)
  | 0 => fun _ _ _ => none
  | f + 1 => P_J0_fill_b5 v3_3 ro a0 a1 (P_J0_fill_l5 v3_3 ro a0 a1 f)
noncomputable def P_J0_fill (G : Gs) (ro : Nat → Bool) (h0 : Hv) (n0 : Nat) (a0 : Nat) (a1 : Int32) : Option (Unit × Hv × Nat × Nat) := (hAi h0 a0 1).bind (fun (y1 : Nat × (Nat → Int32)) => bnd (Int32.ofNat y1.1) (fun (v3_3 : Int32) => P_J0_fill_l5 v3_3 ro a0 a1 400 h0 n0 0))
noncomputable def P_X1_init (G : Gs) (ro : Nat → Bool) (h0 : Hv) (n0 : Nat) (a0 : Nat) : Option (Unit × Hv × Nat × Nat) := gp (xgn 8) (addU 1 ((8 : Int32).toNatClampNeg) (bnd (hnew h0 n0 (.inr (1, ((8 : Int32).toNatClampNeg, .inl (fun _ => 0))))) (fun (h2 : Hv) => (hput ro h2 a0 1 0 (.ref n0)).bind (fun (h4 : Hv) => gp (xgn 149) (addU 1 ((149 : Int32).toNatClampNeg) (bnd (hnew h4 (n0 + 1) (.inr (1, ((149 : Int32).toNatClampNeg, .inl (fun _ => 0))))) (fun (h6 : Hv) => (hput ro h6 a0 1 1 (.ref (n0 + 1))).bind (fun (h8 : Hv) => gp (xgn 8) (addU 1 ((8 : Int32).toNatClampNeg) (bnd (hnew h8 ((n0 + 1) + 1) (.inr (1, ((8 : Int32).toNatClampNeg, .inl (fun _ => 0))))) (fun (h10 : Hv) => (hput ro h10 a0 1 2 (.ref ((n0 + 1) + 1))).bind (fun (h12 : Hv) => gp (xgn 8) (addU 1 ((8 : Int32).toNatClampNeg) (bnd (hnew h12 (((n0 + 1) + 1) + 1) (.inr (1, ((8 : Int32).toNatClampNeg, .inl (fun _ => 0))))) (fun (h14 : Hv) => (hput ro h14 a0 1 3 (.ref (((n0 + 1) + 1) + 1))).bind (fun (h16 : Hv) => gp (xgn 8) (addU 1 ((8 : Int32).toNatClampNeg) (bnd (hnew h16 ((((n0 + 1) + 1) + 1) + 1) (.inr (1, ((8 : Int32).toNatClampNeg, .inl (fun _ => 0))))) (fun (h18 : Hv) => (hput ro h18 a0 1 4 (.ref ((((n0 + 1) + 1) + 1) + 1))).bind (fun (h20 : Hv) => gp (xgn 4) (addU 1 ((4 : Int32).toNatClampNeg) (bnd (hnew h20 (((((n0 + 1) + 1) + 1) + 1) + 1) (.inr (1, ((4 : Int32).toNatClampNeg, .inl (fun _ => 0))))) (fun (h22 : Hv) => (hput ro h22 a0 1 5 (.ref (((((n0 + 1) + 1) + 1) + 1) + 1))).bind (fun (h24 : Hv) => gp (xgn 6) (addU 1 ((6 : Int32).toNatClampNeg) (bnd (hnew h24 ((((((n0 + 1) + 1) + 1) + 1) + 1) + 1) (.inr (1, ((6 : Int32).toNatClampNeg, .inl (fun _ => 0))))) (fun (h26 : Hv) => (hput ro h26 a0 1 6 (.ref ((((((n0 + 1) + 1) + 1) + 1) + 1) + 1))).bind (fun (h28 : Hv) => addU (1 + 10) (10 + 10 * 2) (bnd (hmul h28 (((((((n0 + 1) + 1) + 1) + 1) + 1) + 1) + 1) 10 2) (fun (h29 : Hv) => (hput ro h29 a0 1 7 (.ref (((((((n0 + 1) + 1) + 1) + 1) + 1) + 1) + 1))).bind (fun (h31 : Hv) => addU (1 + 8) (8 + 8 * 2) (bnd (hmul h31 ((((((((n0 + 1) + 1) + 1) + 1) + 1) + 1) + 1) + 1 + 10) 8 2) (fun (h32 : Hv) => (hput ro h32 a0 1 8 (.ref ((((((((n0 + 1) + 1) + 1) + 1) + 1) + 1) + 1) + 1 + 10))).bind (fun (h34 : Hv) => addU (1 + 30) (30 + 30 * 149) (bnd (hmul h34 (((((((((n0 + 1) + 1) + 1) + 1) + 1) + 1) + 1) + 1 + 10) + 1 + 8) 30 149) (fun (h35 : Hv) => (hput ro h35 a0 1 9 (.ref (((((((((n0 + 1) + 1) + 1) + 1) + 1) + 1) + 1) + 1 + 10) + 1 + 8))).bind (fun (h37 : Hv) => gp (xgn 4) (addU 1 ((4 : Int32).toNatClampNeg) (bnd (hnew h37 ((((((((((n0 + 1) + 1) + 1) + 1) + 1) + 1) + 1) + 1 + 10) + 1 + 8) + 1 + 30) (.inr (6, ((4 : Int32).toNatClampNeg, .inr (.inr (.inr (.inr (fun _ => none)))))))) (fun (h39 : Hv) => (hput ro h39 a0 1 10 (.ref ((((((((((n0 + 1) + 1) + 1) + 1) + 1) + 1) + 1) + 1 + 10) + 1 + 8) + 1 + 30))).bind (fun (h41 : Hv) => (hR h41 a0 1 0).bind (fun (r43 : Nat) => gp (!decide ((2 : Int32) < 0)) ((hasti ro h41 r43 ((2 : Int32).toNatClampNeg) (-1)).bind (fun (h46 : Hv) => (hR h46 a0 1 1).bind (fun (r48 : Nat) => gp (!decide ((1 : Int32) < 0)) ((hasti ro h46 r48 ((1 : Int32).toNatClampNeg) 373).bind (fun (h51 : Hv) => (hR h51 a0 1 5).bind (fun (r53 : Nat) => (P_J0_fill G ro h51 (((((((((((n0 + 1) + 1) + 1) + 1) + 1) + 1) + 1) + 1 + 10) + 1 + 8) + 1 + 30) + 1) r53 (-1)).bind (fun (q54 : Unit × Hv × Nat × Nat) => addU q54.2.2.1 q54.2.2.2 (some ((), q54.2.1, 0, 0)))))))))))))))))))))))))))))))))))))))))))))))))))
noncomputable def P_X0_init (G : Gs) (ro : Nat → Bool) (h0 : Hv) (n0 : Nat) (a0 : Nat) : Option (Unit × Hv × Nat × Nat) := addU 1 11 (bnd (hnew h0 n0 (.inl (1, [.null, .null, .null, .null, .null, .null, .null, .null, .null, .null, .null]))) (fun (h1 : Hv) => (P_X1_init G ro h1 (n0 + 1) n0).bind (fun (q2 : Unit × Hv × Nat × Nat) => addU q2.2.2.1 q2.2.2.2 ((hput ro q2.2.1 a0 0 0 (.ref n0)).bind (fun (h5 : Hv) => addU 1 11 (bnd (hnew h5 ((n0 + 1) + q2.2.2.1) (.inl (1, [.null, .null, .null, .null, .null, .null, .null, .null, .null, .null, .null]))) (fun (h6 : Hv) => (P_X1_init G ro h6 (((n0 + 1) + q2.2.2.1) + 1) ((n0 + 1) + q2.2.2.1)).bind (fun (q7 : Unit × Hv × Nat × Nat) => addU q7.2.2.1 q7.2.2.2 ((hput ro q7.2.1 a0 0 1 (.ref ((n0 + 1) + q2.2.2.1))).bind (fun (h10 : Hv) => gp (xgn 300) (addU 1 ((300 : Int32).toNatClampNeg) (bnd (hnew h10 ((((n0 + 1) + q2.2.2.1) + 1) + q7.2.2.1) (.inr (2, ((300 : Int32).toNatClampNeg, .inl (fun _ => 0))))) (fun (h12 : Hv) => (hput ro h12 a0 0 2 (.ref ((((n0 + 1) + q2.2.2.1) + 1) + q7.2.2.1))).bind (fun (h14 : Hv) => (hput ro h14 a0 0 4 (.int (-1))).bind (fun (h16 : Hv) => (hput ro h16 a0 0 5 (.int (-1))).bind (fun (h18 : Hv) => gp (xgn 16) (addU 1 ((16 : Int32).toNatClampNeg) (bnd (hnew h18 (((((n0 + 1) + q2.2.2.1) + 1) + q7.2.2.1) + 1) (.inr (1, ((16 : Int32).toNatClampNeg, .inl (fun _ => 0))))) (fun (h20 : Hv) => (hput ro h20 a0 0 6 (.ref (((((n0 + 1) + q2.2.2.1) + 1) + q7.2.2.1) + 1))).bind (fun (h22 : Hv) => gp (xgn 149) (addU 1 ((149 : Int32).toNatClampNeg) (bnd (hnew h22 ((((((n0 + 1) + q2.2.2.1) + 1) + q7.2.2.1) + 1) + 1) (.inr (1, ((149 : Int32).toNatClampNeg, .inl (fun _ => 0))))) (fun (h24 : Hv) => (hput ro h24 a0 0 7 (.ref ((((((n0 + 1) + q2.2.2.1) + 1) + q7.2.2.1) + 1) + 1))).bind (fun (h26 : Hv) => gp (xgn 6) (addU 1 ((6 : Int32).toNatClampNeg) (bnd (hnew h26 (((((((n0 + 1) + q2.2.2.1) + 1) + q7.2.2.1) + 1) + 1) + 1) (.inr (1, ((6 : Int32).toNatClampNeg, .inl (fun _ => 0))))) (fun (h28 : Hv) => (hput ro h28 a0 0 8 (.ref (((((((n0 + 1) + q2.2.2.1) + 1) + q7.2.2.1) + 1) + 1) + 1))).bind (fun (h30 : Hv) => gp (xgn 5) (addU 1 ((5 : Int32).toNatClampNeg) (bnd (hnew h30 ((((((((n0 + 1) + q2.2.2.1) + 1) + q7.2.2.1) + 1) + 1) + 1) + 1) (.inr (1, ((5 : Int32).toNatClampNeg, .inl (fun _ => 0))))) (fun (h32 : Hv) => (hput ro h32 a0 0 9 (.ref ((((((((n0 + 1) + q2.2.2.1) + 1) + q7.2.2.1) + 1) + 1) + 1) + 1))).bind (fun (h34 : Hv) => gp (xgn 5) (addU 1 ((5 : Int32).toNatClampNeg) (bnd (hnew h34 (((((((((n0 + 1) + q2.2.2.1) + 1) + q7.2.2.1) + 1) + 1) + 1) + 1) + 1) (.inr (1, ((5 : Int32).toNatClampNeg, .inl (fun _ => 0))))) (fun (h36 : Hv) => (hput ro h36 a0 0 10 (.ref (((((((((n0 + 1) + q2.2.2.1) + 1) + q7.2.2.1) + 1) + 1) + 1) + 1) + 1))).bind (fun (h38 : Hv) => gp (xgn 6) (addU 1 ((6 : Int32).toNatClampNeg) (bnd (hnew h38 ((((((((((n0 + 1) + q2.2.2.1) + 1) + q7.2.2.1) + 1) + 1) + 1) + 1) + 1) + 1) (.inr (1, ((6 : Int32).toNatClampNeg, .inl (fun _ => 0))))) (fun (h40 : Hv) => (hput ro h40 a0 0 13 (.ref ((((((((((n0 + 1) + q2.2.2.1) + 1) + q7.2.2.1) + 1) + 1) + 1) + 1) + 1) + 1))).bind (fun (h42 : Hv) => gp (xgn 6) (addU 1 ((6 : Int32).toNatClampNeg) (bnd (hnew h42 (((((((((((n0 + 1) + q2.2.2.1) + 1) + q7.2.2.1) + 1) + 1) + 1) + 1) + 1) + 1) + 1) (.inr (1, ((6 : Int32).toNatClampNeg, .inl (fun _ => 0))))) (fun (h44 : Hv) => (hput ro h44 a0 0 14 (.ref (((((((((((n0 + 1) + q2.2.2.1) + 1) + q7.2.2.1) + 1) + 1) + 1) + 1) + 1) + 1) + 1))).bind (fun (h46 : Hv) => addU (1 + 6) (6 + 6 * 8) (bnd (hmul h46 ((((((((((((n0 + 1) + q2.2.2.1) + 1) + q7.2.2.1) + 1) + 1) + 1) + 1) + 1) + 1) + 1) + 1) 6 8) (fun (h47 : Hv) => (hput ro h47 a0 0 15 (.ref ((((((((((((n0 + 1) + q2.2.2.1) + 1) + q7.2.2.1) + 1) + 1) + 1) + 1) + 1) + 1) + 1) + 1))).bind (fun (h49 : Hv) => some ((), h49, 0, 0))))))))))))))))))))))))))))))))))))))))))))))))
theorem cdDJ0_fill : yJ0_fill.cls = RJ0 ∧ yJ0_fill.cls ≠ "java/lang/invoke/MethodHandle" ∧ yJ0_fill.cls ≠ "java/lang/invoke/VarHandle" ∧ (parseMethodDescriptor yJ0_fill.desc).map (fun d => d.parameters.length) = some 2 := by decide +kernel
set_option maxHeartbeats 4000000 in
set_option maxRecDepth 100000 in
theorem wkDJ0_fill (l : Launch) (hl9 : l.stackTraces = false) (D : va_G) (dA : Nat → ClassId) (ro : Nat → Bool) (G : Gs) (J : State → Heap → Prop) (hJ : JD ro G J) (hJA : ∀ U H, J U H → AO2 U) (h0 : Hv) (n0 : Nat) (a0 : Nat) (a1 : Int32) {res : Unit × Hv × Nat × Nat} (hf : P_J0_fill G ro h0 n0 a0 a1 = some res) : Met l yJ0_fill (ws_ yJ0_fill cJ0_fill 4 (none)) (rmD 0 0 res.2.2.1 res.2.2.2) (Pd D dA ro J [.ref a0, .int a1] h0 n0) (Qdv D dA ro h0 n0 res) res.2.2.1 res.2.2.2 (fD ro h0 n0) := by
  refine xd_head (own := RJ0) (by decide) rfl (Nat.le_of_ble_eq_true rfl) ?_
  intro p e s m args below meth c ls Q hQ hname C hn0 hH hl
  obtain ⟨hx, hb, hr, hlocks, hml, hown, hts, hK, hJs⟩ := C
  replace hl : lv_has ls 4 [(0, .ref a0), (1, .int a1)] := hl
  have hS : va_S (fD ro h0 n0) s.heap s.heap [] := va_S.rf
  have hR : rD ro (fD ro h0 n0) n0 := fD_rD hH
  have hA9 : ∀ q, s.heap.size ≤ q → fD ro h0 n0 q := fun q hq => hR.2 q (hn0 ▸ hq)
  unfold P_J0_fill at hf
  obtain ⟨r, er⟩ : ∃ r, r = res := ⟨_, rfl⟩
  have hq : qI r res 0 0 := by rw [er]; exact ⟨rfl, rfl, Nat.zero_add _, Nat.zero_add _⟩
  rw [← er] at hf
  have hn : n0 = n0 + 0 := rfl
  obtain ⟨H, eH⟩ : ∃ H, H = s.heap := ⟨_, rfl⟩
  obtain ⟨locs, eL⟩ : ∃ locs : List Loc, locs = [] := ⟨_, rfl⟩
  rw [← eL] at hS ⊢
  rw [← eH] at hH
  have hS : va_S (fD ro h0 n0) s.heap H locs := by rw [eH]; exact hS
  show W p l e (rmD 0 0 res.2.2.1 res.2.2.2) s m args below meth c s.heap locs 0 0 Q (F0 m 0 ls [])
  rw [← eH]
  clear er
  refine lv_iconst (v := 0) hx hb dJ0_fill_0 (by decide) ?_
  refine lv_istore_n (lv' := [(2, .int 0), (0, .ref a0), (1, .int a1)]) hx hb dJ0_fill_1 rfl hl (by decide) rfl (fun ls hl => ?_)
  refine lv_aload_n hx hb dJ0_fill_2 rfl (lv_at hl 1 rfl) ?_
  obtain ⟨y1, g2, hf⟩ := ob_bind hf
  refine xh_aleni hx hb hK hH.1 g2 dJ0_fill_3 ?_
  obtain ⟨v3_3, ev3_3, hf⟩ := ob_bnd hf
  refine xn_i ev3_3 ?_
  refine lv_istore_n (lv' := [(3, .int v3_3), (2, .int 0), (0, .ref a0), (1, .int a1)]) hx hb dJ0_fill_4 rfl hl (by decide) rfl (fun ls hl => ?_)
  have kl5 : ∀ (f : Nat) (h4 : Hv) (n5 : Nat) (v2_6 : Int32) (kc6 ks6 : Nat) (r : Unit × Hv × Nat × Nat) (H : Heap) (locs : List Loc) (ls : Array Slot), P_J0_fill_l5 v3_3 ro a0 a1 f h4 n5 v2_6 = some r → qI r res kc6 ks6 → n5 = n0 + kc6 → DS D dA ro h4 n5 (fD ro h0 n0) H → va_S (fD ro h0 n0) s.heap H locs → lv_has ls 4 [(0, .ref a0), (1, .int a1), (2, .int v2_6), (3, .int v3_3)] → W p l e (rmD 0 0 res.2.2.1 res.2.2.2) s m args below meth c H locs kc6 ks6 Q (F0 m 5 ls []) := by
    intro f
    induction f with
    | zero =>
      intro h4 n5 v2_6 kc6 ks6 r H locs ls hf
      cases hf
    | succ f ihl5 =>
      intro h4 n5 v2_6 kc6 ks6 r H locs ls hf hq hn hH hS hl
      obtain ⟨rl5, erl5⟩ : ∃ x, x = P_J0_fill_l5 v3_3 ro a0 a1 f := ⟨_, rfl⟩
      replace hf : P_J0_fill_b5 v3_3 ro a0 a1 (P_J0_fill_l5 v3_3 ro a0 a1 f) h4 n5 v2_6 = some r := hf
      rw [← erl5] at hf ihl5
      unfold P_J0_fill_b5 at hf
      refine lv_iload_n hx hb dJ0_fill_5 rfl (lv_at hl 2 rfl) ?_
      refine lv_iload_n hx hb dJ0_fill_6 rfl (lv_at hl 3 rfl) ?_
      refine lv_icmp_ge (tgt := 20) hx hb dJ0_fill_7 (by decide) (fun c7 => ?_) (fun c7 => ?_)
      · replace hf := ob_t hf c7
        subst hQ
        exact xe_dv hx hb hr hlocks hH hn hS (hq.end (Option.some.inj hf)) dJ0_fill_20
      · replace hf := ob_f hf c7
        refine lv_aload_n hx hb dJ0_fill_10 rfl (lv_at hl 0 rfl) ?_
        refine lv_iload_n hx hb dJ0_fill_11 rfl (lv_at hl 2 rfl) ?_
        refine lv_iload_n hx hb dJ0_fill_12 rfl (lv_at hl 1 rfl) ?_
        obtain ⟨g8, hf⟩ := ob_gp hf
        obtain ⟨h10, g9, hf⟩ := ob_bind hf
        refine xd_iast hx hb hK hH hS (j := v2_6.toNatClampNeg) (xg_nn g8) rfl g9 dJ0_fill_13 (fun H locs hH hS => ?_)
        obtain ⟨v2_11, ev2_11, hf⟩ := ob_bnd hf
        refine lv_iinc (v := v2_11) (lv' := [(2, .int v2_11), (0, .ref a0), (1, .int a1), (3, .int v3_3)]) hx hb dJ0_fill_14 hl (k := 2) rfl (by rw [ev2_11]; rfl) (by decide) rfl (fun ls hl => ?_)
        refine lv_goto (tgt := 5) hx hb dJ0_fill_17 (by decide) ?_
        exact ihl5 h10 n5 v2_11 _ _ r H locs ls hf hq hn hH hS (lv_sub hl [1, 2, 0, 3] rfl)
  exact kl5 400 h0 n0 0 _ _ r H locs ls hf hq hn hH hS (lv_sub hl [2, 3, 1, 0] rfl)
theorem cdX1_init : yX1_init.cls = RX1 ∧ yX1_init.cls ≠ "java/lang/invoke/MethodHandle" ∧ yX1_init.cls ≠ "java/lang/invoke/VarHandle" ∧ (parseMethodDescriptor yX1_init.desc).map (fun d => d.parameters.length) = some 0 := by decide +kernel
set_option maxHeartbeats 4000000 in
set_option maxRecDepth 100000 in
theorem wkX1_init (l : Launch) (hl9 : l.stackTraces = false) (D : va_G) (dA : Nat → ClassId) (ro : Nat → Bool) (G : Gs) (J : State → Heap → Prop) (hJ : JD ro G J) (hJA : ∀ U H, J U H → AO2 U) (h0 : Hv) (n0 : Nat) (a0 : Nat) {res : Unit × Hv × Nat × Nat} (hf : P_X1_init G ro h0 n0 a0 = some res) : Met l yX1_init (ws_ yX1_init cX1_init 1 (none)) (rmD 1 60 res.2.2.1 res.2.2.2) (Pd D dA ro J [.ref a0] h0 n0) (Qdv D dA ro h0 n0 res) res.2.2.1 res.2.2.2 (fD ro h0 n0) := by
  refine xd_head (own := RX1) (by decide) rfl (Nat.le_of_ble_eq_true rfl) ?_
  intro p e s m args below meth c ls Q hQ hname C hn0 hH hl
  obtain ⟨hx, hb, hr, hlocks, hml, hown, hts, hK, hJs⟩ := C
  replace hl : lv_has ls 1 [(0, .ref a0)] := hl
  have hS : va_S (fD ro h0 n0) s.heap s.heap [] := va_S.rf
  have hR : rD ro (fD ro h0 n0) n0 := fD_rD hH
  have hA9 : ∀ q, s.heap.size ≤ q → fD ro h0 n0 q := fun q hq => hR.2 q (hn0 ▸ hq)
  unfold P_X1_init at hf
  obtain ⟨r, er⟩ : ∃ r, r = res := ⟨_, rfl⟩
  have hq : qI r res 0 0 := by rw [er]; exact ⟨rfl, rfl, Nat.zero_add _, Nat.zero_add _⟩
  rw [← er] at hf
  have hn : n0 = n0 + 0 := rfl
  obtain ⟨H, eH⟩ : ∃ H, H = s.heap := ⟨_, rfl⟩
  obtain ⟨locs, eL⟩ : ∃ locs : List Loc, locs = [] := ⟨_, rfl⟩
  rw [← eL] at hS ⊢
  rw [← eH] at hH
  have hS : va_S (fD ro h0 n0) s.heap H locs := by rw [eH]; exact hS
  show W p l e (rmD 1 60 res.2.2.1 res.2.2.2) s m args below meth c s.heap locs 0 0 Q (F0 m 0 ls [])
  rw [← eH]
  clear er
  refine lv_aload_n hx hb dX1_init_0 rfl (lv_at hl 0 rfl) ?_
  refine W.objInit hx hb hown (hts _ q184) (hts _ q177) (hts _ q178) rfl (by rw [hml]; exact hl.1) rfl dX1_init_1 (Nat.le_of_ble_eq_true rfl) (Nat.le_of_ble_eq_true rfl) ?_
  refine lv_aload_n hx hb dX1_init_4 rfl (lv_at hl 0 rfl) ?_
  refine lv_bipush (v := 8) hx hb dX1_init_5 (by decide) ?_
  obtain ⟨g1, hf⟩ := ob_gp hf
  obtain ⟨r, hf, hq, hc9, hs9⟩ := hq.add hf
  obtain ⟨h2, eh2, hf⟩ := ob_bnd hf
  refine xd_newi (atype := .int) (ty := .int) hx hb 1 0 rfl rfl rfl (fun h => h) (by decide) (hts _ q237) hK hH hS hA9 (N := (8 : Int32).toNatClampNeg) (xg_n0 g1) rfl (xg_n1 g1) hc9 hs9 dX1_init_7 (fun H hH hS => ?_)
  rw [← eh2] at hH
  replace hn : (n0 + 1) = n0 + (0 + 1) := by omega
  obtain ⟨h4, g3, hf⟩ := ob_bind hf
  refine xd_putF hx hb hts in_X1 tyX1 tyX1_ok nmX1 hown hK hH hS (ci := 1) rfl 0 (by decide) (hts _ q192) (fun _ h => h) rfl (hname.trans rfl) rfl (v := .ref n0) rfl rfl g3 dX1_init_9 (fun H locs hH hS => ?_)
  refine lv_aload_n hx hb dX1_init_12 rfl (lv_at hl 0 rfl) ?_
  refine lv_sipush (v := 149) hx hb dX1_init_13 (by decide) ?_
  obtain ⟨g5, hf⟩ := ob_gp hf
  obtain ⟨r, hf, hq, hc9, hs9⟩ := hq.add hf
  obtain ⟨h6, eh6, hf⟩ := ob_bnd hf
  refine xd_newi (atype := .int) (ty := .int) hx hb 1 0 rfl rfl rfl (fun h => h) (by decide) (hts _ q237) hK hH hS hA9 (N := (149 : Int32).toNatClampNeg) (xg_n0 g5) rfl (xg_n1 g5) hc9 hs9 dX1_init_16 (fun H hH hS => ?_)
  rw [← eh6] at hH
  replace hn : ((n0 + 1) + 1) = n0 + ((0 + 1) + 1) := by omega
  obtain ⟨h8, g7, hf⟩ := ob_bind hf
  refine xd_putF hx hb hts in_X1 tyX1 tyX1_ok nmX1 hown hK hH hS (ci := 1) rfl 1 (by decide) (hts _ q194) (fun _ h => h) rfl (hname.trans rfl) rfl (v := .ref (n0 + 1)) rfl rfl g7 dX1_init_18 (fun H locs hH hS => ?_)
  refine lv_aload_n hx hb dX1_init_21 rfl (lv_at hl 0 rfl) ?_
  refine lv_bipush (v := 8) hx hb dX1_init_22 (by decide) ?_
  obtain ⟨g9, hf⟩ := ob_gp hf
  obtain ⟨r, hf, hq, hc9, hs9⟩ := hq.add hf
  obtain ⟨h10, eh10, hf⟩ := ob_bnd hf
  refine xd_newi (atype := .int) (ty := .int) hx hb 1 0 rfl rfl rfl (fun h => h) (by decide) (hts _ q237) hK hH hS hA9 (N := (8 : Int32).toNatClampNeg) (xg_n0 g9) rfl (xg_n1 g9) hc9 hs9 dX1_init_24 (fun H hH hS => ?_)
  rw [← eh10] at hH
  replace hn : (((n0 + 1) + 1) + 1) = n0 + (((0 + 1) + 1) + 1) := by omega
  obtain ⟨h12, g11, hf⟩ := ob_bind hf
  refine xd_putF hx hb hts in_X1 tyX1 tyX1_ok nmX1 hown hK hH hS (ci := 1) rfl 2 (by decide) (hts _ q196) (fun _ h => h) rfl (hname.trans rfl) rfl (v := .ref ((n0 + 1) + 1)) rfl rfl g11 dX1_init_26 (fun H locs hH hS => ?_)
  refine lv_aload_n hx hb dX1_init_29 rfl (lv_at hl 0 rfl) ?_
  refine lv_bipush (v := 8) hx hb dX1_init_30 (by decide) ?_
  obtain ⟨g13, hf⟩ := ob_gp hf
  obtain ⟨r, hf, hq, hc9, hs9⟩ := hq.add hf
  obtain ⟨h14, eh14, hf⟩ := ob_bnd hf
  refine xd_newi (atype := .int) (ty := .int) hx hb 1 0 rfl rfl rfl (fun h => h) (by decide) (hts _ q237) hK hH hS hA9 (N := (8 : Int32).toNatClampNeg) (xg_n0 g13) rfl (xg_n1 g13) hc9 hs9 dX1_init_32 (fun H hH hS => ?_)
  rw [← eh14] at hH
  replace hn : ((((n0 + 1) + 1) + 1) + 1) = n0 + ((((0 + 1) + 1) + 1) + 1) := by omega
  obtain ⟨h16, g15, hf⟩ := ob_bind hf
  refine xd_putF hx hb hts in_X1 tyX1 tyX1_ok nmX1 hown hK hH hS (ci := 1) rfl 3 (by decide) (hts _ q198) (fun _ h => h) rfl (hname.trans rfl) rfl (v := .ref (((n0 + 1) + 1) + 1)) rfl rfl g15 dX1_init_34 (fun H locs hH hS => ?_)
  refine lv_aload_n hx hb dX1_init_37 rfl (lv_at hl 0 rfl) ?_
  refine lv_bipush (v := 8) hx hb dX1_init_38 (by decide) ?_
  obtain ⟨g17, hf⟩ := ob_gp hf
  obtain ⟨r, hf, hq, hc9, hs9⟩ := hq.add hf
  obtain ⟨h18, eh18, hf⟩ := ob_bnd hf
  refine xd_newi (atype := .int) (ty := .int) hx hb 1 0 rfl rfl rfl (fun h => h) (by decide) (hts _ q237) hK hH hS hA9 (N := (8 : Int32).toNatClampNeg) (xg_n0 g17) rfl (xg_n1 g17) hc9 hs9 dX1_init_40 (fun H hH hS => ?_)
  rw [← eh18] at hH
  replace hn : (((((n0 + 1) + 1) + 1) + 1) + 1) = n0 + (((((0 + 1) + 1) + 1) + 1) + 1) := by omega
  obtain ⟨h20, g19, hf⟩ := ob_bind hf
  refine xd_putF hx hb hts in_X1 tyX1 tyX1_ok nmX1 hown hK hH hS (ci := 1) rfl 4 (by decide) (hts _ q200) (fun _ h => h) rfl (hname.trans rfl) rfl (v := .ref ((((n0 + 1) + 1) + 1) + 1)) rfl rfl g19 dX1_init_42 (fun H locs hH hS => ?_)
  refine lv_aload_n hx hb dX1_init_45 rfl (lv_at hl 0 rfl) ?_
  refine lv_iconst (v := 4) hx hb dX1_init_46 (by decide) ?_
  obtain ⟨g21, hf⟩ := ob_gp hf
  obtain ⟨r, hf, hq, hc9, hs9⟩ := hq.add hf
  obtain ⟨h22, eh22, hf⟩ := ob_bnd hf
  refine xd_newi (atype := .int) (ty := .int) hx hb 1 0 rfl rfl rfl (fun h => h) (by decide) (hts _ q237) hK hH hS hA9 (N := (4 : Int32).toNatClampNeg) (xg_n0 g21) rfl (xg_n1 g21) hc9 hs9 dX1_init_47 (fun H hH hS => ?_)
  rw [← eh22] at hH
  replace hn : ((((((n0 + 1) + 1) + 1) + 1) + 1) + 1) = n0 + ((((((0 + 1) + 1) + 1) + 1) + 1) + 1) := by omega
  obtain ⟨h24, g23, hf⟩ := ob_bind hf
  refine xd_putF hx hb hts in_X1 tyX1 tyX1_ok nmX1 hown hK hH hS (ci := 1) rfl 5 (by decide) (hts _ q202) (fun _ h => h) rfl (hname.trans rfl) rfl (v := .ref (((((n0 + 1) + 1) + 1) + 1) + 1)) rfl rfl g23 dX1_init_49 (fun H locs hH hS => ?_)
  refine lv_aload_n hx hb dX1_init_52 rfl (lv_at hl 0 rfl) ?_
  refine lv_bipush (v := 6) hx hb dX1_init_53 (by decide) ?_
  obtain ⟨g25, hf⟩ := ob_gp hf
  obtain ⟨r, hf, hq, hc9, hs9⟩ := hq.add hf
  obtain ⟨h26, eh26, hf⟩ := ob_bnd hf
  refine xd_newi (atype := .int) (ty := .int) hx hb 1 0 rfl rfl rfl (fun h => h) (by decide) (hts _ q237) hK hH hS hA9 (N := (6 : Int32).toNatClampNeg) (xg_n0 g25) rfl (xg_n1 g25) hc9 hs9 dX1_init_55 (fun H hH hS => ?_)
  rw [← eh26] at hH
  replace hn : (((((((n0 + 1) + 1) + 1) + 1) + 1) + 1) + 1) = n0 + (((((((0 + 1) + 1) + 1) + 1) + 1) + 1) + 1) := by omega
  obtain ⟨h28, g27, hf⟩ := ob_bind hf
  refine xd_putF hx hb hts in_X1 tyX1 tyX1_ok nmX1 hown hK hH hS (ci := 1) rfl 6 (by decide) (hts _ q204) (fun _ h => h) rfl (hname.trans rfl) rfl (v := .ref ((((((n0 + 1) + 1) + 1) + 1) + 1) + 1)) rfl rfl g27 dX1_init_57 (fun H locs hH hS => ?_)
  refine lv_aload_n hx hb dX1_init_60 rfl (lv_at hl 0 rfl) ?_
  refine lv_bipush (v := 10) hx hb dX1_init_61 (by decide) ?_
  refine lv_iconst (v := 2) hx hb dX1_init_63 (by decide) ?_
  obtain ⟨r, hf, hq, hc9, hs9⟩ := hq.add hf
  obtain ⟨h29, eh29, hf⟩ := ob_bnd hf
  refine xd_multi hx hb hown (hts _ q185) (hJA _ _ hJs).1 (hts _ q237) hK hH hS hA9 (N := 10) (M := 2) (by decide) (by decide) rfl rfl (by decide) (by decide) hc9 hs9 dX1_init_64 (fun H locs hH hS => ?_)
  rw [← eh29] at hH
  replace hn : ((((((((n0 + 1) + 1) + 1) + 1) + 1) + 1) + 1) + 1 + 10) = n0 + ((((((((0 + 1) + 1) + 1) + 1) + 1) + 1) + 1) + (1 + 10)) := by omega
  obtain ⟨h31, g30, hf⟩ := ob_bind hf
  refine xd_putF hx hb hts in_X1 tyX1 tyX1_ok nmX1 hown hK hH hS (ci := 1) rfl 7 (by decide) (hts _ q206) (fun _ h => h) rfl (hname.trans rfl) rfl (v := .ref (((((((n0 + 1) + 1) + 1) + 1) + 1) + 1) + 1)) rfl rfl g30 dX1_init_68 (fun H locs hH hS => ?_)
  refine lv_aload_n hx hb dX1_init_71 rfl (lv_at hl 0 rfl) ?_
  refine lv_bipush (v := 8) hx hb dX1_init_72 (by decide) ?_
  refine lv_iconst (v := 2) hx hb dX1_init_74 (by decide) ?_
  obtain ⟨r, hf, hq, hc9, hs9⟩ := hq.add hf
  obtain ⟨h32, eh32, hf⟩ := ob_bnd hf
  refine xd_multi hx hb hown (hts _ q185) (hJA _ _ hJs).1 (hts _ q237) hK hH hS hA9 (N := 8) (M := 2) (by decide) (by decide) rfl rfl (by decide) (by decide) hc9 hs9 dX1_init_75 (fun H locs hH hS => ?_)
  rw [← eh32] at hH
  replace hn : (((((((((n0 + 1) + 1) + 1) + 1) + 1) + 1) + 1) + 1 + 10) + 1 + 8) = n0 + (((((((((0 + 1) + 1) + 1) + 1) + 1) + 1) + 1) + (1 + 10)) + (1 + 8)) := by omega
  obtain ⟨h34, g33, hf⟩ := ob_bind hf
  refine xd_putF hx hb hts in_X1 tyX1 tyX1_ok nmX1 hown hK hH hS (ci := 1) rfl 8 (by decide) (hts _ q208) (fun _ h => h) rfl (hname.trans rfl) rfl (v := .ref ((((((((n0 + 1) + 1) + 1) + 1) + 1) + 1) + 1) + 1 + 10)) rfl rfl g33 dX1_init_79 (fun H locs hH hS => ?_)
  refine lv_aload_n hx hb dX1_init_82 rfl (lv_at hl 0 rfl) ?_
  refine lv_bipush (v := 30) hx hb dX1_init_83 (by decide) ?_
  refine lv_sipush (v := 149) hx hb dX1_init_85 (by decide) ?_
  obtain ⟨r, hf, hq, hc9, hs9⟩ := hq.add hf
  obtain ⟨h35, eh35, hf⟩ := ob_bnd hf
  refine xd_multi hx hb hown (hts _ q185) (hJA _ _ hJs).1 (hts _ q237) hK hH hS hA9 (N := 30) (M := 149) (by decide) (by decide) rfl rfl (by decide) (by decide) hc9 hs9 dX1_init_88 (fun H locs hH hS => ?_)
  rw [← eh35] at hH
  replace hn : ((((((((((n0 + 1) + 1) + 1) + 1) + 1) + 1) + 1) + 1 + 10) + 1 + 8) + 1 + 30) = n0 + ((((((((((0 + 1) + 1) + 1) + 1) + 1) + 1) + 1) + (1 + 10)) + (1 + 8)) + (1 + 30)) := by omega
  obtain ⟨h37, g36, hf⟩ := ob_bind hf
  refine xd_putF hx hb hts in_X1 tyX1 tyX1_ok nmX1 hown hK hH hS (ci := 1) rfl 9 (by decide) (hts _ q210) (fun _ h => h) rfl (hname.trans rfl) rfl (v := .ref (((((((((n0 + 1) + 1) + 1) + 1) + 1) + 1) + 1) + 1 + 10) + 1 + 8)) rfl rfl g36 dX1_init_92 (fun H locs hH hS => ?_)
  refine lv_aload_n hx hb dX1_init_95 rfl (lv_at hl 0 rfl) ?_
  refine lv_iconst (v := 4) hx hb dX1_init_96 (by decide) ?_
  obtain ⟨g38, hf⟩ := ob_gp hf
  obtain ⟨r, hf, hq, hc9, hs9⟩ := hq.add hf
  obtain ⟨h39, eh39, hf⟩ := ob_bnd hf
  refine xd_newq hx hb 6 3 rfl hown (hts _ q187) (hJA _ _ hJs).2 hK hH hS hA9 (N := (4 : Int32).toNatClampNeg) (xg_n0 g38) rfl (xg_n1 g38) hc9 hs9 dX1_init_97 (fun H hH hS => ?_)
  rw [← eh39] at hH
  replace hn : (((((((((((n0 + 1) + 1) + 1) + 1) + 1) + 1) + 1) + 1 + 10) + 1 + 8) + 1 + 30) + 1) = n0 + (((((((((((0 + 1) + 1) + 1) + 1) + 1) + 1) + 1) + (1 + 10)) + (1 + 8)) + (1 + 30)) + 1) := by omega
  obtain ⟨h41, g40, hf⟩ := ob_bind hf
  refine xd_putF hx hb hts in_X1 tyX1 tyX1_ok nmX1 hown hK hH hS (ci := 1) rfl 10 (by decide) (hts _ q212) (fun _ h => h) rfl (hname.trans rfl) rfl (v := .ref ((((((((((n0 + 1) + 1) + 1) + 1) + 1) + 1) + 1) + 1 + 10) + 1 + 8) + 1 + 30)) rfl rfl g40 dX1_init_100 (fun H locs hH hS => ?_)
  refine lv_aload_n hx hb dX1_init_103 rfl (lv_at hl 0 rfl) ?_
  obtain ⟨r43, g42, hf⟩ := ob_bind hf
  refine xh_getr hx hb hts in_X1 hown hK hH.1 (ci := 1) rfl 0 (by decide) (hts _ q192) (fun _ h => h) g42 dX1_init_104 ?_
  refine lv_iconst (v := 2) hx hb dX1_init_107 (by decide) ?_
  refine lv_iconst (v := (-1)) hx hb dX1_init_108 (by decide) ?_
  obtain ⟨g44, hf⟩ := ob_gp hf
  obtain ⟨h46, g45, hf⟩ := ob_bind hf
  refine xd_iast hx hb hK hH hS (j := (2 : Int32).toNatClampNeg) (xg_nn g44) rfl g45 dX1_init_109 (fun H locs hH hS => ?_)
  refine lv_aload_n hx hb dX1_init_110 rfl (lv_at hl 0 rfl) ?_
  obtain ⟨r48, g47, hf⟩ := ob_bind hf
  refine xh_getr hx hb hts in_X1 hown hK hH.1 (ci := 1) rfl 1 (by decide) (hts _ q194) (fun _ h => h) g47 dX1_init_111 ?_
  refine lv_iconst (v := 1) hx hb dX1_init_114 (by decide) ?_
  refine lv_sipush (v := 373) hx hb dX1_init_115 (by decide) ?_
  obtain ⟨g49, hf⟩ := ob_gp hf
  obtain ⟨h51, g50, hf⟩ := ob_bind hf
  refine xd_iast hx hb hK hH hS (j := (1 : Int32).toNatClampNeg) (xg_nn g49) rfl g50 dX1_init_118 (fun H locs hH hS => ?_)
  refine lv_aload_n hx hb dX1_init_119 rfl (lv_at hl 0 rfl) ?_
  obtain ⟨r53, g52, hf⟩ := ob_bind hf
  refine xh_getr hx hb hts in_X1 hown hK hH.1 (ci := 1) rfl 5 (by decide) (hts _ q202) (fun _ h => h) g52 dX1_init_120 ?_
  refine lv_iconst (v := (-1)) hx hb dX1_init_123 (by decide) ?_
  obtain ⟨q54, g55, hf⟩ := ob_bind hf
  obtain ⟨r, hf, hq, hc9, hs9⟩ := hq.add hf
  refine xdc_v (xd_runS (As := [.ref r53, .int (-1)]) (rest := []) hJ hR hJs hS ⟨hx, hb, hml, hown, hts⟩ (wkDJ0_fill l hl9 D dA ro G J hJ hJA h51 (((((((((((n0 + 1) + 1) + 1) + 1) + 1) + 1) + 1) + 1 + 10) + 1 + 8) + 1 + 30) + 1) r53 (-1) g55) (va_cwS 2 hts (lw_S q189 q190 q138 q191) rfl rfl rfl cdDJ0_fill.2 ⟨Nat.le_of_ble_eq_true rfl, Nat.le_of_ble_eq_true rfl⟩) hK hH hl.1 rfl rfl (Nat.le_of_ble_eq_true rfl) dX1_init_124 ⟨hc9, hs9⟩) hH hR (by omega) hS (fun H locs hH hS => ?_)
  replace hn : ((((((((((((n0 + 1) + 1) + 1) + 1) + 1) + 1) + 1) + 1 + 10) + 1 + 8) + 1 + 30) + 1) + q54.2.2.1) = n0 + ((((((((((((0 + 1) + 1) + 1) + 1) + 1) + 1) + 1) + (1 + 10)) + (1 + 8)) + (1 + 30)) + 1) + q54.2.2.1) := by omega
  subst hQ
  exact xe_dv hx hb hr hlocks hH hn hS (hq.end (Option.some.inj hf)) dX1_init_127
abbrev R9X0_init (res : Unit × Hv × Nat × Nat) : Room := rmD 1000 40000 res.2.2.1 res.2.2.2
set_option maxHeartbeats 4000000 in
set_option maxRecDepth 100000 in
theorem wcX0_init {p : Program} {l : Launch} (hl9 : l.stackTraces = false) {e : Env} {s : State} {m : MethodId} {args : Array Value} {below : List Frame} {meth : Method} {c : Code} {ls : Array Slot} {Q : State → Prop} (D : va_G) (dA : Nat → ClassId) (ro : Nat → Bool) (G : Gs) (J : State → Heap → Prop) (hJ : JD ro G J) (hJA : ∀ U H, J U H → AO2 U) (h0 : Hv) (n0 : Nat) (a0 : Nat) {res : Unit × Hv × Nat × Nat} (hf : P_X0_init G ro h0 n0 a0 = some res) (hname : meth.name = "<init>") (C : Cj p s m args meth c cX0_init none 1 RX0 D dA J) (hn0 : s.heap.size = n0) (hH : DS D dA ro h0 n0 (fD ro h0 n0) s.heap) (hl : lv_has ls 1 [(0, .ref a0)])
    (kk : ∀ (H : Heap) (locs : List Loc) (ls : Array Slot), DS D dA ro res.2.1 (n0 + res.2.2.1) (fD ro h0 n0) H → va_S (fD ro h0 n0) s.heap H locs → lv_has ls 1 [(0, .ref a0)] → W p l e (R9X0_init res) s m args below meth c H locs res.2.2.1 res.2.2.2 Q (F0 m 112 ls [])) : W p l e (R9X0_init res) s m args below meth c s.heap [] 0 0 Q (F0 m 0 ls []) := by
  obtain ⟨hx, hb, hr, hlocks, hml, hown, hts, hK, hJs⟩ := C
  have hS : va_S (fD ro h0 n0) s.heap s.heap [] := va_S.rf
  have hR : rD ro (fD ro h0 n0) n0 := fD_rD hH
  have hA9 : ∀ q, s.heap.size ≤ q → fD ro h0 n0 q := fun q hq => hR.2 q (hn0 ▸ hq)
  unfold P_X0_init at hf
  obtain ⟨r, er⟩ : ∃ r, r = res := ⟨_, rfl⟩
  have hq : qI r res 0 0 := by rw [er]; exact ⟨rfl, rfl, Nat.zero_add _, Nat.zero_add _⟩
  rw [← er] at hf
  have hn : n0 = n0 + 0 := rfl
  obtain ⟨H, eH⟩ : ∃ H, H = s.heap := ⟨_, rfl⟩
  obtain ⟨locs, eL⟩ : ∃ locs : List Loc, locs = [] := ⟨_, rfl⟩
  rw [← eL] at hS ⊢
  rw [← eH] at hH
  have hS : va_S (fD ro h0 n0) s.heap H locs := by rw [eH]; exact hS
  show W p l e (R9X0_init res) s m args below meth c s.heap locs 0 0 Q (F0 m 0 ls [])
  rw [← eH]
  clear er
  refine lv_aload_n hx hb dX0_init_0 rfl (lv_at hl 0 rfl) ?_
  refine W.objInit hx hb hown (hts _ q176) (hts _ q177) (hts _ q178) rfl (by rw [hml]; exact hl.1) rfl dX0_init_1 (Nat.le_of_ble_eq_true rfl) (Nat.le_of_ble_eq_true rfl) ?_
  refine lv_aload_n hx hb dX0_init_4 rfl (lv_at hl 0 rfl) ?_
  obtain ⟨r, hf, hq, hc9, hs9⟩ := hq.add hf
  obtain ⟨h1, eh1, hf⟩ := ob_bnd hf
  refine xd_new hx hb (N := 11) hts in_X1 tyX1 tyX1_ok hown (hts _ q179) (hts _ q180) (hts _ q137) hK hH hS hA9 (ci := 1) rfl (fs := [.null, .null, .null, .null, .null, .null, .null, .null, .null, .null, .null]) df_X1 hc9 hs9 dX0_init_5 (fun H hH hS => ?_)
  rw [← eh1] at hH
  replace hn : (n0 + 1) = n0 + (0 + 1) := by omega
  refine lv_dup hx hb dX0_init_8 rfl ?_
  obtain ⟨q2, g3, hf⟩ := ob_bind hf
  obtain ⟨r, hf, hq, hc9, hs9⟩ := hq.add hf
  refine xdc_v (xd_runI (As := []) (rest := [.ref n0, .ref a0]) hJ hR hJs hS ⟨hx, hb, hml, hown, hts⟩ (wkX1_init l hl9 D dA ro G J hJ hJA h1 (n0 + 1) n0 g3) ⟨callB_of 0 hts (lw_meth q183) rfl rfl rfl (hts _ q137) (hts _ q181) cdX1_init.2 ⟨Nat.le_of_ble_eq_true rfl, Nat.le_of_ble_eq_true rfl⟩, rfl, hts _ q182⟩ hK hH hl.1 rfl rfl (Nat.le_of_ble_eq_true rfl) dX0_init_9 ⟨hc9, hs9⟩) hH hR (by omega) hS (fun H locs hH hS => ?_)
  replace hn : ((n0 + 1) + q2.2.2.1) = n0 + ((0 + 1) + q2.2.2.1) := by omega
  obtain ⟨h5, g4, hf⟩ := ob_bind hf
  refine xd_putF hx hb hts in_X0 tyX0 tyX0_ok nmX0 hown hK hH hS (ci := 0) rfl 0 (by decide) (hts _ q252) (fun _ h => h) rfl (hname.trans rfl) rfl (v := .ref n0) rfl rfl g4 dX0_init_12 (fun H locs hH hS => ?_)
  refine lv_aload_n hx hb dX0_init_15 rfl (lv_at hl 0 rfl) ?_
  obtain ⟨r, hf, hq, hc9, hs9⟩ := hq.add hf
  obtain ⟨h6, eh6, hf⟩ := ob_bnd hf
  refine xd_new hx hb (N := 11) hts in_X1 tyX1 tyX1_ok hown (hts _ q179) (hts _ q180) (hts _ q137) hK hH hS hA9 (ci := 1) rfl (fs := [.null, .null, .null, .null, .null, .null, .null, .null, .null, .null, .null]) df_X1 hc9 hs9 dX0_init_16 (fun H hH hS => ?_)
  rw [← eh6] at hH
  replace hn : (((n0 + 1) + q2.2.2.1) + 1) = n0 + (((0 + 1) + q2.2.2.1) + 1) := by omega
  refine lv_dup hx hb dX0_init_19 rfl ?_
  obtain ⟨q7, g8, hf⟩ := ob_bind hf
  obtain ⟨r, hf, hq, hc9, hs9⟩ := hq.add hf
  refine xdc_v (xd_runI (As := []) (rest := [.ref ((n0 + 1) + q2.2.2.1), .ref a0]) hJ hR hJs hS ⟨hx, hb, hml, hown, hts⟩ (wkX1_init l hl9 D dA ro G J hJ hJA h6 (((n0 + 1) + q2.2.2.1) + 1) ((n0 + 1) + q2.2.2.1) g8) ⟨callB_of 0 hts (lw_meth q183) rfl rfl rfl (hts _ q137) (hts _ q181) cdX1_init.2 ⟨Nat.le_of_ble_eq_true rfl, Nat.le_of_ble_eq_true rfl⟩, rfl, hts _ q182⟩ hK hH hl.1 rfl rfl (Nat.le_of_ble_eq_true rfl) dX0_init_20 ⟨hc9, hs9⟩) hH hR (by omega) hS (fun H locs hH hS => ?_)
  replace hn : ((((n0 + 1) + q2.2.2.1) + 1) + q7.2.2.1) = n0 + ((((0 + 1) + q2.2.2.1) + 1) + q7.2.2.1) := by omega
  obtain ⟨h10, g9, hf⟩ := ob_bind hf
  refine xd_putF hx hb hts in_X0 tyX0 tyX0_ok nmX0 hown hK hH hS (ci := 0) rfl 1 (by decide) (hts _ q253) (fun _ h => h) rfl (hname.trans rfl) rfl (v := .ref ((n0 + 1) + q2.2.2.1)) rfl rfl g9 dX0_init_23 (fun H locs hH hS => ?_)
  refine lv_aload_n hx hb dX0_init_26 rfl (lv_at hl 0 rfl) ?_
  refine lv_sipush (v := 300) hx hb dX0_init_27 (by decide) ?_
  obtain ⟨g11, hf⟩ := ob_gp hf
  obtain ⟨r, hf, hq, hc9, hs9⟩ := hq.add hf
  obtain ⟨h12, eh12, hf⟩ := ob_bnd hf
  refine xd_newi (atype := .byte) (ty := .byte) hx hb 2 1 rfl rfl rfl (fun h => h) (by decide) (hts _ q304) hK hH hS hA9 (N := (300 : Int32).toNatClampNeg) (xg_n0 g11) rfl (xg_n1 g11) hc9 hs9 dX0_init_30 (fun H hH hS => ?_)
  rw [← eh12] at hH
  replace hn : (((((n0 + 1) + q2.2.2.1) + 1) + q7.2.2.1) + 1) = n0 + (((((0 + 1) + q2.2.2.1) + 1) + q7.2.2.1) + 1) := by omega
  obtain ⟨h14, g13, hf⟩ := ob_bind hf
  refine xd_putF hx hb hts in_X0 tyX0 tyX0_ok nmX0 hown hK hH hS (ci := 0) rfl 2 (by decide) (hts _ q254) (fun _ h => h) rfl (hname.trans rfl) rfl (v := .ref ((((n0 + 1) + q2.2.2.1) + 1) + q7.2.2.1)) rfl rfl g13 dX0_init_32 (fun H locs hH hS => ?_)
  refine lv_aload_n hx hb dX0_init_35 rfl (lv_at hl 0 rfl) ?_
  refine lv_iconst (v := (-1)) hx hb dX0_init_36 (by decide) ?_
  obtain ⟨h16, g15, hf⟩ := ob_bind hf
  refine xd_put hx hb hts in_X0 tyX0 tyX0_ok nmX0 hown hK hH hS (ci := 0) rfl 4 (by decide) (hts _ q256) (fun _ h => h) rfl (v := .int (-1)) rfl rfl g15 dX0_init_37 (fun H locs hH hS => ?_)
  refine lv_aload_n hx hb dX0_init_40 rfl (lv_at hl 0 rfl) ?_
  refine lv_iconst (v := (-1)) hx hb dX0_init_41 (by decide) ?_
  obtain ⟨h18, g17, hf⟩ := ob_bind hf
  refine xd_put hx hb hts in_X0 tyX0 tyX0_ok nmX0 hown hK hH hS (ci := 0) rfl 5 (by decide) (hts _ q257) (fun _ h => h) rfl (v := .int (-1)) rfl rfl g17 dX0_init_42 (fun H locs hH hS => ?_)
  refine lv_aload_n hx hb dX0_init_45 rfl (lv_at hl 0 rfl) ?_
  refine lv_bipush (v := 16) hx hb dX0_init_46 (by decide) ?_
  obtain ⟨g19, hf⟩ := ob_gp hf
  obtain ⟨r, hf, hq, hc9, hs9⟩ := hq.add hf
  obtain ⟨h20, eh20, hf⟩ := ob_bnd hf
  refine xd_newi (atype := .int) (ty := .int) hx hb 1 0 rfl rfl rfl (fun h => h) (by decide) (hts _ q237) hK hH hS hA9 (N := (16 : Int32).toNatClampNeg) (xg_n0 g19) rfl (xg_n1 g19) hc9 hs9 dX0_init_48 (fun H hH hS => ?_)
  rw [← eh20] at hH
  replace hn : ((((((n0 + 1) + q2.2.2.1) + 1) + q7.2.2.1) + 1) + 1) = n0 + ((((((0 + 1) + q2.2.2.1) + 1) + q7.2.2.1) + 1) + 1) := by omega
  obtain ⟨h22, g21, hf⟩ := ob_bind hf
  refine xd_putF hx hb hts in_X0 tyX0 tyX0_ok nmX0 hown hK hH hS (ci := 0) rfl 6 (by decide) (hts _ q258) (fun _ h => h) rfl (hname.trans rfl) rfl (v := .ref (((((n0 + 1) + q2.2.2.1) + 1) + q7.2.2.1) + 1)) rfl rfl g21 dX0_init_50 (fun H locs hH hS => ?_)
  refine lv_aload_n hx hb dX0_init_53 rfl (lv_at hl 0 rfl) ?_
  refine lv_sipush (v := 149) hx hb dX0_init_54 (by decide) ?_
  obtain ⟨g23, hf⟩ := ob_gp hf
  obtain ⟨r, hf, hq, hc9, hs9⟩ := hq.add hf
  obtain ⟨h24, eh24, hf⟩ := ob_bnd hf
  refine xd_newi (atype := .int) (ty := .int) hx hb 1 0 rfl rfl rfl (fun h => h) (by decide) (hts _ q237) hK hH hS hA9 (N := (149 : Int32).toNatClampNeg) (xg_n0 g23) rfl (xg_n1 g23) hc9 hs9 dX0_init_57 (fun H hH hS => ?_)
  rw [← eh24] at hH
  replace hn : (((((((n0 + 1) + q2.2.2.1) + 1) + q7.2.2.1) + 1) + 1) + 1) = n0 + (((((((0 + 1) + q2.2.2.1) + 1) + q7.2.2.1) + 1) + 1) + 1) := by omega
  obtain ⟨h26, g25, hf⟩ := ob_bind hf
  refine xd_putF hx hb hts in_X0 tyX0 tyX0_ok nmX0 hown hK hH hS (ci := 0) rfl 7 (by decide) (hts _ q259) (fun _ h => h) rfl (hname.trans rfl) rfl (v := .ref ((((((n0 + 1) + q2.2.2.1) + 1) + q7.2.2.1) + 1) + 1)) rfl rfl g25 dX0_init_59 (fun H locs hH hS => ?_)
  refine lv_aload_n hx hb dX0_init_62 rfl (lv_at hl 0 rfl) ?_
  refine lv_bipush (v := 6) hx hb dX0_init_63 (by decide) ?_
  obtain ⟨g27, hf⟩ := ob_gp hf
  obtain ⟨r, hf, hq, hc9, hs9⟩ := hq.add hf
  obtain ⟨h28, eh28, hf⟩ := ob_bnd hf
  refine xd_newi (atype := .int) (ty := .int) hx hb 1 0 rfl rfl rfl (fun h => h) (by decide) (hts _ q237) hK hH hS hA9 (N := (6 : Int32).toNatClampNeg) (xg_n0 g27) rfl (xg_n1 g27) hc9 hs9 dX0_init_65 (fun H hH hS => ?_)
  rw [← eh28] at hH
  replace hn : ((((((((n0 + 1) + q2.2.2.1) + 1) + q7.2.2.1) + 1) + 1) + 1) + 1) = n0 + ((((((((0 + 1) + q2.2.2.1) + 1) + q7.2.2.1) + 1) + 1) + 1) + 1) := by omega
  obtain ⟨h30, g29, hf⟩ := ob_bind hf
  refine xd_putF hx hb hts in_X0 tyX0 tyX0_ok nmX0 hown hK hH hS (ci := 0) rfl 8 (by decide) (hts _ q260) (fun _ h => h) rfl (hname.trans rfl) rfl (v := .ref (((((((n0 + 1) + q2.2.2.1) + 1) + q7.2.2.1) + 1) + 1) + 1)) rfl rfl g29 dX0_init_67 (fun H locs hH hS => ?_)
  refine lv_aload_n hx hb dX0_init_70 rfl (lv_at hl 0 rfl) ?_
  refine lv_iconst (v := 5) hx hb dX0_init_71 (by decide) ?_
  obtain ⟨g31, hf⟩ := ob_gp hf
  obtain ⟨r, hf, hq, hc9, hs9⟩ := hq.add hf
  obtain ⟨h32, eh32, hf⟩ := ob_bnd hf
  refine xd_newi (atype := .int) (ty := .int) hx hb 1 0 rfl rfl rfl (fun h => h) (by decide) (hts _ q237) hK hH hS hA9 (N := (5 : Int32).toNatClampNeg) (xg_n0 g31) rfl (xg_n1 g31) hc9 hs9 dX0_init_72 (fun H hH hS => ?_)
  rw [← eh32] at hH
  replace hn : (((((((((n0 + 1) + q2.2.2.1) + 1) + q7.2.2.1) + 1) + 1) + 1) + 1) + 1) = n0 + (((((((((0 + 1) + q2.2.2.1) + 1) + q7.2.2.1) + 1) + 1) + 1) + 1) + 1) := by omega
  obtain ⟨h34, g33, hf⟩ := ob_bind hf
  refine xd_putF hx hb hts in_X0 tyX0 tyX0_ok nmX0 hown hK hH hS (ci := 0) rfl 9 (by decide) (hts _ q261) (fun _ h => h) rfl (hname.trans rfl) rfl (v := .ref ((((((((n0 + 1) + q2.2.2.1) + 1) + q7.2.2.1) + 1) + 1) + 1) + 1)) rfl rfl g33 dX0_init_74 (fun H locs hH hS => ?_)
  refine lv_aload_n hx hb dX0_init_77 rfl (lv_at hl 0 rfl) ?_
  refine lv_iconst (v := 5) hx hb dX0_init_78 (by decide) ?_
  obtain ⟨g35, hf⟩ := ob_gp hf
  obtain ⟨r, hf, hq, hc9, hs9⟩ := hq.add hf
  obtain ⟨h36, eh36, hf⟩ := ob_bnd hf
  refine xd_newi (atype := .int) (ty := .int) hx hb 1 0 rfl rfl rfl (fun h => h) (by decide) (hts _ q237) hK hH hS hA9 (N := (5 : Int32).toNatClampNeg) (xg_n0 g35) rfl (xg_n1 g35) hc9 hs9 dX0_init_79 (fun H hH hS => ?_)
  rw [← eh36] at hH
  replace hn : ((((((((((n0 + 1) + q2.2.2.1) + 1) + q7.2.2.1) + 1) + 1) + 1) + 1) + 1) + 1) = n0 + ((((((((((0 + 1) + q2.2.2.1) + 1) + q7.2.2.1) + 1) + 1) + 1) + 1) + 1) + 1) := by omega
  obtain ⟨h38, g37, hf⟩ := ob_bind hf
  refine xd_putF hx hb hts in_X0 tyX0 tyX0_ok nmX0 hown hK hH hS (ci := 0) rfl 10 (by decide) (hts _ q262) (fun _ h => h) rfl (hname.trans rfl) rfl (v := .ref (((((((((n0 + 1) + q2.2.2.1) + 1) + q7.2.2.1) + 1) + 1) + 1) + 1) + 1)) rfl rfl g37 dX0_init_81 (fun H locs hH hS => ?_)
  refine lv_aload_n hx hb dX0_init_84 rfl (lv_at hl 0 rfl) ?_
  refine lv_bipush (v := 6) hx hb dX0_init_85 (by decide) ?_
  obtain ⟨g39, hf⟩ := ob_gp hf
  obtain ⟨r, hf, hq, hc9, hs9⟩ := hq.add hf
  obtain ⟨h40, eh40, hf⟩ := ob_bnd hf
  refine xd_newi (atype := .int) (ty := .int) hx hb 1 0 rfl rfl rfl (fun h => h) (by decide) (hts _ q237) hK hH hS hA9 (N := (6 : Int32).toNatClampNeg) (xg_n0 g39) rfl (xg_n1 g39) hc9 hs9 dX0_init_87 (fun H hH hS => ?_)
  rw [← eh40] at hH
  replace hn : (((((((((((n0 + 1) + q2.2.2.1) + 1) + q7.2.2.1) + 1) + 1) + 1) + 1) + 1) + 1) + 1) = n0 + (((((((((((0 + 1) + q2.2.2.1) + 1) + q7.2.2.1) + 1) + 1) + 1) + 1) + 1) + 1) + 1) := by omega
  obtain ⟨h42, g41, hf⟩ := ob_bind hf
  refine xd_putF hx hb hts in_X0 tyX0 tyX0_ok nmX0 hown hK hH hS (ci := 0) rfl 13 (by decide) (hts _ q265) (fun _ h => h) rfl (hname.trans rfl) rfl (v := .ref ((((((((((n0 + 1) + q2.2.2.1) + 1) + q7.2.2.1) + 1) + 1) + 1) + 1) + 1) + 1)) rfl rfl g41 dX0_init_89 (fun H locs hH hS => ?_)
  refine lv_aload_n hx hb dX0_init_92 rfl (lv_at hl 0 rfl) ?_
  refine lv_bipush (v := 6) hx hb dX0_init_93 (by decide) ?_
  obtain ⟨g43, hf⟩ := ob_gp hf
  obtain ⟨r, hf, hq, hc9, hs9⟩ := hq.add hf
  obtain ⟨h44, eh44, hf⟩ := ob_bnd hf
  refine xd_newi (atype := .int) (ty := .int) hx hb 1 0 rfl rfl rfl (fun h => h) (by decide) (hts _ q237) hK hH hS hA9 (N := (6 : Int32).toNatClampNeg) (xg_n0 g43) rfl (xg_n1 g43) hc9 hs9 dX0_init_95 (fun H hH hS => ?_)
  rw [← eh44] at hH
  replace hn : ((((((((((((n0 + 1) + q2.2.2.1) + 1) + q7.2.2.1) + 1) + 1) + 1) + 1) + 1) + 1) + 1) + 1) = n0 + ((((((((((((0 + 1) + q2.2.2.1) + 1) + q7.2.2.1) + 1) + 1) + 1) + 1) + 1) + 1) + 1) + 1) := by omega
  obtain ⟨h46, g45, hf⟩ := ob_bind hf
  refine xd_putF hx hb hts in_X0 tyX0 tyX0_ok nmX0 hown hK hH hS (ci := 0) rfl 14 (by decide) (hts _ q266) (fun _ h => h) rfl (hname.trans rfl) rfl (v := .ref (((((((((((n0 + 1) + q2.2.2.1) + 1) + q7.2.2.1) + 1) + 1) + 1) + 1) + 1) + 1) + 1)) rfl rfl g45 dX0_init_97 (fun H locs hH hS => ?_)
  refine lv_aload_n hx hb dX0_init_100 rfl (lv_at hl 0 rfl) ?_
  refine lv_bipush (v := 6) hx hb dX0_init_101 (by decide) ?_
  refine lv_bipush (v := 8) hx hb dX0_init_103 (by decide) ?_
  obtain ⟨r, hf, hq, hc9, hs9⟩ := hq.add hf
  obtain ⟨h47, eh47, hf⟩ := ob_bnd hf
  refine xd_multi hx hb hown (hts _ q238) (hJA _ _ hJs).1 (hts _ q237) hK hH hS hA9 (N := 6) (M := 8) (by decide) (by decide) rfl rfl (by decide) (by decide) hc9 hs9 dX0_init_105 (fun H locs hH hS => ?_)
  rw [← eh47] at hH
  replace hn : (((((((((((((n0 + 1) + q2.2.2.1) + 1) + q7.2.2.1) + 1) + 1) + 1) + 1) + 1) + 1) + 1) + 1) + 1 + 6) = n0 + (((((((((((((0 + 1) + q2.2.2.1) + 1) + q7.2.2.1) + 1) + 1) + 1) + 1) + 1) + 1) + 1) + 1) + (1 + 6)) := by omega
  obtain ⟨h49, g48, hf⟩ := ob_bind hf
  refine xd_putF hx hb hts in_X0 tyX0 tyX0_ok nmX0 hown hK hH hS (ci := 0) rfl 15 (by decide) (hts _ q267) (fun _ h => h) rfl (hname.trans rfl) rfl (v := .ref ((((((((((((n0 + 1) + q2.2.2.1) + 1) + q7.2.2.1) + 1) + 1) + 1) + 1) + 1) + 1) + 1) + 1)) rfl rfl g48 dX0_init_109 (fun H locs hH hS => ?_)
  have hres := hq.end (Option.some.inj hf)
  subst hres
  exact kk H locs ls (hn ▸ hH) hS (lv_sub hl [0] rfl)
