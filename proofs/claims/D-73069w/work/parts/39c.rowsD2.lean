/-! DYNAMIC: rows more -/
theorem xz_nar {v : Int32} (h : v = 0 ∨ v = 1) : narrow .boolean (.int v) = .int v := by rcases h with rfl | rfl <;> decide +kernel
theorem xz_fit {v : Int32} (h : v = 0 ∨ v = 1) : fits .boolean (.int v) = true := by rcases h with rfl | rfl <;> decide +kernel
/-- a length that can be made -/
def xgn (k : Int32) : Bool := !decide (k < 0) && decide (k.toNatClampNeg * 4 ≤ 536870912)
theorem xg_n0 {k : Int32} (h : xgn k = true) : ¬ k < 0 := by
  intro h2
  simp [xgn, h2] at h
theorem xg_n1 {k : Int32} (h : xgn k = true) : k.toNatClampNeg * 4 ≤ 536870912 := by
  unfold xgn at h
  rw [Bool.and_eq_true] at h
  exact of_decide_eq_true h.2
theorem xg_nn {i : Int32} (h : (!decide (i < 0)) = true) : ¬ i < 0 := by
  intro h2
  rw [decide_eq_true h2] at h
  cases h
theorem xg_le0 {ρ : Type} {r res : ρ × Hv × Nat × Nat} {cells slots : Nat} (h : qI r res cells slots) : cells + 0 ≤ res.2.2.1 ∧ slots + 0 ≤ res.2.2.2 := ⟨by have := h.2.2.1; omega, by have := h.2.2.2; omega⟩
theorem xg_thr {α ρ : Type} {q : (Nat ⊕ α) × Hv × Nat × Nat} {e : Nat} {r res : (Nat ⊕ ρ) × Hv × Nat × Nat} {cells slots : Nat} (h : qI r res cells slots) (he : (.inl e, q.2.1, q.2.2.1, q.2.2.2) = r) : cells + q.2.2.1 ≤ res.2.2.1 ∧ slots + q.2.2.2 ≤ res.2.2.2 := by
  rw [h.thr he]
  exact ⟨Nat.le_refl _, Nat.le_refl _⟩
/-! generated below -/
theorem df_X3 : ∀ j, j < 8 → defaultValue (tyX3 j) = vp_V [.null, .int 0, .int 0, .int 0, .int 0, .int 0, .int 0, .int 0] j := fun j hj => match j, hj with
  | 0, _ => rfl
  | 1, _ => rfl
  | 2, _ => rfl
  | 3, _ => rfl
  | 4, _ => rfl
  | 5, _ => rfl
  | 6, _ => rfl
  | 7, _ => rfl
  | n + 8, h => absurd h (by omega)
theorem df_X4 : ∀ j, j < 3 → defaultValue (tyX4 j) = vp_V [.null, .int 0, .null] j := fun j hj => match j, hj with
  | 0, _ => rfl
  | 1, _ => rfl
  | 2, _ => rfl
  | n + 3, h => absurd h (by omega)
theorem df_X5 : ∀ j, j < 8 → defaultValue (tyX5 j) = vp_V [.null, .null, .null, .null, .null, .int 0, .int 0, .int 0] j := fun j hj => match j, hj with
  | 0, _ => rfl
  | 1, _ => rfl
  | 2, _ => rfl
  | 3, _ => rfl
  | 4, _ => rfl
  | 5, _ => rfl
  | 6, _ => rfl
  | 7, _ => rfl
  | n + 8, h => absurd h (by omega)
theorem df_X6 : ∀ j, j < 3 → defaultValue (tyX6 j) = vp_V [.null, .null, .null] j := fun j hj => match j, hj with
  | 0, _ => rfl
  | 1, _ => rfl
  | 2, _ => rfl
  | n + 3, h => absurd h (by omega)
theorem df_X7 : ∀ j, j < 1 → defaultValue (tyX7 j) = vp_V [.int 0] j := fun j hj => match j, hj with
  | 0, _ => rfl
  | n + 1, h => absurd h (by omega)
theorem df_X8 : ∀ j, j < 1 → defaultValue (tyX8 j) = vp_V [.null] j := fun j hj => match j, hj with
  | 0, _ => rfl
  | n + 1, h => absurd h (by omega)
theorem df_X9 : ∀ j, j < 3 → defaultValue (tyX9 j) = vp_V [.int 0, .null, .null] j := fun j hj => match j, hj with
  | 0, _ => rfl
  | 1, _ => rfl
  | 2, _ => rfl
  | n + 3, h => absurd h (by omega)
theorem df_X10 : ∀ j, j < 2 → defaultValue (tyX10 j) = vp_V [.int 0, .null] j := fun j hj => match j, hj with
  | 0, _ => rfl
  | 1, _ => rfl
  | n + 2, h => absurd h (by omega)
theorem df_X11 : ∀ j, j < 3 → defaultValue (tyX11 j) = vp_V [.null, .null, .null] j := fun j hj => match j, hj with
  | 0, _ => rfl
  | 1, _ => rfl
  | 2, _ => rfl
  | n + 3, h => absurd h (by omega)
theorem df_X12 : ∀ j, j < 2 → defaultValue (tyX12 j) = vp_V [.null, .null] j := fun j hj => match j, hj with
  | 0, _ => rfl
  | 1, _ => rfl
  | n + 2, h => absurd h (by omega)
theorem df_X13 : ∀ j, j < 1 → defaultValue (tyX13 j) = vp_V [.int 0] j := fun j hj => match j, hj with
  | 0, _ => rfl
  | n + 1, h => absurd h (by omega)
theorem df_X14 : ∀ j, j < 1 → defaultValue (tyX14 j) = vp_V [.null] j := fun j hj => match j, hj with
  | 0, _ => rfl
  | n + 1, h => absurd h (by omega)
theorem df_X15 : ∀ j, j < 1 → defaultValue (tyX15 j) = vp_V [.null] j := fun j hj => match j, hj with
  | 0, _ => rfl
  | n + 1, h => absurd h (by omega)
theorem df_X16 : ∀ j, j < 5 → defaultValue (tyX16 j) = vp_V [.int 0, .int 0, .int 0, .int 0, .int 0] j := fun j hj => match j, hj with
  | 0, _ => rfl
  | 1, _ => rfl
  | 2, _ => rfl
  | 3, _ => rfl
  | 4, _ => rfl
  | n + 5, h => absurd h (by omega)
theorem df_J3 : ∀ j, j < 3 → defaultValue (tyJ3 j) = vp_V [.int 0, .null, .int 0] j := fun j hj => match j, hj with
  | 0, _ => rfl
  | 1, _ => rfl
  | 2, _ => rfl
  | n + 3, h => absurd h (by omega)
def isO (h : Hv) (a : Nat) : Bool := match hC h a with
  | some ci => decide (ci = 5) || decide (ci = 6) || decide (ci = 7) || decide (ci = 8) || decide (ci = 9) || decide (ci = 10) || decide (ci = 11) || decide (ci = 12) || decide (ci = 13) || decide (ci = 14) || decide (ci = 3) || decide (ci = 16)
  | none => false
theorem xd_isO {D : va_G} {dA : Nat → ClassId} {h : Hv} {H : Heap} {s : State} {a : Nat} (hK : va_K D clX (tyX dA) s) (hH : HF D dA h H) (hw : ∀ w ∈ cdX, va_Nw w s) (hc : isO h a = true) : ∃ C : String, (∃ cellV : Cell, H[a]? = some cellV ∧ cellV.vm.isStatics = false ∧ s.vm.findClass C = some cellV.cls) ∧ va_Nw (.castable C "java/lang/Object") s := by
  unfold isO at hc
  split at hc
  · next ci hci =>
    simp only [Bool.or_eq_true, decide_eq_true_eq] at hc
    rcases hc with (((((((((((rfl | rfl) | rfl) | rfl) | rfl) | rfl) | rfl) | rfl) | rfl) | rfl) | rfl) | rfl)
    · exact ⟨_, xh_recv hK hH hci (q := clX[5]) rfl, hw _ (List.mem_of_getElem? (i := 0) rfl)⟩
    · exact ⟨_, xh_recv hK hH hci (q := clX[6]) rfl, hw _ (List.mem_of_getElem? (i := 1) rfl)⟩
    · exact ⟨_, xh_recv hK hH hci (q := clX[7]) rfl, hw _ (List.mem_of_getElem? (i := 2) rfl)⟩
    · exact ⟨_, xh_recv hK hH hci (q := clX[8]) rfl, hw _ (List.mem_of_getElem? (i := 3) rfl)⟩
    · exact ⟨_, xh_recv hK hH hci (q := clX[9]) rfl, hw _ (List.mem_of_getElem? (i := 4) rfl)⟩
    · exact ⟨_, xh_recv hK hH hci (q := clX[10]) rfl, hw _ (List.mem_of_getElem? (i := 5) rfl)⟩
    · exact ⟨_, xh_recv hK hH hci (q := clX[11]) rfl, hw _ (List.mem_of_getElem? (i := 6) rfl)⟩
    · exact ⟨_, xh_recv hK hH hci (q := clX[12]) rfl, hw _ (List.mem_of_getElem? (i := 7) rfl)⟩
    · exact ⟨_, xh_recv hK hH hci (q := clX[13]) rfl, hw _ (List.mem_of_getElem? (i := 8) rfl)⟩
    · exact ⟨_, xh_recv hK hH hci (q := clX[14]) rfl, hw _ (List.mem_of_getElem? (i := 9) rfl)⟩
    · exact ⟨_, xh_recv hK hH hci (q := clX[3]) rfl, hw _ (List.mem_of_getElem? (i := 10) rfl)⟩
    · exact ⟨_, xh_recv hK hH hci (q := clX[16]) rfl, hw _ (List.mem_of_getElem? (i := 11) rfl)⟩
  · cases hc
theorem xd_isS {D : va_G} {dA : Nat → ClassId} {h : Hv} {H : Heap} {s : State} {a : Nat} (hK : va_K D clX (tyX dA) s) (hH : HF D dA h H) (hw : TW s) (hc : isS h a = true) : ∃ C : String, (∃ cellV : Cell, H[a]? = some cellV ∧ cellV.vm.isStatics = false ∧ s.vm.findClass C = some cellV.cls) ∧ va_Nw (.castable C "QuarrelsPawned$Sum") s := by
  unfold isS at hc
  split at hc
  · next ci hci =>
    simp only [Bool.or_eq_true, decide_eq_true_eq] at hc
    rcases hc with ((((((rfl | rfl) | rfl) | rfl) | rfl) | rfl) | rfl)
    · exact ⟨_, xh_recv hK hH hci (q := clX[5]) rfl, hw.cast 0 rfl⟩
    · exact ⟨_, xh_recv hK hH hci (q := clX[6]) rfl, hw.cast 1 rfl⟩
    · exact ⟨_, xh_recv hK hH hci (q := clX[7]) rfl, hw.cast 2 rfl⟩
    · exact ⟨_, xh_recv hK hH hci (q := clX[8]) rfl, hw.cast 3 rfl⟩
    · exact ⟨_, xh_recv hK hH hci (q := clX[12]) rfl, hw.cast 4 rfl⟩
    · exact ⟨_, xh_recv hK hH hci (q := clX[13]) rfl, hw.cast 5 rfl⟩
    · exact ⟨_, xh_recv hK hH hci (q := clX[14]) rfl, hw.cast 6 rfl⟩
  · cases hc
def hLen (G : Gs) (h : Hv) (a : Nat) : Option Nat := if a = gE G then some 0 else (hAq h a 8).map (fun x => x.1)
section XD2
variable {p : Program} {l : Launch} {e : Env} {R : Room} {s : State} {m : MethodId} {args : Array Value} {below : List Frame} {meth : Method} {c : Code} {H : Heap} {locs : List Loc} {cells slots : Nat} {Q : State → Prop}
variable {cc : ByteArray} {pc : Nat} {ls : Array Slot} {rest st0 : List Value} {A : Nat → Prop} {H0 : Heap}
variable {D : va_G} {dA : Nat → ClassId} {h : Hv} {own : String} {index : Nat}
theorem xh_bald (hexec : p.tables.exec = Jvm.exec) (hb : c.code = cc) (hK : va_K D clX (tyX dA) s) (hH : HF D dA h H) {a : Nat} {x : Nat × (Nat → Int32)} (hx : hAi h a 2 = some x) {i : Int32} {j : Nat} (hin : vp_in i x.1) (hj : i.toNatClampNeg = j) (hdg : decode cc pc = .ok (.baload, 1))
    (kk : W p l e R s m args below meth c H locs cells slots Q (F0 m (pc + 1) ls (.int (x.2 j) :: rest))) : W p l e R s m args below meth c H locs cells slots Q (F0 m pc ls (.int i :: .ref a :: rest)) := by
  subst hj
  obtain ⟨h1, h2⟩ := hAi_spec hx
  have hat := hH a h1
  rw [h2] at hat
  obtain ⟨cell, q1, q3, q5, q2, q6⟩ := hat
  have hlt : i.toNatClampNeg < x.1 := Nat.not_le.mp fun q => hin (Or.inr q)
  have q7 : cell.slots.size = x.1 := by
    rw [q6]; show (arrV _ _ _).slots.size = _; rw [arrV_size]
  exact W.bald (v := .int (x.2 i.toNatClampNeg)) hexec hb q1 (arr_weak (hK.2 1 _ rfl).1 q2 q5) q3 (by rw [q7]; exact hin) (by rw [q6]; show (arrV _ _ _).slots[_]? = _; rw [arrV_read _ _ hlt]) rfl rfl hdg kk
theorem xh_alenq (hexec : p.tables.exec = Jvm.exec) (hb : c.code = cc) (hK : va_K D clX (tyX dA) s) (hH : HF D dA h H) {a : Nat} (kd t0 : Nat) {C : String} (ht : (tyX dA)[t0]? = some (dA kd, .object C)) {x : Nat × (Nat → Option Nat)} (hx : hAq h a kd = some x) (hdg : decode cc pc = .ok (.arraylength, 1))
    (kk : W p l e R s m args below meth c H locs cells slots Q (F0 m (pc + 1) ls (.int (Int32.ofNat x.1) :: rest))) : W p l e R s m args below meth c H locs cells slots Q (F0 m pc ls (.ref a :: rest)) := by
  obtain ⟨h1, h2⟩ := hAq_spec hx
  have hat := hH a h1
  rw [h2] at hat
  obtain ⟨cell, q1, q3, q5, q2, q6⟩ := hat
  exact W.alen (n := Int32.ofNat x.1) hexec hb q1 (arr_weak (hK.2 t0 _ ht).1 q2 q5) (by rw [q6]; show (arrV _ _ _).slots.size.toInt32 = _; rw [arrV_size] <;> rfl) rfl rfl hdg kk
theorem xd_talq (hexec : p.tables.exec = Jvm.exec) (hb : c.code = cc) {C : String} {t N : Nat} {f : Nat → Nat} (hT : va_T (.object C) t N (fun j => .ref (f j)) A s s.heap) (hS : va_S A s.heap H locs) {i : Int32} (hin : vp_in i N) (hdg : decode cc pc = .ok (.aaload, 1))
    (kk : W p l e R s m args below meth c H locs cells slots Q (F0 m (pc + 1) ls (.ref (f i.toNatClampNeg) :: rest))) : W p l e R s m args below meth c H locs cells slots Q (F0 m pc ls (.int i :: .ref t :: rest)) := vb_tq hexec hb hT hS hin rfl hdg kk
theorem xh_getiN (hexec : p.tables.exec = Jvm.exec) (hb : c.code = cc) {ref C host : String} {T9 : u_T} {NF ci : Nat} (hts : ∀ w ∈ lw_all, w.before args s = true) (hin : ∀ w ∈ u_ws C T9 NF, w ∈ lw_all) (hown : s.vm.findClass own = some m.cls) (hK : va_K D clX (tyX dA) s) (hH : HF D dA h H) {a : Nat} (hc : clX[ci]? = some (C, T9, NF)) (j : Nat) (hj : j < NF) (hlink : va_Nw (.fieldLinkNest own index ref (T9 j).2.1 (T9 j).2.2.1 host) s) (hsame : ∀ x, s.fieldFound? (T9 j).1 (T9 j).2.1 (T9 j).2.2.1 = some x → s.fieldFound? ref (T9 j).2.1 (T9 j).2.2.1 = some x) {v : Int32} (hv : hI h a ci j = some v) (hdg : decode cc pc = .ok (.getfield index, 3))
    (kk : W p l e R s m args below meth c H locs cells slots Q (F0 m (pc + 3) ls (.int v :: rest))) : W p l e R s m args below meth c H locs cells slots Q (F0 m pc ls (.ref a :: rest)) := by
  exact xh_getWN hexec hb hts hin hown hK hH hc j hj hlink hsame (hI_spec hv) hdg kk
/-- how long a list's array is (the empty one is known for itself) -/
theorem xh_alenG {G : Gs} (hexec : p.tables.exec = Jvm.exec) (hb : c.code = cc) (hZ : va_T (.object "java/lang/Object") (gE G) 0 (fun _ => .null) A s s.heap) (hS : va_S A s.heap H locs) (hK : va_K D clX (tyX dA) s) (hH : HF D dA h H) {a n : Nat} (hx : hLen G h a = some n) (hdg : decode cc pc = .ok (.arraylength, 1))
    (kk : W p l e R s m args below meth c H locs cells slots Q (F0 m (pc + 1) ls (.int (Int32.ofNat n) :: rest))) : W p l e R s m args below meth c H locs cells slots Q (F0 m pc ls (.ref a :: rest)) := by
  unfold hLen at hx
  split at hx
  · next e =>
    subst e
    cases hx
    exact va_tlen hexec hb hZ hS rfl hdg kk
  · cases hy : hAq h a 8 with
    | none => rw [hy] at hx; cases hx
    | some x =>
      rw [hy] at hx
      cases hx
      exact xh_alenq hexec hb hK hH 8 5 rfl hy hdg kk
end XD2
