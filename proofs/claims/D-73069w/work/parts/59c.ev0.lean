/-! what QuarrelsPawned makes (printed by evx0.py) -/
set_option maxRecDepth 10000 in
theorem X0_init_ev {G : Gs} {ro : Nat → Bool} {h : Hv} {n a : Nat} (A0 : At h a (.inl (0, [.null, .null, .null, .int 0, .int 0, .int 0, .null, .null, .null, .null, .null, .int 0, .int 0, .null, .null, .null, .int 0]))) (hra : ro a = false) (hrn : ∀ q, n ≤ q → ro q = false) (han : a < n) : ∃ (r : Unit × Hv × Nat × Nat), P_X0_init G ro h n a = some r ∧ r.2.2.1 = 135 ∧ r.2.2.2 = 10067 ∧ (∀ q x, q < n → q ≠ a → At h q x → At r.2.1 q x) ∧ At r.2.1 a (.inl (0, [.ref (n), .ref (((n + 1) + 59)), .ref (((((n + 1) + 59) + 1) + 59)), .int 0, .int (-1), .int (-1), .ref ((((((n + 1) + 59) + 1) + 59) + 1)), .ref (((((((n + 1) + 59) + 1) + 59) + 1) + 1)), .ref ((((((((n + 1) + 59) + 1) + 59) + 1) + 1) + 1)), .ref (((((((((n + 1) + 59) + 1) + 59) + 1) + 1) + 1) + 1)), .ref ((((((((((n + 1) + 59) + 1) + 59) + 1) + 1) + 1) + 1) + 1)), .int 0, .int 0, .ref (((((((((((n + 1) + 59) + 1) + 59) + 1) + 1) + 1) + 1) + 1) + 1)), .ref ((((((((((((n + 1) + 59) + 1) + 59) + 1) + 1) + 1) + 1) + 1) + 1) + 1)), .ref (((((((((((((n + 1) + 59) + 1) + 59) + 1) + 1) + 1) + 1) + 1) + 1) + 1) + 1)), .int 0])) ∧ StA r.2.1 ((n + 1)) (n) ∧ StA r.2.1 ((((n + 1) + 59) + 1)) (((n + 1) + 59)) ∧ At r.2.1 (((((n + 1) + 59) + 1) + 59)) (.inr (2, (300, .inl (fun _ => 0)))) ∧ At r.2.1 ((((((n + 1) + 59) + 1) + 59) + 1)) (.inr (1, (16, .inl (fun _ => 0)))) ∧ At r.2.1 (((((((n + 1) + 59) + 1) + 59) + 1) + 1)) (.inr (1, (149, .inl (fun _ => 0)))) ∧ At r.2.1 ((((((((n + 1) + 59) + 1) + 59) + 1) + 1) + 1)) (.inr (1, (6, .inl (fun _ => 0)))) ∧ At r.2.1 (((((((((n + 1) + 59) + 1) + 59) + 1) + 1) + 1) + 1)) (.inr (1, (5, .inl (fun _ => 0)))) ∧ At r.2.1 ((((((((((n + 1) + 59) + 1) + 59) + 1) + 1) + 1) + 1) + 1)) (.inr (1, (5, .inl (fun _ => 0)))) ∧ At r.2.1 (((((((((((n + 1) + 59) + 1) + 59) + 1) + 1) + 1) + 1) + 1) + 1)) (.inr (1, (6, .inl (fun _ => 0)))) ∧ At r.2.1 ((((((((((((n + 1) + 59) + 1) + 59) + 1) + 1) + 1) + 1) + 1) + 1) + 1)) (.inr (1, (6, .inl (fun _ => 0)))) ∧ At r.2.1 (((((((((((((n + 1) + 59) + 1) + 59) + 1) + 1) + 1) + 1) + 1) + 1) + 1) + 1)) (.inr (5, (6, .inr (.inr (.inr (.inr (fun j => some (((((((((((((n + 1) + 59) + 1) + 59) + 1) + 1) + 1) + 1) + 1) + 1) + 1) + 1) + 1 + j)))))))) ∧ (∀ j, j < 6 → At r.2.1 (((((((((((((n + 1) + 59) + 1) + 59) + 1) + 1) + 1) + 1) + 1) + 1) + 1) + 1) + 1 + j) (.inr (1, (8, .inl (fun _ => 0))))) := by
  have O0 : ∀ q x, q < n → q ≠ a → At h q x → At h q x := fun q x _ _ e => e
  obtain ⟨h1, e1⟩ : ∃ x : Hv, x = hnew h (n) (.inl (1, [.null, .null, .null, .null, .null, .null, .null, .null, .null, .null, .null])) := ⟨_, rfl⟩
  have F1 : At h1 a (.inl (0, [.null, .null, .null, .int 0, .int 0, .int 0, .null, .null, .null, .null, .null, .int 0, .int 0, .null, .null, .null, .int 0])) := by rw [e1]; exact At.new A0 (by omega)
  have O1 : ∀ q x, q < n → q ≠ a → At h q x → At h1 q x := fun q x hq hqa e => by rw [e1]; exact At.new (O0 q x hq hqa e) (by omega)
  have F2 : At h1 (n) (.inl (1, [.null, .null, .null, .null, .null, .null, .null, .null, .null, .null, .null])) := by rw [e1]; exact At.new_self _ _ _
  obtain ⟨r2, P2, C2, S2, K2, T2⟩ := X1_init_ev2 (G := G) F2 (hrn _ (by omega)) (fun q hq => hrn q (by omega)) (show n < (n + 1) by omega)
  have F3 := K2 _ _ (by omega) (by omega) F1
  have O2 : ∀ q x, q < n → q ≠ a → At h q x → At r2.2.1 q x := fun q x hq hqa e => K2 q x (by omega) (by omega) (O1 q x hq hqa e)
  obtain ⟨h3, e3⟩ : ∃ x : Hv, x = hset r2.2.1 a (.inl (0, [.null, .null, .null, .int 0, .int 0, .int 0, .null, .null, .null, .null, .null, .int 0, .int 0, .null, .null, .null, .int 0].set 0 (.ref (n)))) := ⟨_, rfl⟩
  have P3 : hput ro r2.2.1 a 0 0 (.ref (n)) = some h3 := by rw [e3]; exact put_ok F3 hra (Nat.le_of_ble_eq_true rfl)
  have F4 : StA h3 ((n + 1)) (n) := T2.kept (fun q x hq e => by rw [e3]; exact At.set e (by omega))
  have O3 : ∀ q x, q < n → q ≠ a → At h q x → At h3 q x := fun q x hq hqa e => by rw [e3]; exact At.set (O2 q x hq hqa e) (by omega)
  have F5 : At h3 a (.inl (0, [.ref (n), .null, .null, .int 0, .int 0, .int 0, .null, .null, .null, .null, .null, .int 0, .int 0, .null, .null, .null, .int 0])) := by rw [e3]; exact At.set_self F3.1
  obtain ⟨h4, e4⟩ : ∃ x : Hv, x = hnew h3 (((n + 1) + 59)) (.inl (1, [.null, .null, .null, .null, .null, .null, .null, .null, .null, .null, .null])) := ⟨_, rfl⟩
  have F6 : At h4 a (.inl (0, [.ref (n), .null, .null, .int 0, .int 0, .int 0, .null, .null, .null, .null, .null, .int 0, .int 0, .null, .null, .null, .int 0])) := by rw [e4]; exact At.new F5 (by omega)
  have F7 : StA h4 ((n + 1)) (n) := F4.kept (fun q x hq e => by rw [e4]; exact At.new e (by omega))
  have O4 : ∀ q x, q < n → q ≠ a → At h q x → At h4 q x := fun q x hq hqa e => by rw [e4]; exact At.new (O3 q x hq hqa e) (by omega)
  have F8 : At h4 (((n + 1) + 59)) (.inl (1, [.null, .null, .null, .null, .null, .null, .null, .null, .null, .null, .null])) := by rw [e4]; exact At.new_self _ _ _
  obtain ⟨r5, P5, C5, S5, K5, T5⟩ := X1_init_ev2 (G := G) F8 (hrn _ (by omega)) (fun q hq => hrn q (by omega)) (show ((n + 1) + 59) < (((n + 1) + 59) + 1) by omega)
  have F9 := K5 _ _ (by omega) (by omega) F6
  have F10 : StA r5.2.1 ((n + 1)) (n) := F7.kept (fun q x hq e => K5 q x (by omega) (by omega) e)
  have O5 : ∀ q x, q < n → q ≠ a → At h q x → At r5.2.1 q x := fun q x hq hqa e => K5 q x (by omega) (by omega) (O4 q x hq hqa e)
  obtain ⟨h6, e6⟩ : ∃ x : Hv, x = hset r5.2.1 a (.inl (0, [.ref (n), .null, .null, .int 0, .int 0, .int 0, .null, .null, .null, .null, .null, .int 0, .int 0, .null, .null, .null, .int 0].set 1 (.ref (((n + 1) + 59))))) := ⟨_, rfl⟩
  have P6 : hput ro r5.2.1 a 0 1 (.ref (((n + 1) + 59))) = some h6 := by rw [e6]; exact put_ok F9 hra (Nat.le_of_ble_eq_true rfl)
  have F11 : StA h6 ((n + 1)) (n) := F10.kept (fun q x hq e => by rw [e6]; exact At.set e (by omega))
  have F12 : StA h6 ((((n + 1) + 59) + 1)) (((n + 1) + 59)) := T5.kept (fun q x hq e => by rw [e6]; exact At.set e (by omega))
  have O6 : ∀ q x, q < n → q ≠ a → At h q x → At h6 q x := fun q x hq hqa e => by rw [e6]; exact At.set (O5 q x hq hqa e) (by omega)
  have F13 : At h6 a (.inl (0, [.ref (n), .ref (((n + 1) + 59)), .null, .int 0, .int 0, .int 0, .null, .null, .null, .null, .null, .int 0, .int 0, .null, .null, .null, .int 0])) := by rw [e6]; exact At.set_self F9.1
  obtain ⟨h7, e7⟩ : ∃ x : Hv, x = hnew h6 (((((n + 1) + 59) + 1) + 59)) (.inr (2, ((300 : Int32).toNatClampNeg, .inl (fun _ => 0)))) := ⟨_, rfl⟩
  have F14 : At h7 a (.inl (0, [.ref (n), .ref (((n + 1) + 59)), .null, .int 0, .int 0, .int 0, .null, .null, .null, .null, .null, .int 0, .int 0, .null, .null, .null, .int 0])) := by rw [e7]; exact At.new F13 (by omega)
  have F15 : StA h7 ((n + 1)) (n) := F11.kept (fun q x hq e => by rw [e7]; exact At.new e (by omega))
  have F16 : StA h7 ((((n + 1) + 59) + 1)) (((n + 1) + 59)) := F12.kept (fun q x hq e => by rw [e7]; exact At.new e (by omega))
  have O7 : ∀ q x, q < n → q ≠ a → At h q x → At h7 q x := fun q x hq hqa e => by rw [e7]; exact At.new (O6 q x hq hqa e) (by omega)
  have F17 : At h7 (((((n + 1) + 59) + 1) + 59)) (.inr (2, (300, .inl (fun _ => 0)))) := by rw [e7]; exact At.new_self _ _ _
  obtain ⟨h8, e8⟩ : ∃ x : Hv, x = hset h7 a (.inl (0, [.ref (n), .ref (((n + 1) + 59)), .null, .int 0, .int 0, .int 0, .null, .null, .null, .null, .null, .int 0, .int 0, .null, .null, .null, .int 0].set 2 (.ref (((((n + 1) + 59) + 1) + 59))))) := ⟨_, rfl⟩
  have P8 : hput ro h7 a 0 2 (.ref (((((n + 1) + 59) + 1) + 59))) = some h8 := by rw [e8]; exact put_ok F14 hra (Nat.le_of_ble_eq_true rfl)
  have F18 : At h8 (((((n + 1) + 59) + 1) + 59)) (.inr (2, (300, .inl (fun _ => 0)))) := by rw [e8]; exact At.set F17 (by omega)
  have F19 : StA h8 ((n + 1)) (n) := F15.kept (fun q x hq e => by rw [e8]; exact At.set e (by omega))
  have F20 : StA h8 ((((n + 1) + 59) + 1)) (((n + 1) + 59)) := F16.kept (fun q x hq e => by rw [e8]; exact At.set e (by omega))
  have O8 : ∀ q x, q < n → q ≠ a → At h q x → At h8 q x := fun q x hq hqa e => by rw [e8]; exact At.set (O7 q x hq hqa e) (by omega)
  have F21 : At h8 a (.inl (0, [.ref (n), .ref (((n + 1) + 59)), .ref (((((n + 1) + 59) + 1) + 59)), .int 0, .int 0, .int 0, .null, .null, .null, .null, .null, .int 0, .int 0, .null, .null, .null, .int 0])) := by rw [e8]; exact At.set_self F14.1
  obtain ⟨h9, e9⟩ : ∃ x : Hv, x = hset h8 a (.inl (0, [.ref (n), .ref (((n + 1) + 59)), .ref (((((n + 1) + 59) + 1) + 59)), .int 0, .int 0, .int 0, .null, .null, .null, .null, .null, .int 0, .int 0, .null, .null, .null, .int 0].set 4 (.int (-1)))) := ⟨_, rfl⟩
  have P9 : hput ro h8 a 0 4 (.int (-1)) = some h9 := by rw [e9]; exact put_ok F21 hra (Nat.le_of_ble_eq_true rfl)
  have F22 : At h9 (((((n + 1) + 59) + 1) + 59)) (.inr (2, (300, .inl (fun _ => 0)))) := by rw [e9]; exact At.set F18 (by omega)
  have F23 : StA h9 ((n + 1)) (n) := F19.kept (fun q x hq e => by rw [e9]; exact At.set e (by omega))
  have F24 : StA h9 ((((n + 1) + 59) + 1)) (((n + 1) + 59)) := F20.kept (fun q x hq e => by rw [e9]; exact At.set e (by omega))
  have O9 : ∀ q x, q < n → q ≠ a → At h q x → At h9 q x := fun q x hq hqa e => by rw [e9]; exact At.set (O8 q x hq hqa e) (by omega)
  have F25 : At h9 a (.inl (0, [.ref (n), .ref (((n + 1) + 59)), .ref (((((n + 1) + 59) + 1) + 59)), .int 0, .int (-1), .int 0, .null, .null, .null, .null, .null, .int 0, .int 0, .null, .null, .null, .int 0])) := by rw [e9]; exact At.set_self F21.1
  obtain ⟨h10, e10⟩ : ∃ x : Hv, x = hset h9 a (.inl (0, [.ref (n), .ref (((n + 1) + 59)), .ref (((((n + 1) + 59) + 1) + 59)), .int 0, .int (-1), .int 0, .null, .null, .null, .null, .null, .int 0, .int 0, .null, .null, .null, .int 0].set 5 (.int (-1)))) := ⟨_, rfl⟩
  have P10 : hput ro h9 a 0 5 (.int (-1)) = some h10 := by rw [e10]; exact put_ok F25 hra (Nat.le_of_ble_eq_true rfl)
  have F26 : At h10 (((((n + 1) + 59) + 1) + 59)) (.inr (2, (300, .inl (fun _ => 0)))) := by rw [e10]; exact At.set F22 (by omega)
  have F27 : StA h10 ((n + 1)) (n) := F23.kept (fun q x hq e => by rw [e10]; exact At.set e (by omega))
  have F28 : StA h10 ((((n + 1) + 59) + 1)) (((n + 1) + 59)) := F24.kept (fun q x hq e => by rw [e10]; exact At.set e (by omega))
  have O10 : ∀ q x, q < n → q ≠ a → At h q x → At h10 q x := fun q x hq hqa e => by rw [e10]; exact At.set (O9 q x hq hqa e) (by omega)
  have F29 : At h10 a (.inl (0, [.ref (n), .ref (((n + 1) + 59)), .ref (((((n + 1) + 59) + 1) + 59)), .int 0, .int (-1), .int (-1), .null, .null, .null, .null, .null, .int 0, .int 0, .null, .null, .null, .int 0])) := by rw [e10]; exact At.set_self F25.1
  obtain ⟨h11, e11⟩ : ∃ x : Hv, x = hnew h10 ((((((n + 1) + 59) + 1) + 59) + 1)) (.inr (1, ((16 : Int32).toNatClampNeg, .inl (fun _ => 0)))) := ⟨_, rfl⟩
  have F30 : At h11 a (.inl (0, [.ref (n), .ref (((n + 1) + 59)), .ref (((((n + 1) + 59) + 1) + 59)), .int 0, .int (-1), .int (-1), .null, .null, .null, .null, .null, .int 0, .int 0, .null, .null, .null, .int 0])) := by rw [e11]; exact At.new F29 (by omega)
  have F31 : At h11 (((((n + 1) + 59) + 1) + 59)) (.inr (2, (300, .inl (fun _ => 0)))) := by rw [e11]; exact At.new F26 (by omega)
  have F32 : StA h11 ((n + 1)) (n) := F27.kept (fun q x hq e => by rw [e11]; exact At.new e (by omega))
  have F33 : StA h11 ((((n + 1) + 59) + 1)) (((n + 1) + 59)) := F28.kept (fun q x hq e => by rw [e11]; exact At.new e (by omega))
  have O11 : ∀ q x, q < n → q ≠ a → At h q x → At h11 q x := fun q x hq hqa e => by rw [e11]; exact At.new (O10 q x hq hqa e) (by omega)
  have F34 : At h11 ((((((n + 1) + 59) + 1) + 59) + 1)) (.inr (1, (16, .inl (fun _ => 0)))) := by rw [e11]; exact At.new_self _ _ _
  obtain ⟨h12, e12⟩ : ∃ x : Hv, x = hset h11 a (.inl (0, [.ref (n), .ref (((n + 1) + 59)), .ref (((((n + 1) + 59) + 1) + 59)), .int 0, .int (-1), .int (-1), .null, .null, .null, .null, .null, .int 0, .int 0, .null, .null, .null, .int 0].set 6 (.ref ((((((n + 1) + 59) + 1) + 59) + 1))))) := ⟨_, rfl⟩
  have P12 : hput ro h11 a 0 6 (.ref ((((((n + 1) + 59) + 1) + 59) + 1))) = some h12 := by rw [e12]; exact put_ok F30 hra (Nat.le_of_ble_eq_true rfl)
  have F35 : At h12 (((((n + 1) + 59) + 1) + 59)) (.inr (2, (300, .inl (fun _ => 0)))) := by rw [e12]; exact At.set F31 (by omega)
  have F36 : At h12 ((((((n + 1) + 59) + 1) + 59) + 1)) (.inr (1, (16, .inl (fun _ => 0)))) := by rw [e12]; exact At.set F34 (by omega)
  have F37 : StA h12 ((n + 1)) (n) := F32.kept (fun q x hq e => by rw [e12]; exact At.set e (by omega))
  have F38 : StA h12 ((((n + 1) + 59) + 1)) (((n + 1) + 59)) := F33.kept (fun q x hq e => by rw [e12]; exact At.set e (by omega))
  have O12 : ∀ q x, q < n → q ≠ a → At h q x → At h12 q x := fun q x hq hqa e => by rw [e12]; exact At.set (O11 q x hq hqa e) (by omega)
  have F39 : At h12 a (.inl (0, [.ref (n), .ref (((n + 1) + 59)), .ref (((((n + 1) + 59) + 1) + 59)), .int 0, .int (-1), .int (-1), .ref ((((((n + 1) + 59) + 1) + 59) + 1)), .null, .null, .null, .null, .int 0, .int 0, .null, .null, .null, .int 0])) := by rw [e12]; exact At.set_self F30.1
  obtain ⟨h13, e13⟩ : ∃ x : Hv, x = hnew h12 (((((((n + 1) + 59) + 1) + 59) + 1) + 1)) (.inr (1, ((149 : Int32).toNatClampNeg, .inl (fun _ => 0)))) := ⟨_, rfl⟩
  have F40 : At h13 a (.inl (0, [.ref (n), .ref (((n + 1) + 59)), .ref (((((n + 1) + 59) + 1) + 59)), .int 0, .int (-1), .int (-1), .ref ((((((n + 1) + 59) + 1) + 59) + 1)), .null, .null, .null, .null, .int 0, .int 0, .null, .null, .null, .int 0])) := by rw [e13]; exact At.new F39 (by omega)
  have F41 : At h13 (((((n + 1) + 59) + 1) + 59)) (.inr (2, (300, .inl (fun _ => 0)))) := by rw [e13]; exact At.new F35 (by omega)
  have F42 : At h13 ((((((n + 1) + 59) + 1) + 59) + 1)) (.inr (1, (16, .inl (fun _ => 0)))) := by rw [e13]; exact At.new F36 (by omega)
  have F43 : StA h13 ((n + 1)) (n) := F37.kept (fun q x hq e => by rw [e13]; exact At.new e (by omega))
  have F44 : StA h13 ((((n + 1) + 59) + 1)) (((n + 1) + 59)) := F38.kept (fun q x hq e => by rw [e13]; exact At.new e (by omega))
  have O13 : ∀ q x, q < n → q ≠ a → At h q x → At h13 q x := fun q x hq hqa e => by rw [e13]; exact At.new (O12 q x hq hqa e) (by omega)
  have F45 : At h13 (((((((n + 1) + 59) + 1) + 59) + 1) + 1)) (.inr (1, (149, .inl (fun _ => 0)))) := by rw [e13]; exact At.new_self _ _ _
  obtain ⟨h14, e14⟩ : ∃ x : Hv, x = hset h13 a (.inl (0, [.ref (n), .ref (((n + 1) + 59)), .ref (((((n + 1) + 59) + 1) + 59)), .int 0, .int (-1), .int (-1), .ref ((((((n + 1) + 59) + 1) + 59) + 1)), .null, .null, .null, .null, .int 0, .int 0, .null, .null, .null, .int 0].set 7 (.ref (((((((n + 1) + 59) + 1) + 59) + 1) + 1))))) := ⟨_, rfl⟩
  have P14 : hput ro h13 a 0 7 (.ref (((((((n + 1) + 59) + 1) + 59) + 1) + 1))) = some h14 := by rw [e14]; exact put_ok F40 hra (Nat.le_of_ble_eq_true rfl)
  have F46 : At h14 (((((n + 1) + 59) + 1) + 59)) (.inr (2, (300, .inl (fun _ => 0)))) := by rw [e14]; exact At.set F41 (by omega)
  have F47 : At h14 ((((((n + 1) + 59) + 1) + 59) + 1)) (.inr (1, (16, .inl (fun _ => 0)))) := by rw [e14]; exact At.set F42 (by omega)
  have F48 : At h14 (((((((n + 1) + 59) + 1) + 59) + 1) + 1)) (.inr (1, (149, .inl (fun _ => 0)))) := by rw [e14]; exact At.set F45 (by omega)
  have F49 : StA h14 ((n + 1)) (n) := F43.kept (fun q x hq e => by rw [e14]; exact At.set e (by omega))
  have F50 : StA h14 ((((n + 1) + 59) + 1)) (((n + 1) + 59)) := F44.kept (fun q x hq e => by rw [e14]; exact At.set e (by omega))
  have O14 : ∀ q x, q < n → q ≠ a → At h q x → At h14 q x := fun q x hq hqa e => by rw [e14]; exact At.set (O13 q x hq hqa e) (by omega)
  have F51 : At h14 a (.inl (0, [.ref (n), .ref (((n + 1) + 59)), .ref (((((n + 1) + 59) + 1) + 59)), .int 0, .int (-1), .int (-1), .ref ((((((n + 1) + 59) + 1) + 59) + 1)), .ref (((((((n + 1) + 59) + 1) + 59) + 1) + 1)), .null, .null, .null, .int 0, .int 0, .null, .null, .null, .int 0])) := by rw [e14]; exact At.set_self F40.1
  obtain ⟨h15, e15⟩ : ∃ x : Hv, x = hnew h14 ((((((((n + 1) + 59) + 1) + 59) + 1) + 1) + 1)) (.inr (1, ((6 : Int32).toNatClampNeg, .inl (fun _ => 0)))) := ⟨_, rfl⟩
  have F52 : At h15 a (.inl (0, [.ref (n), .ref (((n + 1) + 59)), .ref (((((n + 1) + 59) + 1) + 59)), .int 0, .int (-1), .int (-1), .ref ((((((n + 1) + 59) + 1) + 59) + 1)), .ref (((((((n + 1) + 59) + 1) + 59) + 1) + 1)), .null, .null, .null, .int 0, .int 0, .null, .null, .null, .int 0])) := by rw [e15]; exact At.new F51 (by omega)
  have F53 : At h15 (((((n + 1) + 59) + 1) + 59)) (.inr (2, (300, .inl (fun _ => 0)))) := by rw [e15]; exact At.new F46 (by omega)
  have F54 : At h15 ((((((n + 1) + 59) + 1) + 59) + 1)) (.inr (1, (16, .inl (fun _ => 0)))) := by rw [e15]; exact At.new F47 (by omega)
  have F55 : At h15 (((((((n + 1) + 59) + 1) + 59) + 1) + 1)) (.inr (1, (149, .inl (fun _ => 0)))) := by rw [e15]; exact At.new F48 (by omega)
  have F56 : StA h15 ((n + 1)) (n) := F49.kept (fun q x hq e => by rw [e15]; exact At.new e (by omega))
  have F57 : StA h15 ((((n + 1) + 59) + 1)) (((n + 1) + 59)) := F50.kept (fun q x hq e => by rw [e15]; exact At.new e (by omega))
  have O15 : ∀ q x, q < n → q ≠ a → At h q x → At h15 q x := fun q x hq hqa e => by rw [e15]; exact At.new (O14 q x hq hqa e) (by omega)
  have F58 : At h15 ((((((((n + 1) + 59) + 1) + 59) + 1) + 1) + 1)) (.inr (1, (6, .inl (fun _ => 0)))) := by rw [e15]; exact At.new_self _ _ _
  obtain ⟨h16, e16⟩ : ∃ x : Hv, x = hset h15 a (.inl (0, [.ref (n), .ref (((n + 1) + 59)), .ref (((((n + 1) + 59) + 1) + 59)), .int 0, .int (-1), .int (-1), .ref ((((((n + 1) + 59) + 1) + 59) + 1)), .ref (((((((n + 1) + 59) + 1) + 59) + 1) + 1)), .null, .null, .null, .int 0, .int 0, .null, .null, .null, .int 0].set 8 (.ref ((((((((n + 1) + 59) + 1) + 59) + 1) + 1) + 1))))) := ⟨_, rfl⟩
  have P16 : hput ro h15 a 0 8 (.ref ((((((((n + 1) + 59) + 1) + 59) + 1) + 1) + 1))) = some h16 := by rw [e16]; exact put_ok F52 hra (Nat.le_of_ble_eq_true rfl)
  have F59 : At h16 (((((n + 1) + 59) + 1) + 59)) (.inr (2, (300, .inl (fun _ => 0)))) := by rw [e16]; exact At.set F53 (by omega)
  have F60 : At h16 ((((((n + 1) + 59) + 1) + 59) + 1)) (.inr (1, (16, .inl (fun _ => 0)))) := by rw [e16]; exact At.set F54 (by omega)
  have F61 : At h16 (((((((n + 1) + 59) + 1) + 59) + 1) + 1)) (.inr (1, (149, .inl (fun _ => 0)))) := by rw [e16]; exact At.set F55 (by omega)
  have F62 : At h16 ((((((((n + 1) + 59) + 1) + 59) + 1) + 1) + 1)) (.inr (1, (6, .inl (fun _ => 0)))) := by rw [e16]; exact At.set F58 (by omega)
  have F63 : StA h16 ((n + 1)) (n) := F56.kept (fun q x hq e => by rw [e16]; exact At.set e (by omega))
  have F64 : StA h16 ((((n + 1) + 59) + 1)) (((n + 1) + 59)) := F57.kept (fun q x hq e => by rw [e16]; exact At.set e (by omega))
  have O16 : ∀ q x, q < n → q ≠ a → At h q x → At h16 q x := fun q x hq hqa e => by rw [e16]; exact At.set (O15 q x hq hqa e) (by omega)
  have F65 : At h16 a (.inl (0, [.ref (n), .ref (((n + 1) + 59)), .ref (((((n + 1) + 59) + 1) + 59)), .int 0, .int (-1), .int (-1), .ref ((((((n + 1) + 59) + 1) + 59) + 1)), .ref (((((((n + 1) + 59) + 1) + 59) + 1) + 1)), .ref ((((((((n + 1) + 59) + 1) + 59) + 1) + 1) + 1)), .null, .null, .int 0, .int 0, .null, .null, .null, .int 0])) := by rw [e16]; exact At.set_self F52.1
  obtain ⟨h17, e17⟩ : ∃ x : Hv, x = hnew h16 (((((((((n + 1) + 59) + 1) + 59) + 1) + 1) + 1) + 1)) (.inr (1, ((5 : Int32).toNatClampNeg, .inl (fun _ => 0)))) := ⟨_, rfl⟩
  have F66 : At h17 a (.inl (0, [.ref (n), .ref (((n + 1) + 59)), .ref (((((n + 1) + 59) + 1) + 59)), .int 0, .int (-1), .int (-1), .ref ((((((n + 1) + 59) + 1) + 59) + 1)), .ref (((((((n + 1) + 59) + 1) + 59) + 1) + 1)), .ref ((((((((n + 1) + 59) + 1) + 59) + 1) + 1) + 1)), .null, .null, .int 0, .int 0, .null, .null, .null, .int 0])) := by rw [e17]; exact At.new F65 (by omega)
  have F67 : At h17 (((((n + 1) + 59) + 1) + 59)) (.inr (2, (300, .inl (fun _ => 0)))) := by rw [e17]; exact At.new F59 (by omega)
  have F68 : At h17 ((((((n + 1) + 59) + 1) + 59) + 1)) (.inr (1, (16, .inl (fun _ => 0)))) := by rw [e17]; exact At.new F60 (by omega)
  have F69 : At h17 (((((((n + 1) + 59) + 1) + 59) + 1) + 1)) (.inr (1, (149, .inl (fun _ => 0)))) := by rw [e17]; exact At.new F61 (by omega)
  have F70 : At h17 ((((((((n + 1) + 59) + 1) + 59) + 1) + 1) + 1)) (.inr (1, (6, .inl (fun _ => 0)))) := by rw [e17]; exact At.new F62 (by omega)
  have F71 : StA h17 ((n + 1)) (n) := F63.kept (fun q x hq e => by rw [e17]; exact At.new e (by omega))
  have F72 : StA h17 ((((n + 1) + 59) + 1)) (((n + 1) + 59)) := F64.kept (fun q x hq e => by rw [e17]; exact At.new e (by omega))
  have O17 : ∀ q x, q < n → q ≠ a → At h q x → At h17 q x := fun q x hq hqa e => by rw [e17]; exact At.new (O16 q x hq hqa e) (by omega)
  have F73 : At h17 (((((((((n + 1) + 59) + 1) + 59) + 1) + 1) + 1) + 1)) (.inr (1, (5, .inl (fun _ => 0)))) := by rw [e17]; exact At.new_self _ _ _
  obtain ⟨h18, e18⟩ : ∃ x : Hv, x = hset h17 a (.inl (0, [.ref (n), .ref (((n + 1) + 59)), .ref (((((n + 1) + 59) + 1) + 59)), .int 0, .int (-1), .int (-1), .ref ((((((n + 1) + 59) + 1) + 59) + 1)), .ref (((((((n + 1) + 59) + 1) + 59) + 1) + 1)), .ref ((((((((n + 1) + 59) + 1) + 59) + 1) + 1) + 1)), .null, .null, .int 0, .int 0, .null, .null, .null, .int 0].set 9 (.ref (((((((((n + 1) + 59) + 1) + 59) + 1) + 1) + 1) + 1))))) := ⟨_, rfl⟩
  have P18 : hput ro h17 a 0 9 (.ref (((((((((n + 1) + 59) + 1) + 59) + 1) + 1) + 1) + 1))) = some h18 := by rw [e18]; exact put_ok F66 hra (Nat.le_of_ble_eq_true rfl)
  have F74 : At h18 (((((n + 1) + 59) + 1) + 59)) (.inr (2, (300, .inl (fun _ => 0)))) := by rw [e18]; exact At.set F67 (by omega)
  have F75 : At h18 ((((((n + 1) + 59) + 1) + 59) + 1)) (.inr (1, (16, .inl (fun _ => 0)))) := by rw [e18]; exact At.set F68 (by omega)
  have F76 : At h18 (((((((n + 1) + 59) + 1) + 59) + 1) + 1)) (.inr (1, (149, .inl (fun _ => 0)))) := by rw [e18]; exact At.set F69 (by omega)
  have F77 : At h18 ((((((((n + 1) + 59) + 1) + 59) + 1) + 1) + 1)) (.inr (1, (6, .inl (fun _ => 0)))) := by rw [e18]; exact At.set F70 (by omega)
  have F78 : At h18 (((((((((n + 1) + 59) + 1) + 59) + 1) + 1) + 1) + 1)) (.inr (1, (5, .inl (fun _ => 0)))) := by rw [e18]; exact At.set F73 (by omega)
  have F79 : StA h18 ((n + 1)) (n) := F71.kept (fun q x hq e => by rw [e18]; exact At.set e (by omega))
  have F80 : StA h18 ((((n + 1) + 59) + 1)) (((n + 1) + 59)) := F72.kept (fun q x hq e => by rw [e18]; exact At.set e (by omega))
  have O18 : ∀ q x, q < n → q ≠ a → At h q x → At h18 q x := fun q x hq hqa e => by rw [e18]; exact At.set (O17 q x hq hqa e) (by omega)
  have F81 : At h18 a (.inl (0, [.ref (n), .ref (((n + 1) + 59)), .ref (((((n + 1) + 59) + 1) + 59)), .int 0, .int (-1), .int (-1), .ref ((((((n + 1) + 59) + 1) + 59) + 1)), .ref (((((((n + 1) + 59) + 1) + 59) + 1) + 1)), .ref ((((((((n + 1) + 59) + 1) + 59) + 1) + 1) + 1)), .ref (((((((((n + 1) + 59) + 1) + 59) + 1) + 1) + 1) + 1)), .null, .int 0, .int 0, .null, .null, .null, .int 0])) := by rw [e18]; exact At.set_self F66.1
  obtain ⟨h19, e19⟩ : ∃ x : Hv, x = hnew h18 ((((((((((n + 1) + 59) + 1) + 59) + 1) + 1) + 1) + 1) + 1)) (.inr (1, ((5 : Int32).toNatClampNeg, .inl (fun _ => 0)))) := ⟨_, rfl⟩
  have F82 : At h19 a (.inl (0, [.ref (n), .ref (((n + 1) + 59)), .ref (((((n + 1) + 59) + 1) + 59)), .int 0, .int (-1), .int (-1), .ref ((((((n + 1) + 59) + 1) + 59) + 1)), .ref (((((((n + 1) + 59) + 1) + 59) + 1) + 1)), .ref ((((((((n + 1) + 59) + 1) + 59) + 1) + 1) + 1)), .ref (((((((((n + 1) + 59) + 1) + 59) + 1) + 1) + 1) + 1)), .null, .int 0, .int 0, .null, .null, .null, .int 0])) := by rw [e19]; exact At.new F81 (by omega)
  have F83 : At h19 (((((n + 1) + 59) + 1) + 59)) (.inr (2, (300, .inl (fun _ => 0)))) := by rw [e19]; exact At.new F74 (by omega)
  have F84 : At h19 ((((((n + 1) + 59) + 1) + 59) + 1)) (.inr (1, (16, .inl (fun _ => 0)))) := by rw [e19]; exact At.new F75 (by omega)
  have F85 : At h19 (((((((n + 1) + 59) + 1) + 59) + 1) + 1)) (.inr (1, (149, .inl (fun _ => 0)))) := by rw [e19]; exact At.new F76 (by omega)
  have F86 : At h19 ((((((((n + 1) + 59) + 1) + 59) + 1) + 1) + 1)) (.inr (1, (6, .inl (fun _ => 0)))) := by rw [e19]; exact At.new F77 (by omega)
  have F87 : At h19 (((((((((n + 1) + 59) + 1) + 59) + 1) + 1) + 1) + 1)) (.inr (1, (5, .inl (fun _ => 0)))) := by rw [e19]; exact At.new F78 (by omega)
  have F88 : StA h19 ((n + 1)) (n) := F79.kept (fun q x hq e => by rw [e19]; exact At.new e (by omega))
  have F89 : StA h19 ((((n + 1) + 59) + 1)) (((n + 1) + 59)) := F80.kept (fun q x hq e => by rw [e19]; exact At.new e (by omega))
  have O19 : ∀ q x, q < n → q ≠ a → At h q x → At h19 q x := fun q x hq hqa e => by rw [e19]; exact At.new (O18 q x hq hqa e) (by omega)
  have F90 : At h19 ((((((((((n + 1) + 59) + 1) + 59) + 1) + 1) + 1) + 1) + 1)) (.inr (1, (5, .inl (fun _ => 0)))) := by rw [e19]; exact At.new_self _ _ _
  obtain ⟨h20, e20⟩ : ∃ x : Hv, x = hset h19 a (.inl (0, [.ref (n), .ref (((n + 1) + 59)), .ref (((((n + 1) + 59) + 1) + 59)), .int 0, .int (-1), .int (-1), .ref ((((((n + 1) + 59) + 1) + 59) + 1)), .ref (((((((n + 1) + 59) + 1) + 59) + 1) + 1)), .ref ((((((((n + 1) + 59) + 1) + 59) + 1) + 1) + 1)), .ref (((((((((n + 1) + 59) + 1) + 59) + 1) + 1) + 1) + 1)), .null, .int 0, .int 0, .null, .null, .null, .int 0].set 10 (.ref ((((((((((n + 1) + 59) + 1) + 59) + 1) + 1) + 1) + 1) + 1))))) := ⟨_, rfl⟩
  have P20 : hput ro h19 a 0 10 (.ref ((((((((((n + 1) + 59) + 1) + 59) + 1) + 1) + 1) + 1) + 1))) = some h20 := by rw [e20]; exact put_ok F82 hra (Nat.le_of_ble_eq_true rfl)
  have F91 : At h20 (((((n + 1) + 59) + 1) + 59)) (.inr (2, (300, .inl (fun _ => 0)))) := by rw [e20]; exact At.set F83 (by omega)
  have F92 : At h20 ((((((n + 1) + 59) + 1) + 59) + 1)) (.inr (1, (16, .inl (fun _ => 0)))) := by rw [e20]; exact At.set F84 (by omega)
  have F93 : At h20 (((((((n + 1) + 59) + 1) + 59) + 1) + 1)) (.inr (1, (149, .inl (fun _ => 0)))) := by rw [e20]; exact At.set F85 (by omega)
  have F94 : At h20 ((((((((n + 1) + 59) + 1) + 59) + 1) + 1) + 1)) (.inr (1, (6, .inl (fun _ => 0)))) := by rw [e20]; exact At.set F86 (by omega)
  have F95 : At h20 (((((((((n + 1) + 59) + 1) + 59) + 1) + 1) + 1) + 1)) (.inr (1, (5, .inl (fun _ => 0)))) := by rw [e20]; exact At.set F87 (by omega)
  have F96 : At h20 ((((((((((n + 1) + 59) + 1) + 59) + 1) + 1) + 1) + 1) + 1)) (.inr (1, (5, .inl (fun _ => 0)))) := by rw [e20]; exact At.set F90 (by omega)
  have F97 : StA h20 ((n + 1)) (n) := F88.kept (fun q x hq e => by rw [e20]; exact At.set e (by omega))
  have F98 : StA h20 ((((n + 1) + 59) + 1)) (((n + 1) + 59)) := F89.kept (fun q x hq e => by rw [e20]; exact At.set e (by omega))
  have O20 : ∀ q x, q < n → q ≠ a → At h q x → At h20 q x := fun q x hq hqa e => by rw [e20]; exact At.set (O19 q x hq hqa e) (by omega)
  have F99 : At h20 a (.inl (0, [.ref (n), .ref (((n + 1) + 59)), .ref (((((n + 1) + 59) + 1) + 59)), .int 0, .int (-1), .int (-1), .ref ((((((n + 1) + 59) + 1) + 59) + 1)), .ref (((((((n + 1) + 59) + 1) + 59) + 1) + 1)), .ref ((((((((n + 1) + 59) + 1) + 59) + 1) + 1) + 1)), .ref (((((((((n + 1) + 59) + 1) + 59) + 1) + 1) + 1) + 1)), .ref ((((((((((n + 1) + 59) + 1) + 59) + 1) + 1) + 1) + 1) + 1)), .int 0, .int 0, .null, .null, .null, .int 0])) := by rw [e20]; exact At.set_self F82.1
  obtain ⟨h21, e21⟩ : ∃ x : Hv, x = hnew h20 (((((((((((n + 1) + 59) + 1) + 59) + 1) + 1) + 1) + 1) + 1) + 1)) (.inr (1, ((6 : Int32).toNatClampNeg, .inl (fun _ => 0)))) := ⟨_, rfl⟩
  have F100 : At h21 a (.inl (0, [.ref (n), .ref (((n + 1) + 59)), .ref (((((n + 1) + 59) + 1) + 59)), .int 0, .int (-1), .int (-1), .ref ((((((n + 1) + 59) + 1) + 59) + 1)), .ref (((((((n + 1) + 59) + 1) + 59) + 1) + 1)), .ref ((((((((n + 1) + 59) + 1) + 59) + 1) + 1) + 1)), .ref (((((((((n + 1) + 59) + 1) + 59) + 1) + 1) + 1) + 1)), .ref ((((((((((n + 1) + 59) + 1) + 59) + 1) + 1) + 1) + 1) + 1)), .int 0, .int 0, .null, .null, .null, .int 0])) := by rw [e21]; exact At.new F99 (by omega)
  have F101 : At h21 (((((n + 1) + 59) + 1) + 59)) (.inr (2, (300, .inl (fun _ => 0)))) := by rw [e21]; exact At.new F91 (by omega)
  have F102 : At h21 ((((((n + 1) + 59) + 1) + 59) + 1)) (.inr (1, (16, .inl (fun _ => 0)))) := by rw [e21]; exact At.new F92 (by omega)
  have F103 : At h21 (((((((n + 1) + 59) + 1) + 59) + 1) + 1)) (.inr (1, (149, .inl (fun _ => 0)))) := by rw [e21]; exact At.new F93 (by omega)
  have F104 : At h21 ((((((((n + 1) + 59) + 1) + 59) + 1) + 1) + 1)) (.inr (1, (6, .inl (fun _ => 0)))) := by rw [e21]; exact At.new F94 (by omega)
  have F105 : At h21 (((((((((n + 1) + 59) + 1) + 59) + 1) + 1) + 1) + 1)) (.inr (1, (5, .inl (fun _ => 0)))) := by rw [e21]; exact At.new F95 (by omega)
  have F106 : At h21 ((((((((((n + 1) + 59) + 1) + 59) + 1) + 1) + 1) + 1) + 1)) (.inr (1, (5, .inl (fun _ => 0)))) := by rw [e21]; exact At.new F96 (by omega)
  have F107 : StA h21 ((n + 1)) (n) := F97.kept (fun q x hq e => by rw [e21]; exact At.new e (by omega))
  have F108 : StA h21 ((((n + 1) + 59) + 1)) (((n + 1) + 59)) := F98.kept (fun q x hq e => by rw [e21]; exact At.new e (by omega))
  have O21 : ∀ q x, q < n → q ≠ a → At h q x → At h21 q x := fun q x hq hqa e => by rw [e21]; exact At.new (O20 q x hq hqa e) (by omega)
  have F109 : At h21 (((((((((((n + 1) + 59) + 1) + 59) + 1) + 1) + 1) + 1) + 1) + 1)) (.inr (1, (6, .inl (fun _ => 0)))) := by rw [e21]; exact At.new_self _ _ _
  obtain ⟨h22, e22⟩ : ∃ x : Hv, x = hset h21 a (.inl (0, [.ref (n), .ref (((n + 1) + 59)), .ref (((((n + 1) + 59) + 1) + 59)), .int 0, .int (-1), .int (-1), .ref ((((((n + 1) + 59) + 1) + 59) + 1)), .ref (((((((n + 1) + 59) + 1) + 59) + 1) + 1)), .ref ((((((((n + 1) + 59) + 1) + 59) + 1) + 1) + 1)), .ref (((((((((n + 1) + 59) + 1) + 59) + 1) + 1) + 1) + 1)), .ref ((((((((((n + 1) + 59) + 1) + 59) + 1) + 1) + 1) + 1) + 1)), .int 0, .int 0, .null, .null, .null, .int 0].set 13 (.ref (((((((((((n + 1) + 59) + 1) + 59) + 1) + 1) + 1) + 1) + 1) + 1))))) := ⟨_, rfl⟩
  have P22 : hput ro h21 a 0 13 (.ref (((((((((((n + 1) + 59) + 1) + 59) + 1) + 1) + 1) + 1) + 1) + 1))) = some h22 := by rw [e22]; exact put_ok F100 hra (Nat.le_of_ble_eq_true rfl)
  have F110 : At h22 (((((n + 1) + 59) + 1) + 59)) (.inr (2, (300, .inl (fun _ => 0)))) := by rw [e22]; exact At.set F101 (by omega)
  have F111 : At h22 ((((((n + 1) + 59) + 1) + 59) + 1)) (.inr (1, (16, .inl (fun _ => 0)))) := by rw [e22]; exact At.set F102 (by omega)
  have F112 : At h22 (((((((n + 1) + 59) + 1) + 59) + 1) + 1)) (.inr (1, (149, .inl (fun _ => 0)))) := by rw [e22]; exact At.set F103 (by omega)
  have F113 : At h22 ((((((((n + 1) + 59) + 1) + 59) + 1) + 1) + 1)) (.inr (1, (6, .inl (fun _ => 0)))) := by rw [e22]; exact At.set F104 (by omega)
  have F114 : At h22 (((((((((n + 1) + 59) + 1) + 59) + 1) + 1) + 1) + 1)) (.inr (1, (5, .inl (fun _ => 0)))) := by rw [e22]; exact At.set F105 (by omega)
  have F115 : At h22 ((((((((((n + 1) + 59) + 1) + 59) + 1) + 1) + 1) + 1) + 1)) (.inr (1, (5, .inl (fun _ => 0)))) := by rw [e22]; exact At.set F106 (by omega)
  have F116 : At h22 (((((((((((n + 1) + 59) + 1) + 59) + 1) + 1) + 1) + 1) + 1) + 1)) (.inr (1, (6, .inl (fun _ => 0)))) := by rw [e22]; exact At.set F109 (by omega)
  have F117 : StA h22 ((n + 1)) (n) := F107.kept (fun q x hq e => by rw [e22]; exact At.set e (by omega))
  have F118 : StA h22 ((((n + 1) + 59) + 1)) (((n + 1) + 59)) := F108.kept (fun q x hq e => by rw [e22]; exact At.set e (by omega))
  have O22 : ∀ q x, q < n → q ≠ a → At h q x → At h22 q x := fun q x hq hqa e => by rw [e22]; exact At.set (O21 q x hq hqa e) (by omega)
  have F119 : At h22 a (.inl (0, [.ref (n), .ref (((n + 1) + 59)), .ref (((((n + 1) + 59) + 1) + 59)), .int 0, .int (-1), .int (-1), .ref ((((((n + 1) + 59) + 1) + 59) + 1)), .ref (((((((n + 1) + 59) + 1) + 59) + 1) + 1)), .ref ((((((((n + 1) + 59) + 1) + 59) + 1) + 1) + 1)), .ref (((((((((n + 1) + 59) + 1) + 59) + 1) + 1) + 1) + 1)), .ref ((((((((((n + 1) + 59) + 1) + 59) + 1) + 1) + 1) + 1) + 1)), .int 0, .int 0, .ref (((((((((((n + 1) + 59) + 1) + 59) + 1) + 1) + 1) + 1) + 1) + 1)), .null, .null, .int 0])) := by rw [e22]; exact At.set_self F100.1
  obtain ⟨h23, e23⟩ : ∃ x : Hv, x = hnew h22 ((((((((((((n + 1) + 59) + 1) + 59) + 1) + 1) + 1) + 1) + 1) + 1) + 1)) (.inr (1, ((6 : Int32).toNatClampNeg, .inl (fun _ => 0)))) := ⟨_, rfl⟩
  have F120 : At h23 a (.inl (0, [.ref (n), .ref (((n + 1) + 59)), .ref (((((n + 1) + 59) + 1) + 59)), .int 0, .int (-1), .int (-1), .ref ((((((n + 1) + 59) + 1) + 59) + 1)), .ref (((((((n + 1) + 59) + 1) + 59) + 1) + 1)), .ref ((((((((n + 1) + 59) + 1) + 59) + 1) + 1) + 1)), .ref (((((((((n + 1) + 59) + 1) + 59) + 1) + 1) + 1) + 1)), .ref ((((((((((n + 1) + 59) + 1) + 59) + 1) + 1) + 1) + 1) + 1)), .int 0, .int 0, .ref (((((((((((n + 1) + 59) + 1) + 59) + 1) + 1) + 1) + 1) + 1) + 1)), .null, .null, .int 0])) := by rw [e23]; exact At.new F119 (by omega)
  have F121 : At h23 (((((n + 1) + 59) + 1) + 59)) (.inr (2, (300, .inl (fun _ => 0)))) := by rw [e23]; exact At.new F110 (by omega)
  have F122 : At h23 ((((((n + 1) + 59) + 1) + 59) + 1)) (.inr (1, (16, .inl (fun _ => 0)))) := by rw [e23]; exact At.new F111 (by omega)
  have F123 : At h23 (((((((n + 1) + 59) + 1) + 59) + 1) + 1)) (.inr (1, (149, .inl (fun _ => 0)))) := by rw [e23]; exact At.new F112 (by omega)
  have F124 : At h23 ((((((((n + 1) + 59) + 1) + 59) + 1) + 1) + 1)) (.inr (1, (6, .inl (fun _ => 0)))) := by rw [e23]; exact At.new F113 (by omega)
  have F125 : At h23 (((((((((n + 1) + 59) + 1) + 59) + 1) + 1) + 1) + 1)) (.inr (1, (5, .inl (fun _ => 0)))) := by rw [e23]; exact At.new F114 (by omega)
  have F126 : At h23 ((((((((((n + 1) + 59) + 1) + 59) + 1) + 1) + 1) + 1) + 1)) (.inr (1, (5, .inl (fun _ => 0)))) := by rw [e23]; exact At.new F115 (by omega)
  have F127 : At h23 (((((((((((n + 1) + 59) + 1) + 59) + 1) + 1) + 1) + 1) + 1) + 1)) (.inr (1, (6, .inl (fun _ => 0)))) := by rw [e23]; exact At.new F116 (by omega)
  have F128 : StA h23 ((n + 1)) (n) := F117.kept (fun q x hq e => by rw [e23]; exact At.new e (by omega))
  have F129 : StA h23 ((((n + 1) + 59) + 1)) (((n + 1) + 59)) := F118.kept (fun q x hq e => by rw [e23]; exact At.new e (by omega))
  have O23 : ∀ q x, q < n → q ≠ a → At h q x → At h23 q x := fun q x hq hqa e => by rw [e23]; exact At.new (O22 q x hq hqa e) (by omega)
  have F130 : At h23 ((((((((((((n + 1) + 59) + 1) + 59) + 1) + 1) + 1) + 1) + 1) + 1) + 1)) (.inr (1, (6, .inl (fun _ => 0)))) := by rw [e23]; exact At.new_self _ _ _
  obtain ⟨h24, e24⟩ : ∃ x : Hv, x = hset h23 a (.inl (0, [.ref (n), .ref (((n + 1) + 59)), .ref (((((n + 1) + 59) + 1) + 59)), .int 0, .int (-1), .int (-1), .ref ((((((n + 1) + 59) + 1) + 59) + 1)), .ref (((((((n + 1) + 59) + 1) + 59) + 1) + 1)), .ref ((((((((n + 1) + 59) + 1) + 59) + 1) + 1) + 1)), .ref (((((((((n + 1) + 59) + 1) + 59) + 1) + 1) + 1) + 1)), .ref ((((((((((n + 1) + 59) + 1) + 59) + 1) + 1) + 1) + 1) + 1)), .int 0, .int 0, .ref (((((((((((n + 1) + 59) + 1) + 59) + 1) + 1) + 1) + 1) + 1) + 1)), .null, .null, .int 0].set 14 (.ref ((((((((((((n + 1) + 59) + 1) + 59) + 1) + 1) + 1) + 1) + 1) + 1) + 1))))) := ⟨_, rfl⟩
  have P24 : hput ro h23 a 0 14 (.ref ((((((((((((n + 1) + 59) + 1) + 59) + 1) + 1) + 1) + 1) + 1) + 1) + 1))) = some h24 := by rw [e24]; exact put_ok F120 hra (Nat.le_of_ble_eq_true rfl)
  have F131 : At h24 (((((n + 1) + 59) + 1) + 59)) (.inr (2, (300, .inl (fun _ => 0)))) := by rw [e24]; exact At.set F121 (by omega)
  have F132 : At h24 ((((((n + 1) + 59) + 1) + 59) + 1)) (.inr (1, (16, .inl (fun _ => 0)))) := by rw [e24]; exact At.set F122 (by omega)
  have F133 : At h24 (((((((n + 1) + 59) + 1) + 59) + 1) + 1)) (.inr (1, (149, .inl (fun _ => 0)))) := by rw [e24]; exact At.set F123 (by omega)
  have F134 : At h24 ((((((((n + 1) + 59) + 1) + 59) + 1) + 1) + 1)) (.inr (1, (6, .inl (fun _ => 0)))) := by rw [e24]; exact At.set F124 (by omega)
  have F135 : At h24 (((((((((n + 1) + 59) + 1) + 59) + 1) + 1) + 1) + 1)) (.inr (1, (5, .inl (fun _ => 0)))) := by rw [e24]; exact At.set F125 (by omega)
  have F136 : At h24 ((((((((((n + 1) + 59) + 1) + 59) + 1) + 1) + 1) + 1) + 1)) (.inr (1, (5, .inl (fun _ => 0)))) := by rw [e24]; exact At.set F126 (by omega)
  have F137 : At h24 (((((((((((n + 1) + 59) + 1) + 59) + 1) + 1) + 1) + 1) + 1) + 1)) (.inr (1, (6, .inl (fun _ => 0)))) := by rw [e24]; exact At.set F127 (by omega)
  have F138 : At h24 ((((((((((((n + 1) + 59) + 1) + 59) + 1) + 1) + 1) + 1) + 1) + 1) + 1)) (.inr (1, (6, .inl (fun _ => 0)))) := by rw [e24]; exact At.set F130 (by omega)
  have F139 : StA h24 ((n + 1)) (n) := F128.kept (fun q x hq e => by rw [e24]; exact At.set e (by omega))
  have F140 : StA h24 ((((n + 1) + 59) + 1)) (((n + 1) + 59)) := F129.kept (fun q x hq e => by rw [e24]; exact At.set e (by omega))
  have O24 : ∀ q x, q < n → q ≠ a → At h q x → At h24 q x := fun q x hq hqa e => by rw [e24]; exact At.set (O23 q x hq hqa e) (by omega)
  have F141 : At h24 a (.inl (0, [.ref (n), .ref (((n + 1) + 59)), .ref (((((n + 1) + 59) + 1) + 59)), .int 0, .int (-1), .int (-1), .ref ((((((n + 1) + 59) + 1) + 59) + 1)), .ref (((((((n + 1) + 59) + 1) + 59) + 1) + 1)), .ref ((((((((n + 1) + 59) + 1) + 59) + 1) + 1) + 1)), .ref (((((((((n + 1) + 59) + 1) + 59) + 1) + 1) + 1) + 1)), .ref ((((((((((n + 1) + 59) + 1) + 59) + 1) + 1) + 1) + 1) + 1)), .int 0, .int 0, .ref (((((((((((n + 1) + 59) + 1) + 59) + 1) + 1) + 1) + 1) + 1) + 1)), .ref ((((((((((((n + 1) + 59) + 1) + 59) + 1) + 1) + 1) + 1) + 1) + 1) + 1)), .null, .int 0])) := by rw [e24]; exact At.set_self F120.1
  obtain ⟨h25, e25⟩ : ∃ x : Hv, x = hmul h24 (((((((((((((n + 1) + 59) + 1) + 59) + 1) + 1) + 1) + 1) + 1) + 1) + 1) + 1)) 6 8 := ⟨_, rfl⟩
  have F142 : At h25 a (.inl (0, [.ref (n), .ref (((n + 1) + 59)), .ref (((((n + 1) + 59) + 1) + 59)), .int 0, .int (-1), .int (-1), .ref ((((((n + 1) + 59) + 1) + 59) + 1)), .ref (((((((n + 1) + 59) + 1) + 59) + 1) + 1)), .ref ((((((((n + 1) + 59) + 1) + 59) + 1) + 1) + 1)), .ref (((((((((n + 1) + 59) + 1) + 59) + 1) + 1) + 1) + 1)), .ref ((((((((((n + 1) + 59) + 1) + 59) + 1) + 1) + 1) + 1) + 1)), .int 0, .int 0, .ref (((((((((((n + 1) + 59) + 1) + 59) + 1) + 1) + 1) + 1) + 1) + 1)), .ref ((((((((((((n + 1) + 59) + 1) + 59) + 1) + 1) + 1) + 1) + 1) + 1) + 1)), .null, .int 0])) := by rw [e25]; exact At.mul_old F141 (by omega)
  have F143 : At h25 (((((n + 1) + 59) + 1) + 59)) (.inr (2, (300, .inl (fun _ => 0)))) := by rw [e25]; exact At.mul_old F131 (by omega)
  have F144 : At h25 ((((((n + 1) + 59) + 1) + 59) + 1)) (.inr (1, (16, .inl (fun _ => 0)))) := by rw [e25]; exact At.mul_old F132 (by omega)
  have F145 : At h25 (((((((n + 1) + 59) + 1) + 59) + 1) + 1)) (.inr (1, (149, .inl (fun _ => 0)))) := by rw [e25]; exact At.mul_old F133 (by omega)
  have F146 : At h25 ((((((((n + 1) + 59) + 1) + 59) + 1) + 1) + 1)) (.inr (1, (6, .inl (fun _ => 0)))) := by rw [e25]; exact At.mul_old F134 (by omega)
  have F147 : At h25 (((((((((n + 1) + 59) + 1) + 59) + 1) + 1) + 1) + 1)) (.inr (1, (5, .inl (fun _ => 0)))) := by rw [e25]; exact At.mul_old F135 (by omega)
  have F148 : At h25 ((((((((((n + 1) + 59) + 1) + 59) + 1) + 1) + 1) + 1) + 1)) (.inr (1, (5, .inl (fun _ => 0)))) := by rw [e25]; exact At.mul_old F136 (by omega)
  have F149 : At h25 (((((((((((n + 1) + 59) + 1) + 59) + 1) + 1) + 1) + 1) + 1) + 1)) (.inr (1, (6, .inl (fun _ => 0)))) := by rw [e25]; exact At.mul_old F137 (by omega)
  have F150 : At h25 ((((((((((((n + 1) + 59) + 1) + 59) + 1) + 1) + 1) + 1) + 1) + 1) + 1)) (.inr (1, (6, .inl (fun _ => 0)))) := by rw [e25]; exact At.mul_old F138 (by omega)
  have F151 : StA h25 ((n + 1)) (n) := F139.kept (fun q x hq e => by rw [e25]; exact At.mul_old e (by omega))
  have F152 : StA h25 ((((n + 1) + 59) + 1)) (((n + 1) + 59)) := F140.kept (fun q x hq e => by rw [e25]; exact At.mul_old e (by omega))
  have O25 : ∀ q x, q < n → q ≠ a → At h q x → At h25 q x := fun q x hq hqa e => by rw [e25]; exact At.mul_old (O24 q x hq hqa e) (by omega)
  have F153 : At h25 (((((((((((((n + 1) + 59) + 1) + 59) + 1) + 1) + 1) + 1) + 1) + 1) + 1) + 1)) (.inr (5, (6, .inr (.inr (.inr (.inr (fun j => some (((((((((((((n + 1) + 59) + 1) + 59) + 1) + 1) + 1) + 1) + 1) + 1) + 1) + 1) + 1 + j)))))))) := by rw [e25]; exact At.mul_outer _ _ _ _
  have F154 : ∀ j, j < 6 → At h25 (((((((((((((n + 1) + 59) + 1) + 59) + 1) + 1) + 1) + 1) + 1) + 1) + 1) + 1) + 1 + j) (.inr (1, (8, .inl (fun _ => 0)))) := fun j hj => by rw [e25]; exact At.mul_row hj
  obtain ⟨h26, e26⟩ : ∃ x : Hv, x = hset h25 a (.inl (0, [.ref (n), .ref (((n + 1) + 59)), .ref (((((n + 1) + 59) + 1) + 59)), .int 0, .int (-1), .int (-1), .ref ((((((n + 1) + 59) + 1) + 59) + 1)), .ref (((((((n + 1) + 59) + 1) + 59) + 1) + 1)), .ref ((((((((n + 1) + 59) + 1) + 59) + 1) + 1) + 1)), .ref (((((((((n + 1) + 59) + 1) + 59) + 1) + 1) + 1) + 1)), .ref ((((((((((n + 1) + 59) + 1) + 59) + 1) + 1) + 1) + 1) + 1)), .int 0, .int 0, .ref (((((((((((n + 1) + 59) + 1) + 59) + 1) + 1) + 1) + 1) + 1) + 1)), .ref ((((((((((((n + 1) + 59) + 1) + 59) + 1) + 1) + 1) + 1) + 1) + 1) + 1)), .null, .int 0].set 15 (.ref (((((((((((((n + 1) + 59) + 1) + 59) + 1) + 1) + 1) + 1) + 1) + 1) + 1) + 1))))) := ⟨_, rfl⟩
  have P26 : hput ro h25 a 0 15 (.ref (((((((((((((n + 1) + 59) + 1) + 59) + 1) + 1) + 1) + 1) + 1) + 1) + 1) + 1))) = some h26 := by rw [e26]; exact put_ok F142 hra (Nat.le_of_ble_eq_true rfl)
  have F155 : At h26 (((((n + 1) + 59) + 1) + 59)) (.inr (2, (300, .inl (fun _ => 0)))) := by rw [e26]; exact At.set F143 (by omega)
  have F156 : At h26 ((((((n + 1) + 59) + 1) + 59) + 1)) (.inr (1, (16, .inl (fun _ => 0)))) := by rw [e26]; exact At.set F144 (by omega)
  have F157 : At h26 (((((((n + 1) + 59) + 1) + 59) + 1) + 1)) (.inr (1, (149, .inl (fun _ => 0)))) := by rw [e26]; exact At.set F145 (by omega)
  have F158 : At h26 ((((((((n + 1) + 59) + 1) + 59) + 1) + 1) + 1)) (.inr (1, (6, .inl (fun _ => 0)))) := by rw [e26]; exact At.set F146 (by omega)
  have F159 : At h26 (((((((((n + 1) + 59) + 1) + 59) + 1) + 1) + 1) + 1)) (.inr (1, (5, .inl (fun _ => 0)))) := by rw [e26]; exact At.set F147 (by omega)
  have F160 : At h26 ((((((((((n + 1) + 59) + 1) + 59) + 1) + 1) + 1) + 1) + 1)) (.inr (1, (5, .inl (fun _ => 0)))) := by rw [e26]; exact At.set F148 (by omega)
  have F161 : At h26 (((((((((((n + 1) + 59) + 1) + 59) + 1) + 1) + 1) + 1) + 1) + 1)) (.inr (1, (6, .inl (fun _ => 0)))) := by rw [e26]; exact At.set F149 (by omega)
  have F162 : At h26 ((((((((((((n + 1) + 59) + 1) + 59) + 1) + 1) + 1) + 1) + 1) + 1) + 1)) (.inr (1, (6, .inl (fun _ => 0)))) := by rw [e26]; exact At.set F150 (by omega)
  have F163 : At h26 (((((((((((((n + 1) + 59) + 1) + 59) + 1) + 1) + 1) + 1) + 1) + 1) + 1) + 1)) (.inr (5, (6, .inr (.inr (.inr (.inr (fun j => some (((((((((((((n + 1) + 59) + 1) + 59) + 1) + 1) + 1) + 1) + 1) + 1) + 1) + 1) + 1 + j)))))))) := by rw [e26]; exact At.set F153 (by omega)
  have F164 : StA h26 ((n + 1)) (n) := F151.kept (fun q x hq e => by rw [e26]; exact At.set e (by omega))
  have F165 : StA h26 ((((n + 1) + 59) + 1)) (((n + 1) + 59)) := F152.kept (fun q x hq e => by rw [e26]; exact At.set e (by omega))
  have F166 : ∀ j, j < 6 → At h26 (((((((((((((n + 1) + 59) + 1) + 59) + 1) + 1) + 1) + 1) + 1) + 1) + 1) + 1) + 1 + j) (.inr (1, (8, .inl (fun _ => 0)))) := fun j hj => by rw [e26]; exact At.set (F154 j hj) (by omega)
  have O26 : ∀ q x, q < n → q ≠ a → At h q x → At h26 q x := fun q x hq hqa e => by rw [e26]; exact At.set (O25 q x hq hqa e) (by omega)
  have F167 : At h26 a (.inl (0, [.ref (n), .ref (((n + 1) + 59)), .ref (((((n + 1) + 59) + 1) + 59)), .int 0, .int (-1), .int (-1), .ref ((((((n + 1) + 59) + 1) + 59) + 1)), .ref (((((((n + 1) + 59) + 1) + 59) + 1) + 1)), .ref ((((((((n + 1) + 59) + 1) + 59) + 1) + 1) + 1)), .ref (((((((((n + 1) + 59) + 1) + 59) + 1) + 1) + 1) + 1)), .ref ((((((((((n + 1) + 59) + 1) + 59) + 1) + 1) + 1) + 1) + 1)), .int 0, .int 0, .ref (((((((((((n + 1) + 59) + 1) + 59) + 1) + 1) + 1) + 1) + 1) + 1)), .ref ((((((((((((n + 1) + 59) + 1) + 59) + 1) + 1) + 1) + 1) + 1) + 1) + 1)), .ref (((((((((((((n + 1) + 59) + 1) + 59) + 1) + 1) + 1) + 1) + 1) + 1) + 1) + 1)), .int 0])) := by rw [e26]; exact At.set_self F142.1
  refine ⟨((), h26, 135, 10067), ?_, rfl, rfl, O26, F167, F164, F165, F155, F156, F157, F158, F159, F160, F161, F162, F163, F166⟩
  unfold P_X0_init
  refine ((addU_ok (r := ((), h26, 134, 10056)) ?_).trans rfl)
  refine bnd_ok ?_
  rw [← e1]
  refine bind_ok P2 ?_
  rw [C2, S2]
  refine ((addU_ok (r := ((), h26, 75, 5307)) ?_).trans rfl)
  refine bind_ok P3 ?_
  refine ((addU_ok (r := ((), h26, 74, 5296)) ?_).trans rfl)
  refine bnd_ok ?_
  rw [← e4]
  refine bind_ok P5 ?_
  rw [C5, S5]
  refine ((addU_ok (r := ((), h26, 15, 547)) ?_).trans rfl)
  refine bind_ok P6 ?_
  refine gp_ok (by decide) ((addU_ok (r := ((), h26, 14, 247)) ?_).trans rfl)
  refine bnd_ok ?_
  rw [← e7]
  refine bind_ok P8 ?_
  refine bind_ok P9 ?_
  refine bind_ok P10 ?_
  refine gp_ok (by decide) ((addU_ok (r := ((), h26, 13, 231)) ?_).trans rfl)
  refine bnd_ok ?_
  rw [← e11]
  refine bind_ok P12 ?_
  refine gp_ok (by decide) ((addU_ok (r := ((), h26, 12, 82)) ?_).trans rfl)
  refine bnd_ok ?_
  rw [← e13]
  refine bind_ok P14 ?_
  refine gp_ok (by decide) ((addU_ok (r := ((), h26, 11, 76)) ?_).trans rfl)
  refine bnd_ok ?_
  rw [← e15]
  refine bind_ok P16 ?_
  refine gp_ok (by decide) ((addU_ok (r := ((), h26, 10, 71)) ?_).trans rfl)
  refine bnd_ok ?_
  rw [← e17]
  refine bind_ok P18 ?_
  refine gp_ok (by decide) ((addU_ok (r := ((), h26, 9, 66)) ?_).trans rfl)
  refine bnd_ok ?_
  rw [← e19]
  refine bind_ok P20 ?_
  refine gp_ok (by decide) ((addU_ok (r := ((), h26, 8, 60)) ?_).trans rfl)
  refine bnd_ok ?_
  rw [← e21]
  refine bind_ok P22 ?_
  refine gp_ok (by decide) ((addU_ok (r := ((), h26, 7, 54)) ?_).trans rfl)
  refine bnd_ok ?_
  rw [← e23]
  refine bind_ok P24 ?_
  refine ((addU_ok (r := ((), h26, 0, 0)) ?_).trans rfl)
  refine bnd_ok ?_
  rw [← e25]
  refine bind_ok P26 ?_
  rfl
