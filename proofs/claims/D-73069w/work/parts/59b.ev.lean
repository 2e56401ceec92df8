/-! what the constructors make (printed by evx.py) -/
theorem fill_step {ro : Nat → Bool} {a N : Nat} {v : Int32} {hN : N < 400} (hra : ro a = false) : ∀ (k f : Nat) (h : Hv) (n : Nat) (g : Nat → Int32), k ≤ N → N - k < f → At h a (.inr (1, (N, .inl g))) → (∀ i, i < k → g i = v) → ∃ (h' : Hv) (g' : Nat → Int32), P_J0_fill_l5 (Int32.ofNat N) ro a v f h n (Int32.ofNat k) = some ((), h', 0, 0) ∧ At h' a (.inr (1, (N, .inl g'))) ∧ (∀ i, i < N → g' i = v) ∧ (∀ q x, q ≠ a → At h q x → At h' q x) ∧ (∀ q, h'.1 q = h.1 q) := by
  intro k f
  induction f generalizing k with
  | zero => intro h n g h1 h2; exact absurd h2 (by omega)
  | succ f ih =>
    intro h n g h1 h2 e hg
    show ∃ (h' : Hv) (g' : Nat → Int32), P_J0_fill_b5 (Int32.ofNat N) ro a v (P_J0_fill_l5 (Int32.ofNat N) ro a v f) h n (Int32.ofNat k) = _ ∧ _
    unfold P_J0_fill_b5
    have hkn : (Int32.ofNat k).toNatClampNeg = k := by
      have : (Int32.ofNat k).toInt = (k : Int) := Int32.toInt_ofNat_of_lt (by omega)
      show (Int32.ofNat k).toInt.toNat = k
      omega
    have hle : (Int32.ofNat N ≤ Int32.ofNat k) ↔ N ≤ k := by
      rw [Int32.le_iff_toInt_le, Int32.toInt_ofNat_of_lt (by omega), Int32.toInt_ofNat_of_lt (by omega)]
      omega
    have hlt : ¬ (Int32.ofNat k < 0) := by
      rw [Int32.lt_iff_toInt_lt, Int32.toInt_ofNat_of_lt (by omega)]
      show ¬ ((k : Int) < 0)
      omega
    by_cases hk : N ≤ k
    · rw [if_pos (hle.mpr hk)]
      exact ⟨h, g, rfl, e, fun i hi => hg i (by omega), fun q x _ hx => hx, fun q => rfl⟩
    · rw [if_neg (fun z => hk (hle.mp z)), hkn]
      have hput := hasti_ok (v := v) e hra (show k < N by omega)
      obtain ⟨h', g', p1, p2, p3, p4, p5⟩ := ih (k + 1) (hset h a (.inr (1, (N, .inl (upd g k v))))) n (upd g k v) (by omega) (by omega) (At.set_self e.1) (fun i hi => by
        unfold upd
        by_cases hi2 : i = k
        · rw [if_pos hi2]
        · rw [if_neg hi2]; exact hg i (by omega))
      refine ⟨h', g', ?_, p2, p3, fun q x hq hx => p4 q x hq (hx.set hq), fun q => p5 q⟩
      refine gp_ok (by rw [decide_eq_false hlt]; rfl) (bind_ok hput (bnd_ok ?_))
      rw [show Int32.ofNat k + 1 = Int32.ofNat (k + 1) from (inc_ofNat k).symm]
      exact p1
theorem fill_ev {G : Gs} {ro : Nat → Bool} {a N : Nat} {v : Int32} (hN : N < 400) (hra : ro a = false) {h : Hv} {n : Nat} {g : Nat → Int32} (e : At h a (.inr (1, (N, .inl g)))) : ∃ (h' : Hv) (g' : Nat → Int32), P_J0_fill G ro h n a v = some ((), h', 0, 0) ∧ At h' a (.inr (1, (N, .inl g'))) ∧ (∀ i, i < N → g' i = v) ∧ (∀ q x, q ≠ a → At h q x → At h' q x) ∧ (∀ q, h'.1 q = h.1 q) := by
  obtain ⟨h', g', p1, p2⟩ := fill_step (hN := hN) (v := v) hra 0 400 h n g (Nat.zero_le _) (by omega) e (fun i hi => absurd hi (by omega))
  refine ⟨h', g', ?_, p2⟩
  unfold P_J0_fill
  exact bind_ok (hAi_ok e) (bnd_ok p1)
theorem X1_init_ev {G : Gs} {ro : Nat → Bool} {h : Hv} {n a : Nat} (A0 : At h a (.inl (1, [.null, .null, .null, .null, .null, .null, .null, .null, .null, .null, .null]))) (hra : ro a = false) (hrn : ∀ q, n ≤ q → ro q = false) (han : a < n) : ∃ (r : Unit × Hv × Nat × Nat), P_X1_init G ro h n a = some r ∧ r.2.2.1 = 59 ∧ r.2.2.2 = 4749 ∧ (∀ q x, q < n → q ≠ a → At h q x → At r.2.1 q x) ∧ At r.2.1 a (.inl (1, [.ref (n), .ref (n + 1), .ref ((n + 1) + 1), .ref (((n + 1) + 1) + 1), .ref ((((n + 1) + 1) + 1) + 1), .ref (((((n + 1) + 1) + 1) + 1) + 1), .ref ((((((n + 1) + 1) + 1) + 1) + 1) + 1), .ref (((((((n + 1) + 1) + 1) + 1) + 1) + 1) + 1), .ref ((((((((n + 1) + 1) + 1) + 1) + 1) + 1) + 1) + 1 + 10), .ref (((((((((n + 1) + 1) + 1) + 1) + 1) + 1) + 1) + 1 + 10) + 1 + 8), .ref ((((((((((n + 1) + 1) + 1) + 1) + 1) + 1) + 1) + 1 + 10) + 1 + 8) + 1 + 30)])) ∧ At r.2.1 (n) (.inr (1, (8, .inl (upd (fun _ => 0) 2 (-1))))) ∧ At r.2.1 (n + 1) (.inr (1, (149, .inl (upd (fun _ => 0) 1 373)))) ∧ At r.2.1 ((n + 1) + 1) (.inr (1, (8, .inl (fun _ => 0)))) ∧ At r.2.1 (((n + 1) + 1) + 1) (.inr (1, (8, .inl (fun _ => 0)))) ∧ At r.2.1 ((((n + 1) + 1) + 1) + 1) (.inr (1, (8, .inl (fun _ => 0)))) ∧ (∃ g : Nat → Int32, At r.2.1 (((((n + 1) + 1) + 1) + 1) + 1) (.inr (1, (4, .inl g))) ∧ ∀ i, i < 4 → g i = -1) ∧ At r.2.1 ((((((n + 1) + 1) + 1) + 1) + 1) + 1) (.inr (1, (6, .inl (fun _ => 0)))) ∧ At r.2.1 (((((((n + 1) + 1) + 1) + 1) + 1) + 1) + 1) (.inr (5, (10, .inr (.inr (.inr (.inr (fun j => some (((((((n + 1) + 1) + 1) + 1) + 1) + 1) + 1 + 1 + j)))))))) ∧ (∀ j, j < 10 → At r.2.1 (((((((n + 1) + 1) + 1) + 1) + 1) + 1) + 1 + 1 + j) (.inr (1, (2, .inl (fun _ => 0))))) ∧ At r.2.1 ((((((((n + 1) + 1) + 1) + 1) + 1) + 1) + 1) + 1 + 10) (.inr (5, (8, .inr (.inr (.inr (.inr (fun j => some ((((((((n + 1) + 1) + 1) + 1) + 1) + 1) + 1) + 1 + 10 + 1 + j)))))))) ∧ (∀ j, j < 8 → At r.2.1 ((((((((n + 1) + 1) + 1) + 1) + 1) + 1) + 1) + 1 + 10 + 1 + j) (.inr (1, (2, .inl (fun _ => 0))))) ∧ At r.2.1 (((((((((n + 1) + 1) + 1) + 1) + 1) + 1) + 1) + 1 + 10) + 1 + 8) (.inr (5, (30, .inr (.inr (.inr (.inr (fun j => some (((((((((n + 1) + 1) + 1) + 1) + 1) + 1) + 1) + 1 + 10) + 1 + 8 + 1 + j)))))))) ∧ (∀ j, j < 30 → At r.2.1 (((((((((n + 1) + 1) + 1) + 1) + 1) + 1) + 1) + 1 + 10) + 1 + 8 + 1 + j) (.inr (1, (149, .inl (fun _ => 0))))) ∧ At r.2.1 ((((((((((n + 1) + 1) + 1) + 1) + 1) + 1) + 1) + 1 + 10) + 1 + 8) + 1 + 30) (.inr (6, (4, .inr (.inr (.inr (.inr (fun _ => none))))))) := by
  have O0 : ∀ q x, q < n → q ≠ a → At h q x → At h q x := fun q x _ _ e => e
  obtain ⟨h1, eh1⟩ : ∃ x : Hv, x = hnew h (n) (.inr (1, ((8 : Int32).toNatClampNeg, .inl (fun _ => 0)))) := ⟨_, rfl⟩
  have F1 := At.new (n := n) (y := .inr (1, ((8 : Int32).toNatClampNeg, .inl (fun _ => 0)))) A0 (by omega)
  rw [← eh1] at F1
  have O1 : ∀ q x, q < n → q ≠ a → At h q x → At h1 q x := fun q x hq hqa e => by rw [eh1]; exact At.new (O0 q x hq hqa e) (by omega)
  have F3 := At.new_self h (n) (.inr (1, ((8 : Int32).toNatClampNeg, .inl (fun _ => 0))))
  rw [← eh1] at F3
  obtain ⟨h2, eh2⟩ : ∃ x : Hv, x = hset h1 a (.inl (1, [.null, .null, .null, .null, .null, .null, .null, .null, .null, .null, .null].set 0 (.ref (n)))) := ⟨_, rfl⟩
  have Ph2 : hput ro h1 a 1 0 (.ref (n)) = some h2 := by rw [eh2]; exact put_ok F1 hra (Nat.le_of_ble_eq_true rfl)
  have F4 := At.set (a := a) (y := .inl (1, [.null, .null, .null, .null, .null, .null, .null, .null, .null, .null, .null].set 0 (.ref (n)))) F3 (by omega)
  rw [← eh2] at F4
  have O2 : ∀ q x, q < n → q ≠ a → At h q x → At h2 q x := fun q x hq hqa e => by rw [eh2]; exact At.set (O1 q x hq hqa e) hqa
  have F6 : At h2 a (.inl (1, [.ref (n), .null, .null, .null, .null, .null, .null, .null, .null, .null, .null])) := by rw [eh2]; exact At.set_self F1.1
  obtain ⟨h3, eh3⟩ : ∃ x : Hv, x = hnew h2 (n + 1) (.inr (1, ((149 : Int32).toNatClampNeg, .inl (fun _ => 0)))) := ⟨_, rfl⟩
  have F7 := At.new (n := n + 1) (y := .inr (1, ((149 : Int32).toNatClampNeg, .inl (fun _ => 0)))) F6 (by omega)
  rw [← eh3] at F7
  have F8 := At.new (n := n + 1) (y := .inr (1, ((149 : Int32).toNatClampNeg, .inl (fun _ => 0)))) F4 (by omega)
  rw [← eh3] at F8
  have O3 : ∀ q x, q < n → q ≠ a → At h q x → At h3 q x := fun q x hq hqa e => by rw [eh3]; exact At.new (O2 q x hq hqa e) (by omega)
  have F10 := At.new_self h2 (n + 1) (.inr (1, ((149 : Int32).toNatClampNeg, .inl (fun _ => 0))))
  rw [← eh3] at F10
  obtain ⟨h4, eh4⟩ : ∃ x : Hv, x = hset h3 a (.inl (1, [.ref (n), .null, .null, .null, .null, .null, .null, .null, .null, .null, .null].set 1 (.ref (n + 1)))) := ⟨_, rfl⟩
  have Ph4 : hput ro h3 a 1 1 (.ref (n + 1)) = some h4 := by rw [eh4]; exact put_ok F7 hra (Nat.le_of_ble_eq_true rfl)
  have F11 := At.set (a := a) (y := .inl (1, [.ref (n), .null, .null, .null, .null, .null, .null, .null, .null, .null, .null].set 1 (.ref (n + 1)))) F8 (by omega)
  rw [← eh4] at F11
  have F12 := At.set (a := a) (y := .inl (1, [.ref (n), .null, .null, .null, .null, .null, .null, .null, .null, .null, .null].set 1 (.ref (n + 1)))) F10 (by omega)
  rw [← eh4] at F12
  have O4 : ∀ q x, q < n → q ≠ a → At h q x → At h4 q x := fun q x hq hqa e => by rw [eh4]; exact At.set (O3 q x hq hqa e) hqa
  have F14 : At h4 a (.inl (1, [.ref (n), .ref (n + 1), .null, .null, .null, .null, .null, .null, .null, .null, .null])) := by rw [eh4]; exact At.set_self F7.1
  obtain ⟨h5, eh5⟩ : ∃ x : Hv, x = hnew h4 ((n + 1) + 1) (.inr (1, ((8 : Int32).toNatClampNeg, .inl (fun _ => 0)))) := ⟨_, rfl⟩
  have F15 := At.new (n := (n + 1) + 1) (y := .inr (1, ((8 : Int32).toNatClampNeg, .inl (fun _ => 0)))) F14 (by omega)
  rw [← eh5] at F15
  have F16 := At.new (n := (n + 1) + 1) (y := .inr (1, ((8 : Int32).toNatClampNeg, .inl (fun _ => 0)))) F11 (by omega)
  rw [← eh5] at F16
  have F17 := At.new (n := (n + 1) + 1) (y := .inr (1, ((8 : Int32).toNatClampNeg, .inl (fun _ => 0)))) F12 (by omega)
  rw [← eh5] at F17
  have O5 : ∀ q x, q < n → q ≠ a → At h q x → At h5 q x := fun q x hq hqa e => by rw [eh5]; exact At.new (O4 q x hq hqa e) (by omega)
  have F19 := At.new_self h4 ((n + 1) + 1) (.inr (1, ((8 : Int32).toNatClampNeg, .inl (fun _ => 0))))
  rw [← eh5] at F19
  obtain ⟨h6, eh6⟩ : ∃ x : Hv, x = hset h5 a (.inl (1, [.ref (n), .ref (n + 1), .null, .null, .null, .null, .null, .null, .null, .null, .null].set 2 (.ref ((n + 1) + 1)))) := ⟨_, rfl⟩
  have Ph6 : hput ro h5 a 1 2 (.ref ((n + 1) + 1)) = some h6 := by rw [eh6]; exact put_ok F15 hra (Nat.le_of_ble_eq_true rfl)
  have F20 := At.set (a := a) (y := .inl (1, [.ref (n), .ref (n + 1), .null, .null, .null, .null, .null, .null, .null, .null, .null].set 2 (.ref ((n + 1) + 1)))) F16 (by omega)
  rw [← eh6] at F20
  have F21 := At.set (a := a) (y := .inl (1, [.ref (n), .ref (n + 1), .null, .null, .null, .null, .null, .null, .null, .null, .null].set 2 (.ref ((n + 1) + 1)))) F17 (by omega)
  rw [← eh6] at F21
  have F22 := At.set (a := a) (y := .inl (1, [.ref (n), .ref (n + 1), .null, .null, .null, .null, .null, .null, .null, .null, .null].set 2 (.ref ((n + 1) + 1)))) F19 (by omega)
  rw [← eh6] at F22
  have O6 : ∀ q x, q < n → q ≠ a → At h q x → At h6 q x := fun q x hq hqa e => by rw [eh6]; exact At.set (O5 q x hq hqa e) hqa
  have F24 : At h6 a (.inl (1, [.ref (n), .ref (n + 1), .ref ((n + 1) + 1), .null, .null, .null, .null, .null, .null, .null, .null])) := by rw [eh6]; exact At.set_self F15.1
  obtain ⟨h7, eh7⟩ : ∃ x : Hv, x = hnew h6 (((n + 1) + 1) + 1) (.inr (1, ((8 : Int32).toNatClampNeg, .inl (fun _ => 0)))) := ⟨_, rfl⟩
  have F25 := At.new (n := ((n + 1) + 1) + 1) (y := .inr (1, ((8 : Int32).toNatClampNeg, .inl (fun _ => 0)))) F24 (by omega)
  rw [← eh7] at F25
  have F26 := At.new (n := ((n + 1) + 1) + 1) (y := .inr (1, ((8 : Int32).toNatClampNeg, .inl (fun _ => 0)))) F20 (by omega)
  rw [← eh7] at F26
  have F27 := At.new (n := ((n + 1) + 1) + 1) (y := .inr (1, ((8 : Int32).toNatClampNeg, .inl (fun _ => 0)))) F21 (by omega)
  rw [← eh7] at F27
  have F28 := At.new (n := ((n + 1) + 1) + 1) (y := .inr (1, ((8 : Int32).toNatClampNeg, .inl (fun _ => 0)))) F22 (by omega)
  rw [← eh7] at F28
  have O7 : ∀ q x, q < n → q ≠ a → At h q x → At h7 q x := fun q x hq hqa e => by rw [eh7]; exact At.new (O6 q x hq hqa e) (by omega)
  have F30 := At.new_self h6 (((n + 1) + 1) + 1) (.inr (1, ((8 : Int32).toNatClampNeg, .inl (fun _ => 0))))
  rw [← eh7] at F30
  obtain ⟨h8, eh8⟩ : ∃ x : Hv, x = hset h7 a (.inl (1, [.ref (n), .ref (n + 1), .ref ((n + 1) + 1), .null, .null, .null, .null, .null, .null, .null, .null].set 3 (.ref (((n + 1) + 1) + 1)))) := ⟨_, rfl⟩
  have Ph8 : hput ro h7 a 1 3 (.ref (((n + 1) + 1) + 1)) = some h8 := by rw [eh8]; exact put_ok F25 hra (Nat.le_of_ble_eq_true rfl)
  have F31 := At.set (a := a) (y := .inl (1, [.ref (n), .ref (n + 1), .ref ((n + 1) + 1), .null, .null, .null, .null, .null, .null, .null, .null].set 3 (.ref (((n + 1) + 1) + 1)))) F26 (by omega)
  rw [← eh8] at F31
  have F32 := At.set (a := a) (y := .inl (1, [.ref (n), .ref (n + 1), .ref ((n + 1) + 1), .null, .null, .null, .null, .null, .null, .null, .null].set 3 (.ref (((n + 1) + 1) + 1)))) F27 (by omega)
  rw [← eh8] at F32
  have F33 := At.set (a := a) (y := .inl (1, [.ref (n), .ref (n + 1), .ref ((n + 1) + 1), .null, .null, .null, .null, .null, .null, .null, .null].set 3 (.ref (((n + 1) + 1) + 1)))) F28 (by omega)
  rw [← eh8] at F33
  have F34 := At.set (a := a) (y := .inl (1, [.ref (n), .ref (n + 1), .ref ((n + 1) + 1), .null, .null, .null, .null, .null, .null, .null, .null].set 3 (.ref (((n + 1) + 1) + 1)))) F30 (by omega)
  rw [← eh8] at F34
  have O8 : ∀ q x, q < n → q ≠ a → At h q x → At h8 q x := fun q x hq hqa e => by rw [eh8]; exact At.set (O7 q x hq hqa e) hqa
  have F36 : At h8 a (.inl (1, [.ref (n), .ref (n + 1), .ref ((n + 1) + 1), .ref (((n + 1) + 1) + 1), .null, .null, .null, .null, .null, .null, .null])) := by rw [eh8]; exact At.set_self F25.1
  obtain ⟨h9, eh9⟩ : ∃ x : Hv, x = hnew h8 ((((n + 1) + 1) + 1) + 1) (.inr (1, ((8 : Int32).toNatClampNeg, .inl (fun _ => 0)))) := ⟨_, rfl⟩
  have F37 := At.new (n := (((n + 1) + 1) + 1) + 1) (y := .inr (1, ((8 : Int32).toNatClampNeg, .inl (fun _ => 0)))) F36 (by omega)
  rw [← eh9] at F37
  have F38 := At.new (n := (((n + 1) + 1) + 1) + 1) (y := .inr (1, ((8 : Int32).toNatClampNeg, .inl (fun _ => 0)))) F31 (by omega)
  rw [← eh9] at F38
  have F39 := At.new (n := (((n + 1) + 1) + 1) + 1) (y := .inr (1, ((8 : Int32).toNatClampNeg, .inl (fun _ => 0)))) F32 (by omega)
  rw [← eh9] at F39
  have F40 := At.new (n := (((n + 1) + 1) + 1) + 1) (y := .inr (1, ((8 : Int32).toNatClampNeg, .inl (fun _ => 0)))) F33 (by omega)
  rw [← eh9] at F40
  have F41 := At.new (n := (((n + 1) + 1) + 1) + 1) (y := .inr (1, ((8 : Int32).toNatClampNeg, .inl (fun _ => 0)))) F34 (by omega)
  rw [← eh9] at F41
  have O9 : ∀ q x, q < n → q ≠ a → At h q x → At h9 q x := fun q x hq hqa e => by rw [eh9]; exact At.new (O8 q x hq hqa e) (by omega)
  have F43 := At.new_self h8 ((((n + 1) + 1) + 1) + 1) (.inr (1, ((8 : Int32).toNatClampNeg, .inl (fun _ => 0))))
  rw [← eh9] at F43
  obtain ⟨h10, eh10⟩ : ∃ x : Hv, x = hset h9 a (.inl (1, [.ref (n), .ref (n + 1), .ref ((n + 1) + 1), .ref (((n + 1) + 1) + 1), .null, .null, .null, .null, .null, .null, .null].set 4 (.ref ((((n + 1) + 1) + 1) + 1)))) := ⟨_, rfl⟩
  have Ph10 : hput ro h9 a 1 4 (.ref ((((n + 1) + 1) + 1) + 1)) = some h10 := by rw [eh10]; exact put_ok F37 hra (Nat.le_of_ble_eq_true rfl)
  have F44 := At.set (a := a) (y := .inl (1, [.ref (n), .ref (n + 1), .ref ((n + 1) + 1), .ref (((n + 1) + 1) + 1), .null, .null, .null, .null, .null, .null, .null].set 4 (.ref ((((n + 1) + 1) + 1) + 1)))) F38 (by omega)
  rw [← eh10] at F44
  have F45 := At.set (a := a) (y := .inl (1, [.ref (n), .ref (n + 1), .ref ((n + 1) + 1), .ref (((n + 1) + 1) + 1), .null, .null, .null, .null, .null, .null, .null].set 4 (.ref ((((n + 1) + 1) + 1) + 1)))) F39 (by omega)
  rw [← eh10] at F45
  have F46 := At.set (a := a) (y := .inl (1, [.ref (n), .ref (n + 1), .ref ((n + 1) + 1), .ref (((n + 1) + 1) + 1), .null, .null, .null, .null, .null, .null, .null].set 4 (.ref ((((n + 1) + 1) + 1) + 1)))) F40 (by omega)
  rw [← eh10] at F46
  have F47 := At.set (a := a) (y := .inl (1, [.ref (n), .ref (n + 1), .ref ((n + 1) + 1), .ref (((n + 1) + 1) + 1), .null, .null, .null, .null, .null, .null, .null].set 4 (.ref ((((n + 1) + 1) + 1) + 1)))) F41 (by omega)
  rw [← eh10] at F47
  have F48 := At.set (a := a) (y := .inl (1, [.ref (n), .ref (n + 1), .ref ((n + 1) + 1), .ref (((n + 1) + 1) + 1), .null, .null, .null, .null, .null, .null, .null].set 4 (.ref ((((n + 1) + 1) + 1) + 1)))) F43 (by omega)
  rw [← eh10] at F48
  have O10 : ∀ q x, q < n → q ≠ a → At h q x → At h10 q x := fun q x hq hqa e => by rw [eh10]; exact At.set (O9 q x hq hqa e) hqa
  have F50 : At h10 a (.inl (1, [.ref (n), .ref (n + 1), .ref ((n + 1) + 1), .ref (((n + 1) + 1) + 1), .ref ((((n + 1) + 1) + 1) + 1), .null, .null, .null, .null, .null, .null])) := by rw [eh10]; exact At.set_self F37.1
  obtain ⟨h11, eh11⟩ : ∃ x : Hv, x = hnew h10 (((((n + 1) + 1) + 1) + 1) + 1) (.inr (1, ((4 : Int32).toNatClampNeg, .inl (fun _ => 0)))) := ⟨_, rfl⟩
  have F51 := At.new (n := ((((n + 1) + 1) + 1) + 1) + 1) (y := .inr (1, ((4 : Int32).toNatClampNeg, .inl (fun _ => 0)))) F50 (by omega)
  rw [← eh11] at F51
  have F52 := At.new (n := ((((n + 1) + 1) + 1) + 1) + 1) (y := .inr (1, ((4 : Int32).toNatClampNeg, .inl (fun _ => 0)))) F44 (by omega)
  rw [← eh11] at F52
  have F53 := At.new (n := ((((n + 1) + 1) + 1) + 1) + 1) (y := .inr (1, ((4 : Int32).toNatClampNeg, .inl (fun _ => 0)))) F45 (by omega)
  rw [← eh11] at F53
  have F54 := At.new (n := ((((n + 1) + 1) + 1) + 1) + 1) (y := .inr (1, ((4 : Int32).toNatClampNeg, .inl (fun _ => 0)))) F46 (by omega)
  rw [← eh11] at F54
  have F55 := At.new (n := ((((n + 1) + 1) + 1) + 1) + 1) (y := .inr (1, ((4 : Int32).toNatClampNeg, .inl (fun _ => 0)))) F47 (by omega)
  rw [← eh11] at F55
  have F56 := At.new (n := ((((n + 1) + 1) + 1) + 1) + 1) (y := .inr (1, ((4 : Int32).toNatClampNeg, .inl (fun _ => 0)))) F48 (by omega)
  rw [← eh11] at F56
  have O11 : ∀ q x, q < n → q ≠ a → At h q x → At h11 q x := fun q x hq hqa e => by rw [eh11]; exact At.new (O10 q x hq hqa e) (by omega)
  have F58 := At.new_self h10 (((((n + 1) + 1) + 1) + 1) + 1) (.inr (1, ((4 : Int32).toNatClampNeg, .inl (fun _ => 0))))
  rw [← eh11] at F58
  obtain ⟨h12, eh12⟩ : ∃ x : Hv, x = hset h11 a (.inl (1, [.ref (n), .ref (n + 1), .ref ((n + 1) + 1), .ref (((n + 1) + 1) + 1), .ref ((((n + 1) + 1) + 1) + 1), .null, .null, .null, .null, .null, .null].set 5 (.ref (((((n + 1) + 1) + 1) + 1) + 1)))) := ⟨_, rfl⟩
  have Ph12 : hput ro h11 a 1 5 (.ref (((((n + 1) + 1) + 1) + 1) + 1)) = some h12 := by rw [eh12]; exact put_ok F51 hra (Nat.le_of_ble_eq_true rfl)
  have F59 := At.set (a := a) (y := .inl (1, [.ref (n), .ref (n + 1), .ref ((n + 1) + 1), .ref (((n + 1) + 1) + 1), .ref ((((n + 1) + 1) + 1) + 1), .null, .null, .null, .null, .null, .null].set 5 (.ref (((((n + 1) + 1) + 1) + 1) + 1)))) F52 (by omega)
  rw [← eh12] at F59
  have F60 := At.set (a := a) (y := .inl (1, [.ref (n), .ref (n + 1), .ref ((n + 1) + 1), .ref (((n + 1) + 1) + 1), .ref ((((n + 1) + 1) + 1) + 1), .null, .null, .null, .null, .null, .null].set 5 (.ref (((((n + 1) + 1) + 1) + 1) + 1)))) F53 (by omega)
  rw [← eh12] at F60
  have F61 := At.set (a := a) (y := .inl (1, [.ref (n), .ref (n + 1), .ref ((n + 1) + 1), .ref (((n + 1) + 1) + 1), .ref ((((n + 1) + 1) + 1) + 1), .null, .null, .null, .null, .null, .null].set 5 (.ref (((((n + 1) + 1) + 1) + 1) + 1)))) F54 (by omega)
  rw [← eh12] at F61
  have F62 := At.set (a := a) (y := .inl (1, [.ref (n), .ref (n + 1), .ref ((n + 1) + 1), .ref (((n + 1) + 1) + 1), .ref ((((n + 1) + 1) + 1) + 1), .null, .null, .null, .null, .null, .null].set 5 (.ref (((((n + 1) + 1) + 1) + 1) + 1)))) F55 (by omega)
  rw [← eh12] at F62
  have F63 := At.set (a := a) (y := .inl (1, [.ref (n), .ref (n + 1), .ref ((n + 1) + 1), .ref (((n + 1) + 1) + 1), .ref ((((n + 1) + 1) + 1) + 1), .null, .null, .null, .null, .null, .null].set 5 (.ref (((((n + 1) + 1) + 1) + 1) + 1)))) F56 (by omega)
  rw [← eh12] at F63
  have F64 := At.set (a := a) (y := .inl (1, [.ref (n), .ref (n + 1), .ref ((n + 1) + 1), .ref (((n + 1) + 1) + 1), .ref ((((n + 1) + 1) + 1) + 1), .null, .null, .null, .null, .null, .null].set 5 (.ref (((((n + 1) + 1) + 1) + 1) + 1)))) F58 (by omega)
  rw [← eh12] at F64
  have O12 : ∀ q x, q < n → q ≠ a → At h q x → At h12 q x := fun q x hq hqa e => by rw [eh12]; exact At.set (O11 q x hq hqa e) hqa
  have F66 : At h12 a (.inl (1, [.ref (n), .ref (n + 1), .ref ((n + 1) + 1), .ref (((n + 1) + 1) + 1), .ref ((((n + 1) + 1) + 1) + 1), .ref (((((n + 1) + 1) + 1) + 1) + 1), .null, .null, .null, .null, .null])) := by rw [eh12]; exact At.set_self F51.1
  obtain ⟨h13, eh13⟩ : ∃ x : Hv, x = hnew h12 ((((((n + 1) + 1) + 1) + 1) + 1) + 1) (.inr (1, ((6 : Int32).toNatClampNeg, .inl (fun _ => 0)))) := ⟨_, rfl⟩
  have F67 := At.new (n := (((((n + 1) + 1) + 1) + 1) + 1) + 1) (y := .inr (1, ((6 : Int32).toNatClampNeg, .inl (fun _ => 0)))) F66 (by omega)
  rw [← eh13] at F67
  have F68 := At.new (n := (((((n + 1) + 1) + 1) + 1) + 1) + 1) (y := .inr (1, ((6 : Int32).toNatClampNeg, .inl (fun _ => 0)))) F59 (by omega)
  rw [← eh13] at F68
  have F69 := At.new (n := (((((n + 1) + 1) + 1) + 1) + 1) + 1) (y := .inr (1, ((6 : Int32).toNatClampNeg, .inl (fun _ => 0)))) F60 (by omega)
  rw [← eh13] at F69
  have F70 := At.new (n := (((((n + 1) + 1) + 1) + 1) + 1) + 1) (y := .inr (1, ((6 : Int32).toNatClampNeg, .inl (fun _ => 0)))) F61 (by omega)
  rw [← eh13] at F70
  have F71 := At.new (n := (((((n + 1) + 1) + 1) + 1) + 1) + 1) (y := .inr (1, ((6 : Int32).toNatClampNeg, .inl (fun _ => 0)))) F62 (by omega)
  rw [← eh13] at F71
  have F72 := At.new (n := (((((n + 1) + 1) + 1) + 1) + 1) + 1) (y := .inr (1, ((6 : Int32).toNatClampNeg, .inl (fun _ => 0)))) F63 (by omega)
  rw [← eh13] at F72
  have F73 := At.new (n := (((((n + 1) + 1) + 1) + 1) + 1) + 1) (y := .inr (1, ((6 : Int32).toNatClampNeg, .inl (fun _ => 0)))) F64 (by omega)
  rw [← eh13] at F73
  have O13 : ∀ q x, q < n → q ≠ a → At h q x → At h13 q x := fun q x hq hqa e => by rw [eh13]; exact At.new (O12 q x hq hqa e) (by omega)
  have F75 := At.new_self h12 ((((((n + 1) + 1) + 1) + 1) + 1) + 1) (.inr (1, ((6 : Int32).toNatClampNeg, .inl (fun _ => 0))))
  rw [← eh13] at F75
  obtain ⟨h14, eh14⟩ : ∃ x : Hv, x = hset h13 a (.inl (1, [.ref (n), .ref (n + 1), .ref ((n + 1) + 1), .ref (((n + 1) + 1) + 1), .ref ((((n + 1) + 1) + 1) + 1), .ref (((((n + 1) + 1) + 1) + 1) + 1), .null, .null, .null, .null, .null].set 6 (.ref ((((((n + 1) + 1) + 1) + 1) + 1) + 1)))) := ⟨_, rfl⟩
  have Ph14 : hput ro h13 a 1 6 (.ref ((((((n + 1) + 1) + 1) + 1) + 1) + 1)) = some h14 := by rw [eh14]; exact put_ok F67 hra (Nat.le_of_ble_eq_true rfl)
  have F76 := At.set (a := a) (y := .inl (1, [.ref (n), .ref (n + 1), .ref ((n + 1) + 1), .ref (((n + 1) + 1) + 1), .ref ((((n + 1) + 1) + 1) + 1), .ref (((((n + 1) + 1) + 1) + 1) + 1), .null, .null, .null, .null, .null].set 6 (.ref ((((((n + 1) + 1) + 1) + 1) + 1) + 1)))) F68 (by omega)
  rw [← eh14] at F76
  have F77 := At.set (a := a) (y := .inl (1, [.ref (n), .ref (n + 1), .ref ((n + 1) + 1), .ref (((n + 1) + 1) + 1), .ref ((((n + 1) + 1) + 1) + 1), .ref (((((n + 1) + 1) + 1) + 1) + 1), .null, .null, .null, .null, .null].set 6 (.ref ((((((n + 1) + 1) + 1) + 1) + 1) + 1)))) F69 (by omega)
  rw [← eh14] at F77
  have F78 := At.set (a := a) (y := .inl (1, [.ref (n), .ref (n + 1), .ref ((n + 1) + 1), .ref (((n + 1) + 1) + 1), .ref ((((n + 1) + 1) + 1) + 1), .ref (((((n + 1) + 1) + 1) + 1) + 1), .null, .null, .null, .null, .null].set 6 (.ref ((((((n + 1) + 1) + 1) + 1) + 1) + 1)))) F70 (by omega)
  rw [← eh14] at F78
  have F79 := At.set (a := a) (y := .inl (1, [.ref (n), .ref (n + 1), .ref ((n + 1) + 1), .ref (((n + 1) + 1) + 1), .ref ((((n + 1) + 1) + 1) + 1), .ref (((((n + 1) + 1) + 1) + 1) + 1), .null, .null, .null, .null, .null].set 6 (.ref ((((((n + 1) + 1) + 1) + 1) + 1) + 1)))) F71 (by omega)
  rw [← eh14] at F79
  have F80 := At.set (a := a) (y := .inl (1, [.ref (n), .ref (n + 1), .ref ((n + 1) + 1), .ref (((n + 1) + 1) + 1), .ref ((((n + 1) + 1) + 1) + 1), .ref (((((n + 1) + 1) + 1) + 1) + 1), .null, .null, .null, .null, .null].set 6 (.ref ((((((n + 1) + 1) + 1) + 1) + 1) + 1)))) F72 (by omega)
  rw [← eh14] at F80
  have F81 := At.set (a := a) (y := .inl (1, [.ref (n), .ref (n + 1), .ref ((n + 1) + 1), .ref (((n + 1) + 1) + 1), .ref ((((n + 1) + 1) + 1) + 1), .ref (((((n + 1) + 1) + 1) + 1) + 1), .null, .null, .null, .null, .null].set 6 (.ref ((((((n + 1) + 1) + 1) + 1) + 1) + 1)))) F73 (by omega)
  rw [← eh14] at F81
  have F82 := At.set (a := a) (y := .inl (1, [.ref (n), .ref (n + 1), .ref ((n + 1) + 1), .ref (((n + 1) + 1) + 1), .ref ((((n + 1) + 1) + 1) + 1), .ref (((((n + 1) + 1) + 1) + 1) + 1), .null, .null, .null, .null, .null].set 6 (.ref ((((((n + 1) + 1) + 1) + 1) + 1) + 1)))) F75 (by omega)
  rw [← eh14] at F82
  have O14 : ∀ q x, q < n → q ≠ a → At h q x → At h14 q x := fun q x hq hqa e => by rw [eh14]; exact At.set (O13 q x hq hqa e) hqa
  have F84 : At h14 a (.inl (1, [.ref (n), .ref (n + 1), .ref ((n + 1) + 1), .ref (((n + 1) + 1) + 1), .ref ((((n + 1) + 1) + 1) + 1), .ref (((((n + 1) + 1) + 1) + 1) + 1), .ref ((((((n + 1) + 1) + 1) + 1) + 1) + 1), .null, .null, .null, .null])) := by rw [eh14]; exact At.set_self F67.1
  obtain ⟨h15, eh15⟩ : ∃ x : Hv, x = hmul h14 (((((((n + 1) + 1) + 1) + 1) + 1) + 1) + 1) 10 2 := ⟨_, rfl⟩
  have F85 := At.mul_old (n := ((((((n + 1) + 1) + 1) + 1) + 1) + 1) + 1) (N := 10) (M := 2) F84 (by omega)
  rw [← eh15] at F85
  have F86 := At.mul_old (n := ((((((n + 1) + 1) + 1) + 1) + 1) + 1) + 1) (N := 10) (M := 2) F76 (by omega)
  rw [← eh15] at F86
  have F87 := At.mul_old (n := ((((((n + 1) + 1) + 1) + 1) + 1) + 1) + 1) (N := 10) (M := 2) F77 (by omega)
  rw [← eh15] at F87
  have F88 := At.mul_old (n := ((((((n + 1) + 1) + 1) + 1) + 1) + 1) + 1) (N := 10) (M := 2) F78 (by omega)
  rw [← eh15] at F88
  have F89 := At.mul_old (n := ((((((n + 1) + 1) + 1) + 1) + 1) + 1) + 1) (N := 10) (M := 2) F79 (by omega)
  rw [← eh15] at F89
  have F90 := At.mul_old (n := ((((((n + 1) + 1) + 1) + 1) + 1) + 1) + 1) (N := 10) (M := 2) F80 (by omega)
  rw [← eh15] at F90
  have F91 := At.mul_old (n := ((((((n + 1) + 1) + 1) + 1) + 1) + 1) + 1) (N := 10) (M := 2) F81 (by omega)
  rw [← eh15] at F91
  have F92 := At.mul_old (n := ((((((n + 1) + 1) + 1) + 1) + 1) + 1) + 1) (N := 10) (M := 2) F82 (by omega)
  rw [← eh15] at F92
  have O15 : ∀ q x, q < n → q ≠ a → At h q x → At h15 q x := fun q x hq hqa e => by rw [eh15]; exact At.mul_old (O14 q x hq hqa e) (by omega)
  have F94 := At.mul_outer h14 (((((((n + 1) + 1) + 1) + 1) + 1) + 1) + 1) 10 2
  rw [← eh15] at F94
  have F95 := fun j (hj : j < 10) => At.mul_row (h := h14) (n := ((((((n + 1) + 1) + 1) + 1) + 1) + 1) + 1) (M := 2) hj
  rw [← eh15] at F95
  obtain ⟨h16, eh16⟩ : ∃ x : Hv, x = hset h15 a (.inl (1, [.ref (n), .ref (n + 1), .ref ((n + 1) + 1), .ref (((n + 1) + 1) + 1), .ref ((((n + 1) + 1) + 1) + 1), .ref (((((n + 1) + 1) + 1) + 1) + 1), .ref ((((((n + 1) + 1) + 1) + 1) + 1) + 1), .null, .null, .null, .null].set 7 (.ref (((((((n + 1) + 1) + 1) + 1) + 1) + 1) + 1)))) := ⟨_, rfl⟩
  have Ph16 : hput ro h15 a 1 7 (.ref (((((((n + 1) + 1) + 1) + 1) + 1) + 1) + 1)) = some h16 := by rw [eh16]; exact put_ok F85 hra (Nat.le_of_ble_eq_true rfl)
  have F96 := At.set (a := a) (y := .inl (1, [.ref (n), .ref (n + 1), .ref ((n + 1) + 1), .ref (((n + 1) + 1) + 1), .ref ((((n + 1) + 1) + 1) + 1), .ref (((((n + 1) + 1) + 1) + 1) + 1), .ref ((((((n + 1) + 1) + 1) + 1) + 1) + 1), .null, .null, .null, .null].set 7 (.ref (((((((n + 1) + 1) + 1) + 1) + 1) + 1) + 1)))) F86 (by omega)
  rw [← eh16] at F96
  have F97 := At.set (a := a) (y := .inl (1, [.ref (n), .ref (n + 1), .ref ((n + 1) + 1), .ref (((n + 1) + 1) + 1), .ref ((((n + 1) + 1) + 1) + 1), .ref (((((n + 1) + 1) + 1) + 1) + 1), .ref ((((((n + 1) + 1) + 1) + 1) + 1) + 1), .null, .null, .null, .null].set 7 (.ref (((((((n + 1) + 1) + 1) + 1) + 1) + 1) + 1)))) F87 (by omega)
  rw [← eh16] at F97
  have F98 := At.set (a := a) (y := .inl (1, [.ref (n), .ref (n + 1), .ref ((n + 1) + 1), .ref (((n + 1) + 1) + 1), .ref ((((n + 1) + 1) + 1) + 1), .ref (((((n + 1) + 1) + 1) + 1) + 1), .ref ((((((n + 1) + 1) + 1) + 1) + 1) + 1), .null, .null, .null, .null].set 7 (.ref (((((((n + 1) + 1) + 1) + 1) + 1) + 1) + 1)))) F88 (by omega)
  rw [← eh16] at F98
  have F99 := At.set (a := a) (y := .inl (1, [.ref (n), .ref (n + 1), .ref ((n + 1) + 1), .ref (((n + 1) + 1) + 1), .ref ((((n + 1) + 1) + 1) + 1), .ref (((((n + 1) + 1) + 1) + 1) + 1), .ref ((((((n + 1) + 1) + 1) + 1) + 1) + 1), .null, .null, .null, .null].set 7 (.ref (((((((n + 1) + 1) + 1) + 1) + 1) + 1) + 1)))) F89 (by omega)
  rw [← eh16] at F99
  have F100 := At.set (a := a) (y := .inl (1, [.ref (n), .ref (n + 1), .ref ((n + 1) + 1), .ref (((n + 1) + 1) + 1), .ref ((((n + 1) + 1) + 1) + 1), .ref (((((n + 1) + 1) + 1) + 1) + 1), .ref ((((((n + 1) + 1) + 1) + 1) + 1) + 1), .null, .null, .null, .null].set 7 (.ref (((((((n + 1) + 1) + 1) + 1) + 1) + 1) + 1)))) F90 (by omega)
  rw [← eh16] at F100
  have F101 := At.set (a := a) (y := .inl (1, [.ref (n), .ref (n + 1), .ref ((n + 1) + 1), .ref (((n + 1) + 1) + 1), .ref ((((n + 1) + 1) + 1) + 1), .ref (((((n + 1) + 1) + 1) + 1) + 1), .ref ((((((n + 1) + 1) + 1) + 1) + 1) + 1), .null, .null, .null, .null].set 7 (.ref (((((((n + 1) + 1) + 1) + 1) + 1) + 1) + 1)))) F91 (by omega)
  rw [← eh16] at F101
  have F102 := At.set (a := a) (y := .inl (1, [.ref (n), .ref (n + 1), .ref ((n + 1) + 1), .ref (((n + 1) + 1) + 1), .ref ((((n + 1) + 1) + 1) + 1), .ref (((((n + 1) + 1) + 1) + 1) + 1), .ref ((((((n + 1) + 1) + 1) + 1) + 1) + 1), .null, .null, .null, .null].set 7 (.ref (((((((n + 1) + 1) + 1) + 1) + 1) + 1) + 1)))) F92 (by omega)
  rw [← eh16] at F102
  have F103 := At.set (a := a) (y := .inl (1, [.ref (n), .ref (n + 1), .ref ((n + 1) + 1), .ref (((n + 1) + 1) + 1), .ref ((((n + 1) + 1) + 1) + 1), .ref (((((n + 1) + 1) + 1) + 1) + 1), .ref ((((((n + 1) + 1) + 1) + 1) + 1) + 1), .null, .null, .null, .null].set 7 (.ref (((((((n + 1) + 1) + 1) + 1) + 1) + 1) + 1)))) F94 (by omega)
  rw [← eh16] at F103
  have F104 := fun j (hj : j < 10) => At.set (a := a) (y := .inl (1, [.ref (n), .ref (n + 1), .ref ((n + 1) + 1), .ref (((n + 1) + 1) + 1), .ref ((((n + 1) + 1) + 1) + 1), .ref (((((n + 1) + 1) + 1) + 1) + 1), .ref ((((((n + 1) + 1) + 1) + 1) + 1) + 1), .null, .null, .null, .null].set 7 (.ref (((((((n + 1) + 1) + 1) + 1) + 1) + 1) + 1)))) (F95 j hj) (by omega)
  rw [← eh16] at F104
  have O16 : ∀ q x, q < n → q ≠ a → At h q x → At h16 q x := fun q x hq hqa e => by rw [eh16]; exact At.set (O15 q x hq hqa e) hqa
  have F106 : At h16 a (.inl (1, [.ref (n), .ref (n + 1), .ref ((n + 1) + 1), .ref (((n + 1) + 1) + 1), .ref ((((n + 1) + 1) + 1) + 1), .ref (((((n + 1) + 1) + 1) + 1) + 1), .ref ((((((n + 1) + 1) + 1) + 1) + 1) + 1), .ref (((((((n + 1) + 1) + 1) + 1) + 1) + 1) + 1), .null, .null, .null])) := by rw [eh16]; exact At.set_self F85.1
  obtain ⟨h17, eh17⟩ : ∃ x : Hv, x = hmul h16 ((((((((n + 1) + 1) + 1) + 1) + 1) + 1) + 1) + 1 + 10) 8 2 := ⟨_, rfl⟩
  have F107 := At.mul_old (n := (((((((n + 1) + 1) + 1) + 1) + 1) + 1) + 1) + 1 + 10) (N := 8) (M := 2) F106 (by omega)
  rw [← eh17] at F107
  have F108 := At.mul_old (n := (((((((n + 1) + 1) + 1) + 1) + 1) + 1) + 1) + 1 + 10) (N := 8) (M := 2) F96 (by omega)
  rw [← eh17] at F108
  have F109 := At.mul_old (n := (((((((n + 1) + 1) + 1) + 1) + 1) + 1) + 1) + 1 + 10) (N := 8) (M := 2) F97 (by omega)
  rw [← eh17] at F109
  have F110 := At.mul_old (n := (((((((n + 1) + 1) + 1) + 1) + 1) + 1) + 1) + 1 + 10) (N := 8) (M := 2) F98 (by omega)
  rw [← eh17] at F110
  have F111 := At.mul_old (n := (((((((n + 1) + 1) + 1) + 1) + 1) + 1) + 1) + 1 + 10) (N := 8) (M := 2) F99 (by omega)
  rw [← eh17] at F111
  have F112 := At.mul_old (n := (((((((n + 1) + 1) + 1) + 1) + 1) + 1) + 1) + 1 + 10) (N := 8) (M := 2) F100 (by omega)
  rw [← eh17] at F112
  have F113 := At.mul_old (n := (((((((n + 1) + 1) + 1) + 1) + 1) + 1) + 1) + 1 + 10) (N := 8) (M := 2) F101 (by omega)
  rw [← eh17] at F113
  have F114 := At.mul_old (n := (((((((n + 1) + 1) + 1) + 1) + 1) + 1) + 1) + 1 + 10) (N := 8) (M := 2) F102 (by omega)
  rw [← eh17] at F114
  have F115 := At.mul_old (n := (((((((n + 1) + 1) + 1) + 1) + 1) + 1) + 1) + 1 + 10) (N := 8) (M := 2) F103 (by omega)
  rw [← eh17] at F115
  have F116 := fun j (hj : j < 10) => At.mul_old (n := (((((((n + 1) + 1) + 1) + 1) + 1) + 1) + 1) + 1 + 10) (N := 8) (M := 2) (F104 j hj) (by omega)
  rw [← eh17] at F116
  have O17 : ∀ q x, q < n → q ≠ a → At h q x → At h17 q x := fun q x hq hqa e => by rw [eh17]; exact At.mul_old (O16 q x hq hqa e) (by omega)
  have F118 := At.mul_outer h16 ((((((((n + 1) + 1) + 1) + 1) + 1) + 1) + 1) + 1 + 10) 8 2
  rw [← eh17] at F118
  have F119 := fun j (hj : j < 8) => At.mul_row (h := h16) (n := (((((((n + 1) + 1) + 1) + 1) + 1) + 1) + 1) + 1 + 10) (M := 2) hj
  rw [← eh17] at F119
  obtain ⟨h18, eh18⟩ : ∃ x : Hv, x = hset h17 a (.inl (1, [.ref (n), .ref (n + 1), .ref ((n + 1) + 1), .ref (((n + 1) + 1) + 1), .ref ((((n + 1) + 1) + 1) + 1), .ref (((((n + 1) + 1) + 1) + 1) + 1), .ref ((((((n + 1) + 1) + 1) + 1) + 1) + 1), .ref (((((((n + 1) + 1) + 1) + 1) + 1) + 1) + 1), .null, .null, .null].set 8 (.ref ((((((((n + 1) + 1) + 1) + 1) + 1) + 1) + 1) + 1 + 10)))) := ⟨_, rfl⟩
  have Ph18 : hput ro h17 a 1 8 (.ref ((((((((n + 1) + 1) + 1) + 1) + 1) + 1) + 1) + 1 + 10)) = some h18 := by rw [eh18]; exact put_ok F107 hra (Nat.le_of_ble_eq_true rfl)
  have F120 := At.set (a := a) (y := .inl (1, [.ref (n), .ref (n + 1), .ref ((n + 1) + 1), .ref (((n + 1) + 1) + 1), .ref ((((n + 1) + 1) + 1) + 1), .ref (((((n + 1) + 1) + 1) + 1) + 1), .ref ((((((n + 1) + 1) + 1) + 1) + 1) + 1), .ref (((((((n + 1) + 1) + 1) + 1) + 1) + 1) + 1), .null, .null, .null].set 8 (.ref ((((((((n + 1) + 1) + 1) + 1) + 1) + 1) + 1) + 1 + 10)))) F108 (by omega)
  rw [← eh18] at F120
  have F121 := At.set (a := a) (y := .inl (1, [.ref (n), .ref (n + 1), .ref ((n + 1) + 1), .ref (((n + 1) + 1) + 1), .ref ((((n + 1) + 1) + 1) + 1), .ref (((((n + 1) + 1) + 1) + 1) + 1), .ref ((((((n + 1) + 1) + 1) + 1) + 1) + 1), .ref (((((((n + 1) + 1) + 1) + 1) + 1) + 1) + 1), .null, .null, .null].set 8 (.ref ((((((((n + 1) + 1) + 1) + 1) + 1) + 1) + 1) + 1 + 10)))) F109 (by omega)
  rw [← eh18] at F121
  have F122 := At.set (a := a) (y := .inl (1, [.ref (n), .ref (n + 1), .ref ((n + 1) + 1), .ref (((n + 1) + 1) + 1), .ref ((((n + 1) + 1) + 1) + 1), .ref (((((n + 1) + 1) + 1) + 1) + 1), .ref ((((((n + 1) + 1) + 1) + 1) + 1) + 1), .ref (((((((n + 1) + 1) + 1) + 1) + 1) + 1) + 1), .null, .null, .null].set 8 (.ref ((((((((n + 1) + 1) + 1) + 1) + 1) + 1) + 1) + 1 + 10)))) F110 (by omega)
  rw [← eh18] at F122
  have F123 := At.set (a := a) (y := .inl (1, [.ref (n), .ref (n + 1), .ref ((n + 1) + 1), .ref (((n + 1) + 1) + 1), .ref ((((n + 1) + 1) + 1) + 1), .ref (((((n + 1) + 1) + 1) + 1) + 1), .ref ((((((n + 1) + 1) + 1) + 1) + 1) + 1), .ref (((((((n + 1) + 1) + 1) + 1) + 1) + 1) + 1), .null, .null, .null].set 8 (.ref ((((((((n + 1) + 1) + 1) + 1) + 1) + 1) + 1) + 1 + 10)))) F111 (by omega)
  rw [← eh18] at F123
  have F124 := At.set (a := a) (y := .inl (1, [.ref (n), .ref (n + 1), .ref ((n + 1) + 1), .ref (((n + 1) + 1) + 1), .ref ((((n + 1) + 1) + 1) + 1), .ref (((((n + 1) + 1) + 1) + 1) + 1), .ref ((((((n + 1) + 1) + 1) + 1) + 1) + 1), .ref (((((((n + 1) + 1) + 1) + 1) + 1) + 1) + 1), .null, .null, .null].set 8 (.ref ((((((((n + 1) + 1) + 1) + 1) + 1) + 1) + 1) + 1 + 10)))) F112 (by omega)
  rw [← eh18] at F124
  have F125 := At.set (a := a) (y := .inl (1, [.ref (n), .ref (n + 1), .ref ((n + 1) + 1), .ref (((n + 1) + 1) + 1), .ref ((((n + 1) + 1) + 1) + 1), .ref (((((n + 1) + 1) + 1) + 1) + 1), .ref ((((((n + 1) + 1) + 1) + 1) + 1) + 1), .ref (((((((n + 1) + 1) + 1) + 1) + 1) + 1) + 1), .null, .null, .null].set 8 (.ref ((((((((n + 1) + 1) + 1) + 1) + 1) + 1) + 1) + 1 + 10)))) F113 (by omega)
  rw [← eh18] at F125
  have F126 := At.set (a := a) (y := .inl (1, [.ref (n), .ref (n + 1), .ref ((n + 1) + 1), .ref (((n + 1) + 1) + 1), .ref ((((n + 1) + 1) + 1) + 1), .ref (((((n + 1) + 1) + 1) + 1) + 1), .ref ((((((n + 1) + 1) + 1) + 1) + 1) + 1), .ref (((((((n + 1) + 1) + 1) + 1) + 1) + 1) + 1), .null, .null, .null].set 8 (.ref ((((((((n + 1) + 1) + 1) + 1) + 1) + 1) + 1) + 1 + 10)))) F114 (by omega)
  rw [← eh18] at F126
  have F127 := At.set (a := a) (y := .inl (1, [.ref (n), .ref (n + 1), .ref ((n + 1) + 1), .ref (((n + 1) + 1) + 1), .ref ((((n + 1) + 1) + 1) + 1), .ref (((((n + 1) + 1) + 1) + 1) + 1), .ref ((((((n + 1) + 1) + 1) + 1) + 1) + 1), .ref (((((((n + 1) + 1) + 1) + 1) + 1) + 1) + 1), .null, .null, .null].set 8 (.ref ((((((((n + 1) + 1) + 1) + 1) + 1) + 1) + 1) + 1 + 10)))) F115 (by omega)
  rw [← eh18] at F127
  have F128 := At.set (a := a) (y := .inl (1, [.ref (n), .ref (n + 1), .ref ((n + 1) + 1), .ref (((n + 1) + 1) + 1), .ref ((((n + 1) + 1) + 1) + 1), .ref (((((n + 1) + 1) + 1) + 1) + 1), .ref ((((((n + 1) + 1) + 1) + 1) + 1) + 1), .ref (((((((n + 1) + 1) + 1) + 1) + 1) + 1) + 1), .null, .null, .null].set 8 (.ref ((((((((n + 1) + 1) + 1) + 1) + 1) + 1) + 1) + 1 + 10)))) F118 (by omega)
  rw [← eh18] at F128
  have F129 := fun j (hj : j < 10) => At.set (a := a) (y := .inl (1, [.ref (n), .ref (n + 1), .ref ((n + 1) + 1), .ref (((n + 1) + 1) + 1), .ref ((((n + 1) + 1) + 1) + 1), .ref (((((n + 1) + 1) + 1) + 1) + 1), .ref ((((((n + 1) + 1) + 1) + 1) + 1) + 1), .ref (((((((n + 1) + 1) + 1) + 1) + 1) + 1) + 1), .null, .null, .null].set 8 (.ref ((((((((n + 1) + 1) + 1) + 1) + 1) + 1) + 1) + 1 + 10)))) (F116 j hj) (by omega)
  rw [← eh18] at F129
  have F130 := fun j (hj : j < 8) => At.set (a := a) (y := .inl (1, [.ref (n), .ref (n + 1), .ref ((n + 1) + 1), .ref (((n + 1) + 1) + 1), .ref ((((n + 1) + 1) + 1) + 1), .ref (((((n + 1) + 1) + 1) + 1) + 1), .ref ((((((n + 1) + 1) + 1) + 1) + 1) + 1), .ref (((((((n + 1) + 1) + 1) + 1) + 1) + 1) + 1), .null, .null, .null].set 8 (.ref ((((((((n + 1) + 1) + 1) + 1) + 1) + 1) + 1) + 1 + 10)))) (F119 j hj) (by omega)
  rw [← eh18] at F130
  have O18 : ∀ q x, q < n → q ≠ a → At h q x → At h18 q x := fun q x hq hqa e => by rw [eh18]; exact At.set (O17 q x hq hqa e) hqa
  have F132 : At h18 a (.inl (1, [.ref (n), .ref (n + 1), .ref ((n + 1) + 1), .ref (((n + 1) + 1) + 1), .ref ((((n + 1) + 1) + 1) + 1), .ref (((((n + 1) + 1) + 1) + 1) + 1), .ref ((((((n + 1) + 1) + 1) + 1) + 1) + 1), .ref (((((((n + 1) + 1) + 1) + 1) + 1) + 1) + 1), .ref ((((((((n + 1) + 1) + 1) + 1) + 1) + 1) + 1) + 1 + 10), .null, .null])) := by rw [eh18]; exact At.set_self F107.1
  obtain ⟨h19, eh19⟩ : ∃ x : Hv, x = hmul h18 (((((((((n + 1) + 1) + 1) + 1) + 1) + 1) + 1) + 1 + 10) + 1 + 8) 30 149 := ⟨_, rfl⟩
  have F133 := At.mul_old (n := ((((((((n + 1) + 1) + 1) + 1) + 1) + 1) + 1) + 1 + 10) + 1 + 8) (N := 30) (M := 149) F132 (by omega)
  rw [← eh19] at F133
  have F134 := At.mul_old (n := ((((((((n + 1) + 1) + 1) + 1) + 1) + 1) + 1) + 1 + 10) + 1 + 8) (N := 30) (M := 149) F120 (by omega)
  rw [← eh19] at F134
  have F135 := At.mul_old (n := ((((((((n + 1) + 1) + 1) + 1) + 1) + 1) + 1) + 1 + 10) + 1 + 8) (N := 30) (M := 149) F121 (by omega)
  rw [← eh19] at F135
  have F136 := At.mul_old (n := ((((((((n + 1) + 1) + 1) + 1) + 1) + 1) + 1) + 1 + 10) + 1 + 8) (N := 30) (M := 149) F122 (by omega)
  rw [← eh19] at F136
  have F137 := At.mul_old (n := ((((((((n + 1) + 1) + 1) + 1) + 1) + 1) + 1) + 1 + 10) + 1 + 8) (N := 30) (M := 149) F123 (by omega)
  rw [← eh19] at F137
  have F138 := At.mul_old (n := ((((((((n + 1) + 1) + 1) + 1) + 1) + 1) + 1) + 1 + 10) + 1 + 8) (N := 30) (M := 149) F124 (by omega)
  rw [← eh19] at F138
  have F139 := At.mul_old (n := ((((((((n + 1) + 1) + 1) + 1) + 1) + 1) + 1) + 1 + 10) + 1 + 8) (N := 30) (M := 149) F125 (by omega)
  rw [← eh19] at F139
  have F140 := At.mul_old (n := ((((((((n + 1) + 1) + 1) + 1) + 1) + 1) + 1) + 1 + 10) + 1 + 8) (N := 30) (M := 149) F126 (by omega)
  rw [← eh19] at F140
  have F141 := At.mul_old (n := ((((((((n + 1) + 1) + 1) + 1) + 1) + 1) + 1) + 1 + 10) + 1 + 8) (N := 30) (M := 149) F127 (by omega)
  rw [← eh19] at F141
  have F142 := At.mul_old (n := ((((((((n + 1) + 1) + 1) + 1) + 1) + 1) + 1) + 1 + 10) + 1 + 8) (N := 30) (M := 149) F128 (by omega)
  rw [← eh19] at F142
  have F143 := fun j (hj : j < 10) => At.mul_old (n := ((((((((n + 1) + 1) + 1) + 1) + 1) + 1) + 1) + 1 + 10) + 1 + 8) (N := 30) (M := 149) (F129 j hj) (by omega)
  rw [← eh19] at F143
  have F144 := fun j (hj : j < 8) => At.mul_old (n := ((((((((n + 1) + 1) + 1) + 1) + 1) + 1) + 1) + 1 + 10) + 1 + 8) (N := 30) (M := 149) (F130 j hj) (by omega)
  rw [← eh19] at F144
  have O19 : ∀ q x, q < n → q ≠ a → At h q x → At h19 q x := fun q x hq hqa e => by rw [eh19]; exact At.mul_old (O18 q x hq hqa e) (by omega)
  have F146 := At.mul_outer h18 (((((((((n + 1) + 1) + 1) + 1) + 1) + 1) + 1) + 1 + 10) + 1 + 8) 30 149
  rw [← eh19] at F146
  have F147 := fun j (hj : j < 30) => At.mul_row (h := h18) (n := ((((((((n + 1) + 1) + 1) + 1) + 1) + 1) + 1) + 1 + 10) + 1 + 8) (M := 149) hj
  rw [← eh19] at F147
  obtain ⟨h20, eh20⟩ : ∃ x : Hv, x = hset h19 a (.inl (1, [.ref (n), .ref (n + 1), .ref ((n + 1) + 1), .ref (((n + 1) + 1) + 1), .ref ((((n + 1) + 1) + 1) + 1), .ref (((((n + 1) + 1) + 1) + 1) + 1), .ref ((((((n + 1) + 1) + 1) + 1) + 1) + 1), .ref (((((((n + 1) + 1) + 1) + 1) + 1) + 1) + 1), .ref ((((((((n + 1) + 1) + 1) + 1) + 1) + 1) + 1) + 1 + 10), .null, .null].set 9 (.ref (((((((((n + 1) + 1) + 1) + 1) + 1) + 1) + 1) + 1 + 10) + 1 + 8)))) := ⟨_, rfl⟩
  have Ph20 : hput ro h19 a 1 9 (.ref (((((((((n + 1) + 1) + 1) + 1) + 1) + 1) + 1) + 1 + 10) + 1 + 8)) = some h20 := by rw [eh20]; exact put_ok F133 hra (Nat.le_of_ble_eq_true rfl)
  have F148 := At.set (a := a) (y := .inl (1, [.ref (n), .ref (n + 1), .ref ((n + 1) + 1), .ref (((n + 1) + 1) + 1), .ref ((((n + 1) + 1) + 1) + 1), .ref (((((n + 1) + 1) + 1) + 1) + 1), .ref ((((((n + 1) + 1) + 1) + 1) + 1) + 1), .ref (((((((n + 1) + 1) + 1) + 1) + 1) + 1) + 1), .ref ((((((((n + 1) + 1) + 1) + 1) + 1) + 1) + 1) + 1 + 10), .null, .null].set 9 (.ref (((((((((n + 1) + 1) + 1) + 1) + 1) + 1) + 1) + 1 + 10) + 1 + 8)))) F134 (by omega)
  rw [← eh20] at F148
  have F149 := At.set (a := a) (y := .inl (1, [.ref (n), .ref (n + 1), .ref ((n + 1) + 1), .ref (((n + 1) + 1) + 1), .ref ((((n + 1) + 1) + 1) + 1), .ref (((((n + 1) + 1) + 1) + 1) + 1), .ref ((((((n + 1) + 1) + 1) + 1) + 1) + 1), .ref (((((((n + 1) + 1) + 1) + 1) + 1) + 1) + 1), .ref ((((((((n + 1) + 1) + 1) + 1) + 1) + 1) + 1) + 1 + 10), .null, .null].set 9 (.ref (((((((((n + 1) + 1) + 1) + 1) + 1) + 1) + 1) + 1 + 10) + 1 + 8)))) F135 (by omega)
  rw [← eh20] at F149
  have F150 := At.set (a := a) (y := .inl (1, [.ref (n), .ref (n + 1), .ref ((n + 1) + 1), .ref (((n + 1) + 1) + 1), .ref ((((n + 1) + 1) + 1) + 1), .ref (((((n + 1) + 1) + 1) + 1) + 1), .ref ((((((n + 1) + 1) + 1) + 1) + 1) + 1), .ref (((((((n + 1) + 1) + 1) + 1) + 1) + 1) + 1), .ref ((((((((n + 1) + 1) + 1) + 1) + 1) + 1) + 1) + 1 + 10), .null, .null].set 9 (.ref (((((((((n + 1) + 1) + 1) + 1) + 1) + 1) + 1) + 1 + 10) + 1 + 8)))) F136 (by omega)
  rw [← eh20] at F150
  have F151 := At.set (a := a) (y := .inl (1, [.ref (n), .ref (n + 1), .ref ((n + 1) + 1), .ref (((n + 1) + 1) + 1), .ref ((((n + 1) + 1) + 1) + 1), .ref (((((n + 1) + 1) + 1) + 1) + 1), .ref ((((((n + 1) + 1) + 1) + 1) + 1) + 1), .ref (((((((n + 1) + 1) + 1) + 1) + 1) + 1) + 1), .ref ((((((((n + 1) + 1) + 1) + 1) + 1) + 1) + 1) + 1 + 10), .null, .null].set 9 (.ref (((((((((n + 1) + 1) + 1) + 1) + 1) + 1) + 1) + 1 + 10) + 1 + 8)))) F137 (by omega)
  rw [← eh20] at F151
  have F152 := At.set (a := a) (y := .inl (1, [.ref (n), .ref (n + 1), .ref ((n + 1) + 1), .ref (((n + 1) + 1) + 1), .ref ((((n + 1) + 1) + 1) + 1), .ref (((((n + 1) + 1) + 1) + 1) + 1), .ref ((((((n + 1) + 1) + 1) + 1) + 1) + 1), .ref (((((((n + 1) + 1) + 1) + 1) + 1) + 1) + 1), .ref ((((((((n + 1) + 1) + 1) + 1) + 1) + 1) + 1) + 1 + 10), .null, .null].set 9 (.ref (((((((((n + 1) + 1) + 1) + 1) + 1) + 1) + 1) + 1 + 10) + 1 + 8)))) F138 (by omega)
  rw [← eh20] at F152
  have F153 := At.set (a := a) (y := .inl (1, [.ref (n), .ref (n + 1), .ref ((n + 1) + 1), .ref (((n + 1) + 1) + 1), .ref ((((n + 1) + 1) + 1) + 1), .ref (((((n + 1) + 1) + 1) + 1) + 1), .ref ((((((n + 1) + 1) + 1) + 1) + 1) + 1), .ref (((((((n + 1) + 1) + 1) + 1) + 1) + 1) + 1), .ref ((((((((n + 1) + 1) + 1) + 1) + 1) + 1) + 1) + 1 + 10), .null, .null].set 9 (.ref (((((((((n + 1) + 1) + 1) + 1) + 1) + 1) + 1) + 1 + 10) + 1 + 8)))) F139 (by omega)
  rw [← eh20] at F153
  have F154 := At.set (a := a) (y := .inl (1, [.ref (n), .ref (n + 1), .ref ((n + 1) + 1), .ref (((n + 1) + 1) + 1), .ref ((((n + 1) + 1) + 1) + 1), .ref (((((n + 1) + 1) + 1) + 1) + 1), .ref ((((((n + 1) + 1) + 1) + 1) + 1) + 1), .ref (((((((n + 1) + 1) + 1) + 1) + 1) + 1) + 1), .ref ((((((((n + 1) + 1) + 1) + 1) + 1) + 1) + 1) + 1 + 10), .null, .null].set 9 (.ref (((((((((n + 1) + 1) + 1) + 1) + 1) + 1) + 1) + 1 + 10) + 1 + 8)))) F140 (by omega)
  rw [← eh20] at F154
  have F155 := At.set (a := a) (y := .inl (1, [.ref (n), .ref (n + 1), .ref ((n + 1) + 1), .ref (((n + 1) + 1) + 1), .ref ((((n + 1) + 1) + 1) + 1), .ref (((((n + 1) + 1) + 1) + 1) + 1), .ref ((((((n + 1) + 1) + 1) + 1) + 1) + 1), .ref (((((((n + 1) + 1) + 1) + 1) + 1) + 1) + 1), .ref ((((((((n + 1) + 1) + 1) + 1) + 1) + 1) + 1) + 1 + 10), .null, .null].set 9 (.ref (((((((((n + 1) + 1) + 1) + 1) + 1) + 1) + 1) + 1 + 10) + 1 + 8)))) F141 (by omega)
  rw [← eh20] at F155
  have F156 := At.set (a := a) (y := .inl (1, [.ref (n), .ref (n + 1), .ref ((n + 1) + 1), .ref (((n + 1) + 1) + 1), .ref ((((n + 1) + 1) + 1) + 1), .ref (((((n + 1) + 1) + 1) + 1) + 1), .ref ((((((n + 1) + 1) + 1) + 1) + 1) + 1), .ref (((((((n + 1) + 1) + 1) + 1) + 1) + 1) + 1), .ref ((((((((n + 1) + 1) + 1) + 1) + 1) + 1) + 1) + 1 + 10), .null, .null].set 9 (.ref (((((((((n + 1) + 1) + 1) + 1) + 1) + 1) + 1) + 1 + 10) + 1 + 8)))) F142 (by omega)
  rw [← eh20] at F156
  have F157 := At.set (a := a) (y := .inl (1, [.ref (n), .ref (n + 1), .ref ((n + 1) + 1), .ref (((n + 1) + 1) + 1), .ref ((((n + 1) + 1) + 1) + 1), .ref (((((n + 1) + 1) + 1) + 1) + 1), .ref ((((((n + 1) + 1) + 1) + 1) + 1) + 1), .ref (((((((n + 1) + 1) + 1) + 1) + 1) + 1) + 1), .ref ((((((((n + 1) + 1) + 1) + 1) + 1) + 1) + 1) + 1 + 10), .null, .null].set 9 (.ref (((((((((n + 1) + 1) + 1) + 1) + 1) + 1) + 1) + 1 + 10) + 1 + 8)))) F146 (by omega)
  rw [← eh20] at F157
  have F158 := fun j (hj : j < 10) => At.set (a := a) (y := .inl (1, [.ref (n), .ref (n + 1), .ref ((n + 1) + 1), .ref (((n + 1) + 1) + 1), .ref ((((n + 1) + 1) + 1) + 1), .ref (((((n + 1) + 1) + 1) + 1) + 1), .ref ((((((n + 1) + 1) + 1) + 1) + 1) + 1), .ref (((((((n + 1) + 1) + 1) + 1) + 1) + 1) + 1), .ref ((((((((n + 1) + 1) + 1) + 1) + 1) + 1) + 1) + 1 + 10), .null, .null].set 9 (.ref (((((((((n + 1) + 1) + 1) + 1) + 1) + 1) + 1) + 1 + 10) + 1 + 8)))) (F143 j hj) (by omega)
  rw [← eh20] at F158
  have F159 := fun j (hj : j < 8) => At.set (a := a) (y := .inl (1, [.ref (n), .ref (n + 1), .ref ((n + 1) + 1), .ref (((n + 1) + 1) + 1), .ref ((((n + 1) + 1) + 1) + 1), .ref (((((n + 1) + 1) + 1) + 1) + 1), .ref ((((((n + 1) + 1) + 1) + 1) + 1) + 1), .ref (((((((n + 1) + 1) + 1) + 1) + 1) + 1) + 1), .ref ((((((((n + 1) + 1) + 1) + 1) + 1) + 1) + 1) + 1 + 10), .null, .null].set 9 (.ref (((((((((n + 1) + 1) + 1) + 1) + 1) + 1) + 1) + 1 + 10) + 1 + 8)))) (F144 j hj) (by omega)
  rw [← eh20] at F159
  have F160 := fun j (hj : j < 30) => At.set (a := a) (y := .inl (1, [.ref (n), .ref (n + 1), .ref ((n + 1) + 1), .ref (((n + 1) + 1) + 1), .ref ((((n + 1) + 1) + 1) + 1), .ref (((((n + 1) + 1) + 1) + 1) + 1), .ref ((((((n + 1) + 1) + 1) + 1) + 1) + 1), .ref (((((((n + 1) + 1) + 1) + 1) + 1) + 1) + 1), .ref ((((((((n + 1) + 1) + 1) + 1) + 1) + 1) + 1) + 1 + 10), .null, .null].set 9 (.ref (((((((((n + 1) + 1) + 1) + 1) + 1) + 1) + 1) + 1 + 10) + 1 + 8)))) (F147 j hj) (by omega)
  rw [← eh20] at F160
  have O20 : ∀ q x, q < n → q ≠ a → At h q x → At h20 q x := fun q x hq hqa e => by rw [eh20]; exact At.set (O19 q x hq hqa e) hqa
  have F162 : At h20 a (.inl (1, [.ref (n), .ref (n + 1), .ref ((n + 1) + 1), .ref (((n + 1) + 1) + 1), .ref ((((n + 1) + 1) + 1) + 1), .ref (((((n + 1) + 1) + 1) + 1) + 1), .ref ((((((n + 1) + 1) + 1) + 1) + 1) + 1), .ref (((((((n + 1) + 1) + 1) + 1) + 1) + 1) + 1), .ref ((((((((n + 1) + 1) + 1) + 1) + 1) + 1) + 1) + 1 + 10), .ref (((((((((n + 1) + 1) + 1) + 1) + 1) + 1) + 1) + 1 + 10) + 1 + 8), .null])) := by rw [eh20]; exact At.set_self F133.1
  obtain ⟨h21, eh21⟩ : ∃ x : Hv, x = hnew h20 ((((((((((n + 1) + 1) + 1) + 1) + 1) + 1) + 1) + 1 + 10) + 1 + 8) + 1 + 30) (.inr (6, ((4 : Int32).toNatClampNeg, .inr (.inr (.inr (.inr (fun _ => none))))))) := ⟨_, rfl⟩
  have F163 := At.new (n := (((((((((n + 1) + 1) + 1) + 1) + 1) + 1) + 1) + 1 + 10) + 1 + 8) + 1 + 30) (y := .inr (6, ((4 : Int32).toNatClampNeg, .inr (.inr (.inr (.inr (fun _ => none))))))) F162 (by omega)
  rw [← eh21] at F163
  have F164 := At.new (n := (((((((((n + 1) + 1) + 1) + 1) + 1) + 1) + 1) + 1 + 10) + 1 + 8) + 1 + 30) (y := .inr (6, ((4 : Int32).toNatClampNeg, .inr (.inr (.inr (.inr (fun _ => none))))))) F148 (by omega)
  rw [← eh21] at F164
  have F165 := At.new (n := (((((((((n + 1) + 1) + 1) + 1) + 1) + 1) + 1) + 1 + 10) + 1 + 8) + 1 + 30) (y := .inr (6, ((4 : Int32).toNatClampNeg, .inr (.inr (.inr (.inr (fun _ => none))))))) F149 (by omega)
  rw [← eh21] at F165
  have F166 := At.new (n := (((((((((n + 1) + 1) + 1) + 1) + 1) + 1) + 1) + 1 + 10) + 1 + 8) + 1 + 30) (y := .inr (6, ((4 : Int32).toNatClampNeg, .inr (.inr (.inr (.inr (fun _ => none))))))) F150 (by omega)
  rw [← eh21] at F166
  have F167 := At.new (n := (((((((((n + 1) + 1) + 1) + 1) + 1) + 1) + 1) + 1 + 10) + 1 + 8) + 1 + 30) (y := .inr (6, ((4 : Int32).toNatClampNeg, .inr (.inr (.inr (.inr (fun _ => none))))))) F151 (by omega)
  rw [← eh21] at F167
  have F168 := At.new (n := (((((((((n + 1) + 1) + 1) + 1) + 1) + 1) + 1) + 1 + 10) + 1 + 8) + 1 + 30) (y := .inr (6, ((4 : Int32).toNatClampNeg, .inr (.inr (.inr (.inr (fun _ => none))))))) F152 (by omega)
  rw [← eh21] at F168
  have F169 := At.new (n := (((((((((n + 1) + 1) + 1) + 1) + 1) + 1) + 1) + 1 + 10) + 1 + 8) + 1 + 30) (y := .inr (6, ((4 : Int32).toNatClampNeg, .inr (.inr (.inr (.inr (fun _ => none))))))) F153 (by omega)
  rw [← eh21] at F169
  have F170 := At.new (n := (((((((((n + 1) + 1) + 1) + 1) + 1) + 1) + 1) + 1 + 10) + 1 + 8) + 1 + 30) (y := .inr (6, ((4 : Int32).toNatClampNeg, .inr (.inr (.inr (.inr (fun _ => none))))))) F154 (by omega)
  rw [← eh21] at F170
  have F171 := At.new (n := (((((((((n + 1) + 1) + 1) + 1) + 1) + 1) + 1) + 1 + 10) + 1 + 8) + 1 + 30) (y := .inr (6, ((4 : Int32).toNatClampNeg, .inr (.inr (.inr (.inr (fun _ => none))))))) F155 (by omega)
  rw [← eh21] at F171
  have F172 := At.new (n := (((((((((n + 1) + 1) + 1) + 1) + 1) + 1) + 1) + 1 + 10) + 1 + 8) + 1 + 30) (y := .inr (6, ((4 : Int32).toNatClampNeg, .inr (.inr (.inr (.inr (fun _ => none))))))) F156 (by omega)
  rw [← eh21] at F172
  have F173 := At.new (n := (((((((((n + 1) + 1) + 1) + 1) + 1) + 1) + 1) + 1 + 10) + 1 + 8) + 1 + 30) (y := .inr (6, ((4 : Int32).toNatClampNeg, .inr (.inr (.inr (.inr (fun _ => none))))))) F157 (by omega)
  rw [← eh21] at F173
  have F174 := fun j (hj : j < 10) => At.new (n := (((((((((n + 1) + 1) + 1) + 1) + 1) + 1) + 1) + 1 + 10) + 1 + 8) + 1 + 30) (y := .inr (6, ((4 : Int32).toNatClampNeg, .inr (.inr (.inr (.inr (fun _ => none))))))) (F158 j hj) (by omega)
  rw [← eh21] at F174
  have F175 := fun j (hj : j < 8) => At.new (n := (((((((((n + 1) + 1) + 1) + 1) + 1) + 1) + 1) + 1 + 10) + 1 + 8) + 1 + 30) (y := .inr (6, ((4 : Int32).toNatClampNeg, .inr (.inr (.inr (.inr (fun _ => none))))))) (F159 j hj) (by omega)
  rw [← eh21] at F175
  have F176 := fun j (hj : j < 30) => At.new (n := (((((((((n + 1) + 1) + 1) + 1) + 1) + 1) + 1) + 1 + 10) + 1 + 8) + 1 + 30) (y := .inr (6, ((4 : Int32).toNatClampNeg, .inr (.inr (.inr (.inr (fun _ => none))))))) (F160 j hj) (by omega)
  rw [← eh21] at F176
  have O21 : ∀ q x, q < n → q ≠ a → At h q x → At h21 q x := fun q x hq hqa e => by rw [eh21]; exact At.new (O20 q x hq hqa e) (by omega)
  have F178 := At.new_self h20 ((((((((((n + 1) + 1) + 1) + 1) + 1) + 1) + 1) + 1 + 10) + 1 + 8) + 1 + 30) (.inr (6, ((4 : Int32).toNatClampNeg, .inr (.inr (.inr (.inr (fun _ => none)))))))
  rw [← eh21] at F178
  obtain ⟨h22, eh22⟩ : ∃ x : Hv, x = hset h21 a (.inl (1, [.ref (n), .ref (n + 1), .ref ((n + 1) + 1), .ref (((n + 1) + 1) + 1), .ref ((((n + 1) + 1) + 1) + 1), .ref (((((n + 1) + 1) + 1) + 1) + 1), .ref ((((((n + 1) + 1) + 1) + 1) + 1) + 1), .ref (((((((n + 1) + 1) + 1) + 1) + 1) + 1) + 1), .ref ((((((((n + 1) + 1) + 1) + 1) + 1) + 1) + 1) + 1 + 10), .ref (((((((((n + 1) + 1) + 1) + 1) + 1) + 1) + 1) + 1 + 10) + 1 + 8), .null].set 10 (.ref ((((((((((n + 1) + 1) + 1) + 1) + 1) + 1) + 1) + 1 + 10) + 1 + 8) + 1 + 30)))) := ⟨_, rfl⟩
  have Ph22 : hput ro h21 a 1 10 (.ref ((((((((((n + 1) + 1) + 1) + 1) + 1) + 1) + 1) + 1 + 10) + 1 + 8) + 1 + 30)) = some h22 := by rw [eh22]; exact put_ok F163 hra (Nat.le_of_ble_eq_true rfl)
  have F179 := At.set (a := a) (y := .inl (1, [.ref (n), .ref (n + 1), .ref ((n + 1) + 1), .ref (((n + 1) + 1) + 1), .ref ((((n + 1) + 1) + 1) + 1), .ref (((((n + 1) + 1) + 1) + 1) + 1), .ref ((((((n + 1) + 1) + 1) + 1) + 1) + 1), .ref (((((((n + 1) + 1) + 1) + 1) + 1) + 1) + 1), .ref ((((((((n + 1) + 1) + 1) + 1) + 1) + 1) + 1) + 1 + 10), .ref (((((((((n + 1) + 1) + 1) + 1) + 1) + 1) + 1) + 1 + 10) + 1 + 8), .null].set 10 (.ref ((((((((((n + 1) + 1) + 1) + 1) + 1) + 1) + 1) + 1 + 10) + 1 + 8) + 1 + 30)))) F164 (by omega)
  rw [← eh22] at F179
  have F180 := At.set (a := a) (y := .inl (1, [.ref (n), .ref (n + 1), .ref ((n + 1) + 1), .ref (((n + 1) + 1) + 1), .ref ((((n + 1) + 1) + 1) + 1), .ref (((((n + 1) + 1) + 1) + 1) + 1), .ref ((((((n + 1) + 1) + 1) + 1) + 1) + 1), .ref (((((((n + 1) + 1) + 1) + 1) + 1) + 1) + 1), .ref ((((((((n + 1) + 1) + 1) + 1) + 1) + 1) + 1) + 1 + 10), .ref (((((((((n + 1) + 1) + 1) + 1) + 1) + 1) + 1) + 1 + 10) + 1 + 8), .null].set 10 (.ref ((((((((((n + 1) + 1) + 1) + 1) + 1) + 1) + 1) + 1 + 10) + 1 + 8) + 1 + 30)))) F165 (by omega)
  rw [← eh22] at F180
  have F181 := At.set (a := a) (y := .inl (1, [.ref (n), .ref (n + 1), .ref ((n + 1) + 1), .ref (((n + 1) + 1) + 1), .ref ((((n + 1) + 1) + 1) + 1), .ref (((((n + 1) + 1) + 1) + 1) + 1), .ref ((((((n + 1) + 1) + 1) + 1) + 1) + 1), .ref (((((((n + 1) + 1) + 1) + 1) + 1) + 1) + 1), .ref ((((((((n + 1) + 1) + 1) + 1) + 1) + 1) + 1) + 1 + 10), .ref (((((((((n + 1) + 1) + 1) + 1) + 1) + 1) + 1) + 1 + 10) + 1 + 8), .null].set 10 (.ref ((((((((((n + 1) + 1) + 1) + 1) + 1) + 1) + 1) + 1 + 10) + 1 + 8) + 1 + 30)))) F166 (by omega)
  rw [← eh22] at F181
  have F182 := At.set (a := a) (y := .inl (1, [.ref (n), .ref (n + 1), .ref ((n + 1) + 1), .ref (((n + 1) + 1) + 1), .ref ((((n + 1) + 1) + 1) + 1), .ref (((((n + 1) + 1) + 1) + 1) + 1), .ref ((((((n + 1) + 1) + 1) + 1) + 1) + 1), .ref (((((((n + 1) + 1) + 1) + 1) + 1) + 1) + 1), .ref ((((((((n + 1) + 1) + 1) + 1) + 1) + 1) + 1) + 1 + 10), .ref (((((((((n + 1) + 1) + 1) + 1) + 1) + 1) + 1) + 1 + 10) + 1 + 8), .null].set 10 (.ref ((((((((((n + 1) + 1) + 1) + 1) + 1) + 1) + 1) + 1 + 10) + 1 + 8) + 1 + 30)))) F167 (by omega)
  rw [← eh22] at F182
  have F183 := At.set (a := a) (y := .inl (1, [.ref (n), .ref (n + 1), .ref ((n + 1) + 1), .ref (((n + 1) + 1) + 1), .ref ((((n + 1) + 1) + 1) + 1), .ref (((((n + 1) + 1) + 1) + 1) + 1), .ref ((((((n + 1) + 1) + 1) + 1) + 1) + 1), .ref (((((((n + 1) + 1) + 1) + 1) + 1) + 1) + 1), .ref ((((((((n + 1) + 1) + 1) + 1) + 1) + 1) + 1) + 1 + 10), .ref (((((((((n + 1) + 1) + 1) + 1) + 1) + 1) + 1) + 1 + 10) + 1 + 8), .null].set 10 (.ref ((((((((((n + 1) + 1) + 1) + 1) + 1) + 1) + 1) + 1 + 10) + 1 + 8) + 1 + 30)))) F168 (by omega)
  rw [← eh22] at F183
  have F184 := At.set (a := a) (y := .inl (1, [.ref (n), .ref (n + 1), .ref ((n + 1) + 1), .ref (((n + 1) + 1) + 1), .ref ((((n + 1) + 1) + 1) + 1), .ref (((((n + 1) + 1) + 1) + 1) + 1), .ref ((((((n + 1) + 1) + 1) + 1) + 1) + 1), .ref (((((((n + 1) + 1) + 1) + 1) + 1) + 1) + 1), .ref ((((((((n + 1) + 1) + 1) + 1) + 1) + 1) + 1) + 1 + 10), .ref (((((((((n + 1) + 1) + 1) + 1) + 1) + 1) + 1) + 1 + 10) + 1 + 8), .null].set 10 (.ref ((((((((((n + 1) + 1) + 1) + 1) + 1) + 1) + 1) + 1 + 10) + 1 + 8) + 1 + 30)))) F169 (by omega)
  rw [← eh22] at F184
  have F185 := At.set (a := a) (y := .inl (1, [.ref (n), .ref (n + 1), .ref ((n + 1) + 1), .ref (((n + 1) + 1) + 1), .ref ((((n + 1) + 1) + 1) + 1), .ref (((((n + 1) + 1) + 1) + 1) + 1), .ref ((((((n + 1) + 1) + 1) + 1) + 1) + 1), .ref (((((((n + 1) + 1) + 1) + 1) + 1) + 1) + 1), .ref ((((((((n + 1) + 1) + 1) + 1) + 1) + 1) + 1) + 1 + 10), .ref (((((((((n + 1) + 1) + 1) + 1) + 1) + 1) + 1) + 1 + 10) + 1 + 8), .null].set 10 (.ref ((((((((((n + 1) + 1) + 1) + 1) + 1) + 1) + 1) + 1 + 10) + 1 + 8) + 1 + 30)))) F170 (by omega)
  rw [← eh22] at F185
  have F186 := At.set (a := a) (y := .inl (1, [.ref (n), .ref (n + 1), .ref ((n + 1) + 1), .ref (((n + 1) + 1) + 1), .ref ((((n + 1) + 1) + 1) + 1), .ref (((((n + 1) + 1) + 1) + 1) + 1), .ref ((((((n + 1) + 1) + 1) + 1) + 1) + 1), .ref (((((((n + 1) + 1) + 1) + 1) + 1) + 1) + 1), .ref ((((((((n + 1) + 1) + 1) + 1) + 1) + 1) + 1) + 1 + 10), .ref (((((((((n + 1) + 1) + 1) + 1) + 1) + 1) + 1) + 1 + 10) + 1 + 8), .null].set 10 (.ref ((((((((((n + 1) + 1) + 1) + 1) + 1) + 1) + 1) + 1 + 10) + 1 + 8) + 1 + 30)))) F171 (by omega)
  rw [← eh22] at F186
  have F187 := At.set (a := a) (y := .inl (1, [.ref (n), .ref (n + 1), .ref ((n + 1) + 1), .ref (((n + 1) + 1) + 1), .ref ((((n + 1) + 1) + 1) + 1), .ref (((((n + 1) + 1) + 1) + 1) + 1), .ref ((((((n + 1) + 1) + 1) + 1) + 1) + 1), .ref (((((((n + 1) + 1) + 1) + 1) + 1) + 1) + 1), .ref ((((((((n + 1) + 1) + 1) + 1) + 1) + 1) + 1) + 1 + 10), .ref (((((((((n + 1) + 1) + 1) + 1) + 1) + 1) + 1) + 1 + 10) + 1 + 8), .null].set 10 (.ref ((((((((((n + 1) + 1) + 1) + 1) + 1) + 1) + 1) + 1 + 10) + 1 + 8) + 1 + 30)))) F172 (by omega)
  rw [← eh22] at F187
  have F188 := At.set (a := a) (y := .inl (1, [.ref (n), .ref (n + 1), .ref ((n + 1) + 1), .ref (((n + 1) + 1) + 1), .ref ((((n + 1) + 1) + 1) + 1), .ref (((((n + 1) + 1) + 1) + 1) + 1), .ref ((((((n + 1) + 1) + 1) + 1) + 1) + 1), .ref (((((((n + 1) + 1) + 1) + 1) + 1) + 1) + 1), .ref ((((((((n + 1) + 1) + 1) + 1) + 1) + 1) + 1) + 1 + 10), .ref (((((((((n + 1) + 1) + 1) + 1) + 1) + 1) + 1) + 1 + 10) + 1 + 8), .null].set 10 (.ref ((((((((((n + 1) + 1) + 1) + 1) + 1) + 1) + 1) + 1 + 10) + 1 + 8) + 1 + 30)))) F173 (by omega)
  rw [← eh22] at F188
  have F189 := At.set (a := a) (y := .inl (1, [.ref (n), .ref (n + 1), .ref ((n + 1) + 1), .ref (((n + 1) + 1) + 1), .ref ((((n + 1) + 1) + 1) + 1), .ref (((((n + 1) + 1) + 1) + 1) + 1), .ref ((((((n + 1) + 1) + 1) + 1) + 1) + 1), .ref (((((((n + 1) + 1) + 1) + 1) + 1) + 1) + 1), .ref ((((((((n + 1) + 1) + 1) + 1) + 1) + 1) + 1) + 1 + 10), .ref (((((((((n + 1) + 1) + 1) + 1) + 1) + 1) + 1) + 1 + 10) + 1 + 8), .null].set 10 (.ref ((((((((((n + 1) + 1) + 1) + 1) + 1) + 1) + 1) + 1 + 10) + 1 + 8) + 1 + 30)))) F178 (by omega)
  rw [← eh22] at F189
  have F190 := fun j (hj : j < 10) => At.set (a := a) (y := .inl (1, [.ref (n), .ref (n + 1), .ref ((n + 1) + 1), .ref (((n + 1) + 1) + 1), .ref ((((n + 1) + 1) + 1) + 1), .ref (((((n + 1) + 1) + 1) + 1) + 1), .ref ((((((n + 1) + 1) + 1) + 1) + 1) + 1), .ref (((((((n + 1) + 1) + 1) + 1) + 1) + 1) + 1), .ref ((((((((n + 1) + 1) + 1) + 1) + 1) + 1) + 1) + 1 + 10), .ref (((((((((n + 1) + 1) + 1) + 1) + 1) + 1) + 1) + 1 + 10) + 1 + 8), .null].set 10 (.ref ((((((((((n + 1) + 1) + 1) + 1) + 1) + 1) + 1) + 1 + 10) + 1 + 8) + 1 + 30)))) (F174 j hj) (by omega)
  rw [← eh22] at F190
  have F191 := fun j (hj : j < 8) => At.set (a := a) (y := .inl (1, [.ref (n), .ref (n + 1), .ref ((n + 1) + 1), .ref (((n + 1) + 1) + 1), .ref ((((n + 1) + 1) + 1) + 1), .ref (((((n + 1) + 1) + 1) + 1) + 1), .ref ((((((n + 1) + 1) + 1) + 1) + 1) + 1), .ref (((((((n + 1) + 1) + 1) + 1) + 1) + 1) + 1), .ref ((((((((n + 1) + 1) + 1) + 1) + 1) + 1) + 1) + 1 + 10), .ref (((((((((n + 1) + 1) + 1) + 1) + 1) + 1) + 1) + 1 + 10) + 1 + 8), .null].set 10 (.ref ((((((((((n + 1) + 1) + 1) + 1) + 1) + 1) + 1) + 1 + 10) + 1 + 8) + 1 + 30)))) (F175 j hj) (by omega)
  rw [← eh22] at F191
  have F192 := fun j (hj : j < 30) => At.set (a := a) (y := .inl (1, [.ref (n), .ref (n + 1), .ref ((n + 1) + 1), .ref (((n + 1) + 1) + 1), .ref ((((n + 1) + 1) + 1) + 1), .ref (((((n + 1) + 1) + 1) + 1) + 1), .ref ((((((n + 1) + 1) + 1) + 1) + 1) + 1), .ref (((((((n + 1) + 1) + 1) + 1) + 1) + 1) + 1), .ref ((((((((n + 1) + 1) + 1) + 1) + 1) + 1) + 1) + 1 + 10), .ref (((((((((n + 1) + 1) + 1) + 1) + 1) + 1) + 1) + 1 + 10) + 1 + 8), .null].set 10 (.ref ((((((((((n + 1) + 1) + 1) + 1) + 1) + 1) + 1) + 1 + 10) + 1 + 8) + 1 + 30)))) (F176 j hj) (by omega)
  rw [← eh22] at F192
  have O22 : ∀ q x, q < n → q ≠ a → At h q x → At h22 q x := fun q x hq hqa e => by rw [eh22]; exact At.set (O21 q x hq hqa e) hqa
  have F194 : At h22 a (.inl (1, [.ref (n), .ref (n + 1), .ref ((n + 1) + 1), .ref (((n + 1) + 1) + 1), .ref ((((n + 1) + 1) + 1) + 1), .ref (((((n + 1) + 1) + 1) + 1) + 1), .ref ((((((n + 1) + 1) + 1) + 1) + 1) + 1), .ref (((((((n + 1) + 1) + 1) + 1) + 1) + 1) + 1), .ref ((((((((n + 1) + 1) + 1) + 1) + 1) + 1) + 1) + 1 + 10), .ref (((((((((n + 1) + 1) + 1) + 1) + 1) + 1) + 1) + 1 + 10) + 1 + 8), .ref ((((((((((n + 1) + 1) + 1) + 1) + 1) + 1) + 1) + 1 + 10) + 1 + 8) + 1 + 30)])) := by rw [eh22]; exact At.set_self F163.1
  obtain ⟨h23, eh23⟩ : ∃ x : Hv, x = hset h22 (n) (.inr (1, ((8 : Int32).toNatClampNeg, .inl (upd (fun _ => 0) ((2 : Int32).toNatClampNeg) (-1))))) := ⟨_, rfl⟩
  have Ph23 : hasti ro h22 (n) ((2 : Int32).toNatClampNeg) (-1) = some h23 := by rw [eh23]; exact hasti_ok F179 (hrn _ (by omega)) (by decide)
  have F195 := At.set (a := n) (y := .inr (1, ((8 : Int32).toNatClampNeg, .inl (upd (fun _ => 0) ((2 : Int32).toNatClampNeg) (-1))))) F194 (by omega)
  rw [← eh23] at F195
  have F196 := At.set (a := n) (y := .inr (1, ((8 : Int32).toNatClampNeg, .inl (upd (fun _ => 0) ((2 : Int32).toNatClampNeg) (-1))))) F180 (by omega)
  rw [← eh23] at F196
  have F197 := At.set (a := n) (y := .inr (1, ((8 : Int32).toNatClampNeg, .inl (upd (fun _ => 0) ((2 : Int32).toNatClampNeg) (-1))))) F181 (by omega)
  rw [← eh23] at F197
  have F198 := At.set (a := n) (y := .inr (1, ((8 : Int32).toNatClampNeg, .inl (upd (fun _ => 0) ((2 : Int32).toNatClampNeg) (-1))))) F182 (by omega)
  rw [← eh23] at F198
  have F199 := At.set (a := n) (y := .inr (1, ((8 : Int32).toNatClampNeg, .inl (upd (fun _ => 0) ((2 : Int32).toNatClampNeg) (-1))))) F183 (by omega)
  rw [← eh23] at F199
  have F200 := At.set (a := n) (y := .inr (1, ((8 : Int32).toNatClampNeg, .inl (upd (fun _ => 0) ((2 : Int32).toNatClampNeg) (-1))))) F184 (by omega)
  rw [← eh23] at F200
  have F201 := At.set (a := n) (y := .inr (1, ((8 : Int32).toNatClampNeg, .inl (upd (fun _ => 0) ((2 : Int32).toNatClampNeg) (-1))))) F185 (by omega)
  rw [← eh23] at F201
  have F202 := At.set (a := n) (y := .inr (1, ((8 : Int32).toNatClampNeg, .inl (upd (fun _ => 0) ((2 : Int32).toNatClampNeg) (-1))))) F186 (by omega)
  rw [← eh23] at F202
  have F203 := At.set (a := n) (y := .inr (1, ((8 : Int32).toNatClampNeg, .inl (upd (fun _ => 0) ((2 : Int32).toNatClampNeg) (-1))))) F187 (by omega)
  rw [← eh23] at F203
  have F204 := At.set (a := n) (y := .inr (1, ((8 : Int32).toNatClampNeg, .inl (upd (fun _ => 0) ((2 : Int32).toNatClampNeg) (-1))))) F188 (by omega)
  rw [← eh23] at F204
  have F205 := At.set (a := n) (y := .inr (1, ((8 : Int32).toNatClampNeg, .inl (upd (fun _ => 0) ((2 : Int32).toNatClampNeg) (-1))))) F189 (by omega)
  rw [← eh23] at F205
  have F206 := fun j (hj : j < 10) => At.set (a := n) (y := .inr (1, ((8 : Int32).toNatClampNeg, .inl (upd (fun _ => 0) ((2 : Int32).toNatClampNeg) (-1))))) (F190 j hj) (by omega)
  rw [← eh23] at F206
  have F207 := fun j (hj : j < 8) => At.set (a := n) (y := .inr (1, ((8 : Int32).toNatClampNeg, .inl (upd (fun _ => 0) ((2 : Int32).toNatClampNeg) (-1))))) (F191 j hj) (by omega)
  rw [← eh23] at F207
  have F208 := fun j (hj : j < 30) => At.set (a := n) (y := .inr (1, ((8 : Int32).toNatClampNeg, .inl (upd (fun _ => 0) ((2 : Int32).toNatClampNeg) (-1))))) (F192 j hj) (by omega)
  rw [← eh23] at F208
  have O23 : ∀ q x, q < n → q ≠ a → At h q x → At h23 q x := fun q x hq hqa e => by rw [eh23]; exact At.set (O22 q x hq hqa e) (by omega)
  have F210 : At h23 (n) (.inr (1, ((8 : Int32).toNatClampNeg, .inl (upd (fun _ => 0) ((2 : Int32).toNatClampNeg) (-1))))) := by rw [eh23]; exact At.set_self F179.1
  obtain ⟨h24, eh24⟩ : ∃ x : Hv, x = hset h23 (n + 1) (.inr (1, ((149 : Int32).toNatClampNeg, .inl (upd (fun _ => 0) ((1 : Int32).toNatClampNeg) (373))))) := ⟨_, rfl⟩
  have Ph24 : hasti ro h23 (n + 1) ((1 : Int32).toNatClampNeg) (373) = some h24 := by rw [eh24]; exact hasti_ok F196 (hrn _ (by omega)) (by decide)
  have F211 := At.set (a := n + 1) (y := .inr (1, ((149 : Int32).toNatClampNeg, .inl (upd (fun _ => 0) ((1 : Int32).toNatClampNeg) (373))))) F195 (by omega)
  rw [← eh24] at F211
  have F212 := At.set (a := n + 1) (y := .inr (1, ((149 : Int32).toNatClampNeg, .inl (upd (fun _ => 0) ((1 : Int32).toNatClampNeg) (373))))) F210 (by omega)
  rw [← eh24] at F212
  have F213 := At.set (a := n + 1) (y := .inr (1, ((149 : Int32).toNatClampNeg, .inl (upd (fun _ => 0) ((1 : Int32).toNatClampNeg) (373))))) F197 (by omega)
  rw [← eh24] at F213
  have F214 := At.set (a := n + 1) (y := .inr (1, ((149 : Int32).toNatClampNeg, .inl (upd (fun _ => 0) ((1 : Int32).toNatClampNeg) (373))))) F198 (by omega)
  rw [← eh24] at F214
  have F215 := At.set (a := n + 1) (y := .inr (1, ((149 : Int32).toNatClampNeg, .inl (upd (fun _ => 0) ((1 : Int32).toNatClampNeg) (373))))) F199 (by omega)
  rw [← eh24] at F215
  have F216 := At.set (a := n + 1) (y := .inr (1, ((149 : Int32).toNatClampNeg, .inl (upd (fun _ => 0) ((1 : Int32).toNatClampNeg) (373))))) F200 (by omega)
  rw [← eh24] at F216
  have F217 := At.set (a := n + 1) (y := .inr (1, ((149 : Int32).toNatClampNeg, .inl (upd (fun _ => 0) ((1 : Int32).toNatClampNeg) (373))))) F201 (by omega)
  rw [← eh24] at F217
  have F218 := At.set (a := n + 1) (y := .inr (1, ((149 : Int32).toNatClampNeg, .inl (upd (fun _ => 0) ((1 : Int32).toNatClampNeg) (373))))) F202 (by omega)
  rw [← eh24] at F218
  have F219 := At.set (a := n + 1) (y := .inr (1, ((149 : Int32).toNatClampNeg, .inl (upd (fun _ => 0) ((1 : Int32).toNatClampNeg) (373))))) F203 (by omega)
  rw [← eh24] at F219
  have F220 := At.set (a := n + 1) (y := .inr (1, ((149 : Int32).toNatClampNeg, .inl (upd (fun _ => 0) ((1 : Int32).toNatClampNeg) (373))))) F204 (by omega)
  rw [← eh24] at F220
  have F221 := At.set (a := n + 1) (y := .inr (1, ((149 : Int32).toNatClampNeg, .inl (upd (fun _ => 0) ((1 : Int32).toNatClampNeg) (373))))) F205 (by omega)
  rw [← eh24] at F221
  have F222 := fun j (hj : j < 10) => At.set (a := n + 1) (y := .inr (1, ((149 : Int32).toNatClampNeg, .inl (upd (fun _ => 0) ((1 : Int32).toNatClampNeg) (373))))) (F206 j hj) (by omega)
  rw [← eh24] at F222
  have F223 := fun j (hj : j < 8) => At.set (a := n + 1) (y := .inr (1, ((149 : Int32).toNatClampNeg, .inl (upd (fun _ => 0) ((1 : Int32).toNatClampNeg) (373))))) (F207 j hj) (by omega)
  rw [← eh24] at F223
  have F224 := fun j (hj : j < 30) => At.set (a := n + 1) (y := .inr (1, ((149 : Int32).toNatClampNeg, .inl (upd (fun _ => 0) ((1 : Int32).toNatClampNeg) (373))))) (F208 j hj) (by omega)
  rw [← eh24] at F224
  have O24 : ∀ q x, q < n → q ≠ a → At h q x → At h24 q x := fun q x hq hqa e => by rw [eh24]; exact At.set (O23 q x hq hqa e) (by omega)
  have F226 : At h24 (n + 1) (.inr (1, ((149 : Int32).toNatClampNeg, .inl (upd (fun _ => 0) ((1 : Int32).toNatClampNeg) (373))))) := by rw [eh24]; exact At.set_self F196.1
  obtain ⟨hz, gz, Pz, Az, Gz, Kz, Dz⟩ := fill_ev (G := G) (v := -1) (N := (4 : Int32).toNatClampNeg) (by decide) (hrn (((((n + 1) + 1) + 1) + 1) + 1) (by omega)) (n := ((((((((((n + 1) + 1) + 1) + 1) + 1) + 1) + 1) + 1 + 10) + 1 + 8) + 1 + 30) + 1) F216
  refine ⟨((), hz, 59, 4749), ?_, rfl, rfl, fun q x hq hqa e => Kz q x (by omega) (O24 q x hq hqa e), Kz _ _ (by omega) F211, Kz _ _ (by omega) F212, Kz _ _ (by omega) F226, Kz _ _ (by omega) F213, Kz _ _ (by omega) F214, Kz _ _ (by omega) F215, ⟨gz, Az, Gz⟩, Kz _ _ (by omega) F217, Kz _ _ (by omega) F218, fun j hj => Kz _ _ (by omega) (F222 j hj), Kz _ _ (by omega) F219, fun j hj => Kz _ _ (by omega) (F223 j hj), Kz _ _ (by omega) F220, fun j hj => Kz _ _ (by omega) (F224 j hj), Kz _ _ (by omega) F221⟩
  unfold P_X1_init
  refine gp_ok (by decide) ((addU_ok (r := ((), hz, 58, 4741)) ?_).trans rfl)
  refine bnd_ok ?_
  rw [← eh1]
  refine bind_ok Ph2 ?_
  refine gp_ok (by decide) ((addU_ok (r := ((), hz, 57, 4592)) ?_).trans rfl)
  refine bnd_ok ?_
  rw [← eh3]
  refine bind_ok Ph4 ?_
  refine gp_ok (by decide) ((addU_ok (r := ((), hz, 56, 4584)) ?_).trans rfl)
  refine bnd_ok ?_
  rw [← eh5]
  refine bind_ok Ph6 ?_
  refine gp_ok (by decide) ((addU_ok (r := ((), hz, 55, 4576)) ?_).trans rfl)
  refine bnd_ok ?_
  rw [← eh7]
  refine bind_ok Ph8 ?_
  refine gp_ok (by decide) ((addU_ok (r := ((), hz, 54, 4568)) ?_).trans rfl)
  refine bnd_ok ?_
  rw [← eh9]
  refine bind_ok Ph10 ?_
  refine gp_ok (by decide) ((addU_ok (r := ((), hz, 53, 4564)) ?_).trans rfl)
  refine bnd_ok ?_
  rw [← eh11]
  refine bind_ok Ph12 ?_
  refine gp_ok (by decide) ((addU_ok (r := ((), hz, 52, 4558)) ?_).trans rfl)
  refine bnd_ok ?_
  rw [← eh13]
  refine bind_ok Ph14 ?_
  refine ((addU_ok (r := ((), hz, 41, 4528)) ?_).trans rfl)
  refine bnd_ok ?_
  rw [← eh15]
  refine bind_ok Ph16 ?_
  refine ((addU_ok (r := ((), hz, 32, 4504)) ?_).trans rfl)
  refine bnd_ok ?_
  rw [← eh17]
  refine bind_ok Ph18 ?_
  refine ((addU_ok (r := ((), hz, 1, 4)) ?_).trans rfl)
  refine bnd_ok ?_
  rw [← eh19]
  refine bind_ok Ph20 ?_
  refine gp_ok (by decide) ((addU_ok (r := ((), hz, 0, 0)) ?_).trans rfl)
  refine bnd_ok ?_
  rw [← eh21]
  refine bind_ok Ph22 ?_
  refine bind_ok (hR_ok F194 rfl) (gp_ok (by decide) (bind_ok Ph23 ?_))
  refine bind_ok (hR_ok F195 rfl) (gp_ok (by decide) (bind_ok Ph24 ?_))
  refine bind_ok (hR_ok F211 rfl) (bind_ok Pz ?_)
  exact (addU_ok (r := ((), hz, 0, 0)) rfl).trans rfl
/-- a State as it is made: the object at a, its arrays from n on -/
def StA (h : Hv) (n a : Nat) : Prop := At h a (.inl (1, [.ref (n), .ref (n + 1), .ref ((n + 1) + 1), .ref (((n + 1) + 1) + 1), .ref ((((n + 1) + 1) + 1) + 1), .ref (((((n + 1) + 1) + 1) + 1) + 1), .ref ((((((n + 1) + 1) + 1) + 1) + 1) + 1), .ref (((((((n + 1) + 1) + 1) + 1) + 1) + 1) + 1), .ref ((((((((n + 1) + 1) + 1) + 1) + 1) + 1) + 1) + 1 + 10), .ref (((((((((n + 1) + 1) + 1) + 1) + 1) + 1) + 1) + 1 + 10) + 1 + 8), .ref ((((((((((n + 1) + 1) + 1) + 1) + 1) + 1) + 1) + 1 + 10) + 1 + 8) + 1 + 30)])) ∧ At h (n) (.inr (1, (8, .inl (upd (fun _ => 0) 2 (-1))))) ∧ At h (n + 1) (.inr (1, (149, .inl (upd (fun _ => 0) 1 373)))) ∧ At h ((n + 1) + 1) (.inr (1, (8, .inl (fun _ => 0)))) ∧ At h (((n + 1) + 1) + 1) (.inr (1, (8, .inl (fun _ => 0)))) ∧ At h ((((n + 1) + 1) + 1) + 1) (.inr (1, (8, .inl (fun _ => 0)))) ∧ (∃ g : Nat → Int32, At h (((((n + 1) + 1) + 1) + 1) + 1) (.inr (1, (4, .inl g))) ∧ ∀ i, i < 4 → g i = -1) ∧ At h ((((((n + 1) + 1) + 1) + 1) + 1) + 1) (.inr (1, (6, .inl (fun _ => 0)))) ∧ At h (((((((n + 1) + 1) + 1) + 1) + 1) + 1) + 1) (.inr (5, (10, .inr (.inr (.inr (.inr (fun j => some (((((((n + 1) + 1) + 1) + 1) + 1) + 1) + 1 + 1 + j)))))))) ∧ (∀ j, j < 10 → At h (((((((n + 1) + 1) + 1) + 1) + 1) + 1) + 1 + 1 + j) (.inr (1, (2, .inl (fun _ => 0))))) ∧ At h ((((((((n + 1) + 1) + 1) + 1) + 1) + 1) + 1) + 1 + 10) (.inr (5, (8, .inr (.inr (.inr (.inr (fun j => some ((((((((n + 1) + 1) + 1) + 1) + 1) + 1) + 1) + 1 + 10 + 1 + j)))))))) ∧ (∀ j, j < 8 → At h ((((((((n + 1) + 1) + 1) + 1) + 1) + 1) + 1) + 1 + 10 + 1 + j) (.inr (1, (2, .inl (fun _ => 0))))) ∧ At h (((((((((n + 1) + 1) + 1) + 1) + 1) + 1) + 1) + 1 + 10) + 1 + 8) (.inr (5, (30, .inr (.inr (.inr (.inr (fun j => some (((((((((n + 1) + 1) + 1) + 1) + 1) + 1) + 1) + 1 + 10) + 1 + 8 + 1 + j)))))))) ∧ (∀ j, j < 30 → At h (((((((((n + 1) + 1) + 1) + 1) + 1) + 1) + 1) + 1 + 10) + 1 + 8 + 1 + j) (.inr (1, (149, .inl (fun _ => 0))))) ∧ At h ((((((((((n + 1) + 1) + 1) + 1) + 1) + 1) + 1) + 1 + 10) + 1 + 8) + 1 + 30) (.inr (6, (4, .inr (.inr (.inr (.inr (fun _ => none)))))))
theorem StA.kept {h h' : Hv} {n a : Nat} (e : StA h n a) (hk : ∀ q x, (q = a ∨ (n ≤ q ∧ q < n + 59)) → At h q x → At h' q x) : StA h' n a := by
  obtain ⟨e0, e1, e2, e3, e4, e5, ⟨g, e6, eg⟩, e7, e8, e9, e10, e11, e12, e13, e14⟩ := e
  exact ⟨hk _ _ (Or.inl rfl) e0, hk _ _ (Or.inr (by omega)) e1, hk _ _ (Or.inr (by omega)) e2, hk _ _ (Or.inr (by omega)) e3, hk _ _ (Or.inr (by omega)) e4, hk _ _ (Or.inr (by omega)) e5, ⟨g, hk _ _ (Or.inr (by omega)) e6, eg⟩, hk _ _ (Or.inr (by omega)) e7, hk _ _ (Or.inr (by omega)) e8, fun j hj => hk _ _ (Or.inr (by omega)) (e9 j hj), hk _ _ (Or.inr (by omega)) e10, fun j hj => hk _ _ (Or.inr (by omega)) (e11 j hj), hk _ _ (Or.inr (by omega)) e12, fun j hj => hk _ _ (Or.inr (by omega)) (e13 j hj), hk _ _ (Or.inr (by omega)) e14⟩
theorem X1_init_ev2 {G : Gs} {ro : Nat → Bool} {h : Hv} {n a : Nat} (A0 : At h a (.inl (1, [.null, .null, .null, .null, .null, .null, .null, .null, .null, .null, .null]))) (hra : ro a = false) (hrn : ∀ q, n ≤ q → ro q = false) (han : a < n) : ∃ (r : Unit × Hv × Nat × Nat), P_X1_init G ro h n a = some r ∧ r.2.2.1 = 59 ∧ r.2.2.2 = 4749 ∧ (∀ q x, q < n → q ≠ a → At h q x → At r.2.1 q x) ∧ StA r.2.1 n a := X1_init_ev A0 hra hrn han
