/-! what the constructors make (printed by evx.py) -/
theorem fill_step {ro : Nat → Bool} {a N : Nat} {v : Int32} {hN : N < 400} (hra : ro a = false) : ∀ (k f : Nat) (h : Hv) (n : Nat) (g : Nat → Int32), k ≤ N → N - k < f → At h a (.inr (1, (N, .inl g))) → (∀ i, i < k → g i = v) → ∃ (h' : Hv) (g' : Nat → Int32), P_J0_fill_l5 (Int32.ofNat N) ro a v f h n (Int32.ofNat k) = some ((), h', 0, 0) ∧ At h' a (.inr (1, (N, .inl g'))) ∧ (∀ i, i < N → g' i = v) ∧ (∀ q x, q ≠ a → At h q x → At h' q x) ∧ (∀ q, h'.1 q = h.1 q) := by
  intro k f
  induction f generalizing k with
  | zero => intro h n g h1 h2; exact absurd h2 (by omega)
  | succ f ih =>
    intro h n g h1 h2 e hg
    show ∃ (h' : Hv) (g' : Nat → Int32), P_J0_fill_b5 (Int32.ofNat N) ro a v (P_J0_fill_l5 (Int32.ofNat N) ro a v f) h n (Int32.ofNat k) = _ ∧ _
    unfold P_J0_fill_b5
    have hkn : (Int32.ofNat k).toNatClampNeg = k := by
      have : (Int32.ofNat k).toInt = (k : Int) := Int32.toInt_ofNat_of_lt (by omega)
      show (Int32.ofNat k).toInt.toNat = k
      omega
    have hle : (Int32.ofNat N ≤ Int32.ofNat k) ↔ N ≤ k := by
      rw [Int32.le_iff_toInt_le, Int32.toInt_ofNat_of_lt (by omega), Int32.toInt_ofNat_of_lt (by omega)]
      omega
    have hlt : ¬ (Int32.ofNat k < 0) := by
      rw [Int32.lt_iff_toInt_lt, Int32.toInt_ofNat_of_lt (by omega)]
      show ¬ ((k : Int) < 0)
      omega
    by_cases hk : N ≤ k
    · rw [if_pos (hle.mpr hk)]
      exact ⟨h, g, rfl, e, fun i hi => hg i (by omega), fun q x _ hx => hx, fun q => rfl⟩
    · rw [if_neg (fun z => hk (hle.mp z)), hkn]
      have hput := hasti_ok (v := v) e hra (show k < N by omega)
      obtain ⟨h', g', p1, p2, p3, p4, p5⟩ := ih (k + 1) (hset h a (.inr (1, (N, .inl (upd g k v))))) n (upd g k v) (by omega) (by omega) (At.set_self e.1) (fun i hi => by
        unfold upd
        by_cases hi2 : i = k
        · rw [if_pos hi2]
        · rw [if_neg hi2]; exact hg i (by omega))
      refine ⟨h', g', ?_, p2, p3, fun q x hq hx => p4 q x hq (hx.set hq), fun q => p5 q⟩
      refine gp_ok (by rw [decide_eq_false hlt]; rfl) (bind_ok hput (bnd_ok ?_))
      rw [show Int32.ofNat k + 1 = Int32.ofNat (k + 1) from (inc_ofNat k).symm]
      exact p1
theorem fill_ev {G : Gs} {ro : Nat → Bool} {a N : Nat} {v : Int32} (hN : N < 400) (hra : ro a = false) {h : Hv} {n : Nat} {g : Nat → Int32} (e : At h a (.inr (1, (N, .inl g)))) : ∃ (h' : Hv) (g' : Nat → Int32), P_J0_fill G ro h n a v = some ((), h', 0, 0) ∧ At h' a (.inr (1, (N, .inl g'))) ∧ (∀ i, i < N → g' i = v) ∧ (∀ q x, q ≠ a → At h q x → At h' q x) ∧ (∀ q, h'.1 q = h.1 q) := by
  obtain ⟨h', g', p1, p2⟩ := fill_step (hN := hN) (v := v) hra 0 400 h n g (Nat.zero_le _) (by omega) e (fun i hi => absurd hi (by omega))
  refine ⟨h', g', ?_, p2⟩
  unfold P_J0_fill
  exact bind_ok (hAi_ok e) (bnd_ok p1)
