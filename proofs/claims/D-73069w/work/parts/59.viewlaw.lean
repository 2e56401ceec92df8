/-! views looked at in plain Lean: what lies where after each step of making -/
def At (h : Hv) (q : Nat) (x : Ab) : Prop := h.1 q = true ∧ h.2 q = x
theorem At.new_self (h : Hv) (n : Nat) (x : Ab) : At (hnew h n x) n x := ⟨by simp [hnew], by simp [hnew]⟩
theorem At.new {h : Hv} {n q : Nat} {x y : Ab} (a : At h q x) (hq : q ≠ n) : At (hnew h n y) q x := ⟨by simp [hnew, a.1], by simp [hnew, hq, a.2]⟩
theorem At.set_self {h : Hv} {q : Nat} {x : Ab} (a : h.1 q = true) : At (hset h q x) q x := ⟨a, by simp [hset]⟩
theorem At.set {h : Hv} {a q : Nat} {x y : Ab} (e : At h q x) (hq : q ≠ a) : At (hset h a y) q x := ⟨e.1, by simp [hset, hq, e.2]⟩
theorem At.mul_old {h : Hv} {n N M q : Nat} {x : Ab} (e : At h q x) (hq : q < n) : At (hmul h n N M) q x := by
  refine ⟨by simp [hmul, e.1], ?_⟩
  show (if q = n then _ else if n < q ∧ q ≤ n + N then _ else h.2 q) = x
  rw [if_neg (by omega), if_neg (by omega), e.2]
theorem At.mul_outer (h : Hv) (n N M : Nat) : At (hmul h n N M) n (.inr (5, (N, .inr (.inr (.inr (.inr (fun j => some (n + 1 + j)))))))) := ⟨by simp [hmul], by simp [hmul]⟩
theorem At.mul_row {h : Hv} {n N M j : Nat} (hj : j < N) : At (hmul h n N M) (n + 1 + j) (.inr (1, (M, .inl (fun _ => 0)))) := by
  refine ⟨?_, ?_⟩
  · show (decide (n ≤ n + 1 + j ∧ n + 1 + j ≤ n + N) || _) = true
    rw [decide_eq_true (by omega)]
    rfl
  · show (if n + 1 + j = n then _ else if n < n + 1 + j ∧ n + 1 + j ≤ n + N then _ else _) = _
    rw [if_neg (by omega), if_pos (by omega)]
theorem put_ok {ro : Nat → Bool} {h : Hv} {a ci k : Nat} {fs : List Value} {v : Value} (e : At h a (.inl (ci, fs))) (hr : ro a = false) (hk : k < fs.length) : hput ro h a ci k v = some (hset h a (.inl (ci, fs.set k v))) := by
  unfold hput
  rw [if_pos ⟨e.1, hr⟩, e.2]
  show (if ci = ci ∧ k < fs.length then _ else none) = _
  rw [if_pos ⟨rfl, hk⟩]
theorem hAi_ok {h : Hv} {a kd n : Nat} {f : Nat → Int32} (e : At h a (.inr (kd, (n, .inl f)))) : hAi h a kd = some (n, f) := by
  unfold hAi hA
  rw [if_pos e.1, e.2]
  simp
theorem hAq_ok {h : Hv} {a kd n : Nat} {f : Nat → Option Nat} (e : At h a (.inr (kd, (n, .inr (.inr (.inr (.inr f))))))) : hAq h a kd = some (n, f) := by
  unfold hAq hA
  rw [if_pos e.1, e.2]
  simp
theorem hF_ok {h : Hv} {a ci k : Nat} {fs : List Value} {v : Value} (e : At h a (.inl (ci, fs))) (hk : fs[k]? = some v) : hF h a ci k = some v := by
  unfold hF
  rw [if_pos e.1, e.2]
  show (if ci = ci then fs[k]? else none) = _
  rw [if_pos rfl, hk]
theorem hR_ok {h : Hv} {a ci k r : Nat} {fs : List Value} (e : At h a (.inl (ci, fs))) (hk : fs[k]? = some (.ref r)) : hR h a ci k = some r := by
  unfold hR
  rw [hF_ok e hk]
theorem hI_ok {h : Hv} {a ci k : Nat} {x : Int32} {fs : List Value} (e : At h a (.inl (ci, fs))) (hk : fs[k]? = some (.int x)) : hI h a ci k = some x := by
  unfold hI
  rw [hF_ok e hk]
theorem hC_ok {h : Hv} {a ci : Nat} {fs : List Value} (e : At h a (.inl (ci, fs))) : hC h a = some ci := by
  unfold hC
  rw [if_pos e.1, e.2]
theorem hasti_ok {ro : Nat → Bool} {h : Hv} {a n i : Nat} {f : Nat → Int32} {v : Int32} (e : At h a (.inr (1, (n, .inl f)))) (hr : ro a = false) (hi : i < n) : hasti ro h a i v = some (hset h a (.inr (1, (n, .inl (upd f i v))))) := by
  unfold hasti
  rw [if_pos hr, hAi_ok e]
  show (if i < n then _ else none) = _
  rw [if_pos hi]
theorem hast_ok {ro : Nat → Bool} {h : Hv} {a kd n i : Nat} {f : Nat → Option Nat} {o : Option Nat} (e : At h a (.inr (kd, (n, .inr (.inr (.inr (.inr f))))))) (hr : ro a = false) (hi : i < n) : hast ro h a kd i o = some (hset h a (.inr (kd, (n, .inr (.inr (.inr (.inr (va_up f i o)))))))) := by
  unfold hast
  rw [if_pos hr, hAq_ok e]
  show (if i < n then _ else none) = _
  rw [if_pos hi]
theorem addU_ok {ρ : Type} {c s : Nat} {x : Option (ρ × Hv × Nat × Nat)} {r : ρ × Hv × Nat × Nat} (h : x = some r) : addU c s x = some (r.1, r.2.1, r.2.2.1 + c, r.2.2.2 + s) := by
  subst h
  rfl
theorem gp_ok {α : Type} {b : Bool} {x : Option α} {r : Option α} (hb : b = true) (h : x = r) : gp b x = r := by
  subst hb
  exact h
theorem bind_ok {α β : Type} {x : Option α} {a : α} {f : α → Option β} {r : Option β} (h : x = some a) (k : f a = r) : x.bind f = r := by
  subst h
  exact k
theorem bnd_ok {α β : Type} {a : α} {f : α → Option β} {r : Option β} (k : f a = r) : bnd a f = r := k
