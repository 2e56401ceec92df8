/-! MY LAYER: one memory for a whole world of fixed blocks (objects and arrays at variable addresses); rows over it -/
/-- the memory: ints, longs, references, by block and place -/
abbrev Mm : Type := (Nat → Nat → Int32) × (Nat → Nat → Int64) × (Nat → Nat → Option Nat)
def mI (w : Mm) (k i : Nat) (v : Int32) : Mm := (fun a => if a = k then upd (w.1 k) i v else w.1 a, w.2)
def mL (w : Mm) (k i : Nat) (v : Int64) : Mm := (w.1, fun a => if a = k then vp_updL (w.2.1 k) i v else w.2.1 a, w.2.2)
def mR (w : Mm) (k i : Nat) (v : Option Nat) : Mm := (w.1, w.2.1, fun a => if a = k then va_up (w.2.2 k) i v else w.2.2 a)
/-- a block's ints as a whole -/
def mC (w : Mm) (k : Nat) (f : Nat → Int32) : Mm := (fun a => if a = k then f else w.1 a, w.2)
def mCR (w : Mm) (k : Nat) (f : Nat → Option Nat) : Mm := (w.1, w.2.1, fun a => if a = k then f else w.2.2 a)
/-- a block: 0 an object (class, its fields: 0 int, 1 long, 2 a fixed block, else a reference), 1 int[], 2 byte[], 3 boolean[], 4 long[], 5 fixed blocks one behind another, 6 references -/
abbrev Bk : Type := Nat × Nat × List (Nat × Nat)
def bkv (E : Nat → Nat) (w : Mm) (k j : Nat) (q : Nat × Nat) : Value := match q.1 with
  | 0 => .int (w.1 k j)
  | 1 => .long (w.2.1 k j)
  | 2 => .ref (E q.2)
  | _ => va_rf (w.2.2 k j)
def bkf (E : Nat → Nat) (w : Mm) (k : Nat) : Nat → List (Nat × Nat) → List Value
  | _, [] => []
  | j, q :: r => bkv E w k j q :: bkf E w k (j + 1) r
def bke (dA : Nat → ClassId) (E : Nat → Nat) (w : Mm) (k : Nat) (b : Bk) : va_E := match b.1 with
  | 0 => .inr (b.2.1, bkf E w k 0 b.2.2)
  | 1 => .inl (dA 1, b.2.1, .inl (w.1 k))
  | 2 => .inl (dA 2, b.2.1, .inl (w.1 k))
  | 3 => .inl (dA 3, b.2.1, .inl (w.1 k))
  | 4 => .inl (dA 4, b.2.1, .inr (.inl (w.2.1 k)))
  | 5 => .inl (dA 5, b.2.1, .inr (.inr (.inr (.inr (fun i => some (E ((b.2.2.getD 0 (0, 0)).2 + i)))))))
  | _ => .inl (dA 6, b.2.1, .inr (.inr (.inr (.inr (w.2.2 k)))))
def wl (sh : Nat → Bk) (N : Nat) (dA : Nat → ClassId) (E : Nat → Nat) (w : Mm) : va_W := (List.range N).map (fun k => (E k, bke dA E w k (sh k)))
/-- the addresses of the world -/
def AE (N : Nat) (E : Nat → Nat) : Nat → Prop := fun q => ∃ k, k < N ∧ q = E k
def wInj (N : Nat) (E : Nat → Nat) : Prop := ∀ i j, i < N → j < N → E i = E j → i = j
/-- apart, and in A -/
def wD (N : Nat) (E : Nat → Nat) (A : Nat → Prop) : Prop := wInj N E ∧ ∀ k, k < N → A (E k)
theorem wD.self {N : Nat} {E : Nat → Nat} (h : wInj N E) : wD N E (AE N E) := ⟨h, fun k hk => ⟨k, hk, rfl⟩⟩
theorem wl_at {sh : Nat → Bk} {N : Nat} {dA : Nat → ClassId} {E : Nat → Nat} {w : Mm} {k : Nat} (hk : k < N) : (wl sh N dA E w)[k]? = some (E k, bke dA E w k (sh k)) := by
  simp [wl, hk]
theorem wl_D {sh : Nat → Bk} {N : Nat} {dA : Nat → ClassId} {E : Nat → Nat} {A : Nat → Prop} (h : wD N E A) (w : Mm) : va_D A (wl sh N dA E w) := by
  have key : ∀ (k : Nat) (q : Nat × va_E), (wl sh N dA E w)[k]? = some q → k < N ∧ q.1 = E k := by
    intro k q hk
    have hl : k < N := by
      have := (List.getElem?_eq_some_iff.mp hk).1
      simpa [wl] using this
    rw [wl_at hl] at hk
    cases hk
    exact ⟨hl, rfl⟩
  refine ⟨fun i j p q hp hq e => ?_, fun k q hk => ?_⟩
  · obtain ⟨h1, e1⟩ := key i p hp
    obtain ⟨h2, e2⟩ := key j q hq
    exact h.1 i j h1 h2 (e1.symm.trans (e.trans e2))
  · obtain ⟨h1, e1⟩ := key k q hk
    rw [e1]
    exact h.2 k h1
theorem wl_set {sh : Nat → Bk} {N : Nat} {dA : Nat → ClassId} {E : Nat → Nat} {w w' : Mm} {k : Nat} {x : va_E} (hself : bke dA E w' k (sh k) = x) (hoth : ∀ j, j ≠ k → bke dA E w' j (sh j) = bke dA E w j (sh j)) : (wl sh N dA E w).set k (E k, x) = wl sh N dA E w' := by
  subst hself
  apply List.ext_getElem?
  intro j
  by_cases hj : j < N
  · by_cases e : j = k
    · subst e
      rw [List.getElem?_set_self (by simpa [wl] using hj), wl_at hj]
    · rw [List.getElem?_set_ne (Ne.symm e), wl_at hj, wl_at hj, hoth j e]
  · rw [List.getElem?_eq_none (by simp [wl]; omega), List.getElem?_eq_none (by simp [wl]; omega)]
theorem bkf_congr {E : Nat → Nat} {w w' : Mm} {k : Nat} (fs : List (Nat × Nat)) : ∀ (j : Nat), (∀ i, j ≤ i → w.1 k i = w'.1 k i ∧ w.2.1 k i = w'.2.1 k i ∧ w.2.2 k i = w'.2.2 k i) → bkf E w k j fs = bkf E w' k j fs := by
  induction fs with
  | nil => intro j _; rfl
  | cons q r ih =>
    intro j h
    obtain ⟨h1, h2, h3⟩ := h j (Nat.le_refl j)
    simp only [bkf, bkv, h1, h2, h3]
    rw [ih (j + 1) (fun i hi => h i (by omega))]
theorem bke_congr {dA : Nat → ClassId} {E : Nat → Nat} {w w' : Mm} {k : Nat} {b : Bk} (h1 : w.1 k = w'.1 k) (h2 : w.2.1 k = w'.2.1 k) (h3 : w.2.2 k = w'.2.2 k) : bke dA E w k b = bke dA E w' k b := by
  have e := bkf_congr (E := E) (w := w) (w' := w') (k := k) b.2.2 0 (fun i _ => ⟨by rw [h1], by rw [h2], by rw [h3]⟩)
  simp only [bke, h1, h2, h3, e]
theorem bkf_len {E : Nat → Nat} {w : Mm} {k : Nat} (fs : List (Nat × Nat)) : ∀ j, (bkf E w k j fs).length = fs.length := by
  induction fs with
  | nil => intro j; rfl
  | cons q r ih => intro j; simp [bkf, ih]
theorem bkf_at {E : Nat → Nat} {w : Mm} {k : Nat} (fs : List (Nat × Nat)) : ∀ (j i : Nat) {q : Nat × Nat}, fs[i]? = some q → (bkf E w k j fs)[i]? = some (bkv E w k (j + i) q) := by
  induction fs with
  | nil => intro j i q h; simp at h
  | cons a r ih =>
    intro j i q h
    cases i with
    | zero =>
      simp at h
      subst h
      rfl
    | succ i =>
      have h1 : r[i]? = some q := by simpa using h
      have h2 := ih (j + 1) i h1
      rw [show j + (i + 1) = j + 1 + i by omega]
      simpa [bkf] using h2
theorem bkf_set {E : Nat → Nat} {w w' : Mm} {k i : Nat} {v : Value} (fs : List (Nat × Nat)) : ∀ (j : Nat) {q : Nat × Nat}, fs[i]? = some q → bkv E w' k (j + i) q = v → (∀ a q', a ≠ j + i → bkv E w' k a q' = bkv E w k a q') → (bkf E w k j fs).set i v = bkf E w' k j fs := by
  intro j q hq hv ho
  apply List.ext_getElem?
  intro a
  have hl : i < fs.length := (List.getElem?_eq_some_iff.mp hq).1
  by_cases e : a = i
  · subst e
    rw [List.getElem?_set_self (by rw [bkf_len]; exact hl), bkf_at fs j a hq, hv]
  · rw [List.getElem?_set_ne (Ne.symm e)]
    by_cases ha : a < fs.length
    · have h1 : fs[a]? = some fs[a] := List.getElem?_eq_getElem ha
      rw [bkf_at fs j a h1, bkf_at fs j a h1, ho _ _ (by omega)]
    · rw [List.getElem?_eq_none (by rw [bkf_len]; omega), List.getElem?_eq_none (by rw [bkf_len]; omega)]
theorem mI_self (w : Mm) (k i : Nat) (v : Int32) : (mI w k i v).1 k = upd (w.1 k) i v := by simp [mI]
theorem mI_ne {w : Mm} {k i j : Nat} {v : Int32} (h : j ≠ k) : (mI w k i v).1 j = w.1 j := by simp [mI, h]
theorem mL_self (w : Mm) (k i : Nat) (v : Int64) : (mL w k i v).2.1 k = vp_updL (w.2.1 k) i v := by simp [mL]
theorem mL_ne {w : Mm} {k i j : Nat} {v : Int64} (h : j ≠ k) : (mL w k i v).2.1 j = w.2.1 j := by simp [mL, h]
theorem mC_self (w : Mm) (k : Nat) (f : Nat → Int32) : (mC w k f).1 k = f := by simp [mC]
theorem mC_ne {w : Mm} {k j : Nat} {f : Nat → Int32} (h : j ≠ k) : (mC w k f).1 j = w.1 j := by simp [mC, h]
theorem mR_self (w : Mm) (k i : Nat) (v : Option Nat) : (mR w k i v).2.2 k = va_up (w.2.2 k) i v := by simp [mR]
theorem mR_ne {w : Mm} {k i j : Nat} {v : Option Nat} (h : j ≠ k) : (mR w k i v).2.2 j = w.2.2 j := by simp [mR, h]
theorem mCR_self (w : Mm) (k : Nat) (f : Nat → Option Nat) : (mCR w k f).2.2 k = f := by simp [mCR]
theorem mCR_ne {w : Mm} {k j : Nat} {f : Nat → Option Nat} (h : j ≠ k) : (mCR w k f).2.2 j = w.2.2 j := by simp [mCR, h]
theorem wl_mI {sh : Nat → Bk} {N : Nat} {dA : Nat → ClassId} {E : Nat → Nat} {w : Mm} {k i : Nat} {v : Int32} {x : va_E} (hself : bke dA E (mI w k i v) k (sh k) = x) : (wl sh N dA E w).set k (E k, x) = wl sh N dA E (mI w k i v) :=
  wl_set hself (fun j hj => bke_congr (mI_ne hj) rfl rfl)
theorem wl_mL {sh : Nat → Bk} {N : Nat} {dA : Nat → ClassId} {E : Nat → Nat} {w : Mm} {k i : Nat} {v : Int64} {x : va_E} (hself : bke dA E (mL w k i v) k (sh k) = x) : (wl sh N dA E w).set k (E k, x) = wl sh N dA E (mL w k i v) :=
  wl_set hself (fun j hj => bke_congr rfl (mL_ne hj) rfl)
theorem wl_mC {sh : Nat → Bk} {N : Nat} {dA : Nat → ClassId} {E : Nat → Nat} {w : Mm} {k : Nat} {f : Nat → Int32} {x : va_E} (hself : bke dA E (mC w k f) k (sh k) = x) : (wl sh N dA E w).set k (E k, x) = wl sh N dA E (mC w k f) :=
  wl_set hself (fun j hj => bke_congr (mC_ne hj) rfl rfl)
theorem wl_mR {sh : Nat → Bk} {N : Nat} {dA : Nat → ClassId} {E : Nat → Nat} {w : Mm} {k i : Nat} {v : Option Nat} {x : va_E} (hself : bke dA E (mR w k i v) k (sh k) = x) : (wl sh N dA E w).set k (E k, x) = wl sh N dA E (mR w k i v) :=
  wl_set hself (fun j hj => bke_congr rfl rfl (mR_ne hj))
theorem wl_mCR {sh : Nat → Bk} {N : Nat} {dA : Nat → ClassId} {E : Nat → Nat} {w : Mm} {k : Nat} {f : Nat → Option Nat} {x : va_E} (hself : bke dA E (mCR w k f) k (sh k) = x) : (wl sh N dA E w).set k (E k, x) = wl sh N dA E (mCR w k f) :=
  wl_set hself (fun j hj => bke_congr rfl rfl (mCR_ne hj))
/-! the words of a method's meaning: an answer, or none (a bound, a zero, a loop without end) -/
/-- a value by a name -/
def bnd {α β : Type} (a : α) (k : α → Option β) : Option β := k a
/-- a place within -/
def gd {β : Type} (i : Int32) (n : Nat) (x : Option β) : Option β := if i < 0 ∨ n ≤ i.toNatClampNeg then none else x
/-- not by zero -/
def gz {β : Type} (y : Int32) (x : Option β) : Option β := if y = 0 then none else x
def gzL {β : Type} (y : Int64) (x : Option β) : Option β := if y = 0 then none else x
/-- whether what is asked -/
def gp {β : Type} (b : Bool) (x : Option β) : Option β := if b then x else none
theorem ob_bnd {α β : Type} {a : α} {k : α → Option β} {r : Option β} (h : bnd a k = r) : ∃ x, x = a ∧ k x = r := ⟨a, rfl, h⟩
theorem ob_bind {α β : Type} {x : Option α} {k : α → Option β} {r : β} (h : x.bind k = some r) : ∃ a, x = some a ∧ k a = some r := by
  cases x with
  | none => cases h
  | some a => exact ⟨a, rfl, h⟩
theorem ob_gd {β : Type} {i : Int32} {n : Nat} {x : Option β} {r : β} (h : gd i n x = some r) : vp_in i n ∧ x = some r := by
  unfold gd at h
  split at h
  · cases h
  · next q => exact ⟨q, h⟩
theorem ob_gz {β : Type} {y : Int32} {x : Option β} {r : β} (h : gz y x = some r) : ¬ y = 0 ∧ x = some r := by
  unfold gz at h
  split at h
  · cases h
  · next q => exact ⟨q, h⟩
theorem ob_gzL {β : Type} {y : Int64} {x : Option β} {r : β} (h : gzL y x = some r) : ¬ y = 0 ∧ x = some r := by
  unfold gzL at h
  split at h
  · cases h
  · next q => exact ⟨q, h⟩
theorem ob_gp {β : Type} {b : Bool} {x : Option β} {r : β} (h : gp b x = some r) : b = true ∧ x = some r := by
  unfold gp at h
  split at h
  · next q => exact ⟨q, h⟩
  · cases h
theorem ob_t {α : Type} {c : Prop} [Decidable c] {x y r : α} (h : (if c then x else y) = r) (hc : c) : x = r := by rwa [if_pos hc] at h
theorem ob_f {α : Type} {c : Prop} [Decidable c] {x y r : α} (h : (if c then x else y) = r) (hc : ¬ c) : y = r := by rwa [if_neg hc] at h
theorem ob_fn {α : Type} {c : Prop} [Decidable c] {x y r : α} (h : (if ¬ c then x else y) = r) (hc : ¬ c) : x = r := by rwa [if_pos hc] at h
theorem ob_s {α : Type} {x y : α} (h : some x = some y) : y = x := (Option.some.inj h).symm
theorem vin_c {i : Int32} {n : Nat} (h : (decide (i < 0) || decide (n ≤ i.toNatClampNeg)) = false) : vp_in i n := by
  intro q
  rcases q with q | q <;> simp [q] at h
/-! loops -/
def lpF {σ β : Type} (f : σ → Option (σ ⊕ β)) : Nat → σ → Option β
  | 0, _ => none
  | n + 1, s => match f s with
    | none => none
    | some (.inl t) => lpF f n t
    | some (.inr b) => some b
theorem lpF_det {σ β : Type} {f : σ → Option (σ ⊕ β)} : ∀ (n k : Nat) (s : σ) (a b : β), lpF f n s = some a → lpF f k s = some b → a = b := by
  intro n
  induction n with
  | zero => intro k s a b h; cases h
  | succ n ih =>
    intro k s a b h1 h2
    cases k with
    | zero => cases h2
    | succ k =>
      unfold lpF at h1 h2
      cases hf : f s with
      | none => rw [hf] at h1; cases h1
      | some r =>
        rw [hf] at h1 h2
        cases r with
        | inl t => exact ih k t a b h1 h2
        | inr c =>
          cases h1
          cases h2
          rfl
/-- the loop's answer, if it comes to one -/
noncomputable def lp {σ β : Type} (f : σ → Option (σ ⊕ β)) (s : σ) : Option β := @dite _ (∃ b n, lpF f n s = some b) (Classical.propDecidable _) (fun h => some (Classical.choose h)) (fun _ => none)
theorem lp_of {σ β : Type} {f : σ → Option (σ ⊕ β)} {s : σ} {b : β} {n : Nat} (h : lpF f n s = some b) : lp f s = some b := by
  have he : ∃ b n, lpF f n s = some b := ⟨b, n, h⟩
  unfold lp
  rw [dif_pos he]
  obtain ⟨k, hk⟩ := Classical.choose_spec he
  exact congrArg some (lpF_det k n s _ _ hk h)
theorem lp_some {σ β : Type} {f : σ → Option (σ ⊕ β)} {s : σ} {b : β} (h : lp f s = some b) : ∃ n, lpF f n s = some b := by
  unfold lp at h
  split at h
  · next he =>
    cases h
    exact Classical.choose_spec he
  · cases h
theorem lp_inr {σ β : Type} {f : σ → Option (σ ⊕ β)} {s : σ} {b : β} (h : f s = some (.inr b)) : lp f s = some b := lp_of (n := 1) (by unfold lpF; rw [h])
theorem lp_inl {σ β : Type} {f : σ → Option (σ ⊕ β)} {s t : σ} (h : f s = some (.inl t)) : lp f s = lp f t := by
  have e : ∀ b, lp f t = some b → lp f s = some b := by
    intro b hb
    obtain ⟨n, hn⟩ := lp_some hb
    exact lp_of (n := n + 1) (by unfold lpF; rw [h]; exact hn)
  cases ht : lp f t with
  | some b => exact e b ht
  | none =>
    cases hs : lp f s with
    | none => rfl
    | some b =>
      obtain ⟨n, hn⟩ := lp_some hs
      cases n with
      | zero => cases hn
      | succ n =>
        unfold lpF at hn
        rw [h] at hn
        rw [lp_of hn] at ht
        cases ht
/-- a step of a loop that comes to an answer -/
theorem lpF_step {σ β : Type} {f : σ → Option (σ ⊕ β)} {n : Nat} {s : σ} {b : β} (h : lpF f (n + 1) s = some b) : ∃ r, f s = some r ∧ (∀ t, r = .inl t → lpF f n t = some b) ∧ (∀ c, r = .inr c → c = b) := by
  unfold lpF at h
  cases hf : f s with
  | none => rw [hf] at h; cases h
  | some r =>
    rw [hf] at h
    cases r with
    | inl t => exact ⟨.inl t, rfl, fun t' e => by cases e; exact h, fun c e => by cases e⟩
    | inr c => exact ⟨.inr c, rfl, fun t' e => (by cases e), fun c' e => by cases e; exact Option.some.inj h⟩
/-- a loop with a measure and an invariant comes to an answer -/
theorem lp_rule {σ β : Type} {f : σ → Option (σ ⊕ β)} (I : σ → Prop) (P : β → Prop) (μ : σ → Nat) (hs : ∀ s, I s → (∃ t, f s = some (.inl t) ∧ I t ∧ μ t < μ s) ∨ (∃ b, f s = some (.inr b) ∧ P b)) (s : σ) (h : I s) : ∃ b, lp f s = some b ∧ P b := by
  have key : ∀ n s, μ s < n → I s → ∃ b, lp f s = some b ∧ P b := by
    intro n
    induction n with
    | zero => intro s hn; omega
    | succ n ih =>
      intro s hn hi
      rcases hs s hi with ⟨t, h1, h2, h3⟩ | ⟨b, h1, h2⟩
      · obtain ⟨b, h4, h5⟩ := ih t (by omega) h2
        exact ⟨b, (lp_inl h1).trans h4, h5⟩
      · exact ⟨b, lp_inr h1, h2⟩
  exact key (μ s + 1) s (by omega) h
/-! what a method finds at its start, and its ends -/
def Pw (D : va_G) (cl : List vw_C) (tys : List (ClassId × FieldType)) (sh : Nat → Bk) (N : Nat) (dA : Nat → ClassId) (E : Nat → Nat) (av : List Value) (w : Mm) : Array Value → State → Prop := va_Pc av (fun U => va_P D cl (wl sh N dA E w) U.heap ∧ va_K D cl tys U)
def Qwi (D : va_G) (cl : List vw_C) (sh : Nat → Bk) (N : Nat) (dA : Nat → ClassId) (E : Nat → Nat) (r : Int32) (w : Mm) : Array Value → State → Outcome → State → Prop := va_Qi (fun x (_ : Unit) => x = r) (fun _ t => va_P D cl (wl sh N dA E w) t.heap) (AE N E)
def Qwz (D : va_G) (cl : List vw_C) (sh : Nat → Bk) (N : Nat) (dA : Nat → ClassId) (E : Nat → Nat) (r : Int32) (w : Mm) : Array Value → State → Outcome → State → Prop := va_Qi (fun x (_ : Unit) => x = r ∧ (r = 0 ∨ r = 1)) (fun _ t => va_P D cl (wl sh N dA E w) t.heap) (AE N E)
def Qwl (D : va_G) (cl : List vw_C) (sh : Nat → Bk) (N : Nat) (dA : Nat → ClassId) (E : Nat → Nat) (r : Int64) (w : Mm) : Array Value → State → Outcome → State → Prop := va_Ql (fun x (_ : Unit) => x = r) (fun _ t => va_P D cl (wl sh N dA E w) t.heap) (AE N E)
def Qwv (D : va_G) (cl : List vw_C) (sh : Nat → Bk) (N : Nat) (dA : Nat → ClassId) (E : Nat → Nat) (w : Mm) : Array Value → State → Outcome → State → Prop := va_Qv (fun (_ : Unit) => True) (fun _ t => va_P D cl (wl sh N dA E w) t.heap) (AE N E)
theorem Pw_blind {D : va_G} {cl : List vw_C} {tys : List (ClassId × FieldType)} {sh : Nat → Bk} {N : Nat} {dA : Nat → ClassId} {E : Nat → Nat} {av : List Value} {w : Mm} : FrameBlind (Pw D cl tys sh N dA E av w) := by
  intro a U g mk q
  obtain ⟨q0, qP, qK⟩ := q
  exact ⟨q0, qP, va_K.moved (u := U) (U := U.calling g mk a) (Vm.Alike.refl U.vm) qK⟩
/-- what a walk stands on -/
def Cx (p : Program) (s : State) (m : MethodId) (args : Array Value) (meth : Method) (c : Code) (cc : ByteArray) (ret : Option FieldType) (nL : Nat) (own : String) (D : va_G) (cl : List vw_C) (tys : List (ClassId × FieldType)) : Prop :=
  p.tables.exec = Jvm.exec ∧ c.code = cc ∧ meth.sig.returnType = ret ∧ meth.locks = false ∧ c.maxLocals = nL ∧ s.vm.findClass own = some m.cls ∧ (∀ w ∈ lw_all, w.before args s = true) ∧ va_K D cl tys s
theorem xm_head {l : Launch} {y : MethodName} {cc : ByteArray} {maxL : Nat} {ret : Option FieldType} {rm : Room} {av : List Value} {Qc : Array Value → State → Outcome → State → Prop} {free : Addr → Prop} {own : String} {mc ms : Nat}
    {D : va_G} {cl : List vw_C} {tys : List (ClassId × FieldType)} {sh : Nat → Bk} {N : Nat} {dA : Nat → ClassId} {E : Nat → Nat} {w : Mm}
    (hy : plainName y.cls = true) (hyc : y.cls = own) (hn : (lg_sl av).length ≤ maxL)
    (body : ∀ (p : Program) (e : Env) (s : State) (m : MethodId) (args : Array Value) (below : List Frame) (meth : Method) (c : Code) (ls : Array Slot) (Q : State → Prop), MQ below Qc args s mc ms free = Q → Cx p s m args meth c cc ret maxL own D cl tys → va_P D cl (wl sh N dA E w) s.heap → lv_has ls maxL (lv_args 0 av) →
      W p l e rm s m args below meth c s.heap [] 0 0 Q (F0 m 0 ls [])) : Met l y (ws_ y cc maxL ret) rm (Pw D cl tys sh N dA E av w) Qc mc ms free := by
  refine Met.ofW (cc := cc) (maxL := maxL) (ret := ret) hy rfl ?_
  intro p e s m args below meth c s₁ B hml hv
  obtain ⟨rfl, hP, hK⟩ := hv
  have hts := atoms_spec (ws := ws_ y cc maxL ret) B.pre
  have hts : ∀ w ∈ lw_all, w.before _ s = true := fun w h => hts w (List.mem_cons_of_mem _ h)
  have hown : s.vm.findClass own = some m.cls := hyc ▸ findClass_of_methodNamed B.named
  have hl := lv_entry av hn
  rw [lg_entry_eq]
  exact body p e s m _ below meth c _ _ rfl ⟨B.exec, B.bytes, B.returns, B.notSynchronized, hml, hown, hts, hK⟩ hP hl
section XR
variable {p : Program} {l : Launch} {e : Env} {R : Room} {s : State} {m : MethodId} {args : Array Value} {below : List Frame} {meth : Method} {c : Code} {H : Heap} {locs : List Loc} {cells slots : Nat} {Q : State → Prop}
variable {cc : ByteArray} {pc : Nat} {ls : Array Slot} {rest : List Value} {A : Nat → Prop} {H0 : Heap}
variable {D : va_G} {cl : List vw_C} {tys : List (ClassId × FieldType)} {sh : Nat → Bk} {N : Nat} {dA : Nat → ClassId} {E : Nat → Nat} {w : Mm}
theorem wl_e {k : Nat} (hk : k < N) {b : Bk} (hs : sh k = b) : (wl sh N dA E w)[k]? = some (E k, bke dA E w k b) := by rw [wl_at hk, hs]
theorem xr_iald (hexec : p.tables.exec = Jvm.exec) (hb : c.code = cc) (hK : va_K D cl tys s) (hP : va_P D cl (wl sh N dA E w) H) (k : Nat) (hk : k < N) {n : Nat} {z : List (Nat × Nat)} (hs : sh k = (1, n, z)) (t0 : Nat) (ht : tys[t0]? = some (dA 1, .int)) {i : Int32} {j : Nat} (hin : vp_in i n) (hj : i.toNatClampNeg = j) (hdg : decode cc pc = .ok (.iaload, 1))
    (kk : W p l e R s m args below meth c H locs cells slots Q (F0 m (pc + 1) ls (.int (w.1 k j) :: rest))) : W p l e R s m args below meth c H locs cells slots Q (F0 m pc ls (.int i :: .ref (E k) :: rest)) := by
  subst hj
  exact va_iald hexec hb hK hP k t0 (wl_e hk hs) ht hin hdg kk
theorem xr_bald (hexec : p.tables.exec = Jvm.exec) (hb : c.code = cc) (hK : va_K D cl tys s) (hP : va_P D cl (wl sh N dA E w) H) (k : Nat) (hk : k < N) {n : Nat} {z : List (Nat × Nat)} (hs : sh k = (2, n, z)) (t0 : Nat) (ht : tys[t0]? = some (dA 2, .byte)) {i : Int32} {j : Nat} (hin : vp_in i n) (hj : i.toNatClampNeg = j) (hdg : decode cc pc = .ok (.baload, 1))
    (kk : W p l e R s m args below meth c H locs cells slots Q (F0 m (pc + 1) ls (.int (w.1 k j) :: rest))) : W p l e R s m args below meth c H locs cells slots Q (F0 m pc ls (.int i :: .ref (E k) :: rest)) := by
  subst hj
  exact va_bald hexec hb hK hP k t0 (wl_e hk hs) ht hin hdg kk
theorem xr_zald (hexec : p.tables.exec = Jvm.exec) (hb : c.code = cc) (hK : va_K D cl tys s) (hP : va_P D cl (wl sh N dA E w) H) (k : Nat) (hk : k < N) {n : Nat} {z : List (Nat × Nat)} (hs : sh k = (3, n, z)) (t0 : Nat) (ht : tys[t0]? = some (dA 3, .boolean)) {i : Int32} {j : Nat} (hin : vp_in i n) (hj : i.toNatClampNeg = j) (hdg : decode cc pc = .ok (.baload, 1))
    (kk : W p l e R s m args below meth c H locs cells slots Q (F0 m (pc + 1) ls (.int (w.1 k j) :: rest))) : W p l e R s m args below meth c H locs cells slots Q (F0 m pc ls (.int i :: .ref (E k) :: rest)) := by
  subst hj
  exact va_zald hexec hb hK hP k t0 (wl_e hk hs) ht hin hdg kk
theorem xr_lald (hexec : p.tables.exec = Jvm.exec) (hb : c.code = cc) (hK : va_K D cl tys s) (hP : va_P D cl (wl sh N dA E w) H) (k : Nat) (hk : k < N) {n : Nat} {z : List (Nat × Nat)} (hs : sh k = (4, n, z)) (t0 : Nat) (ht : tys[t0]? = some (dA 4, .long)) {i : Int32} {j : Nat} (hin : vp_in i n) (hj : i.toNatClampNeg = j) (hdg : decode cc pc = .ok (.laload, 1))
    (kk : W p l e R s m args below meth c H locs cells slots Q (F0 m (pc + 1) ls (.long (w.2.1 k j) :: rest))) : W p l e R s m args below meth c H locs cells slots Q (F0 m pc ls (.int i :: .ref (E k) :: rest)) := by
  subst hj
  exact va_lald hexec hb hK hP k t0 (wl_e hk hs) ht hin hdg kk
theorem xr_iast (hexec : p.tables.exec = Jvm.exec) (hb : c.code = cc) (hK : va_K D cl tys s) (hP : va_P D cl (wl sh N dA E w) H) (hD : wD N E A) (hS : va_S A H0 H locs) (k : Nat) (hk : k < N) {n : Nat} {z : List (Nat × Nat)} (hs : sh k = (1, n, z)) (t0 : Nat) (ht : tys[t0]? = some (dA 1, .int)) {i x : Int32} {j : Nat} {w' : Mm} (hin : vp_in i n) (hj : i.toNatClampNeg = j) (hw : w' = mI w k j x) (hdg : decode cc pc = .ok (.iastore, 1))
    (kk : ∀ (H1 : Heap) (locs1 : List Loc), va_P D cl (wl sh N dA E w') H1 → va_S A H0 H1 locs1 → W p l e R s m args below meth c H1 locs1 cells slots Q (F0 m (pc + 1) ls rest)) : W p l e R s m args below meth c H locs cells slots Q (F0 m pc ls (.int x :: .int i :: .ref (E k) :: rest)) := by
  subst hj
  subst hw
  refine va_iast hexec hb hK hP (wl_D hD w) hS k t0 (wl_e hk hs) ht hin hdg (fun H1 locs1 h1 _ h3 => kk H1 locs1 ?_ h3)
  have e : bke dA E (mI w k i.toNatClampNeg x) k (sh k) = .inl (dA 1, n, .inl (upd (w.1 k) i.toNatClampNeg x)) := by rw [hs]; simp only [bke, mI_self]
  exact (wl_mI (N := N) e) ▸ h1
theorem xr_bast (hexec : p.tables.exec = Jvm.exec) (hb : c.code = cc) (hK : va_K D cl tys s) (hP : va_P D cl (wl sh N dA E w) H) (hD : wD N E A) (hS : va_S A H0 H locs) (k : Nat) (hk : k < N) {n : Nat} {z : List (Nat × Nat)} (hs : sh k = (2, n, z)) (t0 : Nat) (ht : tys[t0]? = some (dA 2, .byte)) {i x : Int32} {j : Nat} {w' : Mm} (hin : vp_in i n) (hj : i.toNatClampNeg = j) (hx : vp_nar .byte x = x) (hw : w' = mI w k j x) (hdg : decode cc pc = .ok (.bastore, 1))
    (kk : ∀ (H1 : Heap) (locs1 : List Loc), va_P D cl (wl sh N dA E w') H1 → va_S A H0 H1 locs1 → W p l e R s m args below meth c H1 locs1 cells slots Q (F0 m (pc + 1) ls rest)) : W p l e R s m args below meth c H locs cells slots Q (F0 m pc ls (.int x :: .int i :: .ref (E k) :: rest)) := by
  subst hj
  subst hw
  refine va_bast hexec hb hK hP (wl_D hD w) hS k t0 (wl_e hk hs) ht hin hdg (fun H1 locs1 h1 _ h3 => kk H1 locs1 ?_ h3)
  have e : bke dA E (mI w k i.toNatClampNeg x) k (sh k) = .inl (dA 2, n, .inl (upd (w.1 k) i.toNatClampNeg x)) := by rw [hs]; simp only [bke, mI_self]
  rw [hx] at h1
  exact (wl_mI (N := N) e) ▸ h1
theorem xr_zast (hexec : p.tables.exec = Jvm.exec) (hb : c.code = cc) (hK : va_K D cl tys s) (hP : va_P D cl (wl sh N dA E w) H) (hD : wD N E A) (hS : va_S A H0 H locs) (k : Nat) (hk : k < N) {n : Nat} {z : List (Nat × Nat)} (hs : sh k = (3, n, z)) (t0 : Nat) (ht : tys[t0]? = some (dA 3, .boolean)) {i x : Int32} {j : Nat} {w' : Mm} (hin : vp_in i n) (hj : i.toNatClampNeg = j) (hx : x = 0 ∨ x = 1) (hw : w' = mI w k j x) (hdg : decode cc pc = .ok (.bastore, 1))
    (kk : ∀ (H1 : Heap) (locs1 : List Loc), va_P D cl (wl sh N dA E w') H1 → va_S A H0 H1 locs1 → W p l e R s m args below meth c H1 locs1 cells slots Q (F0 m (pc + 1) ls rest)) : W p l e R s m args below meth c H locs cells slots Q (F0 m pc ls (.int x :: .int i :: .ref (E k) :: rest)) := by
  subst hj
  subst hw
  have hx' : vp_nar .boolean x = x := by rcases hx with rfl | rfl <;> decide +kernel
  refine va_zast hexec hb hK hP (wl_D hD w) hS k t0 (wl_e hk hs) ht hin hdg (fun H1 locs1 h1 _ h3 => kk H1 locs1 ?_ h3)
  have e : bke dA E (mI w k i.toNatClampNeg x) k (sh k) = .inl (dA 3, n, .inl (upd (w.1 k) i.toNatClampNeg x)) := by rw [hs]; simp only [bke, mI_self]
  rw [hx'] at h1
  exact (wl_mI (N := N) e) ▸ h1
theorem xr_last (hexec : p.tables.exec = Jvm.exec) (hb : c.code = cc) (hK : va_K D cl tys s) (hP : va_P D cl (wl sh N dA E w) H) (hD : wD N E A) (hS : va_S A H0 H locs) (k : Nat) (hk : k < N) {n : Nat} {z : List (Nat × Nat)} (hs : sh k = (4, n, z)) (t0 : Nat) (ht : tys[t0]? = some (dA 4, .long)) {i : Int32} {x : Int64} {j : Nat} {w' : Mm} (hin : vp_in i n) (hj : i.toNatClampNeg = j) (hw : w' = mL w k j x) (hdg : decode cc pc = .ok (.lastore, 1))
    (kk : ∀ (H1 : Heap) (locs1 : List Loc), va_P D cl (wl sh N dA E w') H1 → va_S A H0 H1 locs1 → W p l e R s m args below meth c H1 locs1 cells slots Q (F0 m (pc + 1) ls rest)) : W p l e R s m args below meth c H locs cells slots Q (F0 m pc ls (.long x :: .int i :: .ref (E k) :: rest)) := by
  subst hj
  subst hw
  refine va_last hexec hb hK hP (wl_D hD w) hS k t0 (wl_e hk hs) ht hin hdg (fun H1 locs1 h1 _ h3 => kk H1 locs1 ?_ h3)
  have e : bke dA E (mL w k i.toNatClampNeg x) k (sh k) = .inl (dA 4, n, .inr (.inl (vp_updL (w.2.1 k) i.toNatClampNeg x))) := by rw [hs]; simp only [bke, mL_self]
  exact (wl_mL (N := N) e) ▸ h1
/-- an array of fixed blocks -/
theorem xr_alen (hexec : p.tables.exec = Jvm.exec) (hb : c.code = cc) (hK : va_K D cl tys s) (hP : va_P D cl (wl sh N dA E w) H) (k : Nat) (hk : k < N) {n : Nat} {z : List (Nat × Nat)} {x : ClassId × vp_A} (hs : bke dA E w k (sh k) = .inl x) (t0 : Nat) {ty : FieldType} (ht : tys[t0]? = some (x.1, ty)) {v : Int32} (hv : Int32.ofNat x.2.1 = v) (hdg : decode cc pc = .ok (.arraylength, 1))
    (kk : W p l e R s m args below meth c H locs cells slots Q (F0 m (pc + 1) ls (.int v :: rest))) : W p l e R s m args below meth c H locs cells slots Q (F0 m pc ls (.ref (E k) :: rest)) :=
  va_alen hexec hb hK hP k t0 (cA := x.1) (x := x.2) (by rw [wl_at hk, hs]) ht hv hdg kk
theorem xr_get (hexec : p.tables.exec = Jvm.exec) (hb : c.code = cc) {own ref C : String} {T : u_T} {NF ci index : Nat} {Ts : List Cond} (hts : ∀ w ∈ Ts, w.before args s = true) (hin : ∀ w ∈ u_ws C T NF, w ∈ Ts) (hown : s.vm.findClass own = some m.cls) (hK : va_K D cl tys s) (hP : va_P D cl (wl sh N dA E w) H) (k : Nat) (hk : k < N) {fl : List (Nat × Nat)} (hs : sh k = (0, ci, fl)) (hc : cl[ci]? = some (C, T, NF)) (j : Nat) (hj : j < NF) (hlink : (Cond.fieldLink own index ref (T j).2.1 (T j).2.2.1).before args s = true) (hsame : ∀ x, s.fieldFound? (T j).1 (T j).2.1 (T j).2.2.1 = some x → s.fieldFound? ref (T j).2.1 (T j).2.2.1 = some x) {q : Nat × Nat} (hq : fl[j]? = some q) {v : Value} (hv : bkv E w k j q = v) (hdg : decode cc pc = .ok (.getfield index, 3))
    (kk : W p l e R s m args below meth c H locs cells slots Q (F0 m (pc + 3) ls (v :: rest))) : W p l e R s m args below meth c H locs cells slots Q (F0 m pc ls (.ref (E k) :: rest)) :=
  va_get hexec hb hts hin hown hK hP k (wl_e hk hs) hc j hj hlink hsame (show (bkf E w k 0 fl)[j]? = some v by rw [bkf_at fl 0 j hq, Nat.zero_add, hv]) hdg kk
theorem xr_put (hexec : p.tables.exec = Jvm.exec) (hb : c.code = cc) {own ref C : String} {T : u_T} {NF ci index : Nat} {Ts : List Cond} (hts : ∀ w ∈ Ts, w.before args s = true) (hin : ∀ w ∈ u_ws C T NF, w ∈ Ts) (ty0 : Nat → FieldType) (hty : ∀ k, k < NF → parseFieldDescriptor (T k).2.2.1 = some (ty0 k)) (hnm : ∀ a, a < NF → ∀ b, b < NF → a ≠ b → (T a).2.1 ≠ (T b).2.1) (hown : s.vm.findClass own = some m.cls) (hK : va_K D cl tys s) (hP : va_P D cl (wl sh N dA E w) H) (hD : wD N E A) (hS : va_S A H0 H locs) (k : Nat) (hk : k < N) {fl : List (Nat × Nat)} (hs : sh k = (0, ci, fl)) (hc : cl[ci]? = some (C, T, NF)) (j : Nat) (hj : j < NF) (hlink : (Cond.fieldLink own index ref (T j).2.1 (T j).2.2.1).before args s = true) (hsame : ∀ x, s.fieldFound? (T j).1 (T j).2.1 (T j).2.2.1 = some x → s.fieldFound? ref (T j).2.1 (T j).2.2.1 = some x) (hfin : (T j).2.2.2 = false) {x : Int32} (hn : narrow (ty0 j) (.int x) = .int x) (hfit : fits (ty0 j) (.int x) = true) (hq : fl[j]? = some (0, 0)) {w' : Mm} (hw : w' = mI w k j x)
    (hdg : decode cc pc = .ok (.putfield index, 3)) (kk : ∀ (H1 : Heap) (locs1 : List Loc), va_P D cl (wl sh N dA E w') H1 → va_S A H0 H1 locs1 → W p l e R s m args below meth c H1 locs1 cells slots Q (F0 m (pc + 3) ls rest)) : W p l e R s m args below meth c H locs cells slots Q (F0 m pc ls (.int x :: .ref (E k) :: rest)) := by
  subst hw
  have hl : j < fl.length := (List.getElem?_eq_some_iff.mp hq).1
  refine va_put hexec hb hts hin ty0 hty hnm hown hK hP (wl_D hD w) hS k (wl_e hk hs) hc j hj hlink hsame hfin (hty j hj) hn hfit (show j < (bkf E w k 0 fl).length by rw [bkf_len]; exact hl) hdg (fun H1 locs1 h1 _ h3 => kk H1 locs1 ?_ h3)
  have e : bke dA E (mI w k j x) k (sh k) = .inr (ci, (bkf E w k 0 fl).set j (.int x)) := by
    rw [hs]
    show Sum.inr (ci, bkf E (mI w k j x) k 0 fl) = _
    rw [bkf_set (w' := mI w k j x) fl 0 hq (by simp [bkv, mI_self, upd]) (fun a q' ha => by
      have h2 : (mI w k j x).1 k a = w.1 k a := by rw [mI_self]; simp only [upd]; rw [if_neg (by omega)]
      have h3 : (mI w k j x).2 = w.2 := rfl
      simp only [bkv, h2, h3])]
  exact (wl_mI (N := N) e) ▸ h1
theorem xr_putL (hexec : p.tables.exec = Jvm.exec) (hb : c.code = cc) {own ref C : String} {T : u_T} {NF ci index : Nat} {Ts : List Cond} (hts : ∀ w ∈ Ts, w.before args s = true) (hin : ∀ w ∈ u_ws C T NF, w ∈ Ts) (ty0 : Nat → FieldType) (hty : ∀ k, k < NF → parseFieldDescriptor (T k).2.2.1 = some (ty0 k)) (hnm : ∀ a, a < NF → ∀ b, b < NF → a ≠ b → (T a).2.1 ≠ (T b).2.1) (hown : s.vm.findClass own = some m.cls) (hK : va_K D cl tys s) (hP : va_P D cl (wl sh N dA E w) H) (hD : wD N E A) (hS : va_S A H0 H locs) (k : Nat) (hk : k < N) {fl : List (Nat × Nat)} (hs : sh k = (0, ci, fl)) (hc : cl[ci]? = some (C, T, NF)) (j : Nat) (hj : j < NF) (hlink : (Cond.fieldLink own index ref (T j).2.1 (T j).2.2.1).before args s = true) (hsame : ∀ x, s.fieldFound? (T j).1 (T j).2.1 (T j).2.2.1 = some x → s.fieldFound? ref (T j).2.1 (T j).2.2.1 = some x) (hfin : (T j).2.2.2 = false) {x : Int64} (hn : narrow (ty0 j) (.long x) = .long x) (hfit : fits (ty0 j) (.long x) = true) (hq : fl[j]? = some (1, 0)) {w' : Mm} (hw : w' = mL w k j x)
    (hdg : decode cc pc = .ok (.putfield index, 3)) (kk : ∀ (H1 : Heap) (locs1 : List Loc), va_P D cl (wl sh N dA E w') H1 → va_S A H0 H1 locs1 → W p l e R s m args below meth c H1 locs1 cells slots Q (F0 m (pc + 3) ls rest)) : W p l e R s m args below meth c H locs cells slots Q (F0 m pc ls (.long x :: .ref (E k) :: rest)) := by
  subst hw
  have hl : j < fl.length := (List.getElem?_eq_some_iff.mp hq).1
  refine va_put hexec hb hts hin ty0 hty hnm hown hK hP (wl_D hD w) hS k (wl_e hk hs) hc j hj hlink hsame hfin (hty j hj) hn hfit (show j < (bkf E w k 0 fl).length by rw [bkf_len]; exact hl) hdg (fun H1 locs1 h1 _ h3 => kk H1 locs1 ?_ h3)
  have e : bke dA E (mL w k j x) k (sh k) = .inr (ci, (bkf E w k 0 fl).set j (.long x)) := by
    rw [hs]
    show Sum.inr (ci, bkf E (mL w k j x) k 0 fl) = _
    rw [bkf_set (w' := mL w k j x) fl 0 hq (by simp [bkv, mL_self, vp_updL]) (fun a q' ha => by
      have h2 : (mL w k j x).2.1 k a = w.2.1 k a := by rw [mL_self]; simp only [vp_updL]; rw [if_neg (by omega)]
      have h3 : (mL w k j x).1 = w.1 := rfl
      have h4 : (mL w k j x).2.2 = w.2.2 := rfl
      simp only [bkv, h2, h3, h4])]
  exact (wl_mL (N := N) e) ▸ h1
end XR
