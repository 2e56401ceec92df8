/-! the view of a new QuarrelsPawned as a world -/
/-- where its blocks lie: the object at a, the rest from n on -/
def EX (a n k : Nat) : Nat := if k = 0 then a else if k = 1 then n else if k = 2 then n + 60 else if k < 10 then n + (k - 2) else if k = 10 then n + 8 else if k = 11 then n + 19 else if k = 12 then n + 28 else if k = 13 then n + 59 else if k < 21 then n + 61 + (k - 14) else if k = 21 then n + 68 else if k = 22 then n + 79 else if k = 23 then n + 88 else if k = 24 then n + 119 else if k < 34 then n + 120 + (k - 25) else if k < 44 then n + 9 + (k - 34) else if k < 52 then n + 20 + (k - 44) else if k < 82 then n + 29 + (k - 52) else if k < 92 then n + 69 + (k - 82) else if k < 100 then n + 80 + (k - 92) else if k < 130 then n + 89 + (k - 100) else n + 129 + (k - 130)
theorem EX_inj {a n : Nat} (ha : a < n) : wInj 136 (EX a n) := by
  intro i j hi hj h
  unfold EX at h
  repeat' (first | omega | split at h)
theorem EX_lt {a n : Nat} (ha : a < n) {k : Nat} (hk : k < 136) : EX a n k < n + 135 := by
  unfold EX
  repeat' (first | omega | split)
theorem arrV_ext {c : ClassId} {N : Nat} {f g : Nat → Value} (h : ∀ j, j < N → f j = g j) : arrV c N f = arrV c N g := by
  unfold arrV
  congr 2
  funext j
  exact h j.val j.isLt
/-- the memory that a view shows -/
def memV (h : Hv) (E : Nat → Nat) : Mm := (fun k i => match h.2 (E k) with
  | .inr (_, (_, .inl f)) => f i
  | .inl (_, fs) => (match fs[i]? with
    | some (.int x) => x
    | _ => 0)
  | _ => 0, fun _ _ => 0, fun k i => match h.2 (E k) with
  | .inr (_, (_, .inr (.inr (.inr (.inr f))))) => f i
  | _ => none)
