/-! QuarrelsPawned's world: its blocks, what stands beside them unchanged (texts, statics, words), contracts over both -/
abbrev clX : List vw_C := [(RX0, TX0, 17), (RX1, TX1, 11), (RX4, TX4, 3), (RX16, TX16, 5), (RJ3, TJ3, 3), (RX7, TX7, 1), (RX13, TX13, 1), (RX15, TX15, 1), (RX6, TX6, 3), (RX9, TX9, 3), (RX8, TX8, 1), (RX10, TX10, 2), (RX12, TX12, 2), (RX14, TX14, 1), (RX11, TX11, 3), (RX3, TX3, 8), (RJ15, TJ15, 1), (RX5, TX5, 8)]
abbrev tyX (dA : Nat → ClassId) : List (ClassId × FieldType) := [(dA 1, .int), (dA 2, .byte), (dA 5, .array .int), (dA 6, .object "QuarrelsPawned$Text"), (dA 7, .object "QuarrelsPawned$Sum"), (dA 8, .object "java/lang/Object")]
def shXs (b x : Nat) : Bk := match x with
  | 0 => (1, 8, [])
  | 1 => (1, 149, [])
  | 2 => (1, 8, [])
  | 3 => (1, 8, [])
  | 4 => (1, 8, [])
  | 5 => (1, 4, [])
  | 6 => (1, 6, [])
  | 7 => (5, 10, [(0, b)])
  | 8 => (5, 8, [(0, b + 10)])
  | 9 => (5, 30, [(0, b + 18)])
  | _ => (6, 4, [])
def shXo (x : Nat) : Bk := match x with
  | 0 => (0, 0, [(2, 1), (2, 2), (2, 25), (0, 0), (0, 0), (0, 0), (2, 26), (2, 27), (2, 28), (2, 29), (2, 30), (0, 0), (0, 0), (2, 31), (2, 32), (2, 33), (0, 0)])
  | 1 => (0, 1, [(2, 3), (2, 4), (2, 5), (2, 6), (2, 7), (2, 8), (2, 9), (2, 10), (2, 11), (2, 12), (2, 13)])
  | _ => (0, 1, [(2, 14), (2, 15), (2, 16), (2, 17), (2, 18), (2, 19), (2, 20), (2, 21), (2, 22), (2, 23), (2, 24)])
def shXa (x : Nat) : Bk := match x with
  | 25 => (2, 300, [])
  | 26 => (1, 16, [])
  | 27 => (1, 149, [])
  | 28 => (1, 6, [])
  | 29 => (1, 5, [])
  | 30 => (1, 5, [])
  | 31 => (1, 6, [])
  | 32 => (1, 6, [])
  | _ => (5, 6, [(0, 130)])
/-- the blocks: 0 the object, 1 now, 2 image, 3..13 now's arrays, 14..24 image's, 25..33 the object's own, then rows: 34 bids, 44 said, 52 steps (now), 82, 92, 100 (image), 130 hung -/
def shX (k : Nat) : Bk := if k < 3 then shXo k else if k < 14 then shXs 34 (k - 3) else if k < 25 then shXs 82 (k - 14) else if k < 34 then shXa k else if k < 52 then (1, 2, []) else if k < 82 then (1, 149, []) else if k < 100 then (1, 2, []) else if k < 130 then (1, 149, []) else (1, 8, [])
theorem shX_r1 {j : Nat} (h : j < 18) : shX (34 + j) = (1, 2, []) := by
  unfold shX
  rw [if_neg (by omega), if_neg (by omega), if_neg (by omega), if_neg (by omega), if_pos (by omega)]
theorem shX_r2 {j : Nat} (h : j < 30) : shX (52 + j) = (1, 149, []) := by
  unfold shX
  rw [if_neg (by omega), if_neg (by omega), if_neg (by omega), if_neg (by omega), if_neg (by omega), if_pos (by omega)]
theorem shX_r3 {j : Nat} (h : j < 18) : shX (82 + j) = (1, 2, []) := by
  unfold shX
  rw [if_neg (by omega), if_neg (by omega), if_neg (by omega), if_neg (by omega), if_neg (by omega), if_neg (by omega), if_pos (by omega)]
theorem shX_r4 {j : Nat} (h : j < 30) : shX (100 + j) = (1, 149, []) := by
  unfold shX
  rw [if_neg (by omega), if_neg (by omega), if_neg (by omega), if_neg (by omega), if_neg (by omega), if_neg (by omega), if_neg (by omega), if_pos (by omega)]
theorem shX_r5 {j : Nat} (_ : j < 6) : shX (130 + j) = (1, 8, []) := by
  unfold shX
  rw [if_neg (by omega), if_neg (by omega), if_neg (by omega), if_neg (by omega), if_neg (by omega), if_neg (by omega), if_neg (by omega), if_neg (by omega)]
theorem shX_s44 {j : Nat} (h : j < 8) : shX (44 + j) = (1, 2, []) := by
  have := shX_r1 (j := 10 + j) (by omega)
  rwa [show 34 + (10 + j) = 44 + j by omega] at this
theorem shX_s92 {j : Nat} (h : j < 8) : shX (92 + j) = (1, 2, []) := by
  have := shX_r3 (j := 10 + j) (by omega)
  rwa [show 82 + (10 + j) = 92 + j by omega] at this
theorem vin_lt {i : Int32} {n : Nat} (h : vp_in i n) : i.toNatClampNeg < n := Nat.not_le.mp fun q => h (Or.inr q)
def Cj (p : Program) (s : State) (m : MethodId) (args : Array Value) (meth : Method) (c : Code) (cc : ByteArray) (ret : Option FieldType) (nL : Nat) (own : String) (D : va_G) (dA : Nat → ClassId) (J : State → Heap → Prop) : Prop :=
  p.tables.exec = Jvm.exec ∧ c.code = cc ∧ meth.sig.returnType = ret ∧ meth.locks = false ∧ c.maxLocals = nL ∧ s.vm.findClass own = some m.cls ∧ (∀ w ∈ lw_all, w.before args s = true) ∧ va_K D clX (tyX dA) s ∧ J s s.heap
