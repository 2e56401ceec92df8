/-! QuarrelsPawned -/
set_option maxRecDepth 100000
def RX0 : String := "QuarrelsPawned"
def TX0 : u_T := fun k => match k with
  | 0 => ("QuarrelsPawned", "now", "LQuarrelsPawned$State;", true)
  | 1 => ("QuarrelsPawned", "image", "LQuarrelsPawned$State;", true)
  | 2 => ("QuarrelsPawned", "tape", "[B", true)
  | 3 => ("QuarrelsPawned", "taped", "I", false)
  | 4 => ("QuarrelsPawned", "fault", "I", false)
  | 5 => ("QuarrelsPawned", "faultAt", "I", false)
  | 6 => ("QuarrelsPawned", "names", "[I", true)
  | 7 => ("QuarrelsPawned", "tried", "[I", true)
  | 8 => ("QuarrelsPawned", "far", "[I", true)
  | 9 => ("QuarrelsPawned", "order", "[I", true)
  | 10 => ("QuarrelsPawned", "bestOrder", "[I", true)
  | 11 => ("QuarrelsPawned", "bestDay", "I", false)
  | 12 => ("QuarrelsPawned", "bestPaid", "I", false)
  | 13 => ("QuarrelsPawned", "hangs", "[I", true)
  | 14 => ("QuarrelsPawned", "lowestHung", "[I", true)
  | 15 => ("QuarrelsPawned", "hung", "[[I", true)
  | _ => ("QuarrelsPawned", "hungWays", "I", false)
def tyX0 : Nat → FieldType := fun k => match k with
  | 0 => .object "QuarrelsPawned$State"
  | 1 => .object "QuarrelsPawned$State"
  | 2 => .array .byte
  | 3 => .int
  | 4 => .int
  | 5 => .int
  | 6 => .array .int
  | 7 => .array .int
  | 8 => .array .int
  | 9 => .array .int
  | 10 => .array .int
  | 11 => .int
  | 12 => .int
  | 13 => .array .int
  | 14 => .array .int
  | 15 => .array (.array .int)
  | _ => .int
abbrev wsX00 : List Cond := u_ws RX0 TX0 17
set_option maxRecDepth 100000 in
theorem nmX0 : ∀ a, a < 17 → ∀ b, b < 17 → a ≠ b → (TX0 a).2.1 ≠ (TX0 b).2.1 := by decide +kernel
set_option maxRecDepth 100000 in
theorem tyX0_ok : ∀ k, k < 17 → parseFieldDescriptor (TX0 k).2.2.1 = some (tyX0 k) := by decide +kernel
abbrev cX0_init : ByteArray := prog_1_method_4_code
def yX0_init : MethodName := ⟨RX0, "<init>", "()V"⟩
def dkwX0_init_5 : List UInt8 := [180, 0, 21, 182, 0, 66, 177]
abbrev dktX0_init_5 : List UInt8 := dkwX0_init_5 ++ []
def dkwX0_init_4 : List UInt8 := [16, 6, 188, 10, 181, 0, 58, 42, 16, 6, 16, 8, 197, 0, 61, 2, 181, 0, 63, 42, 180, 0, 25, 42]
abbrev dktX0_init_4 : List UInt8 := dkwX0_init_4 ++ dktX0_init_5
def dkwX0_init_3 : List UInt8 := [42, 8, 188, 10, 181, 0, 49, 42, 8, 188, 10, 181, 0, 52, 42, 16, 6, 188, 10, 181, 0, 55, 42]
abbrev dktX0_init_3 : List UInt8 := dkwX0_init_3 ++ dktX0_init_4
def dkwX0_init_2 : List UInt8 := [16, 16, 188, 10, 181, 0, 39, 42, 17, 0, 149, 188, 10, 181, 0, 43, 42, 16, 6, 188, 10, 181, 0, 46]
abbrev dktX0_init_2 : List UInt8 := dkwX0_init_2 ++ dktX0_init_3
def dkwX0_init_1 : List UInt8 := [181, 0, 25, 42, 17, 1, 44, 188, 8, 181, 0, 28, 42, 2, 181, 0, 32, 42, 2, 181, 0, 36, 42]
abbrev dktX0_init_1 : List UInt8 := dkwX0_init_1 ++ dktX0_init_2
def dkwX0_init_0 : List UInt8 := [42, 183, 0, 12, 42, 187, 0, 18, 89, 183, 0, 20, 181, 0, 21, 42, 187, 0, 18, 89, 183, 0, 20]
abbrev dktX0_init_0 : List UInt8 := dkwX0_init_0 ++ dktX0_init_1
theorem dksX0_init_0 : cX0_init.data.toList.drop 0 = dktX0_init_0 := by decide +kernel
theorem dksX0_init_1 : cX0_init.data.toList.drop 23 = dktX0_init_1 := dk_seg dksX0_init_0 23 rfl rfl
theorem dksX0_init_2 : cX0_init.data.toList.drop 46 = dktX0_init_2 := dk_seg dksX0_init_1 23 rfl rfl
theorem dksX0_init_3 : cX0_init.data.toList.drop 70 = dktX0_init_3 := dk_seg dksX0_init_2 24 rfl rfl
theorem dksX0_init_4 : cX0_init.data.toList.drop 93 = dktX0_init_4 := dk_seg dksX0_init_3 23 rfl rfl
theorem dksX0_init_5 : cX0_init.data.toList.drop 117 = dktX0_init_5 := dk_seg dksX0_init_4 24 rfl rfl
theorem dX0_init_0 : decode cX0_init 0 = .ok (.aload_n 0, 1) := dk_42 (dk_at dksX0_init_0 0 rfl rfl)
theorem dX0_init_1 : decode cX0_init 1 = .ok (.invokespecial 12, 3) := dk_183 0 12 (dk_at dksX0_init_0 1 rfl rfl)
theorem dX0_init_4 : decode cX0_init 4 = .ok (.aload_n 0, 1) := dk_42 (dk_at dksX0_init_0 4 rfl rfl)
theorem dX0_init_5 : decode cX0_init 5 = .ok (.new 18, 3) := dk_187 0 18 (dk_at dksX0_init_0 5 rfl rfl)
theorem dX0_init_8 : decode cX0_init 8 = .ok (.dup, 1) := dk_89 (dk_at dksX0_init_0 8 rfl rfl)
theorem dX0_init_9 : decode cX0_init 9 = .ok (.invokespecial 20, 3) := dk_183 0 20 (dk_at dksX0_init_0 9 rfl rfl)
theorem dX0_init_12 : decode cX0_init 12 = .ok (.putfield 21, 3) := dk_181 0 21 (dk_at dksX0_init_0 12 rfl rfl)
theorem dX0_init_15 : decode cX0_init 15 = .ok (.aload_n 0, 1) := dk_42 (dk_at dksX0_init_0 15 rfl rfl)
theorem dX0_init_16 : decode cX0_init 16 = .ok (.new 18, 3) := dk_187 0 18 (dk_at dksX0_init_0 16 rfl rfl)
theorem dX0_init_19 : decode cX0_init 19 = .ok (.dup, 1) := dk_89 (dk_at dksX0_init_0 19 rfl rfl)
theorem dX0_init_20 : decode cX0_init 20 = .ok (.invokespecial 20, 3) := dk_183 0 20 (dk_at dksX0_init_0 20 rfl rfl)
theorem dX0_init_23 : decode cX0_init 23 = .ok (.putfield 25, 3) := dk_181 0 25 (dk_at dksX0_init_1 0 rfl rfl)
theorem dX0_init_26 : decode cX0_init 26 = .ok (.aload_n 0, 1) := dk_42 (dk_at dksX0_init_1 3 rfl rfl)
theorem dX0_init_27 : decode cX0_init 27 = .ok (.sipush 300, 3) := dk_17 1 44 (dk_at dksX0_init_1 4 rfl rfl)
theorem dX0_init_30 : decode cX0_init 30 = .ok (.newarray .byte, 2) := dk_188_8 (dk_at dksX0_init_1 7 rfl rfl)
theorem dX0_init_32 : decode cX0_init 32 = .ok (.putfield 28, 3) := dk_181 0 28 (dk_at dksX0_init_1 9 rfl rfl)
theorem dX0_init_35 : decode cX0_init 35 = .ok (.aload_n 0, 1) := dk_42 (dk_at dksX0_init_1 12 rfl rfl)
theorem dX0_init_36 : decode cX0_init 36 = .ok (.iconst (-1), 1) := dk_2 (dk_at dksX0_init_1 13 rfl rfl)
theorem dX0_init_37 : decode cX0_init 37 = .ok (.putfield 32, 3) := dk_181 0 32 (dk_at dksX0_init_1 14 rfl rfl)
theorem dX0_init_40 : decode cX0_init 40 = .ok (.aload_n 0, 1) := dk_42 (dk_at dksX0_init_1 17 rfl rfl)
theorem dX0_init_41 : decode cX0_init 41 = .ok (.iconst (-1), 1) := dk_2 (dk_at dksX0_init_1 18 rfl rfl)
theorem dX0_init_42 : decode cX0_init 42 = .ok (.putfield 36, 3) := dk_181 0 36 (dk_at dksX0_init_1 19 rfl rfl)
theorem dX0_init_45 : decode cX0_init 45 = .ok (.aload_n 0, 1) := dk_42 (dk_at dksX0_init_1 22 rfl rfl)
theorem dX0_init_46 : decode cX0_init 46 = .ok (.bipush 16, 2) := dk_16 16 (dk_at dksX0_init_2 0 rfl rfl)
theorem dX0_init_48 : decode cX0_init 48 = .ok (.newarray .int, 2) := dk_188_10 (dk_at dksX0_init_2 2 rfl rfl)
theorem dX0_init_50 : decode cX0_init 50 = .ok (.putfield 39, 3) := dk_181 0 39 (dk_at dksX0_init_2 4 rfl rfl)
theorem dX0_init_53 : decode cX0_init 53 = .ok (.aload_n 0, 1) := dk_42 (dk_at dksX0_init_2 7 rfl rfl)
theorem dX0_init_54 : decode cX0_init 54 = .ok (.sipush 149, 3) := dk_17 0 149 (dk_at dksX0_init_2 8 rfl rfl)
theorem dX0_init_57 : decode cX0_init 57 = .ok (.newarray .int, 2) := dk_188_10 (dk_at dksX0_init_2 11 rfl rfl)
theorem dX0_init_59 : decode cX0_init 59 = .ok (.putfield 43, 3) := dk_181 0 43 (dk_at dksX0_init_2 13 rfl rfl)
theorem dX0_init_62 : decode cX0_init 62 = .ok (.aload_n 0, 1) := dk_42 (dk_at dksX0_init_2 16 rfl rfl)
theorem dX0_init_63 : decode cX0_init 63 = .ok (.bipush 6, 2) := dk_16 6 (dk_at dksX0_init_2 17 rfl rfl)
theorem dX0_init_65 : decode cX0_init 65 = .ok (.newarray .int, 2) := dk_188_10 (dk_at dksX0_init_2 19 rfl rfl)
theorem dX0_init_67 : decode cX0_init 67 = .ok (.putfield 46, 3) := dk_181 0 46 (dk_at dksX0_init_2 21 rfl rfl)
theorem dX0_init_70 : decode cX0_init 70 = .ok (.aload_n 0, 1) := dk_42 (dk_at dksX0_init_3 0 rfl rfl)
theorem dX0_init_71 : decode cX0_init 71 = .ok (.iconst 5, 1) := dk_8 (dk_at dksX0_init_3 1 rfl rfl)
theorem dX0_init_72 : decode cX0_init 72 = .ok (.newarray .int, 2) := dk_188_10 (dk_at dksX0_init_3 2 rfl rfl)
theorem dX0_init_74 : decode cX0_init 74 = .ok (.putfield 49, 3) := dk_181 0 49 (dk_at dksX0_init_3 4 rfl rfl)
theorem dX0_init_77 : decode cX0_init 77 = .ok (.aload_n 0, 1) := dk_42 (dk_at dksX0_init_3 7 rfl rfl)
theorem dX0_init_78 : decode cX0_init 78 = .ok (.iconst 5, 1) := dk_8 (dk_at dksX0_init_3 8 rfl rfl)
theorem dX0_init_79 : decode cX0_init 79 = .ok (.newarray .int, 2) := dk_188_10 (dk_at dksX0_init_3 9 rfl rfl)
theorem dX0_init_81 : decode cX0_init 81 = .ok (.putfield 52, 3) := dk_181 0 52 (dk_at dksX0_init_3 11 rfl rfl)
theorem dX0_init_84 : decode cX0_init 84 = .ok (.aload_n 0, 1) := dk_42 (dk_at dksX0_init_3 14 rfl rfl)
theorem dX0_init_85 : decode cX0_init 85 = .ok (.bipush 6, 2) := dk_16 6 (dk_at dksX0_init_3 15 rfl rfl)
theorem dX0_init_87 : decode cX0_init 87 = .ok (.newarray .int, 2) := dk_188_10 (dk_at dksX0_init_3 17 rfl rfl)
theorem dX0_init_89 : decode cX0_init 89 = .ok (.putfield 55, 3) := dk_181 0 55 (dk_at dksX0_init_3 19 rfl rfl)
theorem dX0_init_92 : decode cX0_init 92 = .ok (.aload_n 0, 1) := dk_42 (dk_at dksX0_init_3 22 rfl rfl)
theorem dX0_init_93 : decode cX0_init 93 = .ok (.bipush 6, 2) := dk_16 6 (dk_at dksX0_init_4 0 rfl rfl)
theorem dX0_init_95 : decode cX0_init 95 = .ok (.newarray .int, 2) := dk_188_10 (dk_at dksX0_init_4 2 rfl rfl)
theorem dX0_init_97 : decode cX0_init 97 = .ok (.putfield 58, 3) := dk_181 0 58 (dk_at dksX0_init_4 4 rfl rfl)
theorem dX0_init_100 : decode cX0_init 100 = .ok (.aload_n 0, 1) := dk_42 (dk_at dksX0_init_4 7 rfl rfl)
theorem dX0_init_101 : decode cX0_init 101 = .ok (.bipush 6, 2) := dk_16 6 (dk_at dksX0_init_4 8 rfl rfl)
theorem dX0_init_103 : decode cX0_init 103 = .ok (.bipush 8, 2) := dk_16 8 (dk_at dksX0_init_4 10 rfl rfl)
theorem dX0_init_105 : decode cX0_init 105 = .ok (.multianewarray 61 2, 4) := by decide +kernel
theorem dX0_init_109 : decode cX0_init 109 = .ok (.putfield 63, 3) := dk_181 0 63 (dk_at dksX0_init_4 16 rfl rfl)
theorem dX0_init_112 : decode cX0_init 112 = .ok (.aload_n 0, 1) := dk_42 (dk_at dksX0_init_4 19 rfl rfl)
theorem dX0_init_113 : decode cX0_init 113 = .ok (.getfield 25, 3) := dk_180 0 25 (dk_at dksX0_init_4 20 rfl rfl)
theorem dX0_init_116 : decode cX0_init 116 = .ok (.aload_n 0, 1) := dk_42 (dk_at dksX0_init_4 23 rfl rfl)
theorem dX0_init_117 : decode cX0_init 117 = .ok (.getfield 21, 3) := dk_180 0 21 (dk_at dksX0_init_5 0 rfl rfl)
theorem dX0_init_120 : decode cX0_init 120 = .ok (.invokevirtual 66, 3) := dk_182 0 66 (dk_at dksX0_init_5 3 rfl rfl)
theorem dX0_init_123 : decode cX0_init 123 = .ok (.return_, 1) := dk_177 (dk_at dksX0_init_5 6 rfl rfl)
abbrev cX0_quarrel : ByteArray := prog_1_method_10_code
def yX0_quarrel : MethodName := ⟨RX0, "quarrel", "(IIII)I"⟩
def dkwX0_quarrel_4 : List UInt8 := [16, 20, 21, 5, 96, 21, 4, 182, 0, 104, 21, 5, 172]
abbrev dktX0_quarrel_4 : List UInt8 := dkwX0_quarrel_4 ++ []
def dkwX0_quarrel_3 : List UInt8 := [180, 0, 101, 21, 5, 29, 79, 42, 180, 0, 21, 180, 0, 70, 3, 92, 46, 4, 96, 79, 42, 180, 0, 21]
abbrev dktX0_quarrel_3 : List UInt8 := dkwX0_quarrel_3 ++ dktX0_quarrel_4
def dkwX0_quarrel_2 : List UInt8 := [180, 0, 95, 21, 5, 27, 79, 42, 180, 0, 21, 180, 0, 98, 21, 5, 28, 79, 42, 180, 0, 21]
abbrev dktX0_quarrel_2 : List UInt8 := dkwX0_quarrel_2 ++ dktX0_quarrel_3
def dkwX0_quarrel_1 : List UInt8 := [21, 4, 3, 16, 9, 184, 0, 77, 153, 0, 10, 21, 5, 16, 8, 160, 0, 5, 2, 172, 42, 180, 0, 21]
abbrev dktX0_quarrel_1 : List UInt8 := dkwX0_quarrel_1 ++ dktX0_quarrel_2
def dkwX0_quarrel_0 : List UInt8 := [42, 182, 0, 73, 54, 5, 27, 28, 184, 0, 91, 153, 0, 31, 29, 4, 16, 99, 184, 0, 77, 153, 0, 21]
abbrev dktX0_quarrel_0 : List UInt8 := dkwX0_quarrel_0 ++ dktX0_quarrel_1
theorem dksX0_quarrel_0 : cX0_quarrel.data.toList.drop 0 = dktX0_quarrel_0 := by decide +kernel
theorem dksX0_quarrel_1 : cX0_quarrel.data.toList.drop 24 = dktX0_quarrel_1 := dk_seg dksX0_quarrel_0 24 rfl rfl
theorem dksX0_quarrel_2 : cX0_quarrel.data.toList.drop 48 = dktX0_quarrel_2 := dk_seg dksX0_quarrel_1 24 rfl rfl
theorem dksX0_quarrel_3 : cX0_quarrel.data.toList.drop 70 = dktX0_quarrel_3 := dk_seg dksX0_quarrel_2 22 rfl rfl
theorem dksX0_quarrel_4 : cX0_quarrel.data.toList.drop 94 = dktX0_quarrel_4 := dk_seg dksX0_quarrel_3 24 rfl rfl
theorem dX0_quarrel_0 : decode cX0_quarrel 0 = .ok (.aload_n 0, 1) := dk_42 (dk_at dksX0_quarrel_0 0 rfl rfl)
theorem dX0_quarrel_1 : decode cX0_quarrel 1 = .ok (.invokevirtual 73, 3) := dk_182 0 73 (dk_at dksX0_quarrel_0 1 rfl rfl)
theorem dX0_quarrel_4 : decode cX0_quarrel 4 = .ok (.istore 5, 2) := dk_54 5 (dk_at dksX0_quarrel_0 4 rfl rfl)
theorem dX0_quarrel_6 : decode cX0_quarrel 6 = .ok (.iload_n 1, 1) := dk_27 (dk_at dksX0_quarrel_0 6 rfl rfl)
theorem dX0_quarrel_7 : decode cX0_quarrel 7 = .ok (.iload_n 2, 1) := dk_28 (dk_at dksX0_quarrel_0 7 rfl rfl)
theorem dX0_quarrel_8 : decode cX0_quarrel 8 = .ok (.invokestatic 91, 3) := dk_184 0 91 (dk_at dksX0_quarrel_0 8 rfl rfl)
theorem dX0_quarrel_11 : decode cX0_quarrel 11 = .ok (.ifCond .eq 31, 3) := dk_153 0 31 (dk_at dksX0_quarrel_0 11 rfl rfl)
theorem dX0_quarrel_14 : decode cX0_quarrel 14 = .ok (.iload_n 3, 1) := dk_29 (dk_at dksX0_quarrel_0 14 rfl rfl)
theorem dX0_quarrel_15 : decode cX0_quarrel 15 = .ok (.iconst 1, 1) := dk_4 (dk_at dksX0_quarrel_0 15 rfl rfl)
theorem dX0_quarrel_16 : decode cX0_quarrel 16 = .ok (.bipush 99, 2) := dk_16 99 (dk_at dksX0_quarrel_0 16 rfl rfl)
theorem dX0_quarrel_18 : decode cX0_quarrel 18 = .ok (.invokestatic 77, 3) := dk_184 0 77 (dk_at dksX0_quarrel_0 18 rfl rfl)
theorem dX0_quarrel_21 : decode cX0_quarrel 21 = .ok (.ifCond .eq 21, 3) := dk_153 0 21 (dk_at dksX0_quarrel_0 21 rfl rfl)
theorem dX0_quarrel_24 : decode cX0_quarrel 24 = .ok (.iload 4, 2) := dk_21 4 (dk_at dksX0_quarrel_1 0 rfl rfl)
theorem dX0_quarrel_26 : decode cX0_quarrel 26 = .ok (.iconst 0, 1) := dk_3 (dk_at dksX0_quarrel_1 2 rfl rfl)
theorem dX0_quarrel_27 : decode cX0_quarrel 27 = .ok (.bipush 9, 2) := dk_16 9 (dk_at dksX0_quarrel_1 3 rfl rfl)
theorem dX0_quarrel_29 : decode cX0_quarrel 29 = .ok (.invokestatic 77, 3) := dk_184 0 77 (dk_at dksX0_quarrel_1 5 rfl rfl)
theorem dX0_quarrel_32 : decode cX0_quarrel 32 = .ok (.ifCond .eq 10, 3) := dk_153 0 10 (dk_at dksX0_quarrel_1 8 rfl rfl)
theorem dX0_quarrel_35 : decode cX0_quarrel 35 = .ok (.iload 5, 2) := dk_21 5 (dk_at dksX0_quarrel_1 11 rfl rfl)
theorem dX0_quarrel_37 : decode cX0_quarrel 37 = .ok (.bipush 8, 2) := dk_16 8 (dk_at dksX0_quarrel_1 13 rfl rfl)
theorem dX0_quarrel_39 : decode cX0_quarrel 39 = .ok (.if_icmp .ne 5, 3) := dk_160 0 5 (dk_at dksX0_quarrel_1 15 rfl rfl)
theorem dX0_quarrel_42 : decode cX0_quarrel 42 = .ok (.iconst (-1), 1) := dk_2 (dk_at dksX0_quarrel_1 18 rfl rfl)
theorem dX0_quarrel_43 : decode cX0_quarrel 43 = .ok (.ireturn, 1) := dk_172 (dk_at dksX0_quarrel_1 19 rfl rfl)
theorem dX0_quarrel_44 : decode cX0_quarrel 44 = .ok (.aload_n 0, 1) := dk_42 (dk_at dksX0_quarrel_1 20 rfl rfl)
theorem dX0_quarrel_45 : decode cX0_quarrel 45 = .ok (.getfield 21, 3) := dk_180 0 21 (dk_at dksX0_quarrel_1 21 rfl rfl)
theorem dX0_quarrel_48 : decode cX0_quarrel 48 = .ok (.getfield 95, 3) := dk_180 0 95 (dk_at dksX0_quarrel_2 0 rfl rfl)
theorem dX0_quarrel_51 : decode cX0_quarrel 51 = .ok (.iload 5, 2) := dk_21 5 (dk_at dksX0_quarrel_2 3 rfl rfl)
theorem dX0_quarrel_53 : decode cX0_quarrel 53 = .ok (.iload_n 1, 1) := dk_27 (dk_at dksX0_quarrel_2 5 rfl rfl)
theorem dX0_quarrel_54 : decode cX0_quarrel 54 = .ok (.iastore, 1) := dk_79 (dk_at dksX0_quarrel_2 6 rfl rfl)
theorem dX0_quarrel_55 : decode cX0_quarrel 55 = .ok (.aload_n 0, 1) := dk_42 (dk_at dksX0_quarrel_2 7 rfl rfl)
theorem dX0_quarrel_56 : decode cX0_quarrel 56 = .ok (.getfield 21, 3) := dk_180 0 21 (dk_at dksX0_quarrel_2 8 rfl rfl)
theorem dX0_quarrel_59 : decode cX0_quarrel 59 = .ok (.getfield 98, 3) := dk_180 0 98 (dk_at dksX0_quarrel_2 11 rfl rfl)
theorem dX0_quarrel_62 : decode cX0_quarrel 62 = .ok (.iload 5, 2) := dk_21 5 (dk_at dksX0_quarrel_2 14 rfl rfl)
theorem dX0_quarrel_64 : decode cX0_quarrel 64 = .ok (.iload_n 2, 1) := dk_28 (dk_at dksX0_quarrel_2 16 rfl rfl)
theorem dX0_quarrel_65 : decode cX0_quarrel 65 = .ok (.iastore, 1) := dk_79 (dk_at dksX0_quarrel_2 17 rfl rfl)
theorem dX0_quarrel_66 : decode cX0_quarrel 66 = .ok (.aload_n 0, 1) := dk_42 (dk_at dksX0_quarrel_2 18 rfl rfl)
theorem dX0_quarrel_67 : decode cX0_quarrel 67 = .ok (.getfield 21, 3) := dk_180 0 21 (dk_at dksX0_quarrel_2 19 rfl rfl)
theorem dX0_quarrel_70 : decode cX0_quarrel 70 = .ok (.getfield 101, 3) := dk_180 0 101 (dk_at dksX0_quarrel_3 0 rfl rfl)
theorem dX0_quarrel_73 : decode cX0_quarrel 73 = .ok (.iload 5, 2) := dk_21 5 (dk_at dksX0_quarrel_3 3 rfl rfl)
theorem dX0_quarrel_75 : decode cX0_quarrel 75 = .ok (.iload_n 3, 1) := dk_29 (dk_at dksX0_quarrel_3 5 rfl rfl)
theorem dX0_quarrel_76 : decode cX0_quarrel 76 = .ok (.iastore, 1) := dk_79 (dk_at dksX0_quarrel_3 6 rfl rfl)
theorem dX0_quarrel_77 : decode cX0_quarrel 77 = .ok (.aload_n 0, 1) := dk_42 (dk_at dksX0_quarrel_3 7 rfl rfl)
theorem dX0_quarrel_78 : decode cX0_quarrel 78 = .ok (.getfield 21, 3) := dk_180 0 21 (dk_at dksX0_quarrel_3 8 rfl rfl)
theorem dX0_quarrel_81 : decode cX0_quarrel 81 = .ok (.getfield 70, 3) := dk_180 0 70 (dk_at dksX0_quarrel_3 11 rfl rfl)
theorem dX0_quarrel_84 : decode cX0_quarrel 84 = .ok (.iconst 0, 1) := dk_3 (dk_at dksX0_quarrel_3 14 rfl rfl)
theorem dX0_quarrel_85 : decode cX0_quarrel 85 = .ok (.dup2, 1) := dk_92 (dk_at dksX0_quarrel_3 15 rfl rfl)
theorem dX0_quarrel_86 : decode cX0_quarrel 86 = .ok (.iaload, 1) := dk_46 (dk_at dksX0_quarrel_3 16 rfl rfl)
theorem dX0_quarrel_87 : decode cX0_quarrel 87 = .ok (.iconst 1, 1) := dk_4 (dk_at dksX0_quarrel_3 17 rfl rfl)
theorem dX0_quarrel_88 : decode cX0_quarrel 88 = .ok (.iadd, 1) := dk_96 (dk_at dksX0_quarrel_3 18 rfl rfl)
theorem dX0_quarrel_89 : decode cX0_quarrel 89 = .ok (.iastore, 1) := dk_79 (dk_at dksX0_quarrel_3 19 rfl rfl)
theorem dX0_quarrel_90 : decode cX0_quarrel 90 = .ok (.aload_n 0, 1) := dk_42 (dk_at dksX0_quarrel_3 20 rfl rfl)
theorem dX0_quarrel_91 : decode cX0_quarrel 91 = .ok (.getfield 21, 3) := dk_180 0 21 (dk_at dksX0_quarrel_3 21 rfl rfl)
theorem dX0_quarrel_94 : decode cX0_quarrel 94 = .ok (.bipush 20, 2) := dk_16 20 (dk_at dksX0_quarrel_4 0 rfl rfl)
theorem dX0_quarrel_96 : decode cX0_quarrel 96 = .ok (.iload 5, 2) := dk_21 5 (dk_at dksX0_quarrel_4 2 rfl rfl)
theorem dX0_quarrel_98 : decode cX0_quarrel 98 = .ok (.iadd, 1) := dk_96 (dk_at dksX0_quarrel_4 4 rfl rfl)
theorem dX0_quarrel_99 : decode cX0_quarrel 99 = .ok (.iload 4, 2) := dk_21 4 (dk_at dksX0_quarrel_4 5 rfl rfl)
theorem dX0_quarrel_101 : decode cX0_quarrel 101 = .ok (.invokevirtual 104, 3) := dk_182 0 104 (dk_at dksX0_quarrel_4 7 rfl rfl)
theorem dX0_quarrel_104 : decode cX0_quarrel 104 = .ok (.iload 5, 2) := dk_21 5 (dk_at dksX0_quarrel_4 10 rfl rfl)
theorem dX0_quarrel_106 : decode cX0_quarrel 106 = .ok (.ireturn, 1) := dk_172 (dk_at dksX0_quarrel_4 12 rfl rfl)
abbrev cX0_quarrels : ByteArray := prog_1_method_5_code
def yX0_quarrels : MethodName := ⟨RX0, "quarrels", "()I"⟩
def dkwX0_quarrels_0 : List UInt8 := [42, 180, 0, 21, 180, 0, 70, 3, 46, 172]
abbrev dktX0_quarrels_0 : List UInt8 := dkwX0_quarrels_0 ++ []
theorem dksX0_quarrels_0 : cX0_quarrels.data.toList.drop 0 = dktX0_quarrels_0 := by decide +kernel
theorem dX0_quarrels_0 : decode cX0_quarrels 0 = .ok (.aload_n 0, 1) := dk_42 (dk_at dksX0_quarrels_0 0 rfl rfl)
theorem dX0_quarrels_1 : decode cX0_quarrels 1 = .ok (.getfield 21, 3) := dk_180 0 21 (dk_at dksX0_quarrels_0 1 rfl rfl)
theorem dX0_quarrels_4 : decode cX0_quarrels 4 = .ok (.getfield 70, 3) := dk_180 0 70 (dk_at dksX0_quarrels_0 4 rfl rfl)
theorem dX0_quarrels_7 : decode cX0_quarrels 7 = .ok (.iconst 0, 1) := dk_3 (dk_at dksX0_quarrels_0 7 rfl rfl)
theorem dX0_quarrels_8 : decode cX0_quarrels 8 = .ok (.iaload, 1) := dk_46 (dk_at dksX0_quarrels_0 8 rfl rfl)
theorem dX0_quarrels_9 : decode cX0_quarrels 9 = .ok (.ireturn, 1) := dk_172 (dk_at dksX0_quarrels_0 9 rfl rfl)
abbrev cX0_isPair : ByteArray := prog_1_method_8_code
def yX0_isPair : MethodName := ⟨RX0, "isPair", "(II)Z"⟩
def dkwX0_isPair_1 : List UInt8 := [172]
abbrev dktX0_isPair_1 : List UInt8 := dkwX0_isPair_1 ++ []
def dkwX0_isPair_0 : List UInt8 := [26, 184, 0, 81, 153, 0, 19, 27, 184, 0, 81, 153, 0, 12, 26, 27, 159, 0, 7, 4, 167, 0, 4, 3]
abbrev dktX0_isPair_0 : List UInt8 := dkwX0_isPair_0 ++ dktX0_isPair_1
theorem dksX0_isPair_0 : cX0_isPair.data.toList.drop 0 = dktX0_isPair_0 := by decide +kernel
theorem dksX0_isPair_1 : cX0_isPair.data.toList.drop 24 = dktX0_isPair_1 := dk_seg dksX0_isPair_0 24 rfl rfl
theorem dX0_isPair_0 : decode cX0_isPair 0 = .ok (.iload_n 0, 1) := dk_26 (dk_at dksX0_isPair_0 0 rfl rfl)
theorem dX0_isPair_1 : decode cX0_isPair 1 = .ok (.invokestatic 81, 3) := dk_184 0 81 (dk_at dksX0_isPair_0 1 rfl rfl)
theorem dX0_isPair_4 : decode cX0_isPair 4 = .ok (.ifCond .eq 19, 3) := dk_153 0 19 (dk_at dksX0_isPair_0 4 rfl rfl)
theorem dX0_isPair_7 : decode cX0_isPair 7 = .ok (.iload_n 1, 1) := dk_27 (dk_at dksX0_isPair_0 7 rfl rfl)
theorem dX0_isPair_8 : decode cX0_isPair 8 = .ok (.invokestatic 81, 3) := dk_184 0 81 (dk_at dksX0_isPair_0 8 rfl rfl)
theorem dX0_isPair_11 : decode cX0_isPair 11 = .ok (.ifCond .eq 12, 3) := dk_153 0 12 (dk_at dksX0_isPair_0 11 rfl rfl)
theorem dX0_isPair_14 : decode cX0_isPair 14 = .ok (.iload_n 0, 1) := dk_26 (dk_at dksX0_isPair_0 14 rfl rfl)
theorem dX0_isPair_15 : decode cX0_isPair 15 = .ok (.iload_n 1, 1) := dk_27 (dk_at dksX0_isPair_0 15 rfl rfl)
theorem dX0_isPair_16 : decode cX0_isPair 16 = .ok (.if_icmp .eq 7, 3) := dk_159 0 7 (dk_at dksX0_isPair_0 16 rfl rfl)
theorem dX0_isPair_19 : decode cX0_isPair 19 = .ok (.iconst 1, 1) := dk_4 (dk_at dksX0_isPair_0 19 rfl rfl)
theorem dX0_isPair_20 : decode cX0_isPair 20 = .ok (.goto 4, 3) := dk_167 0 4 (dk_at dksX0_isPair_0 20 rfl rfl)
theorem dX0_isPair_23 : decode cX0_isPair 23 = .ok (.iconst 0, 1) := dk_3 (dk_at dksX0_isPair_0 23 rfl rfl)
theorem dX0_isPair_24 : decode cX0_isPair 24 = .ok (.ireturn, 1) := dk_172 (dk_at dksX0_isPair_1 0 rfl rfl)
abbrev cX0_isPerson : ByteArray := prog_1_method_7_code
def yX0_isPerson : MethodName := ⟨RX0, "isPerson", "(I)Z"⟩
def dkwX0_isPerson_0 : List UInt8 := [26, 3, 8, 184, 0, 77, 172]
abbrev dktX0_isPerson_0 : List UInt8 := dkwX0_isPerson_0 ++ []
theorem dksX0_isPerson_0 : cX0_isPerson.data.toList.drop 0 = dktX0_isPerson_0 := by decide +kernel
theorem dX0_isPerson_0 : decode cX0_isPerson 0 = .ok (.iload_n 0, 1) := dk_26 (dk_at dksX0_isPerson_0 0 rfl rfl)
theorem dX0_isPerson_1 : decode cX0_isPerson 1 = .ok (.iconst 0, 1) := dk_3 (dk_at dksX0_isPerson_0 1 rfl rfl)
theorem dX0_isPerson_2 : decode cX0_isPerson 2 = .ok (.iconst 5, 1) := dk_8 (dk_at dksX0_isPerson_0 2 rfl rfl)
theorem dX0_isPerson_3 : decode cX0_isPerson 3 = .ok (.invokestatic 77, 3) := dk_184 0 77 (dk_at dksX0_isPerson_0 3 rfl rfl)
theorem dX0_isPerson_6 : decode cX0_isPerson 6 = .ok (.ireturn, 1) := dk_172 (dk_at dksX0_isPerson_0 6 rfl rfl)
abbrev cX0_in : ByteArray := prog_1_method_1_code
def yX0_in : MethodName := ⟨RX0, "in", "(III)Z"⟩
def dkwX0_in_0 : List UInt8 := [26, 27, 161, 0, 12, 26, 28, 163, 0, 7, 4, 167, 0, 4, 3, 172]
abbrev dktX0_in_0 : List UInt8 := dkwX0_in_0 ++ []
theorem dksX0_in_0 : cX0_in.data.toList.drop 0 = dktX0_in_0 := by decide +kernel
theorem dX0_in_0 : decode cX0_in 0 = .ok (.iload_n 0, 1) := dk_26 (dk_at dksX0_in_0 0 rfl rfl)
theorem dX0_in_1 : decode cX0_in 1 = .ok (.iload_n 1, 1) := dk_27 (dk_at dksX0_in_0 1 rfl rfl)
theorem dX0_in_2 : decode cX0_in 2 = .ok (.if_icmp .lt 12, 3) := dk_161 0 12 (dk_at dksX0_in_0 2 rfl rfl)
theorem dX0_in_5 : decode cX0_in 5 = .ok (.iload_n 0, 1) := dk_26 (dk_at dksX0_in_0 5 rfl rfl)
theorem dX0_in_6 : decode cX0_in 6 = .ok (.iload_n 2, 1) := dk_28 (dk_at dksX0_in_0 6 rfl rfl)
theorem dX0_in_7 : decode cX0_in 7 = .ok (.if_icmp .gt 7, 3) := dk_163 0 7 (dk_at dksX0_in_0 7 rfl rfl)
theorem dX0_in_10 : decode cX0_in 10 = .ok (.iconst 1, 1) := dk_4 (dk_at dksX0_in_0 10 rfl rfl)
theorem dX0_in_11 : decode cX0_in 11 = .ok (.goto 4, 3) := dk_167 0 4 (dk_at dksX0_in_0 11 rfl rfl)
theorem dX0_in_14 : decode cX0_in 14 = .ok (.iconst 0, 1) := dk_3 (dk_at dksX0_in_0 14 rfl rfl)
theorem dX0_in_15 : decode cX0_in 15 = .ok (.ireturn, 1) := dk_172 (dk_at dksX0_in_0 15 rfl rfl)
abbrev cX0_feed : ByteArray := prog_1_method_12_code
def yX0_feed : MethodName := ⟨RX0, "feed", "(IIIII)I"⟩
def dkwX0_feed_2 : List UInt8 := [172]
abbrev dktX0_feed_2 : List UInt8 := dkwX0_feed_2 ++ []
def dkwX0_feed_1 : List UInt8 := [182, 0, 111, 42, 29, 182, 0, 111, 42, 21, 4, 182, 0, 111, 42, 21, 5, 182, 0, 111, 42, 180, 0, 108]
abbrev dktX0_feed_1 : List UInt8 := dkwX0_feed_1 ++ dktX0_feed_2
def dkwX0_feed_0 : List UInt8 := [42, 180, 0, 108, 16, 20, 96, 17, 1, 44, 164, 0, 5, 2, 172, 42, 27, 182, 0, 111, 42, 28]
abbrev dktX0_feed_0 : List UInt8 := dkwX0_feed_0 ++ dktX0_feed_1
theorem dksX0_feed_0 : cX0_feed.data.toList.drop 0 = dktX0_feed_0 := by decide +kernel
theorem dksX0_feed_1 : cX0_feed.data.toList.drop 22 = dktX0_feed_1 := dk_seg dksX0_feed_0 22 rfl rfl
theorem dksX0_feed_2 : cX0_feed.data.toList.drop 46 = dktX0_feed_2 := dk_seg dksX0_feed_1 24 rfl rfl
theorem dX0_feed_0 : decode cX0_feed 0 = .ok (.aload_n 0, 1) := dk_42 (dk_at dksX0_feed_0 0 rfl rfl)
theorem dX0_feed_1 : decode cX0_feed 1 = .ok (.getfield 108, 3) := dk_180 0 108 (dk_at dksX0_feed_0 1 rfl rfl)
theorem dX0_feed_4 : decode cX0_feed 4 = .ok (.bipush 20, 2) := dk_16 20 (dk_at dksX0_feed_0 4 rfl rfl)
theorem dX0_feed_6 : decode cX0_feed 6 = .ok (.iadd, 1) := dk_96 (dk_at dksX0_feed_0 6 rfl rfl)
theorem dX0_feed_7 : decode cX0_feed 7 = .ok (.sipush 300, 3) := dk_17 1 44 (dk_at dksX0_feed_0 7 rfl rfl)
theorem dX0_feed_10 : decode cX0_feed 10 = .ok (.if_icmp .le 5, 3) := dk_164 0 5 (dk_at dksX0_feed_0 10 rfl rfl)
theorem dX0_feed_13 : decode cX0_feed 13 = .ok (.iconst (-1), 1) := dk_2 (dk_at dksX0_feed_0 13 rfl rfl)
theorem dX0_feed_14 : decode cX0_feed 14 = .ok (.ireturn, 1) := dk_172 (dk_at dksX0_feed_0 14 rfl rfl)
theorem dX0_feed_15 : decode cX0_feed 15 = .ok (.aload_n 0, 1) := dk_42 (dk_at dksX0_feed_0 15 rfl rfl)
theorem dX0_feed_16 : decode cX0_feed 16 = .ok (.iload_n 1, 1) := dk_27 (dk_at dksX0_feed_0 16 rfl rfl)
theorem dX0_feed_17 : decode cX0_feed 17 = .ok (.invokevirtual 111, 3) := dk_182 0 111 (dk_at dksX0_feed_0 17 rfl rfl)
theorem dX0_feed_20 : decode cX0_feed 20 = .ok (.aload_n 0, 1) := dk_42 (dk_at dksX0_feed_0 20 rfl rfl)
theorem dX0_feed_21 : decode cX0_feed 21 = .ok (.iload_n 2, 1) := dk_28 (dk_at dksX0_feed_0 21 rfl rfl)
theorem dX0_feed_22 : decode cX0_feed 22 = .ok (.invokevirtual 111, 3) := dk_182 0 111 (dk_at dksX0_feed_1 0 rfl rfl)
theorem dX0_feed_25 : decode cX0_feed 25 = .ok (.aload_n 0, 1) := dk_42 (dk_at dksX0_feed_1 3 rfl rfl)
theorem dX0_feed_26 : decode cX0_feed 26 = .ok (.iload_n 3, 1) := dk_29 (dk_at dksX0_feed_1 4 rfl rfl)
theorem dX0_feed_27 : decode cX0_feed 27 = .ok (.invokevirtual 111, 3) := dk_182 0 111 (dk_at dksX0_feed_1 5 rfl rfl)
theorem dX0_feed_30 : decode cX0_feed 30 = .ok (.aload_n 0, 1) := dk_42 (dk_at dksX0_feed_1 8 rfl rfl)
theorem dX0_feed_31 : decode cX0_feed 31 = .ok (.iload 4, 2) := dk_21 4 (dk_at dksX0_feed_1 9 rfl rfl)
theorem dX0_feed_33 : decode cX0_feed 33 = .ok (.invokevirtual 111, 3) := dk_182 0 111 (dk_at dksX0_feed_1 11 rfl rfl)
theorem dX0_feed_36 : decode cX0_feed 36 = .ok (.aload_n 0, 1) := dk_42 (dk_at dksX0_feed_1 14 rfl rfl)
theorem dX0_feed_37 : decode cX0_feed 37 = .ok (.iload 5, 2) := dk_21 5 (dk_at dksX0_feed_1 15 rfl rfl)
theorem dX0_feed_39 : decode cX0_feed 39 = .ok (.invokevirtual 111, 3) := dk_182 0 111 (dk_at dksX0_feed_1 17 rfl rfl)
theorem dX0_feed_42 : decode cX0_feed 42 = .ok (.aload_n 0, 1) := dk_42 (dk_at dksX0_feed_1 20 rfl rfl)
theorem dX0_feed_43 : decode cX0_feed 43 = .ok (.getfield 108, 3) := dk_180 0 108 (dk_at dksX0_feed_1 21 rfl rfl)
theorem dX0_feed_46 : decode cX0_feed 46 = .ok (.ireturn, 1) := dk_172 (dk_at dksX0_feed_2 0 rfl rfl)
abbrev cX0_put : ByteArray := prog_1_method_11_code
def yX0_put : MethodName := ⟨RX0, "put", "(I)V"⟩
def dkwX0_put_1 : List UInt8 := [180, 0, 108, 4, 96, 181, 0, 108, 132, 2, 248, 167, 255, 226, 177]
abbrev dktX0_put_1 : List UInt8 := dkwX0_put_1 ++ []
def dkwX0_put_0 : List UInt8 := [16, 24, 61, 28, 155, 0, 32, 42, 180, 0, 28, 42, 180, 0, 108, 27, 28, 122, 145, 84, 42, 89]
abbrev dktX0_put_0 : List UInt8 := dkwX0_put_0 ++ dktX0_put_1
theorem dksX0_put_0 : cX0_put.data.toList.drop 0 = dktX0_put_0 := by decide +kernel
theorem dksX0_put_1 : cX0_put.data.toList.drop 22 = dktX0_put_1 := dk_seg dksX0_put_0 22 rfl rfl
theorem dX0_put_0 : decode cX0_put 0 = .ok (.bipush 24, 2) := dk_16 24 (dk_at dksX0_put_0 0 rfl rfl)
theorem dX0_put_2 : decode cX0_put 2 = .ok (.istore_n 2, 1) := dk_61 (dk_at dksX0_put_0 2 rfl rfl)
theorem dX0_put_3 : decode cX0_put 3 = .ok (.iload_n 2, 1) := dk_28 (dk_at dksX0_put_0 3 rfl rfl)
theorem dX0_put_4 : decode cX0_put 4 = .ok (.ifCond .lt 32, 3) := dk_155 0 32 (dk_at dksX0_put_0 4 rfl rfl)
theorem dX0_put_7 : decode cX0_put 7 = .ok (.aload_n 0, 1) := dk_42 (dk_at dksX0_put_0 7 rfl rfl)
theorem dX0_put_8 : decode cX0_put 8 = .ok (.getfield 28, 3) := dk_180 0 28 (dk_at dksX0_put_0 8 rfl rfl)
theorem dX0_put_11 : decode cX0_put 11 = .ok (.aload_n 0, 1) := dk_42 (dk_at dksX0_put_0 11 rfl rfl)
theorem dX0_put_12 : decode cX0_put 12 = .ok (.getfield 108, 3) := dk_180 0 108 (dk_at dksX0_put_0 12 rfl rfl)
theorem dX0_put_15 : decode cX0_put 15 = .ok (.iload_n 1, 1) := dk_27 (dk_at dksX0_put_0 15 rfl rfl)
theorem dX0_put_16 : decode cX0_put 16 = .ok (.iload_n 2, 1) := dk_28 (dk_at dksX0_put_0 16 rfl rfl)
theorem dX0_put_17 : decode cX0_put 17 = .ok (.ishr, 1) := dk_122 (dk_at dksX0_put_0 17 rfl rfl)
theorem dX0_put_18 : decode cX0_put 18 = .ok (.i2b, 1) := dk_145 (dk_at dksX0_put_0 18 rfl rfl)
theorem dX0_put_19 : decode cX0_put 19 = .ok (.bastore, 1) := dk_84 (dk_at dksX0_put_0 19 rfl rfl)
theorem dX0_put_20 : decode cX0_put 20 = .ok (.aload_n 0, 1) := dk_42 (dk_at dksX0_put_0 20 rfl rfl)
theorem dX0_put_21 : decode cX0_put 21 = .ok (.dup, 1) := dk_89 (dk_at dksX0_put_0 21 rfl rfl)
theorem dX0_put_22 : decode cX0_put 22 = .ok (.getfield 108, 3) := dk_180 0 108 (dk_at dksX0_put_1 0 rfl rfl)
theorem dX0_put_25 : decode cX0_put 25 = .ok (.iconst 1, 1) := dk_4 (dk_at dksX0_put_1 3 rfl rfl)
theorem dX0_put_26 : decode cX0_put 26 = .ok (.iadd, 1) := dk_96 (dk_at dksX0_put_1 4 rfl rfl)
theorem dX0_put_27 : decode cX0_put 27 = .ok (.putfield 108, 3) := dk_181 0 108 (dk_at dksX0_put_1 5 rfl rfl)
theorem dX0_put_30 : decode cX0_put 30 = .ok (.iinc 2 (-8), 3) := dk_132 2 248 (dk_at dksX0_put_1 8 rfl rfl)
theorem dX0_put_33 : decode cX0_put 33 = .ok (.goto (-30), 3) := dk_167 255 226 (dk_at dksX0_put_1 11 rfl rfl)
theorem dX0_put_36 : decode cX0_put 36 = .ok (.return_, 1) := dk_177 (dk_at dksX0_put_1 14 rfl rfl)
abbrev cX0_end : ByteArray := prog_1_method_13_code
def yX0_end : MethodName := ⟨RX0, "end", "(I)I"⟩
def dkwX0_end_0 : List UInt8 := [27, 3, 42, 180, 0, 108, 184, 0, 77, 154, 0, 5, 2, 172, 42, 27, 181, 0, 108, 27, 172]
abbrev dktX0_end_0 : List UInt8 := dkwX0_end_0 ++ []
theorem dksX0_end_0 : cX0_end.data.toList.drop 0 = dktX0_end_0 := by decide +kernel
theorem dX0_end_0 : decode cX0_end 0 = .ok (.iload_n 1, 1) := dk_27 (dk_at dksX0_end_0 0 rfl rfl)
theorem dX0_end_1 : decode cX0_end 1 = .ok (.iconst 0, 1) := dk_3 (dk_at dksX0_end_0 1 rfl rfl)
theorem dX0_end_2 : decode cX0_end 2 = .ok (.aload_n 0, 1) := dk_42 (dk_at dksX0_end_0 2 rfl rfl)
theorem dX0_end_3 : decode cX0_end 3 = .ok (.getfield 108, 3) := dk_180 0 108 (dk_at dksX0_end_0 3 rfl rfl)
theorem dX0_end_6 : decode cX0_end 6 = .ok (.invokestatic 77, 3) := dk_184 0 77 (dk_at dksX0_end_0 6 rfl rfl)
theorem dX0_end_9 : decode cX0_end 9 = .ok (.ifCond .ne 5, 3) := dk_154 0 5 (dk_at dksX0_end_0 9 rfl rfl)
theorem dX0_end_12 : decode cX0_end 12 = .ok (.iconst (-1), 1) := dk_2 (dk_at dksX0_end_0 12 rfl rfl)
theorem dX0_end_13 : decode cX0_end 13 = .ok (.ireturn, 1) := dk_172 (dk_at dksX0_end_0 13 rfl rfl)
theorem dX0_end_14 : decode cX0_end 14 = .ok (.aload_n 0, 1) := dk_42 (dk_at dksX0_end_0 14 rfl rfl)
theorem dX0_end_15 : decode cX0_end 15 = .ok (.iload_n 1, 1) := dk_27 (dk_at dksX0_end_0 15 rfl rfl)
theorem dX0_end_16 : decode cX0_end 16 = .ok (.putfield 108, 3) := dk_181 0 108 (dk_at dksX0_end_0 16 rfl rfl)
theorem dX0_end_19 : decode cX0_end 19 = .ok (.iload_n 1, 1) := dk_27 (dk_at dksX0_end_0 19 rfl rfl)
theorem dX0_end_20 : decode cX0_end 20 = .ok (.ireturn, 1) := dk_172 (dk_at dksX0_end_0 20 rfl rfl)
abbrev cX0_text : ByteArray := prog_1_method_14_code
def yX0_text : MethodName := ⟨RX0, "text", "()I"⟩
def dkwX0_text_5 : List UInt8 := [79, 42, 180, 0, 21, 180, 0, 70, 4, 46, 4, 100, 172]
abbrev dktX0_text_5 : List UInt8 := dkwX0_text_5 ++ []
def dkwX0_text_4 : List UInt8 := [29, 172, 58, 4, 42, 3, 181, 0, 108, 25, 4, 191, 42, 180, 0, 21, 180, 0, 70, 4, 92, 46, 4, 96]
abbrev dktX0_text_4 : List UInt8 := dkwX0_text_4 ++ dktX0_text_5
def dkwX0_text_3 : List UInt8 := [77, 42, 44, 180, 0, 130, 181, 0, 32, 42, 44, 180, 0, 131, 181, 0, 36, 2, 62, 42, 3, 181, 0, 108]
abbrev dktX0_text_3 : List UInt8 := dkwX0_text_3 ++ dktX0_text_4
def dkwX0_text_2 : List UInt8 := [187, 0, 119, 89, 42, 180, 0, 28, 27, 183, 0, 121, 182, 0, 124, 83, 42, 3, 181, 0, 108, 167, 0, 39]
abbrev dktX0_text_2 : List UInt8 := dkwX0_text_2 ++ dktX0_text_3
def dkwX0_text_1 : List UInt8 := [181, 0, 32, 42, 2, 181, 0, 36, 42, 180, 0, 21, 180, 0, 115, 42, 180, 0, 21, 180, 0, 70, 4, 46]
abbrev dktX0_text_1 : List UInt8 := dkwX0_text_1 ++ dktX0_text_2
def dkwX0_text_0 : List UInt8 := [42, 180, 0, 21, 180, 0, 70, 4, 46, 7, 160, 0, 5, 2, 172, 42, 180, 0, 108, 60, 42, 3]
abbrev dktX0_text_0 : List UInt8 := dkwX0_text_0 ++ dktX0_text_1
theorem dksX0_text_0 : cX0_text.data.toList.drop 0 = dktX0_text_0 := by decide +kernel
theorem dksX0_text_1 : cX0_text.data.toList.drop 22 = dktX0_text_1 := dk_seg dksX0_text_0 22 rfl rfl
theorem dksX0_text_2 : cX0_text.data.toList.drop 46 = dktX0_text_2 := dk_seg dksX0_text_1 24 rfl rfl
theorem dksX0_text_3 : cX0_text.data.toList.drop 70 = dktX0_text_3 := dk_seg dksX0_text_2 24 rfl rfl
theorem dksX0_text_4 : cX0_text.data.toList.drop 94 = dktX0_text_4 := dk_seg dksX0_text_3 24 rfl rfl
theorem dksX0_text_5 : cX0_text.data.toList.drop 118 = dktX0_text_5 := dk_seg dksX0_text_4 24 rfl rfl
theorem dX0_text_0 : decode cX0_text 0 = .ok (.aload_n 0, 1) := dk_42 (dk_at dksX0_text_0 0 rfl rfl)
theorem dX0_text_1 : decode cX0_text 1 = .ok (.getfield 21, 3) := dk_180 0 21 (dk_at dksX0_text_0 1 rfl rfl)
theorem dX0_text_4 : decode cX0_text 4 = .ok (.getfield 70, 3) := dk_180 0 70 (dk_at dksX0_text_0 4 rfl rfl)
theorem dX0_text_7 : decode cX0_text 7 = .ok (.iconst 1, 1) := dk_4 (dk_at dksX0_text_0 7 rfl rfl)
theorem dX0_text_8 : decode cX0_text 8 = .ok (.iaload, 1) := dk_46 (dk_at dksX0_text_0 8 rfl rfl)
theorem dX0_text_9 : decode cX0_text 9 = .ok (.iconst 4, 1) := dk_7 (dk_at dksX0_text_0 9 rfl rfl)
theorem dX0_text_10 : decode cX0_text 10 = .ok (.if_icmp .ne 5, 3) := dk_160 0 5 (dk_at dksX0_text_0 10 rfl rfl)
theorem dX0_text_13 : decode cX0_text 13 = .ok (.iconst (-1), 1) := dk_2 (dk_at dksX0_text_0 13 rfl rfl)
theorem dX0_text_14 : decode cX0_text 14 = .ok (.ireturn, 1) := dk_172 (dk_at dksX0_text_0 14 rfl rfl)
theorem dX0_text_15 : decode cX0_text 15 = .ok (.aload_n 0, 1) := dk_42 (dk_at dksX0_text_0 15 rfl rfl)
theorem dX0_text_16 : decode cX0_text 16 = .ok (.getfield 108, 3) := dk_180 0 108 (dk_at dksX0_text_0 16 rfl rfl)
theorem dX0_text_19 : decode cX0_text 19 = .ok (.istore_n 1, 1) := dk_60 (dk_at dksX0_text_0 19 rfl rfl)
theorem dX0_text_20 : decode cX0_text 20 = .ok (.aload_n 0, 1) := dk_42 (dk_at dksX0_text_0 20 rfl rfl)
theorem dX0_text_21 : decode cX0_text 21 = .ok (.iconst 0, 1) := dk_3 (dk_at dksX0_text_0 21 rfl rfl)
theorem dX0_text_22 : decode cX0_text 22 = .ok (.putfield 32, 3) := dk_181 0 32 (dk_at dksX0_text_1 0 rfl rfl)
theorem dX0_text_25 : decode cX0_text 25 = .ok (.aload_n 0, 1) := dk_42 (dk_at dksX0_text_1 3 rfl rfl)
theorem dX0_text_26 : decode cX0_text 26 = .ok (.iconst (-1), 1) := dk_2 (dk_at dksX0_text_1 4 rfl rfl)
theorem dX0_text_27 : decode cX0_text 27 = .ok (.putfield 36, 3) := dk_181 0 36 (dk_at dksX0_text_1 5 rfl rfl)
theorem dX0_text_30 : decode cX0_text 30 = .ok (.aload_n 0, 1) := dk_42 (dk_at dksX0_text_1 8 rfl rfl)
theorem dX0_text_31 : decode cX0_text 31 = .ok (.getfield 21, 3) := dk_180 0 21 (dk_at dksX0_text_1 9 rfl rfl)
theorem dX0_text_34 : decode cX0_text 34 = .ok (.getfield 115, 3) := dk_180 0 115 (dk_at dksX0_text_1 12 rfl rfl)
theorem dX0_text_37 : decode cX0_text 37 = .ok (.aload_n 0, 1) := dk_42 (dk_at dksX0_text_1 15 rfl rfl)
theorem dX0_text_38 : decode cX0_text 38 = .ok (.getfield 21, 3) := dk_180 0 21 (dk_at dksX0_text_1 16 rfl rfl)
theorem dX0_text_41 : decode cX0_text 41 = .ok (.getfield 70, 3) := dk_180 0 70 (dk_at dksX0_text_1 19 rfl rfl)
theorem dX0_text_44 : decode cX0_text 44 = .ok (.iconst 1, 1) := dk_4 (dk_at dksX0_text_1 22 rfl rfl)
theorem dX0_text_45 : decode cX0_text 45 = .ok (.iaload, 1) := dk_46 (dk_at dksX0_text_1 23 rfl rfl)
theorem dX0_text_46 : decode cX0_text 46 = .ok (.new 119, 3) := dk_187 0 119 (dk_at dksX0_text_2 0 rfl rfl)
theorem dX0_text_49 : decode cX0_text 49 = .ok (.dup, 1) := dk_89 (dk_at dksX0_text_2 3 rfl rfl)
theorem dX0_text_50 : decode cX0_text 50 = .ok (.aload_n 0, 1) := dk_42 (dk_at dksX0_text_2 4 rfl rfl)
theorem dX0_text_51 : decode cX0_text 51 = .ok (.getfield 28, 3) := dk_180 0 28 (dk_at dksX0_text_2 5 rfl rfl)
theorem dX0_text_54 : decode cX0_text 54 = .ok (.iload_n 1, 1) := dk_27 (dk_at dksX0_text_2 8 rfl rfl)
theorem dX0_text_55 : decode cX0_text 55 = .ok (.invokespecial 121, 3) := dk_183 0 121 (dk_at dksX0_text_2 9 rfl rfl)
theorem dX0_text_58 : decode cX0_text 58 = .ok (.invokevirtual 124, 3) := dk_182 0 124 (dk_at dksX0_text_2 12 rfl rfl)
theorem dX0_text_61 : decode cX0_text 61 = .ok (.aastore, 1) := dk_83 (dk_at dksX0_text_2 15 rfl rfl)
theorem dX0_text_62 : decode cX0_text 62 = .ok (.aload_n 0, 1) := dk_42 (dk_at dksX0_text_2 16 rfl rfl)
theorem dX0_text_63 : decode cX0_text 63 = .ok (.iconst 0, 1) := dk_3 (dk_at dksX0_text_2 17 rfl rfl)
theorem dX0_text_64 : decode cX0_text 64 = .ok (.putfield 108, 3) := dk_181 0 108 (dk_at dksX0_text_2 18 rfl rfl)
theorem dX0_text_67 : decode cX0_text 67 = .ok (.goto 39, 3) := dk_167 0 39 (dk_at dksX0_text_2 21 rfl rfl)
theorem dX0_text_70 : decode cX0_text 70 = .ok (.astore_n 2, 1) := dk_77 (dk_at dksX0_text_3 0 rfl rfl)
theorem dX0_text_71 : decode cX0_text 71 = .ok (.aload_n 0, 1) := dk_42 (dk_at dksX0_text_3 1 rfl rfl)
theorem dX0_text_72 : decode cX0_text 72 = .ok (.aload_n 2, 1) := dk_44 (dk_at dksX0_text_3 2 rfl rfl)
theorem dX0_text_73 : decode cX0_text 73 = .ok (.getfield 130, 3) := dk_180 0 130 (dk_at dksX0_text_3 3 rfl rfl)
theorem dX0_text_76 : decode cX0_text 76 = .ok (.putfield 32, 3) := dk_181 0 32 (dk_at dksX0_text_3 6 rfl rfl)
theorem dX0_text_79 : decode cX0_text 79 = .ok (.aload_n 0, 1) := dk_42 (dk_at dksX0_text_3 9 rfl rfl)
theorem dX0_text_80 : decode cX0_text 80 = .ok (.aload_n 2, 1) := dk_44 (dk_at dksX0_text_3 10 rfl rfl)
theorem dX0_text_81 : decode cX0_text 81 = .ok (.getfield 131, 3) := dk_180 0 131 (dk_at dksX0_text_3 11 rfl rfl)
theorem dX0_text_84 : decode cX0_text 84 = .ok (.putfield 36, 3) := dk_181 0 36 (dk_at dksX0_text_3 14 rfl rfl)
theorem dX0_text_87 : decode cX0_text 87 = .ok (.iconst (-1), 1) := dk_2 (dk_at dksX0_text_3 17 rfl rfl)
theorem dX0_text_88 : decode cX0_text 88 = .ok (.istore_n 3, 1) := dk_62 (dk_at dksX0_text_3 18 rfl rfl)
theorem dX0_text_89 : decode cX0_text 89 = .ok (.aload_n 0, 1) := dk_42 (dk_at dksX0_text_3 19 rfl rfl)
theorem dX0_text_90 : decode cX0_text 90 = .ok (.iconst 0, 1) := dk_3 (dk_at dksX0_text_3 20 rfl rfl)
theorem dX0_text_91 : decode cX0_text 91 = .ok (.putfield 108, 3) := dk_181 0 108 (dk_at dksX0_text_3 21 rfl rfl)
theorem dX0_text_94 : decode cX0_text 94 = .ok (.iload_n 3, 1) := dk_29 (dk_at dksX0_text_4 0 rfl rfl)
theorem dX0_text_95 : decode cX0_text 95 = .ok (.ireturn, 1) := dk_172 (dk_at dksX0_text_4 1 rfl rfl)
theorem dX0_text_96 : decode cX0_text 96 = .ok (.astore 4, 2) := dk_58 4 (dk_at dksX0_text_4 2 rfl rfl)
theorem dX0_text_98 : decode cX0_text 98 = .ok (.aload_n 0, 1) := dk_42 (dk_at dksX0_text_4 4 rfl rfl)
theorem dX0_text_99 : decode cX0_text 99 = .ok (.iconst 0, 1) := dk_3 (dk_at dksX0_text_4 5 rfl rfl)
theorem dX0_text_100 : decode cX0_text 100 = .ok (.putfield 108, 3) := dk_181 0 108 (dk_at dksX0_text_4 6 rfl rfl)
theorem dX0_text_103 : decode cX0_text 103 = .ok (.aload 4, 2) := dk_25 4 (dk_at dksX0_text_4 9 rfl rfl)
theorem dX0_text_105 : decode cX0_text 105 = .ok (.athrow, 1) := dk_191 (dk_at dksX0_text_4 11 rfl rfl)
theorem dX0_text_106 : decode cX0_text 106 = .ok (.aload_n 0, 1) := dk_42 (dk_at dksX0_text_4 12 rfl rfl)
theorem dX0_text_107 : decode cX0_text 107 = .ok (.getfield 21, 3) := dk_180 0 21 (dk_at dksX0_text_4 13 rfl rfl)
theorem dX0_text_110 : decode cX0_text 110 = .ok (.getfield 70, 3) := dk_180 0 70 (dk_at dksX0_text_4 16 rfl rfl)
theorem dX0_text_113 : decode cX0_text 113 = .ok (.iconst 1, 1) := dk_4 (dk_at dksX0_text_4 19 rfl rfl)
theorem dX0_text_114 : decode cX0_text 114 = .ok (.dup2, 1) := dk_92 (dk_at dksX0_text_4 20 rfl rfl)
theorem dX0_text_115 : decode cX0_text 115 = .ok (.iaload, 1) := dk_46 (dk_at dksX0_text_4 21 rfl rfl)
theorem dX0_text_116 : decode cX0_text 116 = .ok (.iconst 1, 1) := dk_4 (dk_at dksX0_text_4 22 rfl rfl)
theorem dX0_text_117 : decode cX0_text 117 = .ok (.iadd, 1) := dk_96 (dk_at dksX0_text_4 23 rfl rfl)
theorem dX0_text_118 : decode cX0_text 118 = .ok (.iastore, 1) := dk_79 (dk_at dksX0_text_5 0 rfl rfl)
theorem dX0_text_119 : decode cX0_text 119 = .ok (.aload_n 0, 1) := dk_42 (dk_at dksX0_text_5 1 rfl rfl)
theorem dX0_text_120 : decode cX0_text 120 = .ok (.getfield 21, 3) := dk_180 0 21 (dk_at dksX0_text_5 2 rfl rfl)
theorem dX0_text_123 : decode cX0_text 123 = .ok (.getfield 70, 3) := dk_180 0 70 (dk_at dksX0_text_5 5 rfl rfl)
theorem dX0_text_126 : decode cX0_text 126 = .ok (.iconst 1, 1) := dk_4 (dk_at dksX0_text_5 8 rfl rfl)
theorem dX0_text_127 : decode cX0_text 127 = .ok (.iaload, 1) := dk_46 (dk_at dksX0_text_5 9 rfl rfl)
theorem dX0_text_128 : decode cX0_text 128 = .ok (.iconst 1, 1) := dk_4 (dk_at dksX0_text_5 10 rfl rfl)
theorem dX0_text_129 : decode cX0_text 129 = .ok (.isub, 1) := dk_100 (dk_at dksX0_text_5 11 rfl rfl)
theorem dX0_text_130 : decode cX0_text 130 = .ok (.ireturn, 1) := dk_172 (dk_at dksX0_text_5 12 rfl rfl)
abbrev cX0_fault : ByteArray := prog_1_method_15_code
def yX0_fault : MethodName := ⟨RX0, "fault", "(I)I"⟩
def dkwX0_fault_1 : List UInt8 := [172]
abbrev dktX0_fault_1 : List UInt8 := dkwX0_fault_1 ++ []
def dkwX0_fault_0 : List UInt8 := [27, 154, 0, 10, 42, 180, 0, 32, 167, 0, 16, 27, 4, 160, 0, 10, 42, 180, 0, 36, 167, 0, 4, 2]
abbrev dktX0_fault_0 : List UInt8 := dkwX0_fault_0 ++ dktX0_fault_1
theorem dksX0_fault_0 : cX0_fault.data.toList.drop 0 = dktX0_fault_0 := by decide +kernel
theorem dksX0_fault_1 : cX0_fault.data.toList.drop 24 = dktX0_fault_1 := dk_seg dksX0_fault_0 24 rfl rfl
theorem dX0_fault_0 : decode cX0_fault 0 = .ok (.iload_n 1, 1) := dk_27 (dk_at dksX0_fault_0 0 rfl rfl)
theorem dX0_fault_1 : decode cX0_fault 1 = .ok (.ifCond .ne 10, 3) := dk_154 0 10 (dk_at dksX0_fault_0 1 rfl rfl)
theorem dX0_fault_4 : decode cX0_fault 4 = .ok (.aload_n 0, 1) := dk_42 (dk_at dksX0_fault_0 4 rfl rfl)
theorem dX0_fault_5 : decode cX0_fault 5 = .ok (.getfield 32, 3) := dk_180 0 32 (dk_at dksX0_fault_0 5 rfl rfl)
theorem dX0_fault_8 : decode cX0_fault 8 = .ok (.goto 16, 3) := dk_167 0 16 (dk_at dksX0_fault_0 8 rfl rfl)
theorem dX0_fault_11 : decode cX0_fault 11 = .ok (.iload_n 1, 1) := dk_27 (dk_at dksX0_fault_0 11 rfl rfl)
theorem dX0_fault_12 : decode cX0_fault 12 = .ok (.iconst 1, 1) := dk_4 (dk_at dksX0_fault_0 12 rfl rfl)
theorem dX0_fault_13 : decode cX0_fault 13 = .ok (.if_icmp .ne 10, 3) := dk_160 0 10 (dk_at dksX0_fault_0 13 rfl rfl)
theorem dX0_fault_16 : decode cX0_fault 16 = .ok (.aload_n 0, 1) := dk_42 (dk_at dksX0_fault_0 16 rfl rfl)
theorem dX0_fault_17 : decode cX0_fault 17 = .ok (.getfield 36, 3) := dk_180 0 36 (dk_at dksX0_fault_0 17 rfl rfl)
theorem dX0_fault_20 : decode cX0_fault 20 = .ok (.goto 4, 3) := dk_167 0 4 (dk_at dksX0_fault_0 20 rfl rfl)
theorem dX0_fault_23 : decode cX0_fault 23 = .ok (.iconst (-1), 1) := dk_2 (dk_at dksX0_fault_0 23 rfl rfl)
theorem dX0_fault_24 : decode cX0_fault 24 = .ok (.ireturn, 1) := dk_172 (dk_at dksX0_fault_1 0 rfl rfl)
abbrev cX0_by : ByteArray := prog_1_method_17_code
def yX0_by : MethodName := ⟨RX0, "by", "(I)Z"⟩
def dkwX0_by_1 : List UInt8 := [79, 4, 172]
abbrev dktX0_by_1 : List UInt8 := dkwX0_by_1 ++ []
def dkwX0_by_0 : List UInt8 := [27, 2, 159, 0, 13, 42, 27, 182, 0, 134, 154, 0, 5, 3, 172, 42, 180, 0, 21, 180, 0, 70, 5, 27]
abbrev dktX0_by_0 : List UInt8 := dkwX0_by_0 ++ dktX0_by_1
theorem dksX0_by_0 : cX0_by.data.toList.drop 0 = dktX0_by_0 := by decide +kernel
theorem dksX0_by_1 : cX0_by.data.toList.drop 24 = dktX0_by_1 := dk_seg dksX0_by_0 24 rfl rfl
theorem dX0_by_0 : decode cX0_by 0 = .ok (.iload_n 1, 1) := dk_27 (dk_at dksX0_by_0 0 rfl rfl)
theorem dX0_by_1 : decode cX0_by 1 = .ok (.iconst (-1), 1) := dk_2 (dk_at dksX0_by_0 1 rfl rfl)
theorem dX0_by_2 : decode cX0_by 2 = .ok (.if_icmp .eq 13, 3) := dk_159 0 13 (dk_at dksX0_by_0 2 rfl rfl)
theorem dX0_by_5 : decode cX0_by 5 = .ok (.aload_n 0, 1) := dk_42 (dk_at dksX0_by_0 5 rfl rfl)
theorem dX0_by_6 : decode cX0_by 6 = .ok (.iload_n 1, 1) := dk_27 (dk_at dksX0_by_0 6 rfl rfl)
theorem dX0_by_7 : decode cX0_by 7 = .ok (.invokevirtual 134, 3) := dk_182 0 134 (dk_at dksX0_by_0 7 rfl rfl)
theorem dX0_by_10 : decode cX0_by 10 = .ok (.ifCond .ne 5, 3) := dk_154 0 5 (dk_at dksX0_by_0 10 rfl rfl)
theorem dX0_by_13 : decode cX0_by 13 = .ok (.iconst 0, 1) := dk_3 (dk_at dksX0_by_0 13 rfl rfl)
theorem dX0_by_14 : decode cX0_by 14 = .ok (.ireturn, 1) := dk_172 (dk_at dksX0_by_0 14 rfl rfl)
theorem dX0_by_15 : decode cX0_by 15 = .ok (.aload_n 0, 1) := dk_42 (dk_at dksX0_by_0 15 rfl rfl)
theorem dX0_by_16 : decode cX0_by 16 = .ok (.getfield 21, 3) := dk_180 0 21 (dk_at dksX0_by_0 16 rfl rfl)
theorem dX0_by_19 : decode cX0_by 19 = .ok (.getfield 70, 3) := dk_180 0 70 (dk_at dksX0_by_0 19 rfl rfl)
theorem dX0_by_22 : decode cX0_by 22 = .ok (.iconst 2, 1) := dk_5 (dk_at dksX0_by_0 22 rfl rfl)
theorem dX0_by_23 : decode cX0_by 23 = .ok (.iload_n 1, 1) := dk_27 (dk_at dksX0_by_0 23 rfl rfl)
theorem dX0_by_24 : decode cX0_by 24 = .ok (.iastore, 1) := dk_79 (dk_at dksX0_by_1 0 rfl rfl)
theorem dX0_by_25 : decode cX0_by 25 = .ok (.iconst 1, 1) := dk_4 (dk_at dksX0_by_1 1 rfl rfl)
theorem dX0_by_26 : decode cX0_by 26 = .ok (.ireturn, 1) := dk_172 (dk_at dksX0_by_1 2 rfl rfl)
abbrev cX0_isText : ByteArray := prog_1_method_16_code
def yX0_isText : MethodName := ⟨RX0, "isText", "(I)Z"⟩
def dkwX0_isText_0 : List UInt8 := [27, 3, 42, 180, 0, 21, 180, 0, 70, 4, 46, 4, 100, 184, 0, 77, 172]
abbrev dktX0_isText_0 : List UInt8 := dkwX0_isText_0 ++ []
theorem dksX0_isText_0 : cX0_isText.data.toList.drop 0 = dktX0_isText_0 := by decide +kernel
theorem dX0_isText_0 : decode cX0_isText 0 = .ok (.iload_n 1, 1) := dk_27 (dk_at dksX0_isText_0 0 rfl rfl)
theorem dX0_isText_1 : decode cX0_isText 1 = .ok (.iconst 0, 1) := dk_3 (dk_at dksX0_isText_0 1 rfl rfl)
theorem dX0_isText_2 : decode cX0_isText 2 = .ok (.aload_n 0, 1) := dk_42 (dk_at dksX0_isText_0 2 rfl rfl)
theorem dX0_isText_3 : decode cX0_isText 3 = .ok (.getfield 21, 3) := dk_180 0 21 (dk_at dksX0_isText_0 3 rfl rfl)
theorem dX0_isText_6 : decode cX0_isText 6 = .ok (.getfield 70, 3) := dk_180 0 70 (dk_at dksX0_isText_0 6 rfl rfl)
theorem dX0_isText_9 : decode cX0_isText 9 = .ok (.iconst 1, 1) := dk_4 (dk_at dksX0_isText_0 9 rfl rfl)
theorem dX0_isText_10 : decode cX0_isText 10 = .ok (.iaload, 1) := dk_46 (dk_at dksX0_isText_0 10 rfl rfl)
theorem dX0_isText_11 : decode cX0_isText 11 = .ok (.iconst 1, 1) := dk_4 (dk_at dksX0_isText_0 11 rfl rfl)
theorem dX0_isText_12 : decode cX0_isText 12 = .ok (.isub, 1) := dk_100 (dk_at dksX0_isText_0 12 rfl rfl)
theorem dX0_isText_13 : decode cX0_isText 13 = .ok (.invokestatic 77, 3) := dk_184 0 77 (dk_at dksX0_isText_0 13 rfl rfl)
theorem dX0_isText_16 : decode cX0_isText 16 = .ok (.ireturn, 1) := dk_172 (dk_at dksX0_isText_0 16 rfl rfl)
abbrev cX0_pawn : ByteArray := prog_1_method_31_code
def yX0_pawn : MethodName := ⟨RX0, "pawn", "(I)Z"⟩
def dkwX0_pawn_0 : List UInt8 := [42, 27, 182, 0, 202, 154, 0, 5, 3, 172, 42, 180, 0, 21, 182, 0, 205, 42, 27, 182, 0, 208, 4, 172]
abbrev dktX0_pawn_0 : List UInt8 := dkwX0_pawn_0 ++ []
theorem dksX0_pawn_0 : cX0_pawn.data.toList.drop 0 = dktX0_pawn_0 := by decide +kernel
theorem dX0_pawn_0 : decode cX0_pawn 0 = .ok (.aload_n 0, 1) := dk_42 (dk_at dksX0_pawn_0 0 rfl rfl)
theorem dX0_pawn_1 : decode cX0_pawn 1 = .ok (.iload_n 1, 1) := dk_27 (dk_at dksX0_pawn_0 1 rfl rfl)
theorem dX0_pawn_2 : decode cX0_pawn 2 = .ok (.invokevirtual 202, 3) := dk_182 0 202 (dk_at dksX0_pawn_0 2 rfl rfl)
theorem dX0_pawn_5 : decode cX0_pawn 5 = .ok (.ifCond .ne 5, 3) := dk_154 0 5 (dk_at dksX0_pawn_0 5 rfl rfl)
theorem dX0_pawn_8 : decode cX0_pawn 8 = .ok (.iconst 0, 1) := dk_3 (dk_at dksX0_pawn_0 8 rfl rfl)
theorem dX0_pawn_9 : decode cX0_pawn 9 = .ok (.ireturn, 1) := dk_172 (dk_at dksX0_pawn_0 9 rfl rfl)
theorem dX0_pawn_10 : decode cX0_pawn 10 = .ok (.aload_n 0, 1) := dk_42 (dk_at dksX0_pawn_0 10 rfl rfl)
theorem dX0_pawn_11 : decode cX0_pawn 11 = .ok (.getfield 21, 3) := dk_180 0 21 (dk_at dksX0_pawn_0 11 rfl rfl)
theorem dX0_pawn_14 : decode cX0_pawn 14 = .ok (.invokevirtual 205, 3) := dk_182 0 205 (dk_at dksX0_pawn_0 14 rfl rfl)
theorem dX0_pawn_17 : decode cX0_pawn 17 = .ok (.aload_n 0, 1) := dk_42 (dk_at dksX0_pawn_0 17 rfl rfl)
theorem dX0_pawn_18 : decode cX0_pawn 18 = .ok (.iload_n 1, 1) := dk_27 (dk_at dksX0_pawn_0 18 rfl rfl)
theorem dX0_pawn_19 : decode cX0_pawn 19 = .ok (.invokevirtual 208, 3) := dk_182 0 208 (dk_at dksX0_pawn_0 19 rfl rfl)
theorem dX0_pawn_22 : decode cX0_pawn 22 = .ok (.iconst 1, 1) := dk_4 (dk_at dksX0_pawn_0 22 rfl rfl)
theorem dX0_pawn_23 : decode cX0_pawn 23 = .ok (.ireturn, 1) := dk_172 (dk_at dksX0_pawn_0 23 rfl rfl)
abbrev cX0_canPawn : ByteArray := prog_1_method_27_code
def yX0_canPawn : MethodName := ⟨RX0, "canPawn", "(I)Z"⟩
def dkwX0_canPawn_1 : List UInt8 := [167, 0, 4, 3, 172]
abbrev dktX0_canPawn_1 : List UInt8 := dkwX0_canPawn_1 ++ []
def dkwX0_canPawn_0 : List UInt8 := [42, 27, 182, 0, 85, 153, 0, 21, 42, 180, 0, 21, 180, 0, 88, 7, 27, 96, 46, 154, 0, 7, 4]
abbrev dktX0_canPawn_0 : List UInt8 := dkwX0_canPawn_0 ++ dktX0_canPawn_1
theorem dksX0_canPawn_0 : cX0_canPawn.data.toList.drop 0 = dktX0_canPawn_0 := by decide +kernel
theorem dksX0_canPawn_1 : cX0_canPawn.data.toList.drop 23 = dktX0_canPawn_1 := dk_seg dksX0_canPawn_0 23 rfl rfl
theorem dX0_canPawn_0 : decode cX0_canPawn 0 = .ok (.aload_n 0, 1) := dk_42 (dk_at dksX0_canPawn_0 0 rfl rfl)
theorem dX0_canPawn_1 : decode cX0_canPawn 1 = .ok (.iload_n 1, 1) := dk_27 (dk_at dksX0_canPawn_0 1 rfl rfl)
theorem dX0_canPawn_2 : decode cX0_canPawn 2 = .ok (.invokevirtual 85, 3) := dk_182 0 85 (dk_at dksX0_canPawn_0 2 rfl rfl)
theorem dX0_canPawn_5 : decode cX0_canPawn 5 = .ok (.ifCond .eq 21, 3) := dk_153 0 21 (dk_at dksX0_canPawn_0 5 rfl rfl)
theorem dX0_canPawn_8 : decode cX0_canPawn 8 = .ok (.aload_n 0, 1) := dk_42 (dk_at dksX0_canPawn_0 8 rfl rfl)
theorem dX0_canPawn_9 : decode cX0_canPawn 9 = .ok (.getfield 21, 3) := dk_180 0 21 (dk_at dksX0_canPawn_0 9 rfl rfl)
theorem dX0_canPawn_12 : decode cX0_canPawn 12 = .ok (.getfield 88, 3) := dk_180 0 88 (dk_at dksX0_canPawn_0 12 rfl rfl)
theorem dX0_canPawn_15 : decode cX0_canPawn 15 = .ok (.iconst 4, 1) := dk_7 (dk_at dksX0_canPawn_0 15 rfl rfl)
theorem dX0_canPawn_16 : decode cX0_canPawn 16 = .ok (.iload_n 1, 1) := dk_27 (dk_at dksX0_canPawn_0 16 rfl rfl)
theorem dX0_canPawn_17 : decode cX0_canPawn 17 = .ok (.iadd, 1) := dk_96 (dk_at dksX0_canPawn_0 17 rfl rfl)
theorem dX0_canPawn_18 : decode cX0_canPawn 18 = .ok (.iaload, 1) := dk_46 (dk_at dksX0_canPawn_0 18 rfl rfl)
theorem dX0_canPawn_19 : decode cX0_canPawn 19 = .ok (.ifCond .ne 7, 3) := dk_154 0 7 (dk_at dksX0_canPawn_0 19 rfl rfl)
theorem dX0_canPawn_22 : decode cX0_canPawn 22 = .ok (.iconst 1, 1) := dk_4 (dk_at dksX0_canPawn_0 22 rfl rfl)
theorem dX0_canPawn_23 : decode cX0_canPawn 23 = .ok (.goto 4, 3) := dk_167 0 4 (dk_at dksX0_canPawn_1 0 rfl rfl)
theorem dX0_canPawn_26 : decode cX0_canPawn 26 = .ok (.iconst 0, 1) := dk_3 (dk_at dksX0_canPawn_1 3 rfl rfl)
theorem dX0_canPawn_27 : decode cX0_canPawn 27 = .ok (.ireturn, 1) := dk_172 (dk_at dksX0_canPawn_1 4 rfl rfl)
abbrev cX0_isQuarrel : ByteArray := prog_1_method_6_code
def yX0_isQuarrel : MethodName := ⟨RX0, "isQuarrel", "(I)Z"⟩
def dkwX0_isQuarrel_0 : List UInt8 := [27, 3, 42, 182, 0, 73, 4, 100, 184, 0, 77, 172]
abbrev dktX0_isQuarrel_0 : List UInt8 := dkwX0_isQuarrel_0 ++ []
theorem dksX0_isQuarrel_0 : cX0_isQuarrel.data.toList.drop 0 = dktX0_isQuarrel_0 := by decide +kernel
theorem dX0_isQuarrel_0 : decode cX0_isQuarrel 0 = .ok (.iload_n 1, 1) := dk_27 (dk_at dksX0_isQuarrel_0 0 rfl rfl)
theorem dX0_isQuarrel_1 : decode cX0_isQuarrel 1 = .ok (.iconst 0, 1) := dk_3 (dk_at dksX0_isQuarrel_0 1 rfl rfl)
theorem dX0_isQuarrel_2 : decode cX0_isQuarrel 2 = .ok (.aload_n 0, 1) := dk_42 (dk_at dksX0_isQuarrel_0 2 rfl rfl)
theorem dX0_isQuarrel_3 : decode cX0_isQuarrel 3 = .ok (.invokevirtual 73, 3) := dk_182 0 73 (dk_at dksX0_isQuarrel_0 3 rfl rfl)
theorem dX0_isQuarrel_6 : decode cX0_isQuarrel 6 = .ok (.iconst 1, 1) := dk_4 (dk_at dksX0_isQuarrel_0 6 rfl rfl)
theorem dX0_isQuarrel_7 : decode cX0_isQuarrel 7 = .ok (.isub, 1) := dk_100 (dk_at dksX0_isQuarrel_0 7 rfl rfl)
theorem dX0_isQuarrel_8 : decode cX0_isQuarrel 8 = .ok (.invokestatic 77, 3) := dk_184 0 77 (dk_at dksX0_isQuarrel_0 8 rfl rfl)
theorem dX0_isQuarrel_11 : decode cX0_isQuarrel 11 = .ok (.ireturn, 1) := dk_172 (dk_at dksX0_isQuarrel_0 11 rfl rfl)
abbrev cX0_pawns : ByteArray := prog_1_method_28_code
def yX0_pawns : MethodName := ⟨RX0, "pawns", "(I)V"⟩
def dkwX0_pawns_3 : List UInt8 := [177]
abbrev dktX0_pawns_3 : List UInt8 := dkwX0_pawns_3 ++ []
def dkwX0_pawns_2 : List UInt8 := [180, 0, 101, 27, 46, 5, 108, 96, 184, 0, 188, 79, 42, 180, 0, 21, 180, 0, 88, 27, 4, 184, 0, 191]
abbrev dktX0_pawns_2 : List UInt8 := dkwX0_pawns_2 ++ dktX0_pawns_3
def dkwX0_pawns_1 : List UInt8 := [180, 0, 21, 180, 0, 88, 5, 17, 39, 15, 42, 180, 0, 21, 180, 0, 88, 5, 46, 42, 180, 0, 21]
abbrev dktX0_pawns_1 : List UInt8 := dkwX0_pawns_1 ++ dktX0_pawns_2
def dkwX0_pawns_0 : List UInt8 := [42, 180, 0, 21, 180, 0, 88, 16, 12, 27, 96, 42, 180, 0, 21, 180, 0, 88, 3, 46, 79, 42]
abbrev dktX0_pawns_0 : List UInt8 := dkwX0_pawns_0 ++ dktX0_pawns_1
theorem dksX0_pawns_0 : cX0_pawns.data.toList.drop 0 = dktX0_pawns_0 := by decide +kernel
theorem dksX0_pawns_1 : cX0_pawns.data.toList.drop 22 = dktX0_pawns_1 := dk_seg dksX0_pawns_0 22 rfl rfl
theorem dksX0_pawns_2 : cX0_pawns.data.toList.drop 45 = dktX0_pawns_2 := dk_seg dksX0_pawns_1 23 rfl rfl
theorem dksX0_pawns_3 : cX0_pawns.data.toList.drop 69 = dktX0_pawns_3 := dk_seg dksX0_pawns_2 24 rfl rfl
theorem dX0_pawns_0 : decode cX0_pawns 0 = .ok (.aload_n 0, 1) := dk_42 (dk_at dksX0_pawns_0 0 rfl rfl)
theorem dX0_pawns_1 : decode cX0_pawns 1 = .ok (.getfield 21, 3) := dk_180 0 21 (dk_at dksX0_pawns_0 1 rfl rfl)
theorem dX0_pawns_4 : decode cX0_pawns 4 = .ok (.getfield 88, 3) := dk_180 0 88 (dk_at dksX0_pawns_0 4 rfl rfl)
theorem dX0_pawns_7 : decode cX0_pawns 7 = .ok (.bipush 12, 2) := dk_16 12 (dk_at dksX0_pawns_0 7 rfl rfl)
theorem dX0_pawns_9 : decode cX0_pawns 9 = .ok (.iload_n 1, 1) := dk_27 (dk_at dksX0_pawns_0 9 rfl rfl)
theorem dX0_pawns_10 : decode cX0_pawns 10 = .ok (.iadd, 1) := dk_96 (dk_at dksX0_pawns_0 10 rfl rfl)
theorem dX0_pawns_11 : decode cX0_pawns 11 = .ok (.aload_n 0, 1) := dk_42 (dk_at dksX0_pawns_0 11 rfl rfl)
theorem dX0_pawns_12 : decode cX0_pawns 12 = .ok (.getfield 21, 3) := dk_180 0 21 (dk_at dksX0_pawns_0 12 rfl rfl)
theorem dX0_pawns_15 : decode cX0_pawns 15 = .ok (.getfield 88, 3) := dk_180 0 88 (dk_at dksX0_pawns_0 15 rfl rfl)
theorem dX0_pawns_18 : decode cX0_pawns 18 = .ok (.iconst 0, 1) := dk_3 (dk_at dksX0_pawns_0 18 rfl rfl)
theorem dX0_pawns_19 : decode cX0_pawns 19 = .ok (.iaload, 1) := dk_46 (dk_at dksX0_pawns_0 19 rfl rfl)
theorem dX0_pawns_20 : decode cX0_pawns 20 = .ok (.iastore, 1) := dk_79 (dk_at dksX0_pawns_0 20 rfl rfl)
theorem dX0_pawns_21 : decode cX0_pawns 21 = .ok (.aload_n 0, 1) := dk_42 (dk_at dksX0_pawns_0 21 rfl rfl)
theorem dX0_pawns_22 : decode cX0_pawns 22 = .ok (.getfield 21, 3) := dk_180 0 21 (dk_at dksX0_pawns_1 0 rfl rfl)
theorem dX0_pawns_25 : decode cX0_pawns 25 = .ok (.getfield 88, 3) := dk_180 0 88 (dk_at dksX0_pawns_1 3 rfl rfl)
theorem dX0_pawns_28 : decode cX0_pawns 28 = .ok (.iconst 2, 1) := dk_5 (dk_at dksX0_pawns_1 6 rfl rfl)
theorem dX0_pawns_29 : decode cX0_pawns 29 = .ok (.sipush 9999, 3) := dk_17 39 15 (dk_at dksX0_pawns_1 7 rfl rfl)
theorem dX0_pawns_32 : decode cX0_pawns 32 = .ok (.aload_n 0, 1) := dk_42 (dk_at dksX0_pawns_1 10 rfl rfl)
theorem dX0_pawns_33 : decode cX0_pawns 33 = .ok (.getfield 21, 3) := dk_180 0 21 (dk_at dksX0_pawns_1 11 rfl rfl)
theorem dX0_pawns_36 : decode cX0_pawns 36 = .ok (.getfield 88, 3) := dk_180 0 88 (dk_at dksX0_pawns_1 14 rfl rfl)
theorem dX0_pawns_39 : decode cX0_pawns 39 = .ok (.iconst 2, 1) := dk_5 (dk_at dksX0_pawns_1 17 rfl rfl)
theorem dX0_pawns_40 : decode cX0_pawns 40 = .ok (.iaload, 1) := dk_46 (dk_at dksX0_pawns_1 18 rfl rfl)
theorem dX0_pawns_41 : decode cX0_pawns 41 = .ok (.aload_n 0, 1) := dk_42 (dk_at dksX0_pawns_1 19 rfl rfl)
theorem dX0_pawns_42 : decode cX0_pawns 42 = .ok (.getfield 21, 3) := dk_180 0 21 (dk_at dksX0_pawns_1 20 rfl rfl)
theorem dX0_pawns_45 : decode cX0_pawns 45 = .ok (.getfield 101, 3) := dk_180 0 101 (dk_at dksX0_pawns_2 0 rfl rfl)
theorem dX0_pawns_48 : decode cX0_pawns 48 = .ok (.iload_n 1, 1) := dk_27 (dk_at dksX0_pawns_2 3 rfl rfl)
theorem dX0_pawns_49 : decode cX0_pawns 49 = .ok (.iaload, 1) := dk_46 (dk_at dksX0_pawns_2 4 rfl rfl)
theorem dX0_pawns_50 : decode cX0_pawns 50 = .ok (.iconst 2, 1) := dk_5 (dk_at dksX0_pawns_2 5 rfl rfl)
theorem dX0_pawns_51 : decode cX0_pawns 51 = .ok (.idiv, 1) := dk_108 (dk_at dksX0_pawns_2 6 rfl rfl)
theorem dX0_pawns_52 : decode cX0_pawns 52 = .ok (.iadd, 1) := dk_96 (dk_at dksX0_pawns_2 7 rfl rfl)
theorem dX0_pawns_53 : decode cX0_pawns 53 = .ok (.invokestatic 188, 3) := dk_184 0 188 (dk_at dksX0_pawns_2 8 rfl rfl)
theorem dX0_pawns_56 : decode cX0_pawns 56 = .ok (.iastore, 1) := dk_79 (dk_at dksX0_pawns_2 11 rfl rfl)
theorem dX0_pawns_57 : decode cX0_pawns 57 = .ok (.aload_n 0, 1) := dk_42 (dk_at dksX0_pawns_2 12 rfl rfl)
theorem dX0_pawns_58 : decode cX0_pawns 58 = .ok (.getfield 21, 3) := dk_180 0 21 (dk_at dksX0_pawns_2 13 rfl rfl)
theorem dX0_pawns_61 : decode cX0_pawns 61 = .ok (.getfield 88, 3) := dk_180 0 88 (dk_at dksX0_pawns_2 16 rfl rfl)
theorem dX0_pawns_64 : decode cX0_pawns 64 = .ok (.iload_n 1, 1) := dk_27 (dk_at dksX0_pawns_2 19 rfl rfl)
theorem dX0_pawns_65 : decode cX0_pawns 65 = .ok (.iconst 1, 1) := dk_4 (dk_at dksX0_pawns_2 20 rfl rfl)
theorem dX0_pawns_66 : decode cX0_pawns 66 = .ok (.invokestatic 191, 3) := dk_184 0 191 (dk_at dksX0_pawns_2 21 rfl rfl)
theorem dX0_pawns_69 : decode cX0_pawns 69 = .ok (.return_, 1) := dk_177 (dk_at dksX0_pawns_3 0 rfl rfl)
abbrev cX0_writes : ByteArray := prog_1_method_26_code
def yX0_writes : MethodName := ⟨RX0, "writes", "([III)V"⟩
def dkwX0_writes_3 : List UInt8 := [79, 42, 16, 28, 92, 46, 4, 96, 79, 177]
abbrev dktX0_writes_3 : List UInt8 := dkwX0_writes_3 ++ []
def dkwX0_writes_2 : List UInt8 := [3, 46, 79, 42, 29, 4, 96, 27, 79, 42, 29, 5, 96, 28, 4, 100, 79, 42, 29, 6, 96, 42, 5, 46]
abbrev dktX0_writes_2 : List UInt8 := dkwX0_writes_2 ++ dktX0_writes_3
def dkwX0_writes_1 : List UInt8 := [184, 0, 145, 42, 16, 28, 92, 46, 4, 100, 79, 16, 29, 7, 42, 16, 28, 46, 104, 96, 62, 42, 29, 42]
abbrev dktX0_writes_1 : List UInt8 := dkwX0_writes_1 ++ dktX0_writes_2
def dkwX0_writes_0 : List UInt8 := [42, 7, 27, 96, 28, 79, 42, 16, 28, 46, 16, 30, 160, 0, 22, 42, 16, 33, 42, 16, 29, 16, 116]
abbrev dktX0_writes_0 : List UInt8 := dkwX0_writes_0 ++ dktX0_writes_1
theorem dksX0_writes_0 : cX0_writes.data.toList.drop 0 = dktX0_writes_0 := by decide +kernel
theorem dksX0_writes_1 : cX0_writes.data.toList.drop 23 = dktX0_writes_1 := dk_seg dksX0_writes_0 23 rfl rfl
theorem dksX0_writes_2 : cX0_writes.data.toList.drop 47 = dktX0_writes_2 := dk_seg dksX0_writes_1 24 rfl rfl
theorem dksX0_writes_3 : cX0_writes.data.toList.drop 71 = dktX0_writes_3 := dk_seg dksX0_writes_2 24 rfl rfl
theorem dX0_writes_0 : decode cX0_writes 0 = .ok (.aload_n 0, 1) := dk_42 (dk_at dksX0_writes_0 0 rfl rfl)
theorem dX0_writes_1 : decode cX0_writes 1 = .ok (.iconst 4, 1) := dk_7 (dk_at dksX0_writes_0 1 rfl rfl)
theorem dX0_writes_2 : decode cX0_writes 2 = .ok (.iload_n 1, 1) := dk_27 (dk_at dksX0_writes_0 2 rfl rfl)
theorem dX0_writes_3 : decode cX0_writes 3 = .ok (.iadd, 1) := dk_96 (dk_at dksX0_writes_0 3 rfl rfl)
theorem dX0_writes_4 : decode cX0_writes 4 = .ok (.iload_n 2, 1) := dk_28 (dk_at dksX0_writes_0 4 rfl rfl)
theorem dX0_writes_5 : decode cX0_writes 5 = .ok (.iastore, 1) := dk_79 (dk_at dksX0_writes_0 5 rfl rfl)
theorem dX0_writes_6 : decode cX0_writes 6 = .ok (.aload_n 0, 1) := dk_42 (dk_at dksX0_writes_0 6 rfl rfl)
theorem dX0_writes_7 : decode cX0_writes 7 = .ok (.bipush 28, 2) := dk_16 28 (dk_at dksX0_writes_0 7 rfl rfl)
theorem dX0_writes_9 : decode cX0_writes 9 = .ok (.iaload, 1) := dk_46 (dk_at dksX0_writes_0 9 rfl rfl)
theorem dX0_writes_10 : decode cX0_writes 10 = .ok (.bipush 30, 2) := dk_16 30 (dk_at dksX0_writes_0 10 rfl rfl)
theorem dX0_writes_12 : decode cX0_writes 12 = .ok (.if_icmp .ne 22, 3) := dk_160 0 22 (dk_at dksX0_writes_0 12 rfl rfl)
theorem dX0_writes_15 : decode cX0_writes 15 = .ok (.aload_n 0, 1) := dk_42 (dk_at dksX0_writes_0 15 rfl rfl)
theorem dX0_writes_16 : decode cX0_writes 16 = .ok (.bipush 33, 2) := dk_16 33 (dk_at dksX0_writes_0 16 rfl rfl)
theorem dX0_writes_18 : decode cX0_writes 18 = .ok (.aload_n 0, 1) := dk_42 (dk_at dksX0_writes_0 18 rfl rfl)
theorem dX0_writes_19 : decode cX0_writes 19 = .ok (.bipush 29, 2) := dk_16 29 (dk_at dksX0_writes_0 19 rfl rfl)
theorem dX0_writes_21 : decode cX0_writes 21 = .ok (.bipush 116, 2) := dk_16 116 (dk_at dksX0_writes_0 21 rfl rfl)
theorem dX0_writes_23 : decode cX0_writes 23 = .ok (.invokestatic 145, 3) := dk_184 0 145 (dk_at dksX0_writes_1 0 rfl rfl)
theorem dX0_writes_26 : decode cX0_writes 26 = .ok (.aload_n 0, 1) := dk_42 (dk_at dksX0_writes_1 3 rfl rfl)
theorem dX0_writes_27 : decode cX0_writes 27 = .ok (.bipush 28, 2) := dk_16 28 (dk_at dksX0_writes_1 4 rfl rfl)
theorem dX0_writes_29 : decode cX0_writes 29 = .ok (.dup2, 1) := dk_92 (dk_at dksX0_writes_1 6 rfl rfl)
theorem dX0_writes_30 : decode cX0_writes 30 = .ok (.iaload, 1) := dk_46 (dk_at dksX0_writes_1 7 rfl rfl)
theorem dX0_writes_31 : decode cX0_writes 31 = .ok (.iconst 1, 1) := dk_4 (dk_at dksX0_writes_1 8 rfl rfl)
theorem dX0_writes_32 : decode cX0_writes 32 = .ok (.isub, 1) := dk_100 (dk_at dksX0_writes_1 9 rfl rfl)
theorem dX0_writes_33 : decode cX0_writes 33 = .ok (.iastore, 1) := dk_79 (dk_at dksX0_writes_1 10 rfl rfl)
theorem dX0_writes_34 : decode cX0_writes 34 = .ok (.bipush 29, 2) := dk_16 29 (dk_at dksX0_writes_1 11 rfl rfl)
theorem dX0_writes_36 : decode cX0_writes 36 = .ok (.iconst 4, 1) := dk_7 (dk_at dksX0_writes_1 13 rfl rfl)
theorem dX0_writes_37 : decode cX0_writes 37 = .ok (.aload_n 0, 1) := dk_42 (dk_at dksX0_writes_1 14 rfl rfl)
theorem dX0_writes_38 : decode cX0_writes 38 = .ok (.bipush 28, 2) := dk_16 28 (dk_at dksX0_writes_1 15 rfl rfl)
theorem dX0_writes_40 : decode cX0_writes 40 = .ok (.iaload, 1) := dk_46 (dk_at dksX0_writes_1 17 rfl rfl)
theorem dX0_writes_41 : decode cX0_writes 41 = .ok (.imul, 1) := dk_104 (dk_at dksX0_writes_1 18 rfl rfl)
theorem dX0_writes_42 : decode cX0_writes 42 = .ok (.iadd, 1) := dk_96 (dk_at dksX0_writes_1 19 rfl rfl)
theorem dX0_writes_43 : decode cX0_writes 43 = .ok (.istore_n 3, 1) := dk_62 (dk_at dksX0_writes_1 20 rfl rfl)
theorem dX0_writes_44 : decode cX0_writes 44 = .ok (.aload_n 0, 1) := dk_42 (dk_at dksX0_writes_1 21 rfl rfl)
theorem dX0_writes_45 : decode cX0_writes 45 = .ok (.iload_n 3, 1) := dk_29 (dk_at dksX0_writes_1 22 rfl rfl)
theorem dX0_writes_46 : decode cX0_writes 46 = .ok (.aload_n 0, 1) := dk_42 (dk_at dksX0_writes_1 23 rfl rfl)
theorem dX0_writes_47 : decode cX0_writes 47 = .ok (.iconst 0, 1) := dk_3 (dk_at dksX0_writes_2 0 rfl rfl)
theorem dX0_writes_48 : decode cX0_writes 48 = .ok (.iaload, 1) := dk_46 (dk_at dksX0_writes_2 1 rfl rfl)
theorem dX0_writes_49 : decode cX0_writes 49 = .ok (.iastore, 1) := dk_79 (dk_at dksX0_writes_2 2 rfl rfl)
theorem dX0_writes_50 : decode cX0_writes 50 = .ok (.aload_n 0, 1) := dk_42 (dk_at dksX0_writes_2 3 rfl rfl)
theorem dX0_writes_51 : decode cX0_writes 51 = .ok (.iload_n 3, 1) := dk_29 (dk_at dksX0_writes_2 4 rfl rfl)
theorem dX0_writes_52 : decode cX0_writes 52 = .ok (.iconst 1, 1) := dk_4 (dk_at dksX0_writes_2 5 rfl rfl)
theorem dX0_writes_53 : decode cX0_writes 53 = .ok (.iadd, 1) := dk_96 (dk_at dksX0_writes_2 6 rfl rfl)
theorem dX0_writes_54 : decode cX0_writes 54 = .ok (.iload_n 1, 1) := dk_27 (dk_at dksX0_writes_2 7 rfl rfl)
theorem dX0_writes_55 : decode cX0_writes 55 = .ok (.iastore, 1) := dk_79 (dk_at dksX0_writes_2 8 rfl rfl)
theorem dX0_writes_56 : decode cX0_writes 56 = .ok (.aload_n 0, 1) := dk_42 (dk_at dksX0_writes_2 9 rfl rfl)
theorem dX0_writes_57 : decode cX0_writes 57 = .ok (.iload_n 3, 1) := dk_29 (dk_at dksX0_writes_2 10 rfl rfl)
theorem dX0_writes_58 : decode cX0_writes 58 = .ok (.iconst 2, 1) := dk_5 (dk_at dksX0_writes_2 11 rfl rfl)
theorem dX0_writes_59 : decode cX0_writes 59 = .ok (.iadd, 1) := dk_96 (dk_at dksX0_writes_2 12 rfl rfl)
theorem dX0_writes_60 : decode cX0_writes 60 = .ok (.iload_n 2, 1) := dk_28 (dk_at dksX0_writes_2 13 rfl rfl)
theorem dX0_writes_61 : decode cX0_writes 61 = .ok (.iconst 1, 1) := dk_4 (dk_at dksX0_writes_2 14 rfl rfl)
theorem dX0_writes_62 : decode cX0_writes 62 = .ok (.isub, 1) := dk_100 (dk_at dksX0_writes_2 15 rfl rfl)
theorem dX0_writes_63 : decode cX0_writes 63 = .ok (.iastore, 1) := dk_79 (dk_at dksX0_writes_2 16 rfl rfl)
theorem dX0_writes_64 : decode cX0_writes 64 = .ok (.aload_n 0, 1) := dk_42 (dk_at dksX0_writes_2 17 rfl rfl)
theorem dX0_writes_65 : decode cX0_writes 65 = .ok (.iload_n 3, 1) := dk_29 (dk_at dksX0_writes_2 18 rfl rfl)
theorem dX0_writes_66 : decode cX0_writes 66 = .ok (.iconst 3, 1) := dk_6 (dk_at dksX0_writes_2 19 rfl rfl)
theorem dX0_writes_67 : decode cX0_writes 67 = .ok (.iadd, 1) := dk_96 (dk_at dksX0_writes_2 20 rfl rfl)
theorem dX0_writes_68 : decode cX0_writes 68 = .ok (.aload_n 0, 1) := dk_42 (dk_at dksX0_writes_2 21 rfl rfl)
theorem dX0_writes_69 : decode cX0_writes 69 = .ok (.iconst 2, 1) := dk_5 (dk_at dksX0_writes_2 22 rfl rfl)
theorem dX0_writes_70 : decode cX0_writes 70 = .ok (.iaload, 1) := dk_46 (dk_at dksX0_writes_2 23 rfl rfl)
theorem dX0_writes_71 : decode cX0_writes 71 = .ok (.iastore, 1) := dk_79 (dk_at dksX0_writes_3 0 rfl rfl)
theorem dX0_writes_72 : decode cX0_writes 72 = .ok (.aload_n 0, 1) := dk_42 (dk_at dksX0_writes_3 1 rfl rfl)
theorem dX0_writes_73 : decode cX0_writes 73 = .ok (.bipush 28, 2) := dk_16 28 (dk_at dksX0_writes_3 2 rfl rfl)
theorem dX0_writes_75 : decode cX0_writes 75 = .ok (.dup2, 1) := dk_92 (dk_at dksX0_writes_3 4 rfl rfl)
theorem dX0_writes_76 : decode cX0_writes 76 = .ok (.iaload, 1) := dk_46 (dk_at dksX0_writes_3 5 rfl rfl)
theorem dX0_writes_77 : decode cX0_writes 77 = .ok (.iconst 1, 1) := dk_4 (dk_at dksX0_writes_3 6 rfl rfl)
theorem dX0_writes_78 : decode cX0_writes 78 = .ok (.iadd, 1) := dk_96 (dk_at dksX0_writes_3 7 rfl rfl)
theorem dX0_writes_79 : decode cX0_writes 79 = .ok (.iastore, 1) := dk_79 (dk_at dksX0_writes_3 8 rfl rfl)
theorem dX0_writes_80 : decode cX0_writes 80 = .ok (.return_, 1) := dk_177 (dk_at dksX0_writes_3 9 rfl rfl)
abbrev cX0_redeem : ByteArray := prog_1_method_32_code
def yX0_redeem : MethodName := ⟨RX0, "redeem", "(I)I"⟩
def dkwX0_redeem_0 : List UInt8 := [42, 27, 182, 0, 211, 154, 0, 5, 2, 172, 42, 180, 0, 21, 182, 0, 205, 42, 27, 182, 0, 214, 172]
abbrev dktX0_redeem_0 : List UInt8 := dkwX0_redeem_0 ++ []
theorem dksX0_redeem_0 : cX0_redeem.data.toList.drop 0 = dktX0_redeem_0 := by decide +kernel
theorem dX0_redeem_0 : decode cX0_redeem 0 = .ok (.aload_n 0, 1) := dk_42 (dk_at dksX0_redeem_0 0 rfl rfl)
theorem dX0_redeem_1 : decode cX0_redeem 1 = .ok (.iload_n 1, 1) := dk_27 (dk_at dksX0_redeem_0 1 rfl rfl)
theorem dX0_redeem_2 : decode cX0_redeem 2 = .ok (.invokevirtual 211, 3) := dk_182 0 211 (dk_at dksX0_redeem_0 2 rfl rfl)
theorem dX0_redeem_5 : decode cX0_redeem 5 = .ok (.ifCond .ne 5, 3) := dk_154 0 5 (dk_at dksX0_redeem_0 5 rfl rfl)
theorem dX0_redeem_8 : decode cX0_redeem 8 = .ok (.iconst (-1), 1) := dk_2 (dk_at dksX0_redeem_0 8 rfl rfl)
theorem dX0_redeem_9 : decode cX0_redeem 9 = .ok (.ireturn, 1) := dk_172 (dk_at dksX0_redeem_0 9 rfl rfl)
theorem dX0_redeem_10 : decode cX0_redeem 10 = .ok (.aload_n 0, 1) := dk_42 (dk_at dksX0_redeem_0 10 rfl rfl)
theorem dX0_redeem_11 : decode cX0_redeem 11 = .ok (.getfield 21, 3) := dk_180 0 21 (dk_at dksX0_redeem_0 11 rfl rfl)
theorem dX0_redeem_14 : decode cX0_redeem 14 = .ok (.invokevirtual 205, 3) := dk_182 0 205 (dk_at dksX0_redeem_0 14 rfl rfl)
theorem dX0_redeem_17 : decode cX0_redeem 17 = .ok (.aload_n 0, 1) := dk_42 (dk_at dksX0_redeem_0 17 rfl rfl)
theorem dX0_redeem_18 : decode cX0_redeem 18 = .ok (.iload_n 1, 1) := dk_27 (dk_at dksX0_redeem_0 18 rfl rfl)
theorem dX0_redeem_19 : decode cX0_redeem 19 = .ok (.invokevirtual 214, 3) := dk_182 0 214 (dk_at dksX0_redeem_0 19 rfl rfl)
theorem dX0_redeem_22 : decode cX0_redeem 22 = .ok (.ireturn, 1) := dk_172 (dk_at dksX0_redeem_0 22 rfl rfl)
abbrev cX0_canRedeem : ByteArray := prog_1_method_29_code
def yX0_canRedeem : MethodName := ⟨RX0, "canRedeem", "(I)Z"⟩
def dkwX0_canRedeem_1 : List UInt8 := [180, 0, 21, 180, 0, 88, 27, 182, 0, 198, 161, 0, 7, 4, 167, 0, 4, 3, 172]
abbrev dktX0_canRedeem_1 : List UInt8 := dkwX0_canRedeem_1 ++ []
def dkwX0_canRedeem_0 : List UInt8 := [42, 27, 182, 0, 195, 153, 0, 35, 42, 180, 0, 21, 180, 0, 88, 5, 46, 42, 42, 182, 0, 175, 42]
abbrev dktX0_canRedeem_0 : List UInt8 := dkwX0_canRedeem_0 ++ dktX0_canRedeem_1
theorem dksX0_canRedeem_0 : cX0_canRedeem.data.toList.drop 0 = dktX0_canRedeem_0 := by decide +kernel
theorem dksX0_canRedeem_1 : cX0_canRedeem.data.toList.drop 23 = dktX0_canRedeem_1 := dk_seg dksX0_canRedeem_0 23 rfl rfl
theorem dX0_canRedeem_0 : decode cX0_canRedeem 0 = .ok (.aload_n 0, 1) := dk_42 (dk_at dksX0_canRedeem_0 0 rfl rfl)
theorem dX0_canRedeem_1 : decode cX0_canRedeem 1 = .ok (.iload_n 1, 1) := dk_27 (dk_at dksX0_canRedeem_0 1 rfl rfl)
theorem dX0_canRedeem_2 : decode cX0_canRedeem 2 = .ok (.invokevirtual 195, 3) := dk_182 0 195 (dk_at dksX0_canRedeem_0 2 rfl rfl)
theorem dX0_canRedeem_5 : decode cX0_canRedeem 5 = .ok (.ifCond .eq 35, 3) := dk_153 0 35 (dk_at dksX0_canRedeem_0 5 rfl rfl)
theorem dX0_canRedeem_8 : decode cX0_canRedeem 8 = .ok (.aload_n 0, 1) := dk_42 (dk_at dksX0_canRedeem_0 8 rfl rfl)
theorem dX0_canRedeem_9 : decode cX0_canRedeem 9 = .ok (.getfield 21, 3) := dk_180 0 21 (dk_at dksX0_canRedeem_0 9 rfl rfl)
theorem dX0_canRedeem_12 : decode cX0_canRedeem 12 = .ok (.getfield 88, 3) := dk_180 0 88 (dk_at dksX0_canRedeem_0 12 rfl rfl)
theorem dX0_canRedeem_15 : decode cX0_canRedeem 15 = .ok (.iconst 2, 1) := dk_5 (dk_at dksX0_canRedeem_0 15 rfl rfl)
theorem dX0_canRedeem_16 : decode cX0_canRedeem 16 = .ok (.iaload, 1) := dk_46 (dk_at dksX0_canRedeem_0 16 rfl rfl)
theorem dX0_canRedeem_17 : decode cX0_canRedeem 17 = .ok (.aload_n 0, 1) := dk_42 (dk_at dksX0_canRedeem_0 17 rfl rfl)
theorem dX0_canRedeem_18 : decode cX0_canRedeem 18 = .ok (.aload_n 0, 1) := dk_42 (dk_at dksX0_canRedeem_0 18 rfl rfl)
theorem dX0_canRedeem_19 : decode cX0_canRedeem 19 = .ok (.invokevirtual 175, 3) := dk_182 0 175 (dk_at dksX0_canRedeem_0 19 rfl rfl)
theorem dX0_canRedeem_22 : decode cX0_canRedeem 22 = .ok (.aload_n 0, 1) := dk_42 (dk_at dksX0_canRedeem_0 22 rfl rfl)
theorem dX0_canRedeem_23 : decode cX0_canRedeem 23 = .ok (.getfield 21, 3) := dk_180 0 21 (dk_at dksX0_canRedeem_1 0 rfl rfl)
theorem dX0_canRedeem_26 : decode cX0_canRedeem 26 = .ok (.getfield 88, 3) := dk_180 0 88 (dk_at dksX0_canRedeem_1 3 rfl rfl)
theorem dX0_canRedeem_29 : decode cX0_canRedeem 29 = .ok (.iload_n 1, 1) := dk_27 (dk_at dksX0_canRedeem_1 6 rfl rfl)
theorem dX0_canRedeem_30 : decode cX0_canRedeem 30 = .ok (.invokevirtual 198, 3) := dk_182 0 198 (dk_at dksX0_canRedeem_1 7 rfl rfl)
theorem dX0_canRedeem_33 : decode cX0_canRedeem 33 = .ok (.if_icmp .lt 7, 3) := dk_161 0 7 (dk_at dksX0_canRedeem_1 10 rfl rfl)
theorem dX0_canRedeem_36 : decode cX0_canRedeem 36 = .ok (.iconst 1, 1) := dk_4 (dk_at dksX0_canRedeem_1 13 rfl rfl)
theorem dX0_canRedeem_37 : decode cX0_canRedeem 37 = .ok (.goto 4, 3) := dk_167 0 4 (dk_at dksX0_canRedeem_1 14 rfl rfl)
theorem dX0_canRedeem_40 : decode cX0_canRedeem 40 = .ok (.iconst 0, 1) := dk_3 (dk_at dksX0_canRedeem_1 17 rfl rfl)
theorem dX0_canRedeem_41 : decode cX0_canRedeem 41 = .ok (.ireturn, 1) := dk_172 (dk_at dksX0_canRedeem_1 18 rfl rfl)
abbrev cX0_isPawned : ByteArray := prog_1_method_9_code
def yX0_isPawned : MethodName := ⟨RX0, "isPawned", "(I)Z"⟩
def dkwX0_isPawned_1 : List UInt8 := [167, 0, 4, 3, 172]
abbrev dktX0_isPawned_1 : List UInt8 := dkwX0_isPawned_1 ++ []
def dkwX0_isPawned_0 : List UInt8 := [42, 27, 182, 0, 85, 153, 0, 22, 42, 180, 0, 21, 180, 0, 88, 7, 27, 96, 46, 4, 160, 0, 7, 4]
abbrev dktX0_isPawned_0 : List UInt8 := dkwX0_isPawned_0 ++ dktX0_isPawned_1
theorem dksX0_isPawned_0 : cX0_isPawned.data.toList.drop 0 = dktX0_isPawned_0 := by decide +kernel
theorem dksX0_isPawned_1 : cX0_isPawned.data.toList.drop 24 = dktX0_isPawned_1 := dk_seg dksX0_isPawned_0 24 rfl rfl
theorem dX0_isPawned_0 : decode cX0_isPawned 0 = .ok (.aload_n 0, 1) := dk_42 (dk_at dksX0_isPawned_0 0 rfl rfl)
theorem dX0_isPawned_1 : decode cX0_isPawned 1 = .ok (.iload_n 1, 1) := dk_27 (dk_at dksX0_isPawned_0 1 rfl rfl)
theorem dX0_isPawned_2 : decode cX0_isPawned 2 = .ok (.invokevirtual 85, 3) := dk_182 0 85 (dk_at dksX0_isPawned_0 2 rfl rfl)
theorem dX0_isPawned_5 : decode cX0_isPawned 5 = .ok (.ifCond .eq 22, 3) := dk_153 0 22 (dk_at dksX0_isPawned_0 5 rfl rfl)
theorem dX0_isPawned_8 : decode cX0_isPawned 8 = .ok (.aload_n 0, 1) := dk_42 (dk_at dksX0_isPawned_0 8 rfl rfl)
theorem dX0_isPawned_9 : decode cX0_isPawned 9 = .ok (.getfield 21, 3) := dk_180 0 21 (dk_at dksX0_isPawned_0 9 rfl rfl)
theorem dX0_isPawned_12 : decode cX0_isPawned 12 = .ok (.getfield 88, 3) := dk_180 0 88 (dk_at dksX0_isPawned_0 12 rfl rfl)
theorem dX0_isPawned_15 : decode cX0_isPawned 15 = .ok (.iconst 4, 1) := dk_7 (dk_at dksX0_isPawned_0 15 rfl rfl)
theorem dX0_isPawned_16 : decode cX0_isPawned 16 = .ok (.iload_n 1, 1) := dk_27 (dk_at dksX0_isPawned_0 16 rfl rfl)
theorem dX0_isPawned_17 : decode cX0_isPawned 17 = .ok (.iadd, 1) := dk_96 (dk_at dksX0_isPawned_0 17 rfl rfl)
theorem dX0_isPawned_18 : decode cX0_isPawned 18 = .ok (.iaload, 1) := dk_46 (dk_at dksX0_isPawned_0 18 rfl rfl)
theorem dX0_isPawned_19 : decode cX0_isPawned 19 = .ok (.iconst 1, 1) := dk_4 (dk_at dksX0_isPawned_0 19 rfl rfl)
theorem dX0_isPawned_20 : decode cX0_isPawned 20 = .ok (.if_icmp .ne 7, 3) := dk_160 0 7 (dk_at dksX0_isPawned_0 20 rfl rfl)
theorem dX0_isPawned_23 : decode cX0_isPawned 23 = .ok (.iconst 1, 1) := dk_4 (dk_at dksX0_isPawned_0 23 rfl rfl)
theorem dX0_isPawned_24 : decode cX0_isPawned 24 = .ok (.goto 4, 3) := dk_167 0 4 (dk_at dksX0_isPawned_1 0 rfl rfl)
theorem dX0_isPawned_27 : decode cX0_isPawned 27 = .ok (.iconst 0, 1) := dk_3 (dk_at dksX0_isPawned_1 3 rfl rfl)
theorem dX0_isPawned_28 : decode cX0_isPawned 28 = .ok (.ireturn, 1) := dk_172 (dk_at dksX0_isPawned_1 4 rfl rfl)
abbrev cX0_rules : ByteArray := prog_1_method_18_code
def yX0_rules : MethodName := ⟨RX0, "rules", "()LQuarrelsPawned$Text;"⟩
def dkwX0_rules_1 : List UInt8 := [180, 0, 115, 42, 180, 0, 21, 180, 0, 70, 5, 46, 50, 176]
abbrev dktX0_rules_1 : List UInt8 := dkwX0_rules_1 ++ []
def dkwX0_rules_0 : List UInt8 := [42, 180, 0, 21, 180, 0, 70, 5, 46, 2, 160, 0, 9, 178, 0, 137, 167, 0, 20, 42, 180, 0, 21]
abbrev dktX0_rules_0 : List UInt8 := dkwX0_rules_0 ++ dktX0_rules_1
theorem dksX0_rules_0 : cX0_rules.data.toList.drop 0 = dktX0_rules_0 := by decide +kernel
theorem dksX0_rules_1 : cX0_rules.data.toList.drop 23 = dktX0_rules_1 := dk_seg dksX0_rules_0 23 rfl rfl
theorem dX0_rules_0 : decode cX0_rules 0 = .ok (.aload_n 0, 1) := dk_42 (dk_at dksX0_rules_0 0 rfl rfl)
theorem dX0_rules_1 : decode cX0_rules 1 = .ok (.getfield 21, 3) := dk_180 0 21 (dk_at dksX0_rules_0 1 rfl rfl)
theorem dX0_rules_4 : decode cX0_rules 4 = .ok (.getfield 70, 3) := dk_180 0 70 (dk_at dksX0_rules_0 4 rfl rfl)
theorem dX0_rules_7 : decode cX0_rules 7 = .ok (.iconst 2, 1) := dk_5 (dk_at dksX0_rules_0 7 rfl rfl)
theorem dX0_rules_8 : decode cX0_rules 8 = .ok (.iaload, 1) := dk_46 (dk_at dksX0_rules_0 8 rfl rfl)
theorem dX0_rules_9 : decode cX0_rules 9 = .ok (.iconst (-1), 1) := dk_2 (dk_at dksX0_rules_0 9 rfl rfl)
theorem dX0_rules_10 : decode cX0_rules 10 = .ok (.if_icmp .ne 9, 3) := dk_160 0 9 (dk_at dksX0_rules_0 10 rfl rfl)
theorem dX0_rules_13 : decode cX0_rules 13 = .ok (.getstatic 137, 3) := dk_178 0 137 (dk_at dksX0_rules_0 13 rfl rfl)
theorem dX0_rules_16 : decode cX0_rules 16 = .ok (.goto 20, 3) := dk_167 0 20 (dk_at dksX0_rules_0 16 rfl rfl)
theorem dX0_rules_19 : decode cX0_rules 19 = .ok (.aload_n 0, 1) := dk_42 (dk_at dksX0_rules_0 19 rfl rfl)
theorem dX0_rules_20 : decode cX0_rules 20 = .ok (.getfield 21, 3) := dk_180 0 21 (dk_at dksX0_rules_0 20 rfl rfl)
theorem dX0_rules_23 : decode cX0_rules 23 = .ok (.getfield 115, 3) := dk_180 0 115 (dk_at dksX0_rules_1 0 rfl rfl)
theorem dX0_rules_26 : decode cX0_rules 26 = .ok (.aload_n 0, 1) := dk_42 (dk_at dksX0_rules_1 3 rfl rfl)
theorem dX0_rules_27 : decode cX0_rules 27 = .ok (.getfield 21, 3) := dk_180 0 21 (dk_at dksX0_rules_1 4 rfl rfl)
theorem dX0_rules_30 : decode cX0_rules 30 = .ok (.getfield 70, 3) := dk_180 0 70 (dk_at dksX0_rules_1 7 rfl rfl)
theorem dX0_rules_33 : decode cX0_rules 33 = .ok (.iconst 2, 1) := dk_5 (dk_at dksX0_rules_1 10 rfl rfl)
theorem dX0_rules_34 : decode cX0_rules 34 = .ok (.iaload, 1) := dk_46 (dk_at dksX0_rules_1 11 rfl rfl)
theorem dX0_rules_35 : decode cX0_rules 35 = .ok (.aaload, 1) := dk_50 (dk_at dksX0_rules_1 12 rfl rfl)
theorem dX0_rules_36 : decode cX0_rules 36 = .ok (.areturn, 1) := dk_176 (dk_at dksX0_rules_1 13 rfl rfl)
abbrev cX0_duesBy : ByteArray := prog_1_method_22_code
def yX0_duesBy : MethodName := ⟨RX0, "duesBy", "(LQuarrelsPawned$Text;[II)I"⟩
def dkwX0_duesBy_0 : List UInt8 := [42, 44, 29, 182, 0, 167, 42, 43, 44, 5, 46, 182, 0, 171, 172]
abbrev dktX0_duesBy_0 : List UInt8 := dkwX0_duesBy_0 ++ []
theorem dksX0_duesBy_0 : cX0_duesBy.data.toList.drop 0 = dktX0_duesBy_0 := by decide +kernel
theorem dX0_duesBy_0 : decode cX0_duesBy 0 = .ok (.aload_n 0, 1) := dk_42 (dk_at dksX0_duesBy_0 0 rfl rfl)
theorem dX0_duesBy_1 : decode cX0_duesBy 1 = .ok (.aload_n 2, 1) := dk_44 (dk_at dksX0_duesBy_0 1 rfl rfl)
theorem dX0_duesBy_2 : decode cX0_duesBy 2 = .ok (.iload_n 3, 1) := dk_29 (dk_at dksX0_duesBy_0 2 rfl rfl)
theorem dX0_duesBy_3 : decode cX0_duesBy 3 = .ok (.invokevirtual 167, 3) := dk_182 0 167 (dk_at dksX0_duesBy_0 3 rfl rfl)
theorem dX0_duesBy_6 : decode cX0_duesBy 6 = .ok (.aload_n 0, 1) := dk_42 (dk_at dksX0_duesBy_0 6 rfl rfl)
theorem dX0_duesBy_7 : decode cX0_duesBy 7 = .ok (.aload_n 1, 1) := dk_43 (dk_at dksX0_duesBy_0 7 rfl rfl)
theorem dX0_duesBy_8 : decode cX0_duesBy 8 = .ok (.aload_n 2, 1) := dk_44 (dk_at dksX0_duesBy_0 8 rfl rfl)
theorem dX0_duesBy_9 : decode cX0_duesBy 9 = .ok (.iconst 2, 1) := dk_5 (dk_at dksX0_duesBy_0 9 rfl rfl)
theorem dX0_duesBy_10 : decode cX0_duesBy 10 = .ok (.iaload, 1) := dk_46 (dk_at dksX0_duesBy_0 10 rfl rfl)
theorem dX0_duesBy_11 : decode cX0_duesBy 11 = .ok (.invokevirtual 171, 3) := dk_182 0 171 (dk_at dksX0_duesBy_0 11 rfl rfl)
theorem dX0_duesBy_14 : decode cX0_duesBy 14 = .ok (.ireturn, 1) := dk_172 (dk_at dksX0_duesBy_0 14 rfl rfl)
abbrev cX0_namesOf : ByteArray := prog_1_method_20_code
def yX0_namesOf : MethodName := ⟨RX0, "namesOf", "([II)V"⟩
def dkwX0_namesOf_3 : List UInt8 := [16, 8, 184, 0, 145, 177]
abbrev dktX0_namesOf_3 : List UInt8 := dkwX0_namesOf_3 ++ []
def dkwX0_namesOf_2 : List UInt8 := [28, 96, 46, 79, 42, 180, 0, 39, 8, 43, 28, 184, 0, 141, 79, 43, 16, 20, 42, 180, 0, 39, 16, 8]
abbrev dktX0_namesOf_2 : List UInt8 := dkwX0_namesOf_2 ++ dktX0_namesOf_3
def dkwX0_namesOf_1 : List UInt8 := [79, 42, 180, 0, 39, 6, 42, 180, 0, 21, 180, 0, 101, 28, 46, 79, 42, 180, 0, 39, 7, 43, 16, 20]
abbrev dktX0_namesOf_1 : List UInt8 := dkwX0_namesOf_1 ++ dktX0_namesOf_2
def dkwX0_namesOf_0 : List UInt8 := [42, 180, 0, 39, 3, 43, 3, 46, 79, 42, 180, 0, 39, 4, 43, 6, 46, 79, 42, 180, 0, 39, 5, 28]
abbrev dktX0_namesOf_0 : List UInt8 := dkwX0_namesOf_0 ++ dktX0_namesOf_1
theorem dksX0_namesOf_0 : cX0_namesOf.data.toList.drop 0 = dktX0_namesOf_0 := by decide +kernel
theorem dksX0_namesOf_1 : cX0_namesOf.data.toList.drop 24 = dktX0_namesOf_1 := dk_seg dksX0_namesOf_0 24 rfl rfl
theorem dksX0_namesOf_2 : cX0_namesOf.data.toList.drop 48 = dktX0_namesOf_2 := dk_seg dksX0_namesOf_1 24 rfl rfl
theorem dksX0_namesOf_3 : cX0_namesOf.data.toList.drop 72 = dktX0_namesOf_3 := dk_seg dksX0_namesOf_2 24 rfl rfl
theorem dX0_namesOf_0 : decode cX0_namesOf 0 = .ok (.aload_n 0, 1) := dk_42 (dk_at dksX0_namesOf_0 0 rfl rfl)
theorem dX0_namesOf_1 : decode cX0_namesOf 1 = .ok (.getfield 39, 3) := dk_180 0 39 (dk_at dksX0_namesOf_0 1 rfl rfl)
theorem dX0_namesOf_4 : decode cX0_namesOf 4 = .ok (.iconst 0, 1) := dk_3 (dk_at dksX0_namesOf_0 4 rfl rfl)
theorem dX0_namesOf_5 : decode cX0_namesOf 5 = .ok (.aload_n 1, 1) := dk_43 (dk_at dksX0_namesOf_0 5 rfl rfl)
theorem dX0_namesOf_6 : decode cX0_namesOf 6 = .ok (.iconst 0, 1) := dk_3 (dk_at dksX0_namesOf_0 6 rfl rfl)
theorem dX0_namesOf_7 : decode cX0_namesOf 7 = .ok (.iaload, 1) := dk_46 (dk_at dksX0_namesOf_0 7 rfl rfl)
theorem dX0_namesOf_8 : decode cX0_namesOf 8 = .ok (.iastore, 1) := dk_79 (dk_at dksX0_namesOf_0 8 rfl rfl)
theorem dX0_namesOf_9 : decode cX0_namesOf 9 = .ok (.aload_n 0, 1) := dk_42 (dk_at dksX0_namesOf_0 9 rfl rfl)
theorem dX0_namesOf_10 : decode cX0_namesOf 10 = .ok (.getfield 39, 3) := dk_180 0 39 (dk_at dksX0_namesOf_0 10 rfl rfl)
theorem dX0_namesOf_13 : decode cX0_namesOf 13 = .ok (.iconst 1, 1) := dk_4 (dk_at dksX0_namesOf_0 13 rfl rfl)
theorem dX0_namesOf_14 : decode cX0_namesOf 14 = .ok (.aload_n 1, 1) := dk_43 (dk_at dksX0_namesOf_0 14 rfl rfl)
theorem dX0_namesOf_15 : decode cX0_namesOf 15 = .ok (.iconst 3, 1) := dk_6 (dk_at dksX0_namesOf_0 15 rfl rfl)
theorem dX0_namesOf_16 : decode cX0_namesOf 16 = .ok (.iaload, 1) := dk_46 (dk_at dksX0_namesOf_0 16 rfl rfl)
theorem dX0_namesOf_17 : decode cX0_namesOf 17 = .ok (.iastore, 1) := dk_79 (dk_at dksX0_namesOf_0 17 rfl rfl)
theorem dX0_namesOf_18 : decode cX0_namesOf 18 = .ok (.aload_n 0, 1) := dk_42 (dk_at dksX0_namesOf_0 18 rfl rfl)
theorem dX0_namesOf_19 : decode cX0_namesOf 19 = .ok (.getfield 39, 3) := dk_180 0 39 (dk_at dksX0_namesOf_0 19 rfl rfl)
theorem dX0_namesOf_22 : decode cX0_namesOf 22 = .ok (.iconst 2, 1) := dk_5 (dk_at dksX0_namesOf_0 22 rfl rfl)
theorem dX0_namesOf_23 : decode cX0_namesOf 23 = .ok (.iload_n 2, 1) := dk_28 (dk_at dksX0_namesOf_0 23 rfl rfl)
theorem dX0_namesOf_24 : decode cX0_namesOf 24 = .ok (.iastore, 1) := dk_79 (dk_at dksX0_namesOf_1 0 rfl rfl)
theorem dX0_namesOf_25 : decode cX0_namesOf 25 = .ok (.aload_n 0, 1) := dk_42 (dk_at dksX0_namesOf_1 1 rfl rfl)
theorem dX0_namesOf_26 : decode cX0_namesOf 26 = .ok (.getfield 39, 3) := dk_180 0 39 (dk_at dksX0_namesOf_1 2 rfl rfl)
theorem dX0_namesOf_29 : decode cX0_namesOf 29 = .ok (.iconst 3, 1) := dk_6 (dk_at dksX0_namesOf_1 5 rfl rfl)
theorem dX0_namesOf_30 : decode cX0_namesOf 30 = .ok (.aload_n 0, 1) := dk_42 (dk_at dksX0_namesOf_1 6 rfl rfl)
theorem dX0_namesOf_31 : decode cX0_namesOf 31 = .ok (.getfield 21, 3) := dk_180 0 21 (dk_at dksX0_namesOf_1 7 rfl rfl)
theorem dX0_namesOf_34 : decode cX0_namesOf 34 = .ok (.getfield 101, 3) := dk_180 0 101 (dk_at dksX0_namesOf_1 10 rfl rfl)
theorem dX0_namesOf_37 : decode cX0_namesOf 37 = .ok (.iload_n 2, 1) := dk_28 (dk_at dksX0_namesOf_1 13 rfl rfl)
theorem dX0_namesOf_38 : decode cX0_namesOf 38 = .ok (.iaload, 1) := dk_46 (dk_at dksX0_namesOf_1 14 rfl rfl)
theorem dX0_namesOf_39 : decode cX0_namesOf 39 = .ok (.iastore, 1) := dk_79 (dk_at dksX0_namesOf_1 15 rfl rfl)
theorem dX0_namesOf_40 : decode cX0_namesOf 40 = .ok (.aload_n 0, 1) := dk_42 (dk_at dksX0_namesOf_1 16 rfl rfl)
theorem dX0_namesOf_41 : decode cX0_namesOf 41 = .ok (.getfield 39, 3) := dk_180 0 39 (dk_at dksX0_namesOf_1 17 rfl rfl)
theorem dX0_namesOf_44 : decode cX0_namesOf 44 = .ok (.iconst 4, 1) := dk_7 (dk_at dksX0_namesOf_1 20 rfl rfl)
theorem dX0_namesOf_45 : decode cX0_namesOf 45 = .ok (.aload_n 1, 1) := dk_43 (dk_at dksX0_namesOf_1 21 rfl rfl)
theorem dX0_namesOf_46 : decode cX0_namesOf 46 = .ok (.bipush 20, 2) := dk_16 20 (dk_at dksX0_namesOf_1 22 rfl rfl)
theorem dX0_namesOf_48 : decode cX0_namesOf 48 = .ok (.iload_n 2, 1) := dk_28 (dk_at dksX0_namesOf_2 0 rfl rfl)
theorem dX0_namesOf_49 : decode cX0_namesOf 49 = .ok (.iadd, 1) := dk_96 (dk_at dksX0_namesOf_2 1 rfl rfl)
theorem dX0_namesOf_50 : decode cX0_namesOf 50 = .ok (.iaload, 1) := dk_46 (dk_at dksX0_namesOf_2 2 rfl rfl)
theorem dX0_namesOf_51 : decode cX0_namesOf 51 = .ok (.iastore, 1) := dk_79 (dk_at dksX0_namesOf_2 3 rfl rfl)
theorem dX0_namesOf_52 : decode cX0_namesOf 52 = .ok (.aload_n 0, 1) := dk_42 (dk_at dksX0_namesOf_2 4 rfl rfl)
theorem dX0_namesOf_53 : decode cX0_namesOf 53 = .ok (.getfield 39, 3) := dk_180 0 39 (dk_at dksX0_namesOf_2 5 rfl rfl)
theorem dX0_namesOf_56 : decode cX0_namesOf 56 = .ok (.iconst 5, 1) := dk_8 (dk_at dksX0_namesOf_2 8 rfl rfl)
theorem dX0_namesOf_57 : decode cX0_namesOf 57 = .ok (.aload_n 1, 1) := dk_43 (dk_at dksX0_namesOf_2 9 rfl rfl)
theorem dX0_namesOf_58 : decode cX0_namesOf 58 = .ok (.iload_n 2, 1) := dk_28 (dk_at dksX0_namesOf_2 10 rfl rfl)
theorem dX0_namesOf_59 : decode cX0_namesOf 59 = .ok (.invokestatic 141, 3) := dk_184 0 141 (dk_at dksX0_namesOf_2 11 rfl rfl)
theorem dX0_namesOf_62 : decode cX0_namesOf 62 = .ok (.iastore, 1) := dk_79 (dk_at dksX0_namesOf_2 14 rfl rfl)
theorem dX0_namesOf_63 : decode cX0_namesOf 63 = .ok (.aload_n 1, 1) := dk_43 (dk_at dksX0_namesOf_2 15 rfl rfl)
theorem dX0_namesOf_64 : decode cX0_namesOf 64 = .ok (.bipush 20, 2) := dk_16 20 (dk_at dksX0_namesOf_2 16 rfl rfl)
theorem dX0_namesOf_66 : decode cX0_namesOf 66 = .ok (.aload_n 0, 1) := dk_42 (dk_at dksX0_namesOf_2 18 rfl rfl)
theorem dX0_namesOf_67 : decode cX0_namesOf 67 = .ok (.getfield 39, 3) := dk_180 0 39 (dk_at dksX0_namesOf_2 19 rfl rfl)
theorem dX0_namesOf_70 : decode cX0_namesOf 70 = .ok (.bipush 8, 2) := dk_16 8 (dk_at dksX0_namesOf_2 22 rfl rfl)
theorem dX0_namesOf_72 : decode cX0_namesOf 72 = .ok (.bipush 8, 2) := dk_16 8 (dk_at dksX0_namesOf_3 0 rfl rfl)
theorem dX0_namesOf_74 : decode cX0_namesOf 74 = .ok (.invokestatic 145, 3) := dk_184 0 145 (dk_at dksX0_namesOf_3 2 rfl rfl)
theorem dX0_namesOf_77 : decode cX0_namesOf 77 = .ok (.return_, 1) := dk_177 (dk_at dksX0_namesOf_3 5 rfl rfl)
abbrev cX0_heldOf : ByteArray := prog_1_method_19_code
def yX0_heldOf : MethodName := ⟨RX0, "heldOf", "([II)I"⟩
def dkwX0_heldOf_0 : List UInt8 := [42, 7, 27, 96, 46, 4, 160, 0, 16, 42, 3, 46, 42, 16, 12, 27, 96, 46, 100, 167, 0, 4, 3, 172]
abbrev dktX0_heldOf_0 : List UInt8 := dkwX0_heldOf_0 ++ []
theorem dksX0_heldOf_0 : cX0_heldOf.data.toList.drop 0 = dktX0_heldOf_0 := by decide +kernel
theorem dX0_heldOf_0 : decode cX0_heldOf 0 = .ok (.aload_n 0, 1) := dk_42 (dk_at dksX0_heldOf_0 0 rfl rfl)
theorem dX0_heldOf_1 : decode cX0_heldOf 1 = .ok (.iconst 4, 1) := dk_7 (dk_at dksX0_heldOf_0 1 rfl rfl)
theorem dX0_heldOf_2 : decode cX0_heldOf 2 = .ok (.iload_n 1, 1) := dk_27 (dk_at dksX0_heldOf_0 2 rfl rfl)
theorem dX0_heldOf_3 : decode cX0_heldOf 3 = .ok (.iadd, 1) := dk_96 (dk_at dksX0_heldOf_0 3 rfl rfl)
theorem dX0_heldOf_4 : decode cX0_heldOf 4 = .ok (.iaload, 1) := dk_46 (dk_at dksX0_heldOf_0 4 rfl rfl)
theorem dX0_heldOf_5 : decode cX0_heldOf 5 = .ok (.iconst 1, 1) := dk_4 (dk_at dksX0_heldOf_0 5 rfl rfl)
theorem dX0_heldOf_6 : decode cX0_heldOf 6 = .ok (.if_icmp .ne 16, 3) := dk_160 0 16 (dk_at dksX0_heldOf_0 6 rfl rfl)
theorem dX0_heldOf_9 : decode cX0_heldOf 9 = .ok (.aload_n 0, 1) := dk_42 (dk_at dksX0_heldOf_0 9 rfl rfl)
theorem dX0_heldOf_10 : decode cX0_heldOf 10 = .ok (.iconst 0, 1) := dk_3 (dk_at dksX0_heldOf_0 10 rfl rfl)
theorem dX0_heldOf_11 : decode cX0_heldOf 11 = .ok (.iaload, 1) := dk_46 (dk_at dksX0_heldOf_0 11 rfl rfl)
theorem dX0_heldOf_12 : decode cX0_heldOf 12 = .ok (.aload_n 0, 1) := dk_42 (dk_at dksX0_heldOf_0 12 rfl rfl)
theorem dX0_heldOf_13 : decode cX0_heldOf 13 = .ok (.bipush 12, 2) := dk_16 12 (dk_at dksX0_heldOf_0 13 rfl rfl)
theorem dX0_heldOf_15 : decode cX0_heldOf 15 = .ok (.iload_n 1, 1) := dk_27 (dk_at dksX0_heldOf_0 15 rfl rfl)
theorem dX0_heldOf_16 : decode cX0_heldOf 16 = .ok (.iadd, 1) := dk_96 (dk_at dksX0_heldOf_0 16 rfl rfl)
theorem dX0_heldOf_17 : decode cX0_heldOf 17 = .ok (.iaload, 1) := dk_46 (dk_at dksX0_heldOf_0 17 rfl rfl)
theorem dX0_heldOf_18 : decode cX0_heldOf 18 = .ok (.isub, 1) := dk_100 (dk_at dksX0_heldOf_0 18 rfl rfl)
theorem dX0_heldOf_19 : decode cX0_heldOf 19 = .ok (.goto 4, 3) := dk_167 0 4 (dk_at dksX0_heldOf_0 19 rfl rfl)
theorem dX0_heldOf_22 : decode cX0_heldOf 22 = .ok (.iconst 0, 1) := dk_3 (dk_at dksX0_heldOf_0 22 rfl rfl)
theorem dX0_heldOf_23 : decode cX0_heldOf 23 = .ok (.ireturn, 1) := dk_172 (dk_at dksX0_heldOf_0 23 rfl rfl)
abbrev cX0_duesOfNames : ByteArray := prog_1_method_21_code
def yX0_duesOfNames : MethodName := ⟨RX0, "duesOfNames", "(LQuarrelsPawned$Text;I)I"⟩
def dkwX0_duesOfNames_2 : List UInt8 := [3, 50, 42, 180, 0, 39, 185, 0, 157, 2, 0, 3, 17, 39, 15, 184, 0, 163, 172]
abbrev dktX0_duesOfNames_2 : List UInt8 := dkwX0_duesOfNames_2 ++ []
def dkwX0_duesOfNames_1 : List UInt8 := [180, 0, 39, 8, 46, 42, 180, 0, 39, 6, 46, 104, 16, 50, 108, 96, 133, 167, 0, 18, 43, 180, 0, 151]
abbrev dktX0_duesOfNames_1 : List UInt8 := dkwX0_duesOfNames_1 ++ dktX0_duesOfNames_2
def dkwX0_duesOfNames_0 : List UInt8 := [42, 180, 0, 39, 16, 6, 28, 79, 43, 180, 0, 151, 3, 50, 199, 0, 30, 42, 180, 0, 39, 6, 46, 42]
abbrev dktX0_duesOfNames_0 : List UInt8 := dkwX0_duesOfNames_0 ++ dktX0_duesOfNames_1
theorem dksX0_duesOfNames_0 : cX0_duesOfNames.data.toList.drop 0 = dktX0_duesOfNames_0 := by decide +kernel
theorem dksX0_duesOfNames_1 : cX0_duesOfNames.data.toList.drop 24 = dktX0_duesOfNames_1 := dk_seg dksX0_duesOfNames_0 24 rfl rfl
theorem dksX0_duesOfNames_2 : cX0_duesOfNames.data.toList.drop 48 = dktX0_duesOfNames_2 := dk_seg dksX0_duesOfNames_1 24 rfl rfl
theorem dX0_duesOfNames_0 : decode cX0_duesOfNames 0 = .ok (.aload_n 0, 1) := dk_42 (dk_at dksX0_duesOfNames_0 0 rfl rfl)
theorem dX0_duesOfNames_1 : decode cX0_duesOfNames 1 = .ok (.getfield 39, 3) := dk_180 0 39 (dk_at dksX0_duesOfNames_0 1 rfl rfl)
theorem dX0_duesOfNames_4 : decode cX0_duesOfNames 4 = .ok (.bipush 6, 2) := dk_16 6 (dk_at dksX0_duesOfNames_0 4 rfl rfl)
theorem dX0_duesOfNames_6 : decode cX0_duesOfNames 6 = .ok (.iload_n 2, 1) := dk_28 (dk_at dksX0_duesOfNames_0 6 rfl rfl)
theorem dX0_duesOfNames_7 : decode cX0_duesOfNames 7 = .ok (.iastore, 1) := dk_79 (dk_at dksX0_duesOfNames_0 7 rfl rfl)
theorem dX0_duesOfNames_8 : decode cX0_duesOfNames 8 = .ok (.aload_n 1, 1) := dk_43 (dk_at dksX0_duesOfNames_0 8 rfl rfl)
theorem dX0_duesOfNames_9 : decode cX0_duesOfNames 9 = .ok (.getfield 151, 3) := dk_180 0 151 (dk_at dksX0_duesOfNames_0 9 rfl rfl)
theorem dX0_duesOfNames_12 : decode cX0_duesOfNames 12 = .ok (.iconst 0, 1) := dk_3 (dk_at dksX0_duesOfNames_0 12 rfl rfl)
theorem dX0_duesOfNames_13 : decode cX0_duesOfNames 13 = .ok (.aaload, 1) := dk_50 (dk_at dksX0_duesOfNames_0 13 rfl rfl)
theorem dX0_duesOfNames_14 : decode cX0_duesOfNames 14 = .ok (.ifnonnull 30, 3) := dk_199 0 30 (dk_at dksX0_duesOfNames_0 14 rfl rfl)
theorem dX0_duesOfNames_17 : decode cX0_duesOfNames 17 = .ok (.aload_n 0, 1) := dk_42 (dk_at dksX0_duesOfNames_0 17 rfl rfl)
theorem dX0_duesOfNames_18 : decode cX0_duesOfNames 18 = .ok (.getfield 39, 3) := dk_180 0 39 (dk_at dksX0_duesOfNames_0 18 rfl rfl)
theorem dX0_duesOfNames_21 : decode cX0_duesOfNames 21 = .ok (.iconst 3, 1) := dk_6 (dk_at dksX0_duesOfNames_0 21 rfl rfl)
theorem dX0_duesOfNames_22 : decode cX0_duesOfNames 22 = .ok (.iaload, 1) := dk_46 (dk_at dksX0_duesOfNames_0 22 rfl rfl)
theorem dX0_duesOfNames_23 : decode cX0_duesOfNames 23 = .ok (.aload_n 0, 1) := dk_42 (dk_at dksX0_duesOfNames_0 23 rfl rfl)
theorem dX0_duesOfNames_24 : decode cX0_duesOfNames 24 = .ok (.getfield 39, 3) := dk_180 0 39 (dk_at dksX0_duesOfNames_1 0 rfl rfl)
theorem dX0_duesOfNames_27 : decode cX0_duesOfNames 27 = .ok (.iconst 5, 1) := dk_8 (dk_at dksX0_duesOfNames_1 3 rfl rfl)
theorem dX0_duesOfNames_28 : decode cX0_duesOfNames 28 = .ok (.iaload, 1) := dk_46 (dk_at dksX0_duesOfNames_1 4 rfl rfl)
theorem dX0_duesOfNames_29 : decode cX0_duesOfNames 29 = .ok (.aload_n 0, 1) := dk_42 (dk_at dksX0_duesOfNames_1 5 rfl rfl)
theorem dX0_duesOfNames_30 : decode cX0_duesOfNames 30 = .ok (.getfield 39, 3) := dk_180 0 39 (dk_at dksX0_duesOfNames_1 6 rfl rfl)
theorem dX0_duesOfNames_33 : decode cX0_duesOfNames 33 = .ok (.iconst 3, 1) := dk_6 (dk_at dksX0_duesOfNames_1 9 rfl rfl)
theorem dX0_duesOfNames_34 : decode cX0_duesOfNames 34 = .ok (.iaload, 1) := dk_46 (dk_at dksX0_duesOfNames_1 10 rfl rfl)
theorem dX0_duesOfNames_35 : decode cX0_duesOfNames 35 = .ok (.imul, 1) := dk_104 (dk_at dksX0_duesOfNames_1 11 rfl rfl)
theorem dX0_duesOfNames_36 : decode cX0_duesOfNames 36 = .ok (.bipush 50, 2) := dk_16 50 (dk_at dksX0_duesOfNames_1 12 rfl rfl)
theorem dX0_duesOfNames_38 : decode cX0_duesOfNames 38 = .ok (.idiv, 1) := dk_108 (dk_at dksX0_duesOfNames_1 14 rfl rfl)
theorem dX0_duesOfNames_39 : decode cX0_duesOfNames 39 = .ok (.iadd, 1) := dk_96 (dk_at dksX0_duesOfNames_1 15 rfl rfl)
theorem dX0_duesOfNames_40 : decode cX0_duesOfNames 40 = .ok (.i2l, 1) := dk_133 (dk_at dksX0_duesOfNames_1 16 rfl rfl)
theorem dX0_duesOfNames_41 : decode cX0_duesOfNames 41 = .ok (.goto 18, 3) := dk_167 0 18 (dk_at dksX0_duesOfNames_1 17 rfl rfl)
theorem dX0_duesOfNames_44 : decode cX0_duesOfNames 44 = .ok (.aload_n 1, 1) := dk_43 (dk_at dksX0_duesOfNames_1 20 rfl rfl)
theorem dX0_duesOfNames_45 : decode cX0_duesOfNames 45 = .ok (.getfield 151, 3) := dk_180 0 151 (dk_at dksX0_duesOfNames_1 21 rfl rfl)
theorem dX0_duesOfNames_48 : decode cX0_duesOfNames 48 = .ok (.iconst 0, 1) := dk_3 (dk_at dksX0_duesOfNames_2 0 rfl rfl)
theorem dX0_duesOfNames_49 : decode cX0_duesOfNames 49 = .ok (.aaload, 1) := dk_50 (dk_at dksX0_duesOfNames_2 1 rfl rfl)
theorem dX0_duesOfNames_50 : decode cX0_duesOfNames 50 = .ok (.aload_n 0, 1) := dk_42 (dk_at dksX0_duesOfNames_2 2 rfl rfl)
theorem dX0_duesOfNames_51 : decode cX0_duesOfNames 51 = .ok (.getfield 39, 3) := dk_180 0 39 (dk_at dksX0_duesOfNames_2 3 rfl rfl)
theorem dX0_duesOfNames_54 : decode cX0_duesOfNames 54 = .ok (.invokeinterface 157 2, 5) := by decide +kernel
theorem dX0_duesOfNames_59 : decode cX0_duesOfNames 59 = .ok (.iconst 0, 1) := dk_3 (dk_at dksX0_duesOfNames_2 11 rfl rfl)
theorem dX0_duesOfNames_60 : decode cX0_duesOfNames 60 = .ok (.sipush 9999, 3) := dk_17 39 15 (dk_at dksX0_duesOfNames_2 12 rfl rfl)
theorem dX0_duesOfNames_63 : decode cX0_duesOfNames 63 = .ok (.invokestatic 163, 3) := dk_184 0 163 (dk_at dksX0_duesOfNames_2 15 rfl rfl)
theorem dX0_duesOfNames_66 : decode cX0_duesOfNames 66 = .ok (.ireturn, 1) := dk_172 (dk_at dksX0_duesOfNames_2 18 rfl rfl)
abbrev cX0_held : ByteArray := prog_1_method_3_code
def yX0_held : MethodName := ⟨RX0, "held", "(JII)I"⟩
def dkwX0_held_0 : List UInt8 := [28, 133, 29, 133, 30, 184, 0, 3, 184, 0, 9, 136, 172]
abbrev dktX0_held_0 : List UInt8 := dkwX0_held_0 ++ []
theorem dksX0_held_0 : cX0_held.data.toList.drop 0 = dktX0_held_0 := by decide +kernel
theorem dX0_held_0 : decode cX0_held 0 = .ok (.iload_n 2, 1) := dk_28 (dk_at dksX0_held_0 0 rfl rfl)
theorem dX0_held_1 : decode cX0_held 1 = .ok (.i2l, 1) := dk_133 (dk_at dksX0_held_0 1 rfl rfl)
theorem dX0_held_2 : decode cX0_held 2 = .ok (.iload_n 3, 1) := dk_29 (dk_at dksX0_held_0 2 rfl rfl)
theorem dX0_held_3 : decode cX0_held 3 = .ok (.i2l, 1) := dk_133 (dk_at dksX0_held_0 3 rfl rfl)
theorem dX0_held_4 : decode cX0_held 4 = .ok (.lload_n 0, 1) := dk_30 (dk_at dksX0_held_0 4 rfl rfl)
theorem dX0_held_5 : decode cX0_held 5 = .ok (.invokestatic 3, 3) := dk_184 0 3 (dk_at dksX0_held_0 5 rfl rfl)
theorem dX0_held_8 : decode cX0_held 8 = .ok (.invokestatic 9, 3) := dk_184 0 9 (dk_at dksX0_held_0 8 rfl rfl)
theorem dX0_held_11 : decode cX0_held 11 = .ok (.l2i, 1) := dk_136 (dk_at dksX0_held_0 11 rfl rfl)
theorem dX0_held_12 : decode cX0_held 12 = .ok (.ireturn, 1) := dk_172 (dk_at dksX0_held_0 12 rfl rfl)
abbrev cX0_redeems : ByteArray := prog_1_method_30_code
def yX0_redeems : MethodName := ⟨RX0, "redeems", "(I)I"⟩
def dkwX0_redeems_1 : List UInt8 := [5, 92, 46, 28, 100, 79, 42, 180, 0, 21, 180, 0, 88, 27, 5, 184, 0, 191, 28, 172]
abbrev dktX0_redeems_1 : List UInt8 := dkwX0_redeems_1 ++ []
def dkwX0_redeems_0 : List UInt8 := [42, 42, 182, 0, 175, 42, 180, 0, 21, 180, 0, 88, 27, 182, 0, 198, 61, 42, 180, 0, 21, 180, 0, 88]
abbrev dktX0_redeems_0 : List UInt8 := dkwX0_redeems_0 ++ dktX0_redeems_1
theorem dksX0_redeems_0 : cX0_redeems.data.toList.drop 0 = dktX0_redeems_0 := by decide +kernel
theorem dksX0_redeems_1 : cX0_redeems.data.toList.drop 24 = dktX0_redeems_1 := dk_seg dksX0_redeems_0 24 rfl rfl
theorem dX0_redeems_0 : decode cX0_redeems 0 = .ok (.aload_n 0, 1) := dk_42 (dk_at dksX0_redeems_0 0 rfl rfl)
theorem dX0_redeems_1 : decode cX0_redeems 1 = .ok (.aload_n 0, 1) := dk_42 (dk_at dksX0_redeems_0 1 rfl rfl)
theorem dX0_redeems_2 : decode cX0_redeems 2 = .ok (.invokevirtual 175, 3) := dk_182 0 175 (dk_at dksX0_redeems_0 2 rfl rfl)
theorem dX0_redeems_5 : decode cX0_redeems 5 = .ok (.aload_n 0, 1) := dk_42 (dk_at dksX0_redeems_0 5 rfl rfl)
theorem dX0_redeems_6 : decode cX0_redeems 6 = .ok (.getfield 21, 3) := dk_180 0 21 (dk_at dksX0_redeems_0 6 rfl rfl)
theorem dX0_redeems_9 : decode cX0_redeems 9 = .ok (.getfield 88, 3) := dk_180 0 88 (dk_at dksX0_redeems_0 9 rfl rfl)
theorem dX0_redeems_12 : decode cX0_redeems 12 = .ok (.iload_n 1, 1) := dk_27 (dk_at dksX0_redeems_0 12 rfl rfl)
theorem dX0_redeems_13 : decode cX0_redeems 13 = .ok (.invokevirtual 198, 3) := dk_182 0 198 (dk_at dksX0_redeems_0 13 rfl rfl)
theorem dX0_redeems_16 : decode cX0_redeems 16 = .ok (.istore_n 2, 1) := dk_61 (dk_at dksX0_redeems_0 16 rfl rfl)
theorem dX0_redeems_17 : decode cX0_redeems 17 = .ok (.aload_n 0, 1) := dk_42 (dk_at dksX0_redeems_0 17 rfl rfl)
theorem dX0_redeems_18 : decode cX0_redeems 18 = .ok (.getfield 21, 3) := dk_180 0 21 (dk_at dksX0_redeems_0 18 rfl rfl)
theorem dX0_redeems_21 : decode cX0_redeems 21 = .ok (.getfield 88, 3) := dk_180 0 88 (dk_at dksX0_redeems_0 21 rfl rfl)
theorem dX0_redeems_24 : decode cX0_redeems 24 = .ok (.iconst 2, 1) := dk_5 (dk_at dksX0_redeems_1 0 rfl rfl)
theorem dX0_redeems_25 : decode cX0_redeems 25 = .ok (.dup2, 1) := dk_92 (dk_at dksX0_redeems_1 1 rfl rfl)
theorem dX0_redeems_26 : decode cX0_redeems 26 = .ok (.iaload, 1) := dk_46 (dk_at dksX0_redeems_1 2 rfl rfl)
theorem dX0_redeems_27 : decode cX0_redeems 27 = .ok (.iload_n 2, 1) := dk_28 (dk_at dksX0_redeems_1 3 rfl rfl)
theorem dX0_redeems_28 : decode cX0_redeems 28 = .ok (.isub, 1) := dk_100 (dk_at dksX0_redeems_1 4 rfl rfl)
theorem dX0_redeems_29 : decode cX0_redeems 29 = .ok (.iastore, 1) := dk_79 (dk_at dksX0_redeems_1 5 rfl rfl)
theorem dX0_redeems_30 : decode cX0_redeems 30 = .ok (.aload_n 0, 1) := dk_42 (dk_at dksX0_redeems_1 6 rfl rfl)
theorem dX0_redeems_31 : decode cX0_redeems 31 = .ok (.getfield 21, 3) := dk_180 0 21 (dk_at dksX0_redeems_1 7 rfl rfl)
theorem dX0_redeems_34 : decode cX0_redeems 34 = .ok (.getfield 88, 3) := dk_180 0 88 (dk_at dksX0_redeems_1 10 rfl rfl)
theorem dX0_redeems_37 : decode cX0_redeems 37 = .ok (.iload_n 1, 1) := dk_27 (dk_at dksX0_redeems_1 13 rfl rfl)
theorem dX0_redeems_38 : decode cX0_redeems 38 = .ok (.iconst 2, 1) := dk_5 (dk_at dksX0_redeems_1 14 rfl rfl)
theorem dX0_redeems_39 : decode cX0_redeems 39 = .ok (.invokestatic 191, 3) := dk_184 0 191 (dk_at dksX0_redeems_1 15 rfl rfl)
theorem dX0_redeems_42 : decode cX0_redeems 42 = .ok (.iload_n 2, 1) := dk_28 (dk_at dksX0_redeems_1 18 rfl rfl)
theorem dX0_redeems_43 : decode cX0_redeems 43 = .ok (.ireturn, 1) := dk_172 (dk_at dksX0_redeems_1 19 rfl rfl)
abbrev cX0_earn : ByteArray := prog_1_method_34_code
def yX0_earn : MethodName := ⟨RX0, "earn", "(I)Z"⟩
def dkwX0_earn_1 : List UInt8 := [180, 0, 21, 182, 0, 205, 42, 180, 0, 21, 180, 0, 88, 5, 92, 46, 27, 96, 79, 4, 172]
abbrev dktX0_earn_1 : List UInt8 := dkwX0_earn_1 ++ []
def dkwX0_earn_0 : List UInt8 := [27, 4, 17, 3, 231, 184, 0, 77, 153, 0, 11, 42, 27, 182, 0, 217, 154, 0, 5, 3, 172, 42]
abbrev dktX0_earn_0 : List UInt8 := dkwX0_earn_0 ++ dktX0_earn_1
theorem dksX0_earn_0 : cX0_earn.data.toList.drop 0 = dktX0_earn_0 := by decide +kernel
theorem dksX0_earn_1 : cX0_earn.data.toList.drop 22 = dktX0_earn_1 := dk_seg dksX0_earn_0 22 rfl rfl
theorem dX0_earn_0 : decode cX0_earn 0 = .ok (.iload_n 1, 1) := dk_27 (dk_at dksX0_earn_0 0 rfl rfl)
theorem dX0_earn_1 : decode cX0_earn 1 = .ok (.iconst 1, 1) := dk_4 (dk_at dksX0_earn_0 1 rfl rfl)
theorem dX0_earn_2 : decode cX0_earn 2 = .ok (.sipush 999, 3) := dk_17 3 231 (dk_at dksX0_earn_0 2 rfl rfl)
theorem dX0_earn_5 : decode cX0_earn 5 = .ok (.invokestatic 77, 3) := dk_184 0 77 (dk_at dksX0_earn_0 5 rfl rfl)
theorem dX0_earn_8 : decode cX0_earn 8 = .ok (.ifCond .eq 11, 3) := dk_153 0 11 (dk_at dksX0_earn_0 8 rfl rfl)
theorem dX0_earn_11 : decode cX0_earn 11 = .ok (.aload_n 0, 1) := dk_42 (dk_at dksX0_earn_0 11 rfl rfl)
theorem dX0_earn_12 : decode cX0_earn 12 = .ok (.iload_n 1, 1) := dk_27 (dk_at dksX0_earn_0 12 rfl rfl)
theorem dX0_earn_13 : decode cX0_earn 13 = .ok (.invokevirtual 217, 3) := dk_182 0 217 (dk_at dksX0_earn_0 13 rfl rfl)
theorem dX0_earn_16 : decode cX0_earn 16 = .ok (.ifCond .ne 5, 3) := dk_154 0 5 (dk_at dksX0_earn_0 16 rfl rfl)
theorem dX0_earn_19 : decode cX0_earn 19 = .ok (.iconst 0, 1) := dk_3 (dk_at dksX0_earn_0 19 rfl rfl)
theorem dX0_earn_20 : decode cX0_earn 20 = .ok (.ireturn, 1) := dk_172 (dk_at dksX0_earn_0 20 rfl rfl)
theorem dX0_earn_21 : decode cX0_earn 21 = .ok (.aload_n 0, 1) := dk_42 (dk_at dksX0_earn_0 21 rfl rfl)
theorem dX0_earn_22 : decode cX0_earn 22 = .ok (.getfield 21, 3) := dk_180 0 21 (dk_at dksX0_earn_1 0 rfl rfl)
theorem dX0_earn_25 : decode cX0_earn 25 = .ok (.invokevirtual 205, 3) := dk_182 0 205 (dk_at dksX0_earn_1 3 rfl rfl)
theorem dX0_earn_28 : decode cX0_earn 28 = .ok (.aload_n 0, 1) := dk_42 (dk_at dksX0_earn_1 6 rfl rfl)
theorem dX0_earn_29 : decode cX0_earn 29 = .ok (.getfield 21, 3) := dk_180 0 21 (dk_at dksX0_earn_1 7 rfl rfl)
theorem dX0_earn_32 : decode cX0_earn 32 = .ok (.getfield 88, 3) := dk_180 0 88 (dk_at dksX0_earn_1 10 rfl rfl)
theorem dX0_earn_35 : decode cX0_earn 35 = .ok (.iconst 2, 1) := dk_5 (dk_at dksX0_earn_1 13 rfl rfl)
theorem dX0_earn_36 : decode cX0_earn 36 = .ok (.dup2, 1) := dk_92 (dk_at dksX0_earn_1 14 rfl rfl)
theorem dX0_earn_37 : decode cX0_earn 37 = .ok (.iaload, 1) := dk_46 (dk_at dksX0_earn_1 15 rfl rfl)
theorem dX0_earn_38 : decode cX0_earn 38 = .ok (.iload_n 1, 1) := dk_27 (dk_at dksX0_earn_1 16 rfl rfl)
theorem dX0_earn_39 : decode cX0_earn 39 = .ok (.iadd, 1) := dk_96 (dk_at dksX0_earn_1 17 rfl rfl)
theorem dX0_earn_40 : decode cX0_earn 40 = .ok (.iastore, 1) := dk_79 (dk_at dksX0_earn_1 18 rfl rfl)
theorem dX0_earn_41 : decode cX0_earn 41 = .ok (.iconst 1, 1) := dk_4 (dk_at dksX0_earn_1 19 rfl rfl)
theorem dX0_earn_42 : decode cX0_earn 42 = .ok (.ireturn, 1) := dk_172 (dk_at dksX0_earn_1 20 rfl rfl)
abbrev cX0_canEarn : ByteArray := prog_1_method_33_code
def yX0_canEarn : MethodName := ⟨RX0, "canEarn", "(I)Z"⟩
def dkwX0_canEarn_0 : List UInt8 := [42, 180, 0, 21, 180, 0, 88, 5, 46, 27, 96, 17, 39, 15, 163, 0, 7, 4, 167, 0, 4, 3, 172]
abbrev dktX0_canEarn_0 : List UInt8 := dkwX0_canEarn_0 ++ []
theorem dksX0_canEarn_0 : cX0_canEarn.data.toList.drop 0 = dktX0_canEarn_0 := by decide +kernel
theorem dX0_canEarn_0 : decode cX0_canEarn 0 = .ok (.aload_n 0, 1) := dk_42 (dk_at dksX0_canEarn_0 0 rfl rfl)
theorem dX0_canEarn_1 : decode cX0_canEarn 1 = .ok (.getfield 21, 3) := dk_180 0 21 (dk_at dksX0_canEarn_0 1 rfl rfl)
theorem dX0_canEarn_4 : decode cX0_canEarn 4 = .ok (.getfield 88, 3) := dk_180 0 88 (dk_at dksX0_canEarn_0 4 rfl rfl)
theorem dX0_canEarn_7 : decode cX0_canEarn 7 = .ok (.iconst 2, 1) := dk_5 (dk_at dksX0_canEarn_0 7 rfl rfl)
theorem dX0_canEarn_8 : decode cX0_canEarn 8 = .ok (.iaload, 1) := dk_46 (dk_at dksX0_canEarn_0 8 rfl rfl)
theorem dX0_canEarn_9 : decode cX0_canEarn 9 = .ok (.iload_n 1, 1) := dk_27 (dk_at dksX0_canEarn_0 9 rfl rfl)
theorem dX0_canEarn_10 : decode cX0_canEarn 10 = .ok (.iadd, 1) := dk_96 (dk_at dksX0_canEarn_0 10 rfl rfl)
theorem dX0_canEarn_11 : decode cX0_canEarn 11 = .ok (.sipush 9999, 3) := dk_17 39 15 (dk_at dksX0_canEarn_0 11 rfl rfl)
theorem dX0_canEarn_14 : decode cX0_canEarn 14 = .ok (.if_icmp .gt 7, 3) := dk_163 0 7 (dk_at dksX0_canEarn_0 14 rfl rfl)
theorem dX0_canEarn_17 : decode cX0_canEarn 17 = .ok (.iconst 1, 1) := dk_4 (dk_at dksX0_canEarn_0 17 rfl rfl)
theorem dX0_canEarn_18 : decode cX0_canEarn 18 = .ok (.goto 4, 3) := dk_167 0 4 (dk_at dksX0_canEarn_0 18 rfl rfl)
theorem dX0_canEarn_21 : decode cX0_canEarn 21 = .ok (.iconst 0, 1) := dk_3 (dk_at dksX0_canEarn_0 21 rfl rfl)
theorem dX0_canEarn_22 : decode cX0_canEarn 22 = .ok (.ireturn, 1) := dk_172 (dk_at dksX0_canEarn_0 22 rfl rfl)
abbrev cX0_day : ByteArray := prog_1_method_38_code
def yX0_day : MethodName := ⟨RX0, "day", "(I)I"⟩
def dkwX0_day_2 : List UInt8 := [180, 0, 21, 180, 0, 88, 182, 0, 231, 96, 61, 132, 3, 1, 167, 255, 227, 28, 172]
abbrev dktX0_day_2 : List UInt8 := dkwX0_day_2 ++ []
def dkwX0_day_1 : List UInt8 := [164, 0, 5, 2, 172, 3, 61, 3, 62, 29, 27, 162, 0, 30, 42, 180, 0, 21, 182, 0, 205, 28, 42, 42]
abbrev dktX0_day_1 : List UInt8 := dkwX0_day_1 ++ dktX0_day_2
def dkwX0_day_0 : List UInt8 := [27, 4, 16, 60, 184, 0, 77, 153, 0, 20, 42, 180, 0, 21, 180, 0, 88, 3, 46, 27, 96, 17, 39, 15]
abbrev dktX0_day_0 : List UInt8 := dkwX0_day_0 ++ dktX0_day_1
theorem dksX0_day_0 : cX0_day.data.toList.drop 0 = dktX0_day_0 := by decide +kernel
theorem dksX0_day_1 : cX0_day.data.toList.drop 24 = dktX0_day_1 := dk_seg dksX0_day_0 24 rfl rfl
theorem dksX0_day_2 : cX0_day.data.toList.drop 48 = dktX0_day_2 := dk_seg dksX0_day_1 24 rfl rfl
theorem dX0_day_0 : decode cX0_day 0 = .ok (.iload_n 1, 1) := dk_27 (dk_at dksX0_day_0 0 rfl rfl)
theorem dX0_day_1 : decode cX0_day 1 = .ok (.iconst 1, 1) := dk_4 (dk_at dksX0_day_0 1 rfl rfl)
theorem dX0_day_2 : decode cX0_day 2 = .ok (.bipush 60, 2) := dk_16 60 (dk_at dksX0_day_0 2 rfl rfl)
theorem dX0_day_4 : decode cX0_day 4 = .ok (.invokestatic 77, 3) := dk_184 0 77 (dk_at dksX0_day_0 4 rfl rfl)
theorem dX0_day_7 : decode cX0_day 7 = .ok (.ifCond .eq 20, 3) := dk_153 0 20 (dk_at dksX0_day_0 7 rfl rfl)
theorem dX0_day_10 : decode cX0_day 10 = .ok (.aload_n 0, 1) := dk_42 (dk_at dksX0_day_0 10 rfl rfl)
theorem dX0_day_11 : decode cX0_day 11 = .ok (.getfield 21, 3) := dk_180 0 21 (dk_at dksX0_day_0 11 rfl rfl)
theorem dX0_day_14 : decode cX0_day 14 = .ok (.getfield 88, 3) := dk_180 0 88 (dk_at dksX0_day_0 14 rfl rfl)
theorem dX0_day_17 : decode cX0_day 17 = .ok (.iconst 0, 1) := dk_3 (dk_at dksX0_day_0 17 rfl rfl)
theorem dX0_day_18 : decode cX0_day 18 = .ok (.iaload, 1) := dk_46 (dk_at dksX0_day_0 18 rfl rfl)
theorem dX0_day_19 : decode cX0_day 19 = .ok (.iload_n 1, 1) := dk_27 (dk_at dksX0_day_0 19 rfl rfl)
theorem dX0_day_20 : decode cX0_day 20 = .ok (.iadd, 1) := dk_96 (dk_at dksX0_day_0 20 rfl rfl)
theorem dX0_day_21 : decode cX0_day 21 = .ok (.sipush 9999, 3) := dk_17 39 15 (dk_at dksX0_day_0 21 rfl rfl)
theorem dX0_day_24 : decode cX0_day 24 = .ok (.if_icmp .le 5, 3) := dk_164 0 5 (dk_at dksX0_day_1 0 rfl rfl)
theorem dX0_day_27 : decode cX0_day 27 = .ok (.iconst (-1), 1) := dk_2 (dk_at dksX0_day_1 3 rfl rfl)
theorem dX0_day_28 : decode cX0_day 28 = .ok (.ireturn, 1) := dk_172 (dk_at dksX0_day_1 4 rfl rfl)
theorem dX0_day_29 : decode cX0_day 29 = .ok (.iconst 0, 1) := dk_3 (dk_at dksX0_day_1 5 rfl rfl)
theorem dX0_day_30 : decode cX0_day 30 = .ok (.istore_n 2, 1) := dk_61 (dk_at dksX0_day_1 6 rfl rfl)
theorem dX0_day_31 : decode cX0_day 31 = .ok (.iconst 0, 1) := dk_3 (dk_at dksX0_day_1 7 rfl rfl)
theorem dX0_day_32 : decode cX0_day 32 = .ok (.istore_n 3, 1) := dk_62 (dk_at dksX0_day_1 8 rfl rfl)
theorem dX0_day_33 : decode cX0_day 33 = .ok (.iload_n 3, 1) := dk_29 (dk_at dksX0_day_1 9 rfl rfl)
theorem dX0_day_34 : decode cX0_day 34 = .ok (.iload_n 1, 1) := dk_27 (dk_at dksX0_day_1 10 rfl rfl)
theorem dX0_day_35 : decode cX0_day 35 = .ok (.if_icmp .ge 30, 3) := dk_162 0 30 (dk_at dksX0_day_1 11 rfl rfl)
theorem dX0_day_38 : decode cX0_day 38 = .ok (.aload_n 0, 1) := dk_42 (dk_at dksX0_day_1 14 rfl rfl)
theorem dX0_day_39 : decode cX0_day 39 = .ok (.getfield 21, 3) := dk_180 0 21 (dk_at dksX0_day_1 15 rfl rfl)
theorem dX0_day_42 : decode cX0_day 42 = .ok (.invokevirtual 205, 3) := dk_182 0 205 (dk_at dksX0_day_1 18 rfl rfl)
theorem dX0_day_45 : decode cX0_day 45 = .ok (.iload_n 2, 1) := dk_28 (dk_at dksX0_day_1 21 rfl rfl)
theorem dX0_day_46 : decode cX0_day 46 = .ok (.aload_n 0, 1) := dk_42 (dk_at dksX0_day_1 22 rfl rfl)
theorem dX0_day_47 : decode cX0_day 47 = .ok (.aload_n 0, 1) := dk_42 (dk_at dksX0_day_1 23 rfl rfl)
theorem dX0_day_48 : decode cX0_day 48 = .ok (.getfield 21, 3) := dk_180 0 21 (dk_at dksX0_day_2 0 rfl rfl)
theorem dX0_day_51 : decode cX0_day 51 = .ok (.getfield 88, 3) := dk_180 0 88 (dk_at dksX0_day_2 3 rfl rfl)
theorem dX0_day_54 : decode cX0_day 54 = .ok (.invokevirtual 231, 3) := dk_182 0 231 (dk_at dksX0_day_2 6 rfl rfl)
theorem dX0_day_57 : decode cX0_day 57 = .ok (.iadd, 1) := dk_96 (dk_at dksX0_day_2 9 rfl rfl)
theorem dX0_day_58 : decode cX0_day 58 = .ok (.istore_n 2, 1) := dk_61 (dk_at dksX0_day_2 10 rfl rfl)
theorem dX0_day_59 : decode cX0_day 59 = .ok (.iinc 3 1, 3) := dk_132 3 1 (dk_at dksX0_day_2 11 rfl rfl)
theorem dX0_day_62 : decode cX0_day 62 = .ok (.goto (-29), 3) := dk_167 255 227 (dk_at dksX0_day_2 14 rfl rfl)
theorem dX0_day_65 : decode cX0_day 65 = .ok (.iload_n 2, 1) := dk_28 (dk_at dksX0_day_2 17 rfl rfl)
theorem dX0_day_66 : decode cX0_day 66 = .ok (.ireturn, 1) := dk_172 (dk_at dksX0_day_2 18 rfl rfl)
abbrev cX0_passes : ByteArray := prog_1_method_37_code
def yX0_passes : MethodName := ⟨RX0, "passes", "([I)I"⟩
def dkwX0_passes_4 : List UInt8 := [79, 28, 172]
abbrev dktX0_passes_4 : List UInt8 := dkwX0_passes_4 ++ []
def dkwX0_passes_3 : List UInt8 := [167, 0, 12, 43, 29, 6, 184, 0, 191, 132, 2, 1, 132, 3, 1, 167, 255, 214, 43, 3, 92, 46, 4, 96]
abbrev dktX0_passes_3 : List UInt8 := dkwX0_passes_3 ++ dktX0_passes_4
def dkwX0_passes_2 : List UInt8 := [162, 0, 40, 43, 7, 29, 96, 46, 4, 160, 0, 25, 42, 43, 29, 182, 0, 228, 4, 162, 0, 6]
abbrev dktX0_passes_2 : List UInt8 := dkwX0_passes_2 ++ dktX0_passes_3
def dkwX0_passes_1 : List UInt8 := [158, 0, 15, 43, 43, 42, 182, 0, 73, 184, 0, 222, 184, 0, 225, 3, 62, 29, 42, 182, 0, 73]
abbrev dktX0_passes_1 : List UInt8 := dkwX0_passes_1 ++ dktX0_passes_2
def dkwX0_passes_0 : List UInt8 := [3, 61, 43, 6, 43, 16, 10, 184, 0, 222, 7, 162, 0, 7, 4, 167, 0, 4, 3, 79, 42, 182, 0, 73]
abbrev dktX0_passes_0 : List UInt8 := dkwX0_passes_0 ++ dktX0_passes_1
theorem dksX0_passes_0 : cX0_passes.data.toList.drop 0 = dktX0_passes_0 := by decide +kernel
theorem dksX0_passes_1 : cX0_passes.data.toList.drop 24 = dktX0_passes_1 := dk_seg dksX0_passes_0 24 rfl rfl
theorem dksX0_passes_2 : cX0_passes.data.toList.drop 46 = dktX0_passes_2 := dk_seg dksX0_passes_1 22 rfl rfl
theorem dksX0_passes_3 : cX0_passes.data.toList.drop 68 = dktX0_passes_3 := dk_seg dksX0_passes_2 22 rfl rfl
theorem dksX0_passes_4 : cX0_passes.data.toList.drop 92 = dktX0_passes_4 := dk_seg dksX0_passes_3 24 rfl rfl
theorem dX0_passes_0 : decode cX0_passes 0 = .ok (.iconst 0, 1) := dk_3 (dk_at dksX0_passes_0 0 rfl rfl)
theorem dX0_passes_1 : decode cX0_passes 1 = .ok (.istore_n 2, 1) := dk_61 (dk_at dksX0_passes_0 1 rfl rfl)
theorem dX0_passes_2 : decode cX0_passes 2 = .ok (.aload_n 1, 1) := dk_43 (dk_at dksX0_passes_0 2 rfl rfl)
theorem dX0_passes_3 : decode cX0_passes 3 = .ok (.iconst 3, 1) := dk_6 (dk_at dksX0_passes_0 3 rfl rfl)
theorem dX0_passes_4 : decode cX0_passes 4 = .ok (.aload_n 1, 1) := dk_43 (dk_at dksX0_passes_0 4 rfl rfl)
theorem dX0_passes_5 : decode cX0_passes 5 = .ok (.bipush 10, 2) := dk_16 10 (dk_at dksX0_passes_0 5 rfl rfl)
theorem dX0_passes_7 : decode cX0_passes 7 = .ok (.invokestatic 222, 3) := dk_184 0 222 (dk_at dksX0_passes_0 7 rfl rfl)
theorem dX0_passes_10 : decode cX0_passes 10 = .ok (.iconst 4, 1) := dk_7 (dk_at dksX0_passes_0 10 rfl rfl)
theorem dX0_passes_11 : decode cX0_passes 11 = .ok (.if_icmp .ge 7, 3) := dk_162 0 7 (dk_at dksX0_passes_0 11 rfl rfl)
theorem dX0_passes_14 : decode cX0_passes 14 = .ok (.iconst 1, 1) := dk_4 (dk_at dksX0_passes_0 14 rfl rfl)
theorem dX0_passes_15 : decode cX0_passes 15 = .ok (.goto 4, 3) := dk_167 0 4 (dk_at dksX0_passes_0 15 rfl rfl)
theorem dX0_passes_18 : decode cX0_passes 18 = .ok (.iconst 0, 1) := dk_3 (dk_at dksX0_passes_0 18 rfl rfl)
theorem dX0_passes_19 : decode cX0_passes 19 = .ok (.iastore, 1) := dk_79 (dk_at dksX0_passes_0 19 rfl rfl)
theorem dX0_passes_20 : decode cX0_passes 20 = .ok (.aload_n 0, 1) := dk_42 (dk_at dksX0_passes_0 20 rfl rfl)
theorem dX0_passes_21 : decode cX0_passes 21 = .ok (.invokevirtual 73, 3) := dk_182 0 73 (dk_at dksX0_passes_0 21 rfl rfl)
theorem dX0_passes_24 : decode cX0_passes 24 = .ok (.ifCond .le 15, 3) := dk_158 0 15 (dk_at dksX0_passes_1 0 rfl rfl)
theorem dX0_passes_27 : decode cX0_passes 27 = .ok (.aload_n 1, 1) := dk_43 (dk_at dksX0_passes_1 3 rfl rfl)
theorem dX0_passes_28 : decode cX0_passes 28 = .ok (.aload_n 1, 1) := dk_43 (dk_at dksX0_passes_1 4 rfl rfl)
theorem dX0_passes_29 : decode cX0_passes 29 = .ok (.aload_n 0, 1) := dk_42 (dk_at dksX0_passes_1 5 rfl rfl)
theorem dX0_passes_30 : decode cX0_passes 30 = .ok (.invokevirtual 73, 3) := dk_182 0 73 (dk_at dksX0_passes_1 6 rfl rfl)
theorem dX0_passes_33 : decode cX0_passes 33 = .ok (.invokestatic 222, 3) := dk_184 0 222 (dk_at dksX0_passes_1 9 rfl rfl)
theorem dX0_passes_36 : decode cX0_passes 36 = .ok (.invokestatic 225, 3) := dk_184 0 225 (dk_at dksX0_passes_1 12 rfl rfl)
theorem dX0_passes_39 : decode cX0_passes 39 = .ok (.iconst 0, 1) := dk_3 (dk_at dksX0_passes_1 15 rfl rfl)
theorem dX0_passes_40 : decode cX0_passes 40 = .ok (.istore_n 3, 1) := dk_62 (dk_at dksX0_passes_1 16 rfl rfl)
theorem dX0_passes_41 : decode cX0_passes 41 = .ok (.iload_n 3, 1) := dk_29 (dk_at dksX0_passes_1 17 rfl rfl)
theorem dX0_passes_42 : decode cX0_passes 42 = .ok (.aload_n 0, 1) := dk_42 (dk_at dksX0_passes_1 18 rfl rfl)
theorem dX0_passes_43 : decode cX0_passes 43 = .ok (.invokevirtual 73, 3) := dk_182 0 73 (dk_at dksX0_passes_1 19 rfl rfl)
theorem dX0_passes_46 : decode cX0_passes 46 = .ok (.if_icmp .ge 40, 3) := dk_162 0 40 (dk_at dksX0_passes_2 0 rfl rfl)
theorem dX0_passes_49 : decode cX0_passes 49 = .ok (.aload_n 1, 1) := dk_43 (dk_at dksX0_passes_2 3 rfl rfl)
theorem dX0_passes_50 : decode cX0_passes 50 = .ok (.iconst 4, 1) := dk_7 (dk_at dksX0_passes_2 4 rfl rfl)
theorem dX0_passes_51 : decode cX0_passes 51 = .ok (.iload_n 3, 1) := dk_29 (dk_at dksX0_passes_2 5 rfl rfl)
theorem dX0_passes_52 : decode cX0_passes 52 = .ok (.iadd, 1) := dk_96 (dk_at dksX0_passes_2 6 rfl rfl)
theorem dX0_passes_53 : decode cX0_passes 53 = .ok (.iaload, 1) := dk_46 (dk_at dksX0_passes_2 7 rfl rfl)
theorem dX0_passes_54 : decode cX0_passes 54 = .ok (.iconst 1, 1) := dk_4 (dk_at dksX0_passes_2 8 rfl rfl)
theorem dX0_passes_55 : decode cX0_passes 55 = .ok (.if_icmp .ne 25, 3) := dk_160 0 25 (dk_at dksX0_passes_2 9 rfl rfl)
theorem dX0_passes_58 : decode cX0_passes 58 = .ok (.aload_n 0, 1) := dk_42 (dk_at dksX0_passes_2 12 rfl rfl)
theorem dX0_passes_59 : decode cX0_passes 59 = .ok (.aload_n 1, 1) := dk_43 (dk_at dksX0_passes_2 13 rfl rfl)
theorem dX0_passes_60 : decode cX0_passes 60 = .ok (.iload_n 3, 1) := dk_29 (dk_at dksX0_passes_2 14 rfl rfl)
theorem dX0_passes_61 : decode cX0_passes 61 = .ok (.invokevirtual 228, 3) := dk_182 0 228 (dk_at dksX0_passes_2 15 rfl rfl)
theorem dX0_passes_64 : decode cX0_passes 64 = .ok (.iconst 1, 1) := dk_4 (dk_at dksX0_passes_2 18 rfl rfl)
theorem dX0_passes_65 : decode cX0_passes 65 = .ok (.if_icmp .ge 6, 3) := dk_162 0 6 (dk_at dksX0_passes_2 19 rfl rfl)
theorem dX0_passes_68 : decode cX0_passes 68 = .ok (.goto 12, 3) := dk_167 0 12 (dk_at dksX0_passes_3 0 rfl rfl)
theorem dX0_passes_71 : decode cX0_passes 71 = .ok (.aload_n 1, 1) := dk_43 (dk_at dksX0_passes_3 3 rfl rfl)
theorem dX0_passes_72 : decode cX0_passes 72 = .ok (.iload_n 3, 1) := dk_29 (dk_at dksX0_passes_3 4 rfl rfl)
theorem dX0_passes_73 : decode cX0_passes 73 = .ok (.iconst 3, 1) := dk_6 (dk_at dksX0_passes_3 5 rfl rfl)
theorem dX0_passes_74 : decode cX0_passes 74 = .ok (.invokestatic 191, 3) := dk_184 0 191 (dk_at dksX0_passes_3 6 rfl rfl)
theorem dX0_passes_77 : decode cX0_passes 77 = .ok (.iinc 2 1, 3) := dk_132 2 1 (dk_at dksX0_passes_3 9 rfl rfl)
theorem dX0_passes_80 : decode cX0_passes 80 = .ok (.iinc 3 1, 3) := dk_132 3 1 (dk_at dksX0_passes_3 12 rfl rfl)
theorem dX0_passes_83 : decode cX0_passes 83 = .ok (.goto (-42), 3) := dk_167 255 214 (dk_at dksX0_passes_3 15 rfl rfl)
theorem dX0_passes_86 : decode cX0_passes 86 = .ok (.aload_n 1, 1) := dk_43 (dk_at dksX0_passes_3 18 rfl rfl)
theorem dX0_passes_87 : decode cX0_passes 87 = .ok (.iconst 0, 1) := dk_3 (dk_at dksX0_passes_3 19 rfl rfl)
theorem dX0_passes_88 : decode cX0_passes 88 = .ok (.dup2, 1) := dk_92 (dk_at dksX0_passes_3 20 rfl rfl)
theorem dX0_passes_89 : decode cX0_passes 89 = .ok (.iaload, 1) := dk_46 (dk_at dksX0_passes_3 21 rfl rfl)
theorem dX0_passes_90 : decode cX0_passes 90 = .ok (.iconst 1, 1) := dk_4 (dk_at dksX0_passes_3 22 rfl rfl)
theorem dX0_passes_91 : decode cX0_passes 91 = .ok (.iadd, 1) := dk_96 (dk_at dksX0_passes_3 23 rfl rfl)
theorem dX0_passes_92 : decode cX0_passes 92 = .ok (.iastore, 1) := dk_79 (dk_at dksX0_passes_4 0 rfl rfl)
theorem dX0_passes_93 : decode cX0_passes 93 = .ok (.iload_n 2, 1) := dk_28 (dk_at dksX0_passes_4 1 rfl rfl)
theorem dX0_passes_94 : decode cX0_passes 94 = .ok (.ireturn, 1) := dk_172 (dk_at dksX0_passes_4 2 rfl rfl)
abbrev cX0_drawn : ByteArray := prog_1_method_35_code
def yX0_drawn : MethodName := ⟨RX0, "drawn", "([II)I"⟩
def dkwX0_drawn_1 : List UInt8 := [28, 172]
abbrev dktX0_drawn_1 : List UInt8 := dkwX0_drawn_1 ++ []
def dkwX0_drawn_0 : List UInt8 := [42, 4, 46, 27, 112, 61, 42, 4, 42, 4, 46, 17, 2, 107, 104, 17, 1, 237, 96, 17, 120, 151, 112, 79]
abbrev dktX0_drawn_0 : List UInt8 := dkwX0_drawn_0 ++ dktX0_drawn_1
theorem dksX0_drawn_0 : cX0_drawn.data.toList.drop 0 = dktX0_drawn_0 := by decide +kernel
theorem dksX0_drawn_1 : cX0_drawn.data.toList.drop 24 = dktX0_drawn_1 := dk_seg dksX0_drawn_0 24 rfl rfl
theorem dX0_drawn_0 : decode cX0_drawn 0 = .ok (.aload_n 0, 1) := dk_42 (dk_at dksX0_drawn_0 0 rfl rfl)
theorem dX0_drawn_1 : decode cX0_drawn 1 = .ok (.iconst 1, 1) := dk_4 (dk_at dksX0_drawn_0 1 rfl rfl)
theorem dX0_drawn_2 : decode cX0_drawn 2 = .ok (.iaload, 1) := dk_46 (dk_at dksX0_drawn_0 2 rfl rfl)
theorem dX0_drawn_3 : decode cX0_drawn 3 = .ok (.iload_n 1, 1) := dk_27 (dk_at dksX0_drawn_0 3 rfl rfl)
theorem dX0_drawn_4 : decode cX0_drawn 4 = .ok (.irem, 1) := dk_112 (dk_at dksX0_drawn_0 4 rfl rfl)
theorem dX0_drawn_5 : decode cX0_drawn 5 = .ok (.istore_n 2, 1) := dk_61 (dk_at dksX0_drawn_0 5 rfl rfl)
theorem dX0_drawn_6 : decode cX0_drawn 6 = .ok (.aload_n 0, 1) := dk_42 (dk_at dksX0_drawn_0 6 rfl rfl)
theorem dX0_drawn_7 : decode cX0_drawn 7 = .ok (.iconst 1, 1) := dk_4 (dk_at dksX0_drawn_0 7 rfl rfl)
theorem dX0_drawn_8 : decode cX0_drawn 8 = .ok (.aload_n 0, 1) := dk_42 (dk_at dksX0_drawn_0 8 rfl rfl)
theorem dX0_drawn_9 : decode cX0_drawn 9 = .ok (.iconst 1, 1) := dk_4 (dk_at dksX0_drawn_0 9 rfl rfl)
theorem dX0_drawn_10 : decode cX0_drawn 10 = .ok (.iaload, 1) := dk_46 (dk_at dksX0_drawn_0 10 rfl rfl)
theorem dX0_drawn_11 : decode cX0_drawn 11 = .ok (.sipush 619, 3) := dk_17 2 107 (dk_at dksX0_drawn_0 11 rfl rfl)
theorem dX0_drawn_14 : decode cX0_drawn 14 = .ok (.imul, 1) := dk_104 (dk_at dksX0_drawn_0 14 rfl rfl)
theorem dX0_drawn_15 : decode cX0_drawn 15 = .ok (.sipush 493, 3) := dk_17 1 237 (dk_at dksX0_drawn_0 15 rfl rfl)
theorem dX0_drawn_18 : decode cX0_drawn 18 = .ok (.iadd, 1) := dk_96 (dk_at dksX0_drawn_0 18 rfl rfl)
theorem dX0_drawn_19 : decode cX0_drawn 19 = .ok (.sipush 30871, 3) := dk_17 120 151 (dk_at dksX0_drawn_0 19 rfl rfl)
theorem dX0_drawn_22 : decode cX0_drawn 22 = .ok (.irem, 1) := dk_112 (dk_at dksX0_drawn_0 22 rfl rfl)
theorem dX0_drawn_23 : decode cX0_drawn 23 = .ok (.iastore, 1) := dk_79 (dk_at dksX0_drawn_0 23 rfl rfl)
theorem dX0_drawn_24 : decode cX0_drawn 24 = .ok (.iload_n 2, 1) := dk_28 (dk_at dksX0_drawn_1 0 rfl rfl)
theorem dX0_drawn_25 : decode cX0_drawn 25 = .ok (.ireturn, 1) := dk_172 (dk_at dksX0_drawn_1 1 rfl rfl)
abbrev cX0_warms : ByteArray := prog_1_method_36_code
def yX0_warms : MethodName := ⟨RX0, "warms", "([II)V"⟩
def dkwX0_warms_2 : List UInt8 := [16, 20, 27, 96, 46, 42, 6, 46, 100, 184, 0, 220, 79, 177]
abbrev dktX0_warms_2 : List UInt8 := dkwX0_warms_2 ++ []
def dkwX0_warms_1 : List UInt8 := [184, 0, 188, 79, 167, 0, 32, 42, 7, 27, 96, 46, 4, 160, 0, 23, 42, 16, 20, 27, 96, 3, 42]
abbrev dktX0_warms_1 : List UInt8 := dkwX0_warms_1 ++ dktX0_warms_2
def dkwX0_warms_0 : List UInt8 := [42, 7, 27, 96, 46, 154, 0, 25, 42, 16, 20, 27, 96, 16, 9, 42, 16, 20, 27, 96, 46, 4, 96]
abbrev dktX0_warms_0 : List UInt8 := dkwX0_warms_0 ++ dktX0_warms_1
theorem dksX0_warms_0 : cX0_warms.data.toList.drop 0 = dktX0_warms_0 := by decide +kernel
theorem dksX0_warms_1 : cX0_warms.data.toList.drop 23 = dktX0_warms_1 := dk_seg dksX0_warms_0 23 rfl rfl
theorem dksX0_warms_2 : cX0_warms.data.toList.drop 46 = dktX0_warms_2 := dk_seg dksX0_warms_1 23 rfl rfl
theorem dX0_warms_0 : decode cX0_warms 0 = .ok (.aload_n 0, 1) := dk_42 (dk_at dksX0_warms_0 0 rfl rfl)
theorem dX0_warms_1 : decode cX0_warms 1 = .ok (.iconst 4, 1) := dk_7 (dk_at dksX0_warms_0 1 rfl rfl)
theorem dX0_warms_2 : decode cX0_warms 2 = .ok (.iload_n 1, 1) := dk_27 (dk_at dksX0_warms_0 2 rfl rfl)
theorem dX0_warms_3 : decode cX0_warms 3 = .ok (.iadd, 1) := dk_96 (dk_at dksX0_warms_0 3 rfl rfl)
theorem dX0_warms_4 : decode cX0_warms 4 = .ok (.iaload, 1) := dk_46 (dk_at dksX0_warms_0 4 rfl rfl)
theorem dX0_warms_5 : decode cX0_warms 5 = .ok (.ifCond .ne 25, 3) := dk_154 0 25 (dk_at dksX0_warms_0 5 rfl rfl)
theorem dX0_warms_8 : decode cX0_warms 8 = .ok (.aload_n 0, 1) := dk_42 (dk_at dksX0_warms_0 8 rfl rfl)
theorem dX0_warms_9 : decode cX0_warms 9 = .ok (.bipush 20, 2) := dk_16 20 (dk_at dksX0_warms_0 9 rfl rfl)
theorem dX0_warms_11 : decode cX0_warms 11 = .ok (.iload_n 1, 1) := dk_27 (dk_at dksX0_warms_0 11 rfl rfl)
theorem dX0_warms_12 : decode cX0_warms 12 = .ok (.iadd, 1) := dk_96 (dk_at dksX0_warms_0 12 rfl rfl)
theorem dX0_warms_13 : decode cX0_warms 13 = .ok (.bipush 9, 2) := dk_16 9 (dk_at dksX0_warms_0 13 rfl rfl)
theorem dX0_warms_15 : decode cX0_warms 15 = .ok (.aload_n 0, 1) := dk_42 (dk_at dksX0_warms_0 15 rfl rfl)
theorem dX0_warms_16 : decode cX0_warms 16 = .ok (.bipush 20, 2) := dk_16 20 (dk_at dksX0_warms_0 16 rfl rfl)
theorem dX0_warms_18 : decode cX0_warms 18 = .ok (.iload_n 1, 1) := dk_27 (dk_at dksX0_warms_0 18 rfl rfl)
theorem dX0_warms_19 : decode cX0_warms 19 = .ok (.iadd, 1) := dk_96 (dk_at dksX0_warms_0 19 rfl rfl)
theorem dX0_warms_20 : decode cX0_warms 20 = .ok (.iaload, 1) := dk_46 (dk_at dksX0_warms_0 20 rfl rfl)
theorem dX0_warms_21 : decode cX0_warms 21 = .ok (.iconst 1, 1) := dk_4 (dk_at dksX0_warms_0 21 rfl rfl)
theorem dX0_warms_22 : decode cX0_warms 22 = .ok (.iadd, 1) := dk_96 (dk_at dksX0_warms_0 22 rfl rfl)
theorem dX0_warms_23 : decode cX0_warms 23 = .ok (.invokestatic 188, 3) := dk_184 0 188 (dk_at dksX0_warms_1 0 rfl rfl)
theorem dX0_warms_26 : decode cX0_warms 26 = .ok (.iastore, 1) := dk_79 (dk_at dksX0_warms_1 3 rfl rfl)
theorem dX0_warms_27 : decode cX0_warms 27 = .ok (.goto 32, 3) := dk_167 0 32 (dk_at dksX0_warms_1 4 rfl rfl)
theorem dX0_warms_30 : decode cX0_warms 30 = .ok (.aload_n 0, 1) := dk_42 (dk_at dksX0_warms_1 7 rfl rfl)
theorem dX0_warms_31 : decode cX0_warms 31 = .ok (.iconst 4, 1) := dk_7 (dk_at dksX0_warms_1 8 rfl rfl)
theorem dX0_warms_32 : decode cX0_warms 32 = .ok (.iload_n 1, 1) := dk_27 (dk_at dksX0_warms_1 9 rfl rfl)
theorem dX0_warms_33 : decode cX0_warms 33 = .ok (.iadd, 1) := dk_96 (dk_at dksX0_warms_1 10 rfl rfl)
theorem dX0_warms_34 : decode cX0_warms 34 = .ok (.iaload, 1) := dk_46 (dk_at dksX0_warms_1 11 rfl rfl)
theorem dX0_warms_35 : decode cX0_warms 35 = .ok (.iconst 1, 1) := dk_4 (dk_at dksX0_warms_1 12 rfl rfl)
theorem dX0_warms_36 : decode cX0_warms 36 = .ok (.if_icmp .ne 23, 3) := dk_160 0 23 (dk_at dksX0_warms_1 13 rfl rfl)
theorem dX0_warms_39 : decode cX0_warms 39 = .ok (.aload_n 0, 1) := dk_42 (dk_at dksX0_warms_1 16 rfl rfl)
theorem dX0_warms_40 : decode cX0_warms 40 = .ok (.bipush 20, 2) := dk_16 20 (dk_at dksX0_warms_1 17 rfl rfl)
theorem dX0_warms_42 : decode cX0_warms 42 = .ok (.iload_n 1, 1) := dk_27 (dk_at dksX0_warms_1 19 rfl rfl)
theorem dX0_warms_43 : decode cX0_warms 43 = .ok (.iadd, 1) := dk_96 (dk_at dksX0_warms_1 20 rfl rfl)
theorem dX0_warms_44 : decode cX0_warms 44 = .ok (.iconst 0, 1) := dk_3 (dk_at dksX0_warms_1 21 rfl rfl)
theorem dX0_warms_45 : decode cX0_warms 45 = .ok (.aload_n 0, 1) := dk_42 (dk_at dksX0_warms_1 22 rfl rfl)
theorem dX0_warms_46 : decode cX0_warms 46 = .ok (.bipush 20, 2) := dk_16 20 (dk_at dksX0_warms_2 0 rfl rfl)
theorem dX0_warms_48 : decode cX0_warms 48 = .ok (.iload_n 1, 1) := dk_27 (dk_at dksX0_warms_2 2 rfl rfl)
theorem dX0_warms_49 : decode cX0_warms 49 = .ok (.iadd, 1) := dk_96 (dk_at dksX0_warms_2 3 rfl rfl)
theorem dX0_warms_50 : decode cX0_warms 50 = .ok (.iaload, 1) := dk_46 (dk_at dksX0_warms_2 4 rfl rfl)
theorem dX0_warms_51 : decode cX0_warms 51 = .ok (.aload_n 0, 1) := dk_42 (dk_at dksX0_warms_2 5 rfl rfl)
theorem dX0_warms_52 : decode cX0_warms 52 = .ok (.iconst 3, 1) := dk_6 (dk_at dksX0_warms_2 6 rfl rfl)
theorem dX0_warms_53 : decode cX0_warms 53 = .ok (.iaload, 1) := dk_46 (dk_at dksX0_warms_2 7 rfl rfl)
theorem dX0_warms_54 : decode cX0_warms 54 = .ok (.isub, 1) := dk_100 (dk_at dksX0_warms_2 8 rfl rfl)
theorem dX0_warms_55 : decode cX0_warms 55 = .ok (.invokestatic 220, 3) := dk_184 0 220 (dk_at dksX0_warms_2 9 rfl rfl)
theorem dX0_warms_58 : decode cX0_warms 58 = .ok (.iastore, 1) := dk_79 (dk_at dksX0_warms_2 12 rfl rfl)
theorem dX0_warms_59 : decode cX0_warms 59 = .ok (.return_, 1) := dk_177 (dk_at dksX0_warms_2 13 rfl rfl)
abbrev cX0_sellsOf : ByteArray := prog_1_method_24_code
def yX0_sellsOf : MethodName := ⟨RX0, "sellsOf", "([II)I"⟩
def dkwX0_sellsOf_3 : List UInt8 := [184, 0, 163, 172]
abbrev dktX0_sellsOf_3 : List UInt8 := dkwX0_sellsOf_3 ++ []
def dkwX0_sellsOf_2 : List UInt8 := [42, 182, 0, 175, 180, 0, 151, 4, 50, 42, 180, 0, 39, 185, 0, 157, 2, 0, 16, 157, 16, 99]
abbrev dktX0_sellsOf_2 : List UInt8 := dkwX0_sellsOf_2 ++ dktX0_sellsOf_3
def dkwX0_sellsOf_1 : List UInt8 := [182, 0, 175, 180, 0, 151, 4, 50, 199, 0, 16, 42, 180, 0, 39, 8, 46, 16, 30, 100, 133, 167, 0, 21]
abbrev dktX0_sellsOf_1 : List UInt8 := dkwX0_sellsOf_1 ++ dktX0_sellsOf_2
def dkwX0_sellsOf_0 : List UInt8 := [42, 43, 28, 182, 0, 167, 42, 180, 0, 39, 16, 7, 42, 43, 182, 0, 178, 184, 0, 182, 79, 42]
abbrev dktX0_sellsOf_0 : List UInt8 := dkwX0_sellsOf_0 ++ dktX0_sellsOf_1
theorem dksX0_sellsOf_0 : cX0_sellsOf.data.toList.drop 0 = dktX0_sellsOf_0 := by decide +kernel
theorem dksX0_sellsOf_1 : cX0_sellsOf.data.toList.drop 22 = dktX0_sellsOf_1 := dk_seg dksX0_sellsOf_0 22 rfl rfl
theorem dksX0_sellsOf_2 : cX0_sellsOf.data.toList.drop 46 = dktX0_sellsOf_2 := dk_seg dksX0_sellsOf_1 24 rfl rfl
theorem dksX0_sellsOf_3 : cX0_sellsOf.data.toList.drop 68 = dktX0_sellsOf_3 := dk_seg dksX0_sellsOf_2 22 rfl rfl
theorem dX0_sellsOf_0 : decode cX0_sellsOf 0 = .ok (.aload_n 0, 1) := dk_42 (dk_at dksX0_sellsOf_0 0 rfl rfl)
theorem dX0_sellsOf_1 : decode cX0_sellsOf 1 = .ok (.aload_n 1, 1) := dk_43 (dk_at dksX0_sellsOf_0 1 rfl rfl)
theorem dX0_sellsOf_2 : decode cX0_sellsOf 2 = .ok (.iload_n 2, 1) := dk_28 (dk_at dksX0_sellsOf_0 2 rfl rfl)
theorem dX0_sellsOf_3 : decode cX0_sellsOf 3 = .ok (.invokevirtual 167, 3) := dk_182 0 167 (dk_at dksX0_sellsOf_0 3 rfl rfl)
theorem dX0_sellsOf_6 : decode cX0_sellsOf 6 = .ok (.aload_n 0, 1) := dk_42 (dk_at dksX0_sellsOf_0 6 rfl rfl)
theorem dX0_sellsOf_7 : decode cX0_sellsOf 7 = .ok (.getfield 39, 3) := dk_180 0 39 (dk_at dksX0_sellsOf_0 7 rfl rfl)
theorem dX0_sellsOf_10 : decode cX0_sellsOf 10 = .ok (.bipush 7, 2) := dk_16 7 (dk_at dksX0_sellsOf_0 10 rfl rfl)
theorem dX0_sellsOf_12 : decode cX0_sellsOf 12 = .ok (.aload_n 0, 1) := dk_42 (dk_at dksX0_sellsOf_0 12 rfl rfl)
theorem dX0_sellsOf_13 : decode cX0_sellsOf 13 = .ok (.aload_n 1, 1) := dk_43 (dk_at dksX0_sellsOf_0 13 rfl rfl)
theorem dX0_sellsOf_14 : decode cX0_sellsOf 14 = .ok (.invokevirtual 178, 3) := dk_182 0 178 (dk_at dksX0_sellsOf_0 14 rfl rfl)
theorem dX0_sellsOf_17 : decode cX0_sellsOf 17 = .ok (.invokestatic 182, 3) := dk_184 0 182 (dk_at dksX0_sellsOf_0 17 rfl rfl)
theorem dX0_sellsOf_20 : decode cX0_sellsOf 20 = .ok (.iastore, 1) := dk_79 (dk_at dksX0_sellsOf_0 20 rfl rfl)
theorem dX0_sellsOf_21 : decode cX0_sellsOf 21 = .ok (.aload_n 0, 1) := dk_42 (dk_at dksX0_sellsOf_0 21 rfl rfl)
theorem dX0_sellsOf_22 : decode cX0_sellsOf 22 = .ok (.invokevirtual 175, 3) := dk_182 0 175 (dk_at dksX0_sellsOf_1 0 rfl rfl)
theorem dX0_sellsOf_25 : decode cX0_sellsOf 25 = .ok (.getfield 151, 3) := dk_180 0 151 (dk_at dksX0_sellsOf_1 3 rfl rfl)
theorem dX0_sellsOf_28 : decode cX0_sellsOf 28 = .ok (.iconst 1, 1) := dk_4 (dk_at dksX0_sellsOf_1 6 rfl rfl)
theorem dX0_sellsOf_29 : decode cX0_sellsOf 29 = .ok (.aaload, 1) := dk_50 (dk_at dksX0_sellsOf_1 7 rfl rfl)
theorem dX0_sellsOf_30 : decode cX0_sellsOf 30 = .ok (.ifnonnull 16, 3) := dk_199 0 16 (dk_at dksX0_sellsOf_1 8 rfl rfl)
theorem dX0_sellsOf_33 : decode cX0_sellsOf 33 = .ok (.aload_n 0, 1) := dk_42 (dk_at dksX0_sellsOf_1 11 rfl rfl)
theorem dX0_sellsOf_34 : decode cX0_sellsOf 34 = .ok (.getfield 39, 3) := dk_180 0 39 (dk_at dksX0_sellsOf_1 12 rfl rfl)
theorem dX0_sellsOf_37 : decode cX0_sellsOf 37 = .ok (.iconst 5, 1) := dk_8 (dk_at dksX0_sellsOf_1 15 rfl rfl)
theorem dX0_sellsOf_38 : decode cX0_sellsOf 38 = .ok (.iaload, 1) := dk_46 (dk_at dksX0_sellsOf_1 16 rfl rfl)
theorem dX0_sellsOf_39 : decode cX0_sellsOf 39 = .ok (.bipush 30, 2) := dk_16 30 (dk_at dksX0_sellsOf_1 17 rfl rfl)
theorem dX0_sellsOf_41 : decode cX0_sellsOf 41 = .ok (.isub, 1) := dk_100 (dk_at dksX0_sellsOf_1 19 rfl rfl)
theorem dX0_sellsOf_42 : decode cX0_sellsOf 42 = .ok (.i2l, 1) := dk_133 (dk_at dksX0_sellsOf_1 20 rfl rfl)
theorem dX0_sellsOf_43 : decode cX0_sellsOf 43 = .ok (.goto 21, 3) := dk_167 0 21 (dk_at dksX0_sellsOf_1 21 rfl rfl)
theorem dX0_sellsOf_46 : decode cX0_sellsOf 46 = .ok (.aload_n 0, 1) := dk_42 (dk_at dksX0_sellsOf_2 0 rfl rfl)
theorem dX0_sellsOf_47 : decode cX0_sellsOf 47 = .ok (.invokevirtual 175, 3) := dk_182 0 175 (dk_at dksX0_sellsOf_2 1 rfl rfl)
theorem dX0_sellsOf_50 : decode cX0_sellsOf 50 = .ok (.getfield 151, 3) := dk_180 0 151 (dk_at dksX0_sellsOf_2 4 rfl rfl)
theorem dX0_sellsOf_53 : decode cX0_sellsOf 53 = .ok (.iconst 1, 1) := dk_4 (dk_at dksX0_sellsOf_2 7 rfl rfl)
theorem dX0_sellsOf_54 : decode cX0_sellsOf 54 = .ok (.aaload, 1) := dk_50 (dk_at dksX0_sellsOf_2 8 rfl rfl)
theorem dX0_sellsOf_55 : decode cX0_sellsOf 55 = .ok (.aload_n 0, 1) := dk_42 (dk_at dksX0_sellsOf_2 9 rfl rfl)
theorem dX0_sellsOf_56 : decode cX0_sellsOf 56 = .ok (.getfield 39, 3) := dk_180 0 39 (dk_at dksX0_sellsOf_2 10 rfl rfl)
theorem dX0_sellsOf_59 : decode cX0_sellsOf 59 = .ok (.invokeinterface 157 2, 5) := by decide +kernel
theorem dX0_sellsOf_64 : decode cX0_sellsOf 64 = .ok (.bipush (-99), 2) := dk_16 157 (dk_at dksX0_sellsOf_2 18 rfl rfl)
theorem dX0_sellsOf_66 : decode cX0_sellsOf 66 = .ok (.bipush 99, 2) := dk_16 99 (dk_at dksX0_sellsOf_2 20 rfl rfl)
theorem dX0_sellsOf_68 : decode cX0_sellsOf 68 = .ok (.invokestatic 163, 3) := dk_184 0 163 (dk_at dksX0_sellsOf_3 0 rfl rfl)
theorem dX0_sellsOf_71 : decode cX0_sellsOf 71 = .ok (.ireturn, 1) := dk_172 (dk_at dksX0_sellsOf_3 3 rfl rfl)
abbrev cX0_pawnedIn : ByteArray := prog_1_method_25_code
def yX0_pawnedIn : MethodName := ⟨RX0, "pawnedIn", "([I)I"⟩
def dkwX0_pawnedIn_1 : List UInt8 := [120, 167, 0, 4, 3, 128, 61, 132, 3, 1, 167, 255, 226, 28, 172]
abbrev dktX0_pawnedIn_1 : List UInt8 := dkwX0_pawnedIn_1 ++ []
def dkwX0_pawnedIn_0 : List UInt8 := [3, 61, 3, 62, 29, 42, 182, 0, 73, 162, 0, 28, 28, 43, 7, 29, 96, 46, 4, 160, 0, 9, 4, 29]
abbrev dktX0_pawnedIn_0 : List UInt8 := dkwX0_pawnedIn_0 ++ dktX0_pawnedIn_1
theorem dksX0_pawnedIn_0 : cX0_pawnedIn.data.toList.drop 0 = dktX0_pawnedIn_0 := by decide +kernel
theorem dksX0_pawnedIn_1 : cX0_pawnedIn.data.toList.drop 24 = dktX0_pawnedIn_1 := dk_seg dksX0_pawnedIn_0 24 rfl rfl
theorem dX0_pawnedIn_0 : decode cX0_pawnedIn 0 = .ok (.iconst 0, 1) := dk_3 (dk_at dksX0_pawnedIn_0 0 rfl rfl)
theorem dX0_pawnedIn_1 : decode cX0_pawnedIn 1 = .ok (.istore_n 2, 1) := dk_61 (dk_at dksX0_pawnedIn_0 1 rfl rfl)
theorem dX0_pawnedIn_2 : decode cX0_pawnedIn 2 = .ok (.iconst 0, 1) := dk_3 (dk_at dksX0_pawnedIn_0 2 rfl rfl)
theorem dX0_pawnedIn_3 : decode cX0_pawnedIn 3 = .ok (.istore_n 3, 1) := dk_62 (dk_at dksX0_pawnedIn_0 3 rfl rfl)
theorem dX0_pawnedIn_4 : decode cX0_pawnedIn 4 = .ok (.iload_n 3, 1) := dk_29 (dk_at dksX0_pawnedIn_0 4 rfl rfl)
theorem dX0_pawnedIn_5 : decode cX0_pawnedIn 5 = .ok (.aload_n 0, 1) := dk_42 (dk_at dksX0_pawnedIn_0 5 rfl rfl)
theorem dX0_pawnedIn_6 : decode cX0_pawnedIn 6 = .ok (.invokevirtual 73, 3) := dk_182 0 73 (dk_at dksX0_pawnedIn_0 6 rfl rfl)
theorem dX0_pawnedIn_9 : decode cX0_pawnedIn 9 = .ok (.if_icmp .ge 28, 3) := dk_162 0 28 (dk_at dksX0_pawnedIn_0 9 rfl rfl)
theorem dX0_pawnedIn_12 : decode cX0_pawnedIn 12 = .ok (.iload_n 2, 1) := dk_28 (dk_at dksX0_pawnedIn_0 12 rfl rfl)
theorem dX0_pawnedIn_13 : decode cX0_pawnedIn 13 = .ok (.aload_n 1, 1) := dk_43 (dk_at dksX0_pawnedIn_0 13 rfl rfl)
theorem dX0_pawnedIn_14 : decode cX0_pawnedIn 14 = .ok (.iconst 4, 1) := dk_7 (dk_at dksX0_pawnedIn_0 14 rfl rfl)
theorem dX0_pawnedIn_15 : decode cX0_pawnedIn 15 = .ok (.iload_n 3, 1) := dk_29 (dk_at dksX0_pawnedIn_0 15 rfl rfl)
theorem dX0_pawnedIn_16 : decode cX0_pawnedIn 16 = .ok (.iadd, 1) := dk_96 (dk_at dksX0_pawnedIn_0 16 rfl rfl)
theorem dX0_pawnedIn_17 : decode cX0_pawnedIn 17 = .ok (.iaload, 1) := dk_46 (dk_at dksX0_pawnedIn_0 17 rfl rfl)
theorem dX0_pawnedIn_18 : decode cX0_pawnedIn 18 = .ok (.iconst 1, 1) := dk_4 (dk_at dksX0_pawnedIn_0 18 rfl rfl)
theorem dX0_pawnedIn_19 : decode cX0_pawnedIn 19 = .ok (.if_icmp .ne 9, 3) := dk_160 0 9 (dk_at dksX0_pawnedIn_0 19 rfl rfl)
theorem dX0_pawnedIn_22 : decode cX0_pawnedIn 22 = .ok (.iconst 1, 1) := dk_4 (dk_at dksX0_pawnedIn_0 22 rfl rfl)
theorem dX0_pawnedIn_23 : decode cX0_pawnedIn 23 = .ok (.iload_n 3, 1) := dk_29 (dk_at dksX0_pawnedIn_0 23 rfl rfl)
theorem dX0_pawnedIn_24 : decode cX0_pawnedIn 24 = .ok (.ishl, 1) := dk_120 (dk_at dksX0_pawnedIn_1 0 rfl rfl)
theorem dX0_pawnedIn_25 : decode cX0_pawnedIn 25 = .ok (.goto 4, 3) := dk_167 0 4 (dk_at dksX0_pawnedIn_1 1 rfl rfl)
theorem dX0_pawnedIn_28 : decode cX0_pawnedIn 28 = .ok (.iconst 0, 1) := dk_3 (dk_at dksX0_pawnedIn_1 4 rfl rfl)
theorem dX0_pawnedIn_29 : decode cX0_pawnedIn 29 = .ok (.ior, 1) := dk_128 (dk_at dksX0_pawnedIn_1 5 rfl rfl)
theorem dX0_pawnedIn_30 : decode cX0_pawnedIn 30 = .ok (.istore_n 2, 1) := dk_61 (dk_at dksX0_pawnedIn_1 6 rfl rfl)
theorem dX0_pawnedIn_31 : decode cX0_pawnedIn 31 = .ok (.iinc 3 1, 3) := dk_132 3 1 (dk_at dksX0_pawnedIn_1 7 rfl rfl)
theorem dX0_pawnedIn_34 : decode cX0_pawnedIn 34 = .ok (.goto (-30), 3) := dk_167 255 226 (dk_at dksX0_pawnedIn_1 10 rfl rfl)
theorem dX0_pawnedIn_37 : decode cX0_pawnedIn 37 = .ok (.iload_n 2, 1) := dk_28 (dk_at dksX0_pawnedIn_1 13 rfl rfl)
theorem dX0_pawnedIn_38 : decode cX0_pawnedIn 38 = .ok (.ireturn, 1) := dk_172 (dk_at dksX0_pawnedIn_1 14 rfl rfl)
abbrev cX0_played : ByteArray := prog_1_method_41_code
def yX0_played : MethodName := ⟨RX0, "played", "(I)I"⟩
def dkwX0_played_2 : List UInt8 := [154, 0, 15, 44, 29, 182, 1, 20, 192, 0, 238, 182, 1, 28, 172, 132, 3, 1, 167, 255, 218, 2, 172]
abbrev dktX0_played_2 : List UInt8 := dkwX0_played_2 ++ []
def dkwX0_played_1 : List UInt8 := [3, 62, 29, 44, 182, 1, 15, 162, 0, 36, 42, 44, 29, 182, 1, 20, 192, 0, 238, 182, 1, 24]
abbrev dktX0_played_1 : List UInt8 := dkwX0_played_1 ++ dktX0_played_2
def dkwX0_played_0 : List UInt8 := [42, 27, 182, 0, 134, 154, 0, 6, 16, 254, 172, 42, 180, 0, 21, 180, 0, 115, 27, 50, 180, 1, 11, 77]
abbrev dktX0_played_0 : List UInt8 := dkwX0_played_0 ++ dktX0_played_1
theorem dksX0_played_0 : cX0_played.data.toList.drop 0 = dktX0_played_0 := by decide +kernel
theorem dksX0_played_1 : cX0_played.data.toList.drop 24 = dktX0_played_1 := dk_seg dksX0_played_0 24 rfl rfl
theorem dksX0_played_2 : cX0_played.data.toList.drop 46 = dktX0_played_2 := dk_seg dksX0_played_1 22 rfl rfl
theorem dX0_played_0 : decode cX0_played 0 = .ok (.aload_n 0, 1) := dk_42 (dk_at dksX0_played_0 0 rfl rfl)
theorem dX0_played_1 : decode cX0_played 1 = .ok (.iload_n 1, 1) := dk_27 (dk_at dksX0_played_0 1 rfl rfl)
theorem dX0_played_2 : decode cX0_played 2 = .ok (.invokevirtual 134, 3) := dk_182 0 134 (dk_at dksX0_played_0 2 rfl rfl)
theorem dX0_played_5 : decode cX0_played 5 = .ok (.ifCond .ne 6, 3) := dk_154 0 6 (dk_at dksX0_played_0 5 rfl rfl)
theorem dX0_played_8 : decode cX0_played 8 = .ok (.bipush (-2), 2) := dk_16 254 (dk_at dksX0_played_0 8 rfl rfl)
theorem dX0_played_10 : decode cX0_played 10 = .ok (.ireturn, 1) := dk_172 (dk_at dksX0_played_0 10 rfl rfl)
theorem dX0_played_11 : decode cX0_played 11 = .ok (.aload_n 0, 1) := dk_42 (dk_at dksX0_played_0 11 rfl rfl)
theorem dX0_played_12 : decode cX0_played 12 = .ok (.getfield 21, 3) := dk_180 0 21 (dk_at dksX0_played_0 12 rfl rfl)
theorem dX0_played_15 : decode cX0_played 15 = .ok (.getfield 115, 3) := dk_180 0 115 (dk_at dksX0_played_0 15 rfl rfl)
theorem dX0_played_18 : decode cX0_played 18 = .ok (.iload_n 1, 1) := dk_27 (dk_at dksX0_played_0 18 rfl rfl)
theorem dX0_played_19 : decode cX0_played 19 = .ok (.aaload, 1) := dk_50 (dk_at dksX0_played_0 19 rfl rfl)
theorem dX0_played_20 : decode cX0_played 20 = .ok (.getfield 267, 3) := dk_180 1 11 (dk_at dksX0_played_0 20 rfl rfl)
theorem dX0_played_23 : decode cX0_played 23 = .ok (.astore_n 2, 1) := dk_77 (dk_at dksX0_played_0 23 rfl rfl)
theorem dX0_played_24 : decode cX0_played 24 = .ok (.iconst 0, 1) := dk_3 (dk_at dksX0_played_1 0 rfl rfl)
theorem dX0_played_25 : decode cX0_played 25 = .ok (.istore_n 3, 1) := dk_62 (dk_at dksX0_played_1 1 rfl rfl)
theorem dX0_played_26 : decode cX0_played 26 = .ok (.iload_n 3, 1) := dk_29 (dk_at dksX0_played_1 2 rfl rfl)
theorem dX0_played_27 : decode cX0_played 27 = .ok (.aload_n 2, 1) := dk_44 (dk_at dksX0_played_1 3 rfl rfl)
theorem dX0_played_28 : decode cX0_played 28 = .ok (.invokevirtual 271, 3) := dk_182 1 15 (dk_at dksX0_played_1 4 rfl rfl)
theorem dX0_played_31 : decode cX0_played 31 = .ok (.if_icmp .ge 36, 3) := dk_162 0 36 (dk_at dksX0_played_1 7 rfl rfl)
theorem dX0_played_34 : decode cX0_played 34 = .ok (.aload_n 0, 1) := dk_42 (dk_at dksX0_played_1 10 rfl rfl)
theorem dX0_played_35 : decode cX0_played 35 = .ok (.aload_n 2, 1) := dk_44 (dk_at dksX0_played_1 11 rfl rfl)
theorem dX0_played_36 : decode cX0_played 36 = .ok (.iload_n 3, 1) := dk_29 (dk_at dksX0_played_1 12 rfl rfl)
theorem dX0_played_37 : decode cX0_played 37 = .ok (.invokevirtual 276, 3) := dk_182 1 20 (dk_at dksX0_played_1 13 rfl rfl)
theorem dX0_played_40 : decode cX0_played 40 = .ok (.checkcast 238, 3) := dk_192 0 238 (dk_at dksX0_played_1 16 rfl rfl)
theorem dX0_played_43 : decode cX0_played 43 = .ok (.invokevirtual 280, 3) := dk_182 1 24 (dk_at dksX0_played_1 19 rfl rfl)
theorem dX0_played_46 : decode cX0_played 46 = .ok (.ifCond .ne 15, 3) := dk_154 0 15 (dk_at dksX0_played_2 0 rfl rfl)
theorem dX0_played_49 : decode cX0_played 49 = .ok (.aload_n 2, 1) := dk_44 (dk_at dksX0_played_2 3 rfl rfl)
theorem dX0_played_50 : decode cX0_played 50 = .ok (.iload_n 3, 1) := dk_29 (dk_at dksX0_played_2 4 rfl rfl)
theorem dX0_played_51 : decode cX0_played 51 = .ok (.invokevirtual 276, 3) := dk_182 1 20 (dk_at dksX0_played_2 5 rfl rfl)
theorem dX0_played_54 : decode cX0_played 54 = .ok (.checkcast 238, 3) := dk_192 0 238 (dk_at dksX0_played_2 8 rfl rfl)
theorem dX0_played_57 : decode cX0_played 57 = .ok (.invokevirtual 284, 3) := dk_182 1 28 (dk_at dksX0_played_2 11 rfl rfl)
theorem dX0_played_60 : decode cX0_played 60 = .ok (.ireturn, 1) := dk_172 (dk_at dksX0_played_2 14 rfl rfl)
theorem dX0_played_61 : decode cX0_played 61 = .ok (.iinc 3 1, 3) := dk_132 3 1 (dk_at dksX0_played_2 15 rfl rfl)
theorem dX0_played_64 : decode cX0_played 64 = .ok (.goto (-38), 3) := dk_167 255 218 (dk_at dksX0_played_2 18 rfl rfl)
theorem dX0_played_67 : decode cX0_played 67 = .ok (.iconst (-1), 1) := dk_2 (dk_at dksX0_played_2 21 rfl rfl)
theorem dX0_played_68 : decode cX0_played 68 = .ok (.ireturn, 1) := dk_172 (dk_at dksX0_played_2 22 rfl rfl)
abbrev cX0_does : ByteArray := prog_1_method_40_code
def yX0_does : MethodName := ⟨RX0, "does", "(LQuarrelsPawned$Doing;)Z"⟩
def dkwX0_does_5 : List UInt8 := [182, 1, 8, 172]
abbrev dktX0_does_5 : List UInt8 := dkwX0_does_5 ++ []
def dkwX0_does_4 : List UInt8 := [159, 0, 7, 4, 167, 0, 4, 3, 172, 42, 43, 182, 0, 242, 182, 1, 5, 172, 42, 43, 182, 0, 242]
abbrev dktX0_does_4 : List UInt8 := dkwX0_does_4 ++ dktX0_does_5
def dkwX0_does_3 : List UInt8 := [167, 0, 4, 3, 172, 42, 43, 182, 0, 242, 182, 0, 255, 172, 42, 43, 182, 0, 242, 182, 1, 2, 2]
abbrev dktX0_does_3 : List UInt8 := dkwX0_does_3 ++ dktX0_does_4
def dkwX0_does_2 : List UInt8 := [42, 43, 182, 0, 242, 43, 182, 0, 245, 43, 182, 0, 248, 3, 182, 0, 251, 2, 159, 0, 7, 4]
abbrev dktX0_does_2 : List UInt8 := dkwX0_does_2 ++ dktX0_does_3
def dkwX0_does_1 : List UInt8 := [170, 0, 0, 0, 0, 0, 0, 95, 0, 0, 0, 202, 0, 0, 0, 205, 0, 0, 0, 32, 0, 0, 0, 59, 0, 0, 0, 68, 0, 0, 0, 86]
abbrev dktX0_does_1 : List UInt8 := dkwX0_does_1 ++ dktX0_does_2
def dkwX0_does_0 : List UInt8 := [43, 182, 0, 237]
abbrev dktX0_does_0 : List UInt8 := dkwX0_does_0 ++ dktX0_does_1
theorem dksX0_does_0 : cX0_does.data.toList.drop 0 = dktX0_does_0 := by decide +kernel
theorem dksX0_does_1 : cX0_does.data.toList.drop 4 = dktX0_does_1 := dk_seg dksX0_does_0 4 rfl rfl
theorem dksX0_does_2 : cX0_does.data.toList.drop 36 = dktX0_does_2 := dk_seg dksX0_does_1 32 rfl rfl
theorem dksX0_does_3 : cX0_does.data.toList.drop 58 = dktX0_does_3 := dk_seg dksX0_does_2 22 rfl rfl
theorem dksX0_does_4 : cX0_does.data.toList.drop 81 = dktX0_does_4 := dk_seg dksX0_does_3 23 rfl rfl
theorem dksX0_does_5 : cX0_does.data.toList.drop 104 = dktX0_does_5 := dk_seg dksX0_does_4 23 rfl rfl
theorem dX0_does_0 : decode cX0_does 0 = .ok (.aload_n 1, 1) := dk_43 (dk_at dksX0_does_0 0 rfl rfl)
theorem dX0_does_1 : decode cX0_does 1 = .ok (.invokevirtual 237, 3) := dk_182 0 237 (dk_at dksX0_does_0 1 rfl rfl)
theorem dX0_does_4 : decode cX0_does 4 = .ok (.tableswitch 95 202 205 #[32, 59, 68, 86], 32) := by decide +kernel
theorem dX0_does_36 : decode cX0_does 36 = .ok (.aload_n 0, 1) := dk_42 (dk_at dksX0_does_2 0 rfl rfl)
theorem dX0_does_37 : decode cX0_does 37 = .ok (.aload_n 1, 1) := dk_43 (dk_at dksX0_does_2 1 rfl rfl)
theorem dX0_does_38 : decode cX0_does 38 = .ok (.invokevirtual 242, 3) := dk_182 0 242 (dk_at dksX0_does_2 2 rfl rfl)
theorem dX0_does_41 : decode cX0_does 41 = .ok (.aload_n 1, 1) := dk_43 (dk_at dksX0_does_2 5 rfl rfl)
theorem dX0_does_42 : decode cX0_does 42 = .ok (.invokevirtual 245, 3) := dk_182 0 245 (dk_at dksX0_does_2 6 rfl rfl)
theorem dX0_does_45 : decode cX0_does 45 = .ok (.aload_n 1, 1) := dk_43 (dk_at dksX0_does_2 9 rfl rfl)
theorem dX0_does_46 : decode cX0_does 46 = .ok (.invokevirtual 248, 3) := dk_182 0 248 (dk_at dksX0_does_2 10 rfl rfl)
theorem dX0_does_49 : decode cX0_does 49 = .ok (.iconst 0, 1) := dk_3 (dk_at dksX0_does_2 13 rfl rfl)
theorem dX0_does_50 : decode cX0_does 50 = .ok (.invokevirtual 251, 3) := dk_182 0 251 (dk_at dksX0_does_2 14 rfl rfl)
theorem dX0_does_53 : decode cX0_does 53 = .ok (.iconst (-1), 1) := dk_2 (dk_at dksX0_does_2 17 rfl rfl)
theorem dX0_does_54 : decode cX0_does 54 = .ok (.if_icmp .eq 7, 3) := dk_159 0 7 (dk_at dksX0_does_2 18 rfl rfl)
theorem dX0_does_57 : decode cX0_does 57 = .ok (.iconst 1, 1) := dk_4 (dk_at dksX0_does_2 21 rfl rfl)
theorem dX0_does_58 : decode cX0_does 58 = .ok (.goto 4, 3) := dk_167 0 4 (dk_at dksX0_does_3 0 rfl rfl)
theorem dX0_does_61 : decode cX0_does 61 = .ok (.iconst 0, 1) := dk_3 (dk_at dksX0_does_3 3 rfl rfl)
theorem dX0_does_62 : decode cX0_does 62 = .ok (.ireturn, 1) := dk_172 (dk_at dksX0_does_3 4 rfl rfl)
theorem dX0_does_63 : decode cX0_does 63 = .ok (.aload_n 0, 1) := dk_42 (dk_at dksX0_does_3 5 rfl rfl)
theorem dX0_does_64 : decode cX0_does 64 = .ok (.aload_n 1, 1) := dk_43 (dk_at dksX0_does_3 6 rfl rfl)
theorem dX0_does_65 : decode cX0_does 65 = .ok (.invokevirtual 242, 3) := dk_182 0 242 (dk_at dksX0_does_3 7 rfl rfl)
theorem dX0_does_68 : decode cX0_does 68 = .ok (.invokevirtual 255, 3) := dk_182 0 255 (dk_at dksX0_does_3 10 rfl rfl)
theorem dX0_does_71 : decode cX0_does 71 = .ok (.ireturn, 1) := dk_172 (dk_at dksX0_does_3 13 rfl rfl)
theorem dX0_does_72 : decode cX0_does 72 = .ok (.aload_n 0, 1) := dk_42 (dk_at dksX0_does_3 14 rfl rfl)
theorem dX0_does_73 : decode cX0_does 73 = .ok (.aload_n 1, 1) := dk_43 (dk_at dksX0_does_3 15 rfl rfl)
theorem dX0_does_74 : decode cX0_does 74 = .ok (.invokevirtual 242, 3) := dk_182 0 242 (dk_at dksX0_does_3 16 rfl rfl)
theorem dX0_does_77 : decode cX0_does 77 = .ok (.invokevirtual 258, 3) := dk_182 1 2 (dk_at dksX0_does_3 19 rfl rfl)
theorem dX0_does_80 : decode cX0_does 80 = .ok (.iconst (-1), 1) := dk_2 (dk_at dksX0_does_3 22 rfl rfl)
theorem dX0_does_81 : decode cX0_does 81 = .ok (.if_icmp .eq 7, 3) := dk_159 0 7 (dk_at dksX0_does_4 0 rfl rfl)
theorem dX0_does_84 : decode cX0_does 84 = .ok (.iconst 1, 1) := dk_4 (dk_at dksX0_does_4 3 rfl rfl)
theorem dX0_does_85 : decode cX0_does 85 = .ok (.goto 4, 3) := dk_167 0 4 (dk_at dksX0_does_4 4 rfl rfl)
theorem dX0_does_88 : decode cX0_does 88 = .ok (.iconst 0, 1) := dk_3 (dk_at dksX0_does_4 7 rfl rfl)
theorem dX0_does_89 : decode cX0_does 89 = .ok (.ireturn, 1) := dk_172 (dk_at dksX0_does_4 8 rfl rfl)
theorem dX0_does_90 : decode cX0_does 90 = .ok (.aload_n 0, 1) := dk_42 (dk_at dksX0_does_4 9 rfl rfl)
theorem dX0_does_91 : decode cX0_does 91 = .ok (.aload_n 1, 1) := dk_43 (dk_at dksX0_does_4 10 rfl rfl)
theorem dX0_does_92 : decode cX0_does 92 = .ok (.invokevirtual 242, 3) := dk_182 0 242 (dk_at dksX0_does_4 11 rfl rfl)
theorem dX0_does_95 : decode cX0_does 95 = .ok (.invokevirtual 261, 3) := dk_182 1 5 (dk_at dksX0_does_4 14 rfl rfl)
theorem dX0_does_98 : decode cX0_does 98 = .ok (.ireturn, 1) := dk_172 (dk_at dksX0_does_4 17 rfl rfl)
theorem dX0_does_99 : decode cX0_does 99 = .ok (.aload_n 0, 1) := dk_42 (dk_at dksX0_does_4 18 rfl rfl)
theorem dX0_does_100 : decode cX0_does 100 = .ok (.aload_n 1, 1) := dk_43 (dk_at dksX0_does_4 19 rfl rfl)
theorem dX0_does_101 : decode cX0_does 101 = .ok (.invokevirtual 242, 3) := dk_182 0 242 (dk_at dksX0_does_4 20 rfl rfl)
theorem dX0_does_104 : decode cX0_does 104 = .ok (.invokevirtual 264, 3) := dk_182 1 8 (dk_at dksX0_does_5 0 rfl rfl)
theorem dX0_does_107 : decode cX0_does 107 = .ok (.ireturn, 1) := dk_172 (dk_at dksX0_does_5 3 rfl rfl)
abbrev cX0_passesAll : ByteArray := prog_1_method_39_code
def yX0_passesAll : MethodName := ⟨RX0, "passesAll", "(I)Z"⟩
def dkwX0_passesAll_1 : List UInt8 := [4, 172]
abbrev dktX0_passesAll_1 : List UInt8 := dkwX0_passesAll_1 ++ []
def dkwX0_passesAll_0 : List UInt8 := [3, 61, 28, 27, 162, 0, 20, 42, 4, 182, 0, 234, 2, 160, 0, 5, 3, 172, 132, 2, 1, 167, 255, 237]
abbrev dktX0_passesAll_0 : List UInt8 := dkwX0_passesAll_0 ++ dktX0_passesAll_1
theorem dksX0_passesAll_0 : cX0_passesAll.data.toList.drop 0 = dktX0_passesAll_0 := by decide +kernel
theorem dksX0_passesAll_1 : cX0_passesAll.data.toList.drop 24 = dktX0_passesAll_1 := dk_seg dksX0_passesAll_0 24 rfl rfl
theorem dX0_passesAll_0 : decode cX0_passesAll 0 = .ok (.iconst 0, 1) := dk_3 (dk_at dksX0_passesAll_0 0 rfl rfl)
theorem dX0_passesAll_1 : decode cX0_passesAll 1 = .ok (.istore_n 2, 1) := dk_61 (dk_at dksX0_passesAll_0 1 rfl rfl)
theorem dX0_passesAll_2 : decode cX0_passesAll 2 = .ok (.iload_n 2, 1) := dk_28 (dk_at dksX0_passesAll_0 2 rfl rfl)
theorem dX0_passesAll_3 : decode cX0_passesAll 3 = .ok (.iload_n 1, 1) := dk_27 (dk_at dksX0_passesAll_0 3 rfl rfl)
theorem dX0_passesAll_4 : decode cX0_passesAll 4 = .ok (.if_icmp .ge 20, 3) := dk_162 0 20 (dk_at dksX0_passesAll_0 4 rfl rfl)
theorem dX0_passesAll_7 : decode cX0_passesAll 7 = .ok (.aload_n 0, 1) := dk_42 (dk_at dksX0_passesAll_0 7 rfl rfl)
theorem dX0_passesAll_8 : decode cX0_passesAll 8 = .ok (.iconst 1, 1) := dk_4 (dk_at dksX0_passesAll_0 8 rfl rfl)
theorem dX0_passesAll_9 : decode cX0_passesAll 9 = .ok (.invokevirtual 234, 3) := dk_182 0 234 (dk_at dksX0_passesAll_0 9 rfl rfl)
theorem dX0_passesAll_12 : decode cX0_passesAll 12 = .ok (.iconst (-1), 1) := dk_2 (dk_at dksX0_passesAll_0 12 rfl rfl)
theorem dX0_passesAll_13 : decode cX0_passesAll 13 = .ok (.if_icmp .ne 5, 3) := dk_160 0 5 (dk_at dksX0_passesAll_0 13 rfl rfl)
theorem dX0_passesAll_16 : decode cX0_passesAll 16 = .ok (.iconst 0, 1) := dk_3 (dk_at dksX0_passesAll_0 16 rfl rfl)
theorem dX0_passesAll_17 : decode cX0_passesAll 17 = .ok (.ireturn, 1) := dk_172 (dk_at dksX0_passesAll_0 17 rfl rfl)
theorem dX0_passesAll_18 : decode cX0_passesAll 18 = .ok (.iinc 2 1, 3) := dk_132 2 1 (dk_at dksX0_passesAll_0 18 rfl rfl)
theorem dX0_passesAll_21 : decode cX0_passesAll 21 = .ok (.goto (-19), 3) := dk_167 255 237 (dk_at dksX0_passesAll_0 21 rfl rfl)
theorem dX0_passesAll_24 : decode cX0_passesAll 24 = .ok (.iconst 1, 1) := dk_4 (dk_at dksX0_passesAll_1 0 rfl rfl)
theorem dX0_passesAll_25 : decode cX0_passesAll 25 = .ok (.ireturn, 1) := dk_172 (dk_at dksX0_passesAll_1 1 rfl rfl)
abbrev cX0_years : ByteArray := prog_1_method_43_code
def yX0_years : MethodName := ⟨RX0, "years", "(II)I"⟩
def dkwX0_years_5 : List UInt8 := [180, 0, 88, 182, 0, 231, 96, 62, 132, 4, 1, 167, 255, 176, 42, 180, 0, 21, 180, 0, 88, 3, 46, 172]
abbrev dktX0_years_5 : List UInt8 := dkwX0_years_5 ++ []
def dkwX0_years_4 : List UInt8 := [167, 0, 32, 42, 180, 0, 21, 180, 0, 88, 3, 46, 17, 39, 15, 162, 0, 17, 29, 42, 42, 180, 0, 21]
abbrev dktX0_years_4 : List UInt8 := dkwX0_years_4 ++ dktX0_years_5
def dkwX0_years_3 : List UInt8 := [180, 0, 88, 5, 184, 0, 222, 54, 6, 21, 5, 16, 6, 112, 7, 162, 0, 12, 42, 21, 5, 182, 1, 31]
abbrev dktX0_years_3 : List UInt8 := dkwX0_years_3 ++ dktX0_years_4
def dkwX0_years_2 : List UInt8 := [3, 54, 4, 21, 4, 28, 162, 0, 80, 42, 180, 0, 21, 180, 0, 88, 4, 46, 54, 5, 42, 180, 0, 21]
abbrev dktX0_years_2 : List UInt8 := dkwX0_years_2 ++ dktX0_years_3
def dkwX0_years_1 : List UInt8 := [180, 0, 21, 182, 0, 205, 42, 180, 0, 21, 180, 0, 88, 4, 27, 5, 104, 17, 1, 117, 96, 79, 3, 62]
abbrev dktX0_years_1 : List UInt8 := dkwX0_years_1 ++ dktX0_years_2
def dkwX0_years_0 : List UInt8 := [27, 3, 17, 39, 15, 184, 0, 77, 153, 0, 13, 28, 4, 16, 40, 184, 0, 77, 154, 0, 5, 2, 172, 42]
abbrev dktX0_years_0 : List UInt8 := dkwX0_years_0 ++ dktX0_years_1
theorem dksX0_years_0 : cX0_years.data.toList.drop 0 = dktX0_years_0 := by decide +kernel
theorem dksX0_years_1 : cX0_years.data.toList.drop 24 = dktX0_years_1 := dk_seg dksX0_years_0 24 rfl rfl
theorem dksX0_years_2 : cX0_years.data.toList.drop 48 = dktX0_years_2 := dk_seg dksX0_years_1 24 rfl rfl
theorem dksX0_years_3 : cX0_years.data.toList.drop 72 = dktX0_years_3 := dk_seg dksX0_years_2 24 rfl rfl
theorem dksX0_years_4 : cX0_years.data.toList.drop 96 = dktX0_years_4 := dk_seg dksX0_years_3 24 rfl rfl
theorem dksX0_years_5 : cX0_years.data.toList.drop 120 = dktX0_years_5 := dk_seg dksX0_years_4 24 rfl rfl
theorem dX0_years_0 : decode cX0_years 0 = .ok (.iload_n 1, 1) := dk_27 (dk_at dksX0_years_0 0 rfl rfl)
theorem dX0_years_1 : decode cX0_years 1 = .ok (.iconst 0, 1) := dk_3 (dk_at dksX0_years_0 1 rfl rfl)
theorem dX0_years_2 : decode cX0_years 2 = .ok (.sipush 9999, 3) := dk_17 39 15 (dk_at dksX0_years_0 2 rfl rfl)
theorem dX0_years_5 : decode cX0_years 5 = .ok (.invokestatic 77, 3) := dk_184 0 77 (dk_at dksX0_years_0 5 rfl rfl)
theorem dX0_years_8 : decode cX0_years 8 = .ok (.ifCond .eq 13, 3) := dk_153 0 13 (dk_at dksX0_years_0 8 rfl rfl)
theorem dX0_years_11 : decode cX0_years 11 = .ok (.iload_n 2, 1) := dk_28 (dk_at dksX0_years_0 11 rfl rfl)
theorem dX0_years_12 : decode cX0_years 12 = .ok (.iconst 1, 1) := dk_4 (dk_at dksX0_years_0 12 rfl rfl)
theorem dX0_years_13 : decode cX0_years 13 = .ok (.bipush 40, 2) := dk_16 40 (dk_at dksX0_years_0 13 rfl rfl)
theorem dX0_years_15 : decode cX0_years 15 = .ok (.invokestatic 77, 3) := dk_184 0 77 (dk_at dksX0_years_0 15 rfl rfl)
theorem dX0_years_18 : decode cX0_years 18 = .ok (.ifCond .ne 5, 3) := dk_154 0 5 (dk_at dksX0_years_0 18 rfl rfl)
theorem dX0_years_21 : decode cX0_years 21 = .ok (.iconst (-1), 1) := dk_2 (dk_at dksX0_years_0 21 rfl rfl)
theorem dX0_years_22 : decode cX0_years 22 = .ok (.ireturn, 1) := dk_172 (dk_at dksX0_years_0 22 rfl rfl)
theorem dX0_years_23 : decode cX0_years 23 = .ok (.aload_n 0, 1) := dk_42 (dk_at dksX0_years_0 23 rfl rfl)
theorem dX0_years_24 : decode cX0_years 24 = .ok (.getfield 21, 3) := dk_180 0 21 (dk_at dksX0_years_1 0 rfl rfl)
theorem dX0_years_27 : decode cX0_years 27 = .ok (.invokevirtual 205, 3) := dk_182 0 205 (dk_at dksX0_years_1 3 rfl rfl)
theorem dX0_years_30 : decode cX0_years 30 = .ok (.aload_n 0, 1) := dk_42 (dk_at dksX0_years_1 6 rfl rfl)
theorem dX0_years_31 : decode cX0_years 31 = .ok (.getfield 21, 3) := dk_180 0 21 (dk_at dksX0_years_1 7 rfl rfl)
theorem dX0_years_34 : decode cX0_years 34 = .ok (.getfield 88, 3) := dk_180 0 88 (dk_at dksX0_years_1 10 rfl rfl)
theorem dX0_years_37 : decode cX0_years 37 = .ok (.iconst 1, 1) := dk_4 (dk_at dksX0_years_1 13 rfl rfl)
theorem dX0_years_38 : decode cX0_years 38 = .ok (.iload_n 1, 1) := dk_27 (dk_at dksX0_years_1 14 rfl rfl)
theorem dX0_years_39 : decode cX0_years 39 = .ok (.iconst 2, 1) := dk_5 (dk_at dksX0_years_1 15 rfl rfl)
theorem dX0_years_40 : decode cX0_years 40 = .ok (.imul, 1) := dk_104 (dk_at dksX0_years_1 16 rfl rfl)
theorem dX0_years_41 : decode cX0_years 41 = .ok (.sipush 373, 3) := dk_17 1 117 (dk_at dksX0_years_1 17 rfl rfl)
theorem dX0_years_44 : decode cX0_years 44 = .ok (.iadd, 1) := dk_96 (dk_at dksX0_years_1 20 rfl rfl)
theorem dX0_years_45 : decode cX0_years 45 = .ok (.iastore, 1) := dk_79 (dk_at dksX0_years_1 21 rfl rfl)
theorem dX0_years_46 : decode cX0_years 46 = .ok (.iconst 0, 1) := dk_3 (dk_at dksX0_years_1 22 rfl rfl)
theorem dX0_years_47 : decode cX0_years 47 = .ok (.istore_n 3, 1) := dk_62 (dk_at dksX0_years_1 23 rfl rfl)
theorem dX0_years_48 : decode cX0_years 48 = .ok (.iconst 0, 1) := dk_3 (dk_at dksX0_years_2 0 rfl rfl)
theorem dX0_years_49 : decode cX0_years 49 = .ok (.istore 4, 2) := dk_54 4 (dk_at dksX0_years_2 1 rfl rfl)
theorem dX0_years_51 : decode cX0_years 51 = .ok (.iload 4, 2) := dk_21 4 (dk_at dksX0_years_2 3 rfl rfl)
theorem dX0_years_53 : decode cX0_years 53 = .ok (.iload_n 2, 1) := dk_28 (dk_at dksX0_years_2 5 rfl rfl)
theorem dX0_years_54 : decode cX0_years 54 = .ok (.if_icmp .ge 80, 3) := dk_162 0 80 (dk_at dksX0_years_2 6 rfl rfl)
theorem dX0_years_57 : decode cX0_years 57 = .ok (.aload_n 0, 1) := dk_42 (dk_at dksX0_years_2 9 rfl rfl)
theorem dX0_years_58 : decode cX0_years 58 = .ok (.getfield 21, 3) := dk_180 0 21 (dk_at dksX0_years_2 10 rfl rfl)
theorem dX0_years_61 : decode cX0_years 61 = .ok (.getfield 88, 3) := dk_180 0 88 (dk_at dksX0_years_2 13 rfl rfl)
theorem dX0_years_64 : decode cX0_years 64 = .ok (.iconst 1, 1) := dk_4 (dk_at dksX0_years_2 16 rfl rfl)
theorem dX0_years_65 : decode cX0_years 65 = .ok (.iaload, 1) := dk_46 (dk_at dksX0_years_2 17 rfl rfl)
theorem dX0_years_66 : decode cX0_years 66 = .ok (.istore 5, 2) := dk_54 5 (dk_at dksX0_years_2 18 rfl rfl)
theorem dX0_years_68 : decode cX0_years 68 = .ok (.aload_n 0, 1) := dk_42 (dk_at dksX0_years_2 20 rfl rfl)
theorem dX0_years_69 : decode cX0_years 69 = .ok (.getfield 21, 3) := dk_180 0 21 (dk_at dksX0_years_2 21 rfl rfl)
theorem dX0_years_72 : decode cX0_years 72 = .ok (.getfield 88, 3) := dk_180 0 88 (dk_at dksX0_years_3 0 rfl rfl)
theorem dX0_years_75 : decode cX0_years 75 = .ok (.iconst 2, 1) := dk_5 (dk_at dksX0_years_3 3 rfl rfl)
theorem dX0_years_76 : decode cX0_years 76 = .ok (.invokestatic 222, 3) := dk_184 0 222 (dk_at dksX0_years_3 4 rfl rfl)
theorem dX0_years_79 : decode cX0_years 79 = .ok (.istore 6, 2) := dk_54 6 (dk_at dksX0_years_3 7 rfl rfl)
theorem dX0_years_81 : decode cX0_years 81 = .ok (.iload 5, 2) := dk_21 5 (dk_at dksX0_years_3 9 rfl rfl)
theorem dX0_years_83 : decode cX0_years 83 = .ok (.bipush 6, 2) := dk_16 6 (dk_at dksX0_years_3 11 rfl rfl)
theorem dX0_years_85 : decode cX0_years 85 = .ok (.irem, 1) := dk_112 (dk_at dksX0_years_3 13 rfl rfl)
theorem dX0_years_86 : decode cX0_years 86 = .ok (.iconst 4, 1) := dk_7 (dk_at dksX0_years_3 14 rfl rfl)
theorem dX0_years_87 : decode cX0_years 87 = .ok (.if_icmp .ge 12, 3) := dk_162 0 12 (dk_at dksX0_years_3 15 rfl rfl)
theorem dX0_years_90 : decode cX0_years 90 = .ok (.aload_n 0, 1) := dk_42 (dk_at dksX0_years_3 18 rfl rfl)
theorem dX0_years_91 : decode cX0_years 91 = .ok (.iload 5, 2) := dk_21 5 (dk_at dksX0_years_3 19 rfl rfl)
theorem dX0_years_93 : decode cX0_years 93 = .ok (.invokevirtual 287, 3) := dk_182 1 31 (dk_at dksX0_years_3 21 rfl rfl)
theorem dX0_years_96 : decode cX0_years 96 = .ok (.goto 32, 3) := dk_167 0 32 (dk_at dksX0_years_4 0 rfl rfl)
theorem dX0_years_99 : decode cX0_years 99 = .ok (.aload_n 0, 1) := dk_42 (dk_at dksX0_years_4 3 rfl rfl)
theorem dX0_years_100 : decode cX0_years 100 = .ok (.getfield 21, 3) := dk_180 0 21 (dk_at dksX0_years_4 4 rfl rfl)
theorem dX0_years_103 : decode cX0_years 103 = .ok (.getfield 88, 3) := dk_180 0 88 (dk_at dksX0_years_4 7 rfl rfl)
theorem dX0_years_106 : decode cX0_years 106 = .ok (.iconst 0, 1) := dk_3 (dk_at dksX0_years_4 10 rfl rfl)
theorem dX0_years_107 : decode cX0_years 107 = .ok (.iaload, 1) := dk_46 (dk_at dksX0_years_4 11 rfl rfl)
theorem dX0_years_108 : decode cX0_years 108 = .ok (.sipush 9999, 3) := dk_17 39 15 (dk_at dksX0_years_4 12 rfl rfl)
theorem dX0_years_111 : decode cX0_years 111 = .ok (.if_icmp .ge 17, 3) := dk_162 0 17 (dk_at dksX0_years_4 15 rfl rfl)
theorem dX0_years_114 : decode cX0_years 114 = .ok (.iload_n 3, 1) := dk_29 (dk_at dksX0_years_4 18 rfl rfl)
theorem dX0_years_115 : decode cX0_years 115 = .ok (.aload_n 0, 1) := dk_42 (dk_at dksX0_years_4 19 rfl rfl)
theorem dX0_years_116 : decode cX0_years 116 = .ok (.aload_n 0, 1) := dk_42 (dk_at dksX0_years_4 20 rfl rfl)
theorem dX0_years_117 : decode cX0_years 117 = .ok (.getfield 21, 3) := dk_180 0 21 (dk_at dksX0_years_4 21 rfl rfl)
theorem dX0_years_120 : decode cX0_years 120 = .ok (.getfield 88, 3) := dk_180 0 88 (dk_at dksX0_years_5 0 rfl rfl)
theorem dX0_years_123 : decode cX0_years 123 = .ok (.invokevirtual 231, 3) := dk_182 0 231 (dk_at dksX0_years_5 3 rfl rfl)
theorem dX0_years_126 : decode cX0_years 126 = .ok (.iadd, 1) := dk_96 (dk_at dksX0_years_5 6 rfl rfl)
theorem dX0_years_127 : decode cX0_years 127 = .ok (.istore_n 3, 1) := dk_62 (dk_at dksX0_years_5 7 rfl rfl)
theorem dX0_years_128 : decode cX0_years 128 = .ok (.iinc 4 1, 3) := dk_132 4 1 (dk_at dksX0_years_5 8 rfl rfl)
theorem dX0_years_131 : decode cX0_years 131 = .ok (.goto (-80), 3) := dk_167 255 176 (dk_at dksX0_years_5 11 rfl rfl)
theorem dX0_years_134 : decode cX0_years 134 = .ok (.aload_n 0, 1) := dk_42 (dk_at dksX0_years_5 14 rfl rfl)
theorem dX0_years_135 : decode cX0_years 135 = .ok (.getfield 21, 3) := dk_180 0 21 (dk_at dksX0_years_5 15 rfl rfl)
theorem dX0_years_138 : decode cX0_years 138 = .ok (.getfield 88, 3) := dk_180 0 88 (dk_at dksX0_years_5 18 rfl rfl)
theorem dX0_years_141 : decode cX0_years 141 = .ok (.iconst 0, 1) := dk_3 (dk_at dksX0_years_5 21 rfl rfl)
theorem dX0_years_142 : decode cX0_years 142 = .ok (.iaload, 1) := dk_46 (dk_at dksX0_years_5 22 rfl rfl)
theorem dX0_years_143 : decode cX0_years 143 = .ok (.ireturn, 1) := dk_172 (dk_at dksX0_years_5 23 rfl rfl)
abbrev cX0_befalls : ByteArray := prog_1_method_42_code
def yX0_befalls : MethodName := ⟨RX0, "befalls", "(I)V"⟩
def dkwX0_befalls_6 : List UInt8 := [62, 177]
abbrev dktX0_befalls_6 : List UInt8 := dkwX0_befalls_6 ++ []
def dkwX0_befalls_5 : List UInt8 := [16, 9, 112, 96, 96, 79, 167, 0, 19, 42, 28, 182, 0, 211, 153, 0, 11, 29, 42, 28, 182, 0, 214, 96]
abbrev dktX0_befalls_5 : List UInt8 := dkwX0_befalls_5 ++ dktX0_befalls_6
def dkwX0_befalls_4 : List UInt8 := [112, 96, 182, 0, 217, 153, 0, 43, 42, 180, 0, 21, 180, 0, 88, 5, 92, 46, 4, 27, 16, 6, 108]
abbrev dktX0_befalls_4 : List UInt8 := dkwX0_befalls_4 ++ dktX0_befalls_5
def dkwX0_befalls_3 : List UInt8 := [42, 28, 182, 0, 202, 153, 0, 67, 42, 28, 182, 0, 208, 167, 0, 59, 42, 4, 27, 16, 6, 108, 16, 9]
abbrev dktX0_befalls_3 : List UInt8 := dkwX0_befalls_3 ++ dktX0_befalls_4
def dkwX0_befalls_2 : List UInt8 := [171, 0, 0, 0, 81, 0, 0, 0, 2, 0, 0, 0, 0, 0, 0, 0, 25, 0, 0, 0, 3, 0, 0, 0, 41]
abbrev dktX0_befalls_2 : List UInt8 := dkwX0_befalls_2 ++ dktX0_befalls_3
def dkwX0_befalls_1 : List UInt8 := [16, 6, 112]
abbrev dktX0_befalls_1 : List UInt8 := dkwX0_befalls_1 ++ dktX0_befalls_2
def dkwX0_befalls_0 : List UInt8 := [42, 182, 0, 73, 154, 0, 7, 2, 167, 0, 12, 27, 16, 6, 108, 42, 182, 0, 73, 112, 61, 3, 62, 27]
abbrev dktX0_befalls_0 : List UInt8 := dkwX0_befalls_0 ++ dktX0_befalls_1
theorem dksX0_befalls_0 : cX0_befalls.data.toList.drop 0 = dktX0_befalls_0 := by decide +kernel
theorem dksX0_befalls_1 : cX0_befalls.data.toList.drop 24 = dktX0_befalls_1 := dk_seg dksX0_befalls_0 24 rfl rfl
theorem dksX0_befalls_2 : cX0_befalls.data.toList.drop 27 = dktX0_befalls_2 := dk_seg dksX0_befalls_1 3 rfl rfl
theorem dksX0_befalls_3 : cX0_befalls.data.toList.drop 52 = dktX0_befalls_3 := dk_seg dksX0_befalls_2 25 rfl rfl
theorem dksX0_befalls_4 : cX0_befalls.data.toList.drop 76 = dktX0_befalls_4 := dk_seg dksX0_befalls_3 24 rfl rfl
theorem dksX0_befalls_5 : cX0_befalls.data.toList.drop 99 = dktX0_befalls_5 := dk_seg dksX0_befalls_4 23 rfl rfl
theorem dksX0_befalls_6 : cX0_befalls.data.toList.drop 123 = dktX0_befalls_6 := dk_seg dksX0_befalls_5 24 rfl rfl
theorem dX0_befalls_0 : decode cX0_befalls 0 = .ok (.aload_n 0, 1) := dk_42 (dk_at dksX0_befalls_0 0 rfl rfl)
theorem dX0_befalls_1 : decode cX0_befalls 1 = .ok (.invokevirtual 73, 3) := dk_182 0 73 (dk_at dksX0_befalls_0 1 rfl rfl)
theorem dX0_befalls_4 : decode cX0_befalls 4 = .ok (.ifCond .ne 7, 3) := dk_154 0 7 (dk_at dksX0_befalls_0 4 rfl rfl)
theorem dX0_befalls_7 : decode cX0_befalls 7 = .ok (.iconst (-1), 1) := dk_2 (dk_at dksX0_befalls_0 7 rfl rfl)
theorem dX0_befalls_8 : decode cX0_befalls 8 = .ok (.goto 12, 3) := dk_167 0 12 (dk_at dksX0_befalls_0 8 rfl rfl)
theorem dX0_befalls_11 : decode cX0_befalls 11 = .ok (.iload_n 1, 1) := dk_27 (dk_at dksX0_befalls_0 11 rfl rfl)
theorem dX0_befalls_12 : decode cX0_befalls 12 = .ok (.bipush 6, 2) := dk_16 6 (dk_at dksX0_befalls_0 12 rfl rfl)
theorem dX0_befalls_14 : decode cX0_befalls 14 = .ok (.idiv, 1) := dk_108 (dk_at dksX0_befalls_0 14 rfl rfl)
theorem dX0_befalls_15 : decode cX0_befalls 15 = .ok (.aload_n 0, 1) := dk_42 (dk_at dksX0_befalls_0 15 rfl rfl)
theorem dX0_befalls_16 : decode cX0_befalls 16 = .ok (.invokevirtual 73, 3) := dk_182 0 73 (dk_at dksX0_befalls_0 16 rfl rfl)
theorem dX0_befalls_19 : decode cX0_befalls 19 = .ok (.irem, 1) := dk_112 (dk_at dksX0_befalls_0 19 rfl rfl)
theorem dX0_befalls_20 : decode cX0_befalls 20 = .ok (.istore_n 2, 1) := dk_61 (dk_at dksX0_befalls_0 20 rfl rfl)
theorem dX0_befalls_21 : decode cX0_befalls 21 = .ok (.iconst 0, 1) := dk_3 (dk_at dksX0_befalls_0 21 rfl rfl)
theorem dX0_befalls_22 : decode cX0_befalls 22 = .ok (.istore_n 3, 1) := dk_62 (dk_at dksX0_befalls_0 22 rfl rfl)
theorem dX0_befalls_23 : decode cX0_befalls 23 = .ok (.iload_n 1, 1) := dk_27 (dk_at dksX0_befalls_0 23 rfl rfl)
theorem dX0_befalls_24 : decode cX0_befalls 24 = .ok (.bipush 6, 2) := dk_16 6 (dk_at dksX0_befalls_1 0 rfl rfl)
theorem dX0_befalls_26 : decode cX0_befalls 26 = .ok (.irem, 1) := dk_112 (dk_at dksX0_befalls_1 2 rfl rfl)
theorem dX0_befalls_27 : decode cX0_befalls 27 = .ok (.lookupswitch 81 #[(0, 25), (3, 41)], 25) := by decide +kernel
theorem dX0_befalls_52 : decode cX0_befalls 52 = .ok (.aload_n 0, 1) := dk_42 (dk_at dksX0_befalls_3 0 rfl rfl)
theorem dX0_befalls_53 : decode cX0_befalls 53 = .ok (.iload_n 2, 1) := dk_28 (dk_at dksX0_befalls_3 1 rfl rfl)
theorem dX0_befalls_54 : decode cX0_befalls 54 = .ok (.invokevirtual 202, 3) := dk_182 0 202 (dk_at dksX0_befalls_3 2 rfl rfl)
theorem dX0_befalls_57 : decode cX0_befalls 57 = .ok (.ifCond .eq 67, 3) := dk_153 0 67 (dk_at dksX0_befalls_3 5 rfl rfl)
theorem dX0_befalls_60 : decode cX0_befalls 60 = .ok (.aload_n 0, 1) := dk_42 (dk_at dksX0_befalls_3 8 rfl rfl)
theorem dX0_befalls_61 : decode cX0_befalls 61 = .ok (.iload_n 2, 1) := dk_28 (dk_at dksX0_befalls_3 9 rfl rfl)
theorem dX0_befalls_62 : decode cX0_befalls 62 = .ok (.invokevirtual 208, 3) := dk_182 0 208 (dk_at dksX0_befalls_3 10 rfl rfl)
theorem dX0_befalls_65 : decode cX0_befalls 65 = .ok (.goto 59, 3) := dk_167 0 59 (dk_at dksX0_befalls_3 13 rfl rfl)
theorem dX0_befalls_68 : decode cX0_befalls 68 = .ok (.aload_n 0, 1) := dk_42 (dk_at dksX0_befalls_3 16 rfl rfl)
theorem dX0_befalls_69 : decode cX0_befalls 69 = .ok (.iconst 1, 1) := dk_4 (dk_at dksX0_befalls_3 17 rfl rfl)
theorem dX0_befalls_70 : decode cX0_befalls 70 = .ok (.iload_n 1, 1) := dk_27 (dk_at dksX0_befalls_3 18 rfl rfl)
theorem dX0_befalls_71 : decode cX0_befalls 71 = .ok (.bipush 6, 2) := dk_16 6 (dk_at dksX0_befalls_3 19 rfl rfl)
theorem dX0_befalls_73 : decode cX0_befalls 73 = .ok (.idiv, 1) := dk_108 (dk_at dksX0_befalls_3 21 rfl rfl)
theorem dX0_befalls_74 : decode cX0_befalls 74 = .ok (.bipush 9, 2) := dk_16 9 (dk_at dksX0_befalls_3 22 rfl rfl)
theorem dX0_befalls_76 : decode cX0_befalls 76 = .ok (.irem, 1) := dk_112 (dk_at dksX0_befalls_4 0 rfl rfl)
theorem dX0_befalls_77 : decode cX0_befalls 77 = .ok (.iadd, 1) := dk_96 (dk_at dksX0_befalls_4 1 rfl rfl)
theorem dX0_befalls_78 : decode cX0_befalls 78 = .ok (.invokevirtual 217, 3) := dk_182 0 217 (dk_at dksX0_befalls_4 2 rfl rfl)
theorem dX0_befalls_81 : decode cX0_befalls 81 = .ok (.ifCond .eq 43, 3) := dk_153 0 43 (dk_at dksX0_befalls_4 5 rfl rfl)
theorem dX0_befalls_84 : decode cX0_befalls 84 = .ok (.aload_n 0, 1) := dk_42 (dk_at dksX0_befalls_4 8 rfl rfl)
theorem dX0_befalls_85 : decode cX0_befalls 85 = .ok (.getfield 21, 3) := dk_180 0 21 (dk_at dksX0_befalls_4 9 rfl rfl)
theorem dX0_befalls_88 : decode cX0_befalls 88 = .ok (.getfield 88, 3) := dk_180 0 88 (dk_at dksX0_befalls_4 12 rfl rfl)
theorem dX0_befalls_91 : decode cX0_befalls 91 = .ok (.iconst 2, 1) := dk_5 (dk_at dksX0_befalls_4 15 rfl rfl)
theorem dX0_befalls_92 : decode cX0_befalls 92 = .ok (.dup2, 1) := dk_92 (dk_at dksX0_befalls_4 16 rfl rfl)
theorem dX0_befalls_93 : decode cX0_befalls 93 = .ok (.iaload, 1) := dk_46 (dk_at dksX0_befalls_4 17 rfl rfl)
theorem dX0_befalls_94 : decode cX0_befalls 94 = .ok (.iconst 1, 1) := dk_4 (dk_at dksX0_befalls_4 18 rfl rfl)
theorem dX0_befalls_95 : decode cX0_befalls 95 = .ok (.iload_n 1, 1) := dk_27 (dk_at dksX0_befalls_4 19 rfl rfl)
theorem dX0_befalls_96 : decode cX0_befalls 96 = .ok (.bipush 6, 2) := dk_16 6 (dk_at dksX0_befalls_4 20 rfl rfl)
theorem dX0_befalls_98 : decode cX0_befalls 98 = .ok (.idiv, 1) := dk_108 (dk_at dksX0_befalls_4 22 rfl rfl)
theorem dX0_befalls_99 : decode cX0_befalls 99 = .ok (.bipush 9, 2) := dk_16 9 (dk_at dksX0_befalls_5 0 rfl rfl)
theorem dX0_befalls_101 : decode cX0_befalls 101 = .ok (.irem, 1) := dk_112 (dk_at dksX0_befalls_5 2 rfl rfl)
theorem dX0_befalls_102 : decode cX0_befalls 102 = .ok (.iadd, 1) := dk_96 (dk_at dksX0_befalls_5 3 rfl rfl)
theorem dX0_befalls_103 : decode cX0_befalls 103 = .ok (.iadd, 1) := dk_96 (dk_at dksX0_befalls_5 4 rfl rfl)
theorem dX0_befalls_104 : decode cX0_befalls 104 = .ok (.iastore, 1) := dk_79 (dk_at dksX0_befalls_5 5 rfl rfl)
theorem dX0_befalls_105 : decode cX0_befalls 105 = .ok (.goto 19, 3) := dk_167 0 19 (dk_at dksX0_befalls_5 6 rfl rfl)
theorem dX0_befalls_108 : decode cX0_befalls 108 = .ok (.aload_n 0, 1) := dk_42 (dk_at dksX0_befalls_5 9 rfl rfl)
theorem dX0_befalls_109 : decode cX0_befalls 109 = .ok (.iload_n 2, 1) := dk_28 (dk_at dksX0_befalls_5 10 rfl rfl)
theorem dX0_befalls_110 : decode cX0_befalls 110 = .ok (.invokevirtual 211, 3) := dk_182 0 211 (dk_at dksX0_befalls_5 11 rfl rfl)
theorem dX0_befalls_113 : decode cX0_befalls 113 = .ok (.ifCond .eq 11, 3) := dk_153 0 11 (dk_at dksX0_befalls_5 14 rfl rfl)
theorem dX0_befalls_116 : decode cX0_befalls 116 = .ok (.iload_n 3, 1) := dk_29 (dk_at dksX0_befalls_5 17 rfl rfl)
theorem dX0_befalls_117 : decode cX0_befalls 117 = .ok (.aload_n 0, 1) := dk_42 (dk_at dksX0_befalls_5 18 rfl rfl)
theorem dX0_befalls_118 : decode cX0_befalls 118 = .ok (.iload_n 2, 1) := dk_28 (dk_at dksX0_befalls_5 19 rfl rfl)
theorem dX0_befalls_119 : decode cX0_befalls 119 = .ok (.invokevirtual 214, 3) := dk_182 0 214 (dk_at dksX0_befalls_5 20 rfl rfl)
theorem dX0_befalls_122 : decode cX0_befalls 122 = .ok (.iadd, 1) := dk_96 (dk_at dksX0_befalls_5 23 rfl rfl)
theorem dX0_befalls_123 : decode cX0_befalls 123 = .ok (.istore_n 3, 1) := dk_62 (dk_at dksX0_befalls_6 0 rfl rfl)
theorem dX0_befalls_124 : decode cX0_befalls 124 = .ok (.return_, 1) := dk_177 (dk_at dksX0_befalls_6 1 rfl rfl)
abbrev cX0_undo : ByteArray := prog_1_method_44_code
def yX0_undo : MethodName := ⟨RX0, "undo", "()I"⟩
def dkwX0_undo_2 : List UInt8 := [180, 0, 88, 184, 1, 37, 42, 180, 0, 21, 180, 0, 70, 6, 46, 172]
abbrev dktX0_undo_2 : List UInt8 := dkwX0_undo_2 ++ []
def dkwX0_undo_1 : List UInt8 := [4, 100, 79, 42, 180, 0, 21, 180, 1, 34, 42, 180, 0, 21, 180, 0, 70, 6, 46, 50, 42, 180, 0, 21]
abbrev dktX0_undo_1 : List UInt8 := dkwX0_undo_1 ++ dktX0_undo_2
def dkwX0_undo_0 : List UInt8 := [42, 180, 0, 21, 180, 0, 70, 6, 46, 154, 0, 5, 2, 172, 42, 180, 0, 21, 180, 0, 70, 6, 92, 46]
abbrev dktX0_undo_0 : List UInt8 := dkwX0_undo_0 ++ dktX0_undo_1
theorem dksX0_undo_0 : cX0_undo.data.toList.drop 0 = dktX0_undo_0 := by decide +kernel
theorem dksX0_undo_1 : cX0_undo.data.toList.drop 24 = dktX0_undo_1 := dk_seg dksX0_undo_0 24 rfl rfl
theorem dksX0_undo_2 : cX0_undo.data.toList.drop 48 = dktX0_undo_2 := dk_seg dksX0_undo_1 24 rfl rfl
theorem dX0_undo_0 : decode cX0_undo 0 = .ok (.aload_n 0, 1) := dk_42 (dk_at dksX0_undo_0 0 rfl rfl)
theorem dX0_undo_1 : decode cX0_undo 1 = .ok (.getfield 21, 3) := dk_180 0 21 (dk_at dksX0_undo_0 1 rfl rfl)
theorem dX0_undo_4 : decode cX0_undo 4 = .ok (.getfield 70, 3) := dk_180 0 70 (dk_at dksX0_undo_0 4 rfl rfl)
theorem dX0_undo_7 : decode cX0_undo 7 = .ok (.iconst 3, 1) := dk_6 (dk_at dksX0_undo_0 7 rfl rfl)
theorem dX0_undo_8 : decode cX0_undo 8 = .ok (.iaload, 1) := dk_46 (dk_at dksX0_undo_0 8 rfl rfl)
theorem dX0_undo_9 : decode cX0_undo 9 = .ok (.ifCond .ne 5, 3) := dk_154 0 5 (dk_at dksX0_undo_0 9 rfl rfl)
theorem dX0_undo_12 : decode cX0_undo 12 = .ok (.iconst (-1), 1) := dk_2 (dk_at dksX0_undo_0 12 rfl rfl)
theorem dX0_undo_13 : decode cX0_undo 13 = .ok (.ireturn, 1) := dk_172 (dk_at dksX0_undo_0 13 rfl rfl)
theorem dX0_undo_14 : decode cX0_undo 14 = .ok (.aload_n 0, 1) := dk_42 (dk_at dksX0_undo_0 14 rfl rfl)
theorem dX0_undo_15 : decode cX0_undo 15 = .ok (.getfield 21, 3) := dk_180 0 21 (dk_at dksX0_undo_0 15 rfl rfl)
theorem dX0_undo_18 : decode cX0_undo 18 = .ok (.getfield 70, 3) := dk_180 0 70 (dk_at dksX0_undo_0 18 rfl rfl)
theorem dX0_undo_21 : decode cX0_undo 21 = .ok (.iconst 3, 1) := dk_6 (dk_at dksX0_undo_0 21 rfl rfl)
theorem dX0_undo_22 : decode cX0_undo 22 = .ok (.dup2, 1) := dk_92 (dk_at dksX0_undo_0 22 rfl rfl)
theorem dX0_undo_23 : decode cX0_undo 23 = .ok (.iaload, 1) := dk_46 (dk_at dksX0_undo_0 23 rfl rfl)
theorem dX0_undo_24 : decode cX0_undo 24 = .ok (.iconst 1, 1) := dk_4 (dk_at dksX0_undo_1 0 rfl rfl)
theorem dX0_undo_25 : decode cX0_undo 25 = .ok (.isub, 1) := dk_100 (dk_at dksX0_undo_1 1 rfl rfl)
theorem dX0_undo_26 : decode cX0_undo 26 = .ok (.iastore, 1) := dk_79 (dk_at dksX0_undo_1 2 rfl rfl)
theorem dX0_undo_27 : decode cX0_undo 27 = .ok (.aload_n 0, 1) := dk_42 (dk_at dksX0_undo_1 3 rfl rfl)
theorem dX0_undo_28 : decode cX0_undo 28 = .ok (.getfield 21, 3) := dk_180 0 21 (dk_at dksX0_undo_1 4 rfl rfl)
theorem dX0_undo_31 : decode cX0_undo 31 = .ok (.getfield 290, 3) := dk_180 1 34 (dk_at dksX0_undo_1 7 rfl rfl)
theorem dX0_undo_34 : decode cX0_undo 34 = .ok (.aload_n 0, 1) := dk_42 (dk_at dksX0_undo_1 10 rfl rfl)
theorem dX0_undo_35 : decode cX0_undo 35 = .ok (.getfield 21, 3) := dk_180 0 21 (dk_at dksX0_undo_1 11 rfl rfl)
theorem dX0_undo_38 : decode cX0_undo 38 = .ok (.getfield 70, 3) := dk_180 0 70 (dk_at dksX0_undo_1 14 rfl rfl)
theorem dX0_undo_41 : decode cX0_undo 41 = .ok (.iconst 3, 1) := dk_6 (dk_at dksX0_undo_1 17 rfl rfl)
theorem dX0_undo_42 : decode cX0_undo 42 = .ok (.iaload, 1) := dk_46 (dk_at dksX0_undo_1 18 rfl rfl)
theorem dX0_undo_43 : decode cX0_undo 43 = .ok (.aaload, 1) := dk_50 (dk_at dksX0_undo_1 19 rfl rfl)
theorem dX0_undo_44 : decode cX0_undo 44 = .ok (.aload_n 0, 1) := dk_42 (dk_at dksX0_undo_1 20 rfl rfl)
theorem dX0_undo_45 : decode cX0_undo 45 = .ok (.getfield 21, 3) := dk_180 0 21 (dk_at dksX0_undo_1 21 rfl rfl)
theorem dX0_undo_48 : decode cX0_undo 48 = .ok (.getfield 88, 3) := dk_180 0 88 (dk_at dksX0_undo_2 0 rfl rfl)
theorem dX0_undo_51 : decode cX0_undo 51 = .ok (.invokestatic 293, 3) := dk_184 1 37 (dk_at dksX0_undo_2 3 rfl rfl)
theorem dX0_undo_54 : decode cX0_undo 54 = .ok (.aload_n 0, 1) := dk_42 (dk_at dksX0_undo_2 6 rfl rfl)
theorem dX0_undo_55 : decode cX0_undo 55 = .ok (.getfield 21, 3) := dk_180 0 21 (dk_at dksX0_undo_2 7 rfl rfl)
theorem dX0_undo_58 : decode cX0_undo 58 = .ok (.getfield 70, 3) := dk_180 0 70 (dk_at dksX0_undo_2 10 rfl rfl)
theorem dX0_undo_61 : decode cX0_undo 61 = .ok (.iconst 3, 1) := dk_6 (dk_at dksX0_undo_2 13 rfl rfl)
theorem dX0_undo_62 : decode cX0_undo 62 = .ok (.iaload, 1) := dk_46 (dk_at dksX0_undo_2 14 rfl rfl)
theorem dX0_undo_63 : decode cX0_undo 63 = .ok (.ireturn, 1) := dk_172 (dk_at dksX0_undo_2 15 rfl rfl)
abbrev cX0_of : ByteArray := prog_1_method_45_code
def yX0_of : MethodName := ⟨RX0, "of", "(II)I"⟩
def dkwX0_of_6 : List UInt8 := [182, 0, 228, 172, 17, 216, 240, 172]
abbrev dktX0_of_6 : List UInt8 := dkwX0_of_6 ++ []
def dkwX0_of_5 : List UInt8 := [182, 0, 175, 42, 180, 0, 21, 180, 0, 88, 27, 182, 0, 198, 172, 42, 42, 180, 0, 21, 180, 0, 88, 27]
abbrev dktX0_of_5 : List UInt8 := dkwX0_of_5 ++ dktX0_of_6
def dkwX0_of_4 : List UInt8 := [180, 0, 88, 7, 27, 96, 46, 172, 42, 180, 0, 21, 180, 0, 88, 27, 184, 0, 141, 172, 42, 42]
abbrev dktX0_of_4 : List UInt8 := dkwX0_of_4 ++ dktX0_of_5
def dkwX0_of_3 : List UInt8 := [180, 0, 101, 27, 46, 172, 42, 180, 0, 21, 180, 0, 88, 16, 20, 27, 96, 46, 172, 42, 180, 0, 21]
abbrev dktX0_of_3 : List UInt8 := dkwX0_of_3 ++ dktX0_of_4
def dkwX0_of_2 : List UInt8 := [42, 180, 0, 21, 180, 0, 95, 27, 46, 172, 42, 180, 0, 21, 180, 0, 98, 27, 46, 172, 42, 180, 0, 21]
abbrev dktX0_of_2 : List UInt8 := dkwX0_of_2 ++ dktX0_of_3
def dkwX0_of_1 : List UInt8 := [170, 0, 0, 0, 0, 0, 144, 0, 0, 0, 0, 0, 0, 0, 7, 0, 0, 0, 47, 0, 0, 0, 57, 0, 0, 0, 67, 0, 0, 0, 77, 0, 0, 0, 90, 0, 0, 0, 102, 0, 0, 0, 114, 0, 0, 0, 131]
abbrev dktX0_of_1 : List UInt8 := dkwX0_of_1 ++ dktX0_of_2
def dkwX0_of_0 : List UInt8 := [42, 27, 182, 0, 85, 154, 0, 7, 17, 216, 240, 172, 28]
abbrev dktX0_of_0 : List UInt8 := dkwX0_of_0 ++ dktX0_of_1
theorem dksX0_of_0 : cX0_of.data.toList.drop 0 = dktX0_of_0 := by decide +kernel
theorem dksX0_of_1 : cX0_of.data.toList.drop 13 = dktX0_of_1 := dk_seg dksX0_of_0 13 rfl rfl
theorem dksX0_of_2 : cX0_of.data.toList.drop 60 = dktX0_of_2 := dk_seg dksX0_of_1 47 rfl rfl
theorem dksX0_of_3 : cX0_of.data.toList.drop 84 = dktX0_of_3 := dk_seg dksX0_of_2 24 rfl rfl
theorem dksX0_of_4 : cX0_of.data.toList.drop 107 = dktX0_of_4 := dk_seg dksX0_of_3 23 rfl rfl
theorem dksX0_of_5 : cX0_of.data.toList.drop 129 = dktX0_of_5 := dk_seg dksX0_of_4 22 rfl rfl
theorem dksX0_of_6 : cX0_of.data.toList.drop 153 = dktX0_of_6 := dk_seg dksX0_of_5 24 rfl rfl
theorem dX0_of_0 : decode cX0_of 0 = .ok (.aload_n 0, 1) := dk_42 (dk_at dksX0_of_0 0 rfl rfl)
theorem dX0_of_1 : decode cX0_of 1 = .ok (.iload_n 1, 1) := dk_27 (dk_at dksX0_of_0 1 rfl rfl)
theorem dX0_of_2 : decode cX0_of 2 = .ok (.invokevirtual 85, 3) := dk_182 0 85 (dk_at dksX0_of_0 2 rfl rfl)
theorem dX0_of_5 : decode cX0_of 5 = .ok (.ifCond .ne 7, 3) := dk_154 0 7 (dk_at dksX0_of_0 5 rfl rfl)
theorem dX0_of_8 : decode cX0_of 8 = .ok (.sipush (-10000), 3) := dk_17 216 240 (dk_at dksX0_of_0 8 rfl rfl)
theorem dX0_of_11 : decode cX0_of 11 = .ok (.ireturn, 1) := dk_172 (dk_at dksX0_of_0 11 rfl rfl)
theorem dX0_of_12 : decode cX0_of 12 = .ok (.iload_n 2, 1) := dk_28 (dk_at dksX0_of_0 12 rfl rfl)
theorem dX0_of_13 : decode cX0_of 13 = .ok (.tableswitch 144 0 7 #[47, 57, 67, 77, 90, 102, 114, 131], 47) := by decide +kernel
theorem dX0_of_60 : decode cX0_of 60 = .ok (.aload_n 0, 1) := dk_42 (dk_at dksX0_of_2 0 rfl rfl)
theorem dX0_of_61 : decode cX0_of 61 = .ok (.getfield 21, 3) := dk_180 0 21 (dk_at dksX0_of_2 1 rfl rfl)
theorem dX0_of_64 : decode cX0_of 64 = .ok (.getfield 95, 3) := dk_180 0 95 (dk_at dksX0_of_2 4 rfl rfl)
theorem dX0_of_67 : decode cX0_of 67 = .ok (.iload_n 1, 1) := dk_27 (dk_at dksX0_of_2 7 rfl rfl)
theorem dX0_of_68 : decode cX0_of 68 = .ok (.iaload, 1) := dk_46 (dk_at dksX0_of_2 8 rfl rfl)
theorem dX0_of_69 : decode cX0_of 69 = .ok (.ireturn, 1) := dk_172 (dk_at dksX0_of_2 9 rfl rfl)
theorem dX0_of_70 : decode cX0_of 70 = .ok (.aload_n 0, 1) := dk_42 (dk_at dksX0_of_2 10 rfl rfl)
theorem dX0_of_71 : decode cX0_of 71 = .ok (.getfield 21, 3) := dk_180 0 21 (dk_at dksX0_of_2 11 rfl rfl)
theorem dX0_of_74 : decode cX0_of 74 = .ok (.getfield 98, 3) := dk_180 0 98 (dk_at dksX0_of_2 14 rfl rfl)
theorem dX0_of_77 : decode cX0_of 77 = .ok (.iload_n 1, 1) := dk_27 (dk_at dksX0_of_2 17 rfl rfl)
theorem dX0_of_78 : decode cX0_of 78 = .ok (.iaload, 1) := dk_46 (dk_at dksX0_of_2 18 rfl rfl)
theorem dX0_of_79 : decode cX0_of 79 = .ok (.ireturn, 1) := dk_172 (dk_at dksX0_of_2 19 rfl rfl)
theorem dX0_of_80 : decode cX0_of 80 = .ok (.aload_n 0, 1) := dk_42 (dk_at dksX0_of_2 20 rfl rfl)
theorem dX0_of_81 : decode cX0_of 81 = .ok (.getfield 21, 3) := dk_180 0 21 (dk_at dksX0_of_2 21 rfl rfl)
theorem dX0_of_84 : decode cX0_of 84 = .ok (.getfield 101, 3) := dk_180 0 101 (dk_at dksX0_of_3 0 rfl rfl)
theorem dX0_of_87 : decode cX0_of 87 = .ok (.iload_n 1, 1) := dk_27 (dk_at dksX0_of_3 3 rfl rfl)
theorem dX0_of_88 : decode cX0_of 88 = .ok (.iaload, 1) := dk_46 (dk_at dksX0_of_3 4 rfl rfl)
theorem dX0_of_89 : decode cX0_of 89 = .ok (.ireturn, 1) := dk_172 (dk_at dksX0_of_3 5 rfl rfl)
theorem dX0_of_90 : decode cX0_of 90 = .ok (.aload_n 0, 1) := dk_42 (dk_at dksX0_of_3 6 rfl rfl)
theorem dX0_of_91 : decode cX0_of 91 = .ok (.getfield 21, 3) := dk_180 0 21 (dk_at dksX0_of_3 7 rfl rfl)
theorem dX0_of_94 : decode cX0_of 94 = .ok (.getfield 88, 3) := dk_180 0 88 (dk_at dksX0_of_3 10 rfl rfl)
theorem dX0_of_97 : decode cX0_of 97 = .ok (.bipush 20, 2) := dk_16 20 (dk_at dksX0_of_3 13 rfl rfl)
theorem dX0_of_99 : decode cX0_of 99 = .ok (.iload_n 1, 1) := dk_27 (dk_at dksX0_of_3 15 rfl rfl)
theorem dX0_of_100 : decode cX0_of 100 = .ok (.iadd, 1) := dk_96 (dk_at dksX0_of_3 16 rfl rfl)
theorem dX0_of_101 : decode cX0_of 101 = .ok (.iaload, 1) := dk_46 (dk_at dksX0_of_3 17 rfl rfl)
theorem dX0_of_102 : decode cX0_of 102 = .ok (.ireturn, 1) := dk_172 (dk_at dksX0_of_3 18 rfl rfl)
theorem dX0_of_103 : decode cX0_of 103 = .ok (.aload_n 0, 1) := dk_42 (dk_at dksX0_of_3 19 rfl rfl)
theorem dX0_of_104 : decode cX0_of 104 = .ok (.getfield 21, 3) := dk_180 0 21 (dk_at dksX0_of_3 20 rfl rfl)
theorem dX0_of_107 : decode cX0_of 107 = .ok (.getfield 88, 3) := dk_180 0 88 (dk_at dksX0_of_4 0 rfl rfl)
theorem dX0_of_110 : decode cX0_of 110 = .ok (.iconst 4, 1) := dk_7 (dk_at dksX0_of_4 3 rfl rfl)
theorem dX0_of_111 : decode cX0_of 111 = .ok (.iload_n 1, 1) := dk_27 (dk_at dksX0_of_4 4 rfl rfl)
theorem dX0_of_112 : decode cX0_of 112 = .ok (.iadd, 1) := dk_96 (dk_at dksX0_of_4 5 rfl rfl)
theorem dX0_of_113 : decode cX0_of 113 = .ok (.iaload, 1) := dk_46 (dk_at dksX0_of_4 6 rfl rfl)
theorem dX0_of_114 : decode cX0_of 114 = .ok (.ireturn, 1) := dk_172 (dk_at dksX0_of_4 7 rfl rfl)
theorem dX0_of_115 : decode cX0_of 115 = .ok (.aload_n 0, 1) := dk_42 (dk_at dksX0_of_4 8 rfl rfl)
theorem dX0_of_116 : decode cX0_of 116 = .ok (.getfield 21, 3) := dk_180 0 21 (dk_at dksX0_of_4 9 rfl rfl)
theorem dX0_of_119 : decode cX0_of 119 = .ok (.getfield 88, 3) := dk_180 0 88 (dk_at dksX0_of_4 12 rfl rfl)
theorem dX0_of_122 : decode cX0_of 122 = .ok (.iload_n 1, 1) := dk_27 (dk_at dksX0_of_4 15 rfl rfl)
theorem dX0_of_123 : decode cX0_of 123 = .ok (.invokestatic 141, 3) := dk_184 0 141 (dk_at dksX0_of_4 16 rfl rfl)
theorem dX0_of_126 : decode cX0_of 126 = .ok (.ireturn, 1) := dk_172 (dk_at dksX0_of_4 19 rfl rfl)
theorem dX0_of_127 : decode cX0_of 127 = .ok (.aload_n 0, 1) := dk_42 (dk_at dksX0_of_4 20 rfl rfl)
theorem dX0_of_128 : decode cX0_of 128 = .ok (.aload_n 0, 1) := dk_42 (dk_at dksX0_of_4 21 rfl rfl)
theorem dX0_of_129 : decode cX0_of 129 = .ok (.invokevirtual 175, 3) := dk_182 0 175 (dk_at dksX0_of_5 0 rfl rfl)
theorem dX0_of_132 : decode cX0_of 132 = .ok (.aload_n 0, 1) := dk_42 (dk_at dksX0_of_5 3 rfl rfl)
theorem dX0_of_133 : decode cX0_of 133 = .ok (.getfield 21, 3) := dk_180 0 21 (dk_at dksX0_of_5 4 rfl rfl)
theorem dX0_of_136 : decode cX0_of 136 = .ok (.getfield 88, 3) := dk_180 0 88 (dk_at dksX0_of_5 7 rfl rfl)
theorem dX0_of_139 : decode cX0_of 139 = .ok (.iload_n 1, 1) := dk_27 (dk_at dksX0_of_5 10 rfl rfl)
theorem dX0_of_140 : decode cX0_of 140 = .ok (.invokevirtual 198, 3) := dk_182 0 198 (dk_at dksX0_of_5 11 rfl rfl)
theorem dX0_of_143 : decode cX0_of 143 = .ok (.ireturn, 1) := dk_172 (dk_at dksX0_of_5 14 rfl rfl)
theorem dX0_of_144 : decode cX0_of 144 = .ok (.aload_n 0, 1) := dk_42 (dk_at dksX0_of_5 15 rfl rfl)
theorem dX0_of_145 : decode cX0_of 145 = .ok (.aload_n 0, 1) := dk_42 (dk_at dksX0_of_5 16 rfl rfl)
theorem dX0_of_146 : decode cX0_of 146 = .ok (.getfield 21, 3) := dk_180 0 21 (dk_at dksX0_of_5 17 rfl rfl)
theorem dX0_of_149 : decode cX0_of 149 = .ok (.getfield 88, 3) := dk_180 0 88 (dk_at dksX0_of_5 20 rfl rfl)
theorem dX0_of_152 : decode cX0_of 152 = .ok (.iload_n 1, 1) := dk_27 (dk_at dksX0_of_5 23 rfl rfl)
theorem dX0_of_153 : decode cX0_of 153 = .ok (.invokevirtual 228, 3) := dk_182 0 228 (dk_at dksX0_of_6 0 rfl rfl)
theorem dX0_of_156 : decode cX0_of 156 = .ok (.ireturn, 1) := dk_172 (dk_at dksX0_of_6 3 rfl rfl)
theorem dX0_of_157 : decode cX0_of 157 = .ok (.sipush (-10000), 3) := dk_17 216 240 (dk_at dksX0_of_6 4 rfl rfl)
theorem dX0_of_160 : decode cX0_of 160 = .ok (.ireturn, 1) := dk_172 (dk_at dksX0_of_6 7 rfl rfl)
abbrev cX0_is : ByteArray := prog_1_method_47_code
def yX0_is : MethodName := ⟨RX0, "is", "(I)I"⟩
def dkwX0_is_1 : List UInt8 := [3, 6, 184, 0, 77, 153, 0, 15, 42, 180, 0, 21, 180, 0, 88, 27, 46, 167, 0, 5, 16, 254, 172]
abbrev dktX0_is_1 : List UInt8 := dkwX0_is_1 ++ []
def dkwX0_is_0 : List UInt8 := [27, 7, 160, 0, 21, 42, 42, 42, 180, 0, 21, 180, 0, 88, 182, 0, 178, 182, 1, 44, 167, 0, 26, 27]
abbrev dktX0_is_0 : List UInt8 := dkwX0_is_0 ++ dktX0_is_1
theorem dksX0_is_0 : cX0_is.data.toList.drop 0 = dktX0_is_0 := by decide +kernel
theorem dksX0_is_1 : cX0_is.data.toList.drop 24 = dktX0_is_1 := dk_seg dksX0_is_0 24 rfl rfl
theorem dX0_is_0 : decode cX0_is 0 = .ok (.iload_n 1, 1) := dk_27 (dk_at dksX0_is_0 0 rfl rfl)
theorem dX0_is_1 : decode cX0_is 1 = .ok (.iconst 4, 1) := dk_7 (dk_at dksX0_is_0 1 rfl rfl)
theorem dX0_is_2 : decode cX0_is 2 = .ok (.if_icmp .ne 21, 3) := dk_160 0 21 (dk_at dksX0_is_0 2 rfl rfl)
theorem dX0_is_5 : decode cX0_is 5 = .ok (.aload_n 0, 1) := dk_42 (dk_at dksX0_is_0 5 rfl rfl)
theorem dX0_is_6 : decode cX0_is 6 = .ok (.aload_n 0, 1) := dk_42 (dk_at dksX0_is_0 6 rfl rfl)
theorem dX0_is_7 : decode cX0_is 7 = .ok (.aload_n 0, 1) := dk_42 (dk_at dksX0_is_0 7 rfl rfl)
theorem dX0_is_8 : decode cX0_is 8 = .ok (.getfield 21, 3) := dk_180 0 21 (dk_at dksX0_is_0 8 rfl rfl)
theorem dX0_is_11 : decode cX0_is 11 = .ok (.getfield 88, 3) := dk_180 0 88 (dk_at dksX0_is_0 11 rfl rfl)
theorem dX0_is_14 : decode cX0_is 14 = .ok (.invokevirtual 178, 3) := dk_182 0 178 (dk_at dksX0_is_0 14 rfl rfl)
theorem dX0_is_17 : decode cX0_is 17 = .ok (.invokevirtual 300, 3) := dk_182 1 44 (dk_at dksX0_is_0 17 rfl rfl)
theorem dX0_is_20 : decode cX0_is 20 = .ok (.goto 26, 3) := dk_167 0 26 (dk_at dksX0_is_0 20 rfl rfl)
theorem dX0_is_23 : decode cX0_is 23 = .ok (.iload_n 1, 1) := dk_27 (dk_at dksX0_is_0 23 rfl rfl)
theorem dX0_is_24 : decode cX0_is 24 = .ok (.iconst 0, 1) := dk_3 (dk_at dksX0_is_1 0 rfl rfl)
theorem dX0_is_25 : decode cX0_is 25 = .ok (.iconst 3, 1) := dk_6 (dk_at dksX0_is_1 1 rfl rfl)
theorem dX0_is_26 : decode cX0_is 26 = .ok (.invokestatic 77, 3) := dk_184 0 77 (dk_at dksX0_is_1 2 rfl rfl)
theorem dX0_is_29 : decode cX0_is 29 = .ok (.ifCond .eq 15, 3) := dk_153 0 15 (dk_at dksX0_is_1 5 rfl rfl)
theorem dX0_is_32 : decode cX0_is 32 = .ok (.aload_n 0, 1) := dk_42 (dk_at dksX0_is_1 8 rfl rfl)
theorem dX0_is_33 : decode cX0_is 33 = .ok (.getfield 21, 3) := dk_180 0 21 (dk_at dksX0_is_1 9 rfl rfl)
theorem dX0_is_36 : decode cX0_is 36 = .ok (.getfield 88, 3) := dk_180 0 88 (dk_at dksX0_is_1 12 rfl rfl)
theorem dX0_is_39 : decode cX0_is 39 = .ok (.iload_n 1, 1) := dk_27 (dk_at dksX0_is_1 15 rfl rfl)
theorem dX0_is_40 : decode cX0_is 40 = .ok (.iaload, 1) := dk_46 (dk_at dksX0_is_1 16 rfl rfl)
theorem dX0_is_41 : decode cX0_is 41 = .ok (.goto 5, 3) := dk_167 0 5 (dk_at dksX0_is_1 17 rfl rfl)
theorem dX0_is_44 : decode cX0_is 44 = .ok (.bipush (-2), 2) := dk_16 254 (dk_at dksX0_is_1 20 rfl rfl)
theorem dX0_is_46 : decode cX0_is 46 = .ok (.ireturn, 1) := dk_172 (dk_at dksX0_is_1 22 rfl rfl)
abbrev cX0_duesOfAll : ByteArray := prog_1_method_46_code
def yX0_duesOfAll : MethodName := ⟨RX0, "duesOfAll", "(I)I"⟩
def dkwX0_duesOfAll_2 : List UInt8 := [167, 255, 214, 28, 172]
abbrev dktX0_duesOfAll_2 : List UInt8 := dkwX0_duesOfAll_2 ++ []
def dkwX0_duesOfAll_1 : List UInt8 := [182, 0, 175, 42, 180, 0, 21, 180, 0, 88, 29, 182, 0, 198, 167, 0, 4, 3, 96, 61, 132, 3, 1]
abbrev dktX0_duesOfAll_1 : List UInt8 := dkwX0_duesOfAll_1 ++ dktX0_duesOfAll_2
def dkwX0_duesOfAll_0 : List UInt8 := [3, 61, 3, 62, 29, 42, 182, 0, 73, 162, 0, 40, 28, 27, 29, 184, 1, 41, 153, 0, 22, 42, 42]
abbrev dktX0_duesOfAll_0 : List UInt8 := dkwX0_duesOfAll_0 ++ dktX0_duesOfAll_1
theorem dksX0_duesOfAll_0 : cX0_duesOfAll.data.toList.drop 0 = dktX0_duesOfAll_0 := by decide +kernel
theorem dksX0_duesOfAll_1 : cX0_duesOfAll.data.toList.drop 23 = dktX0_duesOfAll_1 := dk_seg dksX0_duesOfAll_0 23 rfl rfl
theorem dksX0_duesOfAll_2 : cX0_duesOfAll.data.toList.drop 46 = dktX0_duesOfAll_2 := dk_seg dksX0_duesOfAll_1 23 rfl rfl
theorem dX0_duesOfAll_0 : decode cX0_duesOfAll 0 = .ok (.iconst 0, 1) := dk_3 (dk_at dksX0_duesOfAll_0 0 rfl rfl)
theorem dX0_duesOfAll_1 : decode cX0_duesOfAll 1 = .ok (.istore_n 2, 1) := dk_61 (dk_at dksX0_duesOfAll_0 1 rfl rfl)
theorem dX0_duesOfAll_2 : decode cX0_duesOfAll 2 = .ok (.iconst 0, 1) := dk_3 (dk_at dksX0_duesOfAll_0 2 rfl rfl)
theorem dX0_duesOfAll_3 : decode cX0_duesOfAll 3 = .ok (.istore_n 3, 1) := dk_62 (dk_at dksX0_duesOfAll_0 3 rfl rfl)
theorem dX0_duesOfAll_4 : decode cX0_duesOfAll 4 = .ok (.iload_n 3, 1) := dk_29 (dk_at dksX0_duesOfAll_0 4 rfl rfl)
theorem dX0_duesOfAll_5 : decode cX0_duesOfAll 5 = .ok (.aload_n 0, 1) := dk_42 (dk_at dksX0_duesOfAll_0 5 rfl rfl)
theorem dX0_duesOfAll_6 : decode cX0_duesOfAll 6 = .ok (.invokevirtual 73, 3) := dk_182 0 73 (dk_at dksX0_duesOfAll_0 6 rfl rfl)
theorem dX0_duesOfAll_9 : decode cX0_duesOfAll 9 = .ok (.if_icmp .ge 40, 3) := dk_162 0 40 (dk_at dksX0_duesOfAll_0 9 rfl rfl)
theorem dX0_duesOfAll_12 : decode cX0_duesOfAll 12 = .ok (.iload_n 2, 1) := dk_28 (dk_at dksX0_duesOfAll_0 12 rfl rfl)
theorem dX0_duesOfAll_13 : decode cX0_duesOfAll 13 = .ok (.iload_n 1, 1) := dk_27 (dk_at dksX0_duesOfAll_0 13 rfl rfl)
theorem dX0_duesOfAll_14 : decode cX0_duesOfAll 14 = .ok (.iload_n 3, 1) := dk_29 (dk_at dksX0_duesOfAll_0 14 rfl rfl)
theorem dX0_duesOfAll_15 : decode cX0_duesOfAll 15 = .ok (.invokestatic 297, 3) := dk_184 1 41 (dk_at dksX0_duesOfAll_0 15 rfl rfl)
theorem dX0_duesOfAll_18 : decode cX0_duesOfAll 18 = .ok (.ifCond .eq 22, 3) := dk_153 0 22 (dk_at dksX0_duesOfAll_0 18 rfl rfl)
theorem dX0_duesOfAll_21 : decode cX0_duesOfAll 21 = .ok (.aload_n 0, 1) := dk_42 (dk_at dksX0_duesOfAll_0 21 rfl rfl)
theorem dX0_duesOfAll_22 : decode cX0_duesOfAll 22 = .ok (.aload_n 0, 1) := dk_42 (dk_at dksX0_duesOfAll_0 22 rfl rfl)
theorem dX0_duesOfAll_23 : decode cX0_duesOfAll 23 = .ok (.invokevirtual 175, 3) := dk_182 0 175 (dk_at dksX0_duesOfAll_1 0 rfl rfl)
theorem dX0_duesOfAll_26 : decode cX0_duesOfAll 26 = .ok (.aload_n 0, 1) := dk_42 (dk_at dksX0_duesOfAll_1 3 rfl rfl)
theorem dX0_duesOfAll_27 : decode cX0_duesOfAll 27 = .ok (.getfield 21, 3) := dk_180 0 21 (dk_at dksX0_duesOfAll_1 4 rfl rfl)
theorem dX0_duesOfAll_30 : decode cX0_duesOfAll 30 = .ok (.getfield 88, 3) := dk_180 0 88 (dk_at dksX0_duesOfAll_1 7 rfl rfl)
theorem dX0_duesOfAll_33 : decode cX0_duesOfAll 33 = .ok (.iload_n 3, 1) := dk_29 (dk_at dksX0_duesOfAll_1 10 rfl rfl)
theorem dX0_duesOfAll_34 : decode cX0_duesOfAll 34 = .ok (.invokevirtual 198, 3) := dk_182 0 198 (dk_at dksX0_duesOfAll_1 11 rfl rfl)
theorem dX0_duesOfAll_37 : decode cX0_duesOfAll 37 = .ok (.goto 4, 3) := dk_167 0 4 (dk_at dksX0_duesOfAll_1 14 rfl rfl)
theorem dX0_duesOfAll_40 : decode cX0_duesOfAll 40 = .ok (.iconst 0, 1) := dk_3 (dk_at dksX0_duesOfAll_1 17 rfl rfl)
theorem dX0_duesOfAll_41 : decode cX0_duesOfAll 41 = .ok (.iadd, 1) := dk_96 (dk_at dksX0_duesOfAll_1 18 rfl rfl)
theorem dX0_duesOfAll_42 : decode cX0_duesOfAll 42 = .ok (.istore_n 2, 1) := dk_61 (dk_at dksX0_duesOfAll_1 19 rfl rfl)
theorem dX0_duesOfAll_43 : decode cX0_duesOfAll 43 = .ok (.iinc 3 1, 3) := dk_132 3 1 (dk_at dksX0_duesOfAll_1 20 rfl rfl)
theorem dX0_duesOfAll_46 : decode cX0_duesOfAll 46 = .ok (.goto (-42), 3) := dk_167 255 214 (dk_at dksX0_duesOfAll_2 0 rfl rfl)
theorem dX0_duesOfAll_49 : decode cX0_duesOfAll 49 = .ok (.iload_n 2, 1) := dk_28 (dk_at dksX0_duesOfAll_2 3 rfl rfl)
theorem dX0_duesOfAll_50 : decode cX0_duesOfAll 50 = .ok (.ireturn, 1) := dk_172 (dk_at dksX0_duesOfAll_2 4 rfl rfl)
abbrev cX0_has : ByteArray := prog_1_method_2_code
def yX0_has : MethodName := ⟨RX0, "has", "(II)Z"⟩
def dkwX0_has_0 : List UInt8 := [26, 27, 122, 4, 126, 4, 160, 0, 7, 4, 167, 0, 4, 3, 172]
abbrev dktX0_has_0 : List UInt8 := dkwX0_has_0 ++ []
theorem dksX0_has_0 : cX0_has.data.toList.drop 0 = dktX0_has_0 := by decide +kernel
theorem dX0_has_0 : decode cX0_has 0 = .ok (.iload_n 0, 1) := dk_26 (dk_at dksX0_has_0 0 rfl rfl)
theorem dX0_has_1 : decode cX0_has 1 = .ok (.iload_n 1, 1) := dk_27 (dk_at dksX0_has_0 1 rfl rfl)
theorem dX0_has_2 : decode cX0_has 2 = .ok (.ishr, 1) := dk_122 (dk_at dksX0_has_0 2 rfl rfl)
theorem dX0_has_3 : decode cX0_has 3 = .ok (.iconst 1, 1) := dk_4 (dk_at dksX0_has_0 3 rfl rfl)
theorem dX0_has_4 : decode cX0_has 4 = .ok (.iand, 1) := dk_126 (dk_at dksX0_has_0 4 rfl rfl)
theorem dX0_has_5 : decode cX0_has 5 = .ok (.iconst 1, 1) := dk_4 (dk_at dksX0_has_0 5 rfl rfl)
theorem dX0_has_6 : decode cX0_has 6 = .ok (.if_icmp .ne 7, 3) := dk_160 0 7 (dk_at dksX0_has_0 6 rfl rfl)
theorem dX0_has_9 : decode cX0_has 9 = .ok (.iconst 1, 1) := dk_4 (dk_at dksX0_has_0 9 rfl rfl)
theorem dX0_has_10 : decode cX0_has 10 = .ok (.goto 4, 3) := dk_167 0 4 (dk_at dksX0_has_0 10 rfl rfl)
theorem dX0_has_13 : decode cX0_has 13 = .ok (.iconst 0, 1) := dk_3 (dk_at dksX0_has_0 13 rfl rfl)
theorem dX0_has_14 : decode cX0_has 14 = .ok (.ireturn, 1) := dk_172 (dk_at dksX0_has_0 14 rfl rfl)
abbrev cX0_book : ByteArray := prog_1_method_48_code
def yX0_book : MethodName := ⟨RX0, "book", "(II)I"⟩
def dkwX0_book_2 : List UInt8 := [180, 0, 21, 180, 0, 88, 16, 29, 7, 27, 104, 96, 28, 96, 46, 167, 0, 5, 16, 254, 172]
abbrev dktX0_book_2 : List UInt8 := dkwX0_book_2 ++ []
def dkwX0_book_1 : List UInt8 := [180, 0, 88, 16, 28, 46, 4, 100, 184, 0, 77, 153, 0, 31, 28, 3, 6, 184, 0, 77, 153, 0, 22, 42]
abbrev dktX0_book_1 : List UInt8 := dkwX0_book_1 ++ dktX0_book_2
def dkwX0_book_0 : List UInt8 := [27, 2, 160, 0, 14, 42, 180, 0, 21, 180, 0, 88, 16, 28, 46, 172, 27, 3, 42, 180, 0, 21]
abbrev dktX0_book_0 : List UInt8 := dkwX0_book_0 ++ dktX0_book_1
theorem dksX0_book_0 : cX0_book.data.toList.drop 0 = dktX0_book_0 := by decide +kernel
theorem dksX0_book_1 : cX0_book.data.toList.drop 22 = dktX0_book_1 := dk_seg dksX0_book_0 22 rfl rfl
theorem dksX0_book_2 : cX0_book.data.toList.drop 46 = dktX0_book_2 := dk_seg dksX0_book_1 24 rfl rfl
theorem dX0_book_0 : decode cX0_book 0 = .ok (.iload_n 1, 1) := dk_27 (dk_at dksX0_book_0 0 rfl rfl)
theorem dX0_book_1 : decode cX0_book 1 = .ok (.iconst (-1), 1) := dk_2 (dk_at dksX0_book_0 1 rfl rfl)
theorem dX0_book_2 : decode cX0_book 2 = .ok (.if_icmp .ne 14, 3) := dk_160 0 14 (dk_at dksX0_book_0 2 rfl rfl)
theorem dX0_book_5 : decode cX0_book 5 = .ok (.aload_n 0, 1) := dk_42 (dk_at dksX0_book_0 5 rfl rfl)
theorem dX0_book_6 : decode cX0_book 6 = .ok (.getfield 21, 3) := dk_180 0 21 (dk_at dksX0_book_0 6 rfl rfl)
theorem dX0_book_9 : decode cX0_book 9 = .ok (.getfield 88, 3) := dk_180 0 88 (dk_at dksX0_book_0 9 rfl rfl)
theorem dX0_book_12 : decode cX0_book 12 = .ok (.bipush 28, 2) := dk_16 28 (dk_at dksX0_book_0 12 rfl rfl)
theorem dX0_book_14 : decode cX0_book 14 = .ok (.iaload, 1) := dk_46 (dk_at dksX0_book_0 14 rfl rfl)
theorem dX0_book_15 : decode cX0_book 15 = .ok (.ireturn, 1) := dk_172 (dk_at dksX0_book_0 15 rfl rfl)
theorem dX0_book_16 : decode cX0_book 16 = .ok (.iload_n 1, 1) := dk_27 (dk_at dksX0_book_0 16 rfl rfl)
theorem dX0_book_17 : decode cX0_book 17 = .ok (.iconst 0, 1) := dk_3 (dk_at dksX0_book_0 17 rfl rfl)
theorem dX0_book_18 : decode cX0_book 18 = .ok (.aload_n 0, 1) := dk_42 (dk_at dksX0_book_0 18 rfl rfl)
theorem dX0_book_19 : decode cX0_book 19 = .ok (.getfield 21, 3) := dk_180 0 21 (dk_at dksX0_book_0 19 rfl rfl)
theorem dX0_book_22 : decode cX0_book 22 = .ok (.getfield 88, 3) := dk_180 0 88 (dk_at dksX0_book_1 0 rfl rfl)
theorem dX0_book_25 : decode cX0_book 25 = .ok (.bipush 28, 2) := dk_16 28 (dk_at dksX0_book_1 3 rfl rfl)
theorem dX0_book_27 : decode cX0_book 27 = .ok (.iaload, 1) := dk_46 (dk_at dksX0_book_1 5 rfl rfl)
theorem dX0_book_28 : decode cX0_book 28 = .ok (.iconst 1, 1) := dk_4 (dk_at dksX0_book_1 6 rfl rfl)
theorem dX0_book_29 : decode cX0_book 29 = .ok (.isub, 1) := dk_100 (dk_at dksX0_book_1 7 rfl rfl)
theorem dX0_book_30 : decode cX0_book 30 = .ok (.invokestatic 77, 3) := dk_184 0 77 (dk_at dksX0_book_1 8 rfl rfl)
theorem dX0_book_33 : decode cX0_book 33 = .ok (.ifCond .eq 31, 3) := dk_153 0 31 (dk_at dksX0_book_1 11 rfl rfl)
theorem dX0_book_36 : decode cX0_book 36 = .ok (.iload_n 2, 1) := dk_28 (dk_at dksX0_book_1 14 rfl rfl)
theorem dX0_book_37 : decode cX0_book 37 = .ok (.iconst 0, 1) := dk_3 (dk_at dksX0_book_1 15 rfl rfl)
theorem dX0_book_38 : decode cX0_book 38 = .ok (.iconst 3, 1) := dk_6 (dk_at dksX0_book_1 16 rfl rfl)
theorem dX0_book_39 : decode cX0_book 39 = .ok (.invokestatic 77, 3) := dk_184 0 77 (dk_at dksX0_book_1 17 rfl rfl)
theorem dX0_book_42 : decode cX0_book 42 = .ok (.ifCond .eq 22, 3) := dk_153 0 22 (dk_at dksX0_book_1 20 rfl rfl)
theorem dX0_book_45 : decode cX0_book 45 = .ok (.aload_n 0, 1) := dk_42 (dk_at dksX0_book_1 23 rfl rfl)
theorem dX0_book_46 : decode cX0_book 46 = .ok (.getfield 21, 3) := dk_180 0 21 (dk_at dksX0_book_2 0 rfl rfl)
theorem dX0_book_49 : decode cX0_book 49 = .ok (.getfield 88, 3) := dk_180 0 88 (dk_at dksX0_book_2 3 rfl rfl)
theorem dX0_book_52 : decode cX0_book 52 = .ok (.bipush 29, 2) := dk_16 29 (dk_at dksX0_book_2 6 rfl rfl)
theorem dX0_book_54 : decode cX0_book 54 = .ok (.iconst 4, 1) := dk_7 (dk_at dksX0_book_2 8 rfl rfl)
theorem dX0_book_55 : decode cX0_book 55 = .ok (.iload_n 1, 1) := dk_27 (dk_at dksX0_book_2 9 rfl rfl)
theorem dX0_book_56 : decode cX0_book 56 = .ok (.imul, 1) := dk_104 (dk_at dksX0_book_2 10 rfl rfl)
theorem dX0_book_57 : decode cX0_book 57 = .ok (.iadd, 1) := dk_96 (dk_at dksX0_book_2 11 rfl rfl)
theorem dX0_book_58 : decode cX0_book 58 = .ok (.iload_n 2, 1) := dk_28 (dk_at dksX0_book_2 12 rfl rfl)
theorem dX0_book_59 : decode cX0_book 59 = .ok (.iadd, 1) := dk_96 (dk_at dksX0_book_2 13 rfl rfl)
theorem dX0_book_60 : decode cX0_book 60 = .ok (.iaload, 1) := dk_46 (dk_at dksX0_book_2 14 rfl rfl)
theorem dX0_book_61 : decode cX0_book 61 = .ok (.goto 5, 3) := dk_167 0 5 (dk_at dksX0_book_2 15 rfl rfl)
theorem dX0_book_64 : decode cX0_book 64 = .ok (.bipush (-2), 2) := dk_16 254 (dk_at dksX0_book_2 18 rfl rfl)
theorem dX0_book_66 : decode cX0_book 66 = .ok (.ireturn, 1) := dk_172 (dk_at dksX0_book_2 20 rfl rfl)
abbrev cX0_foretold : ByteArray := prog_1_method_49_code
def yX0_foretold : MethodName := ⟨RX0, "foretold", "(III)I"⟩
def dkwX0_foretold_5 : List UInt8 := [42, 182, 0, 175, 42, 180, 0, 43, 28, 182, 0, 198, 172]
abbrev dktX0_foretold_5 : List UInt8 := dkwX0_foretold_5 ++ []
def dkwX0_foretold_4 : List UInt8 := [28, 96, 46, 167, 0, 33, 29, 4, 160, 0, 15, 42, 180, 0, 43, 16, 20, 28, 96, 46, 167, 0, 16, 42]
abbrev dktX0_foretold_4 : List UInt8 := dkwX0_foretold_4 ++ dktX0_foretold_5
def dkwX0_foretold_3 : List UInt8 := [180, 0, 43, 182, 0, 231, 96, 54, 4, 132, 5, 1, 167, 255, 222, 29, 154, 0, 14, 42, 180, 0, 43, 7]
abbrev dktX0_foretold_3 : List UInt8 := dkwX0_foretold_3 ++ dktX0_foretold_4
def dkwX0_foretold_2 : List UInt8 := [54, 5, 21, 5, 27, 162, 0, 34, 42, 180, 0, 43, 3, 46, 17, 39, 15, 162, 0, 22, 21, 4, 42, 42]
abbrev dktX0_foretold_2 : List UInt8 := dkwX0_foretold_2 ++ dktX0_foretold_3
def dkwX0_foretold_1 : List UInt8 := [154, 0, 6, 16, 254, 172, 42, 180, 0, 21, 180, 0, 88, 42, 180, 0, 43, 184, 1, 37, 3, 54, 4, 3]
abbrev dktX0_foretold_1 : List UInt8 := dkwX0_foretold_1 ++ dktX0_foretold_2
def dkwX0_foretold_0 : List UInt8 := [27, 4, 16, 60, 184, 0, 77, 153, 0, 20, 42, 28, 182, 0, 85, 153, 0, 12, 29, 3, 5, 184, 0, 77]
abbrev dktX0_foretold_0 : List UInt8 := dkwX0_foretold_0 ++ dktX0_foretold_1
theorem dksX0_foretold_0 : cX0_foretold.data.toList.drop 0 = dktX0_foretold_0 := by decide +kernel
theorem dksX0_foretold_1 : cX0_foretold.data.toList.drop 24 = dktX0_foretold_1 := dk_seg dksX0_foretold_0 24 rfl rfl
theorem dksX0_foretold_2 : cX0_foretold.data.toList.drop 48 = dktX0_foretold_2 := dk_seg dksX0_foretold_1 24 rfl rfl
theorem dksX0_foretold_3 : cX0_foretold.data.toList.drop 72 = dktX0_foretold_3 := dk_seg dksX0_foretold_2 24 rfl rfl
theorem dksX0_foretold_4 : cX0_foretold.data.toList.drop 96 = dktX0_foretold_4 := dk_seg dksX0_foretold_3 24 rfl rfl
theorem dksX0_foretold_5 : cX0_foretold.data.toList.drop 120 = dktX0_foretold_5 := dk_seg dksX0_foretold_4 24 rfl rfl
theorem dX0_foretold_0 : decode cX0_foretold 0 = .ok (.iload_n 1, 1) := dk_27 (dk_at dksX0_foretold_0 0 rfl rfl)
theorem dX0_foretold_1 : decode cX0_foretold 1 = .ok (.iconst 1, 1) := dk_4 (dk_at dksX0_foretold_0 1 rfl rfl)
theorem dX0_foretold_2 : decode cX0_foretold 2 = .ok (.bipush 60, 2) := dk_16 60 (dk_at dksX0_foretold_0 2 rfl rfl)
theorem dX0_foretold_4 : decode cX0_foretold 4 = .ok (.invokestatic 77, 3) := dk_184 0 77 (dk_at dksX0_foretold_0 4 rfl rfl)
theorem dX0_foretold_7 : decode cX0_foretold 7 = .ok (.ifCond .eq 20, 3) := dk_153 0 20 (dk_at dksX0_foretold_0 7 rfl rfl)
theorem dX0_foretold_10 : decode cX0_foretold 10 = .ok (.aload_n 0, 1) := dk_42 (dk_at dksX0_foretold_0 10 rfl rfl)
theorem dX0_foretold_11 : decode cX0_foretold 11 = .ok (.iload_n 2, 1) := dk_28 (dk_at dksX0_foretold_0 11 rfl rfl)
theorem dX0_foretold_12 : decode cX0_foretold 12 = .ok (.invokevirtual 85, 3) := dk_182 0 85 (dk_at dksX0_foretold_0 12 rfl rfl)
theorem dX0_foretold_15 : decode cX0_foretold 15 = .ok (.ifCond .eq 12, 3) := dk_153 0 12 (dk_at dksX0_foretold_0 15 rfl rfl)
theorem dX0_foretold_18 : decode cX0_foretold 18 = .ok (.iload_n 3, 1) := dk_29 (dk_at dksX0_foretold_0 18 rfl rfl)
theorem dX0_foretold_19 : decode cX0_foretold 19 = .ok (.iconst 0, 1) := dk_3 (dk_at dksX0_foretold_0 19 rfl rfl)
theorem dX0_foretold_20 : decode cX0_foretold 20 = .ok (.iconst 2, 1) := dk_5 (dk_at dksX0_foretold_0 20 rfl rfl)
theorem dX0_foretold_21 : decode cX0_foretold 21 = .ok (.invokestatic 77, 3) := dk_184 0 77 (dk_at dksX0_foretold_0 21 rfl rfl)
theorem dX0_foretold_24 : decode cX0_foretold 24 = .ok (.ifCond .ne 6, 3) := dk_154 0 6 (dk_at dksX0_foretold_1 0 rfl rfl)
theorem dX0_foretold_27 : decode cX0_foretold 27 = .ok (.bipush (-2), 2) := dk_16 254 (dk_at dksX0_foretold_1 3 rfl rfl)
theorem dX0_foretold_29 : decode cX0_foretold 29 = .ok (.ireturn, 1) := dk_172 (dk_at dksX0_foretold_1 5 rfl rfl)
theorem dX0_foretold_30 : decode cX0_foretold 30 = .ok (.aload_n 0, 1) := dk_42 (dk_at dksX0_foretold_1 6 rfl rfl)
theorem dX0_foretold_31 : decode cX0_foretold 31 = .ok (.getfield 21, 3) := dk_180 0 21 (dk_at dksX0_foretold_1 7 rfl rfl)
theorem dX0_foretold_34 : decode cX0_foretold 34 = .ok (.getfield 88, 3) := dk_180 0 88 (dk_at dksX0_foretold_1 10 rfl rfl)
theorem dX0_foretold_37 : decode cX0_foretold 37 = .ok (.aload_n 0, 1) := dk_42 (dk_at dksX0_foretold_1 13 rfl rfl)
theorem dX0_foretold_38 : decode cX0_foretold 38 = .ok (.getfield 43, 3) := dk_180 0 43 (dk_at dksX0_foretold_1 14 rfl rfl)
theorem dX0_foretold_41 : decode cX0_foretold 41 = .ok (.invokestatic 293, 3) := dk_184 1 37 (dk_at dksX0_foretold_1 17 rfl rfl)
theorem dX0_foretold_44 : decode cX0_foretold 44 = .ok (.iconst 0, 1) := dk_3 (dk_at dksX0_foretold_1 20 rfl rfl)
theorem dX0_foretold_45 : decode cX0_foretold 45 = .ok (.istore 4, 2) := dk_54 4 (dk_at dksX0_foretold_1 21 rfl rfl)
theorem dX0_foretold_47 : decode cX0_foretold 47 = .ok (.iconst 0, 1) := dk_3 (dk_at dksX0_foretold_1 23 rfl rfl)
theorem dX0_foretold_48 : decode cX0_foretold 48 = .ok (.istore 5, 2) := dk_54 5 (dk_at dksX0_foretold_2 0 rfl rfl)
theorem dX0_foretold_50 : decode cX0_foretold 50 = .ok (.iload 5, 2) := dk_21 5 (dk_at dksX0_foretold_2 2 rfl rfl)
theorem dX0_foretold_52 : decode cX0_foretold 52 = .ok (.iload_n 1, 1) := dk_27 (dk_at dksX0_foretold_2 4 rfl rfl)
theorem dX0_foretold_53 : decode cX0_foretold 53 = .ok (.if_icmp .ge 34, 3) := dk_162 0 34 (dk_at dksX0_foretold_2 5 rfl rfl)
theorem dX0_foretold_56 : decode cX0_foretold 56 = .ok (.aload_n 0, 1) := dk_42 (dk_at dksX0_foretold_2 8 rfl rfl)
theorem dX0_foretold_57 : decode cX0_foretold 57 = .ok (.getfield 43, 3) := dk_180 0 43 (dk_at dksX0_foretold_2 9 rfl rfl)
theorem dX0_foretold_60 : decode cX0_foretold 60 = .ok (.iconst 0, 1) := dk_3 (dk_at dksX0_foretold_2 12 rfl rfl)
theorem dX0_foretold_61 : decode cX0_foretold 61 = .ok (.iaload, 1) := dk_46 (dk_at dksX0_foretold_2 13 rfl rfl)
theorem dX0_foretold_62 : decode cX0_foretold 62 = .ok (.sipush 9999, 3) := dk_17 39 15 (dk_at dksX0_foretold_2 14 rfl rfl)
theorem dX0_foretold_65 : decode cX0_foretold 65 = .ok (.if_icmp .ge 22, 3) := dk_162 0 22 (dk_at dksX0_foretold_2 17 rfl rfl)
theorem dX0_foretold_68 : decode cX0_foretold 68 = .ok (.iload 4, 2) := dk_21 4 (dk_at dksX0_foretold_2 20 rfl rfl)
theorem dX0_foretold_70 : decode cX0_foretold 70 = .ok (.aload_n 0, 1) := dk_42 (dk_at dksX0_foretold_2 22 rfl rfl)
theorem dX0_foretold_71 : decode cX0_foretold 71 = .ok (.aload_n 0, 1) := dk_42 (dk_at dksX0_foretold_2 23 rfl rfl)
theorem dX0_foretold_72 : decode cX0_foretold 72 = .ok (.getfield 43, 3) := dk_180 0 43 (dk_at dksX0_foretold_3 0 rfl rfl)
theorem dX0_foretold_75 : decode cX0_foretold 75 = .ok (.invokevirtual 231, 3) := dk_182 0 231 (dk_at dksX0_foretold_3 3 rfl rfl)
theorem dX0_foretold_78 : decode cX0_foretold 78 = .ok (.iadd, 1) := dk_96 (dk_at dksX0_foretold_3 6 rfl rfl)
theorem dX0_foretold_79 : decode cX0_foretold 79 = .ok (.istore 4, 2) := dk_54 4 (dk_at dksX0_foretold_3 7 rfl rfl)
theorem dX0_foretold_81 : decode cX0_foretold 81 = .ok (.iinc 5 1, 3) := dk_132 5 1 (dk_at dksX0_foretold_3 9 rfl rfl)
theorem dX0_foretold_84 : decode cX0_foretold 84 = .ok (.goto (-34), 3) := dk_167 255 222 (dk_at dksX0_foretold_3 12 rfl rfl)
theorem dX0_foretold_87 : decode cX0_foretold 87 = .ok (.iload_n 3, 1) := dk_29 (dk_at dksX0_foretold_3 15 rfl rfl)
theorem dX0_foretold_88 : decode cX0_foretold 88 = .ok (.ifCond .ne 14, 3) := dk_154 0 14 (dk_at dksX0_foretold_3 16 rfl rfl)
theorem dX0_foretold_91 : decode cX0_foretold 91 = .ok (.aload_n 0, 1) := dk_42 (dk_at dksX0_foretold_3 19 rfl rfl)
theorem dX0_foretold_92 : decode cX0_foretold 92 = .ok (.getfield 43, 3) := dk_180 0 43 (dk_at dksX0_foretold_3 20 rfl rfl)
theorem dX0_foretold_95 : decode cX0_foretold 95 = .ok (.iconst 4, 1) := dk_7 (dk_at dksX0_foretold_3 23 rfl rfl)
theorem dX0_foretold_96 : decode cX0_foretold 96 = .ok (.iload_n 2, 1) := dk_28 (dk_at dksX0_foretold_4 0 rfl rfl)
theorem dX0_foretold_97 : decode cX0_foretold 97 = .ok (.iadd, 1) := dk_96 (dk_at dksX0_foretold_4 1 rfl rfl)
theorem dX0_foretold_98 : decode cX0_foretold 98 = .ok (.iaload, 1) := dk_46 (dk_at dksX0_foretold_4 2 rfl rfl)
theorem dX0_foretold_99 : decode cX0_foretold 99 = .ok (.goto 33, 3) := dk_167 0 33 (dk_at dksX0_foretold_4 3 rfl rfl)
theorem dX0_foretold_102 : decode cX0_foretold 102 = .ok (.iload_n 3, 1) := dk_29 (dk_at dksX0_foretold_4 6 rfl rfl)
theorem dX0_foretold_103 : decode cX0_foretold 103 = .ok (.iconst 1, 1) := dk_4 (dk_at dksX0_foretold_4 7 rfl rfl)
theorem dX0_foretold_104 : decode cX0_foretold 104 = .ok (.if_icmp .ne 15, 3) := dk_160 0 15 (dk_at dksX0_foretold_4 8 rfl rfl)
theorem dX0_foretold_107 : decode cX0_foretold 107 = .ok (.aload_n 0, 1) := dk_42 (dk_at dksX0_foretold_4 11 rfl rfl)
theorem dX0_foretold_108 : decode cX0_foretold 108 = .ok (.getfield 43, 3) := dk_180 0 43 (dk_at dksX0_foretold_4 12 rfl rfl)
theorem dX0_foretold_111 : decode cX0_foretold 111 = .ok (.bipush 20, 2) := dk_16 20 (dk_at dksX0_foretold_4 15 rfl rfl)
theorem dX0_foretold_113 : decode cX0_foretold 113 = .ok (.iload_n 2, 1) := dk_28 (dk_at dksX0_foretold_4 17 rfl rfl)
theorem dX0_foretold_114 : decode cX0_foretold 114 = .ok (.iadd, 1) := dk_96 (dk_at dksX0_foretold_4 18 rfl rfl)
theorem dX0_foretold_115 : decode cX0_foretold 115 = .ok (.iaload, 1) := dk_46 (dk_at dksX0_foretold_4 19 rfl rfl)
theorem dX0_foretold_116 : decode cX0_foretold 116 = .ok (.goto 16, 3) := dk_167 0 16 (dk_at dksX0_foretold_4 20 rfl rfl)
theorem dX0_foretold_119 : decode cX0_foretold 119 = .ok (.aload_n 0, 1) := dk_42 (dk_at dksX0_foretold_4 23 rfl rfl)
theorem dX0_foretold_120 : decode cX0_foretold 120 = .ok (.aload_n 0, 1) := dk_42 (dk_at dksX0_foretold_5 0 rfl rfl)
theorem dX0_foretold_121 : decode cX0_foretold 121 = .ok (.invokevirtual 175, 3) := dk_182 0 175 (dk_at dksX0_foretold_5 1 rfl rfl)
theorem dX0_foretold_124 : decode cX0_foretold 124 = .ok (.aload_n 0, 1) := dk_42 (dk_at dksX0_foretold_5 4 rfl rfl)
theorem dX0_foretold_125 : decode cX0_foretold 125 = .ok (.getfield 43, 3) := dk_180 0 43 (dk_at dksX0_foretold_5 5 rfl rfl)
theorem dX0_foretold_128 : decode cX0_foretold 128 = .ok (.iload_n 2, 1) := dk_28 (dk_at dksX0_foretold_5 8 rfl rfl)
theorem dX0_foretold_129 : decode cX0_foretold 129 = .ok (.invokevirtual 198, 3) := dk_182 0 198 (dk_at dksX0_foretold_5 9 rfl rfl)
theorem dX0_foretold_132 : decode cX0_foretold 132 = .ok (.ireturn, 1) := dk_172 (dk_at dksX0_foretold_5 12 rfl rfl)
abbrev cX0_speak : ByteArray := prog_1_method_53_code
def yX0_speak : MethodName := ⟨RX0, "speak", "(II)Z"⟩
def dkwX0_speak_0 : List UInt8 := [27, 28, 184, 0, 91, 153, 0, 16, 42, 27, 28, 182, 1, 50, 153, 0, 7, 4, 167, 0, 4, 3, 172]
abbrev dktX0_speak_0 : List UInt8 := dkwX0_speak_0 ++ []
theorem dksX0_speak_0 : cX0_speak.data.toList.drop 0 = dktX0_speak_0 := by decide +kernel
theorem dX0_speak_0 : decode cX0_speak 0 = .ok (.iload_n 1, 1) := dk_27 (dk_at dksX0_speak_0 0 rfl rfl)
theorem dX0_speak_1 : decode cX0_speak 1 = .ok (.iload_n 2, 1) := dk_28 (dk_at dksX0_speak_0 1 rfl rfl)
theorem dX0_speak_2 : decode cX0_speak 2 = .ok (.invokestatic 91, 3) := dk_184 0 91 (dk_at dksX0_speak_0 2 rfl rfl)
theorem dX0_speak_5 : decode cX0_speak 5 = .ok (.ifCond .eq 16, 3) := dk_153 0 16 (dk_at dksX0_speak_0 5 rfl rfl)
theorem dX0_speak_8 : decode cX0_speak 8 = .ok (.aload_n 0, 1) := dk_42 (dk_at dksX0_speak_0 8 rfl rfl)
theorem dX0_speak_9 : decode cX0_speak 9 = .ok (.iload_n 1, 1) := dk_27 (dk_at dksX0_speak_0 9 rfl rfl)
theorem dX0_speak_10 : decode cX0_speak 10 = .ok (.iload_n 2, 1) := dk_28 (dk_at dksX0_speak_0 10 rfl rfl)
theorem dX0_speak_11 : decode cX0_speak 11 = .ok (.invokevirtual 306, 3) := dk_182 1 50 (dk_at dksX0_speak_0 11 rfl rfl)
theorem dX0_speak_14 : decode cX0_speak 14 = .ok (.ifCond .eq 7, 3) := dk_153 0 7 (dk_at dksX0_speak_0 14 rfl rfl)
theorem dX0_speak_17 : decode cX0_speak 17 = .ok (.iconst 1, 1) := dk_4 (dk_at dksX0_speak_0 17 rfl rfl)
theorem dX0_speak_18 : decode cX0_speak 18 = .ok (.goto 4, 3) := dk_167 0 4 (dk_at dksX0_speak_0 18 rfl rfl)
theorem dX0_speak_21 : decode cX0_speak 21 = .ok (.iconst 0, 1) := dk_3 (dk_at dksX0_speak_0 21 rfl rfl)
theorem dX0_speak_22 : decode cX0_speak 22 = .ok (.ireturn, 1) := dk_172 (dk_at dksX0_speak_0 22 rfl rfl)
abbrev cX0_doSpeak : ByteArray := prog_1_method_52_code
def yX0_doSpeak : MethodName := ⟨RX0, "doSpeak", "(II)Z"⟩
def dkwX0_doSpeak_1 : List UInt8 := [180, 0, 88, 7, 29, 96, 46, 5, 159, 0, 5, 3, 172, 132, 3, 1, 167, 255, 218, 4, 172]
abbrev dktX0_doSpeak_1 : List UInt8 := dkwX0_doSpeak_1 ++ []
def dkwX0_doSpeak_0 : List UInt8 := [3, 62, 29, 42, 182, 0, 73, 162, 0, 36, 42, 29, 27, 28, 182, 1, 47, 153, 0, 20, 42, 180, 0, 21]
abbrev dktX0_doSpeak_0 : List UInt8 := dkwX0_doSpeak_0 ++ dktX0_doSpeak_1
theorem dksX0_doSpeak_0 : cX0_doSpeak.data.toList.drop 0 = dktX0_doSpeak_0 := by decide +kernel
theorem dksX0_doSpeak_1 : cX0_doSpeak.data.toList.drop 24 = dktX0_doSpeak_1 := dk_seg dksX0_doSpeak_0 24 rfl rfl
theorem dX0_doSpeak_0 : decode cX0_doSpeak 0 = .ok (.iconst 0, 1) := dk_3 (dk_at dksX0_doSpeak_0 0 rfl rfl)
theorem dX0_doSpeak_1 : decode cX0_doSpeak 1 = .ok (.istore_n 3, 1) := dk_62 (dk_at dksX0_doSpeak_0 1 rfl rfl)
theorem dX0_doSpeak_2 : decode cX0_doSpeak 2 = .ok (.iload_n 3, 1) := dk_29 (dk_at dksX0_doSpeak_0 2 rfl rfl)
theorem dX0_doSpeak_3 : decode cX0_doSpeak 3 = .ok (.aload_n 0, 1) := dk_42 (dk_at dksX0_doSpeak_0 3 rfl rfl)
theorem dX0_doSpeak_4 : decode cX0_doSpeak 4 = .ok (.invokevirtual 73, 3) := dk_182 0 73 (dk_at dksX0_doSpeak_0 4 rfl rfl)
theorem dX0_doSpeak_7 : decode cX0_doSpeak 7 = .ok (.if_icmp .ge 36, 3) := dk_162 0 36 (dk_at dksX0_doSpeak_0 7 rfl rfl)
theorem dX0_doSpeak_10 : decode cX0_doSpeak 10 = .ok (.aload_n 0, 1) := dk_42 (dk_at dksX0_doSpeak_0 10 rfl rfl)
theorem dX0_doSpeak_11 : decode cX0_doSpeak 11 = .ok (.iload_n 3, 1) := dk_29 (dk_at dksX0_doSpeak_0 11 rfl rfl)
theorem dX0_doSpeak_12 : decode cX0_doSpeak 12 = .ok (.iload_n 1, 1) := dk_27 (dk_at dksX0_doSpeak_0 12 rfl rfl)
theorem dX0_doSpeak_13 : decode cX0_doSpeak 13 = .ok (.iload_n 2, 1) := dk_28 (dk_at dksX0_doSpeak_0 13 rfl rfl)
theorem dX0_doSpeak_14 : decode cX0_doSpeak 14 = .ok (.invokevirtual 303, 3) := dk_182 1 47 (dk_at dksX0_doSpeak_0 14 rfl rfl)
theorem dX0_doSpeak_17 : decode cX0_doSpeak 17 = .ok (.ifCond .eq 20, 3) := dk_153 0 20 (dk_at dksX0_doSpeak_0 17 rfl rfl)
theorem dX0_doSpeak_20 : decode cX0_doSpeak 20 = .ok (.aload_n 0, 1) := dk_42 (dk_at dksX0_doSpeak_0 20 rfl rfl)
theorem dX0_doSpeak_21 : decode cX0_doSpeak 21 = .ok (.getfield 21, 3) := dk_180 0 21 (dk_at dksX0_doSpeak_0 21 rfl rfl)
theorem dX0_doSpeak_24 : decode cX0_doSpeak 24 = .ok (.getfield 88, 3) := dk_180 0 88 (dk_at dksX0_doSpeak_1 0 rfl rfl)
theorem dX0_doSpeak_27 : decode cX0_doSpeak 27 = .ok (.iconst 4, 1) := dk_7 (dk_at dksX0_doSpeak_1 3 rfl rfl)
theorem dX0_doSpeak_28 : decode cX0_doSpeak 28 = .ok (.iload_n 3, 1) := dk_29 (dk_at dksX0_doSpeak_1 4 rfl rfl)
theorem dX0_doSpeak_29 : decode cX0_doSpeak 29 = .ok (.iadd, 1) := dk_96 (dk_at dksX0_doSpeak_1 5 rfl rfl)
theorem dX0_doSpeak_30 : decode cX0_doSpeak 30 = .ok (.iaload, 1) := dk_46 (dk_at dksX0_doSpeak_1 6 rfl rfl)
theorem dX0_doSpeak_31 : decode cX0_doSpeak 31 = .ok (.iconst 2, 1) := dk_5 (dk_at dksX0_doSpeak_1 7 rfl rfl)
theorem dX0_doSpeak_32 : decode cX0_doSpeak 32 = .ok (.if_icmp .eq 5, 3) := dk_159 0 5 (dk_at dksX0_doSpeak_1 8 rfl rfl)
theorem dX0_doSpeak_35 : decode cX0_doSpeak 35 = .ok (.iconst 0, 1) := dk_3 (dk_at dksX0_doSpeak_1 11 rfl rfl)
theorem dX0_doSpeak_36 : decode cX0_doSpeak 36 = .ok (.ireturn, 1) := dk_172 (dk_at dksX0_doSpeak_1 12 rfl rfl)
theorem dX0_doSpeak_37 : decode cX0_doSpeak 37 = .ok (.iinc 3 1, 3) := dk_132 3 1 (dk_at dksX0_doSpeak_1 13 rfl rfl)
theorem dX0_doSpeak_40 : decode cX0_doSpeak 40 = .ok (.goto (-38), 3) := dk_167 255 218 (dk_at dksX0_doSpeak_1 16 rfl rfl)
theorem dX0_doSpeak_43 : decode cX0_doSpeak 43 = .ok (.iconst 1, 1) := dk_4 (dk_at dksX0_doSpeak_1 19 rfl rfl)
theorem dX0_doSpeak_44 : decode cX0_doSpeak 44 = .ok (.ireturn, 1) := dk_172 (dk_at dksX0_doSpeak_1 20 rfl rfl)
abbrev cX0_isOf : ByteArray := prog_1_method_50_code
def yX0_isOf : MethodName := ⟨RX0, "isOf", "(III)Z"⟩
def dkwX0_isOf_2 : List UInt8 := [46, 28, 160, 0, 7, 4, 167, 0, 4, 3, 172]
abbrev dktX0_isOf_2 : List UInt8 := dkwX0_isOf_2 ++ []
def dkwX0_isOf_1 : List UInt8 := [159, 0, 29, 42, 180, 0, 21, 180, 0, 95, 27, 46, 29, 160, 0, 20, 42, 180, 0, 21, 180, 0, 98, 27]
abbrev dktX0_isOf_1 : List UInt8 := dkwX0_isOf_1 ++ dktX0_isOf_2
def dkwX0_isOf_0 : List UInt8 := [42, 180, 0, 21, 180, 0, 95, 27, 46, 28, 160, 0, 16, 42, 180, 0, 21, 180, 0, 98, 27, 46, 29]
abbrev dktX0_isOf_0 : List UInt8 := dkwX0_isOf_0 ++ dktX0_isOf_1
theorem dksX0_isOf_0 : cX0_isOf.data.toList.drop 0 = dktX0_isOf_0 := by decide +kernel
theorem dksX0_isOf_1 : cX0_isOf.data.toList.drop 23 = dktX0_isOf_1 := dk_seg dksX0_isOf_0 23 rfl rfl
theorem dksX0_isOf_2 : cX0_isOf.data.toList.drop 47 = dktX0_isOf_2 := dk_seg dksX0_isOf_1 24 rfl rfl
theorem dX0_isOf_0 : decode cX0_isOf 0 = .ok (.aload_n 0, 1) := dk_42 (dk_at dksX0_isOf_0 0 rfl rfl)
theorem dX0_isOf_1 : decode cX0_isOf 1 = .ok (.getfield 21, 3) := dk_180 0 21 (dk_at dksX0_isOf_0 1 rfl rfl)
theorem dX0_isOf_4 : decode cX0_isOf 4 = .ok (.getfield 95, 3) := dk_180 0 95 (dk_at dksX0_isOf_0 4 rfl rfl)
theorem dX0_isOf_7 : decode cX0_isOf 7 = .ok (.iload_n 1, 1) := dk_27 (dk_at dksX0_isOf_0 7 rfl rfl)
theorem dX0_isOf_8 : decode cX0_isOf 8 = .ok (.iaload, 1) := dk_46 (dk_at dksX0_isOf_0 8 rfl rfl)
theorem dX0_isOf_9 : decode cX0_isOf 9 = .ok (.iload_n 2, 1) := dk_28 (dk_at dksX0_isOf_0 9 rfl rfl)
theorem dX0_isOf_10 : decode cX0_isOf 10 = .ok (.if_icmp .ne 16, 3) := dk_160 0 16 (dk_at dksX0_isOf_0 10 rfl rfl)
theorem dX0_isOf_13 : decode cX0_isOf 13 = .ok (.aload_n 0, 1) := dk_42 (dk_at dksX0_isOf_0 13 rfl rfl)
theorem dX0_isOf_14 : decode cX0_isOf 14 = .ok (.getfield 21, 3) := dk_180 0 21 (dk_at dksX0_isOf_0 14 rfl rfl)
theorem dX0_isOf_17 : decode cX0_isOf 17 = .ok (.getfield 98, 3) := dk_180 0 98 (dk_at dksX0_isOf_0 17 rfl rfl)
theorem dX0_isOf_20 : decode cX0_isOf 20 = .ok (.iload_n 1, 1) := dk_27 (dk_at dksX0_isOf_0 20 rfl rfl)
theorem dX0_isOf_21 : decode cX0_isOf 21 = .ok (.iaload, 1) := dk_46 (dk_at dksX0_isOf_0 21 rfl rfl)
theorem dX0_isOf_22 : decode cX0_isOf 22 = .ok (.iload_n 3, 1) := dk_29 (dk_at dksX0_isOf_0 22 rfl rfl)
theorem dX0_isOf_23 : decode cX0_isOf 23 = .ok (.if_icmp .eq 29, 3) := dk_159 0 29 (dk_at dksX0_isOf_1 0 rfl rfl)
theorem dX0_isOf_26 : decode cX0_isOf 26 = .ok (.aload_n 0, 1) := dk_42 (dk_at dksX0_isOf_1 3 rfl rfl)
theorem dX0_isOf_27 : decode cX0_isOf 27 = .ok (.getfield 21, 3) := dk_180 0 21 (dk_at dksX0_isOf_1 4 rfl rfl)
theorem dX0_isOf_30 : decode cX0_isOf 30 = .ok (.getfield 95, 3) := dk_180 0 95 (dk_at dksX0_isOf_1 7 rfl rfl)
theorem dX0_isOf_33 : decode cX0_isOf 33 = .ok (.iload_n 1, 1) := dk_27 (dk_at dksX0_isOf_1 10 rfl rfl)
theorem dX0_isOf_34 : decode cX0_isOf 34 = .ok (.iaload, 1) := dk_46 (dk_at dksX0_isOf_1 11 rfl rfl)
theorem dX0_isOf_35 : decode cX0_isOf 35 = .ok (.iload_n 3, 1) := dk_29 (dk_at dksX0_isOf_1 12 rfl rfl)
theorem dX0_isOf_36 : decode cX0_isOf 36 = .ok (.if_icmp .ne 20, 3) := dk_160 0 20 (dk_at dksX0_isOf_1 13 rfl rfl)
theorem dX0_isOf_39 : decode cX0_isOf 39 = .ok (.aload_n 0, 1) := dk_42 (dk_at dksX0_isOf_1 16 rfl rfl)
theorem dX0_isOf_40 : decode cX0_isOf 40 = .ok (.getfield 21, 3) := dk_180 0 21 (dk_at dksX0_isOf_1 17 rfl rfl)
theorem dX0_isOf_43 : decode cX0_isOf 43 = .ok (.getfield 98, 3) := dk_180 0 98 (dk_at dksX0_isOf_1 20 rfl rfl)
theorem dX0_isOf_46 : decode cX0_isOf 46 = .ok (.iload_n 1, 1) := dk_27 (dk_at dksX0_isOf_1 23 rfl rfl)
theorem dX0_isOf_47 : decode cX0_isOf 47 = .ok (.iaload, 1) := dk_46 (dk_at dksX0_isOf_2 0 rfl rfl)
theorem dX0_isOf_48 : decode cX0_isOf 48 = .ok (.iload_n 2, 1) := dk_28 (dk_at dksX0_isOf_2 1 rfl rfl)
theorem dX0_isOf_49 : decode cX0_isOf 49 = .ok (.if_icmp .ne 7, 3) := dk_160 0 7 (dk_at dksX0_isOf_2 2 rfl rfl)
theorem dX0_isOf_52 : decode cX0_isOf 52 = .ok (.iconst 1, 1) := dk_4 (dk_at dksX0_isOf_2 5 rfl rfl)
theorem dX0_isOf_53 : decode cX0_isOf 53 = .ok (.goto 4, 3) := dk_167 0 4 (dk_at dksX0_isOf_2 6 rfl rfl)
theorem dX0_isOf_56 : decode cX0_isOf 56 = .ok (.iconst 0, 1) := dk_3 (dk_at dksX0_isOf_2 9 rfl rfl)
theorem dX0_isOf_57 : decode cX0_isOf 57 = .ok (.ireturn, 1) := dk_172 (dk_at dksX0_isOf_2 10 rfl rfl)
abbrev cX0_cost : ByteArray := prog_1_method_54_code
def yX0_cost : MethodName := ⟨RX0, "cost", "(II)I"⟩
def dkwX0_cost_0 : List UInt8 := [27, 28, 184, 0, 91, 153, 0, 12, 42, 27, 28, 182, 1, 53, 167, 0, 4, 2, 172]
abbrev dktX0_cost_0 : List UInt8 := dkwX0_cost_0 ++ []
theorem dksX0_cost_0 : cX0_cost.data.toList.drop 0 = dktX0_cost_0 := by decide +kernel
theorem dX0_cost_0 : decode cX0_cost 0 = .ok (.iload_n 1, 1) := dk_27 (dk_at dksX0_cost_0 0 rfl rfl)
theorem dX0_cost_1 : decode cX0_cost 1 = .ok (.iload_n 2, 1) := dk_28 (dk_at dksX0_cost_0 1 rfl rfl)
theorem dX0_cost_2 : decode cX0_cost 2 = .ok (.invokestatic 91, 3) := dk_184 0 91 (dk_at dksX0_cost_0 2 rfl rfl)
theorem dX0_cost_5 : decode cX0_cost 5 = .ok (.ifCond .eq 12, 3) := dk_153 0 12 (dk_at dksX0_cost_0 5 rfl rfl)
theorem dX0_cost_8 : decode cX0_cost 8 = .ok (.aload_n 0, 1) := dk_42 (dk_at dksX0_cost_0 8 rfl rfl)
theorem dX0_cost_9 : decode cX0_cost 9 = .ok (.iload_n 1, 1) := dk_27 (dk_at dksX0_cost_0 9 rfl rfl)
theorem dX0_cost_10 : decode cX0_cost 10 = .ok (.iload_n 2, 1) := dk_28 (dk_at dksX0_cost_0 10 rfl rfl)
theorem dX0_cost_11 : decode cX0_cost 11 = .ok (.invokevirtual 309, 3) := dk_182 1 53 (dk_at dksX0_cost_0 11 rfl rfl)
theorem dX0_cost_14 : decode cX0_cost 14 = .ok (.goto 4, 3) := dk_167 0 4 (dk_at dksX0_cost_0 14 rfl rfl)
theorem dX0_cost_17 : decode cX0_cost 17 = .ok (.iconst (-1), 1) := dk_2 (dk_at dksX0_cost_0 17 rfl rfl)
theorem dX0_cost_18 : decode cX0_cost 18 = .ok (.ireturn, 1) := dk_172 (dk_at dksX0_cost_0 18 rfl rfl)
abbrev cX0_costOf : ByteArray := prog_1_method_51_code
def yX0_costOf : MethodName := ⟨RX0, "costOf", "(II)I"⟩
def dkwX0_costOf_3 : List UInt8 := [180, 0, 21, 180, 0, 88, 21, 4, 182, 0, 198, 96, 62, 132, 4, 1, 167, 255, 176, 29, 172]
abbrev dktX0_costOf_3 : List UInt8 := dkwX0_costOf_3 ++ []
def dkwX0_costOf_2 : List UInt8 := [180, 0, 21, 180, 0, 88, 7, 21, 4, 96, 46, 4, 159, 0, 5, 2, 172, 29, 42, 42, 182, 0, 175, 42]
abbrev dktX0_costOf_2 : List UInt8 := dkwX0_costOf_2 ++ dktX0_costOf_3
def dkwX0_costOf_1 : List UInt8 := [153, 0, 60, 42, 180, 0, 21, 180, 0, 88, 7, 21, 4, 96, 46, 5, 160, 0, 6, 167, 0, 41, 42]
abbrev dktX0_costOf_1 : List UInt8 := dkwX0_costOf_1 ++ dktX0_costOf_2
def dkwX0_costOf_0 : List UInt8 := [3, 62, 3, 54, 4, 21, 4, 42, 182, 0, 73, 162, 0, 77, 42, 21, 4, 27, 28, 182, 1, 47]
abbrev dktX0_costOf_0 : List UInt8 := dkwX0_costOf_0 ++ dktX0_costOf_1
theorem dksX0_costOf_0 : cX0_costOf.data.toList.drop 0 = dktX0_costOf_0 := by decide +kernel
theorem dksX0_costOf_1 : cX0_costOf.data.toList.drop 22 = dktX0_costOf_1 := dk_seg dksX0_costOf_0 22 rfl rfl
theorem dksX0_costOf_2 : cX0_costOf.data.toList.drop 45 = dktX0_costOf_2 := dk_seg dksX0_costOf_1 23 rfl rfl
theorem dksX0_costOf_3 : cX0_costOf.data.toList.drop 69 = dktX0_costOf_3 := dk_seg dksX0_costOf_2 24 rfl rfl
theorem dX0_costOf_0 : decode cX0_costOf 0 = .ok (.iconst 0, 1) := dk_3 (dk_at dksX0_costOf_0 0 rfl rfl)
theorem dX0_costOf_1 : decode cX0_costOf 1 = .ok (.istore_n 3, 1) := dk_62 (dk_at dksX0_costOf_0 1 rfl rfl)
theorem dX0_costOf_2 : decode cX0_costOf 2 = .ok (.iconst 0, 1) := dk_3 (dk_at dksX0_costOf_0 2 rfl rfl)
theorem dX0_costOf_3 : decode cX0_costOf 3 = .ok (.istore 4, 2) := dk_54 4 (dk_at dksX0_costOf_0 3 rfl rfl)
theorem dX0_costOf_5 : decode cX0_costOf 5 = .ok (.iload 4, 2) := dk_21 4 (dk_at dksX0_costOf_0 5 rfl rfl)
theorem dX0_costOf_7 : decode cX0_costOf 7 = .ok (.aload_n 0, 1) := dk_42 (dk_at dksX0_costOf_0 7 rfl rfl)
theorem dX0_costOf_8 : decode cX0_costOf 8 = .ok (.invokevirtual 73, 3) := dk_182 0 73 (dk_at dksX0_costOf_0 8 rfl rfl)
theorem dX0_costOf_11 : decode cX0_costOf 11 = .ok (.if_icmp .ge 77, 3) := dk_162 0 77 (dk_at dksX0_costOf_0 11 rfl rfl)
theorem dX0_costOf_14 : decode cX0_costOf 14 = .ok (.aload_n 0, 1) := dk_42 (dk_at dksX0_costOf_0 14 rfl rfl)
theorem dX0_costOf_15 : decode cX0_costOf 15 = .ok (.iload 4, 2) := dk_21 4 (dk_at dksX0_costOf_0 15 rfl rfl)
theorem dX0_costOf_17 : decode cX0_costOf 17 = .ok (.iload_n 1, 1) := dk_27 (dk_at dksX0_costOf_0 17 rfl rfl)
theorem dX0_costOf_18 : decode cX0_costOf 18 = .ok (.iload_n 2, 1) := dk_28 (dk_at dksX0_costOf_0 18 rfl rfl)
theorem dX0_costOf_19 : decode cX0_costOf 19 = .ok (.invokevirtual 303, 3) := dk_182 1 47 (dk_at dksX0_costOf_0 19 rfl rfl)
theorem dX0_costOf_22 : decode cX0_costOf 22 = .ok (.ifCond .eq 60, 3) := dk_153 0 60 (dk_at dksX0_costOf_1 0 rfl rfl)
theorem dX0_costOf_25 : decode cX0_costOf 25 = .ok (.aload_n 0, 1) := dk_42 (dk_at dksX0_costOf_1 3 rfl rfl)
theorem dX0_costOf_26 : decode cX0_costOf 26 = .ok (.getfield 21, 3) := dk_180 0 21 (dk_at dksX0_costOf_1 4 rfl rfl)
theorem dX0_costOf_29 : decode cX0_costOf 29 = .ok (.getfield 88, 3) := dk_180 0 88 (dk_at dksX0_costOf_1 7 rfl rfl)
theorem dX0_costOf_32 : decode cX0_costOf 32 = .ok (.iconst 4, 1) := dk_7 (dk_at dksX0_costOf_1 10 rfl rfl)
theorem dX0_costOf_33 : decode cX0_costOf 33 = .ok (.iload 4, 2) := dk_21 4 (dk_at dksX0_costOf_1 11 rfl rfl)
theorem dX0_costOf_35 : decode cX0_costOf 35 = .ok (.iadd, 1) := dk_96 (dk_at dksX0_costOf_1 13 rfl rfl)
theorem dX0_costOf_36 : decode cX0_costOf 36 = .ok (.iaload, 1) := dk_46 (dk_at dksX0_costOf_1 14 rfl rfl)
theorem dX0_costOf_37 : decode cX0_costOf 37 = .ok (.iconst 2, 1) := dk_5 (dk_at dksX0_costOf_1 15 rfl rfl)
theorem dX0_costOf_38 : decode cX0_costOf 38 = .ok (.if_icmp .ne 6, 3) := dk_160 0 6 (dk_at dksX0_costOf_1 16 rfl rfl)
theorem dX0_costOf_41 : decode cX0_costOf 41 = .ok (.goto 41, 3) := dk_167 0 41 (dk_at dksX0_costOf_1 19 rfl rfl)
theorem dX0_costOf_44 : decode cX0_costOf 44 = .ok (.aload_n 0, 1) := dk_42 (dk_at dksX0_costOf_1 22 rfl rfl)
theorem dX0_costOf_45 : decode cX0_costOf 45 = .ok (.getfield 21, 3) := dk_180 0 21 (dk_at dksX0_costOf_2 0 rfl rfl)
theorem dX0_costOf_48 : decode cX0_costOf 48 = .ok (.getfield 88, 3) := dk_180 0 88 (dk_at dksX0_costOf_2 3 rfl rfl)
theorem dX0_costOf_51 : decode cX0_costOf 51 = .ok (.iconst 4, 1) := dk_7 (dk_at dksX0_costOf_2 6 rfl rfl)
theorem dX0_costOf_52 : decode cX0_costOf 52 = .ok (.iload 4, 2) := dk_21 4 (dk_at dksX0_costOf_2 7 rfl rfl)
theorem dX0_costOf_54 : decode cX0_costOf 54 = .ok (.iadd, 1) := dk_96 (dk_at dksX0_costOf_2 9 rfl rfl)
theorem dX0_costOf_55 : decode cX0_costOf 55 = .ok (.iaload, 1) := dk_46 (dk_at dksX0_costOf_2 10 rfl rfl)
theorem dX0_costOf_56 : decode cX0_costOf 56 = .ok (.iconst 1, 1) := dk_4 (dk_at dksX0_costOf_2 11 rfl rfl)
theorem dX0_costOf_57 : decode cX0_costOf 57 = .ok (.if_icmp .eq 5, 3) := dk_159 0 5 (dk_at dksX0_costOf_2 12 rfl rfl)
theorem dX0_costOf_60 : decode cX0_costOf 60 = .ok (.iconst (-1), 1) := dk_2 (dk_at dksX0_costOf_2 15 rfl rfl)
theorem dX0_costOf_61 : decode cX0_costOf 61 = .ok (.ireturn, 1) := dk_172 (dk_at dksX0_costOf_2 16 rfl rfl)
theorem dX0_costOf_62 : decode cX0_costOf 62 = .ok (.iload_n 3, 1) := dk_29 (dk_at dksX0_costOf_2 17 rfl rfl)
theorem dX0_costOf_63 : decode cX0_costOf 63 = .ok (.aload_n 0, 1) := dk_42 (dk_at dksX0_costOf_2 18 rfl rfl)
theorem dX0_costOf_64 : decode cX0_costOf 64 = .ok (.aload_n 0, 1) := dk_42 (dk_at dksX0_costOf_2 19 rfl rfl)
theorem dX0_costOf_65 : decode cX0_costOf 65 = .ok (.invokevirtual 175, 3) := dk_182 0 175 (dk_at dksX0_costOf_2 20 rfl rfl)
theorem dX0_costOf_68 : decode cX0_costOf 68 = .ok (.aload_n 0, 1) := dk_42 (dk_at dksX0_costOf_2 23 rfl rfl)
theorem dX0_costOf_69 : decode cX0_costOf 69 = .ok (.getfield 21, 3) := dk_180 0 21 (dk_at dksX0_costOf_3 0 rfl rfl)
theorem dX0_costOf_72 : decode cX0_costOf 72 = .ok (.getfield 88, 3) := dk_180 0 88 (dk_at dksX0_costOf_3 3 rfl rfl)
theorem dX0_costOf_75 : decode cX0_costOf 75 = .ok (.iload 4, 2) := dk_21 4 (dk_at dksX0_costOf_3 6 rfl rfl)
theorem dX0_costOf_77 : decode cX0_costOf 77 = .ok (.invokevirtual 198, 3) := dk_182 0 198 (dk_at dksX0_costOf_3 8 rfl rfl)
theorem dX0_costOf_80 : decode cX0_costOf 80 = .ok (.iadd, 1) := dk_96 (dk_at dksX0_costOf_3 11 rfl rfl)
theorem dX0_costOf_81 : decode cX0_costOf 81 = .ok (.istore_n 3, 1) := dk_62 (dk_at dksX0_costOf_3 12 rfl rfl)
theorem dX0_costOf_82 : decode cX0_costOf 82 = .ok (.iinc 4 1, 3) := dk_132 4 1 (dk_at dksX0_costOf_3 13 rfl rfl)
theorem dX0_costOf_85 : decode cX0_costOf 85 = .ok (.goto (-80), 3) := dk_167 255 176 (dk_at dksX0_costOf_3 16 rfl rfl)
theorem dX0_costOf_88 : decode cX0_costOf 88 = .ok (.iload_n 3, 1) := dk_29 (dk_at dksX0_costOf_3 19 rfl rfl)
theorem dX0_costOf_89 : decode cX0_costOf 89 = .ok (.ireturn, 1) := dk_172 (dk_at dksX0_costOf_3 20 rfl rfl)
abbrev cX0_group : ByteArray := prog_1_method_56_code
def yX0_group : MethodName := ⟨RX0, "group", "(I)I"⟩
def dkwX0_group_0 : List UInt8 := [27, 184, 0, 81, 153, 0, 12, 42, 27, 3, 182, 1, 56, 167, 0, 4, 2, 172]
abbrev dktX0_group_0 : List UInt8 := dkwX0_group_0 ++ []
theorem dksX0_group_0 : cX0_group.data.toList.drop 0 = dktX0_group_0 := by decide +kernel
theorem dX0_group_0 : decode cX0_group 0 = .ok (.iload_n 1, 1) := dk_27 (dk_at dksX0_group_0 0 rfl rfl)
theorem dX0_group_1 : decode cX0_group 1 = .ok (.invokestatic 81, 3) := dk_184 0 81 (dk_at dksX0_group_0 1 rfl rfl)
theorem dX0_group_4 : decode cX0_group 4 = .ok (.ifCond .eq 12, 3) := dk_153 0 12 (dk_at dksX0_group_0 4 rfl rfl)
theorem dX0_group_7 : decode cX0_group 7 = .ok (.aload_n 0, 1) := dk_42 (dk_at dksX0_group_0 7 rfl rfl)
theorem dX0_group_8 : decode cX0_group 8 = .ok (.iload_n 1, 1) := dk_27 (dk_at dksX0_group_0 8 rfl rfl)
theorem dX0_group_9 : decode cX0_group 9 = .ok (.iconst 0, 1) := dk_3 (dk_at dksX0_group_0 9 rfl rfl)
theorem dX0_group_10 : decode cX0_group 10 = .ok (.invokevirtual 312, 3) := dk_182 1 56 (dk_at dksX0_group_0 10 rfl rfl)
theorem dX0_group_13 : decode cX0_group 13 = .ok (.goto 4, 3) := dk_167 0 4 (dk_at dksX0_group_0 13 rfl rfl)
theorem dX0_group_16 : decode cX0_group 16 = .ok (.iconst (-1), 1) := dk_2 (dk_at dksX0_group_0 16 rfl rfl)
theorem dX0_group_17 : decode cX0_group 17 = .ok (.ireturn, 1) := dk_172 (dk_at dksX0_group_0 17 rfl rfl)
abbrev cX0_groupOf : ByteArray := prog_1_method_55_code
def yX0_groupOf : MethodName := ⟨RX0, "groupOf", "(II)I"⟩
def dkwX0_groupOf_4 : List UInt8 := [167, 255, 170, 21, 4, 172]
abbrev dktX0_groupOf_4 : List UInt8 := dkwX0_groupOf_4 ++ []
def dkwX0_groupOf_3 : List UInt8 := [153, 0, 12, 21, 4, 4, 21, 6, 120, 128, 54, 4, 132, 6, 1, 167, 255, 201, 132, 5, 1, 167, 255, 185]
abbrev dktX0_groupOf_3 : List UInt8 := dkwX0_groupOf_3 ++ dktX0_groupOf_4
def dkwX0_groupOf_2 : List UInt8 := [184, 1, 41, 153, 0, 32, 28, 21, 6, 184, 1, 41, 154, 0, 23, 42, 21, 5, 21, 6, 182, 1, 50]
abbrev dktX0_groupOf_2 : List UInt8 := dkwX0_groupOf_2 ++ dktX0_groupOf_3
def dkwX0_groupOf_1 : List UInt8 := [162, 0, 70, 3, 54, 6, 21, 6, 16, 6, 162, 0, 54, 21, 5, 21, 6, 159, 0, 41, 29, 21, 5]
abbrev dktX0_groupOf_1 : List UInt8 := dkwX0_groupOf_1 ++ dktX0_groupOf_2
def dkwX0_groupOf_0 : List UInt8 := [3, 62, 4, 27, 120, 54, 4, 21, 4, 29, 159, 0, 86, 21, 4, 62, 3, 54, 5, 21, 5, 16, 6]
abbrev dktX0_groupOf_0 : List UInt8 := dkwX0_groupOf_0 ++ dktX0_groupOf_1
theorem dksX0_groupOf_0 : cX0_groupOf.data.toList.drop 0 = dktX0_groupOf_0 := by decide +kernel
theorem dksX0_groupOf_1 : cX0_groupOf.data.toList.drop 23 = dktX0_groupOf_1 := dk_seg dksX0_groupOf_0 23 rfl rfl
theorem dksX0_groupOf_2 : cX0_groupOf.data.toList.drop 46 = dktX0_groupOf_2 := dk_seg dksX0_groupOf_1 23 rfl rfl
theorem dksX0_groupOf_3 : cX0_groupOf.data.toList.drop 69 = dktX0_groupOf_3 := dk_seg dksX0_groupOf_2 23 rfl rfl
theorem dksX0_groupOf_4 : cX0_groupOf.data.toList.drop 93 = dktX0_groupOf_4 := dk_seg dksX0_groupOf_3 24 rfl rfl
theorem dX0_groupOf_0 : decode cX0_groupOf 0 = .ok (.iconst 0, 1) := dk_3 (dk_at dksX0_groupOf_0 0 rfl rfl)
theorem dX0_groupOf_1 : decode cX0_groupOf 1 = .ok (.istore_n 3, 1) := dk_62 (dk_at dksX0_groupOf_0 1 rfl rfl)
theorem dX0_groupOf_2 : decode cX0_groupOf 2 = .ok (.iconst 1, 1) := dk_4 (dk_at dksX0_groupOf_0 2 rfl rfl)
theorem dX0_groupOf_3 : decode cX0_groupOf 3 = .ok (.iload_n 1, 1) := dk_27 (dk_at dksX0_groupOf_0 3 rfl rfl)
theorem dX0_groupOf_4 : decode cX0_groupOf 4 = .ok (.ishl, 1) := dk_120 (dk_at dksX0_groupOf_0 4 rfl rfl)
theorem dX0_groupOf_5 : decode cX0_groupOf 5 = .ok (.istore 4, 2) := dk_54 4 (dk_at dksX0_groupOf_0 5 rfl rfl)
theorem dX0_groupOf_7 : decode cX0_groupOf 7 = .ok (.iload 4, 2) := dk_21 4 (dk_at dksX0_groupOf_0 7 rfl rfl)
theorem dX0_groupOf_9 : decode cX0_groupOf 9 = .ok (.iload_n 3, 1) := dk_29 (dk_at dksX0_groupOf_0 9 rfl rfl)
theorem dX0_groupOf_10 : decode cX0_groupOf 10 = .ok (.if_icmp .eq 86, 3) := dk_159 0 86 (dk_at dksX0_groupOf_0 10 rfl rfl)
theorem dX0_groupOf_13 : decode cX0_groupOf 13 = .ok (.iload 4, 2) := dk_21 4 (dk_at dksX0_groupOf_0 13 rfl rfl)
theorem dX0_groupOf_15 : decode cX0_groupOf 15 = .ok (.istore_n 3, 1) := dk_62 (dk_at dksX0_groupOf_0 15 rfl rfl)
theorem dX0_groupOf_16 : decode cX0_groupOf 16 = .ok (.iconst 0, 1) := dk_3 (dk_at dksX0_groupOf_0 16 rfl rfl)
theorem dX0_groupOf_17 : decode cX0_groupOf 17 = .ok (.istore 5, 2) := dk_54 5 (dk_at dksX0_groupOf_0 17 rfl rfl)
theorem dX0_groupOf_19 : decode cX0_groupOf 19 = .ok (.iload 5, 2) := dk_21 5 (dk_at dksX0_groupOf_0 19 rfl rfl)
theorem dX0_groupOf_21 : decode cX0_groupOf 21 = .ok (.bipush 6, 2) := dk_16 6 (dk_at dksX0_groupOf_0 21 rfl rfl)
theorem dX0_groupOf_23 : decode cX0_groupOf 23 = .ok (.if_icmp .ge 70, 3) := dk_162 0 70 (dk_at dksX0_groupOf_1 0 rfl rfl)
theorem dX0_groupOf_26 : decode cX0_groupOf 26 = .ok (.iconst 0, 1) := dk_3 (dk_at dksX0_groupOf_1 3 rfl rfl)
theorem dX0_groupOf_27 : decode cX0_groupOf 27 = .ok (.istore 6, 2) := dk_54 6 (dk_at dksX0_groupOf_1 4 rfl rfl)
theorem dX0_groupOf_29 : decode cX0_groupOf 29 = .ok (.iload 6, 2) := dk_21 6 (dk_at dksX0_groupOf_1 6 rfl rfl)
theorem dX0_groupOf_31 : decode cX0_groupOf 31 = .ok (.bipush 6, 2) := dk_16 6 (dk_at dksX0_groupOf_1 8 rfl rfl)
theorem dX0_groupOf_33 : decode cX0_groupOf 33 = .ok (.if_icmp .ge 54, 3) := dk_162 0 54 (dk_at dksX0_groupOf_1 10 rfl rfl)
theorem dX0_groupOf_36 : decode cX0_groupOf 36 = .ok (.iload 5, 2) := dk_21 5 (dk_at dksX0_groupOf_1 13 rfl rfl)
theorem dX0_groupOf_38 : decode cX0_groupOf 38 = .ok (.iload 6, 2) := dk_21 6 (dk_at dksX0_groupOf_1 15 rfl rfl)
theorem dX0_groupOf_40 : decode cX0_groupOf 40 = .ok (.if_icmp .eq 41, 3) := dk_159 0 41 (dk_at dksX0_groupOf_1 17 rfl rfl)
theorem dX0_groupOf_43 : decode cX0_groupOf 43 = .ok (.iload_n 3, 1) := dk_29 (dk_at dksX0_groupOf_1 20 rfl rfl)
theorem dX0_groupOf_44 : decode cX0_groupOf 44 = .ok (.iload 5, 2) := dk_21 5 (dk_at dksX0_groupOf_1 21 rfl rfl)
theorem dX0_groupOf_46 : decode cX0_groupOf 46 = .ok (.invokestatic 297, 3) := dk_184 1 41 (dk_at dksX0_groupOf_2 0 rfl rfl)
theorem dX0_groupOf_49 : decode cX0_groupOf 49 = .ok (.ifCond .eq 32, 3) := dk_153 0 32 (dk_at dksX0_groupOf_2 3 rfl rfl)
theorem dX0_groupOf_52 : decode cX0_groupOf 52 = .ok (.iload_n 2, 1) := dk_28 (dk_at dksX0_groupOf_2 6 rfl rfl)
theorem dX0_groupOf_53 : decode cX0_groupOf 53 = .ok (.iload 6, 2) := dk_21 6 (dk_at dksX0_groupOf_2 7 rfl rfl)
theorem dX0_groupOf_55 : decode cX0_groupOf 55 = .ok (.invokestatic 297, 3) := dk_184 1 41 (dk_at dksX0_groupOf_2 9 rfl rfl)
theorem dX0_groupOf_58 : decode cX0_groupOf 58 = .ok (.ifCond .ne 23, 3) := dk_154 0 23 (dk_at dksX0_groupOf_2 12 rfl rfl)
theorem dX0_groupOf_61 : decode cX0_groupOf 61 = .ok (.aload_n 0, 1) := dk_42 (dk_at dksX0_groupOf_2 15 rfl rfl)
theorem dX0_groupOf_62 : decode cX0_groupOf 62 = .ok (.iload 5, 2) := dk_21 5 (dk_at dksX0_groupOf_2 16 rfl rfl)
theorem dX0_groupOf_64 : decode cX0_groupOf 64 = .ok (.iload 6, 2) := dk_21 6 (dk_at dksX0_groupOf_2 18 rfl rfl)
theorem dX0_groupOf_66 : decode cX0_groupOf 66 = .ok (.invokevirtual 306, 3) := dk_182 1 50 (dk_at dksX0_groupOf_2 20 rfl rfl)
theorem dX0_groupOf_69 : decode cX0_groupOf 69 = .ok (.ifCond .eq 12, 3) := dk_153 0 12 (dk_at dksX0_groupOf_3 0 rfl rfl)
theorem dX0_groupOf_72 : decode cX0_groupOf 72 = .ok (.iload 4, 2) := dk_21 4 (dk_at dksX0_groupOf_3 3 rfl rfl)
theorem dX0_groupOf_74 : decode cX0_groupOf 74 = .ok (.iconst 1, 1) := dk_4 (dk_at dksX0_groupOf_3 5 rfl rfl)
theorem dX0_groupOf_75 : decode cX0_groupOf 75 = .ok (.iload 6, 2) := dk_21 6 (dk_at dksX0_groupOf_3 6 rfl rfl)
theorem dX0_groupOf_77 : decode cX0_groupOf 77 = .ok (.ishl, 1) := dk_120 (dk_at dksX0_groupOf_3 8 rfl rfl)
theorem dX0_groupOf_78 : decode cX0_groupOf 78 = .ok (.ior, 1) := dk_128 (dk_at dksX0_groupOf_3 9 rfl rfl)
theorem dX0_groupOf_79 : decode cX0_groupOf 79 = .ok (.istore 4, 2) := dk_54 4 (dk_at dksX0_groupOf_3 10 rfl rfl)
theorem dX0_groupOf_81 : decode cX0_groupOf 81 = .ok (.iinc 6 1, 3) := dk_132 6 1 (dk_at dksX0_groupOf_3 12 rfl rfl)
theorem dX0_groupOf_84 : decode cX0_groupOf 84 = .ok (.goto (-55), 3) := dk_167 255 201 (dk_at dksX0_groupOf_3 15 rfl rfl)
theorem dX0_groupOf_87 : decode cX0_groupOf 87 = .ok (.iinc 5 1, 3) := dk_132 5 1 (dk_at dksX0_groupOf_3 18 rfl rfl)
theorem dX0_groupOf_90 : decode cX0_groupOf 90 = .ok (.goto (-71), 3) := dk_167 255 185 (dk_at dksX0_groupOf_3 21 rfl rfl)
theorem dX0_groupOf_93 : decode cX0_groupOf 93 = .ok (.goto (-86), 3) := dk_167 255 170 (dk_at dksX0_groupOf_4 0 rfl rfl)
theorem dX0_groupOf_96 : decode cX0_groupOf 96 = .ok (.iload 4, 2) := dk_21 4 (dk_at dksX0_groupOf_4 3 rfl rfl)
theorem dX0_groupOf_98 : decode cX0_groupOf 98 = .ok (.ireturn, 1) := dk_172 (dk_at dksX0_groupOf_4 5 rfl rfl)
abbrev cX0_groups : ByteArray := prog_1_method_57_code
def yX0_groups : MethodName := ⟨RX0, "groups", "(Z)I"⟩
def dkwX0_groups_2 : List UInt8 := [167, 255, 217, 27, 153, 0, 7, 29, 167, 0, 4, 28, 172]
abbrev dktX0_groups_2 : List UInt8 := dkwX0_groups_2 ++ []
def dkwX0_groups_1 : List UInt8 := [54, 5, 29, 21, 5, 184, 0, 182, 184, 0, 220, 62, 21, 4, 21, 5, 2, 130, 126, 54, 4, 132, 2, 1]
abbrev dktX0_groups_1 : List UInt8 := dkwX0_groups_1 ++ dktX0_groups_2
def dkwX0_groups_0 : List UInt8 := [3, 61, 3, 62, 16, 63, 54, 4, 21, 4, 153, 0, 40, 42, 21, 4, 184, 1, 59, 3, 182, 1, 56]
abbrev dktX0_groups_0 : List UInt8 := dkwX0_groups_0 ++ dktX0_groups_1
theorem dksX0_groups_0 : cX0_groups.data.toList.drop 0 = dktX0_groups_0 := by decide +kernel
theorem dksX0_groups_1 : cX0_groups.data.toList.drop 23 = dktX0_groups_1 := dk_seg dksX0_groups_0 23 rfl rfl
theorem dksX0_groups_2 : cX0_groups.data.toList.drop 47 = dktX0_groups_2 := dk_seg dksX0_groups_1 24 rfl rfl
theorem dX0_groups_0 : decode cX0_groups 0 = .ok (.iconst 0, 1) := dk_3 (dk_at dksX0_groups_0 0 rfl rfl)
theorem dX0_groups_1 : decode cX0_groups 1 = .ok (.istore_n 2, 1) := dk_61 (dk_at dksX0_groups_0 1 rfl rfl)
theorem dX0_groups_2 : decode cX0_groups 2 = .ok (.iconst 0, 1) := dk_3 (dk_at dksX0_groups_0 2 rfl rfl)
theorem dX0_groups_3 : decode cX0_groups 3 = .ok (.istore_n 3, 1) := dk_62 (dk_at dksX0_groups_0 3 rfl rfl)
theorem dX0_groups_4 : decode cX0_groups 4 = .ok (.bipush 63, 2) := dk_16 63 (dk_at dksX0_groups_0 4 rfl rfl)
theorem dX0_groups_6 : decode cX0_groups 6 = .ok (.istore 4, 2) := dk_54 4 (dk_at dksX0_groups_0 6 rfl rfl)
theorem dX0_groups_8 : decode cX0_groups 8 = .ok (.iload 4, 2) := dk_21 4 (dk_at dksX0_groups_0 8 rfl rfl)
theorem dX0_groups_10 : decode cX0_groups 10 = .ok (.ifCond .eq 40, 3) := dk_153 0 40 (dk_at dksX0_groups_0 10 rfl rfl)
theorem dX0_groups_13 : decode cX0_groups 13 = .ok (.aload_n 0, 1) := dk_42 (dk_at dksX0_groups_0 13 rfl rfl)
theorem dX0_groups_14 : decode cX0_groups 14 = .ok (.iload 4, 2) := dk_21 4 (dk_at dksX0_groups_0 14 rfl rfl)
theorem dX0_groups_16 : decode cX0_groups 16 = .ok (.invokestatic 315, 3) := dk_184 1 59 (dk_at dksX0_groups_0 16 rfl rfl)
theorem dX0_groups_19 : decode cX0_groups 19 = .ok (.iconst 0, 1) := dk_3 (dk_at dksX0_groups_0 19 rfl rfl)
theorem dX0_groups_20 : decode cX0_groups 20 = .ok (.invokevirtual 312, 3) := dk_182 1 56 (dk_at dksX0_groups_0 20 rfl rfl)
theorem dX0_groups_23 : decode cX0_groups 23 = .ok (.istore 5, 2) := dk_54 5 (dk_at dksX0_groups_1 0 rfl rfl)
theorem dX0_groups_25 : decode cX0_groups 25 = .ok (.iload_n 3, 1) := dk_29 (dk_at dksX0_groups_1 2 rfl rfl)
theorem dX0_groups_26 : decode cX0_groups 26 = .ok (.iload 5, 2) := dk_21 5 (dk_at dksX0_groups_1 3 rfl rfl)
theorem dX0_groups_28 : decode cX0_groups 28 = .ok (.invokestatic 182, 3) := dk_184 0 182 (dk_at dksX0_groups_1 5 rfl rfl)
theorem dX0_groups_31 : decode cX0_groups 31 = .ok (.invokestatic 220, 3) := dk_184 0 220 (dk_at dksX0_groups_1 8 rfl rfl)
theorem dX0_groups_34 : decode cX0_groups 34 = .ok (.istore_n 3, 1) := dk_62 (dk_at dksX0_groups_1 11 rfl rfl)
theorem dX0_groups_35 : decode cX0_groups 35 = .ok (.iload 4, 2) := dk_21 4 (dk_at dksX0_groups_1 12 rfl rfl)
theorem dX0_groups_37 : decode cX0_groups 37 = .ok (.iload 5, 2) := dk_21 5 (dk_at dksX0_groups_1 14 rfl rfl)
theorem dX0_groups_39 : decode cX0_groups 39 = .ok (.iconst (-1), 1) := dk_2 (dk_at dksX0_groups_1 16 rfl rfl)
theorem dX0_groups_40 : decode cX0_groups 40 = .ok (.ixor, 1) := dk_130 (dk_at dksX0_groups_1 17 rfl rfl)
theorem dX0_groups_41 : decode cX0_groups 41 = .ok (.iand, 1) := dk_126 (dk_at dksX0_groups_1 18 rfl rfl)
theorem dX0_groups_42 : decode cX0_groups 42 = .ok (.istore 4, 2) := dk_54 4 (dk_at dksX0_groups_1 19 rfl rfl)
theorem dX0_groups_44 : decode cX0_groups 44 = .ok (.iinc 2 1, 3) := dk_132 2 1 (dk_at dksX0_groups_1 21 rfl rfl)
theorem dX0_groups_47 : decode cX0_groups 47 = .ok (.goto (-39), 3) := dk_167 255 217 (dk_at dksX0_groups_2 0 rfl rfl)
theorem dX0_groups_50 : decode cX0_groups 50 = .ok (.iload_n 1, 1) := dk_27 (dk_at dksX0_groups_2 3 rfl rfl)
theorem dX0_groups_51 : decode cX0_groups 51 = .ok (.ifCond .eq 7, 3) := dk_153 0 7 (dk_at dksX0_groups_2 4 rfl rfl)
theorem dX0_groups_54 : decode cX0_groups 54 = .ok (.iload_n 3, 1) := dk_29 (dk_at dksX0_groups_2 7 rfl rfl)
theorem dX0_groups_55 : decode cX0_groups 55 = .ok (.goto 4, 3) := dk_167 0 4 (dk_at dksX0_groups_2 8 rfl rfl)
theorem dX0_groups_58 : decode cX0_groups 58 = .ok (.iload_n 2, 1) := dk_28 (dk_at dksX0_groups_2 11 rfl rfl)
theorem dX0_groups_59 : decode cX0_groups 59 = .ok (.ireturn, 1) := dk_172 (dk_at dksX0_groups_2 12 rfl rfl)
abbrev cX0_word : ByteArray := prog_1_method_60_code
def yX0_word : MethodName := ⟨RX0, "word", "(II)I"⟩
def dkwX0_word_2 : List UInt8 := [172]
abbrev dktX0_word_2 : List UInt8 := dkwX0_word_2 ++ []
def dkwX0_word_1 : List UInt8 := [180, 0, 46, 27, 46, 19, 1, 62, 160, 0, 7, 2, 167, 0, 12, 42, 180, 0, 46, 27, 46, 16, 10, 108]
abbrev dktX0_word_1 : List UInt8 := dkwX0_word_1 ++ dktX0_word_2
def dkwX0_word_0 : List UInt8 := [27, 184, 0, 81, 153, 0, 10, 28, 184, 0, 81, 154, 0, 5, 2, 172, 42, 28, 182, 1, 71, 42]
abbrev dktX0_word_0 : List UInt8 := dkwX0_word_0 ++ dktX0_word_1
theorem dksX0_word_0 : cX0_word.data.toList.drop 0 = dktX0_word_0 := by decide +kernel
theorem dksX0_word_1 : cX0_word.data.toList.drop 22 = dktX0_word_1 := dk_seg dksX0_word_0 22 rfl rfl
theorem dksX0_word_2 : cX0_word.data.toList.drop 46 = dktX0_word_2 := dk_seg dksX0_word_1 24 rfl rfl
theorem dX0_word_0 : decode cX0_word 0 = .ok (.iload_n 1, 1) := dk_27 (dk_at dksX0_word_0 0 rfl rfl)
theorem dX0_word_1 : decode cX0_word 1 = .ok (.invokestatic 81, 3) := dk_184 0 81 (dk_at dksX0_word_0 1 rfl rfl)
theorem dX0_word_4 : decode cX0_word 4 = .ok (.ifCond .eq 10, 3) := dk_153 0 10 (dk_at dksX0_word_0 4 rfl rfl)
theorem dX0_word_7 : decode cX0_word 7 = .ok (.iload_n 2, 1) := dk_28 (dk_at dksX0_word_0 7 rfl rfl)
theorem dX0_word_8 : decode cX0_word 8 = .ok (.invokestatic 81, 3) := dk_184 0 81 (dk_at dksX0_word_0 8 rfl rfl)
theorem dX0_word_11 : decode cX0_word 11 = .ok (.ifCond .ne 5, 3) := dk_154 0 5 (dk_at dksX0_word_0 11 rfl rfl)
theorem dX0_word_14 : decode cX0_word 14 = .ok (.iconst (-1), 1) := dk_2 (dk_at dksX0_word_0 14 rfl rfl)
theorem dX0_word_15 : decode cX0_word 15 = .ok (.ireturn, 1) := dk_172 (dk_at dksX0_word_0 15 rfl rfl)
theorem dX0_word_16 : decode cX0_word 16 = .ok (.aload_n 0, 1) := dk_42 (dk_at dksX0_word_0 16 rfl rfl)
theorem dX0_word_17 : decode cX0_word 17 = .ok (.iload_n 2, 1) := dk_28 (dk_at dksX0_word_0 17 rfl rfl)
theorem dX0_word_18 : decode cX0_word 18 = .ok (.invokevirtual 327, 3) := dk_182 1 71 (dk_at dksX0_word_0 18 rfl rfl)
theorem dX0_word_21 : decode cX0_word 21 = .ok (.aload_n 0, 1) := dk_42 (dk_at dksX0_word_0 21 rfl rfl)
theorem dX0_word_22 : decode cX0_word 22 = .ok (.getfield 46, 3) := dk_180 0 46 (dk_at dksX0_word_1 0 rfl rfl)
theorem dX0_word_25 : decode cX0_word 25 = .ok (.iload_n 1, 1) := dk_27 (dk_at dksX0_word_1 3 rfl rfl)
theorem dX0_word_26 : decode cX0_word 26 = .ok (.iaload, 1) := dk_46 (dk_at dksX0_word_1 4 rfl rfl)
theorem dX0_word_27 : decode cX0_word 27 = .ok (.ldc_w 318, 3) := dk_19 1 62 (dk_at dksX0_word_1 5 rfl rfl)
theorem dX0_word_30 : decode cX0_word 30 = .ok (.if_icmp .ne 7, 3) := dk_160 0 7 (dk_at dksX0_word_1 8 rfl rfl)
theorem dX0_word_33 : decode cX0_word 33 = .ok (.iconst (-1), 1) := dk_2 (dk_at dksX0_word_1 11 rfl rfl)
theorem dX0_word_34 : decode cX0_word 34 = .ok (.goto 12, 3) := dk_167 0 12 (dk_at dksX0_word_1 12 rfl rfl)
theorem dX0_word_37 : decode cX0_word 37 = .ok (.aload_n 0, 1) := dk_42 (dk_at dksX0_word_1 15 rfl rfl)
theorem dX0_word_38 : decode cX0_word 38 = .ok (.getfield 46, 3) := dk_180 0 46 (dk_at dksX0_word_1 16 rfl rfl)
theorem dX0_word_41 : decode cX0_word 41 = .ok (.iload_n 1, 1) := dk_27 (dk_at dksX0_word_1 19 rfl rfl)
theorem dX0_word_42 : decode cX0_word 42 = .ok (.iaload, 1) := dk_46 (dk_at dksX0_word_1 20 rfl rfl)
theorem dX0_word_43 : decode cX0_word 43 = .ok (.bipush 10, 2) := dk_16 10 (dk_at dksX0_word_1 21 rfl rfl)
theorem dX0_word_45 : decode cX0_word 45 = .ok (.idiv, 1) := dk_108 (dk_at dksX0_word_1 23 rfl rfl)
theorem dX0_word_46 : decode cX0_word 46 = .ok (.ireturn, 1) := dk_172 (dk_at dksX0_word_2 0 rfl rfl)
abbrev cX0_laysFar : ByteArray := prog_1_method_59_code
def yX0_laysFar : MethodName := ⟨RX0, "laysFar", "(I)V"⟩
def dkwX0_laysFar_2 : List UInt8 := [182, 1, 68, 128, 61, 132, 4, 1, 167, 255, 236, 132, 3, 1, 167, 255, 221, 167, 255, 210, 177]
abbrev dktX0_laysFar_2 : List UInt8 := dkwX0_laysFar_2 ++ []
def dkwX0_laysFar_1 : List UInt8 := [61, 3, 62, 29, 16, 6, 162, 0, 35, 3, 54, 4, 21, 4, 16, 6, 162, 0, 19, 28, 42, 29, 21, 4]
abbrev dktX0_laysFar_1 : List UInt8 := dkwX0_laysFar_1 ++ dktX0_laysFar_2
def dkwX0_laysFar_0 : List UInt8 := [42, 180, 0, 46, 19, 1, 62, 184, 1, 63, 42, 180, 0, 46, 27, 3, 79, 4, 61, 28, 153, 0, 48, 3]
abbrev dktX0_laysFar_0 : List UInt8 := dkwX0_laysFar_0 ++ dktX0_laysFar_1
theorem dksX0_laysFar_0 : cX0_laysFar.data.toList.drop 0 = dktX0_laysFar_0 := by decide +kernel
theorem dksX0_laysFar_1 : cX0_laysFar.data.toList.drop 24 = dktX0_laysFar_1 := dk_seg dksX0_laysFar_0 24 rfl rfl
theorem dksX0_laysFar_2 : cX0_laysFar.data.toList.drop 48 = dktX0_laysFar_2 := dk_seg dksX0_laysFar_1 24 rfl rfl
theorem dX0_laysFar_0 : decode cX0_laysFar 0 = .ok (.aload_n 0, 1) := dk_42 (dk_at dksX0_laysFar_0 0 rfl rfl)
theorem dX0_laysFar_1 : decode cX0_laysFar 1 = .ok (.getfield 46, 3) := dk_180 0 46 (dk_at dksX0_laysFar_0 1 rfl rfl)
theorem dX0_laysFar_4 : decode cX0_laysFar 4 = .ok (.ldc_w 318, 3) := dk_19 1 62 (dk_at dksX0_laysFar_0 4 rfl rfl)
theorem dX0_laysFar_7 : decode cX0_laysFar 7 = .ok (.invokestatic 319, 3) := dk_184 1 63 (dk_at dksX0_laysFar_0 7 rfl rfl)
theorem dX0_laysFar_10 : decode cX0_laysFar 10 = .ok (.aload_n 0, 1) := dk_42 (dk_at dksX0_laysFar_0 10 rfl rfl)
theorem dX0_laysFar_11 : decode cX0_laysFar 11 = .ok (.getfield 46, 3) := dk_180 0 46 (dk_at dksX0_laysFar_0 11 rfl rfl)
theorem dX0_laysFar_14 : decode cX0_laysFar 14 = .ok (.iload_n 1, 1) := dk_27 (dk_at dksX0_laysFar_0 14 rfl rfl)
theorem dX0_laysFar_15 : decode cX0_laysFar 15 = .ok (.iconst 0, 1) := dk_3 (dk_at dksX0_laysFar_0 15 rfl rfl)
theorem dX0_laysFar_16 : decode cX0_laysFar 16 = .ok (.iastore, 1) := dk_79 (dk_at dksX0_laysFar_0 16 rfl rfl)
theorem dX0_laysFar_17 : decode cX0_laysFar 17 = .ok (.iconst 1, 1) := dk_4 (dk_at dksX0_laysFar_0 17 rfl rfl)
theorem dX0_laysFar_18 : decode cX0_laysFar 18 = .ok (.istore_n 2, 1) := dk_61 (dk_at dksX0_laysFar_0 18 rfl rfl)
theorem dX0_laysFar_19 : decode cX0_laysFar 19 = .ok (.iload_n 2, 1) := dk_28 (dk_at dksX0_laysFar_0 19 rfl rfl)
theorem dX0_laysFar_20 : decode cX0_laysFar 20 = .ok (.ifCond .eq 48, 3) := dk_153 0 48 (dk_at dksX0_laysFar_0 20 rfl rfl)
theorem dX0_laysFar_23 : decode cX0_laysFar 23 = .ok (.iconst 0, 1) := dk_3 (dk_at dksX0_laysFar_0 23 rfl rfl)
theorem dX0_laysFar_24 : decode cX0_laysFar 24 = .ok (.istore_n 2, 1) := dk_61 (dk_at dksX0_laysFar_1 0 rfl rfl)
theorem dX0_laysFar_25 : decode cX0_laysFar 25 = .ok (.iconst 0, 1) := dk_3 (dk_at dksX0_laysFar_1 1 rfl rfl)
theorem dX0_laysFar_26 : decode cX0_laysFar 26 = .ok (.istore_n 3, 1) := dk_62 (dk_at dksX0_laysFar_1 2 rfl rfl)
theorem dX0_laysFar_27 : decode cX0_laysFar 27 = .ok (.iload_n 3, 1) := dk_29 (dk_at dksX0_laysFar_1 3 rfl rfl)
theorem dX0_laysFar_28 : decode cX0_laysFar 28 = .ok (.bipush 6, 2) := dk_16 6 (dk_at dksX0_laysFar_1 4 rfl rfl)
theorem dX0_laysFar_30 : decode cX0_laysFar 30 = .ok (.if_icmp .ge 35, 3) := dk_162 0 35 (dk_at dksX0_laysFar_1 6 rfl rfl)
theorem dX0_laysFar_33 : decode cX0_laysFar 33 = .ok (.iconst 0, 1) := dk_3 (dk_at dksX0_laysFar_1 9 rfl rfl)
theorem dX0_laysFar_34 : decode cX0_laysFar 34 = .ok (.istore 4, 2) := dk_54 4 (dk_at dksX0_laysFar_1 10 rfl rfl)
theorem dX0_laysFar_36 : decode cX0_laysFar 36 = .ok (.iload 4, 2) := dk_21 4 (dk_at dksX0_laysFar_1 12 rfl rfl)
theorem dX0_laysFar_38 : decode cX0_laysFar 38 = .ok (.bipush 6, 2) := dk_16 6 (dk_at dksX0_laysFar_1 14 rfl rfl)
theorem dX0_laysFar_40 : decode cX0_laysFar 40 = .ok (.if_icmp .ge 19, 3) := dk_162 0 19 (dk_at dksX0_laysFar_1 16 rfl rfl)
theorem dX0_laysFar_43 : decode cX0_laysFar 43 = .ok (.iload_n 2, 1) := dk_28 (dk_at dksX0_laysFar_1 19 rfl rfl)
theorem dX0_laysFar_44 : decode cX0_laysFar 44 = .ok (.aload_n 0, 1) := dk_42 (dk_at dksX0_laysFar_1 20 rfl rfl)
theorem dX0_laysFar_45 : decode cX0_laysFar 45 = .ok (.iload_n 3, 1) := dk_29 (dk_at dksX0_laysFar_1 21 rfl rfl)
theorem dX0_laysFar_46 : decode cX0_laysFar 46 = .ok (.iload 4, 2) := dk_21 4 (dk_at dksX0_laysFar_1 22 rfl rfl)
theorem dX0_laysFar_48 : decode cX0_laysFar 48 = .ok (.invokevirtual 324, 3) := dk_182 1 68 (dk_at dksX0_laysFar_2 0 rfl rfl)
theorem dX0_laysFar_51 : decode cX0_laysFar 51 = .ok (.ior, 1) := dk_128 (dk_at dksX0_laysFar_2 3 rfl rfl)
theorem dX0_laysFar_52 : decode cX0_laysFar 52 = .ok (.istore_n 2, 1) := dk_61 (dk_at dksX0_laysFar_2 4 rfl rfl)
theorem dX0_laysFar_53 : decode cX0_laysFar 53 = .ok (.iinc 4 1, 3) := dk_132 4 1 (dk_at dksX0_laysFar_2 5 rfl rfl)
theorem dX0_laysFar_56 : decode cX0_laysFar 56 = .ok (.goto (-20), 3) := dk_167 255 236 (dk_at dksX0_laysFar_2 8 rfl rfl)
theorem dX0_laysFar_59 : decode cX0_laysFar 59 = .ok (.iinc 3 1, 3) := dk_132 3 1 (dk_at dksX0_laysFar_2 11 rfl rfl)
theorem dX0_laysFar_62 : decode cX0_laysFar 62 = .ok (.goto (-35), 3) := dk_167 255 221 (dk_at dksX0_laysFar_2 14 rfl rfl)
theorem dX0_laysFar_65 : decode cX0_laysFar 65 = .ok (.goto (-46), 3) := dk_167 255 210 (dk_at dksX0_laysFar_2 17 rfl rfl)
theorem dX0_laysFar_68 : decode cX0_laysFar 68 = .ok (.return_, 1) := dk_177 (dk_at dksX0_laysFar_2 20 rfl rfl)
abbrev cX0_isNearer : ByteArray := prog_1_method_58_code
def yX0_isNearer : MethodName := ⟨RX0, "isNearer", "(II)Z"⟩
def dkwX0_isNearer_3 : List UInt8 := [29, 104, 96, 4, 96, 79, 4, 172]
abbrev dktX0_isNearer_3 : List UInt8 := dkwX0_isNearer_3 ++ []
def dkwX0_isNearer_2 : List UInt8 := [42, 180, 0, 46, 27, 46, 161, 0, 5, 3, 172, 42, 180, 0, 46, 27, 42, 180, 0, 46, 28, 46, 16, 10]
abbrev dktX0_isNearer_2 : List UInt8 := dkwX0_isNearer_2 ++ dktX0_isNearer_3
def dkwX0_isNearer_1 : List UInt8 := [180, 0, 46, 28, 46, 19, 1, 62, 159, 0, 25, 42, 180, 0, 46, 28, 46, 16, 10, 29, 104, 96, 4, 96]
abbrev dktX0_isNearer_1 : List UInt8 := dkwX0_isNearer_1 ++ dktX0_isNearer_2
def dkwX0_isNearer_0 : List UInt8 := [27, 28, 160, 0, 7, 2, 167, 0, 9, 42, 27, 28, 182, 1, 53, 62, 29, 2, 159, 0, 37, 42]
abbrev dktX0_isNearer_0 : List UInt8 := dkwX0_isNearer_0 ++ dktX0_isNearer_1
theorem dksX0_isNearer_0 : cX0_isNearer.data.toList.drop 0 = dktX0_isNearer_0 := by decide +kernel
theorem dksX0_isNearer_1 : cX0_isNearer.data.toList.drop 22 = dktX0_isNearer_1 := dk_seg dksX0_isNearer_0 22 rfl rfl
theorem dksX0_isNearer_2 : cX0_isNearer.data.toList.drop 46 = dktX0_isNearer_2 := dk_seg dksX0_isNearer_1 24 rfl rfl
theorem dksX0_isNearer_3 : cX0_isNearer.data.toList.drop 70 = dktX0_isNearer_3 := dk_seg dksX0_isNearer_2 24 rfl rfl
theorem dX0_isNearer_0 : decode cX0_isNearer 0 = .ok (.iload_n 1, 1) := dk_27 (dk_at dksX0_isNearer_0 0 rfl rfl)
theorem dX0_isNearer_1 : decode cX0_isNearer 1 = .ok (.iload_n 2, 1) := dk_28 (dk_at dksX0_isNearer_0 1 rfl rfl)
theorem dX0_isNearer_2 : decode cX0_isNearer 2 = .ok (.if_icmp .ne 7, 3) := dk_160 0 7 (dk_at dksX0_isNearer_0 2 rfl rfl)
theorem dX0_isNearer_5 : decode cX0_isNearer 5 = .ok (.iconst (-1), 1) := dk_2 (dk_at dksX0_isNearer_0 5 rfl rfl)
theorem dX0_isNearer_6 : decode cX0_isNearer 6 = .ok (.goto 9, 3) := dk_167 0 9 (dk_at dksX0_isNearer_0 6 rfl rfl)
theorem dX0_isNearer_9 : decode cX0_isNearer 9 = .ok (.aload_n 0, 1) := dk_42 (dk_at dksX0_isNearer_0 9 rfl rfl)
theorem dX0_isNearer_10 : decode cX0_isNearer 10 = .ok (.iload_n 1, 1) := dk_27 (dk_at dksX0_isNearer_0 10 rfl rfl)
theorem dX0_isNearer_11 : decode cX0_isNearer 11 = .ok (.iload_n 2, 1) := dk_28 (dk_at dksX0_isNearer_0 11 rfl rfl)
theorem dX0_isNearer_12 : decode cX0_isNearer 12 = .ok (.invokevirtual 309, 3) := dk_182 1 53 (dk_at dksX0_isNearer_0 12 rfl rfl)
theorem dX0_isNearer_15 : decode cX0_isNearer 15 = .ok (.istore_n 3, 1) := dk_62 (dk_at dksX0_isNearer_0 15 rfl rfl)
theorem dX0_isNearer_16 : decode cX0_isNearer 16 = .ok (.iload_n 3, 1) := dk_29 (dk_at dksX0_isNearer_0 16 rfl rfl)
theorem dX0_isNearer_17 : decode cX0_isNearer 17 = .ok (.iconst (-1), 1) := dk_2 (dk_at dksX0_isNearer_0 17 rfl rfl)
theorem dX0_isNearer_18 : decode cX0_isNearer 18 = .ok (.if_icmp .eq 37, 3) := dk_159 0 37 (dk_at dksX0_isNearer_0 18 rfl rfl)
theorem dX0_isNearer_21 : decode cX0_isNearer 21 = .ok (.aload_n 0, 1) := dk_42 (dk_at dksX0_isNearer_0 21 rfl rfl)
theorem dX0_isNearer_22 : decode cX0_isNearer 22 = .ok (.getfield 46, 3) := dk_180 0 46 (dk_at dksX0_isNearer_1 0 rfl rfl)
theorem dX0_isNearer_25 : decode cX0_isNearer 25 = .ok (.iload_n 2, 1) := dk_28 (dk_at dksX0_isNearer_1 3 rfl rfl)
theorem dX0_isNearer_26 : decode cX0_isNearer 26 = .ok (.iaload, 1) := dk_46 (dk_at dksX0_isNearer_1 4 rfl rfl)
theorem dX0_isNearer_27 : decode cX0_isNearer 27 = .ok (.ldc_w 318, 3) := dk_19 1 62 (dk_at dksX0_isNearer_1 5 rfl rfl)
theorem dX0_isNearer_30 : decode cX0_isNearer 30 = .ok (.if_icmp .eq 25, 3) := dk_159 0 25 (dk_at dksX0_isNearer_1 8 rfl rfl)
theorem dX0_isNearer_33 : decode cX0_isNearer 33 = .ok (.aload_n 0, 1) := dk_42 (dk_at dksX0_isNearer_1 11 rfl rfl)
theorem dX0_isNearer_34 : decode cX0_isNearer 34 = .ok (.getfield 46, 3) := dk_180 0 46 (dk_at dksX0_isNearer_1 12 rfl rfl)
theorem dX0_isNearer_37 : decode cX0_isNearer 37 = .ok (.iload_n 2, 1) := dk_28 (dk_at dksX0_isNearer_1 15 rfl rfl)
theorem dX0_isNearer_38 : decode cX0_isNearer 38 = .ok (.iaload, 1) := dk_46 (dk_at dksX0_isNearer_1 16 rfl rfl)
theorem dX0_isNearer_39 : decode cX0_isNearer 39 = .ok (.bipush 10, 2) := dk_16 10 (dk_at dksX0_isNearer_1 17 rfl rfl)
theorem dX0_isNearer_41 : decode cX0_isNearer 41 = .ok (.iload_n 3, 1) := dk_29 (dk_at dksX0_isNearer_1 19 rfl rfl)
theorem dX0_isNearer_42 : decode cX0_isNearer 42 = .ok (.imul, 1) := dk_104 (dk_at dksX0_isNearer_1 20 rfl rfl)
theorem dX0_isNearer_43 : decode cX0_isNearer 43 = .ok (.iadd, 1) := dk_96 (dk_at dksX0_isNearer_1 21 rfl rfl)
theorem dX0_isNearer_44 : decode cX0_isNearer 44 = .ok (.iconst 1, 1) := dk_4 (dk_at dksX0_isNearer_1 22 rfl rfl)
theorem dX0_isNearer_45 : decode cX0_isNearer 45 = .ok (.iadd, 1) := dk_96 (dk_at dksX0_isNearer_1 23 rfl rfl)
theorem dX0_isNearer_46 : decode cX0_isNearer 46 = .ok (.aload_n 0, 1) := dk_42 (dk_at dksX0_isNearer_2 0 rfl rfl)
theorem dX0_isNearer_47 : decode cX0_isNearer 47 = .ok (.getfield 46, 3) := dk_180 0 46 (dk_at dksX0_isNearer_2 1 rfl rfl)
theorem dX0_isNearer_50 : decode cX0_isNearer 50 = .ok (.iload_n 1, 1) := dk_27 (dk_at dksX0_isNearer_2 4 rfl rfl)
theorem dX0_isNearer_51 : decode cX0_isNearer 51 = .ok (.iaload, 1) := dk_46 (dk_at dksX0_isNearer_2 5 rfl rfl)
theorem dX0_isNearer_52 : decode cX0_isNearer 52 = .ok (.if_icmp .lt 5, 3) := dk_161 0 5 (dk_at dksX0_isNearer_2 6 rfl rfl)
theorem dX0_isNearer_55 : decode cX0_isNearer 55 = .ok (.iconst 0, 1) := dk_3 (dk_at dksX0_isNearer_2 9 rfl rfl)
theorem dX0_isNearer_56 : decode cX0_isNearer 56 = .ok (.ireturn, 1) := dk_172 (dk_at dksX0_isNearer_2 10 rfl rfl)
theorem dX0_isNearer_57 : decode cX0_isNearer 57 = .ok (.aload_n 0, 1) := dk_42 (dk_at dksX0_isNearer_2 11 rfl rfl)
theorem dX0_isNearer_58 : decode cX0_isNearer 58 = .ok (.getfield 46, 3) := dk_180 0 46 (dk_at dksX0_isNearer_2 12 rfl rfl)
theorem dX0_isNearer_61 : decode cX0_isNearer 61 = .ok (.iload_n 1, 1) := dk_27 (dk_at dksX0_isNearer_2 15 rfl rfl)
theorem dX0_isNearer_62 : decode cX0_isNearer 62 = .ok (.aload_n 0, 1) := dk_42 (dk_at dksX0_isNearer_2 16 rfl rfl)
theorem dX0_isNearer_63 : decode cX0_isNearer 63 = .ok (.getfield 46, 3) := dk_180 0 46 (dk_at dksX0_isNearer_2 17 rfl rfl)
theorem dX0_isNearer_66 : decode cX0_isNearer 66 = .ok (.iload_n 2, 1) := dk_28 (dk_at dksX0_isNearer_2 20 rfl rfl)
theorem dX0_isNearer_67 : decode cX0_isNearer 67 = .ok (.iaload, 1) := dk_46 (dk_at dksX0_isNearer_2 21 rfl rfl)
theorem dX0_isNearer_68 : decode cX0_isNearer 68 = .ok (.bipush 10, 2) := dk_16 10 (dk_at dksX0_isNearer_2 22 rfl rfl)
theorem dX0_isNearer_70 : decode cX0_isNearer 70 = .ok (.iload_n 3, 1) := dk_29 (dk_at dksX0_isNearer_3 0 rfl rfl)
theorem dX0_isNearer_71 : decode cX0_isNearer 71 = .ok (.imul, 1) := dk_104 (dk_at dksX0_isNearer_3 1 rfl rfl)
theorem dX0_isNearer_72 : decode cX0_isNearer 72 = .ok (.iadd, 1) := dk_96 (dk_at dksX0_isNearer_3 2 rfl rfl)
theorem dX0_isNearer_73 : decode cX0_isNearer 73 = .ok (.iconst 1, 1) := dk_4 (dk_at dksX0_isNearer_3 3 rfl rfl)
theorem dX0_isNearer_74 : decode cX0_isNearer 74 = .ok (.iadd, 1) := dk_96 (dk_at dksX0_isNearer_3 4 rfl rfl)
theorem dX0_isNearer_75 : decode cX0_isNearer 75 = .ok (.iastore, 1) := dk_79 (dk_at dksX0_isNearer_3 5 rfl rfl)
theorem dX0_isNearer_76 : decode cX0_isNearer 76 = .ok (.iconst 1, 1) := dk_4 (dk_at dksX0_isNearer_3 6 rfl rfl)
theorem dX0_isNearer_77 : decode cX0_isNearer 77 = .ok (.ireturn, 1) := dk_172 (dk_at dksX0_isNearer_3 7 rfl rfl)
abbrev cX0_way : ByteArray := prog_1_method_61_code
def yX0_way : MethodName := ⟨RX0, "way", "(III)I"⟩
def dkwX0_way_6 : List UInt8 := [42, 180, 0, 46, 27, 46, 16, 10, 112, 4, 96, 167, 0, 5, 21, 4, 172]
abbrev dktX0_way_6 : List UInt8 := dkwX0_way_6 ++ []
def dkwX0_way_5 : List UInt8 := [159, 0, 9, 132, 6, 1, 167, 255, 203, 21, 6, 54, 4, 132, 5, 1, 167, 255, 184, 29, 2, 160, 0, 17]
abbrev dktX0_way_5 : List UInt8 := dkwX0_way_5 ++ dktX0_way_6
def dkwX0_way_4 : List UInt8 := [21, 6, 46, 16, 10, 42, 21, 4, 21, 6, 182, 1, 53, 104, 96, 4, 96, 42, 180, 0, 46, 21, 4, 46]
abbrev dktX0_way_4 : List UInt8 := dkwX0_way_4 ++ dktX0_way_5
def dkwX0_way_3 : List UInt8 := [21, 6, 21, 4, 159, 0, 46, 42, 21, 4, 21, 6, 182, 1, 53, 2, 159, 0, 34, 42, 180, 0, 46]
abbrev dktX0_way_3 : List UInt8 := dkwX0_way_3 ++ dktX0_way_4
def dkwX0_way_2 : List UInt8 := [184, 0, 77, 154, 0, 6, 16, 254, 172, 27, 54, 4, 3, 54, 5, 21, 5, 29, 162, 0, 72, 3, 54, 6]
abbrev dktX0_way_2 : List UInt8 := dkwX0_way_2 ++ dktX0_way_3
def dkwX0_way_1 : List UInt8 := [180, 0, 46, 27, 46, 19, 1, 62, 159, 0, 20, 29, 2, 42, 180, 0, 46, 27, 46, 16, 10, 112]
abbrev dktX0_way_1 : List UInt8 := dkwX0_way_1 ++ dktX0_way_2
def dkwX0_way_0 : List UInt8 := [27, 184, 0, 81, 153, 0, 10, 28, 184, 0, 81, 154, 0, 6, 16, 254, 172, 42, 28, 182, 1, 71, 42]
abbrev dktX0_way_0 : List UInt8 := dkwX0_way_0 ++ dktX0_way_1
theorem dksX0_way_0 : cX0_way.data.toList.drop 0 = dktX0_way_0 := by decide +kernel
theorem dksX0_way_1 : cX0_way.data.toList.drop 23 = dktX0_way_1 := dk_seg dksX0_way_0 23 rfl rfl
theorem dksX0_way_2 : cX0_way.data.toList.drop 45 = dktX0_way_2 := dk_seg dksX0_way_1 22 rfl rfl
theorem dksX0_way_3 : cX0_way.data.toList.drop 69 = dktX0_way_3 := dk_seg dksX0_way_2 24 rfl rfl
theorem dksX0_way_4 : cX0_way.data.toList.drop 92 = dktX0_way_4 := dk_seg dksX0_way_3 23 rfl rfl
theorem dksX0_way_5 : cX0_way.data.toList.drop 116 = dktX0_way_5 := dk_seg dksX0_way_4 24 rfl rfl
theorem dksX0_way_6 : cX0_way.data.toList.drop 140 = dktX0_way_6 := dk_seg dksX0_way_5 24 rfl rfl
theorem dX0_way_0 : decode cX0_way 0 = .ok (.iload_n 1, 1) := dk_27 (dk_at dksX0_way_0 0 rfl rfl)
theorem dX0_way_1 : decode cX0_way 1 = .ok (.invokestatic 81, 3) := dk_184 0 81 (dk_at dksX0_way_0 1 rfl rfl)
theorem dX0_way_4 : decode cX0_way 4 = .ok (.ifCond .eq 10, 3) := dk_153 0 10 (dk_at dksX0_way_0 4 rfl rfl)
theorem dX0_way_7 : decode cX0_way 7 = .ok (.iload_n 2, 1) := dk_28 (dk_at dksX0_way_0 7 rfl rfl)
theorem dX0_way_8 : decode cX0_way 8 = .ok (.invokestatic 81, 3) := dk_184 0 81 (dk_at dksX0_way_0 8 rfl rfl)
theorem dX0_way_11 : decode cX0_way 11 = .ok (.ifCond .ne 6, 3) := dk_154 0 6 (dk_at dksX0_way_0 11 rfl rfl)
theorem dX0_way_14 : decode cX0_way 14 = .ok (.bipush (-2), 2) := dk_16 254 (dk_at dksX0_way_0 14 rfl rfl)
theorem dX0_way_16 : decode cX0_way 16 = .ok (.ireturn, 1) := dk_172 (dk_at dksX0_way_0 16 rfl rfl)
theorem dX0_way_17 : decode cX0_way 17 = .ok (.aload_n 0, 1) := dk_42 (dk_at dksX0_way_0 17 rfl rfl)
theorem dX0_way_18 : decode cX0_way 18 = .ok (.iload_n 2, 1) := dk_28 (dk_at dksX0_way_0 18 rfl rfl)
theorem dX0_way_19 : decode cX0_way 19 = .ok (.invokevirtual 327, 3) := dk_182 1 71 (dk_at dksX0_way_0 19 rfl rfl)
theorem dX0_way_22 : decode cX0_way 22 = .ok (.aload_n 0, 1) := dk_42 (dk_at dksX0_way_0 22 rfl rfl)
theorem dX0_way_23 : decode cX0_way 23 = .ok (.getfield 46, 3) := dk_180 0 46 (dk_at dksX0_way_1 0 rfl rfl)
theorem dX0_way_26 : decode cX0_way 26 = .ok (.iload_n 1, 1) := dk_27 (dk_at dksX0_way_1 3 rfl rfl)
theorem dX0_way_27 : decode cX0_way 27 = .ok (.iaload, 1) := dk_46 (dk_at dksX0_way_1 4 rfl rfl)
theorem dX0_way_28 : decode cX0_way 28 = .ok (.ldc_w 318, 3) := dk_19 1 62 (dk_at dksX0_way_1 5 rfl rfl)
theorem dX0_way_31 : decode cX0_way 31 = .ok (.if_icmp .eq 20, 3) := dk_159 0 20 (dk_at dksX0_way_1 8 rfl rfl)
theorem dX0_way_34 : decode cX0_way 34 = .ok (.iload_n 3, 1) := dk_29 (dk_at dksX0_way_1 11 rfl rfl)
theorem dX0_way_35 : decode cX0_way 35 = .ok (.iconst (-1), 1) := dk_2 (dk_at dksX0_way_1 12 rfl rfl)
theorem dX0_way_36 : decode cX0_way 36 = .ok (.aload_n 0, 1) := dk_42 (dk_at dksX0_way_1 13 rfl rfl)
theorem dX0_way_37 : decode cX0_way 37 = .ok (.getfield 46, 3) := dk_180 0 46 (dk_at dksX0_way_1 14 rfl rfl)
theorem dX0_way_40 : decode cX0_way 40 = .ok (.iload_n 1, 1) := dk_27 (dk_at dksX0_way_1 17 rfl rfl)
theorem dX0_way_41 : decode cX0_way 41 = .ok (.iaload, 1) := dk_46 (dk_at dksX0_way_1 18 rfl rfl)
theorem dX0_way_42 : decode cX0_way 42 = .ok (.bipush 10, 2) := dk_16 10 (dk_at dksX0_way_1 19 rfl rfl)
theorem dX0_way_44 : decode cX0_way 44 = .ok (.irem, 1) := dk_112 (dk_at dksX0_way_1 21 rfl rfl)
theorem dX0_way_45 : decode cX0_way 45 = .ok (.invokestatic 77, 3) := dk_184 0 77 (dk_at dksX0_way_2 0 rfl rfl)
theorem dX0_way_48 : decode cX0_way 48 = .ok (.ifCond .ne 6, 3) := dk_154 0 6 (dk_at dksX0_way_2 3 rfl rfl)
theorem dX0_way_51 : decode cX0_way 51 = .ok (.bipush (-2), 2) := dk_16 254 (dk_at dksX0_way_2 6 rfl rfl)
theorem dX0_way_53 : decode cX0_way 53 = .ok (.ireturn, 1) := dk_172 (dk_at dksX0_way_2 8 rfl rfl)
theorem dX0_way_54 : decode cX0_way 54 = .ok (.iload_n 1, 1) := dk_27 (dk_at dksX0_way_2 9 rfl rfl)
theorem dX0_way_55 : decode cX0_way 55 = .ok (.istore 4, 2) := dk_54 4 (dk_at dksX0_way_2 10 rfl rfl)
theorem dX0_way_57 : decode cX0_way 57 = .ok (.iconst 0, 1) := dk_3 (dk_at dksX0_way_2 12 rfl rfl)
theorem dX0_way_58 : decode cX0_way 58 = .ok (.istore 5, 2) := dk_54 5 (dk_at dksX0_way_2 13 rfl rfl)
theorem dX0_way_60 : decode cX0_way 60 = .ok (.iload 5, 2) := dk_21 5 (dk_at dksX0_way_2 15 rfl rfl)
theorem dX0_way_62 : decode cX0_way 62 = .ok (.iload_n 3, 1) := dk_29 (dk_at dksX0_way_2 17 rfl rfl)
theorem dX0_way_63 : decode cX0_way 63 = .ok (.if_icmp .ge 72, 3) := dk_162 0 72 (dk_at dksX0_way_2 18 rfl rfl)
theorem dX0_way_66 : decode cX0_way 66 = .ok (.iconst 0, 1) := dk_3 (dk_at dksX0_way_2 21 rfl rfl)
theorem dX0_way_67 : decode cX0_way 67 = .ok (.istore 6, 2) := dk_54 6 (dk_at dksX0_way_2 22 rfl rfl)
theorem dX0_way_69 : decode cX0_way 69 = .ok (.iload 6, 2) := dk_21 6 (dk_at dksX0_way_3 0 rfl rfl)
theorem dX0_way_71 : decode cX0_way 71 = .ok (.iload 4, 2) := dk_21 4 (dk_at dksX0_way_3 2 rfl rfl)
theorem dX0_way_73 : decode cX0_way 73 = .ok (.if_icmp .eq 46, 3) := dk_159 0 46 (dk_at dksX0_way_3 4 rfl rfl)
theorem dX0_way_76 : decode cX0_way 76 = .ok (.aload_n 0, 1) := dk_42 (dk_at dksX0_way_3 7 rfl rfl)
theorem dX0_way_77 : decode cX0_way 77 = .ok (.iload 4, 2) := dk_21 4 (dk_at dksX0_way_3 8 rfl rfl)
theorem dX0_way_79 : decode cX0_way 79 = .ok (.iload 6, 2) := dk_21 6 (dk_at dksX0_way_3 10 rfl rfl)
theorem dX0_way_81 : decode cX0_way 81 = .ok (.invokevirtual 309, 3) := dk_182 1 53 (dk_at dksX0_way_3 12 rfl rfl)
theorem dX0_way_84 : decode cX0_way 84 = .ok (.iconst (-1), 1) := dk_2 (dk_at dksX0_way_3 15 rfl rfl)
theorem dX0_way_85 : decode cX0_way 85 = .ok (.if_icmp .eq 34, 3) := dk_159 0 34 (dk_at dksX0_way_3 16 rfl rfl)
theorem dX0_way_88 : decode cX0_way 88 = .ok (.aload_n 0, 1) := dk_42 (dk_at dksX0_way_3 19 rfl rfl)
theorem dX0_way_89 : decode cX0_way 89 = .ok (.getfield 46, 3) := dk_180 0 46 (dk_at dksX0_way_3 20 rfl rfl)
theorem dX0_way_92 : decode cX0_way 92 = .ok (.iload 6, 2) := dk_21 6 (dk_at dksX0_way_4 0 rfl rfl)
theorem dX0_way_94 : decode cX0_way 94 = .ok (.iaload, 1) := dk_46 (dk_at dksX0_way_4 2 rfl rfl)
theorem dX0_way_95 : decode cX0_way 95 = .ok (.bipush 10, 2) := dk_16 10 (dk_at dksX0_way_4 3 rfl rfl)
theorem dX0_way_97 : decode cX0_way 97 = .ok (.aload_n 0, 1) := dk_42 (dk_at dksX0_way_4 5 rfl rfl)
theorem dX0_way_98 : decode cX0_way 98 = .ok (.iload 4, 2) := dk_21 4 (dk_at dksX0_way_4 6 rfl rfl)
theorem dX0_way_100 : decode cX0_way 100 = .ok (.iload 6, 2) := dk_21 6 (dk_at dksX0_way_4 8 rfl rfl)
theorem dX0_way_102 : decode cX0_way 102 = .ok (.invokevirtual 309, 3) := dk_182 1 53 (dk_at dksX0_way_4 10 rfl rfl)
theorem dX0_way_105 : decode cX0_way 105 = .ok (.imul, 1) := dk_104 (dk_at dksX0_way_4 13 rfl rfl)
theorem dX0_way_106 : decode cX0_way 106 = .ok (.iadd, 1) := dk_96 (dk_at dksX0_way_4 14 rfl rfl)
theorem dX0_way_107 : decode cX0_way 107 = .ok (.iconst 1, 1) := dk_4 (dk_at dksX0_way_4 15 rfl rfl)
theorem dX0_way_108 : decode cX0_way 108 = .ok (.iadd, 1) := dk_96 (dk_at dksX0_way_4 16 rfl rfl)
theorem dX0_way_109 : decode cX0_way 109 = .ok (.aload_n 0, 1) := dk_42 (dk_at dksX0_way_4 17 rfl rfl)
theorem dX0_way_110 : decode cX0_way 110 = .ok (.getfield 46, 3) := dk_180 0 46 (dk_at dksX0_way_4 18 rfl rfl)
theorem dX0_way_113 : decode cX0_way 113 = .ok (.iload 4, 2) := dk_21 4 (dk_at dksX0_way_4 21 rfl rfl)
theorem dX0_way_115 : decode cX0_way 115 = .ok (.iaload, 1) := dk_46 (dk_at dksX0_way_4 23 rfl rfl)
theorem dX0_way_116 : decode cX0_way 116 = .ok (.if_icmp .eq 9, 3) := dk_159 0 9 (dk_at dksX0_way_5 0 rfl rfl)
theorem dX0_way_119 : decode cX0_way 119 = .ok (.iinc 6 1, 3) := dk_132 6 1 (dk_at dksX0_way_5 3 rfl rfl)
theorem dX0_way_122 : decode cX0_way 122 = .ok (.goto (-53), 3) := dk_167 255 203 (dk_at dksX0_way_5 6 rfl rfl)
theorem dX0_way_125 : decode cX0_way 125 = .ok (.iload 6, 2) := dk_21 6 (dk_at dksX0_way_5 9 rfl rfl)
theorem dX0_way_127 : decode cX0_way 127 = .ok (.istore 4, 2) := dk_54 4 (dk_at dksX0_way_5 11 rfl rfl)
theorem dX0_way_129 : decode cX0_way 129 = .ok (.iinc 5 1, 3) := dk_132 5 1 (dk_at dksX0_way_5 13 rfl rfl)
theorem dX0_way_132 : decode cX0_way 132 = .ok (.goto (-72), 3) := dk_167 255 184 (dk_at dksX0_way_5 16 rfl rfl)
theorem dX0_way_135 : decode cX0_way 135 = .ok (.iload_n 3, 1) := dk_29 (dk_at dksX0_way_5 19 rfl rfl)
theorem dX0_way_136 : decode cX0_way 136 = .ok (.iconst (-1), 1) := dk_2 (dk_at dksX0_way_5 20 rfl rfl)
theorem dX0_way_137 : decode cX0_way 137 = .ok (.if_icmp .ne 17, 3) := dk_160 0 17 (dk_at dksX0_way_5 21 rfl rfl)
theorem dX0_way_140 : decode cX0_way 140 = .ok (.aload_n 0, 1) := dk_42 (dk_at dksX0_way_6 0 rfl rfl)
theorem dX0_way_141 : decode cX0_way 141 = .ok (.getfield 46, 3) := dk_180 0 46 (dk_at dksX0_way_6 1 rfl rfl)
theorem dX0_way_144 : decode cX0_way 144 = .ok (.iload_n 1, 1) := dk_27 (dk_at dksX0_way_6 4 rfl rfl)
theorem dX0_way_145 : decode cX0_way 145 = .ok (.iaload, 1) := dk_46 (dk_at dksX0_way_6 5 rfl rfl)
theorem dX0_way_146 : decode cX0_way 146 = .ok (.bipush 10, 2) := dk_16 10 (dk_at dksX0_way_6 6 rfl rfl)
theorem dX0_way_148 : decode cX0_way 148 = .ok (.irem, 1) := dk_112 (dk_at dksX0_way_6 8 rfl rfl)
theorem dX0_way_149 : decode cX0_way 149 = .ok (.iconst 1, 1) := dk_4 (dk_at dksX0_way_6 9 rfl rfl)
theorem dX0_way_150 : decode cX0_way 150 = .ok (.iadd, 1) := dk_96 (dk_at dksX0_way_6 10 rfl rfl)
theorem dX0_way_151 : decode cX0_way 151 = .ok (.goto 5, 3) := dk_167 0 5 (dk_at dksX0_way_6 11 rfl rfl)
theorem dX0_way_154 : decode cX0_way 154 = .ok (.iload 4, 2) := dk_21 4 (dk_at dksX0_way_6 14 rfl rfl)
theorem dX0_way_156 : decode cX0_way 156 = .ok (.ireturn, 1) := dk_172 (dk_at dksX0_way_6 16 rfl rfl)
abbrev cX0_all : ByteArray := prog_1_method_62_code
def yX0_all : MethodName := ⟨RX0, "all", "()I"⟩
def dkwX0_all_5 : List UInt8 := [21, 4, 120, 128, 60, 28, 29, 96, 61, 167, 255, 134, 28, 172]
abbrev dktX0_all_5 : List UInt8 := dkwX0_all_5 ++ []
def dkwX0_all_4 : List UInt8 := [54, 4, 132, 6, 1, 167, 255, 188, 132, 5, 1, 167, 255, 172, 21, 4, 2, 160, 0, 5, 2, 172, 27, 4]
abbrev dktX0_all_4 : List UInt8 := dkwX0_all_4 ++ dktX0_all_5
def dkwX0_all_3 : List UInt8 := [21, 6, 182, 1, 53, 29, 161, 0, 6, 167, 0, 16, 42, 21, 5, 21, 6, 182, 1, 53, 62, 21, 6]
abbrev dktX0_all_3 : List UInt8 := dkwX0_all_3 ++ dktX0_all_4
def dkwX0_all_2 : List UInt8 := [21, 6, 184, 1, 41, 154, 0, 43, 42, 21, 5, 21, 6, 182, 1, 53, 2, 159, 0, 31, 42, 21, 5]
abbrev dktX0_all_2 : List UInt8 := dkwX0_all_2 ++ dktX0_all_3
def dkwX0_all_1 : List UInt8 := [162, 0, 83, 3, 54, 6, 21, 6, 16, 6, 162, 0, 67, 27, 21, 5, 184, 1, 41, 153, 0, 52, 27]
abbrev dktX0_all_1 : List UInt8 := dkwX0_all_1 ++ dktX0_all_2
def dkwX0_all_0 : List UInt8 := [4, 60, 3, 61, 27, 16, 63, 159, 0, 122, 19, 1, 62, 62, 2, 54, 4, 3, 54, 5, 21, 5, 16, 6]
abbrev dktX0_all_0 : List UInt8 := dkwX0_all_0 ++ dktX0_all_1
theorem dksX0_all_0 : cX0_all.data.toList.drop 0 = dktX0_all_0 := by decide +kernel
theorem dksX0_all_1 : cX0_all.data.toList.drop 24 = dktX0_all_1 := dk_seg dksX0_all_0 24 rfl rfl
theorem dksX0_all_2 : cX0_all.data.toList.drop 47 = dktX0_all_2 := dk_seg dksX0_all_1 23 rfl rfl
theorem dksX0_all_3 : cX0_all.data.toList.drop 70 = dktX0_all_3 := dk_seg dksX0_all_2 23 rfl rfl
theorem dksX0_all_4 : cX0_all.data.toList.drop 93 = dktX0_all_4 := dk_seg dksX0_all_3 23 rfl rfl
theorem dksX0_all_5 : cX0_all.data.toList.drop 117 = dktX0_all_5 := dk_seg dksX0_all_4 24 rfl rfl
theorem dX0_all_0 : decode cX0_all 0 = .ok (.iconst 1, 1) := dk_4 (dk_at dksX0_all_0 0 rfl rfl)
theorem dX0_all_1 : decode cX0_all 1 = .ok (.istore_n 1, 1) := dk_60 (dk_at dksX0_all_0 1 rfl rfl)
theorem dX0_all_2 : decode cX0_all 2 = .ok (.iconst 0, 1) := dk_3 (dk_at dksX0_all_0 2 rfl rfl)
theorem dX0_all_3 : decode cX0_all 3 = .ok (.istore_n 2, 1) := dk_61 (dk_at dksX0_all_0 3 rfl rfl)
theorem dX0_all_4 : decode cX0_all 4 = .ok (.iload_n 1, 1) := dk_27 (dk_at dksX0_all_0 4 rfl rfl)
theorem dX0_all_5 : decode cX0_all 5 = .ok (.bipush 63, 2) := dk_16 63 (dk_at dksX0_all_0 5 rfl rfl)
theorem dX0_all_7 : decode cX0_all 7 = .ok (.if_icmp .eq 122, 3) := dk_159 0 122 (dk_at dksX0_all_0 7 rfl rfl)
theorem dX0_all_10 : decode cX0_all 10 = .ok (.ldc_w 318, 3) := dk_19 1 62 (dk_at dksX0_all_0 10 rfl rfl)
theorem dX0_all_13 : decode cX0_all 13 = .ok (.istore_n 3, 1) := dk_62 (dk_at dksX0_all_0 13 rfl rfl)
theorem dX0_all_14 : decode cX0_all 14 = .ok (.iconst (-1), 1) := dk_2 (dk_at dksX0_all_0 14 rfl rfl)
theorem dX0_all_15 : decode cX0_all 15 = .ok (.istore 4, 2) := dk_54 4 (dk_at dksX0_all_0 15 rfl rfl)
theorem dX0_all_17 : decode cX0_all 17 = .ok (.iconst 0, 1) := dk_3 (dk_at dksX0_all_0 17 rfl rfl)
theorem dX0_all_18 : decode cX0_all 18 = .ok (.istore 5, 2) := dk_54 5 (dk_at dksX0_all_0 18 rfl rfl)
theorem dX0_all_20 : decode cX0_all 20 = .ok (.iload 5, 2) := dk_21 5 (dk_at dksX0_all_0 20 rfl rfl)
theorem dX0_all_22 : decode cX0_all 22 = .ok (.bipush 6, 2) := dk_16 6 (dk_at dksX0_all_0 22 rfl rfl)
theorem dX0_all_24 : decode cX0_all 24 = .ok (.if_icmp .ge 83, 3) := dk_162 0 83 (dk_at dksX0_all_1 0 rfl rfl)
theorem dX0_all_27 : decode cX0_all 27 = .ok (.iconst 0, 1) := dk_3 (dk_at dksX0_all_1 3 rfl rfl)
theorem dX0_all_28 : decode cX0_all 28 = .ok (.istore 6, 2) := dk_54 6 (dk_at dksX0_all_1 4 rfl rfl)
theorem dX0_all_30 : decode cX0_all 30 = .ok (.iload 6, 2) := dk_21 6 (dk_at dksX0_all_1 6 rfl rfl)
theorem dX0_all_32 : decode cX0_all 32 = .ok (.bipush 6, 2) := dk_16 6 (dk_at dksX0_all_1 8 rfl rfl)
theorem dX0_all_34 : decode cX0_all 34 = .ok (.if_icmp .ge 67, 3) := dk_162 0 67 (dk_at dksX0_all_1 10 rfl rfl)
theorem dX0_all_37 : decode cX0_all 37 = .ok (.iload_n 1, 1) := dk_27 (dk_at dksX0_all_1 13 rfl rfl)
theorem dX0_all_38 : decode cX0_all 38 = .ok (.iload 5, 2) := dk_21 5 (dk_at dksX0_all_1 14 rfl rfl)
theorem dX0_all_40 : decode cX0_all 40 = .ok (.invokestatic 297, 3) := dk_184 1 41 (dk_at dksX0_all_1 16 rfl rfl)
theorem dX0_all_43 : decode cX0_all 43 = .ok (.ifCond .eq 52, 3) := dk_153 0 52 (dk_at dksX0_all_1 19 rfl rfl)
theorem dX0_all_46 : decode cX0_all 46 = .ok (.iload_n 1, 1) := dk_27 (dk_at dksX0_all_1 22 rfl rfl)
theorem dX0_all_47 : decode cX0_all 47 = .ok (.iload 6, 2) := dk_21 6 (dk_at dksX0_all_2 0 rfl rfl)
theorem dX0_all_49 : decode cX0_all 49 = .ok (.invokestatic 297, 3) := dk_184 1 41 (dk_at dksX0_all_2 2 rfl rfl)
theorem dX0_all_52 : decode cX0_all 52 = .ok (.ifCond .ne 43, 3) := dk_154 0 43 (dk_at dksX0_all_2 5 rfl rfl)
theorem dX0_all_55 : decode cX0_all 55 = .ok (.aload_n 0, 1) := dk_42 (dk_at dksX0_all_2 8 rfl rfl)
theorem dX0_all_56 : decode cX0_all 56 = .ok (.iload 5, 2) := dk_21 5 (dk_at dksX0_all_2 9 rfl rfl)
theorem dX0_all_58 : decode cX0_all 58 = .ok (.iload 6, 2) := dk_21 6 (dk_at dksX0_all_2 11 rfl rfl)
theorem dX0_all_60 : decode cX0_all 60 = .ok (.invokevirtual 309, 3) := dk_182 1 53 (dk_at dksX0_all_2 13 rfl rfl)
theorem dX0_all_63 : decode cX0_all 63 = .ok (.iconst (-1), 1) := dk_2 (dk_at dksX0_all_2 16 rfl rfl)
theorem dX0_all_64 : decode cX0_all 64 = .ok (.if_icmp .eq 31, 3) := dk_159 0 31 (dk_at dksX0_all_2 17 rfl rfl)
theorem dX0_all_67 : decode cX0_all 67 = .ok (.aload_n 0, 1) := dk_42 (dk_at dksX0_all_2 20 rfl rfl)
theorem dX0_all_68 : decode cX0_all 68 = .ok (.iload 5, 2) := dk_21 5 (dk_at dksX0_all_2 21 rfl rfl)
theorem dX0_all_70 : decode cX0_all 70 = .ok (.iload 6, 2) := dk_21 6 (dk_at dksX0_all_3 0 rfl rfl)
theorem dX0_all_72 : decode cX0_all 72 = .ok (.invokevirtual 309, 3) := dk_182 1 53 (dk_at dksX0_all_3 2 rfl rfl)
theorem dX0_all_75 : decode cX0_all 75 = .ok (.iload_n 3, 1) := dk_29 (dk_at dksX0_all_3 5 rfl rfl)
theorem dX0_all_76 : decode cX0_all 76 = .ok (.if_icmp .lt 6, 3) := dk_161 0 6 (dk_at dksX0_all_3 6 rfl rfl)
theorem dX0_all_79 : decode cX0_all 79 = .ok (.goto 16, 3) := dk_167 0 16 (dk_at dksX0_all_3 9 rfl rfl)
theorem dX0_all_82 : decode cX0_all 82 = .ok (.aload_n 0, 1) := dk_42 (dk_at dksX0_all_3 12 rfl rfl)
theorem dX0_all_83 : decode cX0_all 83 = .ok (.iload 5, 2) := dk_21 5 (dk_at dksX0_all_3 13 rfl rfl)
theorem dX0_all_85 : decode cX0_all 85 = .ok (.iload 6, 2) := dk_21 6 (dk_at dksX0_all_3 15 rfl rfl)
theorem dX0_all_87 : decode cX0_all 87 = .ok (.invokevirtual 309, 3) := dk_182 1 53 (dk_at dksX0_all_3 17 rfl rfl)
theorem dX0_all_90 : decode cX0_all 90 = .ok (.istore_n 3, 1) := dk_62 (dk_at dksX0_all_3 20 rfl rfl)
theorem dX0_all_91 : decode cX0_all 91 = .ok (.iload 6, 2) := dk_21 6 (dk_at dksX0_all_3 21 rfl rfl)
theorem dX0_all_93 : decode cX0_all 93 = .ok (.istore 4, 2) := dk_54 4 (dk_at dksX0_all_4 0 rfl rfl)
theorem dX0_all_95 : decode cX0_all 95 = .ok (.iinc 6 1, 3) := dk_132 6 1 (dk_at dksX0_all_4 2 rfl rfl)
theorem dX0_all_98 : decode cX0_all 98 = .ok (.goto (-68), 3) := dk_167 255 188 (dk_at dksX0_all_4 5 rfl rfl)
theorem dX0_all_101 : decode cX0_all 101 = .ok (.iinc 5 1, 3) := dk_132 5 1 (dk_at dksX0_all_4 8 rfl rfl)
theorem dX0_all_104 : decode cX0_all 104 = .ok (.goto (-84), 3) := dk_167 255 172 (dk_at dksX0_all_4 11 rfl rfl)
theorem dX0_all_107 : decode cX0_all 107 = .ok (.iload 4, 2) := dk_21 4 (dk_at dksX0_all_4 14 rfl rfl)
theorem dX0_all_109 : decode cX0_all 109 = .ok (.iconst (-1), 1) := dk_2 (dk_at dksX0_all_4 16 rfl rfl)
theorem dX0_all_110 : decode cX0_all 110 = .ok (.if_icmp .ne 5, 3) := dk_160 0 5 (dk_at dksX0_all_4 17 rfl rfl)
theorem dX0_all_113 : decode cX0_all 113 = .ok (.iconst (-1), 1) := dk_2 (dk_at dksX0_all_4 20 rfl rfl)
theorem dX0_all_114 : decode cX0_all 114 = .ok (.ireturn, 1) := dk_172 (dk_at dksX0_all_4 21 rfl rfl)
theorem dX0_all_115 : decode cX0_all 115 = .ok (.iload_n 1, 1) := dk_27 (dk_at dksX0_all_4 22 rfl rfl)
theorem dX0_all_116 : decode cX0_all 116 = .ok (.iconst 1, 1) := dk_4 (dk_at dksX0_all_4 23 rfl rfl)
theorem dX0_all_117 : decode cX0_all 117 = .ok (.iload 4, 2) := dk_21 4 (dk_at dksX0_all_5 0 rfl rfl)
theorem dX0_all_119 : decode cX0_all 119 = .ok (.ishl, 1) := dk_120 (dk_at dksX0_all_5 2 rfl rfl)
theorem dX0_all_120 : decode cX0_all 120 = .ok (.ior, 1) := dk_128 (dk_at dksX0_all_5 3 rfl rfl)
theorem dX0_all_121 : decode cX0_all 121 = .ok (.istore_n 1, 1) := dk_60 (dk_at dksX0_all_5 4 rfl rfl)
theorem dX0_all_122 : decode cX0_all 122 = .ok (.iload_n 2, 1) := dk_28 (dk_at dksX0_all_5 5 rfl rfl)
theorem dX0_all_123 : decode cX0_all 123 = .ok (.iload_n 3, 1) := dk_29 (dk_at dksX0_all_5 6 rfl rfl)
theorem dX0_all_124 : decode cX0_all 124 = .ok (.iadd, 1) := dk_96 (dk_at dksX0_all_5 7 rfl rfl)
theorem dX0_all_125 : decode cX0_all 125 = .ok (.istore_n 2, 1) := dk_61 (dk_at dksX0_all_5 8 rfl rfl)
theorem dX0_all_126 : decode cX0_all 126 = .ok (.goto (-122), 3) := dk_167 255 134 (dk_at dksX0_all_5 9 rfl rfl)
theorem dX0_all_129 : decode cX0_all 129 = .ok (.iload_n 2, 1) := dk_28 (dk_at dksX0_all_5 12 rfl rfl)
theorem dX0_all_130 : decode cX0_all 130 = .ok (.ireturn, 1) := dk_172 (dk_at dksX0_all_5 13 rfl rfl)
abbrev cX0_cut : ByteArray := prog_1_method_64_code
def yX0_cut : MethodName := ⟨RX0, "cut", "(II)I"⟩
def dkwX0_cut_2 : List UInt8 := [182, 1, 74, 184, 0, 188, 62, 132, 4, 1, 167, 255, 217, 29, 172]
abbrev dktX0_cut_2 : List UInt8 := dkwX0_cut_2 ++ []
def dkwX0_cut_1 : List UInt8 := [21, 4, 27, 184, 1, 41, 153, 0, 23, 21, 4, 28, 184, 1, 41, 154, 0, 14, 29, 42, 21, 4]
abbrev dktX0_cut_1 : List UInt8 := dkwX0_cut_1 ++ dktX0_cut_2
def dkwX0_cut_0 : List UInt8 := [27, 28, 184, 0, 91, 154, 0, 5, 2, 172, 19, 1, 62, 62, 3, 54, 4, 21, 4, 16, 63, 163, 0, 38]
abbrev dktX0_cut_0 : List UInt8 := dkwX0_cut_0 ++ dktX0_cut_1
theorem dksX0_cut_0 : cX0_cut.data.toList.drop 0 = dktX0_cut_0 := by decide +kernel
theorem dksX0_cut_1 : cX0_cut.data.toList.drop 24 = dktX0_cut_1 := dk_seg dksX0_cut_0 24 rfl rfl
theorem dksX0_cut_2 : cX0_cut.data.toList.drop 46 = dktX0_cut_2 := dk_seg dksX0_cut_1 22 rfl rfl
theorem dX0_cut_0 : decode cX0_cut 0 = .ok (.iload_n 1, 1) := dk_27 (dk_at dksX0_cut_0 0 rfl rfl)
theorem dX0_cut_1 : decode cX0_cut 1 = .ok (.iload_n 2, 1) := dk_28 (dk_at dksX0_cut_0 1 rfl rfl)
theorem dX0_cut_2 : decode cX0_cut 2 = .ok (.invokestatic 91, 3) := dk_184 0 91 (dk_at dksX0_cut_0 2 rfl rfl)
theorem dX0_cut_5 : decode cX0_cut 5 = .ok (.ifCond .ne 5, 3) := dk_154 0 5 (dk_at dksX0_cut_0 5 rfl rfl)
theorem dX0_cut_8 : decode cX0_cut 8 = .ok (.iconst (-1), 1) := dk_2 (dk_at dksX0_cut_0 8 rfl rfl)
theorem dX0_cut_9 : decode cX0_cut 9 = .ok (.ireturn, 1) := dk_172 (dk_at dksX0_cut_0 9 rfl rfl)
theorem dX0_cut_10 : decode cX0_cut 10 = .ok (.ldc_w 318, 3) := dk_19 1 62 (dk_at dksX0_cut_0 10 rfl rfl)
theorem dX0_cut_13 : decode cX0_cut 13 = .ok (.istore_n 3, 1) := dk_62 (dk_at dksX0_cut_0 13 rfl rfl)
theorem dX0_cut_14 : decode cX0_cut 14 = .ok (.iconst 0, 1) := dk_3 (dk_at dksX0_cut_0 14 rfl rfl)
theorem dX0_cut_15 : decode cX0_cut 15 = .ok (.istore 4, 2) := dk_54 4 (dk_at dksX0_cut_0 15 rfl rfl)
theorem dX0_cut_17 : decode cX0_cut 17 = .ok (.iload 4, 2) := dk_21 4 (dk_at dksX0_cut_0 17 rfl rfl)
theorem dX0_cut_19 : decode cX0_cut 19 = .ok (.bipush 63, 2) := dk_16 63 (dk_at dksX0_cut_0 19 rfl rfl)
theorem dX0_cut_21 : decode cX0_cut 21 = .ok (.if_icmp .gt 38, 3) := dk_163 0 38 (dk_at dksX0_cut_0 21 rfl rfl)
theorem dX0_cut_24 : decode cX0_cut 24 = .ok (.iload 4, 2) := dk_21 4 (dk_at dksX0_cut_1 0 rfl rfl)
theorem dX0_cut_26 : decode cX0_cut 26 = .ok (.iload_n 1, 1) := dk_27 (dk_at dksX0_cut_1 2 rfl rfl)
theorem dX0_cut_27 : decode cX0_cut 27 = .ok (.invokestatic 297, 3) := dk_184 1 41 (dk_at dksX0_cut_1 3 rfl rfl)
theorem dX0_cut_30 : decode cX0_cut 30 = .ok (.ifCond .eq 23, 3) := dk_153 0 23 (dk_at dksX0_cut_1 6 rfl rfl)
theorem dX0_cut_33 : decode cX0_cut 33 = .ok (.iload 4, 2) := dk_21 4 (dk_at dksX0_cut_1 9 rfl rfl)
theorem dX0_cut_35 : decode cX0_cut 35 = .ok (.iload_n 2, 1) := dk_28 (dk_at dksX0_cut_1 11 rfl rfl)
theorem dX0_cut_36 : decode cX0_cut 36 = .ok (.invokestatic 297, 3) := dk_184 1 41 (dk_at dksX0_cut_1 12 rfl rfl)
theorem dX0_cut_39 : decode cX0_cut 39 = .ok (.ifCond .ne 14, 3) := dk_154 0 14 (dk_at dksX0_cut_1 15 rfl rfl)
theorem dX0_cut_42 : decode cX0_cut 42 = .ok (.iload_n 3, 1) := dk_29 (dk_at dksX0_cut_1 18 rfl rfl)
theorem dX0_cut_43 : decode cX0_cut 43 = .ok (.aload_n 0, 1) := dk_42 (dk_at dksX0_cut_1 19 rfl rfl)
theorem dX0_cut_44 : decode cX0_cut 44 = .ok (.iload 4, 2) := dk_21 4 (dk_at dksX0_cut_1 20 rfl rfl)
theorem dX0_cut_46 : decode cX0_cut 46 = .ok (.invokevirtual 330, 3) := dk_182 1 74 (dk_at dksX0_cut_2 0 rfl rfl)
theorem dX0_cut_49 : decode cX0_cut 49 = .ok (.invokestatic 188, 3) := dk_184 0 188 (dk_at dksX0_cut_2 3 rfl rfl)
theorem dX0_cut_52 : decode cX0_cut 52 = .ok (.istore_n 3, 1) := dk_62 (dk_at dksX0_cut_2 6 rfl rfl)
theorem dX0_cut_53 : decode cX0_cut 53 = .ok (.iinc 4 1, 3) := dk_132 4 1 (dk_at dksX0_cut_2 7 rfl rfl)
theorem dX0_cut_56 : decode cX0_cut 56 = .ok (.goto (-39), 3) := dk_167 255 217 (dk_at dksX0_cut_2 10 rfl rfl)
theorem dX0_cut_59 : decode cX0_cut 59 = .ok (.iload_n 3, 1) := dk_29 (dk_at dksX0_cut_2 13 rfl rfl)
theorem dX0_cut_60 : decode cX0_cut 60 = .ok (.ireturn, 1) := dk_172 (dk_at dksX0_cut_2 14 rfl rfl)
abbrev cX0_pairsOut : ByteArray := prog_1_method_63_code
def yX0_pairsOut : MethodName := ⟨RX0, "pairsOut", "(I)I"⟩
def dkwX0_pairsOut_2 : List UInt8 := [153, 0, 7, 4, 167, 0, 4, 3, 96, 61, 132, 4, 1, 167, 255, 211, 132, 3, 1, 167, 255, 196, 28, 172]
abbrev dktX0_pairsOut_2 : List UInt8 := dkwX0_pairsOut_2 ++ []
def dkwX0_pairsOut_1 : List UInt8 := [184, 1, 41, 153, 0, 26, 27, 21, 4, 184, 1, 41, 154, 0, 17, 42, 29, 21, 4, 182, 1, 50]
abbrev dktX0_pairsOut_1 : List UInt8 := dkwX0_pairsOut_1 ++ dktX0_pairsOut_2
def dkwX0_pairsOut_0 : List UInt8 := [3, 61, 3, 62, 29, 16, 6, 162, 0, 60, 3, 54, 4, 21, 4, 16, 6, 162, 0, 44, 28, 27, 29]
abbrev dktX0_pairsOut_0 : List UInt8 := dkwX0_pairsOut_0 ++ dktX0_pairsOut_1
theorem dksX0_pairsOut_0 : cX0_pairsOut.data.toList.drop 0 = dktX0_pairsOut_0 := by decide +kernel
theorem dksX0_pairsOut_1 : cX0_pairsOut.data.toList.drop 23 = dktX0_pairsOut_1 := dk_seg dksX0_pairsOut_0 23 rfl rfl
theorem dksX0_pairsOut_2 : cX0_pairsOut.data.toList.drop 45 = dktX0_pairsOut_2 := dk_seg dksX0_pairsOut_1 22 rfl rfl
theorem dX0_pairsOut_0 : decode cX0_pairsOut 0 = .ok (.iconst 0, 1) := dk_3 (dk_at dksX0_pairsOut_0 0 rfl rfl)
theorem dX0_pairsOut_1 : decode cX0_pairsOut 1 = .ok (.istore_n 2, 1) := dk_61 (dk_at dksX0_pairsOut_0 1 rfl rfl)
theorem dX0_pairsOut_2 : decode cX0_pairsOut 2 = .ok (.iconst 0, 1) := dk_3 (dk_at dksX0_pairsOut_0 2 rfl rfl)
theorem dX0_pairsOut_3 : decode cX0_pairsOut 3 = .ok (.istore_n 3, 1) := dk_62 (dk_at dksX0_pairsOut_0 3 rfl rfl)
theorem dX0_pairsOut_4 : decode cX0_pairsOut 4 = .ok (.iload_n 3, 1) := dk_29 (dk_at dksX0_pairsOut_0 4 rfl rfl)
theorem dX0_pairsOut_5 : decode cX0_pairsOut 5 = .ok (.bipush 6, 2) := dk_16 6 (dk_at dksX0_pairsOut_0 5 rfl rfl)
theorem dX0_pairsOut_7 : decode cX0_pairsOut 7 = .ok (.if_icmp .ge 60, 3) := dk_162 0 60 (dk_at dksX0_pairsOut_0 7 rfl rfl)
theorem dX0_pairsOut_10 : decode cX0_pairsOut 10 = .ok (.iconst 0, 1) := dk_3 (dk_at dksX0_pairsOut_0 10 rfl rfl)
theorem dX0_pairsOut_11 : decode cX0_pairsOut 11 = .ok (.istore 4, 2) := dk_54 4 (dk_at dksX0_pairsOut_0 11 rfl rfl)
theorem dX0_pairsOut_13 : decode cX0_pairsOut 13 = .ok (.iload 4, 2) := dk_21 4 (dk_at dksX0_pairsOut_0 13 rfl rfl)
theorem dX0_pairsOut_15 : decode cX0_pairsOut 15 = .ok (.bipush 6, 2) := dk_16 6 (dk_at dksX0_pairsOut_0 15 rfl rfl)
theorem dX0_pairsOut_17 : decode cX0_pairsOut 17 = .ok (.if_icmp .ge 44, 3) := dk_162 0 44 (dk_at dksX0_pairsOut_0 17 rfl rfl)
theorem dX0_pairsOut_20 : decode cX0_pairsOut 20 = .ok (.iload_n 2, 1) := dk_28 (dk_at dksX0_pairsOut_0 20 rfl rfl)
theorem dX0_pairsOut_21 : decode cX0_pairsOut 21 = .ok (.iload_n 1, 1) := dk_27 (dk_at dksX0_pairsOut_0 21 rfl rfl)
theorem dX0_pairsOut_22 : decode cX0_pairsOut 22 = .ok (.iload_n 3, 1) := dk_29 (dk_at dksX0_pairsOut_0 22 rfl rfl)
theorem dX0_pairsOut_23 : decode cX0_pairsOut 23 = .ok (.invokestatic 297, 3) := dk_184 1 41 (dk_at dksX0_pairsOut_1 0 rfl rfl)
theorem dX0_pairsOut_26 : decode cX0_pairsOut 26 = .ok (.ifCond .eq 26, 3) := dk_153 0 26 (dk_at dksX0_pairsOut_1 3 rfl rfl)
theorem dX0_pairsOut_29 : decode cX0_pairsOut 29 = .ok (.iload_n 1, 1) := dk_27 (dk_at dksX0_pairsOut_1 6 rfl rfl)
theorem dX0_pairsOut_30 : decode cX0_pairsOut 30 = .ok (.iload 4, 2) := dk_21 4 (dk_at dksX0_pairsOut_1 7 rfl rfl)
theorem dX0_pairsOut_32 : decode cX0_pairsOut 32 = .ok (.invokestatic 297, 3) := dk_184 1 41 (dk_at dksX0_pairsOut_1 9 rfl rfl)
theorem dX0_pairsOut_35 : decode cX0_pairsOut 35 = .ok (.ifCond .ne 17, 3) := dk_154 0 17 (dk_at dksX0_pairsOut_1 12 rfl rfl)
theorem dX0_pairsOut_38 : decode cX0_pairsOut 38 = .ok (.aload_n 0, 1) := dk_42 (dk_at dksX0_pairsOut_1 15 rfl rfl)
theorem dX0_pairsOut_39 : decode cX0_pairsOut 39 = .ok (.iload_n 3, 1) := dk_29 (dk_at dksX0_pairsOut_1 16 rfl rfl)
theorem dX0_pairsOut_40 : decode cX0_pairsOut 40 = .ok (.iload 4, 2) := dk_21 4 (dk_at dksX0_pairsOut_1 17 rfl rfl)
theorem dX0_pairsOut_42 : decode cX0_pairsOut 42 = .ok (.invokevirtual 306, 3) := dk_182 1 50 (dk_at dksX0_pairsOut_1 19 rfl rfl)
theorem dX0_pairsOut_45 : decode cX0_pairsOut 45 = .ok (.ifCond .eq 7, 3) := dk_153 0 7 (dk_at dksX0_pairsOut_2 0 rfl rfl)
theorem dX0_pairsOut_48 : decode cX0_pairsOut 48 = .ok (.iconst 1, 1) := dk_4 (dk_at dksX0_pairsOut_2 3 rfl rfl)
theorem dX0_pairsOut_49 : decode cX0_pairsOut 49 = .ok (.goto 4, 3) := dk_167 0 4 (dk_at dksX0_pairsOut_2 4 rfl rfl)
theorem dX0_pairsOut_52 : decode cX0_pairsOut 52 = .ok (.iconst 0, 1) := dk_3 (dk_at dksX0_pairsOut_2 7 rfl rfl)
theorem dX0_pairsOut_53 : decode cX0_pairsOut 53 = .ok (.iadd, 1) := dk_96 (dk_at dksX0_pairsOut_2 8 rfl rfl)
theorem dX0_pairsOut_54 : decode cX0_pairsOut 54 = .ok (.istore_n 2, 1) := dk_61 (dk_at dksX0_pairsOut_2 9 rfl rfl)
theorem dX0_pairsOut_55 : decode cX0_pairsOut 55 = .ok (.iinc 4 1, 3) := dk_132 4 1 (dk_at dksX0_pairsOut_2 10 rfl rfl)
theorem dX0_pairsOut_58 : decode cX0_pairsOut 58 = .ok (.goto (-45), 3) := dk_167 255 211 (dk_at dksX0_pairsOut_2 13 rfl rfl)
theorem dX0_pairsOut_61 : decode cX0_pairsOut 61 = .ok (.iinc 3 1, 3) := dk_132 3 1 (dk_at dksX0_pairsOut_2 16 rfl rfl)
theorem dX0_pairsOut_64 : decode cX0_pairsOut 64 = .ok (.goto (-60), 3) := dk_167 255 196 (dk_at dksX0_pairsOut_2 19 rfl rfl)
theorem dX0_pairsOut_67 : decode cX0_pairsOut 67 = .ok (.iload_n 2, 1) := dk_28 (dk_at dksX0_pairsOut_2 22 rfl rfl)
theorem dX0_pairsOut_68 : decode cX0_pairsOut 68 = .ok (.ireturn, 1) := dk_172 (dk_at dksX0_pairsOut_2 23 rfl rfl)
abbrev cX0_gossips : ByteArray := prog_1_method_66_code
def yX0_gossips : MethodName := ⟨RX0, "gossips", "()I"⟩
def dkwX0_gossips_1 : List UInt8 := [167, 0, 4, 3, 128, 60, 132, 2, 1, 167, 255, 229, 27, 172]
abbrev dktX0_gossips_1 : List UInt8 := dkwX0_gossips_1 ++ []
def dkwX0_gossips_0 : List UInt8 := [3, 60, 3, 61, 28, 16, 6, 162, 0, 27, 27, 42, 28, 182, 1, 77, 153, 0, 9, 4, 28, 120]
abbrev dktX0_gossips_0 : List UInt8 := dkwX0_gossips_0 ++ dktX0_gossips_1
theorem dksX0_gossips_0 : cX0_gossips.data.toList.drop 0 = dktX0_gossips_0 := by decide +kernel
theorem dksX0_gossips_1 : cX0_gossips.data.toList.drop 22 = dktX0_gossips_1 := dk_seg dksX0_gossips_0 22 rfl rfl
theorem dX0_gossips_0 : decode cX0_gossips 0 = .ok (.iconst 0, 1) := dk_3 (dk_at dksX0_gossips_0 0 rfl rfl)
theorem dX0_gossips_1 : decode cX0_gossips 1 = .ok (.istore_n 1, 1) := dk_60 (dk_at dksX0_gossips_0 1 rfl rfl)
theorem dX0_gossips_2 : decode cX0_gossips 2 = .ok (.iconst 0, 1) := dk_3 (dk_at dksX0_gossips_0 2 rfl rfl)
theorem dX0_gossips_3 : decode cX0_gossips 3 = .ok (.istore_n 2, 1) := dk_61 (dk_at dksX0_gossips_0 3 rfl rfl)
theorem dX0_gossips_4 : decode cX0_gossips 4 = .ok (.iload_n 2, 1) := dk_28 (dk_at dksX0_gossips_0 4 rfl rfl)
theorem dX0_gossips_5 : decode cX0_gossips 5 = .ok (.bipush 6, 2) := dk_16 6 (dk_at dksX0_gossips_0 5 rfl rfl)
theorem dX0_gossips_7 : decode cX0_gossips 7 = .ok (.if_icmp .ge 27, 3) := dk_162 0 27 (dk_at dksX0_gossips_0 7 rfl rfl)
theorem dX0_gossips_10 : decode cX0_gossips 10 = .ok (.iload_n 1, 1) := dk_27 (dk_at dksX0_gossips_0 10 rfl rfl)
theorem dX0_gossips_11 : decode cX0_gossips 11 = .ok (.aload_n 0, 1) := dk_42 (dk_at dksX0_gossips_0 11 rfl rfl)
theorem dX0_gossips_12 : decode cX0_gossips 12 = .ok (.iload_n 2, 1) := dk_28 (dk_at dksX0_gossips_0 12 rfl rfl)
theorem dX0_gossips_13 : decode cX0_gossips 13 = .ok (.invokevirtual 333, 3) := dk_182 1 77 (dk_at dksX0_gossips_0 13 rfl rfl)
theorem dX0_gossips_16 : decode cX0_gossips 16 = .ok (.ifCond .eq 9, 3) := dk_153 0 9 (dk_at dksX0_gossips_0 16 rfl rfl)
theorem dX0_gossips_19 : decode cX0_gossips 19 = .ok (.iconst 1, 1) := dk_4 (dk_at dksX0_gossips_0 19 rfl rfl)
theorem dX0_gossips_20 : decode cX0_gossips 20 = .ok (.iload_n 2, 1) := dk_28 (dk_at dksX0_gossips_0 20 rfl rfl)
theorem dX0_gossips_21 : decode cX0_gossips 21 = .ok (.ishl, 1) := dk_120 (dk_at dksX0_gossips_0 21 rfl rfl)
theorem dX0_gossips_22 : decode cX0_gossips 22 = .ok (.goto 4, 3) := dk_167 0 4 (dk_at dksX0_gossips_1 0 rfl rfl)
theorem dX0_gossips_25 : decode cX0_gossips 25 = .ok (.iconst 0, 1) := dk_3 (dk_at dksX0_gossips_1 3 rfl rfl)
theorem dX0_gossips_26 : decode cX0_gossips 26 = .ok (.ior, 1) := dk_128 (dk_at dksX0_gossips_1 4 rfl rfl)
theorem dX0_gossips_27 : decode cX0_gossips 27 = .ok (.istore_n 1, 1) := dk_60 (dk_at dksX0_gossips_1 5 rfl rfl)
theorem dX0_gossips_28 : decode cX0_gossips 28 = .ok (.iinc 2 1, 3) := dk_132 2 1 (dk_at dksX0_gossips_1 6 rfl rfl)
theorem dX0_gossips_31 : decode cX0_gossips 31 = .ok (.goto (-27), 3) := dk_167 255 229 (dk_at dksX0_gossips_1 9 rfl rfl)
theorem dX0_gossips_34 : decode cX0_gossips 34 = .ok (.iload_n 1, 1) := dk_27 (dk_at dksX0_gossips_1 12 rfl rfl)
theorem dX0_gossips_35 : decode cX0_gossips 35 = .ok (.ireturn, 1) := dk_172 (dk_at dksX0_gossips_1 13 rfl rfl)
abbrev cX0_isGossip : ByteArray := prog_1_method_65_code
def yX0_isGossip : MethodName := ⟨RX0, "isGossip", "(I)Z"⟩
def dkwX0_isGossip_1 : List UInt8 := [27, 120, 182, 1, 56, 2, 130, 126, 153, 0, 7, 4, 167, 0, 4, 3, 172]
abbrev dktX0_isGossip_1 : List UInt8 := dkwX0_isGossip_1 ++ []
def dkwX0_isGossip_0 : List UInt8 := [42, 27, 3, 182, 1, 56, 4, 27, 120, 2, 130, 126, 61, 28, 153, 0, 25, 28, 42, 28, 184, 1, 59, 4]
abbrev dktX0_isGossip_0 : List UInt8 := dkwX0_isGossip_0 ++ dktX0_isGossip_1
theorem dksX0_isGossip_0 : cX0_isGossip.data.toList.drop 0 = dktX0_isGossip_0 := by decide +kernel
theorem dksX0_isGossip_1 : cX0_isGossip.data.toList.drop 24 = dktX0_isGossip_1 := dk_seg dksX0_isGossip_0 24 rfl rfl
theorem dX0_isGossip_0 : decode cX0_isGossip 0 = .ok (.aload_n 0, 1) := dk_42 (dk_at dksX0_isGossip_0 0 rfl rfl)
theorem dX0_isGossip_1 : decode cX0_isGossip 1 = .ok (.iload_n 1, 1) := dk_27 (dk_at dksX0_isGossip_0 1 rfl rfl)
theorem dX0_isGossip_2 : decode cX0_isGossip 2 = .ok (.iconst 0, 1) := dk_3 (dk_at dksX0_isGossip_0 2 rfl rfl)
theorem dX0_isGossip_3 : decode cX0_isGossip 3 = .ok (.invokevirtual 312, 3) := dk_182 1 56 (dk_at dksX0_isGossip_0 3 rfl rfl)
theorem dX0_isGossip_6 : decode cX0_isGossip 6 = .ok (.iconst 1, 1) := dk_4 (dk_at dksX0_isGossip_0 6 rfl rfl)
theorem dX0_isGossip_7 : decode cX0_isGossip 7 = .ok (.iload_n 1, 1) := dk_27 (dk_at dksX0_isGossip_0 7 rfl rfl)
theorem dX0_isGossip_8 : decode cX0_isGossip 8 = .ok (.ishl, 1) := dk_120 (dk_at dksX0_isGossip_0 8 rfl rfl)
theorem dX0_isGossip_9 : decode cX0_isGossip 9 = .ok (.iconst (-1), 1) := dk_2 (dk_at dksX0_isGossip_0 9 rfl rfl)
theorem dX0_isGossip_10 : decode cX0_isGossip 10 = .ok (.ixor, 1) := dk_130 (dk_at dksX0_isGossip_0 10 rfl rfl)
theorem dX0_isGossip_11 : decode cX0_isGossip 11 = .ok (.iand, 1) := dk_126 (dk_at dksX0_isGossip_0 11 rfl rfl)
theorem dX0_isGossip_12 : decode cX0_isGossip 12 = .ok (.istore_n 2, 1) := dk_61 (dk_at dksX0_isGossip_0 12 rfl rfl)
theorem dX0_isGossip_13 : decode cX0_isGossip 13 = .ok (.iload_n 2, 1) := dk_28 (dk_at dksX0_isGossip_0 13 rfl rfl)
theorem dX0_isGossip_14 : decode cX0_isGossip 14 = .ok (.ifCond .eq 25, 3) := dk_153 0 25 (dk_at dksX0_isGossip_0 14 rfl rfl)
theorem dX0_isGossip_17 : decode cX0_isGossip 17 = .ok (.iload_n 2, 1) := dk_28 (dk_at dksX0_isGossip_0 17 rfl rfl)
theorem dX0_isGossip_18 : decode cX0_isGossip 18 = .ok (.aload_n 0, 1) := dk_42 (dk_at dksX0_isGossip_0 18 rfl rfl)
theorem dX0_isGossip_19 : decode cX0_isGossip 19 = .ok (.iload_n 2, 1) := dk_28 (dk_at dksX0_isGossip_0 19 rfl rfl)
theorem dX0_isGossip_20 : decode cX0_isGossip 20 = .ok (.invokestatic 315, 3) := dk_184 1 59 (dk_at dksX0_isGossip_0 20 rfl rfl)
theorem dX0_isGossip_23 : decode cX0_isGossip 23 = .ok (.iconst 1, 1) := dk_4 (dk_at dksX0_isGossip_0 23 rfl rfl)
theorem dX0_isGossip_24 : decode cX0_isGossip 24 = .ok (.iload_n 1, 1) := dk_27 (dk_at dksX0_isGossip_1 0 rfl rfl)
theorem dX0_isGossip_25 : decode cX0_isGossip 25 = .ok (.ishl, 1) := dk_120 (dk_at dksX0_isGossip_1 1 rfl rfl)
theorem dX0_isGossip_26 : decode cX0_isGossip 26 = .ok (.invokevirtual 312, 3) := dk_182 1 56 (dk_at dksX0_isGossip_1 2 rfl rfl)
theorem dX0_isGossip_29 : decode cX0_isGossip 29 = .ok (.iconst (-1), 1) := dk_2 (dk_at dksX0_isGossip_1 5 rfl rfl)
theorem dX0_isGossip_30 : decode cX0_isGossip 30 = .ok (.ixor, 1) := dk_130 (dk_at dksX0_isGossip_1 6 rfl rfl)
theorem dX0_isGossip_31 : decode cX0_isGossip 31 = .ok (.iand, 1) := dk_126 (dk_at dksX0_isGossip_1 7 rfl rfl)
theorem dX0_isGossip_32 : decode cX0_isGossip 32 = .ok (.ifCond .eq 7, 3) := dk_153 0 7 (dk_at dksX0_isGossip_1 8 rfl rfl)
theorem dX0_isGossip_35 : decode cX0_isGossip 35 = .ok (.iconst 1, 1) := dk_4 (dk_at dksX0_isGossip_1 11 rfl rfl)
theorem dX0_isGossip_36 : decode cX0_isGossip 36 = .ok (.goto 4, 3) := dk_167 0 4 (dk_at dksX0_isGossip_1 12 rfl rfl)
theorem dX0_isGossip_39 : decode cX0_isGossip 39 = .ok (.iconst 0, 1) := dk_3 (dk_at dksX0_isGossip_1 15 rfl rfl)
theorem dX0_isGossip_40 : decode cX0_isGossip 40 = .ok (.ireturn, 1) := dk_172 (dk_at dksX0_isGossip_1 16 rfl rfl)
abbrev cX0_cool : ByteArray := prog_1_method_69_code
def yX0_cool : MethodName := ⟨RX0, "cool", "(I)I"⟩
def dkwX0_cool_4 : List UInt8 := [160, 0, 11, 42, 29, 182, 1, 80, 167, 0, 8, 42, 29, 182, 1, 44, 172]
abbrev dktX0_cool_4 : List UInt8 := dkwX0_cool_4 ++ []
def dkwX0_cool_3 : List UInt8 := [153, 0, 6, 21, 4, 62, 132, 4, 1, 167, 255, 207, 27, 154, 0, 7, 29, 167, 0, 21, 27, 4]
abbrev dktX0_cool_3 : List UInt8 := dkwX0_cool_3 ++ dktX0_cool_4
def dkwX0_cool_2 : List UInt8 := [182, 1, 44, 42, 180, 0, 21, 180, 0, 88, 5, 46, 163, 0, 16, 42, 21, 4, 29, 182, 1, 83]
abbrev dktX0_cool_2 : List UInt8 := dkwX0_cool_2 ++ dktX0_cool_3
def dkwX0_cool_1 : List UInt8 := [62, 4, 54, 4, 21, 4, 28, 163, 0, 49, 21, 4, 28, 2, 130, 126, 154, 0, 34, 42, 21, 4]
abbrev dktX0_cool_1 : List UInt8 := dkwX0_cool_1 ++ dktX0_cool_2
def dkwX0_cool_0 : List UInt8 := [27, 3, 5, 184, 0, 77, 154, 0, 5, 2, 172, 42, 42, 180, 0, 21, 180, 0, 88, 182, 0, 178, 61, 3]
abbrev dktX0_cool_0 : List UInt8 := dkwX0_cool_0 ++ dktX0_cool_1
theorem dksX0_cool_0 : cX0_cool.data.toList.drop 0 = dktX0_cool_0 := by decide +kernel
theorem dksX0_cool_1 : cX0_cool.data.toList.drop 24 = dktX0_cool_1 := dk_seg dksX0_cool_0 24 rfl rfl
theorem dksX0_cool_2 : cX0_cool.data.toList.drop 46 = dktX0_cool_2 := dk_seg dksX0_cool_1 22 rfl rfl
theorem dksX0_cool_3 : cX0_cool.data.toList.drop 68 = dktX0_cool_3 := dk_seg dksX0_cool_2 22 rfl rfl
theorem dksX0_cool_4 : cX0_cool.data.toList.drop 90 = dktX0_cool_4 := dk_seg dksX0_cool_3 22 rfl rfl
theorem dX0_cool_0 : decode cX0_cool 0 = .ok (.iload_n 1, 1) := dk_27 (dk_at dksX0_cool_0 0 rfl rfl)
theorem dX0_cool_1 : decode cX0_cool 1 = .ok (.iconst 0, 1) := dk_3 (dk_at dksX0_cool_0 1 rfl rfl)
theorem dX0_cool_2 : decode cX0_cool 2 = .ok (.iconst 2, 1) := dk_5 (dk_at dksX0_cool_0 2 rfl rfl)
theorem dX0_cool_3 : decode cX0_cool 3 = .ok (.invokestatic 77, 3) := dk_184 0 77 (dk_at dksX0_cool_0 3 rfl rfl)
theorem dX0_cool_6 : decode cX0_cool 6 = .ok (.ifCond .ne 5, 3) := dk_154 0 5 (dk_at dksX0_cool_0 6 rfl rfl)
theorem dX0_cool_9 : decode cX0_cool 9 = .ok (.iconst (-1), 1) := dk_2 (dk_at dksX0_cool_0 9 rfl rfl)
theorem dX0_cool_10 : decode cX0_cool 10 = .ok (.ireturn, 1) := dk_172 (dk_at dksX0_cool_0 10 rfl rfl)
theorem dX0_cool_11 : decode cX0_cool 11 = .ok (.aload_n 0, 1) := dk_42 (dk_at dksX0_cool_0 11 rfl rfl)
theorem dX0_cool_12 : decode cX0_cool 12 = .ok (.aload_n 0, 1) := dk_42 (dk_at dksX0_cool_0 12 rfl rfl)
theorem dX0_cool_13 : decode cX0_cool 13 = .ok (.getfield 21, 3) := dk_180 0 21 (dk_at dksX0_cool_0 13 rfl rfl)
theorem dX0_cool_16 : decode cX0_cool 16 = .ok (.getfield 88, 3) := dk_180 0 88 (dk_at dksX0_cool_0 16 rfl rfl)
theorem dX0_cool_19 : decode cX0_cool 19 = .ok (.invokevirtual 178, 3) := dk_182 0 178 (dk_at dksX0_cool_0 19 rfl rfl)
theorem dX0_cool_22 : decode cX0_cool 22 = .ok (.istore_n 2, 1) := dk_61 (dk_at dksX0_cool_0 22 rfl rfl)
theorem dX0_cool_23 : decode cX0_cool 23 = .ok (.iconst 0, 1) := dk_3 (dk_at dksX0_cool_0 23 rfl rfl)
theorem dX0_cool_24 : decode cX0_cool 24 = .ok (.istore_n 3, 1) := dk_62 (dk_at dksX0_cool_1 0 rfl rfl)
theorem dX0_cool_25 : decode cX0_cool 25 = .ok (.iconst 1, 1) := dk_4 (dk_at dksX0_cool_1 1 rfl rfl)
theorem dX0_cool_26 : decode cX0_cool 26 = .ok (.istore 4, 2) := dk_54 4 (dk_at dksX0_cool_1 2 rfl rfl)
theorem dX0_cool_28 : decode cX0_cool 28 = .ok (.iload 4, 2) := dk_21 4 (dk_at dksX0_cool_1 4 rfl rfl)
theorem dX0_cool_30 : decode cX0_cool 30 = .ok (.iload_n 2, 1) := dk_28 (dk_at dksX0_cool_1 6 rfl rfl)
theorem dX0_cool_31 : decode cX0_cool 31 = .ok (.if_icmp .gt 49, 3) := dk_163 0 49 (dk_at dksX0_cool_1 7 rfl rfl)
theorem dX0_cool_34 : decode cX0_cool 34 = .ok (.iload 4, 2) := dk_21 4 (dk_at dksX0_cool_1 10 rfl rfl)
theorem dX0_cool_36 : decode cX0_cool 36 = .ok (.iload_n 2, 1) := dk_28 (dk_at dksX0_cool_1 12 rfl rfl)
theorem dX0_cool_37 : decode cX0_cool 37 = .ok (.iconst (-1), 1) := dk_2 (dk_at dksX0_cool_1 13 rfl rfl)
theorem dX0_cool_38 : decode cX0_cool 38 = .ok (.ixor, 1) := dk_130 (dk_at dksX0_cool_1 14 rfl rfl)
theorem dX0_cool_39 : decode cX0_cool 39 = .ok (.iand, 1) := dk_126 (dk_at dksX0_cool_1 15 rfl rfl)
theorem dX0_cool_40 : decode cX0_cool 40 = .ok (.ifCond .ne 34, 3) := dk_154 0 34 (dk_at dksX0_cool_1 16 rfl rfl)
theorem dX0_cool_43 : decode cX0_cool 43 = .ok (.aload_n 0, 1) := dk_42 (dk_at dksX0_cool_1 19 rfl rfl)
theorem dX0_cool_44 : decode cX0_cool 44 = .ok (.iload 4, 2) := dk_21 4 (dk_at dksX0_cool_1 20 rfl rfl)
theorem dX0_cool_46 : decode cX0_cool 46 = .ok (.invokevirtual 300, 3) := dk_182 1 44 (dk_at dksX0_cool_2 0 rfl rfl)
theorem dX0_cool_49 : decode cX0_cool 49 = .ok (.aload_n 0, 1) := dk_42 (dk_at dksX0_cool_2 3 rfl rfl)
theorem dX0_cool_50 : decode cX0_cool 50 = .ok (.getfield 21, 3) := dk_180 0 21 (dk_at dksX0_cool_2 4 rfl rfl)
theorem dX0_cool_53 : decode cX0_cool 53 = .ok (.getfield 88, 3) := dk_180 0 88 (dk_at dksX0_cool_2 7 rfl rfl)
theorem dX0_cool_56 : decode cX0_cool 56 = .ok (.iconst 2, 1) := dk_5 (dk_at dksX0_cool_2 10 rfl rfl)
theorem dX0_cool_57 : decode cX0_cool 57 = .ok (.iaload, 1) := dk_46 (dk_at dksX0_cool_2 11 rfl rfl)
theorem dX0_cool_58 : decode cX0_cool 58 = .ok (.if_icmp .gt 16, 3) := dk_163 0 16 (dk_at dksX0_cool_2 12 rfl rfl)
theorem dX0_cool_61 : decode cX0_cool 61 = .ok (.aload_n 0, 1) := dk_42 (dk_at dksX0_cool_2 15 rfl rfl)
theorem dX0_cool_62 : decode cX0_cool 62 = .ok (.iload 4, 2) := dk_21 4 (dk_at dksX0_cool_2 16 rfl rfl)
theorem dX0_cool_64 : decode cX0_cool 64 = .ok (.iload_n 3, 1) := dk_29 (dk_at dksX0_cool_2 18 rfl rfl)
theorem dX0_cool_65 : decode cX0_cool 65 = .ok (.invokevirtual 339, 3) := dk_182 1 83 (dk_at dksX0_cool_2 19 rfl rfl)
theorem dX0_cool_68 : decode cX0_cool 68 = .ok (.ifCond .eq 6, 3) := dk_153 0 6 (dk_at dksX0_cool_3 0 rfl rfl)
theorem dX0_cool_71 : decode cX0_cool 71 = .ok (.iload 4, 2) := dk_21 4 (dk_at dksX0_cool_3 3 rfl rfl)
theorem dX0_cool_73 : decode cX0_cool 73 = .ok (.istore_n 3, 1) := dk_62 (dk_at dksX0_cool_3 5 rfl rfl)
theorem dX0_cool_74 : decode cX0_cool 74 = .ok (.iinc 4 1, 3) := dk_132 4 1 (dk_at dksX0_cool_3 6 rfl rfl)
theorem dX0_cool_77 : decode cX0_cool 77 = .ok (.goto (-49), 3) := dk_167 255 207 (dk_at dksX0_cool_3 9 rfl rfl)
theorem dX0_cool_80 : decode cX0_cool 80 = .ok (.iload_n 1, 1) := dk_27 (dk_at dksX0_cool_3 12 rfl rfl)
theorem dX0_cool_81 : decode cX0_cool 81 = .ok (.ifCond .ne 7, 3) := dk_154 0 7 (dk_at dksX0_cool_3 13 rfl rfl)
theorem dX0_cool_84 : decode cX0_cool 84 = .ok (.iload_n 3, 1) := dk_29 (dk_at dksX0_cool_3 16 rfl rfl)
theorem dX0_cool_85 : decode cX0_cool 85 = .ok (.goto 21, 3) := dk_167 0 21 (dk_at dksX0_cool_3 17 rfl rfl)
theorem dX0_cool_88 : decode cX0_cool 88 = .ok (.iload_n 1, 1) := dk_27 (dk_at dksX0_cool_3 20 rfl rfl)
theorem dX0_cool_89 : decode cX0_cool 89 = .ok (.iconst 1, 1) := dk_4 (dk_at dksX0_cool_3 21 rfl rfl)
theorem dX0_cool_90 : decode cX0_cool 90 = .ok (.if_icmp .ne 11, 3) := dk_160 0 11 (dk_at dksX0_cool_4 0 rfl rfl)
theorem dX0_cool_93 : decode cX0_cool 93 = .ok (.aload_n 0, 1) := dk_42 (dk_at dksX0_cool_4 3 rfl rfl)
theorem dX0_cool_94 : decode cX0_cool 94 = .ok (.iload_n 3, 1) := dk_29 (dk_at dksX0_cool_4 4 rfl rfl)
theorem dX0_cool_95 : decode cX0_cool 95 = .ok (.invokevirtual 336, 3) := dk_182 1 80 (dk_at dksX0_cool_4 5 rfl rfl)
theorem dX0_cool_98 : decode cX0_cool 98 = .ok (.goto 8, 3) := dk_167 0 8 (dk_at dksX0_cool_4 8 rfl rfl)
theorem dX0_cool_101 : decode cX0_cool 101 = .ok (.aload_n 0, 1) := dk_42 (dk_at dksX0_cool_4 11 rfl rfl)
theorem dX0_cool_102 : decode cX0_cool 102 = .ok (.iload_n 3, 1) := dk_29 (dk_at dksX0_cool_4 12 rfl rfl)
theorem dX0_cool_103 : decode cX0_cool 103 = .ok (.invokevirtual 300, 3) := dk_182 1 44 (dk_at dksX0_cool_4 13 rfl rfl)
theorem dX0_cool_106 : decode cX0_cool 106 = .ok (.ireturn, 1) := dk_172 (dk_at dksX0_cool_4 16 rfl rfl)
abbrev cX0_isCooler : ByteArray := prog_1_method_68_code
def yX0_isCooler : MethodName := ⟨RX0, "isCooler", "(II)Z"⟩
def dkwX0_isCooler_2 : List UInt8 := [4, 167, 0, 4, 3, 172]
abbrev dktX0_isCooler_2 : List UInt8 := dkwX0_isCooler_2 ++ []
def dkwX0_isCooler_1 : List UInt8 := [164, 0, 7, 4, 167, 0, 25, 3, 167, 0, 21, 42, 27, 182, 1, 44, 42, 28, 182, 1, 44, 162, 0, 7]
abbrev dktX0_isCooler_1 : List UInt8 := dkwX0_isCooler_1 ++ dktX0_isCooler_2
def dkwX0_isCooler_0 : List UInt8 := [42, 27, 182, 1, 80, 42, 28, 182, 1, 80, 159, 0, 24, 42, 27, 182, 1, 80, 42, 28, 182, 1, 80]
abbrev dktX0_isCooler_0 : List UInt8 := dkwX0_isCooler_0 ++ dktX0_isCooler_1
theorem dksX0_isCooler_0 : cX0_isCooler.data.toList.drop 0 = dktX0_isCooler_0 := by decide +kernel
theorem dksX0_isCooler_1 : cX0_isCooler.data.toList.drop 23 = dktX0_isCooler_1 := dk_seg dksX0_isCooler_0 23 rfl rfl
theorem dksX0_isCooler_2 : cX0_isCooler.data.toList.drop 47 = dktX0_isCooler_2 := dk_seg dksX0_isCooler_1 24 rfl rfl
theorem dX0_isCooler_0 : decode cX0_isCooler 0 = .ok (.aload_n 0, 1) := dk_42 (dk_at dksX0_isCooler_0 0 rfl rfl)
theorem dX0_isCooler_1 : decode cX0_isCooler 1 = .ok (.iload_n 1, 1) := dk_27 (dk_at dksX0_isCooler_0 1 rfl rfl)
theorem dX0_isCooler_2 : decode cX0_isCooler 2 = .ok (.invokevirtual 336, 3) := dk_182 1 80 (dk_at dksX0_isCooler_0 2 rfl rfl)
theorem dX0_isCooler_5 : decode cX0_isCooler 5 = .ok (.aload_n 0, 1) := dk_42 (dk_at dksX0_isCooler_0 5 rfl rfl)
theorem dX0_isCooler_6 : decode cX0_isCooler 6 = .ok (.iload_n 2, 1) := dk_28 (dk_at dksX0_isCooler_0 6 rfl rfl)
theorem dX0_isCooler_7 : decode cX0_isCooler 7 = .ok (.invokevirtual 336, 3) := dk_182 1 80 (dk_at dksX0_isCooler_0 7 rfl rfl)
theorem dX0_isCooler_10 : decode cX0_isCooler 10 = .ok (.if_icmp .eq 24, 3) := dk_159 0 24 (dk_at dksX0_isCooler_0 10 rfl rfl)
theorem dX0_isCooler_13 : decode cX0_isCooler 13 = .ok (.aload_n 0, 1) := dk_42 (dk_at dksX0_isCooler_0 13 rfl rfl)
theorem dX0_isCooler_14 : decode cX0_isCooler 14 = .ok (.iload_n 1, 1) := dk_27 (dk_at dksX0_isCooler_0 14 rfl rfl)
theorem dX0_isCooler_15 : decode cX0_isCooler 15 = .ok (.invokevirtual 336, 3) := dk_182 1 80 (dk_at dksX0_isCooler_0 15 rfl rfl)
theorem dX0_isCooler_18 : decode cX0_isCooler 18 = .ok (.aload_n 0, 1) := dk_42 (dk_at dksX0_isCooler_0 18 rfl rfl)
theorem dX0_isCooler_19 : decode cX0_isCooler 19 = .ok (.iload_n 2, 1) := dk_28 (dk_at dksX0_isCooler_0 19 rfl rfl)
theorem dX0_isCooler_20 : decode cX0_isCooler 20 = .ok (.invokevirtual 336, 3) := dk_182 1 80 (dk_at dksX0_isCooler_0 20 rfl rfl)
theorem dX0_isCooler_23 : decode cX0_isCooler 23 = .ok (.if_icmp .le 7, 3) := dk_164 0 7 (dk_at dksX0_isCooler_1 0 rfl rfl)
theorem dX0_isCooler_26 : decode cX0_isCooler 26 = .ok (.iconst 1, 1) := dk_4 (dk_at dksX0_isCooler_1 3 rfl rfl)
theorem dX0_isCooler_27 : decode cX0_isCooler 27 = .ok (.goto 25, 3) := dk_167 0 25 (dk_at dksX0_isCooler_1 4 rfl rfl)
theorem dX0_isCooler_30 : decode cX0_isCooler 30 = .ok (.iconst 0, 1) := dk_3 (dk_at dksX0_isCooler_1 7 rfl rfl)
theorem dX0_isCooler_31 : decode cX0_isCooler 31 = .ok (.goto 21, 3) := dk_167 0 21 (dk_at dksX0_isCooler_1 8 rfl rfl)
theorem dX0_isCooler_34 : decode cX0_isCooler 34 = .ok (.aload_n 0, 1) := dk_42 (dk_at dksX0_isCooler_1 11 rfl rfl)
theorem dX0_isCooler_35 : decode cX0_isCooler 35 = .ok (.iload_n 1, 1) := dk_27 (dk_at dksX0_isCooler_1 12 rfl rfl)
theorem dX0_isCooler_36 : decode cX0_isCooler 36 = .ok (.invokevirtual 300, 3) := dk_182 1 44 (dk_at dksX0_isCooler_1 13 rfl rfl)
theorem dX0_isCooler_39 : decode cX0_isCooler 39 = .ok (.aload_n 0, 1) := dk_42 (dk_at dksX0_isCooler_1 16 rfl rfl)
theorem dX0_isCooler_40 : decode cX0_isCooler 40 = .ok (.iload_n 2, 1) := dk_28 (dk_at dksX0_isCooler_1 17 rfl rfl)
theorem dX0_isCooler_41 : decode cX0_isCooler 41 = .ok (.invokevirtual 300, 3) := dk_182 1 44 (dk_at dksX0_isCooler_1 18 rfl rfl)
theorem dX0_isCooler_44 : decode cX0_isCooler 44 = .ok (.if_icmp .ge 7, 3) := dk_162 0 7 (dk_at dksX0_isCooler_1 21 rfl rfl)
theorem dX0_isCooler_47 : decode cX0_isCooler 47 = .ok (.iconst 1, 1) := dk_4 (dk_at dksX0_isCooler_2 0 rfl rfl)
theorem dX0_isCooler_48 : decode cX0_isCooler 48 = .ok (.goto 4, 3) := dk_167 0 4 (dk_at dksX0_isCooler_2 1 rfl rfl)
theorem dX0_isCooler_51 : decode cX0_isCooler 51 = .ok (.iconst 0, 1) := dk_3 (dk_at dksX0_isCooler_2 4 rfl rfl)
theorem dX0_isCooler_52 : decode cX0_isCooler 52 = .ok (.ireturn, 1) := dk_172 (dk_at dksX0_isCooler_2 5 rfl rfl)
abbrev cX0_heatOf : ByteArray := prog_1_method_67_code
def yX0_heatOf : MethodName := ⟨RX0, "heatOf", "(I)I"⟩
def dkwX0_heatOf_2 : List UInt8 := [172]
abbrev dktX0_heatOf_2 : List UInt8 := dkwX0_heatOf_2 ++ []
def dkwX0_heatOf_1 : List UInt8 := [180, 0, 21, 180, 0, 88, 16, 20, 29, 96, 46, 167, 0, 4, 3, 96, 61, 132, 3, 1, 167, 255, 218, 28]
abbrev dktX0_heatOf_1 : List UInt8 := dkwX0_heatOf_1 ++ dktX0_heatOf_2
def dkwX0_heatOf_0 : List UInt8 := [3, 61, 3, 62, 29, 42, 182, 0, 73, 162, 0, 36, 28, 27, 29, 184, 1, 41, 153, 0, 18, 42]
abbrev dktX0_heatOf_0 : List UInt8 := dkwX0_heatOf_0 ++ dktX0_heatOf_1
theorem dksX0_heatOf_0 : cX0_heatOf.data.toList.drop 0 = dktX0_heatOf_0 := by decide +kernel
theorem dksX0_heatOf_1 : cX0_heatOf.data.toList.drop 22 = dktX0_heatOf_1 := dk_seg dksX0_heatOf_0 22 rfl rfl
theorem dksX0_heatOf_2 : cX0_heatOf.data.toList.drop 46 = dktX0_heatOf_2 := dk_seg dksX0_heatOf_1 24 rfl rfl
theorem dX0_heatOf_0 : decode cX0_heatOf 0 = .ok (.iconst 0, 1) := dk_3 (dk_at dksX0_heatOf_0 0 rfl rfl)
theorem dX0_heatOf_1 : decode cX0_heatOf 1 = .ok (.istore_n 2, 1) := dk_61 (dk_at dksX0_heatOf_0 1 rfl rfl)
theorem dX0_heatOf_2 : decode cX0_heatOf 2 = .ok (.iconst 0, 1) := dk_3 (dk_at dksX0_heatOf_0 2 rfl rfl)
theorem dX0_heatOf_3 : decode cX0_heatOf 3 = .ok (.istore_n 3, 1) := dk_62 (dk_at dksX0_heatOf_0 3 rfl rfl)
theorem dX0_heatOf_4 : decode cX0_heatOf 4 = .ok (.iload_n 3, 1) := dk_29 (dk_at dksX0_heatOf_0 4 rfl rfl)
theorem dX0_heatOf_5 : decode cX0_heatOf 5 = .ok (.aload_n 0, 1) := dk_42 (dk_at dksX0_heatOf_0 5 rfl rfl)
theorem dX0_heatOf_6 : decode cX0_heatOf 6 = .ok (.invokevirtual 73, 3) := dk_182 0 73 (dk_at dksX0_heatOf_0 6 rfl rfl)
theorem dX0_heatOf_9 : decode cX0_heatOf 9 = .ok (.if_icmp .ge 36, 3) := dk_162 0 36 (dk_at dksX0_heatOf_0 9 rfl rfl)
theorem dX0_heatOf_12 : decode cX0_heatOf 12 = .ok (.iload_n 2, 1) := dk_28 (dk_at dksX0_heatOf_0 12 rfl rfl)
theorem dX0_heatOf_13 : decode cX0_heatOf 13 = .ok (.iload_n 1, 1) := dk_27 (dk_at dksX0_heatOf_0 13 rfl rfl)
theorem dX0_heatOf_14 : decode cX0_heatOf 14 = .ok (.iload_n 3, 1) := dk_29 (dk_at dksX0_heatOf_0 14 rfl rfl)
theorem dX0_heatOf_15 : decode cX0_heatOf 15 = .ok (.invokestatic 297, 3) := dk_184 1 41 (dk_at dksX0_heatOf_0 15 rfl rfl)
theorem dX0_heatOf_18 : decode cX0_heatOf 18 = .ok (.ifCond .eq 18, 3) := dk_153 0 18 (dk_at dksX0_heatOf_0 18 rfl rfl)
theorem dX0_heatOf_21 : decode cX0_heatOf 21 = .ok (.aload_n 0, 1) := dk_42 (dk_at dksX0_heatOf_0 21 rfl rfl)
theorem dX0_heatOf_22 : decode cX0_heatOf 22 = .ok (.getfield 21, 3) := dk_180 0 21 (dk_at dksX0_heatOf_1 0 rfl rfl)
theorem dX0_heatOf_25 : decode cX0_heatOf 25 = .ok (.getfield 88, 3) := dk_180 0 88 (dk_at dksX0_heatOf_1 3 rfl rfl)
theorem dX0_heatOf_28 : decode cX0_heatOf 28 = .ok (.bipush 20, 2) := dk_16 20 (dk_at dksX0_heatOf_1 6 rfl rfl)
theorem dX0_heatOf_30 : decode cX0_heatOf 30 = .ok (.iload_n 3, 1) := dk_29 (dk_at dksX0_heatOf_1 8 rfl rfl)
theorem dX0_heatOf_31 : decode cX0_heatOf 31 = .ok (.iadd, 1) := dk_96 (dk_at dksX0_heatOf_1 9 rfl rfl)
theorem dX0_heatOf_32 : decode cX0_heatOf 32 = .ok (.iaload, 1) := dk_46 (dk_at dksX0_heatOf_1 10 rfl rfl)
theorem dX0_heatOf_33 : decode cX0_heatOf 33 = .ok (.goto 4, 3) := dk_167 0 4 (dk_at dksX0_heatOf_1 11 rfl rfl)
theorem dX0_heatOf_36 : decode cX0_heatOf 36 = .ok (.iconst 0, 1) := dk_3 (dk_at dksX0_heatOf_1 14 rfl rfl)
theorem dX0_heatOf_37 : decode cX0_heatOf 37 = .ok (.iadd, 1) := dk_96 (dk_at dksX0_heatOf_1 15 rfl rfl)
theorem dX0_heatOf_38 : decode cX0_heatOf 38 = .ok (.istore_n 2, 1) := dk_61 (dk_at dksX0_heatOf_1 16 rfl rfl)
theorem dX0_heatOf_39 : decode cX0_heatOf 39 = .ok (.iinc 3 1, 3) := dk_132 3 1 (dk_at dksX0_heatOf_1 17 rfl rfl)
theorem dX0_heatOf_42 : decode cX0_heatOf 42 = .ok (.goto (-38), 3) := dk_167 255 218 (dk_at dksX0_heatOf_1 20 rfl rfl)
theorem dX0_heatOf_45 : decode cX0_heatOf 45 = .ok (.iload_n 2, 1) := dk_28 (dk_at dksX0_heatOf_1 23 rfl rfl)
theorem dX0_heatOf_46 : decode cX0_heatOf 46 = .ok (.ireturn, 1) := dk_172 (dk_at dksX0_heatOf_2 0 rfl rfl)
abbrev cX0_earns : ByteArray := prog_1_method_70_code
def yX0_earns : MethodName := ⟨RX0, "earns", "(I)Z"⟩
def dkwX0_earns_1 : List UInt8 := [172]
abbrev dktX0_earns_1 : List UInt8 := dkwX0_earns_1 ++ []
def dkwX0_earns_0 : List UInt8 := [27, 3, 16, 99, 184, 0, 77, 154, 0, 5, 3, 172, 42, 180, 0, 21, 180, 0, 70, 16, 7, 27, 79, 4]
abbrev dktX0_earns_0 : List UInt8 := dkwX0_earns_0 ++ dktX0_earns_1
theorem dksX0_earns_0 : cX0_earns.data.toList.drop 0 = dktX0_earns_0 := by decide +kernel
theorem dksX0_earns_1 : cX0_earns.data.toList.drop 24 = dktX0_earns_1 := dk_seg dksX0_earns_0 24 rfl rfl
theorem dX0_earns_0 : decode cX0_earns 0 = .ok (.iload_n 1, 1) := dk_27 (dk_at dksX0_earns_0 0 rfl rfl)
theorem dX0_earns_1 : decode cX0_earns 1 = .ok (.iconst 0, 1) := dk_3 (dk_at dksX0_earns_0 1 rfl rfl)
theorem dX0_earns_2 : decode cX0_earns 2 = .ok (.bipush 99, 2) := dk_16 99 (dk_at dksX0_earns_0 2 rfl rfl)
theorem dX0_earns_4 : decode cX0_earns 4 = .ok (.invokestatic 77, 3) := dk_184 0 77 (dk_at dksX0_earns_0 4 rfl rfl)
theorem dX0_earns_7 : decode cX0_earns 7 = .ok (.ifCond .ne 5, 3) := dk_154 0 5 (dk_at dksX0_earns_0 7 rfl rfl)
theorem dX0_earns_10 : decode cX0_earns 10 = .ok (.iconst 0, 1) := dk_3 (dk_at dksX0_earns_0 10 rfl rfl)
theorem dX0_earns_11 : decode cX0_earns 11 = .ok (.ireturn, 1) := dk_172 (dk_at dksX0_earns_0 11 rfl rfl)
theorem dX0_earns_12 : decode cX0_earns 12 = .ok (.aload_n 0, 1) := dk_42 (dk_at dksX0_earns_0 12 rfl rfl)
theorem dX0_earns_13 : decode cX0_earns 13 = .ok (.getfield 21, 3) := dk_180 0 21 (dk_at dksX0_earns_0 13 rfl rfl)
theorem dX0_earns_16 : decode cX0_earns 16 = .ok (.getfield 70, 3) := dk_180 0 70 (dk_at dksX0_earns_0 16 rfl rfl)
theorem dX0_earns_19 : decode cX0_earns 19 = .ok (.bipush 7, 2) := dk_16 7 (dk_at dksX0_earns_0 19 rfl rfl)
theorem dX0_earns_21 : decode cX0_earns 21 = .ok (.iload_n 1, 1) := dk_27 (dk_at dksX0_earns_0 21 rfl rfl)
theorem dX0_earns_22 : decode cX0_earns 22 = .ok (.iastore, 1) := dk_79 (dk_at dksX0_earns_0 22 rfl rfl)
theorem dX0_earns_23 : decode cX0_earns 23 = .ok (.iconst 1, 1) := dk_4 (dk_at dksX0_earns_0 23 rfl rfl)
theorem dX0_earns_24 : decode cX0_earns 24 = .ok (.ireturn, 1) := dk_172 (dk_at dksX0_earns_1 0 rfl rfl)
abbrev cX0_plan : ByteArray := prog_1_method_72_code
def yX0_plan : MethodName := ⟨RX0, "plan", "(II)I"⟩
def dkwX0_plan_4 : List UInt8 := [167, 0, 23, 28, 4, 160, 0, 10, 42, 180, 1, 89, 167, 0, 11, 42, 180, 0, 52, 28, 5, 100, 46, 172]
abbrev dktX0_plan_4 : List UInt8 := dkwX0_plan_4 ++ []
def dkwX0_plan_3 : List UInt8 := [42, 180, 1, 86, 19, 1, 62, 160, 0, 7, 2, 167, 0, 34, 28, 154, 0, 10, 42, 180, 1, 86]
abbrev dktX0_plan_3 : List UInt8 := dkwX0_plan_3 ++ dktX0_plan_4
def dkwX0_plan_2 : List UInt8 := [42, 19, 1, 62, 181, 1, 89, 42, 27, 3, 3, 42, 180, 0, 21, 180, 0, 88, 5, 46, 3, 182, 1, 96]
abbrev dktX0_plan_2 : List UInt8 := dkwX0_plan_2 ++ dktX0_plan_3
def dkwX0_plan_1 : List UInt8 := [8, 163, 0, 14, 28, 3, 4, 29, 96, 184, 0, 77, 154, 0, 5, 2, 172, 42, 19, 1, 62, 181, 1, 86]
abbrev dktX0_plan_1 : List UInt8 := dkwX0_plan_1 ++ dktX0_plan_2
def dkwX0_plan_0 : List UInt8 := [27, 184, 0, 182, 62, 27, 42, 42, 180, 0, 21, 180, 0, 88, 182, 0, 178, 2, 130, 126, 154, 0, 19, 29]
abbrev dktX0_plan_0 : List UInt8 := dkwX0_plan_0 ++ dktX0_plan_1
theorem dksX0_plan_0 : cX0_plan.data.toList.drop 0 = dktX0_plan_0 := by decide +kernel
theorem dksX0_plan_1 : cX0_plan.data.toList.drop 24 = dktX0_plan_1 := dk_seg dksX0_plan_0 24 rfl rfl
theorem dksX0_plan_2 : cX0_plan.data.toList.drop 48 = dktX0_plan_2 := dk_seg dksX0_plan_1 24 rfl rfl
theorem dksX0_plan_3 : cX0_plan.data.toList.drop 72 = dktX0_plan_3 := dk_seg dksX0_plan_2 24 rfl rfl
theorem dksX0_plan_4 : cX0_plan.data.toList.drop 94 = dktX0_plan_4 := dk_seg dksX0_plan_3 22 rfl rfl
theorem dX0_plan_0 : decode cX0_plan 0 = .ok (.iload_n 1, 1) := dk_27 (dk_at dksX0_plan_0 0 rfl rfl)
theorem dX0_plan_1 : decode cX0_plan 1 = .ok (.invokestatic 182, 3) := dk_184 0 182 (dk_at dksX0_plan_0 1 rfl rfl)
theorem dX0_plan_4 : decode cX0_plan 4 = .ok (.istore_n 3, 1) := dk_62 (dk_at dksX0_plan_0 4 rfl rfl)
theorem dX0_plan_5 : decode cX0_plan 5 = .ok (.iload_n 1, 1) := dk_27 (dk_at dksX0_plan_0 5 rfl rfl)
theorem dX0_plan_6 : decode cX0_plan 6 = .ok (.aload_n 0, 1) := dk_42 (dk_at dksX0_plan_0 6 rfl rfl)
theorem dX0_plan_7 : decode cX0_plan 7 = .ok (.aload_n 0, 1) := dk_42 (dk_at dksX0_plan_0 7 rfl rfl)
theorem dX0_plan_8 : decode cX0_plan 8 = .ok (.getfield 21, 3) := dk_180 0 21 (dk_at dksX0_plan_0 8 rfl rfl)
theorem dX0_plan_11 : decode cX0_plan 11 = .ok (.getfield 88, 3) := dk_180 0 88 (dk_at dksX0_plan_0 11 rfl rfl)
theorem dX0_plan_14 : decode cX0_plan 14 = .ok (.invokevirtual 178, 3) := dk_182 0 178 (dk_at dksX0_plan_0 14 rfl rfl)
theorem dX0_plan_17 : decode cX0_plan 17 = .ok (.iconst (-1), 1) := dk_2 (dk_at dksX0_plan_0 17 rfl rfl)
theorem dX0_plan_18 : decode cX0_plan 18 = .ok (.ixor, 1) := dk_130 (dk_at dksX0_plan_0 18 rfl rfl)
theorem dX0_plan_19 : decode cX0_plan 19 = .ok (.iand, 1) := dk_126 (dk_at dksX0_plan_0 19 rfl rfl)
theorem dX0_plan_20 : decode cX0_plan 20 = .ok (.ifCond .ne 19, 3) := dk_154 0 19 (dk_at dksX0_plan_0 20 rfl rfl)
theorem dX0_plan_23 : decode cX0_plan 23 = .ok (.iload_n 3, 1) := dk_29 (dk_at dksX0_plan_0 23 rfl rfl)
theorem dX0_plan_24 : decode cX0_plan 24 = .ok (.iconst 5, 1) := dk_8 (dk_at dksX0_plan_1 0 rfl rfl)
theorem dX0_plan_25 : decode cX0_plan 25 = .ok (.if_icmp .gt 14, 3) := dk_163 0 14 (dk_at dksX0_plan_1 1 rfl rfl)
theorem dX0_plan_28 : decode cX0_plan 28 = .ok (.iload_n 2, 1) := dk_28 (dk_at dksX0_plan_1 4 rfl rfl)
theorem dX0_plan_29 : decode cX0_plan 29 = .ok (.iconst 0, 1) := dk_3 (dk_at dksX0_plan_1 5 rfl rfl)
theorem dX0_plan_30 : decode cX0_plan 30 = .ok (.iconst 1, 1) := dk_4 (dk_at dksX0_plan_1 6 rfl rfl)
theorem dX0_plan_31 : decode cX0_plan 31 = .ok (.iload_n 3, 1) := dk_29 (dk_at dksX0_plan_1 7 rfl rfl)
theorem dX0_plan_32 : decode cX0_plan 32 = .ok (.iadd, 1) := dk_96 (dk_at dksX0_plan_1 8 rfl rfl)
theorem dX0_plan_33 : decode cX0_plan 33 = .ok (.invokestatic 77, 3) := dk_184 0 77 (dk_at dksX0_plan_1 9 rfl rfl)
theorem dX0_plan_36 : decode cX0_plan 36 = .ok (.ifCond .ne 5, 3) := dk_154 0 5 (dk_at dksX0_plan_1 12 rfl rfl)
theorem dX0_plan_39 : decode cX0_plan 39 = .ok (.iconst (-1), 1) := dk_2 (dk_at dksX0_plan_1 15 rfl rfl)
theorem dX0_plan_40 : decode cX0_plan 40 = .ok (.ireturn, 1) := dk_172 (dk_at dksX0_plan_1 16 rfl rfl)
theorem dX0_plan_41 : decode cX0_plan 41 = .ok (.aload_n 0, 1) := dk_42 (dk_at dksX0_plan_1 17 rfl rfl)
theorem dX0_plan_42 : decode cX0_plan 42 = .ok (.ldc_w 318, 3) := dk_19 1 62 (dk_at dksX0_plan_1 18 rfl rfl)
theorem dX0_plan_45 : decode cX0_plan 45 = .ok (.putfield 342, 3) := dk_181 1 86 (dk_at dksX0_plan_1 21 rfl rfl)
theorem dX0_plan_48 : decode cX0_plan 48 = .ok (.aload_n 0, 1) := dk_42 (dk_at dksX0_plan_2 0 rfl rfl)
theorem dX0_plan_49 : decode cX0_plan 49 = .ok (.ldc_w 318, 3) := dk_19 1 62 (dk_at dksX0_plan_2 1 rfl rfl)
theorem dX0_plan_52 : decode cX0_plan 52 = .ok (.putfield 345, 3) := dk_181 1 89 (dk_at dksX0_plan_2 4 rfl rfl)
theorem dX0_plan_55 : decode cX0_plan 55 = .ok (.aload_n 0, 1) := dk_42 (dk_at dksX0_plan_2 7 rfl rfl)
theorem dX0_plan_56 : decode cX0_plan 56 = .ok (.iload_n 1, 1) := dk_27 (dk_at dksX0_plan_2 8 rfl rfl)
theorem dX0_plan_57 : decode cX0_plan 57 = .ok (.iconst 0, 1) := dk_3 (dk_at dksX0_plan_2 9 rfl rfl)
theorem dX0_plan_58 : decode cX0_plan 58 = .ok (.iconst 0, 1) := dk_3 (dk_at dksX0_plan_2 10 rfl rfl)
theorem dX0_plan_59 : decode cX0_plan 59 = .ok (.aload_n 0, 1) := dk_42 (dk_at dksX0_plan_2 11 rfl rfl)
theorem dX0_plan_60 : decode cX0_plan 60 = .ok (.getfield 21, 3) := dk_180 0 21 (dk_at dksX0_plan_2 12 rfl rfl)
theorem dX0_plan_63 : decode cX0_plan 63 = .ok (.getfield 88, 3) := dk_180 0 88 (dk_at dksX0_plan_2 15 rfl rfl)
theorem dX0_plan_66 : decode cX0_plan 66 = .ok (.iconst 2, 1) := dk_5 (dk_at dksX0_plan_2 18 rfl rfl)
theorem dX0_plan_67 : decode cX0_plan 67 = .ok (.iaload, 1) := dk_46 (dk_at dksX0_plan_2 19 rfl rfl)
theorem dX0_plan_68 : decode cX0_plan 68 = .ok (.iconst 0, 1) := dk_3 (dk_at dksX0_plan_2 20 rfl rfl)
theorem dX0_plan_69 : decode cX0_plan 69 = .ok (.invokevirtual 352, 3) := dk_182 1 96 (dk_at dksX0_plan_2 21 rfl rfl)
theorem dX0_plan_72 : decode cX0_plan 72 = .ok (.aload_n 0, 1) := dk_42 (dk_at dksX0_plan_3 0 rfl rfl)
theorem dX0_plan_73 : decode cX0_plan 73 = .ok (.getfield 342, 3) := dk_180 1 86 (dk_at dksX0_plan_3 1 rfl rfl)
theorem dX0_plan_76 : decode cX0_plan 76 = .ok (.ldc_w 318, 3) := dk_19 1 62 (dk_at dksX0_plan_3 4 rfl rfl)
theorem dX0_plan_79 : decode cX0_plan 79 = .ok (.if_icmp .ne 7, 3) := dk_160 0 7 (dk_at dksX0_plan_3 7 rfl rfl)
theorem dX0_plan_82 : decode cX0_plan 82 = .ok (.iconst (-1), 1) := dk_2 (dk_at dksX0_plan_3 10 rfl rfl)
theorem dX0_plan_83 : decode cX0_plan 83 = .ok (.goto 34, 3) := dk_167 0 34 (dk_at dksX0_plan_3 11 rfl rfl)
theorem dX0_plan_86 : decode cX0_plan 86 = .ok (.iload_n 2, 1) := dk_28 (dk_at dksX0_plan_3 14 rfl rfl)
theorem dX0_plan_87 : decode cX0_plan 87 = .ok (.ifCond .ne 10, 3) := dk_154 0 10 (dk_at dksX0_plan_3 15 rfl rfl)
theorem dX0_plan_90 : decode cX0_plan 90 = .ok (.aload_n 0, 1) := dk_42 (dk_at dksX0_plan_3 18 rfl rfl)
theorem dX0_plan_91 : decode cX0_plan 91 = .ok (.getfield 342, 3) := dk_180 1 86 (dk_at dksX0_plan_3 19 rfl rfl)
theorem dX0_plan_94 : decode cX0_plan 94 = .ok (.goto 23, 3) := dk_167 0 23 (dk_at dksX0_plan_4 0 rfl rfl)
theorem dX0_plan_97 : decode cX0_plan 97 = .ok (.iload_n 2, 1) := dk_28 (dk_at dksX0_plan_4 3 rfl rfl)
theorem dX0_plan_98 : decode cX0_plan 98 = .ok (.iconst 1, 1) := dk_4 (dk_at dksX0_plan_4 4 rfl rfl)
theorem dX0_plan_99 : decode cX0_plan 99 = .ok (.if_icmp .ne 10, 3) := dk_160 0 10 (dk_at dksX0_plan_4 5 rfl rfl)
theorem dX0_plan_102 : decode cX0_plan 102 = .ok (.aload_n 0, 1) := dk_42 (dk_at dksX0_plan_4 8 rfl rfl)
theorem dX0_plan_103 : decode cX0_plan 103 = .ok (.getfield 345, 3) := dk_180 1 89 (dk_at dksX0_plan_4 9 rfl rfl)
theorem dX0_plan_106 : decode cX0_plan 106 = .ok (.goto 11, 3) := dk_167 0 11 (dk_at dksX0_plan_4 12 rfl rfl)
theorem dX0_plan_109 : decode cX0_plan 109 = .ok (.aload_n 0, 1) := dk_42 (dk_at dksX0_plan_4 15 rfl rfl)
theorem dX0_plan_110 : decode cX0_plan 110 = .ok (.getfield 52, 3) := dk_180 0 52 (dk_at dksX0_plan_4 16 rfl rfl)
theorem dX0_plan_113 : decode cX0_plan 113 = .ok (.iload_n 2, 1) := dk_28 (dk_at dksX0_plan_4 19 rfl rfl)
theorem dX0_plan_114 : decode cX0_plan 114 = .ok (.iconst 2, 1) := dk_5 (dk_at dksX0_plan_4 20 rfl rfl)
theorem dX0_plan_115 : decode cX0_plan 115 = .ok (.isub, 1) := dk_100 (dk_at dksX0_plan_4 21 rfl rfl)
theorem dX0_plan_116 : decode cX0_plan 116 = .ok (.iaload, 1) := dk_46 (dk_at dksX0_plan_4 22 rfl rfl)
theorem dX0_plan_117 : decode cX0_plan 117 = .ok (.ireturn, 1) := dk_172 (dk_at dksX0_plan_4 23 rfl rfl)
abbrev cX0_plansFrom : ByteArray := prog_1_method_71_code
def yX0_plansFrom : MethodName := ⟨RX0, "plansFrom", "(IIIII)V"⟩
def dkwX0_plansFrom_8 : List UInt8 := [182, 1, 96, 132, 6, 1, 167, 255, 125, 177]
abbrev dktX0_plansFrom_8 : List UInt8 := dkwX0_plansFrom_8 ++ []
def dkwX0_plansFrom_7 : List UInt8 := [27, 4, 21, 6, 120, 2, 130, 126, 28, 4, 96, 21, 7, 21, 8, 21, 9, 100, 21, 5, 21, 9, 96]
abbrev dktX0_plansFrom_7 : List UInt8 := dkwX0_plansFrom_7 ++ dktX0_plansFrom_8
def dkwX0_plansFrom_6 : List UInt8 := [167, 0, 50, 42, 21, 6, 21, 7, 21, 8, 182, 1, 92, 54, 9, 42, 180, 0, 49, 28, 21, 6, 79, 42]
abbrev dktX0_plansFrom_6 : List UInt8 := dkwX0_plansFrom_6 ++ dktX0_plansFrom_7
def dkwX0_plansFrom_5 : List UInt8 := [180, 0, 21, 180, 0, 70, 16, 7, 46, 96, 54, 8, 167, 255, 216, 21, 7, 16, 60, 164, 0, 6]
abbrev dktX0_plansFrom_5 : List UInt8 := dkwX0_plansFrom_5 ++ dktX0_plansFrom_6
def dkwX0_plansFrom_4 : List UInt8 := [163, 0, 39, 21, 8, 42, 21, 6, 21, 7, 21, 8, 182, 1, 92, 162, 0, 24, 132, 7, 1, 21, 8, 42]
abbrev dktX0_plansFrom_4 : List UInt8 := dkwX0_plansFrom_4 ++ dktX0_plansFrom_5
def dkwX0_plansFrom_3 : List UInt8 := [21, 6, 184, 1, 41, 154, 0, 6, 167, 0, 110, 29, 54, 7, 21, 4, 54, 8, 21, 7, 16, 60]
abbrev dktX0_plansFrom_3 : List UInt8 := dkwX0_plansFrom_3 ++ dktX0_plansFrom_4
def dkwX0_plansFrom_2 : List UInt8 := [180, 0, 49, 42, 180, 0, 52, 184, 1, 37, 177, 3, 54, 6, 21, 6, 42, 182, 0, 73, 162, 0, 128, 27]
abbrev dktX0_plansFrom_2 : List UInt8 := dkwX0_plansFrom_2 ++ dktX0_plansFrom_3
def dkwX0_plansFrom_1 : List UInt8 := [161, 0, 8, 27, 154, 0, 4, 177, 27, 154, 0, 26, 42, 29, 181, 1, 86, 42, 21, 5, 181, 1, 89, 42]
abbrev dktX0_plansFrom_1 : List UInt8 := dkwX0_plansFrom_1 ++ dktX0_plansFrom_2
def dkwX0_plansFrom_0 : List UInt8 := [29, 42, 180, 1, 86, 163, 0, 24, 29, 42, 180, 1, 86, 160, 0, 17, 21, 5, 42, 180, 1, 89]
abbrev dktX0_plansFrom_0 : List UInt8 := dkwX0_plansFrom_0 ++ dktX0_plansFrom_1
theorem dksX0_plansFrom_0 : cX0_plansFrom.data.toList.drop 0 = dktX0_plansFrom_0 := by decide +kernel
theorem dksX0_plansFrom_1 : cX0_plansFrom.data.toList.drop 22 = dktX0_plansFrom_1 := dk_seg dksX0_plansFrom_0 22 rfl rfl
theorem dksX0_plansFrom_2 : cX0_plansFrom.data.toList.drop 46 = dktX0_plansFrom_2 := dk_seg dksX0_plansFrom_1 24 rfl rfl
theorem dksX0_plansFrom_3 : cX0_plansFrom.data.toList.drop 70 = dktX0_plansFrom_3 := dk_seg dksX0_plansFrom_2 24 rfl rfl
theorem dksX0_plansFrom_4 : cX0_plansFrom.data.toList.drop 92 = dktX0_plansFrom_4 := dk_seg dksX0_plansFrom_3 22 rfl rfl
theorem dksX0_plansFrom_5 : cX0_plansFrom.data.toList.drop 116 = dktX0_plansFrom_5 := dk_seg dksX0_plansFrom_4 24 rfl rfl
theorem dksX0_plansFrom_6 : cX0_plansFrom.data.toList.drop 138 = dktX0_plansFrom_6 := dk_seg dksX0_plansFrom_5 22 rfl rfl
theorem dksX0_plansFrom_7 : cX0_plansFrom.data.toList.drop 162 = dktX0_plansFrom_7 := dk_seg dksX0_plansFrom_6 24 rfl rfl
theorem dksX0_plansFrom_8 : cX0_plansFrom.data.toList.drop 185 = dktX0_plansFrom_8 := dk_seg dksX0_plansFrom_7 23 rfl rfl
theorem dX0_plansFrom_0 : decode cX0_plansFrom 0 = .ok (.iload_n 3, 1) := dk_29 (dk_at dksX0_plansFrom_0 0 rfl rfl)
theorem dX0_plansFrom_1 : decode cX0_plansFrom 1 = .ok (.aload_n 0, 1) := dk_42 (dk_at dksX0_plansFrom_0 1 rfl rfl)
theorem dX0_plansFrom_2 : decode cX0_plansFrom 2 = .ok (.getfield 342, 3) := dk_180 1 86 (dk_at dksX0_plansFrom_0 2 rfl rfl)
theorem dX0_plansFrom_5 : decode cX0_plansFrom 5 = .ok (.if_icmp .gt 24, 3) := dk_163 0 24 (dk_at dksX0_plansFrom_0 5 rfl rfl)
theorem dX0_plansFrom_8 : decode cX0_plansFrom 8 = .ok (.iload_n 3, 1) := dk_29 (dk_at dksX0_plansFrom_0 8 rfl rfl)
theorem dX0_plansFrom_9 : decode cX0_plansFrom 9 = .ok (.aload_n 0, 1) := dk_42 (dk_at dksX0_plansFrom_0 9 rfl rfl)
theorem dX0_plansFrom_10 : decode cX0_plansFrom 10 = .ok (.getfield 342, 3) := dk_180 1 86 (dk_at dksX0_plansFrom_0 10 rfl rfl)
theorem dX0_plansFrom_13 : decode cX0_plansFrom 13 = .ok (.if_icmp .ne 17, 3) := dk_160 0 17 (dk_at dksX0_plansFrom_0 13 rfl rfl)
theorem dX0_plansFrom_16 : decode cX0_plansFrom 16 = .ok (.iload 5, 2) := dk_21 5 (dk_at dksX0_plansFrom_0 16 rfl rfl)
theorem dX0_plansFrom_18 : decode cX0_plansFrom 18 = .ok (.aload_n 0, 1) := dk_42 (dk_at dksX0_plansFrom_0 18 rfl rfl)
theorem dX0_plansFrom_19 : decode cX0_plansFrom 19 = .ok (.getfield 345, 3) := dk_180 1 89 (dk_at dksX0_plansFrom_0 19 rfl rfl)
theorem dX0_plansFrom_22 : decode cX0_plansFrom 22 = .ok (.if_icmp .lt 8, 3) := dk_161 0 8 (dk_at dksX0_plansFrom_1 0 rfl rfl)
theorem dX0_plansFrom_25 : decode cX0_plansFrom 25 = .ok (.iload_n 1, 1) := dk_27 (dk_at dksX0_plansFrom_1 3 rfl rfl)
theorem dX0_plansFrom_26 : decode cX0_plansFrom 26 = .ok (.ifCond .ne 4, 3) := dk_154 0 4 (dk_at dksX0_plansFrom_1 4 rfl rfl)
theorem dX0_plansFrom_29 : decode cX0_plansFrom 29 = .ok (.return_, 1) := dk_177 (dk_at dksX0_plansFrom_1 7 rfl rfl)
theorem dX0_plansFrom_30 : decode cX0_plansFrom 30 = .ok (.iload_n 1, 1) := dk_27 (dk_at dksX0_plansFrom_1 8 rfl rfl)
theorem dX0_plansFrom_31 : decode cX0_plansFrom 31 = .ok (.ifCond .ne 26, 3) := dk_154 0 26 (dk_at dksX0_plansFrom_1 9 rfl rfl)
theorem dX0_plansFrom_34 : decode cX0_plansFrom 34 = .ok (.aload_n 0, 1) := dk_42 (dk_at dksX0_plansFrom_1 12 rfl rfl)
theorem dX0_plansFrom_35 : decode cX0_plansFrom 35 = .ok (.iload_n 3, 1) := dk_29 (dk_at dksX0_plansFrom_1 13 rfl rfl)
theorem dX0_plansFrom_36 : decode cX0_plansFrom 36 = .ok (.putfield 342, 3) := dk_181 1 86 (dk_at dksX0_plansFrom_1 14 rfl rfl)
theorem dX0_plansFrom_39 : decode cX0_plansFrom 39 = .ok (.aload_n 0, 1) := dk_42 (dk_at dksX0_plansFrom_1 17 rfl rfl)
theorem dX0_plansFrom_40 : decode cX0_plansFrom 40 = .ok (.iload 5, 2) := dk_21 5 (dk_at dksX0_plansFrom_1 18 rfl rfl)
theorem dX0_plansFrom_42 : decode cX0_plansFrom 42 = .ok (.putfield 345, 3) := dk_181 1 89 (dk_at dksX0_plansFrom_1 20 rfl rfl)
theorem dX0_plansFrom_45 : decode cX0_plansFrom 45 = .ok (.aload_n 0, 1) := dk_42 (dk_at dksX0_plansFrom_1 23 rfl rfl)
theorem dX0_plansFrom_46 : decode cX0_plansFrom 46 = .ok (.getfield 49, 3) := dk_180 0 49 (dk_at dksX0_plansFrom_2 0 rfl rfl)
theorem dX0_plansFrom_49 : decode cX0_plansFrom 49 = .ok (.aload_n 0, 1) := dk_42 (dk_at dksX0_plansFrom_2 3 rfl rfl)
theorem dX0_plansFrom_50 : decode cX0_plansFrom 50 = .ok (.getfield 52, 3) := dk_180 0 52 (dk_at dksX0_plansFrom_2 4 rfl rfl)
theorem dX0_plansFrom_53 : decode cX0_plansFrom 53 = .ok (.invokestatic 293, 3) := dk_184 1 37 (dk_at dksX0_plansFrom_2 7 rfl rfl)
theorem dX0_plansFrom_56 : decode cX0_plansFrom 56 = .ok (.return_, 1) := dk_177 (dk_at dksX0_plansFrom_2 10 rfl rfl)
theorem dX0_plansFrom_57 : decode cX0_plansFrom 57 = .ok (.iconst 0, 1) := dk_3 (dk_at dksX0_plansFrom_2 11 rfl rfl)
theorem dX0_plansFrom_58 : decode cX0_plansFrom 58 = .ok (.istore 6, 2) := dk_54 6 (dk_at dksX0_plansFrom_2 12 rfl rfl)
theorem dX0_plansFrom_60 : decode cX0_plansFrom 60 = .ok (.iload 6, 2) := dk_21 6 (dk_at dksX0_plansFrom_2 14 rfl rfl)
theorem dX0_plansFrom_62 : decode cX0_plansFrom 62 = .ok (.aload_n 0, 1) := dk_42 (dk_at dksX0_plansFrom_2 16 rfl rfl)
theorem dX0_plansFrom_63 : decode cX0_plansFrom 63 = .ok (.invokevirtual 73, 3) := dk_182 0 73 (dk_at dksX0_plansFrom_2 17 rfl rfl)
theorem dX0_plansFrom_66 : decode cX0_plansFrom 66 = .ok (.if_icmp .ge 128, 3) := dk_162 0 128 (dk_at dksX0_plansFrom_2 20 rfl rfl)
theorem dX0_plansFrom_69 : decode cX0_plansFrom 69 = .ok (.iload_n 1, 1) := dk_27 (dk_at dksX0_plansFrom_2 23 rfl rfl)
theorem dX0_plansFrom_70 : decode cX0_plansFrom 70 = .ok (.iload 6, 2) := dk_21 6 (dk_at dksX0_plansFrom_3 0 rfl rfl)
theorem dX0_plansFrom_72 : decode cX0_plansFrom 72 = .ok (.invokestatic 297, 3) := dk_184 1 41 (dk_at dksX0_plansFrom_3 2 rfl rfl)
theorem dX0_plansFrom_75 : decode cX0_plansFrom 75 = .ok (.ifCond .ne 6, 3) := dk_154 0 6 (dk_at dksX0_plansFrom_3 5 rfl rfl)
theorem dX0_plansFrom_78 : decode cX0_plansFrom 78 = .ok (.goto 110, 3) := dk_167 0 110 (dk_at dksX0_plansFrom_3 8 rfl rfl)
theorem dX0_plansFrom_81 : decode cX0_plansFrom 81 = .ok (.iload_n 3, 1) := dk_29 (dk_at dksX0_plansFrom_3 11 rfl rfl)
theorem dX0_plansFrom_82 : decode cX0_plansFrom 82 = .ok (.istore 7, 2) := dk_54 7 (dk_at dksX0_plansFrom_3 12 rfl rfl)
theorem dX0_plansFrom_84 : decode cX0_plansFrom 84 = .ok (.iload 4, 2) := dk_21 4 (dk_at dksX0_plansFrom_3 14 rfl rfl)
theorem dX0_plansFrom_86 : decode cX0_plansFrom 86 = .ok (.istore 8, 2) := dk_54 8 (dk_at dksX0_plansFrom_3 16 rfl rfl)
theorem dX0_plansFrom_88 : decode cX0_plansFrom 88 = .ok (.iload 7, 2) := dk_21 7 (dk_at dksX0_plansFrom_3 18 rfl rfl)
theorem dX0_plansFrom_90 : decode cX0_plansFrom 90 = .ok (.bipush 60, 2) := dk_16 60 (dk_at dksX0_plansFrom_3 20 rfl rfl)
theorem dX0_plansFrom_92 : decode cX0_plansFrom 92 = .ok (.if_icmp .gt 39, 3) := dk_163 0 39 (dk_at dksX0_plansFrom_4 0 rfl rfl)
theorem dX0_plansFrom_95 : decode cX0_plansFrom 95 = .ok (.iload 8, 2) := dk_21 8 (dk_at dksX0_plansFrom_4 3 rfl rfl)
theorem dX0_plansFrom_97 : decode cX0_plansFrom 97 = .ok (.aload_n 0, 1) := dk_42 (dk_at dksX0_plansFrom_4 5 rfl rfl)
theorem dX0_plansFrom_98 : decode cX0_plansFrom 98 = .ok (.iload 6, 2) := dk_21 6 (dk_at dksX0_plansFrom_4 6 rfl rfl)
theorem dX0_plansFrom_100 : decode cX0_plansFrom 100 = .ok (.iload 7, 2) := dk_21 7 (dk_at dksX0_plansFrom_4 8 rfl rfl)
theorem dX0_plansFrom_102 : decode cX0_plansFrom 102 = .ok (.iload 8, 2) := dk_21 8 (dk_at dksX0_plansFrom_4 10 rfl rfl)
theorem dX0_plansFrom_104 : decode cX0_plansFrom 104 = .ok (.invokevirtual 348, 3) := dk_182 1 92 (dk_at dksX0_plansFrom_4 12 rfl rfl)
theorem dX0_plansFrom_107 : decode cX0_plansFrom 107 = .ok (.if_icmp .ge 24, 3) := dk_162 0 24 (dk_at dksX0_plansFrom_4 15 rfl rfl)
theorem dX0_plansFrom_110 : decode cX0_plansFrom 110 = .ok (.iinc 7 1, 3) := dk_132 7 1 (dk_at dksX0_plansFrom_4 18 rfl rfl)
theorem dX0_plansFrom_113 : decode cX0_plansFrom 113 = .ok (.iload 8, 2) := dk_21 8 (dk_at dksX0_plansFrom_4 21 rfl rfl)
theorem dX0_plansFrom_115 : decode cX0_plansFrom 115 = .ok (.aload_n 0, 1) := dk_42 (dk_at dksX0_plansFrom_4 23 rfl rfl)
theorem dX0_plansFrom_116 : decode cX0_plansFrom 116 = .ok (.getfield 21, 3) := dk_180 0 21 (dk_at dksX0_plansFrom_5 0 rfl rfl)
theorem dX0_plansFrom_119 : decode cX0_plansFrom 119 = .ok (.getfield 70, 3) := dk_180 0 70 (dk_at dksX0_plansFrom_5 3 rfl rfl)
theorem dX0_plansFrom_122 : decode cX0_plansFrom 122 = .ok (.bipush 7, 2) := dk_16 7 (dk_at dksX0_plansFrom_5 6 rfl rfl)
theorem dX0_plansFrom_124 : decode cX0_plansFrom 124 = .ok (.iaload, 1) := dk_46 (dk_at dksX0_plansFrom_5 8 rfl rfl)
theorem dX0_plansFrom_125 : decode cX0_plansFrom 125 = .ok (.iadd, 1) := dk_96 (dk_at dksX0_plansFrom_5 9 rfl rfl)
theorem dX0_plansFrom_126 : decode cX0_plansFrom 126 = .ok (.istore 8, 2) := dk_54 8 (dk_at dksX0_plansFrom_5 10 rfl rfl)
theorem dX0_plansFrom_128 : decode cX0_plansFrom 128 = .ok (.goto (-40), 3) := dk_167 255 216 (dk_at dksX0_plansFrom_5 12 rfl rfl)
theorem dX0_plansFrom_131 : decode cX0_plansFrom 131 = .ok (.iload 7, 2) := dk_21 7 (dk_at dksX0_plansFrom_5 15 rfl rfl)
theorem dX0_plansFrom_133 : decode cX0_plansFrom 133 = .ok (.bipush 60, 2) := dk_16 60 (dk_at dksX0_plansFrom_5 17 rfl rfl)
theorem dX0_plansFrom_135 : decode cX0_plansFrom 135 = .ok (.if_icmp .le 6, 3) := dk_164 0 6 (dk_at dksX0_plansFrom_5 19 rfl rfl)
theorem dX0_plansFrom_138 : decode cX0_plansFrom 138 = .ok (.goto 50, 3) := dk_167 0 50 (dk_at dksX0_plansFrom_6 0 rfl rfl)
theorem dX0_plansFrom_141 : decode cX0_plansFrom 141 = .ok (.aload_n 0, 1) := dk_42 (dk_at dksX0_plansFrom_6 3 rfl rfl)
theorem dX0_plansFrom_142 : decode cX0_plansFrom 142 = .ok (.iload 6, 2) := dk_21 6 (dk_at dksX0_plansFrom_6 4 rfl rfl)
theorem dX0_plansFrom_144 : decode cX0_plansFrom 144 = .ok (.iload 7, 2) := dk_21 7 (dk_at dksX0_plansFrom_6 6 rfl rfl)
theorem dX0_plansFrom_146 : decode cX0_plansFrom 146 = .ok (.iload 8, 2) := dk_21 8 (dk_at dksX0_plansFrom_6 8 rfl rfl)
theorem dX0_plansFrom_148 : decode cX0_plansFrom 148 = .ok (.invokevirtual 348, 3) := dk_182 1 92 (dk_at dksX0_plansFrom_6 10 rfl rfl)
theorem dX0_plansFrom_151 : decode cX0_plansFrom 151 = .ok (.istore 9, 2) := dk_54 9 (dk_at dksX0_plansFrom_6 13 rfl rfl)
theorem dX0_plansFrom_153 : decode cX0_plansFrom 153 = .ok (.aload_n 0, 1) := dk_42 (dk_at dksX0_plansFrom_6 15 rfl rfl)
theorem dX0_plansFrom_154 : decode cX0_plansFrom 154 = .ok (.getfield 49, 3) := dk_180 0 49 (dk_at dksX0_plansFrom_6 16 rfl rfl)
theorem dX0_plansFrom_157 : decode cX0_plansFrom 157 = .ok (.iload_n 2, 1) := dk_28 (dk_at dksX0_plansFrom_6 19 rfl rfl)
theorem dX0_plansFrom_158 : decode cX0_plansFrom 158 = .ok (.iload 6, 2) := dk_21 6 (dk_at dksX0_plansFrom_6 20 rfl rfl)
theorem dX0_plansFrom_160 : decode cX0_plansFrom 160 = .ok (.iastore, 1) := dk_79 (dk_at dksX0_plansFrom_6 22 rfl rfl)
theorem dX0_plansFrom_161 : decode cX0_plansFrom 161 = .ok (.aload_n 0, 1) := dk_42 (dk_at dksX0_plansFrom_6 23 rfl rfl)
theorem dX0_plansFrom_162 : decode cX0_plansFrom 162 = .ok (.iload_n 1, 1) := dk_27 (dk_at dksX0_plansFrom_7 0 rfl rfl)
theorem dX0_plansFrom_163 : decode cX0_plansFrom 163 = .ok (.iconst 1, 1) := dk_4 (dk_at dksX0_plansFrom_7 1 rfl rfl)
theorem dX0_plansFrom_164 : decode cX0_plansFrom 164 = .ok (.iload 6, 2) := dk_21 6 (dk_at dksX0_plansFrom_7 2 rfl rfl)
theorem dX0_plansFrom_166 : decode cX0_plansFrom 166 = .ok (.ishl, 1) := dk_120 (dk_at dksX0_plansFrom_7 4 rfl rfl)
theorem dX0_plansFrom_167 : decode cX0_plansFrom 167 = .ok (.iconst (-1), 1) := dk_2 (dk_at dksX0_plansFrom_7 5 rfl rfl)
theorem dX0_plansFrom_168 : decode cX0_plansFrom 168 = .ok (.ixor, 1) := dk_130 (dk_at dksX0_plansFrom_7 6 rfl rfl)
theorem dX0_plansFrom_169 : decode cX0_plansFrom 169 = .ok (.iand, 1) := dk_126 (dk_at dksX0_plansFrom_7 7 rfl rfl)
theorem dX0_plansFrom_170 : decode cX0_plansFrom 170 = .ok (.iload_n 2, 1) := dk_28 (dk_at dksX0_plansFrom_7 8 rfl rfl)
theorem dX0_plansFrom_171 : decode cX0_plansFrom 171 = .ok (.iconst 1, 1) := dk_4 (dk_at dksX0_plansFrom_7 9 rfl rfl)
theorem dX0_plansFrom_172 : decode cX0_plansFrom 172 = .ok (.iadd, 1) := dk_96 (dk_at dksX0_plansFrom_7 10 rfl rfl)
theorem dX0_plansFrom_173 : decode cX0_plansFrom 173 = .ok (.iload 7, 2) := dk_21 7 (dk_at dksX0_plansFrom_7 11 rfl rfl)
theorem dX0_plansFrom_175 : decode cX0_plansFrom 175 = .ok (.iload 8, 2) := dk_21 8 (dk_at dksX0_plansFrom_7 13 rfl rfl)
theorem dX0_plansFrom_177 : decode cX0_plansFrom 177 = .ok (.iload 9, 2) := dk_21 9 (dk_at dksX0_plansFrom_7 15 rfl rfl)
theorem dX0_plansFrom_179 : decode cX0_plansFrom 179 = .ok (.isub, 1) := dk_100 (dk_at dksX0_plansFrom_7 17 rfl rfl)
theorem dX0_plansFrom_180 : decode cX0_plansFrom 180 = .ok (.iload 5, 2) := dk_21 5 (dk_at dksX0_plansFrom_7 18 rfl rfl)
theorem dX0_plansFrom_182 : decode cX0_plansFrom 182 = .ok (.iload 9, 2) := dk_21 9 (dk_at dksX0_plansFrom_7 20 rfl rfl)
theorem dX0_plansFrom_184 : decode cX0_plansFrom 184 = .ok (.iadd, 1) := dk_96 (dk_at dksX0_plansFrom_7 22 rfl rfl)
theorem dX0_plansFrom_185 : decode cX0_plansFrom 185 = .ok (.invokevirtual 352, 3) := dk_182 1 96 (dk_at dksX0_plansFrom_8 0 rfl rfl)
theorem dX0_plansFrom_188 : decode cX0_plansFrom 188 = .ok (.iinc 6 1, 3) := dk_132 6 1 (dk_at dksX0_plansFrom_8 3 rfl rfl)
theorem dX0_plansFrom_191 : decode cX0_plansFrom 191 = .ok (.goto (-131), 3) := dk_167 255 125 (dk_at dksX0_plansFrom_8 6 rfl rfl)
theorem dX0_plansFrom_194 : decode cX0_plansFrom 194 = .ok (.return_, 1) := dk_177 (dk_at dksX0_plansFrom_8 9 rfl rfl)
abbrev cX0_duesLater : ByteArray := prog_1_method_23_code
def yX0_duesLater : MethodName := ⟨RX0, "duesLater", "(III)I"⟩
def dkwX0_duesLater_1 : List UInt8 := [180, 0, 39, 8, 92, 46, 28, 96, 79, 42, 42, 182, 0, 175, 29, 182, 0, 171, 172]
abbrev dktX0_duesLater_1 : List UInt8 := dkwX0_duesLater_1 ++ []
def dkwX0_duesLater_0 : List UInt8 := [42, 42, 180, 0, 21, 180, 0, 88, 27, 182, 0, 167, 42, 180, 0, 39, 3, 92, 46, 28, 96, 79, 42]
abbrev dktX0_duesLater_0 : List UInt8 := dkwX0_duesLater_0 ++ dktX0_duesLater_1
theorem dksX0_duesLater_0 : cX0_duesLater.data.toList.drop 0 = dktX0_duesLater_0 := by decide +kernel
theorem dksX0_duesLater_1 : cX0_duesLater.data.toList.drop 23 = dktX0_duesLater_1 := dk_seg dksX0_duesLater_0 23 rfl rfl
theorem dX0_duesLater_0 : decode cX0_duesLater 0 = .ok (.aload_n 0, 1) := dk_42 (dk_at dksX0_duesLater_0 0 rfl rfl)
theorem dX0_duesLater_1 : decode cX0_duesLater 1 = .ok (.aload_n 0, 1) := dk_42 (dk_at dksX0_duesLater_0 1 rfl rfl)
theorem dX0_duesLater_2 : decode cX0_duesLater 2 = .ok (.getfield 21, 3) := dk_180 0 21 (dk_at dksX0_duesLater_0 2 rfl rfl)
theorem dX0_duesLater_5 : decode cX0_duesLater 5 = .ok (.getfield 88, 3) := dk_180 0 88 (dk_at dksX0_duesLater_0 5 rfl rfl)
theorem dX0_duesLater_8 : decode cX0_duesLater 8 = .ok (.iload_n 1, 1) := dk_27 (dk_at dksX0_duesLater_0 8 rfl rfl)
theorem dX0_duesLater_9 : decode cX0_duesLater 9 = .ok (.invokevirtual 167, 3) := dk_182 0 167 (dk_at dksX0_duesLater_0 9 rfl rfl)
theorem dX0_duesLater_12 : decode cX0_duesLater 12 = .ok (.aload_n 0, 1) := dk_42 (dk_at dksX0_duesLater_0 12 rfl rfl)
theorem dX0_duesLater_13 : decode cX0_duesLater 13 = .ok (.getfield 39, 3) := dk_180 0 39 (dk_at dksX0_duesLater_0 13 rfl rfl)
theorem dX0_duesLater_16 : decode cX0_duesLater 16 = .ok (.iconst 0, 1) := dk_3 (dk_at dksX0_duesLater_0 16 rfl rfl)
theorem dX0_duesLater_17 : decode cX0_duesLater 17 = .ok (.dup2, 1) := dk_92 (dk_at dksX0_duesLater_0 17 rfl rfl)
theorem dX0_duesLater_18 : decode cX0_duesLater 18 = .ok (.iaload, 1) := dk_46 (dk_at dksX0_duesLater_0 18 rfl rfl)
theorem dX0_duesLater_19 : decode cX0_duesLater 19 = .ok (.iload_n 2, 1) := dk_28 (dk_at dksX0_duesLater_0 19 rfl rfl)
theorem dX0_duesLater_20 : decode cX0_duesLater 20 = .ok (.iadd, 1) := dk_96 (dk_at dksX0_duesLater_0 20 rfl rfl)
theorem dX0_duesLater_21 : decode cX0_duesLater 21 = .ok (.iastore, 1) := dk_79 (dk_at dksX0_duesLater_0 21 rfl rfl)
theorem dX0_duesLater_22 : decode cX0_duesLater 22 = .ok (.aload_n 0, 1) := dk_42 (dk_at dksX0_duesLater_0 22 rfl rfl)
theorem dX0_duesLater_23 : decode cX0_duesLater 23 = .ok (.getfield 39, 3) := dk_180 0 39 (dk_at dksX0_duesLater_1 0 rfl rfl)
theorem dX0_duesLater_26 : decode cX0_duesLater 26 = .ok (.iconst 5, 1) := dk_8 (dk_at dksX0_duesLater_1 3 rfl rfl)
theorem dX0_duesLater_27 : decode cX0_duesLater 27 = .ok (.dup2, 1) := dk_92 (dk_at dksX0_duesLater_1 4 rfl rfl)
theorem dX0_duesLater_28 : decode cX0_duesLater 28 = .ok (.iaload, 1) := dk_46 (dk_at dksX0_duesLater_1 5 rfl rfl)
theorem dX0_duesLater_29 : decode cX0_duesLater 29 = .ok (.iload_n 2, 1) := dk_28 (dk_at dksX0_duesLater_1 6 rfl rfl)
theorem dX0_duesLater_30 : decode cX0_duesLater 30 = .ok (.iadd, 1) := dk_96 (dk_at dksX0_duesLater_1 7 rfl rfl)
theorem dX0_duesLater_31 : decode cX0_duesLater 31 = .ok (.iastore, 1) := dk_79 (dk_at dksX0_duesLater_1 8 rfl rfl)
theorem dX0_duesLater_32 : decode cX0_duesLater 32 = .ok (.aload_n 0, 1) := dk_42 (dk_at dksX0_duesLater_1 9 rfl rfl)
theorem dX0_duesLater_33 : decode cX0_duesLater 33 = .ok (.aload_n 0, 1) := dk_42 (dk_at dksX0_duesLater_1 10 rfl rfl)
theorem dX0_duesLater_34 : decode cX0_duesLater 34 = .ok (.invokevirtual 175, 3) := dk_182 0 175 (dk_at dksX0_duesLater_1 11 rfl rfl)
theorem dX0_duesLater_37 : decode cX0_duesLater 37 = .ok (.iload_n 3, 1) := dk_29 (dk_at dksX0_duesLater_1 14 rfl rfl)
theorem dX0_duesLater_38 : decode cX0_duesLater 38 = .ok (.invokevirtual 171, 3) := dk_182 0 171 (dk_at dksX0_duesLater_1 15 rfl rfl)
theorem dX0_duesLater_41 : decode cX0_duesLater 41 = .ok (.ireturn, 1) := dk_172 (dk_at dksX0_duesLater_1 18 rfl rfl)
abbrev cX0_best : ByteArray := prog_1_method_73_code
def yX0_best : MethodName := ⟨RX0, "best", "(IIZ)I"⟩
def dkwX0_best_4 : List UInt8 := [180, 0, 88, 5, 46, 182, 1, 92, 172]
abbrev dktX0_best_4 : List UInt8 := dkwX0_best_4 ++ []
def dkwX0_best_3 : List UInt8 := [132, 5, 1, 167, 255, 208, 29, 153, 0, 8, 21, 4, 167, 0, 19, 42, 27, 21, 4, 42, 180, 0, 21]
abbrev dktX0_best_3 : List UInt8 := dkwX0_best_3 ++ dktX0_best_4
def dkwX0_best_2 : List UInt8 := [42, 27, 21, 4, 42, 180, 0, 21, 180, 0, 88, 5, 46, 182, 1, 92, 162, 0, 7, 21, 5, 54, 4]
abbrev dktX0_best_2 : List UInt8 := dkwX0_best_2 ++ dktX0_best_3
def dkwX0_best_1 : List UInt8 := [54, 5, 21, 5, 28, 163, 0, 48, 42, 27, 21, 5, 42, 180, 0, 21, 180, 0, 88, 5, 46, 182, 1, 92]
abbrev dktX0_best_1 : List UInt8 := dkwX0_best_1 ++ dktX0_best_2
def dkwX0_best_0 : List UInt8 := [42, 27, 182, 0, 195, 153, 0, 13, 28, 3, 16, 60, 184, 0, 77, 154, 0, 5, 2, 172, 3, 54, 4, 4]
abbrev dktX0_best_0 : List UInt8 := dkwX0_best_0 ++ dktX0_best_1
theorem dksX0_best_0 : cX0_best.data.toList.drop 0 = dktX0_best_0 := by decide +kernel
theorem dksX0_best_1 : cX0_best.data.toList.drop 24 = dktX0_best_1 := dk_seg dksX0_best_0 24 rfl rfl
theorem dksX0_best_2 : cX0_best.data.toList.drop 48 = dktX0_best_2 := dk_seg dksX0_best_1 24 rfl rfl
theorem dksX0_best_3 : cX0_best.data.toList.drop 71 = dktX0_best_3 := dk_seg dksX0_best_2 23 rfl rfl
theorem dksX0_best_4 : cX0_best.data.toList.drop 94 = dktX0_best_4 := dk_seg dksX0_best_3 23 rfl rfl
theorem dX0_best_0 : decode cX0_best 0 = .ok (.aload_n 0, 1) := dk_42 (dk_at dksX0_best_0 0 rfl rfl)
theorem dX0_best_1 : decode cX0_best 1 = .ok (.iload_n 1, 1) := dk_27 (dk_at dksX0_best_0 1 rfl rfl)
theorem dX0_best_2 : decode cX0_best 2 = .ok (.invokevirtual 195, 3) := dk_182 0 195 (dk_at dksX0_best_0 2 rfl rfl)
theorem dX0_best_5 : decode cX0_best 5 = .ok (.ifCond .eq 13, 3) := dk_153 0 13 (dk_at dksX0_best_0 5 rfl rfl)
theorem dX0_best_8 : decode cX0_best 8 = .ok (.iload_n 2, 1) := dk_28 (dk_at dksX0_best_0 8 rfl rfl)
theorem dX0_best_9 : decode cX0_best 9 = .ok (.iconst 0, 1) := dk_3 (dk_at dksX0_best_0 9 rfl rfl)
theorem dX0_best_10 : decode cX0_best 10 = .ok (.bipush 60, 2) := dk_16 60 (dk_at dksX0_best_0 10 rfl rfl)
theorem dX0_best_12 : decode cX0_best 12 = .ok (.invokestatic 77, 3) := dk_184 0 77 (dk_at dksX0_best_0 12 rfl rfl)
theorem dX0_best_15 : decode cX0_best 15 = .ok (.ifCond .ne 5, 3) := dk_154 0 5 (dk_at dksX0_best_0 15 rfl rfl)
theorem dX0_best_18 : decode cX0_best 18 = .ok (.iconst (-1), 1) := dk_2 (dk_at dksX0_best_0 18 rfl rfl)
theorem dX0_best_19 : decode cX0_best 19 = .ok (.ireturn, 1) := dk_172 (dk_at dksX0_best_0 19 rfl rfl)
theorem dX0_best_20 : decode cX0_best 20 = .ok (.iconst 0, 1) := dk_3 (dk_at dksX0_best_0 20 rfl rfl)
theorem dX0_best_21 : decode cX0_best 21 = .ok (.istore 4, 2) := dk_54 4 (dk_at dksX0_best_0 21 rfl rfl)
theorem dX0_best_23 : decode cX0_best 23 = .ok (.iconst 1, 1) := dk_4 (dk_at dksX0_best_0 23 rfl rfl)
theorem dX0_best_24 : decode cX0_best 24 = .ok (.istore 5, 2) := dk_54 5 (dk_at dksX0_best_1 0 rfl rfl)
theorem dX0_best_26 : decode cX0_best 26 = .ok (.iload 5, 2) := dk_21 5 (dk_at dksX0_best_1 2 rfl rfl)
theorem dX0_best_28 : decode cX0_best 28 = .ok (.iload_n 2, 1) := dk_28 (dk_at dksX0_best_1 4 rfl rfl)
theorem dX0_best_29 : decode cX0_best 29 = .ok (.if_icmp .gt 48, 3) := dk_163 0 48 (dk_at dksX0_best_1 5 rfl rfl)
theorem dX0_best_32 : decode cX0_best 32 = .ok (.aload_n 0, 1) := dk_42 (dk_at dksX0_best_1 8 rfl rfl)
theorem dX0_best_33 : decode cX0_best 33 = .ok (.iload_n 1, 1) := dk_27 (dk_at dksX0_best_1 9 rfl rfl)
theorem dX0_best_34 : decode cX0_best 34 = .ok (.iload 5, 2) := dk_21 5 (dk_at dksX0_best_1 10 rfl rfl)
theorem dX0_best_36 : decode cX0_best 36 = .ok (.aload_n 0, 1) := dk_42 (dk_at dksX0_best_1 12 rfl rfl)
theorem dX0_best_37 : decode cX0_best 37 = .ok (.getfield 21, 3) := dk_180 0 21 (dk_at dksX0_best_1 13 rfl rfl)
theorem dX0_best_40 : decode cX0_best 40 = .ok (.getfield 88, 3) := dk_180 0 88 (dk_at dksX0_best_1 16 rfl rfl)
theorem dX0_best_43 : decode cX0_best 43 = .ok (.iconst 2, 1) := dk_5 (dk_at dksX0_best_1 19 rfl rfl)
theorem dX0_best_44 : decode cX0_best 44 = .ok (.iaload, 1) := dk_46 (dk_at dksX0_best_1 20 rfl rfl)
theorem dX0_best_45 : decode cX0_best 45 = .ok (.invokevirtual 348, 3) := dk_182 1 92 (dk_at dksX0_best_1 21 rfl rfl)
theorem dX0_best_48 : decode cX0_best 48 = .ok (.aload_n 0, 1) := dk_42 (dk_at dksX0_best_2 0 rfl rfl)
theorem dX0_best_49 : decode cX0_best 49 = .ok (.iload_n 1, 1) := dk_27 (dk_at dksX0_best_2 1 rfl rfl)
theorem dX0_best_50 : decode cX0_best 50 = .ok (.iload 4, 2) := dk_21 4 (dk_at dksX0_best_2 2 rfl rfl)
theorem dX0_best_52 : decode cX0_best 52 = .ok (.aload_n 0, 1) := dk_42 (dk_at dksX0_best_2 4 rfl rfl)
theorem dX0_best_53 : decode cX0_best 53 = .ok (.getfield 21, 3) := dk_180 0 21 (dk_at dksX0_best_2 5 rfl rfl)
theorem dX0_best_56 : decode cX0_best 56 = .ok (.getfield 88, 3) := dk_180 0 88 (dk_at dksX0_best_2 8 rfl rfl)
theorem dX0_best_59 : decode cX0_best 59 = .ok (.iconst 2, 1) := dk_5 (dk_at dksX0_best_2 11 rfl rfl)
theorem dX0_best_60 : decode cX0_best 60 = .ok (.iaload, 1) := dk_46 (dk_at dksX0_best_2 12 rfl rfl)
theorem dX0_best_61 : decode cX0_best 61 = .ok (.invokevirtual 348, 3) := dk_182 1 92 (dk_at dksX0_best_2 13 rfl rfl)
theorem dX0_best_64 : decode cX0_best 64 = .ok (.if_icmp .ge 7, 3) := dk_162 0 7 (dk_at dksX0_best_2 16 rfl rfl)
theorem dX0_best_67 : decode cX0_best 67 = .ok (.iload 5, 2) := dk_21 5 (dk_at dksX0_best_2 19 rfl rfl)
theorem dX0_best_69 : decode cX0_best 69 = .ok (.istore 4, 2) := dk_54 4 (dk_at dksX0_best_2 21 rfl rfl)
theorem dX0_best_71 : decode cX0_best 71 = .ok (.iinc 5 1, 3) := dk_132 5 1 (dk_at dksX0_best_3 0 rfl rfl)
theorem dX0_best_74 : decode cX0_best 74 = .ok (.goto (-48), 3) := dk_167 255 208 (dk_at dksX0_best_3 3 rfl rfl)
theorem dX0_best_77 : decode cX0_best 77 = .ok (.iload_n 3, 1) := dk_29 (dk_at dksX0_best_3 6 rfl rfl)
theorem dX0_best_78 : decode cX0_best 78 = .ok (.ifCond .eq 8, 3) := dk_153 0 8 (dk_at dksX0_best_3 7 rfl rfl)
theorem dX0_best_81 : decode cX0_best 81 = .ok (.iload 4, 2) := dk_21 4 (dk_at dksX0_best_3 10 rfl rfl)
theorem dX0_best_83 : decode cX0_best 83 = .ok (.goto 19, 3) := dk_167 0 19 (dk_at dksX0_best_3 12 rfl rfl)
theorem dX0_best_86 : decode cX0_best 86 = .ok (.aload_n 0, 1) := dk_42 (dk_at dksX0_best_3 15 rfl rfl)
theorem dX0_best_87 : decode cX0_best 87 = .ok (.iload_n 1, 1) := dk_27 (dk_at dksX0_best_3 16 rfl rfl)
theorem dX0_best_88 : decode cX0_best 88 = .ok (.iload 4, 2) := dk_21 4 (dk_at dksX0_best_3 17 rfl rfl)
theorem dX0_best_90 : decode cX0_best 90 = .ok (.aload_n 0, 1) := dk_42 (dk_at dksX0_best_3 19 rfl rfl)
theorem dX0_best_91 : decode cX0_best 91 = .ok (.getfield 21, 3) := dk_180 0 21 (dk_at dksX0_best_3 20 rfl rfl)
theorem dX0_best_94 : decode cX0_best 94 = .ok (.getfield 88, 3) := dk_180 0 88 (dk_at dksX0_best_4 0 rfl rfl)
theorem dX0_best_97 : decode cX0_best 97 = .ok (.iconst 2, 1) := dk_5 (dk_at dksX0_best_4 3 rfl rfl)
theorem dX0_best_98 : decode cX0_best 98 = .ok (.iaload, 1) := dk_46 (dk_at dksX0_best_4 4 rfl rfl)
theorem dX0_best_99 : decode cX0_best 99 = .ok (.invokevirtual 348, 3) := dk_182 1 92 (dk_at dksX0_best_4 5 rfl rfl)
theorem dX0_best_102 : decode cX0_best 102 = .ok (.ireturn, 1) := dk_172 (dk_at dksX0_best_4 8 rfl rfl)
abbrev cX0_digit : ByteArray := prog_1_method_74_code
def yX0_digit : MethodName := ⟨RX0, "digit", "(II)Z"⟩
def dkwX0_digit_1 : List UInt8 := [180, 0, 21, 180, 1, 100, 27, 28, 79, 4, 172]
abbrev dktX0_digit_1 : List UInt8 := dkwX0_digit_1 ++ []
def dkwX0_digit_0 : List UInt8 := [27, 3, 6, 184, 0, 77, 153, 0, 13, 28, 2, 16, 9, 184, 0, 77, 154, 0, 5, 3, 172, 42]
abbrev dktX0_digit_0 : List UInt8 := dkwX0_digit_0 ++ dktX0_digit_1
theorem dksX0_digit_0 : cX0_digit.data.toList.drop 0 = dktX0_digit_0 := by decide +kernel
theorem dksX0_digit_1 : cX0_digit.data.toList.drop 22 = dktX0_digit_1 := dk_seg dksX0_digit_0 22 rfl rfl
theorem dX0_digit_0 : decode cX0_digit 0 = .ok (.iload_n 1, 1) := dk_27 (dk_at dksX0_digit_0 0 rfl rfl)
theorem dX0_digit_1 : decode cX0_digit 1 = .ok (.iconst 0, 1) := dk_3 (dk_at dksX0_digit_0 1 rfl rfl)
theorem dX0_digit_2 : decode cX0_digit 2 = .ok (.iconst 3, 1) := dk_6 (dk_at dksX0_digit_0 2 rfl rfl)
theorem dX0_digit_3 : decode cX0_digit 3 = .ok (.invokestatic 77, 3) := dk_184 0 77 (dk_at dksX0_digit_0 3 rfl rfl)
theorem dX0_digit_6 : decode cX0_digit 6 = .ok (.ifCond .eq 13, 3) := dk_153 0 13 (dk_at dksX0_digit_0 6 rfl rfl)
theorem dX0_digit_9 : decode cX0_digit 9 = .ok (.iload_n 2, 1) := dk_28 (dk_at dksX0_digit_0 9 rfl rfl)
theorem dX0_digit_10 : decode cX0_digit 10 = .ok (.iconst (-1), 1) := dk_2 (dk_at dksX0_digit_0 10 rfl rfl)
theorem dX0_digit_11 : decode cX0_digit 11 = .ok (.bipush 9, 2) := dk_16 9 (dk_at dksX0_digit_0 11 rfl rfl)
theorem dX0_digit_13 : decode cX0_digit 13 = .ok (.invokestatic 77, 3) := dk_184 0 77 (dk_at dksX0_digit_0 13 rfl rfl)
theorem dX0_digit_16 : decode cX0_digit 16 = .ok (.ifCond .ne 5, 3) := dk_154 0 5 (dk_at dksX0_digit_0 16 rfl rfl)
theorem dX0_digit_19 : decode cX0_digit 19 = .ok (.iconst 0, 1) := dk_3 (dk_at dksX0_digit_0 19 rfl rfl)
theorem dX0_digit_20 : decode cX0_digit 20 = .ok (.ireturn, 1) := dk_172 (dk_at dksX0_digit_0 20 rfl rfl)
theorem dX0_digit_21 : decode cX0_digit 21 = .ok (.aload_n 0, 1) := dk_42 (dk_at dksX0_digit_0 21 rfl rfl)
theorem dX0_digit_22 : decode cX0_digit 22 = .ok (.getfield 21, 3) := dk_180 0 21 (dk_at dksX0_digit_1 0 rfl rfl)
theorem dX0_digit_25 : decode cX0_digit 25 = .ok (.getfield 356, 3) := dk_180 1 100 (dk_at dksX0_digit_1 3 rfl rfl)
theorem dX0_digit_28 : decode cX0_digit 28 = .ok (.iload_n 1, 1) := dk_27 (dk_at dksX0_digit_1 6 rfl rfl)
theorem dX0_digit_29 : decode cX0_digit 29 = .ok (.iload_n 2, 1) := dk_28 (dk_at dksX0_digit_1 7 rfl rfl)
theorem dX0_digit_30 : decode cX0_digit 30 = .ok (.iastore, 1) := dk_79 (dk_at dksX0_digit_1 8 rfl rfl)
theorem dX0_digit_31 : decode cX0_digit 31 = .ok (.iconst 1, 1) := dk_4 (dk_at dksX0_digit_1 9 rfl rfl)
theorem dX0_digit_32 : decode cX0_digit 32 = .ok (.ireturn, 1) := dk_172 (dk_at dksX0_digit_1 10 rfl rfl)
abbrev cX0_tickets : ByteArray := prog_1_method_76_code
def yX0_tickets : MethodName := ⟨RX0, "tickets", "(I)I"⟩
def dkwX0_tickets_2 : List UInt8 := [16, 254, 172]
abbrev dktX0_tickets_2 : List UInt8 := dkwX0_tickets_2 ++ []
def dkwX0_tickets_1 : List UInt8 := [160, 0, 5, 29, 172, 132, 2, 1, 132, 3, 1, 167, 255, 225, 27, 2, 160, 0, 7, 28, 167, 0, 5]
abbrev dktX0_tickets_1 : List UInt8 := dkwX0_tickets_1 ++ dktX0_tickets_2
def dkwX0_tickets_0 : List UInt8 := [3, 61, 3, 62, 29, 17, 39, 16, 162, 0, 30, 42, 29, 182, 1, 106, 154, 0, 6, 167, 0, 13, 28, 27]
abbrev dktX0_tickets_0 : List UInt8 := dkwX0_tickets_0 ++ dktX0_tickets_1
theorem dksX0_tickets_0 : cX0_tickets.data.toList.drop 0 = dktX0_tickets_0 := by decide +kernel
theorem dksX0_tickets_1 : cX0_tickets.data.toList.drop 24 = dktX0_tickets_1 := dk_seg dksX0_tickets_0 24 rfl rfl
theorem dksX0_tickets_2 : cX0_tickets.data.toList.drop 47 = dktX0_tickets_2 := dk_seg dksX0_tickets_1 23 rfl rfl
theorem dX0_tickets_0 : decode cX0_tickets 0 = .ok (.iconst 0, 1) := dk_3 (dk_at dksX0_tickets_0 0 rfl rfl)
theorem dX0_tickets_1 : decode cX0_tickets 1 = .ok (.istore_n 2, 1) := dk_61 (dk_at dksX0_tickets_0 1 rfl rfl)
theorem dX0_tickets_2 : decode cX0_tickets 2 = .ok (.iconst 0, 1) := dk_3 (dk_at dksX0_tickets_0 2 rfl rfl)
theorem dX0_tickets_3 : decode cX0_tickets 3 = .ok (.istore_n 3, 1) := dk_62 (dk_at dksX0_tickets_0 3 rfl rfl)
theorem dX0_tickets_4 : decode cX0_tickets 4 = .ok (.iload_n 3, 1) := dk_29 (dk_at dksX0_tickets_0 4 rfl rfl)
theorem dX0_tickets_5 : decode cX0_tickets 5 = .ok (.sipush 10000, 3) := dk_17 39 16 (dk_at dksX0_tickets_0 5 rfl rfl)
theorem dX0_tickets_8 : decode cX0_tickets 8 = .ok (.if_icmp .ge 30, 3) := dk_162 0 30 (dk_at dksX0_tickets_0 8 rfl rfl)
theorem dX0_tickets_11 : decode cX0_tickets 11 = .ok (.aload_n 0, 1) := dk_42 (dk_at dksX0_tickets_0 11 rfl rfl)
theorem dX0_tickets_12 : decode cX0_tickets 12 = .ok (.iload_n 3, 1) := dk_29 (dk_at dksX0_tickets_0 12 rfl rfl)
theorem dX0_tickets_13 : decode cX0_tickets 13 = .ok (.invokevirtual 362, 3) := dk_182 1 106 (dk_at dksX0_tickets_0 13 rfl rfl)
theorem dX0_tickets_16 : decode cX0_tickets 16 = .ok (.ifCond .ne 6, 3) := dk_154 0 6 (dk_at dksX0_tickets_0 16 rfl rfl)
theorem dX0_tickets_19 : decode cX0_tickets 19 = .ok (.goto 13, 3) := dk_167 0 13 (dk_at dksX0_tickets_0 19 rfl rfl)
theorem dX0_tickets_22 : decode cX0_tickets 22 = .ok (.iload_n 2, 1) := dk_28 (dk_at dksX0_tickets_0 22 rfl rfl)
theorem dX0_tickets_23 : decode cX0_tickets 23 = .ok (.iload_n 1, 1) := dk_27 (dk_at dksX0_tickets_0 23 rfl rfl)
theorem dX0_tickets_24 : decode cX0_tickets 24 = .ok (.if_icmp .ne 5, 3) := dk_160 0 5 (dk_at dksX0_tickets_1 0 rfl rfl)
theorem dX0_tickets_27 : decode cX0_tickets 27 = .ok (.iload_n 3, 1) := dk_29 (dk_at dksX0_tickets_1 3 rfl rfl)
theorem dX0_tickets_28 : decode cX0_tickets 28 = .ok (.ireturn, 1) := dk_172 (dk_at dksX0_tickets_1 4 rfl rfl)
theorem dX0_tickets_29 : decode cX0_tickets 29 = .ok (.iinc 2 1, 3) := dk_132 2 1 (dk_at dksX0_tickets_1 5 rfl rfl)
theorem dX0_tickets_32 : decode cX0_tickets 32 = .ok (.iinc 3 1, 3) := dk_132 3 1 (dk_at dksX0_tickets_1 8 rfl rfl)
theorem dX0_tickets_35 : decode cX0_tickets 35 = .ok (.goto (-31), 3) := dk_167 255 225 (dk_at dksX0_tickets_1 11 rfl rfl)
theorem dX0_tickets_38 : decode cX0_tickets 38 = .ok (.iload_n 1, 1) := dk_27 (dk_at dksX0_tickets_1 14 rfl rfl)
theorem dX0_tickets_39 : decode cX0_tickets 39 = .ok (.iconst (-1), 1) := dk_2 (dk_at dksX0_tickets_1 15 rfl rfl)
theorem dX0_tickets_40 : decode cX0_tickets 40 = .ok (.if_icmp .ne 7, 3) := dk_160 0 7 (dk_at dksX0_tickets_1 16 rfl rfl)
theorem dX0_tickets_43 : decode cX0_tickets 43 = .ok (.iload_n 2, 1) := dk_28 (dk_at dksX0_tickets_1 19 rfl rfl)
theorem dX0_tickets_44 : decode cX0_tickets 44 = .ok (.goto 5, 3) := dk_167 0 5 (dk_at dksX0_tickets_1 20 rfl rfl)
theorem dX0_tickets_47 : decode cX0_tickets 47 = .ok (.bipush (-2), 2) := dk_16 254 (dk_at dksX0_tickets_2 0 rfl rfl)
theorem dX0_tickets_49 : decode cX0_tickets 49 = .ok (.ireturn, 1) := dk_172 (dk_at dksX0_tickets_2 2 rfl rfl)
abbrev cX0_isTicket : ByteArray := prog_1_method_75_code
def yX0_isTicket : MethodName := ⟨RX0, "isTicket", "(I)Z"⟩
def dkwX0_isTicket_3 : List UInt8 := [112, 154, 0, 7, 4, 167, 0, 4, 3, 172]
abbrev dktX0_isTicket_3 : List UInt8 := dkwX0_isTicket_3 ++ []
def dkwX0_isTicket_2 : List UInt8 := [21, 4, 46, 28, 16, 10, 112, 104, 96, 62, 28, 16, 10, 108, 61, 132, 4, 1, 167, 255, 197, 29, 16, 10]
abbrev dktX0_isTicket_2 : List UInt8 := dkwX0_isTicket_2 ++ dktX0_isTicket_3
def dkwX0_isTicket_1 : List UInt8 := [46, 54, 5, 21, 5, 2, 159, 0, 14, 21, 5, 28, 16, 10, 112, 159, 0, 5, 3, 172, 29, 178, 1, 103]
abbrev dktX0_isTicket_1 : List UInt8 := dkwX0_isTicket_1 ++ dktX0_isTicket_2
def dkwX0_isTicket_0 : List UInt8 := [27, 61, 3, 62, 3, 54, 4, 21, 4, 7, 162, 0, 59, 42, 180, 0, 21, 180, 1, 100, 6, 21, 4, 100]
abbrev dktX0_isTicket_0 : List UInt8 := dkwX0_isTicket_0 ++ dktX0_isTicket_1
theorem dksX0_isTicket_0 : cX0_isTicket.data.toList.drop 0 = dktX0_isTicket_0 := by decide +kernel
theorem dksX0_isTicket_1 : cX0_isTicket.data.toList.drop 24 = dktX0_isTicket_1 := dk_seg dksX0_isTicket_0 24 rfl rfl
theorem dksX0_isTicket_2 : cX0_isTicket.data.toList.drop 48 = dktX0_isTicket_2 := dk_seg dksX0_isTicket_1 24 rfl rfl
theorem dksX0_isTicket_3 : cX0_isTicket.data.toList.drop 72 = dktX0_isTicket_3 := dk_seg dksX0_isTicket_2 24 rfl rfl
theorem dX0_isTicket_0 : decode cX0_isTicket 0 = .ok (.iload_n 1, 1) := dk_27 (dk_at dksX0_isTicket_0 0 rfl rfl)
theorem dX0_isTicket_1 : decode cX0_isTicket 1 = .ok (.istore_n 2, 1) := dk_61 (dk_at dksX0_isTicket_0 1 rfl rfl)
theorem dX0_isTicket_2 : decode cX0_isTicket 2 = .ok (.iconst 0, 1) := dk_3 (dk_at dksX0_isTicket_0 2 rfl rfl)
theorem dX0_isTicket_3 : decode cX0_isTicket 3 = .ok (.istore_n 3, 1) := dk_62 (dk_at dksX0_isTicket_0 3 rfl rfl)
theorem dX0_isTicket_4 : decode cX0_isTicket 4 = .ok (.iconst 0, 1) := dk_3 (dk_at dksX0_isTicket_0 4 rfl rfl)
theorem dX0_isTicket_5 : decode cX0_isTicket 5 = .ok (.istore 4, 2) := dk_54 4 (dk_at dksX0_isTicket_0 5 rfl rfl)
theorem dX0_isTicket_7 : decode cX0_isTicket 7 = .ok (.iload 4, 2) := dk_21 4 (dk_at dksX0_isTicket_0 7 rfl rfl)
theorem dX0_isTicket_9 : decode cX0_isTicket 9 = .ok (.iconst 4, 1) := dk_7 (dk_at dksX0_isTicket_0 9 rfl rfl)
theorem dX0_isTicket_10 : decode cX0_isTicket 10 = .ok (.if_icmp .ge 59, 3) := dk_162 0 59 (dk_at dksX0_isTicket_0 10 rfl rfl)
theorem dX0_isTicket_13 : decode cX0_isTicket 13 = .ok (.aload_n 0, 1) := dk_42 (dk_at dksX0_isTicket_0 13 rfl rfl)
theorem dX0_isTicket_14 : decode cX0_isTicket 14 = .ok (.getfield 21, 3) := dk_180 0 21 (dk_at dksX0_isTicket_0 14 rfl rfl)
theorem dX0_isTicket_17 : decode cX0_isTicket 17 = .ok (.getfield 356, 3) := dk_180 1 100 (dk_at dksX0_isTicket_0 17 rfl rfl)
theorem dX0_isTicket_20 : decode cX0_isTicket 20 = .ok (.iconst 3, 1) := dk_6 (dk_at dksX0_isTicket_0 20 rfl rfl)
theorem dX0_isTicket_21 : decode cX0_isTicket 21 = .ok (.iload 4, 2) := dk_21 4 (dk_at dksX0_isTicket_0 21 rfl rfl)
theorem dX0_isTicket_23 : decode cX0_isTicket 23 = .ok (.isub, 1) := dk_100 (dk_at dksX0_isTicket_0 23 rfl rfl)
theorem dX0_isTicket_24 : decode cX0_isTicket 24 = .ok (.iaload, 1) := dk_46 (dk_at dksX0_isTicket_1 0 rfl rfl)
theorem dX0_isTicket_25 : decode cX0_isTicket 25 = .ok (.istore 5, 2) := dk_54 5 (dk_at dksX0_isTicket_1 1 rfl rfl)
theorem dX0_isTicket_27 : decode cX0_isTicket 27 = .ok (.iload 5, 2) := dk_21 5 (dk_at dksX0_isTicket_1 3 rfl rfl)
theorem dX0_isTicket_29 : decode cX0_isTicket 29 = .ok (.iconst (-1), 1) := dk_2 (dk_at dksX0_isTicket_1 5 rfl rfl)
theorem dX0_isTicket_30 : decode cX0_isTicket 30 = .ok (.if_icmp .eq 14, 3) := dk_159 0 14 (dk_at dksX0_isTicket_1 6 rfl rfl)
theorem dX0_isTicket_33 : decode cX0_isTicket 33 = .ok (.iload 5, 2) := dk_21 5 (dk_at dksX0_isTicket_1 9 rfl rfl)
theorem dX0_isTicket_35 : decode cX0_isTicket 35 = .ok (.iload_n 2, 1) := dk_28 (dk_at dksX0_isTicket_1 11 rfl rfl)
theorem dX0_isTicket_36 : decode cX0_isTicket 36 = .ok (.bipush 10, 2) := dk_16 10 (dk_at dksX0_isTicket_1 12 rfl rfl)
theorem dX0_isTicket_38 : decode cX0_isTicket 38 = .ok (.irem, 1) := dk_112 (dk_at dksX0_isTicket_1 14 rfl rfl)
theorem dX0_isTicket_39 : decode cX0_isTicket 39 = .ok (.if_icmp .eq 5, 3) := dk_159 0 5 (dk_at dksX0_isTicket_1 15 rfl rfl)
theorem dX0_isTicket_42 : decode cX0_isTicket 42 = .ok (.iconst 0, 1) := dk_3 (dk_at dksX0_isTicket_1 18 rfl rfl)
theorem dX0_isTicket_43 : decode cX0_isTicket 43 = .ok (.ireturn, 1) := dk_172 (dk_at dksX0_isTicket_1 19 rfl rfl)
theorem dX0_isTicket_44 : decode cX0_isTicket 44 = .ok (.iload_n 3, 1) := dk_29 (dk_at dksX0_isTicket_1 20 rfl rfl)
theorem dX0_isTicket_45 : decode cX0_isTicket 45 = .ok (.getstatic 359, 3) := dk_178 1 103 (dk_at dksX0_isTicket_1 21 rfl rfl)
theorem dX0_isTicket_48 : decode cX0_isTicket 48 = .ok (.iload 4, 2) := dk_21 4 (dk_at dksX0_isTicket_2 0 rfl rfl)
theorem dX0_isTicket_50 : decode cX0_isTicket 50 = .ok (.iaload, 1) := dk_46 (dk_at dksX0_isTicket_2 2 rfl rfl)
theorem dX0_isTicket_51 : decode cX0_isTicket 51 = .ok (.iload_n 2, 1) := dk_28 (dk_at dksX0_isTicket_2 3 rfl rfl)
theorem dX0_isTicket_52 : decode cX0_isTicket 52 = .ok (.bipush 10, 2) := dk_16 10 (dk_at dksX0_isTicket_2 4 rfl rfl)
theorem dX0_isTicket_54 : decode cX0_isTicket 54 = .ok (.irem, 1) := dk_112 (dk_at dksX0_isTicket_2 6 rfl rfl)
theorem dX0_isTicket_55 : decode cX0_isTicket 55 = .ok (.imul, 1) := dk_104 (dk_at dksX0_isTicket_2 7 rfl rfl)
theorem dX0_isTicket_56 : decode cX0_isTicket 56 = .ok (.iadd, 1) := dk_96 (dk_at dksX0_isTicket_2 8 rfl rfl)
theorem dX0_isTicket_57 : decode cX0_isTicket 57 = .ok (.istore_n 3, 1) := dk_62 (dk_at dksX0_isTicket_2 9 rfl rfl)
theorem dX0_isTicket_58 : decode cX0_isTicket 58 = .ok (.iload_n 2, 1) := dk_28 (dk_at dksX0_isTicket_2 10 rfl rfl)
theorem dX0_isTicket_59 : decode cX0_isTicket 59 = .ok (.bipush 10, 2) := dk_16 10 (dk_at dksX0_isTicket_2 11 rfl rfl)
theorem dX0_isTicket_61 : decode cX0_isTicket 61 = .ok (.idiv, 1) := dk_108 (dk_at dksX0_isTicket_2 13 rfl rfl)
theorem dX0_isTicket_62 : decode cX0_isTicket 62 = .ok (.istore_n 2, 1) := dk_61 (dk_at dksX0_isTicket_2 14 rfl rfl)
theorem dX0_isTicket_63 : decode cX0_isTicket 63 = .ok (.iinc 4 1, 3) := dk_132 4 1 (dk_at dksX0_isTicket_2 15 rfl rfl)
theorem dX0_isTicket_66 : decode cX0_isTicket 66 = .ok (.goto (-59), 3) := dk_167 255 197 (dk_at dksX0_isTicket_2 18 rfl rfl)
theorem dX0_isTicket_69 : decode cX0_isTicket 69 = .ok (.iload_n 3, 1) := dk_29 (dk_at dksX0_isTicket_2 21 rfl rfl)
theorem dX0_isTicket_70 : decode cX0_isTicket 70 = .ok (.bipush 10, 2) := dk_16 10 (dk_at dksX0_isTicket_2 22 rfl rfl)
theorem dX0_isTicket_72 : decode cX0_isTicket 72 = .ok (.irem, 1) := dk_112 (dk_at dksX0_isTicket_3 0 rfl rfl)
theorem dX0_isTicket_73 : decode cX0_isTicket 73 = .ok (.ifCond .ne 7, 3) := dk_154 0 7 (dk_at dksX0_isTicket_3 1 rfl rfl)
theorem dX0_isTicket_76 : decode cX0_isTicket 76 = .ok (.iconst 1, 1) := dk_4 (dk_at dksX0_isTicket_3 4 rfl rfl)
theorem dX0_isTicket_77 : decode cX0_isTicket 77 = .ok (.goto 4, 3) := dk_167 0 4 (dk_at dksX0_isTicket_3 5 rfl rfl)
theorem dX0_isTicket_80 : decode cX0_isTicket 80 = .ok (.iconst 0, 1) := dk_3 (dk_at dksX0_isTicket_3 8 rfl rfl)
theorem dX0_isTicket_81 : decode cX0_isTicket 81 = .ok (.ireturn, 1) := dk_172 (dk_at dksX0_isTicket_3 9 rfl rfl)
abbrev cX0_hook : ByteArray := prog_1_method_77_code
def yX0_hook : MethodName := ⟨RX0, "hook", "(I)I"⟩
def dkwX0_hook_3 : List UInt8 := [42, 180, 0, 21, 180, 0, 70, 7, 46, 172]
abbrev dktX0_hook_3 : List UInt8 := dkwX0_hook_3 ++ []
def dkwX0_hook_2 : List UInt8 := [42, 180, 0, 21, 180, 0, 70, 7, 46, 27, 79, 42, 180, 0, 21, 180, 0, 70, 7, 92, 46, 4, 96, 79]
abbrev dktX0_hook_2 : List UInt8 := dkwX0_hook_2 ++ dktX0_hook_3
def dkwX0_hook_1 : List UInt8 := [42, 180, 0, 21, 180, 0, 70, 7, 46, 16, 6, 160, 0, 6, 16, 254, 172, 42, 180, 0, 21, 180, 1, 112]
abbrev dktX0_hook_1 : List UInt8 := dkwX0_hook_1 ++ dktX0_hook_2
def dkwX0_hook_0 : List UInt8 := [27, 2, 160, 0, 12, 42, 180, 0, 21, 7, 182, 1, 109, 172, 27, 4, 16, 99, 184, 0, 77, 153, 0, 17]
abbrev dktX0_hook_0 : List UInt8 := dkwX0_hook_0 ++ dktX0_hook_1
theorem dksX0_hook_0 : cX0_hook.data.toList.drop 0 = dktX0_hook_0 := by decide +kernel
theorem dksX0_hook_1 : cX0_hook.data.toList.drop 24 = dktX0_hook_1 := dk_seg dksX0_hook_0 24 rfl rfl
theorem dksX0_hook_2 : cX0_hook.data.toList.drop 48 = dktX0_hook_2 := dk_seg dksX0_hook_1 24 rfl rfl
theorem dksX0_hook_3 : cX0_hook.data.toList.drop 72 = dktX0_hook_3 := dk_seg dksX0_hook_2 24 rfl rfl
theorem dX0_hook_0 : decode cX0_hook 0 = .ok (.iload_n 1, 1) := dk_27 (dk_at dksX0_hook_0 0 rfl rfl)
theorem dX0_hook_1 : decode cX0_hook 1 = .ok (.iconst (-1), 1) := dk_2 (dk_at dksX0_hook_0 1 rfl rfl)
theorem dX0_hook_2 : decode cX0_hook 2 = .ok (.if_icmp .ne 12, 3) := dk_160 0 12 (dk_at dksX0_hook_0 2 rfl rfl)
theorem dX0_hook_5 : decode cX0_hook 5 = .ok (.aload_n 0, 1) := dk_42 (dk_at dksX0_hook_0 5 rfl rfl)
theorem dX0_hook_6 : decode cX0_hook 6 = .ok (.getfield 21, 3) := dk_180 0 21 (dk_at dksX0_hook_0 6 rfl rfl)
theorem dX0_hook_9 : decode cX0_hook 9 = .ok (.iconst 4, 1) := dk_7 (dk_at dksX0_hook_0 9 rfl rfl)
theorem dX0_hook_10 : decode cX0_hook 10 = .ok (.invokevirtual 365, 3) := dk_182 1 109 (dk_at dksX0_hook_0 10 rfl rfl)
theorem dX0_hook_13 : decode cX0_hook 13 = .ok (.ireturn, 1) := dk_172 (dk_at dksX0_hook_0 13 rfl rfl)
theorem dX0_hook_14 : decode cX0_hook 14 = .ok (.iload_n 1, 1) := dk_27 (dk_at dksX0_hook_0 14 rfl rfl)
theorem dX0_hook_15 : decode cX0_hook 15 = .ok (.iconst 1, 1) := dk_4 (dk_at dksX0_hook_0 15 rfl rfl)
theorem dX0_hook_16 : decode cX0_hook 16 = .ok (.bipush 99, 2) := dk_16 99 (dk_at dksX0_hook_0 16 rfl rfl)
theorem dX0_hook_18 : decode cX0_hook 18 = .ok (.invokestatic 77, 3) := dk_184 0 77 (dk_at dksX0_hook_0 18 rfl rfl)
theorem dX0_hook_21 : decode cX0_hook 21 = .ok (.ifCond .eq 17, 3) := dk_153 0 17 (dk_at dksX0_hook_0 21 rfl rfl)
theorem dX0_hook_24 : decode cX0_hook 24 = .ok (.aload_n 0, 1) := dk_42 (dk_at dksX0_hook_1 0 rfl rfl)
theorem dX0_hook_25 : decode cX0_hook 25 = .ok (.getfield 21, 3) := dk_180 0 21 (dk_at dksX0_hook_1 1 rfl rfl)
theorem dX0_hook_28 : decode cX0_hook 28 = .ok (.getfield 70, 3) := dk_180 0 70 (dk_at dksX0_hook_1 4 rfl rfl)
theorem dX0_hook_31 : decode cX0_hook 31 = .ok (.iconst 4, 1) := dk_7 (dk_at dksX0_hook_1 7 rfl rfl)
theorem dX0_hook_32 : decode cX0_hook 32 = .ok (.iaload, 1) := dk_46 (dk_at dksX0_hook_1 8 rfl rfl)
theorem dX0_hook_33 : decode cX0_hook 33 = .ok (.bipush 6, 2) := dk_16 6 (dk_at dksX0_hook_1 9 rfl rfl)
theorem dX0_hook_35 : decode cX0_hook 35 = .ok (.if_icmp .ne 6, 3) := dk_160 0 6 (dk_at dksX0_hook_1 11 rfl rfl)
theorem dX0_hook_38 : decode cX0_hook 38 = .ok (.bipush (-2), 2) := dk_16 254 (dk_at dksX0_hook_1 14 rfl rfl)
theorem dX0_hook_40 : decode cX0_hook 40 = .ok (.ireturn, 1) := dk_172 (dk_at dksX0_hook_1 16 rfl rfl)
theorem dX0_hook_41 : decode cX0_hook 41 = .ok (.aload_n 0, 1) := dk_42 (dk_at dksX0_hook_1 17 rfl rfl)
theorem dX0_hook_42 : decode cX0_hook 42 = .ok (.getfield 21, 3) := dk_180 0 21 (dk_at dksX0_hook_1 18 rfl rfl)
theorem dX0_hook_45 : decode cX0_hook 45 = .ok (.getfield 368, 3) := dk_180 1 112 (dk_at dksX0_hook_1 21 rfl rfl)
theorem dX0_hook_48 : decode cX0_hook 48 = .ok (.aload_n 0, 1) := dk_42 (dk_at dksX0_hook_2 0 rfl rfl)
theorem dX0_hook_49 : decode cX0_hook 49 = .ok (.getfield 21, 3) := dk_180 0 21 (dk_at dksX0_hook_2 1 rfl rfl)
theorem dX0_hook_52 : decode cX0_hook 52 = .ok (.getfield 70, 3) := dk_180 0 70 (dk_at dksX0_hook_2 4 rfl rfl)
theorem dX0_hook_55 : decode cX0_hook 55 = .ok (.iconst 4, 1) := dk_7 (dk_at dksX0_hook_2 7 rfl rfl)
theorem dX0_hook_56 : decode cX0_hook 56 = .ok (.iaload, 1) := dk_46 (dk_at dksX0_hook_2 8 rfl rfl)
theorem dX0_hook_57 : decode cX0_hook 57 = .ok (.iload_n 1, 1) := dk_27 (dk_at dksX0_hook_2 9 rfl rfl)
theorem dX0_hook_58 : decode cX0_hook 58 = .ok (.iastore, 1) := dk_79 (dk_at dksX0_hook_2 10 rfl rfl)
theorem dX0_hook_59 : decode cX0_hook 59 = .ok (.aload_n 0, 1) := dk_42 (dk_at dksX0_hook_2 11 rfl rfl)
theorem dX0_hook_60 : decode cX0_hook 60 = .ok (.getfield 21, 3) := dk_180 0 21 (dk_at dksX0_hook_2 12 rfl rfl)
theorem dX0_hook_63 : decode cX0_hook 63 = .ok (.getfield 70, 3) := dk_180 0 70 (dk_at dksX0_hook_2 15 rfl rfl)
theorem dX0_hook_66 : decode cX0_hook 66 = .ok (.iconst 4, 1) := dk_7 (dk_at dksX0_hook_2 18 rfl rfl)
theorem dX0_hook_67 : decode cX0_hook 67 = .ok (.dup2, 1) := dk_92 (dk_at dksX0_hook_2 19 rfl rfl)
theorem dX0_hook_68 : decode cX0_hook 68 = .ok (.iaload, 1) := dk_46 (dk_at dksX0_hook_2 20 rfl rfl)
theorem dX0_hook_69 : decode cX0_hook 69 = .ok (.iconst 1, 1) := dk_4 (dk_at dksX0_hook_2 21 rfl rfl)
theorem dX0_hook_70 : decode cX0_hook 70 = .ok (.iadd, 1) := dk_96 (dk_at dksX0_hook_2 22 rfl rfl)
theorem dX0_hook_71 : decode cX0_hook 71 = .ok (.iastore, 1) := dk_79 (dk_at dksX0_hook_2 23 rfl rfl)
theorem dX0_hook_72 : decode cX0_hook 72 = .ok (.aload_n 0, 1) := dk_42 (dk_at dksX0_hook_3 0 rfl rfl)
theorem dX0_hook_73 : decode cX0_hook 73 = .ok (.getfield 21, 3) := dk_180 0 21 (dk_at dksX0_hook_3 1 rfl rfl)
theorem dX0_hook_76 : decode cX0_hook 76 = .ok (.getfield 70, 3) := dk_180 0 70 (dk_at dksX0_hook_3 4 rfl rfl)
theorem dX0_hook_79 : decode cX0_hook 79 = .ok (.iconst 4, 1) := dk_7 (dk_at dksX0_hook_3 7 rfl rfl)
theorem dX0_hook_80 : decode cX0_hook 80 = .ok (.iaload, 1) := dk_46 (dk_at dksX0_hook_3 8 rfl rfl)
theorem dX0_hook_81 : decode cX0_hook 81 = .ok (.ireturn, 1) := dk_172 (dk_at dksX0_hook_3 9 rfl rfl)
abbrev cX0_hung : ByteArray := prog_1_method_80_code
def yX0_hung : MethodName := ⟨RX0, "hung", "(II)I"⟩
def dkwX0_hung_2 : List UInt8 := [167, 0, 21, 42, 180, 1, 115, 154, 0, 8, 16, 254, 167, 0, 9, 42, 180, 0, 58, 28, 46, 172]
abbrev dktX0_hung_2 : List UInt8 := dkwX0_hung_2 ++ []
def dkwX0_hung_1 : List UInt8 := [184, 0, 77, 154, 0, 6, 16, 254, 172, 42, 27, 182, 1, 125, 28, 2, 160, 0, 10, 42, 180, 1, 115]
abbrev dktX0_hung_1 : List UInt8 := dkwX0_hung_1 ++ dktX0_hung_2
def dkwX0_hung_0 : List UInt8 := [27, 3, 16, 9, 184, 0, 77, 153, 0, 22, 28, 2, 42, 180, 0, 21, 180, 0, 70, 7, 46, 4, 100]
abbrev dktX0_hung_0 : List UInt8 := dkwX0_hung_0 ++ dktX0_hung_1
theorem dksX0_hung_0 : cX0_hung.data.toList.drop 0 = dktX0_hung_0 := by decide +kernel
theorem dksX0_hung_1 : cX0_hung.data.toList.drop 23 = dktX0_hung_1 := dk_seg dksX0_hung_0 23 rfl rfl
theorem dksX0_hung_2 : cX0_hung.data.toList.drop 46 = dktX0_hung_2 := dk_seg dksX0_hung_1 23 rfl rfl
theorem dX0_hung_0 : decode cX0_hung 0 = .ok (.iload_n 1, 1) := dk_27 (dk_at dksX0_hung_0 0 rfl rfl)
theorem dX0_hung_1 : decode cX0_hung 1 = .ok (.iconst 0, 1) := dk_3 (dk_at dksX0_hung_0 1 rfl rfl)
theorem dX0_hung_2 : decode cX0_hung 2 = .ok (.bipush 9, 2) := dk_16 9 (dk_at dksX0_hung_0 2 rfl rfl)
theorem dX0_hung_4 : decode cX0_hung 4 = .ok (.invokestatic 77, 3) := dk_184 0 77 (dk_at dksX0_hung_0 4 rfl rfl)
theorem dX0_hung_7 : decode cX0_hung 7 = .ok (.ifCond .eq 22, 3) := dk_153 0 22 (dk_at dksX0_hung_0 7 rfl rfl)
theorem dX0_hung_10 : decode cX0_hung 10 = .ok (.iload_n 2, 1) := dk_28 (dk_at dksX0_hung_0 10 rfl rfl)
theorem dX0_hung_11 : decode cX0_hung 11 = .ok (.iconst (-1), 1) := dk_2 (dk_at dksX0_hung_0 11 rfl rfl)
theorem dX0_hung_12 : decode cX0_hung 12 = .ok (.aload_n 0, 1) := dk_42 (dk_at dksX0_hung_0 12 rfl rfl)
theorem dX0_hung_13 : decode cX0_hung 13 = .ok (.getfield 21, 3) := dk_180 0 21 (dk_at dksX0_hung_0 13 rfl rfl)
theorem dX0_hung_16 : decode cX0_hung 16 = .ok (.getfield 70, 3) := dk_180 0 70 (dk_at dksX0_hung_0 16 rfl rfl)
theorem dX0_hung_19 : decode cX0_hung 19 = .ok (.iconst 4, 1) := dk_7 (dk_at dksX0_hung_0 19 rfl rfl)
theorem dX0_hung_20 : decode cX0_hung 20 = .ok (.iaload, 1) := dk_46 (dk_at dksX0_hung_0 20 rfl rfl)
theorem dX0_hung_21 : decode cX0_hung 21 = .ok (.iconst 1, 1) := dk_4 (dk_at dksX0_hung_0 21 rfl rfl)
theorem dX0_hung_22 : decode cX0_hung 22 = .ok (.isub, 1) := dk_100 (dk_at dksX0_hung_0 22 rfl rfl)
theorem dX0_hung_23 : decode cX0_hung 23 = .ok (.invokestatic 77, 3) := dk_184 0 77 (dk_at dksX0_hung_1 0 rfl rfl)
theorem dX0_hung_26 : decode cX0_hung 26 = .ok (.ifCond .ne 6, 3) := dk_154 0 6 (dk_at dksX0_hung_1 3 rfl rfl)
theorem dX0_hung_29 : decode cX0_hung 29 = .ok (.bipush (-2), 2) := dk_16 254 (dk_at dksX0_hung_1 6 rfl rfl)
theorem dX0_hung_31 : decode cX0_hung 31 = .ok (.ireturn, 1) := dk_172 (dk_at dksX0_hung_1 8 rfl rfl)
theorem dX0_hung_32 : decode cX0_hung 32 = .ok (.aload_n 0, 1) := dk_42 (dk_at dksX0_hung_1 9 rfl rfl)
theorem dX0_hung_33 : decode cX0_hung 33 = .ok (.iload_n 1, 1) := dk_27 (dk_at dksX0_hung_1 10 rfl rfl)
theorem dX0_hung_34 : decode cX0_hung 34 = .ok (.invokevirtual 381, 3) := dk_182 1 125 (dk_at dksX0_hung_1 11 rfl rfl)
theorem dX0_hung_37 : decode cX0_hung 37 = .ok (.iload_n 2, 1) := dk_28 (dk_at dksX0_hung_1 14 rfl rfl)
theorem dX0_hung_38 : decode cX0_hung 38 = .ok (.iconst (-1), 1) := dk_2 (dk_at dksX0_hung_1 15 rfl rfl)
theorem dX0_hung_39 : decode cX0_hung 39 = .ok (.if_icmp .ne 10, 3) := dk_160 0 10 (dk_at dksX0_hung_1 16 rfl rfl)
theorem dX0_hung_42 : decode cX0_hung 42 = .ok (.aload_n 0, 1) := dk_42 (dk_at dksX0_hung_1 19 rfl rfl)
theorem dX0_hung_43 : decode cX0_hung 43 = .ok (.getfield 371, 3) := dk_180 1 115 (dk_at dksX0_hung_1 20 rfl rfl)
theorem dX0_hung_46 : decode cX0_hung 46 = .ok (.goto 21, 3) := dk_167 0 21 (dk_at dksX0_hung_2 0 rfl rfl)
theorem dX0_hung_49 : decode cX0_hung 49 = .ok (.aload_n 0, 1) := dk_42 (dk_at dksX0_hung_2 3 rfl rfl)
theorem dX0_hung_50 : decode cX0_hung 50 = .ok (.getfield 371, 3) := dk_180 1 115 (dk_at dksX0_hung_2 4 rfl rfl)
theorem dX0_hung_53 : decode cX0_hung 53 = .ok (.ifCond .ne 8, 3) := dk_154 0 8 (dk_at dksX0_hung_2 7 rfl rfl)
theorem dX0_hung_56 : decode cX0_hung 56 = .ok (.bipush (-2), 2) := dk_16 254 (dk_at dksX0_hung_2 10 rfl rfl)
theorem dX0_hung_58 : decode cX0_hung 58 = .ok (.goto 9, 3) := dk_167 0 9 (dk_at dksX0_hung_2 12 rfl rfl)
theorem dX0_hung_61 : decode cX0_hung 61 = .ok (.aload_n 0, 1) := dk_42 (dk_at dksX0_hung_2 15 rfl rfl)
theorem dX0_hung_62 : decode cX0_hung 62 = .ok (.getfield 58, 3) := dk_180 0 58 (dk_at dksX0_hung_2 16 rfl rfl)
theorem dX0_hung_65 : decode cX0_hung 65 = .ok (.iload_n 2, 1) := dk_28 (dk_at dksX0_hung_2 19 rfl rfl)
theorem dX0_hung_66 : decode cX0_hung 66 = .ok (.iaload, 1) := dk_46 (dk_at dksX0_hung_2 20 rfl rfl)
theorem dX0_hung_67 : decode cX0_hung 67 = .ok (.ireturn, 1) := dk_172 (dk_at dksX0_hung_2 21 rfl rfl)
abbrev cX0_laysHung : ByteArray := prog_1_method_79_code
def yX0_laysHung : MethodName := ⟨RX0, "laysHung", "(I)V"⟩
def dkwX0_laysHung_1 : List UInt8 := [132, 2, 1, 167, 255, 237, 42, 3, 42, 42, 180, 0, 21, 180, 0, 88, 182, 0, 178, 27, 182, 1, 121, 177]
abbrev dktX0_laysHung_1 : List UInt8 := dkwX0_laysHung_1 ++ []
def dkwX0_laysHung_0 : List UInt8 := [42, 3, 181, 1, 115, 3, 61, 28, 16, 6, 162, 0, 19, 42, 180, 0, 63, 28, 50, 3, 184, 1, 63]
abbrev dktX0_laysHung_0 : List UInt8 := dkwX0_laysHung_0 ++ dktX0_laysHung_1
theorem dksX0_laysHung_0 : cX0_laysHung.data.toList.drop 0 = dktX0_laysHung_0 := by decide +kernel
theorem dksX0_laysHung_1 : cX0_laysHung.data.toList.drop 23 = dktX0_laysHung_1 := dk_seg dksX0_laysHung_0 23 rfl rfl
theorem dX0_laysHung_0 : decode cX0_laysHung 0 = .ok (.aload_n 0, 1) := dk_42 (dk_at dksX0_laysHung_0 0 rfl rfl)
theorem dX0_laysHung_1 : decode cX0_laysHung 1 = .ok (.iconst 0, 1) := dk_3 (dk_at dksX0_laysHung_0 1 rfl rfl)
theorem dX0_laysHung_2 : decode cX0_laysHung 2 = .ok (.putfield 371, 3) := dk_181 1 115 (dk_at dksX0_laysHung_0 2 rfl rfl)
theorem dX0_laysHung_5 : decode cX0_laysHung 5 = .ok (.iconst 0, 1) := dk_3 (dk_at dksX0_laysHung_0 5 rfl rfl)
theorem dX0_laysHung_6 : decode cX0_laysHung 6 = .ok (.istore_n 2, 1) := dk_61 (dk_at dksX0_laysHung_0 6 rfl rfl)
theorem dX0_laysHung_7 : decode cX0_laysHung 7 = .ok (.iload_n 2, 1) := dk_28 (dk_at dksX0_laysHung_0 7 rfl rfl)
theorem dX0_laysHung_8 : decode cX0_laysHung 8 = .ok (.bipush 6, 2) := dk_16 6 (dk_at dksX0_laysHung_0 8 rfl rfl)
theorem dX0_laysHung_10 : decode cX0_laysHung 10 = .ok (.if_icmp .ge 19, 3) := dk_162 0 19 (dk_at dksX0_laysHung_0 10 rfl rfl)
theorem dX0_laysHung_13 : decode cX0_laysHung 13 = .ok (.aload_n 0, 1) := dk_42 (dk_at dksX0_laysHung_0 13 rfl rfl)
theorem dX0_laysHung_14 : decode cX0_laysHung 14 = .ok (.getfield 63, 3) := dk_180 0 63 (dk_at dksX0_laysHung_0 14 rfl rfl)
theorem dX0_laysHung_17 : decode cX0_laysHung 17 = .ok (.iload_n 2, 1) := dk_28 (dk_at dksX0_laysHung_0 17 rfl rfl)
theorem dX0_laysHung_18 : decode cX0_laysHung 18 = .ok (.aaload, 1) := dk_50 (dk_at dksX0_laysHung_0 18 rfl rfl)
theorem dX0_laysHung_19 : decode cX0_laysHung 19 = .ok (.iconst 0, 1) := dk_3 (dk_at dksX0_laysHung_0 19 rfl rfl)
theorem dX0_laysHung_20 : decode cX0_laysHung 20 = .ok (.invokestatic 319, 3) := dk_184 1 63 (dk_at dksX0_laysHung_0 20 rfl rfl)
theorem dX0_laysHung_23 : decode cX0_laysHung 23 = .ok (.iinc 2 1, 3) := dk_132 2 1 (dk_at dksX0_laysHung_1 0 rfl rfl)
theorem dX0_laysHung_26 : decode cX0_laysHung 26 = .ok (.goto (-19), 3) := dk_167 255 237 (dk_at dksX0_laysHung_1 3 rfl rfl)
theorem dX0_laysHung_29 : decode cX0_laysHung 29 = .ok (.aload_n 0, 1) := dk_42 (dk_at dksX0_laysHung_1 6 rfl rfl)
theorem dX0_laysHung_30 : decode cX0_laysHung 30 = .ok (.iconst 0, 1) := dk_3 (dk_at dksX0_laysHung_1 7 rfl rfl)
theorem dX0_laysHung_31 : decode cX0_laysHung 31 = .ok (.aload_n 0, 1) := dk_42 (dk_at dksX0_laysHung_1 8 rfl rfl)
theorem dX0_laysHung_32 : decode cX0_laysHung 32 = .ok (.aload_n 0, 1) := dk_42 (dk_at dksX0_laysHung_1 9 rfl rfl)
theorem dX0_laysHung_33 : decode cX0_laysHung 33 = .ok (.getfield 21, 3) := dk_180 0 21 (dk_at dksX0_laysHung_1 10 rfl rfl)
theorem dX0_laysHung_36 : decode cX0_laysHung 36 = .ok (.getfield 88, 3) := dk_180 0 88 (dk_at dksX0_laysHung_1 13 rfl rfl)
theorem dX0_laysHung_39 : decode cX0_laysHung 39 = .ok (.invokevirtual 178, 3) := dk_182 0 178 (dk_at dksX0_laysHung_1 16 rfl rfl)
theorem dX0_laysHung_42 : decode cX0_laysHung 42 = .ok (.iload_n 1, 1) := dk_27 (dk_at dksX0_laysHung_1 19 rfl rfl)
theorem dX0_laysHung_43 : decode cX0_laysHung 43 = .ok (.invokevirtual 377, 3) := dk_182 1 121 (dk_at dksX0_laysHung_1 20 rfl rfl)
theorem dX0_laysHung_46 : decode cX0_laysHung 46 = .ok (.return_, 1) := dk_177 (dk_at dksX0_laysHung_1 23 rfl rfl)
abbrev cX0_hangsFrom : ByteArray := prog_1_method_78_code
def yX0_hangsFrom : MethodName := ⟨RX0, "hangsFrom", "(III)V"⟩
def dkwX0_hangsFrom_6 : List UInt8 := [21, 4, 120, 2, 130, 126, 29, 182, 1, 121, 132, 4, 1, 167, 255, 181, 177]
abbrev dktX0_hangsFrom_6 : List UInt8 := dkwX0_hangsFrom_6 ++ []
def dkwX0_hangsFrom_5 : List UInt8 := [184, 1, 118, 29, 164, 0, 6, 167, 0, 27, 42, 180, 0, 55, 27, 21, 4, 79, 42, 27, 4, 96, 28, 4]
abbrev dktX0_hangsFrom_5 : List UInt8 := dkwX0_hangsFrom_5 ++ dktX0_hangsFrom_6
def dkwX0_hangsFrom_4 : List UInt8 := [153, 0, 57, 42, 180, 0, 21, 180, 0, 101, 21, 4, 46, 42, 180, 0, 21, 180, 1, 112, 27, 46, 100]
abbrev dktX0_hangsFrom_4 : List UInt8 := dkwX0_hangsFrom_4 ++ dktX0_hangsFrom_5
def dkwX0_hangsFrom_3 : List UInt8 := [181, 1, 115, 177, 3, 54, 4, 21, 4, 42, 182, 0, 73, 162, 0, 72, 28, 21, 4, 184, 1, 41]
abbrev dktX0_hangsFrom_3 : List UInt8 := dkwX0_hangsFrom_3 ++ dktX0_hangsFrom_4
def dkwX0_hangsFrom_2 : List UInt8 := [180, 0, 55, 21, 4, 46, 92, 46, 4, 96, 79, 132, 4, 1, 167, 255, 228, 42, 89, 180, 1, 115, 4, 96]
abbrev dktX0_hangsFrom_2 : List UInt8 := dkwX0_hangsFrom_2 ++ dktX0_hangsFrom_3
def dkwX0_hangsFrom_1 : List UInt8 := [42, 180, 0, 58, 184, 1, 37, 3, 54, 4, 21, 4, 27, 162, 0, 28, 42, 180, 0, 63, 21, 4, 50, 42]
abbrev dktX0_hangsFrom_1 : List UInt8 := dkwX0_hangsFrom_1 ++ dktX0_hangsFrom_2
def dkwX0_hangsFrom_0 : List UInt8 := [27, 42, 180, 0, 21, 180, 0, 70, 7, 46, 160, 0, 66, 42, 180, 1, 115, 154, 0, 14, 42, 180, 0, 55]
abbrev dktX0_hangsFrom_0 : List UInt8 := dkwX0_hangsFrom_0 ++ dktX0_hangsFrom_1
theorem dksX0_hangsFrom_0 : cX0_hangsFrom.data.toList.drop 0 = dktX0_hangsFrom_0 := by decide +kernel
theorem dksX0_hangsFrom_1 : cX0_hangsFrom.data.toList.drop 24 = dktX0_hangsFrom_1 := dk_seg dksX0_hangsFrom_0 24 rfl rfl
theorem dksX0_hangsFrom_2 : cX0_hangsFrom.data.toList.drop 48 = dktX0_hangsFrom_2 := dk_seg dksX0_hangsFrom_1 24 rfl rfl
theorem dksX0_hangsFrom_3 : cX0_hangsFrom.data.toList.drop 72 = dktX0_hangsFrom_3 := dk_seg dksX0_hangsFrom_2 24 rfl rfl
theorem dksX0_hangsFrom_4 : cX0_hangsFrom.data.toList.drop 94 = dktX0_hangsFrom_4 := dk_seg dksX0_hangsFrom_3 22 rfl rfl
theorem dksX0_hangsFrom_5 : cX0_hangsFrom.data.toList.drop 117 = dktX0_hangsFrom_5 := dk_seg dksX0_hangsFrom_4 23 rfl rfl
theorem dksX0_hangsFrom_6 : cX0_hangsFrom.data.toList.drop 141 = dktX0_hangsFrom_6 := dk_seg dksX0_hangsFrom_5 24 rfl rfl
theorem dX0_hangsFrom_0 : decode cX0_hangsFrom 0 = .ok (.iload_n 1, 1) := dk_27 (dk_at dksX0_hangsFrom_0 0 rfl rfl)
theorem dX0_hangsFrom_1 : decode cX0_hangsFrom 1 = .ok (.aload_n 0, 1) := dk_42 (dk_at dksX0_hangsFrom_0 1 rfl rfl)
theorem dX0_hangsFrom_2 : decode cX0_hangsFrom 2 = .ok (.getfield 21, 3) := dk_180 0 21 (dk_at dksX0_hangsFrom_0 2 rfl rfl)
theorem dX0_hangsFrom_5 : decode cX0_hangsFrom 5 = .ok (.getfield 70, 3) := dk_180 0 70 (dk_at dksX0_hangsFrom_0 5 rfl rfl)
theorem dX0_hangsFrom_8 : decode cX0_hangsFrom 8 = .ok (.iconst 4, 1) := dk_7 (dk_at dksX0_hangsFrom_0 8 rfl rfl)
theorem dX0_hangsFrom_9 : decode cX0_hangsFrom 9 = .ok (.iaload, 1) := dk_46 (dk_at dksX0_hangsFrom_0 9 rfl rfl)
theorem dX0_hangsFrom_10 : decode cX0_hangsFrom 10 = .ok (.if_icmp .ne 66, 3) := dk_160 0 66 (dk_at dksX0_hangsFrom_0 10 rfl rfl)
theorem dX0_hangsFrom_13 : decode cX0_hangsFrom 13 = .ok (.aload_n 0, 1) := dk_42 (dk_at dksX0_hangsFrom_0 13 rfl rfl)
theorem dX0_hangsFrom_14 : decode cX0_hangsFrom 14 = .ok (.getfield 371, 3) := dk_180 1 115 (dk_at dksX0_hangsFrom_0 14 rfl rfl)
theorem dX0_hangsFrom_17 : decode cX0_hangsFrom 17 = .ok (.ifCond .ne 14, 3) := dk_154 0 14 (dk_at dksX0_hangsFrom_0 17 rfl rfl)
theorem dX0_hangsFrom_20 : decode cX0_hangsFrom 20 = .ok (.aload_n 0, 1) := dk_42 (dk_at dksX0_hangsFrom_0 20 rfl rfl)
theorem dX0_hangsFrom_21 : decode cX0_hangsFrom 21 = .ok (.getfield 55, 3) := dk_180 0 55 (dk_at dksX0_hangsFrom_0 21 rfl rfl)
theorem dX0_hangsFrom_24 : decode cX0_hangsFrom 24 = .ok (.aload_n 0, 1) := dk_42 (dk_at dksX0_hangsFrom_1 0 rfl rfl)
theorem dX0_hangsFrom_25 : decode cX0_hangsFrom 25 = .ok (.getfield 58, 3) := dk_180 0 58 (dk_at dksX0_hangsFrom_1 1 rfl rfl)
theorem dX0_hangsFrom_28 : decode cX0_hangsFrom 28 = .ok (.invokestatic 293, 3) := dk_184 1 37 (dk_at dksX0_hangsFrom_1 4 rfl rfl)
theorem dX0_hangsFrom_31 : decode cX0_hangsFrom 31 = .ok (.iconst 0, 1) := dk_3 (dk_at dksX0_hangsFrom_1 7 rfl rfl)
theorem dX0_hangsFrom_32 : decode cX0_hangsFrom 32 = .ok (.istore 4, 2) := dk_54 4 (dk_at dksX0_hangsFrom_1 8 rfl rfl)
theorem dX0_hangsFrom_34 : decode cX0_hangsFrom 34 = .ok (.iload 4, 2) := dk_21 4 (dk_at dksX0_hangsFrom_1 10 rfl rfl)
theorem dX0_hangsFrom_36 : decode cX0_hangsFrom 36 = .ok (.iload_n 1, 1) := dk_27 (dk_at dksX0_hangsFrom_1 12 rfl rfl)
theorem dX0_hangsFrom_37 : decode cX0_hangsFrom 37 = .ok (.if_icmp .ge 28, 3) := dk_162 0 28 (dk_at dksX0_hangsFrom_1 13 rfl rfl)
theorem dX0_hangsFrom_40 : decode cX0_hangsFrom 40 = .ok (.aload_n 0, 1) := dk_42 (dk_at dksX0_hangsFrom_1 16 rfl rfl)
theorem dX0_hangsFrom_41 : decode cX0_hangsFrom 41 = .ok (.getfield 63, 3) := dk_180 0 63 (dk_at dksX0_hangsFrom_1 17 rfl rfl)
theorem dX0_hangsFrom_44 : decode cX0_hangsFrom 44 = .ok (.iload 4, 2) := dk_21 4 (dk_at dksX0_hangsFrom_1 20 rfl rfl)
theorem dX0_hangsFrom_46 : decode cX0_hangsFrom 46 = .ok (.aaload, 1) := dk_50 (dk_at dksX0_hangsFrom_1 22 rfl rfl)
theorem dX0_hangsFrom_47 : decode cX0_hangsFrom 47 = .ok (.aload_n 0, 1) := dk_42 (dk_at dksX0_hangsFrom_1 23 rfl rfl)
theorem dX0_hangsFrom_48 : decode cX0_hangsFrom 48 = .ok (.getfield 55, 3) := dk_180 0 55 (dk_at dksX0_hangsFrom_2 0 rfl rfl)
theorem dX0_hangsFrom_51 : decode cX0_hangsFrom 51 = .ok (.iload 4, 2) := dk_21 4 (dk_at dksX0_hangsFrom_2 3 rfl rfl)
theorem dX0_hangsFrom_53 : decode cX0_hangsFrom 53 = .ok (.iaload, 1) := dk_46 (dk_at dksX0_hangsFrom_2 5 rfl rfl)
theorem dX0_hangsFrom_54 : decode cX0_hangsFrom 54 = .ok (.dup2, 1) := dk_92 (dk_at dksX0_hangsFrom_2 6 rfl rfl)
theorem dX0_hangsFrom_55 : decode cX0_hangsFrom 55 = .ok (.iaload, 1) := dk_46 (dk_at dksX0_hangsFrom_2 7 rfl rfl)
theorem dX0_hangsFrom_56 : decode cX0_hangsFrom 56 = .ok (.iconst 1, 1) := dk_4 (dk_at dksX0_hangsFrom_2 8 rfl rfl)
theorem dX0_hangsFrom_57 : decode cX0_hangsFrom 57 = .ok (.iadd, 1) := dk_96 (dk_at dksX0_hangsFrom_2 9 rfl rfl)
theorem dX0_hangsFrom_58 : decode cX0_hangsFrom 58 = .ok (.iastore, 1) := dk_79 (dk_at dksX0_hangsFrom_2 10 rfl rfl)
theorem dX0_hangsFrom_59 : decode cX0_hangsFrom 59 = .ok (.iinc 4 1, 3) := dk_132 4 1 (dk_at dksX0_hangsFrom_2 11 rfl rfl)
theorem dX0_hangsFrom_62 : decode cX0_hangsFrom 62 = .ok (.goto (-28), 3) := dk_167 255 228 (dk_at dksX0_hangsFrom_2 14 rfl rfl)
theorem dX0_hangsFrom_65 : decode cX0_hangsFrom 65 = .ok (.aload_n 0, 1) := dk_42 (dk_at dksX0_hangsFrom_2 17 rfl rfl)
theorem dX0_hangsFrom_66 : decode cX0_hangsFrom 66 = .ok (.dup, 1) := dk_89 (dk_at dksX0_hangsFrom_2 18 rfl rfl)
theorem dX0_hangsFrom_67 : decode cX0_hangsFrom 67 = .ok (.getfield 371, 3) := dk_180 1 115 (dk_at dksX0_hangsFrom_2 19 rfl rfl)
theorem dX0_hangsFrom_70 : decode cX0_hangsFrom 70 = .ok (.iconst 1, 1) := dk_4 (dk_at dksX0_hangsFrom_2 22 rfl rfl)
theorem dX0_hangsFrom_71 : decode cX0_hangsFrom 71 = .ok (.iadd, 1) := dk_96 (dk_at dksX0_hangsFrom_2 23 rfl rfl)
theorem dX0_hangsFrom_72 : decode cX0_hangsFrom 72 = .ok (.putfield 371, 3) := dk_181 1 115 (dk_at dksX0_hangsFrom_3 0 rfl rfl)
theorem dX0_hangsFrom_75 : decode cX0_hangsFrom 75 = .ok (.return_, 1) := dk_177 (dk_at dksX0_hangsFrom_3 3 rfl rfl)
theorem dX0_hangsFrom_76 : decode cX0_hangsFrom 76 = .ok (.iconst 0, 1) := dk_3 (dk_at dksX0_hangsFrom_3 4 rfl rfl)
theorem dX0_hangsFrom_77 : decode cX0_hangsFrom 77 = .ok (.istore 4, 2) := dk_54 4 (dk_at dksX0_hangsFrom_3 5 rfl rfl)
theorem dX0_hangsFrom_79 : decode cX0_hangsFrom 79 = .ok (.iload 4, 2) := dk_21 4 (dk_at dksX0_hangsFrom_3 7 rfl rfl)
theorem dX0_hangsFrom_81 : decode cX0_hangsFrom 81 = .ok (.aload_n 0, 1) := dk_42 (dk_at dksX0_hangsFrom_3 9 rfl rfl)
theorem dX0_hangsFrom_82 : decode cX0_hangsFrom 82 = .ok (.invokevirtual 73, 3) := dk_182 0 73 (dk_at dksX0_hangsFrom_3 10 rfl rfl)
theorem dX0_hangsFrom_85 : decode cX0_hangsFrom 85 = .ok (.if_icmp .ge 72, 3) := dk_162 0 72 (dk_at dksX0_hangsFrom_3 13 rfl rfl)
theorem dX0_hangsFrom_88 : decode cX0_hangsFrom 88 = .ok (.iload_n 2, 1) := dk_28 (dk_at dksX0_hangsFrom_3 16 rfl rfl)
theorem dX0_hangsFrom_89 : decode cX0_hangsFrom 89 = .ok (.iload 4, 2) := dk_21 4 (dk_at dksX0_hangsFrom_3 17 rfl rfl)
theorem dX0_hangsFrom_91 : decode cX0_hangsFrom 91 = .ok (.invokestatic 297, 3) := dk_184 1 41 (dk_at dksX0_hangsFrom_3 19 rfl rfl)
theorem dX0_hangsFrom_94 : decode cX0_hangsFrom 94 = .ok (.ifCond .eq 57, 3) := dk_153 0 57 (dk_at dksX0_hangsFrom_4 0 rfl rfl)
theorem dX0_hangsFrom_97 : decode cX0_hangsFrom 97 = .ok (.aload_n 0, 1) := dk_42 (dk_at dksX0_hangsFrom_4 3 rfl rfl)
theorem dX0_hangsFrom_98 : decode cX0_hangsFrom 98 = .ok (.getfield 21, 3) := dk_180 0 21 (dk_at dksX0_hangsFrom_4 4 rfl rfl)
theorem dX0_hangsFrom_101 : decode cX0_hangsFrom 101 = .ok (.getfield 101, 3) := dk_180 0 101 (dk_at dksX0_hangsFrom_4 7 rfl rfl)
theorem dX0_hangsFrom_104 : decode cX0_hangsFrom 104 = .ok (.iload 4, 2) := dk_21 4 (dk_at dksX0_hangsFrom_4 10 rfl rfl)
theorem dX0_hangsFrom_106 : decode cX0_hangsFrom 106 = .ok (.iaload, 1) := dk_46 (dk_at dksX0_hangsFrom_4 12 rfl rfl)
theorem dX0_hangsFrom_107 : decode cX0_hangsFrom 107 = .ok (.aload_n 0, 1) := dk_42 (dk_at dksX0_hangsFrom_4 13 rfl rfl)
theorem dX0_hangsFrom_108 : decode cX0_hangsFrom 108 = .ok (.getfield 21, 3) := dk_180 0 21 (dk_at dksX0_hangsFrom_4 14 rfl rfl)
theorem dX0_hangsFrom_111 : decode cX0_hangsFrom 111 = .ok (.getfield 368, 3) := dk_180 1 112 (dk_at dksX0_hangsFrom_4 17 rfl rfl)
theorem dX0_hangsFrom_114 : decode cX0_hangsFrom 114 = .ok (.iload_n 1, 1) := dk_27 (dk_at dksX0_hangsFrom_4 20 rfl rfl)
theorem dX0_hangsFrom_115 : decode cX0_hangsFrom 115 = .ok (.iaload, 1) := dk_46 (dk_at dksX0_hangsFrom_4 21 rfl rfl)
theorem dX0_hangsFrom_116 : decode cX0_hangsFrom 116 = .ok (.isub, 1) := dk_100 (dk_at dksX0_hangsFrom_4 22 rfl rfl)
theorem dX0_hangsFrom_117 : decode cX0_hangsFrom 117 = .ok (.invokestatic 374, 3) := dk_184 1 118 (dk_at dksX0_hangsFrom_5 0 rfl rfl)
theorem dX0_hangsFrom_120 : decode cX0_hangsFrom 120 = .ok (.iload_n 3, 1) := dk_29 (dk_at dksX0_hangsFrom_5 3 rfl rfl)
theorem dX0_hangsFrom_121 : decode cX0_hangsFrom 121 = .ok (.if_icmp .le 6, 3) := dk_164 0 6 (dk_at dksX0_hangsFrom_5 4 rfl rfl)
theorem dX0_hangsFrom_124 : decode cX0_hangsFrom 124 = .ok (.goto 27, 3) := dk_167 0 27 (dk_at dksX0_hangsFrom_5 7 rfl rfl)
theorem dX0_hangsFrom_127 : decode cX0_hangsFrom 127 = .ok (.aload_n 0, 1) := dk_42 (dk_at dksX0_hangsFrom_5 10 rfl rfl)
theorem dX0_hangsFrom_128 : decode cX0_hangsFrom 128 = .ok (.getfield 55, 3) := dk_180 0 55 (dk_at dksX0_hangsFrom_5 11 rfl rfl)
theorem dX0_hangsFrom_131 : decode cX0_hangsFrom 131 = .ok (.iload_n 1, 1) := dk_27 (dk_at dksX0_hangsFrom_5 14 rfl rfl)
theorem dX0_hangsFrom_132 : decode cX0_hangsFrom 132 = .ok (.iload 4, 2) := dk_21 4 (dk_at dksX0_hangsFrom_5 15 rfl rfl)
theorem dX0_hangsFrom_134 : decode cX0_hangsFrom 134 = .ok (.iastore, 1) := dk_79 (dk_at dksX0_hangsFrom_5 17 rfl rfl)
theorem dX0_hangsFrom_135 : decode cX0_hangsFrom 135 = .ok (.aload_n 0, 1) := dk_42 (dk_at dksX0_hangsFrom_5 18 rfl rfl)
theorem dX0_hangsFrom_136 : decode cX0_hangsFrom 136 = .ok (.iload_n 1, 1) := dk_27 (dk_at dksX0_hangsFrom_5 19 rfl rfl)
theorem dX0_hangsFrom_137 : decode cX0_hangsFrom 137 = .ok (.iconst 1, 1) := dk_4 (dk_at dksX0_hangsFrom_5 20 rfl rfl)
theorem dX0_hangsFrom_138 : decode cX0_hangsFrom 138 = .ok (.iadd, 1) := dk_96 (dk_at dksX0_hangsFrom_5 21 rfl rfl)
theorem dX0_hangsFrom_139 : decode cX0_hangsFrom 139 = .ok (.iload_n 2, 1) := dk_28 (dk_at dksX0_hangsFrom_5 22 rfl rfl)
theorem dX0_hangsFrom_140 : decode cX0_hangsFrom 140 = .ok (.iconst 1, 1) := dk_4 (dk_at dksX0_hangsFrom_5 23 rfl rfl)
theorem dX0_hangsFrom_141 : decode cX0_hangsFrom 141 = .ok (.iload 4, 2) := dk_21 4 (dk_at dksX0_hangsFrom_6 0 rfl rfl)
theorem dX0_hangsFrom_143 : decode cX0_hangsFrom 143 = .ok (.ishl, 1) := dk_120 (dk_at dksX0_hangsFrom_6 2 rfl rfl)
theorem dX0_hangsFrom_144 : decode cX0_hangsFrom 144 = .ok (.iconst (-1), 1) := dk_2 (dk_at dksX0_hangsFrom_6 3 rfl rfl)
theorem dX0_hangsFrom_145 : decode cX0_hangsFrom 145 = .ok (.ixor, 1) := dk_130 (dk_at dksX0_hangsFrom_6 4 rfl rfl)
theorem dX0_hangsFrom_146 : decode cX0_hangsFrom 146 = .ok (.iand, 1) := dk_126 (dk_at dksX0_hangsFrom_6 5 rfl rfl)
theorem dX0_hangsFrom_147 : decode cX0_hangsFrom 147 = .ok (.iload_n 3, 1) := dk_29 (dk_at dksX0_hangsFrom_6 6 rfl rfl)
theorem dX0_hangsFrom_148 : decode cX0_hangsFrom 148 = .ok (.invokevirtual 377, 3) := dk_182 1 121 (dk_at dksX0_hangsFrom_6 7 rfl rfl)
theorem dX0_hangsFrom_151 : decode cX0_hangsFrom 151 = .ok (.iinc 4 1, 3) := dk_132 4 1 (dk_at dksX0_hangsFrom_6 10 rfl rfl)
theorem dX0_hangsFrom_154 : decode cX0_hangsFrom 154 = .ok (.goto (-75), 3) := dk_167 255 181 (dk_at dksX0_hangsFrom_6 13 rfl rfl)
theorem dX0_hangsFrom_157 : decode cX0_hangsFrom 157 = .ok (.return_, 1) := dk_177 (dk_at dksX0_hangsFrom_6 16 rfl rfl)
abbrev cX0_look : ByteArray := prog_1_method_82_code
def yX0_look : MethodName := ⟨RX0, "look", "(I)I"⟩
def dkwX0_look_2 : List UInt8 := [29, 61, 132, 3, 1, 167, 255, 225, 42, 180, 1, 115, 5, 162, 0, 7, 2, 167, 0, 4, 28, 172]
abbrev dktX0_look_2 : List UInt8 := dkwX0_look_2 ++ []
def dkwX0_look_1 : List UInt8 := [180, 0, 21, 180, 0, 70, 7, 46, 162, 0, 24, 42, 29, 182, 1, 128, 42, 28, 182, 1, 128, 162, 0, 5]
abbrev dktX0_look_1 : List UInt8 := dkwX0_look_1 ++ dktX0_look_2
def dkwX0_look_0 : List UInt8 := [27, 3, 16, 9, 184, 0, 77, 154, 0, 5, 2, 172, 42, 27, 182, 1, 125, 3, 61, 4, 62, 29, 42]
abbrev dktX0_look_0 : List UInt8 := dkwX0_look_0 ++ dktX0_look_1
theorem dksX0_look_0 : cX0_look.data.toList.drop 0 = dktX0_look_0 := by decide +kernel
theorem dksX0_look_1 : cX0_look.data.toList.drop 23 = dktX0_look_1 := dk_seg dksX0_look_0 23 rfl rfl
theorem dksX0_look_2 : cX0_look.data.toList.drop 47 = dktX0_look_2 := dk_seg dksX0_look_1 24 rfl rfl
theorem dX0_look_0 : decode cX0_look 0 = .ok (.iload_n 1, 1) := dk_27 (dk_at dksX0_look_0 0 rfl rfl)
theorem dX0_look_1 : decode cX0_look 1 = .ok (.iconst 0, 1) := dk_3 (dk_at dksX0_look_0 1 rfl rfl)
theorem dX0_look_2 : decode cX0_look 2 = .ok (.bipush 9, 2) := dk_16 9 (dk_at dksX0_look_0 2 rfl rfl)
theorem dX0_look_4 : decode cX0_look 4 = .ok (.invokestatic 77, 3) := dk_184 0 77 (dk_at dksX0_look_0 4 rfl rfl)
theorem dX0_look_7 : decode cX0_look 7 = .ok (.ifCond .ne 5, 3) := dk_154 0 5 (dk_at dksX0_look_0 7 rfl rfl)
theorem dX0_look_10 : decode cX0_look 10 = .ok (.iconst (-1), 1) := dk_2 (dk_at dksX0_look_0 10 rfl rfl)
theorem dX0_look_11 : decode cX0_look 11 = .ok (.ireturn, 1) := dk_172 (dk_at dksX0_look_0 11 rfl rfl)
theorem dX0_look_12 : decode cX0_look 12 = .ok (.aload_n 0, 1) := dk_42 (dk_at dksX0_look_0 12 rfl rfl)
theorem dX0_look_13 : decode cX0_look 13 = .ok (.iload_n 1, 1) := dk_27 (dk_at dksX0_look_0 13 rfl rfl)
theorem dX0_look_14 : decode cX0_look 14 = .ok (.invokevirtual 381, 3) := dk_182 1 125 (dk_at dksX0_look_0 14 rfl rfl)
theorem dX0_look_17 : decode cX0_look 17 = .ok (.iconst 0, 1) := dk_3 (dk_at dksX0_look_0 17 rfl rfl)
theorem dX0_look_18 : decode cX0_look 18 = .ok (.istore_n 2, 1) := dk_61 (dk_at dksX0_look_0 18 rfl rfl)
theorem dX0_look_19 : decode cX0_look 19 = .ok (.iconst 1, 1) := dk_4 (dk_at dksX0_look_0 19 rfl rfl)
theorem dX0_look_20 : decode cX0_look 20 = .ok (.istore_n 3, 1) := dk_62 (dk_at dksX0_look_0 20 rfl rfl)
theorem dX0_look_21 : decode cX0_look 21 = .ok (.iload_n 3, 1) := dk_29 (dk_at dksX0_look_0 21 rfl rfl)
theorem dX0_look_22 : decode cX0_look 22 = .ok (.aload_n 0, 1) := dk_42 (dk_at dksX0_look_0 22 rfl rfl)
theorem dX0_look_23 : decode cX0_look 23 = .ok (.getfield 21, 3) := dk_180 0 21 (dk_at dksX0_look_1 0 rfl rfl)
theorem dX0_look_26 : decode cX0_look 26 = .ok (.getfield 70, 3) := dk_180 0 70 (dk_at dksX0_look_1 3 rfl rfl)
theorem dX0_look_29 : decode cX0_look 29 = .ok (.iconst 4, 1) := dk_7 (dk_at dksX0_look_1 6 rfl rfl)
theorem dX0_look_30 : decode cX0_look 30 = .ok (.iaload, 1) := dk_46 (dk_at dksX0_look_1 7 rfl rfl)
theorem dX0_look_31 : decode cX0_look 31 = .ok (.if_icmp .ge 24, 3) := dk_162 0 24 (dk_at dksX0_look_1 8 rfl rfl)
theorem dX0_look_34 : decode cX0_look 34 = .ok (.aload_n 0, 1) := dk_42 (dk_at dksX0_look_1 11 rfl rfl)
theorem dX0_look_35 : decode cX0_look 35 = .ok (.iload_n 3, 1) := dk_29 (dk_at dksX0_look_1 12 rfl rfl)
theorem dX0_look_36 : decode cX0_look 36 = .ok (.invokevirtual 384, 3) := dk_182 1 128 (dk_at dksX0_look_1 13 rfl rfl)
theorem dX0_look_39 : decode cX0_look 39 = .ok (.aload_n 0, 1) := dk_42 (dk_at dksX0_look_1 16 rfl rfl)
theorem dX0_look_40 : decode cX0_look 40 = .ok (.iload_n 2, 1) := dk_28 (dk_at dksX0_look_1 17 rfl rfl)
theorem dX0_look_41 : decode cX0_look 41 = .ok (.invokevirtual 384, 3) := dk_182 1 128 (dk_at dksX0_look_1 18 rfl rfl)
theorem dX0_look_44 : decode cX0_look 44 = .ok (.if_icmp .ge 5, 3) := dk_162 0 5 (dk_at dksX0_look_1 21 rfl rfl)
theorem dX0_look_47 : decode cX0_look 47 = .ok (.iload_n 3, 1) := dk_29 (dk_at dksX0_look_2 0 rfl rfl)
theorem dX0_look_48 : decode cX0_look 48 = .ok (.istore_n 2, 1) := dk_61 (dk_at dksX0_look_2 1 rfl rfl)
theorem dX0_look_49 : decode cX0_look 49 = .ok (.iinc 3 1, 3) := dk_132 3 1 (dk_at dksX0_look_2 2 rfl rfl)
theorem dX0_look_52 : decode cX0_look 52 = .ok (.goto (-31), 3) := dk_167 255 225 (dk_at dksX0_look_2 5 rfl rfl)
theorem dX0_look_55 : decode cX0_look 55 = .ok (.aload_n 0, 1) := dk_42 (dk_at dksX0_look_2 8 rfl rfl)
theorem dX0_look_56 : decode cX0_look 56 = .ok (.getfield 371, 3) := dk_180 1 115 (dk_at dksX0_look_2 9 rfl rfl)
theorem dX0_look_59 : decode cX0_look 59 = .ok (.iconst 2, 1) := dk_5 (dk_at dksX0_look_2 12 rfl rfl)
theorem dX0_look_60 : decode cX0_look 60 = .ok (.if_icmp .ge 7, 3) := dk_162 0 7 (dk_at dksX0_look_2 13 rfl rfl)
theorem dX0_look_63 : decode cX0_look 63 = .ok (.iconst (-1), 1) := dk_2 (dk_at dksX0_look_2 16 rfl rfl)
theorem dX0_look_64 : decode cX0_look 64 = .ok (.goto 4, 3) := dk_167 0 4 (dk_at dksX0_look_2 17 rfl rfl)
theorem dX0_look_67 : decode cX0_look 67 = .ok (.iload_n 2, 1) := dk_28 (dk_at dksX0_look_2 20 rfl rfl)
theorem dX0_look_68 : decode cX0_look 68 = .ok (.ireturn, 1) := dk_172 (dk_at dksX0_look_2 21 rfl rfl)
abbrev cX0_mostOn : ByteArray := prog_1_method_81_code
def yX0_mostOn : MethodName := ⟨RX0, "mostOn", "(I)I"⟩
def dkwX0_mostOn_1 : List UInt8 := [132, 3, 1, 167, 255, 234, 28, 172]
abbrev dktX0_mostOn_1 : List UInt8 := dkwX0_mostOn_1 ++ []
def dkwX0_mostOn_0 : List UInt8 := [3, 61, 3, 62, 29, 16, 8, 162, 0, 22, 28, 42, 180, 0, 63, 27, 50, 29, 46, 184, 0, 220, 61]
abbrev dktX0_mostOn_0 : List UInt8 := dkwX0_mostOn_0 ++ dktX0_mostOn_1
theorem dksX0_mostOn_0 : cX0_mostOn.data.toList.drop 0 = dktX0_mostOn_0 := by decide +kernel
theorem dksX0_mostOn_1 : cX0_mostOn.data.toList.drop 23 = dktX0_mostOn_1 := dk_seg dksX0_mostOn_0 23 rfl rfl
theorem dX0_mostOn_0 : decode cX0_mostOn 0 = .ok (.iconst 0, 1) := dk_3 (dk_at dksX0_mostOn_0 0 rfl rfl)
theorem dX0_mostOn_1 : decode cX0_mostOn 1 = .ok (.istore_n 2, 1) := dk_61 (dk_at dksX0_mostOn_0 1 rfl rfl)
theorem dX0_mostOn_2 : decode cX0_mostOn 2 = .ok (.iconst 0, 1) := dk_3 (dk_at dksX0_mostOn_0 2 rfl rfl)
theorem dX0_mostOn_3 : decode cX0_mostOn 3 = .ok (.istore_n 3, 1) := dk_62 (dk_at dksX0_mostOn_0 3 rfl rfl)
theorem dX0_mostOn_4 : decode cX0_mostOn 4 = .ok (.iload_n 3, 1) := dk_29 (dk_at dksX0_mostOn_0 4 rfl rfl)
theorem dX0_mostOn_5 : decode cX0_mostOn 5 = .ok (.bipush 8, 2) := dk_16 8 (dk_at dksX0_mostOn_0 5 rfl rfl)
theorem dX0_mostOn_7 : decode cX0_mostOn 7 = .ok (.if_icmp .ge 22, 3) := dk_162 0 22 (dk_at dksX0_mostOn_0 7 rfl rfl)
theorem dX0_mostOn_10 : decode cX0_mostOn 10 = .ok (.iload_n 2, 1) := dk_28 (dk_at dksX0_mostOn_0 10 rfl rfl)
theorem dX0_mostOn_11 : decode cX0_mostOn 11 = .ok (.aload_n 0, 1) := dk_42 (dk_at dksX0_mostOn_0 11 rfl rfl)
theorem dX0_mostOn_12 : decode cX0_mostOn 12 = .ok (.getfield 63, 3) := dk_180 0 63 (dk_at dksX0_mostOn_0 12 rfl rfl)
theorem dX0_mostOn_15 : decode cX0_mostOn 15 = .ok (.iload_n 1, 1) := dk_27 (dk_at dksX0_mostOn_0 15 rfl rfl)
theorem dX0_mostOn_16 : decode cX0_mostOn 16 = .ok (.aaload, 1) := dk_50 (dk_at dksX0_mostOn_0 16 rfl rfl)
theorem dX0_mostOn_17 : decode cX0_mostOn 17 = .ok (.iload_n 3, 1) := dk_29 (dk_at dksX0_mostOn_0 17 rfl rfl)
theorem dX0_mostOn_18 : decode cX0_mostOn 18 = .ok (.iaload, 1) := dk_46 (dk_at dksX0_mostOn_0 18 rfl rfl)
theorem dX0_mostOn_19 : decode cX0_mostOn 19 = .ok (.invokestatic 220, 3) := dk_184 0 220 (dk_at dksX0_mostOn_0 19 rfl rfl)
theorem dX0_mostOn_22 : decode cX0_mostOn 22 = .ok (.istore_n 2, 1) := dk_61 (dk_at dksX0_mostOn_0 22 rfl rfl)
theorem dX0_mostOn_23 : decode cX0_mostOn 23 = .ok (.iinc 3 1, 3) := dk_132 3 1 (dk_at dksX0_mostOn_1 0 rfl rfl)
theorem dX0_mostOn_26 : decode cX0_mostOn 26 = .ok (.goto (-22), 3) := dk_167 255 234 (dk_at dksX0_mostOn_1 3 rfl rfl)
theorem dX0_mostOn_29 : decode cX0_mostOn 29 = .ok (.iload_n 2, 1) := dk_28 (dk_at dksX0_mostOn_1 6 rfl rfl)
theorem dX0_mostOn_30 : decode cX0_mostOn 30 = .ok (.ireturn, 1) := dk_172 (dk_at dksX0_mostOn_1 7 rfl rfl)
abbrev cX0_bid : ByteArray := prog_1_method_83_code
def yX0_bid : MethodName := ⟨RX0, "bid", "(IZ)I"⟩
def dkwX0_bid_2 : List UInt8 := [180, 1, 131, 8, 27, 28, 153, 0, 7, 4, 167, 0, 4, 3, 182, 1, 134, 167, 0, 5, 16, 254, 172]
abbrev dktX0_bid_2 : List UInt8 := dkwX0_bid_2 ++ []
def dkwX0_bid_1 : List UInt8 := [42, 180, 0, 21, 180, 0, 70, 8, 46, 16, 10, 162, 0, 31, 42, 180, 0, 21, 42, 180, 0, 21]
abbrev dktX0_bid_1 : List UInt8 := dkwX0_bid_1 ++ dktX0_bid_2
def dkwX0_bid_0 : List UInt8 := [27, 2, 160, 0, 12, 42, 180, 0, 21, 8, 182, 1, 109, 172, 27, 3, 16, 99, 184, 0, 77, 153, 0, 45]
abbrev dktX0_bid_0 : List UInt8 := dkwX0_bid_0 ++ dktX0_bid_1
theorem dksX0_bid_0 : cX0_bid.data.toList.drop 0 = dktX0_bid_0 := by decide +kernel
theorem dksX0_bid_1 : cX0_bid.data.toList.drop 24 = dktX0_bid_1 := dk_seg dksX0_bid_0 24 rfl rfl
theorem dksX0_bid_2 : cX0_bid.data.toList.drop 46 = dktX0_bid_2 := dk_seg dksX0_bid_1 22 rfl rfl
theorem dX0_bid_0 : decode cX0_bid 0 = .ok (.iload_n 1, 1) := dk_27 (dk_at dksX0_bid_0 0 rfl rfl)
theorem dX0_bid_1 : decode cX0_bid 1 = .ok (.iconst (-1), 1) := dk_2 (dk_at dksX0_bid_0 1 rfl rfl)
theorem dX0_bid_2 : decode cX0_bid 2 = .ok (.if_icmp .ne 12, 3) := dk_160 0 12 (dk_at dksX0_bid_0 2 rfl rfl)
theorem dX0_bid_5 : decode cX0_bid 5 = .ok (.aload_n 0, 1) := dk_42 (dk_at dksX0_bid_0 5 rfl rfl)
theorem dX0_bid_6 : decode cX0_bid 6 = .ok (.getfield 21, 3) := dk_180 0 21 (dk_at dksX0_bid_0 6 rfl rfl)
theorem dX0_bid_9 : decode cX0_bid 9 = .ok (.iconst 5, 1) := dk_8 (dk_at dksX0_bid_0 9 rfl rfl)
theorem dX0_bid_10 : decode cX0_bid 10 = .ok (.invokevirtual 365, 3) := dk_182 1 109 (dk_at dksX0_bid_0 10 rfl rfl)
theorem dX0_bid_13 : decode cX0_bid 13 = .ok (.ireturn, 1) := dk_172 (dk_at dksX0_bid_0 13 rfl rfl)
theorem dX0_bid_14 : decode cX0_bid 14 = .ok (.iload_n 1, 1) := dk_27 (dk_at dksX0_bid_0 14 rfl rfl)
theorem dX0_bid_15 : decode cX0_bid 15 = .ok (.iconst 0, 1) := dk_3 (dk_at dksX0_bid_0 15 rfl rfl)
theorem dX0_bid_16 : decode cX0_bid 16 = .ok (.bipush 99, 2) := dk_16 99 (dk_at dksX0_bid_0 16 rfl rfl)
theorem dX0_bid_18 : decode cX0_bid 18 = .ok (.invokestatic 77, 3) := dk_184 0 77 (dk_at dksX0_bid_0 18 rfl rfl)
theorem dX0_bid_21 : decode cX0_bid 21 = .ok (.ifCond .eq 45, 3) := dk_153 0 45 (dk_at dksX0_bid_0 21 rfl rfl)
theorem dX0_bid_24 : decode cX0_bid 24 = .ok (.aload_n 0, 1) := dk_42 (dk_at dksX0_bid_1 0 rfl rfl)
theorem dX0_bid_25 : decode cX0_bid 25 = .ok (.getfield 21, 3) := dk_180 0 21 (dk_at dksX0_bid_1 1 rfl rfl)
theorem dX0_bid_28 : decode cX0_bid 28 = .ok (.getfield 70, 3) := dk_180 0 70 (dk_at dksX0_bid_1 4 rfl rfl)
theorem dX0_bid_31 : decode cX0_bid 31 = .ok (.iconst 5, 1) := dk_8 (dk_at dksX0_bid_1 7 rfl rfl)
theorem dX0_bid_32 : decode cX0_bid 32 = .ok (.iaload, 1) := dk_46 (dk_at dksX0_bid_1 8 rfl rfl)
theorem dX0_bid_33 : decode cX0_bid 33 = .ok (.bipush 10, 2) := dk_16 10 (dk_at dksX0_bid_1 9 rfl rfl)
theorem dX0_bid_35 : decode cX0_bid 35 = .ok (.if_icmp .ge 31, 3) := dk_162 0 31 (dk_at dksX0_bid_1 11 rfl rfl)
theorem dX0_bid_38 : decode cX0_bid 38 = .ok (.aload_n 0, 1) := dk_42 (dk_at dksX0_bid_1 14 rfl rfl)
theorem dX0_bid_39 : decode cX0_bid 39 = .ok (.getfield 21, 3) := dk_180 0 21 (dk_at dksX0_bid_1 15 rfl rfl)
theorem dX0_bid_42 : decode cX0_bid 42 = .ok (.aload_n 0, 1) := dk_42 (dk_at dksX0_bid_1 18 rfl rfl)
theorem dX0_bid_43 : decode cX0_bid 43 = .ok (.getfield 21, 3) := dk_180 0 21 (dk_at dksX0_bid_1 19 rfl rfl)
theorem dX0_bid_46 : decode cX0_bid 46 = .ok (.getfield 387, 3) := dk_180 1 131 (dk_at dksX0_bid_2 0 rfl rfl)
theorem dX0_bid_49 : decode cX0_bid 49 = .ok (.iconst 5, 1) := dk_8 (dk_at dksX0_bid_2 3 rfl rfl)
theorem dX0_bid_50 : decode cX0_bid 50 = .ok (.iload_n 1, 1) := dk_27 (dk_at dksX0_bid_2 4 rfl rfl)
theorem dX0_bid_51 : decode cX0_bid 51 = .ok (.iload_n 2, 1) := dk_28 (dk_at dksX0_bid_2 5 rfl rfl)
theorem dX0_bid_52 : decode cX0_bid 52 = .ok (.ifCond .eq 7, 3) := dk_153 0 7 (dk_at dksX0_bid_2 6 rfl rfl)
theorem dX0_bid_55 : decode cX0_bid 55 = .ok (.iconst 1, 1) := dk_4 (dk_at dksX0_bid_2 9 rfl rfl)
theorem dX0_bid_56 : decode cX0_bid 56 = .ok (.goto 4, 3) := dk_167 0 4 (dk_at dksX0_bid_2 10 rfl rfl)
theorem dX0_bid_59 : decode cX0_bid 59 = .ok (.iconst 0, 1) := dk_3 (dk_at dksX0_bid_2 13 rfl rfl)
theorem dX0_bid_60 : decode cX0_bid 60 = .ok (.invokevirtual 390, 3) := dk_182 1 134 (dk_at dksX0_bid_2 14 rfl rfl)
theorem dX0_bid_63 : decode cX0_bid 63 = .ok (.goto 5, 3) := dk_167 0 5 (dk_at dksX0_bid_2 17 rfl rfl)
theorem dX0_bid_66 : decode cX0_bid 66 = .ok (.bipush (-2), 2) := dk_16 254 (dk_at dksX0_bid_2 20 rfl rfl)
theorem dX0_bid_68 : decode cX0_bid 68 = .ok (.ireturn, 1) := dk_172 (dk_at dksX0_bid_2 22 rfl rfl)
abbrev cX0_market : ByteArray := prog_1_method_86_code
def yX0_market : MethodName := ⟨RX0, "market", "(I)I"⟩
def dkwX0_market_2 : List UInt8 := [167, 0, 20, 42, 28, 4, 100, 4, 182, 1, 138, 42, 28, 3, 182, 1, 138, 184, 0, 188, 172]
abbrev dktX0_market_2 : List UInt8 := dkwX0_market_2 ++ []
def dkwX0_market_1 : List UInt8 := [2, 172, 27, 4, 160, 0, 23, 42, 28, 4, 100, 3, 182, 1, 138, 42, 28, 4, 182, 1, 138, 184, 0, 220]
abbrev dktX0_market_1 : List UInt8 := dkwX0_market_1 ++ dktX0_market_2
def dkwX0_market_0 : List UInt8 := [42, 182, 1, 142, 61, 27, 154, 0, 5, 28, 172, 27, 4, 5, 184, 0, 77, 153, 0, 7, 28, 154, 0, 5]
abbrev dktX0_market_0 : List UInt8 := dkwX0_market_0 ++ dktX0_market_1
theorem dksX0_market_0 : cX0_market.data.toList.drop 0 = dktX0_market_0 := by decide +kernel
theorem dksX0_market_1 : cX0_market.data.toList.drop 24 = dktX0_market_1 := dk_seg dksX0_market_0 24 rfl rfl
theorem dksX0_market_2 : cX0_market.data.toList.drop 48 = dktX0_market_2 := dk_seg dksX0_market_1 24 rfl rfl
theorem dX0_market_0 : decode cX0_market 0 = .ok (.aload_n 0, 1) := dk_42 (dk_at dksX0_market_0 0 rfl rfl)
theorem dX0_market_1 : decode cX0_market 1 = .ok (.invokevirtual 398, 3) := dk_182 1 142 (dk_at dksX0_market_0 1 rfl rfl)
theorem dX0_market_4 : decode cX0_market 4 = .ok (.istore_n 2, 1) := dk_61 (dk_at dksX0_market_0 4 rfl rfl)
theorem dX0_market_5 : decode cX0_market 5 = .ok (.iload_n 1, 1) := dk_27 (dk_at dksX0_market_0 5 rfl rfl)
theorem dX0_market_6 : decode cX0_market 6 = .ok (.ifCond .ne 5, 3) := dk_154 0 5 (dk_at dksX0_market_0 6 rfl rfl)
theorem dX0_market_9 : decode cX0_market 9 = .ok (.iload_n 2, 1) := dk_28 (dk_at dksX0_market_0 9 rfl rfl)
theorem dX0_market_10 : decode cX0_market 10 = .ok (.ireturn, 1) := dk_172 (dk_at dksX0_market_0 10 rfl rfl)
theorem dX0_market_11 : decode cX0_market 11 = .ok (.iload_n 1, 1) := dk_27 (dk_at dksX0_market_0 11 rfl rfl)
theorem dX0_market_12 : decode cX0_market 12 = .ok (.iconst 1, 1) := dk_4 (dk_at dksX0_market_0 12 rfl rfl)
theorem dX0_market_13 : decode cX0_market 13 = .ok (.iconst 2, 1) := dk_5 (dk_at dksX0_market_0 13 rfl rfl)
theorem dX0_market_14 : decode cX0_market 14 = .ok (.invokestatic 77, 3) := dk_184 0 77 (dk_at dksX0_market_0 14 rfl rfl)
theorem dX0_market_17 : decode cX0_market 17 = .ok (.ifCond .eq 7, 3) := dk_153 0 7 (dk_at dksX0_market_0 17 rfl rfl)
theorem dX0_market_20 : decode cX0_market 20 = .ok (.iload_n 2, 1) := dk_28 (dk_at dksX0_market_0 20 rfl rfl)
theorem dX0_market_21 : decode cX0_market 21 = .ok (.ifCond .ne 5, 3) := dk_154 0 5 (dk_at dksX0_market_0 21 rfl rfl)
theorem dX0_market_24 : decode cX0_market 24 = .ok (.iconst (-1), 1) := dk_2 (dk_at dksX0_market_1 0 rfl rfl)
theorem dX0_market_25 : decode cX0_market 25 = .ok (.ireturn, 1) := dk_172 (dk_at dksX0_market_1 1 rfl rfl)
theorem dX0_market_26 : decode cX0_market 26 = .ok (.iload_n 1, 1) := dk_27 (dk_at dksX0_market_1 2 rfl rfl)
theorem dX0_market_27 : decode cX0_market 27 = .ok (.iconst 1, 1) := dk_4 (dk_at dksX0_market_1 3 rfl rfl)
theorem dX0_market_28 : decode cX0_market 28 = .ok (.if_icmp .ne 23, 3) := dk_160 0 23 (dk_at dksX0_market_1 4 rfl rfl)
theorem dX0_market_31 : decode cX0_market 31 = .ok (.aload_n 0, 1) := dk_42 (dk_at dksX0_market_1 7 rfl rfl)
theorem dX0_market_32 : decode cX0_market 32 = .ok (.iload_n 2, 1) := dk_28 (dk_at dksX0_market_1 8 rfl rfl)
theorem dX0_market_33 : decode cX0_market 33 = .ok (.iconst 1, 1) := dk_4 (dk_at dksX0_market_1 9 rfl rfl)
theorem dX0_market_34 : decode cX0_market 34 = .ok (.isub, 1) := dk_100 (dk_at dksX0_market_1 10 rfl rfl)
theorem dX0_market_35 : decode cX0_market 35 = .ok (.iconst 0, 1) := dk_3 (dk_at dksX0_market_1 11 rfl rfl)
theorem dX0_market_36 : decode cX0_market 36 = .ok (.invokevirtual 394, 3) := dk_182 1 138 (dk_at dksX0_market_1 12 rfl rfl)
theorem dX0_market_39 : decode cX0_market 39 = .ok (.aload_n 0, 1) := dk_42 (dk_at dksX0_market_1 15 rfl rfl)
theorem dX0_market_40 : decode cX0_market 40 = .ok (.iload_n 2, 1) := dk_28 (dk_at dksX0_market_1 16 rfl rfl)
theorem dX0_market_41 : decode cX0_market 41 = .ok (.iconst 1, 1) := dk_4 (dk_at dksX0_market_1 17 rfl rfl)
theorem dX0_market_42 : decode cX0_market 42 = .ok (.invokevirtual 394, 3) := dk_182 1 138 (dk_at dksX0_market_1 18 rfl rfl)
theorem dX0_market_45 : decode cX0_market 45 = .ok (.invokestatic 220, 3) := dk_184 0 220 (dk_at dksX0_market_1 21 rfl rfl)
theorem dX0_market_48 : decode cX0_market 48 = .ok (.goto 20, 3) := dk_167 0 20 (dk_at dksX0_market_2 0 rfl rfl)
theorem dX0_market_51 : decode cX0_market 51 = .ok (.aload_n 0, 1) := dk_42 (dk_at dksX0_market_2 3 rfl rfl)
theorem dX0_market_52 : decode cX0_market 52 = .ok (.iload_n 2, 1) := dk_28 (dk_at dksX0_market_2 4 rfl rfl)
theorem dX0_market_53 : decode cX0_market 53 = .ok (.iconst 1, 1) := dk_4 (dk_at dksX0_market_2 5 rfl rfl)
theorem dX0_market_54 : decode cX0_market 54 = .ok (.isub, 1) := dk_100 (dk_at dksX0_market_2 6 rfl rfl)
theorem dX0_market_55 : decode cX0_market 55 = .ok (.iconst 1, 1) := dk_4 (dk_at dksX0_market_2 7 rfl rfl)
theorem dX0_market_56 : decode cX0_market 56 = .ok (.invokevirtual 394, 3) := dk_182 1 138 (dk_at dksX0_market_2 8 rfl rfl)
theorem dX0_market_59 : decode cX0_market 59 = .ok (.aload_n 0, 1) := dk_42 (dk_at dksX0_market_2 11 rfl rfl)
theorem dX0_market_60 : decode cX0_market 60 = .ok (.iload_n 2, 1) := dk_28 (dk_at dksX0_market_2 12 rfl rfl)
theorem dX0_market_61 : decode cX0_market 61 = .ok (.iconst 0, 1) := dk_3 (dk_at dksX0_market_2 13 rfl rfl)
theorem dX0_market_62 : decode cX0_market 62 = .ok (.invokevirtual 394, 3) := dk_182 1 138 (dk_at dksX0_market_2 14 rfl rfl)
theorem dX0_market_65 : decode cX0_market 65 = .ok (.invokestatic 188, 3) := dk_184 0 188 (dk_at dksX0_market_2 17 rfl rfl)
theorem dX0_market_68 : decode cX0_market 68 = .ok (.ireturn, 1) := dk_172 (dk_at dksX0_market_2 20 rfl rfl)
abbrev cX0_trades : ByteArray := prog_1_method_85_code
def yX0_trades : MethodName := ⟨RX0, "trades", "()I"⟩
def dkwX0_trades_1 : List UInt8 := [172]
abbrev dktX0_trades_1 : List UInt8 := dkwX0_trades_1 ++ []
def dkwX0_trades_0 : List UInt8 := [3, 60, 42, 27, 4, 182, 1, 138, 42, 27, 3, 182, 1, 138, 161, 0, 9, 132, 1, 1, 167, 255, 238, 27]
abbrev dktX0_trades_0 : List UInt8 := dkwX0_trades_0 ++ dktX0_trades_1
theorem dksX0_trades_0 : cX0_trades.data.toList.drop 0 = dktX0_trades_0 := by decide +kernel
theorem dksX0_trades_1 : cX0_trades.data.toList.drop 24 = dktX0_trades_1 := dk_seg dksX0_trades_0 24 rfl rfl
theorem dX0_trades_0 : decode cX0_trades 0 = .ok (.iconst 0, 1) := dk_3 (dk_at dksX0_trades_0 0 rfl rfl)
theorem dX0_trades_1 : decode cX0_trades 1 = .ok (.istore_n 1, 1) := dk_60 (dk_at dksX0_trades_0 1 rfl rfl)
theorem dX0_trades_2 : decode cX0_trades 2 = .ok (.aload_n 0, 1) := dk_42 (dk_at dksX0_trades_0 2 rfl rfl)
theorem dX0_trades_3 : decode cX0_trades 3 = .ok (.iload_n 1, 1) := dk_27 (dk_at dksX0_trades_0 3 rfl rfl)
theorem dX0_trades_4 : decode cX0_trades 4 = .ok (.iconst 1, 1) := dk_4 (dk_at dksX0_trades_0 4 rfl rfl)
theorem dX0_trades_5 : decode cX0_trades 5 = .ok (.invokevirtual 394, 3) := dk_182 1 138 (dk_at dksX0_trades_0 5 rfl rfl)
theorem dX0_trades_8 : decode cX0_trades 8 = .ok (.aload_n 0, 1) := dk_42 (dk_at dksX0_trades_0 8 rfl rfl)
theorem dX0_trades_9 : decode cX0_trades 9 = .ok (.iload_n 1, 1) := dk_27 (dk_at dksX0_trades_0 9 rfl rfl)
theorem dX0_trades_10 : decode cX0_trades 10 = .ok (.iconst 0, 1) := dk_3 (dk_at dksX0_trades_0 10 rfl rfl)
theorem dX0_trades_11 : decode cX0_trades 11 = .ok (.invokevirtual 394, 3) := dk_182 1 138 (dk_at dksX0_trades_0 11 rfl rfl)
theorem dX0_trades_14 : decode cX0_trades 14 = .ok (.if_icmp .lt 9, 3) := dk_161 0 9 (dk_at dksX0_trades_0 14 rfl rfl)
theorem dX0_trades_17 : decode cX0_trades 17 = .ok (.iinc 1 1, 3) := dk_132 1 1 (dk_at dksX0_trades_0 17 rfl rfl)
theorem dX0_trades_20 : decode cX0_trades 20 = .ok (.goto (-18), 3) := dk_167 255 238 (dk_at dksX0_trades_0 20 rfl rfl)
theorem dX0_trades_23 : decode cX0_trades 23 = .ok (.iload_n 1, 1) := dk_27 (dk_at dksX0_trades_0 23 rfl rfl)
theorem dX0_trades_24 : decode cX0_trades 24 = .ok (.ireturn, 1) := dk_172 (dk_at dksX0_trades_1 0 rfl rfl)
abbrev cX0_priceOf : ByteArray := prog_1_method_84_code
def yX0_priceOf : MethodName := ⟨RX0, "priceOf", "(IZ)I"⟩
def dkwX0_priceOf_5 : List UInt8 := [4, 96, 54, 4, 167, 255, 151, 28, 153, 0, 7, 2, 167, 0, 5, 16, 100, 172]
abbrev dktX0_priceOf_5 : List UInt8 := dkwX0_priceOf_5 ++ []
def dkwX0_priceOf_4 : List UInt8 := [132, 5, 1, 167, 255, 190, 29, 27, 164, 0, 6, 21, 4, 172, 21, 4, 28, 153, 0, 7, 2, 167, 0, 4]
abbrev dktX0_priceOf_4 : List UInt8 := dkwX0_priceOf_4 ++ dktX0_priceOf_5
def dkwX0_priceOf_3 : List UInt8 := [21, 5, 50, 4, 46, 28, 153, 0, 7, 4, 167, 0, 4, 3, 160, 0, 7, 4, 167, 0, 4, 3, 96, 62]
abbrev dktX0_priceOf_3 : List UInt8 := dkwX0_priceOf_3 ++ dktX0_priceOf_4
def dkwX0_priceOf_2 : List UInt8 := [180, 0, 21, 180, 1, 131, 21, 5, 50, 3, 46, 21, 4, 160, 0, 31, 42, 180, 0, 21, 180, 1, 131]
abbrev dktX0_priceOf_2 : List UInt8 := dkwX0_priceOf_2 ++ dktX0_priceOf_3
def dkwX0_priceOf_1 : List UInt8 := [153, 0, 100, 3, 54, 5, 21, 5, 42, 180, 0, 21, 180, 0, 70, 8, 46, 162, 0, 58, 29, 42]
abbrev dktX0_priceOf_1 : List UInt8 := dkwX0_priceOf_1 ++ dktX0_priceOf_2
def dkwX0_priceOf_0 : List UInt8 := [3, 62, 28, 153, 0, 8, 16, 99, 167, 0, 4, 3, 54, 4, 21, 4, 3, 16, 99, 184, 0, 77]
abbrev dktX0_priceOf_0 : List UInt8 := dkwX0_priceOf_0 ++ dktX0_priceOf_1
theorem dksX0_priceOf_0 : cX0_priceOf.data.toList.drop 0 = dktX0_priceOf_0 := by decide +kernel
theorem dksX0_priceOf_1 : cX0_priceOf.data.toList.drop 22 = dktX0_priceOf_1 := dk_seg dksX0_priceOf_0 22 rfl rfl
theorem dksX0_priceOf_2 : cX0_priceOf.data.toList.drop 44 = dktX0_priceOf_2 := dk_seg dksX0_priceOf_1 22 rfl rfl
theorem dksX0_priceOf_3 : cX0_priceOf.data.toList.drop 67 = dktX0_priceOf_3 := dk_seg dksX0_priceOf_2 23 rfl rfl
theorem dksX0_priceOf_4 : cX0_priceOf.data.toList.drop 91 = dktX0_priceOf_4 := dk_seg dksX0_priceOf_3 24 rfl rfl
theorem dksX0_priceOf_5 : cX0_priceOf.data.toList.drop 115 = dktX0_priceOf_5 := dk_seg dksX0_priceOf_4 24 rfl rfl
theorem dX0_priceOf_0 : decode cX0_priceOf 0 = .ok (.iconst 0, 1) := dk_3 (dk_at dksX0_priceOf_0 0 rfl rfl)
theorem dX0_priceOf_1 : decode cX0_priceOf 1 = .ok (.istore_n 3, 1) := dk_62 (dk_at dksX0_priceOf_0 1 rfl rfl)
theorem dX0_priceOf_2 : decode cX0_priceOf 2 = .ok (.iload_n 2, 1) := dk_28 (dk_at dksX0_priceOf_0 2 rfl rfl)
theorem dX0_priceOf_3 : decode cX0_priceOf 3 = .ok (.ifCond .eq 8, 3) := dk_153 0 8 (dk_at dksX0_priceOf_0 3 rfl rfl)
theorem dX0_priceOf_6 : decode cX0_priceOf 6 = .ok (.bipush 99, 2) := dk_16 99 (dk_at dksX0_priceOf_0 6 rfl rfl)
theorem dX0_priceOf_8 : decode cX0_priceOf 8 = .ok (.goto 4, 3) := dk_167 0 4 (dk_at dksX0_priceOf_0 8 rfl rfl)
theorem dX0_priceOf_11 : decode cX0_priceOf 11 = .ok (.iconst 0, 1) := dk_3 (dk_at dksX0_priceOf_0 11 rfl rfl)
theorem dX0_priceOf_12 : decode cX0_priceOf 12 = .ok (.istore 4, 2) := dk_54 4 (dk_at dksX0_priceOf_0 12 rfl rfl)
theorem dX0_priceOf_14 : decode cX0_priceOf 14 = .ok (.iload 4, 2) := dk_21 4 (dk_at dksX0_priceOf_0 14 rfl rfl)
theorem dX0_priceOf_16 : decode cX0_priceOf 16 = .ok (.iconst 0, 1) := dk_3 (dk_at dksX0_priceOf_0 16 rfl rfl)
theorem dX0_priceOf_17 : decode cX0_priceOf 17 = .ok (.bipush 99, 2) := dk_16 99 (dk_at dksX0_priceOf_0 17 rfl rfl)
theorem dX0_priceOf_19 : decode cX0_priceOf 19 = .ok (.invokestatic 77, 3) := dk_184 0 77 (dk_at dksX0_priceOf_0 19 rfl rfl)
theorem dX0_priceOf_22 : decode cX0_priceOf 22 = .ok (.ifCond .eq 100, 3) := dk_153 0 100 (dk_at dksX0_priceOf_1 0 rfl rfl)
theorem dX0_priceOf_25 : decode cX0_priceOf 25 = .ok (.iconst 0, 1) := dk_3 (dk_at dksX0_priceOf_1 3 rfl rfl)
theorem dX0_priceOf_26 : decode cX0_priceOf 26 = .ok (.istore 5, 2) := dk_54 5 (dk_at dksX0_priceOf_1 4 rfl rfl)
theorem dX0_priceOf_28 : decode cX0_priceOf 28 = .ok (.iload 5, 2) := dk_21 5 (dk_at dksX0_priceOf_1 6 rfl rfl)
theorem dX0_priceOf_30 : decode cX0_priceOf 30 = .ok (.aload_n 0, 1) := dk_42 (dk_at dksX0_priceOf_1 8 rfl rfl)
theorem dX0_priceOf_31 : decode cX0_priceOf 31 = .ok (.getfield 21, 3) := dk_180 0 21 (dk_at dksX0_priceOf_1 9 rfl rfl)
theorem dX0_priceOf_34 : decode cX0_priceOf 34 = .ok (.getfield 70, 3) := dk_180 0 70 (dk_at dksX0_priceOf_1 12 rfl rfl)
theorem dX0_priceOf_37 : decode cX0_priceOf 37 = .ok (.iconst 5, 1) := dk_8 (dk_at dksX0_priceOf_1 15 rfl rfl)
theorem dX0_priceOf_38 : decode cX0_priceOf 38 = .ok (.iaload, 1) := dk_46 (dk_at dksX0_priceOf_1 16 rfl rfl)
theorem dX0_priceOf_39 : decode cX0_priceOf 39 = .ok (.if_icmp .ge 58, 3) := dk_162 0 58 (dk_at dksX0_priceOf_1 17 rfl rfl)
theorem dX0_priceOf_42 : decode cX0_priceOf 42 = .ok (.iload_n 3, 1) := dk_29 (dk_at dksX0_priceOf_1 20 rfl rfl)
theorem dX0_priceOf_43 : decode cX0_priceOf 43 = .ok (.aload_n 0, 1) := dk_42 (dk_at dksX0_priceOf_1 21 rfl rfl)
theorem dX0_priceOf_44 : decode cX0_priceOf 44 = .ok (.getfield 21, 3) := dk_180 0 21 (dk_at dksX0_priceOf_2 0 rfl rfl)
theorem dX0_priceOf_47 : decode cX0_priceOf 47 = .ok (.getfield 387, 3) := dk_180 1 131 (dk_at dksX0_priceOf_2 3 rfl rfl)
theorem dX0_priceOf_50 : decode cX0_priceOf 50 = .ok (.iload 5, 2) := dk_21 5 (dk_at dksX0_priceOf_2 6 rfl rfl)
theorem dX0_priceOf_52 : decode cX0_priceOf 52 = .ok (.aaload, 1) := dk_50 (dk_at dksX0_priceOf_2 8 rfl rfl)
theorem dX0_priceOf_53 : decode cX0_priceOf 53 = .ok (.iconst 0, 1) := dk_3 (dk_at dksX0_priceOf_2 9 rfl rfl)
theorem dX0_priceOf_54 : decode cX0_priceOf 54 = .ok (.iaload, 1) := dk_46 (dk_at dksX0_priceOf_2 10 rfl rfl)
theorem dX0_priceOf_55 : decode cX0_priceOf 55 = .ok (.iload 4, 2) := dk_21 4 (dk_at dksX0_priceOf_2 11 rfl rfl)
theorem dX0_priceOf_57 : decode cX0_priceOf 57 = .ok (.if_icmp .ne 31, 3) := dk_160 0 31 (dk_at dksX0_priceOf_2 13 rfl rfl)
theorem dX0_priceOf_60 : decode cX0_priceOf 60 = .ok (.aload_n 0, 1) := dk_42 (dk_at dksX0_priceOf_2 16 rfl rfl)
theorem dX0_priceOf_61 : decode cX0_priceOf 61 = .ok (.getfield 21, 3) := dk_180 0 21 (dk_at dksX0_priceOf_2 17 rfl rfl)
theorem dX0_priceOf_64 : decode cX0_priceOf 64 = .ok (.getfield 387, 3) := dk_180 1 131 (dk_at dksX0_priceOf_2 20 rfl rfl)
theorem dX0_priceOf_67 : decode cX0_priceOf 67 = .ok (.iload 5, 2) := dk_21 5 (dk_at dksX0_priceOf_3 0 rfl rfl)
theorem dX0_priceOf_69 : decode cX0_priceOf 69 = .ok (.aaload, 1) := dk_50 (dk_at dksX0_priceOf_3 2 rfl rfl)
theorem dX0_priceOf_70 : decode cX0_priceOf 70 = .ok (.iconst 1, 1) := dk_4 (dk_at dksX0_priceOf_3 3 rfl rfl)
theorem dX0_priceOf_71 : decode cX0_priceOf 71 = .ok (.iaload, 1) := dk_46 (dk_at dksX0_priceOf_3 4 rfl rfl)
theorem dX0_priceOf_72 : decode cX0_priceOf 72 = .ok (.iload_n 2, 1) := dk_28 (dk_at dksX0_priceOf_3 5 rfl rfl)
theorem dX0_priceOf_73 : decode cX0_priceOf 73 = .ok (.ifCond .eq 7, 3) := dk_153 0 7 (dk_at dksX0_priceOf_3 6 rfl rfl)
theorem dX0_priceOf_76 : decode cX0_priceOf 76 = .ok (.iconst 1, 1) := dk_4 (dk_at dksX0_priceOf_3 9 rfl rfl)
theorem dX0_priceOf_77 : decode cX0_priceOf 77 = .ok (.goto 4, 3) := dk_167 0 4 (dk_at dksX0_priceOf_3 10 rfl rfl)
theorem dX0_priceOf_80 : decode cX0_priceOf 80 = .ok (.iconst 0, 1) := dk_3 (dk_at dksX0_priceOf_3 13 rfl rfl)
theorem dX0_priceOf_81 : decode cX0_priceOf 81 = .ok (.if_icmp .ne 7, 3) := dk_160 0 7 (dk_at dksX0_priceOf_3 14 rfl rfl)
theorem dX0_priceOf_84 : decode cX0_priceOf 84 = .ok (.iconst 1, 1) := dk_4 (dk_at dksX0_priceOf_3 17 rfl rfl)
theorem dX0_priceOf_85 : decode cX0_priceOf 85 = .ok (.goto 4, 3) := dk_167 0 4 (dk_at dksX0_priceOf_3 18 rfl rfl)
theorem dX0_priceOf_88 : decode cX0_priceOf 88 = .ok (.iconst 0, 1) := dk_3 (dk_at dksX0_priceOf_3 21 rfl rfl)
theorem dX0_priceOf_89 : decode cX0_priceOf 89 = .ok (.iadd, 1) := dk_96 (dk_at dksX0_priceOf_3 22 rfl rfl)
theorem dX0_priceOf_90 : decode cX0_priceOf 90 = .ok (.istore_n 3, 1) := dk_62 (dk_at dksX0_priceOf_3 23 rfl rfl)
theorem dX0_priceOf_91 : decode cX0_priceOf 91 = .ok (.iinc 5 1, 3) := dk_132 5 1 (dk_at dksX0_priceOf_4 0 rfl rfl)
theorem dX0_priceOf_94 : decode cX0_priceOf 94 = .ok (.goto (-66), 3) := dk_167 255 190 (dk_at dksX0_priceOf_4 3 rfl rfl)
theorem dX0_priceOf_97 : decode cX0_priceOf 97 = .ok (.iload_n 3, 1) := dk_29 (dk_at dksX0_priceOf_4 6 rfl rfl)
theorem dX0_priceOf_98 : decode cX0_priceOf 98 = .ok (.iload_n 1, 1) := dk_27 (dk_at dksX0_priceOf_4 7 rfl rfl)
theorem dX0_priceOf_99 : decode cX0_priceOf 99 = .ok (.if_icmp .le 6, 3) := dk_164 0 6 (dk_at dksX0_priceOf_4 8 rfl rfl)
theorem dX0_priceOf_102 : decode cX0_priceOf 102 = .ok (.iload 4, 2) := dk_21 4 (dk_at dksX0_priceOf_4 11 rfl rfl)
theorem dX0_priceOf_104 : decode cX0_priceOf 104 = .ok (.ireturn, 1) := dk_172 (dk_at dksX0_priceOf_4 13 rfl rfl)
theorem dX0_priceOf_105 : decode cX0_priceOf 105 = .ok (.iload 4, 2) := dk_21 4 (dk_at dksX0_priceOf_4 14 rfl rfl)
theorem dX0_priceOf_107 : decode cX0_priceOf 107 = .ok (.iload_n 2, 1) := dk_28 (dk_at dksX0_priceOf_4 16 rfl rfl)
theorem dX0_priceOf_108 : decode cX0_priceOf 108 = .ok (.ifCond .eq 7, 3) := dk_153 0 7 (dk_at dksX0_priceOf_4 17 rfl rfl)
theorem dX0_priceOf_111 : decode cX0_priceOf 111 = .ok (.iconst (-1), 1) := dk_2 (dk_at dksX0_priceOf_4 20 rfl rfl)
theorem dX0_priceOf_112 : decode cX0_priceOf 112 = .ok (.goto 4, 3) := dk_167 0 4 (dk_at dksX0_priceOf_4 21 rfl rfl)
theorem dX0_priceOf_115 : decode cX0_priceOf 115 = .ok (.iconst 1, 1) := dk_4 (dk_at dksX0_priceOf_5 0 rfl rfl)
theorem dX0_priceOf_116 : decode cX0_priceOf 116 = .ok (.iadd, 1) := dk_96 (dk_at dksX0_priceOf_5 1 rfl rfl)
theorem dX0_priceOf_117 : decode cX0_priceOf 117 = .ok (.istore 4, 2) := dk_54 4 (dk_at dksX0_priceOf_5 2 rfl rfl)
theorem dX0_priceOf_119 : decode cX0_priceOf 119 = .ok (.goto (-105), 3) := dk_167 255 151 (dk_at dksX0_priceOf_5 4 rfl rfl)
theorem dX0_priceOf_122 : decode cX0_priceOf 122 = .ok (.iload_n 2, 1) := dk_28 (dk_at dksX0_priceOf_5 7 rfl rfl)
theorem dX0_priceOf_123 : decode cX0_priceOf 123 = .ok (.ifCond .eq 7, 3) := dk_153 0 7 (dk_at dksX0_priceOf_5 8 rfl rfl)
theorem dX0_priceOf_126 : decode cX0_priceOf 126 = .ok (.iconst (-1), 1) := dk_2 (dk_at dksX0_priceOf_5 11 rfl rfl)
theorem dX0_priceOf_127 : decode cX0_priceOf 127 = .ok (.goto 5, 3) := dk_167 0 5 (dk_at dksX0_priceOf_5 12 rfl rfl)
theorem dX0_priceOf_130 : decode cX0_priceOf 130 = .ok (.bipush 100, 2) := dk_16 100 (dk_at dksX0_priceOf_5 15 rfl rfl)
theorem dX0_priceOf_132 : decode cX0_priceOf 132 = .ok (.ireturn, 1) := dk_172 (dk_at dksX0_priceOf_5 17 rfl rfl)
abbrev cX0_gain : ByteArray := prog_1_method_87_code
def yX0_gain : MethodName := ⟨RX0, "gain", "()I"⟩
def dkwX0_gain_1 : List UInt8 := [182, 1, 138, 100, 96, 60, 132, 2, 1, 167, 255, 229, 27, 172]
abbrev dktX0_gain_1 : List UInt8 := dkwX0_gain_1 ++ []
def dkwX0_gain_0 : List UInt8 := [3, 60, 3, 61, 28, 42, 182, 1, 142, 162, 0, 25, 27, 42, 28, 4, 182, 1, 138, 42, 28, 3]
abbrev dktX0_gain_0 : List UInt8 := dkwX0_gain_0 ++ dktX0_gain_1
theorem dksX0_gain_0 : cX0_gain.data.toList.drop 0 = dktX0_gain_0 := by decide +kernel
theorem dksX0_gain_1 : cX0_gain.data.toList.drop 22 = dktX0_gain_1 := dk_seg dksX0_gain_0 22 rfl rfl
theorem dX0_gain_0 : decode cX0_gain 0 = .ok (.iconst 0, 1) := dk_3 (dk_at dksX0_gain_0 0 rfl rfl)
theorem dX0_gain_1 : decode cX0_gain 1 = .ok (.istore_n 1, 1) := dk_60 (dk_at dksX0_gain_0 1 rfl rfl)
theorem dX0_gain_2 : decode cX0_gain 2 = .ok (.iconst 0, 1) := dk_3 (dk_at dksX0_gain_0 2 rfl rfl)
theorem dX0_gain_3 : decode cX0_gain 3 = .ok (.istore_n 2, 1) := dk_61 (dk_at dksX0_gain_0 3 rfl rfl)
theorem dX0_gain_4 : decode cX0_gain 4 = .ok (.iload_n 2, 1) := dk_28 (dk_at dksX0_gain_0 4 rfl rfl)
theorem dX0_gain_5 : decode cX0_gain 5 = .ok (.aload_n 0, 1) := dk_42 (dk_at dksX0_gain_0 5 rfl rfl)
theorem dX0_gain_6 : decode cX0_gain 6 = .ok (.invokevirtual 398, 3) := dk_182 1 142 (dk_at dksX0_gain_0 6 rfl rfl)
theorem dX0_gain_9 : decode cX0_gain 9 = .ok (.if_icmp .ge 25, 3) := dk_162 0 25 (dk_at dksX0_gain_0 9 rfl rfl)
theorem dX0_gain_12 : decode cX0_gain 12 = .ok (.iload_n 1, 1) := dk_27 (dk_at dksX0_gain_0 12 rfl rfl)
theorem dX0_gain_13 : decode cX0_gain 13 = .ok (.aload_n 0, 1) := dk_42 (dk_at dksX0_gain_0 13 rfl rfl)
theorem dX0_gain_14 : decode cX0_gain 14 = .ok (.iload_n 2, 1) := dk_28 (dk_at dksX0_gain_0 14 rfl rfl)
theorem dX0_gain_15 : decode cX0_gain 15 = .ok (.iconst 1, 1) := dk_4 (dk_at dksX0_gain_0 15 rfl rfl)
theorem dX0_gain_16 : decode cX0_gain 16 = .ok (.invokevirtual 394, 3) := dk_182 1 138 (dk_at dksX0_gain_0 16 rfl rfl)
theorem dX0_gain_19 : decode cX0_gain 19 = .ok (.aload_n 0, 1) := dk_42 (dk_at dksX0_gain_0 19 rfl rfl)
theorem dX0_gain_20 : decode cX0_gain 20 = .ok (.iload_n 2, 1) := dk_28 (dk_at dksX0_gain_0 20 rfl rfl)
theorem dX0_gain_21 : decode cX0_gain 21 = .ok (.iconst 0, 1) := dk_3 (dk_at dksX0_gain_0 21 rfl rfl)
theorem dX0_gain_22 : decode cX0_gain 22 = .ok (.invokevirtual 394, 3) := dk_182 1 138 (dk_at dksX0_gain_1 0 rfl rfl)
theorem dX0_gain_25 : decode cX0_gain 25 = .ok (.isub, 1) := dk_100 (dk_at dksX0_gain_1 3 rfl rfl)
theorem dX0_gain_26 : decode cX0_gain 26 = .ok (.iadd, 1) := dk_96 (dk_at dksX0_gain_1 4 rfl rfl)
theorem dX0_gain_27 : decode cX0_gain 27 = .ok (.istore_n 1, 1) := dk_60 (dk_at dksX0_gain_1 5 rfl rfl)
theorem dX0_gain_28 : decode cX0_gain 28 = .ok (.iinc 2 1, 3) := dk_132 2 1 (dk_at dksX0_gain_1 6 rfl rfl)
theorem dX0_gain_31 : decode cX0_gain 31 = .ok (.goto (-27), 3) := dk_167 255 229 (dk_at dksX0_gain_1 9 rfl rfl)
theorem dX0_gain_34 : decode cX0_gain 34 = .ok (.iload_n 1, 1) := dk_27 (dk_at dksX0_gain_1 12 rfl rfl)
theorem dX0_gain_35 : decode cX0_gain 35 = .ok (.ireturn, 1) := dk_172 (dk_at dksX0_gain_1 13 rfl rfl)
abbrev cX0_said : ByteArray := prog_1_method_88_code
def yX0_said : MethodName := ⟨RX0, "said", "(II)I"⟩
def dkwX0_said_3 : List UInt8 := [16, 254, 172]
abbrev dktX0_said_3 : List UInt8 := dkwX0_said_3 ++ []
def dkwX0_said_2 : List UInt8 := [162, 0, 24, 42, 180, 0, 21, 42, 180, 0, 21, 180, 1, 145, 16, 6, 27, 28, 182, 1, 134, 167, 0, 5]
abbrev dktX0_said_2 : List UInt8 := dkwX0_said_2 ++ dktX0_said_3
def dkwX0_said_1 : List UInt8 := [3, 17, 39, 15, 184, 0, 77, 153, 0, 39, 42, 180, 0, 21, 180, 0, 70, 16, 6, 46, 16, 8]
abbrev dktX0_said_1 : List UInt8 := dkwX0_said_1 ++ dktX0_said_2
def dkwX0_said_0 : List UInt8 := [27, 2, 160, 0, 13, 42, 180, 0, 21, 16, 6, 182, 1, 109, 172, 42, 27, 182, 0, 85, 153, 0, 50, 28]
abbrev dktX0_said_0 : List UInt8 := dkwX0_said_0 ++ dktX0_said_1
theorem dksX0_said_0 : cX0_said.data.toList.drop 0 = dktX0_said_0 := by decide +kernel
theorem dksX0_said_1 : cX0_said.data.toList.drop 24 = dktX0_said_1 := dk_seg dksX0_said_0 24 rfl rfl
theorem dksX0_said_2 : cX0_said.data.toList.drop 46 = dktX0_said_2 := dk_seg dksX0_said_1 22 rfl rfl
theorem dksX0_said_3 : cX0_said.data.toList.drop 70 = dktX0_said_3 := dk_seg dksX0_said_2 24 rfl rfl
theorem dX0_said_0 : decode cX0_said 0 = .ok (.iload_n 1, 1) := dk_27 (dk_at dksX0_said_0 0 rfl rfl)
theorem dX0_said_1 : decode cX0_said 1 = .ok (.iconst (-1), 1) := dk_2 (dk_at dksX0_said_0 1 rfl rfl)
theorem dX0_said_2 : decode cX0_said 2 = .ok (.if_icmp .ne 13, 3) := dk_160 0 13 (dk_at dksX0_said_0 2 rfl rfl)
theorem dX0_said_5 : decode cX0_said 5 = .ok (.aload_n 0, 1) := dk_42 (dk_at dksX0_said_0 5 rfl rfl)
theorem dX0_said_6 : decode cX0_said 6 = .ok (.getfield 21, 3) := dk_180 0 21 (dk_at dksX0_said_0 6 rfl rfl)
theorem dX0_said_9 : decode cX0_said 9 = .ok (.bipush 6, 2) := dk_16 6 (dk_at dksX0_said_0 9 rfl rfl)
theorem dX0_said_11 : decode cX0_said 11 = .ok (.invokevirtual 365, 3) := dk_182 1 109 (dk_at dksX0_said_0 11 rfl rfl)
theorem dX0_said_14 : decode cX0_said 14 = .ok (.ireturn, 1) := dk_172 (dk_at dksX0_said_0 14 rfl rfl)
theorem dX0_said_15 : decode cX0_said 15 = .ok (.aload_n 0, 1) := dk_42 (dk_at dksX0_said_0 15 rfl rfl)
theorem dX0_said_16 : decode cX0_said 16 = .ok (.iload_n 1, 1) := dk_27 (dk_at dksX0_said_0 16 rfl rfl)
theorem dX0_said_17 : decode cX0_said 17 = .ok (.invokevirtual 85, 3) := dk_182 0 85 (dk_at dksX0_said_0 17 rfl rfl)
theorem dX0_said_20 : decode cX0_said 20 = .ok (.ifCond .eq 50, 3) := dk_153 0 50 (dk_at dksX0_said_0 20 rfl rfl)
theorem dX0_said_23 : decode cX0_said 23 = .ok (.iload_n 2, 1) := dk_28 (dk_at dksX0_said_0 23 rfl rfl)
theorem dX0_said_24 : decode cX0_said 24 = .ok (.iconst 0, 1) := dk_3 (dk_at dksX0_said_1 0 rfl rfl)
theorem dX0_said_25 : decode cX0_said 25 = .ok (.sipush 9999, 3) := dk_17 39 15 (dk_at dksX0_said_1 1 rfl rfl)
theorem dX0_said_28 : decode cX0_said 28 = .ok (.invokestatic 77, 3) := dk_184 0 77 (dk_at dksX0_said_1 4 rfl rfl)
theorem dX0_said_31 : decode cX0_said 31 = .ok (.ifCond .eq 39, 3) := dk_153 0 39 (dk_at dksX0_said_1 7 rfl rfl)
theorem dX0_said_34 : decode cX0_said 34 = .ok (.aload_n 0, 1) := dk_42 (dk_at dksX0_said_1 10 rfl rfl)
theorem dX0_said_35 : decode cX0_said 35 = .ok (.getfield 21, 3) := dk_180 0 21 (dk_at dksX0_said_1 11 rfl rfl)
theorem dX0_said_38 : decode cX0_said 38 = .ok (.getfield 70, 3) := dk_180 0 70 (dk_at dksX0_said_1 14 rfl rfl)
theorem dX0_said_41 : decode cX0_said 41 = .ok (.bipush 6, 2) := dk_16 6 (dk_at dksX0_said_1 17 rfl rfl)
theorem dX0_said_43 : decode cX0_said 43 = .ok (.iaload, 1) := dk_46 (dk_at dksX0_said_1 19 rfl rfl)
theorem dX0_said_44 : decode cX0_said 44 = .ok (.bipush 8, 2) := dk_16 8 (dk_at dksX0_said_1 20 rfl rfl)
theorem dX0_said_46 : decode cX0_said 46 = .ok (.if_icmp .ge 24, 3) := dk_162 0 24 (dk_at dksX0_said_2 0 rfl rfl)
theorem dX0_said_49 : decode cX0_said 49 = .ok (.aload_n 0, 1) := dk_42 (dk_at dksX0_said_2 3 rfl rfl)
theorem dX0_said_50 : decode cX0_said 50 = .ok (.getfield 21, 3) := dk_180 0 21 (dk_at dksX0_said_2 4 rfl rfl)
theorem dX0_said_53 : decode cX0_said 53 = .ok (.aload_n 0, 1) := dk_42 (dk_at dksX0_said_2 7 rfl rfl)
theorem dX0_said_54 : decode cX0_said 54 = .ok (.getfield 21, 3) := dk_180 0 21 (dk_at dksX0_said_2 8 rfl rfl)
theorem dX0_said_57 : decode cX0_said 57 = .ok (.getfield 401, 3) := dk_180 1 145 (dk_at dksX0_said_2 11 rfl rfl)
theorem dX0_said_60 : decode cX0_said 60 = .ok (.bipush 6, 2) := dk_16 6 (dk_at dksX0_said_2 14 rfl rfl)
theorem dX0_said_62 : decode cX0_said 62 = .ok (.iload_n 1, 1) := dk_27 (dk_at dksX0_said_2 16 rfl rfl)
theorem dX0_said_63 : decode cX0_said 63 = .ok (.iload_n 2, 1) := dk_28 (dk_at dksX0_said_2 17 rfl rfl)
theorem dX0_said_64 : decode cX0_said 64 = .ok (.invokevirtual 390, 3) := dk_182 1 134 (dk_at dksX0_said_2 18 rfl rfl)
theorem dX0_said_67 : decode cX0_said 67 = .ok (.goto 5, 3) := dk_167 0 5 (dk_at dksX0_said_2 21 rfl rfl)
theorem dX0_said_70 : decode cX0_said 70 = .ok (.bipush (-2), 2) := dk_16 254 (dk_at dksX0_said_3 0 rfl rfl)
theorem dX0_said_72 : decode cX0_said 72 = .ok (.ireturn, 1) := dk_172 (dk_at dksX0_said_3 2 rfl rfl)
abbrev cX0_whose : ByteArray := prog_1_method_90_code
def yX0_whose : MethodName := ⟨RX0, "whose", "()I"⟩
def dkwX0_whose_2 : List UInt8 := [167, 255, 214, 27, 172]
abbrev dktX0_whose_2 : List UInt8 := dkwX0_whose_2 ++ []
def dkwX0_whose_1 : List UInt8 := [180, 0, 115, 28, 50, 182, 1, 148, 153, 0, 9, 4, 28, 120, 167, 0, 4, 3, 128, 60, 132, 2, 1]
abbrev dktX0_whose_1 : List UInt8 := dkwX0_whose_1 ++ dktX0_whose_2
def dkwX0_whose_0 : List UInt8 := [3, 60, 3, 61, 28, 42, 180, 0, 21, 180, 0, 70, 4, 46, 162, 0, 35, 27, 42, 42, 180, 0, 21]
abbrev dktX0_whose_0 : List UInt8 := dkwX0_whose_0 ++ dktX0_whose_1
theorem dksX0_whose_0 : cX0_whose.data.toList.drop 0 = dktX0_whose_0 := by decide +kernel
theorem dksX0_whose_1 : cX0_whose.data.toList.drop 23 = dktX0_whose_1 := dk_seg dksX0_whose_0 23 rfl rfl
theorem dksX0_whose_2 : cX0_whose.data.toList.drop 46 = dktX0_whose_2 := dk_seg dksX0_whose_1 23 rfl rfl
theorem dX0_whose_0 : decode cX0_whose 0 = .ok (.iconst 0, 1) := dk_3 (dk_at dksX0_whose_0 0 rfl rfl)
theorem dX0_whose_1 : decode cX0_whose 1 = .ok (.istore_n 1, 1) := dk_60 (dk_at dksX0_whose_0 1 rfl rfl)
theorem dX0_whose_2 : decode cX0_whose 2 = .ok (.iconst 0, 1) := dk_3 (dk_at dksX0_whose_0 2 rfl rfl)
theorem dX0_whose_3 : decode cX0_whose 3 = .ok (.istore_n 2, 1) := dk_61 (dk_at dksX0_whose_0 3 rfl rfl)
theorem dX0_whose_4 : decode cX0_whose 4 = .ok (.iload_n 2, 1) := dk_28 (dk_at dksX0_whose_0 4 rfl rfl)
theorem dX0_whose_5 : decode cX0_whose 5 = .ok (.aload_n 0, 1) := dk_42 (dk_at dksX0_whose_0 5 rfl rfl)
theorem dX0_whose_6 : decode cX0_whose 6 = .ok (.getfield 21, 3) := dk_180 0 21 (dk_at dksX0_whose_0 6 rfl rfl)
theorem dX0_whose_9 : decode cX0_whose 9 = .ok (.getfield 70, 3) := dk_180 0 70 (dk_at dksX0_whose_0 9 rfl rfl)
theorem dX0_whose_12 : decode cX0_whose 12 = .ok (.iconst 1, 1) := dk_4 (dk_at dksX0_whose_0 12 rfl rfl)
theorem dX0_whose_13 : decode cX0_whose 13 = .ok (.iaload, 1) := dk_46 (dk_at dksX0_whose_0 13 rfl rfl)
theorem dX0_whose_14 : decode cX0_whose 14 = .ok (.if_icmp .ge 35, 3) := dk_162 0 35 (dk_at dksX0_whose_0 14 rfl rfl)
theorem dX0_whose_17 : decode cX0_whose 17 = .ok (.iload_n 1, 1) := dk_27 (dk_at dksX0_whose_0 17 rfl rfl)
theorem dX0_whose_18 : decode cX0_whose 18 = .ok (.aload_n 0, 1) := dk_42 (dk_at dksX0_whose_0 18 rfl rfl)
theorem dX0_whose_19 : decode cX0_whose 19 = .ok (.aload_n 0, 1) := dk_42 (dk_at dksX0_whose_0 19 rfl rfl)
theorem dX0_whose_20 : decode cX0_whose 20 = .ok (.getfield 21, 3) := dk_180 0 21 (dk_at dksX0_whose_0 20 rfl rfl)
theorem dX0_whose_23 : decode cX0_whose 23 = .ok (.getfield 115, 3) := dk_180 0 115 (dk_at dksX0_whose_1 0 rfl rfl)
theorem dX0_whose_26 : decode cX0_whose 26 = .ok (.iload_n 2, 1) := dk_28 (dk_at dksX0_whose_1 3 rfl rfl)
theorem dX0_whose_27 : decode cX0_whose 27 = .ok (.aaload, 1) := dk_50 (dk_at dksX0_whose_1 4 rfl rfl)
theorem dX0_whose_28 : decode cX0_whose 28 = .ok (.invokevirtual 404, 3) := dk_182 1 148 (dk_at dksX0_whose_1 5 rfl rfl)
theorem dX0_whose_31 : decode cX0_whose 31 = .ok (.ifCond .eq 9, 3) := dk_153 0 9 (dk_at dksX0_whose_1 8 rfl rfl)
theorem dX0_whose_34 : decode cX0_whose 34 = .ok (.iconst 1, 1) := dk_4 (dk_at dksX0_whose_1 11 rfl rfl)
theorem dX0_whose_35 : decode cX0_whose 35 = .ok (.iload_n 2, 1) := dk_28 (dk_at dksX0_whose_1 12 rfl rfl)
theorem dX0_whose_36 : decode cX0_whose 36 = .ok (.ishl, 1) := dk_120 (dk_at dksX0_whose_1 13 rfl rfl)
theorem dX0_whose_37 : decode cX0_whose 37 = .ok (.goto 4, 3) := dk_167 0 4 (dk_at dksX0_whose_1 14 rfl rfl)
theorem dX0_whose_40 : decode cX0_whose 40 = .ok (.iconst 0, 1) := dk_3 (dk_at dksX0_whose_1 17 rfl rfl)
theorem dX0_whose_41 : decode cX0_whose 41 = .ok (.ior, 1) := dk_128 (dk_at dksX0_whose_1 18 rfl rfl)
theorem dX0_whose_42 : decode cX0_whose 42 = .ok (.istore_n 1, 1) := dk_60 (dk_at dksX0_whose_1 19 rfl rfl)
theorem dX0_whose_43 : decode cX0_whose 43 = .ok (.iinc 2 1, 3) := dk_132 2 1 (dk_at dksX0_whose_1 20 rfl rfl)
theorem dX0_whose_46 : decode cX0_whose 46 = .ok (.goto (-42), 3) := dk_167 255 214 (dk_at dksX0_whose_2 0 rfl rfl)
theorem dX0_whose_49 : decode cX0_whose 49 = .ok (.iload_n 1, 1) := dk_27 (dk_at dksX0_whose_2 3 rfl rfl)
theorem dX0_whose_50 : decode cX0_whose 50 = .ok (.ireturn, 1) := dk_172 (dk_at dksX0_whose_2 4 rfl rfl)
abbrev cX0_isLaw : ByteArray := prog_1_method_89_code
def yX0_isLaw : MethodName := ⟨RX0, "isLaw", "(LQuarrelsPawned$Text;)Z"⟩
def dkwX0_isLaw_2 : List UInt8 := [28, 50, 4, 46, 159, 0, 5, 3, 172, 132, 2, 1, 167, 255, 200, 4, 172]
abbrev dktX0_isLaw_2 : List UInt8 := dkwX0_isLaw_2 ++ []
def dkwX0_isLaw_1 : List UInt8 := [180, 0, 88, 42, 180, 0, 21, 180, 1, 145, 28, 50, 3, 46, 182, 0, 198, 42, 180, 0, 21, 180, 1, 145]
abbrev dktX0_isLaw_1 : List UInt8 := dkwX0_isLaw_1 ++ dktX0_isLaw_2
def dkwX0_isLaw_0 : List UInt8 := [3, 61, 28, 42, 180, 0, 21, 180, 0, 70, 16, 6, 46, 162, 0, 48, 42, 43, 42, 180, 0, 21]
abbrev dktX0_isLaw_0 : List UInt8 := dkwX0_isLaw_0 ++ dktX0_isLaw_1
theorem dksX0_isLaw_0 : cX0_isLaw.data.toList.drop 0 = dktX0_isLaw_0 := by decide +kernel
theorem dksX0_isLaw_1 : cX0_isLaw.data.toList.drop 22 = dktX0_isLaw_1 := dk_seg dksX0_isLaw_0 22 rfl rfl
theorem dksX0_isLaw_2 : cX0_isLaw.data.toList.drop 46 = dktX0_isLaw_2 := dk_seg dksX0_isLaw_1 24 rfl rfl
theorem dX0_isLaw_0 : decode cX0_isLaw 0 = .ok (.iconst 0, 1) := dk_3 (dk_at dksX0_isLaw_0 0 rfl rfl)
theorem dX0_isLaw_1 : decode cX0_isLaw 1 = .ok (.istore_n 2, 1) := dk_61 (dk_at dksX0_isLaw_0 1 rfl rfl)
theorem dX0_isLaw_2 : decode cX0_isLaw 2 = .ok (.iload_n 2, 1) := dk_28 (dk_at dksX0_isLaw_0 2 rfl rfl)
theorem dX0_isLaw_3 : decode cX0_isLaw 3 = .ok (.aload_n 0, 1) := dk_42 (dk_at dksX0_isLaw_0 3 rfl rfl)
theorem dX0_isLaw_4 : decode cX0_isLaw 4 = .ok (.getfield 21, 3) := dk_180 0 21 (dk_at dksX0_isLaw_0 4 rfl rfl)
theorem dX0_isLaw_7 : decode cX0_isLaw 7 = .ok (.getfield 70, 3) := dk_180 0 70 (dk_at dksX0_isLaw_0 7 rfl rfl)
theorem dX0_isLaw_10 : decode cX0_isLaw 10 = .ok (.bipush 6, 2) := dk_16 6 (dk_at dksX0_isLaw_0 10 rfl rfl)
theorem dX0_isLaw_12 : decode cX0_isLaw 12 = .ok (.iaload, 1) := dk_46 (dk_at dksX0_isLaw_0 12 rfl rfl)
theorem dX0_isLaw_13 : decode cX0_isLaw 13 = .ok (.if_icmp .ge 48, 3) := dk_162 0 48 (dk_at dksX0_isLaw_0 13 rfl rfl)
theorem dX0_isLaw_16 : decode cX0_isLaw 16 = .ok (.aload_n 0, 1) := dk_42 (dk_at dksX0_isLaw_0 16 rfl rfl)
theorem dX0_isLaw_17 : decode cX0_isLaw 17 = .ok (.aload_n 1, 1) := dk_43 (dk_at dksX0_isLaw_0 17 rfl rfl)
theorem dX0_isLaw_18 : decode cX0_isLaw 18 = .ok (.aload_n 0, 1) := dk_42 (dk_at dksX0_isLaw_0 18 rfl rfl)
theorem dX0_isLaw_19 : decode cX0_isLaw 19 = .ok (.getfield 21, 3) := dk_180 0 21 (dk_at dksX0_isLaw_0 19 rfl rfl)
theorem dX0_isLaw_22 : decode cX0_isLaw 22 = .ok (.getfield 88, 3) := dk_180 0 88 (dk_at dksX0_isLaw_1 0 rfl rfl)
theorem dX0_isLaw_25 : decode cX0_isLaw 25 = .ok (.aload_n 0, 1) := dk_42 (dk_at dksX0_isLaw_1 3 rfl rfl)
theorem dX0_isLaw_26 : decode cX0_isLaw 26 = .ok (.getfield 21, 3) := dk_180 0 21 (dk_at dksX0_isLaw_1 4 rfl rfl)
theorem dX0_isLaw_29 : decode cX0_isLaw 29 = .ok (.getfield 401, 3) := dk_180 1 145 (dk_at dksX0_isLaw_1 7 rfl rfl)
theorem dX0_isLaw_32 : decode cX0_isLaw 32 = .ok (.iload_n 2, 1) := dk_28 (dk_at dksX0_isLaw_1 10 rfl rfl)
theorem dX0_isLaw_33 : decode cX0_isLaw 33 = .ok (.aaload, 1) := dk_50 (dk_at dksX0_isLaw_1 11 rfl rfl)
theorem dX0_isLaw_34 : decode cX0_isLaw 34 = .ok (.iconst 0, 1) := dk_3 (dk_at dksX0_isLaw_1 12 rfl rfl)
theorem dX0_isLaw_35 : decode cX0_isLaw 35 = .ok (.iaload, 1) := dk_46 (dk_at dksX0_isLaw_1 13 rfl rfl)
theorem dX0_isLaw_36 : decode cX0_isLaw 36 = .ok (.invokevirtual 198, 3) := dk_182 0 198 (dk_at dksX0_isLaw_1 14 rfl rfl)
theorem dX0_isLaw_39 : decode cX0_isLaw 39 = .ok (.aload_n 0, 1) := dk_42 (dk_at dksX0_isLaw_1 17 rfl rfl)
theorem dX0_isLaw_40 : decode cX0_isLaw 40 = .ok (.getfield 21, 3) := dk_180 0 21 (dk_at dksX0_isLaw_1 18 rfl rfl)
theorem dX0_isLaw_43 : decode cX0_isLaw 43 = .ok (.getfield 401, 3) := dk_180 1 145 (dk_at dksX0_isLaw_1 21 rfl rfl)
theorem dX0_isLaw_46 : decode cX0_isLaw 46 = .ok (.iload_n 2, 1) := dk_28 (dk_at dksX0_isLaw_2 0 rfl rfl)
theorem dX0_isLaw_47 : decode cX0_isLaw 47 = .ok (.aaload, 1) := dk_50 (dk_at dksX0_isLaw_2 1 rfl rfl)
theorem dX0_isLaw_48 : decode cX0_isLaw 48 = .ok (.iconst 1, 1) := dk_4 (dk_at dksX0_isLaw_2 2 rfl rfl)
theorem dX0_isLaw_49 : decode cX0_isLaw 49 = .ok (.iaload, 1) := dk_46 (dk_at dksX0_isLaw_2 3 rfl rfl)
theorem dX0_isLaw_50 : decode cX0_isLaw 50 = .ok (.if_icmp .eq 5, 3) := dk_159 0 5 (dk_at dksX0_isLaw_2 4 rfl rfl)
theorem dX0_isLaw_53 : decode cX0_isLaw 53 = .ok (.iconst 0, 1) := dk_3 (dk_at dksX0_isLaw_2 7 rfl rfl)
theorem dX0_isLaw_54 : decode cX0_isLaw 54 = .ok (.ireturn, 1) := dk_172 (dk_at dksX0_isLaw_2 8 rfl rfl)
theorem dX0_isLaw_55 : decode cX0_isLaw 55 = .ok (.iinc 2 1, 3) := dk_132 2 1 (dk_at dksX0_isLaw_2 9 rfl rfl)
theorem dX0_isLaw_58 : decode cX0_isLaw 58 = .ok (.goto (-56), 3) := dk_167 255 200 (dk_at dksX0_isLaw_2 12 rfl rfl)
theorem dX0_isLaw_61 : decode cX0_isLaw 61 = .ok (.iconst 1, 1) := dk_4 (dk_at dksX0_isLaw_2 15 rfl rfl)
theorem dX0_isLaw_62 : decode cX0_isLaw 62 = .ok (.ireturn, 1) := dk_172 (dk_at dksX0_isLaw_2 16 rfl rfl)
abbrev cX0_hottest : ByteArray := prog_1_method_91_code
def yX0_hottest : MethodName := ⟨RX0, "hottest", "()I"⟩
def dkwX0_hottest_2 : List UInt8 := [180, 0, 88, 16, 20, 27, 96, 46, 164, 0, 5, 28, 60, 132, 2, 1, 167, 255, 197, 27, 172]
abbrev dktX0_hottest_2 : List UInt8 := dkwX0_hottest_2 ++ []
def dkwX0_hottest_1 : List UInt8 := [154, 0, 37, 27, 2, 159, 0, 30, 42, 180, 0, 21, 180, 0, 88, 16, 20, 28, 96, 46, 42, 180, 0, 21]
abbrev dktX0_hottest_1 : List UInt8 := dkwX0_hottest_1 ++ dktX0_hottest_2
def dkwX0_hottest_0 : List UInt8 := [2, 60, 3, 61, 28, 42, 182, 0, 73, 162, 0, 57, 42, 180, 0, 21, 180, 0, 88, 7, 28, 96, 46]
abbrev dktX0_hottest_0 : List UInt8 := dkwX0_hottest_0 ++ dktX0_hottest_1
theorem dksX0_hottest_0 : cX0_hottest.data.toList.drop 0 = dktX0_hottest_0 := by decide +kernel
theorem dksX0_hottest_1 : cX0_hottest.data.toList.drop 23 = dktX0_hottest_1 := dk_seg dksX0_hottest_0 23 rfl rfl
theorem dksX0_hottest_2 : cX0_hottest.data.toList.drop 47 = dktX0_hottest_2 := dk_seg dksX0_hottest_1 24 rfl rfl
theorem dX0_hottest_0 : decode cX0_hottest 0 = .ok (.iconst (-1), 1) := dk_2 (dk_at dksX0_hottest_0 0 rfl rfl)
theorem dX0_hottest_1 : decode cX0_hottest 1 = .ok (.istore_n 1, 1) := dk_60 (dk_at dksX0_hottest_0 1 rfl rfl)
theorem dX0_hottest_2 : decode cX0_hottest 2 = .ok (.iconst 0, 1) := dk_3 (dk_at dksX0_hottest_0 2 rfl rfl)
theorem dX0_hottest_3 : decode cX0_hottest 3 = .ok (.istore_n 2, 1) := dk_61 (dk_at dksX0_hottest_0 3 rfl rfl)
theorem dX0_hottest_4 : decode cX0_hottest 4 = .ok (.iload_n 2, 1) := dk_28 (dk_at dksX0_hottest_0 4 rfl rfl)
theorem dX0_hottest_5 : decode cX0_hottest 5 = .ok (.aload_n 0, 1) := dk_42 (dk_at dksX0_hottest_0 5 rfl rfl)
theorem dX0_hottest_6 : decode cX0_hottest 6 = .ok (.invokevirtual 73, 3) := dk_182 0 73 (dk_at dksX0_hottest_0 6 rfl rfl)
theorem dX0_hottest_9 : decode cX0_hottest 9 = .ok (.if_icmp .ge 57, 3) := dk_162 0 57 (dk_at dksX0_hottest_0 9 rfl rfl)
theorem dX0_hottest_12 : decode cX0_hottest 12 = .ok (.aload_n 0, 1) := dk_42 (dk_at dksX0_hottest_0 12 rfl rfl)
theorem dX0_hottest_13 : decode cX0_hottest 13 = .ok (.getfield 21, 3) := dk_180 0 21 (dk_at dksX0_hottest_0 13 rfl rfl)
theorem dX0_hottest_16 : decode cX0_hottest 16 = .ok (.getfield 88, 3) := dk_180 0 88 (dk_at dksX0_hottest_0 16 rfl rfl)
theorem dX0_hottest_19 : decode cX0_hottest 19 = .ok (.iconst 4, 1) := dk_7 (dk_at dksX0_hottest_0 19 rfl rfl)
theorem dX0_hottest_20 : decode cX0_hottest 20 = .ok (.iload_n 2, 1) := dk_28 (dk_at dksX0_hottest_0 20 rfl rfl)
theorem dX0_hottest_21 : decode cX0_hottest 21 = .ok (.iadd, 1) := dk_96 (dk_at dksX0_hottest_0 21 rfl rfl)
theorem dX0_hottest_22 : decode cX0_hottest 22 = .ok (.iaload, 1) := dk_46 (dk_at dksX0_hottest_0 22 rfl rfl)
theorem dX0_hottest_23 : decode cX0_hottest 23 = .ok (.ifCond .ne 37, 3) := dk_154 0 37 (dk_at dksX0_hottest_1 0 rfl rfl)
theorem dX0_hottest_26 : decode cX0_hottest 26 = .ok (.iload_n 1, 1) := dk_27 (dk_at dksX0_hottest_1 3 rfl rfl)
theorem dX0_hottest_27 : decode cX0_hottest 27 = .ok (.iconst (-1), 1) := dk_2 (dk_at dksX0_hottest_1 4 rfl rfl)
theorem dX0_hottest_28 : decode cX0_hottest 28 = .ok (.if_icmp .eq 30, 3) := dk_159 0 30 (dk_at dksX0_hottest_1 5 rfl rfl)
theorem dX0_hottest_31 : decode cX0_hottest 31 = .ok (.aload_n 0, 1) := dk_42 (dk_at dksX0_hottest_1 8 rfl rfl)
theorem dX0_hottest_32 : decode cX0_hottest 32 = .ok (.getfield 21, 3) := dk_180 0 21 (dk_at dksX0_hottest_1 9 rfl rfl)
theorem dX0_hottest_35 : decode cX0_hottest 35 = .ok (.getfield 88, 3) := dk_180 0 88 (dk_at dksX0_hottest_1 12 rfl rfl)
theorem dX0_hottest_38 : decode cX0_hottest 38 = .ok (.bipush 20, 2) := dk_16 20 (dk_at dksX0_hottest_1 15 rfl rfl)
theorem dX0_hottest_40 : decode cX0_hottest 40 = .ok (.iload_n 2, 1) := dk_28 (dk_at dksX0_hottest_1 17 rfl rfl)
theorem dX0_hottest_41 : decode cX0_hottest 41 = .ok (.iadd, 1) := dk_96 (dk_at dksX0_hottest_1 18 rfl rfl)
theorem dX0_hottest_42 : decode cX0_hottest 42 = .ok (.iaload, 1) := dk_46 (dk_at dksX0_hottest_1 19 rfl rfl)
theorem dX0_hottest_43 : decode cX0_hottest 43 = .ok (.aload_n 0, 1) := dk_42 (dk_at dksX0_hottest_1 20 rfl rfl)
theorem dX0_hottest_44 : decode cX0_hottest 44 = .ok (.getfield 21, 3) := dk_180 0 21 (dk_at dksX0_hottest_1 21 rfl rfl)
theorem dX0_hottest_47 : decode cX0_hottest 47 = .ok (.getfield 88, 3) := dk_180 0 88 (dk_at dksX0_hottest_2 0 rfl rfl)
theorem dX0_hottest_50 : decode cX0_hottest 50 = .ok (.bipush 20, 2) := dk_16 20 (dk_at dksX0_hottest_2 3 rfl rfl)
theorem dX0_hottest_52 : decode cX0_hottest 52 = .ok (.iload_n 1, 1) := dk_27 (dk_at dksX0_hottest_2 5 rfl rfl)
theorem dX0_hottest_53 : decode cX0_hottest 53 = .ok (.iadd, 1) := dk_96 (dk_at dksX0_hottest_2 6 rfl rfl)
theorem dX0_hottest_54 : decode cX0_hottest 54 = .ok (.iaload, 1) := dk_46 (dk_at dksX0_hottest_2 7 rfl rfl)
theorem dX0_hottest_55 : decode cX0_hottest 55 = .ok (.if_icmp .le 5, 3) := dk_164 0 5 (dk_at dksX0_hottest_2 8 rfl rfl)
theorem dX0_hottest_58 : decode cX0_hottest 58 = .ok (.iload_n 2, 1) := dk_28 (dk_at dksX0_hottest_2 11 rfl rfl)
theorem dX0_hottest_59 : decode cX0_hottest 59 = .ok (.istore_n 1, 1) := dk_60 (dk_at dksX0_hottest_2 12 rfl rfl)
theorem dX0_hottest_60 : decode cX0_hottest 60 = .ok (.iinc 2 1, 3) := dk_132 2 1 (dk_at dksX0_hottest_2 13 rfl rfl)
theorem dX0_hottest_63 : decode cX0_hottest 63 = .ok (.goto (-59), 3) := dk_167 255 197 (dk_at dksX0_hottest_2 16 rfl rfl)
theorem dX0_hottest_66 : decode cX0_hottest 66 = .ok (.iload_n 1, 1) := dk_27 (dk_at dksX0_hottest_2 19 rfl rfl)
theorem dX0_hottest_67 : decode cX0_hottest 67 = .ok (.ireturn, 1) := dk_172 (dk_at dksX0_hottest_2 20 rfl rfl)
abbrev cX0_silent : ByteArray := prog_1_method_92_code
def yX0_silent : MethodName := ⟨RX0, "silent", "()I"⟩
def dkwX0_silent_1 : List UInt8 := [28, 120, 167, 0, 4, 3, 128, 60, 132, 2, 1, 167, 255, 225, 27, 172]
abbrev dktX0_silent_1 : List UInt8 := dkwX0_silent_1 ++ []
def dkwX0_silent_0 : List UInt8 := [3, 60, 3, 61, 28, 16, 6, 162, 0, 31, 27, 42, 28, 3, 182, 1, 56, 4, 28, 120, 160, 0, 9, 4]
abbrev dktX0_silent_0 : List UInt8 := dkwX0_silent_0 ++ dktX0_silent_1
theorem dksX0_silent_0 : cX0_silent.data.toList.drop 0 = dktX0_silent_0 := by decide +kernel
theorem dksX0_silent_1 : cX0_silent.data.toList.drop 24 = dktX0_silent_1 := dk_seg dksX0_silent_0 24 rfl rfl
theorem dX0_silent_0 : decode cX0_silent 0 = .ok (.iconst 0, 1) := dk_3 (dk_at dksX0_silent_0 0 rfl rfl)
theorem dX0_silent_1 : decode cX0_silent 1 = .ok (.istore_n 1, 1) := dk_60 (dk_at dksX0_silent_0 1 rfl rfl)
theorem dX0_silent_2 : decode cX0_silent 2 = .ok (.iconst 0, 1) := dk_3 (dk_at dksX0_silent_0 2 rfl rfl)
theorem dX0_silent_3 : decode cX0_silent 3 = .ok (.istore_n 2, 1) := dk_61 (dk_at dksX0_silent_0 3 rfl rfl)
theorem dX0_silent_4 : decode cX0_silent 4 = .ok (.iload_n 2, 1) := dk_28 (dk_at dksX0_silent_0 4 rfl rfl)
theorem dX0_silent_5 : decode cX0_silent 5 = .ok (.bipush 6, 2) := dk_16 6 (dk_at dksX0_silent_0 5 rfl rfl)
theorem dX0_silent_7 : decode cX0_silent 7 = .ok (.if_icmp .ge 31, 3) := dk_162 0 31 (dk_at dksX0_silent_0 7 rfl rfl)
theorem dX0_silent_10 : decode cX0_silent 10 = .ok (.iload_n 1, 1) := dk_27 (dk_at dksX0_silent_0 10 rfl rfl)
theorem dX0_silent_11 : decode cX0_silent 11 = .ok (.aload_n 0, 1) := dk_42 (dk_at dksX0_silent_0 11 rfl rfl)
theorem dX0_silent_12 : decode cX0_silent 12 = .ok (.iload_n 2, 1) := dk_28 (dk_at dksX0_silent_0 12 rfl rfl)
theorem dX0_silent_13 : decode cX0_silent 13 = .ok (.iconst 0, 1) := dk_3 (dk_at dksX0_silent_0 13 rfl rfl)
theorem dX0_silent_14 : decode cX0_silent 14 = .ok (.invokevirtual 312, 3) := dk_182 1 56 (dk_at dksX0_silent_0 14 rfl rfl)
theorem dX0_silent_17 : decode cX0_silent 17 = .ok (.iconst 1, 1) := dk_4 (dk_at dksX0_silent_0 17 rfl rfl)
theorem dX0_silent_18 : decode cX0_silent 18 = .ok (.iload_n 2, 1) := dk_28 (dk_at dksX0_silent_0 18 rfl rfl)
theorem dX0_silent_19 : decode cX0_silent 19 = .ok (.ishl, 1) := dk_120 (dk_at dksX0_silent_0 19 rfl rfl)
theorem dX0_silent_20 : decode cX0_silent 20 = .ok (.if_icmp .ne 9, 3) := dk_160 0 9 (dk_at dksX0_silent_0 20 rfl rfl)
theorem dX0_silent_23 : decode cX0_silent 23 = .ok (.iconst 1, 1) := dk_4 (dk_at dksX0_silent_0 23 rfl rfl)
theorem dX0_silent_24 : decode cX0_silent 24 = .ok (.iload_n 2, 1) := dk_28 (dk_at dksX0_silent_1 0 rfl rfl)
theorem dX0_silent_25 : decode cX0_silent 25 = .ok (.ishl, 1) := dk_120 (dk_at dksX0_silent_1 1 rfl rfl)
theorem dX0_silent_26 : decode cX0_silent 26 = .ok (.goto 4, 3) := dk_167 0 4 (dk_at dksX0_silent_1 2 rfl rfl)
theorem dX0_silent_29 : decode cX0_silent 29 = .ok (.iconst 0, 1) := dk_3 (dk_at dksX0_silent_1 5 rfl rfl)
theorem dX0_silent_30 : decode cX0_silent 30 = .ok (.ior, 1) := dk_128 (dk_at dksX0_silent_1 6 rfl rfl)
theorem dX0_silent_31 : decode cX0_silent 31 = .ok (.istore_n 1, 1) := dk_60 (dk_at dksX0_silent_1 7 rfl rfl)
theorem dX0_silent_32 : decode cX0_silent 32 = .ok (.iinc 2 1, 3) := dk_132 2 1 (dk_at dksX0_silent_1 8 rfl rfl)
theorem dX0_silent_35 : decode cX0_silent 35 = .ok (.goto (-31), 3) := dk_167 255 225 (dk_at dksX0_silent_1 11 rfl rfl)
theorem dX0_silent_38 : decode cX0_silent 38 = .ok (.iload_n 1, 1) := dk_27 (dk_at dksX0_silent_1 14 rfl rfl)
theorem dX0_silent_39 : decode cX0_silent 39 = .ok (.ireturn, 1) := dk_172 (dk_at dksX0_silent_1 15 rfl rfl)
abbrev cX0_ledger : ByteArray := prog_1_method_93_code
def yX0_ledger : MethodName := ⟨RX0, "ledger", "(I)I"⟩
def dkwX0_ledger_2 : List UInt8 := [160, 0, 7, 4, 167, 0, 4, 3, 96, 61, 132, 3, 1, 167, 255, 211, 28, 172]
abbrev dktX0_ledger_2 : List UInt8 := dkwX0_ledger_2 ++ []
def dkwX0_ledger_1 : List UInt8 := [16, 28, 46, 162, 0, 37, 28, 42, 180, 0, 21, 180, 0, 88, 16, 29, 7, 29, 104, 96, 5, 96, 46, 27]
abbrev dktX0_ledger_1 : List UInt8 := dkwX0_ledger_1 ++ dktX0_ledger_2
def dkwX0_ledger_0 : List UInt8 := [27, 3, 5, 184, 0, 77, 154, 0, 6, 16, 254, 172, 3, 61, 3, 62, 29, 42, 180, 0, 21, 180, 0, 88]
abbrev dktX0_ledger_0 : List UInt8 := dkwX0_ledger_0 ++ dktX0_ledger_1
theorem dksX0_ledger_0 : cX0_ledger.data.toList.drop 0 = dktX0_ledger_0 := by decide +kernel
theorem dksX0_ledger_1 : cX0_ledger.data.toList.drop 24 = dktX0_ledger_1 := dk_seg dksX0_ledger_0 24 rfl rfl
theorem dksX0_ledger_2 : cX0_ledger.data.toList.drop 48 = dktX0_ledger_2 := dk_seg dksX0_ledger_1 24 rfl rfl
theorem dX0_ledger_0 : decode cX0_ledger 0 = .ok (.iload_n 1, 1) := dk_27 (dk_at dksX0_ledger_0 0 rfl rfl)
theorem dX0_ledger_1 : decode cX0_ledger 1 = .ok (.iconst 0, 1) := dk_3 (dk_at dksX0_ledger_0 1 rfl rfl)
theorem dX0_ledger_2 : decode cX0_ledger 2 = .ok (.iconst 2, 1) := dk_5 (dk_at dksX0_ledger_0 2 rfl rfl)
theorem dX0_ledger_3 : decode cX0_ledger 3 = .ok (.invokestatic 77, 3) := dk_184 0 77 (dk_at dksX0_ledger_0 3 rfl rfl)
theorem dX0_ledger_6 : decode cX0_ledger 6 = .ok (.ifCond .ne 6, 3) := dk_154 0 6 (dk_at dksX0_ledger_0 6 rfl rfl)
theorem dX0_ledger_9 : decode cX0_ledger 9 = .ok (.bipush (-2), 2) := dk_16 254 (dk_at dksX0_ledger_0 9 rfl rfl)
theorem dX0_ledger_11 : decode cX0_ledger 11 = .ok (.ireturn, 1) := dk_172 (dk_at dksX0_ledger_0 11 rfl rfl)
theorem dX0_ledger_12 : decode cX0_ledger 12 = .ok (.iconst 0, 1) := dk_3 (dk_at dksX0_ledger_0 12 rfl rfl)
theorem dX0_ledger_13 : decode cX0_ledger 13 = .ok (.istore_n 2, 1) := dk_61 (dk_at dksX0_ledger_0 13 rfl rfl)
theorem dX0_ledger_14 : decode cX0_ledger 14 = .ok (.iconst 0, 1) := dk_3 (dk_at dksX0_ledger_0 14 rfl rfl)
theorem dX0_ledger_15 : decode cX0_ledger 15 = .ok (.istore_n 3, 1) := dk_62 (dk_at dksX0_ledger_0 15 rfl rfl)
theorem dX0_ledger_16 : decode cX0_ledger 16 = .ok (.iload_n 3, 1) := dk_29 (dk_at dksX0_ledger_0 16 rfl rfl)
theorem dX0_ledger_17 : decode cX0_ledger 17 = .ok (.aload_n 0, 1) := dk_42 (dk_at dksX0_ledger_0 17 rfl rfl)
theorem dX0_ledger_18 : decode cX0_ledger 18 = .ok (.getfield 21, 3) := dk_180 0 21 (dk_at dksX0_ledger_0 18 rfl rfl)
theorem dX0_ledger_21 : decode cX0_ledger 21 = .ok (.getfield 88, 3) := dk_180 0 88 (dk_at dksX0_ledger_0 21 rfl rfl)
theorem dX0_ledger_24 : decode cX0_ledger 24 = .ok (.bipush 28, 2) := dk_16 28 (dk_at dksX0_ledger_1 0 rfl rfl)
theorem dX0_ledger_26 : decode cX0_ledger 26 = .ok (.iaload, 1) := dk_46 (dk_at dksX0_ledger_1 2 rfl rfl)
theorem dX0_ledger_27 : decode cX0_ledger 27 = .ok (.if_icmp .ge 37, 3) := dk_162 0 37 (dk_at dksX0_ledger_1 3 rfl rfl)
theorem dX0_ledger_30 : decode cX0_ledger 30 = .ok (.iload_n 2, 1) := dk_28 (dk_at dksX0_ledger_1 6 rfl rfl)
theorem dX0_ledger_31 : decode cX0_ledger 31 = .ok (.aload_n 0, 1) := dk_42 (dk_at dksX0_ledger_1 7 rfl rfl)
theorem dX0_ledger_32 : decode cX0_ledger 32 = .ok (.getfield 21, 3) := dk_180 0 21 (dk_at dksX0_ledger_1 8 rfl rfl)
theorem dX0_ledger_35 : decode cX0_ledger 35 = .ok (.getfield 88, 3) := dk_180 0 88 (dk_at dksX0_ledger_1 11 rfl rfl)
theorem dX0_ledger_38 : decode cX0_ledger 38 = .ok (.bipush 29, 2) := dk_16 29 (dk_at dksX0_ledger_1 14 rfl rfl)
theorem dX0_ledger_40 : decode cX0_ledger 40 = .ok (.iconst 4, 1) := dk_7 (dk_at dksX0_ledger_1 16 rfl rfl)
theorem dX0_ledger_41 : decode cX0_ledger 41 = .ok (.iload_n 3, 1) := dk_29 (dk_at dksX0_ledger_1 17 rfl rfl)
theorem dX0_ledger_42 : decode cX0_ledger 42 = .ok (.imul, 1) := dk_104 (dk_at dksX0_ledger_1 18 rfl rfl)
theorem dX0_ledger_43 : decode cX0_ledger 43 = .ok (.iadd, 1) := dk_96 (dk_at dksX0_ledger_1 19 rfl rfl)
theorem dX0_ledger_44 : decode cX0_ledger 44 = .ok (.iconst 2, 1) := dk_5 (dk_at dksX0_ledger_1 20 rfl rfl)
theorem dX0_ledger_45 : decode cX0_ledger 45 = .ok (.iadd, 1) := dk_96 (dk_at dksX0_ledger_1 21 rfl rfl)
theorem dX0_ledger_46 : decode cX0_ledger 46 = .ok (.iaload, 1) := dk_46 (dk_at dksX0_ledger_1 22 rfl rfl)
theorem dX0_ledger_47 : decode cX0_ledger 47 = .ok (.iload_n 1, 1) := dk_27 (dk_at dksX0_ledger_1 23 rfl rfl)
theorem dX0_ledger_48 : decode cX0_ledger 48 = .ok (.if_icmp .ne 7, 3) := dk_160 0 7 (dk_at dksX0_ledger_2 0 rfl rfl)
theorem dX0_ledger_51 : decode cX0_ledger 51 = .ok (.iconst 1, 1) := dk_4 (dk_at dksX0_ledger_2 3 rfl rfl)
theorem dX0_ledger_52 : decode cX0_ledger 52 = .ok (.goto 4, 3) := dk_167 0 4 (dk_at dksX0_ledger_2 4 rfl rfl)
theorem dX0_ledger_55 : decode cX0_ledger 55 = .ok (.iconst 0, 1) := dk_3 (dk_at dksX0_ledger_2 7 rfl rfl)
theorem dX0_ledger_56 : decode cX0_ledger 56 = .ok (.iadd, 1) := dk_96 (dk_at dksX0_ledger_2 8 rfl rfl)
theorem dX0_ledger_57 : decode cX0_ledger 57 = .ok (.istore_n 2, 1) := dk_61 (dk_at dksX0_ledger_2 9 rfl rfl)
theorem dX0_ledger_58 : decode cX0_ledger 58 = .ok (.iinc 3 1, 3) := dk_132 3 1 (dk_at dksX0_ledger_2 10 rfl rfl)
theorem dX0_ledger_61 : decode cX0_ledger 61 = .ok (.goto (-45), 3) := dk_167 255 211 (dk_at dksX0_ledger_2 13 rfl rfl)
theorem dX0_ledger_64 : decode cX0_ledger 64 = .ok (.iload_n 2, 1) := dk_28 (dk_at dksX0_ledger_2 16 rfl rfl)
theorem dX0_ledger_65 : decode cX0_ledger 65 = .ok (.ireturn, 1) := dk_172 (dk_at dksX0_ledger_2 17 rfl rfl)
abbrev cX0_image : ByteArray := prog_1_method_94_code
def yX0_image : MethodName := ⟨RX0, "image", "()I"⟩
def dkwX0_image_0 : List UInt8 := [42, 180, 0, 25, 42, 180, 0, 21, 182, 0, 66, 42, 180, 0, 21, 180, 0, 88, 3, 46, 172]
abbrev dktX0_image_0 : List UInt8 := dkwX0_image_0 ++ []
theorem dksX0_image_0 : cX0_image.data.toList.drop 0 = dktX0_image_0 := by decide +kernel
theorem dX0_image_0 : decode cX0_image 0 = .ok (.aload_n 0, 1) := dk_42 (dk_at dksX0_image_0 0 rfl rfl)
theorem dX0_image_1 : decode cX0_image 1 = .ok (.getfield 25, 3) := dk_180 0 25 (dk_at dksX0_image_0 1 rfl rfl)
theorem dX0_image_4 : decode cX0_image 4 = .ok (.aload_n 0, 1) := dk_42 (dk_at dksX0_image_0 4 rfl rfl)
theorem dX0_image_5 : decode cX0_image 5 = .ok (.getfield 21, 3) := dk_180 0 21 (dk_at dksX0_image_0 5 rfl rfl)
theorem dX0_image_8 : decode cX0_image 8 = .ok (.invokevirtual 66, 3) := dk_182 0 66 (dk_at dksX0_image_0 8 rfl rfl)
theorem dX0_image_11 : decode cX0_image 11 = .ok (.aload_n 0, 1) := dk_42 (dk_at dksX0_image_0 11 rfl rfl)
theorem dX0_image_12 : decode cX0_image 12 = .ok (.getfield 21, 3) := dk_180 0 21 (dk_at dksX0_image_0 12 rfl rfl)
theorem dX0_image_15 : decode cX0_image 15 = .ok (.getfield 88, 3) := dk_180 0 88 (dk_at dksX0_image_0 15 rfl rfl)
theorem dX0_image_18 : decode cX0_image 18 = .ok (.iconst 0, 1) := dk_3 (dk_at dksX0_image_0 18 rfl rfl)
theorem dX0_image_19 : decode cX0_image 19 = .ok (.iaload, 1) := dk_46 (dk_at dksX0_image_0 19 rfl rfl)
theorem dX0_image_20 : decode cX0_image 20 = .ok (.ireturn, 1) := dk_172 (dk_at dksX0_image_0 20 rfl rfl)
abbrev cX0_back : ByteArray := prog_1_method_95_code
def yX0_back : MethodName := ⟨RX0, "back", "()I"⟩
def dkwX0_back_0 : List UInt8 := [42, 180, 0, 21, 42, 180, 0, 25, 182, 0, 66, 42, 180, 0, 21, 180, 0, 88, 3, 46, 172]
abbrev dktX0_back_0 : List UInt8 := dkwX0_back_0 ++ []
theorem dksX0_back_0 : cX0_back.data.toList.drop 0 = dktX0_back_0 := by decide +kernel
theorem dX0_back_0 : decode cX0_back 0 = .ok (.aload_n 0, 1) := dk_42 (dk_at dksX0_back_0 0 rfl rfl)
theorem dX0_back_1 : decode cX0_back 1 = .ok (.getfield 21, 3) := dk_180 0 21 (dk_at dksX0_back_0 1 rfl rfl)
theorem dX0_back_4 : decode cX0_back 4 = .ok (.aload_n 0, 1) := dk_42 (dk_at dksX0_back_0 4 rfl rfl)
theorem dX0_back_5 : decode cX0_back 5 = .ok (.getfield 25, 3) := dk_180 0 25 (dk_at dksX0_back_0 5 rfl rfl)
theorem dX0_back_8 : decode cX0_back 8 = .ok (.invokevirtual 66, 3) := dk_182 0 66 (dk_at dksX0_back_0 8 rfl rfl)
theorem dX0_back_11 : decode cX0_back 11 = .ok (.aload_n 0, 1) := dk_42 (dk_at dksX0_back_0 11 rfl rfl)
theorem dX0_back_12 : decode cX0_back 12 = .ok (.getfield 21, 3) := dk_180 0 21 (dk_at dksX0_back_0 12 rfl rfl)
theorem dX0_back_15 : decode cX0_back 15 = .ok (.getfield 88, 3) := dk_180 0 88 (dk_at dksX0_back_0 15 rfl rfl)
theorem dX0_back_18 : decode cX0_back 18 = .ok (.iconst 0, 1) := dk_3 (dk_at dksX0_back_0 18 rfl rfl)
theorem dX0_back_19 : decode cX0_back 19 = .ok (.iaload, 1) := dk_46 (dk_at dksX0_back_0 19 rfl rfl)
theorem dX0_back_20 : decode cX0_back 20 = .ok (.ireturn, 1) := dk_172 (dk_at dksX0_back_0 20 rfl rfl)
abbrev cX0_about : ByteArray := prog_1_method_96_code
def yX0_about : MethodName := ⟨RX0, "about", "(I)I"⟩
def dkwX0_about_5 : List UInt8 := [172, 16, 254, 172]
abbrev dktX0_about_5 : List UInt8 := dkwX0_about_5 ++ []
def dkwX0_about_4 : List UInt8 := [180, 0, 21, 180, 0, 70, 8, 46, 172, 42, 180, 0, 21, 180, 0, 70, 16, 6, 46, 172, 42, 180, 0, 108]
abbrev dktX0_about_4 : List UInt8 := dkwX0_about_4 ++ dktX0_about_5
def dkwX0_about_3 : List UInt8 := [172, 42, 180, 0, 21, 180, 0, 70, 6, 46, 172, 42, 180, 0, 21, 180, 0, 70, 7, 46, 172, 42]
abbrev dktX0_about_3 : List UInt8 := dkwX0_about_3 ++ dktX0_about_4
def dkwX0_about_2 : List UInt8 := [42, 182, 0, 73, 172, 42, 180, 0, 21, 180, 0, 70, 4, 46, 172, 42, 180, 0, 21, 180, 0, 70, 5, 46]
abbrev dktX0_about_2 : List UInt8 := dkwX0_about_2 ++ dktX0_about_3
def dkwX0_about_1 : List UInt8 := [170, 0, 0, 0, 0, 0, 118, 0, 0, 0, 0, 0, 0, 0, 7, 0, 0, 0, 47, 0, 0, 0, 52, 0, 0, 0, 62, 0, 0, 0, 72, 0, 0, 0, 82, 0, 0, 0, 92, 0, 0, 0, 102, 0, 0, 0, 113]
abbrev dktX0_about_1 : List UInt8 := dkwX0_about_1 ++ dktX0_about_2
def dkwX0_about_0 : List UInt8 := [27]
abbrev dktX0_about_0 : List UInt8 := dkwX0_about_0 ++ dktX0_about_1
theorem dksX0_about_0 : cX0_about.data.toList.drop 0 = dktX0_about_0 := by decide +kernel
theorem dksX0_about_1 : cX0_about.data.toList.drop 1 = dktX0_about_1 := dk_seg dksX0_about_0 1 rfl rfl
theorem dksX0_about_2 : cX0_about.data.toList.drop 48 = dktX0_about_2 := dk_seg dksX0_about_1 47 rfl rfl
theorem dksX0_about_3 : cX0_about.data.toList.drop 72 = dktX0_about_3 := dk_seg dksX0_about_2 24 rfl rfl
theorem dksX0_about_4 : cX0_about.data.toList.drop 94 = dktX0_about_4 := dk_seg dksX0_about_3 22 rfl rfl
theorem dksX0_about_5 : cX0_about.data.toList.drop 118 = dktX0_about_5 := dk_seg dksX0_about_4 24 rfl rfl
theorem dX0_about_0 : decode cX0_about 0 = .ok (.iload_n 1, 1) := dk_27 (dk_at dksX0_about_0 0 rfl rfl)
theorem dX0_about_1 : decode cX0_about 1 = .ok (.tableswitch 118 0 7 #[47, 52, 62, 72, 82, 92, 102, 113], 47) := by decide +kernel
theorem dX0_about_48 : decode cX0_about 48 = .ok (.aload_n 0, 1) := dk_42 (dk_at dksX0_about_2 0 rfl rfl)
theorem dX0_about_49 : decode cX0_about 49 = .ok (.invokevirtual 73, 3) := dk_182 0 73 (dk_at dksX0_about_2 1 rfl rfl)
theorem dX0_about_52 : decode cX0_about 52 = .ok (.ireturn, 1) := dk_172 (dk_at dksX0_about_2 4 rfl rfl)
theorem dX0_about_53 : decode cX0_about 53 = .ok (.aload_n 0, 1) := dk_42 (dk_at dksX0_about_2 5 rfl rfl)
theorem dX0_about_54 : decode cX0_about 54 = .ok (.getfield 21, 3) := dk_180 0 21 (dk_at dksX0_about_2 6 rfl rfl)
theorem dX0_about_57 : decode cX0_about 57 = .ok (.getfield 70, 3) := dk_180 0 70 (dk_at dksX0_about_2 9 rfl rfl)
theorem dX0_about_60 : decode cX0_about 60 = .ok (.iconst 1, 1) := dk_4 (dk_at dksX0_about_2 12 rfl rfl)
theorem dX0_about_61 : decode cX0_about 61 = .ok (.iaload, 1) := dk_46 (dk_at dksX0_about_2 13 rfl rfl)
theorem dX0_about_62 : decode cX0_about 62 = .ok (.ireturn, 1) := dk_172 (dk_at dksX0_about_2 14 rfl rfl)
theorem dX0_about_63 : decode cX0_about 63 = .ok (.aload_n 0, 1) := dk_42 (dk_at dksX0_about_2 15 rfl rfl)
theorem dX0_about_64 : decode cX0_about 64 = .ok (.getfield 21, 3) := dk_180 0 21 (dk_at dksX0_about_2 16 rfl rfl)
theorem dX0_about_67 : decode cX0_about 67 = .ok (.getfield 70, 3) := dk_180 0 70 (dk_at dksX0_about_2 19 rfl rfl)
theorem dX0_about_70 : decode cX0_about 70 = .ok (.iconst 2, 1) := dk_5 (dk_at dksX0_about_2 22 rfl rfl)
theorem dX0_about_71 : decode cX0_about 71 = .ok (.iaload, 1) := dk_46 (dk_at dksX0_about_2 23 rfl rfl)
theorem dX0_about_72 : decode cX0_about 72 = .ok (.ireturn, 1) := dk_172 (dk_at dksX0_about_3 0 rfl rfl)
theorem dX0_about_73 : decode cX0_about 73 = .ok (.aload_n 0, 1) := dk_42 (dk_at dksX0_about_3 1 rfl rfl)
theorem dX0_about_74 : decode cX0_about 74 = .ok (.getfield 21, 3) := dk_180 0 21 (dk_at dksX0_about_3 2 rfl rfl)
theorem dX0_about_77 : decode cX0_about 77 = .ok (.getfield 70, 3) := dk_180 0 70 (dk_at dksX0_about_3 5 rfl rfl)
theorem dX0_about_80 : decode cX0_about 80 = .ok (.iconst 3, 1) := dk_6 (dk_at dksX0_about_3 8 rfl rfl)
theorem dX0_about_81 : decode cX0_about 81 = .ok (.iaload, 1) := dk_46 (dk_at dksX0_about_3 9 rfl rfl)
theorem dX0_about_82 : decode cX0_about 82 = .ok (.ireturn, 1) := dk_172 (dk_at dksX0_about_3 10 rfl rfl)
theorem dX0_about_83 : decode cX0_about 83 = .ok (.aload_n 0, 1) := dk_42 (dk_at dksX0_about_3 11 rfl rfl)
theorem dX0_about_84 : decode cX0_about 84 = .ok (.getfield 21, 3) := dk_180 0 21 (dk_at dksX0_about_3 12 rfl rfl)
theorem dX0_about_87 : decode cX0_about 87 = .ok (.getfield 70, 3) := dk_180 0 70 (dk_at dksX0_about_3 15 rfl rfl)
theorem dX0_about_90 : decode cX0_about 90 = .ok (.iconst 4, 1) := dk_7 (dk_at dksX0_about_3 18 rfl rfl)
theorem dX0_about_91 : decode cX0_about 91 = .ok (.iaload, 1) := dk_46 (dk_at dksX0_about_3 19 rfl rfl)
theorem dX0_about_92 : decode cX0_about 92 = .ok (.ireturn, 1) := dk_172 (dk_at dksX0_about_3 20 rfl rfl)
theorem dX0_about_93 : decode cX0_about 93 = .ok (.aload_n 0, 1) := dk_42 (dk_at dksX0_about_3 21 rfl rfl)
theorem dX0_about_94 : decode cX0_about 94 = .ok (.getfield 21, 3) := dk_180 0 21 (dk_at dksX0_about_4 0 rfl rfl)
theorem dX0_about_97 : decode cX0_about 97 = .ok (.getfield 70, 3) := dk_180 0 70 (dk_at dksX0_about_4 3 rfl rfl)
theorem dX0_about_100 : decode cX0_about 100 = .ok (.iconst 5, 1) := dk_8 (dk_at dksX0_about_4 6 rfl rfl)
theorem dX0_about_101 : decode cX0_about 101 = .ok (.iaload, 1) := dk_46 (dk_at dksX0_about_4 7 rfl rfl)
theorem dX0_about_102 : decode cX0_about 102 = .ok (.ireturn, 1) := dk_172 (dk_at dksX0_about_4 8 rfl rfl)
theorem dX0_about_103 : decode cX0_about 103 = .ok (.aload_n 0, 1) := dk_42 (dk_at dksX0_about_4 9 rfl rfl)
theorem dX0_about_104 : decode cX0_about 104 = .ok (.getfield 21, 3) := dk_180 0 21 (dk_at dksX0_about_4 10 rfl rfl)
theorem dX0_about_107 : decode cX0_about 107 = .ok (.getfield 70, 3) := dk_180 0 70 (dk_at dksX0_about_4 13 rfl rfl)
theorem dX0_about_110 : decode cX0_about 110 = .ok (.bipush 6, 2) := dk_16 6 (dk_at dksX0_about_4 16 rfl rfl)
theorem dX0_about_112 : decode cX0_about 112 = .ok (.iaload, 1) := dk_46 (dk_at dksX0_about_4 18 rfl rfl)
theorem dX0_about_113 : decode cX0_about 113 = .ok (.ireturn, 1) := dk_172 (dk_at dksX0_about_4 19 rfl rfl)
theorem dX0_about_114 : decode cX0_about 114 = .ok (.aload_n 0, 1) := dk_42 (dk_at dksX0_about_4 20 rfl rfl)
theorem dX0_about_115 : decode cX0_about 115 = .ok (.getfield 108, 3) := dk_180 0 108 (dk_at dksX0_about_4 21 rfl rfl)
theorem dX0_about_118 : decode cX0_about 118 = .ok (.ireturn, 1) := dk_172 (dk_at dksX0_about_5 0 rfl rfl)
theorem dX0_about_119 : decode cX0_about 119 = .ok (.bipush (-2), 2) := dk_16 254 (dk_at dksX0_about_5 1 rfl rfl)
theorem dX0_about_121 : decode cX0_about 121 = .ok (.ireturn, 1) := dk_172 (dk_at dksX0_about_5 3 rfl rfl)
theorem q136 : (Jvm.Cond.initialized "QuarrelsPawned") ∈ lw_all := lw_g (lw_at lw_m1 1 rfl) rfl
theorem q172 : (Jvm.Cond.instantiable "QuarrelsPawned" (17 : Nat)) ∈ lw_all := lw_g (lw_at lw_m1 37 rfl) rfl
theorem q174 : (Jvm.Cond.instanceMethod ({ cls := "QuarrelsPawned", name := "<init>", desc := "()V" } : Jvm.MethodName)) ∈ lw_all := lw_g (lw_at lw_m1 39 rfl) rfl
theorem q175 : (Jvm.Cond.code ({ cls := "QuarrelsPawned", name := "<init>", desc := "()V" } : Jvm.MethodName) prog_1_method_4_code (1 : Nat) (Option.none : Option Jvm.ClassFile.FieldType)) ∈ lw_all := lw_g (lw_at lw_m1 40 rfl) rfl
theorem q176 : (Jvm.Cond.methodLink "QuarrelsPawned" (12 : Nat) ({ cls := "java/lang/Object", name := "<init>", desc := "()V" } : Jvm.MethodName)) ∈ lw_all := lw_g (lw_at lw_m1 41 rfl) rfl
theorem q179 : (Jvm.Cond.classLink "QuarrelsPawned" (18 : Nat) "QuarrelsPawned$State") ∈ lw_all := lw_g (lw_at lw_m1 44 rfl) rfl
theorem q181 : (Jvm.Cond.methodLink "QuarrelsPawned" (20 : Nat) ({ cls := "QuarrelsPawned$State", name := "<init>", desc := "()V" } : Jvm.MethodName)) ∈ lw_all := lw_g (lw_at lw_m1 46 rfl) rfl
theorem q193 : (Jvm.Cond.fieldLinkNest "QuarrelsPawned" (70 : Nat) "QuarrelsPawned$State" "n" "[I" "QuarrelsPawned") ∈ lw_tbl := lw_at lw_m1 58 rfl
theorem q195 : (Jvm.Cond.fieldLinkNest "QuarrelsPawned" (88 : Nat) "QuarrelsPawned$State" "row" "[I" "QuarrelsPawned") ∈ lw_tbl := lw_at lw_m1 60 rfl
theorem q197 : (Jvm.Cond.fieldLinkNest "QuarrelsPawned" (95 : Nat) "QuarrelsPawned$State" "one" "[I" "QuarrelsPawned") ∈ lw_tbl := lw_at lw_m1 62 rfl
theorem q199 : (Jvm.Cond.fieldLinkNest "QuarrelsPawned" (98 : Nat) "QuarrelsPawned$State" "other" "[I" "QuarrelsPawned") ∈ lw_tbl := lw_at lw_m1 64 rfl
theorem q201 : (Jvm.Cond.fieldLinkNest "QuarrelsPawned" (101 : Nat) "QuarrelsPawned$State" "worth" "[I" "QuarrelsPawned") ∈ lw_tbl := lw_at lw_m1 66 rfl
theorem q203 : (Jvm.Cond.fieldLinkNest "QuarrelsPawned" (356 : Nat) "QuarrelsPawned$State" "digit" "[I" "QuarrelsPawned") ∈ lw_tbl := lw_at lw_m1 68 rfl
theorem q205 : (Jvm.Cond.fieldLinkNest "QuarrelsPawned" (368 : Nat) "QuarrelsPawned$State" "hook" "[I" "QuarrelsPawned") ∈ lw_tbl := lw_at lw_m1 70 rfl
theorem q207 : (Jvm.Cond.fieldLinkNest "QuarrelsPawned" (387 : Nat) "QuarrelsPawned$State" "bid" "[[I" "QuarrelsPawned") ∈ lw_tbl := lw_at lw_m1 72 rfl
theorem q209 : (Jvm.Cond.fieldLinkNest "QuarrelsPawned" (401 : Nat) "QuarrelsPawned$State" "said" "[[I" "QuarrelsPawned") ∈ lw_tbl := lw_at lw_m1 74 rfl
theorem q211 : (Jvm.Cond.fieldLinkNest "QuarrelsPawned" (290 : Nat) "QuarrelsPawned$State" "step" "[[I" "QuarrelsPawned") ∈ lw_tbl := lw_at lw_m1 76 rfl
theorem q213 : (Jvm.Cond.fieldLinkNest "QuarrelsPawned" (115 : Nat) "QuarrelsPawned$State" "text" "[LQuarrelsPawned$Text;" "QuarrelsPawned") ∈ lw_tbl := lw_at lw_m1 78 rfl
theorem q238 : (Jvm.Cond.classLink "QuarrelsPawned" (61 : Nat) "[[I") ∈ lw_all := lw_g (lw_at lw_m1 103 rfl) rfl
theorem q239 : (Jvm.Cond.methodLink "QuarrelsPawned" (66 : Nat) ({ cls := "QuarrelsPawned$State", name := "be", desc := "(LQuarrelsPawned$State;)V" } : Jvm.MethodName)) ∈ lw_all := lw_g (lw_at lw_m1 104 rfl) rfl
theorem q252 : (Jvm.Cond.fieldLink "QuarrelsPawned" (21 : Nat) "QuarrelsPawned" "now" "LQuarrelsPawned$State;") ∈ lw_all := lw_g (lw_at lw_m1 117 rfl) rfl
theorem q253 : (Jvm.Cond.fieldLink "QuarrelsPawned" (25 : Nat) "QuarrelsPawned" "image" "LQuarrelsPawned$State;") ∈ lw_all := lw_g (lw_at lw_m1 118 rfl) rfl
theorem q254 : (Jvm.Cond.fieldLink "QuarrelsPawned" (28 : Nat) "QuarrelsPawned" "tape" "[B") ∈ lw_all := lw_g (lw_at lw_m1 119 rfl) rfl
theorem q255 : (Jvm.Cond.fieldLink "QuarrelsPawned" (108 : Nat) "QuarrelsPawned" "taped" "I") ∈ lw_all := lw_g (lw_at lw_m1 120 rfl) rfl
theorem q256 : (Jvm.Cond.fieldLink "QuarrelsPawned" (32 : Nat) "QuarrelsPawned" "fault" "I") ∈ lw_all := lw_g (lw_at lw_m1 121 rfl) rfl
theorem q257 : (Jvm.Cond.fieldLink "QuarrelsPawned" (36 : Nat) "QuarrelsPawned" "faultAt" "I") ∈ lw_all := lw_g (lw_at lw_m1 122 rfl) rfl
theorem q258 : (Jvm.Cond.fieldLink "QuarrelsPawned" (39 : Nat) "QuarrelsPawned" "names" "[I") ∈ lw_all := lw_g (lw_at lw_m1 123 rfl) rfl
theorem q259 : (Jvm.Cond.fieldLink "QuarrelsPawned" (43 : Nat) "QuarrelsPawned" "tried" "[I") ∈ lw_all := lw_g (lw_at lw_m1 124 rfl) rfl
theorem q260 : (Jvm.Cond.fieldLink "QuarrelsPawned" (46 : Nat) "QuarrelsPawned" "far" "[I") ∈ lw_all := lw_g (lw_at lw_m1 125 rfl) rfl
theorem q261 : (Jvm.Cond.fieldLink "QuarrelsPawned" (49 : Nat) "QuarrelsPawned" "order" "[I") ∈ lw_all := lw_g (lw_at lw_m1 126 rfl) rfl
theorem q262 : (Jvm.Cond.fieldLink "QuarrelsPawned" (52 : Nat) "QuarrelsPawned" "bestOrder" "[I") ∈ lw_all := lw_g (lw_at lw_m1 127 rfl) rfl
theorem q263 : (Jvm.Cond.fieldLink "QuarrelsPawned" (342 : Nat) "QuarrelsPawned" "bestDay" "I") ∈ lw_all := lw_g (lw_at lw_m1 128 rfl) rfl
theorem q264 : (Jvm.Cond.fieldLink "QuarrelsPawned" (345 : Nat) "QuarrelsPawned" "bestPaid" "I") ∈ lw_all := lw_g (lw_at lw_m1 129 rfl) rfl
theorem q265 : (Jvm.Cond.fieldLink "QuarrelsPawned" (55 : Nat) "QuarrelsPawned" "hangs" "[I") ∈ lw_all := lw_g (lw_at lw_m1 130 rfl) rfl
theorem q266 : (Jvm.Cond.fieldLink "QuarrelsPawned" (58 : Nat) "QuarrelsPawned" "lowestHung" "[I") ∈ lw_all := lw_g (lw_at lw_m1 131 rfl) rfl
theorem q267 : (Jvm.Cond.fieldLink "QuarrelsPawned" (63 : Nat) "QuarrelsPawned" "hung" "[[I") ∈ lw_all := lw_g (lw_at lw_m1 132 rfl) rfl
theorem q268 : (Jvm.Cond.fieldLink "QuarrelsPawned" (371 : Nat) "QuarrelsPawned" "hungWays" "I") ∈ lw_all := lw_g (lw_at lw_m1 133 rfl) rfl
theorem q269 : (Jvm.Cond.laysFinal "QuarrelsPawned" "QuarrelsPawned" "now" "LQuarrelsPawned$State;") ∈ lw_all := lw_g (lw_at lw_m1 134 rfl) rfl
theorem q270 : (Jvm.Cond.soleField "QuarrelsPawned" "now") ∈ lw_all := lw_g (lw_at lw_m1 135 rfl) rfl
theorem q271 : (Jvm.Cond.laysFinal "QuarrelsPawned" "QuarrelsPawned" "image" "LQuarrelsPawned$State;") ∈ lw_all := lw_g (lw_at lw_m1 136 rfl) rfl
theorem q272 : (Jvm.Cond.soleField "QuarrelsPawned" "image") ∈ lw_all := lw_g (lw_at lw_m1 137 rfl) rfl
theorem q273 : (Jvm.Cond.laysFinal "QuarrelsPawned" "QuarrelsPawned" "tape" "[B") ∈ lw_all := lw_g (lw_at lw_m1 138 rfl) rfl
theorem q274 : (Jvm.Cond.soleField "QuarrelsPawned" "tape") ∈ lw_all := lw_g (lw_at lw_m1 139 rfl) rfl
theorem q275 : (Jvm.Cond.lays "QuarrelsPawned" "QuarrelsPawned" "taped" "I") ∈ lw_all := lw_g (lw_at lw_m1 140 rfl) rfl
theorem q276 : (Jvm.Cond.soleField "QuarrelsPawned" "taped") ∈ lw_all := lw_g (lw_at lw_m1 141 rfl) rfl
theorem q277 : (Jvm.Cond.lays "QuarrelsPawned" "QuarrelsPawned" "fault" "I") ∈ lw_all := lw_g (lw_at lw_m1 142 rfl) rfl
theorem q278 : (Jvm.Cond.soleField "QuarrelsPawned" "fault") ∈ lw_all := lw_g (lw_at lw_m1 143 rfl) rfl
theorem q279 : (Jvm.Cond.lays "QuarrelsPawned" "QuarrelsPawned" "faultAt" "I") ∈ lw_all := lw_g (lw_at lw_m1 144 rfl) rfl
theorem q280 : (Jvm.Cond.soleField "QuarrelsPawned" "faultAt") ∈ lw_all := lw_g (lw_at lw_m1 145 rfl) rfl
theorem q281 : (Jvm.Cond.laysFinal "QuarrelsPawned" "QuarrelsPawned" "names" "[I") ∈ lw_all := lw_g (lw_at lw_m1 146 rfl) rfl
theorem q282 : (Jvm.Cond.soleField "QuarrelsPawned" "names") ∈ lw_all := lw_g (lw_at lw_m1 147 rfl) rfl
theorem q283 : (Jvm.Cond.laysFinal "QuarrelsPawned" "QuarrelsPawned" "tried" "[I") ∈ lw_all := lw_g (lw_at lw_m1 148 rfl) rfl
theorem q284 : (Jvm.Cond.soleField "QuarrelsPawned" "tried") ∈ lw_all := lw_g (lw_at lw_m1 149 rfl) rfl
theorem q285 : (Jvm.Cond.laysFinal "QuarrelsPawned" "QuarrelsPawned" "far" "[I") ∈ lw_all := lw_g (lw_at lw_m1 150 rfl) rfl
theorem q286 : (Jvm.Cond.soleField "QuarrelsPawned" "far") ∈ lw_all := lw_g (lw_at lw_m1 151 rfl) rfl
theorem q287 : (Jvm.Cond.laysFinal "QuarrelsPawned" "QuarrelsPawned" "order" "[I") ∈ lw_all := lw_g (lw_at lw_m1 152 rfl) rfl
theorem q288 : (Jvm.Cond.soleField "QuarrelsPawned" "order") ∈ lw_all := lw_g (lw_at lw_m1 153 rfl) rfl
theorem q289 : (Jvm.Cond.laysFinal "QuarrelsPawned" "QuarrelsPawned" "bestOrder" "[I") ∈ lw_all := lw_g (lw_at lw_m1 154 rfl) rfl
theorem q290 : (Jvm.Cond.soleField "QuarrelsPawned" "bestOrder") ∈ lw_all := lw_g (lw_at lw_m1 155 rfl) rfl
theorem q291 : (Jvm.Cond.lays "QuarrelsPawned" "QuarrelsPawned" "bestDay" "I") ∈ lw_all := lw_g (lw_at lw_m1 156 rfl) rfl
theorem q292 : (Jvm.Cond.soleField "QuarrelsPawned" "bestDay") ∈ lw_all := lw_g (lw_at lw_m1 157 rfl) rfl
theorem q293 : (Jvm.Cond.lays "QuarrelsPawned" "QuarrelsPawned" "bestPaid" "I") ∈ lw_all := lw_g (lw_at lw_m1 158 rfl) rfl
theorem q294 : (Jvm.Cond.soleField "QuarrelsPawned" "bestPaid") ∈ lw_all := lw_g (lw_at lw_m1 159 rfl) rfl
theorem q295 : (Jvm.Cond.laysFinal "QuarrelsPawned" "QuarrelsPawned" "hangs" "[I") ∈ lw_all := lw_g (lw_at lw_m1 160 rfl) rfl
theorem q296 : (Jvm.Cond.soleField "QuarrelsPawned" "hangs") ∈ lw_all := lw_g (lw_at lw_m1 161 rfl) rfl
theorem q297 : (Jvm.Cond.laysFinal "QuarrelsPawned" "QuarrelsPawned" "lowestHung" "[I") ∈ lw_all := lw_g (lw_at lw_m1 162 rfl) rfl
theorem q298 : (Jvm.Cond.soleField "QuarrelsPawned" "lowestHung") ∈ lw_all := lw_g (lw_at lw_m1 163 rfl) rfl
theorem q299 : (Jvm.Cond.laysFinal "QuarrelsPawned" "QuarrelsPawned" "hung" "[[I") ∈ lw_all := lw_g (lw_at lw_m1 164 rfl) rfl
theorem q300 : (Jvm.Cond.soleField "QuarrelsPawned" "hung") ∈ lw_all := lw_g (lw_at lw_m1 165 rfl) rfl
theorem q301 : (Jvm.Cond.lays "QuarrelsPawned" "QuarrelsPawned" "hungWays" "I") ∈ lw_all := lw_g (lw_at lw_m1 166 rfl) rfl
theorem q302 : (Jvm.Cond.soleField "QuarrelsPawned" "hungWays") ∈ lw_all := lw_g (lw_at lw_m1 167 rfl) rfl
theorem q303 : (Jvm.Cond.superclass "QuarrelsPawned" "java/lang/Object") ∈ lw_all := lw_g (lw_at lw_m1 168 rfl) rfl
theorem q306 : (Jvm.Cond.instanceMethod ({ cls := "QuarrelsPawned", name := "quarrel", desc := "(IIII)I" } : Jvm.MethodName)) ∈ lw_all := lw_g (lw_at lw_m1 171 rfl) rfl
theorem q307 : (Jvm.Cond.selects "QuarrelsPawned" ({ cls := "QuarrelsPawned", name := "quarrel", desc := "(IIII)I" } : Jvm.MethodName) ({ cls := "QuarrelsPawned", name := "quarrel", desc := "(IIII)I" } : Jvm.MethodName)) ∈ lw_all := lw_g (lw_at lw_m1 172 rfl) rfl
theorem q308 : (Jvm.Cond.code ({ cls := "QuarrelsPawned", name := "quarrel", desc := "(IIII)I" } : Jvm.MethodName) prog_1_method_10_code (6 : Nat) (Option.some Jvm.ClassFile.FieldType.int)) ∈ lw_all := lw_g (lw_at lw_m1 173 rfl) rfl
theorem q309 : (Jvm.Cond.methodLink "QuarrelsPawned" (73 : Nat) ({ cls := "QuarrelsPawned", name := "quarrels", desc := "()I" } : Jvm.MethodName)) ∈ lw_all := lw_g (lw_at lw_m1 174 rfl) rfl
theorem q310 : (Jvm.Cond.privateMethod ({ cls := "QuarrelsPawned", name := "quarrels", desc := "()I" } : Jvm.MethodName)) ∈ lw_tbl := lw_at lw_m1 175 rfl
theorem q311 : (Jvm.Cond.instanceMethod ({ cls := "QuarrelsPawned", name := "quarrels", desc := "()I" } : Jvm.MethodName)) ∈ lw_all := lw_g (lw_at lw_m1 176 rfl) rfl
theorem q312 : (Jvm.Cond.code ({ cls := "QuarrelsPawned", name := "quarrels", desc := "()I" } : Jvm.MethodName) prog_1_method_5_code (1 : Nat) (Option.some Jvm.ClassFile.FieldType.int)) ∈ lw_all := lw_g (lw_at lw_m1 177 rfl) rfl
theorem q313 : (Jvm.Cond.methodLink "QuarrelsPawned" (91 : Nat) ({ cls := "QuarrelsPawned", name := "isPair", desc := "(II)Z" } : Jvm.MethodName)) ∈ lw_all := lw_g (lw_at lw_m1 178 rfl) rfl
theorem q314 : (Jvm.Cond.static ({ cls := "QuarrelsPawned", name := "isPair", desc := "(II)Z" } : Jvm.MethodName)) ∈ lw_all := lw_g (lw_at lw_m1 179 rfl) rfl
theorem q315 : (Jvm.Cond.code ({ cls := "QuarrelsPawned", name := "isPair", desc := "(II)Z" } : Jvm.MethodName) prog_1_method_8_code (2 : Nat) (Option.some Jvm.ClassFile.FieldType.boolean)) ∈ lw_all := lw_g (lw_at lw_m1 180 rfl) rfl
theorem q316 : (Jvm.Cond.methodLink "QuarrelsPawned" (81 : Nat) ({ cls := "QuarrelsPawned", name := "isPerson", desc := "(I)Z" } : Jvm.MethodName)) ∈ lw_all := lw_g (lw_at lw_m1 181 rfl) rfl
theorem q317 : (Jvm.Cond.static ({ cls := "QuarrelsPawned", name := "isPerson", desc := "(I)Z" } : Jvm.MethodName)) ∈ lw_all := lw_g (lw_at lw_m1 182 rfl) rfl
theorem q318 : (Jvm.Cond.code ({ cls := "QuarrelsPawned", name := "isPerson", desc := "(I)Z" } : Jvm.MethodName) prog_1_method_7_code (1 : Nat) (Option.some Jvm.ClassFile.FieldType.boolean)) ∈ lw_all := lw_g (lw_at lw_m1 183 rfl) rfl
theorem q319 : (Jvm.Cond.methodLink "QuarrelsPawned" (77 : Nat) ({ cls := "QuarrelsPawned", name := "in", desc := "(III)Z" } : Jvm.MethodName)) ∈ lw_all := lw_g (lw_at lw_m1 184 rfl) rfl
theorem q320 : (Jvm.Cond.static ({ cls := "QuarrelsPawned", name := "in", desc := "(III)Z" } : Jvm.MethodName)) ∈ lw_all := lw_g (lw_at lw_m1 185 rfl) rfl
theorem q321 : (Jvm.Cond.code ({ cls := "QuarrelsPawned", name := "in", desc := "(III)Z" } : Jvm.MethodName) prog_1_method_1_code (3 : Nat) (Option.some Jvm.ClassFile.FieldType.boolean)) ∈ lw_all := lw_g (lw_at lw_m1 186 rfl) rfl
theorem q322 : (Jvm.Cond.methodLink "QuarrelsPawned" (104 : Nat) ({ cls := "QuarrelsPawned$State", name := "tells", desc := "(II)V" } : Jvm.MethodName)) ∈ lw_all := lw_g (lw_at lw_m1 187 rfl) rfl
theorem q327 : (Jvm.Cond.instanceMethod ({ cls := "QuarrelsPawned", name := "feed", desc := "(IIIII)I" } : Jvm.MethodName)) ∈ lw_all := lw_g (lw_at lw_m1 192 rfl) rfl
theorem q328 : (Jvm.Cond.selects "QuarrelsPawned" ({ cls := "QuarrelsPawned", name := "feed", desc := "(IIIII)I" } : Jvm.MethodName) ({ cls := "QuarrelsPawned", name := "feed", desc := "(IIIII)I" } : Jvm.MethodName)) ∈ lw_all := lw_g (lw_at lw_m1 193 rfl) rfl
theorem q329 : (Jvm.Cond.code ({ cls := "QuarrelsPawned", name := "feed", desc := "(IIIII)I" } : Jvm.MethodName) prog_1_method_12_code (6 : Nat) (Option.some Jvm.ClassFile.FieldType.int)) ∈ lw_all := lw_g (lw_at lw_m1 194 rfl) rfl
theorem q330 : (Jvm.Cond.methodLink "QuarrelsPawned" (111 : Nat) ({ cls := "QuarrelsPawned", name := "put", desc := "(I)V" } : Jvm.MethodName)) ∈ lw_all := lw_g (lw_at lw_m1 195 rfl) rfl
theorem q331 : (Jvm.Cond.privateMethod ({ cls := "QuarrelsPawned", name := "put", desc := "(I)V" } : Jvm.MethodName)) ∈ lw_tbl := lw_at lw_m1 196 rfl
theorem q332 : (Jvm.Cond.instanceMethod ({ cls := "QuarrelsPawned", name := "put", desc := "(I)V" } : Jvm.MethodName)) ∈ lw_all := lw_g (lw_at lw_m1 197 rfl) rfl
theorem q333 : (Jvm.Cond.code ({ cls := "QuarrelsPawned", name := "put", desc := "(I)V" } : Jvm.MethodName) prog_1_method_11_code (3 : Nat) (Option.none : Option Jvm.ClassFile.FieldType)) ∈ lw_all := lw_g (lw_at lw_m1 198 rfl) rfl
theorem q335 : (Jvm.Cond.instanceMethod ({ cls := "QuarrelsPawned", name := "end", desc := "(I)I" } : Jvm.MethodName)) ∈ lw_all := lw_g (lw_at lw_m1 200 rfl) rfl
theorem q336 : (Jvm.Cond.selects "QuarrelsPawned" ({ cls := "QuarrelsPawned", name := "end", desc := "(I)I" } : Jvm.MethodName) ({ cls := "QuarrelsPawned", name := "end", desc := "(I)I" } : Jvm.MethodName)) ∈ lw_all := lw_g (lw_at lw_m1 201 rfl) rfl
theorem q337 : (Jvm.Cond.code ({ cls := "QuarrelsPawned", name := "end", desc := "(I)I" } : Jvm.MethodName) prog_1_method_13_code (2 : Nat) (Option.some Jvm.ClassFile.FieldType.int)) ∈ lw_all := lw_g (lw_at lw_m1 202 rfl) rfl
theorem q339 : (Jvm.Cond.instanceMethod ({ cls := "QuarrelsPawned", name := "text", desc := "()I" } : Jvm.MethodName)) ∈ lw_all := lw_g (lw_at lw_m1 204 rfl) rfl
theorem q340 : (Jvm.Cond.selects "QuarrelsPawned" ({ cls := "QuarrelsPawned", name := "text", desc := "()I" } : Jvm.MethodName) ({ cls := "QuarrelsPawned", name := "text", desc := "()I" } : Jvm.MethodName)) ∈ lw_all := lw_g (lw_at lw_m1 205 rfl) rfl
theorem q341 : (Jvm.Cond.codeWith ({ cls := "QuarrelsPawned", name := "text", desc := "()I" } : Jvm.MethodName) prog_1_method_14_code (5 : Nat) (Option.some Jvm.ClassFile.FieldType.int) [((30 : Nat), (62 : Nat), (70 : Nat), (128 : Nat)), ((30 : Nat), (62 : Nat), (96 : Nat), (0 : Nat)), ((70 : Nat), (89 : Nat), (96 : Nat), (0 : Nat)), ((96 : Nat), (98 : Nat), (96 : Nat), (0 : Nat))]) ∈ lw_all := lw_g (lw_at lw_m1 206 rfl) rfl
theorem q342 : (Jvm.Cond.classLink "QuarrelsPawned" (128 : Nat) "QuarrelsPawned$Wrong") ∈ lw_all := lw_g (lw_at lw_m1 207 rfl) rfl
theorem q343 : (Jvm.Cond.classLink "QuarrelsPawned" (119 : Nat) "QuarrelsPawned$Tokens") ∈ lw_all := lw_g (lw_at lw_m1 208 rfl) rfl
theorem q345 : (Jvm.Cond.methodLink "QuarrelsPawned" (121 : Nat) ({ cls := "QuarrelsPawned$Tokens", name := "<init>", desc := "([BI)V" } : Jvm.MethodName)) ∈ lw_all := lw_g (lw_at lw_m1 210 rfl) rfl
theorem q374 : (Jvm.Cond.methodLink "QuarrelsPawned" (124 : Nat) ({ cls := "QuarrelsPawned$Tokens", name := "read", desc := "()LQuarrelsPawned$Text;" } : Jvm.MethodName)) ∈ lw_all := lw_g (lw_at lw_m1 239 rfl) rfl
theorem q414 : (Jvm.Cond.fieldLinkNest "QuarrelsPawned" (151 : Nat) "QuarrelsPawned$Text" "law" "[LQuarrelsPawned$Sum;" "QuarrelsPawned") ∈ lw_tbl := lw_at lw_m2 39 rfl
theorem q418 : (Jvm.Cond.fieldLinkNest "QuarrelsPawned" (267 : Nat) "QuarrelsPawned$Text" "doings" "Ljava/util/ArrayList;" "QuarrelsPawned") ∈ lw_tbl := lw_at lw_m2 43 rfl
theorem q544 : (Jvm.Cond.fieldLinkNest "QuarrelsPawned" (130 : Nat) "QuarrelsPawned$Wrong" "fault" "I" "QuarrelsPawned") ∈ lw_tbl := lw_at lw_m2 169 rfl
theorem q546 : (Jvm.Cond.fieldLinkNest "QuarrelsPawned" (131 : Nat) "QuarrelsPawned$Wrong" "place" "I" "QuarrelsPawned") ∈ lw_tbl := lw_at lw_m2 171 rfl
theorem q674 : (Jvm.Cond.selects "QuarrelsPawned" ({ cls := "java/lang/Object", name := "getClass", desc := "()Ljava/lang/Class;" } : Jvm.MethodName) ({ cls := "java/lang/Object", name := "getClass", desc := "()Ljava/lang/Class;" } : Jvm.MethodName)) ∈ lw_all := lw_g (lw_at lw_m3 59 rfl) rfl
theorem q887 : (Jvm.Cond.instanceMethod ({ cls := "QuarrelsPawned", name := "fault", desc := "(I)I" } : Jvm.MethodName)) ∈ lw_all := lw_g (lw_at lw_m4 32 rfl) rfl
theorem q888 : (Jvm.Cond.selects "QuarrelsPawned" ({ cls := "QuarrelsPawned", name := "fault", desc := "(I)I" } : Jvm.MethodName) ({ cls := "QuarrelsPawned", name := "fault", desc := "(I)I" } : Jvm.MethodName)) ∈ lw_all := lw_g (lw_at lw_m4 33 rfl) rfl
theorem q889 : (Jvm.Cond.code ({ cls := "QuarrelsPawned", name := "fault", desc := "(I)I" } : Jvm.MethodName) prog_1_method_15_code (2 : Nat) (Option.some Jvm.ClassFile.FieldType.int)) ∈ lw_all := lw_g (lw_at lw_m4 34 rfl) rfl
theorem q891 : (Jvm.Cond.instanceMethod ({ cls := "QuarrelsPawned", name := "by", desc := "(I)Z" } : Jvm.MethodName)) ∈ lw_all := lw_g (lw_at lw_m4 36 rfl) rfl
theorem q892 : (Jvm.Cond.selects "QuarrelsPawned" ({ cls := "QuarrelsPawned", name := "by", desc := "(I)Z" } : Jvm.MethodName) ({ cls := "QuarrelsPawned", name := "by", desc := "(I)Z" } : Jvm.MethodName)) ∈ lw_all := lw_g (lw_at lw_m4 37 rfl) rfl
theorem q893 : (Jvm.Cond.code ({ cls := "QuarrelsPawned", name := "by", desc := "(I)Z" } : Jvm.MethodName) prog_1_method_17_code (2 : Nat) (Option.some Jvm.ClassFile.FieldType.boolean)) ∈ lw_all := lw_g (lw_at lw_m4 38 rfl) rfl
theorem q894 : (Jvm.Cond.methodLink "QuarrelsPawned" (134 : Nat) ({ cls := "QuarrelsPawned", name := "isText", desc := "(I)Z" } : Jvm.MethodName)) ∈ lw_all := lw_g (lw_at lw_m4 39 rfl) rfl
theorem q895 : (Jvm.Cond.privateMethod ({ cls := "QuarrelsPawned", name := "isText", desc := "(I)Z" } : Jvm.MethodName)) ∈ lw_tbl := lw_at lw_m4 40 rfl
theorem q896 : (Jvm.Cond.instanceMethod ({ cls := "QuarrelsPawned", name := "isText", desc := "(I)Z" } : Jvm.MethodName)) ∈ lw_all := lw_g (lw_at lw_m4 41 rfl) rfl
theorem q897 : (Jvm.Cond.code ({ cls := "QuarrelsPawned", name := "isText", desc := "(I)Z" } : Jvm.MethodName) prog_1_method_16_code (2 : Nat) (Option.some Jvm.ClassFile.FieldType.boolean)) ∈ lw_all := lw_g (lw_at lw_m4 42 rfl) rfl
theorem q899 : (Jvm.Cond.instanceMethod ({ cls := "QuarrelsPawned", name := "pawn", desc := "(I)Z" } : Jvm.MethodName)) ∈ lw_all := lw_g (lw_at lw_m4 44 rfl) rfl
theorem q900 : (Jvm.Cond.selects "QuarrelsPawned" ({ cls := "QuarrelsPawned", name := "pawn", desc := "(I)Z" } : Jvm.MethodName) ({ cls := "QuarrelsPawned", name := "pawn", desc := "(I)Z" } : Jvm.MethodName)) ∈ lw_all := lw_g (lw_at lw_m4 45 rfl) rfl
theorem q901 : (Jvm.Cond.code ({ cls := "QuarrelsPawned", name := "pawn", desc := "(I)Z" } : Jvm.MethodName) prog_1_method_31_code (2 : Nat) (Option.some Jvm.ClassFile.FieldType.boolean)) ∈ lw_all := lw_g (lw_at lw_m4 46 rfl) rfl
theorem q902 : (Jvm.Cond.methodLink "QuarrelsPawned" (202 : Nat) ({ cls := "QuarrelsPawned", name := "canPawn", desc := "(I)Z" } : Jvm.MethodName)) ∈ lw_all := lw_g (lw_at lw_m4 47 rfl) rfl
theorem q903 : (Jvm.Cond.privateMethod ({ cls := "QuarrelsPawned", name := "canPawn", desc := "(I)Z" } : Jvm.MethodName)) ∈ lw_tbl := lw_at lw_m4 48 rfl
theorem q904 : (Jvm.Cond.instanceMethod ({ cls := "QuarrelsPawned", name := "canPawn", desc := "(I)Z" } : Jvm.MethodName)) ∈ lw_all := lw_g (lw_at lw_m4 49 rfl) rfl
theorem q905 : (Jvm.Cond.code ({ cls := "QuarrelsPawned", name := "canPawn", desc := "(I)Z" } : Jvm.MethodName) prog_1_method_27_code (2 : Nat) (Option.some Jvm.ClassFile.FieldType.boolean)) ∈ lw_all := lw_g (lw_at lw_m4 50 rfl) rfl
theorem q906 : (Jvm.Cond.methodLink "QuarrelsPawned" (85 : Nat) ({ cls := "QuarrelsPawned", name := "isQuarrel", desc := "(I)Z" } : Jvm.MethodName)) ∈ lw_all := lw_g (lw_at lw_m4 51 rfl) rfl
theorem q907 : (Jvm.Cond.privateMethod ({ cls := "QuarrelsPawned", name := "isQuarrel", desc := "(I)Z" } : Jvm.MethodName)) ∈ lw_tbl := lw_at lw_m4 52 rfl
theorem q908 : (Jvm.Cond.instanceMethod ({ cls := "QuarrelsPawned", name := "isQuarrel", desc := "(I)Z" } : Jvm.MethodName)) ∈ lw_all := lw_g (lw_at lw_m4 53 rfl) rfl
theorem q909 : (Jvm.Cond.code ({ cls := "QuarrelsPawned", name := "isQuarrel", desc := "(I)Z" } : Jvm.MethodName) prog_1_method_6_code (2 : Nat) (Option.some Jvm.ClassFile.FieldType.boolean)) ∈ lw_all := lw_g (lw_at lw_m4 54 rfl) rfl
theorem q910 : (Jvm.Cond.methodLink "QuarrelsPawned" (205 : Nat) ({ cls := "QuarrelsPawned$State", name := "keeps", desc := "()V" } : Jvm.MethodName)) ∈ lw_all := lw_g (lw_at lw_m4 55 rfl) rfl
theorem q914 : (Jvm.Cond.methodLink "QuarrelsPawned" (208 : Nat) ({ cls := "QuarrelsPawned", name := "pawns", desc := "(I)V" } : Jvm.MethodName)) ∈ lw_all := lw_g (lw_at lw_m4 59 rfl) rfl
theorem q915 : (Jvm.Cond.privateMethod ({ cls := "QuarrelsPawned", name := "pawns", desc := "(I)V" } : Jvm.MethodName)) ∈ lw_tbl := lw_at lw_m4 60 rfl
theorem q916 : (Jvm.Cond.instanceMethod ({ cls := "QuarrelsPawned", name := "pawns", desc := "(I)V" } : Jvm.MethodName)) ∈ lw_all := lw_g (lw_at lw_m4 61 rfl) rfl
theorem q917 : (Jvm.Cond.code ({ cls := "QuarrelsPawned", name := "pawns", desc := "(I)V" } : Jvm.MethodName) prog_1_method_28_code (2 : Nat) (Option.none : Option Jvm.ClassFile.FieldType)) ∈ lw_all := lw_g (lw_at lw_m4 62 rfl) rfl
theorem q918 : (Jvm.Cond.methodLink "QuarrelsPawned" (188 : Nat) ({ cls := "java/lang/Math", name := "min", desc := "(II)I" } : Jvm.MethodName)) ∈ lw_all := lw_g (lw_at lw_m4 63 rfl) rfl
theorem q919 : (Jvm.Cond.methodLink "QuarrelsPawned" (191 : Nat) ({ cls := "QuarrelsPawned", name := "writes", desc := "([III)V" } : Jvm.MethodName)) ∈ lw_all := lw_g (lw_at lw_m4 64 rfl) rfl
theorem q920 : (Jvm.Cond.static ({ cls := "QuarrelsPawned", name := "writes", desc := "([III)V" } : Jvm.MethodName)) ∈ lw_all := lw_g (lw_at lw_m4 65 rfl) rfl
theorem q921 : (Jvm.Cond.code ({ cls := "QuarrelsPawned", name := "writes", desc := "([III)V" } : Jvm.MethodName) prog_1_method_26_code (4 : Nat) (Option.none : Option Jvm.ClassFile.FieldType)) ∈ lw_all := lw_g (lw_at lw_m4 66 rfl) rfl
theorem q922 : (Jvm.Cond.methodLink "QuarrelsPawned" (145 : Nat) ({ cls := "java/lang/System", name := "arraycopy", desc := "(Ljava/lang/Object;ILjava/lang/Object;II)V" } : Jvm.MethodName)) ∈ lw_all := lw_g (lw_at lw_m4 67 rfl) rfl
theorem q924 : (Jvm.Cond.instanceMethod ({ cls := "QuarrelsPawned", name := "redeem", desc := "(I)I" } : Jvm.MethodName)) ∈ lw_all := lw_g (lw_at lw_m4 69 rfl) rfl
theorem q925 : (Jvm.Cond.selects "QuarrelsPawned" ({ cls := "QuarrelsPawned", name := "redeem", desc := "(I)I" } : Jvm.MethodName) ({ cls := "QuarrelsPawned", name := "redeem", desc := "(I)I" } : Jvm.MethodName)) ∈ lw_all := lw_g (lw_at lw_m4 70 rfl) rfl
theorem q926 : (Jvm.Cond.code ({ cls := "QuarrelsPawned", name := "redeem", desc := "(I)I" } : Jvm.MethodName) prog_1_method_32_code (2 : Nat) (Option.some Jvm.ClassFile.FieldType.int)) ∈ lw_all := lw_g (lw_at lw_m4 71 rfl) rfl
theorem q927 : (Jvm.Cond.methodLink "QuarrelsPawned" (211 : Nat) ({ cls := "QuarrelsPawned", name := "canRedeem", desc := "(I)Z" } : Jvm.MethodName)) ∈ lw_all := lw_g (lw_at lw_m4 72 rfl) rfl
theorem q928 : (Jvm.Cond.privateMethod ({ cls := "QuarrelsPawned", name := "canRedeem", desc := "(I)Z" } : Jvm.MethodName)) ∈ lw_tbl := lw_at lw_m4 73 rfl
theorem q929 : (Jvm.Cond.instanceMethod ({ cls := "QuarrelsPawned", name := "canRedeem", desc := "(I)Z" } : Jvm.MethodName)) ∈ lw_all := lw_g (lw_at lw_m4 74 rfl) rfl
theorem q930 : (Jvm.Cond.code ({ cls := "QuarrelsPawned", name := "canRedeem", desc := "(I)Z" } : Jvm.MethodName) prog_1_method_29_code (2 : Nat) (Option.some Jvm.ClassFile.FieldType.boolean)) ∈ lw_all := lw_g (lw_at lw_m4 75 rfl) rfl
theorem q931 : (Jvm.Cond.methodLink "QuarrelsPawned" (195 : Nat) ({ cls := "QuarrelsPawned", name := "isPawned", desc := "(I)Z" } : Jvm.MethodName)) ∈ lw_all := lw_g (lw_at lw_m4 76 rfl) rfl
theorem q932 : (Jvm.Cond.privateMethod ({ cls := "QuarrelsPawned", name := "isPawned", desc := "(I)Z" } : Jvm.MethodName)) ∈ lw_tbl := lw_at lw_m4 77 rfl
theorem q933 : (Jvm.Cond.instanceMethod ({ cls := "QuarrelsPawned", name := "isPawned", desc := "(I)Z" } : Jvm.MethodName)) ∈ lw_all := lw_g (lw_at lw_m4 78 rfl) rfl
theorem q934 : (Jvm.Cond.code ({ cls := "QuarrelsPawned", name := "isPawned", desc := "(I)Z" } : Jvm.MethodName) prog_1_method_9_code (2 : Nat) (Option.some Jvm.ClassFile.FieldType.boolean)) ∈ lw_all := lw_g (lw_at lw_m4 79 rfl) rfl
theorem q935 : (Jvm.Cond.methodLink "QuarrelsPawned" (175 : Nat) ({ cls := "QuarrelsPawned", name := "rules", desc := "()LQuarrelsPawned$Text;" } : Jvm.MethodName)) ∈ lw_all := lw_g (lw_at lw_m4 80 rfl) rfl
theorem q936 : (Jvm.Cond.privateMethod ({ cls := "QuarrelsPawned", name := "rules", desc := "()LQuarrelsPawned$Text;" } : Jvm.MethodName)) ∈ lw_tbl := lw_at lw_m4 81 rfl
theorem q937 : (Jvm.Cond.instanceMethod ({ cls := "QuarrelsPawned", name := "rules", desc := "()LQuarrelsPawned$Text;" } : Jvm.MethodName)) ∈ lw_all := lw_g (lw_at lw_m4 82 rfl) rfl
theorem q938 : (Jvm.Cond.code ({ cls := "QuarrelsPawned", name := "rules", desc := "()LQuarrelsPawned$Text;" } : Jvm.MethodName) prog_1_method_18_code (1 : Nat) (Option.some (Jvm.ClassFile.FieldType.object "QuarrelsPawned$Text"))) ∈ lw_all := lw_g (lw_at lw_m4 83 rfl) rfl
theorem q939 : (Jvm.Cond.fieldLink "QuarrelsPawned" (137 : Nat) "QuarrelsPawned" "NOTHING" "LQuarrelsPawned$Text;") ∈ lw_all := lw_g (lw_at lw_m4 84 rfl) rfl
theorem q940 : (Jvm.Cond.laysStatic "QuarrelsPawned" "NOTHING" "LQuarrelsPawned$Text;") ∈ lw_tbl := lw_at lw_m4 85 rfl
theorem q941 : (Jvm.Cond.methodLink "QuarrelsPawned" (198 : Nat) ({ cls := "QuarrelsPawned", name := "duesBy", desc := "(LQuarrelsPawned$Text;[II)I" } : Jvm.MethodName)) ∈ lw_all := lw_g (lw_at lw_m4 86 rfl) rfl
theorem q942 : (Jvm.Cond.privateMethod ({ cls := "QuarrelsPawned", name := "duesBy", desc := "(LQuarrelsPawned$Text;[II)I" } : Jvm.MethodName)) ∈ lw_tbl := lw_at lw_m4 87 rfl
theorem q943 : (Jvm.Cond.instanceMethod ({ cls := "QuarrelsPawned", name := "duesBy", desc := "(LQuarrelsPawned$Text;[II)I" } : Jvm.MethodName)) ∈ lw_all := lw_g (lw_at lw_m4 88 rfl) rfl
theorem q944 : (Jvm.Cond.code ({ cls := "QuarrelsPawned", name := "duesBy", desc := "(LQuarrelsPawned$Text;[II)I" } : Jvm.MethodName) prog_1_method_22_code (4 : Nat) (Option.some Jvm.ClassFile.FieldType.int)) ∈ lw_all := lw_g (lw_at lw_m4 89 rfl) rfl
theorem q945 : (Jvm.Cond.methodLink "QuarrelsPawned" (167 : Nat) ({ cls := "QuarrelsPawned", name := "namesOf", desc := "([II)V" } : Jvm.MethodName)) ∈ lw_all := lw_g (lw_at lw_m4 90 rfl) rfl
theorem q946 : (Jvm.Cond.privateMethod ({ cls := "QuarrelsPawned", name := "namesOf", desc := "([II)V" } : Jvm.MethodName)) ∈ lw_tbl := lw_at lw_m4 91 rfl
theorem q947 : (Jvm.Cond.instanceMethod ({ cls := "QuarrelsPawned", name := "namesOf", desc := "([II)V" } : Jvm.MethodName)) ∈ lw_all := lw_g (lw_at lw_m4 92 rfl) rfl
theorem q948 : (Jvm.Cond.code ({ cls := "QuarrelsPawned", name := "namesOf", desc := "([II)V" } : Jvm.MethodName) prog_1_method_20_code (3 : Nat) (Option.none : Option Jvm.ClassFile.FieldType)) ∈ lw_all := lw_g (lw_at lw_m4 93 rfl) rfl
theorem q949 : (Jvm.Cond.methodLink "QuarrelsPawned" (141 : Nat) ({ cls := "QuarrelsPawned", name := "heldOf", desc := "([II)I" } : Jvm.MethodName)) ∈ lw_all := lw_g (lw_at lw_m4 94 rfl) rfl
theorem q950 : (Jvm.Cond.static ({ cls := "QuarrelsPawned", name := "heldOf", desc := "([II)I" } : Jvm.MethodName)) ∈ lw_all := lw_g (lw_at lw_m4 95 rfl) rfl
theorem q951 : (Jvm.Cond.code ({ cls := "QuarrelsPawned", name := "heldOf", desc := "([II)I" } : Jvm.MethodName) prog_1_method_19_code (2 : Nat) (Option.some Jvm.ClassFile.FieldType.int)) ∈ lw_all := lw_g (lw_at lw_m4 96 rfl) rfl
theorem q952 : (Jvm.Cond.methodLink "QuarrelsPawned" (171 : Nat) ({ cls := "QuarrelsPawned", name := "duesOfNames", desc := "(LQuarrelsPawned$Text;I)I" } : Jvm.MethodName)) ∈ lw_all := lw_g (lw_at lw_m4 97 rfl) rfl
theorem q953 : (Jvm.Cond.privateMethod ({ cls := "QuarrelsPawned", name := "duesOfNames", desc := "(LQuarrelsPawned$Text;I)I" } : Jvm.MethodName)) ∈ lw_tbl := lw_at lw_m4 98 rfl
theorem q954 : (Jvm.Cond.instanceMethod ({ cls := "QuarrelsPawned", name := "duesOfNames", desc := "(LQuarrelsPawned$Text;I)I" } : Jvm.MethodName)) ∈ lw_all := lw_g (lw_at lw_m4 99 rfl) rfl
theorem q955 : (Jvm.Cond.code ({ cls := "QuarrelsPawned", name := "duesOfNames", desc := "(LQuarrelsPawned$Text;I)I" } : Jvm.MethodName) prog_1_method_21_code (3 : Nat) (Option.some Jvm.ClassFile.FieldType.int)) ∈ lw_all := lw_g (lw_at lw_m4 100 rfl) rfl
theorem q956 : (Jvm.Cond.interfaceEntry "QuarrelsPawned" (157 : Nat)) ∈ lw_tbl := lw_at lw_m4 101 rfl
theorem q957 : (Jvm.Cond.methodLink "QuarrelsPawned" (157 : Nat) ({ cls := "QuarrelsPawned$Sum", name := "of", desc := "([I)J" } : Jvm.MethodName)) ∈ lw_all := lw_g (lw_at lw_m4 102 rfl) rfl
theorem q1063 : (Jvm.Cond.methodLink "QuarrelsPawned" (163 : Nat) ({ cls := "QuarrelsPawned", name := "held", desc := "(JII)I" } : Jvm.MethodName)) ∈ lw_all := lw_g (lw_at lw_m4 208 rfl) rfl
theorem q1064 : (Jvm.Cond.static ({ cls := "QuarrelsPawned", name := "held", desc := "(JII)I" } : Jvm.MethodName)) ∈ lw_all := lw_g (lw_at lw_m4 209 rfl) rfl
theorem q1065 : (Jvm.Cond.code ({ cls := "QuarrelsPawned", name := "held", desc := "(JII)I" } : Jvm.MethodName) prog_1_method_3_code (4 : Nat) (Option.some Jvm.ClassFile.FieldType.int)) ∈ lw_all := lw_g (lw_at lw_m4 210 rfl) rfl
theorem q1066 : (Jvm.Cond.methodLink "QuarrelsPawned" (3 : Nat) ({ cls := "java/lang/Math", name := "min", desc := "(JJ)J" } : Jvm.MethodName)) ∈ lw_all := lw_g (lw_at lw_m4 211 rfl) rfl
theorem q1067 : (Jvm.Cond.methodLink "QuarrelsPawned" (9 : Nat) ({ cls := "java/lang/Math", name := "max", desc := "(JJ)J" } : Jvm.MethodName)) ∈ lw_all := lw_g (lw_at lw_m4 212 rfl) rfl
theorem q1068 : (Jvm.Cond.methodLink "QuarrelsPawned" (214 : Nat) ({ cls := "QuarrelsPawned", name := "redeems", desc := "(I)I" } : Jvm.MethodName)) ∈ lw_all := lw_g (lw_at lw_m4 213 rfl) rfl
theorem q1069 : (Jvm.Cond.privateMethod ({ cls := "QuarrelsPawned", name := "redeems", desc := "(I)I" } : Jvm.MethodName)) ∈ lw_tbl := lw_at lw_m4 214 rfl
theorem q1070 : (Jvm.Cond.instanceMethod ({ cls := "QuarrelsPawned", name := "redeems", desc := "(I)I" } : Jvm.MethodName)) ∈ lw_all := lw_g (lw_at lw_m4 215 rfl) rfl
theorem q1071 : (Jvm.Cond.code ({ cls := "QuarrelsPawned", name := "redeems", desc := "(I)I" } : Jvm.MethodName) prog_1_method_30_code (3 : Nat) (Option.some Jvm.ClassFile.FieldType.int)) ∈ lw_all := lw_g (lw_at lw_m4 216 rfl) rfl
theorem q1073 : (Jvm.Cond.instanceMethod ({ cls := "QuarrelsPawned", name := "earn", desc := "(I)Z" } : Jvm.MethodName)) ∈ lw_all := lw_g (lw_at lw_m4 218 rfl) rfl
theorem q1074 : (Jvm.Cond.selects "QuarrelsPawned" ({ cls := "QuarrelsPawned", name := "earn", desc := "(I)Z" } : Jvm.MethodName) ({ cls := "QuarrelsPawned", name := "earn", desc := "(I)Z" } : Jvm.MethodName)) ∈ lw_all := lw_g (lw_at lw_m4 219 rfl) rfl
theorem q1075 : (Jvm.Cond.code ({ cls := "QuarrelsPawned", name := "earn", desc := "(I)Z" } : Jvm.MethodName) prog_1_method_34_code (2 : Nat) (Option.some Jvm.ClassFile.FieldType.boolean)) ∈ lw_all := lw_g (lw_at lw_m4 220 rfl) rfl
theorem q1076 : (Jvm.Cond.methodLink "QuarrelsPawned" (217 : Nat) ({ cls := "QuarrelsPawned", name := "canEarn", desc := "(I)Z" } : Jvm.MethodName)) ∈ lw_all := lw_g (lw_at lw_m4 221 rfl) rfl
theorem q1077 : (Jvm.Cond.privateMethod ({ cls := "QuarrelsPawned", name := "canEarn", desc := "(I)Z" } : Jvm.MethodName)) ∈ lw_tbl := lw_at lw_m4 222 rfl
theorem q1078 : (Jvm.Cond.instanceMethod ({ cls := "QuarrelsPawned", name := "canEarn", desc := "(I)Z" } : Jvm.MethodName)) ∈ lw_all := lw_g (lw_at lw_m4 223 rfl) rfl
theorem q1079 : (Jvm.Cond.code ({ cls := "QuarrelsPawned", name := "canEarn", desc := "(I)Z" } : Jvm.MethodName) prog_1_method_33_code (2 : Nat) (Option.some Jvm.ClassFile.FieldType.boolean)) ∈ lw_all := lw_g (lw_at lw_m4 224 rfl) rfl
theorem q1081 : (Jvm.Cond.instanceMethod ({ cls := "QuarrelsPawned", name := "day", desc := "(I)I" } : Jvm.MethodName)) ∈ lw_all := lw_g (lw_at lw_m4 226 rfl) rfl
theorem q1082 : (Jvm.Cond.selects "QuarrelsPawned" ({ cls := "QuarrelsPawned", name := "day", desc := "(I)I" } : Jvm.MethodName) ({ cls := "QuarrelsPawned", name := "day", desc := "(I)I" } : Jvm.MethodName)) ∈ lw_all := lw_g (lw_at lw_m4 227 rfl) rfl
theorem q1083 : (Jvm.Cond.code ({ cls := "QuarrelsPawned", name := "day", desc := "(I)I" } : Jvm.MethodName) prog_1_method_38_code (4 : Nat) (Option.some Jvm.ClassFile.FieldType.int)) ∈ lw_all := lw_g (lw_at lw_m4 228 rfl) rfl
theorem q1084 : (Jvm.Cond.methodLink "QuarrelsPawned" (231 : Nat) ({ cls := "QuarrelsPawned", name := "passes", desc := "([I)I" } : Jvm.MethodName)) ∈ lw_all := lw_g (lw_at lw_m4 229 rfl) rfl
theorem q1085 : (Jvm.Cond.privateMethod ({ cls := "QuarrelsPawned", name := "passes", desc := "([I)I" } : Jvm.MethodName)) ∈ lw_tbl := lw_at lw_m4 230 rfl
theorem q1086 : (Jvm.Cond.instanceMethod ({ cls := "QuarrelsPawned", name := "passes", desc := "([I)I" } : Jvm.MethodName)) ∈ lw_all := lw_g (lw_at lw_m4 231 rfl) rfl
theorem q1087 : (Jvm.Cond.code ({ cls := "QuarrelsPawned", name := "passes", desc := "([I)I" } : Jvm.MethodName) prog_1_method_37_code (4 : Nat) (Option.some Jvm.ClassFile.FieldType.int)) ∈ lw_all := lw_g (lw_at lw_m4 232 rfl) rfl
theorem q1088 : (Jvm.Cond.methodLink "QuarrelsPawned" (222 : Nat) ({ cls := "QuarrelsPawned", name := "drawn", desc := "([II)I" } : Jvm.MethodName)) ∈ lw_all := lw_g (lw_at lw_m4 233 rfl) rfl
theorem q1089 : (Jvm.Cond.static ({ cls := "QuarrelsPawned", name := "drawn", desc := "([II)I" } : Jvm.MethodName)) ∈ lw_all := lw_g (lw_at lw_m4 234 rfl) rfl
theorem q1090 : (Jvm.Cond.code ({ cls := "QuarrelsPawned", name := "drawn", desc := "([II)I" } : Jvm.MethodName) prog_1_method_35_code (3 : Nat) (Option.some Jvm.ClassFile.FieldType.int)) ∈ lw_all := lw_g (lw_at lw_m4 235 rfl) rfl
theorem q1091 : (Jvm.Cond.methodLink "QuarrelsPawned" (225 : Nat) ({ cls := "QuarrelsPawned", name := "warms", desc := "([II)V" } : Jvm.MethodName)) ∈ lw_all := lw_g (lw_at lw_m4 236 rfl) rfl
theorem q1092 : (Jvm.Cond.static ({ cls := "QuarrelsPawned", name := "warms", desc := "([II)V" } : Jvm.MethodName)) ∈ lw_all := lw_g (lw_at lw_m4 237 rfl) rfl
theorem q1093 : (Jvm.Cond.code ({ cls := "QuarrelsPawned", name := "warms", desc := "([II)V" } : Jvm.MethodName) prog_1_method_36_code (2 : Nat) (Option.none : Option Jvm.ClassFile.FieldType)) ∈ lw_all := lw_g (lw_at lw_m4 238 rfl) rfl
theorem q1094 : (Jvm.Cond.methodLink "QuarrelsPawned" (220 : Nat) ({ cls := "java/lang/Math", name := "max", desc := "(II)I" } : Jvm.MethodName)) ∈ lw_all := lw_g (lw_at lw_m4 239 rfl) rfl
theorem q1095 : (Jvm.Cond.methodLink "QuarrelsPawned" (228 : Nat) ({ cls := "QuarrelsPawned", name := "sellsOf", desc := "([II)I" } : Jvm.MethodName)) ∈ lw_all := lw_g (lw_at lw_m5 0 rfl) rfl
theorem q1096 : (Jvm.Cond.privateMethod ({ cls := "QuarrelsPawned", name := "sellsOf", desc := "([II)I" } : Jvm.MethodName)) ∈ lw_tbl := lw_at lw_m5 1 rfl
theorem q1097 : (Jvm.Cond.instanceMethod ({ cls := "QuarrelsPawned", name := "sellsOf", desc := "([II)I" } : Jvm.MethodName)) ∈ lw_all := lw_g (lw_at lw_m5 2 rfl) rfl
theorem q1098 : (Jvm.Cond.code ({ cls := "QuarrelsPawned", name := "sellsOf", desc := "([II)I" } : Jvm.MethodName) prog_1_method_24_code (3 : Nat) (Option.some Jvm.ClassFile.FieldType.int)) ∈ lw_all := lw_g (lw_at lw_m5 3 rfl) rfl
theorem q1099 : (Jvm.Cond.methodLink "QuarrelsPawned" (178 : Nat) ({ cls := "QuarrelsPawned", name := "pawnedIn", desc := "([I)I" } : Jvm.MethodName)) ∈ lw_all := lw_g (lw_at lw_m5 4 rfl) rfl
theorem q1100 : (Jvm.Cond.privateMethod ({ cls := "QuarrelsPawned", name := "pawnedIn", desc := "([I)I" } : Jvm.MethodName)) ∈ lw_tbl := lw_at lw_m5 5 rfl
theorem q1101 : (Jvm.Cond.instanceMethod ({ cls := "QuarrelsPawned", name := "pawnedIn", desc := "([I)I" } : Jvm.MethodName)) ∈ lw_all := lw_g (lw_at lw_m5 6 rfl) rfl
theorem q1102 : (Jvm.Cond.code ({ cls := "QuarrelsPawned", name := "pawnedIn", desc := "([I)I" } : Jvm.MethodName) prog_1_method_25_code (4 : Nat) (Option.some Jvm.ClassFile.FieldType.int)) ∈ lw_all := lw_g (lw_at lw_m5 7 rfl) rfl
theorem q1103 : (Jvm.Cond.methodLink "QuarrelsPawned" (182 : Nat) ({ cls := "java/lang/Integer", name := "bitCount", desc := "(I)I" } : Jvm.MethodName)) ∈ lw_all := lw_g (lw_at lw_m5 8 rfl) rfl
theorem q1110 : (Jvm.Cond.instanceMethod ({ cls := "QuarrelsPawned", name := "played", desc := "(I)I" } : Jvm.MethodName)) ∈ lw_all := lw_g (lw_at lw_m5 15 rfl) rfl
theorem q1111 : (Jvm.Cond.selects "QuarrelsPawned" ({ cls := "QuarrelsPawned", name := "played", desc := "(I)I" } : Jvm.MethodName) ({ cls := "QuarrelsPawned", name := "played", desc := "(I)I" } : Jvm.MethodName)) ∈ lw_all := lw_g (lw_at lw_m5 16 rfl) rfl
theorem q1112 : (Jvm.Cond.code ({ cls := "QuarrelsPawned", name := "played", desc := "(I)I" } : Jvm.MethodName) prog_1_method_41_code (4 : Nat) (Option.some Jvm.ClassFile.FieldType.int)) ∈ lw_all := lw_g (lw_at lw_m5 17 rfl) rfl
theorem q1113 : (Jvm.Cond.methodLink "QuarrelsPawned" (271 : Nat) ({ cls := "java/util/ArrayList", name := "size", desc := "()I" } : Jvm.MethodName)) ∈ lw_all := lw_g (lw_at lw_m5 18 rfl) rfl
theorem q1114 : (Jvm.Cond.methodLink "QuarrelsPawned" (276 : Nat) ({ cls := "java/util/ArrayList", name := "get", desc := "(I)Ljava/lang/Object;" } : Jvm.MethodName)) ∈ lw_all := lw_g (lw_at lw_m5 19 rfl) rfl
theorem q1115 : (Jvm.Cond.classLink "QuarrelsPawned" (238 : Nat) "QuarrelsPawned$Doing") ∈ lw_all := lw_g (lw_at lw_m5 20 rfl) rfl
theorem q1116 : (Jvm.Cond.methodLink "QuarrelsPawned" (280 : Nat) ({ cls := "QuarrelsPawned", name := "does", desc := "(LQuarrelsPawned$Doing;)Z" } : Jvm.MethodName)) ∈ lw_all := lw_g (lw_at lw_m5 21 rfl) rfl
theorem q1117 : (Jvm.Cond.privateMethod ({ cls := "QuarrelsPawned", name := "does", desc := "(LQuarrelsPawned$Doing;)Z" } : Jvm.MethodName)) ∈ lw_tbl := lw_at lw_m5 22 rfl
theorem q1118 : (Jvm.Cond.instanceMethod ({ cls := "QuarrelsPawned", name := "does", desc := "(LQuarrelsPawned$Doing;)Z" } : Jvm.MethodName)) ∈ lw_all := lw_g (lw_at lw_m5 23 rfl) rfl
theorem q1119 : (Jvm.Cond.code ({ cls := "QuarrelsPawned", name := "does", desc := "(LQuarrelsPawned$Doing;)Z" } : Jvm.MethodName) prog_1_method_40_code (2 : Nat) (Option.some Jvm.ClassFile.FieldType.boolean)) ∈ lw_all := lw_g (lw_at lw_m5 24 rfl) rfl
theorem q1120 : (Jvm.Cond.methodLink "QuarrelsPawned" (237 : Nat) ({ cls := "QuarrelsPawned$Doing", name := "sort", desc := "()I" } : Jvm.MethodName)) ∈ lw_all := lw_g (lw_at lw_m5 25 rfl) rfl
theorem q1124 : (Jvm.Cond.methodLink "QuarrelsPawned" (242 : Nat) ({ cls := "QuarrelsPawned$Doing", name := "a", desc := "()I" } : Jvm.MethodName)) ∈ lw_all := lw_g (lw_at lw_m5 29 rfl) rfl
theorem q1128 : (Jvm.Cond.methodLink "QuarrelsPawned" (245 : Nat) ({ cls := "QuarrelsPawned$Doing", name := "b", desc := "()I" } : Jvm.MethodName)) ∈ lw_all := lw_g (lw_at lw_m5 33 rfl) rfl
theorem q1132 : (Jvm.Cond.methodLink "QuarrelsPawned" (248 : Nat) ({ cls := "QuarrelsPawned$Doing", name := "c", desc := "()I" } : Jvm.MethodName)) ∈ lw_all := lw_g (lw_at lw_m5 37 rfl) rfl
theorem q1136 : (Jvm.Cond.methodLink "QuarrelsPawned" (251 : Nat) ({ cls := "QuarrelsPawned", name := "quarrel", desc := "(IIII)I" } : Jvm.MethodName)) ∈ lw_all := lw_g (lw_at lw_m5 41 rfl) rfl
theorem q1137 : (Jvm.Cond.methodLink "QuarrelsPawned" (255 : Nat) ({ cls := "QuarrelsPawned", name := "pawn", desc := "(I)Z" } : Jvm.MethodName)) ∈ lw_all := lw_g (lw_at lw_m5 42 rfl) rfl
theorem q1138 : (Jvm.Cond.methodLink "QuarrelsPawned" (258 : Nat) ({ cls := "QuarrelsPawned", name := "redeem", desc := "(I)I" } : Jvm.MethodName)) ∈ lw_all := lw_g (lw_at lw_m5 43 rfl) rfl
theorem q1139 : (Jvm.Cond.methodLink "QuarrelsPawned" (261 : Nat) ({ cls := "QuarrelsPawned", name := "earn", desc := "(I)Z" } : Jvm.MethodName)) ∈ lw_all := lw_g (lw_at lw_m5 44 rfl) rfl
theorem q1140 : (Jvm.Cond.methodLink "QuarrelsPawned" (264 : Nat) ({ cls := "QuarrelsPawned", name := "passesAll", desc := "(I)Z" } : Jvm.MethodName)) ∈ lw_all := lw_g (lw_at lw_m5 45 rfl) rfl
theorem q1141 : (Jvm.Cond.privateMethod ({ cls := "QuarrelsPawned", name := "passesAll", desc := "(I)Z" } : Jvm.MethodName)) ∈ lw_tbl := lw_at lw_m5 46 rfl
theorem q1142 : (Jvm.Cond.instanceMethod ({ cls := "QuarrelsPawned", name := "passesAll", desc := "(I)Z" } : Jvm.MethodName)) ∈ lw_all := lw_g (lw_at lw_m5 47 rfl) rfl
theorem q1143 : (Jvm.Cond.code ({ cls := "QuarrelsPawned", name := "passesAll", desc := "(I)Z" } : Jvm.MethodName) prog_1_method_39_code (3 : Nat) (Option.some Jvm.ClassFile.FieldType.boolean)) ∈ lw_all := lw_g (lw_at lw_m5 48 rfl) rfl
theorem q1144 : (Jvm.Cond.methodLink "QuarrelsPawned" (234 : Nat) ({ cls := "QuarrelsPawned", name := "day", desc := "(I)I" } : Jvm.MethodName)) ∈ lw_all := lw_g (lw_at lw_m5 49 rfl) rfl
theorem q1145 : (Jvm.Cond.methodLink "QuarrelsPawned" (284 : Nat) ({ cls := "QuarrelsPawned$Doing", name := "number", desc := "()I" } : Jvm.MethodName)) ∈ lw_all := lw_g (lw_at lw_m5 50 rfl) rfl
theorem q1150 : (Jvm.Cond.instanceMethod ({ cls := "QuarrelsPawned", name := "years", desc := "(II)I" } : Jvm.MethodName)) ∈ lw_all := lw_g (lw_at lw_m5 55 rfl) rfl
theorem q1151 : (Jvm.Cond.selects "QuarrelsPawned" ({ cls := "QuarrelsPawned", name := "years", desc := "(II)I" } : Jvm.MethodName) ({ cls := "QuarrelsPawned", name := "years", desc := "(II)I" } : Jvm.MethodName)) ∈ lw_all := lw_g (lw_at lw_m5 56 rfl) rfl
theorem q1152 : (Jvm.Cond.code ({ cls := "QuarrelsPawned", name := "years", desc := "(II)I" } : Jvm.MethodName) prog_1_method_43_code (7 : Nat) (Option.some Jvm.ClassFile.FieldType.int)) ∈ lw_all := lw_g (lw_at lw_m5 57 rfl) rfl
theorem q1153 : (Jvm.Cond.methodLink "QuarrelsPawned" (287 : Nat) ({ cls := "QuarrelsPawned", name := "befalls", desc := "(I)V" } : Jvm.MethodName)) ∈ lw_all := lw_g (lw_at lw_m5 58 rfl) rfl
theorem q1154 : (Jvm.Cond.privateMethod ({ cls := "QuarrelsPawned", name := "befalls", desc := "(I)V" } : Jvm.MethodName)) ∈ lw_tbl := lw_at lw_m5 59 rfl
theorem q1155 : (Jvm.Cond.instanceMethod ({ cls := "QuarrelsPawned", name := "befalls", desc := "(I)V" } : Jvm.MethodName)) ∈ lw_all := lw_g (lw_at lw_m5 60 rfl) rfl
theorem q1156 : (Jvm.Cond.code ({ cls := "QuarrelsPawned", name := "befalls", desc := "(I)V" } : Jvm.MethodName) prog_1_method_42_code (4 : Nat) (Option.none : Option Jvm.ClassFile.FieldType)) ∈ lw_all := lw_g (lw_at lw_m5 61 rfl) rfl
theorem q1158 : (Jvm.Cond.instanceMethod ({ cls := "QuarrelsPawned", name := "undo", desc := "()I" } : Jvm.MethodName)) ∈ lw_all := lw_g (lw_at lw_m5 63 rfl) rfl
theorem q1159 : (Jvm.Cond.selects "QuarrelsPawned" ({ cls := "QuarrelsPawned", name := "undo", desc := "()I" } : Jvm.MethodName) ({ cls := "QuarrelsPawned", name := "undo", desc := "()I" } : Jvm.MethodName)) ∈ lw_all := lw_g (lw_at lw_m5 64 rfl) rfl
theorem q1160 : (Jvm.Cond.code ({ cls := "QuarrelsPawned", name := "undo", desc := "()I" } : Jvm.MethodName) prog_1_method_44_code (1 : Nat) (Option.some Jvm.ClassFile.FieldType.int)) ∈ lw_all := lw_g (lw_at lw_m5 65 rfl) rfl
theorem q1161 : (Jvm.Cond.methodLinkNest "QuarrelsPawned" (293 : Nat) ({ cls := "QuarrelsPawned$State", name := "copy", desc := "([I[I)V" } : Jvm.MethodName) "QuarrelsPawned") ∈ lw_tbl := lw_at lw_m5 66 rfl
theorem q1163 : (Jvm.Cond.instanceMethod ({ cls := "QuarrelsPawned", name := "of", desc := "(II)I" } : Jvm.MethodName)) ∈ lw_all := lw_g (lw_at lw_m5 68 rfl) rfl
theorem q1164 : (Jvm.Cond.selects "QuarrelsPawned" ({ cls := "QuarrelsPawned", name := "of", desc := "(II)I" } : Jvm.MethodName) ({ cls := "QuarrelsPawned", name := "of", desc := "(II)I" } : Jvm.MethodName)) ∈ lw_all := lw_g (lw_at lw_m5 69 rfl) rfl
theorem q1165 : (Jvm.Cond.code ({ cls := "QuarrelsPawned", name := "of", desc := "(II)I" } : Jvm.MethodName) prog_1_method_45_code (3 : Nat) (Option.some Jvm.ClassFile.FieldType.int)) ∈ lw_all := lw_g (lw_at lw_m5 70 rfl) rfl
theorem q1167 : (Jvm.Cond.instanceMethod ({ cls := "QuarrelsPawned", name := "is", desc := "(I)I" } : Jvm.MethodName)) ∈ lw_all := lw_g (lw_at lw_m5 72 rfl) rfl
theorem q1168 : (Jvm.Cond.selects "QuarrelsPawned" ({ cls := "QuarrelsPawned", name := "is", desc := "(I)I" } : Jvm.MethodName) ({ cls := "QuarrelsPawned", name := "is", desc := "(I)I" } : Jvm.MethodName)) ∈ lw_all := lw_g (lw_at lw_m5 73 rfl) rfl
theorem q1169 : (Jvm.Cond.code ({ cls := "QuarrelsPawned", name := "is", desc := "(I)I" } : Jvm.MethodName) prog_1_method_47_code (2 : Nat) (Option.some Jvm.ClassFile.FieldType.int)) ∈ lw_all := lw_g (lw_at lw_m5 74 rfl) rfl
theorem q1170 : (Jvm.Cond.methodLink "QuarrelsPawned" (300 : Nat) ({ cls := "QuarrelsPawned", name := "duesOfAll", desc := "(I)I" } : Jvm.MethodName)) ∈ lw_all := lw_g (lw_at lw_m5 75 rfl) rfl
theorem q1171 : (Jvm.Cond.privateMethod ({ cls := "QuarrelsPawned", name := "duesOfAll", desc := "(I)I" } : Jvm.MethodName)) ∈ lw_tbl := lw_at lw_m5 76 rfl
theorem q1172 : (Jvm.Cond.instanceMethod ({ cls := "QuarrelsPawned", name := "duesOfAll", desc := "(I)I" } : Jvm.MethodName)) ∈ lw_all := lw_g (lw_at lw_m5 77 rfl) rfl
theorem q1173 : (Jvm.Cond.code ({ cls := "QuarrelsPawned", name := "duesOfAll", desc := "(I)I" } : Jvm.MethodName) prog_1_method_46_code (4 : Nat) (Option.some Jvm.ClassFile.FieldType.int)) ∈ lw_all := lw_g (lw_at lw_m5 78 rfl) rfl
theorem q1174 : (Jvm.Cond.methodLink "QuarrelsPawned" (297 : Nat) ({ cls := "QuarrelsPawned", name := "has", desc := "(II)Z" } : Jvm.MethodName)) ∈ lw_all := lw_g (lw_at lw_m5 79 rfl) rfl
theorem q1175 : (Jvm.Cond.static ({ cls := "QuarrelsPawned", name := "has", desc := "(II)Z" } : Jvm.MethodName)) ∈ lw_all := lw_g (lw_at lw_m5 80 rfl) rfl
theorem q1176 : (Jvm.Cond.code ({ cls := "QuarrelsPawned", name := "has", desc := "(II)Z" } : Jvm.MethodName) prog_1_method_2_code (2 : Nat) (Option.some Jvm.ClassFile.FieldType.boolean)) ∈ lw_all := lw_g (lw_at lw_m5 81 rfl) rfl
theorem q1178 : (Jvm.Cond.instanceMethod ({ cls := "QuarrelsPawned", name := "book", desc := "(II)I" } : Jvm.MethodName)) ∈ lw_all := lw_g (lw_at lw_m5 83 rfl) rfl
theorem q1179 : (Jvm.Cond.selects "QuarrelsPawned" ({ cls := "QuarrelsPawned", name := "book", desc := "(II)I" } : Jvm.MethodName) ({ cls := "QuarrelsPawned", name := "book", desc := "(II)I" } : Jvm.MethodName)) ∈ lw_all := lw_g (lw_at lw_m5 84 rfl) rfl
theorem q1180 : (Jvm.Cond.code ({ cls := "QuarrelsPawned", name := "book", desc := "(II)I" } : Jvm.MethodName) prog_1_method_48_code (3 : Nat) (Option.some Jvm.ClassFile.FieldType.int)) ∈ lw_all := lw_g (lw_at lw_m5 85 rfl) rfl
theorem q1182 : (Jvm.Cond.instanceMethod ({ cls := "QuarrelsPawned", name := "foretold", desc := "(III)I" } : Jvm.MethodName)) ∈ lw_all := lw_g (lw_at lw_m5 87 rfl) rfl
theorem q1183 : (Jvm.Cond.selects "QuarrelsPawned" ({ cls := "QuarrelsPawned", name := "foretold", desc := "(III)I" } : Jvm.MethodName) ({ cls := "QuarrelsPawned", name := "foretold", desc := "(III)I" } : Jvm.MethodName)) ∈ lw_all := lw_g (lw_at lw_m5 88 rfl) rfl
theorem q1184 : (Jvm.Cond.code ({ cls := "QuarrelsPawned", name := "foretold", desc := "(III)I" } : Jvm.MethodName) prog_1_method_49_code (6 : Nat) (Option.some Jvm.ClassFile.FieldType.int)) ∈ lw_all := lw_g (lw_at lw_m5 89 rfl) rfl
theorem q1186 : (Jvm.Cond.instanceMethod ({ cls := "QuarrelsPawned", name := "speak", desc := "(II)Z" } : Jvm.MethodName)) ∈ lw_all := lw_g (lw_at lw_m5 91 rfl) rfl
theorem q1187 : (Jvm.Cond.selects "QuarrelsPawned" ({ cls := "QuarrelsPawned", name := "speak", desc := "(II)Z" } : Jvm.MethodName) ({ cls := "QuarrelsPawned", name := "speak", desc := "(II)Z" } : Jvm.MethodName)) ∈ lw_all := lw_g (lw_at lw_m5 92 rfl) rfl
theorem q1188 : (Jvm.Cond.code ({ cls := "QuarrelsPawned", name := "speak", desc := "(II)Z" } : Jvm.MethodName) prog_1_method_53_code (3 : Nat) (Option.some Jvm.ClassFile.FieldType.boolean)) ∈ lw_all := lw_g (lw_at lw_m5 93 rfl) rfl
theorem q1189 : (Jvm.Cond.methodLink "QuarrelsPawned" (306 : Nat) ({ cls := "QuarrelsPawned", name := "doSpeak", desc := "(II)Z" } : Jvm.MethodName)) ∈ lw_all := lw_g (lw_at lw_m5 94 rfl) rfl
theorem q1190 : (Jvm.Cond.privateMethod ({ cls := "QuarrelsPawned", name := "doSpeak", desc := "(II)Z" } : Jvm.MethodName)) ∈ lw_tbl := lw_at lw_m5 95 rfl
theorem q1191 : (Jvm.Cond.instanceMethod ({ cls := "QuarrelsPawned", name := "doSpeak", desc := "(II)Z" } : Jvm.MethodName)) ∈ lw_all := lw_g (lw_at lw_m5 96 rfl) rfl
theorem q1192 : (Jvm.Cond.code ({ cls := "QuarrelsPawned", name := "doSpeak", desc := "(II)Z" } : Jvm.MethodName) prog_1_method_52_code (4 : Nat) (Option.some Jvm.ClassFile.FieldType.boolean)) ∈ lw_all := lw_g (lw_at lw_m5 97 rfl) rfl
theorem q1193 : (Jvm.Cond.methodLink "QuarrelsPawned" (303 : Nat) ({ cls := "QuarrelsPawned", name := "isOf", desc := "(III)Z" } : Jvm.MethodName)) ∈ lw_all := lw_g (lw_at lw_m5 98 rfl) rfl
theorem q1194 : (Jvm.Cond.privateMethod ({ cls := "QuarrelsPawned", name := "isOf", desc := "(III)Z" } : Jvm.MethodName)) ∈ lw_tbl := lw_at lw_m5 99 rfl
theorem q1195 : (Jvm.Cond.instanceMethod ({ cls := "QuarrelsPawned", name := "isOf", desc := "(III)Z" } : Jvm.MethodName)) ∈ lw_all := lw_g (lw_at lw_m5 100 rfl) rfl
theorem q1196 : (Jvm.Cond.code ({ cls := "QuarrelsPawned", name := "isOf", desc := "(III)Z" } : Jvm.MethodName) prog_1_method_50_code (4 : Nat) (Option.some Jvm.ClassFile.FieldType.boolean)) ∈ lw_all := lw_g (lw_at lw_m5 101 rfl) rfl
theorem q1198 : (Jvm.Cond.instanceMethod ({ cls := "QuarrelsPawned", name := "cost", desc := "(II)I" } : Jvm.MethodName)) ∈ lw_all := lw_g (lw_at lw_m5 103 rfl) rfl
theorem q1199 : (Jvm.Cond.selects "QuarrelsPawned" ({ cls := "QuarrelsPawned", name := "cost", desc := "(II)I" } : Jvm.MethodName) ({ cls := "QuarrelsPawned", name := "cost", desc := "(II)I" } : Jvm.MethodName)) ∈ lw_all := lw_g (lw_at lw_m5 104 rfl) rfl
theorem q1200 : (Jvm.Cond.code ({ cls := "QuarrelsPawned", name := "cost", desc := "(II)I" } : Jvm.MethodName) prog_1_method_54_code (3 : Nat) (Option.some Jvm.ClassFile.FieldType.int)) ∈ lw_all := lw_g (lw_at lw_m5 105 rfl) rfl
theorem q1201 : (Jvm.Cond.methodLink "QuarrelsPawned" (309 : Nat) ({ cls := "QuarrelsPawned", name := "costOf", desc := "(II)I" } : Jvm.MethodName)) ∈ lw_all := lw_g (lw_at lw_m5 106 rfl) rfl
theorem q1202 : (Jvm.Cond.privateMethod ({ cls := "QuarrelsPawned", name := "costOf", desc := "(II)I" } : Jvm.MethodName)) ∈ lw_tbl := lw_at lw_m5 107 rfl
theorem q1203 : (Jvm.Cond.instanceMethod ({ cls := "QuarrelsPawned", name := "costOf", desc := "(II)I" } : Jvm.MethodName)) ∈ lw_all := lw_g (lw_at lw_m5 108 rfl) rfl
theorem q1204 : (Jvm.Cond.code ({ cls := "QuarrelsPawned", name := "costOf", desc := "(II)I" } : Jvm.MethodName) prog_1_method_51_code (5 : Nat) (Option.some Jvm.ClassFile.FieldType.int)) ∈ lw_all := lw_g (lw_at lw_m5 109 rfl) rfl
theorem q1206 : (Jvm.Cond.instanceMethod ({ cls := "QuarrelsPawned", name := "group", desc := "(I)I" } : Jvm.MethodName)) ∈ lw_all := lw_g (lw_at lw_m5 111 rfl) rfl
theorem q1207 : (Jvm.Cond.selects "QuarrelsPawned" ({ cls := "QuarrelsPawned", name := "group", desc := "(I)I" } : Jvm.MethodName) ({ cls := "QuarrelsPawned", name := "group", desc := "(I)I" } : Jvm.MethodName)) ∈ lw_all := lw_g (lw_at lw_m5 112 rfl) rfl
theorem q1208 : (Jvm.Cond.code ({ cls := "QuarrelsPawned", name := "group", desc := "(I)I" } : Jvm.MethodName) prog_1_method_56_code (2 : Nat) (Option.some Jvm.ClassFile.FieldType.int)) ∈ lw_all := lw_g (lw_at lw_m5 113 rfl) rfl
theorem q1209 : (Jvm.Cond.methodLink "QuarrelsPawned" (312 : Nat) ({ cls := "QuarrelsPawned", name := "groupOf", desc := "(II)I" } : Jvm.MethodName)) ∈ lw_all := lw_g (lw_at lw_m5 114 rfl) rfl
theorem q1210 : (Jvm.Cond.privateMethod ({ cls := "QuarrelsPawned", name := "groupOf", desc := "(II)I" } : Jvm.MethodName)) ∈ lw_tbl := lw_at lw_m5 115 rfl
theorem q1211 : (Jvm.Cond.instanceMethod ({ cls := "QuarrelsPawned", name := "groupOf", desc := "(II)I" } : Jvm.MethodName)) ∈ lw_all := lw_g (lw_at lw_m5 116 rfl) rfl
theorem q1212 : (Jvm.Cond.code ({ cls := "QuarrelsPawned", name := "groupOf", desc := "(II)I" } : Jvm.MethodName) prog_1_method_55_code (7 : Nat) (Option.some Jvm.ClassFile.FieldType.int)) ∈ lw_all := lw_g (lw_at lw_m5 117 rfl) rfl
theorem q1214 : (Jvm.Cond.instanceMethod ({ cls := "QuarrelsPawned", name := "groups", desc := "(Z)I" } : Jvm.MethodName)) ∈ lw_all := lw_g (lw_at lw_m5 119 rfl) rfl
theorem q1215 : (Jvm.Cond.selects "QuarrelsPawned" ({ cls := "QuarrelsPawned", name := "groups", desc := "(Z)I" } : Jvm.MethodName) ({ cls := "QuarrelsPawned", name := "groups", desc := "(Z)I" } : Jvm.MethodName)) ∈ lw_all := lw_g (lw_at lw_m5 120 rfl) rfl
theorem q1216 : (Jvm.Cond.code ({ cls := "QuarrelsPawned", name := "groups", desc := "(Z)I" } : Jvm.MethodName) prog_1_method_57_code (6 : Nat) (Option.some Jvm.ClassFile.FieldType.int)) ∈ lw_all := lw_g (lw_at lw_m5 121 rfl) rfl
theorem q1217 : (Jvm.Cond.methodLink "QuarrelsPawned" (315 : Nat) ({ cls := "java/lang/Integer", name := "numberOfTrailingZeros", desc := "(I)I" } : Jvm.MethodName)) ∈ lw_all := lw_g (lw_at lw_m5 122 rfl) rfl
theorem q1222 : (Jvm.Cond.instanceMethod ({ cls := "QuarrelsPawned", name := "word", desc := "(II)I" } : Jvm.MethodName)) ∈ lw_all := lw_g (lw_at lw_m5 127 rfl) rfl
theorem q1223 : (Jvm.Cond.selects "QuarrelsPawned" ({ cls := "QuarrelsPawned", name := "word", desc := "(II)I" } : Jvm.MethodName) ({ cls := "QuarrelsPawned", name := "word", desc := "(II)I" } : Jvm.MethodName)) ∈ lw_all := lw_g (lw_at lw_m5 128 rfl) rfl
theorem q1224 : (Jvm.Cond.code ({ cls := "QuarrelsPawned", name := "word", desc := "(II)I" } : Jvm.MethodName) prog_1_method_60_code (3 : Nat) (Option.some Jvm.ClassFile.FieldType.int)) ∈ lw_all := lw_g (lw_at lw_m5 129 rfl) rfl
theorem q1225 : (Jvm.Cond.methodLink "QuarrelsPawned" (327 : Nat) ({ cls := "QuarrelsPawned", name := "laysFar", desc := "(I)V" } : Jvm.MethodName)) ∈ lw_all := lw_g (lw_at lw_m5 130 rfl) rfl
theorem q1226 : (Jvm.Cond.privateMethod ({ cls := "QuarrelsPawned", name := "laysFar", desc := "(I)V" } : Jvm.MethodName)) ∈ lw_tbl := lw_at lw_m5 131 rfl
theorem q1227 : (Jvm.Cond.instanceMethod ({ cls := "QuarrelsPawned", name := "laysFar", desc := "(I)V" } : Jvm.MethodName)) ∈ lw_all := lw_g (lw_at lw_m5 132 rfl) rfl
theorem q1228 : (Jvm.Cond.code ({ cls := "QuarrelsPawned", name := "laysFar", desc := "(I)V" } : Jvm.MethodName) prog_1_method_59_code (5 : Nat) (Option.none : Option Jvm.ClassFile.FieldType)) ∈ lw_all := lw_g (lw_at lw_m5 133 rfl) rfl
theorem q1229 : (Jvm.Cond.constant "QuarrelsPawned" (318 : Nat) (9999999 : Int32)) ∈ lw_all := lw_g (lw_at lw_m5 134 rfl) rfl
theorem q1230 : (Jvm.Cond.methodLink "QuarrelsPawned" (319 : Nat) ({ cls := "java/util/Arrays", name := "fill", desc := "([II)V" } : Jvm.MethodName)) ∈ lw_all := lw_g (lw_at lw_m5 135 rfl) rfl
theorem q1231 : (Jvm.Cond.methodLink "QuarrelsPawned" (324 : Nat) ({ cls := "QuarrelsPawned", name := "isNearer", desc := "(II)Z" } : Jvm.MethodName)) ∈ lw_all := lw_g (lw_at lw_m5 136 rfl) rfl
theorem q1232 : (Jvm.Cond.privateMethod ({ cls := "QuarrelsPawned", name := "isNearer", desc := "(II)Z" } : Jvm.MethodName)) ∈ lw_tbl := lw_at lw_m5 137 rfl
theorem q1233 : (Jvm.Cond.instanceMethod ({ cls := "QuarrelsPawned", name := "isNearer", desc := "(II)Z" } : Jvm.MethodName)) ∈ lw_all := lw_g (lw_at lw_m5 138 rfl) rfl
theorem q1234 : (Jvm.Cond.code ({ cls := "QuarrelsPawned", name := "isNearer", desc := "(II)Z" } : Jvm.MethodName) prog_1_method_58_code (4 : Nat) (Option.some Jvm.ClassFile.FieldType.boolean)) ∈ lw_all := lw_g (lw_at lw_m5 139 rfl) rfl
theorem q1236 : (Jvm.Cond.instanceMethod ({ cls := "QuarrelsPawned", name := "way", desc := "(III)I" } : Jvm.MethodName)) ∈ lw_all := lw_g (lw_at lw_m5 141 rfl) rfl
theorem q1237 : (Jvm.Cond.selects "QuarrelsPawned" ({ cls := "QuarrelsPawned", name := "way", desc := "(III)I" } : Jvm.MethodName) ({ cls := "QuarrelsPawned", name := "way", desc := "(III)I" } : Jvm.MethodName)) ∈ lw_all := lw_g (lw_at lw_m5 142 rfl) rfl
theorem q1238 : (Jvm.Cond.code ({ cls := "QuarrelsPawned", name := "way", desc := "(III)I" } : Jvm.MethodName) prog_1_method_61_code (7 : Nat) (Option.some Jvm.ClassFile.FieldType.int)) ∈ lw_all := lw_g (lw_at lw_m5 143 rfl) rfl
theorem q1240 : (Jvm.Cond.instanceMethod ({ cls := "QuarrelsPawned", name := "all", desc := "()I" } : Jvm.MethodName)) ∈ lw_all := lw_g (lw_at lw_m5 145 rfl) rfl
theorem q1241 : (Jvm.Cond.selects "QuarrelsPawned" ({ cls := "QuarrelsPawned", name := "all", desc := "()I" } : Jvm.MethodName) ({ cls := "QuarrelsPawned", name := "all", desc := "()I" } : Jvm.MethodName)) ∈ lw_all := lw_g (lw_at lw_m5 146 rfl) rfl
theorem q1242 : (Jvm.Cond.code ({ cls := "QuarrelsPawned", name := "all", desc := "()I" } : Jvm.MethodName) prog_1_method_62_code (7 : Nat) (Option.some Jvm.ClassFile.FieldType.int)) ∈ lw_all := lw_g (lw_at lw_m5 147 rfl) rfl
theorem q1244 : (Jvm.Cond.instanceMethod ({ cls := "QuarrelsPawned", name := "cut", desc := "(II)I" } : Jvm.MethodName)) ∈ lw_all := lw_g (lw_at lw_m5 149 rfl) rfl
theorem q1245 : (Jvm.Cond.selects "QuarrelsPawned" ({ cls := "QuarrelsPawned", name := "cut", desc := "(II)I" } : Jvm.MethodName) ({ cls := "QuarrelsPawned", name := "cut", desc := "(II)I" } : Jvm.MethodName)) ∈ lw_all := lw_g (lw_at lw_m5 150 rfl) rfl
theorem q1246 : (Jvm.Cond.code ({ cls := "QuarrelsPawned", name := "cut", desc := "(II)I" } : Jvm.MethodName) prog_1_method_64_code (5 : Nat) (Option.some Jvm.ClassFile.FieldType.int)) ∈ lw_all := lw_g (lw_at lw_m5 151 rfl) rfl
theorem q1247 : (Jvm.Cond.methodLink "QuarrelsPawned" (330 : Nat) ({ cls := "QuarrelsPawned", name := "pairsOut", desc := "(I)I" } : Jvm.MethodName)) ∈ lw_all := lw_g (lw_at lw_m5 152 rfl) rfl
theorem q1248 : (Jvm.Cond.privateMethod ({ cls := "QuarrelsPawned", name := "pairsOut", desc := "(I)I" } : Jvm.MethodName)) ∈ lw_tbl := lw_at lw_m5 153 rfl
theorem q1249 : (Jvm.Cond.instanceMethod ({ cls := "QuarrelsPawned", name := "pairsOut", desc := "(I)I" } : Jvm.MethodName)) ∈ lw_all := lw_g (lw_at lw_m5 154 rfl) rfl
theorem q1250 : (Jvm.Cond.code ({ cls := "QuarrelsPawned", name := "pairsOut", desc := "(I)I" } : Jvm.MethodName) prog_1_method_63_code (5 : Nat) (Option.some Jvm.ClassFile.FieldType.int)) ∈ lw_all := lw_g (lw_at lw_m5 155 rfl) rfl
theorem q1252 : (Jvm.Cond.instanceMethod ({ cls := "QuarrelsPawned", name := "gossips", desc := "()I" } : Jvm.MethodName)) ∈ lw_all := lw_g (lw_at lw_m5 157 rfl) rfl
theorem q1253 : (Jvm.Cond.selects "QuarrelsPawned" ({ cls := "QuarrelsPawned", name := "gossips", desc := "()I" } : Jvm.MethodName) ({ cls := "QuarrelsPawned", name := "gossips", desc := "()I" } : Jvm.MethodName)) ∈ lw_all := lw_g (lw_at lw_m5 158 rfl) rfl
theorem q1254 : (Jvm.Cond.code ({ cls := "QuarrelsPawned", name := "gossips", desc := "()I" } : Jvm.MethodName) prog_1_method_66_code (3 : Nat) (Option.some Jvm.ClassFile.FieldType.int)) ∈ lw_all := lw_g (lw_at lw_m5 159 rfl) rfl
theorem q1255 : (Jvm.Cond.methodLink "QuarrelsPawned" (333 : Nat) ({ cls := "QuarrelsPawned", name := "isGossip", desc := "(I)Z" } : Jvm.MethodName)) ∈ lw_all := lw_g (lw_at lw_m5 160 rfl) rfl
theorem q1256 : (Jvm.Cond.privateMethod ({ cls := "QuarrelsPawned", name := "isGossip", desc := "(I)Z" } : Jvm.MethodName)) ∈ lw_tbl := lw_at lw_m5 161 rfl
theorem q1257 : (Jvm.Cond.instanceMethod ({ cls := "QuarrelsPawned", name := "isGossip", desc := "(I)Z" } : Jvm.MethodName)) ∈ lw_all := lw_g (lw_at lw_m5 162 rfl) rfl
theorem q1258 : (Jvm.Cond.code ({ cls := "QuarrelsPawned", name := "isGossip", desc := "(I)Z" } : Jvm.MethodName) prog_1_method_65_code (3 : Nat) (Option.some Jvm.ClassFile.FieldType.boolean)) ∈ lw_all := lw_g (lw_at lw_m5 163 rfl) rfl
theorem q1260 : (Jvm.Cond.instanceMethod ({ cls := "QuarrelsPawned", name := "cool", desc := "(I)I" } : Jvm.MethodName)) ∈ lw_all := lw_g (lw_at lw_m5 165 rfl) rfl
theorem q1261 : (Jvm.Cond.selects "QuarrelsPawned" ({ cls := "QuarrelsPawned", name := "cool", desc := "(I)I" } : Jvm.MethodName) ({ cls := "QuarrelsPawned", name := "cool", desc := "(I)I" } : Jvm.MethodName)) ∈ lw_all := lw_g (lw_at lw_m5 166 rfl) rfl
theorem q1262 : (Jvm.Cond.code ({ cls := "QuarrelsPawned", name := "cool", desc := "(I)I" } : Jvm.MethodName) prog_1_method_69_code (5 : Nat) (Option.some Jvm.ClassFile.FieldType.int)) ∈ lw_all := lw_g (lw_at lw_m5 167 rfl) rfl
theorem q1263 : (Jvm.Cond.methodLink "QuarrelsPawned" (339 : Nat) ({ cls := "QuarrelsPawned", name := "isCooler", desc := "(II)Z" } : Jvm.MethodName)) ∈ lw_all := lw_g (lw_at lw_m5 168 rfl) rfl
theorem q1264 : (Jvm.Cond.privateMethod ({ cls := "QuarrelsPawned", name := "isCooler", desc := "(II)Z" } : Jvm.MethodName)) ∈ lw_tbl := lw_at lw_m5 169 rfl
theorem q1265 : (Jvm.Cond.instanceMethod ({ cls := "QuarrelsPawned", name := "isCooler", desc := "(II)Z" } : Jvm.MethodName)) ∈ lw_all := lw_g (lw_at lw_m5 170 rfl) rfl
theorem q1266 : (Jvm.Cond.code ({ cls := "QuarrelsPawned", name := "isCooler", desc := "(II)Z" } : Jvm.MethodName) prog_1_method_68_code (3 : Nat) (Option.some Jvm.ClassFile.FieldType.boolean)) ∈ lw_all := lw_g (lw_at lw_m5 171 rfl) rfl
theorem q1267 : (Jvm.Cond.methodLink "QuarrelsPawned" (336 : Nat) ({ cls := "QuarrelsPawned", name := "heatOf", desc := "(I)I" } : Jvm.MethodName)) ∈ lw_all := lw_g (lw_at lw_m5 172 rfl) rfl
theorem q1268 : (Jvm.Cond.privateMethod ({ cls := "QuarrelsPawned", name := "heatOf", desc := "(I)I" } : Jvm.MethodName)) ∈ lw_tbl := lw_at lw_m5 173 rfl
theorem q1269 : (Jvm.Cond.instanceMethod ({ cls := "QuarrelsPawned", name := "heatOf", desc := "(I)I" } : Jvm.MethodName)) ∈ lw_all := lw_g (lw_at lw_m5 174 rfl) rfl
theorem q1270 : (Jvm.Cond.code ({ cls := "QuarrelsPawned", name := "heatOf", desc := "(I)I" } : Jvm.MethodName) prog_1_method_67_code (4 : Nat) (Option.some Jvm.ClassFile.FieldType.int)) ∈ lw_all := lw_g (lw_at lw_m5 175 rfl) rfl
theorem q1272 : (Jvm.Cond.instanceMethod ({ cls := "QuarrelsPawned", name := "earns", desc := "(I)Z" } : Jvm.MethodName)) ∈ lw_all := lw_g (lw_at lw_m5 177 rfl) rfl
theorem q1273 : (Jvm.Cond.selects "QuarrelsPawned" ({ cls := "QuarrelsPawned", name := "earns", desc := "(I)Z" } : Jvm.MethodName) ({ cls := "QuarrelsPawned", name := "earns", desc := "(I)Z" } : Jvm.MethodName)) ∈ lw_all := lw_g (lw_at lw_m5 178 rfl) rfl
theorem q1274 : (Jvm.Cond.code ({ cls := "QuarrelsPawned", name := "earns", desc := "(I)Z" } : Jvm.MethodName) prog_1_method_70_code (2 : Nat) (Option.some Jvm.ClassFile.FieldType.boolean)) ∈ lw_all := lw_g (lw_at lw_m5 179 rfl) rfl
theorem q1276 : (Jvm.Cond.instanceMethod ({ cls := "QuarrelsPawned", name := "plan", desc := "(II)I" } : Jvm.MethodName)) ∈ lw_all := lw_g (lw_at lw_m5 181 rfl) rfl
theorem q1277 : (Jvm.Cond.selects "QuarrelsPawned" ({ cls := "QuarrelsPawned", name := "plan", desc := "(II)I" } : Jvm.MethodName) ({ cls := "QuarrelsPawned", name := "plan", desc := "(II)I" } : Jvm.MethodName)) ∈ lw_all := lw_g (lw_at lw_m5 182 rfl) rfl
theorem q1278 : (Jvm.Cond.code ({ cls := "QuarrelsPawned", name := "plan", desc := "(II)I" } : Jvm.MethodName) prog_1_method_72_code (4 : Nat) (Option.some Jvm.ClassFile.FieldType.int)) ∈ lw_all := lw_g (lw_at lw_m5 183 rfl) rfl
theorem q1279 : (Jvm.Cond.methodLink "QuarrelsPawned" (352 : Nat) ({ cls := "QuarrelsPawned", name := "plansFrom", desc := "(IIIII)V" } : Jvm.MethodName)) ∈ lw_all := lw_g (lw_at lw_m5 184 rfl) rfl
theorem q1280 : (Jvm.Cond.privateMethod ({ cls := "QuarrelsPawned", name := "plansFrom", desc := "(IIIII)V" } : Jvm.MethodName)) ∈ lw_tbl := lw_at lw_m5 185 rfl
theorem q1281 : (Jvm.Cond.instanceMethod ({ cls := "QuarrelsPawned", name := "plansFrom", desc := "(IIIII)V" } : Jvm.MethodName)) ∈ lw_all := lw_g (lw_at lw_m5 186 rfl) rfl
theorem q1282 : (Jvm.Cond.code ({ cls := "QuarrelsPawned", name := "plansFrom", desc := "(IIIII)V" } : Jvm.MethodName) prog_1_method_71_code (10 : Nat) (Option.none : Option Jvm.ClassFile.FieldType)) ∈ lw_all := lw_g (lw_at lw_m5 187 rfl) rfl
theorem q1283 : (Jvm.Cond.methodLink "QuarrelsPawned" (348 : Nat) ({ cls := "QuarrelsPawned", name := "duesLater", desc := "(III)I" } : Jvm.MethodName)) ∈ lw_all := lw_g (lw_at lw_m5 188 rfl) rfl
theorem q1284 : (Jvm.Cond.privateMethod ({ cls := "QuarrelsPawned", name := "duesLater", desc := "(III)I" } : Jvm.MethodName)) ∈ lw_tbl := lw_at lw_m5 189 rfl
theorem q1285 : (Jvm.Cond.instanceMethod ({ cls := "QuarrelsPawned", name := "duesLater", desc := "(III)I" } : Jvm.MethodName)) ∈ lw_all := lw_g (lw_at lw_m5 190 rfl) rfl
theorem q1286 : (Jvm.Cond.code ({ cls := "QuarrelsPawned", name := "duesLater", desc := "(III)I" } : Jvm.MethodName) prog_1_method_23_code (4 : Nat) (Option.some Jvm.ClassFile.FieldType.int)) ∈ lw_all := lw_g (lw_at lw_m5 191 rfl) rfl
theorem q1288 : (Jvm.Cond.instanceMethod ({ cls := "QuarrelsPawned", name := "best", desc := "(IIZ)I" } : Jvm.MethodName)) ∈ lw_all := lw_g (lw_at lw_m5 193 rfl) rfl
theorem q1289 : (Jvm.Cond.selects "QuarrelsPawned" ({ cls := "QuarrelsPawned", name := "best", desc := "(IIZ)I" } : Jvm.MethodName) ({ cls := "QuarrelsPawned", name := "best", desc := "(IIZ)I" } : Jvm.MethodName)) ∈ lw_all := lw_g (lw_at lw_m5 194 rfl) rfl
theorem q1290 : (Jvm.Cond.code ({ cls := "QuarrelsPawned", name := "best", desc := "(IIZ)I" } : Jvm.MethodName) prog_1_method_73_code (6 : Nat) (Option.some Jvm.ClassFile.FieldType.int)) ∈ lw_all := lw_g (lw_at lw_m5 195 rfl) rfl
theorem q1292 : (Jvm.Cond.instanceMethod ({ cls := "QuarrelsPawned", name := "digit", desc := "(II)Z" } : Jvm.MethodName)) ∈ lw_all := lw_g (lw_at lw_m5 197 rfl) rfl
theorem q1293 : (Jvm.Cond.selects "QuarrelsPawned" ({ cls := "QuarrelsPawned", name := "digit", desc := "(II)Z" } : Jvm.MethodName) ({ cls := "QuarrelsPawned", name := "digit", desc := "(II)Z" } : Jvm.MethodName)) ∈ lw_all := lw_g (lw_at lw_m5 198 rfl) rfl
theorem q1294 : (Jvm.Cond.code ({ cls := "QuarrelsPawned", name := "digit", desc := "(II)Z" } : Jvm.MethodName) prog_1_method_74_code (3 : Nat) (Option.some Jvm.ClassFile.FieldType.boolean)) ∈ lw_all := lw_g (lw_at lw_m5 199 rfl) rfl
theorem q1296 : (Jvm.Cond.instanceMethod ({ cls := "QuarrelsPawned", name := "tickets", desc := "(I)I" } : Jvm.MethodName)) ∈ lw_all := lw_g (lw_at lw_m5 201 rfl) rfl
theorem q1297 : (Jvm.Cond.selects "QuarrelsPawned" ({ cls := "QuarrelsPawned", name := "tickets", desc := "(I)I" } : Jvm.MethodName) ({ cls := "QuarrelsPawned", name := "tickets", desc := "(I)I" } : Jvm.MethodName)) ∈ lw_all := lw_g (lw_at lw_m5 202 rfl) rfl
theorem q1298 : (Jvm.Cond.code ({ cls := "QuarrelsPawned", name := "tickets", desc := "(I)I" } : Jvm.MethodName) prog_1_method_76_code (4 : Nat) (Option.some Jvm.ClassFile.FieldType.int)) ∈ lw_all := lw_g (lw_at lw_m5 203 rfl) rfl
theorem q1299 : (Jvm.Cond.methodLink "QuarrelsPawned" (362 : Nat) ({ cls := "QuarrelsPawned", name := "isTicket", desc := "(I)Z" } : Jvm.MethodName)) ∈ lw_all := lw_g (lw_at lw_m5 204 rfl) rfl
theorem q1300 : (Jvm.Cond.privateMethod ({ cls := "QuarrelsPawned", name := "isTicket", desc := "(I)Z" } : Jvm.MethodName)) ∈ lw_tbl := lw_at lw_m5 205 rfl
theorem q1301 : (Jvm.Cond.instanceMethod ({ cls := "QuarrelsPawned", name := "isTicket", desc := "(I)Z" } : Jvm.MethodName)) ∈ lw_all := lw_g (lw_at lw_m5 206 rfl) rfl
theorem q1302 : (Jvm.Cond.code ({ cls := "QuarrelsPawned", name := "isTicket", desc := "(I)Z" } : Jvm.MethodName) prog_1_method_75_code (6 : Nat) (Option.some Jvm.ClassFile.FieldType.boolean)) ∈ lw_all := lw_g (lw_at lw_m5 207 rfl) rfl
theorem q1303 : (Jvm.Cond.fieldLink "QuarrelsPawned" (359 : Nat) "QuarrelsPawned" "CHECKS" "[I") ∈ lw_all := lw_g (lw_at lw_m5 208 rfl) rfl
theorem q1304 : (Jvm.Cond.laysStatic "QuarrelsPawned" "CHECKS" "[I") ∈ lw_tbl := lw_at lw_m5 209 rfl
theorem q1306 : (Jvm.Cond.instanceMethod ({ cls := "QuarrelsPawned", name := "hook", desc := "(I)I" } : Jvm.MethodName)) ∈ lw_all := lw_g (lw_at lw_m5 211 rfl) rfl
theorem q1307 : (Jvm.Cond.selects "QuarrelsPawned" ({ cls := "QuarrelsPawned", name := "hook", desc := "(I)I" } : Jvm.MethodName) ({ cls := "QuarrelsPawned", name := "hook", desc := "(I)I" } : Jvm.MethodName)) ∈ lw_all := lw_g (lw_at lw_m5 212 rfl) rfl
theorem q1308 : (Jvm.Cond.code ({ cls := "QuarrelsPawned", name := "hook", desc := "(I)I" } : Jvm.MethodName) prog_1_method_77_code (2 : Nat) (Option.some Jvm.ClassFile.FieldType.int)) ∈ lw_all := lw_g (lw_at lw_m5 213 rfl) rfl
theorem q1309 : (Jvm.Cond.methodLink "QuarrelsPawned" (365 : Nat) ({ cls := "QuarrelsPawned$State", name := "clears", desc := "(I)I" } : Jvm.MethodName)) ∈ lw_all := lw_g (lw_at lw_m5 214 rfl) rfl
theorem q1314 : (Jvm.Cond.instanceMethod ({ cls := "QuarrelsPawned", name := "hung", desc := "(II)I" } : Jvm.MethodName)) ∈ lw_all := lw_g (lw_at lw_m5 219 rfl) rfl
theorem q1315 : (Jvm.Cond.selects "QuarrelsPawned" ({ cls := "QuarrelsPawned", name := "hung", desc := "(II)I" } : Jvm.MethodName) ({ cls := "QuarrelsPawned", name := "hung", desc := "(II)I" } : Jvm.MethodName)) ∈ lw_all := lw_g (lw_at lw_m5 220 rfl) rfl
theorem q1316 : (Jvm.Cond.code ({ cls := "QuarrelsPawned", name := "hung", desc := "(II)I" } : Jvm.MethodName) prog_1_method_80_code (3 : Nat) (Option.some Jvm.ClassFile.FieldType.int)) ∈ lw_all := lw_g (lw_at lw_m5 221 rfl) rfl
theorem q1317 : (Jvm.Cond.methodLink "QuarrelsPawned" (381 : Nat) ({ cls := "QuarrelsPawned", name := "laysHung", desc := "(I)V" } : Jvm.MethodName)) ∈ lw_all := lw_g (lw_at lw_m5 222 rfl) rfl
theorem q1318 : (Jvm.Cond.privateMethod ({ cls := "QuarrelsPawned", name := "laysHung", desc := "(I)V" } : Jvm.MethodName)) ∈ lw_tbl := lw_at lw_m5 223 rfl
theorem q1319 : (Jvm.Cond.instanceMethod ({ cls := "QuarrelsPawned", name := "laysHung", desc := "(I)V" } : Jvm.MethodName)) ∈ lw_all := lw_g (lw_at lw_m5 224 rfl) rfl
theorem q1320 : (Jvm.Cond.code ({ cls := "QuarrelsPawned", name := "laysHung", desc := "(I)V" } : Jvm.MethodName) prog_1_method_79_code (3 : Nat) (Option.none : Option Jvm.ClassFile.FieldType)) ∈ lw_all := lw_g (lw_at lw_m5 225 rfl) rfl
theorem q1321 : (Jvm.Cond.methodLink "QuarrelsPawned" (377 : Nat) ({ cls := "QuarrelsPawned", name := "hangsFrom", desc := "(III)V" } : Jvm.MethodName)) ∈ lw_all := lw_g (lw_at lw_m5 226 rfl) rfl
theorem q1322 : (Jvm.Cond.privateMethod ({ cls := "QuarrelsPawned", name := "hangsFrom", desc := "(III)V" } : Jvm.MethodName)) ∈ lw_tbl := lw_at lw_m5 227 rfl
theorem q1323 : (Jvm.Cond.instanceMethod ({ cls := "QuarrelsPawned", name := "hangsFrom", desc := "(III)V" } : Jvm.MethodName)) ∈ lw_all := lw_g (lw_at lw_m5 228 rfl) rfl
theorem q1324 : (Jvm.Cond.code ({ cls := "QuarrelsPawned", name := "hangsFrom", desc := "(III)V" } : Jvm.MethodName) prog_1_method_78_code (5 : Nat) (Option.none : Option Jvm.ClassFile.FieldType)) ∈ lw_all := lw_g (lw_at lw_m5 229 rfl) rfl
theorem q1325 : (Jvm.Cond.methodLink "QuarrelsPawned" (374 : Nat) ({ cls := "java/lang/Math", name := "abs", desc := "(I)I" } : Jvm.MethodName)) ∈ lw_all := lw_g (lw_at lw_m5 230 rfl) rfl
theorem q1329 : (Jvm.Cond.instanceMethod ({ cls := "QuarrelsPawned", name := "look", desc := "(I)I" } : Jvm.MethodName)) ∈ lw_all := lw_g (lw_at lw_m5 234 rfl) rfl
theorem q1330 : (Jvm.Cond.selects "QuarrelsPawned" ({ cls := "QuarrelsPawned", name := "look", desc := "(I)I" } : Jvm.MethodName) ({ cls := "QuarrelsPawned", name := "look", desc := "(I)I" } : Jvm.MethodName)) ∈ lw_all := lw_g (lw_at lw_m5 235 rfl) rfl
theorem q1331 : (Jvm.Cond.code ({ cls := "QuarrelsPawned", name := "look", desc := "(I)I" } : Jvm.MethodName) prog_1_method_82_code (4 : Nat) (Option.some Jvm.ClassFile.FieldType.int)) ∈ lw_all := lw_g (lw_at lw_m5 236 rfl) rfl
theorem q1332 : (Jvm.Cond.methodLink "QuarrelsPawned" (384 : Nat) ({ cls := "QuarrelsPawned", name := "mostOn", desc := "(I)I" } : Jvm.MethodName)) ∈ lw_all := lw_g (lw_at lw_m5 237 rfl) rfl
theorem q1333 : (Jvm.Cond.privateMethod ({ cls := "QuarrelsPawned", name := "mostOn", desc := "(I)I" } : Jvm.MethodName)) ∈ lw_tbl := lw_at lw_m5 238 rfl
theorem q1334 : (Jvm.Cond.instanceMethod ({ cls := "QuarrelsPawned", name := "mostOn", desc := "(I)I" } : Jvm.MethodName)) ∈ lw_all := lw_g (lw_at lw_m5 239 rfl) rfl
theorem q1335 : (Jvm.Cond.code ({ cls := "QuarrelsPawned", name := "mostOn", desc := "(I)I" } : Jvm.MethodName) prog_1_method_81_code (4 : Nat) (Option.some Jvm.ClassFile.FieldType.int)) ∈ lw_all := lw_g (lw_at lw_m6 0 rfl) rfl
theorem q1337 : (Jvm.Cond.instanceMethod ({ cls := "QuarrelsPawned", name := "bid", desc := "(IZ)I" } : Jvm.MethodName)) ∈ lw_all := lw_g (lw_at lw_m6 2 rfl) rfl
theorem q1338 : (Jvm.Cond.selects "QuarrelsPawned" ({ cls := "QuarrelsPawned", name := "bid", desc := "(IZ)I" } : Jvm.MethodName) ({ cls := "QuarrelsPawned", name := "bid", desc := "(IZ)I" } : Jvm.MethodName)) ∈ lw_all := lw_g (lw_at lw_m6 3 rfl) rfl
theorem q1339 : (Jvm.Cond.code ({ cls := "QuarrelsPawned", name := "bid", desc := "(IZ)I" } : Jvm.MethodName) prog_1_method_83_code (3 : Nat) (Option.some Jvm.ClassFile.FieldType.int)) ∈ lw_all := lw_g (lw_at lw_m6 4 rfl) rfl
theorem q1340 : (Jvm.Cond.methodLink "QuarrelsPawned" (390 : Nat) ({ cls := "QuarrelsPawned$State", name := "adds", desc := "([[IIII)I" } : Jvm.MethodName)) ∈ lw_all := lw_g (lw_at lw_m6 5 rfl) rfl
theorem q1345 : (Jvm.Cond.instanceMethod ({ cls := "QuarrelsPawned", name := "market", desc := "(I)I" } : Jvm.MethodName)) ∈ lw_all := lw_g (lw_at lw_m6 10 rfl) rfl
theorem q1346 : (Jvm.Cond.selects "QuarrelsPawned" ({ cls := "QuarrelsPawned", name := "market", desc := "(I)I" } : Jvm.MethodName) ({ cls := "QuarrelsPawned", name := "market", desc := "(I)I" } : Jvm.MethodName)) ∈ lw_all := lw_g (lw_at lw_m6 11 rfl) rfl
theorem q1347 : (Jvm.Cond.code ({ cls := "QuarrelsPawned", name := "market", desc := "(I)I" } : Jvm.MethodName) prog_1_method_86_code (3 : Nat) (Option.some Jvm.ClassFile.FieldType.int)) ∈ lw_all := lw_g (lw_at lw_m6 12 rfl) rfl
theorem q1348 : (Jvm.Cond.methodLink "QuarrelsPawned" (398 : Nat) ({ cls := "QuarrelsPawned", name := "trades", desc := "()I" } : Jvm.MethodName)) ∈ lw_all := lw_g (lw_at lw_m6 13 rfl) rfl
theorem q1349 : (Jvm.Cond.privateMethod ({ cls := "QuarrelsPawned", name := "trades", desc := "()I" } : Jvm.MethodName)) ∈ lw_tbl := lw_at lw_m6 14 rfl
theorem q1350 : (Jvm.Cond.instanceMethod ({ cls := "QuarrelsPawned", name := "trades", desc := "()I" } : Jvm.MethodName)) ∈ lw_all := lw_g (lw_at lw_m6 15 rfl) rfl
theorem q1351 : (Jvm.Cond.code ({ cls := "QuarrelsPawned", name := "trades", desc := "()I" } : Jvm.MethodName) prog_1_method_85_code (2 : Nat) (Option.some Jvm.ClassFile.FieldType.int)) ∈ lw_all := lw_g (lw_at lw_m6 16 rfl) rfl
theorem q1352 : (Jvm.Cond.methodLink "QuarrelsPawned" (394 : Nat) ({ cls := "QuarrelsPawned", name := "priceOf", desc := "(IZ)I" } : Jvm.MethodName)) ∈ lw_all := lw_g (lw_at lw_m6 17 rfl) rfl
theorem q1353 : (Jvm.Cond.privateMethod ({ cls := "QuarrelsPawned", name := "priceOf", desc := "(IZ)I" } : Jvm.MethodName)) ∈ lw_tbl := lw_at lw_m6 18 rfl
theorem q1354 : (Jvm.Cond.instanceMethod ({ cls := "QuarrelsPawned", name := "priceOf", desc := "(IZ)I" } : Jvm.MethodName)) ∈ lw_all := lw_g (lw_at lw_m6 19 rfl) rfl
theorem q1355 : (Jvm.Cond.code ({ cls := "QuarrelsPawned", name := "priceOf", desc := "(IZ)I" } : Jvm.MethodName) prog_1_method_84_code (6 : Nat) (Option.some Jvm.ClassFile.FieldType.int)) ∈ lw_all := lw_g (lw_at lw_m6 20 rfl) rfl
theorem q1357 : (Jvm.Cond.instanceMethod ({ cls := "QuarrelsPawned", name := "gain", desc := "()I" } : Jvm.MethodName)) ∈ lw_all := lw_g (lw_at lw_m6 22 rfl) rfl
theorem q1358 : (Jvm.Cond.selects "QuarrelsPawned" ({ cls := "QuarrelsPawned", name := "gain", desc := "()I" } : Jvm.MethodName) ({ cls := "QuarrelsPawned", name := "gain", desc := "()I" } : Jvm.MethodName)) ∈ lw_all := lw_g (lw_at lw_m6 23 rfl) rfl
theorem q1359 : (Jvm.Cond.code ({ cls := "QuarrelsPawned", name := "gain", desc := "()I" } : Jvm.MethodName) prog_1_method_87_code (3 : Nat) (Option.some Jvm.ClassFile.FieldType.int)) ∈ lw_all := lw_g (lw_at lw_m6 24 rfl) rfl
theorem q1361 : (Jvm.Cond.instanceMethod ({ cls := "QuarrelsPawned", name := "said", desc := "(II)I" } : Jvm.MethodName)) ∈ lw_all := lw_g (lw_at lw_m6 26 rfl) rfl
theorem q1362 : (Jvm.Cond.selects "QuarrelsPawned" ({ cls := "QuarrelsPawned", name := "said", desc := "(II)I" } : Jvm.MethodName) ({ cls := "QuarrelsPawned", name := "said", desc := "(II)I" } : Jvm.MethodName)) ∈ lw_all := lw_g (lw_at lw_m6 27 rfl) rfl
theorem q1363 : (Jvm.Cond.code ({ cls := "QuarrelsPawned", name := "said", desc := "(II)I" } : Jvm.MethodName) prog_1_method_88_code (3 : Nat) (Option.some Jvm.ClassFile.FieldType.int)) ∈ lw_all := lw_g (lw_at lw_m6 28 rfl) rfl
theorem q1365 : (Jvm.Cond.instanceMethod ({ cls := "QuarrelsPawned", name := "whose", desc := "()I" } : Jvm.MethodName)) ∈ lw_all := lw_g (lw_at lw_m6 30 rfl) rfl
theorem q1366 : (Jvm.Cond.selects "QuarrelsPawned" ({ cls := "QuarrelsPawned", name := "whose", desc := "()I" } : Jvm.MethodName) ({ cls := "QuarrelsPawned", name := "whose", desc := "()I" } : Jvm.MethodName)) ∈ lw_all := lw_g (lw_at lw_m6 31 rfl) rfl
theorem q1367 : (Jvm.Cond.code ({ cls := "QuarrelsPawned", name := "whose", desc := "()I" } : Jvm.MethodName) prog_1_method_90_code (3 : Nat) (Option.some Jvm.ClassFile.FieldType.int)) ∈ lw_all := lw_g (lw_at lw_m6 32 rfl) rfl
theorem q1368 : (Jvm.Cond.methodLink "QuarrelsPawned" (404 : Nat) ({ cls := "QuarrelsPawned", name := "isLaw", desc := "(LQuarrelsPawned$Text;)Z" } : Jvm.MethodName)) ∈ lw_all := lw_g (lw_at lw_m6 33 rfl) rfl
theorem q1369 : (Jvm.Cond.privateMethod ({ cls := "QuarrelsPawned", name := "isLaw", desc := "(LQuarrelsPawned$Text;)Z" } : Jvm.MethodName)) ∈ lw_tbl := lw_at lw_m6 34 rfl
theorem q1370 : (Jvm.Cond.instanceMethod ({ cls := "QuarrelsPawned", name := "isLaw", desc := "(LQuarrelsPawned$Text;)Z" } : Jvm.MethodName)) ∈ lw_all := lw_g (lw_at lw_m6 35 rfl) rfl
theorem q1371 : (Jvm.Cond.code ({ cls := "QuarrelsPawned", name := "isLaw", desc := "(LQuarrelsPawned$Text;)Z" } : Jvm.MethodName) prog_1_method_89_code (3 : Nat) (Option.some Jvm.ClassFile.FieldType.boolean)) ∈ lw_all := lw_g (lw_at lw_m6 36 rfl) rfl
theorem q1373 : (Jvm.Cond.instanceMethod ({ cls := "QuarrelsPawned", name := "hottest", desc := "()I" } : Jvm.MethodName)) ∈ lw_all := lw_g (lw_at lw_m6 38 rfl) rfl
theorem q1374 : (Jvm.Cond.selects "QuarrelsPawned" ({ cls := "QuarrelsPawned", name := "hottest", desc := "()I" } : Jvm.MethodName) ({ cls := "QuarrelsPawned", name := "hottest", desc := "()I" } : Jvm.MethodName)) ∈ lw_all := lw_g (lw_at lw_m6 39 rfl) rfl
theorem q1375 : (Jvm.Cond.code ({ cls := "QuarrelsPawned", name := "hottest", desc := "()I" } : Jvm.MethodName) prog_1_method_91_code (3 : Nat) (Option.some Jvm.ClassFile.FieldType.int)) ∈ lw_all := lw_g (lw_at lw_m6 40 rfl) rfl
theorem q1377 : (Jvm.Cond.instanceMethod ({ cls := "QuarrelsPawned", name := "silent", desc := "()I" } : Jvm.MethodName)) ∈ lw_all := lw_g (lw_at lw_m6 42 rfl) rfl
theorem q1378 : (Jvm.Cond.selects "QuarrelsPawned" ({ cls := "QuarrelsPawned", name := "silent", desc := "()I" } : Jvm.MethodName) ({ cls := "QuarrelsPawned", name := "silent", desc := "()I" } : Jvm.MethodName)) ∈ lw_all := lw_g (lw_at lw_m6 43 rfl) rfl
theorem q1379 : (Jvm.Cond.code ({ cls := "QuarrelsPawned", name := "silent", desc := "()I" } : Jvm.MethodName) prog_1_method_92_code (3 : Nat) (Option.some Jvm.ClassFile.FieldType.int)) ∈ lw_all := lw_g (lw_at lw_m6 44 rfl) rfl
theorem q1381 : (Jvm.Cond.instanceMethod ({ cls := "QuarrelsPawned", name := "ledger", desc := "(I)I" } : Jvm.MethodName)) ∈ lw_all := lw_g (lw_at lw_m6 46 rfl) rfl
theorem q1382 : (Jvm.Cond.selects "QuarrelsPawned" ({ cls := "QuarrelsPawned", name := "ledger", desc := "(I)I" } : Jvm.MethodName) ({ cls := "QuarrelsPawned", name := "ledger", desc := "(I)I" } : Jvm.MethodName)) ∈ lw_all := lw_g (lw_at lw_m6 47 rfl) rfl
theorem q1383 : (Jvm.Cond.code ({ cls := "QuarrelsPawned", name := "ledger", desc := "(I)I" } : Jvm.MethodName) prog_1_method_93_code (4 : Nat) (Option.some Jvm.ClassFile.FieldType.int)) ∈ lw_all := lw_g (lw_at lw_m6 48 rfl) rfl
theorem q1385 : (Jvm.Cond.instanceMethod ({ cls := "QuarrelsPawned", name := "image", desc := "()I" } : Jvm.MethodName)) ∈ lw_all := lw_g (lw_at lw_m6 50 rfl) rfl
theorem q1386 : (Jvm.Cond.selects "QuarrelsPawned" ({ cls := "QuarrelsPawned", name := "image", desc := "()I" } : Jvm.MethodName) ({ cls := "QuarrelsPawned", name := "image", desc := "()I" } : Jvm.MethodName)) ∈ lw_all := lw_g (lw_at lw_m6 51 rfl) rfl
theorem q1387 : (Jvm.Cond.code ({ cls := "QuarrelsPawned", name := "image", desc := "()I" } : Jvm.MethodName) prog_1_method_94_code (1 : Nat) (Option.some Jvm.ClassFile.FieldType.int)) ∈ lw_all := lw_g (lw_at lw_m6 52 rfl) rfl
theorem q1389 : (Jvm.Cond.instanceMethod ({ cls := "QuarrelsPawned", name := "back", desc := "()I" } : Jvm.MethodName)) ∈ lw_all := lw_g (lw_at lw_m6 54 rfl) rfl
theorem q1390 : (Jvm.Cond.selects "QuarrelsPawned" ({ cls := "QuarrelsPawned", name := "back", desc := "()I" } : Jvm.MethodName) ({ cls := "QuarrelsPawned", name := "back", desc := "()I" } : Jvm.MethodName)) ∈ lw_all := lw_g (lw_at lw_m6 55 rfl) rfl
theorem q1391 : (Jvm.Cond.code ({ cls := "QuarrelsPawned", name := "back", desc := "()I" } : Jvm.MethodName) prog_1_method_95_code (1 : Nat) (Option.some Jvm.ClassFile.FieldType.int)) ∈ lw_all := lw_g (lw_at lw_m6 56 rfl) rfl
theorem q1393 : (Jvm.Cond.instanceMethod ({ cls := "QuarrelsPawned", name := "about", desc := "(I)I" } : Jvm.MethodName)) ∈ lw_all := lw_g (lw_at lw_m6 58 rfl) rfl
theorem q1394 : (Jvm.Cond.selects "QuarrelsPawned" ({ cls := "QuarrelsPawned", name := "about", desc := "(I)I" } : Jvm.MethodName) ({ cls := "QuarrelsPawned", name := "about", desc := "(I)I" } : Jvm.MethodName)) ∈ lw_all := lw_g (lw_at lw_m6 59 rfl) rfl
theorem q1395 : (Jvm.Cond.code ({ cls := "QuarrelsPawned", name := "about", desc := "(I)I" } : Jvm.MethodName) prog_1_method_96_code (2 : Nat) (Option.some Jvm.ClassFile.FieldType.int)) ∈ lw_all := lw_g (lw_at lw_m6 60 rfl) rfl
theorem q2101 : (Jvm.Cond.castable "QuarrelsPawned" "java/lang/Object") ∈ lw_tbl := lw_at lw_m9 46 rfl
theorem in_X0 : ∀ w ∈ wsX00, w ∈ lw_all := lw_in wsX00 [269, 271, 273, 275, 277, 279, 281, 283, 285, 287, 289, 291, 293, 295, 297, 299, 301] (by decide +kernel) (by decide +kernel)
