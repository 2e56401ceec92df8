/-! QuarrelsPawnedModel -/
set_option maxRecDepth 100000
def RX2 : String := "QuarrelsPawnedModel"
def TX2 : u_T := fun k => match k with
  | 0 => ("QuarrelsPawnedModel", "a", "[I", true)
  | 1 => ("QuarrelsPawnedModel", "image", "[I", true)
  | 2 => ("QuarrelsPawnedModel", "texts", "[I", true)
  | 3 => ("QuarrelsPawnedModel", "tape", "[I", true)
  | 4 => ("QuarrelsPawnedModel", "taped", "I", false)
  | 5 => ("QuarrelsPawnedModel", "fault", "I", false)
  | 6 => ("QuarrelsPawnedModel", "faultPlace", "I", false)
  | 7 => ("QuarrelsPawnedModel", "at", "I", false)
  | 8 => ("QuarrelsPawnedModel", "place", "I", false)
  | 9 => ("QuarrelsPawnedModel", "token", "I", false)
  | 10 => ("QuarrelsPawnedModel", "number", "I", false)
  | 11 => ("QuarrelsPawnedModel", "wordRead", "J", false)
  | 12 => ("QuarrelsPawnedModel", "text0", "I", false)
  | 13 => ("QuarrelsPawnedModel", "written", "I", false)
  | 14 => ("QuarrelsPawnedModel", "sort0", "I", false)
  | 15 => ("QuarrelsPawnedModel", "pile", "[I", true)
  | 16 => ("QuarrelsPawnedModel", "piled", "I", false)
  | 17 => ("QuarrelsPawnedModel", "opens", "I", false)
  | 18 => ("QuarrelsPawnedModel", "isWhole", "Z", false)
  | 19 => ("QuarrelsPawnedModel", "once", "I", false)
  | 20 => ("QuarrelsPawnedModel", "named", "[I", true)
  | 21 => ("QuarrelsPawnedModel", "values", "[J", true)
  | 22 => ("QuarrelsPawnedModel", "truth", "[Z", true)
  | 23 => ("QuarrelsPawnedModel", "isWritten", "Z", false)
  | 24 => ("QuarrelsPawnedModel", "sales", "I", false)
  | 25 => ("QuarrelsPawnedModel", "aside", "[I", true)
  | 26 => ("QuarrelsPawnedModel", "far", "[I", true)
  | 27 => ("QuarrelsPawnedModel", "many", "[I", true)
  | 28 => ("QuarrelsPawnedModel", "order", "[I", true)
  | 29 => ("QuarrelsPawnedModel", "bestOrder", "[I", true)
  | 30 => ("QuarrelsPawnedModel", "paidTogether", "I", false)
  | 31 => ("QuarrelsPawnedModel", "planned", "I", false)
  | 32 => ("QuarrelsPawnedModel", "plannedPaid", "I", false)
  | 33 => ("QuarrelsPawnedModel", "onHook", "[I", true)
  | 34 => ("QuarrelsPawnedModel", "lowestHung", "[I", true)
  | 35 => ("QuarrelsPawnedModel", "often", "[I", true)
  | 36 => ("QuarrelsPawnedModel", "hungWays", "I", false)
  | 37 => ("QuarrelsPawnedModel", "buyers", "[I", true)
  | 38 => ("QuarrelsPawnedModel", "sellers", "[I", true)
  | 39 => ("QuarrelsPawnedModel", "bought", "I", false)
  | _ => ("QuarrelsPawnedModel", "offered", "I", false)
def tyX2 : Nat → FieldType := fun k => match k with
  | 0 => .array .int
  | 1 => .array .int
  | 2 => .array .int
  | 3 => .array .int
  | 4 => .int
  | 5 => .int
  | 6 => .int
  | 7 => .int
  | 8 => .int
  | 9 => .int
  | 10 => .int
  | 11 => .long
  | 12 => .int
  | 13 => .int
  | 14 => .int
  | 15 => .array .int
  | 16 => .int
  | 17 => .int
  | 18 => .boolean
  | 19 => .int
  | 20 => .array .int
  | 21 => .array .long
  | 22 => .array .boolean
  | 23 => .boolean
  | 24 => .int
  | 25 => .array .int
  | 26 => .array .int
  | 27 => .array .int
  | 28 => .array .int
  | 29 => .array .int
  | 30 => .int
  | 31 => .int
  | 32 => .int
  | 33 => .array .int
  | 34 => .array .int
  | 35 => .array .int
  | 36 => .int
  | 37 => .array .int
  | 38 => .array .int
  | 39 => .int
  | _ => .int
abbrev wsX20 : List Cond := u_ws RX2 TX2 41
set_option maxRecDepth 100000 in
theorem nmX2 : ∀ a, a < 41 → ∀ b, b < 41 → a ≠ b → (TX2 a).2.1 ≠ (TX2 b).2.1 := by decide +kernel
set_option maxRecDepth 100000 in
theorem tyX2_ok : ∀ k, k < 41 → parseFieldDescriptor (TX2 k).2.2.1 = some (tyX2 k) := by decide +kernel
abbrev cX2_init : ByteArray := prog_20_method_1_code
def yX2_init : MethodName := ⟨RX2, "<init>", "()V"⟩
def dkwX2_init_9 : List UInt8 := [180, 0, 13, 184, 0, 77, 177]
abbrev dktX2_init_9 : List UInt8 := dkwX2_init_9 ++ []
def dkwX2_init_8 : List UInt8 := [162, 0, 19, 42, 180, 0, 7, 16, 110, 27, 96, 2, 79, 132, 1, 1, 167, 255, 238, 42, 180, 0, 7, 42]
abbrev dktX2_init_8 : List UInt8 := dkwX2_init_8 ++ dktX2_init_9
def dkwX2_init_7 : List UInt8 := [181, 0, 74, 42, 180, 0, 7, 16, 8, 17, 1, 117, 79, 42, 180, 0, 7, 5, 2, 79, 3, 60, 27, 7]
abbrev dktX2_init_7 : List UInt8 := dkwX2_init_7 ++ dktX2_init_8
def dkwX2_init_6 : List UInt8 := [181, 0, 65, 42, 16, 48, 188, 10, 181, 0, 68, 42, 16, 10, 188, 10, 181, 0, 71, 42, 16, 10, 188, 10]
abbrev dktX2_init_6 : List UInt8 := dkwX2_init_6 ++ dktX2_init_7
def dkwX2_init_5 : List UInt8 := [181, 0, 56, 42, 8, 188, 10, 181, 0, 59, 42, 16, 6, 188, 10, 181, 0, 62, 42, 16, 6, 188, 10]
abbrev dktX2_init_5 : List UInt8 := dkwX2_init_5 ++ dktX2_init_6
def dkwX2_init_4 : List UInt8 := [181, 0, 47, 42, 16, 6, 188, 10, 181, 0, 50, 42, 16, 6, 188, 10, 181, 0, 53, 42, 8, 188, 10]
abbrev dktX2_init_4 : List UInt8 := dkwX2_init_4 ++ dktX2_init_5
def dkwX2_init_3 : List UInt8 := [188, 11, 181, 0, 35, 42, 17, 1, 74, 188, 4, 181, 0, 39, 42, 4, 181, 0, 43, 42, 16, 36, 188, 10]
abbrev dktX2_init_3 : List UInt8 := dkwX2_init_3 ++ dktX2_init_4
def dkwX2_init_2 : List UInt8 := [181, 0, 26, 42, 17, 0, 160, 188, 10, 181, 0, 29, 42, 16, 8, 188, 10, 181, 0, 32, 42, 17, 1, 74]
abbrev dktX2_init_2 : List UInt8 := dkwX2_init_2 ++ dktX2_init_3
def dkwX2_init_1 : List UInt8 := [17, 11, 4, 188, 10, 181, 0, 16, 42, 17, 1, 44, 188, 10, 181, 0, 19, 42, 2, 181, 0, 22, 42, 2]
abbrev dktX2_init_1 : List UInt8 := dkwX2_init_1 ++ dktX2_init_2
def dkwX2_init_0 : List UInt8 := [42, 183, 0, 1, 42, 17, 11, 59, 188, 10, 181, 0, 7, 42, 17, 11, 59, 188, 10, 181, 0, 13, 42]
abbrev dktX2_init_0 : List UInt8 := dkwX2_init_0 ++ dktX2_init_1
theorem dksX2_init_0 : cX2_init.data.toList.drop 0 = dktX2_init_0 := by decide +kernel
theorem dksX2_init_1 : cX2_init.data.toList.drop 23 = dktX2_init_1 := dk_seg dksX2_init_0 23 rfl rfl
theorem dksX2_init_2 : cX2_init.data.toList.drop 47 = dktX2_init_2 := dk_seg dksX2_init_1 24 rfl rfl
theorem dksX2_init_3 : cX2_init.data.toList.drop 71 = dktX2_init_3 := dk_seg dksX2_init_2 24 rfl rfl
theorem dksX2_init_4 : cX2_init.data.toList.drop 95 = dktX2_init_4 := dk_seg dksX2_init_3 24 rfl rfl
theorem dksX2_init_5 : cX2_init.data.toList.drop 118 = dktX2_init_5 := dk_seg dksX2_init_4 23 rfl rfl
theorem dksX2_init_6 : cX2_init.data.toList.drop 141 = dktX2_init_6 := dk_seg dksX2_init_5 23 rfl rfl
theorem dksX2_init_7 : cX2_init.data.toList.drop 165 = dktX2_init_7 := dk_seg dksX2_init_6 24 rfl rfl
theorem dksX2_init_8 : cX2_init.data.toList.drop 189 = dktX2_init_8 := dk_seg dksX2_init_7 24 rfl rfl
theorem dksX2_init_9 : cX2_init.data.toList.drop 213 = dktX2_init_9 := dk_seg dksX2_init_8 24 rfl rfl
theorem dX2_init_0 : decode cX2_init 0 = .ok (.aload_n 0, 1) := dk_42 (dk_at dksX2_init_0 0 rfl rfl)
theorem dX2_init_1 : decode cX2_init 1 = .ok (.invokespecial 1, 3) := dk_183 0 1 (dk_at dksX2_init_0 1 rfl rfl)
theorem dX2_init_4 : decode cX2_init 4 = .ok (.aload_n 0, 1) := dk_42 (dk_at dksX2_init_0 4 rfl rfl)
theorem dX2_init_5 : decode cX2_init 5 = .ok (.sipush 2875, 3) := dk_17 11 59 (dk_at dksX2_init_0 5 rfl rfl)
theorem dX2_init_8 : decode cX2_init 8 = .ok (.newarray .int, 2) := dk_188_10 (dk_at dksX2_init_0 8 rfl rfl)
theorem dX2_init_10 : decode cX2_init 10 = .ok (.putfield 7, 3) := dk_181 0 7 (dk_at dksX2_init_0 10 rfl rfl)
theorem dX2_init_13 : decode cX2_init 13 = .ok (.aload_n 0, 1) := dk_42 (dk_at dksX2_init_0 13 rfl rfl)
theorem dX2_init_14 : decode cX2_init 14 = .ok (.sipush 2875, 3) := dk_17 11 59 (dk_at dksX2_init_0 14 rfl rfl)
theorem dX2_init_17 : decode cX2_init 17 = .ok (.newarray .int, 2) := dk_188_10 (dk_at dksX2_init_0 17 rfl rfl)
theorem dX2_init_19 : decode cX2_init 19 = .ok (.putfield 13, 3) := dk_181 0 13 (dk_at dksX2_init_0 19 rfl rfl)
theorem dX2_init_22 : decode cX2_init 22 = .ok (.aload_n 0, 1) := dk_42 (dk_at dksX2_init_0 22 rfl rfl)
theorem dX2_init_23 : decode cX2_init 23 = .ok (.sipush 2820, 3) := dk_17 11 4 (dk_at dksX2_init_1 0 rfl rfl)
theorem dX2_init_26 : decode cX2_init 26 = .ok (.newarray .int, 2) := dk_188_10 (dk_at dksX2_init_1 3 rfl rfl)
theorem dX2_init_28 : decode cX2_init 28 = .ok (.putfield 16, 3) := dk_181 0 16 (dk_at dksX2_init_1 5 rfl rfl)
theorem dX2_init_31 : decode cX2_init 31 = .ok (.aload_n 0, 1) := dk_42 (dk_at dksX2_init_1 8 rfl rfl)
theorem dX2_init_32 : decode cX2_init 32 = .ok (.sipush 300, 3) := dk_17 1 44 (dk_at dksX2_init_1 9 rfl rfl)
theorem dX2_init_35 : decode cX2_init 35 = .ok (.newarray .int, 2) := dk_188_10 (dk_at dksX2_init_1 12 rfl rfl)
theorem dX2_init_37 : decode cX2_init 37 = .ok (.putfield 19, 3) := dk_181 0 19 (dk_at dksX2_init_1 14 rfl rfl)
theorem dX2_init_40 : decode cX2_init 40 = .ok (.aload_n 0, 1) := dk_42 (dk_at dksX2_init_1 17 rfl rfl)
theorem dX2_init_41 : decode cX2_init 41 = .ok (.iconst (-1), 1) := dk_2 (dk_at dksX2_init_1 18 rfl rfl)
theorem dX2_init_42 : decode cX2_init 42 = .ok (.putfield 22, 3) := dk_181 0 22 (dk_at dksX2_init_1 19 rfl rfl)
theorem dX2_init_45 : decode cX2_init 45 = .ok (.aload_n 0, 1) := dk_42 (dk_at dksX2_init_1 22 rfl rfl)
theorem dX2_init_46 : decode cX2_init 46 = .ok (.iconst (-1), 1) := dk_2 (dk_at dksX2_init_1 23 rfl rfl)
theorem dX2_init_47 : decode cX2_init 47 = .ok (.putfield 26, 3) := dk_181 0 26 (dk_at dksX2_init_2 0 rfl rfl)
theorem dX2_init_50 : decode cX2_init 50 = .ok (.aload_n 0, 1) := dk_42 (dk_at dksX2_init_2 3 rfl rfl)
theorem dX2_init_51 : decode cX2_init 51 = .ok (.sipush 160, 3) := dk_17 0 160 (dk_at dksX2_init_2 4 rfl rfl)
theorem dX2_init_54 : decode cX2_init 54 = .ok (.newarray .int, 2) := dk_188_10 (dk_at dksX2_init_2 7 rfl rfl)
theorem dX2_init_56 : decode cX2_init 56 = .ok (.putfield 29, 3) := dk_181 0 29 (dk_at dksX2_init_2 9 rfl rfl)
theorem dX2_init_59 : decode cX2_init 59 = .ok (.aload_n 0, 1) := dk_42 (dk_at dksX2_init_2 12 rfl rfl)
theorem dX2_init_60 : decode cX2_init 60 = .ok (.bipush 8, 2) := dk_16 8 (dk_at dksX2_init_2 13 rfl rfl)
theorem dX2_init_62 : decode cX2_init 62 = .ok (.newarray .int, 2) := dk_188_10 (dk_at dksX2_init_2 15 rfl rfl)
theorem dX2_init_64 : decode cX2_init 64 = .ok (.putfield 32, 3) := dk_181 0 32 (dk_at dksX2_init_2 17 rfl rfl)
theorem dX2_init_67 : decode cX2_init 67 = .ok (.aload_n 0, 1) := dk_42 (dk_at dksX2_init_2 20 rfl rfl)
theorem dX2_init_68 : decode cX2_init 68 = .ok (.sipush 330, 3) := dk_17 1 74 (dk_at dksX2_init_2 21 rfl rfl)
theorem dX2_init_71 : decode cX2_init 71 = .ok (.newarray .long, 2) := dk_188_11 (dk_at dksX2_init_3 0 rfl rfl)
theorem dX2_init_73 : decode cX2_init 73 = .ok (.putfield 35, 3) := dk_181 0 35 (dk_at dksX2_init_3 2 rfl rfl)
theorem dX2_init_76 : decode cX2_init 76 = .ok (.aload_n 0, 1) := dk_42 (dk_at dksX2_init_3 5 rfl rfl)
theorem dX2_init_77 : decode cX2_init 77 = .ok (.sipush 330, 3) := dk_17 1 74 (dk_at dksX2_init_3 6 rfl rfl)
theorem dX2_init_80 : decode cX2_init 80 = .ok (.newarray .boolean, 2) := dk_188_4 (dk_at dksX2_init_3 9 rfl rfl)
theorem dX2_init_82 : decode cX2_init 82 = .ok (.putfield 39, 3) := dk_181 0 39 (dk_at dksX2_init_3 11 rfl rfl)
theorem dX2_init_85 : decode cX2_init 85 = .ok (.aload_n 0, 1) := dk_42 (dk_at dksX2_init_3 14 rfl rfl)
theorem dX2_init_86 : decode cX2_init 86 = .ok (.iconst 1, 1) := dk_4 (dk_at dksX2_init_3 15 rfl rfl)
theorem dX2_init_87 : decode cX2_init 87 = .ok (.putfield 43, 3) := dk_181 0 43 (dk_at dksX2_init_3 16 rfl rfl)
theorem dX2_init_90 : decode cX2_init 90 = .ok (.aload_n 0, 1) := dk_42 (dk_at dksX2_init_3 19 rfl rfl)
theorem dX2_init_91 : decode cX2_init 91 = .ok (.bipush 36, 2) := dk_16 36 (dk_at dksX2_init_3 20 rfl rfl)
theorem dX2_init_93 : decode cX2_init 93 = .ok (.newarray .int, 2) := dk_188_10 (dk_at dksX2_init_3 22 rfl rfl)
theorem dX2_init_95 : decode cX2_init 95 = .ok (.putfield 47, 3) := dk_181 0 47 (dk_at dksX2_init_4 0 rfl rfl)
theorem dX2_init_98 : decode cX2_init 98 = .ok (.aload_n 0, 1) := dk_42 (dk_at dksX2_init_4 3 rfl rfl)
theorem dX2_init_99 : decode cX2_init 99 = .ok (.bipush 6, 2) := dk_16 6 (dk_at dksX2_init_4 4 rfl rfl)
theorem dX2_init_101 : decode cX2_init 101 = .ok (.newarray .int, 2) := dk_188_10 (dk_at dksX2_init_4 6 rfl rfl)
theorem dX2_init_103 : decode cX2_init 103 = .ok (.putfield 50, 3) := dk_181 0 50 (dk_at dksX2_init_4 8 rfl rfl)
theorem dX2_init_106 : decode cX2_init 106 = .ok (.aload_n 0, 1) := dk_42 (dk_at dksX2_init_4 11 rfl rfl)
theorem dX2_init_107 : decode cX2_init 107 = .ok (.bipush 6, 2) := dk_16 6 (dk_at dksX2_init_4 12 rfl rfl)
theorem dX2_init_109 : decode cX2_init 109 = .ok (.newarray .int, 2) := dk_188_10 (dk_at dksX2_init_4 14 rfl rfl)
theorem dX2_init_111 : decode cX2_init 111 = .ok (.putfield 53, 3) := dk_181 0 53 (dk_at dksX2_init_4 16 rfl rfl)
theorem dX2_init_114 : decode cX2_init 114 = .ok (.aload_n 0, 1) := dk_42 (dk_at dksX2_init_4 19 rfl rfl)
theorem dX2_init_115 : decode cX2_init 115 = .ok (.iconst 5, 1) := dk_8 (dk_at dksX2_init_4 20 rfl rfl)
theorem dX2_init_116 : decode cX2_init 116 = .ok (.newarray .int, 2) := dk_188_10 (dk_at dksX2_init_4 21 rfl rfl)
theorem dX2_init_118 : decode cX2_init 118 = .ok (.putfield 56, 3) := dk_181 0 56 (dk_at dksX2_init_5 0 rfl rfl)
theorem dX2_init_121 : decode cX2_init 121 = .ok (.aload_n 0, 1) := dk_42 (dk_at dksX2_init_5 3 rfl rfl)
theorem dX2_init_122 : decode cX2_init 122 = .ok (.iconst 5, 1) := dk_8 (dk_at dksX2_init_5 4 rfl rfl)
theorem dX2_init_123 : decode cX2_init 123 = .ok (.newarray .int, 2) := dk_188_10 (dk_at dksX2_init_5 5 rfl rfl)
theorem dX2_init_125 : decode cX2_init 125 = .ok (.putfield 59, 3) := dk_181 0 59 (dk_at dksX2_init_5 7 rfl rfl)
theorem dX2_init_128 : decode cX2_init 128 = .ok (.aload_n 0, 1) := dk_42 (dk_at dksX2_init_5 10 rfl rfl)
theorem dX2_init_129 : decode cX2_init 129 = .ok (.bipush 6, 2) := dk_16 6 (dk_at dksX2_init_5 11 rfl rfl)
theorem dX2_init_131 : decode cX2_init 131 = .ok (.newarray .int, 2) := dk_188_10 (dk_at dksX2_init_5 13 rfl rfl)
theorem dX2_init_133 : decode cX2_init 133 = .ok (.putfield 62, 3) := dk_181 0 62 (dk_at dksX2_init_5 15 rfl rfl)
theorem dX2_init_136 : decode cX2_init 136 = .ok (.aload_n 0, 1) := dk_42 (dk_at dksX2_init_5 18 rfl rfl)
theorem dX2_init_137 : decode cX2_init 137 = .ok (.bipush 6, 2) := dk_16 6 (dk_at dksX2_init_5 19 rfl rfl)
theorem dX2_init_139 : decode cX2_init 139 = .ok (.newarray .int, 2) := dk_188_10 (dk_at dksX2_init_5 21 rfl rfl)
theorem dX2_init_141 : decode cX2_init 141 = .ok (.putfield 65, 3) := dk_181 0 65 (dk_at dksX2_init_6 0 rfl rfl)
theorem dX2_init_144 : decode cX2_init 144 = .ok (.aload_n 0, 1) := dk_42 (dk_at dksX2_init_6 3 rfl rfl)
theorem dX2_init_145 : decode cX2_init 145 = .ok (.bipush 48, 2) := dk_16 48 (dk_at dksX2_init_6 4 rfl rfl)
theorem dX2_init_147 : decode cX2_init 147 = .ok (.newarray .int, 2) := dk_188_10 (dk_at dksX2_init_6 6 rfl rfl)
theorem dX2_init_149 : decode cX2_init 149 = .ok (.putfield 68, 3) := dk_181 0 68 (dk_at dksX2_init_6 8 rfl rfl)
theorem dX2_init_152 : decode cX2_init 152 = .ok (.aload_n 0, 1) := dk_42 (dk_at dksX2_init_6 11 rfl rfl)
theorem dX2_init_153 : decode cX2_init 153 = .ok (.bipush 10, 2) := dk_16 10 (dk_at dksX2_init_6 12 rfl rfl)
theorem dX2_init_155 : decode cX2_init 155 = .ok (.newarray .int, 2) := dk_188_10 (dk_at dksX2_init_6 14 rfl rfl)
theorem dX2_init_157 : decode cX2_init 157 = .ok (.putfield 71, 3) := dk_181 0 71 (dk_at dksX2_init_6 16 rfl rfl)
theorem dX2_init_160 : decode cX2_init 160 = .ok (.aload_n 0, 1) := dk_42 (dk_at dksX2_init_6 19 rfl rfl)
theorem dX2_init_161 : decode cX2_init 161 = .ok (.bipush 10, 2) := dk_16 10 (dk_at dksX2_init_6 20 rfl rfl)
theorem dX2_init_163 : decode cX2_init 163 = .ok (.newarray .int, 2) := dk_188_10 (dk_at dksX2_init_6 22 rfl rfl)
theorem dX2_init_165 : decode cX2_init 165 = .ok (.putfield 74, 3) := dk_181 0 74 (dk_at dksX2_init_7 0 rfl rfl)
theorem dX2_init_168 : decode cX2_init 168 = .ok (.aload_n 0, 1) := dk_42 (dk_at dksX2_init_7 3 rfl rfl)
theorem dX2_init_169 : decode cX2_init 169 = .ok (.getfield 7, 3) := dk_180 0 7 (dk_at dksX2_init_7 4 rfl rfl)
theorem dX2_init_172 : decode cX2_init 172 = .ok (.bipush 8, 2) := dk_16 8 (dk_at dksX2_init_7 7 rfl rfl)
theorem dX2_init_174 : decode cX2_init 174 = .ok (.sipush 373, 3) := dk_17 1 117 (dk_at dksX2_init_7 9 rfl rfl)
theorem dX2_init_177 : decode cX2_init 177 = .ok (.iastore, 1) := dk_79 (dk_at dksX2_init_7 12 rfl rfl)
theorem dX2_init_178 : decode cX2_init 178 = .ok (.aload_n 0, 1) := dk_42 (dk_at dksX2_init_7 13 rfl rfl)
theorem dX2_init_179 : decode cX2_init 179 = .ok (.getfield 7, 3) := dk_180 0 7 (dk_at dksX2_init_7 14 rfl rfl)
theorem dX2_init_182 : decode cX2_init 182 = .ok (.iconst 2, 1) := dk_5 (dk_at dksX2_init_7 17 rfl rfl)
theorem dX2_init_183 : decode cX2_init 183 = .ok (.iconst (-1), 1) := dk_2 (dk_at dksX2_init_7 18 rfl rfl)
theorem dX2_init_184 : decode cX2_init 184 = .ok (.iastore, 1) := dk_79 (dk_at dksX2_init_7 19 rfl rfl)
theorem dX2_init_185 : decode cX2_init 185 = .ok (.iconst 0, 1) := dk_3 (dk_at dksX2_init_7 20 rfl rfl)
theorem dX2_init_186 : decode cX2_init 186 = .ok (.istore_n 1, 1) := dk_60 (dk_at dksX2_init_7 21 rfl rfl)
theorem dX2_init_187 : decode cX2_init 187 = .ok (.iload_n 1, 1) := dk_27 (dk_at dksX2_init_7 22 rfl rfl)
theorem dX2_init_188 : decode cX2_init 188 = .ok (.iconst 4, 1) := dk_7 (dk_at dksX2_init_7 23 rfl rfl)
theorem dX2_init_189 : decode cX2_init 189 = .ok (.if_icmp .ge 19, 3) := dk_162 0 19 (dk_at dksX2_init_8 0 rfl rfl)
theorem dX2_init_192 : decode cX2_init 192 = .ok (.aload_n 0, 1) := dk_42 (dk_at dksX2_init_8 3 rfl rfl)
theorem dX2_init_193 : decode cX2_init 193 = .ok (.getfield 7, 3) := dk_180 0 7 (dk_at dksX2_init_8 4 rfl rfl)
theorem dX2_init_196 : decode cX2_init 196 = .ok (.bipush 110, 2) := dk_16 110 (dk_at dksX2_init_8 7 rfl rfl)
theorem dX2_init_198 : decode cX2_init 198 = .ok (.iload_n 1, 1) := dk_27 (dk_at dksX2_init_8 9 rfl rfl)
theorem dX2_init_199 : decode cX2_init 199 = .ok (.iadd, 1) := dk_96 (dk_at dksX2_init_8 10 rfl rfl)
theorem dX2_init_200 : decode cX2_init 200 = .ok (.iconst (-1), 1) := dk_2 (dk_at dksX2_init_8 11 rfl rfl)
theorem dX2_init_201 : decode cX2_init 201 = .ok (.iastore, 1) := dk_79 (dk_at dksX2_init_8 12 rfl rfl)
theorem dX2_init_202 : decode cX2_init 202 = .ok (.iinc 1 1, 3) := dk_132 1 1 (dk_at dksX2_init_8 13 rfl rfl)
theorem dX2_init_205 : decode cX2_init 205 = .ok (.goto (-18), 3) := dk_167 255 238 (dk_at dksX2_init_8 16 rfl rfl)
theorem dX2_init_208 : decode cX2_init 208 = .ok (.aload_n 0, 1) := dk_42 (dk_at dksX2_init_8 19 rfl rfl)
theorem dX2_init_209 : decode cX2_init 209 = .ok (.getfield 7, 3) := dk_180 0 7 (dk_at dksX2_init_8 20 rfl rfl)
theorem dX2_init_212 : decode cX2_init 212 = .ok (.aload_n 0, 1) := dk_42 (dk_at dksX2_init_8 23 rfl rfl)
theorem dX2_init_213 : decode cX2_init 213 = .ok (.getfield 13, 3) := dk_180 0 13 (dk_at dksX2_init_9 0 rfl rfl)
theorem dX2_init_216 : decode cX2_init 216 = .ok (.invokestatic 77, 3) := dk_184 0 77 (dk_at dksX2_init_9 3 rfl rfl)
theorem dX2_init_219 : decode cX2_init 219 = .ok (.return_, 1) := dk_177 (dk_at dksX2_init_9 6 rfl rfl)
abbrev cX2_copy : ByteArray := prog_20_method_2_code
def yX2_copy : MethodName := ⟨RX2, "copy", "([I[I)V"⟩
def dkwX2_copy_0 : List UInt8 := [3, 61, 28, 17, 11, 59, 162, 0, 15, 43, 28, 42, 28, 46, 79, 132, 2, 1, 167, 255, 240, 177]
abbrev dktX2_copy_0 : List UInt8 := dkwX2_copy_0 ++ []
theorem dksX2_copy_0 : cX2_copy.data.toList.drop 0 = dktX2_copy_0 := by decide +kernel
theorem dX2_copy_0 : decode cX2_copy 0 = .ok (.iconst 0, 1) := dk_3 (dk_at dksX2_copy_0 0 rfl rfl)
theorem dX2_copy_1 : decode cX2_copy 1 = .ok (.istore_n 2, 1) := dk_61 (dk_at dksX2_copy_0 1 rfl rfl)
theorem dX2_copy_2 : decode cX2_copy 2 = .ok (.iload_n 2, 1) := dk_28 (dk_at dksX2_copy_0 2 rfl rfl)
theorem dX2_copy_3 : decode cX2_copy 3 = .ok (.sipush 2875, 3) := dk_17 11 59 (dk_at dksX2_copy_0 3 rfl rfl)
theorem dX2_copy_6 : decode cX2_copy 6 = .ok (.if_icmp .ge 15, 3) := dk_162 0 15 (dk_at dksX2_copy_0 6 rfl rfl)
theorem dX2_copy_9 : decode cX2_copy 9 = .ok (.aload_n 1, 1) := dk_43 (dk_at dksX2_copy_0 9 rfl rfl)
theorem dX2_copy_10 : decode cX2_copy 10 = .ok (.iload_n 2, 1) := dk_28 (dk_at dksX2_copy_0 10 rfl rfl)
theorem dX2_copy_11 : decode cX2_copy 11 = .ok (.aload_n 0, 1) := dk_42 (dk_at dksX2_copy_0 11 rfl rfl)
theorem dX2_copy_12 : decode cX2_copy 12 = .ok (.iload_n 2, 1) := dk_28 (dk_at dksX2_copy_0 12 rfl rfl)
theorem dX2_copy_13 : decode cX2_copy 13 = .ok (.iaload, 1) := dk_46 (dk_at dksX2_copy_0 13 rfl rfl)
theorem dX2_copy_14 : decode cX2_copy 14 = .ok (.iastore, 1) := dk_79 (dk_at dksX2_copy_0 14 rfl rfl)
theorem dX2_copy_15 : decode cX2_copy 15 = .ok (.iinc 2 1, 3) := dk_132 2 1 (dk_at dksX2_copy_0 15 rfl rfl)
theorem dX2_copy_18 : decode cX2_copy 18 = .ok (.goto (-16), 3) := dk_167 255 240 (dk_at dksX2_copy_0 18 rfl rfl)
theorem dX2_copy_21 : decode cX2_copy 21 = .ok (.return_, 1) := dk_177 (dk_at dksX2_copy_0 21 rfl rfl)
abbrev cX2_quarrel : ByteArray := prog_20_method_16_code
def yX2_quarrel : MethodName := ⟨RX2, "quarrel", "(IIII)I"⟩
def dkwX2_quarrel_5 : List UInt8 := [182, 0, 96, 42, 180, 0, 7, 3, 92, 46, 4, 96, 79, 21, 5, 172]
abbrev dktX2_quarrel_5 : List UInt8 := dkwX2_quarrel_5 ++ []
def dkwX2_quarrel_4 : List UInt8 := [16, 52, 21, 5, 96, 29, 79, 42, 180, 0, 7, 16, 60, 21, 5, 96, 21, 4, 79, 42, 21, 5]
abbrev dktX2_quarrel_4 : List UInt8 := dkwX2_quarrel_4 ++ dktX2_quarrel_5
def dkwX2_quarrel_3 : List UInt8 := [104, 96, 27, 79, 42, 180, 0, 7, 16, 36, 5, 21, 5, 104, 96, 4, 96, 28, 79, 42, 180, 0, 7]
abbrev dktX2_quarrel_3 : List UInt8 := dkwX2_quarrel_3 ++ dktX2_quarrel_4
def dkwX2_quarrel_2 : List UInt8 := [16, 8, 160, 0, 5, 2, 172, 42, 180, 0, 7, 3, 46, 54, 5, 42, 180, 0, 7, 16, 36, 5, 21, 5]
abbrev dktX2_quarrel_2 : List UInt8 := dkwX2_quarrel_2 ++ dktX2_quarrel_3
def dkwX2_quarrel_1 : List UInt8 := [184, 0, 81, 153, 0, 25, 21, 4, 3, 16, 9, 184, 0, 81, 153, 0, 14, 42, 180, 0, 7, 3, 46]
abbrev dktX2_quarrel_1 : List UInt8 := dkwX2_quarrel_1 ++ dktX2_quarrel_2
def dkwX2_quarrel_0 : List UInt8 := [27, 184, 0, 93, 153, 0, 47, 28, 184, 0, 93, 153, 0, 40, 27, 28, 159, 0, 35, 29, 4, 16, 99]
abbrev dktX2_quarrel_0 : List UInt8 := dkwX2_quarrel_0 ++ dktX2_quarrel_1
theorem dksX2_quarrel_0 : cX2_quarrel.data.toList.drop 0 = dktX2_quarrel_0 := by decide +kernel
theorem dksX2_quarrel_1 : cX2_quarrel.data.toList.drop 23 = dktX2_quarrel_1 := dk_seg dksX2_quarrel_0 23 rfl rfl
theorem dksX2_quarrel_2 : cX2_quarrel.data.toList.drop 46 = dktX2_quarrel_2 := dk_seg dksX2_quarrel_1 23 rfl rfl
theorem dksX2_quarrel_3 : cX2_quarrel.data.toList.drop 70 = dktX2_quarrel_3 := dk_seg dksX2_quarrel_2 24 rfl rfl
theorem dksX2_quarrel_4 : cX2_quarrel.data.toList.drop 93 = dktX2_quarrel_4 := dk_seg dksX2_quarrel_3 23 rfl rfl
theorem dksX2_quarrel_5 : cX2_quarrel.data.toList.drop 115 = dktX2_quarrel_5 := dk_seg dksX2_quarrel_4 22 rfl rfl
theorem dX2_quarrel_0 : decode cX2_quarrel 0 = .ok (.iload_n 1, 1) := dk_27 (dk_at dksX2_quarrel_0 0 rfl rfl)
theorem dX2_quarrel_1 : decode cX2_quarrel 1 = .ok (.invokestatic 93, 3) := dk_184 0 93 (dk_at dksX2_quarrel_0 1 rfl rfl)
theorem dX2_quarrel_4 : decode cX2_quarrel 4 = .ok (.ifCond .eq 47, 3) := dk_153 0 47 (dk_at dksX2_quarrel_0 4 rfl rfl)
theorem dX2_quarrel_7 : decode cX2_quarrel 7 = .ok (.iload_n 2, 1) := dk_28 (dk_at dksX2_quarrel_0 7 rfl rfl)
theorem dX2_quarrel_8 : decode cX2_quarrel 8 = .ok (.invokestatic 93, 3) := dk_184 0 93 (dk_at dksX2_quarrel_0 8 rfl rfl)
theorem dX2_quarrel_11 : decode cX2_quarrel 11 = .ok (.ifCond .eq 40, 3) := dk_153 0 40 (dk_at dksX2_quarrel_0 11 rfl rfl)
theorem dX2_quarrel_14 : decode cX2_quarrel 14 = .ok (.iload_n 1, 1) := dk_27 (dk_at dksX2_quarrel_0 14 rfl rfl)
theorem dX2_quarrel_15 : decode cX2_quarrel 15 = .ok (.iload_n 2, 1) := dk_28 (dk_at dksX2_quarrel_0 15 rfl rfl)
theorem dX2_quarrel_16 : decode cX2_quarrel 16 = .ok (.if_icmp .eq 35, 3) := dk_159 0 35 (dk_at dksX2_quarrel_0 16 rfl rfl)
theorem dX2_quarrel_19 : decode cX2_quarrel 19 = .ok (.iload_n 3, 1) := dk_29 (dk_at dksX2_quarrel_0 19 rfl rfl)
theorem dX2_quarrel_20 : decode cX2_quarrel 20 = .ok (.iconst 1, 1) := dk_4 (dk_at dksX2_quarrel_0 20 rfl rfl)
theorem dX2_quarrel_21 : decode cX2_quarrel 21 = .ok (.bipush 99, 2) := dk_16 99 (dk_at dksX2_quarrel_0 21 rfl rfl)
theorem dX2_quarrel_23 : decode cX2_quarrel 23 = .ok (.invokestatic 81, 3) := dk_184 0 81 (dk_at dksX2_quarrel_1 0 rfl rfl)
theorem dX2_quarrel_26 : decode cX2_quarrel 26 = .ok (.ifCond .eq 25, 3) := dk_153 0 25 (dk_at dksX2_quarrel_1 3 rfl rfl)
theorem dX2_quarrel_29 : decode cX2_quarrel 29 = .ok (.iload 4, 2) := dk_21 4 (dk_at dksX2_quarrel_1 6 rfl rfl)
theorem dX2_quarrel_31 : decode cX2_quarrel 31 = .ok (.iconst 0, 1) := dk_3 (dk_at dksX2_quarrel_1 8 rfl rfl)
theorem dX2_quarrel_32 : decode cX2_quarrel 32 = .ok (.bipush 9, 2) := dk_16 9 (dk_at dksX2_quarrel_1 9 rfl rfl)
theorem dX2_quarrel_34 : decode cX2_quarrel 34 = .ok (.invokestatic 81, 3) := dk_184 0 81 (dk_at dksX2_quarrel_1 11 rfl rfl)
theorem dX2_quarrel_37 : decode cX2_quarrel 37 = .ok (.ifCond .eq 14, 3) := dk_153 0 14 (dk_at dksX2_quarrel_1 14 rfl rfl)
theorem dX2_quarrel_40 : decode cX2_quarrel 40 = .ok (.aload_n 0, 1) := dk_42 (dk_at dksX2_quarrel_1 17 rfl rfl)
theorem dX2_quarrel_41 : decode cX2_quarrel 41 = .ok (.getfield 7, 3) := dk_180 0 7 (dk_at dksX2_quarrel_1 18 rfl rfl)
theorem dX2_quarrel_44 : decode cX2_quarrel 44 = .ok (.iconst 0, 1) := dk_3 (dk_at dksX2_quarrel_1 21 rfl rfl)
theorem dX2_quarrel_45 : decode cX2_quarrel 45 = .ok (.iaload, 1) := dk_46 (dk_at dksX2_quarrel_1 22 rfl rfl)
theorem dX2_quarrel_46 : decode cX2_quarrel 46 = .ok (.bipush 8, 2) := dk_16 8 (dk_at dksX2_quarrel_2 0 rfl rfl)
theorem dX2_quarrel_48 : decode cX2_quarrel 48 = .ok (.if_icmp .ne 5, 3) := dk_160 0 5 (dk_at dksX2_quarrel_2 2 rfl rfl)
theorem dX2_quarrel_51 : decode cX2_quarrel 51 = .ok (.iconst (-1), 1) := dk_2 (dk_at dksX2_quarrel_2 5 rfl rfl)
theorem dX2_quarrel_52 : decode cX2_quarrel 52 = .ok (.ireturn, 1) := dk_172 (dk_at dksX2_quarrel_2 6 rfl rfl)
theorem dX2_quarrel_53 : decode cX2_quarrel 53 = .ok (.aload_n 0, 1) := dk_42 (dk_at dksX2_quarrel_2 7 rfl rfl)
theorem dX2_quarrel_54 : decode cX2_quarrel 54 = .ok (.getfield 7, 3) := dk_180 0 7 (dk_at dksX2_quarrel_2 8 rfl rfl)
theorem dX2_quarrel_57 : decode cX2_quarrel 57 = .ok (.iconst 0, 1) := dk_3 (dk_at dksX2_quarrel_2 11 rfl rfl)
theorem dX2_quarrel_58 : decode cX2_quarrel 58 = .ok (.iaload, 1) := dk_46 (dk_at dksX2_quarrel_2 12 rfl rfl)
theorem dX2_quarrel_59 : decode cX2_quarrel 59 = .ok (.istore 5, 2) := dk_54 5 (dk_at dksX2_quarrel_2 13 rfl rfl)
theorem dX2_quarrel_61 : decode cX2_quarrel 61 = .ok (.aload_n 0, 1) := dk_42 (dk_at dksX2_quarrel_2 15 rfl rfl)
theorem dX2_quarrel_62 : decode cX2_quarrel 62 = .ok (.getfield 7, 3) := dk_180 0 7 (dk_at dksX2_quarrel_2 16 rfl rfl)
theorem dX2_quarrel_65 : decode cX2_quarrel 65 = .ok (.bipush 36, 2) := dk_16 36 (dk_at dksX2_quarrel_2 19 rfl rfl)
theorem dX2_quarrel_67 : decode cX2_quarrel 67 = .ok (.iconst 2, 1) := dk_5 (dk_at dksX2_quarrel_2 21 rfl rfl)
theorem dX2_quarrel_68 : decode cX2_quarrel 68 = .ok (.iload 5, 2) := dk_21 5 (dk_at dksX2_quarrel_2 22 rfl rfl)
theorem dX2_quarrel_70 : decode cX2_quarrel 70 = .ok (.imul, 1) := dk_104 (dk_at dksX2_quarrel_3 0 rfl rfl)
theorem dX2_quarrel_71 : decode cX2_quarrel 71 = .ok (.iadd, 1) := dk_96 (dk_at dksX2_quarrel_3 1 rfl rfl)
theorem dX2_quarrel_72 : decode cX2_quarrel 72 = .ok (.iload_n 1, 1) := dk_27 (dk_at dksX2_quarrel_3 2 rfl rfl)
theorem dX2_quarrel_73 : decode cX2_quarrel 73 = .ok (.iastore, 1) := dk_79 (dk_at dksX2_quarrel_3 3 rfl rfl)
theorem dX2_quarrel_74 : decode cX2_quarrel 74 = .ok (.aload_n 0, 1) := dk_42 (dk_at dksX2_quarrel_3 4 rfl rfl)
theorem dX2_quarrel_75 : decode cX2_quarrel 75 = .ok (.getfield 7, 3) := dk_180 0 7 (dk_at dksX2_quarrel_3 5 rfl rfl)
theorem dX2_quarrel_78 : decode cX2_quarrel 78 = .ok (.bipush 36, 2) := dk_16 36 (dk_at dksX2_quarrel_3 8 rfl rfl)
theorem dX2_quarrel_80 : decode cX2_quarrel 80 = .ok (.iconst 2, 1) := dk_5 (dk_at dksX2_quarrel_3 10 rfl rfl)
theorem dX2_quarrel_81 : decode cX2_quarrel 81 = .ok (.iload 5, 2) := dk_21 5 (dk_at dksX2_quarrel_3 11 rfl rfl)
theorem dX2_quarrel_83 : decode cX2_quarrel 83 = .ok (.imul, 1) := dk_104 (dk_at dksX2_quarrel_3 13 rfl rfl)
theorem dX2_quarrel_84 : decode cX2_quarrel 84 = .ok (.iadd, 1) := dk_96 (dk_at dksX2_quarrel_3 14 rfl rfl)
theorem dX2_quarrel_85 : decode cX2_quarrel 85 = .ok (.iconst 1, 1) := dk_4 (dk_at dksX2_quarrel_3 15 rfl rfl)
theorem dX2_quarrel_86 : decode cX2_quarrel 86 = .ok (.iadd, 1) := dk_96 (dk_at dksX2_quarrel_3 16 rfl rfl)
theorem dX2_quarrel_87 : decode cX2_quarrel 87 = .ok (.iload_n 2, 1) := dk_28 (dk_at dksX2_quarrel_3 17 rfl rfl)
theorem dX2_quarrel_88 : decode cX2_quarrel 88 = .ok (.iastore, 1) := dk_79 (dk_at dksX2_quarrel_3 18 rfl rfl)
theorem dX2_quarrel_89 : decode cX2_quarrel 89 = .ok (.aload_n 0, 1) := dk_42 (dk_at dksX2_quarrel_3 19 rfl rfl)
theorem dX2_quarrel_90 : decode cX2_quarrel 90 = .ok (.getfield 7, 3) := dk_180 0 7 (dk_at dksX2_quarrel_3 20 rfl rfl)
theorem dX2_quarrel_93 : decode cX2_quarrel 93 = .ok (.bipush 52, 2) := dk_16 52 (dk_at dksX2_quarrel_4 0 rfl rfl)
theorem dX2_quarrel_95 : decode cX2_quarrel 95 = .ok (.iload 5, 2) := dk_21 5 (dk_at dksX2_quarrel_4 2 rfl rfl)
theorem dX2_quarrel_97 : decode cX2_quarrel 97 = .ok (.iadd, 1) := dk_96 (dk_at dksX2_quarrel_4 4 rfl rfl)
theorem dX2_quarrel_98 : decode cX2_quarrel 98 = .ok (.iload_n 3, 1) := dk_29 (dk_at dksX2_quarrel_4 5 rfl rfl)
theorem dX2_quarrel_99 : decode cX2_quarrel 99 = .ok (.iastore, 1) := dk_79 (dk_at dksX2_quarrel_4 6 rfl rfl)
theorem dX2_quarrel_100 : decode cX2_quarrel 100 = .ok (.aload_n 0, 1) := dk_42 (dk_at dksX2_quarrel_4 7 rfl rfl)
theorem dX2_quarrel_101 : decode cX2_quarrel 101 = .ok (.getfield 7, 3) := dk_180 0 7 (dk_at dksX2_quarrel_4 8 rfl rfl)
theorem dX2_quarrel_104 : decode cX2_quarrel 104 = .ok (.bipush 60, 2) := dk_16 60 (dk_at dksX2_quarrel_4 11 rfl rfl)
theorem dX2_quarrel_106 : decode cX2_quarrel 106 = .ok (.iload 5, 2) := dk_21 5 (dk_at dksX2_quarrel_4 13 rfl rfl)
theorem dX2_quarrel_108 : decode cX2_quarrel 108 = .ok (.iadd, 1) := dk_96 (dk_at dksX2_quarrel_4 15 rfl rfl)
theorem dX2_quarrel_109 : decode cX2_quarrel 109 = .ok (.iload 4, 2) := dk_21 4 (dk_at dksX2_quarrel_4 16 rfl rfl)
theorem dX2_quarrel_111 : decode cX2_quarrel 111 = .ok (.iastore, 1) := dk_79 (dk_at dksX2_quarrel_4 18 rfl rfl)
theorem dX2_quarrel_112 : decode cX2_quarrel 112 = .ok (.aload_n 0, 1) := dk_42 (dk_at dksX2_quarrel_4 19 rfl rfl)
theorem dX2_quarrel_113 : decode cX2_quarrel 113 = .ok (.iload 5, 2) := dk_21 5 (dk_at dksX2_quarrel_4 20 rfl rfl)
theorem dX2_quarrel_115 : decode cX2_quarrel 115 = .ok (.invokevirtual 96, 3) := dk_182 0 96 (dk_at dksX2_quarrel_5 0 rfl rfl)
theorem dX2_quarrel_118 : decode cX2_quarrel 118 = .ok (.aload_n 0, 1) := dk_42 (dk_at dksX2_quarrel_5 3 rfl rfl)
theorem dX2_quarrel_119 : decode cX2_quarrel 119 = .ok (.getfield 7, 3) := dk_180 0 7 (dk_at dksX2_quarrel_5 4 rfl rfl)
theorem dX2_quarrel_122 : decode cX2_quarrel 122 = .ok (.iconst 0, 1) := dk_3 (dk_at dksX2_quarrel_5 7 rfl rfl)
theorem dX2_quarrel_123 : decode cX2_quarrel 123 = .ok (.dup2, 1) := dk_92 (dk_at dksX2_quarrel_5 8 rfl rfl)
theorem dX2_quarrel_124 : decode cX2_quarrel 124 = .ok (.iaload, 1) := dk_46 (dk_at dksX2_quarrel_5 9 rfl rfl)
theorem dX2_quarrel_125 : decode cX2_quarrel 125 = .ok (.iconst 1, 1) := dk_4 (dk_at dksX2_quarrel_5 10 rfl rfl)
theorem dX2_quarrel_126 : decode cX2_quarrel 126 = .ok (.iadd, 1) := dk_96 (dk_at dksX2_quarrel_5 11 rfl rfl)
theorem dX2_quarrel_127 : decode cX2_quarrel 127 = .ok (.iastore, 1) := dk_79 (dk_at dksX2_quarrel_5 12 rfl rfl)
theorem dX2_quarrel_128 : decode cX2_quarrel 128 = .ok (.iload 5, 2) := dk_21 5 (dk_at dksX2_quarrel_5 13 rfl rfl)
theorem dX2_quarrel_130 : decode cX2_quarrel 130 = .ok (.ireturn, 1) := dk_172 (dk_at dksX2_quarrel_5 15 rfl rfl)
abbrev cX2_isPerson : ByteArray := prog_20_method_9_code
def yX2_isPerson : MethodName := ⟨RX2, "isPerson", "(I)Z"⟩
def dkwX2_isPerson_0 : List UInt8 := [26, 3, 8, 184, 0, 81, 172]
abbrev dktX2_isPerson_0 : List UInt8 := dkwX2_isPerson_0 ++ []
theorem dksX2_isPerson_0 : cX2_isPerson.data.toList.drop 0 = dktX2_isPerson_0 := by decide +kernel
theorem dX2_isPerson_0 : decode cX2_isPerson 0 = .ok (.iload_n 0, 1) := dk_26 (dk_at dksX2_isPerson_0 0 rfl rfl)
theorem dX2_isPerson_1 : decode cX2_isPerson 1 = .ok (.iconst 0, 1) := dk_3 (dk_at dksX2_isPerson_0 1 rfl rfl)
theorem dX2_isPerson_2 : decode cX2_isPerson 2 = .ok (.iconst 5, 1) := dk_8 (dk_at dksX2_isPerson_0 2 rfl rfl)
theorem dX2_isPerson_3 : decode cX2_isPerson 3 = .ok (.invokestatic 81, 3) := dk_184 0 81 (dk_at dksX2_isPerson_0 3 rfl rfl)
theorem dX2_isPerson_6 : decode cX2_isPerson 6 = .ok (.ireturn, 1) := dk_172 (dk_at dksX2_isPerson_0 6 rfl rfl)
abbrev cX2_isIn : ByteArray := prog_20_method_3_code
def yX2_isIn : MethodName := ⟨RX2, "isIn", "(III)Z"⟩
def dkwX2_isIn_0 : List UInt8 := [26, 27, 161, 0, 12, 26, 28, 163, 0, 7, 4, 167, 0, 4, 3, 172]
abbrev dktX2_isIn_0 : List UInt8 := dkwX2_isIn_0 ++ []
theorem dksX2_isIn_0 : cX2_isIn.data.toList.drop 0 = dktX2_isIn_0 := by decide +kernel
theorem dX2_isIn_0 : decode cX2_isIn 0 = .ok (.iload_n 0, 1) := dk_26 (dk_at dksX2_isIn_0 0 rfl rfl)
theorem dX2_isIn_1 : decode cX2_isIn 1 = .ok (.iload_n 1, 1) := dk_27 (dk_at dksX2_isIn_0 1 rfl rfl)
theorem dX2_isIn_2 : decode cX2_isIn 2 = .ok (.if_icmp .lt 12, 3) := dk_161 0 12 (dk_at dksX2_isIn_0 2 rfl rfl)
theorem dX2_isIn_5 : decode cX2_isIn 5 = .ok (.iload_n 0, 1) := dk_26 (dk_at dksX2_isIn_0 5 rfl rfl)
theorem dX2_isIn_6 : decode cX2_isIn 6 = .ok (.iload_n 2, 1) := dk_28 (dk_at dksX2_isIn_0 6 rfl rfl)
theorem dX2_isIn_7 : decode cX2_isIn 7 = .ok (.if_icmp .gt 7, 3) := dk_163 0 7 (dk_at dksX2_isIn_0 7 rfl rfl)
theorem dX2_isIn_10 : decode cX2_isIn 10 = .ok (.iconst 1, 1) := dk_4 (dk_at dksX2_isIn_0 10 rfl rfl)
theorem dX2_isIn_11 : decode cX2_isIn 11 = .ok (.goto 4, 3) := dk_167 0 4 (dk_at dksX2_isIn_0 11 rfl rfl)
theorem dX2_isIn_14 : decode cX2_isIn 14 = .ok (.iconst 0, 1) := dk_3 (dk_at dksX2_isIn_0 14 rfl rfl)
theorem dX2_isIn_15 : decode cX2_isIn 15 = .ok (.ireturn, 1) := dk_172 (dk_at dksX2_isIn_0 15 rfl rfl)
abbrev cX2_begin : ByteArray := prog_20_method_17_code
def yX2_begin : MethodName := ⟨RX2, "begin", "(I)V"⟩
def dkwX2_begin_2 : List UInt8 := [177]
abbrev dktX2_begin_2 : List UInt8 := dkwX2_begin_2 ++ []
def dkwX2_begin_1 : List UInt8 := [3, 79, 42, 180, 0, 7, 16, 12, 6, 27, 104, 96, 5, 96, 42, 180, 0, 7, 16, 60, 27, 96, 46, 79]
abbrev dktX2_begin_1 : List UInt8 := dkwX2_begin_1 ++ dktX2_begin_2
def dkwX2_begin_0 : List UInt8 := [42, 180, 0, 7, 16, 12, 6, 27, 104, 96, 3, 79, 42, 180, 0, 7, 16, 12, 6, 27, 104, 96, 4, 96]
abbrev dktX2_begin_0 : List UInt8 := dkwX2_begin_0 ++ dktX2_begin_1
theorem dksX2_begin_0 : cX2_begin.data.toList.drop 0 = dktX2_begin_0 := by decide +kernel
theorem dksX2_begin_1 : cX2_begin.data.toList.drop 24 = dktX2_begin_1 := dk_seg dksX2_begin_0 24 rfl rfl
theorem dksX2_begin_2 : cX2_begin.data.toList.drop 48 = dktX2_begin_2 := dk_seg dksX2_begin_1 24 rfl rfl
theorem dX2_begin_0 : decode cX2_begin 0 = .ok (.aload_n 0, 1) := dk_42 (dk_at dksX2_begin_0 0 rfl rfl)
theorem dX2_begin_1 : decode cX2_begin 1 = .ok (.getfield 7, 3) := dk_180 0 7 (dk_at dksX2_begin_0 1 rfl rfl)
theorem dX2_begin_4 : decode cX2_begin 4 = .ok (.bipush 12, 2) := dk_16 12 (dk_at dksX2_begin_0 4 rfl rfl)
theorem dX2_begin_6 : decode cX2_begin 6 = .ok (.iconst 3, 1) := dk_6 (dk_at dksX2_begin_0 6 rfl rfl)
theorem dX2_begin_7 : decode cX2_begin 7 = .ok (.iload_n 1, 1) := dk_27 (dk_at dksX2_begin_0 7 rfl rfl)
theorem dX2_begin_8 : decode cX2_begin 8 = .ok (.imul, 1) := dk_104 (dk_at dksX2_begin_0 8 rfl rfl)
theorem dX2_begin_9 : decode cX2_begin 9 = .ok (.iadd, 1) := dk_96 (dk_at dksX2_begin_0 9 rfl rfl)
theorem dX2_begin_10 : decode cX2_begin 10 = .ok (.iconst 0, 1) := dk_3 (dk_at dksX2_begin_0 10 rfl rfl)
theorem dX2_begin_11 : decode cX2_begin 11 = .ok (.iastore, 1) := dk_79 (dk_at dksX2_begin_0 11 rfl rfl)
theorem dX2_begin_12 : decode cX2_begin 12 = .ok (.aload_n 0, 1) := dk_42 (dk_at dksX2_begin_0 12 rfl rfl)
theorem dX2_begin_13 : decode cX2_begin 13 = .ok (.getfield 7, 3) := dk_180 0 7 (dk_at dksX2_begin_0 13 rfl rfl)
theorem dX2_begin_16 : decode cX2_begin 16 = .ok (.bipush 12, 2) := dk_16 12 (dk_at dksX2_begin_0 16 rfl rfl)
theorem dX2_begin_18 : decode cX2_begin 18 = .ok (.iconst 3, 1) := dk_6 (dk_at dksX2_begin_0 18 rfl rfl)
theorem dX2_begin_19 : decode cX2_begin 19 = .ok (.iload_n 1, 1) := dk_27 (dk_at dksX2_begin_0 19 rfl rfl)
theorem dX2_begin_20 : decode cX2_begin 20 = .ok (.imul, 1) := dk_104 (dk_at dksX2_begin_0 20 rfl rfl)
theorem dX2_begin_21 : decode cX2_begin 21 = .ok (.iadd, 1) := dk_96 (dk_at dksX2_begin_0 21 rfl rfl)
theorem dX2_begin_22 : decode cX2_begin 22 = .ok (.iconst 1, 1) := dk_4 (dk_at dksX2_begin_0 22 rfl rfl)
theorem dX2_begin_23 : decode cX2_begin 23 = .ok (.iadd, 1) := dk_96 (dk_at dksX2_begin_0 23 rfl rfl)
theorem dX2_begin_24 : decode cX2_begin 24 = .ok (.iconst 0, 1) := dk_3 (dk_at dksX2_begin_1 0 rfl rfl)
theorem dX2_begin_25 : decode cX2_begin 25 = .ok (.iastore, 1) := dk_79 (dk_at dksX2_begin_1 1 rfl rfl)
theorem dX2_begin_26 : decode cX2_begin 26 = .ok (.aload_n 0, 1) := dk_42 (dk_at dksX2_begin_1 2 rfl rfl)
theorem dX2_begin_27 : decode cX2_begin 27 = .ok (.getfield 7, 3) := dk_180 0 7 (dk_at dksX2_begin_1 3 rfl rfl)
theorem dX2_begin_30 : decode cX2_begin 30 = .ok (.bipush 12, 2) := dk_16 12 (dk_at dksX2_begin_1 6 rfl rfl)
theorem dX2_begin_32 : decode cX2_begin 32 = .ok (.iconst 3, 1) := dk_6 (dk_at dksX2_begin_1 8 rfl rfl)
theorem dX2_begin_33 : decode cX2_begin 33 = .ok (.iload_n 1, 1) := dk_27 (dk_at dksX2_begin_1 9 rfl rfl)
theorem dX2_begin_34 : decode cX2_begin 34 = .ok (.imul, 1) := dk_104 (dk_at dksX2_begin_1 10 rfl rfl)
theorem dX2_begin_35 : decode cX2_begin 35 = .ok (.iadd, 1) := dk_96 (dk_at dksX2_begin_1 11 rfl rfl)
theorem dX2_begin_36 : decode cX2_begin 36 = .ok (.iconst 2, 1) := dk_5 (dk_at dksX2_begin_1 12 rfl rfl)
theorem dX2_begin_37 : decode cX2_begin 37 = .ok (.iadd, 1) := dk_96 (dk_at dksX2_begin_1 13 rfl rfl)
theorem dX2_begin_38 : decode cX2_begin 38 = .ok (.aload_n 0, 1) := dk_42 (dk_at dksX2_begin_1 14 rfl rfl)
theorem dX2_begin_39 : decode cX2_begin 39 = .ok (.getfield 7, 3) := dk_180 0 7 (dk_at dksX2_begin_1 15 rfl rfl)
theorem dX2_begin_42 : decode cX2_begin 42 = .ok (.bipush 60, 2) := dk_16 60 (dk_at dksX2_begin_1 18 rfl rfl)
theorem dX2_begin_44 : decode cX2_begin 44 = .ok (.iload_n 1, 1) := dk_27 (dk_at dksX2_begin_1 20 rfl rfl)
theorem dX2_begin_45 : decode cX2_begin 45 = .ok (.iadd, 1) := dk_96 (dk_at dksX2_begin_1 21 rfl rfl)
theorem dX2_begin_46 : decode cX2_begin 46 = .ok (.iaload, 1) := dk_46 (dk_at dksX2_begin_1 22 rfl rfl)
theorem dX2_begin_47 : decode cX2_begin 47 = .ok (.iastore, 1) := dk_79 (dk_at dksX2_begin_1 23 rfl rfl)
theorem dX2_begin_48 : decode cX2_begin 48 = .ok (.return_, 1) := dk_177 (dk_at dksX2_begin_2 0 rfl rfl)
abbrev cX2_earns : ByteArray := prog_20_method_18_code
def yX2_earns : MethodName := ⟨RX2, "earns", "(I)Z"⟩
def dkwX2_earns_0 : List UInt8 := [27, 3, 16, 99, 184, 0, 81, 154, 0, 5, 3, 172, 42, 180, 0, 7, 16, 114, 27, 79, 4, 172]
abbrev dktX2_earns_0 : List UInt8 := dkwX2_earns_0 ++ []
theorem dksX2_earns_0 : cX2_earns.data.toList.drop 0 = dktX2_earns_0 := by decide +kernel
theorem dX2_earns_0 : decode cX2_earns 0 = .ok (.iload_n 1, 1) := dk_27 (dk_at dksX2_earns_0 0 rfl rfl)
theorem dX2_earns_1 : decode cX2_earns 1 = .ok (.iconst 0, 1) := dk_3 (dk_at dksX2_earns_0 1 rfl rfl)
theorem dX2_earns_2 : decode cX2_earns 2 = .ok (.bipush 99, 2) := dk_16 99 (dk_at dksX2_earns_0 2 rfl rfl)
theorem dX2_earns_4 : decode cX2_earns 4 = .ok (.invokestatic 81, 3) := dk_184 0 81 (dk_at dksX2_earns_0 4 rfl rfl)
theorem dX2_earns_7 : decode cX2_earns 7 = .ok (.ifCond .ne 5, 3) := dk_154 0 5 (dk_at dksX2_earns_0 7 rfl rfl)
theorem dX2_earns_10 : decode cX2_earns 10 = .ok (.iconst 0, 1) := dk_3 (dk_at dksX2_earns_0 10 rfl rfl)
theorem dX2_earns_11 : decode cX2_earns 11 = .ok (.ireturn, 1) := dk_172 (dk_at dksX2_earns_0 11 rfl rfl)
theorem dX2_earns_12 : decode cX2_earns 12 = .ok (.aload_n 0, 1) := dk_42 (dk_at dksX2_earns_0 12 rfl rfl)
theorem dX2_earns_13 : decode cX2_earns 13 = .ok (.getfield 7, 3) := dk_180 0 7 (dk_at dksX2_earns_0 13 rfl rfl)
theorem dX2_earns_16 : decode cX2_earns 16 = .ok (.bipush 114, 2) := dk_16 114 (dk_at dksX2_earns_0 16 rfl rfl)
theorem dX2_earns_18 : decode cX2_earns 18 = .ok (.iload_n 1, 1) := dk_27 (dk_at dksX2_earns_0 18 rfl rfl)
theorem dX2_earns_19 : decode cX2_earns 19 = .ok (.iastore, 1) := dk_79 (dk_at dksX2_earns_0 19 rfl rfl)
theorem dX2_earns_20 : decode cX2_earns 20 = .ok (.iconst 1, 1) := dk_4 (dk_at dksX2_earns_0 20 rfl rfl)
theorem dX2_earns_21 : decode cX2_earns 21 = .ok (.ireturn, 1) := dk_172 (dk_at dksX2_earns_0 21 rfl rfl)
abbrev cX2_digit : ByteArray := prog_20_method_19_code
def yX2_digit : MethodName := ⟨RX2, "digit", "(II)Z"⟩
def dkwX2_digit_1 : List UInt8 := [180, 0, 7, 16, 110, 27, 96, 28, 79, 4, 172]
abbrev dktX2_digit_1 : List UInt8 := dkwX2_digit_1 ++ []
def dkwX2_digit_0 : List UInt8 := [27, 3, 6, 184, 0, 81, 153, 0, 13, 28, 2, 16, 9, 184, 0, 81, 154, 0, 5, 3, 172, 42]
abbrev dktX2_digit_0 : List UInt8 := dkwX2_digit_0 ++ dktX2_digit_1
theorem dksX2_digit_0 : cX2_digit.data.toList.drop 0 = dktX2_digit_0 := by decide +kernel
theorem dksX2_digit_1 : cX2_digit.data.toList.drop 22 = dktX2_digit_1 := dk_seg dksX2_digit_0 22 rfl rfl
theorem dX2_digit_0 : decode cX2_digit 0 = .ok (.iload_n 1, 1) := dk_27 (dk_at dksX2_digit_0 0 rfl rfl)
theorem dX2_digit_1 : decode cX2_digit 1 = .ok (.iconst 0, 1) := dk_3 (dk_at dksX2_digit_0 1 rfl rfl)
theorem dX2_digit_2 : decode cX2_digit 2 = .ok (.iconst 3, 1) := dk_6 (dk_at dksX2_digit_0 2 rfl rfl)
theorem dX2_digit_3 : decode cX2_digit 3 = .ok (.invokestatic 81, 3) := dk_184 0 81 (dk_at dksX2_digit_0 3 rfl rfl)
theorem dX2_digit_6 : decode cX2_digit 6 = .ok (.ifCond .eq 13, 3) := dk_153 0 13 (dk_at dksX2_digit_0 6 rfl rfl)
theorem dX2_digit_9 : decode cX2_digit 9 = .ok (.iload_n 2, 1) := dk_28 (dk_at dksX2_digit_0 9 rfl rfl)
theorem dX2_digit_10 : decode cX2_digit 10 = .ok (.iconst (-1), 1) := dk_2 (dk_at dksX2_digit_0 10 rfl rfl)
theorem dX2_digit_11 : decode cX2_digit 11 = .ok (.bipush 9, 2) := dk_16 9 (dk_at dksX2_digit_0 11 rfl rfl)
theorem dX2_digit_13 : decode cX2_digit 13 = .ok (.invokestatic 81, 3) := dk_184 0 81 (dk_at dksX2_digit_0 13 rfl rfl)
theorem dX2_digit_16 : decode cX2_digit 16 = .ok (.ifCond .ne 5, 3) := dk_154 0 5 (dk_at dksX2_digit_0 16 rfl rfl)
theorem dX2_digit_19 : decode cX2_digit 19 = .ok (.iconst 0, 1) := dk_3 (dk_at dksX2_digit_0 19 rfl rfl)
theorem dX2_digit_20 : decode cX2_digit 20 = .ok (.ireturn, 1) := dk_172 (dk_at dksX2_digit_0 20 rfl rfl)
theorem dX2_digit_21 : decode cX2_digit 21 = .ok (.aload_n 0, 1) := dk_42 (dk_at dksX2_digit_0 21 rfl rfl)
theorem dX2_digit_22 : decode cX2_digit 22 = .ok (.getfield 7, 3) := dk_180 0 7 (dk_at dksX2_digit_1 0 rfl rfl)
theorem dX2_digit_25 : decode cX2_digit 25 = .ok (.bipush 110, 2) := dk_16 110 (dk_at dksX2_digit_1 3 rfl rfl)
theorem dX2_digit_27 : decode cX2_digit 27 = .ok (.iload_n 1, 1) := dk_27 (dk_at dksX2_digit_1 5 rfl rfl)
theorem dX2_digit_28 : decode cX2_digit 28 = .ok (.iadd, 1) := dk_96 (dk_at dksX2_digit_1 6 rfl rfl)
theorem dX2_digit_29 : decode cX2_digit 29 = .ok (.iload_n 2, 1) := dk_28 (dk_at dksX2_digit_1 7 rfl rfl)
theorem dX2_digit_30 : decode cX2_digit 30 = .ok (.iastore, 1) := dk_79 (dk_at dksX2_digit_1 8 rfl rfl)
theorem dX2_digit_31 : decode cX2_digit 31 = .ok (.iconst 1, 1) := dk_4 (dk_at dksX2_digit_1 9 rfl rfl)
theorem dX2_digit_32 : decode cX2_digit 32 = .ok (.ireturn, 1) := dk_172 (dk_at dksX2_digit_1 10 rfl rfl)
abbrev cX2_feed : ByteArray := prog_20_method_21_code
def yX2_feed : MethodName := ⟨RX2, "feed", "(IIIII)I"⟩
def dkwX2_feed_2 : List UInt8 := [172]
abbrev dktX2_feed_2 : List UInt8 := dkwX2_feed_2 ++ []
def dkwX2_feed_1 : List UInt8 := [182, 0, 103, 42, 29, 182, 0, 103, 42, 21, 4, 182, 0, 103, 42, 21, 5, 182, 0, 103, 42, 180, 0, 100]
abbrev dktX2_feed_1 : List UInt8 := dkwX2_feed_1 ++ dktX2_feed_2
def dkwX2_feed_0 : List UInt8 := [42, 180, 0, 100, 16, 20, 96, 17, 1, 44, 164, 0, 5, 2, 172, 42, 27, 182, 0, 103, 42, 28]
abbrev dktX2_feed_0 : List UInt8 := dkwX2_feed_0 ++ dktX2_feed_1
theorem dksX2_feed_0 : cX2_feed.data.toList.drop 0 = dktX2_feed_0 := by decide +kernel
theorem dksX2_feed_1 : cX2_feed.data.toList.drop 22 = dktX2_feed_1 := dk_seg dksX2_feed_0 22 rfl rfl
theorem dksX2_feed_2 : cX2_feed.data.toList.drop 46 = dktX2_feed_2 := dk_seg dksX2_feed_1 24 rfl rfl
theorem dX2_feed_0 : decode cX2_feed 0 = .ok (.aload_n 0, 1) := dk_42 (dk_at dksX2_feed_0 0 rfl rfl)
theorem dX2_feed_1 : decode cX2_feed 1 = .ok (.getfield 100, 3) := dk_180 0 100 (dk_at dksX2_feed_0 1 rfl rfl)
theorem dX2_feed_4 : decode cX2_feed 4 = .ok (.bipush 20, 2) := dk_16 20 (dk_at dksX2_feed_0 4 rfl rfl)
theorem dX2_feed_6 : decode cX2_feed 6 = .ok (.iadd, 1) := dk_96 (dk_at dksX2_feed_0 6 rfl rfl)
theorem dX2_feed_7 : decode cX2_feed 7 = .ok (.sipush 300, 3) := dk_17 1 44 (dk_at dksX2_feed_0 7 rfl rfl)
theorem dX2_feed_10 : decode cX2_feed 10 = .ok (.if_icmp .le 5, 3) := dk_164 0 5 (dk_at dksX2_feed_0 10 rfl rfl)
theorem dX2_feed_13 : decode cX2_feed 13 = .ok (.iconst (-1), 1) := dk_2 (dk_at dksX2_feed_0 13 rfl rfl)
theorem dX2_feed_14 : decode cX2_feed 14 = .ok (.ireturn, 1) := dk_172 (dk_at dksX2_feed_0 14 rfl rfl)
theorem dX2_feed_15 : decode cX2_feed 15 = .ok (.aload_n 0, 1) := dk_42 (dk_at dksX2_feed_0 15 rfl rfl)
theorem dX2_feed_16 : decode cX2_feed 16 = .ok (.iload_n 1, 1) := dk_27 (dk_at dksX2_feed_0 16 rfl rfl)
theorem dX2_feed_17 : decode cX2_feed 17 = .ok (.invokevirtual 103, 3) := dk_182 0 103 (dk_at dksX2_feed_0 17 rfl rfl)
theorem dX2_feed_20 : decode cX2_feed 20 = .ok (.aload_n 0, 1) := dk_42 (dk_at dksX2_feed_0 20 rfl rfl)
theorem dX2_feed_21 : decode cX2_feed 21 = .ok (.iload_n 2, 1) := dk_28 (dk_at dksX2_feed_0 21 rfl rfl)
theorem dX2_feed_22 : decode cX2_feed 22 = .ok (.invokevirtual 103, 3) := dk_182 0 103 (dk_at dksX2_feed_1 0 rfl rfl)
theorem dX2_feed_25 : decode cX2_feed 25 = .ok (.aload_n 0, 1) := dk_42 (dk_at dksX2_feed_1 3 rfl rfl)
theorem dX2_feed_26 : decode cX2_feed 26 = .ok (.iload_n 3, 1) := dk_29 (dk_at dksX2_feed_1 4 rfl rfl)
theorem dX2_feed_27 : decode cX2_feed 27 = .ok (.invokevirtual 103, 3) := dk_182 0 103 (dk_at dksX2_feed_1 5 rfl rfl)
theorem dX2_feed_30 : decode cX2_feed 30 = .ok (.aload_n 0, 1) := dk_42 (dk_at dksX2_feed_1 8 rfl rfl)
theorem dX2_feed_31 : decode cX2_feed 31 = .ok (.iload 4, 2) := dk_21 4 (dk_at dksX2_feed_1 9 rfl rfl)
theorem dX2_feed_33 : decode cX2_feed 33 = .ok (.invokevirtual 103, 3) := dk_182 0 103 (dk_at dksX2_feed_1 11 rfl rfl)
theorem dX2_feed_36 : decode cX2_feed 36 = .ok (.aload_n 0, 1) := dk_42 (dk_at dksX2_feed_1 14 rfl rfl)
theorem dX2_feed_37 : decode cX2_feed 37 = .ok (.iload 5, 2) := dk_21 5 (dk_at dksX2_feed_1 15 rfl rfl)
theorem dX2_feed_39 : decode cX2_feed 39 = .ok (.invokevirtual 103, 3) := dk_182 0 103 (dk_at dksX2_feed_1 17 rfl rfl)
theorem dX2_feed_42 : decode cX2_feed 42 = .ok (.aload_n 0, 1) := dk_42 (dk_at dksX2_feed_1 20 rfl rfl)
theorem dX2_feed_43 : decode cX2_feed 43 = .ok (.getfield 100, 3) := dk_180 0 100 (dk_at dksX2_feed_1 21 rfl rfl)
theorem dX2_feed_46 : decode cX2_feed 46 = .ok (.ireturn, 1) := dk_172 (dk_at dksX2_feed_2 0 rfl rfl)
abbrev cX2_four : ByteArray := prog_20_method_20_code
def yX2_four : MethodName := ⟨RX2, "four", "(I)V"⟩
def dkwX2_four_1 : List UInt8 := [89, 180, 0, 100, 4, 96, 181, 0, 100, 132, 2, 248, 167, 255, 223, 177]
abbrev dktX2_four_1 : List UInt8 := dkwX2_four_1 ++ []
def dkwX2_four_0 : List UInt8 := [16, 24, 61, 28, 155, 0, 35, 42, 180, 0, 19, 42, 180, 0, 100, 27, 28, 122, 17, 0, 255, 126, 79, 42]
abbrev dktX2_four_0 : List UInt8 := dkwX2_four_0 ++ dktX2_four_1
theorem dksX2_four_0 : cX2_four.data.toList.drop 0 = dktX2_four_0 := by decide +kernel
theorem dksX2_four_1 : cX2_four.data.toList.drop 24 = dktX2_four_1 := dk_seg dksX2_four_0 24 rfl rfl
theorem dX2_four_0 : decode cX2_four 0 = .ok (.bipush 24, 2) := dk_16 24 (dk_at dksX2_four_0 0 rfl rfl)
theorem dX2_four_2 : decode cX2_four 2 = .ok (.istore_n 2, 1) := dk_61 (dk_at dksX2_four_0 2 rfl rfl)
theorem dX2_four_3 : decode cX2_four 3 = .ok (.iload_n 2, 1) := dk_28 (dk_at dksX2_four_0 3 rfl rfl)
theorem dX2_four_4 : decode cX2_four 4 = .ok (.ifCond .lt 35, 3) := dk_155 0 35 (dk_at dksX2_four_0 4 rfl rfl)
theorem dX2_four_7 : decode cX2_four 7 = .ok (.aload_n 0, 1) := dk_42 (dk_at dksX2_four_0 7 rfl rfl)
theorem dX2_four_8 : decode cX2_four 8 = .ok (.getfield 19, 3) := dk_180 0 19 (dk_at dksX2_four_0 8 rfl rfl)
theorem dX2_four_11 : decode cX2_four 11 = .ok (.aload_n 0, 1) := dk_42 (dk_at dksX2_four_0 11 rfl rfl)
theorem dX2_four_12 : decode cX2_four 12 = .ok (.getfield 100, 3) := dk_180 0 100 (dk_at dksX2_four_0 12 rfl rfl)
theorem dX2_four_15 : decode cX2_four 15 = .ok (.iload_n 1, 1) := dk_27 (dk_at dksX2_four_0 15 rfl rfl)
theorem dX2_four_16 : decode cX2_four 16 = .ok (.iload_n 2, 1) := dk_28 (dk_at dksX2_four_0 16 rfl rfl)
theorem dX2_four_17 : decode cX2_four 17 = .ok (.ishr, 1) := dk_122 (dk_at dksX2_four_0 17 rfl rfl)
theorem dX2_four_18 : decode cX2_four 18 = .ok (.sipush 255, 3) := dk_17 0 255 (dk_at dksX2_four_0 18 rfl rfl)
theorem dX2_four_21 : decode cX2_four 21 = .ok (.iand, 1) := dk_126 (dk_at dksX2_four_0 21 rfl rfl)
theorem dX2_four_22 : decode cX2_four 22 = .ok (.iastore, 1) := dk_79 (dk_at dksX2_four_0 22 rfl rfl)
theorem dX2_four_23 : decode cX2_four 23 = .ok (.aload_n 0, 1) := dk_42 (dk_at dksX2_four_0 23 rfl rfl)
theorem dX2_four_24 : decode cX2_four 24 = .ok (.dup, 1) := dk_89 (dk_at dksX2_four_1 0 rfl rfl)
theorem dX2_four_25 : decode cX2_four 25 = .ok (.getfield 100, 3) := dk_180 0 100 (dk_at dksX2_four_1 1 rfl rfl)
theorem dX2_four_28 : decode cX2_four 28 = .ok (.iconst 1, 1) := dk_4 (dk_at dksX2_four_1 4 rfl rfl)
theorem dX2_four_29 : decode cX2_four 29 = .ok (.iadd, 1) := dk_96 (dk_at dksX2_four_1 5 rfl rfl)
theorem dX2_four_30 : decode cX2_four 30 = .ok (.putfield 100, 3) := dk_181 0 100 (dk_at dksX2_four_1 6 rfl rfl)
theorem dX2_four_33 : decode cX2_four 33 = .ok (.iinc 2 (-8), 3) := dk_132 2 248 (dk_at dksX2_four_1 9 rfl rfl)
theorem dX2_four_36 : decode cX2_four 36 = .ok (.goto (-33), 3) := dk_167 255 223 (dk_at dksX2_four_1 12 rfl rfl)
theorem dX2_four_39 : decode cX2_four 39 = .ok (.return_, 1) := dk_177 (dk_at dksX2_four_1 15 rfl rfl)
abbrev cX2_end : ByteArray := prog_20_method_22_code
def yX2_end : MethodName := ⟨RX2, "end", "(I)I"⟩
def dkwX2_end_0 : List UInt8 := [27, 3, 42, 180, 0, 100, 184, 0, 81, 154, 0, 5, 2, 172, 42, 27, 181, 0, 100, 27, 172]
abbrev dktX2_end_0 : List UInt8 := dkwX2_end_0 ++ []
theorem dksX2_end_0 : cX2_end.data.toList.drop 0 = dktX2_end_0 := by decide +kernel
theorem dX2_end_0 : decode cX2_end 0 = .ok (.iload_n 1, 1) := dk_27 (dk_at dksX2_end_0 0 rfl rfl)
theorem dX2_end_1 : decode cX2_end 1 = .ok (.iconst 0, 1) := dk_3 (dk_at dksX2_end_0 1 rfl rfl)
theorem dX2_end_2 : decode cX2_end 2 = .ok (.aload_n 0, 1) := dk_42 (dk_at dksX2_end_0 2 rfl rfl)
theorem dX2_end_3 : decode cX2_end 3 = .ok (.getfield 100, 3) := dk_180 0 100 (dk_at dksX2_end_0 3 rfl rfl)
theorem dX2_end_6 : decode cX2_end 6 = .ok (.invokestatic 81, 3) := dk_184 0 81 (dk_at dksX2_end_0 6 rfl rfl)
theorem dX2_end_9 : decode cX2_end 9 = .ok (.ifCond .ne 5, 3) := dk_154 0 5 (dk_at dksX2_end_0 9 rfl rfl)
theorem dX2_end_12 : decode cX2_end 12 = .ok (.iconst (-1), 1) := dk_2 (dk_at dksX2_end_0 12 rfl rfl)
theorem dX2_end_13 : decode cX2_end 13 = .ok (.ireturn, 1) := dk_172 (dk_at dksX2_end_0 13 rfl rfl)
theorem dX2_end_14 : decode cX2_end 14 = .ok (.aload_n 0, 1) := dk_42 (dk_at dksX2_end_0 14 rfl rfl)
theorem dX2_end_15 : decode cX2_end 15 = .ok (.iload_n 1, 1) := dk_27 (dk_at dksX2_end_0 15 rfl rfl)
theorem dX2_end_16 : decode cX2_end 16 = .ok (.putfield 100, 3) := dk_181 0 100 (dk_at dksX2_end_0 16 rfl rfl)
theorem dX2_end_19 : decode cX2_end 19 = .ok (.iload_n 1, 1) := dk_27 (dk_at dksX2_end_0 19 rfl rfl)
theorem dX2_end_20 : decode cX2_end 20 = .ok (.ireturn, 1) := dk_172 (dk_at dksX2_end_0 20 rfl rfl)
abbrev cX2_text : ByteArray := prog_20_method_60_code
def yX2_text : MethodName := ⟨RX2, "text", "()I"⟩
def dkwX2_text_3 : List UInt8 := [4, 100, 172]
abbrev dktX2_text_3 : List UInt8 := dkwX2_text_3 ++ []
def dkwX2_text_2 : List UInt8 := [180, 0, 22, 153, 0, 5, 2, 172, 42, 180, 0, 7, 4, 92, 46, 4, 96, 79, 42, 180, 0, 7, 4, 46]
abbrev dktX2_text_2 : List UInt8 := dkwX2_text_2 ++ dktX2_text_3
def dkwX2_text_1 : List UInt8 := [180, 0, 22, 154, 0, 7, 2, 167, 0, 7, 42, 180, 0, 112, 181, 0, 26, 42, 3, 181, 0, 100, 42]
abbrev dktX2_text_1 : List UInt8 := dkwX2_text_1 ++ dktX2_text_2
def dkwX2_text_0 : List UInt8 := [42, 180, 0, 7, 4, 46, 7, 160, 0, 5, 2, 172, 42, 42, 182, 1, 14, 181, 0, 22, 42, 42]
abbrev dktX2_text_0 : List UInt8 := dkwX2_text_0 ++ dktX2_text_1
theorem dksX2_text_0 : cX2_text.data.toList.drop 0 = dktX2_text_0 := by decide +kernel
theorem dksX2_text_1 : cX2_text.data.toList.drop 22 = dktX2_text_1 := dk_seg dksX2_text_0 22 rfl rfl
theorem dksX2_text_2 : cX2_text.data.toList.drop 45 = dktX2_text_2 := dk_seg dksX2_text_1 23 rfl rfl
theorem dksX2_text_3 : cX2_text.data.toList.drop 69 = dktX2_text_3 := dk_seg dksX2_text_2 24 rfl rfl
theorem dX2_text_0 : decode cX2_text 0 = .ok (.aload_n 0, 1) := dk_42 (dk_at dksX2_text_0 0 rfl rfl)
theorem dX2_text_1 : decode cX2_text 1 = .ok (.getfield 7, 3) := dk_180 0 7 (dk_at dksX2_text_0 1 rfl rfl)
theorem dX2_text_4 : decode cX2_text 4 = .ok (.iconst 1, 1) := dk_4 (dk_at dksX2_text_0 4 rfl rfl)
theorem dX2_text_5 : decode cX2_text 5 = .ok (.iaload, 1) := dk_46 (dk_at dksX2_text_0 5 rfl rfl)
theorem dX2_text_6 : decode cX2_text 6 = .ok (.iconst 4, 1) := dk_7 (dk_at dksX2_text_0 6 rfl rfl)
theorem dX2_text_7 : decode cX2_text 7 = .ok (.if_icmp .ne 5, 3) := dk_160 0 5 (dk_at dksX2_text_0 7 rfl rfl)
theorem dX2_text_10 : decode cX2_text 10 = .ok (.iconst (-1), 1) := dk_2 (dk_at dksX2_text_0 10 rfl rfl)
theorem dX2_text_11 : decode cX2_text 11 = .ok (.ireturn, 1) := dk_172 (dk_at dksX2_text_0 11 rfl rfl)
theorem dX2_text_12 : decode cX2_text 12 = .ok (.aload_n 0, 1) := dk_42 (dk_at dksX2_text_0 12 rfl rfl)
theorem dX2_text_13 : decode cX2_text 13 = .ok (.aload_n 0, 1) := dk_42 (dk_at dksX2_text_0 13 rfl rfl)
theorem dX2_text_14 : decode cX2_text 14 = .ok (.invokevirtual 270, 3) := dk_182 1 14 (dk_at dksX2_text_0 14 rfl rfl)
theorem dX2_text_17 : decode cX2_text 17 = .ok (.putfield 22, 3) := dk_181 0 22 (dk_at dksX2_text_0 17 rfl rfl)
theorem dX2_text_20 : decode cX2_text 20 = .ok (.aload_n 0, 1) := dk_42 (dk_at dksX2_text_0 20 rfl rfl)
theorem dX2_text_21 : decode cX2_text 21 = .ok (.aload_n 0, 1) := dk_42 (dk_at dksX2_text_0 21 rfl rfl)
theorem dX2_text_22 : decode cX2_text 22 = .ok (.getfield 22, 3) := dk_180 0 22 (dk_at dksX2_text_1 0 rfl rfl)
theorem dX2_text_25 : decode cX2_text 25 = .ok (.ifCond .ne 7, 3) := dk_154 0 7 (dk_at dksX2_text_1 3 rfl rfl)
theorem dX2_text_28 : decode cX2_text 28 = .ok (.iconst (-1), 1) := dk_2 (dk_at dksX2_text_1 6 rfl rfl)
theorem dX2_text_29 : decode cX2_text 29 = .ok (.goto 7, 3) := dk_167 0 7 (dk_at dksX2_text_1 7 rfl rfl)
theorem dX2_text_32 : decode cX2_text 32 = .ok (.aload_n 0, 1) := dk_42 (dk_at dksX2_text_1 10 rfl rfl)
theorem dX2_text_33 : decode cX2_text 33 = .ok (.getfield 112, 3) := dk_180 0 112 (dk_at dksX2_text_1 11 rfl rfl)
theorem dX2_text_36 : decode cX2_text 36 = .ok (.putfield 26, 3) := dk_181 0 26 (dk_at dksX2_text_1 14 rfl rfl)
theorem dX2_text_39 : decode cX2_text 39 = .ok (.aload_n 0, 1) := dk_42 (dk_at dksX2_text_1 17 rfl rfl)
theorem dX2_text_40 : decode cX2_text 40 = .ok (.iconst 0, 1) := dk_3 (dk_at dksX2_text_1 18 rfl rfl)
theorem dX2_text_41 : decode cX2_text 41 = .ok (.putfield 100, 3) := dk_181 0 100 (dk_at dksX2_text_1 19 rfl rfl)
theorem dX2_text_44 : decode cX2_text 44 = .ok (.aload_n 0, 1) := dk_42 (dk_at dksX2_text_1 22 rfl rfl)
theorem dX2_text_45 : decode cX2_text 45 = .ok (.getfield 22, 3) := dk_180 0 22 (dk_at dksX2_text_2 0 rfl rfl)
theorem dX2_text_48 : decode cX2_text 48 = .ok (.ifCond .eq 5, 3) := dk_153 0 5 (dk_at dksX2_text_2 3 rfl rfl)
theorem dX2_text_51 : decode cX2_text 51 = .ok (.iconst (-1), 1) := dk_2 (dk_at dksX2_text_2 6 rfl rfl)
theorem dX2_text_52 : decode cX2_text 52 = .ok (.ireturn, 1) := dk_172 (dk_at dksX2_text_2 7 rfl rfl)
theorem dX2_text_53 : decode cX2_text 53 = .ok (.aload_n 0, 1) := dk_42 (dk_at dksX2_text_2 8 rfl rfl)
theorem dX2_text_54 : decode cX2_text 54 = .ok (.getfield 7, 3) := dk_180 0 7 (dk_at dksX2_text_2 9 rfl rfl)
theorem dX2_text_57 : decode cX2_text 57 = .ok (.iconst 1, 1) := dk_4 (dk_at dksX2_text_2 12 rfl rfl)
theorem dX2_text_58 : decode cX2_text 58 = .ok (.dup2, 1) := dk_92 (dk_at dksX2_text_2 13 rfl rfl)
theorem dX2_text_59 : decode cX2_text 59 = .ok (.iaload, 1) := dk_46 (dk_at dksX2_text_2 14 rfl rfl)
theorem dX2_text_60 : decode cX2_text 60 = .ok (.iconst 1, 1) := dk_4 (dk_at dksX2_text_2 15 rfl rfl)
theorem dX2_text_61 : decode cX2_text 61 = .ok (.iadd, 1) := dk_96 (dk_at dksX2_text_2 16 rfl rfl)
theorem dX2_text_62 : decode cX2_text 62 = .ok (.iastore, 1) := dk_79 (dk_at dksX2_text_2 17 rfl rfl)
theorem dX2_text_63 : decode cX2_text 63 = .ok (.aload_n 0, 1) := dk_42 (dk_at dksX2_text_2 18 rfl rfl)
theorem dX2_text_64 : decode cX2_text 64 = .ok (.getfield 7, 3) := dk_180 0 7 (dk_at dksX2_text_2 19 rfl rfl)
theorem dX2_text_67 : decode cX2_text 67 = .ok (.iconst 1, 1) := dk_4 (dk_at dksX2_text_2 22 rfl rfl)
theorem dX2_text_68 : decode cX2_text 68 = .ok (.iaload, 1) := dk_46 (dk_at dksX2_text_2 23 rfl rfl)
theorem dX2_text_69 : decode cX2_text 69 = .ok (.iconst 1, 1) := dk_4 (dk_at dksX2_text_3 0 rfl rfl)
theorem dX2_text_70 : decode cX2_text 70 = .ok (.isub, 1) := dk_100 (dk_at dksX2_text_3 1 rfl rfl)
theorem dX2_text_71 : decode cX2_text 71 = .ok (.ireturn, 1) := dk_172 (dk_at dksX2_text_3 2 rfl rfl)
abbrev cX2_readText : ByteArray := prog_20_method_59_code
def yX2_readText : MethodName := ⟨RX2, "readText", "()I"⟩
def dkwX2_readText_2 : List UInt8 := [153, 0, 17, 42, 182, 1, 11, 60, 27, 153, 0, 5, 27, 172, 167, 255, 238, 3, 172]
abbrev dktX2_readText_2 : List UInt8 := dkwX2_readText_2 ++ []
def dkwX2_readText_1 : List UInt8 := [42, 3, 181, 0, 156, 42, 3, 181, 1, 0, 42, 3, 181, 0, 106, 42, 182, 0, 186, 42, 180, 0, 115]
abbrev dktX2_readText_1 : List UInt8 := dkwX2_readText_1 ++ dktX2_readText_2
def dkwX2_readText_0 : List UInt8 := [42, 17, 2, 193, 42, 180, 0, 7, 4, 46, 104, 181, 0, 153, 42, 180, 0, 16, 42, 180, 0, 153, 3, 79]
abbrev dktX2_readText_0 : List UInt8 := dkwX2_readText_0 ++ dktX2_readText_1
theorem dksX2_readText_0 : cX2_readText.data.toList.drop 0 = dktX2_readText_0 := by decide +kernel
theorem dksX2_readText_1 : cX2_readText.data.toList.drop 24 = dktX2_readText_1 := dk_seg dksX2_readText_0 24 rfl rfl
theorem dksX2_readText_2 : cX2_readText.data.toList.drop 47 = dktX2_readText_2 := dk_seg dksX2_readText_1 23 rfl rfl
theorem dX2_readText_0 : decode cX2_readText 0 = .ok (.aload_n 0, 1) := dk_42 (dk_at dksX2_readText_0 0 rfl rfl)
theorem dX2_readText_1 : decode cX2_readText 1 = .ok (.sipush 705, 3) := dk_17 2 193 (dk_at dksX2_readText_0 1 rfl rfl)
theorem dX2_readText_4 : decode cX2_readText 4 = .ok (.aload_n 0, 1) := dk_42 (dk_at dksX2_readText_0 4 rfl rfl)
theorem dX2_readText_5 : decode cX2_readText 5 = .ok (.getfield 7, 3) := dk_180 0 7 (dk_at dksX2_readText_0 5 rfl rfl)
theorem dX2_readText_8 : decode cX2_readText 8 = .ok (.iconst 1, 1) := dk_4 (dk_at dksX2_readText_0 8 rfl rfl)
theorem dX2_readText_9 : decode cX2_readText 9 = .ok (.iaload, 1) := dk_46 (dk_at dksX2_readText_0 9 rfl rfl)
theorem dX2_readText_10 : decode cX2_readText 10 = .ok (.imul, 1) := dk_104 (dk_at dksX2_readText_0 10 rfl rfl)
theorem dX2_readText_11 : decode cX2_readText 11 = .ok (.putfield 153, 3) := dk_181 0 153 (dk_at dksX2_readText_0 11 rfl rfl)
theorem dX2_readText_14 : decode cX2_readText 14 = .ok (.aload_n 0, 1) := dk_42 (dk_at dksX2_readText_0 14 rfl rfl)
theorem dX2_readText_15 : decode cX2_readText 15 = .ok (.getfield 16, 3) := dk_180 0 16 (dk_at dksX2_readText_0 15 rfl rfl)
theorem dX2_readText_18 : decode cX2_readText 18 = .ok (.aload_n 0, 1) := dk_42 (dk_at dksX2_readText_0 18 rfl rfl)
theorem dX2_readText_19 : decode cX2_readText 19 = .ok (.getfield 153, 3) := dk_180 0 153 (dk_at dksX2_readText_0 19 rfl rfl)
theorem dX2_readText_22 : decode cX2_readText 22 = .ok (.iconst 0, 1) := dk_3 (dk_at dksX2_readText_0 22 rfl rfl)
theorem dX2_readText_23 : decode cX2_readText 23 = .ok (.iastore, 1) := dk_79 (dk_at dksX2_readText_0 23 rfl rfl)
theorem dX2_readText_24 : decode cX2_readText 24 = .ok (.aload_n 0, 1) := dk_42 (dk_at dksX2_readText_1 0 rfl rfl)
theorem dX2_readText_25 : decode cX2_readText 25 = .ok (.iconst 0, 1) := dk_3 (dk_at dksX2_readText_1 1 rfl rfl)
theorem dX2_readText_26 : decode cX2_readText 26 = .ok (.putfield 156, 3) := dk_181 0 156 (dk_at dksX2_readText_1 2 rfl rfl)
theorem dX2_readText_29 : decode cX2_readText 29 = .ok (.aload_n 0, 1) := dk_42 (dk_at dksX2_readText_1 5 rfl rfl)
theorem dX2_readText_30 : decode cX2_readText 30 = .ok (.iconst 0, 1) := dk_3 (dk_at dksX2_readText_1 6 rfl rfl)
theorem dX2_readText_31 : decode cX2_readText 31 = .ok (.putfield 256, 3) := dk_181 1 0 (dk_at dksX2_readText_1 7 rfl rfl)
theorem dX2_readText_34 : decode cX2_readText 34 = .ok (.aload_n 0, 1) := dk_42 (dk_at dksX2_readText_1 10 rfl rfl)
theorem dX2_readText_35 : decode cX2_readText 35 = .ok (.iconst 0, 1) := dk_3 (dk_at dksX2_readText_1 11 rfl rfl)
theorem dX2_readText_36 : decode cX2_readText 36 = .ok (.putfield 106, 3) := dk_181 0 106 (dk_at dksX2_readText_1 12 rfl rfl)
theorem dX2_readText_39 : decode cX2_readText 39 = .ok (.aload_n 0, 1) := dk_42 (dk_at dksX2_readText_1 15 rfl rfl)
theorem dX2_readText_40 : decode cX2_readText 40 = .ok (.invokevirtual 186, 3) := dk_182 0 186 (dk_at dksX2_readText_1 16 rfl rfl)
theorem dX2_readText_43 : decode cX2_readText 43 = .ok (.aload_n 0, 1) := dk_42 (dk_at dksX2_readText_1 19 rfl rfl)
theorem dX2_readText_44 : decode cX2_readText 44 = .ok (.getfield 115, 3) := dk_180 0 115 (dk_at dksX2_readText_1 20 rfl rfl)
theorem dX2_readText_47 : decode cX2_readText 47 = .ok (.ifCond .eq 17, 3) := dk_153 0 17 (dk_at dksX2_readText_2 0 rfl rfl)
theorem dX2_readText_50 : decode cX2_readText 50 = .ok (.aload_n 0, 1) := dk_42 (dk_at dksX2_readText_2 3 rfl rfl)
theorem dX2_readText_51 : decode cX2_readText 51 = .ok (.invokevirtual 267, 3) := dk_182 1 11 (dk_at dksX2_readText_2 4 rfl rfl)
theorem dX2_readText_54 : decode cX2_readText 54 = .ok (.istore_n 1, 1) := dk_60 (dk_at dksX2_readText_2 7 rfl rfl)
theorem dX2_readText_55 : decode cX2_readText 55 = .ok (.iload_n 1, 1) := dk_27 (dk_at dksX2_readText_2 8 rfl rfl)
theorem dX2_readText_56 : decode cX2_readText 56 = .ok (.ifCond .eq 5, 3) := dk_153 0 5 (dk_at dksX2_readText_2 9 rfl rfl)
theorem dX2_readText_59 : decode cX2_readText 59 = .ok (.iload_n 1, 1) := dk_27 (dk_at dksX2_readText_2 12 rfl rfl)
theorem dX2_readText_60 : decode cX2_readText 60 = .ok (.ireturn, 1) := dk_172 (dk_at dksX2_readText_2 13 rfl rfl)
theorem dX2_readText_61 : decode cX2_readText 61 = .ok (.goto (-18), 3) := dk_167 255 238 (dk_at dksX2_readText_2 14 rfl rfl)
theorem dX2_readText_64 : decode cX2_readText 64 = .ok (.iconst 0, 1) := dk_3 (dk_at dksX2_readText_2 17 rfl rfl)
theorem dX2_readText_65 : decode cX2_readText 65 = .ok (.ireturn, 1) := dk_172 (dk_at dksX2_readText_2 18 rfl rfl)
abbrev cX2_nextToken : ByteArray := prog_20_method_27_code
def yX2_nextToken : MethodName := ⟨RX2, "nextToken", "()V"⟩
def dkwX2_nextToken_13 : List UInt8 := [180, 0, 106, 4, 96, 181, 0, 106, 177]
abbrev dktX2_nextToken_13 : List UInt8 := dkwX2_nextToken_13 ++ []
def dkwX2_nextToken_12 : List UInt8 := [16, 61, 160, 0, 28, 42, 27, 16, 60, 160, 0, 7, 7, 167, 0, 4, 8, 181, 0, 115, 42, 89]
abbrev dktX2_nextToken_12 : List UInt8 := dkwX2_nextToken_12 ++ dktX2_nextToken_13
def dkwX2_nextToken_11 : List UInt8 := [181, 0, 106, 27, 16, 60, 159, 0, 9, 27, 16, 62, 160, 0, 41, 42, 42, 180, 0, 106, 182, 0, 109]
abbrev dktX2_nextToken_11 : List UInt8 := dkwX2_nextToken_11 ++ dktX2_nextToken_12
def dkwX2_nextToken_10 : List UInt8 := [42, 27, 184, 0, 134, 153, 0, 7, 27, 167, 0, 4, 6, 181, 0, 115, 42, 89, 180, 0, 106, 4, 96]
abbrev dktX2_nextToken_10 : List UInt8 := dkwX2_nextToken_10 ++ dktX2_nextToken_11
def dkwX2_nextToken_9 : List UInt8 := [180, 0, 106, 182, 0, 109, 133, 129, 181, 0, 128, 42, 89, 180, 0, 106, 4, 96, 181, 0, 106, 167, 255, 193]
abbrev dktX2_nextToken_9 : List UInt8 := dkwX2_nextToken_9 ++ dktX2_nextToken_10
def dkwX2_nextToken_8 : List UInt8 := [16, 48, 123, 9, 148, 153, 0, 9, 20, 0, 132, 167, 0, 20, 42, 180, 0, 128, 16, 8, 121, 42, 42]
abbrev dktX2_nextToken_8 : List UInt8 := dkwX2_nextToken_8 ++ dktX2_nextToken_9
def dkwX2_nextToken_7 : List UInt8 := [9, 181, 0, 128, 42, 42, 180, 0, 106, 182, 0, 109, 184, 0, 125, 153, 0, 131, 42, 42, 180, 0, 128]
abbrev dktX2_nextToken_7 : List UInt8 := dkwX2_nextToken_7 ++ dktX2_nextToken_8
def dkwX2_nextToken_6 : List UInt8 := [180, 0, 106, 4, 96, 181, 0, 106, 167, 255, 193, 27, 184, 0, 125, 153, 0, 79, 42, 5, 181, 0, 115, 42]
abbrev dktX2_nextToken_6 : List UInt8 := dkwX2_nextToken_6 ++ dktX2_nextToken_7
def dkwX2_nextToken_5 : List UInt8 := [16, 10, 42, 180, 0, 121, 104, 42, 42, 180, 0, 106, 182, 0, 109, 96, 16, 48, 100, 181, 0, 121, 42, 89]
abbrev dktX2_nextToken_5 : List UInt8 := dkwX2_nextToken_5 ++ dktX2_nextToken_6
def dkwX2_nextToken_4 : List UInt8 := [184, 0, 118, 153, 0, 214, 42, 42, 180, 0, 121, 18, 124, 164, 0, 10, 42, 180, 0, 121, 167, 0, 22]
abbrev dktX2_nextToken_4 : List UInt8 := dkwX2_nextToken_4 ++ dktX2_nextToken_5
def dkwX2_nextToken_3 : List UInt8 := [184, 0, 118, 153, 0, 79, 42, 4, 181, 0, 115, 42, 3, 181, 0, 121, 42, 42, 180, 0, 106, 182, 0, 109]
abbrev dktX2_nextToken_3 : List UInt8 := dkwX2_nextToken_3 ++ dktX2_nextToken_4
def dkwX2_nextToken_2 : List UInt8 := [42, 42, 180, 0, 106, 182, 0, 109, 60, 27, 156, 0, 11, 42, 3, 181, 0, 115, 167, 0, 245, 27]
abbrev dktX2_nextToken_2 : List UInt8 := dkwX2_nextToken_2 ++ dktX2_nextToken_3
def dkwX2_nextToken_1 : List UInt8 := [160, 0, 16, 42, 89, 180, 0, 106, 4, 96, 181, 0, 106, 167, 255, 220, 42, 42, 180, 0, 106, 181, 0, 112]
abbrev dktX2_nextToken_1 : List UInt8 := dkwX2_nextToken_1 ++ dktX2_nextToken_2
def dkwX2_nextToken_0 : List UInt8 := [42, 42, 180, 0, 106, 182, 0, 109, 16, 32, 159, 0, 16, 42, 42, 180, 0, 106, 182, 0, 109, 16, 10]
abbrev dktX2_nextToken_0 : List UInt8 := dkwX2_nextToken_0 ++ dktX2_nextToken_1
theorem dksX2_nextToken_0 : cX2_nextToken.data.toList.drop 0 = dktX2_nextToken_0 := by decide +kernel
theorem dksX2_nextToken_1 : cX2_nextToken.data.toList.drop 23 = dktX2_nextToken_1 := dk_seg dksX2_nextToken_0 23 rfl rfl
theorem dksX2_nextToken_2 : cX2_nextToken.data.toList.drop 47 = dktX2_nextToken_2 := dk_seg dksX2_nextToken_1 24 rfl rfl
theorem dksX2_nextToken_3 : cX2_nextToken.data.toList.drop 69 = dktX2_nextToken_3 := dk_seg dksX2_nextToken_2 22 rfl rfl
theorem dksX2_nextToken_4 : cX2_nextToken.data.toList.drop 93 = dktX2_nextToken_4 := dk_seg dksX2_nextToken_3 24 rfl rfl
theorem dksX2_nextToken_5 : cX2_nextToken.data.toList.drop 116 = dktX2_nextToken_5 := dk_seg dksX2_nextToken_4 23 rfl rfl
theorem dksX2_nextToken_6 : cX2_nextToken.data.toList.drop 140 = dktX2_nextToken_6 := dk_seg dksX2_nextToken_5 24 rfl rfl
theorem dksX2_nextToken_7 : cX2_nextToken.data.toList.drop 164 = dktX2_nextToken_7 := dk_seg dksX2_nextToken_6 24 rfl rfl
theorem dksX2_nextToken_8 : cX2_nextToken.data.toList.drop 187 = dktX2_nextToken_8 := dk_seg dksX2_nextToken_7 23 rfl rfl
theorem dksX2_nextToken_9 : cX2_nextToken.data.toList.drop 210 = dktX2_nextToken_9 := dk_seg dksX2_nextToken_8 23 rfl rfl
theorem dksX2_nextToken_10 : cX2_nextToken.data.toList.drop 234 = dktX2_nextToken_10 := dk_seg dksX2_nextToken_9 24 rfl rfl
theorem dksX2_nextToken_11 : cX2_nextToken.data.toList.drop 257 = dktX2_nextToken_11 := dk_seg dksX2_nextToken_10 23 rfl rfl
theorem dksX2_nextToken_12 : cX2_nextToken.data.toList.drop 280 = dktX2_nextToken_12 := dk_seg dksX2_nextToken_11 23 rfl rfl
theorem dksX2_nextToken_13 : cX2_nextToken.data.toList.drop 302 = dktX2_nextToken_13 := dk_seg dksX2_nextToken_12 22 rfl rfl
theorem dX2_nextToken_0 : decode cX2_nextToken 0 = .ok (.aload_n 0, 1) := dk_42 (dk_at dksX2_nextToken_0 0 rfl rfl)
theorem dX2_nextToken_1 : decode cX2_nextToken 1 = .ok (.aload_n 0, 1) := dk_42 (dk_at dksX2_nextToken_0 1 rfl rfl)
theorem dX2_nextToken_2 : decode cX2_nextToken 2 = .ok (.getfield 106, 3) := dk_180 0 106 (dk_at dksX2_nextToken_0 2 rfl rfl)
theorem dX2_nextToken_5 : decode cX2_nextToken 5 = .ok (.invokevirtual 109, 3) := dk_182 0 109 (dk_at dksX2_nextToken_0 5 rfl rfl)
theorem dX2_nextToken_8 : decode cX2_nextToken 8 = .ok (.bipush 32, 2) := dk_16 32 (dk_at dksX2_nextToken_0 8 rfl rfl)
theorem dX2_nextToken_10 : decode cX2_nextToken 10 = .ok (.if_icmp .eq 16, 3) := dk_159 0 16 (dk_at dksX2_nextToken_0 10 rfl rfl)
theorem dX2_nextToken_13 : decode cX2_nextToken 13 = .ok (.aload_n 0, 1) := dk_42 (dk_at dksX2_nextToken_0 13 rfl rfl)
theorem dX2_nextToken_14 : decode cX2_nextToken 14 = .ok (.aload_n 0, 1) := dk_42 (dk_at dksX2_nextToken_0 14 rfl rfl)
theorem dX2_nextToken_15 : decode cX2_nextToken 15 = .ok (.getfield 106, 3) := dk_180 0 106 (dk_at dksX2_nextToken_0 15 rfl rfl)
theorem dX2_nextToken_18 : decode cX2_nextToken 18 = .ok (.invokevirtual 109, 3) := dk_182 0 109 (dk_at dksX2_nextToken_0 18 rfl rfl)
theorem dX2_nextToken_21 : decode cX2_nextToken 21 = .ok (.bipush 10, 2) := dk_16 10 (dk_at dksX2_nextToken_0 21 rfl rfl)
theorem dX2_nextToken_23 : decode cX2_nextToken 23 = .ok (.if_icmp .ne 16, 3) := dk_160 0 16 (dk_at dksX2_nextToken_1 0 rfl rfl)
theorem dX2_nextToken_26 : decode cX2_nextToken 26 = .ok (.aload_n 0, 1) := dk_42 (dk_at dksX2_nextToken_1 3 rfl rfl)
theorem dX2_nextToken_27 : decode cX2_nextToken 27 = .ok (.dup, 1) := dk_89 (dk_at dksX2_nextToken_1 4 rfl rfl)
theorem dX2_nextToken_28 : decode cX2_nextToken 28 = .ok (.getfield 106, 3) := dk_180 0 106 (dk_at dksX2_nextToken_1 5 rfl rfl)
theorem dX2_nextToken_31 : decode cX2_nextToken 31 = .ok (.iconst 1, 1) := dk_4 (dk_at dksX2_nextToken_1 8 rfl rfl)
theorem dX2_nextToken_32 : decode cX2_nextToken 32 = .ok (.iadd, 1) := dk_96 (dk_at dksX2_nextToken_1 9 rfl rfl)
theorem dX2_nextToken_33 : decode cX2_nextToken 33 = .ok (.putfield 106, 3) := dk_181 0 106 (dk_at dksX2_nextToken_1 10 rfl rfl)
theorem dX2_nextToken_36 : decode cX2_nextToken 36 = .ok (.goto (-36), 3) := dk_167 255 220 (dk_at dksX2_nextToken_1 13 rfl rfl)
theorem dX2_nextToken_39 : decode cX2_nextToken 39 = .ok (.aload_n 0, 1) := dk_42 (dk_at dksX2_nextToken_1 16 rfl rfl)
theorem dX2_nextToken_40 : decode cX2_nextToken 40 = .ok (.aload_n 0, 1) := dk_42 (dk_at dksX2_nextToken_1 17 rfl rfl)
theorem dX2_nextToken_41 : decode cX2_nextToken 41 = .ok (.getfield 106, 3) := dk_180 0 106 (dk_at dksX2_nextToken_1 18 rfl rfl)
theorem dX2_nextToken_44 : decode cX2_nextToken 44 = .ok (.putfield 112, 3) := dk_181 0 112 (dk_at dksX2_nextToken_1 21 rfl rfl)
theorem dX2_nextToken_47 : decode cX2_nextToken 47 = .ok (.aload_n 0, 1) := dk_42 (dk_at dksX2_nextToken_2 0 rfl rfl)
theorem dX2_nextToken_48 : decode cX2_nextToken 48 = .ok (.aload_n 0, 1) := dk_42 (dk_at dksX2_nextToken_2 1 rfl rfl)
theorem dX2_nextToken_49 : decode cX2_nextToken 49 = .ok (.getfield 106, 3) := dk_180 0 106 (dk_at dksX2_nextToken_2 2 rfl rfl)
theorem dX2_nextToken_52 : decode cX2_nextToken 52 = .ok (.invokevirtual 109, 3) := dk_182 0 109 (dk_at dksX2_nextToken_2 5 rfl rfl)
theorem dX2_nextToken_55 : decode cX2_nextToken 55 = .ok (.istore_n 1, 1) := dk_60 (dk_at dksX2_nextToken_2 8 rfl rfl)
theorem dX2_nextToken_56 : decode cX2_nextToken 56 = .ok (.iload_n 1, 1) := dk_27 (dk_at dksX2_nextToken_2 9 rfl rfl)
theorem dX2_nextToken_57 : decode cX2_nextToken 57 = .ok (.ifCond .ge 11, 3) := dk_156 0 11 (dk_at dksX2_nextToken_2 10 rfl rfl)
theorem dX2_nextToken_60 : decode cX2_nextToken 60 = .ok (.aload_n 0, 1) := dk_42 (dk_at dksX2_nextToken_2 13 rfl rfl)
theorem dX2_nextToken_61 : decode cX2_nextToken 61 = .ok (.iconst 0, 1) := dk_3 (dk_at dksX2_nextToken_2 14 rfl rfl)
theorem dX2_nextToken_62 : decode cX2_nextToken 62 = .ok (.putfield 115, 3) := dk_181 0 115 (dk_at dksX2_nextToken_2 15 rfl rfl)
theorem dX2_nextToken_65 : decode cX2_nextToken 65 = .ok (.goto 245, 3) := dk_167 0 245 (dk_at dksX2_nextToken_2 18 rfl rfl)
theorem dX2_nextToken_68 : decode cX2_nextToken 68 = .ok (.iload_n 1, 1) := dk_27 (dk_at dksX2_nextToken_2 21 rfl rfl)
theorem dX2_nextToken_69 : decode cX2_nextToken 69 = .ok (.invokestatic 118, 3) := dk_184 0 118 (dk_at dksX2_nextToken_3 0 rfl rfl)
theorem dX2_nextToken_72 : decode cX2_nextToken 72 = .ok (.ifCond .eq 79, 3) := dk_153 0 79 (dk_at dksX2_nextToken_3 3 rfl rfl)
theorem dX2_nextToken_75 : decode cX2_nextToken 75 = .ok (.aload_n 0, 1) := dk_42 (dk_at dksX2_nextToken_3 6 rfl rfl)
theorem dX2_nextToken_76 : decode cX2_nextToken 76 = .ok (.iconst 1, 1) := dk_4 (dk_at dksX2_nextToken_3 7 rfl rfl)
theorem dX2_nextToken_77 : decode cX2_nextToken 77 = .ok (.putfield 115, 3) := dk_181 0 115 (dk_at dksX2_nextToken_3 8 rfl rfl)
theorem dX2_nextToken_80 : decode cX2_nextToken 80 = .ok (.aload_n 0, 1) := dk_42 (dk_at dksX2_nextToken_3 11 rfl rfl)
theorem dX2_nextToken_81 : decode cX2_nextToken 81 = .ok (.iconst 0, 1) := dk_3 (dk_at dksX2_nextToken_3 12 rfl rfl)
theorem dX2_nextToken_82 : decode cX2_nextToken 82 = .ok (.putfield 121, 3) := dk_181 0 121 (dk_at dksX2_nextToken_3 13 rfl rfl)
theorem dX2_nextToken_85 : decode cX2_nextToken 85 = .ok (.aload_n 0, 1) := dk_42 (dk_at dksX2_nextToken_3 16 rfl rfl)
theorem dX2_nextToken_86 : decode cX2_nextToken 86 = .ok (.aload_n 0, 1) := dk_42 (dk_at dksX2_nextToken_3 17 rfl rfl)
theorem dX2_nextToken_87 : decode cX2_nextToken 87 = .ok (.getfield 106, 3) := dk_180 0 106 (dk_at dksX2_nextToken_3 18 rfl rfl)
theorem dX2_nextToken_90 : decode cX2_nextToken 90 = .ok (.invokevirtual 109, 3) := dk_182 0 109 (dk_at dksX2_nextToken_3 21 rfl rfl)
theorem dX2_nextToken_93 : decode cX2_nextToken 93 = .ok (.invokestatic 118, 3) := dk_184 0 118 (dk_at dksX2_nextToken_4 0 rfl rfl)
theorem dX2_nextToken_96 : decode cX2_nextToken 96 = .ok (.ifCond .eq 214, 3) := dk_153 0 214 (dk_at dksX2_nextToken_4 3 rfl rfl)
theorem dX2_nextToken_99 : decode cX2_nextToken 99 = .ok (.aload_n 0, 1) := dk_42 (dk_at dksX2_nextToken_4 6 rfl rfl)
theorem dX2_nextToken_100 : decode cX2_nextToken 100 = .ok (.aload_n 0, 1) := dk_42 (dk_at dksX2_nextToken_4 7 rfl rfl)
theorem dX2_nextToken_101 : decode cX2_nextToken 101 = .ok (.getfield 121, 3) := dk_180 0 121 (dk_at dksX2_nextToken_4 8 rfl rfl)
theorem dX2_nextToken_104 : decode cX2_nextToken 104 = .ok (.ldc 124, 2) := dk_18 124 (dk_at dksX2_nextToken_4 11 rfl rfl)
theorem dX2_nextToken_106 : decode cX2_nextToken 106 = .ok (.if_icmp .le 10, 3) := dk_164 0 10 (dk_at dksX2_nextToken_4 13 rfl rfl)
theorem dX2_nextToken_109 : decode cX2_nextToken 109 = .ok (.aload_n 0, 1) := dk_42 (dk_at dksX2_nextToken_4 16 rfl rfl)
theorem dX2_nextToken_110 : decode cX2_nextToken 110 = .ok (.getfield 121, 3) := dk_180 0 121 (dk_at dksX2_nextToken_4 17 rfl rfl)
theorem dX2_nextToken_113 : decode cX2_nextToken 113 = .ok (.goto 22, 3) := dk_167 0 22 (dk_at dksX2_nextToken_4 20 rfl rfl)
theorem dX2_nextToken_116 : decode cX2_nextToken 116 = .ok (.bipush 10, 2) := dk_16 10 (dk_at dksX2_nextToken_5 0 rfl rfl)
theorem dX2_nextToken_118 : decode cX2_nextToken 118 = .ok (.aload_n 0, 1) := dk_42 (dk_at dksX2_nextToken_5 2 rfl rfl)
theorem dX2_nextToken_119 : decode cX2_nextToken 119 = .ok (.getfield 121, 3) := dk_180 0 121 (dk_at dksX2_nextToken_5 3 rfl rfl)
theorem dX2_nextToken_122 : decode cX2_nextToken 122 = .ok (.imul, 1) := dk_104 (dk_at dksX2_nextToken_5 6 rfl rfl)
theorem dX2_nextToken_123 : decode cX2_nextToken 123 = .ok (.aload_n 0, 1) := dk_42 (dk_at dksX2_nextToken_5 7 rfl rfl)
theorem dX2_nextToken_124 : decode cX2_nextToken 124 = .ok (.aload_n 0, 1) := dk_42 (dk_at dksX2_nextToken_5 8 rfl rfl)
theorem dX2_nextToken_125 : decode cX2_nextToken 125 = .ok (.getfield 106, 3) := dk_180 0 106 (dk_at dksX2_nextToken_5 9 rfl rfl)
theorem dX2_nextToken_128 : decode cX2_nextToken 128 = .ok (.invokevirtual 109, 3) := dk_182 0 109 (dk_at dksX2_nextToken_5 12 rfl rfl)
theorem dX2_nextToken_131 : decode cX2_nextToken 131 = .ok (.iadd, 1) := dk_96 (dk_at dksX2_nextToken_5 15 rfl rfl)
theorem dX2_nextToken_132 : decode cX2_nextToken 132 = .ok (.bipush 48, 2) := dk_16 48 (dk_at dksX2_nextToken_5 16 rfl rfl)
theorem dX2_nextToken_134 : decode cX2_nextToken 134 = .ok (.isub, 1) := dk_100 (dk_at dksX2_nextToken_5 18 rfl rfl)
theorem dX2_nextToken_135 : decode cX2_nextToken 135 = .ok (.putfield 121, 3) := dk_181 0 121 (dk_at dksX2_nextToken_5 19 rfl rfl)
theorem dX2_nextToken_138 : decode cX2_nextToken 138 = .ok (.aload_n 0, 1) := dk_42 (dk_at dksX2_nextToken_5 22 rfl rfl)
theorem dX2_nextToken_139 : decode cX2_nextToken 139 = .ok (.dup, 1) := dk_89 (dk_at dksX2_nextToken_5 23 rfl rfl)
theorem dX2_nextToken_140 : decode cX2_nextToken 140 = .ok (.getfield 106, 3) := dk_180 0 106 (dk_at dksX2_nextToken_6 0 rfl rfl)
theorem dX2_nextToken_143 : decode cX2_nextToken 143 = .ok (.iconst 1, 1) := dk_4 (dk_at dksX2_nextToken_6 3 rfl rfl)
theorem dX2_nextToken_144 : decode cX2_nextToken 144 = .ok (.iadd, 1) := dk_96 (dk_at dksX2_nextToken_6 4 rfl rfl)
theorem dX2_nextToken_145 : decode cX2_nextToken 145 = .ok (.putfield 106, 3) := dk_181 0 106 (dk_at dksX2_nextToken_6 5 rfl rfl)
theorem dX2_nextToken_148 : decode cX2_nextToken 148 = .ok (.goto (-63), 3) := dk_167 255 193 (dk_at dksX2_nextToken_6 8 rfl rfl)
theorem dX2_nextToken_151 : decode cX2_nextToken 151 = .ok (.iload_n 1, 1) := dk_27 (dk_at dksX2_nextToken_6 11 rfl rfl)
theorem dX2_nextToken_152 : decode cX2_nextToken 152 = .ok (.invokestatic 125, 3) := dk_184 0 125 (dk_at dksX2_nextToken_6 12 rfl rfl)
theorem dX2_nextToken_155 : decode cX2_nextToken 155 = .ok (.ifCond .eq 79, 3) := dk_153 0 79 (dk_at dksX2_nextToken_6 15 rfl rfl)
theorem dX2_nextToken_158 : decode cX2_nextToken 158 = .ok (.aload_n 0, 1) := dk_42 (dk_at dksX2_nextToken_6 18 rfl rfl)
theorem dX2_nextToken_159 : decode cX2_nextToken 159 = .ok (.iconst 2, 1) := dk_5 (dk_at dksX2_nextToken_6 19 rfl rfl)
theorem dX2_nextToken_160 : decode cX2_nextToken 160 = .ok (.putfield 115, 3) := dk_181 0 115 (dk_at dksX2_nextToken_6 20 rfl rfl)
theorem dX2_nextToken_163 : decode cX2_nextToken 163 = .ok (.aload_n 0, 1) := dk_42 (dk_at dksX2_nextToken_6 23 rfl rfl)
theorem dX2_nextToken_164 : decode cX2_nextToken 164 = .ok (.lconst 0, 1) := dk_9 (dk_at dksX2_nextToken_7 0 rfl rfl)
theorem dX2_nextToken_165 : decode cX2_nextToken 165 = .ok (.putfield 128, 3) := dk_181 0 128 (dk_at dksX2_nextToken_7 1 rfl rfl)
theorem dX2_nextToken_168 : decode cX2_nextToken 168 = .ok (.aload_n 0, 1) := dk_42 (dk_at dksX2_nextToken_7 4 rfl rfl)
theorem dX2_nextToken_169 : decode cX2_nextToken 169 = .ok (.aload_n 0, 1) := dk_42 (dk_at dksX2_nextToken_7 5 rfl rfl)
theorem dX2_nextToken_170 : decode cX2_nextToken 170 = .ok (.getfield 106, 3) := dk_180 0 106 (dk_at dksX2_nextToken_7 6 rfl rfl)
theorem dX2_nextToken_173 : decode cX2_nextToken 173 = .ok (.invokevirtual 109, 3) := dk_182 0 109 (dk_at dksX2_nextToken_7 9 rfl rfl)
theorem dX2_nextToken_176 : decode cX2_nextToken 176 = .ok (.invokestatic 125, 3) := dk_184 0 125 (dk_at dksX2_nextToken_7 12 rfl rfl)
theorem dX2_nextToken_179 : decode cX2_nextToken 179 = .ok (.ifCond .eq 131, 3) := dk_153 0 131 (dk_at dksX2_nextToken_7 15 rfl rfl)
theorem dX2_nextToken_182 : decode cX2_nextToken 182 = .ok (.aload_n 0, 1) := dk_42 (dk_at dksX2_nextToken_7 18 rfl rfl)
theorem dX2_nextToken_183 : decode cX2_nextToken 183 = .ok (.aload_n 0, 1) := dk_42 (dk_at dksX2_nextToken_7 19 rfl rfl)
theorem dX2_nextToken_184 : decode cX2_nextToken 184 = .ok (.getfield 128, 3) := dk_180 0 128 (dk_at dksX2_nextToken_7 20 rfl rfl)
theorem dX2_nextToken_187 : decode cX2_nextToken 187 = .ok (.bipush 48, 2) := dk_16 48 (dk_at dksX2_nextToken_8 0 rfl rfl)
theorem dX2_nextToken_189 : decode cX2_nextToken 189 = .ok (.lshr, 1) := dk_123 (dk_at dksX2_nextToken_8 2 rfl rfl)
theorem dX2_nextToken_190 : decode cX2_nextToken 190 = .ok (.lconst 0, 1) := dk_9 (dk_at dksX2_nextToken_8 3 rfl rfl)
theorem dX2_nextToken_191 : decode cX2_nextToken 191 = .ok (.lcmp, 1) := dk_148 (dk_at dksX2_nextToken_8 4 rfl rfl)
theorem dX2_nextToken_192 : decode cX2_nextToken 192 = .ok (.ifCond .eq 9, 3) := dk_153 0 9 (dk_at dksX2_nextToken_8 5 rfl rfl)
theorem dX2_nextToken_195 : decode cX2_nextToken 195 = .ok (.ldc2_w 132, 3) := dk_20 0 132 (dk_at dksX2_nextToken_8 8 rfl rfl)
theorem dX2_nextToken_198 : decode cX2_nextToken 198 = .ok (.goto 20, 3) := dk_167 0 20 (dk_at dksX2_nextToken_8 11 rfl rfl)
theorem dX2_nextToken_201 : decode cX2_nextToken 201 = .ok (.aload_n 0, 1) := dk_42 (dk_at dksX2_nextToken_8 14 rfl rfl)
theorem dX2_nextToken_202 : decode cX2_nextToken 202 = .ok (.getfield 128, 3) := dk_180 0 128 (dk_at dksX2_nextToken_8 15 rfl rfl)
theorem dX2_nextToken_205 : decode cX2_nextToken 205 = .ok (.bipush 8, 2) := dk_16 8 (dk_at dksX2_nextToken_8 18 rfl rfl)
theorem dX2_nextToken_207 : decode cX2_nextToken 207 = .ok (.lshl, 1) := dk_121 (dk_at dksX2_nextToken_8 20 rfl rfl)
theorem dX2_nextToken_208 : decode cX2_nextToken 208 = .ok (.aload_n 0, 1) := dk_42 (dk_at dksX2_nextToken_8 21 rfl rfl)
theorem dX2_nextToken_209 : decode cX2_nextToken 209 = .ok (.aload_n 0, 1) := dk_42 (dk_at dksX2_nextToken_8 22 rfl rfl)
theorem dX2_nextToken_210 : decode cX2_nextToken 210 = .ok (.getfield 106, 3) := dk_180 0 106 (dk_at dksX2_nextToken_9 0 rfl rfl)
theorem dX2_nextToken_213 : decode cX2_nextToken 213 = .ok (.invokevirtual 109, 3) := dk_182 0 109 (dk_at dksX2_nextToken_9 3 rfl rfl)
theorem dX2_nextToken_216 : decode cX2_nextToken 216 = .ok (.i2l, 1) := dk_133 (dk_at dksX2_nextToken_9 6 rfl rfl)
theorem dX2_nextToken_217 : decode cX2_nextToken 217 = .ok (.lor, 1) := dk_129 (dk_at dksX2_nextToken_9 7 rfl rfl)
theorem dX2_nextToken_218 : decode cX2_nextToken 218 = .ok (.putfield 128, 3) := dk_181 0 128 (dk_at dksX2_nextToken_9 8 rfl rfl)
theorem dX2_nextToken_221 : decode cX2_nextToken 221 = .ok (.aload_n 0, 1) := dk_42 (dk_at dksX2_nextToken_9 11 rfl rfl)
theorem dX2_nextToken_222 : decode cX2_nextToken 222 = .ok (.dup, 1) := dk_89 (dk_at dksX2_nextToken_9 12 rfl rfl)
theorem dX2_nextToken_223 : decode cX2_nextToken 223 = .ok (.getfield 106, 3) := dk_180 0 106 (dk_at dksX2_nextToken_9 13 rfl rfl)
theorem dX2_nextToken_226 : decode cX2_nextToken 226 = .ok (.iconst 1, 1) := dk_4 (dk_at dksX2_nextToken_9 16 rfl rfl)
theorem dX2_nextToken_227 : decode cX2_nextToken 227 = .ok (.iadd, 1) := dk_96 (dk_at dksX2_nextToken_9 17 rfl rfl)
theorem dX2_nextToken_228 : decode cX2_nextToken 228 = .ok (.putfield 106, 3) := dk_181 0 106 (dk_at dksX2_nextToken_9 18 rfl rfl)
theorem dX2_nextToken_231 : decode cX2_nextToken 231 = .ok (.goto (-63), 3) := dk_167 255 193 (dk_at dksX2_nextToken_9 21 rfl rfl)
theorem dX2_nextToken_234 : decode cX2_nextToken 234 = .ok (.aload_n 0, 1) := dk_42 (dk_at dksX2_nextToken_10 0 rfl rfl)
theorem dX2_nextToken_235 : decode cX2_nextToken 235 = .ok (.iload_n 1, 1) := dk_27 (dk_at dksX2_nextToken_10 1 rfl rfl)
theorem dX2_nextToken_236 : decode cX2_nextToken 236 = .ok (.invokestatic 134, 3) := dk_184 0 134 (dk_at dksX2_nextToken_10 2 rfl rfl)
theorem dX2_nextToken_239 : decode cX2_nextToken 239 = .ok (.ifCond .eq 7, 3) := dk_153 0 7 (dk_at dksX2_nextToken_10 5 rfl rfl)
theorem dX2_nextToken_242 : decode cX2_nextToken 242 = .ok (.iload_n 1, 1) := dk_27 (dk_at dksX2_nextToken_10 8 rfl rfl)
theorem dX2_nextToken_243 : decode cX2_nextToken 243 = .ok (.goto 4, 3) := dk_167 0 4 (dk_at dksX2_nextToken_10 9 rfl rfl)
theorem dX2_nextToken_246 : decode cX2_nextToken 246 = .ok (.iconst 3, 1) := dk_6 (dk_at dksX2_nextToken_10 12 rfl rfl)
theorem dX2_nextToken_247 : decode cX2_nextToken 247 = .ok (.putfield 115, 3) := dk_181 0 115 (dk_at dksX2_nextToken_10 13 rfl rfl)
theorem dX2_nextToken_250 : decode cX2_nextToken 250 = .ok (.aload_n 0, 1) := dk_42 (dk_at dksX2_nextToken_10 16 rfl rfl)
theorem dX2_nextToken_251 : decode cX2_nextToken 251 = .ok (.dup, 1) := dk_89 (dk_at dksX2_nextToken_10 17 rfl rfl)
theorem dX2_nextToken_252 : decode cX2_nextToken 252 = .ok (.getfield 106, 3) := dk_180 0 106 (dk_at dksX2_nextToken_10 18 rfl rfl)
theorem dX2_nextToken_255 : decode cX2_nextToken 255 = .ok (.iconst 1, 1) := dk_4 (dk_at dksX2_nextToken_10 21 rfl rfl)
theorem dX2_nextToken_256 : decode cX2_nextToken 256 = .ok (.iadd, 1) := dk_96 (dk_at dksX2_nextToken_10 22 rfl rfl)
theorem dX2_nextToken_257 : decode cX2_nextToken 257 = .ok (.putfield 106, 3) := dk_181 0 106 (dk_at dksX2_nextToken_11 0 rfl rfl)
theorem dX2_nextToken_260 : decode cX2_nextToken 260 = .ok (.iload_n 1, 1) := dk_27 (dk_at dksX2_nextToken_11 3 rfl rfl)
theorem dX2_nextToken_261 : decode cX2_nextToken 261 = .ok (.bipush 60, 2) := dk_16 60 (dk_at dksX2_nextToken_11 4 rfl rfl)
theorem dX2_nextToken_263 : decode cX2_nextToken 263 = .ok (.if_icmp .eq 9, 3) := dk_159 0 9 (dk_at dksX2_nextToken_11 6 rfl rfl)
theorem dX2_nextToken_266 : decode cX2_nextToken 266 = .ok (.iload_n 1, 1) := dk_27 (dk_at dksX2_nextToken_11 9 rfl rfl)
theorem dX2_nextToken_267 : decode cX2_nextToken 267 = .ok (.bipush 62, 2) := dk_16 62 (dk_at dksX2_nextToken_11 10 rfl rfl)
theorem dX2_nextToken_269 : decode cX2_nextToken 269 = .ok (.if_icmp .ne 41, 3) := dk_160 0 41 (dk_at dksX2_nextToken_11 12 rfl rfl)
theorem dX2_nextToken_272 : decode cX2_nextToken 272 = .ok (.aload_n 0, 1) := dk_42 (dk_at dksX2_nextToken_11 15 rfl rfl)
theorem dX2_nextToken_273 : decode cX2_nextToken 273 = .ok (.aload_n 0, 1) := dk_42 (dk_at dksX2_nextToken_11 16 rfl rfl)
theorem dX2_nextToken_274 : decode cX2_nextToken 274 = .ok (.getfield 106, 3) := dk_180 0 106 (dk_at dksX2_nextToken_11 17 rfl rfl)
theorem dX2_nextToken_277 : decode cX2_nextToken 277 = .ok (.invokevirtual 109, 3) := dk_182 0 109 (dk_at dksX2_nextToken_11 20 rfl rfl)
theorem dX2_nextToken_280 : decode cX2_nextToken 280 = .ok (.bipush 61, 2) := dk_16 61 (dk_at dksX2_nextToken_12 0 rfl rfl)
theorem dX2_nextToken_282 : decode cX2_nextToken 282 = .ok (.if_icmp .ne 28, 3) := dk_160 0 28 (dk_at dksX2_nextToken_12 2 rfl rfl)
theorem dX2_nextToken_285 : decode cX2_nextToken 285 = .ok (.aload_n 0, 1) := dk_42 (dk_at dksX2_nextToken_12 5 rfl rfl)
theorem dX2_nextToken_286 : decode cX2_nextToken 286 = .ok (.iload_n 1, 1) := dk_27 (dk_at dksX2_nextToken_12 6 rfl rfl)
theorem dX2_nextToken_287 : decode cX2_nextToken 287 = .ok (.bipush 60, 2) := dk_16 60 (dk_at dksX2_nextToken_12 7 rfl rfl)
theorem dX2_nextToken_289 : decode cX2_nextToken 289 = .ok (.if_icmp .ne 7, 3) := dk_160 0 7 (dk_at dksX2_nextToken_12 9 rfl rfl)
theorem dX2_nextToken_292 : decode cX2_nextToken 292 = .ok (.iconst 4, 1) := dk_7 (dk_at dksX2_nextToken_12 12 rfl rfl)
theorem dX2_nextToken_293 : decode cX2_nextToken 293 = .ok (.goto 4, 3) := dk_167 0 4 (dk_at dksX2_nextToken_12 13 rfl rfl)
theorem dX2_nextToken_296 : decode cX2_nextToken 296 = .ok (.iconst 5, 1) := dk_8 (dk_at dksX2_nextToken_12 16 rfl rfl)
theorem dX2_nextToken_297 : decode cX2_nextToken 297 = .ok (.putfield 115, 3) := dk_181 0 115 (dk_at dksX2_nextToken_12 17 rfl rfl)
theorem dX2_nextToken_300 : decode cX2_nextToken 300 = .ok (.aload_n 0, 1) := dk_42 (dk_at dksX2_nextToken_12 20 rfl rfl)
theorem dX2_nextToken_301 : decode cX2_nextToken 301 = .ok (.dup, 1) := dk_89 (dk_at dksX2_nextToken_12 21 rfl rfl)
theorem dX2_nextToken_302 : decode cX2_nextToken 302 = .ok (.getfield 106, 3) := dk_180 0 106 (dk_at dksX2_nextToken_13 0 rfl rfl)
theorem dX2_nextToken_305 : decode cX2_nextToken 305 = .ok (.iconst 1, 1) := dk_4 (dk_at dksX2_nextToken_13 3 rfl rfl)
theorem dX2_nextToken_306 : decode cX2_nextToken 306 = .ok (.iadd, 1) := dk_96 (dk_at dksX2_nextToken_13 4 rfl rfl)
theorem dX2_nextToken_307 : decode cX2_nextToken 307 = .ok (.putfield 106, 3) := dk_181 0 106 (dk_at dksX2_nextToken_13 5 rfl rfl)
theorem dX2_nextToken_310 : decode cX2_nextToken 310 = .ok (.return_, 1) := dk_177 (dk_at dksX2_nextToken_13 8 rfl rfl)
abbrev cX2_byteAt : ByteArray := prog_20_method_23_code
def yX2_byteAt : MethodName := ⟨RX2, "byteAt", "(I)I"⟩
def dkwX2_byteAt_0 : List UInt8 := [27, 42, 180, 0, 100, 162, 0, 12, 42, 180, 0, 19, 27, 46, 167, 0, 4, 2, 172]
abbrev dktX2_byteAt_0 : List UInt8 := dkwX2_byteAt_0 ++ []
theorem dksX2_byteAt_0 : cX2_byteAt.data.toList.drop 0 = dktX2_byteAt_0 := by decide +kernel
theorem dX2_byteAt_0 : decode cX2_byteAt 0 = .ok (.iload_n 1, 1) := dk_27 (dk_at dksX2_byteAt_0 0 rfl rfl)
theorem dX2_byteAt_1 : decode cX2_byteAt 1 = .ok (.aload_n 0, 1) := dk_42 (dk_at dksX2_byteAt_0 1 rfl rfl)
theorem dX2_byteAt_2 : decode cX2_byteAt 2 = .ok (.getfield 100, 3) := dk_180 0 100 (dk_at dksX2_byteAt_0 2 rfl rfl)
theorem dX2_byteAt_5 : decode cX2_byteAt 5 = .ok (.if_icmp .ge 12, 3) := dk_162 0 12 (dk_at dksX2_byteAt_0 5 rfl rfl)
theorem dX2_byteAt_8 : decode cX2_byteAt 8 = .ok (.aload_n 0, 1) := dk_42 (dk_at dksX2_byteAt_0 8 rfl rfl)
theorem dX2_byteAt_9 : decode cX2_byteAt 9 = .ok (.getfield 19, 3) := dk_180 0 19 (dk_at dksX2_byteAt_0 9 rfl rfl)
theorem dX2_byteAt_12 : decode cX2_byteAt 12 = .ok (.iload_n 1, 1) := dk_27 (dk_at dksX2_byteAt_0 12 rfl rfl)
theorem dX2_byteAt_13 : decode cX2_byteAt 13 = .ok (.iaload, 1) := dk_46 (dk_at dksX2_byteAt_0 13 rfl rfl)
theorem dX2_byteAt_14 : decode cX2_byteAt 14 = .ok (.goto 4, 3) := dk_167 0 4 (dk_at dksX2_byteAt_0 14 rfl rfl)
theorem dX2_byteAt_17 : decode cX2_byteAt 17 = .ok (.iconst (-1), 1) := dk_2 (dk_at dksX2_byteAt_0 17 rfl rfl)
theorem dX2_byteAt_18 : decode cX2_byteAt 18 = .ok (.ireturn, 1) := dk_172 (dk_at dksX2_byteAt_0 18 rfl rfl)
abbrev cX2_isFigure : ByteArray := prog_20_method_25_code
def yX2_isFigure : MethodName := ⟨RX2, "isFigure", "(I)Z"⟩
def dkwX2_isFigure_0 : List UInt8 := [26, 16, 48, 161, 0, 13, 26, 16, 57, 163, 0, 7, 4, 167, 0, 4, 3, 172]
abbrev dktX2_isFigure_0 : List UInt8 := dkwX2_isFigure_0 ++ []
theorem dksX2_isFigure_0 : cX2_isFigure.data.toList.drop 0 = dktX2_isFigure_0 := by decide +kernel
theorem dX2_isFigure_0 : decode cX2_isFigure 0 = .ok (.iload_n 0, 1) := dk_26 (dk_at dksX2_isFigure_0 0 rfl rfl)
theorem dX2_isFigure_1 : decode cX2_isFigure 1 = .ok (.bipush 48, 2) := dk_16 48 (dk_at dksX2_isFigure_0 1 rfl rfl)
theorem dX2_isFigure_3 : decode cX2_isFigure 3 = .ok (.if_icmp .lt 13, 3) := dk_161 0 13 (dk_at dksX2_isFigure_0 3 rfl rfl)
theorem dX2_isFigure_6 : decode cX2_isFigure 6 = .ok (.iload_n 0, 1) := dk_26 (dk_at dksX2_isFigure_0 6 rfl rfl)
theorem dX2_isFigure_7 : decode cX2_isFigure 7 = .ok (.bipush 57, 2) := dk_16 57 (dk_at dksX2_isFigure_0 7 rfl rfl)
theorem dX2_isFigure_9 : decode cX2_isFigure 9 = .ok (.if_icmp .gt 7, 3) := dk_163 0 7 (dk_at dksX2_isFigure_0 9 rfl rfl)
theorem dX2_isFigure_12 : decode cX2_isFigure 12 = .ok (.iconst 1, 1) := dk_4 (dk_at dksX2_isFigure_0 12 rfl rfl)
theorem dX2_isFigure_13 : decode cX2_isFigure 13 = .ok (.goto 4, 3) := dk_167 0 4 (dk_at dksX2_isFigure_0 13 rfl rfl)
theorem dX2_isFigure_16 : decode cX2_isFigure 16 = .ok (.iconst 0, 1) := dk_3 (dk_at dksX2_isFigure_0 16 rfl rfl)
theorem dX2_isFigure_17 : decode cX2_isFigure 17 = .ok (.ireturn, 1) := dk_172 (dk_at dksX2_isFigure_0 17 rfl rfl)
abbrev cX2_isLetterByte : ByteArray := prog_20_method_24_code
def yX2_isLetterByte : MethodName := ⟨RX2, "isLetterByte", "(I)Z"⟩
def dkwX2_isLetterByte_1 : List UInt8 := [4, 167, 0, 4, 3, 172]
abbrev dktX2_isLetterByte_1 : List UInt8 := dkwX2_isLetterByte_1 ++ []
def dkwX2_isLetterByte_0 : List UInt8 := [26, 16, 97, 161, 0, 9, 26, 16, 122, 164, 0, 15, 26, 16, 65, 161, 0, 13, 26, 16, 90, 163, 0, 7]
abbrev dktX2_isLetterByte_0 : List UInt8 := dkwX2_isLetterByte_0 ++ dktX2_isLetterByte_1
theorem dksX2_isLetterByte_0 : cX2_isLetterByte.data.toList.drop 0 = dktX2_isLetterByte_0 := by decide +kernel
theorem dksX2_isLetterByte_1 : cX2_isLetterByte.data.toList.drop 24 = dktX2_isLetterByte_1 := dk_seg dksX2_isLetterByte_0 24 rfl rfl
theorem dX2_isLetterByte_0 : decode cX2_isLetterByte 0 = .ok (.iload_n 0, 1) := dk_26 (dk_at dksX2_isLetterByte_0 0 rfl rfl)
theorem dX2_isLetterByte_1 : decode cX2_isLetterByte 1 = .ok (.bipush 97, 2) := dk_16 97 (dk_at dksX2_isLetterByte_0 1 rfl rfl)
theorem dX2_isLetterByte_3 : decode cX2_isLetterByte 3 = .ok (.if_icmp .lt 9, 3) := dk_161 0 9 (dk_at dksX2_isLetterByte_0 3 rfl rfl)
theorem dX2_isLetterByte_6 : decode cX2_isLetterByte 6 = .ok (.iload_n 0, 1) := dk_26 (dk_at dksX2_isLetterByte_0 6 rfl rfl)
theorem dX2_isLetterByte_7 : decode cX2_isLetterByte 7 = .ok (.bipush 122, 2) := dk_16 122 (dk_at dksX2_isLetterByte_0 7 rfl rfl)
theorem dX2_isLetterByte_9 : decode cX2_isLetterByte 9 = .ok (.if_icmp .le 15, 3) := dk_164 0 15 (dk_at dksX2_isLetterByte_0 9 rfl rfl)
theorem dX2_isLetterByte_12 : decode cX2_isLetterByte 12 = .ok (.iload_n 0, 1) := dk_26 (dk_at dksX2_isLetterByte_0 12 rfl rfl)
theorem dX2_isLetterByte_13 : decode cX2_isLetterByte 13 = .ok (.bipush 65, 2) := dk_16 65 (dk_at dksX2_isLetterByte_0 13 rfl rfl)
theorem dX2_isLetterByte_15 : decode cX2_isLetterByte 15 = .ok (.if_icmp .lt 13, 3) := dk_161 0 13 (dk_at dksX2_isLetterByte_0 15 rfl rfl)
theorem dX2_isLetterByte_18 : decode cX2_isLetterByte 18 = .ok (.iload_n 0, 1) := dk_26 (dk_at dksX2_isLetterByte_0 18 rfl rfl)
theorem dX2_isLetterByte_19 : decode cX2_isLetterByte 19 = .ok (.bipush 90, 2) := dk_16 90 (dk_at dksX2_isLetterByte_0 19 rfl rfl)
theorem dX2_isLetterByte_21 : decode cX2_isLetterByte 21 = .ok (.if_icmp .gt 7, 3) := dk_163 0 7 (dk_at dksX2_isLetterByte_0 21 rfl rfl)
theorem dX2_isLetterByte_24 : decode cX2_isLetterByte 24 = .ok (.iconst 1, 1) := dk_4 (dk_at dksX2_isLetterByte_1 0 rfl rfl)
theorem dX2_isLetterByte_25 : decode cX2_isLetterByte 25 = .ok (.goto 4, 3) := dk_167 0 4 (dk_at dksX2_isLetterByte_1 1 rfl rfl)
theorem dX2_isLetterByte_28 : decode cX2_isLetterByte 28 = .ok (.iconst 0, 1) := dk_3 (dk_at dksX2_isLetterByte_1 4 rfl rfl)
theorem dX2_isLetterByte_29 : decode cX2_isLetterByte 29 = .ok (.ireturn, 1) := dk_172 (dk_at dksX2_isLetterByte_1 5 rfl rfl)
abbrev cX2_isSign : ByteArray := prog_20_method_26_code
def yX2_isSign : MethodName := ⟨RX2, "isSign", "(I)Z"⟩
def dkwX2_isSign_2 : List UInt8 := [4, 172, 3, 172]
abbrev dktX2_isSign_2 : List UInt8 := dkwX2_isSign_2 ++ []
def dkwX2_isSign_1 : List UInt8 := [170, 0, 0, 0, 0, 0, 129, 0, 0, 0, 35, 0, 0, 0, 62, 0, 0, 0, 127, 0, 0, 0, 129, 0, 0, 0, 129, 0, 0, 0, 129, 0, 0, 0, 129, 0, 0, 0, 127, 0, 0, 0, 127, 0, 0, 0, 127, 0, 0, 0, 127, 0, 0, 0, 129, 0, 0, 0, 127, 0, 0, 0, 129, 0, 0, 0, 127, 0, 0, 0, 129, 0, 0, 0, 129, 0, 0, 0, 129, 0, 0, 0, 129, 0, 0, 0, 129, 0, 0, 0, 129, 0, 0, 0, 129, 0, 0, 0, 129, 0, 0, 0, 129, 0, 0, 0, 129, 0, 0, 0, 127, 0, 0, 0, 127, 0, 0, 0, 127, 0, 0, 0, 127, 0, 0, 0, 127]
abbrev dktX2_isSign_1 : List UInt8 := dkwX2_isSign_1 ++ dktX2_isSign_2
def dkwX2_isSign_0 : List UInt8 := [26]
abbrev dktX2_isSign_0 : List UInt8 := dkwX2_isSign_0 ++ dktX2_isSign_1
theorem dksX2_isSign_0 : cX2_isSign.data.toList.drop 0 = dktX2_isSign_0 := by decide +kernel
theorem dksX2_isSign_1 : cX2_isSign.data.toList.drop 1 = dktX2_isSign_1 := dk_seg dksX2_isSign_0 1 rfl rfl
theorem dksX2_isSign_2 : cX2_isSign.data.toList.drop 128 = dktX2_isSign_2 := dk_seg dksX2_isSign_1 127 rfl rfl
theorem dX2_isSign_0 : decode cX2_isSign 0 = .ok (.iload_n 0, 1) := dk_26 (dk_at dksX2_isSign_0 0 rfl rfl)
theorem dX2_isSign_1 : decode cX2_isSign 1 = .ok (.tableswitch 129 35 62 #[127, 129, 129, 129, 129, 127, 127, 127, 127, 129, 127, 129, 127, 129, 129, 129, 129, 129, 129, 129, 129, 129, 129, 127, 127, 127, 127, 127], 127) := by decide +kernel
theorem dX2_isSign_128 : decode cX2_isSign 128 = .ok (.iconst 1, 1) := dk_4 (dk_at dksX2_isSign_2 0 rfl rfl)
theorem dX2_isSign_129 : decode cX2_isSign 129 = .ok (.ireturn, 1) := dk_172 (dk_at dksX2_isSign_2 1 rfl rfl)
theorem dX2_isSign_130 : decode cX2_isSign 130 = .ok (.iconst 0, 1) := dk_3 (dk_at dksX2_isSign_2 2 rfl rfl)
theorem dX2_isSign_131 : decode cX2_isSign 131 = .ok (.ireturn, 1) := dk_172 (dk_at dksX2_isSign_2 3 rfl rfl)
abbrev cX2_clause : ByteArray := prog_20_method_58_code
def yX2_clause : MethodName := ⟨RX2, "clause", "()I"⟩
def dkwX2_clause_5 : List UInt8 := [96, 79, 42, 180, 0, 115, 16, 59, 159, 0, 5, 4, 172, 42, 182, 0, 186, 3, 172]
abbrev dktX2_clause_5 : List UInt8 := dkwX2_clause_5 ++ []
def dkwX2_clause_4 : List UInt8 := [182, 1, 7, 54, 4, 21, 4, 153, 0, 6, 21, 4, 172, 42, 180, 0, 16, 42, 180, 0, 153, 92, 46, 4]
abbrev dktX2_clause_4 : List UInt8 := dkwX2_clause_4 ++ dktX2_clause_5
def dkwX2_clause_3 : List UInt8 := [182, 0, 186, 42, 180, 0, 153, 4, 96, 7, 28, 104, 96, 62, 42, 180, 0, 16, 29, 27, 79, 42, 27, 29]
abbrev dktX2_clause_3 : List UInt8 := dkwX2_clause_3 ++ dktX2_clause_4
def dkwX2_clause_2 : List UInt8 := [27, 4, 163, 0, 15, 42, 89, 180, 1, 0, 4, 27, 120, 128, 181, 1, 0, 42, 27, 181, 0, 163, 42]
abbrev dktX2_clause_2 : List UInt8 := dkwX2_clause_2 ++ dktX2_clause_3
def dkwX2_clause_1 : List UInt8 := [153, 0, 5, 7, 172, 42, 180, 0, 16, 42, 180, 0, 153, 46, 61, 28, 16, 24, 160, 0, 6, 16, 6, 172]
abbrev dktX2_clause_1 : List UInt8 := dkwX2_clause_1 ++ dktX2_clause_2
def dkwX2_clause_0 : List UInt8 := [42, 182, 0, 253, 60, 27, 156, 0, 5, 4, 172, 27, 4, 163, 0, 16, 42, 180, 1, 0, 27, 184, 1, 3]
abbrev dktX2_clause_0 : List UInt8 := dkwX2_clause_0 ++ dktX2_clause_1
theorem dksX2_clause_0 : cX2_clause.data.toList.drop 0 = dktX2_clause_0 := by decide +kernel
theorem dksX2_clause_1 : cX2_clause.data.toList.drop 24 = dktX2_clause_1 := dk_seg dksX2_clause_0 24 rfl rfl
theorem dksX2_clause_2 : cX2_clause.data.toList.drop 48 = dktX2_clause_2 := dk_seg dksX2_clause_1 24 rfl rfl
theorem dksX2_clause_3 : cX2_clause.data.toList.drop 71 = dktX2_clause_3 := dk_seg dksX2_clause_2 23 rfl rfl
theorem dksX2_clause_4 : cX2_clause.data.toList.drop 95 = dktX2_clause_4 := dk_seg dksX2_clause_3 24 rfl rfl
theorem dksX2_clause_5 : cX2_clause.data.toList.drop 119 = dktX2_clause_5 := dk_seg dksX2_clause_4 24 rfl rfl
theorem dX2_clause_0 : decode cX2_clause 0 = .ok (.aload_n 0, 1) := dk_42 (dk_at dksX2_clause_0 0 rfl rfl)
theorem dX2_clause_1 : decode cX2_clause 1 = .ok (.invokevirtual 253, 3) := dk_182 0 253 (dk_at dksX2_clause_0 1 rfl rfl)
theorem dX2_clause_4 : decode cX2_clause 4 = .ok (.istore_n 1, 1) := dk_60 (dk_at dksX2_clause_0 4 rfl rfl)
theorem dX2_clause_5 : decode cX2_clause 5 = .ok (.iload_n 1, 1) := dk_27 (dk_at dksX2_clause_0 5 rfl rfl)
theorem dX2_clause_6 : decode cX2_clause 6 = .ok (.ifCond .ge 5, 3) := dk_156 0 5 (dk_at dksX2_clause_0 6 rfl rfl)
theorem dX2_clause_9 : decode cX2_clause 9 = .ok (.iconst 1, 1) := dk_4 (dk_at dksX2_clause_0 9 rfl rfl)
theorem dX2_clause_10 : decode cX2_clause 10 = .ok (.ireturn, 1) := dk_172 (dk_at dksX2_clause_0 10 rfl rfl)
theorem dX2_clause_11 : decode cX2_clause 11 = .ok (.iload_n 1, 1) := dk_27 (dk_at dksX2_clause_0 11 rfl rfl)
theorem dX2_clause_12 : decode cX2_clause 12 = .ok (.iconst 1, 1) := dk_4 (dk_at dksX2_clause_0 12 rfl rfl)
theorem dX2_clause_13 : decode cX2_clause 13 = .ok (.if_icmp .gt 16, 3) := dk_163 0 16 (dk_at dksX2_clause_0 13 rfl rfl)
theorem dX2_clause_16 : decode cX2_clause 16 = .ok (.aload_n 0, 1) := dk_42 (dk_at dksX2_clause_0 16 rfl rfl)
theorem dX2_clause_17 : decode cX2_clause 17 = .ok (.getfield 256, 3) := dk_180 1 0 (dk_at dksX2_clause_0 17 rfl rfl)
theorem dX2_clause_20 : decode cX2_clause 20 = .ok (.iload_n 1, 1) := dk_27 (dk_at dksX2_clause_0 20 rfl rfl)
theorem dX2_clause_21 : decode cX2_clause 21 = .ok (.invokestatic 259, 3) := dk_184 1 3 (dk_at dksX2_clause_0 21 rfl rfl)
theorem dX2_clause_24 : decode cX2_clause 24 = .ok (.ifCond .eq 5, 3) := dk_153 0 5 (dk_at dksX2_clause_1 0 rfl rfl)
theorem dX2_clause_27 : decode cX2_clause 27 = .ok (.iconst 4, 1) := dk_7 (dk_at dksX2_clause_1 3 rfl rfl)
theorem dX2_clause_28 : decode cX2_clause 28 = .ok (.ireturn, 1) := dk_172 (dk_at dksX2_clause_1 4 rfl rfl)
theorem dX2_clause_29 : decode cX2_clause 29 = .ok (.aload_n 0, 1) := dk_42 (dk_at dksX2_clause_1 5 rfl rfl)
theorem dX2_clause_30 : decode cX2_clause 30 = .ok (.getfield 16, 3) := dk_180 0 16 (dk_at dksX2_clause_1 6 rfl rfl)
theorem dX2_clause_33 : decode cX2_clause 33 = .ok (.aload_n 0, 1) := dk_42 (dk_at dksX2_clause_1 9 rfl rfl)
theorem dX2_clause_34 : decode cX2_clause 34 = .ok (.getfield 153, 3) := dk_180 0 153 (dk_at dksX2_clause_1 10 rfl rfl)
theorem dX2_clause_37 : decode cX2_clause 37 = .ok (.iaload, 1) := dk_46 (dk_at dksX2_clause_1 13 rfl rfl)
theorem dX2_clause_38 : decode cX2_clause 38 = .ok (.istore_n 2, 1) := dk_61 (dk_at dksX2_clause_1 14 rfl rfl)
theorem dX2_clause_39 : decode cX2_clause 39 = .ok (.iload_n 2, 1) := dk_28 (dk_at dksX2_clause_1 15 rfl rfl)
theorem dX2_clause_40 : decode cX2_clause 40 = .ok (.bipush 24, 2) := dk_16 24 (dk_at dksX2_clause_1 16 rfl rfl)
theorem dX2_clause_42 : decode cX2_clause 42 = .ok (.if_icmp .ne 6, 3) := dk_160 0 6 (dk_at dksX2_clause_1 18 rfl rfl)
theorem dX2_clause_45 : decode cX2_clause 45 = .ok (.bipush 6, 2) := dk_16 6 (dk_at dksX2_clause_1 21 rfl rfl)
theorem dX2_clause_47 : decode cX2_clause 47 = .ok (.ireturn, 1) := dk_172 (dk_at dksX2_clause_1 23 rfl rfl)
theorem dX2_clause_48 : decode cX2_clause 48 = .ok (.iload_n 1, 1) := dk_27 (dk_at dksX2_clause_2 0 rfl rfl)
theorem dX2_clause_49 : decode cX2_clause 49 = .ok (.iconst 1, 1) := dk_4 (dk_at dksX2_clause_2 1 rfl rfl)
theorem dX2_clause_50 : decode cX2_clause 50 = .ok (.if_icmp .gt 15, 3) := dk_163 0 15 (dk_at dksX2_clause_2 2 rfl rfl)
theorem dX2_clause_53 : decode cX2_clause 53 = .ok (.aload_n 0, 1) := dk_42 (dk_at dksX2_clause_2 5 rfl rfl)
theorem dX2_clause_54 : decode cX2_clause 54 = .ok (.dup, 1) := dk_89 (dk_at dksX2_clause_2 6 rfl rfl)
theorem dX2_clause_55 : decode cX2_clause 55 = .ok (.getfield 256, 3) := dk_180 1 0 (dk_at dksX2_clause_2 7 rfl rfl)
theorem dX2_clause_58 : decode cX2_clause 58 = .ok (.iconst 1, 1) := dk_4 (dk_at dksX2_clause_2 10 rfl rfl)
theorem dX2_clause_59 : decode cX2_clause 59 = .ok (.iload_n 1, 1) := dk_27 (dk_at dksX2_clause_2 11 rfl rfl)
theorem dX2_clause_60 : decode cX2_clause 60 = .ok (.ishl, 1) := dk_120 (dk_at dksX2_clause_2 12 rfl rfl)
theorem dX2_clause_61 : decode cX2_clause 61 = .ok (.ior, 1) := dk_128 (dk_at dksX2_clause_2 13 rfl rfl)
theorem dX2_clause_62 : decode cX2_clause 62 = .ok (.putfield 256, 3) := dk_181 1 0 (dk_at dksX2_clause_2 14 rfl rfl)
theorem dX2_clause_65 : decode cX2_clause 65 = .ok (.aload_n 0, 1) := dk_42 (dk_at dksX2_clause_2 17 rfl rfl)
theorem dX2_clause_66 : decode cX2_clause 66 = .ok (.iload_n 1, 1) := dk_27 (dk_at dksX2_clause_2 18 rfl rfl)
theorem dX2_clause_67 : decode cX2_clause 67 = .ok (.putfield 163, 3) := dk_181 0 163 (dk_at dksX2_clause_2 19 rfl rfl)
theorem dX2_clause_70 : decode cX2_clause 70 = .ok (.aload_n 0, 1) := dk_42 (dk_at dksX2_clause_2 22 rfl rfl)
theorem dX2_clause_71 : decode cX2_clause 71 = .ok (.invokevirtual 186, 3) := dk_182 0 186 (dk_at dksX2_clause_3 0 rfl rfl)
theorem dX2_clause_74 : decode cX2_clause 74 = .ok (.aload_n 0, 1) := dk_42 (dk_at dksX2_clause_3 3 rfl rfl)
theorem dX2_clause_75 : decode cX2_clause 75 = .ok (.getfield 153, 3) := dk_180 0 153 (dk_at dksX2_clause_3 4 rfl rfl)
theorem dX2_clause_78 : decode cX2_clause 78 = .ok (.iconst 1, 1) := dk_4 (dk_at dksX2_clause_3 7 rfl rfl)
theorem dX2_clause_79 : decode cX2_clause 79 = .ok (.iadd, 1) := dk_96 (dk_at dksX2_clause_3 8 rfl rfl)
theorem dX2_clause_80 : decode cX2_clause 80 = .ok (.iconst 4, 1) := dk_7 (dk_at dksX2_clause_3 9 rfl rfl)
theorem dX2_clause_81 : decode cX2_clause 81 = .ok (.iload_n 2, 1) := dk_28 (dk_at dksX2_clause_3 10 rfl rfl)
theorem dX2_clause_82 : decode cX2_clause 82 = .ok (.imul, 1) := dk_104 (dk_at dksX2_clause_3 11 rfl rfl)
theorem dX2_clause_83 : decode cX2_clause 83 = .ok (.iadd, 1) := dk_96 (dk_at dksX2_clause_3 12 rfl rfl)
theorem dX2_clause_84 : decode cX2_clause 84 = .ok (.istore_n 3, 1) := dk_62 (dk_at dksX2_clause_3 13 rfl rfl)
theorem dX2_clause_85 : decode cX2_clause 85 = .ok (.aload_n 0, 1) := dk_42 (dk_at dksX2_clause_3 14 rfl rfl)
theorem dX2_clause_86 : decode cX2_clause 86 = .ok (.getfield 16, 3) := dk_180 0 16 (dk_at dksX2_clause_3 15 rfl rfl)
theorem dX2_clause_89 : decode cX2_clause 89 = .ok (.iload_n 3, 1) := dk_29 (dk_at dksX2_clause_3 18 rfl rfl)
theorem dX2_clause_90 : decode cX2_clause 90 = .ok (.iload_n 1, 1) := dk_27 (dk_at dksX2_clause_3 19 rfl rfl)
theorem dX2_clause_91 : decode cX2_clause 91 = .ok (.iastore, 1) := dk_79 (dk_at dksX2_clause_3 20 rfl rfl)
theorem dX2_clause_92 : decode cX2_clause 92 = .ok (.aload_n 0, 1) := dk_42 (dk_at dksX2_clause_3 21 rfl rfl)
theorem dX2_clause_93 : decode cX2_clause 93 = .ok (.iload_n 1, 1) := dk_27 (dk_at dksX2_clause_3 22 rfl rfl)
theorem dX2_clause_94 : decode cX2_clause 94 = .ok (.iload_n 3, 1) := dk_29 (dk_at dksX2_clause_3 23 rfl rfl)
theorem dX2_clause_95 : decode cX2_clause 95 = .ok (.invokevirtual 263, 3) := dk_182 1 7 (dk_at dksX2_clause_4 0 rfl rfl)
theorem dX2_clause_98 : decode cX2_clause 98 = .ok (.istore 4, 2) := dk_54 4 (dk_at dksX2_clause_4 3 rfl rfl)
theorem dX2_clause_100 : decode cX2_clause 100 = .ok (.iload 4, 2) := dk_21 4 (dk_at dksX2_clause_4 5 rfl rfl)
theorem dX2_clause_102 : decode cX2_clause 102 = .ok (.ifCond .eq 6, 3) := dk_153 0 6 (dk_at dksX2_clause_4 7 rfl rfl)
theorem dX2_clause_105 : decode cX2_clause 105 = .ok (.iload 4, 2) := dk_21 4 (dk_at dksX2_clause_4 10 rfl rfl)
theorem dX2_clause_107 : decode cX2_clause 107 = .ok (.ireturn, 1) := dk_172 (dk_at dksX2_clause_4 12 rfl rfl)
theorem dX2_clause_108 : decode cX2_clause 108 = .ok (.aload_n 0, 1) := dk_42 (dk_at dksX2_clause_4 13 rfl rfl)
theorem dX2_clause_109 : decode cX2_clause 109 = .ok (.getfield 16, 3) := dk_180 0 16 (dk_at dksX2_clause_4 14 rfl rfl)
theorem dX2_clause_112 : decode cX2_clause 112 = .ok (.aload_n 0, 1) := dk_42 (dk_at dksX2_clause_4 17 rfl rfl)
theorem dX2_clause_113 : decode cX2_clause 113 = .ok (.getfield 153, 3) := dk_180 0 153 (dk_at dksX2_clause_4 18 rfl rfl)
theorem dX2_clause_116 : decode cX2_clause 116 = .ok (.dup2, 1) := dk_92 (dk_at dksX2_clause_4 21 rfl rfl)
theorem dX2_clause_117 : decode cX2_clause 117 = .ok (.iaload, 1) := dk_46 (dk_at dksX2_clause_4 22 rfl rfl)
theorem dX2_clause_118 : decode cX2_clause 118 = .ok (.iconst 1, 1) := dk_4 (dk_at dksX2_clause_4 23 rfl rfl)
theorem dX2_clause_119 : decode cX2_clause 119 = .ok (.iadd, 1) := dk_96 (dk_at dksX2_clause_5 0 rfl rfl)
theorem dX2_clause_120 : decode cX2_clause 120 = .ok (.iastore, 1) := dk_79 (dk_at dksX2_clause_5 1 rfl rfl)
theorem dX2_clause_121 : decode cX2_clause 121 = .ok (.aload_n 0, 1) := dk_42 (dk_at dksX2_clause_5 2 rfl rfl)
theorem dX2_clause_122 : decode cX2_clause 122 = .ok (.getfield 115, 3) := dk_180 0 115 (dk_at dksX2_clause_5 3 rfl rfl)
theorem dX2_clause_125 : decode cX2_clause 125 = .ok (.bipush 59, 2) := dk_16 59 (dk_at dksX2_clause_5 6 rfl rfl)
theorem dX2_clause_127 : decode cX2_clause 127 = .ok (.if_icmp .eq 5, 3) := dk_159 0 5 (dk_at dksX2_clause_5 8 rfl rfl)
theorem dX2_clause_130 : decode cX2_clause 130 = .ok (.iconst 1, 1) := dk_4 (dk_at dksX2_clause_5 11 rfl rfl)
theorem dX2_clause_131 : decode cX2_clause 131 = .ok (.ireturn, 1) := dk_172 (dk_at dksX2_clause_5 12 rfl rfl)
theorem dX2_clause_132 : decode cX2_clause 132 = .ok (.aload_n 0, 1) := dk_42 (dk_at dksX2_clause_5 13 rfl rfl)
theorem dX2_clause_133 : decode cX2_clause 133 = .ok (.invokevirtual 186, 3) := dk_182 0 186 (dk_at dksX2_clause_5 14 rfl rfl)
theorem dX2_clause_136 : decode cX2_clause 136 = .ok (.iconst 0, 1) := dk_3 (dk_at dksX2_clause_5 17 rfl rfl)
theorem dX2_clause_137 : decode cX2_clause 137 = .ok (.ireturn, 1) := dk_172 (dk_at dksX2_clause_5 18 rfl rfl)
abbrev cX2_sortOf : ByteArray := prog_20_method_57_code
def yX2_sortOf : MethodName := ⟨RX2, "sortOf", "()I"⟩
def dkwX2_sortOf_5 : List UInt8 := [16, 100, 16, 97, 16, 121, 184, 0, 141, 182, 0, 201, 153, 0, 8, 16, 6, 167, 0, 4, 2, 172]
abbrev dktX2_sortOf_5 : List UInt8 := dkwX2_sortOf_5 ++ []
def dkwX2_sortOf_4 : List UInt8 := [172, 42, 16, 101, 16, 97, 16, 114, 16, 110, 184, 0, 145, 182, 0, 201, 153, 0, 7, 8, 167, 0, 25, 42]
abbrev dktX2_sortOf_4 : List UInt8 := dkwX2_sortOf_4 ++ dktX2_sortOf_5
def dkwX2_sortOf_3 : List UInt8 := [172, 42, 16, 114, 16, 101, 16, 100, 16, 101, 16, 101, 16, 109, 184, 0, 159, 182, 0, 201, 153, 0, 5, 7]
abbrev dktX2_sortOf_3 : List UInt8 := dkwX2_sortOf_3 ++ dktX2_sortOf_4
def dkwX2_sortOf_2 : List UInt8 := [153, 0, 5, 5, 172, 42, 16, 112, 16, 97, 16, 119, 16, 110, 184, 0, 145, 182, 0, 201, 153, 0, 5, 6]
abbrev dktX2_sortOf_2 : List UInt8 := dkwX2_sortOf_2 ++ dktX2_sortOf_3
def dkwX2_sortOf_1 : List UInt8 := [16, 101, 16, 108, 16, 108, 16, 115, 184, 0, 149, 182, 0, 201, 153, 0, 5, 4, 172, 42, 182, 0, 250]
abbrev dktX2_sortOf_1 : List UInt8 := dkwX2_sortOf_1 ++ dktX2_sortOf_2
def dkwX2_sortOf_0 : List UInt8 := [42, 16, 100, 16, 117, 16, 101, 16, 115, 184, 0, 145, 182, 0, 201, 153, 0, 5, 3, 172, 42, 16, 115]
abbrev dktX2_sortOf_0 : List UInt8 := dkwX2_sortOf_0 ++ dktX2_sortOf_1
theorem dksX2_sortOf_0 : cX2_sortOf.data.toList.drop 0 = dktX2_sortOf_0 := by decide +kernel
theorem dksX2_sortOf_1 : cX2_sortOf.data.toList.drop 23 = dktX2_sortOf_1 := dk_seg dksX2_sortOf_0 23 rfl rfl
theorem dksX2_sortOf_2 : cX2_sortOf.data.toList.drop 46 = dktX2_sortOf_2 := dk_seg dksX2_sortOf_1 23 rfl rfl
theorem dksX2_sortOf_3 : cX2_sortOf.data.toList.drop 70 = dktX2_sortOf_3 := dk_seg dksX2_sortOf_2 24 rfl rfl
theorem dksX2_sortOf_4 : cX2_sortOf.data.toList.drop 94 = dktX2_sortOf_4 := dk_seg dksX2_sortOf_3 24 rfl rfl
theorem dksX2_sortOf_5 : cX2_sortOf.data.toList.drop 118 = dktX2_sortOf_5 := dk_seg dksX2_sortOf_4 24 rfl rfl
theorem dX2_sortOf_0 : decode cX2_sortOf 0 = .ok (.aload_n 0, 1) := dk_42 (dk_at dksX2_sortOf_0 0 rfl rfl)
theorem dX2_sortOf_1 : decode cX2_sortOf 1 = .ok (.bipush 100, 2) := dk_16 100 (dk_at dksX2_sortOf_0 1 rfl rfl)
theorem dX2_sortOf_3 : decode cX2_sortOf 3 = .ok (.bipush 117, 2) := dk_16 117 (dk_at dksX2_sortOf_0 3 rfl rfl)
theorem dX2_sortOf_5 : decode cX2_sortOf 5 = .ok (.bipush 101, 2) := dk_16 101 (dk_at dksX2_sortOf_0 5 rfl rfl)
theorem dX2_sortOf_7 : decode cX2_sortOf 7 = .ok (.bipush 115, 2) := dk_16 115 (dk_at dksX2_sortOf_0 7 rfl rfl)
theorem dX2_sortOf_9 : decode cX2_sortOf 9 = .ok (.invokestatic 145, 3) := dk_184 0 145 (dk_at dksX2_sortOf_0 9 rfl rfl)
theorem dX2_sortOf_12 : decode cX2_sortOf 12 = .ok (.invokevirtual 201, 3) := dk_182 0 201 (dk_at dksX2_sortOf_0 12 rfl rfl)
theorem dX2_sortOf_15 : decode cX2_sortOf 15 = .ok (.ifCond .eq 5, 3) := dk_153 0 5 (dk_at dksX2_sortOf_0 15 rfl rfl)
theorem dX2_sortOf_18 : decode cX2_sortOf 18 = .ok (.iconst 0, 1) := dk_3 (dk_at dksX2_sortOf_0 18 rfl rfl)
theorem dX2_sortOf_19 : decode cX2_sortOf 19 = .ok (.ireturn, 1) := dk_172 (dk_at dksX2_sortOf_0 19 rfl rfl)
theorem dX2_sortOf_20 : decode cX2_sortOf 20 = .ok (.aload_n 0, 1) := dk_42 (dk_at dksX2_sortOf_0 20 rfl rfl)
theorem dX2_sortOf_21 : decode cX2_sortOf 21 = .ok (.bipush 115, 2) := dk_16 115 (dk_at dksX2_sortOf_0 21 rfl rfl)
theorem dX2_sortOf_23 : decode cX2_sortOf 23 = .ok (.bipush 101, 2) := dk_16 101 (dk_at dksX2_sortOf_1 0 rfl rfl)
theorem dX2_sortOf_25 : decode cX2_sortOf 25 = .ok (.bipush 108, 2) := dk_16 108 (dk_at dksX2_sortOf_1 2 rfl rfl)
theorem dX2_sortOf_27 : decode cX2_sortOf 27 = .ok (.bipush 108, 2) := dk_16 108 (dk_at dksX2_sortOf_1 4 rfl rfl)
theorem dX2_sortOf_29 : decode cX2_sortOf 29 = .ok (.bipush 115, 2) := dk_16 115 (dk_at dksX2_sortOf_1 6 rfl rfl)
theorem dX2_sortOf_31 : decode cX2_sortOf 31 = .ok (.invokestatic 149, 3) := dk_184 0 149 (dk_at dksX2_sortOf_1 8 rfl rfl)
theorem dX2_sortOf_34 : decode cX2_sortOf 34 = .ok (.invokevirtual 201, 3) := dk_182 0 201 (dk_at dksX2_sortOf_1 11 rfl rfl)
theorem dX2_sortOf_37 : decode cX2_sortOf 37 = .ok (.ifCond .eq 5, 3) := dk_153 0 5 (dk_at dksX2_sortOf_1 14 rfl rfl)
theorem dX2_sortOf_40 : decode cX2_sortOf 40 = .ok (.iconst 1, 1) := dk_4 (dk_at dksX2_sortOf_1 17 rfl rfl)
theorem dX2_sortOf_41 : decode cX2_sortOf 41 = .ok (.ireturn, 1) := dk_172 (dk_at dksX2_sortOf_1 18 rfl rfl)
theorem dX2_sortOf_42 : decode cX2_sortOf 42 = .ok (.aload_n 0, 1) := dk_42 (dk_at dksX2_sortOf_1 19 rfl rfl)
theorem dX2_sortOf_43 : decode cX2_sortOf 43 = .ok (.invokevirtual 250, 3) := dk_182 0 250 (dk_at dksX2_sortOf_1 20 rfl rfl)
theorem dX2_sortOf_46 : decode cX2_sortOf 46 = .ok (.ifCond .eq 5, 3) := dk_153 0 5 (dk_at dksX2_sortOf_2 0 rfl rfl)
theorem dX2_sortOf_49 : decode cX2_sortOf 49 = .ok (.iconst 2, 1) := dk_5 (dk_at dksX2_sortOf_2 3 rfl rfl)
theorem dX2_sortOf_50 : decode cX2_sortOf 50 = .ok (.ireturn, 1) := dk_172 (dk_at dksX2_sortOf_2 4 rfl rfl)
theorem dX2_sortOf_51 : decode cX2_sortOf 51 = .ok (.aload_n 0, 1) := dk_42 (dk_at dksX2_sortOf_2 5 rfl rfl)
theorem dX2_sortOf_52 : decode cX2_sortOf 52 = .ok (.bipush 112, 2) := dk_16 112 (dk_at dksX2_sortOf_2 6 rfl rfl)
theorem dX2_sortOf_54 : decode cX2_sortOf 54 = .ok (.bipush 97, 2) := dk_16 97 (dk_at dksX2_sortOf_2 8 rfl rfl)
theorem dX2_sortOf_56 : decode cX2_sortOf 56 = .ok (.bipush 119, 2) := dk_16 119 (dk_at dksX2_sortOf_2 10 rfl rfl)
theorem dX2_sortOf_58 : decode cX2_sortOf 58 = .ok (.bipush 110, 2) := dk_16 110 (dk_at dksX2_sortOf_2 12 rfl rfl)
theorem dX2_sortOf_60 : decode cX2_sortOf 60 = .ok (.invokestatic 145, 3) := dk_184 0 145 (dk_at dksX2_sortOf_2 14 rfl rfl)
theorem dX2_sortOf_63 : decode cX2_sortOf 63 = .ok (.invokevirtual 201, 3) := dk_182 0 201 (dk_at dksX2_sortOf_2 17 rfl rfl)
theorem dX2_sortOf_66 : decode cX2_sortOf 66 = .ok (.ifCond .eq 5, 3) := dk_153 0 5 (dk_at dksX2_sortOf_2 20 rfl rfl)
theorem dX2_sortOf_69 : decode cX2_sortOf 69 = .ok (.iconst 3, 1) := dk_6 (dk_at dksX2_sortOf_2 23 rfl rfl)
theorem dX2_sortOf_70 : decode cX2_sortOf 70 = .ok (.ireturn, 1) := dk_172 (dk_at dksX2_sortOf_3 0 rfl rfl)
theorem dX2_sortOf_71 : decode cX2_sortOf 71 = .ok (.aload_n 0, 1) := dk_42 (dk_at dksX2_sortOf_3 1 rfl rfl)
theorem dX2_sortOf_72 : decode cX2_sortOf 72 = .ok (.bipush 114, 2) := dk_16 114 (dk_at dksX2_sortOf_3 2 rfl rfl)
theorem dX2_sortOf_74 : decode cX2_sortOf 74 = .ok (.bipush 101, 2) := dk_16 101 (dk_at dksX2_sortOf_3 4 rfl rfl)
theorem dX2_sortOf_76 : decode cX2_sortOf 76 = .ok (.bipush 100, 2) := dk_16 100 (dk_at dksX2_sortOf_3 6 rfl rfl)
theorem dX2_sortOf_78 : decode cX2_sortOf 78 = .ok (.bipush 101, 2) := dk_16 101 (dk_at dksX2_sortOf_3 8 rfl rfl)
theorem dX2_sortOf_80 : decode cX2_sortOf 80 = .ok (.bipush 101, 2) := dk_16 101 (dk_at dksX2_sortOf_3 10 rfl rfl)
theorem dX2_sortOf_82 : decode cX2_sortOf 82 = .ok (.bipush 109, 2) := dk_16 109 (dk_at dksX2_sortOf_3 12 rfl rfl)
theorem dX2_sortOf_84 : decode cX2_sortOf 84 = .ok (.invokestatic 159, 3) := dk_184 0 159 (dk_at dksX2_sortOf_3 14 rfl rfl)
theorem dX2_sortOf_87 : decode cX2_sortOf 87 = .ok (.invokevirtual 201, 3) := dk_182 0 201 (dk_at dksX2_sortOf_3 17 rfl rfl)
theorem dX2_sortOf_90 : decode cX2_sortOf 90 = .ok (.ifCond .eq 5, 3) := dk_153 0 5 (dk_at dksX2_sortOf_3 20 rfl rfl)
theorem dX2_sortOf_93 : decode cX2_sortOf 93 = .ok (.iconst 4, 1) := dk_7 (dk_at dksX2_sortOf_3 23 rfl rfl)
theorem dX2_sortOf_94 : decode cX2_sortOf 94 = .ok (.ireturn, 1) := dk_172 (dk_at dksX2_sortOf_4 0 rfl rfl)
theorem dX2_sortOf_95 : decode cX2_sortOf 95 = .ok (.aload_n 0, 1) := dk_42 (dk_at dksX2_sortOf_4 1 rfl rfl)
theorem dX2_sortOf_96 : decode cX2_sortOf 96 = .ok (.bipush 101, 2) := dk_16 101 (dk_at dksX2_sortOf_4 2 rfl rfl)
theorem dX2_sortOf_98 : decode cX2_sortOf 98 = .ok (.bipush 97, 2) := dk_16 97 (dk_at dksX2_sortOf_4 4 rfl rfl)
theorem dX2_sortOf_100 : decode cX2_sortOf 100 = .ok (.bipush 114, 2) := dk_16 114 (dk_at dksX2_sortOf_4 6 rfl rfl)
theorem dX2_sortOf_102 : decode cX2_sortOf 102 = .ok (.bipush 110, 2) := dk_16 110 (dk_at dksX2_sortOf_4 8 rfl rfl)
theorem dX2_sortOf_104 : decode cX2_sortOf 104 = .ok (.invokestatic 145, 3) := dk_184 0 145 (dk_at dksX2_sortOf_4 10 rfl rfl)
theorem dX2_sortOf_107 : decode cX2_sortOf 107 = .ok (.invokevirtual 201, 3) := dk_182 0 201 (dk_at dksX2_sortOf_4 13 rfl rfl)
theorem dX2_sortOf_110 : decode cX2_sortOf 110 = .ok (.ifCond .eq 7, 3) := dk_153 0 7 (dk_at dksX2_sortOf_4 16 rfl rfl)
theorem dX2_sortOf_113 : decode cX2_sortOf 113 = .ok (.iconst 5, 1) := dk_8 (dk_at dksX2_sortOf_4 19 rfl rfl)
theorem dX2_sortOf_114 : decode cX2_sortOf 114 = .ok (.goto 25, 3) := dk_167 0 25 (dk_at dksX2_sortOf_4 20 rfl rfl)
theorem dX2_sortOf_117 : decode cX2_sortOf 117 = .ok (.aload_n 0, 1) := dk_42 (dk_at dksX2_sortOf_4 23 rfl rfl)
theorem dX2_sortOf_118 : decode cX2_sortOf 118 = .ok (.bipush 100, 2) := dk_16 100 (dk_at dksX2_sortOf_5 0 rfl rfl)
theorem dX2_sortOf_120 : decode cX2_sortOf 120 = .ok (.bipush 97, 2) := dk_16 97 (dk_at dksX2_sortOf_5 2 rfl rfl)
theorem dX2_sortOf_122 : decode cX2_sortOf 122 = .ok (.bipush 121, 2) := dk_16 121 (dk_at dksX2_sortOf_5 4 rfl rfl)
theorem dX2_sortOf_124 : decode cX2_sortOf 124 = .ok (.invokestatic 141, 3) := dk_184 0 141 (dk_at dksX2_sortOf_5 6 rfl rfl)
theorem dX2_sortOf_127 : decode cX2_sortOf 127 = .ok (.invokevirtual 201, 3) := dk_182 0 201 (dk_at dksX2_sortOf_5 9 rfl rfl)
theorem dX2_sortOf_130 : decode cX2_sortOf 130 = .ok (.ifCond .eq 8, 3) := dk_153 0 8 (dk_at dksX2_sortOf_5 12 rfl rfl)
theorem dX2_sortOf_133 : decode cX2_sortOf 133 = .ok (.bipush 6, 2) := dk_16 6 (dk_at dksX2_sortOf_5 15 rfl rfl)
theorem dX2_sortOf_135 : decode cX2_sortOf 135 = .ok (.goto 4, 3) := dk_167 0 4 (dk_at dksX2_sortOf_5 17 rfl rfl)
theorem dX2_sortOf_138 : decode cX2_sortOf 138 = .ok (.iconst (-1), 1) := dk_2 (dk_at dksX2_sortOf_5 20 rfl rfl)
theorem dX2_sortOf_139 : decode cX2_sortOf 139 = .ok (.ireturn, 1) := dk_172 (dk_at dksX2_sortOf_5 21 rfl rfl)
abbrev cX2_w4 : ByteArray := prog_20_method_30_code
def yX2_w4 : MethodName := ⟨RX2, "w4", "(IIII)J"⟩
def dkwX2_w4_0 : List UInt8 := [26, 27, 28, 184, 0, 141, 16, 8, 121, 29, 133, 129, 173]
abbrev dktX2_w4_0 : List UInt8 := dkwX2_w4_0 ++ []
theorem dksX2_w4_0 : cX2_w4.data.toList.drop 0 = dktX2_w4_0 := by decide +kernel
theorem dX2_w4_0 : decode cX2_w4 0 = .ok (.iload_n 0, 1) := dk_26 (dk_at dksX2_w4_0 0 rfl rfl)
theorem dX2_w4_1 : decode cX2_w4 1 = .ok (.iload_n 1, 1) := dk_27 (dk_at dksX2_w4_0 1 rfl rfl)
theorem dX2_w4_2 : decode cX2_w4 2 = .ok (.iload_n 2, 1) := dk_28 (dk_at dksX2_w4_0 2 rfl rfl)
theorem dX2_w4_3 : decode cX2_w4 3 = .ok (.invokestatic 141, 3) := dk_184 0 141 (dk_at dksX2_w4_0 3 rfl rfl)
theorem dX2_w4_6 : decode cX2_w4 6 = .ok (.bipush 8, 2) := dk_16 8 (dk_at dksX2_w4_0 6 rfl rfl)
theorem dX2_w4_8 : decode cX2_w4 8 = .ok (.lshl, 1) := dk_121 (dk_at dksX2_w4_0 8 rfl rfl)
theorem dX2_w4_9 : decode cX2_w4 9 = .ok (.iload_n 3, 1) := dk_29 (dk_at dksX2_w4_0 9 rfl rfl)
theorem dX2_w4_10 : decode cX2_w4 10 = .ok (.i2l, 1) := dk_133 (dk_at dksX2_w4_0 10 rfl rfl)
theorem dX2_w4_11 : decode cX2_w4 11 = .ok (.lor, 1) := dk_129 (dk_at dksX2_w4_0 11 rfl rfl)
theorem dX2_w4_12 : decode cX2_w4 12 = .ok (.lreturn, 1) := dk_173 (dk_at dksX2_w4_0 12 rfl rfl)
abbrev cX2_w3 : ByteArray := prog_20_method_29_code
def yX2_w3 : MethodName := ⟨RX2, "w3", "(III)J"⟩
def dkwX2_w3_0 : List UInt8 := [26, 27, 184, 0, 137, 16, 8, 121, 28, 133, 129, 173]
abbrev dktX2_w3_0 : List UInt8 := dkwX2_w3_0 ++ []
theorem dksX2_w3_0 : cX2_w3.data.toList.drop 0 = dktX2_w3_0 := by decide +kernel
theorem dX2_w3_0 : decode cX2_w3 0 = .ok (.iload_n 0, 1) := dk_26 (dk_at dksX2_w3_0 0 rfl rfl)
theorem dX2_w3_1 : decode cX2_w3 1 = .ok (.iload_n 1, 1) := dk_27 (dk_at dksX2_w3_0 1 rfl rfl)
theorem dX2_w3_2 : decode cX2_w3 2 = .ok (.invokestatic 137, 3) := dk_184 0 137 (dk_at dksX2_w3_0 2 rfl rfl)
theorem dX2_w3_5 : decode cX2_w3 5 = .ok (.bipush 8, 2) := dk_16 8 (dk_at dksX2_w3_0 5 rfl rfl)
theorem dX2_w3_7 : decode cX2_w3 7 = .ok (.lshl, 1) := dk_121 (dk_at dksX2_w3_0 7 rfl rfl)
theorem dX2_w3_8 : decode cX2_w3 8 = .ok (.iload_n 2, 1) := dk_28 (dk_at dksX2_w3_0 8 rfl rfl)
theorem dX2_w3_9 : decode cX2_w3 9 = .ok (.i2l, 1) := dk_133 (dk_at dksX2_w3_0 9 rfl rfl)
theorem dX2_w3_10 : decode cX2_w3 10 = .ok (.lor, 1) := dk_129 (dk_at dksX2_w3_0 10 rfl rfl)
theorem dX2_w3_11 : decode cX2_w3 11 = .ok (.lreturn, 1) := dk_173 (dk_at dksX2_w3_0 11 rfl rfl)
abbrev cX2_w2 : ByteArray := prog_20_method_28_code
def yX2_w2 : MethodName := ⟨RX2, "w2", "(II)J"⟩
def dkwX2_w2_0 : List UInt8 := [26, 133, 16, 8, 121, 27, 133, 129, 173]
abbrev dktX2_w2_0 : List UInt8 := dkwX2_w2_0 ++ []
theorem dksX2_w2_0 : cX2_w2.data.toList.drop 0 = dktX2_w2_0 := by decide +kernel
theorem dX2_w2_0 : decode cX2_w2 0 = .ok (.iload_n 0, 1) := dk_26 (dk_at dksX2_w2_0 0 rfl rfl)
theorem dX2_w2_1 : decode cX2_w2 1 = .ok (.i2l, 1) := dk_133 (dk_at dksX2_w2_0 1 rfl rfl)
theorem dX2_w2_2 : decode cX2_w2 2 = .ok (.bipush 8, 2) := dk_16 8 (dk_at dksX2_w2_0 2 rfl rfl)
theorem dX2_w2_4 : decode cX2_w2 4 = .ok (.lshl, 1) := dk_121 (dk_at dksX2_w2_0 4 rfl rfl)
theorem dX2_w2_5 : decode cX2_w2 5 = .ok (.iload_n 1, 1) := dk_27 (dk_at dksX2_w2_0 5 rfl rfl)
theorem dX2_w2_6 : decode cX2_w2 6 = .ok (.i2l, 1) := dk_133 (dk_at dksX2_w2_0 6 rfl rfl)
theorem dX2_w2_7 : decode cX2_w2 7 = .ok (.lor, 1) := dk_129 (dk_at dksX2_w2_0 7 rfl rfl)
theorem dX2_w2_8 : decode cX2_w2 8 = .ok (.lreturn, 1) := dk_173 (dk_at dksX2_w2_0 8 rfl rfl)
abbrev cX2_isWord : ByteArray := prog_20_method_33_code
def yX2_isWord : MethodName := ⟨RX2, "isWord", "(J)Z"⟩
def dkwX2_isWord_0 : List UInt8 := [42, 180, 0, 115, 5, 160, 0, 16, 42, 180, 0, 128, 31, 148, 154, 0, 7, 4, 167, 0, 4, 3, 172]
abbrev dktX2_isWord_0 : List UInt8 := dkwX2_isWord_0 ++ []
theorem dksX2_isWord_0 : cX2_isWord.data.toList.drop 0 = dktX2_isWord_0 := by decide +kernel
theorem dX2_isWord_0 : decode cX2_isWord 0 = .ok (.aload_n 0, 1) := dk_42 (dk_at dksX2_isWord_0 0 rfl rfl)
theorem dX2_isWord_1 : decode cX2_isWord 1 = .ok (.getfield 115, 3) := dk_180 0 115 (dk_at dksX2_isWord_0 1 rfl rfl)
theorem dX2_isWord_4 : decode cX2_isWord 4 = .ok (.iconst 2, 1) := dk_5 (dk_at dksX2_isWord_0 4 rfl rfl)
theorem dX2_isWord_5 : decode cX2_isWord 5 = .ok (.if_icmp .ne 16, 3) := dk_160 0 16 (dk_at dksX2_isWord_0 5 rfl rfl)
theorem dX2_isWord_8 : decode cX2_isWord 8 = .ok (.aload_n 0, 1) := dk_42 (dk_at dksX2_isWord_0 8 rfl rfl)
theorem dX2_isWord_9 : decode cX2_isWord 9 = .ok (.getfield 128, 3) := dk_180 0 128 (dk_at dksX2_isWord_0 9 rfl rfl)
theorem dX2_isWord_12 : decode cX2_isWord 12 = .ok (.lload_n 1, 1) := dk_31 (dk_at dksX2_isWord_0 12 rfl rfl)
theorem dX2_isWord_13 : decode cX2_isWord 13 = .ok (.lcmp, 1) := dk_148 (dk_at dksX2_isWord_0 13 rfl rfl)
theorem dX2_isWord_14 : decode cX2_isWord 14 = .ok (.ifCond .ne 7, 3) := dk_154 0 7 (dk_at dksX2_isWord_0 14 rfl rfl)
theorem dX2_isWord_17 : decode cX2_isWord 17 = .ok (.iconst 1, 1) := dk_4 (dk_at dksX2_isWord_0 17 rfl rfl)
theorem dX2_isWord_18 : decode cX2_isWord 18 = .ok (.goto 4, 3) := dk_167 0 4 (dk_at dksX2_isWord_0 18 rfl rfl)
theorem dX2_isWord_21 : decode cX2_isWord 21 = .ok (.iconst 0, 1) := dk_3 (dk_at dksX2_isWord_0 21 rfl rfl)
theorem dX2_isWord_22 : decode cX2_isWord 22 = .ok (.ireturn, 1) := dk_172 (dk_at dksX2_isWord_0 22 rfl rfl)
abbrev cX2_w5 : ByteArray := prog_20_method_31_code
def yX2_w5 : MethodName := ⟨RX2, "w5", "(IIIII)J"⟩
def dkwX2_w5_0 : List UInt8 := [26, 27, 28, 29, 184, 0, 145, 16, 8, 121, 21, 4, 133, 129, 173]
abbrev dktX2_w5_0 : List UInt8 := dkwX2_w5_0 ++ []
theorem dksX2_w5_0 : cX2_w5.data.toList.drop 0 = dktX2_w5_0 := by decide +kernel
theorem dX2_w5_0 : decode cX2_w5 0 = .ok (.iload_n 0, 1) := dk_26 (dk_at dksX2_w5_0 0 rfl rfl)
theorem dX2_w5_1 : decode cX2_w5 1 = .ok (.iload_n 1, 1) := dk_27 (dk_at dksX2_w5_0 1 rfl rfl)
theorem dX2_w5_2 : decode cX2_w5 2 = .ok (.iload_n 2, 1) := dk_28 (dk_at dksX2_w5_0 2 rfl rfl)
theorem dX2_w5_3 : decode cX2_w5 3 = .ok (.iload_n 3, 1) := dk_29 (dk_at dksX2_w5_0 3 rfl rfl)
theorem dX2_w5_4 : decode cX2_w5 4 = .ok (.invokestatic 145, 3) := dk_184 0 145 (dk_at dksX2_w5_0 4 rfl rfl)
theorem dX2_w5_7 : decode cX2_w5 7 = .ok (.bipush 8, 2) := dk_16 8 (dk_at dksX2_w5_0 7 rfl rfl)
theorem dX2_w5_9 : decode cX2_w5 9 = .ok (.lshl, 1) := dk_121 (dk_at dksX2_w5_0 9 rfl rfl)
theorem dX2_w5_10 : decode cX2_w5 10 = .ok (.iload 4, 2) := dk_21 4 (dk_at dksX2_w5_0 10 rfl rfl)
theorem dX2_w5_12 : decode cX2_w5 12 = .ok (.i2l, 1) := dk_133 (dk_at dksX2_w5_0 12 rfl rfl)
theorem dX2_w5_13 : decode cX2_w5 13 = .ok (.lor, 1) := dk_129 (dk_at dksX2_w5_0 13 rfl rfl)
theorem dX2_w5_14 : decode cX2_w5 14 = .ok (.lreturn, 1) := dk_173 (dk_at dksX2_w5_0 14 rfl rfl)
abbrev cX2_isQuarrelWord : ByteArray := prog_20_method_35_code
def yX2_isQuarrelWord : MethodName := ⟨RX2, "isQuarrelWord", "()Z"⟩
def dkwX2_isQuarrelWord_5 : List UInt8 := [184, 0, 141, 148, 154, 0, 7, 4, 167, 0, 4, 3, 172]
abbrev dktX2_isQuarrelWord_5 : List UInt8 := dkwX2_isQuarrelWord_5 ++ []
def dkwX2_isQuarrelWord_4 : List UInt8 := [182, 0, 109, 42, 42, 180, 0, 112, 16, 6, 96, 182, 0, 109, 184, 0, 141, 16, 114, 16, 101, 16, 108]
abbrev dktX2_isQuarrelWord_4 : List UInt8 := dkwX2_isQuarrelWord_4 ++ dktX2_isQuarrelWord_5
def dkwX2_isQuarrelWord_3 : List UInt8 := [184, 0, 145, 148, 154, 0, 54, 42, 42, 180, 0, 112, 7, 96, 182, 0, 109, 42, 42, 180, 0, 112, 8, 96]
abbrev dktX2_isQuarrelWord_3 : List UInt8 := dkwX2_isQuarrelWord_3 ++ dktX2_isQuarrelWord_4
def dkwX2_isQuarrelWord_2 : List UInt8 := [182, 0, 109, 42, 42, 180, 0, 112, 6, 96, 182, 0, 109, 184, 0, 145, 16, 113, 16, 117, 16, 97, 16, 114]
abbrev dktX2_isQuarrelWord_2 : List UInt8 := dkwX2_isQuarrelWord_2 ++ dktX2_isQuarrelWord_3
def dkwX2_isQuarrelWord_1 : List UInt8 := [180, 0, 112, 182, 0, 109, 42, 42, 180, 0, 112, 4, 96, 182, 0, 109, 42, 42, 180, 0, 112, 5, 96]
abbrev dktX2_isQuarrelWord_1 : List UInt8 := dkwX2_isQuarrelWord_1 ++ dktX2_isQuarrelWord_2
def dkwX2_isQuarrelWord_0 : List UInt8 := [42, 180, 0, 115, 5, 160, 0, 124, 42, 180, 0, 106, 42, 180, 0, 112, 100, 16, 7, 160, 0, 110, 42, 42]
abbrev dktX2_isQuarrelWord_0 : List UInt8 := dkwX2_isQuarrelWord_0 ++ dktX2_isQuarrelWord_1
theorem dksX2_isQuarrelWord_0 : cX2_isQuarrelWord.data.toList.drop 0 = dktX2_isQuarrelWord_0 := by decide +kernel
theorem dksX2_isQuarrelWord_1 : cX2_isQuarrelWord.data.toList.drop 24 = dktX2_isQuarrelWord_1 := dk_seg dksX2_isQuarrelWord_0 24 rfl rfl
theorem dksX2_isQuarrelWord_2 : cX2_isQuarrelWord.data.toList.drop 47 = dktX2_isQuarrelWord_2 := dk_seg dksX2_isQuarrelWord_1 23 rfl rfl
theorem dksX2_isQuarrelWord_3 : cX2_isQuarrelWord.data.toList.drop 71 = dktX2_isQuarrelWord_3 := dk_seg dksX2_isQuarrelWord_2 24 rfl rfl
theorem dksX2_isQuarrelWord_4 : cX2_isQuarrelWord.data.toList.drop 95 = dktX2_isQuarrelWord_4 := dk_seg dksX2_isQuarrelWord_3 24 rfl rfl
theorem dksX2_isQuarrelWord_5 : cX2_isQuarrelWord.data.toList.drop 118 = dktX2_isQuarrelWord_5 := dk_seg dksX2_isQuarrelWord_4 23 rfl rfl
theorem dX2_isQuarrelWord_0 : decode cX2_isQuarrelWord 0 = .ok (.aload_n 0, 1) := dk_42 (dk_at dksX2_isQuarrelWord_0 0 rfl rfl)
theorem dX2_isQuarrelWord_1 : decode cX2_isQuarrelWord 1 = .ok (.getfield 115, 3) := dk_180 0 115 (dk_at dksX2_isQuarrelWord_0 1 rfl rfl)
theorem dX2_isQuarrelWord_4 : decode cX2_isQuarrelWord 4 = .ok (.iconst 2, 1) := dk_5 (dk_at dksX2_isQuarrelWord_0 4 rfl rfl)
theorem dX2_isQuarrelWord_5 : decode cX2_isQuarrelWord 5 = .ok (.if_icmp .ne 124, 3) := dk_160 0 124 (dk_at dksX2_isQuarrelWord_0 5 rfl rfl)
theorem dX2_isQuarrelWord_8 : decode cX2_isQuarrelWord 8 = .ok (.aload_n 0, 1) := dk_42 (dk_at dksX2_isQuarrelWord_0 8 rfl rfl)
theorem dX2_isQuarrelWord_9 : decode cX2_isQuarrelWord 9 = .ok (.getfield 106, 3) := dk_180 0 106 (dk_at dksX2_isQuarrelWord_0 9 rfl rfl)
theorem dX2_isQuarrelWord_12 : decode cX2_isQuarrelWord 12 = .ok (.aload_n 0, 1) := dk_42 (dk_at dksX2_isQuarrelWord_0 12 rfl rfl)
theorem dX2_isQuarrelWord_13 : decode cX2_isQuarrelWord 13 = .ok (.getfield 112, 3) := dk_180 0 112 (dk_at dksX2_isQuarrelWord_0 13 rfl rfl)
theorem dX2_isQuarrelWord_16 : decode cX2_isQuarrelWord 16 = .ok (.isub, 1) := dk_100 (dk_at dksX2_isQuarrelWord_0 16 rfl rfl)
theorem dX2_isQuarrelWord_17 : decode cX2_isQuarrelWord 17 = .ok (.bipush 7, 2) := dk_16 7 (dk_at dksX2_isQuarrelWord_0 17 rfl rfl)
theorem dX2_isQuarrelWord_19 : decode cX2_isQuarrelWord 19 = .ok (.if_icmp .ne 110, 3) := dk_160 0 110 (dk_at dksX2_isQuarrelWord_0 19 rfl rfl)
theorem dX2_isQuarrelWord_22 : decode cX2_isQuarrelWord 22 = .ok (.aload_n 0, 1) := dk_42 (dk_at dksX2_isQuarrelWord_0 22 rfl rfl)
theorem dX2_isQuarrelWord_23 : decode cX2_isQuarrelWord 23 = .ok (.aload_n 0, 1) := dk_42 (dk_at dksX2_isQuarrelWord_0 23 rfl rfl)
theorem dX2_isQuarrelWord_24 : decode cX2_isQuarrelWord 24 = .ok (.getfield 112, 3) := dk_180 0 112 (dk_at dksX2_isQuarrelWord_1 0 rfl rfl)
theorem dX2_isQuarrelWord_27 : decode cX2_isQuarrelWord 27 = .ok (.invokevirtual 109, 3) := dk_182 0 109 (dk_at dksX2_isQuarrelWord_1 3 rfl rfl)
theorem dX2_isQuarrelWord_30 : decode cX2_isQuarrelWord 30 = .ok (.aload_n 0, 1) := dk_42 (dk_at dksX2_isQuarrelWord_1 6 rfl rfl)
theorem dX2_isQuarrelWord_31 : decode cX2_isQuarrelWord 31 = .ok (.aload_n 0, 1) := dk_42 (dk_at dksX2_isQuarrelWord_1 7 rfl rfl)
theorem dX2_isQuarrelWord_32 : decode cX2_isQuarrelWord 32 = .ok (.getfield 112, 3) := dk_180 0 112 (dk_at dksX2_isQuarrelWord_1 8 rfl rfl)
theorem dX2_isQuarrelWord_35 : decode cX2_isQuarrelWord 35 = .ok (.iconst 1, 1) := dk_4 (dk_at dksX2_isQuarrelWord_1 11 rfl rfl)
theorem dX2_isQuarrelWord_36 : decode cX2_isQuarrelWord 36 = .ok (.iadd, 1) := dk_96 (dk_at dksX2_isQuarrelWord_1 12 rfl rfl)
theorem dX2_isQuarrelWord_37 : decode cX2_isQuarrelWord 37 = .ok (.invokevirtual 109, 3) := dk_182 0 109 (dk_at dksX2_isQuarrelWord_1 13 rfl rfl)
theorem dX2_isQuarrelWord_40 : decode cX2_isQuarrelWord 40 = .ok (.aload_n 0, 1) := dk_42 (dk_at dksX2_isQuarrelWord_1 16 rfl rfl)
theorem dX2_isQuarrelWord_41 : decode cX2_isQuarrelWord 41 = .ok (.aload_n 0, 1) := dk_42 (dk_at dksX2_isQuarrelWord_1 17 rfl rfl)
theorem dX2_isQuarrelWord_42 : decode cX2_isQuarrelWord 42 = .ok (.getfield 112, 3) := dk_180 0 112 (dk_at dksX2_isQuarrelWord_1 18 rfl rfl)
theorem dX2_isQuarrelWord_45 : decode cX2_isQuarrelWord 45 = .ok (.iconst 2, 1) := dk_5 (dk_at dksX2_isQuarrelWord_1 21 rfl rfl)
theorem dX2_isQuarrelWord_46 : decode cX2_isQuarrelWord 46 = .ok (.iadd, 1) := dk_96 (dk_at dksX2_isQuarrelWord_1 22 rfl rfl)
theorem dX2_isQuarrelWord_47 : decode cX2_isQuarrelWord 47 = .ok (.invokevirtual 109, 3) := dk_182 0 109 (dk_at dksX2_isQuarrelWord_2 0 rfl rfl)
theorem dX2_isQuarrelWord_50 : decode cX2_isQuarrelWord 50 = .ok (.aload_n 0, 1) := dk_42 (dk_at dksX2_isQuarrelWord_2 3 rfl rfl)
theorem dX2_isQuarrelWord_51 : decode cX2_isQuarrelWord 51 = .ok (.aload_n 0, 1) := dk_42 (dk_at dksX2_isQuarrelWord_2 4 rfl rfl)
theorem dX2_isQuarrelWord_52 : decode cX2_isQuarrelWord 52 = .ok (.getfield 112, 3) := dk_180 0 112 (dk_at dksX2_isQuarrelWord_2 5 rfl rfl)
theorem dX2_isQuarrelWord_55 : decode cX2_isQuarrelWord 55 = .ok (.iconst 3, 1) := dk_6 (dk_at dksX2_isQuarrelWord_2 8 rfl rfl)
theorem dX2_isQuarrelWord_56 : decode cX2_isQuarrelWord 56 = .ok (.iadd, 1) := dk_96 (dk_at dksX2_isQuarrelWord_2 9 rfl rfl)
theorem dX2_isQuarrelWord_57 : decode cX2_isQuarrelWord 57 = .ok (.invokevirtual 109, 3) := dk_182 0 109 (dk_at dksX2_isQuarrelWord_2 10 rfl rfl)
theorem dX2_isQuarrelWord_60 : decode cX2_isQuarrelWord 60 = .ok (.invokestatic 145, 3) := dk_184 0 145 (dk_at dksX2_isQuarrelWord_2 13 rfl rfl)
theorem dX2_isQuarrelWord_63 : decode cX2_isQuarrelWord 63 = .ok (.bipush 113, 2) := dk_16 113 (dk_at dksX2_isQuarrelWord_2 16 rfl rfl)
theorem dX2_isQuarrelWord_65 : decode cX2_isQuarrelWord 65 = .ok (.bipush 117, 2) := dk_16 117 (dk_at dksX2_isQuarrelWord_2 18 rfl rfl)
theorem dX2_isQuarrelWord_67 : decode cX2_isQuarrelWord 67 = .ok (.bipush 97, 2) := dk_16 97 (dk_at dksX2_isQuarrelWord_2 20 rfl rfl)
theorem dX2_isQuarrelWord_69 : decode cX2_isQuarrelWord 69 = .ok (.bipush 114, 2) := dk_16 114 (dk_at dksX2_isQuarrelWord_2 22 rfl rfl)
theorem dX2_isQuarrelWord_71 : decode cX2_isQuarrelWord 71 = .ok (.invokestatic 145, 3) := dk_184 0 145 (dk_at dksX2_isQuarrelWord_3 0 rfl rfl)
theorem dX2_isQuarrelWord_74 : decode cX2_isQuarrelWord 74 = .ok (.lcmp, 1) := dk_148 (dk_at dksX2_isQuarrelWord_3 3 rfl rfl)
theorem dX2_isQuarrelWord_75 : decode cX2_isQuarrelWord 75 = .ok (.ifCond .ne 54, 3) := dk_154 0 54 (dk_at dksX2_isQuarrelWord_3 4 rfl rfl)
theorem dX2_isQuarrelWord_78 : decode cX2_isQuarrelWord 78 = .ok (.aload_n 0, 1) := dk_42 (dk_at dksX2_isQuarrelWord_3 7 rfl rfl)
theorem dX2_isQuarrelWord_79 : decode cX2_isQuarrelWord 79 = .ok (.aload_n 0, 1) := dk_42 (dk_at dksX2_isQuarrelWord_3 8 rfl rfl)
theorem dX2_isQuarrelWord_80 : decode cX2_isQuarrelWord 80 = .ok (.getfield 112, 3) := dk_180 0 112 (dk_at dksX2_isQuarrelWord_3 9 rfl rfl)
theorem dX2_isQuarrelWord_83 : decode cX2_isQuarrelWord 83 = .ok (.iconst 4, 1) := dk_7 (dk_at dksX2_isQuarrelWord_3 12 rfl rfl)
theorem dX2_isQuarrelWord_84 : decode cX2_isQuarrelWord 84 = .ok (.iadd, 1) := dk_96 (dk_at dksX2_isQuarrelWord_3 13 rfl rfl)
theorem dX2_isQuarrelWord_85 : decode cX2_isQuarrelWord 85 = .ok (.invokevirtual 109, 3) := dk_182 0 109 (dk_at dksX2_isQuarrelWord_3 14 rfl rfl)
theorem dX2_isQuarrelWord_88 : decode cX2_isQuarrelWord 88 = .ok (.aload_n 0, 1) := dk_42 (dk_at dksX2_isQuarrelWord_3 17 rfl rfl)
theorem dX2_isQuarrelWord_89 : decode cX2_isQuarrelWord 89 = .ok (.aload_n 0, 1) := dk_42 (dk_at dksX2_isQuarrelWord_3 18 rfl rfl)
theorem dX2_isQuarrelWord_90 : decode cX2_isQuarrelWord 90 = .ok (.getfield 112, 3) := dk_180 0 112 (dk_at dksX2_isQuarrelWord_3 19 rfl rfl)
theorem dX2_isQuarrelWord_93 : decode cX2_isQuarrelWord 93 = .ok (.iconst 5, 1) := dk_8 (dk_at dksX2_isQuarrelWord_3 22 rfl rfl)
theorem dX2_isQuarrelWord_94 : decode cX2_isQuarrelWord 94 = .ok (.iadd, 1) := dk_96 (dk_at dksX2_isQuarrelWord_3 23 rfl rfl)
theorem dX2_isQuarrelWord_95 : decode cX2_isQuarrelWord 95 = .ok (.invokevirtual 109, 3) := dk_182 0 109 (dk_at dksX2_isQuarrelWord_4 0 rfl rfl)
theorem dX2_isQuarrelWord_98 : decode cX2_isQuarrelWord 98 = .ok (.aload_n 0, 1) := dk_42 (dk_at dksX2_isQuarrelWord_4 3 rfl rfl)
theorem dX2_isQuarrelWord_99 : decode cX2_isQuarrelWord 99 = .ok (.aload_n 0, 1) := dk_42 (dk_at dksX2_isQuarrelWord_4 4 rfl rfl)
theorem dX2_isQuarrelWord_100 : decode cX2_isQuarrelWord 100 = .ok (.getfield 112, 3) := dk_180 0 112 (dk_at dksX2_isQuarrelWord_4 5 rfl rfl)
theorem dX2_isQuarrelWord_103 : decode cX2_isQuarrelWord 103 = .ok (.bipush 6, 2) := dk_16 6 (dk_at dksX2_isQuarrelWord_4 8 rfl rfl)
theorem dX2_isQuarrelWord_105 : decode cX2_isQuarrelWord 105 = .ok (.iadd, 1) := dk_96 (dk_at dksX2_isQuarrelWord_4 10 rfl rfl)
theorem dX2_isQuarrelWord_106 : decode cX2_isQuarrelWord 106 = .ok (.invokevirtual 109, 3) := dk_182 0 109 (dk_at dksX2_isQuarrelWord_4 11 rfl rfl)
theorem dX2_isQuarrelWord_109 : decode cX2_isQuarrelWord 109 = .ok (.invokestatic 141, 3) := dk_184 0 141 (dk_at dksX2_isQuarrelWord_4 14 rfl rfl)
theorem dX2_isQuarrelWord_112 : decode cX2_isQuarrelWord 112 = .ok (.bipush 114, 2) := dk_16 114 (dk_at dksX2_isQuarrelWord_4 17 rfl rfl)
theorem dX2_isQuarrelWord_114 : decode cX2_isQuarrelWord 114 = .ok (.bipush 101, 2) := dk_16 101 (dk_at dksX2_isQuarrelWord_4 19 rfl rfl)
theorem dX2_isQuarrelWord_116 : decode cX2_isQuarrelWord 116 = .ok (.bipush 108, 2) := dk_16 108 (dk_at dksX2_isQuarrelWord_4 21 rfl rfl)
theorem dX2_isQuarrelWord_118 : decode cX2_isQuarrelWord 118 = .ok (.invokestatic 141, 3) := dk_184 0 141 (dk_at dksX2_isQuarrelWord_5 0 rfl rfl)
theorem dX2_isQuarrelWord_121 : decode cX2_isQuarrelWord 121 = .ok (.lcmp, 1) := dk_148 (dk_at dksX2_isQuarrelWord_5 3 rfl rfl)
theorem dX2_isQuarrelWord_122 : decode cX2_isQuarrelWord 122 = .ok (.ifCond .ne 7, 3) := dk_154 0 7 (dk_at dksX2_isQuarrelWord_5 4 rfl rfl)
theorem dX2_isQuarrelWord_125 : decode cX2_isQuarrelWord 125 = .ok (.iconst 1, 1) := dk_4 (dk_at dksX2_isQuarrelWord_5 7 rfl rfl)
theorem dX2_isQuarrelWord_126 : decode cX2_isQuarrelWord 126 = .ok (.goto 4, 3) := dk_167 0 4 (dk_at dksX2_isQuarrelWord_5 8 rfl rfl)
theorem dX2_isQuarrelWord_129 : decode cX2_isQuarrelWord 129 = .ok (.iconst 0, 1) := dk_3 (dk_at dksX2_isQuarrelWord_5 11 rfl rfl)
theorem dX2_isQuarrelWord_130 : decode cX2_isQuarrelWord 130 = .ok (.ireturn, 1) := dk_172 (dk_at dksX2_isQuarrelWord_5 12 rfl rfl)
abbrev cX2_w6 : ByteArray := prog_20_method_32_code
def yX2_w6 : MethodName := ⟨RX2, "w6", "(IIIIII)J"⟩
def dkwX2_w6_0 : List UInt8 := [26, 27, 28, 29, 21, 4, 184, 0, 149, 16, 8, 121, 21, 5, 133, 129, 173]
abbrev dktX2_w6_0 : List UInt8 := dkwX2_w6_0 ++ []
theorem dksX2_w6_0 : cX2_w6.data.toList.drop 0 = dktX2_w6_0 := by decide +kernel
theorem dX2_w6_0 : decode cX2_w6 0 = .ok (.iload_n 0, 1) := dk_26 (dk_at dksX2_w6_0 0 rfl rfl)
theorem dX2_w6_1 : decode cX2_w6 1 = .ok (.iload_n 1, 1) := dk_27 (dk_at dksX2_w6_0 1 rfl rfl)
theorem dX2_w6_2 : decode cX2_w6 2 = .ok (.iload_n 2, 1) := dk_28 (dk_at dksX2_w6_0 2 rfl rfl)
theorem dX2_w6_3 : decode cX2_w6 3 = .ok (.iload_n 3, 1) := dk_29 (dk_at dksX2_w6_0 3 rfl rfl)
theorem dX2_w6_4 : decode cX2_w6 4 = .ok (.iload 4, 2) := dk_21 4 (dk_at dksX2_w6_0 4 rfl rfl)
theorem dX2_w6_6 : decode cX2_w6 6 = .ok (.invokestatic 149, 3) := dk_184 0 149 (dk_at dksX2_w6_0 6 rfl rfl)
theorem dX2_w6_9 : decode cX2_w6 9 = .ok (.bipush 8, 2) := dk_16 8 (dk_at dksX2_w6_0 9 rfl rfl)
theorem dX2_w6_11 : decode cX2_w6 11 = .ok (.lshl, 1) := dk_121 (dk_at dksX2_w6_0 11 rfl rfl)
theorem dX2_w6_12 : decode cX2_w6 12 = .ok (.iload 5, 2) := dk_21 5 (dk_at dksX2_w6_0 12 rfl rfl)
theorem dX2_w6_14 : decode cX2_w6 14 = .ok (.i2l, 1) := dk_133 (dk_at dksX2_w6_0 14 rfl rfl)
theorem dX2_w6_15 : decode cX2_w6 15 = .ok (.lor, 1) := dk_129 (dk_at dksX2_w6_0 15 rfl rfl)
theorem dX2_w6_16 : decode cX2_w6 16 = .ok (.lreturn, 1) := dk_173 (dk_at dksX2_w6_0 16 rfl rfl)
abbrev cX2_has : ByteArray := prog_20_method_6_code
def yX2_has : MethodName := ⟨RX2, "has", "(II)Z"⟩
def dkwX2_has_0 : List UInt8 := [26, 27, 122, 4, 126, 4, 160, 0, 7, 4, 167, 0, 4, 3, 172]
abbrev dktX2_has_0 : List UInt8 := dkwX2_has_0 ++ []
theorem dksX2_has_0 : cX2_has.data.toList.drop 0 = dktX2_has_0 := by decide +kernel
theorem dX2_has_0 : decode cX2_has 0 = .ok (.iload_n 0, 1) := dk_26 (dk_at dksX2_has_0 0 rfl rfl)
theorem dX2_has_1 : decode cX2_has 1 = .ok (.iload_n 1, 1) := dk_27 (dk_at dksX2_has_0 1 rfl rfl)
theorem dX2_has_2 : decode cX2_has 2 = .ok (.ishr, 1) := dk_122 (dk_at dksX2_has_0 2 rfl rfl)
theorem dX2_has_3 : decode cX2_has 3 = .ok (.iconst 1, 1) := dk_4 (dk_at dksX2_has_0 3 rfl rfl)
theorem dX2_has_4 : decode cX2_has 4 = .ok (.iand, 1) := dk_126 (dk_at dksX2_has_0 4 rfl rfl)
theorem dX2_has_5 : decode cX2_has 5 = .ok (.iconst 1, 1) := dk_4 (dk_at dksX2_has_0 5 rfl rfl)
theorem dX2_has_6 : decode cX2_has 6 = .ok (.if_icmp .ne 7, 3) := dk_160 0 7 (dk_at dksX2_has_0 6 rfl rfl)
theorem dX2_has_9 : decode cX2_has 9 = .ok (.iconst 1, 1) := dk_4 (dk_at dksX2_has_0 9 rfl rfl)
theorem dX2_has_10 : decode cX2_has 10 = .ok (.goto 4, 3) := dk_167 0 4 (dk_at dksX2_has_0 10 rfl rfl)
theorem dX2_has_13 : decode cX2_has 13 = .ok (.iconst 0, 1) := dk_3 (dk_at dksX2_has_0 13 rfl rfl)
theorem dX2_has_14 : decode cX2_has 14 = .ok (.ireturn, 1) := dk_172 (dk_at dksX2_has_0 14 rfl rfl)
abbrev cX2_body : ByteArray := prog_20_method_56_code
def yX2_body : MethodName := ⟨RX2, "body", "(II)I"⟩
def dkwX2_body_4 : List UInt8 := [182, 0, 236, 172, 42, 28, 182, 0, 247, 172]
abbrev dktX2_body_4 : List UInt8 := dkwX2_body_4 ++ []
def dkwX2_body_3 : List UInt8 := [182, 0, 236, 172, 42, 28, 4, 96, 4, 17, 3, 231, 182, 0, 236, 172, 42, 28, 4, 96, 4, 16, 60]
abbrev dktX2_body_3 : List UInt8 := dkwX2_body_3 ++ dktX2_body_4
def dkwX2_body_2 : List UInt8 := [42, 28, 182, 0, 244, 172, 42, 28, 4, 96, 3, 16, 7, 182, 0, 236, 172, 42, 28, 4, 96, 3, 16, 7]
abbrev dktX2_body_2 : List UInt8 := dkwX2_body_2 ++ dktX2_body_3
def dkwX2_body_1 : List UInt8 := [170, 0, 0, 0, 0, 0, 86, 0, 0, 0, 2, 0, 0, 0, 6, 0, 0, 0, 35, 0, 0, 0, 41, 0, 0, 0, 52, 0, 0, 0, 63, 0, 0, 0, 75]
abbrev dktX2_body_1 : List UInt8 := dkwX2_body_1 ++ dktX2_body_2
def dkwX2_body_0 : List UInt8 := [27]
abbrev dktX2_body_0 : List UInt8 := dkwX2_body_0 ++ dktX2_body_1
theorem dksX2_body_0 : cX2_body.data.toList.drop 0 = dktX2_body_0 := by decide +kernel
theorem dksX2_body_1 : cX2_body.data.toList.drop 1 = dktX2_body_1 := dk_seg dksX2_body_0 1 rfl rfl
theorem dksX2_body_2 : cX2_body.data.toList.drop 36 = dktX2_body_2 := dk_seg dksX2_body_1 35 rfl rfl
theorem dksX2_body_3 : cX2_body.data.toList.drop 60 = dktX2_body_3 := dk_seg dksX2_body_2 24 rfl rfl
theorem dksX2_body_4 : cX2_body.data.toList.drop 83 = dktX2_body_4 := dk_seg dksX2_body_3 23 rfl rfl
theorem dX2_body_0 : decode cX2_body 0 = .ok (.iload_n 1, 1) := dk_27 (dk_at dksX2_body_0 0 rfl rfl)
theorem dX2_body_1 : decode cX2_body 1 = .ok (.tableswitch 86 2 6 #[35, 41, 52, 63, 75], 35) := by decide +kernel
theorem dX2_body_36 : decode cX2_body 36 = .ok (.aload_n 0, 1) := dk_42 (dk_at dksX2_body_2 0 rfl rfl)
theorem dX2_body_37 : decode cX2_body 37 = .ok (.iload_n 2, 1) := dk_28 (dk_at dksX2_body_2 1 rfl rfl)
theorem dX2_body_38 : decode cX2_body 38 = .ok (.invokevirtual 244, 3) := dk_182 0 244 (dk_at dksX2_body_2 2 rfl rfl)
theorem dX2_body_41 : decode cX2_body 41 = .ok (.ireturn, 1) := dk_172 (dk_at dksX2_body_2 5 rfl rfl)
theorem dX2_body_42 : decode cX2_body 42 = .ok (.aload_n 0, 1) := dk_42 (dk_at dksX2_body_2 6 rfl rfl)
theorem dX2_body_43 : decode cX2_body 43 = .ok (.iload_n 2, 1) := dk_28 (dk_at dksX2_body_2 7 rfl rfl)
theorem dX2_body_44 : decode cX2_body 44 = .ok (.iconst 1, 1) := dk_4 (dk_at dksX2_body_2 8 rfl rfl)
theorem dX2_body_45 : decode cX2_body 45 = .ok (.iadd, 1) := dk_96 (dk_at dksX2_body_2 9 rfl rfl)
theorem dX2_body_46 : decode cX2_body 46 = .ok (.iconst 0, 1) := dk_3 (dk_at dksX2_body_2 10 rfl rfl)
theorem dX2_body_47 : decode cX2_body 47 = .ok (.bipush 7, 2) := dk_16 7 (dk_at dksX2_body_2 11 rfl rfl)
theorem dX2_body_49 : decode cX2_body 49 = .ok (.invokevirtual 236, 3) := dk_182 0 236 (dk_at dksX2_body_2 13 rfl rfl)
theorem dX2_body_52 : decode cX2_body 52 = .ok (.ireturn, 1) := dk_172 (dk_at dksX2_body_2 16 rfl rfl)
theorem dX2_body_53 : decode cX2_body 53 = .ok (.aload_n 0, 1) := dk_42 (dk_at dksX2_body_2 17 rfl rfl)
theorem dX2_body_54 : decode cX2_body 54 = .ok (.iload_n 2, 1) := dk_28 (dk_at dksX2_body_2 18 rfl rfl)
theorem dX2_body_55 : decode cX2_body 55 = .ok (.iconst 1, 1) := dk_4 (dk_at dksX2_body_2 19 rfl rfl)
theorem dX2_body_56 : decode cX2_body 56 = .ok (.iadd, 1) := dk_96 (dk_at dksX2_body_2 20 rfl rfl)
theorem dX2_body_57 : decode cX2_body 57 = .ok (.iconst 0, 1) := dk_3 (dk_at dksX2_body_2 21 rfl rfl)
theorem dX2_body_58 : decode cX2_body 58 = .ok (.bipush 7, 2) := dk_16 7 (dk_at dksX2_body_2 22 rfl rfl)
theorem dX2_body_60 : decode cX2_body 60 = .ok (.invokevirtual 236, 3) := dk_182 0 236 (dk_at dksX2_body_3 0 rfl rfl)
theorem dX2_body_63 : decode cX2_body 63 = .ok (.ireturn, 1) := dk_172 (dk_at dksX2_body_3 3 rfl rfl)
theorem dX2_body_64 : decode cX2_body 64 = .ok (.aload_n 0, 1) := dk_42 (dk_at dksX2_body_3 4 rfl rfl)
theorem dX2_body_65 : decode cX2_body 65 = .ok (.iload_n 2, 1) := dk_28 (dk_at dksX2_body_3 5 rfl rfl)
theorem dX2_body_66 : decode cX2_body 66 = .ok (.iconst 1, 1) := dk_4 (dk_at dksX2_body_3 6 rfl rfl)
theorem dX2_body_67 : decode cX2_body 67 = .ok (.iadd, 1) := dk_96 (dk_at dksX2_body_3 7 rfl rfl)
theorem dX2_body_68 : decode cX2_body 68 = .ok (.iconst 1, 1) := dk_4 (dk_at dksX2_body_3 8 rfl rfl)
theorem dX2_body_69 : decode cX2_body 69 = .ok (.sipush 999, 3) := dk_17 3 231 (dk_at dksX2_body_3 9 rfl rfl)
theorem dX2_body_72 : decode cX2_body 72 = .ok (.invokevirtual 236, 3) := dk_182 0 236 (dk_at dksX2_body_3 12 rfl rfl)
theorem dX2_body_75 : decode cX2_body 75 = .ok (.ireturn, 1) := dk_172 (dk_at dksX2_body_3 15 rfl rfl)
theorem dX2_body_76 : decode cX2_body 76 = .ok (.aload_n 0, 1) := dk_42 (dk_at dksX2_body_3 16 rfl rfl)
theorem dX2_body_77 : decode cX2_body 77 = .ok (.iload_n 2, 1) := dk_28 (dk_at dksX2_body_3 17 rfl rfl)
theorem dX2_body_78 : decode cX2_body 78 = .ok (.iconst 1, 1) := dk_4 (dk_at dksX2_body_3 18 rfl rfl)
theorem dX2_body_79 : decode cX2_body 79 = .ok (.iadd, 1) := dk_96 (dk_at dksX2_body_3 19 rfl rfl)
theorem dX2_body_80 : decode cX2_body 80 = .ok (.iconst 1, 1) := dk_4 (dk_at dksX2_body_3 20 rfl rfl)
theorem dX2_body_81 : decode cX2_body 81 = .ok (.bipush 60, 2) := dk_16 60 (dk_at dksX2_body_3 21 rfl rfl)
theorem dX2_body_83 : decode cX2_body 83 = .ok (.invokevirtual 236, 3) := dk_182 0 236 (dk_at dksX2_body_4 0 rfl rfl)
theorem dX2_body_86 : decode cX2_body 86 = .ok (.ireturn, 1) := dk_172 (dk_at dksX2_body_4 3 rfl rfl)
theorem dX2_body_87 : decode cX2_body 87 = .ok (.aload_n 0, 1) := dk_42 (dk_at dksX2_body_4 4 rfl rfl)
theorem dX2_body_88 : decode cX2_body 88 = .ok (.iload_n 2, 1) := dk_28 (dk_at dksX2_body_4 5 rfl rfl)
theorem dX2_body_89 : decode cX2_body 89 = .ok (.invokevirtual 247, 3) := dk_182 0 247 (dk_at dksX2_body_4 6 rfl rfl)
theorem dX2_body_92 : decode cX2_body 92 = .ok (.ireturn, 1) := dk_172 (dk_at dksX2_body_4 9 rfl rfl)
abbrev cX2_quarrelClause : ByteArray := prog_20_method_55_code
def yX2_quarrelClause : MethodName := ⟨RX2, "quarrelClause", "(I)I"⟩
def dkwX2_quarrelClause_2 : List UInt8 := [16, 116, 16, 104, 184, 0, 149, 4, 16, 99, 182, 0, 240, 167, 0, 4, 28, 172]
abbrev dktX2_quarrelClause_2 : List UInt8 := dkwX2_quarrelClause_2 ++ []
def dkwX2_quarrelClause_1 : List UInt8 := [184, 0, 137, 3, 8, 182, 0, 240, 61, 28, 154, 0, 29, 42, 27, 6, 96, 16, 119, 16, 111, 16, 114]
abbrev dktX2_quarrelClause_1 : List UInt8 := dkwX2_quarrelClause_1 ++ dktX2_quarrelClause_2
def dkwX2_quarrelClause_0 : List UInt8 := [42, 27, 4, 96, 3, 8, 182, 0, 236, 61, 28, 154, 0, 20, 42, 27, 5, 96, 16, 98, 16, 121]
abbrev dktX2_quarrelClause_0 : List UInt8 := dkwX2_quarrelClause_0 ++ dktX2_quarrelClause_1
theorem dksX2_quarrelClause_0 : cX2_quarrelClause.data.toList.drop 0 = dktX2_quarrelClause_0 := by decide +kernel
theorem dksX2_quarrelClause_1 : cX2_quarrelClause.data.toList.drop 22 = dktX2_quarrelClause_1 := dk_seg dksX2_quarrelClause_0 22 rfl rfl
theorem dksX2_quarrelClause_2 : cX2_quarrelClause.data.toList.drop 45 = dktX2_quarrelClause_2 := dk_seg dksX2_quarrelClause_1 23 rfl rfl
theorem dX2_quarrelClause_0 : decode cX2_quarrelClause 0 = .ok (.aload_n 0, 1) := dk_42 (dk_at dksX2_quarrelClause_0 0 rfl rfl)
theorem dX2_quarrelClause_1 : decode cX2_quarrelClause 1 = .ok (.iload_n 1, 1) := dk_27 (dk_at dksX2_quarrelClause_0 1 rfl rfl)
theorem dX2_quarrelClause_2 : decode cX2_quarrelClause 2 = .ok (.iconst 1, 1) := dk_4 (dk_at dksX2_quarrelClause_0 2 rfl rfl)
theorem dX2_quarrelClause_3 : decode cX2_quarrelClause 3 = .ok (.iadd, 1) := dk_96 (dk_at dksX2_quarrelClause_0 3 rfl rfl)
theorem dX2_quarrelClause_4 : decode cX2_quarrelClause 4 = .ok (.iconst 0, 1) := dk_3 (dk_at dksX2_quarrelClause_0 4 rfl rfl)
theorem dX2_quarrelClause_5 : decode cX2_quarrelClause 5 = .ok (.iconst 5, 1) := dk_8 (dk_at dksX2_quarrelClause_0 5 rfl rfl)
theorem dX2_quarrelClause_6 : decode cX2_quarrelClause 6 = .ok (.invokevirtual 236, 3) := dk_182 0 236 (dk_at dksX2_quarrelClause_0 6 rfl rfl)
theorem dX2_quarrelClause_9 : decode cX2_quarrelClause 9 = .ok (.istore_n 2, 1) := dk_61 (dk_at dksX2_quarrelClause_0 9 rfl rfl)
theorem dX2_quarrelClause_10 : decode cX2_quarrelClause 10 = .ok (.iload_n 2, 1) := dk_28 (dk_at dksX2_quarrelClause_0 10 rfl rfl)
theorem dX2_quarrelClause_11 : decode cX2_quarrelClause 11 = .ok (.ifCond .ne 20, 3) := dk_154 0 20 (dk_at dksX2_quarrelClause_0 11 rfl rfl)
theorem dX2_quarrelClause_14 : decode cX2_quarrelClause 14 = .ok (.aload_n 0, 1) := dk_42 (dk_at dksX2_quarrelClause_0 14 rfl rfl)
theorem dX2_quarrelClause_15 : decode cX2_quarrelClause 15 = .ok (.iload_n 1, 1) := dk_27 (dk_at dksX2_quarrelClause_0 15 rfl rfl)
theorem dX2_quarrelClause_16 : decode cX2_quarrelClause 16 = .ok (.iconst 2, 1) := dk_5 (dk_at dksX2_quarrelClause_0 16 rfl rfl)
theorem dX2_quarrelClause_17 : decode cX2_quarrelClause 17 = .ok (.iadd, 1) := dk_96 (dk_at dksX2_quarrelClause_0 17 rfl rfl)
theorem dX2_quarrelClause_18 : decode cX2_quarrelClause 18 = .ok (.bipush 98, 2) := dk_16 98 (dk_at dksX2_quarrelClause_0 18 rfl rfl)
theorem dX2_quarrelClause_20 : decode cX2_quarrelClause 20 = .ok (.bipush 121, 2) := dk_16 121 (dk_at dksX2_quarrelClause_0 20 rfl rfl)
theorem dX2_quarrelClause_22 : decode cX2_quarrelClause 22 = .ok (.invokestatic 137, 3) := dk_184 0 137 (dk_at dksX2_quarrelClause_1 0 rfl rfl)
theorem dX2_quarrelClause_25 : decode cX2_quarrelClause 25 = .ok (.iconst 0, 1) := dk_3 (dk_at dksX2_quarrelClause_1 3 rfl rfl)
theorem dX2_quarrelClause_26 : decode cX2_quarrelClause 26 = .ok (.iconst 5, 1) := dk_8 (dk_at dksX2_quarrelClause_1 4 rfl rfl)
theorem dX2_quarrelClause_27 : decode cX2_quarrelClause 27 = .ok (.invokevirtual 240, 3) := dk_182 0 240 (dk_at dksX2_quarrelClause_1 5 rfl rfl)
theorem dX2_quarrelClause_30 : decode cX2_quarrelClause 30 = .ok (.istore_n 2, 1) := dk_61 (dk_at dksX2_quarrelClause_1 8 rfl rfl)
theorem dX2_quarrelClause_31 : decode cX2_quarrelClause 31 = .ok (.iload_n 2, 1) := dk_28 (dk_at dksX2_quarrelClause_1 9 rfl rfl)
theorem dX2_quarrelClause_32 : decode cX2_quarrelClause 32 = .ok (.ifCond .ne 29, 3) := dk_154 0 29 (dk_at dksX2_quarrelClause_1 10 rfl rfl)
theorem dX2_quarrelClause_35 : decode cX2_quarrelClause 35 = .ok (.aload_n 0, 1) := dk_42 (dk_at dksX2_quarrelClause_1 13 rfl rfl)
theorem dX2_quarrelClause_36 : decode cX2_quarrelClause 36 = .ok (.iload_n 1, 1) := dk_27 (dk_at dksX2_quarrelClause_1 14 rfl rfl)
theorem dX2_quarrelClause_37 : decode cX2_quarrelClause 37 = .ok (.iconst 3, 1) := dk_6 (dk_at dksX2_quarrelClause_1 15 rfl rfl)
theorem dX2_quarrelClause_38 : decode cX2_quarrelClause 38 = .ok (.iadd, 1) := dk_96 (dk_at dksX2_quarrelClause_1 16 rfl rfl)
theorem dX2_quarrelClause_39 : decode cX2_quarrelClause 39 = .ok (.bipush 119, 2) := dk_16 119 (dk_at dksX2_quarrelClause_1 17 rfl rfl)
theorem dX2_quarrelClause_41 : decode cX2_quarrelClause 41 = .ok (.bipush 111, 2) := dk_16 111 (dk_at dksX2_quarrelClause_1 19 rfl rfl)
theorem dX2_quarrelClause_43 : decode cX2_quarrelClause 43 = .ok (.bipush 114, 2) := dk_16 114 (dk_at dksX2_quarrelClause_1 21 rfl rfl)
theorem dX2_quarrelClause_45 : decode cX2_quarrelClause 45 = .ok (.bipush 116, 2) := dk_16 116 (dk_at dksX2_quarrelClause_2 0 rfl rfl)
theorem dX2_quarrelClause_47 : decode cX2_quarrelClause 47 = .ok (.bipush 104, 2) := dk_16 104 (dk_at dksX2_quarrelClause_2 2 rfl rfl)
theorem dX2_quarrelClause_49 : decode cX2_quarrelClause 49 = .ok (.invokestatic 149, 3) := dk_184 0 149 (dk_at dksX2_quarrelClause_2 4 rfl rfl)
theorem dX2_quarrelClause_52 : decode cX2_quarrelClause 52 = .ok (.iconst 1, 1) := dk_4 (dk_at dksX2_quarrelClause_2 7 rfl rfl)
theorem dX2_quarrelClause_53 : decode cX2_quarrelClause 53 = .ok (.bipush 99, 2) := dk_16 99 (dk_at dksX2_quarrelClause_2 8 rfl rfl)
theorem dX2_quarrelClause_55 : decode cX2_quarrelClause 55 = .ok (.invokevirtual 240, 3) := dk_182 0 240 (dk_at dksX2_quarrelClause_2 10 rfl rfl)
theorem dX2_quarrelClause_58 : decode cX2_quarrelClause 58 = .ok (.goto 4, 3) := dk_167 0 4 (dk_at dksX2_quarrelClause_2 13 rfl rfl)
theorem dX2_quarrelClause_61 : decode cX2_quarrelClause 61 = .ok (.iload_n 2, 1) := dk_28 (dk_at dksX2_quarrelClause_2 16 rfl rfl)
theorem dX2_quarrelClause_62 : decode cX2_quarrelClause 62 = .ok (.ireturn, 1) := dk_172 (dk_at dksX2_quarrelClause_2 17 rfl rfl)
abbrev cX2_figure : ByteArray := prog_20_method_52_code
def yX2_figure : MethodName := ⟨RX2, "figure", "(III)I"⟩
def dkwX2_figure_1 : List UInt8 := [42, 180, 0, 16, 27, 42, 180, 0, 121, 79, 42, 182, 0, 186, 3, 172]
abbrev dktX2_figure_1 : List UInt8 := dkwX2_figure_1 ++ []
def dkwX2_figure_0 : List UInt8 := [42, 180, 0, 115, 4, 159, 0, 5, 4, 172, 42, 180, 0, 121, 28, 29, 184, 0, 81, 154, 0, 5, 5, 172]
abbrev dktX2_figure_0 : List UInt8 := dkwX2_figure_0 ++ dktX2_figure_1
theorem dksX2_figure_0 : cX2_figure.data.toList.drop 0 = dktX2_figure_0 := by decide +kernel
theorem dksX2_figure_1 : cX2_figure.data.toList.drop 24 = dktX2_figure_1 := dk_seg dksX2_figure_0 24 rfl rfl
theorem dX2_figure_0 : decode cX2_figure 0 = .ok (.aload_n 0, 1) := dk_42 (dk_at dksX2_figure_0 0 rfl rfl)
theorem dX2_figure_1 : decode cX2_figure 1 = .ok (.getfield 115, 3) := dk_180 0 115 (dk_at dksX2_figure_0 1 rfl rfl)
theorem dX2_figure_4 : decode cX2_figure 4 = .ok (.iconst 1, 1) := dk_4 (dk_at dksX2_figure_0 4 rfl rfl)
theorem dX2_figure_5 : decode cX2_figure 5 = .ok (.if_icmp .eq 5, 3) := dk_159 0 5 (dk_at dksX2_figure_0 5 rfl rfl)
theorem dX2_figure_8 : decode cX2_figure 8 = .ok (.iconst 1, 1) := dk_4 (dk_at dksX2_figure_0 8 rfl rfl)
theorem dX2_figure_9 : decode cX2_figure 9 = .ok (.ireturn, 1) := dk_172 (dk_at dksX2_figure_0 9 rfl rfl)
theorem dX2_figure_10 : decode cX2_figure 10 = .ok (.aload_n 0, 1) := dk_42 (dk_at dksX2_figure_0 10 rfl rfl)
theorem dX2_figure_11 : decode cX2_figure 11 = .ok (.getfield 121, 3) := dk_180 0 121 (dk_at dksX2_figure_0 11 rfl rfl)
theorem dX2_figure_14 : decode cX2_figure 14 = .ok (.iload_n 2, 1) := dk_28 (dk_at dksX2_figure_0 14 rfl rfl)
theorem dX2_figure_15 : decode cX2_figure 15 = .ok (.iload_n 3, 1) := dk_29 (dk_at dksX2_figure_0 15 rfl rfl)
theorem dX2_figure_16 : decode cX2_figure 16 = .ok (.invokestatic 81, 3) := dk_184 0 81 (dk_at dksX2_figure_0 16 rfl rfl)
theorem dX2_figure_19 : decode cX2_figure 19 = .ok (.ifCond .ne 5, 3) := dk_154 0 5 (dk_at dksX2_figure_0 19 rfl rfl)
theorem dX2_figure_22 : decode cX2_figure 22 = .ok (.iconst 2, 1) := dk_5 (dk_at dksX2_figure_0 22 rfl rfl)
theorem dX2_figure_23 : decode cX2_figure 23 = .ok (.ireturn, 1) := dk_172 (dk_at dksX2_figure_0 23 rfl rfl)
theorem dX2_figure_24 : decode cX2_figure 24 = .ok (.aload_n 0, 1) := dk_42 (dk_at dksX2_figure_1 0 rfl rfl)
theorem dX2_figure_25 : decode cX2_figure 25 = .ok (.getfield 16, 3) := dk_180 0 16 (dk_at dksX2_figure_1 1 rfl rfl)
theorem dX2_figure_28 : decode cX2_figure 28 = .ok (.iload_n 1, 1) := dk_27 (dk_at dksX2_figure_1 4 rfl rfl)
theorem dX2_figure_29 : decode cX2_figure 29 = .ok (.aload_n 0, 1) := dk_42 (dk_at dksX2_figure_1 5 rfl rfl)
theorem dX2_figure_30 : decode cX2_figure 30 = .ok (.getfield 121, 3) := dk_180 0 121 (dk_at dksX2_figure_1 6 rfl rfl)
theorem dX2_figure_33 : decode cX2_figure 33 = .ok (.iastore, 1) := dk_79 (dk_at dksX2_figure_1 9 rfl rfl)
theorem dX2_figure_34 : decode cX2_figure 34 = .ok (.aload_n 0, 1) := dk_42 (dk_at dksX2_figure_1 10 rfl rfl)
theorem dX2_figure_35 : decode cX2_figure 35 = .ok (.invokevirtual 186, 3) := dk_182 0 186 (dk_at dksX2_figure_1 11 rfl rfl)
theorem dX2_figure_38 : decode cX2_figure 38 = .ok (.iconst 0, 1) := dk_3 (dk_at dksX2_figure_1 14 rfl rfl)
theorem dX2_figure_39 : decode cX2_figure 39 = .ok (.ireturn, 1) := dk_172 (dk_at dksX2_figure_1 15 rfl rfl)
abbrev cX2_behind : ByteArray := prog_20_method_54_code
def yX2_behind : MethodName := ⟨RX2, "behind", "(IJII)I"⟩
def dkwX2_behind_0 : List UInt8 := [42, 32, 182, 0, 201, 154, 0, 5, 4, 172, 42, 182, 0, 186, 42, 27, 21, 4, 21, 5, 182, 0, 236, 172]
abbrev dktX2_behind_0 : List UInt8 := dkwX2_behind_0 ++ []
theorem dksX2_behind_0 : cX2_behind.data.toList.drop 0 = dktX2_behind_0 := by decide +kernel
theorem dX2_behind_0 : decode cX2_behind 0 = .ok (.aload_n 0, 1) := dk_42 (dk_at dksX2_behind_0 0 rfl rfl)
theorem dX2_behind_1 : decode cX2_behind 1 = .ok (.lload_n 2, 1) := dk_32 (dk_at dksX2_behind_0 1 rfl rfl)
theorem dX2_behind_2 : decode cX2_behind 2 = .ok (.invokevirtual 201, 3) := dk_182 0 201 (dk_at dksX2_behind_0 2 rfl rfl)
theorem dX2_behind_5 : decode cX2_behind 5 = .ok (.ifCond .ne 5, 3) := dk_154 0 5 (dk_at dksX2_behind_0 5 rfl rfl)
theorem dX2_behind_8 : decode cX2_behind 8 = .ok (.iconst 1, 1) := dk_4 (dk_at dksX2_behind_0 8 rfl rfl)
theorem dX2_behind_9 : decode cX2_behind 9 = .ok (.ireturn, 1) := dk_172 (dk_at dksX2_behind_0 9 rfl rfl)
theorem dX2_behind_10 : decode cX2_behind 10 = .ok (.aload_n 0, 1) := dk_42 (dk_at dksX2_behind_0 10 rfl rfl)
theorem dX2_behind_11 : decode cX2_behind 11 = .ok (.invokevirtual 186, 3) := dk_182 0 186 (dk_at dksX2_behind_0 11 rfl rfl)
theorem dX2_behind_14 : decode cX2_behind 14 = .ok (.aload_n 0, 1) := dk_42 (dk_at dksX2_behind_0 14 rfl rfl)
theorem dX2_behind_15 : decode cX2_behind 15 = .ok (.iload_n 1, 1) := dk_27 (dk_at dksX2_behind_0 15 rfl rfl)
theorem dX2_behind_16 : decode cX2_behind 16 = .ok (.iload 4, 2) := dk_21 4 (dk_at dksX2_behind_0 16 rfl rfl)
theorem dX2_behind_18 : decode cX2_behind 18 = .ok (.iload 5, 2) := dk_21 5 (dk_at dksX2_behind_0 18 rfl rfl)
theorem dX2_behind_20 : decode cX2_behind 20 = .ok (.invokevirtual 236, 3) := dk_182 0 236 (dk_at dksX2_behind_0 20 rfl rfl)
theorem dX2_behind_23 : decode cX2_behind 23 = .ok (.ireturn, 1) := dk_172 (dk_at dksX2_behind_0 23 rfl rfl)
abbrev cX2_lawClause : ByteArray := prog_20_method_53_code
def yX2_lawClause : MethodName := ⟨RX2, "lawClause", "(I)I"⟩
def dkwX2_lawClause_1 : List UInt8 := [42, 180, 0, 156, 79, 28, 172]
abbrev dktX2_lawClause_1 : List UInt8 := dkwX2_lawClause_1 ++ []
def dkwX2_lawClause_0 : List UInt8 := [42, 180, 0, 16, 27, 4, 96, 42, 180, 0, 156, 79, 42, 182, 0, 233, 61, 42, 180, 0, 16, 27, 5, 96]
abbrev dktX2_lawClause_0 : List UInt8 := dkwX2_lawClause_0 ++ dktX2_lawClause_1
theorem dksX2_lawClause_0 : cX2_lawClause.data.toList.drop 0 = dktX2_lawClause_0 := by decide +kernel
theorem dksX2_lawClause_1 : cX2_lawClause.data.toList.drop 24 = dktX2_lawClause_1 := dk_seg dksX2_lawClause_0 24 rfl rfl
theorem dX2_lawClause_0 : decode cX2_lawClause 0 = .ok (.aload_n 0, 1) := dk_42 (dk_at dksX2_lawClause_0 0 rfl rfl)
theorem dX2_lawClause_1 : decode cX2_lawClause 1 = .ok (.getfield 16, 3) := dk_180 0 16 (dk_at dksX2_lawClause_0 1 rfl rfl)
theorem dX2_lawClause_4 : decode cX2_lawClause 4 = .ok (.iload_n 1, 1) := dk_27 (dk_at dksX2_lawClause_0 4 rfl rfl)
theorem dX2_lawClause_5 : decode cX2_lawClause 5 = .ok (.iconst 1, 1) := dk_4 (dk_at dksX2_lawClause_0 5 rfl rfl)
theorem dX2_lawClause_6 : decode cX2_lawClause 6 = .ok (.iadd, 1) := dk_96 (dk_at dksX2_lawClause_0 6 rfl rfl)
theorem dX2_lawClause_7 : decode cX2_lawClause 7 = .ok (.aload_n 0, 1) := dk_42 (dk_at dksX2_lawClause_0 7 rfl rfl)
theorem dX2_lawClause_8 : decode cX2_lawClause 8 = .ok (.getfield 156, 3) := dk_180 0 156 (dk_at dksX2_lawClause_0 8 rfl rfl)
theorem dX2_lawClause_11 : decode cX2_lawClause 11 = .ok (.iastore, 1) := dk_79 (dk_at dksX2_lawClause_0 11 rfl rfl)
theorem dX2_lawClause_12 : decode cX2_lawClause 12 = .ok (.aload_n 0, 1) := dk_42 (dk_at dksX2_lawClause_0 12 rfl rfl)
theorem dX2_lawClause_13 : decode cX2_lawClause 13 = .ok (.invokevirtual 233, 3) := dk_182 0 233 (dk_at dksX2_lawClause_0 13 rfl rfl)
theorem dX2_lawClause_16 : decode cX2_lawClause 16 = .ok (.istore_n 2, 1) := dk_61 (dk_at dksX2_lawClause_0 16 rfl rfl)
theorem dX2_lawClause_17 : decode cX2_lawClause 17 = .ok (.aload_n 0, 1) := dk_42 (dk_at dksX2_lawClause_0 17 rfl rfl)
theorem dX2_lawClause_18 : decode cX2_lawClause 18 = .ok (.getfield 16, 3) := dk_180 0 16 (dk_at dksX2_lawClause_0 18 rfl rfl)
theorem dX2_lawClause_21 : decode cX2_lawClause 21 = .ok (.iload_n 1, 1) := dk_27 (dk_at dksX2_lawClause_0 21 rfl rfl)
theorem dX2_lawClause_22 : decode cX2_lawClause 22 = .ok (.iconst 2, 1) := dk_5 (dk_at dksX2_lawClause_0 22 rfl rfl)
theorem dX2_lawClause_23 : decode cX2_lawClause 23 = .ok (.iadd, 1) := dk_96 (dk_at dksX2_lawClause_0 23 rfl rfl)
theorem dX2_lawClause_24 : decode cX2_lawClause 24 = .ok (.aload_n 0, 1) := dk_42 (dk_at dksX2_lawClause_1 0 rfl rfl)
theorem dX2_lawClause_25 : decode cX2_lawClause 25 = .ok (.getfield 156, 3) := dk_180 0 156 (dk_at dksX2_lawClause_1 1 rfl rfl)
theorem dX2_lawClause_28 : decode cX2_lawClause 28 = .ok (.iastore, 1) := dk_79 (dk_at dksX2_lawClause_1 4 rfl rfl)
theorem dX2_lawClause_29 : decode cX2_lawClause 29 = .ok (.iload_n 2, 1) := dk_28 (dk_at dksX2_lawClause_1 5 rfl rfl)
theorem dX2_lawClause_30 : decode cX2_lawClause 30 = .ok (.ireturn, 1) := dk_172 (dk_at dksX2_lawClause_1 6 rfl rfl)
abbrev cX2_summed : ByteArray := prog_20_method_51_code
def yX2_summed : MethodName := ⟨RX2, "summed", "()I"⟩
def dkwX2_summed_2 : List UInt8 := [42, 182, 0, 183, 155, 0, 5, 4, 172, 42, 4, 182, 0, 209, 3, 172]
abbrev dktX2_summed_2 : List UInt8 := dkwX2_summed_2 ++ []
def dkwX2_summed_1 : List UInt8 := [182, 0, 227, 167, 0, 7, 42, 182, 0, 230, 60, 27, 158, 0, 5, 27, 172, 27, 154, 0, 6, 167, 255, 227]
abbrev dktX2_summed_1 : List UInt8 := dkwX2_summed_1 ++ dktX2_summed_2
def dkwX2_summed_0 : List UInt8 := [42, 3, 181, 0, 166, 42, 3, 181, 0, 176, 42, 3, 181, 0, 212, 42, 180, 0, 212, 153, 0, 10, 42]
abbrev dktX2_summed_0 : List UInt8 := dkwX2_summed_0 ++ dktX2_summed_1
theorem dksX2_summed_0 : cX2_summed.data.toList.drop 0 = dktX2_summed_0 := by decide +kernel
theorem dksX2_summed_1 : cX2_summed.data.toList.drop 23 = dktX2_summed_1 := dk_seg dksX2_summed_0 23 rfl rfl
theorem dksX2_summed_2 : cX2_summed.data.toList.drop 47 = dktX2_summed_2 := dk_seg dksX2_summed_1 24 rfl rfl
theorem dX2_summed_0 : decode cX2_summed 0 = .ok (.aload_n 0, 1) := dk_42 (dk_at dksX2_summed_0 0 rfl rfl)
theorem dX2_summed_1 : decode cX2_summed 1 = .ok (.iconst 0, 1) := dk_3 (dk_at dksX2_summed_0 1 rfl rfl)
theorem dX2_summed_2 : decode cX2_summed 2 = .ok (.putfield 166, 3) := dk_181 0 166 (dk_at dksX2_summed_0 2 rfl rfl)
theorem dX2_summed_5 : decode cX2_summed 5 = .ok (.aload_n 0, 1) := dk_42 (dk_at dksX2_summed_0 5 rfl rfl)
theorem dX2_summed_6 : decode cX2_summed 6 = .ok (.iconst 0, 1) := dk_3 (dk_at dksX2_summed_0 6 rfl rfl)
theorem dX2_summed_7 : decode cX2_summed 7 = .ok (.putfield 176, 3) := dk_181 0 176 (dk_at dksX2_summed_0 7 rfl rfl)
theorem dX2_summed_10 : decode cX2_summed 10 = .ok (.aload_n 0, 1) := dk_42 (dk_at dksX2_summed_0 10 rfl rfl)
theorem dX2_summed_11 : decode cX2_summed 11 = .ok (.iconst 0, 1) := dk_3 (dk_at dksX2_summed_0 11 rfl rfl)
theorem dX2_summed_12 : decode cX2_summed 12 = .ok (.putfield 212, 3) := dk_181 0 212 (dk_at dksX2_summed_0 12 rfl rfl)
theorem dX2_summed_15 : decode cX2_summed 15 = .ok (.aload_n 0, 1) := dk_42 (dk_at dksX2_summed_0 15 rfl rfl)
theorem dX2_summed_16 : decode cX2_summed 16 = .ok (.getfield 212, 3) := dk_180 0 212 (dk_at dksX2_summed_0 16 rfl rfl)
theorem dX2_summed_19 : decode cX2_summed 19 = .ok (.ifCond .eq 10, 3) := dk_153 0 10 (dk_at dksX2_summed_0 19 rfl rfl)
theorem dX2_summed_22 : decode cX2_summed 22 = .ok (.aload_n 0, 1) := dk_42 (dk_at dksX2_summed_0 22 rfl rfl)
theorem dX2_summed_23 : decode cX2_summed 23 = .ok (.invokevirtual 227, 3) := dk_182 0 227 (dk_at dksX2_summed_1 0 rfl rfl)
theorem dX2_summed_26 : decode cX2_summed 26 = .ok (.goto 7, 3) := dk_167 0 7 (dk_at dksX2_summed_1 3 rfl rfl)
theorem dX2_summed_29 : decode cX2_summed 29 = .ok (.aload_n 0, 1) := dk_42 (dk_at dksX2_summed_1 6 rfl rfl)
theorem dX2_summed_30 : decode cX2_summed 30 = .ok (.invokevirtual 230, 3) := dk_182 0 230 (dk_at dksX2_summed_1 7 rfl rfl)
theorem dX2_summed_33 : decode cX2_summed 33 = .ok (.istore_n 1, 1) := dk_60 (dk_at dksX2_summed_1 10 rfl rfl)
theorem dX2_summed_34 : decode cX2_summed 34 = .ok (.iload_n 1, 1) := dk_27 (dk_at dksX2_summed_1 11 rfl rfl)
theorem dX2_summed_35 : decode cX2_summed 35 = .ok (.ifCond .le 5, 3) := dk_158 0 5 (dk_at dksX2_summed_1 12 rfl rfl)
theorem dX2_summed_38 : decode cX2_summed 38 = .ok (.iload_n 1, 1) := dk_27 (dk_at dksX2_summed_1 15 rfl rfl)
theorem dX2_summed_39 : decode cX2_summed 39 = .ok (.ireturn, 1) := dk_172 (dk_at dksX2_summed_1 16 rfl rfl)
theorem dX2_summed_40 : decode cX2_summed 40 = .ok (.iload_n 1, 1) := dk_27 (dk_at dksX2_summed_1 17 rfl rfl)
theorem dX2_summed_41 : decode cX2_summed 41 = .ok (.ifCond .ne 6, 3) := dk_154 0 6 (dk_at dksX2_summed_1 18 rfl rfl)
theorem dX2_summed_44 : decode cX2_summed 44 = .ok (.goto (-29), 3) := dk_167 255 227 (dk_at dksX2_summed_1 21 rfl rfl)
theorem dX2_summed_47 : decode cX2_summed 47 = .ok (.aload_n 0, 1) := dk_42 (dk_at dksX2_summed_2 0 rfl rfl)
theorem dX2_summed_48 : decode cX2_summed 48 = .ok (.invokevirtual 183, 3) := dk_182 0 183 (dk_at dksX2_summed_2 1 rfl rfl)
theorem dX2_summed_51 : decode cX2_summed 51 = .ok (.ifCond .lt 5, 3) := dk_155 0 5 (dk_at dksX2_summed_2 4 rfl rfl)
theorem dX2_summed_54 : decode cX2_summed 54 = .ok (.iconst 1, 1) := dk_4 (dk_at dksX2_summed_2 7 rfl rfl)
theorem dX2_summed_55 : decode cX2_summed 55 = .ok (.ireturn, 1) := dk_172 (dk_at dksX2_summed_2 8 rfl rfl)
theorem dX2_summed_56 : decode cX2_summed 56 = .ok (.aload_n 0, 1) := dk_42 (dk_at dksX2_summed_2 9 rfl rfl)
theorem dX2_summed_57 : decode cX2_summed 57 = .ok (.iconst 1, 1) := dk_4 (dk_at dksX2_summed_2 10 rfl rfl)
theorem dX2_summed_58 : decode cX2_summed 58 = .ok (.invokevirtual 209, 3) := dk_182 0 209 (dk_at dksX2_summed_2 11 rfl rfl)
theorem dX2_summed_61 : decode cX2_summed 61 = .ok (.iconst 0, 1) := dk_3 (dk_at dksX2_summed_2 14 rfl rfl)
theorem dX2_summed_62 : decode cX2_summed 62 = .ok (.ireturn, 1) := dk_172 (dk_at dksX2_summed_2 15 rfl rfl)
abbrev cX2_behindOne : ByteArray := prog_20_method_50_code
def yX2_behindOne : MethodName := ⟨RX2, "behindOne", "()I"⟩
def dkwX2_behindOne_6 : List UInt8 := [181, 0, 212, 3, 172]
abbrev dktX2_behindOne_6 : List UInt8 := dkwX2_behindOne_6 ++ []
def dkwX2_behindOne_5 : List UInt8 := [42, 6, 3, 182, 0, 172, 42, 182, 0, 195, 172, 42, 180, 0, 29, 42, 182, 0, 179, 29, 79, 42, 3]
abbrev dktX2_behindOne_5 : List UInt8 := dkwX2_behindOne_5 ++ dktX2_behindOne_6
def dkwX2_behindOne_4 : List UInt8 := [180, 0, 176, 4, 100, 181, 0, 176, 42, 89, 180, 0, 166, 4, 100, 181, 0, 166, 28, 16, 44, 160, 0, 9]
abbrev dktX2_behindOne_4 : List UInt8 := dkwX2_behindOne_4 ++ dktX2_behindOne_5
def dkwX2_behindOne_3 : List UInt8 := [62, 29, 156, 0, 5, 2, 172, 42, 4, 182, 0, 209, 42, 182, 0, 186, 29, 154, 0, 40, 42, 89]
abbrev dktX2_behindOne_3 : List UInt8 := dkwX2_behindOne_3 ++ dktX2_behindOne_4
def dkwX2_behindOne_2 : List UInt8 := [181, 0, 166, 42, 3, 181, 0, 212, 42, 182, 0, 186, 3, 172, 42, 182, 0, 183, 61, 42, 28, 182, 0, 224]
abbrev dktX2_behindOne_2 : List UInt8 := dkwX2_behindOne_2 ++ dktX2_behindOne_3
def dkwX2_behindOne_1 : List UInt8 := [184, 0, 169, 182, 0, 209, 42, 180, 0, 29, 42, 180, 0, 166, 27, 79, 42, 89, 180, 0, 166, 4, 96]
abbrev dktX2_behindOne_1 : List UInt8 := dkwX2_behindOne_1 ++ dktX2_behindOne_2
def dkwX2_behindOne_0 : List UInt8 := [42, 182, 0, 221, 60, 27, 155, 0, 54, 42, 27, 184, 0, 169, 7, 160, 0, 7, 8, 167, 0, 7, 27]
abbrev dktX2_behindOne_0 : List UInt8 := dkwX2_behindOne_0 ++ dktX2_behindOne_1
theorem dksX2_behindOne_0 : cX2_behindOne.data.toList.drop 0 = dktX2_behindOne_0 := by decide +kernel
theorem dksX2_behindOne_1 : cX2_behindOne.data.toList.drop 23 = dktX2_behindOne_1 := dk_seg dksX2_behindOne_0 23 rfl rfl
theorem dksX2_behindOne_2 : cX2_behindOne.data.toList.drop 46 = dktX2_behindOne_2 := dk_seg dksX2_behindOne_1 23 rfl rfl
theorem dksX2_behindOne_3 : cX2_behindOne.data.toList.drop 70 = dktX2_behindOne_3 := dk_seg dksX2_behindOne_2 24 rfl rfl
theorem dksX2_behindOne_4 : cX2_behindOne.data.toList.drop 92 = dktX2_behindOne_4 := dk_seg dksX2_behindOne_3 22 rfl rfl
theorem dksX2_behindOne_5 : cX2_behindOne.data.toList.drop 116 = dktX2_behindOne_5 := dk_seg dksX2_behindOne_4 24 rfl rfl
theorem dksX2_behindOne_6 : cX2_behindOne.data.toList.drop 139 = dktX2_behindOne_6 := dk_seg dksX2_behindOne_5 23 rfl rfl
theorem dX2_behindOne_0 : decode cX2_behindOne 0 = .ok (.aload_n 0, 1) := dk_42 (dk_at dksX2_behindOne_0 0 rfl rfl)
theorem dX2_behindOne_1 : decode cX2_behindOne 1 = .ok (.invokevirtual 221, 3) := dk_182 0 221 (dk_at dksX2_behindOne_0 1 rfl rfl)
theorem dX2_behindOne_4 : decode cX2_behindOne 4 = .ok (.istore_n 1, 1) := dk_60 (dk_at dksX2_behindOne_0 4 rfl rfl)
theorem dX2_behindOne_5 : decode cX2_behindOne 5 = .ok (.iload_n 1, 1) := dk_27 (dk_at dksX2_behindOne_0 5 rfl rfl)
theorem dX2_behindOne_6 : decode cX2_behindOne 6 = .ok (.ifCond .lt 54, 3) := dk_155 0 54 (dk_at dksX2_behindOne_0 6 rfl rfl)
theorem dX2_behindOne_9 : decode cX2_behindOne 9 = .ok (.aload_n 0, 1) := dk_42 (dk_at dksX2_behindOne_0 9 rfl rfl)
theorem dX2_behindOne_10 : decode cX2_behindOne 10 = .ok (.iload_n 1, 1) := dk_27 (dk_at dksX2_behindOne_0 10 rfl rfl)
theorem dX2_behindOne_11 : decode cX2_behindOne 11 = .ok (.invokestatic 169, 3) := dk_184 0 169 (dk_at dksX2_behindOne_0 11 rfl rfl)
theorem dX2_behindOne_14 : decode cX2_behindOne 14 = .ok (.iconst 4, 1) := dk_7 (dk_at dksX2_behindOne_0 14 rfl rfl)
theorem dX2_behindOne_15 : decode cX2_behindOne 15 = .ok (.if_icmp .ne 7, 3) := dk_160 0 7 (dk_at dksX2_behindOne_0 15 rfl rfl)
theorem dX2_behindOne_18 : decode cX2_behindOne 18 = .ok (.iconst 5, 1) := dk_8 (dk_at dksX2_behindOne_0 18 rfl rfl)
theorem dX2_behindOne_19 : decode cX2_behindOne 19 = .ok (.goto 7, 3) := dk_167 0 7 (dk_at dksX2_behindOne_0 19 rfl rfl)
theorem dX2_behindOne_22 : decode cX2_behindOne 22 = .ok (.iload_n 1, 1) := dk_27 (dk_at dksX2_behindOne_0 22 rfl rfl)
theorem dX2_behindOne_23 : decode cX2_behindOne 23 = .ok (.invokestatic 169, 3) := dk_184 0 169 (dk_at dksX2_behindOne_1 0 rfl rfl)
theorem dX2_behindOne_26 : decode cX2_behindOne 26 = .ok (.invokevirtual 209, 3) := dk_182 0 209 (dk_at dksX2_behindOne_1 3 rfl rfl)
theorem dX2_behindOne_29 : decode cX2_behindOne 29 = .ok (.aload_n 0, 1) := dk_42 (dk_at dksX2_behindOne_1 6 rfl rfl)
theorem dX2_behindOne_30 : decode cX2_behindOne 30 = .ok (.getfield 29, 3) := dk_180 0 29 (dk_at dksX2_behindOne_1 7 rfl rfl)
theorem dX2_behindOne_33 : decode cX2_behindOne 33 = .ok (.aload_n 0, 1) := dk_42 (dk_at dksX2_behindOne_1 10 rfl rfl)
theorem dX2_behindOne_34 : decode cX2_behindOne 34 = .ok (.getfield 166, 3) := dk_180 0 166 (dk_at dksX2_behindOne_1 11 rfl rfl)
theorem dX2_behindOne_37 : decode cX2_behindOne 37 = .ok (.iload_n 1, 1) := dk_27 (dk_at dksX2_behindOne_1 14 rfl rfl)
theorem dX2_behindOne_38 : decode cX2_behindOne 38 = .ok (.iastore, 1) := dk_79 (dk_at dksX2_behindOne_1 15 rfl rfl)
theorem dX2_behindOne_39 : decode cX2_behindOne 39 = .ok (.aload_n 0, 1) := dk_42 (dk_at dksX2_behindOne_1 16 rfl rfl)
theorem dX2_behindOne_40 : decode cX2_behindOne 40 = .ok (.dup, 1) := dk_89 (dk_at dksX2_behindOne_1 17 rfl rfl)
theorem dX2_behindOne_41 : decode cX2_behindOne 41 = .ok (.getfield 166, 3) := dk_180 0 166 (dk_at dksX2_behindOne_1 18 rfl rfl)
theorem dX2_behindOne_44 : decode cX2_behindOne 44 = .ok (.iconst 1, 1) := dk_4 (dk_at dksX2_behindOne_1 21 rfl rfl)
theorem dX2_behindOne_45 : decode cX2_behindOne 45 = .ok (.iadd, 1) := dk_96 (dk_at dksX2_behindOne_1 22 rfl rfl)
theorem dX2_behindOne_46 : decode cX2_behindOne 46 = .ok (.putfield 166, 3) := dk_181 0 166 (dk_at dksX2_behindOne_2 0 rfl rfl)
theorem dX2_behindOne_49 : decode cX2_behindOne 49 = .ok (.aload_n 0, 1) := dk_42 (dk_at dksX2_behindOne_2 3 rfl rfl)
theorem dX2_behindOne_50 : decode cX2_behindOne 50 = .ok (.iconst 0, 1) := dk_3 (dk_at dksX2_behindOne_2 4 rfl rfl)
theorem dX2_behindOne_51 : decode cX2_behindOne 51 = .ok (.putfield 212, 3) := dk_181 0 212 (dk_at dksX2_behindOne_2 5 rfl rfl)
theorem dX2_behindOne_54 : decode cX2_behindOne 54 = .ok (.aload_n 0, 1) := dk_42 (dk_at dksX2_behindOne_2 8 rfl rfl)
theorem dX2_behindOne_55 : decode cX2_behindOne 55 = .ok (.invokevirtual 186, 3) := dk_182 0 186 (dk_at dksX2_behindOne_2 9 rfl rfl)
theorem dX2_behindOne_58 : decode cX2_behindOne 58 = .ok (.iconst 0, 1) := dk_3 (dk_at dksX2_behindOne_2 12 rfl rfl)
theorem dX2_behindOne_59 : decode cX2_behindOne 59 = .ok (.ireturn, 1) := dk_172 (dk_at dksX2_behindOne_2 13 rfl rfl)
theorem dX2_behindOne_60 : decode cX2_behindOne 60 = .ok (.aload_n 0, 1) := dk_42 (dk_at dksX2_behindOne_2 14 rfl rfl)
theorem dX2_behindOne_61 : decode cX2_behindOne 61 = .ok (.invokevirtual 183, 3) := dk_182 0 183 (dk_at dksX2_behindOne_2 15 rfl rfl)
theorem dX2_behindOne_64 : decode cX2_behindOne 64 = .ok (.istore_n 2, 1) := dk_61 (dk_at dksX2_behindOne_2 18 rfl rfl)
theorem dX2_behindOne_65 : decode cX2_behindOne 65 = .ok (.aload_n 0, 1) := dk_42 (dk_at dksX2_behindOne_2 19 rfl rfl)
theorem dX2_behindOne_66 : decode cX2_behindOne 66 = .ok (.iload_n 2, 1) := dk_28 (dk_at dksX2_behindOne_2 20 rfl rfl)
theorem dX2_behindOne_67 : decode cX2_behindOne 67 = .ok (.invokevirtual 224, 3) := dk_182 0 224 (dk_at dksX2_behindOne_2 21 rfl rfl)
theorem dX2_behindOne_70 : decode cX2_behindOne 70 = .ok (.istore_n 3, 1) := dk_62 (dk_at dksX2_behindOne_3 0 rfl rfl)
theorem dX2_behindOne_71 : decode cX2_behindOne 71 = .ok (.iload_n 3, 1) := dk_29 (dk_at dksX2_behindOne_3 1 rfl rfl)
theorem dX2_behindOne_72 : decode cX2_behindOne 72 = .ok (.ifCond .ge 5, 3) := dk_156 0 5 (dk_at dksX2_behindOne_3 2 rfl rfl)
theorem dX2_behindOne_75 : decode cX2_behindOne 75 = .ok (.iconst (-1), 1) := dk_2 (dk_at dksX2_behindOne_3 5 rfl rfl)
theorem dX2_behindOne_76 : decode cX2_behindOne 76 = .ok (.ireturn, 1) := dk_172 (dk_at dksX2_behindOne_3 6 rfl rfl)
theorem dX2_behindOne_77 : decode cX2_behindOne 77 = .ok (.aload_n 0, 1) := dk_42 (dk_at dksX2_behindOne_3 7 rfl rfl)
theorem dX2_behindOne_78 : decode cX2_behindOne 78 = .ok (.iconst 1, 1) := dk_4 (dk_at dksX2_behindOne_3 8 rfl rfl)
theorem dX2_behindOne_79 : decode cX2_behindOne 79 = .ok (.invokevirtual 209, 3) := dk_182 0 209 (dk_at dksX2_behindOne_3 9 rfl rfl)
theorem dX2_behindOne_82 : decode cX2_behindOne 82 = .ok (.aload_n 0, 1) := dk_42 (dk_at dksX2_behindOne_3 12 rfl rfl)
theorem dX2_behindOne_83 : decode cX2_behindOne 83 = .ok (.invokevirtual 186, 3) := dk_182 0 186 (dk_at dksX2_behindOne_3 13 rfl rfl)
theorem dX2_behindOne_86 : decode cX2_behindOne 86 = .ok (.iload_n 3, 1) := dk_29 (dk_at dksX2_behindOne_3 16 rfl rfl)
theorem dX2_behindOne_87 : decode cX2_behindOne 87 = .ok (.ifCond .ne 40, 3) := dk_154 0 40 (dk_at dksX2_behindOne_3 17 rfl rfl)
theorem dX2_behindOne_90 : decode cX2_behindOne 90 = .ok (.aload_n 0, 1) := dk_42 (dk_at dksX2_behindOne_3 20 rfl rfl)
theorem dX2_behindOne_91 : decode cX2_behindOne 91 = .ok (.dup, 1) := dk_89 (dk_at dksX2_behindOne_3 21 rfl rfl)
theorem dX2_behindOne_92 : decode cX2_behindOne 92 = .ok (.getfield 176, 3) := dk_180 0 176 (dk_at dksX2_behindOne_4 0 rfl rfl)
theorem dX2_behindOne_95 : decode cX2_behindOne 95 = .ok (.iconst 1, 1) := dk_4 (dk_at dksX2_behindOne_4 3 rfl rfl)
theorem dX2_behindOne_96 : decode cX2_behindOne 96 = .ok (.isub, 1) := dk_100 (dk_at dksX2_behindOne_4 4 rfl rfl)
theorem dX2_behindOne_97 : decode cX2_behindOne 97 = .ok (.putfield 176, 3) := dk_181 0 176 (dk_at dksX2_behindOne_4 5 rfl rfl)
theorem dX2_behindOne_100 : decode cX2_behindOne 100 = .ok (.aload_n 0, 1) := dk_42 (dk_at dksX2_behindOne_4 8 rfl rfl)
theorem dX2_behindOne_101 : decode cX2_behindOne 101 = .ok (.dup, 1) := dk_89 (dk_at dksX2_behindOne_4 9 rfl rfl)
theorem dX2_behindOne_102 : decode cX2_behindOne 102 = .ok (.getfield 166, 3) := dk_180 0 166 (dk_at dksX2_behindOne_4 10 rfl rfl)
theorem dX2_behindOne_105 : decode cX2_behindOne 105 = .ok (.iconst 1, 1) := dk_4 (dk_at dksX2_behindOne_4 13 rfl rfl)
theorem dX2_behindOne_106 : decode cX2_behindOne 106 = .ok (.isub, 1) := dk_100 (dk_at dksX2_behindOne_4 14 rfl rfl)
theorem dX2_behindOne_107 : decode cX2_behindOne 107 = .ok (.putfield 166, 3) := dk_181 0 166 (dk_at dksX2_behindOne_4 15 rfl rfl)
theorem dX2_behindOne_110 : decode cX2_behindOne 110 = .ok (.iload_n 2, 1) := dk_28 (dk_at dksX2_behindOne_4 18 rfl rfl)
theorem dX2_behindOne_111 : decode cX2_behindOne 111 = .ok (.bipush 44, 2) := dk_16 44 (dk_at dksX2_behindOne_4 19 rfl rfl)
theorem dX2_behindOne_113 : decode cX2_behindOne 113 = .ok (.if_icmp .ne 9, 3) := dk_160 0 9 (dk_at dksX2_behindOne_4 21 rfl rfl)
theorem dX2_behindOne_116 : decode cX2_behindOne 116 = .ok (.aload_n 0, 1) := dk_42 (dk_at dksX2_behindOne_5 0 rfl rfl)
theorem dX2_behindOne_117 : decode cX2_behindOne 117 = .ok (.iconst 3, 1) := dk_6 (dk_at dksX2_behindOne_5 1 rfl rfl)
theorem dX2_behindOne_118 : decode cX2_behindOne 118 = .ok (.iconst 0, 1) := dk_3 (dk_at dksX2_behindOne_5 2 rfl rfl)
theorem dX2_behindOne_119 : decode cX2_behindOne 119 = .ok (.invokevirtual 172, 3) := dk_182 0 172 (dk_at dksX2_behindOne_5 3 rfl rfl)
theorem dX2_behindOne_122 : decode cX2_behindOne 122 = .ok (.aload_n 0, 1) := dk_42 (dk_at dksX2_behindOne_5 6 rfl rfl)
theorem dX2_behindOne_123 : decode cX2_behindOne 123 = .ok (.invokevirtual 195, 3) := dk_182 0 195 (dk_at dksX2_behindOne_5 7 rfl rfl)
theorem dX2_behindOne_126 : decode cX2_behindOne 126 = .ok (.ireturn, 1) := dk_172 (dk_at dksX2_behindOne_5 10 rfl rfl)
theorem dX2_behindOne_127 : decode cX2_behindOne 127 = .ok (.aload_n 0, 1) := dk_42 (dk_at dksX2_behindOne_5 11 rfl rfl)
theorem dX2_behindOne_128 : decode cX2_behindOne 128 = .ok (.getfield 29, 3) := dk_180 0 29 (dk_at dksX2_behindOne_5 12 rfl rfl)
theorem dX2_behindOne_131 : decode cX2_behindOne 131 = .ok (.aload_n 0, 1) := dk_42 (dk_at dksX2_behindOne_5 15 rfl rfl)
theorem dX2_behindOne_132 : decode cX2_behindOne 132 = .ok (.invokevirtual 179, 3) := dk_182 0 179 (dk_at dksX2_behindOne_5 16 rfl rfl)
theorem dX2_behindOne_135 : decode cX2_behindOne 135 = .ok (.iload_n 3, 1) := dk_29 (dk_at dksX2_behindOne_5 19 rfl rfl)
theorem dX2_behindOne_136 : decode cX2_behindOne 136 = .ok (.iastore, 1) := dk_79 (dk_at dksX2_behindOne_5 20 rfl rfl)
theorem dX2_behindOne_137 : decode cX2_behindOne 137 = .ok (.aload_n 0, 1) := dk_42 (dk_at dksX2_behindOne_5 21 rfl rfl)
theorem dX2_behindOne_138 : decode cX2_behindOne 138 = .ok (.iconst 0, 1) := dk_3 (dk_at dksX2_behindOne_5 22 rfl rfl)
theorem dX2_behindOne_139 : decode cX2_behindOne 139 = .ok (.putfield 212, 3) := dk_181 0 212 (dk_at dksX2_behindOne_6 0 rfl rfl)
theorem dX2_behindOne_142 : decode cX2_behindOne 142 = .ok (.iconst 0, 1) := dk_3 (dk_at dksX2_behindOne_6 3 rfl rfl)
theorem dX2_behindOne_143 : decode cX2_behindOne 143 = .ok (.ireturn, 1) := dk_172 (dk_at dksX2_behindOne_6 4 rfl rfl)
abbrev cX2_betweenOf : ByteArray := prog_20_method_48_code
def yX2_betweenOf : MethodName := ⟨RX2, "betweenOf", "()I"⟩
def dkwX2_betweenOf_4 : List UInt8 := [16, 114, 184, 0, 137, 182, 0, 201, 153, 0, 8, 16, 22, 167, 0, 4, 2, 172]
abbrev dktX2_betweenOf_4 : List UInt8 := dkwX2_betweenOf_4 ++ []
def dkwX2_betweenOf_3 : List UInt8 := [16, 97, 16, 110, 16, 100, 184, 0, 141, 182, 0, 201, 153, 0, 8, 16, 21, 167, 0, 23, 42, 16, 111]
abbrev dktX2_betweenOf_3 : List UInt8 := dkwX2_betweenOf_3 ++ dktX2_betweenOf_4
def dkwX2_betweenOf_2 : List UInt8 := [42, 182, 0, 183, 16, 42, 159, 0, 5, 2, 172, 42, 182, 0, 215, 154, 0, 8, 42, 182, 0, 218, 172, 42]
abbrev dktX2_betweenOf_2 : List UInt8 := dkwX2_betweenOf_2 ++ dktX2_betweenOf_3
def dkwX2_betweenOf_1 : List UInt8 := [42, 180, 0, 115, 16, 42, 160, 0, 6, 16, 8, 172, 42, 180, 0, 115, 16, 47, 160, 0, 6, 16, 9, 172]
abbrev dktX2_betweenOf_1 : List UInt8 := dkwX2_betweenOf_1 ++ dktX2_betweenOf_2
def dkwX2_betweenOf_0 : List UInt8 := [42, 180, 0, 115, 16, 43, 160, 0, 6, 16, 6, 172, 42, 180, 0, 115, 16, 45, 160, 0, 6, 16, 7, 172]
abbrev dktX2_betweenOf_0 : List UInt8 := dkwX2_betweenOf_0 ++ dktX2_betweenOf_1
theorem dksX2_betweenOf_0 : cX2_betweenOf.data.toList.drop 0 = dktX2_betweenOf_0 := by decide +kernel
theorem dksX2_betweenOf_1 : cX2_betweenOf.data.toList.drop 24 = dktX2_betweenOf_1 := dk_seg dksX2_betweenOf_0 24 rfl rfl
theorem dksX2_betweenOf_2 : cX2_betweenOf.data.toList.drop 48 = dktX2_betweenOf_2 := dk_seg dksX2_betweenOf_1 24 rfl rfl
theorem dksX2_betweenOf_3 : cX2_betweenOf.data.toList.drop 72 = dktX2_betweenOf_3 := dk_seg dksX2_betweenOf_2 24 rfl rfl
theorem dksX2_betweenOf_4 : cX2_betweenOf.data.toList.drop 95 = dktX2_betweenOf_4 := dk_seg dksX2_betweenOf_3 23 rfl rfl
theorem dX2_betweenOf_0 : decode cX2_betweenOf 0 = .ok (.aload_n 0, 1) := dk_42 (dk_at dksX2_betweenOf_0 0 rfl rfl)
theorem dX2_betweenOf_1 : decode cX2_betweenOf 1 = .ok (.getfield 115, 3) := dk_180 0 115 (dk_at dksX2_betweenOf_0 1 rfl rfl)
theorem dX2_betweenOf_4 : decode cX2_betweenOf 4 = .ok (.bipush 43, 2) := dk_16 43 (dk_at dksX2_betweenOf_0 4 rfl rfl)
theorem dX2_betweenOf_6 : decode cX2_betweenOf 6 = .ok (.if_icmp .ne 6, 3) := dk_160 0 6 (dk_at dksX2_betweenOf_0 6 rfl rfl)
theorem dX2_betweenOf_9 : decode cX2_betweenOf 9 = .ok (.bipush 6, 2) := dk_16 6 (dk_at dksX2_betweenOf_0 9 rfl rfl)
theorem dX2_betweenOf_11 : decode cX2_betweenOf 11 = .ok (.ireturn, 1) := dk_172 (dk_at dksX2_betweenOf_0 11 rfl rfl)
theorem dX2_betweenOf_12 : decode cX2_betweenOf 12 = .ok (.aload_n 0, 1) := dk_42 (dk_at dksX2_betweenOf_0 12 rfl rfl)
theorem dX2_betweenOf_13 : decode cX2_betweenOf 13 = .ok (.getfield 115, 3) := dk_180 0 115 (dk_at dksX2_betweenOf_0 13 rfl rfl)
theorem dX2_betweenOf_16 : decode cX2_betweenOf 16 = .ok (.bipush 45, 2) := dk_16 45 (dk_at dksX2_betweenOf_0 16 rfl rfl)
theorem dX2_betweenOf_18 : decode cX2_betweenOf 18 = .ok (.if_icmp .ne 6, 3) := dk_160 0 6 (dk_at dksX2_betweenOf_0 18 rfl rfl)
theorem dX2_betweenOf_21 : decode cX2_betweenOf 21 = .ok (.bipush 7, 2) := dk_16 7 (dk_at dksX2_betweenOf_0 21 rfl rfl)
theorem dX2_betweenOf_23 : decode cX2_betweenOf 23 = .ok (.ireturn, 1) := dk_172 (dk_at dksX2_betweenOf_0 23 rfl rfl)
theorem dX2_betweenOf_24 : decode cX2_betweenOf 24 = .ok (.aload_n 0, 1) := dk_42 (dk_at dksX2_betweenOf_1 0 rfl rfl)
theorem dX2_betweenOf_25 : decode cX2_betweenOf 25 = .ok (.getfield 115, 3) := dk_180 0 115 (dk_at dksX2_betweenOf_1 1 rfl rfl)
theorem dX2_betweenOf_28 : decode cX2_betweenOf 28 = .ok (.bipush 42, 2) := dk_16 42 (dk_at dksX2_betweenOf_1 4 rfl rfl)
theorem dX2_betweenOf_30 : decode cX2_betweenOf 30 = .ok (.if_icmp .ne 6, 3) := dk_160 0 6 (dk_at dksX2_betweenOf_1 6 rfl rfl)
theorem dX2_betweenOf_33 : decode cX2_betweenOf 33 = .ok (.bipush 8, 2) := dk_16 8 (dk_at dksX2_betweenOf_1 9 rfl rfl)
theorem dX2_betweenOf_35 : decode cX2_betweenOf 35 = .ok (.ireturn, 1) := dk_172 (dk_at dksX2_betweenOf_1 11 rfl rfl)
theorem dX2_betweenOf_36 : decode cX2_betweenOf 36 = .ok (.aload_n 0, 1) := dk_42 (dk_at dksX2_betweenOf_1 12 rfl rfl)
theorem dX2_betweenOf_37 : decode cX2_betweenOf 37 = .ok (.getfield 115, 3) := dk_180 0 115 (dk_at dksX2_betweenOf_1 13 rfl rfl)
theorem dX2_betweenOf_40 : decode cX2_betweenOf 40 = .ok (.bipush 47, 2) := dk_16 47 (dk_at dksX2_betweenOf_1 16 rfl rfl)
theorem dX2_betweenOf_42 : decode cX2_betweenOf 42 = .ok (.if_icmp .ne 6, 3) := dk_160 0 6 (dk_at dksX2_betweenOf_1 18 rfl rfl)
theorem dX2_betweenOf_45 : decode cX2_betweenOf 45 = .ok (.bipush 9, 2) := dk_16 9 (dk_at dksX2_betweenOf_1 21 rfl rfl)
theorem dX2_betweenOf_47 : decode cX2_betweenOf 47 = .ok (.ireturn, 1) := dk_172 (dk_at dksX2_betweenOf_1 23 rfl rfl)
theorem dX2_betweenOf_48 : decode cX2_betweenOf 48 = .ok (.aload_n 0, 1) := dk_42 (dk_at dksX2_betweenOf_2 0 rfl rfl)
theorem dX2_betweenOf_49 : decode cX2_betweenOf 49 = .ok (.invokevirtual 183, 3) := dk_182 0 183 (dk_at dksX2_betweenOf_2 1 rfl rfl)
theorem dX2_betweenOf_52 : decode cX2_betweenOf 52 = .ok (.bipush 42, 2) := dk_16 42 (dk_at dksX2_betweenOf_2 4 rfl rfl)
theorem dX2_betweenOf_54 : decode cX2_betweenOf 54 = .ok (.if_icmp .eq 5, 3) := dk_159 0 5 (dk_at dksX2_betweenOf_2 6 rfl rfl)
theorem dX2_betweenOf_57 : decode cX2_betweenOf 57 = .ok (.iconst (-1), 1) := dk_2 (dk_at dksX2_betweenOf_2 9 rfl rfl)
theorem dX2_betweenOf_58 : decode cX2_betweenOf 58 = .ok (.ireturn, 1) := dk_172 (dk_at dksX2_betweenOf_2 10 rfl rfl)
theorem dX2_betweenOf_59 : decode cX2_betweenOf 59 = .ok (.aload_n 0, 1) := dk_42 (dk_at dksX2_betweenOf_2 11 rfl rfl)
theorem dX2_betweenOf_60 : decode cX2_betweenOf 60 = .ok (.invokevirtual 215, 3) := dk_182 0 215 (dk_at dksX2_betweenOf_2 12 rfl rfl)
theorem dX2_betweenOf_63 : decode cX2_betweenOf 63 = .ok (.ifCond .ne 8, 3) := dk_154 0 8 (dk_at dksX2_betweenOf_2 15 rfl rfl)
theorem dX2_betweenOf_66 : decode cX2_betweenOf 66 = .ok (.aload_n 0, 1) := dk_42 (dk_at dksX2_betweenOf_2 18 rfl rfl)
theorem dX2_betweenOf_67 : decode cX2_betweenOf 67 = .ok (.invokevirtual 218, 3) := dk_182 0 218 (dk_at dksX2_betweenOf_2 19 rfl rfl)
theorem dX2_betweenOf_70 : decode cX2_betweenOf 70 = .ok (.ireturn, 1) := dk_172 (dk_at dksX2_betweenOf_2 22 rfl rfl)
theorem dX2_betweenOf_71 : decode cX2_betweenOf 71 = .ok (.aload_n 0, 1) := dk_42 (dk_at dksX2_betweenOf_2 23 rfl rfl)
theorem dX2_betweenOf_72 : decode cX2_betweenOf 72 = .ok (.bipush 97, 2) := dk_16 97 (dk_at dksX2_betweenOf_3 0 rfl rfl)
theorem dX2_betweenOf_74 : decode cX2_betweenOf 74 = .ok (.bipush 110, 2) := dk_16 110 (dk_at dksX2_betweenOf_3 2 rfl rfl)
theorem dX2_betweenOf_76 : decode cX2_betweenOf 76 = .ok (.bipush 100, 2) := dk_16 100 (dk_at dksX2_betweenOf_3 4 rfl rfl)
theorem dX2_betweenOf_78 : decode cX2_betweenOf 78 = .ok (.invokestatic 141, 3) := dk_184 0 141 (dk_at dksX2_betweenOf_3 6 rfl rfl)
theorem dX2_betweenOf_81 : decode cX2_betweenOf 81 = .ok (.invokevirtual 201, 3) := dk_182 0 201 (dk_at dksX2_betweenOf_3 9 rfl rfl)
theorem dX2_betweenOf_84 : decode cX2_betweenOf 84 = .ok (.ifCond .eq 8, 3) := dk_153 0 8 (dk_at dksX2_betweenOf_3 12 rfl rfl)
theorem dX2_betweenOf_87 : decode cX2_betweenOf 87 = .ok (.bipush 21, 2) := dk_16 21 (dk_at dksX2_betweenOf_3 15 rfl rfl)
theorem dX2_betweenOf_89 : decode cX2_betweenOf 89 = .ok (.goto 23, 3) := dk_167 0 23 (dk_at dksX2_betweenOf_3 17 rfl rfl)
theorem dX2_betweenOf_92 : decode cX2_betweenOf 92 = .ok (.aload_n 0, 1) := dk_42 (dk_at dksX2_betweenOf_3 20 rfl rfl)
theorem dX2_betweenOf_93 : decode cX2_betweenOf 93 = .ok (.bipush 111, 2) := dk_16 111 (dk_at dksX2_betweenOf_3 21 rfl rfl)
theorem dX2_betweenOf_95 : decode cX2_betweenOf 95 = .ok (.bipush 114, 2) := dk_16 114 (dk_at dksX2_betweenOf_4 0 rfl rfl)
theorem dX2_betweenOf_97 : decode cX2_betweenOf 97 = .ok (.invokestatic 137, 3) := dk_184 0 137 (dk_at dksX2_betweenOf_4 2 rfl rfl)
theorem dX2_betweenOf_100 : decode cX2_betweenOf 100 = .ok (.invokevirtual 201, 3) := dk_182 0 201 (dk_at dksX2_betweenOf_4 5 rfl rfl)
theorem dX2_betweenOf_103 : decode cX2_betweenOf 103 = .ok (.ifCond .eq 8, 3) := dk_153 0 8 (dk_at dksX2_betweenOf_4 8 rfl rfl)
theorem dX2_betweenOf_106 : decode cX2_betweenOf 106 = .ok (.bipush 22, 2) := dk_16 22 (dk_at dksX2_betweenOf_4 11 rfl rfl)
theorem dX2_betweenOf_108 : decode cX2_betweenOf 108 = .ok (.goto 4, 3) := dk_167 0 4 (dk_at dksX2_betweenOf_4 13 rfl rfl)
theorem dX2_betweenOf_111 : decode cX2_betweenOf 111 = .ok (.iconst (-1), 1) := dk_2 (dk_at dksX2_betweenOf_4 16 rfl rfl)
theorem dX2_betweenOf_112 : decode cX2_betweenOf 112 = .ok (.ireturn, 1) := dk_172 (dk_at dksX2_betweenOf_4 17 rfl rfl)
abbrev cX2_openNow : ByteArray := prog_20_method_41_code
def yX2_openNow : MethodName := ⟨RX2, "openNow", "()I"⟩
def dkwX2_openNow_0 : List UInt8 := [42, 182, 0, 179, 156, 0, 7, 2, 167, 0, 12, 42, 180, 0, 29, 42, 182, 0, 179, 46, 172]
abbrev dktX2_openNow_0 : List UInt8 := dkwX2_openNow_0 ++ []
theorem dksX2_openNow_0 : cX2_openNow.data.toList.drop 0 = dktX2_openNow_0 := by decide +kernel
theorem dX2_openNow_0 : decode cX2_openNow 0 = .ok (.aload_n 0, 1) := dk_42 (dk_at dksX2_openNow_0 0 rfl rfl)
theorem dX2_openNow_1 : decode cX2_openNow 1 = .ok (.invokevirtual 179, 3) := dk_182 0 179 (dk_at dksX2_openNow_0 1 rfl rfl)
theorem dX2_openNow_4 : decode cX2_openNow 4 = .ok (.ifCond .ge 7, 3) := dk_156 0 7 (dk_at dksX2_openNow_0 4 rfl rfl)
theorem dX2_openNow_7 : decode cX2_openNow 7 = .ok (.iconst (-1), 1) := dk_2 (dk_at dksX2_openNow_0 7 rfl rfl)
theorem dX2_openNow_8 : decode cX2_openNow 8 = .ok (.goto 12, 3) := dk_167 0 12 (dk_at dksX2_openNow_0 8 rfl rfl)
theorem dX2_openNow_11 : decode cX2_openNow 11 = .ok (.aload_n 0, 1) := dk_42 (dk_at dksX2_openNow_0 11 rfl rfl)
theorem dX2_openNow_12 : decode cX2_openNow 12 = .ok (.getfield 29, 3) := dk_180 0 29 (dk_at dksX2_openNow_0 12 rfl rfl)
theorem dX2_openNow_15 : decode cX2_openNow 15 = .ok (.aload_n 0, 1) := dk_42 (dk_at dksX2_openNow_0 15 rfl rfl)
theorem dX2_openNow_16 : decode cX2_openNow 16 = .ok (.invokevirtual 179, 3) := dk_182 0 179 (dk_at dksX2_openNow_0 16 rfl rfl)
theorem dX2_openNow_19 : decode cX2_openNow 19 = .ok (.iaload, 1) := dk_46 (dk_at dksX2_openNow_0 19 rfl rfl)
theorem dX2_openNow_20 : decode cX2_openNow 20 = .ok (.ireturn, 1) := dk_172 (dk_at dksX2_openNow_0 20 rfl rfl)
abbrev cX2_openAt : ByteArray := prog_20_method_40_code
def yX2_openAt : MethodName := ⟨RX2, "openAt", "()I"⟩
def dkwX2_openAt_1 : List UInt8 := [132, 1, 255, 167, 255, 238, 27, 172]
abbrev dktX2_openAt_1 : List UInt8 := dkwX2_openAt_1 ++ []
def dkwX2_openAt_0 : List UInt8 := [42, 180, 0, 166, 4, 100, 60, 27, 155, 0, 20, 42, 180, 0, 29, 27, 46, 16, 40, 162, 0, 9]
abbrev dktX2_openAt_0 : List UInt8 := dkwX2_openAt_0 ++ dktX2_openAt_1
theorem dksX2_openAt_0 : cX2_openAt.data.toList.drop 0 = dktX2_openAt_0 := by decide +kernel
theorem dksX2_openAt_1 : cX2_openAt.data.toList.drop 22 = dktX2_openAt_1 := dk_seg dksX2_openAt_0 22 rfl rfl
theorem dX2_openAt_0 : decode cX2_openAt 0 = .ok (.aload_n 0, 1) := dk_42 (dk_at dksX2_openAt_0 0 rfl rfl)
theorem dX2_openAt_1 : decode cX2_openAt 1 = .ok (.getfield 166, 3) := dk_180 0 166 (dk_at dksX2_openAt_0 1 rfl rfl)
theorem dX2_openAt_4 : decode cX2_openAt 4 = .ok (.iconst 1, 1) := dk_4 (dk_at dksX2_openAt_0 4 rfl rfl)
theorem dX2_openAt_5 : decode cX2_openAt 5 = .ok (.isub, 1) := dk_100 (dk_at dksX2_openAt_0 5 rfl rfl)
theorem dX2_openAt_6 : decode cX2_openAt 6 = .ok (.istore_n 1, 1) := dk_60 (dk_at dksX2_openAt_0 6 rfl rfl)
theorem dX2_openAt_7 : decode cX2_openAt 7 = .ok (.iload_n 1, 1) := dk_27 (dk_at dksX2_openAt_0 7 rfl rfl)
theorem dX2_openAt_8 : decode cX2_openAt 8 = .ok (.ifCond .lt 20, 3) := dk_155 0 20 (dk_at dksX2_openAt_0 8 rfl rfl)
theorem dX2_openAt_11 : decode cX2_openAt 11 = .ok (.aload_n 0, 1) := dk_42 (dk_at dksX2_openAt_0 11 rfl rfl)
theorem dX2_openAt_12 : decode cX2_openAt 12 = .ok (.getfield 29, 3) := dk_180 0 29 (dk_at dksX2_openAt_0 12 rfl rfl)
theorem dX2_openAt_15 : decode cX2_openAt 15 = .ok (.iload_n 1, 1) := dk_27 (dk_at dksX2_openAt_0 15 rfl rfl)
theorem dX2_openAt_16 : decode cX2_openAt 16 = .ok (.iaload, 1) := dk_46 (dk_at dksX2_openAt_0 16 rfl rfl)
theorem dX2_openAt_17 : decode cX2_openAt 17 = .ok (.bipush 40, 2) := dk_16 40 (dk_at dksX2_openAt_0 17 rfl rfl)
theorem dX2_openAt_19 : decode cX2_openAt 19 = .ok (.if_icmp .ge 9, 3) := dk_162 0 9 (dk_at dksX2_openAt_0 19 rfl rfl)
theorem dX2_openAt_22 : decode cX2_openAt 22 = .ok (.iinc 1 (-1), 3) := dk_132 1 255 (dk_at dksX2_openAt_1 0 rfl rfl)
theorem dX2_openAt_25 : decode cX2_openAt 25 = .ok (.goto (-18), 3) := dk_167 255 238 (dk_at dksX2_openAt_1 3 rfl rfl)
theorem dX2_openAt_28 : decode cX2_openAt 28 = .ok (.iload_n 1, 1) := dk_27 (dk_at dksX2_openAt_1 6 rfl rfl)
theorem dX2_openAt_29 : decode cX2_openAt 29 = .ok (.ireturn, 1) := dk_172 (dk_at dksX2_openAt_1 7 rfl rfl)
abbrev cX2_isCompared : ByteArray := prog_20_method_42_code
def yX2_isCompared : MethodName := ⟨RX2, "isCompared", "()Z"⟩
def dkwX2_isCompared_2 : List UInt8 := [167, 0, 4, 3, 172]
abbrev dktX2_isCompared_2 : List UInt8 := dkwX2_isCompared_2 ++ []
def dkwX2_isCompared_1 : List UInt8 := [132, 1, 255, 167, 255, 236, 27, 155, 0, 20, 42, 180, 0, 29, 27, 46, 184, 0, 169, 7, 160, 0, 7, 4]
abbrev dktX2_isCompared_1 : List UInt8 := dkwX2_isCompared_1 ++ dktX2_isCompared_2
def dkwX2_isCompared_0 : List UInt8 := [42, 180, 0, 166, 4, 100, 60, 27, 155, 0, 22, 42, 180, 0, 29, 27, 46, 184, 0, 169, 7, 164, 0, 9]
abbrev dktX2_isCompared_0 : List UInt8 := dkwX2_isCompared_0 ++ dktX2_isCompared_1
theorem dksX2_isCompared_0 : cX2_isCompared.data.toList.drop 0 = dktX2_isCompared_0 := by decide +kernel
theorem dksX2_isCompared_1 : cX2_isCompared.data.toList.drop 24 = dktX2_isCompared_1 := dk_seg dksX2_isCompared_0 24 rfl rfl
theorem dksX2_isCompared_2 : cX2_isCompared.data.toList.drop 48 = dktX2_isCompared_2 := dk_seg dksX2_isCompared_1 24 rfl rfl
theorem dX2_isCompared_0 : decode cX2_isCompared 0 = .ok (.aload_n 0, 1) := dk_42 (dk_at dksX2_isCompared_0 0 rfl rfl)
theorem dX2_isCompared_1 : decode cX2_isCompared 1 = .ok (.getfield 166, 3) := dk_180 0 166 (dk_at dksX2_isCompared_0 1 rfl rfl)
theorem dX2_isCompared_4 : decode cX2_isCompared 4 = .ok (.iconst 1, 1) := dk_4 (dk_at dksX2_isCompared_0 4 rfl rfl)
theorem dX2_isCompared_5 : decode cX2_isCompared 5 = .ok (.isub, 1) := dk_100 (dk_at dksX2_isCompared_0 5 rfl rfl)
theorem dX2_isCompared_6 : decode cX2_isCompared 6 = .ok (.istore_n 1, 1) := dk_60 (dk_at dksX2_isCompared_0 6 rfl rfl)
theorem dX2_isCompared_7 : decode cX2_isCompared 7 = .ok (.iload_n 1, 1) := dk_27 (dk_at dksX2_isCompared_0 7 rfl rfl)
theorem dX2_isCompared_8 : decode cX2_isCompared 8 = .ok (.ifCond .lt 22, 3) := dk_155 0 22 (dk_at dksX2_isCompared_0 8 rfl rfl)
theorem dX2_isCompared_11 : decode cX2_isCompared 11 = .ok (.aload_n 0, 1) := dk_42 (dk_at dksX2_isCompared_0 11 rfl rfl)
theorem dX2_isCompared_12 : decode cX2_isCompared 12 = .ok (.getfield 29, 3) := dk_180 0 29 (dk_at dksX2_isCompared_0 12 rfl rfl)
theorem dX2_isCompared_15 : decode cX2_isCompared 15 = .ok (.iload_n 1, 1) := dk_27 (dk_at dksX2_isCompared_0 15 rfl rfl)
theorem dX2_isCompared_16 : decode cX2_isCompared 16 = .ok (.iaload, 1) := dk_46 (dk_at dksX2_isCompared_0 16 rfl rfl)
theorem dX2_isCompared_17 : decode cX2_isCompared 17 = .ok (.invokestatic 169, 3) := dk_184 0 169 (dk_at dksX2_isCompared_0 17 rfl rfl)
theorem dX2_isCompared_20 : decode cX2_isCompared 20 = .ok (.iconst 4, 1) := dk_7 (dk_at dksX2_isCompared_0 20 rfl rfl)
theorem dX2_isCompared_21 : decode cX2_isCompared 21 = .ok (.if_icmp .le 9, 3) := dk_164 0 9 (dk_at dksX2_isCompared_0 21 rfl rfl)
theorem dX2_isCompared_24 : decode cX2_isCompared 24 = .ok (.iinc 1 (-1), 3) := dk_132 1 255 (dk_at dksX2_isCompared_1 0 rfl rfl)
theorem dX2_isCompared_27 : decode cX2_isCompared 27 = .ok (.goto (-20), 3) := dk_167 255 236 (dk_at dksX2_isCompared_1 3 rfl rfl)
theorem dX2_isCompared_30 : decode cX2_isCompared 30 = .ok (.iload_n 1, 1) := dk_27 (dk_at dksX2_isCompared_1 6 rfl rfl)
theorem dX2_isCompared_31 : decode cX2_isCompared 31 = .ok (.ifCond .lt 20, 3) := dk_155 0 20 (dk_at dksX2_isCompared_1 7 rfl rfl)
theorem dX2_isCompared_34 : decode cX2_isCompared 34 = .ok (.aload_n 0, 1) := dk_42 (dk_at dksX2_isCompared_1 10 rfl rfl)
theorem dX2_isCompared_35 : decode cX2_isCompared 35 = .ok (.getfield 29, 3) := dk_180 0 29 (dk_at dksX2_isCompared_1 11 rfl rfl)
theorem dX2_isCompared_38 : decode cX2_isCompared 38 = .ok (.iload_n 1, 1) := dk_27 (dk_at dksX2_isCompared_1 14 rfl rfl)
theorem dX2_isCompared_39 : decode cX2_isCompared 39 = .ok (.iaload, 1) := dk_46 (dk_at dksX2_isCompared_1 15 rfl rfl)
theorem dX2_isCompared_40 : decode cX2_isCompared 40 = .ok (.invokestatic 169, 3) := dk_184 0 169 (dk_at dksX2_isCompared_1 16 rfl rfl)
theorem dX2_isCompared_43 : decode cX2_isCompared 43 = .ok (.iconst 4, 1) := dk_7 (dk_at dksX2_isCompared_1 19 rfl rfl)
theorem dX2_isCompared_44 : decode cX2_isCompared 44 = .ok (.if_icmp .ne 7, 3) := dk_160 0 7 (dk_at dksX2_isCompared_1 20 rfl rfl)
theorem dX2_isCompared_47 : decode cX2_isCompared 47 = .ok (.iconst 1, 1) := dk_4 (dk_at dksX2_isCompared_1 23 rfl rfl)
theorem dX2_isCompared_48 : decode cX2_isCompared 48 = .ok (.goto 4, 3) := dk_167 0 4 (dk_at dksX2_isCompared_2 0 rfl rfl)
theorem dX2_isCompared_51 : decode cX2_isCompared 51 = .ok (.iconst 0, 1) := dk_3 (dk_at dksX2_isCompared_2 3 rfl rfl)
theorem dX2_isCompared_52 : decode cX2_isCompared 52 = .ok (.ireturn, 1) := dk_172 (dk_at dksX2_isCompared_2 4 rfl rfl)
abbrev cX2_rank : ByteArray := prog_20_method_38_code
def yX2_rank : MethodName := ⟨RX2, "rank", "(I)I"⟩
def dkwX2_rank_3 : List UInt8 := [16, 8, 161, 0, 8, 16, 6, 167, 0, 4, 8, 172]
abbrev dktX2_rank_3 : List UInt8 := dkwX2_rank_3 ++ []
def dkwX2_rank_2 : List UInt8 := [167, 0, 35, 26, 8, 159, 0, 13, 26, 5, 159, 0, 8, 26, 7, 160, 0, 8, 16, 7, 167, 0, 15, 26]
abbrev dktX2_rank_2 : List UInt8 := dkwX2_rank_2 ++ dktX2_rank_3
def dkwX2_rank_1 : List UInt8 := [160, 0, 7, 5, 167, 0, 55, 26, 16, 20, 160, 0, 7, 6, 167, 0, 45, 26, 16, 10, 161, 0, 7, 7]
abbrev dktX2_rank_1 : List UInt8 := dkwX2_rank_1 ++ dktX2_rank_2
def dkwX2_rank_0 : List UInt8 := [26, 16, 40, 161, 0, 7, 3, 167, 0, 75, 26, 16, 22, 160, 0, 7, 4, 167, 0, 65, 26, 16, 21]
abbrev dktX2_rank_0 : List UInt8 := dkwX2_rank_0 ++ dktX2_rank_1
theorem dksX2_rank_0 : cX2_rank.data.toList.drop 0 = dktX2_rank_0 := by decide +kernel
theorem dksX2_rank_1 : cX2_rank.data.toList.drop 23 = dktX2_rank_1 := dk_seg dksX2_rank_0 23 rfl rfl
theorem dksX2_rank_2 : cX2_rank.data.toList.drop 47 = dktX2_rank_2 := dk_seg dksX2_rank_1 24 rfl rfl
theorem dksX2_rank_3 : cX2_rank.data.toList.drop 71 = dktX2_rank_3 := dk_seg dksX2_rank_2 24 rfl rfl
theorem dX2_rank_0 : decode cX2_rank 0 = .ok (.iload_n 0, 1) := dk_26 (dk_at dksX2_rank_0 0 rfl rfl)
theorem dX2_rank_1 : decode cX2_rank 1 = .ok (.bipush 40, 2) := dk_16 40 (dk_at dksX2_rank_0 1 rfl rfl)
theorem dX2_rank_3 : decode cX2_rank 3 = .ok (.if_icmp .lt 7, 3) := dk_161 0 7 (dk_at dksX2_rank_0 3 rfl rfl)
theorem dX2_rank_6 : decode cX2_rank 6 = .ok (.iconst 0, 1) := dk_3 (dk_at dksX2_rank_0 6 rfl rfl)
theorem dX2_rank_7 : decode cX2_rank 7 = .ok (.goto 75, 3) := dk_167 0 75 (dk_at dksX2_rank_0 7 rfl rfl)
theorem dX2_rank_10 : decode cX2_rank 10 = .ok (.iload_n 0, 1) := dk_26 (dk_at dksX2_rank_0 10 rfl rfl)
theorem dX2_rank_11 : decode cX2_rank 11 = .ok (.bipush 22, 2) := dk_16 22 (dk_at dksX2_rank_0 11 rfl rfl)
theorem dX2_rank_13 : decode cX2_rank 13 = .ok (.if_icmp .ne 7, 3) := dk_160 0 7 (dk_at dksX2_rank_0 13 rfl rfl)
theorem dX2_rank_16 : decode cX2_rank 16 = .ok (.iconst 1, 1) := dk_4 (dk_at dksX2_rank_0 16 rfl rfl)
theorem dX2_rank_17 : decode cX2_rank 17 = .ok (.goto 65, 3) := dk_167 0 65 (dk_at dksX2_rank_0 17 rfl rfl)
theorem dX2_rank_20 : decode cX2_rank 20 = .ok (.iload_n 0, 1) := dk_26 (dk_at dksX2_rank_0 20 rfl rfl)
theorem dX2_rank_21 : decode cX2_rank 21 = .ok (.bipush 21, 2) := dk_16 21 (dk_at dksX2_rank_0 21 rfl rfl)
theorem dX2_rank_23 : decode cX2_rank 23 = .ok (.if_icmp .ne 7, 3) := dk_160 0 7 (dk_at dksX2_rank_1 0 rfl rfl)
theorem dX2_rank_26 : decode cX2_rank 26 = .ok (.iconst 2, 1) := dk_5 (dk_at dksX2_rank_1 3 rfl rfl)
theorem dX2_rank_27 : decode cX2_rank 27 = .ok (.goto 55, 3) := dk_167 0 55 (dk_at dksX2_rank_1 4 rfl rfl)
theorem dX2_rank_30 : decode cX2_rank 30 = .ok (.iload_n 0, 1) := dk_26 (dk_at dksX2_rank_1 7 rfl rfl)
theorem dX2_rank_31 : decode cX2_rank 31 = .ok (.bipush 20, 2) := dk_16 20 (dk_at dksX2_rank_1 8 rfl rfl)
theorem dX2_rank_33 : decode cX2_rank 33 = .ok (.if_icmp .ne 7, 3) := dk_160 0 7 (dk_at dksX2_rank_1 10 rfl rfl)
theorem dX2_rank_36 : decode cX2_rank 36 = .ok (.iconst 3, 1) := dk_6 (dk_at dksX2_rank_1 13 rfl rfl)
theorem dX2_rank_37 : decode cX2_rank 37 = .ok (.goto 45, 3) := dk_167 0 45 (dk_at dksX2_rank_1 14 rfl rfl)
theorem dX2_rank_40 : decode cX2_rank 40 = .ok (.iload_n 0, 1) := dk_26 (dk_at dksX2_rank_1 17 rfl rfl)
theorem dX2_rank_41 : decode cX2_rank 41 = .ok (.bipush 10, 2) := dk_16 10 (dk_at dksX2_rank_1 18 rfl rfl)
theorem dX2_rank_43 : decode cX2_rank 43 = .ok (.if_icmp .lt 7, 3) := dk_161 0 7 (dk_at dksX2_rank_1 20 rfl rfl)
theorem dX2_rank_46 : decode cX2_rank 46 = .ok (.iconst 4, 1) := dk_7 (dk_at dksX2_rank_1 23 rfl rfl)
theorem dX2_rank_47 : decode cX2_rank 47 = .ok (.goto 35, 3) := dk_167 0 35 (dk_at dksX2_rank_2 0 rfl rfl)
theorem dX2_rank_50 : decode cX2_rank 50 = .ok (.iload_n 0, 1) := dk_26 (dk_at dksX2_rank_2 3 rfl rfl)
theorem dX2_rank_51 : decode cX2_rank 51 = .ok (.iconst 5, 1) := dk_8 (dk_at dksX2_rank_2 4 rfl rfl)
theorem dX2_rank_52 : decode cX2_rank 52 = .ok (.if_icmp .eq 13, 3) := dk_159 0 13 (dk_at dksX2_rank_2 5 rfl rfl)
theorem dX2_rank_55 : decode cX2_rank 55 = .ok (.iload_n 0, 1) := dk_26 (dk_at dksX2_rank_2 8 rfl rfl)
theorem dX2_rank_56 : decode cX2_rank 56 = .ok (.iconst 2, 1) := dk_5 (dk_at dksX2_rank_2 9 rfl rfl)
theorem dX2_rank_57 : decode cX2_rank 57 = .ok (.if_icmp .eq 8, 3) := dk_159 0 8 (dk_at dksX2_rank_2 10 rfl rfl)
theorem dX2_rank_60 : decode cX2_rank 60 = .ok (.iload_n 0, 1) := dk_26 (dk_at dksX2_rank_2 13 rfl rfl)
theorem dX2_rank_61 : decode cX2_rank 61 = .ok (.iconst 4, 1) := dk_7 (dk_at dksX2_rank_2 14 rfl rfl)
theorem dX2_rank_62 : decode cX2_rank 62 = .ok (.if_icmp .ne 8, 3) := dk_160 0 8 (dk_at dksX2_rank_2 15 rfl rfl)
theorem dX2_rank_65 : decode cX2_rank 65 = .ok (.bipush 7, 2) := dk_16 7 (dk_at dksX2_rank_2 18 rfl rfl)
theorem dX2_rank_67 : decode cX2_rank 67 = .ok (.goto 15, 3) := dk_167 0 15 (dk_at dksX2_rank_2 20 rfl rfl)
theorem dX2_rank_70 : decode cX2_rank 70 = .ok (.iload_n 0, 1) := dk_26 (dk_at dksX2_rank_2 23 rfl rfl)
theorem dX2_rank_71 : decode cX2_rank 71 = .ok (.bipush 8, 2) := dk_16 8 (dk_at dksX2_rank_3 0 rfl rfl)
theorem dX2_rank_73 : decode cX2_rank 73 = .ok (.if_icmp .lt 8, 3) := dk_161 0 8 (dk_at dksX2_rank_3 2 rfl rfl)
theorem dX2_rank_76 : decode cX2_rank 76 = .ok (.bipush 6, 2) := dk_16 6 (dk_at dksX2_rank_3 5 rfl rfl)
theorem dX2_rank_78 : decode cX2_rank 78 = .ok (.goto 4, 3) := dk_167 0 4 (dk_at dksX2_rank_3 7 rfl rfl)
theorem dX2_rank_81 : decode cX2_rank 81 = .ok (.iconst 5, 1) := dk_8 (dk_at dksX2_rank_3 10 rfl rfl)
theorem dX2_rank_82 : decode cX2_rank 82 = .ok (.ireturn, 1) := dk_172 (dk_at dksX2_rank_3 11 rfl rfl)
abbrev cX2_compareOf : ByteArray := prog_20_method_47_code
def yX2_compareOf : MethodName := ⟨RX2, "compareOf", "()I"⟩
def dkwX2_compareOf_3 : List UInt8 := [180, 0, 115, 16, 35, 160, 0, 8, 16, 15, 167, 0, 4, 2, 172]
abbrev dktX2_compareOf_3 : List UInt8 := dkwX2_compareOf_3 ++ []
def dkwX2_compareOf_2 : List UInt8 := [160, 0, 8, 16, 13, 167, 0, 32, 42, 180, 0, 115, 16, 61, 160, 0, 8, 16, 14, 167, 0, 18, 42]
abbrev dktX2_compareOf_2 : List UInt8 := dkwX2_compareOf_2 ++ dktX2_compareOf_3
def dkwX2_compareOf_1 : List UInt8 := [167, 0, 59, 42, 180, 0, 115, 16, 62, 160, 0, 8, 16, 12, 167, 0, 45, 42, 180, 0, 115, 8]
abbrev dktX2_compareOf_1 : List UInt8 := dkwX2_compareOf_1 ++ dktX2_compareOf_2
def dkwX2_compareOf_0 : List UInt8 := [42, 180, 0, 115, 16, 60, 160, 0, 8, 16, 10, 167, 0, 72, 42, 180, 0, 115, 7, 160, 0, 8, 16, 11]
abbrev dktX2_compareOf_0 : List UInt8 := dkwX2_compareOf_0 ++ dktX2_compareOf_1
theorem dksX2_compareOf_0 : cX2_compareOf.data.toList.drop 0 = dktX2_compareOf_0 := by decide +kernel
theorem dksX2_compareOf_1 : cX2_compareOf.data.toList.drop 24 = dktX2_compareOf_1 := dk_seg dksX2_compareOf_0 24 rfl rfl
theorem dksX2_compareOf_2 : cX2_compareOf.data.toList.drop 46 = dktX2_compareOf_2 := dk_seg dksX2_compareOf_1 22 rfl rfl
theorem dksX2_compareOf_3 : cX2_compareOf.data.toList.drop 69 = dktX2_compareOf_3 := dk_seg dksX2_compareOf_2 23 rfl rfl
theorem dX2_compareOf_0 : decode cX2_compareOf 0 = .ok (.aload_n 0, 1) := dk_42 (dk_at dksX2_compareOf_0 0 rfl rfl)
theorem dX2_compareOf_1 : decode cX2_compareOf 1 = .ok (.getfield 115, 3) := dk_180 0 115 (dk_at dksX2_compareOf_0 1 rfl rfl)
theorem dX2_compareOf_4 : decode cX2_compareOf 4 = .ok (.bipush 60, 2) := dk_16 60 (dk_at dksX2_compareOf_0 4 rfl rfl)
theorem dX2_compareOf_6 : decode cX2_compareOf 6 = .ok (.if_icmp .ne 8, 3) := dk_160 0 8 (dk_at dksX2_compareOf_0 6 rfl rfl)
theorem dX2_compareOf_9 : decode cX2_compareOf 9 = .ok (.bipush 10, 2) := dk_16 10 (dk_at dksX2_compareOf_0 9 rfl rfl)
theorem dX2_compareOf_11 : decode cX2_compareOf 11 = .ok (.goto 72, 3) := dk_167 0 72 (dk_at dksX2_compareOf_0 11 rfl rfl)
theorem dX2_compareOf_14 : decode cX2_compareOf 14 = .ok (.aload_n 0, 1) := dk_42 (dk_at dksX2_compareOf_0 14 rfl rfl)
theorem dX2_compareOf_15 : decode cX2_compareOf 15 = .ok (.getfield 115, 3) := dk_180 0 115 (dk_at dksX2_compareOf_0 15 rfl rfl)
theorem dX2_compareOf_18 : decode cX2_compareOf 18 = .ok (.iconst 4, 1) := dk_7 (dk_at dksX2_compareOf_0 18 rfl rfl)
theorem dX2_compareOf_19 : decode cX2_compareOf 19 = .ok (.if_icmp .ne 8, 3) := dk_160 0 8 (dk_at dksX2_compareOf_0 19 rfl rfl)
theorem dX2_compareOf_22 : decode cX2_compareOf 22 = .ok (.bipush 11, 2) := dk_16 11 (dk_at dksX2_compareOf_0 22 rfl rfl)
theorem dX2_compareOf_24 : decode cX2_compareOf 24 = .ok (.goto 59, 3) := dk_167 0 59 (dk_at dksX2_compareOf_1 0 rfl rfl)
theorem dX2_compareOf_27 : decode cX2_compareOf 27 = .ok (.aload_n 0, 1) := dk_42 (dk_at dksX2_compareOf_1 3 rfl rfl)
theorem dX2_compareOf_28 : decode cX2_compareOf 28 = .ok (.getfield 115, 3) := dk_180 0 115 (dk_at dksX2_compareOf_1 4 rfl rfl)
theorem dX2_compareOf_31 : decode cX2_compareOf 31 = .ok (.bipush 62, 2) := dk_16 62 (dk_at dksX2_compareOf_1 7 rfl rfl)
theorem dX2_compareOf_33 : decode cX2_compareOf 33 = .ok (.if_icmp .ne 8, 3) := dk_160 0 8 (dk_at dksX2_compareOf_1 9 rfl rfl)
theorem dX2_compareOf_36 : decode cX2_compareOf 36 = .ok (.bipush 12, 2) := dk_16 12 (dk_at dksX2_compareOf_1 12 rfl rfl)
theorem dX2_compareOf_38 : decode cX2_compareOf 38 = .ok (.goto 45, 3) := dk_167 0 45 (dk_at dksX2_compareOf_1 14 rfl rfl)
theorem dX2_compareOf_41 : decode cX2_compareOf 41 = .ok (.aload_n 0, 1) := dk_42 (dk_at dksX2_compareOf_1 17 rfl rfl)
theorem dX2_compareOf_42 : decode cX2_compareOf 42 = .ok (.getfield 115, 3) := dk_180 0 115 (dk_at dksX2_compareOf_1 18 rfl rfl)
theorem dX2_compareOf_45 : decode cX2_compareOf 45 = .ok (.iconst 5, 1) := dk_8 (dk_at dksX2_compareOf_1 21 rfl rfl)
theorem dX2_compareOf_46 : decode cX2_compareOf 46 = .ok (.if_icmp .ne 8, 3) := dk_160 0 8 (dk_at dksX2_compareOf_2 0 rfl rfl)
theorem dX2_compareOf_49 : decode cX2_compareOf 49 = .ok (.bipush 13, 2) := dk_16 13 (dk_at dksX2_compareOf_2 3 rfl rfl)
theorem dX2_compareOf_51 : decode cX2_compareOf 51 = .ok (.goto 32, 3) := dk_167 0 32 (dk_at dksX2_compareOf_2 5 rfl rfl)
theorem dX2_compareOf_54 : decode cX2_compareOf 54 = .ok (.aload_n 0, 1) := dk_42 (dk_at dksX2_compareOf_2 8 rfl rfl)
theorem dX2_compareOf_55 : decode cX2_compareOf 55 = .ok (.getfield 115, 3) := dk_180 0 115 (dk_at dksX2_compareOf_2 9 rfl rfl)
theorem dX2_compareOf_58 : decode cX2_compareOf 58 = .ok (.bipush 61, 2) := dk_16 61 (dk_at dksX2_compareOf_2 12 rfl rfl)
theorem dX2_compareOf_60 : decode cX2_compareOf 60 = .ok (.if_icmp .ne 8, 3) := dk_160 0 8 (dk_at dksX2_compareOf_2 14 rfl rfl)
theorem dX2_compareOf_63 : decode cX2_compareOf 63 = .ok (.bipush 14, 2) := dk_16 14 (dk_at dksX2_compareOf_2 17 rfl rfl)
theorem dX2_compareOf_65 : decode cX2_compareOf 65 = .ok (.goto 18, 3) := dk_167 0 18 (dk_at dksX2_compareOf_2 19 rfl rfl)
theorem dX2_compareOf_68 : decode cX2_compareOf 68 = .ok (.aload_n 0, 1) := dk_42 (dk_at dksX2_compareOf_2 22 rfl rfl)
theorem dX2_compareOf_69 : decode cX2_compareOf 69 = .ok (.getfield 115, 3) := dk_180 0 115 (dk_at dksX2_compareOf_3 0 rfl rfl)
theorem dX2_compareOf_72 : decode cX2_compareOf 72 = .ok (.bipush 35, 2) := dk_16 35 (dk_at dksX2_compareOf_3 3 rfl rfl)
theorem dX2_compareOf_74 : decode cX2_compareOf 74 = .ok (.if_icmp .ne 8, 3) := dk_160 0 8 (dk_at dksX2_compareOf_3 5 rfl rfl)
theorem dX2_compareOf_77 : decode cX2_compareOf 77 = .ok (.bipush 15, 2) := dk_16 15 (dk_at dksX2_compareOf_3 8 rfl rfl)
theorem dX2_compareOf_79 : decode cX2_compareOf 79 = .ok (.goto 4, 3) := dk_167 0 4 (dk_at dksX2_compareOf_3 10 rfl rfl)
theorem dX2_compareOf_82 : decode cX2_compareOf 82 = .ok (.iconst (-1), 1) := dk_2 (dk_at dksX2_compareOf_3 13 rfl rfl)
theorem dX2_compareOf_83 : decode cX2_compareOf 83 = .ok (.ireturn, 1) := dk_172 (dk_at dksX2_compareOf_3 14 rfl rfl)
abbrev cX2_settle : ByteArray := prog_20_method_39_code
def yX2_settle : MethodName := ⟨RX2, "settle", "(I)V"⟩
def dkwX2_settle_3 : List UInt8 := [42, 180, 0, 166, 46, 16, 20, 160, 255, 179, 42, 89, 180, 0, 176, 4, 100, 181, 0, 176, 167, 255, 166, 177]
abbrev dktX2_settle_3 : List UInt8 := dkwX2_settle_3 ++ []
def dkwX2_settle_2 : List UInt8 := [182, 0, 172, 42, 180, 0, 29, 42, 180, 0, 166, 46, 184, 0, 169, 16, 7, 159, 0, 17, 42, 180, 0, 29]
abbrev dktX2_settle_2 : List UInt8 := dkwX2_settle_2 ++ dktX2_settle_3
def dkwX2_settle_1 : List UInt8 := [161, 0, 71, 42, 89, 180, 0, 166, 4, 100, 181, 0, 166, 42, 42, 180, 0, 29, 42, 180, 0, 166, 46, 3]
abbrev dktX2_settle_1 : List UInt8 := dkwX2_settle_1 ++ dktX2_settle_2
def dkwX2_settle_0 : List UInt8 := [42, 180, 0, 166, 158, 0, 89, 42, 180, 0, 29, 42, 180, 0, 166, 4, 100, 46, 184, 0, 169, 27]
abbrev dktX2_settle_0 : List UInt8 := dkwX2_settle_0 ++ dktX2_settle_1
theorem dksX2_settle_0 : cX2_settle.data.toList.drop 0 = dktX2_settle_0 := by decide +kernel
theorem dksX2_settle_1 : cX2_settle.data.toList.drop 22 = dktX2_settle_1 := dk_seg dksX2_settle_0 22 rfl rfl
theorem dksX2_settle_2 : cX2_settle.data.toList.drop 46 = dktX2_settle_2 := dk_seg dksX2_settle_1 24 rfl rfl
theorem dksX2_settle_3 : cX2_settle.data.toList.drop 70 = dktX2_settle_3 := dk_seg dksX2_settle_2 24 rfl rfl
theorem dX2_settle_0 : decode cX2_settle 0 = .ok (.aload_n 0, 1) := dk_42 (dk_at dksX2_settle_0 0 rfl rfl)
theorem dX2_settle_1 : decode cX2_settle 1 = .ok (.getfield 166, 3) := dk_180 0 166 (dk_at dksX2_settle_0 1 rfl rfl)
theorem dX2_settle_4 : decode cX2_settle 4 = .ok (.ifCond .le 89, 3) := dk_158 0 89 (dk_at dksX2_settle_0 4 rfl rfl)
theorem dX2_settle_7 : decode cX2_settle 7 = .ok (.aload_n 0, 1) := dk_42 (dk_at dksX2_settle_0 7 rfl rfl)
theorem dX2_settle_8 : decode cX2_settle 8 = .ok (.getfield 29, 3) := dk_180 0 29 (dk_at dksX2_settle_0 8 rfl rfl)
theorem dX2_settle_11 : decode cX2_settle 11 = .ok (.aload_n 0, 1) := dk_42 (dk_at dksX2_settle_0 11 rfl rfl)
theorem dX2_settle_12 : decode cX2_settle 12 = .ok (.getfield 166, 3) := dk_180 0 166 (dk_at dksX2_settle_0 12 rfl rfl)
theorem dX2_settle_15 : decode cX2_settle 15 = .ok (.iconst 1, 1) := dk_4 (dk_at dksX2_settle_0 15 rfl rfl)
theorem dX2_settle_16 : decode cX2_settle 16 = .ok (.isub, 1) := dk_100 (dk_at dksX2_settle_0 16 rfl rfl)
theorem dX2_settle_17 : decode cX2_settle 17 = .ok (.iaload, 1) := dk_46 (dk_at dksX2_settle_0 17 rfl rfl)
theorem dX2_settle_18 : decode cX2_settle 18 = .ok (.invokestatic 169, 3) := dk_184 0 169 (dk_at dksX2_settle_0 18 rfl rfl)
theorem dX2_settle_21 : decode cX2_settle 21 = .ok (.iload_n 1, 1) := dk_27 (dk_at dksX2_settle_0 21 rfl rfl)
theorem dX2_settle_22 : decode cX2_settle 22 = .ok (.if_icmp .lt 71, 3) := dk_161 0 71 (dk_at dksX2_settle_1 0 rfl rfl)
theorem dX2_settle_25 : decode cX2_settle 25 = .ok (.aload_n 0, 1) := dk_42 (dk_at dksX2_settle_1 3 rfl rfl)
theorem dX2_settle_26 : decode cX2_settle 26 = .ok (.dup, 1) := dk_89 (dk_at dksX2_settle_1 4 rfl rfl)
theorem dX2_settle_27 : decode cX2_settle 27 = .ok (.getfield 166, 3) := dk_180 0 166 (dk_at dksX2_settle_1 5 rfl rfl)
theorem dX2_settle_30 : decode cX2_settle 30 = .ok (.iconst 1, 1) := dk_4 (dk_at dksX2_settle_1 8 rfl rfl)
theorem dX2_settle_31 : decode cX2_settle 31 = .ok (.isub, 1) := dk_100 (dk_at dksX2_settle_1 9 rfl rfl)
theorem dX2_settle_32 : decode cX2_settle 32 = .ok (.putfield 166, 3) := dk_181 0 166 (dk_at dksX2_settle_1 10 rfl rfl)
theorem dX2_settle_35 : decode cX2_settle 35 = .ok (.aload_n 0, 1) := dk_42 (dk_at dksX2_settle_1 13 rfl rfl)
theorem dX2_settle_36 : decode cX2_settle 36 = .ok (.aload_n 0, 1) := dk_42 (dk_at dksX2_settle_1 14 rfl rfl)
theorem dX2_settle_37 : decode cX2_settle 37 = .ok (.getfield 29, 3) := dk_180 0 29 (dk_at dksX2_settle_1 15 rfl rfl)
theorem dX2_settle_40 : decode cX2_settle 40 = .ok (.aload_n 0, 1) := dk_42 (dk_at dksX2_settle_1 18 rfl rfl)
theorem dX2_settle_41 : decode cX2_settle 41 = .ok (.getfield 166, 3) := dk_180 0 166 (dk_at dksX2_settle_1 19 rfl rfl)
theorem dX2_settle_44 : decode cX2_settle 44 = .ok (.iaload, 1) := dk_46 (dk_at dksX2_settle_1 22 rfl rfl)
theorem dX2_settle_45 : decode cX2_settle 45 = .ok (.iconst 0, 1) := dk_3 (dk_at dksX2_settle_1 23 rfl rfl)
theorem dX2_settle_46 : decode cX2_settle 46 = .ok (.invokevirtual 172, 3) := dk_182 0 172 (dk_at dksX2_settle_2 0 rfl rfl)
theorem dX2_settle_49 : decode cX2_settle 49 = .ok (.aload_n 0, 1) := dk_42 (dk_at dksX2_settle_2 3 rfl rfl)
theorem dX2_settle_50 : decode cX2_settle 50 = .ok (.getfield 29, 3) := dk_180 0 29 (dk_at dksX2_settle_2 4 rfl rfl)
theorem dX2_settle_53 : decode cX2_settle 53 = .ok (.aload_n 0, 1) := dk_42 (dk_at dksX2_settle_2 7 rfl rfl)
theorem dX2_settle_54 : decode cX2_settle 54 = .ok (.getfield 166, 3) := dk_180 0 166 (dk_at dksX2_settle_2 8 rfl rfl)
theorem dX2_settle_57 : decode cX2_settle 57 = .ok (.iaload, 1) := dk_46 (dk_at dksX2_settle_2 11 rfl rfl)
theorem dX2_settle_58 : decode cX2_settle 58 = .ok (.invokestatic 169, 3) := dk_184 0 169 (dk_at dksX2_settle_2 12 rfl rfl)
theorem dX2_settle_61 : decode cX2_settle 61 = .ok (.bipush 7, 2) := dk_16 7 (dk_at dksX2_settle_2 15 rfl rfl)
theorem dX2_settle_63 : decode cX2_settle 63 = .ok (.if_icmp .eq 17, 3) := dk_159 0 17 (dk_at dksX2_settle_2 17 rfl rfl)
theorem dX2_settle_66 : decode cX2_settle 66 = .ok (.aload_n 0, 1) := dk_42 (dk_at dksX2_settle_2 20 rfl rfl)
theorem dX2_settle_67 : decode cX2_settle 67 = .ok (.getfield 29, 3) := dk_180 0 29 (dk_at dksX2_settle_2 21 rfl rfl)
theorem dX2_settle_70 : decode cX2_settle 70 = .ok (.aload_n 0, 1) := dk_42 (dk_at dksX2_settle_3 0 rfl rfl)
theorem dX2_settle_71 : decode cX2_settle 71 = .ok (.getfield 166, 3) := dk_180 0 166 (dk_at dksX2_settle_3 1 rfl rfl)
theorem dX2_settle_74 : decode cX2_settle 74 = .ok (.iaload, 1) := dk_46 (dk_at dksX2_settle_3 4 rfl rfl)
theorem dX2_settle_75 : decode cX2_settle 75 = .ok (.bipush 20, 2) := dk_16 20 (dk_at dksX2_settle_3 5 rfl rfl)
theorem dX2_settle_77 : decode cX2_settle 77 = .ok (.if_icmp .ne (-77), 3) := dk_160 255 179 (dk_at dksX2_settle_3 7 rfl rfl)
theorem dX2_settle_80 : decode cX2_settle 80 = .ok (.aload_n 0, 1) := dk_42 (dk_at dksX2_settle_3 10 rfl rfl)
theorem dX2_settle_81 : decode cX2_settle 81 = .ok (.dup, 1) := dk_89 (dk_at dksX2_settle_3 11 rfl rfl)
theorem dX2_settle_82 : decode cX2_settle 82 = .ok (.getfield 176, 3) := dk_180 0 176 (dk_at dksX2_settle_3 12 rfl rfl)
theorem dX2_settle_85 : decode cX2_settle 85 = .ok (.iconst 1, 1) := dk_4 (dk_at dksX2_settle_3 15 rfl rfl)
theorem dX2_settle_86 : decode cX2_settle 86 = .ok (.isub, 1) := dk_100 (dk_at dksX2_settle_3 16 rfl rfl)
theorem dX2_settle_87 : decode cX2_settle 87 = .ok (.putfield 176, 3) := dk_181 0 176 (dk_at dksX2_settle_3 17 rfl rfl)
theorem dX2_settle_90 : decode cX2_settle 90 = .ok (.goto (-90), 3) := dk_167 255 166 (dk_at dksX2_settle_3 20 rfl rfl)
theorem dX2_settle_93 : decode cX2_settle 93 = .ok (.return_, 1) := dk_177 (dk_at dksX2_settle_3 23 rfl rfl)
abbrev cX2_emit : ByteArray := prog_20_method_34_code
def yX2_emit : MethodName := ⟨RX2, "emit", "(II)V"⟩
def dkwX2_emit_2 : List UInt8 := [96, 181, 0, 156, 177]
abbrev dktX2_emit_2 : List UInt8 := dkwX2_emit_2 ++ []
def dkwX2_emit_1 : List UInt8 := [42, 180, 0, 153, 16, 97, 96, 5, 42, 180, 0, 156, 104, 96, 4, 96, 28, 79, 42, 89, 180, 0, 156, 4]
abbrev dktX2_emit_1 : List UInt8 := dkwX2_emit_1 ++ dktX2_emit_2
def dkwX2_emit_0 : List UInt8 := [42, 180, 0, 16, 42, 180, 0, 153, 16, 97, 96, 5, 42, 180, 0, 156, 104, 96, 27, 79, 42, 180, 0, 16]
abbrev dktX2_emit_0 : List UInt8 := dkwX2_emit_0 ++ dktX2_emit_1
theorem dksX2_emit_0 : cX2_emit.data.toList.drop 0 = dktX2_emit_0 := by decide +kernel
theorem dksX2_emit_1 : cX2_emit.data.toList.drop 24 = dktX2_emit_1 := dk_seg dksX2_emit_0 24 rfl rfl
theorem dksX2_emit_2 : cX2_emit.data.toList.drop 48 = dktX2_emit_2 := dk_seg dksX2_emit_1 24 rfl rfl
theorem dX2_emit_0 : decode cX2_emit 0 = .ok (.aload_n 0, 1) := dk_42 (dk_at dksX2_emit_0 0 rfl rfl)
theorem dX2_emit_1 : decode cX2_emit 1 = .ok (.getfield 16, 3) := dk_180 0 16 (dk_at dksX2_emit_0 1 rfl rfl)
theorem dX2_emit_4 : decode cX2_emit 4 = .ok (.aload_n 0, 1) := dk_42 (dk_at dksX2_emit_0 4 rfl rfl)
theorem dX2_emit_5 : decode cX2_emit 5 = .ok (.getfield 153, 3) := dk_180 0 153 (dk_at dksX2_emit_0 5 rfl rfl)
theorem dX2_emit_8 : decode cX2_emit 8 = .ok (.bipush 97, 2) := dk_16 97 (dk_at dksX2_emit_0 8 rfl rfl)
theorem dX2_emit_10 : decode cX2_emit 10 = .ok (.iadd, 1) := dk_96 (dk_at dksX2_emit_0 10 rfl rfl)
theorem dX2_emit_11 : decode cX2_emit 11 = .ok (.iconst 2, 1) := dk_5 (dk_at dksX2_emit_0 11 rfl rfl)
theorem dX2_emit_12 : decode cX2_emit 12 = .ok (.aload_n 0, 1) := dk_42 (dk_at dksX2_emit_0 12 rfl rfl)
theorem dX2_emit_13 : decode cX2_emit 13 = .ok (.getfield 156, 3) := dk_180 0 156 (dk_at dksX2_emit_0 13 rfl rfl)
theorem dX2_emit_16 : decode cX2_emit 16 = .ok (.imul, 1) := dk_104 (dk_at dksX2_emit_0 16 rfl rfl)
theorem dX2_emit_17 : decode cX2_emit 17 = .ok (.iadd, 1) := dk_96 (dk_at dksX2_emit_0 17 rfl rfl)
theorem dX2_emit_18 : decode cX2_emit 18 = .ok (.iload_n 1, 1) := dk_27 (dk_at dksX2_emit_0 18 rfl rfl)
theorem dX2_emit_19 : decode cX2_emit 19 = .ok (.iastore, 1) := dk_79 (dk_at dksX2_emit_0 19 rfl rfl)
theorem dX2_emit_20 : decode cX2_emit 20 = .ok (.aload_n 0, 1) := dk_42 (dk_at dksX2_emit_0 20 rfl rfl)
theorem dX2_emit_21 : decode cX2_emit 21 = .ok (.getfield 16, 3) := dk_180 0 16 (dk_at dksX2_emit_0 21 rfl rfl)
theorem dX2_emit_24 : decode cX2_emit 24 = .ok (.aload_n 0, 1) := dk_42 (dk_at dksX2_emit_1 0 rfl rfl)
theorem dX2_emit_25 : decode cX2_emit 25 = .ok (.getfield 153, 3) := dk_180 0 153 (dk_at dksX2_emit_1 1 rfl rfl)
theorem dX2_emit_28 : decode cX2_emit 28 = .ok (.bipush 97, 2) := dk_16 97 (dk_at dksX2_emit_1 4 rfl rfl)
theorem dX2_emit_30 : decode cX2_emit 30 = .ok (.iadd, 1) := dk_96 (dk_at dksX2_emit_1 6 rfl rfl)
theorem dX2_emit_31 : decode cX2_emit 31 = .ok (.iconst 2, 1) := dk_5 (dk_at dksX2_emit_1 7 rfl rfl)
theorem dX2_emit_32 : decode cX2_emit 32 = .ok (.aload_n 0, 1) := dk_42 (dk_at dksX2_emit_1 8 rfl rfl)
theorem dX2_emit_33 : decode cX2_emit 33 = .ok (.getfield 156, 3) := dk_180 0 156 (dk_at dksX2_emit_1 9 rfl rfl)
theorem dX2_emit_36 : decode cX2_emit 36 = .ok (.imul, 1) := dk_104 (dk_at dksX2_emit_1 12 rfl rfl)
theorem dX2_emit_37 : decode cX2_emit 37 = .ok (.iadd, 1) := dk_96 (dk_at dksX2_emit_1 13 rfl rfl)
theorem dX2_emit_38 : decode cX2_emit 38 = .ok (.iconst 1, 1) := dk_4 (dk_at dksX2_emit_1 14 rfl rfl)
theorem dX2_emit_39 : decode cX2_emit 39 = .ok (.iadd, 1) := dk_96 (dk_at dksX2_emit_1 15 rfl rfl)
theorem dX2_emit_40 : decode cX2_emit 40 = .ok (.iload_n 2, 1) := dk_28 (dk_at dksX2_emit_1 16 rfl rfl)
theorem dX2_emit_41 : decode cX2_emit 41 = .ok (.iastore, 1) := dk_79 (dk_at dksX2_emit_1 17 rfl rfl)
theorem dX2_emit_42 : decode cX2_emit 42 = .ok (.aload_n 0, 1) := dk_42 (dk_at dksX2_emit_1 18 rfl rfl)
theorem dX2_emit_43 : decode cX2_emit 43 = .ok (.dup, 1) := dk_89 (dk_at dksX2_emit_1 19 rfl rfl)
theorem dX2_emit_44 : decode cX2_emit 44 = .ok (.getfield 156, 3) := dk_180 0 156 (dk_at dksX2_emit_1 20 rfl rfl)
theorem dX2_emit_47 : decode cX2_emit 47 = .ok (.iconst 1, 1) := dk_4 (dk_at dksX2_emit_1 23 rfl rfl)
theorem dX2_emit_48 : decode cX2_emit 48 = .ok (.iadd, 1) := dk_96 (dk_at dksX2_emit_2 0 rfl rfl)
theorem dX2_emit_49 : decode cX2_emit 49 = .ok (.putfield 156, 3) := dk_181 0 156 (dk_at dksX2_emit_2 1 rfl rfl)
theorem dX2_emit_52 : decode cX2_emit 52 = .ok (.return_, 1) := dk_177 (dk_at dksX2_emit_2 4 rfl rfl)
abbrev cX2_partOf : ByteArray := prog_20_method_49_code
def yX2_partOf : MethodName := ⟨RX2, "partOf", "(I)I"⟩
def dkwX2_partOf_5 : List UInt8 := [42, 16, 101, 16, 110, 16, 100, 184, 0, 141, 182, 0, 201, 153, 0, 7, 3, 167, 0, 4, 2, 172, 2, 172]
abbrev dktX2_partOf_5 : List UInt8 := dkwX2_partOf_5 ++ []
def dkwX2_partOf_4 : List UInt8 := [16, 101, 16, 108, 16, 115, 16, 101, 184, 0, 145, 182, 0, 201, 153, 0, 8, 16, 44, 167, 0, 4, 2, 172]
abbrev dktX2_partOf_4 : List UInt8 := dkwX2_partOf_4 ++ dktX2_partOf_5
def dkwX2_partOf_3 : List UInt8 := [184, 0, 145, 182, 0, 201, 153, 0, 15, 42, 182, 0, 215, 153, 0, 8, 16, 43, 167, 0, 4, 2, 172, 42]
abbrev dktX2_partOf_3 : List UInt8 := dkwX2_partOf_3 ++ dktX2_partOf_4
def dkwX2_partOf_2 : List UInt8 := [42, 180, 0, 115, 16, 41, 160, 0, 7, 3, 167, 0, 4, 2, 172, 42, 16, 116, 16, 104, 16, 101, 16, 110]
abbrev dktX2_partOf_2 : List UInt8 := dkwX2_partOf_2 ++ dktX2_partOf_3
def dkwX2_partOf_1 : List UInt8 := [170, 0, 0, 0, 0, 0, 129, 0, 0, 0, 40, 0, 0, 0, 44, 0, 0, 0, 35, 0, 0, 0, 129, 0, 0, 0, 50, 0, 0, 0, 82, 0, 0, 0, 107]
abbrev dktX2_partOf_1 : List UInt8 := dkwX2_partOf_1 ++ dktX2_partOf_2
def dkwX2_partOf_0 : List UInt8 := [27]
abbrev dktX2_partOf_0 : List UInt8 := dkwX2_partOf_0 ++ dktX2_partOf_1
theorem dksX2_partOf_0 : cX2_partOf.data.toList.drop 0 = dktX2_partOf_0 := by decide +kernel
theorem dksX2_partOf_1 : cX2_partOf.data.toList.drop 1 = dktX2_partOf_1 := dk_seg dksX2_partOf_0 1 rfl rfl
theorem dksX2_partOf_2 : cX2_partOf.data.toList.drop 36 = dktX2_partOf_2 := dk_seg dksX2_partOf_1 35 rfl rfl
theorem dksX2_partOf_3 : cX2_partOf.data.toList.drop 60 = dktX2_partOf_3 := dk_seg dksX2_partOf_2 24 rfl rfl
theorem dksX2_partOf_4 : cX2_partOf.data.toList.drop 84 = dktX2_partOf_4 := dk_seg dksX2_partOf_3 24 rfl rfl
theorem dksX2_partOf_5 : cX2_partOf.data.toList.drop 108 = dktX2_partOf_5 := dk_seg dksX2_partOf_4 24 rfl rfl
theorem dX2_partOf_0 : decode cX2_partOf 0 = .ok (.iload_n 1, 1) := dk_27 (dk_at dksX2_partOf_0 0 rfl rfl)
theorem dX2_partOf_1 : decode cX2_partOf 1 = .ok (.tableswitch 129 40 44 #[35, 129, 50, 82, 107], 35) := by decide +kernel
theorem dX2_partOf_36 : decode cX2_partOf 36 = .ok (.aload_n 0, 1) := dk_42 (dk_at dksX2_partOf_2 0 rfl rfl)
theorem dX2_partOf_37 : decode cX2_partOf 37 = .ok (.getfield 115, 3) := dk_180 0 115 (dk_at dksX2_partOf_2 1 rfl rfl)
theorem dX2_partOf_40 : decode cX2_partOf 40 = .ok (.bipush 41, 2) := dk_16 41 (dk_at dksX2_partOf_2 4 rfl rfl)
theorem dX2_partOf_42 : decode cX2_partOf 42 = .ok (.if_icmp .ne 7, 3) := dk_160 0 7 (dk_at dksX2_partOf_2 6 rfl rfl)
theorem dX2_partOf_45 : decode cX2_partOf 45 = .ok (.iconst 0, 1) := dk_3 (dk_at dksX2_partOf_2 9 rfl rfl)
theorem dX2_partOf_46 : decode cX2_partOf 46 = .ok (.goto 4, 3) := dk_167 0 4 (dk_at dksX2_partOf_2 10 rfl rfl)
theorem dX2_partOf_49 : decode cX2_partOf 49 = .ok (.iconst (-1), 1) := dk_2 (dk_at dksX2_partOf_2 13 rfl rfl)
theorem dX2_partOf_50 : decode cX2_partOf 50 = .ok (.ireturn, 1) := dk_172 (dk_at dksX2_partOf_2 14 rfl rfl)
theorem dX2_partOf_51 : decode cX2_partOf 51 = .ok (.aload_n 0, 1) := dk_42 (dk_at dksX2_partOf_2 15 rfl rfl)
theorem dX2_partOf_52 : decode cX2_partOf 52 = .ok (.bipush 116, 2) := dk_16 116 (dk_at dksX2_partOf_2 16 rfl rfl)
theorem dX2_partOf_54 : decode cX2_partOf 54 = .ok (.bipush 104, 2) := dk_16 104 (dk_at dksX2_partOf_2 18 rfl rfl)
theorem dX2_partOf_56 : decode cX2_partOf 56 = .ok (.bipush 101, 2) := dk_16 101 (dk_at dksX2_partOf_2 20 rfl rfl)
theorem dX2_partOf_58 : decode cX2_partOf 58 = .ok (.bipush 110, 2) := dk_16 110 (dk_at dksX2_partOf_2 22 rfl rfl)
theorem dX2_partOf_60 : decode cX2_partOf 60 = .ok (.invokestatic 145, 3) := dk_184 0 145 (dk_at dksX2_partOf_3 0 rfl rfl)
theorem dX2_partOf_63 : decode cX2_partOf 63 = .ok (.invokevirtual 201, 3) := dk_182 0 201 (dk_at dksX2_partOf_3 3 rfl rfl)
theorem dX2_partOf_66 : decode cX2_partOf 66 = .ok (.ifCond .eq 15, 3) := dk_153 0 15 (dk_at dksX2_partOf_3 6 rfl rfl)
theorem dX2_partOf_69 : decode cX2_partOf 69 = .ok (.aload_n 0, 1) := dk_42 (dk_at dksX2_partOf_3 9 rfl rfl)
theorem dX2_partOf_70 : decode cX2_partOf 70 = .ok (.invokevirtual 215, 3) := dk_182 0 215 (dk_at dksX2_partOf_3 10 rfl rfl)
theorem dX2_partOf_73 : decode cX2_partOf 73 = .ok (.ifCond .eq 8, 3) := dk_153 0 8 (dk_at dksX2_partOf_3 13 rfl rfl)
theorem dX2_partOf_76 : decode cX2_partOf 76 = .ok (.bipush 43, 2) := dk_16 43 (dk_at dksX2_partOf_3 16 rfl rfl)
theorem dX2_partOf_78 : decode cX2_partOf 78 = .ok (.goto 4, 3) := dk_167 0 4 (dk_at dksX2_partOf_3 18 rfl rfl)
theorem dX2_partOf_81 : decode cX2_partOf 81 = .ok (.iconst (-1), 1) := dk_2 (dk_at dksX2_partOf_3 21 rfl rfl)
theorem dX2_partOf_82 : decode cX2_partOf 82 = .ok (.ireturn, 1) := dk_172 (dk_at dksX2_partOf_3 22 rfl rfl)
theorem dX2_partOf_83 : decode cX2_partOf 83 = .ok (.aload_n 0, 1) := dk_42 (dk_at dksX2_partOf_3 23 rfl rfl)
theorem dX2_partOf_84 : decode cX2_partOf 84 = .ok (.bipush 101, 2) := dk_16 101 (dk_at dksX2_partOf_4 0 rfl rfl)
theorem dX2_partOf_86 : decode cX2_partOf 86 = .ok (.bipush 108, 2) := dk_16 108 (dk_at dksX2_partOf_4 2 rfl rfl)
theorem dX2_partOf_88 : decode cX2_partOf 88 = .ok (.bipush 115, 2) := dk_16 115 (dk_at dksX2_partOf_4 4 rfl rfl)
theorem dX2_partOf_90 : decode cX2_partOf 90 = .ok (.bipush 101, 2) := dk_16 101 (dk_at dksX2_partOf_4 6 rfl rfl)
theorem dX2_partOf_92 : decode cX2_partOf 92 = .ok (.invokestatic 145, 3) := dk_184 0 145 (dk_at dksX2_partOf_4 8 rfl rfl)
theorem dX2_partOf_95 : decode cX2_partOf 95 = .ok (.invokevirtual 201, 3) := dk_182 0 201 (dk_at dksX2_partOf_4 11 rfl rfl)
theorem dX2_partOf_98 : decode cX2_partOf 98 = .ok (.ifCond .eq 8, 3) := dk_153 0 8 (dk_at dksX2_partOf_4 14 rfl rfl)
theorem dX2_partOf_101 : decode cX2_partOf 101 = .ok (.bipush 44, 2) := dk_16 44 (dk_at dksX2_partOf_4 17 rfl rfl)
theorem dX2_partOf_103 : decode cX2_partOf 103 = .ok (.goto 4, 3) := dk_167 0 4 (dk_at dksX2_partOf_4 19 rfl rfl)
theorem dX2_partOf_106 : decode cX2_partOf 106 = .ok (.iconst (-1), 1) := dk_2 (dk_at dksX2_partOf_4 22 rfl rfl)
theorem dX2_partOf_107 : decode cX2_partOf 107 = .ok (.ireturn, 1) := dk_172 (dk_at dksX2_partOf_4 23 rfl rfl)
theorem dX2_partOf_108 : decode cX2_partOf 108 = .ok (.aload_n 0, 1) := dk_42 (dk_at dksX2_partOf_5 0 rfl rfl)
theorem dX2_partOf_109 : decode cX2_partOf 109 = .ok (.bipush 101, 2) := dk_16 101 (dk_at dksX2_partOf_5 1 rfl rfl)
theorem dX2_partOf_111 : decode cX2_partOf 111 = .ok (.bipush 110, 2) := dk_16 110 (dk_at dksX2_partOf_5 3 rfl rfl)
theorem dX2_partOf_113 : decode cX2_partOf 113 = .ok (.bipush 100, 2) := dk_16 100 (dk_at dksX2_partOf_5 5 rfl rfl)
theorem dX2_partOf_115 : decode cX2_partOf 115 = .ok (.invokestatic 141, 3) := dk_184 0 141 (dk_at dksX2_partOf_5 7 rfl rfl)
theorem dX2_partOf_118 : decode cX2_partOf 118 = .ok (.invokevirtual 201, 3) := dk_182 0 201 (dk_at dksX2_partOf_5 10 rfl rfl)
theorem dX2_partOf_121 : decode cX2_partOf 121 = .ok (.ifCond .eq 7, 3) := dk_153 0 7 (dk_at dksX2_partOf_5 13 rfl rfl)
theorem dX2_partOf_124 : decode cX2_partOf 124 = .ok (.iconst 0, 1) := dk_3 (dk_at dksX2_partOf_5 16 rfl rfl)
theorem dX2_partOf_125 : decode cX2_partOf 125 = .ok (.goto 4, 3) := dk_167 0 4 (dk_at dksX2_partOf_5 17 rfl rfl)
theorem dX2_partOf_128 : decode cX2_partOf 128 = .ok (.iconst (-1), 1) := dk_2 (dk_at dksX2_partOf_5 20 rfl rfl)
theorem dX2_partOf_129 : decode cX2_partOf 129 = .ok (.ireturn, 1) := dk_172 (dk_at dksX2_partOf_5 21 rfl rfl)
theorem dX2_partOf_130 : decode cX2_partOf 130 = .ok (.iconst (-1), 1) := dk_2 (dk_at dksX2_partOf_5 22 rfl rfl)
theorem dX2_partOf_131 : decode cX2_partOf 131 = .ok (.ireturn, 1) := dk_172 (dk_at dksX2_partOf_5 23 rfl rfl)
abbrev cX2_endOne : ByteArray := prog_20_method_46_code
def yX2_endOne : MethodName := ⟨RX2, "endOne", "()I"⟩
def dkwX2_endOne_3 : List UInt8 := [181, 0, 212, 3, 172]
abbrev dktX2_endOne_3 : List UInt8 := dkwX2_endOne_3 ++ []
def dkwX2_endOne_2 : List UInt8 := [154, 0, 5, 4, 172, 42, 182, 0, 186, 42, 180, 0, 29, 42, 180, 0, 166, 4, 100, 7, 79, 42, 3]
abbrev dktX2_endOne_2 : List UInt8 := dkwX2_endOne_2 ++ dktX2_endOne_3
def dkwX2_endOne_1 : List UInt8 := [180, 0, 166, 4, 100, 46, 16, 41, 159, 0, 5, 3, 172, 42, 16, 98, 16, 121, 184, 0, 137, 182, 0, 201]
abbrev dktX2_endOne_1 : List UInt8 := dkwX2_endOne_1 ++ dktX2_endOne_2
def dkwX2_endOne_0 : List UInt8 := [42, 16, 7, 182, 0, 209, 42, 4, 181, 0, 212, 42, 180, 0, 166, 153, 0, 19, 42, 180, 0, 29, 42]
abbrev dktX2_endOne_0 : List UInt8 := dkwX2_endOne_0 ++ dktX2_endOne_1
theorem dksX2_endOne_0 : cX2_endOne.data.toList.drop 0 = dktX2_endOne_0 := by decide +kernel
theorem dksX2_endOne_1 : cX2_endOne.data.toList.drop 23 = dktX2_endOne_1 := dk_seg dksX2_endOne_0 23 rfl rfl
theorem dksX2_endOne_2 : cX2_endOne.data.toList.drop 47 = dktX2_endOne_2 := dk_seg dksX2_endOne_1 24 rfl rfl
theorem dksX2_endOne_3 : cX2_endOne.data.toList.drop 70 = dktX2_endOne_3 := dk_seg dksX2_endOne_2 23 rfl rfl
theorem dX2_endOne_0 : decode cX2_endOne 0 = .ok (.aload_n 0, 1) := dk_42 (dk_at dksX2_endOne_0 0 rfl rfl)
theorem dX2_endOne_1 : decode cX2_endOne 1 = .ok (.bipush 7, 2) := dk_16 7 (dk_at dksX2_endOne_0 1 rfl rfl)
theorem dX2_endOne_3 : decode cX2_endOne 3 = .ok (.invokevirtual 209, 3) := dk_182 0 209 (dk_at dksX2_endOne_0 3 rfl rfl)
theorem dX2_endOne_6 : decode cX2_endOne 6 = .ok (.aload_n 0, 1) := dk_42 (dk_at dksX2_endOne_0 6 rfl rfl)
theorem dX2_endOne_7 : decode cX2_endOne 7 = .ok (.iconst 1, 1) := dk_4 (dk_at dksX2_endOne_0 7 rfl rfl)
theorem dX2_endOne_8 : decode cX2_endOne 8 = .ok (.putfield 212, 3) := dk_181 0 212 (dk_at dksX2_endOne_0 8 rfl rfl)
theorem dX2_endOne_11 : decode cX2_endOne 11 = .ok (.aload_n 0, 1) := dk_42 (dk_at dksX2_endOne_0 11 rfl rfl)
theorem dX2_endOne_12 : decode cX2_endOne 12 = .ok (.getfield 166, 3) := dk_180 0 166 (dk_at dksX2_endOne_0 12 rfl rfl)
theorem dX2_endOne_15 : decode cX2_endOne 15 = .ok (.ifCond .eq 19, 3) := dk_153 0 19 (dk_at dksX2_endOne_0 15 rfl rfl)
theorem dX2_endOne_18 : decode cX2_endOne 18 = .ok (.aload_n 0, 1) := dk_42 (dk_at dksX2_endOne_0 18 rfl rfl)
theorem dX2_endOne_19 : decode cX2_endOne 19 = .ok (.getfield 29, 3) := dk_180 0 29 (dk_at dksX2_endOne_0 19 rfl rfl)
theorem dX2_endOne_22 : decode cX2_endOne 22 = .ok (.aload_n 0, 1) := dk_42 (dk_at dksX2_endOne_0 22 rfl rfl)
theorem dX2_endOne_23 : decode cX2_endOne 23 = .ok (.getfield 166, 3) := dk_180 0 166 (dk_at dksX2_endOne_1 0 rfl rfl)
theorem dX2_endOne_26 : decode cX2_endOne 26 = .ok (.iconst 1, 1) := dk_4 (dk_at dksX2_endOne_1 3 rfl rfl)
theorem dX2_endOne_27 : decode cX2_endOne 27 = .ok (.isub, 1) := dk_100 (dk_at dksX2_endOne_1 4 rfl rfl)
theorem dX2_endOne_28 : decode cX2_endOne 28 = .ok (.iaload, 1) := dk_46 (dk_at dksX2_endOne_1 5 rfl rfl)
theorem dX2_endOne_29 : decode cX2_endOne 29 = .ok (.bipush 41, 2) := dk_16 41 (dk_at dksX2_endOne_1 6 rfl rfl)
theorem dX2_endOne_31 : decode cX2_endOne 31 = .ok (.if_icmp .eq 5, 3) := dk_159 0 5 (dk_at dksX2_endOne_1 8 rfl rfl)
theorem dX2_endOne_34 : decode cX2_endOne 34 = .ok (.iconst 0, 1) := dk_3 (dk_at dksX2_endOne_1 11 rfl rfl)
theorem dX2_endOne_35 : decode cX2_endOne 35 = .ok (.ireturn, 1) := dk_172 (dk_at dksX2_endOne_1 12 rfl rfl)
theorem dX2_endOne_36 : decode cX2_endOne 36 = .ok (.aload_n 0, 1) := dk_42 (dk_at dksX2_endOne_1 13 rfl rfl)
theorem dX2_endOne_37 : decode cX2_endOne 37 = .ok (.bipush 98, 2) := dk_16 98 (dk_at dksX2_endOne_1 14 rfl rfl)
theorem dX2_endOne_39 : decode cX2_endOne 39 = .ok (.bipush 121, 2) := dk_16 121 (dk_at dksX2_endOne_1 16 rfl rfl)
theorem dX2_endOne_41 : decode cX2_endOne 41 = .ok (.invokestatic 137, 3) := dk_184 0 137 (dk_at dksX2_endOne_1 18 rfl rfl)
theorem dX2_endOne_44 : decode cX2_endOne 44 = .ok (.invokevirtual 201, 3) := dk_182 0 201 (dk_at dksX2_endOne_1 21 rfl rfl)
theorem dX2_endOne_47 : decode cX2_endOne 47 = .ok (.ifCond .ne 5, 3) := dk_154 0 5 (dk_at dksX2_endOne_2 0 rfl rfl)
theorem dX2_endOne_50 : decode cX2_endOne 50 = .ok (.iconst 1, 1) := dk_4 (dk_at dksX2_endOne_2 3 rfl rfl)
theorem dX2_endOne_51 : decode cX2_endOne 51 = .ok (.ireturn, 1) := dk_172 (dk_at dksX2_endOne_2 4 rfl rfl)
theorem dX2_endOne_52 : decode cX2_endOne 52 = .ok (.aload_n 0, 1) := dk_42 (dk_at dksX2_endOne_2 5 rfl rfl)
theorem dX2_endOne_53 : decode cX2_endOne 53 = .ok (.invokevirtual 186, 3) := dk_182 0 186 (dk_at dksX2_endOne_2 6 rfl rfl)
theorem dX2_endOne_56 : decode cX2_endOne 56 = .ok (.aload_n 0, 1) := dk_42 (dk_at dksX2_endOne_2 9 rfl rfl)
theorem dX2_endOne_57 : decode cX2_endOne 57 = .ok (.getfield 29, 3) := dk_180 0 29 (dk_at dksX2_endOne_2 10 rfl rfl)
theorem dX2_endOne_60 : decode cX2_endOne 60 = .ok (.aload_n 0, 1) := dk_42 (dk_at dksX2_endOne_2 13 rfl rfl)
theorem dX2_endOne_61 : decode cX2_endOne 61 = .ok (.getfield 166, 3) := dk_180 0 166 (dk_at dksX2_endOne_2 14 rfl rfl)
theorem dX2_endOne_64 : decode cX2_endOne 64 = .ok (.iconst 1, 1) := dk_4 (dk_at dksX2_endOne_2 17 rfl rfl)
theorem dX2_endOne_65 : decode cX2_endOne 65 = .ok (.isub, 1) := dk_100 (dk_at dksX2_endOne_2 18 rfl rfl)
theorem dX2_endOne_66 : decode cX2_endOne 66 = .ok (.iconst 4, 1) := dk_7 (dk_at dksX2_endOne_2 19 rfl rfl)
theorem dX2_endOne_67 : decode cX2_endOne 67 = .ok (.iastore, 1) := dk_79 (dk_at dksX2_endOne_2 20 rfl rfl)
theorem dX2_endOne_68 : decode cX2_endOne 68 = .ok (.aload_n 0, 1) := dk_42 (dk_at dksX2_endOne_2 21 rfl rfl)
theorem dX2_endOne_69 : decode cX2_endOne 69 = .ok (.iconst 0, 1) := dk_3 (dk_at dksX2_endOne_2 22 rfl rfl)
theorem dX2_endOne_70 : decode cX2_endOne 70 = .ok (.putfield 212, 3) := dk_181 0 212 (dk_at dksX2_endOne_3 0 rfl rfl)
theorem dX2_endOne_73 : decode cX2_endOne 73 = .ok (.iconst 0, 1) := dk_3 (dk_at dksX2_endOne_3 3 rfl rfl)
theorem dX2_endOne_74 : decode cX2_endOne 74 = .ok (.ireturn, 1) := dk_172 (dk_at dksX2_endOne_3 4 rfl rfl)
abbrev cX2_beginOne : ByteArray := prog_20_method_45_code
def yX2_beginOne : MethodName := ⟨RX2, "beginOne", "()I"⟩
def dkwX2_beginOne_9 : List UInt8 := [153, 0, 12, 42, 16, 20, 182, 0, 198, 167, 0, 4, 4, 172]
abbrev dktX2_beginOne_9 : List UInt8 := dkwX2_beginOne_9 ++ []
def dkwX2_beginOne_8 : List UInt8 := [182, 0, 198, 172, 42, 16, 110, 16, 111, 16, 116, 184, 0, 141, 182, 0, 201, 153, 0, 19, 42, 182, 0, 205]
abbrev dktX2_beginOne_8 : List UInt8 := dkwX2_beginOne_8 ++ dktX2_beginOne_9
def dkwX2_beginOne_7 : List UInt8 := [5, 182, 0, 198, 172, 42, 16, 105, 16, 102, 184, 0, 137, 182, 0, 201, 153, 0, 10, 42, 16, 42]
abbrev dktX2_beginOne_7 : List UInt8 := dkwX2_beginOne_7 ++ dktX2_beginOne_8
def dkwX2_beginOne_6 : List UInt8 := [42, 16, 41, 182, 0, 198, 172, 42, 16, 104, 16, 111, 16, 116, 184, 0, 141, 182, 0, 201, 153, 0, 9, 42]
abbrev dktX2_beginOne_6 : List UInt8 := dkwX2_beginOne_6 ++ dktX2_beginOne_7
def dkwX2_beginOne_5 : List UInt8 := [42, 8, 182, 0, 198, 172, 42, 16, 114, 16, 101, 16, 115, 16, 116, 184, 0, 145, 182, 0, 201, 153, 0, 10]
abbrev dktX2_beginOne_5 : List UInt8 := dkwX2_beginOne_5 ++ dktX2_beginOne_6
def dkwX2_beginOne_4 : List UInt8 := [180, 0, 115, 16, 40, 160, 0, 10, 42, 16, 40, 182, 0, 198, 172, 42, 180, 0, 115, 16, 45, 160, 0, 9]
abbrev dktX2_beginOne_4 : List UInt8 := dkwX2_beginOne_4 ++ dktX2_beginOne_5
def dkwX2_beginOne_3 : List UInt8 := [160, 0, 10, 42, 180, 0, 121, 167, 0, 4, 27, 182, 0, 172, 42, 182, 0, 186, 42, 182, 0, 195, 172, 42]
abbrev dktX2_beginOne_3 : List UInt8 := dkwX2_beginOne_3 ++ dktX2_beginOne_4
def dkwX2_beginOne_2 : List UInt8 := [155, 0, 45, 42, 42, 180, 0, 115, 4, 160, 0, 7, 3, 167, 0, 4, 4, 42, 180, 0, 115, 4]
abbrev dktX2_beginOne_2 : List UInt8 := dkwX2_beginOne_2 ++ dktX2_beginOne_3
def dkwX2_beginOne_1 : List UInt8 := [60, 27, 155, 0, 13, 42, 27, 182, 0, 192, 154, 0, 5, 8, 172, 42, 180, 0, 115, 4, 159, 0, 7, 27]
abbrev dktX2_beginOne_1 : List UInt8 := dkwX2_beginOne_1 ++ dktX2_beginOne_2
def dkwX2_beginOne_0 : List UInt8 := [42, 180, 0, 115, 4, 160, 0, 15, 42, 180, 0, 121, 17, 39, 15, 164, 0, 5, 5, 172, 42, 182, 0, 189]
abbrev dktX2_beginOne_0 : List UInt8 := dkwX2_beginOne_0 ++ dktX2_beginOne_1
theorem dksX2_beginOne_0 : cX2_beginOne.data.toList.drop 0 = dktX2_beginOne_0 := by decide +kernel
theorem dksX2_beginOne_1 : cX2_beginOne.data.toList.drop 24 = dktX2_beginOne_1 := dk_seg dksX2_beginOne_0 24 rfl rfl
theorem dksX2_beginOne_2 : cX2_beginOne.data.toList.drop 48 = dktX2_beginOne_2 := dk_seg dksX2_beginOne_1 24 rfl rfl
theorem dksX2_beginOne_3 : cX2_beginOne.data.toList.drop 70 = dktX2_beginOne_3 := dk_seg dksX2_beginOne_2 22 rfl rfl
theorem dksX2_beginOne_4 : cX2_beginOne.data.toList.drop 94 = dktX2_beginOne_4 := dk_seg dksX2_beginOne_3 24 rfl rfl
theorem dksX2_beginOne_5 : cX2_beginOne.data.toList.drop 118 = dktX2_beginOne_5 := dk_seg dksX2_beginOne_4 24 rfl rfl
theorem dksX2_beginOne_6 : cX2_beginOne.data.toList.drop 142 = dktX2_beginOne_6 := dk_seg dksX2_beginOne_5 24 rfl rfl
theorem dksX2_beginOne_7 : cX2_beginOne.data.toList.drop 166 = dktX2_beginOne_7 := dk_seg dksX2_beginOne_6 24 rfl rfl
theorem dksX2_beginOne_8 : cX2_beginOne.data.toList.drop 188 = dktX2_beginOne_8 := dk_seg dksX2_beginOne_7 22 rfl rfl
theorem dksX2_beginOne_9 : cX2_beginOne.data.toList.drop 212 = dktX2_beginOne_9 := dk_seg dksX2_beginOne_8 24 rfl rfl
theorem dX2_beginOne_0 : decode cX2_beginOne 0 = .ok (.aload_n 0, 1) := dk_42 (dk_at dksX2_beginOne_0 0 rfl rfl)
theorem dX2_beginOne_1 : decode cX2_beginOne 1 = .ok (.getfield 115, 3) := dk_180 0 115 (dk_at dksX2_beginOne_0 1 rfl rfl)
theorem dX2_beginOne_4 : decode cX2_beginOne 4 = .ok (.iconst 1, 1) := dk_4 (dk_at dksX2_beginOne_0 4 rfl rfl)
theorem dX2_beginOne_5 : decode cX2_beginOne 5 = .ok (.if_icmp .ne 15, 3) := dk_160 0 15 (dk_at dksX2_beginOne_0 5 rfl rfl)
theorem dX2_beginOne_8 : decode cX2_beginOne 8 = .ok (.aload_n 0, 1) := dk_42 (dk_at dksX2_beginOne_0 8 rfl rfl)
theorem dX2_beginOne_9 : decode cX2_beginOne 9 = .ok (.getfield 121, 3) := dk_180 0 121 (dk_at dksX2_beginOne_0 9 rfl rfl)
theorem dX2_beginOne_12 : decode cX2_beginOne 12 = .ok (.sipush 9999, 3) := dk_17 39 15 (dk_at dksX2_beginOne_0 12 rfl rfl)
theorem dX2_beginOne_15 : decode cX2_beginOne 15 = .ok (.if_icmp .le 5, 3) := dk_164 0 5 (dk_at dksX2_beginOne_0 15 rfl rfl)
theorem dX2_beginOne_18 : decode cX2_beginOne 18 = .ok (.iconst 2, 1) := dk_5 (dk_at dksX2_beginOne_0 18 rfl rfl)
theorem dX2_beginOne_19 : decode cX2_beginOne 19 = .ok (.ireturn, 1) := dk_172 (dk_at dksX2_beginOne_0 19 rfl rfl)
theorem dX2_beginOne_20 : decode cX2_beginOne 20 = .ok (.aload_n 0, 1) := dk_42 (dk_at dksX2_beginOne_0 20 rfl rfl)
theorem dX2_beginOne_21 : decode cX2_beginOne 21 = .ok (.invokevirtual 189, 3) := dk_182 0 189 (dk_at dksX2_beginOne_0 21 rfl rfl)
theorem dX2_beginOne_24 : decode cX2_beginOne 24 = .ok (.istore_n 1, 1) := dk_60 (dk_at dksX2_beginOne_1 0 rfl rfl)
theorem dX2_beginOne_25 : decode cX2_beginOne 25 = .ok (.iload_n 1, 1) := dk_27 (dk_at dksX2_beginOne_1 1 rfl rfl)
theorem dX2_beginOne_26 : decode cX2_beginOne 26 = .ok (.ifCond .lt 13, 3) := dk_155 0 13 (dk_at dksX2_beginOne_1 2 rfl rfl)
theorem dX2_beginOne_29 : decode cX2_beginOne 29 = .ok (.aload_n 0, 1) := dk_42 (dk_at dksX2_beginOne_1 5 rfl rfl)
theorem dX2_beginOne_30 : decode cX2_beginOne 30 = .ok (.iload_n 1, 1) := dk_27 (dk_at dksX2_beginOne_1 6 rfl rfl)
theorem dX2_beginOne_31 : decode cX2_beginOne 31 = .ok (.invokevirtual 192, 3) := dk_182 0 192 (dk_at dksX2_beginOne_1 7 rfl rfl)
theorem dX2_beginOne_34 : decode cX2_beginOne 34 = .ok (.ifCond .ne 5, 3) := dk_154 0 5 (dk_at dksX2_beginOne_1 10 rfl rfl)
theorem dX2_beginOne_37 : decode cX2_beginOne 37 = .ok (.iconst 5, 1) := dk_8 (dk_at dksX2_beginOne_1 13 rfl rfl)
theorem dX2_beginOne_38 : decode cX2_beginOne 38 = .ok (.ireturn, 1) := dk_172 (dk_at dksX2_beginOne_1 14 rfl rfl)
theorem dX2_beginOne_39 : decode cX2_beginOne 39 = .ok (.aload_n 0, 1) := dk_42 (dk_at dksX2_beginOne_1 15 rfl rfl)
theorem dX2_beginOne_40 : decode cX2_beginOne 40 = .ok (.getfield 115, 3) := dk_180 0 115 (dk_at dksX2_beginOne_1 16 rfl rfl)
theorem dX2_beginOne_43 : decode cX2_beginOne 43 = .ok (.iconst 1, 1) := dk_4 (dk_at dksX2_beginOne_1 19 rfl rfl)
theorem dX2_beginOne_44 : decode cX2_beginOne 44 = .ok (.if_icmp .eq 7, 3) := dk_159 0 7 (dk_at dksX2_beginOne_1 20 rfl rfl)
theorem dX2_beginOne_47 : decode cX2_beginOne 47 = .ok (.iload_n 1, 1) := dk_27 (dk_at dksX2_beginOne_1 23 rfl rfl)
theorem dX2_beginOne_48 : decode cX2_beginOne 48 = .ok (.ifCond .lt 45, 3) := dk_155 0 45 (dk_at dksX2_beginOne_2 0 rfl rfl)
theorem dX2_beginOne_51 : decode cX2_beginOne 51 = .ok (.aload_n 0, 1) := dk_42 (dk_at dksX2_beginOne_2 3 rfl rfl)
theorem dX2_beginOne_52 : decode cX2_beginOne 52 = .ok (.aload_n 0, 1) := dk_42 (dk_at dksX2_beginOne_2 4 rfl rfl)
theorem dX2_beginOne_53 : decode cX2_beginOne 53 = .ok (.getfield 115, 3) := dk_180 0 115 (dk_at dksX2_beginOne_2 5 rfl rfl)
theorem dX2_beginOne_56 : decode cX2_beginOne 56 = .ok (.iconst 1, 1) := dk_4 (dk_at dksX2_beginOne_2 8 rfl rfl)
theorem dX2_beginOne_57 : decode cX2_beginOne 57 = .ok (.if_icmp .ne 7, 3) := dk_160 0 7 (dk_at dksX2_beginOne_2 9 rfl rfl)
theorem dX2_beginOne_60 : decode cX2_beginOne 60 = .ok (.iconst 0, 1) := dk_3 (dk_at dksX2_beginOne_2 12 rfl rfl)
theorem dX2_beginOne_61 : decode cX2_beginOne 61 = .ok (.goto 4, 3) := dk_167 0 4 (dk_at dksX2_beginOne_2 13 rfl rfl)
theorem dX2_beginOne_64 : decode cX2_beginOne 64 = .ok (.iconst 1, 1) := dk_4 (dk_at dksX2_beginOne_2 16 rfl rfl)
theorem dX2_beginOne_65 : decode cX2_beginOne 65 = .ok (.aload_n 0, 1) := dk_42 (dk_at dksX2_beginOne_2 17 rfl rfl)
theorem dX2_beginOne_66 : decode cX2_beginOne 66 = .ok (.getfield 115, 3) := dk_180 0 115 (dk_at dksX2_beginOne_2 18 rfl rfl)
theorem dX2_beginOne_69 : decode cX2_beginOne 69 = .ok (.iconst 1, 1) := dk_4 (dk_at dksX2_beginOne_2 21 rfl rfl)
theorem dX2_beginOne_70 : decode cX2_beginOne 70 = .ok (.if_icmp .ne 10, 3) := dk_160 0 10 (dk_at dksX2_beginOne_3 0 rfl rfl)
theorem dX2_beginOne_73 : decode cX2_beginOne 73 = .ok (.aload_n 0, 1) := dk_42 (dk_at dksX2_beginOne_3 3 rfl rfl)
theorem dX2_beginOne_74 : decode cX2_beginOne 74 = .ok (.getfield 121, 3) := dk_180 0 121 (dk_at dksX2_beginOne_3 4 rfl rfl)
theorem dX2_beginOne_77 : decode cX2_beginOne 77 = .ok (.goto 4, 3) := dk_167 0 4 (dk_at dksX2_beginOne_3 7 rfl rfl)
theorem dX2_beginOne_80 : decode cX2_beginOne 80 = .ok (.iload_n 1, 1) := dk_27 (dk_at dksX2_beginOne_3 10 rfl rfl)
theorem dX2_beginOne_81 : decode cX2_beginOne 81 = .ok (.invokevirtual 172, 3) := dk_182 0 172 (dk_at dksX2_beginOne_3 11 rfl rfl)
theorem dX2_beginOne_84 : decode cX2_beginOne 84 = .ok (.aload_n 0, 1) := dk_42 (dk_at dksX2_beginOne_3 14 rfl rfl)
theorem dX2_beginOne_85 : decode cX2_beginOne 85 = .ok (.invokevirtual 186, 3) := dk_182 0 186 (dk_at dksX2_beginOne_3 15 rfl rfl)
theorem dX2_beginOne_88 : decode cX2_beginOne 88 = .ok (.aload_n 0, 1) := dk_42 (dk_at dksX2_beginOne_3 18 rfl rfl)
theorem dX2_beginOne_89 : decode cX2_beginOne 89 = .ok (.invokevirtual 195, 3) := dk_182 0 195 (dk_at dksX2_beginOne_3 19 rfl rfl)
theorem dX2_beginOne_92 : decode cX2_beginOne 92 = .ok (.ireturn, 1) := dk_172 (dk_at dksX2_beginOne_3 22 rfl rfl)
theorem dX2_beginOne_93 : decode cX2_beginOne 93 = .ok (.aload_n 0, 1) := dk_42 (dk_at dksX2_beginOne_3 23 rfl rfl)
theorem dX2_beginOne_94 : decode cX2_beginOne 94 = .ok (.getfield 115, 3) := dk_180 0 115 (dk_at dksX2_beginOne_4 0 rfl rfl)
theorem dX2_beginOne_97 : decode cX2_beginOne 97 = .ok (.bipush 40, 2) := dk_16 40 (dk_at dksX2_beginOne_4 3 rfl rfl)
theorem dX2_beginOne_99 : decode cX2_beginOne 99 = .ok (.if_icmp .ne 10, 3) := dk_160 0 10 (dk_at dksX2_beginOne_4 5 rfl rfl)
theorem dX2_beginOne_102 : decode cX2_beginOne 102 = .ok (.aload_n 0, 1) := dk_42 (dk_at dksX2_beginOne_4 8 rfl rfl)
theorem dX2_beginOne_103 : decode cX2_beginOne 103 = .ok (.bipush 40, 2) := dk_16 40 (dk_at dksX2_beginOne_4 9 rfl rfl)
theorem dX2_beginOne_105 : decode cX2_beginOne 105 = .ok (.invokevirtual 198, 3) := dk_182 0 198 (dk_at dksX2_beginOne_4 11 rfl rfl)
theorem dX2_beginOne_108 : decode cX2_beginOne 108 = .ok (.ireturn, 1) := dk_172 (dk_at dksX2_beginOne_4 14 rfl rfl)
theorem dX2_beginOne_109 : decode cX2_beginOne 109 = .ok (.aload_n 0, 1) := dk_42 (dk_at dksX2_beginOne_4 15 rfl rfl)
theorem dX2_beginOne_110 : decode cX2_beginOne 110 = .ok (.getfield 115, 3) := dk_180 0 115 (dk_at dksX2_beginOne_4 16 rfl rfl)
theorem dX2_beginOne_113 : decode cX2_beginOne 113 = .ok (.bipush 45, 2) := dk_16 45 (dk_at dksX2_beginOne_4 19 rfl rfl)
theorem dX2_beginOne_115 : decode cX2_beginOne 115 = .ok (.if_icmp .ne 9, 3) := dk_160 0 9 (dk_at dksX2_beginOne_4 21 rfl rfl)
theorem dX2_beginOne_118 : decode cX2_beginOne 118 = .ok (.aload_n 0, 1) := dk_42 (dk_at dksX2_beginOne_5 0 rfl rfl)
theorem dX2_beginOne_119 : decode cX2_beginOne 119 = .ok (.iconst 5, 1) := dk_8 (dk_at dksX2_beginOne_5 1 rfl rfl)
theorem dX2_beginOne_120 : decode cX2_beginOne 120 = .ok (.invokevirtual 198, 3) := dk_182 0 198 (dk_at dksX2_beginOne_5 2 rfl rfl)
theorem dX2_beginOne_123 : decode cX2_beginOne 123 = .ok (.ireturn, 1) := dk_172 (dk_at dksX2_beginOne_5 5 rfl rfl)
theorem dX2_beginOne_124 : decode cX2_beginOne 124 = .ok (.aload_n 0, 1) := dk_42 (dk_at dksX2_beginOne_5 6 rfl rfl)
theorem dX2_beginOne_125 : decode cX2_beginOne 125 = .ok (.bipush 114, 2) := dk_16 114 (dk_at dksX2_beginOne_5 7 rfl rfl)
theorem dX2_beginOne_127 : decode cX2_beginOne 127 = .ok (.bipush 101, 2) := dk_16 101 (dk_at dksX2_beginOne_5 9 rfl rfl)
theorem dX2_beginOne_129 : decode cX2_beginOne 129 = .ok (.bipush 115, 2) := dk_16 115 (dk_at dksX2_beginOne_5 11 rfl rfl)
theorem dX2_beginOne_131 : decode cX2_beginOne 131 = .ok (.bipush 116, 2) := dk_16 116 (dk_at dksX2_beginOne_5 13 rfl rfl)
theorem dX2_beginOne_133 : decode cX2_beginOne 133 = .ok (.invokestatic 145, 3) := dk_184 0 145 (dk_at dksX2_beginOne_5 15 rfl rfl)
theorem dX2_beginOne_136 : decode cX2_beginOne 136 = .ok (.invokevirtual 201, 3) := dk_182 0 201 (dk_at dksX2_beginOne_5 18 rfl rfl)
theorem dX2_beginOne_139 : decode cX2_beginOne 139 = .ok (.ifCond .eq 10, 3) := dk_153 0 10 (dk_at dksX2_beginOne_5 21 rfl rfl)
theorem dX2_beginOne_142 : decode cX2_beginOne 142 = .ok (.aload_n 0, 1) := dk_42 (dk_at dksX2_beginOne_6 0 rfl rfl)
theorem dX2_beginOne_143 : decode cX2_beginOne 143 = .ok (.bipush 41, 2) := dk_16 41 (dk_at dksX2_beginOne_6 1 rfl rfl)
theorem dX2_beginOne_145 : decode cX2_beginOne 145 = .ok (.invokevirtual 198, 3) := dk_182 0 198 (dk_at dksX2_beginOne_6 3 rfl rfl)
theorem dX2_beginOne_148 : decode cX2_beginOne 148 = .ok (.ireturn, 1) := dk_172 (dk_at dksX2_beginOne_6 6 rfl rfl)
theorem dX2_beginOne_149 : decode cX2_beginOne 149 = .ok (.aload_n 0, 1) := dk_42 (dk_at dksX2_beginOne_6 7 rfl rfl)
theorem dX2_beginOne_150 : decode cX2_beginOne 150 = .ok (.bipush 104, 2) := dk_16 104 (dk_at dksX2_beginOne_6 8 rfl rfl)
theorem dX2_beginOne_152 : decode cX2_beginOne 152 = .ok (.bipush 111, 2) := dk_16 111 (dk_at dksX2_beginOne_6 10 rfl rfl)
theorem dX2_beginOne_154 : decode cX2_beginOne 154 = .ok (.bipush 116, 2) := dk_16 116 (dk_at dksX2_beginOne_6 12 rfl rfl)
theorem dX2_beginOne_156 : decode cX2_beginOne 156 = .ok (.invokestatic 141, 3) := dk_184 0 141 (dk_at dksX2_beginOne_6 14 rfl rfl)
theorem dX2_beginOne_159 : decode cX2_beginOne 159 = .ok (.invokevirtual 201, 3) := dk_182 0 201 (dk_at dksX2_beginOne_6 17 rfl rfl)
theorem dX2_beginOne_162 : decode cX2_beginOne 162 = .ok (.ifCond .eq 9, 3) := dk_153 0 9 (dk_at dksX2_beginOne_6 20 rfl rfl)
theorem dX2_beginOne_165 : decode cX2_beginOne 165 = .ok (.aload_n 0, 1) := dk_42 (dk_at dksX2_beginOne_6 23 rfl rfl)
theorem dX2_beginOne_166 : decode cX2_beginOne 166 = .ok (.iconst 2, 1) := dk_5 (dk_at dksX2_beginOne_7 0 rfl rfl)
theorem dX2_beginOne_167 : decode cX2_beginOne 167 = .ok (.invokevirtual 198, 3) := dk_182 0 198 (dk_at dksX2_beginOne_7 1 rfl rfl)
theorem dX2_beginOne_170 : decode cX2_beginOne 170 = .ok (.ireturn, 1) := dk_172 (dk_at dksX2_beginOne_7 4 rfl rfl)
theorem dX2_beginOne_171 : decode cX2_beginOne 171 = .ok (.aload_n 0, 1) := dk_42 (dk_at dksX2_beginOne_7 5 rfl rfl)
theorem dX2_beginOne_172 : decode cX2_beginOne 172 = .ok (.bipush 105, 2) := dk_16 105 (dk_at dksX2_beginOne_7 6 rfl rfl)
theorem dX2_beginOne_174 : decode cX2_beginOne 174 = .ok (.bipush 102, 2) := dk_16 102 (dk_at dksX2_beginOne_7 8 rfl rfl)
theorem dX2_beginOne_176 : decode cX2_beginOne 176 = .ok (.invokestatic 137, 3) := dk_184 0 137 (dk_at dksX2_beginOne_7 10 rfl rfl)
theorem dX2_beginOne_179 : decode cX2_beginOne 179 = .ok (.invokevirtual 201, 3) := dk_182 0 201 (dk_at dksX2_beginOne_7 13 rfl rfl)
theorem dX2_beginOne_182 : decode cX2_beginOne 182 = .ok (.ifCond .eq 10, 3) := dk_153 0 10 (dk_at dksX2_beginOne_7 16 rfl rfl)
theorem dX2_beginOne_185 : decode cX2_beginOne 185 = .ok (.aload_n 0, 1) := dk_42 (dk_at dksX2_beginOne_7 19 rfl rfl)
theorem dX2_beginOne_186 : decode cX2_beginOne 186 = .ok (.bipush 42, 2) := dk_16 42 (dk_at dksX2_beginOne_7 20 rfl rfl)
theorem dX2_beginOne_188 : decode cX2_beginOne 188 = .ok (.invokevirtual 198, 3) := dk_182 0 198 (dk_at dksX2_beginOne_8 0 rfl rfl)
theorem dX2_beginOne_191 : decode cX2_beginOne 191 = .ok (.ireturn, 1) := dk_172 (dk_at dksX2_beginOne_8 3 rfl rfl)
theorem dX2_beginOne_192 : decode cX2_beginOne 192 = .ok (.aload_n 0, 1) := dk_42 (dk_at dksX2_beginOne_8 4 rfl rfl)
theorem dX2_beginOne_193 : decode cX2_beginOne 193 = .ok (.bipush 110, 2) := dk_16 110 (dk_at dksX2_beginOne_8 5 rfl rfl)
theorem dX2_beginOne_195 : decode cX2_beginOne 195 = .ok (.bipush 111, 2) := dk_16 111 (dk_at dksX2_beginOne_8 7 rfl rfl)
theorem dX2_beginOne_197 : decode cX2_beginOne 197 = .ok (.bipush 116, 2) := dk_16 116 (dk_at dksX2_beginOne_8 9 rfl rfl)
theorem dX2_beginOne_199 : decode cX2_beginOne 199 = .ok (.invokestatic 141, 3) := dk_184 0 141 (dk_at dksX2_beginOne_8 11 rfl rfl)
theorem dX2_beginOne_202 : decode cX2_beginOne 202 = .ok (.invokevirtual 201, 3) := dk_182 0 201 (dk_at dksX2_beginOne_8 14 rfl rfl)
theorem dX2_beginOne_205 : decode cX2_beginOne 205 = .ok (.ifCond .eq 19, 3) := dk_153 0 19 (dk_at dksX2_beginOne_8 17 rfl rfl)
theorem dX2_beginOne_208 : decode cX2_beginOne 208 = .ok (.aload_n 0, 1) := dk_42 (dk_at dksX2_beginOne_8 20 rfl rfl)
theorem dX2_beginOne_209 : decode cX2_beginOne 209 = .ok (.invokevirtual 205, 3) := dk_182 0 205 (dk_at dksX2_beginOne_8 21 rfl rfl)
theorem dX2_beginOne_212 : decode cX2_beginOne 212 = .ok (.ifCond .eq 12, 3) := dk_153 0 12 (dk_at dksX2_beginOne_9 0 rfl rfl)
theorem dX2_beginOne_215 : decode cX2_beginOne 215 = .ok (.aload_n 0, 1) := dk_42 (dk_at dksX2_beginOne_9 3 rfl rfl)
theorem dX2_beginOne_216 : decode cX2_beginOne 216 = .ok (.bipush 20, 2) := dk_16 20 (dk_at dksX2_beginOne_9 4 rfl rfl)
theorem dX2_beginOne_218 : decode cX2_beginOne 218 = .ok (.invokevirtual 198, 3) := dk_182 0 198 (dk_at dksX2_beginOne_9 6 rfl rfl)
theorem dX2_beginOne_221 : decode cX2_beginOne 221 = .ok (.goto 4, 3) := dk_167 0 4 (dk_at dksX2_beginOne_9 9 rfl rfl)
theorem dX2_beginOne_224 : decode cX2_beginOne 224 = .ok (.iconst 1, 1) := dk_4 (dk_at dksX2_beginOne_9 12 rfl rfl)
theorem dX2_beginOne_225 : decode cX2_beginOne 225 = .ok (.ireturn, 1) := dk_172 (dk_at dksX2_beginOne_9 13 rfl rfl)
abbrev cX2_nameOf : ByteArray := prog_20_method_36_code
def yX2_nameOf : MethodName := ⟨RX2, "nameOf", "()I"⟩
def dkwX2_nameOf_8 : List UInt8 := [154, 0, 8, 16, 7, 167, 0, 4, 2, 172]
abbrev dktX2_nameOf_8 : List UInt8 := dkwX2_nameOf_8 ++ []
def dkwX2_nameOf_7 : List UInt8 := [167, 0, 32, 42, 180, 0, 128, 16, 112, 16, 97, 16, 119, 16, 110, 16, 101, 16, 100, 184, 0, 159, 148]
abbrev dktX2_nameOf_7 : List UInt8 := dkwX2_nameOf_7 ++ dktX2_nameOf_8
def dkwX2_nameOf_6 : List UInt8 := [180, 0, 128, 16, 112, 16, 117, 16, 114, 16, 115, 16, 101, 184, 0, 149, 148, 154, 0, 8, 16, 6]
abbrev dktX2_nameOf_6 : List UInt8 := dkwX2_nameOf_6 ++ dktX2_nameOf_7
def dkwX2_nameOf_5 : List UInt8 := [7, 172, 42, 180, 0, 128, 16, 104, 16, 101, 16, 108, 16, 100, 184, 0, 145, 148, 154, 0, 5, 8, 172, 42]
abbrev dktX2_nameOf_5 : List UInt8 := dkwX2_nameOf_5 ++ dktX2_nameOf_6
def dkwX2_nameOf_4 : List UInt8 := [154, 0, 5, 6, 172, 42, 180, 0, 128, 16, 104, 16, 101, 16, 97, 16, 116, 184, 0, 145, 148, 154, 0, 5]
abbrev dktX2_nameOf_4 : List UInt8 := dkwX2_nameOf_4 ++ dktX2_nameOf_5
def dkwX2_nameOf_3 : List UInt8 := [154, 0, 5, 5, 172, 42, 180, 0, 128, 16, 119, 16, 111, 16, 114, 16, 116, 16, 104, 184, 0, 149, 148]
abbrev dktX2_nameOf_3 : List UInt8 := dkwX2_nameOf_3 ++ dktX2_nameOf_4
def dkwX2_nameOf_2 : List UInt8 := [4, 172, 42, 180, 0, 128, 16, 110, 16, 117, 16, 109, 16, 98, 16, 101, 16, 114, 184, 0, 159, 148]
abbrev dktX2_nameOf_2 : List UInt8 := dkwX2_nameOf_2 ++ dktX2_nameOf_3
def dkwX2_nameOf_1 : List UInt8 := [154, 0, 5, 3, 172, 42, 180, 0, 128, 16, 114, 16, 97, 16, 105, 16, 110, 184, 0, 145, 148, 154, 0, 5]
abbrev dktX2_nameOf_1 : List UInt8 := dkwX2_nameOf_1 ++ dktX2_nameOf_2
def dkwX2_nameOf_0 : List UInt8 := [42, 180, 0, 115, 5, 159, 0, 5, 2, 172, 42, 180, 0, 128, 16, 100, 16, 97, 16, 121, 184, 0, 141, 148]
abbrev dktX2_nameOf_0 : List UInt8 := dkwX2_nameOf_0 ++ dktX2_nameOf_1
theorem dksX2_nameOf_0 : cX2_nameOf.data.toList.drop 0 = dktX2_nameOf_0 := by decide +kernel
theorem dksX2_nameOf_1 : cX2_nameOf.data.toList.drop 24 = dktX2_nameOf_1 := dk_seg dksX2_nameOf_0 24 rfl rfl
theorem dksX2_nameOf_2 : cX2_nameOf.data.toList.drop 48 = dktX2_nameOf_2 := dk_seg dksX2_nameOf_1 24 rfl rfl
theorem dksX2_nameOf_3 : cX2_nameOf.data.toList.drop 70 = dktX2_nameOf_3 := dk_seg dksX2_nameOf_2 22 rfl rfl
theorem dksX2_nameOf_4 : cX2_nameOf.data.toList.drop 93 = dktX2_nameOf_4 := dk_seg dksX2_nameOf_3 23 rfl rfl
theorem dksX2_nameOf_5 : cX2_nameOf.data.toList.drop 117 = dktX2_nameOf_5 := dk_seg dksX2_nameOf_4 24 rfl rfl
theorem dksX2_nameOf_6 : cX2_nameOf.data.toList.drop 141 = dktX2_nameOf_6 := dk_seg dksX2_nameOf_5 24 rfl rfl
theorem dksX2_nameOf_7 : cX2_nameOf.data.toList.drop 163 = dktX2_nameOf_7 := dk_seg dksX2_nameOf_6 22 rfl rfl
theorem dksX2_nameOf_8 : cX2_nameOf.data.toList.drop 186 = dktX2_nameOf_8 := dk_seg dksX2_nameOf_7 23 rfl rfl
theorem dX2_nameOf_0 : decode cX2_nameOf 0 = .ok (.aload_n 0, 1) := dk_42 (dk_at dksX2_nameOf_0 0 rfl rfl)
theorem dX2_nameOf_1 : decode cX2_nameOf 1 = .ok (.getfield 115, 3) := dk_180 0 115 (dk_at dksX2_nameOf_0 1 rfl rfl)
theorem dX2_nameOf_4 : decode cX2_nameOf 4 = .ok (.iconst 2, 1) := dk_5 (dk_at dksX2_nameOf_0 4 rfl rfl)
theorem dX2_nameOf_5 : decode cX2_nameOf 5 = .ok (.if_icmp .eq 5, 3) := dk_159 0 5 (dk_at dksX2_nameOf_0 5 rfl rfl)
theorem dX2_nameOf_8 : decode cX2_nameOf 8 = .ok (.iconst (-1), 1) := dk_2 (dk_at dksX2_nameOf_0 8 rfl rfl)
theorem dX2_nameOf_9 : decode cX2_nameOf 9 = .ok (.ireturn, 1) := dk_172 (dk_at dksX2_nameOf_0 9 rfl rfl)
theorem dX2_nameOf_10 : decode cX2_nameOf 10 = .ok (.aload_n 0, 1) := dk_42 (dk_at dksX2_nameOf_0 10 rfl rfl)
theorem dX2_nameOf_11 : decode cX2_nameOf 11 = .ok (.getfield 128, 3) := dk_180 0 128 (dk_at dksX2_nameOf_0 11 rfl rfl)
theorem dX2_nameOf_14 : decode cX2_nameOf 14 = .ok (.bipush 100, 2) := dk_16 100 (dk_at dksX2_nameOf_0 14 rfl rfl)
theorem dX2_nameOf_16 : decode cX2_nameOf 16 = .ok (.bipush 97, 2) := dk_16 97 (dk_at dksX2_nameOf_0 16 rfl rfl)
theorem dX2_nameOf_18 : decode cX2_nameOf 18 = .ok (.bipush 121, 2) := dk_16 121 (dk_at dksX2_nameOf_0 18 rfl rfl)
theorem dX2_nameOf_20 : decode cX2_nameOf 20 = .ok (.invokestatic 141, 3) := dk_184 0 141 (dk_at dksX2_nameOf_0 20 rfl rfl)
theorem dX2_nameOf_23 : decode cX2_nameOf 23 = .ok (.lcmp, 1) := dk_148 (dk_at dksX2_nameOf_0 23 rfl rfl)
theorem dX2_nameOf_24 : decode cX2_nameOf 24 = .ok (.ifCond .ne 5, 3) := dk_154 0 5 (dk_at dksX2_nameOf_1 0 rfl rfl)
theorem dX2_nameOf_27 : decode cX2_nameOf 27 = .ok (.iconst 0, 1) := dk_3 (dk_at dksX2_nameOf_1 3 rfl rfl)
theorem dX2_nameOf_28 : decode cX2_nameOf 28 = .ok (.ireturn, 1) := dk_172 (dk_at dksX2_nameOf_1 4 rfl rfl)
theorem dX2_nameOf_29 : decode cX2_nameOf 29 = .ok (.aload_n 0, 1) := dk_42 (dk_at dksX2_nameOf_1 5 rfl rfl)
theorem dX2_nameOf_30 : decode cX2_nameOf 30 = .ok (.getfield 128, 3) := dk_180 0 128 (dk_at dksX2_nameOf_1 6 rfl rfl)
theorem dX2_nameOf_33 : decode cX2_nameOf 33 = .ok (.bipush 114, 2) := dk_16 114 (dk_at dksX2_nameOf_1 9 rfl rfl)
theorem dX2_nameOf_35 : decode cX2_nameOf 35 = .ok (.bipush 97, 2) := dk_16 97 (dk_at dksX2_nameOf_1 11 rfl rfl)
theorem dX2_nameOf_37 : decode cX2_nameOf 37 = .ok (.bipush 105, 2) := dk_16 105 (dk_at dksX2_nameOf_1 13 rfl rfl)
theorem dX2_nameOf_39 : decode cX2_nameOf 39 = .ok (.bipush 110, 2) := dk_16 110 (dk_at dksX2_nameOf_1 15 rfl rfl)
theorem dX2_nameOf_41 : decode cX2_nameOf 41 = .ok (.invokestatic 145, 3) := dk_184 0 145 (dk_at dksX2_nameOf_1 17 rfl rfl)
theorem dX2_nameOf_44 : decode cX2_nameOf 44 = .ok (.lcmp, 1) := dk_148 (dk_at dksX2_nameOf_1 20 rfl rfl)
theorem dX2_nameOf_45 : decode cX2_nameOf 45 = .ok (.ifCond .ne 5, 3) := dk_154 0 5 (dk_at dksX2_nameOf_1 21 rfl rfl)
theorem dX2_nameOf_48 : decode cX2_nameOf 48 = .ok (.iconst 1, 1) := dk_4 (dk_at dksX2_nameOf_2 0 rfl rfl)
theorem dX2_nameOf_49 : decode cX2_nameOf 49 = .ok (.ireturn, 1) := dk_172 (dk_at dksX2_nameOf_2 1 rfl rfl)
theorem dX2_nameOf_50 : decode cX2_nameOf 50 = .ok (.aload_n 0, 1) := dk_42 (dk_at dksX2_nameOf_2 2 rfl rfl)
theorem dX2_nameOf_51 : decode cX2_nameOf 51 = .ok (.getfield 128, 3) := dk_180 0 128 (dk_at dksX2_nameOf_2 3 rfl rfl)
theorem dX2_nameOf_54 : decode cX2_nameOf 54 = .ok (.bipush 110, 2) := dk_16 110 (dk_at dksX2_nameOf_2 6 rfl rfl)
theorem dX2_nameOf_56 : decode cX2_nameOf 56 = .ok (.bipush 117, 2) := dk_16 117 (dk_at dksX2_nameOf_2 8 rfl rfl)
theorem dX2_nameOf_58 : decode cX2_nameOf 58 = .ok (.bipush 109, 2) := dk_16 109 (dk_at dksX2_nameOf_2 10 rfl rfl)
theorem dX2_nameOf_60 : decode cX2_nameOf 60 = .ok (.bipush 98, 2) := dk_16 98 (dk_at dksX2_nameOf_2 12 rfl rfl)
theorem dX2_nameOf_62 : decode cX2_nameOf 62 = .ok (.bipush 101, 2) := dk_16 101 (dk_at dksX2_nameOf_2 14 rfl rfl)
theorem dX2_nameOf_64 : decode cX2_nameOf 64 = .ok (.bipush 114, 2) := dk_16 114 (dk_at dksX2_nameOf_2 16 rfl rfl)
theorem dX2_nameOf_66 : decode cX2_nameOf 66 = .ok (.invokestatic 159, 3) := dk_184 0 159 (dk_at dksX2_nameOf_2 18 rfl rfl)
theorem dX2_nameOf_69 : decode cX2_nameOf 69 = .ok (.lcmp, 1) := dk_148 (dk_at dksX2_nameOf_2 21 rfl rfl)
theorem dX2_nameOf_70 : decode cX2_nameOf 70 = .ok (.ifCond .ne 5, 3) := dk_154 0 5 (dk_at dksX2_nameOf_3 0 rfl rfl)
theorem dX2_nameOf_73 : decode cX2_nameOf 73 = .ok (.iconst 2, 1) := dk_5 (dk_at dksX2_nameOf_3 3 rfl rfl)
theorem dX2_nameOf_74 : decode cX2_nameOf 74 = .ok (.ireturn, 1) := dk_172 (dk_at dksX2_nameOf_3 4 rfl rfl)
theorem dX2_nameOf_75 : decode cX2_nameOf 75 = .ok (.aload_n 0, 1) := dk_42 (dk_at dksX2_nameOf_3 5 rfl rfl)
theorem dX2_nameOf_76 : decode cX2_nameOf 76 = .ok (.getfield 128, 3) := dk_180 0 128 (dk_at dksX2_nameOf_3 6 rfl rfl)
theorem dX2_nameOf_79 : decode cX2_nameOf 79 = .ok (.bipush 119, 2) := dk_16 119 (dk_at dksX2_nameOf_3 9 rfl rfl)
theorem dX2_nameOf_81 : decode cX2_nameOf 81 = .ok (.bipush 111, 2) := dk_16 111 (dk_at dksX2_nameOf_3 11 rfl rfl)
theorem dX2_nameOf_83 : decode cX2_nameOf 83 = .ok (.bipush 114, 2) := dk_16 114 (dk_at dksX2_nameOf_3 13 rfl rfl)
theorem dX2_nameOf_85 : decode cX2_nameOf 85 = .ok (.bipush 116, 2) := dk_16 116 (dk_at dksX2_nameOf_3 15 rfl rfl)
theorem dX2_nameOf_87 : decode cX2_nameOf 87 = .ok (.bipush 104, 2) := dk_16 104 (dk_at dksX2_nameOf_3 17 rfl rfl)
theorem dX2_nameOf_89 : decode cX2_nameOf 89 = .ok (.invokestatic 149, 3) := dk_184 0 149 (dk_at dksX2_nameOf_3 19 rfl rfl)
theorem dX2_nameOf_92 : decode cX2_nameOf 92 = .ok (.lcmp, 1) := dk_148 (dk_at dksX2_nameOf_3 22 rfl rfl)
theorem dX2_nameOf_93 : decode cX2_nameOf 93 = .ok (.ifCond .ne 5, 3) := dk_154 0 5 (dk_at dksX2_nameOf_4 0 rfl rfl)
theorem dX2_nameOf_96 : decode cX2_nameOf 96 = .ok (.iconst 3, 1) := dk_6 (dk_at dksX2_nameOf_4 3 rfl rfl)
theorem dX2_nameOf_97 : decode cX2_nameOf 97 = .ok (.ireturn, 1) := dk_172 (dk_at dksX2_nameOf_4 4 rfl rfl)
theorem dX2_nameOf_98 : decode cX2_nameOf 98 = .ok (.aload_n 0, 1) := dk_42 (dk_at dksX2_nameOf_4 5 rfl rfl)
theorem dX2_nameOf_99 : decode cX2_nameOf 99 = .ok (.getfield 128, 3) := dk_180 0 128 (dk_at dksX2_nameOf_4 6 rfl rfl)
theorem dX2_nameOf_102 : decode cX2_nameOf 102 = .ok (.bipush 104, 2) := dk_16 104 (dk_at dksX2_nameOf_4 9 rfl rfl)
theorem dX2_nameOf_104 : decode cX2_nameOf 104 = .ok (.bipush 101, 2) := dk_16 101 (dk_at dksX2_nameOf_4 11 rfl rfl)
theorem dX2_nameOf_106 : decode cX2_nameOf 106 = .ok (.bipush 97, 2) := dk_16 97 (dk_at dksX2_nameOf_4 13 rfl rfl)
theorem dX2_nameOf_108 : decode cX2_nameOf 108 = .ok (.bipush 116, 2) := dk_16 116 (dk_at dksX2_nameOf_4 15 rfl rfl)
theorem dX2_nameOf_110 : decode cX2_nameOf 110 = .ok (.invokestatic 145, 3) := dk_184 0 145 (dk_at dksX2_nameOf_4 17 rfl rfl)
theorem dX2_nameOf_113 : decode cX2_nameOf 113 = .ok (.lcmp, 1) := dk_148 (dk_at dksX2_nameOf_4 20 rfl rfl)
theorem dX2_nameOf_114 : decode cX2_nameOf 114 = .ok (.ifCond .ne 5, 3) := dk_154 0 5 (dk_at dksX2_nameOf_4 21 rfl rfl)
theorem dX2_nameOf_117 : decode cX2_nameOf 117 = .ok (.iconst 4, 1) := dk_7 (dk_at dksX2_nameOf_5 0 rfl rfl)
theorem dX2_nameOf_118 : decode cX2_nameOf 118 = .ok (.ireturn, 1) := dk_172 (dk_at dksX2_nameOf_5 1 rfl rfl)
theorem dX2_nameOf_119 : decode cX2_nameOf 119 = .ok (.aload_n 0, 1) := dk_42 (dk_at dksX2_nameOf_5 2 rfl rfl)
theorem dX2_nameOf_120 : decode cX2_nameOf 120 = .ok (.getfield 128, 3) := dk_180 0 128 (dk_at dksX2_nameOf_5 3 rfl rfl)
theorem dX2_nameOf_123 : decode cX2_nameOf 123 = .ok (.bipush 104, 2) := dk_16 104 (dk_at dksX2_nameOf_5 6 rfl rfl)
theorem dX2_nameOf_125 : decode cX2_nameOf 125 = .ok (.bipush 101, 2) := dk_16 101 (dk_at dksX2_nameOf_5 8 rfl rfl)
theorem dX2_nameOf_127 : decode cX2_nameOf 127 = .ok (.bipush 108, 2) := dk_16 108 (dk_at dksX2_nameOf_5 10 rfl rfl)
theorem dX2_nameOf_129 : decode cX2_nameOf 129 = .ok (.bipush 100, 2) := dk_16 100 (dk_at dksX2_nameOf_5 12 rfl rfl)
theorem dX2_nameOf_131 : decode cX2_nameOf 131 = .ok (.invokestatic 145, 3) := dk_184 0 145 (dk_at dksX2_nameOf_5 14 rfl rfl)
theorem dX2_nameOf_134 : decode cX2_nameOf 134 = .ok (.lcmp, 1) := dk_148 (dk_at dksX2_nameOf_5 17 rfl rfl)
theorem dX2_nameOf_135 : decode cX2_nameOf 135 = .ok (.ifCond .ne 5, 3) := dk_154 0 5 (dk_at dksX2_nameOf_5 18 rfl rfl)
theorem dX2_nameOf_138 : decode cX2_nameOf 138 = .ok (.iconst 5, 1) := dk_8 (dk_at dksX2_nameOf_5 21 rfl rfl)
theorem dX2_nameOf_139 : decode cX2_nameOf 139 = .ok (.ireturn, 1) := dk_172 (dk_at dksX2_nameOf_5 22 rfl rfl)
theorem dX2_nameOf_140 : decode cX2_nameOf 140 = .ok (.aload_n 0, 1) := dk_42 (dk_at dksX2_nameOf_5 23 rfl rfl)
theorem dX2_nameOf_141 : decode cX2_nameOf 141 = .ok (.getfield 128, 3) := dk_180 0 128 (dk_at dksX2_nameOf_6 0 rfl rfl)
theorem dX2_nameOf_144 : decode cX2_nameOf 144 = .ok (.bipush 112, 2) := dk_16 112 (dk_at dksX2_nameOf_6 3 rfl rfl)
theorem dX2_nameOf_146 : decode cX2_nameOf 146 = .ok (.bipush 117, 2) := dk_16 117 (dk_at dksX2_nameOf_6 5 rfl rfl)
theorem dX2_nameOf_148 : decode cX2_nameOf 148 = .ok (.bipush 114, 2) := dk_16 114 (dk_at dksX2_nameOf_6 7 rfl rfl)
theorem dX2_nameOf_150 : decode cX2_nameOf 150 = .ok (.bipush 115, 2) := dk_16 115 (dk_at dksX2_nameOf_6 9 rfl rfl)
theorem dX2_nameOf_152 : decode cX2_nameOf 152 = .ok (.bipush 101, 2) := dk_16 101 (dk_at dksX2_nameOf_6 11 rfl rfl)
theorem dX2_nameOf_154 : decode cX2_nameOf 154 = .ok (.invokestatic 149, 3) := dk_184 0 149 (dk_at dksX2_nameOf_6 13 rfl rfl)
theorem dX2_nameOf_157 : decode cX2_nameOf 157 = .ok (.lcmp, 1) := dk_148 (dk_at dksX2_nameOf_6 16 rfl rfl)
theorem dX2_nameOf_158 : decode cX2_nameOf 158 = .ok (.ifCond .ne 8, 3) := dk_154 0 8 (dk_at dksX2_nameOf_6 17 rfl rfl)
theorem dX2_nameOf_161 : decode cX2_nameOf 161 = .ok (.bipush 6, 2) := dk_16 6 (dk_at dksX2_nameOf_6 20 rfl rfl)
theorem dX2_nameOf_163 : decode cX2_nameOf 163 = .ok (.goto 32, 3) := dk_167 0 32 (dk_at dksX2_nameOf_7 0 rfl rfl)
theorem dX2_nameOf_166 : decode cX2_nameOf 166 = .ok (.aload_n 0, 1) := dk_42 (dk_at dksX2_nameOf_7 3 rfl rfl)
theorem dX2_nameOf_167 : decode cX2_nameOf 167 = .ok (.getfield 128, 3) := dk_180 0 128 (dk_at dksX2_nameOf_7 4 rfl rfl)
theorem dX2_nameOf_170 : decode cX2_nameOf 170 = .ok (.bipush 112, 2) := dk_16 112 (dk_at dksX2_nameOf_7 7 rfl rfl)
theorem dX2_nameOf_172 : decode cX2_nameOf 172 = .ok (.bipush 97, 2) := dk_16 97 (dk_at dksX2_nameOf_7 9 rfl rfl)
theorem dX2_nameOf_174 : decode cX2_nameOf 174 = .ok (.bipush 119, 2) := dk_16 119 (dk_at dksX2_nameOf_7 11 rfl rfl)
theorem dX2_nameOf_176 : decode cX2_nameOf 176 = .ok (.bipush 110, 2) := dk_16 110 (dk_at dksX2_nameOf_7 13 rfl rfl)
theorem dX2_nameOf_178 : decode cX2_nameOf 178 = .ok (.bipush 101, 2) := dk_16 101 (dk_at dksX2_nameOf_7 15 rfl rfl)
theorem dX2_nameOf_180 : decode cX2_nameOf 180 = .ok (.bipush 100, 2) := dk_16 100 (dk_at dksX2_nameOf_7 17 rfl rfl)
theorem dX2_nameOf_182 : decode cX2_nameOf 182 = .ok (.invokestatic 159, 3) := dk_184 0 159 (dk_at dksX2_nameOf_7 19 rfl rfl)
theorem dX2_nameOf_185 : decode cX2_nameOf 185 = .ok (.lcmp, 1) := dk_148 (dk_at dksX2_nameOf_7 22 rfl rfl)
theorem dX2_nameOf_186 : decode cX2_nameOf 186 = .ok (.ifCond .ne 8, 3) := dk_154 0 8 (dk_at dksX2_nameOf_8 0 rfl rfl)
theorem dX2_nameOf_189 : decode cX2_nameOf 189 = .ok (.bipush 7, 2) := dk_16 7 (dk_at dksX2_nameOf_8 3 rfl rfl)
theorem dX2_nameOf_191 : decode cX2_nameOf 191 = .ok (.goto 4, 3) := dk_167 0 4 (dk_at dksX2_nameOf_8 5 rfl rfl)
theorem dX2_nameOf_194 : decode cX2_nameOf 194 = .ok (.iconst (-1), 1) := dk_2 (dk_at dksX2_nameOf_8 8 rfl rfl)
theorem dX2_nameOf_195 : decode cX2_nameOf 195 = .ok (.ireturn, 1) := dk_172 (dk_at dksX2_nameOf_8 9 rfl rfl)
abbrev cX2_isOf : ByteArray := prog_20_method_37_code
def yX2_isOf : MethodName := ⟨RX2, "isOf", "(I)Z"⟩
def dkwX2_isOf_1 : List UInt8 := [180, 0, 163, 4, 160, 0, 7, 4, 167, 0, 4, 3, 172]
abbrev dktX2_isOf_1 : List UInt8 := dkwX2_isOf_1 ++ []
def dkwX2_isOf_0 : List UInt8 := [27, 16, 6, 161, 0, 27, 27, 16, 6, 160, 0, 13, 42, 180, 0, 163, 154, 0, 18, 167, 0, 11, 42]
abbrev dktX2_isOf_0 : List UInt8 := dkwX2_isOf_0 ++ dktX2_isOf_1
theorem dksX2_isOf_0 : cX2_isOf.data.toList.drop 0 = dktX2_isOf_0 := by decide +kernel
theorem dksX2_isOf_1 : cX2_isOf.data.toList.drop 23 = dktX2_isOf_1 := dk_seg dksX2_isOf_0 23 rfl rfl
theorem dX2_isOf_0 : decode cX2_isOf 0 = .ok (.iload_n 1, 1) := dk_27 (dk_at dksX2_isOf_0 0 rfl rfl)
theorem dX2_isOf_1 : decode cX2_isOf 1 = .ok (.bipush 6, 2) := dk_16 6 (dk_at dksX2_isOf_0 1 rfl rfl)
theorem dX2_isOf_3 : decode cX2_isOf 3 = .ok (.if_icmp .lt 27, 3) := dk_161 0 27 (dk_at dksX2_isOf_0 3 rfl rfl)
theorem dX2_isOf_6 : decode cX2_isOf 6 = .ok (.iload_n 1, 1) := dk_27 (dk_at dksX2_isOf_0 6 rfl rfl)
theorem dX2_isOf_7 : decode cX2_isOf 7 = .ok (.bipush 6, 2) := dk_16 6 (dk_at dksX2_isOf_0 7 rfl rfl)
theorem dX2_isOf_9 : decode cX2_isOf 9 = .ok (.if_icmp .ne 13, 3) := dk_160 0 13 (dk_at dksX2_isOf_0 9 rfl rfl)
theorem dX2_isOf_12 : decode cX2_isOf 12 = .ok (.aload_n 0, 1) := dk_42 (dk_at dksX2_isOf_0 12 rfl rfl)
theorem dX2_isOf_13 : decode cX2_isOf 13 = .ok (.getfield 163, 3) := dk_180 0 163 (dk_at dksX2_isOf_0 13 rfl rfl)
theorem dX2_isOf_16 : decode cX2_isOf 16 = .ok (.ifCond .ne 18, 3) := dk_154 0 18 (dk_at dksX2_isOf_0 16 rfl rfl)
theorem dX2_isOf_19 : decode cX2_isOf 19 = .ok (.goto 11, 3) := dk_167 0 11 (dk_at dksX2_isOf_0 19 rfl rfl)
theorem dX2_isOf_22 : decode cX2_isOf 22 = .ok (.aload_n 0, 1) := dk_42 (dk_at dksX2_isOf_0 22 rfl rfl)
theorem dX2_isOf_23 : decode cX2_isOf 23 = .ok (.getfield 163, 3) := dk_180 0 163 (dk_at dksX2_isOf_1 0 rfl rfl)
theorem dX2_isOf_26 : decode cX2_isOf 26 = .ok (.iconst 1, 1) := dk_4 (dk_at dksX2_isOf_1 3 rfl rfl)
theorem dX2_isOf_27 : decode cX2_isOf 27 = .ok (.if_icmp .ne 7, 3) := dk_160 0 7 (dk_at dksX2_isOf_1 4 rfl rfl)
theorem dX2_isOf_30 : decode cX2_isOf 30 = .ok (.iconst 1, 1) := dk_4 (dk_at dksX2_isOf_1 7 rfl rfl)
theorem dX2_isOf_31 : decode cX2_isOf 31 = .ok (.goto 4, 3) := dk_167 0 4 (dk_at dksX2_isOf_1 8 rfl rfl)
theorem dX2_isOf_34 : decode cX2_isOf 34 = .ok (.iconst 0, 1) := dk_3 (dk_at dksX2_isOf_1 11 rfl rfl)
theorem dX2_isOf_35 : decode cX2_isOf 35 = .ok (.ireturn, 1) := dk_172 (dk_at dksX2_isOf_1 12 rfl rfl)
abbrev cX2_opened : ByteArray := prog_20_method_44_code
def yX2_opened : MethodName := ⟨RX2, "opened", "(I)I"⟩
def dkwX2_opened_2 : List UInt8 := [172]
abbrev dktX2_opened_2 : List UInt8 := dkwX2_opened_2 ++ []
def dkwX2_opened_1 : List UInt8 := [180, 0, 29, 42, 180, 0, 166, 27, 79, 42, 89, 180, 0, 166, 4, 96, 181, 0, 166, 42, 182, 0, 186, 3]
abbrev dktX2_opened_1 : List UInt8 := dkwX2_opened_1 ++ dktX2_opened_2
def dkwX2_opened_0 : List UInt8 := [42, 180, 0, 176, 16, 8, 160, 0, 5, 6, 172, 42, 89, 180, 0, 176, 4, 96, 181, 0, 176, 42]
abbrev dktX2_opened_0 : List UInt8 := dkwX2_opened_0 ++ dktX2_opened_1
theorem dksX2_opened_0 : cX2_opened.data.toList.drop 0 = dktX2_opened_0 := by decide +kernel
theorem dksX2_opened_1 : cX2_opened.data.toList.drop 22 = dktX2_opened_1 := dk_seg dksX2_opened_0 22 rfl rfl
theorem dksX2_opened_2 : cX2_opened.data.toList.drop 46 = dktX2_opened_2 := dk_seg dksX2_opened_1 24 rfl rfl
theorem dX2_opened_0 : decode cX2_opened 0 = .ok (.aload_n 0, 1) := dk_42 (dk_at dksX2_opened_0 0 rfl rfl)
theorem dX2_opened_1 : decode cX2_opened 1 = .ok (.getfield 176, 3) := dk_180 0 176 (dk_at dksX2_opened_0 1 rfl rfl)
theorem dX2_opened_4 : decode cX2_opened 4 = .ok (.bipush 8, 2) := dk_16 8 (dk_at dksX2_opened_0 4 rfl rfl)
theorem dX2_opened_6 : decode cX2_opened 6 = .ok (.if_icmp .ne 5, 3) := dk_160 0 5 (dk_at dksX2_opened_0 6 rfl rfl)
theorem dX2_opened_9 : decode cX2_opened 9 = .ok (.iconst 3, 1) := dk_6 (dk_at dksX2_opened_0 9 rfl rfl)
theorem dX2_opened_10 : decode cX2_opened 10 = .ok (.ireturn, 1) := dk_172 (dk_at dksX2_opened_0 10 rfl rfl)
theorem dX2_opened_11 : decode cX2_opened 11 = .ok (.aload_n 0, 1) := dk_42 (dk_at dksX2_opened_0 11 rfl rfl)
theorem dX2_opened_12 : decode cX2_opened 12 = .ok (.dup, 1) := dk_89 (dk_at dksX2_opened_0 12 rfl rfl)
theorem dX2_opened_13 : decode cX2_opened 13 = .ok (.getfield 176, 3) := dk_180 0 176 (dk_at dksX2_opened_0 13 rfl rfl)
theorem dX2_opened_16 : decode cX2_opened 16 = .ok (.iconst 1, 1) := dk_4 (dk_at dksX2_opened_0 16 rfl rfl)
theorem dX2_opened_17 : decode cX2_opened 17 = .ok (.iadd, 1) := dk_96 (dk_at dksX2_opened_0 17 rfl rfl)
theorem dX2_opened_18 : decode cX2_opened 18 = .ok (.putfield 176, 3) := dk_181 0 176 (dk_at dksX2_opened_0 18 rfl rfl)
theorem dX2_opened_21 : decode cX2_opened 21 = .ok (.aload_n 0, 1) := dk_42 (dk_at dksX2_opened_0 21 rfl rfl)
theorem dX2_opened_22 : decode cX2_opened 22 = .ok (.getfield 29, 3) := dk_180 0 29 (dk_at dksX2_opened_1 0 rfl rfl)
theorem dX2_opened_25 : decode cX2_opened 25 = .ok (.aload_n 0, 1) := dk_42 (dk_at dksX2_opened_1 3 rfl rfl)
theorem dX2_opened_26 : decode cX2_opened 26 = .ok (.getfield 166, 3) := dk_180 0 166 (dk_at dksX2_opened_1 4 rfl rfl)
theorem dX2_opened_29 : decode cX2_opened 29 = .ok (.iload_n 1, 1) := dk_27 (dk_at dksX2_opened_1 7 rfl rfl)
theorem dX2_opened_30 : decode cX2_opened 30 = .ok (.iastore, 1) := dk_79 (dk_at dksX2_opened_1 8 rfl rfl)
theorem dX2_opened_31 : decode cX2_opened 31 = .ok (.aload_n 0, 1) := dk_42 (dk_at dksX2_opened_1 9 rfl rfl)
theorem dX2_opened_32 : decode cX2_opened 32 = .ok (.dup, 1) := dk_89 (dk_at dksX2_opened_1 10 rfl rfl)
theorem dX2_opened_33 : decode cX2_opened 33 = .ok (.getfield 166, 3) := dk_180 0 166 (dk_at dksX2_opened_1 11 rfl rfl)
theorem dX2_opened_36 : decode cX2_opened 36 = .ok (.iconst 1, 1) := dk_4 (dk_at dksX2_opened_1 14 rfl rfl)
theorem dX2_opened_37 : decode cX2_opened 37 = .ok (.iadd, 1) := dk_96 (dk_at dksX2_opened_1 15 rfl rfl)
theorem dX2_opened_38 : decode cX2_opened 38 = .ok (.putfield 166, 3) := dk_181 0 166 (dk_at dksX2_opened_1 16 rfl rfl)
theorem dX2_opened_41 : decode cX2_opened 41 = .ok (.aload_n 0, 1) := dk_42 (dk_at dksX2_opened_1 19 rfl rfl)
theorem dX2_opened_42 : decode cX2_opened 42 = .ok (.invokevirtual 186, 3) := dk_182 0 186 (dk_at dksX2_opened_1 20 rfl rfl)
theorem dX2_opened_45 : decode cX2_opened 45 = .ok (.iconst 0, 1) := dk_3 (dk_at dksX2_opened_1 23 rfl rfl)
theorem dX2_opened_46 : decode cX2_opened 46 = .ok (.ireturn, 1) := dk_172 (dk_at dksX2_opened_2 0 rfl rfl)
abbrev cX2_isAskAhead : ByteArray := prog_20_method_43_code
def yX2_isAskAhead : MethodName := ⟨RX2, "isAskAhead", "()Z"⟩
def dkwX2_isAskAhead_2 : List UInt8 := [153, 0, 7, 4, 167, 0, 4, 3, 172]
abbrev dktX2_isAskAhead_2 : List UInt8 := dkwX2_isAskAhead_2 ++ []
def dkwX2_isAskAhead_1 : List UInt8 := [162, 0, 25, 42, 180, 0, 29, 42, 180, 0, 166, 4, 100, 46, 184, 0, 169, 4, 6, 184, 0, 81]
abbrev dktX2_isAskAhead_1 : List UInt8 := dkwX2_isAskAhead_1 ++ dktX2_isAskAhead_2
def dkwX2_isAskAhead_0 : List UInt8 := [42, 182, 0, 183, 16, 42, 160, 0, 45, 42, 180, 0, 29, 42, 180, 0, 166, 4, 100, 46, 16, 40]
abbrev dktX2_isAskAhead_0 : List UInt8 := dkwX2_isAskAhead_0 ++ dktX2_isAskAhead_1
theorem dksX2_isAskAhead_0 : cX2_isAskAhead.data.toList.drop 0 = dktX2_isAskAhead_0 := by decide +kernel
theorem dksX2_isAskAhead_1 : cX2_isAskAhead.data.toList.drop 22 = dktX2_isAskAhead_1 := dk_seg dksX2_isAskAhead_0 22 rfl rfl
theorem dksX2_isAskAhead_2 : cX2_isAskAhead.data.toList.drop 44 = dktX2_isAskAhead_2 := dk_seg dksX2_isAskAhead_1 22 rfl rfl
theorem dX2_isAskAhead_0 : decode cX2_isAskAhead 0 = .ok (.aload_n 0, 1) := dk_42 (dk_at dksX2_isAskAhead_0 0 rfl rfl)
theorem dX2_isAskAhead_1 : decode cX2_isAskAhead 1 = .ok (.invokevirtual 183, 3) := dk_182 0 183 (dk_at dksX2_isAskAhead_0 1 rfl rfl)
theorem dX2_isAskAhead_4 : decode cX2_isAskAhead 4 = .ok (.bipush 42, 2) := dk_16 42 (dk_at dksX2_isAskAhead_0 4 rfl rfl)
theorem dX2_isAskAhead_6 : decode cX2_isAskAhead 6 = .ok (.if_icmp .ne 45, 3) := dk_160 0 45 (dk_at dksX2_isAskAhead_0 6 rfl rfl)
theorem dX2_isAskAhead_9 : decode cX2_isAskAhead 9 = .ok (.aload_n 0, 1) := dk_42 (dk_at dksX2_isAskAhead_0 9 rfl rfl)
theorem dX2_isAskAhead_10 : decode cX2_isAskAhead 10 = .ok (.getfield 29, 3) := dk_180 0 29 (dk_at dksX2_isAskAhead_0 10 rfl rfl)
theorem dX2_isAskAhead_13 : decode cX2_isAskAhead 13 = .ok (.aload_n 0, 1) := dk_42 (dk_at dksX2_isAskAhead_0 13 rfl rfl)
theorem dX2_isAskAhead_14 : decode cX2_isAskAhead 14 = .ok (.getfield 166, 3) := dk_180 0 166 (dk_at dksX2_isAskAhead_0 14 rfl rfl)
theorem dX2_isAskAhead_17 : decode cX2_isAskAhead 17 = .ok (.iconst 1, 1) := dk_4 (dk_at dksX2_isAskAhead_0 17 rfl rfl)
theorem dX2_isAskAhead_18 : decode cX2_isAskAhead 18 = .ok (.isub, 1) := dk_100 (dk_at dksX2_isAskAhead_0 18 rfl rfl)
theorem dX2_isAskAhead_19 : decode cX2_isAskAhead 19 = .ok (.iaload, 1) := dk_46 (dk_at dksX2_isAskAhead_0 19 rfl rfl)
theorem dX2_isAskAhead_20 : decode cX2_isAskAhead 20 = .ok (.bipush 40, 2) := dk_16 40 (dk_at dksX2_isAskAhead_0 20 rfl rfl)
theorem dX2_isAskAhead_22 : decode cX2_isAskAhead 22 = .ok (.if_icmp .ge 25, 3) := dk_162 0 25 (dk_at dksX2_isAskAhead_1 0 rfl rfl)
theorem dX2_isAskAhead_25 : decode cX2_isAskAhead 25 = .ok (.aload_n 0, 1) := dk_42 (dk_at dksX2_isAskAhead_1 3 rfl rfl)
theorem dX2_isAskAhead_26 : decode cX2_isAskAhead 26 = .ok (.getfield 29, 3) := dk_180 0 29 (dk_at dksX2_isAskAhead_1 4 rfl rfl)
theorem dX2_isAskAhead_29 : decode cX2_isAskAhead 29 = .ok (.aload_n 0, 1) := dk_42 (dk_at dksX2_isAskAhead_1 7 rfl rfl)
theorem dX2_isAskAhead_30 : decode cX2_isAskAhead 30 = .ok (.getfield 166, 3) := dk_180 0 166 (dk_at dksX2_isAskAhead_1 8 rfl rfl)
theorem dX2_isAskAhead_33 : decode cX2_isAskAhead 33 = .ok (.iconst 1, 1) := dk_4 (dk_at dksX2_isAskAhead_1 11 rfl rfl)
theorem dX2_isAskAhead_34 : decode cX2_isAskAhead 34 = .ok (.isub, 1) := dk_100 (dk_at dksX2_isAskAhead_1 12 rfl rfl)
theorem dX2_isAskAhead_35 : decode cX2_isAskAhead 35 = .ok (.iaload, 1) := dk_46 (dk_at dksX2_isAskAhead_1 13 rfl rfl)
theorem dX2_isAskAhead_36 : decode cX2_isAskAhead 36 = .ok (.invokestatic 169, 3) := dk_184 0 169 (dk_at dksX2_isAskAhead_1 14 rfl rfl)
theorem dX2_isAskAhead_39 : decode cX2_isAskAhead 39 = .ok (.iconst 1, 1) := dk_4 (dk_at dksX2_isAskAhead_1 17 rfl rfl)
theorem dX2_isAskAhead_40 : decode cX2_isAskAhead 40 = .ok (.iconst 3, 1) := dk_6 (dk_at dksX2_isAskAhead_1 18 rfl rfl)
theorem dX2_isAskAhead_41 : decode cX2_isAskAhead 41 = .ok (.invokestatic 81, 3) := dk_184 0 81 (dk_at dksX2_isAskAhead_1 19 rfl rfl)
theorem dX2_isAskAhead_44 : decode cX2_isAskAhead 44 = .ok (.ifCond .eq 7, 3) := dk_153 0 7 (dk_at dksX2_isAskAhead_2 0 rfl rfl)
theorem dX2_isAskAhead_47 : decode cX2_isAskAhead 47 = .ok (.iconst 1, 1) := dk_4 (dk_at dksX2_isAskAhead_2 3 rfl rfl)
theorem dX2_isAskAhead_48 : decode cX2_isAskAhead 48 = .ok (.goto 4, 3) := dk_167 0 4 (dk_at dksX2_isAskAhead_2 4 rfl rfl)
theorem dX2_isAskAhead_51 : decode cX2_isAskAhead 51 = .ok (.iconst 0, 1) := dk_3 (dk_at dksX2_isAskAhead_2 7 rfl rfl)
theorem dX2_isAskAhead_52 : decode cX2_isAskAhead 52 = .ok (.ireturn, 1) := dk_172 (dk_at dksX2_isAskAhead_2 8 rfl rfl)
abbrev cX2_fault : ByteArray := prog_20_method_61_code
def yX2_fault : MethodName := ⟨RX2, "fault", "(I)I"⟩
def dkwX2_fault_1 : List UInt8 := [172]
abbrev dktX2_fault_1 : List UInt8 := dkwX2_fault_1 ++ []
def dkwX2_fault_0 : List UInt8 := [27, 154, 0, 10, 42, 180, 0, 22, 167, 0, 16, 27, 4, 160, 0, 10, 42, 180, 0, 26, 167, 0, 4, 2]
abbrev dktX2_fault_0 : List UInt8 := dkwX2_fault_0 ++ dktX2_fault_1
theorem dksX2_fault_0 : cX2_fault.data.toList.drop 0 = dktX2_fault_0 := by decide +kernel
theorem dksX2_fault_1 : cX2_fault.data.toList.drop 24 = dktX2_fault_1 := dk_seg dksX2_fault_0 24 rfl rfl
theorem dX2_fault_0 : decode cX2_fault 0 = .ok (.iload_n 1, 1) := dk_27 (dk_at dksX2_fault_0 0 rfl rfl)
theorem dX2_fault_1 : decode cX2_fault 1 = .ok (.ifCond .ne 10, 3) := dk_154 0 10 (dk_at dksX2_fault_0 1 rfl rfl)
theorem dX2_fault_4 : decode cX2_fault 4 = .ok (.aload_n 0, 1) := dk_42 (dk_at dksX2_fault_0 4 rfl rfl)
theorem dX2_fault_5 : decode cX2_fault 5 = .ok (.getfield 22, 3) := dk_180 0 22 (dk_at dksX2_fault_0 5 rfl rfl)
theorem dX2_fault_8 : decode cX2_fault 8 = .ok (.goto 16, 3) := dk_167 0 16 (dk_at dksX2_fault_0 8 rfl rfl)
theorem dX2_fault_11 : decode cX2_fault 11 = .ok (.iload_n 1, 1) := dk_27 (dk_at dksX2_fault_0 11 rfl rfl)
theorem dX2_fault_12 : decode cX2_fault 12 = .ok (.iconst 1, 1) := dk_4 (dk_at dksX2_fault_0 12 rfl rfl)
theorem dX2_fault_13 : decode cX2_fault 13 = .ok (.if_icmp .ne 10, 3) := dk_160 0 10 (dk_at dksX2_fault_0 13 rfl rfl)
theorem dX2_fault_16 : decode cX2_fault 16 = .ok (.aload_n 0, 1) := dk_42 (dk_at dksX2_fault_0 16 rfl rfl)
theorem dX2_fault_17 : decode cX2_fault 17 = .ok (.getfield 26, 3) := dk_180 0 26 (dk_at dksX2_fault_0 17 rfl rfl)
theorem dX2_fault_20 : decode cX2_fault 20 = .ok (.goto 4, 3) := dk_167 0 4 (dk_at dksX2_fault_0 20 rfl rfl)
theorem dX2_fault_23 : decode cX2_fault 23 = .ok (.iconst (-1), 1) := dk_2 (dk_at dksX2_fault_0 23 rfl rfl)
theorem dX2_fault_24 : decode cX2_fault 24 = .ok (.ireturn, 1) := dk_172 (dk_at dksX2_fault_1 0 rfl rfl)
abbrev cX2_by : ByteArray := prog_20_method_62_code
def yX2_by : MethodName := ⟨RX2, "by", "(I)Z"⟩
def dkwX2_by_1 : List UInt8 := [79, 4, 172]
abbrev dktX2_by_1 : List UInt8 := dkwX2_by_1 ++ []
def dkwX2_by_0 : List UInt8 := [27, 2, 42, 180, 0, 7, 4, 46, 4, 100, 184, 0, 81, 154, 0, 5, 3, 172, 42, 180, 0, 7, 5, 27]
abbrev dktX2_by_0 : List UInt8 := dkwX2_by_0 ++ dktX2_by_1
theorem dksX2_by_0 : cX2_by.data.toList.drop 0 = dktX2_by_0 := by decide +kernel
theorem dksX2_by_1 : cX2_by.data.toList.drop 24 = dktX2_by_1 := dk_seg dksX2_by_0 24 rfl rfl
theorem dX2_by_0 : decode cX2_by 0 = .ok (.iload_n 1, 1) := dk_27 (dk_at dksX2_by_0 0 rfl rfl)
theorem dX2_by_1 : decode cX2_by 1 = .ok (.iconst (-1), 1) := dk_2 (dk_at dksX2_by_0 1 rfl rfl)
theorem dX2_by_2 : decode cX2_by 2 = .ok (.aload_n 0, 1) := dk_42 (dk_at dksX2_by_0 2 rfl rfl)
theorem dX2_by_3 : decode cX2_by 3 = .ok (.getfield 7, 3) := dk_180 0 7 (dk_at dksX2_by_0 3 rfl rfl)
theorem dX2_by_6 : decode cX2_by 6 = .ok (.iconst 1, 1) := dk_4 (dk_at dksX2_by_0 6 rfl rfl)
theorem dX2_by_7 : decode cX2_by 7 = .ok (.iaload, 1) := dk_46 (dk_at dksX2_by_0 7 rfl rfl)
theorem dX2_by_8 : decode cX2_by 8 = .ok (.iconst 1, 1) := dk_4 (dk_at dksX2_by_0 8 rfl rfl)
theorem dX2_by_9 : decode cX2_by 9 = .ok (.isub, 1) := dk_100 (dk_at dksX2_by_0 9 rfl rfl)
theorem dX2_by_10 : decode cX2_by 10 = .ok (.invokestatic 81, 3) := dk_184 0 81 (dk_at dksX2_by_0 10 rfl rfl)
theorem dX2_by_13 : decode cX2_by 13 = .ok (.ifCond .ne 5, 3) := dk_154 0 5 (dk_at dksX2_by_0 13 rfl rfl)
theorem dX2_by_16 : decode cX2_by 16 = .ok (.iconst 0, 1) := dk_3 (dk_at dksX2_by_0 16 rfl rfl)
theorem dX2_by_17 : decode cX2_by 17 = .ok (.ireturn, 1) := dk_172 (dk_at dksX2_by_0 17 rfl rfl)
theorem dX2_by_18 : decode cX2_by 18 = .ok (.aload_n 0, 1) := dk_42 (dk_at dksX2_by_0 18 rfl rfl)
theorem dX2_by_19 : decode cX2_by 19 = .ok (.getfield 7, 3) := dk_180 0 7 (dk_at dksX2_by_0 19 rfl rfl)
theorem dX2_by_22 : decode cX2_by 22 = .ok (.iconst 2, 1) := dk_5 (dk_at dksX2_by_0 22 rfl rfl)
theorem dX2_by_23 : decode cX2_by 23 = .ok (.iload_n 1, 1) := dk_27 (dk_at dksX2_by_0 23 rfl rfl)
theorem dX2_by_24 : decode cX2_by 24 = .ok (.iastore, 1) := dk_79 (dk_at dksX2_by_1 0 rfl rfl)
theorem dX2_by_25 : decode cX2_by 25 = .ok (.iconst 1, 1) := dk_4 (dk_at dksX2_by_1 1 rfl rfl)
theorem dX2_by_26 : decode cX2_by 26 = .ok (.ireturn, 1) := dk_172 (dk_at dksX2_by_1 2 rfl rfl)
abbrev cX2_undo : ByteArray := prog_20_method_87_code
def yX2_undo : MethodName := ⟨RX2, "undo", "()I"⟩
def dkwX2_undo_5 : List UInt8 := [27, 16, 30, 96, 28, 96, 46, 79, 132, 2, 1, 167, 255, 226, 42, 180, 0, 7, 6, 46, 172]
abbrev dktX2_undo_5 : List UInt8 := dkwX2_undo_5 ++ []
def dkwX2_undo_4 : List UInt8 := [167, 255, 238, 3, 61, 28, 16, 60, 162, 0, 30, 42, 180, 0, 7, 17, 10, 255, 28, 96, 42, 180, 0, 7]
abbrev dktX2_undo_4 : List UInt8 := dkwX2_undo_4 ++ dktX2_undo_5
def dkwX2_undo_3 : List UInt8 := [180, 0, 7, 27, 46, 61, 28, 42, 180, 0, 7, 3, 46, 162, 0, 14, 42, 28, 182, 0, 96, 132, 2, 1]
abbrev dktX2_undo_3 : List UInt8 := dkwX2_undo_3 ++ dktX2_undo_4
def dkwX2_undo_2 : List UInt8 := [16, 7, 28, 96, 42, 180, 0, 7, 27, 4, 96, 28, 96, 46, 79, 132, 2, 1, 167, 255, 228, 42]
abbrev dktX2_undo_2 : List UInt8 := dkwX2_undo_2 ++ dktX2_undo_3
def dkwX2_undo_1 : List UInt8 := [16, 90, 42, 180, 0, 7, 6, 46, 104, 96, 60, 3, 61, 28, 16, 29, 162, 0, 28, 42, 180, 0, 7]
abbrev dktX2_undo_1 : List UInt8 := dkwX2_undo_1 ++ dktX2_undo_2
def dkwX2_undo_0 : List UInt8 := [42, 180, 0, 7, 6, 46, 154, 0, 5, 2, 172, 42, 180, 0, 7, 6, 92, 46, 4, 100, 79, 16, 115]
abbrev dktX2_undo_0 : List UInt8 := dkwX2_undo_0 ++ dktX2_undo_1
theorem dksX2_undo_0 : cX2_undo.data.toList.drop 0 = dktX2_undo_0 := by decide +kernel
theorem dksX2_undo_1 : cX2_undo.data.toList.drop 23 = dktX2_undo_1 := dk_seg dksX2_undo_0 23 rfl rfl
theorem dksX2_undo_2 : cX2_undo.data.toList.drop 46 = dktX2_undo_2 := dk_seg dksX2_undo_1 23 rfl rfl
theorem dksX2_undo_3 : cX2_undo.data.toList.drop 68 = dktX2_undo_3 := dk_seg dksX2_undo_2 22 rfl rfl
theorem dksX2_undo_4 : cX2_undo.data.toList.drop 92 = dktX2_undo_4 := dk_seg dksX2_undo_3 24 rfl rfl
theorem dksX2_undo_5 : cX2_undo.data.toList.drop 116 = dktX2_undo_5 := dk_seg dksX2_undo_4 24 rfl rfl
theorem dX2_undo_0 : decode cX2_undo 0 = .ok (.aload_n 0, 1) := dk_42 (dk_at dksX2_undo_0 0 rfl rfl)
theorem dX2_undo_1 : decode cX2_undo 1 = .ok (.getfield 7, 3) := dk_180 0 7 (dk_at dksX2_undo_0 1 rfl rfl)
theorem dX2_undo_4 : decode cX2_undo 4 = .ok (.iconst 3, 1) := dk_6 (dk_at dksX2_undo_0 4 rfl rfl)
theorem dX2_undo_5 : decode cX2_undo 5 = .ok (.iaload, 1) := dk_46 (dk_at dksX2_undo_0 5 rfl rfl)
theorem dX2_undo_6 : decode cX2_undo 6 = .ok (.ifCond .ne 5, 3) := dk_154 0 5 (dk_at dksX2_undo_0 6 rfl rfl)
theorem dX2_undo_9 : decode cX2_undo 9 = .ok (.iconst (-1), 1) := dk_2 (dk_at dksX2_undo_0 9 rfl rfl)
theorem dX2_undo_10 : decode cX2_undo 10 = .ok (.ireturn, 1) := dk_172 (dk_at dksX2_undo_0 10 rfl rfl)
theorem dX2_undo_11 : decode cX2_undo 11 = .ok (.aload_n 0, 1) := dk_42 (dk_at dksX2_undo_0 11 rfl rfl)
theorem dX2_undo_12 : decode cX2_undo 12 = .ok (.getfield 7, 3) := dk_180 0 7 (dk_at dksX2_undo_0 12 rfl rfl)
theorem dX2_undo_15 : decode cX2_undo 15 = .ok (.iconst 3, 1) := dk_6 (dk_at dksX2_undo_0 15 rfl rfl)
theorem dX2_undo_16 : decode cX2_undo 16 = .ok (.dup2, 1) := dk_92 (dk_at dksX2_undo_0 16 rfl rfl)
theorem dX2_undo_17 : decode cX2_undo 17 = .ok (.iaload, 1) := dk_46 (dk_at dksX2_undo_0 17 rfl rfl)
theorem dX2_undo_18 : decode cX2_undo 18 = .ok (.iconst 1, 1) := dk_4 (dk_at dksX2_undo_0 18 rfl rfl)
theorem dX2_undo_19 : decode cX2_undo 19 = .ok (.isub, 1) := dk_100 (dk_at dksX2_undo_0 19 rfl rfl)
theorem dX2_undo_20 : decode cX2_undo 20 = .ok (.iastore, 1) := dk_79 (dk_at dksX2_undo_0 20 rfl rfl)
theorem dX2_undo_21 : decode cX2_undo 21 = .ok (.bipush 115, 2) := dk_16 115 (dk_at dksX2_undo_0 21 rfl rfl)
theorem dX2_undo_23 : decode cX2_undo 23 = .ok (.bipush 90, 2) := dk_16 90 (dk_at dksX2_undo_1 0 rfl rfl)
theorem dX2_undo_25 : decode cX2_undo 25 = .ok (.aload_n 0, 1) := dk_42 (dk_at dksX2_undo_1 2 rfl rfl)
theorem dX2_undo_26 : decode cX2_undo 26 = .ok (.getfield 7, 3) := dk_180 0 7 (dk_at dksX2_undo_1 3 rfl rfl)
theorem dX2_undo_29 : decode cX2_undo 29 = .ok (.iconst 3, 1) := dk_6 (dk_at dksX2_undo_1 6 rfl rfl)
theorem dX2_undo_30 : decode cX2_undo 30 = .ok (.iaload, 1) := dk_46 (dk_at dksX2_undo_1 7 rfl rfl)
theorem dX2_undo_31 : decode cX2_undo 31 = .ok (.imul, 1) := dk_104 (dk_at dksX2_undo_1 8 rfl rfl)
theorem dX2_undo_32 : decode cX2_undo 32 = .ok (.iadd, 1) := dk_96 (dk_at dksX2_undo_1 9 rfl rfl)
theorem dX2_undo_33 : decode cX2_undo 33 = .ok (.istore_n 1, 1) := dk_60 (dk_at dksX2_undo_1 10 rfl rfl)
theorem dX2_undo_34 : decode cX2_undo 34 = .ok (.iconst 0, 1) := dk_3 (dk_at dksX2_undo_1 11 rfl rfl)
theorem dX2_undo_35 : decode cX2_undo 35 = .ok (.istore_n 2, 1) := dk_61 (dk_at dksX2_undo_1 12 rfl rfl)
theorem dX2_undo_36 : decode cX2_undo 36 = .ok (.iload_n 2, 1) := dk_28 (dk_at dksX2_undo_1 13 rfl rfl)
theorem dX2_undo_37 : decode cX2_undo 37 = .ok (.bipush 29, 2) := dk_16 29 (dk_at dksX2_undo_1 14 rfl rfl)
theorem dX2_undo_39 : decode cX2_undo 39 = .ok (.if_icmp .ge 28, 3) := dk_162 0 28 (dk_at dksX2_undo_1 16 rfl rfl)
theorem dX2_undo_42 : decode cX2_undo 42 = .ok (.aload_n 0, 1) := dk_42 (dk_at dksX2_undo_1 19 rfl rfl)
theorem dX2_undo_43 : decode cX2_undo 43 = .ok (.getfield 7, 3) := dk_180 0 7 (dk_at dksX2_undo_1 20 rfl rfl)
theorem dX2_undo_46 : decode cX2_undo 46 = .ok (.bipush 7, 2) := dk_16 7 (dk_at dksX2_undo_2 0 rfl rfl)
theorem dX2_undo_48 : decode cX2_undo 48 = .ok (.iload_n 2, 1) := dk_28 (dk_at dksX2_undo_2 2 rfl rfl)
theorem dX2_undo_49 : decode cX2_undo 49 = .ok (.iadd, 1) := dk_96 (dk_at dksX2_undo_2 3 rfl rfl)
theorem dX2_undo_50 : decode cX2_undo 50 = .ok (.aload_n 0, 1) := dk_42 (dk_at dksX2_undo_2 4 rfl rfl)
theorem dX2_undo_51 : decode cX2_undo 51 = .ok (.getfield 7, 3) := dk_180 0 7 (dk_at dksX2_undo_2 5 rfl rfl)
theorem dX2_undo_54 : decode cX2_undo 54 = .ok (.iload_n 1, 1) := dk_27 (dk_at dksX2_undo_2 8 rfl rfl)
theorem dX2_undo_55 : decode cX2_undo 55 = .ok (.iconst 1, 1) := dk_4 (dk_at dksX2_undo_2 9 rfl rfl)
theorem dX2_undo_56 : decode cX2_undo 56 = .ok (.iadd, 1) := dk_96 (dk_at dksX2_undo_2 10 rfl rfl)
theorem dX2_undo_57 : decode cX2_undo 57 = .ok (.iload_n 2, 1) := dk_28 (dk_at dksX2_undo_2 11 rfl rfl)
theorem dX2_undo_58 : decode cX2_undo 58 = .ok (.iadd, 1) := dk_96 (dk_at dksX2_undo_2 12 rfl rfl)
theorem dX2_undo_59 : decode cX2_undo 59 = .ok (.iaload, 1) := dk_46 (dk_at dksX2_undo_2 13 rfl rfl)
theorem dX2_undo_60 : decode cX2_undo 60 = .ok (.iastore, 1) := dk_79 (dk_at dksX2_undo_2 14 rfl rfl)
theorem dX2_undo_61 : decode cX2_undo 61 = .ok (.iinc 2 1, 3) := dk_132 2 1 (dk_at dksX2_undo_2 15 rfl rfl)
theorem dX2_undo_64 : decode cX2_undo 64 = .ok (.goto (-28), 3) := dk_167 255 228 (dk_at dksX2_undo_2 18 rfl rfl)
theorem dX2_undo_67 : decode cX2_undo 67 = .ok (.aload_n 0, 1) := dk_42 (dk_at dksX2_undo_2 21 rfl rfl)
theorem dX2_undo_68 : decode cX2_undo 68 = .ok (.getfield 7, 3) := dk_180 0 7 (dk_at dksX2_undo_3 0 rfl rfl)
theorem dX2_undo_71 : decode cX2_undo 71 = .ok (.iload_n 1, 1) := dk_27 (dk_at dksX2_undo_3 3 rfl rfl)
theorem dX2_undo_72 : decode cX2_undo 72 = .ok (.iaload, 1) := dk_46 (dk_at dksX2_undo_3 4 rfl rfl)
theorem dX2_undo_73 : decode cX2_undo 73 = .ok (.istore_n 2, 1) := dk_61 (dk_at dksX2_undo_3 5 rfl rfl)
theorem dX2_undo_74 : decode cX2_undo 74 = .ok (.iload_n 2, 1) := dk_28 (dk_at dksX2_undo_3 6 rfl rfl)
theorem dX2_undo_75 : decode cX2_undo 75 = .ok (.aload_n 0, 1) := dk_42 (dk_at dksX2_undo_3 7 rfl rfl)
theorem dX2_undo_76 : decode cX2_undo 76 = .ok (.getfield 7, 3) := dk_180 0 7 (dk_at dksX2_undo_3 8 rfl rfl)
theorem dX2_undo_79 : decode cX2_undo 79 = .ok (.iconst 0, 1) := dk_3 (dk_at dksX2_undo_3 11 rfl rfl)
theorem dX2_undo_80 : decode cX2_undo 80 = .ok (.iaload, 1) := dk_46 (dk_at dksX2_undo_3 12 rfl rfl)
theorem dX2_undo_81 : decode cX2_undo 81 = .ok (.if_icmp .ge 14, 3) := dk_162 0 14 (dk_at dksX2_undo_3 13 rfl rfl)
theorem dX2_undo_84 : decode cX2_undo 84 = .ok (.aload_n 0, 1) := dk_42 (dk_at dksX2_undo_3 16 rfl rfl)
theorem dX2_undo_85 : decode cX2_undo 85 = .ok (.iload_n 2, 1) := dk_28 (dk_at dksX2_undo_3 17 rfl rfl)
theorem dX2_undo_86 : decode cX2_undo 86 = .ok (.invokevirtual 96, 3) := dk_182 0 96 (dk_at dksX2_undo_3 18 rfl rfl)
theorem dX2_undo_89 : decode cX2_undo 89 = .ok (.iinc 2 1, 3) := dk_132 2 1 (dk_at dksX2_undo_3 21 rfl rfl)
theorem dX2_undo_92 : decode cX2_undo 92 = .ok (.goto (-18), 3) := dk_167 255 238 (dk_at dksX2_undo_4 0 rfl rfl)
theorem dX2_undo_95 : decode cX2_undo 95 = .ok (.iconst 0, 1) := dk_3 (dk_at dksX2_undo_4 3 rfl rfl)
theorem dX2_undo_96 : decode cX2_undo 96 = .ok (.istore_n 2, 1) := dk_61 (dk_at dksX2_undo_4 4 rfl rfl)
theorem dX2_undo_97 : decode cX2_undo 97 = .ok (.iload_n 2, 1) := dk_28 (dk_at dksX2_undo_4 5 rfl rfl)
theorem dX2_undo_98 : decode cX2_undo 98 = .ok (.bipush 60, 2) := dk_16 60 (dk_at dksX2_undo_4 6 rfl rfl)
theorem dX2_undo_100 : decode cX2_undo 100 = .ok (.if_icmp .ge 30, 3) := dk_162 0 30 (dk_at dksX2_undo_4 8 rfl rfl)
theorem dX2_undo_103 : decode cX2_undo 103 = .ok (.aload_n 0, 1) := dk_42 (dk_at dksX2_undo_4 11 rfl rfl)
theorem dX2_undo_104 : decode cX2_undo 104 = .ok (.getfield 7, 3) := dk_180 0 7 (dk_at dksX2_undo_4 12 rfl rfl)
theorem dX2_undo_107 : decode cX2_undo 107 = .ok (.sipush 2815, 3) := dk_17 10 255 (dk_at dksX2_undo_4 15 rfl rfl)
theorem dX2_undo_110 : decode cX2_undo 110 = .ok (.iload_n 2, 1) := dk_28 (dk_at dksX2_undo_4 18 rfl rfl)
theorem dX2_undo_111 : decode cX2_undo 111 = .ok (.iadd, 1) := dk_96 (dk_at dksX2_undo_4 19 rfl rfl)
theorem dX2_undo_112 : decode cX2_undo 112 = .ok (.aload_n 0, 1) := dk_42 (dk_at dksX2_undo_4 20 rfl rfl)
theorem dX2_undo_113 : decode cX2_undo 113 = .ok (.getfield 7, 3) := dk_180 0 7 (dk_at dksX2_undo_4 21 rfl rfl)
theorem dX2_undo_116 : decode cX2_undo 116 = .ok (.iload_n 1, 1) := dk_27 (dk_at dksX2_undo_5 0 rfl rfl)
theorem dX2_undo_117 : decode cX2_undo 117 = .ok (.bipush 30, 2) := dk_16 30 (dk_at dksX2_undo_5 1 rfl rfl)
theorem dX2_undo_119 : decode cX2_undo 119 = .ok (.iadd, 1) := dk_96 (dk_at dksX2_undo_5 3 rfl rfl)
theorem dX2_undo_120 : decode cX2_undo 120 = .ok (.iload_n 2, 1) := dk_28 (dk_at dksX2_undo_5 4 rfl rfl)
theorem dX2_undo_121 : decode cX2_undo 121 = .ok (.iadd, 1) := dk_96 (dk_at dksX2_undo_5 5 rfl rfl)
theorem dX2_undo_122 : decode cX2_undo 122 = .ok (.iaload, 1) := dk_46 (dk_at dksX2_undo_5 6 rfl rfl)
theorem dX2_undo_123 : decode cX2_undo 123 = .ok (.iastore, 1) := dk_79 (dk_at dksX2_undo_5 7 rfl rfl)
theorem dX2_undo_124 : decode cX2_undo 124 = .ok (.iinc 2 1, 3) := dk_132 2 1 (dk_at dksX2_undo_5 8 rfl rfl)
theorem dX2_undo_127 : decode cX2_undo 127 = .ok (.goto (-30), 3) := dk_167 255 226 (dk_at dksX2_undo_5 11 rfl rfl)
theorem dX2_undo_130 : decode cX2_undo 130 = .ok (.aload_n 0, 1) := dk_42 (dk_at dksX2_undo_5 14 rfl rfl)
theorem dX2_undo_131 : decode cX2_undo 131 = .ok (.getfield 7, 3) := dk_180 0 7 (dk_at dksX2_undo_5 15 rfl rfl)
theorem dX2_undo_134 : decode cX2_undo 134 = .ok (.iconst 3, 1) := dk_6 (dk_at dksX2_undo_5 18 rfl rfl)
theorem dX2_undo_135 : decode cX2_undo 135 = .ok (.iaload, 1) := dk_46 (dk_at dksX2_undo_5 19 rfl rfl)
theorem dX2_undo_136 : decode cX2_undo 136 = .ok (.ireturn, 1) := dk_172 (dk_at dksX2_undo_5 20 rfl rfl)
abbrev cX2_pawn : ByteArray := prog_20_method_88_code
def yX2_pawn : MethodName := ⟨RX2, "pawn", "(I)Z"⟩
def dkwX2_pawn_0 : List UInt8 := [42, 27, 182, 1, 104, 154, 0, 5, 3, 172, 42, 182, 1, 107, 42, 27, 182, 1, 110, 4, 172]
abbrev dktX2_pawn_0 : List UInt8 := dkwX2_pawn_0 ++ []
theorem dksX2_pawn_0 : cX2_pawn.data.toList.drop 0 = dktX2_pawn_0 := by decide +kernel
theorem dX2_pawn_0 : decode cX2_pawn 0 = .ok (.aload_n 0, 1) := dk_42 (dk_at dksX2_pawn_0 0 rfl rfl)
theorem dX2_pawn_1 : decode cX2_pawn 1 = .ok (.iload_n 1, 1) := dk_27 (dk_at dksX2_pawn_0 1 rfl rfl)
theorem dX2_pawn_2 : decode cX2_pawn 2 = .ok (.invokevirtual 360, 3) := dk_182 1 104 (dk_at dksX2_pawn_0 2 rfl rfl)
theorem dX2_pawn_5 : decode cX2_pawn 5 = .ok (.ifCond .ne 5, 3) := dk_154 0 5 (dk_at dksX2_pawn_0 5 rfl rfl)
theorem dX2_pawn_8 : decode cX2_pawn 8 = .ok (.iconst 0, 1) := dk_3 (dk_at dksX2_pawn_0 8 rfl rfl)
theorem dX2_pawn_9 : decode cX2_pawn 9 = .ok (.ireturn, 1) := dk_172 (dk_at dksX2_pawn_0 9 rfl rfl)
theorem dX2_pawn_10 : decode cX2_pawn 10 = .ok (.aload_n 0, 1) := dk_42 (dk_at dksX2_pawn_0 10 rfl rfl)
theorem dX2_pawn_11 : decode cX2_pawn 11 = .ok (.invokevirtual 363, 3) := dk_182 1 107 (dk_at dksX2_pawn_0 11 rfl rfl)
theorem dX2_pawn_14 : decode cX2_pawn 14 = .ok (.aload_n 0, 1) := dk_42 (dk_at dksX2_pawn_0 14 rfl rfl)
theorem dX2_pawn_15 : decode cX2_pawn 15 = .ok (.iload_n 1, 1) := dk_27 (dk_at dksX2_pawn_0 15 rfl rfl)
theorem dX2_pawn_16 : decode cX2_pawn 16 = .ok (.invokevirtual 366, 3) := dk_182 1 110 (dk_at dksX2_pawn_0 16 rfl rfl)
theorem dX2_pawn_19 : decode cX2_pawn 19 = .ok (.iconst 1, 1) := dk_4 (dk_at dksX2_pawn_0 19 rfl rfl)
theorem dX2_pawn_20 : decode cX2_pawn 20 = .ok (.ireturn, 1) := dk_172 (dk_at dksX2_pawn_0 20 rfl rfl)
abbrev cX2_canPawn : ByteArray := prog_20_method_79_code
def yX2_canPawn : MethodName := ⟨RX2, "canPawn", "(I)Z"⟩
def dkwX2_canPawn_0 : List UInt8 := [42, 27, 182, 1, 86, 153, 0, 15, 42, 27, 182, 0, 85, 154, 0, 7, 4, 167, 0, 4, 3, 172]
abbrev dktX2_canPawn_0 : List UInt8 := dkwX2_canPawn_0 ++ []
theorem dksX2_canPawn_0 : cX2_canPawn.data.toList.drop 0 = dktX2_canPawn_0 := by decide +kernel
theorem dX2_canPawn_0 : decode cX2_canPawn 0 = .ok (.aload_n 0, 1) := dk_42 (dk_at dksX2_canPawn_0 0 rfl rfl)
theorem dX2_canPawn_1 : decode cX2_canPawn 1 = .ok (.iload_n 1, 1) := dk_27 (dk_at dksX2_canPawn_0 1 rfl rfl)
theorem dX2_canPawn_2 : decode cX2_canPawn 2 = .ok (.invokevirtual 342, 3) := dk_182 1 86 (dk_at dksX2_canPawn_0 2 rfl rfl)
theorem dX2_canPawn_5 : decode cX2_canPawn 5 = .ok (.ifCond .eq 15, 3) := dk_153 0 15 (dk_at dksX2_canPawn_0 5 rfl rfl)
theorem dX2_canPawn_8 : decode cX2_canPawn 8 = .ok (.aload_n 0, 1) := dk_42 (dk_at dksX2_canPawn_0 8 rfl rfl)
theorem dX2_canPawn_9 : decode cX2_canPawn 9 = .ok (.iload_n 1, 1) := dk_27 (dk_at dksX2_canPawn_0 9 rfl rfl)
theorem dX2_canPawn_10 : decode cX2_canPawn 10 = .ok (.invokevirtual 85, 3) := dk_182 0 85 (dk_at dksX2_canPawn_0 10 rfl rfl)
theorem dX2_canPawn_13 : decode cX2_canPawn 13 = .ok (.ifCond .ne 7, 3) := dk_154 0 7 (dk_at dksX2_canPawn_0 13 rfl rfl)
theorem dX2_canPawn_16 : decode cX2_canPawn 16 = .ok (.iconst 1, 1) := dk_4 (dk_at dksX2_canPawn_0 16 rfl rfl)
theorem dX2_canPawn_17 : decode cX2_canPawn 17 = .ok (.goto 4, 3) := dk_167 0 4 (dk_at dksX2_canPawn_0 17 rfl rfl)
theorem dX2_canPawn_20 : decode cX2_canPawn 20 = .ok (.iconst 0, 1) := dk_3 (dk_at dksX2_canPawn_0 20 rfl rfl)
theorem dX2_canPawn_21 : decode cX2_canPawn 21 = .ok (.ireturn, 1) := dk_172 (dk_at dksX2_canPawn_0 21 rfl rfl)
abbrev cX2_isQuarrel : ByteArray := prog_20_method_8_code
def yX2_isQuarrel : MethodName := ⟨RX2, "isQuarrel", "(I)Z"⟩
def dkwX2_isQuarrel_0 : List UInt8 := [27, 3, 42, 180, 0, 7, 3, 46, 4, 100, 184, 0, 81, 172]
abbrev dktX2_isQuarrel_0 : List UInt8 := dkwX2_isQuarrel_0 ++ []
theorem dksX2_isQuarrel_0 : cX2_isQuarrel.data.toList.drop 0 = dktX2_isQuarrel_0 := by decide +kernel
theorem dX2_isQuarrel_0 : decode cX2_isQuarrel 0 = .ok (.iload_n 1, 1) := dk_27 (dk_at dksX2_isQuarrel_0 0 rfl rfl)
theorem dX2_isQuarrel_1 : decode cX2_isQuarrel 1 = .ok (.iconst 0, 1) := dk_3 (dk_at dksX2_isQuarrel_0 1 rfl rfl)
theorem dX2_isQuarrel_2 : decode cX2_isQuarrel 2 = .ok (.aload_n 0, 1) := dk_42 (dk_at dksX2_isQuarrel_0 2 rfl rfl)
theorem dX2_isQuarrel_3 : decode cX2_isQuarrel 3 = .ok (.getfield 7, 3) := dk_180 0 7 (dk_at dksX2_isQuarrel_0 3 rfl rfl)
theorem dX2_isQuarrel_6 : decode cX2_isQuarrel 6 = .ok (.iconst 0, 1) := dk_3 (dk_at dksX2_isQuarrel_0 6 rfl rfl)
theorem dX2_isQuarrel_7 : decode cX2_isQuarrel 7 = .ok (.iaload, 1) := dk_46 (dk_at dksX2_isQuarrel_0 7 rfl rfl)
theorem dX2_isQuarrel_8 : decode cX2_isQuarrel 8 = .ok (.iconst 1, 1) := dk_4 (dk_at dksX2_isQuarrel_0 8 rfl rfl)
theorem dX2_isQuarrel_9 : decode cX2_isQuarrel 9 = .ok (.isub, 1) := dk_100 (dk_at dksX2_isQuarrel_0 9 rfl rfl)
theorem dX2_isQuarrel_10 : decode cX2_isQuarrel 10 = .ok (.invokestatic 81, 3) := dk_184 0 81 (dk_at dksX2_isQuarrel_0 10 rfl rfl)
theorem dX2_isQuarrel_13 : decode cX2_isQuarrel 13 = .ok (.ireturn, 1) := dk_172 (dk_at dksX2_isQuarrel_0 13 rfl rfl)
abbrev cX2_howOf : ByteArray := prog_20_method_10_code
def yX2_howOf : MethodName := ⟨RX2, "howOf", "(I)I"⟩
def dkwX2_howOf_0 : List UInt8 := [42, 180, 0, 7, 16, 12, 6, 27, 104, 96, 46, 172]
abbrev dktX2_howOf_0 : List UInt8 := dkwX2_howOf_0 ++ []
theorem dksX2_howOf_0 : cX2_howOf.data.toList.drop 0 = dktX2_howOf_0 := by decide +kernel
theorem dX2_howOf_0 : decode cX2_howOf 0 = .ok (.aload_n 0, 1) := dk_42 (dk_at dksX2_howOf_0 0 rfl rfl)
theorem dX2_howOf_1 : decode cX2_howOf 1 = .ok (.getfield 7, 3) := dk_180 0 7 (dk_at dksX2_howOf_0 1 rfl rfl)
theorem dX2_howOf_4 : decode cX2_howOf 4 = .ok (.bipush 12, 2) := dk_16 12 (dk_at dksX2_howOf_0 4 rfl rfl)
theorem dX2_howOf_6 : decode cX2_howOf 6 = .ok (.iconst 3, 1) := dk_6 (dk_at dksX2_howOf_0 6 rfl rfl)
theorem dX2_howOf_7 : decode cX2_howOf 7 = .ok (.iload_n 1, 1) := dk_27 (dk_at dksX2_howOf_0 7 rfl rfl)
theorem dX2_howOf_8 : decode cX2_howOf 8 = .ok (.imul, 1) := dk_104 (dk_at dksX2_howOf_0 8 rfl rfl)
theorem dX2_howOf_9 : decode cX2_howOf 9 = .ok (.iadd, 1) := dk_96 (dk_at dksX2_howOf_0 9 rfl rfl)
theorem dX2_howOf_10 : decode cX2_howOf 10 = .ok (.iaload, 1) := dk_46 (dk_at dksX2_howOf_0 10 rfl rfl)
theorem dX2_howOf_11 : decode cX2_howOf 11 = .ok (.ireturn, 1) := dk_172 (dk_at dksX2_howOf_0 11 rfl rfl)
abbrev cX2_keep : ByteArray := prog_20_method_86_code
def yX2_keep : MethodName := ⟨RX2, "keep", "()V"⟩
def dkwX2_keep_6 : List UInt8 := [46, 79, 132, 2, 1, 167, 255, 226, 42, 180, 0, 7, 6, 92, 46, 4, 96, 79, 177]
abbrev dktX2_keep_6 : List UInt8 := dkwX2_keep_6 ++ []
def dkwX2_keep_5 : List UInt8 := [16, 60, 162, 0, 30, 42, 180, 0, 7, 27, 16, 30, 96, 28, 96, 42, 180, 0, 7, 17, 10, 255, 28, 96]
abbrev dktX2_keep_5 : List UInt8 := dkwX2_keep_5 ++ dktX2_keep_6
def dkwX2_keep_4 : List UInt8 := [4, 96, 28, 96, 42, 180, 0, 7, 16, 7, 28, 96, 46, 79, 132, 2, 1, 167, 255, 228, 3, 61, 28]
abbrev dktX2_keep_4 : List UInt8 := dkwX2_keep_4 ++ dktX2_keep_5
def dkwX2_keep_3 : List UInt8 := [180, 0, 7, 27, 42, 180, 0, 7, 3, 46, 79, 3, 61, 28, 16, 29, 162, 0, 28, 42, 180, 0, 7, 27]
abbrev dktX2_keep_3 : List UInt8 := dkwX2_keep_3 ++ dktX2_keep_4
def dkwX2_keep_2 : List UInt8 := [180, 0, 7, 6, 92, 46, 4, 100, 79, 16, 115, 16, 90, 42, 180, 0, 7, 6, 46, 104, 96, 60, 42]
abbrev dktX2_keep_2 : List UInt8 := dkwX2_keep_2 ++ dktX2_keep_3
def dkwX2_keep_1 : List UInt8 := [16, 115, 27, 96, 42, 180, 0, 7, 17, 0, 205, 27, 96, 46, 79, 132, 1, 1, 167, 255, 227, 42]
abbrev dktX2_keep_1 : List UInt8 := dkwX2_keep_1 ++ dktX2_keep_2
def dkwX2_keep_0 : List UInt8 := [42, 180, 0, 7, 6, 46, 16, 30, 160, 0, 47, 3, 60, 27, 17, 10, 50, 162, 0, 28, 42, 180, 0, 7]
abbrev dktX2_keep_0 : List UInt8 := dkwX2_keep_0 ++ dktX2_keep_1
theorem dksX2_keep_0 : cX2_keep.data.toList.drop 0 = dktX2_keep_0 := by decide +kernel
theorem dksX2_keep_1 : cX2_keep.data.toList.drop 24 = dktX2_keep_1 := dk_seg dksX2_keep_0 24 rfl rfl
theorem dksX2_keep_2 : cX2_keep.data.toList.drop 46 = dktX2_keep_2 := dk_seg dksX2_keep_1 22 rfl rfl
theorem dksX2_keep_3 : cX2_keep.data.toList.drop 69 = dktX2_keep_3 := dk_seg dksX2_keep_2 23 rfl rfl
theorem dksX2_keep_4 : cX2_keep.data.toList.drop 93 = dktX2_keep_4 := dk_seg dksX2_keep_3 24 rfl rfl
theorem dksX2_keep_5 : cX2_keep.data.toList.drop 116 = dktX2_keep_5 := dk_seg dksX2_keep_4 23 rfl rfl
theorem dksX2_keep_6 : cX2_keep.data.toList.drop 140 = dktX2_keep_6 := dk_seg dksX2_keep_5 24 rfl rfl
theorem dX2_keep_0 : decode cX2_keep 0 = .ok (.aload_n 0, 1) := dk_42 (dk_at dksX2_keep_0 0 rfl rfl)
theorem dX2_keep_1 : decode cX2_keep 1 = .ok (.getfield 7, 3) := dk_180 0 7 (dk_at dksX2_keep_0 1 rfl rfl)
theorem dX2_keep_4 : decode cX2_keep 4 = .ok (.iconst 3, 1) := dk_6 (dk_at dksX2_keep_0 4 rfl rfl)
theorem dX2_keep_5 : decode cX2_keep 5 = .ok (.iaload, 1) := dk_46 (dk_at dksX2_keep_0 5 rfl rfl)
theorem dX2_keep_6 : decode cX2_keep 6 = .ok (.bipush 30, 2) := dk_16 30 (dk_at dksX2_keep_0 6 rfl rfl)
theorem dX2_keep_8 : decode cX2_keep 8 = .ok (.if_icmp .ne 47, 3) := dk_160 0 47 (dk_at dksX2_keep_0 8 rfl rfl)
theorem dX2_keep_11 : decode cX2_keep 11 = .ok (.iconst 0, 1) := dk_3 (dk_at dksX2_keep_0 11 rfl rfl)
theorem dX2_keep_12 : decode cX2_keep 12 = .ok (.istore_n 1, 1) := dk_60 (dk_at dksX2_keep_0 12 rfl rfl)
theorem dX2_keep_13 : decode cX2_keep 13 = .ok (.iload_n 1, 1) := dk_27 (dk_at dksX2_keep_0 13 rfl rfl)
theorem dX2_keep_14 : decode cX2_keep 14 = .ok (.sipush 2610, 3) := dk_17 10 50 (dk_at dksX2_keep_0 14 rfl rfl)
theorem dX2_keep_17 : decode cX2_keep 17 = .ok (.if_icmp .ge 28, 3) := dk_162 0 28 (dk_at dksX2_keep_0 17 rfl rfl)
theorem dX2_keep_20 : decode cX2_keep 20 = .ok (.aload_n 0, 1) := dk_42 (dk_at dksX2_keep_0 20 rfl rfl)
theorem dX2_keep_21 : decode cX2_keep 21 = .ok (.getfield 7, 3) := dk_180 0 7 (dk_at dksX2_keep_0 21 rfl rfl)
theorem dX2_keep_24 : decode cX2_keep 24 = .ok (.bipush 115, 2) := dk_16 115 (dk_at dksX2_keep_1 0 rfl rfl)
theorem dX2_keep_26 : decode cX2_keep 26 = .ok (.iload_n 1, 1) := dk_27 (dk_at dksX2_keep_1 2 rfl rfl)
theorem dX2_keep_27 : decode cX2_keep 27 = .ok (.iadd, 1) := dk_96 (dk_at dksX2_keep_1 3 rfl rfl)
theorem dX2_keep_28 : decode cX2_keep 28 = .ok (.aload_n 0, 1) := dk_42 (dk_at dksX2_keep_1 4 rfl rfl)
theorem dX2_keep_29 : decode cX2_keep 29 = .ok (.getfield 7, 3) := dk_180 0 7 (dk_at dksX2_keep_1 5 rfl rfl)
theorem dX2_keep_32 : decode cX2_keep 32 = .ok (.sipush 205, 3) := dk_17 0 205 (dk_at dksX2_keep_1 8 rfl rfl)
theorem dX2_keep_35 : decode cX2_keep 35 = .ok (.iload_n 1, 1) := dk_27 (dk_at dksX2_keep_1 11 rfl rfl)
theorem dX2_keep_36 : decode cX2_keep 36 = .ok (.iadd, 1) := dk_96 (dk_at dksX2_keep_1 12 rfl rfl)
theorem dX2_keep_37 : decode cX2_keep 37 = .ok (.iaload, 1) := dk_46 (dk_at dksX2_keep_1 13 rfl rfl)
theorem dX2_keep_38 : decode cX2_keep 38 = .ok (.iastore, 1) := dk_79 (dk_at dksX2_keep_1 14 rfl rfl)
theorem dX2_keep_39 : decode cX2_keep 39 = .ok (.iinc 1 1, 3) := dk_132 1 1 (dk_at dksX2_keep_1 15 rfl rfl)
theorem dX2_keep_42 : decode cX2_keep 42 = .ok (.goto (-29), 3) := dk_167 255 227 (dk_at dksX2_keep_1 18 rfl rfl)
theorem dX2_keep_45 : decode cX2_keep 45 = .ok (.aload_n 0, 1) := dk_42 (dk_at dksX2_keep_1 21 rfl rfl)
theorem dX2_keep_46 : decode cX2_keep 46 = .ok (.getfield 7, 3) := dk_180 0 7 (dk_at dksX2_keep_2 0 rfl rfl)
theorem dX2_keep_49 : decode cX2_keep 49 = .ok (.iconst 3, 1) := dk_6 (dk_at dksX2_keep_2 3 rfl rfl)
theorem dX2_keep_50 : decode cX2_keep 50 = .ok (.dup2, 1) := dk_92 (dk_at dksX2_keep_2 4 rfl rfl)
theorem dX2_keep_51 : decode cX2_keep 51 = .ok (.iaload, 1) := dk_46 (dk_at dksX2_keep_2 5 rfl rfl)
theorem dX2_keep_52 : decode cX2_keep 52 = .ok (.iconst 1, 1) := dk_4 (dk_at dksX2_keep_2 6 rfl rfl)
theorem dX2_keep_53 : decode cX2_keep 53 = .ok (.isub, 1) := dk_100 (dk_at dksX2_keep_2 7 rfl rfl)
theorem dX2_keep_54 : decode cX2_keep 54 = .ok (.iastore, 1) := dk_79 (dk_at dksX2_keep_2 8 rfl rfl)
theorem dX2_keep_55 : decode cX2_keep 55 = .ok (.bipush 115, 2) := dk_16 115 (dk_at dksX2_keep_2 9 rfl rfl)
theorem dX2_keep_57 : decode cX2_keep 57 = .ok (.bipush 90, 2) := dk_16 90 (dk_at dksX2_keep_2 11 rfl rfl)
theorem dX2_keep_59 : decode cX2_keep 59 = .ok (.aload_n 0, 1) := dk_42 (dk_at dksX2_keep_2 13 rfl rfl)
theorem dX2_keep_60 : decode cX2_keep 60 = .ok (.getfield 7, 3) := dk_180 0 7 (dk_at dksX2_keep_2 14 rfl rfl)
theorem dX2_keep_63 : decode cX2_keep 63 = .ok (.iconst 3, 1) := dk_6 (dk_at dksX2_keep_2 17 rfl rfl)
theorem dX2_keep_64 : decode cX2_keep 64 = .ok (.iaload, 1) := dk_46 (dk_at dksX2_keep_2 18 rfl rfl)
theorem dX2_keep_65 : decode cX2_keep 65 = .ok (.imul, 1) := dk_104 (dk_at dksX2_keep_2 19 rfl rfl)
theorem dX2_keep_66 : decode cX2_keep 66 = .ok (.iadd, 1) := dk_96 (dk_at dksX2_keep_2 20 rfl rfl)
theorem dX2_keep_67 : decode cX2_keep 67 = .ok (.istore_n 1, 1) := dk_60 (dk_at dksX2_keep_2 21 rfl rfl)
theorem dX2_keep_68 : decode cX2_keep 68 = .ok (.aload_n 0, 1) := dk_42 (dk_at dksX2_keep_2 22 rfl rfl)
theorem dX2_keep_69 : decode cX2_keep 69 = .ok (.getfield 7, 3) := dk_180 0 7 (dk_at dksX2_keep_3 0 rfl rfl)
theorem dX2_keep_72 : decode cX2_keep 72 = .ok (.iload_n 1, 1) := dk_27 (dk_at dksX2_keep_3 3 rfl rfl)
theorem dX2_keep_73 : decode cX2_keep 73 = .ok (.aload_n 0, 1) := dk_42 (dk_at dksX2_keep_3 4 rfl rfl)
theorem dX2_keep_74 : decode cX2_keep 74 = .ok (.getfield 7, 3) := dk_180 0 7 (dk_at dksX2_keep_3 5 rfl rfl)
theorem dX2_keep_77 : decode cX2_keep 77 = .ok (.iconst 0, 1) := dk_3 (dk_at dksX2_keep_3 8 rfl rfl)
theorem dX2_keep_78 : decode cX2_keep 78 = .ok (.iaload, 1) := dk_46 (dk_at dksX2_keep_3 9 rfl rfl)
theorem dX2_keep_79 : decode cX2_keep 79 = .ok (.iastore, 1) := dk_79 (dk_at dksX2_keep_3 10 rfl rfl)
theorem dX2_keep_80 : decode cX2_keep 80 = .ok (.iconst 0, 1) := dk_3 (dk_at dksX2_keep_3 11 rfl rfl)
theorem dX2_keep_81 : decode cX2_keep 81 = .ok (.istore_n 2, 1) := dk_61 (dk_at dksX2_keep_3 12 rfl rfl)
theorem dX2_keep_82 : decode cX2_keep 82 = .ok (.iload_n 2, 1) := dk_28 (dk_at dksX2_keep_3 13 rfl rfl)
theorem dX2_keep_83 : decode cX2_keep 83 = .ok (.bipush 29, 2) := dk_16 29 (dk_at dksX2_keep_3 14 rfl rfl)
theorem dX2_keep_85 : decode cX2_keep 85 = .ok (.if_icmp .ge 28, 3) := dk_162 0 28 (dk_at dksX2_keep_3 16 rfl rfl)
theorem dX2_keep_88 : decode cX2_keep 88 = .ok (.aload_n 0, 1) := dk_42 (dk_at dksX2_keep_3 19 rfl rfl)
theorem dX2_keep_89 : decode cX2_keep 89 = .ok (.getfield 7, 3) := dk_180 0 7 (dk_at dksX2_keep_3 20 rfl rfl)
theorem dX2_keep_92 : decode cX2_keep 92 = .ok (.iload_n 1, 1) := dk_27 (dk_at dksX2_keep_3 23 rfl rfl)
theorem dX2_keep_93 : decode cX2_keep 93 = .ok (.iconst 1, 1) := dk_4 (dk_at dksX2_keep_4 0 rfl rfl)
theorem dX2_keep_94 : decode cX2_keep 94 = .ok (.iadd, 1) := dk_96 (dk_at dksX2_keep_4 1 rfl rfl)
theorem dX2_keep_95 : decode cX2_keep 95 = .ok (.iload_n 2, 1) := dk_28 (dk_at dksX2_keep_4 2 rfl rfl)
theorem dX2_keep_96 : decode cX2_keep 96 = .ok (.iadd, 1) := dk_96 (dk_at dksX2_keep_4 3 rfl rfl)
theorem dX2_keep_97 : decode cX2_keep 97 = .ok (.aload_n 0, 1) := dk_42 (dk_at dksX2_keep_4 4 rfl rfl)
theorem dX2_keep_98 : decode cX2_keep 98 = .ok (.getfield 7, 3) := dk_180 0 7 (dk_at dksX2_keep_4 5 rfl rfl)
theorem dX2_keep_101 : decode cX2_keep 101 = .ok (.bipush 7, 2) := dk_16 7 (dk_at dksX2_keep_4 8 rfl rfl)
theorem dX2_keep_103 : decode cX2_keep 103 = .ok (.iload_n 2, 1) := dk_28 (dk_at dksX2_keep_4 10 rfl rfl)
theorem dX2_keep_104 : decode cX2_keep 104 = .ok (.iadd, 1) := dk_96 (dk_at dksX2_keep_4 11 rfl rfl)
theorem dX2_keep_105 : decode cX2_keep 105 = .ok (.iaload, 1) := dk_46 (dk_at dksX2_keep_4 12 rfl rfl)
theorem dX2_keep_106 : decode cX2_keep 106 = .ok (.iastore, 1) := dk_79 (dk_at dksX2_keep_4 13 rfl rfl)
theorem dX2_keep_107 : decode cX2_keep 107 = .ok (.iinc 2 1, 3) := dk_132 2 1 (dk_at dksX2_keep_4 14 rfl rfl)
theorem dX2_keep_110 : decode cX2_keep 110 = .ok (.goto (-28), 3) := dk_167 255 228 (dk_at dksX2_keep_4 17 rfl rfl)
theorem dX2_keep_113 : decode cX2_keep 113 = .ok (.iconst 0, 1) := dk_3 (dk_at dksX2_keep_4 20 rfl rfl)
theorem dX2_keep_114 : decode cX2_keep 114 = .ok (.istore_n 2, 1) := dk_61 (dk_at dksX2_keep_4 21 rfl rfl)
theorem dX2_keep_115 : decode cX2_keep 115 = .ok (.iload_n 2, 1) := dk_28 (dk_at dksX2_keep_4 22 rfl rfl)
theorem dX2_keep_116 : decode cX2_keep 116 = .ok (.bipush 60, 2) := dk_16 60 (dk_at dksX2_keep_5 0 rfl rfl)
theorem dX2_keep_118 : decode cX2_keep 118 = .ok (.if_icmp .ge 30, 3) := dk_162 0 30 (dk_at dksX2_keep_5 2 rfl rfl)
theorem dX2_keep_121 : decode cX2_keep 121 = .ok (.aload_n 0, 1) := dk_42 (dk_at dksX2_keep_5 5 rfl rfl)
theorem dX2_keep_122 : decode cX2_keep 122 = .ok (.getfield 7, 3) := dk_180 0 7 (dk_at dksX2_keep_5 6 rfl rfl)
theorem dX2_keep_125 : decode cX2_keep 125 = .ok (.iload_n 1, 1) := dk_27 (dk_at dksX2_keep_5 9 rfl rfl)
theorem dX2_keep_126 : decode cX2_keep 126 = .ok (.bipush 30, 2) := dk_16 30 (dk_at dksX2_keep_5 10 rfl rfl)
theorem dX2_keep_128 : decode cX2_keep 128 = .ok (.iadd, 1) := dk_96 (dk_at dksX2_keep_5 12 rfl rfl)
theorem dX2_keep_129 : decode cX2_keep 129 = .ok (.iload_n 2, 1) := dk_28 (dk_at dksX2_keep_5 13 rfl rfl)
theorem dX2_keep_130 : decode cX2_keep 130 = .ok (.iadd, 1) := dk_96 (dk_at dksX2_keep_5 14 rfl rfl)
theorem dX2_keep_131 : decode cX2_keep 131 = .ok (.aload_n 0, 1) := dk_42 (dk_at dksX2_keep_5 15 rfl rfl)
theorem dX2_keep_132 : decode cX2_keep 132 = .ok (.getfield 7, 3) := dk_180 0 7 (dk_at dksX2_keep_5 16 rfl rfl)
theorem dX2_keep_135 : decode cX2_keep 135 = .ok (.sipush 2815, 3) := dk_17 10 255 (dk_at dksX2_keep_5 19 rfl rfl)
theorem dX2_keep_138 : decode cX2_keep 138 = .ok (.iload_n 2, 1) := dk_28 (dk_at dksX2_keep_5 22 rfl rfl)
theorem dX2_keep_139 : decode cX2_keep 139 = .ok (.iadd, 1) := dk_96 (dk_at dksX2_keep_5 23 rfl rfl)
theorem dX2_keep_140 : decode cX2_keep 140 = .ok (.iaload, 1) := dk_46 (dk_at dksX2_keep_6 0 rfl rfl)
theorem dX2_keep_141 : decode cX2_keep 141 = .ok (.iastore, 1) := dk_79 (dk_at dksX2_keep_6 1 rfl rfl)
theorem dX2_keep_142 : decode cX2_keep 142 = .ok (.iinc 2 1, 3) := dk_132 2 1 (dk_at dksX2_keep_6 2 rfl rfl)
theorem dX2_keep_145 : decode cX2_keep 145 = .ok (.goto (-30), 3) := dk_167 255 226 (dk_at dksX2_keep_6 5 rfl rfl)
theorem dX2_keep_148 : decode cX2_keep 148 = .ok (.aload_n 0, 1) := dk_42 (dk_at dksX2_keep_6 8 rfl rfl)
theorem dX2_keep_149 : decode cX2_keep 149 = .ok (.getfield 7, 3) := dk_180 0 7 (dk_at dksX2_keep_6 9 rfl rfl)
theorem dX2_keep_152 : decode cX2_keep 152 = .ok (.iconst 3, 1) := dk_6 (dk_at dksX2_keep_6 12 rfl rfl)
theorem dX2_keep_153 : decode cX2_keep 153 = .ok (.dup2, 1) := dk_92 (dk_at dksX2_keep_6 13 rfl rfl)
theorem dX2_keep_154 : decode cX2_keep 154 = .ok (.iaload, 1) := dk_46 (dk_at dksX2_keep_6 14 rfl rfl)
theorem dX2_keep_155 : decode cX2_keep 155 = .ok (.iconst 1, 1) := dk_4 (dk_at dksX2_keep_6 15 rfl rfl)
theorem dX2_keep_156 : decode cX2_keep 156 = .ok (.iadd, 1) := dk_96 (dk_at dksX2_keep_6 16 rfl rfl)
theorem dX2_keep_157 : decode cX2_keep 157 = .ok (.iastore, 1) := dk_79 (dk_at dksX2_keep_6 17 rfl rfl)
theorem dX2_keep_158 : decode cX2_keep 158 = .ok (.return_, 1) := dk_177 (dk_at dksX2_keep_6 18 rfl rfl)
abbrev cX2_pawnNow : ByteArray := prog_20_method_80_code
def yX2_pawnNow : MethodName := ⟨RX2, "pawnNow", "(I)V"⟩
def dkwX2_pawnNow_3 : List UInt8 := [182, 1, 89, 177]
abbrev dktX2_pawnNow_3 : List UInt8 := dkwX2_pawnNow_3 ++ []
def dkwX2_pawnNow_2 : List UInt8 := [180, 0, 7, 16, 52, 27, 96, 46, 5, 108, 96, 133, 3, 17, 39, 15, 184, 1, 50, 79, 42, 27, 3]
abbrev dktX2_pawnNow_2 : List UInt8 := dkwX2_pawnNow_2 ++ dktX2_pawnNow_3
def dkwX2_pawnNow_1 : List UInt8 := [42, 180, 0, 7, 16, 7, 46, 79, 42, 180, 0, 7, 16, 9, 42, 180, 0, 7, 16, 9, 46, 42]
abbrev dktX2_pawnNow_1 : List UInt8 := dkwX2_pawnNow_1 ++ dktX2_pawnNow_2
def dkwX2_pawnNow_0 : List UInt8 := [42, 180, 0, 7, 16, 12, 6, 27, 104, 96, 4, 79, 42, 180, 0, 7, 16, 12, 6, 27, 104, 96, 4, 96]
abbrev dktX2_pawnNow_0 : List UInt8 := dkwX2_pawnNow_0 ++ dktX2_pawnNow_1
theorem dksX2_pawnNow_0 : cX2_pawnNow.data.toList.drop 0 = dktX2_pawnNow_0 := by decide +kernel
theorem dksX2_pawnNow_1 : cX2_pawnNow.data.toList.drop 24 = dktX2_pawnNow_1 := dk_seg dksX2_pawnNow_0 24 rfl rfl
theorem dksX2_pawnNow_2 : cX2_pawnNow.data.toList.drop 46 = dktX2_pawnNow_2 := dk_seg dksX2_pawnNow_1 22 rfl rfl
theorem dksX2_pawnNow_3 : cX2_pawnNow.data.toList.drop 69 = dktX2_pawnNow_3 := dk_seg dksX2_pawnNow_2 23 rfl rfl
theorem dX2_pawnNow_0 : decode cX2_pawnNow 0 = .ok (.aload_n 0, 1) := dk_42 (dk_at dksX2_pawnNow_0 0 rfl rfl)
theorem dX2_pawnNow_1 : decode cX2_pawnNow 1 = .ok (.getfield 7, 3) := dk_180 0 7 (dk_at dksX2_pawnNow_0 1 rfl rfl)
theorem dX2_pawnNow_4 : decode cX2_pawnNow 4 = .ok (.bipush 12, 2) := dk_16 12 (dk_at dksX2_pawnNow_0 4 rfl rfl)
theorem dX2_pawnNow_6 : decode cX2_pawnNow 6 = .ok (.iconst 3, 1) := dk_6 (dk_at dksX2_pawnNow_0 6 rfl rfl)
theorem dX2_pawnNow_7 : decode cX2_pawnNow 7 = .ok (.iload_n 1, 1) := dk_27 (dk_at dksX2_pawnNow_0 7 rfl rfl)
theorem dX2_pawnNow_8 : decode cX2_pawnNow 8 = .ok (.imul, 1) := dk_104 (dk_at dksX2_pawnNow_0 8 rfl rfl)
theorem dX2_pawnNow_9 : decode cX2_pawnNow 9 = .ok (.iadd, 1) := dk_96 (dk_at dksX2_pawnNow_0 9 rfl rfl)
theorem dX2_pawnNow_10 : decode cX2_pawnNow 10 = .ok (.iconst 1, 1) := dk_4 (dk_at dksX2_pawnNow_0 10 rfl rfl)
theorem dX2_pawnNow_11 : decode cX2_pawnNow 11 = .ok (.iastore, 1) := dk_79 (dk_at dksX2_pawnNow_0 11 rfl rfl)
theorem dX2_pawnNow_12 : decode cX2_pawnNow 12 = .ok (.aload_n 0, 1) := dk_42 (dk_at dksX2_pawnNow_0 12 rfl rfl)
theorem dX2_pawnNow_13 : decode cX2_pawnNow 13 = .ok (.getfield 7, 3) := dk_180 0 7 (dk_at dksX2_pawnNow_0 13 rfl rfl)
theorem dX2_pawnNow_16 : decode cX2_pawnNow 16 = .ok (.bipush 12, 2) := dk_16 12 (dk_at dksX2_pawnNow_0 16 rfl rfl)
theorem dX2_pawnNow_18 : decode cX2_pawnNow 18 = .ok (.iconst 3, 1) := dk_6 (dk_at dksX2_pawnNow_0 18 rfl rfl)
theorem dX2_pawnNow_19 : decode cX2_pawnNow 19 = .ok (.iload_n 1, 1) := dk_27 (dk_at dksX2_pawnNow_0 19 rfl rfl)
theorem dX2_pawnNow_20 : decode cX2_pawnNow 20 = .ok (.imul, 1) := dk_104 (dk_at dksX2_pawnNow_0 20 rfl rfl)
theorem dX2_pawnNow_21 : decode cX2_pawnNow 21 = .ok (.iadd, 1) := dk_96 (dk_at dksX2_pawnNow_0 21 rfl rfl)
theorem dX2_pawnNow_22 : decode cX2_pawnNow 22 = .ok (.iconst 1, 1) := dk_4 (dk_at dksX2_pawnNow_0 22 rfl rfl)
theorem dX2_pawnNow_23 : decode cX2_pawnNow 23 = .ok (.iadd, 1) := dk_96 (dk_at dksX2_pawnNow_0 23 rfl rfl)
theorem dX2_pawnNow_24 : decode cX2_pawnNow 24 = .ok (.aload_n 0, 1) := dk_42 (dk_at dksX2_pawnNow_1 0 rfl rfl)
theorem dX2_pawnNow_25 : decode cX2_pawnNow 25 = .ok (.getfield 7, 3) := dk_180 0 7 (dk_at dksX2_pawnNow_1 1 rfl rfl)
theorem dX2_pawnNow_28 : decode cX2_pawnNow 28 = .ok (.bipush 7, 2) := dk_16 7 (dk_at dksX2_pawnNow_1 4 rfl rfl)
theorem dX2_pawnNow_30 : decode cX2_pawnNow 30 = .ok (.iaload, 1) := dk_46 (dk_at dksX2_pawnNow_1 6 rfl rfl)
theorem dX2_pawnNow_31 : decode cX2_pawnNow 31 = .ok (.iastore, 1) := dk_79 (dk_at dksX2_pawnNow_1 7 rfl rfl)
theorem dX2_pawnNow_32 : decode cX2_pawnNow 32 = .ok (.aload_n 0, 1) := dk_42 (dk_at dksX2_pawnNow_1 8 rfl rfl)
theorem dX2_pawnNow_33 : decode cX2_pawnNow 33 = .ok (.getfield 7, 3) := dk_180 0 7 (dk_at dksX2_pawnNow_1 9 rfl rfl)
theorem dX2_pawnNow_36 : decode cX2_pawnNow 36 = .ok (.bipush 9, 2) := dk_16 9 (dk_at dksX2_pawnNow_1 12 rfl rfl)
theorem dX2_pawnNow_38 : decode cX2_pawnNow 38 = .ok (.aload_n 0, 1) := dk_42 (dk_at dksX2_pawnNow_1 14 rfl rfl)
theorem dX2_pawnNow_39 : decode cX2_pawnNow 39 = .ok (.getfield 7, 3) := dk_180 0 7 (dk_at dksX2_pawnNow_1 15 rfl rfl)
theorem dX2_pawnNow_42 : decode cX2_pawnNow 42 = .ok (.bipush 9, 2) := dk_16 9 (dk_at dksX2_pawnNow_1 18 rfl rfl)
theorem dX2_pawnNow_44 : decode cX2_pawnNow 44 = .ok (.iaload, 1) := dk_46 (dk_at dksX2_pawnNow_1 20 rfl rfl)
theorem dX2_pawnNow_45 : decode cX2_pawnNow 45 = .ok (.aload_n 0, 1) := dk_42 (dk_at dksX2_pawnNow_1 21 rfl rfl)
theorem dX2_pawnNow_46 : decode cX2_pawnNow 46 = .ok (.getfield 7, 3) := dk_180 0 7 (dk_at dksX2_pawnNow_2 0 rfl rfl)
theorem dX2_pawnNow_49 : decode cX2_pawnNow 49 = .ok (.bipush 52, 2) := dk_16 52 (dk_at dksX2_pawnNow_2 3 rfl rfl)
theorem dX2_pawnNow_51 : decode cX2_pawnNow 51 = .ok (.iload_n 1, 1) := dk_27 (dk_at dksX2_pawnNow_2 5 rfl rfl)
theorem dX2_pawnNow_52 : decode cX2_pawnNow 52 = .ok (.iadd, 1) := dk_96 (dk_at dksX2_pawnNow_2 6 rfl rfl)
theorem dX2_pawnNow_53 : decode cX2_pawnNow 53 = .ok (.iaload, 1) := dk_46 (dk_at dksX2_pawnNow_2 7 rfl rfl)
theorem dX2_pawnNow_54 : decode cX2_pawnNow 54 = .ok (.iconst 2, 1) := dk_5 (dk_at dksX2_pawnNow_2 8 rfl rfl)
theorem dX2_pawnNow_55 : decode cX2_pawnNow 55 = .ok (.idiv, 1) := dk_108 (dk_at dksX2_pawnNow_2 9 rfl rfl)
theorem dX2_pawnNow_56 : decode cX2_pawnNow 56 = .ok (.iadd, 1) := dk_96 (dk_at dksX2_pawnNow_2 10 rfl rfl)
theorem dX2_pawnNow_57 : decode cX2_pawnNow 57 = .ok (.i2l, 1) := dk_133 (dk_at dksX2_pawnNow_2 11 rfl rfl)
theorem dX2_pawnNow_58 : decode cX2_pawnNow 58 = .ok (.iconst 0, 1) := dk_3 (dk_at dksX2_pawnNow_2 12 rfl rfl)
theorem dX2_pawnNow_59 : decode cX2_pawnNow 59 = .ok (.sipush 9999, 3) := dk_17 39 15 (dk_at dksX2_pawnNow_2 13 rfl rfl)
theorem dX2_pawnNow_62 : decode cX2_pawnNow 62 = .ok (.invokestatic 306, 3) := dk_184 1 50 (dk_at dksX2_pawnNow_2 16 rfl rfl)
theorem dX2_pawnNow_65 : decode cX2_pawnNow 65 = .ok (.iastore, 1) := dk_79 (dk_at dksX2_pawnNow_2 19 rfl rfl)
theorem dX2_pawnNow_66 : decode cX2_pawnNow 66 = .ok (.aload_n 0, 1) := dk_42 (dk_at dksX2_pawnNow_2 20 rfl rfl)
theorem dX2_pawnNow_67 : decode cX2_pawnNow 67 = .ok (.iload_n 1, 1) := dk_27 (dk_at dksX2_pawnNow_2 21 rfl rfl)
theorem dX2_pawnNow_68 : decode cX2_pawnNow 68 = .ok (.iconst 0, 1) := dk_3 (dk_at dksX2_pawnNow_2 22 rfl rfl)
theorem dX2_pawnNow_69 : decode cX2_pawnNow 69 = .ok (.invokevirtual 345, 3) := dk_182 1 89 (dk_at dksX2_pawnNow_3 0 rfl rfl)
theorem dX2_pawnNow_72 : decode cX2_pawnNow 72 = .ok (.return_, 1) := dk_177 (dk_at dksX2_pawnNow_3 3 rfl rfl)
abbrev cX2_held : ByteArray := prog_20_method_4_code
def yX2_held : MethodName := ⟨RX2, "held", "(JII)I"⟩
def dkwX2_held_1 : List UInt8 := [172]
abbrev dktX2_held_1 : List UInt8 := dkwX2_held_1 ++ []
def dkwX2_held_0 : List UInt8 := [30, 28, 133, 148, 156, 0, 7, 28, 167, 0, 16, 30, 29, 133, 148, 158, 0, 7, 29, 167, 0, 5, 30, 136]
abbrev dktX2_held_0 : List UInt8 := dkwX2_held_0 ++ dktX2_held_1
theorem dksX2_held_0 : cX2_held.data.toList.drop 0 = dktX2_held_0 := by decide +kernel
theorem dksX2_held_1 : cX2_held.data.toList.drop 24 = dktX2_held_1 := dk_seg dksX2_held_0 24 rfl rfl
theorem dX2_held_0 : decode cX2_held 0 = .ok (.lload_n 0, 1) := dk_30 (dk_at dksX2_held_0 0 rfl rfl)
theorem dX2_held_1 : decode cX2_held 1 = .ok (.iload_n 2, 1) := dk_28 (dk_at dksX2_held_0 1 rfl rfl)
theorem dX2_held_2 : decode cX2_held 2 = .ok (.i2l, 1) := dk_133 (dk_at dksX2_held_0 2 rfl rfl)
theorem dX2_held_3 : decode cX2_held 3 = .ok (.lcmp, 1) := dk_148 (dk_at dksX2_held_0 3 rfl rfl)
theorem dX2_held_4 : decode cX2_held 4 = .ok (.ifCond .ge 7, 3) := dk_156 0 7 (dk_at dksX2_held_0 4 rfl rfl)
theorem dX2_held_7 : decode cX2_held 7 = .ok (.iload_n 2, 1) := dk_28 (dk_at dksX2_held_0 7 rfl rfl)
theorem dX2_held_8 : decode cX2_held 8 = .ok (.goto 16, 3) := dk_167 0 16 (dk_at dksX2_held_0 8 rfl rfl)
theorem dX2_held_11 : decode cX2_held 11 = .ok (.lload_n 0, 1) := dk_30 (dk_at dksX2_held_0 11 rfl rfl)
theorem dX2_held_12 : decode cX2_held 12 = .ok (.iload_n 3, 1) := dk_29 (dk_at dksX2_held_0 12 rfl rfl)
theorem dX2_held_13 : decode cX2_held 13 = .ok (.i2l, 1) := dk_133 (dk_at dksX2_held_0 13 rfl rfl)
theorem dX2_held_14 : decode cX2_held 14 = .ok (.lcmp, 1) := dk_148 (dk_at dksX2_held_0 14 rfl rfl)
theorem dX2_held_15 : decode cX2_held 15 = .ok (.ifCond .le 7, 3) := dk_158 0 7 (dk_at dksX2_held_0 15 rfl rfl)
theorem dX2_held_18 : decode cX2_held 18 = .ok (.iload_n 3, 1) := dk_29 (dk_at dksX2_held_0 18 rfl rfl)
theorem dX2_held_19 : decode cX2_held 19 = .ok (.goto 5, 3) := dk_167 0 5 (dk_at dksX2_held_0 19 rfl rfl)
theorem dX2_held_22 : decode cX2_held 22 = .ok (.lload_n 0, 1) := dk_30 (dk_at dksX2_held_0 22 rfl rfl)
theorem dX2_held_23 : decode cX2_held 23 = .ok (.l2i, 1) := dk_136 (dk_at dksX2_held_0 23 rfl rfl)
theorem dX2_held_24 : decode cX2_held 24 = .ok (.ireturn, 1) := dk_172 (dk_at dksX2_held_1 0 rfl rfl)
abbrev cX2_write : ByteArray := prog_20_method_76_code
def yX2_write : MethodName := ⟨RX2, "write", "(II)V"⟩
def dkwX2_write_6 : List UInt8 := [16, 9, 46, 79, 42, 180, 0, 7, 16, 11, 92, 46, 4, 96, 79, 177]
abbrev dktX2_write_6 : List UInt8 := dkwX2_write_6 ++ []
def dkwX2_write_5 : List UInt8 := [104, 28, 96, 79, 42, 180, 0, 7, 17, 11, 29, 42, 180, 0, 7, 16, 11, 46, 96, 42, 180, 0, 7]
abbrev dktX2_write_5 : List UInt8 := dkwX2_write_5 ++ dktX2_write_6
def dkwX2_write_4 : List UInt8 := [17, 10, 255, 42, 180, 0, 7, 16, 11, 46, 96, 42, 180, 0, 7, 16, 7, 46, 16, 8, 104, 27, 96, 6]
abbrev dktX2_write_4 : List UInt8 := dkwX2_write_4 ++ dktX2_write_5
def dkwX2_write_3 : List UInt8 := [79, 132, 3, 1, 167, 255, 203, 42, 180, 0, 7, 16, 11, 92, 46, 4, 100, 79, 42, 180, 0, 7]
abbrev dktX2_write_3 : List UInt8 := dkwX2_write_3 ++ dktX2_write_4
def dkwX2_write_2 : List UInt8 := [96, 46, 79, 42, 180, 0, 7, 17, 11, 29, 29, 96, 4, 100, 42, 180, 0, 7, 17, 11, 29, 29, 96, 46]
abbrev dktX2_write_2 : List UInt8 := dkwX2_write_2 ++ dktX2_write_3
def dkwX2_write_1 : List UInt8 := [16, 30, 162, 0, 53, 42, 180, 0, 7, 17, 10, 255, 29, 96, 4, 100, 42, 180, 0, 7, 17, 10, 255, 29]
abbrev dktX2_write_1 : List UInt8 := dkwX2_write_1 ++ dktX2_write_2
def dkwX2_write_0 : List UInt8 := [42, 180, 0, 43, 154, 0, 4, 177, 42, 180, 0, 7, 16, 11, 46, 16, 30, 160, 0, 72, 4, 62, 29]
abbrev dktX2_write_0 : List UInt8 := dkwX2_write_0 ++ dktX2_write_1
theorem dksX2_write_0 : cX2_write.data.toList.drop 0 = dktX2_write_0 := by decide +kernel
theorem dksX2_write_1 : cX2_write.data.toList.drop 23 = dktX2_write_1 := dk_seg dksX2_write_0 23 rfl rfl
theorem dksX2_write_2 : cX2_write.data.toList.drop 47 = dktX2_write_2 := dk_seg dksX2_write_1 24 rfl rfl
theorem dksX2_write_3 : cX2_write.data.toList.drop 71 = dktX2_write_3 := dk_seg dksX2_write_2 24 rfl rfl
theorem dksX2_write_4 : cX2_write.data.toList.drop 93 = dktX2_write_4 := dk_seg dksX2_write_3 22 rfl rfl
theorem dksX2_write_5 : cX2_write.data.toList.drop 117 = dktX2_write_5 := dk_seg dksX2_write_4 24 rfl rfl
theorem dksX2_write_6 : cX2_write.data.toList.drop 140 = dktX2_write_6 := dk_seg dksX2_write_5 23 rfl rfl
theorem dX2_write_0 : decode cX2_write 0 = .ok (.aload_n 0, 1) := dk_42 (dk_at dksX2_write_0 0 rfl rfl)
theorem dX2_write_1 : decode cX2_write 1 = .ok (.getfield 43, 3) := dk_180 0 43 (dk_at dksX2_write_0 1 rfl rfl)
theorem dX2_write_4 : decode cX2_write 4 = .ok (.ifCond .ne 4, 3) := dk_154 0 4 (dk_at dksX2_write_0 4 rfl rfl)
theorem dX2_write_7 : decode cX2_write 7 = .ok (.return_, 1) := dk_177 (dk_at dksX2_write_0 7 rfl rfl)
theorem dX2_write_8 : decode cX2_write 8 = .ok (.aload_n 0, 1) := dk_42 (dk_at dksX2_write_0 8 rfl rfl)
theorem dX2_write_9 : decode cX2_write 9 = .ok (.getfield 7, 3) := dk_180 0 7 (dk_at dksX2_write_0 9 rfl rfl)
theorem dX2_write_12 : decode cX2_write 12 = .ok (.bipush 11, 2) := dk_16 11 (dk_at dksX2_write_0 12 rfl rfl)
theorem dX2_write_14 : decode cX2_write 14 = .ok (.iaload, 1) := dk_46 (dk_at dksX2_write_0 14 rfl rfl)
theorem dX2_write_15 : decode cX2_write 15 = .ok (.bipush 30, 2) := dk_16 30 (dk_at dksX2_write_0 15 rfl rfl)
theorem dX2_write_17 : decode cX2_write 17 = .ok (.if_icmp .ne 72, 3) := dk_160 0 72 (dk_at dksX2_write_0 17 rfl rfl)
theorem dX2_write_20 : decode cX2_write 20 = .ok (.iconst 1, 1) := dk_4 (dk_at dksX2_write_0 20 rfl rfl)
theorem dX2_write_21 : decode cX2_write 21 = .ok (.istore_n 3, 1) := dk_62 (dk_at dksX2_write_0 21 rfl rfl)
theorem dX2_write_22 : decode cX2_write 22 = .ok (.iload_n 3, 1) := dk_29 (dk_at dksX2_write_0 22 rfl rfl)
theorem dX2_write_23 : decode cX2_write 23 = .ok (.bipush 30, 2) := dk_16 30 (dk_at dksX2_write_1 0 rfl rfl)
theorem dX2_write_25 : decode cX2_write 25 = .ok (.if_icmp .ge 53, 3) := dk_162 0 53 (dk_at dksX2_write_1 2 rfl rfl)
theorem dX2_write_28 : decode cX2_write 28 = .ok (.aload_n 0, 1) := dk_42 (dk_at dksX2_write_1 5 rfl rfl)
theorem dX2_write_29 : decode cX2_write 29 = .ok (.getfield 7, 3) := dk_180 0 7 (dk_at dksX2_write_1 6 rfl rfl)
theorem dX2_write_32 : decode cX2_write 32 = .ok (.sipush 2815, 3) := dk_17 10 255 (dk_at dksX2_write_1 9 rfl rfl)
theorem dX2_write_35 : decode cX2_write 35 = .ok (.iload_n 3, 1) := dk_29 (dk_at dksX2_write_1 12 rfl rfl)
theorem dX2_write_36 : decode cX2_write 36 = .ok (.iadd, 1) := dk_96 (dk_at dksX2_write_1 13 rfl rfl)
theorem dX2_write_37 : decode cX2_write 37 = .ok (.iconst 1, 1) := dk_4 (dk_at dksX2_write_1 14 rfl rfl)
theorem dX2_write_38 : decode cX2_write 38 = .ok (.isub, 1) := dk_100 (dk_at dksX2_write_1 15 rfl rfl)
theorem dX2_write_39 : decode cX2_write 39 = .ok (.aload_n 0, 1) := dk_42 (dk_at dksX2_write_1 16 rfl rfl)
theorem dX2_write_40 : decode cX2_write 40 = .ok (.getfield 7, 3) := dk_180 0 7 (dk_at dksX2_write_1 17 rfl rfl)
theorem dX2_write_43 : decode cX2_write 43 = .ok (.sipush 2815, 3) := dk_17 10 255 (dk_at dksX2_write_1 20 rfl rfl)
theorem dX2_write_46 : decode cX2_write 46 = .ok (.iload_n 3, 1) := dk_29 (dk_at dksX2_write_1 23 rfl rfl)
theorem dX2_write_47 : decode cX2_write 47 = .ok (.iadd, 1) := dk_96 (dk_at dksX2_write_2 0 rfl rfl)
theorem dX2_write_48 : decode cX2_write 48 = .ok (.iaload, 1) := dk_46 (dk_at dksX2_write_2 1 rfl rfl)
theorem dX2_write_49 : decode cX2_write 49 = .ok (.iastore, 1) := dk_79 (dk_at dksX2_write_2 2 rfl rfl)
theorem dX2_write_50 : decode cX2_write 50 = .ok (.aload_n 0, 1) := dk_42 (dk_at dksX2_write_2 3 rfl rfl)
theorem dX2_write_51 : decode cX2_write 51 = .ok (.getfield 7, 3) := dk_180 0 7 (dk_at dksX2_write_2 4 rfl rfl)
theorem dX2_write_54 : decode cX2_write 54 = .ok (.sipush 2845, 3) := dk_17 11 29 (dk_at dksX2_write_2 7 rfl rfl)
theorem dX2_write_57 : decode cX2_write 57 = .ok (.iload_n 3, 1) := dk_29 (dk_at dksX2_write_2 10 rfl rfl)
theorem dX2_write_58 : decode cX2_write 58 = .ok (.iadd, 1) := dk_96 (dk_at dksX2_write_2 11 rfl rfl)
theorem dX2_write_59 : decode cX2_write 59 = .ok (.iconst 1, 1) := dk_4 (dk_at dksX2_write_2 12 rfl rfl)
theorem dX2_write_60 : decode cX2_write 60 = .ok (.isub, 1) := dk_100 (dk_at dksX2_write_2 13 rfl rfl)
theorem dX2_write_61 : decode cX2_write 61 = .ok (.aload_n 0, 1) := dk_42 (dk_at dksX2_write_2 14 rfl rfl)
theorem dX2_write_62 : decode cX2_write 62 = .ok (.getfield 7, 3) := dk_180 0 7 (dk_at dksX2_write_2 15 rfl rfl)
theorem dX2_write_65 : decode cX2_write 65 = .ok (.sipush 2845, 3) := dk_17 11 29 (dk_at dksX2_write_2 18 rfl rfl)
theorem dX2_write_68 : decode cX2_write 68 = .ok (.iload_n 3, 1) := dk_29 (dk_at dksX2_write_2 21 rfl rfl)
theorem dX2_write_69 : decode cX2_write 69 = .ok (.iadd, 1) := dk_96 (dk_at dksX2_write_2 22 rfl rfl)
theorem dX2_write_70 : decode cX2_write 70 = .ok (.iaload, 1) := dk_46 (dk_at dksX2_write_2 23 rfl rfl)
theorem dX2_write_71 : decode cX2_write 71 = .ok (.iastore, 1) := dk_79 (dk_at dksX2_write_3 0 rfl rfl)
theorem dX2_write_72 : decode cX2_write 72 = .ok (.iinc 3 1, 3) := dk_132 3 1 (dk_at dksX2_write_3 1 rfl rfl)
theorem dX2_write_75 : decode cX2_write 75 = .ok (.goto (-53), 3) := dk_167 255 203 (dk_at dksX2_write_3 4 rfl rfl)
theorem dX2_write_78 : decode cX2_write 78 = .ok (.aload_n 0, 1) := dk_42 (dk_at dksX2_write_3 7 rfl rfl)
theorem dX2_write_79 : decode cX2_write 79 = .ok (.getfield 7, 3) := dk_180 0 7 (dk_at dksX2_write_3 8 rfl rfl)
theorem dX2_write_82 : decode cX2_write 82 = .ok (.bipush 11, 2) := dk_16 11 (dk_at dksX2_write_3 11 rfl rfl)
theorem dX2_write_84 : decode cX2_write 84 = .ok (.dup2, 1) := dk_92 (dk_at dksX2_write_3 13 rfl rfl)
theorem dX2_write_85 : decode cX2_write 85 = .ok (.iaload, 1) := dk_46 (dk_at dksX2_write_3 14 rfl rfl)
theorem dX2_write_86 : decode cX2_write 86 = .ok (.iconst 1, 1) := dk_4 (dk_at dksX2_write_3 15 rfl rfl)
theorem dX2_write_87 : decode cX2_write 87 = .ok (.isub, 1) := dk_100 (dk_at dksX2_write_3 16 rfl rfl)
theorem dX2_write_88 : decode cX2_write 88 = .ok (.iastore, 1) := dk_79 (dk_at dksX2_write_3 17 rfl rfl)
theorem dX2_write_89 : decode cX2_write 89 = .ok (.aload_n 0, 1) := dk_42 (dk_at dksX2_write_3 18 rfl rfl)
theorem dX2_write_90 : decode cX2_write 90 = .ok (.getfield 7, 3) := dk_180 0 7 (dk_at dksX2_write_3 19 rfl rfl)
theorem dX2_write_93 : decode cX2_write 93 = .ok (.sipush 2815, 3) := dk_17 10 255 (dk_at dksX2_write_4 0 rfl rfl)
theorem dX2_write_96 : decode cX2_write 96 = .ok (.aload_n 0, 1) := dk_42 (dk_at dksX2_write_4 3 rfl rfl)
theorem dX2_write_97 : decode cX2_write 97 = .ok (.getfield 7, 3) := dk_180 0 7 (dk_at dksX2_write_4 4 rfl rfl)
theorem dX2_write_100 : decode cX2_write 100 = .ok (.bipush 11, 2) := dk_16 11 (dk_at dksX2_write_4 7 rfl rfl)
theorem dX2_write_102 : decode cX2_write 102 = .ok (.iaload, 1) := dk_46 (dk_at dksX2_write_4 9 rfl rfl)
theorem dX2_write_103 : decode cX2_write 103 = .ok (.iadd, 1) := dk_96 (dk_at dksX2_write_4 10 rfl rfl)
theorem dX2_write_104 : decode cX2_write 104 = .ok (.aload_n 0, 1) := dk_42 (dk_at dksX2_write_4 11 rfl rfl)
theorem dX2_write_105 : decode cX2_write 105 = .ok (.getfield 7, 3) := dk_180 0 7 (dk_at dksX2_write_4 12 rfl rfl)
theorem dX2_write_108 : decode cX2_write 108 = .ok (.bipush 7, 2) := dk_16 7 (dk_at dksX2_write_4 15 rfl rfl)
theorem dX2_write_110 : decode cX2_write 110 = .ok (.iaload, 1) := dk_46 (dk_at dksX2_write_4 17 rfl rfl)
theorem dX2_write_111 : decode cX2_write 111 = .ok (.bipush 8, 2) := dk_16 8 (dk_at dksX2_write_4 18 rfl rfl)
theorem dX2_write_113 : decode cX2_write 113 = .ok (.imul, 1) := dk_104 (dk_at dksX2_write_4 20 rfl rfl)
theorem dX2_write_114 : decode cX2_write 114 = .ok (.iload_n 1, 1) := dk_27 (dk_at dksX2_write_4 21 rfl rfl)
theorem dX2_write_115 : decode cX2_write 115 = .ok (.iadd, 1) := dk_96 (dk_at dksX2_write_4 22 rfl rfl)
theorem dX2_write_116 : decode cX2_write 116 = .ok (.iconst 3, 1) := dk_6 (dk_at dksX2_write_4 23 rfl rfl)
theorem dX2_write_117 : decode cX2_write 117 = .ok (.imul, 1) := dk_104 (dk_at dksX2_write_5 0 rfl rfl)
theorem dX2_write_118 : decode cX2_write 118 = .ok (.iload_n 2, 1) := dk_28 (dk_at dksX2_write_5 1 rfl rfl)
theorem dX2_write_119 : decode cX2_write 119 = .ok (.iadd, 1) := dk_96 (dk_at dksX2_write_5 2 rfl rfl)
theorem dX2_write_120 : decode cX2_write 120 = .ok (.iastore, 1) := dk_79 (dk_at dksX2_write_5 3 rfl rfl)
theorem dX2_write_121 : decode cX2_write 121 = .ok (.aload_n 0, 1) := dk_42 (dk_at dksX2_write_5 4 rfl rfl)
theorem dX2_write_122 : decode cX2_write 122 = .ok (.getfield 7, 3) := dk_180 0 7 (dk_at dksX2_write_5 5 rfl rfl)
theorem dX2_write_125 : decode cX2_write 125 = .ok (.sipush 2845, 3) := dk_17 11 29 (dk_at dksX2_write_5 8 rfl rfl)
theorem dX2_write_128 : decode cX2_write 128 = .ok (.aload_n 0, 1) := dk_42 (dk_at dksX2_write_5 11 rfl rfl)
theorem dX2_write_129 : decode cX2_write 129 = .ok (.getfield 7, 3) := dk_180 0 7 (dk_at dksX2_write_5 12 rfl rfl)
theorem dX2_write_132 : decode cX2_write 132 = .ok (.bipush 11, 2) := dk_16 11 (dk_at dksX2_write_5 15 rfl rfl)
theorem dX2_write_134 : decode cX2_write 134 = .ok (.iaload, 1) := dk_46 (dk_at dksX2_write_5 17 rfl rfl)
theorem dX2_write_135 : decode cX2_write 135 = .ok (.iadd, 1) := dk_96 (dk_at dksX2_write_5 18 rfl rfl)
theorem dX2_write_136 : decode cX2_write 136 = .ok (.aload_n 0, 1) := dk_42 (dk_at dksX2_write_5 19 rfl rfl)
theorem dX2_write_137 : decode cX2_write 137 = .ok (.getfield 7, 3) := dk_180 0 7 (dk_at dksX2_write_5 20 rfl rfl)
theorem dX2_write_140 : decode cX2_write 140 = .ok (.bipush 9, 2) := dk_16 9 (dk_at dksX2_write_6 0 rfl rfl)
theorem dX2_write_142 : decode cX2_write 142 = .ok (.iaload, 1) := dk_46 (dk_at dksX2_write_6 2 rfl rfl)
theorem dX2_write_143 : decode cX2_write 143 = .ok (.iastore, 1) := dk_79 (dk_at dksX2_write_6 3 rfl rfl)
theorem dX2_write_144 : decode cX2_write 144 = .ok (.aload_n 0, 1) := dk_42 (dk_at dksX2_write_6 4 rfl rfl)
theorem dX2_write_145 : decode cX2_write 145 = .ok (.getfield 7, 3) := dk_180 0 7 (dk_at dksX2_write_6 5 rfl rfl)
theorem dX2_write_148 : decode cX2_write 148 = .ok (.bipush 11, 2) := dk_16 11 (dk_at dksX2_write_6 8 rfl rfl)
theorem dX2_write_150 : decode cX2_write 150 = .ok (.dup2, 1) := dk_92 (dk_at dksX2_write_6 10 rfl rfl)
theorem dX2_write_151 : decode cX2_write 151 = .ok (.iaload, 1) := dk_46 (dk_at dksX2_write_6 11 rfl rfl)
theorem dX2_write_152 : decode cX2_write 152 = .ok (.iconst 1, 1) := dk_4 (dk_at dksX2_write_6 12 rfl rfl)
theorem dX2_write_153 : decode cX2_write 153 = .ok (.iadd, 1) := dk_96 (dk_at dksX2_write_6 13 rfl rfl)
theorem dX2_write_154 : decode cX2_write 154 = .ok (.iastore, 1) := dk_79 (dk_at dksX2_write_6 14 rfl rfl)
theorem dX2_write_155 : decode cX2_write 155 = .ok (.return_, 1) := dk_177 (dk_at dksX2_write_6 15 rfl rfl)
abbrev cX2_redeem : ByteArray := prog_20_method_89_code
def yX2_redeem : MethodName := ⟨RX2, "redeem", "(I)I"⟩
def dkwX2_redeem_0 : List UInt8 := [42, 27, 182, 1, 113, 154, 0, 5, 2, 172, 42, 182, 1, 107, 42, 27, 182, 1, 116, 172]
abbrev dktX2_redeem_0 : List UInt8 := dkwX2_redeem_0 ++ []
theorem dksX2_redeem_0 : cX2_redeem.data.toList.drop 0 = dktX2_redeem_0 := by decide +kernel
theorem dX2_redeem_0 : decode cX2_redeem 0 = .ok (.aload_n 0, 1) := dk_42 (dk_at dksX2_redeem_0 0 rfl rfl)
theorem dX2_redeem_1 : decode cX2_redeem 1 = .ok (.iload_n 1, 1) := dk_27 (dk_at dksX2_redeem_0 1 rfl rfl)
theorem dX2_redeem_2 : decode cX2_redeem 2 = .ok (.invokevirtual 369, 3) := dk_182 1 113 (dk_at dksX2_redeem_0 2 rfl rfl)
theorem dX2_redeem_5 : decode cX2_redeem 5 = .ok (.ifCond .ne 5, 3) := dk_154 0 5 (dk_at dksX2_redeem_0 5 rfl rfl)
theorem dX2_redeem_8 : decode cX2_redeem 8 = .ok (.iconst (-1), 1) := dk_2 (dk_at dksX2_redeem_0 8 rfl rfl)
theorem dX2_redeem_9 : decode cX2_redeem 9 = .ok (.ireturn, 1) := dk_172 (dk_at dksX2_redeem_0 9 rfl rfl)
theorem dX2_redeem_10 : decode cX2_redeem 10 = .ok (.aload_n 0, 1) := dk_42 (dk_at dksX2_redeem_0 10 rfl rfl)
theorem dX2_redeem_11 : decode cX2_redeem 11 = .ok (.invokevirtual 363, 3) := dk_182 1 107 (dk_at dksX2_redeem_0 11 rfl rfl)
theorem dX2_redeem_14 : decode cX2_redeem 14 = .ok (.aload_n 0, 1) := dk_42 (dk_at dksX2_redeem_0 14 rfl rfl)
theorem dX2_redeem_15 : decode cX2_redeem 15 = .ok (.iload_n 1, 1) := dk_27 (dk_at dksX2_redeem_0 15 rfl rfl)
theorem dX2_redeem_16 : decode cX2_redeem 16 = .ok (.invokevirtual 372, 3) := dk_182 1 116 (dk_at dksX2_redeem_0 16 rfl rfl)
theorem dX2_redeem_19 : decode cX2_redeem 19 = .ok (.ireturn, 1) := dk_172 (dk_at dksX2_redeem_0 19 rfl rfl)
abbrev cX2_canRedeem : ByteArray := prog_20_method_81_code
def yX2_canRedeem : MethodName := ⟨RX2, "canRedeem", "(I)Z"⟩
def dkwX2_canRedeem_1 : List UInt8 := [27, 182, 1, 74, 161, 0, 7, 4, 167, 0, 4, 3, 172]
abbrev dktX2_canRedeem_1 : List UInt8 := dkwX2_canRedeem_1 ++ []
def dkwX2_canRedeem_0 : List UInt8 := [42, 27, 182, 1, 86, 153, 0, 30, 42, 27, 182, 0, 89, 153, 0, 22, 42, 180, 0, 7, 16, 9, 46, 42]
abbrev dktX2_canRedeem_0 : List UInt8 := dkwX2_canRedeem_0 ++ dktX2_canRedeem_1
theorem dksX2_canRedeem_0 : cX2_canRedeem.data.toList.drop 0 = dktX2_canRedeem_0 := by decide +kernel
theorem dksX2_canRedeem_1 : cX2_canRedeem.data.toList.drop 24 = dktX2_canRedeem_1 := dk_seg dksX2_canRedeem_0 24 rfl rfl
theorem dX2_canRedeem_0 : decode cX2_canRedeem 0 = .ok (.aload_n 0, 1) := dk_42 (dk_at dksX2_canRedeem_0 0 rfl rfl)
theorem dX2_canRedeem_1 : decode cX2_canRedeem 1 = .ok (.iload_n 1, 1) := dk_27 (dk_at dksX2_canRedeem_0 1 rfl rfl)
theorem dX2_canRedeem_2 : decode cX2_canRedeem 2 = .ok (.invokevirtual 342, 3) := dk_182 1 86 (dk_at dksX2_canRedeem_0 2 rfl rfl)
theorem dX2_canRedeem_5 : decode cX2_canRedeem 5 = .ok (.ifCond .eq 30, 3) := dk_153 0 30 (dk_at dksX2_canRedeem_0 5 rfl rfl)
theorem dX2_canRedeem_8 : decode cX2_canRedeem 8 = .ok (.aload_n 0, 1) := dk_42 (dk_at dksX2_canRedeem_0 8 rfl rfl)
theorem dX2_canRedeem_9 : decode cX2_canRedeem 9 = .ok (.iload_n 1, 1) := dk_27 (dk_at dksX2_canRedeem_0 9 rfl rfl)
theorem dX2_canRedeem_10 : decode cX2_canRedeem 10 = .ok (.invokevirtual 89, 3) := dk_182 0 89 (dk_at dksX2_canRedeem_0 10 rfl rfl)
theorem dX2_canRedeem_13 : decode cX2_canRedeem 13 = .ok (.ifCond .eq 22, 3) := dk_153 0 22 (dk_at dksX2_canRedeem_0 13 rfl rfl)
theorem dX2_canRedeem_16 : decode cX2_canRedeem 16 = .ok (.aload_n 0, 1) := dk_42 (dk_at dksX2_canRedeem_0 16 rfl rfl)
theorem dX2_canRedeem_17 : decode cX2_canRedeem 17 = .ok (.getfield 7, 3) := dk_180 0 7 (dk_at dksX2_canRedeem_0 17 rfl rfl)
theorem dX2_canRedeem_20 : decode cX2_canRedeem 20 = .ok (.bipush 9, 2) := dk_16 9 (dk_at dksX2_canRedeem_0 20 rfl rfl)
theorem dX2_canRedeem_22 : decode cX2_canRedeem 22 = .ok (.iaload, 1) := dk_46 (dk_at dksX2_canRedeem_0 22 rfl rfl)
theorem dX2_canRedeem_23 : decode cX2_canRedeem 23 = .ok (.aload_n 0, 1) := dk_42 (dk_at dksX2_canRedeem_0 23 rfl rfl)
theorem dX2_canRedeem_24 : decode cX2_canRedeem 24 = .ok (.iload_n 1, 1) := dk_27 (dk_at dksX2_canRedeem_1 0 rfl rfl)
theorem dX2_canRedeem_25 : decode cX2_canRedeem 25 = .ok (.invokevirtual 330, 3) := dk_182 1 74 (dk_at dksX2_canRedeem_1 1 rfl rfl)
theorem dX2_canRedeem_28 : decode cX2_canRedeem 28 = .ok (.if_icmp .lt 7, 3) := dk_161 0 7 (dk_at dksX2_canRedeem_1 4 rfl rfl)
theorem dX2_canRedeem_31 : decode cX2_canRedeem 31 = .ok (.iconst 1, 1) := dk_4 (dk_at dksX2_canRedeem_1 7 rfl rfl)
theorem dX2_canRedeem_32 : decode cX2_canRedeem 32 = .ok (.goto 4, 3) := dk_167 0 4 (dk_at dksX2_canRedeem_1 8 rfl rfl)
theorem dX2_canRedeem_35 : decode cX2_canRedeem 35 = .ok (.iconst 0, 1) := dk_3 (dk_at dksX2_canRedeem_1 11 rfl rfl)
theorem dX2_canRedeem_36 : decode cX2_canRedeem 36 = .ok (.ireturn, 1) := dk_172 (dk_at dksX2_canRedeem_1 12 rfl rfl)
abbrev cX2_isPawned : ByteArray := prog_20_method_12_code
def yX2_isPawned : MethodName := ⟨RX2, "isPawned", "(I)Z"⟩
def dkwX2_isPawned_0 : List UInt8 := [42, 27, 182, 0, 85, 4, 160, 0, 7, 4, 167, 0, 4, 3, 172]
abbrev dktX2_isPawned_0 : List UInt8 := dkwX2_isPawned_0 ++ []
theorem dksX2_isPawned_0 : cX2_isPawned.data.toList.drop 0 = dktX2_isPawned_0 := by decide +kernel
theorem dX2_isPawned_0 : decode cX2_isPawned 0 = .ok (.aload_n 0, 1) := dk_42 (dk_at dksX2_isPawned_0 0 rfl rfl)
theorem dX2_isPawned_1 : decode cX2_isPawned 1 = .ok (.iload_n 1, 1) := dk_27 (dk_at dksX2_isPawned_0 1 rfl rfl)
theorem dX2_isPawned_2 : decode cX2_isPawned 2 = .ok (.invokevirtual 85, 3) := dk_182 0 85 (dk_at dksX2_isPawned_0 2 rfl rfl)
theorem dX2_isPawned_5 : decode cX2_isPawned 5 = .ok (.iconst 1, 1) := dk_4 (dk_at dksX2_isPawned_0 5 rfl rfl)
theorem dX2_isPawned_6 : decode cX2_isPawned 6 = .ok (.if_icmp .ne 7, 3) := dk_160 0 7 (dk_at dksX2_isPawned_0 6 rfl rfl)
theorem dX2_isPawned_9 : decode cX2_isPawned 9 = .ok (.iconst 1, 1) := dk_4 (dk_at dksX2_isPawned_0 9 rfl rfl)
theorem dX2_isPawned_10 : decode cX2_isPawned 10 = .ok (.goto 4, 3) := dk_167 0 4 (dk_at dksX2_isPawned_0 10 rfl rfl)
theorem dX2_isPawned_13 : decode cX2_isPawned 13 = .ok (.iconst 0, 1) := dk_3 (dk_at dksX2_isPawned_0 13 rfl rfl)
theorem dX2_isPawned_14 : decode cX2_isPawned 14 = .ok (.ireturn, 1) := dk_172 (dk_at dksX2_isPawned_0 14 rfl rfl)
abbrev cX2_duesOf : ByteArray := prog_20_method_73_code
def yX2_duesOf : MethodName := ⟨RX2, "duesOf", "(I)I"⟩
def dkwX2_duesOf_0 : List UInt8 := [42, 42, 180, 0, 7, 5, 46, 27, 3, 42, 180, 0, 7, 16, 9, 46, 182, 1, 64, 172]
abbrev dktX2_duesOf_0 : List UInt8 := dkwX2_duesOf_0 ++ []
theorem dksX2_duesOf_0 : cX2_duesOf.data.toList.drop 0 = dktX2_duesOf_0 := by decide +kernel
theorem dX2_duesOf_0 : decode cX2_duesOf 0 = .ok (.aload_n 0, 1) := dk_42 (dk_at dksX2_duesOf_0 0 rfl rfl)
theorem dX2_duesOf_1 : decode cX2_duesOf 1 = .ok (.aload_n 0, 1) := dk_42 (dk_at dksX2_duesOf_0 1 rfl rfl)
theorem dX2_duesOf_2 : decode cX2_duesOf 2 = .ok (.getfield 7, 3) := dk_180 0 7 (dk_at dksX2_duesOf_0 2 rfl rfl)
theorem dX2_duesOf_5 : decode cX2_duesOf 5 = .ok (.iconst 2, 1) := dk_5 (dk_at dksX2_duesOf_0 5 rfl rfl)
theorem dX2_duesOf_6 : decode cX2_duesOf 6 = .ok (.iaload, 1) := dk_46 (dk_at dksX2_duesOf_0 6 rfl rfl)
theorem dX2_duesOf_7 : decode cX2_duesOf 7 = .ok (.iload_n 1, 1) := dk_27 (dk_at dksX2_duesOf_0 7 rfl rfl)
theorem dX2_duesOf_8 : decode cX2_duesOf 8 = .ok (.iconst 0, 1) := dk_3 (dk_at dksX2_duesOf_0 8 rfl rfl)
theorem dX2_duesOf_9 : decode cX2_duesOf 9 = .ok (.aload_n 0, 1) := dk_42 (dk_at dksX2_duesOf_0 9 rfl rfl)
theorem dX2_duesOf_10 : decode cX2_duesOf 10 = .ok (.getfield 7, 3) := dk_180 0 7 (dk_at dksX2_duesOf_0 10 rfl rfl)
theorem dX2_duesOf_13 : decode cX2_duesOf 13 = .ok (.bipush 9, 2) := dk_16 9 (dk_at dksX2_duesOf_0 13 rfl rfl)
theorem dX2_duesOf_15 : decode cX2_duesOf 15 = .ok (.iaload, 1) := dk_46 (dk_at dksX2_duesOf_0 15 rfl rfl)
theorem dX2_duesOf_16 : decode cX2_duesOf 16 = .ok (.invokevirtual 320, 3) := dk_182 1 64 (dk_at dksX2_duesOf_0 16 rfl rfl)
theorem dX2_duesOf_19 : decode cX2_duesOf 19 = .ok (.ireturn, 1) := dk_172 (dk_at dksX2_duesOf_0 19 rfl rfl)
abbrev cX2_duesBy : ByteArray := prog_20_method_72_code
def yX2_duesBy : MethodName := ⟨RX2, "duesBy", "(IIII)I"⟩
def dkwX2_duesBy_2 : List UInt8 := [182, 1, 60, 172]
abbrev dktX2_duesBy_2 : List UInt8 := dkwX2_duesBy_2 ++ []
def dkwX2_duesBy_1 : List UInt8 := [42, 180, 0, 32, 8, 46, 42, 180, 0, 32, 6, 46, 104, 16, 50, 108, 96, 133, 3, 17, 39, 15]
abbrev dktX2_duesBy_1 : List UInt8 := dkwX2_duesBy_1 ++ dktX2_duesBy_2
def dkwX2_duesBy_0 : List UInt8 := [42, 28, 29, 182, 1, 57, 42, 180, 0, 32, 16, 6, 21, 4, 79, 42, 27, 3, 42, 180, 0, 32, 6, 46]
abbrev dktX2_duesBy_0 : List UInt8 := dkwX2_duesBy_0 ++ dktX2_duesBy_1
theorem dksX2_duesBy_0 : cX2_duesBy.data.toList.drop 0 = dktX2_duesBy_0 := by decide +kernel
theorem dksX2_duesBy_1 : cX2_duesBy.data.toList.drop 24 = dktX2_duesBy_1 := dk_seg dksX2_duesBy_0 24 rfl rfl
theorem dksX2_duesBy_2 : cX2_duesBy.data.toList.drop 46 = dktX2_duesBy_2 := dk_seg dksX2_duesBy_1 22 rfl rfl
theorem dX2_duesBy_0 : decode cX2_duesBy 0 = .ok (.aload_n 0, 1) := dk_42 (dk_at dksX2_duesBy_0 0 rfl rfl)
theorem dX2_duesBy_1 : decode cX2_duesBy 1 = .ok (.iload_n 2, 1) := dk_28 (dk_at dksX2_duesBy_0 1 rfl rfl)
theorem dX2_duesBy_2 : decode cX2_duesBy 2 = .ok (.iload_n 3, 1) := dk_29 (dk_at dksX2_duesBy_0 2 rfl rfl)
theorem dX2_duesBy_3 : decode cX2_duesBy 3 = .ok (.invokevirtual 313, 3) := dk_182 1 57 (dk_at dksX2_duesBy_0 3 rfl rfl)
theorem dX2_duesBy_6 : decode cX2_duesBy 6 = .ok (.aload_n 0, 1) := dk_42 (dk_at dksX2_duesBy_0 6 rfl rfl)
theorem dX2_duesBy_7 : decode cX2_duesBy 7 = .ok (.getfield 32, 3) := dk_180 0 32 (dk_at dksX2_duesBy_0 7 rfl rfl)
theorem dX2_duesBy_10 : decode cX2_duesBy 10 = .ok (.bipush 6, 2) := dk_16 6 (dk_at dksX2_duesBy_0 10 rfl rfl)
theorem dX2_duesBy_12 : decode cX2_duesBy 12 = .ok (.iload 4, 2) := dk_21 4 (dk_at dksX2_duesBy_0 12 rfl rfl)
theorem dX2_duesBy_14 : decode cX2_duesBy 14 = .ok (.iastore, 1) := dk_79 (dk_at dksX2_duesBy_0 14 rfl rfl)
theorem dX2_duesBy_15 : decode cX2_duesBy 15 = .ok (.aload_n 0, 1) := dk_42 (dk_at dksX2_duesBy_0 15 rfl rfl)
theorem dX2_duesBy_16 : decode cX2_duesBy 16 = .ok (.iload_n 1, 1) := dk_27 (dk_at dksX2_duesBy_0 16 rfl rfl)
theorem dX2_duesBy_17 : decode cX2_duesBy 17 = .ok (.iconst 0, 1) := dk_3 (dk_at dksX2_duesBy_0 17 rfl rfl)
theorem dX2_duesBy_18 : decode cX2_duesBy 18 = .ok (.aload_n 0, 1) := dk_42 (dk_at dksX2_duesBy_0 18 rfl rfl)
theorem dX2_duesBy_19 : decode cX2_duesBy 19 = .ok (.getfield 32, 3) := dk_180 0 32 (dk_at dksX2_duesBy_0 19 rfl rfl)
theorem dX2_duesBy_22 : decode cX2_duesBy 22 = .ok (.iconst 3, 1) := dk_6 (dk_at dksX2_duesBy_0 22 rfl rfl)
theorem dX2_duesBy_23 : decode cX2_duesBy 23 = .ok (.iaload, 1) := dk_46 (dk_at dksX2_duesBy_0 23 rfl rfl)
theorem dX2_duesBy_24 : decode cX2_duesBy 24 = .ok (.aload_n 0, 1) := dk_42 (dk_at dksX2_duesBy_1 0 rfl rfl)
theorem dX2_duesBy_25 : decode cX2_duesBy 25 = .ok (.getfield 32, 3) := dk_180 0 32 (dk_at dksX2_duesBy_1 1 rfl rfl)
theorem dX2_duesBy_28 : decode cX2_duesBy 28 = .ok (.iconst 5, 1) := dk_8 (dk_at dksX2_duesBy_1 4 rfl rfl)
theorem dX2_duesBy_29 : decode cX2_duesBy 29 = .ok (.iaload, 1) := dk_46 (dk_at dksX2_duesBy_1 5 rfl rfl)
theorem dX2_duesBy_30 : decode cX2_duesBy 30 = .ok (.aload_n 0, 1) := dk_42 (dk_at dksX2_duesBy_1 6 rfl rfl)
theorem dX2_duesBy_31 : decode cX2_duesBy 31 = .ok (.getfield 32, 3) := dk_180 0 32 (dk_at dksX2_duesBy_1 7 rfl rfl)
theorem dX2_duesBy_34 : decode cX2_duesBy 34 = .ok (.iconst 3, 1) := dk_6 (dk_at dksX2_duesBy_1 10 rfl rfl)
theorem dX2_duesBy_35 : decode cX2_duesBy 35 = .ok (.iaload, 1) := dk_46 (dk_at dksX2_duesBy_1 11 rfl rfl)
theorem dX2_duesBy_36 : decode cX2_duesBy 36 = .ok (.imul, 1) := dk_104 (dk_at dksX2_duesBy_1 12 rfl rfl)
theorem dX2_duesBy_37 : decode cX2_duesBy 37 = .ok (.bipush 50, 2) := dk_16 50 (dk_at dksX2_duesBy_1 13 rfl rfl)
theorem dX2_duesBy_39 : decode cX2_duesBy 39 = .ok (.idiv, 1) := dk_108 (dk_at dksX2_duesBy_1 15 rfl rfl)
theorem dX2_duesBy_40 : decode cX2_duesBy 40 = .ok (.iadd, 1) := dk_96 (dk_at dksX2_duesBy_1 16 rfl rfl)
theorem dX2_duesBy_41 : decode cX2_duesBy 41 = .ok (.i2l, 1) := dk_133 (dk_at dksX2_duesBy_1 17 rfl rfl)
theorem dX2_duesBy_42 : decode cX2_duesBy 42 = .ok (.iconst 0, 1) := dk_3 (dk_at dksX2_duesBy_1 18 rfl rfl)
theorem dX2_duesBy_43 : decode cX2_duesBy 43 = .ok (.sipush 9999, 3) := dk_17 39 15 (dk_at dksX2_duesBy_1 19 rfl rfl)
theorem dX2_duesBy_46 : decode cX2_duesBy 46 = .ok (.invokevirtual 316, 3) := dk_182 1 60 (dk_at dksX2_duesBy_2 0 rfl rfl)
theorem dX2_duesBy_49 : decode cX2_duesBy 49 = .ok (.ireturn, 1) := dk_172 (dk_at dksX2_duesBy_2 3 rfl rfl)
abbrev cX2_name : ByteArray := prog_20_method_71_code
def yX2_name : MethodName := ⟨RX2, "name", "(II)V"⟩
def dkwX2_name_3 : List UInt8 := [153, 0, 13, 42, 27, 182, 1, 54, 28, 96, 167, 0, 4, 3, 79, 177]
abbrev dktX2_name_3 : List UInt8 := dkwX2_name_3 ++ []
def dkwX2_name_2 : List UInt8 := [46, 79, 42, 180, 0, 32, 7, 42, 27, 182, 1, 25, 79, 42, 180, 0, 32, 8, 42, 27, 182, 0, 89]
abbrev dktX2_name_2 : List UInt8 := dkwX2_name_2 ++ dktX2_name_3
def dkwX2_name_1 : List UInt8 := [16, 10, 46, 79, 42, 180, 0, 32, 5, 27, 79, 42, 180, 0, 32, 6, 42, 180, 0, 7, 16, 52, 27, 96]
abbrev dktX2_name_1 : List UInt8 := dkwX2_name_1 ++ dktX2_name_2
def dkwX2_name_0 : List UInt8 := [42, 180, 0, 32, 3, 42, 180, 0, 7, 16, 7, 46, 28, 96, 79, 42, 180, 0, 32, 4, 42, 180, 0, 7]
abbrev dktX2_name_0 : List UInt8 := dkwX2_name_0 ++ dktX2_name_1
theorem dksX2_name_0 : cX2_name.data.toList.drop 0 = dktX2_name_0 := by decide +kernel
theorem dksX2_name_1 : cX2_name.data.toList.drop 24 = dktX2_name_1 := dk_seg dksX2_name_0 24 rfl rfl
theorem dksX2_name_2 : cX2_name.data.toList.drop 48 = dktX2_name_2 := dk_seg dksX2_name_1 24 rfl rfl
theorem dksX2_name_3 : cX2_name.data.toList.drop 71 = dktX2_name_3 := dk_seg dksX2_name_2 23 rfl rfl
theorem dX2_name_0 : decode cX2_name 0 = .ok (.aload_n 0, 1) := dk_42 (dk_at dksX2_name_0 0 rfl rfl)
theorem dX2_name_1 : decode cX2_name 1 = .ok (.getfield 32, 3) := dk_180 0 32 (dk_at dksX2_name_0 1 rfl rfl)
theorem dX2_name_4 : decode cX2_name 4 = .ok (.iconst 0, 1) := dk_3 (dk_at dksX2_name_0 4 rfl rfl)
theorem dX2_name_5 : decode cX2_name 5 = .ok (.aload_n 0, 1) := dk_42 (dk_at dksX2_name_0 5 rfl rfl)
theorem dX2_name_6 : decode cX2_name 6 = .ok (.getfield 7, 3) := dk_180 0 7 (dk_at dksX2_name_0 6 rfl rfl)
theorem dX2_name_9 : decode cX2_name 9 = .ok (.bipush 7, 2) := dk_16 7 (dk_at dksX2_name_0 9 rfl rfl)
theorem dX2_name_11 : decode cX2_name 11 = .ok (.iaload, 1) := dk_46 (dk_at dksX2_name_0 11 rfl rfl)
theorem dX2_name_12 : decode cX2_name 12 = .ok (.iload_n 2, 1) := dk_28 (dk_at dksX2_name_0 12 rfl rfl)
theorem dX2_name_13 : decode cX2_name 13 = .ok (.iadd, 1) := dk_96 (dk_at dksX2_name_0 13 rfl rfl)
theorem dX2_name_14 : decode cX2_name 14 = .ok (.iastore, 1) := dk_79 (dk_at dksX2_name_0 14 rfl rfl)
theorem dX2_name_15 : decode cX2_name 15 = .ok (.aload_n 0, 1) := dk_42 (dk_at dksX2_name_0 15 rfl rfl)
theorem dX2_name_16 : decode cX2_name 16 = .ok (.getfield 32, 3) := dk_180 0 32 (dk_at dksX2_name_0 16 rfl rfl)
theorem dX2_name_19 : decode cX2_name 19 = .ok (.iconst 1, 1) := dk_4 (dk_at dksX2_name_0 19 rfl rfl)
theorem dX2_name_20 : decode cX2_name 20 = .ok (.aload_n 0, 1) := dk_42 (dk_at dksX2_name_0 20 rfl rfl)
theorem dX2_name_21 : decode cX2_name 21 = .ok (.getfield 7, 3) := dk_180 0 7 (dk_at dksX2_name_0 21 rfl rfl)
theorem dX2_name_24 : decode cX2_name 24 = .ok (.bipush 10, 2) := dk_16 10 (dk_at dksX2_name_1 0 rfl rfl)
theorem dX2_name_26 : decode cX2_name 26 = .ok (.iaload, 1) := dk_46 (dk_at dksX2_name_1 2 rfl rfl)
theorem dX2_name_27 : decode cX2_name 27 = .ok (.iastore, 1) := dk_79 (dk_at dksX2_name_1 3 rfl rfl)
theorem dX2_name_28 : decode cX2_name 28 = .ok (.aload_n 0, 1) := dk_42 (dk_at dksX2_name_1 4 rfl rfl)
theorem dX2_name_29 : decode cX2_name 29 = .ok (.getfield 32, 3) := dk_180 0 32 (dk_at dksX2_name_1 5 rfl rfl)
theorem dX2_name_32 : decode cX2_name 32 = .ok (.iconst 2, 1) := dk_5 (dk_at dksX2_name_1 8 rfl rfl)
theorem dX2_name_33 : decode cX2_name 33 = .ok (.iload_n 1, 1) := dk_27 (dk_at dksX2_name_1 9 rfl rfl)
theorem dX2_name_34 : decode cX2_name 34 = .ok (.iastore, 1) := dk_79 (dk_at dksX2_name_1 10 rfl rfl)
theorem dX2_name_35 : decode cX2_name 35 = .ok (.aload_n 0, 1) := dk_42 (dk_at dksX2_name_1 11 rfl rfl)
theorem dX2_name_36 : decode cX2_name 36 = .ok (.getfield 32, 3) := dk_180 0 32 (dk_at dksX2_name_1 12 rfl rfl)
theorem dX2_name_39 : decode cX2_name 39 = .ok (.iconst 3, 1) := dk_6 (dk_at dksX2_name_1 15 rfl rfl)
theorem dX2_name_40 : decode cX2_name 40 = .ok (.aload_n 0, 1) := dk_42 (dk_at dksX2_name_1 16 rfl rfl)
theorem dX2_name_41 : decode cX2_name 41 = .ok (.getfield 7, 3) := dk_180 0 7 (dk_at dksX2_name_1 17 rfl rfl)
theorem dX2_name_44 : decode cX2_name 44 = .ok (.bipush 52, 2) := dk_16 52 (dk_at dksX2_name_1 20 rfl rfl)
theorem dX2_name_46 : decode cX2_name 46 = .ok (.iload_n 1, 1) := dk_27 (dk_at dksX2_name_1 22 rfl rfl)
theorem dX2_name_47 : decode cX2_name 47 = .ok (.iadd, 1) := dk_96 (dk_at dksX2_name_1 23 rfl rfl)
theorem dX2_name_48 : decode cX2_name 48 = .ok (.iaload, 1) := dk_46 (dk_at dksX2_name_2 0 rfl rfl)
theorem dX2_name_49 : decode cX2_name 49 = .ok (.iastore, 1) := dk_79 (dk_at dksX2_name_2 1 rfl rfl)
theorem dX2_name_50 : decode cX2_name 50 = .ok (.aload_n 0, 1) := dk_42 (dk_at dksX2_name_2 2 rfl rfl)
theorem dX2_name_51 : decode cX2_name 51 = .ok (.getfield 32, 3) := dk_180 0 32 (dk_at dksX2_name_2 3 rfl rfl)
theorem dX2_name_54 : decode cX2_name 54 = .ok (.iconst 4, 1) := dk_7 (dk_at dksX2_name_2 6 rfl rfl)
theorem dX2_name_55 : decode cX2_name 55 = .ok (.aload_n 0, 1) := dk_42 (dk_at dksX2_name_2 7 rfl rfl)
theorem dX2_name_56 : decode cX2_name 56 = .ok (.iload_n 1, 1) := dk_27 (dk_at dksX2_name_2 8 rfl rfl)
theorem dX2_name_57 : decode cX2_name 57 = .ok (.invokevirtual 281, 3) := dk_182 1 25 (dk_at dksX2_name_2 9 rfl rfl)
theorem dX2_name_60 : decode cX2_name 60 = .ok (.iastore, 1) := dk_79 (dk_at dksX2_name_2 12 rfl rfl)
theorem dX2_name_61 : decode cX2_name 61 = .ok (.aload_n 0, 1) := dk_42 (dk_at dksX2_name_2 13 rfl rfl)
theorem dX2_name_62 : decode cX2_name 62 = .ok (.getfield 32, 3) := dk_180 0 32 (dk_at dksX2_name_2 14 rfl rfl)
theorem dX2_name_65 : decode cX2_name 65 = .ok (.iconst 5, 1) := dk_8 (dk_at dksX2_name_2 17 rfl rfl)
theorem dX2_name_66 : decode cX2_name 66 = .ok (.aload_n 0, 1) := dk_42 (dk_at dksX2_name_2 18 rfl rfl)
theorem dX2_name_67 : decode cX2_name 67 = .ok (.iload_n 1, 1) := dk_27 (dk_at dksX2_name_2 19 rfl rfl)
theorem dX2_name_68 : decode cX2_name 68 = .ok (.invokevirtual 89, 3) := dk_182 0 89 (dk_at dksX2_name_2 20 rfl rfl)
theorem dX2_name_71 : decode cX2_name 71 = .ok (.ifCond .eq 13, 3) := dk_153 0 13 (dk_at dksX2_name_3 0 rfl rfl)
theorem dX2_name_74 : decode cX2_name 74 = .ok (.aload_n 0, 1) := dk_42 (dk_at dksX2_name_3 3 rfl rfl)
theorem dX2_name_75 : decode cX2_name 75 = .ok (.iload_n 1, 1) := dk_27 (dk_at dksX2_name_3 4 rfl rfl)
theorem dX2_name_76 : decode cX2_name 76 = .ok (.invokevirtual 310, 3) := dk_182 1 54 (dk_at dksX2_name_3 5 rfl rfl)
theorem dX2_name_79 : decode cX2_name 79 = .ok (.iload_n 2, 1) := dk_28 (dk_at dksX2_name_3 8 rfl rfl)
theorem dX2_name_80 : decode cX2_name 80 = .ok (.iadd, 1) := dk_96 (dk_at dksX2_name_3 9 rfl rfl)
theorem dX2_name_81 : decode cX2_name 81 = .ok (.goto 4, 3) := dk_167 0 4 (dk_at dksX2_name_3 10 rfl rfl)
theorem dX2_name_84 : decode cX2_name 84 = .ok (.iconst 0, 1) := dk_3 (dk_at dksX2_name_3 13 rfl rfl)
theorem dX2_name_85 : decode cX2_name 85 = .ok (.iastore, 1) := dk_79 (dk_at dksX2_name_3 14 rfl rfl)
theorem dX2_name_86 : decode cX2_name 86 = .ok (.return_, 1) := dk_177 (dk_at dksX2_name_3 15 rfl rfl)
abbrev cX2_heatOf : ByteArray := prog_20_method_11_code
def yX2_heatOf : MethodName := ⟨RX2, "heatOf", "(I)I"⟩
def dkwX2_heatOf_0 : List UInt8 := [42, 180, 0, 7, 16, 12, 6, 27, 104, 96, 5, 96, 46, 172]
abbrev dktX2_heatOf_0 : List UInt8 := dkwX2_heatOf_0 ++ []
theorem dksX2_heatOf_0 : cX2_heatOf.data.toList.drop 0 = dktX2_heatOf_0 := by decide +kernel
theorem dX2_heatOf_0 : decode cX2_heatOf 0 = .ok (.aload_n 0, 1) := dk_42 (dk_at dksX2_heatOf_0 0 rfl rfl)
theorem dX2_heatOf_1 : decode cX2_heatOf 1 = .ok (.getfield 7, 3) := dk_180 0 7 (dk_at dksX2_heatOf_0 1 rfl rfl)
theorem dX2_heatOf_4 : decode cX2_heatOf 4 = .ok (.bipush 12, 2) := dk_16 12 (dk_at dksX2_heatOf_0 4 rfl rfl)
theorem dX2_heatOf_6 : decode cX2_heatOf 6 = .ok (.iconst 3, 1) := dk_6 (dk_at dksX2_heatOf_0 6 rfl rfl)
theorem dX2_heatOf_7 : decode cX2_heatOf 7 = .ok (.iload_n 1, 1) := dk_27 (dk_at dksX2_heatOf_0 7 rfl rfl)
theorem dX2_heatOf_8 : decode cX2_heatOf 8 = .ok (.imul, 1) := dk_104 (dk_at dksX2_heatOf_0 8 rfl rfl)
theorem dX2_heatOf_9 : decode cX2_heatOf 9 = .ok (.iadd, 1) := dk_96 (dk_at dksX2_heatOf_0 9 rfl rfl)
theorem dX2_heatOf_10 : decode cX2_heatOf 10 = .ok (.iconst 2, 1) := dk_5 (dk_at dksX2_heatOf_0 10 rfl rfl)
theorem dX2_heatOf_11 : decode cX2_heatOf 11 = .ok (.iadd, 1) := dk_96 (dk_at dksX2_heatOf_0 11 rfl rfl)
theorem dX2_heatOf_12 : decode cX2_heatOf 12 = .ok (.iaload, 1) := dk_46 (dk_at dksX2_heatOf_0 12 rfl rfl)
theorem dX2_heatOf_13 : decode cX2_heatOf 13 = .ok (.ireturn, 1) := dk_172 (dk_at dksX2_heatOf_0 13 rfl rfl)
abbrev cX2_daysOf : ByteArray := prog_20_method_13_code
def yX2_daysOf : MethodName := ⟨RX2, "daysOf", "(I)I"⟩
def dkwX2_daysOf_1 : List UInt8 := [96, 4, 96, 46, 100, 167, 0, 4, 3, 172]
abbrev dktX2_daysOf_1 : List UInt8 := dkwX2_daysOf_1 ++ []
def dkwX2_daysOf_0 : List UInt8 := [42, 27, 182, 0, 89, 153, 0, 27, 42, 180, 0, 7, 16, 7, 46, 42, 180, 0, 7, 16, 12, 6, 27, 104]
abbrev dktX2_daysOf_0 : List UInt8 := dkwX2_daysOf_0 ++ dktX2_daysOf_1
theorem dksX2_daysOf_0 : cX2_daysOf.data.toList.drop 0 = dktX2_daysOf_0 := by decide +kernel
theorem dksX2_daysOf_1 : cX2_daysOf.data.toList.drop 24 = dktX2_daysOf_1 := dk_seg dksX2_daysOf_0 24 rfl rfl
theorem dX2_daysOf_0 : decode cX2_daysOf 0 = .ok (.aload_n 0, 1) := dk_42 (dk_at dksX2_daysOf_0 0 rfl rfl)
theorem dX2_daysOf_1 : decode cX2_daysOf 1 = .ok (.iload_n 1, 1) := dk_27 (dk_at dksX2_daysOf_0 1 rfl rfl)
theorem dX2_daysOf_2 : decode cX2_daysOf 2 = .ok (.invokevirtual 89, 3) := dk_182 0 89 (dk_at dksX2_daysOf_0 2 rfl rfl)
theorem dX2_daysOf_5 : decode cX2_daysOf 5 = .ok (.ifCond .eq 27, 3) := dk_153 0 27 (dk_at dksX2_daysOf_0 5 rfl rfl)
theorem dX2_daysOf_8 : decode cX2_daysOf 8 = .ok (.aload_n 0, 1) := dk_42 (dk_at dksX2_daysOf_0 8 rfl rfl)
theorem dX2_daysOf_9 : decode cX2_daysOf 9 = .ok (.getfield 7, 3) := dk_180 0 7 (dk_at dksX2_daysOf_0 9 rfl rfl)
theorem dX2_daysOf_12 : decode cX2_daysOf 12 = .ok (.bipush 7, 2) := dk_16 7 (dk_at dksX2_daysOf_0 12 rfl rfl)
theorem dX2_daysOf_14 : decode cX2_daysOf 14 = .ok (.iaload, 1) := dk_46 (dk_at dksX2_daysOf_0 14 rfl rfl)
theorem dX2_daysOf_15 : decode cX2_daysOf 15 = .ok (.aload_n 0, 1) := dk_42 (dk_at dksX2_daysOf_0 15 rfl rfl)
theorem dX2_daysOf_16 : decode cX2_daysOf 16 = .ok (.getfield 7, 3) := dk_180 0 7 (dk_at dksX2_daysOf_0 16 rfl rfl)
theorem dX2_daysOf_19 : decode cX2_daysOf 19 = .ok (.bipush 12, 2) := dk_16 12 (dk_at dksX2_daysOf_0 19 rfl rfl)
theorem dX2_daysOf_21 : decode cX2_daysOf 21 = .ok (.iconst 3, 1) := dk_6 (dk_at dksX2_daysOf_0 21 rfl rfl)
theorem dX2_daysOf_22 : decode cX2_daysOf 22 = .ok (.iload_n 1, 1) := dk_27 (dk_at dksX2_daysOf_0 22 rfl rfl)
theorem dX2_daysOf_23 : decode cX2_daysOf 23 = .ok (.imul, 1) := dk_104 (dk_at dksX2_daysOf_0 23 rfl rfl)
theorem dX2_daysOf_24 : decode cX2_daysOf 24 = .ok (.iadd, 1) := dk_96 (dk_at dksX2_daysOf_1 0 rfl rfl)
theorem dX2_daysOf_25 : decode cX2_daysOf 25 = .ok (.iconst 1, 1) := dk_4 (dk_at dksX2_daysOf_1 1 rfl rfl)
theorem dX2_daysOf_26 : decode cX2_daysOf 26 = .ok (.iadd, 1) := dk_96 (dk_at dksX2_daysOf_1 2 rfl rfl)
theorem dX2_daysOf_27 : decode cX2_daysOf 27 = .ok (.iaload, 1) := dk_46 (dk_at dksX2_daysOf_1 3 rfl rfl)
theorem dX2_daysOf_28 : decode cX2_daysOf 28 = .ok (.isub, 1) := dk_100 (dk_at dksX2_daysOf_1 4 rfl rfl)
theorem dX2_daysOf_29 : decode cX2_daysOf 29 = .ok (.goto 4, 3) := dk_167 0 4 (dk_at dksX2_daysOf_1 5 rfl rfl)
theorem dX2_daysOf_32 : decode cX2_daysOf 32 = .ok (.iconst 0, 1) := dk_3 (dk_at dksX2_daysOf_1 8 rfl rfl)
theorem dX2_daysOf_33 : decode cX2_daysOf 33 = .ok (.ireturn, 1) := dk_172 (dk_at dksX2_daysOf_1 9 rfl rfl)
abbrev cX2_says : ByteArray := prog_20_method_70_code
def yX2_says : MethodName := ⟨RX2, "says", "(IIJII)I"⟩
def dkwX2_says_3 : List UInt8 := [184, 1, 50, 172]
abbrev dktX2_says_3 : List UInt8 := dkwX2_says_3 ++ []
def dkwX2_says_2 : List UInt8 := [182, 1, 47, 21, 5, 21, 6, 184, 1, 50, 172, 132, 7, 1, 167, 255, 198, 33, 21, 5, 21, 6]
abbrev dktX2_says_2 : List UInt8 := dkwX2_says_2 ++ dktX2_says_3
def dkwX2_says_1 : List UInt8 := [180, 0, 16, 17, 2, 193, 27, 104, 4, 96, 7, 21, 7, 104, 96, 46, 28, 160, 0, 18, 42, 27, 21, 7]
abbrev dktX2_says_1 : List UInt8 := dkwX2_says_1 ++ dktX2_says_2
def dkwX2_says_0 : List UInt8 := [3, 54, 7, 27, 155, 0, 60, 21, 7, 42, 180, 0, 16, 17, 2, 193, 27, 104, 46, 162, 0, 45, 42]
abbrev dktX2_says_0 : List UInt8 := dkwX2_says_0 ++ dktX2_says_1
theorem dksX2_says_0 : cX2_says.data.toList.drop 0 = dktX2_says_0 := by decide +kernel
theorem dksX2_says_1 : cX2_says.data.toList.drop 23 = dktX2_says_1 := dk_seg dksX2_says_0 23 rfl rfl
theorem dksX2_says_2 : cX2_says.data.toList.drop 47 = dktX2_says_2 := dk_seg dksX2_says_1 24 rfl rfl
theorem dksX2_says_3 : cX2_says.data.toList.drop 69 = dktX2_says_3 := dk_seg dksX2_says_2 22 rfl rfl
theorem dX2_says_0 : decode cX2_says 0 = .ok (.iconst 0, 1) := dk_3 (dk_at dksX2_says_0 0 rfl rfl)
theorem dX2_says_1 : decode cX2_says 1 = .ok (.istore 7, 2) := dk_54 7 (dk_at dksX2_says_0 1 rfl rfl)
theorem dX2_says_3 : decode cX2_says 3 = .ok (.iload_n 1, 1) := dk_27 (dk_at dksX2_says_0 3 rfl rfl)
theorem dX2_says_4 : decode cX2_says 4 = .ok (.ifCond .lt 60, 3) := dk_155 0 60 (dk_at dksX2_says_0 4 rfl rfl)
theorem dX2_says_7 : decode cX2_says 7 = .ok (.iload 7, 2) := dk_21 7 (dk_at dksX2_says_0 7 rfl rfl)
theorem dX2_says_9 : decode cX2_says 9 = .ok (.aload_n 0, 1) := dk_42 (dk_at dksX2_says_0 9 rfl rfl)
theorem dX2_says_10 : decode cX2_says 10 = .ok (.getfield 16, 3) := dk_180 0 16 (dk_at dksX2_says_0 10 rfl rfl)
theorem dX2_says_13 : decode cX2_says 13 = .ok (.sipush 705, 3) := dk_17 2 193 (dk_at dksX2_says_0 13 rfl rfl)
theorem dX2_says_16 : decode cX2_says 16 = .ok (.iload_n 1, 1) := dk_27 (dk_at dksX2_says_0 16 rfl rfl)
theorem dX2_says_17 : decode cX2_says 17 = .ok (.imul, 1) := dk_104 (dk_at dksX2_says_0 17 rfl rfl)
theorem dX2_says_18 : decode cX2_says 18 = .ok (.iaload, 1) := dk_46 (dk_at dksX2_says_0 18 rfl rfl)
theorem dX2_says_19 : decode cX2_says 19 = .ok (.if_icmp .ge 45, 3) := dk_162 0 45 (dk_at dksX2_says_0 19 rfl rfl)
theorem dX2_says_22 : decode cX2_says 22 = .ok (.aload_n 0, 1) := dk_42 (dk_at dksX2_says_0 22 rfl rfl)
theorem dX2_says_23 : decode cX2_says 23 = .ok (.getfield 16, 3) := dk_180 0 16 (dk_at dksX2_says_1 0 rfl rfl)
theorem dX2_says_26 : decode cX2_says 26 = .ok (.sipush 705, 3) := dk_17 2 193 (dk_at dksX2_says_1 3 rfl rfl)
theorem dX2_says_29 : decode cX2_says 29 = .ok (.iload_n 1, 1) := dk_27 (dk_at dksX2_says_1 6 rfl rfl)
theorem dX2_says_30 : decode cX2_says 30 = .ok (.imul, 1) := dk_104 (dk_at dksX2_says_1 7 rfl rfl)
theorem dX2_says_31 : decode cX2_says 31 = .ok (.iconst 1, 1) := dk_4 (dk_at dksX2_says_1 8 rfl rfl)
theorem dX2_says_32 : decode cX2_says 32 = .ok (.iadd, 1) := dk_96 (dk_at dksX2_says_1 9 rfl rfl)
theorem dX2_says_33 : decode cX2_says 33 = .ok (.iconst 4, 1) := dk_7 (dk_at dksX2_says_1 10 rfl rfl)
theorem dX2_says_34 : decode cX2_says 34 = .ok (.iload 7, 2) := dk_21 7 (dk_at dksX2_says_1 11 rfl rfl)
theorem dX2_says_36 : decode cX2_says 36 = .ok (.imul, 1) := dk_104 (dk_at dksX2_says_1 13 rfl rfl)
theorem dX2_says_37 : decode cX2_says 37 = .ok (.iadd, 1) := dk_96 (dk_at dksX2_says_1 14 rfl rfl)
theorem dX2_says_38 : decode cX2_says 38 = .ok (.iaload, 1) := dk_46 (dk_at dksX2_says_1 15 rfl rfl)
theorem dX2_says_39 : decode cX2_says 39 = .ok (.iload_n 2, 1) := dk_28 (dk_at dksX2_says_1 16 rfl rfl)
theorem dX2_says_40 : decode cX2_says 40 = .ok (.if_icmp .ne 18, 3) := dk_160 0 18 (dk_at dksX2_says_1 17 rfl rfl)
theorem dX2_says_43 : decode cX2_says 43 = .ok (.aload_n 0, 1) := dk_42 (dk_at dksX2_says_1 20 rfl rfl)
theorem dX2_says_44 : decode cX2_says 44 = .ok (.iload_n 1, 1) := dk_27 (dk_at dksX2_says_1 21 rfl rfl)
theorem dX2_says_45 : decode cX2_says 45 = .ok (.iload 7, 2) := dk_21 7 (dk_at dksX2_says_1 22 rfl rfl)
theorem dX2_says_47 : decode cX2_says 47 = .ok (.invokevirtual 303, 3) := dk_182 1 47 (dk_at dksX2_says_2 0 rfl rfl)
theorem dX2_says_50 : decode cX2_says 50 = .ok (.iload 5, 2) := dk_21 5 (dk_at dksX2_says_2 3 rfl rfl)
theorem dX2_says_52 : decode cX2_says 52 = .ok (.iload 6, 2) := dk_21 6 (dk_at dksX2_says_2 5 rfl rfl)
theorem dX2_says_54 : decode cX2_says 54 = .ok (.invokestatic 306, 3) := dk_184 1 50 (dk_at dksX2_says_2 7 rfl rfl)
theorem dX2_says_57 : decode cX2_says 57 = .ok (.ireturn, 1) := dk_172 (dk_at dksX2_says_2 10 rfl rfl)
theorem dX2_says_58 : decode cX2_says 58 = .ok (.iinc 7 1, 3) := dk_132 7 1 (dk_at dksX2_says_2 11 rfl rfl)
theorem dX2_says_61 : decode cX2_says 61 = .ok (.goto (-58), 3) := dk_167 255 198 (dk_at dksX2_says_2 14 rfl rfl)
theorem dX2_says_64 : decode cX2_says 64 = .ok (.lload_n 3, 1) := dk_33 (dk_at dksX2_says_2 17 rfl rfl)
theorem dX2_says_65 : decode cX2_says 65 = .ok (.iload 5, 2) := dk_21 5 (dk_at dksX2_says_2 18 rfl rfl)
theorem dX2_says_67 : decode cX2_says 67 = .ok (.iload 6, 2) := dk_21 6 (dk_at dksX2_says_2 20 rfl rfl)
theorem dX2_says_69 : decode cX2_says 69 = .ok (.invokestatic 306, 3) := dk_184 1 50 (dk_at dksX2_says_3 0 rfl rfl)
theorem dX2_says_72 : decode cX2_says 72 = .ok (.ireturn, 1) := dk_172 (dk_at dksX2_says_3 3 rfl rfl)
abbrev cX2_summedUp : ByteArray := prog_20_method_69_code
def yX2_summedUp : MethodName := ⟨RX2, "summedUp", "(II)J"⟩
def dkwX2_summedUp_17 : List UInt8 := [132, 7, 1, 167, 254, 147, 42, 180, 0, 35, 3, 47, 173]
abbrev dktX2_summedUp_17 : List UInt8 := dkwX2_summedUp_17 ++ []
def dkwX2_summedUp_16 : List UInt8 := [4, 100, 21, 8, 42, 180, 0, 39, 21, 6, 4, 100, 51, 42, 180, 0, 39, 21, 6, 51, 184, 1, 43, 84]
abbrev dktX2_summedUp_16 : List UInt8 := dkwX2_summedUp_16 ++ dktX2_summedUp_17
def dkwX2_summedUp_15 : List UInt8 := [4, 100, 51, 154, 0, 7, 4, 167, 0, 4, 3, 84, 167, 0, 36, 132, 6, 255, 42, 180, 0, 39, 21, 6]
abbrev dktX2_summedUp_15 : List UInt8 := dkwX2_summedUp_15 ++ dktX2_summedUp_16
def dkwX2_summedUp_14 : List UInt8 := [167, 0, 72, 21, 8, 16, 20, 160, 0, 32, 42, 180, 0, 39, 21, 6, 4, 100, 42, 180, 0, 39, 21, 6]
abbrev dktX2_summedUp_14 : List UInt8 := dkwX2_summedUp_14 ++ dktX2_summedUp_15
def dkwX2_summedUp_13 : List UInt8 := [180, 0, 35, 21, 5, 47, 42, 180, 0, 35, 21, 5, 4, 96, 47, 184, 1, 39, 84, 132, 6, 1]
abbrev dktX2_summedUp_13 : List UInt8 := dkwX2_summedUp_13 ++ dktX2_summedUp_14
def dkwX2_summedUp_12 : List UInt8 := [80, 167, 0, 116, 21, 8, 16, 20, 162, 0, 40, 132, 5, 254, 42, 180, 0, 39, 21, 6, 21, 8, 42]
abbrev dktX2_summedUp_12 : List UInt8 := dkwX2_summedUp_12 ++ dktX2_summedUp_13
def dkwX2_summedUp_11 : List UInt8 := [167, 0, 24, 21, 8, 42, 180, 0, 35, 21, 5, 4, 100, 47, 42, 180, 0, 35, 21, 5, 47, 184, 1, 35]
abbrev dktX2_summedUp_11 : List UInt8 := dkwX2_summedUp_11 ++ dktX2_summedUp_12
def dkwX2_summedUp_10 : List UInt8 := [160, 0, 25, 42, 180, 0, 35, 21, 5, 4, 100, 47, 42, 180, 0, 35, 21, 5, 47, 184, 1, 31]
abbrev dktX2_summedUp_10 : List UInt8 := dkwX2_summedUp_10 ++ dktX2_summedUp_11
def dkwX2_summedUp_9 : List UInt8 := [167, 0, 187, 21, 8, 16, 10, 162, 0, 67, 132, 5, 255, 42, 180, 0, 35, 21, 5, 4, 100, 21, 8, 7]
abbrev dktX2_summedUp_9 : List UInt8 := dkwX2_summedUp_9 ++ dktX2_summedUp_10
def dkwX2_summedUp_8 : List UInt8 := [21, 5, 4, 100, 47, 117, 167, 0, 16, 42, 42, 180, 0, 35, 21, 5, 4, 100, 47, 182, 1, 28, 80]
abbrev dktX2_summedUp_8 : List UInt8 := dkwX2_summedUp_8 ++ dktX2_summedUp_9
def dkwX2_summedUp_7 : List UInt8 := [21, 8, 5, 160, 0, 47, 42, 180, 0, 35, 21, 5, 4, 100, 21, 8, 8, 160, 0, 16, 42, 180, 0, 35]
abbrev dktX2_summedUp_7 : List UInt8 := dkwX2_summedUp_7 ++ dktX2_summedUp_8
def dkwX2_summedUp_6 : List UInt8 := [180, 0, 35, 21, 5, 4, 100, 42, 180, 0, 35, 21, 5, 47, 80, 167, 0, 243, 21, 8, 8, 159, 0, 9]
abbrev dktX2_summedUp_6 : List UInt8 := dkwX2_summedUp_6 ++ dktX2_summedUp_7
def dkwX2_summedUp_5 : List UInt8 := [21, 8, 6, 160, 0, 38, 132, 5, 255, 132, 6, 255, 42, 180, 0, 39, 21, 6, 51, 154, 1, 6, 42]
abbrev dktX2_summedUp_5 : List UInt8 := dkwX2_summedUp_5 ++ dktX2_summedUp_6
def dkwX2_summedUp_4 : List UInt8 := [154, 0, 9, 21, 9, 133, 167, 0, 11, 42, 180, 0, 32, 21, 9, 46, 133, 80, 132, 5, 1, 167, 1, 28]
abbrev dktX2_summedUp_4 : List UInt8 := dkwX2_summedUp_4 ++ dktX2_summedUp_5
def dkwX2_summedUp_3 : List UInt8 := [5, 21, 7, 104, 96, 4, 96, 46, 54, 9, 21, 8, 4, 163, 0, 35, 42, 180, 0, 35, 21, 5, 21, 8]
abbrev dktX2_summedUp_3 : List UInt8 := dkwX2_summedUp_3 ++ dktX2_summedUp_4
def dkwX2_summedUp_2 : List UInt8 := [46, 162, 1, 102, 42, 180, 0, 16, 21, 4, 5, 21, 7, 104, 96, 46, 54, 8, 42, 180, 0, 16, 21, 4]
abbrev dktX2_summedUp_2 : List UInt8 := dkwX2_summedUp_2 ++ dktX2_summedUp_3
def dkwX2_summedUp_1 : List UInt8 := [54, 5, 3, 54, 6, 42, 180, 0, 16, 29, 4, 96, 46, 54, 7, 21, 7, 42, 180, 0, 16, 29, 5, 96]
abbrev dktX2_summedUp_1 : List UInt8 := dkwX2_summedUp_1 ++ dktX2_summedUp_2
def dkwX2_summedUp_0 : List UInt8 := [17, 2, 193, 27, 104, 4, 96, 7, 28, 104, 96, 62, 17, 2, 193, 27, 104, 16, 97, 96, 54, 4, 3]
abbrev dktX2_summedUp_0 : List UInt8 := dkwX2_summedUp_0 ++ dktX2_summedUp_1
theorem dksX2_summedUp_0 : cX2_summedUp.data.toList.drop 0 = dktX2_summedUp_0 := by decide +kernel
theorem dksX2_summedUp_1 : cX2_summedUp.data.toList.drop 23 = dktX2_summedUp_1 := dk_seg dksX2_summedUp_0 23 rfl rfl
theorem dksX2_summedUp_2 : cX2_summedUp.data.toList.drop 47 = dktX2_summedUp_2 := dk_seg dksX2_summedUp_1 24 rfl rfl
theorem dksX2_summedUp_3 : cX2_summedUp.data.toList.drop 71 = dktX2_summedUp_3 := dk_seg dksX2_summedUp_2 24 rfl rfl
theorem dksX2_summedUp_4 : cX2_summedUp.data.toList.drop 95 = dktX2_summedUp_4 := dk_seg dksX2_summedUp_3 24 rfl rfl
theorem dksX2_summedUp_5 : cX2_summedUp.data.toList.drop 119 = dktX2_summedUp_5 := dk_seg dksX2_summedUp_4 24 rfl rfl
theorem dksX2_summedUp_6 : cX2_summedUp.data.toList.drop 142 = dktX2_summedUp_6 := dk_seg dksX2_summedUp_5 23 rfl rfl
theorem dksX2_summedUp_7 : cX2_summedUp.data.toList.drop 166 = dktX2_summedUp_7 := dk_seg dksX2_summedUp_6 24 rfl rfl
theorem dksX2_summedUp_8 : cX2_summedUp.data.toList.drop 190 = dktX2_summedUp_8 := dk_seg dksX2_summedUp_7 24 rfl rfl
theorem dksX2_summedUp_9 : cX2_summedUp.data.toList.drop 213 = dktX2_summedUp_9 := dk_seg dksX2_summedUp_8 23 rfl rfl
theorem dksX2_summedUp_10 : cX2_summedUp.data.toList.drop 237 = dktX2_summedUp_10 := dk_seg dksX2_summedUp_9 24 rfl rfl
theorem dksX2_summedUp_11 : cX2_summedUp.data.toList.drop 259 = dktX2_summedUp_11 := dk_seg dksX2_summedUp_10 22 rfl rfl
theorem dksX2_summedUp_12 : cX2_summedUp.data.toList.drop 283 = dktX2_summedUp_12 := dk_seg dksX2_summedUp_11 24 rfl rfl
theorem dksX2_summedUp_13 : cX2_summedUp.data.toList.drop 306 = dktX2_summedUp_13 := dk_seg dksX2_summedUp_12 23 rfl rfl
theorem dksX2_summedUp_14 : cX2_summedUp.data.toList.drop 328 = dktX2_summedUp_14 := dk_seg dksX2_summedUp_13 22 rfl rfl
theorem dksX2_summedUp_15 : cX2_summedUp.data.toList.drop 352 = dktX2_summedUp_15 := dk_seg dksX2_summedUp_14 24 rfl rfl
theorem dksX2_summedUp_16 : cX2_summedUp.data.toList.drop 376 = dktX2_summedUp_16 := dk_seg dksX2_summedUp_15 24 rfl rfl
theorem dksX2_summedUp_17 : cX2_summedUp.data.toList.drop 400 = dktX2_summedUp_17 := dk_seg dksX2_summedUp_16 24 rfl rfl
theorem dX2_summedUp_0 : decode cX2_summedUp 0 = .ok (.sipush 705, 3) := dk_17 2 193 (dk_at dksX2_summedUp_0 0 rfl rfl)
theorem dX2_summedUp_3 : decode cX2_summedUp 3 = .ok (.iload_n 1, 1) := dk_27 (dk_at dksX2_summedUp_0 3 rfl rfl)
theorem dX2_summedUp_4 : decode cX2_summedUp 4 = .ok (.imul, 1) := dk_104 (dk_at dksX2_summedUp_0 4 rfl rfl)
theorem dX2_summedUp_5 : decode cX2_summedUp 5 = .ok (.iconst 1, 1) := dk_4 (dk_at dksX2_summedUp_0 5 rfl rfl)
theorem dX2_summedUp_6 : decode cX2_summedUp 6 = .ok (.iadd, 1) := dk_96 (dk_at dksX2_summedUp_0 6 rfl rfl)
theorem dX2_summedUp_7 : decode cX2_summedUp 7 = .ok (.iconst 4, 1) := dk_7 (dk_at dksX2_summedUp_0 7 rfl rfl)
theorem dX2_summedUp_8 : decode cX2_summedUp 8 = .ok (.iload_n 2, 1) := dk_28 (dk_at dksX2_summedUp_0 8 rfl rfl)
theorem dX2_summedUp_9 : decode cX2_summedUp 9 = .ok (.imul, 1) := dk_104 (dk_at dksX2_summedUp_0 9 rfl rfl)
theorem dX2_summedUp_10 : decode cX2_summedUp 10 = .ok (.iadd, 1) := dk_96 (dk_at dksX2_summedUp_0 10 rfl rfl)
theorem dX2_summedUp_11 : decode cX2_summedUp 11 = .ok (.istore_n 3, 1) := dk_62 (dk_at dksX2_summedUp_0 11 rfl rfl)
theorem dX2_summedUp_12 : decode cX2_summedUp 12 = .ok (.sipush 705, 3) := dk_17 2 193 (dk_at dksX2_summedUp_0 12 rfl rfl)
theorem dX2_summedUp_15 : decode cX2_summedUp 15 = .ok (.iload_n 1, 1) := dk_27 (dk_at dksX2_summedUp_0 15 rfl rfl)
theorem dX2_summedUp_16 : decode cX2_summedUp 16 = .ok (.imul, 1) := dk_104 (dk_at dksX2_summedUp_0 16 rfl rfl)
theorem dX2_summedUp_17 : decode cX2_summedUp 17 = .ok (.bipush 97, 2) := dk_16 97 (dk_at dksX2_summedUp_0 17 rfl rfl)
theorem dX2_summedUp_19 : decode cX2_summedUp 19 = .ok (.iadd, 1) := dk_96 (dk_at dksX2_summedUp_0 19 rfl rfl)
theorem dX2_summedUp_20 : decode cX2_summedUp 20 = .ok (.istore 4, 2) := dk_54 4 (dk_at dksX2_summedUp_0 20 rfl rfl)
theorem dX2_summedUp_22 : decode cX2_summedUp 22 = .ok (.iconst 0, 1) := dk_3 (dk_at dksX2_summedUp_0 22 rfl rfl)
theorem dX2_summedUp_23 : decode cX2_summedUp 23 = .ok (.istore 5, 2) := dk_54 5 (dk_at dksX2_summedUp_1 0 rfl rfl)
theorem dX2_summedUp_25 : decode cX2_summedUp 25 = .ok (.iconst 0, 1) := dk_3 (dk_at dksX2_summedUp_1 2 rfl rfl)
theorem dX2_summedUp_26 : decode cX2_summedUp 26 = .ok (.istore 6, 2) := dk_54 6 (dk_at dksX2_summedUp_1 3 rfl rfl)
theorem dX2_summedUp_28 : decode cX2_summedUp 28 = .ok (.aload_n 0, 1) := dk_42 (dk_at dksX2_summedUp_1 5 rfl rfl)
theorem dX2_summedUp_29 : decode cX2_summedUp 29 = .ok (.getfield 16, 3) := dk_180 0 16 (dk_at dksX2_summedUp_1 6 rfl rfl)
theorem dX2_summedUp_32 : decode cX2_summedUp 32 = .ok (.iload_n 3, 1) := dk_29 (dk_at dksX2_summedUp_1 9 rfl rfl)
theorem dX2_summedUp_33 : decode cX2_summedUp 33 = .ok (.iconst 1, 1) := dk_4 (dk_at dksX2_summedUp_1 10 rfl rfl)
theorem dX2_summedUp_34 : decode cX2_summedUp 34 = .ok (.iadd, 1) := dk_96 (dk_at dksX2_summedUp_1 11 rfl rfl)
theorem dX2_summedUp_35 : decode cX2_summedUp 35 = .ok (.iaload, 1) := dk_46 (dk_at dksX2_summedUp_1 12 rfl rfl)
theorem dX2_summedUp_36 : decode cX2_summedUp 36 = .ok (.istore 7, 2) := dk_54 7 (dk_at dksX2_summedUp_1 13 rfl rfl)
theorem dX2_summedUp_38 : decode cX2_summedUp 38 = .ok (.iload 7, 2) := dk_21 7 (dk_at dksX2_summedUp_1 15 rfl rfl)
theorem dX2_summedUp_40 : decode cX2_summedUp 40 = .ok (.aload_n 0, 1) := dk_42 (dk_at dksX2_summedUp_1 17 rfl rfl)
theorem dX2_summedUp_41 : decode cX2_summedUp 41 = .ok (.getfield 16, 3) := dk_180 0 16 (dk_at dksX2_summedUp_1 18 rfl rfl)
theorem dX2_summedUp_44 : decode cX2_summedUp 44 = .ok (.iload_n 3, 1) := dk_29 (dk_at dksX2_summedUp_1 21 rfl rfl)
theorem dX2_summedUp_45 : decode cX2_summedUp 45 = .ok (.iconst 2, 1) := dk_5 (dk_at dksX2_summedUp_1 22 rfl rfl)
theorem dX2_summedUp_46 : decode cX2_summedUp 46 = .ok (.iadd, 1) := dk_96 (dk_at dksX2_summedUp_1 23 rfl rfl)
theorem dX2_summedUp_47 : decode cX2_summedUp 47 = .ok (.iaload, 1) := dk_46 (dk_at dksX2_summedUp_2 0 rfl rfl)
theorem dX2_summedUp_48 : decode cX2_summedUp 48 = .ok (.if_icmp .ge 358, 3) := dk_162 1 102 (dk_at dksX2_summedUp_2 1 rfl rfl)
theorem dX2_summedUp_51 : decode cX2_summedUp 51 = .ok (.aload_n 0, 1) := dk_42 (dk_at dksX2_summedUp_2 4 rfl rfl)
theorem dX2_summedUp_52 : decode cX2_summedUp 52 = .ok (.getfield 16, 3) := dk_180 0 16 (dk_at dksX2_summedUp_2 5 rfl rfl)
theorem dX2_summedUp_55 : decode cX2_summedUp 55 = .ok (.iload 4, 2) := dk_21 4 (dk_at dksX2_summedUp_2 8 rfl rfl)
theorem dX2_summedUp_57 : decode cX2_summedUp 57 = .ok (.iconst 2, 1) := dk_5 (dk_at dksX2_summedUp_2 10 rfl rfl)
theorem dX2_summedUp_58 : decode cX2_summedUp 58 = .ok (.iload 7, 2) := dk_21 7 (dk_at dksX2_summedUp_2 11 rfl rfl)
theorem dX2_summedUp_60 : decode cX2_summedUp 60 = .ok (.imul, 1) := dk_104 (dk_at dksX2_summedUp_2 13 rfl rfl)
theorem dX2_summedUp_61 : decode cX2_summedUp 61 = .ok (.iadd, 1) := dk_96 (dk_at dksX2_summedUp_2 14 rfl rfl)
theorem dX2_summedUp_62 : decode cX2_summedUp 62 = .ok (.iaload, 1) := dk_46 (dk_at dksX2_summedUp_2 15 rfl rfl)
theorem dX2_summedUp_63 : decode cX2_summedUp 63 = .ok (.istore 8, 2) := dk_54 8 (dk_at dksX2_summedUp_2 16 rfl rfl)
theorem dX2_summedUp_65 : decode cX2_summedUp 65 = .ok (.aload_n 0, 1) := dk_42 (dk_at dksX2_summedUp_2 18 rfl rfl)
theorem dX2_summedUp_66 : decode cX2_summedUp 66 = .ok (.getfield 16, 3) := dk_180 0 16 (dk_at dksX2_summedUp_2 19 rfl rfl)
theorem dX2_summedUp_69 : decode cX2_summedUp 69 = .ok (.iload 4, 2) := dk_21 4 (dk_at dksX2_summedUp_2 22 rfl rfl)
theorem dX2_summedUp_71 : decode cX2_summedUp 71 = .ok (.iconst 2, 1) := dk_5 (dk_at dksX2_summedUp_3 0 rfl rfl)
theorem dX2_summedUp_72 : decode cX2_summedUp 72 = .ok (.iload 7, 2) := dk_21 7 (dk_at dksX2_summedUp_3 1 rfl rfl)
theorem dX2_summedUp_74 : decode cX2_summedUp 74 = .ok (.imul, 1) := dk_104 (dk_at dksX2_summedUp_3 3 rfl rfl)
theorem dX2_summedUp_75 : decode cX2_summedUp 75 = .ok (.iadd, 1) := dk_96 (dk_at dksX2_summedUp_3 4 rfl rfl)
theorem dX2_summedUp_76 : decode cX2_summedUp 76 = .ok (.iconst 1, 1) := dk_4 (dk_at dksX2_summedUp_3 5 rfl rfl)
theorem dX2_summedUp_77 : decode cX2_summedUp 77 = .ok (.iadd, 1) := dk_96 (dk_at dksX2_summedUp_3 6 rfl rfl)
theorem dX2_summedUp_78 : decode cX2_summedUp 78 = .ok (.iaload, 1) := dk_46 (dk_at dksX2_summedUp_3 7 rfl rfl)
theorem dX2_summedUp_79 : decode cX2_summedUp 79 = .ok (.istore 9, 2) := dk_54 9 (dk_at dksX2_summedUp_3 8 rfl rfl)
theorem dX2_summedUp_81 : decode cX2_summedUp 81 = .ok (.iload 8, 2) := dk_21 8 (dk_at dksX2_summedUp_3 10 rfl rfl)
theorem dX2_summedUp_83 : decode cX2_summedUp 83 = .ok (.iconst 1, 1) := dk_4 (dk_at dksX2_summedUp_3 12 rfl rfl)
theorem dX2_summedUp_84 : decode cX2_summedUp 84 = .ok (.if_icmp .gt 35, 3) := dk_163 0 35 (dk_at dksX2_summedUp_3 13 rfl rfl)
theorem dX2_summedUp_87 : decode cX2_summedUp 87 = .ok (.aload_n 0, 1) := dk_42 (dk_at dksX2_summedUp_3 16 rfl rfl)
theorem dX2_summedUp_88 : decode cX2_summedUp 88 = .ok (.getfield 35, 3) := dk_180 0 35 (dk_at dksX2_summedUp_3 17 rfl rfl)
theorem dX2_summedUp_91 : decode cX2_summedUp 91 = .ok (.iload 5, 2) := dk_21 5 (dk_at dksX2_summedUp_3 20 rfl rfl)
theorem dX2_summedUp_93 : decode cX2_summedUp 93 = .ok (.iload 8, 2) := dk_21 8 (dk_at dksX2_summedUp_3 22 rfl rfl)
theorem dX2_summedUp_95 : decode cX2_summedUp 95 = .ok (.ifCond .ne 9, 3) := dk_154 0 9 (dk_at dksX2_summedUp_4 0 rfl rfl)
theorem dX2_summedUp_98 : decode cX2_summedUp 98 = .ok (.iload 9, 2) := dk_21 9 (dk_at dksX2_summedUp_4 3 rfl rfl)
theorem dX2_summedUp_100 : decode cX2_summedUp 100 = .ok (.i2l, 1) := dk_133 (dk_at dksX2_summedUp_4 5 rfl rfl)
theorem dX2_summedUp_101 : decode cX2_summedUp 101 = .ok (.goto 11, 3) := dk_167 0 11 (dk_at dksX2_summedUp_4 6 rfl rfl)
theorem dX2_summedUp_104 : decode cX2_summedUp 104 = .ok (.aload_n 0, 1) := dk_42 (dk_at dksX2_summedUp_4 9 rfl rfl)
theorem dX2_summedUp_105 : decode cX2_summedUp 105 = .ok (.getfield 32, 3) := dk_180 0 32 (dk_at dksX2_summedUp_4 10 rfl rfl)
theorem dX2_summedUp_108 : decode cX2_summedUp 108 = .ok (.iload 9, 2) := dk_21 9 (dk_at dksX2_summedUp_4 13 rfl rfl)
theorem dX2_summedUp_110 : decode cX2_summedUp 110 = .ok (.iaload, 1) := dk_46 (dk_at dksX2_summedUp_4 15 rfl rfl)
theorem dX2_summedUp_111 : decode cX2_summedUp 111 = .ok (.i2l, 1) := dk_133 (dk_at dksX2_summedUp_4 16 rfl rfl)
theorem dX2_summedUp_112 : decode cX2_summedUp 112 = .ok (.lastore, 1) := dk_80 (dk_at dksX2_summedUp_4 17 rfl rfl)
theorem dX2_summedUp_113 : decode cX2_summedUp 113 = .ok (.iinc 5 1, 3) := dk_132 5 1 (dk_at dksX2_summedUp_4 18 rfl rfl)
theorem dX2_summedUp_116 : decode cX2_summedUp 116 = .ok (.goto 284, 3) := dk_167 1 28 (dk_at dksX2_summedUp_4 21 rfl rfl)
theorem dX2_summedUp_119 : decode cX2_summedUp 119 = .ok (.iload 8, 2) := dk_21 8 (dk_at dksX2_summedUp_5 0 rfl rfl)
theorem dX2_summedUp_121 : decode cX2_summedUp 121 = .ok (.iconst 3, 1) := dk_6 (dk_at dksX2_summedUp_5 2 rfl rfl)
theorem dX2_summedUp_122 : decode cX2_summedUp 122 = .ok (.if_icmp .ne 38, 3) := dk_160 0 38 (dk_at dksX2_summedUp_5 3 rfl rfl)
theorem dX2_summedUp_125 : decode cX2_summedUp 125 = .ok (.iinc 5 (-1), 3) := dk_132 5 255 (dk_at dksX2_summedUp_5 6 rfl rfl)
theorem dX2_summedUp_128 : decode cX2_summedUp 128 = .ok (.iinc 6 (-1), 3) := dk_132 6 255 (dk_at dksX2_summedUp_5 9 rfl rfl)
theorem dX2_summedUp_131 : decode cX2_summedUp 131 = .ok (.aload_n 0, 1) := dk_42 (dk_at dksX2_summedUp_5 12 rfl rfl)
theorem dX2_summedUp_132 : decode cX2_summedUp 132 = .ok (.getfield 39, 3) := dk_180 0 39 (dk_at dksX2_summedUp_5 13 rfl rfl)
theorem dX2_summedUp_135 : decode cX2_summedUp 135 = .ok (.iload 6, 2) := dk_21 6 (dk_at dksX2_summedUp_5 16 rfl rfl)
theorem dX2_summedUp_137 : decode cX2_summedUp 137 = .ok (.baload, 1) := dk_51 (dk_at dksX2_summedUp_5 18 rfl rfl)
theorem dX2_summedUp_138 : decode cX2_summedUp 138 = .ok (.ifCond .ne 262, 3) := dk_154 1 6 (dk_at dksX2_summedUp_5 19 rfl rfl)
theorem dX2_summedUp_141 : decode cX2_summedUp 141 = .ok (.aload_n 0, 1) := dk_42 (dk_at dksX2_summedUp_5 22 rfl rfl)
theorem dX2_summedUp_142 : decode cX2_summedUp 142 = .ok (.getfield 35, 3) := dk_180 0 35 (dk_at dksX2_summedUp_6 0 rfl rfl)
theorem dX2_summedUp_145 : decode cX2_summedUp 145 = .ok (.iload 5, 2) := dk_21 5 (dk_at dksX2_summedUp_6 3 rfl rfl)
theorem dX2_summedUp_147 : decode cX2_summedUp 147 = .ok (.iconst 1, 1) := dk_4 (dk_at dksX2_summedUp_6 5 rfl rfl)
theorem dX2_summedUp_148 : decode cX2_summedUp 148 = .ok (.isub, 1) := dk_100 (dk_at dksX2_summedUp_6 6 rfl rfl)
theorem dX2_summedUp_149 : decode cX2_summedUp 149 = .ok (.aload_n 0, 1) := dk_42 (dk_at dksX2_summedUp_6 7 rfl rfl)
theorem dX2_summedUp_150 : decode cX2_summedUp 150 = .ok (.getfield 35, 3) := dk_180 0 35 (dk_at dksX2_summedUp_6 8 rfl rfl)
theorem dX2_summedUp_153 : decode cX2_summedUp 153 = .ok (.iload 5, 2) := dk_21 5 (dk_at dksX2_summedUp_6 11 rfl rfl)
theorem dX2_summedUp_155 : decode cX2_summedUp 155 = .ok (.laload, 1) := dk_47 (dk_at dksX2_summedUp_6 13 rfl rfl)
theorem dX2_summedUp_156 : decode cX2_summedUp 156 = .ok (.lastore, 1) := dk_80 (dk_at dksX2_summedUp_6 14 rfl rfl)
theorem dX2_summedUp_157 : decode cX2_summedUp 157 = .ok (.goto 243, 3) := dk_167 0 243 (dk_at dksX2_summedUp_6 15 rfl rfl)
theorem dX2_summedUp_160 : decode cX2_summedUp 160 = .ok (.iload 8, 2) := dk_21 8 (dk_at dksX2_summedUp_6 18 rfl rfl)
theorem dX2_summedUp_162 : decode cX2_summedUp 162 = .ok (.iconst 5, 1) := dk_8 (dk_at dksX2_summedUp_6 20 rfl rfl)
theorem dX2_summedUp_163 : decode cX2_summedUp 163 = .ok (.if_icmp .eq 9, 3) := dk_159 0 9 (dk_at dksX2_summedUp_6 21 rfl rfl)
theorem dX2_summedUp_166 : decode cX2_summedUp 166 = .ok (.iload 8, 2) := dk_21 8 (dk_at dksX2_summedUp_7 0 rfl rfl)
theorem dX2_summedUp_168 : decode cX2_summedUp 168 = .ok (.iconst 2, 1) := dk_5 (dk_at dksX2_summedUp_7 2 rfl rfl)
theorem dX2_summedUp_169 : decode cX2_summedUp 169 = .ok (.if_icmp .ne 47, 3) := dk_160 0 47 (dk_at dksX2_summedUp_7 3 rfl rfl)
theorem dX2_summedUp_172 : decode cX2_summedUp 172 = .ok (.aload_n 0, 1) := dk_42 (dk_at dksX2_summedUp_7 6 rfl rfl)
theorem dX2_summedUp_173 : decode cX2_summedUp 173 = .ok (.getfield 35, 3) := dk_180 0 35 (dk_at dksX2_summedUp_7 7 rfl rfl)
theorem dX2_summedUp_176 : decode cX2_summedUp 176 = .ok (.iload 5, 2) := dk_21 5 (dk_at dksX2_summedUp_7 10 rfl rfl)
theorem dX2_summedUp_178 : decode cX2_summedUp 178 = .ok (.iconst 1, 1) := dk_4 (dk_at dksX2_summedUp_7 12 rfl rfl)
theorem dX2_summedUp_179 : decode cX2_summedUp 179 = .ok (.isub, 1) := dk_100 (dk_at dksX2_summedUp_7 13 rfl rfl)
theorem dX2_summedUp_180 : decode cX2_summedUp 180 = .ok (.iload 8, 2) := dk_21 8 (dk_at dksX2_summedUp_7 14 rfl rfl)
theorem dX2_summedUp_182 : decode cX2_summedUp 182 = .ok (.iconst 5, 1) := dk_8 (dk_at dksX2_summedUp_7 16 rfl rfl)
theorem dX2_summedUp_183 : decode cX2_summedUp 183 = .ok (.if_icmp .ne 16, 3) := dk_160 0 16 (dk_at dksX2_summedUp_7 17 rfl rfl)
theorem dX2_summedUp_186 : decode cX2_summedUp 186 = .ok (.aload_n 0, 1) := dk_42 (dk_at dksX2_summedUp_7 20 rfl rfl)
theorem dX2_summedUp_187 : decode cX2_summedUp 187 = .ok (.getfield 35, 3) := dk_180 0 35 (dk_at dksX2_summedUp_7 21 rfl rfl)
theorem dX2_summedUp_190 : decode cX2_summedUp 190 = .ok (.iload 5, 2) := dk_21 5 (dk_at dksX2_summedUp_8 0 rfl rfl)
theorem dX2_summedUp_192 : decode cX2_summedUp 192 = .ok (.iconst 1, 1) := dk_4 (dk_at dksX2_summedUp_8 2 rfl rfl)
theorem dX2_summedUp_193 : decode cX2_summedUp 193 = .ok (.isub, 1) := dk_100 (dk_at dksX2_summedUp_8 3 rfl rfl)
theorem dX2_summedUp_194 : decode cX2_summedUp 194 = .ok (.laload, 1) := dk_47 (dk_at dksX2_summedUp_8 4 rfl rfl)
theorem dX2_summedUp_195 : decode cX2_summedUp 195 = .ok (.lneg, 1) := dk_117 (dk_at dksX2_summedUp_8 5 rfl rfl)
theorem dX2_summedUp_196 : decode cX2_summedUp 196 = .ok (.goto 16, 3) := dk_167 0 16 (dk_at dksX2_summedUp_8 6 rfl rfl)
theorem dX2_summedUp_199 : decode cX2_summedUp 199 = .ok (.aload_n 0, 1) := dk_42 (dk_at dksX2_summedUp_8 9 rfl rfl)
theorem dX2_summedUp_200 : decode cX2_summedUp 200 = .ok (.aload_n 0, 1) := dk_42 (dk_at dksX2_summedUp_8 10 rfl rfl)
theorem dX2_summedUp_201 : decode cX2_summedUp 201 = .ok (.getfield 35, 3) := dk_180 0 35 (dk_at dksX2_summedUp_8 11 rfl rfl)
theorem dX2_summedUp_204 : decode cX2_summedUp 204 = .ok (.iload 5, 2) := dk_21 5 (dk_at dksX2_summedUp_8 14 rfl rfl)
theorem dX2_summedUp_206 : decode cX2_summedUp 206 = .ok (.iconst 1, 1) := dk_4 (dk_at dksX2_summedUp_8 16 rfl rfl)
theorem dX2_summedUp_207 : decode cX2_summedUp 207 = .ok (.isub, 1) := dk_100 (dk_at dksX2_summedUp_8 17 rfl rfl)
theorem dX2_summedUp_208 : decode cX2_summedUp 208 = .ok (.laload, 1) := dk_47 (dk_at dksX2_summedUp_8 18 rfl rfl)
theorem dX2_summedUp_209 : decode cX2_summedUp 209 = .ok (.invokevirtual 284, 3) := dk_182 1 28 (dk_at dksX2_summedUp_8 19 rfl rfl)
theorem dX2_summedUp_212 : decode cX2_summedUp 212 = .ok (.lastore, 1) := dk_80 (dk_at dksX2_summedUp_8 22 rfl rfl)
theorem dX2_summedUp_213 : decode cX2_summedUp 213 = .ok (.goto 187, 3) := dk_167 0 187 (dk_at dksX2_summedUp_9 0 rfl rfl)
theorem dX2_summedUp_216 : decode cX2_summedUp 216 = .ok (.iload 8, 2) := dk_21 8 (dk_at dksX2_summedUp_9 3 rfl rfl)
theorem dX2_summedUp_218 : decode cX2_summedUp 218 = .ok (.bipush 10, 2) := dk_16 10 (dk_at dksX2_summedUp_9 5 rfl rfl)
theorem dX2_summedUp_220 : decode cX2_summedUp 220 = .ok (.if_icmp .ge 67, 3) := dk_162 0 67 (dk_at dksX2_summedUp_9 7 rfl rfl)
theorem dX2_summedUp_223 : decode cX2_summedUp 223 = .ok (.iinc 5 (-1), 3) := dk_132 5 255 (dk_at dksX2_summedUp_9 10 rfl rfl)
theorem dX2_summedUp_226 : decode cX2_summedUp 226 = .ok (.aload_n 0, 1) := dk_42 (dk_at dksX2_summedUp_9 13 rfl rfl)
theorem dX2_summedUp_227 : decode cX2_summedUp 227 = .ok (.getfield 35, 3) := dk_180 0 35 (dk_at dksX2_summedUp_9 14 rfl rfl)
theorem dX2_summedUp_230 : decode cX2_summedUp 230 = .ok (.iload 5, 2) := dk_21 5 (dk_at dksX2_summedUp_9 17 rfl rfl)
theorem dX2_summedUp_232 : decode cX2_summedUp 232 = .ok (.iconst 1, 1) := dk_4 (dk_at dksX2_summedUp_9 19 rfl rfl)
theorem dX2_summedUp_233 : decode cX2_summedUp 233 = .ok (.isub, 1) := dk_100 (dk_at dksX2_summedUp_9 20 rfl rfl)
theorem dX2_summedUp_234 : decode cX2_summedUp 234 = .ok (.iload 8, 2) := dk_21 8 (dk_at dksX2_summedUp_9 21 rfl rfl)
theorem dX2_summedUp_236 : decode cX2_summedUp 236 = .ok (.iconst 4, 1) := dk_7 (dk_at dksX2_summedUp_9 23 rfl rfl)
theorem dX2_summedUp_237 : decode cX2_summedUp 237 = .ok (.if_icmp .ne 25, 3) := dk_160 0 25 (dk_at dksX2_summedUp_10 0 rfl rfl)
theorem dX2_summedUp_240 : decode cX2_summedUp 240 = .ok (.aload_n 0, 1) := dk_42 (dk_at dksX2_summedUp_10 3 rfl rfl)
theorem dX2_summedUp_241 : decode cX2_summedUp 241 = .ok (.getfield 35, 3) := dk_180 0 35 (dk_at dksX2_summedUp_10 4 rfl rfl)
theorem dX2_summedUp_244 : decode cX2_summedUp 244 = .ok (.iload 5, 2) := dk_21 5 (dk_at dksX2_summedUp_10 7 rfl rfl)
theorem dX2_summedUp_246 : decode cX2_summedUp 246 = .ok (.iconst 1, 1) := dk_4 (dk_at dksX2_summedUp_10 9 rfl rfl)
theorem dX2_summedUp_247 : decode cX2_summedUp 247 = .ok (.isub, 1) := dk_100 (dk_at dksX2_summedUp_10 10 rfl rfl)
theorem dX2_summedUp_248 : decode cX2_summedUp 248 = .ok (.laload, 1) := dk_47 (dk_at dksX2_summedUp_10 11 rfl rfl)
theorem dX2_summedUp_249 : decode cX2_summedUp 249 = .ok (.aload_n 0, 1) := dk_42 (dk_at dksX2_summedUp_10 12 rfl rfl)
theorem dX2_summedUp_250 : decode cX2_summedUp 250 = .ok (.getfield 35, 3) := dk_180 0 35 (dk_at dksX2_summedUp_10 13 rfl rfl)
theorem dX2_summedUp_253 : decode cX2_summedUp 253 = .ok (.iload 5, 2) := dk_21 5 (dk_at dksX2_summedUp_10 16 rfl rfl)
theorem dX2_summedUp_255 : decode cX2_summedUp 255 = .ok (.laload, 1) := dk_47 (dk_at dksX2_summedUp_10 18 rfl rfl)
theorem dX2_summedUp_256 : decode cX2_summedUp 256 = .ok (.invokestatic 287, 3) := dk_184 1 31 (dk_at dksX2_summedUp_10 19 rfl rfl)
theorem dX2_summedUp_259 : decode cX2_summedUp 259 = .ok (.goto 24, 3) := dk_167 0 24 (dk_at dksX2_summedUp_11 0 rfl rfl)
theorem dX2_summedUp_262 : decode cX2_summedUp 262 = .ok (.iload 8, 2) := dk_21 8 (dk_at dksX2_summedUp_11 3 rfl rfl)
theorem dX2_summedUp_264 : decode cX2_summedUp 264 = .ok (.aload_n 0, 1) := dk_42 (dk_at dksX2_summedUp_11 5 rfl rfl)
theorem dX2_summedUp_265 : decode cX2_summedUp 265 = .ok (.getfield 35, 3) := dk_180 0 35 (dk_at dksX2_summedUp_11 6 rfl rfl)
theorem dX2_summedUp_268 : decode cX2_summedUp 268 = .ok (.iload 5, 2) := dk_21 5 (dk_at dksX2_summedUp_11 9 rfl rfl)
theorem dX2_summedUp_270 : decode cX2_summedUp 270 = .ok (.iconst 1, 1) := dk_4 (dk_at dksX2_summedUp_11 11 rfl rfl)
theorem dX2_summedUp_271 : decode cX2_summedUp 271 = .ok (.isub, 1) := dk_100 (dk_at dksX2_summedUp_11 12 rfl rfl)
theorem dX2_summedUp_272 : decode cX2_summedUp 272 = .ok (.laload, 1) := dk_47 (dk_at dksX2_summedUp_11 13 rfl rfl)
theorem dX2_summedUp_273 : decode cX2_summedUp 273 = .ok (.aload_n 0, 1) := dk_42 (dk_at dksX2_summedUp_11 14 rfl rfl)
theorem dX2_summedUp_274 : decode cX2_summedUp 274 = .ok (.getfield 35, 3) := dk_180 0 35 (dk_at dksX2_summedUp_11 15 rfl rfl)
theorem dX2_summedUp_277 : decode cX2_summedUp 277 = .ok (.iload 5, 2) := dk_21 5 (dk_at dksX2_summedUp_11 18 rfl rfl)
theorem dX2_summedUp_279 : decode cX2_summedUp 279 = .ok (.laload, 1) := dk_47 (dk_at dksX2_summedUp_11 20 rfl rfl)
theorem dX2_summedUp_280 : decode cX2_summedUp 280 = .ok (.invokestatic 291, 3) := dk_184 1 35 (dk_at dksX2_summedUp_11 21 rfl rfl)
theorem dX2_summedUp_283 : decode cX2_summedUp 283 = .ok (.lastore, 1) := dk_80 (dk_at dksX2_summedUp_12 0 rfl rfl)
theorem dX2_summedUp_284 : decode cX2_summedUp 284 = .ok (.goto 116, 3) := dk_167 0 116 (dk_at dksX2_summedUp_12 1 rfl rfl)
theorem dX2_summedUp_287 : decode cX2_summedUp 287 = .ok (.iload 8, 2) := dk_21 8 (dk_at dksX2_summedUp_12 4 rfl rfl)
theorem dX2_summedUp_289 : decode cX2_summedUp 289 = .ok (.bipush 20, 2) := dk_16 20 (dk_at dksX2_summedUp_12 6 rfl rfl)
theorem dX2_summedUp_291 : decode cX2_summedUp 291 = .ok (.if_icmp .ge 40, 3) := dk_162 0 40 (dk_at dksX2_summedUp_12 8 rfl rfl)
theorem dX2_summedUp_294 : decode cX2_summedUp 294 = .ok (.iinc 5 (-2), 3) := dk_132 5 254 (dk_at dksX2_summedUp_12 11 rfl rfl)
theorem dX2_summedUp_297 : decode cX2_summedUp 297 = .ok (.aload_n 0, 1) := dk_42 (dk_at dksX2_summedUp_12 14 rfl rfl)
theorem dX2_summedUp_298 : decode cX2_summedUp 298 = .ok (.getfield 39, 3) := dk_180 0 39 (dk_at dksX2_summedUp_12 15 rfl rfl)
theorem dX2_summedUp_301 : decode cX2_summedUp 301 = .ok (.iload 6, 2) := dk_21 6 (dk_at dksX2_summedUp_12 18 rfl rfl)
theorem dX2_summedUp_303 : decode cX2_summedUp 303 = .ok (.iload 8, 2) := dk_21 8 (dk_at dksX2_summedUp_12 20 rfl rfl)
theorem dX2_summedUp_305 : decode cX2_summedUp 305 = .ok (.aload_n 0, 1) := dk_42 (dk_at dksX2_summedUp_12 22 rfl rfl)
theorem dX2_summedUp_306 : decode cX2_summedUp 306 = .ok (.getfield 35, 3) := dk_180 0 35 (dk_at dksX2_summedUp_13 0 rfl rfl)
theorem dX2_summedUp_309 : decode cX2_summedUp 309 = .ok (.iload 5, 2) := dk_21 5 (dk_at dksX2_summedUp_13 3 rfl rfl)
theorem dX2_summedUp_311 : decode cX2_summedUp 311 = .ok (.laload, 1) := dk_47 (dk_at dksX2_summedUp_13 5 rfl rfl)
theorem dX2_summedUp_312 : decode cX2_summedUp 312 = .ok (.aload_n 0, 1) := dk_42 (dk_at dksX2_summedUp_13 6 rfl rfl)
theorem dX2_summedUp_313 : decode cX2_summedUp 313 = .ok (.getfield 35, 3) := dk_180 0 35 (dk_at dksX2_summedUp_13 7 rfl rfl)
theorem dX2_summedUp_316 : decode cX2_summedUp 316 = .ok (.iload 5, 2) := dk_21 5 (dk_at dksX2_summedUp_13 10 rfl rfl)
theorem dX2_summedUp_318 : decode cX2_summedUp 318 = .ok (.iconst 1, 1) := dk_4 (dk_at dksX2_summedUp_13 12 rfl rfl)
theorem dX2_summedUp_319 : decode cX2_summedUp 319 = .ok (.iadd, 1) := dk_96 (dk_at dksX2_summedUp_13 13 rfl rfl)
theorem dX2_summedUp_320 : decode cX2_summedUp 320 = .ok (.laload, 1) := dk_47 (dk_at dksX2_summedUp_13 14 rfl rfl)
theorem dX2_summedUp_321 : decode cX2_summedUp 321 = .ok (.invokestatic 295, 3) := dk_184 1 39 (dk_at dksX2_summedUp_13 15 rfl rfl)
theorem dX2_summedUp_324 : decode cX2_summedUp 324 = .ok (.bastore, 1) := dk_84 (dk_at dksX2_summedUp_13 18 rfl rfl)
theorem dX2_summedUp_325 : decode cX2_summedUp 325 = .ok (.iinc 6 1, 3) := dk_132 6 1 (dk_at dksX2_summedUp_13 19 rfl rfl)
theorem dX2_summedUp_328 : decode cX2_summedUp 328 = .ok (.goto 72, 3) := dk_167 0 72 (dk_at dksX2_summedUp_14 0 rfl rfl)
theorem dX2_summedUp_331 : decode cX2_summedUp 331 = .ok (.iload 8, 2) := dk_21 8 (dk_at dksX2_summedUp_14 3 rfl rfl)
theorem dX2_summedUp_333 : decode cX2_summedUp 333 = .ok (.bipush 20, 2) := dk_16 20 (dk_at dksX2_summedUp_14 5 rfl rfl)
theorem dX2_summedUp_335 : decode cX2_summedUp 335 = .ok (.if_icmp .ne 32, 3) := dk_160 0 32 (dk_at dksX2_summedUp_14 7 rfl rfl)
theorem dX2_summedUp_338 : decode cX2_summedUp 338 = .ok (.aload_n 0, 1) := dk_42 (dk_at dksX2_summedUp_14 10 rfl rfl)
theorem dX2_summedUp_339 : decode cX2_summedUp 339 = .ok (.getfield 39, 3) := dk_180 0 39 (dk_at dksX2_summedUp_14 11 rfl rfl)
theorem dX2_summedUp_342 : decode cX2_summedUp 342 = .ok (.iload 6, 2) := dk_21 6 (dk_at dksX2_summedUp_14 14 rfl rfl)
theorem dX2_summedUp_344 : decode cX2_summedUp 344 = .ok (.iconst 1, 1) := dk_4 (dk_at dksX2_summedUp_14 16 rfl rfl)
theorem dX2_summedUp_345 : decode cX2_summedUp 345 = .ok (.isub, 1) := dk_100 (dk_at dksX2_summedUp_14 17 rfl rfl)
theorem dX2_summedUp_346 : decode cX2_summedUp 346 = .ok (.aload_n 0, 1) := dk_42 (dk_at dksX2_summedUp_14 18 rfl rfl)
theorem dX2_summedUp_347 : decode cX2_summedUp 347 = .ok (.getfield 39, 3) := dk_180 0 39 (dk_at dksX2_summedUp_14 19 rfl rfl)
theorem dX2_summedUp_350 : decode cX2_summedUp 350 = .ok (.iload 6, 2) := dk_21 6 (dk_at dksX2_summedUp_14 22 rfl rfl)
theorem dX2_summedUp_352 : decode cX2_summedUp 352 = .ok (.iconst 1, 1) := dk_4 (dk_at dksX2_summedUp_15 0 rfl rfl)
theorem dX2_summedUp_353 : decode cX2_summedUp 353 = .ok (.isub, 1) := dk_100 (dk_at dksX2_summedUp_15 1 rfl rfl)
theorem dX2_summedUp_354 : decode cX2_summedUp 354 = .ok (.baload, 1) := dk_51 (dk_at dksX2_summedUp_15 2 rfl rfl)
theorem dX2_summedUp_355 : decode cX2_summedUp 355 = .ok (.ifCond .ne 7, 3) := dk_154 0 7 (dk_at dksX2_summedUp_15 3 rfl rfl)
theorem dX2_summedUp_358 : decode cX2_summedUp 358 = .ok (.iconst 1, 1) := dk_4 (dk_at dksX2_summedUp_15 6 rfl rfl)
theorem dX2_summedUp_359 : decode cX2_summedUp 359 = .ok (.goto 4, 3) := dk_167 0 4 (dk_at dksX2_summedUp_15 7 rfl rfl)
theorem dX2_summedUp_362 : decode cX2_summedUp 362 = .ok (.iconst 0, 1) := dk_3 (dk_at dksX2_summedUp_15 10 rfl rfl)
theorem dX2_summedUp_363 : decode cX2_summedUp 363 = .ok (.bastore, 1) := dk_84 (dk_at dksX2_summedUp_15 11 rfl rfl)
theorem dX2_summedUp_364 : decode cX2_summedUp 364 = .ok (.goto 36, 3) := dk_167 0 36 (dk_at dksX2_summedUp_15 12 rfl rfl)
theorem dX2_summedUp_367 : decode cX2_summedUp 367 = .ok (.iinc 6 (-1), 3) := dk_132 6 255 (dk_at dksX2_summedUp_15 15 rfl rfl)
theorem dX2_summedUp_370 : decode cX2_summedUp 370 = .ok (.aload_n 0, 1) := dk_42 (dk_at dksX2_summedUp_15 18 rfl rfl)
theorem dX2_summedUp_371 : decode cX2_summedUp 371 = .ok (.getfield 39, 3) := dk_180 0 39 (dk_at dksX2_summedUp_15 19 rfl rfl)
theorem dX2_summedUp_374 : decode cX2_summedUp 374 = .ok (.iload 6, 2) := dk_21 6 (dk_at dksX2_summedUp_15 22 rfl rfl)
theorem dX2_summedUp_376 : decode cX2_summedUp 376 = .ok (.iconst 1, 1) := dk_4 (dk_at dksX2_summedUp_16 0 rfl rfl)
theorem dX2_summedUp_377 : decode cX2_summedUp 377 = .ok (.isub, 1) := dk_100 (dk_at dksX2_summedUp_16 1 rfl rfl)
theorem dX2_summedUp_378 : decode cX2_summedUp 378 = .ok (.iload 8, 2) := dk_21 8 (dk_at dksX2_summedUp_16 2 rfl rfl)
theorem dX2_summedUp_380 : decode cX2_summedUp 380 = .ok (.aload_n 0, 1) := dk_42 (dk_at dksX2_summedUp_16 4 rfl rfl)
theorem dX2_summedUp_381 : decode cX2_summedUp 381 = .ok (.getfield 39, 3) := dk_180 0 39 (dk_at dksX2_summedUp_16 5 rfl rfl)
theorem dX2_summedUp_384 : decode cX2_summedUp 384 = .ok (.iload 6, 2) := dk_21 6 (dk_at dksX2_summedUp_16 8 rfl rfl)
theorem dX2_summedUp_386 : decode cX2_summedUp 386 = .ok (.iconst 1, 1) := dk_4 (dk_at dksX2_summedUp_16 10 rfl rfl)
theorem dX2_summedUp_387 : decode cX2_summedUp 387 = .ok (.isub, 1) := dk_100 (dk_at dksX2_summedUp_16 11 rfl rfl)
theorem dX2_summedUp_388 : decode cX2_summedUp 388 = .ok (.baload, 1) := dk_51 (dk_at dksX2_summedUp_16 12 rfl rfl)
theorem dX2_summedUp_389 : decode cX2_summedUp 389 = .ok (.aload_n 0, 1) := dk_42 (dk_at dksX2_summedUp_16 13 rfl rfl)
theorem dX2_summedUp_390 : decode cX2_summedUp 390 = .ok (.getfield 39, 3) := dk_180 0 39 (dk_at dksX2_summedUp_16 14 rfl rfl)
theorem dX2_summedUp_393 : decode cX2_summedUp 393 = .ok (.iload 6, 2) := dk_21 6 (dk_at dksX2_summedUp_16 17 rfl rfl)
theorem dX2_summedUp_395 : decode cX2_summedUp 395 = .ok (.baload, 1) := dk_51 (dk_at dksX2_summedUp_16 19 rfl rfl)
theorem dX2_summedUp_396 : decode cX2_summedUp 396 = .ok (.invokestatic 299, 3) := dk_184 1 43 (dk_at dksX2_summedUp_16 20 rfl rfl)
theorem dX2_summedUp_399 : decode cX2_summedUp 399 = .ok (.bastore, 1) := dk_84 (dk_at dksX2_summedUp_16 23 rfl rfl)
theorem dX2_summedUp_400 : decode cX2_summedUp 400 = .ok (.iinc 7 1, 3) := dk_132 7 1 (dk_at dksX2_summedUp_17 0 rfl rfl)
theorem dX2_summedUp_403 : decode cX2_summedUp 403 = .ok (.goto (-365), 3) := dk_167 254 147 (dk_at dksX2_summedUp_17 3 rfl rfl)
theorem dX2_summedUp_406 : decode cX2_summedUp 406 = .ok (.aload_n 0, 1) := dk_42 (dk_at dksX2_summedUp_17 6 rfl rfl)
theorem dX2_summedUp_407 : decode cX2_summedUp 407 = .ok (.getfield 35, 3) := dk_180 0 35 (dk_at dksX2_summedUp_17 7 rfl rfl)
theorem dX2_summedUp_410 : decode cX2_summedUp 410 = .ok (.iconst 0, 1) := dk_3 (dk_at dksX2_summedUp_17 10 rfl rfl)
theorem dX2_summedUp_411 : decode cX2_summedUp 411 = .ok (.laload, 1) := dk_47 (dk_at dksX2_summedUp_17 11 rfl rfl)
theorem dX2_summedUp_412 : decode cX2_summedUp 412 = .ok (.lreturn, 1) := dk_173 (dk_at dksX2_summedUp_17 12 rfl rfl)
abbrev cX2_hotOf : ByteArray := prog_20_method_66_code
def yX2_hotOf : MethodName := ⟨RX2, "hotOf", "(J)J"⟩
def dkwX2_hotOf_1 : List UInt8 := [133, 167, 0, 4, 9, 173]
abbrev dktX2_hotOf_1 : List UInt8 := dkwX2_hotOf_1 ++ []
def dkwX2_hotOf_0 : List UInt8 := [31, 9, 148, 155, 0, 25, 31, 42, 180, 0, 7, 3, 46, 133, 148, 156, 0, 13, 42, 31, 136, 182, 1, 25]
abbrev dktX2_hotOf_0 : List UInt8 := dkwX2_hotOf_0 ++ dktX2_hotOf_1
theorem dksX2_hotOf_0 : cX2_hotOf.data.toList.drop 0 = dktX2_hotOf_0 := by decide +kernel
theorem dksX2_hotOf_1 : cX2_hotOf.data.toList.drop 24 = dktX2_hotOf_1 := dk_seg dksX2_hotOf_0 24 rfl rfl
theorem dX2_hotOf_0 : decode cX2_hotOf 0 = .ok (.lload_n 1, 1) := dk_31 (dk_at dksX2_hotOf_0 0 rfl rfl)
theorem dX2_hotOf_1 : decode cX2_hotOf 1 = .ok (.lconst 0, 1) := dk_9 (dk_at dksX2_hotOf_0 1 rfl rfl)
theorem dX2_hotOf_2 : decode cX2_hotOf 2 = .ok (.lcmp, 1) := dk_148 (dk_at dksX2_hotOf_0 2 rfl rfl)
theorem dX2_hotOf_3 : decode cX2_hotOf 3 = .ok (.ifCond .lt 25, 3) := dk_155 0 25 (dk_at dksX2_hotOf_0 3 rfl rfl)
theorem dX2_hotOf_6 : decode cX2_hotOf 6 = .ok (.lload_n 1, 1) := dk_31 (dk_at dksX2_hotOf_0 6 rfl rfl)
theorem dX2_hotOf_7 : decode cX2_hotOf 7 = .ok (.aload_n 0, 1) := dk_42 (dk_at dksX2_hotOf_0 7 rfl rfl)
theorem dX2_hotOf_8 : decode cX2_hotOf 8 = .ok (.getfield 7, 3) := dk_180 0 7 (dk_at dksX2_hotOf_0 8 rfl rfl)
theorem dX2_hotOf_11 : decode cX2_hotOf 11 = .ok (.iconst 0, 1) := dk_3 (dk_at dksX2_hotOf_0 11 rfl rfl)
theorem dX2_hotOf_12 : decode cX2_hotOf 12 = .ok (.iaload, 1) := dk_46 (dk_at dksX2_hotOf_0 12 rfl rfl)
theorem dX2_hotOf_13 : decode cX2_hotOf 13 = .ok (.i2l, 1) := dk_133 (dk_at dksX2_hotOf_0 13 rfl rfl)
theorem dX2_hotOf_14 : decode cX2_hotOf 14 = .ok (.lcmp, 1) := dk_148 (dk_at dksX2_hotOf_0 14 rfl rfl)
theorem dX2_hotOf_15 : decode cX2_hotOf 15 = .ok (.ifCond .ge 13, 3) := dk_156 0 13 (dk_at dksX2_hotOf_0 15 rfl rfl)
theorem dX2_hotOf_18 : decode cX2_hotOf 18 = .ok (.aload_n 0, 1) := dk_42 (dk_at dksX2_hotOf_0 18 rfl rfl)
theorem dX2_hotOf_19 : decode cX2_hotOf 19 = .ok (.lload_n 1, 1) := dk_31 (dk_at dksX2_hotOf_0 19 rfl rfl)
theorem dX2_hotOf_20 : decode cX2_hotOf 20 = .ok (.l2i, 1) := dk_136 (dk_at dksX2_hotOf_0 20 rfl rfl)
theorem dX2_hotOf_21 : decode cX2_hotOf 21 = .ok (.invokevirtual 281, 3) := dk_182 1 25 (dk_at dksX2_hotOf_0 21 rfl rfl)
theorem dX2_hotOf_24 : decode cX2_hotOf 24 = .ok (.i2l, 1) := dk_133 (dk_at dksX2_hotOf_1 0 rfl rfl)
theorem dX2_hotOf_25 : decode cX2_hotOf 25 = .ok (.goto 4, 3) := dk_167 0 4 (dk_at dksX2_hotOf_1 1 rfl rfl)
theorem dX2_hotOf_28 : decode cX2_hotOf 28 = .ok (.lconst 0, 1) := dk_9 (dk_at dksX2_hotOf_1 4 rfl rfl)
theorem dX2_hotOf_29 : decode cX2_hotOf 29 = .ok (.lreturn, 1) := dk_173 (dk_at dksX2_hotOf_1 5 rfl rfl)
abbrev cX2_restOf : ByteArray := prog_20_method_67_code
def yX2_restOf : MethodName := ⟨RX2, "restOf", "(JJ)J"⟩
def dkwX2_restOf_1 : List UInt8 := [148, 156, 0, 8, 32, 117, 167, 0, 4, 32, 113, 173]
abbrev dktX2_restOf_1 : List UInt8 := dkwX2_restOf_1 ++ []
def dkwX2_restOf_0 : List UInt8 := [32, 9, 148, 154, 0, 7, 9, 167, 0, 28, 30, 9, 148, 156, 0, 8, 30, 117, 167, 0, 4, 30, 32, 9]
abbrev dktX2_restOf_0 : List UInt8 := dkwX2_restOf_0 ++ dktX2_restOf_1
theorem dksX2_restOf_0 : cX2_restOf.data.toList.drop 0 = dktX2_restOf_0 := by decide +kernel
theorem dksX2_restOf_1 : cX2_restOf.data.toList.drop 24 = dktX2_restOf_1 := dk_seg dksX2_restOf_0 24 rfl rfl
theorem dX2_restOf_0 : decode cX2_restOf 0 = .ok (.lload_n 2, 1) := dk_32 (dk_at dksX2_restOf_0 0 rfl rfl)
theorem dX2_restOf_1 : decode cX2_restOf 1 = .ok (.lconst 0, 1) := dk_9 (dk_at dksX2_restOf_0 1 rfl rfl)
theorem dX2_restOf_2 : decode cX2_restOf 2 = .ok (.lcmp, 1) := dk_148 (dk_at dksX2_restOf_0 2 rfl rfl)
theorem dX2_restOf_3 : decode cX2_restOf 3 = .ok (.ifCond .ne 7, 3) := dk_154 0 7 (dk_at dksX2_restOf_0 3 rfl rfl)
theorem dX2_restOf_6 : decode cX2_restOf 6 = .ok (.lconst 0, 1) := dk_9 (dk_at dksX2_restOf_0 6 rfl rfl)
theorem dX2_restOf_7 : decode cX2_restOf 7 = .ok (.goto 28, 3) := dk_167 0 28 (dk_at dksX2_restOf_0 7 rfl rfl)
theorem dX2_restOf_10 : decode cX2_restOf 10 = .ok (.lload_n 0, 1) := dk_30 (dk_at dksX2_restOf_0 10 rfl rfl)
theorem dX2_restOf_11 : decode cX2_restOf 11 = .ok (.lconst 0, 1) := dk_9 (dk_at dksX2_restOf_0 11 rfl rfl)
theorem dX2_restOf_12 : decode cX2_restOf 12 = .ok (.lcmp, 1) := dk_148 (dk_at dksX2_restOf_0 12 rfl rfl)
theorem dX2_restOf_13 : decode cX2_restOf 13 = .ok (.ifCond .ge 8, 3) := dk_156 0 8 (dk_at dksX2_restOf_0 13 rfl rfl)
theorem dX2_restOf_16 : decode cX2_restOf 16 = .ok (.lload_n 0, 1) := dk_30 (dk_at dksX2_restOf_0 16 rfl rfl)
theorem dX2_restOf_17 : decode cX2_restOf 17 = .ok (.lneg, 1) := dk_117 (dk_at dksX2_restOf_0 17 rfl rfl)
theorem dX2_restOf_18 : decode cX2_restOf 18 = .ok (.goto 4, 3) := dk_167 0 4 (dk_at dksX2_restOf_0 18 rfl rfl)
theorem dX2_restOf_21 : decode cX2_restOf 21 = .ok (.lload_n 0, 1) := dk_30 (dk_at dksX2_restOf_0 21 rfl rfl)
theorem dX2_restOf_22 : decode cX2_restOf 22 = .ok (.lload_n 2, 1) := dk_32 (dk_at dksX2_restOf_0 22 rfl rfl)
theorem dX2_restOf_23 : decode cX2_restOf 23 = .ok (.lconst 0, 1) := dk_9 (dk_at dksX2_restOf_0 23 rfl rfl)
theorem dX2_restOf_24 : decode cX2_restOf 24 = .ok (.lcmp, 1) := dk_148 (dk_at dksX2_restOf_1 0 rfl rfl)
theorem dX2_restOf_25 : decode cX2_restOf 25 = .ok (.ifCond .ge 8, 3) := dk_156 0 8 (dk_at dksX2_restOf_1 1 rfl rfl)
theorem dX2_restOf_28 : decode cX2_restOf 28 = .ok (.lload_n 2, 1) := dk_32 (dk_at dksX2_restOf_1 4 rfl rfl)
theorem dX2_restOf_29 : decode cX2_restOf 29 = .ok (.lneg, 1) := dk_117 (dk_at dksX2_restOf_1 5 rfl rfl)
theorem dX2_restOf_30 : decode cX2_restOf 30 = .ok (.goto 4, 3) := dk_167 0 4 (dk_at dksX2_restOf_1 6 rfl rfl)
theorem dX2_restOf_33 : decode cX2_restOf 33 = .ok (.lload_n 2, 1) := dk_32 (dk_at dksX2_restOf_1 9 rfl rfl)
theorem dX2_restOf_34 : decode cX2_restOf 34 = .ok (.lrem, 1) := dk_113 (dk_at dksX2_restOf_1 10 rfl rfl)
theorem dX2_restOf_35 : decode cX2_restOf 35 = .ok (.lreturn, 1) := dk_173 (dk_at dksX2_restOf_1 11 rfl rfl)
abbrev cX2_two : ByteArray := prog_20_method_64_code
def yX2_two : MethodName := ⟨RX2, "two", "(IJJ)J"⟩
def dkwX2_two_3 : List UInt8 := [154, 0, 7, 9, 167, 0, 9, 31, 33, 109, 184, 1, 21, 173]
abbrev dktX2_two_3 : List UInt8 := dkwX2_two_3 ++ []
def dkwX2_two_2 : List UInt8 := [31, 33, 97, 184, 1, 21, 173, 31, 33, 101, 184, 1, 21, 173, 31, 33, 105, 184, 1, 21, 173, 33, 9, 148]
abbrev dktX2_two_2 : List UInt8 := dkwX2_two_2 ++ dktX2_two_3
def dkwX2_two_1 : List UInt8 := [170, 0, 0, 0, 0, 0, 48, 0, 0, 0, 6, 0, 0, 0, 8, 0, 0, 0, 27, 0, 0, 0, 34, 0, 0, 0, 41]
abbrev dktX2_two_1 : List UInt8 := dkwX2_two_1 ++ dktX2_two_2
def dkwX2_two_0 : List UInt8 := [26]
abbrev dktX2_two_0 : List UInt8 := dkwX2_two_0 ++ dktX2_two_1
theorem dksX2_two_0 : cX2_two.data.toList.drop 0 = dktX2_two_0 := by decide +kernel
theorem dksX2_two_1 : cX2_two.data.toList.drop 1 = dktX2_two_1 := dk_seg dksX2_two_0 1 rfl rfl
theorem dksX2_two_2 : cX2_two.data.toList.drop 28 = dktX2_two_2 := dk_seg dksX2_two_1 27 rfl rfl
theorem dksX2_two_3 : cX2_two.data.toList.drop 52 = dktX2_two_3 := dk_seg dksX2_two_2 24 rfl rfl
theorem dX2_two_0 : decode cX2_two 0 = .ok (.iload_n 0, 1) := dk_26 (dk_at dksX2_two_0 0 rfl rfl)
theorem dX2_two_1 : decode cX2_two 1 = .ok (.tableswitch 48 6 8 #[27, 34, 41], 27) := by decide +kernel
theorem dX2_two_28 : decode cX2_two 28 = .ok (.lload_n 1, 1) := dk_31 (dk_at dksX2_two_2 0 rfl rfl)
theorem dX2_two_29 : decode cX2_two 29 = .ok (.lload_n 3, 1) := dk_33 (dk_at dksX2_two_2 1 rfl rfl)
theorem dX2_two_30 : decode cX2_two 30 = .ok (.ladd, 1) := dk_97 (dk_at dksX2_two_2 2 rfl rfl)
theorem dX2_two_31 : decode cX2_two 31 = .ok (.invokestatic 277, 3) := dk_184 1 21 (dk_at dksX2_two_2 3 rfl rfl)
theorem dX2_two_34 : decode cX2_two 34 = .ok (.lreturn, 1) := dk_173 (dk_at dksX2_two_2 6 rfl rfl)
theorem dX2_two_35 : decode cX2_two 35 = .ok (.lload_n 1, 1) := dk_31 (dk_at dksX2_two_2 7 rfl rfl)
theorem dX2_two_36 : decode cX2_two 36 = .ok (.lload_n 3, 1) := dk_33 (dk_at dksX2_two_2 8 rfl rfl)
theorem dX2_two_37 : decode cX2_two 37 = .ok (.lsub, 1) := dk_101 (dk_at dksX2_two_2 9 rfl rfl)
theorem dX2_two_38 : decode cX2_two 38 = .ok (.invokestatic 277, 3) := dk_184 1 21 (dk_at dksX2_two_2 10 rfl rfl)
theorem dX2_two_41 : decode cX2_two 41 = .ok (.lreturn, 1) := dk_173 (dk_at dksX2_two_2 13 rfl rfl)
theorem dX2_two_42 : decode cX2_two 42 = .ok (.lload_n 1, 1) := dk_31 (dk_at dksX2_two_2 14 rfl rfl)
theorem dX2_two_43 : decode cX2_two 43 = .ok (.lload_n 3, 1) := dk_33 (dk_at dksX2_two_2 15 rfl rfl)
theorem dX2_two_44 : decode cX2_two 44 = .ok (.lmul, 1) := dk_105 (dk_at dksX2_two_2 16 rfl rfl)
theorem dX2_two_45 : decode cX2_two 45 = .ok (.invokestatic 277, 3) := dk_184 1 21 (dk_at dksX2_two_2 17 rfl rfl)
theorem dX2_two_48 : decode cX2_two 48 = .ok (.lreturn, 1) := dk_173 (dk_at dksX2_two_2 20 rfl rfl)
theorem dX2_two_49 : decode cX2_two 49 = .ok (.lload_n 3, 1) := dk_33 (dk_at dksX2_two_2 21 rfl rfl)
theorem dX2_two_50 : decode cX2_two 50 = .ok (.lconst 0, 1) := dk_9 (dk_at dksX2_two_2 22 rfl rfl)
theorem dX2_two_51 : decode cX2_two 51 = .ok (.lcmp, 1) := dk_148 (dk_at dksX2_two_2 23 rfl rfl)
theorem dX2_two_52 : decode cX2_two 52 = .ok (.ifCond .ne 7, 3) := dk_154 0 7 (dk_at dksX2_two_3 0 rfl rfl)
theorem dX2_two_55 : decode cX2_two 55 = .ok (.lconst 0, 1) := dk_9 (dk_at dksX2_two_3 3 rfl rfl)
theorem dX2_two_56 : decode cX2_two 56 = .ok (.goto 9, 3) := dk_167 0 9 (dk_at dksX2_two_3 4 rfl rfl)
theorem dX2_two_59 : decode cX2_two 59 = .ok (.lload_n 1, 1) := dk_31 (dk_at dksX2_two_3 7 rfl rfl)
theorem dX2_two_60 : decode cX2_two 60 = .ok (.lload_n 3, 1) := dk_33 (dk_at dksX2_two_3 8 rfl rfl)
theorem dX2_two_61 : decode cX2_two 61 = .ok (.ldiv, 1) := dk_109 (dk_at dksX2_two_3 9 rfl rfl)
theorem dX2_two_62 : decode cX2_two 62 = .ok (.invokestatic 277, 3) := dk_184 1 21 (dk_at dksX2_two_3 10 rfl rfl)
theorem dX2_two_65 : decode cX2_two 65 = .ok (.lreturn, 1) := dk_173 (dk_at dksX2_two_3 13 rfl rfl)
abbrev cX2_clip : ByteArray := prog_20_method_63_code
def yX2_clip : MethodName := ⟨RX2, "clip", "(J)J"⟩
def dkwX2_clip_1 : List UInt8 := [20, 1, 19, 167, 0, 4, 30, 173]
abbrev dktX2_clip_1 : List UInt8 := dkwX2_clip_1 ++ []
def dkwX2_clip_0 : List UInt8 := [30, 20, 1, 17, 148, 158, 0, 9, 20, 1, 17, 167, 0, 18, 30, 20, 1, 19, 148, 156, 0, 9]
abbrev dktX2_clip_0 : List UInt8 := dkwX2_clip_0 ++ dktX2_clip_1
theorem dksX2_clip_0 : cX2_clip.data.toList.drop 0 = dktX2_clip_0 := by decide +kernel
theorem dksX2_clip_1 : cX2_clip.data.toList.drop 22 = dktX2_clip_1 := dk_seg dksX2_clip_0 22 rfl rfl
theorem dX2_clip_0 : decode cX2_clip 0 = .ok (.lload_n 0, 1) := dk_30 (dk_at dksX2_clip_0 0 rfl rfl)
theorem dX2_clip_1 : decode cX2_clip 1 = .ok (.ldc2_w 273, 3) := dk_20 1 17 (dk_at dksX2_clip_0 1 rfl rfl)
theorem dX2_clip_4 : decode cX2_clip 4 = .ok (.lcmp, 1) := dk_148 (dk_at dksX2_clip_0 4 rfl rfl)
theorem dX2_clip_5 : decode cX2_clip 5 = .ok (.ifCond .le 9, 3) := dk_158 0 9 (dk_at dksX2_clip_0 5 rfl rfl)
theorem dX2_clip_8 : decode cX2_clip 8 = .ok (.ldc2_w 273, 3) := dk_20 1 17 (dk_at dksX2_clip_0 8 rfl rfl)
theorem dX2_clip_11 : decode cX2_clip 11 = .ok (.goto 18, 3) := dk_167 0 18 (dk_at dksX2_clip_0 11 rfl rfl)
theorem dX2_clip_14 : decode cX2_clip 14 = .ok (.lload_n 0, 1) := dk_30 (dk_at dksX2_clip_0 14 rfl rfl)
theorem dX2_clip_15 : decode cX2_clip 15 = .ok (.ldc2_w 275, 3) := dk_20 1 19 (dk_at dksX2_clip_0 15 rfl rfl)
theorem dX2_clip_18 : decode cX2_clip 18 = .ok (.lcmp, 1) := dk_148 (dk_at dksX2_clip_0 18 rfl rfl)
theorem dX2_clip_19 : decode cX2_clip 19 = .ok (.ifCond .ge 9, 3) := dk_156 0 9 (dk_at dksX2_clip_0 19 rfl rfl)
theorem dX2_clip_22 : decode cX2_clip 22 = .ok (.ldc2_w 275, 3) := dk_20 1 19 (dk_at dksX2_clip_1 0 rfl rfl)
theorem dX2_clip_25 : decode cX2_clip 25 = .ok (.goto 4, 3) := dk_167 0 4 (dk_at dksX2_clip_1 3 rfl rfl)
theorem dX2_clip_28 : decode cX2_clip 28 = .ok (.lload_n 0, 1) := dk_30 (dk_at dksX2_clip_1 6 rfl rfl)
theorem dX2_clip_29 : decode cX2_clip 29 = .ok (.lreturn, 1) := dk_173 (dk_at dksX2_clip_1 7 rfl rfl)
abbrev cX2_isAsked : ByteArray := prog_20_method_65_code
def yX2_isAsked : MethodName := ⟨RX2, "isAsked", "(IJJ)Z"⟩
def dkwX2_isAsked_4 : List UInt8 := [167, 0, 18, 3, 167, 0, 14, 31, 33, 148, 153, 0, 7, 4, 167, 0, 4, 3, 172]
abbrev dktX2_isAsked_4 : List UInt8 := dkwX2_isAsked_4 ++ []
def dkwX2_isAsked_3 : List UInt8 := [155, 0, 7, 4, 167, 0, 38, 3, 167, 0, 34, 26, 16, 14, 160, 0, 17, 31, 33, 148, 154, 0, 7, 4]
abbrev dktX2_isAsked_3 : List UInt8 := dkwX2_isAsked_3 ++ dktX2_isAsked_4
def dkwX2_isAsked_2 : List UInt8 := [33, 148, 158, 0, 7, 4, 167, 0, 58, 3, 167, 0, 54, 26, 16, 13, 160, 0, 17, 31, 33, 148]
abbrev dktX2_isAsked_2 : List UInt8 := dkwX2_isAsked_2 ++ dktX2_isAsked_3
def dkwX2_isAsked_1 : List UInt8 := [160, 0, 17, 31, 33, 148, 157, 0, 7, 4, 167, 0, 78, 3, 167, 0, 74, 26, 16, 12, 160, 0, 17, 31]
abbrev dktX2_isAsked_1 : List UInt8 := dkwX2_isAsked_1 ++ dktX2_isAsked_2
def dkwX2_isAsked_0 : List UInt8 := [26, 16, 10, 160, 0, 17, 31, 33, 148, 156, 0, 7, 4, 167, 0, 98, 3, 167, 0, 94, 26, 16, 11]
abbrev dktX2_isAsked_0 : List UInt8 := dkwX2_isAsked_0 ++ dktX2_isAsked_1
theorem dksX2_isAsked_0 : cX2_isAsked.data.toList.drop 0 = dktX2_isAsked_0 := by decide +kernel
theorem dksX2_isAsked_1 : cX2_isAsked.data.toList.drop 23 = dktX2_isAsked_1 := dk_seg dksX2_isAsked_0 23 rfl rfl
theorem dksX2_isAsked_2 : cX2_isAsked.data.toList.drop 47 = dktX2_isAsked_2 := dk_seg dksX2_isAsked_1 24 rfl rfl
theorem dksX2_isAsked_3 : cX2_isAsked.data.toList.drop 69 = dktX2_isAsked_3 := dk_seg dksX2_isAsked_2 22 rfl rfl
theorem dksX2_isAsked_4 : cX2_isAsked.data.toList.drop 93 = dktX2_isAsked_4 := dk_seg dksX2_isAsked_3 24 rfl rfl
theorem dX2_isAsked_0 : decode cX2_isAsked 0 = .ok (.iload_n 0, 1) := dk_26 (dk_at dksX2_isAsked_0 0 rfl rfl)
theorem dX2_isAsked_1 : decode cX2_isAsked 1 = .ok (.bipush 10, 2) := dk_16 10 (dk_at dksX2_isAsked_0 1 rfl rfl)
theorem dX2_isAsked_3 : decode cX2_isAsked 3 = .ok (.if_icmp .ne 17, 3) := dk_160 0 17 (dk_at dksX2_isAsked_0 3 rfl rfl)
theorem dX2_isAsked_6 : decode cX2_isAsked 6 = .ok (.lload_n 1, 1) := dk_31 (dk_at dksX2_isAsked_0 6 rfl rfl)
theorem dX2_isAsked_7 : decode cX2_isAsked 7 = .ok (.lload_n 3, 1) := dk_33 (dk_at dksX2_isAsked_0 7 rfl rfl)
theorem dX2_isAsked_8 : decode cX2_isAsked 8 = .ok (.lcmp, 1) := dk_148 (dk_at dksX2_isAsked_0 8 rfl rfl)
theorem dX2_isAsked_9 : decode cX2_isAsked 9 = .ok (.ifCond .ge 7, 3) := dk_156 0 7 (dk_at dksX2_isAsked_0 9 rfl rfl)
theorem dX2_isAsked_12 : decode cX2_isAsked 12 = .ok (.iconst 1, 1) := dk_4 (dk_at dksX2_isAsked_0 12 rfl rfl)
theorem dX2_isAsked_13 : decode cX2_isAsked 13 = .ok (.goto 98, 3) := dk_167 0 98 (dk_at dksX2_isAsked_0 13 rfl rfl)
theorem dX2_isAsked_16 : decode cX2_isAsked 16 = .ok (.iconst 0, 1) := dk_3 (dk_at dksX2_isAsked_0 16 rfl rfl)
theorem dX2_isAsked_17 : decode cX2_isAsked 17 = .ok (.goto 94, 3) := dk_167 0 94 (dk_at dksX2_isAsked_0 17 rfl rfl)
theorem dX2_isAsked_20 : decode cX2_isAsked 20 = .ok (.iload_n 0, 1) := dk_26 (dk_at dksX2_isAsked_0 20 rfl rfl)
theorem dX2_isAsked_21 : decode cX2_isAsked 21 = .ok (.bipush 11, 2) := dk_16 11 (dk_at dksX2_isAsked_0 21 rfl rfl)
theorem dX2_isAsked_23 : decode cX2_isAsked 23 = .ok (.if_icmp .ne 17, 3) := dk_160 0 17 (dk_at dksX2_isAsked_1 0 rfl rfl)
theorem dX2_isAsked_26 : decode cX2_isAsked 26 = .ok (.lload_n 1, 1) := dk_31 (dk_at dksX2_isAsked_1 3 rfl rfl)
theorem dX2_isAsked_27 : decode cX2_isAsked 27 = .ok (.lload_n 3, 1) := dk_33 (dk_at dksX2_isAsked_1 4 rfl rfl)
theorem dX2_isAsked_28 : decode cX2_isAsked 28 = .ok (.lcmp, 1) := dk_148 (dk_at dksX2_isAsked_1 5 rfl rfl)
theorem dX2_isAsked_29 : decode cX2_isAsked 29 = .ok (.ifCond .gt 7, 3) := dk_157 0 7 (dk_at dksX2_isAsked_1 6 rfl rfl)
theorem dX2_isAsked_32 : decode cX2_isAsked 32 = .ok (.iconst 1, 1) := dk_4 (dk_at dksX2_isAsked_1 9 rfl rfl)
theorem dX2_isAsked_33 : decode cX2_isAsked 33 = .ok (.goto 78, 3) := dk_167 0 78 (dk_at dksX2_isAsked_1 10 rfl rfl)
theorem dX2_isAsked_36 : decode cX2_isAsked 36 = .ok (.iconst 0, 1) := dk_3 (dk_at dksX2_isAsked_1 13 rfl rfl)
theorem dX2_isAsked_37 : decode cX2_isAsked 37 = .ok (.goto 74, 3) := dk_167 0 74 (dk_at dksX2_isAsked_1 14 rfl rfl)
theorem dX2_isAsked_40 : decode cX2_isAsked 40 = .ok (.iload_n 0, 1) := dk_26 (dk_at dksX2_isAsked_1 17 rfl rfl)
theorem dX2_isAsked_41 : decode cX2_isAsked 41 = .ok (.bipush 12, 2) := dk_16 12 (dk_at dksX2_isAsked_1 18 rfl rfl)
theorem dX2_isAsked_43 : decode cX2_isAsked 43 = .ok (.if_icmp .ne 17, 3) := dk_160 0 17 (dk_at dksX2_isAsked_1 20 rfl rfl)
theorem dX2_isAsked_46 : decode cX2_isAsked 46 = .ok (.lload_n 1, 1) := dk_31 (dk_at dksX2_isAsked_1 23 rfl rfl)
theorem dX2_isAsked_47 : decode cX2_isAsked 47 = .ok (.lload_n 3, 1) := dk_33 (dk_at dksX2_isAsked_2 0 rfl rfl)
theorem dX2_isAsked_48 : decode cX2_isAsked 48 = .ok (.lcmp, 1) := dk_148 (dk_at dksX2_isAsked_2 1 rfl rfl)
theorem dX2_isAsked_49 : decode cX2_isAsked 49 = .ok (.ifCond .le 7, 3) := dk_158 0 7 (dk_at dksX2_isAsked_2 2 rfl rfl)
theorem dX2_isAsked_52 : decode cX2_isAsked 52 = .ok (.iconst 1, 1) := dk_4 (dk_at dksX2_isAsked_2 5 rfl rfl)
theorem dX2_isAsked_53 : decode cX2_isAsked 53 = .ok (.goto 58, 3) := dk_167 0 58 (dk_at dksX2_isAsked_2 6 rfl rfl)
theorem dX2_isAsked_56 : decode cX2_isAsked 56 = .ok (.iconst 0, 1) := dk_3 (dk_at dksX2_isAsked_2 9 rfl rfl)
theorem dX2_isAsked_57 : decode cX2_isAsked 57 = .ok (.goto 54, 3) := dk_167 0 54 (dk_at dksX2_isAsked_2 10 rfl rfl)
theorem dX2_isAsked_60 : decode cX2_isAsked 60 = .ok (.iload_n 0, 1) := dk_26 (dk_at dksX2_isAsked_2 13 rfl rfl)
theorem dX2_isAsked_61 : decode cX2_isAsked 61 = .ok (.bipush 13, 2) := dk_16 13 (dk_at dksX2_isAsked_2 14 rfl rfl)
theorem dX2_isAsked_63 : decode cX2_isAsked 63 = .ok (.if_icmp .ne 17, 3) := dk_160 0 17 (dk_at dksX2_isAsked_2 16 rfl rfl)
theorem dX2_isAsked_66 : decode cX2_isAsked 66 = .ok (.lload_n 1, 1) := dk_31 (dk_at dksX2_isAsked_2 19 rfl rfl)
theorem dX2_isAsked_67 : decode cX2_isAsked 67 = .ok (.lload_n 3, 1) := dk_33 (dk_at dksX2_isAsked_2 20 rfl rfl)
theorem dX2_isAsked_68 : decode cX2_isAsked 68 = .ok (.lcmp, 1) := dk_148 (dk_at dksX2_isAsked_2 21 rfl rfl)
theorem dX2_isAsked_69 : decode cX2_isAsked 69 = .ok (.ifCond .lt 7, 3) := dk_155 0 7 (dk_at dksX2_isAsked_3 0 rfl rfl)
theorem dX2_isAsked_72 : decode cX2_isAsked 72 = .ok (.iconst 1, 1) := dk_4 (dk_at dksX2_isAsked_3 3 rfl rfl)
theorem dX2_isAsked_73 : decode cX2_isAsked 73 = .ok (.goto 38, 3) := dk_167 0 38 (dk_at dksX2_isAsked_3 4 rfl rfl)
theorem dX2_isAsked_76 : decode cX2_isAsked 76 = .ok (.iconst 0, 1) := dk_3 (dk_at dksX2_isAsked_3 7 rfl rfl)
theorem dX2_isAsked_77 : decode cX2_isAsked 77 = .ok (.goto 34, 3) := dk_167 0 34 (dk_at dksX2_isAsked_3 8 rfl rfl)
theorem dX2_isAsked_80 : decode cX2_isAsked 80 = .ok (.iload_n 0, 1) := dk_26 (dk_at dksX2_isAsked_3 11 rfl rfl)
theorem dX2_isAsked_81 : decode cX2_isAsked 81 = .ok (.bipush 14, 2) := dk_16 14 (dk_at dksX2_isAsked_3 12 rfl rfl)
theorem dX2_isAsked_83 : decode cX2_isAsked 83 = .ok (.if_icmp .ne 17, 3) := dk_160 0 17 (dk_at dksX2_isAsked_3 14 rfl rfl)
theorem dX2_isAsked_86 : decode cX2_isAsked 86 = .ok (.lload_n 1, 1) := dk_31 (dk_at dksX2_isAsked_3 17 rfl rfl)
theorem dX2_isAsked_87 : decode cX2_isAsked 87 = .ok (.lload_n 3, 1) := dk_33 (dk_at dksX2_isAsked_3 18 rfl rfl)
theorem dX2_isAsked_88 : decode cX2_isAsked 88 = .ok (.lcmp, 1) := dk_148 (dk_at dksX2_isAsked_3 19 rfl rfl)
theorem dX2_isAsked_89 : decode cX2_isAsked 89 = .ok (.ifCond .ne 7, 3) := dk_154 0 7 (dk_at dksX2_isAsked_3 20 rfl rfl)
theorem dX2_isAsked_92 : decode cX2_isAsked 92 = .ok (.iconst 1, 1) := dk_4 (dk_at dksX2_isAsked_3 23 rfl rfl)
theorem dX2_isAsked_93 : decode cX2_isAsked 93 = .ok (.goto 18, 3) := dk_167 0 18 (dk_at dksX2_isAsked_4 0 rfl rfl)
theorem dX2_isAsked_96 : decode cX2_isAsked 96 = .ok (.iconst 0, 1) := dk_3 (dk_at dksX2_isAsked_4 3 rfl rfl)
theorem dX2_isAsked_97 : decode cX2_isAsked 97 = .ok (.goto 14, 3) := dk_167 0 14 (dk_at dksX2_isAsked_4 4 rfl rfl)
theorem dX2_isAsked_100 : decode cX2_isAsked 100 = .ok (.lload_n 1, 1) := dk_31 (dk_at dksX2_isAsked_4 7 rfl rfl)
theorem dX2_isAsked_101 : decode cX2_isAsked 101 = .ok (.lload_n 3, 1) := dk_33 (dk_at dksX2_isAsked_4 8 rfl rfl)
theorem dX2_isAsked_102 : decode cX2_isAsked 102 = .ok (.lcmp, 1) := dk_148 (dk_at dksX2_isAsked_4 9 rfl rfl)
theorem dX2_isAsked_103 : decode cX2_isAsked 103 = .ok (.ifCond .eq 7, 3) := dk_153 0 7 (dk_at dksX2_isAsked_4 10 rfl rfl)
theorem dX2_isAsked_106 : decode cX2_isAsked 106 = .ok (.iconst 1, 1) := dk_4 (dk_at dksX2_isAsked_4 13 rfl rfl)
theorem dX2_isAsked_107 : decode cX2_isAsked 107 = .ok (.goto 4, 3) := dk_167 0 4 (dk_at dksX2_isAsked_4 14 rfl rfl)
theorem dX2_isAsked_110 : decode cX2_isAsked 110 = .ok (.iconst 0, 1) := dk_3 (dk_at dksX2_isAsked_4 17 rfl rfl)
theorem dX2_isAsked_111 : decode cX2_isAsked 111 = .ok (.ireturn, 1) := dk_172 (dk_at dksX2_isAsked_4 18 rfl rfl)
abbrev cX2_joined : ByteArray := prog_20_method_68_code
def yX2_joined : MethodName := ⟨RX2, "joined", "(IZZ)Z"⟩
def dkwX2_joined_1 : List UInt8 := [154, 0, 7, 28, 153, 0, 7, 4, 167, 0, 4, 3, 172]
abbrev dktX2_joined_1 : List UInt8 := dkwX2_joined_1 ++ []
def dkwX2_joined_0 : List UInt8 := [26, 16, 21, 160, 0, 19, 27, 153, 0, 11, 28, 153, 0, 7, 4, 167, 0, 20, 3, 167, 0, 16, 27]
abbrev dktX2_joined_0 : List UInt8 := dkwX2_joined_0 ++ dktX2_joined_1
theorem dksX2_joined_0 : cX2_joined.data.toList.drop 0 = dktX2_joined_0 := by decide +kernel
theorem dksX2_joined_1 : cX2_joined.data.toList.drop 23 = dktX2_joined_1 := dk_seg dksX2_joined_0 23 rfl rfl
theorem dX2_joined_0 : decode cX2_joined 0 = .ok (.iload_n 0, 1) := dk_26 (dk_at dksX2_joined_0 0 rfl rfl)
theorem dX2_joined_1 : decode cX2_joined 1 = .ok (.bipush 21, 2) := dk_16 21 (dk_at dksX2_joined_0 1 rfl rfl)
theorem dX2_joined_3 : decode cX2_joined 3 = .ok (.if_icmp .ne 19, 3) := dk_160 0 19 (dk_at dksX2_joined_0 3 rfl rfl)
theorem dX2_joined_6 : decode cX2_joined 6 = .ok (.iload_n 1, 1) := dk_27 (dk_at dksX2_joined_0 6 rfl rfl)
theorem dX2_joined_7 : decode cX2_joined 7 = .ok (.ifCond .eq 11, 3) := dk_153 0 11 (dk_at dksX2_joined_0 7 rfl rfl)
theorem dX2_joined_10 : decode cX2_joined 10 = .ok (.iload_n 2, 1) := dk_28 (dk_at dksX2_joined_0 10 rfl rfl)
theorem dX2_joined_11 : decode cX2_joined 11 = .ok (.ifCond .eq 7, 3) := dk_153 0 7 (dk_at dksX2_joined_0 11 rfl rfl)
theorem dX2_joined_14 : decode cX2_joined 14 = .ok (.iconst 1, 1) := dk_4 (dk_at dksX2_joined_0 14 rfl rfl)
theorem dX2_joined_15 : decode cX2_joined 15 = .ok (.goto 20, 3) := dk_167 0 20 (dk_at dksX2_joined_0 15 rfl rfl)
theorem dX2_joined_18 : decode cX2_joined 18 = .ok (.iconst 0, 1) := dk_3 (dk_at dksX2_joined_0 18 rfl rfl)
theorem dX2_joined_19 : decode cX2_joined 19 = .ok (.goto 16, 3) := dk_167 0 16 (dk_at dksX2_joined_0 19 rfl rfl)
theorem dX2_joined_22 : decode cX2_joined 22 = .ok (.iload_n 1, 1) := dk_27 (dk_at dksX2_joined_0 22 rfl rfl)
theorem dX2_joined_23 : decode cX2_joined 23 = .ok (.ifCond .ne 7, 3) := dk_154 0 7 (dk_at dksX2_joined_1 0 rfl rfl)
theorem dX2_joined_26 : decode cX2_joined 26 = .ok (.iload_n 2, 1) := dk_28 (dk_at dksX2_joined_1 3 rfl rfl)
theorem dX2_joined_27 : decode cX2_joined 27 = .ok (.ifCond .eq 7, 3) := dk_153 0 7 (dk_at dksX2_joined_1 4 rfl rfl)
theorem dX2_joined_30 : decode cX2_joined 30 = .ok (.iconst 1, 1) := dk_4 (dk_at dksX2_joined_1 7 rfl rfl)
theorem dX2_joined_31 : decode cX2_joined 31 = .ok (.goto 4, 3) := dk_167 0 4 (dk_at dksX2_joined_1 8 rfl rfl)
theorem dX2_joined_34 : decode cX2_joined 34 = .ok (.iconst 0, 1) := dk_3 (dk_at dksX2_joined_1 11 rfl rfl)
theorem dX2_joined_35 : decode cX2_joined 35 = .ok (.ireturn, 1) := dk_172 (dk_at dksX2_joined_1 12 rfl rfl)
abbrev cX2_redeemNow : ByteArray := prog_20_method_82_code
def yX2_redeemNow : MethodName := ⟨RX2, "redeemNow", "(I)I"⟩
def dkwX2_redeemNow_1 : List UInt8 := [27, 104, 96, 5, 79, 42, 27, 4, 182, 1, 89, 28, 172]
abbrev dktX2_redeemNow_1 : List UInt8 := dkwX2_redeemNow_1 ++ []
def dkwX2_redeemNow_0 : List UInt8 := [42, 27, 182, 1, 74, 61, 42, 180, 0, 7, 16, 9, 92, 46, 28, 100, 79, 42, 180, 0, 7, 16, 12, 6]
abbrev dktX2_redeemNow_0 : List UInt8 := dkwX2_redeemNow_0 ++ dktX2_redeemNow_1
theorem dksX2_redeemNow_0 : cX2_redeemNow.data.toList.drop 0 = dktX2_redeemNow_0 := by decide +kernel
theorem dksX2_redeemNow_1 : cX2_redeemNow.data.toList.drop 24 = dktX2_redeemNow_1 := dk_seg dksX2_redeemNow_0 24 rfl rfl
theorem dX2_redeemNow_0 : decode cX2_redeemNow 0 = .ok (.aload_n 0, 1) := dk_42 (dk_at dksX2_redeemNow_0 0 rfl rfl)
theorem dX2_redeemNow_1 : decode cX2_redeemNow 1 = .ok (.iload_n 1, 1) := dk_27 (dk_at dksX2_redeemNow_0 1 rfl rfl)
theorem dX2_redeemNow_2 : decode cX2_redeemNow 2 = .ok (.invokevirtual 330, 3) := dk_182 1 74 (dk_at dksX2_redeemNow_0 2 rfl rfl)
theorem dX2_redeemNow_5 : decode cX2_redeemNow 5 = .ok (.istore_n 2, 1) := dk_61 (dk_at dksX2_redeemNow_0 5 rfl rfl)
theorem dX2_redeemNow_6 : decode cX2_redeemNow 6 = .ok (.aload_n 0, 1) := dk_42 (dk_at dksX2_redeemNow_0 6 rfl rfl)
theorem dX2_redeemNow_7 : decode cX2_redeemNow 7 = .ok (.getfield 7, 3) := dk_180 0 7 (dk_at dksX2_redeemNow_0 7 rfl rfl)
theorem dX2_redeemNow_10 : decode cX2_redeemNow 10 = .ok (.bipush 9, 2) := dk_16 9 (dk_at dksX2_redeemNow_0 10 rfl rfl)
theorem dX2_redeemNow_12 : decode cX2_redeemNow 12 = .ok (.dup2, 1) := dk_92 (dk_at dksX2_redeemNow_0 12 rfl rfl)
theorem dX2_redeemNow_13 : decode cX2_redeemNow 13 = .ok (.iaload, 1) := dk_46 (dk_at dksX2_redeemNow_0 13 rfl rfl)
theorem dX2_redeemNow_14 : decode cX2_redeemNow 14 = .ok (.iload_n 2, 1) := dk_28 (dk_at dksX2_redeemNow_0 14 rfl rfl)
theorem dX2_redeemNow_15 : decode cX2_redeemNow 15 = .ok (.isub, 1) := dk_100 (dk_at dksX2_redeemNow_0 15 rfl rfl)
theorem dX2_redeemNow_16 : decode cX2_redeemNow 16 = .ok (.iastore, 1) := dk_79 (dk_at dksX2_redeemNow_0 16 rfl rfl)
theorem dX2_redeemNow_17 : decode cX2_redeemNow 17 = .ok (.aload_n 0, 1) := dk_42 (dk_at dksX2_redeemNow_0 17 rfl rfl)
theorem dX2_redeemNow_18 : decode cX2_redeemNow 18 = .ok (.getfield 7, 3) := dk_180 0 7 (dk_at dksX2_redeemNow_0 18 rfl rfl)
theorem dX2_redeemNow_21 : decode cX2_redeemNow 21 = .ok (.bipush 12, 2) := dk_16 12 (dk_at dksX2_redeemNow_0 21 rfl rfl)
theorem dX2_redeemNow_23 : decode cX2_redeemNow 23 = .ok (.iconst 3, 1) := dk_6 (dk_at dksX2_redeemNow_0 23 rfl rfl)
theorem dX2_redeemNow_24 : decode cX2_redeemNow 24 = .ok (.iload_n 1, 1) := dk_27 (dk_at dksX2_redeemNow_1 0 rfl rfl)
theorem dX2_redeemNow_25 : decode cX2_redeemNow 25 = .ok (.imul, 1) := dk_104 (dk_at dksX2_redeemNow_1 1 rfl rfl)
theorem dX2_redeemNow_26 : decode cX2_redeemNow 26 = .ok (.iadd, 1) := dk_96 (dk_at dksX2_redeemNow_1 2 rfl rfl)
theorem dX2_redeemNow_27 : decode cX2_redeemNow 27 = .ok (.iconst 2, 1) := dk_5 (dk_at dksX2_redeemNow_1 3 rfl rfl)
theorem dX2_redeemNow_28 : decode cX2_redeemNow 28 = .ok (.iastore, 1) := dk_79 (dk_at dksX2_redeemNow_1 4 rfl rfl)
theorem dX2_redeemNow_29 : decode cX2_redeemNow 29 = .ok (.aload_n 0, 1) := dk_42 (dk_at dksX2_redeemNow_1 5 rfl rfl)
theorem dX2_redeemNow_30 : decode cX2_redeemNow 30 = .ok (.iload_n 1, 1) := dk_27 (dk_at dksX2_redeemNow_1 6 rfl rfl)
theorem dX2_redeemNow_31 : decode cX2_redeemNow 31 = .ok (.iconst 1, 1) := dk_4 (dk_at dksX2_redeemNow_1 7 rfl rfl)
theorem dX2_redeemNow_32 : decode cX2_redeemNow 32 = .ok (.invokevirtual 345, 3) := dk_182 1 89 (dk_at dksX2_redeemNow_1 8 rfl rfl)
theorem dX2_redeemNow_35 : decode cX2_redeemNow 35 = .ok (.iload_n 2, 1) := dk_28 (dk_at dksX2_redeemNow_1 11 rfl rfl)
theorem dX2_redeemNow_36 : decode cX2_redeemNow 36 = .ok (.ireturn, 1) := dk_172 (dk_at dksX2_redeemNow_1 12 rfl rfl)
abbrev cX2_earn : ByteArray := prog_20_method_90_code
def yX2_earn : MethodName := ⟨RX2, "earn", "(I)Z"⟩
def dkwX2_earn_1 : List UInt8 := [79, 4, 172]
abbrev dktX2_earn_1 : List UInt8 := dkwX2_earn_1 ++ []
def dkwX2_earn_0 : List UInt8 := [42, 27, 182, 1, 119, 154, 0, 5, 3, 172, 42, 182, 1, 107, 42, 180, 0, 7, 16, 9, 92, 46, 27, 96]
abbrev dktX2_earn_0 : List UInt8 := dkwX2_earn_0 ++ dktX2_earn_1
theorem dksX2_earn_0 : cX2_earn.data.toList.drop 0 = dktX2_earn_0 := by decide +kernel
theorem dksX2_earn_1 : cX2_earn.data.toList.drop 24 = dktX2_earn_1 := dk_seg dksX2_earn_0 24 rfl rfl
theorem dX2_earn_0 : decode cX2_earn 0 = .ok (.aload_n 0, 1) := dk_42 (dk_at dksX2_earn_0 0 rfl rfl)
theorem dX2_earn_1 : decode cX2_earn 1 = .ok (.iload_n 1, 1) := dk_27 (dk_at dksX2_earn_0 1 rfl rfl)
theorem dX2_earn_2 : decode cX2_earn 2 = .ok (.invokevirtual 375, 3) := dk_182 1 119 (dk_at dksX2_earn_0 2 rfl rfl)
theorem dX2_earn_5 : decode cX2_earn 5 = .ok (.ifCond .ne 5, 3) := dk_154 0 5 (dk_at dksX2_earn_0 5 rfl rfl)
theorem dX2_earn_8 : decode cX2_earn 8 = .ok (.iconst 0, 1) := dk_3 (dk_at dksX2_earn_0 8 rfl rfl)
theorem dX2_earn_9 : decode cX2_earn 9 = .ok (.ireturn, 1) := dk_172 (dk_at dksX2_earn_0 9 rfl rfl)
theorem dX2_earn_10 : decode cX2_earn 10 = .ok (.aload_n 0, 1) := dk_42 (dk_at dksX2_earn_0 10 rfl rfl)
theorem dX2_earn_11 : decode cX2_earn 11 = .ok (.invokevirtual 363, 3) := dk_182 1 107 (dk_at dksX2_earn_0 11 rfl rfl)
theorem dX2_earn_14 : decode cX2_earn 14 = .ok (.aload_n 0, 1) := dk_42 (dk_at dksX2_earn_0 14 rfl rfl)
theorem dX2_earn_15 : decode cX2_earn 15 = .ok (.getfield 7, 3) := dk_180 0 7 (dk_at dksX2_earn_0 15 rfl rfl)
theorem dX2_earn_18 : decode cX2_earn 18 = .ok (.bipush 9, 2) := dk_16 9 (dk_at dksX2_earn_0 18 rfl rfl)
theorem dX2_earn_20 : decode cX2_earn 20 = .ok (.dup2, 1) := dk_92 (dk_at dksX2_earn_0 20 rfl rfl)
theorem dX2_earn_21 : decode cX2_earn 21 = .ok (.iaload, 1) := dk_46 (dk_at dksX2_earn_0 21 rfl rfl)
theorem dX2_earn_22 : decode cX2_earn 22 = .ok (.iload_n 1, 1) := dk_27 (dk_at dksX2_earn_0 22 rfl rfl)
theorem dX2_earn_23 : decode cX2_earn 23 = .ok (.iadd, 1) := dk_96 (dk_at dksX2_earn_0 23 rfl rfl)
theorem dX2_earn_24 : decode cX2_earn 24 = .ok (.iastore, 1) := dk_79 (dk_at dksX2_earn_1 0 rfl rfl)
theorem dX2_earn_25 : decode cX2_earn 25 = .ok (.iconst 1, 1) := dk_4 (dk_at dksX2_earn_1 1 rfl rfl)
theorem dX2_earn_26 : decode cX2_earn 26 = .ok (.ireturn, 1) := dk_172 (dk_at dksX2_earn_1 2 rfl rfl)
abbrev cX2_canEarn : ByteArray := prog_20_method_83_code
def yX2_canEarn : MethodName := ⟨RX2, "canEarn", "(I)Z"⟩
def dkwX2_canEarn_1 : List UInt8 := [163, 0, 7, 4, 167, 0, 4, 3, 172]
abbrev dktX2_canEarn_1 : List UInt8 := dkwX2_canEarn_1 ++ []
def dkwX2_canEarn_0 : List UInt8 := [27, 4, 17, 3, 231, 184, 0, 81, 153, 0, 22, 42, 180, 0, 7, 16, 9, 46, 27, 96, 17, 39, 15]
abbrev dktX2_canEarn_0 : List UInt8 := dkwX2_canEarn_0 ++ dktX2_canEarn_1
theorem dksX2_canEarn_0 : cX2_canEarn.data.toList.drop 0 = dktX2_canEarn_0 := by decide +kernel
theorem dksX2_canEarn_1 : cX2_canEarn.data.toList.drop 23 = dktX2_canEarn_1 := dk_seg dksX2_canEarn_0 23 rfl rfl
theorem dX2_canEarn_0 : decode cX2_canEarn 0 = .ok (.iload_n 1, 1) := dk_27 (dk_at dksX2_canEarn_0 0 rfl rfl)
theorem dX2_canEarn_1 : decode cX2_canEarn 1 = .ok (.iconst 1, 1) := dk_4 (dk_at dksX2_canEarn_0 1 rfl rfl)
theorem dX2_canEarn_2 : decode cX2_canEarn 2 = .ok (.sipush 999, 3) := dk_17 3 231 (dk_at dksX2_canEarn_0 2 rfl rfl)
theorem dX2_canEarn_5 : decode cX2_canEarn 5 = .ok (.invokestatic 81, 3) := dk_184 0 81 (dk_at dksX2_canEarn_0 5 rfl rfl)
theorem dX2_canEarn_8 : decode cX2_canEarn 8 = .ok (.ifCond .eq 22, 3) := dk_153 0 22 (dk_at dksX2_canEarn_0 8 rfl rfl)
theorem dX2_canEarn_11 : decode cX2_canEarn 11 = .ok (.aload_n 0, 1) := dk_42 (dk_at dksX2_canEarn_0 11 rfl rfl)
theorem dX2_canEarn_12 : decode cX2_canEarn 12 = .ok (.getfield 7, 3) := dk_180 0 7 (dk_at dksX2_canEarn_0 12 rfl rfl)
theorem dX2_canEarn_15 : decode cX2_canEarn 15 = .ok (.bipush 9, 2) := dk_16 9 (dk_at dksX2_canEarn_0 15 rfl rfl)
theorem dX2_canEarn_17 : decode cX2_canEarn 17 = .ok (.iaload, 1) := dk_46 (dk_at dksX2_canEarn_0 17 rfl rfl)
theorem dX2_canEarn_18 : decode cX2_canEarn 18 = .ok (.iload_n 1, 1) := dk_27 (dk_at dksX2_canEarn_0 18 rfl rfl)
theorem dX2_canEarn_19 : decode cX2_canEarn 19 = .ok (.iadd, 1) := dk_96 (dk_at dksX2_canEarn_0 19 rfl rfl)
theorem dX2_canEarn_20 : decode cX2_canEarn 20 = .ok (.sipush 9999, 3) := dk_17 39 15 (dk_at dksX2_canEarn_0 20 rfl rfl)
theorem dX2_canEarn_23 : decode cX2_canEarn 23 = .ok (.if_icmp .gt 7, 3) := dk_163 0 7 (dk_at dksX2_canEarn_1 0 rfl rfl)
theorem dX2_canEarn_26 : decode cX2_canEarn 26 = .ok (.iconst 1, 1) := dk_4 (dk_at dksX2_canEarn_1 3 rfl rfl)
theorem dX2_canEarn_27 : decode cX2_canEarn 27 = .ok (.goto 4, 3) := dk_167 0 4 (dk_at dksX2_canEarn_1 4 rfl rfl)
theorem dX2_canEarn_30 : decode cX2_canEarn 30 = .ok (.iconst 0, 1) := dk_3 (dk_at dksX2_canEarn_1 7 rfl rfl)
theorem dX2_canEarn_31 : decode cX2_canEarn 31 = .ok (.ireturn, 1) := dk_172 (dk_at dksX2_canEarn_1 8 rfl rfl)
abbrev cX2_day : ByteArray := prog_20_method_92_code
def yX2_day : MethodName := ⟨RX2, "day", "(I)I"⟩
def dkwX2_day_1 : List UInt8 := [163, 0, 18, 42, 27, 182, 1, 125, 153, 0, 10, 42, 180, 1, 101, 167, 0, 4, 2, 172]
abbrev dktX2_day_1 : List UInt8 := dkwX2_day_1 ++ []
def dkwX2_day_0 : List UInt8 := [27, 4, 16, 60, 184, 0, 81, 153, 0, 33, 42, 180, 0, 7, 16, 7, 46, 27, 96, 17, 39, 15]
abbrev dktX2_day_0 : List UInt8 := dkwX2_day_0 ++ dktX2_day_1
theorem dksX2_day_0 : cX2_day.data.toList.drop 0 = dktX2_day_0 := by decide +kernel
theorem dksX2_day_1 : cX2_day.data.toList.drop 22 = dktX2_day_1 := dk_seg dksX2_day_0 22 rfl rfl
theorem dX2_day_0 : decode cX2_day 0 = .ok (.iload_n 1, 1) := dk_27 (dk_at dksX2_day_0 0 rfl rfl)
theorem dX2_day_1 : decode cX2_day 1 = .ok (.iconst 1, 1) := dk_4 (dk_at dksX2_day_0 1 rfl rfl)
theorem dX2_day_2 : decode cX2_day 2 = .ok (.bipush 60, 2) := dk_16 60 (dk_at dksX2_day_0 2 rfl rfl)
theorem dX2_day_4 : decode cX2_day 4 = .ok (.invokestatic 81, 3) := dk_184 0 81 (dk_at dksX2_day_0 4 rfl rfl)
theorem dX2_day_7 : decode cX2_day 7 = .ok (.ifCond .eq 33, 3) := dk_153 0 33 (dk_at dksX2_day_0 7 rfl rfl)
theorem dX2_day_10 : decode cX2_day 10 = .ok (.aload_n 0, 1) := dk_42 (dk_at dksX2_day_0 10 rfl rfl)
theorem dX2_day_11 : decode cX2_day 11 = .ok (.getfield 7, 3) := dk_180 0 7 (dk_at dksX2_day_0 11 rfl rfl)
theorem dX2_day_14 : decode cX2_day 14 = .ok (.bipush 7, 2) := dk_16 7 (dk_at dksX2_day_0 14 rfl rfl)
theorem dX2_day_16 : decode cX2_day 16 = .ok (.iaload, 1) := dk_46 (dk_at dksX2_day_0 16 rfl rfl)
theorem dX2_day_17 : decode cX2_day 17 = .ok (.iload_n 1, 1) := dk_27 (dk_at dksX2_day_0 17 rfl rfl)
theorem dX2_day_18 : decode cX2_day 18 = .ok (.iadd, 1) := dk_96 (dk_at dksX2_day_0 18 rfl rfl)
theorem dX2_day_19 : decode cX2_day 19 = .ok (.sipush 9999, 3) := dk_17 39 15 (dk_at dksX2_day_0 19 rfl rfl)
theorem dX2_day_22 : decode cX2_day 22 = .ok (.if_icmp .gt 18, 3) := dk_163 0 18 (dk_at dksX2_day_1 0 rfl rfl)
theorem dX2_day_25 : decode cX2_day 25 = .ok (.aload_n 0, 1) := dk_42 (dk_at dksX2_day_1 3 rfl rfl)
theorem dX2_day_26 : decode cX2_day 26 = .ok (.iload_n 1, 1) := dk_27 (dk_at dksX2_day_1 4 rfl rfl)
theorem dX2_day_27 : decode cX2_day 27 = .ok (.invokevirtual 381, 3) := dk_182 1 125 (dk_at dksX2_day_1 5 rfl rfl)
theorem dX2_day_30 : decode cX2_day 30 = .ok (.ifCond .eq 10, 3) := dk_153 0 10 (dk_at dksX2_day_1 8 rfl rfl)
theorem dX2_day_33 : decode cX2_day 33 = .ok (.aload_n 0, 1) := dk_42 (dk_at dksX2_day_1 11 rfl rfl)
theorem dX2_day_34 : decode cX2_day 34 = .ok (.getfield 357, 3) := dk_180 1 101 (dk_at dksX2_day_1 12 rfl rfl)
theorem dX2_day_37 : decode cX2_day 37 = .ok (.goto 4, 3) := dk_167 0 4 (dk_at dksX2_day_1 15 rfl rfl)
theorem dX2_day_40 : decode cX2_day 40 = .ok (.iconst (-1), 1) := dk_2 (dk_at dksX2_day_1 18 rfl rfl)
theorem dX2_day_41 : decode cX2_day 41 = .ok (.ireturn, 1) := dk_172 (dk_at dksX2_day_1 19 rfl rfl)
abbrev cX2_arePassed : ByteArray := prog_20_method_91_code
def yX2_arePassed : MethodName := ⟨RX2, "arePassed", "(I)Z"⟩
def dkwX2_arePassed_1 : List UInt8 := [160, 0, 5, 3, 172, 42, 182, 1, 107, 42, 182, 1, 122, 132, 2, 1, 167, 255, 225, 4, 172]
abbrev dktX2_arePassed_1 : List UInt8 := dkwX2_arePassed_1 ++ []
def dkwX2_arePassed_0 : List UInt8 := [42, 3, 181, 1, 101, 3, 61, 28, 27, 162, 0, 32, 42, 180, 0, 7, 16, 7, 46, 17, 39, 15]
abbrev dktX2_arePassed_0 : List UInt8 := dkwX2_arePassed_0 ++ dktX2_arePassed_1
theorem dksX2_arePassed_0 : cX2_arePassed.data.toList.drop 0 = dktX2_arePassed_0 := by decide +kernel
theorem dksX2_arePassed_1 : cX2_arePassed.data.toList.drop 22 = dktX2_arePassed_1 := dk_seg dksX2_arePassed_0 22 rfl rfl
theorem dX2_arePassed_0 : decode cX2_arePassed 0 = .ok (.aload_n 0, 1) := dk_42 (dk_at dksX2_arePassed_0 0 rfl rfl)
theorem dX2_arePassed_1 : decode cX2_arePassed 1 = .ok (.iconst 0, 1) := dk_3 (dk_at dksX2_arePassed_0 1 rfl rfl)
theorem dX2_arePassed_2 : decode cX2_arePassed 2 = .ok (.putfield 357, 3) := dk_181 1 101 (dk_at dksX2_arePassed_0 2 rfl rfl)
theorem dX2_arePassed_5 : decode cX2_arePassed 5 = .ok (.iconst 0, 1) := dk_3 (dk_at dksX2_arePassed_0 5 rfl rfl)
theorem dX2_arePassed_6 : decode cX2_arePassed 6 = .ok (.istore_n 2, 1) := dk_61 (dk_at dksX2_arePassed_0 6 rfl rfl)
theorem dX2_arePassed_7 : decode cX2_arePassed 7 = .ok (.iload_n 2, 1) := dk_28 (dk_at dksX2_arePassed_0 7 rfl rfl)
theorem dX2_arePassed_8 : decode cX2_arePassed 8 = .ok (.iload_n 1, 1) := dk_27 (dk_at dksX2_arePassed_0 8 rfl rfl)
theorem dX2_arePassed_9 : decode cX2_arePassed 9 = .ok (.if_icmp .ge 32, 3) := dk_162 0 32 (dk_at dksX2_arePassed_0 9 rfl rfl)
theorem dX2_arePassed_12 : decode cX2_arePassed 12 = .ok (.aload_n 0, 1) := dk_42 (dk_at dksX2_arePassed_0 12 rfl rfl)
theorem dX2_arePassed_13 : decode cX2_arePassed 13 = .ok (.getfield 7, 3) := dk_180 0 7 (dk_at dksX2_arePassed_0 13 rfl rfl)
theorem dX2_arePassed_16 : decode cX2_arePassed 16 = .ok (.bipush 7, 2) := dk_16 7 (dk_at dksX2_arePassed_0 16 rfl rfl)
theorem dX2_arePassed_18 : decode cX2_arePassed 18 = .ok (.iaload, 1) := dk_46 (dk_at dksX2_arePassed_0 18 rfl rfl)
theorem dX2_arePassed_19 : decode cX2_arePassed 19 = .ok (.sipush 9999, 3) := dk_17 39 15 (dk_at dksX2_arePassed_0 19 rfl rfl)
theorem dX2_arePassed_22 : decode cX2_arePassed 22 = .ok (.if_icmp .ne 5, 3) := dk_160 0 5 (dk_at dksX2_arePassed_1 0 rfl rfl)
theorem dX2_arePassed_25 : decode cX2_arePassed 25 = .ok (.iconst 0, 1) := dk_3 (dk_at dksX2_arePassed_1 3 rfl rfl)
theorem dX2_arePassed_26 : decode cX2_arePassed 26 = .ok (.ireturn, 1) := dk_172 (dk_at dksX2_arePassed_1 4 rfl rfl)
theorem dX2_arePassed_27 : decode cX2_arePassed 27 = .ok (.aload_n 0, 1) := dk_42 (dk_at dksX2_arePassed_1 5 rfl rfl)
theorem dX2_arePassed_28 : decode cX2_arePassed 28 = .ok (.invokevirtual 363, 3) := dk_182 1 107 (dk_at dksX2_arePassed_1 6 rfl rfl)
theorem dX2_arePassed_31 : decode cX2_arePassed 31 = .ok (.aload_n 0, 1) := dk_42 (dk_at dksX2_arePassed_1 9 rfl rfl)
theorem dX2_arePassed_32 : decode cX2_arePassed 32 = .ok (.invokevirtual 378, 3) := dk_182 1 122 (dk_at dksX2_arePassed_1 10 rfl rfl)
theorem dX2_arePassed_35 : decode cX2_arePassed 35 = .ok (.iinc 2 1, 3) := dk_132 2 1 (dk_at dksX2_arePassed_1 13 rfl rfl)
theorem dX2_arePassed_38 : decode cX2_arePassed 38 = .ok (.goto (-31), 3) := dk_167 255 225 (dk_at dksX2_arePassed_1 16 rfl rfl)
theorem dX2_arePassed_41 : decode cX2_arePassed 41 = .ok (.iconst 1, 1) := dk_4 (dk_at dksX2_arePassed_1 19 rfl rfl)
theorem dX2_arePassed_42 : decode cX2_arePassed 42 = .ok (.ireturn, 1) := dk_172 (dk_at dksX2_arePassed_1 20 rfl rfl)
abbrev cX2_pass : ByteArray := prog_20_method_85_code
def yX2_pass : MethodName := ⟨RX2, "pass", "()V"⟩
def dkwX2_pass_5 : List UInt8 := [4, 96, 79, 177]
abbrev dktX2_pass_5 : List UInt8 := dkwX2_pass_5 ++ []
def dkwX2_pass_4 : List UInt8 := [96, 181, 1, 101, 42, 27, 5, 182, 1, 89, 132, 1, 1, 167, 255, 196, 42, 180, 0, 7, 16, 7, 92, 46]
abbrev dktX2_pass_4 : List UInt8 := dkwX2_pass_4 ++ dktX2_pass_5
def dkwX2_pass_3 : List UInt8 := [157, 0, 6, 167, 0, 31, 42, 180, 0, 7, 16, 12, 6, 27, 104, 96, 6, 79, 42, 89, 180, 1, 101, 4]
abbrev dktX2_pass_3 : List UInt8 := dkwX2_pass_3 ++ dktX2_pass_4
def dkwX2_pass_2 : List UInt8 := [27, 42, 180, 0, 7, 3, 46, 162, 0, 56, 42, 27, 182, 0, 89, 153, 0, 42, 42, 27, 182, 1, 98]
abbrev dktX2_pass_2 : List UInt8 := dkwX2_pass_2 ++ dktX2_pass_3
def dkwX2_pass_1 : List UInt8 := [180, 0, 7, 3, 46, 158, 0, 17, 42, 42, 42, 180, 0, 7, 3, 46, 182, 1, 92, 182, 1, 95, 3, 60]
abbrev dktX2_pass_1 : List UInt8 := dkwX2_pass_1 ++ dktX2_pass_2
def dkwX2_pass_0 : List UInt8 := [42, 180, 0, 7, 16, 10, 42, 16, 10, 182, 1, 92, 7, 162, 0, 7, 4, 167, 0, 4, 3, 79, 42]
abbrev dktX2_pass_0 : List UInt8 := dkwX2_pass_0 ++ dktX2_pass_1
theorem dksX2_pass_0 : cX2_pass.data.toList.drop 0 = dktX2_pass_0 := by decide +kernel
theorem dksX2_pass_1 : cX2_pass.data.toList.drop 23 = dktX2_pass_1 := dk_seg dksX2_pass_0 23 rfl rfl
theorem dksX2_pass_2 : cX2_pass.data.toList.drop 47 = dktX2_pass_2 := dk_seg dksX2_pass_1 24 rfl rfl
theorem dksX2_pass_3 : cX2_pass.data.toList.drop 70 = dktX2_pass_3 := dk_seg dksX2_pass_2 23 rfl rfl
theorem dksX2_pass_4 : cX2_pass.data.toList.drop 94 = dktX2_pass_4 := dk_seg dksX2_pass_3 24 rfl rfl
theorem dksX2_pass_5 : cX2_pass.data.toList.drop 118 = dktX2_pass_5 := dk_seg dksX2_pass_4 24 rfl rfl
theorem dX2_pass_0 : decode cX2_pass 0 = .ok (.aload_n 0, 1) := dk_42 (dk_at dksX2_pass_0 0 rfl rfl)
theorem dX2_pass_1 : decode cX2_pass 1 = .ok (.getfield 7, 3) := dk_180 0 7 (dk_at dksX2_pass_0 1 rfl rfl)
theorem dX2_pass_4 : decode cX2_pass 4 = .ok (.bipush 10, 2) := dk_16 10 (dk_at dksX2_pass_0 4 rfl rfl)
theorem dX2_pass_6 : decode cX2_pass 6 = .ok (.aload_n 0, 1) := dk_42 (dk_at dksX2_pass_0 6 rfl rfl)
theorem dX2_pass_7 : decode cX2_pass 7 = .ok (.bipush 10, 2) := dk_16 10 (dk_at dksX2_pass_0 7 rfl rfl)
theorem dX2_pass_9 : decode cX2_pass 9 = .ok (.invokevirtual 348, 3) := dk_182 1 92 (dk_at dksX2_pass_0 9 rfl rfl)
theorem dX2_pass_12 : decode cX2_pass 12 = .ok (.iconst 4, 1) := dk_7 (dk_at dksX2_pass_0 12 rfl rfl)
theorem dX2_pass_13 : decode cX2_pass 13 = .ok (.if_icmp .ge 7, 3) := dk_162 0 7 (dk_at dksX2_pass_0 13 rfl rfl)
theorem dX2_pass_16 : decode cX2_pass 16 = .ok (.iconst 1, 1) := dk_4 (dk_at dksX2_pass_0 16 rfl rfl)
theorem dX2_pass_17 : decode cX2_pass 17 = .ok (.goto 4, 3) := dk_167 0 4 (dk_at dksX2_pass_0 17 rfl rfl)
theorem dX2_pass_20 : decode cX2_pass 20 = .ok (.iconst 0, 1) := dk_3 (dk_at dksX2_pass_0 20 rfl rfl)
theorem dX2_pass_21 : decode cX2_pass 21 = .ok (.iastore, 1) := dk_79 (dk_at dksX2_pass_0 21 rfl rfl)
theorem dX2_pass_22 : decode cX2_pass 22 = .ok (.aload_n 0, 1) := dk_42 (dk_at dksX2_pass_0 22 rfl rfl)
theorem dX2_pass_23 : decode cX2_pass 23 = .ok (.getfield 7, 3) := dk_180 0 7 (dk_at dksX2_pass_1 0 rfl rfl)
theorem dX2_pass_26 : decode cX2_pass 26 = .ok (.iconst 0, 1) := dk_3 (dk_at dksX2_pass_1 3 rfl rfl)
theorem dX2_pass_27 : decode cX2_pass 27 = .ok (.iaload, 1) := dk_46 (dk_at dksX2_pass_1 4 rfl rfl)
theorem dX2_pass_28 : decode cX2_pass 28 = .ok (.ifCond .le 17, 3) := dk_158 0 17 (dk_at dksX2_pass_1 5 rfl rfl)
theorem dX2_pass_31 : decode cX2_pass 31 = .ok (.aload_n 0, 1) := dk_42 (dk_at dksX2_pass_1 8 rfl rfl)
theorem dX2_pass_32 : decode cX2_pass 32 = .ok (.aload_n 0, 1) := dk_42 (dk_at dksX2_pass_1 9 rfl rfl)
theorem dX2_pass_33 : decode cX2_pass 33 = .ok (.aload_n 0, 1) := dk_42 (dk_at dksX2_pass_1 10 rfl rfl)
theorem dX2_pass_34 : decode cX2_pass 34 = .ok (.getfield 7, 3) := dk_180 0 7 (dk_at dksX2_pass_1 11 rfl rfl)
theorem dX2_pass_37 : decode cX2_pass 37 = .ok (.iconst 0, 1) := dk_3 (dk_at dksX2_pass_1 14 rfl rfl)
theorem dX2_pass_38 : decode cX2_pass 38 = .ok (.iaload, 1) := dk_46 (dk_at dksX2_pass_1 15 rfl rfl)
theorem dX2_pass_39 : decode cX2_pass 39 = .ok (.invokevirtual 348, 3) := dk_182 1 92 (dk_at dksX2_pass_1 16 rfl rfl)
theorem dX2_pass_42 : decode cX2_pass 42 = .ok (.invokevirtual 351, 3) := dk_182 1 95 (dk_at dksX2_pass_1 19 rfl rfl)
theorem dX2_pass_45 : decode cX2_pass 45 = .ok (.iconst 0, 1) := dk_3 (dk_at dksX2_pass_1 22 rfl rfl)
theorem dX2_pass_46 : decode cX2_pass 46 = .ok (.istore_n 1, 1) := dk_60 (dk_at dksX2_pass_1 23 rfl rfl)
theorem dX2_pass_47 : decode cX2_pass 47 = .ok (.iload_n 1, 1) := dk_27 (dk_at dksX2_pass_2 0 rfl rfl)
theorem dX2_pass_48 : decode cX2_pass 48 = .ok (.aload_n 0, 1) := dk_42 (dk_at dksX2_pass_2 1 rfl rfl)
theorem dX2_pass_49 : decode cX2_pass 49 = .ok (.getfield 7, 3) := dk_180 0 7 (dk_at dksX2_pass_2 2 rfl rfl)
theorem dX2_pass_52 : decode cX2_pass 52 = .ok (.iconst 0, 1) := dk_3 (dk_at dksX2_pass_2 5 rfl rfl)
theorem dX2_pass_53 : decode cX2_pass 53 = .ok (.iaload, 1) := dk_46 (dk_at dksX2_pass_2 6 rfl rfl)
theorem dX2_pass_54 : decode cX2_pass 54 = .ok (.if_icmp .ge 56, 3) := dk_162 0 56 (dk_at dksX2_pass_2 7 rfl rfl)
theorem dX2_pass_57 : decode cX2_pass 57 = .ok (.aload_n 0, 1) := dk_42 (dk_at dksX2_pass_2 10 rfl rfl)
theorem dX2_pass_58 : decode cX2_pass 58 = .ok (.iload_n 1, 1) := dk_27 (dk_at dksX2_pass_2 11 rfl rfl)
theorem dX2_pass_59 : decode cX2_pass 59 = .ok (.invokevirtual 89, 3) := dk_182 0 89 (dk_at dksX2_pass_2 12 rfl rfl)
theorem dX2_pass_62 : decode cX2_pass 62 = .ok (.ifCond .eq 42, 3) := dk_153 0 42 (dk_at dksX2_pass_2 15 rfl rfl)
theorem dX2_pass_65 : decode cX2_pass 65 = .ok (.aload_n 0, 1) := dk_42 (dk_at dksX2_pass_2 18 rfl rfl)
theorem dX2_pass_66 : decode cX2_pass 66 = .ok (.iload_n 1, 1) := dk_27 (dk_at dksX2_pass_2 19 rfl rfl)
theorem dX2_pass_67 : decode cX2_pass 67 = .ok (.invokevirtual 354, 3) := dk_182 1 98 (dk_at dksX2_pass_2 20 rfl rfl)
theorem dX2_pass_70 : decode cX2_pass 70 = .ok (.ifCond .gt 6, 3) := dk_157 0 6 (dk_at dksX2_pass_3 0 rfl rfl)
theorem dX2_pass_73 : decode cX2_pass 73 = .ok (.goto 31, 3) := dk_167 0 31 (dk_at dksX2_pass_3 3 rfl rfl)
theorem dX2_pass_76 : decode cX2_pass 76 = .ok (.aload_n 0, 1) := dk_42 (dk_at dksX2_pass_3 6 rfl rfl)
theorem dX2_pass_77 : decode cX2_pass 77 = .ok (.getfield 7, 3) := dk_180 0 7 (dk_at dksX2_pass_3 7 rfl rfl)
theorem dX2_pass_80 : decode cX2_pass 80 = .ok (.bipush 12, 2) := dk_16 12 (dk_at dksX2_pass_3 10 rfl rfl)
theorem dX2_pass_82 : decode cX2_pass 82 = .ok (.iconst 3, 1) := dk_6 (dk_at dksX2_pass_3 12 rfl rfl)
theorem dX2_pass_83 : decode cX2_pass 83 = .ok (.iload_n 1, 1) := dk_27 (dk_at dksX2_pass_3 13 rfl rfl)
theorem dX2_pass_84 : decode cX2_pass 84 = .ok (.imul, 1) := dk_104 (dk_at dksX2_pass_3 14 rfl rfl)
theorem dX2_pass_85 : decode cX2_pass 85 = .ok (.iadd, 1) := dk_96 (dk_at dksX2_pass_3 15 rfl rfl)
theorem dX2_pass_86 : decode cX2_pass 86 = .ok (.iconst 3, 1) := dk_6 (dk_at dksX2_pass_3 16 rfl rfl)
theorem dX2_pass_87 : decode cX2_pass 87 = .ok (.iastore, 1) := dk_79 (dk_at dksX2_pass_3 17 rfl rfl)
theorem dX2_pass_88 : decode cX2_pass 88 = .ok (.aload_n 0, 1) := dk_42 (dk_at dksX2_pass_3 18 rfl rfl)
theorem dX2_pass_89 : decode cX2_pass 89 = .ok (.dup, 1) := dk_89 (dk_at dksX2_pass_3 19 rfl rfl)
theorem dX2_pass_90 : decode cX2_pass 90 = .ok (.getfield 357, 3) := dk_180 1 101 (dk_at dksX2_pass_3 20 rfl rfl)
theorem dX2_pass_93 : decode cX2_pass 93 = .ok (.iconst 1, 1) := dk_4 (dk_at dksX2_pass_3 23 rfl rfl)
theorem dX2_pass_94 : decode cX2_pass 94 = .ok (.iadd, 1) := dk_96 (dk_at dksX2_pass_4 0 rfl rfl)
theorem dX2_pass_95 : decode cX2_pass 95 = .ok (.putfield 357, 3) := dk_181 1 101 (dk_at dksX2_pass_4 1 rfl rfl)
theorem dX2_pass_98 : decode cX2_pass 98 = .ok (.aload_n 0, 1) := dk_42 (dk_at dksX2_pass_4 4 rfl rfl)
theorem dX2_pass_99 : decode cX2_pass 99 = .ok (.iload_n 1, 1) := dk_27 (dk_at dksX2_pass_4 5 rfl rfl)
theorem dX2_pass_100 : decode cX2_pass 100 = .ok (.iconst 2, 1) := dk_5 (dk_at dksX2_pass_4 6 rfl rfl)
theorem dX2_pass_101 : decode cX2_pass 101 = .ok (.invokevirtual 345, 3) := dk_182 1 89 (dk_at dksX2_pass_4 7 rfl rfl)
theorem dX2_pass_104 : decode cX2_pass 104 = .ok (.iinc 1 1, 3) := dk_132 1 1 (dk_at dksX2_pass_4 10 rfl rfl)
theorem dX2_pass_107 : decode cX2_pass 107 = .ok (.goto (-60), 3) := dk_167 255 196 (dk_at dksX2_pass_4 13 rfl rfl)
theorem dX2_pass_110 : decode cX2_pass 110 = .ok (.aload_n 0, 1) := dk_42 (dk_at dksX2_pass_4 16 rfl rfl)
theorem dX2_pass_111 : decode cX2_pass 111 = .ok (.getfield 7, 3) := dk_180 0 7 (dk_at dksX2_pass_4 17 rfl rfl)
theorem dX2_pass_114 : decode cX2_pass 114 = .ok (.bipush 7, 2) := dk_16 7 (dk_at dksX2_pass_4 20 rfl rfl)
theorem dX2_pass_116 : decode cX2_pass 116 = .ok (.dup2, 1) := dk_92 (dk_at dksX2_pass_4 22 rfl rfl)
theorem dX2_pass_117 : decode cX2_pass 117 = .ok (.iaload, 1) := dk_46 (dk_at dksX2_pass_4 23 rfl rfl)
theorem dX2_pass_118 : decode cX2_pass 118 = .ok (.iconst 1, 1) := dk_4 (dk_at dksX2_pass_5 0 rfl rfl)
theorem dX2_pass_119 : decode cX2_pass 119 = .ok (.iadd, 1) := dk_96 (dk_at dksX2_pass_5 1 rfl rfl)
theorem dX2_pass_120 : decode cX2_pass 120 = .ok (.iastore, 1) := dk_79 (dk_at dksX2_pass_5 2 rfl rfl)
theorem dX2_pass_121 : decode cX2_pass 121 = .ok (.return_, 1) := dk_177 (dk_at dksX2_pass_5 3 rfl rfl)
abbrev cX2_drawnBy : ByteArray := prog_20_method_77_code
def yX2_drawnBy : MethodName := ⟨RX2, "drawnBy", "(I)I"⟩
def dkwX2_drawnBy_0 : List UInt8 := [42, 180, 0, 7, 16, 8, 46, 27, 112, 61, 42, 182, 1, 77, 28, 172]
abbrev dktX2_drawnBy_0 : List UInt8 := dkwX2_drawnBy_0 ++ []
theorem dksX2_drawnBy_0 : cX2_drawnBy.data.toList.drop 0 = dktX2_drawnBy_0 := by decide +kernel
theorem dX2_drawnBy_0 : decode cX2_drawnBy 0 = .ok (.aload_n 0, 1) := dk_42 (dk_at dksX2_drawnBy_0 0 rfl rfl)
theorem dX2_drawnBy_1 : decode cX2_drawnBy 1 = .ok (.getfield 7, 3) := dk_180 0 7 (dk_at dksX2_drawnBy_0 1 rfl rfl)
theorem dX2_drawnBy_4 : decode cX2_drawnBy 4 = .ok (.bipush 8, 2) := dk_16 8 (dk_at dksX2_drawnBy_0 4 rfl rfl)
theorem dX2_drawnBy_6 : decode cX2_drawnBy 6 = .ok (.iaload, 1) := dk_46 (dk_at dksX2_drawnBy_0 6 rfl rfl)
theorem dX2_drawnBy_7 : decode cX2_drawnBy 7 = .ok (.iload_n 1, 1) := dk_27 (dk_at dksX2_drawnBy_0 7 rfl rfl)
theorem dX2_drawnBy_8 : decode cX2_drawnBy 8 = .ok (.irem, 1) := dk_112 (dk_at dksX2_drawnBy_0 8 rfl rfl)
theorem dX2_drawnBy_9 : decode cX2_drawnBy 9 = .ok (.istore_n 2, 1) := dk_61 (dk_at dksX2_drawnBy_0 9 rfl rfl)
theorem dX2_drawnBy_10 : decode cX2_drawnBy 10 = .ok (.aload_n 0, 1) := dk_42 (dk_at dksX2_drawnBy_0 10 rfl rfl)
theorem dX2_drawnBy_11 : decode cX2_drawnBy 11 = .ok (.invokevirtual 333, 3) := dk_182 1 77 (dk_at dksX2_drawnBy_0 11 rfl rfl)
theorem dX2_drawnBy_14 : decode cX2_drawnBy 14 = .ok (.iload_n 2, 1) := dk_28 (dk_at dksX2_drawnBy_0 14 rfl rfl)
theorem dX2_drawnBy_15 : decode cX2_drawnBy 15 = .ok (.ireturn, 1) := dk_172 (dk_at dksX2_drawnBy_0 15 rfl rfl)
abbrev cX2_anew : ByteArray := prog_20_method_78_code
def yX2_anew : MethodName := ⟨RX2, "anew", "()V"⟩
def dkwX2_anew_1 : List UInt8 := [20, 1, 84, 113, 136, 79, 177]
abbrev dktX2_anew_1 : List UInt8 := dkwX2_anew_1 ++ []
def dkwX2_anew_0 : List UInt8 := [42, 180, 0, 7, 16, 8, 42, 180, 0, 7, 16, 8, 46, 133, 20, 1, 80, 105, 20, 1, 82, 97]
abbrev dktX2_anew_0 : List UInt8 := dkwX2_anew_0 ++ dktX2_anew_1
theorem dksX2_anew_0 : cX2_anew.data.toList.drop 0 = dktX2_anew_0 := by decide +kernel
theorem dksX2_anew_1 : cX2_anew.data.toList.drop 22 = dktX2_anew_1 := dk_seg dksX2_anew_0 22 rfl rfl
theorem dX2_anew_0 : decode cX2_anew 0 = .ok (.aload_n 0, 1) := dk_42 (dk_at dksX2_anew_0 0 rfl rfl)
theorem dX2_anew_1 : decode cX2_anew 1 = .ok (.getfield 7, 3) := dk_180 0 7 (dk_at dksX2_anew_0 1 rfl rfl)
theorem dX2_anew_4 : decode cX2_anew 4 = .ok (.bipush 8, 2) := dk_16 8 (dk_at dksX2_anew_0 4 rfl rfl)
theorem dX2_anew_6 : decode cX2_anew 6 = .ok (.aload_n 0, 1) := dk_42 (dk_at dksX2_anew_0 6 rfl rfl)
theorem dX2_anew_7 : decode cX2_anew 7 = .ok (.getfield 7, 3) := dk_180 0 7 (dk_at dksX2_anew_0 7 rfl rfl)
theorem dX2_anew_10 : decode cX2_anew 10 = .ok (.bipush 8, 2) := dk_16 8 (dk_at dksX2_anew_0 10 rfl rfl)
theorem dX2_anew_12 : decode cX2_anew 12 = .ok (.iaload, 1) := dk_46 (dk_at dksX2_anew_0 12 rfl rfl)
theorem dX2_anew_13 : decode cX2_anew 13 = .ok (.i2l, 1) := dk_133 (dk_at dksX2_anew_0 13 rfl rfl)
theorem dX2_anew_14 : decode cX2_anew 14 = .ok (.ldc2_w 336, 3) := dk_20 1 80 (dk_at dksX2_anew_0 14 rfl rfl)
theorem dX2_anew_17 : decode cX2_anew 17 = .ok (.lmul, 1) := dk_105 (dk_at dksX2_anew_0 17 rfl rfl)
theorem dX2_anew_18 : decode cX2_anew 18 = .ok (.ldc2_w 338, 3) := dk_20 1 82 (dk_at dksX2_anew_0 18 rfl rfl)
theorem dX2_anew_21 : decode cX2_anew 21 = .ok (.ladd, 1) := dk_97 (dk_at dksX2_anew_0 21 rfl rfl)
theorem dX2_anew_22 : decode cX2_anew 22 = .ok (.ldc2_w 340, 3) := dk_20 1 84 (dk_at dksX2_anew_1 0 rfl rfl)
theorem dX2_anew_25 : decode cX2_anew 25 = .ok (.lrem, 1) := dk_113 (dk_at dksX2_anew_1 3 rfl rfl)
theorem dX2_anew_26 : decode cX2_anew 26 = .ok (.l2i, 1) := dk_136 (dk_at dksX2_anew_1 4 rfl rfl)
theorem dX2_anew_27 : decode cX2_anew 27 = .ok (.iastore, 1) := dk_79 (dk_at dksX2_anew_1 5 rfl rfl)
theorem dX2_anew_28 : decode cX2_anew 28 = .ok (.return_, 1) := dk_177 (dk_at dksX2_anew_1 6 rfl rfl)
abbrev cX2_warm : ByteArray := prog_20_method_84_code
def yX2_warm : MethodName := ⟨RX2, "warm", "(I)V"⟩
def dkwX2_warm_2 : List UInt8 := [96, 42, 27, 182, 1, 25, 28, 96, 133, 3, 16, 9, 184, 1, 50, 79, 177]
abbrev dktX2_warm_2 : List UInt8 := dkwX2_warm_2 ++ []
def dkwX2_warm_1 : List UInt8 := [16, 10, 46, 4, 160, 0, 7, 2, 167, 0, 4, 3, 61, 42, 180, 0, 7, 16, 12, 6, 27, 104, 96, 5]
abbrev dktX2_warm_1 : List UInt8 := dkwX2_warm_1 ++ dktX2_warm_2
def dkwX2_warm_0 : List UInt8 := [42, 27, 182, 0, 85, 154, 0, 7, 4, 167, 0, 27, 42, 27, 182, 0, 89, 153, 0, 18, 42, 180, 0, 7]
abbrev dktX2_warm_0 : List UInt8 := dkwX2_warm_0 ++ dktX2_warm_1
theorem dksX2_warm_0 : cX2_warm.data.toList.drop 0 = dktX2_warm_0 := by decide +kernel
theorem dksX2_warm_1 : cX2_warm.data.toList.drop 24 = dktX2_warm_1 := dk_seg dksX2_warm_0 24 rfl rfl
theorem dksX2_warm_2 : cX2_warm.data.toList.drop 48 = dktX2_warm_2 := dk_seg dksX2_warm_1 24 rfl rfl
theorem dX2_warm_0 : decode cX2_warm 0 = .ok (.aload_n 0, 1) := dk_42 (dk_at dksX2_warm_0 0 rfl rfl)
theorem dX2_warm_1 : decode cX2_warm 1 = .ok (.iload_n 1, 1) := dk_27 (dk_at dksX2_warm_0 1 rfl rfl)
theorem dX2_warm_2 : decode cX2_warm 2 = .ok (.invokevirtual 85, 3) := dk_182 0 85 (dk_at dksX2_warm_0 2 rfl rfl)
theorem dX2_warm_5 : decode cX2_warm 5 = .ok (.ifCond .ne 7, 3) := dk_154 0 7 (dk_at dksX2_warm_0 5 rfl rfl)
theorem dX2_warm_8 : decode cX2_warm 8 = .ok (.iconst 1, 1) := dk_4 (dk_at dksX2_warm_0 8 rfl rfl)
theorem dX2_warm_9 : decode cX2_warm 9 = .ok (.goto 27, 3) := dk_167 0 27 (dk_at dksX2_warm_0 9 rfl rfl)
theorem dX2_warm_12 : decode cX2_warm 12 = .ok (.aload_n 0, 1) := dk_42 (dk_at dksX2_warm_0 12 rfl rfl)
theorem dX2_warm_13 : decode cX2_warm 13 = .ok (.iload_n 1, 1) := dk_27 (dk_at dksX2_warm_0 13 rfl rfl)
theorem dX2_warm_14 : decode cX2_warm 14 = .ok (.invokevirtual 89, 3) := dk_182 0 89 (dk_at dksX2_warm_0 14 rfl rfl)
theorem dX2_warm_17 : decode cX2_warm 17 = .ok (.ifCond .eq 18, 3) := dk_153 0 18 (dk_at dksX2_warm_0 17 rfl rfl)
theorem dX2_warm_20 : decode cX2_warm 20 = .ok (.aload_n 0, 1) := dk_42 (dk_at dksX2_warm_0 20 rfl rfl)
theorem dX2_warm_21 : decode cX2_warm 21 = .ok (.getfield 7, 3) := dk_180 0 7 (dk_at dksX2_warm_0 21 rfl rfl)
theorem dX2_warm_24 : decode cX2_warm 24 = .ok (.bipush 10, 2) := dk_16 10 (dk_at dksX2_warm_1 0 rfl rfl)
theorem dX2_warm_26 : decode cX2_warm 26 = .ok (.iaload, 1) := dk_46 (dk_at dksX2_warm_1 2 rfl rfl)
theorem dX2_warm_27 : decode cX2_warm 27 = .ok (.iconst 1, 1) := dk_4 (dk_at dksX2_warm_1 3 rfl rfl)
theorem dX2_warm_28 : decode cX2_warm 28 = .ok (.if_icmp .ne 7, 3) := dk_160 0 7 (dk_at dksX2_warm_1 4 rfl rfl)
theorem dX2_warm_31 : decode cX2_warm 31 = .ok (.iconst (-1), 1) := dk_2 (dk_at dksX2_warm_1 7 rfl rfl)
theorem dX2_warm_32 : decode cX2_warm 32 = .ok (.goto 4, 3) := dk_167 0 4 (dk_at dksX2_warm_1 8 rfl rfl)
theorem dX2_warm_35 : decode cX2_warm 35 = .ok (.iconst 0, 1) := dk_3 (dk_at dksX2_warm_1 11 rfl rfl)
theorem dX2_warm_36 : decode cX2_warm 36 = .ok (.istore_n 2, 1) := dk_61 (dk_at dksX2_warm_1 12 rfl rfl)
theorem dX2_warm_37 : decode cX2_warm 37 = .ok (.aload_n 0, 1) := dk_42 (dk_at dksX2_warm_1 13 rfl rfl)
theorem dX2_warm_38 : decode cX2_warm 38 = .ok (.getfield 7, 3) := dk_180 0 7 (dk_at dksX2_warm_1 14 rfl rfl)
theorem dX2_warm_41 : decode cX2_warm 41 = .ok (.bipush 12, 2) := dk_16 12 (dk_at dksX2_warm_1 17 rfl rfl)
theorem dX2_warm_43 : decode cX2_warm 43 = .ok (.iconst 3, 1) := dk_6 (dk_at dksX2_warm_1 19 rfl rfl)
theorem dX2_warm_44 : decode cX2_warm 44 = .ok (.iload_n 1, 1) := dk_27 (dk_at dksX2_warm_1 20 rfl rfl)
theorem dX2_warm_45 : decode cX2_warm 45 = .ok (.imul, 1) := dk_104 (dk_at dksX2_warm_1 21 rfl rfl)
theorem dX2_warm_46 : decode cX2_warm 46 = .ok (.iadd, 1) := dk_96 (dk_at dksX2_warm_1 22 rfl rfl)
theorem dX2_warm_47 : decode cX2_warm 47 = .ok (.iconst 2, 1) := dk_5 (dk_at dksX2_warm_1 23 rfl rfl)
theorem dX2_warm_48 : decode cX2_warm 48 = .ok (.iadd, 1) := dk_96 (dk_at dksX2_warm_2 0 rfl rfl)
theorem dX2_warm_49 : decode cX2_warm 49 = .ok (.aload_n 0, 1) := dk_42 (dk_at dksX2_warm_2 1 rfl rfl)
theorem dX2_warm_50 : decode cX2_warm 50 = .ok (.iload_n 1, 1) := dk_27 (dk_at dksX2_warm_2 2 rfl rfl)
theorem dX2_warm_51 : decode cX2_warm 51 = .ok (.invokevirtual 281, 3) := dk_182 1 25 (dk_at dksX2_warm_2 3 rfl rfl)
theorem dX2_warm_54 : decode cX2_warm 54 = .ok (.iload_n 2, 1) := dk_28 (dk_at dksX2_warm_2 6 rfl rfl)
theorem dX2_warm_55 : decode cX2_warm 55 = .ok (.iadd, 1) := dk_96 (dk_at dksX2_warm_2 7 rfl rfl)
theorem dX2_warm_56 : decode cX2_warm 56 = .ok (.i2l, 1) := dk_133 (dk_at dksX2_warm_2 8 rfl rfl)
theorem dX2_warm_57 : decode cX2_warm 57 = .ok (.iconst 0, 1) := dk_3 (dk_at dksX2_warm_2 9 rfl rfl)
theorem dX2_warm_58 : decode cX2_warm 58 = .ok (.bipush 9, 2) := dk_16 9 (dk_at dksX2_warm_2 10 rfl rfl)
theorem dX2_warm_60 : decode cX2_warm 60 = .ok (.invokestatic 306, 3) := dk_184 1 50 (dk_at dksX2_warm_2 12 rfl rfl)
theorem dX2_warm_63 : decode cX2_warm 63 = .ok (.iastore, 1) := dk_79 (dk_at dksX2_warm_2 15 rfl rfl)
theorem dX2_warm_64 : decode cX2_warm 64 = .ok (.return_, 1) := dk_177 (dk_at dksX2_warm_2 16 rfl rfl)
abbrev cX2_sellsOf : ByteArray := prog_20_method_74_code
def yX2_sellsOf : MethodName := ⟨RX2, "sellsOf", "(I)I"⟩
def dkwX2_sellsOf_1 : List UInt8 := [180, 0, 7, 5, 46, 4, 42, 180, 0, 32, 8, 46, 16, 30, 100, 133, 16, 157, 16, 99, 182, 1, 60, 172]
abbrev dktX2_sellsOf_1 : List UInt8 := dkwX2_sellsOf_1 ++ []
def dkwX2_sellsOf_0 : List UInt8 := [42, 27, 3, 182, 1, 57, 42, 180, 0, 32, 16, 7, 42, 182, 1, 68, 184, 1, 71, 79, 42, 42]
abbrev dktX2_sellsOf_0 : List UInt8 := dkwX2_sellsOf_0 ++ dktX2_sellsOf_1
theorem dksX2_sellsOf_0 : cX2_sellsOf.data.toList.drop 0 = dktX2_sellsOf_0 := by decide +kernel
theorem dksX2_sellsOf_1 : cX2_sellsOf.data.toList.drop 22 = dktX2_sellsOf_1 := dk_seg dksX2_sellsOf_0 22 rfl rfl
theorem dX2_sellsOf_0 : decode cX2_sellsOf 0 = .ok (.aload_n 0, 1) := dk_42 (dk_at dksX2_sellsOf_0 0 rfl rfl)
theorem dX2_sellsOf_1 : decode cX2_sellsOf 1 = .ok (.iload_n 1, 1) := dk_27 (dk_at dksX2_sellsOf_0 1 rfl rfl)
theorem dX2_sellsOf_2 : decode cX2_sellsOf 2 = .ok (.iconst 0, 1) := dk_3 (dk_at dksX2_sellsOf_0 2 rfl rfl)
theorem dX2_sellsOf_3 : decode cX2_sellsOf 3 = .ok (.invokevirtual 313, 3) := dk_182 1 57 (dk_at dksX2_sellsOf_0 3 rfl rfl)
theorem dX2_sellsOf_6 : decode cX2_sellsOf 6 = .ok (.aload_n 0, 1) := dk_42 (dk_at dksX2_sellsOf_0 6 rfl rfl)
theorem dX2_sellsOf_7 : decode cX2_sellsOf 7 = .ok (.getfield 32, 3) := dk_180 0 32 (dk_at dksX2_sellsOf_0 7 rfl rfl)
theorem dX2_sellsOf_10 : decode cX2_sellsOf 10 = .ok (.bipush 7, 2) := dk_16 7 (dk_at dksX2_sellsOf_0 10 rfl rfl)
theorem dX2_sellsOf_12 : decode cX2_sellsOf 12 = .ok (.aload_n 0, 1) := dk_42 (dk_at dksX2_sellsOf_0 12 rfl rfl)
theorem dX2_sellsOf_13 : decode cX2_sellsOf 13 = .ok (.invokevirtual 324, 3) := dk_182 1 68 (dk_at dksX2_sellsOf_0 13 rfl rfl)
theorem dX2_sellsOf_16 : decode cX2_sellsOf 16 = .ok (.invokestatic 327, 3) := dk_184 1 71 (dk_at dksX2_sellsOf_0 16 rfl rfl)
theorem dX2_sellsOf_19 : decode cX2_sellsOf 19 = .ok (.iastore, 1) := dk_79 (dk_at dksX2_sellsOf_0 19 rfl rfl)
theorem dX2_sellsOf_20 : decode cX2_sellsOf 20 = .ok (.aload_n 0, 1) := dk_42 (dk_at dksX2_sellsOf_0 20 rfl rfl)
theorem dX2_sellsOf_21 : decode cX2_sellsOf 21 = .ok (.aload_n 0, 1) := dk_42 (dk_at dksX2_sellsOf_0 21 rfl rfl)
theorem dX2_sellsOf_22 : decode cX2_sellsOf 22 = .ok (.getfield 7, 3) := dk_180 0 7 (dk_at dksX2_sellsOf_1 0 rfl rfl)
theorem dX2_sellsOf_25 : decode cX2_sellsOf 25 = .ok (.iconst 2, 1) := dk_5 (dk_at dksX2_sellsOf_1 3 rfl rfl)
theorem dX2_sellsOf_26 : decode cX2_sellsOf 26 = .ok (.iaload, 1) := dk_46 (dk_at dksX2_sellsOf_1 4 rfl rfl)
theorem dX2_sellsOf_27 : decode cX2_sellsOf 27 = .ok (.iconst 1, 1) := dk_4 (dk_at dksX2_sellsOf_1 5 rfl rfl)
theorem dX2_sellsOf_28 : decode cX2_sellsOf 28 = .ok (.aload_n 0, 1) := dk_42 (dk_at dksX2_sellsOf_1 6 rfl rfl)
theorem dX2_sellsOf_29 : decode cX2_sellsOf 29 = .ok (.getfield 32, 3) := dk_180 0 32 (dk_at dksX2_sellsOf_1 7 rfl rfl)
theorem dX2_sellsOf_32 : decode cX2_sellsOf 32 = .ok (.iconst 5, 1) := dk_8 (dk_at dksX2_sellsOf_1 10 rfl rfl)
theorem dX2_sellsOf_33 : decode cX2_sellsOf 33 = .ok (.iaload, 1) := dk_46 (dk_at dksX2_sellsOf_1 11 rfl rfl)
theorem dX2_sellsOf_34 : decode cX2_sellsOf 34 = .ok (.bipush 30, 2) := dk_16 30 (dk_at dksX2_sellsOf_1 12 rfl rfl)
theorem dX2_sellsOf_36 : decode cX2_sellsOf 36 = .ok (.isub, 1) := dk_100 (dk_at dksX2_sellsOf_1 14 rfl rfl)
theorem dX2_sellsOf_37 : decode cX2_sellsOf 37 = .ok (.i2l, 1) := dk_133 (dk_at dksX2_sellsOf_1 15 rfl rfl)
theorem dX2_sellsOf_38 : decode cX2_sellsOf 38 = .ok (.bipush (-99), 2) := dk_16 157 (dk_at dksX2_sellsOf_1 16 rfl rfl)
theorem dX2_sellsOf_40 : decode cX2_sellsOf 40 = .ok (.bipush 99, 2) := dk_16 99 (dk_at dksX2_sellsOf_1 18 rfl rfl)
theorem dX2_sellsOf_42 : decode cX2_sellsOf 42 = .ok (.invokevirtual 316, 3) := dk_182 1 60 (dk_at dksX2_sellsOf_1 20 rfl rfl)
theorem dX2_sellsOf_45 : decode cX2_sellsOf 45 = .ok (.ireturn, 1) := dk_172 (dk_at dksX2_sellsOf_1 23 rfl rfl)
abbrev cX2_pawnedNow : ByteArray := prog_20_method_14_code
def yX2_pawnedNow : MethodName := ⟨RX2, "pawnedNow", "()I"⟩
def dkwX2_pawnedNow_1 : List UInt8 := [28, 120, 167, 0, 4, 3, 128, 60, 132, 2, 1, 167, 255, 225, 27, 172]
abbrev dktX2_pawnedNow_1 : List UInt8 := dkwX2_pawnedNow_1 ++ []
def dkwX2_pawnedNow_0 : List UInt8 := [3, 60, 3, 61, 28, 42, 180, 0, 7, 3, 46, 162, 0, 27, 27, 42, 28, 182, 0, 89, 153, 0, 9, 4]
abbrev dktX2_pawnedNow_0 : List UInt8 := dkwX2_pawnedNow_0 ++ dktX2_pawnedNow_1
theorem dksX2_pawnedNow_0 : cX2_pawnedNow.data.toList.drop 0 = dktX2_pawnedNow_0 := by decide +kernel
theorem dksX2_pawnedNow_1 : cX2_pawnedNow.data.toList.drop 24 = dktX2_pawnedNow_1 := dk_seg dksX2_pawnedNow_0 24 rfl rfl
theorem dX2_pawnedNow_0 : decode cX2_pawnedNow 0 = .ok (.iconst 0, 1) := dk_3 (dk_at dksX2_pawnedNow_0 0 rfl rfl)
theorem dX2_pawnedNow_1 : decode cX2_pawnedNow 1 = .ok (.istore_n 1, 1) := dk_60 (dk_at dksX2_pawnedNow_0 1 rfl rfl)
theorem dX2_pawnedNow_2 : decode cX2_pawnedNow 2 = .ok (.iconst 0, 1) := dk_3 (dk_at dksX2_pawnedNow_0 2 rfl rfl)
theorem dX2_pawnedNow_3 : decode cX2_pawnedNow 3 = .ok (.istore_n 2, 1) := dk_61 (dk_at dksX2_pawnedNow_0 3 rfl rfl)
theorem dX2_pawnedNow_4 : decode cX2_pawnedNow 4 = .ok (.iload_n 2, 1) := dk_28 (dk_at dksX2_pawnedNow_0 4 rfl rfl)
theorem dX2_pawnedNow_5 : decode cX2_pawnedNow 5 = .ok (.aload_n 0, 1) := dk_42 (dk_at dksX2_pawnedNow_0 5 rfl rfl)
theorem dX2_pawnedNow_6 : decode cX2_pawnedNow 6 = .ok (.getfield 7, 3) := dk_180 0 7 (dk_at dksX2_pawnedNow_0 6 rfl rfl)
theorem dX2_pawnedNow_9 : decode cX2_pawnedNow 9 = .ok (.iconst 0, 1) := dk_3 (dk_at dksX2_pawnedNow_0 9 rfl rfl)
theorem dX2_pawnedNow_10 : decode cX2_pawnedNow 10 = .ok (.iaload, 1) := dk_46 (dk_at dksX2_pawnedNow_0 10 rfl rfl)
theorem dX2_pawnedNow_11 : decode cX2_pawnedNow 11 = .ok (.if_icmp .ge 27, 3) := dk_162 0 27 (dk_at dksX2_pawnedNow_0 11 rfl rfl)
theorem dX2_pawnedNow_14 : decode cX2_pawnedNow 14 = .ok (.iload_n 1, 1) := dk_27 (dk_at dksX2_pawnedNow_0 14 rfl rfl)
theorem dX2_pawnedNow_15 : decode cX2_pawnedNow 15 = .ok (.aload_n 0, 1) := dk_42 (dk_at dksX2_pawnedNow_0 15 rfl rfl)
theorem dX2_pawnedNow_16 : decode cX2_pawnedNow 16 = .ok (.iload_n 2, 1) := dk_28 (dk_at dksX2_pawnedNow_0 16 rfl rfl)
theorem dX2_pawnedNow_17 : decode cX2_pawnedNow 17 = .ok (.invokevirtual 89, 3) := dk_182 0 89 (dk_at dksX2_pawnedNow_0 17 rfl rfl)
theorem dX2_pawnedNow_20 : decode cX2_pawnedNow 20 = .ok (.ifCond .eq 9, 3) := dk_153 0 9 (dk_at dksX2_pawnedNow_0 20 rfl rfl)
theorem dX2_pawnedNow_23 : decode cX2_pawnedNow 23 = .ok (.iconst 1, 1) := dk_4 (dk_at dksX2_pawnedNow_0 23 rfl rfl)
theorem dX2_pawnedNow_24 : decode cX2_pawnedNow 24 = .ok (.iload_n 2, 1) := dk_28 (dk_at dksX2_pawnedNow_1 0 rfl rfl)
theorem dX2_pawnedNow_25 : decode cX2_pawnedNow 25 = .ok (.ishl, 1) := dk_120 (dk_at dksX2_pawnedNow_1 1 rfl rfl)
theorem dX2_pawnedNow_26 : decode cX2_pawnedNow 26 = .ok (.goto 4, 3) := dk_167 0 4 (dk_at dksX2_pawnedNow_1 2 rfl rfl)
theorem dX2_pawnedNow_29 : decode cX2_pawnedNow 29 = .ok (.iconst 0, 1) := dk_3 (dk_at dksX2_pawnedNow_1 5 rfl rfl)
theorem dX2_pawnedNow_30 : decode cX2_pawnedNow 30 = .ok (.ior, 1) := dk_128 (dk_at dksX2_pawnedNow_1 6 rfl rfl)
theorem dX2_pawnedNow_31 : decode cX2_pawnedNow 31 = .ok (.istore_n 1, 1) := dk_60 (dk_at dksX2_pawnedNow_1 7 rfl rfl)
theorem dX2_pawnedNow_32 : decode cX2_pawnedNow 32 = .ok (.iinc 2 1, 3) := dk_132 2 1 (dk_at dksX2_pawnedNow_1 8 rfl rfl)
theorem dX2_pawnedNow_35 : decode cX2_pawnedNow 35 = .ok (.goto (-31), 3) := dk_167 255 225 (dk_at dksX2_pawnedNow_1 11 rfl rfl)
theorem dX2_pawnedNow_38 : decode cX2_pawnedNow 38 = .ok (.iload_n 1, 1) := dk_27 (dk_at dksX2_pawnedNow_1 14 rfl rfl)
theorem dX2_pawnedNow_39 : decode cX2_pawnedNow 39 = .ok (.ireturn, 1) := dk_172 (dk_at dksX2_pawnedNow_1 15 rfl rfl)
abbrev cX2_bits : ByteArray := prog_20_method_7_code
def yX2_bits : MethodName := ⟨RX2, "bits", "(I)I"⟩
def dkwX2_bits_0 : List UInt8 := [3, 60, 26, 61, 28, 153, 0, 15, 132, 1, 1, 28, 28, 4, 100, 126, 61, 167, 255, 243, 27, 172]
abbrev dktX2_bits_0 : List UInt8 := dkwX2_bits_0 ++ []
theorem dksX2_bits_0 : cX2_bits.data.toList.drop 0 = dktX2_bits_0 := by decide +kernel
theorem dX2_bits_0 : decode cX2_bits 0 = .ok (.iconst 0, 1) := dk_3 (dk_at dksX2_bits_0 0 rfl rfl)
theorem dX2_bits_1 : decode cX2_bits 1 = .ok (.istore_n 1, 1) := dk_60 (dk_at dksX2_bits_0 1 rfl rfl)
theorem dX2_bits_2 : decode cX2_bits 2 = .ok (.iload_n 0, 1) := dk_26 (dk_at dksX2_bits_0 2 rfl rfl)
theorem dX2_bits_3 : decode cX2_bits 3 = .ok (.istore_n 2, 1) := dk_61 (dk_at dksX2_bits_0 3 rfl rfl)
theorem dX2_bits_4 : decode cX2_bits 4 = .ok (.iload_n 2, 1) := dk_28 (dk_at dksX2_bits_0 4 rfl rfl)
theorem dX2_bits_5 : decode cX2_bits 5 = .ok (.ifCond .eq 15, 3) := dk_153 0 15 (dk_at dksX2_bits_0 5 rfl rfl)
theorem dX2_bits_8 : decode cX2_bits 8 = .ok (.iinc 1 1, 3) := dk_132 1 1 (dk_at dksX2_bits_0 8 rfl rfl)
theorem dX2_bits_11 : decode cX2_bits 11 = .ok (.iload_n 2, 1) := dk_28 (dk_at dksX2_bits_0 11 rfl rfl)
theorem dX2_bits_12 : decode cX2_bits 12 = .ok (.iload_n 2, 1) := dk_28 (dk_at dksX2_bits_0 12 rfl rfl)
theorem dX2_bits_13 : decode cX2_bits 13 = .ok (.iconst 1, 1) := dk_4 (dk_at dksX2_bits_0 13 rfl rfl)
theorem dX2_bits_14 : decode cX2_bits 14 = .ok (.isub, 1) := dk_100 (dk_at dksX2_bits_0 14 rfl rfl)
theorem dX2_bits_15 : decode cX2_bits 15 = .ok (.iand, 1) := dk_126 (dk_at dksX2_bits_0 15 rfl rfl)
theorem dX2_bits_16 : decode cX2_bits 16 = .ok (.istore_n 2, 1) := dk_61 (dk_at dksX2_bits_0 16 rfl rfl)
theorem dX2_bits_17 : decode cX2_bits 17 = .ok (.goto (-13), 3) := dk_167 255 243 (dk_at dksX2_bits_0 17 rfl rfl)
theorem dX2_bits_20 : decode cX2_bits 20 = .ok (.iload_n 1, 1) := dk_27 (dk_at dksX2_bits_0 20 rfl rfl)
theorem dX2_bits_21 : decode cX2_bits 21 = .ok (.ireturn, 1) := dk_172 (dk_at dksX2_bits_0 21 rfl rfl)
abbrev cX2_played : ByteArray := prog_20_method_94_code
def yX2_played : MethodName := ⟨RX2, "played", "(I)I"⟩
def dkwX2_played_2 : List UInt8 := [182, 1, 140, 154, 0, 5, 28, 172, 132, 2, 1, 167, 255, 219, 2, 172]
abbrev dktX2_played_2 : List UInt8 := dkwX2_played_2 ++ []
def dkwX2_played_1 : List UInt8 := [180, 0, 16, 17, 2, 193, 27, 104, 46, 162, 0, 29, 42, 17, 2, 193, 27, 104, 4, 96, 7, 28, 104, 96]
abbrev dktX2_played_1 : List UInt8 := dkwX2_played_1 ++ dktX2_played_2
def dkwX2_played_0 : List UInt8 := [27, 3, 42, 180, 0, 7, 4, 46, 4, 100, 184, 0, 81, 154, 0, 6, 16, 254, 172, 3, 61, 28, 42]
abbrev dktX2_played_0 : List UInt8 := dkwX2_played_0 ++ dktX2_played_1
theorem dksX2_played_0 : cX2_played.data.toList.drop 0 = dktX2_played_0 := by decide +kernel
theorem dksX2_played_1 : cX2_played.data.toList.drop 23 = dktX2_played_1 := dk_seg dksX2_played_0 23 rfl rfl
theorem dksX2_played_2 : cX2_played.data.toList.drop 47 = dktX2_played_2 := dk_seg dksX2_played_1 24 rfl rfl
theorem dX2_played_0 : decode cX2_played 0 = .ok (.iload_n 1, 1) := dk_27 (dk_at dksX2_played_0 0 rfl rfl)
theorem dX2_played_1 : decode cX2_played 1 = .ok (.iconst 0, 1) := dk_3 (dk_at dksX2_played_0 1 rfl rfl)
theorem dX2_played_2 : decode cX2_played 2 = .ok (.aload_n 0, 1) := dk_42 (dk_at dksX2_played_0 2 rfl rfl)
theorem dX2_played_3 : decode cX2_played 3 = .ok (.getfield 7, 3) := dk_180 0 7 (dk_at dksX2_played_0 3 rfl rfl)
theorem dX2_played_6 : decode cX2_played 6 = .ok (.iconst 1, 1) := dk_4 (dk_at dksX2_played_0 6 rfl rfl)
theorem dX2_played_7 : decode cX2_played 7 = .ok (.iaload, 1) := dk_46 (dk_at dksX2_played_0 7 rfl rfl)
theorem dX2_played_8 : decode cX2_played 8 = .ok (.iconst 1, 1) := dk_4 (dk_at dksX2_played_0 8 rfl rfl)
theorem dX2_played_9 : decode cX2_played 9 = .ok (.isub, 1) := dk_100 (dk_at dksX2_played_0 9 rfl rfl)
theorem dX2_played_10 : decode cX2_played 10 = .ok (.invokestatic 81, 3) := dk_184 0 81 (dk_at dksX2_played_0 10 rfl rfl)
theorem dX2_played_13 : decode cX2_played 13 = .ok (.ifCond .ne 6, 3) := dk_154 0 6 (dk_at dksX2_played_0 13 rfl rfl)
theorem dX2_played_16 : decode cX2_played 16 = .ok (.bipush (-2), 2) := dk_16 254 (dk_at dksX2_played_0 16 rfl rfl)
theorem dX2_played_18 : decode cX2_played 18 = .ok (.ireturn, 1) := dk_172 (dk_at dksX2_played_0 18 rfl rfl)
theorem dX2_played_19 : decode cX2_played 19 = .ok (.iconst 0, 1) := dk_3 (dk_at dksX2_played_0 19 rfl rfl)
theorem dX2_played_20 : decode cX2_played 20 = .ok (.istore_n 2, 1) := dk_61 (dk_at dksX2_played_0 20 rfl rfl)
theorem dX2_played_21 : decode cX2_played 21 = .ok (.iload_n 2, 1) := dk_28 (dk_at dksX2_played_0 21 rfl rfl)
theorem dX2_played_22 : decode cX2_played 22 = .ok (.aload_n 0, 1) := dk_42 (dk_at dksX2_played_0 22 rfl rfl)
theorem dX2_played_23 : decode cX2_played 23 = .ok (.getfield 16, 3) := dk_180 0 16 (dk_at dksX2_played_1 0 rfl rfl)
theorem dX2_played_26 : decode cX2_played 26 = .ok (.sipush 705, 3) := dk_17 2 193 (dk_at dksX2_played_1 3 rfl rfl)
theorem dX2_played_29 : decode cX2_played 29 = .ok (.iload_n 1, 1) := dk_27 (dk_at dksX2_played_1 6 rfl rfl)
theorem dX2_played_30 : decode cX2_played 30 = .ok (.imul, 1) := dk_104 (dk_at dksX2_played_1 7 rfl rfl)
theorem dX2_played_31 : decode cX2_played 31 = .ok (.iaload, 1) := dk_46 (dk_at dksX2_played_1 8 rfl rfl)
theorem dX2_played_32 : decode cX2_played 32 = .ok (.if_icmp .ge 29, 3) := dk_162 0 29 (dk_at dksX2_played_1 9 rfl rfl)
theorem dX2_played_35 : decode cX2_played 35 = .ok (.aload_n 0, 1) := dk_42 (dk_at dksX2_played_1 12 rfl rfl)
theorem dX2_played_36 : decode cX2_played 36 = .ok (.sipush 705, 3) := dk_17 2 193 (dk_at dksX2_played_1 13 rfl rfl)
theorem dX2_played_39 : decode cX2_played 39 = .ok (.iload_n 1, 1) := dk_27 (dk_at dksX2_played_1 16 rfl rfl)
theorem dX2_played_40 : decode cX2_played 40 = .ok (.imul, 1) := dk_104 (dk_at dksX2_played_1 17 rfl rfl)
theorem dX2_played_41 : decode cX2_played 41 = .ok (.iconst 1, 1) := dk_4 (dk_at dksX2_played_1 18 rfl rfl)
theorem dX2_played_42 : decode cX2_played 42 = .ok (.iadd, 1) := dk_96 (dk_at dksX2_played_1 19 rfl rfl)
theorem dX2_played_43 : decode cX2_played 43 = .ok (.iconst 4, 1) := dk_7 (dk_at dksX2_played_1 20 rfl rfl)
theorem dX2_played_44 : decode cX2_played 44 = .ok (.iload_n 2, 1) := dk_28 (dk_at dksX2_played_1 21 rfl rfl)
theorem dX2_played_45 : decode cX2_played 45 = .ok (.imul, 1) := dk_104 (dk_at dksX2_played_1 22 rfl rfl)
theorem dX2_played_46 : decode cX2_played 46 = .ok (.iadd, 1) := dk_96 (dk_at dksX2_played_1 23 rfl rfl)
theorem dX2_played_47 : decode cX2_played 47 = .ok (.invokevirtual 396, 3) := dk_182 1 140 (dk_at dksX2_played_2 0 rfl rfl)
theorem dX2_played_50 : decode cX2_played 50 = .ok (.ifCond .ne 5, 3) := dk_154 0 5 (dk_at dksX2_played_2 3 rfl rfl)
theorem dX2_played_53 : decode cX2_played 53 = .ok (.iload_n 2, 1) := dk_28 (dk_at dksX2_played_2 6 rfl rfl)
theorem dX2_played_54 : decode cX2_played 54 = .ok (.ireturn, 1) := dk_172 (dk_at dksX2_played_2 7 rfl rfl)
theorem dX2_played_55 : decode cX2_played 55 = .ok (.iinc 2 1, 3) := dk_132 2 1 (dk_at dksX2_played_2 8 rfl rfl)
theorem dX2_played_58 : decode cX2_played 58 = .ok (.goto (-37), 3) := dk_167 255 219 (dk_at dksX2_played_2 11 rfl rfl)
theorem dX2_played_61 : decode cX2_played 61 = .ok (.iconst (-1), 1) := dk_2 (dk_at dksX2_played_2 14 rfl rfl)
theorem dX2_played_62 : decode cX2_played 62 = .ok (.ireturn, 1) := dk_172 (dk_at dksX2_played_2 15 rfl rfl)
abbrev cX2_isPlayed : ByteArray := prog_20_method_93_code
def yX2_isPlayed : MethodName := ⟨RX2, "isPlayed", "(I)Z"⟩
def dkwX2_isPlayed_4 : List UInt8 := [167, 0, 4, 3, 172, 42, 28, 182, 1, 137, 172, 42, 28, 182, 1, 125, 172, 4, 172]
abbrev dktX2_isPlayed_4 : List UInt8 := dkwX2_isPlayed_4 ++ []
def dkwX2_isPlayed_3 : List UInt8 := [155, 0, 7, 4, 167, 0, 4, 3, 172, 42, 28, 182, 1, 131, 172, 42, 28, 182, 1, 134, 155, 0, 7, 4]
abbrev dktX2_isPlayed_3 : List UInt8 := dkwX2_isPlayed_3 ++ dktX2_isPlayed_4
def dkwX2_isPlayed_2 : List UInt8 := [42, 28, 42, 180, 0, 16, 27, 5, 96, 46, 42, 180, 0, 16, 27, 6, 96, 46, 3, 182, 1, 128]
abbrev dktX2_isPlayed_2 : List UInt8 := dkwX2_isPlayed_2 ++ dktX2_isPlayed_3
def dkwX2_isPlayed_1 : List UInt8 := [170, 0, 0, 0, 96, 0, 0, 0, 2, 0, 0, 0, 6, 0, 0, 0, 33, 0, 0, 0, 64, 0, 0, 0, 70, 0, 0, 0, 84, 0, 0, 0, 90]
abbrev dktX2_isPlayed_1 : List UInt8 := dkwX2_isPlayed_1 ++ dktX2_isPlayed_2
def dkwX2_isPlayed_0 : List UInt8 := [42, 180, 0, 16, 27, 4, 96, 46, 61, 42, 180, 0, 16, 27, 46]
abbrev dktX2_isPlayed_0 : List UInt8 := dkwX2_isPlayed_0 ++ dktX2_isPlayed_1
theorem dksX2_isPlayed_0 : cX2_isPlayed.data.toList.drop 0 = dktX2_isPlayed_0 := by decide +kernel
theorem dksX2_isPlayed_1 : cX2_isPlayed.data.toList.drop 15 = dktX2_isPlayed_1 := dk_seg dksX2_isPlayed_0 15 rfl rfl
theorem dksX2_isPlayed_2 : cX2_isPlayed.data.toList.drop 48 = dktX2_isPlayed_2 := dk_seg dksX2_isPlayed_1 33 rfl rfl
theorem dksX2_isPlayed_3 : cX2_isPlayed.data.toList.drop 70 = dktX2_isPlayed_3 := dk_seg dksX2_isPlayed_2 22 rfl rfl
theorem dksX2_isPlayed_4 : cX2_isPlayed.data.toList.drop 94 = dktX2_isPlayed_4 := dk_seg dksX2_isPlayed_3 24 rfl rfl
theorem dX2_isPlayed_0 : decode cX2_isPlayed 0 = .ok (.aload_n 0, 1) := dk_42 (dk_at dksX2_isPlayed_0 0 rfl rfl)
theorem dX2_isPlayed_1 : decode cX2_isPlayed 1 = .ok (.getfield 16, 3) := dk_180 0 16 (dk_at dksX2_isPlayed_0 1 rfl rfl)
theorem dX2_isPlayed_4 : decode cX2_isPlayed 4 = .ok (.iload_n 1, 1) := dk_27 (dk_at dksX2_isPlayed_0 4 rfl rfl)
theorem dX2_isPlayed_5 : decode cX2_isPlayed 5 = .ok (.iconst 1, 1) := dk_4 (dk_at dksX2_isPlayed_0 5 rfl rfl)
theorem dX2_isPlayed_6 : decode cX2_isPlayed 6 = .ok (.iadd, 1) := dk_96 (dk_at dksX2_isPlayed_0 6 rfl rfl)
theorem dX2_isPlayed_7 : decode cX2_isPlayed 7 = .ok (.iaload, 1) := dk_46 (dk_at dksX2_isPlayed_0 7 rfl rfl)
theorem dX2_isPlayed_8 : decode cX2_isPlayed 8 = .ok (.istore_n 2, 1) := dk_61 (dk_at dksX2_isPlayed_0 8 rfl rfl)
theorem dX2_isPlayed_9 : decode cX2_isPlayed 9 = .ok (.aload_n 0, 1) := dk_42 (dk_at dksX2_isPlayed_0 9 rfl rfl)
theorem dX2_isPlayed_10 : decode cX2_isPlayed 10 = .ok (.getfield 16, 3) := dk_180 0 16 (dk_at dksX2_isPlayed_0 10 rfl rfl)
theorem dX2_isPlayed_13 : decode cX2_isPlayed 13 = .ok (.iload_n 1, 1) := dk_27 (dk_at dksX2_isPlayed_0 13 rfl rfl)
theorem dX2_isPlayed_14 : decode cX2_isPlayed 14 = .ok (.iaload, 1) := dk_46 (dk_at dksX2_isPlayed_0 14 rfl rfl)
theorem dX2_isPlayed_15 : decode cX2_isPlayed 15 = .ok (.tableswitch 96 2 6 #[33, 64, 70, 84, 90], 33) := by decide +kernel
theorem dX2_isPlayed_48 : decode cX2_isPlayed 48 = .ok (.aload_n 0, 1) := dk_42 (dk_at dksX2_isPlayed_2 0 rfl rfl)
theorem dX2_isPlayed_49 : decode cX2_isPlayed 49 = .ok (.iload_n 2, 1) := dk_28 (dk_at dksX2_isPlayed_2 1 rfl rfl)
theorem dX2_isPlayed_50 : decode cX2_isPlayed 50 = .ok (.aload_n 0, 1) := dk_42 (dk_at dksX2_isPlayed_2 2 rfl rfl)
theorem dX2_isPlayed_51 : decode cX2_isPlayed 51 = .ok (.getfield 16, 3) := dk_180 0 16 (dk_at dksX2_isPlayed_2 3 rfl rfl)
theorem dX2_isPlayed_54 : decode cX2_isPlayed 54 = .ok (.iload_n 1, 1) := dk_27 (dk_at dksX2_isPlayed_2 6 rfl rfl)
theorem dX2_isPlayed_55 : decode cX2_isPlayed 55 = .ok (.iconst 2, 1) := dk_5 (dk_at dksX2_isPlayed_2 7 rfl rfl)
theorem dX2_isPlayed_56 : decode cX2_isPlayed 56 = .ok (.iadd, 1) := dk_96 (dk_at dksX2_isPlayed_2 8 rfl rfl)
theorem dX2_isPlayed_57 : decode cX2_isPlayed 57 = .ok (.iaload, 1) := dk_46 (dk_at dksX2_isPlayed_2 9 rfl rfl)
theorem dX2_isPlayed_58 : decode cX2_isPlayed 58 = .ok (.aload_n 0, 1) := dk_42 (dk_at dksX2_isPlayed_2 10 rfl rfl)
theorem dX2_isPlayed_59 : decode cX2_isPlayed 59 = .ok (.getfield 16, 3) := dk_180 0 16 (dk_at dksX2_isPlayed_2 11 rfl rfl)
theorem dX2_isPlayed_62 : decode cX2_isPlayed 62 = .ok (.iload_n 1, 1) := dk_27 (dk_at dksX2_isPlayed_2 14 rfl rfl)
theorem dX2_isPlayed_63 : decode cX2_isPlayed 63 = .ok (.iconst 3, 1) := dk_6 (dk_at dksX2_isPlayed_2 15 rfl rfl)
theorem dX2_isPlayed_64 : decode cX2_isPlayed 64 = .ok (.iadd, 1) := dk_96 (dk_at dksX2_isPlayed_2 16 rfl rfl)
theorem dX2_isPlayed_65 : decode cX2_isPlayed 65 = .ok (.iaload, 1) := dk_46 (dk_at dksX2_isPlayed_2 17 rfl rfl)
theorem dX2_isPlayed_66 : decode cX2_isPlayed 66 = .ok (.iconst 0, 1) := dk_3 (dk_at dksX2_isPlayed_2 18 rfl rfl)
theorem dX2_isPlayed_67 : decode cX2_isPlayed 67 = .ok (.invokevirtual 384, 3) := dk_182 1 128 (dk_at dksX2_isPlayed_2 19 rfl rfl)
theorem dX2_isPlayed_70 : decode cX2_isPlayed 70 = .ok (.ifCond .lt 7, 3) := dk_155 0 7 (dk_at dksX2_isPlayed_3 0 rfl rfl)
theorem dX2_isPlayed_73 : decode cX2_isPlayed 73 = .ok (.iconst 1, 1) := dk_4 (dk_at dksX2_isPlayed_3 3 rfl rfl)
theorem dX2_isPlayed_74 : decode cX2_isPlayed 74 = .ok (.goto 4, 3) := dk_167 0 4 (dk_at dksX2_isPlayed_3 4 rfl rfl)
theorem dX2_isPlayed_77 : decode cX2_isPlayed 77 = .ok (.iconst 0, 1) := dk_3 (dk_at dksX2_isPlayed_3 7 rfl rfl)
theorem dX2_isPlayed_78 : decode cX2_isPlayed 78 = .ok (.ireturn, 1) := dk_172 (dk_at dksX2_isPlayed_3 8 rfl rfl)
theorem dX2_isPlayed_79 : decode cX2_isPlayed 79 = .ok (.aload_n 0, 1) := dk_42 (dk_at dksX2_isPlayed_3 9 rfl rfl)
theorem dX2_isPlayed_80 : decode cX2_isPlayed 80 = .ok (.iload_n 2, 1) := dk_28 (dk_at dksX2_isPlayed_3 10 rfl rfl)
theorem dX2_isPlayed_81 : decode cX2_isPlayed 81 = .ok (.invokevirtual 387, 3) := dk_182 1 131 (dk_at dksX2_isPlayed_3 11 rfl rfl)
theorem dX2_isPlayed_84 : decode cX2_isPlayed 84 = .ok (.ireturn, 1) := dk_172 (dk_at dksX2_isPlayed_3 14 rfl rfl)
theorem dX2_isPlayed_85 : decode cX2_isPlayed 85 = .ok (.aload_n 0, 1) := dk_42 (dk_at dksX2_isPlayed_3 15 rfl rfl)
theorem dX2_isPlayed_86 : decode cX2_isPlayed 86 = .ok (.iload_n 2, 1) := dk_28 (dk_at dksX2_isPlayed_3 16 rfl rfl)
theorem dX2_isPlayed_87 : decode cX2_isPlayed 87 = .ok (.invokevirtual 390, 3) := dk_182 1 134 (dk_at dksX2_isPlayed_3 17 rfl rfl)
theorem dX2_isPlayed_90 : decode cX2_isPlayed 90 = .ok (.ifCond .lt 7, 3) := dk_155 0 7 (dk_at dksX2_isPlayed_3 20 rfl rfl)
theorem dX2_isPlayed_93 : decode cX2_isPlayed 93 = .ok (.iconst 1, 1) := dk_4 (dk_at dksX2_isPlayed_3 23 rfl rfl)
theorem dX2_isPlayed_94 : decode cX2_isPlayed 94 = .ok (.goto 4, 3) := dk_167 0 4 (dk_at dksX2_isPlayed_4 0 rfl rfl)
theorem dX2_isPlayed_97 : decode cX2_isPlayed 97 = .ok (.iconst 0, 1) := dk_3 (dk_at dksX2_isPlayed_4 3 rfl rfl)
theorem dX2_isPlayed_98 : decode cX2_isPlayed 98 = .ok (.ireturn, 1) := dk_172 (dk_at dksX2_isPlayed_4 4 rfl rfl)
theorem dX2_isPlayed_99 : decode cX2_isPlayed 99 = .ok (.aload_n 0, 1) := dk_42 (dk_at dksX2_isPlayed_4 5 rfl rfl)
theorem dX2_isPlayed_100 : decode cX2_isPlayed 100 = .ok (.iload_n 2, 1) := dk_28 (dk_at dksX2_isPlayed_4 6 rfl rfl)
theorem dX2_isPlayed_101 : decode cX2_isPlayed 101 = .ok (.invokevirtual 393, 3) := dk_182 1 137 (dk_at dksX2_isPlayed_4 7 rfl rfl)
theorem dX2_isPlayed_104 : decode cX2_isPlayed 104 = .ok (.ireturn, 1) := dk_172 (dk_at dksX2_isPlayed_4 10 rfl rfl)
theorem dX2_isPlayed_105 : decode cX2_isPlayed 105 = .ok (.aload_n 0, 1) := dk_42 (dk_at dksX2_isPlayed_4 11 rfl rfl)
theorem dX2_isPlayed_106 : decode cX2_isPlayed 106 = .ok (.iload_n 2, 1) := dk_28 (dk_at dksX2_isPlayed_4 12 rfl rfl)
theorem dX2_isPlayed_107 : decode cX2_isPlayed 107 = .ok (.invokevirtual 381, 3) := dk_182 1 125 (dk_at dksX2_isPlayed_4 13 rfl rfl)
theorem dX2_isPlayed_110 : decode cX2_isPlayed 110 = .ok (.ireturn, 1) := dk_172 (dk_at dksX2_isPlayed_4 16 rfl rfl)
theorem dX2_isPlayed_111 : decode cX2_isPlayed 111 = .ok (.iconst 1, 1) := dk_4 (dk_at dksX2_isPlayed_4 17 rfl rfl)
theorem dX2_isPlayed_112 : decode cX2_isPlayed 112 = .ok (.ireturn, 1) := dk_172 (dk_at dksX2_isPlayed_4 18 rfl rfl)
abbrev cX2_years : ByteArray := prog_20_method_96_code
def yX2_years : MethodName := ⟨RX2, "years", "(II)I"⟩
def dkwX2_years_3 : List UInt8 := [167, 255, 229, 42, 180, 0, 7, 16, 7, 46, 172]
abbrev dktX2_years_3 : List UInt8 := dkwX2_years_3 ++ []
def dkwX2_years_2 : List UInt8 := [42, 180, 0, 7, 16, 8, 46, 54, 4, 42, 182, 1, 77, 42, 21, 4, 182, 1, 143, 132, 3, 1]
abbrev dktX2_years_2 : List UInt8 := dkwX2_years_2 ++ dktX2_years_3
def dkwX2_years_1 : List UInt8 := [182, 1, 107, 42, 180, 0, 7, 16, 8, 27, 5, 104, 17, 1, 117, 96, 79, 3, 62, 29, 28, 162, 0, 28]
abbrev dktX2_years_1 : List UInt8 := dkwX2_years_1 ++ dktX2_years_2
def dkwX2_years_0 : List UInt8 := [27, 3, 17, 39, 15, 184, 0, 81, 153, 0, 13, 28, 4, 16, 40, 184, 0, 81, 154, 0, 5, 2, 172, 42]
abbrev dktX2_years_0 : List UInt8 := dkwX2_years_0 ++ dktX2_years_1
theorem dksX2_years_0 : cX2_years.data.toList.drop 0 = dktX2_years_0 := by decide +kernel
theorem dksX2_years_1 : cX2_years.data.toList.drop 24 = dktX2_years_1 := dk_seg dksX2_years_0 24 rfl rfl
theorem dksX2_years_2 : cX2_years.data.toList.drop 48 = dktX2_years_2 := dk_seg dksX2_years_1 24 rfl rfl
theorem dksX2_years_3 : cX2_years.data.toList.drop 70 = dktX2_years_3 := dk_seg dksX2_years_2 22 rfl rfl
theorem dX2_years_0 : decode cX2_years 0 = .ok (.iload_n 1, 1) := dk_27 (dk_at dksX2_years_0 0 rfl rfl)
theorem dX2_years_1 : decode cX2_years 1 = .ok (.iconst 0, 1) := dk_3 (dk_at dksX2_years_0 1 rfl rfl)
theorem dX2_years_2 : decode cX2_years 2 = .ok (.sipush 9999, 3) := dk_17 39 15 (dk_at dksX2_years_0 2 rfl rfl)
theorem dX2_years_5 : decode cX2_years 5 = .ok (.invokestatic 81, 3) := dk_184 0 81 (dk_at dksX2_years_0 5 rfl rfl)
theorem dX2_years_8 : decode cX2_years 8 = .ok (.ifCond .eq 13, 3) := dk_153 0 13 (dk_at dksX2_years_0 8 rfl rfl)
theorem dX2_years_11 : decode cX2_years 11 = .ok (.iload_n 2, 1) := dk_28 (dk_at dksX2_years_0 11 rfl rfl)
theorem dX2_years_12 : decode cX2_years 12 = .ok (.iconst 1, 1) := dk_4 (dk_at dksX2_years_0 12 rfl rfl)
theorem dX2_years_13 : decode cX2_years 13 = .ok (.bipush 40, 2) := dk_16 40 (dk_at dksX2_years_0 13 rfl rfl)
theorem dX2_years_15 : decode cX2_years 15 = .ok (.invokestatic 81, 3) := dk_184 0 81 (dk_at dksX2_years_0 15 rfl rfl)
theorem dX2_years_18 : decode cX2_years 18 = .ok (.ifCond .ne 5, 3) := dk_154 0 5 (dk_at dksX2_years_0 18 rfl rfl)
theorem dX2_years_21 : decode cX2_years 21 = .ok (.iconst (-1), 1) := dk_2 (dk_at dksX2_years_0 21 rfl rfl)
theorem dX2_years_22 : decode cX2_years 22 = .ok (.ireturn, 1) := dk_172 (dk_at dksX2_years_0 22 rfl rfl)
theorem dX2_years_23 : decode cX2_years 23 = .ok (.aload_n 0, 1) := dk_42 (dk_at dksX2_years_0 23 rfl rfl)
theorem dX2_years_24 : decode cX2_years 24 = .ok (.invokevirtual 363, 3) := dk_182 1 107 (dk_at dksX2_years_1 0 rfl rfl)
theorem dX2_years_27 : decode cX2_years 27 = .ok (.aload_n 0, 1) := dk_42 (dk_at dksX2_years_1 3 rfl rfl)
theorem dX2_years_28 : decode cX2_years 28 = .ok (.getfield 7, 3) := dk_180 0 7 (dk_at dksX2_years_1 4 rfl rfl)
theorem dX2_years_31 : decode cX2_years 31 = .ok (.bipush 8, 2) := dk_16 8 (dk_at dksX2_years_1 7 rfl rfl)
theorem dX2_years_33 : decode cX2_years 33 = .ok (.iload_n 1, 1) := dk_27 (dk_at dksX2_years_1 9 rfl rfl)
theorem dX2_years_34 : decode cX2_years 34 = .ok (.iconst 2, 1) := dk_5 (dk_at dksX2_years_1 10 rfl rfl)
theorem dX2_years_35 : decode cX2_years 35 = .ok (.imul, 1) := dk_104 (dk_at dksX2_years_1 11 rfl rfl)
theorem dX2_years_36 : decode cX2_years 36 = .ok (.sipush 373, 3) := dk_17 1 117 (dk_at dksX2_years_1 12 rfl rfl)
theorem dX2_years_39 : decode cX2_years 39 = .ok (.iadd, 1) := dk_96 (dk_at dksX2_years_1 15 rfl rfl)
theorem dX2_years_40 : decode cX2_years 40 = .ok (.iastore, 1) := dk_79 (dk_at dksX2_years_1 16 rfl rfl)
theorem dX2_years_41 : decode cX2_years 41 = .ok (.iconst 0, 1) := dk_3 (dk_at dksX2_years_1 17 rfl rfl)
theorem dX2_years_42 : decode cX2_years 42 = .ok (.istore_n 3, 1) := dk_62 (dk_at dksX2_years_1 18 rfl rfl)
theorem dX2_years_43 : decode cX2_years 43 = .ok (.iload_n 3, 1) := dk_29 (dk_at dksX2_years_1 19 rfl rfl)
theorem dX2_years_44 : decode cX2_years 44 = .ok (.iload_n 2, 1) := dk_28 (dk_at dksX2_years_1 20 rfl rfl)
theorem dX2_years_45 : decode cX2_years 45 = .ok (.if_icmp .ge 28, 3) := dk_162 0 28 (dk_at dksX2_years_1 21 rfl rfl)
theorem dX2_years_48 : decode cX2_years 48 = .ok (.aload_n 0, 1) := dk_42 (dk_at dksX2_years_2 0 rfl rfl)
theorem dX2_years_49 : decode cX2_years 49 = .ok (.getfield 7, 3) := dk_180 0 7 (dk_at dksX2_years_2 1 rfl rfl)
theorem dX2_years_52 : decode cX2_years 52 = .ok (.bipush 8, 2) := dk_16 8 (dk_at dksX2_years_2 4 rfl rfl)
theorem dX2_years_54 : decode cX2_years 54 = .ok (.iaload, 1) := dk_46 (dk_at dksX2_years_2 6 rfl rfl)
theorem dX2_years_55 : decode cX2_years 55 = .ok (.istore 4, 2) := dk_54 4 (dk_at dksX2_years_2 7 rfl rfl)
theorem dX2_years_57 : decode cX2_years 57 = .ok (.aload_n 0, 1) := dk_42 (dk_at dksX2_years_2 9 rfl rfl)
theorem dX2_years_58 : decode cX2_years 58 = .ok (.invokevirtual 333, 3) := dk_182 1 77 (dk_at dksX2_years_2 10 rfl rfl)
theorem dX2_years_61 : decode cX2_years 61 = .ok (.aload_n 0, 1) := dk_42 (dk_at dksX2_years_2 13 rfl rfl)
theorem dX2_years_62 : decode cX2_years 62 = .ok (.iload 4, 2) := dk_21 4 (dk_at dksX2_years_2 14 rfl rfl)
theorem dX2_years_64 : decode cX2_years 64 = .ok (.invokevirtual 399, 3) := dk_182 1 143 (dk_at dksX2_years_2 16 rfl rfl)
theorem dX2_years_67 : decode cX2_years 67 = .ok (.iinc 3 1, 3) := dk_132 3 1 (dk_at dksX2_years_2 19 rfl rfl)
theorem dX2_years_70 : decode cX2_years 70 = .ok (.goto (-27), 3) := dk_167 255 229 (dk_at dksX2_years_3 0 rfl rfl)
theorem dX2_years_73 : decode cX2_years 73 = .ok (.aload_n 0, 1) := dk_42 (dk_at dksX2_years_3 3 rfl rfl)
theorem dX2_years_74 : decode cX2_years 74 = .ok (.getfield 7, 3) := dk_180 0 7 (dk_at dksX2_years_3 4 rfl rfl)
theorem dX2_years_77 : decode cX2_years 77 = .ok (.bipush 7, 2) := dk_16 7 (dk_at dksX2_years_3 7 rfl rfl)
theorem dX2_years_79 : decode cX2_years 79 = .ok (.iaload, 1) := dk_46 (dk_at dksX2_years_3 9 rfl rfl)
theorem dX2_years_80 : decode cX2_years 80 = .ok (.ireturn, 1) := dk_172 (dk_at dksX2_years_3 10 rfl rfl)
abbrev cX2_happens : ByteArray := prog_20_method_95_code
def yX2_happens : MethodName := ⟨RX2, "happens", "(I)V"⟩
def dkwX2_happens_6 : List UInt8 := [177]
abbrev dktX2_happens_6 : List UInt8 := dkwX2_happens_6 ++ []
def dkwX2_happens_5 : List UInt8 := [46, 29, 96, 79, 167, 0, 20, 42, 180, 0, 7, 16, 7, 46, 17, 39, 15, 162, 0, 7, 42, 182, 1, 122]
abbrev dktX2_happens_5 : List UInt8 := dkwX2_happens_5 ++ dktX2_happens_6
def dkwX2_happens_4 : List UInt8 := [42, 28, 182, 1, 116, 156, 0, 43, 177, 42, 29, 182, 1, 119, 153, 0, 34, 42, 180, 0, 7, 16, 9, 92]
abbrev dktX2_happens_4 : List UInt8 := dkwX2_happens_4 ++ dktX2_happens_5
def dkwX2_happens_3 : List UInt8 := [42, 28, 182, 1, 104, 153, 0, 67, 42, 28, 182, 1, 110, 167, 0, 59, 42, 28, 182, 1, 113, 153, 0, 51]
abbrev dktX2_happens_3 : List UInt8 := dkwX2_happens_3 ++ dktX2_happens_4
def dkwX2_happens_2 : List UInt8 := [170, 0, 0, 0, 84, 0, 0, 0, 0, 0, 0, 0, 3, 0, 0, 0, 29, 0, 0, 0, 45, 0, 0, 0, 45, 0, 0, 0, 62]
abbrev dktX2_happens_2 : List UInt8 := dkwX2_happens_2 ++ dktX2_happens_3
def dkwX2_happens_1 : List UInt8 := [61, 4, 27, 16, 6, 108, 16, 9, 112, 96, 62, 27, 16, 6, 112]
abbrev dktX2_happens_1 : List UInt8 := dkwX2_happens_1 ++ dktX2_happens_2
def dkwX2_happens_0 : List UInt8 := [42, 180, 0, 7, 3, 46, 154, 0, 7, 2, 167, 0, 14, 27, 16, 6, 108, 42, 180, 0, 7, 3, 46, 112]
abbrev dktX2_happens_0 : List UInt8 := dkwX2_happens_0 ++ dktX2_happens_1
theorem dksX2_happens_0 : cX2_happens.data.toList.drop 0 = dktX2_happens_0 := by decide +kernel
theorem dksX2_happens_1 : cX2_happens.data.toList.drop 24 = dktX2_happens_1 := dk_seg dksX2_happens_0 24 rfl rfl
theorem dksX2_happens_2 : cX2_happens.data.toList.drop 39 = dktX2_happens_2 := dk_seg dksX2_happens_1 15 rfl rfl
theorem dksX2_happens_3 : cX2_happens.data.toList.drop 68 = dktX2_happens_3 := dk_seg dksX2_happens_2 29 rfl rfl
theorem dksX2_happens_4 : cX2_happens.data.toList.drop 92 = dktX2_happens_4 := dk_seg dksX2_happens_3 24 rfl rfl
theorem dksX2_happens_5 : cX2_happens.data.toList.drop 116 = dktX2_happens_5 := dk_seg dksX2_happens_4 24 rfl rfl
theorem dksX2_happens_6 : cX2_happens.data.toList.drop 140 = dktX2_happens_6 := dk_seg dksX2_happens_5 24 rfl rfl
theorem dX2_happens_0 : decode cX2_happens 0 = .ok (.aload_n 0, 1) := dk_42 (dk_at dksX2_happens_0 0 rfl rfl)
theorem dX2_happens_1 : decode cX2_happens 1 = .ok (.getfield 7, 3) := dk_180 0 7 (dk_at dksX2_happens_0 1 rfl rfl)
theorem dX2_happens_4 : decode cX2_happens 4 = .ok (.iconst 0, 1) := dk_3 (dk_at dksX2_happens_0 4 rfl rfl)
theorem dX2_happens_5 : decode cX2_happens 5 = .ok (.iaload, 1) := dk_46 (dk_at dksX2_happens_0 5 rfl rfl)
theorem dX2_happens_6 : decode cX2_happens 6 = .ok (.ifCond .ne 7, 3) := dk_154 0 7 (dk_at dksX2_happens_0 6 rfl rfl)
theorem dX2_happens_9 : decode cX2_happens 9 = .ok (.iconst (-1), 1) := dk_2 (dk_at dksX2_happens_0 9 rfl rfl)
theorem dX2_happens_10 : decode cX2_happens 10 = .ok (.goto 14, 3) := dk_167 0 14 (dk_at dksX2_happens_0 10 rfl rfl)
theorem dX2_happens_13 : decode cX2_happens 13 = .ok (.iload_n 1, 1) := dk_27 (dk_at dksX2_happens_0 13 rfl rfl)
theorem dX2_happens_14 : decode cX2_happens 14 = .ok (.bipush 6, 2) := dk_16 6 (dk_at dksX2_happens_0 14 rfl rfl)
theorem dX2_happens_16 : decode cX2_happens 16 = .ok (.idiv, 1) := dk_108 (dk_at dksX2_happens_0 16 rfl rfl)
theorem dX2_happens_17 : decode cX2_happens 17 = .ok (.aload_n 0, 1) := dk_42 (dk_at dksX2_happens_0 17 rfl rfl)
theorem dX2_happens_18 : decode cX2_happens 18 = .ok (.getfield 7, 3) := dk_180 0 7 (dk_at dksX2_happens_0 18 rfl rfl)
theorem dX2_happens_21 : decode cX2_happens 21 = .ok (.iconst 0, 1) := dk_3 (dk_at dksX2_happens_0 21 rfl rfl)
theorem dX2_happens_22 : decode cX2_happens 22 = .ok (.iaload, 1) := dk_46 (dk_at dksX2_happens_0 22 rfl rfl)
theorem dX2_happens_23 : decode cX2_happens 23 = .ok (.irem, 1) := dk_112 (dk_at dksX2_happens_0 23 rfl rfl)
theorem dX2_happens_24 : decode cX2_happens 24 = .ok (.istore_n 2, 1) := dk_61 (dk_at dksX2_happens_1 0 rfl rfl)
theorem dX2_happens_25 : decode cX2_happens 25 = .ok (.iconst 1, 1) := dk_4 (dk_at dksX2_happens_1 1 rfl rfl)
theorem dX2_happens_26 : decode cX2_happens 26 = .ok (.iload_n 1, 1) := dk_27 (dk_at dksX2_happens_1 2 rfl rfl)
theorem dX2_happens_27 : decode cX2_happens 27 = .ok (.bipush 6, 2) := dk_16 6 (dk_at dksX2_happens_1 3 rfl rfl)
theorem dX2_happens_29 : decode cX2_happens 29 = .ok (.idiv, 1) := dk_108 (dk_at dksX2_happens_1 5 rfl rfl)
theorem dX2_happens_30 : decode cX2_happens 30 = .ok (.bipush 9, 2) := dk_16 9 (dk_at dksX2_happens_1 6 rfl rfl)
theorem dX2_happens_32 : decode cX2_happens 32 = .ok (.irem, 1) := dk_112 (dk_at dksX2_happens_1 8 rfl rfl)
theorem dX2_happens_33 : decode cX2_happens 33 = .ok (.iadd, 1) := dk_96 (dk_at dksX2_happens_1 9 rfl rfl)
theorem dX2_happens_34 : decode cX2_happens 34 = .ok (.istore_n 3, 1) := dk_62 (dk_at dksX2_happens_1 10 rfl rfl)
theorem dX2_happens_35 : decode cX2_happens 35 = .ok (.iload_n 1, 1) := dk_27 (dk_at dksX2_happens_1 11 rfl rfl)
theorem dX2_happens_36 : decode cX2_happens 36 = .ok (.bipush 6, 2) := dk_16 6 (dk_at dksX2_happens_1 12 rfl rfl)
theorem dX2_happens_38 : decode cX2_happens 38 = .ok (.irem, 1) := dk_112 (dk_at dksX2_happens_1 14 rfl rfl)
theorem dX2_happens_39 : decode cX2_happens 39 = .ok (.tableswitch 84 0 3 #[29, 45, 45, 62], 29) := by decide +kernel
theorem dX2_happens_68 : decode cX2_happens 68 = .ok (.aload_n 0, 1) := dk_42 (dk_at dksX2_happens_3 0 rfl rfl)
theorem dX2_happens_69 : decode cX2_happens 69 = .ok (.iload_n 2, 1) := dk_28 (dk_at dksX2_happens_3 1 rfl rfl)
theorem dX2_happens_70 : decode cX2_happens 70 = .ok (.invokevirtual 360, 3) := dk_182 1 104 (dk_at dksX2_happens_3 2 rfl rfl)
theorem dX2_happens_73 : decode cX2_happens 73 = .ok (.ifCond .eq 67, 3) := dk_153 0 67 (dk_at dksX2_happens_3 5 rfl rfl)
theorem dX2_happens_76 : decode cX2_happens 76 = .ok (.aload_n 0, 1) := dk_42 (dk_at dksX2_happens_3 8 rfl rfl)
theorem dX2_happens_77 : decode cX2_happens 77 = .ok (.iload_n 2, 1) := dk_28 (dk_at dksX2_happens_3 9 rfl rfl)
theorem dX2_happens_78 : decode cX2_happens 78 = .ok (.invokevirtual 366, 3) := dk_182 1 110 (dk_at dksX2_happens_3 10 rfl rfl)
theorem dX2_happens_81 : decode cX2_happens 81 = .ok (.goto 59, 3) := dk_167 0 59 (dk_at dksX2_happens_3 13 rfl rfl)
theorem dX2_happens_84 : decode cX2_happens 84 = .ok (.aload_n 0, 1) := dk_42 (dk_at dksX2_happens_3 16 rfl rfl)
theorem dX2_happens_85 : decode cX2_happens 85 = .ok (.iload_n 2, 1) := dk_28 (dk_at dksX2_happens_3 17 rfl rfl)
theorem dX2_happens_86 : decode cX2_happens 86 = .ok (.invokevirtual 369, 3) := dk_182 1 113 (dk_at dksX2_happens_3 18 rfl rfl)
theorem dX2_happens_89 : decode cX2_happens 89 = .ok (.ifCond .eq 51, 3) := dk_153 0 51 (dk_at dksX2_happens_3 21 rfl rfl)
theorem dX2_happens_92 : decode cX2_happens 92 = .ok (.aload_n 0, 1) := dk_42 (dk_at dksX2_happens_4 0 rfl rfl)
theorem dX2_happens_93 : decode cX2_happens 93 = .ok (.iload_n 2, 1) := dk_28 (dk_at dksX2_happens_4 1 rfl rfl)
theorem dX2_happens_94 : decode cX2_happens 94 = .ok (.invokevirtual 372, 3) := dk_182 1 116 (dk_at dksX2_happens_4 2 rfl rfl)
theorem dX2_happens_97 : decode cX2_happens 97 = .ok (.ifCond .ge 43, 3) := dk_156 0 43 (dk_at dksX2_happens_4 5 rfl rfl)
theorem dX2_happens_100 : decode cX2_happens 100 = .ok (.return_, 1) := dk_177 (dk_at dksX2_happens_4 8 rfl rfl)
theorem dX2_happens_101 : decode cX2_happens 101 = .ok (.aload_n 0, 1) := dk_42 (dk_at dksX2_happens_4 9 rfl rfl)
theorem dX2_happens_102 : decode cX2_happens 102 = .ok (.iload_n 3, 1) := dk_29 (dk_at dksX2_happens_4 10 rfl rfl)
theorem dX2_happens_103 : decode cX2_happens 103 = .ok (.invokevirtual 375, 3) := dk_182 1 119 (dk_at dksX2_happens_4 11 rfl rfl)
theorem dX2_happens_106 : decode cX2_happens 106 = .ok (.ifCond .eq 34, 3) := dk_153 0 34 (dk_at dksX2_happens_4 14 rfl rfl)
theorem dX2_happens_109 : decode cX2_happens 109 = .ok (.aload_n 0, 1) := dk_42 (dk_at dksX2_happens_4 17 rfl rfl)
theorem dX2_happens_110 : decode cX2_happens 110 = .ok (.getfield 7, 3) := dk_180 0 7 (dk_at dksX2_happens_4 18 rfl rfl)
theorem dX2_happens_113 : decode cX2_happens 113 = .ok (.bipush 9, 2) := dk_16 9 (dk_at dksX2_happens_4 21 rfl rfl)
theorem dX2_happens_115 : decode cX2_happens 115 = .ok (.dup2, 1) := dk_92 (dk_at dksX2_happens_4 23 rfl rfl)
theorem dX2_happens_116 : decode cX2_happens 116 = .ok (.iaload, 1) := dk_46 (dk_at dksX2_happens_5 0 rfl rfl)
theorem dX2_happens_117 : decode cX2_happens 117 = .ok (.iload_n 3, 1) := dk_29 (dk_at dksX2_happens_5 1 rfl rfl)
theorem dX2_happens_118 : decode cX2_happens 118 = .ok (.iadd, 1) := dk_96 (dk_at dksX2_happens_5 2 rfl rfl)
theorem dX2_happens_119 : decode cX2_happens 119 = .ok (.iastore, 1) := dk_79 (dk_at dksX2_happens_5 3 rfl rfl)
theorem dX2_happens_120 : decode cX2_happens 120 = .ok (.goto 20, 3) := dk_167 0 20 (dk_at dksX2_happens_5 4 rfl rfl)
theorem dX2_happens_123 : decode cX2_happens 123 = .ok (.aload_n 0, 1) := dk_42 (dk_at dksX2_happens_5 7 rfl rfl)
theorem dX2_happens_124 : decode cX2_happens 124 = .ok (.getfield 7, 3) := dk_180 0 7 (dk_at dksX2_happens_5 8 rfl rfl)
theorem dX2_happens_127 : decode cX2_happens 127 = .ok (.bipush 7, 2) := dk_16 7 (dk_at dksX2_happens_5 11 rfl rfl)
theorem dX2_happens_129 : decode cX2_happens 129 = .ok (.iaload, 1) := dk_46 (dk_at dksX2_happens_5 13 rfl rfl)
theorem dX2_happens_130 : decode cX2_happens 130 = .ok (.sipush 9999, 3) := dk_17 39 15 (dk_at dksX2_happens_5 14 rfl rfl)
theorem dX2_happens_133 : decode cX2_happens 133 = .ok (.if_icmp .ge 7, 3) := dk_162 0 7 (dk_at dksX2_happens_5 17 rfl rfl)
theorem dX2_happens_136 : decode cX2_happens 136 = .ok (.aload_n 0, 1) := dk_42 (dk_at dksX2_happens_5 20 rfl rfl)
theorem dX2_happens_137 : decode cX2_happens 137 = .ok (.invokevirtual 378, 3) := dk_182 1 122 (dk_at dksX2_happens_5 21 rfl rfl)
theorem dX2_happens_140 : decode cX2_happens 140 = .ok (.return_, 1) := dk_177 (dk_at dksX2_happens_6 0 rfl rfl)
abbrev cX2_of : ByteArray := prog_20_method_97_code
def yX2_of : MethodName := ⟨RX2, "of", "(II)I"⟩
def dkwX2_of_4 : List UInt8 := [42, 27, 182, 1, 98, 172, 17, 216, 240, 172]
abbrev dktX2_of_4 : List UInt8 := dkwX2_of_4 ++ []
def dkwX2_of_3 : List UInt8 := [42, 27, 182, 1, 25, 172, 42, 27, 182, 0, 85, 172, 42, 27, 182, 1, 54, 172, 42, 27, 182, 1, 74, 172]
abbrev dktX2_of_3 : List UInt8 := dkwX2_of_3 ++ dktX2_of_4
def dkwX2_of_2 : List UInt8 := [42, 180, 0, 7, 16, 36, 5, 27, 104, 96, 28, 96, 46, 172, 42, 180, 0, 7, 16, 52, 27, 96, 46, 172]
abbrev dktX2_of_2 : List UInt8 := dkwX2_of_2 ++ dktX2_of_3
def dkwX2_of_1 : List UInt8 := [170, 0, 0, 0, 0, 0, 101, 0, 0, 0, 0, 0, 0, 0, 7, 0, 0, 0, 47, 0, 0, 0, 47, 0, 0, 0, 61, 0, 0, 0, 71, 0, 0, 0, 77, 0, 0, 0, 83, 0, 0, 0, 89, 0, 0, 0, 95]
abbrev dktX2_of_1 : List UInt8 := dkwX2_of_1 ++ dktX2_of_2
def dkwX2_of_0 : List UInt8 := [42, 27, 182, 1, 86, 154, 0, 7, 17, 216, 240, 172, 28]
abbrev dktX2_of_0 : List UInt8 := dkwX2_of_0 ++ dktX2_of_1
theorem dksX2_of_0 : cX2_of.data.toList.drop 0 = dktX2_of_0 := by decide +kernel
theorem dksX2_of_1 : cX2_of.data.toList.drop 13 = dktX2_of_1 := dk_seg dksX2_of_0 13 rfl rfl
theorem dksX2_of_2 : cX2_of.data.toList.drop 60 = dktX2_of_2 := dk_seg dksX2_of_1 47 rfl rfl
theorem dksX2_of_3 : cX2_of.data.toList.drop 84 = dktX2_of_3 := dk_seg dksX2_of_2 24 rfl rfl
theorem dksX2_of_4 : cX2_of.data.toList.drop 108 = dktX2_of_4 := dk_seg dksX2_of_3 24 rfl rfl
theorem dX2_of_0 : decode cX2_of 0 = .ok (.aload_n 0, 1) := dk_42 (dk_at dksX2_of_0 0 rfl rfl)
theorem dX2_of_1 : decode cX2_of 1 = .ok (.iload_n 1, 1) := dk_27 (dk_at dksX2_of_0 1 rfl rfl)
theorem dX2_of_2 : decode cX2_of 2 = .ok (.invokevirtual 342, 3) := dk_182 1 86 (dk_at dksX2_of_0 2 rfl rfl)
theorem dX2_of_5 : decode cX2_of 5 = .ok (.ifCond .ne 7, 3) := dk_154 0 7 (dk_at dksX2_of_0 5 rfl rfl)
theorem dX2_of_8 : decode cX2_of 8 = .ok (.sipush (-10000), 3) := dk_17 216 240 (dk_at dksX2_of_0 8 rfl rfl)
theorem dX2_of_11 : decode cX2_of 11 = .ok (.ireturn, 1) := dk_172 (dk_at dksX2_of_0 11 rfl rfl)
theorem dX2_of_12 : decode cX2_of 12 = .ok (.iload_n 2, 1) := dk_28 (dk_at dksX2_of_0 12 rfl rfl)
theorem dX2_of_13 : decode cX2_of 13 = .ok (.tableswitch 101 0 7 #[47, 47, 61, 71, 77, 83, 89, 95], 47) := by decide +kernel
theorem dX2_of_60 : decode cX2_of 60 = .ok (.aload_n 0, 1) := dk_42 (dk_at dksX2_of_2 0 rfl rfl)
theorem dX2_of_61 : decode cX2_of 61 = .ok (.getfield 7, 3) := dk_180 0 7 (dk_at dksX2_of_2 1 rfl rfl)
theorem dX2_of_64 : decode cX2_of 64 = .ok (.bipush 36, 2) := dk_16 36 (dk_at dksX2_of_2 4 rfl rfl)
theorem dX2_of_66 : decode cX2_of 66 = .ok (.iconst 2, 1) := dk_5 (dk_at dksX2_of_2 6 rfl rfl)
theorem dX2_of_67 : decode cX2_of 67 = .ok (.iload_n 1, 1) := dk_27 (dk_at dksX2_of_2 7 rfl rfl)
theorem dX2_of_68 : decode cX2_of 68 = .ok (.imul, 1) := dk_104 (dk_at dksX2_of_2 8 rfl rfl)
theorem dX2_of_69 : decode cX2_of 69 = .ok (.iadd, 1) := dk_96 (dk_at dksX2_of_2 9 rfl rfl)
theorem dX2_of_70 : decode cX2_of 70 = .ok (.iload_n 2, 1) := dk_28 (dk_at dksX2_of_2 10 rfl rfl)
theorem dX2_of_71 : decode cX2_of 71 = .ok (.iadd, 1) := dk_96 (dk_at dksX2_of_2 11 rfl rfl)
theorem dX2_of_72 : decode cX2_of 72 = .ok (.iaload, 1) := dk_46 (dk_at dksX2_of_2 12 rfl rfl)
theorem dX2_of_73 : decode cX2_of 73 = .ok (.ireturn, 1) := dk_172 (dk_at dksX2_of_2 13 rfl rfl)
theorem dX2_of_74 : decode cX2_of 74 = .ok (.aload_n 0, 1) := dk_42 (dk_at dksX2_of_2 14 rfl rfl)
theorem dX2_of_75 : decode cX2_of 75 = .ok (.getfield 7, 3) := dk_180 0 7 (dk_at dksX2_of_2 15 rfl rfl)
theorem dX2_of_78 : decode cX2_of 78 = .ok (.bipush 52, 2) := dk_16 52 (dk_at dksX2_of_2 18 rfl rfl)
theorem dX2_of_80 : decode cX2_of 80 = .ok (.iload_n 1, 1) := dk_27 (dk_at dksX2_of_2 20 rfl rfl)
theorem dX2_of_81 : decode cX2_of 81 = .ok (.iadd, 1) := dk_96 (dk_at dksX2_of_2 21 rfl rfl)
theorem dX2_of_82 : decode cX2_of 82 = .ok (.iaload, 1) := dk_46 (dk_at dksX2_of_2 22 rfl rfl)
theorem dX2_of_83 : decode cX2_of 83 = .ok (.ireturn, 1) := dk_172 (dk_at dksX2_of_2 23 rfl rfl)
theorem dX2_of_84 : decode cX2_of 84 = .ok (.aload_n 0, 1) := dk_42 (dk_at dksX2_of_3 0 rfl rfl)
theorem dX2_of_85 : decode cX2_of 85 = .ok (.iload_n 1, 1) := dk_27 (dk_at dksX2_of_3 1 rfl rfl)
theorem dX2_of_86 : decode cX2_of 86 = .ok (.invokevirtual 281, 3) := dk_182 1 25 (dk_at dksX2_of_3 2 rfl rfl)
theorem dX2_of_89 : decode cX2_of 89 = .ok (.ireturn, 1) := dk_172 (dk_at dksX2_of_3 5 rfl rfl)
theorem dX2_of_90 : decode cX2_of 90 = .ok (.aload_n 0, 1) := dk_42 (dk_at dksX2_of_3 6 rfl rfl)
theorem dX2_of_91 : decode cX2_of 91 = .ok (.iload_n 1, 1) := dk_27 (dk_at dksX2_of_3 7 rfl rfl)
theorem dX2_of_92 : decode cX2_of 92 = .ok (.invokevirtual 85, 3) := dk_182 0 85 (dk_at dksX2_of_3 8 rfl rfl)
theorem dX2_of_95 : decode cX2_of 95 = .ok (.ireturn, 1) := dk_172 (dk_at dksX2_of_3 11 rfl rfl)
theorem dX2_of_96 : decode cX2_of 96 = .ok (.aload_n 0, 1) := dk_42 (dk_at dksX2_of_3 12 rfl rfl)
theorem dX2_of_97 : decode cX2_of 97 = .ok (.iload_n 1, 1) := dk_27 (dk_at dksX2_of_3 13 rfl rfl)
theorem dX2_of_98 : decode cX2_of 98 = .ok (.invokevirtual 310, 3) := dk_182 1 54 (dk_at dksX2_of_3 14 rfl rfl)
theorem dX2_of_101 : decode cX2_of 101 = .ok (.ireturn, 1) := dk_172 (dk_at dksX2_of_3 17 rfl rfl)
theorem dX2_of_102 : decode cX2_of 102 = .ok (.aload_n 0, 1) := dk_42 (dk_at dksX2_of_3 18 rfl rfl)
theorem dX2_of_103 : decode cX2_of 103 = .ok (.iload_n 1, 1) := dk_27 (dk_at dksX2_of_3 19 rfl rfl)
theorem dX2_of_104 : decode cX2_of 104 = .ok (.invokevirtual 330, 3) := dk_182 1 74 (dk_at dksX2_of_3 20 rfl rfl)
theorem dX2_of_107 : decode cX2_of 107 = .ok (.ireturn, 1) := dk_172 (dk_at dksX2_of_3 23 rfl rfl)
theorem dX2_of_108 : decode cX2_of 108 = .ok (.aload_n 0, 1) := dk_42 (dk_at dksX2_of_4 0 rfl rfl)
theorem dX2_of_109 : decode cX2_of 109 = .ok (.iload_n 1, 1) := dk_27 (dk_at dksX2_of_4 1 rfl rfl)
theorem dX2_of_110 : decode cX2_of 110 = .ok (.invokevirtual 354, 3) := dk_182 1 98 (dk_at dksX2_of_4 2 rfl rfl)
theorem dX2_of_113 : decode cX2_of 113 = .ok (.ireturn, 1) := dk_172 (dk_at dksX2_of_4 5 rfl rfl)
theorem dX2_of_114 : decode cX2_of 114 = .ok (.sipush (-10000), 3) := dk_17 216 240 (dk_at dksX2_of_4 6 rfl rfl)
theorem dX2_of_117 : decode cX2_of 117 = .ok (.ireturn, 1) := dk_172 (dk_at dksX2_of_4 9 rfl rfl)
abbrev cX2_is : ByteArray := prog_20_method_98_code
def yX2_is : MethodName := ⟨RX2, "is", "(I)I"⟩
def dkwX2_is_1 : List UInt8 := [160, 0, 14, 42, 42, 182, 1, 68, 182, 1, 146, 167, 0, 5, 16, 254, 172]
abbrev dktX2_is_1 : List UInt8 := dkwX2_is_1 ++ []
def dkwX2_is_0 : List UInt8 := [27, 3, 6, 184, 0, 81, 153, 0, 15, 42, 180, 0, 7, 16, 7, 27, 96, 46, 167, 0, 21, 27, 7]
abbrev dktX2_is_0 : List UInt8 := dkwX2_is_0 ++ dktX2_is_1
theorem dksX2_is_0 : cX2_is.data.toList.drop 0 = dktX2_is_0 := by decide +kernel
theorem dksX2_is_1 : cX2_is.data.toList.drop 23 = dktX2_is_1 := dk_seg dksX2_is_0 23 rfl rfl
theorem dX2_is_0 : decode cX2_is 0 = .ok (.iload_n 1, 1) := dk_27 (dk_at dksX2_is_0 0 rfl rfl)
theorem dX2_is_1 : decode cX2_is 1 = .ok (.iconst 0, 1) := dk_3 (dk_at dksX2_is_0 1 rfl rfl)
theorem dX2_is_2 : decode cX2_is 2 = .ok (.iconst 3, 1) := dk_6 (dk_at dksX2_is_0 2 rfl rfl)
theorem dX2_is_3 : decode cX2_is 3 = .ok (.invokestatic 81, 3) := dk_184 0 81 (dk_at dksX2_is_0 3 rfl rfl)
theorem dX2_is_6 : decode cX2_is 6 = .ok (.ifCond .eq 15, 3) := dk_153 0 15 (dk_at dksX2_is_0 6 rfl rfl)
theorem dX2_is_9 : decode cX2_is 9 = .ok (.aload_n 0, 1) := dk_42 (dk_at dksX2_is_0 9 rfl rfl)
theorem dX2_is_10 : decode cX2_is 10 = .ok (.getfield 7, 3) := dk_180 0 7 (dk_at dksX2_is_0 10 rfl rfl)
theorem dX2_is_13 : decode cX2_is 13 = .ok (.bipush 7, 2) := dk_16 7 (dk_at dksX2_is_0 13 rfl rfl)
theorem dX2_is_15 : decode cX2_is 15 = .ok (.iload_n 1, 1) := dk_27 (dk_at dksX2_is_0 15 rfl rfl)
theorem dX2_is_16 : decode cX2_is 16 = .ok (.iadd, 1) := dk_96 (dk_at dksX2_is_0 16 rfl rfl)
theorem dX2_is_17 : decode cX2_is 17 = .ok (.iaload, 1) := dk_46 (dk_at dksX2_is_0 17 rfl rfl)
theorem dX2_is_18 : decode cX2_is 18 = .ok (.goto 21, 3) := dk_167 0 21 (dk_at dksX2_is_0 18 rfl rfl)
theorem dX2_is_21 : decode cX2_is 21 = .ok (.iload_n 1, 1) := dk_27 (dk_at dksX2_is_0 21 rfl rfl)
theorem dX2_is_22 : decode cX2_is 22 = .ok (.iconst 4, 1) := dk_7 (dk_at dksX2_is_0 22 rfl rfl)
theorem dX2_is_23 : decode cX2_is 23 = .ok (.if_icmp .ne 14, 3) := dk_160 0 14 (dk_at dksX2_is_1 0 rfl rfl)
theorem dX2_is_26 : decode cX2_is 26 = .ok (.aload_n 0, 1) := dk_42 (dk_at dksX2_is_1 3 rfl rfl)
theorem dX2_is_27 : decode cX2_is 27 = .ok (.aload_n 0, 1) := dk_42 (dk_at dksX2_is_1 4 rfl rfl)
theorem dX2_is_28 : decode cX2_is 28 = .ok (.invokevirtual 324, 3) := dk_182 1 68 (dk_at dksX2_is_1 5 rfl rfl)
theorem dX2_is_31 : decode cX2_is 31 = .ok (.invokevirtual 402, 3) := dk_182 1 146 (dk_at dksX2_is_1 8 rfl rfl)
theorem dX2_is_34 : decode cX2_is 34 = .ok (.goto 5, 3) := dk_167 0 5 (dk_at dksX2_is_1 11 rfl rfl)
theorem dX2_is_37 : decode cX2_is 37 = .ok (.bipush (-2), 2) := dk_16 254 (dk_at dksX2_is_1 14 rfl rfl)
theorem dX2_is_39 : decode cX2_is 39 = .ok (.ireturn, 1) := dk_172 (dk_at dksX2_is_1 16 rfl rfl)
abbrev cX2_duesOfAll : ByteArray := prog_20_method_75_code
def yX2_duesOfAll : MethodName := ⟨RX2, "duesOfAll", "(I)I"⟩
def dkwX2_duesOfAll_1 : List UInt8 := [29, 182, 1, 74, 167, 0, 4, 3, 96, 61, 132, 3, 1, 167, 255, 223, 28, 172]
abbrev dktX2_duesOfAll_1 : List UInt8 := dkwX2_duesOfAll_1 ++ []
def dkwX2_duesOfAll_0 : List UInt8 := [3, 61, 3, 62, 29, 42, 180, 0, 7, 3, 46, 162, 0, 29, 28, 27, 29, 184, 1, 3, 153, 0, 11, 42]
abbrev dktX2_duesOfAll_0 : List UInt8 := dkwX2_duesOfAll_0 ++ dktX2_duesOfAll_1
theorem dksX2_duesOfAll_0 : cX2_duesOfAll.data.toList.drop 0 = dktX2_duesOfAll_0 := by decide +kernel
theorem dksX2_duesOfAll_1 : cX2_duesOfAll.data.toList.drop 24 = dktX2_duesOfAll_1 := dk_seg dksX2_duesOfAll_0 24 rfl rfl
theorem dX2_duesOfAll_0 : decode cX2_duesOfAll 0 = .ok (.iconst 0, 1) := dk_3 (dk_at dksX2_duesOfAll_0 0 rfl rfl)
theorem dX2_duesOfAll_1 : decode cX2_duesOfAll 1 = .ok (.istore_n 2, 1) := dk_61 (dk_at dksX2_duesOfAll_0 1 rfl rfl)
theorem dX2_duesOfAll_2 : decode cX2_duesOfAll 2 = .ok (.iconst 0, 1) := dk_3 (dk_at dksX2_duesOfAll_0 2 rfl rfl)
theorem dX2_duesOfAll_3 : decode cX2_duesOfAll 3 = .ok (.istore_n 3, 1) := dk_62 (dk_at dksX2_duesOfAll_0 3 rfl rfl)
theorem dX2_duesOfAll_4 : decode cX2_duesOfAll 4 = .ok (.iload_n 3, 1) := dk_29 (dk_at dksX2_duesOfAll_0 4 rfl rfl)
theorem dX2_duesOfAll_5 : decode cX2_duesOfAll 5 = .ok (.aload_n 0, 1) := dk_42 (dk_at dksX2_duesOfAll_0 5 rfl rfl)
theorem dX2_duesOfAll_6 : decode cX2_duesOfAll 6 = .ok (.getfield 7, 3) := dk_180 0 7 (dk_at dksX2_duesOfAll_0 6 rfl rfl)
theorem dX2_duesOfAll_9 : decode cX2_duesOfAll 9 = .ok (.iconst 0, 1) := dk_3 (dk_at dksX2_duesOfAll_0 9 rfl rfl)
theorem dX2_duesOfAll_10 : decode cX2_duesOfAll 10 = .ok (.iaload, 1) := dk_46 (dk_at dksX2_duesOfAll_0 10 rfl rfl)
theorem dX2_duesOfAll_11 : decode cX2_duesOfAll 11 = .ok (.if_icmp .ge 29, 3) := dk_162 0 29 (dk_at dksX2_duesOfAll_0 11 rfl rfl)
theorem dX2_duesOfAll_14 : decode cX2_duesOfAll 14 = .ok (.iload_n 2, 1) := dk_28 (dk_at dksX2_duesOfAll_0 14 rfl rfl)
theorem dX2_duesOfAll_15 : decode cX2_duesOfAll 15 = .ok (.iload_n 1, 1) := dk_27 (dk_at dksX2_duesOfAll_0 15 rfl rfl)
theorem dX2_duesOfAll_16 : decode cX2_duesOfAll 16 = .ok (.iload_n 3, 1) := dk_29 (dk_at dksX2_duesOfAll_0 16 rfl rfl)
theorem dX2_duesOfAll_17 : decode cX2_duesOfAll 17 = .ok (.invokestatic 259, 3) := dk_184 1 3 (dk_at dksX2_duesOfAll_0 17 rfl rfl)
theorem dX2_duesOfAll_20 : decode cX2_duesOfAll 20 = .ok (.ifCond .eq 11, 3) := dk_153 0 11 (dk_at dksX2_duesOfAll_0 20 rfl rfl)
theorem dX2_duesOfAll_23 : decode cX2_duesOfAll 23 = .ok (.aload_n 0, 1) := dk_42 (dk_at dksX2_duesOfAll_0 23 rfl rfl)
theorem dX2_duesOfAll_24 : decode cX2_duesOfAll 24 = .ok (.iload_n 3, 1) := dk_29 (dk_at dksX2_duesOfAll_1 0 rfl rfl)
theorem dX2_duesOfAll_25 : decode cX2_duesOfAll 25 = .ok (.invokevirtual 330, 3) := dk_182 1 74 (dk_at dksX2_duesOfAll_1 1 rfl rfl)
theorem dX2_duesOfAll_28 : decode cX2_duesOfAll 28 = .ok (.goto 4, 3) := dk_167 0 4 (dk_at dksX2_duesOfAll_1 4 rfl rfl)
theorem dX2_duesOfAll_31 : decode cX2_duesOfAll 31 = .ok (.iconst 0, 1) := dk_3 (dk_at dksX2_duesOfAll_1 7 rfl rfl)
theorem dX2_duesOfAll_32 : decode cX2_duesOfAll 32 = .ok (.iadd, 1) := dk_96 (dk_at dksX2_duesOfAll_1 8 rfl rfl)
theorem dX2_duesOfAll_33 : decode cX2_duesOfAll 33 = .ok (.istore_n 2, 1) := dk_61 (dk_at dksX2_duesOfAll_1 9 rfl rfl)
theorem dX2_duesOfAll_34 : decode cX2_duesOfAll 34 = .ok (.iinc 3 1, 3) := dk_132 3 1 (dk_at dksX2_duesOfAll_1 10 rfl rfl)
theorem dX2_duesOfAll_37 : decode cX2_duesOfAll 37 = .ok (.goto (-33), 3) := dk_167 255 223 (dk_at dksX2_duesOfAll_1 13 rfl rfl)
theorem dX2_duesOfAll_40 : decode cX2_duesOfAll 40 = .ok (.iload_n 2, 1) := dk_28 (dk_at dksX2_duesOfAll_1 16 rfl rfl)
theorem dX2_duesOfAll_41 : decode cX2_duesOfAll 41 = .ok (.ireturn, 1) := dk_172 (dk_at dksX2_duesOfAll_1 17 rfl rfl)
abbrev cX2_book : ByteArray := prog_20_method_100_code
def yX2_book : MethodName := ⟨RX2, "book", "(II)I"⟩
def dkwX2_book_2 : List UInt8 := [16, 254, 172]
abbrev dktX2_book_2 : List UInt8 := dkwX2_book_2 ++ []
def dkwX2_book_1 : List UInt8 := [184, 0, 81, 153, 0, 21, 28, 3, 6, 184, 0, 81, 153, 0, 12, 42, 27, 28, 182, 1, 149, 167, 0, 5]
abbrev dktX2_book_1 : List UInt8 := dkwX2_book_1 ++ dktX2_book_2
def dkwX2_book_0 : List UInt8 := [27, 2, 160, 0, 11, 42, 180, 0, 7, 16, 11, 46, 172, 27, 3, 42, 180, 0, 7, 16, 11, 46, 4, 100]
abbrev dktX2_book_0 : List UInt8 := dkwX2_book_0 ++ dktX2_book_1
theorem dksX2_book_0 : cX2_book.data.toList.drop 0 = dktX2_book_0 := by decide +kernel
theorem dksX2_book_1 : cX2_book.data.toList.drop 24 = dktX2_book_1 := dk_seg dksX2_book_0 24 rfl rfl
theorem dksX2_book_2 : cX2_book.data.toList.drop 48 = dktX2_book_2 := dk_seg dksX2_book_1 24 rfl rfl
theorem dX2_book_0 : decode cX2_book 0 = .ok (.iload_n 1, 1) := dk_27 (dk_at dksX2_book_0 0 rfl rfl)
theorem dX2_book_1 : decode cX2_book 1 = .ok (.iconst (-1), 1) := dk_2 (dk_at dksX2_book_0 1 rfl rfl)
theorem dX2_book_2 : decode cX2_book 2 = .ok (.if_icmp .ne 11, 3) := dk_160 0 11 (dk_at dksX2_book_0 2 rfl rfl)
theorem dX2_book_5 : decode cX2_book 5 = .ok (.aload_n 0, 1) := dk_42 (dk_at dksX2_book_0 5 rfl rfl)
theorem dX2_book_6 : decode cX2_book 6 = .ok (.getfield 7, 3) := dk_180 0 7 (dk_at dksX2_book_0 6 rfl rfl)
theorem dX2_book_9 : decode cX2_book 9 = .ok (.bipush 11, 2) := dk_16 11 (dk_at dksX2_book_0 9 rfl rfl)
theorem dX2_book_11 : decode cX2_book 11 = .ok (.iaload, 1) := dk_46 (dk_at dksX2_book_0 11 rfl rfl)
theorem dX2_book_12 : decode cX2_book 12 = .ok (.ireturn, 1) := dk_172 (dk_at dksX2_book_0 12 rfl rfl)
theorem dX2_book_13 : decode cX2_book 13 = .ok (.iload_n 1, 1) := dk_27 (dk_at dksX2_book_0 13 rfl rfl)
theorem dX2_book_14 : decode cX2_book 14 = .ok (.iconst 0, 1) := dk_3 (dk_at dksX2_book_0 14 rfl rfl)
theorem dX2_book_15 : decode cX2_book 15 = .ok (.aload_n 0, 1) := dk_42 (dk_at dksX2_book_0 15 rfl rfl)
theorem dX2_book_16 : decode cX2_book 16 = .ok (.getfield 7, 3) := dk_180 0 7 (dk_at dksX2_book_0 16 rfl rfl)
theorem dX2_book_19 : decode cX2_book 19 = .ok (.bipush 11, 2) := dk_16 11 (dk_at dksX2_book_0 19 rfl rfl)
theorem dX2_book_21 : decode cX2_book 21 = .ok (.iaload, 1) := dk_46 (dk_at dksX2_book_0 21 rfl rfl)
theorem dX2_book_22 : decode cX2_book 22 = .ok (.iconst 1, 1) := dk_4 (dk_at dksX2_book_0 22 rfl rfl)
theorem dX2_book_23 : decode cX2_book 23 = .ok (.isub, 1) := dk_100 (dk_at dksX2_book_0 23 rfl rfl)
theorem dX2_book_24 : decode cX2_book 24 = .ok (.invokestatic 81, 3) := dk_184 0 81 (dk_at dksX2_book_1 0 rfl rfl)
theorem dX2_book_27 : decode cX2_book 27 = .ok (.ifCond .eq 21, 3) := dk_153 0 21 (dk_at dksX2_book_1 3 rfl rfl)
theorem dX2_book_30 : decode cX2_book 30 = .ok (.iload_n 2, 1) := dk_28 (dk_at dksX2_book_1 6 rfl rfl)
theorem dX2_book_31 : decode cX2_book 31 = .ok (.iconst 0, 1) := dk_3 (dk_at dksX2_book_1 7 rfl rfl)
theorem dX2_book_32 : decode cX2_book 32 = .ok (.iconst 3, 1) := dk_6 (dk_at dksX2_book_1 8 rfl rfl)
theorem dX2_book_33 : decode cX2_book 33 = .ok (.invokestatic 81, 3) := dk_184 0 81 (dk_at dksX2_book_1 9 rfl rfl)
theorem dX2_book_36 : decode cX2_book 36 = .ok (.ifCond .eq 12, 3) := dk_153 0 12 (dk_at dksX2_book_1 12 rfl rfl)
theorem dX2_book_39 : decode cX2_book 39 = .ok (.aload_n 0, 1) := dk_42 (dk_at dksX2_book_1 15 rfl rfl)
theorem dX2_book_40 : decode cX2_book 40 = .ok (.iload_n 1, 1) := dk_27 (dk_at dksX2_book_1 16 rfl rfl)
theorem dX2_book_41 : decode cX2_book 41 = .ok (.iload_n 2, 1) := dk_28 (dk_at dksX2_book_1 17 rfl rfl)
theorem dX2_book_42 : decode cX2_book 42 = .ok (.invokevirtual 405, 3) := dk_182 1 149 (dk_at dksX2_book_1 18 rfl rfl)
theorem dX2_book_45 : decode cX2_book 45 = .ok (.goto 5, 3) := dk_167 0 5 (dk_at dksX2_book_1 21 rfl rfl)
theorem dX2_book_48 : decode cX2_book 48 = .ok (.bipush (-2), 2) := dk_16 254 (dk_at dksX2_book_2 0 rfl rfl)
theorem dX2_book_50 : decode cX2_book 50 = .ok (.ireturn, 1) := dk_172 (dk_at dksX2_book_2 2 rfl rfl)
abbrev cX2_entry : ByteArray := prog_20_method_99_code
def yX2_entry : MethodName := ⟨RX2, "entry", "(II)I"⟩
def dkwX2_entry_2 : List UInt8 := [180, 0, 7, 17, 11, 29, 27, 96, 46, 172]
abbrev dktX2_entry_2 : List UInt8 := dkwX2_entry_2 ++ []
def dkwX2_entry_1 : List UInt8 := [160, 0, 12, 29, 6, 108, 16, 8, 112, 167, 0, 24, 28, 5, 160, 0, 9, 29, 6, 112, 167, 0, 13, 42]
abbrev dktX2_entry_1 : List UInt8 := dkwX2_entry_1 ++ dktX2_entry_2
def dkwX2_entry_0 : List UInt8 := [42, 180, 0, 7, 17, 10, 255, 27, 96, 46, 62, 28, 154, 0, 10, 29, 16, 24, 108, 167, 0, 38, 28, 4]
abbrev dktX2_entry_0 : List UInt8 := dkwX2_entry_0 ++ dktX2_entry_1
theorem dksX2_entry_0 : cX2_entry.data.toList.drop 0 = dktX2_entry_0 := by decide +kernel
theorem dksX2_entry_1 : cX2_entry.data.toList.drop 24 = dktX2_entry_1 := dk_seg dksX2_entry_0 24 rfl rfl
theorem dksX2_entry_2 : cX2_entry.data.toList.drop 48 = dktX2_entry_2 := dk_seg dksX2_entry_1 24 rfl rfl
theorem dX2_entry_0 : decode cX2_entry 0 = .ok (.aload_n 0, 1) := dk_42 (dk_at dksX2_entry_0 0 rfl rfl)
theorem dX2_entry_1 : decode cX2_entry 1 = .ok (.getfield 7, 3) := dk_180 0 7 (dk_at dksX2_entry_0 1 rfl rfl)
theorem dX2_entry_4 : decode cX2_entry 4 = .ok (.sipush 2815, 3) := dk_17 10 255 (dk_at dksX2_entry_0 4 rfl rfl)
theorem dX2_entry_7 : decode cX2_entry 7 = .ok (.iload_n 1, 1) := dk_27 (dk_at dksX2_entry_0 7 rfl rfl)
theorem dX2_entry_8 : decode cX2_entry 8 = .ok (.iadd, 1) := dk_96 (dk_at dksX2_entry_0 8 rfl rfl)
theorem dX2_entry_9 : decode cX2_entry 9 = .ok (.iaload, 1) := dk_46 (dk_at dksX2_entry_0 9 rfl rfl)
theorem dX2_entry_10 : decode cX2_entry 10 = .ok (.istore_n 3, 1) := dk_62 (dk_at dksX2_entry_0 10 rfl rfl)
theorem dX2_entry_11 : decode cX2_entry 11 = .ok (.iload_n 2, 1) := dk_28 (dk_at dksX2_entry_0 11 rfl rfl)
theorem dX2_entry_12 : decode cX2_entry 12 = .ok (.ifCond .ne 10, 3) := dk_154 0 10 (dk_at dksX2_entry_0 12 rfl rfl)
theorem dX2_entry_15 : decode cX2_entry 15 = .ok (.iload_n 3, 1) := dk_29 (dk_at dksX2_entry_0 15 rfl rfl)
theorem dX2_entry_16 : decode cX2_entry 16 = .ok (.bipush 24, 2) := dk_16 24 (dk_at dksX2_entry_0 16 rfl rfl)
theorem dX2_entry_18 : decode cX2_entry 18 = .ok (.idiv, 1) := dk_108 (dk_at dksX2_entry_0 18 rfl rfl)
theorem dX2_entry_19 : decode cX2_entry 19 = .ok (.goto 38, 3) := dk_167 0 38 (dk_at dksX2_entry_0 19 rfl rfl)
theorem dX2_entry_22 : decode cX2_entry 22 = .ok (.iload_n 2, 1) := dk_28 (dk_at dksX2_entry_0 22 rfl rfl)
theorem dX2_entry_23 : decode cX2_entry 23 = .ok (.iconst 1, 1) := dk_4 (dk_at dksX2_entry_0 23 rfl rfl)
theorem dX2_entry_24 : decode cX2_entry 24 = .ok (.if_icmp .ne 12, 3) := dk_160 0 12 (dk_at dksX2_entry_1 0 rfl rfl)
theorem dX2_entry_27 : decode cX2_entry 27 = .ok (.iload_n 3, 1) := dk_29 (dk_at dksX2_entry_1 3 rfl rfl)
theorem dX2_entry_28 : decode cX2_entry 28 = .ok (.iconst 3, 1) := dk_6 (dk_at dksX2_entry_1 4 rfl rfl)
theorem dX2_entry_29 : decode cX2_entry 29 = .ok (.idiv, 1) := dk_108 (dk_at dksX2_entry_1 5 rfl rfl)
theorem dX2_entry_30 : decode cX2_entry 30 = .ok (.bipush 8, 2) := dk_16 8 (dk_at dksX2_entry_1 6 rfl rfl)
theorem dX2_entry_32 : decode cX2_entry 32 = .ok (.irem, 1) := dk_112 (dk_at dksX2_entry_1 8 rfl rfl)
theorem dX2_entry_33 : decode cX2_entry 33 = .ok (.goto 24, 3) := dk_167 0 24 (dk_at dksX2_entry_1 9 rfl rfl)
theorem dX2_entry_36 : decode cX2_entry 36 = .ok (.iload_n 2, 1) := dk_28 (dk_at dksX2_entry_1 12 rfl rfl)
theorem dX2_entry_37 : decode cX2_entry 37 = .ok (.iconst 2, 1) := dk_5 (dk_at dksX2_entry_1 13 rfl rfl)
theorem dX2_entry_38 : decode cX2_entry 38 = .ok (.if_icmp .ne 9, 3) := dk_160 0 9 (dk_at dksX2_entry_1 14 rfl rfl)
theorem dX2_entry_41 : decode cX2_entry 41 = .ok (.iload_n 3, 1) := dk_29 (dk_at dksX2_entry_1 17 rfl rfl)
theorem dX2_entry_42 : decode cX2_entry 42 = .ok (.iconst 3, 1) := dk_6 (dk_at dksX2_entry_1 18 rfl rfl)
theorem dX2_entry_43 : decode cX2_entry 43 = .ok (.irem, 1) := dk_112 (dk_at dksX2_entry_1 19 rfl rfl)
theorem dX2_entry_44 : decode cX2_entry 44 = .ok (.goto 13, 3) := dk_167 0 13 (dk_at dksX2_entry_1 20 rfl rfl)
theorem dX2_entry_47 : decode cX2_entry 47 = .ok (.aload_n 0, 1) := dk_42 (dk_at dksX2_entry_1 23 rfl rfl)
theorem dX2_entry_48 : decode cX2_entry 48 = .ok (.getfield 7, 3) := dk_180 0 7 (dk_at dksX2_entry_2 0 rfl rfl)
theorem dX2_entry_51 : decode cX2_entry 51 = .ok (.sipush 2845, 3) := dk_17 11 29 (dk_at dksX2_entry_2 3 rfl rfl)
theorem dX2_entry_54 : decode cX2_entry 54 = .ok (.iload_n 1, 1) := dk_27 (dk_at dksX2_entry_2 6 rfl rfl)
theorem dX2_entry_55 : decode cX2_entry 55 = .ok (.iadd, 1) := dk_96 (dk_at dksX2_entry_2 7 rfl rfl)
theorem dX2_entry_56 : decode cX2_entry 56 = .ok (.iaload, 1) := dk_46 (dk_at dksX2_entry_2 8 rfl rfl)
theorem dX2_entry_57 : decode cX2_entry 57 = .ok (.ireturn, 1) := dk_172 (dk_at dksX2_entry_2 9 rfl rfl)
abbrev cX2_ledger : ByteArray := prog_20_method_101_code
def yX2_ledger : MethodName := ⟨RX2, "ledger", "(I)I"⟩
def dkwX2_ledger_2 : List UInt8 := [167, 255, 224, 28, 172]
abbrev dktX2_ledger_2 : List UInt8 := dkwX2_ledger_2 ++ []
def dkwX2_ledger_1 : List UInt8 := [162, 0, 27, 28, 42, 29, 5, 182, 1, 149, 27, 160, 0, 7, 4, 167, 0, 4, 3, 96, 61, 132, 3, 1]
abbrev dktX2_ledger_1 : List UInt8 := dkwX2_ledger_1 ++ dktX2_ledger_2
def dkwX2_ledger_0 : List UInt8 := [27, 3, 5, 184, 0, 81, 154, 0, 6, 16, 254, 172, 3, 61, 3, 62, 29, 42, 180, 0, 7, 16, 11, 46]
abbrev dktX2_ledger_0 : List UInt8 := dkwX2_ledger_0 ++ dktX2_ledger_1
theorem dksX2_ledger_0 : cX2_ledger.data.toList.drop 0 = dktX2_ledger_0 := by decide +kernel
theorem dksX2_ledger_1 : cX2_ledger.data.toList.drop 24 = dktX2_ledger_1 := dk_seg dksX2_ledger_0 24 rfl rfl
theorem dksX2_ledger_2 : cX2_ledger.data.toList.drop 48 = dktX2_ledger_2 := dk_seg dksX2_ledger_1 24 rfl rfl
theorem dX2_ledger_0 : decode cX2_ledger 0 = .ok (.iload_n 1, 1) := dk_27 (dk_at dksX2_ledger_0 0 rfl rfl)
theorem dX2_ledger_1 : decode cX2_ledger 1 = .ok (.iconst 0, 1) := dk_3 (dk_at dksX2_ledger_0 1 rfl rfl)
theorem dX2_ledger_2 : decode cX2_ledger 2 = .ok (.iconst 2, 1) := dk_5 (dk_at dksX2_ledger_0 2 rfl rfl)
theorem dX2_ledger_3 : decode cX2_ledger 3 = .ok (.invokestatic 81, 3) := dk_184 0 81 (dk_at dksX2_ledger_0 3 rfl rfl)
theorem dX2_ledger_6 : decode cX2_ledger 6 = .ok (.ifCond .ne 6, 3) := dk_154 0 6 (dk_at dksX2_ledger_0 6 rfl rfl)
theorem dX2_ledger_9 : decode cX2_ledger 9 = .ok (.bipush (-2), 2) := dk_16 254 (dk_at dksX2_ledger_0 9 rfl rfl)
theorem dX2_ledger_11 : decode cX2_ledger 11 = .ok (.ireturn, 1) := dk_172 (dk_at dksX2_ledger_0 11 rfl rfl)
theorem dX2_ledger_12 : decode cX2_ledger 12 = .ok (.iconst 0, 1) := dk_3 (dk_at dksX2_ledger_0 12 rfl rfl)
theorem dX2_ledger_13 : decode cX2_ledger 13 = .ok (.istore_n 2, 1) := dk_61 (dk_at dksX2_ledger_0 13 rfl rfl)
theorem dX2_ledger_14 : decode cX2_ledger 14 = .ok (.iconst 0, 1) := dk_3 (dk_at dksX2_ledger_0 14 rfl rfl)
theorem dX2_ledger_15 : decode cX2_ledger 15 = .ok (.istore_n 3, 1) := dk_62 (dk_at dksX2_ledger_0 15 rfl rfl)
theorem dX2_ledger_16 : decode cX2_ledger 16 = .ok (.iload_n 3, 1) := dk_29 (dk_at dksX2_ledger_0 16 rfl rfl)
theorem dX2_ledger_17 : decode cX2_ledger 17 = .ok (.aload_n 0, 1) := dk_42 (dk_at dksX2_ledger_0 17 rfl rfl)
theorem dX2_ledger_18 : decode cX2_ledger 18 = .ok (.getfield 7, 3) := dk_180 0 7 (dk_at dksX2_ledger_0 18 rfl rfl)
theorem dX2_ledger_21 : decode cX2_ledger 21 = .ok (.bipush 11, 2) := dk_16 11 (dk_at dksX2_ledger_0 21 rfl rfl)
theorem dX2_ledger_23 : decode cX2_ledger 23 = .ok (.iaload, 1) := dk_46 (dk_at dksX2_ledger_0 23 rfl rfl)
theorem dX2_ledger_24 : decode cX2_ledger 24 = .ok (.if_icmp .ge 27, 3) := dk_162 0 27 (dk_at dksX2_ledger_1 0 rfl rfl)
theorem dX2_ledger_27 : decode cX2_ledger 27 = .ok (.iload_n 2, 1) := dk_28 (dk_at dksX2_ledger_1 3 rfl rfl)
theorem dX2_ledger_28 : decode cX2_ledger 28 = .ok (.aload_n 0, 1) := dk_42 (dk_at dksX2_ledger_1 4 rfl rfl)
theorem dX2_ledger_29 : decode cX2_ledger 29 = .ok (.iload_n 3, 1) := dk_29 (dk_at dksX2_ledger_1 5 rfl rfl)
theorem dX2_ledger_30 : decode cX2_ledger 30 = .ok (.iconst 2, 1) := dk_5 (dk_at dksX2_ledger_1 6 rfl rfl)
theorem dX2_ledger_31 : decode cX2_ledger 31 = .ok (.invokevirtual 405, 3) := dk_182 1 149 (dk_at dksX2_ledger_1 7 rfl rfl)
theorem dX2_ledger_34 : decode cX2_ledger 34 = .ok (.iload_n 1, 1) := dk_27 (dk_at dksX2_ledger_1 10 rfl rfl)
theorem dX2_ledger_35 : decode cX2_ledger 35 = .ok (.if_icmp .ne 7, 3) := dk_160 0 7 (dk_at dksX2_ledger_1 11 rfl rfl)
theorem dX2_ledger_38 : decode cX2_ledger 38 = .ok (.iconst 1, 1) := dk_4 (dk_at dksX2_ledger_1 14 rfl rfl)
theorem dX2_ledger_39 : decode cX2_ledger 39 = .ok (.goto 4, 3) := dk_167 0 4 (dk_at dksX2_ledger_1 15 rfl rfl)
theorem dX2_ledger_42 : decode cX2_ledger 42 = .ok (.iconst 0, 1) := dk_3 (dk_at dksX2_ledger_1 18 rfl rfl)
theorem dX2_ledger_43 : decode cX2_ledger 43 = .ok (.iadd, 1) := dk_96 (dk_at dksX2_ledger_1 19 rfl rfl)
theorem dX2_ledger_44 : decode cX2_ledger 44 = .ok (.istore_n 2, 1) := dk_61 (dk_at dksX2_ledger_1 20 rfl rfl)
theorem dX2_ledger_45 : decode cX2_ledger 45 = .ok (.iinc 3 1, 3) := dk_132 3 1 (dk_at dksX2_ledger_1 21 rfl rfl)
theorem dX2_ledger_48 : decode cX2_ledger 48 = .ok (.goto (-32), 3) := dk_167 255 224 (dk_at dksX2_ledger_2 0 rfl rfl)
theorem dX2_ledger_51 : decode cX2_ledger 51 = .ok (.iload_n 2, 1) := dk_28 (dk_at dksX2_ledger_2 3 rfl rfl)
theorem dX2_ledger_52 : decode cX2_ledger 52 = .ok (.ireturn, 1) := dk_172 (dk_at dksX2_ledger_2 4 rfl rfl)
abbrev cX2_hottest : ByteArray := prog_20_method_102_code
def yX2_hottest : MethodName := ⟨RX2, "hottest", "()I"⟩
def dkwX2_hottest_2 : List UInt8 := [27, 172]
abbrev dktX2_hottest_2 : List UInt8 := dkwX2_hottest_2 ++ []
def dkwX2_hottest_1 : List UInt8 := [159, 0, 16, 42, 28, 182, 1, 25, 42, 27, 182, 1, 25, 164, 0, 5, 28, 60, 132, 2, 1, 167, 255, 215]
abbrev dktX2_hottest_1 : List UInt8 := dkwX2_hottest_1 ++ dktX2_hottest_2
def dkwX2_hottest_0 : List UInt8 := [2, 60, 3, 61, 28, 42, 180, 0, 7, 3, 46, 162, 0, 37, 42, 28, 182, 0, 85, 154, 0, 23, 27, 2]
abbrev dktX2_hottest_0 : List UInt8 := dkwX2_hottest_0 ++ dktX2_hottest_1
theorem dksX2_hottest_0 : cX2_hottest.data.toList.drop 0 = dktX2_hottest_0 := by decide +kernel
theorem dksX2_hottest_1 : cX2_hottest.data.toList.drop 24 = dktX2_hottest_1 := dk_seg dksX2_hottest_0 24 rfl rfl
theorem dksX2_hottest_2 : cX2_hottest.data.toList.drop 48 = dktX2_hottest_2 := dk_seg dksX2_hottest_1 24 rfl rfl
theorem dX2_hottest_0 : decode cX2_hottest 0 = .ok (.iconst (-1), 1) := dk_2 (dk_at dksX2_hottest_0 0 rfl rfl)
theorem dX2_hottest_1 : decode cX2_hottest 1 = .ok (.istore_n 1, 1) := dk_60 (dk_at dksX2_hottest_0 1 rfl rfl)
theorem dX2_hottest_2 : decode cX2_hottest 2 = .ok (.iconst 0, 1) := dk_3 (dk_at dksX2_hottest_0 2 rfl rfl)
theorem dX2_hottest_3 : decode cX2_hottest 3 = .ok (.istore_n 2, 1) := dk_61 (dk_at dksX2_hottest_0 3 rfl rfl)
theorem dX2_hottest_4 : decode cX2_hottest 4 = .ok (.iload_n 2, 1) := dk_28 (dk_at dksX2_hottest_0 4 rfl rfl)
theorem dX2_hottest_5 : decode cX2_hottest 5 = .ok (.aload_n 0, 1) := dk_42 (dk_at dksX2_hottest_0 5 rfl rfl)
theorem dX2_hottest_6 : decode cX2_hottest 6 = .ok (.getfield 7, 3) := dk_180 0 7 (dk_at dksX2_hottest_0 6 rfl rfl)
theorem dX2_hottest_9 : decode cX2_hottest 9 = .ok (.iconst 0, 1) := dk_3 (dk_at dksX2_hottest_0 9 rfl rfl)
theorem dX2_hottest_10 : decode cX2_hottest 10 = .ok (.iaload, 1) := dk_46 (dk_at dksX2_hottest_0 10 rfl rfl)
theorem dX2_hottest_11 : decode cX2_hottest 11 = .ok (.if_icmp .ge 37, 3) := dk_162 0 37 (dk_at dksX2_hottest_0 11 rfl rfl)
theorem dX2_hottest_14 : decode cX2_hottest 14 = .ok (.aload_n 0, 1) := dk_42 (dk_at dksX2_hottest_0 14 rfl rfl)
theorem dX2_hottest_15 : decode cX2_hottest 15 = .ok (.iload_n 2, 1) := dk_28 (dk_at dksX2_hottest_0 15 rfl rfl)
theorem dX2_hottest_16 : decode cX2_hottest 16 = .ok (.invokevirtual 85, 3) := dk_182 0 85 (dk_at dksX2_hottest_0 16 rfl rfl)
theorem dX2_hottest_19 : decode cX2_hottest 19 = .ok (.ifCond .ne 23, 3) := dk_154 0 23 (dk_at dksX2_hottest_0 19 rfl rfl)
theorem dX2_hottest_22 : decode cX2_hottest 22 = .ok (.iload_n 1, 1) := dk_27 (dk_at dksX2_hottest_0 22 rfl rfl)
theorem dX2_hottest_23 : decode cX2_hottest 23 = .ok (.iconst (-1), 1) := dk_2 (dk_at dksX2_hottest_0 23 rfl rfl)
theorem dX2_hottest_24 : decode cX2_hottest 24 = .ok (.if_icmp .eq 16, 3) := dk_159 0 16 (dk_at dksX2_hottest_1 0 rfl rfl)
theorem dX2_hottest_27 : decode cX2_hottest 27 = .ok (.aload_n 0, 1) := dk_42 (dk_at dksX2_hottest_1 3 rfl rfl)
theorem dX2_hottest_28 : decode cX2_hottest 28 = .ok (.iload_n 2, 1) := dk_28 (dk_at dksX2_hottest_1 4 rfl rfl)
theorem dX2_hottest_29 : decode cX2_hottest 29 = .ok (.invokevirtual 281, 3) := dk_182 1 25 (dk_at dksX2_hottest_1 5 rfl rfl)
theorem dX2_hottest_32 : decode cX2_hottest 32 = .ok (.aload_n 0, 1) := dk_42 (dk_at dksX2_hottest_1 8 rfl rfl)
theorem dX2_hottest_33 : decode cX2_hottest 33 = .ok (.iload_n 1, 1) := dk_27 (dk_at dksX2_hottest_1 9 rfl rfl)
theorem dX2_hottest_34 : decode cX2_hottest 34 = .ok (.invokevirtual 281, 3) := dk_182 1 25 (dk_at dksX2_hottest_1 10 rfl rfl)
theorem dX2_hottest_37 : decode cX2_hottest 37 = .ok (.if_icmp .le 5, 3) := dk_164 0 5 (dk_at dksX2_hottest_1 13 rfl rfl)
theorem dX2_hottest_40 : decode cX2_hottest 40 = .ok (.iload_n 2, 1) := dk_28 (dk_at dksX2_hottest_1 16 rfl rfl)
theorem dX2_hottest_41 : decode cX2_hottest 41 = .ok (.istore_n 1, 1) := dk_60 (dk_at dksX2_hottest_1 17 rfl rfl)
theorem dX2_hottest_42 : decode cX2_hottest 42 = .ok (.iinc 2 1, 3) := dk_132 2 1 (dk_at dksX2_hottest_1 18 rfl rfl)
theorem dX2_hottest_45 : decode cX2_hottest 45 = .ok (.goto (-41), 3) := dk_167 255 215 (dk_at dksX2_hottest_1 21 rfl rfl)
theorem dX2_hottest_48 : decode cX2_hottest 48 = .ok (.iload_n 1, 1) := dk_27 (dk_at dksX2_hottest_2 0 rfl rfl)
theorem dX2_hottest_49 : decode cX2_hottest 49 = .ok (.ireturn, 1) := dk_172 (dk_at dksX2_hottest_2 1 rfl rfl)
abbrev cX2_foretold : ByteArray := prog_20_method_103_code
def yX2_foretold : MethodName := ⟨RX2, "foretold", "(III)I"⟩
def dkwX2_foretold_7 : List UInt8 := [181, 0, 43, 21, 4, 172]
abbrev dktX2_foretold_7 : List UInt8 := dkwX2_foretold_7 ++ []
def dkwX2_foretold_6 : List UInt8 := [42, 180, 0, 7, 21, 5, 42, 180, 0, 47, 21, 5, 46, 79, 132, 5, 1, 167, 255, 232, 42, 4]
abbrev dktX2_foretold_6 : List UInt8 := dkwX2_foretold_6 ++ dktX2_foretold_7
def dkwX2_foretold_5 : List UInt8 := [182, 1, 25, 167, 0, 8, 42, 28, 182, 1, 74, 54, 4, 16, 7, 54, 5, 21, 5, 16, 36, 162, 0, 23]
abbrev dktX2_foretold_5 : List UInt8 := dkwX2_foretold_5 ++ dktX2_foretold_6
def dkwX2_foretold_4 : List UInt8 := [167, 255, 230, 29, 154, 0, 11, 42, 28, 182, 0, 85, 167, 0, 21, 29, 4, 160, 0, 11, 42, 28]
abbrev dktX2_foretold_4 : List UInt8 := dkwX2_foretold_4 ++ dktX2_foretold_5
def dkwX2_foretold_3 : List UInt8 := [162, 0, 26, 42, 180, 0, 7, 16, 7, 46, 17, 39, 15, 162, 0, 7, 42, 182, 1, 122, 132, 4, 1]
abbrev dktX2_foretold_3 : List UInt8 := dkwX2_foretold_3 ++ dktX2_foretold_4
def dkwX2_foretold_2 : List UInt8 := [180, 0, 7, 21, 4, 46, 79, 132, 4, 1, 167, 255, 232, 42, 3, 181, 0, 43, 3, 54, 4, 21, 4, 27]
abbrev dktX2_foretold_2 : List UInt8 := dkwX2_foretold_2 ++ dktX2_foretold_3
def dkwX2_foretold_1 : List UInt8 := [154, 0, 6, 16, 254, 172, 16, 7, 54, 4, 21, 4, 16, 36, 162, 0, 23, 42, 180, 0, 47, 21, 4, 42]
abbrev dktX2_foretold_1 : List UInt8 := dkwX2_foretold_1 ++ dktX2_foretold_2
def dkwX2_foretold_0 : List UInt8 := [27, 4, 16, 60, 184, 0, 81, 153, 0, 20, 42, 28, 182, 1, 86, 153, 0, 12, 29, 3, 5, 184, 0, 81]
abbrev dktX2_foretold_0 : List UInt8 := dkwX2_foretold_0 ++ dktX2_foretold_1
theorem dksX2_foretold_0 : cX2_foretold.data.toList.drop 0 = dktX2_foretold_0 := by decide +kernel
theorem dksX2_foretold_1 : cX2_foretold.data.toList.drop 24 = dktX2_foretold_1 := dk_seg dksX2_foretold_0 24 rfl rfl
theorem dksX2_foretold_2 : cX2_foretold.data.toList.drop 48 = dktX2_foretold_2 := dk_seg dksX2_foretold_1 24 rfl rfl
theorem dksX2_foretold_3 : cX2_foretold.data.toList.drop 72 = dktX2_foretold_3 := dk_seg dksX2_foretold_2 24 rfl rfl
theorem dksX2_foretold_4 : cX2_foretold.data.toList.drop 95 = dktX2_foretold_4 := dk_seg dksX2_foretold_3 23 rfl rfl
theorem dksX2_foretold_5 : cX2_foretold.data.toList.drop 117 = dktX2_foretold_5 := dk_seg dksX2_foretold_4 22 rfl rfl
theorem dksX2_foretold_6 : cX2_foretold.data.toList.drop 141 = dktX2_foretold_6 := dk_seg dksX2_foretold_5 24 rfl rfl
theorem dksX2_foretold_7 : cX2_foretold.data.toList.drop 163 = dktX2_foretold_7 := dk_seg dksX2_foretold_6 22 rfl rfl
theorem dX2_foretold_0 : decode cX2_foretold 0 = .ok (.iload_n 1, 1) := dk_27 (dk_at dksX2_foretold_0 0 rfl rfl)
theorem dX2_foretold_1 : decode cX2_foretold 1 = .ok (.iconst 1, 1) := dk_4 (dk_at dksX2_foretold_0 1 rfl rfl)
theorem dX2_foretold_2 : decode cX2_foretold 2 = .ok (.bipush 60, 2) := dk_16 60 (dk_at dksX2_foretold_0 2 rfl rfl)
theorem dX2_foretold_4 : decode cX2_foretold 4 = .ok (.invokestatic 81, 3) := dk_184 0 81 (dk_at dksX2_foretold_0 4 rfl rfl)
theorem dX2_foretold_7 : decode cX2_foretold 7 = .ok (.ifCond .eq 20, 3) := dk_153 0 20 (dk_at dksX2_foretold_0 7 rfl rfl)
theorem dX2_foretold_10 : decode cX2_foretold 10 = .ok (.aload_n 0, 1) := dk_42 (dk_at dksX2_foretold_0 10 rfl rfl)
theorem dX2_foretold_11 : decode cX2_foretold 11 = .ok (.iload_n 2, 1) := dk_28 (dk_at dksX2_foretold_0 11 rfl rfl)
theorem dX2_foretold_12 : decode cX2_foretold 12 = .ok (.invokevirtual 342, 3) := dk_182 1 86 (dk_at dksX2_foretold_0 12 rfl rfl)
theorem dX2_foretold_15 : decode cX2_foretold 15 = .ok (.ifCond .eq 12, 3) := dk_153 0 12 (dk_at dksX2_foretold_0 15 rfl rfl)
theorem dX2_foretold_18 : decode cX2_foretold 18 = .ok (.iload_n 3, 1) := dk_29 (dk_at dksX2_foretold_0 18 rfl rfl)
theorem dX2_foretold_19 : decode cX2_foretold 19 = .ok (.iconst 0, 1) := dk_3 (dk_at dksX2_foretold_0 19 rfl rfl)
theorem dX2_foretold_20 : decode cX2_foretold 20 = .ok (.iconst 2, 1) := dk_5 (dk_at dksX2_foretold_0 20 rfl rfl)
theorem dX2_foretold_21 : decode cX2_foretold 21 = .ok (.invokestatic 81, 3) := dk_184 0 81 (dk_at dksX2_foretold_0 21 rfl rfl)
theorem dX2_foretold_24 : decode cX2_foretold 24 = .ok (.ifCond .ne 6, 3) := dk_154 0 6 (dk_at dksX2_foretold_1 0 rfl rfl)
theorem dX2_foretold_27 : decode cX2_foretold 27 = .ok (.bipush (-2), 2) := dk_16 254 (dk_at dksX2_foretold_1 3 rfl rfl)
theorem dX2_foretold_29 : decode cX2_foretold 29 = .ok (.ireturn, 1) := dk_172 (dk_at dksX2_foretold_1 5 rfl rfl)
theorem dX2_foretold_30 : decode cX2_foretold 30 = .ok (.bipush 7, 2) := dk_16 7 (dk_at dksX2_foretold_1 6 rfl rfl)
theorem dX2_foretold_32 : decode cX2_foretold 32 = .ok (.istore 4, 2) := dk_54 4 (dk_at dksX2_foretold_1 8 rfl rfl)
theorem dX2_foretold_34 : decode cX2_foretold 34 = .ok (.iload 4, 2) := dk_21 4 (dk_at dksX2_foretold_1 10 rfl rfl)
theorem dX2_foretold_36 : decode cX2_foretold 36 = .ok (.bipush 36, 2) := dk_16 36 (dk_at dksX2_foretold_1 12 rfl rfl)
theorem dX2_foretold_38 : decode cX2_foretold 38 = .ok (.if_icmp .ge 23, 3) := dk_162 0 23 (dk_at dksX2_foretold_1 14 rfl rfl)
theorem dX2_foretold_41 : decode cX2_foretold 41 = .ok (.aload_n 0, 1) := dk_42 (dk_at dksX2_foretold_1 17 rfl rfl)
theorem dX2_foretold_42 : decode cX2_foretold 42 = .ok (.getfield 47, 3) := dk_180 0 47 (dk_at dksX2_foretold_1 18 rfl rfl)
theorem dX2_foretold_45 : decode cX2_foretold 45 = .ok (.iload 4, 2) := dk_21 4 (dk_at dksX2_foretold_1 21 rfl rfl)
theorem dX2_foretold_47 : decode cX2_foretold 47 = .ok (.aload_n 0, 1) := dk_42 (dk_at dksX2_foretold_1 23 rfl rfl)
theorem dX2_foretold_48 : decode cX2_foretold 48 = .ok (.getfield 7, 3) := dk_180 0 7 (dk_at dksX2_foretold_2 0 rfl rfl)
theorem dX2_foretold_51 : decode cX2_foretold 51 = .ok (.iload 4, 2) := dk_21 4 (dk_at dksX2_foretold_2 3 rfl rfl)
theorem dX2_foretold_53 : decode cX2_foretold 53 = .ok (.iaload, 1) := dk_46 (dk_at dksX2_foretold_2 5 rfl rfl)
theorem dX2_foretold_54 : decode cX2_foretold 54 = .ok (.iastore, 1) := dk_79 (dk_at dksX2_foretold_2 6 rfl rfl)
theorem dX2_foretold_55 : decode cX2_foretold 55 = .ok (.iinc 4 1, 3) := dk_132 4 1 (dk_at dksX2_foretold_2 7 rfl rfl)
theorem dX2_foretold_58 : decode cX2_foretold 58 = .ok (.goto (-24), 3) := dk_167 255 232 (dk_at dksX2_foretold_2 10 rfl rfl)
theorem dX2_foretold_61 : decode cX2_foretold 61 = .ok (.aload_n 0, 1) := dk_42 (dk_at dksX2_foretold_2 13 rfl rfl)
theorem dX2_foretold_62 : decode cX2_foretold 62 = .ok (.iconst 0, 1) := dk_3 (dk_at dksX2_foretold_2 14 rfl rfl)
theorem dX2_foretold_63 : decode cX2_foretold 63 = .ok (.putfield 43, 3) := dk_181 0 43 (dk_at dksX2_foretold_2 15 rfl rfl)
theorem dX2_foretold_66 : decode cX2_foretold 66 = .ok (.iconst 0, 1) := dk_3 (dk_at dksX2_foretold_2 18 rfl rfl)
theorem dX2_foretold_67 : decode cX2_foretold 67 = .ok (.istore 4, 2) := dk_54 4 (dk_at dksX2_foretold_2 19 rfl rfl)
theorem dX2_foretold_69 : decode cX2_foretold 69 = .ok (.iload 4, 2) := dk_21 4 (dk_at dksX2_foretold_2 21 rfl rfl)
theorem dX2_foretold_71 : decode cX2_foretold 71 = .ok (.iload_n 1, 1) := dk_27 (dk_at dksX2_foretold_2 23 rfl rfl)
theorem dX2_foretold_72 : decode cX2_foretold 72 = .ok (.if_icmp .ge 26, 3) := dk_162 0 26 (dk_at dksX2_foretold_3 0 rfl rfl)
theorem dX2_foretold_75 : decode cX2_foretold 75 = .ok (.aload_n 0, 1) := dk_42 (dk_at dksX2_foretold_3 3 rfl rfl)
theorem dX2_foretold_76 : decode cX2_foretold 76 = .ok (.getfield 7, 3) := dk_180 0 7 (dk_at dksX2_foretold_3 4 rfl rfl)
theorem dX2_foretold_79 : decode cX2_foretold 79 = .ok (.bipush 7, 2) := dk_16 7 (dk_at dksX2_foretold_3 7 rfl rfl)
theorem dX2_foretold_81 : decode cX2_foretold 81 = .ok (.iaload, 1) := dk_46 (dk_at dksX2_foretold_3 9 rfl rfl)
theorem dX2_foretold_82 : decode cX2_foretold 82 = .ok (.sipush 9999, 3) := dk_17 39 15 (dk_at dksX2_foretold_3 10 rfl rfl)
theorem dX2_foretold_85 : decode cX2_foretold 85 = .ok (.if_icmp .ge 7, 3) := dk_162 0 7 (dk_at dksX2_foretold_3 13 rfl rfl)
theorem dX2_foretold_88 : decode cX2_foretold 88 = .ok (.aload_n 0, 1) := dk_42 (dk_at dksX2_foretold_3 16 rfl rfl)
theorem dX2_foretold_89 : decode cX2_foretold 89 = .ok (.invokevirtual 378, 3) := dk_182 1 122 (dk_at dksX2_foretold_3 17 rfl rfl)
theorem dX2_foretold_92 : decode cX2_foretold 92 = .ok (.iinc 4 1, 3) := dk_132 4 1 (dk_at dksX2_foretold_3 20 rfl rfl)
theorem dX2_foretold_95 : decode cX2_foretold 95 = .ok (.goto (-26), 3) := dk_167 255 230 (dk_at dksX2_foretold_4 0 rfl rfl)
theorem dX2_foretold_98 : decode cX2_foretold 98 = .ok (.iload_n 3, 1) := dk_29 (dk_at dksX2_foretold_4 3 rfl rfl)
theorem dX2_foretold_99 : decode cX2_foretold 99 = .ok (.ifCond .ne 11, 3) := dk_154 0 11 (dk_at dksX2_foretold_4 4 rfl rfl)
theorem dX2_foretold_102 : decode cX2_foretold 102 = .ok (.aload_n 0, 1) := dk_42 (dk_at dksX2_foretold_4 7 rfl rfl)
theorem dX2_foretold_103 : decode cX2_foretold 103 = .ok (.iload_n 2, 1) := dk_28 (dk_at dksX2_foretold_4 8 rfl rfl)
theorem dX2_foretold_104 : decode cX2_foretold 104 = .ok (.invokevirtual 85, 3) := dk_182 0 85 (dk_at dksX2_foretold_4 9 rfl rfl)
theorem dX2_foretold_107 : decode cX2_foretold 107 = .ok (.goto 21, 3) := dk_167 0 21 (dk_at dksX2_foretold_4 12 rfl rfl)
theorem dX2_foretold_110 : decode cX2_foretold 110 = .ok (.iload_n 3, 1) := dk_29 (dk_at dksX2_foretold_4 15 rfl rfl)
theorem dX2_foretold_111 : decode cX2_foretold 111 = .ok (.iconst 1, 1) := dk_4 (dk_at dksX2_foretold_4 16 rfl rfl)
theorem dX2_foretold_112 : decode cX2_foretold 112 = .ok (.if_icmp .ne 11, 3) := dk_160 0 11 (dk_at dksX2_foretold_4 17 rfl rfl)
theorem dX2_foretold_115 : decode cX2_foretold 115 = .ok (.aload_n 0, 1) := dk_42 (dk_at dksX2_foretold_4 20 rfl rfl)
theorem dX2_foretold_116 : decode cX2_foretold 116 = .ok (.iload_n 2, 1) := dk_28 (dk_at dksX2_foretold_4 21 rfl rfl)
theorem dX2_foretold_117 : decode cX2_foretold 117 = .ok (.invokevirtual 281, 3) := dk_182 1 25 (dk_at dksX2_foretold_5 0 rfl rfl)
theorem dX2_foretold_120 : decode cX2_foretold 120 = .ok (.goto 8, 3) := dk_167 0 8 (dk_at dksX2_foretold_5 3 rfl rfl)
theorem dX2_foretold_123 : decode cX2_foretold 123 = .ok (.aload_n 0, 1) := dk_42 (dk_at dksX2_foretold_5 6 rfl rfl)
theorem dX2_foretold_124 : decode cX2_foretold 124 = .ok (.iload_n 2, 1) := dk_28 (dk_at dksX2_foretold_5 7 rfl rfl)
theorem dX2_foretold_125 : decode cX2_foretold 125 = .ok (.invokevirtual 330, 3) := dk_182 1 74 (dk_at dksX2_foretold_5 8 rfl rfl)
theorem dX2_foretold_128 : decode cX2_foretold 128 = .ok (.istore 4, 2) := dk_54 4 (dk_at dksX2_foretold_5 11 rfl rfl)
theorem dX2_foretold_130 : decode cX2_foretold 130 = .ok (.bipush 7, 2) := dk_16 7 (dk_at dksX2_foretold_5 13 rfl rfl)
theorem dX2_foretold_132 : decode cX2_foretold 132 = .ok (.istore 5, 2) := dk_54 5 (dk_at dksX2_foretold_5 15 rfl rfl)
theorem dX2_foretold_134 : decode cX2_foretold 134 = .ok (.iload 5, 2) := dk_21 5 (dk_at dksX2_foretold_5 17 rfl rfl)
theorem dX2_foretold_136 : decode cX2_foretold 136 = .ok (.bipush 36, 2) := dk_16 36 (dk_at dksX2_foretold_5 19 rfl rfl)
theorem dX2_foretold_138 : decode cX2_foretold 138 = .ok (.if_icmp .ge 23, 3) := dk_162 0 23 (dk_at dksX2_foretold_5 21 rfl rfl)
theorem dX2_foretold_141 : decode cX2_foretold 141 = .ok (.aload_n 0, 1) := dk_42 (dk_at dksX2_foretold_6 0 rfl rfl)
theorem dX2_foretold_142 : decode cX2_foretold 142 = .ok (.getfield 7, 3) := dk_180 0 7 (dk_at dksX2_foretold_6 1 rfl rfl)
theorem dX2_foretold_145 : decode cX2_foretold 145 = .ok (.iload 5, 2) := dk_21 5 (dk_at dksX2_foretold_6 4 rfl rfl)
theorem dX2_foretold_147 : decode cX2_foretold 147 = .ok (.aload_n 0, 1) := dk_42 (dk_at dksX2_foretold_6 6 rfl rfl)
theorem dX2_foretold_148 : decode cX2_foretold 148 = .ok (.getfield 47, 3) := dk_180 0 47 (dk_at dksX2_foretold_6 7 rfl rfl)
theorem dX2_foretold_151 : decode cX2_foretold 151 = .ok (.iload 5, 2) := dk_21 5 (dk_at dksX2_foretold_6 10 rfl rfl)
theorem dX2_foretold_153 : decode cX2_foretold 153 = .ok (.iaload, 1) := dk_46 (dk_at dksX2_foretold_6 12 rfl rfl)
theorem dX2_foretold_154 : decode cX2_foretold 154 = .ok (.iastore, 1) := dk_79 (dk_at dksX2_foretold_6 13 rfl rfl)
theorem dX2_foretold_155 : decode cX2_foretold 155 = .ok (.iinc 5 1, 3) := dk_132 5 1 (dk_at dksX2_foretold_6 14 rfl rfl)
theorem dX2_foretold_158 : decode cX2_foretold 158 = .ok (.goto (-24), 3) := dk_167 255 232 (dk_at dksX2_foretold_6 17 rfl rfl)
theorem dX2_foretold_161 : decode cX2_foretold 161 = .ok (.aload_n 0, 1) := dk_42 (dk_at dksX2_foretold_6 20 rfl rfl)
theorem dX2_foretold_162 : decode cX2_foretold 162 = .ok (.iconst 1, 1) := dk_4 (dk_at dksX2_foretold_6 21 rfl rfl)
theorem dX2_foretold_163 : decode cX2_foretold 163 = .ok (.putfield 43, 3) := dk_181 0 43 (dk_at dksX2_foretold_7 0 rfl rfl)
theorem dX2_foretold_166 : decode cX2_foretold 166 = .ok (.iload 4, 2) := dk_21 4 (dk_at dksX2_foretold_7 3 rfl rfl)
theorem dX2_foretold_168 : decode cX2_foretold 168 = .ok (.ireturn, 1) := dk_172 (dk_at dksX2_foretold_7 5 rfl rfl)
abbrev cX2_speak : ByteArray := prog_20_method_107_code
def yX2_speak : MethodName := ⟨RX2, "speak", "(II)Z"⟩
def dkwX2_speak_0 : List UInt8 := [27, 28, 184, 1, 155, 153, 0, 16, 42, 27, 28, 182, 1, 158, 153, 0, 7, 4, 167, 0, 4, 3, 172]
abbrev dktX2_speak_0 : List UInt8 := dkwX2_speak_0 ++ []
theorem dksX2_speak_0 : cX2_speak.data.toList.drop 0 = dktX2_speak_0 := by decide +kernel
theorem dX2_speak_0 : decode cX2_speak 0 = .ok (.iload_n 1, 1) := dk_27 (dk_at dksX2_speak_0 0 rfl rfl)
theorem dX2_speak_1 : decode cX2_speak 1 = .ok (.iload_n 2, 1) := dk_28 (dk_at dksX2_speak_0 1 rfl rfl)
theorem dX2_speak_2 : decode cX2_speak 2 = .ok (.invokestatic 411, 3) := dk_184 1 155 (dk_at dksX2_speak_0 2 rfl rfl)
theorem dX2_speak_5 : decode cX2_speak 5 = .ok (.ifCond .eq 16, 3) := dk_153 0 16 (dk_at dksX2_speak_0 5 rfl rfl)
theorem dX2_speak_8 : decode cX2_speak 8 = .ok (.aload_n 0, 1) := dk_42 (dk_at dksX2_speak_0 8 rfl rfl)
theorem dX2_speak_9 : decode cX2_speak 9 = .ok (.iload_n 1, 1) := dk_27 (dk_at dksX2_speak_0 9 rfl rfl)
theorem dX2_speak_10 : decode cX2_speak 10 = .ok (.iload_n 2, 1) := dk_28 (dk_at dksX2_speak_0 10 rfl rfl)
theorem dX2_speak_11 : decode cX2_speak 11 = .ok (.invokevirtual 414, 3) := dk_182 1 158 (dk_at dksX2_speak_0 11 rfl rfl)
theorem dX2_speak_14 : decode cX2_speak 14 = .ok (.ifCond .eq 7, 3) := dk_153 0 7 (dk_at dksX2_speak_0 14 rfl rfl)
theorem dX2_speak_17 : decode cX2_speak 17 = .ok (.iconst 1, 1) := dk_4 (dk_at dksX2_speak_0 17 rfl rfl)
theorem dX2_speak_18 : decode cX2_speak 18 = .ok (.goto 4, 3) := dk_167 0 4 (dk_at dksX2_speak_0 18 rfl rfl)
theorem dX2_speak_21 : decode cX2_speak 21 = .ok (.iconst 0, 1) := dk_3 (dk_at dksX2_speak_0 21 rfl rfl)
theorem dX2_speak_22 : decode cX2_speak 22 = .ok (.ireturn, 1) := dk_172 (dk_at dksX2_speak_0 22 rfl rfl)
abbrev cX2_areTwo : ByteArray := prog_20_method_106_code
def yX2_areTwo : MethodName := ⟨RX2, "areTwo", "(II)Z"⟩
def dkwX2_areTwo_1 : List UInt8 := [172]
abbrev dktX2_areTwo_1 : List UInt8 := dkwX2_areTwo_1 ++ []
def dkwX2_areTwo_0 : List UInt8 := [26, 184, 0, 93, 153, 0, 19, 27, 184, 0, 93, 153, 0, 12, 26, 27, 159, 0, 7, 4, 167, 0, 4, 3]
abbrev dktX2_areTwo_0 : List UInt8 := dkwX2_areTwo_0 ++ dktX2_areTwo_1
theorem dksX2_areTwo_0 : cX2_areTwo.data.toList.drop 0 = dktX2_areTwo_0 := by decide +kernel
theorem dksX2_areTwo_1 : cX2_areTwo.data.toList.drop 24 = dktX2_areTwo_1 := dk_seg dksX2_areTwo_0 24 rfl rfl
theorem dX2_areTwo_0 : decode cX2_areTwo 0 = .ok (.iload_n 0, 1) := dk_26 (dk_at dksX2_areTwo_0 0 rfl rfl)
theorem dX2_areTwo_1 : decode cX2_areTwo 1 = .ok (.invokestatic 93, 3) := dk_184 0 93 (dk_at dksX2_areTwo_0 1 rfl rfl)
theorem dX2_areTwo_4 : decode cX2_areTwo 4 = .ok (.ifCond .eq 19, 3) := dk_153 0 19 (dk_at dksX2_areTwo_0 4 rfl rfl)
theorem dX2_areTwo_7 : decode cX2_areTwo 7 = .ok (.iload_n 1, 1) := dk_27 (dk_at dksX2_areTwo_0 7 rfl rfl)
theorem dX2_areTwo_8 : decode cX2_areTwo 8 = .ok (.invokestatic 93, 3) := dk_184 0 93 (dk_at dksX2_areTwo_0 8 rfl rfl)
theorem dX2_areTwo_11 : decode cX2_areTwo 11 = .ok (.ifCond .eq 12, 3) := dk_153 0 12 (dk_at dksX2_areTwo_0 11 rfl rfl)
theorem dX2_areTwo_14 : decode cX2_areTwo 14 = .ok (.iload_n 0, 1) := dk_26 (dk_at dksX2_areTwo_0 14 rfl rfl)
theorem dX2_areTwo_15 : decode cX2_areTwo 15 = .ok (.iload_n 1, 1) := dk_27 (dk_at dksX2_areTwo_0 15 rfl rfl)
theorem dX2_areTwo_16 : decode cX2_areTwo 16 = .ok (.if_icmp .eq 7, 3) := dk_159 0 7 (dk_at dksX2_areTwo_0 16 rfl rfl)
theorem dX2_areTwo_19 : decode cX2_areTwo 19 = .ok (.iconst 1, 1) := dk_4 (dk_at dksX2_areTwo_0 19 rfl rfl)
theorem dX2_areTwo_20 : decode cX2_areTwo 20 = .ok (.goto 4, 3) := dk_167 0 4 (dk_at dksX2_areTwo_0 20 rfl rfl)
theorem dX2_areTwo_23 : decode cX2_areTwo 23 = .ok (.iconst 0, 1) := dk_3 (dk_at dksX2_areTwo_0 23 rfl rfl)
theorem dX2_areTwo_24 : decode cX2_areTwo 24 = .ok (.ireturn, 1) := dk_172 (dk_at dksX2_areTwo_1 0 rfl rfl)
abbrev cX2_doSpeak : ByteArray := prog_20_method_105_code
def yX2_doSpeak : MethodName := ⟨RX2, "doSpeak", "(II)Z"⟩
def dkwX2_doSpeak_2 : List UInt8 := [3, 172]
abbrev dktX2_doSpeak_2 : List UInt8 := dkwX2_doSpeak_2 ++ []
def dkwX2_doSpeak_1 : List UInt8 := [182, 0, 85, 5, 159, 0, 5, 3, 172, 132, 3, 1, 167, 255, 222, 27, 28, 159, 0, 7, 4, 167, 0, 4]
abbrev dktX2_doSpeak_1 : List UInt8 := dkwX2_doSpeak_1 ++ dktX2_doSpeak_2
def dkwX2_doSpeak_0 : List UInt8 := [3, 62, 29, 42, 180, 0, 7, 3, 46, 162, 0, 30, 42, 29, 27, 28, 182, 1, 152, 153, 0, 14, 42, 29]
abbrev dktX2_doSpeak_0 : List UInt8 := dkwX2_doSpeak_0 ++ dktX2_doSpeak_1
theorem dksX2_doSpeak_0 : cX2_doSpeak.data.toList.drop 0 = dktX2_doSpeak_0 := by decide +kernel
theorem dksX2_doSpeak_1 : cX2_doSpeak.data.toList.drop 24 = dktX2_doSpeak_1 := dk_seg dksX2_doSpeak_0 24 rfl rfl
theorem dksX2_doSpeak_2 : cX2_doSpeak.data.toList.drop 48 = dktX2_doSpeak_2 := dk_seg dksX2_doSpeak_1 24 rfl rfl
theorem dX2_doSpeak_0 : decode cX2_doSpeak 0 = .ok (.iconst 0, 1) := dk_3 (dk_at dksX2_doSpeak_0 0 rfl rfl)
theorem dX2_doSpeak_1 : decode cX2_doSpeak 1 = .ok (.istore_n 3, 1) := dk_62 (dk_at dksX2_doSpeak_0 1 rfl rfl)
theorem dX2_doSpeak_2 : decode cX2_doSpeak 2 = .ok (.iload_n 3, 1) := dk_29 (dk_at dksX2_doSpeak_0 2 rfl rfl)
theorem dX2_doSpeak_3 : decode cX2_doSpeak 3 = .ok (.aload_n 0, 1) := dk_42 (dk_at dksX2_doSpeak_0 3 rfl rfl)
theorem dX2_doSpeak_4 : decode cX2_doSpeak 4 = .ok (.getfield 7, 3) := dk_180 0 7 (dk_at dksX2_doSpeak_0 4 rfl rfl)
theorem dX2_doSpeak_7 : decode cX2_doSpeak 7 = .ok (.iconst 0, 1) := dk_3 (dk_at dksX2_doSpeak_0 7 rfl rfl)
theorem dX2_doSpeak_8 : decode cX2_doSpeak 8 = .ok (.iaload, 1) := dk_46 (dk_at dksX2_doSpeak_0 8 rfl rfl)
theorem dX2_doSpeak_9 : decode cX2_doSpeak 9 = .ok (.if_icmp .ge 30, 3) := dk_162 0 30 (dk_at dksX2_doSpeak_0 9 rfl rfl)
theorem dX2_doSpeak_12 : decode cX2_doSpeak 12 = .ok (.aload_n 0, 1) := dk_42 (dk_at dksX2_doSpeak_0 12 rfl rfl)
theorem dX2_doSpeak_13 : decode cX2_doSpeak 13 = .ok (.iload_n 3, 1) := dk_29 (dk_at dksX2_doSpeak_0 13 rfl rfl)
theorem dX2_doSpeak_14 : decode cX2_doSpeak 14 = .ok (.iload_n 1, 1) := dk_27 (dk_at dksX2_doSpeak_0 14 rfl rfl)
theorem dX2_doSpeak_15 : decode cX2_doSpeak 15 = .ok (.iload_n 2, 1) := dk_28 (dk_at dksX2_doSpeak_0 15 rfl rfl)
theorem dX2_doSpeak_16 : decode cX2_doSpeak 16 = .ok (.invokevirtual 408, 3) := dk_182 1 152 (dk_at dksX2_doSpeak_0 16 rfl rfl)
theorem dX2_doSpeak_19 : decode cX2_doSpeak 19 = .ok (.ifCond .eq 14, 3) := dk_153 0 14 (dk_at dksX2_doSpeak_0 19 rfl rfl)
theorem dX2_doSpeak_22 : decode cX2_doSpeak 22 = .ok (.aload_n 0, 1) := dk_42 (dk_at dksX2_doSpeak_0 22 rfl rfl)
theorem dX2_doSpeak_23 : decode cX2_doSpeak 23 = .ok (.iload_n 3, 1) := dk_29 (dk_at dksX2_doSpeak_0 23 rfl rfl)
theorem dX2_doSpeak_24 : decode cX2_doSpeak 24 = .ok (.invokevirtual 85, 3) := dk_182 0 85 (dk_at dksX2_doSpeak_1 0 rfl rfl)
theorem dX2_doSpeak_27 : decode cX2_doSpeak 27 = .ok (.iconst 2, 1) := dk_5 (dk_at dksX2_doSpeak_1 3 rfl rfl)
theorem dX2_doSpeak_28 : decode cX2_doSpeak 28 = .ok (.if_icmp .eq 5, 3) := dk_159 0 5 (dk_at dksX2_doSpeak_1 4 rfl rfl)
theorem dX2_doSpeak_31 : decode cX2_doSpeak 31 = .ok (.iconst 0, 1) := dk_3 (dk_at dksX2_doSpeak_1 7 rfl rfl)
theorem dX2_doSpeak_32 : decode cX2_doSpeak 32 = .ok (.ireturn, 1) := dk_172 (dk_at dksX2_doSpeak_1 8 rfl rfl)
theorem dX2_doSpeak_33 : decode cX2_doSpeak 33 = .ok (.iinc 3 1, 3) := dk_132 3 1 (dk_at dksX2_doSpeak_1 9 rfl rfl)
theorem dX2_doSpeak_36 : decode cX2_doSpeak 36 = .ok (.goto (-34), 3) := dk_167 255 222 (dk_at dksX2_doSpeak_1 12 rfl rfl)
theorem dX2_doSpeak_39 : decode cX2_doSpeak 39 = .ok (.iload_n 1, 1) := dk_27 (dk_at dksX2_doSpeak_1 15 rfl rfl)
theorem dX2_doSpeak_40 : decode cX2_doSpeak 40 = .ok (.iload_n 2, 1) := dk_28 (dk_at dksX2_doSpeak_1 16 rfl rfl)
theorem dX2_doSpeak_41 : decode cX2_doSpeak 41 = .ok (.if_icmp .eq 7, 3) := dk_159 0 7 (dk_at dksX2_doSpeak_1 17 rfl rfl)
theorem dX2_doSpeak_44 : decode cX2_doSpeak 44 = .ok (.iconst 1, 1) := dk_4 (dk_at dksX2_doSpeak_1 20 rfl rfl)
theorem dX2_doSpeak_45 : decode cX2_doSpeak 45 = .ok (.goto 4, 3) := dk_167 0 4 (dk_at dksX2_doSpeak_1 21 rfl rfl)
theorem dX2_doSpeak_48 : decode cX2_doSpeak 48 = .ok (.iconst 0, 1) := dk_3 (dk_at dksX2_doSpeak_2 0 rfl rfl)
theorem dX2_doSpeak_49 : decode cX2_doSpeak 49 = .ok (.ireturn, 1) := dk_172 (dk_at dksX2_doSpeak_2 1 rfl rfl)
abbrev cX2_isOfTwo : ByteArray := prog_20_method_15_code
def yX2_isOfTwo : MethodName := ⟨RX2, "isOfTwo", "(III)Z"⟩
def dkwX2_isOfTwo_2 : List UInt8 := [21, 4, 4, 96, 46, 28, 160, 0, 7, 4, 167, 0, 4, 3, 172]
abbrev dktX2_isOfTwo_2 : List UInt8 := dkwX2_isOfTwo_2 ++ []
def dkwX2_isOfTwo_1 : List UInt8 := [21, 4, 4, 96, 46, 29, 159, 0, 27, 42, 180, 0, 7, 21, 4, 46, 29, 160, 0, 20, 42, 180, 0, 7]
abbrev dktX2_isOfTwo_1 : List UInt8 := dkwX2_isOfTwo_1 ++ dktX2_isOfTwo_2
def dkwX2_isOfTwo_0 : List UInt8 := [16, 36, 5, 27, 104, 96, 54, 4, 42, 180, 0, 7, 21, 4, 46, 28, 160, 0, 16, 42, 180, 0, 7]
abbrev dktX2_isOfTwo_0 : List UInt8 := dkwX2_isOfTwo_0 ++ dktX2_isOfTwo_1
theorem dksX2_isOfTwo_0 : cX2_isOfTwo.data.toList.drop 0 = dktX2_isOfTwo_0 := by decide +kernel
theorem dksX2_isOfTwo_1 : cX2_isOfTwo.data.toList.drop 23 = dktX2_isOfTwo_1 := dk_seg dksX2_isOfTwo_0 23 rfl rfl
theorem dksX2_isOfTwo_2 : cX2_isOfTwo.data.toList.drop 47 = dktX2_isOfTwo_2 := dk_seg dksX2_isOfTwo_1 24 rfl rfl
theorem dX2_isOfTwo_0 : decode cX2_isOfTwo 0 = .ok (.bipush 36, 2) := dk_16 36 (dk_at dksX2_isOfTwo_0 0 rfl rfl)
theorem dX2_isOfTwo_2 : decode cX2_isOfTwo 2 = .ok (.iconst 2, 1) := dk_5 (dk_at dksX2_isOfTwo_0 2 rfl rfl)
theorem dX2_isOfTwo_3 : decode cX2_isOfTwo 3 = .ok (.iload_n 1, 1) := dk_27 (dk_at dksX2_isOfTwo_0 3 rfl rfl)
theorem dX2_isOfTwo_4 : decode cX2_isOfTwo 4 = .ok (.imul, 1) := dk_104 (dk_at dksX2_isOfTwo_0 4 rfl rfl)
theorem dX2_isOfTwo_5 : decode cX2_isOfTwo 5 = .ok (.iadd, 1) := dk_96 (dk_at dksX2_isOfTwo_0 5 rfl rfl)
theorem dX2_isOfTwo_6 : decode cX2_isOfTwo 6 = .ok (.istore 4, 2) := dk_54 4 (dk_at dksX2_isOfTwo_0 6 rfl rfl)
theorem dX2_isOfTwo_8 : decode cX2_isOfTwo 8 = .ok (.aload_n 0, 1) := dk_42 (dk_at dksX2_isOfTwo_0 8 rfl rfl)
theorem dX2_isOfTwo_9 : decode cX2_isOfTwo 9 = .ok (.getfield 7, 3) := dk_180 0 7 (dk_at dksX2_isOfTwo_0 9 rfl rfl)
theorem dX2_isOfTwo_12 : decode cX2_isOfTwo 12 = .ok (.iload 4, 2) := dk_21 4 (dk_at dksX2_isOfTwo_0 12 rfl rfl)
theorem dX2_isOfTwo_14 : decode cX2_isOfTwo 14 = .ok (.iaload, 1) := dk_46 (dk_at dksX2_isOfTwo_0 14 rfl rfl)
theorem dX2_isOfTwo_15 : decode cX2_isOfTwo 15 = .ok (.iload_n 2, 1) := dk_28 (dk_at dksX2_isOfTwo_0 15 rfl rfl)
theorem dX2_isOfTwo_16 : decode cX2_isOfTwo 16 = .ok (.if_icmp .ne 16, 3) := dk_160 0 16 (dk_at dksX2_isOfTwo_0 16 rfl rfl)
theorem dX2_isOfTwo_19 : decode cX2_isOfTwo 19 = .ok (.aload_n 0, 1) := dk_42 (dk_at dksX2_isOfTwo_0 19 rfl rfl)
theorem dX2_isOfTwo_20 : decode cX2_isOfTwo 20 = .ok (.getfield 7, 3) := dk_180 0 7 (dk_at dksX2_isOfTwo_0 20 rfl rfl)
theorem dX2_isOfTwo_23 : decode cX2_isOfTwo 23 = .ok (.iload 4, 2) := dk_21 4 (dk_at dksX2_isOfTwo_1 0 rfl rfl)
theorem dX2_isOfTwo_25 : decode cX2_isOfTwo 25 = .ok (.iconst 1, 1) := dk_4 (dk_at dksX2_isOfTwo_1 2 rfl rfl)
theorem dX2_isOfTwo_26 : decode cX2_isOfTwo 26 = .ok (.iadd, 1) := dk_96 (dk_at dksX2_isOfTwo_1 3 rfl rfl)
theorem dX2_isOfTwo_27 : decode cX2_isOfTwo 27 = .ok (.iaload, 1) := dk_46 (dk_at dksX2_isOfTwo_1 4 rfl rfl)
theorem dX2_isOfTwo_28 : decode cX2_isOfTwo 28 = .ok (.iload_n 3, 1) := dk_29 (dk_at dksX2_isOfTwo_1 5 rfl rfl)
theorem dX2_isOfTwo_29 : decode cX2_isOfTwo 29 = .ok (.if_icmp .eq 27, 3) := dk_159 0 27 (dk_at dksX2_isOfTwo_1 6 rfl rfl)
theorem dX2_isOfTwo_32 : decode cX2_isOfTwo 32 = .ok (.aload_n 0, 1) := dk_42 (dk_at dksX2_isOfTwo_1 9 rfl rfl)
theorem dX2_isOfTwo_33 : decode cX2_isOfTwo 33 = .ok (.getfield 7, 3) := dk_180 0 7 (dk_at dksX2_isOfTwo_1 10 rfl rfl)
theorem dX2_isOfTwo_36 : decode cX2_isOfTwo 36 = .ok (.iload 4, 2) := dk_21 4 (dk_at dksX2_isOfTwo_1 13 rfl rfl)
theorem dX2_isOfTwo_38 : decode cX2_isOfTwo 38 = .ok (.iaload, 1) := dk_46 (dk_at dksX2_isOfTwo_1 15 rfl rfl)
theorem dX2_isOfTwo_39 : decode cX2_isOfTwo 39 = .ok (.iload_n 3, 1) := dk_29 (dk_at dksX2_isOfTwo_1 16 rfl rfl)
theorem dX2_isOfTwo_40 : decode cX2_isOfTwo 40 = .ok (.if_icmp .ne 20, 3) := dk_160 0 20 (dk_at dksX2_isOfTwo_1 17 rfl rfl)
theorem dX2_isOfTwo_43 : decode cX2_isOfTwo 43 = .ok (.aload_n 0, 1) := dk_42 (dk_at dksX2_isOfTwo_1 20 rfl rfl)
theorem dX2_isOfTwo_44 : decode cX2_isOfTwo 44 = .ok (.getfield 7, 3) := dk_180 0 7 (dk_at dksX2_isOfTwo_1 21 rfl rfl)
theorem dX2_isOfTwo_47 : decode cX2_isOfTwo 47 = .ok (.iload 4, 2) := dk_21 4 (dk_at dksX2_isOfTwo_2 0 rfl rfl)
theorem dX2_isOfTwo_49 : decode cX2_isOfTwo 49 = .ok (.iconst 1, 1) := dk_4 (dk_at dksX2_isOfTwo_2 2 rfl rfl)
theorem dX2_isOfTwo_50 : decode cX2_isOfTwo 50 = .ok (.iadd, 1) := dk_96 (dk_at dksX2_isOfTwo_2 3 rfl rfl)
theorem dX2_isOfTwo_51 : decode cX2_isOfTwo 51 = .ok (.iaload, 1) := dk_46 (dk_at dksX2_isOfTwo_2 4 rfl rfl)
theorem dX2_isOfTwo_52 : decode cX2_isOfTwo 52 = .ok (.iload_n 2, 1) := dk_28 (dk_at dksX2_isOfTwo_2 5 rfl rfl)
theorem dX2_isOfTwo_53 : decode cX2_isOfTwo 53 = .ok (.if_icmp .ne 7, 3) := dk_160 0 7 (dk_at dksX2_isOfTwo_2 6 rfl rfl)
theorem dX2_isOfTwo_56 : decode cX2_isOfTwo 56 = .ok (.iconst 1, 1) := dk_4 (dk_at dksX2_isOfTwo_2 9 rfl rfl)
theorem dX2_isOfTwo_57 : decode cX2_isOfTwo 57 = .ok (.goto 4, 3) := dk_167 0 4 (dk_at dksX2_isOfTwo_2 10 rfl rfl)
theorem dX2_isOfTwo_60 : decode cX2_isOfTwo 60 = .ok (.iconst 0, 1) := dk_3 (dk_at dksX2_isOfTwo_2 13 rfl rfl)
theorem dX2_isOfTwo_61 : decode cX2_isOfTwo 61 = .ok (.ireturn, 1) := dk_172 (dk_at dksX2_isOfTwo_2 14 rfl rfl)
abbrev cX2_group : ByteArray := prog_20_method_109_code
def yX2_group : MethodName := ⟨RX2, "group", "(I)I"⟩
def dkwX2_group_0 : List UInt8 := [27, 184, 0, 93, 153, 0, 12, 42, 27, 2, 182, 1, 161, 167, 0, 4, 2, 172]
abbrev dktX2_group_0 : List UInt8 := dkwX2_group_0 ++ []
theorem dksX2_group_0 : cX2_group.data.toList.drop 0 = dktX2_group_0 := by decide +kernel
theorem dX2_group_0 : decode cX2_group 0 = .ok (.iload_n 1, 1) := dk_27 (dk_at dksX2_group_0 0 rfl rfl)
theorem dX2_group_1 : decode cX2_group 1 = .ok (.invokestatic 93, 3) := dk_184 0 93 (dk_at dksX2_group_0 1 rfl rfl)
theorem dX2_group_4 : decode cX2_group 4 = .ok (.ifCond .eq 12, 3) := dk_153 0 12 (dk_at dksX2_group_0 4 rfl rfl)
theorem dX2_group_7 : decode cX2_group 7 = .ok (.aload_n 0, 1) := dk_42 (dk_at dksX2_group_0 7 rfl rfl)
theorem dX2_group_8 : decode cX2_group 8 = .ok (.iload_n 1, 1) := dk_27 (dk_at dksX2_group_0 8 rfl rfl)
theorem dX2_group_9 : decode cX2_group 9 = .ok (.iconst (-1), 1) := dk_2 (dk_at dksX2_group_0 9 rfl rfl)
theorem dX2_group_10 : decode cX2_group 10 = .ok (.invokevirtual 417, 3) := dk_182 1 161 (dk_at dksX2_group_0 10 rfl rfl)
theorem dX2_group_13 : decode cX2_group 13 = .ok (.goto 4, 3) := dk_167 0 4 (dk_at dksX2_group_0 13 rfl rfl)
theorem dX2_group_16 : decode cX2_group 16 = .ok (.iconst (-1), 1) := dk_2 (dk_at dksX2_group_0 16 rfl rfl)
theorem dX2_group_17 : decode cX2_group 17 = .ok (.ireturn, 1) := dk_172 (dk_at dksX2_group_0 17 rfl rfl)
abbrev cX2_groupOf : ByteArray := prog_20_method_108_code
def yX2_groupOf : MethodName := ⟨RX2, "groupOf", "(II)I"⟩
def dkwX2_groupOf_3 : List UInt8 := [132, 6, 1, 167, 255, 213, 132, 5, 1, 167, 255, 197, 167, 255, 182, 29, 172]
abbrev dktX2_groupOf_3 : List UInt8 := dkwX2_groupOf_3 ++ []
def dkwX2_groupOf_2 : List UInt8 := [28, 159, 0, 21, 42, 21, 5, 21, 6, 182, 1, 158, 153, 0, 10, 29, 4, 21, 6, 120, 128, 62]
abbrev dktX2_groupOf_2 : List UInt8 := dkwX2_groupOf_2 ++ dktX2_groupOf_3
def dkwX2_groupOf_1 : List UInt8 := [162, 0, 58, 3, 54, 6, 21, 6, 16, 6, 162, 0, 42, 29, 21, 5, 184, 1, 3, 153, 0, 27, 21, 6]
abbrev dktX2_groupOf_1 : List UInt8 := dkwX2_groupOf_1 ++ dktX2_groupOf_2
def dkwX2_groupOf_0 : List UInt8 := [4, 27, 120, 62, 3, 54, 4, 21, 4, 29, 159, 0, 74, 29, 54, 4, 3, 54, 5, 21, 5, 16, 6]
abbrev dktX2_groupOf_0 : List UInt8 := dkwX2_groupOf_0 ++ dktX2_groupOf_1
theorem dksX2_groupOf_0 : cX2_groupOf.data.toList.drop 0 = dktX2_groupOf_0 := by decide +kernel
theorem dksX2_groupOf_1 : cX2_groupOf.data.toList.drop 23 = dktX2_groupOf_1 := dk_seg dksX2_groupOf_0 23 rfl rfl
theorem dksX2_groupOf_2 : cX2_groupOf.data.toList.drop 47 = dktX2_groupOf_2 := dk_seg dksX2_groupOf_1 24 rfl rfl
theorem dksX2_groupOf_3 : cX2_groupOf.data.toList.drop 69 = dktX2_groupOf_3 := dk_seg dksX2_groupOf_2 22 rfl rfl
theorem dX2_groupOf_0 : decode cX2_groupOf 0 = .ok (.iconst 1, 1) := dk_4 (dk_at dksX2_groupOf_0 0 rfl rfl)
theorem dX2_groupOf_1 : decode cX2_groupOf 1 = .ok (.iload_n 1, 1) := dk_27 (dk_at dksX2_groupOf_0 1 rfl rfl)
theorem dX2_groupOf_2 : decode cX2_groupOf 2 = .ok (.ishl, 1) := dk_120 (dk_at dksX2_groupOf_0 2 rfl rfl)
theorem dX2_groupOf_3 : decode cX2_groupOf 3 = .ok (.istore_n 3, 1) := dk_62 (dk_at dksX2_groupOf_0 3 rfl rfl)
theorem dX2_groupOf_4 : decode cX2_groupOf 4 = .ok (.iconst 0, 1) := dk_3 (dk_at dksX2_groupOf_0 4 rfl rfl)
theorem dX2_groupOf_5 : decode cX2_groupOf 5 = .ok (.istore 4, 2) := dk_54 4 (dk_at dksX2_groupOf_0 5 rfl rfl)
theorem dX2_groupOf_7 : decode cX2_groupOf 7 = .ok (.iload 4, 2) := dk_21 4 (dk_at dksX2_groupOf_0 7 rfl rfl)
theorem dX2_groupOf_9 : decode cX2_groupOf 9 = .ok (.iload_n 3, 1) := dk_29 (dk_at dksX2_groupOf_0 9 rfl rfl)
theorem dX2_groupOf_10 : decode cX2_groupOf 10 = .ok (.if_icmp .eq 74, 3) := dk_159 0 74 (dk_at dksX2_groupOf_0 10 rfl rfl)
theorem dX2_groupOf_13 : decode cX2_groupOf 13 = .ok (.iload_n 3, 1) := dk_29 (dk_at dksX2_groupOf_0 13 rfl rfl)
theorem dX2_groupOf_14 : decode cX2_groupOf 14 = .ok (.istore 4, 2) := dk_54 4 (dk_at dksX2_groupOf_0 14 rfl rfl)
theorem dX2_groupOf_16 : decode cX2_groupOf 16 = .ok (.iconst 0, 1) := dk_3 (dk_at dksX2_groupOf_0 16 rfl rfl)
theorem dX2_groupOf_17 : decode cX2_groupOf 17 = .ok (.istore 5, 2) := dk_54 5 (dk_at dksX2_groupOf_0 17 rfl rfl)
theorem dX2_groupOf_19 : decode cX2_groupOf 19 = .ok (.iload 5, 2) := dk_21 5 (dk_at dksX2_groupOf_0 19 rfl rfl)
theorem dX2_groupOf_21 : decode cX2_groupOf 21 = .ok (.bipush 6, 2) := dk_16 6 (dk_at dksX2_groupOf_0 21 rfl rfl)
theorem dX2_groupOf_23 : decode cX2_groupOf 23 = .ok (.if_icmp .ge 58, 3) := dk_162 0 58 (dk_at dksX2_groupOf_1 0 rfl rfl)
theorem dX2_groupOf_26 : decode cX2_groupOf 26 = .ok (.iconst 0, 1) := dk_3 (dk_at dksX2_groupOf_1 3 rfl rfl)
theorem dX2_groupOf_27 : decode cX2_groupOf 27 = .ok (.istore 6, 2) := dk_54 6 (dk_at dksX2_groupOf_1 4 rfl rfl)
theorem dX2_groupOf_29 : decode cX2_groupOf 29 = .ok (.iload 6, 2) := dk_21 6 (dk_at dksX2_groupOf_1 6 rfl rfl)
theorem dX2_groupOf_31 : decode cX2_groupOf 31 = .ok (.bipush 6, 2) := dk_16 6 (dk_at dksX2_groupOf_1 8 rfl rfl)
theorem dX2_groupOf_33 : decode cX2_groupOf 33 = .ok (.if_icmp .ge 42, 3) := dk_162 0 42 (dk_at dksX2_groupOf_1 10 rfl rfl)
theorem dX2_groupOf_36 : decode cX2_groupOf 36 = .ok (.iload_n 3, 1) := dk_29 (dk_at dksX2_groupOf_1 13 rfl rfl)
theorem dX2_groupOf_37 : decode cX2_groupOf 37 = .ok (.iload 5, 2) := dk_21 5 (dk_at dksX2_groupOf_1 14 rfl rfl)
theorem dX2_groupOf_39 : decode cX2_groupOf 39 = .ok (.invokestatic 259, 3) := dk_184 1 3 (dk_at dksX2_groupOf_1 16 rfl rfl)
theorem dX2_groupOf_42 : decode cX2_groupOf 42 = .ok (.ifCond .eq 27, 3) := dk_153 0 27 (dk_at dksX2_groupOf_1 19 rfl rfl)
theorem dX2_groupOf_45 : decode cX2_groupOf 45 = .ok (.iload 6, 2) := dk_21 6 (dk_at dksX2_groupOf_1 22 rfl rfl)
theorem dX2_groupOf_47 : decode cX2_groupOf 47 = .ok (.iload_n 2, 1) := dk_28 (dk_at dksX2_groupOf_2 0 rfl rfl)
theorem dX2_groupOf_48 : decode cX2_groupOf 48 = .ok (.if_icmp .eq 21, 3) := dk_159 0 21 (dk_at dksX2_groupOf_2 1 rfl rfl)
theorem dX2_groupOf_51 : decode cX2_groupOf 51 = .ok (.aload_n 0, 1) := dk_42 (dk_at dksX2_groupOf_2 4 rfl rfl)
theorem dX2_groupOf_52 : decode cX2_groupOf 52 = .ok (.iload 5, 2) := dk_21 5 (dk_at dksX2_groupOf_2 5 rfl rfl)
theorem dX2_groupOf_54 : decode cX2_groupOf 54 = .ok (.iload 6, 2) := dk_21 6 (dk_at dksX2_groupOf_2 7 rfl rfl)
theorem dX2_groupOf_56 : decode cX2_groupOf 56 = .ok (.invokevirtual 414, 3) := dk_182 1 158 (dk_at dksX2_groupOf_2 9 rfl rfl)
theorem dX2_groupOf_59 : decode cX2_groupOf 59 = .ok (.ifCond .eq 10, 3) := dk_153 0 10 (dk_at dksX2_groupOf_2 12 rfl rfl)
theorem dX2_groupOf_62 : decode cX2_groupOf 62 = .ok (.iload_n 3, 1) := dk_29 (dk_at dksX2_groupOf_2 15 rfl rfl)
theorem dX2_groupOf_63 : decode cX2_groupOf 63 = .ok (.iconst 1, 1) := dk_4 (dk_at dksX2_groupOf_2 16 rfl rfl)
theorem dX2_groupOf_64 : decode cX2_groupOf 64 = .ok (.iload 6, 2) := dk_21 6 (dk_at dksX2_groupOf_2 17 rfl rfl)
theorem dX2_groupOf_66 : decode cX2_groupOf 66 = .ok (.ishl, 1) := dk_120 (dk_at dksX2_groupOf_2 19 rfl rfl)
theorem dX2_groupOf_67 : decode cX2_groupOf 67 = .ok (.ior, 1) := dk_128 (dk_at dksX2_groupOf_2 20 rfl rfl)
theorem dX2_groupOf_68 : decode cX2_groupOf 68 = .ok (.istore_n 3, 1) := dk_62 (dk_at dksX2_groupOf_2 21 rfl rfl)
theorem dX2_groupOf_69 : decode cX2_groupOf 69 = .ok (.iinc 6 1, 3) := dk_132 6 1 (dk_at dksX2_groupOf_3 0 rfl rfl)
theorem dX2_groupOf_72 : decode cX2_groupOf 72 = .ok (.goto (-43), 3) := dk_167 255 213 (dk_at dksX2_groupOf_3 3 rfl rfl)
theorem dX2_groupOf_75 : decode cX2_groupOf 75 = .ok (.iinc 5 1, 3) := dk_132 5 1 (dk_at dksX2_groupOf_3 6 rfl rfl)
theorem dX2_groupOf_78 : decode cX2_groupOf 78 = .ok (.goto (-59), 3) := dk_167 255 197 (dk_at dksX2_groupOf_3 9 rfl rfl)
theorem dX2_groupOf_81 : decode cX2_groupOf 81 = .ok (.goto (-74), 3) := dk_167 255 182 (dk_at dksX2_groupOf_3 12 rfl rfl)
theorem dX2_groupOf_84 : decode cX2_groupOf 84 = .ok (.iload_n 3, 1) := dk_29 (dk_at dksX2_groupOf_3 15 rfl rfl)
theorem dX2_groupOf_85 : decode cX2_groupOf 85 = .ok (.ireturn, 1) := dk_172 (dk_at dksX2_groupOf_3 16 rfl rfl)
abbrev cX2_groups : ByteArray := prog_20_method_110_code
def yX2_groups : MethodName := ⟨RX2, "groups", "(Z)I"⟩
def dkwX2_groups_3 : List UInt8 := [29, 167, 0, 4, 28, 172]
abbrev dktX2_groups_3 : List UInt8 := dkwX2_groups_3 ++ []
def dkwX2_groups_2 : List UInt8 := [29, 164, 0, 11, 21, 5, 184, 1, 71, 167, 0, 4, 29, 62, 132, 4, 1, 167, 255, 198, 27, 153, 0, 7]
abbrev dktX2_groups_2 : List UInt8 := dkwX2_groups_2 ++ dktX2_groups_3
def dkwX2_groups_1 : List UInt8 := [21, 5, 4, 21, 4, 120, 4, 100, 126, 154, 0, 7, 4, 167, 0, 4, 3, 96, 61, 21, 5, 184, 1, 71]
abbrev dktX2_groups_1 : List UInt8 := dkwX2_groups_1 ++ dktX2_groups_2
def dkwX2_groups_0 : List UInt8 := [3, 61, 3, 62, 3, 54, 4, 21, 4, 16, 6, 162, 0, 57, 42, 21, 4, 2, 182, 1, 161, 54, 5, 28]
abbrev dktX2_groups_0 : List UInt8 := dkwX2_groups_0 ++ dktX2_groups_1
theorem dksX2_groups_0 : cX2_groups.data.toList.drop 0 = dktX2_groups_0 := by decide +kernel
theorem dksX2_groups_1 : cX2_groups.data.toList.drop 24 = dktX2_groups_1 := dk_seg dksX2_groups_0 24 rfl rfl
theorem dksX2_groups_2 : cX2_groups.data.toList.drop 48 = dktX2_groups_2 := dk_seg dksX2_groups_1 24 rfl rfl
theorem dksX2_groups_3 : cX2_groups.data.toList.drop 72 = dktX2_groups_3 := dk_seg dksX2_groups_2 24 rfl rfl
theorem dX2_groups_0 : decode cX2_groups 0 = .ok (.iconst 0, 1) := dk_3 (dk_at dksX2_groups_0 0 rfl rfl)
theorem dX2_groups_1 : decode cX2_groups 1 = .ok (.istore_n 2, 1) := dk_61 (dk_at dksX2_groups_0 1 rfl rfl)
theorem dX2_groups_2 : decode cX2_groups 2 = .ok (.iconst 0, 1) := dk_3 (dk_at dksX2_groups_0 2 rfl rfl)
theorem dX2_groups_3 : decode cX2_groups 3 = .ok (.istore_n 3, 1) := dk_62 (dk_at dksX2_groups_0 3 rfl rfl)
theorem dX2_groups_4 : decode cX2_groups 4 = .ok (.iconst 0, 1) := dk_3 (dk_at dksX2_groups_0 4 rfl rfl)
theorem dX2_groups_5 : decode cX2_groups 5 = .ok (.istore 4, 2) := dk_54 4 (dk_at dksX2_groups_0 5 rfl rfl)
theorem dX2_groups_7 : decode cX2_groups 7 = .ok (.iload 4, 2) := dk_21 4 (dk_at dksX2_groups_0 7 rfl rfl)
theorem dX2_groups_9 : decode cX2_groups 9 = .ok (.bipush 6, 2) := dk_16 6 (dk_at dksX2_groups_0 9 rfl rfl)
theorem dX2_groups_11 : decode cX2_groups 11 = .ok (.if_icmp .ge 57, 3) := dk_162 0 57 (dk_at dksX2_groups_0 11 rfl rfl)
theorem dX2_groups_14 : decode cX2_groups 14 = .ok (.aload_n 0, 1) := dk_42 (dk_at dksX2_groups_0 14 rfl rfl)
theorem dX2_groups_15 : decode cX2_groups 15 = .ok (.iload 4, 2) := dk_21 4 (dk_at dksX2_groups_0 15 rfl rfl)
theorem dX2_groups_17 : decode cX2_groups 17 = .ok (.iconst (-1), 1) := dk_2 (dk_at dksX2_groups_0 17 rfl rfl)
theorem dX2_groups_18 : decode cX2_groups 18 = .ok (.invokevirtual 417, 3) := dk_182 1 161 (dk_at dksX2_groups_0 18 rfl rfl)
theorem dX2_groups_21 : decode cX2_groups 21 = .ok (.istore 5, 2) := dk_54 5 (dk_at dksX2_groups_0 21 rfl rfl)
theorem dX2_groups_23 : decode cX2_groups 23 = .ok (.iload_n 2, 1) := dk_28 (dk_at dksX2_groups_0 23 rfl rfl)
theorem dX2_groups_24 : decode cX2_groups 24 = .ok (.iload 5, 2) := dk_21 5 (dk_at dksX2_groups_1 0 rfl rfl)
theorem dX2_groups_26 : decode cX2_groups 26 = .ok (.iconst 1, 1) := dk_4 (dk_at dksX2_groups_1 2 rfl rfl)
theorem dX2_groups_27 : decode cX2_groups 27 = .ok (.iload 4, 2) := dk_21 4 (dk_at dksX2_groups_1 3 rfl rfl)
theorem dX2_groups_29 : decode cX2_groups 29 = .ok (.ishl, 1) := dk_120 (dk_at dksX2_groups_1 5 rfl rfl)
theorem dX2_groups_30 : decode cX2_groups 30 = .ok (.iconst 1, 1) := dk_4 (dk_at dksX2_groups_1 6 rfl rfl)
theorem dX2_groups_31 : decode cX2_groups 31 = .ok (.isub, 1) := dk_100 (dk_at dksX2_groups_1 7 rfl rfl)
theorem dX2_groups_32 : decode cX2_groups 32 = .ok (.iand, 1) := dk_126 (dk_at dksX2_groups_1 8 rfl rfl)
theorem dX2_groups_33 : decode cX2_groups 33 = .ok (.ifCond .ne 7, 3) := dk_154 0 7 (dk_at dksX2_groups_1 9 rfl rfl)
theorem dX2_groups_36 : decode cX2_groups 36 = .ok (.iconst 1, 1) := dk_4 (dk_at dksX2_groups_1 12 rfl rfl)
theorem dX2_groups_37 : decode cX2_groups 37 = .ok (.goto 4, 3) := dk_167 0 4 (dk_at dksX2_groups_1 13 rfl rfl)
theorem dX2_groups_40 : decode cX2_groups 40 = .ok (.iconst 0, 1) := dk_3 (dk_at dksX2_groups_1 16 rfl rfl)
theorem dX2_groups_41 : decode cX2_groups 41 = .ok (.iadd, 1) := dk_96 (dk_at dksX2_groups_1 17 rfl rfl)
theorem dX2_groups_42 : decode cX2_groups 42 = .ok (.istore_n 2, 1) := dk_61 (dk_at dksX2_groups_1 18 rfl rfl)
theorem dX2_groups_43 : decode cX2_groups 43 = .ok (.iload 5, 2) := dk_21 5 (dk_at dksX2_groups_1 19 rfl rfl)
theorem dX2_groups_45 : decode cX2_groups 45 = .ok (.invokestatic 327, 3) := dk_184 1 71 (dk_at dksX2_groups_1 21 rfl rfl)
theorem dX2_groups_48 : decode cX2_groups 48 = .ok (.iload_n 3, 1) := dk_29 (dk_at dksX2_groups_2 0 rfl rfl)
theorem dX2_groups_49 : decode cX2_groups 49 = .ok (.if_icmp .le 11, 3) := dk_164 0 11 (dk_at dksX2_groups_2 1 rfl rfl)
theorem dX2_groups_52 : decode cX2_groups 52 = .ok (.iload 5, 2) := dk_21 5 (dk_at dksX2_groups_2 4 rfl rfl)
theorem dX2_groups_54 : decode cX2_groups 54 = .ok (.invokestatic 327, 3) := dk_184 1 71 (dk_at dksX2_groups_2 6 rfl rfl)
theorem dX2_groups_57 : decode cX2_groups 57 = .ok (.goto 4, 3) := dk_167 0 4 (dk_at dksX2_groups_2 9 rfl rfl)
theorem dX2_groups_60 : decode cX2_groups 60 = .ok (.iload_n 3, 1) := dk_29 (dk_at dksX2_groups_2 12 rfl rfl)
theorem dX2_groups_61 : decode cX2_groups 61 = .ok (.istore_n 3, 1) := dk_62 (dk_at dksX2_groups_2 13 rfl rfl)
theorem dX2_groups_62 : decode cX2_groups 62 = .ok (.iinc 4 1, 3) := dk_132 4 1 (dk_at dksX2_groups_2 14 rfl rfl)
theorem dX2_groups_65 : decode cX2_groups 65 = .ok (.goto (-58), 3) := dk_167 255 198 (dk_at dksX2_groups_2 17 rfl rfl)
theorem dX2_groups_68 : decode cX2_groups 68 = .ok (.iload_n 1, 1) := dk_27 (dk_at dksX2_groups_2 20 rfl rfl)
theorem dX2_groups_69 : decode cX2_groups 69 = .ok (.ifCond .eq 7, 3) := dk_153 0 7 (dk_at dksX2_groups_2 21 rfl rfl)
theorem dX2_groups_72 : decode cX2_groups 72 = .ok (.iload_n 3, 1) := dk_29 (dk_at dksX2_groups_3 0 rfl rfl)
theorem dX2_groups_73 : decode cX2_groups 73 = .ok (.goto 4, 3) := dk_167 0 4 (dk_at dksX2_groups_3 1 rfl rfl)
theorem dX2_groups_76 : decode cX2_groups 76 = .ok (.iload_n 2, 1) := dk_28 (dk_at dksX2_groups_3 4 rfl rfl)
theorem dX2_groups_77 : decode cX2_groups 77 = .ok (.ireturn, 1) := dk_172 (dk_at dksX2_groups_3 5 rfl rfl)
abbrev cX2_silent : ByteArray := prog_20_method_111_code
def yX2_silent : MethodName := ⟨RX2, "silent", "()I"⟩
def dkwX2_silent_1 : List UInt8 := [28, 120, 167, 0, 4, 3, 128, 60, 132, 2, 1, 167, 255, 225, 27, 172]
abbrev dktX2_silent_1 : List UInt8 := dkwX2_silent_1 ++ []
def dkwX2_silent_0 : List UInt8 := [3, 60, 3, 61, 28, 16, 6, 162, 0, 31, 27, 42, 28, 2, 182, 1, 161, 4, 28, 120, 160, 0, 9, 4]
abbrev dktX2_silent_0 : List UInt8 := dkwX2_silent_0 ++ dktX2_silent_1
theorem dksX2_silent_0 : cX2_silent.data.toList.drop 0 = dktX2_silent_0 := by decide +kernel
theorem dksX2_silent_1 : cX2_silent.data.toList.drop 24 = dktX2_silent_1 := dk_seg dksX2_silent_0 24 rfl rfl
theorem dX2_silent_0 : decode cX2_silent 0 = .ok (.iconst 0, 1) := dk_3 (dk_at dksX2_silent_0 0 rfl rfl)
theorem dX2_silent_1 : decode cX2_silent 1 = .ok (.istore_n 1, 1) := dk_60 (dk_at dksX2_silent_0 1 rfl rfl)
theorem dX2_silent_2 : decode cX2_silent 2 = .ok (.iconst 0, 1) := dk_3 (dk_at dksX2_silent_0 2 rfl rfl)
theorem dX2_silent_3 : decode cX2_silent 3 = .ok (.istore_n 2, 1) := dk_61 (dk_at dksX2_silent_0 3 rfl rfl)
theorem dX2_silent_4 : decode cX2_silent 4 = .ok (.iload_n 2, 1) := dk_28 (dk_at dksX2_silent_0 4 rfl rfl)
theorem dX2_silent_5 : decode cX2_silent 5 = .ok (.bipush 6, 2) := dk_16 6 (dk_at dksX2_silent_0 5 rfl rfl)
theorem dX2_silent_7 : decode cX2_silent 7 = .ok (.if_icmp .ge 31, 3) := dk_162 0 31 (dk_at dksX2_silent_0 7 rfl rfl)
theorem dX2_silent_10 : decode cX2_silent 10 = .ok (.iload_n 1, 1) := dk_27 (dk_at dksX2_silent_0 10 rfl rfl)
theorem dX2_silent_11 : decode cX2_silent 11 = .ok (.aload_n 0, 1) := dk_42 (dk_at dksX2_silent_0 11 rfl rfl)
theorem dX2_silent_12 : decode cX2_silent 12 = .ok (.iload_n 2, 1) := dk_28 (dk_at dksX2_silent_0 12 rfl rfl)
theorem dX2_silent_13 : decode cX2_silent 13 = .ok (.iconst (-1), 1) := dk_2 (dk_at dksX2_silent_0 13 rfl rfl)
theorem dX2_silent_14 : decode cX2_silent 14 = .ok (.invokevirtual 417, 3) := dk_182 1 161 (dk_at dksX2_silent_0 14 rfl rfl)
theorem dX2_silent_17 : decode cX2_silent 17 = .ok (.iconst 1, 1) := dk_4 (dk_at dksX2_silent_0 17 rfl rfl)
theorem dX2_silent_18 : decode cX2_silent 18 = .ok (.iload_n 2, 1) := dk_28 (dk_at dksX2_silent_0 18 rfl rfl)
theorem dX2_silent_19 : decode cX2_silent 19 = .ok (.ishl, 1) := dk_120 (dk_at dksX2_silent_0 19 rfl rfl)
theorem dX2_silent_20 : decode cX2_silent 20 = .ok (.if_icmp .ne 9, 3) := dk_160 0 9 (dk_at dksX2_silent_0 20 rfl rfl)
theorem dX2_silent_23 : decode cX2_silent 23 = .ok (.iconst 1, 1) := dk_4 (dk_at dksX2_silent_0 23 rfl rfl)
theorem dX2_silent_24 : decode cX2_silent 24 = .ok (.iload_n 2, 1) := dk_28 (dk_at dksX2_silent_1 0 rfl rfl)
theorem dX2_silent_25 : decode cX2_silent 25 = .ok (.ishl, 1) := dk_120 (dk_at dksX2_silent_1 1 rfl rfl)
theorem dX2_silent_26 : decode cX2_silent 26 = .ok (.goto 4, 3) := dk_167 0 4 (dk_at dksX2_silent_1 2 rfl rfl)
theorem dX2_silent_29 : decode cX2_silent 29 = .ok (.iconst 0, 1) := dk_3 (dk_at dksX2_silent_1 5 rfl rfl)
theorem dX2_silent_30 : decode cX2_silent 30 = .ok (.ior, 1) := dk_128 (dk_at dksX2_silent_1 6 rfl rfl)
theorem dX2_silent_31 : decode cX2_silent 31 = .ok (.istore_n 1, 1) := dk_60 (dk_at dksX2_silent_1 7 rfl rfl)
theorem dX2_silent_32 : decode cX2_silent 32 = .ok (.iinc 2 1, 3) := dk_132 2 1 (dk_at dksX2_silent_1 8 rfl rfl)
theorem dX2_silent_35 : decode cX2_silent 35 = .ok (.goto (-31), 3) := dk_167 255 225 (dk_at dksX2_silent_1 11 rfl rfl)
theorem dX2_silent_38 : decode cX2_silent 38 = .ok (.iload_n 1, 1) := dk_27 (dk_at dksX2_silent_1 14 rfl rfl)
theorem dX2_silent_39 : decode cX2_silent 39 = .ok (.ireturn, 1) := dk_172 (dk_at dksX2_silent_1 15 rfl rfl)
abbrev cX2_gossips : ByteArray := prog_20_method_112_code
def yX2_gossips : MethodName := ⟨RX2, "gossips", "()I"⟩
def dkwX2_gossips_3 : List UInt8 := [60, 132, 2, 1, 167, 255, 184, 27, 172]
abbrev dktX2_gossips_3 : List UInt8 := dkwX2_gossips_3 ++ []
def dkwX2_gossips_2 : List UInt8 := [27, 29, 153, 0, 20, 42, 21, 4, 28, 182, 1, 161, 29, 159, 0, 9, 4, 28, 120, 167, 0, 4, 3, 128]
abbrev dktX2_gossips_2 : List UInt8 := dkwX2_gossips_2 ++ dktX2_gossips_3
def dkwX2_gossips_1 : List UInt8 := [54, 4, 21, 4, 16, 6, 162, 0, 18, 29, 21, 4, 184, 1, 3, 154, 0, 9, 132, 4, 1, 167, 255, 237]
abbrev dktX2_gossips_1 : List UInt8 := dkwX2_gossips_1 ++ dktX2_gossips_2
def dkwX2_gossips_0 : List UInt8 := [3, 60, 3, 61, 28, 16, 6, 162, 0, 72, 42, 28, 2, 182, 1, 161, 4, 28, 120, 2, 130, 126, 62, 3]
abbrev dktX2_gossips_0 : List UInt8 := dkwX2_gossips_0 ++ dktX2_gossips_1
theorem dksX2_gossips_0 : cX2_gossips.data.toList.drop 0 = dktX2_gossips_0 := by decide +kernel
theorem dksX2_gossips_1 : cX2_gossips.data.toList.drop 24 = dktX2_gossips_1 := dk_seg dksX2_gossips_0 24 rfl rfl
theorem dksX2_gossips_2 : cX2_gossips.data.toList.drop 48 = dktX2_gossips_2 := dk_seg dksX2_gossips_1 24 rfl rfl
theorem dksX2_gossips_3 : cX2_gossips.data.toList.drop 72 = dktX2_gossips_3 := dk_seg dksX2_gossips_2 24 rfl rfl
theorem dX2_gossips_0 : decode cX2_gossips 0 = .ok (.iconst 0, 1) := dk_3 (dk_at dksX2_gossips_0 0 rfl rfl)
theorem dX2_gossips_1 : decode cX2_gossips 1 = .ok (.istore_n 1, 1) := dk_60 (dk_at dksX2_gossips_0 1 rfl rfl)
theorem dX2_gossips_2 : decode cX2_gossips 2 = .ok (.iconst 0, 1) := dk_3 (dk_at dksX2_gossips_0 2 rfl rfl)
theorem dX2_gossips_3 : decode cX2_gossips 3 = .ok (.istore_n 2, 1) := dk_61 (dk_at dksX2_gossips_0 3 rfl rfl)
theorem dX2_gossips_4 : decode cX2_gossips 4 = .ok (.iload_n 2, 1) := dk_28 (dk_at dksX2_gossips_0 4 rfl rfl)
theorem dX2_gossips_5 : decode cX2_gossips 5 = .ok (.bipush 6, 2) := dk_16 6 (dk_at dksX2_gossips_0 5 rfl rfl)
theorem dX2_gossips_7 : decode cX2_gossips 7 = .ok (.if_icmp .ge 72, 3) := dk_162 0 72 (dk_at dksX2_gossips_0 7 rfl rfl)
theorem dX2_gossips_10 : decode cX2_gossips 10 = .ok (.aload_n 0, 1) := dk_42 (dk_at dksX2_gossips_0 10 rfl rfl)
theorem dX2_gossips_11 : decode cX2_gossips 11 = .ok (.iload_n 2, 1) := dk_28 (dk_at dksX2_gossips_0 11 rfl rfl)
theorem dX2_gossips_12 : decode cX2_gossips 12 = .ok (.iconst (-1), 1) := dk_2 (dk_at dksX2_gossips_0 12 rfl rfl)
theorem dX2_gossips_13 : decode cX2_gossips 13 = .ok (.invokevirtual 417, 3) := dk_182 1 161 (dk_at dksX2_gossips_0 13 rfl rfl)
theorem dX2_gossips_16 : decode cX2_gossips 16 = .ok (.iconst 1, 1) := dk_4 (dk_at dksX2_gossips_0 16 rfl rfl)
theorem dX2_gossips_17 : decode cX2_gossips 17 = .ok (.iload_n 2, 1) := dk_28 (dk_at dksX2_gossips_0 17 rfl rfl)
theorem dX2_gossips_18 : decode cX2_gossips 18 = .ok (.ishl, 1) := dk_120 (dk_at dksX2_gossips_0 18 rfl rfl)
theorem dX2_gossips_19 : decode cX2_gossips 19 = .ok (.iconst (-1), 1) := dk_2 (dk_at dksX2_gossips_0 19 rfl rfl)
theorem dX2_gossips_20 : decode cX2_gossips 20 = .ok (.ixor, 1) := dk_130 (dk_at dksX2_gossips_0 20 rfl rfl)
theorem dX2_gossips_21 : decode cX2_gossips 21 = .ok (.iand, 1) := dk_126 (dk_at dksX2_gossips_0 21 rfl rfl)
theorem dX2_gossips_22 : decode cX2_gossips 22 = .ok (.istore_n 3, 1) := dk_62 (dk_at dksX2_gossips_0 22 rfl rfl)
theorem dX2_gossips_23 : decode cX2_gossips 23 = .ok (.iconst 0, 1) := dk_3 (dk_at dksX2_gossips_0 23 rfl rfl)
theorem dX2_gossips_24 : decode cX2_gossips 24 = .ok (.istore 4, 2) := dk_54 4 (dk_at dksX2_gossips_1 0 rfl rfl)
theorem dX2_gossips_26 : decode cX2_gossips 26 = .ok (.iload 4, 2) := dk_21 4 (dk_at dksX2_gossips_1 2 rfl rfl)
theorem dX2_gossips_28 : decode cX2_gossips 28 = .ok (.bipush 6, 2) := dk_16 6 (dk_at dksX2_gossips_1 4 rfl rfl)
theorem dX2_gossips_30 : decode cX2_gossips 30 = .ok (.if_icmp .ge 18, 3) := dk_162 0 18 (dk_at dksX2_gossips_1 6 rfl rfl)
theorem dX2_gossips_33 : decode cX2_gossips 33 = .ok (.iload_n 3, 1) := dk_29 (dk_at dksX2_gossips_1 9 rfl rfl)
theorem dX2_gossips_34 : decode cX2_gossips 34 = .ok (.iload 4, 2) := dk_21 4 (dk_at dksX2_gossips_1 10 rfl rfl)
theorem dX2_gossips_36 : decode cX2_gossips 36 = .ok (.invokestatic 259, 3) := dk_184 1 3 (dk_at dksX2_gossips_1 12 rfl rfl)
theorem dX2_gossips_39 : decode cX2_gossips 39 = .ok (.ifCond .ne 9, 3) := dk_154 0 9 (dk_at dksX2_gossips_1 15 rfl rfl)
theorem dX2_gossips_42 : decode cX2_gossips 42 = .ok (.iinc 4 1, 3) := dk_132 4 1 (dk_at dksX2_gossips_1 18 rfl rfl)
theorem dX2_gossips_45 : decode cX2_gossips 45 = .ok (.goto (-19), 3) := dk_167 255 237 (dk_at dksX2_gossips_1 21 rfl rfl)
theorem dX2_gossips_48 : decode cX2_gossips 48 = .ok (.iload_n 1, 1) := dk_27 (dk_at dksX2_gossips_2 0 rfl rfl)
theorem dX2_gossips_49 : decode cX2_gossips 49 = .ok (.iload_n 3, 1) := dk_29 (dk_at dksX2_gossips_2 1 rfl rfl)
theorem dX2_gossips_50 : decode cX2_gossips 50 = .ok (.ifCond .eq 20, 3) := dk_153 0 20 (dk_at dksX2_gossips_2 2 rfl rfl)
theorem dX2_gossips_53 : decode cX2_gossips 53 = .ok (.aload_n 0, 1) := dk_42 (dk_at dksX2_gossips_2 5 rfl rfl)
theorem dX2_gossips_54 : decode cX2_gossips 54 = .ok (.iload 4, 2) := dk_21 4 (dk_at dksX2_gossips_2 6 rfl rfl)
theorem dX2_gossips_56 : decode cX2_gossips 56 = .ok (.iload_n 2, 1) := dk_28 (dk_at dksX2_gossips_2 8 rfl rfl)
theorem dX2_gossips_57 : decode cX2_gossips 57 = .ok (.invokevirtual 417, 3) := dk_182 1 161 (dk_at dksX2_gossips_2 9 rfl rfl)
theorem dX2_gossips_60 : decode cX2_gossips 60 = .ok (.iload_n 3, 1) := dk_29 (dk_at dksX2_gossips_2 12 rfl rfl)
theorem dX2_gossips_61 : decode cX2_gossips 61 = .ok (.if_icmp .eq 9, 3) := dk_159 0 9 (dk_at dksX2_gossips_2 13 rfl rfl)
theorem dX2_gossips_64 : decode cX2_gossips 64 = .ok (.iconst 1, 1) := dk_4 (dk_at dksX2_gossips_2 16 rfl rfl)
theorem dX2_gossips_65 : decode cX2_gossips 65 = .ok (.iload_n 2, 1) := dk_28 (dk_at dksX2_gossips_2 17 rfl rfl)
theorem dX2_gossips_66 : decode cX2_gossips 66 = .ok (.ishl, 1) := dk_120 (dk_at dksX2_gossips_2 18 rfl rfl)
theorem dX2_gossips_67 : decode cX2_gossips 67 = .ok (.goto 4, 3) := dk_167 0 4 (dk_at dksX2_gossips_2 19 rfl rfl)
theorem dX2_gossips_70 : decode cX2_gossips 70 = .ok (.iconst 0, 1) := dk_3 (dk_at dksX2_gossips_2 22 rfl rfl)
theorem dX2_gossips_71 : decode cX2_gossips 71 = .ok (.ior, 1) := dk_128 (dk_at dksX2_gossips_2 23 rfl rfl)
theorem dX2_gossips_72 : decode cX2_gossips 72 = .ok (.istore_n 1, 1) := dk_60 (dk_at dksX2_gossips_3 0 rfl rfl)
theorem dX2_gossips_73 : decode cX2_gossips 73 = .ok (.iinc 2 1, 3) := dk_132 2 1 (dk_at dksX2_gossips_3 1 rfl rfl)
theorem dX2_gossips_76 : decode cX2_gossips 76 = .ok (.goto (-72), 3) := dk_167 255 184 (dk_at dksX2_gossips_3 4 rfl rfl)
theorem dX2_gossips_79 : decode cX2_gossips 79 = .ok (.iload_n 1, 1) := dk_27 (dk_at dksX2_gossips_3 7 rfl rfl)
theorem dX2_gossips_80 : decode cX2_gossips 80 = .ok (.ireturn, 1) := dk_172 (dk_at dksX2_gossips_3 8 rfl rfl)
abbrev cX2_cost : ByteArray := prog_20_method_113_code
def yX2_cost : MethodName := ⟨RX2, "cost", "(II)I"⟩
def dkwX2_cost_0 : List UInt8 := [27, 28, 184, 1, 155, 153, 0, 12, 42, 27, 28, 182, 1, 164, 167, 0, 4, 2, 172]
abbrev dktX2_cost_0 : List UInt8 := dkwX2_cost_0 ++ []
theorem dksX2_cost_0 : cX2_cost.data.toList.drop 0 = dktX2_cost_0 := by decide +kernel
theorem dX2_cost_0 : decode cX2_cost 0 = .ok (.iload_n 1, 1) := dk_27 (dk_at dksX2_cost_0 0 rfl rfl)
theorem dX2_cost_1 : decode cX2_cost 1 = .ok (.iload_n 2, 1) := dk_28 (dk_at dksX2_cost_0 1 rfl rfl)
theorem dX2_cost_2 : decode cX2_cost 2 = .ok (.invokestatic 411, 3) := dk_184 1 155 (dk_at dksX2_cost_0 2 rfl rfl)
theorem dX2_cost_5 : decode cX2_cost 5 = .ok (.ifCond .eq 12, 3) := dk_153 0 12 (dk_at dksX2_cost_0 5 rfl rfl)
theorem dX2_cost_8 : decode cX2_cost 8 = .ok (.aload_n 0, 1) := dk_42 (dk_at dksX2_cost_0 8 rfl rfl)
theorem dX2_cost_9 : decode cX2_cost 9 = .ok (.iload_n 1, 1) := dk_27 (dk_at dksX2_cost_0 9 rfl rfl)
theorem dX2_cost_10 : decode cX2_cost 10 = .ok (.iload_n 2, 1) := dk_28 (dk_at dksX2_cost_0 10 rfl rfl)
theorem dX2_cost_11 : decode cX2_cost 11 = .ok (.invokevirtual 420, 3) := dk_182 1 164 (dk_at dksX2_cost_0 11 rfl rfl)
theorem dX2_cost_14 : decode cX2_cost 14 = .ok (.goto 4, 3) := dk_167 0 4 (dk_at dksX2_cost_0 14 rfl rfl)
theorem dX2_cost_17 : decode cX2_cost 17 = .ok (.iconst (-1), 1) := dk_2 (dk_at dksX2_cost_0 17 rfl rfl)
theorem dX2_cost_18 : decode cX2_cost 18 = .ok (.ireturn, 1) := dk_172 (dk_at dksX2_cost_0 18 rfl rfl)
abbrev cX2_costOf : ByteArray := prog_20_method_104_code
def yX2_costOf : MethodName := ⟨RX2, "costOf", "(II)I"⟩
def dkwX2_costOf_2 : List UInt8 := [154, 0, 5, 2, 172, 29, 42, 21, 4, 182, 1, 74, 96, 62, 132, 4, 1, 167, 255, 198, 29, 172]
abbrev dktX2_costOf_2 : List UInt8 := dkwX2_costOf_2 ++ []
def dkwX2_costOf_1 : List UInt8 := [153, 0, 36, 42, 21, 4, 182, 0, 85, 5, 160, 0, 6, 167, 0, 23, 42, 21, 4, 182, 0, 89]
abbrev dktX2_costOf_1 : List UInt8 := dkwX2_costOf_1 ++ dktX2_costOf_2
def dkwX2_costOf_0 : List UInt8 := [3, 62, 3, 54, 4, 21, 4, 42, 180, 0, 7, 3, 46, 162, 0, 53, 42, 21, 4, 27, 28, 182, 1, 152]
abbrev dktX2_costOf_0 : List UInt8 := dkwX2_costOf_0 ++ dktX2_costOf_1
theorem dksX2_costOf_0 : cX2_costOf.data.toList.drop 0 = dktX2_costOf_0 := by decide +kernel
theorem dksX2_costOf_1 : cX2_costOf.data.toList.drop 24 = dktX2_costOf_1 := dk_seg dksX2_costOf_0 24 rfl rfl
theorem dksX2_costOf_2 : cX2_costOf.data.toList.drop 46 = dktX2_costOf_2 := dk_seg dksX2_costOf_1 22 rfl rfl
theorem dX2_costOf_0 : decode cX2_costOf 0 = .ok (.iconst 0, 1) := dk_3 (dk_at dksX2_costOf_0 0 rfl rfl)
theorem dX2_costOf_1 : decode cX2_costOf 1 = .ok (.istore_n 3, 1) := dk_62 (dk_at dksX2_costOf_0 1 rfl rfl)
theorem dX2_costOf_2 : decode cX2_costOf 2 = .ok (.iconst 0, 1) := dk_3 (dk_at dksX2_costOf_0 2 rfl rfl)
theorem dX2_costOf_3 : decode cX2_costOf 3 = .ok (.istore 4, 2) := dk_54 4 (dk_at dksX2_costOf_0 3 rfl rfl)
theorem dX2_costOf_5 : decode cX2_costOf 5 = .ok (.iload 4, 2) := dk_21 4 (dk_at dksX2_costOf_0 5 rfl rfl)
theorem dX2_costOf_7 : decode cX2_costOf 7 = .ok (.aload_n 0, 1) := dk_42 (dk_at dksX2_costOf_0 7 rfl rfl)
theorem dX2_costOf_8 : decode cX2_costOf 8 = .ok (.getfield 7, 3) := dk_180 0 7 (dk_at dksX2_costOf_0 8 rfl rfl)
theorem dX2_costOf_11 : decode cX2_costOf 11 = .ok (.iconst 0, 1) := dk_3 (dk_at dksX2_costOf_0 11 rfl rfl)
theorem dX2_costOf_12 : decode cX2_costOf 12 = .ok (.iaload, 1) := dk_46 (dk_at dksX2_costOf_0 12 rfl rfl)
theorem dX2_costOf_13 : decode cX2_costOf 13 = .ok (.if_icmp .ge 53, 3) := dk_162 0 53 (dk_at dksX2_costOf_0 13 rfl rfl)
theorem dX2_costOf_16 : decode cX2_costOf 16 = .ok (.aload_n 0, 1) := dk_42 (dk_at dksX2_costOf_0 16 rfl rfl)
theorem dX2_costOf_17 : decode cX2_costOf 17 = .ok (.iload 4, 2) := dk_21 4 (dk_at dksX2_costOf_0 17 rfl rfl)
theorem dX2_costOf_19 : decode cX2_costOf 19 = .ok (.iload_n 1, 1) := dk_27 (dk_at dksX2_costOf_0 19 rfl rfl)
theorem dX2_costOf_20 : decode cX2_costOf 20 = .ok (.iload_n 2, 1) := dk_28 (dk_at dksX2_costOf_0 20 rfl rfl)
theorem dX2_costOf_21 : decode cX2_costOf 21 = .ok (.invokevirtual 408, 3) := dk_182 1 152 (dk_at dksX2_costOf_0 21 rfl rfl)
theorem dX2_costOf_24 : decode cX2_costOf 24 = .ok (.ifCond .eq 36, 3) := dk_153 0 36 (dk_at dksX2_costOf_1 0 rfl rfl)
theorem dX2_costOf_27 : decode cX2_costOf 27 = .ok (.aload_n 0, 1) := dk_42 (dk_at dksX2_costOf_1 3 rfl rfl)
theorem dX2_costOf_28 : decode cX2_costOf 28 = .ok (.iload 4, 2) := dk_21 4 (dk_at dksX2_costOf_1 4 rfl rfl)
theorem dX2_costOf_30 : decode cX2_costOf 30 = .ok (.invokevirtual 85, 3) := dk_182 0 85 (dk_at dksX2_costOf_1 6 rfl rfl)
theorem dX2_costOf_33 : decode cX2_costOf 33 = .ok (.iconst 2, 1) := dk_5 (dk_at dksX2_costOf_1 9 rfl rfl)
theorem dX2_costOf_34 : decode cX2_costOf 34 = .ok (.if_icmp .ne 6, 3) := dk_160 0 6 (dk_at dksX2_costOf_1 10 rfl rfl)
theorem dX2_costOf_37 : decode cX2_costOf 37 = .ok (.goto 23, 3) := dk_167 0 23 (dk_at dksX2_costOf_1 13 rfl rfl)
theorem dX2_costOf_40 : decode cX2_costOf 40 = .ok (.aload_n 0, 1) := dk_42 (dk_at dksX2_costOf_1 16 rfl rfl)
theorem dX2_costOf_41 : decode cX2_costOf 41 = .ok (.iload 4, 2) := dk_21 4 (dk_at dksX2_costOf_1 17 rfl rfl)
theorem dX2_costOf_43 : decode cX2_costOf 43 = .ok (.invokevirtual 89, 3) := dk_182 0 89 (dk_at dksX2_costOf_1 19 rfl rfl)
theorem dX2_costOf_46 : decode cX2_costOf 46 = .ok (.ifCond .ne 5, 3) := dk_154 0 5 (dk_at dksX2_costOf_2 0 rfl rfl)
theorem dX2_costOf_49 : decode cX2_costOf 49 = .ok (.iconst (-1), 1) := dk_2 (dk_at dksX2_costOf_2 3 rfl rfl)
theorem dX2_costOf_50 : decode cX2_costOf 50 = .ok (.ireturn, 1) := dk_172 (dk_at dksX2_costOf_2 4 rfl rfl)
theorem dX2_costOf_51 : decode cX2_costOf 51 = .ok (.iload_n 3, 1) := dk_29 (dk_at dksX2_costOf_2 5 rfl rfl)
theorem dX2_costOf_52 : decode cX2_costOf 52 = .ok (.aload_n 0, 1) := dk_42 (dk_at dksX2_costOf_2 6 rfl rfl)
theorem dX2_costOf_53 : decode cX2_costOf 53 = .ok (.iload 4, 2) := dk_21 4 (dk_at dksX2_costOf_2 7 rfl rfl)
theorem dX2_costOf_55 : decode cX2_costOf 55 = .ok (.invokevirtual 330, 3) := dk_182 1 74 (dk_at dksX2_costOf_2 9 rfl rfl)
theorem dX2_costOf_58 : decode cX2_costOf 58 = .ok (.iadd, 1) := dk_96 (dk_at dksX2_costOf_2 12 rfl rfl)
theorem dX2_costOf_59 : decode cX2_costOf 59 = .ok (.istore_n 3, 1) := dk_62 (dk_at dksX2_costOf_2 13 rfl rfl)
theorem dX2_costOf_60 : decode cX2_costOf 60 = .ok (.iinc 4 1, 3) := dk_132 4 1 (dk_at dksX2_costOf_2 14 rfl rfl)
theorem dX2_costOf_63 : decode cX2_costOf 63 = .ok (.goto (-58), 3) := dk_167 255 198 (dk_at dksX2_costOf_2 17 rfl rfl)
theorem dX2_costOf_66 : decode cX2_costOf 66 = .ok (.iload_n 3, 1) := dk_29 (dk_at dksX2_costOf_2 20 rfl rfl)
theorem dX2_costOf_67 : decode cX2_costOf 67 = .ok (.ireturn, 1) := dk_172 (dk_at dksX2_costOf_2 21 rfl rfl)
abbrev cX2_word : ByteArray := prog_20_method_116_code
def yX2_word : MethodName := ⟨RX2, "word", "(II)I"⟩
def dkwX2_word_1 : List UInt8 := [180, 0, 50, 27, 46, 19, 1, 167, 160, 0, 7, 2, 167, 0, 9, 42, 180, 0, 50, 27, 46, 172]
abbrev dktX2_word_1 : List UInt8 := dkwX2_word_1 ++ []
def dkwX2_word_0 : List UInt8 := [27, 184, 0, 93, 153, 0, 10, 28, 184, 0, 93, 154, 0, 5, 2, 172, 42, 28, 182, 1, 171, 42]
abbrev dktX2_word_0 : List UInt8 := dkwX2_word_0 ++ dktX2_word_1
theorem dksX2_word_0 : cX2_word.data.toList.drop 0 = dktX2_word_0 := by decide +kernel
theorem dksX2_word_1 : cX2_word.data.toList.drop 22 = dktX2_word_1 := dk_seg dksX2_word_0 22 rfl rfl
theorem dX2_word_0 : decode cX2_word 0 = .ok (.iload_n 1, 1) := dk_27 (dk_at dksX2_word_0 0 rfl rfl)
theorem dX2_word_1 : decode cX2_word 1 = .ok (.invokestatic 93, 3) := dk_184 0 93 (dk_at dksX2_word_0 1 rfl rfl)
theorem dX2_word_4 : decode cX2_word 4 = .ok (.ifCond .eq 10, 3) := dk_153 0 10 (dk_at dksX2_word_0 4 rfl rfl)
theorem dX2_word_7 : decode cX2_word 7 = .ok (.iload_n 2, 1) := dk_28 (dk_at dksX2_word_0 7 rfl rfl)
theorem dX2_word_8 : decode cX2_word 8 = .ok (.invokestatic 93, 3) := dk_184 0 93 (dk_at dksX2_word_0 8 rfl rfl)
theorem dX2_word_11 : decode cX2_word 11 = .ok (.ifCond .ne 5, 3) := dk_154 0 5 (dk_at dksX2_word_0 11 rfl rfl)
theorem dX2_word_14 : decode cX2_word 14 = .ok (.iconst (-1), 1) := dk_2 (dk_at dksX2_word_0 14 rfl rfl)
theorem dX2_word_15 : decode cX2_word 15 = .ok (.ireturn, 1) := dk_172 (dk_at dksX2_word_0 15 rfl rfl)
theorem dX2_word_16 : decode cX2_word 16 = .ok (.aload_n 0, 1) := dk_42 (dk_at dksX2_word_0 16 rfl rfl)
theorem dX2_word_17 : decode cX2_word 17 = .ok (.iload_n 2, 1) := dk_28 (dk_at dksX2_word_0 17 rfl rfl)
theorem dX2_word_18 : decode cX2_word 18 = .ok (.invokevirtual 427, 3) := dk_182 1 171 (dk_at dksX2_word_0 18 rfl rfl)
theorem dX2_word_21 : decode cX2_word 21 = .ok (.aload_n 0, 1) := dk_42 (dk_at dksX2_word_0 21 rfl rfl)
theorem dX2_word_22 : decode cX2_word 22 = .ok (.getfield 50, 3) := dk_180 0 50 (dk_at dksX2_word_1 0 rfl rfl)
theorem dX2_word_25 : decode cX2_word 25 = .ok (.iload_n 1, 1) := dk_27 (dk_at dksX2_word_1 3 rfl rfl)
theorem dX2_word_26 : decode cX2_word 26 = .ok (.iaload, 1) := dk_46 (dk_at dksX2_word_1 4 rfl rfl)
theorem dX2_word_27 : decode cX2_word 27 = .ok (.ldc_w 423, 3) := dk_19 1 167 (dk_at dksX2_word_1 5 rfl rfl)
theorem dX2_word_30 : decode cX2_word 30 = .ok (.if_icmp .ne 7, 3) := dk_160 0 7 (dk_at dksX2_word_1 8 rfl rfl)
theorem dX2_word_33 : decode cX2_word 33 = .ok (.iconst (-1), 1) := dk_2 (dk_at dksX2_word_1 11 rfl rfl)
theorem dX2_word_34 : decode cX2_word 34 = .ok (.goto 9, 3) := dk_167 0 9 (dk_at dksX2_word_1 12 rfl rfl)
theorem dX2_word_37 : decode cX2_word 37 = .ok (.aload_n 0, 1) := dk_42 (dk_at dksX2_word_1 15 rfl rfl)
theorem dX2_word_38 : decode cX2_word 38 = .ok (.getfield 50, 3) := dk_180 0 50 (dk_at dksX2_word_1 16 rfl rfl)
theorem dX2_word_41 : decode cX2_word 41 = .ok (.iload_n 1, 1) := dk_27 (dk_at dksX2_word_1 19 rfl rfl)
theorem dX2_word_42 : decode cX2_word 42 = .ok (.iaload, 1) := dk_46 (dk_at dksX2_word_1 20 rfl rfl)
theorem dX2_word_43 : decode cX2_word 43 = .ok (.ireturn, 1) := dk_172 (dk_at dksX2_word_1 21 rfl rfl)
abbrev cX2_layFar : ByteArray := prog_20_method_115_code
def yX2_layFar : MethodName := ⟨RX2, "layFar", "(I)V"⟩
def dkwX2_layFar_8 : List UInt8 := [132, 2, 1, 167, 255, 116, 177]
abbrev dktX2_layFar_8 : List UInt8 := dkwX2_layFar_8 ++ []
def dkwX2_layFar_7 : List UInt8 := [29, 42, 180, 0, 53, 21, 4, 46, 4, 96, 79, 132, 4, 1, 167, 255, 145, 132, 3, 1, 167, 255, 130]
abbrev dktX2_layFar_7 : List UInt8 := dkwX2_layFar_7 ++ dktX2_layFar_8
def dkwX2_layFar_6 : List UInt8 := [180, 0, 50, 29, 42, 180, 0, 50, 21, 4, 46, 42, 29, 21, 4, 182, 1, 164, 96, 79, 42, 180, 0, 53]
abbrev dktX2_layFar_6 : List UInt8 := dkwX2_layFar_6 ++ dktX2_layFar_7
def dkwX2_layFar_5 : List UInt8 := [182, 1, 164, 96, 42, 180, 0, 53, 21, 4, 46, 4, 96, 182, 1, 168, 154, 0, 6, 167, 0, 39, 42]
abbrev dktX2_layFar_5 : List UInt8 := dkwX2_layFar_5 ++ dktX2_layFar_6
def dkwX2_layFar_4 : List UInt8 := [42, 29, 21, 4, 182, 1, 164, 2, 159, 0, 74, 42, 29, 42, 180, 0, 50, 21, 4, 46, 42, 29, 21, 4]
abbrev dktX2_layFar_4 : List UInt8 := dkwX2_layFar_4 ++ dktX2_layFar_5
def dkwX2_layFar_3 : List UInt8 := [16, 6, 162, 0, 110, 29, 21, 4, 159, 0, 98, 42, 180, 0, 50, 21, 4, 46, 19, 1, 167, 159, 0, 85]
abbrev dktX2_layFar_3 : List UInt8 := dkwX2_layFar_3 ++ dktX2_layFar_4
def dkwX2_layFar_2 : List UInt8 := [167, 255, 213, 3, 61, 28, 16, 6, 162, 0, 140, 3, 62, 29, 16, 6, 162, 0, 126, 3, 54, 4, 21, 4]
abbrev dktX2_layFar_2 : List UInt8 := dkwX2_layFar_2 ++ dktX2_layFar_3
def dkwX2_layFar_1 : List UInt8 := [19, 1, 167, 79, 42, 180, 0, 53, 28, 28, 27, 160, 0, 7, 4, 167, 0, 4, 3, 79, 132, 2, 1]
abbrev dktX2_layFar_1 : List UInt8 := dkwX2_layFar_1 ++ dktX2_layFar_2
def dkwX2_layFar_0 : List UInt8 := [3, 61, 28, 16, 6, 162, 0, 43, 42, 180, 0, 50, 28, 28, 27, 160, 0, 7, 3, 167, 0, 6]
abbrev dktX2_layFar_0 : List UInt8 := dkwX2_layFar_0 ++ dktX2_layFar_1
theorem dksX2_layFar_0 : cX2_layFar.data.toList.drop 0 = dktX2_layFar_0 := by decide +kernel
theorem dksX2_layFar_1 : cX2_layFar.data.toList.drop 22 = dktX2_layFar_1 := dk_seg dksX2_layFar_0 22 rfl rfl
theorem dksX2_layFar_2 : cX2_layFar.data.toList.drop 45 = dktX2_layFar_2 := dk_seg dksX2_layFar_1 23 rfl rfl
theorem dksX2_layFar_3 : cX2_layFar.data.toList.drop 69 = dktX2_layFar_3 := dk_seg dksX2_layFar_2 24 rfl rfl
theorem dksX2_layFar_4 : cX2_layFar.data.toList.drop 93 = dktX2_layFar_4 := dk_seg dksX2_layFar_3 24 rfl rfl
theorem dksX2_layFar_5 : cX2_layFar.data.toList.drop 117 = dktX2_layFar_5 := dk_seg dksX2_layFar_4 24 rfl rfl
theorem dksX2_layFar_6 : cX2_layFar.data.toList.drop 140 = dktX2_layFar_6 := dk_seg dksX2_layFar_5 23 rfl rfl
theorem dksX2_layFar_7 : cX2_layFar.data.toList.drop 164 = dktX2_layFar_7 := dk_seg dksX2_layFar_6 24 rfl rfl
theorem dksX2_layFar_8 : cX2_layFar.data.toList.drop 187 = dktX2_layFar_8 := dk_seg dksX2_layFar_7 23 rfl rfl
theorem dX2_layFar_0 : decode cX2_layFar 0 = .ok (.iconst 0, 1) := dk_3 (dk_at dksX2_layFar_0 0 rfl rfl)
theorem dX2_layFar_1 : decode cX2_layFar 1 = .ok (.istore_n 2, 1) := dk_61 (dk_at dksX2_layFar_0 1 rfl rfl)
theorem dX2_layFar_2 : decode cX2_layFar 2 = .ok (.iload_n 2, 1) := dk_28 (dk_at dksX2_layFar_0 2 rfl rfl)
theorem dX2_layFar_3 : decode cX2_layFar 3 = .ok (.bipush 6, 2) := dk_16 6 (dk_at dksX2_layFar_0 3 rfl rfl)
theorem dX2_layFar_5 : decode cX2_layFar 5 = .ok (.if_icmp .ge 43, 3) := dk_162 0 43 (dk_at dksX2_layFar_0 5 rfl rfl)
theorem dX2_layFar_8 : decode cX2_layFar 8 = .ok (.aload_n 0, 1) := dk_42 (dk_at dksX2_layFar_0 8 rfl rfl)
theorem dX2_layFar_9 : decode cX2_layFar 9 = .ok (.getfield 50, 3) := dk_180 0 50 (dk_at dksX2_layFar_0 9 rfl rfl)
theorem dX2_layFar_12 : decode cX2_layFar 12 = .ok (.iload_n 2, 1) := dk_28 (dk_at dksX2_layFar_0 12 rfl rfl)
theorem dX2_layFar_13 : decode cX2_layFar 13 = .ok (.iload_n 2, 1) := dk_28 (dk_at dksX2_layFar_0 13 rfl rfl)
theorem dX2_layFar_14 : decode cX2_layFar 14 = .ok (.iload_n 1, 1) := dk_27 (dk_at dksX2_layFar_0 14 rfl rfl)
theorem dX2_layFar_15 : decode cX2_layFar 15 = .ok (.if_icmp .ne 7, 3) := dk_160 0 7 (dk_at dksX2_layFar_0 15 rfl rfl)
theorem dX2_layFar_18 : decode cX2_layFar 18 = .ok (.iconst 0, 1) := dk_3 (dk_at dksX2_layFar_0 18 rfl rfl)
theorem dX2_layFar_19 : decode cX2_layFar 19 = .ok (.goto 6, 3) := dk_167 0 6 (dk_at dksX2_layFar_0 19 rfl rfl)
theorem dX2_layFar_22 : decode cX2_layFar 22 = .ok (.ldc_w 423, 3) := dk_19 1 167 (dk_at dksX2_layFar_1 0 rfl rfl)
theorem dX2_layFar_25 : decode cX2_layFar 25 = .ok (.iastore, 1) := dk_79 (dk_at dksX2_layFar_1 3 rfl rfl)
theorem dX2_layFar_26 : decode cX2_layFar 26 = .ok (.aload_n 0, 1) := dk_42 (dk_at dksX2_layFar_1 4 rfl rfl)
theorem dX2_layFar_27 : decode cX2_layFar 27 = .ok (.getfield 53, 3) := dk_180 0 53 (dk_at dksX2_layFar_1 5 rfl rfl)
theorem dX2_layFar_30 : decode cX2_layFar 30 = .ok (.iload_n 2, 1) := dk_28 (dk_at dksX2_layFar_1 8 rfl rfl)
theorem dX2_layFar_31 : decode cX2_layFar 31 = .ok (.iload_n 2, 1) := dk_28 (dk_at dksX2_layFar_1 9 rfl rfl)
theorem dX2_layFar_32 : decode cX2_layFar 32 = .ok (.iload_n 1, 1) := dk_27 (dk_at dksX2_layFar_1 10 rfl rfl)
theorem dX2_layFar_33 : decode cX2_layFar 33 = .ok (.if_icmp .ne 7, 3) := dk_160 0 7 (dk_at dksX2_layFar_1 11 rfl rfl)
theorem dX2_layFar_36 : decode cX2_layFar 36 = .ok (.iconst 1, 1) := dk_4 (dk_at dksX2_layFar_1 14 rfl rfl)
theorem dX2_layFar_37 : decode cX2_layFar 37 = .ok (.goto 4, 3) := dk_167 0 4 (dk_at dksX2_layFar_1 15 rfl rfl)
theorem dX2_layFar_40 : decode cX2_layFar 40 = .ok (.iconst 0, 1) := dk_3 (dk_at dksX2_layFar_1 18 rfl rfl)
theorem dX2_layFar_41 : decode cX2_layFar 41 = .ok (.iastore, 1) := dk_79 (dk_at dksX2_layFar_1 19 rfl rfl)
theorem dX2_layFar_42 : decode cX2_layFar 42 = .ok (.iinc 2 1, 3) := dk_132 2 1 (dk_at dksX2_layFar_1 20 rfl rfl)
theorem dX2_layFar_45 : decode cX2_layFar 45 = .ok (.goto (-43), 3) := dk_167 255 213 (dk_at dksX2_layFar_2 0 rfl rfl)
theorem dX2_layFar_48 : decode cX2_layFar 48 = .ok (.iconst 0, 1) := dk_3 (dk_at dksX2_layFar_2 3 rfl rfl)
theorem dX2_layFar_49 : decode cX2_layFar 49 = .ok (.istore_n 2, 1) := dk_61 (dk_at dksX2_layFar_2 4 rfl rfl)
theorem dX2_layFar_50 : decode cX2_layFar 50 = .ok (.iload_n 2, 1) := dk_28 (dk_at dksX2_layFar_2 5 rfl rfl)
theorem dX2_layFar_51 : decode cX2_layFar 51 = .ok (.bipush 6, 2) := dk_16 6 (dk_at dksX2_layFar_2 6 rfl rfl)
theorem dX2_layFar_53 : decode cX2_layFar 53 = .ok (.if_icmp .ge 140, 3) := dk_162 0 140 (dk_at dksX2_layFar_2 8 rfl rfl)
theorem dX2_layFar_56 : decode cX2_layFar 56 = .ok (.iconst 0, 1) := dk_3 (dk_at dksX2_layFar_2 11 rfl rfl)
theorem dX2_layFar_57 : decode cX2_layFar 57 = .ok (.istore_n 3, 1) := dk_62 (dk_at dksX2_layFar_2 12 rfl rfl)
theorem dX2_layFar_58 : decode cX2_layFar 58 = .ok (.iload_n 3, 1) := dk_29 (dk_at dksX2_layFar_2 13 rfl rfl)
theorem dX2_layFar_59 : decode cX2_layFar 59 = .ok (.bipush 6, 2) := dk_16 6 (dk_at dksX2_layFar_2 14 rfl rfl)
theorem dX2_layFar_61 : decode cX2_layFar 61 = .ok (.if_icmp .ge 126, 3) := dk_162 0 126 (dk_at dksX2_layFar_2 16 rfl rfl)
theorem dX2_layFar_64 : decode cX2_layFar 64 = .ok (.iconst 0, 1) := dk_3 (dk_at dksX2_layFar_2 19 rfl rfl)
theorem dX2_layFar_65 : decode cX2_layFar 65 = .ok (.istore 4, 2) := dk_54 4 (dk_at dksX2_layFar_2 20 rfl rfl)
theorem dX2_layFar_67 : decode cX2_layFar 67 = .ok (.iload 4, 2) := dk_21 4 (dk_at dksX2_layFar_2 22 rfl rfl)
theorem dX2_layFar_69 : decode cX2_layFar 69 = .ok (.bipush 6, 2) := dk_16 6 (dk_at dksX2_layFar_3 0 rfl rfl)
theorem dX2_layFar_71 : decode cX2_layFar 71 = .ok (.if_icmp .ge 110, 3) := dk_162 0 110 (dk_at dksX2_layFar_3 2 rfl rfl)
theorem dX2_layFar_74 : decode cX2_layFar 74 = .ok (.iload_n 3, 1) := dk_29 (dk_at dksX2_layFar_3 5 rfl rfl)
theorem dX2_layFar_75 : decode cX2_layFar 75 = .ok (.iload 4, 2) := dk_21 4 (dk_at dksX2_layFar_3 6 rfl rfl)
theorem dX2_layFar_77 : decode cX2_layFar 77 = .ok (.if_icmp .eq 98, 3) := dk_159 0 98 (dk_at dksX2_layFar_3 8 rfl rfl)
theorem dX2_layFar_80 : decode cX2_layFar 80 = .ok (.aload_n 0, 1) := dk_42 (dk_at dksX2_layFar_3 11 rfl rfl)
theorem dX2_layFar_81 : decode cX2_layFar 81 = .ok (.getfield 50, 3) := dk_180 0 50 (dk_at dksX2_layFar_3 12 rfl rfl)
theorem dX2_layFar_84 : decode cX2_layFar 84 = .ok (.iload 4, 2) := dk_21 4 (dk_at dksX2_layFar_3 15 rfl rfl)
theorem dX2_layFar_86 : decode cX2_layFar 86 = .ok (.iaload, 1) := dk_46 (dk_at dksX2_layFar_3 17 rfl rfl)
theorem dX2_layFar_87 : decode cX2_layFar 87 = .ok (.ldc_w 423, 3) := dk_19 1 167 (dk_at dksX2_layFar_3 18 rfl rfl)
theorem dX2_layFar_90 : decode cX2_layFar 90 = .ok (.if_icmp .eq 85, 3) := dk_159 0 85 (dk_at dksX2_layFar_3 21 rfl rfl)
theorem dX2_layFar_93 : decode cX2_layFar 93 = .ok (.aload_n 0, 1) := dk_42 (dk_at dksX2_layFar_4 0 rfl rfl)
theorem dX2_layFar_94 : decode cX2_layFar 94 = .ok (.iload_n 3, 1) := dk_29 (dk_at dksX2_layFar_4 1 rfl rfl)
theorem dX2_layFar_95 : decode cX2_layFar 95 = .ok (.iload 4, 2) := dk_21 4 (dk_at dksX2_layFar_4 2 rfl rfl)
theorem dX2_layFar_97 : decode cX2_layFar 97 = .ok (.invokevirtual 420, 3) := dk_182 1 164 (dk_at dksX2_layFar_4 4 rfl rfl)
theorem dX2_layFar_100 : decode cX2_layFar 100 = .ok (.iconst (-1), 1) := dk_2 (dk_at dksX2_layFar_4 7 rfl rfl)
theorem dX2_layFar_101 : decode cX2_layFar 101 = .ok (.if_icmp .eq 74, 3) := dk_159 0 74 (dk_at dksX2_layFar_4 8 rfl rfl)
theorem dX2_layFar_104 : decode cX2_layFar 104 = .ok (.aload_n 0, 1) := dk_42 (dk_at dksX2_layFar_4 11 rfl rfl)
theorem dX2_layFar_105 : decode cX2_layFar 105 = .ok (.iload_n 3, 1) := dk_29 (dk_at dksX2_layFar_4 12 rfl rfl)
theorem dX2_layFar_106 : decode cX2_layFar 106 = .ok (.aload_n 0, 1) := dk_42 (dk_at dksX2_layFar_4 13 rfl rfl)
theorem dX2_layFar_107 : decode cX2_layFar 107 = .ok (.getfield 50, 3) := dk_180 0 50 (dk_at dksX2_layFar_4 14 rfl rfl)
theorem dX2_layFar_110 : decode cX2_layFar 110 = .ok (.iload 4, 2) := dk_21 4 (dk_at dksX2_layFar_4 17 rfl rfl)
theorem dX2_layFar_112 : decode cX2_layFar 112 = .ok (.iaload, 1) := dk_46 (dk_at dksX2_layFar_4 19 rfl rfl)
theorem dX2_layFar_113 : decode cX2_layFar 113 = .ok (.aload_n 0, 1) := dk_42 (dk_at dksX2_layFar_4 20 rfl rfl)
theorem dX2_layFar_114 : decode cX2_layFar 114 = .ok (.iload_n 3, 1) := dk_29 (dk_at dksX2_layFar_4 21 rfl rfl)
theorem dX2_layFar_115 : decode cX2_layFar 115 = .ok (.iload 4, 2) := dk_21 4 (dk_at dksX2_layFar_4 22 rfl rfl)
theorem dX2_layFar_117 : decode cX2_layFar 117 = .ok (.invokevirtual 420, 3) := dk_182 1 164 (dk_at dksX2_layFar_5 0 rfl rfl)
theorem dX2_layFar_120 : decode cX2_layFar 120 = .ok (.iadd, 1) := dk_96 (dk_at dksX2_layFar_5 3 rfl rfl)
theorem dX2_layFar_121 : decode cX2_layFar 121 = .ok (.aload_n 0, 1) := dk_42 (dk_at dksX2_layFar_5 4 rfl rfl)
theorem dX2_layFar_122 : decode cX2_layFar 122 = .ok (.getfield 53, 3) := dk_180 0 53 (dk_at dksX2_layFar_5 5 rfl rfl)
theorem dX2_layFar_125 : decode cX2_layFar 125 = .ok (.iload 4, 2) := dk_21 4 (dk_at dksX2_layFar_5 8 rfl rfl)
theorem dX2_layFar_127 : decode cX2_layFar 127 = .ok (.iaload, 1) := dk_46 (dk_at dksX2_layFar_5 10 rfl rfl)
theorem dX2_layFar_128 : decode cX2_layFar 128 = .ok (.iconst 1, 1) := dk_4 (dk_at dksX2_layFar_5 11 rfl rfl)
theorem dX2_layFar_129 : decode cX2_layFar 129 = .ok (.iadd, 1) := dk_96 (dk_at dksX2_layFar_5 12 rfl rfl)
theorem dX2_layFar_130 : decode cX2_layFar 130 = .ok (.invokevirtual 424, 3) := dk_182 1 168 (dk_at dksX2_layFar_5 13 rfl rfl)
theorem dX2_layFar_133 : decode cX2_layFar 133 = .ok (.ifCond .ne 6, 3) := dk_154 0 6 (dk_at dksX2_layFar_5 16 rfl rfl)
theorem dX2_layFar_136 : decode cX2_layFar 136 = .ok (.goto 39, 3) := dk_167 0 39 (dk_at dksX2_layFar_5 19 rfl rfl)
theorem dX2_layFar_139 : decode cX2_layFar 139 = .ok (.aload_n 0, 1) := dk_42 (dk_at dksX2_layFar_5 22 rfl rfl)
theorem dX2_layFar_140 : decode cX2_layFar 140 = .ok (.getfield 50, 3) := dk_180 0 50 (dk_at dksX2_layFar_6 0 rfl rfl)
theorem dX2_layFar_143 : decode cX2_layFar 143 = .ok (.iload_n 3, 1) := dk_29 (dk_at dksX2_layFar_6 3 rfl rfl)
theorem dX2_layFar_144 : decode cX2_layFar 144 = .ok (.aload_n 0, 1) := dk_42 (dk_at dksX2_layFar_6 4 rfl rfl)
theorem dX2_layFar_145 : decode cX2_layFar 145 = .ok (.getfield 50, 3) := dk_180 0 50 (dk_at dksX2_layFar_6 5 rfl rfl)
theorem dX2_layFar_148 : decode cX2_layFar 148 = .ok (.iload 4, 2) := dk_21 4 (dk_at dksX2_layFar_6 8 rfl rfl)
theorem dX2_layFar_150 : decode cX2_layFar 150 = .ok (.iaload, 1) := dk_46 (dk_at dksX2_layFar_6 10 rfl rfl)
theorem dX2_layFar_151 : decode cX2_layFar 151 = .ok (.aload_n 0, 1) := dk_42 (dk_at dksX2_layFar_6 11 rfl rfl)
theorem dX2_layFar_152 : decode cX2_layFar 152 = .ok (.iload_n 3, 1) := dk_29 (dk_at dksX2_layFar_6 12 rfl rfl)
theorem dX2_layFar_153 : decode cX2_layFar 153 = .ok (.iload 4, 2) := dk_21 4 (dk_at dksX2_layFar_6 13 rfl rfl)
theorem dX2_layFar_155 : decode cX2_layFar 155 = .ok (.invokevirtual 420, 3) := dk_182 1 164 (dk_at dksX2_layFar_6 15 rfl rfl)
theorem dX2_layFar_158 : decode cX2_layFar 158 = .ok (.iadd, 1) := dk_96 (dk_at dksX2_layFar_6 18 rfl rfl)
theorem dX2_layFar_159 : decode cX2_layFar 159 = .ok (.iastore, 1) := dk_79 (dk_at dksX2_layFar_6 19 rfl rfl)
theorem dX2_layFar_160 : decode cX2_layFar 160 = .ok (.aload_n 0, 1) := dk_42 (dk_at dksX2_layFar_6 20 rfl rfl)
theorem dX2_layFar_161 : decode cX2_layFar 161 = .ok (.getfield 53, 3) := dk_180 0 53 (dk_at dksX2_layFar_6 21 rfl rfl)
theorem dX2_layFar_164 : decode cX2_layFar 164 = .ok (.iload_n 3, 1) := dk_29 (dk_at dksX2_layFar_7 0 rfl rfl)
theorem dX2_layFar_165 : decode cX2_layFar 165 = .ok (.aload_n 0, 1) := dk_42 (dk_at dksX2_layFar_7 1 rfl rfl)
theorem dX2_layFar_166 : decode cX2_layFar 166 = .ok (.getfield 53, 3) := dk_180 0 53 (dk_at dksX2_layFar_7 2 rfl rfl)
theorem dX2_layFar_169 : decode cX2_layFar 169 = .ok (.iload 4, 2) := dk_21 4 (dk_at dksX2_layFar_7 5 rfl rfl)
theorem dX2_layFar_171 : decode cX2_layFar 171 = .ok (.iaload, 1) := dk_46 (dk_at dksX2_layFar_7 7 rfl rfl)
theorem dX2_layFar_172 : decode cX2_layFar 172 = .ok (.iconst 1, 1) := dk_4 (dk_at dksX2_layFar_7 8 rfl rfl)
theorem dX2_layFar_173 : decode cX2_layFar 173 = .ok (.iadd, 1) := dk_96 (dk_at dksX2_layFar_7 9 rfl rfl)
theorem dX2_layFar_174 : decode cX2_layFar 174 = .ok (.iastore, 1) := dk_79 (dk_at dksX2_layFar_7 10 rfl rfl)
theorem dX2_layFar_175 : decode cX2_layFar 175 = .ok (.iinc 4 1, 3) := dk_132 4 1 (dk_at dksX2_layFar_7 11 rfl rfl)
theorem dX2_layFar_178 : decode cX2_layFar 178 = .ok (.goto (-111), 3) := dk_167 255 145 (dk_at dksX2_layFar_7 14 rfl rfl)
theorem dX2_layFar_181 : decode cX2_layFar 181 = .ok (.iinc 3 1, 3) := dk_132 3 1 (dk_at dksX2_layFar_7 17 rfl rfl)
theorem dX2_layFar_184 : decode cX2_layFar 184 = .ok (.goto (-126), 3) := dk_167 255 130 (dk_at dksX2_layFar_7 20 rfl rfl)
theorem dX2_layFar_187 : decode cX2_layFar 187 = .ok (.iinc 2 1, 3) := dk_132 2 1 (dk_at dksX2_layFar_8 0 rfl rfl)
theorem dX2_layFar_190 : decode cX2_layFar 190 = .ok (.goto (-140), 3) := dk_167 255 116 (dk_at dksX2_layFar_8 3 rfl rfl)
theorem dX2_layFar_193 : decode cX2_layFar 193 = .ok (.return_, 1) := dk_177 (dk_at dksX2_layFar_8 6 rfl rfl)
abbrev cX2_isNearer : ByteArray := prog_20_method_114_code
def yX2_isNearer : MethodName := ⟨RX2, "isNearer", "(III)Z"⟩
def dkwX2_isNearer_1 : List UInt8 := [180, 0, 53, 27, 46, 162, 0, 7, 4, 167, 0, 4, 3, 172]
abbrev dktX2_isNearer_1 : List UInt8 := dkwX2_isNearer_1 ++ []
def dkwX2_isNearer_0 : List UInt8 := [28, 42, 180, 0, 50, 27, 46, 161, 0, 23, 28, 42, 180, 0, 50, 27, 46, 160, 0, 17, 29, 42]
abbrev dktX2_isNearer_0 : List UInt8 := dkwX2_isNearer_0 ++ dktX2_isNearer_1
theorem dksX2_isNearer_0 : cX2_isNearer.data.toList.drop 0 = dktX2_isNearer_0 := by decide +kernel
theorem dksX2_isNearer_1 : cX2_isNearer.data.toList.drop 22 = dktX2_isNearer_1 := dk_seg dksX2_isNearer_0 22 rfl rfl
theorem dX2_isNearer_0 : decode cX2_isNearer 0 = .ok (.iload_n 2, 1) := dk_28 (dk_at dksX2_isNearer_0 0 rfl rfl)
theorem dX2_isNearer_1 : decode cX2_isNearer 1 = .ok (.aload_n 0, 1) := dk_42 (dk_at dksX2_isNearer_0 1 rfl rfl)
theorem dX2_isNearer_2 : decode cX2_isNearer 2 = .ok (.getfield 50, 3) := dk_180 0 50 (dk_at dksX2_isNearer_0 2 rfl rfl)
theorem dX2_isNearer_5 : decode cX2_isNearer 5 = .ok (.iload_n 1, 1) := dk_27 (dk_at dksX2_isNearer_0 5 rfl rfl)
theorem dX2_isNearer_6 : decode cX2_isNearer 6 = .ok (.iaload, 1) := dk_46 (dk_at dksX2_isNearer_0 6 rfl rfl)
theorem dX2_isNearer_7 : decode cX2_isNearer 7 = .ok (.if_icmp .lt 23, 3) := dk_161 0 23 (dk_at dksX2_isNearer_0 7 rfl rfl)
theorem dX2_isNearer_10 : decode cX2_isNearer 10 = .ok (.iload_n 2, 1) := dk_28 (dk_at dksX2_isNearer_0 10 rfl rfl)
theorem dX2_isNearer_11 : decode cX2_isNearer 11 = .ok (.aload_n 0, 1) := dk_42 (dk_at dksX2_isNearer_0 11 rfl rfl)
theorem dX2_isNearer_12 : decode cX2_isNearer 12 = .ok (.getfield 50, 3) := dk_180 0 50 (dk_at dksX2_isNearer_0 12 rfl rfl)
theorem dX2_isNearer_15 : decode cX2_isNearer 15 = .ok (.iload_n 1, 1) := dk_27 (dk_at dksX2_isNearer_0 15 rfl rfl)
theorem dX2_isNearer_16 : decode cX2_isNearer 16 = .ok (.iaload, 1) := dk_46 (dk_at dksX2_isNearer_0 16 rfl rfl)
theorem dX2_isNearer_17 : decode cX2_isNearer 17 = .ok (.if_icmp .ne 17, 3) := dk_160 0 17 (dk_at dksX2_isNearer_0 17 rfl rfl)
theorem dX2_isNearer_20 : decode cX2_isNearer 20 = .ok (.iload_n 3, 1) := dk_29 (dk_at dksX2_isNearer_0 20 rfl rfl)
theorem dX2_isNearer_21 : decode cX2_isNearer 21 = .ok (.aload_n 0, 1) := dk_42 (dk_at dksX2_isNearer_0 21 rfl rfl)
theorem dX2_isNearer_22 : decode cX2_isNearer 22 = .ok (.getfield 53, 3) := dk_180 0 53 (dk_at dksX2_isNearer_1 0 rfl rfl)
theorem dX2_isNearer_25 : decode cX2_isNearer 25 = .ok (.iload_n 1, 1) := dk_27 (dk_at dksX2_isNearer_1 3 rfl rfl)
theorem dX2_isNearer_26 : decode cX2_isNearer 26 = .ok (.iaload, 1) := dk_46 (dk_at dksX2_isNearer_1 4 rfl rfl)
theorem dX2_isNearer_27 : decode cX2_isNearer 27 = .ok (.if_icmp .ge 7, 3) := dk_162 0 7 (dk_at dksX2_isNearer_1 5 rfl rfl)
theorem dX2_isNearer_30 : decode cX2_isNearer 30 = .ok (.iconst 1, 1) := dk_4 (dk_at dksX2_isNearer_1 8 rfl rfl)
theorem dX2_isNearer_31 : decode cX2_isNearer 31 = .ok (.goto 4, 3) := dk_167 0 4 (dk_at dksX2_isNearer_1 9 rfl rfl)
theorem dX2_isNearer_34 : decode cX2_isNearer 34 = .ok (.iconst 0, 1) := dk_3 (dk_at dksX2_isNearer_1 12 rfl rfl)
theorem dX2_isNearer_35 : decode cX2_isNearer 35 = .ok (.ireturn, 1) := dk_172 (dk_at dksX2_isNearer_1 13 rfl rfl)
abbrev cX2_way : ByteArray := prog_20_method_118_code
def yX2_way : MethodName := ⟨RX2, "way", "(III)I"⟩
def dkwX2_way_3 : List UInt8 := [172]
abbrev dktX2_way_3 : List UInt8 := dkwX2_way_3 ++ []
def dkwX2_way_2 : List UInt8 := [54, 5, 21, 5, 29, 162, 0, 17, 42, 21, 4, 182, 1, 177, 54, 4, 132, 5, 1, 167, 255, 239, 21, 4]
abbrev dktX2_way_2 : List UInt8 := dkwX2_way_2 ++ dktX2_way_3
def dkwX2_way_1 : List UInt8 := [172, 29, 3, 42, 180, 0, 53, 27, 46, 4, 100, 184, 0, 81, 154, 0, 6, 16, 254, 172, 27, 54, 4, 3]
abbrev dktX2_way_1 : List UInt8 := dkwX2_way_1 ++ dktX2_way_2
def dkwX2_way_0 : List UInt8 := [42, 27, 28, 182, 1, 174, 2, 160, 0, 6, 16, 254, 172, 29, 2, 160, 0, 10, 42, 180, 0, 53, 27, 46]
abbrev dktX2_way_0 : List UInt8 := dkwX2_way_0 ++ dktX2_way_1
theorem dksX2_way_0 : cX2_way.data.toList.drop 0 = dktX2_way_0 := by decide +kernel
theorem dksX2_way_1 : cX2_way.data.toList.drop 24 = dktX2_way_1 := dk_seg dksX2_way_0 24 rfl rfl
theorem dksX2_way_2 : cX2_way.data.toList.drop 48 = dktX2_way_2 := dk_seg dksX2_way_1 24 rfl rfl
theorem dksX2_way_3 : cX2_way.data.toList.drop 72 = dktX2_way_3 := dk_seg dksX2_way_2 24 rfl rfl
theorem dX2_way_0 : decode cX2_way 0 = .ok (.aload_n 0, 1) := dk_42 (dk_at dksX2_way_0 0 rfl rfl)
theorem dX2_way_1 : decode cX2_way 1 = .ok (.iload_n 1, 1) := dk_27 (dk_at dksX2_way_0 1 rfl rfl)
theorem dX2_way_2 : decode cX2_way 2 = .ok (.iload_n 2, 1) := dk_28 (dk_at dksX2_way_0 2 rfl rfl)
theorem dX2_way_3 : decode cX2_way 3 = .ok (.invokevirtual 430, 3) := dk_182 1 174 (dk_at dksX2_way_0 3 rfl rfl)
theorem dX2_way_6 : decode cX2_way 6 = .ok (.iconst (-1), 1) := dk_2 (dk_at dksX2_way_0 6 rfl rfl)
theorem dX2_way_7 : decode cX2_way 7 = .ok (.if_icmp .ne 6, 3) := dk_160 0 6 (dk_at dksX2_way_0 7 rfl rfl)
theorem dX2_way_10 : decode cX2_way 10 = .ok (.bipush (-2), 2) := dk_16 254 (dk_at dksX2_way_0 10 rfl rfl)
theorem dX2_way_12 : decode cX2_way 12 = .ok (.ireturn, 1) := dk_172 (dk_at dksX2_way_0 12 rfl rfl)
theorem dX2_way_13 : decode cX2_way 13 = .ok (.iload_n 3, 1) := dk_29 (dk_at dksX2_way_0 13 rfl rfl)
theorem dX2_way_14 : decode cX2_way 14 = .ok (.iconst (-1), 1) := dk_2 (dk_at dksX2_way_0 14 rfl rfl)
theorem dX2_way_15 : decode cX2_way 15 = .ok (.if_icmp .ne 10, 3) := dk_160 0 10 (dk_at dksX2_way_0 15 rfl rfl)
theorem dX2_way_18 : decode cX2_way 18 = .ok (.aload_n 0, 1) := dk_42 (dk_at dksX2_way_0 18 rfl rfl)
theorem dX2_way_19 : decode cX2_way 19 = .ok (.getfield 53, 3) := dk_180 0 53 (dk_at dksX2_way_0 19 rfl rfl)
theorem dX2_way_22 : decode cX2_way 22 = .ok (.iload_n 1, 1) := dk_27 (dk_at dksX2_way_0 22 rfl rfl)
theorem dX2_way_23 : decode cX2_way 23 = .ok (.iaload, 1) := dk_46 (dk_at dksX2_way_0 23 rfl rfl)
theorem dX2_way_24 : decode cX2_way 24 = .ok (.ireturn, 1) := dk_172 (dk_at dksX2_way_1 0 rfl rfl)
theorem dX2_way_25 : decode cX2_way 25 = .ok (.iload_n 3, 1) := dk_29 (dk_at dksX2_way_1 1 rfl rfl)
theorem dX2_way_26 : decode cX2_way 26 = .ok (.iconst 0, 1) := dk_3 (dk_at dksX2_way_1 2 rfl rfl)
theorem dX2_way_27 : decode cX2_way 27 = .ok (.aload_n 0, 1) := dk_42 (dk_at dksX2_way_1 3 rfl rfl)
theorem dX2_way_28 : decode cX2_way 28 = .ok (.getfield 53, 3) := dk_180 0 53 (dk_at dksX2_way_1 4 rfl rfl)
theorem dX2_way_31 : decode cX2_way 31 = .ok (.iload_n 1, 1) := dk_27 (dk_at dksX2_way_1 7 rfl rfl)
theorem dX2_way_32 : decode cX2_way 32 = .ok (.iaload, 1) := dk_46 (dk_at dksX2_way_1 8 rfl rfl)
theorem dX2_way_33 : decode cX2_way 33 = .ok (.iconst 1, 1) := dk_4 (dk_at dksX2_way_1 9 rfl rfl)
theorem dX2_way_34 : decode cX2_way 34 = .ok (.isub, 1) := dk_100 (dk_at dksX2_way_1 10 rfl rfl)
theorem dX2_way_35 : decode cX2_way 35 = .ok (.invokestatic 81, 3) := dk_184 0 81 (dk_at dksX2_way_1 11 rfl rfl)
theorem dX2_way_38 : decode cX2_way 38 = .ok (.ifCond .ne 6, 3) := dk_154 0 6 (dk_at dksX2_way_1 14 rfl rfl)
theorem dX2_way_41 : decode cX2_way 41 = .ok (.bipush (-2), 2) := dk_16 254 (dk_at dksX2_way_1 17 rfl rfl)
theorem dX2_way_43 : decode cX2_way 43 = .ok (.ireturn, 1) := dk_172 (dk_at dksX2_way_1 19 rfl rfl)
theorem dX2_way_44 : decode cX2_way 44 = .ok (.iload_n 1, 1) := dk_27 (dk_at dksX2_way_1 20 rfl rfl)
theorem dX2_way_45 : decode cX2_way 45 = .ok (.istore 4, 2) := dk_54 4 (dk_at dksX2_way_1 21 rfl rfl)
theorem dX2_way_47 : decode cX2_way 47 = .ok (.iconst 0, 1) := dk_3 (dk_at dksX2_way_1 23 rfl rfl)
theorem dX2_way_48 : decode cX2_way 48 = .ok (.istore 5, 2) := dk_54 5 (dk_at dksX2_way_2 0 rfl rfl)
theorem dX2_way_50 : decode cX2_way 50 = .ok (.iload 5, 2) := dk_21 5 (dk_at dksX2_way_2 2 rfl rfl)
theorem dX2_way_52 : decode cX2_way 52 = .ok (.iload_n 3, 1) := dk_29 (dk_at dksX2_way_2 4 rfl rfl)
theorem dX2_way_53 : decode cX2_way 53 = .ok (.if_icmp .ge 17, 3) := dk_162 0 17 (dk_at dksX2_way_2 5 rfl rfl)
theorem dX2_way_56 : decode cX2_way 56 = .ok (.aload_n 0, 1) := dk_42 (dk_at dksX2_way_2 8 rfl rfl)
theorem dX2_way_57 : decode cX2_way 57 = .ok (.iload 4, 2) := dk_21 4 (dk_at dksX2_way_2 9 rfl rfl)
theorem dX2_way_59 : decode cX2_way 59 = .ok (.invokevirtual 433, 3) := dk_182 1 177 (dk_at dksX2_way_2 11 rfl rfl)
theorem dX2_way_62 : decode cX2_way 62 = .ok (.istore 4, 2) := dk_54 4 (dk_at dksX2_way_2 14 rfl rfl)
theorem dX2_way_64 : decode cX2_way 64 = .ok (.iinc 5 1, 3) := dk_132 5 1 (dk_at dksX2_way_2 16 rfl rfl)
theorem dX2_way_67 : decode cX2_way 67 = .ok (.goto (-17), 3) := dk_167 255 239 (dk_at dksX2_way_2 19 rfl rfl)
theorem dX2_way_70 : decode cX2_way 70 = .ok (.iload 4, 2) := dk_21 4 (dk_at dksX2_way_2 22 rfl rfl)
theorem dX2_way_72 : decode cX2_way 72 = .ok (.ireturn, 1) := dk_172 (dk_at dksX2_way_3 0 rfl rfl)
abbrev cX2_nextOf : ByteArray := prog_20_method_117_code
def yX2_nextOf : MethodName := ⟨RX2, "nextOf", "(I)I"⟩
def dkwX2_nextOf_3 : List UInt8 := [132, 2, 1, 167, 255, 187, 28, 172]
abbrev dktX2_nextOf_3 : List UInt8 := dkwX2_nextOf_3 ++ []
def dkwX2_nextOf_2 : List UInt8 := [27, 46, 160, 0, 20, 42, 180, 0, 53, 28, 46, 4, 96, 42, 180, 0, 53, 27, 46, 159, 0, 9]
abbrev dktX2_nextOf_2 : List UInt8 := dkwX2_nextOf_2 ++ dktX2_nextOf_3
def dkwX2_nextOf_1 : List UInt8 := [182, 1, 164, 2, 159, 0, 42, 42, 180, 0, 50, 28, 46, 42, 27, 28, 182, 1, 164, 96, 42, 180, 0, 50]
abbrev dktX2_nextOf_1 : List UInt8 := dkwX2_nextOf_1 ++ dktX2_nextOf_2
def dkwX2_nextOf_0 : List UInt8 := [3, 61, 28, 27, 159, 0, 64, 42, 180, 0, 50, 28, 46, 19, 1, 167, 159, 0, 52, 42, 27, 28]
abbrev dktX2_nextOf_0 : List UInt8 := dkwX2_nextOf_0 ++ dktX2_nextOf_1
theorem dksX2_nextOf_0 : cX2_nextOf.data.toList.drop 0 = dktX2_nextOf_0 := by decide +kernel
theorem dksX2_nextOf_1 : cX2_nextOf.data.toList.drop 22 = dktX2_nextOf_1 := dk_seg dksX2_nextOf_0 22 rfl rfl
theorem dksX2_nextOf_2 : cX2_nextOf.data.toList.drop 46 = dktX2_nextOf_2 := dk_seg dksX2_nextOf_1 24 rfl rfl
theorem dksX2_nextOf_3 : cX2_nextOf.data.toList.drop 68 = dktX2_nextOf_3 := dk_seg dksX2_nextOf_2 22 rfl rfl
theorem dX2_nextOf_0 : decode cX2_nextOf 0 = .ok (.iconst 0, 1) := dk_3 (dk_at dksX2_nextOf_0 0 rfl rfl)
theorem dX2_nextOf_1 : decode cX2_nextOf 1 = .ok (.istore_n 2, 1) := dk_61 (dk_at dksX2_nextOf_0 1 rfl rfl)
theorem dX2_nextOf_2 : decode cX2_nextOf 2 = .ok (.iload_n 2, 1) := dk_28 (dk_at dksX2_nextOf_0 2 rfl rfl)
theorem dX2_nextOf_3 : decode cX2_nextOf 3 = .ok (.iload_n 1, 1) := dk_27 (dk_at dksX2_nextOf_0 3 rfl rfl)
theorem dX2_nextOf_4 : decode cX2_nextOf 4 = .ok (.if_icmp .eq 64, 3) := dk_159 0 64 (dk_at dksX2_nextOf_0 4 rfl rfl)
theorem dX2_nextOf_7 : decode cX2_nextOf 7 = .ok (.aload_n 0, 1) := dk_42 (dk_at dksX2_nextOf_0 7 rfl rfl)
theorem dX2_nextOf_8 : decode cX2_nextOf 8 = .ok (.getfield 50, 3) := dk_180 0 50 (dk_at dksX2_nextOf_0 8 rfl rfl)
theorem dX2_nextOf_11 : decode cX2_nextOf 11 = .ok (.iload_n 2, 1) := dk_28 (dk_at dksX2_nextOf_0 11 rfl rfl)
theorem dX2_nextOf_12 : decode cX2_nextOf 12 = .ok (.iaload, 1) := dk_46 (dk_at dksX2_nextOf_0 12 rfl rfl)
theorem dX2_nextOf_13 : decode cX2_nextOf 13 = .ok (.ldc_w 423, 3) := dk_19 1 167 (dk_at dksX2_nextOf_0 13 rfl rfl)
theorem dX2_nextOf_16 : decode cX2_nextOf 16 = .ok (.if_icmp .eq 52, 3) := dk_159 0 52 (dk_at dksX2_nextOf_0 16 rfl rfl)
theorem dX2_nextOf_19 : decode cX2_nextOf 19 = .ok (.aload_n 0, 1) := dk_42 (dk_at dksX2_nextOf_0 19 rfl rfl)
theorem dX2_nextOf_20 : decode cX2_nextOf 20 = .ok (.iload_n 1, 1) := dk_27 (dk_at dksX2_nextOf_0 20 rfl rfl)
theorem dX2_nextOf_21 : decode cX2_nextOf 21 = .ok (.iload_n 2, 1) := dk_28 (dk_at dksX2_nextOf_0 21 rfl rfl)
theorem dX2_nextOf_22 : decode cX2_nextOf 22 = .ok (.invokevirtual 420, 3) := dk_182 1 164 (dk_at dksX2_nextOf_1 0 rfl rfl)
theorem dX2_nextOf_25 : decode cX2_nextOf 25 = .ok (.iconst (-1), 1) := dk_2 (dk_at dksX2_nextOf_1 3 rfl rfl)
theorem dX2_nextOf_26 : decode cX2_nextOf 26 = .ok (.if_icmp .eq 42, 3) := dk_159 0 42 (dk_at dksX2_nextOf_1 4 rfl rfl)
theorem dX2_nextOf_29 : decode cX2_nextOf 29 = .ok (.aload_n 0, 1) := dk_42 (dk_at dksX2_nextOf_1 7 rfl rfl)
theorem dX2_nextOf_30 : decode cX2_nextOf 30 = .ok (.getfield 50, 3) := dk_180 0 50 (dk_at dksX2_nextOf_1 8 rfl rfl)
theorem dX2_nextOf_33 : decode cX2_nextOf 33 = .ok (.iload_n 2, 1) := dk_28 (dk_at dksX2_nextOf_1 11 rfl rfl)
theorem dX2_nextOf_34 : decode cX2_nextOf 34 = .ok (.iaload, 1) := dk_46 (dk_at dksX2_nextOf_1 12 rfl rfl)
theorem dX2_nextOf_35 : decode cX2_nextOf 35 = .ok (.aload_n 0, 1) := dk_42 (dk_at dksX2_nextOf_1 13 rfl rfl)
theorem dX2_nextOf_36 : decode cX2_nextOf 36 = .ok (.iload_n 1, 1) := dk_27 (dk_at dksX2_nextOf_1 14 rfl rfl)
theorem dX2_nextOf_37 : decode cX2_nextOf 37 = .ok (.iload_n 2, 1) := dk_28 (dk_at dksX2_nextOf_1 15 rfl rfl)
theorem dX2_nextOf_38 : decode cX2_nextOf 38 = .ok (.invokevirtual 420, 3) := dk_182 1 164 (dk_at dksX2_nextOf_1 16 rfl rfl)
theorem dX2_nextOf_41 : decode cX2_nextOf 41 = .ok (.iadd, 1) := dk_96 (dk_at dksX2_nextOf_1 19 rfl rfl)
theorem dX2_nextOf_42 : decode cX2_nextOf 42 = .ok (.aload_n 0, 1) := dk_42 (dk_at dksX2_nextOf_1 20 rfl rfl)
theorem dX2_nextOf_43 : decode cX2_nextOf 43 = .ok (.getfield 50, 3) := dk_180 0 50 (dk_at dksX2_nextOf_1 21 rfl rfl)
theorem dX2_nextOf_46 : decode cX2_nextOf 46 = .ok (.iload_n 1, 1) := dk_27 (dk_at dksX2_nextOf_2 0 rfl rfl)
theorem dX2_nextOf_47 : decode cX2_nextOf 47 = .ok (.iaload, 1) := dk_46 (dk_at dksX2_nextOf_2 1 rfl rfl)
theorem dX2_nextOf_48 : decode cX2_nextOf 48 = .ok (.if_icmp .ne 20, 3) := dk_160 0 20 (dk_at dksX2_nextOf_2 2 rfl rfl)
theorem dX2_nextOf_51 : decode cX2_nextOf 51 = .ok (.aload_n 0, 1) := dk_42 (dk_at dksX2_nextOf_2 5 rfl rfl)
theorem dX2_nextOf_52 : decode cX2_nextOf 52 = .ok (.getfield 53, 3) := dk_180 0 53 (dk_at dksX2_nextOf_2 6 rfl rfl)
theorem dX2_nextOf_55 : decode cX2_nextOf 55 = .ok (.iload_n 2, 1) := dk_28 (dk_at dksX2_nextOf_2 9 rfl rfl)
theorem dX2_nextOf_56 : decode cX2_nextOf 56 = .ok (.iaload, 1) := dk_46 (dk_at dksX2_nextOf_2 10 rfl rfl)
theorem dX2_nextOf_57 : decode cX2_nextOf 57 = .ok (.iconst 1, 1) := dk_4 (dk_at dksX2_nextOf_2 11 rfl rfl)
theorem dX2_nextOf_58 : decode cX2_nextOf 58 = .ok (.iadd, 1) := dk_96 (dk_at dksX2_nextOf_2 12 rfl rfl)
theorem dX2_nextOf_59 : decode cX2_nextOf 59 = .ok (.aload_n 0, 1) := dk_42 (dk_at dksX2_nextOf_2 13 rfl rfl)
theorem dX2_nextOf_60 : decode cX2_nextOf 60 = .ok (.getfield 53, 3) := dk_180 0 53 (dk_at dksX2_nextOf_2 14 rfl rfl)
theorem dX2_nextOf_63 : decode cX2_nextOf 63 = .ok (.iload_n 1, 1) := dk_27 (dk_at dksX2_nextOf_2 17 rfl rfl)
theorem dX2_nextOf_64 : decode cX2_nextOf 64 = .ok (.iaload, 1) := dk_46 (dk_at dksX2_nextOf_2 18 rfl rfl)
theorem dX2_nextOf_65 : decode cX2_nextOf 65 = .ok (.if_icmp .eq 9, 3) := dk_159 0 9 (dk_at dksX2_nextOf_2 19 rfl rfl)
theorem dX2_nextOf_68 : decode cX2_nextOf 68 = .ok (.iinc 2 1, 3) := dk_132 2 1 (dk_at dksX2_nextOf_3 0 rfl rfl)
theorem dX2_nextOf_71 : decode cX2_nextOf 71 = .ok (.goto (-69), 3) := dk_167 255 187 (dk_at dksX2_nextOf_3 3 rfl rfl)
theorem dX2_nextOf_74 : decode cX2_nextOf 74 = .ok (.iload_n 2, 1) := dk_28 (dk_at dksX2_nextOf_3 6 rfl rfl)
theorem dX2_nextOf_75 : decode cX2_nextOf 75 = .ok (.ireturn, 1) := dk_172 (dk_at dksX2_nextOf_3 7 rfl rfl)
abbrev cX2_all : ByteArray := prog_20_method_119_code
def yX2_all : MethodName := ⟨RX2, "all", "()I"⟩
def dkwX2_all_6 : List UInt8 := [172]
abbrev dktX2_all_6 : List UInt8 := dkwX2_all_6 ++ []
def dkwX2_all_5 : List UInt8 := [160, 0, 5, 2, 172, 27, 4, 21, 5, 120, 128, 60, 28, 21, 4, 96, 61, 132, 3, 1, 167, 255, 125, 28]
abbrev dktX2_all_5 : List UInt8 := dkwX2_all_5 ++ dktX2_all_6
def dkwX2_all_4 : List UInt8 := [54, 4, 21, 7, 54, 5, 132, 7, 1, 167, 255, 186, 132, 6, 1, 167, 255, 170, 21, 4, 19, 1, 167]
abbrev dktX2_all_4 : List UInt8 := dkwX2_all_4 ++ dktX2_all_5
def dkwX2_all_3 : List UInt8 := [42, 21, 6, 21, 7, 182, 1, 164, 21, 4, 161, 0, 6, 167, 0, 17, 42, 21, 6, 21, 7, 182, 1, 164]
abbrev dktX2_all_3 : List UInt8 := dkwX2_all_3 ++ dktX2_all_4
def dkwX2_all_2 : List UInt8 := [153, 0, 54, 27, 21, 7, 184, 1, 3, 154, 0, 45, 42, 21, 6, 21, 7, 182, 1, 164, 2, 159, 0, 33]
abbrev dktX2_all_2 : List UInt8 := dkwX2_all_2 ++ dktX2_all_3
def dkwX2_all_1 : List UInt8 := [21, 6, 16, 6, 162, 0, 85, 3, 54, 7, 21, 7, 16, 6, 162, 0, 69, 27, 21, 6, 184, 1, 3]
abbrev dktX2_all_1 : List UInt8 := dkwX2_all_1 ++ dktX2_all_2
def dkwX2_all_0 : List UInt8 := [4, 60, 3, 61, 4, 62, 29, 16, 6, 162, 0, 131, 19, 1, 167, 54, 4, 3, 54, 5, 3, 54, 6]
abbrev dktX2_all_0 : List UInt8 := dkwX2_all_0 ++ dktX2_all_1
theorem dksX2_all_0 : cX2_all.data.toList.drop 0 = dktX2_all_0 := by decide +kernel
theorem dksX2_all_1 : cX2_all.data.toList.drop 23 = dktX2_all_1 := dk_seg dksX2_all_0 23 rfl rfl
theorem dksX2_all_2 : cX2_all.data.toList.drop 46 = dktX2_all_2 := dk_seg dksX2_all_1 23 rfl rfl
theorem dksX2_all_3 : cX2_all.data.toList.drop 70 = dktX2_all_3 := dk_seg dksX2_all_2 24 rfl rfl
theorem dksX2_all_4 : cX2_all.data.toList.drop 94 = dktX2_all_4 := dk_seg dksX2_all_3 24 rfl rfl
theorem dksX2_all_5 : cX2_all.data.toList.drop 117 = dktX2_all_5 := dk_seg dksX2_all_4 23 rfl rfl
theorem dksX2_all_6 : cX2_all.data.toList.drop 141 = dktX2_all_6 := dk_seg dksX2_all_5 24 rfl rfl
theorem dX2_all_0 : decode cX2_all 0 = .ok (.iconst 1, 1) := dk_4 (dk_at dksX2_all_0 0 rfl rfl)
theorem dX2_all_1 : decode cX2_all 1 = .ok (.istore_n 1, 1) := dk_60 (dk_at dksX2_all_0 1 rfl rfl)
theorem dX2_all_2 : decode cX2_all 2 = .ok (.iconst 0, 1) := dk_3 (dk_at dksX2_all_0 2 rfl rfl)
theorem dX2_all_3 : decode cX2_all 3 = .ok (.istore_n 2, 1) := dk_61 (dk_at dksX2_all_0 3 rfl rfl)
theorem dX2_all_4 : decode cX2_all 4 = .ok (.iconst 1, 1) := dk_4 (dk_at dksX2_all_0 4 rfl rfl)
theorem dX2_all_5 : decode cX2_all 5 = .ok (.istore_n 3, 1) := dk_62 (dk_at dksX2_all_0 5 rfl rfl)
theorem dX2_all_6 : decode cX2_all 6 = .ok (.iload_n 3, 1) := dk_29 (dk_at dksX2_all_0 6 rfl rfl)
theorem dX2_all_7 : decode cX2_all 7 = .ok (.bipush 6, 2) := dk_16 6 (dk_at dksX2_all_0 7 rfl rfl)
theorem dX2_all_9 : decode cX2_all 9 = .ok (.if_icmp .ge 131, 3) := dk_162 0 131 (dk_at dksX2_all_0 9 rfl rfl)
theorem dX2_all_12 : decode cX2_all 12 = .ok (.ldc_w 423, 3) := dk_19 1 167 (dk_at dksX2_all_0 12 rfl rfl)
theorem dX2_all_15 : decode cX2_all 15 = .ok (.istore 4, 2) := dk_54 4 (dk_at dksX2_all_0 15 rfl rfl)
theorem dX2_all_17 : decode cX2_all 17 = .ok (.iconst 0, 1) := dk_3 (dk_at dksX2_all_0 17 rfl rfl)
theorem dX2_all_18 : decode cX2_all 18 = .ok (.istore 5, 2) := dk_54 5 (dk_at dksX2_all_0 18 rfl rfl)
theorem dX2_all_20 : decode cX2_all 20 = .ok (.iconst 0, 1) := dk_3 (dk_at dksX2_all_0 20 rfl rfl)
theorem dX2_all_21 : decode cX2_all 21 = .ok (.istore 6, 2) := dk_54 6 (dk_at dksX2_all_0 21 rfl rfl)
theorem dX2_all_23 : decode cX2_all 23 = .ok (.iload 6, 2) := dk_21 6 (dk_at dksX2_all_1 0 rfl rfl)
theorem dX2_all_25 : decode cX2_all 25 = .ok (.bipush 6, 2) := dk_16 6 (dk_at dksX2_all_1 2 rfl rfl)
theorem dX2_all_27 : decode cX2_all 27 = .ok (.if_icmp .ge 85, 3) := dk_162 0 85 (dk_at dksX2_all_1 4 rfl rfl)
theorem dX2_all_30 : decode cX2_all 30 = .ok (.iconst 0, 1) := dk_3 (dk_at dksX2_all_1 7 rfl rfl)
theorem dX2_all_31 : decode cX2_all 31 = .ok (.istore 7, 2) := dk_54 7 (dk_at dksX2_all_1 8 rfl rfl)
theorem dX2_all_33 : decode cX2_all 33 = .ok (.iload 7, 2) := dk_21 7 (dk_at dksX2_all_1 10 rfl rfl)
theorem dX2_all_35 : decode cX2_all 35 = .ok (.bipush 6, 2) := dk_16 6 (dk_at dksX2_all_1 12 rfl rfl)
theorem dX2_all_37 : decode cX2_all 37 = .ok (.if_icmp .ge 69, 3) := dk_162 0 69 (dk_at dksX2_all_1 14 rfl rfl)
theorem dX2_all_40 : decode cX2_all 40 = .ok (.iload_n 1, 1) := dk_27 (dk_at dksX2_all_1 17 rfl rfl)
theorem dX2_all_41 : decode cX2_all 41 = .ok (.iload 6, 2) := dk_21 6 (dk_at dksX2_all_1 18 rfl rfl)
theorem dX2_all_43 : decode cX2_all 43 = .ok (.invokestatic 259, 3) := dk_184 1 3 (dk_at dksX2_all_1 20 rfl rfl)
theorem dX2_all_46 : decode cX2_all 46 = .ok (.ifCond .eq 54, 3) := dk_153 0 54 (dk_at dksX2_all_2 0 rfl rfl)
theorem dX2_all_49 : decode cX2_all 49 = .ok (.iload_n 1, 1) := dk_27 (dk_at dksX2_all_2 3 rfl rfl)
theorem dX2_all_50 : decode cX2_all 50 = .ok (.iload 7, 2) := dk_21 7 (dk_at dksX2_all_2 4 rfl rfl)
theorem dX2_all_52 : decode cX2_all 52 = .ok (.invokestatic 259, 3) := dk_184 1 3 (dk_at dksX2_all_2 6 rfl rfl)
theorem dX2_all_55 : decode cX2_all 55 = .ok (.ifCond .ne 45, 3) := dk_154 0 45 (dk_at dksX2_all_2 9 rfl rfl)
theorem dX2_all_58 : decode cX2_all 58 = .ok (.aload_n 0, 1) := dk_42 (dk_at dksX2_all_2 12 rfl rfl)
theorem dX2_all_59 : decode cX2_all 59 = .ok (.iload 6, 2) := dk_21 6 (dk_at dksX2_all_2 13 rfl rfl)
theorem dX2_all_61 : decode cX2_all 61 = .ok (.iload 7, 2) := dk_21 7 (dk_at dksX2_all_2 15 rfl rfl)
theorem dX2_all_63 : decode cX2_all 63 = .ok (.invokevirtual 420, 3) := dk_182 1 164 (dk_at dksX2_all_2 17 rfl rfl)
theorem dX2_all_66 : decode cX2_all 66 = .ok (.iconst (-1), 1) := dk_2 (dk_at dksX2_all_2 20 rfl rfl)
theorem dX2_all_67 : decode cX2_all 67 = .ok (.if_icmp .eq 33, 3) := dk_159 0 33 (dk_at dksX2_all_2 21 rfl rfl)
theorem dX2_all_70 : decode cX2_all 70 = .ok (.aload_n 0, 1) := dk_42 (dk_at dksX2_all_3 0 rfl rfl)
theorem dX2_all_71 : decode cX2_all 71 = .ok (.iload 6, 2) := dk_21 6 (dk_at dksX2_all_3 1 rfl rfl)
theorem dX2_all_73 : decode cX2_all 73 = .ok (.iload 7, 2) := dk_21 7 (dk_at dksX2_all_3 3 rfl rfl)
theorem dX2_all_75 : decode cX2_all 75 = .ok (.invokevirtual 420, 3) := dk_182 1 164 (dk_at dksX2_all_3 5 rfl rfl)
theorem dX2_all_78 : decode cX2_all 78 = .ok (.iload 4, 2) := dk_21 4 (dk_at dksX2_all_3 8 rfl rfl)
theorem dX2_all_80 : decode cX2_all 80 = .ok (.if_icmp .lt 6, 3) := dk_161 0 6 (dk_at dksX2_all_3 10 rfl rfl)
theorem dX2_all_83 : decode cX2_all 83 = .ok (.goto 17, 3) := dk_167 0 17 (dk_at dksX2_all_3 13 rfl rfl)
theorem dX2_all_86 : decode cX2_all 86 = .ok (.aload_n 0, 1) := dk_42 (dk_at dksX2_all_3 16 rfl rfl)
theorem dX2_all_87 : decode cX2_all 87 = .ok (.iload 6, 2) := dk_21 6 (dk_at dksX2_all_3 17 rfl rfl)
theorem dX2_all_89 : decode cX2_all 89 = .ok (.iload 7, 2) := dk_21 7 (dk_at dksX2_all_3 19 rfl rfl)
theorem dX2_all_91 : decode cX2_all 91 = .ok (.invokevirtual 420, 3) := dk_182 1 164 (dk_at dksX2_all_3 21 rfl rfl)
theorem dX2_all_94 : decode cX2_all 94 = .ok (.istore 4, 2) := dk_54 4 (dk_at dksX2_all_4 0 rfl rfl)
theorem dX2_all_96 : decode cX2_all 96 = .ok (.iload 7, 2) := dk_21 7 (dk_at dksX2_all_4 2 rfl rfl)
theorem dX2_all_98 : decode cX2_all 98 = .ok (.istore 5, 2) := dk_54 5 (dk_at dksX2_all_4 4 rfl rfl)
theorem dX2_all_100 : decode cX2_all 100 = .ok (.iinc 7 1, 3) := dk_132 7 1 (dk_at dksX2_all_4 6 rfl rfl)
theorem dX2_all_103 : decode cX2_all 103 = .ok (.goto (-70), 3) := dk_167 255 186 (dk_at dksX2_all_4 9 rfl rfl)
theorem dX2_all_106 : decode cX2_all 106 = .ok (.iinc 6 1, 3) := dk_132 6 1 (dk_at dksX2_all_4 12 rfl rfl)
theorem dX2_all_109 : decode cX2_all 109 = .ok (.goto (-86), 3) := dk_167 255 170 (dk_at dksX2_all_4 15 rfl rfl)
theorem dX2_all_112 : decode cX2_all 112 = .ok (.iload 4, 2) := dk_21 4 (dk_at dksX2_all_4 18 rfl rfl)
theorem dX2_all_114 : decode cX2_all 114 = .ok (.ldc_w 423, 3) := dk_19 1 167 (dk_at dksX2_all_4 20 rfl rfl)
theorem dX2_all_117 : decode cX2_all 117 = .ok (.if_icmp .ne 5, 3) := dk_160 0 5 (dk_at dksX2_all_5 0 rfl rfl)
theorem dX2_all_120 : decode cX2_all 120 = .ok (.iconst (-1), 1) := dk_2 (dk_at dksX2_all_5 3 rfl rfl)
theorem dX2_all_121 : decode cX2_all 121 = .ok (.ireturn, 1) := dk_172 (dk_at dksX2_all_5 4 rfl rfl)
theorem dX2_all_122 : decode cX2_all 122 = .ok (.iload_n 1, 1) := dk_27 (dk_at dksX2_all_5 5 rfl rfl)
theorem dX2_all_123 : decode cX2_all 123 = .ok (.iconst 1, 1) := dk_4 (dk_at dksX2_all_5 6 rfl rfl)
theorem dX2_all_124 : decode cX2_all 124 = .ok (.iload 5, 2) := dk_21 5 (dk_at dksX2_all_5 7 rfl rfl)
theorem dX2_all_126 : decode cX2_all 126 = .ok (.ishl, 1) := dk_120 (dk_at dksX2_all_5 9 rfl rfl)
theorem dX2_all_127 : decode cX2_all 127 = .ok (.ior, 1) := dk_128 (dk_at dksX2_all_5 10 rfl rfl)
theorem dX2_all_128 : decode cX2_all 128 = .ok (.istore_n 1, 1) := dk_60 (dk_at dksX2_all_5 11 rfl rfl)
theorem dX2_all_129 : decode cX2_all 129 = .ok (.iload_n 2, 1) := dk_28 (dk_at dksX2_all_5 12 rfl rfl)
theorem dX2_all_130 : decode cX2_all 130 = .ok (.iload 4, 2) := dk_21 4 (dk_at dksX2_all_5 13 rfl rfl)
theorem dX2_all_132 : decode cX2_all 132 = .ok (.iadd, 1) := dk_96 (dk_at dksX2_all_5 15 rfl rfl)
theorem dX2_all_133 : decode cX2_all 133 = .ok (.istore_n 2, 1) := dk_61 (dk_at dksX2_all_5 16 rfl rfl)
theorem dX2_all_134 : decode cX2_all 134 = .ok (.iinc 3 1, 3) := dk_132 3 1 (dk_at dksX2_all_5 17 rfl rfl)
theorem dX2_all_137 : decode cX2_all 137 = .ok (.goto (-131), 3) := dk_167 255 125 (dk_at dksX2_all_5 20 rfl rfl)
theorem dX2_all_140 : decode cX2_all 140 = .ok (.iload_n 2, 1) := dk_28 (dk_at dksX2_all_5 23 rfl rfl)
theorem dX2_all_141 : decode cX2_all 141 = .ok (.ireturn, 1) := dk_172 (dk_at dksX2_all_6 0 rfl rfl)
abbrev cX2_cut : ByteArray := prog_20_method_120_code
def yX2_cut : MethodName := ⟨RX2, "cut", "(II)I"⟩
def dkwX2_cut_5 : List UInt8 := [167, 255, 189, 21, 5, 29, 162, 0, 8, 21, 5, 167, 0, 4, 29, 62, 132, 4, 1, 167, 255, 136, 29, 172]
abbrev dktX2_cut_5 : List UInt8 := dkwX2_cut_5 ++ []
def dkwX2_cut_4 : List UInt8 := [182, 1, 158, 153, 0, 7, 4, 167, 0, 4, 3, 96, 54, 5, 132, 7, 1, 167, 255, 205, 132, 6, 1]
abbrev dktX2_cut_4 : List UInt8 := dkwX2_cut_4 ++ dktX2_cut_5
def dkwX2_cut_3 : List UInt8 := [21, 6, 184, 1, 3, 153, 0, 28, 21, 4, 21, 7, 184, 1, 3, 154, 0, 18, 42, 21, 6, 21, 7]
abbrev dktX2_cut_3 : List UInt8 := dkwX2_cut_3 ++ dktX2_cut_4
def dkwX2_cut_2 : List UInt8 := [3, 54, 6, 21, 6, 16, 6, 162, 0, 66, 3, 54, 7, 21, 7, 16, 6, 162, 0, 50, 21, 5, 21, 4]
abbrev dktX2_cut_2 : List UInt8 := dkwX2_cut_2 ++ dktX2_cut_3
def dkwX2_cut_1 : List UInt8 := [21, 4, 27, 184, 1, 3, 153, 0, 104, 21, 4, 28, 184, 1, 3, 153, 0, 6, 167, 0, 92, 3, 54, 5]
abbrev dktX2_cut_1 : List UInt8 := dkwX2_cut_1 ++ dktX2_cut_2
def dkwX2_cut_0 : List UInt8 := [27, 28, 184, 1, 155, 154, 0, 5, 2, 172, 19, 1, 167, 62, 3, 54, 4, 21, 4, 16, 64, 162, 0, 119]
abbrev dktX2_cut_0 : List UInt8 := dkwX2_cut_0 ++ dktX2_cut_1
theorem dksX2_cut_0 : cX2_cut.data.toList.drop 0 = dktX2_cut_0 := by decide +kernel
theorem dksX2_cut_1 : cX2_cut.data.toList.drop 24 = dktX2_cut_1 := dk_seg dksX2_cut_0 24 rfl rfl
theorem dksX2_cut_2 : cX2_cut.data.toList.drop 48 = dktX2_cut_2 := dk_seg dksX2_cut_1 24 rfl rfl
theorem dksX2_cut_3 : cX2_cut.data.toList.drop 72 = dktX2_cut_3 := dk_seg dksX2_cut_2 24 rfl rfl
theorem dksX2_cut_4 : cX2_cut.data.toList.drop 95 = dktX2_cut_4 := dk_seg dksX2_cut_3 23 rfl rfl
theorem dksX2_cut_5 : cX2_cut.data.toList.drop 118 = dktX2_cut_5 := dk_seg dksX2_cut_4 23 rfl rfl
theorem dX2_cut_0 : decode cX2_cut 0 = .ok (.iload_n 1, 1) := dk_27 (dk_at dksX2_cut_0 0 rfl rfl)
theorem dX2_cut_1 : decode cX2_cut 1 = .ok (.iload_n 2, 1) := dk_28 (dk_at dksX2_cut_0 1 rfl rfl)
theorem dX2_cut_2 : decode cX2_cut 2 = .ok (.invokestatic 411, 3) := dk_184 1 155 (dk_at dksX2_cut_0 2 rfl rfl)
theorem dX2_cut_5 : decode cX2_cut 5 = .ok (.ifCond .ne 5, 3) := dk_154 0 5 (dk_at dksX2_cut_0 5 rfl rfl)
theorem dX2_cut_8 : decode cX2_cut 8 = .ok (.iconst (-1), 1) := dk_2 (dk_at dksX2_cut_0 8 rfl rfl)
theorem dX2_cut_9 : decode cX2_cut 9 = .ok (.ireturn, 1) := dk_172 (dk_at dksX2_cut_0 9 rfl rfl)
theorem dX2_cut_10 : decode cX2_cut 10 = .ok (.ldc_w 423, 3) := dk_19 1 167 (dk_at dksX2_cut_0 10 rfl rfl)
theorem dX2_cut_13 : decode cX2_cut 13 = .ok (.istore_n 3, 1) := dk_62 (dk_at dksX2_cut_0 13 rfl rfl)
theorem dX2_cut_14 : decode cX2_cut 14 = .ok (.iconst 0, 1) := dk_3 (dk_at dksX2_cut_0 14 rfl rfl)
theorem dX2_cut_15 : decode cX2_cut 15 = .ok (.istore 4, 2) := dk_54 4 (dk_at dksX2_cut_0 15 rfl rfl)
theorem dX2_cut_17 : decode cX2_cut 17 = .ok (.iload 4, 2) := dk_21 4 (dk_at dksX2_cut_0 17 rfl rfl)
theorem dX2_cut_19 : decode cX2_cut 19 = .ok (.bipush 64, 2) := dk_16 64 (dk_at dksX2_cut_0 19 rfl rfl)
theorem dX2_cut_21 : decode cX2_cut 21 = .ok (.if_icmp .ge 119, 3) := dk_162 0 119 (dk_at dksX2_cut_0 21 rfl rfl)
theorem dX2_cut_24 : decode cX2_cut 24 = .ok (.iload 4, 2) := dk_21 4 (dk_at dksX2_cut_1 0 rfl rfl)
theorem dX2_cut_26 : decode cX2_cut 26 = .ok (.iload_n 1, 1) := dk_27 (dk_at dksX2_cut_1 2 rfl rfl)
theorem dX2_cut_27 : decode cX2_cut 27 = .ok (.invokestatic 259, 3) := dk_184 1 3 (dk_at dksX2_cut_1 3 rfl rfl)
theorem dX2_cut_30 : decode cX2_cut 30 = .ok (.ifCond .eq 104, 3) := dk_153 0 104 (dk_at dksX2_cut_1 6 rfl rfl)
theorem dX2_cut_33 : decode cX2_cut 33 = .ok (.iload 4, 2) := dk_21 4 (dk_at dksX2_cut_1 9 rfl rfl)
theorem dX2_cut_35 : decode cX2_cut 35 = .ok (.iload_n 2, 1) := dk_28 (dk_at dksX2_cut_1 11 rfl rfl)
theorem dX2_cut_36 : decode cX2_cut 36 = .ok (.invokestatic 259, 3) := dk_184 1 3 (dk_at dksX2_cut_1 12 rfl rfl)
theorem dX2_cut_39 : decode cX2_cut 39 = .ok (.ifCond .eq 6, 3) := dk_153 0 6 (dk_at dksX2_cut_1 15 rfl rfl)
theorem dX2_cut_42 : decode cX2_cut 42 = .ok (.goto 92, 3) := dk_167 0 92 (dk_at dksX2_cut_1 18 rfl rfl)
theorem dX2_cut_45 : decode cX2_cut 45 = .ok (.iconst 0, 1) := dk_3 (dk_at dksX2_cut_1 21 rfl rfl)
theorem dX2_cut_46 : decode cX2_cut 46 = .ok (.istore 5, 2) := dk_54 5 (dk_at dksX2_cut_1 22 rfl rfl)
theorem dX2_cut_48 : decode cX2_cut 48 = .ok (.iconst 0, 1) := dk_3 (dk_at dksX2_cut_2 0 rfl rfl)
theorem dX2_cut_49 : decode cX2_cut 49 = .ok (.istore 6, 2) := dk_54 6 (dk_at dksX2_cut_2 1 rfl rfl)
theorem dX2_cut_51 : decode cX2_cut 51 = .ok (.iload 6, 2) := dk_21 6 (dk_at dksX2_cut_2 3 rfl rfl)
theorem dX2_cut_53 : decode cX2_cut 53 = .ok (.bipush 6, 2) := dk_16 6 (dk_at dksX2_cut_2 5 rfl rfl)
theorem dX2_cut_55 : decode cX2_cut 55 = .ok (.if_icmp .ge 66, 3) := dk_162 0 66 (dk_at dksX2_cut_2 7 rfl rfl)
theorem dX2_cut_58 : decode cX2_cut 58 = .ok (.iconst 0, 1) := dk_3 (dk_at dksX2_cut_2 10 rfl rfl)
theorem dX2_cut_59 : decode cX2_cut 59 = .ok (.istore 7, 2) := dk_54 7 (dk_at dksX2_cut_2 11 rfl rfl)
theorem dX2_cut_61 : decode cX2_cut 61 = .ok (.iload 7, 2) := dk_21 7 (dk_at dksX2_cut_2 13 rfl rfl)
theorem dX2_cut_63 : decode cX2_cut 63 = .ok (.bipush 6, 2) := dk_16 6 (dk_at dksX2_cut_2 15 rfl rfl)
theorem dX2_cut_65 : decode cX2_cut 65 = .ok (.if_icmp .ge 50, 3) := dk_162 0 50 (dk_at dksX2_cut_2 17 rfl rfl)
theorem dX2_cut_68 : decode cX2_cut 68 = .ok (.iload 5, 2) := dk_21 5 (dk_at dksX2_cut_2 20 rfl rfl)
theorem dX2_cut_70 : decode cX2_cut 70 = .ok (.iload 4, 2) := dk_21 4 (dk_at dksX2_cut_2 22 rfl rfl)
theorem dX2_cut_72 : decode cX2_cut 72 = .ok (.iload 6, 2) := dk_21 6 (dk_at dksX2_cut_3 0 rfl rfl)
theorem dX2_cut_74 : decode cX2_cut 74 = .ok (.invokestatic 259, 3) := dk_184 1 3 (dk_at dksX2_cut_3 2 rfl rfl)
theorem dX2_cut_77 : decode cX2_cut 77 = .ok (.ifCond .eq 28, 3) := dk_153 0 28 (dk_at dksX2_cut_3 5 rfl rfl)
theorem dX2_cut_80 : decode cX2_cut 80 = .ok (.iload 4, 2) := dk_21 4 (dk_at dksX2_cut_3 8 rfl rfl)
theorem dX2_cut_82 : decode cX2_cut 82 = .ok (.iload 7, 2) := dk_21 7 (dk_at dksX2_cut_3 10 rfl rfl)
theorem dX2_cut_84 : decode cX2_cut 84 = .ok (.invokestatic 259, 3) := dk_184 1 3 (dk_at dksX2_cut_3 12 rfl rfl)
theorem dX2_cut_87 : decode cX2_cut 87 = .ok (.ifCond .ne 18, 3) := dk_154 0 18 (dk_at dksX2_cut_3 15 rfl rfl)
theorem dX2_cut_90 : decode cX2_cut 90 = .ok (.aload_n 0, 1) := dk_42 (dk_at dksX2_cut_3 18 rfl rfl)
theorem dX2_cut_91 : decode cX2_cut 91 = .ok (.iload 6, 2) := dk_21 6 (dk_at dksX2_cut_3 19 rfl rfl)
theorem dX2_cut_93 : decode cX2_cut 93 = .ok (.iload 7, 2) := dk_21 7 (dk_at dksX2_cut_3 21 rfl rfl)
theorem dX2_cut_95 : decode cX2_cut 95 = .ok (.invokevirtual 414, 3) := dk_182 1 158 (dk_at dksX2_cut_4 0 rfl rfl)
theorem dX2_cut_98 : decode cX2_cut 98 = .ok (.ifCond .eq 7, 3) := dk_153 0 7 (dk_at dksX2_cut_4 3 rfl rfl)
theorem dX2_cut_101 : decode cX2_cut 101 = .ok (.iconst 1, 1) := dk_4 (dk_at dksX2_cut_4 6 rfl rfl)
theorem dX2_cut_102 : decode cX2_cut 102 = .ok (.goto 4, 3) := dk_167 0 4 (dk_at dksX2_cut_4 7 rfl rfl)
theorem dX2_cut_105 : decode cX2_cut 105 = .ok (.iconst 0, 1) := dk_3 (dk_at dksX2_cut_4 10 rfl rfl)
theorem dX2_cut_106 : decode cX2_cut 106 = .ok (.iadd, 1) := dk_96 (dk_at dksX2_cut_4 11 rfl rfl)
theorem dX2_cut_107 : decode cX2_cut 107 = .ok (.istore 5, 2) := dk_54 5 (dk_at dksX2_cut_4 12 rfl rfl)
theorem dX2_cut_109 : decode cX2_cut 109 = .ok (.iinc 7 1, 3) := dk_132 7 1 (dk_at dksX2_cut_4 14 rfl rfl)
theorem dX2_cut_112 : decode cX2_cut 112 = .ok (.goto (-51), 3) := dk_167 255 205 (dk_at dksX2_cut_4 17 rfl rfl)
theorem dX2_cut_115 : decode cX2_cut 115 = .ok (.iinc 6 1, 3) := dk_132 6 1 (dk_at dksX2_cut_4 20 rfl rfl)
theorem dX2_cut_118 : decode cX2_cut 118 = .ok (.goto (-67), 3) := dk_167 255 189 (dk_at dksX2_cut_5 0 rfl rfl)
theorem dX2_cut_121 : decode cX2_cut 121 = .ok (.iload 5, 2) := dk_21 5 (dk_at dksX2_cut_5 3 rfl rfl)
theorem dX2_cut_123 : decode cX2_cut 123 = .ok (.iload_n 3, 1) := dk_29 (dk_at dksX2_cut_5 5 rfl rfl)
theorem dX2_cut_124 : decode cX2_cut 124 = .ok (.if_icmp .ge 8, 3) := dk_162 0 8 (dk_at dksX2_cut_5 6 rfl rfl)
theorem dX2_cut_127 : decode cX2_cut 127 = .ok (.iload 5, 2) := dk_21 5 (dk_at dksX2_cut_5 9 rfl rfl)
theorem dX2_cut_129 : decode cX2_cut 129 = .ok (.goto 4, 3) := dk_167 0 4 (dk_at dksX2_cut_5 11 rfl rfl)
theorem dX2_cut_132 : decode cX2_cut 132 = .ok (.iload_n 3, 1) := dk_29 (dk_at dksX2_cut_5 14 rfl rfl)
theorem dX2_cut_133 : decode cX2_cut 133 = .ok (.istore_n 3, 1) := dk_62 (dk_at dksX2_cut_5 15 rfl rfl)
theorem dX2_cut_134 : decode cX2_cut 134 = .ok (.iinc 4 1, 3) := dk_132 4 1 (dk_at dksX2_cut_5 16 rfl rfl)
theorem dX2_cut_137 : decode cX2_cut 137 = .ok (.goto (-120), 3) := dk_167 255 136 (dk_at dksX2_cut_5 19 rfl rfl)
theorem dX2_cut_140 : decode cX2_cut 140 = .ok (.iload_n 3, 1) := dk_29 (dk_at dksX2_cut_5 22 rfl rfl)
theorem dX2_cut_141 : decode cX2_cut 141 = .ok (.ireturn, 1) := dk_172 (dk_at dksX2_cut_5 23 rfl rfl)
abbrev cX2_cool : ByteArray := prog_20_method_122_code
def yX2_cool : MethodName := ⟨RX2, "cool", "(I)I"⟩
def dkwX2_cool_5 : List UInt8 := [167, 0, 8, 42, 28, 182, 1, 146, 172]
abbrev dktX2_cool_5 : List UInt8 := dkwX2_cool_5 ++ []
def dkwX2_cool_4 : List UInt8 := [132, 3, 1, 167, 255, 174, 27, 154, 0, 7, 28, 167, 0, 21, 27, 4, 160, 0, 11, 42, 28, 182, 1, 180]
abbrev dktX2_cool_4 : List UInt8 := dkwX2_cool_4 ++ dktX2_cool_5
def dkwX2_cool_3 : List UInt8 := [157, 0, 21, 21, 4, 154, 0, 18, 42, 29, 182, 1, 146, 42, 28, 182, 1, 146, 162, 0, 5, 29, 61]
abbrev dktX2_cool_3 : List UInt8 := dkwX2_cool_3 ++ dktX2_cool_4
def dkwX2_cool_2 : List UInt8 := [16, 9, 46, 164, 0, 6, 167, 0, 41, 42, 29, 182, 1, 180, 42, 28, 182, 1, 180, 100, 54, 4, 21, 4]
abbrev dktX2_cool_2 : List UInt8 := dkwX2_cool_2 ++ dktX2_cool_3
def dkwX2_cool_1 : List UInt8 := [162, 0, 76, 29, 42, 182, 1, 68, 2, 130, 126, 154, 0, 59, 42, 29, 182, 1, 146, 42, 180, 0, 7]
abbrev dktX2_cool_1 : List UInt8 := dkwX2_cool_1 ++ dktX2_cool_2
def dkwX2_cool_0 : List UInt8 := [27, 3, 5, 184, 0, 81, 154, 0, 5, 2, 172, 3, 61, 4, 62, 29, 4, 42, 180, 0, 7, 3, 46, 120]
abbrev dktX2_cool_0 : List UInt8 := dkwX2_cool_0 ++ dktX2_cool_1
theorem dksX2_cool_0 : cX2_cool.data.toList.drop 0 = dktX2_cool_0 := by decide +kernel
theorem dksX2_cool_1 : cX2_cool.data.toList.drop 24 = dktX2_cool_1 := dk_seg dksX2_cool_0 24 rfl rfl
theorem dksX2_cool_2 : cX2_cool.data.toList.drop 47 = dktX2_cool_2 := dk_seg dksX2_cool_1 23 rfl rfl
theorem dksX2_cool_3 : cX2_cool.data.toList.drop 71 = dktX2_cool_3 := dk_seg dksX2_cool_2 24 rfl rfl
theorem dksX2_cool_4 : cX2_cool.data.toList.drop 94 = dktX2_cool_4 := dk_seg dksX2_cool_3 23 rfl rfl
theorem dksX2_cool_5 : cX2_cool.data.toList.drop 118 = dktX2_cool_5 := dk_seg dksX2_cool_4 24 rfl rfl
theorem dX2_cool_0 : decode cX2_cool 0 = .ok (.iload_n 1, 1) := dk_27 (dk_at dksX2_cool_0 0 rfl rfl)
theorem dX2_cool_1 : decode cX2_cool 1 = .ok (.iconst 0, 1) := dk_3 (dk_at dksX2_cool_0 1 rfl rfl)
theorem dX2_cool_2 : decode cX2_cool 2 = .ok (.iconst 2, 1) := dk_5 (dk_at dksX2_cool_0 2 rfl rfl)
theorem dX2_cool_3 : decode cX2_cool 3 = .ok (.invokestatic 81, 3) := dk_184 0 81 (dk_at dksX2_cool_0 3 rfl rfl)
theorem dX2_cool_6 : decode cX2_cool 6 = .ok (.ifCond .ne 5, 3) := dk_154 0 5 (dk_at dksX2_cool_0 6 rfl rfl)
theorem dX2_cool_9 : decode cX2_cool 9 = .ok (.iconst (-1), 1) := dk_2 (dk_at dksX2_cool_0 9 rfl rfl)
theorem dX2_cool_10 : decode cX2_cool 10 = .ok (.ireturn, 1) := dk_172 (dk_at dksX2_cool_0 10 rfl rfl)
theorem dX2_cool_11 : decode cX2_cool 11 = .ok (.iconst 0, 1) := dk_3 (dk_at dksX2_cool_0 11 rfl rfl)
theorem dX2_cool_12 : decode cX2_cool 12 = .ok (.istore_n 2, 1) := dk_61 (dk_at dksX2_cool_0 12 rfl rfl)
theorem dX2_cool_13 : decode cX2_cool 13 = .ok (.iconst 1, 1) := dk_4 (dk_at dksX2_cool_0 13 rfl rfl)
theorem dX2_cool_14 : decode cX2_cool 14 = .ok (.istore_n 3, 1) := dk_62 (dk_at dksX2_cool_0 14 rfl rfl)
theorem dX2_cool_15 : decode cX2_cool 15 = .ok (.iload_n 3, 1) := dk_29 (dk_at dksX2_cool_0 15 rfl rfl)
theorem dX2_cool_16 : decode cX2_cool 16 = .ok (.iconst 1, 1) := dk_4 (dk_at dksX2_cool_0 16 rfl rfl)
theorem dX2_cool_17 : decode cX2_cool 17 = .ok (.aload_n 0, 1) := dk_42 (dk_at dksX2_cool_0 17 rfl rfl)
theorem dX2_cool_18 : decode cX2_cool 18 = .ok (.getfield 7, 3) := dk_180 0 7 (dk_at dksX2_cool_0 18 rfl rfl)
theorem dX2_cool_21 : decode cX2_cool 21 = .ok (.iconst 0, 1) := dk_3 (dk_at dksX2_cool_0 21 rfl rfl)
theorem dX2_cool_22 : decode cX2_cool 22 = .ok (.iaload, 1) := dk_46 (dk_at dksX2_cool_0 22 rfl rfl)
theorem dX2_cool_23 : decode cX2_cool 23 = .ok (.ishl, 1) := dk_120 (dk_at dksX2_cool_0 23 rfl rfl)
theorem dX2_cool_24 : decode cX2_cool 24 = .ok (.if_icmp .ge 76, 3) := dk_162 0 76 (dk_at dksX2_cool_1 0 rfl rfl)
theorem dX2_cool_27 : decode cX2_cool 27 = .ok (.iload_n 3, 1) := dk_29 (dk_at dksX2_cool_1 3 rfl rfl)
theorem dX2_cool_28 : decode cX2_cool 28 = .ok (.aload_n 0, 1) := dk_42 (dk_at dksX2_cool_1 4 rfl rfl)
theorem dX2_cool_29 : decode cX2_cool 29 = .ok (.invokevirtual 324, 3) := dk_182 1 68 (dk_at dksX2_cool_1 5 rfl rfl)
theorem dX2_cool_32 : decode cX2_cool 32 = .ok (.iconst (-1), 1) := dk_2 (dk_at dksX2_cool_1 8 rfl rfl)
theorem dX2_cool_33 : decode cX2_cool 33 = .ok (.ixor, 1) := dk_130 (dk_at dksX2_cool_1 9 rfl rfl)
theorem dX2_cool_34 : decode cX2_cool 34 = .ok (.iand, 1) := dk_126 (dk_at dksX2_cool_1 10 rfl rfl)
theorem dX2_cool_35 : decode cX2_cool 35 = .ok (.ifCond .ne 59, 3) := dk_154 0 59 (dk_at dksX2_cool_1 11 rfl rfl)
theorem dX2_cool_38 : decode cX2_cool 38 = .ok (.aload_n 0, 1) := dk_42 (dk_at dksX2_cool_1 14 rfl rfl)
theorem dX2_cool_39 : decode cX2_cool 39 = .ok (.iload_n 3, 1) := dk_29 (dk_at dksX2_cool_1 15 rfl rfl)
theorem dX2_cool_40 : decode cX2_cool 40 = .ok (.invokevirtual 402, 3) := dk_182 1 146 (dk_at dksX2_cool_1 16 rfl rfl)
theorem dX2_cool_43 : decode cX2_cool 43 = .ok (.aload_n 0, 1) := dk_42 (dk_at dksX2_cool_1 19 rfl rfl)
theorem dX2_cool_44 : decode cX2_cool 44 = .ok (.getfield 7, 3) := dk_180 0 7 (dk_at dksX2_cool_1 20 rfl rfl)
theorem dX2_cool_47 : decode cX2_cool 47 = .ok (.bipush 9, 2) := dk_16 9 (dk_at dksX2_cool_2 0 rfl rfl)
theorem dX2_cool_49 : decode cX2_cool 49 = .ok (.iaload, 1) := dk_46 (dk_at dksX2_cool_2 2 rfl rfl)
theorem dX2_cool_50 : decode cX2_cool 50 = .ok (.if_icmp .le 6, 3) := dk_164 0 6 (dk_at dksX2_cool_2 3 rfl rfl)
theorem dX2_cool_53 : decode cX2_cool 53 = .ok (.goto 41, 3) := dk_167 0 41 (dk_at dksX2_cool_2 6 rfl rfl)
theorem dX2_cool_56 : decode cX2_cool 56 = .ok (.aload_n 0, 1) := dk_42 (dk_at dksX2_cool_2 9 rfl rfl)
theorem dX2_cool_57 : decode cX2_cool 57 = .ok (.iload_n 3, 1) := dk_29 (dk_at dksX2_cool_2 10 rfl rfl)
theorem dX2_cool_58 : decode cX2_cool 58 = .ok (.invokevirtual 436, 3) := dk_182 1 180 (dk_at dksX2_cool_2 11 rfl rfl)
theorem dX2_cool_61 : decode cX2_cool 61 = .ok (.aload_n 0, 1) := dk_42 (dk_at dksX2_cool_2 14 rfl rfl)
theorem dX2_cool_62 : decode cX2_cool 62 = .ok (.iload_n 2, 1) := dk_28 (dk_at dksX2_cool_2 15 rfl rfl)
theorem dX2_cool_63 : decode cX2_cool 63 = .ok (.invokevirtual 436, 3) := dk_182 1 180 (dk_at dksX2_cool_2 16 rfl rfl)
theorem dX2_cool_66 : decode cX2_cool 66 = .ok (.isub, 1) := dk_100 (dk_at dksX2_cool_2 19 rfl rfl)
theorem dX2_cool_67 : decode cX2_cool 67 = .ok (.istore 4, 2) := dk_54 4 (dk_at dksX2_cool_2 20 rfl rfl)
theorem dX2_cool_69 : decode cX2_cool 69 = .ok (.iload 4, 2) := dk_21 4 (dk_at dksX2_cool_2 22 rfl rfl)
theorem dX2_cool_71 : decode cX2_cool 71 = .ok (.ifCond .gt 21, 3) := dk_157 0 21 (dk_at dksX2_cool_3 0 rfl rfl)
theorem dX2_cool_74 : decode cX2_cool 74 = .ok (.iload 4, 2) := dk_21 4 (dk_at dksX2_cool_3 3 rfl rfl)
theorem dX2_cool_76 : decode cX2_cool 76 = .ok (.ifCond .ne 18, 3) := dk_154 0 18 (dk_at dksX2_cool_3 5 rfl rfl)
theorem dX2_cool_79 : decode cX2_cool 79 = .ok (.aload_n 0, 1) := dk_42 (dk_at dksX2_cool_3 8 rfl rfl)
theorem dX2_cool_80 : decode cX2_cool 80 = .ok (.iload_n 3, 1) := dk_29 (dk_at dksX2_cool_3 9 rfl rfl)
theorem dX2_cool_81 : decode cX2_cool 81 = .ok (.invokevirtual 402, 3) := dk_182 1 146 (dk_at dksX2_cool_3 10 rfl rfl)
theorem dX2_cool_84 : decode cX2_cool 84 = .ok (.aload_n 0, 1) := dk_42 (dk_at dksX2_cool_3 13 rfl rfl)
theorem dX2_cool_85 : decode cX2_cool 85 = .ok (.iload_n 2, 1) := dk_28 (dk_at dksX2_cool_3 14 rfl rfl)
theorem dX2_cool_86 : decode cX2_cool 86 = .ok (.invokevirtual 402, 3) := dk_182 1 146 (dk_at dksX2_cool_3 15 rfl rfl)
theorem dX2_cool_89 : decode cX2_cool 89 = .ok (.if_icmp .ge 5, 3) := dk_162 0 5 (dk_at dksX2_cool_3 18 rfl rfl)
theorem dX2_cool_92 : decode cX2_cool 92 = .ok (.iload_n 3, 1) := dk_29 (dk_at dksX2_cool_3 21 rfl rfl)
theorem dX2_cool_93 : decode cX2_cool 93 = .ok (.istore_n 2, 1) := dk_61 (dk_at dksX2_cool_3 22 rfl rfl)
theorem dX2_cool_94 : decode cX2_cool 94 = .ok (.iinc 3 1, 3) := dk_132 3 1 (dk_at dksX2_cool_4 0 rfl rfl)
theorem dX2_cool_97 : decode cX2_cool 97 = .ok (.goto (-82), 3) := dk_167 255 174 (dk_at dksX2_cool_4 3 rfl rfl)
theorem dX2_cool_100 : decode cX2_cool 100 = .ok (.iload_n 1, 1) := dk_27 (dk_at dksX2_cool_4 6 rfl rfl)
theorem dX2_cool_101 : decode cX2_cool 101 = .ok (.ifCond .ne 7, 3) := dk_154 0 7 (dk_at dksX2_cool_4 7 rfl rfl)
theorem dX2_cool_104 : decode cX2_cool 104 = .ok (.iload_n 2, 1) := dk_28 (dk_at dksX2_cool_4 10 rfl rfl)
theorem dX2_cool_105 : decode cX2_cool 105 = .ok (.goto 21, 3) := dk_167 0 21 (dk_at dksX2_cool_4 11 rfl rfl)
theorem dX2_cool_108 : decode cX2_cool 108 = .ok (.iload_n 1, 1) := dk_27 (dk_at dksX2_cool_4 14 rfl rfl)
theorem dX2_cool_109 : decode cX2_cool 109 = .ok (.iconst 1, 1) := dk_4 (dk_at dksX2_cool_4 15 rfl rfl)
theorem dX2_cool_110 : decode cX2_cool 110 = .ok (.if_icmp .ne 11, 3) := dk_160 0 11 (dk_at dksX2_cool_4 16 rfl rfl)
theorem dX2_cool_113 : decode cX2_cool 113 = .ok (.aload_n 0, 1) := dk_42 (dk_at dksX2_cool_4 19 rfl rfl)
theorem dX2_cool_114 : decode cX2_cool 114 = .ok (.iload_n 2, 1) := dk_28 (dk_at dksX2_cool_4 20 rfl rfl)
theorem dX2_cool_115 : decode cX2_cool 115 = .ok (.invokevirtual 436, 3) := dk_182 1 180 (dk_at dksX2_cool_4 21 rfl rfl)
theorem dX2_cool_118 : decode cX2_cool 118 = .ok (.goto 8, 3) := dk_167 0 8 (dk_at dksX2_cool_5 0 rfl rfl)
theorem dX2_cool_121 : decode cX2_cool 121 = .ok (.aload_n 0, 1) := dk_42 (dk_at dksX2_cool_5 3 rfl rfl)
theorem dX2_cool_122 : decode cX2_cool 122 = .ok (.iload_n 2, 1) := dk_28 (dk_at dksX2_cool_5 4 rfl rfl)
theorem dX2_cool_123 : decode cX2_cool 123 = .ok (.invokevirtual 402, 3) := dk_182 1 146 (dk_at dksX2_cool_5 5 rfl rfl)
theorem dX2_cool_126 : decode cX2_cool 126 = .ok (.ireturn, 1) := dk_172 (dk_at dksX2_cool_5 8 rfl rfl)
abbrev cX2_heatOfAll : ByteArray := prog_20_method_121_code
def yX2_heatOfAll : MethodName := ⟨RX2, "heatOfAll", "(I)I"⟩
def dkwX2_heatOfAll_1 : List UInt8 := [29, 182, 1, 25, 167, 0, 4, 3, 96, 61, 132, 3, 1, 167, 255, 223, 28, 172]
abbrev dktX2_heatOfAll_1 : List UInt8 := dkwX2_heatOfAll_1 ++ []
def dkwX2_heatOfAll_0 : List UInt8 := [3, 61, 3, 62, 29, 42, 180, 0, 7, 3, 46, 162, 0, 29, 28, 27, 29, 184, 1, 3, 153, 0, 11, 42]
abbrev dktX2_heatOfAll_0 : List UInt8 := dkwX2_heatOfAll_0 ++ dktX2_heatOfAll_1
theorem dksX2_heatOfAll_0 : cX2_heatOfAll.data.toList.drop 0 = dktX2_heatOfAll_0 := by decide +kernel
theorem dksX2_heatOfAll_1 : cX2_heatOfAll.data.toList.drop 24 = dktX2_heatOfAll_1 := dk_seg dksX2_heatOfAll_0 24 rfl rfl
theorem dX2_heatOfAll_0 : decode cX2_heatOfAll 0 = .ok (.iconst 0, 1) := dk_3 (dk_at dksX2_heatOfAll_0 0 rfl rfl)
theorem dX2_heatOfAll_1 : decode cX2_heatOfAll 1 = .ok (.istore_n 2, 1) := dk_61 (dk_at dksX2_heatOfAll_0 1 rfl rfl)
theorem dX2_heatOfAll_2 : decode cX2_heatOfAll 2 = .ok (.iconst 0, 1) := dk_3 (dk_at dksX2_heatOfAll_0 2 rfl rfl)
theorem dX2_heatOfAll_3 : decode cX2_heatOfAll 3 = .ok (.istore_n 3, 1) := dk_62 (dk_at dksX2_heatOfAll_0 3 rfl rfl)
theorem dX2_heatOfAll_4 : decode cX2_heatOfAll 4 = .ok (.iload_n 3, 1) := dk_29 (dk_at dksX2_heatOfAll_0 4 rfl rfl)
theorem dX2_heatOfAll_5 : decode cX2_heatOfAll 5 = .ok (.aload_n 0, 1) := dk_42 (dk_at dksX2_heatOfAll_0 5 rfl rfl)
theorem dX2_heatOfAll_6 : decode cX2_heatOfAll 6 = .ok (.getfield 7, 3) := dk_180 0 7 (dk_at dksX2_heatOfAll_0 6 rfl rfl)
theorem dX2_heatOfAll_9 : decode cX2_heatOfAll 9 = .ok (.iconst 0, 1) := dk_3 (dk_at dksX2_heatOfAll_0 9 rfl rfl)
theorem dX2_heatOfAll_10 : decode cX2_heatOfAll 10 = .ok (.iaload, 1) := dk_46 (dk_at dksX2_heatOfAll_0 10 rfl rfl)
theorem dX2_heatOfAll_11 : decode cX2_heatOfAll 11 = .ok (.if_icmp .ge 29, 3) := dk_162 0 29 (dk_at dksX2_heatOfAll_0 11 rfl rfl)
theorem dX2_heatOfAll_14 : decode cX2_heatOfAll 14 = .ok (.iload_n 2, 1) := dk_28 (dk_at dksX2_heatOfAll_0 14 rfl rfl)
theorem dX2_heatOfAll_15 : decode cX2_heatOfAll 15 = .ok (.iload_n 1, 1) := dk_27 (dk_at dksX2_heatOfAll_0 15 rfl rfl)
theorem dX2_heatOfAll_16 : decode cX2_heatOfAll 16 = .ok (.iload_n 3, 1) := dk_29 (dk_at dksX2_heatOfAll_0 16 rfl rfl)
theorem dX2_heatOfAll_17 : decode cX2_heatOfAll 17 = .ok (.invokestatic 259, 3) := dk_184 1 3 (dk_at dksX2_heatOfAll_0 17 rfl rfl)
theorem dX2_heatOfAll_20 : decode cX2_heatOfAll 20 = .ok (.ifCond .eq 11, 3) := dk_153 0 11 (dk_at dksX2_heatOfAll_0 20 rfl rfl)
theorem dX2_heatOfAll_23 : decode cX2_heatOfAll 23 = .ok (.aload_n 0, 1) := dk_42 (dk_at dksX2_heatOfAll_0 23 rfl rfl)
theorem dX2_heatOfAll_24 : decode cX2_heatOfAll 24 = .ok (.iload_n 3, 1) := dk_29 (dk_at dksX2_heatOfAll_1 0 rfl rfl)
theorem dX2_heatOfAll_25 : decode cX2_heatOfAll 25 = .ok (.invokevirtual 281, 3) := dk_182 1 25 (dk_at dksX2_heatOfAll_1 1 rfl rfl)
theorem dX2_heatOfAll_28 : decode cX2_heatOfAll 28 = .ok (.goto 4, 3) := dk_167 0 4 (dk_at dksX2_heatOfAll_1 4 rfl rfl)
theorem dX2_heatOfAll_31 : decode cX2_heatOfAll 31 = .ok (.iconst 0, 1) := dk_3 (dk_at dksX2_heatOfAll_1 7 rfl rfl)
theorem dX2_heatOfAll_32 : decode cX2_heatOfAll 32 = .ok (.iadd, 1) := dk_96 (dk_at dksX2_heatOfAll_1 8 rfl rfl)
theorem dX2_heatOfAll_33 : decode cX2_heatOfAll 33 = .ok (.istore_n 2, 1) := dk_61 (dk_at dksX2_heatOfAll_1 9 rfl rfl)
theorem dX2_heatOfAll_34 : decode cX2_heatOfAll 34 = .ok (.iinc 3 1, 3) := dk_132 3 1 (dk_at dksX2_heatOfAll_1 10 rfl rfl)
theorem dX2_heatOfAll_37 : decode cX2_heatOfAll 37 = .ok (.goto (-33), 3) := dk_167 255 223 (dk_at dksX2_heatOfAll_1 13 rfl rfl)
theorem dX2_heatOfAll_40 : decode cX2_heatOfAll 40 = .ok (.iload_n 2, 1) := dk_28 (dk_at dksX2_heatOfAll_1 16 rfl rfl)
theorem dX2_heatOfAll_41 : decode cX2_heatOfAll 41 = .ok (.ireturn, 1) := dk_172 (dk_at dksX2_heatOfAll_1 17 rfl rfl)
abbrev cX2_plan : ByteArray := prog_20_method_127_code
def yX2_plan : MethodName := ⟨RX2, "plan", "(II)I"⟩
def dkwX2_plan_3 : List UInt8 := [167, 0, 23, 28, 4, 160, 0, 10, 42, 180, 1, 199, 167, 0, 11, 42, 180, 0, 59, 28, 5, 100, 46, 172]
abbrev dktX2_plan_3 : List UInt8 := dkwX2_plan_3 ++ []
def dkwX2_plan_2 : List UInt8 := [27, 182, 1, 202, 42, 180, 1, 189, 2, 160, 0, 7, 2, 167, 0, 34, 28, 154, 0, 10, 42, 180, 1, 189]
abbrev dktX2_plan_2 : List UInt8 := dkwX2_plan_2 ++ dktX2_plan_3
def dkwX2_plan_1 : List UInt8 := [184, 1, 71, 8, 163, 0, 17, 28, 3, 27, 184, 1, 71, 4, 96, 184, 0, 81, 154, 0, 5, 2, 172, 42]
abbrev dktX2_plan_1 : List UInt8 := dkwX2_plan_1 ++ dktX2_plan_2
def dkwX2_plan_0 : List UInt8 := [27, 3, 17, 0, 255, 184, 0, 81, 153, 0, 36, 27, 42, 182, 1, 68, 2, 130, 126, 154, 0, 25, 27]
abbrev dktX2_plan_0 : List UInt8 := dkwX2_plan_0 ++ dktX2_plan_1
theorem dksX2_plan_0 : cX2_plan.data.toList.drop 0 = dktX2_plan_0 := by decide +kernel
theorem dksX2_plan_1 : cX2_plan.data.toList.drop 23 = dktX2_plan_1 := dk_seg dksX2_plan_0 23 rfl rfl
theorem dksX2_plan_2 : cX2_plan.data.toList.drop 47 = dktX2_plan_2 := dk_seg dksX2_plan_1 24 rfl rfl
theorem dksX2_plan_3 : cX2_plan.data.toList.drop 71 = dktX2_plan_3 := dk_seg dksX2_plan_2 24 rfl rfl
theorem dX2_plan_0 : decode cX2_plan 0 = .ok (.iload_n 1, 1) := dk_27 (dk_at dksX2_plan_0 0 rfl rfl)
theorem dX2_plan_1 : decode cX2_plan 1 = .ok (.iconst 0, 1) := dk_3 (dk_at dksX2_plan_0 1 rfl rfl)
theorem dX2_plan_2 : decode cX2_plan 2 = .ok (.sipush 255, 3) := dk_17 0 255 (dk_at dksX2_plan_0 2 rfl rfl)
theorem dX2_plan_5 : decode cX2_plan 5 = .ok (.invokestatic 81, 3) := dk_184 0 81 (dk_at dksX2_plan_0 5 rfl rfl)
theorem dX2_plan_8 : decode cX2_plan 8 = .ok (.ifCond .eq 36, 3) := dk_153 0 36 (dk_at dksX2_plan_0 8 rfl rfl)
theorem dX2_plan_11 : decode cX2_plan 11 = .ok (.iload_n 1, 1) := dk_27 (dk_at dksX2_plan_0 11 rfl rfl)
theorem dX2_plan_12 : decode cX2_plan 12 = .ok (.aload_n 0, 1) := dk_42 (dk_at dksX2_plan_0 12 rfl rfl)
theorem dX2_plan_13 : decode cX2_plan 13 = .ok (.invokevirtual 324, 3) := dk_182 1 68 (dk_at dksX2_plan_0 13 rfl rfl)
theorem dX2_plan_16 : decode cX2_plan 16 = .ok (.iconst (-1), 1) := dk_2 (dk_at dksX2_plan_0 16 rfl rfl)
theorem dX2_plan_17 : decode cX2_plan 17 = .ok (.ixor, 1) := dk_130 (dk_at dksX2_plan_0 17 rfl rfl)
theorem dX2_plan_18 : decode cX2_plan 18 = .ok (.iand, 1) := dk_126 (dk_at dksX2_plan_0 18 rfl rfl)
theorem dX2_plan_19 : decode cX2_plan 19 = .ok (.ifCond .ne 25, 3) := dk_154 0 25 (dk_at dksX2_plan_0 19 rfl rfl)
theorem dX2_plan_22 : decode cX2_plan 22 = .ok (.iload_n 1, 1) := dk_27 (dk_at dksX2_plan_0 22 rfl rfl)
theorem dX2_plan_23 : decode cX2_plan 23 = .ok (.invokestatic 327, 3) := dk_184 1 71 (dk_at dksX2_plan_1 0 rfl rfl)
theorem dX2_plan_26 : decode cX2_plan 26 = .ok (.iconst 5, 1) := dk_8 (dk_at dksX2_plan_1 3 rfl rfl)
theorem dX2_plan_27 : decode cX2_plan 27 = .ok (.if_icmp .gt 17, 3) := dk_163 0 17 (dk_at dksX2_plan_1 4 rfl rfl)
theorem dX2_plan_30 : decode cX2_plan 30 = .ok (.iload_n 2, 1) := dk_28 (dk_at dksX2_plan_1 7 rfl rfl)
theorem dX2_plan_31 : decode cX2_plan 31 = .ok (.iconst 0, 1) := dk_3 (dk_at dksX2_plan_1 8 rfl rfl)
theorem dX2_plan_32 : decode cX2_plan 32 = .ok (.iload_n 1, 1) := dk_27 (dk_at dksX2_plan_1 9 rfl rfl)
theorem dX2_plan_33 : decode cX2_plan 33 = .ok (.invokestatic 327, 3) := dk_184 1 71 (dk_at dksX2_plan_1 10 rfl rfl)
theorem dX2_plan_36 : decode cX2_plan 36 = .ok (.iconst 1, 1) := dk_4 (dk_at dksX2_plan_1 13 rfl rfl)
theorem dX2_plan_37 : decode cX2_plan 37 = .ok (.iadd, 1) := dk_96 (dk_at dksX2_plan_1 14 rfl rfl)
theorem dX2_plan_38 : decode cX2_plan 38 = .ok (.invokestatic 81, 3) := dk_184 0 81 (dk_at dksX2_plan_1 15 rfl rfl)
theorem dX2_plan_41 : decode cX2_plan 41 = .ok (.ifCond .ne 5, 3) := dk_154 0 5 (dk_at dksX2_plan_1 18 rfl rfl)
theorem dX2_plan_44 : decode cX2_plan 44 = .ok (.iconst (-1), 1) := dk_2 (dk_at dksX2_plan_1 21 rfl rfl)
theorem dX2_plan_45 : decode cX2_plan 45 = .ok (.ireturn, 1) := dk_172 (dk_at dksX2_plan_1 22 rfl rfl)
theorem dX2_plan_46 : decode cX2_plan 46 = .ok (.aload_n 0, 1) := dk_42 (dk_at dksX2_plan_1 23 rfl rfl)
theorem dX2_plan_47 : decode cX2_plan 47 = .ok (.iload_n 1, 1) := dk_27 (dk_at dksX2_plan_2 0 rfl rfl)
theorem dX2_plan_48 : decode cX2_plan 48 = .ok (.invokevirtual 458, 3) := dk_182 1 202 (dk_at dksX2_plan_2 1 rfl rfl)
theorem dX2_plan_51 : decode cX2_plan 51 = .ok (.aload_n 0, 1) := dk_42 (dk_at dksX2_plan_2 4 rfl rfl)
theorem dX2_plan_52 : decode cX2_plan 52 = .ok (.getfield 445, 3) := dk_180 1 189 (dk_at dksX2_plan_2 5 rfl rfl)
theorem dX2_plan_55 : decode cX2_plan 55 = .ok (.iconst (-1), 1) := dk_2 (dk_at dksX2_plan_2 8 rfl rfl)
theorem dX2_plan_56 : decode cX2_plan 56 = .ok (.if_icmp .ne 7, 3) := dk_160 0 7 (dk_at dksX2_plan_2 9 rfl rfl)
theorem dX2_plan_59 : decode cX2_plan 59 = .ok (.iconst (-1), 1) := dk_2 (dk_at dksX2_plan_2 12 rfl rfl)
theorem dX2_plan_60 : decode cX2_plan 60 = .ok (.goto 34, 3) := dk_167 0 34 (dk_at dksX2_plan_2 13 rfl rfl)
theorem dX2_plan_63 : decode cX2_plan 63 = .ok (.iload_n 2, 1) := dk_28 (dk_at dksX2_plan_2 16 rfl rfl)
theorem dX2_plan_64 : decode cX2_plan 64 = .ok (.ifCond .ne 10, 3) := dk_154 0 10 (dk_at dksX2_plan_2 17 rfl rfl)
theorem dX2_plan_67 : decode cX2_plan 67 = .ok (.aload_n 0, 1) := dk_42 (dk_at dksX2_plan_2 20 rfl rfl)
theorem dX2_plan_68 : decode cX2_plan 68 = .ok (.getfield 445, 3) := dk_180 1 189 (dk_at dksX2_plan_2 21 rfl rfl)
theorem dX2_plan_71 : decode cX2_plan 71 = .ok (.goto 23, 3) := dk_167 0 23 (dk_at dksX2_plan_3 0 rfl rfl)
theorem dX2_plan_74 : decode cX2_plan 74 = .ok (.iload_n 2, 1) := dk_28 (dk_at dksX2_plan_3 3 rfl rfl)
theorem dX2_plan_75 : decode cX2_plan 75 = .ok (.iconst 1, 1) := dk_4 (dk_at dksX2_plan_3 4 rfl rfl)
theorem dX2_plan_76 : decode cX2_plan 76 = .ok (.if_icmp .ne 10, 3) := dk_160 0 10 (dk_at dksX2_plan_3 5 rfl rfl)
theorem dX2_plan_79 : decode cX2_plan 79 = .ok (.aload_n 0, 1) := dk_42 (dk_at dksX2_plan_3 8 rfl rfl)
theorem dX2_plan_80 : decode cX2_plan 80 = .ok (.getfield 455, 3) := dk_180 1 199 (dk_at dksX2_plan_3 9 rfl rfl)
theorem dX2_plan_83 : decode cX2_plan 83 = .ok (.goto 11, 3) := dk_167 0 11 (dk_at dksX2_plan_3 12 rfl rfl)
theorem dX2_plan_86 : decode cX2_plan 86 = .ok (.aload_n 0, 1) := dk_42 (dk_at dksX2_plan_3 15 rfl rfl)
theorem dX2_plan_87 : decode cX2_plan 87 = .ok (.getfield 59, 3) := dk_180 0 59 (dk_at dksX2_plan_3 16 rfl rfl)
theorem dX2_plan_90 : decode cX2_plan 90 = .ok (.iload_n 2, 1) := dk_28 (dk_at dksX2_plan_3 19 rfl rfl)
theorem dX2_plan_91 : decode cX2_plan 91 = .ok (.iconst 2, 1) := dk_5 (dk_at dksX2_plan_3 20 rfl rfl)
theorem dX2_plan_92 : decode cX2_plan 92 = .ok (.isub, 1) := dk_100 (dk_at dksX2_plan_3 21 rfl rfl)
theorem dX2_plan_93 : decode cX2_plan 93 = .ok (.iaload, 1) := dk_46 (dk_at dksX2_plan_3 22 rfl rfl)
theorem dX2_plan_94 : decode cX2_plan 94 = .ok (.ireturn, 1) := dk_172 (dk_at dksX2_plan_3 23 rfl rfl)
abbrev cX2_layPlan : ByteArray := prog_20_method_126_code
def yX2_layPlan : MethodName := ⟨RX2, "layPlan", "(I)V"⟩
def dkwX2_layPlan_5 : List UInt8 := [132, 5, 1, 167, 255, 233, 132, 3, 1, 167, 255, 142, 177]
abbrev dktX2_layPlan_5 : List UInt8 := dkwX2_layPlan_5 ++ []
def dkwX2_layPlan_4 : List UInt8 := [54, 5, 21, 5, 28, 162, 0, 23, 42, 180, 0, 59, 21, 5, 42, 180, 0, 56, 21, 5, 46, 79]
abbrev dktX2_layPlan_4 : List UInt8 := dkwX2_layPlan_4 ++ dktX2_layPlan_5
def dkwX2_layPlan_3 : List UInt8 := [180, 1, 199, 161, 0, 6, 167, 0, 46, 42, 21, 4, 181, 1, 189, 42, 42, 180, 1, 183, 181, 1, 199, 3]
abbrev dktX2_layPlan_3 : List UInt8 := dkwX2_layPlan_3 ++ dktX2_layPlan_4
def dkwX2_layPlan_2 : List UInt8 := [21, 4, 42, 180, 1, 189, 163, 0, 69, 21, 4, 42, 180, 1, 189, 160, 0, 17, 42, 180, 1, 183, 42]
abbrev dktX2_layPlan_2 : List UInt8 := dkwX2_layPlan_2 ++ dktX2_layPlan_3
def dkwX2_layPlan_1 : List UInt8 := [182, 1, 192, 42, 28, 182, 1, 196, 54, 4, 21, 4, 2, 159, 0, 86, 42, 180, 1, 189, 2, 159, 0, 35]
abbrev dktX2_layPlan_1 : List UInt8 := dkwX2_layPlan_1 ++ dktX2_layPlan_2
def dkwX2_layPlan_0 : List UInt8 := [27, 184, 1, 71, 61, 42, 2, 181, 1, 189, 3, 62, 29, 28, 184, 1, 186, 162, 0, 112, 42, 27, 29, 28]
abbrev dktX2_layPlan_0 : List UInt8 := dkwX2_layPlan_0 ++ dktX2_layPlan_1
theorem dksX2_layPlan_0 : cX2_layPlan.data.toList.drop 0 = dktX2_layPlan_0 := by decide +kernel
theorem dksX2_layPlan_1 : cX2_layPlan.data.toList.drop 24 = dktX2_layPlan_1 := dk_seg dksX2_layPlan_0 24 rfl rfl
theorem dksX2_layPlan_2 : cX2_layPlan.data.toList.drop 48 = dktX2_layPlan_2 := dk_seg dksX2_layPlan_1 24 rfl rfl
theorem dksX2_layPlan_3 : cX2_layPlan.data.toList.drop 71 = dktX2_layPlan_3 := dk_seg dksX2_layPlan_2 23 rfl rfl
theorem dksX2_layPlan_4 : cX2_layPlan.data.toList.drop 95 = dktX2_layPlan_4 := dk_seg dksX2_layPlan_3 24 rfl rfl
theorem dksX2_layPlan_5 : cX2_layPlan.data.toList.drop 117 = dktX2_layPlan_5 := dk_seg dksX2_layPlan_4 22 rfl rfl
theorem dX2_layPlan_0 : decode cX2_layPlan 0 = .ok (.iload_n 1, 1) := dk_27 (dk_at dksX2_layPlan_0 0 rfl rfl)
theorem dX2_layPlan_1 : decode cX2_layPlan 1 = .ok (.invokestatic 327, 3) := dk_184 1 71 (dk_at dksX2_layPlan_0 1 rfl rfl)
theorem dX2_layPlan_4 : decode cX2_layPlan 4 = .ok (.istore_n 2, 1) := dk_61 (dk_at dksX2_layPlan_0 4 rfl rfl)
theorem dX2_layPlan_5 : decode cX2_layPlan 5 = .ok (.aload_n 0, 1) := dk_42 (dk_at dksX2_layPlan_0 5 rfl rfl)
theorem dX2_layPlan_6 : decode cX2_layPlan 6 = .ok (.iconst (-1), 1) := dk_2 (dk_at dksX2_layPlan_0 6 rfl rfl)
theorem dX2_layPlan_7 : decode cX2_layPlan 7 = .ok (.putfield 445, 3) := dk_181 1 189 (dk_at dksX2_layPlan_0 7 rfl rfl)
theorem dX2_layPlan_10 : decode cX2_layPlan 10 = .ok (.iconst 0, 1) := dk_3 (dk_at dksX2_layPlan_0 10 rfl rfl)
theorem dX2_layPlan_11 : decode cX2_layPlan 11 = .ok (.istore_n 3, 1) := dk_62 (dk_at dksX2_layPlan_0 11 rfl rfl)
theorem dX2_layPlan_12 : decode cX2_layPlan 12 = .ok (.iload_n 3, 1) := dk_29 (dk_at dksX2_layPlan_0 12 rfl rfl)
theorem dX2_layPlan_13 : decode cX2_layPlan 13 = .ok (.iload_n 2, 1) := dk_28 (dk_at dksX2_layPlan_0 13 rfl rfl)
theorem dX2_layPlan_14 : decode cX2_layPlan 14 = .ok (.invokestatic 442, 3) := dk_184 1 186 (dk_at dksX2_layPlan_0 14 rfl rfl)
theorem dX2_layPlan_17 : decode cX2_layPlan 17 = .ok (.if_icmp .ge 112, 3) := dk_162 0 112 (dk_at dksX2_layPlan_0 17 rfl rfl)
theorem dX2_layPlan_20 : decode cX2_layPlan 20 = .ok (.aload_n 0, 1) := dk_42 (dk_at dksX2_layPlan_0 20 rfl rfl)
theorem dX2_layPlan_21 : decode cX2_layPlan 21 = .ok (.iload_n 1, 1) := dk_27 (dk_at dksX2_layPlan_0 21 rfl rfl)
theorem dX2_layPlan_22 : decode cX2_layPlan 22 = .ok (.iload_n 3, 1) := dk_29 (dk_at dksX2_layPlan_0 22 rfl rfl)
theorem dX2_layPlan_23 : decode cX2_layPlan 23 = .ok (.iload_n 2, 1) := dk_28 (dk_at dksX2_layPlan_0 23 rfl rfl)
theorem dX2_layPlan_24 : decode cX2_layPlan 24 = .ok (.invokevirtual 448, 3) := dk_182 1 192 (dk_at dksX2_layPlan_1 0 rfl rfl)
theorem dX2_layPlan_27 : decode cX2_layPlan 27 = .ok (.aload_n 0, 1) := dk_42 (dk_at dksX2_layPlan_1 3 rfl rfl)
theorem dX2_layPlan_28 : decode cX2_layPlan 28 = .ok (.iload_n 2, 1) := dk_28 (dk_at dksX2_layPlan_1 4 rfl rfl)
theorem dX2_layPlan_29 : decode cX2_layPlan 29 = .ok (.invokevirtual 452, 3) := dk_182 1 196 (dk_at dksX2_layPlan_1 5 rfl rfl)
theorem dX2_layPlan_32 : decode cX2_layPlan 32 = .ok (.istore 4, 2) := dk_54 4 (dk_at dksX2_layPlan_1 8 rfl rfl)
theorem dX2_layPlan_34 : decode cX2_layPlan 34 = .ok (.iload 4, 2) := dk_21 4 (dk_at dksX2_layPlan_1 10 rfl rfl)
theorem dX2_layPlan_36 : decode cX2_layPlan 36 = .ok (.iconst (-1), 1) := dk_2 (dk_at dksX2_layPlan_1 12 rfl rfl)
theorem dX2_layPlan_37 : decode cX2_layPlan 37 = .ok (.if_icmp .eq 86, 3) := dk_159 0 86 (dk_at dksX2_layPlan_1 13 rfl rfl)
theorem dX2_layPlan_40 : decode cX2_layPlan 40 = .ok (.aload_n 0, 1) := dk_42 (dk_at dksX2_layPlan_1 16 rfl rfl)
theorem dX2_layPlan_41 : decode cX2_layPlan 41 = .ok (.getfield 445, 3) := dk_180 1 189 (dk_at dksX2_layPlan_1 17 rfl rfl)
theorem dX2_layPlan_44 : decode cX2_layPlan 44 = .ok (.iconst (-1), 1) := dk_2 (dk_at dksX2_layPlan_1 20 rfl rfl)
theorem dX2_layPlan_45 : decode cX2_layPlan 45 = .ok (.if_icmp .eq 35, 3) := dk_159 0 35 (dk_at dksX2_layPlan_1 21 rfl rfl)
theorem dX2_layPlan_48 : decode cX2_layPlan 48 = .ok (.iload 4, 2) := dk_21 4 (dk_at dksX2_layPlan_2 0 rfl rfl)
theorem dX2_layPlan_50 : decode cX2_layPlan 50 = .ok (.aload_n 0, 1) := dk_42 (dk_at dksX2_layPlan_2 2 rfl rfl)
theorem dX2_layPlan_51 : decode cX2_layPlan 51 = .ok (.getfield 445, 3) := dk_180 1 189 (dk_at dksX2_layPlan_2 3 rfl rfl)
theorem dX2_layPlan_54 : decode cX2_layPlan 54 = .ok (.if_icmp .gt 69, 3) := dk_163 0 69 (dk_at dksX2_layPlan_2 6 rfl rfl)
theorem dX2_layPlan_57 : decode cX2_layPlan 57 = .ok (.iload 4, 2) := dk_21 4 (dk_at dksX2_layPlan_2 9 rfl rfl)
theorem dX2_layPlan_59 : decode cX2_layPlan 59 = .ok (.aload_n 0, 1) := dk_42 (dk_at dksX2_layPlan_2 11 rfl rfl)
theorem dX2_layPlan_60 : decode cX2_layPlan 60 = .ok (.getfield 445, 3) := dk_180 1 189 (dk_at dksX2_layPlan_2 12 rfl rfl)
theorem dX2_layPlan_63 : decode cX2_layPlan 63 = .ok (.if_icmp .ne 17, 3) := dk_160 0 17 (dk_at dksX2_layPlan_2 15 rfl rfl)
theorem dX2_layPlan_66 : decode cX2_layPlan 66 = .ok (.aload_n 0, 1) := dk_42 (dk_at dksX2_layPlan_2 18 rfl rfl)
theorem dX2_layPlan_67 : decode cX2_layPlan 67 = .ok (.getfield 439, 3) := dk_180 1 183 (dk_at dksX2_layPlan_2 19 rfl rfl)
theorem dX2_layPlan_70 : decode cX2_layPlan 70 = .ok (.aload_n 0, 1) := dk_42 (dk_at dksX2_layPlan_2 22 rfl rfl)
theorem dX2_layPlan_71 : decode cX2_layPlan 71 = .ok (.getfield 455, 3) := dk_180 1 199 (dk_at dksX2_layPlan_3 0 rfl rfl)
theorem dX2_layPlan_74 : decode cX2_layPlan 74 = .ok (.if_icmp .lt 6, 3) := dk_161 0 6 (dk_at dksX2_layPlan_3 3 rfl rfl)
theorem dX2_layPlan_77 : decode cX2_layPlan 77 = .ok (.goto 46, 3) := dk_167 0 46 (dk_at dksX2_layPlan_3 6 rfl rfl)
theorem dX2_layPlan_80 : decode cX2_layPlan 80 = .ok (.aload_n 0, 1) := dk_42 (dk_at dksX2_layPlan_3 9 rfl rfl)
theorem dX2_layPlan_81 : decode cX2_layPlan 81 = .ok (.iload 4, 2) := dk_21 4 (dk_at dksX2_layPlan_3 10 rfl rfl)
theorem dX2_layPlan_83 : decode cX2_layPlan 83 = .ok (.putfield 445, 3) := dk_181 1 189 (dk_at dksX2_layPlan_3 12 rfl rfl)
theorem dX2_layPlan_86 : decode cX2_layPlan 86 = .ok (.aload_n 0, 1) := dk_42 (dk_at dksX2_layPlan_3 15 rfl rfl)
theorem dX2_layPlan_87 : decode cX2_layPlan 87 = .ok (.aload_n 0, 1) := dk_42 (dk_at dksX2_layPlan_3 16 rfl rfl)
theorem dX2_layPlan_88 : decode cX2_layPlan 88 = .ok (.getfield 439, 3) := dk_180 1 183 (dk_at dksX2_layPlan_3 17 rfl rfl)
theorem dX2_layPlan_91 : decode cX2_layPlan 91 = .ok (.putfield 455, 3) := dk_181 1 199 (dk_at dksX2_layPlan_3 20 rfl rfl)
theorem dX2_layPlan_94 : decode cX2_layPlan 94 = .ok (.iconst 0, 1) := dk_3 (dk_at dksX2_layPlan_3 23 rfl rfl)
theorem dX2_layPlan_95 : decode cX2_layPlan 95 = .ok (.istore 5, 2) := dk_54 5 (dk_at dksX2_layPlan_4 0 rfl rfl)
theorem dX2_layPlan_97 : decode cX2_layPlan 97 = .ok (.iload 5, 2) := dk_21 5 (dk_at dksX2_layPlan_4 2 rfl rfl)
theorem dX2_layPlan_99 : decode cX2_layPlan 99 = .ok (.iload_n 2, 1) := dk_28 (dk_at dksX2_layPlan_4 4 rfl rfl)
theorem dX2_layPlan_100 : decode cX2_layPlan 100 = .ok (.if_icmp .ge 23, 3) := dk_162 0 23 (dk_at dksX2_layPlan_4 5 rfl rfl)
theorem dX2_layPlan_103 : decode cX2_layPlan 103 = .ok (.aload_n 0, 1) := dk_42 (dk_at dksX2_layPlan_4 8 rfl rfl)
theorem dX2_layPlan_104 : decode cX2_layPlan 104 = .ok (.getfield 59, 3) := dk_180 0 59 (dk_at dksX2_layPlan_4 9 rfl rfl)
theorem dX2_layPlan_107 : decode cX2_layPlan 107 = .ok (.iload 5, 2) := dk_21 5 (dk_at dksX2_layPlan_4 12 rfl rfl)
theorem dX2_layPlan_109 : decode cX2_layPlan 109 = .ok (.aload_n 0, 1) := dk_42 (dk_at dksX2_layPlan_4 14 rfl rfl)
theorem dX2_layPlan_110 : decode cX2_layPlan 110 = .ok (.getfield 56, 3) := dk_180 0 56 (dk_at dksX2_layPlan_4 15 rfl rfl)
theorem dX2_layPlan_113 : decode cX2_layPlan 113 = .ok (.iload 5, 2) := dk_21 5 (dk_at dksX2_layPlan_4 18 rfl rfl)
theorem dX2_layPlan_115 : decode cX2_layPlan 115 = .ok (.iaload, 1) := dk_46 (dk_at dksX2_layPlan_4 20 rfl rfl)
theorem dX2_layPlan_116 : decode cX2_layPlan 116 = .ok (.iastore, 1) := dk_79 (dk_at dksX2_layPlan_4 21 rfl rfl)
theorem dX2_layPlan_117 : decode cX2_layPlan 117 = .ok (.iinc 5 1, 3) := dk_132 5 1 (dk_at dksX2_layPlan_5 0 rfl rfl)
theorem dX2_layPlan_120 : decode cX2_layPlan 120 = .ok (.goto (-23), 3) := dk_167 255 233 (dk_at dksX2_layPlan_5 3 rfl rfl)
theorem dX2_layPlan_123 : decode cX2_layPlan 123 = .ok (.iinc 3 1, 3) := dk_132 3 1 (dk_at dksX2_layPlan_5 6 rfl rfl)
theorem dX2_layPlan_126 : decode cX2_layPlan 126 = .ok (.goto (-114), 3) := dk_167 255 142 (dk_at dksX2_layPlan_5 9 rfl rfl)
theorem dX2_layPlan_129 : decode cX2_layPlan 129 = .ok (.return_, 1) := dk_177 (dk_at dksX2_layPlan_5 12 rfl rfl)
abbrev cX2_factorial : ByteArray := prog_20_method_124_code
def yX2_factorial : MethodName := ⟨RX2, "factorial", "(I)I"⟩
def dkwX2_factorial_0 : List UInt8 := [4, 60, 5, 61, 28, 26, 163, 0, 13, 27, 28, 104, 60, 132, 2, 1, 167, 255, 244, 27, 172]
abbrev dktX2_factorial_0 : List UInt8 := dkwX2_factorial_0 ++ []
theorem dksX2_factorial_0 : cX2_factorial.data.toList.drop 0 = dktX2_factorial_0 := by decide +kernel
theorem dX2_factorial_0 : decode cX2_factorial 0 = .ok (.iconst 1, 1) := dk_4 (dk_at dksX2_factorial_0 0 rfl rfl)
theorem dX2_factorial_1 : decode cX2_factorial 1 = .ok (.istore_n 1, 1) := dk_60 (dk_at dksX2_factorial_0 1 rfl rfl)
theorem dX2_factorial_2 : decode cX2_factorial 2 = .ok (.iconst 2, 1) := dk_5 (dk_at dksX2_factorial_0 2 rfl rfl)
theorem dX2_factorial_3 : decode cX2_factorial 3 = .ok (.istore_n 2, 1) := dk_61 (dk_at dksX2_factorial_0 3 rfl rfl)
theorem dX2_factorial_4 : decode cX2_factorial 4 = .ok (.iload_n 2, 1) := dk_28 (dk_at dksX2_factorial_0 4 rfl rfl)
theorem dX2_factorial_5 : decode cX2_factorial 5 = .ok (.iload_n 0, 1) := dk_26 (dk_at dksX2_factorial_0 5 rfl rfl)
theorem dX2_factorial_6 : decode cX2_factorial 6 = .ok (.if_icmp .gt 13, 3) := dk_163 0 13 (dk_at dksX2_factorial_0 6 rfl rfl)
theorem dX2_factorial_9 : decode cX2_factorial 9 = .ok (.iload_n 1, 1) := dk_27 (dk_at dksX2_factorial_0 9 rfl rfl)
theorem dX2_factorial_10 : decode cX2_factorial 10 = .ok (.iload_n 2, 1) := dk_28 (dk_at dksX2_factorial_0 10 rfl rfl)
theorem dX2_factorial_11 : decode cX2_factorial 11 = .ok (.imul, 1) := dk_104 (dk_at dksX2_factorial_0 11 rfl rfl)
theorem dX2_factorial_12 : decode cX2_factorial 12 = .ok (.istore_n 1, 1) := dk_60 (dk_at dksX2_factorial_0 12 rfl rfl)
theorem dX2_factorial_13 : decode cX2_factorial 13 = .ok (.iinc 2 1, 3) := dk_132 2 1 (dk_at dksX2_factorial_0 13 rfl rfl)
theorem dX2_factorial_16 : decode cX2_factorial 16 = .ok (.goto (-12), 3) := dk_167 255 244 (dk_at dksX2_factorial_0 16 rfl rfl)
theorem dX2_factorial_19 : decode cX2_factorial 19 = .ok (.iload_n 1, 1) := dk_27 (dk_at dksX2_factorial_0 19 rfl rfl)
theorem dX2_factorial_20 : decode cX2_factorial 20 = .ok (.ireturn, 1) := dk_172 (dk_at dksX2_factorial_0 20 rfl rfl)
abbrev cX2_layOrder : ByteArray := prog_20_method_125_code
def yX2_layOrder : MethodName := ⟨RX2, "layOrder", "(III)V"⟩
def dkwX2_layOrder_5 : List UInt8 := [177]
abbrev dktX2_layOrder_5 : List UInt8 := dkwX2_layOrder_5 ++ []
def dkwX2_layOrder_4 : List UInt8 := [21, 5, 4, 21, 8, 120, 128, 54, 5, 42, 180, 0, 56, 21, 6, 21, 8, 79, 132, 6, 1, 167, 255, 149]
abbrev dktX2_layOrder_4 : List UInt8 := dkwX2_layOrder_4 ++ dktX2_layOrder_5
def dkwX2_layOrder_3 : List UInt8 := [130, 126, 21, 8, 184, 1, 3, 153, 0, 7, 4, 167, 0, 4, 3, 100, 54, 7, 132, 8, 1, 167, 255, 210]
abbrev dktX2_layOrder_3 : List UInt8 := dkwX2_layOrder_3 ++ dktX2_layOrder_4
def dkwX2_layOrder_2 : List UInt8 := [21, 5, 2, 130, 126, 21, 8, 184, 1, 3, 153, 0, 8, 21, 7, 158, 0, 33, 21, 7, 27, 21, 5, 2]
abbrev dktX2_layOrder_2 : List UInt8 := dkwX2_layOrder_2 ++ dktX2_layOrder_3
def dkwX2_layOrder_1 : List UInt8 := [184, 1, 186, 108, 54, 7, 21, 4, 29, 4, 100, 21, 6, 100, 184, 1, 186, 112, 54, 4, 3, 54, 8, 27]
abbrev dktX2_layOrder_1 : List UInt8 := dkwX2_layOrder_1 ++ dktX2_layOrder_2
def dkwX2_layOrder_0 : List UInt8 := [28, 54, 4, 3, 54, 5, 3, 54, 6, 21, 6, 29, 162, 0, 107, 21, 4, 29, 4, 100, 21, 6, 100]
abbrev dktX2_layOrder_0 : List UInt8 := dkwX2_layOrder_0 ++ dktX2_layOrder_1
theorem dksX2_layOrder_0 : cX2_layOrder.data.toList.drop 0 = dktX2_layOrder_0 := by decide +kernel
theorem dksX2_layOrder_1 : cX2_layOrder.data.toList.drop 23 = dktX2_layOrder_1 := dk_seg dksX2_layOrder_0 23 rfl rfl
theorem dksX2_layOrder_2 : cX2_layOrder.data.toList.drop 47 = dktX2_layOrder_2 := dk_seg dksX2_layOrder_1 24 rfl rfl
theorem dksX2_layOrder_3 : cX2_layOrder.data.toList.drop 71 = dktX2_layOrder_3 := dk_seg dksX2_layOrder_2 24 rfl rfl
theorem dksX2_layOrder_4 : cX2_layOrder.data.toList.drop 95 = dktX2_layOrder_4 := dk_seg dksX2_layOrder_3 24 rfl rfl
theorem dksX2_layOrder_5 : cX2_layOrder.data.toList.drop 119 = dktX2_layOrder_5 := dk_seg dksX2_layOrder_4 24 rfl rfl
theorem dX2_layOrder_0 : decode cX2_layOrder 0 = .ok (.iload_n 2, 1) := dk_28 (dk_at dksX2_layOrder_0 0 rfl rfl)
theorem dX2_layOrder_1 : decode cX2_layOrder 1 = .ok (.istore 4, 2) := dk_54 4 (dk_at dksX2_layOrder_0 1 rfl rfl)
theorem dX2_layOrder_3 : decode cX2_layOrder 3 = .ok (.iconst 0, 1) := dk_3 (dk_at dksX2_layOrder_0 3 rfl rfl)
theorem dX2_layOrder_4 : decode cX2_layOrder 4 = .ok (.istore 5, 2) := dk_54 5 (dk_at dksX2_layOrder_0 4 rfl rfl)
theorem dX2_layOrder_6 : decode cX2_layOrder 6 = .ok (.iconst 0, 1) := dk_3 (dk_at dksX2_layOrder_0 6 rfl rfl)
theorem dX2_layOrder_7 : decode cX2_layOrder 7 = .ok (.istore 6, 2) := dk_54 6 (dk_at dksX2_layOrder_0 7 rfl rfl)
theorem dX2_layOrder_9 : decode cX2_layOrder 9 = .ok (.iload 6, 2) := dk_21 6 (dk_at dksX2_layOrder_0 9 rfl rfl)
theorem dX2_layOrder_11 : decode cX2_layOrder 11 = .ok (.iload_n 3, 1) := dk_29 (dk_at dksX2_layOrder_0 11 rfl rfl)
theorem dX2_layOrder_12 : decode cX2_layOrder 12 = .ok (.if_icmp .ge 107, 3) := dk_162 0 107 (dk_at dksX2_layOrder_0 12 rfl rfl)
theorem dX2_layOrder_15 : decode cX2_layOrder 15 = .ok (.iload 4, 2) := dk_21 4 (dk_at dksX2_layOrder_0 15 rfl rfl)
theorem dX2_layOrder_17 : decode cX2_layOrder 17 = .ok (.iload_n 3, 1) := dk_29 (dk_at dksX2_layOrder_0 17 rfl rfl)
theorem dX2_layOrder_18 : decode cX2_layOrder 18 = .ok (.iconst 1, 1) := dk_4 (dk_at dksX2_layOrder_0 18 rfl rfl)
theorem dX2_layOrder_19 : decode cX2_layOrder 19 = .ok (.isub, 1) := dk_100 (dk_at dksX2_layOrder_0 19 rfl rfl)
theorem dX2_layOrder_20 : decode cX2_layOrder 20 = .ok (.iload 6, 2) := dk_21 6 (dk_at dksX2_layOrder_0 20 rfl rfl)
theorem dX2_layOrder_22 : decode cX2_layOrder 22 = .ok (.isub, 1) := dk_100 (dk_at dksX2_layOrder_0 22 rfl rfl)
theorem dX2_layOrder_23 : decode cX2_layOrder 23 = .ok (.invokestatic 442, 3) := dk_184 1 186 (dk_at dksX2_layOrder_1 0 rfl rfl)
theorem dX2_layOrder_26 : decode cX2_layOrder 26 = .ok (.idiv, 1) := dk_108 (dk_at dksX2_layOrder_1 3 rfl rfl)
theorem dX2_layOrder_27 : decode cX2_layOrder 27 = .ok (.istore 7, 2) := dk_54 7 (dk_at dksX2_layOrder_1 4 rfl rfl)
theorem dX2_layOrder_29 : decode cX2_layOrder 29 = .ok (.iload 4, 2) := dk_21 4 (dk_at dksX2_layOrder_1 6 rfl rfl)
theorem dX2_layOrder_31 : decode cX2_layOrder 31 = .ok (.iload_n 3, 1) := dk_29 (dk_at dksX2_layOrder_1 8 rfl rfl)
theorem dX2_layOrder_32 : decode cX2_layOrder 32 = .ok (.iconst 1, 1) := dk_4 (dk_at dksX2_layOrder_1 9 rfl rfl)
theorem dX2_layOrder_33 : decode cX2_layOrder 33 = .ok (.isub, 1) := dk_100 (dk_at dksX2_layOrder_1 10 rfl rfl)
theorem dX2_layOrder_34 : decode cX2_layOrder 34 = .ok (.iload 6, 2) := dk_21 6 (dk_at dksX2_layOrder_1 11 rfl rfl)
theorem dX2_layOrder_36 : decode cX2_layOrder 36 = .ok (.isub, 1) := dk_100 (dk_at dksX2_layOrder_1 13 rfl rfl)
theorem dX2_layOrder_37 : decode cX2_layOrder 37 = .ok (.invokestatic 442, 3) := dk_184 1 186 (dk_at dksX2_layOrder_1 14 rfl rfl)
theorem dX2_layOrder_40 : decode cX2_layOrder 40 = .ok (.irem, 1) := dk_112 (dk_at dksX2_layOrder_1 17 rfl rfl)
theorem dX2_layOrder_41 : decode cX2_layOrder 41 = .ok (.istore 4, 2) := dk_54 4 (dk_at dksX2_layOrder_1 18 rfl rfl)
theorem dX2_layOrder_43 : decode cX2_layOrder 43 = .ok (.iconst 0, 1) := dk_3 (dk_at dksX2_layOrder_1 20 rfl rfl)
theorem dX2_layOrder_44 : decode cX2_layOrder 44 = .ok (.istore 8, 2) := dk_54 8 (dk_at dksX2_layOrder_1 21 rfl rfl)
theorem dX2_layOrder_46 : decode cX2_layOrder 46 = .ok (.iload_n 1, 1) := dk_27 (dk_at dksX2_layOrder_1 23 rfl rfl)
theorem dX2_layOrder_47 : decode cX2_layOrder 47 = .ok (.iload 5, 2) := dk_21 5 (dk_at dksX2_layOrder_2 0 rfl rfl)
theorem dX2_layOrder_49 : decode cX2_layOrder 49 = .ok (.iconst (-1), 1) := dk_2 (dk_at dksX2_layOrder_2 2 rfl rfl)
theorem dX2_layOrder_50 : decode cX2_layOrder 50 = .ok (.ixor, 1) := dk_130 (dk_at dksX2_layOrder_2 3 rfl rfl)
theorem dX2_layOrder_51 : decode cX2_layOrder 51 = .ok (.iand, 1) := dk_126 (dk_at dksX2_layOrder_2 4 rfl rfl)
theorem dX2_layOrder_52 : decode cX2_layOrder 52 = .ok (.iload 8, 2) := dk_21 8 (dk_at dksX2_layOrder_2 5 rfl rfl)
theorem dX2_layOrder_54 : decode cX2_layOrder 54 = .ok (.invokestatic 259, 3) := dk_184 1 3 (dk_at dksX2_layOrder_2 7 rfl rfl)
theorem dX2_layOrder_57 : decode cX2_layOrder 57 = .ok (.ifCond .eq 8, 3) := dk_153 0 8 (dk_at dksX2_layOrder_2 10 rfl rfl)
theorem dX2_layOrder_60 : decode cX2_layOrder 60 = .ok (.iload 7, 2) := dk_21 7 (dk_at dksX2_layOrder_2 13 rfl rfl)
theorem dX2_layOrder_62 : decode cX2_layOrder 62 = .ok (.ifCond .le 33, 3) := dk_158 0 33 (dk_at dksX2_layOrder_2 15 rfl rfl)
theorem dX2_layOrder_65 : decode cX2_layOrder 65 = .ok (.iload 7, 2) := dk_21 7 (dk_at dksX2_layOrder_2 18 rfl rfl)
theorem dX2_layOrder_67 : decode cX2_layOrder 67 = .ok (.iload_n 1, 1) := dk_27 (dk_at dksX2_layOrder_2 20 rfl rfl)
theorem dX2_layOrder_68 : decode cX2_layOrder 68 = .ok (.iload 5, 2) := dk_21 5 (dk_at dksX2_layOrder_2 21 rfl rfl)
theorem dX2_layOrder_70 : decode cX2_layOrder 70 = .ok (.iconst (-1), 1) := dk_2 (dk_at dksX2_layOrder_2 23 rfl rfl)
theorem dX2_layOrder_71 : decode cX2_layOrder 71 = .ok (.ixor, 1) := dk_130 (dk_at dksX2_layOrder_3 0 rfl rfl)
theorem dX2_layOrder_72 : decode cX2_layOrder 72 = .ok (.iand, 1) := dk_126 (dk_at dksX2_layOrder_3 1 rfl rfl)
theorem dX2_layOrder_73 : decode cX2_layOrder 73 = .ok (.iload 8, 2) := dk_21 8 (dk_at dksX2_layOrder_3 2 rfl rfl)
theorem dX2_layOrder_75 : decode cX2_layOrder 75 = .ok (.invokestatic 259, 3) := dk_184 1 3 (dk_at dksX2_layOrder_3 4 rfl rfl)
theorem dX2_layOrder_78 : decode cX2_layOrder 78 = .ok (.ifCond .eq 7, 3) := dk_153 0 7 (dk_at dksX2_layOrder_3 7 rfl rfl)
theorem dX2_layOrder_81 : decode cX2_layOrder 81 = .ok (.iconst 1, 1) := dk_4 (dk_at dksX2_layOrder_3 10 rfl rfl)
theorem dX2_layOrder_82 : decode cX2_layOrder 82 = .ok (.goto 4, 3) := dk_167 0 4 (dk_at dksX2_layOrder_3 11 rfl rfl)
theorem dX2_layOrder_85 : decode cX2_layOrder 85 = .ok (.iconst 0, 1) := dk_3 (dk_at dksX2_layOrder_3 14 rfl rfl)
theorem dX2_layOrder_86 : decode cX2_layOrder 86 = .ok (.isub, 1) := dk_100 (dk_at dksX2_layOrder_3 15 rfl rfl)
theorem dX2_layOrder_87 : decode cX2_layOrder 87 = .ok (.istore 7, 2) := dk_54 7 (dk_at dksX2_layOrder_3 16 rfl rfl)
theorem dX2_layOrder_89 : decode cX2_layOrder 89 = .ok (.iinc 8 1, 3) := dk_132 8 1 (dk_at dksX2_layOrder_3 18 rfl rfl)
theorem dX2_layOrder_92 : decode cX2_layOrder 92 = .ok (.goto (-46), 3) := dk_167 255 210 (dk_at dksX2_layOrder_3 21 rfl rfl)
theorem dX2_layOrder_95 : decode cX2_layOrder 95 = .ok (.iload 5, 2) := dk_21 5 (dk_at dksX2_layOrder_4 0 rfl rfl)
theorem dX2_layOrder_97 : decode cX2_layOrder 97 = .ok (.iconst 1, 1) := dk_4 (dk_at dksX2_layOrder_4 2 rfl rfl)
theorem dX2_layOrder_98 : decode cX2_layOrder 98 = .ok (.iload 8, 2) := dk_21 8 (dk_at dksX2_layOrder_4 3 rfl rfl)
theorem dX2_layOrder_100 : decode cX2_layOrder 100 = .ok (.ishl, 1) := dk_120 (dk_at dksX2_layOrder_4 5 rfl rfl)
theorem dX2_layOrder_101 : decode cX2_layOrder 101 = .ok (.ior, 1) := dk_128 (dk_at dksX2_layOrder_4 6 rfl rfl)
theorem dX2_layOrder_102 : decode cX2_layOrder 102 = .ok (.istore 5, 2) := dk_54 5 (dk_at dksX2_layOrder_4 7 rfl rfl)
theorem dX2_layOrder_104 : decode cX2_layOrder 104 = .ok (.aload_n 0, 1) := dk_42 (dk_at dksX2_layOrder_4 9 rfl rfl)
theorem dX2_layOrder_105 : decode cX2_layOrder 105 = .ok (.getfield 56, 3) := dk_180 0 56 (dk_at dksX2_layOrder_4 10 rfl rfl)
theorem dX2_layOrder_108 : decode cX2_layOrder 108 = .ok (.iload 6, 2) := dk_21 6 (dk_at dksX2_layOrder_4 13 rfl rfl)
theorem dX2_layOrder_110 : decode cX2_layOrder 110 = .ok (.iload 8, 2) := dk_21 8 (dk_at dksX2_layOrder_4 15 rfl rfl)
theorem dX2_layOrder_112 : decode cX2_layOrder 112 = .ok (.iastore, 1) := dk_79 (dk_at dksX2_layOrder_4 17 rfl rfl)
theorem dX2_layOrder_113 : decode cX2_layOrder 113 = .ok (.iinc 6 1, 3) := dk_132 6 1 (dk_at dksX2_layOrder_4 18 rfl rfl)
theorem dX2_layOrder_116 : decode cX2_layOrder 116 = .ok (.goto (-107), 3) := dk_167 255 149 (dk_at dksX2_layOrder_4 21 rfl rfl)
theorem dX2_layOrder_119 : decode cX2_layOrder 119 = .ok (.return_, 1) := dk_177 (dk_at dksX2_layOrder_5 0 rfl rfl)
abbrev cX2_doneBy : ByteArray := prog_20_method_123_code
def yX2_doneBy : MethodName := ⟨RX2, "doneBy", "(I)I"⟩
def dkwX2_doneBy_5 : List UInt8 := [167, 255, 157, 29, 172]
abbrev dktX2_doneBy_5 : List UInt8 := dkwX2_doneBy_5 ++ []
def dkwX2_doneBy_4 : List UInt8 := [182, 1, 64, 54, 5, 28, 21, 5, 100, 61, 42, 89, 180, 1, 183, 21, 5, 96, 181, 1, 183, 132, 4, 1]
abbrev dktX2_doneBy_4 : List UInt8 := dkwX2_doneBy_4 ++ dktX2_doneBy_5
def dkwX2_doneBy_3 : List UInt8 := [16, 60, 164, 0, 5, 2, 172, 42, 42, 180, 0, 7, 5, 46, 42, 180, 0, 56, 21, 4, 46, 29, 28]
abbrev dktX2_doneBy_3 : List UInt8 := dkwX2_doneBy_3 ++ dktX2_doneBy_4
def dkwX2_doneBy_2 : List UInt8 := [182, 1, 64, 162, 0, 19, 132, 3, 1, 28, 42, 180, 0, 7, 16, 114, 46, 96, 61, 167, 255, 214, 29]
abbrev dktX2_doneBy_2 : List UInt8 := dkwX2_doneBy_2 ++ dktX2_doneBy_3
def dkwX2_doneBy_1 : List UInt8 := [29, 16, 60, 163, 0, 42, 28, 42, 42, 180, 0, 7, 5, 46, 42, 180, 0, 56, 21, 4, 46, 29, 28]
abbrev dktX2_doneBy_1 : List UInt8 := dkwX2_doneBy_1 ++ dktX2_doneBy_2
def dkwX2_doneBy_0 : List UInt8 := [42, 180, 0, 7, 16, 9, 46, 61, 3, 62, 42, 3, 181, 1, 183, 3, 54, 4, 21, 4, 27, 162, 0, 99]
abbrev dktX2_doneBy_0 : List UInt8 := dkwX2_doneBy_0 ++ dktX2_doneBy_1
theorem dksX2_doneBy_0 : cX2_doneBy.data.toList.drop 0 = dktX2_doneBy_0 := by decide +kernel
theorem dksX2_doneBy_1 : cX2_doneBy.data.toList.drop 24 = dktX2_doneBy_1 := dk_seg dksX2_doneBy_0 24 rfl rfl
theorem dksX2_doneBy_2 : cX2_doneBy.data.toList.drop 47 = dktX2_doneBy_2 := dk_seg dksX2_doneBy_1 23 rfl rfl
theorem dksX2_doneBy_3 : cX2_doneBy.data.toList.drop 70 = dktX2_doneBy_3 := dk_seg dksX2_doneBy_2 23 rfl rfl
theorem dksX2_doneBy_4 : cX2_doneBy.data.toList.drop 93 = dktX2_doneBy_4 := dk_seg dksX2_doneBy_3 23 rfl rfl
theorem dksX2_doneBy_5 : cX2_doneBy.data.toList.drop 117 = dktX2_doneBy_5 := dk_seg dksX2_doneBy_4 24 rfl rfl
theorem dX2_doneBy_0 : decode cX2_doneBy 0 = .ok (.aload_n 0, 1) := dk_42 (dk_at dksX2_doneBy_0 0 rfl rfl)
theorem dX2_doneBy_1 : decode cX2_doneBy 1 = .ok (.getfield 7, 3) := dk_180 0 7 (dk_at dksX2_doneBy_0 1 rfl rfl)
theorem dX2_doneBy_4 : decode cX2_doneBy 4 = .ok (.bipush 9, 2) := dk_16 9 (dk_at dksX2_doneBy_0 4 rfl rfl)
theorem dX2_doneBy_6 : decode cX2_doneBy 6 = .ok (.iaload, 1) := dk_46 (dk_at dksX2_doneBy_0 6 rfl rfl)
theorem dX2_doneBy_7 : decode cX2_doneBy 7 = .ok (.istore_n 2, 1) := dk_61 (dk_at dksX2_doneBy_0 7 rfl rfl)
theorem dX2_doneBy_8 : decode cX2_doneBy 8 = .ok (.iconst 0, 1) := dk_3 (dk_at dksX2_doneBy_0 8 rfl rfl)
theorem dX2_doneBy_9 : decode cX2_doneBy 9 = .ok (.istore_n 3, 1) := dk_62 (dk_at dksX2_doneBy_0 9 rfl rfl)
theorem dX2_doneBy_10 : decode cX2_doneBy 10 = .ok (.aload_n 0, 1) := dk_42 (dk_at dksX2_doneBy_0 10 rfl rfl)
theorem dX2_doneBy_11 : decode cX2_doneBy 11 = .ok (.iconst 0, 1) := dk_3 (dk_at dksX2_doneBy_0 11 rfl rfl)
theorem dX2_doneBy_12 : decode cX2_doneBy 12 = .ok (.putfield 439, 3) := dk_181 1 183 (dk_at dksX2_doneBy_0 12 rfl rfl)
theorem dX2_doneBy_15 : decode cX2_doneBy 15 = .ok (.iconst 0, 1) := dk_3 (dk_at dksX2_doneBy_0 15 rfl rfl)
theorem dX2_doneBy_16 : decode cX2_doneBy 16 = .ok (.istore 4, 2) := dk_54 4 (dk_at dksX2_doneBy_0 16 rfl rfl)
theorem dX2_doneBy_18 : decode cX2_doneBy 18 = .ok (.iload 4, 2) := dk_21 4 (dk_at dksX2_doneBy_0 18 rfl rfl)
theorem dX2_doneBy_20 : decode cX2_doneBy 20 = .ok (.iload_n 1, 1) := dk_27 (dk_at dksX2_doneBy_0 20 rfl rfl)
theorem dX2_doneBy_21 : decode cX2_doneBy 21 = .ok (.if_icmp .ge 99, 3) := dk_162 0 99 (dk_at dksX2_doneBy_0 21 rfl rfl)
theorem dX2_doneBy_24 : decode cX2_doneBy 24 = .ok (.iload_n 3, 1) := dk_29 (dk_at dksX2_doneBy_1 0 rfl rfl)
theorem dX2_doneBy_25 : decode cX2_doneBy 25 = .ok (.bipush 60, 2) := dk_16 60 (dk_at dksX2_doneBy_1 1 rfl rfl)
theorem dX2_doneBy_27 : decode cX2_doneBy 27 = .ok (.if_icmp .gt 42, 3) := dk_163 0 42 (dk_at dksX2_doneBy_1 3 rfl rfl)
theorem dX2_doneBy_30 : decode cX2_doneBy 30 = .ok (.iload_n 2, 1) := dk_28 (dk_at dksX2_doneBy_1 6 rfl rfl)
theorem dX2_doneBy_31 : decode cX2_doneBy 31 = .ok (.aload_n 0, 1) := dk_42 (dk_at dksX2_doneBy_1 7 rfl rfl)
theorem dX2_doneBy_32 : decode cX2_doneBy 32 = .ok (.aload_n 0, 1) := dk_42 (dk_at dksX2_doneBy_1 8 rfl rfl)
theorem dX2_doneBy_33 : decode cX2_doneBy 33 = .ok (.getfield 7, 3) := dk_180 0 7 (dk_at dksX2_doneBy_1 9 rfl rfl)
theorem dX2_doneBy_36 : decode cX2_doneBy 36 = .ok (.iconst 2, 1) := dk_5 (dk_at dksX2_doneBy_1 12 rfl rfl)
theorem dX2_doneBy_37 : decode cX2_doneBy 37 = .ok (.iaload, 1) := dk_46 (dk_at dksX2_doneBy_1 13 rfl rfl)
theorem dX2_doneBy_38 : decode cX2_doneBy 38 = .ok (.aload_n 0, 1) := dk_42 (dk_at dksX2_doneBy_1 14 rfl rfl)
theorem dX2_doneBy_39 : decode cX2_doneBy 39 = .ok (.getfield 56, 3) := dk_180 0 56 (dk_at dksX2_doneBy_1 15 rfl rfl)
theorem dX2_doneBy_42 : decode cX2_doneBy 42 = .ok (.iload 4, 2) := dk_21 4 (dk_at dksX2_doneBy_1 18 rfl rfl)
theorem dX2_doneBy_44 : decode cX2_doneBy 44 = .ok (.iaload, 1) := dk_46 (dk_at dksX2_doneBy_1 20 rfl rfl)
theorem dX2_doneBy_45 : decode cX2_doneBy 45 = .ok (.iload_n 3, 1) := dk_29 (dk_at dksX2_doneBy_1 21 rfl rfl)
theorem dX2_doneBy_46 : decode cX2_doneBy 46 = .ok (.iload_n 2, 1) := dk_28 (dk_at dksX2_doneBy_1 22 rfl rfl)
theorem dX2_doneBy_47 : decode cX2_doneBy 47 = .ok (.invokevirtual 320, 3) := dk_182 1 64 (dk_at dksX2_doneBy_2 0 rfl rfl)
theorem dX2_doneBy_50 : decode cX2_doneBy 50 = .ok (.if_icmp .ge 19, 3) := dk_162 0 19 (dk_at dksX2_doneBy_2 3 rfl rfl)
theorem dX2_doneBy_53 : decode cX2_doneBy 53 = .ok (.iinc 3 1, 3) := dk_132 3 1 (dk_at dksX2_doneBy_2 6 rfl rfl)
theorem dX2_doneBy_56 : decode cX2_doneBy 56 = .ok (.iload_n 2, 1) := dk_28 (dk_at dksX2_doneBy_2 9 rfl rfl)
theorem dX2_doneBy_57 : decode cX2_doneBy 57 = .ok (.aload_n 0, 1) := dk_42 (dk_at dksX2_doneBy_2 10 rfl rfl)
theorem dX2_doneBy_58 : decode cX2_doneBy 58 = .ok (.getfield 7, 3) := dk_180 0 7 (dk_at dksX2_doneBy_2 11 rfl rfl)
theorem dX2_doneBy_61 : decode cX2_doneBy 61 = .ok (.bipush 114, 2) := dk_16 114 (dk_at dksX2_doneBy_2 14 rfl rfl)
theorem dX2_doneBy_63 : decode cX2_doneBy 63 = .ok (.iaload, 1) := dk_46 (dk_at dksX2_doneBy_2 16 rfl rfl)
theorem dX2_doneBy_64 : decode cX2_doneBy 64 = .ok (.iadd, 1) := dk_96 (dk_at dksX2_doneBy_2 17 rfl rfl)
theorem dX2_doneBy_65 : decode cX2_doneBy 65 = .ok (.istore_n 2, 1) := dk_61 (dk_at dksX2_doneBy_2 18 rfl rfl)
theorem dX2_doneBy_66 : decode cX2_doneBy 66 = .ok (.goto (-42), 3) := dk_167 255 214 (dk_at dksX2_doneBy_2 19 rfl rfl)
theorem dX2_doneBy_69 : decode cX2_doneBy 69 = .ok (.iload_n 3, 1) := dk_29 (dk_at dksX2_doneBy_2 22 rfl rfl)
theorem dX2_doneBy_70 : decode cX2_doneBy 70 = .ok (.bipush 60, 2) := dk_16 60 (dk_at dksX2_doneBy_3 0 rfl rfl)
theorem dX2_doneBy_72 : decode cX2_doneBy 72 = .ok (.if_icmp .le 5, 3) := dk_164 0 5 (dk_at dksX2_doneBy_3 2 rfl rfl)
theorem dX2_doneBy_75 : decode cX2_doneBy 75 = .ok (.iconst (-1), 1) := dk_2 (dk_at dksX2_doneBy_3 5 rfl rfl)
theorem dX2_doneBy_76 : decode cX2_doneBy 76 = .ok (.ireturn, 1) := dk_172 (dk_at dksX2_doneBy_3 6 rfl rfl)
theorem dX2_doneBy_77 : decode cX2_doneBy 77 = .ok (.aload_n 0, 1) := dk_42 (dk_at dksX2_doneBy_3 7 rfl rfl)
theorem dX2_doneBy_78 : decode cX2_doneBy 78 = .ok (.aload_n 0, 1) := dk_42 (dk_at dksX2_doneBy_3 8 rfl rfl)
theorem dX2_doneBy_79 : decode cX2_doneBy 79 = .ok (.getfield 7, 3) := dk_180 0 7 (dk_at dksX2_doneBy_3 9 rfl rfl)
theorem dX2_doneBy_82 : decode cX2_doneBy 82 = .ok (.iconst 2, 1) := dk_5 (dk_at dksX2_doneBy_3 12 rfl rfl)
theorem dX2_doneBy_83 : decode cX2_doneBy 83 = .ok (.iaload, 1) := dk_46 (dk_at dksX2_doneBy_3 13 rfl rfl)
theorem dX2_doneBy_84 : decode cX2_doneBy 84 = .ok (.aload_n 0, 1) := dk_42 (dk_at dksX2_doneBy_3 14 rfl rfl)
theorem dX2_doneBy_85 : decode cX2_doneBy 85 = .ok (.getfield 56, 3) := dk_180 0 56 (dk_at dksX2_doneBy_3 15 rfl rfl)
theorem dX2_doneBy_88 : decode cX2_doneBy 88 = .ok (.iload 4, 2) := dk_21 4 (dk_at dksX2_doneBy_3 18 rfl rfl)
theorem dX2_doneBy_90 : decode cX2_doneBy 90 = .ok (.iaload, 1) := dk_46 (dk_at dksX2_doneBy_3 20 rfl rfl)
theorem dX2_doneBy_91 : decode cX2_doneBy 91 = .ok (.iload_n 3, 1) := dk_29 (dk_at dksX2_doneBy_3 21 rfl rfl)
theorem dX2_doneBy_92 : decode cX2_doneBy 92 = .ok (.iload_n 2, 1) := dk_28 (dk_at dksX2_doneBy_3 22 rfl rfl)
theorem dX2_doneBy_93 : decode cX2_doneBy 93 = .ok (.invokevirtual 320, 3) := dk_182 1 64 (dk_at dksX2_doneBy_4 0 rfl rfl)
theorem dX2_doneBy_96 : decode cX2_doneBy 96 = .ok (.istore 5, 2) := dk_54 5 (dk_at dksX2_doneBy_4 3 rfl rfl)
theorem dX2_doneBy_98 : decode cX2_doneBy 98 = .ok (.iload_n 2, 1) := dk_28 (dk_at dksX2_doneBy_4 5 rfl rfl)
theorem dX2_doneBy_99 : decode cX2_doneBy 99 = .ok (.iload 5, 2) := dk_21 5 (dk_at dksX2_doneBy_4 6 rfl rfl)
theorem dX2_doneBy_101 : decode cX2_doneBy 101 = .ok (.isub, 1) := dk_100 (dk_at dksX2_doneBy_4 8 rfl rfl)
theorem dX2_doneBy_102 : decode cX2_doneBy 102 = .ok (.istore_n 2, 1) := dk_61 (dk_at dksX2_doneBy_4 9 rfl rfl)
theorem dX2_doneBy_103 : decode cX2_doneBy 103 = .ok (.aload_n 0, 1) := dk_42 (dk_at dksX2_doneBy_4 10 rfl rfl)
theorem dX2_doneBy_104 : decode cX2_doneBy 104 = .ok (.dup, 1) := dk_89 (dk_at dksX2_doneBy_4 11 rfl rfl)
theorem dX2_doneBy_105 : decode cX2_doneBy 105 = .ok (.getfield 439, 3) := dk_180 1 183 (dk_at dksX2_doneBy_4 12 rfl rfl)
theorem dX2_doneBy_108 : decode cX2_doneBy 108 = .ok (.iload 5, 2) := dk_21 5 (dk_at dksX2_doneBy_4 15 rfl rfl)
theorem dX2_doneBy_110 : decode cX2_doneBy 110 = .ok (.iadd, 1) := dk_96 (dk_at dksX2_doneBy_4 17 rfl rfl)
theorem dX2_doneBy_111 : decode cX2_doneBy 111 = .ok (.putfield 439, 3) := dk_181 1 183 (dk_at dksX2_doneBy_4 18 rfl rfl)
theorem dX2_doneBy_114 : decode cX2_doneBy 114 = .ok (.iinc 4 1, 3) := dk_132 4 1 (dk_at dksX2_doneBy_4 21 rfl rfl)
theorem dX2_doneBy_117 : decode cX2_doneBy 117 = .ok (.goto (-99), 3) := dk_167 255 157 (dk_at dksX2_doneBy_5 0 rfl rfl)
theorem dX2_doneBy_120 : decode cX2_doneBy 120 = .ok (.iload_n 3, 1) := dk_29 (dk_at dksX2_doneBy_5 3 rfl rfl)
theorem dX2_doneBy_121 : decode cX2_doneBy 121 = .ok (.ireturn, 1) := dk_172 (dk_at dksX2_doneBy_5 4 rfl rfl)
abbrev cX2_best : ByteArray := prog_20_method_128_code
def yX2_best : MethodName := ⟨RX2, "best", "(IIZ)I"⟩
def dkwX2_best_4 : List UInt8 := [153, 0, 8, 21, 4, 167, 0, 5, 21, 5, 172]
abbrev dktX2_best_4 : List UInt8 := dkwX2_best_4 ++ []
def dkwX2_best_3 : List UInt8 := [21, 5, 161, 0, 6, 167, 0, 11, 21, 7, 54, 5, 21, 6, 54, 4, 132, 6, 1, 167, 255, 207, 29]
abbrev dktX2_best_3 : List UInt8 := dkwX2_best_3 ++ dktX2_best_4
def dkwX2_best_2 : List UInt8 := [42, 42, 180, 0, 7, 5, 46, 27, 21, 6, 42, 180, 0, 7, 16, 9, 46, 182, 1, 64, 54, 7, 21, 7]
abbrev dktX2_best_2 : List UInt8 := dkwX2_best_2 ++ dktX2_best_3
def dkwX2_best_1 : List UInt8 := [154, 0, 5, 2, 172, 3, 54, 4, 42, 27, 182, 1, 74, 54, 5, 4, 54, 6, 21, 6, 28, 163, 0, 49]
abbrev dktX2_best_1 : List UInt8 := dkwX2_best_1 ++ dktX2_best_2
def dkwX2_best_0 : List UInt8 := [42, 27, 182, 1, 86, 153, 0, 21, 42, 27, 182, 0, 89, 153, 0, 13, 28, 3, 16, 60, 184, 0, 81]
abbrev dktX2_best_0 : List UInt8 := dkwX2_best_0 ++ dktX2_best_1
theorem dksX2_best_0 : cX2_best.data.toList.drop 0 = dktX2_best_0 := by decide +kernel
theorem dksX2_best_1 : cX2_best.data.toList.drop 23 = dktX2_best_1 := dk_seg dksX2_best_0 23 rfl rfl
theorem dksX2_best_2 : cX2_best.data.toList.drop 47 = dktX2_best_2 := dk_seg dksX2_best_1 24 rfl rfl
theorem dksX2_best_3 : cX2_best.data.toList.drop 71 = dktX2_best_3 := dk_seg dksX2_best_2 24 rfl rfl
theorem dksX2_best_4 : cX2_best.data.toList.drop 94 = dktX2_best_4 := dk_seg dksX2_best_3 23 rfl rfl
theorem dX2_best_0 : decode cX2_best 0 = .ok (.aload_n 0, 1) := dk_42 (dk_at dksX2_best_0 0 rfl rfl)
theorem dX2_best_1 : decode cX2_best 1 = .ok (.iload_n 1, 1) := dk_27 (dk_at dksX2_best_0 1 rfl rfl)
theorem dX2_best_2 : decode cX2_best 2 = .ok (.invokevirtual 342, 3) := dk_182 1 86 (dk_at dksX2_best_0 2 rfl rfl)
theorem dX2_best_5 : decode cX2_best 5 = .ok (.ifCond .eq 21, 3) := dk_153 0 21 (dk_at dksX2_best_0 5 rfl rfl)
theorem dX2_best_8 : decode cX2_best 8 = .ok (.aload_n 0, 1) := dk_42 (dk_at dksX2_best_0 8 rfl rfl)
theorem dX2_best_9 : decode cX2_best 9 = .ok (.iload_n 1, 1) := dk_27 (dk_at dksX2_best_0 9 rfl rfl)
theorem dX2_best_10 : decode cX2_best 10 = .ok (.invokevirtual 89, 3) := dk_182 0 89 (dk_at dksX2_best_0 10 rfl rfl)
theorem dX2_best_13 : decode cX2_best 13 = .ok (.ifCond .eq 13, 3) := dk_153 0 13 (dk_at dksX2_best_0 13 rfl rfl)
theorem dX2_best_16 : decode cX2_best 16 = .ok (.iload_n 2, 1) := dk_28 (dk_at dksX2_best_0 16 rfl rfl)
theorem dX2_best_17 : decode cX2_best 17 = .ok (.iconst 0, 1) := dk_3 (dk_at dksX2_best_0 17 rfl rfl)
theorem dX2_best_18 : decode cX2_best 18 = .ok (.bipush 60, 2) := dk_16 60 (dk_at dksX2_best_0 18 rfl rfl)
theorem dX2_best_20 : decode cX2_best 20 = .ok (.invokestatic 81, 3) := dk_184 0 81 (dk_at dksX2_best_0 20 rfl rfl)
theorem dX2_best_23 : decode cX2_best 23 = .ok (.ifCond .ne 5, 3) := dk_154 0 5 (dk_at dksX2_best_1 0 rfl rfl)
theorem dX2_best_26 : decode cX2_best 26 = .ok (.iconst (-1), 1) := dk_2 (dk_at dksX2_best_1 3 rfl rfl)
theorem dX2_best_27 : decode cX2_best 27 = .ok (.ireturn, 1) := dk_172 (dk_at dksX2_best_1 4 rfl rfl)
theorem dX2_best_28 : decode cX2_best 28 = .ok (.iconst 0, 1) := dk_3 (dk_at dksX2_best_1 5 rfl rfl)
theorem dX2_best_29 : decode cX2_best 29 = .ok (.istore 4, 2) := dk_54 4 (dk_at dksX2_best_1 6 rfl rfl)
theorem dX2_best_31 : decode cX2_best 31 = .ok (.aload_n 0, 1) := dk_42 (dk_at dksX2_best_1 8 rfl rfl)
theorem dX2_best_32 : decode cX2_best 32 = .ok (.iload_n 1, 1) := dk_27 (dk_at dksX2_best_1 9 rfl rfl)
theorem dX2_best_33 : decode cX2_best 33 = .ok (.invokevirtual 330, 3) := dk_182 1 74 (dk_at dksX2_best_1 10 rfl rfl)
theorem dX2_best_36 : decode cX2_best 36 = .ok (.istore 5, 2) := dk_54 5 (dk_at dksX2_best_1 13 rfl rfl)
theorem dX2_best_38 : decode cX2_best 38 = .ok (.iconst 1, 1) := dk_4 (dk_at dksX2_best_1 15 rfl rfl)
theorem dX2_best_39 : decode cX2_best 39 = .ok (.istore 6, 2) := dk_54 6 (dk_at dksX2_best_1 16 rfl rfl)
theorem dX2_best_41 : decode cX2_best 41 = .ok (.iload 6, 2) := dk_21 6 (dk_at dksX2_best_1 18 rfl rfl)
theorem dX2_best_43 : decode cX2_best 43 = .ok (.iload_n 2, 1) := dk_28 (dk_at dksX2_best_1 20 rfl rfl)
theorem dX2_best_44 : decode cX2_best 44 = .ok (.if_icmp .gt 49, 3) := dk_163 0 49 (dk_at dksX2_best_1 21 rfl rfl)
theorem dX2_best_47 : decode cX2_best 47 = .ok (.aload_n 0, 1) := dk_42 (dk_at dksX2_best_2 0 rfl rfl)
theorem dX2_best_48 : decode cX2_best 48 = .ok (.aload_n 0, 1) := dk_42 (dk_at dksX2_best_2 1 rfl rfl)
theorem dX2_best_49 : decode cX2_best 49 = .ok (.getfield 7, 3) := dk_180 0 7 (dk_at dksX2_best_2 2 rfl rfl)
theorem dX2_best_52 : decode cX2_best 52 = .ok (.iconst 2, 1) := dk_5 (dk_at dksX2_best_2 5 rfl rfl)
theorem dX2_best_53 : decode cX2_best 53 = .ok (.iaload, 1) := dk_46 (dk_at dksX2_best_2 6 rfl rfl)
theorem dX2_best_54 : decode cX2_best 54 = .ok (.iload_n 1, 1) := dk_27 (dk_at dksX2_best_2 7 rfl rfl)
theorem dX2_best_55 : decode cX2_best 55 = .ok (.iload 6, 2) := dk_21 6 (dk_at dksX2_best_2 8 rfl rfl)
theorem dX2_best_57 : decode cX2_best 57 = .ok (.aload_n 0, 1) := dk_42 (dk_at dksX2_best_2 10 rfl rfl)
theorem dX2_best_58 : decode cX2_best 58 = .ok (.getfield 7, 3) := dk_180 0 7 (dk_at dksX2_best_2 11 rfl rfl)
theorem dX2_best_61 : decode cX2_best 61 = .ok (.bipush 9, 2) := dk_16 9 (dk_at dksX2_best_2 14 rfl rfl)
theorem dX2_best_63 : decode cX2_best 63 = .ok (.iaload, 1) := dk_46 (dk_at dksX2_best_2 16 rfl rfl)
theorem dX2_best_64 : decode cX2_best 64 = .ok (.invokevirtual 320, 3) := dk_182 1 64 (dk_at dksX2_best_2 17 rfl rfl)
theorem dX2_best_67 : decode cX2_best 67 = .ok (.istore 7, 2) := dk_54 7 (dk_at dksX2_best_2 20 rfl rfl)
theorem dX2_best_69 : decode cX2_best 69 = .ok (.iload 7, 2) := dk_21 7 (dk_at dksX2_best_2 22 rfl rfl)
theorem dX2_best_71 : decode cX2_best 71 = .ok (.iload 5, 2) := dk_21 5 (dk_at dksX2_best_3 0 rfl rfl)
theorem dX2_best_73 : decode cX2_best 73 = .ok (.if_icmp .lt 6, 3) := dk_161 0 6 (dk_at dksX2_best_3 2 rfl rfl)
theorem dX2_best_76 : decode cX2_best 76 = .ok (.goto 11, 3) := dk_167 0 11 (dk_at dksX2_best_3 5 rfl rfl)
theorem dX2_best_79 : decode cX2_best 79 = .ok (.iload 7, 2) := dk_21 7 (dk_at dksX2_best_3 8 rfl rfl)
theorem dX2_best_81 : decode cX2_best 81 = .ok (.istore 5, 2) := dk_54 5 (dk_at dksX2_best_3 10 rfl rfl)
theorem dX2_best_83 : decode cX2_best 83 = .ok (.iload 6, 2) := dk_21 6 (dk_at dksX2_best_3 12 rfl rfl)
theorem dX2_best_85 : decode cX2_best 85 = .ok (.istore 4, 2) := dk_54 4 (dk_at dksX2_best_3 14 rfl rfl)
theorem dX2_best_87 : decode cX2_best 87 = .ok (.iinc 6 1, 3) := dk_132 6 1 (dk_at dksX2_best_3 16 rfl rfl)
theorem dX2_best_90 : decode cX2_best 90 = .ok (.goto (-49), 3) := dk_167 255 207 (dk_at dksX2_best_3 19 rfl rfl)
theorem dX2_best_93 : decode cX2_best 93 = .ok (.iload_n 3, 1) := dk_29 (dk_at dksX2_best_3 22 rfl rfl)
theorem dX2_best_94 : decode cX2_best 94 = .ok (.ifCond .eq 8, 3) := dk_153 0 8 (dk_at dksX2_best_4 0 rfl rfl)
theorem dX2_best_97 : decode cX2_best 97 = .ok (.iload 4, 2) := dk_21 4 (dk_at dksX2_best_4 3 rfl rfl)
theorem dX2_best_99 : decode cX2_best 99 = .ok (.goto 5, 3) := dk_167 0 5 (dk_at dksX2_best_4 5 rfl rfl)
theorem dX2_best_102 : decode cX2_best 102 = .ok (.iload 5, 2) := dk_21 5 (dk_at dksX2_best_4 8 rfl rfl)
theorem dX2_best_104 : decode cX2_best 104 = .ok (.ireturn, 1) := dk_172 (dk_at dksX2_best_4 10 rfl rfl)
abbrev cX2_tickets : ByteArray := prog_20_method_131_code
def yX2_tickets : MethodName := ⟨RX2, "tickets", "(I)I"⟩
def dkwX2_tickets_2 : List UInt8 := [2, 160, 0, 7, 28, 167, 0, 4, 29, 172]
abbrev dktX2_tickets_2 : List UInt8 := dkwX2_tickets_2 ++ []
def dkwX2_tickets_1 : List UInt8 := [154, 0, 6, 167, 0, 14, 28, 27, 160, 0, 6, 21, 4, 62, 132, 2, 1, 132, 4, 1, 167, 255, 222, 27]
abbrev dktX2_tickets_1 : List UInt8 := dkwX2_tickets_1 ++ dktX2_tickets_2
def dkwX2_tickets_0 : List UInt8 := [3, 61, 16, 254, 62, 3, 54, 4, 21, 4, 17, 39, 16, 162, 0, 32, 42, 21, 4, 182, 1, 208]
abbrev dktX2_tickets_0 : List UInt8 := dkwX2_tickets_0 ++ dktX2_tickets_1
theorem dksX2_tickets_0 : cX2_tickets.data.toList.drop 0 = dktX2_tickets_0 := by decide +kernel
theorem dksX2_tickets_1 : cX2_tickets.data.toList.drop 22 = dktX2_tickets_1 := dk_seg dksX2_tickets_0 22 rfl rfl
theorem dksX2_tickets_2 : cX2_tickets.data.toList.drop 46 = dktX2_tickets_2 := dk_seg dksX2_tickets_1 24 rfl rfl
theorem dX2_tickets_0 : decode cX2_tickets 0 = .ok (.iconst 0, 1) := dk_3 (dk_at dksX2_tickets_0 0 rfl rfl)
theorem dX2_tickets_1 : decode cX2_tickets 1 = .ok (.istore_n 2, 1) := dk_61 (dk_at dksX2_tickets_0 1 rfl rfl)
theorem dX2_tickets_2 : decode cX2_tickets 2 = .ok (.bipush (-2), 2) := dk_16 254 (dk_at dksX2_tickets_0 2 rfl rfl)
theorem dX2_tickets_4 : decode cX2_tickets 4 = .ok (.istore_n 3, 1) := dk_62 (dk_at dksX2_tickets_0 4 rfl rfl)
theorem dX2_tickets_5 : decode cX2_tickets 5 = .ok (.iconst 0, 1) := dk_3 (dk_at dksX2_tickets_0 5 rfl rfl)
theorem dX2_tickets_6 : decode cX2_tickets 6 = .ok (.istore 4, 2) := dk_54 4 (dk_at dksX2_tickets_0 6 rfl rfl)
theorem dX2_tickets_8 : decode cX2_tickets 8 = .ok (.iload 4, 2) := dk_21 4 (dk_at dksX2_tickets_0 8 rfl rfl)
theorem dX2_tickets_10 : decode cX2_tickets 10 = .ok (.sipush 10000, 3) := dk_17 39 16 (dk_at dksX2_tickets_0 10 rfl rfl)
theorem dX2_tickets_13 : decode cX2_tickets 13 = .ok (.if_icmp .ge 32, 3) := dk_162 0 32 (dk_at dksX2_tickets_0 13 rfl rfl)
theorem dX2_tickets_16 : decode cX2_tickets 16 = .ok (.aload_n 0, 1) := dk_42 (dk_at dksX2_tickets_0 16 rfl rfl)
theorem dX2_tickets_17 : decode cX2_tickets 17 = .ok (.iload 4, 2) := dk_21 4 (dk_at dksX2_tickets_0 17 rfl rfl)
theorem dX2_tickets_19 : decode cX2_tickets 19 = .ok (.invokevirtual 464, 3) := dk_182 1 208 (dk_at dksX2_tickets_0 19 rfl rfl)
theorem dX2_tickets_22 : decode cX2_tickets 22 = .ok (.ifCond .ne 6, 3) := dk_154 0 6 (dk_at dksX2_tickets_1 0 rfl rfl)
theorem dX2_tickets_25 : decode cX2_tickets 25 = .ok (.goto 14, 3) := dk_167 0 14 (dk_at dksX2_tickets_1 3 rfl rfl)
theorem dX2_tickets_28 : decode cX2_tickets 28 = .ok (.iload_n 2, 1) := dk_28 (dk_at dksX2_tickets_1 6 rfl rfl)
theorem dX2_tickets_29 : decode cX2_tickets 29 = .ok (.iload_n 1, 1) := dk_27 (dk_at dksX2_tickets_1 7 rfl rfl)
theorem dX2_tickets_30 : decode cX2_tickets 30 = .ok (.if_icmp .ne 6, 3) := dk_160 0 6 (dk_at dksX2_tickets_1 8 rfl rfl)
theorem dX2_tickets_33 : decode cX2_tickets 33 = .ok (.iload 4, 2) := dk_21 4 (dk_at dksX2_tickets_1 11 rfl rfl)
theorem dX2_tickets_35 : decode cX2_tickets 35 = .ok (.istore_n 3, 1) := dk_62 (dk_at dksX2_tickets_1 13 rfl rfl)
theorem dX2_tickets_36 : decode cX2_tickets 36 = .ok (.iinc 2 1, 3) := dk_132 2 1 (dk_at dksX2_tickets_1 14 rfl rfl)
theorem dX2_tickets_39 : decode cX2_tickets 39 = .ok (.iinc 4 1, 3) := dk_132 4 1 (dk_at dksX2_tickets_1 17 rfl rfl)
theorem dX2_tickets_42 : decode cX2_tickets 42 = .ok (.goto (-34), 3) := dk_167 255 222 (dk_at dksX2_tickets_1 20 rfl rfl)
theorem dX2_tickets_45 : decode cX2_tickets 45 = .ok (.iload_n 1, 1) := dk_27 (dk_at dksX2_tickets_1 23 rfl rfl)
theorem dX2_tickets_46 : decode cX2_tickets 46 = .ok (.iconst (-1), 1) := dk_2 (dk_at dksX2_tickets_2 0 rfl rfl)
theorem dX2_tickets_47 : decode cX2_tickets 47 = .ok (.if_icmp .ne 7, 3) := dk_160 0 7 (dk_at dksX2_tickets_2 1 rfl rfl)
theorem dX2_tickets_50 : decode cX2_tickets 50 = .ok (.iload_n 2, 1) := dk_28 (dk_at dksX2_tickets_2 4 rfl rfl)
theorem dX2_tickets_51 : decode cX2_tickets 51 = .ok (.goto 4, 3) := dk_167 0 4 (dk_at dksX2_tickets_2 5 rfl rfl)
theorem dX2_tickets_54 : decode cX2_tickets 54 = .ok (.iload_n 3, 1) := dk_29 (dk_at dksX2_tickets_2 8 rfl rfl)
theorem dX2_tickets_55 : decode cX2_tickets 55 = .ok (.ireturn, 1) := dk_172 (dk_at dksX2_tickets_2 9 rfl rfl)
abbrev cX2_isTicket : ByteArray := prog_20_method_130_code
def yX2_isTicket : MethodName := ⟨RX2, "isTicket", "(I)Z"⟩
def dkwX2_isTicket_3 : List UInt8 := [184, 1, 205, 104, 96, 16, 10, 112, 154, 0, 7, 4, 167, 0, 4, 3, 172]
abbrev dktX2_isTicket_3 : List UInt8 := dkwX2_isTicket_3 ++ []
def dkwX2_isTicket_2 : List UInt8 := [184, 1, 205, 6, 27, 4, 184, 1, 205, 104, 96, 16, 7, 27, 5, 184, 1, 205, 104, 96, 16, 9, 27, 6]
abbrev dktX2_isTicket_2 : List UInt8 := dkwX2_isTicket_2 ++ dktX2_isTicket_3
def dkwX2_isTicket_1 : List UInt8 := [16, 110, 28, 96, 46, 27, 28, 184, 1, 205, 159, 0, 5, 3, 172, 132, 2, 1, 167, 255, 216, 27, 3]
abbrev dktX2_isTicket_1 : List UInt8 := dkwX2_isTicket_1 ++ dktX2_isTicket_2
def dkwX2_isTicket_0 : List UInt8 := [3, 61, 28, 7, 162, 0, 41, 42, 180, 0, 7, 16, 110, 28, 96, 46, 2, 159, 0, 22, 42, 180, 0, 7]
abbrev dktX2_isTicket_0 : List UInt8 := dkwX2_isTicket_0 ++ dktX2_isTicket_1
theorem dksX2_isTicket_0 : cX2_isTicket.data.toList.drop 0 = dktX2_isTicket_0 := by decide +kernel
theorem dksX2_isTicket_1 : cX2_isTicket.data.toList.drop 24 = dktX2_isTicket_1 := dk_seg dksX2_isTicket_0 24 rfl rfl
theorem dksX2_isTicket_2 : cX2_isTicket.data.toList.drop 47 = dktX2_isTicket_2 := dk_seg dksX2_isTicket_1 23 rfl rfl
theorem dksX2_isTicket_3 : cX2_isTicket.data.toList.drop 71 = dktX2_isTicket_3 := dk_seg dksX2_isTicket_2 24 rfl rfl
theorem dX2_isTicket_0 : decode cX2_isTicket 0 = .ok (.iconst 0, 1) := dk_3 (dk_at dksX2_isTicket_0 0 rfl rfl)
theorem dX2_isTicket_1 : decode cX2_isTicket 1 = .ok (.istore_n 2, 1) := dk_61 (dk_at dksX2_isTicket_0 1 rfl rfl)
theorem dX2_isTicket_2 : decode cX2_isTicket 2 = .ok (.iload_n 2, 1) := dk_28 (dk_at dksX2_isTicket_0 2 rfl rfl)
theorem dX2_isTicket_3 : decode cX2_isTicket 3 = .ok (.iconst 4, 1) := dk_7 (dk_at dksX2_isTicket_0 3 rfl rfl)
theorem dX2_isTicket_4 : decode cX2_isTicket 4 = .ok (.if_icmp .ge 41, 3) := dk_162 0 41 (dk_at dksX2_isTicket_0 4 rfl rfl)
theorem dX2_isTicket_7 : decode cX2_isTicket 7 = .ok (.aload_n 0, 1) := dk_42 (dk_at dksX2_isTicket_0 7 rfl rfl)
theorem dX2_isTicket_8 : decode cX2_isTicket 8 = .ok (.getfield 7, 3) := dk_180 0 7 (dk_at dksX2_isTicket_0 8 rfl rfl)
theorem dX2_isTicket_11 : decode cX2_isTicket 11 = .ok (.bipush 110, 2) := dk_16 110 (dk_at dksX2_isTicket_0 11 rfl rfl)
theorem dX2_isTicket_13 : decode cX2_isTicket 13 = .ok (.iload_n 2, 1) := dk_28 (dk_at dksX2_isTicket_0 13 rfl rfl)
theorem dX2_isTicket_14 : decode cX2_isTicket 14 = .ok (.iadd, 1) := dk_96 (dk_at dksX2_isTicket_0 14 rfl rfl)
theorem dX2_isTicket_15 : decode cX2_isTicket 15 = .ok (.iaload, 1) := dk_46 (dk_at dksX2_isTicket_0 15 rfl rfl)
theorem dX2_isTicket_16 : decode cX2_isTicket 16 = .ok (.iconst (-1), 1) := dk_2 (dk_at dksX2_isTicket_0 16 rfl rfl)
theorem dX2_isTicket_17 : decode cX2_isTicket 17 = .ok (.if_icmp .eq 22, 3) := dk_159 0 22 (dk_at dksX2_isTicket_0 17 rfl rfl)
theorem dX2_isTicket_20 : decode cX2_isTicket 20 = .ok (.aload_n 0, 1) := dk_42 (dk_at dksX2_isTicket_0 20 rfl rfl)
theorem dX2_isTicket_21 : decode cX2_isTicket 21 = .ok (.getfield 7, 3) := dk_180 0 7 (dk_at dksX2_isTicket_0 21 rfl rfl)
theorem dX2_isTicket_24 : decode cX2_isTicket 24 = .ok (.bipush 110, 2) := dk_16 110 (dk_at dksX2_isTicket_1 0 rfl rfl)
theorem dX2_isTicket_26 : decode cX2_isTicket 26 = .ok (.iload_n 2, 1) := dk_28 (dk_at dksX2_isTicket_1 2 rfl rfl)
theorem dX2_isTicket_27 : decode cX2_isTicket 27 = .ok (.iadd, 1) := dk_96 (dk_at dksX2_isTicket_1 3 rfl rfl)
theorem dX2_isTicket_28 : decode cX2_isTicket 28 = .ok (.iaload, 1) := dk_46 (dk_at dksX2_isTicket_1 4 rfl rfl)
theorem dX2_isTicket_29 : decode cX2_isTicket 29 = .ok (.iload_n 1, 1) := dk_27 (dk_at dksX2_isTicket_1 5 rfl rfl)
theorem dX2_isTicket_30 : decode cX2_isTicket 30 = .ok (.iload_n 2, 1) := dk_28 (dk_at dksX2_isTicket_1 6 rfl rfl)
theorem dX2_isTicket_31 : decode cX2_isTicket 31 = .ok (.invokestatic 461, 3) := dk_184 1 205 (dk_at dksX2_isTicket_1 7 rfl rfl)
theorem dX2_isTicket_34 : decode cX2_isTicket 34 = .ok (.if_icmp .eq 5, 3) := dk_159 0 5 (dk_at dksX2_isTicket_1 10 rfl rfl)
theorem dX2_isTicket_37 : decode cX2_isTicket 37 = .ok (.iconst 0, 1) := dk_3 (dk_at dksX2_isTicket_1 13 rfl rfl)
theorem dX2_isTicket_38 : decode cX2_isTicket 38 = .ok (.ireturn, 1) := dk_172 (dk_at dksX2_isTicket_1 14 rfl rfl)
theorem dX2_isTicket_39 : decode cX2_isTicket 39 = .ok (.iinc 2 1, 3) := dk_132 2 1 (dk_at dksX2_isTicket_1 15 rfl rfl)
theorem dX2_isTicket_42 : decode cX2_isTicket 42 = .ok (.goto (-40), 3) := dk_167 255 216 (dk_at dksX2_isTicket_1 18 rfl rfl)
theorem dX2_isTicket_45 : decode cX2_isTicket 45 = .ok (.iload_n 1, 1) := dk_27 (dk_at dksX2_isTicket_1 21 rfl rfl)
theorem dX2_isTicket_46 : decode cX2_isTicket 46 = .ok (.iconst 0, 1) := dk_3 (dk_at dksX2_isTicket_1 22 rfl rfl)
theorem dX2_isTicket_47 : decode cX2_isTicket 47 = .ok (.invokestatic 461, 3) := dk_184 1 205 (dk_at dksX2_isTicket_2 0 rfl rfl)
theorem dX2_isTicket_50 : decode cX2_isTicket 50 = .ok (.iconst 3, 1) := dk_6 (dk_at dksX2_isTicket_2 3 rfl rfl)
theorem dX2_isTicket_51 : decode cX2_isTicket 51 = .ok (.iload_n 1, 1) := dk_27 (dk_at dksX2_isTicket_2 4 rfl rfl)
theorem dX2_isTicket_52 : decode cX2_isTicket 52 = .ok (.iconst 1, 1) := dk_4 (dk_at dksX2_isTicket_2 5 rfl rfl)
theorem dX2_isTicket_53 : decode cX2_isTicket 53 = .ok (.invokestatic 461, 3) := dk_184 1 205 (dk_at dksX2_isTicket_2 6 rfl rfl)
theorem dX2_isTicket_56 : decode cX2_isTicket 56 = .ok (.imul, 1) := dk_104 (dk_at dksX2_isTicket_2 9 rfl rfl)
theorem dX2_isTicket_57 : decode cX2_isTicket 57 = .ok (.iadd, 1) := dk_96 (dk_at dksX2_isTicket_2 10 rfl rfl)
theorem dX2_isTicket_58 : decode cX2_isTicket 58 = .ok (.bipush 7, 2) := dk_16 7 (dk_at dksX2_isTicket_2 11 rfl rfl)
theorem dX2_isTicket_60 : decode cX2_isTicket 60 = .ok (.iload_n 1, 1) := dk_27 (dk_at dksX2_isTicket_2 13 rfl rfl)
theorem dX2_isTicket_61 : decode cX2_isTicket 61 = .ok (.iconst 2, 1) := dk_5 (dk_at dksX2_isTicket_2 14 rfl rfl)
theorem dX2_isTicket_62 : decode cX2_isTicket 62 = .ok (.invokestatic 461, 3) := dk_184 1 205 (dk_at dksX2_isTicket_2 15 rfl rfl)
theorem dX2_isTicket_65 : decode cX2_isTicket 65 = .ok (.imul, 1) := dk_104 (dk_at dksX2_isTicket_2 18 rfl rfl)
theorem dX2_isTicket_66 : decode cX2_isTicket 66 = .ok (.iadd, 1) := dk_96 (dk_at dksX2_isTicket_2 19 rfl rfl)
theorem dX2_isTicket_67 : decode cX2_isTicket 67 = .ok (.bipush 9, 2) := dk_16 9 (dk_at dksX2_isTicket_2 20 rfl rfl)
theorem dX2_isTicket_69 : decode cX2_isTicket 69 = .ok (.iload_n 1, 1) := dk_27 (dk_at dksX2_isTicket_2 22 rfl rfl)
theorem dX2_isTicket_70 : decode cX2_isTicket 70 = .ok (.iconst 3, 1) := dk_6 (dk_at dksX2_isTicket_2 23 rfl rfl)
theorem dX2_isTicket_71 : decode cX2_isTicket 71 = .ok (.invokestatic 461, 3) := dk_184 1 205 (dk_at dksX2_isTicket_3 0 rfl rfl)
theorem dX2_isTicket_74 : decode cX2_isTicket 74 = .ok (.imul, 1) := dk_104 (dk_at dksX2_isTicket_3 3 rfl rfl)
theorem dX2_isTicket_75 : decode cX2_isTicket 75 = .ok (.iadd, 1) := dk_96 (dk_at dksX2_isTicket_3 4 rfl rfl)
theorem dX2_isTicket_76 : decode cX2_isTicket 76 = .ok (.bipush 10, 2) := dk_16 10 (dk_at dksX2_isTicket_3 5 rfl rfl)
theorem dX2_isTicket_78 : decode cX2_isTicket 78 = .ok (.irem, 1) := dk_112 (dk_at dksX2_isTicket_3 7 rfl rfl)
theorem dX2_isTicket_79 : decode cX2_isTicket 79 = .ok (.ifCond .ne 7, 3) := dk_154 0 7 (dk_at dksX2_isTicket_3 8 rfl rfl)
theorem dX2_isTicket_82 : decode cX2_isTicket 82 = .ok (.iconst 1, 1) := dk_4 (dk_at dksX2_isTicket_3 11 rfl rfl)
theorem dX2_isTicket_83 : decode cX2_isTicket 83 = .ok (.goto 4, 3) := dk_167 0 4 (dk_at dksX2_isTicket_3 12 rfl rfl)
theorem dX2_isTicket_86 : decode cX2_isTicket 86 = .ok (.iconst 0, 1) := dk_3 (dk_at dksX2_isTicket_3 15 rfl rfl)
theorem dX2_isTicket_87 : decode cX2_isTicket 87 = .ok (.ireturn, 1) := dk_172 (dk_at dksX2_isTicket_3 16 rfl rfl)
abbrev cX2_digitOf : ByteArray := prog_20_method_129_code
def yX2_digitOf : MethodName := ⟨RX2, "digitOf", "(II)I"⟩
def dkwX2_digitOf_1 : List UInt8 := [167, 0, 22, 27, 5, 160, 0, 13, 26, 16, 10, 108, 16, 10, 112, 167, 0, 7, 26, 16, 10, 112, 172]
abbrev dktX2_digitOf_1 : List UInt8 := dkwX2_digitOf_1 ++ []
def dkwX2_digitOf_0 : List UInt8 := [27, 154, 0, 11, 26, 17, 3, 232, 108, 167, 0, 37, 27, 4, 160, 0, 13, 26, 16, 100, 108, 16, 10, 112]
abbrev dktX2_digitOf_0 : List UInt8 := dkwX2_digitOf_0 ++ dktX2_digitOf_1
theorem dksX2_digitOf_0 : cX2_digitOf.data.toList.drop 0 = dktX2_digitOf_0 := by decide +kernel
theorem dksX2_digitOf_1 : cX2_digitOf.data.toList.drop 24 = dktX2_digitOf_1 := dk_seg dksX2_digitOf_0 24 rfl rfl
theorem dX2_digitOf_0 : decode cX2_digitOf 0 = .ok (.iload_n 1, 1) := dk_27 (dk_at dksX2_digitOf_0 0 rfl rfl)
theorem dX2_digitOf_1 : decode cX2_digitOf 1 = .ok (.ifCond .ne 11, 3) := dk_154 0 11 (dk_at dksX2_digitOf_0 1 rfl rfl)
theorem dX2_digitOf_4 : decode cX2_digitOf 4 = .ok (.iload_n 0, 1) := dk_26 (dk_at dksX2_digitOf_0 4 rfl rfl)
theorem dX2_digitOf_5 : decode cX2_digitOf 5 = .ok (.sipush 1000, 3) := dk_17 3 232 (dk_at dksX2_digitOf_0 5 rfl rfl)
theorem dX2_digitOf_8 : decode cX2_digitOf 8 = .ok (.idiv, 1) := dk_108 (dk_at dksX2_digitOf_0 8 rfl rfl)
theorem dX2_digitOf_9 : decode cX2_digitOf 9 = .ok (.goto 37, 3) := dk_167 0 37 (dk_at dksX2_digitOf_0 9 rfl rfl)
theorem dX2_digitOf_12 : decode cX2_digitOf 12 = .ok (.iload_n 1, 1) := dk_27 (dk_at dksX2_digitOf_0 12 rfl rfl)
theorem dX2_digitOf_13 : decode cX2_digitOf 13 = .ok (.iconst 1, 1) := dk_4 (dk_at dksX2_digitOf_0 13 rfl rfl)
theorem dX2_digitOf_14 : decode cX2_digitOf 14 = .ok (.if_icmp .ne 13, 3) := dk_160 0 13 (dk_at dksX2_digitOf_0 14 rfl rfl)
theorem dX2_digitOf_17 : decode cX2_digitOf 17 = .ok (.iload_n 0, 1) := dk_26 (dk_at dksX2_digitOf_0 17 rfl rfl)
theorem dX2_digitOf_18 : decode cX2_digitOf 18 = .ok (.bipush 100, 2) := dk_16 100 (dk_at dksX2_digitOf_0 18 rfl rfl)
theorem dX2_digitOf_20 : decode cX2_digitOf 20 = .ok (.idiv, 1) := dk_108 (dk_at dksX2_digitOf_0 20 rfl rfl)
theorem dX2_digitOf_21 : decode cX2_digitOf 21 = .ok (.bipush 10, 2) := dk_16 10 (dk_at dksX2_digitOf_0 21 rfl rfl)
theorem dX2_digitOf_23 : decode cX2_digitOf 23 = .ok (.irem, 1) := dk_112 (dk_at dksX2_digitOf_0 23 rfl rfl)
theorem dX2_digitOf_24 : decode cX2_digitOf 24 = .ok (.goto 22, 3) := dk_167 0 22 (dk_at dksX2_digitOf_1 0 rfl rfl)
theorem dX2_digitOf_27 : decode cX2_digitOf 27 = .ok (.iload_n 1, 1) := dk_27 (dk_at dksX2_digitOf_1 3 rfl rfl)
theorem dX2_digitOf_28 : decode cX2_digitOf 28 = .ok (.iconst 2, 1) := dk_5 (dk_at dksX2_digitOf_1 4 rfl rfl)
theorem dX2_digitOf_29 : decode cX2_digitOf 29 = .ok (.if_icmp .ne 13, 3) := dk_160 0 13 (dk_at dksX2_digitOf_1 5 rfl rfl)
theorem dX2_digitOf_32 : decode cX2_digitOf 32 = .ok (.iload_n 0, 1) := dk_26 (dk_at dksX2_digitOf_1 8 rfl rfl)
theorem dX2_digitOf_33 : decode cX2_digitOf 33 = .ok (.bipush 10, 2) := dk_16 10 (dk_at dksX2_digitOf_1 9 rfl rfl)
theorem dX2_digitOf_35 : decode cX2_digitOf 35 = .ok (.idiv, 1) := dk_108 (dk_at dksX2_digitOf_1 11 rfl rfl)
theorem dX2_digitOf_36 : decode cX2_digitOf 36 = .ok (.bipush 10, 2) := dk_16 10 (dk_at dksX2_digitOf_1 12 rfl rfl)
theorem dX2_digitOf_38 : decode cX2_digitOf 38 = .ok (.irem, 1) := dk_112 (dk_at dksX2_digitOf_1 14 rfl rfl)
theorem dX2_digitOf_39 : decode cX2_digitOf 39 = .ok (.goto 7, 3) := dk_167 0 7 (dk_at dksX2_digitOf_1 15 rfl rfl)
theorem dX2_digitOf_42 : decode cX2_digitOf 42 = .ok (.iload_n 0, 1) := dk_26 (dk_at dksX2_digitOf_1 18 rfl rfl)
theorem dX2_digitOf_43 : decode cX2_digitOf 43 = .ok (.bipush 10, 2) := dk_16 10 (dk_at dksX2_digitOf_1 19 rfl rfl)
theorem dX2_digitOf_45 : decode cX2_digitOf 45 = .ok (.irem, 1) := dk_112 (dk_at dksX2_digitOf_1 21 rfl rfl)
theorem dX2_digitOf_46 : decode cX2_digitOf 46 = .ok (.ireturn, 1) := dk_172 (dk_at dksX2_digitOf_1 22 rfl rfl)
abbrev cX2_hook : ByteArray := prog_20_method_132_code
def yX2_hook : MethodName := ⟨RX2, "hook", "(I)I"⟩
def dkwX2_hook_2 : List UInt8 := [7, 46, 96, 27, 79, 42, 180, 0, 7, 7, 92, 46, 4, 96, 79, 42, 180, 0, 7, 7, 46, 172]
abbrev dktX2_hook_2 : List UInt8 := dkwX2_hook_2 ++ []
def dkwX2_hook_1 : List UInt8 := [42, 180, 0, 7, 7, 46, 16, 6, 160, 0, 6, 16, 254, 172, 42, 180, 0, 7, 16, 68, 42, 180, 0, 7]
abbrev dktX2_hook_1 : List UInt8 := dkwX2_hook_1 ++ dktX2_hook_2
def dkwX2_hook_0 : List UInt8 := [27, 2, 160, 0, 12, 42, 180, 0, 7, 7, 3, 79, 3, 172, 27, 4, 16, 99, 184, 0, 81, 153, 0, 14]
abbrev dktX2_hook_0 : List UInt8 := dkwX2_hook_0 ++ dktX2_hook_1
theorem dksX2_hook_0 : cX2_hook.data.toList.drop 0 = dktX2_hook_0 := by decide +kernel
theorem dksX2_hook_1 : cX2_hook.data.toList.drop 24 = dktX2_hook_1 := dk_seg dksX2_hook_0 24 rfl rfl
theorem dksX2_hook_2 : cX2_hook.data.toList.drop 48 = dktX2_hook_2 := dk_seg dksX2_hook_1 24 rfl rfl
theorem dX2_hook_0 : decode cX2_hook 0 = .ok (.iload_n 1, 1) := dk_27 (dk_at dksX2_hook_0 0 rfl rfl)
theorem dX2_hook_1 : decode cX2_hook 1 = .ok (.iconst (-1), 1) := dk_2 (dk_at dksX2_hook_0 1 rfl rfl)
theorem dX2_hook_2 : decode cX2_hook 2 = .ok (.if_icmp .ne 12, 3) := dk_160 0 12 (dk_at dksX2_hook_0 2 rfl rfl)
theorem dX2_hook_5 : decode cX2_hook 5 = .ok (.aload_n 0, 1) := dk_42 (dk_at dksX2_hook_0 5 rfl rfl)
theorem dX2_hook_6 : decode cX2_hook 6 = .ok (.getfield 7, 3) := dk_180 0 7 (dk_at dksX2_hook_0 6 rfl rfl)
theorem dX2_hook_9 : decode cX2_hook 9 = .ok (.iconst 4, 1) := dk_7 (dk_at dksX2_hook_0 9 rfl rfl)
theorem dX2_hook_10 : decode cX2_hook 10 = .ok (.iconst 0, 1) := dk_3 (dk_at dksX2_hook_0 10 rfl rfl)
theorem dX2_hook_11 : decode cX2_hook 11 = .ok (.iastore, 1) := dk_79 (dk_at dksX2_hook_0 11 rfl rfl)
theorem dX2_hook_12 : decode cX2_hook 12 = .ok (.iconst 0, 1) := dk_3 (dk_at dksX2_hook_0 12 rfl rfl)
theorem dX2_hook_13 : decode cX2_hook 13 = .ok (.ireturn, 1) := dk_172 (dk_at dksX2_hook_0 13 rfl rfl)
theorem dX2_hook_14 : decode cX2_hook 14 = .ok (.iload_n 1, 1) := dk_27 (dk_at dksX2_hook_0 14 rfl rfl)
theorem dX2_hook_15 : decode cX2_hook 15 = .ok (.iconst 1, 1) := dk_4 (dk_at dksX2_hook_0 15 rfl rfl)
theorem dX2_hook_16 : decode cX2_hook 16 = .ok (.bipush 99, 2) := dk_16 99 (dk_at dksX2_hook_0 16 rfl rfl)
theorem dX2_hook_18 : decode cX2_hook 18 = .ok (.invokestatic 81, 3) := dk_184 0 81 (dk_at dksX2_hook_0 18 rfl rfl)
theorem dX2_hook_21 : decode cX2_hook 21 = .ok (.ifCond .eq 14, 3) := dk_153 0 14 (dk_at dksX2_hook_0 21 rfl rfl)
theorem dX2_hook_24 : decode cX2_hook 24 = .ok (.aload_n 0, 1) := dk_42 (dk_at dksX2_hook_1 0 rfl rfl)
theorem dX2_hook_25 : decode cX2_hook 25 = .ok (.getfield 7, 3) := dk_180 0 7 (dk_at dksX2_hook_1 1 rfl rfl)
theorem dX2_hook_28 : decode cX2_hook 28 = .ok (.iconst 4, 1) := dk_7 (dk_at dksX2_hook_1 4 rfl rfl)
theorem dX2_hook_29 : decode cX2_hook 29 = .ok (.iaload, 1) := dk_46 (dk_at dksX2_hook_1 5 rfl rfl)
theorem dX2_hook_30 : decode cX2_hook 30 = .ok (.bipush 6, 2) := dk_16 6 (dk_at dksX2_hook_1 6 rfl rfl)
theorem dX2_hook_32 : decode cX2_hook 32 = .ok (.if_icmp .ne 6, 3) := dk_160 0 6 (dk_at dksX2_hook_1 8 rfl rfl)
theorem dX2_hook_35 : decode cX2_hook 35 = .ok (.bipush (-2), 2) := dk_16 254 (dk_at dksX2_hook_1 11 rfl rfl)
theorem dX2_hook_37 : decode cX2_hook 37 = .ok (.ireturn, 1) := dk_172 (dk_at dksX2_hook_1 13 rfl rfl)
theorem dX2_hook_38 : decode cX2_hook 38 = .ok (.aload_n 0, 1) := dk_42 (dk_at dksX2_hook_1 14 rfl rfl)
theorem dX2_hook_39 : decode cX2_hook 39 = .ok (.getfield 7, 3) := dk_180 0 7 (dk_at dksX2_hook_1 15 rfl rfl)
theorem dX2_hook_42 : decode cX2_hook 42 = .ok (.bipush 68, 2) := dk_16 68 (dk_at dksX2_hook_1 18 rfl rfl)
theorem dX2_hook_44 : decode cX2_hook 44 = .ok (.aload_n 0, 1) := dk_42 (dk_at dksX2_hook_1 20 rfl rfl)
theorem dX2_hook_45 : decode cX2_hook 45 = .ok (.getfield 7, 3) := dk_180 0 7 (dk_at dksX2_hook_1 21 rfl rfl)
theorem dX2_hook_48 : decode cX2_hook 48 = .ok (.iconst 4, 1) := dk_7 (dk_at dksX2_hook_2 0 rfl rfl)
theorem dX2_hook_49 : decode cX2_hook 49 = .ok (.iaload, 1) := dk_46 (dk_at dksX2_hook_2 1 rfl rfl)
theorem dX2_hook_50 : decode cX2_hook 50 = .ok (.iadd, 1) := dk_96 (dk_at dksX2_hook_2 2 rfl rfl)
theorem dX2_hook_51 : decode cX2_hook 51 = .ok (.iload_n 1, 1) := dk_27 (dk_at dksX2_hook_2 3 rfl rfl)
theorem dX2_hook_52 : decode cX2_hook 52 = .ok (.iastore, 1) := dk_79 (dk_at dksX2_hook_2 4 rfl rfl)
theorem dX2_hook_53 : decode cX2_hook 53 = .ok (.aload_n 0, 1) := dk_42 (dk_at dksX2_hook_2 5 rfl rfl)
theorem dX2_hook_54 : decode cX2_hook 54 = .ok (.getfield 7, 3) := dk_180 0 7 (dk_at dksX2_hook_2 6 rfl rfl)
theorem dX2_hook_57 : decode cX2_hook 57 = .ok (.iconst 4, 1) := dk_7 (dk_at dksX2_hook_2 9 rfl rfl)
theorem dX2_hook_58 : decode cX2_hook 58 = .ok (.dup2, 1) := dk_92 (dk_at dksX2_hook_2 10 rfl rfl)
theorem dX2_hook_59 : decode cX2_hook 59 = .ok (.iaload, 1) := dk_46 (dk_at dksX2_hook_2 11 rfl rfl)
theorem dX2_hook_60 : decode cX2_hook 60 = .ok (.iconst 1, 1) := dk_4 (dk_at dksX2_hook_2 12 rfl rfl)
theorem dX2_hook_61 : decode cX2_hook 61 = .ok (.iadd, 1) := dk_96 (dk_at dksX2_hook_2 13 rfl rfl)
theorem dX2_hook_62 : decode cX2_hook 62 = .ok (.iastore, 1) := dk_79 (dk_at dksX2_hook_2 14 rfl rfl)
theorem dX2_hook_63 : decode cX2_hook 63 = .ok (.aload_n 0, 1) := dk_42 (dk_at dksX2_hook_2 15 rfl rfl)
theorem dX2_hook_64 : decode cX2_hook 64 = .ok (.getfield 7, 3) := dk_180 0 7 (dk_at dksX2_hook_2 16 rfl rfl)
theorem dX2_hook_67 : decode cX2_hook 67 = .ok (.iconst 4, 1) := dk_7 (dk_at dksX2_hook_2 19 rfl rfl)
theorem dX2_hook_68 : decode cX2_hook 68 = .ok (.iaload, 1) := dk_46 (dk_at dksX2_hook_2 20 rfl rfl)
theorem dX2_hook_69 : decode cX2_hook 69 = .ok (.ireturn, 1) := dk_172 (dk_at dksX2_hook_2 21 rfl rfl)
abbrev cX2_hung : ByteArray := prog_20_method_135_code
def yX2_hung : MethodName := ⟨RX2, "hung", "(II)I"⟩
def dkwX2_hung_2 : List UInt8 := [180, 1, 211, 158, 0, 12, 42, 180, 0, 65, 28, 46, 167, 0, 5, 16, 254, 172]
abbrev dktX2_hung_2 : List UInt8 := dkwX2_hung_2 ++ []
def dkwX2_hung_1 : List UInt8 := [180, 1, 211, 167, 0, 37, 28, 3, 42, 180, 0, 7, 7, 46, 4, 100, 184, 0, 81, 153, 0, 19, 42]
abbrev dktX2_hung_1 : List UInt8 := dkwX2_hung_1 ++ dktX2_hung_2
def dkwX2_hung_0 : List UInt8 := [27, 3, 16, 9, 184, 0, 81, 154, 0, 6, 16, 254, 172, 42, 27, 182, 1, 220, 28, 2, 160, 0, 10, 42]
abbrev dktX2_hung_0 : List UInt8 := dkwX2_hung_0 ++ dktX2_hung_1
theorem dksX2_hung_0 : cX2_hung.data.toList.drop 0 = dktX2_hung_0 := by decide +kernel
theorem dksX2_hung_1 : cX2_hung.data.toList.drop 24 = dktX2_hung_1 := dk_seg dksX2_hung_0 24 rfl rfl
theorem dksX2_hung_2 : cX2_hung.data.toList.drop 47 = dktX2_hung_2 := dk_seg dksX2_hung_1 23 rfl rfl
theorem dX2_hung_0 : decode cX2_hung 0 = .ok (.iload_n 1, 1) := dk_27 (dk_at dksX2_hung_0 0 rfl rfl)
theorem dX2_hung_1 : decode cX2_hung 1 = .ok (.iconst 0, 1) := dk_3 (dk_at dksX2_hung_0 1 rfl rfl)
theorem dX2_hung_2 : decode cX2_hung 2 = .ok (.bipush 9, 2) := dk_16 9 (dk_at dksX2_hung_0 2 rfl rfl)
theorem dX2_hung_4 : decode cX2_hung 4 = .ok (.invokestatic 81, 3) := dk_184 0 81 (dk_at dksX2_hung_0 4 rfl rfl)
theorem dX2_hung_7 : decode cX2_hung 7 = .ok (.ifCond .ne 6, 3) := dk_154 0 6 (dk_at dksX2_hung_0 7 rfl rfl)
theorem dX2_hung_10 : decode cX2_hung 10 = .ok (.bipush (-2), 2) := dk_16 254 (dk_at dksX2_hung_0 10 rfl rfl)
theorem dX2_hung_12 : decode cX2_hung 12 = .ok (.ireturn, 1) := dk_172 (dk_at dksX2_hung_0 12 rfl rfl)
theorem dX2_hung_13 : decode cX2_hung 13 = .ok (.aload_n 0, 1) := dk_42 (dk_at dksX2_hung_0 13 rfl rfl)
theorem dX2_hung_14 : decode cX2_hung 14 = .ok (.iload_n 1, 1) := dk_27 (dk_at dksX2_hung_0 14 rfl rfl)
theorem dX2_hung_15 : decode cX2_hung 15 = .ok (.invokevirtual 476, 3) := dk_182 1 220 (dk_at dksX2_hung_0 15 rfl rfl)
theorem dX2_hung_18 : decode cX2_hung 18 = .ok (.iload_n 2, 1) := dk_28 (dk_at dksX2_hung_0 18 rfl rfl)
theorem dX2_hung_19 : decode cX2_hung 19 = .ok (.iconst (-1), 1) := dk_2 (dk_at dksX2_hung_0 19 rfl rfl)
theorem dX2_hung_20 : decode cX2_hung 20 = .ok (.if_icmp .ne 10, 3) := dk_160 0 10 (dk_at dksX2_hung_0 20 rfl rfl)
theorem dX2_hung_23 : decode cX2_hung 23 = .ok (.aload_n 0, 1) := dk_42 (dk_at dksX2_hung_0 23 rfl rfl)
theorem dX2_hung_24 : decode cX2_hung 24 = .ok (.getfield 467, 3) := dk_180 1 211 (dk_at dksX2_hung_1 0 rfl rfl)
theorem dX2_hung_27 : decode cX2_hung 27 = .ok (.goto 37, 3) := dk_167 0 37 (dk_at dksX2_hung_1 3 rfl rfl)
theorem dX2_hung_30 : decode cX2_hung 30 = .ok (.iload_n 2, 1) := dk_28 (dk_at dksX2_hung_1 6 rfl rfl)
theorem dX2_hung_31 : decode cX2_hung 31 = .ok (.iconst 0, 1) := dk_3 (dk_at dksX2_hung_1 7 rfl rfl)
theorem dX2_hung_32 : decode cX2_hung 32 = .ok (.aload_n 0, 1) := dk_42 (dk_at dksX2_hung_1 8 rfl rfl)
theorem dX2_hung_33 : decode cX2_hung 33 = .ok (.getfield 7, 3) := dk_180 0 7 (dk_at dksX2_hung_1 9 rfl rfl)
theorem dX2_hung_36 : decode cX2_hung 36 = .ok (.iconst 4, 1) := dk_7 (dk_at dksX2_hung_1 12 rfl rfl)
theorem dX2_hung_37 : decode cX2_hung 37 = .ok (.iaload, 1) := dk_46 (dk_at dksX2_hung_1 13 rfl rfl)
theorem dX2_hung_38 : decode cX2_hung 38 = .ok (.iconst 1, 1) := dk_4 (dk_at dksX2_hung_1 14 rfl rfl)
theorem dX2_hung_39 : decode cX2_hung 39 = .ok (.isub, 1) := dk_100 (dk_at dksX2_hung_1 15 rfl rfl)
theorem dX2_hung_40 : decode cX2_hung 40 = .ok (.invokestatic 81, 3) := dk_184 0 81 (dk_at dksX2_hung_1 16 rfl rfl)
theorem dX2_hung_43 : decode cX2_hung 43 = .ok (.ifCond .eq 19, 3) := dk_153 0 19 (dk_at dksX2_hung_1 19 rfl rfl)
theorem dX2_hung_46 : decode cX2_hung 46 = .ok (.aload_n 0, 1) := dk_42 (dk_at dksX2_hung_1 22 rfl rfl)
theorem dX2_hung_47 : decode cX2_hung 47 = .ok (.getfield 467, 3) := dk_180 1 211 (dk_at dksX2_hung_2 0 rfl rfl)
theorem dX2_hung_50 : decode cX2_hung 50 = .ok (.ifCond .le 12, 3) := dk_158 0 12 (dk_at dksX2_hung_2 3 rfl rfl)
theorem dX2_hung_53 : decode cX2_hung 53 = .ok (.aload_n 0, 1) := dk_42 (dk_at dksX2_hung_2 6 rfl rfl)
theorem dX2_hung_54 : decode cX2_hung 54 = .ok (.getfield 65, 3) := dk_180 0 65 (dk_at dksX2_hung_2 7 rfl rfl)
theorem dX2_hung_57 : decode cX2_hung 57 = .ok (.iload_n 2, 1) := dk_28 (dk_at dksX2_hung_2 10 rfl rfl)
theorem dX2_hung_58 : decode cX2_hung 58 = .ok (.iaload, 1) := dk_46 (dk_at dksX2_hung_2 11 rfl rfl)
theorem dX2_hung_59 : decode cX2_hung 59 = .ok (.goto 5, 3) := dk_167 0 5 (dk_at dksX2_hung_2 12 rfl rfl)
theorem dX2_hung_62 : decode cX2_hung 62 = .ok (.bipush (-2), 2) := dk_16 254 (dk_at dksX2_hung_2 15 rfl rfl)
theorem dX2_hung_64 : decode cX2_hung 64 = .ok (.ireturn, 1) := dk_172 (dk_at dksX2_hung_2 17 rfl rfl)
abbrev cX2_layHung : ByteArray := prog_20_method_134_code
def yX2_layHung : MethodName := ⟨RX2, "layHung", "(I)V"⟩
def dkwX2_layHung_10 : List UInt8 := [180, 0, 62, 28, 2, 79, 167, 255, 67, 177]
abbrev dktX2_layHung_10 : List UInt8 := dkwX2_layHung_10 ++ []
def dkwX2_layHung_9 : List UInt8 := [28, 42, 180, 0, 7, 7, 46, 4, 100, 160, 0, 10, 42, 182, 1, 214, 167, 255, 80, 132, 2, 1, 42]
abbrev dktX2_layHung_9 : List UInt8 := dkwX2_layHung_9 ++ dktX2_layHung_10
def dkwX2_layHung_8 : List UInt8 := [42, 180, 0, 62, 28, 2, 79, 132, 2, 255, 167, 255, 110, 29, 4, 42, 180, 0, 62, 28, 46, 120, 128, 62]
abbrev dktX2_layHung_8 : List UInt8 := dkwX2_layHung_8 ++ dktX2_layHung_9
def dkwX2_layHung_7 : List UInt8 := [28, 92, 46, 4, 96, 79, 167, 255, 174, 42, 180, 0, 62, 28, 46, 42, 180, 0, 7, 3, 46, 161, 0, 16]
abbrev dktX2_layHung_7 : List UInt8 := dkwX2_layHung_7 ++ dktX2_layHung_8
def dkwX2_layHung_6 : List UInt8 := [46, 96, 46, 42, 180, 0, 7, 16, 68, 28, 96, 46, 100, 184, 1, 217, 27, 164, 0, 16, 42, 180, 0, 62]
abbrev dktX2_layHung_6 : List UInt8 := dkwX2_layHung_6 ++ dktX2_layHung_7
def dkwX2_layHung_5 : List UInt8 := [42, 42, 180, 0, 62, 28, 46, 182, 0, 89, 153, 0, 34, 42, 180, 0, 7, 16, 52, 42, 180, 0, 62, 28]
abbrev dktX2_layHung_5 : List UInt8 := dkwX2_layHung_5 ++ dktX2_layHung_6
def dkwX2_layHung_4 : List UInt8 := [28, 46, 42, 180, 0, 7, 3, 46, 162, 0, 73, 29, 42, 180, 0, 62, 28, 46, 184, 1, 3, 154, 0, 47]
abbrev dktX2_layHung_4 : List UInt8 := dkwX2_layHung_4 ++ dktX2_layHung_5
def dkwX2_layHung_3 : List UInt8 := [180, 0, 62, 28, 46, 120, 2, 130, 126, 62, 42, 180, 0, 62, 28, 92, 46, 4, 96, 79, 42, 180, 0, 62]
abbrev dktX2_layHung_3 : List UInt8 := dkwX2_layHung_3 ++ dktX2_layHung_4
def dkwX2_layHung_2 : List UInt8 := [180, 0, 62, 3, 2, 79, 28, 155, 0, 191, 42, 180, 0, 62, 28, 46, 155, 0, 16, 29, 4, 42]
abbrev dktX2_layHung_2 : List UInt8 := dkwX2_layHung_2 ++ dktX2_layHung_3
def dkwX2_layHung_1 : List UInt8 := [167, 255, 240, 42, 180, 0, 7, 7, 46, 154, 0, 8, 42, 182, 1, 214, 177, 3, 61, 3, 62, 42]
abbrev dktX2_layHung_1 : List UInt8 := dkwX2_layHung_1 ++ dktX2_layHung_2
def dkwX2_layHung_0 : List UInt8 := [42, 3, 181, 1, 211, 3, 61, 28, 16, 48, 162, 0, 16, 42, 180, 0, 68, 28, 3, 79, 132, 2, 1]
abbrev dktX2_layHung_0 : List UInt8 := dkwX2_layHung_0 ++ dktX2_layHung_1
theorem dksX2_layHung_0 : cX2_layHung.data.toList.drop 0 = dktX2_layHung_0 := by decide +kernel
theorem dksX2_layHung_1 : cX2_layHung.data.toList.drop 23 = dktX2_layHung_1 := dk_seg dksX2_layHung_0 23 rfl rfl
theorem dksX2_layHung_2 : cX2_layHung.data.toList.drop 45 = dktX2_layHung_2 := dk_seg dksX2_layHung_1 22 rfl rfl
theorem dksX2_layHung_3 : cX2_layHung.data.toList.drop 67 = dktX2_layHung_3 := dk_seg dksX2_layHung_2 22 rfl rfl
theorem dksX2_layHung_4 : cX2_layHung.data.toList.drop 91 = dktX2_layHung_4 := dk_seg dksX2_layHung_3 24 rfl rfl
theorem dksX2_layHung_5 : cX2_layHung.data.toList.drop 115 = dktX2_layHung_5 := dk_seg dksX2_layHung_4 24 rfl rfl
theorem dksX2_layHung_6 : cX2_layHung.data.toList.drop 139 = dktX2_layHung_6 := dk_seg dksX2_layHung_5 24 rfl rfl
theorem dksX2_layHung_7 : cX2_layHung.data.toList.drop 163 = dktX2_layHung_7 := dk_seg dksX2_layHung_6 24 rfl rfl
theorem dksX2_layHung_8 : cX2_layHung.data.toList.drop 187 = dktX2_layHung_8 := dk_seg dksX2_layHung_7 24 rfl rfl
theorem dksX2_layHung_9 : cX2_layHung.data.toList.drop 211 = dktX2_layHung_9 := dk_seg dksX2_layHung_8 24 rfl rfl
theorem dksX2_layHung_10 : cX2_layHung.data.toList.drop 234 = dktX2_layHung_10 := dk_seg dksX2_layHung_9 23 rfl rfl
theorem dX2_layHung_0 : decode cX2_layHung 0 = .ok (.aload_n 0, 1) := dk_42 (dk_at dksX2_layHung_0 0 rfl rfl)
theorem dX2_layHung_1 : decode cX2_layHung 1 = .ok (.iconst 0, 1) := dk_3 (dk_at dksX2_layHung_0 1 rfl rfl)
theorem dX2_layHung_2 : decode cX2_layHung 2 = .ok (.putfield 467, 3) := dk_181 1 211 (dk_at dksX2_layHung_0 2 rfl rfl)
theorem dX2_layHung_5 : decode cX2_layHung 5 = .ok (.iconst 0, 1) := dk_3 (dk_at dksX2_layHung_0 5 rfl rfl)
theorem dX2_layHung_6 : decode cX2_layHung 6 = .ok (.istore_n 2, 1) := dk_61 (dk_at dksX2_layHung_0 6 rfl rfl)
theorem dX2_layHung_7 : decode cX2_layHung 7 = .ok (.iload_n 2, 1) := dk_28 (dk_at dksX2_layHung_0 7 rfl rfl)
theorem dX2_layHung_8 : decode cX2_layHung 8 = .ok (.bipush 48, 2) := dk_16 48 (dk_at dksX2_layHung_0 8 rfl rfl)
theorem dX2_layHung_10 : decode cX2_layHung 10 = .ok (.if_icmp .ge 16, 3) := dk_162 0 16 (dk_at dksX2_layHung_0 10 rfl rfl)
theorem dX2_layHung_13 : decode cX2_layHung 13 = .ok (.aload_n 0, 1) := dk_42 (dk_at dksX2_layHung_0 13 rfl rfl)
theorem dX2_layHung_14 : decode cX2_layHung 14 = .ok (.getfield 68, 3) := dk_180 0 68 (dk_at dksX2_layHung_0 14 rfl rfl)
theorem dX2_layHung_17 : decode cX2_layHung 17 = .ok (.iload_n 2, 1) := dk_28 (dk_at dksX2_layHung_0 17 rfl rfl)
theorem dX2_layHung_18 : decode cX2_layHung 18 = .ok (.iconst 0, 1) := dk_3 (dk_at dksX2_layHung_0 18 rfl rfl)
theorem dX2_layHung_19 : decode cX2_layHung 19 = .ok (.iastore, 1) := dk_79 (dk_at dksX2_layHung_0 19 rfl rfl)
theorem dX2_layHung_20 : decode cX2_layHung 20 = .ok (.iinc 2 1, 3) := dk_132 2 1 (dk_at dksX2_layHung_0 20 rfl rfl)
theorem dX2_layHung_23 : decode cX2_layHung 23 = .ok (.goto (-16), 3) := dk_167 255 240 (dk_at dksX2_layHung_1 0 rfl rfl)
theorem dX2_layHung_26 : decode cX2_layHung 26 = .ok (.aload_n 0, 1) := dk_42 (dk_at dksX2_layHung_1 3 rfl rfl)
theorem dX2_layHung_27 : decode cX2_layHung 27 = .ok (.getfield 7, 3) := dk_180 0 7 (dk_at dksX2_layHung_1 4 rfl rfl)
theorem dX2_layHung_30 : decode cX2_layHung 30 = .ok (.iconst 4, 1) := dk_7 (dk_at dksX2_layHung_1 7 rfl rfl)
theorem dX2_layHung_31 : decode cX2_layHung 31 = .ok (.iaload, 1) := dk_46 (dk_at dksX2_layHung_1 8 rfl rfl)
theorem dX2_layHung_32 : decode cX2_layHung 32 = .ok (.ifCond .ne 8, 3) := dk_154 0 8 (dk_at dksX2_layHung_1 9 rfl rfl)
theorem dX2_layHung_35 : decode cX2_layHung 35 = .ok (.aload_n 0, 1) := dk_42 (dk_at dksX2_layHung_1 12 rfl rfl)
theorem dX2_layHung_36 : decode cX2_layHung 36 = .ok (.invokevirtual 470, 3) := dk_182 1 214 (dk_at dksX2_layHung_1 13 rfl rfl)
theorem dX2_layHung_39 : decode cX2_layHung 39 = .ok (.return_, 1) := dk_177 (dk_at dksX2_layHung_1 16 rfl rfl)
theorem dX2_layHung_40 : decode cX2_layHung 40 = .ok (.iconst 0, 1) := dk_3 (dk_at dksX2_layHung_1 17 rfl rfl)
theorem dX2_layHung_41 : decode cX2_layHung 41 = .ok (.istore_n 2, 1) := dk_61 (dk_at dksX2_layHung_1 18 rfl rfl)
theorem dX2_layHung_42 : decode cX2_layHung 42 = .ok (.iconst 0, 1) := dk_3 (dk_at dksX2_layHung_1 19 rfl rfl)
theorem dX2_layHung_43 : decode cX2_layHung 43 = .ok (.istore_n 3, 1) := dk_62 (dk_at dksX2_layHung_1 20 rfl rfl)
theorem dX2_layHung_44 : decode cX2_layHung 44 = .ok (.aload_n 0, 1) := dk_42 (dk_at dksX2_layHung_1 21 rfl rfl)
theorem dX2_layHung_45 : decode cX2_layHung 45 = .ok (.getfield 62, 3) := dk_180 0 62 (dk_at dksX2_layHung_2 0 rfl rfl)
theorem dX2_layHung_48 : decode cX2_layHung 48 = .ok (.iconst 0, 1) := dk_3 (dk_at dksX2_layHung_2 3 rfl rfl)
theorem dX2_layHung_49 : decode cX2_layHung 49 = .ok (.iconst (-1), 1) := dk_2 (dk_at dksX2_layHung_2 4 rfl rfl)
theorem dX2_layHung_50 : decode cX2_layHung 50 = .ok (.iastore, 1) := dk_79 (dk_at dksX2_layHung_2 5 rfl rfl)
theorem dX2_layHung_51 : decode cX2_layHung 51 = .ok (.iload_n 2, 1) := dk_28 (dk_at dksX2_layHung_2 6 rfl rfl)
theorem dX2_layHung_52 : decode cX2_layHung 52 = .ok (.ifCond .lt 191, 3) := dk_155 0 191 (dk_at dksX2_layHung_2 7 rfl rfl)
theorem dX2_layHung_55 : decode cX2_layHung 55 = .ok (.aload_n 0, 1) := dk_42 (dk_at dksX2_layHung_2 10 rfl rfl)
theorem dX2_layHung_56 : decode cX2_layHung 56 = .ok (.getfield 62, 3) := dk_180 0 62 (dk_at dksX2_layHung_2 11 rfl rfl)
theorem dX2_layHung_59 : decode cX2_layHung 59 = .ok (.iload_n 2, 1) := dk_28 (dk_at dksX2_layHung_2 14 rfl rfl)
theorem dX2_layHung_60 : decode cX2_layHung 60 = .ok (.iaload, 1) := dk_46 (dk_at dksX2_layHung_2 15 rfl rfl)
theorem dX2_layHung_61 : decode cX2_layHung 61 = .ok (.ifCond .lt 16, 3) := dk_155 0 16 (dk_at dksX2_layHung_2 16 rfl rfl)
theorem dX2_layHung_64 : decode cX2_layHung 64 = .ok (.iload_n 3, 1) := dk_29 (dk_at dksX2_layHung_2 19 rfl rfl)
theorem dX2_layHung_65 : decode cX2_layHung 65 = .ok (.iconst 1, 1) := dk_4 (dk_at dksX2_layHung_2 20 rfl rfl)
theorem dX2_layHung_66 : decode cX2_layHung 66 = .ok (.aload_n 0, 1) := dk_42 (dk_at dksX2_layHung_2 21 rfl rfl)
theorem dX2_layHung_67 : decode cX2_layHung 67 = .ok (.getfield 62, 3) := dk_180 0 62 (dk_at dksX2_layHung_3 0 rfl rfl)
theorem dX2_layHung_70 : decode cX2_layHung 70 = .ok (.iload_n 2, 1) := dk_28 (dk_at dksX2_layHung_3 3 rfl rfl)
theorem dX2_layHung_71 : decode cX2_layHung 71 = .ok (.iaload, 1) := dk_46 (dk_at dksX2_layHung_3 4 rfl rfl)
theorem dX2_layHung_72 : decode cX2_layHung 72 = .ok (.ishl, 1) := dk_120 (dk_at dksX2_layHung_3 5 rfl rfl)
theorem dX2_layHung_73 : decode cX2_layHung 73 = .ok (.iconst (-1), 1) := dk_2 (dk_at dksX2_layHung_3 6 rfl rfl)
theorem dX2_layHung_74 : decode cX2_layHung 74 = .ok (.ixor, 1) := dk_130 (dk_at dksX2_layHung_3 7 rfl rfl)
theorem dX2_layHung_75 : decode cX2_layHung 75 = .ok (.iand, 1) := dk_126 (dk_at dksX2_layHung_3 8 rfl rfl)
theorem dX2_layHung_76 : decode cX2_layHung 76 = .ok (.istore_n 3, 1) := dk_62 (dk_at dksX2_layHung_3 9 rfl rfl)
theorem dX2_layHung_77 : decode cX2_layHung 77 = .ok (.aload_n 0, 1) := dk_42 (dk_at dksX2_layHung_3 10 rfl rfl)
theorem dX2_layHung_78 : decode cX2_layHung 78 = .ok (.getfield 62, 3) := dk_180 0 62 (dk_at dksX2_layHung_3 11 rfl rfl)
theorem dX2_layHung_81 : decode cX2_layHung 81 = .ok (.iload_n 2, 1) := dk_28 (dk_at dksX2_layHung_3 14 rfl rfl)
theorem dX2_layHung_82 : decode cX2_layHung 82 = .ok (.dup2, 1) := dk_92 (dk_at dksX2_layHung_3 15 rfl rfl)
theorem dX2_layHung_83 : decode cX2_layHung 83 = .ok (.iaload, 1) := dk_46 (dk_at dksX2_layHung_3 16 rfl rfl)
theorem dX2_layHung_84 : decode cX2_layHung 84 = .ok (.iconst 1, 1) := dk_4 (dk_at dksX2_layHung_3 17 rfl rfl)
theorem dX2_layHung_85 : decode cX2_layHung 85 = .ok (.iadd, 1) := dk_96 (dk_at dksX2_layHung_3 18 rfl rfl)
theorem dX2_layHung_86 : decode cX2_layHung 86 = .ok (.iastore, 1) := dk_79 (dk_at dksX2_layHung_3 19 rfl rfl)
theorem dX2_layHung_87 : decode cX2_layHung 87 = .ok (.aload_n 0, 1) := dk_42 (dk_at dksX2_layHung_3 20 rfl rfl)
theorem dX2_layHung_88 : decode cX2_layHung 88 = .ok (.getfield 62, 3) := dk_180 0 62 (dk_at dksX2_layHung_3 21 rfl rfl)
theorem dX2_layHung_91 : decode cX2_layHung 91 = .ok (.iload_n 2, 1) := dk_28 (dk_at dksX2_layHung_4 0 rfl rfl)
theorem dX2_layHung_92 : decode cX2_layHung 92 = .ok (.iaload, 1) := dk_46 (dk_at dksX2_layHung_4 1 rfl rfl)
theorem dX2_layHung_93 : decode cX2_layHung 93 = .ok (.aload_n 0, 1) := dk_42 (dk_at dksX2_layHung_4 2 rfl rfl)
theorem dX2_layHung_94 : decode cX2_layHung 94 = .ok (.getfield 7, 3) := dk_180 0 7 (dk_at dksX2_layHung_4 3 rfl rfl)
theorem dX2_layHung_97 : decode cX2_layHung 97 = .ok (.iconst 0, 1) := dk_3 (dk_at dksX2_layHung_4 6 rfl rfl)
theorem dX2_layHung_98 : decode cX2_layHung 98 = .ok (.iaload, 1) := dk_46 (dk_at dksX2_layHung_4 7 rfl rfl)
theorem dX2_layHung_99 : decode cX2_layHung 99 = .ok (.if_icmp .ge 73, 3) := dk_162 0 73 (dk_at dksX2_layHung_4 8 rfl rfl)
theorem dX2_layHung_102 : decode cX2_layHung 102 = .ok (.iload_n 3, 1) := dk_29 (dk_at dksX2_layHung_4 11 rfl rfl)
theorem dX2_layHung_103 : decode cX2_layHung 103 = .ok (.aload_n 0, 1) := dk_42 (dk_at dksX2_layHung_4 12 rfl rfl)
theorem dX2_layHung_104 : decode cX2_layHung 104 = .ok (.getfield 62, 3) := dk_180 0 62 (dk_at dksX2_layHung_4 13 rfl rfl)
theorem dX2_layHung_107 : decode cX2_layHung 107 = .ok (.iload_n 2, 1) := dk_28 (dk_at dksX2_layHung_4 16 rfl rfl)
theorem dX2_layHung_108 : decode cX2_layHung 108 = .ok (.iaload, 1) := dk_46 (dk_at dksX2_layHung_4 17 rfl rfl)
theorem dX2_layHung_109 : decode cX2_layHung 109 = .ok (.invokestatic 259, 3) := dk_184 1 3 (dk_at dksX2_layHung_4 18 rfl rfl)
theorem dX2_layHung_112 : decode cX2_layHung 112 = .ok (.ifCond .ne 47, 3) := dk_154 0 47 (dk_at dksX2_layHung_4 21 rfl rfl)
theorem dX2_layHung_115 : decode cX2_layHung 115 = .ok (.aload_n 0, 1) := dk_42 (dk_at dksX2_layHung_5 0 rfl rfl)
theorem dX2_layHung_116 : decode cX2_layHung 116 = .ok (.aload_n 0, 1) := dk_42 (dk_at dksX2_layHung_5 1 rfl rfl)
theorem dX2_layHung_117 : decode cX2_layHung 117 = .ok (.getfield 62, 3) := dk_180 0 62 (dk_at dksX2_layHung_5 2 rfl rfl)
theorem dX2_layHung_120 : decode cX2_layHung 120 = .ok (.iload_n 2, 1) := dk_28 (dk_at dksX2_layHung_5 5 rfl rfl)
theorem dX2_layHung_121 : decode cX2_layHung 121 = .ok (.iaload, 1) := dk_46 (dk_at dksX2_layHung_5 6 rfl rfl)
theorem dX2_layHung_122 : decode cX2_layHung 122 = .ok (.invokevirtual 89, 3) := dk_182 0 89 (dk_at dksX2_layHung_5 7 rfl rfl)
theorem dX2_layHung_125 : decode cX2_layHung 125 = .ok (.ifCond .eq 34, 3) := dk_153 0 34 (dk_at dksX2_layHung_5 10 rfl rfl)
theorem dX2_layHung_128 : decode cX2_layHung 128 = .ok (.aload_n 0, 1) := dk_42 (dk_at dksX2_layHung_5 13 rfl rfl)
theorem dX2_layHung_129 : decode cX2_layHung 129 = .ok (.getfield 7, 3) := dk_180 0 7 (dk_at dksX2_layHung_5 14 rfl rfl)
theorem dX2_layHung_132 : decode cX2_layHung 132 = .ok (.bipush 52, 2) := dk_16 52 (dk_at dksX2_layHung_5 17 rfl rfl)
theorem dX2_layHung_134 : decode cX2_layHung 134 = .ok (.aload_n 0, 1) := dk_42 (dk_at dksX2_layHung_5 19 rfl rfl)
theorem dX2_layHung_135 : decode cX2_layHung 135 = .ok (.getfield 62, 3) := dk_180 0 62 (dk_at dksX2_layHung_5 20 rfl rfl)
theorem dX2_layHung_138 : decode cX2_layHung 138 = .ok (.iload_n 2, 1) := dk_28 (dk_at dksX2_layHung_5 23 rfl rfl)
theorem dX2_layHung_139 : decode cX2_layHung 139 = .ok (.iaload, 1) := dk_46 (dk_at dksX2_layHung_6 0 rfl rfl)
theorem dX2_layHung_140 : decode cX2_layHung 140 = .ok (.iadd, 1) := dk_96 (dk_at dksX2_layHung_6 1 rfl rfl)
theorem dX2_layHung_141 : decode cX2_layHung 141 = .ok (.iaload, 1) := dk_46 (dk_at dksX2_layHung_6 2 rfl rfl)
theorem dX2_layHung_142 : decode cX2_layHung 142 = .ok (.aload_n 0, 1) := dk_42 (dk_at dksX2_layHung_6 3 rfl rfl)
theorem dX2_layHung_143 : decode cX2_layHung 143 = .ok (.getfield 7, 3) := dk_180 0 7 (dk_at dksX2_layHung_6 4 rfl rfl)
theorem dX2_layHung_146 : decode cX2_layHung 146 = .ok (.bipush 68, 2) := dk_16 68 (dk_at dksX2_layHung_6 7 rfl rfl)
theorem dX2_layHung_148 : decode cX2_layHung 148 = .ok (.iload_n 2, 1) := dk_28 (dk_at dksX2_layHung_6 9 rfl rfl)
theorem dX2_layHung_149 : decode cX2_layHung 149 = .ok (.iadd, 1) := dk_96 (dk_at dksX2_layHung_6 10 rfl rfl)
theorem dX2_layHung_150 : decode cX2_layHung 150 = .ok (.iaload, 1) := dk_46 (dk_at dksX2_layHung_6 11 rfl rfl)
theorem dX2_layHung_151 : decode cX2_layHung 151 = .ok (.isub, 1) := dk_100 (dk_at dksX2_layHung_6 12 rfl rfl)
theorem dX2_layHung_152 : decode cX2_layHung 152 = .ok (.invokestatic 473, 3) := dk_184 1 217 (dk_at dksX2_layHung_6 13 rfl rfl)
theorem dX2_layHung_155 : decode cX2_layHung 155 = .ok (.iload_n 1, 1) := dk_27 (dk_at dksX2_layHung_6 16 rfl rfl)
theorem dX2_layHung_156 : decode cX2_layHung 156 = .ok (.if_icmp .le 16, 3) := dk_164 0 16 (dk_at dksX2_layHung_6 17 rfl rfl)
theorem dX2_layHung_159 : decode cX2_layHung 159 = .ok (.aload_n 0, 1) := dk_42 (dk_at dksX2_layHung_6 20 rfl rfl)
theorem dX2_layHung_160 : decode cX2_layHung 160 = .ok (.getfield 62, 3) := dk_180 0 62 (dk_at dksX2_layHung_6 21 rfl rfl)
theorem dX2_layHung_163 : decode cX2_layHung 163 = .ok (.iload_n 2, 1) := dk_28 (dk_at dksX2_layHung_7 0 rfl rfl)
theorem dX2_layHung_164 : decode cX2_layHung 164 = .ok (.dup2, 1) := dk_92 (dk_at dksX2_layHung_7 1 rfl rfl)
theorem dX2_layHung_165 : decode cX2_layHung 165 = .ok (.iaload, 1) := dk_46 (dk_at dksX2_layHung_7 2 rfl rfl)
theorem dX2_layHung_166 : decode cX2_layHung 166 = .ok (.iconst 1, 1) := dk_4 (dk_at dksX2_layHung_7 3 rfl rfl)
theorem dX2_layHung_167 : decode cX2_layHung 167 = .ok (.iadd, 1) := dk_96 (dk_at dksX2_layHung_7 4 rfl rfl)
theorem dX2_layHung_168 : decode cX2_layHung 168 = .ok (.iastore, 1) := dk_79 (dk_at dksX2_layHung_7 5 rfl rfl)
theorem dX2_layHung_169 : decode cX2_layHung 169 = .ok (.goto (-82), 3) := dk_167 255 174 (dk_at dksX2_layHung_7 6 rfl rfl)
theorem dX2_layHung_172 : decode cX2_layHung 172 = .ok (.aload_n 0, 1) := dk_42 (dk_at dksX2_layHung_7 9 rfl rfl)
theorem dX2_layHung_173 : decode cX2_layHung 173 = .ok (.getfield 62, 3) := dk_180 0 62 (dk_at dksX2_layHung_7 10 rfl rfl)
theorem dX2_layHung_176 : decode cX2_layHung 176 = .ok (.iload_n 2, 1) := dk_28 (dk_at dksX2_layHung_7 13 rfl rfl)
theorem dX2_layHung_177 : decode cX2_layHung 177 = .ok (.iaload, 1) := dk_46 (dk_at dksX2_layHung_7 14 rfl rfl)
theorem dX2_layHung_178 : decode cX2_layHung 178 = .ok (.aload_n 0, 1) := dk_42 (dk_at dksX2_layHung_7 15 rfl rfl)
theorem dX2_layHung_179 : decode cX2_layHung 179 = .ok (.getfield 7, 3) := dk_180 0 7 (dk_at dksX2_layHung_7 16 rfl rfl)
theorem dX2_layHung_182 : decode cX2_layHung 182 = .ok (.iconst 0, 1) := dk_3 (dk_at dksX2_layHung_7 19 rfl rfl)
theorem dX2_layHung_183 : decode cX2_layHung 183 = .ok (.iaload, 1) := dk_46 (dk_at dksX2_layHung_7 20 rfl rfl)
theorem dX2_layHung_184 : decode cX2_layHung 184 = .ok (.if_icmp .lt 16, 3) := dk_161 0 16 (dk_at dksX2_layHung_7 21 rfl rfl)
theorem dX2_layHung_187 : decode cX2_layHung 187 = .ok (.aload_n 0, 1) := dk_42 (dk_at dksX2_layHung_8 0 rfl rfl)
theorem dX2_layHung_188 : decode cX2_layHung 188 = .ok (.getfield 62, 3) := dk_180 0 62 (dk_at dksX2_layHung_8 1 rfl rfl)
theorem dX2_layHung_191 : decode cX2_layHung 191 = .ok (.iload_n 2, 1) := dk_28 (dk_at dksX2_layHung_8 4 rfl rfl)
theorem dX2_layHung_192 : decode cX2_layHung 192 = .ok (.iconst (-1), 1) := dk_2 (dk_at dksX2_layHung_8 5 rfl rfl)
theorem dX2_layHung_193 : decode cX2_layHung 193 = .ok (.iastore, 1) := dk_79 (dk_at dksX2_layHung_8 6 rfl rfl)
theorem dX2_layHung_194 : decode cX2_layHung 194 = .ok (.iinc 2 (-1), 3) := dk_132 2 255 (dk_at dksX2_layHung_8 7 rfl rfl)
theorem dX2_layHung_197 : decode cX2_layHung 197 = .ok (.goto (-146), 3) := dk_167 255 110 (dk_at dksX2_layHung_8 10 rfl rfl)
theorem dX2_layHung_200 : decode cX2_layHung 200 = .ok (.iload_n 3, 1) := dk_29 (dk_at dksX2_layHung_8 13 rfl rfl)
theorem dX2_layHung_201 : decode cX2_layHung 201 = .ok (.iconst 1, 1) := dk_4 (dk_at dksX2_layHung_8 14 rfl rfl)
theorem dX2_layHung_202 : decode cX2_layHung 202 = .ok (.aload_n 0, 1) := dk_42 (dk_at dksX2_layHung_8 15 rfl rfl)
theorem dX2_layHung_203 : decode cX2_layHung 203 = .ok (.getfield 62, 3) := dk_180 0 62 (dk_at dksX2_layHung_8 16 rfl rfl)
theorem dX2_layHung_206 : decode cX2_layHung 206 = .ok (.iload_n 2, 1) := dk_28 (dk_at dksX2_layHung_8 19 rfl rfl)
theorem dX2_layHung_207 : decode cX2_layHung 207 = .ok (.iaload, 1) := dk_46 (dk_at dksX2_layHung_8 20 rfl rfl)
theorem dX2_layHung_208 : decode cX2_layHung 208 = .ok (.ishl, 1) := dk_120 (dk_at dksX2_layHung_8 21 rfl rfl)
theorem dX2_layHung_209 : decode cX2_layHung 209 = .ok (.ior, 1) := dk_128 (dk_at dksX2_layHung_8 22 rfl rfl)
theorem dX2_layHung_210 : decode cX2_layHung 210 = .ok (.istore_n 3, 1) := dk_62 (dk_at dksX2_layHung_8 23 rfl rfl)
theorem dX2_layHung_211 : decode cX2_layHung 211 = .ok (.iload_n 2, 1) := dk_28 (dk_at dksX2_layHung_9 0 rfl rfl)
theorem dX2_layHung_212 : decode cX2_layHung 212 = .ok (.aload_n 0, 1) := dk_42 (dk_at dksX2_layHung_9 1 rfl rfl)
theorem dX2_layHung_213 : decode cX2_layHung 213 = .ok (.getfield 7, 3) := dk_180 0 7 (dk_at dksX2_layHung_9 2 rfl rfl)
theorem dX2_layHung_216 : decode cX2_layHung 216 = .ok (.iconst 4, 1) := dk_7 (dk_at dksX2_layHung_9 5 rfl rfl)
theorem dX2_layHung_217 : decode cX2_layHung 217 = .ok (.iaload, 1) := dk_46 (dk_at dksX2_layHung_9 6 rfl rfl)
theorem dX2_layHung_218 : decode cX2_layHung 218 = .ok (.iconst 1, 1) := dk_4 (dk_at dksX2_layHung_9 7 rfl rfl)
theorem dX2_layHung_219 : decode cX2_layHung 219 = .ok (.isub, 1) := dk_100 (dk_at dksX2_layHung_9 8 rfl rfl)
theorem dX2_layHung_220 : decode cX2_layHung 220 = .ok (.if_icmp .ne 10, 3) := dk_160 0 10 (dk_at dksX2_layHung_9 9 rfl rfl)
theorem dX2_layHung_223 : decode cX2_layHung 223 = .ok (.aload_n 0, 1) := dk_42 (dk_at dksX2_layHung_9 12 rfl rfl)
theorem dX2_layHung_224 : decode cX2_layHung 224 = .ok (.invokevirtual 470, 3) := dk_182 1 214 (dk_at dksX2_layHung_9 13 rfl rfl)
theorem dX2_layHung_227 : decode cX2_layHung 227 = .ok (.goto (-176), 3) := dk_167 255 80 (dk_at dksX2_layHung_9 16 rfl rfl)
theorem dX2_layHung_230 : decode cX2_layHung 230 = .ok (.iinc 2 1, 3) := dk_132 2 1 (dk_at dksX2_layHung_9 19 rfl rfl)
theorem dX2_layHung_233 : decode cX2_layHung 233 = .ok (.aload_n 0, 1) := dk_42 (dk_at dksX2_layHung_9 22 rfl rfl)
theorem dX2_layHung_234 : decode cX2_layHung 234 = .ok (.getfield 62, 3) := dk_180 0 62 (dk_at dksX2_layHung_10 0 rfl rfl)
theorem dX2_layHung_237 : decode cX2_layHung 237 = .ok (.iload_n 2, 1) := dk_28 (dk_at dksX2_layHung_10 3 rfl rfl)
theorem dX2_layHung_238 : decode cX2_layHung 238 = .ok (.iconst (-1), 1) := dk_2 (dk_at dksX2_layHung_10 4 rfl rfl)
theorem dX2_layHung_239 : decode cX2_layHung 239 = .ok (.iastore, 1) := dk_79 (dk_at dksX2_layHung_10 5 rfl rfl)
theorem dX2_layHung_240 : decode cX2_layHung 240 = .ok (.goto (-189), 3) := dk_167 255 67 (dk_at dksX2_layHung_10 6 rfl rfl)
theorem dX2_layHung_243 : decode cX2_layHung 243 = .ok (.return_, 1) := dk_177 (dk_at dksX2_layHung_10 9 rfl rfl)
abbrev cX2_noteHung : ByteArray := prog_20_method_133_code
def yX2_noteHung : MethodName := ⟨RX2, "noteHung", "()V"⟩
def dkwX2_noteHung_2 : List UInt8 := [4, 96, 79, 132, 1, 1, 167, 255, 204, 42, 89, 180, 1, 211, 4, 96, 181, 1, 211, 177]
abbrev dktX2_noteHung_2 : List UInt8 := dkwX2_noteHung_2 ++ []
def dkwX2_noteHung_1 : List UInt8 := [42, 180, 0, 62, 27, 46, 79, 42, 180, 0, 68, 16, 8, 27, 104, 42, 180, 0, 62, 27, 46, 96, 92, 46]
abbrev dktX2_noteHung_1 : List UInt8 := dkwX2_noteHung_1 ++ dktX2_noteHung_2
def dkwX2_noteHung_0 : List UInt8 := [3, 60, 27, 42, 180, 0, 7, 7, 46, 162, 0, 48, 42, 180, 1, 211, 154, 0, 15, 42, 180, 0, 65, 27]
abbrev dktX2_noteHung_0 : List UInt8 := dkwX2_noteHung_0 ++ dktX2_noteHung_1
theorem dksX2_noteHung_0 : cX2_noteHung.data.toList.drop 0 = dktX2_noteHung_0 := by decide +kernel
theorem dksX2_noteHung_1 : cX2_noteHung.data.toList.drop 24 = dktX2_noteHung_1 := dk_seg dksX2_noteHung_0 24 rfl rfl
theorem dksX2_noteHung_2 : cX2_noteHung.data.toList.drop 48 = dktX2_noteHung_2 := dk_seg dksX2_noteHung_1 24 rfl rfl
theorem dX2_noteHung_0 : decode cX2_noteHung 0 = .ok (.iconst 0, 1) := dk_3 (dk_at dksX2_noteHung_0 0 rfl rfl)
theorem dX2_noteHung_1 : decode cX2_noteHung 1 = .ok (.istore_n 1, 1) := dk_60 (dk_at dksX2_noteHung_0 1 rfl rfl)
theorem dX2_noteHung_2 : decode cX2_noteHung 2 = .ok (.iload_n 1, 1) := dk_27 (dk_at dksX2_noteHung_0 2 rfl rfl)
theorem dX2_noteHung_3 : decode cX2_noteHung 3 = .ok (.aload_n 0, 1) := dk_42 (dk_at dksX2_noteHung_0 3 rfl rfl)
theorem dX2_noteHung_4 : decode cX2_noteHung 4 = .ok (.getfield 7, 3) := dk_180 0 7 (dk_at dksX2_noteHung_0 4 rfl rfl)
theorem dX2_noteHung_7 : decode cX2_noteHung 7 = .ok (.iconst 4, 1) := dk_7 (dk_at dksX2_noteHung_0 7 rfl rfl)
theorem dX2_noteHung_8 : decode cX2_noteHung 8 = .ok (.iaload, 1) := dk_46 (dk_at dksX2_noteHung_0 8 rfl rfl)
theorem dX2_noteHung_9 : decode cX2_noteHung 9 = .ok (.if_icmp .ge 48, 3) := dk_162 0 48 (dk_at dksX2_noteHung_0 9 rfl rfl)
theorem dX2_noteHung_12 : decode cX2_noteHung 12 = .ok (.aload_n 0, 1) := dk_42 (dk_at dksX2_noteHung_0 12 rfl rfl)
theorem dX2_noteHung_13 : decode cX2_noteHung 13 = .ok (.getfield 467, 3) := dk_180 1 211 (dk_at dksX2_noteHung_0 13 rfl rfl)
theorem dX2_noteHung_16 : decode cX2_noteHung 16 = .ok (.ifCond .ne 15, 3) := dk_154 0 15 (dk_at dksX2_noteHung_0 16 rfl rfl)
theorem dX2_noteHung_19 : decode cX2_noteHung 19 = .ok (.aload_n 0, 1) := dk_42 (dk_at dksX2_noteHung_0 19 rfl rfl)
theorem dX2_noteHung_20 : decode cX2_noteHung 20 = .ok (.getfield 65, 3) := dk_180 0 65 (dk_at dksX2_noteHung_0 20 rfl rfl)
theorem dX2_noteHung_23 : decode cX2_noteHung 23 = .ok (.iload_n 1, 1) := dk_27 (dk_at dksX2_noteHung_0 23 rfl rfl)
theorem dX2_noteHung_24 : decode cX2_noteHung 24 = .ok (.aload_n 0, 1) := dk_42 (dk_at dksX2_noteHung_1 0 rfl rfl)
theorem dX2_noteHung_25 : decode cX2_noteHung 25 = .ok (.getfield 62, 3) := dk_180 0 62 (dk_at dksX2_noteHung_1 1 rfl rfl)
theorem dX2_noteHung_28 : decode cX2_noteHung 28 = .ok (.iload_n 1, 1) := dk_27 (dk_at dksX2_noteHung_1 4 rfl rfl)
theorem dX2_noteHung_29 : decode cX2_noteHung 29 = .ok (.iaload, 1) := dk_46 (dk_at dksX2_noteHung_1 5 rfl rfl)
theorem dX2_noteHung_30 : decode cX2_noteHung 30 = .ok (.iastore, 1) := dk_79 (dk_at dksX2_noteHung_1 6 rfl rfl)
theorem dX2_noteHung_31 : decode cX2_noteHung 31 = .ok (.aload_n 0, 1) := dk_42 (dk_at dksX2_noteHung_1 7 rfl rfl)
theorem dX2_noteHung_32 : decode cX2_noteHung 32 = .ok (.getfield 68, 3) := dk_180 0 68 (dk_at dksX2_noteHung_1 8 rfl rfl)
theorem dX2_noteHung_35 : decode cX2_noteHung 35 = .ok (.bipush 8, 2) := dk_16 8 (dk_at dksX2_noteHung_1 11 rfl rfl)
theorem dX2_noteHung_37 : decode cX2_noteHung 37 = .ok (.iload_n 1, 1) := dk_27 (dk_at dksX2_noteHung_1 13 rfl rfl)
theorem dX2_noteHung_38 : decode cX2_noteHung 38 = .ok (.imul, 1) := dk_104 (dk_at dksX2_noteHung_1 14 rfl rfl)
theorem dX2_noteHung_39 : decode cX2_noteHung 39 = .ok (.aload_n 0, 1) := dk_42 (dk_at dksX2_noteHung_1 15 rfl rfl)
theorem dX2_noteHung_40 : decode cX2_noteHung 40 = .ok (.getfield 62, 3) := dk_180 0 62 (dk_at dksX2_noteHung_1 16 rfl rfl)
theorem dX2_noteHung_43 : decode cX2_noteHung 43 = .ok (.iload_n 1, 1) := dk_27 (dk_at dksX2_noteHung_1 19 rfl rfl)
theorem dX2_noteHung_44 : decode cX2_noteHung 44 = .ok (.iaload, 1) := dk_46 (dk_at dksX2_noteHung_1 20 rfl rfl)
theorem dX2_noteHung_45 : decode cX2_noteHung 45 = .ok (.iadd, 1) := dk_96 (dk_at dksX2_noteHung_1 21 rfl rfl)
theorem dX2_noteHung_46 : decode cX2_noteHung 46 = .ok (.dup2, 1) := dk_92 (dk_at dksX2_noteHung_1 22 rfl rfl)
theorem dX2_noteHung_47 : decode cX2_noteHung 47 = .ok (.iaload, 1) := dk_46 (dk_at dksX2_noteHung_1 23 rfl rfl)
theorem dX2_noteHung_48 : decode cX2_noteHung 48 = .ok (.iconst 1, 1) := dk_4 (dk_at dksX2_noteHung_2 0 rfl rfl)
theorem dX2_noteHung_49 : decode cX2_noteHung 49 = .ok (.iadd, 1) := dk_96 (dk_at dksX2_noteHung_2 1 rfl rfl)
theorem dX2_noteHung_50 : decode cX2_noteHung 50 = .ok (.iastore, 1) := dk_79 (dk_at dksX2_noteHung_2 2 rfl rfl)
theorem dX2_noteHung_51 : decode cX2_noteHung 51 = .ok (.iinc 1 1, 3) := dk_132 1 1 (dk_at dksX2_noteHung_2 3 rfl rfl)
theorem dX2_noteHung_54 : decode cX2_noteHung 54 = .ok (.goto (-52), 3) := dk_167 255 204 (dk_at dksX2_noteHung_2 6 rfl rfl)
theorem dX2_noteHung_57 : decode cX2_noteHung 57 = .ok (.aload_n 0, 1) := dk_42 (dk_at dksX2_noteHung_2 9 rfl rfl)
theorem dX2_noteHung_58 : decode cX2_noteHung 58 = .ok (.dup, 1) := dk_89 (dk_at dksX2_noteHung_2 10 rfl rfl)
theorem dX2_noteHung_59 : decode cX2_noteHung 59 = .ok (.getfield 467, 3) := dk_180 1 211 (dk_at dksX2_noteHung_2 11 rfl rfl)
theorem dX2_noteHung_62 : decode cX2_noteHung 62 = .ok (.iconst 1, 1) := dk_4 (dk_at dksX2_noteHung_2 14 rfl rfl)
theorem dX2_noteHung_63 : decode cX2_noteHung 63 = .ok (.iadd, 1) := dk_96 (dk_at dksX2_noteHung_2 15 rfl rfl)
theorem dX2_noteHung_64 : decode cX2_noteHung 64 = .ok (.putfield 467, 3) := dk_181 1 211 (dk_at dksX2_noteHung_2 16 rfl rfl)
theorem dX2_noteHung_67 : decode cX2_noteHung 67 = .ok (.return_, 1) := dk_177 (dk_at dksX2_noteHung_2 19 rfl rfl)
abbrev cX2_size : ByteArray := prog_20_method_5_code
def yX2_size : MethodName := ⟨RX2, "size", "(I)I"⟩
def dkwX2_size_0 : List UInt8 := [26, 156, 0, 8, 26, 116, 167, 0, 4, 26, 172]
abbrev dktX2_size_0 : List UInt8 := dkwX2_size_0 ++ []
theorem dksX2_size_0 : cX2_size.data.toList.drop 0 = dktX2_size_0 := by decide +kernel
theorem dX2_size_0 : decode cX2_size 0 = .ok (.iload_n 0, 1) := dk_26 (dk_at dksX2_size_0 0 rfl rfl)
theorem dX2_size_1 : decode cX2_size 1 = .ok (.ifCond .ge 8, 3) := dk_156 0 8 (dk_at dksX2_size_0 1 rfl rfl)
theorem dX2_size_4 : decode cX2_size 4 = .ok (.iload_n 0, 1) := dk_26 (dk_at dksX2_size_0 4 rfl rfl)
theorem dX2_size_5 : decode cX2_size 5 = .ok (.ineg, 1) := dk_116 (dk_at dksX2_size_0 5 rfl rfl)
theorem dX2_size_6 : decode cX2_size 6 = .ok (.goto 4, 3) := dk_167 0 4 (dk_at dksX2_size_0 6 rfl rfl)
theorem dX2_size_9 : decode cX2_size 9 = .ok (.iload_n 0, 1) := dk_26 (dk_at dksX2_size_0 9 rfl rfl)
theorem dX2_size_10 : decode cX2_size 10 = .ok (.ireturn, 1) := dk_172 (dk_at dksX2_size_0 10 rfl rfl)
abbrev cX2_look : ByteArray := prog_20_method_136_code
def yX2_look : MethodName := ⟨RX2, "look", "(I)I"⟩
def dkwX2_look_5 : List UInt8 := [132, 4, 1, 167, 255, 162, 28, 172]
abbrev dktX2_look_5 : List UInt8 := dkwX2_look_5 ++ []
def dkwX2_look_4 : List UInt8 := [54, 5, 132, 6, 1, 167, 255, 208, 21, 5, 29, 161, 0, 6, 167, 0, 9, 21, 5, 62, 21, 4, 61]
abbrev dktX2_look_4 : List UInt8 := dkwX2_look_4 ++ dktX2_look_5
def dkwX2_look_3 : List UInt8 := [21, 5, 164, 0, 19, 42, 180, 0, 68, 16, 8, 21, 4, 104, 21, 6, 96, 46, 167, 0, 5, 21, 5]
abbrev dktX2_look_3 : List UInt8 := dkwX2_look_3 ++ dktX2_look_4
def dkwX2_look_2 : List UInt8 := [3, 54, 6, 21, 6, 16, 8, 162, 0, 47, 42, 180, 0, 68, 16, 8, 21, 4, 104, 21, 6, 96, 46]
abbrev dktX2_look_2 : List UInt8 := dkwX2_look_2 ++ dktX2_look_3
def dkwX2_look_1 : List UInt8 := [54, 4, 21, 4, 42, 180, 0, 7, 7, 46, 162, 0, 89, 42, 180, 1, 211, 4, 164, 0, 81, 3, 54, 5]
abbrev dktX2_look_1 : List UInt8 := dkwX2_look_1 ++ dktX2_look_2
def dkwX2_look_0 : List UInt8 := [27, 3, 16, 9, 184, 0, 81, 154, 0, 5, 2, 172, 42, 27, 182, 1, 220, 2, 61, 19, 1, 167, 62, 3]
abbrev dktX2_look_0 : List UInt8 := dkwX2_look_0 ++ dktX2_look_1
theorem dksX2_look_0 : cX2_look.data.toList.drop 0 = dktX2_look_0 := by decide +kernel
theorem dksX2_look_1 : cX2_look.data.toList.drop 24 = dktX2_look_1 := dk_seg dksX2_look_0 24 rfl rfl
theorem dksX2_look_2 : cX2_look.data.toList.drop 48 = dktX2_look_2 := dk_seg dksX2_look_1 24 rfl rfl
theorem dksX2_look_3 : cX2_look.data.toList.drop 71 = dktX2_look_3 := dk_seg dksX2_look_2 23 rfl rfl
theorem dksX2_look_4 : cX2_look.data.toList.drop 94 = dktX2_look_4 := dk_seg dksX2_look_3 23 rfl rfl
theorem dksX2_look_5 : cX2_look.data.toList.drop 117 = dktX2_look_5 := dk_seg dksX2_look_4 23 rfl rfl
theorem dX2_look_0 : decode cX2_look 0 = .ok (.iload_n 1, 1) := dk_27 (dk_at dksX2_look_0 0 rfl rfl)
theorem dX2_look_1 : decode cX2_look 1 = .ok (.iconst 0, 1) := dk_3 (dk_at dksX2_look_0 1 rfl rfl)
theorem dX2_look_2 : decode cX2_look 2 = .ok (.bipush 9, 2) := dk_16 9 (dk_at dksX2_look_0 2 rfl rfl)
theorem dX2_look_4 : decode cX2_look 4 = .ok (.invokestatic 81, 3) := dk_184 0 81 (dk_at dksX2_look_0 4 rfl rfl)
theorem dX2_look_7 : decode cX2_look 7 = .ok (.ifCond .ne 5, 3) := dk_154 0 5 (dk_at dksX2_look_0 7 rfl rfl)
theorem dX2_look_10 : decode cX2_look 10 = .ok (.iconst (-1), 1) := dk_2 (dk_at dksX2_look_0 10 rfl rfl)
theorem dX2_look_11 : decode cX2_look 11 = .ok (.ireturn, 1) := dk_172 (dk_at dksX2_look_0 11 rfl rfl)
theorem dX2_look_12 : decode cX2_look 12 = .ok (.aload_n 0, 1) := dk_42 (dk_at dksX2_look_0 12 rfl rfl)
theorem dX2_look_13 : decode cX2_look 13 = .ok (.iload_n 1, 1) := dk_27 (dk_at dksX2_look_0 13 rfl rfl)
theorem dX2_look_14 : decode cX2_look 14 = .ok (.invokevirtual 476, 3) := dk_182 1 220 (dk_at dksX2_look_0 14 rfl rfl)
theorem dX2_look_17 : decode cX2_look 17 = .ok (.iconst (-1), 1) := dk_2 (dk_at dksX2_look_0 17 rfl rfl)
theorem dX2_look_18 : decode cX2_look 18 = .ok (.istore_n 2, 1) := dk_61 (dk_at dksX2_look_0 18 rfl rfl)
theorem dX2_look_19 : decode cX2_look 19 = .ok (.ldc_w 423, 3) := dk_19 1 167 (dk_at dksX2_look_0 19 rfl rfl)
theorem dX2_look_22 : decode cX2_look 22 = .ok (.istore_n 3, 1) := dk_62 (dk_at dksX2_look_0 22 rfl rfl)
theorem dX2_look_23 : decode cX2_look 23 = .ok (.iconst 0, 1) := dk_3 (dk_at dksX2_look_0 23 rfl rfl)
theorem dX2_look_24 : decode cX2_look 24 = .ok (.istore 4, 2) := dk_54 4 (dk_at dksX2_look_1 0 rfl rfl)
theorem dX2_look_26 : decode cX2_look 26 = .ok (.iload 4, 2) := dk_21 4 (dk_at dksX2_look_1 2 rfl rfl)
theorem dX2_look_28 : decode cX2_look 28 = .ok (.aload_n 0, 1) := dk_42 (dk_at dksX2_look_1 4 rfl rfl)
theorem dX2_look_29 : decode cX2_look 29 = .ok (.getfield 7, 3) := dk_180 0 7 (dk_at dksX2_look_1 5 rfl rfl)
theorem dX2_look_32 : decode cX2_look 32 = .ok (.iconst 4, 1) := dk_7 (dk_at dksX2_look_1 8 rfl rfl)
theorem dX2_look_33 : decode cX2_look 33 = .ok (.iaload, 1) := dk_46 (dk_at dksX2_look_1 9 rfl rfl)
theorem dX2_look_34 : decode cX2_look 34 = .ok (.if_icmp .ge 89, 3) := dk_162 0 89 (dk_at dksX2_look_1 10 rfl rfl)
theorem dX2_look_37 : decode cX2_look 37 = .ok (.aload_n 0, 1) := dk_42 (dk_at dksX2_look_1 13 rfl rfl)
theorem dX2_look_38 : decode cX2_look 38 = .ok (.getfield 467, 3) := dk_180 1 211 (dk_at dksX2_look_1 14 rfl rfl)
theorem dX2_look_41 : decode cX2_look 41 = .ok (.iconst 1, 1) := dk_4 (dk_at dksX2_look_1 17 rfl rfl)
theorem dX2_look_42 : decode cX2_look 42 = .ok (.if_icmp .le 81, 3) := dk_164 0 81 (dk_at dksX2_look_1 18 rfl rfl)
theorem dX2_look_45 : decode cX2_look 45 = .ok (.iconst 0, 1) := dk_3 (dk_at dksX2_look_1 21 rfl rfl)
theorem dX2_look_46 : decode cX2_look 46 = .ok (.istore 5, 2) := dk_54 5 (dk_at dksX2_look_1 22 rfl rfl)
theorem dX2_look_48 : decode cX2_look 48 = .ok (.iconst 0, 1) := dk_3 (dk_at dksX2_look_2 0 rfl rfl)
theorem dX2_look_49 : decode cX2_look 49 = .ok (.istore 6, 2) := dk_54 6 (dk_at dksX2_look_2 1 rfl rfl)
theorem dX2_look_51 : decode cX2_look 51 = .ok (.iload 6, 2) := dk_21 6 (dk_at dksX2_look_2 3 rfl rfl)
theorem dX2_look_53 : decode cX2_look 53 = .ok (.bipush 8, 2) := dk_16 8 (dk_at dksX2_look_2 5 rfl rfl)
theorem dX2_look_55 : decode cX2_look 55 = .ok (.if_icmp .ge 47, 3) := dk_162 0 47 (dk_at dksX2_look_2 7 rfl rfl)
theorem dX2_look_58 : decode cX2_look 58 = .ok (.aload_n 0, 1) := dk_42 (dk_at dksX2_look_2 10 rfl rfl)
theorem dX2_look_59 : decode cX2_look 59 = .ok (.getfield 68, 3) := dk_180 0 68 (dk_at dksX2_look_2 11 rfl rfl)
theorem dX2_look_62 : decode cX2_look 62 = .ok (.bipush 8, 2) := dk_16 8 (dk_at dksX2_look_2 14 rfl rfl)
theorem dX2_look_64 : decode cX2_look 64 = .ok (.iload 4, 2) := dk_21 4 (dk_at dksX2_look_2 16 rfl rfl)
theorem dX2_look_66 : decode cX2_look 66 = .ok (.imul, 1) := dk_104 (dk_at dksX2_look_2 18 rfl rfl)
theorem dX2_look_67 : decode cX2_look 67 = .ok (.iload 6, 2) := dk_21 6 (dk_at dksX2_look_2 19 rfl rfl)
theorem dX2_look_69 : decode cX2_look 69 = .ok (.iadd, 1) := dk_96 (dk_at dksX2_look_2 21 rfl rfl)
theorem dX2_look_70 : decode cX2_look 70 = .ok (.iaload, 1) := dk_46 (dk_at dksX2_look_2 22 rfl rfl)
theorem dX2_look_71 : decode cX2_look 71 = .ok (.iload 5, 2) := dk_21 5 (dk_at dksX2_look_3 0 rfl rfl)
theorem dX2_look_73 : decode cX2_look 73 = .ok (.if_icmp .le 19, 3) := dk_164 0 19 (dk_at dksX2_look_3 2 rfl rfl)
theorem dX2_look_76 : decode cX2_look 76 = .ok (.aload_n 0, 1) := dk_42 (dk_at dksX2_look_3 5 rfl rfl)
theorem dX2_look_77 : decode cX2_look 77 = .ok (.getfield 68, 3) := dk_180 0 68 (dk_at dksX2_look_3 6 rfl rfl)
theorem dX2_look_80 : decode cX2_look 80 = .ok (.bipush 8, 2) := dk_16 8 (dk_at dksX2_look_3 9 rfl rfl)
theorem dX2_look_82 : decode cX2_look 82 = .ok (.iload 4, 2) := dk_21 4 (dk_at dksX2_look_3 11 rfl rfl)
theorem dX2_look_84 : decode cX2_look 84 = .ok (.imul, 1) := dk_104 (dk_at dksX2_look_3 13 rfl rfl)
theorem dX2_look_85 : decode cX2_look 85 = .ok (.iload 6, 2) := dk_21 6 (dk_at dksX2_look_3 14 rfl rfl)
theorem dX2_look_87 : decode cX2_look 87 = .ok (.iadd, 1) := dk_96 (dk_at dksX2_look_3 16 rfl rfl)
theorem dX2_look_88 : decode cX2_look 88 = .ok (.iaload, 1) := dk_46 (dk_at dksX2_look_3 17 rfl rfl)
theorem dX2_look_89 : decode cX2_look 89 = .ok (.goto 5, 3) := dk_167 0 5 (dk_at dksX2_look_3 18 rfl rfl)
theorem dX2_look_92 : decode cX2_look 92 = .ok (.iload 5, 2) := dk_21 5 (dk_at dksX2_look_3 21 rfl rfl)
theorem dX2_look_94 : decode cX2_look 94 = .ok (.istore 5, 2) := dk_54 5 (dk_at dksX2_look_4 0 rfl rfl)
theorem dX2_look_96 : decode cX2_look 96 = .ok (.iinc 6 1, 3) := dk_132 6 1 (dk_at dksX2_look_4 2 rfl rfl)
theorem dX2_look_99 : decode cX2_look 99 = .ok (.goto (-48), 3) := dk_167 255 208 (dk_at dksX2_look_4 5 rfl rfl)
theorem dX2_look_102 : decode cX2_look 102 = .ok (.iload 5, 2) := dk_21 5 (dk_at dksX2_look_4 8 rfl rfl)
theorem dX2_look_104 : decode cX2_look 104 = .ok (.iload_n 3, 1) := dk_29 (dk_at dksX2_look_4 10 rfl rfl)
theorem dX2_look_105 : decode cX2_look 105 = .ok (.if_icmp .lt 6, 3) := dk_161 0 6 (dk_at dksX2_look_4 11 rfl rfl)
theorem dX2_look_108 : decode cX2_look 108 = .ok (.goto 9, 3) := dk_167 0 9 (dk_at dksX2_look_4 14 rfl rfl)
theorem dX2_look_111 : decode cX2_look 111 = .ok (.iload 5, 2) := dk_21 5 (dk_at dksX2_look_4 17 rfl rfl)
theorem dX2_look_113 : decode cX2_look 113 = .ok (.istore_n 3, 1) := dk_62 (dk_at dksX2_look_4 19 rfl rfl)
theorem dX2_look_114 : decode cX2_look 114 = .ok (.iload 4, 2) := dk_21 4 (dk_at dksX2_look_4 20 rfl rfl)
theorem dX2_look_116 : decode cX2_look 116 = .ok (.istore_n 2, 1) := dk_61 (dk_at dksX2_look_4 22 rfl rfl)
theorem dX2_look_117 : decode cX2_look 117 = .ok (.iinc 4 1, 3) := dk_132 4 1 (dk_at dksX2_look_5 0 rfl rfl)
theorem dX2_look_120 : decode cX2_look 120 = .ok (.goto (-94), 3) := dk_167 255 162 (dk_at dksX2_look_5 3 rfl rfl)
theorem dX2_look_123 : decode cX2_look 123 = .ok (.iload_n 2, 1) := dk_28 (dk_at dksX2_look_5 6 rfl rfl)
theorem dX2_look_124 : decode cX2_look 124 = .ok (.ireturn, 1) := dk_172 (dk_at dksX2_look_5 7 rfl rfl)
abbrev cX2_bid : ByteArray := prog_20_method_137_code
def yX2_bid : MethodName := ⟨RX2, "bid", "(IZ)I"⟩
def dkwX2_bid_4 : List UInt8 := [180, 0, 7, 8, 46, 172]
abbrev dktX2_bid_4 : List UInt8 := dkwX2_bid_4 ++ []
def dkwX2_bid_3 : List UInt8 := [4, 96, 28, 153, 0, 7, 4, 167, 0, 4, 3, 79, 42, 180, 0, 7, 8, 92, 46, 4, 96, 79, 42]
abbrev dktX2_bid_3 : List UInt8 := dkwX2_bid_3 ++ dktX2_bid_4
def dkwX2_bid_2 : List UInt8 := [180, 0, 7, 8, 46, 104, 96, 27, 79, 42, 180, 0, 7, 16, 74, 5, 42, 180, 0, 7, 8, 46, 104, 96]
abbrev dktX2_bid_2 : List UInt8 := dkwX2_bid_2 ++ dktX2_bid_3
def dkwX2_bid_1 : List UInt8 := [42, 180, 0, 7, 8, 46, 16, 10, 160, 0, 6, 16, 254, 172, 42, 180, 0, 7, 16, 74, 5, 42]
abbrev dktX2_bid_1 : List UInt8 := dkwX2_bid_1 ++ dktX2_bid_2
def dkwX2_bid_0 : List UInt8 := [27, 2, 160, 0, 12, 42, 180, 0, 7, 8, 3, 79, 3, 172, 27, 3, 16, 99, 184, 0, 81, 153, 0, 14]
abbrev dktX2_bid_0 : List UInt8 := dkwX2_bid_0 ++ dktX2_bid_1
theorem dksX2_bid_0 : cX2_bid.data.toList.drop 0 = dktX2_bid_0 := by decide +kernel
theorem dksX2_bid_1 : cX2_bid.data.toList.drop 24 = dktX2_bid_1 := dk_seg dksX2_bid_0 24 rfl rfl
theorem dksX2_bid_2 : cX2_bid.data.toList.drop 46 = dktX2_bid_2 := dk_seg dksX2_bid_1 22 rfl rfl
theorem dksX2_bid_3 : cX2_bid.data.toList.drop 70 = dktX2_bid_3 := dk_seg dksX2_bid_2 24 rfl rfl
theorem dksX2_bid_4 : cX2_bid.data.toList.drop 93 = dktX2_bid_4 := dk_seg dksX2_bid_3 23 rfl rfl
theorem dX2_bid_0 : decode cX2_bid 0 = .ok (.iload_n 1, 1) := dk_27 (dk_at dksX2_bid_0 0 rfl rfl)
theorem dX2_bid_1 : decode cX2_bid 1 = .ok (.iconst (-1), 1) := dk_2 (dk_at dksX2_bid_0 1 rfl rfl)
theorem dX2_bid_2 : decode cX2_bid 2 = .ok (.if_icmp .ne 12, 3) := dk_160 0 12 (dk_at dksX2_bid_0 2 rfl rfl)
theorem dX2_bid_5 : decode cX2_bid 5 = .ok (.aload_n 0, 1) := dk_42 (dk_at dksX2_bid_0 5 rfl rfl)
theorem dX2_bid_6 : decode cX2_bid 6 = .ok (.getfield 7, 3) := dk_180 0 7 (dk_at dksX2_bid_0 6 rfl rfl)
theorem dX2_bid_9 : decode cX2_bid 9 = .ok (.iconst 5, 1) := dk_8 (dk_at dksX2_bid_0 9 rfl rfl)
theorem dX2_bid_10 : decode cX2_bid 10 = .ok (.iconst 0, 1) := dk_3 (dk_at dksX2_bid_0 10 rfl rfl)
theorem dX2_bid_11 : decode cX2_bid 11 = .ok (.iastore, 1) := dk_79 (dk_at dksX2_bid_0 11 rfl rfl)
theorem dX2_bid_12 : decode cX2_bid 12 = .ok (.iconst 0, 1) := dk_3 (dk_at dksX2_bid_0 12 rfl rfl)
theorem dX2_bid_13 : decode cX2_bid 13 = .ok (.ireturn, 1) := dk_172 (dk_at dksX2_bid_0 13 rfl rfl)
theorem dX2_bid_14 : decode cX2_bid 14 = .ok (.iload_n 1, 1) := dk_27 (dk_at dksX2_bid_0 14 rfl rfl)
theorem dX2_bid_15 : decode cX2_bid 15 = .ok (.iconst 0, 1) := dk_3 (dk_at dksX2_bid_0 15 rfl rfl)
theorem dX2_bid_16 : decode cX2_bid 16 = .ok (.bipush 99, 2) := dk_16 99 (dk_at dksX2_bid_0 16 rfl rfl)
theorem dX2_bid_18 : decode cX2_bid 18 = .ok (.invokestatic 81, 3) := dk_184 0 81 (dk_at dksX2_bid_0 18 rfl rfl)
theorem dX2_bid_21 : decode cX2_bid 21 = .ok (.ifCond .eq 14, 3) := dk_153 0 14 (dk_at dksX2_bid_0 21 rfl rfl)
theorem dX2_bid_24 : decode cX2_bid 24 = .ok (.aload_n 0, 1) := dk_42 (dk_at dksX2_bid_1 0 rfl rfl)
theorem dX2_bid_25 : decode cX2_bid 25 = .ok (.getfield 7, 3) := dk_180 0 7 (dk_at dksX2_bid_1 1 rfl rfl)
theorem dX2_bid_28 : decode cX2_bid 28 = .ok (.iconst 5, 1) := dk_8 (dk_at dksX2_bid_1 4 rfl rfl)
theorem dX2_bid_29 : decode cX2_bid 29 = .ok (.iaload, 1) := dk_46 (dk_at dksX2_bid_1 5 rfl rfl)
theorem dX2_bid_30 : decode cX2_bid 30 = .ok (.bipush 10, 2) := dk_16 10 (dk_at dksX2_bid_1 6 rfl rfl)
theorem dX2_bid_32 : decode cX2_bid 32 = .ok (.if_icmp .ne 6, 3) := dk_160 0 6 (dk_at dksX2_bid_1 8 rfl rfl)
theorem dX2_bid_35 : decode cX2_bid 35 = .ok (.bipush (-2), 2) := dk_16 254 (dk_at dksX2_bid_1 11 rfl rfl)
theorem dX2_bid_37 : decode cX2_bid 37 = .ok (.ireturn, 1) := dk_172 (dk_at dksX2_bid_1 13 rfl rfl)
theorem dX2_bid_38 : decode cX2_bid 38 = .ok (.aload_n 0, 1) := dk_42 (dk_at dksX2_bid_1 14 rfl rfl)
theorem dX2_bid_39 : decode cX2_bid 39 = .ok (.getfield 7, 3) := dk_180 0 7 (dk_at dksX2_bid_1 15 rfl rfl)
theorem dX2_bid_42 : decode cX2_bid 42 = .ok (.bipush 74, 2) := dk_16 74 (dk_at dksX2_bid_1 18 rfl rfl)
theorem dX2_bid_44 : decode cX2_bid 44 = .ok (.iconst 2, 1) := dk_5 (dk_at dksX2_bid_1 20 rfl rfl)
theorem dX2_bid_45 : decode cX2_bid 45 = .ok (.aload_n 0, 1) := dk_42 (dk_at dksX2_bid_1 21 rfl rfl)
theorem dX2_bid_46 : decode cX2_bid 46 = .ok (.getfield 7, 3) := dk_180 0 7 (dk_at dksX2_bid_2 0 rfl rfl)
theorem dX2_bid_49 : decode cX2_bid 49 = .ok (.iconst 5, 1) := dk_8 (dk_at dksX2_bid_2 3 rfl rfl)
theorem dX2_bid_50 : decode cX2_bid 50 = .ok (.iaload, 1) := dk_46 (dk_at dksX2_bid_2 4 rfl rfl)
theorem dX2_bid_51 : decode cX2_bid 51 = .ok (.imul, 1) := dk_104 (dk_at dksX2_bid_2 5 rfl rfl)
theorem dX2_bid_52 : decode cX2_bid 52 = .ok (.iadd, 1) := dk_96 (dk_at dksX2_bid_2 6 rfl rfl)
theorem dX2_bid_53 : decode cX2_bid 53 = .ok (.iload_n 1, 1) := dk_27 (dk_at dksX2_bid_2 7 rfl rfl)
theorem dX2_bid_54 : decode cX2_bid 54 = .ok (.iastore, 1) := dk_79 (dk_at dksX2_bid_2 8 rfl rfl)
theorem dX2_bid_55 : decode cX2_bid 55 = .ok (.aload_n 0, 1) := dk_42 (dk_at dksX2_bid_2 9 rfl rfl)
theorem dX2_bid_56 : decode cX2_bid 56 = .ok (.getfield 7, 3) := dk_180 0 7 (dk_at dksX2_bid_2 10 rfl rfl)
theorem dX2_bid_59 : decode cX2_bid 59 = .ok (.bipush 74, 2) := dk_16 74 (dk_at dksX2_bid_2 13 rfl rfl)
theorem dX2_bid_61 : decode cX2_bid 61 = .ok (.iconst 2, 1) := dk_5 (dk_at dksX2_bid_2 15 rfl rfl)
theorem dX2_bid_62 : decode cX2_bid 62 = .ok (.aload_n 0, 1) := dk_42 (dk_at dksX2_bid_2 16 rfl rfl)
theorem dX2_bid_63 : decode cX2_bid 63 = .ok (.getfield 7, 3) := dk_180 0 7 (dk_at dksX2_bid_2 17 rfl rfl)
theorem dX2_bid_66 : decode cX2_bid 66 = .ok (.iconst 5, 1) := dk_8 (dk_at dksX2_bid_2 20 rfl rfl)
theorem dX2_bid_67 : decode cX2_bid 67 = .ok (.iaload, 1) := dk_46 (dk_at dksX2_bid_2 21 rfl rfl)
theorem dX2_bid_68 : decode cX2_bid 68 = .ok (.imul, 1) := dk_104 (dk_at dksX2_bid_2 22 rfl rfl)
theorem dX2_bid_69 : decode cX2_bid 69 = .ok (.iadd, 1) := dk_96 (dk_at dksX2_bid_2 23 rfl rfl)
theorem dX2_bid_70 : decode cX2_bid 70 = .ok (.iconst 1, 1) := dk_4 (dk_at dksX2_bid_3 0 rfl rfl)
theorem dX2_bid_71 : decode cX2_bid 71 = .ok (.iadd, 1) := dk_96 (dk_at dksX2_bid_3 1 rfl rfl)
theorem dX2_bid_72 : decode cX2_bid 72 = .ok (.iload_n 2, 1) := dk_28 (dk_at dksX2_bid_3 2 rfl rfl)
theorem dX2_bid_73 : decode cX2_bid 73 = .ok (.ifCond .eq 7, 3) := dk_153 0 7 (dk_at dksX2_bid_3 3 rfl rfl)
theorem dX2_bid_76 : decode cX2_bid 76 = .ok (.iconst 1, 1) := dk_4 (dk_at dksX2_bid_3 6 rfl rfl)
theorem dX2_bid_77 : decode cX2_bid 77 = .ok (.goto 4, 3) := dk_167 0 4 (dk_at dksX2_bid_3 7 rfl rfl)
theorem dX2_bid_80 : decode cX2_bid 80 = .ok (.iconst 0, 1) := dk_3 (dk_at dksX2_bid_3 10 rfl rfl)
theorem dX2_bid_81 : decode cX2_bid 81 = .ok (.iastore, 1) := dk_79 (dk_at dksX2_bid_3 11 rfl rfl)
theorem dX2_bid_82 : decode cX2_bid 82 = .ok (.aload_n 0, 1) := dk_42 (dk_at dksX2_bid_3 12 rfl rfl)
theorem dX2_bid_83 : decode cX2_bid 83 = .ok (.getfield 7, 3) := dk_180 0 7 (dk_at dksX2_bid_3 13 rfl rfl)
theorem dX2_bid_86 : decode cX2_bid 86 = .ok (.iconst 5, 1) := dk_8 (dk_at dksX2_bid_3 16 rfl rfl)
theorem dX2_bid_87 : decode cX2_bid 87 = .ok (.dup2, 1) := dk_92 (dk_at dksX2_bid_3 17 rfl rfl)
theorem dX2_bid_88 : decode cX2_bid 88 = .ok (.iaload, 1) := dk_46 (dk_at dksX2_bid_3 18 rfl rfl)
theorem dX2_bid_89 : decode cX2_bid 89 = .ok (.iconst 1, 1) := dk_4 (dk_at dksX2_bid_3 19 rfl rfl)
theorem dX2_bid_90 : decode cX2_bid 90 = .ok (.iadd, 1) := dk_96 (dk_at dksX2_bid_3 20 rfl rfl)
theorem dX2_bid_91 : decode cX2_bid 91 = .ok (.iastore, 1) := dk_79 (dk_at dksX2_bid_3 21 rfl rfl)
theorem dX2_bid_92 : decode cX2_bid 92 = .ok (.aload_n 0, 1) := dk_42 (dk_at dksX2_bid_3 22 rfl rfl)
theorem dX2_bid_93 : decode cX2_bid 93 = .ok (.getfield 7, 3) := dk_180 0 7 (dk_at dksX2_bid_4 0 rfl rfl)
theorem dX2_bid_96 : decode cX2_bid 96 = .ok (.iconst 5, 1) := dk_8 (dk_at dksX2_bid_4 3 rfl rfl)
theorem dX2_bid_97 : decode cX2_bid 97 = .ok (.iaload, 1) := dk_46 (dk_at dksX2_bid_4 4 rfl rfl)
theorem dX2_bid_98 : decode cX2_bid 98 = .ok (.ireturn, 1) := dk_172 (dk_at dksX2_bid_4 5 rfl rfl)
abbrev cX2_market : ByteArray := prog_20_method_140_code
def yX2_market : MethodName := ⟨RX2, "market", "(I)I"⟩
def dkwX2_market_4 : List UInt8 := [28, 46, 54, 4, 27, 4, 160, 0, 7, 29, 167, 0, 5, 21, 4, 172]
abbrev dktX2_market_4 : List UInt8 := dkwX2_market_4 ++ []
def dkwX2_market_3 : List UInt8 := [62, 28, 42, 180, 1, 226, 162, 0, 22, 42, 180, 0, 74, 28, 46, 21, 4, 162, 0, 11, 42, 180, 0, 74]
abbrev dktX2_market_3 : List UInt8 := dkwX2_market_3 ++ dktX2_market_4
def dkwX2_market_2 : List UInt8 := [28, 42, 180, 1, 223, 162, 0, 20, 42, 180, 0, 71, 28, 46, 29, 164, 0, 10, 42, 180, 0, 71, 28, 46]
abbrev dktX2_market_2 : List UInt8 := dkwX2_market_2 ++ dktX2_market_3
def dkwX2_market_1 : List UInt8 := [154, 0, 5, 2, 172, 42, 180, 0, 74, 28, 4, 100, 46, 62, 42, 180, 0, 71, 28, 4, 100, 46, 54, 4]
abbrev dktX2_market_1 : List UInt8 := dkwX2_market_1 ++ dktX2_market_2
def dkwX2_market_0 : List UInt8 := [27, 3, 5, 184, 0, 81, 154, 0, 5, 2, 172, 42, 182, 1, 233, 61, 27, 154, 0, 5, 28, 172, 28]
abbrev dktX2_market_0 : List UInt8 := dkwX2_market_0 ++ dktX2_market_1
theorem dksX2_market_0 : cX2_market.data.toList.drop 0 = dktX2_market_0 := by decide +kernel
theorem dksX2_market_1 : cX2_market.data.toList.drop 23 = dktX2_market_1 := dk_seg dksX2_market_0 23 rfl rfl
theorem dksX2_market_2 : cX2_market.data.toList.drop 47 = dktX2_market_2 := dk_seg dksX2_market_1 24 rfl rfl
theorem dksX2_market_3 : cX2_market.data.toList.drop 71 = dktX2_market_3 := dk_seg dksX2_market_2 24 rfl rfl
theorem dksX2_market_4 : cX2_market.data.toList.drop 95 = dktX2_market_4 := dk_seg dksX2_market_3 24 rfl rfl
theorem dX2_market_0 : decode cX2_market 0 = .ok (.iload_n 1, 1) := dk_27 (dk_at dksX2_market_0 0 rfl rfl)
theorem dX2_market_1 : decode cX2_market 1 = .ok (.iconst 0, 1) := dk_3 (dk_at dksX2_market_0 1 rfl rfl)
theorem dX2_market_2 : decode cX2_market 2 = .ok (.iconst 2, 1) := dk_5 (dk_at dksX2_market_0 2 rfl rfl)
theorem dX2_market_3 : decode cX2_market 3 = .ok (.invokestatic 81, 3) := dk_184 0 81 (dk_at dksX2_market_0 3 rfl rfl)
theorem dX2_market_6 : decode cX2_market 6 = .ok (.ifCond .ne 5, 3) := dk_154 0 5 (dk_at dksX2_market_0 6 rfl rfl)
theorem dX2_market_9 : decode cX2_market 9 = .ok (.iconst (-1), 1) := dk_2 (dk_at dksX2_market_0 9 rfl rfl)
theorem dX2_market_10 : decode cX2_market 10 = .ok (.ireturn, 1) := dk_172 (dk_at dksX2_market_0 10 rfl rfl)
theorem dX2_market_11 : decode cX2_market 11 = .ok (.aload_n 0, 1) := dk_42 (dk_at dksX2_market_0 11 rfl rfl)
theorem dX2_market_12 : decode cX2_market 12 = .ok (.invokevirtual 489, 3) := dk_182 1 233 (dk_at dksX2_market_0 12 rfl rfl)
theorem dX2_market_15 : decode cX2_market 15 = .ok (.istore_n 2, 1) := dk_61 (dk_at dksX2_market_0 15 rfl rfl)
theorem dX2_market_16 : decode cX2_market 16 = .ok (.iload_n 1, 1) := dk_27 (dk_at dksX2_market_0 16 rfl rfl)
theorem dX2_market_17 : decode cX2_market 17 = .ok (.ifCond .ne 5, 3) := dk_154 0 5 (dk_at dksX2_market_0 17 rfl rfl)
theorem dX2_market_20 : decode cX2_market 20 = .ok (.iload_n 2, 1) := dk_28 (dk_at dksX2_market_0 20 rfl rfl)
theorem dX2_market_21 : decode cX2_market 21 = .ok (.ireturn, 1) := dk_172 (dk_at dksX2_market_0 21 rfl rfl)
theorem dX2_market_22 : decode cX2_market 22 = .ok (.iload_n 2, 1) := dk_28 (dk_at dksX2_market_0 22 rfl rfl)
theorem dX2_market_23 : decode cX2_market 23 = .ok (.ifCond .ne 5, 3) := dk_154 0 5 (dk_at dksX2_market_1 0 rfl rfl)
theorem dX2_market_26 : decode cX2_market 26 = .ok (.iconst (-1), 1) := dk_2 (dk_at dksX2_market_1 3 rfl rfl)
theorem dX2_market_27 : decode cX2_market 27 = .ok (.ireturn, 1) := dk_172 (dk_at dksX2_market_1 4 rfl rfl)
theorem dX2_market_28 : decode cX2_market 28 = .ok (.aload_n 0, 1) := dk_42 (dk_at dksX2_market_1 5 rfl rfl)
theorem dX2_market_29 : decode cX2_market 29 = .ok (.getfield 74, 3) := dk_180 0 74 (dk_at dksX2_market_1 6 rfl rfl)
theorem dX2_market_32 : decode cX2_market 32 = .ok (.iload_n 2, 1) := dk_28 (dk_at dksX2_market_1 9 rfl rfl)
theorem dX2_market_33 : decode cX2_market 33 = .ok (.iconst 1, 1) := dk_4 (dk_at dksX2_market_1 10 rfl rfl)
theorem dX2_market_34 : decode cX2_market 34 = .ok (.isub, 1) := dk_100 (dk_at dksX2_market_1 11 rfl rfl)
theorem dX2_market_35 : decode cX2_market 35 = .ok (.iaload, 1) := dk_46 (dk_at dksX2_market_1 12 rfl rfl)
theorem dX2_market_36 : decode cX2_market 36 = .ok (.istore_n 3, 1) := dk_62 (dk_at dksX2_market_1 13 rfl rfl)
theorem dX2_market_37 : decode cX2_market 37 = .ok (.aload_n 0, 1) := dk_42 (dk_at dksX2_market_1 14 rfl rfl)
theorem dX2_market_38 : decode cX2_market 38 = .ok (.getfield 71, 3) := dk_180 0 71 (dk_at dksX2_market_1 15 rfl rfl)
theorem dX2_market_41 : decode cX2_market 41 = .ok (.iload_n 2, 1) := dk_28 (dk_at dksX2_market_1 18 rfl rfl)
theorem dX2_market_42 : decode cX2_market 42 = .ok (.iconst 1, 1) := dk_4 (dk_at dksX2_market_1 19 rfl rfl)
theorem dX2_market_43 : decode cX2_market 43 = .ok (.isub, 1) := dk_100 (dk_at dksX2_market_1 20 rfl rfl)
theorem dX2_market_44 : decode cX2_market 44 = .ok (.iaload, 1) := dk_46 (dk_at dksX2_market_1 21 rfl rfl)
theorem dX2_market_45 : decode cX2_market 45 = .ok (.istore 4, 2) := dk_54 4 (dk_at dksX2_market_1 22 rfl rfl)
theorem dX2_market_47 : decode cX2_market 47 = .ok (.iload_n 2, 1) := dk_28 (dk_at dksX2_market_2 0 rfl rfl)
theorem dX2_market_48 : decode cX2_market 48 = .ok (.aload_n 0, 1) := dk_42 (dk_at dksX2_market_2 1 rfl rfl)
theorem dX2_market_49 : decode cX2_market 49 = .ok (.getfield 479, 3) := dk_180 1 223 (dk_at dksX2_market_2 2 rfl rfl)
theorem dX2_market_52 : decode cX2_market 52 = .ok (.if_icmp .ge 20, 3) := dk_162 0 20 (dk_at dksX2_market_2 5 rfl rfl)
theorem dX2_market_55 : decode cX2_market 55 = .ok (.aload_n 0, 1) := dk_42 (dk_at dksX2_market_2 8 rfl rfl)
theorem dX2_market_56 : decode cX2_market 56 = .ok (.getfield 71, 3) := dk_180 0 71 (dk_at dksX2_market_2 9 rfl rfl)
theorem dX2_market_59 : decode cX2_market 59 = .ok (.iload_n 2, 1) := dk_28 (dk_at dksX2_market_2 12 rfl rfl)
theorem dX2_market_60 : decode cX2_market 60 = .ok (.iaload, 1) := dk_46 (dk_at dksX2_market_2 13 rfl rfl)
theorem dX2_market_61 : decode cX2_market 61 = .ok (.iload_n 3, 1) := dk_29 (dk_at dksX2_market_2 14 rfl rfl)
theorem dX2_market_62 : decode cX2_market 62 = .ok (.if_icmp .le 10, 3) := dk_164 0 10 (dk_at dksX2_market_2 15 rfl rfl)
theorem dX2_market_65 : decode cX2_market 65 = .ok (.aload_n 0, 1) := dk_42 (dk_at dksX2_market_2 18 rfl rfl)
theorem dX2_market_66 : decode cX2_market 66 = .ok (.getfield 71, 3) := dk_180 0 71 (dk_at dksX2_market_2 19 rfl rfl)
theorem dX2_market_69 : decode cX2_market 69 = .ok (.iload_n 2, 1) := dk_28 (dk_at dksX2_market_2 22 rfl rfl)
theorem dX2_market_70 : decode cX2_market 70 = .ok (.iaload, 1) := dk_46 (dk_at dksX2_market_2 23 rfl rfl)
theorem dX2_market_71 : decode cX2_market 71 = .ok (.istore_n 3, 1) := dk_62 (dk_at dksX2_market_3 0 rfl rfl)
theorem dX2_market_72 : decode cX2_market 72 = .ok (.iload_n 2, 1) := dk_28 (dk_at dksX2_market_3 1 rfl rfl)
theorem dX2_market_73 : decode cX2_market 73 = .ok (.aload_n 0, 1) := dk_42 (dk_at dksX2_market_3 2 rfl rfl)
theorem dX2_market_74 : decode cX2_market 74 = .ok (.getfield 482, 3) := dk_180 1 226 (dk_at dksX2_market_3 3 rfl rfl)
theorem dX2_market_77 : decode cX2_market 77 = .ok (.if_icmp .ge 22, 3) := dk_162 0 22 (dk_at dksX2_market_3 6 rfl rfl)
theorem dX2_market_80 : decode cX2_market 80 = .ok (.aload_n 0, 1) := dk_42 (dk_at dksX2_market_3 9 rfl rfl)
theorem dX2_market_81 : decode cX2_market 81 = .ok (.getfield 74, 3) := dk_180 0 74 (dk_at dksX2_market_3 10 rfl rfl)
theorem dX2_market_84 : decode cX2_market 84 = .ok (.iload_n 2, 1) := dk_28 (dk_at dksX2_market_3 13 rfl rfl)
theorem dX2_market_85 : decode cX2_market 85 = .ok (.iaload, 1) := dk_46 (dk_at dksX2_market_3 14 rfl rfl)
theorem dX2_market_86 : decode cX2_market 86 = .ok (.iload 4, 2) := dk_21 4 (dk_at dksX2_market_3 15 rfl rfl)
theorem dX2_market_88 : decode cX2_market 88 = .ok (.if_icmp .ge 11, 3) := dk_162 0 11 (dk_at dksX2_market_3 17 rfl rfl)
theorem dX2_market_91 : decode cX2_market 91 = .ok (.aload_n 0, 1) := dk_42 (dk_at dksX2_market_3 20 rfl rfl)
theorem dX2_market_92 : decode cX2_market 92 = .ok (.getfield 74, 3) := dk_180 0 74 (dk_at dksX2_market_3 21 rfl rfl)
theorem dX2_market_95 : decode cX2_market 95 = .ok (.iload_n 2, 1) := dk_28 (dk_at dksX2_market_4 0 rfl rfl)
theorem dX2_market_96 : decode cX2_market 96 = .ok (.iaload, 1) := dk_46 (dk_at dksX2_market_4 1 rfl rfl)
theorem dX2_market_97 : decode cX2_market 97 = .ok (.istore 4, 2) := dk_54 4 (dk_at dksX2_market_4 2 rfl rfl)
theorem dX2_market_99 : decode cX2_market 99 = .ok (.iload_n 1, 1) := dk_27 (dk_at dksX2_market_4 4 rfl rfl)
theorem dX2_market_100 : decode cX2_market 100 = .ok (.iconst 1, 1) := dk_4 (dk_at dksX2_market_4 5 rfl rfl)
theorem dX2_market_101 : decode cX2_market 101 = .ok (.if_icmp .ne 7, 3) := dk_160 0 7 (dk_at dksX2_market_4 6 rfl rfl)
theorem dX2_market_104 : decode cX2_market 104 = .ok (.iload_n 3, 1) := dk_29 (dk_at dksX2_market_4 9 rfl rfl)
theorem dX2_market_105 : decode cX2_market 105 = .ok (.goto 5, 3) := dk_167 0 5 (dk_at dksX2_market_4 10 rfl rfl)
theorem dX2_market_108 : decode cX2_market 108 = .ok (.iload 4, 2) := dk_21 4 (dk_at dksX2_market_4 13 rfl rfl)
theorem dX2_market_110 : decode cX2_market 110 = .ok (.ireturn, 1) := dk_172 (dk_at dksX2_market_4 15 rfl rfl)
abbrev cX2_layMarket : ByteArray := prog_20_method_139_code
def yX2_layMarket : MethodName := ⟨RX2, "layMarket", "()I"⟩
def dkwX2_layMarket_6 : List UInt8 := [27, 172]
abbrev dktX2_layMarket_6 : List UInt8 := dkwX2_layMarket_6 ++ []
def dkwX2_layMarket_5 : List UInt8 := [162, 0, 24, 42, 180, 0, 71, 27, 46, 42, 180, 0, 74, 27, 46, 161, 0, 9, 132, 1, 1, 167, 255, 222]
abbrev dktX2_layMarket_5 : List UInt8 := dkwX2_layMarket_5 ++ dktX2_layMarket_6
def dkwX2_layMarket_4 : List UInt8 := [181, 1, 226, 132, 1, 2, 167, 255, 167, 3, 60, 27, 42, 180, 1, 223, 162, 0, 32, 27, 42, 180, 1, 226]
abbrev dktX2_layMarket_4 : List UInt8 := dkwX2_layMarket_4 ++ dktX2_layMarket_5
def dkwX2_layMarket_3 : List UInt8 := [180, 0, 74, 42, 180, 1, 226, 42, 180, 0, 7, 27, 46, 3, 184, 1, 229, 42, 89, 180, 1, 226, 4, 96]
abbrev dktX2_layMarket_3 : List UInt8 := dkwX2_layMarket_3 ++ dktX2_layMarket_4
def dkwX2_layMarket_2 : List UInt8 := [42, 180, 0, 7, 27, 46, 4, 184, 1, 229, 42, 89, 180, 1, 223, 4, 96, 181, 1, 223, 167, 0, 31, 42]
abbrev dktX2_layMarket_2 : List UInt8 := dkwX2_layMarket_2 ++ dktX2_layMarket_3
def dkwX2_layMarket_1 : List UInt8 := [96, 162, 0, 80, 42, 180, 0, 7, 27, 4, 96, 46, 4, 160, 0, 34, 42, 180, 0, 71, 42, 180, 1, 223]
abbrev dktX2_layMarket_1 : List UInt8 := dkwX2_layMarket_1 ++ dktX2_layMarket_2
def dkwX2_layMarket_0 : List UInt8 := [42, 3, 181, 1, 223, 42, 3, 181, 1, 226, 16, 74, 60, 27, 16, 74, 5, 42, 180, 0, 7, 8, 46, 104]
abbrev dktX2_layMarket_0 : List UInt8 := dkwX2_layMarket_0 ++ dktX2_layMarket_1
theorem dksX2_layMarket_0 : cX2_layMarket.data.toList.drop 0 = dktX2_layMarket_0 := by decide +kernel
theorem dksX2_layMarket_1 : cX2_layMarket.data.toList.drop 24 = dktX2_layMarket_1 := dk_seg dksX2_layMarket_0 24 rfl rfl
theorem dksX2_layMarket_2 : cX2_layMarket.data.toList.drop 48 = dktX2_layMarket_2 := dk_seg dksX2_layMarket_1 24 rfl rfl
theorem dksX2_layMarket_3 : cX2_layMarket.data.toList.drop 72 = dktX2_layMarket_3 := dk_seg dksX2_layMarket_2 24 rfl rfl
theorem dksX2_layMarket_4 : cX2_layMarket.data.toList.drop 96 = dktX2_layMarket_4 := dk_seg dksX2_layMarket_3 24 rfl rfl
theorem dksX2_layMarket_5 : cX2_layMarket.data.toList.drop 120 = dktX2_layMarket_5 := dk_seg dksX2_layMarket_4 24 rfl rfl
theorem dksX2_layMarket_6 : cX2_layMarket.data.toList.drop 144 = dktX2_layMarket_6 := dk_seg dksX2_layMarket_5 24 rfl rfl
theorem dX2_layMarket_0 : decode cX2_layMarket 0 = .ok (.aload_n 0, 1) := dk_42 (dk_at dksX2_layMarket_0 0 rfl rfl)
theorem dX2_layMarket_1 : decode cX2_layMarket 1 = .ok (.iconst 0, 1) := dk_3 (dk_at dksX2_layMarket_0 1 rfl rfl)
theorem dX2_layMarket_2 : decode cX2_layMarket 2 = .ok (.putfield 479, 3) := dk_181 1 223 (dk_at dksX2_layMarket_0 2 rfl rfl)
theorem dX2_layMarket_5 : decode cX2_layMarket 5 = .ok (.aload_n 0, 1) := dk_42 (dk_at dksX2_layMarket_0 5 rfl rfl)
theorem dX2_layMarket_6 : decode cX2_layMarket 6 = .ok (.iconst 0, 1) := dk_3 (dk_at dksX2_layMarket_0 6 rfl rfl)
theorem dX2_layMarket_7 : decode cX2_layMarket 7 = .ok (.putfield 482, 3) := dk_181 1 226 (dk_at dksX2_layMarket_0 7 rfl rfl)
theorem dX2_layMarket_10 : decode cX2_layMarket 10 = .ok (.bipush 74, 2) := dk_16 74 (dk_at dksX2_layMarket_0 10 rfl rfl)
theorem dX2_layMarket_12 : decode cX2_layMarket 12 = .ok (.istore_n 1, 1) := dk_60 (dk_at dksX2_layMarket_0 12 rfl rfl)
theorem dX2_layMarket_13 : decode cX2_layMarket 13 = .ok (.iload_n 1, 1) := dk_27 (dk_at dksX2_layMarket_0 13 rfl rfl)
theorem dX2_layMarket_14 : decode cX2_layMarket 14 = .ok (.bipush 74, 2) := dk_16 74 (dk_at dksX2_layMarket_0 14 rfl rfl)
theorem dX2_layMarket_16 : decode cX2_layMarket 16 = .ok (.iconst 2, 1) := dk_5 (dk_at dksX2_layMarket_0 16 rfl rfl)
theorem dX2_layMarket_17 : decode cX2_layMarket 17 = .ok (.aload_n 0, 1) := dk_42 (dk_at dksX2_layMarket_0 17 rfl rfl)
theorem dX2_layMarket_18 : decode cX2_layMarket 18 = .ok (.getfield 7, 3) := dk_180 0 7 (dk_at dksX2_layMarket_0 18 rfl rfl)
theorem dX2_layMarket_21 : decode cX2_layMarket 21 = .ok (.iconst 5, 1) := dk_8 (dk_at dksX2_layMarket_0 21 rfl rfl)
theorem dX2_layMarket_22 : decode cX2_layMarket 22 = .ok (.iaload, 1) := dk_46 (dk_at dksX2_layMarket_0 22 rfl rfl)
theorem dX2_layMarket_23 : decode cX2_layMarket 23 = .ok (.imul, 1) := dk_104 (dk_at dksX2_layMarket_0 23 rfl rfl)
theorem dX2_layMarket_24 : decode cX2_layMarket 24 = .ok (.iadd, 1) := dk_96 (dk_at dksX2_layMarket_1 0 rfl rfl)
theorem dX2_layMarket_25 : decode cX2_layMarket 25 = .ok (.if_icmp .ge 80, 3) := dk_162 0 80 (dk_at dksX2_layMarket_1 1 rfl rfl)
theorem dX2_layMarket_28 : decode cX2_layMarket 28 = .ok (.aload_n 0, 1) := dk_42 (dk_at dksX2_layMarket_1 4 rfl rfl)
theorem dX2_layMarket_29 : decode cX2_layMarket 29 = .ok (.getfield 7, 3) := dk_180 0 7 (dk_at dksX2_layMarket_1 5 rfl rfl)
theorem dX2_layMarket_32 : decode cX2_layMarket 32 = .ok (.iload_n 1, 1) := dk_27 (dk_at dksX2_layMarket_1 8 rfl rfl)
theorem dX2_layMarket_33 : decode cX2_layMarket 33 = .ok (.iconst 1, 1) := dk_4 (dk_at dksX2_layMarket_1 9 rfl rfl)
theorem dX2_layMarket_34 : decode cX2_layMarket 34 = .ok (.iadd, 1) := dk_96 (dk_at dksX2_layMarket_1 10 rfl rfl)
theorem dX2_layMarket_35 : decode cX2_layMarket 35 = .ok (.iaload, 1) := dk_46 (dk_at dksX2_layMarket_1 11 rfl rfl)
theorem dX2_layMarket_36 : decode cX2_layMarket 36 = .ok (.iconst 1, 1) := dk_4 (dk_at dksX2_layMarket_1 12 rfl rfl)
theorem dX2_layMarket_37 : decode cX2_layMarket 37 = .ok (.if_icmp .ne 34, 3) := dk_160 0 34 (dk_at dksX2_layMarket_1 13 rfl rfl)
theorem dX2_layMarket_40 : decode cX2_layMarket 40 = .ok (.aload_n 0, 1) := dk_42 (dk_at dksX2_layMarket_1 16 rfl rfl)
theorem dX2_layMarket_41 : decode cX2_layMarket 41 = .ok (.getfield 71, 3) := dk_180 0 71 (dk_at dksX2_layMarket_1 17 rfl rfl)
theorem dX2_layMarket_44 : decode cX2_layMarket 44 = .ok (.aload_n 0, 1) := dk_42 (dk_at dksX2_layMarket_1 20 rfl rfl)
theorem dX2_layMarket_45 : decode cX2_layMarket 45 = .ok (.getfield 479, 3) := dk_180 1 223 (dk_at dksX2_layMarket_1 21 rfl rfl)
theorem dX2_layMarket_48 : decode cX2_layMarket 48 = .ok (.aload_n 0, 1) := dk_42 (dk_at dksX2_layMarket_2 0 rfl rfl)
theorem dX2_layMarket_49 : decode cX2_layMarket 49 = .ok (.getfield 7, 3) := dk_180 0 7 (dk_at dksX2_layMarket_2 1 rfl rfl)
theorem dX2_layMarket_52 : decode cX2_layMarket 52 = .ok (.iload_n 1, 1) := dk_27 (dk_at dksX2_layMarket_2 4 rfl rfl)
theorem dX2_layMarket_53 : decode cX2_layMarket 53 = .ok (.iaload, 1) := dk_46 (dk_at dksX2_layMarket_2 5 rfl rfl)
theorem dX2_layMarket_54 : decode cX2_layMarket 54 = .ok (.iconst 1, 1) := dk_4 (dk_at dksX2_layMarket_2 6 rfl rfl)
theorem dX2_layMarket_55 : decode cX2_layMarket 55 = .ok (.invokestatic 485, 3) := dk_184 1 229 (dk_at dksX2_layMarket_2 7 rfl rfl)
theorem dX2_layMarket_58 : decode cX2_layMarket 58 = .ok (.aload_n 0, 1) := dk_42 (dk_at dksX2_layMarket_2 10 rfl rfl)
theorem dX2_layMarket_59 : decode cX2_layMarket 59 = .ok (.dup, 1) := dk_89 (dk_at dksX2_layMarket_2 11 rfl rfl)
theorem dX2_layMarket_60 : decode cX2_layMarket 60 = .ok (.getfield 479, 3) := dk_180 1 223 (dk_at dksX2_layMarket_2 12 rfl rfl)
theorem dX2_layMarket_63 : decode cX2_layMarket 63 = .ok (.iconst 1, 1) := dk_4 (dk_at dksX2_layMarket_2 15 rfl rfl)
theorem dX2_layMarket_64 : decode cX2_layMarket 64 = .ok (.iadd, 1) := dk_96 (dk_at dksX2_layMarket_2 16 rfl rfl)
theorem dX2_layMarket_65 : decode cX2_layMarket 65 = .ok (.putfield 479, 3) := dk_181 1 223 (dk_at dksX2_layMarket_2 17 rfl rfl)
theorem dX2_layMarket_68 : decode cX2_layMarket 68 = .ok (.goto 31, 3) := dk_167 0 31 (dk_at dksX2_layMarket_2 20 rfl rfl)
theorem dX2_layMarket_71 : decode cX2_layMarket 71 = .ok (.aload_n 0, 1) := dk_42 (dk_at dksX2_layMarket_2 23 rfl rfl)
theorem dX2_layMarket_72 : decode cX2_layMarket 72 = .ok (.getfield 74, 3) := dk_180 0 74 (dk_at dksX2_layMarket_3 0 rfl rfl)
theorem dX2_layMarket_75 : decode cX2_layMarket 75 = .ok (.aload_n 0, 1) := dk_42 (dk_at dksX2_layMarket_3 3 rfl rfl)
theorem dX2_layMarket_76 : decode cX2_layMarket 76 = .ok (.getfield 482, 3) := dk_180 1 226 (dk_at dksX2_layMarket_3 4 rfl rfl)
theorem dX2_layMarket_79 : decode cX2_layMarket 79 = .ok (.aload_n 0, 1) := dk_42 (dk_at dksX2_layMarket_3 7 rfl rfl)
theorem dX2_layMarket_80 : decode cX2_layMarket 80 = .ok (.getfield 7, 3) := dk_180 0 7 (dk_at dksX2_layMarket_3 8 rfl rfl)
theorem dX2_layMarket_83 : decode cX2_layMarket 83 = .ok (.iload_n 1, 1) := dk_27 (dk_at dksX2_layMarket_3 11 rfl rfl)
theorem dX2_layMarket_84 : decode cX2_layMarket 84 = .ok (.iaload, 1) := dk_46 (dk_at dksX2_layMarket_3 12 rfl rfl)
theorem dX2_layMarket_85 : decode cX2_layMarket 85 = .ok (.iconst 0, 1) := dk_3 (dk_at dksX2_layMarket_3 13 rfl rfl)
theorem dX2_layMarket_86 : decode cX2_layMarket 86 = .ok (.invokestatic 485, 3) := dk_184 1 229 (dk_at dksX2_layMarket_3 14 rfl rfl)
theorem dX2_layMarket_89 : decode cX2_layMarket 89 = .ok (.aload_n 0, 1) := dk_42 (dk_at dksX2_layMarket_3 17 rfl rfl)
theorem dX2_layMarket_90 : decode cX2_layMarket 90 = .ok (.dup, 1) := dk_89 (dk_at dksX2_layMarket_3 18 rfl rfl)
theorem dX2_layMarket_91 : decode cX2_layMarket 91 = .ok (.getfield 482, 3) := dk_180 1 226 (dk_at dksX2_layMarket_3 19 rfl rfl)
theorem dX2_layMarket_94 : decode cX2_layMarket 94 = .ok (.iconst 1, 1) := dk_4 (dk_at dksX2_layMarket_3 22 rfl rfl)
theorem dX2_layMarket_95 : decode cX2_layMarket 95 = .ok (.iadd, 1) := dk_96 (dk_at dksX2_layMarket_3 23 rfl rfl)
theorem dX2_layMarket_96 : decode cX2_layMarket 96 = .ok (.putfield 482, 3) := dk_181 1 226 (dk_at dksX2_layMarket_4 0 rfl rfl)
theorem dX2_layMarket_99 : decode cX2_layMarket 99 = .ok (.iinc 1 2, 3) := dk_132 1 2 (dk_at dksX2_layMarket_4 3 rfl rfl)
theorem dX2_layMarket_102 : decode cX2_layMarket 102 = .ok (.goto (-89), 3) := dk_167 255 167 (dk_at dksX2_layMarket_4 6 rfl rfl)
theorem dX2_layMarket_105 : decode cX2_layMarket 105 = .ok (.iconst 0, 1) := dk_3 (dk_at dksX2_layMarket_4 9 rfl rfl)
theorem dX2_layMarket_106 : decode cX2_layMarket 106 = .ok (.istore_n 1, 1) := dk_60 (dk_at dksX2_layMarket_4 10 rfl rfl)
theorem dX2_layMarket_107 : decode cX2_layMarket 107 = .ok (.iload_n 1, 1) := dk_27 (dk_at dksX2_layMarket_4 11 rfl rfl)
theorem dX2_layMarket_108 : decode cX2_layMarket 108 = .ok (.aload_n 0, 1) := dk_42 (dk_at dksX2_layMarket_4 12 rfl rfl)
theorem dX2_layMarket_109 : decode cX2_layMarket 109 = .ok (.getfield 479, 3) := dk_180 1 223 (dk_at dksX2_layMarket_4 13 rfl rfl)
theorem dX2_layMarket_112 : decode cX2_layMarket 112 = .ok (.if_icmp .ge 32, 3) := dk_162 0 32 (dk_at dksX2_layMarket_4 16 rfl rfl)
theorem dX2_layMarket_115 : decode cX2_layMarket 115 = .ok (.iload_n 1, 1) := dk_27 (dk_at dksX2_layMarket_4 19 rfl rfl)
theorem dX2_layMarket_116 : decode cX2_layMarket 116 = .ok (.aload_n 0, 1) := dk_42 (dk_at dksX2_layMarket_4 20 rfl rfl)
theorem dX2_layMarket_117 : decode cX2_layMarket 117 = .ok (.getfield 482, 3) := dk_180 1 226 (dk_at dksX2_layMarket_4 21 rfl rfl)
theorem dX2_layMarket_120 : decode cX2_layMarket 120 = .ok (.if_icmp .ge 24, 3) := dk_162 0 24 (dk_at dksX2_layMarket_5 0 rfl rfl)
theorem dX2_layMarket_123 : decode cX2_layMarket 123 = .ok (.aload_n 0, 1) := dk_42 (dk_at dksX2_layMarket_5 3 rfl rfl)
theorem dX2_layMarket_124 : decode cX2_layMarket 124 = .ok (.getfield 71, 3) := dk_180 0 71 (dk_at dksX2_layMarket_5 4 rfl rfl)
theorem dX2_layMarket_127 : decode cX2_layMarket 127 = .ok (.iload_n 1, 1) := dk_27 (dk_at dksX2_layMarket_5 7 rfl rfl)
theorem dX2_layMarket_128 : decode cX2_layMarket 128 = .ok (.iaload, 1) := dk_46 (dk_at dksX2_layMarket_5 8 rfl rfl)
theorem dX2_layMarket_129 : decode cX2_layMarket 129 = .ok (.aload_n 0, 1) := dk_42 (dk_at dksX2_layMarket_5 9 rfl rfl)
theorem dX2_layMarket_130 : decode cX2_layMarket 130 = .ok (.getfield 74, 3) := dk_180 0 74 (dk_at dksX2_layMarket_5 10 rfl rfl)
theorem dX2_layMarket_133 : decode cX2_layMarket 133 = .ok (.iload_n 1, 1) := dk_27 (dk_at dksX2_layMarket_5 13 rfl rfl)
theorem dX2_layMarket_134 : decode cX2_layMarket 134 = .ok (.iaload, 1) := dk_46 (dk_at dksX2_layMarket_5 14 rfl rfl)
theorem dX2_layMarket_135 : decode cX2_layMarket 135 = .ok (.if_icmp .lt 9, 3) := dk_161 0 9 (dk_at dksX2_layMarket_5 15 rfl rfl)
theorem dX2_layMarket_138 : decode cX2_layMarket 138 = .ok (.iinc 1 1, 3) := dk_132 1 1 (dk_at dksX2_layMarket_5 18 rfl rfl)
theorem dX2_layMarket_141 : decode cX2_layMarket 141 = .ok (.goto (-34), 3) := dk_167 255 222 (dk_at dksX2_layMarket_5 21 rfl rfl)
theorem dX2_layMarket_144 : decode cX2_layMarket 144 = .ok (.iload_n 1, 1) := dk_27 (dk_at dksX2_layMarket_6 0 rfl rfl)
theorem dX2_layMarket_145 : decode cX2_layMarket 145 = .ok (.ireturn, 1) := dk_172 (dk_at dksX2_layMarket_6 1 rfl rfl)
abbrev cX2_lay : ByteArray := prog_20_method_138_code
def yX2_lay : MethodName := ⟨RX2, "lay", "([IIIZ)V"⟩
def dkwX2_lay_2 : List UInt8 := [132, 4, 255, 167, 255, 211, 42, 21, 4, 28, 79, 177]
abbrev dktX2_lay_2 : List UInt8 := dkwX2_lay_2 ++ []
def dkwX2_lay_1 : List UInt8 := [167, 0, 13, 42, 21, 4, 4, 100, 46, 28, 164, 0, 19, 42, 21, 4, 42, 21, 4, 4, 100, 46, 79]
abbrev dktX2_lay_1 : List UInt8 := dkwX2_lay_1 ++ dktX2_lay_2
def dkwX2_lay_0 : List UInt8 := [27, 54, 4, 21, 4, 158, 0, 46, 29, 153, 0, 16, 42, 21, 4, 4, 100, 46, 28, 162, 0, 32]
abbrev dktX2_lay_0 : List UInt8 := dkwX2_lay_0 ++ dktX2_lay_1
theorem dksX2_lay_0 : cX2_lay.data.toList.drop 0 = dktX2_lay_0 := by decide +kernel
theorem dksX2_lay_1 : cX2_lay.data.toList.drop 22 = dktX2_lay_1 := dk_seg dksX2_lay_0 22 rfl rfl
theorem dksX2_lay_2 : cX2_lay.data.toList.drop 45 = dktX2_lay_2 := dk_seg dksX2_lay_1 23 rfl rfl
theorem dX2_lay_0 : decode cX2_lay 0 = .ok (.iload_n 1, 1) := dk_27 (dk_at dksX2_lay_0 0 rfl rfl)
theorem dX2_lay_1 : decode cX2_lay 1 = .ok (.istore 4, 2) := dk_54 4 (dk_at dksX2_lay_0 1 rfl rfl)
theorem dX2_lay_3 : decode cX2_lay 3 = .ok (.iload 4, 2) := dk_21 4 (dk_at dksX2_lay_0 3 rfl rfl)
theorem dX2_lay_5 : decode cX2_lay 5 = .ok (.ifCond .le 46, 3) := dk_158 0 46 (dk_at dksX2_lay_0 5 rfl rfl)
theorem dX2_lay_8 : decode cX2_lay 8 = .ok (.iload_n 3, 1) := dk_29 (dk_at dksX2_lay_0 8 rfl rfl)
theorem dX2_lay_9 : decode cX2_lay 9 = .ok (.ifCond .eq 16, 3) := dk_153 0 16 (dk_at dksX2_lay_0 9 rfl rfl)
theorem dX2_lay_12 : decode cX2_lay 12 = .ok (.aload_n 0, 1) := dk_42 (dk_at dksX2_lay_0 12 rfl rfl)
theorem dX2_lay_13 : decode cX2_lay 13 = .ok (.iload 4, 2) := dk_21 4 (dk_at dksX2_lay_0 13 rfl rfl)
theorem dX2_lay_15 : decode cX2_lay 15 = .ok (.iconst 1, 1) := dk_4 (dk_at dksX2_lay_0 15 rfl rfl)
theorem dX2_lay_16 : decode cX2_lay 16 = .ok (.isub, 1) := dk_100 (dk_at dksX2_lay_0 16 rfl rfl)
theorem dX2_lay_17 : decode cX2_lay 17 = .ok (.iaload, 1) := dk_46 (dk_at dksX2_lay_0 17 rfl rfl)
theorem dX2_lay_18 : decode cX2_lay 18 = .ok (.iload_n 2, 1) := dk_28 (dk_at dksX2_lay_0 18 rfl rfl)
theorem dX2_lay_19 : decode cX2_lay 19 = .ok (.if_icmp .ge 32, 3) := dk_162 0 32 (dk_at dksX2_lay_0 19 rfl rfl)
theorem dX2_lay_22 : decode cX2_lay 22 = .ok (.goto 13, 3) := dk_167 0 13 (dk_at dksX2_lay_1 0 rfl rfl)
theorem dX2_lay_25 : decode cX2_lay 25 = .ok (.aload_n 0, 1) := dk_42 (dk_at dksX2_lay_1 3 rfl rfl)
theorem dX2_lay_26 : decode cX2_lay 26 = .ok (.iload 4, 2) := dk_21 4 (dk_at dksX2_lay_1 4 rfl rfl)
theorem dX2_lay_28 : decode cX2_lay 28 = .ok (.iconst 1, 1) := dk_4 (dk_at dksX2_lay_1 6 rfl rfl)
theorem dX2_lay_29 : decode cX2_lay 29 = .ok (.isub, 1) := dk_100 (dk_at dksX2_lay_1 7 rfl rfl)
theorem dX2_lay_30 : decode cX2_lay 30 = .ok (.iaload, 1) := dk_46 (dk_at dksX2_lay_1 8 rfl rfl)
theorem dX2_lay_31 : decode cX2_lay 31 = .ok (.iload_n 2, 1) := dk_28 (dk_at dksX2_lay_1 9 rfl rfl)
theorem dX2_lay_32 : decode cX2_lay 32 = .ok (.if_icmp .le 19, 3) := dk_164 0 19 (dk_at dksX2_lay_1 10 rfl rfl)
theorem dX2_lay_35 : decode cX2_lay 35 = .ok (.aload_n 0, 1) := dk_42 (dk_at dksX2_lay_1 13 rfl rfl)
theorem dX2_lay_36 : decode cX2_lay 36 = .ok (.iload 4, 2) := dk_21 4 (dk_at dksX2_lay_1 14 rfl rfl)
theorem dX2_lay_38 : decode cX2_lay 38 = .ok (.aload_n 0, 1) := dk_42 (dk_at dksX2_lay_1 16 rfl rfl)
theorem dX2_lay_39 : decode cX2_lay 39 = .ok (.iload 4, 2) := dk_21 4 (dk_at dksX2_lay_1 17 rfl rfl)
theorem dX2_lay_41 : decode cX2_lay 41 = .ok (.iconst 1, 1) := dk_4 (dk_at dksX2_lay_1 19 rfl rfl)
theorem dX2_lay_42 : decode cX2_lay 42 = .ok (.isub, 1) := dk_100 (dk_at dksX2_lay_1 20 rfl rfl)
theorem dX2_lay_43 : decode cX2_lay 43 = .ok (.iaload, 1) := dk_46 (dk_at dksX2_lay_1 21 rfl rfl)
theorem dX2_lay_44 : decode cX2_lay 44 = .ok (.iastore, 1) := dk_79 (dk_at dksX2_lay_1 22 rfl rfl)
theorem dX2_lay_45 : decode cX2_lay 45 = .ok (.iinc 4 (-1), 3) := dk_132 4 255 (dk_at dksX2_lay_2 0 rfl rfl)
theorem dX2_lay_48 : decode cX2_lay 48 = .ok (.goto (-45), 3) := dk_167 255 211 (dk_at dksX2_lay_2 3 rfl rfl)
theorem dX2_lay_51 : decode cX2_lay 51 = .ok (.aload_n 0, 1) := dk_42 (dk_at dksX2_lay_2 6 rfl rfl)
theorem dX2_lay_52 : decode cX2_lay 52 = .ok (.iload 4, 2) := dk_21 4 (dk_at dksX2_lay_2 7 rfl rfl)
theorem dX2_lay_54 : decode cX2_lay 54 = .ok (.iload_n 2, 1) := dk_28 (dk_at dksX2_lay_2 9 rfl rfl)
theorem dX2_lay_55 : decode cX2_lay 55 = .ok (.iastore, 1) := dk_79 (dk_at dksX2_lay_2 10 rfl rfl)
theorem dX2_lay_56 : decode cX2_lay 56 = .ok (.return_, 1) := dk_177 (dk_at dksX2_lay_2 11 rfl rfl)
abbrev cX2_gain : ByteArray := prog_20_method_141_code
def yX2_gain : MethodName := ⟨RX2, "gain", "()I"⟩
def dkwX2_gain_1 : List UInt8 := [180, 0, 74, 29, 46, 100, 96, 61, 132, 3, 1, 167, 255, 232, 28, 172]
abbrev dktX2_gain_1 : List UInt8 := dkwX2_gain_1 ++ []
def dkwX2_gain_0 : List UInt8 := [42, 182, 1, 233, 60, 3, 61, 3, 62, 29, 27, 162, 0, 25, 28, 42, 180, 0, 71, 29, 46, 42]
abbrev dktX2_gain_0 : List UInt8 := dkwX2_gain_0 ++ dktX2_gain_1
theorem dksX2_gain_0 : cX2_gain.data.toList.drop 0 = dktX2_gain_0 := by decide +kernel
theorem dksX2_gain_1 : cX2_gain.data.toList.drop 22 = dktX2_gain_1 := dk_seg dksX2_gain_0 22 rfl rfl
theorem dX2_gain_0 : decode cX2_gain 0 = .ok (.aload_n 0, 1) := dk_42 (dk_at dksX2_gain_0 0 rfl rfl)
theorem dX2_gain_1 : decode cX2_gain 1 = .ok (.invokevirtual 489, 3) := dk_182 1 233 (dk_at dksX2_gain_0 1 rfl rfl)
theorem dX2_gain_4 : decode cX2_gain 4 = .ok (.istore_n 1, 1) := dk_60 (dk_at dksX2_gain_0 4 rfl rfl)
theorem dX2_gain_5 : decode cX2_gain 5 = .ok (.iconst 0, 1) := dk_3 (dk_at dksX2_gain_0 5 rfl rfl)
theorem dX2_gain_6 : decode cX2_gain 6 = .ok (.istore_n 2, 1) := dk_61 (dk_at dksX2_gain_0 6 rfl rfl)
theorem dX2_gain_7 : decode cX2_gain 7 = .ok (.iconst 0, 1) := dk_3 (dk_at dksX2_gain_0 7 rfl rfl)
theorem dX2_gain_8 : decode cX2_gain 8 = .ok (.istore_n 3, 1) := dk_62 (dk_at dksX2_gain_0 8 rfl rfl)
theorem dX2_gain_9 : decode cX2_gain 9 = .ok (.iload_n 3, 1) := dk_29 (dk_at dksX2_gain_0 9 rfl rfl)
theorem dX2_gain_10 : decode cX2_gain 10 = .ok (.iload_n 1, 1) := dk_27 (dk_at dksX2_gain_0 10 rfl rfl)
theorem dX2_gain_11 : decode cX2_gain 11 = .ok (.if_icmp .ge 25, 3) := dk_162 0 25 (dk_at dksX2_gain_0 11 rfl rfl)
theorem dX2_gain_14 : decode cX2_gain 14 = .ok (.iload_n 2, 1) := dk_28 (dk_at dksX2_gain_0 14 rfl rfl)
theorem dX2_gain_15 : decode cX2_gain 15 = .ok (.aload_n 0, 1) := dk_42 (dk_at dksX2_gain_0 15 rfl rfl)
theorem dX2_gain_16 : decode cX2_gain 16 = .ok (.getfield 71, 3) := dk_180 0 71 (dk_at dksX2_gain_0 16 rfl rfl)
theorem dX2_gain_19 : decode cX2_gain 19 = .ok (.iload_n 3, 1) := dk_29 (dk_at dksX2_gain_0 19 rfl rfl)
theorem dX2_gain_20 : decode cX2_gain 20 = .ok (.iaload, 1) := dk_46 (dk_at dksX2_gain_0 20 rfl rfl)
theorem dX2_gain_21 : decode cX2_gain 21 = .ok (.aload_n 0, 1) := dk_42 (dk_at dksX2_gain_0 21 rfl rfl)
theorem dX2_gain_22 : decode cX2_gain 22 = .ok (.getfield 74, 3) := dk_180 0 74 (dk_at dksX2_gain_1 0 rfl rfl)
theorem dX2_gain_25 : decode cX2_gain 25 = .ok (.iload_n 3, 1) := dk_29 (dk_at dksX2_gain_1 3 rfl rfl)
theorem dX2_gain_26 : decode cX2_gain 26 = .ok (.iaload, 1) := dk_46 (dk_at dksX2_gain_1 4 rfl rfl)
theorem dX2_gain_27 : decode cX2_gain 27 = .ok (.isub, 1) := dk_100 (dk_at dksX2_gain_1 5 rfl rfl)
theorem dX2_gain_28 : decode cX2_gain 28 = .ok (.iadd, 1) := dk_96 (dk_at dksX2_gain_1 6 rfl rfl)
theorem dX2_gain_29 : decode cX2_gain 29 = .ok (.istore_n 2, 1) := dk_61 (dk_at dksX2_gain_1 7 rfl rfl)
theorem dX2_gain_30 : decode cX2_gain 30 = .ok (.iinc 3 1, 3) := dk_132 3 1 (dk_at dksX2_gain_1 8 rfl rfl)
theorem dX2_gain_33 : decode cX2_gain 33 = .ok (.goto (-24), 3) := dk_167 255 232 (dk_at dksX2_gain_1 11 rfl rfl)
theorem dX2_gain_36 : decode cX2_gain 36 = .ok (.iload_n 2, 1) := dk_28 (dk_at dksX2_gain_1 14 rfl rfl)
theorem dX2_gain_37 : decode cX2_gain 37 = .ok (.ireturn, 1) := dk_172 (dk_at dksX2_gain_1 15 rfl rfl)
abbrev cX2_said : ByteArray := prog_20_method_142_code
def yX2_said : MethodName := ⟨RX2, "said", "(II)I"⟩
def dkwX2_said_4 : List UInt8 := [4, 96, 79, 42, 180, 0, 7, 16, 6, 46, 172]
abbrev dktX2_said_4 : List UInt8 := dkwX2_said_4 ++ []
def dkwX2_said_3 : List UInt8 := [16, 94, 5, 42, 180, 0, 7, 16, 6, 46, 104, 96, 4, 96, 28, 79, 42, 180, 0, 7, 16, 6, 92, 46]
abbrev dktX2_said_3 : List UInt8 := dkwX2_said_3 ++ dktX2_said_4
def dkwX2_said_2 : List UInt8 := [172, 42, 180, 0, 7, 16, 94, 5, 42, 180, 0, 7, 16, 6, 46, 104, 96, 27, 79, 42, 180, 0, 7]
abbrev dktX2_said_2 : List UInt8 := dkwX2_said_2 ++ dktX2_said_3
def dkwX2_said_1 : List UInt8 := [3, 17, 39, 15, 184, 0, 81, 153, 0, 15, 42, 180, 0, 7, 16, 6, 46, 16, 8, 160, 0, 6, 16, 254]
abbrev dktX2_said_1 : List UInt8 := dkwX2_said_1 ++ dktX2_said_2
def dkwX2_said_0 : List UInt8 := [27, 2, 160, 0, 13, 42, 180, 0, 7, 16, 6, 3, 79, 3, 172, 42, 27, 182, 1, 86, 153, 0, 26, 28]
abbrev dktX2_said_0 : List UInt8 := dkwX2_said_0 ++ dktX2_said_1
theorem dksX2_said_0 : cX2_said.data.toList.drop 0 = dktX2_said_0 := by decide +kernel
theorem dksX2_said_1 : cX2_said.data.toList.drop 24 = dktX2_said_1 := dk_seg dksX2_said_0 24 rfl rfl
theorem dksX2_said_2 : cX2_said.data.toList.drop 48 = dktX2_said_2 := dk_seg dksX2_said_1 24 rfl rfl
theorem dksX2_said_3 : cX2_said.data.toList.drop 71 = dktX2_said_3 := dk_seg dksX2_said_2 23 rfl rfl
theorem dksX2_said_4 : cX2_said.data.toList.drop 95 = dktX2_said_4 := dk_seg dksX2_said_3 24 rfl rfl
theorem dX2_said_0 : decode cX2_said 0 = .ok (.iload_n 1, 1) := dk_27 (dk_at dksX2_said_0 0 rfl rfl)
theorem dX2_said_1 : decode cX2_said 1 = .ok (.iconst (-1), 1) := dk_2 (dk_at dksX2_said_0 1 rfl rfl)
theorem dX2_said_2 : decode cX2_said 2 = .ok (.if_icmp .ne 13, 3) := dk_160 0 13 (dk_at dksX2_said_0 2 rfl rfl)
theorem dX2_said_5 : decode cX2_said 5 = .ok (.aload_n 0, 1) := dk_42 (dk_at dksX2_said_0 5 rfl rfl)
theorem dX2_said_6 : decode cX2_said 6 = .ok (.getfield 7, 3) := dk_180 0 7 (dk_at dksX2_said_0 6 rfl rfl)
theorem dX2_said_9 : decode cX2_said 9 = .ok (.bipush 6, 2) := dk_16 6 (dk_at dksX2_said_0 9 rfl rfl)
theorem dX2_said_11 : decode cX2_said 11 = .ok (.iconst 0, 1) := dk_3 (dk_at dksX2_said_0 11 rfl rfl)
theorem dX2_said_12 : decode cX2_said 12 = .ok (.iastore, 1) := dk_79 (dk_at dksX2_said_0 12 rfl rfl)
theorem dX2_said_13 : decode cX2_said 13 = .ok (.iconst 0, 1) := dk_3 (dk_at dksX2_said_0 13 rfl rfl)
theorem dX2_said_14 : decode cX2_said 14 = .ok (.ireturn, 1) := dk_172 (dk_at dksX2_said_0 14 rfl rfl)
theorem dX2_said_15 : decode cX2_said 15 = .ok (.aload_n 0, 1) := dk_42 (dk_at dksX2_said_0 15 rfl rfl)
theorem dX2_said_16 : decode cX2_said 16 = .ok (.iload_n 1, 1) := dk_27 (dk_at dksX2_said_0 16 rfl rfl)
theorem dX2_said_17 : decode cX2_said 17 = .ok (.invokevirtual 342, 3) := dk_182 1 86 (dk_at dksX2_said_0 17 rfl rfl)
theorem dX2_said_20 : decode cX2_said 20 = .ok (.ifCond .eq 26, 3) := dk_153 0 26 (dk_at dksX2_said_0 20 rfl rfl)
theorem dX2_said_23 : decode cX2_said 23 = .ok (.iload_n 2, 1) := dk_28 (dk_at dksX2_said_0 23 rfl rfl)
theorem dX2_said_24 : decode cX2_said 24 = .ok (.iconst 0, 1) := dk_3 (dk_at dksX2_said_1 0 rfl rfl)
theorem dX2_said_25 : decode cX2_said 25 = .ok (.sipush 9999, 3) := dk_17 39 15 (dk_at dksX2_said_1 1 rfl rfl)
theorem dX2_said_28 : decode cX2_said 28 = .ok (.invokestatic 81, 3) := dk_184 0 81 (dk_at dksX2_said_1 4 rfl rfl)
theorem dX2_said_31 : decode cX2_said 31 = .ok (.ifCond .eq 15, 3) := dk_153 0 15 (dk_at dksX2_said_1 7 rfl rfl)
theorem dX2_said_34 : decode cX2_said 34 = .ok (.aload_n 0, 1) := dk_42 (dk_at dksX2_said_1 10 rfl rfl)
theorem dX2_said_35 : decode cX2_said 35 = .ok (.getfield 7, 3) := dk_180 0 7 (dk_at dksX2_said_1 11 rfl rfl)
theorem dX2_said_38 : decode cX2_said 38 = .ok (.bipush 6, 2) := dk_16 6 (dk_at dksX2_said_1 14 rfl rfl)
theorem dX2_said_40 : decode cX2_said 40 = .ok (.iaload, 1) := dk_46 (dk_at dksX2_said_1 16 rfl rfl)
theorem dX2_said_41 : decode cX2_said 41 = .ok (.bipush 8, 2) := dk_16 8 (dk_at dksX2_said_1 17 rfl rfl)
theorem dX2_said_43 : decode cX2_said 43 = .ok (.if_icmp .ne 6, 3) := dk_160 0 6 (dk_at dksX2_said_1 19 rfl rfl)
theorem dX2_said_46 : decode cX2_said 46 = .ok (.bipush (-2), 2) := dk_16 254 (dk_at dksX2_said_1 22 rfl rfl)
theorem dX2_said_48 : decode cX2_said 48 = .ok (.ireturn, 1) := dk_172 (dk_at dksX2_said_2 0 rfl rfl)
theorem dX2_said_49 : decode cX2_said 49 = .ok (.aload_n 0, 1) := dk_42 (dk_at dksX2_said_2 1 rfl rfl)
theorem dX2_said_50 : decode cX2_said 50 = .ok (.getfield 7, 3) := dk_180 0 7 (dk_at dksX2_said_2 2 rfl rfl)
theorem dX2_said_53 : decode cX2_said 53 = .ok (.bipush 94, 2) := dk_16 94 (dk_at dksX2_said_2 5 rfl rfl)
theorem dX2_said_55 : decode cX2_said 55 = .ok (.iconst 2, 1) := dk_5 (dk_at dksX2_said_2 7 rfl rfl)
theorem dX2_said_56 : decode cX2_said 56 = .ok (.aload_n 0, 1) := dk_42 (dk_at dksX2_said_2 8 rfl rfl)
theorem dX2_said_57 : decode cX2_said 57 = .ok (.getfield 7, 3) := dk_180 0 7 (dk_at dksX2_said_2 9 rfl rfl)
theorem dX2_said_60 : decode cX2_said 60 = .ok (.bipush 6, 2) := dk_16 6 (dk_at dksX2_said_2 12 rfl rfl)
theorem dX2_said_62 : decode cX2_said 62 = .ok (.iaload, 1) := dk_46 (dk_at dksX2_said_2 14 rfl rfl)
theorem dX2_said_63 : decode cX2_said 63 = .ok (.imul, 1) := dk_104 (dk_at dksX2_said_2 15 rfl rfl)
theorem dX2_said_64 : decode cX2_said 64 = .ok (.iadd, 1) := dk_96 (dk_at dksX2_said_2 16 rfl rfl)
theorem dX2_said_65 : decode cX2_said 65 = .ok (.iload_n 1, 1) := dk_27 (dk_at dksX2_said_2 17 rfl rfl)
theorem dX2_said_66 : decode cX2_said 66 = .ok (.iastore, 1) := dk_79 (dk_at dksX2_said_2 18 rfl rfl)
theorem dX2_said_67 : decode cX2_said 67 = .ok (.aload_n 0, 1) := dk_42 (dk_at dksX2_said_2 19 rfl rfl)
theorem dX2_said_68 : decode cX2_said 68 = .ok (.getfield 7, 3) := dk_180 0 7 (dk_at dksX2_said_2 20 rfl rfl)
theorem dX2_said_71 : decode cX2_said 71 = .ok (.bipush 94, 2) := dk_16 94 (dk_at dksX2_said_3 0 rfl rfl)
theorem dX2_said_73 : decode cX2_said 73 = .ok (.iconst 2, 1) := dk_5 (dk_at dksX2_said_3 2 rfl rfl)
theorem dX2_said_74 : decode cX2_said 74 = .ok (.aload_n 0, 1) := dk_42 (dk_at dksX2_said_3 3 rfl rfl)
theorem dX2_said_75 : decode cX2_said 75 = .ok (.getfield 7, 3) := dk_180 0 7 (dk_at dksX2_said_3 4 rfl rfl)
theorem dX2_said_78 : decode cX2_said 78 = .ok (.bipush 6, 2) := dk_16 6 (dk_at dksX2_said_3 7 rfl rfl)
theorem dX2_said_80 : decode cX2_said 80 = .ok (.iaload, 1) := dk_46 (dk_at dksX2_said_3 9 rfl rfl)
theorem dX2_said_81 : decode cX2_said 81 = .ok (.imul, 1) := dk_104 (dk_at dksX2_said_3 10 rfl rfl)
theorem dX2_said_82 : decode cX2_said 82 = .ok (.iadd, 1) := dk_96 (dk_at dksX2_said_3 11 rfl rfl)
theorem dX2_said_83 : decode cX2_said 83 = .ok (.iconst 1, 1) := dk_4 (dk_at dksX2_said_3 12 rfl rfl)
theorem dX2_said_84 : decode cX2_said 84 = .ok (.iadd, 1) := dk_96 (dk_at dksX2_said_3 13 rfl rfl)
theorem dX2_said_85 : decode cX2_said 85 = .ok (.iload_n 2, 1) := dk_28 (dk_at dksX2_said_3 14 rfl rfl)
theorem dX2_said_86 : decode cX2_said 86 = .ok (.iastore, 1) := dk_79 (dk_at dksX2_said_3 15 rfl rfl)
theorem dX2_said_87 : decode cX2_said 87 = .ok (.aload_n 0, 1) := dk_42 (dk_at dksX2_said_3 16 rfl rfl)
theorem dX2_said_88 : decode cX2_said 88 = .ok (.getfield 7, 3) := dk_180 0 7 (dk_at dksX2_said_3 17 rfl rfl)
theorem dX2_said_91 : decode cX2_said 91 = .ok (.bipush 6, 2) := dk_16 6 (dk_at dksX2_said_3 20 rfl rfl)
theorem dX2_said_93 : decode cX2_said 93 = .ok (.dup2, 1) := dk_92 (dk_at dksX2_said_3 22 rfl rfl)
theorem dX2_said_94 : decode cX2_said 94 = .ok (.iaload, 1) := dk_46 (dk_at dksX2_said_3 23 rfl rfl)
theorem dX2_said_95 : decode cX2_said 95 = .ok (.iconst 1, 1) := dk_4 (dk_at dksX2_said_4 0 rfl rfl)
theorem dX2_said_96 : decode cX2_said 96 = .ok (.iadd, 1) := dk_96 (dk_at dksX2_said_4 1 rfl rfl)
theorem dX2_said_97 : decode cX2_said 97 = .ok (.iastore, 1) := dk_79 (dk_at dksX2_said_4 2 rfl rfl)
theorem dX2_said_98 : decode cX2_said 98 = .ok (.aload_n 0, 1) := dk_42 (dk_at dksX2_said_4 3 rfl rfl)
theorem dX2_said_99 : decode cX2_said 99 = .ok (.getfield 7, 3) := dk_180 0 7 (dk_at dksX2_said_4 4 rfl rfl)
theorem dX2_said_102 : decode cX2_said 102 = .ok (.bipush 6, 2) := dk_16 6 (dk_at dksX2_said_4 7 rfl rfl)
theorem dX2_said_104 : decode cX2_said 104 = .ok (.iaload, 1) := dk_46 (dk_at dksX2_said_4 9 rfl rfl)
theorem dX2_said_105 : decode cX2_said 105 = .ok (.ireturn, 1) := dk_172 (dk_at dksX2_said_4 10 rfl rfl)
abbrev cX2_whose : ByteArray := prog_20_method_143_code
def yX2_whose : MethodName := ⟨RX2, "whose", "()I"⟩
def dkwX2_whose_4 : List UInt8 := [167, 0, 4, 3, 128, 60, 132, 2, 1, 167, 255, 158, 27, 172]
abbrev dktX2_whose_4 : List UInt8 := dkwX2_whose_4 ++ []
def dkwX2_whose_3 : List UInt8 := [160, 0, 7, 4, 167, 0, 4, 3, 62, 132, 4, 2, 167, 255, 194, 27, 29, 153, 0, 9, 4, 28, 120]
abbrev dktX2_whose_3 : List UInt8 := dkwX2_whose_3 ++ dktX2_whose_4
def dkwX2_whose_2 : List UInt8 := [21, 4, 46, 3, 42, 180, 0, 7, 16, 9, 46, 182, 1, 64, 42, 180, 0, 7, 21, 4, 4, 96, 46]
abbrev dktX2_whose_2 : List UInt8 := dkwX2_whose_2 ++ dktX2_whose_3
def dkwX2_whose_1 : List UInt8 := [5, 42, 180, 0, 7, 16, 6, 46, 104, 96, 162, 0, 51, 29, 153, 0, 39, 42, 28, 42, 180, 0, 7]
abbrev dktX2_whose_1 : List UInt8 := dkwX2_whose_1 ++ dktX2_whose_2
def dkwX2_whose_0 : List UInt8 := [3, 60, 3, 61, 28, 42, 180, 0, 7, 4, 46, 162, 0, 94, 4, 62, 16, 94, 54, 4, 21, 4, 16, 94]
abbrev dktX2_whose_0 : List UInt8 := dkwX2_whose_0 ++ dktX2_whose_1
theorem dksX2_whose_0 : cX2_whose.data.toList.drop 0 = dktX2_whose_0 := by decide +kernel
theorem dksX2_whose_1 : cX2_whose.data.toList.drop 24 = dktX2_whose_1 := dk_seg dksX2_whose_0 24 rfl rfl
theorem dksX2_whose_2 : cX2_whose.data.toList.drop 47 = dktX2_whose_2 := dk_seg dksX2_whose_1 23 rfl rfl
theorem dksX2_whose_3 : cX2_whose.data.toList.drop 70 = dktX2_whose_3 := dk_seg dksX2_whose_2 23 rfl rfl
theorem dksX2_whose_4 : cX2_whose.data.toList.drop 93 = dktX2_whose_4 := dk_seg dksX2_whose_3 23 rfl rfl
theorem dX2_whose_0 : decode cX2_whose 0 = .ok (.iconst 0, 1) := dk_3 (dk_at dksX2_whose_0 0 rfl rfl)
theorem dX2_whose_1 : decode cX2_whose 1 = .ok (.istore_n 1, 1) := dk_60 (dk_at dksX2_whose_0 1 rfl rfl)
theorem dX2_whose_2 : decode cX2_whose 2 = .ok (.iconst 0, 1) := dk_3 (dk_at dksX2_whose_0 2 rfl rfl)
theorem dX2_whose_3 : decode cX2_whose 3 = .ok (.istore_n 2, 1) := dk_61 (dk_at dksX2_whose_0 3 rfl rfl)
theorem dX2_whose_4 : decode cX2_whose 4 = .ok (.iload_n 2, 1) := dk_28 (dk_at dksX2_whose_0 4 rfl rfl)
theorem dX2_whose_5 : decode cX2_whose 5 = .ok (.aload_n 0, 1) := dk_42 (dk_at dksX2_whose_0 5 rfl rfl)
theorem dX2_whose_6 : decode cX2_whose 6 = .ok (.getfield 7, 3) := dk_180 0 7 (dk_at dksX2_whose_0 6 rfl rfl)
theorem dX2_whose_9 : decode cX2_whose 9 = .ok (.iconst 1, 1) := dk_4 (dk_at dksX2_whose_0 9 rfl rfl)
theorem dX2_whose_10 : decode cX2_whose 10 = .ok (.iaload, 1) := dk_46 (dk_at dksX2_whose_0 10 rfl rfl)
theorem dX2_whose_11 : decode cX2_whose 11 = .ok (.if_icmp .ge 94, 3) := dk_162 0 94 (dk_at dksX2_whose_0 11 rfl rfl)
theorem dX2_whose_14 : decode cX2_whose 14 = .ok (.iconst 1, 1) := dk_4 (dk_at dksX2_whose_0 14 rfl rfl)
theorem dX2_whose_15 : decode cX2_whose 15 = .ok (.istore_n 3, 1) := dk_62 (dk_at dksX2_whose_0 15 rfl rfl)
theorem dX2_whose_16 : decode cX2_whose 16 = .ok (.bipush 94, 2) := dk_16 94 (dk_at dksX2_whose_0 16 rfl rfl)
theorem dX2_whose_18 : decode cX2_whose 18 = .ok (.istore 4, 2) := dk_54 4 (dk_at dksX2_whose_0 18 rfl rfl)
theorem dX2_whose_20 : decode cX2_whose 20 = .ok (.iload 4, 2) := dk_21 4 (dk_at dksX2_whose_0 20 rfl rfl)
theorem dX2_whose_22 : decode cX2_whose 22 = .ok (.bipush 94, 2) := dk_16 94 (dk_at dksX2_whose_0 22 rfl rfl)
theorem dX2_whose_24 : decode cX2_whose 24 = .ok (.iconst 2, 1) := dk_5 (dk_at dksX2_whose_1 0 rfl rfl)
theorem dX2_whose_25 : decode cX2_whose 25 = .ok (.aload_n 0, 1) := dk_42 (dk_at dksX2_whose_1 1 rfl rfl)
theorem dX2_whose_26 : decode cX2_whose 26 = .ok (.getfield 7, 3) := dk_180 0 7 (dk_at dksX2_whose_1 2 rfl rfl)
theorem dX2_whose_29 : decode cX2_whose 29 = .ok (.bipush 6, 2) := dk_16 6 (dk_at dksX2_whose_1 5 rfl rfl)
theorem dX2_whose_31 : decode cX2_whose 31 = .ok (.iaload, 1) := dk_46 (dk_at dksX2_whose_1 7 rfl rfl)
theorem dX2_whose_32 : decode cX2_whose 32 = .ok (.imul, 1) := dk_104 (dk_at dksX2_whose_1 8 rfl rfl)
theorem dX2_whose_33 : decode cX2_whose 33 = .ok (.iadd, 1) := dk_96 (dk_at dksX2_whose_1 9 rfl rfl)
theorem dX2_whose_34 : decode cX2_whose 34 = .ok (.if_icmp .ge 51, 3) := dk_162 0 51 (dk_at dksX2_whose_1 10 rfl rfl)
theorem dX2_whose_37 : decode cX2_whose 37 = .ok (.iload_n 3, 1) := dk_29 (dk_at dksX2_whose_1 13 rfl rfl)
theorem dX2_whose_38 : decode cX2_whose 38 = .ok (.ifCond .eq 39, 3) := dk_153 0 39 (dk_at dksX2_whose_1 14 rfl rfl)
theorem dX2_whose_41 : decode cX2_whose 41 = .ok (.aload_n 0, 1) := dk_42 (dk_at dksX2_whose_1 17 rfl rfl)
theorem dX2_whose_42 : decode cX2_whose 42 = .ok (.iload_n 2, 1) := dk_28 (dk_at dksX2_whose_1 18 rfl rfl)
theorem dX2_whose_43 : decode cX2_whose 43 = .ok (.aload_n 0, 1) := dk_42 (dk_at dksX2_whose_1 19 rfl rfl)
theorem dX2_whose_44 : decode cX2_whose 44 = .ok (.getfield 7, 3) := dk_180 0 7 (dk_at dksX2_whose_1 20 rfl rfl)
theorem dX2_whose_47 : decode cX2_whose 47 = .ok (.iload 4, 2) := dk_21 4 (dk_at dksX2_whose_2 0 rfl rfl)
theorem dX2_whose_49 : decode cX2_whose 49 = .ok (.iaload, 1) := dk_46 (dk_at dksX2_whose_2 2 rfl rfl)
theorem dX2_whose_50 : decode cX2_whose 50 = .ok (.iconst 0, 1) := dk_3 (dk_at dksX2_whose_2 3 rfl rfl)
theorem dX2_whose_51 : decode cX2_whose 51 = .ok (.aload_n 0, 1) := dk_42 (dk_at dksX2_whose_2 4 rfl rfl)
theorem dX2_whose_52 : decode cX2_whose 52 = .ok (.getfield 7, 3) := dk_180 0 7 (dk_at dksX2_whose_2 5 rfl rfl)
theorem dX2_whose_55 : decode cX2_whose 55 = .ok (.bipush 9, 2) := dk_16 9 (dk_at dksX2_whose_2 8 rfl rfl)
theorem dX2_whose_57 : decode cX2_whose 57 = .ok (.iaload, 1) := dk_46 (dk_at dksX2_whose_2 10 rfl rfl)
theorem dX2_whose_58 : decode cX2_whose 58 = .ok (.invokevirtual 320, 3) := dk_182 1 64 (dk_at dksX2_whose_2 11 rfl rfl)
theorem dX2_whose_61 : decode cX2_whose 61 = .ok (.aload_n 0, 1) := dk_42 (dk_at dksX2_whose_2 14 rfl rfl)
theorem dX2_whose_62 : decode cX2_whose 62 = .ok (.getfield 7, 3) := dk_180 0 7 (dk_at dksX2_whose_2 15 rfl rfl)
theorem dX2_whose_65 : decode cX2_whose 65 = .ok (.iload 4, 2) := dk_21 4 (dk_at dksX2_whose_2 18 rfl rfl)
theorem dX2_whose_67 : decode cX2_whose 67 = .ok (.iconst 1, 1) := dk_4 (dk_at dksX2_whose_2 20 rfl rfl)
theorem dX2_whose_68 : decode cX2_whose 68 = .ok (.iadd, 1) := dk_96 (dk_at dksX2_whose_2 21 rfl rfl)
theorem dX2_whose_69 : decode cX2_whose 69 = .ok (.iaload, 1) := dk_46 (dk_at dksX2_whose_2 22 rfl rfl)
theorem dX2_whose_70 : decode cX2_whose 70 = .ok (.if_icmp .ne 7, 3) := dk_160 0 7 (dk_at dksX2_whose_3 0 rfl rfl)
theorem dX2_whose_73 : decode cX2_whose 73 = .ok (.iconst 1, 1) := dk_4 (dk_at dksX2_whose_3 3 rfl rfl)
theorem dX2_whose_74 : decode cX2_whose 74 = .ok (.goto 4, 3) := dk_167 0 4 (dk_at dksX2_whose_3 4 rfl rfl)
theorem dX2_whose_77 : decode cX2_whose 77 = .ok (.iconst 0, 1) := dk_3 (dk_at dksX2_whose_3 7 rfl rfl)
theorem dX2_whose_78 : decode cX2_whose 78 = .ok (.istore_n 3, 1) := dk_62 (dk_at dksX2_whose_3 8 rfl rfl)
theorem dX2_whose_79 : decode cX2_whose 79 = .ok (.iinc 4 2, 3) := dk_132 4 2 (dk_at dksX2_whose_3 9 rfl rfl)
theorem dX2_whose_82 : decode cX2_whose 82 = .ok (.goto (-62), 3) := dk_167 255 194 (dk_at dksX2_whose_3 12 rfl rfl)
theorem dX2_whose_85 : decode cX2_whose 85 = .ok (.iload_n 1, 1) := dk_27 (dk_at dksX2_whose_3 15 rfl rfl)
theorem dX2_whose_86 : decode cX2_whose 86 = .ok (.iload_n 3, 1) := dk_29 (dk_at dksX2_whose_3 16 rfl rfl)
theorem dX2_whose_87 : decode cX2_whose 87 = .ok (.ifCond .eq 9, 3) := dk_153 0 9 (dk_at dksX2_whose_3 17 rfl rfl)
theorem dX2_whose_90 : decode cX2_whose 90 = .ok (.iconst 1, 1) := dk_4 (dk_at dksX2_whose_3 20 rfl rfl)
theorem dX2_whose_91 : decode cX2_whose 91 = .ok (.iload_n 2, 1) := dk_28 (dk_at dksX2_whose_3 21 rfl rfl)
theorem dX2_whose_92 : decode cX2_whose 92 = .ok (.ishl, 1) := dk_120 (dk_at dksX2_whose_3 22 rfl rfl)
theorem dX2_whose_93 : decode cX2_whose 93 = .ok (.goto 4, 3) := dk_167 0 4 (dk_at dksX2_whose_4 0 rfl rfl)
theorem dX2_whose_96 : decode cX2_whose 96 = .ok (.iconst 0, 1) := dk_3 (dk_at dksX2_whose_4 3 rfl rfl)
theorem dX2_whose_97 : decode cX2_whose 97 = .ok (.ior, 1) := dk_128 (dk_at dksX2_whose_4 4 rfl rfl)
theorem dX2_whose_98 : decode cX2_whose 98 = .ok (.istore_n 1, 1) := dk_60 (dk_at dksX2_whose_4 5 rfl rfl)
theorem dX2_whose_99 : decode cX2_whose 99 = .ok (.iinc 2 1, 3) := dk_132 2 1 (dk_at dksX2_whose_4 6 rfl rfl)
theorem dX2_whose_102 : decode cX2_whose 102 = .ok (.goto (-98), 3) := dk_167 255 158 (dk_at dksX2_whose_4 9 rfl rfl)
theorem dX2_whose_105 : decode cX2_whose 105 = .ok (.iload_n 1, 1) := dk_27 (dk_at dksX2_whose_4 12 rfl rfl)
theorem dX2_whose_106 : decode cX2_whose 106 = .ok (.ireturn, 1) := dk_172 (dk_at dksX2_whose_4 13 rfl rfl)
abbrev cX2_image : ByteArray := prog_20_method_144_code
def yX2_image : MethodName := ⟨RX2, "image", "()I"⟩
def dkwX2_image_0 : List UInt8 := [42, 180, 0, 7, 42, 180, 0, 13, 184, 0, 77, 42, 180, 0, 7, 16, 7, 46, 172]
abbrev dktX2_image_0 : List UInt8 := dkwX2_image_0 ++ []
theorem dksX2_image_0 : cX2_image.data.toList.drop 0 = dktX2_image_0 := by decide +kernel
theorem dX2_image_0 : decode cX2_image 0 = .ok (.aload_n 0, 1) := dk_42 (dk_at dksX2_image_0 0 rfl rfl)
theorem dX2_image_1 : decode cX2_image 1 = .ok (.getfield 7, 3) := dk_180 0 7 (dk_at dksX2_image_0 1 rfl rfl)
theorem dX2_image_4 : decode cX2_image 4 = .ok (.aload_n 0, 1) := dk_42 (dk_at dksX2_image_0 4 rfl rfl)
theorem dX2_image_5 : decode cX2_image 5 = .ok (.getfield 13, 3) := dk_180 0 13 (dk_at dksX2_image_0 5 rfl rfl)
theorem dX2_image_8 : decode cX2_image 8 = .ok (.invokestatic 77, 3) := dk_184 0 77 (dk_at dksX2_image_0 8 rfl rfl)
theorem dX2_image_11 : decode cX2_image 11 = .ok (.aload_n 0, 1) := dk_42 (dk_at dksX2_image_0 11 rfl rfl)
theorem dX2_image_12 : decode cX2_image 12 = .ok (.getfield 7, 3) := dk_180 0 7 (dk_at dksX2_image_0 12 rfl rfl)
theorem dX2_image_15 : decode cX2_image 15 = .ok (.bipush 7, 2) := dk_16 7 (dk_at dksX2_image_0 15 rfl rfl)
theorem dX2_image_17 : decode cX2_image 17 = .ok (.iaload, 1) := dk_46 (dk_at dksX2_image_0 17 rfl rfl)
theorem dX2_image_18 : decode cX2_image 18 = .ok (.ireturn, 1) := dk_172 (dk_at dksX2_image_0 18 rfl rfl)
abbrev cX2_back : ByteArray := prog_20_method_145_code
def yX2_back : MethodName := ⟨RX2, "back", "()I"⟩
def dkwX2_back_0 : List UInt8 := [42, 180, 0, 13, 42, 180, 0, 7, 184, 0, 77, 42, 180, 0, 7, 16, 7, 46, 172]
abbrev dktX2_back_0 : List UInt8 := dkwX2_back_0 ++ []
theorem dksX2_back_0 : cX2_back.data.toList.drop 0 = dktX2_back_0 := by decide +kernel
theorem dX2_back_0 : decode cX2_back 0 = .ok (.aload_n 0, 1) := dk_42 (dk_at dksX2_back_0 0 rfl rfl)
theorem dX2_back_1 : decode cX2_back 1 = .ok (.getfield 13, 3) := dk_180 0 13 (dk_at dksX2_back_0 1 rfl rfl)
theorem dX2_back_4 : decode cX2_back 4 = .ok (.aload_n 0, 1) := dk_42 (dk_at dksX2_back_0 4 rfl rfl)
theorem dX2_back_5 : decode cX2_back 5 = .ok (.getfield 7, 3) := dk_180 0 7 (dk_at dksX2_back_0 5 rfl rfl)
theorem dX2_back_8 : decode cX2_back 8 = .ok (.invokestatic 77, 3) := dk_184 0 77 (dk_at dksX2_back_0 8 rfl rfl)
theorem dX2_back_11 : decode cX2_back 11 = .ok (.aload_n 0, 1) := dk_42 (dk_at dksX2_back_0 11 rfl rfl)
theorem dX2_back_12 : decode cX2_back 12 = .ok (.getfield 7, 3) := dk_180 0 7 (dk_at dksX2_back_0 12 rfl rfl)
theorem dX2_back_15 : decode cX2_back 15 = .ok (.bipush 7, 2) := dk_16 7 (dk_at dksX2_back_0 15 rfl rfl)
theorem dX2_back_17 : decode cX2_back 17 = .ok (.iaload, 1) := dk_46 (dk_at dksX2_back_0 17 rfl rfl)
theorem dX2_back_18 : decode cX2_back 18 = .ok (.ireturn, 1) := dk_172 (dk_at dksX2_back_0 18 rfl rfl)
abbrev cX2_about : ByteArray := prog_20_method_146_code
def yX2_about : MethodName := ⟨RX2, "about", "(I)I"⟩
def dkwX2_about_1 : List UInt8 := [160, 0, 10, 42, 180, 0, 100, 167, 0, 5, 16, 254, 172]
abbrev dktX2_about_1 : List UInt8 := dkwX2_about_1 ++ []
def dkwX2_about_0 : List UInt8 := [27, 3, 16, 6, 184, 0, 81, 153, 0, 12, 42, 180, 0, 7, 27, 46, 167, 0, 18, 27, 16, 7]
abbrev dktX2_about_0 : List UInt8 := dkwX2_about_0 ++ dktX2_about_1
theorem dksX2_about_0 : cX2_about.data.toList.drop 0 = dktX2_about_0 := by decide +kernel
theorem dksX2_about_1 : cX2_about.data.toList.drop 22 = dktX2_about_1 := dk_seg dksX2_about_0 22 rfl rfl
theorem dX2_about_0 : decode cX2_about 0 = .ok (.iload_n 1, 1) := dk_27 (dk_at dksX2_about_0 0 rfl rfl)
theorem dX2_about_1 : decode cX2_about 1 = .ok (.iconst 0, 1) := dk_3 (dk_at dksX2_about_0 1 rfl rfl)
theorem dX2_about_2 : decode cX2_about 2 = .ok (.bipush 6, 2) := dk_16 6 (dk_at dksX2_about_0 2 rfl rfl)
theorem dX2_about_4 : decode cX2_about 4 = .ok (.invokestatic 81, 3) := dk_184 0 81 (dk_at dksX2_about_0 4 rfl rfl)
theorem dX2_about_7 : decode cX2_about 7 = .ok (.ifCond .eq 12, 3) := dk_153 0 12 (dk_at dksX2_about_0 7 rfl rfl)
theorem dX2_about_10 : decode cX2_about 10 = .ok (.aload_n 0, 1) := dk_42 (dk_at dksX2_about_0 10 rfl rfl)
theorem dX2_about_11 : decode cX2_about 11 = .ok (.getfield 7, 3) := dk_180 0 7 (dk_at dksX2_about_0 11 rfl rfl)
theorem dX2_about_14 : decode cX2_about 14 = .ok (.iload_n 1, 1) := dk_27 (dk_at dksX2_about_0 14 rfl rfl)
theorem dX2_about_15 : decode cX2_about 15 = .ok (.iaload, 1) := dk_46 (dk_at dksX2_about_0 15 rfl rfl)
theorem dX2_about_16 : decode cX2_about 16 = .ok (.goto 18, 3) := dk_167 0 18 (dk_at dksX2_about_0 16 rfl rfl)
theorem dX2_about_19 : decode cX2_about 19 = .ok (.iload_n 1, 1) := dk_27 (dk_at dksX2_about_0 19 rfl rfl)
theorem dX2_about_20 : decode cX2_about 20 = .ok (.bipush 7, 2) := dk_16 7 (dk_at dksX2_about_0 20 rfl rfl)
theorem dX2_about_22 : decode cX2_about 22 = .ok (.if_icmp .ne 10, 3) := dk_160 0 10 (dk_at dksX2_about_1 0 rfl rfl)
theorem dX2_about_25 : decode cX2_about 25 = .ok (.aload_n 0, 1) := dk_42 (dk_at dksX2_about_1 3 rfl rfl)
theorem dX2_about_26 : decode cX2_about 26 = .ok (.getfield 100, 3) := dk_180 0 100 (dk_at dksX2_about_1 4 rfl rfl)
theorem dX2_about_29 : decode cX2_about 29 = .ok (.goto 5, 3) := dk_167 0 5 (dk_at dksX2_about_1 7 rfl rfl)
theorem dX2_about_32 : decode cX2_about 32 = .ok (.bipush (-2), 2) := dk_16 254 (dk_at dksX2_about_1 10 rfl rfl)
theorem dX2_about_34 : decode cX2_about 34 = .ok (.ireturn, 1) := dk_172 (dk_at dksX2_about_1 12 rfl rfl)
theorem q140 : (Jvm.Cond.initialized "QuarrelsPawnedModel") ∈ lw_all := lw_g (lw_at lw_m1 5 rfl) rfl
theorem q690 : (Jvm.Cond.selects "QuarrelsPawnedModel" ({ cls := "java/lang/Object", name := "getClass", desc := "()Ljava/lang/Class;" } : Jvm.MethodName) ({ cls := "java/lang/Object", name := "getClass", desc := "()Ljava/lang/Class;" } : Jvm.MethodName)) ∈ lw_all := lw_g (lw_at lw_m3 75 rfl) rfl
theorem q1397 : (Jvm.Cond.instantiable "QuarrelsPawnedModel" (41 : Nat)) ∈ lw_all := lw_g (lw_at lw_m6 62 rfl) rfl
theorem q1399 : (Jvm.Cond.instanceMethod ({ cls := "QuarrelsPawnedModel", name := "<init>", desc := "()V" } : Jvm.MethodName)) ∈ lw_all := lw_g (lw_at lw_m6 64 rfl) rfl
theorem q1400 : (Jvm.Cond.code ({ cls := "QuarrelsPawnedModel", name := "<init>", desc := "()V" } : Jvm.MethodName) prog_20_method_1_code (2 : Nat) (Option.none : Option Jvm.ClassFile.FieldType)) ∈ lw_all := lw_g (lw_at lw_m6 65 rfl) rfl
theorem q1401 : (Jvm.Cond.methodLink "QuarrelsPawnedModel" (1 : Nat) ({ cls := "java/lang/Object", name := "<init>", desc := "()V" } : Jvm.MethodName)) ∈ lw_all := lw_g (lw_at lw_m6 66 rfl) rfl
theorem q1402 : (Jvm.Cond.methodLink "QuarrelsPawnedModel" (77 : Nat) ({ cls := "QuarrelsPawnedModel", name := "copy", desc := "([I[I)V" } : Jvm.MethodName)) ∈ lw_all := lw_g (lw_at lw_m6 67 rfl) rfl
theorem q1403 : (Jvm.Cond.static ({ cls := "QuarrelsPawnedModel", name := "copy", desc := "([I[I)V" } : Jvm.MethodName)) ∈ lw_all := lw_g (lw_at lw_m6 68 rfl) rfl
theorem q1404 : (Jvm.Cond.code ({ cls := "QuarrelsPawnedModel", name := "copy", desc := "([I[I)V" } : Jvm.MethodName) prog_20_method_2_code (3 : Nat) (Option.none : Option Jvm.ClassFile.FieldType)) ∈ lw_all := lw_g (lw_at lw_m6 69 rfl) rfl
theorem q1405 : (Jvm.Cond.fieldLink "QuarrelsPawnedModel" (7 : Nat) "QuarrelsPawnedModel" "a" "[I") ∈ lw_all := lw_g (lw_at lw_m6 70 rfl) rfl
theorem q1406 : (Jvm.Cond.fieldLink "QuarrelsPawnedModel" (13 : Nat) "QuarrelsPawnedModel" "image" "[I") ∈ lw_all := lw_g (lw_at lw_m6 71 rfl) rfl
theorem q1407 : (Jvm.Cond.fieldLink "QuarrelsPawnedModel" (16 : Nat) "QuarrelsPawnedModel" "texts" "[I") ∈ lw_all := lw_g (lw_at lw_m6 72 rfl) rfl
theorem q1408 : (Jvm.Cond.fieldLink "QuarrelsPawnedModel" (19 : Nat) "QuarrelsPawnedModel" "tape" "[I") ∈ lw_all := lw_g (lw_at lw_m6 73 rfl) rfl
theorem q1409 : (Jvm.Cond.fieldLink "QuarrelsPawnedModel" (100 : Nat) "QuarrelsPawnedModel" "taped" "I") ∈ lw_all := lw_g (lw_at lw_m6 74 rfl) rfl
theorem q1410 : (Jvm.Cond.fieldLink "QuarrelsPawnedModel" (22 : Nat) "QuarrelsPawnedModel" "fault" "I") ∈ lw_all := lw_g (lw_at lw_m6 75 rfl) rfl
theorem q1411 : (Jvm.Cond.fieldLink "QuarrelsPawnedModel" (26 : Nat) "QuarrelsPawnedModel" "faultPlace" "I") ∈ lw_all := lw_g (lw_at lw_m6 76 rfl) rfl
theorem q1412 : (Jvm.Cond.fieldLink "QuarrelsPawnedModel" (106 : Nat) "QuarrelsPawnedModel" "at" "I") ∈ lw_all := lw_g (lw_at lw_m6 77 rfl) rfl
theorem q1413 : (Jvm.Cond.fieldLink "QuarrelsPawnedModel" (112 : Nat) "QuarrelsPawnedModel" "place" "I") ∈ lw_all := lw_g (lw_at lw_m6 78 rfl) rfl
theorem q1414 : (Jvm.Cond.fieldLink "QuarrelsPawnedModel" (115 : Nat) "QuarrelsPawnedModel" "token" "I") ∈ lw_all := lw_g (lw_at lw_m6 79 rfl) rfl
theorem q1415 : (Jvm.Cond.fieldLink "QuarrelsPawnedModel" (121 : Nat) "QuarrelsPawnedModel" "number" "I") ∈ lw_all := lw_g (lw_at lw_m6 80 rfl) rfl
theorem q1416 : (Jvm.Cond.fieldLink "QuarrelsPawnedModel" (128 : Nat) "QuarrelsPawnedModel" "wordRead" "J") ∈ lw_all := lw_g (lw_at lw_m6 81 rfl) rfl
theorem q1417 : (Jvm.Cond.fieldLink "QuarrelsPawnedModel" (153 : Nat) "QuarrelsPawnedModel" "text0" "I") ∈ lw_all := lw_g (lw_at lw_m6 82 rfl) rfl
theorem q1418 : (Jvm.Cond.fieldLink "QuarrelsPawnedModel" (156 : Nat) "QuarrelsPawnedModel" "written" "I") ∈ lw_all := lw_g (lw_at lw_m6 83 rfl) rfl
theorem q1419 : (Jvm.Cond.fieldLink "QuarrelsPawnedModel" (163 : Nat) "QuarrelsPawnedModel" "sort0" "I") ∈ lw_all := lw_g (lw_at lw_m6 84 rfl) rfl
theorem q1420 : (Jvm.Cond.fieldLink "QuarrelsPawnedModel" (29 : Nat) "QuarrelsPawnedModel" "pile" "[I") ∈ lw_all := lw_g (lw_at lw_m6 85 rfl) rfl
theorem q1421 : (Jvm.Cond.fieldLink "QuarrelsPawnedModel" (166 : Nat) "QuarrelsPawnedModel" "piled" "I") ∈ lw_all := lw_g (lw_at lw_m6 86 rfl) rfl
theorem q1422 : (Jvm.Cond.fieldLink "QuarrelsPawnedModel" (176 : Nat) "QuarrelsPawnedModel" "opens" "I") ∈ lw_all := lw_g (lw_at lw_m6 87 rfl) rfl
theorem q1423 : (Jvm.Cond.fieldLink "QuarrelsPawnedModel" (212 : Nat) "QuarrelsPawnedModel" "isWhole" "Z") ∈ lw_all := lw_g (lw_at lw_m6 88 rfl) rfl
theorem q1424 : (Jvm.Cond.fieldLink "QuarrelsPawnedModel" (256 : Nat) "QuarrelsPawnedModel" "once" "I") ∈ lw_all := lw_g (lw_at lw_m6 89 rfl) rfl
theorem q1425 : (Jvm.Cond.fieldLink "QuarrelsPawnedModel" (32 : Nat) "QuarrelsPawnedModel" "named" "[I") ∈ lw_all := lw_g (lw_at lw_m6 90 rfl) rfl
theorem q1426 : (Jvm.Cond.fieldLink "QuarrelsPawnedModel" (35 : Nat) "QuarrelsPawnedModel" "values" "[J") ∈ lw_all := lw_g (lw_at lw_m6 91 rfl) rfl
theorem q1427 : (Jvm.Cond.fieldLink "QuarrelsPawnedModel" (39 : Nat) "QuarrelsPawnedModel" "truth" "[Z") ∈ lw_all := lw_g (lw_at lw_m6 92 rfl) rfl
theorem q1428 : (Jvm.Cond.fieldLink "QuarrelsPawnedModel" (43 : Nat) "QuarrelsPawnedModel" "isWritten" "Z") ∈ lw_all := lw_g (lw_at lw_m6 93 rfl) rfl
theorem q1429 : (Jvm.Cond.fieldLink "QuarrelsPawnedModel" (357 : Nat) "QuarrelsPawnedModel" "sales" "I") ∈ lw_all := lw_g (lw_at lw_m6 94 rfl) rfl
theorem q1430 : (Jvm.Cond.fieldLink "QuarrelsPawnedModel" (47 : Nat) "QuarrelsPawnedModel" "aside" "[I") ∈ lw_all := lw_g (lw_at lw_m6 95 rfl) rfl
theorem q1431 : (Jvm.Cond.fieldLink "QuarrelsPawnedModel" (50 : Nat) "QuarrelsPawnedModel" "far" "[I") ∈ lw_all := lw_g (lw_at lw_m6 96 rfl) rfl
theorem q1432 : (Jvm.Cond.fieldLink "QuarrelsPawnedModel" (53 : Nat) "QuarrelsPawnedModel" "many" "[I") ∈ lw_all := lw_g (lw_at lw_m6 97 rfl) rfl
theorem q1433 : (Jvm.Cond.fieldLink "QuarrelsPawnedModel" (56 : Nat) "QuarrelsPawnedModel" "order" "[I") ∈ lw_all := lw_g (lw_at lw_m6 98 rfl) rfl
theorem q1434 : (Jvm.Cond.fieldLink "QuarrelsPawnedModel" (59 : Nat) "QuarrelsPawnedModel" "bestOrder" "[I") ∈ lw_all := lw_g (lw_at lw_m6 99 rfl) rfl
theorem q1435 : (Jvm.Cond.fieldLink "QuarrelsPawnedModel" (439 : Nat) "QuarrelsPawnedModel" "paidTogether" "I") ∈ lw_all := lw_g (lw_at lw_m6 100 rfl) rfl
theorem q1436 : (Jvm.Cond.fieldLink "QuarrelsPawnedModel" (445 : Nat) "QuarrelsPawnedModel" "planned" "I") ∈ lw_all := lw_g (lw_at lw_m6 101 rfl) rfl
theorem q1437 : (Jvm.Cond.fieldLink "QuarrelsPawnedModel" (455 : Nat) "QuarrelsPawnedModel" "plannedPaid" "I") ∈ lw_all := lw_g (lw_at lw_m6 102 rfl) rfl
theorem q1438 : (Jvm.Cond.fieldLink "QuarrelsPawnedModel" (62 : Nat) "QuarrelsPawnedModel" "onHook" "[I") ∈ lw_all := lw_g (lw_at lw_m6 103 rfl) rfl
theorem q1439 : (Jvm.Cond.fieldLink "QuarrelsPawnedModel" (65 : Nat) "QuarrelsPawnedModel" "lowestHung" "[I") ∈ lw_all := lw_g (lw_at lw_m6 104 rfl) rfl
theorem q1440 : (Jvm.Cond.fieldLink "QuarrelsPawnedModel" (68 : Nat) "QuarrelsPawnedModel" "often" "[I") ∈ lw_all := lw_g (lw_at lw_m6 105 rfl) rfl
theorem q1441 : (Jvm.Cond.fieldLink "QuarrelsPawnedModel" (467 : Nat) "QuarrelsPawnedModel" "hungWays" "I") ∈ lw_all := lw_g (lw_at lw_m6 106 rfl) rfl
theorem q1442 : (Jvm.Cond.fieldLink "QuarrelsPawnedModel" (71 : Nat) "QuarrelsPawnedModel" "buyers" "[I") ∈ lw_all := lw_g (lw_at lw_m6 107 rfl) rfl
theorem q1443 : (Jvm.Cond.fieldLink "QuarrelsPawnedModel" (74 : Nat) "QuarrelsPawnedModel" "sellers" "[I") ∈ lw_all := lw_g (lw_at lw_m6 108 rfl) rfl
theorem q1444 : (Jvm.Cond.fieldLink "QuarrelsPawnedModel" (479 : Nat) "QuarrelsPawnedModel" "bought" "I") ∈ lw_all := lw_g (lw_at lw_m6 109 rfl) rfl
theorem q1445 : (Jvm.Cond.fieldLink "QuarrelsPawnedModel" (482 : Nat) "QuarrelsPawnedModel" "offered" "I") ∈ lw_all := lw_g (lw_at lw_m6 110 rfl) rfl
theorem q1446 : (Jvm.Cond.laysFinal "QuarrelsPawnedModel" "QuarrelsPawnedModel" "a" "[I") ∈ lw_all := lw_g (lw_at lw_m6 111 rfl) rfl
theorem q1447 : (Jvm.Cond.soleField "QuarrelsPawnedModel" "a") ∈ lw_all := lw_g (lw_at lw_m6 112 rfl) rfl
theorem q1448 : (Jvm.Cond.laysFinal "QuarrelsPawnedModel" "QuarrelsPawnedModel" "image" "[I") ∈ lw_all := lw_g (lw_at lw_m6 113 rfl) rfl
theorem q1449 : (Jvm.Cond.soleField "QuarrelsPawnedModel" "image") ∈ lw_all := lw_g (lw_at lw_m6 114 rfl) rfl
theorem q1450 : (Jvm.Cond.laysFinal "QuarrelsPawnedModel" "QuarrelsPawnedModel" "texts" "[I") ∈ lw_all := lw_g (lw_at lw_m6 115 rfl) rfl
theorem q1451 : (Jvm.Cond.soleField "QuarrelsPawnedModel" "texts") ∈ lw_all := lw_g (lw_at lw_m6 116 rfl) rfl
theorem q1452 : (Jvm.Cond.laysFinal "QuarrelsPawnedModel" "QuarrelsPawnedModel" "tape" "[I") ∈ lw_all := lw_g (lw_at lw_m6 117 rfl) rfl
theorem q1453 : (Jvm.Cond.soleField "QuarrelsPawnedModel" "tape") ∈ lw_all := lw_g (lw_at lw_m6 118 rfl) rfl
theorem q1454 : (Jvm.Cond.lays "QuarrelsPawnedModel" "QuarrelsPawnedModel" "taped" "I") ∈ lw_all := lw_g (lw_at lw_m6 119 rfl) rfl
theorem q1455 : (Jvm.Cond.soleField "QuarrelsPawnedModel" "taped") ∈ lw_all := lw_g (lw_at lw_m6 120 rfl) rfl
theorem q1456 : (Jvm.Cond.lays "QuarrelsPawnedModel" "QuarrelsPawnedModel" "fault" "I") ∈ lw_all := lw_g (lw_at lw_m6 121 rfl) rfl
theorem q1457 : (Jvm.Cond.soleField "QuarrelsPawnedModel" "fault") ∈ lw_all := lw_g (lw_at lw_m6 122 rfl) rfl
theorem q1458 : (Jvm.Cond.lays "QuarrelsPawnedModel" "QuarrelsPawnedModel" "faultPlace" "I") ∈ lw_all := lw_g (lw_at lw_m6 123 rfl) rfl
theorem q1459 : (Jvm.Cond.soleField "QuarrelsPawnedModel" "faultPlace") ∈ lw_all := lw_g (lw_at lw_m6 124 rfl) rfl
theorem q1460 : (Jvm.Cond.lays "QuarrelsPawnedModel" "QuarrelsPawnedModel" "at" "I") ∈ lw_all := lw_g (lw_at lw_m6 125 rfl) rfl
theorem q1461 : (Jvm.Cond.soleField "QuarrelsPawnedModel" "at") ∈ lw_all := lw_g (lw_at lw_m6 126 rfl) rfl
theorem q1462 : (Jvm.Cond.lays "QuarrelsPawnedModel" "QuarrelsPawnedModel" "place" "I") ∈ lw_all := lw_g (lw_at lw_m6 127 rfl) rfl
theorem q1463 : (Jvm.Cond.soleField "QuarrelsPawnedModel" "place") ∈ lw_all := lw_g (lw_at lw_m6 128 rfl) rfl
theorem q1464 : (Jvm.Cond.lays "QuarrelsPawnedModel" "QuarrelsPawnedModel" "token" "I") ∈ lw_all := lw_g (lw_at lw_m6 129 rfl) rfl
theorem q1465 : (Jvm.Cond.soleField "QuarrelsPawnedModel" "token") ∈ lw_all := lw_g (lw_at lw_m6 130 rfl) rfl
theorem q1466 : (Jvm.Cond.lays "QuarrelsPawnedModel" "QuarrelsPawnedModel" "number" "I") ∈ lw_all := lw_g (lw_at lw_m6 131 rfl) rfl
theorem q1467 : (Jvm.Cond.soleField "QuarrelsPawnedModel" "number") ∈ lw_all := lw_g (lw_at lw_m6 132 rfl) rfl
theorem q1468 : (Jvm.Cond.lays "QuarrelsPawnedModel" "QuarrelsPawnedModel" "wordRead" "J") ∈ lw_all := lw_g (lw_at lw_m6 133 rfl) rfl
theorem q1469 : (Jvm.Cond.soleField "QuarrelsPawnedModel" "wordRead") ∈ lw_all := lw_g (lw_at lw_m6 134 rfl) rfl
theorem q1470 : (Jvm.Cond.lays "QuarrelsPawnedModel" "QuarrelsPawnedModel" "text0" "I") ∈ lw_all := lw_g (lw_at lw_m6 135 rfl) rfl
theorem q1471 : (Jvm.Cond.soleField "QuarrelsPawnedModel" "text0") ∈ lw_all := lw_g (lw_at lw_m6 136 rfl) rfl
theorem q1472 : (Jvm.Cond.lays "QuarrelsPawnedModel" "QuarrelsPawnedModel" "written" "I") ∈ lw_all := lw_g (lw_at lw_m6 137 rfl) rfl
theorem q1473 : (Jvm.Cond.soleField "QuarrelsPawnedModel" "written") ∈ lw_all := lw_g (lw_at lw_m6 138 rfl) rfl
theorem q1474 : (Jvm.Cond.lays "QuarrelsPawnedModel" "QuarrelsPawnedModel" "sort0" "I") ∈ lw_all := lw_g (lw_at lw_m6 139 rfl) rfl
theorem q1475 : (Jvm.Cond.soleField "QuarrelsPawnedModel" "sort0") ∈ lw_all := lw_g (lw_at lw_m6 140 rfl) rfl
theorem q1476 : (Jvm.Cond.laysFinal "QuarrelsPawnedModel" "QuarrelsPawnedModel" "pile" "[I") ∈ lw_all := lw_g (lw_at lw_m6 141 rfl) rfl
theorem q1477 : (Jvm.Cond.soleField "QuarrelsPawnedModel" "pile") ∈ lw_all := lw_g (lw_at lw_m6 142 rfl) rfl
theorem q1478 : (Jvm.Cond.lays "QuarrelsPawnedModel" "QuarrelsPawnedModel" "piled" "I") ∈ lw_all := lw_g (lw_at lw_m6 143 rfl) rfl
theorem q1479 : (Jvm.Cond.soleField "QuarrelsPawnedModel" "piled") ∈ lw_all := lw_g (lw_at lw_m6 144 rfl) rfl
theorem q1480 : (Jvm.Cond.lays "QuarrelsPawnedModel" "QuarrelsPawnedModel" "opens" "I") ∈ lw_all := lw_g (lw_at lw_m6 145 rfl) rfl
theorem q1481 : (Jvm.Cond.soleField "QuarrelsPawnedModel" "opens") ∈ lw_all := lw_g (lw_at lw_m6 146 rfl) rfl
theorem q1482 : (Jvm.Cond.lays "QuarrelsPawnedModel" "QuarrelsPawnedModel" "isWhole" "Z") ∈ lw_all := lw_g (lw_at lw_m6 147 rfl) rfl
theorem q1483 : (Jvm.Cond.soleField "QuarrelsPawnedModel" "isWhole") ∈ lw_all := lw_g (lw_at lw_m6 148 rfl) rfl
theorem q1484 : (Jvm.Cond.lays "QuarrelsPawnedModel" "QuarrelsPawnedModel" "once" "I") ∈ lw_all := lw_g (lw_at lw_m6 149 rfl) rfl
theorem q1485 : (Jvm.Cond.soleField "QuarrelsPawnedModel" "once") ∈ lw_all := lw_g (lw_at lw_m6 150 rfl) rfl
theorem q1486 : (Jvm.Cond.laysFinal "QuarrelsPawnedModel" "QuarrelsPawnedModel" "named" "[I") ∈ lw_all := lw_g (lw_at lw_m6 151 rfl) rfl
theorem q1487 : (Jvm.Cond.soleField "QuarrelsPawnedModel" "named") ∈ lw_all := lw_g (lw_at lw_m6 152 rfl) rfl
theorem q1488 : (Jvm.Cond.laysFinal "QuarrelsPawnedModel" "QuarrelsPawnedModel" "values" "[J") ∈ lw_all := lw_g (lw_at lw_m6 153 rfl) rfl
theorem q1489 : (Jvm.Cond.soleField "QuarrelsPawnedModel" "values") ∈ lw_all := lw_g (lw_at lw_m6 154 rfl) rfl
theorem q1490 : (Jvm.Cond.laysFinal "QuarrelsPawnedModel" "QuarrelsPawnedModel" "truth" "[Z") ∈ lw_all := lw_g (lw_at lw_m6 155 rfl) rfl
theorem q1491 : (Jvm.Cond.soleField "QuarrelsPawnedModel" "truth") ∈ lw_all := lw_g (lw_at lw_m6 156 rfl) rfl
theorem q1492 : (Jvm.Cond.lays "QuarrelsPawnedModel" "QuarrelsPawnedModel" "isWritten" "Z") ∈ lw_all := lw_g (lw_at lw_m6 157 rfl) rfl
theorem q1493 : (Jvm.Cond.soleField "QuarrelsPawnedModel" "isWritten") ∈ lw_all := lw_g (lw_at lw_m6 158 rfl) rfl
theorem q1494 : (Jvm.Cond.lays "QuarrelsPawnedModel" "QuarrelsPawnedModel" "sales" "I") ∈ lw_all := lw_g (lw_at lw_m6 159 rfl) rfl
theorem q1495 : (Jvm.Cond.soleField "QuarrelsPawnedModel" "sales") ∈ lw_all := lw_g (lw_at lw_m6 160 rfl) rfl
theorem q1496 : (Jvm.Cond.laysFinal "QuarrelsPawnedModel" "QuarrelsPawnedModel" "aside" "[I") ∈ lw_all := lw_g (lw_at lw_m6 161 rfl) rfl
theorem q1497 : (Jvm.Cond.soleField "QuarrelsPawnedModel" "aside") ∈ lw_all := lw_g (lw_at lw_m6 162 rfl) rfl
theorem q1498 : (Jvm.Cond.laysFinal "QuarrelsPawnedModel" "QuarrelsPawnedModel" "far" "[I") ∈ lw_all := lw_g (lw_at lw_m6 163 rfl) rfl
theorem q1499 : (Jvm.Cond.soleField "QuarrelsPawnedModel" "far") ∈ lw_all := lw_g (lw_at lw_m6 164 rfl) rfl
theorem q1500 : (Jvm.Cond.laysFinal "QuarrelsPawnedModel" "QuarrelsPawnedModel" "many" "[I") ∈ lw_all := lw_g (lw_at lw_m6 165 rfl) rfl
theorem q1501 : (Jvm.Cond.soleField "QuarrelsPawnedModel" "many") ∈ lw_all := lw_g (lw_at lw_m6 166 rfl) rfl
theorem q1502 : (Jvm.Cond.laysFinal "QuarrelsPawnedModel" "QuarrelsPawnedModel" "order" "[I") ∈ lw_all := lw_g (lw_at lw_m6 167 rfl) rfl
theorem q1503 : (Jvm.Cond.soleField "QuarrelsPawnedModel" "order") ∈ lw_all := lw_g (lw_at lw_m6 168 rfl) rfl
theorem q1504 : (Jvm.Cond.laysFinal "QuarrelsPawnedModel" "QuarrelsPawnedModel" "bestOrder" "[I") ∈ lw_all := lw_g (lw_at lw_m6 169 rfl) rfl
theorem q1505 : (Jvm.Cond.soleField "QuarrelsPawnedModel" "bestOrder") ∈ lw_all := lw_g (lw_at lw_m6 170 rfl) rfl
theorem q1506 : (Jvm.Cond.lays "QuarrelsPawnedModel" "QuarrelsPawnedModel" "paidTogether" "I") ∈ lw_all := lw_g (lw_at lw_m6 171 rfl) rfl
theorem q1507 : (Jvm.Cond.soleField "QuarrelsPawnedModel" "paidTogether") ∈ lw_all := lw_g (lw_at lw_m6 172 rfl) rfl
theorem q1508 : (Jvm.Cond.lays "QuarrelsPawnedModel" "QuarrelsPawnedModel" "planned" "I") ∈ lw_all := lw_g (lw_at lw_m6 173 rfl) rfl
theorem q1509 : (Jvm.Cond.soleField "QuarrelsPawnedModel" "planned") ∈ lw_all := lw_g (lw_at lw_m6 174 rfl) rfl
theorem q1510 : (Jvm.Cond.lays "QuarrelsPawnedModel" "QuarrelsPawnedModel" "plannedPaid" "I") ∈ lw_all := lw_g (lw_at lw_m6 175 rfl) rfl
theorem q1511 : (Jvm.Cond.soleField "QuarrelsPawnedModel" "plannedPaid") ∈ lw_all := lw_g (lw_at lw_m6 176 rfl) rfl
theorem q1512 : (Jvm.Cond.laysFinal "QuarrelsPawnedModel" "QuarrelsPawnedModel" "onHook" "[I") ∈ lw_all := lw_g (lw_at lw_m6 177 rfl) rfl
theorem q1513 : (Jvm.Cond.soleField "QuarrelsPawnedModel" "onHook") ∈ lw_all := lw_g (lw_at lw_m6 178 rfl) rfl
theorem q1514 : (Jvm.Cond.laysFinal "QuarrelsPawnedModel" "QuarrelsPawnedModel" "lowestHung" "[I") ∈ lw_all := lw_g (lw_at lw_m6 179 rfl) rfl
theorem q1515 : (Jvm.Cond.soleField "QuarrelsPawnedModel" "lowestHung") ∈ lw_all := lw_g (lw_at lw_m6 180 rfl) rfl
theorem q1516 : (Jvm.Cond.laysFinal "QuarrelsPawnedModel" "QuarrelsPawnedModel" "often" "[I") ∈ lw_all := lw_g (lw_at lw_m6 181 rfl) rfl
theorem q1517 : (Jvm.Cond.soleField "QuarrelsPawnedModel" "often") ∈ lw_all := lw_g (lw_at lw_m6 182 rfl) rfl
theorem q1518 : (Jvm.Cond.lays "QuarrelsPawnedModel" "QuarrelsPawnedModel" "hungWays" "I") ∈ lw_all := lw_g (lw_at lw_m6 183 rfl) rfl
theorem q1519 : (Jvm.Cond.soleField "QuarrelsPawnedModel" "hungWays") ∈ lw_all := lw_g (lw_at lw_m6 184 rfl) rfl
theorem q1520 : (Jvm.Cond.laysFinal "QuarrelsPawnedModel" "QuarrelsPawnedModel" "buyers" "[I") ∈ lw_all := lw_g (lw_at lw_m6 185 rfl) rfl
theorem q1521 : (Jvm.Cond.soleField "QuarrelsPawnedModel" "buyers") ∈ lw_all := lw_g (lw_at lw_m6 186 rfl) rfl
theorem q1522 : (Jvm.Cond.laysFinal "QuarrelsPawnedModel" "QuarrelsPawnedModel" "sellers" "[I") ∈ lw_all := lw_g (lw_at lw_m6 187 rfl) rfl
theorem q1523 : (Jvm.Cond.soleField "QuarrelsPawnedModel" "sellers") ∈ lw_all := lw_g (lw_at lw_m6 188 rfl) rfl
theorem q1524 : (Jvm.Cond.lays "QuarrelsPawnedModel" "QuarrelsPawnedModel" "bought" "I") ∈ lw_all := lw_g (lw_at lw_m6 189 rfl) rfl
theorem q1525 : (Jvm.Cond.soleField "QuarrelsPawnedModel" "bought") ∈ lw_all := lw_g (lw_at lw_m6 190 rfl) rfl
theorem q1526 : (Jvm.Cond.lays "QuarrelsPawnedModel" "QuarrelsPawnedModel" "offered" "I") ∈ lw_all := lw_g (lw_at lw_m6 191 rfl) rfl
theorem q1527 : (Jvm.Cond.soleField "QuarrelsPawnedModel" "offered") ∈ lw_all := lw_g (lw_at lw_m6 192 rfl) rfl
theorem q1528 : (Jvm.Cond.superclass "QuarrelsPawnedModel" "java/lang/Object") ∈ lw_all := lw_g (lw_at lw_m6 193 rfl) rfl
theorem q1532 : (Jvm.Cond.instanceMethod ({ cls := "QuarrelsPawnedModel", name := "quarrel", desc := "(IIII)I" } : Jvm.MethodName)) ∈ lw_all := lw_g (lw_at lw_m6 197 rfl) rfl
theorem q1533 : (Jvm.Cond.selects "QuarrelsPawnedModel" ({ cls := "QuarrelsPawnedModel", name := "quarrel", desc := "(IIII)I" } : Jvm.MethodName) ({ cls := "QuarrelsPawnedModel", name := "quarrel", desc := "(IIII)I" } : Jvm.MethodName)) ∈ lw_all := lw_g (lw_at lw_m6 198 rfl) rfl
theorem q1534 : (Jvm.Cond.code ({ cls := "QuarrelsPawnedModel", name := "quarrel", desc := "(IIII)I" } : Jvm.MethodName) prog_20_method_16_code (6 : Nat) (Option.some Jvm.ClassFile.FieldType.int)) ∈ lw_all := lw_g (lw_at lw_m6 199 rfl) rfl
theorem q1535 : (Jvm.Cond.methodLink "QuarrelsPawnedModel" (93 : Nat) ({ cls := "QuarrelsPawnedModel", name := "isPerson", desc := "(I)Z" } : Jvm.MethodName)) ∈ lw_all := lw_g (lw_at lw_m6 200 rfl) rfl
theorem q1536 : (Jvm.Cond.static ({ cls := "QuarrelsPawnedModel", name := "isPerson", desc := "(I)Z" } : Jvm.MethodName)) ∈ lw_all := lw_g (lw_at lw_m6 201 rfl) rfl
theorem q1537 : (Jvm.Cond.code ({ cls := "QuarrelsPawnedModel", name := "isPerson", desc := "(I)Z" } : Jvm.MethodName) prog_20_method_9_code (1 : Nat) (Option.some Jvm.ClassFile.FieldType.boolean)) ∈ lw_all := lw_g (lw_at lw_m6 202 rfl) rfl
theorem q1538 : (Jvm.Cond.methodLink "QuarrelsPawnedModel" (81 : Nat) ({ cls := "QuarrelsPawnedModel", name := "isIn", desc := "(III)Z" } : Jvm.MethodName)) ∈ lw_all := lw_g (lw_at lw_m6 203 rfl) rfl
theorem q1539 : (Jvm.Cond.static ({ cls := "QuarrelsPawnedModel", name := "isIn", desc := "(III)Z" } : Jvm.MethodName)) ∈ lw_all := lw_g (lw_at lw_m6 204 rfl) rfl
theorem q1540 : (Jvm.Cond.code ({ cls := "QuarrelsPawnedModel", name := "isIn", desc := "(III)Z" } : Jvm.MethodName) prog_20_method_3_code (3 : Nat) (Option.some Jvm.ClassFile.FieldType.boolean)) ∈ lw_all := lw_g (lw_at lw_m6 205 rfl) rfl
theorem q1541 : (Jvm.Cond.methodLink "QuarrelsPawnedModel" (96 : Nat) ({ cls := "QuarrelsPawnedModel", name := "begin", desc := "(I)V" } : Jvm.MethodName)) ∈ lw_all := lw_g (lw_at lw_m6 206 rfl) rfl
theorem q1542 : (Jvm.Cond.privateMethod ({ cls := "QuarrelsPawnedModel", name := "begin", desc := "(I)V" } : Jvm.MethodName)) ∈ lw_tbl := lw_at lw_m6 207 rfl
theorem q1543 : (Jvm.Cond.instanceMethod ({ cls := "QuarrelsPawnedModel", name := "begin", desc := "(I)V" } : Jvm.MethodName)) ∈ lw_all := lw_g (lw_at lw_m6 208 rfl) rfl
theorem q1544 : (Jvm.Cond.code ({ cls := "QuarrelsPawnedModel", name := "begin", desc := "(I)V" } : Jvm.MethodName) prog_20_method_17_code (2 : Nat) (Option.none : Option Jvm.ClassFile.FieldType)) ∈ lw_all := lw_g (lw_at lw_m6 209 rfl) rfl
theorem q1546 : (Jvm.Cond.instanceMethod ({ cls := "QuarrelsPawnedModel", name := "earns", desc := "(I)Z" } : Jvm.MethodName)) ∈ lw_all := lw_g (lw_at lw_m6 211 rfl) rfl
theorem q1547 : (Jvm.Cond.selects "QuarrelsPawnedModel" ({ cls := "QuarrelsPawnedModel", name := "earns", desc := "(I)Z" } : Jvm.MethodName) ({ cls := "QuarrelsPawnedModel", name := "earns", desc := "(I)Z" } : Jvm.MethodName)) ∈ lw_all := lw_g (lw_at lw_m6 212 rfl) rfl
theorem q1548 : (Jvm.Cond.code ({ cls := "QuarrelsPawnedModel", name := "earns", desc := "(I)Z" } : Jvm.MethodName) prog_20_method_18_code (2 : Nat) (Option.some Jvm.ClassFile.FieldType.boolean)) ∈ lw_all := lw_g (lw_at lw_m6 213 rfl) rfl
theorem q1550 : (Jvm.Cond.instanceMethod ({ cls := "QuarrelsPawnedModel", name := "digit", desc := "(II)Z" } : Jvm.MethodName)) ∈ lw_all := lw_g (lw_at lw_m6 215 rfl) rfl
theorem q1551 : (Jvm.Cond.selects "QuarrelsPawnedModel" ({ cls := "QuarrelsPawnedModel", name := "digit", desc := "(II)Z" } : Jvm.MethodName) ({ cls := "QuarrelsPawnedModel", name := "digit", desc := "(II)Z" } : Jvm.MethodName)) ∈ lw_all := lw_g (lw_at lw_m6 216 rfl) rfl
theorem q1552 : (Jvm.Cond.code ({ cls := "QuarrelsPawnedModel", name := "digit", desc := "(II)Z" } : Jvm.MethodName) prog_20_method_19_code (3 : Nat) (Option.some Jvm.ClassFile.FieldType.boolean)) ∈ lw_all := lw_g (lw_at lw_m6 217 rfl) rfl
theorem q1554 : (Jvm.Cond.instanceMethod ({ cls := "QuarrelsPawnedModel", name := "feed", desc := "(IIIII)I" } : Jvm.MethodName)) ∈ lw_all := lw_g (lw_at lw_m6 219 rfl) rfl
theorem q1555 : (Jvm.Cond.selects "QuarrelsPawnedModel" ({ cls := "QuarrelsPawnedModel", name := "feed", desc := "(IIIII)I" } : Jvm.MethodName) ({ cls := "QuarrelsPawnedModel", name := "feed", desc := "(IIIII)I" } : Jvm.MethodName)) ∈ lw_all := lw_g (lw_at lw_m6 220 rfl) rfl
theorem q1556 : (Jvm.Cond.code ({ cls := "QuarrelsPawnedModel", name := "feed", desc := "(IIIII)I" } : Jvm.MethodName) prog_20_method_21_code (6 : Nat) (Option.some Jvm.ClassFile.FieldType.int)) ∈ lw_all := lw_g (lw_at lw_m6 221 rfl) rfl
theorem q1557 : (Jvm.Cond.methodLink "QuarrelsPawnedModel" (103 : Nat) ({ cls := "QuarrelsPawnedModel", name := "four", desc := "(I)V" } : Jvm.MethodName)) ∈ lw_all := lw_g (lw_at lw_m6 222 rfl) rfl
theorem q1558 : (Jvm.Cond.privateMethod ({ cls := "QuarrelsPawnedModel", name := "four", desc := "(I)V" } : Jvm.MethodName)) ∈ lw_tbl := lw_at lw_m6 223 rfl
theorem q1559 : (Jvm.Cond.instanceMethod ({ cls := "QuarrelsPawnedModel", name := "four", desc := "(I)V" } : Jvm.MethodName)) ∈ lw_all := lw_g (lw_at lw_m6 224 rfl) rfl
theorem q1560 : (Jvm.Cond.code ({ cls := "QuarrelsPawnedModel", name := "four", desc := "(I)V" } : Jvm.MethodName) prog_20_method_20_code (3 : Nat) (Option.none : Option Jvm.ClassFile.FieldType)) ∈ lw_all := lw_g (lw_at lw_m6 225 rfl) rfl
theorem q1562 : (Jvm.Cond.instanceMethod ({ cls := "QuarrelsPawnedModel", name := "end", desc := "(I)I" } : Jvm.MethodName)) ∈ lw_all := lw_g (lw_at lw_m6 227 rfl) rfl
theorem q1563 : (Jvm.Cond.selects "QuarrelsPawnedModel" ({ cls := "QuarrelsPawnedModel", name := "end", desc := "(I)I" } : Jvm.MethodName) ({ cls := "QuarrelsPawnedModel", name := "end", desc := "(I)I" } : Jvm.MethodName)) ∈ lw_all := lw_g (lw_at lw_m6 228 rfl) rfl
theorem q1564 : (Jvm.Cond.code ({ cls := "QuarrelsPawnedModel", name := "end", desc := "(I)I" } : Jvm.MethodName) prog_20_method_22_code (2 : Nat) (Option.some Jvm.ClassFile.FieldType.int)) ∈ lw_all := lw_g (lw_at lw_m6 229 rfl) rfl
theorem q1566 : (Jvm.Cond.instanceMethod ({ cls := "QuarrelsPawnedModel", name := "text", desc := "()I" } : Jvm.MethodName)) ∈ lw_all := lw_g (lw_at lw_m6 231 rfl) rfl
theorem q1567 : (Jvm.Cond.selects "QuarrelsPawnedModel" ({ cls := "QuarrelsPawnedModel", name := "text", desc := "()I" } : Jvm.MethodName) ({ cls := "QuarrelsPawnedModel", name := "text", desc := "()I" } : Jvm.MethodName)) ∈ lw_all := lw_g (lw_at lw_m6 232 rfl) rfl
theorem q1568 : (Jvm.Cond.code ({ cls := "QuarrelsPawnedModel", name := "text", desc := "()I" } : Jvm.MethodName) prog_20_method_60_code (1 : Nat) (Option.some Jvm.ClassFile.FieldType.int)) ∈ lw_all := lw_g (lw_at lw_m6 233 rfl) rfl
theorem q1569 : (Jvm.Cond.methodLink "QuarrelsPawnedModel" (270 : Nat) ({ cls := "QuarrelsPawnedModel", name := "readText", desc := "()I" } : Jvm.MethodName)) ∈ lw_all := lw_g (lw_at lw_m6 234 rfl) rfl
theorem q1570 : (Jvm.Cond.privateMethod ({ cls := "QuarrelsPawnedModel", name := "readText", desc := "()I" } : Jvm.MethodName)) ∈ lw_tbl := lw_at lw_m6 235 rfl
theorem q1571 : (Jvm.Cond.instanceMethod ({ cls := "QuarrelsPawnedModel", name := "readText", desc := "()I" } : Jvm.MethodName)) ∈ lw_all := lw_g (lw_at lw_m6 236 rfl) rfl
theorem q1572 : (Jvm.Cond.code ({ cls := "QuarrelsPawnedModel", name := "readText", desc := "()I" } : Jvm.MethodName) prog_20_method_59_code (2 : Nat) (Option.some Jvm.ClassFile.FieldType.int)) ∈ lw_all := lw_g (lw_at lw_m6 237 rfl) rfl
theorem q1573 : (Jvm.Cond.methodLink "QuarrelsPawnedModel" (186 : Nat) ({ cls := "QuarrelsPawnedModel", name := "nextToken", desc := "()V" } : Jvm.MethodName)) ∈ lw_all := lw_g (lw_at lw_m6 238 rfl) rfl
theorem q1574 : (Jvm.Cond.privateMethod ({ cls := "QuarrelsPawnedModel", name := "nextToken", desc := "()V" } : Jvm.MethodName)) ∈ lw_tbl := lw_at lw_m6 239 rfl
theorem q1575 : (Jvm.Cond.instanceMethod ({ cls := "QuarrelsPawnedModel", name := "nextToken", desc := "()V" } : Jvm.MethodName)) ∈ lw_all := lw_g (lw_at lw_m7 0 rfl) rfl
theorem q1576 : (Jvm.Cond.code ({ cls := "QuarrelsPawnedModel", name := "nextToken", desc := "()V" } : Jvm.MethodName) prog_20_method_27_code (2 : Nat) (Option.none : Option Jvm.ClassFile.FieldType)) ∈ lw_all := lw_g (lw_at lw_m7 1 rfl) rfl
theorem q1577 : (Jvm.Cond.methodLink "QuarrelsPawnedModel" (109 : Nat) ({ cls := "QuarrelsPawnedModel", name := "byteAt", desc := "(I)I" } : Jvm.MethodName)) ∈ lw_all := lw_g (lw_at lw_m7 2 rfl) rfl
theorem q1578 : (Jvm.Cond.privateMethod ({ cls := "QuarrelsPawnedModel", name := "byteAt", desc := "(I)I" } : Jvm.MethodName)) ∈ lw_tbl := lw_at lw_m7 3 rfl
theorem q1579 : (Jvm.Cond.instanceMethod ({ cls := "QuarrelsPawnedModel", name := "byteAt", desc := "(I)I" } : Jvm.MethodName)) ∈ lw_all := lw_g (lw_at lw_m7 4 rfl) rfl
theorem q1580 : (Jvm.Cond.code ({ cls := "QuarrelsPawnedModel", name := "byteAt", desc := "(I)I" } : Jvm.MethodName) prog_20_method_23_code (2 : Nat) (Option.some Jvm.ClassFile.FieldType.int)) ∈ lw_all := lw_g (lw_at lw_m7 5 rfl) rfl
theorem q1581 : (Jvm.Cond.methodLink "QuarrelsPawnedModel" (118 : Nat) ({ cls := "QuarrelsPawnedModel", name := "isFigure", desc := "(I)Z" } : Jvm.MethodName)) ∈ lw_all := lw_g (lw_at lw_m7 6 rfl) rfl
theorem q1582 : (Jvm.Cond.static ({ cls := "QuarrelsPawnedModel", name := "isFigure", desc := "(I)Z" } : Jvm.MethodName)) ∈ lw_all := lw_g (lw_at lw_m7 7 rfl) rfl
theorem q1583 : (Jvm.Cond.code ({ cls := "QuarrelsPawnedModel", name := "isFigure", desc := "(I)Z" } : Jvm.MethodName) prog_20_method_25_code (1 : Nat) (Option.some Jvm.ClassFile.FieldType.boolean)) ∈ lw_all := lw_g (lw_at lw_m7 8 rfl) rfl
theorem q1584 : (Jvm.Cond.constant "QuarrelsPawnedModel" (124 : Nat) (99999 : Int32)) ∈ lw_all := lw_g (lw_at lw_m7 9 rfl) rfl
theorem q1585 : (Jvm.Cond.methodLink "QuarrelsPawnedModel" (125 : Nat) ({ cls := "QuarrelsPawnedModel", name := "isLetterByte", desc := "(I)Z" } : Jvm.MethodName)) ∈ lw_all := lw_g (lw_at lw_m7 10 rfl) rfl
theorem q1586 : (Jvm.Cond.static ({ cls := "QuarrelsPawnedModel", name := "isLetterByte", desc := "(I)Z" } : Jvm.MethodName)) ∈ lw_all := lw_g (lw_at lw_m7 11 rfl) rfl
theorem q1587 : (Jvm.Cond.code ({ cls := "QuarrelsPawnedModel", name := "isLetterByte", desc := "(I)Z" } : Jvm.MethodName) prog_20_method_24_code (1 : Nat) (Option.some Jvm.ClassFile.FieldType.boolean)) ∈ lw_all := lw_g (lw_at lw_m7 12 rfl) rfl
theorem q1588 : (Jvm.Cond.constantLong "QuarrelsPawnedModel" (132 : Nat) (1152921504606846976 : Int64)) ∈ lw_all := lw_g (lw_at lw_m7 13 rfl) rfl
theorem q1589 : (Jvm.Cond.methodLink "QuarrelsPawnedModel" (134 : Nat) ({ cls := "QuarrelsPawnedModel", name := "isSign", desc := "(I)Z" } : Jvm.MethodName)) ∈ lw_all := lw_g (lw_at lw_m7 14 rfl) rfl
theorem q1590 : (Jvm.Cond.static ({ cls := "QuarrelsPawnedModel", name := "isSign", desc := "(I)Z" } : Jvm.MethodName)) ∈ lw_all := lw_g (lw_at lw_m7 15 rfl) rfl
theorem q1591 : (Jvm.Cond.code ({ cls := "QuarrelsPawnedModel", name := "isSign", desc := "(I)Z" } : Jvm.MethodName) prog_20_method_26_code (1 : Nat) (Option.some Jvm.ClassFile.FieldType.boolean)) ∈ lw_all := lw_g (lw_at lw_m7 16 rfl) rfl
theorem q1592 : (Jvm.Cond.methodLink "QuarrelsPawnedModel" (267 : Nat) ({ cls := "QuarrelsPawnedModel", name := "clause", desc := "()I" } : Jvm.MethodName)) ∈ lw_all := lw_g (lw_at lw_m7 17 rfl) rfl
theorem q1593 : (Jvm.Cond.privateMethod ({ cls := "QuarrelsPawnedModel", name := "clause", desc := "()I" } : Jvm.MethodName)) ∈ lw_tbl := lw_at lw_m7 18 rfl
theorem q1594 : (Jvm.Cond.instanceMethod ({ cls := "QuarrelsPawnedModel", name := "clause", desc := "()I" } : Jvm.MethodName)) ∈ lw_all := lw_g (lw_at lw_m7 19 rfl) rfl
theorem q1595 : (Jvm.Cond.code ({ cls := "QuarrelsPawnedModel", name := "clause", desc := "()I" } : Jvm.MethodName) prog_20_method_58_code (5 : Nat) (Option.some Jvm.ClassFile.FieldType.int)) ∈ lw_all := lw_g (lw_at lw_m7 20 rfl) rfl
theorem q1596 : (Jvm.Cond.methodLink "QuarrelsPawnedModel" (253 : Nat) ({ cls := "QuarrelsPawnedModel", name := "sortOf", desc := "()I" } : Jvm.MethodName)) ∈ lw_all := lw_g (lw_at lw_m7 21 rfl) rfl
theorem q1597 : (Jvm.Cond.privateMethod ({ cls := "QuarrelsPawnedModel", name := "sortOf", desc := "()I" } : Jvm.MethodName)) ∈ lw_tbl := lw_at lw_m7 22 rfl
theorem q1598 : (Jvm.Cond.instanceMethod ({ cls := "QuarrelsPawnedModel", name := "sortOf", desc := "()I" } : Jvm.MethodName)) ∈ lw_all := lw_g (lw_at lw_m7 23 rfl) rfl
theorem q1599 : (Jvm.Cond.code ({ cls := "QuarrelsPawnedModel", name := "sortOf", desc := "()I" } : Jvm.MethodName) prog_20_method_57_code (1 : Nat) (Option.some Jvm.ClassFile.FieldType.int)) ∈ lw_all := lw_g (lw_at lw_m7 24 rfl) rfl
theorem q1600 : (Jvm.Cond.methodLink "QuarrelsPawnedModel" (145 : Nat) ({ cls := "QuarrelsPawnedModel", name := "w4", desc := "(IIII)J" } : Jvm.MethodName)) ∈ lw_all := lw_g (lw_at lw_m7 25 rfl) rfl
theorem q1601 : (Jvm.Cond.static ({ cls := "QuarrelsPawnedModel", name := "w4", desc := "(IIII)J" } : Jvm.MethodName)) ∈ lw_all := lw_g (lw_at lw_m7 26 rfl) rfl
theorem q1602 : (Jvm.Cond.code ({ cls := "QuarrelsPawnedModel", name := "w4", desc := "(IIII)J" } : Jvm.MethodName) prog_20_method_30_code (4 : Nat) (Option.some Jvm.ClassFile.FieldType.long)) ∈ lw_all := lw_g (lw_at lw_m7 27 rfl) rfl
theorem q1603 : (Jvm.Cond.methodLink "QuarrelsPawnedModel" (141 : Nat) ({ cls := "QuarrelsPawnedModel", name := "w3", desc := "(III)J" } : Jvm.MethodName)) ∈ lw_all := lw_g (lw_at lw_m7 28 rfl) rfl
theorem q1604 : (Jvm.Cond.static ({ cls := "QuarrelsPawnedModel", name := "w3", desc := "(III)J" } : Jvm.MethodName)) ∈ lw_all := lw_g (lw_at lw_m7 29 rfl) rfl
theorem q1605 : (Jvm.Cond.code ({ cls := "QuarrelsPawnedModel", name := "w3", desc := "(III)J" } : Jvm.MethodName) prog_20_method_29_code (3 : Nat) (Option.some Jvm.ClassFile.FieldType.long)) ∈ lw_all := lw_g (lw_at lw_m7 30 rfl) rfl
theorem q1606 : (Jvm.Cond.methodLink "QuarrelsPawnedModel" (137 : Nat) ({ cls := "QuarrelsPawnedModel", name := "w2", desc := "(II)J" } : Jvm.MethodName)) ∈ lw_all := lw_g (lw_at lw_m7 31 rfl) rfl
theorem q1607 : (Jvm.Cond.static ({ cls := "QuarrelsPawnedModel", name := "w2", desc := "(II)J" } : Jvm.MethodName)) ∈ lw_all := lw_g (lw_at lw_m7 32 rfl) rfl
theorem q1608 : (Jvm.Cond.code ({ cls := "QuarrelsPawnedModel", name := "w2", desc := "(II)J" } : Jvm.MethodName) prog_20_method_28_code (2 : Nat) (Option.some Jvm.ClassFile.FieldType.long)) ∈ lw_all := lw_g (lw_at lw_m7 33 rfl) rfl
theorem q1609 : (Jvm.Cond.methodLink "QuarrelsPawnedModel" (201 : Nat) ({ cls := "QuarrelsPawnedModel", name := "isWord", desc := "(J)Z" } : Jvm.MethodName)) ∈ lw_all := lw_g (lw_at lw_m7 34 rfl) rfl
theorem q1610 : (Jvm.Cond.privateMethod ({ cls := "QuarrelsPawnedModel", name := "isWord", desc := "(J)Z" } : Jvm.MethodName)) ∈ lw_tbl := lw_at lw_m7 35 rfl
theorem q1611 : (Jvm.Cond.instanceMethod ({ cls := "QuarrelsPawnedModel", name := "isWord", desc := "(J)Z" } : Jvm.MethodName)) ∈ lw_all := lw_g (lw_at lw_m7 36 rfl) rfl
theorem q1612 : (Jvm.Cond.code ({ cls := "QuarrelsPawnedModel", name := "isWord", desc := "(J)Z" } : Jvm.MethodName) prog_20_method_33_code (3 : Nat) (Option.some Jvm.ClassFile.FieldType.boolean)) ∈ lw_all := lw_g (lw_at lw_m7 37 rfl) rfl
theorem q1613 : (Jvm.Cond.methodLink "QuarrelsPawnedModel" (149 : Nat) ({ cls := "QuarrelsPawnedModel", name := "w5", desc := "(IIIII)J" } : Jvm.MethodName)) ∈ lw_all := lw_g (lw_at lw_m7 38 rfl) rfl
theorem q1614 : (Jvm.Cond.static ({ cls := "QuarrelsPawnedModel", name := "w5", desc := "(IIIII)J" } : Jvm.MethodName)) ∈ lw_all := lw_g (lw_at lw_m7 39 rfl) rfl
theorem q1615 : (Jvm.Cond.code ({ cls := "QuarrelsPawnedModel", name := "w5", desc := "(IIIII)J" } : Jvm.MethodName) prog_20_method_31_code (5 : Nat) (Option.some Jvm.ClassFile.FieldType.long)) ∈ lw_all := lw_g (lw_at lw_m7 40 rfl) rfl
theorem q1616 : (Jvm.Cond.methodLink "QuarrelsPawnedModel" (250 : Nat) ({ cls := "QuarrelsPawnedModel", name := "isQuarrelWord", desc := "()Z" } : Jvm.MethodName)) ∈ lw_all := lw_g (lw_at lw_m7 41 rfl) rfl
theorem q1617 : (Jvm.Cond.privateMethod ({ cls := "QuarrelsPawnedModel", name := "isQuarrelWord", desc := "()Z" } : Jvm.MethodName)) ∈ lw_tbl := lw_at lw_m7 42 rfl
theorem q1618 : (Jvm.Cond.instanceMethod ({ cls := "QuarrelsPawnedModel", name := "isQuarrelWord", desc := "()Z" } : Jvm.MethodName)) ∈ lw_all := lw_g (lw_at lw_m7 43 rfl) rfl
theorem q1619 : (Jvm.Cond.code ({ cls := "QuarrelsPawnedModel", name := "isQuarrelWord", desc := "()Z" } : Jvm.MethodName) prog_20_method_35_code (1 : Nat) (Option.some Jvm.ClassFile.FieldType.boolean)) ∈ lw_all := lw_g (lw_at lw_m7 44 rfl) rfl
theorem q1620 : (Jvm.Cond.methodLink "QuarrelsPawnedModel" (159 : Nat) ({ cls := "QuarrelsPawnedModel", name := "w6", desc := "(IIIIII)J" } : Jvm.MethodName)) ∈ lw_all := lw_g (lw_at lw_m7 45 rfl) rfl
theorem q1621 : (Jvm.Cond.static ({ cls := "QuarrelsPawnedModel", name := "w6", desc := "(IIIIII)J" } : Jvm.MethodName)) ∈ lw_all := lw_g (lw_at lw_m7 46 rfl) rfl
theorem q1622 : (Jvm.Cond.code ({ cls := "QuarrelsPawnedModel", name := "w6", desc := "(IIIIII)J" } : Jvm.MethodName) prog_20_method_32_code (6 : Nat) (Option.some Jvm.ClassFile.FieldType.long)) ∈ lw_all := lw_g (lw_at lw_m7 47 rfl) rfl
theorem q1623 : (Jvm.Cond.methodLink "QuarrelsPawnedModel" (259 : Nat) ({ cls := "QuarrelsPawnedModel", name := "has", desc := "(II)Z" } : Jvm.MethodName)) ∈ lw_all := lw_g (lw_at lw_m7 48 rfl) rfl
theorem q1624 : (Jvm.Cond.static ({ cls := "QuarrelsPawnedModel", name := "has", desc := "(II)Z" } : Jvm.MethodName)) ∈ lw_all := lw_g (lw_at lw_m7 49 rfl) rfl
theorem q1625 : (Jvm.Cond.code ({ cls := "QuarrelsPawnedModel", name := "has", desc := "(II)Z" } : Jvm.MethodName) prog_20_method_6_code (2 : Nat) (Option.some Jvm.ClassFile.FieldType.boolean)) ∈ lw_all := lw_g (lw_at lw_m7 50 rfl) rfl
theorem q1626 : (Jvm.Cond.methodLink "QuarrelsPawnedModel" (263 : Nat) ({ cls := "QuarrelsPawnedModel", name := "body", desc := "(II)I" } : Jvm.MethodName)) ∈ lw_all := lw_g (lw_at lw_m7 51 rfl) rfl
theorem q1627 : (Jvm.Cond.privateMethod ({ cls := "QuarrelsPawnedModel", name := "body", desc := "(II)I" } : Jvm.MethodName)) ∈ lw_tbl := lw_at lw_m7 52 rfl
theorem q1628 : (Jvm.Cond.instanceMethod ({ cls := "QuarrelsPawnedModel", name := "body", desc := "(II)I" } : Jvm.MethodName)) ∈ lw_all := lw_g (lw_at lw_m7 53 rfl) rfl
theorem q1629 : (Jvm.Cond.code ({ cls := "QuarrelsPawnedModel", name := "body", desc := "(II)I" } : Jvm.MethodName) prog_20_method_56_code (3 : Nat) (Option.some Jvm.ClassFile.FieldType.int)) ∈ lw_all := lw_g (lw_at lw_m7 54 rfl) rfl
theorem q1630 : (Jvm.Cond.methodLink "QuarrelsPawnedModel" (244 : Nat) ({ cls := "QuarrelsPawnedModel", name := "quarrelClause", desc := "(I)I" } : Jvm.MethodName)) ∈ lw_all := lw_g (lw_at lw_m7 55 rfl) rfl
theorem q1631 : (Jvm.Cond.privateMethod ({ cls := "QuarrelsPawnedModel", name := "quarrelClause", desc := "(I)I" } : Jvm.MethodName)) ∈ lw_tbl := lw_at lw_m7 56 rfl
theorem q1632 : (Jvm.Cond.instanceMethod ({ cls := "QuarrelsPawnedModel", name := "quarrelClause", desc := "(I)I" } : Jvm.MethodName)) ∈ lw_all := lw_g (lw_at lw_m7 57 rfl) rfl
theorem q1633 : (Jvm.Cond.code ({ cls := "QuarrelsPawnedModel", name := "quarrelClause", desc := "(I)I" } : Jvm.MethodName) prog_20_method_55_code (3 : Nat) (Option.some Jvm.ClassFile.FieldType.int)) ∈ lw_all := lw_g (lw_at lw_m7 58 rfl) rfl
theorem q1634 : (Jvm.Cond.methodLink "QuarrelsPawnedModel" (236 : Nat) ({ cls := "QuarrelsPawnedModel", name := "figure", desc := "(III)I" } : Jvm.MethodName)) ∈ lw_all := lw_g (lw_at lw_m7 59 rfl) rfl
theorem q1635 : (Jvm.Cond.privateMethod ({ cls := "QuarrelsPawnedModel", name := "figure", desc := "(III)I" } : Jvm.MethodName)) ∈ lw_tbl := lw_at lw_m7 60 rfl
theorem q1636 : (Jvm.Cond.instanceMethod ({ cls := "QuarrelsPawnedModel", name := "figure", desc := "(III)I" } : Jvm.MethodName)) ∈ lw_all := lw_g (lw_at lw_m7 61 rfl) rfl
theorem q1637 : (Jvm.Cond.code ({ cls := "QuarrelsPawnedModel", name := "figure", desc := "(III)I" } : Jvm.MethodName) prog_20_method_52_code (4 : Nat) (Option.some Jvm.ClassFile.FieldType.int)) ∈ lw_all := lw_g (lw_at lw_m7 62 rfl) rfl
theorem q1638 : (Jvm.Cond.methodLink "QuarrelsPawnedModel" (240 : Nat) ({ cls := "QuarrelsPawnedModel", name := "behind", desc := "(IJII)I" } : Jvm.MethodName)) ∈ lw_all := lw_g (lw_at lw_m7 63 rfl) rfl
theorem q1639 : (Jvm.Cond.privateMethod ({ cls := "QuarrelsPawnedModel", name := "behind", desc := "(IJII)I" } : Jvm.MethodName)) ∈ lw_tbl := lw_at lw_m7 64 rfl
theorem q1640 : (Jvm.Cond.instanceMethod ({ cls := "QuarrelsPawnedModel", name := "behind", desc := "(IJII)I" } : Jvm.MethodName)) ∈ lw_all := lw_g (lw_at lw_m7 65 rfl) rfl
theorem q1641 : (Jvm.Cond.code ({ cls := "QuarrelsPawnedModel", name := "behind", desc := "(IJII)I" } : Jvm.MethodName) prog_20_method_54_code (6 : Nat) (Option.some Jvm.ClassFile.FieldType.int)) ∈ lw_all := lw_g (lw_at lw_m7 66 rfl) rfl
theorem q1642 : (Jvm.Cond.methodLink "QuarrelsPawnedModel" (247 : Nat) ({ cls := "QuarrelsPawnedModel", name := "lawClause", desc := "(I)I" } : Jvm.MethodName)) ∈ lw_all := lw_g (lw_at lw_m7 67 rfl) rfl
theorem q1643 : (Jvm.Cond.privateMethod ({ cls := "QuarrelsPawnedModel", name := "lawClause", desc := "(I)I" } : Jvm.MethodName)) ∈ lw_tbl := lw_at lw_m7 68 rfl
theorem q1644 : (Jvm.Cond.instanceMethod ({ cls := "QuarrelsPawnedModel", name := "lawClause", desc := "(I)I" } : Jvm.MethodName)) ∈ lw_all := lw_g (lw_at lw_m7 69 rfl) rfl
theorem q1645 : (Jvm.Cond.code ({ cls := "QuarrelsPawnedModel", name := "lawClause", desc := "(I)I" } : Jvm.MethodName) prog_20_method_53_code (3 : Nat) (Option.some Jvm.ClassFile.FieldType.int)) ∈ lw_all := lw_g (lw_at lw_m7 70 rfl) rfl
theorem q1646 : (Jvm.Cond.methodLink "QuarrelsPawnedModel" (233 : Nat) ({ cls := "QuarrelsPawnedModel", name := "summed", desc := "()I" } : Jvm.MethodName)) ∈ lw_all := lw_g (lw_at lw_m7 71 rfl) rfl
theorem q1647 : (Jvm.Cond.privateMethod ({ cls := "QuarrelsPawnedModel", name := "summed", desc := "()I" } : Jvm.MethodName)) ∈ lw_tbl := lw_at lw_m7 72 rfl
theorem q1648 : (Jvm.Cond.instanceMethod ({ cls := "QuarrelsPawnedModel", name := "summed", desc := "()I" } : Jvm.MethodName)) ∈ lw_all := lw_g (lw_at lw_m7 73 rfl) rfl
theorem q1649 : (Jvm.Cond.code ({ cls := "QuarrelsPawnedModel", name := "summed", desc := "()I" } : Jvm.MethodName) prog_20_method_51_code (2 : Nat) (Option.some Jvm.ClassFile.FieldType.int)) ∈ lw_all := lw_g (lw_at lw_m7 74 rfl) rfl
theorem q1650 : (Jvm.Cond.methodLink "QuarrelsPawnedModel" (227 : Nat) ({ cls := "QuarrelsPawnedModel", name := "behindOne", desc := "()I" } : Jvm.MethodName)) ∈ lw_all := lw_g (lw_at lw_m7 75 rfl) rfl
theorem q1651 : (Jvm.Cond.privateMethod ({ cls := "QuarrelsPawnedModel", name := "behindOne", desc := "()I" } : Jvm.MethodName)) ∈ lw_tbl := lw_at lw_m7 76 rfl
theorem q1652 : (Jvm.Cond.instanceMethod ({ cls := "QuarrelsPawnedModel", name := "behindOne", desc := "()I" } : Jvm.MethodName)) ∈ lw_all := lw_g (lw_at lw_m7 77 rfl) rfl
theorem q1653 : (Jvm.Cond.code ({ cls := "QuarrelsPawnedModel", name := "behindOne", desc := "()I" } : Jvm.MethodName) prog_20_method_50_code (4 : Nat) (Option.some Jvm.ClassFile.FieldType.int)) ∈ lw_all := lw_g (lw_at lw_m7 78 rfl) rfl
theorem q1654 : (Jvm.Cond.methodLink "QuarrelsPawnedModel" (221 : Nat) ({ cls := "QuarrelsPawnedModel", name := "betweenOf", desc := "()I" } : Jvm.MethodName)) ∈ lw_all := lw_g (lw_at lw_m7 79 rfl) rfl
theorem q1655 : (Jvm.Cond.privateMethod ({ cls := "QuarrelsPawnedModel", name := "betweenOf", desc := "()I" } : Jvm.MethodName)) ∈ lw_tbl := lw_at lw_m7 80 rfl
theorem q1656 : (Jvm.Cond.instanceMethod ({ cls := "QuarrelsPawnedModel", name := "betweenOf", desc := "()I" } : Jvm.MethodName)) ∈ lw_all := lw_g (lw_at lw_m7 81 rfl) rfl
theorem q1657 : (Jvm.Cond.code ({ cls := "QuarrelsPawnedModel", name := "betweenOf", desc := "()I" } : Jvm.MethodName) prog_20_method_48_code (1 : Nat) (Option.some Jvm.ClassFile.FieldType.int)) ∈ lw_all := lw_g (lw_at lw_m7 82 rfl) rfl
theorem q1658 : (Jvm.Cond.methodLink "QuarrelsPawnedModel" (183 : Nat) ({ cls := "QuarrelsPawnedModel", name := "openNow", desc := "()I" } : Jvm.MethodName)) ∈ lw_all := lw_g (lw_at lw_m7 83 rfl) rfl
theorem q1659 : (Jvm.Cond.privateMethod ({ cls := "QuarrelsPawnedModel", name := "openNow", desc := "()I" } : Jvm.MethodName)) ∈ lw_tbl := lw_at lw_m7 84 rfl
theorem q1660 : (Jvm.Cond.instanceMethod ({ cls := "QuarrelsPawnedModel", name := "openNow", desc := "()I" } : Jvm.MethodName)) ∈ lw_all := lw_g (lw_at lw_m7 85 rfl) rfl
theorem q1661 : (Jvm.Cond.code ({ cls := "QuarrelsPawnedModel", name := "openNow", desc := "()I" } : Jvm.MethodName) prog_20_method_41_code (1 : Nat) (Option.some Jvm.ClassFile.FieldType.int)) ∈ lw_all := lw_g (lw_at lw_m7 86 rfl) rfl
theorem q1662 : (Jvm.Cond.methodLink "QuarrelsPawnedModel" (179 : Nat) ({ cls := "QuarrelsPawnedModel", name := "openAt", desc := "()I" } : Jvm.MethodName)) ∈ lw_all := lw_g (lw_at lw_m7 87 rfl) rfl
theorem q1663 : (Jvm.Cond.privateMethod ({ cls := "QuarrelsPawnedModel", name := "openAt", desc := "()I" } : Jvm.MethodName)) ∈ lw_tbl := lw_at lw_m7 88 rfl
theorem q1664 : (Jvm.Cond.instanceMethod ({ cls := "QuarrelsPawnedModel", name := "openAt", desc := "()I" } : Jvm.MethodName)) ∈ lw_all := lw_g (lw_at lw_m7 89 rfl) rfl
theorem q1665 : (Jvm.Cond.code ({ cls := "QuarrelsPawnedModel", name := "openAt", desc := "()I" } : Jvm.MethodName) prog_20_method_40_code (2 : Nat) (Option.some Jvm.ClassFile.FieldType.int)) ∈ lw_all := lw_g (lw_at lw_m7 90 rfl) rfl
theorem q1666 : (Jvm.Cond.methodLink "QuarrelsPawnedModel" (215 : Nat) ({ cls := "QuarrelsPawnedModel", name := "isCompared", desc := "()Z" } : Jvm.MethodName)) ∈ lw_all := lw_g (lw_at lw_m7 91 rfl) rfl
theorem q1667 : (Jvm.Cond.privateMethod ({ cls := "QuarrelsPawnedModel", name := "isCompared", desc := "()Z" } : Jvm.MethodName)) ∈ lw_tbl := lw_at lw_m7 92 rfl
theorem q1668 : (Jvm.Cond.instanceMethod ({ cls := "QuarrelsPawnedModel", name := "isCompared", desc := "()Z" } : Jvm.MethodName)) ∈ lw_all := lw_g (lw_at lw_m7 93 rfl) rfl
theorem q1669 : (Jvm.Cond.code ({ cls := "QuarrelsPawnedModel", name := "isCompared", desc := "()Z" } : Jvm.MethodName) prog_20_method_42_code (2 : Nat) (Option.some Jvm.ClassFile.FieldType.boolean)) ∈ lw_all := lw_g (lw_at lw_m7 94 rfl) rfl
theorem q1670 : (Jvm.Cond.methodLink "QuarrelsPawnedModel" (169 : Nat) ({ cls := "QuarrelsPawnedModel", name := "rank", desc := "(I)I" } : Jvm.MethodName)) ∈ lw_all := lw_g (lw_at lw_m7 95 rfl) rfl
theorem q1671 : (Jvm.Cond.static ({ cls := "QuarrelsPawnedModel", name := "rank", desc := "(I)I" } : Jvm.MethodName)) ∈ lw_all := lw_g (lw_at lw_m7 96 rfl) rfl
theorem q1672 : (Jvm.Cond.code ({ cls := "QuarrelsPawnedModel", name := "rank", desc := "(I)I" } : Jvm.MethodName) prog_20_method_38_code (1 : Nat) (Option.some Jvm.ClassFile.FieldType.int)) ∈ lw_all := lw_g (lw_at lw_m7 97 rfl) rfl
theorem q1673 : (Jvm.Cond.methodLink "QuarrelsPawnedModel" (218 : Nat) ({ cls := "QuarrelsPawnedModel", name := "compareOf", desc := "()I" } : Jvm.MethodName)) ∈ lw_all := lw_g (lw_at lw_m7 98 rfl) rfl
theorem q1674 : (Jvm.Cond.privateMethod ({ cls := "QuarrelsPawnedModel", name := "compareOf", desc := "()I" } : Jvm.MethodName)) ∈ lw_tbl := lw_at lw_m7 99 rfl
theorem q1675 : (Jvm.Cond.instanceMethod ({ cls := "QuarrelsPawnedModel", name := "compareOf", desc := "()I" } : Jvm.MethodName)) ∈ lw_all := lw_g (lw_at lw_m7 100 rfl) rfl
theorem q1676 : (Jvm.Cond.code ({ cls := "QuarrelsPawnedModel", name := "compareOf", desc := "()I" } : Jvm.MethodName) prog_20_method_47_code (1 : Nat) (Option.some Jvm.ClassFile.FieldType.int)) ∈ lw_all := lw_g (lw_at lw_m7 101 rfl) rfl
theorem q1677 : (Jvm.Cond.methodLink "QuarrelsPawnedModel" (209 : Nat) ({ cls := "QuarrelsPawnedModel", name := "settle", desc := "(I)V" } : Jvm.MethodName)) ∈ lw_all := lw_g (lw_at lw_m7 102 rfl) rfl
theorem q1678 : (Jvm.Cond.privateMethod ({ cls := "QuarrelsPawnedModel", name := "settle", desc := "(I)V" } : Jvm.MethodName)) ∈ lw_tbl := lw_at lw_m7 103 rfl
theorem q1679 : (Jvm.Cond.instanceMethod ({ cls := "QuarrelsPawnedModel", name := "settle", desc := "(I)V" } : Jvm.MethodName)) ∈ lw_all := lw_g (lw_at lw_m7 104 rfl) rfl
theorem q1680 : (Jvm.Cond.code ({ cls := "QuarrelsPawnedModel", name := "settle", desc := "(I)V" } : Jvm.MethodName) prog_20_method_39_code (2 : Nat) (Option.none : Option Jvm.ClassFile.FieldType)) ∈ lw_all := lw_g (lw_at lw_m7 105 rfl) rfl
theorem q1681 : (Jvm.Cond.methodLink "QuarrelsPawnedModel" (172 : Nat) ({ cls := "QuarrelsPawnedModel", name := "emit", desc := "(II)V" } : Jvm.MethodName)) ∈ lw_all := lw_g (lw_at lw_m7 106 rfl) rfl
theorem q1682 : (Jvm.Cond.privateMethod ({ cls := "QuarrelsPawnedModel", name := "emit", desc := "(II)V" } : Jvm.MethodName)) ∈ lw_tbl := lw_at lw_m7 107 rfl
theorem q1683 : (Jvm.Cond.instanceMethod ({ cls := "QuarrelsPawnedModel", name := "emit", desc := "(II)V" } : Jvm.MethodName)) ∈ lw_all := lw_g (lw_at lw_m7 108 rfl) rfl
theorem q1684 : (Jvm.Cond.code ({ cls := "QuarrelsPawnedModel", name := "emit", desc := "(II)V" } : Jvm.MethodName) prog_20_method_34_code (3 : Nat) (Option.none : Option Jvm.ClassFile.FieldType)) ∈ lw_all := lw_g (lw_at lw_m7 109 rfl) rfl
theorem q1685 : (Jvm.Cond.methodLink "QuarrelsPawnedModel" (224 : Nat) ({ cls := "QuarrelsPawnedModel", name := "partOf", desc := "(I)I" } : Jvm.MethodName)) ∈ lw_all := lw_g (lw_at lw_m7 110 rfl) rfl
theorem q1686 : (Jvm.Cond.privateMethod ({ cls := "QuarrelsPawnedModel", name := "partOf", desc := "(I)I" } : Jvm.MethodName)) ∈ lw_tbl := lw_at lw_m7 111 rfl
theorem q1687 : (Jvm.Cond.instanceMethod ({ cls := "QuarrelsPawnedModel", name := "partOf", desc := "(I)I" } : Jvm.MethodName)) ∈ lw_all := lw_g (lw_at lw_m7 112 rfl) rfl
theorem q1688 : (Jvm.Cond.code ({ cls := "QuarrelsPawnedModel", name := "partOf", desc := "(I)I" } : Jvm.MethodName) prog_20_method_49_code (2 : Nat) (Option.some Jvm.ClassFile.FieldType.int)) ∈ lw_all := lw_g (lw_at lw_m7 113 rfl) rfl
theorem q1689 : (Jvm.Cond.methodLink "QuarrelsPawnedModel" (195 : Nat) ({ cls := "QuarrelsPawnedModel", name := "endOne", desc := "()I" } : Jvm.MethodName)) ∈ lw_all := lw_g (lw_at lw_m7 114 rfl) rfl
theorem q1690 : (Jvm.Cond.privateMethod ({ cls := "QuarrelsPawnedModel", name := "endOne", desc := "()I" } : Jvm.MethodName)) ∈ lw_tbl := lw_at lw_m7 115 rfl
theorem q1691 : (Jvm.Cond.instanceMethod ({ cls := "QuarrelsPawnedModel", name := "endOne", desc := "()I" } : Jvm.MethodName)) ∈ lw_all := lw_g (lw_at lw_m7 116 rfl) rfl
theorem q1692 : (Jvm.Cond.code ({ cls := "QuarrelsPawnedModel", name := "endOne", desc := "()I" } : Jvm.MethodName) prog_20_method_46_code (1 : Nat) (Option.some Jvm.ClassFile.FieldType.int)) ∈ lw_all := lw_g (lw_at lw_m7 117 rfl) rfl
theorem q1693 : (Jvm.Cond.methodLink "QuarrelsPawnedModel" (230 : Nat) ({ cls := "QuarrelsPawnedModel", name := "beginOne", desc := "()I" } : Jvm.MethodName)) ∈ lw_all := lw_g (lw_at lw_m7 118 rfl) rfl
theorem q1694 : (Jvm.Cond.privateMethod ({ cls := "QuarrelsPawnedModel", name := "beginOne", desc := "()I" } : Jvm.MethodName)) ∈ lw_tbl := lw_at lw_m7 119 rfl
theorem q1695 : (Jvm.Cond.instanceMethod ({ cls := "QuarrelsPawnedModel", name := "beginOne", desc := "()I" } : Jvm.MethodName)) ∈ lw_all := lw_g (lw_at lw_m7 120 rfl) rfl
theorem q1696 : (Jvm.Cond.code ({ cls := "QuarrelsPawnedModel", name := "beginOne", desc := "()I" } : Jvm.MethodName) prog_20_method_45_code (2 : Nat) (Option.some Jvm.ClassFile.FieldType.int)) ∈ lw_all := lw_g (lw_at lw_m7 121 rfl) rfl
theorem q1697 : (Jvm.Cond.methodLink "QuarrelsPawnedModel" (189 : Nat) ({ cls := "QuarrelsPawnedModel", name := "nameOf", desc := "()I" } : Jvm.MethodName)) ∈ lw_all := lw_g (lw_at lw_m7 122 rfl) rfl
theorem q1698 : (Jvm.Cond.privateMethod ({ cls := "QuarrelsPawnedModel", name := "nameOf", desc := "()I" } : Jvm.MethodName)) ∈ lw_tbl := lw_at lw_m7 123 rfl
theorem q1699 : (Jvm.Cond.instanceMethod ({ cls := "QuarrelsPawnedModel", name := "nameOf", desc := "()I" } : Jvm.MethodName)) ∈ lw_all := lw_g (lw_at lw_m7 124 rfl) rfl
theorem q1700 : (Jvm.Cond.code ({ cls := "QuarrelsPawnedModel", name := "nameOf", desc := "()I" } : Jvm.MethodName) prog_20_method_36_code (1 : Nat) (Option.some Jvm.ClassFile.FieldType.int)) ∈ lw_all := lw_g (lw_at lw_m7 125 rfl) rfl
theorem q1701 : (Jvm.Cond.methodLink "QuarrelsPawnedModel" (192 : Nat) ({ cls := "QuarrelsPawnedModel", name := "isOf", desc := "(I)Z" } : Jvm.MethodName)) ∈ lw_all := lw_g (lw_at lw_m7 126 rfl) rfl
theorem q1702 : (Jvm.Cond.privateMethod ({ cls := "QuarrelsPawnedModel", name := "isOf", desc := "(I)Z" } : Jvm.MethodName)) ∈ lw_tbl := lw_at lw_m7 127 rfl
theorem q1703 : (Jvm.Cond.instanceMethod ({ cls := "QuarrelsPawnedModel", name := "isOf", desc := "(I)Z" } : Jvm.MethodName)) ∈ lw_all := lw_g (lw_at lw_m7 128 rfl) rfl
theorem q1704 : (Jvm.Cond.code ({ cls := "QuarrelsPawnedModel", name := "isOf", desc := "(I)Z" } : Jvm.MethodName) prog_20_method_37_code (2 : Nat) (Option.some Jvm.ClassFile.FieldType.boolean)) ∈ lw_all := lw_g (lw_at lw_m7 129 rfl) rfl
theorem q1705 : (Jvm.Cond.methodLink "QuarrelsPawnedModel" (198 : Nat) ({ cls := "QuarrelsPawnedModel", name := "opened", desc := "(I)I" } : Jvm.MethodName)) ∈ lw_all := lw_g (lw_at lw_m7 130 rfl) rfl
theorem q1706 : (Jvm.Cond.privateMethod ({ cls := "QuarrelsPawnedModel", name := "opened", desc := "(I)I" } : Jvm.MethodName)) ∈ lw_tbl := lw_at lw_m7 131 rfl
theorem q1707 : (Jvm.Cond.instanceMethod ({ cls := "QuarrelsPawnedModel", name := "opened", desc := "(I)I" } : Jvm.MethodName)) ∈ lw_all := lw_g (lw_at lw_m7 132 rfl) rfl
theorem q1708 : (Jvm.Cond.code ({ cls := "QuarrelsPawnedModel", name := "opened", desc := "(I)I" } : Jvm.MethodName) prog_20_method_44_code (2 : Nat) (Option.some Jvm.ClassFile.FieldType.int)) ∈ lw_all := lw_g (lw_at lw_m7 133 rfl) rfl
theorem q1709 : (Jvm.Cond.methodLink "QuarrelsPawnedModel" (205 : Nat) ({ cls := "QuarrelsPawnedModel", name := "isAskAhead", desc := "()Z" } : Jvm.MethodName)) ∈ lw_all := lw_g (lw_at lw_m7 134 rfl) rfl
theorem q1710 : (Jvm.Cond.privateMethod ({ cls := "QuarrelsPawnedModel", name := "isAskAhead", desc := "()Z" } : Jvm.MethodName)) ∈ lw_tbl := lw_at lw_m7 135 rfl
theorem q1711 : (Jvm.Cond.instanceMethod ({ cls := "QuarrelsPawnedModel", name := "isAskAhead", desc := "()Z" } : Jvm.MethodName)) ∈ lw_all := lw_g (lw_at lw_m7 136 rfl) rfl
theorem q1712 : (Jvm.Cond.code ({ cls := "QuarrelsPawnedModel", name := "isAskAhead", desc := "()Z" } : Jvm.MethodName) prog_20_method_43_code (1 : Nat) (Option.some Jvm.ClassFile.FieldType.boolean)) ∈ lw_all := lw_g (lw_at lw_m7 137 rfl) rfl
theorem q1714 : (Jvm.Cond.instanceMethod ({ cls := "QuarrelsPawnedModel", name := "fault", desc := "(I)I" } : Jvm.MethodName)) ∈ lw_all := lw_g (lw_at lw_m7 139 rfl) rfl
theorem q1715 : (Jvm.Cond.selects "QuarrelsPawnedModel" ({ cls := "QuarrelsPawnedModel", name := "fault", desc := "(I)I" } : Jvm.MethodName) ({ cls := "QuarrelsPawnedModel", name := "fault", desc := "(I)I" } : Jvm.MethodName)) ∈ lw_all := lw_g (lw_at lw_m7 140 rfl) rfl
theorem q1716 : (Jvm.Cond.code ({ cls := "QuarrelsPawnedModel", name := "fault", desc := "(I)I" } : Jvm.MethodName) prog_20_method_61_code (2 : Nat) (Option.some Jvm.ClassFile.FieldType.int)) ∈ lw_all := lw_g (lw_at lw_m7 141 rfl) rfl
theorem q1718 : (Jvm.Cond.instanceMethod ({ cls := "QuarrelsPawnedModel", name := "by", desc := "(I)Z" } : Jvm.MethodName)) ∈ lw_all := lw_g (lw_at lw_m7 143 rfl) rfl
theorem q1719 : (Jvm.Cond.selects "QuarrelsPawnedModel" ({ cls := "QuarrelsPawnedModel", name := "by", desc := "(I)Z" } : Jvm.MethodName) ({ cls := "QuarrelsPawnedModel", name := "by", desc := "(I)Z" } : Jvm.MethodName)) ∈ lw_all := lw_g (lw_at lw_m7 144 rfl) rfl
theorem q1720 : (Jvm.Cond.code ({ cls := "QuarrelsPawnedModel", name := "by", desc := "(I)Z" } : Jvm.MethodName) prog_20_method_62_code (2 : Nat) (Option.some Jvm.ClassFile.FieldType.boolean)) ∈ lw_all := lw_g (lw_at lw_m7 145 rfl) rfl
theorem q1722 : (Jvm.Cond.instanceMethod ({ cls := "QuarrelsPawnedModel", name := "undo", desc := "()I" } : Jvm.MethodName)) ∈ lw_all := lw_g (lw_at lw_m7 147 rfl) rfl
theorem q1723 : (Jvm.Cond.selects "QuarrelsPawnedModel" ({ cls := "QuarrelsPawnedModel", name := "undo", desc := "()I" } : Jvm.MethodName) ({ cls := "QuarrelsPawnedModel", name := "undo", desc := "()I" } : Jvm.MethodName)) ∈ lw_all := lw_g (lw_at lw_m7 148 rfl) rfl
theorem q1724 : (Jvm.Cond.code ({ cls := "QuarrelsPawnedModel", name := "undo", desc := "()I" } : Jvm.MethodName) prog_20_method_87_code (3 : Nat) (Option.some Jvm.ClassFile.FieldType.int)) ∈ lw_all := lw_g (lw_at lw_m7 149 rfl) rfl
theorem q1726 : (Jvm.Cond.instanceMethod ({ cls := "QuarrelsPawnedModel", name := "pawn", desc := "(I)Z" } : Jvm.MethodName)) ∈ lw_all := lw_g (lw_at lw_m7 151 rfl) rfl
theorem q1727 : (Jvm.Cond.selects "QuarrelsPawnedModel" ({ cls := "QuarrelsPawnedModel", name := "pawn", desc := "(I)Z" } : Jvm.MethodName) ({ cls := "QuarrelsPawnedModel", name := "pawn", desc := "(I)Z" } : Jvm.MethodName)) ∈ lw_all := lw_g (lw_at lw_m7 152 rfl) rfl
theorem q1728 : (Jvm.Cond.code ({ cls := "QuarrelsPawnedModel", name := "pawn", desc := "(I)Z" } : Jvm.MethodName) prog_20_method_88_code (2 : Nat) (Option.some Jvm.ClassFile.FieldType.boolean)) ∈ lw_all := lw_g (lw_at lw_m7 153 rfl) rfl
theorem q1729 : (Jvm.Cond.methodLink "QuarrelsPawnedModel" (360 : Nat) ({ cls := "QuarrelsPawnedModel", name := "canPawn", desc := "(I)Z" } : Jvm.MethodName)) ∈ lw_all := lw_g (lw_at lw_m7 154 rfl) rfl
theorem q1730 : (Jvm.Cond.privateMethod ({ cls := "QuarrelsPawnedModel", name := "canPawn", desc := "(I)Z" } : Jvm.MethodName)) ∈ lw_tbl := lw_at lw_m7 155 rfl
theorem q1731 : (Jvm.Cond.instanceMethod ({ cls := "QuarrelsPawnedModel", name := "canPawn", desc := "(I)Z" } : Jvm.MethodName)) ∈ lw_all := lw_g (lw_at lw_m7 156 rfl) rfl
theorem q1732 : (Jvm.Cond.code ({ cls := "QuarrelsPawnedModel", name := "canPawn", desc := "(I)Z" } : Jvm.MethodName) prog_20_method_79_code (2 : Nat) (Option.some Jvm.ClassFile.FieldType.boolean)) ∈ lw_all := lw_g (lw_at lw_m7 157 rfl) rfl
theorem q1733 : (Jvm.Cond.methodLink "QuarrelsPawnedModel" (342 : Nat) ({ cls := "QuarrelsPawnedModel", name := "isQuarrel", desc := "(I)Z" } : Jvm.MethodName)) ∈ lw_all := lw_g (lw_at lw_m7 158 rfl) rfl
theorem q1734 : (Jvm.Cond.privateMethod ({ cls := "QuarrelsPawnedModel", name := "isQuarrel", desc := "(I)Z" } : Jvm.MethodName)) ∈ lw_tbl := lw_at lw_m7 159 rfl
theorem q1735 : (Jvm.Cond.instanceMethod ({ cls := "QuarrelsPawnedModel", name := "isQuarrel", desc := "(I)Z" } : Jvm.MethodName)) ∈ lw_all := lw_g (lw_at lw_m7 160 rfl) rfl
theorem q1736 : (Jvm.Cond.code ({ cls := "QuarrelsPawnedModel", name := "isQuarrel", desc := "(I)Z" } : Jvm.MethodName) prog_20_method_8_code (2 : Nat) (Option.some Jvm.ClassFile.FieldType.boolean)) ∈ lw_all := lw_g (lw_at lw_m7 161 rfl) rfl
theorem q1737 : (Jvm.Cond.methodLink "QuarrelsPawnedModel" (85 : Nat) ({ cls := "QuarrelsPawnedModel", name := "howOf", desc := "(I)I" } : Jvm.MethodName)) ∈ lw_all := lw_g (lw_at lw_m7 162 rfl) rfl
theorem q1738 : (Jvm.Cond.privateMethod ({ cls := "QuarrelsPawnedModel", name := "howOf", desc := "(I)I" } : Jvm.MethodName)) ∈ lw_tbl := lw_at lw_m7 163 rfl
theorem q1739 : (Jvm.Cond.instanceMethod ({ cls := "QuarrelsPawnedModel", name := "howOf", desc := "(I)I" } : Jvm.MethodName)) ∈ lw_all := lw_g (lw_at lw_m7 164 rfl) rfl
theorem q1740 : (Jvm.Cond.code ({ cls := "QuarrelsPawnedModel", name := "howOf", desc := "(I)I" } : Jvm.MethodName) prog_20_method_10_code (2 : Nat) (Option.some Jvm.ClassFile.FieldType.int)) ∈ lw_all := lw_g (lw_at lw_m7 165 rfl) rfl
theorem q1741 : (Jvm.Cond.methodLink "QuarrelsPawnedModel" (363 : Nat) ({ cls := "QuarrelsPawnedModel", name := "keep", desc := "()V" } : Jvm.MethodName)) ∈ lw_all := lw_g (lw_at lw_m7 166 rfl) rfl
theorem q1742 : (Jvm.Cond.privateMethod ({ cls := "QuarrelsPawnedModel", name := "keep", desc := "()V" } : Jvm.MethodName)) ∈ lw_tbl := lw_at lw_m7 167 rfl
theorem q1743 : (Jvm.Cond.instanceMethod ({ cls := "QuarrelsPawnedModel", name := "keep", desc := "()V" } : Jvm.MethodName)) ∈ lw_all := lw_g (lw_at lw_m7 168 rfl) rfl
theorem q1744 : (Jvm.Cond.code ({ cls := "QuarrelsPawnedModel", name := "keep", desc := "()V" } : Jvm.MethodName) prog_20_method_86_code (3 : Nat) (Option.none : Option Jvm.ClassFile.FieldType)) ∈ lw_all := lw_g (lw_at lw_m7 169 rfl) rfl
theorem q1745 : (Jvm.Cond.methodLink "QuarrelsPawnedModel" (366 : Nat) ({ cls := "QuarrelsPawnedModel", name := "pawnNow", desc := "(I)V" } : Jvm.MethodName)) ∈ lw_all := lw_g (lw_at lw_m7 170 rfl) rfl
theorem q1746 : (Jvm.Cond.privateMethod ({ cls := "QuarrelsPawnedModel", name := "pawnNow", desc := "(I)V" } : Jvm.MethodName)) ∈ lw_tbl := lw_at lw_m7 171 rfl
theorem q1747 : (Jvm.Cond.instanceMethod ({ cls := "QuarrelsPawnedModel", name := "pawnNow", desc := "(I)V" } : Jvm.MethodName)) ∈ lw_all := lw_g (lw_at lw_m7 172 rfl) rfl
theorem q1748 : (Jvm.Cond.code ({ cls := "QuarrelsPawnedModel", name := "pawnNow", desc := "(I)V" } : Jvm.MethodName) prog_20_method_80_code (2 : Nat) (Option.none : Option Jvm.ClassFile.FieldType)) ∈ lw_all := lw_g (lw_at lw_m7 173 rfl) rfl
theorem q1749 : (Jvm.Cond.methodLink "QuarrelsPawnedModel" (306 : Nat) ({ cls := "QuarrelsPawnedModel", name := "held", desc := "(JII)I" } : Jvm.MethodName)) ∈ lw_all := lw_g (lw_at lw_m7 174 rfl) rfl
theorem q1750 : (Jvm.Cond.static ({ cls := "QuarrelsPawnedModel", name := "held", desc := "(JII)I" } : Jvm.MethodName)) ∈ lw_all := lw_g (lw_at lw_m7 175 rfl) rfl
theorem q1751 : (Jvm.Cond.code ({ cls := "QuarrelsPawnedModel", name := "held", desc := "(JII)I" } : Jvm.MethodName) prog_20_method_4_code (4 : Nat) (Option.some Jvm.ClassFile.FieldType.int)) ∈ lw_all := lw_g (lw_at lw_m7 176 rfl) rfl
theorem q1752 : (Jvm.Cond.methodLink "QuarrelsPawnedModel" (345 : Nat) ({ cls := "QuarrelsPawnedModel", name := "write", desc := "(II)V" } : Jvm.MethodName)) ∈ lw_all := lw_g (lw_at lw_m7 177 rfl) rfl
theorem q1753 : (Jvm.Cond.privateMethod ({ cls := "QuarrelsPawnedModel", name := "write", desc := "(II)V" } : Jvm.MethodName)) ∈ lw_tbl := lw_at lw_m7 178 rfl
theorem q1754 : (Jvm.Cond.instanceMethod ({ cls := "QuarrelsPawnedModel", name := "write", desc := "(II)V" } : Jvm.MethodName)) ∈ lw_all := lw_g (lw_at lw_m7 179 rfl) rfl
theorem q1755 : (Jvm.Cond.code ({ cls := "QuarrelsPawnedModel", name := "write", desc := "(II)V" } : Jvm.MethodName) prog_20_method_76_code (4 : Nat) (Option.none : Option Jvm.ClassFile.FieldType)) ∈ lw_all := lw_g (lw_at lw_m7 180 rfl) rfl
theorem q1757 : (Jvm.Cond.instanceMethod ({ cls := "QuarrelsPawnedModel", name := "redeem", desc := "(I)I" } : Jvm.MethodName)) ∈ lw_all := lw_g (lw_at lw_m7 182 rfl) rfl
theorem q1758 : (Jvm.Cond.selects "QuarrelsPawnedModel" ({ cls := "QuarrelsPawnedModel", name := "redeem", desc := "(I)I" } : Jvm.MethodName) ({ cls := "QuarrelsPawnedModel", name := "redeem", desc := "(I)I" } : Jvm.MethodName)) ∈ lw_all := lw_g (lw_at lw_m7 183 rfl) rfl
theorem q1759 : (Jvm.Cond.code ({ cls := "QuarrelsPawnedModel", name := "redeem", desc := "(I)I" } : Jvm.MethodName) prog_20_method_89_code (2 : Nat) (Option.some Jvm.ClassFile.FieldType.int)) ∈ lw_all := lw_g (lw_at lw_m7 184 rfl) rfl
theorem q1760 : (Jvm.Cond.methodLink "QuarrelsPawnedModel" (369 : Nat) ({ cls := "QuarrelsPawnedModel", name := "canRedeem", desc := "(I)Z" } : Jvm.MethodName)) ∈ lw_all := lw_g (lw_at lw_m7 185 rfl) rfl
theorem q1761 : (Jvm.Cond.privateMethod ({ cls := "QuarrelsPawnedModel", name := "canRedeem", desc := "(I)Z" } : Jvm.MethodName)) ∈ lw_tbl := lw_at lw_m7 186 rfl
theorem q1762 : (Jvm.Cond.instanceMethod ({ cls := "QuarrelsPawnedModel", name := "canRedeem", desc := "(I)Z" } : Jvm.MethodName)) ∈ lw_all := lw_g (lw_at lw_m7 187 rfl) rfl
theorem q1763 : (Jvm.Cond.code ({ cls := "QuarrelsPawnedModel", name := "canRedeem", desc := "(I)Z" } : Jvm.MethodName) prog_20_method_81_code (2 : Nat) (Option.some Jvm.ClassFile.FieldType.boolean)) ∈ lw_all := lw_g (lw_at lw_m7 188 rfl) rfl
theorem q1764 : (Jvm.Cond.methodLink "QuarrelsPawnedModel" (89 : Nat) ({ cls := "QuarrelsPawnedModel", name := "isPawned", desc := "(I)Z" } : Jvm.MethodName)) ∈ lw_all := lw_g (lw_at lw_m7 189 rfl) rfl
theorem q1765 : (Jvm.Cond.privateMethod ({ cls := "QuarrelsPawnedModel", name := "isPawned", desc := "(I)Z" } : Jvm.MethodName)) ∈ lw_tbl := lw_at lw_m7 190 rfl
theorem q1766 : (Jvm.Cond.instanceMethod ({ cls := "QuarrelsPawnedModel", name := "isPawned", desc := "(I)Z" } : Jvm.MethodName)) ∈ lw_all := lw_g (lw_at lw_m7 191 rfl) rfl
theorem q1767 : (Jvm.Cond.code ({ cls := "QuarrelsPawnedModel", name := "isPawned", desc := "(I)Z" } : Jvm.MethodName) prog_20_method_12_code (2 : Nat) (Option.some Jvm.ClassFile.FieldType.boolean)) ∈ lw_all := lw_g (lw_at lw_m7 192 rfl) rfl
theorem q1768 : (Jvm.Cond.methodLink "QuarrelsPawnedModel" (330 : Nat) ({ cls := "QuarrelsPawnedModel", name := "duesOf", desc := "(I)I" } : Jvm.MethodName)) ∈ lw_all := lw_g (lw_at lw_m7 193 rfl) rfl
theorem q1769 : (Jvm.Cond.privateMethod ({ cls := "QuarrelsPawnedModel", name := "duesOf", desc := "(I)I" } : Jvm.MethodName)) ∈ lw_tbl := lw_at lw_m7 194 rfl
theorem q1770 : (Jvm.Cond.instanceMethod ({ cls := "QuarrelsPawnedModel", name := "duesOf", desc := "(I)I" } : Jvm.MethodName)) ∈ lw_all := lw_g (lw_at lw_m7 195 rfl) rfl
theorem q1771 : (Jvm.Cond.code ({ cls := "QuarrelsPawnedModel", name := "duesOf", desc := "(I)I" } : Jvm.MethodName) prog_20_method_73_code (2 : Nat) (Option.some Jvm.ClassFile.FieldType.int)) ∈ lw_all := lw_g (lw_at lw_m7 196 rfl) rfl
theorem q1772 : (Jvm.Cond.methodLink "QuarrelsPawnedModel" (320 : Nat) ({ cls := "QuarrelsPawnedModel", name := "duesBy", desc := "(IIII)I" } : Jvm.MethodName)) ∈ lw_all := lw_g (lw_at lw_m7 197 rfl) rfl
theorem q1773 : (Jvm.Cond.privateMethod ({ cls := "QuarrelsPawnedModel", name := "duesBy", desc := "(IIII)I" } : Jvm.MethodName)) ∈ lw_tbl := lw_at lw_m7 198 rfl
theorem q1774 : (Jvm.Cond.instanceMethod ({ cls := "QuarrelsPawnedModel", name := "duesBy", desc := "(IIII)I" } : Jvm.MethodName)) ∈ lw_all := lw_g (lw_at lw_m7 199 rfl) rfl
theorem q1775 : (Jvm.Cond.code ({ cls := "QuarrelsPawnedModel", name := "duesBy", desc := "(IIII)I" } : Jvm.MethodName) prog_20_method_72_code (5 : Nat) (Option.some Jvm.ClassFile.FieldType.int)) ∈ lw_all := lw_g (lw_at lw_m7 200 rfl) rfl
theorem q1776 : (Jvm.Cond.methodLink "QuarrelsPawnedModel" (313 : Nat) ({ cls := "QuarrelsPawnedModel", name := "name", desc := "(II)V" } : Jvm.MethodName)) ∈ lw_all := lw_g (lw_at lw_m7 201 rfl) rfl
theorem q1777 : (Jvm.Cond.privateMethod ({ cls := "QuarrelsPawnedModel", name := "name", desc := "(II)V" } : Jvm.MethodName)) ∈ lw_tbl := lw_at lw_m7 202 rfl
theorem q1778 : (Jvm.Cond.instanceMethod ({ cls := "QuarrelsPawnedModel", name := "name", desc := "(II)V" } : Jvm.MethodName)) ∈ lw_all := lw_g (lw_at lw_m7 203 rfl) rfl
theorem q1779 : (Jvm.Cond.code ({ cls := "QuarrelsPawnedModel", name := "name", desc := "(II)V" } : Jvm.MethodName) prog_20_method_71_code (3 : Nat) (Option.none : Option Jvm.ClassFile.FieldType)) ∈ lw_all := lw_g (lw_at lw_m7 204 rfl) rfl
theorem q1780 : (Jvm.Cond.methodLink "QuarrelsPawnedModel" (281 : Nat) ({ cls := "QuarrelsPawnedModel", name := "heatOf", desc := "(I)I" } : Jvm.MethodName)) ∈ lw_all := lw_g (lw_at lw_m7 205 rfl) rfl
theorem q1781 : (Jvm.Cond.privateMethod ({ cls := "QuarrelsPawnedModel", name := "heatOf", desc := "(I)I" } : Jvm.MethodName)) ∈ lw_tbl := lw_at lw_m7 206 rfl
theorem q1782 : (Jvm.Cond.instanceMethod ({ cls := "QuarrelsPawnedModel", name := "heatOf", desc := "(I)I" } : Jvm.MethodName)) ∈ lw_all := lw_g (lw_at lw_m7 207 rfl) rfl
theorem q1783 : (Jvm.Cond.code ({ cls := "QuarrelsPawnedModel", name := "heatOf", desc := "(I)I" } : Jvm.MethodName) prog_20_method_11_code (2 : Nat) (Option.some Jvm.ClassFile.FieldType.int)) ∈ lw_all := lw_g (lw_at lw_m7 208 rfl) rfl
theorem q1784 : (Jvm.Cond.methodLink "QuarrelsPawnedModel" (310 : Nat) ({ cls := "QuarrelsPawnedModel", name := "daysOf", desc := "(I)I" } : Jvm.MethodName)) ∈ lw_all := lw_g (lw_at lw_m7 209 rfl) rfl
theorem q1785 : (Jvm.Cond.privateMethod ({ cls := "QuarrelsPawnedModel", name := "daysOf", desc := "(I)I" } : Jvm.MethodName)) ∈ lw_tbl := lw_at lw_m7 210 rfl
theorem q1786 : (Jvm.Cond.instanceMethod ({ cls := "QuarrelsPawnedModel", name := "daysOf", desc := "(I)I" } : Jvm.MethodName)) ∈ lw_all := lw_g (lw_at lw_m7 211 rfl) rfl
theorem q1787 : (Jvm.Cond.code ({ cls := "QuarrelsPawnedModel", name := "daysOf", desc := "(I)I" } : Jvm.MethodName) prog_20_method_13_code (2 : Nat) (Option.some Jvm.ClassFile.FieldType.int)) ∈ lw_all := lw_g (lw_at lw_m7 212 rfl) rfl
theorem q1788 : (Jvm.Cond.methodLink "QuarrelsPawnedModel" (316 : Nat) ({ cls := "QuarrelsPawnedModel", name := "says", desc := "(IIJII)I" } : Jvm.MethodName)) ∈ lw_all := lw_g (lw_at lw_m7 213 rfl) rfl
theorem q1789 : (Jvm.Cond.privateMethod ({ cls := "QuarrelsPawnedModel", name := "says", desc := "(IIJII)I" } : Jvm.MethodName)) ∈ lw_tbl := lw_at lw_m7 214 rfl
theorem q1790 : (Jvm.Cond.instanceMethod ({ cls := "QuarrelsPawnedModel", name := "says", desc := "(IIJII)I" } : Jvm.MethodName)) ∈ lw_all := lw_g (lw_at lw_m7 215 rfl) rfl
theorem q1791 : (Jvm.Cond.code ({ cls := "QuarrelsPawnedModel", name := "says", desc := "(IIJII)I" } : Jvm.MethodName) prog_20_method_70_code (8 : Nat) (Option.some Jvm.ClassFile.FieldType.int)) ∈ lw_all := lw_g (lw_at lw_m7 216 rfl) rfl
theorem q1792 : (Jvm.Cond.methodLink "QuarrelsPawnedModel" (303 : Nat) ({ cls := "QuarrelsPawnedModel", name := "summedUp", desc := "(II)J" } : Jvm.MethodName)) ∈ lw_all := lw_g (lw_at lw_m7 217 rfl) rfl
theorem q1793 : (Jvm.Cond.privateMethod ({ cls := "QuarrelsPawnedModel", name := "summedUp", desc := "(II)J" } : Jvm.MethodName)) ∈ lw_tbl := lw_at lw_m7 218 rfl
theorem q1794 : (Jvm.Cond.instanceMethod ({ cls := "QuarrelsPawnedModel", name := "summedUp", desc := "(II)J" } : Jvm.MethodName)) ∈ lw_all := lw_g (lw_at lw_m7 219 rfl) rfl
theorem q1795 : (Jvm.Cond.code ({ cls := "QuarrelsPawnedModel", name := "summedUp", desc := "(II)J" } : Jvm.MethodName) prog_20_method_69_code (10 : Nat) (Option.some Jvm.ClassFile.FieldType.long)) ∈ lw_all := lw_g (lw_at lw_m7 220 rfl) rfl
theorem q1796 : (Jvm.Cond.methodLink "QuarrelsPawnedModel" (284 : Nat) ({ cls := "QuarrelsPawnedModel", name := "hotOf", desc := "(J)J" } : Jvm.MethodName)) ∈ lw_all := lw_g (lw_at lw_m7 221 rfl) rfl
theorem q1797 : (Jvm.Cond.privateMethod ({ cls := "QuarrelsPawnedModel", name := "hotOf", desc := "(J)J" } : Jvm.MethodName)) ∈ lw_tbl := lw_at lw_m7 222 rfl
theorem q1798 : (Jvm.Cond.instanceMethod ({ cls := "QuarrelsPawnedModel", name := "hotOf", desc := "(J)J" } : Jvm.MethodName)) ∈ lw_all := lw_g (lw_at lw_m7 223 rfl) rfl
theorem q1799 : (Jvm.Cond.code ({ cls := "QuarrelsPawnedModel", name := "hotOf", desc := "(J)J" } : Jvm.MethodName) prog_20_method_66_code (3 : Nat) (Option.some Jvm.ClassFile.FieldType.long)) ∈ lw_all := lw_g (lw_at lw_m7 224 rfl) rfl
theorem q1800 : (Jvm.Cond.methodLink "QuarrelsPawnedModel" (287 : Nat) ({ cls := "QuarrelsPawnedModel", name := "restOf", desc := "(JJ)J" } : Jvm.MethodName)) ∈ lw_all := lw_g (lw_at lw_m7 225 rfl) rfl
theorem q1801 : (Jvm.Cond.static ({ cls := "QuarrelsPawnedModel", name := "restOf", desc := "(JJ)J" } : Jvm.MethodName)) ∈ lw_all := lw_g (lw_at lw_m7 226 rfl) rfl
theorem q1802 : (Jvm.Cond.code ({ cls := "QuarrelsPawnedModel", name := "restOf", desc := "(JJ)J" } : Jvm.MethodName) prog_20_method_67_code (4 : Nat) (Option.some Jvm.ClassFile.FieldType.long)) ∈ lw_all := lw_g (lw_at lw_m7 227 rfl) rfl
theorem q1803 : (Jvm.Cond.methodLink "QuarrelsPawnedModel" (291 : Nat) ({ cls := "QuarrelsPawnedModel", name := "two", desc := "(IJJ)J" } : Jvm.MethodName)) ∈ lw_all := lw_g (lw_at lw_m7 228 rfl) rfl
theorem q1804 : (Jvm.Cond.static ({ cls := "QuarrelsPawnedModel", name := "two", desc := "(IJJ)J" } : Jvm.MethodName)) ∈ lw_all := lw_g (lw_at lw_m7 229 rfl) rfl
theorem q1805 : (Jvm.Cond.code ({ cls := "QuarrelsPawnedModel", name := "two", desc := "(IJJ)J" } : Jvm.MethodName) prog_20_method_64_code (5 : Nat) (Option.some Jvm.ClassFile.FieldType.long)) ∈ lw_all := lw_g (lw_at lw_m7 230 rfl) rfl
theorem q1806 : (Jvm.Cond.methodLink "QuarrelsPawnedModel" (277 : Nat) ({ cls := "QuarrelsPawnedModel", name := "clip", desc := "(J)J" } : Jvm.MethodName)) ∈ lw_all := lw_g (lw_at lw_m7 231 rfl) rfl
theorem q1807 : (Jvm.Cond.static ({ cls := "QuarrelsPawnedModel", name := "clip", desc := "(J)J" } : Jvm.MethodName)) ∈ lw_all := lw_g (lw_at lw_m7 232 rfl) rfl
theorem q1808 : (Jvm.Cond.code ({ cls := "QuarrelsPawnedModel", name := "clip", desc := "(J)J" } : Jvm.MethodName) prog_20_method_63_code (2 : Nat) (Option.some Jvm.ClassFile.FieldType.long)) ∈ lw_all := lw_g (lw_at lw_m7 233 rfl) rfl
theorem q1809 : (Jvm.Cond.constantLong "QuarrelsPawnedModel" (273 : Nat) (1000000 : Int64)) ∈ lw_all := lw_g (lw_at lw_m7 234 rfl) rfl
theorem q1810 : (Jvm.Cond.constantLong "QuarrelsPawnedModel" (275 : Nat) (-1000000 : Int64)) ∈ lw_all := lw_g (lw_at lw_m7 235 rfl) rfl
theorem q1811 : (Jvm.Cond.methodLink "QuarrelsPawnedModel" (295 : Nat) ({ cls := "QuarrelsPawnedModel", name := "isAsked", desc := "(IJJ)Z" } : Jvm.MethodName)) ∈ lw_all := lw_g (lw_at lw_m7 236 rfl) rfl
theorem q1812 : (Jvm.Cond.static ({ cls := "QuarrelsPawnedModel", name := "isAsked", desc := "(IJJ)Z" } : Jvm.MethodName)) ∈ lw_all := lw_g (lw_at lw_m7 237 rfl) rfl
theorem q1813 : (Jvm.Cond.code ({ cls := "QuarrelsPawnedModel", name := "isAsked", desc := "(IJJ)Z" } : Jvm.MethodName) prog_20_method_65_code (5 : Nat) (Option.some Jvm.ClassFile.FieldType.boolean)) ∈ lw_all := lw_g (lw_at lw_m7 238 rfl) rfl
theorem q1814 : (Jvm.Cond.methodLink "QuarrelsPawnedModel" (299 : Nat) ({ cls := "QuarrelsPawnedModel", name := "joined", desc := "(IZZ)Z" } : Jvm.MethodName)) ∈ lw_all := lw_g (lw_at lw_m7 239 rfl) rfl
theorem q1815 : (Jvm.Cond.static ({ cls := "QuarrelsPawnedModel", name := "joined", desc := "(IZZ)Z" } : Jvm.MethodName)) ∈ lw_all := lw_g (lw_at lw_m8 0 rfl) rfl
theorem q1816 : (Jvm.Cond.code ({ cls := "QuarrelsPawnedModel", name := "joined", desc := "(IZZ)Z" } : Jvm.MethodName) prog_20_method_68_code (3 : Nat) (Option.some Jvm.ClassFile.FieldType.boolean)) ∈ lw_all := lw_g (lw_at lw_m8 1 rfl) rfl
theorem q1817 : (Jvm.Cond.methodLink "QuarrelsPawnedModel" (372 : Nat) ({ cls := "QuarrelsPawnedModel", name := "redeemNow", desc := "(I)I" } : Jvm.MethodName)) ∈ lw_all := lw_g (lw_at lw_m8 2 rfl) rfl
theorem q1818 : (Jvm.Cond.privateMethod ({ cls := "QuarrelsPawnedModel", name := "redeemNow", desc := "(I)I" } : Jvm.MethodName)) ∈ lw_tbl := lw_at lw_m8 3 rfl
theorem q1819 : (Jvm.Cond.instanceMethod ({ cls := "QuarrelsPawnedModel", name := "redeemNow", desc := "(I)I" } : Jvm.MethodName)) ∈ lw_all := lw_g (lw_at lw_m8 4 rfl) rfl
theorem q1820 : (Jvm.Cond.code ({ cls := "QuarrelsPawnedModel", name := "redeemNow", desc := "(I)I" } : Jvm.MethodName) prog_20_method_82_code (3 : Nat) (Option.some Jvm.ClassFile.FieldType.int)) ∈ lw_all := lw_g (lw_at lw_m8 5 rfl) rfl
theorem q1822 : (Jvm.Cond.instanceMethod ({ cls := "QuarrelsPawnedModel", name := "earn", desc := "(I)Z" } : Jvm.MethodName)) ∈ lw_all := lw_g (lw_at lw_m8 7 rfl) rfl
theorem q1823 : (Jvm.Cond.selects "QuarrelsPawnedModel" ({ cls := "QuarrelsPawnedModel", name := "earn", desc := "(I)Z" } : Jvm.MethodName) ({ cls := "QuarrelsPawnedModel", name := "earn", desc := "(I)Z" } : Jvm.MethodName)) ∈ lw_all := lw_g (lw_at lw_m8 8 rfl) rfl
theorem q1824 : (Jvm.Cond.code ({ cls := "QuarrelsPawnedModel", name := "earn", desc := "(I)Z" } : Jvm.MethodName) prog_20_method_90_code (2 : Nat) (Option.some Jvm.ClassFile.FieldType.boolean)) ∈ lw_all := lw_g (lw_at lw_m8 9 rfl) rfl
theorem q1825 : (Jvm.Cond.methodLink "QuarrelsPawnedModel" (375 : Nat) ({ cls := "QuarrelsPawnedModel", name := "canEarn", desc := "(I)Z" } : Jvm.MethodName)) ∈ lw_all := lw_g (lw_at lw_m8 10 rfl) rfl
theorem q1826 : (Jvm.Cond.privateMethod ({ cls := "QuarrelsPawnedModel", name := "canEarn", desc := "(I)Z" } : Jvm.MethodName)) ∈ lw_tbl := lw_at lw_m8 11 rfl
theorem q1827 : (Jvm.Cond.instanceMethod ({ cls := "QuarrelsPawnedModel", name := "canEarn", desc := "(I)Z" } : Jvm.MethodName)) ∈ lw_all := lw_g (lw_at lw_m8 12 rfl) rfl
theorem q1828 : (Jvm.Cond.code ({ cls := "QuarrelsPawnedModel", name := "canEarn", desc := "(I)Z" } : Jvm.MethodName) prog_20_method_83_code (2 : Nat) (Option.some Jvm.ClassFile.FieldType.boolean)) ∈ lw_all := lw_g (lw_at lw_m8 13 rfl) rfl
theorem q1830 : (Jvm.Cond.instanceMethod ({ cls := "QuarrelsPawnedModel", name := "day", desc := "(I)I" } : Jvm.MethodName)) ∈ lw_all := lw_g (lw_at lw_m8 15 rfl) rfl
theorem q1831 : (Jvm.Cond.selects "QuarrelsPawnedModel" ({ cls := "QuarrelsPawnedModel", name := "day", desc := "(I)I" } : Jvm.MethodName) ({ cls := "QuarrelsPawnedModel", name := "day", desc := "(I)I" } : Jvm.MethodName)) ∈ lw_all := lw_g (lw_at lw_m8 16 rfl) rfl
theorem q1832 : (Jvm.Cond.code ({ cls := "QuarrelsPawnedModel", name := "day", desc := "(I)I" } : Jvm.MethodName) prog_20_method_92_code (2 : Nat) (Option.some Jvm.ClassFile.FieldType.int)) ∈ lw_all := lw_g (lw_at lw_m8 17 rfl) rfl
theorem q1833 : (Jvm.Cond.methodLink "QuarrelsPawnedModel" (381 : Nat) ({ cls := "QuarrelsPawnedModel", name := "arePassed", desc := "(I)Z" } : Jvm.MethodName)) ∈ lw_all := lw_g (lw_at lw_m8 18 rfl) rfl
theorem q1834 : (Jvm.Cond.privateMethod ({ cls := "QuarrelsPawnedModel", name := "arePassed", desc := "(I)Z" } : Jvm.MethodName)) ∈ lw_tbl := lw_at lw_m8 19 rfl
theorem q1835 : (Jvm.Cond.instanceMethod ({ cls := "QuarrelsPawnedModel", name := "arePassed", desc := "(I)Z" } : Jvm.MethodName)) ∈ lw_all := lw_g (lw_at lw_m8 20 rfl) rfl
theorem q1836 : (Jvm.Cond.code ({ cls := "QuarrelsPawnedModel", name := "arePassed", desc := "(I)Z" } : Jvm.MethodName) prog_20_method_91_code (3 : Nat) (Option.some Jvm.ClassFile.FieldType.boolean)) ∈ lw_all := lw_g (lw_at lw_m8 21 rfl) rfl
theorem q1837 : (Jvm.Cond.methodLink "QuarrelsPawnedModel" (378 : Nat) ({ cls := "QuarrelsPawnedModel", name := "pass", desc := "()V" } : Jvm.MethodName)) ∈ lw_all := lw_g (lw_at lw_m8 22 rfl) rfl
theorem q1838 : (Jvm.Cond.privateMethod ({ cls := "QuarrelsPawnedModel", name := "pass", desc := "()V" } : Jvm.MethodName)) ∈ lw_tbl := lw_at lw_m8 23 rfl
theorem q1839 : (Jvm.Cond.instanceMethod ({ cls := "QuarrelsPawnedModel", name := "pass", desc := "()V" } : Jvm.MethodName)) ∈ lw_all := lw_g (lw_at lw_m8 24 rfl) rfl
theorem q1840 : (Jvm.Cond.code ({ cls := "QuarrelsPawnedModel", name := "pass", desc := "()V" } : Jvm.MethodName) prog_20_method_85_code (2 : Nat) (Option.none : Option Jvm.ClassFile.FieldType)) ∈ lw_all := lw_g (lw_at lw_m8 25 rfl) rfl
theorem q1841 : (Jvm.Cond.methodLink "QuarrelsPawnedModel" (348 : Nat) ({ cls := "QuarrelsPawnedModel", name := "drawnBy", desc := "(I)I" } : Jvm.MethodName)) ∈ lw_all := lw_g (lw_at lw_m8 26 rfl) rfl
theorem q1842 : (Jvm.Cond.privateMethod ({ cls := "QuarrelsPawnedModel", name := "drawnBy", desc := "(I)I" } : Jvm.MethodName)) ∈ lw_tbl := lw_at lw_m8 27 rfl
theorem q1843 : (Jvm.Cond.instanceMethod ({ cls := "QuarrelsPawnedModel", name := "drawnBy", desc := "(I)I" } : Jvm.MethodName)) ∈ lw_all := lw_g (lw_at lw_m8 28 rfl) rfl
theorem q1844 : (Jvm.Cond.code ({ cls := "QuarrelsPawnedModel", name := "drawnBy", desc := "(I)I" } : Jvm.MethodName) prog_20_method_77_code (3 : Nat) (Option.some Jvm.ClassFile.FieldType.int)) ∈ lw_all := lw_g (lw_at lw_m8 29 rfl) rfl
theorem q1845 : (Jvm.Cond.methodLink "QuarrelsPawnedModel" (333 : Nat) ({ cls := "QuarrelsPawnedModel", name := "anew", desc := "()V" } : Jvm.MethodName)) ∈ lw_all := lw_g (lw_at lw_m8 30 rfl) rfl
theorem q1846 : (Jvm.Cond.privateMethod ({ cls := "QuarrelsPawnedModel", name := "anew", desc := "()V" } : Jvm.MethodName)) ∈ lw_tbl := lw_at lw_m8 31 rfl
theorem q1847 : (Jvm.Cond.instanceMethod ({ cls := "QuarrelsPawnedModel", name := "anew", desc := "()V" } : Jvm.MethodName)) ∈ lw_all := lw_g (lw_at lw_m8 32 rfl) rfl
theorem q1848 : (Jvm.Cond.code ({ cls := "QuarrelsPawnedModel", name := "anew", desc := "()V" } : Jvm.MethodName) prog_20_method_78_code (1 : Nat) (Option.none : Option Jvm.ClassFile.FieldType)) ∈ lw_all := lw_g (lw_at lw_m8 33 rfl) rfl
theorem q1849 : (Jvm.Cond.constantLong "QuarrelsPawnedModel" (336 : Nat) (619 : Int64)) ∈ lw_all := lw_g (lw_at lw_m8 34 rfl) rfl
theorem q1850 : (Jvm.Cond.constantLong "QuarrelsPawnedModel" (338 : Nat) (493 : Int64)) ∈ lw_all := lw_g (lw_at lw_m8 35 rfl) rfl
theorem q1851 : (Jvm.Cond.constantLong "QuarrelsPawnedModel" (340 : Nat) (30871 : Int64)) ∈ lw_all := lw_g (lw_at lw_m8 36 rfl) rfl
theorem q1852 : (Jvm.Cond.methodLink "QuarrelsPawnedModel" (351 : Nat) ({ cls := "QuarrelsPawnedModel", name := "warm", desc := "(I)V" } : Jvm.MethodName)) ∈ lw_all := lw_g (lw_at lw_m8 37 rfl) rfl
theorem q1853 : (Jvm.Cond.privateMethod ({ cls := "QuarrelsPawnedModel", name := "warm", desc := "(I)V" } : Jvm.MethodName)) ∈ lw_tbl := lw_at lw_m8 38 rfl
theorem q1854 : (Jvm.Cond.instanceMethod ({ cls := "QuarrelsPawnedModel", name := "warm", desc := "(I)V" } : Jvm.MethodName)) ∈ lw_all := lw_g (lw_at lw_m8 39 rfl) rfl
theorem q1855 : (Jvm.Cond.code ({ cls := "QuarrelsPawnedModel", name := "warm", desc := "(I)V" } : Jvm.MethodName) prog_20_method_84_code (3 : Nat) (Option.none : Option Jvm.ClassFile.FieldType)) ∈ lw_all := lw_g (lw_at lw_m8 40 rfl) rfl
theorem q1856 : (Jvm.Cond.methodLink "QuarrelsPawnedModel" (354 : Nat) ({ cls := "QuarrelsPawnedModel", name := "sellsOf", desc := "(I)I" } : Jvm.MethodName)) ∈ lw_all := lw_g (lw_at lw_m8 41 rfl) rfl
theorem q1857 : (Jvm.Cond.privateMethod ({ cls := "QuarrelsPawnedModel", name := "sellsOf", desc := "(I)I" } : Jvm.MethodName)) ∈ lw_tbl := lw_at lw_m8 42 rfl
theorem q1858 : (Jvm.Cond.instanceMethod ({ cls := "QuarrelsPawnedModel", name := "sellsOf", desc := "(I)I" } : Jvm.MethodName)) ∈ lw_all := lw_g (lw_at lw_m8 43 rfl) rfl
theorem q1859 : (Jvm.Cond.code ({ cls := "QuarrelsPawnedModel", name := "sellsOf", desc := "(I)I" } : Jvm.MethodName) prog_20_method_74_code (2 : Nat) (Option.some Jvm.ClassFile.FieldType.int)) ∈ lw_all := lw_g (lw_at lw_m8 44 rfl) rfl
theorem q1860 : (Jvm.Cond.methodLink "QuarrelsPawnedModel" (324 : Nat) ({ cls := "QuarrelsPawnedModel", name := "pawnedNow", desc := "()I" } : Jvm.MethodName)) ∈ lw_all := lw_g (lw_at lw_m8 45 rfl) rfl
theorem q1861 : (Jvm.Cond.privateMethod ({ cls := "QuarrelsPawnedModel", name := "pawnedNow", desc := "()I" } : Jvm.MethodName)) ∈ lw_tbl := lw_at lw_m8 46 rfl
theorem q1862 : (Jvm.Cond.instanceMethod ({ cls := "QuarrelsPawnedModel", name := "pawnedNow", desc := "()I" } : Jvm.MethodName)) ∈ lw_all := lw_g (lw_at lw_m8 47 rfl) rfl
theorem q1863 : (Jvm.Cond.code ({ cls := "QuarrelsPawnedModel", name := "pawnedNow", desc := "()I" } : Jvm.MethodName) prog_20_method_14_code (3 : Nat) (Option.some Jvm.ClassFile.FieldType.int)) ∈ lw_all := lw_g (lw_at lw_m8 48 rfl) rfl
theorem q1864 : (Jvm.Cond.methodLink "QuarrelsPawnedModel" (327 : Nat) ({ cls := "QuarrelsPawnedModel", name := "bits", desc := "(I)I" } : Jvm.MethodName)) ∈ lw_all := lw_g (lw_at lw_m8 49 rfl) rfl
theorem q1865 : (Jvm.Cond.static ({ cls := "QuarrelsPawnedModel", name := "bits", desc := "(I)I" } : Jvm.MethodName)) ∈ lw_all := lw_g (lw_at lw_m8 50 rfl) rfl
theorem q1866 : (Jvm.Cond.code ({ cls := "QuarrelsPawnedModel", name := "bits", desc := "(I)I" } : Jvm.MethodName) prog_20_method_7_code (3 : Nat) (Option.some Jvm.ClassFile.FieldType.int)) ∈ lw_all := lw_g (lw_at lw_m8 51 rfl) rfl
theorem q1868 : (Jvm.Cond.instanceMethod ({ cls := "QuarrelsPawnedModel", name := "played", desc := "(I)I" } : Jvm.MethodName)) ∈ lw_all := lw_g (lw_at lw_m8 53 rfl) rfl
theorem q1869 : (Jvm.Cond.selects "QuarrelsPawnedModel" ({ cls := "QuarrelsPawnedModel", name := "played", desc := "(I)I" } : Jvm.MethodName) ({ cls := "QuarrelsPawnedModel", name := "played", desc := "(I)I" } : Jvm.MethodName)) ∈ lw_all := lw_g (lw_at lw_m8 54 rfl) rfl
theorem q1870 : (Jvm.Cond.code ({ cls := "QuarrelsPawnedModel", name := "played", desc := "(I)I" } : Jvm.MethodName) prog_20_method_94_code (3 : Nat) (Option.some Jvm.ClassFile.FieldType.int)) ∈ lw_all := lw_g (lw_at lw_m8 55 rfl) rfl
theorem q1871 : (Jvm.Cond.methodLink "QuarrelsPawnedModel" (396 : Nat) ({ cls := "QuarrelsPawnedModel", name := "isPlayed", desc := "(I)Z" } : Jvm.MethodName)) ∈ lw_all := lw_g (lw_at lw_m8 56 rfl) rfl
theorem q1872 : (Jvm.Cond.privateMethod ({ cls := "QuarrelsPawnedModel", name := "isPlayed", desc := "(I)Z" } : Jvm.MethodName)) ∈ lw_tbl := lw_at lw_m8 57 rfl
theorem q1873 : (Jvm.Cond.instanceMethod ({ cls := "QuarrelsPawnedModel", name := "isPlayed", desc := "(I)Z" } : Jvm.MethodName)) ∈ lw_all := lw_g (lw_at lw_m8 58 rfl) rfl
theorem q1874 : (Jvm.Cond.code ({ cls := "QuarrelsPawnedModel", name := "isPlayed", desc := "(I)Z" } : Jvm.MethodName) prog_20_method_93_code (3 : Nat) (Option.some Jvm.ClassFile.FieldType.boolean)) ∈ lw_all := lw_g (lw_at lw_m8 59 rfl) rfl
theorem q1875 : (Jvm.Cond.methodLink "QuarrelsPawnedModel" (384 : Nat) ({ cls := "QuarrelsPawnedModel", name := "quarrel", desc := "(IIII)I" } : Jvm.MethodName)) ∈ lw_all := lw_g (lw_at lw_m8 60 rfl) rfl
theorem q1876 : (Jvm.Cond.methodLink "QuarrelsPawnedModel" (387 : Nat) ({ cls := "QuarrelsPawnedModel", name := "pawn", desc := "(I)Z" } : Jvm.MethodName)) ∈ lw_all := lw_g (lw_at lw_m8 61 rfl) rfl
theorem q1877 : (Jvm.Cond.methodLink "QuarrelsPawnedModel" (390 : Nat) ({ cls := "QuarrelsPawnedModel", name := "redeem", desc := "(I)I" } : Jvm.MethodName)) ∈ lw_all := lw_g (lw_at lw_m8 62 rfl) rfl
theorem q1878 : (Jvm.Cond.methodLink "QuarrelsPawnedModel" (393 : Nat) ({ cls := "QuarrelsPawnedModel", name := "earn", desc := "(I)Z" } : Jvm.MethodName)) ∈ lw_all := lw_g (lw_at lw_m8 63 rfl) rfl
theorem q1880 : (Jvm.Cond.instanceMethod ({ cls := "QuarrelsPawnedModel", name := "years", desc := "(II)I" } : Jvm.MethodName)) ∈ lw_all := lw_g (lw_at lw_m8 65 rfl) rfl
theorem q1881 : (Jvm.Cond.selects "QuarrelsPawnedModel" ({ cls := "QuarrelsPawnedModel", name := "years", desc := "(II)I" } : Jvm.MethodName) ({ cls := "QuarrelsPawnedModel", name := "years", desc := "(II)I" } : Jvm.MethodName)) ∈ lw_all := lw_g (lw_at lw_m8 66 rfl) rfl
theorem q1882 : (Jvm.Cond.code ({ cls := "QuarrelsPawnedModel", name := "years", desc := "(II)I" } : Jvm.MethodName) prog_20_method_96_code (5 : Nat) (Option.some Jvm.ClassFile.FieldType.int)) ∈ lw_all := lw_g (lw_at lw_m8 67 rfl) rfl
theorem q1883 : (Jvm.Cond.methodLink "QuarrelsPawnedModel" (399 : Nat) ({ cls := "QuarrelsPawnedModel", name := "happens", desc := "(I)V" } : Jvm.MethodName)) ∈ lw_all := lw_g (lw_at lw_m8 68 rfl) rfl
theorem q1884 : (Jvm.Cond.privateMethod ({ cls := "QuarrelsPawnedModel", name := "happens", desc := "(I)V" } : Jvm.MethodName)) ∈ lw_tbl := lw_at lw_m8 69 rfl
theorem q1885 : (Jvm.Cond.instanceMethod ({ cls := "QuarrelsPawnedModel", name := "happens", desc := "(I)V" } : Jvm.MethodName)) ∈ lw_all := lw_g (lw_at lw_m8 70 rfl) rfl
theorem q1886 : (Jvm.Cond.code ({ cls := "QuarrelsPawnedModel", name := "happens", desc := "(I)V" } : Jvm.MethodName) prog_20_method_95_code (4 : Nat) (Option.none : Option Jvm.ClassFile.FieldType)) ∈ lw_all := lw_g (lw_at lw_m8 71 rfl) rfl
theorem q1888 : (Jvm.Cond.instanceMethod ({ cls := "QuarrelsPawnedModel", name := "of", desc := "(II)I" } : Jvm.MethodName)) ∈ lw_all := lw_g (lw_at lw_m8 73 rfl) rfl
theorem q1889 : (Jvm.Cond.selects "QuarrelsPawnedModel" ({ cls := "QuarrelsPawnedModel", name := "of", desc := "(II)I" } : Jvm.MethodName) ({ cls := "QuarrelsPawnedModel", name := "of", desc := "(II)I" } : Jvm.MethodName)) ∈ lw_all := lw_g (lw_at lw_m8 74 rfl) rfl
theorem q1890 : (Jvm.Cond.code ({ cls := "QuarrelsPawnedModel", name := "of", desc := "(II)I" } : Jvm.MethodName) prog_20_method_97_code (3 : Nat) (Option.some Jvm.ClassFile.FieldType.int)) ∈ lw_all := lw_g (lw_at lw_m8 75 rfl) rfl
theorem q1892 : (Jvm.Cond.instanceMethod ({ cls := "QuarrelsPawnedModel", name := "is", desc := "(I)I" } : Jvm.MethodName)) ∈ lw_all := lw_g (lw_at lw_m8 77 rfl) rfl
theorem q1893 : (Jvm.Cond.selects "QuarrelsPawnedModel" ({ cls := "QuarrelsPawnedModel", name := "is", desc := "(I)I" } : Jvm.MethodName) ({ cls := "QuarrelsPawnedModel", name := "is", desc := "(I)I" } : Jvm.MethodName)) ∈ lw_all := lw_g (lw_at lw_m8 78 rfl) rfl
theorem q1894 : (Jvm.Cond.code ({ cls := "QuarrelsPawnedModel", name := "is", desc := "(I)I" } : Jvm.MethodName) prog_20_method_98_code (2 : Nat) (Option.some Jvm.ClassFile.FieldType.int)) ∈ lw_all := lw_g (lw_at lw_m8 79 rfl) rfl
theorem q1895 : (Jvm.Cond.methodLink "QuarrelsPawnedModel" (402 : Nat) ({ cls := "QuarrelsPawnedModel", name := "duesOfAll", desc := "(I)I" } : Jvm.MethodName)) ∈ lw_all := lw_g (lw_at lw_m8 80 rfl) rfl
theorem q1896 : (Jvm.Cond.privateMethod ({ cls := "QuarrelsPawnedModel", name := "duesOfAll", desc := "(I)I" } : Jvm.MethodName)) ∈ lw_tbl := lw_at lw_m8 81 rfl
theorem q1897 : (Jvm.Cond.instanceMethod ({ cls := "QuarrelsPawnedModel", name := "duesOfAll", desc := "(I)I" } : Jvm.MethodName)) ∈ lw_all := lw_g (lw_at lw_m8 82 rfl) rfl
theorem q1898 : (Jvm.Cond.code ({ cls := "QuarrelsPawnedModel", name := "duesOfAll", desc := "(I)I" } : Jvm.MethodName) prog_20_method_75_code (4 : Nat) (Option.some Jvm.ClassFile.FieldType.int)) ∈ lw_all := lw_g (lw_at lw_m8 83 rfl) rfl
theorem q1900 : (Jvm.Cond.instanceMethod ({ cls := "QuarrelsPawnedModel", name := "book", desc := "(II)I" } : Jvm.MethodName)) ∈ lw_all := lw_g (lw_at lw_m8 85 rfl) rfl
theorem q1901 : (Jvm.Cond.selects "QuarrelsPawnedModel" ({ cls := "QuarrelsPawnedModel", name := "book", desc := "(II)I" } : Jvm.MethodName) ({ cls := "QuarrelsPawnedModel", name := "book", desc := "(II)I" } : Jvm.MethodName)) ∈ lw_all := lw_g (lw_at lw_m8 86 rfl) rfl
theorem q1902 : (Jvm.Cond.code ({ cls := "QuarrelsPawnedModel", name := "book", desc := "(II)I" } : Jvm.MethodName) prog_20_method_100_code (3 : Nat) (Option.some Jvm.ClassFile.FieldType.int)) ∈ lw_all := lw_g (lw_at lw_m8 87 rfl) rfl
theorem q1903 : (Jvm.Cond.methodLink "QuarrelsPawnedModel" (405 : Nat) ({ cls := "QuarrelsPawnedModel", name := "entry", desc := "(II)I" } : Jvm.MethodName)) ∈ lw_all := lw_g (lw_at lw_m8 88 rfl) rfl
theorem q1904 : (Jvm.Cond.privateMethod ({ cls := "QuarrelsPawnedModel", name := "entry", desc := "(II)I" } : Jvm.MethodName)) ∈ lw_tbl := lw_at lw_m8 89 rfl
theorem q1905 : (Jvm.Cond.instanceMethod ({ cls := "QuarrelsPawnedModel", name := "entry", desc := "(II)I" } : Jvm.MethodName)) ∈ lw_all := lw_g (lw_at lw_m8 90 rfl) rfl
theorem q1906 : (Jvm.Cond.code ({ cls := "QuarrelsPawnedModel", name := "entry", desc := "(II)I" } : Jvm.MethodName) prog_20_method_99_code (4 : Nat) (Option.some Jvm.ClassFile.FieldType.int)) ∈ lw_all := lw_g (lw_at lw_m8 91 rfl) rfl
theorem q1908 : (Jvm.Cond.instanceMethod ({ cls := "QuarrelsPawnedModel", name := "ledger", desc := "(I)I" } : Jvm.MethodName)) ∈ lw_all := lw_g (lw_at lw_m8 93 rfl) rfl
theorem q1909 : (Jvm.Cond.selects "QuarrelsPawnedModel" ({ cls := "QuarrelsPawnedModel", name := "ledger", desc := "(I)I" } : Jvm.MethodName) ({ cls := "QuarrelsPawnedModel", name := "ledger", desc := "(I)I" } : Jvm.MethodName)) ∈ lw_all := lw_g (lw_at lw_m8 94 rfl) rfl
theorem q1910 : (Jvm.Cond.code ({ cls := "QuarrelsPawnedModel", name := "ledger", desc := "(I)I" } : Jvm.MethodName) prog_20_method_101_code (4 : Nat) (Option.some Jvm.ClassFile.FieldType.int)) ∈ lw_all := lw_g (lw_at lw_m8 95 rfl) rfl
theorem q1912 : (Jvm.Cond.instanceMethod ({ cls := "QuarrelsPawnedModel", name := "hottest", desc := "()I" } : Jvm.MethodName)) ∈ lw_all := lw_g (lw_at lw_m8 97 rfl) rfl
theorem q1913 : (Jvm.Cond.selects "QuarrelsPawnedModel" ({ cls := "QuarrelsPawnedModel", name := "hottest", desc := "()I" } : Jvm.MethodName) ({ cls := "QuarrelsPawnedModel", name := "hottest", desc := "()I" } : Jvm.MethodName)) ∈ lw_all := lw_g (lw_at lw_m8 98 rfl) rfl
theorem q1914 : (Jvm.Cond.code ({ cls := "QuarrelsPawnedModel", name := "hottest", desc := "()I" } : Jvm.MethodName) prog_20_method_102_code (3 : Nat) (Option.some Jvm.ClassFile.FieldType.int)) ∈ lw_all := lw_g (lw_at lw_m8 99 rfl) rfl
theorem q1916 : (Jvm.Cond.instanceMethod ({ cls := "QuarrelsPawnedModel", name := "foretold", desc := "(III)I" } : Jvm.MethodName)) ∈ lw_all := lw_g (lw_at lw_m8 101 rfl) rfl
theorem q1917 : (Jvm.Cond.selects "QuarrelsPawnedModel" ({ cls := "QuarrelsPawnedModel", name := "foretold", desc := "(III)I" } : Jvm.MethodName) ({ cls := "QuarrelsPawnedModel", name := "foretold", desc := "(III)I" } : Jvm.MethodName)) ∈ lw_all := lw_g (lw_at lw_m8 102 rfl) rfl
theorem q1918 : (Jvm.Cond.code ({ cls := "QuarrelsPawnedModel", name := "foretold", desc := "(III)I" } : Jvm.MethodName) prog_20_method_103_code (6 : Nat) (Option.some Jvm.ClassFile.FieldType.int)) ∈ lw_all := lw_g (lw_at lw_m8 103 rfl) rfl
theorem q1920 : (Jvm.Cond.instanceMethod ({ cls := "QuarrelsPawnedModel", name := "speak", desc := "(II)Z" } : Jvm.MethodName)) ∈ lw_all := lw_g (lw_at lw_m8 105 rfl) rfl
theorem q1921 : (Jvm.Cond.selects "QuarrelsPawnedModel" ({ cls := "QuarrelsPawnedModel", name := "speak", desc := "(II)Z" } : Jvm.MethodName) ({ cls := "QuarrelsPawnedModel", name := "speak", desc := "(II)Z" } : Jvm.MethodName)) ∈ lw_all := lw_g (lw_at lw_m8 106 rfl) rfl
theorem q1922 : (Jvm.Cond.code ({ cls := "QuarrelsPawnedModel", name := "speak", desc := "(II)Z" } : Jvm.MethodName) prog_20_method_107_code (3 : Nat) (Option.some Jvm.ClassFile.FieldType.boolean)) ∈ lw_all := lw_g (lw_at lw_m8 107 rfl) rfl
theorem q1923 : (Jvm.Cond.methodLink "QuarrelsPawnedModel" (411 : Nat) ({ cls := "QuarrelsPawnedModel", name := "areTwo", desc := "(II)Z" } : Jvm.MethodName)) ∈ lw_all := lw_g (lw_at lw_m8 108 rfl) rfl
theorem q1924 : (Jvm.Cond.static ({ cls := "QuarrelsPawnedModel", name := "areTwo", desc := "(II)Z" } : Jvm.MethodName)) ∈ lw_all := lw_g (lw_at lw_m8 109 rfl) rfl
theorem q1925 : (Jvm.Cond.code ({ cls := "QuarrelsPawnedModel", name := "areTwo", desc := "(II)Z" } : Jvm.MethodName) prog_20_method_106_code (2 : Nat) (Option.some Jvm.ClassFile.FieldType.boolean)) ∈ lw_all := lw_g (lw_at lw_m8 110 rfl) rfl
theorem q1926 : (Jvm.Cond.methodLink "QuarrelsPawnedModel" (414 : Nat) ({ cls := "QuarrelsPawnedModel", name := "doSpeak", desc := "(II)Z" } : Jvm.MethodName)) ∈ lw_all := lw_g (lw_at lw_m8 111 rfl) rfl
theorem q1927 : (Jvm.Cond.privateMethod ({ cls := "QuarrelsPawnedModel", name := "doSpeak", desc := "(II)Z" } : Jvm.MethodName)) ∈ lw_tbl := lw_at lw_m8 112 rfl
theorem q1928 : (Jvm.Cond.instanceMethod ({ cls := "QuarrelsPawnedModel", name := "doSpeak", desc := "(II)Z" } : Jvm.MethodName)) ∈ lw_all := lw_g (lw_at lw_m8 113 rfl) rfl
theorem q1929 : (Jvm.Cond.code ({ cls := "QuarrelsPawnedModel", name := "doSpeak", desc := "(II)Z" } : Jvm.MethodName) prog_20_method_105_code (4 : Nat) (Option.some Jvm.ClassFile.FieldType.boolean)) ∈ lw_all := lw_g (lw_at lw_m8 114 rfl) rfl
theorem q1930 : (Jvm.Cond.methodLink "QuarrelsPawnedModel" (408 : Nat) ({ cls := "QuarrelsPawnedModel", name := "isOfTwo", desc := "(III)Z" } : Jvm.MethodName)) ∈ lw_all := lw_g (lw_at lw_m8 115 rfl) rfl
theorem q1931 : (Jvm.Cond.privateMethod ({ cls := "QuarrelsPawnedModel", name := "isOfTwo", desc := "(III)Z" } : Jvm.MethodName)) ∈ lw_tbl := lw_at lw_m8 116 rfl
theorem q1932 : (Jvm.Cond.instanceMethod ({ cls := "QuarrelsPawnedModel", name := "isOfTwo", desc := "(III)Z" } : Jvm.MethodName)) ∈ lw_all := lw_g (lw_at lw_m8 117 rfl) rfl
theorem q1933 : (Jvm.Cond.code ({ cls := "QuarrelsPawnedModel", name := "isOfTwo", desc := "(III)Z" } : Jvm.MethodName) prog_20_method_15_code (5 : Nat) (Option.some Jvm.ClassFile.FieldType.boolean)) ∈ lw_all := lw_g (lw_at lw_m8 118 rfl) rfl
theorem q1935 : (Jvm.Cond.instanceMethod ({ cls := "QuarrelsPawnedModel", name := "group", desc := "(I)I" } : Jvm.MethodName)) ∈ lw_all := lw_g (lw_at lw_m8 120 rfl) rfl
theorem q1936 : (Jvm.Cond.selects "QuarrelsPawnedModel" ({ cls := "QuarrelsPawnedModel", name := "group", desc := "(I)I" } : Jvm.MethodName) ({ cls := "QuarrelsPawnedModel", name := "group", desc := "(I)I" } : Jvm.MethodName)) ∈ lw_all := lw_g (lw_at lw_m8 121 rfl) rfl
theorem q1937 : (Jvm.Cond.code ({ cls := "QuarrelsPawnedModel", name := "group", desc := "(I)I" } : Jvm.MethodName) prog_20_method_109_code (2 : Nat) (Option.some Jvm.ClassFile.FieldType.int)) ∈ lw_all := lw_g (lw_at lw_m8 122 rfl) rfl
theorem q1938 : (Jvm.Cond.methodLink "QuarrelsPawnedModel" (417 : Nat) ({ cls := "QuarrelsPawnedModel", name := "groupOf", desc := "(II)I" } : Jvm.MethodName)) ∈ lw_all := lw_g (lw_at lw_m8 123 rfl) rfl
theorem q1939 : (Jvm.Cond.privateMethod ({ cls := "QuarrelsPawnedModel", name := "groupOf", desc := "(II)I" } : Jvm.MethodName)) ∈ lw_tbl := lw_at lw_m8 124 rfl
theorem q1940 : (Jvm.Cond.instanceMethod ({ cls := "QuarrelsPawnedModel", name := "groupOf", desc := "(II)I" } : Jvm.MethodName)) ∈ lw_all := lw_g (lw_at lw_m8 125 rfl) rfl
theorem q1941 : (Jvm.Cond.code ({ cls := "QuarrelsPawnedModel", name := "groupOf", desc := "(II)I" } : Jvm.MethodName) prog_20_method_108_code (7 : Nat) (Option.some Jvm.ClassFile.FieldType.int)) ∈ lw_all := lw_g (lw_at lw_m8 126 rfl) rfl
theorem q1943 : (Jvm.Cond.instanceMethod ({ cls := "QuarrelsPawnedModel", name := "groups", desc := "(Z)I" } : Jvm.MethodName)) ∈ lw_all := lw_g (lw_at lw_m8 128 rfl) rfl
theorem q1944 : (Jvm.Cond.selects "QuarrelsPawnedModel" ({ cls := "QuarrelsPawnedModel", name := "groups", desc := "(Z)I" } : Jvm.MethodName) ({ cls := "QuarrelsPawnedModel", name := "groups", desc := "(Z)I" } : Jvm.MethodName)) ∈ lw_all := lw_g (lw_at lw_m8 129 rfl) rfl
theorem q1945 : (Jvm.Cond.code ({ cls := "QuarrelsPawnedModel", name := "groups", desc := "(Z)I" } : Jvm.MethodName) prog_20_method_110_code (6 : Nat) (Option.some Jvm.ClassFile.FieldType.int)) ∈ lw_all := lw_g (lw_at lw_m8 130 rfl) rfl
theorem q1947 : (Jvm.Cond.instanceMethod ({ cls := "QuarrelsPawnedModel", name := "silent", desc := "()I" } : Jvm.MethodName)) ∈ lw_all := lw_g (lw_at lw_m8 132 rfl) rfl
theorem q1948 : (Jvm.Cond.selects "QuarrelsPawnedModel" ({ cls := "QuarrelsPawnedModel", name := "silent", desc := "()I" } : Jvm.MethodName) ({ cls := "QuarrelsPawnedModel", name := "silent", desc := "()I" } : Jvm.MethodName)) ∈ lw_all := lw_g (lw_at lw_m8 133 rfl) rfl
theorem q1949 : (Jvm.Cond.code ({ cls := "QuarrelsPawnedModel", name := "silent", desc := "()I" } : Jvm.MethodName) prog_20_method_111_code (3 : Nat) (Option.some Jvm.ClassFile.FieldType.int)) ∈ lw_all := lw_g (lw_at lw_m8 134 rfl) rfl
theorem q1951 : (Jvm.Cond.instanceMethod ({ cls := "QuarrelsPawnedModel", name := "gossips", desc := "()I" } : Jvm.MethodName)) ∈ lw_all := lw_g (lw_at lw_m8 136 rfl) rfl
theorem q1952 : (Jvm.Cond.selects "QuarrelsPawnedModel" ({ cls := "QuarrelsPawnedModel", name := "gossips", desc := "()I" } : Jvm.MethodName) ({ cls := "QuarrelsPawnedModel", name := "gossips", desc := "()I" } : Jvm.MethodName)) ∈ lw_all := lw_g (lw_at lw_m8 137 rfl) rfl
theorem q1953 : (Jvm.Cond.code ({ cls := "QuarrelsPawnedModel", name := "gossips", desc := "()I" } : Jvm.MethodName) prog_20_method_112_code (5 : Nat) (Option.some Jvm.ClassFile.FieldType.int)) ∈ lw_all := lw_g (lw_at lw_m8 138 rfl) rfl
theorem q1955 : (Jvm.Cond.instanceMethod ({ cls := "QuarrelsPawnedModel", name := "cost", desc := "(II)I" } : Jvm.MethodName)) ∈ lw_all := lw_g (lw_at lw_m8 140 rfl) rfl
theorem q1956 : (Jvm.Cond.selects "QuarrelsPawnedModel" ({ cls := "QuarrelsPawnedModel", name := "cost", desc := "(II)I" } : Jvm.MethodName) ({ cls := "QuarrelsPawnedModel", name := "cost", desc := "(II)I" } : Jvm.MethodName)) ∈ lw_all := lw_g (lw_at lw_m8 141 rfl) rfl
theorem q1957 : (Jvm.Cond.code ({ cls := "QuarrelsPawnedModel", name := "cost", desc := "(II)I" } : Jvm.MethodName) prog_20_method_113_code (3 : Nat) (Option.some Jvm.ClassFile.FieldType.int)) ∈ lw_all := lw_g (lw_at lw_m8 142 rfl) rfl
theorem q1958 : (Jvm.Cond.methodLink "QuarrelsPawnedModel" (420 : Nat) ({ cls := "QuarrelsPawnedModel", name := "costOf", desc := "(II)I" } : Jvm.MethodName)) ∈ lw_all := lw_g (lw_at lw_m8 143 rfl) rfl
theorem q1959 : (Jvm.Cond.privateMethod ({ cls := "QuarrelsPawnedModel", name := "costOf", desc := "(II)I" } : Jvm.MethodName)) ∈ lw_tbl := lw_at lw_m8 144 rfl
theorem q1960 : (Jvm.Cond.instanceMethod ({ cls := "QuarrelsPawnedModel", name := "costOf", desc := "(II)I" } : Jvm.MethodName)) ∈ lw_all := lw_g (lw_at lw_m8 145 rfl) rfl
theorem q1961 : (Jvm.Cond.code ({ cls := "QuarrelsPawnedModel", name := "costOf", desc := "(II)I" } : Jvm.MethodName) prog_20_method_104_code (5 : Nat) (Option.some Jvm.ClassFile.FieldType.int)) ∈ lw_all := lw_g (lw_at lw_m8 146 rfl) rfl
theorem q1963 : (Jvm.Cond.instanceMethod ({ cls := "QuarrelsPawnedModel", name := "word", desc := "(II)I" } : Jvm.MethodName)) ∈ lw_all := lw_g (lw_at lw_m8 148 rfl) rfl
theorem q1964 : (Jvm.Cond.selects "QuarrelsPawnedModel" ({ cls := "QuarrelsPawnedModel", name := "word", desc := "(II)I" } : Jvm.MethodName) ({ cls := "QuarrelsPawnedModel", name := "word", desc := "(II)I" } : Jvm.MethodName)) ∈ lw_all := lw_g (lw_at lw_m8 149 rfl) rfl
theorem q1965 : (Jvm.Cond.code ({ cls := "QuarrelsPawnedModel", name := "word", desc := "(II)I" } : Jvm.MethodName) prog_20_method_116_code (3 : Nat) (Option.some Jvm.ClassFile.FieldType.int)) ∈ lw_all := lw_g (lw_at lw_m8 150 rfl) rfl
theorem q1966 : (Jvm.Cond.methodLink "QuarrelsPawnedModel" (427 : Nat) ({ cls := "QuarrelsPawnedModel", name := "layFar", desc := "(I)V" } : Jvm.MethodName)) ∈ lw_all := lw_g (lw_at lw_m8 151 rfl) rfl
theorem q1967 : (Jvm.Cond.privateMethod ({ cls := "QuarrelsPawnedModel", name := "layFar", desc := "(I)V" } : Jvm.MethodName)) ∈ lw_tbl := lw_at lw_m8 152 rfl
theorem q1968 : (Jvm.Cond.instanceMethod ({ cls := "QuarrelsPawnedModel", name := "layFar", desc := "(I)V" } : Jvm.MethodName)) ∈ lw_all := lw_g (lw_at lw_m8 153 rfl) rfl
theorem q1969 : (Jvm.Cond.code ({ cls := "QuarrelsPawnedModel", name := "layFar", desc := "(I)V" } : Jvm.MethodName) prog_20_method_115_code (5 : Nat) (Option.none : Option Jvm.ClassFile.FieldType)) ∈ lw_all := lw_g (lw_at lw_m8 154 rfl) rfl
theorem q1970 : (Jvm.Cond.constant "QuarrelsPawnedModel" (423 : Nat) (1000000 : Int32)) ∈ lw_all := lw_g (lw_at lw_m8 155 rfl) rfl
theorem q1971 : (Jvm.Cond.methodLink "QuarrelsPawnedModel" (424 : Nat) ({ cls := "QuarrelsPawnedModel", name := "isNearer", desc := "(III)Z" } : Jvm.MethodName)) ∈ lw_all := lw_g (lw_at lw_m8 156 rfl) rfl
theorem q1972 : (Jvm.Cond.privateMethod ({ cls := "QuarrelsPawnedModel", name := "isNearer", desc := "(III)Z" } : Jvm.MethodName)) ∈ lw_tbl := lw_at lw_m8 157 rfl
theorem q1973 : (Jvm.Cond.instanceMethod ({ cls := "QuarrelsPawnedModel", name := "isNearer", desc := "(III)Z" } : Jvm.MethodName)) ∈ lw_all := lw_g (lw_at lw_m8 158 rfl) rfl
theorem q1974 : (Jvm.Cond.code ({ cls := "QuarrelsPawnedModel", name := "isNearer", desc := "(III)Z" } : Jvm.MethodName) prog_20_method_114_code (4 : Nat) (Option.some Jvm.ClassFile.FieldType.boolean)) ∈ lw_all := lw_g (lw_at lw_m8 159 rfl) rfl
theorem q1976 : (Jvm.Cond.instanceMethod ({ cls := "QuarrelsPawnedModel", name := "way", desc := "(III)I" } : Jvm.MethodName)) ∈ lw_all := lw_g (lw_at lw_m8 161 rfl) rfl
theorem q1977 : (Jvm.Cond.selects "QuarrelsPawnedModel" ({ cls := "QuarrelsPawnedModel", name := "way", desc := "(III)I" } : Jvm.MethodName) ({ cls := "QuarrelsPawnedModel", name := "way", desc := "(III)I" } : Jvm.MethodName)) ∈ lw_all := lw_g (lw_at lw_m8 162 rfl) rfl
theorem q1978 : (Jvm.Cond.code ({ cls := "QuarrelsPawnedModel", name := "way", desc := "(III)I" } : Jvm.MethodName) prog_20_method_118_code (6 : Nat) (Option.some Jvm.ClassFile.FieldType.int)) ∈ lw_all := lw_g (lw_at lw_m8 163 rfl) rfl
theorem q1979 : (Jvm.Cond.methodLink "QuarrelsPawnedModel" (430 : Nat) ({ cls := "QuarrelsPawnedModel", name := "word", desc := "(II)I" } : Jvm.MethodName)) ∈ lw_all := lw_g (lw_at lw_m8 164 rfl) rfl
theorem q1980 : (Jvm.Cond.methodLink "QuarrelsPawnedModel" (433 : Nat) ({ cls := "QuarrelsPawnedModel", name := "nextOf", desc := "(I)I" } : Jvm.MethodName)) ∈ lw_all := lw_g (lw_at lw_m8 165 rfl) rfl
theorem q1981 : (Jvm.Cond.privateMethod ({ cls := "QuarrelsPawnedModel", name := "nextOf", desc := "(I)I" } : Jvm.MethodName)) ∈ lw_tbl := lw_at lw_m8 166 rfl
theorem q1982 : (Jvm.Cond.instanceMethod ({ cls := "QuarrelsPawnedModel", name := "nextOf", desc := "(I)I" } : Jvm.MethodName)) ∈ lw_all := lw_g (lw_at lw_m8 167 rfl) rfl
theorem q1983 : (Jvm.Cond.code ({ cls := "QuarrelsPawnedModel", name := "nextOf", desc := "(I)I" } : Jvm.MethodName) prog_20_method_117_code (3 : Nat) (Option.some Jvm.ClassFile.FieldType.int)) ∈ lw_all := lw_g (lw_at lw_m8 168 rfl) rfl
theorem q1985 : (Jvm.Cond.instanceMethod ({ cls := "QuarrelsPawnedModel", name := "all", desc := "()I" } : Jvm.MethodName)) ∈ lw_all := lw_g (lw_at lw_m8 170 rfl) rfl
theorem q1986 : (Jvm.Cond.selects "QuarrelsPawnedModel" ({ cls := "QuarrelsPawnedModel", name := "all", desc := "()I" } : Jvm.MethodName) ({ cls := "QuarrelsPawnedModel", name := "all", desc := "()I" } : Jvm.MethodName)) ∈ lw_all := lw_g (lw_at lw_m8 171 rfl) rfl
theorem q1987 : (Jvm.Cond.code ({ cls := "QuarrelsPawnedModel", name := "all", desc := "()I" } : Jvm.MethodName) prog_20_method_119_code (8 : Nat) (Option.some Jvm.ClassFile.FieldType.int)) ∈ lw_all := lw_g (lw_at lw_m8 172 rfl) rfl
theorem q1989 : (Jvm.Cond.instanceMethod ({ cls := "QuarrelsPawnedModel", name := "cut", desc := "(II)I" } : Jvm.MethodName)) ∈ lw_all := lw_g (lw_at lw_m8 174 rfl) rfl
theorem q1990 : (Jvm.Cond.selects "QuarrelsPawnedModel" ({ cls := "QuarrelsPawnedModel", name := "cut", desc := "(II)I" } : Jvm.MethodName) ({ cls := "QuarrelsPawnedModel", name := "cut", desc := "(II)I" } : Jvm.MethodName)) ∈ lw_all := lw_g (lw_at lw_m8 175 rfl) rfl
theorem q1991 : (Jvm.Cond.code ({ cls := "QuarrelsPawnedModel", name := "cut", desc := "(II)I" } : Jvm.MethodName) prog_20_method_120_code (8 : Nat) (Option.some Jvm.ClassFile.FieldType.int)) ∈ lw_all := lw_g (lw_at lw_m8 176 rfl) rfl
theorem q1993 : (Jvm.Cond.instanceMethod ({ cls := "QuarrelsPawnedModel", name := "cool", desc := "(I)I" } : Jvm.MethodName)) ∈ lw_all := lw_g (lw_at lw_m8 178 rfl) rfl
theorem q1994 : (Jvm.Cond.selects "QuarrelsPawnedModel" ({ cls := "QuarrelsPawnedModel", name := "cool", desc := "(I)I" } : Jvm.MethodName) ({ cls := "QuarrelsPawnedModel", name := "cool", desc := "(I)I" } : Jvm.MethodName)) ∈ lw_all := lw_g (lw_at lw_m8 179 rfl) rfl
theorem q1995 : (Jvm.Cond.code ({ cls := "QuarrelsPawnedModel", name := "cool", desc := "(I)I" } : Jvm.MethodName) prog_20_method_122_code (5 : Nat) (Option.some Jvm.ClassFile.FieldType.int)) ∈ lw_all := lw_g (lw_at lw_m8 180 rfl) rfl
theorem q1996 : (Jvm.Cond.methodLink "QuarrelsPawnedModel" (436 : Nat) ({ cls := "QuarrelsPawnedModel", name := "heatOfAll", desc := "(I)I" } : Jvm.MethodName)) ∈ lw_all := lw_g (lw_at lw_m8 181 rfl) rfl
theorem q1997 : (Jvm.Cond.privateMethod ({ cls := "QuarrelsPawnedModel", name := "heatOfAll", desc := "(I)I" } : Jvm.MethodName)) ∈ lw_tbl := lw_at lw_m8 182 rfl
theorem q1998 : (Jvm.Cond.instanceMethod ({ cls := "QuarrelsPawnedModel", name := "heatOfAll", desc := "(I)I" } : Jvm.MethodName)) ∈ lw_all := lw_g (lw_at lw_m8 183 rfl) rfl
theorem q1999 : (Jvm.Cond.code ({ cls := "QuarrelsPawnedModel", name := "heatOfAll", desc := "(I)I" } : Jvm.MethodName) prog_20_method_121_code (4 : Nat) (Option.some Jvm.ClassFile.FieldType.int)) ∈ lw_all := lw_g (lw_at lw_m8 184 rfl) rfl
theorem q2001 : (Jvm.Cond.instanceMethod ({ cls := "QuarrelsPawnedModel", name := "plan", desc := "(II)I" } : Jvm.MethodName)) ∈ lw_all := lw_g (lw_at lw_m8 186 rfl) rfl
theorem q2002 : (Jvm.Cond.selects "QuarrelsPawnedModel" ({ cls := "QuarrelsPawnedModel", name := "plan", desc := "(II)I" } : Jvm.MethodName) ({ cls := "QuarrelsPawnedModel", name := "plan", desc := "(II)I" } : Jvm.MethodName)) ∈ lw_all := lw_g (lw_at lw_m8 187 rfl) rfl
theorem q2003 : (Jvm.Cond.code ({ cls := "QuarrelsPawnedModel", name := "plan", desc := "(II)I" } : Jvm.MethodName) prog_20_method_127_code (3 : Nat) (Option.some Jvm.ClassFile.FieldType.int)) ∈ lw_all := lw_g (lw_at lw_m8 188 rfl) rfl
theorem q2004 : (Jvm.Cond.methodLink "QuarrelsPawnedModel" (458 : Nat) ({ cls := "QuarrelsPawnedModel", name := "layPlan", desc := "(I)V" } : Jvm.MethodName)) ∈ lw_all := lw_g (lw_at lw_m8 189 rfl) rfl
theorem q2005 : (Jvm.Cond.privateMethod ({ cls := "QuarrelsPawnedModel", name := "layPlan", desc := "(I)V" } : Jvm.MethodName)) ∈ lw_tbl := lw_at lw_m8 190 rfl
theorem q2006 : (Jvm.Cond.instanceMethod ({ cls := "QuarrelsPawnedModel", name := "layPlan", desc := "(I)V" } : Jvm.MethodName)) ∈ lw_all := lw_g (lw_at lw_m8 191 rfl) rfl
theorem q2007 : (Jvm.Cond.code ({ cls := "QuarrelsPawnedModel", name := "layPlan", desc := "(I)V" } : Jvm.MethodName) prog_20_method_126_code (6 : Nat) (Option.none : Option Jvm.ClassFile.FieldType)) ∈ lw_all := lw_g (lw_at lw_m8 192 rfl) rfl
theorem q2008 : (Jvm.Cond.methodLink "QuarrelsPawnedModel" (442 : Nat) ({ cls := "QuarrelsPawnedModel", name := "factorial", desc := "(I)I" } : Jvm.MethodName)) ∈ lw_all := lw_g (lw_at lw_m8 193 rfl) rfl
theorem q2009 : (Jvm.Cond.static ({ cls := "QuarrelsPawnedModel", name := "factorial", desc := "(I)I" } : Jvm.MethodName)) ∈ lw_all := lw_g (lw_at lw_m8 194 rfl) rfl
theorem q2010 : (Jvm.Cond.code ({ cls := "QuarrelsPawnedModel", name := "factorial", desc := "(I)I" } : Jvm.MethodName) prog_20_method_124_code (3 : Nat) (Option.some Jvm.ClassFile.FieldType.int)) ∈ lw_all := lw_g (lw_at lw_m8 195 rfl) rfl
theorem q2011 : (Jvm.Cond.methodLink "QuarrelsPawnedModel" (448 : Nat) ({ cls := "QuarrelsPawnedModel", name := "layOrder", desc := "(III)V" } : Jvm.MethodName)) ∈ lw_all := lw_g (lw_at lw_m8 196 rfl) rfl
theorem q2012 : (Jvm.Cond.privateMethod ({ cls := "QuarrelsPawnedModel", name := "layOrder", desc := "(III)V" } : Jvm.MethodName)) ∈ lw_tbl := lw_at lw_m8 197 rfl
theorem q2013 : (Jvm.Cond.instanceMethod ({ cls := "QuarrelsPawnedModel", name := "layOrder", desc := "(III)V" } : Jvm.MethodName)) ∈ lw_all := lw_g (lw_at lw_m8 198 rfl) rfl
theorem q2014 : (Jvm.Cond.code ({ cls := "QuarrelsPawnedModel", name := "layOrder", desc := "(III)V" } : Jvm.MethodName) prog_20_method_125_code (9 : Nat) (Option.none : Option Jvm.ClassFile.FieldType)) ∈ lw_all := lw_g (lw_at lw_m8 199 rfl) rfl
theorem q2015 : (Jvm.Cond.methodLink "QuarrelsPawnedModel" (452 : Nat) ({ cls := "QuarrelsPawnedModel", name := "doneBy", desc := "(I)I" } : Jvm.MethodName)) ∈ lw_all := lw_g (lw_at lw_m8 200 rfl) rfl
theorem q2016 : (Jvm.Cond.privateMethod ({ cls := "QuarrelsPawnedModel", name := "doneBy", desc := "(I)I" } : Jvm.MethodName)) ∈ lw_tbl := lw_at lw_m8 201 rfl
theorem q2017 : (Jvm.Cond.instanceMethod ({ cls := "QuarrelsPawnedModel", name := "doneBy", desc := "(I)I" } : Jvm.MethodName)) ∈ lw_all := lw_g (lw_at lw_m8 202 rfl) rfl
theorem q2018 : (Jvm.Cond.code ({ cls := "QuarrelsPawnedModel", name := "doneBy", desc := "(I)I" } : Jvm.MethodName) prog_20_method_123_code (6 : Nat) (Option.some Jvm.ClassFile.FieldType.int)) ∈ lw_all := lw_g (lw_at lw_m8 203 rfl) rfl
theorem q2020 : (Jvm.Cond.instanceMethod ({ cls := "QuarrelsPawnedModel", name := "best", desc := "(IIZ)I" } : Jvm.MethodName)) ∈ lw_all := lw_g (lw_at lw_m8 205 rfl) rfl
theorem q2021 : (Jvm.Cond.selects "QuarrelsPawnedModel" ({ cls := "QuarrelsPawnedModel", name := "best", desc := "(IIZ)I" } : Jvm.MethodName) ({ cls := "QuarrelsPawnedModel", name := "best", desc := "(IIZ)I" } : Jvm.MethodName)) ∈ lw_all := lw_g (lw_at lw_m8 206 rfl) rfl
theorem q2022 : (Jvm.Cond.code ({ cls := "QuarrelsPawnedModel", name := "best", desc := "(IIZ)I" } : Jvm.MethodName) prog_20_method_128_code (8 : Nat) (Option.some Jvm.ClassFile.FieldType.int)) ∈ lw_all := lw_g (lw_at lw_m8 207 rfl) rfl
theorem q2024 : (Jvm.Cond.instanceMethod ({ cls := "QuarrelsPawnedModel", name := "tickets", desc := "(I)I" } : Jvm.MethodName)) ∈ lw_all := lw_g (lw_at lw_m8 209 rfl) rfl
theorem q2025 : (Jvm.Cond.selects "QuarrelsPawnedModel" ({ cls := "QuarrelsPawnedModel", name := "tickets", desc := "(I)I" } : Jvm.MethodName) ({ cls := "QuarrelsPawnedModel", name := "tickets", desc := "(I)I" } : Jvm.MethodName)) ∈ lw_all := lw_g (lw_at lw_m8 210 rfl) rfl
theorem q2026 : (Jvm.Cond.code ({ cls := "QuarrelsPawnedModel", name := "tickets", desc := "(I)I" } : Jvm.MethodName) prog_20_method_131_code (5 : Nat) (Option.some Jvm.ClassFile.FieldType.int)) ∈ lw_all := lw_g (lw_at lw_m8 211 rfl) rfl
theorem q2027 : (Jvm.Cond.methodLink "QuarrelsPawnedModel" (464 : Nat) ({ cls := "QuarrelsPawnedModel", name := "isTicket", desc := "(I)Z" } : Jvm.MethodName)) ∈ lw_all := lw_g (lw_at lw_m8 212 rfl) rfl
theorem q2028 : (Jvm.Cond.privateMethod ({ cls := "QuarrelsPawnedModel", name := "isTicket", desc := "(I)Z" } : Jvm.MethodName)) ∈ lw_tbl := lw_at lw_m8 213 rfl
theorem q2029 : (Jvm.Cond.instanceMethod ({ cls := "QuarrelsPawnedModel", name := "isTicket", desc := "(I)Z" } : Jvm.MethodName)) ∈ lw_all := lw_g (lw_at lw_m8 214 rfl) rfl
theorem q2030 : (Jvm.Cond.code ({ cls := "QuarrelsPawnedModel", name := "isTicket", desc := "(I)Z" } : Jvm.MethodName) prog_20_method_130_code (3 : Nat) (Option.some Jvm.ClassFile.FieldType.boolean)) ∈ lw_all := lw_g (lw_at lw_m8 215 rfl) rfl
theorem q2031 : (Jvm.Cond.methodLink "QuarrelsPawnedModel" (461 : Nat) ({ cls := "QuarrelsPawnedModel", name := "digitOf", desc := "(II)I" } : Jvm.MethodName)) ∈ lw_all := lw_g (lw_at lw_m8 216 rfl) rfl
theorem q2032 : (Jvm.Cond.static ({ cls := "QuarrelsPawnedModel", name := "digitOf", desc := "(II)I" } : Jvm.MethodName)) ∈ lw_all := lw_g (lw_at lw_m8 217 rfl) rfl
theorem q2033 : (Jvm.Cond.code ({ cls := "QuarrelsPawnedModel", name := "digitOf", desc := "(II)I" } : Jvm.MethodName) prog_20_method_129_code (2 : Nat) (Option.some Jvm.ClassFile.FieldType.int)) ∈ lw_all := lw_g (lw_at lw_m8 218 rfl) rfl
theorem q2035 : (Jvm.Cond.instanceMethod ({ cls := "QuarrelsPawnedModel", name := "hook", desc := "(I)I" } : Jvm.MethodName)) ∈ lw_all := lw_g (lw_at lw_m8 220 rfl) rfl
theorem q2036 : (Jvm.Cond.selects "QuarrelsPawnedModel" ({ cls := "QuarrelsPawnedModel", name := "hook", desc := "(I)I" } : Jvm.MethodName) ({ cls := "QuarrelsPawnedModel", name := "hook", desc := "(I)I" } : Jvm.MethodName)) ∈ lw_all := lw_g (lw_at lw_m8 221 rfl) rfl
theorem q2037 : (Jvm.Cond.code ({ cls := "QuarrelsPawnedModel", name := "hook", desc := "(I)I" } : Jvm.MethodName) prog_20_method_132_code (2 : Nat) (Option.some Jvm.ClassFile.FieldType.int)) ∈ lw_all := lw_g (lw_at lw_m8 222 rfl) rfl
theorem q2039 : (Jvm.Cond.instanceMethod ({ cls := "QuarrelsPawnedModel", name := "hung", desc := "(II)I" } : Jvm.MethodName)) ∈ lw_all := lw_g (lw_at lw_m8 224 rfl) rfl
theorem q2040 : (Jvm.Cond.selects "QuarrelsPawnedModel" ({ cls := "QuarrelsPawnedModel", name := "hung", desc := "(II)I" } : Jvm.MethodName) ({ cls := "QuarrelsPawnedModel", name := "hung", desc := "(II)I" } : Jvm.MethodName)) ∈ lw_all := lw_g (lw_at lw_m8 225 rfl) rfl
theorem q2041 : (Jvm.Cond.code ({ cls := "QuarrelsPawnedModel", name := "hung", desc := "(II)I" } : Jvm.MethodName) prog_20_method_135_code (3 : Nat) (Option.some Jvm.ClassFile.FieldType.int)) ∈ lw_all := lw_g (lw_at lw_m8 226 rfl) rfl
theorem q2042 : (Jvm.Cond.methodLink "QuarrelsPawnedModel" (476 : Nat) ({ cls := "QuarrelsPawnedModel", name := "layHung", desc := "(I)V" } : Jvm.MethodName)) ∈ lw_all := lw_g (lw_at lw_m8 227 rfl) rfl
theorem q2043 : (Jvm.Cond.privateMethod ({ cls := "QuarrelsPawnedModel", name := "layHung", desc := "(I)V" } : Jvm.MethodName)) ∈ lw_tbl := lw_at lw_m8 228 rfl
theorem q2044 : (Jvm.Cond.instanceMethod ({ cls := "QuarrelsPawnedModel", name := "layHung", desc := "(I)V" } : Jvm.MethodName)) ∈ lw_all := lw_g (lw_at lw_m8 229 rfl) rfl
theorem q2045 : (Jvm.Cond.code ({ cls := "QuarrelsPawnedModel", name := "layHung", desc := "(I)V" } : Jvm.MethodName) prog_20_method_134_code (4 : Nat) (Option.none : Option Jvm.ClassFile.FieldType)) ∈ lw_all := lw_g (lw_at lw_m8 230 rfl) rfl
theorem q2046 : (Jvm.Cond.methodLink "QuarrelsPawnedModel" (470 : Nat) ({ cls := "QuarrelsPawnedModel", name := "noteHung", desc := "()V" } : Jvm.MethodName)) ∈ lw_all := lw_g (lw_at lw_m8 231 rfl) rfl
theorem q2047 : (Jvm.Cond.privateMethod ({ cls := "QuarrelsPawnedModel", name := "noteHung", desc := "()V" } : Jvm.MethodName)) ∈ lw_tbl := lw_at lw_m8 232 rfl
theorem q2048 : (Jvm.Cond.instanceMethod ({ cls := "QuarrelsPawnedModel", name := "noteHung", desc := "()V" } : Jvm.MethodName)) ∈ lw_all := lw_g (lw_at lw_m8 233 rfl) rfl
theorem q2049 : (Jvm.Cond.code ({ cls := "QuarrelsPawnedModel", name := "noteHung", desc := "()V" } : Jvm.MethodName) prog_20_method_133_code (2 : Nat) (Option.none : Option Jvm.ClassFile.FieldType)) ∈ lw_all := lw_g (lw_at lw_m8 234 rfl) rfl
theorem q2050 : (Jvm.Cond.methodLink "QuarrelsPawnedModel" (473 : Nat) ({ cls := "QuarrelsPawnedModel", name := "size", desc := "(I)I" } : Jvm.MethodName)) ∈ lw_all := lw_g (lw_at lw_m8 235 rfl) rfl
theorem q2051 : (Jvm.Cond.static ({ cls := "QuarrelsPawnedModel", name := "size", desc := "(I)I" } : Jvm.MethodName)) ∈ lw_all := lw_g (lw_at lw_m8 236 rfl) rfl
theorem q2052 : (Jvm.Cond.code ({ cls := "QuarrelsPawnedModel", name := "size", desc := "(I)I" } : Jvm.MethodName) prog_20_method_5_code (1 : Nat) (Option.some Jvm.ClassFile.FieldType.int)) ∈ lw_all := lw_g (lw_at lw_m8 237 rfl) rfl
theorem q2054 : (Jvm.Cond.instanceMethod ({ cls := "QuarrelsPawnedModel", name := "look", desc := "(I)I" } : Jvm.MethodName)) ∈ lw_all := lw_g (lw_at lw_m8 239 rfl) rfl
theorem q2055 : (Jvm.Cond.selects "QuarrelsPawnedModel" ({ cls := "QuarrelsPawnedModel", name := "look", desc := "(I)I" } : Jvm.MethodName) ({ cls := "QuarrelsPawnedModel", name := "look", desc := "(I)I" } : Jvm.MethodName)) ∈ lw_all := lw_g (lw_at lw_m9 0 rfl) rfl
theorem q2056 : (Jvm.Cond.code ({ cls := "QuarrelsPawnedModel", name := "look", desc := "(I)I" } : Jvm.MethodName) prog_20_method_136_code (7 : Nat) (Option.some Jvm.ClassFile.FieldType.int)) ∈ lw_all := lw_g (lw_at lw_m9 1 rfl) rfl
theorem q2058 : (Jvm.Cond.instanceMethod ({ cls := "QuarrelsPawnedModel", name := "bid", desc := "(IZ)I" } : Jvm.MethodName)) ∈ lw_all := lw_g (lw_at lw_m9 3 rfl) rfl
theorem q2059 : (Jvm.Cond.selects "QuarrelsPawnedModel" ({ cls := "QuarrelsPawnedModel", name := "bid", desc := "(IZ)I" } : Jvm.MethodName) ({ cls := "QuarrelsPawnedModel", name := "bid", desc := "(IZ)I" } : Jvm.MethodName)) ∈ lw_all := lw_g (lw_at lw_m9 4 rfl) rfl
theorem q2060 : (Jvm.Cond.code ({ cls := "QuarrelsPawnedModel", name := "bid", desc := "(IZ)I" } : Jvm.MethodName) prog_20_method_137_code (3 : Nat) (Option.some Jvm.ClassFile.FieldType.int)) ∈ lw_all := lw_g (lw_at lw_m9 5 rfl) rfl
theorem q2062 : (Jvm.Cond.instanceMethod ({ cls := "QuarrelsPawnedModel", name := "market", desc := "(I)I" } : Jvm.MethodName)) ∈ lw_all := lw_g (lw_at lw_m9 7 rfl) rfl
theorem q2063 : (Jvm.Cond.selects "QuarrelsPawnedModel" ({ cls := "QuarrelsPawnedModel", name := "market", desc := "(I)I" } : Jvm.MethodName) ({ cls := "QuarrelsPawnedModel", name := "market", desc := "(I)I" } : Jvm.MethodName)) ∈ lw_all := lw_g (lw_at lw_m9 8 rfl) rfl
theorem q2064 : (Jvm.Cond.code ({ cls := "QuarrelsPawnedModel", name := "market", desc := "(I)I" } : Jvm.MethodName) prog_20_method_140_code (5 : Nat) (Option.some Jvm.ClassFile.FieldType.int)) ∈ lw_all := lw_g (lw_at lw_m9 9 rfl) rfl
theorem q2065 : (Jvm.Cond.methodLink "QuarrelsPawnedModel" (489 : Nat) ({ cls := "QuarrelsPawnedModel", name := "layMarket", desc := "()I" } : Jvm.MethodName)) ∈ lw_all := lw_g (lw_at lw_m9 10 rfl) rfl
theorem q2066 : (Jvm.Cond.privateMethod ({ cls := "QuarrelsPawnedModel", name := "layMarket", desc := "()I" } : Jvm.MethodName)) ∈ lw_tbl := lw_at lw_m9 11 rfl
theorem q2067 : (Jvm.Cond.instanceMethod ({ cls := "QuarrelsPawnedModel", name := "layMarket", desc := "()I" } : Jvm.MethodName)) ∈ lw_all := lw_g (lw_at lw_m9 12 rfl) rfl
theorem q2068 : (Jvm.Cond.code ({ cls := "QuarrelsPawnedModel", name := "layMarket", desc := "()I" } : Jvm.MethodName) prog_20_method_139_code (2 : Nat) (Option.some Jvm.ClassFile.FieldType.int)) ∈ lw_all := lw_g (lw_at lw_m9 13 rfl) rfl
theorem q2069 : (Jvm.Cond.methodLink "QuarrelsPawnedModel" (485 : Nat) ({ cls := "QuarrelsPawnedModel", name := "lay", desc := "([IIIZ)V" } : Jvm.MethodName)) ∈ lw_all := lw_g (lw_at lw_m9 14 rfl) rfl
theorem q2070 : (Jvm.Cond.static ({ cls := "QuarrelsPawnedModel", name := "lay", desc := "([IIIZ)V" } : Jvm.MethodName)) ∈ lw_all := lw_g (lw_at lw_m9 15 rfl) rfl
theorem q2071 : (Jvm.Cond.code ({ cls := "QuarrelsPawnedModel", name := "lay", desc := "([IIIZ)V" } : Jvm.MethodName) prog_20_method_138_code (5 : Nat) (Option.none : Option Jvm.ClassFile.FieldType)) ∈ lw_all := lw_g (lw_at lw_m9 16 rfl) rfl
theorem q2073 : (Jvm.Cond.instanceMethod ({ cls := "QuarrelsPawnedModel", name := "gain", desc := "()I" } : Jvm.MethodName)) ∈ lw_all := lw_g (lw_at lw_m9 18 rfl) rfl
theorem q2074 : (Jvm.Cond.selects "QuarrelsPawnedModel" ({ cls := "QuarrelsPawnedModel", name := "gain", desc := "()I" } : Jvm.MethodName) ({ cls := "QuarrelsPawnedModel", name := "gain", desc := "()I" } : Jvm.MethodName)) ∈ lw_all := lw_g (lw_at lw_m9 19 rfl) rfl
theorem q2075 : (Jvm.Cond.code ({ cls := "QuarrelsPawnedModel", name := "gain", desc := "()I" } : Jvm.MethodName) prog_20_method_141_code (4 : Nat) (Option.some Jvm.ClassFile.FieldType.int)) ∈ lw_all := lw_g (lw_at lw_m9 20 rfl) rfl
theorem q2077 : (Jvm.Cond.instanceMethod ({ cls := "QuarrelsPawnedModel", name := "said", desc := "(II)I" } : Jvm.MethodName)) ∈ lw_all := lw_g (lw_at lw_m9 22 rfl) rfl
theorem q2078 : (Jvm.Cond.selects "QuarrelsPawnedModel" ({ cls := "QuarrelsPawnedModel", name := "said", desc := "(II)I" } : Jvm.MethodName) ({ cls := "QuarrelsPawnedModel", name := "said", desc := "(II)I" } : Jvm.MethodName)) ∈ lw_all := lw_g (lw_at lw_m9 23 rfl) rfl
theorem q2079 : (Jvm.Cond.code ({ cls := "QuarrelsPawnedModel", name := "said", desc := "(II)I" } : Jvm.MethodName) prog_20_method_142_code (3 : Nat) (Option.some Jvm.ClassFile.FieldType.int)) ∈ lw_all := lw_g (lw_at lw_m9 24 rfl) rfl
theorem q2081 : (Jvm.Cond.instanceMethod ({ cls := "QuarrelsPawnedModel", name := "whose", desc := "()I" } : Jvm.MethodName)) ∈ lw_all := lw_g (lw_at lw_m9 26 rfl) rfl
theorem q2082 : (Jvm.Cond.selects "QuarrelsPawnedModel" ({ cls := "QuarrelsPawnedModel", name := "whose", desc := "()I" } : Jvm.MethodName) ({ cls := "QuarrelsPawnedModel", name := "whose", desc := "()I" } : Jvm.MethodName)) ∈ lw_all := lw_g (lw_at lw_m9 27 rfl) rfl
theorem q2083 : (Jvm.Cond.code ({ cls := "QuarrelsPawnedModel", name := "whose", desc := "()I" } : Jvm.MethodName) prog_20_method_143_code (5 : Nat) (Option.some Jvm.ClassFile.FieldType.int)) ∈ lw_all := lw_g (lw_at lw_m9 28 rfl) rfl
theorem q2085 : (Jvm.Cond.instanceMethod ({ cls := "QuarrelsPawnedModel", name := "image", desc := "()I" } : Jvm.MethodName)) ∈ lw_all := lw_g (lw_at lw_m9 30 rfl) rfl
theorem q2086 : (Jvm.Cond.selects "QuarrelsPawnedModel" ({ cls := "QuarrelsPawnedModel", name := "image", desc := "()I" } : Jvm.MethodName) ({ cls := "QuarrelsPawnedModel", name := "image", desc := "()I" } : Jvm.MethodName)) ∈ lw_all := lw_g (lw_at lw_m9 31 rfl) rfl
theorem q2087 : (Jvm.Cond.code ({ cls := "QuarrelsPawnedModel", name := "image", desc := "()I" } : Jvm.MethodName) prog_20_method_144_code (1 : Nat) (Option.some Jvm.ClassFile.FieldType.int)) ∈ lw_all := lw_g (lw_at lw_m9 32 rfl) rfl
theorem q2089 : (Jvm.Cond.instanceMethod ({ cls := "QuarrelsPawnedModel", name := "back", desc := "()I" } : Jvm.MethodName)) ∈ lw_all := lw_g (lw_at lw_m9 34 rfl) rfl
theorem q2090 : (Jvm.Cond.selects "QuarrelsPawnedModel" ({ cls := "QuarrelsPawnedModel", name := "back", desc := "()I" } : Jvm.MethodName) ({ cls := "QuarrelsPawnedModel", name := "back", desc := "()I" } : Jvm.MethodName)) ∈ lw_all := lw_g (lw_at lw_m9 35 rfl) rfl
theorem q2091 : (Jvm.Cond.code ({ cls := "QuarrelsPawnedModel", name := "back", desc := "()I" } : Jvm.MethodName) prog_20_method_145_code (1 : Nat) (Option.some Jvm.ClassFile.FieldType.int)) ∈ lw_all := lw_g (lw_at lw_m9 36 rfl) rfl
theorem q2093 : (Jvm.Cond.instanceMethod ({ cls := "QuarrelsPawnedModel", name := "about", desc := "(I)I" } : Jvm.MethodName)) ∈ lw_all := lw_g (lw_at lw_m9 38 rfl) rfl
theorem q2094 : (Jvm.Cond.selects "QuarrelsPawnedModel" ({ cls := "QuarrelsPawnedModel", name := "about", desc := "(I)I" } : Jvm.MethodName) ({ cls := "QuarrelsPawnedModel", name := "about", desc := "(I)I" } : Jvm.MethodName)) ∈ lw_all := lw_g (lw_at lw_m9 39 rfl) rfl
theorem q2095 : (Jvm.Cond.code ({ cls := "QuarrelsPawnedModel", name := "about", desc := "(I)I" } : Jvm.MethodName) prog_20_method_146_code (2 : Nat) (Option.some Jvm.ClassFile.FieldType.int)) ∈ lw_all := lw_g (lw_at lw_m9 40 rfl) rfl
theorem q2103 : (Jvm.Cond.castable "QuarrelsPawnedModel" "java/lang/Object") ∈ lw_tbl := lw_at lw_m9 48 rfl
theorem in_X2 : ∀ w ∈ wsX20, w ∈ lw_all := lw_in wsX20 [1446, 1448, 1450, 1452, 1454, 1456, 1458, 1460, 1462, 1464, 1466, 1468, 1470, 1472, 1474, 1476, 1478, 1480, 1482, 1484, 1486, 1488, 1490, 1492, 1494, 1496, 1498, 1500, 1502, 1504, 1506, 1508, 1510, 1512, 1514, 1516, 1518, 1520, 1522, 1524, 1526] (by decide +kernel) (by decide +kernel)
