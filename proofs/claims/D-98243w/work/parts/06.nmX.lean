/-! CheekTown$World -/
set_option maxRecDepth 100000
def RX2 : String := "CheekTown$World"
def TX2 : u_T := fun k => match k with
  | 0 => ("CheekTown$World", "texts", "I", false)
  | 1 => ("CheekTown$World", "lands", "I", false)
  | 2 => ("CheekTown$World", "habits", "I", false)
  | 3 => ("CheekTown$World", "people", "I", false)
  | 4 => ("CheekTown$World", "ties", "I", false)
  | 5 => ("CheekTown$World", "round", "I", false)
  | 6 => ("CheekTown$World", "meetings", "I", false)
  | 7 => ("CheekTown$World", "spent", "I", false)
  | 8 => ("CheekTown$World", "yielded", "I", false)
  | 9 => ("CheekTown$World", "minutes", "I", false)
  | 10 => ("CheekTown$World", "logged", "I", false)
  | 11 => ("CheekTown$World", "stomach", "I", false)
  | 12 => ("CheekTown$World", "air", "I", false)
  | 13 => ("CheekTown$World", "noses", "I", false)
  | 14 => ("CheekTown$World", "seed", "I", false)
  | 15 => ("CheekTown$World", "habitOf", "[I", true)
  | 16 => ("CheekTown$World", "habit", "[I", true)
  | 17 => ("CheekTown$World", "weight", "[I", true)
  | 18 => ("CheekTown$World", "land", "[I", true)
  | 19 => ("CheekTown$World", "own", "[I", true)
  | 20 => ("CheekTown$World", "rank", "[I", true)
  | 21 => ("CheekTown$World", "bent", "[I", true)
  | 22 => ("CheekTown$World", "cold", "[Z", true)
  | 23 => ("CheekTown$World", "met", "[I", true)
  | 24 => ("CheekTown$World", "saw", "[I", true)
  | 25 => ("CheekTown$World", "latest", "[I", true)
  | 26 => ("CheekTown$World", "before", "[I", true)
  | 27 => ("CheekTown$World", "one", "[I", true)
  | 28 => ("CheekTown$World", "other", "[I", true)
  | 29 => ("CheekTown$World", "log", "[I", true)
  | _ => ("CheekTown$World", "law", "LCheekTown$Law;", false)
def tyX2 : Nat → FieldType := fun k => match k with
  | 0 => .int
  | 1 => .int
  | 2 => .int
  | 3 => .int
  | 4 => .int
  | 5 => .int
  | 6 => .int
  | 7 => .int
  | 8 => .int
  | 9 => .int
  | 10 => .int
  | 11 => .int
  | 12 => .int
  | 13 => .int
  | 14 => .int
  | 15 => .array .int
  | 16 => .array .int
  | 17 => .array .int
  | 18 => .array .int
  | 19 => .array .int
  | 20 => .array .int
  | 21 => .array .int
  | 22 => .array .boolean
  | 23 => .array .int
  | 24 => .array .int
  | 25 => .array .int
  | 26 => .array .int
  | 27 => .array .int
  | 28 => .array .int
  | 29 => .array .int
  | _ => .object "CheekTown$Law"
abbrev wsX20 : List Cond := u_ws RX2 TX2 31
set_option maxRecDepth 100000 in
theorem nmX2 : ∀ a, a < 31 → ∀ b, b < 31 → a ≠ b → (TX2 a).2.1 ≠ (TX2 b).2.1 := by decide +kernel
set_option maxRecDepth 100000 in
theorem tyX2_ok : ∀ k, k < 31 → parseFieldDescriptor (TX2 k).2.2.1 = some (tyX2 k) := by decide +kernel
abbrev cX2_init : ByteArray := prog_19_method_1_code
def yX2_init : MethodName := ⟨RX2, "<init>", "()V"⟩
def dkwX2_init_6 : List UInt8 := [188, 10, 181, 0, 68, 177]
abbrev dktX2_init_6 : List UInt8 := dkwX2_init_6 ++ []
def dkwX2_init_5 : List UInt8 := [181, 0, 59, 42, 16, 24, 188, 10, 181, 0, 62, 42, 16, 24, 188, 10, 181, 0, 65, 42, 17, 1, 224]
abbrev dktX2_init_5 : List UInt8 := dkwX2_init_5 ++ dktX2_init_6
def dkwX2_init_4 : List UInt8 := [181, 0, 50, 42, 16, 100, 188, 10, 181, 0, 53, 42, 16, 10, 188, 10, 181, 0, 56, 42, 16, 10, 188, 10]
abbrev dktX2_init_4 : List UInt8 := dkwX2_init_4 ++ dktX2_init_5
def dkwX2_init_3 : List UInt8 := [181, 0, 40, 42, 16, 10, 188, 10, 181, 0, 43, 42, 16, 10, 188, 4, 181, 0, 46, 42, 16, 100, 188, 10]
abbrev dktX2_init_3 : List UInt8 := dkwX2_init_3 ++ dktX2_init_4
def dkwX2_init_2 : List UInt8 := [181, 0, 31, 42, 16, 10, 188, 10, 181, 0, 34, 42, 16, 10, 188, 10, 181, 0, 37, 42, 16, 10, 188, 10]
abbrev dktX2_init_2 : List UInt8 := dkwX2_init_2 ++ dktX2_init_3
def dkwX2_init_1 : List UInt8 := [181, 0, 21, 42, 16, 24, 188, 10, 181, 0, 24, 42, 16, 24, 188, 10, 181, 0, 28, 42, 16, 24, 188, 10]
abbrev dktX2_init_1 : List UInt8 := dkwX2_init_1 ++ dktX2_init_2
def dkwX2_init_0 : List UInt8 := [42, 183, 0, 3, 42, 16, 10, 181, 0, 9, 42, 5, 181, 0, 15, 42, 8, 181, 0, 18, 42, 4]
abbrev dktX2_init_0 : List UInt8 := dkwX2_init_0 ++ dktX2_init_1
theorem dksX2_init_0 : cX2_init.data.toList.drop 0 = dktX2_init_0 := by decide +kernel
theorem dksX2_init_1 : cX2_init.data.toList.drop 22 = dktX2_init_1 := dk_seg dksX2_init_0 22 rfl rfl
theorem dksX2_init_2 : cX2_init.data.toList.drop 46 = dktX2_init_2 := dk_seg dksX2_init_1 24 rfl rfl
theorem dksX2_init_3 : cX2_init.data.toList.drop 70 = dktX2_init_3 := dk_seg dksX2_init_2 24 rfl rfl
theorem dksX2_init_4 : cX2_init.data.toList.drop 94 = dktX2_init_4 := dk_seg dksX2_init_3 24 rfl rfl
theorem dksX2_init_5 : cX2_init.data.toList.drop 118 = dktX2_init_5 := dk_seg dksX2_init_4 24 rfl rfl
theorem dksX2_init_6 : cX2_init.data.toList.drop 141 = dktX2_init_6 := dk_seg dksX2_init_5 23 rfl rfl
theorem dX2_init_0 : decode cX2_init 0 = .ok (.aload_n 0, 1) := dk_42 (dk_at dksX2_init_0 0 rfl rfl)
theorem dX2_init_1 : decode cX2_init 1 = .ok (.invokespecial 3, 3) := dk_183 0 3 (dk_at dksX2_init_0 1 rfl rfl)
theorem dX2_init_4 : decode cX2_init 4 = .ok (.aload_n 0, 1) := dk_42 (dk_at dksX2_init_0 4 rfl rfl)
theorem dX2_init_5 : decode cX2_init 5 = .ok (.bipush 10, 2) := dk_16 10 (dk_at dksX2_init_0 5 rfl rfl)
theorem dX2_init_7 : decode cX2_init 7 = .ok (.putfield 9, 3) := dk_181 0 9 (dk_at dksX2_init_0 7 rfl rfl)
theorem dX2_init_10 : decode cX2_init 10 = .ok (.aload_n 0, 1) := dk_42 (dk_at dksX2_init_0 10 rfl rfl)
theorem dX2_init_11 : decode cX2_init 11 = .ok (.iconst 2, 1) := dk_5 (dk_at dksX2_init_0 11 rfl rfl)
theorem dX2_init_12 : decode cX2_init 12 = .ok (.putfield 15, 3) := dk_181 0 15 (dk_at dksX2_init_0 12 rfl rfl)
theorem dX2_init_15 : decode cX2_init 15 = .ok (.aload_n 0, 1) := dk_42 (dk_at dksX2_init_0 15 rfl rfl)
theorem dX2_init_16 : decode cX2_init 16 = .ok (.iconst 5, 1) := dk_8 (dk_at dksX2_init_0 16 rfl rfl)
theorem dX2_init_17 : decode cX2_init 17 = .ok (.putfield 18, 3) := dk_181 0 18 (dk_at dksX2_init_0 17 rfl rfl)
theorem dX2_init_20 : decode cX2_init 20 = .ok (.aload_n 0, 1) := dk_42 (dk_at dksX2_init_0 20 rfl rfl)
theorem dX2_init_21 : decode cX2_init 21 = .ok (.iconst 1, 1) := dk_4 (dk_at dksX2_init_0 21 rfl rfl)
theorem dX2_init_22 : decode cX2_init 22 = .ok (.putfield 21, 3) := dk_181 0 21 (dk_at dksX2_init_1 0 rfl rfl)
theorem dX2_init_25 : decode cX2_init 25 = .ok (.aload_n 0, 1) := dk_42 (dk_at dksX2_init_1 3 rfl rfl)
theorem dX2_init_26 : decode cX2_init 26 = .ok (.bipush 24, 2) := dk_16 24 (dk_at dksX2_init_1 4 rfl rfl)
theorem dX2_init_28 : decode cX2_init 28 = .ok (.newarray .int, 2) := dk_188_10 (dk_at dksX2_init_1 6 rfl rfl)
theorem dX2_init_30 : decode cX2_init 30 = .ok (.putfield 24, 3) := dk_181 0 24 (dk_at dksX2_init_1 8 rfl rfl)
theorem dX2_init_33 : decode cX2_init 33 = .ok (.aload_n 0, 1) := dk_42 (dk_at dksX2_init_1 11 rfl rfl)
theorem dX2_init_34 : decode cX2_init 34 = .ok (.bipush 24, 2) := dk_16 24 (dk_at dksX2_init_1 12 rfl rfl)
theorem dX2_init_36 : decode cX2_init 36 = .ok (.newarray .int, 2) := dk_188_10 (dk_at dksX2_init_1 14 rfl rfl)
theorem dX2_init_38 : decode cX2_init 38 = .ok (.putfield 28, 3) := dk_181 0 28 (dk_at dksX2_init_1 16 rfl rfl)
theorem dX2_init_41 : decode cX2_init 41 = .ok (.aload_n 0, 1) := dk_42 (dk_at dksX2_init_1 19 rfl rfl)
theorem dX2_init_42 : decode cX2_init 42 = .ok (.bipush 24, 2) := dk_16 24 (dk_at dksX2_init_1 20 rfl rfl)
theorem dX2_init_44 : decode cX2_init 44 = .ok (.newarray .int, 2) := dk_188_10 (dk_at dksX2_init_1 22 rfl rfl)
theorem dX2_init_46 : decode cX2_init 46 = .ok (.putfield 31, 3) := dk_181 0 31 (dk_at dksX2_init_2 0 rfl rfl)
theorem dX2_init_49 : decode cX2_init 49 = .ok (.aload_n 0, 1) := dk_42 (dk_at dksX2_init_2 3 rfl rfl)
theorem dX2_init_50 : decode cX2_init 50 = .ok (.bipush 10, 2) := dk_16 10 (dk_at dksX2_init_2 4 rfl rfl)
theorem dX2_init_52 : decode cX2_init 52 = .ok (.newarray .int, 2) := dk_188_10 (dk_at dksX2_init_2 6 rfl rfl)
theorem dX2_init_54 : decode cX2_init 54 = .ok (.putfield 34, 3) := dk_181 0 34 (dk_at dksX2_init_2 8 rfl rfl)
theorem dX2_init_57 : decode cX2_init 57 = .ok (.aload_n 0, 1) := dk_42 (dk_at dksX2_init_2 11 rfl rfl)
theorem dX2_init_58 : decode cX2_init 58 = .ok (.bipush 10, 2) := dk_16 10 (dk_at dksX2_init_2 12 rfl rfl)
theorem dX2_init_60 : decode cX2_init 60 = .ok (.newarray .int, 2) := dk_188_10 (dk_at dksX2_init_2 14 rfl rfl)
theorem dX2_init_62 : decode cX2_init 62 = .ok (.putfield 37, 3) := dk_181 0 37 (dk_at dksX2_init_2 16 rfl rfl)
theorem dX2_init_65 : decode cX2_init 65 = .ok (.aload_n 0, 1) := dk_42 (dk_at dksX2_init_2 19 rfl rfl)
theorem dX2_init_66 : decode cX2_init 66 = .ok (.bipush 10, 2) := dk_16 10 (dk_at dksX2_init_2 20 rfl rfl)
theorem dX2_init_68 : decode cX2_init 68 = .ok (.newarray .int, 2) := dk_188_10 (dk_at dksX2_init_2 22 rfl rfl)
theorem dX2_init_70 : decode cX2_init 70 = .ok (.putfield 40, 3) := dk_181 0 40 (dk_at dksX2_init_3 0 rfl rfl)
theorem dX2_init_73 : decode cX2_init 73 = .ok (.aload_n 0, 1) := dk_42 (dk_at dksX2_init_3 3 rfl rfl)
theorem dX2_init_74 : decode cX2_init 74 = .ok (.bipush 10, 2) := dk_16 10 (dk_at dksX2_init_3 4 rfl rfl)
theorem dX2_init_76 : decode cX2_init 76 = .ok (.newarray .int, 2) := dk_188_10 (dk_at dksX2_init_3 6 rfl rfl)
theorem dX2_init_78 : decode cX2_init 78 = .ok (.putfield 43, 3) := dk_181 0 43 (dk_at dksX2_init_3 8 rfl rfl)
theorem dX2_init_81 : decode cX2_init 81 = .ok (.aload_n 0, 1) := dk_42 (dk_at dksX2_init_3 11 rfl rfl)
theorem dX2_init_82 : decode cX2_init 82 = .ok (.bipush 10, 2) := dk_16 10 (dk_at dksX2_init_3 12 rfl rfl)
theorem dX2_init_84 : decode cX2_init 84 = .ok (.newarray .boolean, 2) := dk_188_4 (dk_at dksX2_init_3 14 rfl rfl)
theorem dX2_init_86 : decode cX2_init 86 = .ok (.putfield 46, 3) := dk_181 0 46 (dk_at dksX2_init_3 16 rfl rfl)
theorem dX2_init_89 : decode cX2_init 89 = .ok (.aload_n 0, 1) := dk_42 (dk_at dksX2_init_3 19 rfl rfl)
theorem dX2_init_90 : decode cX2_init 90 = .ok (.bipush 100, 2) := dk_16 100 (dk_at dksX2_init_3 20 rfl rfl)
theorem dX2_init_92 : decode cX2_init 92 = .ok (.newarray .int, 2) := dk_188_10 (dk_at dksX2_init_3 22 rfl rfl)
theorem dX2_init_94 : decode cX2_init 94 = .ok (.putfield 50, 3) := dk_181 0 50 (dk_at dksX2_init_4 0 rfl rfl)
theorem dX2_init_97 : decode cX2_init 97 = .ok (.aload_n 0, 1) := dk_42 (dk_at dksX2_init_4 3 rfl rfl)
theorem dX2_init_98 : decode cX2_init 98 = .ok (.bipush 100, 2) := dk_16 100 (dk_at dksX2_init_4 4 rfl rfl)
theorem dX2_init_100 : decode cX2_init 100 = .ok (.newarray .int, 2) := dk_188_10 (dk_at dksX2_init_4 6 rfl rfl)
theorem dX2_init_102 : decode cX2_init 102 = .ok (.putfield 53, 3) := dk_181 0 53 (dk_at dksX2_init_4 8 rfl rfl)
theorem dX2_init_105 : decode cX2_init 105 = .ok (.aload_n 0, 1) := dk_42 (dk_at dksX2_init_4 11 rfl rfl)
theorem dX2_init_106 : decode cX2_init 106 = .ok (.bipush 10, 2) := dk_16 10 (dk_at dksX2_init_4 12 rfl rfl)
theorem dX2_init_108 : decode cX2_init 108 = .ok (.newarray .int, 2) := dk_188_10 (dk_at dksX2_init_4 14 rfl rfl)
theorem dX2_init_110 : decode cX2_init 110 = .ok (.putfield 56, 3) := dk_181 0 56 (dk_at dksX2_init_4 16 rfl rfl)
theorem dX2_init_113 : decode cX2_init 113 = .ok (.aload_n 0, 1) := dk_42 (dk_at dksX2_init_4 19 rfl rfl)
theorem dX2_init_114 : decode cX2_init 114 = .ok (.bipush 10, 2) := dk_16 10 (dk_at dksX2_init_4 20 rfl rfl)
theorem dX2_init_116 : decode cX2_init 116 = .ok (.newarray .int, 2) := dk_188_10 (dk_at dksX2_init_4 22 rfl rfl)
theorem dX2_init_118 : decode cX2_init 118 = .ok (.putfield 59, 3) := dk_181 0 59 (dk_at dksX2_init_5 0 rfl rfl)
theorem dX2_init_121 : decode cX2_init 121 = .ok (.aload_n 0, 1) := dk_42 (dk_at dksX2_init_5 3 rfl rfl)
theorem dX2_init_122 : decode cX2_init 122 = .ok (.bipush 24, 2) := dk_16 24 (dk_at dksX2_init_5 4 rfl rfl)
theorem dX2_init_124 : decode cX2_init 124 = .ok (.newarray .int, 2) := dk_188_10 (dk_at dksX2_init_5 6 rfl rfl)
theorem dX2_init_126 : decode cX2_init 126 = .ok (.putfield 62, 3) := dk_181 0 62 (dk_at dksX2_init_5 8 rfl rfl)
theorem dX2_init_129 : decode cX2_init 129 = .ok (.aload_n 0, 1) := dk_42 (dk_at dksX2_init_5 11 rfl rfl)
theorem dX2_init_130 : decode cX2_init 130 = .ok (.bipush 24, 2) := dk_16 24 (dk_at dksX2_init_5 12 rfl rfl)
theorem dX2_init_132 : decode cX2_init 132 = .ok (.newarray .int, 2) := dk_188_10 (dk_at dksX2_init_5 14 rfl rfl)
theorem dX2_init_134 : decode cX2_init 134 = .ok (.putfield 65, 3) := dk_181 0 65 (dk_at dksX2_init_5 16 rfl rfl)
theorem dX2_init_137 : decode cX2_init 137 = .ok (.aload_n 0, 1) := dk_42 (dk_at dksX2_init_5 19 rfl rfl)
theorem dX2_init_138 : decode cX2_init 138 = .ok (.sipush 480, 3) := dk_17 1 224 (dk_at dksX2_init_5 20 rfl rfl)
theorem dX2_init_141 : decode cX2_init 141 = .ok (.newarray .int, 2) := dk_188_10 (dk_at dksX2_init_6 0 rfl rfl)
theorem dX2_init_143 : decode cX2_init 143 = .ok (.putfield 68, 3) := dk_181 0 68 (dk_at dksX2_init_6 2 rfl rfl)
theorem dX2_init_146 : decode cX2_init 146 = .ok (.return_, 1) := dk_177 (dk_at dksX2_init_6 5 rfl rfl)
abbrev cX2_cost : ByteArray := prog_19_method_9_code
def yX2_cost : MethodName := ⟨RX2, "cost", "(II)I"⟩
def dkwX2_cost_2 : List UInt8 := [62, 42, 180, 0, 15, 27, 184, 0, 137, 28, 184, 0, 137, 100, 184, 0, 140, 104, 29, 96, 172]
abbrev dktX2_cost_2 : List UInt8 := dkwX2_cost_2 ++ []
def dkwX2_cost_1 : List UInt8 := [154, 0, 5, 3, 172, 27, 184, 0, 133, 28, 184, 0, 133, 159, 0, 10, 42, 180, 0, 18, 167, 0, 4, 3]
abbrev dktX2_cost_1 : List UInt8 := dkwX2_cost_1 ++ dktX2_cost_2
def dkwX2_cost_0 : List UInt8 := [27, 16, 8, 108, 28, 16, 8, 108, 159, 0, 8, 42, 180, 0, 9, 172, 178, 0, 123, 27, 184, 0, 129]
abbrev dktX2_cost_0 : List UInt8 := dkwX2_cost_0 ++ dktX2_cost_1
theorem dksX2_cost_0 : cX2_cost.data.toList.drop 0 = dktX2_cost_0 := by decide +kernel
theorem dksX2_cost_1 : cX2_cost.data.toList.drop 23 = dktX2_cost_1 := dk_seg dksX2_cost_0 23 rfl rfl
theorem dksX2_cost_2 : cX2_cost.data.toList.drop 47 = dktX2_cost_2 := dk_seg dksX2_cost_1 24 rfl rfl
theorem dX2_cost_0 : decode cX2_cost 0 = .ok (.iload_n 1, 1) := dk_27 (dk_at dksX2_cost_0 0 rfl rfl)
theorem dX2_cost_1 : decode cX2_cost 1 = .ok (.bipush 8, 2) := dk_16 8 (dk_at dksX2_cost_0 1 rfl rfl)
theorem dX2_cost_3 : decode cX2_cost 3 = .ok (.idiv, 1) := dk_108 (dk_at dksX2_cost_0 3 rfl rfl)
theorem dX2_cost_4 : decode cX2_cost 4 = .ok (.iload_n 2, 1) := dk_28 (dk_at dksX2_cost_0 4 rfl rfl)
theorem dX2_cost_5 : decode cX2_cost 5 = .ok (.bipush 8, 2) := dk_16 8 (dk_at dksX2_cost_0 5 rfl rfl)
theorem dX2_cost_7 : decode cX2_cost 7 = .ok (.idiv, 1) := dk_108 (dk_at dksX2_cost_0 7 rfl rfl)
theorem dX2_cost_8 : decode cX2_cost 8 = .ok (.if_icmp .eq 8, 3) := dk_159 0 8 (dk_at dksX2_cost_0 8 rfl rfl)
theorem dX2_cost_11 : decode cX2_cost 11 = .ok (.aload_n 0, 1) := dk_42 (dk_at dksX2_cost_0 11 rfl rfl)
theorem dX2_cost_12 : decode cX2_cost 12 = .ok (.getfield 9, 3) := dk_180 0 9 (dk_at dksX2_cost_0 12 rfl rfl)
theorem dX2_cost_15 : decode cX2_cost 15 = .ok (.ireturn, 1) := dk_172 (dk_at dksX2_cost_0 15 rfl rfl)
theorem dX2_cost_16 : decode cX2_cost 16 = .ok (.getstatic 123, 3) := dk_178 0 123 (dk_at dksX2_cost_0 16 rfl rfl)
theorem dX2_cost_19 : decode cX2_cost 19 = .ok (.iload_n 1, 1) := dk_27 (dk_at dksX2_cost_0 19 rfl rfl)
theorem dX2_cost_20 : decode cX2_cost 20 = .ok (.invokestatic 129, 3) := dk_184 0 129 (dk_at dksX2_cost_0 20 rfl rfl)
theorem dX2_cost_23 : decode cX2_cost 23 = .ok (.ifCond .ne 5, 3) := dk_154 0 5 (dk_at dksX2_cost_1 0 rfl rfl)
theorem dX2_cost_26 : decode cX2_cost 26 = .ok (.iconst 0, 1) := dk_3 (dk_at dksX2_cost_1 3 rfl rfl)
theorem dX2_cost_27 : decode cX2_cost 27 = .ok (.ireturn, 1) := dk_172 (dk_at dksX2_cost_1 4 rfl rfl)
theorem dX2_cost_28 : decode cX2_cost 28 = .ok (.iload_n 1, 1) := dk_27 (dk_at dksX2_cost_1 5 rfl rfl)
theorem dX2_cost_29 : decode cX2_cost 29 = .ok (.invokestatic 133, 3) := dk_184 0 133 (dk_at dksX2_cost_1 6 rfl rfl)
theorem dX2_cost_32 : decode cX2_cost 32 = .ok (.iload_n 2, 1) := dk_28 (dk_at dksX2_cost_1 9 rfl rfl)
theorem dX2_cost_33 : decode cX2_cost 33 = .ok (.invokestatic 133, 3) := dk_184 0 133 (dk_at dksX2_cost_1 10 rfl rfl)
theorem dX2_cost_36 : decode cX2_cost 36 = .ok (.if_icmp .eq 10, 3) := dk_159 0 10 (dk_at dksX2_cost_1 13 rfl rfl)
theorem dX2_cost_39 : decode cX2_cost 39 = .ok (.aload_n 0, 1) := dk_42 (dk_at dksX2_cost_1 16 rfl rfl)
theorem dX2_cost_40 : decode cX2_cost 40 = .ok (.getfield 18, 3) := dk_180 0 18 (dk_at dksX2_cost_1 17 rfl rfl)
theorem dX2_cost_43 : decode cX2_cost 43 = .ok (.goto 4, 3) := dk_167 0 4 (dk_at dksX2_cost_1 20 rfl rfl)
theorem dX2_cost_46 : decode cX2_cost 46 = .ok (.iconst 0, 1) := dk_3 (dk_at dksX2_cost_1 23 rfl rfl)
theorem dX2_cost_47 : decode cX2_cost 47 = .ok (.istore_n 3, 1) := dk_62 (dk_at dksX2_cost_2 0 rfl rfl)
theorem dX2_cost_48 : decode cX2_cost 48 = .ok (.aload_n 0, 1) := dk_42 (dk_at dksX2_cost_2 1 rfl rfl)
theorem dX2_cost_49 : decode cX2_cost 49 = .ok (.getfield 15, 3) := dk_180 0 15 (dk_at dksX2_cost_2 2 rfl rfl)
theorem dX2_cost_52 : decode cX2_cost 52 = .ok (.iload_n 1, 1) := dk_27 (dk_at dksX2_cost_2 5 rfl rfl)
theorem dX2_cost_53 : decode cX2_cost 53 = .ok (.invokestatic 137, 3) := dk_184 0 137 (dk_at dksX2_cost_2 6 rfl rfl)
theorem dX2_cost_56 : decode cX2_cost 56 = .ok (.iload_n 2, 1) := dk_28 (dk_at dksX2_cost_2 9 rfl rfl)
theorem dX2_cost_57 : decode cX2_cost 57 = .ok (.invokestatic 137, 3) := dk_184 0 137 (dk_at dksX2_cost_2 10 rfl rfl)
theorem dX2_cost_60 : decode cX2_cost 60 = .ok (.isub, 1) := dk_100 (dk_at dksX2_cost_2 13 rfl rfl)
theorem dX2_cost_61 : decode cX2_cost 61 = .ok (.invokestatic 140, 3) := dk_184 0 140 (dk_at dksX2_cost_2 14 rfl rfl)
theorem dX2_cost_64 : decode cX2_cost 64 = .ok (.imul, 1) := dk_104 (dk_at dksX2_cost_2 17 rfl rfl)
theorem dX2_cost_65 : decode cX2_cost 65 = .ok (.iload_n 3, 1) := dk_29 (dk_at dksX2_cost_2 18 rfl rfl)
theorem dX2_cost_66 : decode cX2_cost 66 = .ok (.iadd, 1) := dk_96 (dk_at dksX2_cost_2 19 rfl rfl)
theorem dX2_cost_67 : decode cX2_cost 67 = .ok (.ireturn, 1) := dk_172 (dk_at dksX2_cost_2 20 rfl rfl)
abbrev cX2_tied : ByteArray := prog_19_method_6_code
def yX2_tied : MethodName := ⟨RX2, "tied", "(I)I"⟩
def dkwX2_tied_1 : List UInt8 := [29, 120, 167, 0, 4, 3, 128, 61, 132, 3, 1, 167, 255, 225, 28, 172]
abbrev dktX2_tied_1 : List UInt8 := dkwX2_tied_1 ++ []
def dkwX2_tied_0 : List UInt8 := [3, 61, 3, 62, 29, 42, 180, 0, 80, 162, 0, 29, 28, 42, 27, 29, 182, 0, 119, 2, 159, 0, 9, 4]
abbrev dktX2_tied_0 : List UInt8 := dkwX2_tied_0 ++ dktX2_tied_1
theorem dksX2_tied_0 : cX2_tied.data.toList.drop 0 = dktX2_tied_0 := by decide +kernel
theorem dksX2_tied_1 : cX2_tied.data.toList.drop 24 = dktX2_tied_1 := dk_seg dksX2_tied_0 24 rfl rfl
theorem dX2_tied_0 : decode cX2_tied 0 = .ok (.iconst 0, 1) := dk_3 (dk_at dksX2_tied_0 0 rfl rfl)
theorem dX2_tied_1 : decode cX2_tied 1 = .ok (.istore_n 2, 1) := dk_61 (dk_at dksX2_tied_0 1 rfl rfl)
theorem dX2_tied_2 : decode cX2_tied 2 = .ok (.iconst 0, 1) := dk_3 (dk_at dksX2_tied_0 2 rfl rfl)
theorem dX2_tied_3 : decode cX2_tied 3 = .ok (.istore_n 3, 1) := dk_62 (dk_at dksX2_tied_0 3 rfl rfl)
theorem dX2_tied_4 : decode cX2_tied 4 = .ok (.iload_n 3, 1) := dk_29 (dk_at dksX2_tied_0 4 rfl rfl)
theorem dX2_tied_5 : decode cX2_tied 5 = .ok (.aload_n 0, 1) := dk_42 (dk_at dksX2_tied_0 5 rfl rfl)
theorem dX2_tied_6 : decode cX2_tied 6 = .ok (.getfield 80, 3) := dk_180 0 80 (dk_at dksX2_tied_0 6 rfl rfl)
theorem dX2_tied_9 : decode cX2_tied 9 = .ok (.if_icmp .ge 29, 3) := dk_162 0 29 (dk_at dksX2_tied_0 9 rfl rfl)
theorem dX2_tied_12 : decode cX2_tied 12 = .ok (.iload_n 2, 1) := dk_28 (dk_at dksX2_tied_0 12 rfl rfl)
theorem dX2_tied_13 : decode cX2_tied 13 = .ok (.aload_n 0, 1) := dk_42 (dk_at dksX2_tied_0 13 rfl rfl)
theorem dX2_tied_14 : decode cX2_tied 14 = .ok (.iload_n 1, 1) := dk_27 (dk_at dksX2_tied_0 14 rfl rfl)
theorem dX2_tied_15 : decode cX2_tied 15 = .ok (.iload_n 3, 1) := dk_29 (dk_at dksX2_tied_0 15 rfl rfl)
theorem dX2_tied_16 : decode cX2_tied 16 = .ok (.invokevirtual 119, 3) := dk_182 0 119 (dk_at dksX2_tied_0 16 rfl rfl)
theorem dX2_tied_19 : decode cX2_tied 19 = .ok (.iconst (-1), 1) := dk_2 (dk_at dksX2_tied_0 19 rfl rfl)
theorem dX2_tied_20 : decode cX2_tied 20 = .ok (.if_icmp .eq 9, 3) := dk_159 0 9 (dk_at dksX2_tied_0 20 rfl rfl)
theorem dX2_tied_23 : decode cX2_tied 23 = .ok (.iconst 1, 1) := dk_4 (dk_at dksX2_tied_0 23 rfl rfl)
theorem dX2_tied_24 : decode cX2_tied 24 = .ok (.iload_n 3, 1) := dk_29 (dk_at dksX2_tied_1 0 rfl rfl)
theorem dX2_tied_25 : decode cX2_tied 25 = .ok (.ishl, 1) := dk_120 (dk_at dksX2_tied_1 1 rfl rfl)
theorem dX2_tied_26 : decode cX2_tied 26 = .ok (.goto 4, 3) := dk_167 0 4 (dk_at dksX2_tied_1 2 rfl rfl)
theorem dX2_tied_29 : decode cX2_tied 29 = .ok (.iconst 0, 1) := dk_3 (dk_at dksX2_tied_1 5 rfl rfl)
theorem dX2_tied_30 : decode cX2_tied 30 = .ok (.ior, 1) := dk_128 (dk_at dksX2_tied_1 6 rfl rfl)
theorem dX2_tied_31 : decode cX2_tied 31 = .ok (.istore_n 2, 1) := dk_61 (dk_at dksX2_tied_1 7 rfl rfl)
theorem dX2_tied_32 : decode cX2_tied 32 = .ok (.iinc 3 1, 3) := dk_132 3 1 (dk_at dksX2_tied_1 8 rfl rfl)
theorem dX2_tied_35 : decode cX2_tied 35 = .ok (.goto (-31), 3) := dk_167 255 225 (dk_at dksX2_tied_1 11 rfl rfl)
theorem dX2_tied_38 : decode cX2_tied 38 = .ok (.iload_n 2, 1) := dk_28 (dk_at dksX2_tied_1 14 rfl rfl)
theorem dX2_tied_39 : decode cX2_tied 39 = .ok (.ireturn, 1) := dk_172 (dk_at dksX2_tied_1 15 rfl rfl)
abbrev cX2_tieOf : ByteArray := prog_19_method_5_code
def yX2_tieOf : MethodName := ⟨RX2, "tieOf", "(II)I"⟩
def dkwX2_tieOf_2 : List UInt8 := [160, 0, 5, 29, 172, 132, 3, 1, 167, 255, 203, 2, 172]
abbrev dktX2_tieOf_2 : List UInt8 := dkwX2_tieOf_2 ++ []
def dkwX2_tieOf_1 : List UInt8 := [29, 46, 28, 159, 0, 23, 42, 180, 0, 62, 29, 46, 28, 160, 0, 15, 42, 180, 0, 65, 29, 46, 27]
abbrev dktX2_tieOf_1 : List UInt8 := dkwX2_tieOf_1 ++ dktX2_tieOf_2
def dkwX2_tieOf_0 : List UInt8 := [3, 62, 29, 42, 180, 0, 83, 162, 0, 51, 42, 180, 0, 62, 29, 46, 27, 160, 0, 13, 42, 180, 0, 65]
abbrev dktX2_tieOf_0 : List UInt8 := dkwX2_tieOf_0 ++ dktX2_tieOf_1
theorem dksX2_tieOf_0 : cX2_tieOf.data.toList.drop 0 = dktX2_tieOf_0 := by decide +kernel
theorem dksX2_tieOf_1 : cX2_tieOf.data.toList.drop 24 = dktX2_tieOf_1 := dk_seg dksX2_tieOf_0 24 rfl rfl
theorem dksX2_tieOf_2 : cX2_tieOf.data.toList.drop 47 = dktX2_tieOf_2 := dk_seg dksX2_tieOf_1 23 rfl rfl
theorem dX2_tieOf_0 : decode cX2_tieOf 0 = .ok (.iconst 0, 1) := dk_3 (dk_at dksX2_tieOf_0 0 rfl rfl)
theorem dX2_tieOf_1 : decode cX2_tieOf 1 = .ok (.istore_n 3, 1) := dk_62 (dk_at dksX2_tieOf_0 1 rfl rfl)
theorem dX2_tieOf_2 : decode cX2_tieOf 2 = .ok (.iload_n 3, 1) := dk_29 (dk_at dksX2_tieOf_0 2 rfl rfl)
theorem dX2_tieOf_3 : decode cX2_tieOf 3 = .ok (.aload_n 0, 1) := dk_42 (dk_at dksX2_tieOf_0 3 rfl rfl)
theorem dX2_tieOf_4 : decode cX2_tieOf 4 = .ok (.getfield 83, 3) := dk_180 0 83 (dk_at dksX2_tieOf_0 4 rfl rfl)
theorem dX2_tieOf_7 : decode cX2_tieOf 7 = .ok (.if_icmp .ge 51, 3) := dk_162 0 51 (dk_at dksX2_tieOf_0 7 rfl rfl)
theorem dX2_tieOf_10 : decode cX2_tieOf 10 = .ok (.aload_n 0, 1) := dk_42 (dk_at dksX2_tieOf_0 10 rfl rfl)
theorem dX2_tieOf_11 : decode cX2_tieOf 11 = .ok (.getfield 62, 3) := dk_180 0 62 (dk_at dksX2_tieOf_0 11 rfl rfl)
theorem dX2_tieOf_14 : decode cX2_tieOf 14 = .ok (.iload_n 3, 1) := dk_29 (dk_at dksX2_tieOf_0 14 rfl rfl)
theorem dX2_tieOf_15 : decode cX2_tieOf 15 = .ok (.iaload, 1) := dk_46 (dk_at dksX2_tieOf_0 15 rfl rfl)
theorem dX2_tieOf_16 : decode cX2_tieOf 16 = .ok (.iload_n 1, 1) := dk_27 (dk_at dksX2_tieOf_0 16 rfl rfl)
theorem dX2_tieOf_17 : decode cX2_tieOf 17 = .ok (.if_icmp .ne 13, 3) := dk_160 0 13 (dk_at dksX2_tieOf_0 17 rfl rfl)
theorem dX2_tieOf_20 : decode cX2_tieOf 20 = .ok (.aload_n 0, 1) := dk_42 (dk_at dksX2_tieOf_0 20 rfl rfl)
theorem dX2_tieOf_21 : decode cX2_tieOf 21 = .ok (.getfield 65, 3) := dk_180 0 65 (dk_at dksX2_tieOf_0 21 rfl rfl)
theorem dX2_tieOf_24 : decode cX2_tieOf 24 = .ok (.iload_n 3, 1) := dk_29 (dk_at dksX2_tieOf_1 0 rfl rfl)
theorem dX2_tieOf_25 : decode cX2_tieOf 25 = .ok (.iaload, 1) := dk_46 (dk_at dksX2_tieOf_1 1 rfl rfl)
theorem dX2_tieOf_26 : decode cX2_tieOf 26 = .ok (.iload_n 2, 1) := dk_28 (dk_at dksX2_tieOf_1 2 rfl rfl)
theorem dX2_tieOf_27 : decode cX2_tieOf 27 = .ok (.if_icmp .eq 23, 3) := dk_159 0 23 (dk_at dksX2_tieOf_1 3 rfl rfl)
theorem dX2_tieOf_30 : decode cX2_tieOf 30 = .ok (.aload_n 0, 1) := dk_42 (dk_at dksX2_tieOf_1 6 rfl rfl)
theorem dX2_tieOf_31 : decode cX2_tieOf 31 = .ok (.getfield 62, 3) := dk_180 0 62 (dk_at dksX2_tieOf_1 7 rfl rfl)
theorem dX2_tieOf_34 : decode cX2_tieOf 34 = .ok (.iload_n 3, 1) := dk_29 (dk_at dksX2_tieOf_1 10 rfl rfl)
theorem dX2_tieOf_35 : decode cX2_tieOf 35 = .ok (.iaload, 1) := dk_46 (dk_at dksX2_tieOf_1 11 rfl rfl)
theorem dX2_tieOf_36 : decode cX2_tieOf 36 = .ok (.iload_n 2, 1) := dk_28 (dk_at dksX2_tieOf_1 12 rfl rfl)
theorem dX2_tieOf_37 : decode cX2_tieOf 37 = .ok (.if_icmp .ne 15, 3) := dk_160 0 15 (dk_at dksX2_tieOf_1 13 rfl rfl)
theorem dX2_tieOf_40 : decode cX2_tieOf 40 = .ok (.aload_n 0, 1) := dk_42 (dk_at dksX2_tieOf_1 16 rfl rfl)
theorem dX2_tieOf_41 : decode cX2_tieOf 41 = .ok (.getfield 65, 3) := dk_180 0 65 (dk_at dksX2_tieOf_1 17 rfl rfl)
theorem dX2_tieOf_44 : decode cX2_tieOf 44 = .ok (.iload_n 3, 1) := dk_29 (dk_at dksX2_tieOf_1 20 rfl rfl)
theorem dX2_tieOf_45 : decode cX2_tieOf 45 = .ok (.iaload, 1) := dk_46 (dk_at dksX2_tieOf_1 21 rfl rfl)
theorem dX2_tieOf_46 : decode cX2_tieOf 46 = .ok (.iload_n 1, 1) := dk_27 (dk_at dksX2_tieOf_1 22 rfl rfl)
theorem dX2_tieOf_47 : decode cX2_tieOf 47 = .ok (.if_icmp .ne 5, 3) := dk_160 0 5 (dk_at dksX2_tieOf_2 0 rfl rfl)
theorem dX2_tieOf_50 : decode cX2_tieOf 50 = .ok (.iload_n 3, 1) := dk_29 (dk_at dksX2_tieOf_2 3 rfl rfl)
theorem dX2_tieOf_51 : decode cX2_tieOf 51 = .ok (.ireturn, 1) := dk_172 (dk_at dksX2_tieOf_2 4 rfl rfl)
theorem dX2_tieOf_52 : decode cX2_tieOf 52 = .ok (.iinc 3 1, 3) := dk_132 3 1 (dk_at dksX2_tieOf_2 5 rfl rfl)
theorem dX2_tieOf_55 : decode cX2_tieOf 55 = .ok (.goto (-53), 3) := dk_167 255 203 (dk_at dksX2_tieOf_2 8 rfl rfl)
theorem dX2_tieOf_58 : decode cX2_tieOf 58 = .ok (.iconst (-1), 1) := dk_2 (dk_at dksX2_tieOf_2 11 rfl rfl)
theorem dX2_tieOf_59 : decode cX2_tieOf 59 = .ok (.ireturn, 1) := dk_172 (dk_at dksX2_tieOf_2 12 rfl rfl)
abbrev cX2_likens : ByteArray := prog_19_method_2_code
def yX2_likens : MethodName := ⟨RX2, "likens", "(LCheekTown$World;)LCheekTown$World;"⟩
def dkwX2_likens_12 : List UInt8 := [180, 0, 65, 184, 0, 108, 43, 180, 0, 68, 42, 180, 0, 68, 184, 0, 108, 42, 176]
abbrev dktX2_likens_12 : List UInt8 := dkwX2_likens_12 ++ []
def dkwX2_likens_11 : List UInt8 := [180, 0, 59, 184, 0, 108, 43, 180, 0, 62, 42, 180, 0, 62, 184, 0, 108, 43, 180, 0, 65, 42]
abbrev dktX2_likens_11 : List UInt8 := dkwX2_likens_11 ++ dktX2_likens_12
def dkwX2_likens_10 : List UInt8 := [42, 180, 0, 53, 184, 0, 108, 43, 180, 0, 56, 42, 180, 0, 56, 184, 0, 108, 43, 180, 0, 59, 42]
abbrev dktX2_likens_10 : List UInt8 := dkwX2_likens_10 ++ dktX2_likens_11
def dkwX2_likens_9 : List UInt8 := [180, 0, 46, 3, 16, 10, 184, 0, 112, 43, 180, 0, 50, 42, 180, 0, 50, 184, 0, 108, 43, 180, 0, 53]
abbrev dktX2_likens_9 : List UInt8 := dkwX2_likens_9 ++ dktX2_likens_10
def dkwX2_likens_8 : List UInt8 := [180, 0, 40, 184, 0, 108, 43, 180, 0, 43, 42, 180, 0, 43, 184, 0, 108, 43, 180, 0, 46, 3, 42]
abbrev dktX2_likens_8 : List UInt8 := dkwX2_likens_8 ++ dktX2_likens_9
def dkwX2_likens_7 : List UInt8 := [180, 0, 34, 184, 0, 108, 43, 180, 0, 37, 42, 180, 0, 37, 184, 0, 108, 43, 180, 0, 40, 42]
abbrev dktX2_likens_7 : List UInt8 := dkwX2_likens_7 ++ dktX2_likens_8
def dkwX2_likens_6 : List UInt8 := [180, 0, 28, 184, 0, 108, 43, 180, 0, 31, 42, 180, 0, 31, 184, 0, 108, 43, 180, 0, 34, 42]
abbrev dktX2_likens_6 : List UInt8 := dkwX2_likens_6 ++ dktX2_likens_7
def dkwX2_likens_5 : List UInt8 := [42, 43, 180, 0, 104, 181, 0, 104, 43, 180, 0, 24, 42, 180, 0, 24, 184, 0, 108, 43, 180, 0, 28, 42]
abbrev dktX2_likens_5 : List UInt8 := dkwX2_likens_5 ++ dktX2_likens_6
def dkwX2_likens_4 : List UInt8 := [42, 43, 180, 0, 15, 181, 0, 15, 42, 43, 180, 0, 18, 181, 0, 18, 42, 43, 180, 0, 21, 181, 0, 21]
abbrev dktX2_likens_4 : List UInt8 := dkwX2_likens_4 ++ dktX2_likens_5
def dkwX2_likens_3 : List UInt8 := [42, 43, 180, 0, 98, 181, 0, 98, 42, 43, 180, 0, 101, 181, 0, 101, 42, 43, 180, 0, 9, 181, 0, 9]
abbrev dktX2_likens_3 : List UInt8 := dkwX2_likens_3 ++ dktX2_likens_4
def dkwX2_likens_2 : List UInt8 := [42, 43, 180, 0, 89, 181, 0, 89, 42, 43, 180, 0, 92, 181, 0, 92, 42, 43, 180, 0, 95, 181, 0, 95]
abbrev dktX2_likens_2 : List UInt8 := dkwX2_likens_2 ++ dktX2_likens_3
def dkwX2_likens_1 : List UInt8 := [42, 43, 180, 0, 80, 181, 0, 80, 42, 43, 180, 0, 83, 181, 0, 83, 42, 43, 180, 0, 86, 181, 0, 86]
abbrev dktX2_likens_1 : List UInt8 := dkwX2_likens_1 ++ dktX2_likens_2
def dkwX2_likens_0 : List UInt8 := [42, 43, 180, 0, 71, 181, 0, 71, 42, 43, 180, 0, 74, 181, 0, 74, 42, 43, 180, 0, 77, 181, 0, 77]
abbrev dktX2_likens_0 : List UInt8 := dkwX2_likens_0 ++ dktX2_likens_1
theorem dksX2_likens_0 : cX2_likens.data.toList.drop 0 = dktX2_likens_0 := by decide +kernel
theorem dksX2_likens_1 : cX2_likens.data.toList.drop 24 = dktX2_likens_1 := dk_seg dksX2_likens_0 24 rfl rfl
theorem dksX2_likens_2 : cX2_likens.data.toList.drop 48 = dktX2_likens_2 := dk_seg dksX2_likens_1 24 rfl rfl
theorem dksX2_likens_3 : cX2_likens.data.toList.drop 72 = dktX2_likens_3 := dk_seg dksX2_likens_2 24 rfl rfl
theorem dksX2_likens_4 : cX2_likens.data.toList.drop 96 = dktX2_likens_4 := dk_seg dksX2_likens_3 24 rfl rfl
theorem dksX2_likens_5 : cX2_likens.data.toList.drop 120 = dktX2_likens_5 := dk_seg dksX2_likens_4 24 rfl rfl
theorem dksX2_likens_6 : cX2_likens.data.toList.drop 144 = dktX2_likens_6 := dk_seg dksX2_likens_5 24 rfl rfl
theorem dksX2_likens_7 : cX2_likens.data.toList.drop 166 = dktX2_likens_7 := dk_seg dksX2_likens_6 22 rfl rfl
theorem dksX2_likens_8 : cX2_likens.data.toList.drop 188 = dktX2_likens_8 := dk_seg dksX2_likens_7 22 rfl rfl
theorem dksX2_likens_9 : cX2_likens.data.toList.drop 211 = dktX2_likens_9 := dk_seg dksX2_likens_8 23 rfl rfl
theorem dksX2_likens_10 : cX2_likens.data.toList.drop 235 = dktX2_likens_10 := dk_seg dksX2_likens_9 24 rfl rfl
theorem dksX2_likens_11 : cX2_likens.data.toList.drop 258 = dktX2_likens_11 := dk_seg dksX2_likens_10 23 rfl rfl
theorem dksX2_likens_12 : cX2_likens.data.toList.drop 280 = dktX2_likens_12 := dk_seg dksX2_likens_11 22 rfl rfl
theorem dX2_likens_0 : decode cX2_likens 0 = .ok (.aload_n 0, 1) := dk_42 (dk_at dksX2_likens_0 0 rfl rfl)
theorem dX2_likens_1 : decode cX2_likens 1 = .ok (.aload_n 1, 1) := dk_43 (dk_at dksX2_likens_0 1 rfl rfl)
theorem dX2_likens_2 : decode cX2_likens 2 = .ok (.getfield 71, 3) := dk_180 0 71 (dk_at dksX2_likens_0 2 rfl rfl)
theorem dX2_likens_5 : decode cX2_likens 5 = .ok (.putfield 71, 3) := dk_181 0 71 (dk_at dksX2_likens_0 5 rfl rfl)
theorem dX2_likens_8 : decode cX2_likens 8 = .ok (.aload_n 0, 1) := dk_42 (dk_at dksX2_likens_0 8 rfl rfl)
theorem dX2_likens_9 : decode cX2_likens 9 = .ok (.aload_n 1, 1) := dk_43 (dk_at dksX2_likens_0 9 rfl rfl)
theorem dX2_likens_10 : decode cX2_likens 10 = .ok (.getfield 74, 3) := dk_180 0 74 (dk_at dksX2_likens_0 10 rfl rfl)
theorem dX2_likens_13 : decode cX2_likens 13 = .ok (.putfield 74, 3) := dk_181 0 74 (dk_at dksX2_likens_0 13 rfl rfl)
theorem dX2_likens_16 : decode cX2_likens 16 = .ok (.aload_n 0, 1) := dk_42 (dk_at dksX2_likens_0 16 rfl rfl)
theorem dX2_likens_17 : decode cX2_likens 17 = .ok (.aload_n 1, 1) := dk_43 (dk_at dksX2_likens_0 17 rfl rfl)
theorem dX2_likens_18 : decode cX2_likens 18 = .ok (.getfield 77, 3) := dk_180 0 77 (dk_at dksX2_likens_0 18 rfl rfl)
theorem dX2_likens_21 : decode cX2_likens 21 = .ok (.putfield 77, 3) := dk_181 0 77 (dk_at dksX2_likens_0 21 rfl rfl)
theorem dX2_likens_24 : decode cX2_likens 24 = .ok (.aload_n 0, 1) := dk_42 (dk_at dksX2_likens_1 0 rfl rfl)
theorem dX2_likens_25 : decode cX2_likens 25 = .ok (.aload_n 1, 1) := dk_43 (dk_at dksX2_likens_1 1 rfl rfl)
theorem dX2_likens_26 : decode cX2_likens 26 = .ok (.getfield 80, 3) := dk_180 0 80 (dk_at dksX2_likens_1 2 rfl rfl)
theorem dX2_likens_29 : decode cX2_likens 29 = .ok (.putfield 80, 3) := dk_181 0 80 (dk_at dksX2_likens_1 5 rfl rfl)
theorem dX2_likens_32 : decode cX2_likens 32 = .ok (.aload_n 0, 1) := dk_42 (dk_at dksX2_likens_1 8 rfl rfl)
theorem dX2_likens_33 : decode cX2_likens 33 = .ok (.aload_n 1, 1) := dk_43 (dk_at dksX2_likens_1 9 rfl rfl)
theorem dX2_likens_34 : decode cX2_likens 34 = .ok (.getfield 83, 3) := dk_180 0 83 (dk_at dksX2_likens_1 10 rfl rfl)
theorem dX2_likens_37 : decode cX2_likens 37 = .ok (.putfield 83, 3) := dk_181 0 83 (dk_at dksX2_likens_1 13 rfl rfl)
theorem dX2_likens_40 : decode cX2_likens 40 = .ok (.aload_n 0, 1) := dk_42 (dk_at dksX2_likens_1 16 rfl rfl)
theorem dX2_likens_41 : decode cX2_likens 41 = .ok (.aload_n 1, 1) := dk_43 (dk_at dksX2_likens_1 17 rfl rfl)
theorem dX2_likens_42 : decode cX2_likens 42 = .ok (.getfield 86, 3) := dk_180 0 86 (dk_at dksX2_likens_1 18 rfl rfl)
theorem dX2_likens_45 : decode cX2_likens 45 = .ok (.putfield 86, 3) := dk_181 0 86 (dk_at dksX2_likens_1 21 rfl rfl)
theorem dX2_likens_48 : decode cX2_likens 48 = .ok (.aload_n 0, 1) := dk_42 (dk_at dksX2_likens_2 0 rfl rfl)
theorem dX2_likens_49 : decode cX2_likens 49 = .ok (.aload_n 1, 1) := dk_43 (dk_at dksX2_likens_2 1 rfl rfl)
theorem dX2_likens_50 : decode cX2_likens 50 = .ok (.getfield 89, 3) := dk_180 0 89 (dk_at dksX2_likens_2 2 rfl rfl)
theorem dX2_likens_53 : decode cX2_likens 53 = .ok (.putfield 89, 3) := dk_181 0 89 (dk_at dksX2_likens_2 5 rfl rfl)
theorem dX2_likens_56 : decode cX2_likens 56 = .ok (.aload_n 0, 1) := dk_42 (dk_at dksX2_likens_2 8 rfl rfl)
theorem dX2_likens_57 : decode cX2_likens 57 = .ok (.aload_n 1, 1) := dk_43 (dk_at dksX2_likens_2 9 rfl rfl)
theorem dX2_likens_58 : decode cX2_likens 58 = .ok (.getfield 92, 3) := dk_180 0 92 (dk_at dksX2_likens_2 10 rfl rfl)
theorem dX2_likens_61 : decode cX2_likens 61 = .ok (.putfield 92, 3) := dk_181 0 92 (dk_at dksX2_likens_2 13 rfl rfl)
theorem dX2_likens_64 : decode cX2_likens 64 = .ok (.aload_n 0, 1) := dk_42 (dk_at dksX2_likens_2 16 rfl rfl)
theorem dX2_likens_65 : decode cX2_likens 65 = .ok (.aload_n 1, 1) := dk_43 (dk_at dksX2_likens_2 17 rfl rfl)
theorem dX2_likens_66 : decode cX2_likens 66 = .ok (.getfield 95, 3) := dk_180 0 95 (dk_at dksX2_likens_2 18 rfl rfl)
theorem dX2_likens_69 : decode cX2_likens 69 = .ok (.putfield 95, 3) := dk_181 0 95 (dk_at dksX2_likens_2 21 rfl rfl)
theorem dX2_likens_72 : decode cX2_likens 72 = .ok (.aload_n 0, 1) := dk_42 (dk_at dksX2_likens_3 0 rfl rfl)
theorem dX2_likens_73 : decode cX2_likens 73 = .ok (.aload_n 1, 1) := dk_43 (dk_at dksX2_likens_3 1 rfl rfl)
theorem dX2_likens_74 : decode cX2_likens 74 = .ok (.getfield 98, 3) := dk_180 0 98 (dk_at dksX2_likens_3 2 rfl rfl)
theorem dX2_likens_77 : decode cX2_likens 77 = .ok (.putfield 98, 3) := dk_181 0 98 (dk_at dksX2_likens_3 5 rfl rfl)
theorem dX2_likens_80 : decode cX2_likens 80 = .ok (.aload_n 0, 1) := dk_42 (dk_at dksX2_likens_3 8 rfl rfl)
theorem dX2_likens_81 : decode cX2_likens 81 = .ok (.aload_n 1, 1) := dk_43 (dk_at dksX2_likens_3 9 rfl rfl)
theorem dX2_likens_82 : decode cX2_likens 82 = .ok (.getfield 101, 3) := dk_180 0 101 (dk_at dksX2_likens_3 10 rfl rfl)
theorem dX2_likens_85 : decode cX2_likens 85 = .ok (.putfield 101, 3) := dk_181 0 101 (dk_at dksX2_likens_3 13 rfl rfl)
theorem dX2_likens_88 : decode cX2_likens 88 = .ok (.aload_n 0, 1) := dk_42 (dk_at dksX2_likens_3 16 rfl rfl)
theorem dX2_likens_89 : decode cX2_likens 89 = .ok (.aload_n 1, 1) := dk_43 (dk_at dksX2_likens_3 17 rfl rfl)
theorem dX2_likens_90 : decode cX2_likens 90 = .ok (.getfield 9, 3) := dk_180 0 9 (dk_at dksX2_likens_3 18 rfl rfl)
theorem dX2_likens_93 : decode cX2_likens 93 = .ok (.putfield 9, 3) := dk_181 0 9 (dk_at dksX2_likens_3 21 rfl rfl)
theorem dX2_likens_96 : decode cX2_likens 96 = .ok (.aload_n 0, 1) := dk_42 (dk_at dksX2_likens_4 0 rfl rfl)
theorem dX2_likens_97 : decode cX2_likens 97 = .ok (.aload_n 1, 1) := dk_43 (dk_at dksX2_likens_4 1 rfl rfl)
theorem dX2_likens_98 : decode cX2_likens 98 = .ok (.getfield 15, 3) := dk_180 0 15 (dk_at dksX2_likens_4 2 rfl rfl)
theorem dX2_likens_101 : decode cX2_likens 101 = .ok (.putfield 15, 3) := dk_181 0 15 (dk_at dksX2_likens_4 5 rfl rfl)
theorem dX2_likens_104 : decode cX2_likens 104 = .ok (.aload_n 0, 1) := dk_42 (dk_at dksX2_likens_4 8 rfl rfl)
theorem dX2_likens_105 : decode cX2_likens 105 = .ok (.aload_n 1, 1) := dk_43 (dk_at dksX2_likens_4 9 rfl rfl)
theorem dX2_likens_106 : decode cX2_likens 106 = .ok (.getfield 18, 3) := dk_180 0 18 (dk_at dksX2_likens_4 10 rfl rfl)
theorem dX2_likens_109 : decode cX2_likens 109 = .ok (.putfield 18, 3) := dk_181 0 18 (dk_at dksX2_likens_4 13 rfl rfl)
theorem dX2_likens_112 : decode cX2_likens 112 = .ok (.aload_n 0, 1) := dk_42 (dk_at dksX2_likens_4 16 rfl rfl)
theorem dX2_likens_113 : decode cX2_likens 113 = .ok (.aload_n 1, 1) := dk_43 (dk_at dksX2_likens_4 17 rfl rfl)
theorem dX2_likens_114 : decode cX2_likens 114 = .ok (.getfield 21, 3) := dk_180 0 21 (dk_at dksX2_likens_4 18 rfl rfl)
theorem dX2_likens_117 : decode cX2_likens 117 = .ok (.putfield 21, 3) := dk_181 0 21 (dk_at dksX2_likens_4 21 rfl rfl)
theorem dX2_likens_120 : decode cX2_likens 120 = .ok (.aload_n 0, 1) := dk_42 (dk_at dksX2_likens_5 0 rfl rfl)
theorem dX2_likens_121 : decode cX2_likens 121 = .ok (.aload_n 1, 1) := dk_43 (dk_at dksX2_likens_5 1 rfl rfl)
theorem dX2_likens_122 : decode cX2_likens 122 = .ok (.getfield 104, 3) := dk_180 0 104 (dk_at dksX2_likens_5 2 rfl rfl)
theorem dX2_likens_125 : decode cX2_likens 125 = .ok (.putfield 104, 3) := dk_181 0 104 (dk_at dksX2_likens_5 5 rfl rfl)
theorem dX2_likens_128 : decode cX2_likens 128 = .ok (.aload_n 1, 1) := dk_43 (dk_at dksX2_likens_5 8 rfl rfl)
theorem dX2_likens_129 : decode cX2_likens 129 = .ok (.getfield 24, 3) := dk_180 0 24 (dk_at dksX2_likens_5 9 rfl rfl)
theorem dX2_likens_132 : decode cX2_likens 132 = .ok (.aload_n 0, 1) := dk_42 (dk_at dksX2_likens_5 12 rfl rfl)
theorem dX2_likens_133 : decode cX2_likens 133 = .ok (.getfield 24, 3) := dk_180 0 24 (dk_at dksX2_likens_5 13 rfl rfl)
theorem dX2_likens_136 : decode cX2_likens 136 = .ok (.invokestatic 108, 3) := dk_184 0 108 (dk_at dksX2_likens_5 16 rfl rfl)
theorem dX2_likens_139 : decode cX2_likens 139 = .ok (.aload_n 1, 1) := dk_43 (dk_at dksX2_likens_5 19 rfl rfl)
theorem dX2_likens_140 : decode cX2_likens 140 = .ok (.getfield 28, 3) := dk_180 0 28 (dk_at dksX2_likens_5 20 rfl rfl)
theorem dX2_likens_143 : decode cX2_likens 143 = .ok (.aload_n 0, 1) := dk_42 (dk_at dksX2_likens_5 23 rfl rfl)
theorem dX2_likens_144 : decode cX2_likens 144 = .ok (.getfield 28, 3) := dk_180 0 28 (dk_at dksX2_likens_6 0 rfl rfl)
theorem dX2_likens_147 : decode cX2_likens 147 = .ok (.invokestatic 108, 3) := dk_184 0 108 (dk_at dksX2_likens_6 3 rfl rfl)
theorem dX2_likens_150 : decode cX2_likens 150 = .ok (.aload_n 1, 1) := dk_43 (dk_at dksX2_likens_6 6 rfl rfl)
theorem dX2_likens_151 : decode cX2_likens 151 = .ok (.getfield 31, 3) := dk_180 0 31 (dk_at dksX2_likens_6 7 rfl rfl)
theorem dX2_likens_154 : decode cX2_likens 154 = .ok (.aload_n 0, 1) := dk_42 (dk_at dksX2_likens_6 10 rfl rfl)
theorem dX2_likens_155 : decode cX2_likens 155 = .ok (.getfield 31, 3) := dk_180 0 31 (dk_at dksX2_likens_6 11 rfl rfl)
theorem dX2_likens_158 : decode cX2_likens 158 = .ok (.invokestatic 108, 3) := dk_184 0 108 (dk_at dksX2_likens_6 14 rfl rfl)
theorem dX2_likens_161 : decode cX2_likens 161 = .ok (.aload_n 1, 1) := dk_43 (dk_at dksX2_likens_6 17 rfl rfl)
theorem dX2_likens_162 : decode cX2_likens 162 = .ok (.getfield 34, 3) := dk_180 0 34 (dk_at dksX2_likens_6 18 rfl rfl)
theorem dX2_likens_165 : decode cX2_likens 165 = .ok (.aload_n 0, 1) := dk_42 (dk_at dksX2_likens_6 21 rfl rfl)
theorem dX2_likens_166 : decode cX2_likens 166 = .ok (.getfield 34, 3) := dk_180 0 34 (dk_at dksX2_likens_7 0 rfl rfl)
theorem dX2_likens_169 : decode cX2_likens 169 = .ok (.invokestatic 108, 3) := dk_184 0 108 (dk_at dksX2_likens_7 3 rfl rfl)
theorem dX2_likens_172 : decode cX2_likens 172 = .ok (.aload_n 1, 1) := dk_43 (dk_at dksX2_likens_7 6 rfl rfl)
theorem dX2_likens_173 : decode cX2_likens 173 = .ok (.getfield 37, 3) := dk_180 0 37 (dk_at dksX2_likens_7 7 rfl rfl)
theorem dX2_likens_176 : decode cX2_likens 176 = .ok (.aload_n 0, 1) := dk_42 (dk_at dksX2_likens_7 10 rfl rfl)
theorem dX2_likens_177 : decode cX2_likens 177 = .ok (.getfield 37, 3) := dk_180 0 37 (dk_at dksX2_likens_7 11 rfl rfl)
theorem dX2_likens_180 : decode cX2_likens 180 = .ok (.invokestatic 108, 3) := dk_184 0 108 (dk_at dksX2_likens_7 14 rfl rfl)
theorem dX2_likens_183 : decode cX2_likens 183 = .ok (.aload_n 1, 1) := dk_43 (dk_at dksX2_likens_7 17 rfl rfl)
theorem dX2_likens_184 : decode cX2_likens 184 = .ok (.getfield 40, 3) := dk_180 0 40 (dk_at dksX2_likens_7 18 rfl rfl)
theorem dX2_likens_187 : decode cX2_likens 187 = .ok (.aload_n 0, 1) := dk_42 (dk_at dksX2_likens_7 21 rfl rfl)
theorem dX2_likens_188 : decode cX2_likens 188 = .ok (.getfield 40, 3) := dk_180 0 40 (dk_at dksX2_likens_8 0 rfl rfl)
theorem dX2_likens_191 : decode cX2_likens 191 = .ok (.invokestatic 108, 3) := dk_184 0 108 (dk_at dksX2_likens_8 3 rfl rfl)
theorem dX2_likens_194 : decode cX2_likens 194 = .ok (.aload_n 1, 1) := dk_43 (dk_at dksX2_likens_8 6 rfl rfl)
theorem dX2_likens_195 : decode cX2_likens 195 = .ok (.getfield 43, 3) := dk_180 0 43 (dk_at dksX2_likens_8 7 rfl rfl)
theorem dX2_likens_198 : decode cX2_likens 198 = .ok (.aload_n 0, 1) := dk_42 (dk_at dksX2_likens_8 10 rfl rfl)
theorem dX2_likens_199 : decode cX2_likens 199 = .ok (.getfield 43, 3) := dk_180 0 43 (dk_at dksX2_likens_8 11 rfl rfl)
theorem dX2_likens_202 : decode cX2_likens 202 = .ok (.invokestatic 108, 3) := dk_184 0 108 (dk_at dksX2_likens_8 14 rfl rfl)
theorem dX2_likens_205 : decode cX2_likens 205 = .ok (.aload_n 1, 1) := dk_43 (dk_at dksX2_likens_8 17 rfl rfl)
theorem dX2_likens_206 : decode cX2_likens 206 = .ok (.getfield 46, 3) := dk_180 0 46 (dk_at dksX2_likens_8 18 rfl rfl)
theorem dX2_likens_209 : decode cX2_likens 209 = .ok (.iconst 0, 1) := dk_3 (dk_at dksX2_likens_8 21 rfl rfl)
theorem dX2_likens_210 : decode cX2_likens 210 = .ok (.aload_n 0, 1) := dk_42 (dk_at dksX2_likens_8 22 rfl rfl)
theorem dX2_likens_211 : decode cX2_likens 211 = .ok (.getfield 46, 3) := dk_180 0 46 (dk_at dksX2_likens_9 0 rfl rfl)
theorem dX2_likens_214 : decode cX2_likens 214 = .ok (.iconst 0, 1) := dk_3 (dk_at dksX2_likens_9 3 rfl rfl)
theorem dX2_likens_215 : decode cX2_likens 215 = .ok (.bipush 10, 2) := dk_16 10 (dk_at dksX2_likens_9 4 rfl rfl)
theorem dX2_likens_217 : decode cX2_likens 217 = .ok (.invokestatic 112, 3) := dk_184 0 112 (dk_at dksX2_likens_9 6 rfl rfl)
theorem dX2_likens_220 : decode cX2_likens 220 = .ok (.aload_n 1, 1) := dk_43 (dk_at dksX2_likens_9 9 rfl rfl)
theorem dX2_likens_221 : decode cX2_likens 221 = .ok (.getfield 50, 3) := dk_180 0 50 (dk_at dksX2_likens_9 10 rfl rfl)
theorem dX2_likens_224 : decode cX2_likens 224 = .ok (.aload_n 0, 1) := dk_42 (dk_at dksX2_likens_9 13 rfl rfl)
theorem dX2_likens_225 : decode cX2_likens 225 = .ok (.getfield 50, 3) := dk_180 0 50 (dk_at dksX2_likens_9 14 rfl rfl)
theorem dX2_likens_228 : decode cX2_likens 228 = .ok (.invokestatic 108, 3) := dk_184 0 108 (dk_at dksX2_likens_9 17 rfl rfl)
theorem dX2_likens_231 : decode cX2_likens 231 = .ok (.aload_n 1, 1) := dk_43 (dk_at dksX2_likens_9 20 rfl rfl)
theorem dX2_likens_232 : decode cX2_likens 232 = .ok (.getfield 53, 3) := dk_180 0 53 (dk_at dksX2_likens_9 21 rfl rfl)
theorem dX2_likens_235 : decode cX2_likens 235 = .ok (.aload_n 0, 1) := dk_42 (dk_at dksX2_likens_10 0 rfl rfl)
theorem dX2_likens_236 : decode cX2_likens 236 = .ok (.getfield 53, 3) := dk_180 0 53 (dk_at dksX2_likens_10 1 rfl rfl)
theorem dX2_likens_239 : decode cX2_likens 239 = .ok (.invokestatic 108, 3) := dk_184 0 108 (dk_at dksX2_likens_10 4 rfl rfl)
theorem dX2_likens_242 : decode cX2_likens 242 = .ok (.aload_n 1, 1) := dk_43 (dk_at dksX2_likens_10 7 rfl rfl)
theorem dX2_likens_243 : decode cX2_likens 243 = .ok (.getfield 56, 3) := dk_180 0 56 (dk_at dksX2_likens_10 8 rfl rfl)
theorem dX2_likens_246 : decode cX2_likens 246 = .ok (.aload_n 0, 1) := dk_42 (dk_at dksX2_likens_10 11 rfl rfl)
theorem dX2_likens_247 : decode cX2_likens 247 = .ok (.getfield 56, 3) := dk_180 0 56 (dk_at dksX2_likens_10 12 rfl rfl)
theorem dX2_likens_250 : decode cX2_likens 250 = .ok (.invokestatic 108, 3) := dk_184 0 108 (dk_at dksX2_likens_10 15 rfl rfl)
theorem dX2_likens_253 : decode cX2_likens 253 = .ok (.aload_n 1, 1) := dk_43 (dk_at dksX2_likens_10 18 rfl rfl)
theorem dX2_likens_254 : decode cX2_likens 254 = .ok (.getfield 59, 3) := dk_180 0 59 (dk_at dksX2_likens_10 19 rfl rfl)
theorem dX2_likens_257 : decode cX2_likens 257 = .ok (.aload_n 0, 1) := dk_42 (dk_at dksX2_likens_10 22 rfl rfl)
theorem dX2_likens_258 : decode cX2_likens 258 = .ok (.getfield 59, 3) := dk_180 0 59 (dk_at dksX2_likens_11 0 rfl rfl)
theorem dX2_likens_261 : decode cX2_likens 261 = .ok (.invokestatic 108, 3) := dk_184 0 108 (dk_at dksX2_likens_11 3 rfl rfl)
theorem dX2_likens_264 : decode cX2_likens 264 = .ok (.aload_n 1, 1) := dk_43 (dk_at dksX2_likens_11 6 rfl rfl)
theorem dX2_likens_265 : decode cX2_likens 265 = .ok (.getfield 62, 3) := dk_180 0 62 (dk_at dksX2_likens_11 7 rfl rfl)
theorem dX2_likens_268 : decode cX2_likens 268 = .ok (.aload_n 0, 1) := dk_42 (dk_at dksX2_likens_11 10 rfl rfl)
theorem dX2_likens_269 : decode cX2_likens 269 = .ok (.getfield 62, 3) := dk_180 0 62 (dk_at dksX2_likens_11 11 rfl rfl)
theorem dX2_likens_272 : decode cX2_likens 272 = .ok (.invokestatic 108, 3) := dk_184 0 108 (dk_at dksX2_likens_11 14 rfl rfl)
theorem dX2_likens_275 : decode cX2_likens 275 = .ok (.aload_n 1, 1) := dk_43 (dk_at dksX2_likens_11 17 rfl rfl)
theorem dX2_likens_276 : decode cX2_likens 276 = .ok (.getfield 65, 3) := dk_180 0 65 (dk_at dksX2_likens_11 18 rfl rfl)
theorem dX2_likens_279 : decode cX2_likens 279 = .ok (.aload_n 0, 1) := dk_42 (dk_at dksX2_likens_11 21 rfl rfl)
theorem dX2_likens_280 : decode cX2_likens 280 = .ok (.getfield 65, 3) := dk_180 0 65 (dk_at dksX2_likens_12 0 rfl rfl)
theorem dX2_likens_283 : decode cX2_likens 283 = .ok (.invokestatic 108, 3) := dk_184 0 108 (dk_at dksX2_likens_12 3 rfl rfl)
theorem dX2_likens_286 : decode cX2_likens 286 = .ok (.aload_n 1, 1) := dk_43 (dk_at dksX2_likens_12 6 rfl rfl)
theorem dX2_likens_287 : decode cX2_likens 287 = .ok (.getfield 68, 3) := dk_180 0 68 (dk_at dksX2_likens_12 7 rfl rfl)
theorem dX2_likens_290 : decode cX2_likens 290 = .ok (.aload_n 0, 1) := dk_42 (dk_at dksX2_likens_12 10 rfl rfl)
theorem dX2_likens_291 : decode cX2_likens 291 = .ok (.getfield 68, 3) := dk_180 0 68 (dk_at dksX2_likens_12 11 rfl rfl)
theorem dX2_likens_294 : decode cX2_likens 294 = .ok (.invokestatic 108, 3) := dk_184 0 108 (dk_at dksX2_likens_12 14 rfl rfl)
theorem dX2_likens_297 : decode cX2_likens 297 = .ok (.aload_n 0, 1) := dk_42 (dk_at dksX2_likens_12 17 rfl rfl)
theorem dX2_likens_298 : decode cX2_likens 298 = .ok (.areturn, 1) := dk_176 (dk_at dksX2_likens_12 18 rfl rfl)
abbrev cX2_row : ByteArray := prog_19_method_3_code
def yX2_row : MethodName := ⟨RX2, "row", "([I[I)V"⟩
def dkwX2_row_0 : List UInt8 := [42, 3, 43, 3, 43, 190, 184, 0, 112, 177]
abbrev dktX2_row_0 : List UInt8 := dkwX2_row_0 ++ []
theorem dksX2_row_0 : cX2_row.data.toList.drop 0 = dktX2_row_0 := by decide +kernel
theorem dX2_row_0 : decode cX2_row 0 = .ok (.aload_n 0, 1) := dk_42 (dk_at dksX2_row_0 0 rfl rfl)
theorem dX2_row_1 : decode cX2_row 1 = .ok (.iconst 0, 1) := dk_3 (dk_at dksX2_row_0 1 rfl rfl)
theorem dX2_row_2 : decode cX2_row 2 = .ok (.aload_n 1, 1) := dk_43 (dk_at dksX2_row_0 2 rfl rfl)
theorem dX2_row_3 : decode cX2_row 3 = .ok (.iconst 0, 1) := dk_3 (dk_at dksX2_row_0 3 rfl rfl)
theorem dX2_row_4 : decode cX2_row 4 = .ok (.aload_n 1, 1) := dk_43 (dk_at dksX2_row_0 4 rfl rfl)
theorem dX2_row_5 : decode cX2_row 5 = .ok (.arraylength, 1) := dk_190 (dk_at dksX2_row_0 5 rfl rfl)
theorem dX2_row_6 : decode cX2_row 6 = .ok (.invokestatic 112, 3) := dk_184 0 112 (dk_at dksX2_row_0 6 rfl rfl)
theorem dX2_row_9 : decode cX2_row 9 = .ok (.return_, 1) := dk_177 (dk_at dksX2_row_0 9 rfl rfl)
abbrev cX2_colds : ByteArray := prog_19_method_12_code
def yX2_colds : MethodName := ⟨RX2, "colds", "()I"⟩
def dkwX2_colds_1 : List UInt8 := [120, 167, 0, 4, 3, 128, 60, 132, 2, 1, 167, 255, 226, 27, 172]
abbrev dktX2_colds_1 : List UInt8 := dkwX2_colds_1 ++ []
def dkwX2_colds_0 : List UInt8 := [3, 60, 3, 61, 28, 42, 180, 0, 80, 162, 0, 28, 27, 42, 180, 0, 46, 28, 51, 153, 0, 9, 4, 28]
abbrev dktX2_colds_0 : List UInt8 := dkwX2_colds_0 ++ dktX2_colds_1
theorem dksX2_colds_0 : cX2_colds.data.toList.drop 0 = dktX2_colds_0 := by decide +kernel
theorem dksX2_colds_1 : cX2_colds.data.toList.drop 24 = dktX2_colds_1 := dk_seg dksX2_colds_0 24 rfl rfl
theorem dX2_colds_0 : decode cX2_colds 0 = .ok (.iconst 0, 1) := dk_3 (dk_at dksX2_colds_0 0 rfl rfl)
theorem dX2_colds_1 : decode cX2_colds 1 = .ok (.istore_n 1, 1) := dk_60 (dk_at dksX2_colds_0 1 rfl rfl)
theorem dX2_colds_2 : decode cX2_colds 2 = .ok (.iconst 0, 1) := dk_3 (dk_at dksX2_colds_0 2 rfl rfl)
theorem dX2_colds_3 : decode cX2_colds 3 = .ok (.istore_n 2, 1) := dk_61 (dk_at dksX2_colds_0 3 rfl rfl)
theorem dX2_colds_4 : decode cX2_colds 4 = .ok (.iload_n 2, 1) := dk_28 (dk_at dksX2_colds_0 4 rfl rfl)
theorem dX2_colds_5 : decode cX2_colds 5 = .ok (.aload_n 0, 1) := dk_42 (dk_at dksX2_colds_0 5 rfl rfl)
theorem dX2_colds_6 : decode cX2_colds 6 = .ok (.getfield 80, 3) := dk_180 0 80 (dk_at dksX2_colds_0 6 rfl rfl)
theorem dX2_colds_9 : decode cX2_colds 9 = .ok (.if_icmp .ge 28, 3) := dk_162 0 28 (dk_at dksX2_colds_0 9 rfl rfl)
theorem dX2_colds_12 : decode cX2_colds 12 = .ok (.iload_n 1, 1) := dk_27 (dk_at dksX2_colds_0 12 rfl rfl)
theorem dX2_colds_13 : decode cX2_colds 13 = .ok (.aload_n 0, 1) := dk_42 (dk_at dksX2_colds_0 13 rfl rfl)
theorem dX2_colds_14 : decode cX2_colds 14 = .ok (.getfield 46, 3) := dk_180 0 46 (dk_at dksX2_colds_0 14 rfl rfl)
theorem dX2_colds_17 : decode cX2_colds 17 = .ok (.iload_n 2, 1) := dk_28 (dk_at dksX2_colds_0 17 rfl rfl)
theorem dX2_colds_18 : decode cX2_colds 18 = .ok (.baload, 1) := dk_51 (dk_at dksX2_colds_0 18 rfl rfl)
theorem dX2_colds_19 : decode cX2_colds 19 = .ok (.ifCond .eq 9, 3) := dk_153 0 9 (dk_at dksX2_colds_0 19 rfl rfl)
theorem dX2_colds_22 : decode cX2_colds 22 = .ok (.iconst 1, 1) := dk_4 (dk_at dksX2_colds_0 22 rfl rfl)
theorem dX2_colds_23 : decode cX2_colds 23 = .ok (.iload_n 2, 1) := dk_28 (dk_at dksX2_colds_0 23 rfl rfl)
theorem dX2_colds_24 : decode cX2_colds 24 = .ok (.ishl, 1) := dk_120 (dk_at dksX2_colds_1 0 rfl rfl)
theorem dX2_colds_25 : decode cX2_colds 25 = .ok (.goto 4, 3) := dk_167 0 4 (dk_at dksX2_colds_1 1 rfl rfl)
theorem dX2_colds_28 : decode cX2_colds 28 = .ok (.iconst 0, 1) := dk_3 (dk_at dksX2_colds_1 4 rfl rfl)
theorem dX2_colds_29 : decode cX2_colds 29 = .ok (.ior, 1) := dk_128 (dk_at dksX2_colds_1 5 rfl rfl)
theorem dX2_colds_30 : decode cX2_colds 30 = .ok (.istore_n 1, 1) := dk_60 (dk_at dksX2_colds_1 6 rfl rfl)
theorem dX2_colds_31 : decode cX2_colds 31 = .ok (.iinc 2 1, 3) := dk_132 2 1 (dk_at dksX2_colds_1 7 rfl rfl)
theorem dX2_colds_34 : decode cX2_colds 34 = .ok (.goto (-30), 3) := dk_167 255 226 (dk_at dksX2_colds_1 10 rfl rfl)
theorem dX2_colds_37 : decode cX2_colds 37 = .ok (.iload_n 1, 1) := dk_27 (dk_at dksX2_colds_1 13 rfl rfl)
theorem dX2_colds_38 : decode cX2_colds 38 = .ok (.ireturn, 1) := dk_172 (dk_at dksX2_colds_1 14 rfl rfl)
abbrev cX2_ties : ByteArray := prog_19_method_7_code
def yX2_ties : MethodName := ⟨RX2, "ties", "(II)V"⟩
def dkwX2_ties_1 : List UInt8 := [180, 0, 83, 4, 96, 181, 0, 83, 177]
abbrev dktX2_ties_1 : List UInt8 := dkwX2_ties_1 ++ []
def dkwX2_ties_0 : List UInt8 := [42, 180, 0, 62, 42, 180, 0, 83, 27, 79, 42, 180, 0, 65, 42, 180, 0, 83, 28, 79, 42, 89]
abbrev dktX2_ties_0 : List UInt8 := dkwX2_ties_0 ++ dktX2_ties_1
theorem dksX2_ties_0 : cX2_ties.data.toList.drop 0 = dktX2_ties_0 := by decide +kernel
theorem dksX2_ties_1 : cX2_ties.data.toList.drop 22 = dktX2_ties_1 := dk_seg dksX2_ties_0 22 rfl rfl
theorem dX2_ties_0 : decode cX2_ties 0 = .ok (.aload_n 0, 1) := dk_42 (dk_at dksX2_ties_0 0 rfl rfl)
theorem dX2_ties_1 : decode cX2_ties 1 = .ok (.getfield 62, 3) := dk_180 0 62 (dk_at dksX2_ties_0 1 rfl rfl)
theorem dX2_ties_4 : decode cX2_ties 4 = .ok (.aload_n 0, 1) := dk_42 (dk_at dksX2_ties_0 4 rfl rfl)
theorem dX2_ties_5 : decode cX2_ties 5 = .ok (.getfield 83, 3) := dk_180 0 83 (dk_at dksX2_ties_0 5 rfl rfl)
theorem dX2_ties_8 : decode cX2_ties 8 = .ok (.iload_n 1, 1) := dk_27 (dk_at dksX2_ties_0 8 rfl rfl)
theorem dX2_ties_9 : decode cX2_ties 9 = .ok (.iastore, 1) := dk_79 (dk_at dksX2_ties_0 9 rfl rfl)
theorem dX2_ties_10 : decode cX2_ties 10 = .ok (.aload_n 0, 1) := dk_42 (dk_at dksX2_ties_0 10 rfl rfl)
theorem dX2_ties_11 : decode cX2_ties 11 = .ok (.getfield 65, 3) := dk_180 0 65 (dk_at dksX2_ties_0 11 rfl rfl)
theorem dX2_ties_14 : decode cX2_ties 14 = .ok (.aload_n 0, 1) := dk_42 (dk_at dksX2_ties_0 14 rfl rfl)
theorem dX2_ties_15 : decode cX2_ties 15 = .ok (.getfield 83, 3) := dk_180 0 83 (dk_at dksX2_ties_0 15 rfl rfl)
theorem dX2_ties_18 : decode cX2_ties 18 = .ok (.iload_n 2, 1) := dk_28 (dk_at dksX2_ties_0 18 rfl rfl)
theorem dX2_ties_19 : decode cX2_ties 19 = .ok (.iastore, 1) := dk_79 (dk_at dksX2_ties_0 19 rfl rfl)
theorem dX2_ties_20 : decode cX2_ties 20 = .ok (.aload_n 0, 1) := dk_42 (dk_at dksX2_ties_0 20 rfl rfl)
theorem dX2_ties_21 : decode cX2_ties 21 = .ok (.dup, 1) := dk_89 (dk_at dksX2_ties_0 21 rfl rfl)
theorem dX2_ties_22 : decode cX2_ties 22 = .ok (.getfield 83, 3) := dk_180 0 83 (dk_at dksX2_ties_1 0 rfl rfl)
theorem dX2_ties_25 : decode cX2_ties 25 = .ok (.iconst 1, 1) := dk_4 (dk_at dksX2_ties_1 3 rfl rfl)
theorem dX2_ties_26 : decode cX2_ties 26 = .ok (.iadd, 1) := dk_96 (dk_at dksX2_ties_1 4 rfl rfl)
theorem dX2_ties_27 : decode cX2_ties 27 = .ok (.putfield 83, 3) := dk_181 0 83 (dk_at dksX2_ties_1 5 rfl rfl)
theorem dX2_ties_30 : decode cX2_ties 30 = .ok (.return_, 1) := dk_177 (dk_at dksX2_ties_1 8 rfl rfl)
abbrev cX2_weightOf : ByteArray := prog_19_method_10_code
def yX2_weightOf : MethodName := ⟨RX2, "weightOf", "(II)I"⟩
def dkwX2_weightOf_2 : List UInt8 := [3, 96, 62, 132, 4, 1, 167, 255, 208, 29, 172]
abbrev dktX2_weightOf_2 : List UInt8 := dkwX2_weightOf_2 ++ []
def dkwX2_weightOf_1 : List UInt8 := [160, 0, 24, 42, 180, 0, 28, 21, 4, 46, 28, 160, 0, 13, 42, 180, 0, 31, 21, 4, 46, 167, 0, 4]
abbrev dktX2_weightOf_1 : List UInt8 := dkwX2_weightOf_1 ++ dktX2_weightOf_2
def dkwX2_weightOf_0 : List UInt8 := [3, 62, 3, 54, 4, 21, 4, 42, 180, 0, 77, 162, 0, 45, 29, 42, 180, 0, 24, 21, 4, 46, 27]
abbrev dktX2_weightOf_0 : List UInt8 := dkwX2_weightOf_0 ++ dktX2_weightOf_1
theorem dksX2_weightOf_0 : cX2_weightOf.data.toList.drop 0 = dktX2_weightOf_0 := by decide +kernel
theorem dksX2_weightOf_1 : cX2_weightOf.data.toList.drop 23 = dktX2_weightOf_1 := dk_seg dksX2_weightOf_0 23 rfl rfl
theorem dksX2_weightOf_2 : cX2_weightOf.data.toList.drop 47 = dktX2_weightOf_2 := dk_seg dksX2_weightOf_1 24 rfl rfl
theorem dX2_weightOf_0 : decode cX2_weightOf 0 = .ok (.iconst 0, 1) := dk_3 (dk_at dksX2_weightOf_0 0 rfl rfl)
theorem dX2_weightOf_1 : decode cX2_weightOf 1 = .ok (.istore_n 3, 1) := dk_62 (dk_at dksX2_weightOf_0 1 rfl rfl)
theorem dX2_weightOf_2 : decode cX2_weightOf 2 = .ok (.iconst 0, 1) := dk_3 (dk_at dksX2_weightOf_0 2 rfl rfl)
theorem dX2_weightOf_3 : decode cX2_weightOf 3 = .ok (.istore 4, 2) := dk_54 4 (dk_at dksX2_weightOf_0 3 rfl rfl)
theorem dX2_weightOf_5 : decode cX2_weightOf 5 = .ok (.iload 4, 2) := dk_21 4 (dk_at dksX2_weightOf_0 5 rfl rfl)
theorem dX2_weightOf_7 : decode cX2_weightOf 7 = .ok (.aload_n 0, 1) := dk_42 (dk_at dksX2_weightOf_0 7 rfl rfl)
theorem dX2_weightOf_8 : decode cX2_weightOf 8 = .ok (.getfield 77, 3) := dk_180 0 77 (dk_at dksX2_weightOf_0 8 rfl rfl)
theorem dX2_weightOf_11 : decode cX2_weightOf 11 = .ok (.if_icmp .ge 45, 3) := dk_162 0 45 (dk_at dksX2_weightOf_0 11 rfl rfl)
theorem dX2_weightOf_14 : decode cX2_weightOf 14 = .ok (.iload_n 3, 1) := dk_29 (dk_at dksX2_weightOf_0 14 rfl rfl)
theorem dX2_weightOf_15 : decode cX2_weightOf 15 = .ok (.aload_n 0, 1) := dk_42 (dk_at dksX2_weightOf_0 15 rfl rfl)
theorem dX2_weightOf_16 : decode cX2_weightOf 16 = .ok (.getfield 24, 3) := dk_180 0 24 (dk_at dksX2_weightOf_0 16 rfl rfl)
theorem dX2_weightOf_19 : decode cX2_weightOf 19 = .ok (.iload 4, 2) := dk_21 4 (dk_at dksX2_weightOf_0 19 rfl rfl)
theorem dX2_weightOf_21 : decode cX2_weightOf 21 = .ok (.iaload, 1) := dk_46 (dk_at dksX2_weightOf_0 21 rfl rfl)
theorem dX2_weightOf_22 : decode cX2_weightOf 22 = .ok (.iload_n 1, 1) := dk_27 (dk_at dksX2_weightOf_0 22 rfl rfl)
theorem dX2_weightOf_23 : decode cX2_weightOf 23 = .ok (.if_icmp .ne 24, 3) := dk_160 0 24 (dk_at dksX2_weightOf_1 0 rfl rfl)
theorem dX2_weightOf_26 : decode cX2_weightOf 26 = .ok (.aload_n 0, 1) := dk_42 (dk_at dksX2_weightOf_1 3 rfl rfl)
theorem dX2_weightOf_27 : decode cX2_weightOf 27 = .ok (.getfield 28, 3) := dk_180 0 28 (dk_at dksX2_weightOf_1 4 rfl rfl)
theorem dX2_weightOf_30 : decode cX2_weightOf 30 = .ok (.iload 4, 2) := dk_21 4 (dk_at dksX2_weightOf_1 7 rfl rfl)
theorem dX2_weightOf_32 : decode cX2_weightOf 32 = .ok (.iaload, 1) := dk_46 (dk_at dksX2_weightOf_1 9 rfl rfl)
theorem dX2_weightOf_33 : decode cX2_weightOf 33 = .ok (.iload_n 2, 1) := dk_28 (dk_at dksX2_weightOf_1 10 rfl rfl)
theorem dX2_weightOf_34 : decode cX2_weightOf 34 = .ok (.if_icmp .ne 13, 3) := dk_160 0 13 (dk_at dksX2_weightOf_1 11 rfl rfl)
theorem dX2_weightOf_37 : decode cX2_weightOf 37 = .ok (.aload_n 0, 1) := dk_42 (dk_at dksX2_weightOf_1 14 rfl rfl)
theorem dX2_weightOf_38 : decode cX2_weightOf 38 = .ok (.getfield 31, 3) := dk_180 0 31 (dk_at dksX2_weightOf_1 15 rfl rfl)
theorem dX2_weightOf_41 : decode cX2_weightOf 41 = .ok (.iload 4, 2) := dk_21 4 (dk_at dksX2_weightOf_1 18 rfl rfl)
theorem dX2_weightOf_43 : decode cX2_weightOf 43 = .ok (.iaload, 1) := dk_46 (dk_at dksX2_weightOf_1 20 rfl rfl)
theorem dX2_weightOf_44 : decode cX2_weightOf 44 = .ok (.goto 4, 3) := dk_167 0 4 (dk_at dksX2_weightOf_1 21 rfl rfl)
theorem dX2_weightOf_47 : decode cX2_weightOf 47 = .ok (.iconst 0, 1) := dk_3 (dk_at dksX2_weightOf_2 0 rfl rfl)
theorem dX2_weightOf_48 : decode cX2_weightOf 48 = .ok (.iadd, 1) := dk_96 (dk_at dksX2_weightOf_2 1 rfl rfl)
theorem dX2_weightOf_49 : decode cX2_weightOf 49 = .ok (.istore_n 3, 1) := dk_62 (dk_at dksX2_weightOf_2 2 rfl rfl)
theorem dX2_weightOf_50 : decode cX2_weightOf 50 = .ok (.iinc 4 1, 3) := dk_132 4 1 (dk_at dksX2_weightOf_2 3 rfl rfl)
theorem dX2_weightOf_53 : decode cX2_weightOf 53 = .ok (.goto (-48), 3) := dk_167 255 208 (dk_at dksX2_weightOf_2 6 rfl rfl)
theorem dX2_weightOf_56 : decode cX2_weightOf 56 = .ok (.iload_n 3, 1) := dk_29 (dk_at dksX2_weightOf_2 9 rfl rfl)
theorem dX2_weightOf_57 : decode cX2_weightOf 57 = .ok (.ireturn, 1) := dk_172 (dk_at dksX2_weightOf_2 10 rfl rfl)
abbrev cX2_meetingsOf : ByteArray := prog_19_method_13_code
def yX2_meetingsOf : MethodName := ⟨RX2, "meetingsOf", "(I)I"⟩
def dkwX2_meetingsOf_1 : List UInt8 := [96, 61, 132, 3, 1, 167, 255, 231, 28, 172]
abbrev dktX2_meetingsOf_1 : List UInt8 := dkwX2_meetingsOf_1 ++ []
def dkwX2_meetingsOf_0 : List UInt8 := [3, 61, 3, 62, 29, 42, 180, 0, 80, 162, 0, 23, 28, 42, 180, 0, 50, 16, 10, 27, 104, 29, 96, 46]
abbrev dktX2_meetingsOf_0 : List UInt8 := dkwX2_meetingsOf_0 ++ dktX2_meetingsOf_1
theorem dksX2_meetingsOf_0 : cX2_meetingsOf.data.toList.drop 0 = dktX2_meetingsOf_0 := by decide +kernel
theorem dksX2_meetingsOf_1 : cX2_meetingsOf.data.toList.drop 24 = dktX2_meetingsOf_1 := dk_seg dksX2_meetingsOf_0 24 rfl rfl
theorem dX2_meetingsOf_0 : decode cX2_meetingsOf 0 = .ok (.iconst 0, 1) := dk_3 (dk_at dksX2_meetingsOf_0 0 rfl rfl)
theorem dX2_meetingsOf_1 : decode cX2_meetingsOf 1 = .ok (.istore_n 2, 1) := dk_61 (dk_at dksX2_meetingsOf_0 1 rfl rfl)
theorem dX2_meetingsOf_2 : decode cX2_meetingsOf 2 = .ok (.iconst 0, 1) := dk_3 (dk_at dksX2_meetingsOf_0 2 rfl rfl)
theorem dX2_meetingsOf_3 : decode cX2_meetingsOf 3 = .ok (.istore_n 3, 1) := dk_62 (dk_at dksX2_meetingsOf_0 3 rfl rfl)
theorem dX2_meetingsOf_4 : decode cX2_meetingsOf 4 = .ok (.iload_n 3, 1) := dk_29 (dk_at dksX2_meetingsOf_0 4 rfl rfl)
theorem dX2_meetingsOf_5 : decode cX2_meetingsOf 5 = .ok (.aload_n 0, 1) := dk_42 (dk_at dksX2_meetingsOf_0 5 rfl rfl)
theorem dX2_meetingsOf_6 : decode cX2_meetingsOf 6 = .ok (.getfield 80, 3) := dk_180 0 80 (dk_at dksX2_meetingsOf_0 6 rfl rfl)
theorem dX2_meetingsOf_9 : decode cX2_meetingsOf 9 = .ok (.if_icmp .ge 23, 3) := dk_162 0 23 (dk_at dksX2_meetingsOf_0 9 rfl rfl)
theorem dX2_meetingsOf_12 : decode cX2_meetingsOf 12 = .ok (.iload_n 2, 1) := dk_28 (dk_at dksX2_meetingsOf_0 12 rfl rfl)
theorem dX2_meetingsOf_13 : decode cX2_meetingsOf 13 = .ok (.aload_n 0, 1) := dk_42 (dk_at dksX2_meetingsOf_0 13 rfl rfl)
theorem dX2_meetingsOf_14 : decode cX2_meetingsOf 14 = .ok (.getfield 50, 3) := dk_180 0 50 (dk_at dksX2_meetingsOf_0 14 rfl rfl)
theorem dX2_meetingsOf_17 : decode cX2_meetingsOf 17 = .ok (.bipush 10, 2) := dk_16 10 (dk_at dksX2_meetingsOf_0 17 rfl rfl)
theorem dX2_meetingsOf_19 : decode cX2_meetingsOf 19 = .ok (.iload_n 1, 1) := dk_27 (dk_at dksX2_meetingsOf_0 19 rfl rfl)
theorem dX2_meetingsOf_20 : decode cX2_meetingsOf 20 = .ok (.imul, 1) := dk_104 (dk_at dksX2_meetingsOf_0 20 rfl rfl)
theorem dX2_meetingsOf_21 : decode cX2_meetingsOf 21 = .ok (.iload_n 3, 1) := dk_29 (dk_at dksX2_meetingsOf_0 21 rfl rfl)
theorem dX2_meetingsOf_22 : decode cX2_meetingsOf 22 = .ok (.iadd, 1) := dk_96 (dk_at dksX2_meetingsOf_0 22 rfl rfl)
theorem dX2_meetingsOf_23 : decode cX2_meetingsOf 23 = .ok (.iaload, 1) := dk_46 (dk_at dksX2_meetingsOf_0 23 rfl rfl)
theorem dX2_meetingsOf_24 : decode cX2_meetingsOf 24 = .ok (.iadd, 1) := dk_96 (dk_at dksX2_meetingsOf_1 0 rfl rfl)
theorem dX2_meetingsOf_25 : decode cX2_meetingsOf 25 = .ok (.istore_n 2, 1) := dk_61 (dk_at dksX2_meetingsOf_1 1 rfl rfl)
theorem dX2_meetingsOf_26 : decode cX2_meetingsOf 26 = .ok (.iinc 3 1, 3) := dk_132 3 1 (dk_at dksX2_meetingsOf_1 2 rfl rfl)
theorem dX2_meetingsOf_29 : decode cX2_meetingsOf 29 = .ok (.goto (-25), 3) := dk_167 255 231 (dk_at dksX2_meetingsOf_1 5 rfl rfl)
theorem dX2_meetingsOf_32 : decode cX2_meetingsOf 32 = .ok (.iload_n 2, 1) := dk_28 (dk_at dksX2_meetingsOf_1 8 rfl rfl)
theorem dX2_meetingsOf_33 : decode cX2_meetingsOf 33 = .ok (.ireturn, 1) := dk_172 (dk_at dksX2_meetingsOf_1 9 rfl rfl)
abbrev cX2_draw : ByteArray := prog_19_method_4_code
def yX2_draw : MethodName := ⟨RX2, "draw", "(I)I"⟩
def dkwX2_draw_1 : List UInt8 := [17, 127, 255, 126, 27, 112, 172]
abbrev dktX2_draw_1 : List UInt8 := dkwX2_draw_1 ++ []
def dkwX2_draw_0 : List UInt8 := [42, 18, 118, 42, 180, 0, 21, 104, 17, 48, 57, 96, 181, 0, 21, 42, 180, 0, 21, 16, 16, 124]
abbrev dktX2_draw_0 : List UInt8 := dkwX2_draw_0 ++ dktX2_draw_1
theorem dksX2_draw_0 : cX2_draw.data.toList.drop 0 = dktX2_draw_0 := by decide +kernel
theorem dksX2_draw_1 : cX2_draw.data.toList.drop 22 = dktX2_draw_1 := dk_seg dksX2_draw_0 22 rfl rfl
theorem dX2_draw_0 : decode cX2_draw 0 = .ok (.aload_n 0, 1) := dk_42 (dk_at dksX2_draw_0 0 rfl rfl)
theorem dX2_draw_1 : decode cX2_draw 1 = .ok (.ldc 118, 2) := dk_18 118 (dk_at dksX2_draw_0 1 rfl rfl)
theorem dX2_draw_3 : decode cX2_draw 3 = .ok (.aload_n 0, 1) := dk_42 (dk_at dksX2_draw_0 3 rfl rfl)
theorem dX2_draw_4 : decode cX2_draw 4 = .ok (.getfield 21, 3) := dk_180 0 21 (dk_at dksX2_draw_0 4 rfl rfl)
theorem dX2_draw_7 : decode cX2_draw 7 = .ok (.imul, 1) := dk_104 (dk_at dksX2_draw_0 7 rfl rfl)
theorem dX2_draw_8 : decode cX2_draw 8 = .ok (.sipush 12345, 3) := dk_17 48 57 (dk_at dksX2_draw_0 8 rfl rfl)
theorem dX2_draw_11 : decode cX2_draw 11 = .ok (.iadd, 1) := dk_96 (dk_at dksX2_draw_0 11 rfl rfl)
theorem dX2_draw_12 : decode cX2_draw 12 = .ok (.putfield 21, 3) := dk_181 0 21 (dk_at dksX2_draw_0 12 rfl rfl)
theorem dX2_draw_15 : decode cX2_draw 15 = .ok (.aload_n 0, 1) := dk_42 (dk_at dksX2_draw_0 15 rfl rfl)
theorem dX2_draw_16 : decode cX2_draw 16 = .ok (.getfield 21, 3) := dk_180 0 21 (dk_at dksX2_draw_0 16 rfl rfl)
theorem dX2_draw_19 : decode cX2_draw 19 = .ok (.bipush 16, 2) := dk_16 16 (dk_at dksX2_draw_0 19 rfl rfl)
theorem dX2_draw_21 : decode cX2_draw 21 = .ok (.iushr, 1) := dk_124 (dk_at dksX2_draw_0 21 rfl rfl)
theorem dX2_draw_22 : decode cX2_draw 22 = .ok (.sipush 32767, 3) := dk_17 127 255 (dk_at dksX2_draw_1 0 rfl rfl)
theorem dX2_draw_25 : decode cX2_draw 25 = .ok (.iand, 1) := dk_126 (dk_at dksX2_draw_1 3 rfl rfl)
theorem dX2_draw_26 : decode cX2_draw 26 = .ok (.iload_n 1, 1) := dk_27 (dk_at dksX2_draw_1 4 rfl rfl)
theorem dX2_draw_27 : decode cX2_draw 27 = .ok (.irem, 1) := dk_112 (dk_at dksX2_draw_1 5 rfl rfl)
theorem dX2_draw_28 : decode cX2_draw 28 = .ok (.ireturn, 1) := dk_172 (dk_at dksX2_draw_1 6 rfl rfl)
abbrev cX2_sees : ByteArray := prog_19_method_14_code
def yX2_sees : MethodName := ⟨RX2, "sees", "(III)V"⟩
def dkwX2_sees_3 : List UInt8 := [79, 177]
abbrev dktX2_sees_3 : List UInt8 := dkwX2_sees_3 ++ []
def dkwX2_sees_2 : List UInt8 := [180, 0, 37, 27, 29, 79, 42, 180, 0, 59, 27, 42, 180, 0, 56, 27, 46, 79, 42, 180, 0, 56, 27, 29]
abbrev dktX2_sees_2 : List UInt8 := dkwX2_sees_2 ++ dktX2_sees_3
def dkwX2_sees_1 : List UInt8 := [96, 29, 79, 42, 180, 0, 56, 27, 46, 29, 160, 0, 20, 42, 180, 0, 59, 27, 46, 29, 160, 0, 10, 42]
abbrev dktX2_sees_1 : List UInt8 := dkwX2_sees_1 ++ dktX2_sees_2
def dkwX2_sees_0 : List UInt8 := [42, 180, 0, 50, 16, 10, 27, 104, 28, 96, 92, 46, 4, 96, 79, 42, 180, 0, 53, 16, 10, 27, 104, 28]
abbrev dktX2_sees_0 : List UInt8 := dkwX2_sees_0 ++ dktX2_sees_1
theorem dksX2_sees_0 : cX2_sees.data.toList.drop 0 = dktX2_sees_0 := by decide +kernel
theorem dksX2_sees_1 : cX2_sees.data.toList.drop 24 = dktX2_sees_1 := dk_seg dksX2_sees_0 24 rfl rfl
theorem dksX2_sees_2 : cX2_sees.data.toList.drop 48 = dktX2_sees_2 := dk_seg dksX2_sees_1 24 rfl rfl
theorem dksX2_sees_3 : cX2_sees.data.toList.drop 72 = dktX2_sees_3 := dk_seg dksX2_sees_2 24 rfl rfl
theorem dX2_sees_0 : decode cX2_sees 0 = .ok (.aload_n 0, 1) := dk_42 (dk_at dksX2_sees_0 0 rfl rfl)
theorem dX2_sees_1 : decode cX2_sees 1 = .ok (.getfield 50, 3) := dk_180 0 50 (dk_at dksX2_sees_0 1 rfl rfl)
theorem dX2_sees_4 : decode cX2_sees 4 = .ok (.bipush 10, 2) := dk_16 10 (dk_at dksX2_sees_0 4 rfl rfl)
theorem dX2_sees_6 : decode cX2_sees 6 = .ok (.iload_n 1, 1) := dk_27 (dk_at dksX2_sees_0 6 rfl rfl)
theorem dX2_sees_7 : decode cX2_sees 7 = .ok (.imul, 1) := dk_104 (dk_at dksX2_sees_0 7 rfl rfl)
theorem dX2_sees_8 : decode cX2_sees 8 = .ok (.iload_n 2, 1) := dk_28 (dk_at dksX2_sees_0 8 rfl rfl)
theorem dX2_sees_9 : decode cX2_sees 9 = .ok (.iadd, 1) := dk_96 (dk_at dksX2_sees_0 9 rfl rfl)
theorem dX2_sees_10 : decode cX2_sees 10 = .ok (.dup2, 1) := dk_92 (dk_at dksX2_sees_0 10 rfl rfl)
theorem dX2_sees_11 : decode cX2_sees 11 = .ok (.iaload, 1) := dk_46 (dk_at dksX2_sees_0 11 rfl rfl)
theorem dX2_sees_12 : decode cX2_sees 12 = .ok (.iconst 1, 1) := dk_4 (dk_at dksX2_sees_0 12 rfl rfl)
theorem dX2_sees_13 : decode cX2_sees 13 = .ok (.iadd, 1) := dk_96 (dk_at dksX2_sees_0 13 rfl rfl)
theorem dX2_sees_14 : decode cX2_sees 14 = .ok (.iastore, 1) := dk_79 (dk_at dksX2_sees_0 14 rfl rfl)
theorem dX2_sees_15 : decode cX2_sees 15 = .ok (.aload_n 0, 1) := dk_42 (dk_at dksX2_sees_0 15 rfl rfl)
theorem dX2_sees_16 : decode cX2_sees 16 = .ok (.getfield 53, 3) := dk_180 0 53 (dk_at dksX2_sees_0 16 rfl rfl)
theorem dX2_sees_19 : decode cX2_sees 19 = .ok (.bipush 10, 2) := dk_16 10 (dk_at dksX2_sees_0 19 rfl rfl)
theorem dX2_sees_21 : decode cX2_sees 21 = .ok (.iload_n 1, 1) := dk_27 (dk_at dksX2_sees_0 21 rfl rfl)
theorem dX2_sees_22 : decode cX2_sees 22 = .ok (.imul, 1) := dk_104 (dk_at dksX2_sees_0 22 rfl rfl)
theorem dX2_sees_23 : decode cX2_sees 23 = .ok (.iload_n 2, 1) := dk_28 (dk_at dksX2_sees_0 23 rfl rfl)
theorem dX2_sees_24 : decode cX2_sees 24 = .ok (.iadd, 1) := dk_96 (dk_at dksX2_sees_1 0 rfl rfl)
theorem dX2_sees_25 : decode cX2_sees 25 = .ok (.iload_n 3, 1) := dk_29 (dk_at dksX2_sees_1 1 rfl rfl)
theorem dX2_sees_26 : decode cX2_sees 26 = .ok (.iastore, 1) := dk_79 (dk_at dksX2_sees_1 2 rfl rfl)
theorem dX2_sees_27 : decode cX2_sees 27 = .ok (.aload_n 0, 1) := dk_42 (dk_at dksX2_sees_1 3 rfl rfl)
theorem dX2_sees_28 : decode cX2_sees 28 = .ok (.getfield 56, 3) := dk_180 0 56 (dk_at dksX2_sees_1 4 rfl rfl)
theorem dX2_sees_31 : decode cX2_sees 31 = .ok (.iload_n 1, 1) := dk_27 (dk_at dksX2_sees_1 7 rfl rfl)
theorem dX2_sees_32 : decode cX2_sees 32 = .ok (.iaload, 1) := dk_46 (dk_at dksX2_sees_1 8 rfl rfl)
theorem dX2_sees_33 : decode cX2_sees 33 = .ok (.iload_n 3, 1) := dk_29 (dk_at dksX2_sees_1 9 rfl rfl)
theorem dX2_sees_34 : decode cX2_sees 34 = .ok (.if_icmp .ne 20, 3) := dk_160 0 20 (dk_at dksX2_sees_1 10 rfl rfl)
theorem dX2_sees_37 : decode cX2_sees 37 = .ok (.aload_n 0, 1) := dk_42 (dk_at dksX2_sees_1 13 rfl rfl)
theorem dX2_sees_38 : decode cX2_sees 38 = .ok (.getfield 59, 3) := dk_180 0 59 (dk_at dksX2_sees_1 14 rfl rfl)
theorem dX2_sees_41 : decode cX2_sees 41 = .ok (.iload_n 1, 1) := dk_27 (dk_at dksX2_sees_1 17 rfl rfl)
theorem dX2_sees_42 : decode cX2_sees 42 = .ok (.iaload, 1) := dk_46 (dk_at dksX2_sees_1 18 rfl rfl)
theorem dX2_sees_43 : decode cX2_sees 43 = .ok (.iload_n 3, 1) := dk_29 (dk_at dksX2_sees_1 19 rfl rfl)
theorem dX2_sees_44 : decode cX2_sees 44 = .ok (.if_icmp .ne 10, 3) := dk_160 0 10 (dk_at dksX2_sees_1 20 rfl rfl)
theorem dX2_sees_47 : decode cX2_sees 47 = .ok (.aload_n 0, 1) := dk_42 (dk_at dksX2_sees_1 23 rfl rfl)
theorem dX2_sees_48 : decode cX2_sees 48 = .ok (.getfield 37, 3) := dk_180 0 37 (dk_at dksX2_sees_2 0 rfl rfl)
theorem dX2_sees_51 : decode cX2_sees 51 = .ok (.iload_n 1, 1) := dk_27 (dk_at dksX2_sees_2 3 rfl rfl)
theorem dX2_sees_52 : decode cX2_sees 52 = .ok (.iload_n 3, 1) := dk_29 (dk_at dksX2_sees_2 4 rfl rfl)
theorem dX2_sees_53 : decode cX2_sees 53 = .ok (.iastore, 1) := dk_79 (dk_at dksX2_sees_2 5 rfl rfl)
theorem dX2_sees_54 : decode cX2_sees 54 = .ok (.aload_n 0, 1) := dk_42 (dk_at dksX2_sees_2 6 rfl rfl)
theorem dX2_sees_55 : decode cX2_sees 55 = .ok (.getfield 59, 3) := dk_180 0 59 (dk_at dksX2_sees_2 7 rfl rfl)
theorem dX2_sees_58 : decode cX2_sees 58 = .ok (.iload_n 1, 1) := dk_27 (dk_at dksX2_sees_2 10 rfl rfl)
theorem dX2_sees_59 : decode cX2_sees 59 = .ok (.aload_n 0, 1) := dk_42 (dk_at dksX2_sees_2 11 rfl rfl)
theorem dX2_sees_60 : decode cX2_sees 60 = .ok (.getfield 56, 3) := dk_180 0 56 (dk_at dksX2_sees_2 12 rfl rfl)
theorem dX2_sees_63 : decode cX2_sees 63 = .ok (.iload_n 1, 1) := dk_27 (dk_at dksX2_sees_2 15 rfl rfl)
theorem dX2_sees_64 : decode cX2_sees 64 = .ok (.iaload, 1) := dk_46 (dk_at dksX2_sees_2 16 rfl rfl)
theorem dX2_sees_65 : decode cX2_sees 65 = .ok (.iastore, 1) := dk_79 (dk_at dksX2_sees_2 17 rfl rfl)
theorem dX2_sees_66 : decode cX2_sees 66 = .ok (.aload_n 0, 1) := dk_42 (dk_at dksX2_sees_2 18 rfl rfl)
theorem dX2_sees_67 : decode cX2_sees 67 = .ok (.getfield 56, 3) := dk_180 0 56 (dk_at dksX2_sees_2 19 rfl rfl)
theorem dX2_sees_70 : decode cX2_sees 70 = .ok (.iload_n 1, 1) := dk_27 (dk_at dksX2_sees_2 22 rfl rfl)
theorem dX2_sees_71 : decode cX2_sees 71 = .ok (.iload_n 3, 1) := dk_29 (dk_at dksX2_sees_2 23 rfl rfl)
theorem dX2_sees_72 : decode cX2_sees 72 = .ok (.iastore, 1) := dk_79 (dk_at dksX2_sees_3 0 rfl rfl)
theorem dX2_sees_73 : decode cX2_sees 73 = .ok (.return_, 1) := dk_177 (dk_at dksX2_sees_3 1 rfl rfl)
abbrev cX2_tells : ByteArray := prog_19_method_15_code
def yX2_tells : MethodName := ⟨RX2, "tells", "(II[I[II)V"⟩
def dkwX2_tells_4 : List UInt8 := [16, 60, 42, 180, 0, 101, 4, 96, 184, 0, 145, 181, 0, 101, 177]
abbrev dktX2_tells_4 : List UInt8 := dkwX2_tells_4 ++ []
def dkwX2_tells_3 : List UInt8 := [3, 46, 79, 42, 180, 0, 68, 16, 6, 25, 4, 4, 46, 79, 42, 180, 0, 68, 16, 7, 21, 5, 79, 42]
abbrev dktX2_tells_3 : List UInt8 := dkwX2_tells_3 ++ dktX2_tells_4
def dkwX2_tells_2 : List UInt8 := [180, 0, 68, 6, 45, 3, 46, 79, 42, 180, 0, 68, 7, 45, 4, 46, 79, 42, 180, 0, 68, 8, 25, 4]
abbrev dktX2_tells_2 : List UInt8 := dkwX2_tells_2 ++ dktX2_tells_3
def dkwX2_tells_1 : List UInt8 := [180, 0, 68, 3, 42, 180, 0, 86, 79, 42, 180, 0, 68, 4, 27, 79, 42, 180, 0, 68, 5, 28, 79, 42]
abbrev dktX2_tells_1 : List UInt8 := dkwX2_tells_1 ++ dktX2_tells_2
def dkwX2_tells_0 : List UInt8 := [42, 180, 0, 68, 3, 42, 180, 0, 68, 16, 8, 42, 180, 0, 68, 190, 16, 8, 100, 184, 0, 112, 42]
abbrev dktX2_tells_0 : List UInt8 := dkwX2_tells_0 ++ dktX2_tells_1
theorem dksX2_tells_0 : cX2_tells.data.toList.drop 0 = dktX2_tells_0 := by decide +kernel
theorem dksX2_tells_1 : cX2_tells.data.toList.drop 23 = dktX2_tells_1 := dk_seg dksX2_tells_0 23 rfl rfl
theorem dksX2_tells_2 : cX2_tells.data.toList.drop 47 = dktX2_tells_2 := dk_seg dksX2_tells_1 24 rfl rfl
theorem dksX2_tells_3 : cX2_tells.data.toList.drop 71 = dktX2_tells_3 := dk_seg dksX2_tells_2 24 rfl rfl
theorem dksX2_tells_4 : cX2_tells.data.toList.drop 95 = dktX2_tells_4 := dk_seg dksX2_tells_3 24 rfl rfl
theorem dX2_tells_0 : decode cX2_tells 0 = .ok (.aload_n 0, 1) := dk_42 (dk_at dksX2_tells_0 0 rfl rfl)
theorem dX2_tells_1 : decode cX2_tells 1 = .ok (.getfield 68, 3) := dk_180 0 68 (dk_at dksX2_tells_0 1 rfl rfl)
theorem dX2_tells_4 : decode cX2_tells 4 = .ok (.iconst 0, 1) := dk_3 (dk_at dksX2_tells_0 4 rfl rfl)
theorem dX2_tells_5 : decode cX2_tells 5 = .ok (.aload_n 0, 1) := dk_42 (dk_at dksX2_tells_0 5 rfl rfl)
theorem dX2_tells_6 : decode cX2_tells 6 = .ok (.getfield 68, 3) := dk_180 0 68 (dk_at dksX2_tells_0 6 rfl rfl)
theorem dX2_tells_9 : decode cX2_tells 9 = .ok (.bipush 8, 2) := dk_16 8 (dk_at dksX2_tells_0 9 rfl rfl)
theorem dX2_tells_11 : decode cX2_tells 11 = .ok (.aload_n 0, 1) := dk_42 (dk_at dksX2_tells_0 11 rfl rfl)
theorem dX2_tells_12 : decode cX2_tells 12 = .ok (.getfield 68, 3) := dk_180 0 68 (dk_at dksX2_tells_0 12 rfl rfl)
theorem dX2_tells_15 : decode cX2_tells 15 = .ok (.arraylength, 1) := dk_190 (dk_at dksX2_tells_0 15 rfl rfl)
theorem dX2_tells_16 : decode cX2_tells 16 = .ok (.bipush 8, 2) := dk_16 8 (dk_at dksX2_tells_0 16 rfl rfl)
theorem dX2_tells_18 : decode cX2_tells 18 = .ok (.isub, 1) := dk_100 (dk_at dksX2_tells_0 18 rfl rfl)
theorem dX2_tells_19 : decode cX2_tells 19 = .ok (.invokestatic 112, 3) := dk_184 0 112 (dk_at dksX2_tells_0 19 rfl rfl)
theorem dX2_tells_22 : decode cX2_tells 22 = .ok (.aload_n 0, 1) := dk_42 (dk_at dksX2_tells_0 22 rfl rfl)
theorem dX2_tells_23 : decode cX2_tells 23 = .ok (.getfield 68, 3) := dk_180 0 68 (dk_at dksX2_tells_1 0 rfl rfl)
theorem dX2_tells_26 : decode cX2_tells 26 = .ok (.iconst 0, 1) := dk_3 (dk_at dksX2_tells_1 3 rfl rfl)
theorem dX2_tells_27 : decode cX2_tells 27 = .ok (.aload_n 0, 1) := dk_42 (dk_at dksX2_tells_1 4 rfl rfl)
theorem dX2_tells_28 : decode cX2_tells 28 = .ok (.getfield 86, 3) := dk_180 0 86 (dk_at dksX2_tells_1 5 rfl rfl)
theorem dX2_tells_31 : decode cX2_tells 31 = .ok (.iastore, 1) := dk_79 (dk_at dksX2_tells_1 8 rfl rfl)
theorem dX2_tells_32 : decode cX2_tells 32 = .ok (.aload_n 0, 1) := dk_42 (dk_at dksX2_tells_1 9 rfl rfl)
theorem dX2_tells_33 : decode cX2_tells 33 = .ok (.getfield 68, 3) := dk_180 0 68 (dk_at dksX2_tells_1 10 rfl rfl)
theorem dX2_tells_36 : decode cX2_tells 36 = .ok (.iconst 1, 1) := dk_4 (dk_at dksX2_tells_1 13 rfl rfl)
theorem dX2_tells_37 : decode cX2_tells 37 = .ok (.iload_n 1, 1) := dk_27 (dk_at dksX2_tells_1 14 rfl rfl)
theorem dX2_tells_38 : decode cX2_tells 38 = .ok (.iastore, 1) := dk_79 (dk_at dksX2_tells_1 15 rfl rfl)
theorem dX2_tells_39 : decode cX2_tells 39 = .ok (.aload_n 0, 1) := dk_42 (dk_at dksX2_tells_1 16 rfl rfl)
theorem dX2_tells_40 : decode cX2_tells 40 = .ok (.getfield 68, 3) := dk_180 0 68 (dk_at dksX2_tells_1 17 rfl rfl)
theorem dX2_tells_43 : decode cX2_tells 43 = .ok (.iconst 2, 1) := dk_5 (dk_at dksX2_tells_1 20 rfl rfl)
theorem dX2_tells_44 : decode cX2_tells 44 = .ok (.iload_n 2, 1) := dk_28 (dk_at dksX2_tells_1 21 rfl rfl)
theorem dX2_tells_45 : decode cX2_tells 45 = .ok (.iastore, 1) := dk_79 (dk_at dksX2_tells_1 22 rfl rfl)
theorem dX2_tells_46 : decode cX2_tells 46 = .ok (.aload_n 0, 1) := dk_42 (dk_at dksX2_tells_1 23 rfl rfl)
theorem dX2_tells_47 : decode cX2_tells 47 = .ok (.getfield 68, 3) := dk_180 0 68 (dk_at dksX2_tells_2 0 rfl rfl)
theorem dX2_tells_50 : decode cX2_tells 50 = .ok (.iconst 3, 1) := dk_6 (dk_at dksX2_tells_2 3 rfl rfl)
theorem dX2_tells_51 : decode cX2_tells 51 = .ok (.aload_n 3, 1) := dk_45 (dk_at dksX2_tells_2 4 rfl rfl)
theorem dX2_tells_52 : decode cX2_tells 52 = .ok (.iconst 0, 1) := dk_3 (dk_at dksX2_tells_2 5 rfl rfl)
theorem dX2_tells_53 : decode cX2_tells 53 = .ok (.iaload, 1) := dk_46 (dk_at dksX2_tells_2 6 rfl rfl)
theorem dX2_tells_54 : decode cX2_tells 54 = .ok (.iastore, 1) := dk_79 (dk_at dksX2_tells_2 7 rfl rfl)
theorem dX2_tells_55 : decode cX2_tells 55 = .ok (.aload_n 0, 1) := dk_42 (dk_at dksX2_tells_2 8 rfl rfl)
theorem dX2_tells_56 : decode cX2_tells 56 = .ok (.getfield 68, 3) := dk_180 0 68 (dk_at dksX2_tells_2 9 rfl rfl)
theorem dX2_tells_59 : decode cX2_tells 59 = .ok (.iconst 4, 1) := dk_7 (dk_at dksX2_tells_2 12 rfl rfl)
theorem dX2_tells_60 : decode cX2_tells 60 = .ok (.aload_n 3, 1) := dk_45 (dk_at dksX2_tells_2 13 rfl rfl)
theorem dX2_tells_61 : decode cX2_tells 61 = .ok (.iconst 1, 1) := dk_4 (dk_at dksX2_tells_2 14 rfl rfl)
theorem dX2_tells_62 : decode cX2_tells 62 = .ok (.iaload, 1) := dk_46 (dk_at dksX2_tells_2 15 rfl rfl)
theorem dX2_tells_63 : decode cX2_tells 63 = .ok (.iastore, 1) := dk_79 (dk_at dksX2_tells_2 16 rfl rfl)
theorem dX2_tells_64 : decode cX2_tells 64 = .ok (.aload_n 0, 1) := dk_42 (dk_at dksX2_tells_2 17 rfl rfl)
theorem dX2_tells_65 : decode cX2_tells 65 = .ok (.getfield 68, 3) := dk_180 0 68 (dk_at dksX2_tells_2 18 rfl rfl)
theorem dX2_tells_68 : decode cX2_tells 68 = .ok (.iconst 5, 1) := dk_8 (dk_at dksX2_tells_2 21 rfl rfl)
theorem dX2_tells_69 : decode cX2_tells 69 = .ok (.aload 4, 2) := dk_25 4 (dk_at dksX2_tells_2 22 rfl rfl)
theorem dX2_tells_71 : decode cX2_tells 71 = .ok (.iconst 0, 1) := dk_3 (dk_at dksX2_tells_3 0 rfl rfl)
theorem dX2_tells_72 : decode cX2_tells 72 = .ok (.iaload, 1) := dk_46 (dk_at dksX2_tells_3 1 rfl rfl)
theorem dX2_tells_73 : decode cX2_tells 73 = .ok (.iastore, 1) := dk_79 (dk_at dksX2_tells_3 2 rfl rfl)
theorem dX2_tells_74 : decode cX2_tells 74 = .ok (.aload_n 0, 1) := dk_42 (dk_at dksX2_tells_3 3 rfl rfl)
theorem dX2_tells_75 : decode cX2_tells 75 = .ok (.getfield 68, 3) := dk_180 0 68 (dk_at dksX2_tells_3 4 rfl rfl)
theorem dX2_tells_78 : decode cX2_tells 78 = .ok (.bipush 6, 2) := dk_16 6 (dk_at dksX2_tells_3 7 rfl rfl)
theorem dX2_tells_80 : decode cX2_tells 80 = .ok (.aload 4, 2) := dk_25 4 (dk_at dksX2_tells_3 9 rfl rfl)
theorem dX2_tells_82 : decode cX2_tells 82 = .ok (.iconst 1, 1) := dk_4 (dk_at dksX2_tells_3 11 rfl rfl)
theorem dX2_tells_83 : decode cX2_tells 83 = .ok (.iaload, 1) := dk_46 (dk_at dksX2_tells_3 12 rfl rfl)
theorem dX2_tells_84 : decode cX2_tells 84 = .ok (.iastore, 1) := dk_79 (dk_at dksX2_tells_3 13 rfl rfl)
theorem dX2_tells_85 : decode cX2_tells 85 = .ok (.aload_n 0, 1) := dk_42 (dk_at dksX2_tells_3 14 rfl rfl)
theorem dX2_tells_86 : decode cX2_tells 86 = .ok (.getfield 68, 3) := dk_180 0 68 (dk_at dksX2_tells_3 15 rfl rfl)
theorem dX2_tells_89 : decode cX2_tells 89 = .ok (.bipush 7, 2) := dk_16 7 (dk_at dksX2_tells_3 18 rfl rfl)
theorem dX2_tells_91 : decode cX2_tells 91 = .ok (.iload 5, 2) := dk_21 5 (dk_at dksX2_tells_3 20 rfl rfl)
theorem dX2_tells_93 : decode cX2_tells 93 = .ok (.iastore, 1) := dk_79 (dk_at dksX2_tells_3 22 rfl rfl)
theorem dX2_tells_94 : decode cX2_tells 94 = .ok (.aload_n 0, 1) := dk_42 (dk_at dksX2_tells_3 23 rfl rfl)
theorem dX2_tells_95 : decode cX2_tells 95 = .ok (.bipush 60, 2) := dk_16 60 (dk_at dksX2_tells_4 0 rfl rfl)
theorem dX2_tells_97 : decode cX2_tells 97 = .ok (.aload_n 0, 1) := dk_42 (dk_at dksX2_tells_4 2 rfl rfl)
theorem dX2_tells_98 : decode cX2_tells 98 = .ok (.getfield 101, 3) := dk_180 0 101 (dk_at dksX2_tells_4 3 rfl rfl)
theorem dX2_tells_101 : decode cX2_tells 101 = .ok (.iconst 1, 1) := dk_4 (dk_at dksX2_tells_4 6 rfl rfl)
theorem dX2_tells_102 : decode cX2_tells 102 = .ok (.iadd, 1) := dk_96 (dk_at dksX2_tells_4 7 rfl rfl)
theorem dX2_tells_103 : decode cX2_tells 103 = .ok (.invokestatic 145, 3) := dk_184 0 145 (dk_at dksX2_tells_4 8 rfl rfl)
theorem dX2_tells_106 : decode cX2_tells 106 = .ok (.putfield 101, 3) := dk_181 0 101 (dk_at dksX2_tells_4 11 rfl rfl)
theorem dX2_tells_109 : decode cX2_tells 109 = .ok (.return_, 1) := dk_177 (dk_at dksX2_tells_4 14 rfl rfl)
abbrev cX2_cuts : ByteArray := prog_19_method_8_code
def yX2_cuts : MethodName := ⟨RX2, "cuts", "(I)V"⟩
def dkwX2_cuts_2 : List UInt8 := [27, 100, 184, 0, 112, 177]
abbrev dktX2_cuts_2 : List UInt8 := dkwX2_cuts_2 ++ []
def dkwX2_cuts_1 : List UInt8 := [180, 0, 83, 27, 100, 184, 0, 112, 42, 180, 0, 65, 27, 4, 96, 42, 180, 0, 65, 27, 42, 180, 0, 83]
abbrev dktX2_cuts_1 : List UInt8 := dkwX2_cuts_1 ++ dktX2_cuts_2
def dkwX2_cuts_0 : List UInt8 := [42, 89, 180, 0, 83, 4, 100, 181, 0, 83, 42, 180, 0, 62, 27, 4, 96, 42, 180, 0, 62, 27, 42]
abbrev dktX2_cuts_0 : List UInt8 := dkwX2_cuts_0 ++ dktX2_cuts_1
theorem dksX2_cuts_0 : cX2_cuts.data.toList.drop 0 = dktX2_cuts_0 := by decide +kernel
theorem dksX2_cuts_1 : cX2_cuts.data.toList.drop 23 = dktX2_cuts_1 := dk_seg dksX2_cuts_0 23 rfl rfl
theorem dksX2_cuts_2 : cX2_cuts.data.toList.drop 47 = dktX2_cuts_2 := dk_seg dksX2_cuts_1 24 rfl rfl
theorem dX2_cuts_0 : decode cX2_cuts 0 = .ok (.aload_n 0, 1) := dk_42 (dk_at dksX2_cuts_0 0 rfl rfl)
theorem dX2_cuts_1 : decode cX2_cuts 1 = .ok (.dup, 1) := dk_89 (dk_at dksX2_cuts_0 1 rfl rfl)
theorem dX2_cuts_2 : decode cX2_cuts 2 = .ok (.getfield 83, 3) := dk_180 0 83 (dk_at dksX2_cuts_0 2 rfl rfl)
theorem dX2_cuts_5 : decode cX2_cuts 5 = .ok (.iconst 1, 1) := dk_4 (dk_at dksX2_cuts_0 5 rfl rfl)
theorem dX2_cuts_6 : decode cX2_cuts 6 = .ok (.isub, 1) := dk_100 (dk_at dksX2_cuts_0 6 rfl rfl)
theorem dX2_cuts_7 : decode cX2_cuts 7 = .ok (.putfield 83, 3) := dk_181 0 83 (dk_at dksX2_cuts_0 7 rfl rfl)
theorem dX2_cuts_10 : decode cX2_cuts 10 = .ok (.aload_n 0, 1) := dk_42 (dk_at dksX2_cuts_0 10 rfl rfl)
theorem dX2_cuts_11 : decode cX2_cuts 11 = .ok (.getfield 62, 3) := dk_180 0 62 (dk_at dksX2_cuts_0 11 rfl rfl)
theorem dX2_cuts_14 : decode cX2_cuts 14 = .ok (.iload_n 1, 1) := dk_27 (dk_at dksX2_cuts_0 14 rfl rfl)
theorem dX2_cuts_15 : decode cX2_cuts 15 = .ok (.iconst 1, 1) := dk_4 (dk_at dksX2_cuts_0 15 rfl rfl)
theorem dX2_cuts_16 : decode cX2_cuts 16 = .ok (.iadd, 1) := dk_96 (dk_at dksX2_cuts_0 16 rfl rfl)
theorem dX2_cuts_17 : decode cX2_cuts 17 = .ok (.aload_n 0, 1) := dk_42 (dk_at dksX2_cuts_0 17 rfl rfl)
theorem dX2_cuts_18 : decode cX2_cuts 18 = .ok (.getfield 62, 3) := dk_180 0 62 (dk_at dksX2_cuts_0 18 rfl rfl)
theorem dX2_cuts_21 : decode cX2_cuts 21 = .ok (.iload_n 1, 1) := dk_27 (dk_at dksX2_cuts_0 21 rfl rfl)
theorem dX2_cuts_22 : decode cX2_cuts 22 = .ok (.aload_n 0, 1) := dk_42 (dk_at dksX2_cuts_0 22 rfl rfl)
theorem dX2_cuts_23 : decode cX2_cuts 23 = .ok (.getfield 83, 3) := dk_180 0 83 (dk_at dksX2_cuts_1 0 rfl rfl)
theorem dX2_cuts_26 : decode cX2_cuts 26 = .ok (.iload_n 1, 1) := dk_27 (dk_at dksX2_cuts_1 3 rfl rfl)
theorem dX2_cuts_27 : decode cX2_cuts 27 = .ok (.isub, 1) := dk_100 (dk_at dksX2_cuts_1 4 rfl rfl)
theorem dX2_cuts_28 : decode cX2_cuts 28 = .ok (.invokestatic 112, 3) := dk_184 0 112 (dk_at dksX2_cuts_1 5 rfl rfl)
theorem dX2_cuts_31 : decode cX2_cuts 31 = .ok (.aload_n 0, 1) := dk_42 (dk_at dksX2_cuts_1 8 rfl rfl)
theorem dX2_cuts_32 : decode cX2_cuts 32 = .ok (.getfield 65, 3) := dk_180 0 65 (dk_at dksX2_cuts_1 9 rfl rfl)
theorem dX2_cuts_35 : decode cX2_cuts 35 = .ok (.iload_n 1, 1) := dk_27 (dk_at dksX2_cuts_1 12 rfl rfl)
theorem dX2_cuts_36 : decode cX2_cuts 36 = .ok (.iconst 1, 1) := dk_4 (dk_at dksX2_cuts_1 13 rfl rfl)
theorem dX2_cuts_37 : decode cX2_cuts 37 = .ok (.iadd, 1) := dk_96 (dk_at dksX2_cuts_1 14 rfl rfl)
theorem dX2_cuts_38 : decode cX2_cuts 38 = .ok (.aload_n 0, 1) := dk_42 (dk_at dksX2_cuts_1 15 rfl rfl)
theorem dX2_cuts_39 : decode cX2_cuts 39 = .ok (.getfield 65, 3) := dk_180 0 65 (dk_at dksX2_cuts_1 16 rfl rfl)
theorem dX2_cuts_42 : decode cX2_cuts 42 = .ok (.iload_n 1, 1) := dk_27 (dk_at dksX2_cuts_1 19 rfl rfl)
theorem dX2_cuts_43 : decode cX2_cuts 43 = .ok (.aload_n 0, 1) := dk_42 (dk_at dksX2_cuts_1 20 rfl rfl)
theorem dX2_cuts_44 : decode cX2_cuts 44 = .ok (.getfield 83, 3) := dk_180 0 83 (dk_at dksX2_cuts_1 21 rfl rfl)
theorem dX2_cuts_47 : decode cX2_cuts 47 = .ok (.iload_n 1, 1) := dk_27 (dk_at dksX2_cuts_2 0 rfl rfl)
theorem dX2_cuts_48 : decode cX2_cuts 48 = .ok (.isub, 1) := dk_100 (dk_at dksX2_cuts_2 1 rfl rfl)
theorem dX2_cuts_49 : decode cX2_cuts 49 = .ok (.invokestatic 112, 3) := dk_184 0 112 (dk_at dksX2_cuts_2 2 rfl rfl)
theorem dX2_cuts_52 : decode cX2_cuts 52 = .ok (.return_, 1) := dk_177 (dk_at dksX2_cuts_2 5 rfl rfl)
abbrev cX2_weightAll : ByteArray := prog_19_method_11_code
def yX2_weightAll : MethodName := ⟨RX2, "weightAll", "(I)I"⟩
def dkwX2_weightAll_1 : List UInt8 := [180, 0, 31, 29, 46, 167, 0, 4, 3, 96, 61, 132, 3, 1, 167, 255, 222, 28, 172]
abbrev dktX2_weightAll_1 : List UInt8 := dkwX2_weightAll_1 ++ []
def dkwX2_weightAll_0 : List UInt8 := [3, 61, 3, 62, 29, 42, 180, 0, 77, 162, 0, 32, 28, 42, 180, 0, 24, 29, 46, 27, 160, 0, 12, 42]
abbrev dktX2_weightAll_0 : List UInt8 := dkwX2_weightAll_0 ++ dktX2_weightAll_1
theorem dksX2_weightAll_0 : cX2_weightAll.data.toList.drop 0 = dktX2_weightAll_0 := by decide +kernel
theorem dksX2_weightAll_1 : cX2_weightAll.data.toList.drop 24 = dktX2_weightAll_1 := dk_seg dksX2_weightAll_0 24 rfl rfl
theorem dX2_weightAll_0 : decode cX2_weightAll 0 = .ok (.iconst 0, 1) := dk_3 (dk_at dksX2_weightAll_0 0 rfl rfl)
theorem dX2_weightAll_1 : decode cX2_weightAll 1 = .ok (.istore_n 2, 1) := dk_61 (dk_at dksX2_weightAll_0 1 rfl rfl)
theorem dX2_weightAll_2 : decode cX2_weightAll 2 = .ok (.iconst 0, 1) := dk_3 (dk_at dksX2_weightAll_0 2 rfl rfl)
theorem dX2_weightAll_3 : decode cX2_weightAll 3 = .ok (.istore_n 3, 1) := dk_62 (dk_at dksX2_weightAll_0 3 rfl rfl)
theorem dX2_weightAll_4 : decode cX2_weightAll 4 = .ok (.iload_n 3, 1) := dk_29 (dk_at dksX2_weightAll_0 4 rfl rfl)
theorem dX2_weightAll_5 : decode cX2_weightAll 5 = .ok (.aload_n 0, 1) := dk_42 (dk_at dksX2_weightAll_0 5 rfl rfl)
theorem dX2_weightAll_6 : decode cX2_weightAll 6 = .ok (.getfield 77, 3) := dk_180 0 77 (dk_at dksX2_weightAll_0 6 rfl rfl)
theorem dX2_weightAll_9 : decode cX2_weightAll 9 = .ok (.if_icmp .ge 32, 3) := dk_162 0 32 (dk_at dksX2_weightAll_0 9 rfl rfl)
theorem dX2_weightAll_12 : decode cX2_weightAll 12 = .ok (.iload_n 2, 1) := dk_28 (dk_at dksX2_weightAll_0 12 rfl rfl)
theorem dX2_weightAll_13 : decode cX2_weightAll 13 = .ok (.aload_n 0, 1) := dk_42 (dk_at dksX2_weightAll_0 13 rfl rfl)
theorem dX2_weightAll_14 : decode cX2_weightAll 14 = .ok (.getfield 24, 3) := dk_180 0 24 (dk_at dksX2_weightAll_0 14 rfl rfl)
theorem dX2_weightAll_17 : decode cX2_weightAll 17 = .ok (.iload_n 3, 1) := dk_29 (dk_at dksX2_weightAll_0 17 rfl rfl)
theorem dX2_weightAll_18 : decode cX2_weightAll 18 = .ok (.iaload, 1) := dk_46 (dk_at dksX2_weightAll_0 18 rfl rfl)
theorem dX2_weightAll_19 : decode cX2_weightAll 19 = .ok (.iload_n 1, 1) := dk_27 (dk_at dksX2_weightAll_0 19 rfl rfl)
theorem dX2_weightAll_20 : decode cX2_weightAll 20 = .ok (.if_icmp .ne 12, 3) := dk_160 0 12 (dk_at dksX2_weightAll_0 20 rfl rfl)
theorem dX2_weightAll_23 : decode cX2_weightAll 23 = .ok (.aload_n 0, 1) := dk_42 (dk_at dksX2_weightAll_0 23 rfl rfl)
theorem dX2_weightAll_24 : decode cX2_weightAll 24 = .ok (.getfield 31, 3) := dk_180 0 31 (dk_at dksX2_weightAll_1 0 rfl rfl)
theorem dX2_weightAll_27 : decode cX2_weightAll 27 = .ok (.iload_n 3, 1) := dk_29 (dk_at dksX2_weightAll_1 3 rfl rfl)
theorem dX2_weightAll_28 : decode cX2_weightAll 28 = .ok (.iaload, 1) := dk_46 (dk_at dksX2_weightAll_1 4 rfl rfl)
theorem dX2_weightAll_29 : decode cX2_weightAll 29 = .ok (.goto 4, 3) := dk_167 0 4 (dk_at dksX2_weightAll_1 5 rfl rfl)
theorem dX2_weightAll_32 : decode cX2_weightAll 32 = .ok (.iconst 0, 1) := dk_3 (dk_at dksX2_weightAll_1 8 rfl rfl)
theorem dX2_weightAll_33 : decode cX2_weightAll 33 = .ok (.iadd, 1) := dk_96 (dk_at dksX2_weightAll_1 9 rfl rfl)
theorem dX2_weightAll_34 : decode cX2_weightAll 34 = .ok (.istore_n 2, 1) := dk_61 (dk_at dksX2_weightAll_1 10 rfl rfl)
theorem dX2_weightAll_35 : decode cX2_weightAll 35 = .ok (.iinc 3 1, 3) := dk_132 3 1 (dk_at dksX2_weightAll_1 11 rfl rfl)
theorem dX2_weightAll_38 : decode cX2_weightAll 38 = .ok (.goto (-34), 3) := dk_167 255 222 (dk_at dksX2_weightAll_1 14 rfl rfl)
theorem dX2_weightAll_41 : decode cX2_weightAll 41 = .ok (.iload_n 2, 1) := dk_28 (dk_at dksX2_weightAll_1 17 rfl rfl)
theorem dX2_weightAll_42 : decode cX2_weightAll 42 = .ok (.ireturn, 1) := dk_172 (dk_at dksX2_weightAll_1 18 rfl rfl)
theorem q118 : (Jvm.Cond.initialized "CheekTown$World") ∈ lw_all := lw_g (lw_at lw_m1 2 rfl) rfl
theorem q173 : (Jvm.Cond.instantiable "CheekTown$World" (31 : Nat)) ∈ lw_all := lw_g (lw_at lw_m1 57 rfl) rfl
theorem q175 : (Jvm.Cond.instanceMethod ({ cls := "CheekTown$World", name := "<init>", desc := "()V" } : Jvm.MethodName)) ∈ lw_all := lw_g (lw_at lw_m1 59 rfl) rfl
theorem q176 : (Jvm.Cond.code ({ cls := "CheekTown$World", name := "<init>", desc := "()V" } : Jvm.MethodName) prog_19_method_1_code (1 : Nat) (Option.none : Option Jvm.ClassFile.FieldType)) ∈ lw_all := lw_g (lw_at lw_m1 60 rfl) rfl
theorem q177 : (Jvm.Cond.methodLink "CheekTown$World" (3 : Nat) ({ cls := "java/lang/Object", name := "<init>", desc := "()V" } : Jvm.MethodName)) ∈ lw_all := lw_g (lw_at lw_m1 61 rfl) rfl
theorem q178 : (Jvm.Cond.fieldLink "CheekTown$World" (71 : Nat) "CheekTown$World" "texts" "I") ∈ lw_all := lw_g (lw_at lw_m1 62 rfl) rfl
theorem q180 : (Jvm.Cond.fieldLink "CheekTown$World" (74 : Nat) "CheekTown$World" "lands" "I") ∈ lw_all := lw_g (lw_at lw_m1 64 rfl) rfl
theorem q182 : (Jvm.Cond.fieldLink "CheekTown$World" (77 : Nat) "CheekTown$World" "habits" "I") ∈ lw_all := lw_g (lw_at lw_m1 66 rfl) rfl
theorem q186 : (Jvm.Cond.fieldLink "CheekTown$World" (80 : Nat) "CheekTown$World" "people" "I") ∈ lw_all := lw_g (lw_at lw_m1 70 rfl) rfl
theorem q189 : (Jvm.Cond.fieldLink "CheekTown$World" (83 : Nat) "CheekTown$World" "ties" "I") ∈ lw_all := lw_g (lw_at lw_m1 73 rfl) rfl
theorem q191 : (Jvm.Cond.fieldLink "CheekTown$World" (86 : Nat) "CheekTown$World" "round" "I") ∈ lw_all := lw_g (lw_at lw_m1 75 rfl) rfl
theorem q193 : (Jvm.Cond.fieldLink "CheekTown$World" (89 : Nat) "CheekTown$World" "meetings" "I") ∈ lw_all := lw_g (lw_at lw_m1 77 rfl) rfl
theorem q195 : (Jvm.Cond.fieldLink "CheekTown$World" (92 : Nat) "CheekTown$World" "spent" "I") ∈ lw_all := lw_g (lw_at lw_m1 79 rfl) rfl
theorem q197 : (Jvm.Cond.fieldLink "CheekTown$World" (95 : Nat) "CheekTown$World" "yielded" "I") ∈ lw_all := lw_g (lw_at lw_m1 81 rfl) rfl
theorem q199 : (Jvm.Cond.fieldLink "CheekTown$World" (98 : Nat) "CheekTown$World" "minutes" "I") ∈ lw_all := lw_g (lw_at lw_m1 83 rfl) rfl
theorem q201 : (Jvm.Cond.fieldLink "CheekTown$World" (101 : Nat) "CheekTown$World" "logged" "I") ∈ lw_all := lw_g (lw_at lw_m1 85 rfl) rfl
theorem q203 : (Jvm.Cond.fieldLink "CheekTown$World" (9 : Nat) "CheekTown$World" "stomach" "I") ∈ lw_all := lw_g (lw_at lw_m1 87 rfl) rfl
theorem q205 : (Jvm.Cond.fieldLink "CheekTown$World" (15 : Nat) "CheekTown$World" "air" "I") ∈ lw_all := lw_g (lw_at lw_m1 89 rfl) rfl
theorem q207 : (Jvm.Cond.fieldLink "CheekTown$World" (18 : Nat) "CheekTown$World" "noses" "I") ∈ lw_all := lw_g (lw_at lw_m1 91 rfl) rfl
theorem q209 : (Jvm.Cond.fieldLink "CheekTown$World" (21 : Nat) "CheekTown$World" "seed" "I") ∈ lw_all := lw_g (lw_at lw_m1 93 rfl) rfl
theorem q211 : (Jvm.Cond.fieldLink "CheekTown$World" (24 : Nat) "CheekTown$World" "habitOf" "[I") ∈ lw_all := lw_g (lw_at lw_m1 95 rfl) rfl
theorem q213 : (Jvm.Cond.fieldLink "CheekTown$World" (28 : Nat) "CheekTown$World" "habit" "[I") ∈ lw_all := lw_g (lw_at lw_m1 97 rfl) rfl
theorem q215 : (Jvm.Cond.fieldLink "CheekTown$World" (31 : Nat) "CheekTown$World" "weight" "[I") ∈ lw_all := lw_g (lw_at lw_m1 99 rfl) rfl
theorem q217 : (Jvm.Cond.fieldLink "CheekTown$World" (34 : Nat) "CheekTown$World" "land" "[I") ∈ lw_all := lw_g (lw_at lw_m1 101 rfl) rfl
theorem q219 : (Jvm.Cond.fieldLink "CheekTown$World" (37 : Nat) "CheekTown$World" "own" "[I") ∈ lw_all := lw_g (lw_at lw_m1 103 rfl) rfl
theorem q223 : (Jvm.Cond.fieldLink "CheekTown$World" (40 : Nat) "CheekTown$World" "rank" "[I") ∈ lw_all := lw_g (lw_at lw_m1 107 rfl) rfl
theorem q225 : (Jvm.Cond.fieldLink "CheekTown$World" (43 : Nat) "CheekTown$World" "bent" "[I") ∈ lw_all := lw_g (lw_at lw_m1 109 rfl) rfl
theorem q227 : (Jvm.Cond.fieldLink "CheekTown$World" (46 : Nat) "CheekTown$World" "cold" "[Z") ∈ lw_all := lw_g (lw_at lw_m1 111 rfl) rfl
theorem q229 : (Jvm.Cond.fieldLink "CheekTown$World" (50 : Nat) "CheekTown$World" "met" "[I") ∈ lw_all := lw_g (lw_at lw_m1 113 rfl) rfl
theorem q231 : (Jvm.Cond.fieldLink "CheekTown$World" (53 : Nat) "CheekTown$World" "saw" "[I") ∈ lw_all := lw_g (lw_at lw_m1 115 rfl) rfl
theorem q233 : (Jvm.Cond.fieldLink "CheekTown$World" (56 : Nat) "CheekTown$World" "latest" "[I") ∈ lw_all := lw_g (lw_at lw_m1 117 rfl) rfl
theorem q235 : (Jvm.Cond.fieldLink "CheekTown$World" (59 : Nat) "CheekTown$World" "before" "[I") ∈ lw_all := lw_g (lw_at lw_m1 119 rfl) rfl
theorem q237 : (Jvm.Cond.fieldLink "CheekTown$World" (62 : Nat) "CheekTown$World" "one" "[I") ∈ lw_all := lw_g (lw_at lw_m1 121 rfl) rfl
theorem q240 : (Jvm.Cond.fieldLink "CheekTown$World" (65 : Nat) "CheekTown$World" "other" "[I") ∈ lw_all := lw_g (lw_at lw_m1 124 rfl) rfl
theorem q243 : (Jvm.Cond.fieldLink "CheekTown$World" (68 : Nat) "CheekTown$World" "log" "[I") ∈ lw_all := lw_g (lw_at lw_m1 127 rfl) rfl
theorem q245 : (Jvm.Cond.fieldLink "CheekTown$World" (104 : Nat) "CheekTown$World" "law" "LCheekTown$Law;") ∈ lw_all := lw_g (lw_at lw_m1 129 rfl) rfl
theorem q247 : (Jvm.Cond.lays "CheekTown$World" "CheekTown$World" "texts" "I") ∈ lw_all := lw_g (lw_at lw_m1 131 rfl) rfl
theorem q248 : (Jvm.Cond.soleField "CheekTown$World" "texts") ∈ lw_all := lw_g (lw_at lw_m1 132 rfl) rfl
theorem q249 : (Jvm.Cond.lays "CheekTown$World" "CheekTown$World" "lands" "I") ∈ lw_all := lw_g (lw_at lw_m1 133 rfl) rfl
theorem q250 : (Jvm.Cond.soleField "CheekTown$World" "lands") ∈ lw_all := lw_g (lw_at lw_m1 134 rfl) rfl
theorem q251 : (Jvm.Cond.lays "CheekTown$World" "CheekTown$World" "habits" "I") ∈ lw_all := lw_g (lw_at lw_m1 135 rfl) rfl
theorem q252 : (Jvm.Cond.soleField "CheekTown$World" "habits") ∈ lw_all := lw_g (lw_at lw_m1 136 rfl) rfl
theorem q253 : (Jvm.Cond.lays "CheekTown$World" "CheekTown$World" "people" "I") ∈ lw_all := lw_g (lw_at lw_m1 137 rfl) rfl
theorem q254 : (Jvm.Cond.soleField "CheekTown$World" "people") ∈ lw_all := lw_g (lw_at lw_m1 138 rfl) rfl
theorem q255 : (Jvm.Cond.lays "CheekTown$World" "CheekTown$World" "ties" "I") ∈ lw_all := lw_g (lw_at lw_m1 139 rfl) rfl
theorem q256 : (Jvm.Cond.soleField "CheekTown$World" "ties") ∈ lw_all := lw_g (lw_at lw_m1 140 rfl) rfl
theorem q257 : (Jvm.Cond.lays "CheekTown$World" "CheekTown$World" "round" "I") ∈ lw_all := lw_g (lw_at lw_m1 141 rfl) rfl
theorem q258 : (Jvm.Cond.soleField "CheekTown$World" "round") ∈ lw_all := lw_g (lw_at lw_m1 142 rfl) rfl
theorem q259 : (Jvm.Cond.lays "CheekTown$World" "CheekTown$World" "meetings" "I") ∈ lw_all := lw_g (lw_at lw_m1 143 rfl) rfl
theorem q260 : (Jvm.Cond.soleField "CheekTown$World" "meetings") ∈ lw_all := lw_g (lw_at lw_m1 144 rfl) rfl
theorem q261 : (Jvm.Cond.lays "CheekTown$World" "CheekTown$World" "spent" "I") ∈ lw_all := lw_g (lw_at lw_m1 145 rfl) rfl
theorem q262 : (Jvm.Cond.soleField "CheekTown$World" "spent") ∈ lw_all := lw_g (lw_at lw_m1 146 rfl) rfl
theorem q263 : (Jvm.Cond.lays "CheekTown$World" "CheekTown$World" "yielded" "I") ∈ lw_all := lw_g (lw_at lw_m1 147 rfl) rfl
theorem q264 : (Jvm.Cond.soleField "CheekTown$World" "yielded") ∈ lw_all := lw_g (lw_at lw_m1 148 rfl) rfl
theorem q265 : (Jvm.Cond.lays "CheekTown$World" "CheekTown$World" "minutes" "I") ∈ lw_all := lw_g (lw_at lw_m1 149 rfl) rfl
theorem q266 : (Jvm.Cond.soleField "CheekTown$World" "minutes") ∈ lw_all := lw_g (lw_at lw_m1 150 rfl) rfl
theorem q267 : (Jvm.Cond.lays "CheekTown$World" "CheekTown$World" "logged" "I") ∈ lw_all := lw_g (lw_at lw_m1 151 rfl) rfl
theorem q268 : (Jvm.Cond.soleField "CheekTown$World" "logged") ∈ lw_all := lw_g (lw_at lw_m1 152 rfl) rfl
theorem q269 : (Jvm.Cond.lays "CheekTown$World" "CheekTown$World" "stomach" "I") ∈ lw_all := lw_g (lw_at lw_m1 153 rfl) rfl
theorem q270 : (Jvm.Cond.soleField "CheekTown$World" "stomach") ∈ lw_all := lw_g (lw_at lw_m1 154 rfl) rfl
theorem q271 : (Jvm.Cond.lays "CheekTown$World" "CheekTown$World" "air" "I") ∈ lw_all := lw_g (lw_at lw_m1 155 rfl) rfl
theorem q272 : (Jvm.Cond.soleField "CheekTown$World" "air") ∈ lw_all := lw_g (lw_at lw_m1 156 rfl) rfl
theorem q273 : (Jvm.Cond.lays "CheekTown$World" "CheekTown$World" "noses" "I") ∈ lw_all := lw_g (lw_at lw_m1 157 rfl) rfl
theorem q274 : (Jvm.Cond.soleField "CheekTown$World" "noses") ∈ lw_all := lw_g (lw_at lw_m1 158 rfl) rfl
theorem q275 : (Jvm.Cond.lays "CheekTown$World" "CheekTown$World" "seed" "I") ∈ lw_all := lw_g (lw_at lw_m1 159 rfl) rfl
theorem q276 : (Jvm.Cond.soleField "CheekTown$World" "seed") ∈ lw_all := lw_g (lw_at lw_m1 160 rfl) rfl
theorem q277 : (Jvm.Cond.laysFinal "CheekTown$World" "CheekTown$World" "habitOf" "[I") ∈ lw_all := lw_g (lw_at lw_m1 161 rfl) rfl
theorem q278 : (Jvm.Cond.soleField "CheekTown$World" "habitOf") ∈ lw_all := lw_g (lw_at lw_m1 162 rfl) rfl
theorem q279 : (Jvm.Cond.laysFinal "CheekTown$World" "CheekTown$World" "habit" "[I") ∈ lw_all := lw_g (lw_at lw_m1 163 rfl) rfl
theorem q280 : (Jvm.Cond.soleField "CheekTown$World" "habit") ∈ lw_all := lw_g (lw_at lw_m1 164 rfl) rfl
theorem q281 : (Jvm.Cond.laysFinal "CheekTown$World" "CheekTown$World" "weight" "[I") ∈ lw_all := lw_g (lw_at lw_m1 165 rfl) rfl
theorem q282 : (Jvm.Cond.soleField "CheekTown$World" "weight") ∈ lw_all := lw_g (lw_at lw_m1 166 rfl) rfl
theorem q283 : (Jvm.Cond.laysFinal "CheekTown$World" "CheekTown$World" "land" "[I") ∈ lw_all := lw_g (lw_at lw_m1 167 rfl) rfl
theorem q284 : (Jvm.Cond.soleField "CheekTown$World" "land") ∈ lw_all := lw_g (lw_at lw_m1 168 rfl) rfl
theorem q285 : (Jvm.Cond.laysFinal "CheekTown$World" "CheekTown$World" "own" "[I") ∈ lw_all := lw_g (lw_at lw_m1 169 rfl) rfl
theorem q286 : (Jvm.Cond.soleField "CheekTown$World" "own") ∈ lw_all := lw_g (lw_at lw_m1 170 rfl) rfl
theorem q287 : (Jvm.Cond.laysFinal "CheekTown$World" "CheekTown$World" "rank" "[I") ∈ lw_all := lw_g (lw_at lw_m1 171 rfl) rfl
theorem q288 : (Jvm.Cond.soleField "CheekTown$World" "rank") ∈ lw_all := lw_g (lw_at lw_m1 172 rfl) rfl
theorem q289 : (Jvm.Cond.laysFinal "CheekTown$World" "CheekTown$World" "bent" "[I") ∈ lw_all := lw_g (lw_at lw_m1 173 rfl) rfl
theorem q290 : (Jvm.Cond.soleField "CheekTown$World" "bent") ∈ lw_all := lw_g (lw_at lw_m1 174 rfl) rfl
theorem q291 : (Jvm.Cond.laysFinal "CheekTown$World" "CheekTown$World" "cold" "[Z") ∈ lw_all := lw_g (lw_at lw_m1 175 rfl) rfl
theorem q292 : (Jvm.Cond.soleField "CheekTown$World" "cold") ∈ lw_all := lw_g (lw_at lw_m1 176 rfl) rfl
theorem q293 : (Jvm.Cond.laysFinal "CheekTown$World" "CheekTown$World" "met" "[I") ∈ lw_all := lw_g (lw_at lw_m1 177 rfl) rfl
theorem q294 : (Jvm.Cond.soleField "CheekTown$World" "met") ∈ lw_all := lw_g (lw_at lw_m1 178 rfl) rfl
theorem q295 : (Jvm.Cond.laysFinal "CheekTown$World" "CheekTown$World" "saw" "[I") ∈ lw_all := lw_g (lw_at lw_m1 179 rfl) rfl
theorem q296 : (Jvm.Cond.soleField "CheekTown$World" "saw") ∈ lw_all := lw_g (lw_at lw_m1 180 rfl) rfl
theorem q297 : (Jvm.Cond.laysFinal "CheekTown$World" "CheekTown$World" "latest" "[I") ∈ lw_all := lw_g (lw_at lw_m1 181 rfl) rfl
theorem q298 : (Jvm.Cond.soleField "CheekTown$World" "latest") ∈ lw_all := lw_g (lw_at lw_m1 182 rfl) rfl
theorem q299 : (Jvm.Cond.laysFinal "CheekTown$World" "CheekTown$World" "before" "[I") ∈ lw_all := lw_g (lw_at lw_m1 183 rfl) rfl
theorem q300 : (Jvm.Cond.soleField "CheekTown$World" "before") ∈ lw_all := lw_g (lw_at lw_m1 184 rfl) rfl
theorem q301 : (Jvm.Cond.laysFinal "CheekTown$World" "CheekTown$World" "one" "[I") ∈ lw_all := lw_g (lw_at lw_m1 185 rfl) rfl
theorem q302 : (Jvm.Cond.soleField "CheekTown$World" "one") ∈ lw_all := lw_g (lw_at lw_m1 186 rfl) rfl
theorem q303 : (Jvm.Cond.laysFinal "CheekTown$World" "CheekTown$World" "other" "[I") ∈ lw_all := lw_g (lw_at lw_m1 187 rfl) rfl
theorem q304 : (Jvm.Cond.soleField "CheekTown$World" "other") ∈ lw_all := lw_g (lw_at lw_m1 188 rfl) rfl
theorem q305 : (Jvm.Cond.laysFinal "CheekTown$World" "CheekTown$World" "log" "[I") ∈ lw_all := lw_g (lw_at lw_m1 189 rfl) rfl
theorem q306 : (Jvm.Cond.soleField "CheekTown$World" "log") ∈ lw_all := lw_g (lw_at lw_m1 190 rfl) rfl
theorem q307 : (Jvm.Cond.lays "CheekTown$World" "CheekTown$World" "law" "LCheekTown$Law;") ∈ lw_all := lw_g (lw_at lw_m1 191 rfl) rfl
theorem q308 : (Jvm.Cond.soleField "CheekTown$World" "law") ∈ lw_all := lw_g (lw_at lw_m1 192 rfl) rfl
theorem q309 : (Jvm.Cond.superclass "CheekTown$World" "java/lang/Object") ∈ lw_all := lw_g (lw_at lw_m1 193 rfl) rfl
theorem q537 : (Jvm.Cond.instanceMethod ({ cls := "CheekTown$World", name := "cost", desc := "(II)I" } : Jvm.MethodName)) ∈ lw_all := lw_g (lw_at lw_m2 181 rfl) rfl
theorem q538 : (Jvm.Cond.selects "CheekTown$World" ({ cls := "CheekTown$World", name := "cost", desc := "(II)I" } : Jvm.MethodName) ({ cls := "CheekTown$World", name := "cost", desc := "(II)I" } : Jvm.MethodName)) ∈ lw_all := lw_g (lw_at lw_m2 182 rfl) rfl
theorem q539 : (Jvm.Cond.code ({ cls := "CheekTown$World", name := "cost", desc := "(II)I" } : Jvm.MethodName) prog_19_method_9_code (4 : Nat) (Option.some Jvm.ClassFile.FieldType.int)) ∈ lw_all := lw_g (lw_at lw_m2 183 rfl) rfl
theorem q540 : (Jvm.Cond.fieldLink "CheekTown$World" (123 : Nat) "CheekTown$Kind" "KISS" "LCheekTown$Kind;") ∈ lw_all := lw_g (lw_at lw_m2 184 rfl) rfl
theorem q542 : (Jvm.Cond.methodLinkNest "CheekTown$World" (129 : Nat) ({ cls := "CheekTown", name := "isOf", desc := "(LCheekTown$Kind;I)Z" } : Jvm.MethodName) "CheekTown") ∈ lw_tbl := lw_at lw_m2 186 rfl
theorem q551 : (Jvm.Cond.methodLinkNest "CheekTown$World" (133 : Nat) ({ cls := "CheekTown", name := "side", desc := "(I)I" } : Jvm.MethodName) "CheekTown") ∈ lw_tbl := lw_at lw_m2 195 rfl
theorem q554 : (Jvm.Cond.methodLinkNest "CheekTown$World" (137 : Nat) ({ cls := "CheekTown", name := "times", desc := "(I)I" } : Jvm.MethodName) "CheekTown") ∈ lw_tbl := lw_at lw_m2 198 rfl
theorem q557 : (Jvm.Cond.methodLink "CheekTown$World" (140 : Nat) ({ cls := "java/lang/Math", name := "abs", desc := "(I)I" } : Jvm.MethodName)) ∈ lw_all := lw_g (lw_at lw_m2 201 rfl) rfl
theorem q1019 : (Jvm.Cond.instanceMethod ({ cls := "CheekTown$World", name := "tied", desc := "(I)I" } : Jvm.MethodName)) ∈ lw_all := lw_g (lw_at lw_m4 183 rfl) rfl
theorem q1020 : (Jvm.Cond.selects "CheekTown$World" ({ cls := "CheekTown$World", name := "tied", desc := "(I)I" } : Jvm.MethodName) ({ cls := "CheekTown$World", name := "tied", desc := "(I)I" } : Jvm.MethodName)) ∈ lw_all := lw_g (lw_at lw_m4 184 rfl) rfl
theorem q1021 : (Jvm.Cond.code ({ cls := "CheekTown$World", name := "tied", desc := "(I)I" } : Jvm.MethodName) prog_19_method_6_code (4 : Nat) (Option.some Jvm.ClassFile.FieldType.int)) ∈ lw_all := lw_g (lw_at lw_m4 185 rfl) rfl
theorem q1022 : (Jvm.Cond.methodLink "CheekTown$World" (119 : Nat) ({ cls := "CheekTown$World", name := "tieOf", desc := "(II)I" } : Jvm.MethodName)) ∈ lw_all := lw_g (lw_at lw_m4 186 rfl) rfl
theorem q1023 : (Jvm.Cond.instanceMethod ({ cls := "CheekTown$World", name := "tieOf", desc := "(II)I" } : Jvm.MethodName)) ∈ lw_all := lw_g (lw_at lw_m4 187 rfl) rfl
theorem q1024 : (Jvm.Cond.selects "CheekTown$World" ({ cls := "CheekTown$World", name := "tieOf", desc := "(II)I" } : Jvm.MethodName) ({ cls := "CheekTown$World", name := "tieOf", desc := "(II)I" } : Jvm.MethodName)) ∈ lw_all := lw_g (lw_at lw_m4 188 rfl) rfl
theorem q1025 : (Jvm.Cond.code ({ cls := "CheekTown$World", name := "tieOf", desc := "(II)I" } : Jvm.MethodName) prog_19_method_5_code (4 : Nat) (Option.some Jvm.ClassFile.FieldType.int)) ∈ lw_all := lw_g (lw_at lw_m4 189 rfl) rfl
theorem q1083 : (Jvm.Cond.instanceMethod ({ cls := "CheekTown$World", name := "likens", desc := "(LCheekTown$World;)LCheekTown$World;" } : Jvm.MethodName)) ∈ lw_all := lw_g (lw_at lw_m5 7 rfl) rfl
theorem q1084 : (Jvm.Cond.selects "CheekTown$World" ({ cls := "CheekTown$World", name := "likens", desc := "(LCheekTown$World;)LCheekTown$World;" } : Jvm.MethodName) ({ cls := "CheekTown$World", name := "likens", desc := "(LCheekTown$World;)LCheekTown$World;" } : Jvm.MethodName)) ∈ lw_all := lw_g (lw_at lw_m5 8 rfl) rfl
theorem q1085 : (Jvm.Cond.code ({ cls := "CheekTown$World", name := "likens", desc := "(LCheekTown$World;)LCheekTown$World;" } : Jvm.MethodName) prog_19_method_2_code (2 : Nat) (Option.some (Jvm.ClassFile.FieldType.object "CheekTown$World"))) ∈ lw_all := lw_g (lw_at lw_m5 9 rfl) rfl
theorem q1086 : (Jvm.Cond.methodLink "CheekTown$World" (108 : Nat) ({ cls := "CheekTown$World", name := "row", desc := "([I[I)V" } : Jvm.MethodName)) ∈ lw_all := lw_g (lw_at lw_m5 10 rfl) rfl
theorem q1087 : (Jvm.Cond.static ({ cls := "CheekTown$World", name := "row", desc := "([I[I)V" } : Jvm.MethodName)) ∈ lw_all := lw_g (lw_at lw_m5 11 rfl) rfl
theorem q1088 : (Jvm.Cond.code ({ cls := "CheekTown$World", name := "row", desc := "([I[I)V" } : Jvm.MethodName) prog_19_method_3_code (2 : Nat) (Option.none : Option Jvm.ClassFile.FieldType)) ∈ lw_all := lw_g (lw_at lw_m5 12 rfl) rfl
theorem q1089 : (Jvm.Cond.methodLink "CheekTown$World" (112 : Nat) ({ cls := "java/lang/System", name := "arraycopy", desc := "(Ljava/lang/Object;ILjava/lang/Object;II)V" } : Jvm.MethodName)) ∈ lw_all := lw_g (lw_at lw_m5 13 rfl) rfl
theorem q1107 : (Jvm.Cond.instanceMethod ({ cls := "CheekTown$World", name := "colds", desc := "()I" } : Jvm.MethodName)) ∈ lw_all := lw_g (lw_at lw_m5 31 rfl) rfl
theorem q1108 : (Jvm.Cond.selects "CheekTown$World" ({ cls := "CheekTown$World", name := "colds", desc := "()I" } : Jvm.MethodName) ({ cls := "CheekTown$World", name := "colds", desc := "()I" } : Jvm.MethodName)) ∈ lw_all := lw_g (lw_at lw_m5 32 rfl) rfl
theorem q1109 : (Jvm.Cond.code ({ cls := "CheekTown$World", name := "colds", desc := "()I" } : Jvm.MethodName) prog_19_method_12_code (3 : Nat) (Option.some Jvm.ClassFile.FieldType.int)) ∈ lw_all := lw_g (lw_at lw_m5 33 rfl) rfl
theorem q1342 : (Jvm.Cond.instanceMethod ({ cls := "CheekTown$World", name := "ties", desc := "(II)V" } : Jvm.MethodName)) ∈ lw_all := lw_g (lw_at lw_m6 26 rfl) rfl
theorem q1343 : (Jvm.Cond.selects "CheekTown$World" ({ cls := "CheekTown$World", name := "ties", desc := "(II)V" } : Jvm.MethodName) ({ cls := "CheekTown$World", name := "ties", desc := "(II)V" } : Jvm.MethodName)) ∈ lw_all := lw_g (lw_at lw_m6 27 rfl) rfl
theorem q1344 : (Jvm.Cond.code ({ cls := "CheekTown$World", name := "ties", desc := "(II)V" } : Jvm.MethodName) prog_19_method_7_code (3 : Nat) (Option.none : Option Jvm.ClassFile.FieldType)) ∈ lw_all := lw_g (lw_at lw_m6 28 rfl) rfl
theorem q1571 : (Jvm.Cond.selects "CheekTown$World" ({ cls := "java/lang/Object", name := "getClass", desc := "()Ljava/lang/Class;" } : Jvm.MethodName) ({ cls := "java/lang/Object", name := "getClass", desc := "()Ljava/lang/Class;" } : Jvm.MethodName)) ∈ lw_all := lw_g (lw_at lw_m7 15 rfl) rfl
theorem q1665 : (Jvm.Cond.instanceMethod ({ cls := "CheekTown$World", name := "weightOf", desc := "(II)I" } : Jvm.MethodName)) ∈ lw_all := lw_g (lw_at lw_m7 109 rfl) rfl
theorem q1666 : (Jvm.Cond.selects "CheekTown$World" ({ cls := "CheekTown$World", name := "weightOf", desc := "(II)I" } : Jvm.MethodName) ({ cls := "CheekTown$World", name := "weightOf", desc := "(II)I" } : Jvm.MethodName)) ∈ lw_all := lw_g (lw_at lw_m7 110 rfl) rfl
theorem q1667 : (Jvm.Cond.code ({ cls := "CheekTown$World", name := "weightOf", desc := "(II)I" } : Jvm.MethodName) prog_19_method_10_code (5 : Nat) (Option.some Jvm.ClassFile.FieldType.int)) ∈ lw_all := lw_g (lw_at lw_m7 111 rfl) rfl
theorem q1700 : (Jvm.Cond.instanceMethod ({ cls := "CheekTown$World", name := "meetingsOf", desc := "(I)I" } : Jvm.MethodName)) ∈ lw_all := lw_g (lw_at lw_m7 144 rfl) rfl
theorem q1701 : (Jvm.Cond.selects "CheekTown$World" ({ cls := "CheekTown$World", name := "meetingsOf", desc := "(I)I" } : Jvm.MethodName) ({ cls := "CheekTown$World", name := "meetingsOf", desc := "(I)I" } : Jvm.MethodName)) ∈ lw_all := lw_g (lw_at lw_m7 145 rfl) rfl
theorem q1702 : (Jvm.Cond.code ({ cls := "CheekTown$World", name := "meetingsOf", desc := "(I)I" } : Jvm.MethodName) prog_19_method_13_code (4 : Nat) (Option.some Jvm.ClassFile.FieldType.int)) ∈ lw_all := lw_g (lw_at lw_m7 146 rfl) rfl
theorem q1834 : (Jvm.Cond.instanceMethod ({ cls := "CheekTown$World", name := "draw", desc := "(I)I" } : Jvm.MethodName)) ∈ lw_all := lw_g (lw_at lw_m8 38 rfl) rfl
theorem q1835 : (Jvm.Cond.selects "CheekTown$World" ({ cls := "CheekTown$World", name := "draw", desc := "(I)I" } : Jvm.MethodName) ({ cls := "CheekTown$World", name := "draw", desc := "(I)I" } : Jvm.MethodName)) ∈ lw_all := lw_g (lw_at lw_m8 39 rfl) rfl
theorem q1836 : (Jvm.Cond.code ({ cls := "CheekTown$World", name := "draw", desc := "(I)I" } : Jvm.MethodName) prog_19_method_4_code (2 : Nat) (Option.some Jvm.ClassFile.FieldType.int)) ∈ lw_all := lw_g (lw_at lw_m8 40 rfl) rfl
theorem q1837 : (Jvm.Cond.constant "CheekTown$World" (118 : Nat) (1103515245 : Int32)) ∈ lw_all := lw_g (lw_at lw_m8 41 rfl) rfl
theorem q1839 : (Jvm.Cond.instanceMethod ({ cls := "CheekTown$World", name := "sees", desc := "(III)V" } : Jvm.MethodName)) ∈ lw_all := lw_g (lw_at lw_m8 43 rfl) rfl
theorem q1840 : (Jvm.Cond.selects "CheekTown$World" ({ cls := "CheekTown$World", name := "sees", desc := "(III)V" } : Jvm.MethodName) ({ cls := "CheekTown$World", name := "sees", desc := "(III)V" } : Jvm.MethodName)) ∈ lw_all := lw_g (lw_at lw_m8 44 rfl) rfl
theorem q1841 : (Jvm.Cond.code ({ cls := "CheekTown$World", name := "sees", desc := "(III)V" } : Jvm.MethodName) prog_19_method_14_code (4 : Nat) (Option.none : Option Jvm.ClassFile.FieldType)) ∈ lw_all := lw_g (lw_at lw_m8 45 rfl) rfl
theorem q1851 : (Jvm.Cond.instanceMethod ({ cls := "CheekTown$World", name := "tells", desc := "(II[I[II)V" } : Jvm.MethodName)) ∈ lw_all := lw_g (lw_at lw_m8 55 rfl) rfl
theorem q1852 : (Jvm.Cond.selects "CheekTown$World" ({ cls := "CheekTown$World", name := "tells", desc := "(II[I[II)V" } : Jvm.MethodName) ({ cls := "CheekTown$World", name := "tells", desc := "(II[I[II)V" } : Jvm.MethodName)) ∈ lw_all := lw_g (lw_at lw_m8 56 rfl) rfl
theorem q1853 : (Jvm.Cond.code ({ cls := "CheekTown$World", name := "tells", desc := "(II[I[II)V" } : Jvm.MethodName) prog_19_method_15_code (6 : Nat) (Option.none : Option Jvm.ClassFile.FieldType)) ∈ lw_all := lw_g (lw_at lw_m8 57 rfl) rfl
theorem q1854 : (Jvm.Cond.methodLink "CheekTown$World" (145 : Nat) ({ cls := "java/lang/Math", name := "min", desc := "(II)I" } : Jvm.MethodName)) ∈ lw_all := lw_g (lw_at lw_m8 58 rfl) rfl
theorem q1911 : (Jvm.Cond.instanceMethod ({ cls := "CheekTown$World", name := "cuts", desc := "(I)V" } : Jvm.MethodName)) ∈ lw_all := lw_g (lw_at lw_m8 115 rfl) rfl
theorem q1912 : (Jvm.Cond.selects "CheekTown$World" ({ cls := "CheekTown$World", name := "cuts", desc := "(I)V" } : Jvm.MethodName) ({ cls := "CheekTown$World", name := "cuts", desc := "(I)V" } : Jvm.MethodName)) ∈ lw_all := lw_g (lw_at lw_m8 116 rfl) rfl
theorem q1913 : (Jvm.Cond.code ({ cls := "CheekTown$World", name := "cuts", desc := "(I)V" } : Jvm.MethodName) prog_19_method_8_code (2 : Nat) (Option.none : Option Jvm.ClassFile.FieldType)) ∈ lw_all := lw_g (lw_at lw_m8 117 rfl) rfl
theorem q1944 : (Jvm.Cond.instanceMethod ({ cls := "CheekTown$World", name := "weightAll", desc := "(I)I" } : Jvm.MethodName)) ∈ lw_all := lw_g (lw_at lw_m8 148 rfl) rfl
theorem q1945 : (Jvm.Cond.selects "CheekTown$World" ({ cls := "CheekTown$World", name := "weightAll", desc := "(I)I" } : Jvm.MethodName) ({ cls := "CheekTown$World", name := "weightAll", desc := "(I)I" } : Jvm.MethodName)) ∈ lw_all := lw_g (lw_at lw_m8 149 rfl) rfl
theorem q1946 : (Jvm.Cond.code ({ cls := "CheekTown$World", name := "weightAll", desc := "(I)I" } : Jvm.MethodName) prog_19_method_11_code (4 : Nat) (Option.some Jvm.ClassFile.FieldType.int)) ∈ lw_all := lw_g (lw_at lw_m8 150 rfl) rfl
theorem q2741 : (Jvm.Cond.castable "CheekTown$World" "java/lang/Object") ∈ lw_tbl := lw_at lw_m11 225 rfl
theorem in_X2 : ∀ w ∈ wsX20, w ∈ lw_all := lw_in wsX20 [247, 249, 251, 253, 255, 257, 259, 261, 263, 265, 267, 269, 271, 273, 275, 277, 279, 281, 283, 285, 287, 289, 291, 293, 295, 297, 299, 301, 303, 305, 307] (by decide +kernel) (by decide +kernel)

/-! CheekTown$Reader -/
set_option maxRecDepth 100000
def RX3 : String := "CheekTown$Reader"
def TX3 : u_T := fun k => match k with
  | 0 => ("CheekTown$Reader", "tape", "[B", true)
  | 1 => ("CheekTown$Reader", "length", "I", false)
  | 2 => ("CheekTown$Reader", "end", "I", false)
  | 3 => ("CheekTown$Reader", "at", "I", false)
  | 4 => ("CheekTown$Reader", "begin", "I", false)
  | 5 => ("CheekTown$Reader", "fault", "I", false)
  | _ => ("CheekTown$Reader", "deep", "I", false)
def tyX3 : Nat → FieldType := fun k => match k with
  | 0 => .array .byte
  | 1 => .int
  | 2 => .int
  | 3 => .int
  | 4 => .int
  | 5 => .int
  | _ => .int
abbrev wsX30 : List Cond := u_ws RX3 TX3 7
theorem nmX3 : ∀ a, a < 7 → ∀ b, b < 7 → a ≠ b → (TX3 a).2.1 ≠ (TX3 b).2.1 := by decide +kernel
theorem tyX3_ok : ∀ k, k < 7 → parseFieldDescriptor (TX3 k).2.2.1 = some (tyX3 k) := by decide +kernel
abbrev cX3_init : ByteArray := prog_11_method_1_code
def yX3_init : MethodName := ⟨RX3, "<init>", "()V"⟩
def dkwX3_init_0 : List UInt8 := [42, 183, 0, 3, 42, 17, 1, 144, 188, 8, 181, 0, 9, 42, 2, 181, 0, 15, 177]
abbrev dktX3_init_0 : List UInt8 := dkwX3_init_0 ++ []
theorem dksX3_init_0 : cX3_init.data.toList.drop 0 = dktX3_init_0 := by decide +kernel
theorem dX3_init_0 : decode cX3_init 0 = .ok (.aload_n 0, 1) := dk_42 (dk_at dksX3_init_0 0 rfl rfl)
theorem dX3_init_1 : decode cX3_init 1 = .ok (.invokespecial 3, 3) := dk_183 0 3 (dk_at dksX3_init_0 1 rfl rfl)
theorem dX3_init_4 : decode cX3_init 4 = .ok (.aload_n 0, 1) := dk_42 (dk_at dksX3_init_0 4 rfl rfl)
theorem dX3_init_5 : decode cX3_init 5 = .ok (.sipush 400, 3) := dk_17 1 144 (dk_at dksX3_init_0 5 rfl rfl)
theorem dX3_init_8 : decode cX3_init 8 = .ok (.newarray .byte, 2) := dk_188_8 (dk_at dksX3_init_0 8 rfl rfl)
theorem dX3_init_10 : decode cX3_init 10 = .ok (.putfield 9, 3) := dk_181 0 9 (dk_at dksX3_init_0 10 rfl rfl)
theorem dX3_init_13 : decode cX3_init 13 = .ok (.aload_n 0, 1) := dk_42 (dk_at dksX3_init_0 13 rfl rfl)
theorem dX3_init_14 : decode cX3_init 14 = .ok (.iconst (-1), 1) := dk_2 (dk_at dksX3_init_0 14 rfl rfl)
theorem dX3_init_15 : decode cX3_init 15 = .ok (.putfield 15, 3) := dk_181 0 15 (dk_at dksX3_init_0 15 rfl rfl)
theorem dX3_init_18 : decode cX3_init 18 = .ok (.return_, 1) := dk_177 (dk_at dksX3_init_0 18 rfl rfl)
abbrev cX3_add : ByteArray := prog_11_method_2_code
def yX3_add : MethodName := ⟨RX3, "add", "([I)I"⟩
def dkwX3_add_3 : List UInt8 := [132, 6, 248, 167, 255, 223, 132, 4, 1, 167, 255, 201, 42, 180, 0, 19, 172]
abbrev dktX3_add_3 : List UInt8 := dkwX3_add_3 ++ []
def dkwX3_add_2 : List UInt8 := [180, 0, 9, 42, 180, 0, 19, 21, 5, 21, 6, 122, 145, 84, 42, 89, 180, 0, 19, 4, 96, 181, 0, 19]
abbrev dktX3_add_2 : List UInt8 := dkwX3_add_2 ++ dktX3_add_3
def dkwX3_add_1 : List UInt8 := [21, 4, 29, 162, 0, 55, 44, 21, 4, 46, 54, 5, 16, 24, 54, 6, 21, 6, 155, 0, 34, 42]
abbrev dktX3_add_1 : List UInt8 := dkwX3_add_1 ++ dktX3_add_2
def dkwX3_add_0 : List UInt8 := [42, 180, 0, 19, 16, 20, 96, 17, 1, 144, 164, 0, 5, 2, 172, 43, 77, 44, 190, 62, 3, 54, 4]
abbrev dktX3_add_0 : List UInt8 := dkwX3_add_0 ++ dktX3_add_1
theorem dksX3_add_0 : cX3_add.data.toList.drop 0 = dktX3_add_0 := by decide +kernel
theorem dksX3_add_1 : cX3_add.data.toList.drop 23 = dktX3_add_1 := dk_seg dksX3_add_0 23 rfl rfl
theorem dksX3_add_2 : cX3_add.data.toList.drop 45 = dktX3_add_2 := dk_seg dksX3_add_1 22 rfl rfl
theorem dksX3_add_3 : cX3_add.data.toList.drop 69 = dktX3_add_3 := dk_seg dksX3_add_2 24 rfl rfl
theorem dX3_add_0 : decode cX3_add 0 = .ok (.aload_n 0, 1) := dk_42 (dk_at dksX3_add_0 0 rfl rfl)
theorem dX3_add_1 : decode cX3_add 1 = .ok (.getfield 19, 3) := dk_180 0 19 (dk_at dksX3_add_0 1 rfl rfl)
theorem dX3_add_4 : decode cX3_add 4 = .ok (.bipush 20, 2) := dk_16 20 (dk_at dksX3_add_0 4 rfl rfl)
theorem dX3_add_6 : decode cX3_add 6 = .ok (.iadd, 1) := dk_96 (dk_at dksX3_add_0 6 rfl rfl)
theorem dX3_add_7 : decode cX3_add 7 = .ok (.sipush 400, 3) := dk_17 1 144 (dk_at dksX3_add_0 7 rfl rfl)
theorem dX3_add_10 : decode cX3_add 10 = .ok (.if_icmp .le 5, 3) := dk_164 0 5 (dk_at dksX3_add_0 10 rfl rfl)
theorem dX3_add_13 : decode cX3_add 13 = .ok (.iconst (-1), 1) := dk_2 (dk_at dksX3_add_0 13 rfl rfl)
theorem dX3_add_14 : decode cX3_add 14 = .ok (.ireturn, 1) := dk_172 (dk_at dksX3_add_0 14 rfl rfl)
theorem dX3_add_15 : decode cX3_add 15 = .ok (.aload_n 1, 1) := dk_43 (dk_at dksX3_add_0 15 rfl rfl)
theorem dX3_add_16 : decode cX3_add 16 = .ok (.astore_n 2, 1) := dk_77 (dk_at dksX3_add_0 16 rfl rfl)
theorem dX3_add_17 : decode cX3_add 17 = .ok (.aload_n 2, 1) := dk_44 (dk_at dksX3_add_0 17 rfl rfl)
theorem dX3_add_18 : decode cX3_add 18 = .ok (.arraylength, 1) := dk_190 (dk_at dksX3_add_0 18 rfl rfl)
theorem dX3_add_19 : decode cX3_add 19 = .ok (.istore_n 3, 1) := dk_62 (dk_at dksX3_add_0 19 rfl rfl)
theorem dX3_add_20 : decode cX3_add 20 = .ok (.iconst 0, 1) := dk_3 (dk_at dksX3_add_0 20 rfl rfl)
theorem dX3_add_21 : decode cX3_add 21 = .ok (.istore 4, 2) := dk_54 4 (dk_at dksX3_add_0 21 rfl rfl)
theorem dX3_add_23 : decode cX3_add 23 = .ok (.iload 4, 2) := dk_21 4 (dk_at dksX3_add_1 0 rfl rfl)
theorem dX3_add_25 : decode cX3_add 25 = .ok (.iload_n 3, 1) := dk_29 (dk_at dksX3_add_1 2 rfl rfl)
theorem dX3_add_26 : decode cX3_add 26 = .ok (.if_icmp .ge 55, 3) := dk_162 0 55 (dk_at dksX3_add_1 3 rfl rfl)
theorem dX3_add_29 : decode cX3_add 29 = .ok (.aload_n 2, 1) := dk_44 (dk_at dksX3_add_1 6 rfl rfl)
theorem dX3_add_30 : decode cX3_add 30 = .ok (.iload 4, 2) := dk_21 4 (dk_at dksX3_add_1 7 rfl rfl)
theorem dX3_add_32 : decode cX3_add 32 = .ok (.iaload, 1) := dk_46 (dk_at dksX3_add_1 9 rfl rfl)
theorem dX3_add_33 : decode cX3_add 33 = .ok (.istore 5, 2) := dk_54 5 (dk_at dksX3_add_1 10 rfl rfl)
theorem dX3_add_35 : decode cX3_add 35 = .ok (.bipush 24, 2) := dk_16 24 (dk_at dksX3_add_1 12 rfl rfl)
theorem dX3_add_37 : decode cX3_add 37 = .ok (.istore 6, 2) := dk_54 6 (dk_at dksX3_add_1 14 rfl rfl)
theorem dX3_add_39 : decode cX3_add 39 = .ok (.iload 6, 2) := dk_21 6 (dk_at dksX3_add_1 16 rfl rfl)
theorem dX3_add_41 : decode cX3_add 41 = .ok (.ifCond .lt 34, 3) := dk_155 0 34 (dk_at dksX3_add_1 18 rfl rfl)
theorem dX3_add_44 : decode cX3_add 44 = .ok (.aload_n 0, 1) := dk_42 (dk_at dksX3_add_1 21 rfl rfl)
theorem dX3_add_45 : decode cX3_add 45 = .ok (.getfield 9, 3) := dk_180 0 9 (dk_at dksX3_add_2 0 rfl rfl)
theorem dX3_add_48 : decode cX3_add 48 = .ok (.aload_n 0, 1) := dk_42 (dk_at dksX3_add_2 3 rfl rfl)
theorem dX3_add_49 : decode cX3_add 49 = .ok (.getfield 19, 3) := dk_180 0 19 (dk_at dksX3_add_2 4 rfl rfl)
theorem dX3_add_52 : decode cX3_add 52 = .ok (.iload 5, 2) := dk_21 5 (dk_at dksX3_add_2 7 rfl rfl)
theorem dX3_add_54 : decode cX3_add 54 = .ok (.iload 6, 2) := dk_21 6 (dk_at dksX3_add_2 9 rfl rfl)
theorem dX3_add_56 : decode cX3_add 56 = .ok (.ishr, 1) := dk_122 (dk_at dksX3_add_2 11 rfl rfl)
theorem dX3_add_57 : decode cX3_add 57 = .ok (.i2b, 1) := dk_145 (dk_at dksX3_add_2 12 rfl rfl)
theorem dX3_add_58 : decode cX3_add 58 = .ok (.bastore, 1) := dk_84 (dk_at dksX3_add_2 13 rfl rfl)
theorem dX3_add_59 : decode cX3_add 59 = .ok (.aload_n 0, 1) := dk_42 (dk_at dksX3_add_2 14 rfl rfl)
theorem dX3_add_60 : decode cX3_add 60 = .ok (.dup, 1) := dk_89 (dk_at dksX3_add_2 15 rfl rfl)
theorem dX3_add_61 : decode cX3_add 61 = .ok (.getfield 19, 3) := dk_180 0 19 (dk_at dksX3_add_2 16 rfl rfl)
theorem dX3_add_64 : decode cX3_add 64 = .ok (.iconst 1, 1) := dk_4 (dk_at dksX3_add_2 19 rfl rfl)
theorem dX3_add_65 : decode cX3_add 65 = .ok (.iadd, 1) := dk_96 (dk_at dksX3_add_2 20 rfl rfl)
theorem dX3_add_66 : decode cX3_add 66 = .ok (.putfield 19, 3) := dk_181 0 19 (dk_at dksX3_add_2 21 rfl rfl)
theorem dX3_add_69 : decode cX3_add 69 = .ok (.iinc 6 (-8), 3) := dk_132 6 248 (dk_at dksX3_add_3 0 rfl rfl)
theorem dX3_add_72 : decode cX3_add 72 = .ok (.goto (-33), 3) := dk_167 255 223 (dk_at dksX3_add_3 3 rfl rfl)
theorem dX3_add_75 : decode cX3_add 75 = .ok (.iinc 4 1, 3) := dk_132 4 1 (dk_at dksX3_add_3 6 rfl rfl)
theorem dX3_add_78 : decode cX3_add 78 = .ok (.goto (-55), 3) := dk_167 255 201 (dk_at dksX3_add_3 9 rfl rfl)
theorem dX3_add_81 : decode cX3_add 81 = .ok (.aload_n 0, 1) := dk_42 (dk_at dksX3_add_3 12 rfl rfl)
theorem dX3_add_82 : decode cX3_add 82 = .ok (.getfield 19, 3) := dk_180 0 19 (dk_at dksX3_add_3 13 rfl rfl)
theorem dX3_add_85 : decode cX3_add 85 = .ok (.ireturn, 1) := dk_172 (dk_at dksX3_add_3 16 rfl rfl)
abbrev cX3_cut : ByteArray := prog_11_method_3_code
def yX3_cut : MethodName := ⟨RX3, "cut", "(I)Z"⟩
def dkwX3_cut_0 : List UInt8 := [27, 155, 0, 11, 27, 42, 180, 0, 19, 164, 0, 5, 3, 172, 42, 27, 181, 0, 19, 4, 172]
abbrev dktX3_cut_0 : List UInt8 := dkwX3_cut_0 ++ []
theorem dksX3_cut_0 : cX3_cut.data.toList.drop 0 = dktX3_cut_0 := by decide +kernel
theorem dX3_cut_0 : decode cX3_cut 0 = .ok (.iload_n 1, 1) := dk_27 (dk_at dksX3_cut_0 0 rfl rfl)
theorem dX3_cut_1 : decode cX3_cut 1 = .ok (.ifCond .lt 11, 3) := dk_155 0 11 (dk_at dksX3_cut_0 1 rfl rfl)
theorem dX3_cut_4 : decode cX3_cut 4 = .ok (.iload_n 1, 1) := dk_27 (dk_at dksX3_cut_0 4 rfl rfl)
theorem dX3_cut_5 : decode cX3_cut 5 = .ok (.aload_n 0, 1) := dk_42 (dk_at dksX3_cut_0 5 rfl rfl)
theorem dX3_cut_6 : decode cX3_cut 6 = .ok (.getfield 19, 3) := dk_180 0 19 (dk_at dksX3_cut_0 6 rfl rfl)
theorem dX3_cut_9 : decode cX3_cut 9 = .ok (.if_icmp .le 5, 3) := dk_164 0 5 (dk_at dksX3_cut_0 9 rfl rfl)
theorem dX3_cut_12 : decode cX3_cut 12 = .ok (.iconst 0, 1) := dk_3 (dk_at dksX3_cut_0 12 rfl rfl)
theorem dX3_cut_13 : decode cX3_cut 13 = .ok (.ireturn, 1) := dk_172 (dk_at dksX3_cut_0 13 rfl rfl)
theorem dX3_cut_14 : decode cX3_cut 14 = .ok (.aload_n 0, 1) := dk_42 (dk_at dksX3_cut_0 14 rfl rfl)
theorem dX3_cut_15 : decode cX3_cut 15 = .ok (.iload_n 1, 1) := dk_27 (dk_at dksX3_cut_0 15 rfl rfl)
theorem dX3_cut_16 : decode cX3_cut 16 = .ok (.putfield 19, 3) := dk_181 0 19 (dk_at dksX3_cut_0 16 rfl rfl)
theorem dX3_cut_19 : decode cX3_cut 19 = .ok (.iconst 1, 1) := dk_4 (dk_at dksX3_cut_0 19 rfl rfl)
theorem dX3_cut_20 : decode cX3_cut 20 = .ok (.ireturn, 1) := dk_172 (dk_at dksX3_cut_0 20 rfl rfl)
abbrev cX3_begins : ByteArray := prog_11_method_4_code
def yX3_begins : MethodName := ⟨RX3, "begins", "()V"⟩
def dkwX3_begins_0 : List UInt8 := [42, 42, 180, 0, 19, 181, 0, 22, 42, 3, 181, 0, 19, 42, 3, 181, 0, 25, 42, 3, 181, 0, 28, 177]
abbrev dktX3_begins_0 : List UInt8 := dkwX3_begins_0 ++ []
theorem dksX3_begins_0 : cX3_begins.data.toList.drop 0 = dktX3_begins_0 := by decide +kernel
theorem dX3_begins_0 : decode cX3_begins 0 = .ok (.aload_n 0, 1) := dk_42 (dk_at dksX3_begins_0 0 rfl rfl)
theorem dX3_begins_1 : decode cX3_begins 1 = .ok (.aload_n 0, 1) := dk_42 (dk_at dksX3_begins_0 1 rfl rfl)
theorem dX3_begins_2 : decode cX3_begins 2 = .ok (.getfield 19, 3) := dk_180 0 19 (dk_at dksX3_begins_0 2 rfl rfl)
theorem dX3_begins_5 : decode cX3_begins 5 = .ok (.putfield 22, 3) := dk_181 0 22 (dk_at dksX3_begins_0 5 rfl rfl)
theorem dX3_begins_8 : decode cX3_begins 8 = .ok (.aload_n 0, 1) := dk_42 (dk_at dksX3_begins_0 8 rfl rfl)
theorem dX3_begins_9 : decode cX3_begins 9 = .ok (.iconst 0, 1) := dk_3 (dk_at dksX3_begins_0 9 rfl rfl)
theorem dX3_begins_10 : decode cX3_begins 10 = .ok (.putfield 19, 3) := dk_181 0 19 (dk_at dksX3_begins_0 10 rfl rfl)
theorem dX3_begins_13 : decode cX3_begins 13 = .ok (.aload_n 0, 1) := dk_42 (dk_at dksX3_begins_0 13 rfl rfl)
theorem dX3_begins_14 : decode cX3_begins 14 = .ok (.iconst 0, 1) := dk_3 (dk_at dksX3_begins_0 14 rfl rfl)
theorem dX3_begins_15 : decode cX3_begins 15 = .ok (.putfield 25, 3) := dk_181 0 25 (dk_at dksX3_begins_0 15 rfl rfl)
theorem dX3_begins_18 : decode cX3_begins 18 = .ok (.aload_n 0, 1) := dk_42 (dk_at dksX3_begins_0 18 rfl rfl)
theorem dX3_begins_19 : decode cX3_begins 19 = .ok (.iconst 0, 1) := dk_3 (dk_at dksX3_begins_0 19 rfl rfl)
theorem dX3_begins_20 : decode cX3_begins 20 = .ok (.putfield 28, 3) := dk_181 0 28 (dk_at dksX3_begins_0 20 rfl rfl)
theorem dX3_begins_23 : decode cX3_begins 23 = .ok (.return_, 1) := dk_177 (dk_at dksX3_begins_0 23 rfl rfl)
abbrev cX3_isOver : ByteArray := prog_11_method_7_code
def yX3_isOver : MethodName := ⟨RX3, "isOver", "()Z"⟩
def dkwX3_isOver_0 : List UInt8 := [42, 182, 0, 38, 42, 180, 0, 25, 42, 180, 0, 22, 160, 0, 7, 4, 167, 0, 4, 3, 172]
abbrev dktX3_isOver_0 : List UInt8 := dkwX3_isOver_0 ++ []
theorem dksX3_isOver_0 : cX3_isOver.data.toList.drop 0 = dktX3_isOver_0 := by decide +kernel
theorem dX3_isOver_0 : decode cX3_isOver 0 = .ok (.aload_n 0, 1) := dk_42 (dk_at dksX3_isOver_0 0 rfl rfl)
theorem dX3_isOver_1 : decode cX3_isOver 1 = .ok (.invokevirtual 38, 3) := dk_182 0 38 (dk_at dksX3_isOver_0 1 rfl rfl)
theorem dX3_isOver_4 : decode cX3_isOver 4 = .ok (.aload_n 0, 1) := dk_42 (dk_at dksX3_isOver_0 4 rfl rfl)
theorem dX3_isOver_5 : decode cX3_isOver 5 = .ok (.getfield 25, 3) := dk_180 0 25 (dk_at dksX3_isOver_0 5 rfl rfl)
theorem dX3_isOver_8 : decode cX3_isOver 8 = .ok (.aload_n 0, 1) := dk_42 (dk_at dksX3_isOver_0 8 rfl rfl)
theorem dX3_isOver_9 : decode cX3_isOver 9 = .ok (.getfield 22, 3) := dk_180 0 22 (dk_at dksX3_isOver_0 9 rfl rfl)
theorem dX3_isOver_12 : decode cX3_isOver 12 = .ok (.if_icmp .ne 7, 3) := dk_160 0 7 (dk_at dksX3_isOver_0 12 rfl rfl)
theorem dX3_isOver_15 : decode cX3_isOver 15 = .ok (.iconst 1, 1) := dk_4 (dk_at dksX3_isOver_0 15 rfl rfl)
theorem dX3_isOver_16 : decode cX3_isOver 16 = .ok (.goto 4, 3) := dk_167 0 4 (dk_at dksX3_isOver_0 16 rfl rfl)
theorem dX3_isOver_19 : decode cX3_isOver 19 = .ok (.iconst 0, 1) := dk_3 (dk_at dksX3_isOver_0 19 rfl rfl)
theorem dX3_isOver_20 : decode cX3_isOver 20 = .ok (.ireturn, 1) := dk_172 (dk_at dksX3_isOver_0 20 rfl rfl)
abbrev cX3_blanks : ByteArray := prog_11_method_6_code
def yX3_blanks : MethodName := ⟨RX3, "blanks", "()V"⟩
def dkwX3_blanks_1 : List UInt8 := [167, 255, 233, 42, 42, 180, 0, 25, 181, 0, 35, 177]
abbrev dktX3_blanks_1 : List UInt8 := dkwX3_blanks_1 ++ []
def dkwX3_blanks_0 : List UInt8 := [42, 42, 180, 0, 25, 182, 0, 31, 16, 32, 160, 0, 16, 42, 89, 180, 0, 25, 4, 96, 181, 0, 25]
abbrev dktX3_blanks_0 : List UInt8 := dkwX3_blanks_0 ++ dktX3_blanks_1
theorem dksX3_blanks_0 : cX3_blanks.data.toList.drop 0 = dktX3_blanks_0 := by decide +kernel
theorem dksX3_blanks_1 : cX3_blanks.data.toList.drop 23 = dktX3_blanks_1 := dk_seg dksX3_blanks_0 23 rfl rfl
theorem dX3_blanks_0 : decode cX3_blanks 0 = .ok (.aload_n 0, 1) := dk_42 (dk_at dksX3_blanks_0 0 rfl rfl)
theorem dX3_blanks_1 : decode cX3_blanks 1 = .ok (.aload_n 0, 1) := dk_42 (dk_at dksX3_blanks_0 1 rfl rfl)
theorem dX3_blanks_2 : decode cX3_blanks 2 = .ok (.getfield 25, 3) := dk_180 0 25 (dk_at dksX3_blanks_0 2 rfl rfl)
theorem dX3_blanks_5 : decode cX3_blanks 5 = .ok (.invokevirtual 31, 3) := dk_182 0 31 (dk_at dksX3_blanks_0 5 rfl rfl)
theorem dX3_blanks_8 : decode cX3_blanks 8 = .ok (.bipush 32, 2) := dk_16 32 (dk_at dksX3_blanks_0 8 rfl rfl)
theorem dX3_blanks_10 : decode cX3_blanks 10 = .ok (.if_icmp .ne 16, 3) := dk_160 0 16 (dk_at dksX3_blanks_0 10 rfl rfl)
theorem dX3_blanks_13 : decode cX3_blanks 13 = .ok (.aload_n 0, 1) := dk_42 (dk_at dksX3_blanks_0 13 rfl rfl)
theorem dX3_blanks_14 : decode cX3_blanks 14 = .ok (.dup, 1) := dk_89 (dk_at dksX3_blanks_0 14 rfl rfl)
theorem dX3_blanks_15 : decode cX3_blanks 15 = .ok (.getfield 25, 3) := dk_180 0 25 (dk_at dksX3_blanks_0 15 rfl rfl)
theorem dX3_blanks_18 : decode cX3_blanks 18 = .ok (.iconst 1, 1) := dk_4 (dk_at dksX3_blanks_0 18 rfl rfl)
theorem dX3_blanks_19 : decode cX3_blanks 19 = .ok (.iadd, 1) := dk_96 (dk_at dksX3_blanks_0 19 rfl rfl)
theorem dX3_blanks_20 : decode cX3_blanks 20 = .ok (.putfield 25, 3) := dk_181 0 25 (dk_at dksX3_blanks_0 20 rfl rfl)
theorem dX3_blanks_23 : decode cX3_blanks 23 = .ok (.goto (-23), 3) := dk_167 255 233 (dk_at dksX3_blanks_1 0 rfl rfl)
theorem dX3_blanks_26 : decode cX3_blanks 26 = .ok (.aload_n 0, 1) := dk_42 (dk_at dksX3_blanks_1 3 rfl rfl)
theorem dX3_blanks_27 : decode cX3_blanks 27 = .ok (.aload_n 0, 1) := dk_42 (dk_at dksX3_blanks_1 4 rfl rfl)
theorem dX3_blanks_28 : decode cX3_blanks 28 = .ok (.getfield 25, 3) := dk_180 0 25 (dk_at dksX3_blanks_1 5 rfl rfl)
theorem dX3_blanks_31 : decode cX3_blanks 31 = .ok (.putfield 35, 3) := dk_181 0 35 (dk_at dksX3_blanks_1 8 rfl rfl)
theorem dX3_blanks_34 : decode cX3_blanks 34 = .ok (.return_, 1) := dk_177 (dk_at dksX3_blanks_1 11 rfl rfl)
abbrev cX3_byteAt : ByteArray := prog_11_method_5_code
def yX3_byteAt : MethodName := ⟨RX3, "byteAt", "(I)I"⟩
def dkwX3_byteAt_0 : List UInt8 := [27, 42, 180, 0, 22, 162, 0, 12, 42, 180, 0, 9, 27, 51, 167, 0, 4, 2, 172]
abbrev dktX3_byteAt_0 : List UInt8 := dkwX3_byteAt_0 ++ []
theorem dksX3_byteAt_0 : cX3_byteAt.data.toList.drop 0 = dktX3_byteAt_0 := by decide +kernel
theorem dX3_byteAt_0 : decode cX3_byteAt 0 = .ok (.iload_n 1, 1) := dk_27 (dk_at dksX3_byteAt_0 0 rfl rfl)
theorem dX3_byteAt_1 : decode cX3_byteAt 1 = .ok (.aload_n 0, 1) := dk_42 (dk_at dksX3_byteAt_0 1 rfl rfl)
theorem dX3_byteAt_2 : decode cX3_byteAt 2 = .ok (.getfield 22, 3) := dk_180 0 22 (dk_at dksX3_byteAt_0 2 rfl rfl)
theorem dX3_byteAt_5 : decode cX3_byteAt 5 = .ok (.if_icmp .ge 12, 3) := dk_162 0 12 (dk_at dksX3_byteAt_0 5 rfl rfl)
theorem dX3_byteAt_8 : decode cX3_byteAt 8 = .ok (.aload_n 0, 1) := dk_42 (dk_at dksX3_byteAt_0 8 rfl rfl)
theorem dX3_byteAt_9 : decode cX3_byteAt 9 = .ok (.getfield 9, 3) := dk_180 0 9 (dk_at dksX3_byteAt_0 9 rfl rfl)
theorem dX3_byteAt_12 : decode cX3_byteAt 12 = .ok (.iload_n 1, 1) := dk_27 (dk_at dksX3_byteAt_0 12 rfl rfl)
theorem dX3_byteAt_13 : decode cX3_byteAt 13 = .ok (.baload, 1) := dk_51 (dk_at dksX3_byteAt_0 13 rfl rfl)
theorem dX3_byteAt_14 : decode cX3_byteAt 14 = .ok (.goto 4, 3) := dk_167 0 4 (dk_at dksX3_byteAt_0 14 rfl rfl)
theorem dX3_byteAt_17 : decode cX3_byteAt 17 = .ok (.iconst (-1), 1) := dk_2 (dk_at dksX3_byteAt_0 17 rfl rfl)
theorem dX3_byteAt_18 : decode cX3_byteAt 18 = .ok (.ireturn, 1) := dk_172 (dk_at dksX3_byteAt_0 18 rfl rfl)
abbrev cX3_word : ByteArray := prog_11_method_8_code
def yX3_word : MethodName := ⟨RX3, "word", "()Ljava/lang/String;"⟩
def dkwX3_word_3 : List UInt8 := [167, 255, 233, 43, 182, 0, 52, 176]
abbrev dktX3_word_3 : List UInt8 := dkwX3_word_3 ++ []
def dkwX3_word_2 : List UInt8 := [28, 42, 180, 0, 25, 162, 0, 21, 43, 42, 180, 0, 9, 28, 51, 146, 182, 0, 48, 87, 132, 2, 1]
abbrev dktX3_word_2 : List UInt8 := dkwX3_word_2 ++ dktX3_word_3
def dkwX3_word_1 : List UInt8 := [180, 0, 25, 4, 96, 181, 0, 25, 167, 255, 228, 187, 0, 45, 89, 183, 0, 47, 76, 42, 180, 0, 35, 61]
abbrev dktX3_word_1 : List UInt8 := dkwX3_word_1 ++ dktX3_word_2
def dkwX3_word_0 : List UInt8 := [42, 182, 0, 38, 42, 42, 180, 0, 25, 182, 0, 31, 16, 97, 16, 122, 184, 0, 41, 153, 0, 16, 42, 89]
abbrev dktX3_word_0 : List UInt8 := dkwX3_word_0 ++ dktX3_word_1
theorem dksX3_word_0 : cX3_word.data.toList.drop 0 = dktX3_word_0 := by decide +kernel
theorem dksX3_word_1 : cX3_word.data.toList.drop 24 = dktX3_word_1 := dk_seg dksX3_word_0 24 rfl rfl
theorem dksX3_word_2 : cX3_word.data.toList.drop 48 = dktX3_word_2 := dk_seg dksX3_word_1 24 rfl rfl
theorem dksX3_word_3 : cX3_word.data.toList.drop 71 = dktX3_word_3 := dk_seg dksX3_word_2 23 rfl rfl
theorem dX3_word_0 : decode cX3_word 0 = .ok (.aload_n 0, 1) := dk_42 (dk_at dksX3_word_0 0 rfl rfl)
theorem dX3_word_1 : decode cX3_word 1 = .ok (.invokevirtual 38, 3) := dk_182 0 38 (dk_at dksX3_word_0 1 rfl rfl)
theorem dX3_word_4 : decode cX3_word 4 = .ok (.aload_n 0, 1) := dk_42 (dk_at dksX3_word_0 4 rfl rfl)
theorem dX3_word_5 : decode cX3_word 5 = .ok (.aload_n 0, 1) := dk_42 (dk_at dksX3_word_0 5 rfl rfl)
theorem dX3_word_6 : decode cX3_word 6 = .ok (.getfield 25, 3) := dk_180 0 25 (dk_at dksX3_word_0 6 rfl rfl)
theorem dX3_word_9 : decode cX3_word 9 = .ok (.invokevirtual 31, 3) := dk_182 0 31 (dk_at dksX3_word_0 9 rfl rfl)
theorem dX3_word_12 : decode cX3_word 12 = .ok (.bipush 97, 2) := dk_16 97 (dk_at dksX3_word_0 12 rfl rfl)
theorem dX3_word_14 : decode cX3_word 14 = .ok (.bipush 122, 2) := dk_16 122 (dk_at dksX3_word_0 14 rfl rfl)
theorem dX3_word_16 : decode cX3_word 16 = .ok (.invokestatic 41, 3) := dk_184 0 41 (dk_at dksX3_word_0 16 rfl rfl)
theorem dX3_word_19 : decode cX3_word 19 = .ok (.ifCond .eq 16, 3) := dk_153 0 16 (dk_at dksX3_word_0 19 rfl rfl)
theorem dX3_word_22 : decode cX3_word 22 = .ok (.aload_n 0, 1) := dk_42 (dk_at dksX3_word_0 22 rfl rfl)
theorem dX3_word_23 : decode cX3_word 23 = .ok (.dup, 1) := dk_89 (dk_at dksX3_word_0 23 rfl rfl)
theorem dX3_word_24 : decode cX3_word 24 = .ok (.getfield 25, 3) := dk_180 0 25 (dk_at dksX3_word_1 0 rfl rfl)
theorem dX3_word_27 : decode cX3_word 27 = .ok (.iconst 1, 1) := dk_4 (dk_at dksX3_word_1 3 rfl rfl)
theorem dX3_word_28 : decode cX3_word 28 = .ok (.iadd, 1) := dk_96 (dk_at dksX3_word_1 4 rfl rfl)
theorem dX3_word_29 : decode cX3_word 29 = .ok (.putfield 25, 3) := dk_181 0 25 (dk_at dksX3_word_1 5 rfl rfl)
theorem dX3_word_32 : decode cX3_word 32 = .ok (.goto (-28), 3) := dk_167 255 228 (dk_at dksX3_word_1 8 rfl rfl)
theorem dX3_word_35 : decode cX3_word 35 = .ok (.new 45, 3) := dk_187 0 45 (dk_at dksX3_word_1 11 rfl rfl)
theorem dX3_word_38 : decode cX3_word 38 = .ok (.dup, 1) := dk_89 (dk_at dksX3_word_1 14 rfl rfl)
theorem dX3_word_39 : decode cX3_word 39 = .ok (.invokespecial 47, 3) := dk_183 0 47 (dk_at dksX3_word_1 15 rfl rfl)
theorem dX3_word_42 : decode cX3_word 42 = .ok (.astore_n 1, 1) := dk_76 (dk_at dksX3_word_1 18 rfl rfl)
theorem dX3_word_43 : decode cX3_word 43 = .ok (.aload_n 0, 1) := dk_42 (dk_at dksX3_word_1 19 rfl rfl)
theorem dX3_word_44 : decode cX3_word 44 = .ok (.getfield 35, 3) := dk_180 0 35 (dk_at dksX3_word_1 20 rfl rfl)
theorem dX3_word_47 : decode cX3_word 47 = .ok (.istore_n 2, 1) := dk_61 (dk_at dksX3_word_1 23 rfl rfl)
theorem dX3_word_48 : decode cX3_word 48 = .ok (.iload_n 2, 1) := dk_28 (dk_at dksX3_word_2 0 rfl rfl)
theorem dX3_word_49 : decode cX3_word 49 = .ok (.aload_n 0, 1) := dk_42 (dk_at dksX3_word_2 1 rfl rfl)
theorem dX3_word_50 : decode cX3_word 50 = .ok (.getfield 25, 3) := dk_180 0 25 (dk_at dksX3_word_2 2 rfl rfl)
theorem dX3_word_53 : decode cX3_word 53 = .ok (.if_icmp .ge 21, 3) := dk_162 0 21 (dk_at dksX3_word_2 5 rfl rfl)
theorem dX3_word_56 : decode cX3_word 56 = .ok (.aload_n 1, 1) := dk_43 (dk_at dksX3_word_2 8 rfl rfl)
theorem dX3_word_57 : decode cX3_word 57 = .ok (.aload_n 0, 1) := dk_42 (dk_at dksX3_word_2 9 rfl rfl)
theorem dX3_word_58 : decode cX3_word 58 = .ok (.getfield 9, 3) := dk_180 0 9 (dk_at dksX3_word_2 10 rfl rfl)
theorem dX3_word_61 : decode cX3_word 61 = .ok (.iload_n 2, 1) := dk_28 (dk_at dksX3_word_2 13 rfl rfl)
theorem dX3_word_62 : decode cX3_word 62 = .ok (.baload, 1) := dk_51 (dk_at dksX3_word_2 14 rfl rfl)
theorem dX3_word_63 : decode cX3_word 63 = .ok (.i2c, 1) := dk_146 (dk_at dksX3_word_2 15 rfl rfl)
theorem dX3_word_64 : decode cX3_word 64 = .ok (.invokevirtual 48, 3) := dk_182 0 48 (dk_at dksX3_word_2 16 rfl rfl)
theorem dX3_word_67 : decode cX3_word 67 = .ok (.pop, 1) := dk_87 (dk_at dksX3_word_2 19 rfl rfl)
theorem dX3_word_68 : decode cX3_word 68 = .ok (.iinc 2 1, 3) := dk_132 2 1 (dk_at dksX3_word_2 20 rfl rfl)
theorem dX3_word_71 : decode cX3_word 71 = .ok (.goto (-23), 3) := dk_167 255 233 (dk_at dksX3_word_3 0 rfl rfl)
theorem dX3_word_74 : decode cX3_word 74 = .ok (.aload_n 1, 1) := dk_43 (dk_at dksX3_word_3 3 rfl rfl)
theorem dX3_word_75 : decode cX3_word 75 = .ok (.invokevirtual 52, 3) := dk_182 0 52 (dk_at dksX3_word_3 4 rfl rfl)
theorem dX3_word_78 : decode cX3_word 78 = .ok (.areturn, 1) := dk_176 (dk_at dksX3_word_3 7 rfl rfl)
abbrev cX3_wrong : ByteArray := prog_11_method_14_code
def yX3_wrong : MethodName := ⟨RX3, "wrong", "()LCheekTown$Wrong;"⟩
def dkwX3_wrong_0 : List UInt8 := [187, 0, 73, 89, 183, 0, 75, 176]
abbrev dktX3_wrong_0 : List UInt8 := dkwX3_wrong_0 ++ []
theorem dksX3_wrong_0 : cX3_wrong.data.toList.drop 0 = dktX3_wrong_0 := by decide +kernel
theorem dX3_wrong_0 : decode cX3_wrong 0 = .ok (.new 73, 3) := dk_187 0 73 (dk_at dksX3_wrong_0 0 rfl rfl)
theorem dX3_wrong_3 : decode cX3_wrong 3 = .ok (.dup, 1) := dk_89 (dk_at dksX3_wrong_0 3 rfl rfl)
theorem dX3_wrong_4 : decode cX3_wrong 4 = .ok (.invokespecial 75, 3) := dk_183 0 75 (dk_at dksX3_wrong_0 4 rfl rfl)
theorem dX3_wrong_7 : decode cX3_wrong 7 = .ok (.areturn, 1) := dk_176 (dk_at dksX3_wrong_0 7 rfl rfl)
abbrev cX3_number : ByteArray := prog_11_method_12_code
def yX3_number : MethodName := ⟨RX3, "number", "(II)I"⟩
def dkwX3_number_0 : List UInt8 := [42, 27, 28, 6, 182, 0, 65, 172]
abbrev dktX3_number_0 : List UInt8 := dkwX3_number_0 ++ []
theorem dksX3_number_0 : cX3_number.data.toList.drop 0 = dktX3_number_0 := by decide +kernel
theorem dX3_number_0 : decode cX3_number 0 = .ok (.aload_n 0, 1) := dk_42 (dk_at dksX3_number_0 0 rfl rfl)
theorem dX3_number_1 : decode cX3_number 1 = .ok (.iload_n 1, 1) := dk_27 (dk_at dksX3_number_0 1 rfl rfl)
theorem dX3_number_2 : decode cX3_number 2 = .ok (.iload_n 2, 1) := dk_28 (dk_at dksX3_number_0 2 rfl rfl)
theorem dX3_number_3 : decode cX3_number 3 = .ok (.iconst 3, 1) := dk_6 (dk_at dksX3_number_0 3 rfl rfl)
theorem dX3_number_4 : decode cX3_number 4 = .ok (.invokevirtual 65, 3) := dk_182 0 65 (dk_at dksX3_number_0 4 rfl rfl)
theorem dX3_number_7 : decode cX3_number 7 = .ok (.ireturn, 1) := dk_172 (dk_at dksX3_number_0 7 rfl rfl)
abbrev cX3_figures : ByteArray := prog_11_method_13_code
def yX3_figures : MethodName := ⟨RX3, "figures", "(III)I"⟩
def dkwX3_figures_5 : List UInt8 := [21, 4, 172]
abbrev dktX3_figures_5 : List UInt8 := dkwX3_figures_5 ++ []
def dkwX3_figures_4 : List UInt8 := [180, 0, 35, 100, 29, 163, 0, 13, 21, 4, 27, 28, 184, 0, 41, 154, 0, 8, 42, 182, 0, 69, 191]
abbrev dktX3_figures_4 : List UInt8 := dkwX3_figures_4 ++ dktX3_figures_5
def dkwX3_figures_3 : List UInt8 := [181, 0, 25, 167, 255, 191, 42, 180, 0, 25, 42, 180, 0, 35, 159, 0, 26, 42, 180, 0, 25, 42]
abbrev dktX3_figures_3 : List UInt8 := dkwX3_figures_3 ++ dktX3_figures_4
def dkwX3_figures_2 : List UInt8 := [180, 0, 25, 182, 0, 31, 96, 16, 48, 100, 167, 0, 5, 21, 4, 54, 4, 42, 89, 180, 0, 25, 4, 96]
abbrev dktX3_figures_2 : List UInt8 := dkwX3_figures_2 ++ dktX3_figures_3
def dkwX3_figures_1 : List UInt8 := [153, 0, 53, 42, 180, 0, 25, 42, 180, 0, 35, 100, 29, 162, 0, 23, 16, 10, 21, 4, 104, 42, 42]
abbrev dktX3_figures_1 : List UInt8 := dkwX3_figures_1 ++ dktX3_figures_2
def dkwX3_figures_0 : List UInt8 := [42, 182, 0, 38, 3, 54, 4, 42, 42, 180, 0, 25, 182, 0, 31, 16, 48, 16, 57, 184, 0, 41]
abbrev dktX3_figures_0 : List UInt8 := dkwX3_figures_0 ++ dktX3_figures_1
theorem dksX3_figures_0 : cX3_figures.data.toList.drop 0 = dktX3_figures_0 := by decide +kernel
theorem dksX3_figures_1 : cX3_figures.data.toList.drop 22 = dktX3_figures_1 := dk_seg dksX3_figures_0 22 rfl rfl
theorem dksX3_figures_2 : cX3_figures.data.toList.drop 45 = dktX3_figures_2 := dk_seg dksX3_figures_1 23 rfl rfl
theorem dksX3_figures_3 : cX3_figures.data.toList.drop 69 = dktX3_figures_3 := dk_seg dksX3_figures_2 24 rfl rfl
theorem dksX3_figures_4 : cX3_figures.data.toList.drop 91 = dktX3_figures_4 := dk_seg dksX3_figures_3 22 rfl rfl
theorem dksX3_figures_5 : cX3_figures.data.toList.drop 114 = dktX3_figures_5 := dk_seg dksX3_figures_4 23 rfl rfl
theorem dX3_figures_0 : decode cX3_figures 0 = .ok (.aload_n 0, 1) := dk_42 (dk_at dksX3_figures_0 0 rfl rfl)
theorem dX3_figures_1 : decode cX3_figures 1 = .ok (.invokevirtual 38, 3) := dk_182 0 38 (dk_at dksX3_figures_0 1 rfl rfl)
theorem dX3_figures_4 : decode cX3_figures 4 = .ok (.iconst 0, 1) := dk_3 (dk_at dksX3_figures_0 4 rfl rfl)
theorem dX3_figures_5 : decode cX3_figures 5 = .ok (.istore 4, 2) := dk_54 4 (dk_at dksX3_figures_0 5 rfl rfl)
theorem dX3_figures_7 : decode cX3_figures 7 = .ok (.aload_n 0, 1) := dk_42 (dk_at dksX3_figures_0 7 rfl rfl)
theorem dX3_figures_8 : decode cX3_figures 8 = .ok (.aload_n 0, 1) := dk_42 (dk_at dksX3_figures_0 8 rfl rfl)
theorem dX3_figures_9 : decode cX3_figures 9 = .ok (.getfield 25, 3) := dk_180 0 25 (dk_at dksX3_figures_0 9 rfl rfl)
theorem dX3_figures_12 : decode cX3_figures 12 = .ok (.invokevirtual 31, 3) := dk_182 0 31 (dk_at dksX3_figures_0 12 rfl rfl)
theorem dX3_figures_15 : decode cX3_figures 15 = .ok (.bipush 48, 2) := dk_16 48 (dk_at dksX3_figures_0 15 rfl rfl)
theorem dX3_figures_17 : decode cX3_figures 17 = .ok (.bipush 57, 2) := dk_16 57 (dk_at dksX3_figures_0 17 rfl rfl)
theorem dX3_figures_19 : decode cX3_figures 19 = .ok (.invokestatic 41, 3) := dk_184 0 41 (dk_at dksX3_figures_0 19 rfl rfl)
theorem dX3_figures_22 : decode cX3_figures 22 = .ok (.ifCond .eq 53, 3) := dk_153 0 53 (dk_at dksX3_figures_1 0 rfl rfl)
theorem dX3_figures_25 : decode cX3_figures 25 = .ok (.aload_n 0, 1) := dk_42 (dk_at dksX3_figures_1 3 rfl rfl)
theorem dX3_figures_26 : decode cX3_figures 26 = .ok (.getfield 25, 3) := dk_180 0 25 (dk_at dksX3_figures_1 4 rfl rfl)
theorem dX3_figures_29 : decode cX3_figures 29 = .ok (.aload_n 0, 1) := dk_42 (dk_at dksX3_figures_1 7 rfl rfl)
theorem dX3_figures_30 : decode cX3_figures 30 = .ok (.getfield 35, 3) := dk_180 0 35 (dk_at dksX3_figures_1 8 rfl rfl)
theorem dX3_figures_33 : decode cX3_figures 33 = .ok (.isub, 1) := dk_100 (dk_at dksX3_figures_1 11 rfl rfl)
theorem dX3_figures_34 : decode cX3_figures 34 = .ok (.iload_n 3, 1) := dk_29 (dk_at dksX3_figures_1 12 rfl rfl)
theorem dX3_figures_35 : decode cX3_figures 35 = .ok (.if_icmp .ge 23, 3) := dk_162 0 23 (dk_at dksX3_figures_1 13 rfl rfl)
theorem dX3_figures_38 : decode cX3_figures 38 = .ok (.bipush 10, 2) := dk_16 10 (dk_at dksX3_figures_1 16 rfl rfl)
theorem dX3_figures_40 : decode cX3_figures 40 = .ok (.iload 4, 2) := dk_21 4 (dk_at dksX3_figures_1 18 rfl rfl)
theorem dX3_figures_42 : decode cX3_figures 42 = .ok (.imul, 1) := dk_104 (dk_at dksX3_figures_1 20 rfl rfl)
theorem dX3_figures_43 : decode cX3_figures 43 = .ok (.aload_n 0, 1) := dk_42 (dk_at dksX3_figures_1 21 rfl rfl)
theorem dX3_figures_44 : decode cX3_figures 44 = .ok (.aload_n 0, 1) := dk_42 (dk_at dksX3_figures_1 22 rfl rfl)
theorem dX3_figures_45 : decode cX3_figures 45 = .ok (.getfield 25, 3) := dk_180 0 25 (dk_at dksX3_figures_2 0 rfl rfl)
theorem dX3_figures_48 : decode cX3_figures 48 = .ok (.invokevirtual 31, 3) := dk_182 0 31 (dk_at dksX3_figures_2 3 rfl rfl)
theorem dX3_figures_51 : decode cX3_figures 51 = .ok (.iadd, 1) := dk_96 (dk_at dksX3_figures_2 6 rfl rfl)
theorem dX3_figures_52 : decode cX3_figures 52 = .ok (.bipush 48, 2) := dk_16 48 (dk_at dksX3_figures_2 7 rfl rfl)
theorem dX3_figures_54 : decode cX3_figures 54 = .ok (.isub, 1) := dk_100 (dk_at dksX3_figures_2 9 rfl rfl)
theorem dX3_figures_55 : decode cX3_figures 55 = .ok (.goto 5, 3) := dk_167 0 5 (dk_at dksX3_figures_2 10 rfl rfl)
theorem dX3_figures_58 : decode cX3_figures 58 = .ok (.iload 4, 2) := dk_21 4 (dk_at dksX3_figures_2 13 rfl rfl)
theorem dX3_figures_60 : decode cX3_figures 60 = .ok (.istore 4, 2) := dk_54 4 (dk_at dksX3_figures_2 15 rfl rfl)
theorem dX3_figures_62 : decode cX3_figures 62 = .ok (.aload_n 0, 1) := dk_42 (dk_at dksX3_figures_2 17 rfl rfl)
theorem dX3_figures_63 : decode cX3_figures 63 = .ok (.dup, 1) := dk_89 (dk_at dksX3_figures_2 18 rfl rfl)
theorem dX3_figures_64 : decode cX3_figures 64 = .ok (.getfield 25, 3) := dk_180 0 25 (dk_at dksX3_figures_2 19 rfl rfl)
theorem dX3_figures_67 : decode cX3_figures 67 = .ok (.iconst 1, 1) := dk_4 (dk_at dksX3_figures_2 22 rfl rfl)
theorem dX3_figures_68 : decode cX3_figures 68 = .ok (.iadd, 1) := dk_96 (dk_at dksX3_figures_2 23 rfl rfl)
theorem dX3_figures_69 : decode cX3_figures 69 = .ok (.putfield 25, 3) := dk_181 0 25 (dk_at dksX3_figures_3 0 rfl rfl)
theorem dX3_figures_72 : decode cX3_figures 72 = .ok (.goto (-65), 3) := dk_167 255 191 (dk_at dksX3_figures_3 3 rfl rfl)
theorem dX3_figures_75 : decode cX3_figures 75 = .ok (.aload_n 0, 1) := dk_42 (dk_at dksX3_figures_3 6 rfl rfl)
theorem dX3_figures_76 : decode cX3_figures 76 = .ok (.getfield 25, 3) := dk_180 0 25 (dk_at dksX3_figures_3 7 rfl rfl)
theorem dX3_figures_79 : decode cX3_figures 79 = .ok (.aload_n 0, 1) := dk_42 (dk_at dksX3_figures_3 10 rfl rfl)
theorem dX3_figures_80 : decode cX3_figures 80 = .ok (.getfield 35, 3) := dk_180 0 35 (dk_at dksX3_figures_3 11 rfl rfl)
theorem dX3_figures_83 : decode cX3_figures 83 = .ok (.if_icmp .eq 26, 3) := dk_159 0 26 (dk_at dksX3_figures_3 14 rfl rfl)
theorem dX3_figures_86 : decode cX3_figures 86 = .ok (.aload_n 0, 1) := dk_42 (dk_at dksX3_figures_3 17 rfl rfl)
theorem dX3_figures_87 : decode cX3_figures 87 = .ok (.getfield 25, 3) := dk_180 0 25 (dk_at dksX3_figures_3 18 rfl rfl)
theorem dX3_figures_90 : decode cX3_figures 90 = .ok (.aload_n 0, 1) := dk_42 (dk_at dksX3_figures_3 21 rfl rfl)
theorem dX3_figures_91 : decode cX3_figures 91 = .ok (.getfield 35, 3) := dk_180 0 35 (dk_at dksX3_figures_4 0 rfl rfl)
theorem dX3_figures_94 : decode cX3_figures 94 = .ok (.isub, 1) := dk_100 (dk_at dksX3_figures_4 3 rfl rfl)
theorem dX3_figures_95 : decode cX3_figures 95 = .ok (.iload_n 3, 1) := dk_29 (dk_at dksX3_figures_4 4 rfl rfl)
theorem dX3_figures_96 : decode cX3_figures 96 = .ok (.if_icmp .gt 13, 3) := dk_163 0 13 (dk_at dksX3_figures_4 5 rfl rfl)
theorem dX3_figures_99 : decode cX3_figures 99 = .ok (.iload 4, 2) := dk_21 4 (dk_at dksX3_figures_4 8 rfl rfl)
theorem dX3_figures_101 : decode cX3_figures 101 = .ok (.iload_n 1, 1) := dk_27 (dk_at dksX3_figures_4 10 rfl rfl)
theorem dX3_figures_102 : decode cX3_figures 102 = .ok (.iload_n 2, 1) := dk_28 (dk_at dksX3_figures_4 11 rfl rfl)
theorem dX3_figures_103 : decode cX3_figures 103 = .ok (.invokestatic 41, 3) := dk_184 0 41 (dk_at dksX3_figures_4 12 rfl rfl)
theorem dX3_figures_106 : decode cX3_figures 106 = .ok (.ifCond .ne 8, 3) := dk_154 0 8 (dk_at dksX3_figures_4 15 rfl rfl)
theorem dX3_figures_109 : decode cX3_figures 109 = .ok (.aload_n 0, 1) := dk_42 (dk_at dksX3_figures_4 18 rfl rfl)
theorem dX3_figures_110 : decode cX3_figures 110 = .ok (.invokevirtual 69, 3) := dk_182 0 69 (dk_at dksX3_figures_4 19 rfl rfl)
theorem dX3_figures_113 : decode cX3_figures 113 = .ok (.athrow, 1) := dk_191 (dk_at dksX3_figures_4 22 rfl rfl)
theorem dX3_figures_114 : decode cX3_figures 114 = .ok (.iload 4, 2) := dk_21 4 (dk_at dksX3_figures_5 0 rfl rfl)
theorem dX3_figures_116 : decode cX3_figures 116 = .ok (.ireturn, 1) := dk_172 (dk_at dksX3_figures_5 2 rfl rfl)
abbrev cX3_sign : ByteArray := prog_11_method_10_code
def yX3_sign : MethodName := ⟨RX3, "sign", "(I)Z"⟩
def dkwX3_sign_1 : List UInt8 := [96, 181, 0, 25, 4, 172]
abbrev dktX3_sign_1 : List UInt8 := dkwX3_sign_1 ++ []
def dkwX3_sign_0 : List UInt8 := [42, 182, 0, 38, 42, 42, 180, 0, 25, 182, 0, 31, 27, 159, 0, 5, 3, 172, 42, 89, 180, 0, 25, 4]
abbrev dktX3_sign_0 : List UInt8 := dkwX3_sign_0 ++ dktX3_sign_1
theorem dksX3_sign_0 : cX3_sign.data.toList.drop 0 = dktX3_sign_0 := by decide +kernel
theorem dksX3_sign_1 : cX3_sign.data.toList.drop 24 = dktX3_sign_1 := dk_seg dksX3_sign_0 24 rfl rfl
theorem dX3_sign_0 : decode cX3_sign 0 = .ok (.aload_n 0, 1) := dk_42 (dk_at dksX3_sign_0 0 rfl rfl)
theorem dX3_sign_1 : decode cX3_sign 1 = .ok (.invokevirtual 38, 3) := dk_182 0 38 (dk_at dksX3_sign_0 1 rfl rfl)
theorem dX3_sign_4 : decode cX3_sign 4 = .ok (.aload_n 0, 1) := dk_42 (dk_at dksX3_sign_0 4 rfl rfl)
theorem dX3_sign_5 : decode cX3_sign 5 = .ok (.aload_n 0, 1) := dk_42 (dk_at dksX3_sign_0 5 rfl rfl)
theorem dX3_sign_6 : decode cX3_sign 6 = .ok (.getfield 25, 3) := dk_180 0 25 (dk_at dksX3_sign_0 6 rfl rfl)
theorem dX3_sign_9 : decode cX3_sign 9 = .ok (.invokevirtual 31, 3) := dk_182 0 31 (dk_at dksX3_sign_0 9 rfl rfl)
theorem dX3_sign_12 : decode cX3_sign 12 = .ok (.iload_n 1, 1) := dk_27 (dk_at dksX3_sign_0 12 rfl rfl)
theorem dX3_sign_13 : decode cX3_sign 13 = .ok (.if_icmp .eq 5, 3) := dk_159 0 5 (dk_at dksX3_sign_0 13 rfl rfl)
theorem dX3_sign_16 : decode cX3_sign 16 = .ok (.iconst 0, 1) := dk_3 (dk_at dksX3_sign_0 16 rfl rfl)
theorem dX3_sign_17 : decode cX3_sign 17 = .ok (.ireturn, 1) := dk_172 (dk_at dksX3_sign_0 17 rfl rfl)
theorem dX3_sign_18 : decode cX3_sign 18 = .ok (.aload_n 0, 1) := dk_42 (dk_at dksX3_sign_0 18 rfl rfl)
theorem dX3_sign_19 : decode cX3_sign 19 = .ok (.dup, 1) := dk_89 (dk_at dksX3_sign_0 19 rfl rfl)
theorem dX3_sign_20 : decode cX3_sign 20 = .ok (.getfield 25, 3) := dk_180 0 25 (dk_at dksX3_sign_0 20 rfl rfl)
theorem dX3_sign_23 : decode cX3_sign 23 = .ok (.iconst 1, 1) := dk_4 (dk_at dksX3_sign_0 23 rfl rfl)
theorem dX3_sign_24 : decode cX3_sign 24 = .ok (.iadd, 1) := dk_96 (dk_at dksX3_sign_1 0 rfl rfl)
theorem dX3_sign_25 : decode cX3_sign 25 = .ok (.putfield 25, 3) := dk_181 0 25 (dk_at dksX3_sign_1 1 rfl rfl)
theorem dX3_sign_28 : decode cX3_sign 28 = .ok (.iconst 1, 1) := dk_4 (dk_at dksX3_sign_1 4 rfl rfl)
theorem dX3_sign_29 : decode cX3_sign 29 = .ok (.ireturn, 1) := dk_172 (dk_at dksX3_sign_1 5 rfl rfl)
abbrev cX3_passes : ByteArray := prog_11_method_9_code
def yX3_passes : MethodName := ⟨RX3, "passes", "(Ljava/lang/String;)Z"⟩
def dkwX3_passes_0 : List UInt8 := [42, 182, 0, 56, 43, 182, 0, 59, 153, 0, 5, 4, 172, 42, 42, 180, 0, 35, 181, 0, 25, 3, 172]
abbrev dktX3_passes_0 : List UInt8 := dkwX3_passes_0 ++ []
theorem dksX3_passes_0 : cX3_passes.data.toList.drop 0 = dktX3_passes_0 := by decide +kernel
theorem dX3_passes_0 : decode cX3_passes 0 = .ok (.aload_n 0, 1) := dk_42 (dk_at dksX3_passes_0 0 rfl rfl)
theorem dX3_passes_1 : decode cX3_passes 1 = .ok (.invokevirtual 56, 3) := dk_182 0 56 (dk_at dksX3_passes_0 1 rfl rfl)
theorem dX3_passes_4 : decode cX3_passes 4 = .ok (.aload_n 1, 1) := dk_43 (dk_at dksX3_passes_0 4 rfl rfl)
theorem dX3_passes_5 : decode cX3_passes 5 = .ok (.invokevirtual 59, 3) := dk_182 0 59 (dk_at dksX3_passes_0 5 rfl rfl)
theorem dX3_passes_8 : decode cX3_passes 8 = .ok (.ifCond .eq 5, 3) := dk_153 0 5 (dk_at dksX3_passes_0 8 rfl rfl)
theorem dX3_passes_11 : decode cX3_passes 11 = .ok (.iconst 1, 1) := dk_4 (dk_at dksX3_passes_0 11 rfl rfl)
theorem dX3_passes_12 : decode cX3_passes 12 = .ok (.ireturn, 1) := dk_172 (dk_at dksX3_passes_0 12 rfl rfl)
theorem dX3_passes_13 : decode cX3_passes 13 = .ok (.aload_n 0, 1) := dk_42 (dk_at dksX3_passes_0 13 rfl rfl)
theorem dX3_passes_14 : decode cX3_passes 14 = .ok (.aload_n 0, 1) := dk_42 (dk_at dksX3_passes_0 14 rfl rfl)
theorem dX3_passes_15 : decode cX3_passes 15 = .ok (.getfield 35, 3) := dk_180 0 35 (dk_at dksX3_passes_0 15 rfl rfl)
theorem dX3_passes_18 : decode cX3_passes 18 = .ok (.putfield 25, 3) := dk_181 0 25 (dk_at dksX3_passes_0 18 rfl rfl)
theorem dX3_passes_21 : decode cX3_passes 21 = .ok (.iconst 0, 1) := dk_3 (dk_at dksX3_passes_0 21 rfl rfl)
theorem dX3_passes_22 : decode cX3_passes 22 = .ok (.ireturn, 1) := dk_172 (dk_at dksX3_passes_0 22 rfl rfl)
abbrev cX3_goesDeeper : ByteArray := prog_11_method_15_code
def yX3_goesDeeper : MethodName := ⟨RX3, "goesDeeper", "()V"⟩
def dkwX3_goesDeeper_1 : List UInt8 := [177]
abbrev dktX3_goesDeeper_1 : List UInt8 := dkwX3_goesDeeper_1 ++ []
def dkwX3_goesDeeper_0 : List UInt8 := [42, 180, 0, 28, 16, 6, 160, 0, 8, 42, 182, 0, 69, 191, 42, 89, 180, 0, 28, 4, 96, 181, 0, 28]
abbrev dktX3_goesDeeper_0 : List UInt8 := dkwX3_goesDeeper_0 ++ dktX3_goesDeeper_1
theorem dksX3_goesDeeper_0 : cX3_goesDeeper.data.toList.drop 0 = dktX3_goesDeeper_0 := by decide +kernel
theorem dksX3_goesDeeper_1 : cX3_goesDeeper.data.toList.drop 24 = dktX3_goesDeeper_1 := dk_seg dksX3_goesDeeper_0 24 rfl rfl
theorem dX3_goesDeeper_0 : decode cX3_goesDeeper 0 = .ok (.aload_n 0, 1) := dk_42 (dk_at dksX3_goesDeeper_0 0 rfl rfl)
theorem dX3_goesDeeper_1 : decode cX3_goesDeeper 1 = .ok (.getfield 28, 3) := dk_180 0 28 (dk_at dksX3_goesDeeper_0 1 rfl rfl)
theorem dX3_goesDeeper_4 : decode cX3_goesDeeper 4 = .ok (.bipush 6, 2) := dk_16 6 (dk_at dksX3_goesDeeper_0 4 rfl rfl)
theorem dX3_goesDeeper_6 : decode cX3_goesDeeper 6 = .ok (.if_icmp .ne 8, 3) := dk_160 0 8 (dk_at dksX3_goesDeeper_0 6 rfl rfl)
theorem dX3_goesDeeper_9 : decode cX3_goesDeeper 9 = .ok (.aload_n 0, 1) := dk_42 (dk_at dksX3_goesDeeper_0 9 rfl rfl)
theorem dX3_goesDeeper_10 : decode cX3_goesDeeper 10 = .ok (.invokevirtual 69, 3) := dk_182 0 69 (dk_at dksX3_goesDeeper_0 10 rfl rfl)
theorem dX3_goesDeeper_13 : decode cX3_goesDeeper 13 = .ok (.athrow, 1) := dk_191 (dk_at dksX3_goesDeeper_0 13 rfl rfl)
theorem dX3_goesDeeper_14 : decode cX3_goesDeeper 14 = .ok (.aload_n 0, 1) := dk_42 (dk_at dksX3_goesDeeper_0 14 rfl rfl)
theorem dX3_goesDeeper_15 : decode cX3_goesDeeper 15 = .ok (.dup, 1) := dk_89 (dk_at dksX3_goesDeeper_0 15 rfl rfl)
theorem dX3_goesDeeper_16 : decode cX3_goesDeeper 16 = .ok (.getfield 28, 3) := dk_180 0 28 (dk_at dksX3_goesDeeper_0 16 rfl rfl)
theorem dX3_goesDeeper_19 : decode cX3_goesDeeper 19 = .ok (.iconst 1, 1) := dk_4 (dk_at dksX3_goesDeeper_0 19 rfl rfl)
theorem dX3_goesDeeper_20 : decode cX3_goesDeeper 20 = .ok (.iadd, 1) := dk_96 (dk_at dksX3_goesDeeper_0 20 rfl rfl)
theorem dX3_goesDeeper_21 : decode cX3_goesDeeper 21 = .ok (.putfield 28, 3) := dk_181 0 28 (dk_at dksX3_goesDeeper_0 21 rfl rfl)
theorem dX3_goesDeeper_24 : decode cX3_goesDeeper 24 = .ok (.return_, 1) := dk_177 (dk_at dksX3_goesDeeper_1 0 rfl rfl)
abbrev cX3_comesUp : ByteArray := prog_11_method_16_code
def yX3_comesUp : MethodName := ⟨RX3, "comesUp", "()V"⟩
def dkwX3_comesUp_0 : List UInt8 := [42, 89, 180, 0, 28, 4, 100, 181, 0, 28, 177]
abbrev dktX3_comesUp_0 : List UInt8 := dkwX3_comesUp_0 ++ []
theorem dksX3_comesUp_0 : cX3_comesUp.data.toList.drop 0 = dktX3_comesUp_0 := by decide +kernel
theorem dX3_comesUp_0 : decode cX3_comesUp 0 = .ok (.aload_n 0, 1) := dk_42 (dk_at dksX3_comesUp_0 0 rfl rfl)
theorem dX3_comesUp_1 : decode cX3_comesUp 1 = .ok (.dup, 1) := dk_89 (dk_at dksX3_comesUp_0 1 rfl rfl)
theorem dX3_comesUp_2 : decode cX3_comesUp 2 = .ok (.getfield 28, 3) := dk_180 0 28 (dk_at dksX3_comesUp_0 2 rfl rfl)
theorem dX3_comesUp_5 : decode cX3_comesUp 5 = .ok (.iconst 1, 1) := dk_4 (dk_at dksX3_comesUp_0 5 rfl rfl)
theorem dX3_comesUp_6 : decode cX3_comesUp 6 = .ok (.isub, 1) := dk_100 (dk_at dksX3_comesUp_0 6 rfl rfl)
theorem dX3_comesUp_7 : decode cX3_comesUp 7 = .ok (.putfield 28, 3) := dk_181 0 28 (dk_at dksX3_comesUp_0 7 rfl rfl)
theorem dX3_comesUp_10 : decode cX3_comesUp 10 = .ok (.return_, 1) := dk_177 (dk_at dksX3_comesUp_0 10 rfl rfl)
abbrev cX3_isFigure : ByteArray := prog_11_method_11_code
def yX3_isFigure : MethodName := ⟨RX3, "isFigure", "()Z"⟩
def dkwX3_isFigure_0 : List UInt8 := [42, 182, 0, 38, 42, 42, 180, 0, 25, 182, 0, 31, 16, 48, 16, 57, 184, 0, 41, 172]
abbrev dktX3_isFigure_0 : List UInt8 := dkwX3_isFigure_0 ++ []
theorem dksX3_isFigure_0 : cX3_isFigure.data.toList.drop 0 = dktX3_isFigure_0 := by decide +kernel
theorem dX3_isFigure_0 : decode cX3_isFigure 0 = .ok (.aload_n 0, 1) := dk_42 (dk_at dksX3_isFigure_0 0 rfl rfl)
theorem dX3_isFigure_1 : decode cX3_isFigure 1 = .ok (.invokevirtual 38, 3) := dk_182 0 38 (dk_at dksX3_isFigure_0 1 rfl rfl)
theorem dX3_isFigure_4 : decode cX3_isFigure 4 = .ok (.aload_n 0, 1) := dk_42 (dk_at dksX3_isFigure_0 4 rfl rfl)
theorem dX3_isFigure_5 : decode cX3_isFigure 5 = .ok (.aload_n 0, 1) := dk_42 (dk_at dksX3_isFigure_0 5 rfl rfl)
theorem dX3_isFigure_6 : decode cX3_isFigure 6 = .ok (.getfield 25, 3) := dk_180 0 25 (dk_at dksX3_isFigure_0 6 rfl rfl)
theorem dX3_isFigure_9 : decode cX3_isFigure 9 = .ok (.invokevirtual 31, 3) := dk_182 0 31 (dk_at dksX3_isFigure_0 9 rfl rfl)
theorem dX3_isFigure_12 : decode cX3_isFigure 12 = .ok (.bipush 48, 2) := dk_16 48 (dk_at dksX3_isFigure_0 12 rfl rfl)
theorem dX3_isFigure_14 : decode cX3_isFigure 14 = .ok (.bipush 57, 2) := dk_16 57 (dk_at dksX3_isFigure_0 14 rfl rfl)
theorem dX3_isFigure_16 : decode cX3_isFigure 16 = .ok (.invokestatic 41, 3) := dk_184 0 41 (dk_at dksX3_isFigure_0 16 rfl rfl)
theorem dX3_isFigure_19 : decode cX3_isFigure 19 = .ok (.ireturn, 1) := dk_172 (dk_at dksX3_isFigure_0 19 rfl rfl)
theorem q119 : (Jvm.Cond.initialized "CheekTown$Reader") ∈ lw_all := lw_g (lw_at lw_m1 3 rfl) rfl
theorem q313 : (Jvm.Cond.instantiable "CheekTown$Reader" (7 : Nat)) ∈ lw_all := lw_g (lw_at lw_m1 197 rfl) rfl
theorem q315 : (Jvm.Cond.instanceMethod ({ cls := "CheekTown$Reader", name := "<init>", desc := "()V" } : Jvm.MethodName)) ∈ lw_all := lw_g (lw_at lw_m1 199 rfl) rfl
theorem q316 : (Jvm.Cond.code ({ cls := "CheekTown$Reader", name := "<init>", desc := "()V" } : Jvm.MethodName) prog_11_method_1_code (1 : Nat) (Option.none : Option Jvm.ClassFile.FieldType)) ∈ lw_all := lw_g (lw_at lw_m1 200 rfl) rfl
theorem q317 : (Jvm.Cond.methodLink "CheekTown$Reader" (3 : Nat) ({ cls := "java/lang/Object", name := "<init>", desc := "()V" } : Jvm.MethodName)) ∈ lw_all := lw_g (lw_at lw_m1 201 rfl) rfl
theorem q318 : (Jvm.Cond.fieldLink "CheekTown$Reader" (9 : Nat) "CheekTown$Reader" "tape" "[B") ∈ lw_all := lw_g (lw_at lw_m1 202 rfl) rfl
theorem q320 : (Jvm.Cond.fieldLink "CheekTown$Reader" (19 : Nat) "CheekTown$Reader" "length" "I") ∈ lw_all := lw_g (lw_at lw_m1 204 rfl) rfl
theorem q321 : (Jvm.Cond.fieldLink "CheekTown$Reader" (22 : Nat) "CheekTown$Reader" "end" "I") ∈ lw_all := lw_g (lw_at lw_m1 205 rfl) rfl
theorem q323 : (Jvm.Cond.fieldLink "CheekTown$Reader" (25 : Nat) "CheekTown$Reader" "at" "I") ∈ lw_all := lw_g (lw_at lw_m1 207 rfl) rfl
theorem q324 : (Jvm.Cond.fieldLink "CheekTown$Reader" (35 : Nat) "CheekTown$Reader" "begin" "I") ∈ lw_all := lw_g (lw_at lw_m1 208 rfl) rfl
theorem q326 : (Jvm.Cond.fieldLink "CheekTown$Reader" (15 : Nat) "CheekTown$Reader" "fault" "I") ∈ lw_all := lw_g (lw_at lw_m1 210 rfl) rfl
theorem q328 : (Jvm.Cond.fieldLink "CheekTown$Reader" (28 : Nat) "CheekTown$Reader" "deep" "I") ∈ lw_all := lw_g (lw_at lw_m1 212 rfl) rfl
theorem q329 : (Jvm.Cond.laysFinal "CheekTown$Reader" "CheekTown$Reader" "tape" "[B") ∈ lw_all := lw_g (lw_at lw_m1 213 rfl) rfl
theorem q330 : (Jvm.Cond.soleField "CheekTown$Reader" "tape") ∈ lw_all := lw_g (lw_at lw_m1 214 rfl) rfl
theorem q331 : (Jvm.Cond.lays "CheekTown$Reader" "CheekTown$Reader" "length" "I") ∈ lw_all := lw_g (lw_at lw_m1 215 rfl) rfl
theorem q332 : (Jvm.Cond.soleField "CheekTown$Reader" "length") ∈ lw_all := lw_g (lw_at lw_m1 216 rfl) rfl
theorem q333 : (Jvm.Cond.lays "CheekTown$Reader" "CheekTown$Reader" "end" "I") ∈ lw_all := lw_g (lw_at lw_m1 217 rfl) rfl
theorem q334 : (Jvm.Cond.soleField "CheekTown$Reader" "end") ∈ lw_all := lw_g (lw_at lw_m1 218 rfl) rfl
theorem q335 : (Jvm.Cond.lays "CheekTown$Reader" "CheekTown$Reader" "at" "I") ∈ lw_all := lw_g (lw_at lw_m1 219 rfl) rfl
theorem q336 : (Jvm.Cond.soleField "CheekTown$Reader" "at") ∈ lw_all := lw_g (lw_at lw_m1 220 rfl) rfl
theorem q337 : (Jvm.Cond.lays "CheekTown$Reader" "CheekTown$Reader" "begin" "I") ∈ lw_all := lw_g (lw_at lw_m1 221 rfl) rfl
theorem q338 : (Jvm.Cond.soleField "CheekTown$Reader" "begin") ∈ lw_all := lw_g (lw_at lw_m1 222 rfl) rfl
theorem q339 : (Jvm.Cond.lays "CheekTown$Reader" "CheekTown$Reader" "fault" "I") ∈ lw_all := lw_g (lw_at lw_m1 223 rfl) rfl
theorem q340 : (Jvm.Cond.soleField "CheekTown$Reader" "fault") ∈ lw_all := lw_g (lw_at lw_m1 224 rfl) rfl
theorem q341 : (Jvm.Cond.lays "CheekTown$Reader" "CheekTown$Reader" "deep" "I") ∈ lw_all := lw_g (lw_at lw_m1 225 rfl) rfl
theorem q342 : (Jvm.Cond.soleField "CheekTown$Reader" "deep") ∈ lw_all := lw_g (lw_at lw_m1 226 rfl) rfl
theorem q343 : (Jvm.Cond.superclass "CheekTown$Reader" "java/lang/Object") ∈ lw_all := lw_g (lw_at lw_m1 227 rfl) rfl
theorem q513 : (Jvm.Cond.instanceMethod ({ cls := "CheekTown$Reader", name := "add", desc := "([I)I" } : Jvm.MethodName)) ∈ lw_all := lw_g (lw_at lw_m2 157 rfl) rfl
theorem q514 : (Jvm.Cond.selects "CheekTown$Reader" ({ cls := "CheekTown$Reader", name := "add", desc := "([I)I" } : Jvm.MethodName) ({ cls := "CheekTown$Reader", name := "add", desc := "([I)I" } : Jvm.MethodName)) ∈ lw_all := lw_g (lw_at lw_m2 158 rfl) rfl
theorem q515 : (Jvm.Cond.code ({ cls := "CheekTown$Reader", name := "add", desc := "([I)I" } : Jvm.MethodName) prog_11_method_2_code (7 : Nat) (Option.some Jvm.ClassFile.FieldType.int)) ∈ lw_all := lw_g (lw_at lw_m2 159 rfl) rfl
theorem q521 : (Jvm.Cond.instanceMethod ({ cls := "CheekTown$Reader", name := "cut", desc := "(I)Z" } : Jvm.MethodName)) ∈ lw_all := lw_g (lw_at lw_m2 165 rfl) rfl
theorem q522 : (Jvm.Cond.selects "CheekTown$Reader" ({ cls := "CheekTown$Reader", name := "cut", desc := "(I)Z" } : Jvm.MethodName) ({ cls := "CheekTown$Reader", name := "cut", desc := "(I)Z" } : Jvm.MethodName)) ∈ lw_all := lw_g (lw_at lw_m2 166 rfl) rfl
theorem q523 : (Jvm.Cond.code ({ cls := "CheekTown$Reader", name := "cut", desc := "(I)Z" } : Jvm.MethodName) prog_11_method_3_code (2 : Nat) (Option.some Jvm.ClassFile.FieldType.boolean)) ∈ lw_all := lw_g (lw_at lw_m2 167 rfl) rfl
theorem q1121 : (Jvm.Cond.instanceMethod ({ cls := "CheekTown$Reader", name := "begins", desc := "()V" } : Jvm.MethodName)) ∈ lw_all := lw_g (lw_at lw_m5 45 rfl) rfl
theorem q1122 : (Jvm.Cond.selects "CheekTown$Reader" ({ cls := "CheekTown$Reader", name := "begins", desc := "()V" } : Jvm.MethodName) ({ cls := "CheekTown$Reader", name := "begins", desc := "()V" } : Jvm.MethodName)) ∈ lw_all := lw_g (lw_at lw_m5 46 rfl) rfl
theorem q1123 : (Jvm.Cond.code ({ cls := "CheekTown$Reader", name := "begins", desc := "()V" } : Jvm.MethodName) prog_11_method_4_code (1 : Nat) (Option.none : Option Jvm.ClassFile.FieldType)) ∈ lw_all := lw_g (lw_at lw_m5 47 rfl) rfl
theorem q1129 : (Jvm.Cond.instanceMethod ({ cls := "CheekTown$Reader", name := "isOver", desc := "()Z" } : Jvm.MethodName)) ∈ lw_all := lw_g (lw_at lw_m5 53 rfl) rfl
theorem q1130 : (Jvm.Cond.selects "CheekTown$Reader" ({ cls := "CheekTown$Reader", name := "isOver", desc := "()Z" } : Jvm.MethodName) ({ cls := "CheekTown$Reader", name := "isOver", desc := "()Z" } : Jvm.MethodName)) ∈ lw_all := lw_g (lw_at lw_m5 54 rfl) rfl
theorem q1131 : (Jvm.Cond.code ({ cls := "CheekTown$Reader", name := "isOver", desc := "()Z" } : Jvm.MethodName) prog_11_method_7_code (1 : Nat) (Option.some Jvm.ClassFile.FieldType.boolean)) ∈ lw_all := lw_g (lw_at lw_m5 55 rfl) rfl
theorem q1132 : (Jvm.Cond.methodLink "CheekTown$Reader" (38 : Nat) ({ cls := "CheekTown$Reader", name := "blanks", desc := "()V" } : Jvm.MethodName)) ∈ lw_all := lw_g (lw_at lw_m5 56 rfl) rfl
theorem q1133 : (Jvm.Cond.instanceMethod ({ cls := "CheekTown$Reader", name := "blanks", desc := "()V" } : Jvm.MethodName)) ∈ lw_all := lw_g (lw_at lw_m5 57 rfl) rfl
theorem q1134 : (Jvm.Cond.selects "CheekTown$Reader" ({ cls := "CheekTown$Reader", name := "blanks", desc := "()V" } : Jvm.MethodName) ({ cls := "CheekTown$Reader", name := "blanks", desc := "()V" } : Jvm.MethodName)) ∈ lw_all := lw_g (lw_at lw_m5 58 rfl) rfl
theorem q1135 : (Jvm.Cond.code ({ cls := "CheekTown$Reader", name := "blanks", desc := "()V" } : Jvm.MethodName) prog_11_method_6_code (1 : Nat) (Option.none : Option Jvm.ClassFile.FieldType)) ∈ lw_all := lw_g (lw_at lw_m5 59 rfl) rfl
theorem q1136 : (Jvm.Cond.methodLink "CheekTown$Reader" (31 : Nat) ({ cls := "CheekTown$Reader", name := "byteAt", desc := "(I)I" } : Jvm.MethodName)) ∈ lw_all := lw_g (lw_at lw_m5 60 rfl) rfl
theorem q1137 : (Jvm.Cond.privateMethod ({ cls := "CheekTown$Reader", name := "byteAt", desc := "(I)I" } : Jvm.MethodName)) ∈ lw_tbl := lw_at lw_m5 61 rfl
theorem q1138 : (Jvm.Cond.instanceMethod ({ cls := "CheekTown$Reader", name := "byteAt", desc := "(I)I" } : Jvm.MethodName)) ∈ lw_all := lw_g (lw_at lw_m5 62 rfl) rfl
theorem q1139 : (Jvm.Cond.code ({ cls := "CheekTown$Reader", name := "byteAt", desc := "(I)I" } : Jvm.MethodName) prog_11_method_5_code (2 : Nat) (Option.some Jvm.ClassFile.FieldType.int)) ∈ lw_all := lw_g (lw_at lw_m5 63 rfl) rfl
theorem q1145 : (Jvm.Cond.instanceMethod ({ cls := "CheekTown$Reader", name := "word", desc := "()Ljava/lang/String;" } : Jvm.MethodName)) ∈ lw_all := lw_g (lw_at lw_m5 69 rfl) rfl
theorem q1146 : (Jvm.Cond.selects "CheekTown$Reader" ({ cls := "CheekTown$Reader", name := "word", desc := "()Ljava/lang/String;" } : Jvm.MethodName) ({ cls := "CheekTown$Reader", name := "word", desc := "()Ljava/lang/String;" } : Jvm.MethodName)) ∈ lw_all := lw_g (lw_at lw_m5 70 rfl) rfl
theorem q1147 : (Jvm.Cond.code ({ cls := "CheekTown$Reader", name := "word", desc := "()Ljava/lang/String;" } : Jvm.MethodName) prog_11_method_8_code (3 : Nat) (Option.some (Jvm.ClassFile.FieldType.object "java/lang/String"))) ∈ lw_all := lw_g (lw_at lw_m5 71 rfl) rfl
theorem q1148 : (Jvm.Cond.methodLinkNest "CheekTown$Reader" (41 : Nat) ({ cls := "CheekTown", name := "in", desc := "(III)Z" } : Jvm.MethodName) "CheekTown") ∈ lw_tbl := lw_at lw_m5 72 rfl
theorem q1149 : (Jvm.Cond.classLink "CheekTown$Reader" (45 : Nat) "java/lang/StringBuilder") ∈ lw_all := lw_g (lw_at lw_m5 73 rfl) rfl
theorem q1150 : (Jvm.Cond.methodLink "CheekTown$Reader" (47 : Nat) ({ cls := "java/lang/StringBuilder", name := "<init>", desc := "()V" } : Jvm.MethodName)) ∈ lw_all := lw_g (lw_at lw_m5 74 rfl) rfl
theorem q1151 : (Jvm.Cond.methodLink "CheekTown$Reader" (48 : Nat) ({ cls := "java/lang/StringBuilder", name := "append", desc := "(C)Ljava/lang/StringBuilder;" } : Jvm.MethodName)) ∈ lw_all := lw_g (lw_at lw_m5 75 rfl) rfl
theorem q1171 : (Jvm.Cond.methodLink "CheekTown$Reader" (52 : Nat) ({ cls := "java/lang/StringBuilder", name := "toString", desc := "()Ljava/lang/String;" } : Jvm.MethodName)) ∈ lw_all := lw_g (lw_at lw_m5 95 rfl) rfl
theorem q1173 : (Jvm.Cond.instanceMethod ({ cls := "CheekTown$Reader", name := "wrong", desc := "()LCheekTown$Wrong;" } : Jvm.MethodName)) ∈ lw_all := lw_g (lw_at lw_m5 97 rfl) rfl
theorem q1174 : (Jvm.Cond.selects "CheekTown$Reader" ({ cls := "CheekTown$Reader", name := "wrong", desc := "()LCheekTown$Wrong;" } : Jvm.MethodName) ({ cls := "CheekTown$Reader", name := "wrong", desc := "()LCheekTown$Wrong;" } : Jvm.MethodName)) ∈ lw_all := lw_g (lw_at lw_m5 98 rfl) rfl
theorem q1175 : (Jvm.Cond.code ({ cls := "CheekTown$Reader", name := "wrong", desc := "()LCheekTown$Wrong;" } : Jvm.MethodName) prog_11_method_14_code (1 : Nat) (Option.some (Jvm.ClassFile.FieldType.object "CheekTown$Wrong"))) ∈ lw_all := lw_g (lw_at lw_m5 99 rfl) rfl
theorem q1176 : (Jvm.Cond.classLink "CheekTown$Reader" (73 : Nat) "CheekTown$Wrong") ∈ lw_all := lw_g (lw_at lw_m5 100 rfl) rfl
theorem q1185 : (Jvm.Cond.methodLink "CheekTown$Reader" (75 : Nat) ({ cls := "CheekTown$Wrong", name := "<init>", desc := "()V" } : Jvm.MethodName)) ∈ lw_all := lw_g (lw_at lw_m5 109 rfl) rfl
theorem q1282 : (Jvm.Cond.instanceMethod ({ cls := "CheekTown$Reader", name := "number", desc := "(II)I" } : Jvm.MethodName)) ∈ lw_all := lw_g (lw_at lw_m5 206 rfl) rfl
theorem q1283 : (Jvm.Cond.selects "CheekTown$Reader" ({ cls := "CheekTown$Reader", name := "number", desc := "(II)I" } : Jvm.MethodName) ({ cls := "CheekTown$Reader", name := "number", desc := "(II)I" } : Jvm.MethodName)) ∈ lw_all := lw_g (lw_at lw_m5 207 rfl) rfl
theorem q1284 : (Jvm.Cond.code ({ cls := "CheekTown$Reader", name := "number", desc := "(II)I" } : Jvm.MethodName) prog_11_method_12_code (3 : Nat) (Option.some Jvm.ClassFile.FieldType.int)) ∈ lw_all := lw_g (lw_at lw_m5 208 rfl) rfl
theorem q1285 : (Jvm.Cond.methodLink "CheekTown$Reader" (65 : Nat) ({ cls := "CheekTown$Reader", name := "figures", desc := "(III)I" } : Jvm.MethodName)) ∈ lw_all := lw_g (lw_at lw_m5 209 rfl) rfl
theorem q1286 : (Jvm.Cond.instanceMethod ({ cls := "CheekTown$Reader", name := "figures", desc := "(III)I" } : Jvm.MethodName)) ∈ lw_all := lw_g (lw_at lw_m5 210 rfl) rfl
theorem q1287 : (Jvm.Cond.selects "CheekTown$Reader" ({ cls := "CheekTown$Reader", name := "figures", desc := "(III)I" } : Jvm.MethodName) ({ cls := "CheekTown$Reader", name := "figures", desc := "(III)I" } : Jvm.MethodName)) ∈ lw_all := lw_g (lw_at lw_m5 211 rfl) rfl
theorem q1288 : (Jvm.Cond.code ({ cls := "CheekTown$Reader", name := "figures", desc := "(III)I" } : Jvm.MethodName) prog_11_method_13_code (5 : Nat) (Option.some Jvm.ClassFile.FieldType.int)) ∈ lw_all := lw_g (lw_at lw_m5 212 rfl) rfl
theorem q1289 : (Jvm.Cond.methodLink "CheekTown$Reader" (69 : Nat) ({ cls := "CheekTown$Reader", name := "wrong", desc := "()LCheekTown$Wrong;" } : Jvm.MethodName)) ∈ lw_all := lw_g (lw_at lw_m5 213 rfl) rfl
theorem q1350 : (Jvm.Cond.instanceMethod ({ cls := "CheekTown$Reader", name := "sign", desc := "(I)Z" } : Jvm.MethodName)) ∈ lw_all := lw_g (lw_at lw_m6 34 rfl) rfl
theorem q1351 : (Jvm.Cond.selects "CheekTown$Reader" ({ cls := "CheekTown$Reader", name := "sign", desc := "(I)Z" } : Jvm.MethodName) ({ cls := "CheekTown$Reader", name := "sign", desc := "(I)Z" } : Jvm.MethodName)) ∈ lw_all := lw_g (lw_at lw_m6 35 rfl) rfl
theorem q1352 : (Jvm.Cond.code ({ cls := "CheekTown$Reader", name := "sign", desc := "(I)Z" } : Jvm.MethodName) prog_11_method_10_code (2 : Nat) (Option.some Jvm.ClassFile.FieldType.boolean)) ∈ lw_all := lw_g (lw_at lw_m6 36 rfl) rfl
theorem q1415 : (Jvm.Cond.instanceMethod ({ cls := "CheekTown$Reader", name := "passes", desc := "(Ljava/lang/String;)Z" } : Jvm.MethodName)) ∈ lw_all := lw_g (lw_at lw_m6 99 rfl) rfl
theorem q1416 : (Jvm.Cond.selects "CheekTown$Reader" ({ cls := "CheekTown$Reader", name := "passes", desc := "(Ljava/lang/String;)Z" } : Jvm.MethodName) ({ cls := "CheekTown$Reader", name := "passes", desc := "(Ljava/lang/String;)Z" } : Jvm.MethodName)) ∈ lw_all := lw_g (lw_at lw_m6 100 rfl) rfl
theorem q1417 : (Jvm.Cond.code ({ cls := "CheekTown$Reader", name := "passes", desc := "(Ljava/lang/String;)Z" } : Jvm.MethodName) prog_11_method_9_code (2 : Nat) (Option.some Jvm.ClassFile.FieldType.boolean)) ∈ lw_all := lw_g (lw_at lw_m6 101 rfl) rfl
theorem q1418 : (Jvm.Cond.methodLink "CheekTown$Reader" (56 : Nat) ({ cls := "CheekTown$Reader", name := "word", desc := "()Ljava/lang/String;" } : Jvm.MethodName)) ∈ lw_all := lw_g (lw_at lw_m6 102 rfl) rfl
theorem q1419 : (Jvm.Cond.methodLink "CheekTown$Reader" (59 : Nat) ({ cls := "java/lang/String", name := "equals", desc := "(Ljava/lang/Object;)Z" } : Jvm.MethodName)) ∈ lw_all := lw_g (lw_at lw_m6 103 rfl) rfl
theorem q1449 : (Jvm.Cond.instanceMethod ({ cls := "CheekTown$Reader", name := "goesDeeper", desc := "()V" } : Jvm.MethodName)) ∈ lw_all := lw_g (lw_at lw_m6 133 rfl) rfl
theorem q1450 : (Jvm.Cond.selects "CheekTown$Reader" ({ cls := "CheekTown$Reader", name := "goesDeeper", desc := "()V" } : Jvm.MethodName) ({ cls := "CheekTown$Reader", name := "goesDeeper", desc := "()V" } : Jvm.MethodName)) ∈ lw_all := lw_g (lw_at lw_m6 134 rfl) rfl
theorem q1451 : (Jvm.Cond.code ({ cls := "CheekTown$Reader", name := "goesDeeper", desc := "()V" } : Jvm.MethodName) prog_11_method_15_code (1 : Nat) (Option.none : Option Jvm.ClassFile.FieldType)) ∈ lw_all := lw_g (lw_at lw_m6 135 rfl) rfl
theorem q1453 : (Jvm.Cond.instanceMethod ({ cls := "CheekTown$Reader", name := "comesUp", desc := "()V" } : Jvm.MethodName)) ∈ lw_all := lw_g (lw_at lw_m6 137 rfl) rfl
theorem q1454 : (Jvm.Cond.selects "CheekTown$Reader" ({ cls := "CheekTown$Reader", name := "comesUp", desc := "()V" } : Jvm.MethodName) ({ cls := "CheekTown$Reader", name := "comesUp", desc := "()V" } : Jvm.MethodName)) ∈ lw_all := lw_g (lw_at lw_m6 138 rfl) rfl
theorem q1455 : (Jvm.Cond.code ({ cls := "CheekTown$Reader", name := "comesUp", desc := "()V" } : Jvm.MethodName) prog_11_method_16_code (1 : Nat) (Option.none : Option Jvm.ClassFile.FieldType)) ∈ lw_all := lw_g (lw_at lw_m6 139 rfl) rfl
theorem q1500 : (Jvm.Cond.instanceMethod ({ cls := "CheekTown$Reader", name := "isFigure", desc := "()Z" } : Jvm.MethodName)) ∈ lw_all := lw_g (lw_at lw_m6 184 rfl) rfl
theorem q1501 : (Jvm.Cond.selects "CheekTown$Reader" ({ cls := "CheekTown$Reader", name := "isFigure", desc := "()Z" } : Jvm.MethodName) ({ cls := "CheekTown$Reader", name := "isFigure", desc := "()Z" } : Jvm.MethodName)) ∈ lw_all := lw_g (lw_at lw_m6 185 rfl) rfl
theorem q1502 : (Jvm.Cond.code ({ cls := "CheekTown$Reader", name := "isFigure", desc := "()Z" } : Jvm.MethodName) prog_11_method_11_code (1 : Nat) (Option.some Jvm.ClassFile.FieldType.boolean)) ∈ lw_all := lw_g (lw_at lw_m6 186 rfl) rfl
theorem q1563 : (Jvm.Cond.selects "CheekTown$Reader" ({ cls := "java/lang/Object", name := "getClass", desc := "()Ljava/lang/Class;" } : Jvm.MethodName) ({ cls := "java/lang/Object", name := "getClass", desc := "()Ljava/lang/Class;" } : Jvm.MethodName)) ∈ lw_all := lw_g (lw_at lw_m7 7 rfl) rfl
theorem q2742 : (Jvm.Cond.castable "CheekTown$Reader" "java/lang/Object") ∈ lw_tbl := lw_at lw_m11 226 rfl
theorem in_X3 : ∀ w ∈ wsX30, w ∈ lw_all := lw_in wsX30 [329, 331, 333, 335, 337, 339, 341] (by decide +kernel) (by decide +kernel)

/-! CheekTown$Scene -/
set_option maxRecDepth 100000
def RX4 : String := "CheekTown$Scene"
def TX4 : u_T := fun k => match k with
  | 0 => ("CheekTown$Scene", "who", "I", false)
  | 1 => ("CheekTown$Scene", "whom", "I", false)
  | 2 => ("CheekTown$Scene", "rank", "I", false)
  | 3 => ("CheekTown$Scene", "theirs", "I", false)
  | 4 => ("CheekTown$Scene", "met", "I", false)
  | 5 => ("CheekTown$Scene", "round", "I", false)
  | 6 => ("CheekTown$Scene", "same", "Z", false)
  | _ => ("CheekTown$Scene", "cold", "Z", false)
def tyX4 : Nat → FieldType := fun k => match k with
  | 0 => .int
  | 1 => .int
  | 2 => .int
  | 3 => .int
  | 4 => .int
  | 5 => .int
  | 6 => .boolean
  | _ => .boolean
abbrev wsX40 : List Cond := u_ws RX4 TX4 8
theorem nmX4 : ∀ a, a < 8 → ∀ b, b < 8 → a ≠ b → (TX4 a).2.1 ≠ (TX4 b).2.1 := by decide +kernel
theorem tyX4_ok : ∀ k, k < 8 → parseFieldDescriptor (TX4 k).2.2.1 = some (tyX4 k) := by decide +kernel
abbrev cX4_init : ByteArray := prog_15_method_1_code
def yX4_init : MethodName := ⟨RX4, "<init>", "()V"⟩
theorem dX4_init_0 : decode cX4_init 0 = .ok (.aload_n 0, 1) := by decide +kernel
theorem dX4_init_1 : decode cX4_init 1 = .ok (.invokespecial 1, 3) := by decide +kernel
theorem dX4_init_4 : decode cX4_init 4 = .ok (.return_, 1) := by decide +kernel
abbrev cX4_of : ByteArray := prog_15_method_2_code
def yX4_of : MethodName := ⟨RX4, "of", "(LCheekTown$Fact;)I"⟩
def dkwX4_of_3 : List UInt8 := [172, 42, 180, 0, 31, 172]
abbrev dktX4_of_3 : List UInt8 := dkwX4_of_3 ++ []
def dkwX4_of_2 : List UInt8 := [42, 180, 0, 13, 172, 42, 180, 0, 19, 172, 42, 180, 0, 22, 172, 42, 180, 0, 25, 172, 42, 180, 0, 28]
abbrev dktX4_of_2 : List UInt8 := dkwX4_of_2 ++ dktX4_of_3
def dkwX4_of_1 : List UInt8 := [170, 0, 0, 0, 0, 0, 0, 61, 0, 0, 0, 0, 0, 0, 0, 4, 0, 0, 0, 36, 0, 0, 0, 41, 0, 0, 0, 46, 0, 0, 0, 51, 0, 0, 0, 56]
abbrev dktX4_of_1 : List UInt8 := dkwX4_of_1 ++ dktX4_of_2
def dkwX4_of_0 : List UInt8 := [43, 182, 0, 7]
abbrev dktX4_of_0 : List UInt8 := dkwX4_of_0 ++ dktX4_of_1
theorem dksX4_of_0 : cX4_of.data.toList.drop 0 = dktX4_of_0 := by decide +kernel
theorem dksX4_of_1 : cX4_of.data.toList.drop 4 = dktX4_of_1 := dk_seg dksX4_of_0 4 rfl rfl
theorem dksX4_of_2 : cX4_of.data.toList.drop 40 = dktX4_of_2 := dk_seg dksX4_of_1 36 rfl rfl
theorem dksX4_of_3 : cX4_of.data.toList.drop 64 = dktX4_of_3 := dk_seg dksX4_of_2 24 rfl rfl
theorem dX4_of_0 : decode cX4_of 0 = .ok (.aload_n 1, 1) := dk_43 (dk_at dksX4_of_0 0 rfl rfl)
theorem dX4_of_1 : decode cX4_of 1 = .ok (.invokevirtual 7, 3) := dk_182 0 7 (dk_at dksX4_of_0 1 rfl rfl)
theorem dX4_of_4 : decode cX4_of 4 = .ok (.tableswitch 61 0 4 #[36, 41, 46, 51, 56], 36) := by decide +kernel
theorem dX4_of_40 : decode cX4_of 40 = .ok (.aload_n 0, 1) := dk_42 (dk_at dksX4_of_2 0 rfl rfl)
theorem dX4_of_41 : decode cX4_of 41 = .ok (.getfield 13, 3) := dk_180 0 13 (dk_at dksX4_of_2 1 rfl rfl)
theorem dX4_of_44 : decode cX4_of 44 = .ok (.ireturn, 1) := dk_172 (dk_at dksX4_of_2 4 rfl rfl)
theorem dX4_of_45 : decode cX4_of 45 = .ok (.aload_n 0, 1) := dk_42 (dk_at dksX4_of_2 5 rfl rfl)
theorem dX4_of_46 : decode cX4_of 46 = .ok (.getfield 19, 3) := dk_180 0 19 (dk_at dksX4_of_2 6 rfl rfl)
theorem dX4_of_49 : decode cX4_of 49 = .ok (.ireturn, 1) := dk_172 (dk_at dksX4_of_2 9 rfl rfl)
theorem dX4_of_50 : decode cX4_of 50 = .ok (.aload_n 0, 1) := dk_42 (dk_at dksX4_of_2 10 rfl rfl)
theorem dX4_of_51 : decode cX4_of 51 = .ok (.getfield 22, 3) := dk_180 0 22 (dk_at dksX4_of_2 11 rfl rfl)
theorem dX4_of_54 : decode cX4_of 54 = .ok (.ireturn, 1) := dk_172 (dk_at dksX4_of_2 14 rfl rfl)
theorem dX4_of_55 : decode cX4_of 55 = .ok (.aload_n 0, 1) := dk_42 (dk_at dksX4_of_2 15 rfl rfl)
theorem dX4_of_56 : decode cX4_of 56 = .ok (.getfield 25, 3) := dk_180 0 25 (dk_at dksX4_of_2 16 rfl rfl)
theorem dX4_of_59 : decode cX4_of 59 = .ok (.ireturn, 1) := dk_172 (dk_at dksX4_of_2 19 rfl rfl)
theorem dX4_of_60 : decode cX4_of 60 = .ok (.aload_n 0, 1) := dk_42 (dk_at dksX4_of_2 20 rfl rfl)
theorem dX4_of_61 : decode cX4_of 61 = .ok (.getfield 28, 3) := dk_180 0 28 (dk_at dksX4_of_2 21 rfl rfl)
theorem dX4_of_64 : decode cX4_of 64 = .ok (.ireturn, 1) := dk_172 (dk_at dksX4_of_3 0 rfl rfl)
theorem dX4_of_65 : decode cX4_of 65 = .ok (.aload_n 0, 1) := dk_42 (dk_at dksX4_of_3 1 rfl rfl)
theorem dX4_of_66 : decode cX4_of 66 = .ok (.getfield 31, 3) := dk_180 0 31 (dk_at dksX4_of_3 2 rfl rfl)
theorem dX4_of_69 : decode cX4_of 69 = .ok (.ireturn, 1) := dk_172 (dk_at dksX4_of_3 5 rfl rfl)
theorem q120 : (Jvm.Cond.initialized "CheekTown$Scene") ∈ lw_all := lw_g (lw_at lw_m1 4 rfl) rfl
theorem q346 : (Jvm.Cond.instantiable "CheekTown$Scene" (8 : Nat)) ∈ lw_all := lw_g (lw_at lw_m1 230 rfl) rfl
theorem q348 : (Jvm.Cond.instanceMethod ({ cls := "CheekTown$Scene", name := "<init>", desc := "()V" } : Jvm.MethodName)) ∈ lw_all := lw_g (lw_at lw_m1 232 rfl) rfl
theorem q349 : (Jvm.Cond.code ({ cls := "CheekTown$Scene", name := "<init>", desc := "()V" } : Jvm.MethodName) prog_15_method_1_code (1 : Nat) (Option.none : Option Jvm.ClassFile.FieldType)) ∈ lw_all := lw_g (lw_at lw_m1 233 rfl) rfl
theorem q350 : (Jvm.Cond.methodLink "CheekTown$Scene" (1 : Nat) ({ cls := "java/lang/Object", name := "<init>", desc := "()V" } : Jvm.MethodName)) ∈ lw_all := lw_g (lw_at lw_m1 234 rfl) rfl
theorem q351 : (Jvm.Cond.fieldLink "CheekTown$Scene" (13 : Nat) "CheekTown$Scene" "who" "I") ∈ lw_all := lw_g (lw_at lw_m1 235 rfl) rfl
theorem q353 : (Jvm.Cond.fieldLink "CheekTown$Scene" (19 : Nat) "CheekTown$Scene" "whom" "I") ∈ lw_all := lw_g (lw_at lw_m1 237 rfl) rfl
theorem q355 : (Jvm.Cond.fieldLink "CheekTown$Scene" (22 : Nat) "CheekTown$Scene" "rank" "I") ∈ lw_all := lw_g (lw_at lw_m1 239 rfl) rfl
theorem q357 : (Jvm.Cond.fieldLink "CheekTown$Scene" (25 : Nat) "CheekTown$Scene" "theirs" "I") ∈ lw_all := lw_g (lw_at lw_m2 1 rfl) rfl
theorem q359 : (Jvm.Cond.fieldLink "CheekTown$Scene" (28 : Nat) "CheekTown$Scene" "met" "I") ∈ lw_all := lw_g (lw_at lw_m2 3 rfl) rfl
theorem q361 : (Jvm.Cond.fieldLink "CheekTown$Scene" (31 : Nat) "CheekTown$Scene" "round" "I") ∈ lw_all := lw_g (lw_at lw_m2 5 rfl) rfl
theorem q367 : (Jvm.Cond.lays "CheekTown$Scene" "CheekTown$Scene" "who" "I") ∈ lw_all := lw_g (lw_at lw_m2 11 rfl) rfl
theorem q368 : (Jvm.Cond.soleField "CheekTown$Scene" "who") ∈ lw_all := lw_g (lw_at lw_m2 12 rfl) rfl
theorem q369 : (Jvm.Cond.lays "CheekTown$Scene" "CheekTown$Scene" "whom" "I") ∈ lw_all := lw_g (lw_at lw_m2 13 rfl) rfl
theorem q370 : (Jvm.Cond.soleField "CheekTown$Scene" "whom") ∈ lw_all := lw_g (lw_at lw_m2 14 rfl) rfl
theorem q371 : (Jvm.Cond.lays "CheekTown$Scene" "CheekTown$Scene" "rank" "I") ∈ lw_all := lw_g (lw_at lw_m2 15 rfl) rfl
theorem q372 : (Jvm.Cond.soleField "CheekTown$Scene" "rank") ∈ lw_all := lw_g (lw_at lw_m2 16 rfl) rfl
theorem q373 : (Jvm.Cond.lays "CheekTown$Scene" "CheekTown$Scene" "theirs" "I") ∈ lw_all := lw_g (lw_at lw_m2 17 rfl) rfl
theorem q374 : (Jvm.Cond.soleField "CheekTown$Scene" "theirs") ∈ lw_all := lw_g (lw_at lw_m2 18 rfl) rfl
theorem q375 : (Jvm.Cond.lays "CheekTown$Scene" "CheekTown$Scene" "met" "I") ∈ lw_all := lw_g (lw_at lw_m2 19 rfl) rfl
theorem q376 : (Jvm.Cond.soleField "CheekTown$Scene" "met") ∈ lw_all := lw_g (lw_at lw_m2 20 rfl) rfl
theorem q377 : (Jvm.Cond.lays "CheekTown$Scene" "CheekTown$Scene" "round" "I") ∈ lw_all := lw_g (lw_at lw_m2 21 rfl) rfl
theorem q378 : (Jvm.Cond.soleField "CheekTown$Scene" "round") ∈ lw_all := lw_g (lw_at lw_m2 22 rfl) rfl
theorem q379 : (Jvm.Cond.lays "CheekTown$Scene" "CheekTown$Scene" "same" "Z") ∈ lw_all := lw_g (lw_at lw_m2 23 rfl) rfl
theorem q380 : (Jvm.Cond.soleField "CheekTown$Scene" "same") ∈ lw_all := lw_g (lw_at lw_m2 24 rfl) rfl
theorem q381 : (Jvm.Cond.lays "CheekTown$Scene" "CheekTown$Scene" "cold" "Z") ∈ lw_all := lw_g (lw_at lw_m2 25 rfl) rfl
theorem q382 : (Jvm.Cond.soleField "CheekTown$Scene" "cold") ∈ lw_all := lw_g (lw_at lw_m2 26 rfl) rfl
theorem q383 : (Jvm.Cond.superclass "CheekTown$Scene" "java/lang/Object") ∈ lw_all := lw_g (lw_at lw_m2 27 rfl) rfl
theorem q1567 : (Jvm.Cond.selects "CheekTown$Scene" ({ cls := "java/lang/Object", name := "getClass", desc := "()Ljava/lang/Class;" } : Jvm.MethodName) ({ cls := "java/lang/Object", name := "getClass", desc := "()Ljava/lang/Class;" } : Jvm.MethodName)) ∈ lw_all := lw_g (lw_at lw_m7 11 rfl) rfl
theorem q1775 : (Jvm.Cond.instanceMethod ({ cls := "CheekTown$Scene", name := "of", desc := "(LCheekTown$Fact;)I" } : Jvm.MethodName)) ∈ lw_all := lw_g (lw_at lw_m7 219 rfl) rfl
theorem q1776 : (Jvm.Cond.selects "CheekTown$Scene" ({ cls := "CheekTown$Scene", name := "of", desc := "(LCheekTown$Fact;)I" } : Jvm.MethodName) ({ cls := "CheekTown$Scene", name := "of", desc := "(LCheekTown$Fact;)I" } : Jvm.MethodName)) ∈ lw_all := lw_g (lw_at lw_m7 220 rfl) rfl
theorem q1777 : (Jvm.Cond.code ({ cls := "CheekTown$Scene", name := "of", desc := "(LCheekTown$Fact;)I" } : Jvm.MethodName) prog_15_method_2_code (2 : Nat) (Option.some Jvm.ClassFile.FieldType.int)) ∈ lw_all := lw_g (lw_at lw_m7 221 rfl) rfl
theorem q1778 : (Jvm.Cond.methodLink "CheekTown$Scene" (7 : Nat) ({ cls := "CheekTown$Fact", name := "ordinal", desc := "()I" } : Jvm.MethodName)) ∈ lw_all := lw_g (lw_at lw_m7 222 rfl) rfl
theorem q2743 : (Jvm.Cond.castable "CheekTown$Scene" "java/lang/Object") ∈ lw_tbl := lw_at lw_m11 227 rfl
theorem in_X4 : ∀ w ∈ wsX40, w ∈ lw_all := lw_in wsX40 [367, 369, 371, 373, 375, 377, 379, 381] (by decide +kernel) (by decide +kernel)

/-! CheekTown$Ring -/
set_option maxRecDepth 100000
def RX5 : String := "CheekTown$Ring"
def TX5 : u_T := fun k => match k with
  | 0 => ("CheekTown$Ring", "who", "[I", true)
  | 1 => ("CheekTown$Ring", "many", "I", false)
  | 2 => ("CheekTown$Ring", "least", "[I", true)
  | _ => ("CheekTown$Ring", "this$0", "LCheekTown;", true)
def tyX5 : Nat → FieldType := fun k => match k with
  | 0 => .array .int
  | 1 => .int
  | 2 => .array .int
  | _ => .object "CheekTown"
abbrev wsX50 : List Cond := u_ws RX5 TX5 4
theorem nmX5 : ∀ a, a < 4 → ∀ b, b < 4 → a ≠ b → (TX5 a).2.1 ≠ (TX5 b).2.1 := by decide +kernel
theorem tyX5_ok : ∀ k, k < 4 → parseFieldDescriptor (TX5 k).2.2.1 = some (tyX5 k) := by decide +kernel
abbrev cX5_init : ByteArray := prog_12_method_1_code
def yX5_init : MethodName := ⟨RX5, "<init>", "(LCheekTown;)V"⟩
def dkwX5_init_1 : List UInt8 := [181, 0, 19, 177]
abbrev dktX5_init_1 : List UInt8 := dkwX5_init_1 ++ []
def dkwX5_init_0 : List UInt8 := [42, 43, 181, 0, 3, 42, 183, 0, 9, 42, 16, 8, 188, 10, 181, 0, 15, 42, 17, 8, 0, 188, 10]
abbrev dktX5_init_0 : List UInt8 := dkwX5_init_0 ++ dktX5_init_1
theorem dksX5_init_0 : cX5_init.data.toList.drop 0 = dktX5_init_0 := by decide +kernel
theorem dksX5_init_1 : cX5_init.data.toList.drop 23 = dktX5_init_1 := dk_seg dksX5_init_0 23 rfl rfl
theorem dX5_init_0 : decode cX5_init 0 = .ok (.aload_n 0, 1) := dk_42 (dk_at dksX5_init_0 0 rfl rfl)
theorem dX5_init_1 : decode cX5_init 1 = .ok (.aload_n 1, 1) := dk_43 (dk_at dksX5_init_0 1 rfl rfl)
theorem dX5_init_2 : decode cX5_init 2 = .ok (.putfield 3, 3) := dk_181 0 3 (dk_at dksX5_init_0 2 rfl rfl)
theorem dX5_init_5 : decode cX5_init 5 = .ok (.aload_n 0, 1) := dk_42 (dk_at dksX5_init_0 5 rfl rfl)
theorem dX5_init_6 : decode cX5_init 6 = .ok (.invokespecial 9, 3) := dk_183 0 9 (dk_at dksX5_init_0 6 rfl rfl)
theorem dX5_init_9 : decode cX5_init 9 = .ok (.aload_n 0, 1) := dk_42 (dk_at dksX5_init_0 9 rfl rfl)
theorem dX5_init_10 : decode cX5_init 10 = .ok (.bipush 8, 2) := dk_16 8 (dk_at dksX5_init_0 10 rfl rfl)
theorem dX5_init_12 : decode cX5_init 12 = .ok (.newarray .int, 2) := dk_188_10 (dk_at dksX5_init_0 12 rfl rfl)
theorem dX5_init_14 : decode cX5_init 14 = .ok (.putfield 15, 3) := dk_181 0 15 (dk_at dksX5_init_0 14 rfl rfl)
theorem dX5_init_17 : decode cX5_init 17 = .ok (.aload_n 0, 1) := dk_42 (dk_at dksX5_init_0 17 rfl rfl)
theorem dX5_init_18 : decode cX5_init 18 = .ok (.sipush 2048, 3) := dk_17 8 0 (dk_at dksX5_init_0 18 rfl rfl)
theorem dX5_init_21 : decode cX5_init 21 = .ok (.newarray .int, 2) := dk_188_10 (dk_at dksX5_init_0 21 rfl rfl)
theorem dX5_init_23 : decode cX5_init 23 = .ok (.putfield 19, 3) := dk_181 0 19 (dk_at dksX5_init_1 0 rfl rfl)
theorem dX5_init_26 : decode cX5_init 26 = .ok (.return_, 1) := dk_177 (dk_at dksX5_init_1 3 rfl rfl)
abbrev cX5_seats : ByteArray := prog_12_method_2_code
def yX5_seats : MethodName := ⟨RX5, "seats", "(I)LCheekTown$Ring;"⟩
def dkwX5_seats_2 : List UInt8 := [132, 2, 1, 167, 255, 214, 42, 180, 0, 19, 3, 16, 8, 42, 180, 0, 22, 120, 2, 184, 0, 39, 42, 176]
abbrev dktX5_seats_2 : List UInt8 := dkwX5_seats_2 ++ []
def dkwX5_seats_1 : List UInt8 := [184, 0, 35, 153, 0, 20, 42, 180, 0, 15, 42, 89, 180, 0, 22, 90, 4, 96, 181, 0, 22, 28, 79]
abbrev dktX5_seats_1 : List UInt8 := dkwX5_seats_1 ++ dktX5_seats_2
def dkwX5_seats_0 : List UInt8 := [42, 3, 181, 0, 22, 3, 61, 28, 42, 180, 0, 3, 180, 0, 26, 180, 0, 30, 162, 0, 34, 27, 28]
abbrev dktX5_seats_0 : List UInt8 := dkwX5_seats_0 ++ dktX5_seats_1
theorem dksX5_seats_0 : cX5_seats.data.toList.drop 0 = dktX5_seats_0 := by decide +kernel
theorem dksX5_seats_1 : cX5_seats.data.toList.drop 23 = dktX5_seats_1 := dk_seg dksX5_seats_0 23 rfl rfl
theorem dksX5_seats_2 : cX5_seats.data.toList.drop 46 = dktX5_seats_2 := dk_seg dksX5_seats_1 23 rfl rfl
theorem dX5_seats_0 : decode cX5_seats 0 = .ok (.aload_n 0, 1) := dk_42 (dk_at dksX5_seats_0 0 rfl rfl)
theorem dX5_seats_1 : decode cX5_seats 1 = .ok (.iconst 0, 1) := dk_3 (dk_at dksX5_seats_0 1 rfl rfl)
theorem dX5_seats_2 : decode cX5_seats 2 = .ok (.putfield 22, 3) := dk_181 0 22 (dk_at dksX5_seats_0 2 rfl rfl)
theorem dX5_seats_5 : decode cX5_seats 5 = .ok (.iconst 0, 1) := dk_3 (dk_at dksX5_seats_0 5 rfl rfl)
theorem dX5_seats_6 : decode cX5_seats 6 = .ok (.istore_n 2, 1) := dk_61 (dk_at dksX5_seats_0 6 rfl rfl)
theorem dX5_seats_7 : decode cX5_seats 7 = .ok (.iload_n 2, 1) := dk_28 (dk_at dksX5_seats_0 7 rfl rfl)
theorem dX5_seats_8 : decode cX5_seats 8 = .ok (.aload_n 0, 1) := dk_42 (dk_at dksX5_seats_0 8 rfl rfl)
theorem dX5_seats_9 : decode cX5_seats 9 = .ok (.getfield 3, 3) := dk_180 0 3 (dk_at dksX5_seats_0 9 rfl rfl)
theorem dX5_seats_12 : decode cX5_seats 12 = .ok (.getfield 26, 3) := dk_180 0 26 (dk_at dksX5_seats_0 12 rfl rfl)
theorem dX5_seats_15 : decode cX5_seats 15 = .ok (.getfield 30, 3) := dk_180 0 30 (dk_at dksX5_seats_0 15 rfl rfl)
theorem dX5_seats_18 : decode cX5_seats 18 = .ok (.if_icmp .ge 34, 3) := dk_162 0 34 (dk_at dksX5_seats_0 18 rfl rfl)
theorem dX5_seats_21 : decode cX5_seats 21 = .ok (.iload_n 1, 1) := dk_27 (dk_at dksX5_seats_0 21 rfl rfl)
theorem dX5_seats_22 : decode cX5_seats 22 = .ok (.iload_n 2, 1) := dk_28 (dk_at dksX5_seats_0 22 rfl rfl)
theorem dX5_seats_23 : decode cX5_seats 23 = .ok (.invokestatic 35, 3) := dk_184 0 35 (dk_at dksX5_seats_1 0 rfl rfl)
theorem dX5_seats_26 : decode cX5_seats 26 = .ok (.ifCond .eq 20, 3) := dk_153 0 20 (dk_at dksX5_seats_1 3 rfl rfl)
theorem dX5_seats_29 : decode cX5_seats 29 = .ok (.aload_n 0, 1) := dk_42 (dk_at dksX5_seats_1 6 rfl rfl)
theorem dX5_seats_30 : decode cX5_seats 30 = .ok (.getfield 15, 3) := dk_180 0 15 (dk_at dksX5_seats_1 7 rfl rfl)
theorem dX5_seats_33 : decode cX5_seats 33 = .ok (.aload_n 0, 1) := dk_42 (dk_at dksX5_seats_1 10 rfl rfl)
theorem dX5_seats_34 : decode cX5_seats 34 = .ok (.dup, 1) := dk_89 (dk_at dksX5_seats_1 11 rfl rfl)
theorem dX5_seats_35 : decode cX5_seats 35 = .ok (.getfield 22, 3) := dk_180 0 22 (dk_at dksX5_seats_1 12 rfl rfl)
theorem dX5_seats_38 : decode cX5_seats 38 = .ok (.dup_x1, 1) := dk_90 (dk_at dksX5_seats_1 15 rfl rfl)
theorem dX5_seats_39 : decode cX5_seats 39 = .ok (.iconst 1, 1) := dk_4 (dk_at dksX5_seats_1 16 rfl rfl)
theorem dX5_seats_40 : decode cX5_seats 40 = .ok (.iadd, 1) := dk_96 (dk_at dksX5_seats_1 17 rfl rfl)
theorem dX5_seats_41 : decode cX5_seats 41 = .ok (.putfield 22, 3) := dk_181 0 22 (dk_at dksX5_seats_1 18 rfl rfl)
theorem dX5_seats_44 : decode cX5_seats 44 = .ok (.iload_n 2, 1) := dk_28 (dk_at dksX5_seats_1 21 rfl rfl)
theorem dX5_seats_45 : decode cX5_seats 45 = .ok (.iastore, 1) := dk_79 (dk_at dksX5_seats_1 22 rfl rfl)
theorem dX5_seats_46 : decode cX5_seats 46 = .ok (.iinc 2 1, 3) := dk_132 2 1 (dk_at dksX5_seats_2 0 rfl rfl)
theorem dX5_seats_49 : decode cX5_seats 49 = .ok (.goto (-42), 3) := dk_167 255 214 (dk_at dksX5_seats_2 3 rfl rfl)
theorem dX5_seats_52 : decode cX5_seats 52 = .ok (.aload_n 0, 1) := dk_42 (dk_at dksX5_seats_2 6 rfl rfl)
theorem dX5_seats_53 : decode cX5_seats 53 = .ok (.getfield 19, 3) := dk_180 0 19 (dk_at dksX5_seats_2 7 rfl rfl)
theorem dX5_seats_56 : decode cX5_seats 56 = .ok (.iconst 0, 1) := dk_3 (dk_at dksX5_seats_2 10 rfl rfl)
theorem dX5_seats_57 : decode cX5_seats 57 = .ok (.bipush 8, 2) := dk_16 8 (dk_at dksX5_seats_2 11 rfl rfl)
theorem dX5_seats_59 : decode cX5_seats 59 = .ok (.aload_n 0, 1) := dk_42 (dk_at dksX5_seats_2 13 rfl rfl)
theorem dX5_seats_60 : decode cX5_seats 60 = .ok (.getfield 22, 3) := dk_180 0 22 (dk_at dksX5_seats_2 14 rfl rfl)
theorem dX5_seats_63 : decode cX5_seats 63 = .ok (.ishl, 1) := dk_120 (dk_at dksX5_seats_2 17 rfl rfl)
theorem dX5_seats_64 : decode cX5_seats 64 = .ok (.iconst (-1), 1) := dk_2 (dk_at dksX5_seats_2 18 rfl rfl)
theorem dX5_seats_65 : decode cX5_seats 65 = .ok (.invokestatic 39, 3) := dk_184 0 39 (dk_at dksX5_seats_2 19 rfl rfl)
theorem dX5_seats_68 : decode cX5_seats 68 = .ok (.aload_n 0, 1) := dk_42 (dk_at dksX5_seats_2 22 rfl rfl)
theorem dX5_seats_69 : decode cX5_seats 69 = .ok (.areturn, 1) := dk_176 (dk_at dksX5_seats_2 23 rfl rfl)
abbrev cX5_from : ByteArray := prog_12_method_6_code
def yX5_from : MethodName := ⟨RX5, "from", "(II)I"⟩
def dkwX5_from_4 : List UInt8 := [21, 4, 172]
abbrev dktX5_from_4 : List UInt8 := dkwX5_from_4 ++ []
def dkwX5_from_3 : List UInt8 := [21, 5, 182, 0, 66, 184, 0, 70, 54, 4, 132, 5, 1, 167, 255, 220, 42, 180, 0, 19, 29, 21, 4, 79]
abbrev dktX5_from_3 : List UInt8 := dkwX5_from_3 ++ dktX5_from_4
def dkwX5_from_2 : List UInt8 := [21, 5, 42, 180, 0, 22, 162, 0, 33, 27, 21, 5, 184, 0, 35, 154, 0, 18, 21, 4, 42, 27, 28]
abbrev dktX5_from_2 : List UInt8 := dkwX5_from_2 ++ dktX5_from_3
def dkwX5_from_1 : List UInt8 := [180, 0, 19, 29, 46, 2, 159, 0, 10, 42, 180, 0, 19, 29, 46, 172, 18, 65, 54, 4, 3, 54, 5]
abbrev dktX5_from_1 : List UInt8 := dkwX5_from_1 ++ dktX5_from_2
def dkwX5_from_0 : List UInt8 := [42, 27, 182, 0, 55, 153, 0, 9, 42, 28, 182, 0, 59, 172, 16, 8, 27, 104, 28, 96, 62, 42]
abbrev dktX5_from_0 : List UInt8 := dkwX5_from_0 ++ dktX5_from_1
theorem dksX5_from_0 : cX5_from.data.toList.drop 0 = dktX5_from_0 := by decide +kernel
theorem dksX5_from_1 : cX5_from.data.toList.drop 22 = dktX5_from_1 := dk_seg dksX5_from_0 22 rfl rfl
theorem dksX5_from_2 : cX5_from.data.toList.drop 45 = dktX5_from_2 := dk_seg dksX5_from_1 23 rfl rfl
theorem dksX5_from_3 : cX5_from.data.toList.drop 68 = dktX5_from_3 := dk_seg dksX5_from_2 23 rfl rfl
theorem dksX5_from_4 : cX5_from.data.toList.drop 92 = dktX5_from_4 := dk_seg dksX5_from_3 24 rfl rfl
theorem dX5_from_0 : decode cX5_from 0 = .ok (.aload_n 0, 1) := dk_42 (dk_at dksX5_from_0 0 rfl rfl)
theorem dX5_from_1 : decode cX5_from 1 = .ok (.iload_n 1, 1) := dk_27 (dk_at dksX5_from_0 1 rfl rfl)
theorem dX5_from_2 : decode cX5_from 2 = .ok (.invokevirtual 55, 3) := dk_182 0 55 (dk_at dksX5_from_0 2 rfl rfl)
theorem dX5_from_5 : decode cX5_from 5 = .ok (.ifCond .eq 9, 3) := dk_153 0 9 (dk_at dksX5_from_0 5 rfl rfl)
theorem dX5_from_8 : decode cX5_from 8 = .ok (.aload_n 0, 1) := dk_42 (dk_at dksX5_from_0 8 rfl rfl)
theorem dX5_from_9 : decode cX5_from 9 = .ok (.iload_n 2, 1) := dk_28 (dk_at dksX5_from_0 9 rfl rfl)
theorem dX5_from_10 : decode cX5_from 10 = .ok (.invokevirtual 59, 3) := dk_182 0 59 (dk_at dksX5_from_0 10 rfl rfl)
theorem dX5_from_13 : decode cX5_from 13 = .ok (.ireturn, 1) := dk_172 (dk_at dksX5_from_0 13 rfl rfl)
theorem dX5_from_14 : decode cX5_from 14 = .ok (.bipush 8, 2) := dk_16 8 (dk_at dksX5_from_0 14 rfl rfl)
theorem dX5_from_16 : decode cX5_from 16 = .ok (.iload_n 1, 1) := dk_27 (dk_at dksX5_from_0 16 rfl rfl)
theorem dX5_from_17 : decode cX5_from 17 = .ok (.imul, 1) := dk_104 (dk_at dksX5_from_0 17 rfl rfl)
theorem dX5_from_18 : decode cX5_from 18 = .ok (.iload_n 2, 1) := dk_28 (dk_at dksX5_from_0 18 rfl rfl)
theorem dX5_from_19 : decode cX5_from 19 = .ok (.iadd, 1) := dk_96 (dk_at dksX5_from_0 19 rfl rfl)
theorem dX5_from_20 : decode cX5_from 20 = .ok (.istore_n 3, 1) := dk_62 (dk_at dksX5_from_0 20 rfl rfl)
theorem dX5_from_21 : decode cX5_from 21 = .ok (.aload_n 0, 1) := dk_42 (dk_at dksX5_from_0 21 rfl rfl)
theorem dX5_from_22 : decode cX5_from 22 = .ok (.getfield 19, 3) := dk_180 0 19 (dk_at dksX5_from_1 0 rfl rfl)
theorem dX5_from_25 : decode cX5_from 25 = .ok (.iload_n 3, 1) := dk_29 (dk_at dksX5_from_1 3 rfl rfl)
theorem dX5_from_26 : decode cX5_from 26 = .ok (.iaload, 1) := dk_46 (dk_at dksX5_from_1 4 rfl rfl)
theorem dX5_from_27 : decode cX5_from 27 = .ok (.iconst (-1), 1) := dk_2 (dk_at dksX5_from_1 5 rfl rfl)
theorem dX5_from_28 : decode cX5_from 28 = .ok (.if_icmp .eq 10, 3) := dk_159 0 10 (dk_at dksX5_from_1 6 rfl rfl)
theorem dX5_from_31 : decode cX5_from 31 = .ok (.aload_n 0, 1) := dk_42 (dk_at dksX5_from_1 9 rfl rfl)
theorem dX5_from_32 : decode cX5_from 32 = .ok (.getfield 19, 3) := dk_180 0 19 (dk_at dksX5_from_1 10 rfl rfl)
theorem dX5_from_35 : decode cX5_from 35 = .ok (.iload_n 3, 1) := dk_29 (dk_at dksX5_from_1 13 rfl rfl)
theorem dX5_from_36 : decode cX5_from 36 = .ok (.iaload, 1) := dk_46 (dk_at dksX5_from_1 14 rfl rfl)
theorem dX5_from_37 : decode cX5_from 37 = .ok (.ireturn, 1) := dk_172 (dk_at dksX5_from_1 15 rfl rfl)
theorem dX5_from_38 : decode cX5_from 38 = .ok (.ldc 65, 2) := dk_18 65 (dk_at dksX5_from_1 16 rfl rfl)
theorem dX5_from_40 : decode cX5_from 40 = .ok (.istore 4, 2) := dk_54 4 (dk_at dksX5_from_1 18 rfl rfl)
theorem dX5_from_42 : decode cX5_from 42 = .ok (.iconst 0, 1) := dk_3 (dk_at dksX5_from_1 20 rfl rfl)
theorem dX5_from_43 : decode cX5_from 43 = .ok (.istore 5, 2) := dk_54 5 (dk_at dksX5_from_1 21 rfl rfl)
theorem dX5_from_45 : decode cX5_from 45 = .ok (.iload 5, 2) := dk_21 5 (dk_at dksX5_from_2 0 rfl rfl)
theorem dX5_from_47 : decode cX5_from 47 = .ok (.aload_n 0, 1) := dk_42 (dk_at dksX5_from_2 2 rfl rfl)
theorem dX5_from_48 : decode cX5_from 48 = .ok (.getfield 22, 3) := dk_180 0 22 (dk_at dksX5_from_2 3 rfl rfl)
theorem dX5_from_51 : decode cX5_from 51 = .ok (.if_icmp .ge 33, 3) := dk_162 0 33 (dk_at dksX5_from_2 6 rfl rfl)
theorem dX5_from_54 : decode cX5_from 54 = .ok (.iload_n 1, 1) := dk_27 (dk_at dksX5_from_2 9 rfl rfl)
theorem dX5_from_55 : decode cX5_from 55 = .ok (.iload 5, 2) := dk_21 5 (dk_at dksX5_from_2 10 rfl rfl)
theorem dX5_from_57 : decode cX5_from 57 = .ok (.invokestatic 35, 3) := dk_184 0 35 (dk_at dksX5_from_2 12 rfl rfl)
theorem dX5_from_60 : decode cX5_from 60 = .ok (.ifCond .ne 18, 3) := dk_154 0 18 (dk_at dksX5_from_2 15 rfl rfl)
theorem dX5_from_63 : decode cX5_from 63 = .ok (.iload 4, 2) := dk_21 4 (dk_at dksX5_from_2 18 rfl rfl)
theorem dX5_from_65 : decode cX5_from 65 = .ok (.aload_n 0, 1) := dk_42 (dk_at dksX5_from_2 20 rfl rfl)
theorem dX5_from_66 : decode cX5_from 66 = .ok (.iload_n 1, 1) := dk_27 (dk_at dksX5_from_2 21 rfl rfl)
theorem dX5_from_67 : decode cX5_from 67 = .ok (.iload_n 2, 1) := dk_28 (dk_at dksX5_from_2 22 rfl rfl)
theorem dX5_from_68 : decode cX5_from 68 = .ok (.iload 5, 2) := dk_21 5 (dk_at dksX5_from_3 0 rfl rfl)
theorem dX5_from_70 : decode cX5_from 70 = .ok (.invokevirtual 66, 3) := dk_182 0 66 (dk_at dksX5_from_3 2 rfl rfl)
theorem dX5_from_73 : decode cX5_from 73 = .ok (.invokestatic 70, 3) := dk_184 0 70 (dk_at dksX5_from_3 5 rfl rfl)
theorem dX5_from_76 : decode cX5_from 76 = .ok (.istore 4, 2) := dk_54 4 (dk_at dksX5_from_3 8 rfl rfl)
theorem dX5_from_78 : decode cX5_from 78 = .ok (.iinc 5 1, 3) := dk_132 5 1 (dk_at dksX5_from_3 10 rfl rfl)
theorem dX5_from_81 : decode cX5_from 81 = .ok (.goto (-36), 3) := dk_167 255 220 (dk_at dksX5_from_3 13 rfl rfl)
theorem dX5_from_84 : decode cX5_from 84 = .ok (.aload_n 0, 1) := dk_42 (dk_at dksX5_from_3 16 rfl rfl)
theorem dX5_from_85 : decode cX5_from 85 = .ok (.getfield 19, 3) := dk_180 0 19 (dk_at dksX5_from_3 17 rfl rfl)
theorem dX5_from_88 : decode cX5_from 88 = .ok (.iload_n 3, 1) := dk_29 (dk_at dksX5_from_3 20 rfl rfl)
theorem dX5_from_89 : decode cX5_from 89 = .ok (.iload 4, 2) := dk_21 4 (dk_at dksX5_from_3 21 rfl rfl)
theorem dX5_from_91 : decode cX5_from 91 = .ok (.iastore, 1) := dk_79 (dk_at dksX5_from_3 23 rfl rfl)
theorem dX5_from_92 : decode cX5_from 92 = .ok (.iload 4, 2) := dk_21 4 (dk_at dksX5_from_4 0 rfl rfl)
theorem dX5_from_94 : decode cX5_from 94 = .ok (.ireturn, 1) := dk_172 (dk_at dksX5_from_4 2 rfl rfl)
abbrev cX5_isFull : ByteArray := prog_12_method_4_code
def yX5_isFull : MethodName := ⟨RX5, "isFull", "(I)Z"⟩
def dkwX5_isFull_0 : List UInt8 := [27, 4, 42, 180, 0, 22, 120, 4, 100, 160, 0, 7, 4, 167, 0, 4, 3, 172]
abbrev dktX5_isFull_0 : List UInt8 := dkwX5_isFull_0 ++ []
theorem dksX5_isFull_0 : cX5_isFull.data.toList.drop 0 = dktX5_isFull_0 := by decide +kernel
theorem dX5_isFull_0 : decode cX5_isFull 0 = .ok (.iload_n 1, 1) := dk_27 (dk_at dksX5_isFull_0 0 rfl rfl)
theorem dX5_isFull_1 : decode cX5_isFull 1 = .ok (.iconst 1, 1) := dk_4 (dk_at dksX5_isFull_0 1 rfl rfl)
theorem dX5_isFull_2 : decode cX5_isFull 2 = .ok (.aload_n 0, 1) := dk_42 (dk_at dksX5_isFull_0 2 rfl rfl)
theorem dX5_isFull_3 : decode cX5_isFull 3 = .ok (.getfield 22, 3) := dk_180 0 22 (dk_at dksX5_isFull_0 3 rfl rfl)
theorem dX5_isFull_6 : decode cX5_isFull 6 = .ok (.ishl, 1) := dk_120 (dk_at dksX5_isFull_0 6 rfl rfl)
theorem dX5_isFull_7 : decode cX5_isFull 7 = .ok (.iconst 1, 1) := dk_4 (dk_at dksX5_isFull_0 7 rfl rfl)
theorem dX5_isFull_8 : decode cX5_isFull 8 = .ok (.isub, 1) := dk_100 (dk_at dksX5_isFull_0 8 rfl rfl)
theorem dX5_isFull_9 : decode cX5_isFull 9 = .ok (.if_icmp .ne 7, 3) := dk_160 0 7 (dk_at dksX5_isFull_0 9 rfl rfl)
theorem dX5_isFull_12 : decode cX5_isFull 12 = .ok (.iconst 1, 1) := dk_4 (dk_at dksX5_isFull_0 12 rfl rfl)
theorem dX5_isFull_13 : decode cX5_isFull 13 = .ok (.goto 4, 3) := dk_167 0 4 (dk_at dksX5_isFull_0 13 rfl rfl)
theorem dX5_isFull_16 : decode cX5_isFull 16 = .ok (.iconst 0, 1) := dk_3 (dk_at dksX5_isFull_0 16 rfl rfl)
theorem dX5_isFull_17 : decode cX5_isFull 17 = .ok (.ireturn, 1) := dk_172 (dk_at dksX5_isFull_0 17 rfl rfl)
abbrev cX5_closes : ByteArray := prog_12_method_5_code
def yX5_closes : MethodName := ⟨RX5, "closes", "(I)I"⟩
def dkwX5_closes_0 : List UInt8 := [42, 180, 0, 22, 6, 162, 0, 7, 3, 167, 0, 9, 42, 27, 3, 182, 0, 52, 172]
abbrev dktX5_closes_0 : List UInt8 := dkwX5_closes_0 ++ []
theorem dksX5_closes_0 : cX5_closes.data.toList.drop 0 = dktX5_closes_0 := by decide +kernel
theorem dX5_closes_0 : decode cX5_closes 0 = .ok (.aload_n 0, 1) := dk_42 (dk_at dksX5_closes_0 0 rfl rfl)
theorem dX5_closes_1 : decode cX5_closes 1 = .ok (.getfield 22, 3) := dk_180 0 22 (dk_at dksX5_closes_0 1 rfl rfl)
theorem dX5_closes_4 : decode cX5_closes 4 = .ok (.iconst 3, 1) := dk_6 (dk_at dksX5_closes_0 4 rfl rfl)
theorem dX5_closes_5 : decode cX5_closes 5 = .ok (.if_icmp .ge 7, 3) := dk_162 0 7 (dk_at dksX5_closes_0 5 rfl rfl)
theorem dX5_closes_8 : decode cX5_closes 8 = .ok (.iconst 0, 1) := dk_3 (dk_at dksX5_closes_0 8 rfl rfl)
theorem dX5_closes_9 : decode cX5_closes 9 = .ok (.goto 9, 3) := dk_167 0 9 (dk_at dksX5_closes_0 9 rfl rfl)
theorem dX5_closes_12 : decode cX5_closes 12 = .ok (.aload_n 0, 1) := dk_42 (dk_at dksX5_closes_0 12 rfl rfl)
theorem dX5_closes_13 : decode cX5_closes 13 = .ok (.iload_n 1, 1) := dk_27 (dk_at dksX5_closes_0 13 rfl rfl)
theorem dX5_closes_14 : decode cX5_closes 14 = .ok (.iconst 0, 1) := dk_3 (dk_at dksX5_closes_0 14 rfl rfl)
theorem dX5_closes_15 : decode cX5_closes 15 = .ok (.invokevirtual 52, 3) := dk_182 0 52 (dk_at dksX5_closes_0 15 rfl rfl)
theorem dX5_closes_18 : decode cX5_closes 18 = .ok (.ireturn, 1) := dk_172 (dk_at dksX5_closes_0 18 rfl rfl)
abbrev cX5_beside : ByteArray := prog_12_method_3_code
def yX5_beside : MethodName := ⟨RX5, "beside", "(II)I"⟩
def dkwX5_beside_1 : List UInt8 := [42, 180, 0, 3, 180, 0, 26, 180, 0, 45, 42, 180, 0, 15, 28, 46, 46, 182, 0, 48, 172]
abbrev dktX5_beside_1 : List UInt8 := dkwX5_beside_1 ++ []
def dkwX5_beside_0 : List UInt8 := [42, 180, 0, 3, 180, 0, 26, 42, 180, 0, 3, 180, 0, 26, 180, 0, 45, 42, 180, 0, 15, 27, 46, 46]
abbrev dktX5_beside_0 : List UInt8 := dkwX5_beside_0 ++ dktX5_beside_1
theorem dksX5_beside_0 : cX5_beside.data.toList.drop 0 = dktX5_beside_0 := by decide +kernel
theorem dksX5_beside_1 : cX5_beside.data.toList.drop 24 = dktX5_beside_1 := dk_seg dksX5_beside_0 24 rfl rfl
theorem dX5_beside_0 : decode cX5_beside 0 = .ok (.aload_n 0, 1) := dk_42 (dk_at dksX5_beside_0 0 rfl rfl)
theorem dX5_beside_1 : decode cX5_beside 1 = .ok (.getfield 3, 3) := dk_180 0 3 (dk_at dksX5_beside_0 1 rfl rfl)
theorem dX5_beside_4 : decode cX5_beside 4 = .ok (.getfield 26, 3) := dk_180 0 26 (dk_at dksX5_beside_0 4 rfl rfl)
theorem dX5_beside_7 : decode cX5_beside 7 = .ok (.aload_n 0, 1) := dk_42 (dk_at dksX5_beside_0 7 rfl rfl)
theorem dX5_beside_8 : decode cX5_beside 8 = .ok (.getfield 3, 3) := dk_180 0 3 (dk_at dksX5_beside_0 8 rfl rfl)
theorem dX5_beside_11 : decode cX5_beside 11 = .ok (.getfield 26, 3) := dk_180 0 26 (dk_at dksX5_beside_0 11 rfl rfl)
theorem dX5_beside_14 : decode cX5_beside 14 = .ok (.getfield 45, 3) := dk_180 0 45 (dk_at dksX5_beside_0 14 rfl rfl)
theorem dX5_beside_17 : decode cX5_beside 17 = .ok (.aload_n 0, 1) := dk_42 (dk_at dksX5_beside_0 17 rfl rfl)
theorem dX5_beside_18 : decode cX5_beside 18 = .ok (.getfield 15, 3) := dk_180 0 15 (dk_at dksX5_beside_0 18 rfl rfl)
theorem dX5_beside_21 : decode cX5_beside 21 = .ok (.iload_n 1, 1) := dk_27 (dk_at dksX5_beside_0 21 rfl rfl)
theorem dX5_beside_22 : decode cX5_beside 22 = .ok (.iaload, 1) := dk_46 (dk_at dksX5_beside_0 22 rfl rfl)
theorem dX5_beside_23 : decode cX5_beside 23 = .ok (.iaload, 1) := dk_46 (dk_at dksX5_beside_0 23 rfl rfl)
theorem dX5_beside_24 : decode cX5_beside 24 = .ok (.aload_n 0, 1) := dk_42 (dk_at dksX5_beside_1 0 rfl rfl)
theorem dX5_beside_25 : decode cX5_beside 25 = .ok (.getfield 3, 3) := dk_180 0 3 (dk_at dksX5_beside_1 1 rfl rfl)
theorem dX5_beside_28 : decode cX5_beside 28 = .ok (.getfield 26, 3) := dk_180 0 26 (dk_at dksX5_beside_1 4 rfl rfl)
theorem dX5_beside_31 : decode cX5_beside 31 = .ok (.getfield 45, 3) := dk_180 0 45 (dk_at dksX5_beside_1 7 rfl rfl)
theorem dX5_beside_34 : decode cX5_beside 34 = .ok (.aload_n 0, 1) := dk_42 (dk_at dksX5_beside_1 10 rfl rfl)
theorem dX5_beside_35 : decode cX5_beside 35 = .ok (.getfield 15, 3) := dk_180 0 15 (dk_at dksX5_beside_1 11 rfl rfl)
theorem dX5_beside_38 : decode cX5_beside 38 = .ok (.iload_n 2, 1) := dk_28 (dk_at dksX5_beside_1 14 rfl rfl)
theorem dX5_beside_39 : decode cX5_beside 39 = .ok (.iaload, 1) := dk_46 (dk_at dksX5_beside_1 15 rfl rfl)
theorem dX5_beside_40 : decode cX5_beside 40 = .ok (.iaload, 1) := dk_46 (dk_at dksX5_beside_1 16 rfl rfl)
theorem dX5_beside_41 : decode cX5_beside 41 = .ok (.invokevirtual 48, 3) := dk_182 0 48 (dk_at dksX5_beside_1 17 rfl rfl)
theorem dX5_beside_44 : decode cX5_beside 44 = .ok (.ireturn, 1) := dk_172 (dk_at dksX5_beside_1 20 rfl rfl)
abbrev cX5_by : ByteArray := prog_12_method_7_code
def yX5_by : MethodName := ⟨RX5, "by", "(III)I"⟩
def dkwX5_by_0 : List UInt8 := [42, 28, 29, 182, 0, 52, 42, 27, 4, 29, 120, 128, 29, 182, 0, 75, 96, 172]
abbrev dktX5_by_0 : List UInt8 := dkwX5_by_0 ++ []
theorem dksX5_by_0 : cX5_by.data.toList.drop 0 = dktX5_by_0 := by decide +kernel
theorem dX5_by_0 : decode cX5_by 0 = .ok (.aload_n 0, 1) := dk_42 (dk_at dksX5_by_0 0 rfl rfl)
theorem dX5_by_1 : decode cX5_by 1 = .ok (.iload_n 2, 1) := dk_28 (dk_at dksX5_by_0 1 rfl rfl)
theorem dX5_by_2 : decode cX5_by 2 = .ok (.iload_n 3, 1) := dk_29 (dk_at dksX5_by_0 2 rfl rfl)
theorem dX5_by_3 : decode cX5_by 3 = .ok (.invokevirtual 52, 3) := dk_182 0 52 (dk_at dksX5_by_0 3 rfl rfl)
theorem dX5_by_6 : decode cX5_by 6 = .ok (.aload_n 0, 1) := dk_42 (dk_at dksX5_by_0 6 rfl rfl)
theorem dX5_by_7 : decode cX5_by 7 = .ok (.iload_n 1, 1) := dk_27 (dk_at dksX5_by_0 7 rfl rfl)
theorem dX5_by_8 : decode cX5_by 8 = .ok (.iconst 1, 1) := dk_4 (dk_at dksX5_by_0 8 rfl rfl)
theorem dX5_by_9 : decode cX5_by 9 = .ok (.iload_n 3, 1) := dk_29 (dk_at dksX5_by_0 9 rfl rfl)
theorem dX5_by_10 : decode cX5_by 10 = .ok (.ishl, 1) := dk_120 (dk_at dksX5_by_0 10 rfl rfl)
theorem dX5_by_11 : decode cX5_by 11 = .ok (.ior, 1) := dk_128 (dk_at dksX5_by_0 11 rfl rfl)
theorem dX5_by_12 : decode cX5_by 12 = .ok (.iload_n 3, 1) := dk_29 (dk_at dksX5_by_0 12 rfl rfl)
theorem dX5_by_13 : decode cX5_by 13 = .ok (.invokevirtual 75, 3) := dk_182 0 75 (dk_at dksX5_by_0 13 rfl rfl)
theorem dX5_by_16 : decode cX5_by 16 = .ok (.iadd, 1) := dk_96 (dk_at dksX5_by_0 16 rfl rfl)
theorem dX5_by_17 : decode cX5_by 17 = .ok (.ireturn, 1) := dk_172 (dk_at dksX5_by_0 17 rfl rfl)
abbrev cX5_sitter : ByteArray := prog_12_method_8_code
def yX5_sitter : MethodName := ⟨RX5, "sitter", "(I)I"⟩
def dkwX5_sitter_3 : List UInt8 := [46, 172]
abbrev dktX5_sitter_3 : List UInt8 := dkwX5_sitter_3 ++ []
def dkwX5_sitter_2 : List UInt8 := [167, 255, 227, 28, 4, 21, 5, 120, 128, 61, 21, 5, 62, 132, 4, 1, 167, 255, 202, 42, 180, 0, 15, 29]
abbrev dktX5_sitter_2 : List UInt8 := dkwX5_sitter_2 ++ dktX5_sitter_3
def dkwX5_sitter_1 : List UInt8 := [154, 0, 20, 42, 28, 29, 21, 5, 182, 0, 66, 42, 28, 29, 182, 0, 75, 159, 0, 9, 132, 5, 1]
abbrev dktX5_sitter_1 : List UInt8 := dkwX5_sitter_1 ++ dktX5_sitter_2
def dkwX5_sitter_0 : List UInt8 := [4, 61, 3, 62, 3, 54, 4, 21, 4, 27, 162, 0, 54, 3, 54, 5, 28, 21, 5, 184, 0, 35]
abbrev dktX5_sitter_0 : List UInt8 := dkwX5_sitter_0 ++ dktX5_sitter_1
theorem dksX5_sitter_0 : cX5_sitter.data.toList.drop 0 = dktX5_sitter_0 := by decide +kernel
theorem dksX5_sitter_1 : cX5_sitter.data.toList.drop 22 = dktX5_sitter_1 := dk_seg dksX5_sitter_0 22 rfl rfl
theorem dksX5_sitter_2 : cX5_sitter.data.toList.drop 45 = dktX5_sitter_2 := dk_seg dksX5_sitter_1 23 rfl rfl
theorem dksX5_sitter_3 : cX5_sitter.data.toList.drop 69 = dktX5_sitter_3 := dk_seg dksX5_sitter_2 24 rfl rfl
theorem dX5_sitter_0 : decode cX5_sitter 0 = .ok (.iconst 1, 1) := dk_4 (dk_at dksX5_sitter_0 0 rfl rfl)
theorem dX5_sitter_1 : decode cX5_sitter 1 = .ok (.istore_n 2, 1) := dk_61 (dk_at dksX5_sitter_0 1 rfl rfl)
theorem dX5_sitter_2 : decode cX5_sitter 2 = .ok (.iconst 0, 1) := dk_3 (dk_at dksX5_sitter_0 2 rfl rfl)
theorem dX5_sitter_3 : decode cX5_sitter 3 = .ok (.istore_n 3, 1) := dk_62 (dk_at dksX5_sitter_0 3 rfl rfl)
theorem dX5_sitter_4 : decode cX5_sitter 4 = .ok (.iconst 0, 1) := dk_3 (dk_at dksX5_sitter_0 4 rfl rfl)
theorem dX5_sitter_5 : decode cX5_sitter 5 = .ok (.istore 4, 2) := dk_54 4 (dk_at dksX5_sitter_0 5 rfl rfl)
theorem dX5_sitter_7 : decode cX5_sitter 7 = .ok (.iload 4, 2) := dk_21 4 (dk_at dksX5_sitter_0 7 rfl rfl)
theorem dX5_sitter_9 : decode cX5_sitter 9 = .ok (.iload_n 1, 1) := dk_27 (dk_at dksX5_sitter_0 9 rfl rfl)
theorem dX5_sitter_10 : decode cX5_sitter 10 = .ok (.if_icmp .ge 54, 3) := dk_162 0 54 (dk_at dksX5_sitter_0 10 rfl rfl)
theorem dX5_sitter_13 : decode cX5_sitter 13 = .ok (.iconst 0, 1) := dk_3 (dk_at dksX5_sitter_0 13 rfl rfl)
theorem dX5_sitter_14 : decode cX5_sitter 14 = .ok (.istore 5, 2) := dk_54 5 (dk_at dksX5_sitter_0 14 rfl rfl)
theorem dX5_sitter_16 : decode cX5_sitter 16 = .ok (.iload_n 2, 1) := dk_28 (dk_at dksX5_sitter_0 16 rfl rfl)
theorem dX5_sitter_17 : decode cX5_sitter 17 = .ok (.iload 5, 2) := dk_21 5 (dk_at dksX5_sitter_0 17 rfl rfl)
theorem dX5_sitter_19 : decode cX5_sitter 19 = .ok (.invokestatic 35, 3) := dk_184 0 35 (dk_at dksX5_sitter_0 19 rfl rfl)
theorem dX5_sitter_22 : decode cX5_sitter 22 = .ok (.ifCond .ne 20, 3) := dk_154 0 20 (dk_at dksX5_sitter_1 0 rfl rfl)
theorem dX5_sitter_25 : decode cX5_sitter 25 = .ok (.aload_n 0, 1) := dk_42 (dk_at dksX5_sitter_1 3 rfl rfl)
theorem dX5_sitter_26 : decode cX5_sitter 26 = .ok (.iload_n 2, 1) := dk_28 (dk_at dksX5_sitter_1 4 rfl rfl)
theorem dX5_sitter_27 : decode cX5_sitter 27 = .ok (.iload_n 3, 1) := dk_29 (dk_at dksX5_sitter_1 5 rfl rfl)
theorem dX5_sitter_28 : decode cX5_sitter 28 = .ok (.iload 5, 2) := dk_21 5 (dk_at dksX5_sitter_1 6 rfl rfl)
theorem dX5_sitter_30 : decode cX5_sitter 30 = .ok (.invokevirtual 66, 3) := dk_182 0 66 (dk_at dksX5_sitter_1 8 rfl rfl)
theorem dX5_sitter_33 : decode cX5_sitter 33 = .ok (.aload_n 0, 1) := dk_42 (dk_at dksX5_sitter_1 11 rfl rfl)
theorem dX5_sitter_34 : decode cX5_sitter 34 = .ok (.iload_n 2, 1) := dk_28 (dk_at dksX5_sitter_1 12 rfl rfl)
theorem dX5_sitter_35 : decode cX5_sitter 35 = .ok (.iload_n 3, 1) := dk_29 (dk_at dksX5_sitter_1 13 rfl rfl)
theorem dX5_sitter_36 : decode cX5_sitter 36 = .ok (.invokevirtual 75, 3) := dk_182 0 75 (dk_at dksX5_sitter_1 14 rfl rfl)
theorem dX5_sitter_39 : decode cX5_sitter 39 = .ok (.if_icmp .eq 9, 3) := dk_159 0 9 (dk_at dksX5_sitter_1 17 rfl rfl)
theorem dX5_sitter_42 : decode cX5_sitter 42 = .ok (.iinc 5 1, 3) := dk_132 5 1 (dk_at dksX5_sitter_1 20 rfl rfl)
theorem dX5_sitter_45 : decode cX5_sitter 45 = .ok (.goto (-29), 3) := dk_167 255 227 (dk_at dksX5_sitter_2 0 rfl rfl)
theorem dX5_sitter_48 : decode cX5_sitter 48 = .ok (.iload_n 2, 1) := dk_28 (dk_at dksX5_sitter_2 3 rfl rfl)
theorem dX5_sitter_49 : decode cX5_sitter 49 = .ok (.iconst 1, 1) := dk_4 (dk_at dksX5_sitter_2 4 rfl rfl)
theorem dX5_sitter_50 : decode cX5_sitter 50 = .ok (.iload 5, 2) := dk_21 5 (dk_at dksX5_sitter_2 5 rfl rfl)
theorem dX5_sitter_52 : decode cX5_sitter 52 = .ok (.ishl, 1) := dk_120 (dk_at dksX5_sitter_2 7 rfl rfl)
theorem dX5_sitter_53 : decode cX5_sitter 53 = .ok (.ior, 1) := dk_128 (dk_at dksX5_sitter_2 8 rfl rfl)
theorem dX5_sitter_54 : decode cX5_sitter 54 = .ok (.istore_n 2, 1) := dk_61 (dk_at dksX5_sitter_2 9 rfl rfl)
theorem dX5_sitter_55 : decode cX5_sitter 55 = .ok (.iload 5, 2) := dk_21 5 (dk_at dksX5_sitter_2 10 rfl rfl)
theorem dX5_sitter_57 : decode cX5_sitter 57 = .ok (.istore_n 3, 1) := dk_62 (dk_at dksX5_sitter_2 12 rfl rfl)
theorem dX5_sitter_58 : decode cX5_sitter 58 = .ok (.iinc 4 1, 3) := dk_132 4 1 (dk_at dksX5_sitter_2 13 rfl rfl)
theorem dX5_sitter_61 : decode cX5_sitter 61 = .ok (.goto (-54), 3) := dk_167 255 202 (dk_at dksX5_sitter_2 16 rfl rfl)
theorem dX5_sitter_64 : decode cX5_sitter 64 = .ok (.aload_n 0, 1) := dk_42 (dk_at dksX5_sitter_2 19 rfl rfl)
theorem dX5_sitter_65 : decode cX5_sitter 65 = .ok (.getfield 15, 3) := dk_180 0 15 (dk_at dksX5_sitter_2 20 rfl rfl)
theorem dX5_sitter_68 : decode cX5_sitter 68 = .ok (.iload_n 3, 1) := dk_29 (dk_at dksX5_sitter_2 23 rfl rfl)
theorem dX5_sitter_69 : decode cX5_sitter 69 = .ok (.iaload, 1) := dk_46 (dk_at dksX5_sitter_3 0 rfl rfl)
theorem dX5_sitter_70 : decode cX5_sitter 70 = .ok (.ireturn, 1) := dk_172 (dk_at dksX5_sitter_3 1 rfl rfl)
theorem q124 : (Jvm.Cond.initialized "CheekTown$Ring") ∈ lw_all := lw_g (lw_at lw_m1 8 rfl) rfl
theorem q185 : (Jvm.Cond.fieldLinkNest "CheekTown$Ring" (30 : Nat) "CheekTown$World" "people" "I" "CheekTown") ∈ lw_tbl := lw_at lw_m1 69 rfl
theorem q221 : (Jvm.Cond.fieldLinkNest "CheekTown$Ring" (45 : Nat) "CheekTown$World" "own" "[I" "CheekTown") ∈ lw_tbl := lw_at lw_m1 105 rfl
theorem q411 : (Jvm.Cond.instantiable "CheekTown$Ring" (4 : Nat)) ∈ lw_all := lw_g (lw_at lw_m2 55 rfl) rfl
theorem q413 : (Jvm.Cond.instanceMethod ({ cls := "CheekTown$Ring", name := "<init>", desc := "(LCheekTown;)V" } : Jvm.MethodName)) ∈ lw_all := lw_g (lw_at lw_m2 57 rfl) rfl
theorem q414 : (Jvm.Cond.code ({ cls := "CheekTown$Ring", name := "<init>", desc := "(LCheekTown;)V" } : Jvm.MethodName) prog_12_method_1_code (2 : Nat) (Option.none : Option Jvm.ClassFile.FieldType)) ∈ lw_all := lw_g (lw_at lw_m2 58 rfl) rfl
theorem q415 : (Jvm.Cond.methodLink "CheekTown$Ring" (9 : Nat) ({ cls := "java/lang/Object", name := "<init>", desc := "()V" } : Jvm.MethodName)) ∈ lw_all := lw_g (lw_at lw_m2 59 rfl) rfl
theorem q416 : (Jvm.Cond.fieldLink "CheekTown$Ring" (15 : Nat) "CheekTown$Ring" "who" "[I") ∈ lw_all := lw_g (lw_at lw_m2 60 rfl) rfl
theorem q417 : (Jvm.Cond.fieldLink "CheekTown$Ring" (22 : Nat) "CheekTown$Ring" "many" "I") ∈ lw_all := lw_g (lw_at lw_m2 61 rfl) rfl
theorem q418 : (Jvm.Cond.fieldLink "CheekTown$Ring" (19 : Nat) "CheekTown$Ring" "least" "[I") ∈ lw_all := lw_g (lw_at lw_m2 62 rfl) rfl
theorem q419 : (Jvm.Cond.fieldLink "CheekTown$Ring" (3 : Nat) "CheekTown$Ring" "this$0" "LCheekTown;") ∈ lw_all := lw_g (lw_at lw_m2 63 rfl) rfl
theorem q420 : (Jvm.Cond.laysFinal "CheekTown$Ring" "CheekTown$Ring" "who" "[I") ∈ lw_all := lw_g (lw_at lw_m2 64 rfl) rfl
theorem q421 : (Jvm.Cond.soleField "CheekTown$Ring" "who") ∈ lw_all := lw_g (lw_at lw_m2 65 rfl) rfl
theorem q422 : (Jvm.Cond.lays "CheekTown$Ring" "CheekTown$Ring" "many" "I") ∈ lw_all := lw_g (lw_at lw_m2 66 rfl) rfl
theorem q423 : (Jvm.Cond.soleField "CheekTown$Ring" "many") ∈ lw_all := lw_g (lw_at lw_m2 67 rfl) rfl
theorem q424 : (Jvm.Cond.laysFinal "CheekTown$Ring" "CheekTown$Ring" "least" "[I") ∈ lw_all := lw_g (lw_at lw_m2 68 rfl) rfl
theorem q425 : (Jvm.Cond.soleField "CheekTown$Ring" "least") ∈ lw_all := lw_g (lw_at lw_m2 69 rfl) rfl
theorem q426 : (Jvm.Cond.laysFinal "CheekTown$Ring" "CheekTown$Ring" "this$0" "LCheekTown;") ∈ lw_all := lw_g (lw_at lw_m2 70 rfl) rfl
theorem q427 : (Jvm.Cond.soleField "CheekTown$Ring" "this$0") ∈ lw_all := lw_g (lw_at lw_m2 71 rfl) rfl
theorem q428 : (Jvm.Cond.superclass "CheekTown$Ring" "java/lang/Object") ∈ lw_all := lw_g (lw_at lw_m2 72 rfl) rfl
theorem q468 : (Jvm.Cond.fieldLinkNest "CheekTown$Ring" (26 : Nat) "CheekTown" "world" "LCheekTown$World;" "CheekTown") ∈ lw_tbl := lw_at lw_m2 112 rfl
theorem q604 : (Jvm.Cond.instanceMethod ({ cls := "CheekTown$Ring", name := "seats", desc := "(I)LCheekTown$Ring;" } : Jvm.MethodName)) ∈ lw_all := lw_g (lw_at lw_m3 8 rfl) rfl
theorem q605 : (Jvm.Cond.selects "CheekTown$Ring" ({ cls := "CheekTown$Ring", name := "seats", desc := "(I)LCheekTown$Ring;" } : Jvm.MethodName) ({ cls := "CheekTown$Ring", name := "seats", desc := "(I)LCheekTown$Ring;" } : Jvm.MethodName)) ∈ lw_all := lw_g (lw_at lw_m3 9 rfl) rfl
theorem q606 : (Jvm.Cond.code ({ cls := "CheekTown$Ring", name := "seats", desc := "(I)LCheekTown$Ring;" } : Jvm.MethodName) prog_12_method_2_code (3 : Nat) (Option.some (Jvm.ClassFile.FieldType.object "CheekTown$Ring"))) ∈ lw_all := lw_g (lw_at lw_m3 10 rfl) rfl
theorem q607 : (Jvm.Cond.methodLinkNest "CheekTown$Ring" (35 : Nat) ({ cls := "CheekTown", name := "has", desc := "(II)Z" } : Jvm.MethodName) "CheekTown") ∈ lw_tbl := lw_at lw_m3 11 rfl
theorem q610 : (Jvm.Cond.methodLink "CheekTown$Ring" (39 : Nat) ({ cls := "java/util/Arrays", name := "fill", desc := "([IIII)V" } : Jvm.MethodName)) ∈ lw_all := lw_g (lw_at lw_m3 14 rfl) rfl
theorem q951 : (Jvm.Cond.instanceMethod ({ cls := "CheekTown$Ring", name := "from", desc := "(II)I" } : Jvm.MethodName)) ∈ lw_all := lw_g (lw_at lw_m4 115 rfl) rfl
theorem q952 : (Jvm.Cond.selects "CheekTown$Ring" ({ cls := "CheekTown$Ring", name := "from", desc := "(II)I" } : Jvm.MethodName) ({ cls := "CheekTown$Ring", name := "from", desc := "(II)I" } : Jvm.MethodName)) ∈ lw_all := lw_g (lw_at lw_m4 116 rfl) rfl
theorem q953 : (Jvm.Cond.code ({ cls := "CheekTown$Ring", name := "from", desc := "(II)I" } : Jvm.MethodName) prog_12_method_6_code (6 : Nat) (Option.some Jvm.ClassFile.FieldType.int)) ∈ lw_all := lw_g (lw_at lw_m4 117 rfl) rfl
theorem q954 : (Jvm.Cond.methodLink "CheekTown$Ring" (55 : Nat) ({ cls := "CheekTown$Ring", name := "isFull", desc := "(I)Z" } : Jvm.MethodName)) ∈ lw_all := lw_g (lw_at lw_m4 118 rfl) rfl
theorem q955 : (Jvm.Cond.instanceMethod ({ cls := "CheekTown$Ring", name := "isFull", desc := "(I)Z" } : Jvm.MethodName)) ∈ lw_all := lw_g (lw_at lw_m4 119 rfl) rfl
theorem q956 : (Jvm.Cond.selects "CheekTown$Ring" ({ cls := "CheekTown$Ring", name := "isFull", desc := "(I)Z" } : Jvm.MethodName) ({ cls := "CheekTown$Ring", name := "isFull", desc := "(I)Z" } : Jvm.MethodName)) ∈ lw_all := lw_g (lw_at lw_m4 120 rfl) rfl
theorem q957 : (Jvm.Cond.code ({ cls := "CheekTown$Ring", name := "isFull", desc := "(I)Z" } : Jvm.MethodName) prog_12_method_4_code (2 : Nat) (Option.some Jvm.ClassFile.FieldType.boolean)) ∈ lw_all := lw_g (lw_at lw_m4 121 rfl) rfl
theorem q958 : (Jvm.Cond.methodLink "CheekTown$Ring" (59 : Nat) ({ cls := "CheekTown$Ring", name := "closes", desc := "(I)I" } : Jvm.MethodName)) ∈ lw_all := lw_g (lw_at lw_m4 122 rfl) rfl
theorem q959 : (Jvm.Cond.instanceMethod ({ cls := "CheekTown$Ring", name := "closes", desc := "(I)I" } : Jvm.MethodName)) ∈ lw_all := lw_g (lw_at lw_m4 123 rfl) rfl
theorem q960 : (Jvm.Cond.selects "CheekTown$Ring" ({ cls := "CheekTown$Ring", name := "closes", desc := "(I)I" } : Jvm.MethodName) ({ cls := "CheekTown$Ring", name := "closes", desc := "(I)I" } : Jvm.MethodName)) ∈ lw_all := lw_g (lw_at lw_m4 124 rfl) rfl
theorem q961 : (Jvm.Cond.code ({ cls := "CheekTown$Ring", name := "closes", desc := "(I)I" } : Jvm.MethodName) prog_12_method_5_code (2 : Nat) (Option.some Jvm.ClassFile.FieldType.int)) ∈ lw_all := lw_g (lw_at lw_m4 125 rfl) rfl
theorem q962 : (Jvm.Cond.methodLink "CheekTown$Ring" (52 : Nat) ({ cls := "CheekTown$Ring", name := "beside", desc := "(II)I" } : Jvm.MethodName)) ∈ lw_all := lw_g (lw_at lw_m4 126 rfl) rfl
theorem q963 : (Jvm.Cond.instanceMethod ({ cls := "CheekTown$Ring", name := "beside", desc := "(II)I" } : Jvm.MethodName)) ∈ lw_all := lw_g (lw_at lw_m4 127 rfl) rfl
theorem q964 : (Jvm.Cond.selects "CheekTown$Ring" ({ cls := "CheekTown$Ring", name := "beside", desc := "(II)I" } : Jvm.MethodName) ({ cls := "CheekTown$Ring", name := "beside", desc := "(II)I" } : Jvm.MethodName)) ∈ lw_all := lw_g (lw_at lw_m4 128 rfl) rfl
theorem q965 : (Jvm.Cond.code ({ cls := "CheekTown$Ring", name := "beside", desc := "(II)I" } : Jvm.MethodName) prog_12_method_3_code (3 : Nat) (Option.some Jvm.ClassFile.FieldType.int)) ∈ lw_all := lw_g (lw_at lw_m4 129 rfl) rfl
theorem q966 : (Jvm.Cond.methodLink "CheekTown$Ring" (48 : Nat) ({ cls := "CheekTown$World", name := "cost", desc := "(II)I" } : Jvm.MethodName)) ∈ lw_all := lw_g (lw_at lw_m4 130 rfl) rfl
theorem q967 : (Jvm.Cond.constant "CheekTown$Ring" (65 : Nat) (2147483647 : Int32)) ∈ lw_all := lw_g (lw_at lw_m4 131 rfl) rfl
theorem q968 : (Jvm.Cond.methodLink "CheekTown$Ring" (66 : Nat) ({ cls := "CheekTown$Ring", name := "by", desc := "(III)I" } : Jvm.MethodName)) ∈ lw_all := lw_g (lw_at lw_m4 132 rfl) rfl
theorem q969 : (Jvm.Cond.instanceMethod ({ cls := "CheekTown$Ring", name := "by", desc := "(III)I" } : Jvm.MethodName)) ∈ lw_all := lw_g (lw_at lw_m4 133 rfl) rfl
theorem q970 : (Jvm.Cond.selects "CheekTown$Ring" ({ cls := "CheekTown$Ring", name := "by", desc := "(III)I" } : Jvm.MethodName) ({ cls := "CheekTown$Ring", name := "by", desc := "(III)I" } : Jvm.MethodName)) ∈ lw_all := lw_g (lw_at lw_m4 134 rfl) rfl
theorem q971 : (Jvm.Cond.code ({ cls := "CheekTown$Ring", name := "by", desc := "(III)I" } : Jvm.MethodName) prog_12_method_7_code (4 : Nat) (Option.some Jvm.ClassFile.FieldType.int)) ∈ lw_all := lw_g (lw_at lw_m4 135 rfl) rfl
theorem q972 : (Jvm.Cond.methodLink "CheekTown$Ring" (75 : Nat) ({ cls := "CheekTown$Ring", name := "from", desc := "(II)I" } : Jvm.MethodName)) ∈ lw_all := lw_g (lw_at lw_m4 136 rfl) rfl
theorem q973 : (Jvm.Cond.methodLink "CheekTown$Ring" (70 : Nat) ({ cls := "java/lang/Math", name := "min", desc := "(II)I" } : Jvm.MethodName)) ∈ lw_all := lw_g (lw_at lw_m4 137 rfl) rfl
theorem q975 : (Jvm.Cond.instanceMethod ({ cls := "CheekTown$Ring", name := "sitter", desc := "(I)I" } : Jvm.MethodName)) ∈ lw_all := lw_g (lw_at lw_m4 139 rfl) rfl
theorem q976 : (Jvm.Cond.selects "CheekTown$Ring" ({ cls := "CheekTown$Ring", name := "sitter", desc := "(I)I" } : Jvm.MethodName) ({ cls := "CheekTown$Ring", name := "sitter", desc := "(I)I" } : Jvm.MethodName)) ∈ lw_all := lw_g (lw_at lw_m4 140 rfl) rfl
theorem q977 : (Jvm.Cond.code ({ cls := "CheekTown$Ring", name := "sitter", desc := "(I)I" } : Jvm.MethodName) prog_12_method_8_code (6 : Nat) (Option.some Jvm.ClassFile.FieldType.int)) ∈ lw_all := lw_g (lw_at lw_m4 141 rfl) rfl
theorem q1564 : (Jvm.Cond.selects "CheekTown$Ring" ({ cls := "java/lang/Object", name := "getClass", desc := "()Ljava/lang/Class;" } : Jvm.MethodName) ({ cls := "java/lang/Object", name := "getClass", desc := "()Ljava/lang/Class;" } : Jvm.MethodName)) ∈ lw_all := lw_g (lw_at lw_m7 8 rfl) rfl
theorem q2745 : (Jvm.Cond.castable "CheekTown$Ring" "java/lang/Object") ∈ lw_tbl := lw_at lw_m11 229 rfl
theorem in_X5 : ∀ w ∈ wsX50, w ∈ lw_all := lw_in wsX50 [420, 422, 424, 426] (by decide +kernel) (by decide +kernel)

/-! CheekTown$Pairing -/
set_option maxRecDepth 100000
def RX6 : String := "CheekTown$Pairing"
def TX6 : u_T := fun k => match k with
  | 0 => ("CheekTown$Pairing", "most", "[B", true)
  | _ => ("CheekTown$Pairing", "this$0", "LCheekTown;", true)
def tyX6 : Nat → FieldType := fun k => match k with
  | 0 => .array .byte
  | _ => .object "CheekTown"
abbrev wsX60 : List Cond := u_ws RX6 TX6 2
theorem nmX6 : ∀ a, a < 2 → ∀ b, b < 2 → a ≠ b → (TX6 a).2.1 ≠ (TX6 b).2.1 := by decide +kernel
theorem tyX6_ok : ∀ k, k < 2 → parseFieldDescriptor (TX6 k).2.2.1 = some (tyX6 k) := by decide +kernel
abbrev cX6_init : ByteArray := prog_9_method_1_code
def yX6_init : MethodName := ⟨RX6, "<init>", "(LCheekTown;)V"⟩
def dkwX6_init_0 : List UInt8 := [42, 43, 181, 0, 3, 42, 183, 0, 9, 42, 17, 100, 0, 188, 8, 181, 0, 15, 177]
abbrev dktX6_init_0 : List UInt8 := dkwX6_init_0 ++ []
theorem dksX6_init_0 : cX6_init.data.toList.drop 0 = dktX6_init_0 := by decide +kernel
theorem dX6_init_0 : decode cX6_init 0 = .ok (.aload_n 0, 1) := dk_42 (dk_at dksX6_init_0 0 rfl rfl)
theorem dX6_init_1 : decode cX6_init 1 = .ok (.aload_n 1, 1) := dk_43 (dk_at dksX6_init_0 1 rfl rfl)
theorem dX6_init_2 : decode cX6_init 2 = .ok (.putfield 3, 3) := dk_181 0 3 (dk_at dksX6_init_0 2 rfl rfl)
theorem dX6_init_5 : decode cX6_init 5 = .ok (.aload_n 0, 1) := dk_42 (dk_at dksX6_init_0 5 rfl rfl)
theorem dX6_init_6 : decode cX6_init 6 = .ok (.invokespecial 9, 3) := dk_183 0 9 (dk_at dksX6_init_0 6 rfl rfl)
theorem dX6_init_9 : decode cX6_init 9 = .ok (.aload_n 0, 1) := dk_42 (dk_at dksX6_init_0 9 rfl rfl)
theorem dX6_init_10 : decode cX6_init 10 = .ok (.sipush 25600, 3) := dk_17 100 0 (dk_at dksX6_init_0 10 rfl rfl)
theorem dX6_init_13 : decode cX6_init 13 = .ok (.newarray .byte, 2) := dk_188_8 (dk_at dksX6_init_0 13 rfl rfl)
theorem dX6_init_15 : decode cX6_init 15 = .ok (.putfield 15, 3) := dk_181 0 15 (dk_at dksX6_init_0 15 rfl rfl)
theorem dX6_init_18 : decode cX6_init 18 = .ok (.return_, 1) := dk_177 (dk_at dksX6_init_0 18 rfl rfl)
abbrev cX6_anew : ByteArray := prog_9_method_2_code
def yX6_anew : MethodName := ⟨RX6, "anew", "()LCheekTown$Pairing;"⟩
def dkwX6_anew_1 : List UInt8 := [42, 176]
abbrev dktX6_anew_1 : List UInt8 := dkwX6_anew_1 ++ []
def dkwX6_anew_0 : List UInt8 := [42, 180, 0, 15, 3, 42, 180, 0, 3, 180, 0, 19, 180, 0, 23, 4, 96, 16, 10, 120, 2, 184, 0, 29]
abbrev dktX6_anew_0 : List UInt8 := dkwX6_anew_0 ++ dktX6_anew_1
theorem dksX6_anew_0 : cX6_anew.data.toList.drop 0 = dktX6_anew_0 := by decide +kernel
theorem dksX6_anew_1 : cX6_anew.data.toList.drop 24 = dktX6_anew_1 := dk_seg dksX6_anew_0 24 rfl rfl
theorem dX6_anew_0 : decode cX6_anew 0 = .ok (.aload_n 0, 1) := dk_42 (dk_at dksX6_anew_0 0 rfl rfl)
theorem dX6_anew_1 : decode cX6_anew 1 = .ok (.getfield 15, 3) := dk_180 0 15 (dk_at dksX6_anew_0 1 rfl rfl)
theorem dX6_anew_4 : decode cX6_anew 4 = .ok (.iconst 0, 1) := dk_3 (dk_at dksX6_anew_0 4 rfl rfl)
theorem dX6_anew_5 : decode cX6_anew 5 = .ok (.aload_n 0, 1) := dk_42 (dk_at dksX6_anew_0 5 rfl rfl)
theorem dX6_anew_6 : decode cX6_anew 6 = .ok (.getfield 3, 3) := dk_180 0 3 (dk_at dksX6_anew_0 6 rfl rfl)
theorem dX6_anew_9 : decode cX6_anew 9 = .ok (.getfield 19, 3) := dk_180 0 19 (dk_at dksX6_anew_0 9 rfl rfl)
theorem dX6_anew_12 : decode cX6_anew 12 = .ok (.getfield 23, 3) := dk_180 0 23 (dk_at dksX6_anew_0 12 rfl rfl)
theorem dX6_anew_15 : decode cX6_anew 15 = .ok (.iconst 1, 1) := dk_4 (dk_at dksX6_anew_0 15 rfl rfl)
theorem dX6_anew_16 : decode cX6_anew 16 = .ok (.iadd, 1) := dk_96 (dk_at dksX6_anew_0 16 rfl rfl)
theorem dX6_anew_17 : decode cX6_anew 17 = .ok (.bipush 10, 2) := dk_16 10 (dk_at dksX6_anew_0 17 rfl rfl)
theorem dX6_anew_19 : decode cX6_anew 19 = .ok (.ishl, 1) := dk_120 (dk_at dksX6_anew_0 19 rfl rfl)
theorem dX6_anew_20 : decode cX6_anew 20 = .ok (.iconst (-1), 1) := dk_2 (dk_at dksX6_anew_0 20 rfl rfl)
theorem dX6_anew_21 : decode cX6_anew 21 = .ok (.invokestatic 29, 3) := dk_184 0 29 (dk_at dksX6_anew_0 21 rfl rfl)
theorem dX6_anew_24 : decode cX6_anew 24 = .ok (.aload_n 0, 1) := dk_42 (dk_at dksX6_anew_1 0 rfl rfl)
theorem dX6_anew_25 : decode cX6_anew 25 = .ok (.areturn, 1) := dk_176 (dk_at dksX6_anew_1 1 rfl rfl)
abbrev cX6_from : ByteArray := prog_9_method_5_code
def yX6_from : MethodName := ⟨RX6, "from", "(II)I"⟩
def dkwX6_from_3 : List UInt8 := [128, 182, 0, 46, 96, 184, 0, 57, 54, 4, 42, 180, 0, 15, 29, 21, 4, 145, 84, 21, 4, 172]
abbrev dktX6_from_3 : List UInt8 := dkwX6_from_3 ++ []
def dkwX6_from_2 : List UInt8 := [54, 4, 42, 27, 28, 182, 0, 50, 153, 0, 26, 21, 4, 4, 42, 27, 4, 96, 28, 42, 27, 182, 0, 53]
abbrev dktX6_from_2 : List UInt8 := dkwX6_from_2 ++ dktX6_from_3
def dkwX6_from_1 : List UInt8 := [180, 0, 15, 29, 51, 2, 159, 0, 10, 42, 180, 0, 15, 29, 51, 172, 42, 27, 4, 96, 28, 182, 0, 46]
abbrev dktX6_from_1 : List UInt8 := dkwX6_from_1 ++ dktX6_from_2
def dkwX6_from_0 : List UInt8 := [27, 42, 180, 0, 3, 180, 0, 19, 180, 0, 23, 160, 0, 5, 3, 172, 27, 16, 10, 120, 28, 128, 62, 42]
abbrev dktX6_from_0 : List UInt8 := dkwX6_from_0 ++ dktX6_from_1
theorem dksX6_from_0 : cX6_from.data.toList.drop 0 = dktX6_from_0 := by decide +kernel
theorem dksX6_from_1 : cX6_from.data.toList.drop 24 = dktX6_from_1 := dk_seg dksX6_from_0 24 rfl rfl
theorem dksX6_from_2 : cX6_from.data.toList.drop 48 = dktX6_from_2 := dk_seg dksX6_from_1 24 rfl rfl
theorem dksX6_from_3 : cX6_from.data.toList.drop 72 = dktX6_from_3 := dk_seg dksX6_from_2 24 rfl rfl
theorem dX6_from_0 : decode cX6_from 0 = .ok (.iload_n 1, 1) := dk_27 (dk_at dksX6_from_0 0 rfl rfl)
theorem dX6_from_1 : decode cX6_from 1 = .ok (.aload_n 0, 1) := dk_42 (dk_at dksX6_from_0 1 rfl rfl)
theorem dX6_from_2 : decode cX6_from 2 = .ok (.getfield 3, 3) := dk_180 0 3 (dk_at dksX6_from_0 2 rfl rfl)
theorem dX6_from_5 : decode cX6_from 5 = .ok (.getfield 19, 3) := dk_180 0 19 (dk_at dksX6_from_0 5 rfl rfl)
theorem dX6_from_8 : decode cX6_from 8 = .ok (.getfield 23, 3) := dk_180 0 23 (dk_at dksX6_from_0 8 rfl rfl)
theorem dX6_from_11 : decode cX6_from 11 = .ok (.if_icmp .ne 5, 3) := dk_160 0 5 (dk_at dksX6_from_0 11 rfl rfl)
theorem dX6_from_14 : decode cX6_from 14 = .ok (.iconst 0, 1) := dk_3 (dk_at dksX6_from_0 14 rfl rfl)
theorem dX6_from_15 : decode cX6_from 15 = .ok (.ireturn, 1) := dk_172 (dk_at dksX6_from_0 15 rfl rfl)
theorem dX6_from_16 : decode cX6_from 16 = .ok (.iload_n 1, 1) := dk_27 (dk_at dksX6_from_0 16 rfl rfl)
theorem dX6_from_17 : decode cX6_from 17 = .ok (.bipush 10, 2) := dk_16 10 (dk_at dksX6_from_0 17 rfl rfl)
theorem dX6_from_19 : decode cX6_from 19 = .ok (.ishl, 1) := dk_120 (dk_at dksX6_from_0 19 rfl rfl)
theorem dX6_from_20 : decode cX6_from 20 = .ok (.iload_n 2, 1) := dk_28 (dk_at dksX6_from_0 20 rfl rfl)
theorem dX6_from_21 : decode cX6_from 21 = .ok (.ior, 1) := dk_128 (dk_at dksX6_from_0 21 rfl rfl)
theorem dX6_from_22 : decode cX6_from 22 = .ok (.istore_n 3, 1) := dk_62 (dk_at dksX6_from_0 22 rfl rfl)
theorem dX6_from_23 : decode cX6_from 23 = .ok (.aload_n 0, 1) := dk_42 (dk_at dksX6_from_0 23 rfl rfl)
theorem dX6_from_24 : decode cX6_from 24 = .ok (.getfield 15, 3) := dk_180 0 15 (dk_at dksX6_from_1 0 rfl rfl)
theorem dX6_from_27 : decode cX6_from 27 = .ok (.iload_n 3, 1) := dk_29 (dk_at dksX6_from_1 3 rfl rfl)
theorem dX6_from_28 : decode cX6_from 28 = .ok (.baload, 1) := dk_51 (dk_at dksX6_from_1 4 rfl rfl)
theorem dX6_from_29 : decode cX6_from 29 = .ok (.iconst (-1), 1) := dk_2 (dk_at dksX6_from_1 5 rfl rfl)
theorem dX6_from_30 : decode cX6_from 30 = .ok (.if_icmp .eq 10, 3) := dk_159 0 10 (dk_at dksX6_from_1 6 rfl rfl)
theorem dX6_from_33 : decode cX6_from 33 = .ok (.aload_n 0, 1) := dk_42 (dk_at dksX6_from_1 9 rfl rfl)
theorem dX6_from_34 : decode cX6_from 34 = .ok (.getfield 15, 3) := dk_180 0 15 (dk_at dksX6_from_1 10 rfl rfl)
theorem dX6_from_37 : decode cX6_from 37 = .ok (.iload_n 3, 1) := dk_29 (dk_at dksX6_from_1 13 rfl rfl)
theorem dX6_from_38 : decode cX6_from 38 = .ok (.baload, 1) := dk_51 (dk_at dksX6_from_1 14 rfl rfl)
theorem dX6_from_39 : decode cX6_from 39 = .ok (.ireturn, 1) := dk_172 (dk_at dksX6_from_1 15 rfl rfl)
theorem dX6_from_40 : decode cX6_from 40 = .ok (.aload_n 0, 1) := dk_42 (dk_at dksX6_from_1 16 rfl rfl)
theorem dX6_from_41 : decode cX6_from 41 = .ok (.iload_n 1, 1) := dk_27 (dk_at dksX6_from_1 17 rfl rfl)
theorem dX6_from_42 : decode cX6_from 42 = .ok (.iconst 1, 1) := dk_4 (dk_at dksX6_from_1 18 rfl rfl)
theorem dX6_from_43 : decode cX6_from 43 = .ok (.iadd, 1) := dk_96 (dk_at dksX6_from_1 19 rfl rfl)
theorem dX6_from_44 : decode cX6_from 44 = .ok (.iload_n 2, 1) := dk_28 (dk_at dksX6_from_1 20 rfl rfl)
theorem dX6_from_45 : decode cX6_from 45 = .ok (.invokevirtual 46, 3) := dk_182 0 46 (dk_at dksX6_from_1 21 rfl rfl)
theorem dX6_from_48 : decode cX6_from 48 = .ok (.istore 4, 2) := dk_54 4 (dk_at dksX6_from_2 0 rfl rfl)
theorem dX6_from_50 : decode cX6_from 50 = .ok (.aload_n 0, 1) := dk_42 (dk_at dksX6_from_2 2 rfl rfl)
theorem dX6_from_51 : decode cX6_from 51 = .ok (.iload_n 1, 1) := dk_27 (dk_at dksX6_from_2 3 rfl rfl)
theorem dX6_from_52 : decode cX6_from 52 = .ok (.iload_n 2, 1) := dk_28 (dk_at dksX6_from_2 4 rfl rfl)
theorem dX6_from_53 : decode cX6_from 53 = .ok (.invokevirtual 50, 3) := dk_182 0 50 (dk_at dksX6_from_2 5 rfl rfl)
theorem dX6_from_56 : decode cX6_from 56 = .ok (.ifCond .eq 26, 3) := dk_153 0 26 (dk_at dksX6_from_2 8 rfl rfl)
theorem dX6_from_59 : decode cX6_from 59 = .ok (.iload 4, 2) := dk_21 4 (dk_at dksX6_from_2 11 rfl rfl)
theorem dX6_from_61 : decode cX6_from 61 = .ok (.iconst 1, 1) := dk_4 (dk_at dksX6_from_2 13 rfl rfl)
theorem dX6_from_62 : decode cX6_from 62 = .ok (.aload_n 0, 1) := dk_42 (dk_at dksX6_from_2 14 rfl rfl)
theorem dX6_from_63 : decode cX6_from 63 = .ok (.iload_n 1, 1) := dk_27 (dk_at dksX6_from_2 15 rfl rfl)
theorem dX6_from_64 : decode cX6_from 64 = .ok (.iconst 1, 1) := dk_4 (dk_at dksX6_from_2 16 rfl rfl)
theorem dX6_from_65 : decode cX6_from 65 = .ok (.iadd, 1) := dk_96 (dk_at dksX6_from_2 17 rfl rfl)
theorem dX6_from_66 : decode cX6_from 66 = .ok (.iload_n 2, 1) := dk_28 (dk_at dksX6_from_2 18 rfl rfl)
theorem dX6_from_67 : decode cX6_from 67 = .ok (.aload_n 0, 1) := dk_42 (dk_at dksX6_from_2 19 rfl rfl)
theorem dX6_from_68 : decode cX6_from 68 = .ok (.iload_n 1, 1) := dk_27 (dk_at dksX6_from_2 20 rfl rfl)
theorem dX6_from_69 : decode cX6_from 69 = .ok (.invokevirtual 53, 3) := dk_182 0 53 (dk_at dksX6_from_2 21 rfl rfl)
theorem dX6_from_72 : decode cX6_from 72 = .ok (.ior, 1) := dk_128 (dk_at dksX6_from_3 0 rfl rfl)
theorem dX6_from_73 : decode cX6_from 73 = .ok (.invokevirtual 46, 3) := dk_182 0 46 (dk_at dksX6_from_3 1 rfl rfl)
theorem dX6_from_76 : decode cX6_from 76 = .ok (.iadd, 1) := dk_96 (dk_at dksX6_from_3 4 rfl rfl)
theorem dX6_from_77 : decode cX6_from 77 = .ok (.invokestatic 57, 3) := dk_184 0 57 (dk_at dksX6_from_3 5 rfl rfl)
theorem dX6_from_80 : decode cX6_from 80 = .ok (.istore 4, 2) := dk_54 4 (dk_at dksX6_from_3 8 rfl rfl)
theorem dX6_from_82 : decode cX6_from 82 = .ok (.aload_n 0, 1) := dk_42 (dk_at dksX6_from_3 10 rfl rfl)
theorem dX6_from_83 : decode cX6_from 83 = .ok (.getfield 15, 3) := dk_180 0 15 (dk_at dksX6_from_3 11 rfl rfl)
theorem dX6_from_86 : decode cX6_from 86 = .ok (.iload_n 3, 1) := dk_29 (dk_at dksX6_from_3 14 rfl rfl)
theorem dX6_from_87 : decode cX6_from 87 = .ok (.iload 4, 2) := dk_21 4 (dk_at dksX6_from_3 15 rfl rfl)
theorem dX6_from_89 : decode cX6_from 89 = .ok (.i2b, 1) := dk_145 (dk_at dksX6_from_3 17 rfl rfl)
theorem dX6_from_90 : decode cX6_from 90 = .ok (.bastore, 1) := dk_84 (dk_at dksX6_from_3 18 rfl rfl)
theorem dX6_from_91 : decode cX6_from 91 = .ok (.iload 4, 2) := dk_21 4 (dk_at dksX6_from_3 19 rfl rfl)
theorem dX6_from_93 : decode cX6_from 93 = .ok (.ireturn, 1) := dk_172 (dk_at dksX6_from_3 21 rfl rfl)
abbrev cX6_isFree : ByteArray := prog_9_method_3_code
def yX6_isFree : MethodName := ⟨RX6, "isFree", "(II)Z"⟩
def dkwX6_isFree_1 : List UInt8 := [180, 0, 19, 180, 0, 43, 27, 46, 184, 0, 39, 154, 0, 7, 4, 167, 0, 4, 3, 172]
abbrev dktX6_isFree_1 : List UInt8 := dkwX6_isFree_1 ++ []
def dkwX6_isFree_0 : List UInt8 := [28, 42, 180, 0, 3, 180, 0, 19, 180, 0, 35, 27, 46, 184, 0, 39, 154, 0, 26, 28, 42, 180, 0, 3]
abbrev dktX6_isFree_0 : List UInt8 := dkwX6_isFree_0 ++ dktX6_isFree_1
theorem dksX6_isFree_0 : cX6_isFree.data.toList.drop 0 = dktX6_isFree_0 := by decide +kernel
theorem dksX6_isFree_1 : cX6_isFree.data.toList.drop 24 = dktX6_isFree_1 := dk_seg dksX6_isFree_0 24 rfl rfl
theorem dX6_isFree_0 : decode cX6_isFree 0 = .ok (.iload_n 2, 1) := dk_28 (dk_at dksX6_isFree_0 0 rfl rfl)
theorem dX6_isFree_1 : decode cX6_isFree 1 = .ok (.aload_n 0, 1) := dk_42 (dk_at dksX6_isFree_0 1 rfl rfl)
theorem dX6_isFree_2 : decode cX6_isFree 2 = .ok (.getfield 3, 3) := dk_180 0 3 (dk_at dksX6_isFree_0 2 rfl rfl)
theorem dX6_isFree_5 : decode cX6_isFree 5 = .ok (.getfield 19, 3) := dk_180 0 19 (dk_at dksX6_isFree_0 5 rfl rfl)
theorem dX6_isFree_8 : decode cX6_isFree 8 = .ok (.getfield 35, 3) := dk_180 0 35 (dk_at dksX6_isFree_0 8 rfl rfl)
theorem dX6_isFree_11 : decode cX6_isFree 11 = .ok (.iload_n 1, 1) := dk_27 (dk_at dksX6_isFree_0 11 rfl rfl)
theorem dX6_isFree_12 : decode cX6_isFree 12 = .ok (.iaload, 1) := dk_46 (dk_at dksX6_isFree_0 12 rfl rfl)
theorem dX6_isFree_13 : decode cX6_isFree 13 = .ok (.invokestatic 39, 3) := dk_184 0 39 (dk_at dksX6_isFree_0 13 rfl rfl)
theorem dX6_isFree_16 : decode cX6_isFree 16 = .ok (.ifCond .ne 26, 3) := dk_154 0 26 (dk_at dksX6_isFree_0 16 rfl rfl)
theorem dX6_isFree_19 : decode cX6_isFree 19 = .ok (.iload_n 2, 1) := dk_28 (dk_at dksX6_isFree_0 19 rfl rfl)
theorem dX6_isFree_20 : decode cX6_isFree 20 = .ok (.aload_n 0, 1) := dk_42 (dk_at dksX6_isFree_0 20 rfl rfl)
theorem dX6_isFree_21 : decode cX6_isFree 21 = .ok (.getfield 3, 3) := dk_180 0 3 (dk_at dksX6_isFree_0 21 rfl rfl)
theorem dX6_isFree_24 : decode cX6_isFree 24 = .ok (.getfield 19, 3) := dk_180 0 19 (dk_at dksX6_isFree_1 0 rfl rfl)
theorem dX6_isFree_27 : decode cX6_isFree 27 = .ok (.getfield 43, 3) := dk_180 0 43 (dk_at dksX6_isFree_1 3 rfl rfl)
theorem dX6_isFree_30 : decode cX6_isFree 30 = .ok (.iload_n 1, 1) := dk_27 (dk_at dksX6_isFree_1 6 rfl rfl)
theorem dX6_isFree_31 : decode cX6_isFree 31 = .ok (.iaload, 1) := dk_46 (dk_at dksX6_isFree_1 7 rfl rfl)
theorem dX6_isFree_32 : decode cX6_isFree 32 = .ok (.invokestatic 39, 3) := dk_184 0 39 (dk_at dksX6_isFree_1 8 rfl rfl)
theorem dX6_isFree_35 : decode cX6_isFree 35 = .ok (.ifCond .ne 7, 3) := dk_154 0 7 (dk_at dksX6_isFree_1 11 rfl rfl)
theorem dX6_isFree_38 : decode cX6_isFree 38 = .ok (.iconst 1, 1) := dk_4 (dk_at dksX6_isFree_1 14 rfl rfl)
theorem dX6_isFree_39 : decode cX6_isFree 39 = .ok (.goto 4, 3) := dk_167 0 4 (dk_at dksX6_isFree_1 15 rfl rfl)
theorem dX6_isFree_42 : decode cX6_isFree 42 = .ok (.iconst 0, 1) := dk_3 (dk_at dksX6_isFree_1 18 rfl rfl)
theorem dX6_isFree_43 : decode cX6_isFree 43 = .ok (.ireturn, 1) := dk_172 (dk_at dksX6_isFree_1 19 rfl rfl)
abbrev cX6_both : ByteArray := prog_9_method_4_code
def yX6_both : MethodName := ⟨RX6, "both", "(I)I"⟩
def dkwX6_both_1 : List UInt8 := [180, 0, 43, 27, 46, 120, 128, 172]
abbrev dktX6_both_1 : List UInt8 := dkwX6_both_1 ++ []
def dkwX6_both_0 : List UInt8 := [4, 42, 180, 0, 3, 180, 0, 19, 180, 0, 35, 27, 46, 120, 4, 42, 180, 0, 3, 180, 0, 19]
abbrev dktX6_both_0 : List UInt8 := dkwX6_both_0 ++ dktX6_both_1
theorem dksX6_both_0 : cX6_both.data.toList.drop 0 = dktX6_both_0 := by decide +kernel
theorem dksX6_both_1 : cX6_both.data.toList.drop 22 = dktX6_both_1 := dk_seg dksX6_both_0 22 rfl rfl
theorem dX6_both_0 : decode cX6_both 0 = .ok (.iconst 1, 1) := dk_4 (dk_at dksX6_both_0 0 rfl rfl)
theorem dX6_both_1 : decode cX6_both 1 = .ok (.aload_n 0, 1) := dk_42 (dk_at dksX6_both_0 1 rfl rfl)
theorem dX6_both_2 : decode cX6_both 2 = .ok (.getfield 3, 3) := dk_180 0 3 (dk_at dksX6_both_0 2 rfl rfl)
theorem dX6_both_5 : decode cX6_both 5 = .ok (.getfield 19, 3) := dk_180 0 19 (dk_at dksX6_both_0 5 rfl rfl)
theorem dX6_both_8 : decode cX6_both 8 = .ok (.getfield 35, 3) := dk_180 0 35 (dk_at dksX6_both_0 8 rfl rfl)
theorem dX6_both_11 : decode cX6_both 11 = .ok (.iload_n 1, 1) := dk_27 (dk_at dksX6_both_0 11 rfl rfl)
theorem dX6_both_12 : decode cX6_both 12 = .ok (.iaload, 1) := dk_46 (dk_at dksX6_both_0 12 rfl rfl)
theorem dX6_both_13 : decode cX6_both 13 = .ok (.ishl, 1) := dk_120 (dk_at dksX6_both_0 13 rfl rfl)
theorem dX6_both_14 : decode cX6_both 14 = .ok (.iconst 1, 1) := dk_4 (dk_at dksX6_both_0 14 rfl rfl)
theorem dX6_both_15 : decode cX6_both 15 = .ok (.aload_n 0, 1) := dk_42 (dk_at dksX6_both_0 15 rfl rfl)
theorem dX6_both_16 : decode cX6_both 16 = .ok (.getfield 3, 3) := dk_180 0 3 (dk_at dksX6_both_0 16 rfl rfl)
theorem dX6_both_19 : decode cX6_both 19 = .ok (.getfield 19, 3) := dk_180 0 19 (dk_at dksX6_both_0 19 rfl rfl)
theorem dX6_both_22 : decode cX6_both 22 = .ok (.getfield 43, 3) := dk_180 0 43 (dk_at dksX6_both_1 0 rfl rfl)
theorem dX6_both_25 : decode cX6_both 25 = .ok (.iload_n 1, 1) := dk_27 (dk_at dksX6_both_1 3 rfl rfl)
theorem dX6_both_26 : decode cX6_both 26 = .ok (.iaload, 1) := dk_46 (dk_at dksX6_both_1 4 rfl rfl)
theorem dX6_both_27 : decode cX6_both 27 = .ok (.ishl, 1) := dk_120 (dk_at dksX6_both_1 5 rfl rfl)
theorem dX6_both_28 : decode cX6_both 28 = .ok (.ior, 1) := dk_128 (dk_at dksX6_both_1 6 rfl rfl)
theorem dX6_both_29 : decode cX6_both 29 = .ok (.ireturn, 1) := dk_172 (dk_at dksX6_both_1 7 rfl rfl)
abbrev cX6_first : ByteArray := prog_9_method_6_code
def yX6_first : MethodName := ⟨RX6, "first", "()I"⟩
def dkwX6_first_2 : List UInt8 := [182, 0, 46, 160, 0, 11, 27, 42, 28, 182, 0, 53, 128, 60, 132, 2, 1, 167, 255, 197, 27, 172]
abbrev dktX6_first_2 : List UInt8 := dkwX6_first_2 ++ []
def dkwX6_first_1 : List UInt8 := [153, 0, 36, 4, 42, 28, 4, 96, 27, 42, 28, 182, 0, 53, 128, 182, 0, 46, 96, 42, 28, 27]
abbrev dktX6_first_1 : List UInt8 := dkwX6_first_1 ++ dktX6_first_2
def dkwX6_first_0 : List UInt8 := [3, 60, 3, 61, 28, 42, 180, 0, 3, 180, 0, 19, 180, 0, 23, 162, 0, 51, 42, 28, 27, 182, 0, 50]
abbrev dktX6_first_0 : List UInt8 := dkwX6_first_0 ++ dktX6_first_1
theorem dksX6_first_0 : cX6_first.data.toList.drop 0 = dktX6_first_0 := by decide +kernel
theorem dksX6_first_1 : cX6_first.data.toList.drop 24 = dktX6_first_1 := dk_seg dksX6_first_0 24 rfl rfl
theorem dksX6_first_2 : cX6_first.data.toList.drop 46 = dktX6_first_2 := dk_seg dksX6_first_1 22 rfl rfl
theorem dX6_first_0 : decode cX6_first 0 = .ok (.iconst 0, 1) := dk_3 (dk_at dksX6_first_0 0 rfl rfl)
theorem dX6_first_1 : decode cX6_first 1 = .ok (.istore_n 1, 1) := dk_60 (dk_at dksX6_first_0 1 rfl rfl)
theorem dX6_first_2 : decode cX6_first 2 = .ok (.iconst 0, 1) := dk_3 (dk_at dksX6_first_0 2 rfl rfl)
theorem dX6_first_3 : decode cX6_first 3 = .ok (.istore_n 2, 1) := dk_61 (dk_at dksX6_first_0 3 rfl rfl)
theorem dX6_first_4 : decode cX6_first 4 = .ok (.iload_n 2, 1) := dk_28 (dk_at dksX6_first_0 4 rfl rfl)
theorem dX6_first_5 : decode cX6_first 5 = .ok (.aload_n 0, 1) := dk_42 (dk_at dksX6_first_0 5 rfl rfl)
theorem dX6_first_6 : decode cX6_first 6 = .ok (.getfield 3, 3) := dk_180 0 3 (dk_at dksX6_first_0 6 rfl rfl)
theorem dX6_first_9 : decode cX6_first 9 = .ok (.getfield 19, 3) := dk_180 0 19 (dk_at dksX6_first_0 9 rfl rfl)
theorem dX6_first_12 : decode cX6_first 12 = .ok (.getfield 23, 3) := dk_180 0 23 (dk_at dksX6_first_0 12 rfl rfl)
theorem dX6_first_15 : decode cX6_first 15 = .ok (.if_icmp .ge 51, 3) := dk_162 0 51 (dk_at dksX6_first_0 15 rfl rfl)
theorem dX6_first_18 : decode cX6_first 18 = .ok (.aload_n 0, 1) := dk_42 (dk_at dksX6_first_0 18 rfl rfl)
theorem dX6_first_19 : decode cX6_first 19 = .ok (.iload_n 2, 1) := dk_28 (dk_at dksX6_first_0 19 rfl rfl)
theorem dX6_first_20 : decode cX6_first 20 = .ok (.iload_n 1, 1) := dk_27 (dk_at dksX6_first_0 20 rfl rfl)
theorem dX6_first_21 : decode cX6_first 21 = .ok (.invokevirtual 50, 3) := dk_182 0 50 (dk_at dksX6_first_0 21 rfl rfl)
theorem dX6_first_24 : decode cX6_first 24 = .ok (.ifCond .eq 36, 3) := dk_153 0 36 (dk_at dksX6_first_1 0 rfl rfl)
theorem dX6_first_27 : decode cX6_first 27 = .ok (.iconst 1, 1) := dk_4 (dk_at dksX6_first_1 3 rfl rfl)
theorem dX6_first_28 : decode cX6_first 28 = .ok (.aload_n 0, 1) := dk_42 (dk_at dksX6_first_1 4 rfl rfl)
theorem dX6_first_29 : decode cX6_first 29 = .ok (.iload_n 2, 1) := dk_28 (dk_at dksX6_first_1 5 rfl rfl)
theorem dX6_first_30 : decode cX6_first 30 = .ok (.iconst 1, 1) := dk_4 (dk_at dksX6_first_1 6 rfl rfl)
theorem dX6_first_31 : decode cX6_first 31 = .ok (.iadd, 1) := dk_96 (dk_at dksX6_first_1 7 rfl rfl)
theorem dX6_first_32 : decode cX6_first 32 = .ok (.iload_n 1, 1) := dk_27 (dk_at dksX6_first_1 8 rfl rfl)
theorem dX6_first_33 : decode cX6_first 33 = .ok (.aload_n 0, 1) := dk_42 (dk_at dksX6_first_1 9 rfl rfl)
theorem dX6_first_34 : decode cX6_first 34 = .ok (.iload_n 2, 1) := dk_28 (dk_at dksX6_first_1 10 rfl rfl)
theorem dX6_first_35 : decode cX6_first 35 = .ok (.invokevirtual 53, 3) := dk_182 0 53 (dk_at dksX6_first_1 11 rfl rfl)
theorem dX6_first_38 : decode cX6_first 38 = .ok (.ior, 1) := dk_128 (dk_at dksX6_first_1 14 rfl rfl)
theorem dX6_first_39 : decode cX6_first 39 = .ok (.invokevirtual 46, 3) := dk_182 0 46 (dk_at dksX6_first_1 15 rfl rfl)
theorem dX6_first_42 : decode cX6_first 42 = .ok (.iadd, 1) := dk_96 (dk_at dksX6_first_1 18 rfl rfl)
theorem dX6_first_43 : decode cX6_first 43 = .ok (.aload_n 0, 1) := dk_42 (dk_at dksX6_first_1 19 rfl rfl)
theorem dX6_first_44 : decode cX6_first 44 = .ok (.iload_n 2, 1) := dk_28 (dk_at dksX6_first_1 20 rfl rfl)
theorem dX6_first_45 : decode cX6_first 45 = .ok (.iload_n 1, 1) := dk_27 (dk_at dksX6_first_1 21 rfl rfl)
theorem dX6_first_46 : decode cX6_first 46 = .ok (.invokevirtual 46, 3) := dk_182 0 46 (dk_at dksX6_first_2 0 rfl rfl)
theorem dX6_first_49 : decode cX6_first 49 = .ok (.if_icmp .ne 11, 3) := dk_160 0 11 (dk_at dksX6_first_2 3 rfl rfl)
theorem dX6_first_52 : decode cX6_first 52 = .ok (.iload_n 1, 1) := dk_27 (dk_at dksX6_first_2 6 rfl rfl)
theorem dX6_first_53 : decode cX6_first 53 = .ok (.aload_n 0, 1) := dk_42 (dk_at dksX6_first_2 7 rfl rfl)
theorem dX6_first_54 : decode cX6_first 54 = .ok (.iload_n 2, 1) := dk_28 (dk_at dksX6_first_2 8 rfl rfl)
theorem dX6_first_55 : decode cX6_first 55 = .ok (.invokevirtual 53, 3) := dk_182 0 53 (dk_at dksX6_first_2 9 rfl rfl)
theorem dX6_first_58 : decode cX6_first 58 = .ok (.ior, 1) := dk_128 (dk_at dksX6_first_2 12 rfl rfl)
theorem dX6_first_59 : decode cX6_first 59 = .ok (.istore_n 1, 1) := dk_60 (dk_at dksX6_first_2 13 rfl rfl)
theorem dX6_first_60 : decode cX6_first 60 = .ok (.iinc 2 1, 3) := dk_132 2 1 (dk_at dksX6_first_2 14 rfl rfl)
theorem dX6_first_63 : decode cX6_first 63 = .ok (.goto (-59), 3) := dk_167 255 197 (dk_at dksX6_first_2 17 rfl rfl)
theorem dX6_first_66 : decode cX6_first 66 = .ok (.iload_n 1, 1) := dk_27 (dk_at dksX6_first_2 20 rfl rfl)
theorem dX6_first_67 : decode cX6_first 67 = .ok (.ireturn, 1) := dk_172 (dk_at dksX6_first_2 21 rfl rfl)
theorem q125 : (Jvm.Cond.initialized "CheekTown$Pairing") ∈ lw_all := lw_g (lw_at lw_m1 9 rfl) rfl
theorem q188 : (Jvm.Cond.fieldLinkNest "CheekTown$Pairing" (23 : Nat) "CheekTown$World" "ties" "I" "CheekTown") ∈ lw_tbl := lw_at lw_m1 72 rfl
theorem q238 : (Jvm.Cond.fieldLinkNest "CheekTown$Pairing" (35 : Nat) "CheekTown$World" "one" "[I" "CheekTown") ∈ lw_tbl := lw_at lw_m1 122 rfl
theorem q241 : (Jvm.Cond.fieldLinkNest "CheekTown$Pairing" (43 : Nat) "CheekTown$World" "other" "[I" "CheekTown") ∈ lw_tbl := lw_at lw_m1 125 rfl
theorem q430 : (Jvm.Cond.instantiable "CheekTown$Pairing" (2 : Nat)) ∈ lw_all := lw_g (lw_at lw_m2 74 rfl) rfl
theorem q432 : (Jvm.Cond.instanceMethod ({ cls := "CheekTown$Pairing", name := "<init>", desc := "(LCheekTown;)V" } : Jvm.MethodName)) ∈ lw_all := lw_g (lw_at lw_m2 76 rfl) rfl
theorem q433 : (Jvm.Cond.code ({ cls := "CheekTown$Pairing", name := "<init>", desc := "(LCheekTown;)V" } : Jvm.MethodName) prog_9_method_1_code (2 : Nat) (Option.none : Option Jvm.ClassFile.FieldType)) ∈ lw_all := lw_g (lw_at lw_m2 77 rfl) rfl
theorem q434 : (Jvm.Cond.methodLink "CheekTown$Pairing" (9 : Nat) ({ cls := "java/lang/Object", name := "<init>", desc := "()V" } : Jvm.MethodName)) ∈ lw_all := lw_g (lw_at lw_m2 78 rfl) rfl
theorem q435 : (Jvm.Cond.fieldLink "CheekTown$Pairing" (15 : Nat) "CheekTown$Pairing" "most" "[B") ∈ lw_all := lw_g (lw_at lw_m2 79 rfl) rfl
theorem q436 : (Jvm.Cond.fieldLink "CheekTown$Pairing" (3 : Nat) "CheekTown$Pairing" "this$0" "LCheekTown;") ∈ lw_all := lw_g (lw_at lw_m2 80 rfl) rfl
theorem q437 : (Jvm.Cond.laysFinal "CheekTown$Pairing" "CheekTown$Pairing" "most" "[B") ∈ lw_all := lw_g (lw_at lw_m2 81 rfl) rfl
theorem q438 : (Jvm.Cond.soleField "CheekTown$Pairing" "most") ∈ lw_all := lw_g (lw_at lw_m2 82 rfl) rfl
theorem q439 : (Jvm.Cond.laysFinal "CheekTown$Pairing" "CheekTown$Pairing" "this$0" "LCheekTown;") ∈ lw_all := lw_g (lw_at lw_m2 83 rfl) rfl
theorem q440 : (Jvm.Cond.soleField "CheekTown$Pairing" "this$0") ∈ lw_all := lw_g (lw_at lw_m2 84 rfl) rfl
theorem q441 : (Jvm.Cond.superclass "CheekTown$Pairing" "java/lang/Object") ∈ lw_all := lw_g (lw_at lw_m2 85 rfl) rfl
theorem q467 : (Jvm.Cond.fieldLinkNest "CheekTown$Pairing" (19 : Nat) "CheekTown" "world" "LCheekTown$World;" "CheekTown") ∈ lw_tbl := lw_at lw_m2 111 rfl
theorem q983 : (Jvm.Cond.instanceMethod ({ cls := "CheekTown$Pairing", name := "anew", desc := "()LCheekTown$Pairing;" } : Jvm.MethodName)) ∈ lw_all := lw_g (lw_at lw_m4 147 rfl) rfl
theorem q984 : (Jvm.Cond.selects "CheekTown$Pairing" ({ cls := "CheekTown$Pairing", name := "anew", desc := "()LCheekTown$Pairing;" } : Jvm.MethodName) ({ cls := "CheekTown$Pairing", name := "anew", desc := "()LCheekTown$Pairing;" } : Jvm.MethodName)) ∈ lw_all := lw_g (lw_at lw_m4 148 rfl) rfl
theorem q985 : (Jvm.Cond.code ({ cls := "CheekTown$Pairing", name := "anew", desc := "()LCheekTown$Pairing;" } : Jvm.MethodName) prog_9_method_2_code (1 : Nat) (Option.some (Jvm.ClassFile.FieldType.object "CheekTown$Pairing"))) ∈ lw_all := lw_g (lw_at lw_m4 149 rfl) rfl
theorem q986 : (Jvm.Cond.methodLink "CheekTown$Pairing" (29 : Nat) ({ cls := "java/util/Arrays", name := "fill", desc := "([BIIB)V" } : Jvm.MethodName)) ∈ lw_all := lw_g (lw_at lw_m4 150 rfl) rfl
theorem q990 : (Jvm.Cond.instanceMethod ({ cls := "CheekTown$Pairing", name := "from", desc := "(II)I" } : Jvm.MethodName)) ∈ lw_all := lw_g (lw_at lw_m4 154 rfl) rfl
theorem q991 : (Jvm.Cond.selects "CheekTown$Pairing" ({ cls := "CheekTown$Pairing", name := "from", desc := "(II)I" } : Jvm.MethodName) ({ cls := "CheekTown$Pairing", name := "from", desc := "(II)I" } : Jvm.MethodName)) ∈ lw_all := lw_g (lw_at lw_m4 155 rfl) rfl
theorem q992 : (Jvm.Cond.code ({ cls := "CheekTown$Pairing", name := "from", desc := "(II)I" } : Jvm.MethodName) prog_9_method_5_code (5 : Nat) (Option.some Jvm.ClassFile.FieldType.int)) ∈ lw_all := lw_g (lw_at lw_m4 156 rfl) rfl
theorem q993 : (Jvm.Cond.methodLink "CheekTown$Pairing" (46 : Nat) ({ cls := "CheekTown$Pairing", name := "from", desc := "(II)I" } : Jvm.MethodName)) ∈ lw_all := lw_g (lw_at lw_m4 157 rfl) rfl
theorem q994 : (Jvm.Cond.methodLink "CheekTown$Pairing" (50 : Nat) ({ cls := "CheekTown$Pairing", name := "isFree", desc := "(II)Z" } : Jvm.MethodName)) ∈ lw_all := lw_g (lw_at lw_m4 158 rfl) rfl
theorem q995 : (Jvm.Cond.instanceMethod ({ cls := "CheekTown$Pairing", name := "isFree", desc := "(II)Z" } : Jvm.MethodName)) ∈ lw_all := lw_g (lw_at lw_m4 159 rfl) rfl
theorem q996 : (Jvm.Cond.selects "CheekTown$Pairing" ({ cls := "CheekTown$Pairing", name := "isFree", desc := "(II)Z" } : Jvm.MethodName) ({ cls := "CheekTown$Pairing", name := "isFree", desc := "(II)Z" } : Jvm.MethodName)) ∈ lw_all := lw_g (lw_at lw_m4 160 rfl) rfl
theorem q997 : (Jvm.Cond.code ({ cls := "CheekTown$Pairing", name := "isFree", desc := "(II)Z" } : Jvm.MethodName) prog_9_method_3_code (3 : Nat) (Option.some Jvm.ClassFile.FieldType.boolean)) ∈ lw_all := lw_g (lw_at lw_m4 161 rfl) rfl
theorem q998 : (Jvm.Cond.methodLinkNest "CheekTown$Pairing" (39 : Nat) ({ cls := "CheekTown", name := "has", desc := "(II)Z" } : Jvm.MethodName) "CheekTown") ∈ lw_tbl := lw_at lw_m4 162 rfl
theorem q999 : (Jvm.Cond.methodLink "CheekTown$Pairing" (53 : Nat) ({ cls := "CheekTown$Pairing", name := "both", desc := "(I)I" } : Jvm.MethodName)) ∈ lw_all := lw_g (lw_at lw_m4 163 rfl) rfl
theorem q1000 : (Jvm.Cond.instanceMethod ({ cls := "CheekTown$Pairing", name := "both", desc := "(I)I" } : Jvm.MethodName)) ∈ lw_all := lw_g (lw_at lw_m4 164 rfl) rfl
theorem q1001 : (Jvm.Cond.selects "CheekTown$Pairing" ({ cls := "CheekTown$Pairing", name := "both", desc := "(I)I" } : Jvm.MethodName) ({ cls := "CheekTown$Pairing", name := "both", desc := "(I)I" } : Jvm.MethodName)) ∈ lw_all := lw_g (lw_at lw_m4 165 rfl) rfl
theorem q1002 : (Jvm.Cond.code ({ cls := "CheekTown$Pairing", name := "both", desc := "(I)I" } : Jvm.MethodName) prog_9_method_4_code (2 : Nat) (Option.some Jvm.ClassFile.FieldType.int)) ∈ lw_all := lw_g (lw_at lw_m4 166 rfl) rfl
theorem q1003 : (Jvm.Cond.methodLink "CheekTown$Pairing" (57 : Nat) ({ cls := "java/lang/Math", name := "max", desc := "(II)I" } : Jvm.MethodName)) ∈ lw_all := lw_g (lw_at lw_m4 167 rfl) rfl
theorem q1006 : (Jvm.Cond.instanceMethod ({ cls := "CheekTown$Pairing", name := "first", desc := "()I" } : Jvm.MethodName)) ∈ lw_all := lw_g (lw_at lw_m4 170 rfl) rfl
theorem q1007 : (Jvm.Cond.selects "CheekTown$Pairing" ({ cls := "CheekTown$Pairing", name := "first", desc := "()I" } : Jvm.MethodName) ({ cls := "CheekTown$Pairing", name := "first", desc := "()I" } : Jvm.MethodName)) ∈ lw_all := lw_g (lw_at lw_m4 171 rfl) rfl
theorem q1008 : (Jvm.Cond.code ({ cls := "CheekTown$Pairing", name := "first", desc := "()I" } : Jvm.MethodName) prog_9_method_6_code (3 : Nat) (Option.some Jvm.ClassFile.FieldType.int)) ∈ lw_all := lw_g (lw_at lw_m4 172 rfl) rfl
theorem q1561 : (Jvm.Cond.selects "CheekTown$Pairing" ({ cls := "java/lang/Object", name := "getClass", desc := "()Ljava/lang/Class;" } : Jvm.MethodName) ({ cls := "java/lang/Object", name := "getClass", desc := "()Ljava/lang/Class;" } : Jvm.MethodName)) ∈ lw_all := lw_g (lw_at lw_m7 5 rfl) rfl
theorem q2746 : (Jvm.Cond.castable "CheekTown$Pairing" "java/lang/Object") ∈ lw_tbl := lw_at lw_m11 230 rfl
theorem in_X6 : ∀ w ∈ wsX60, w ∈ lw_all := lw_in wsX60 [437, 439] (by decide +kernel) (by decide +kernel)

/-! CheekTown$Years -/
set_option maxRecDepth 100000
def RX7 : String := "CheekTown$Years"
def TX7 : u_T := fun k => match k with
  | 0 => ("CheekTown$Years", "own", "[I", true)
  | 1 => ("CheekTown$Years", "then", "[I", true)
  | 2 => ("CheekTown$Years", "about", "[I", true)
  | 3 => ("CheekTown$Years", "people", "I", false)
  | _ => ("CheekTown$Years", "this$0", "LCheekTown;", true)
def tyX7 : Nat → FieldType := fun k => match k with
  | 0 => .array .int
  | 1 => .array .int
  | 2 => .array .int
  | 3 => .int
  | _ => .object "CheekTown"
abbrev wsX70 : List Cond := u_ws RX7 TX7 5
theorem nmX7 : ∀ a, a < 5 → ∀ b, b < 5 → a ≠ b → (TX7 a).2.1 ≠ (TX7 b).2.1 := by decide +kernel
theorem tyX7_ok : ∀ k, k < 5 → parseFieldDescriptor (TX7 k).2.2.1 = some (tyX7 k) := by decide +kernel
abbrev cX7_init : ByteArray := prog_21_method_1_code
def yX7_init : MethodName := ⟨RX7, "<init>", "(LCheekTown;)V"⟩
def dkwX7_init_1 : List UInt8 := [181, 0, 19, 42, 16, 10, 188, 10, 181, 0, 22, 177]
abbrev dktX7_init_1 : List UInt8 := dkwX7_init_1 ++ []
def dkwX7_init_0 : List UInt8 := [42, 43, 181, 0, 3, 42, 183, 0, 9, 42, 16, 10, 188, 10, 181, 0, 15, 42, 16, 10, 188, 10]
abbrev dktX7_init_0 : List UInt8 := dkwX7_init_0 ++ dktX7_init_1
theorem dksX7_init_0 : cX7_init.data.toList.drop 0 = dktX7_init_0 := by decide +kernel
theorem dksX7_init_1 : cX7_init.data.toList.drop 22 = dktX7_init_1 := dk_seg dksX7_init_0 22 rfl rfl
theorem dX7_init_0 : decode cX7_init 0 = .ok (.aload_n 0, 1) := dk_42 (dk_at dksX7_init_0 0 rfl rfl)
theorem dX7_init_1 : decode cX7_init 1 = .ok (.aload_n 1, 1) := dk_43 (dk_at dksX7_init_0 1 rfl rfl)
theorem dX7_init_2 : decode cX7_init 2 = .ok (.putfield 3, 3) := dk_181 0 3 (dk_at dksX7_init_0 2 rfl rfl)
theorem dX7_init_5 : decode cX7_init 5 = .ok (.aload_n 0, 1) := dk_42 (dk_at dksX7_init_0 5 rfl rfl)
theorem dX7_init_6 : decode cX7_init 6 = .ok (.invokespecial 9, 3) := dk_183 0 9 (dk_at dksX7_init_0 6 rfl rfl)
theorem dX7_init_9 : decode cX7_init 9 = .ok (.aload_n 0, 1) := dk_42 (dk_at dksX7_init_0 9 rfl rfl)
theorem dX7_init_10 : decode cX7_init 10 = .ok (.bipush 10, 2) := dk_16 10 (dk_at dksX7_init_0 10 rfl rfl)
theorem dX7_init_12 : decode cX7_init 12 = .ok (.newarray .int, 2) := dk_188_10 (dk_at dksX7_init_0 12 rfl rfl)
theorem dX7_init_14 : decode cX7_init 14 = .ok (.putfield 15, 3) := dk_181 0 15 (dk_at dksX7_init_0 14 rfl rfl)
theorem dX7_init_17 : decode cX7_init 17 = .ok (.aload_n 0, 1) := dk_42 (dk_at dksX7_init_0 17 rfl rfl)
theorem dX7_init_18 : decode cX7_init 18 = .ok (.bipush 10, 2) := dk_16 10 (dk_at dksX7_init_0 18 rfl rfl)
theorem dX7_init_20 : decode cX7_init 20 = .ok (.newarray .int, 2) := dk_188_10 (dk_at dksX7_init_0 20 rfl rfl)
theorem dX7_init_22 : decode cX7_init 22 = .ok (.putfield 19, 3) := dk_181 0 19 (dk_at dksX7_init_1 0 rfl rfl)
theorem dX7_init_25 : decode cX7_init 25 = .ok (.aload_n 0, 1) := dk_42 (dk_at dksX7_init_1 3 rfl rfl)
theorem dX7_init_26 : decode cX7_init 26 = .ok (.bipush 10, 2) := dk_16 10 (dk_at dksX7_init_1 4 rfl rfl)
theorem dX7_init_28 : decode cX7_init 28 = .ok (.newarray .int, 2) := dk_188_10 (dk_at dksX7_init_1 6 rfl rfl)
theorem dX7_init_30 : decode cX7_init 30 = .ok (.putfield 22, 3) := dk_181 0 22 (dk_at dksX7_init_1 8 rfl rfl)
theorem dX7_init_33 : decode cX7_init 33 = .ok (.return_, 1) := dk_177 (dk_at dksX7_init_1 11 rfl rfl)
abbrev cX7_now : ByteArray := prog_21_method_2_code
def yX7_now : MethodName := ⟨RX7, "now", "()LCheekTown$Years;"⟩
def dkwX7_now_3 : List UInt8 := [167, 255, 224, 42, 176]
abbrev dktX7_now_3 : List UInt8 := dkwX7_now_3 ++ []
def dkwX7_now_2 : List UInt8 := [180, 0, 22, 27, 42, 180, 0, 3, 180, 0, 25, 27, 182, 0, 43, 4, 27, 120, 128, 79, 132, 1, 1]
abbrev dktX7_now_2 : List UInt8 := dkwX7_now_2 ++ dktX7_now_3
def dkwX7_now_1 : List UInt8 := [3, 42, 180, 0, 15, 3, 42, 180, 0, 35, 184, 0, 37, 3, 60, 27, 42, 180, 0, 35, 162, 0, 30, 42]
abbrev dktX7_now_1 : List UInt8 := dkwX7_now_1 ++ dktX7_now_2
def dkwX7_now_0 : List UInt8 := [42, 42, 180, 0, 3, 180, 0, 25, 180, 0, 29, 181, 0, 35, 42, 180, 0, 3, 180, 0, 25, 180, 0, 36]
abbrev dktX7_now_0 : List UInt8 := dkwX7_now_0 ++ dktX7_now_1
theorem dksX7_now_0 : cX7_now.data.toList.drop 0 = dktX7_now_0 := by decide +kernel
theorem dksX7_now_1 : cX7_now.data.toList.drop 24 = dktX7_now_1 := dk_seg dksX7_now_0 24 rfl rfl
theorem dksX7_now_2 : cX7_now.data.toList.drop 48 = dktX7_now_2 := dk_seg dksX7_now_1 24 rfl rfl
theorem dksX7_now_3 : cX7_now.data.toList.drop 71 = dktX7_now_3 := dk_seg dksX7_now_2 23 rfl rfl
theorem dX7_now_0 : decode cX7_now 0 = .ok (.aload_n 0, 1) := dk_42 (dk_at dksX7_now_0 0 rfl rfl)
theorem dX7_now_1 : decode cX7_now 1 = .ok (.aload_n 0, 1) := dk_42 (dk_at dksX7_now_0 1 rfl rfl)
theorem dX7_now_2 : decode cX7_now 2 = .ok (.getfield 3, 3) := dk_180 0 3 (dk_at dksX7_now_0 2 rfl rfl)
theorem dX7_now_5 : decode cX7_now 5 = .ok (.getfield 25, 3) := dk_180 0 25 (dk_at dksX7_now_0 5 rfl rfl)
theorem dX7_now_8 : decode cX7_now 8 = .ok (.getfield 29, 3) := dk_180 0 29 (dk_at dksX7_now_0 8 rfl rfl)
theorem dX7_now_11 : decode cX7_now 11 = .ok (.putfield 35, 3) := dk_181 0 35 (dk_at dksX7_now_0 11 rfl rfl)
theorem dX7_now_14 : decode cX7_now 14 = .ok (.aload_n 0, 1) := dk_42 (dk_at dksX7_now_0 14 rfl rfl)
theorem dX7_now_15 : decode cX7_now 15 = .ok (.getfield 3, 3) := dk_180 0 3 (dk_at dksX7_now_0 15 rfl rfl)
theorem dX7_now_18 : decode cX7_now 18 = .ok (.getfield 25, 3) := dk_180 0 25 (dk_at dksX7_now_0 18 rfl rfl)
theorem dX7_now_21 : decode cX7_now 21 = .ok (.getfield 36, 3) := dk_180 0 36 (dk_at dksX7_now_0 21 rfl rfl)
theorem dX7_now_24 : decode cX7_now 24 = .ok (.iconst 0, 1) := dk_3 (dk_at dksX7_now_1 0 rfl rfl)
theorem dX7_now_25 : decode cX7_now 25 = .ok (.aload_n 0, 1) := dk_42 (dk_at dksX7_now_1 1 rfl rfl)
theorem dX7_now_26 : decode cX7_now 26 = .ok (.getfield 15, 3) := dk_180 0 15 (dk_at dksX7_now_1 2 rfl rfl)
theorem dX7_now_29 : decode cX7_now 29 = .ok (.iconst 0, 1) := dk_3 (dk_at dksX7_now_1 5 rfl rfl)
theorem dX7_now_30 : decode cX7_now 30 = .ok (.aload_n 0, 1) := dk_42 (dk_at dksX7_now_1 6 rfl rfl)
theorem dX7_now_31 : decode cX7_now 31 = .ok (.getfield 35, 3) := dk_180 0 35 (dk_at dksX7_now_1 7 rfl rfl)
theorem dX7_now_34 : decode cX7_now 34 = .ok (.invokestatic 37, 3) := dk_184 0 37 (dk_at dksX7_now_1 10 rfl rfl)
theorem dX7_now_37 : decode cX7_now 37 = .ok (.iconst 0, 1) := dk_3 (dk_at dksX7_now_1 13 rfl rfl)
theorem dX7_now_38 : decode cX7_now 38 = .ok (.istore_n 1, 1) := dk_60 (dk_at dksX7_now_1 14 rfl rfl)
theorem dX7_now_39 : decode cX7_now 39 = .ok (.iload_n 1, 1) := dk_27 (dk_at dksX7_now_1 15 rfl rfl)
theorem dX7_now_40 : decode cX7_now 40 = .ok (.aload_n 0, 1) := dk_42 (dk_at dksX7_now_1 16 rfl rfl)
theorem dX7_now_41 : decode cX7_now 41 = .ok (.getfield 35, 3) := dk_180 0 35 (dk_at dksX7_now_1 17 rfl rfl)
theorem dX7_now_44 : decode cX7_now 44 = .ok (.if_icmp .ge 30, 3) := dk_162 0 30 (dk_at dksX7_now_1 20 rfl rfl)
theorem dX7_now_47 : decode cX7_now 47 = .ok (.aload_n 0, 1) := dk_42 (dk_at dksX7_now_1 23 rfl rfl)
theorem dX7_now_48 : decode cX7_now 48 = .ok (.getfield 22, 3) := dk_180 0 22 (dk_at dksX7_now_2 0 rfl rfl)
theorem dX7_now_51 : decode cX7_now 51 = .ok (.iload_n 1, 1) := dk_27 (dk_at dksX7_now_2 3 rfl rfl)
theorem dX7_now_52 : decode cX7_now 52 = .ok (.aload_n 0, 1) := dk_42 (dk_at dksX7_now_2 4 rfl rfl)
theorem dX7_now_53 : decode cX7_now 53 = .ok (.getfield 3, 3) := dk_180 0 3 (dk_at dksX7_now_2 5 rfl rfl)
theorem dX7_now_56 : decode cX7_now 56 = .ok (.getfield 25, 3) := dk_180 0 25 (dk_at dksX7_now_2 8 rfl rfl)
theorem dX7_now_59 : decode cX7_now 59 = .ok (.iload_n 1, 1) := dk_27 (dk_at dksX7_now_2 11 rfl rfl)
theorem dX7_now_60 : decode cX7_now 60 = .ok (.invokevirtual 43, 3) := dk_182 0 43 (dk_at dksX7_now_2 12 rfl rfl)
theorem dX7_now_63 : decode cX7_now 63 = .ok (.iconst 1, 1) := dk_4 (dk_at dksX7_now_2 15 rfl rfl)
theorem dX7_now_64 : decode cX7_now 64 = .ok (.iload_n 1, 1) := dk_27 (dk_at dksX7_now_2 16 rfl rfl)
theorem dX7_now_65 : decode cX7_now 65 = .ok (.ishl, 1) := dk_120 (dk_at dksX7_now_2 17 rfl rfl)
theorem dX7_now_66 : decode cX7_now 66 = .ok (.ior, 1) := dk_128 (dk_at dksX7_now_2 18 rfl rfl)
theorem dX7_now_67 : decode cX7_now 67 = .ok (.iastore, 1) := dk_79 (dk_at dksX7_now_2 19 rfl rfl)
theorem dX7_now_68 : decode cX7_now 68 = .ok (.iinc 1 1, 3) := dk_132 1 1 (dk_at dksX7_now_2 20 rfl rfl)
theorem dX7_now_71 : decode cX7_now 71 = .ok (.goto (-32), 3) := dk_167 255 224 (dk_at dksX7_now_3 0 rfl rfl)
theorem dX7_now_74 : decode cX7_now 74 = .ok (.aload_n 0, 1) := dk_42 (dk_at dksX7_now_3 3 rfl rfl)
theorem dX7_now_75 : decode cX7_now 75 = .ok (.areturn, 1) := dk_176 (dk_at dksX7_now_3 4 rfl rfl)
abbrev cX7_goes : ByteArray := prog_21_method_6_code
def yX7_goes : MethodName := ⟨RX7, "goes", "()Z"⟩
def dkwX7_goes_3 : List UInt8 := [172]
abbrev dktX7_goes_3 : List UInt8 := dkwX7_goes_3 ++ []
def dkwX7_goes_2 : List UInt8 := [132, 2, 1, 167, 255, 209, 42, 180, 0, 19, 3, 42, 180, 0, 15, 3, 42, 180, 0, 35, 184, 0, 37, 27]
abbrev dktX7_goes_2 : List UInt8 := dkwX7_goes_2 ++ dktX7_goes_3
def dkwX7_goes_1 : List UInt8 := [154, 0, 18, 42, 180, 0, 19, 28, 46, 42, 180, 0, 15, 28, 46, 159, 0, 7, 4, 167, 0, 4, 3, 60]
abbrev dktX7_goes_1 : List UInt8 := dkwX7_goes_1 ++ dktX7_goes_2
def dkwX7_goes_0 : List UInt8 := [3, 60, 3, 61, 28, 42, 180, 0, 35, 162, 0, 45, 42, 180, 0, 19, 28, 42, 28, 182, 0, 55, 79, 27]
abbrev dktX7_goes_0 : List UInt8 := dkwX7_goes_0 ++ dktX7_goes_1
theorem dksX7_goes_0 : cX7_goes.data.toList.drop 0 = dktX7_goes_0 := by decide +kernel
theorem dksX7_goes_1 : cX7_goes.data.toList.drop 24 = dktX7_goes_1 := dk_seg dksX7_goes_0 24 rfl rfl
theorem dksX7_goes_2 : cX7_goes.data.toList.drop 48 = dktX7_goes_2 := dk_seg dksX7_goes_1 24 rfl rfl
theorem dksX7_goes_3 : cX7_goes.data.toList.drop 72 = dktX7_goes_3 := dk_seg dksX7_goes_2 24 rfl rfl
theorem dX7_goes_0 : decode cX7_goes 0 = .ok (.iconst 0, 1) := dk_3 (dk_at dksX7_goes_0 0 rfl rfl)
theorem dX7_goes_1 : decode cX7_goes 1 = .ok (.istore_n 1, 1) := dk_60 (dk_at dksX7_goes_0 1 rfl rfl)
theorem dX7_goes_2 : decode cX7_goes 2 = .ok (.iconst 0, 1) := dk_3 (dk_at dksX7_goes_0 2 rfl rfl)
theorem dX7_goes_3 : decode cX7_goes 3 = .ok (.istore_n 2, 1) := dk_61 (dk_at dksX7_goes_0 3 rfl rfl)
theorem dX7_goes_4 : decode cX7_goes 4 = .ok (.iload_n 2, 1) := dk_28 (dk_at dksX7_goes_0 4 rfl rfl)
theorem dX7_goes_5 : decode cX7_goes 5 = .ok (.aload_n 0, 1) := dk_42 (dk_at dksX7_goes_0 5 rfl rfl)
theorem dX7_goes_6 : decode cX7_goes 6 = .ok (.getfield 35, 3) := dk_180 0 35 (dk_at dksX7_goes_0 6 rfl rfl)
theorem dX7_goes_9 : decode cX7_goes 9 = .ok (.if_icmp .ge 45, 3) := dk_162 0 45 (dk_at dksX7_goes_0 9 rfl rfl)
theorem dX7_goes_12 : decode cX7_goes 12 = .ok (.aload_n 0, 1) := dk_42 (dk_at dksX7_goes_0 12 rfl rfl)
theorem dX7_goes_13 : decode cX7_goes 13 = .ok (.getfield 19, 3) := dk_180 0 19 (dk_at dksX7_goes_0 13 rfl rfl)
theorem dX7_goes_16 : decode cX7_goes 16 = .ok (.iload_n 2, 1) := dk_28 (dk_at dksX7_goes_0 16 rfl rfl)
theorem dX7_goes_17 : decode cX7_goes 17 = .ok (.aload_n 0, 1) := dk_42 (dk_at dksX7_goes_0 17 rfl rfl)
theorem dX7_goes_18 : decode cX7_goes 18 = .ok (.iload_n 2, 1) := dk_28 (dk_at dksX7_goes_0 18 rfl rfl)
theorem dX7_goes_19 : decode cX7_goes 19 = .ok (.invokevirtual 55, 3) := dk_182 0 55 (dk_at dksX7_goes_0 19 rfl rfl)
theorem dX7_goes_22 : decode cX7_goes 22 = .ok (.iastore, 1) := dk_79 (dk_at dksX7_goes_0 22 rfl rfl)
theorem dX7_goes_23 : decode cX7_goes 23 = .ok (.iload_n 1, 1) := dk_27 (dk_at dksX7_goes_0 23 rfl rfl)
theorem dX7_goes_24 : decode cX7_goes 24 = .ok (.ifCond .ne 18, 3) := dk_154 0 18 (dk_at dksX7_goes_1 0 rfl rfl)
theorem dX7_goes_27 : decode cX7_goes 27 = .ok (.aload_n 0, 1) := dk_42 (dk_at dksX7_goes_1 3 rfl rfl)
theorem dX7_goes_28 : decode cX7_goes 28 = .ok (.getfield 19, 3) := dk_180 0 19 (dk_at dksX7_goes_1 4 rfl rfl)
theorem dX7_goes_31 : decode cX7_goes 31 = .ok (.iload_n 2, 1) := dk_28 (dk_at dksX7_goes_1 7 rfl rfl)
theorem dX7_goes_32 : decode cX7_goes 32 = .ok (.iaload, 1) := dk_46 (dk_at dksX7_goes_1 8 rfl rfl)
theorem dX7_goes_33 : decode cX7_goes 33 = .ok (.aload_n 0, 1) := dk_42 (dk_at dksX7_goes_1 9 rfl rfl)
theorem dX7_goes_34 : decode cX7_goes 34 = .ok (.getfield 15, 3) := dk_180 0 15 (dk_at dksX7_goes_1 10 rfl rfl)
theorem dX7_goes_37 : decode cX7_goes 37 = .ok (.iload_n 2, 1) := dk_28 (dk_at dksX7_goes_1 13 rfl rfl)
theorem dX7_goes_38 : decode cX7_goes 38 = .ok (.iaload, 1) := dk_46 (dk_at dksX7_goes_1 14 rfl rfl)
theorem dX7_goes_39 : decode cX7_goes 39 = .ok (.if_icmp .eq 7, 3) := dk_159 0 7 (dk_at dksX7_goes_1 15 rfl rfl)
theorem dX7_goes_42 : decode cX7_goes 42 = .ok (.iconst 1, 1) := dk_4 (dk_at dksX7_goes_1 18 rfl rfl)
theorem dX7_goes_43 : decode cX7_goes 43 = .ok (.goto 4, 3) := dk_167 0 4 (dk_at dksX7_goes_1 19 rfl rfl)
theorem dX7_goes_46 : decode cX7_goes 46 = .ok (.iconst 0, 1) := dk_3 (dk_at dksX7_goes_1 22 rfl rfl)
theorem dX7_goes_47 : decode cX7_goes 47 = .ok (.istore_n 1, 1) := dk_60 (dk_at dksX7_goes_1 23 rfl rfl)
theorem dX7_goes_48 : decode cX7_goes 48 = .ok (.iinc 2 1, 3) := dk_132 2 1 (dk_at dksX7_goes_2 0 rfl rfl)
theorem dX7_goes_51 : decode cX7_goes 51 = .ok (.goto (-47), 3) := dk_167 255 209 (dk_at dksX7_goes_2 3 rfl rfl)
theorem dX7_goes_54 : decode cX7_goes 54 = .ok (.aload_n 0, 1) := dk_42 (dk_at dksX7_goes_2 6 rfl rfl)
theorem dX7_goes_55 : decode cX7_goes 55 = .ok (.getfield 19, 3) := dk_180 0 19 (dk_at dksX7_goes_2 7 rfl rfl)
theorem dX7_goes_58 : decode cX7_goes 58 = .ok (.iconst 0, 1) := dk_3 (dk_at dksX7_goes_2 10 rfl rfl)
theorem dX7_goes_59 : decode cX7_goes 59 = .ok (.aload_n 0, 1) := dk_42 (dk_at dksX7_goes_2 11 rfl rfl)
theorem dX7_goes_60 : decode cX7_goes 60 = .ok (.getfield 15, 3) := dk_180 0 15 (dk_at dksX7_goes_2 12 rfl rfl)
theorem dX7_goes_63 : decode cX7_goes 63 = .ok (.iconst 0, 1) := dk_3 (dk_at dksX7_goes_2 15 rfl rfl)
theorem dX7_goes_64 : decode cX7_goes 64 = .ok (.aload_n 0, 1) := dk_42 (dk_at dksX7_goes_2 16 rfl rfl)
theorem dX7_goes_65 : decode cX7_goes 65 = .ok (.getfield 35, 3) := dk_180 0 35 (dk_at dksX7_goes_2 17 rfl rfl)
theorem dX7_goes_68 : decode cX7_goes 68 = .ok (.invokestatic 37, 3) := dk_184 0 37 (dk_at dksX7_goes_2 20 rfl rfl)
theorem dX7_goes_71 : decode cX7_goes 71 = .ok (.iload_n 1, 1) := dk_27 (dk_at dksX7_goes_2 23 rfl rfl)
theorem dX7_goes_72 : decode cX7_goes 72 = .ok (.ireturn, 1) := dk_172 (dk_at dksX7_goes_3 0 rfl rfl)
abbrev cX7_taken : ByteArray := prog_21_method_5_code
def yX7_taken : MethodName := ⟨RX7, "taken", "(I)I"⟩
def dkwX7_taken_3 : List UInt8 := [61, 21, 5, 62, 132, 4, 255, 167, 255, 203, 28, 172]
abbrev dktX7_taken_3 : List UInt8 := dkwX7_taken_3 ++ []
def dkwX7_taken_2 : List UInt8 := [161, 0, 28, 21, 5, 29, 160, 0, 16, 28, 42, 180, 0, 15, 27, 46, 160, 0, 6, 167, 0, 9, 21, 4]
abbrev dktX7_taken_2 : List UInt8 := dkwX7_taken_2 ++ dktX7_taken_3
def dkwX7_taken_1 : List UInt8 := [21, 4, 155, 0, 54, 42, 42, 180, 0, 22, 27, 46, 21, 4, 182, 0, 51, 54, 5, 21, 5, 29]
abbrev dktX7_taken_1 : List UInt8 := dkwX7_taken_1 ++ dktX7_taken_2
def dkwX7_taken_0 : List UInt8 := [42, 180, 0, 15, 27, 46, 61, 42, 42, 180, 0, 22, 27, 46, 28, 182, 0, 51, 62, 16, 31, 54, 4]
abbrev dktX7_taken_0 : List UInt8 := dkwX7_taken_0 ++ dktX7_taken_1
theorem dksX7_taken_0 : cX7_taken.data.toList.drop 0 = dktX7_taken_0 := by decide +kernel
theorem dksX7_taken_1 : cX7_taken.data.toList.drop 23 = dktX7_taken_1 := dk_seg dksX7_taken_0 23 rfl rfl
theorem dksX7_taken_2 : cX7_taken.data.toList.drop 45 = dktX7_taken_2 := dk_seg dksX7_taken_1 22 rfl rfl
theorem dksX7_taken_3 : cX7_taken.data.toList.drop 69 = dktX7_taken_3 := dk_seg dksX7_taken_2 24 rfl rfl
theorem dX7_taken_0 : decode cX7_taken 0 = .ok (.aload_n 0, 1) := dk_42 (dk_at dksX7_taken_0 0 rfl rfl)
theorem dX7_taken_1 : decode cX7_taken 1 = .ok (.getfield 15, 3) := dk_180 0 15 (dk_at dksX7_taken_0 1 rfl rfl)
theorem dX7_taken_4 : decode cX7_taken 4 = .ok (.iload_n 1, 1) := dk_27 (dk_at dksX7_taken_0 4 rfl rfl)
theorem dX7_taken_5 : decode cX7_taken 5 = .ok (.iaload, 1) := dk_46 (dk_at dksX7_taken_0 5 rfl rfl)
theorem dX7_taken_6 : decode cX7_taken 6 = .ok (.istore_n 2, 1) := dk_61 (dk_at dksX7_taken_0 6 rfl rfl)
theorem dX7_taken_7 : decode cX7_taken 7 = .ok (.aload_n 0, 1) := dk_42 (dk_at dksX7_taken_0 7 rfl rfl)
theorem dX7_taken_8 : decode cX7_taken 8 = .ok (.aload_n 0, 1) := dk_42 (dk_at dksX7_taken_0 8 rfl rfl)
theorem dX7_taken_9 : decode cX7_taken 9 = .ok (.getfield 22, 3) := dk_180 0 22 (dk_at dksX7_taken_0 9 rfl rfl)
theorem dX7_taken_12 : decode cX7_taken 12 = .ok (.iload_n 1, 1) := dk_27 (dk_at dksX7_taken_0 12 rfl rfl)
theorem dX7_taken_13 : decode cX7_taken 13 = .ok (.iaload, 1) := dk_46 (dk_at dksX7_taken_0 13 rfl rfl)
theorem dX7_taken_14 : decode cX7_taken 14 = .ok (.iload_n 2, 1) := dk_28 (dk_at dksX7_taken_0 14 rfl rfl)
theorem dX7_taken_15 : decode cX7_taken 15 = .ok (.invokevirtual 51, 3) := dk_182 0 51 (dk_at dksX7_taken_0 15 rfl rfl)
theorem dX7_taken_18 : decode cX7_taken 18 = .ok (.istore_n 3, 1) := dk_62 (dk_at dksX7_taken_0 18 rfl rfl)
theorem dX7_taken_19 : decode cX7_taken 19 = .ok (.bipush 31, 2) := dk_16 31 (dk_at dksX7_taken_0 19 rfl rfl)
theorem dX7_taken_21 : decode cX7_taken 21 = .ok (.istore 4, 2) := dk_54 4 (dk_at dksX7_taken_0 21 rfl rfl)
theorem dX7_taken_23 : decode cX7_taken 23 = .ok (.iload 4, 2) := dk_21 4 (dk_at dksX7_taken_1 0 rfl rfl)
theorem dX7_taken_25 : decode cX7_taken 25 = .ok (.ifCond .lt 54, 3) := dk_155 0 54 (dk_at dksX7_taken_1 2 rfl rfl)
theorem dX7_taken_28 : decode cX7_taken 28 = .ok (.aload_n 0, 1) := dk_42 (dk_at dksX7_taken_1 5 rfl rfl)
theorem dX7_taken_29 : decode cX7_taken 29 = .ok (.aload_n 0, 1) := dk_42 (dk_at dksX7_taken_1 6 rfl rfl)
theorem dX7_taken_30 : decode cX7_taken 30 = .ok (.getfield 22, 3) := dk_180 0 22 (dk_at dksX7_taken_1 7 rfl rfl)
theorem dX7_taken_33 : decode cX7_taken 33 = .ok (.iload_n 1, 1) := dk_27 (dk_at dksX7_taken_1 10 rfl rfl)
theorem dX7_taken_34 : decode cX7_taken 34 = .ok (.iaload, 1) := dk_46 (dk_at dksX7_taken_1 11 rfl rfl)
theorem dX7_taken_35 : decode cX7_taken 35 = .ok (.iload 4, 2) := dk_21 4 (dk_at dksX7_taken_1 12 rfl rfl)
theorem dX7_taken_37 : decode cX7_taken 37 = .ok (.invokevirtual 51, 3) := dk_182 0 51 (dk_at dksX7_taken_1 14 rfl rfl)
theorem dX7_taken_40 : decode cX7_taken 40 = .ok (.istore 5, 2) := dk_54 5 (dk_at dksX7_taken_1 17 rfl rfl)
theorem dX7_taken_42 : decode cX7_taken 42 = .ok (.iload 5, 2) := dk_21 5 (dk_at dksX7_taken_1 19 rfl rfl)
theorem dX7_taken_44 : decode cX7_taken 44 = .ok (.iload_n 3, 1) := dk_29 (dk_at dksX7_taken_1 21 rfl rfl)
theorem dX7_taken_45 : decode cX7_taken 45 = .ok (.if_icmp .lt 28, 3) := dk_161 0 28 (dk_at dksX7_taken_2 0 rfl rfl)
theorem dX7_taken_48 : decode cX7_taken 48 = .ok (.iload 5, 2) := dk_21 5 (dk_at dksX7_taken_2 3 rfl rfl)
theorem dX7_taken_50 : decode cX7_taken 50 = .ok (.iload_n 3, 1) := dk_29 (dk_at dksX7_taken_2 5 rfl rfl)
theorem dX7_taken_51 : decode cX7_taken 51 = .ok (.if_icmp .ne 16, 3) := dk_160 0 16 (dk_at dksX7_taken_2 6 rfl rfl)
theorem dX7_taken_54 : decode cX7_taken 54 = .ok (.iload_n 2, 1) := dk_28 (dk_at dksX7_taken_2 9 rfl rfl)
theorem dX7_taken_55 : decode cX7_taken 55 = .ok (.aload_n 0, 1) := dk_42 (dk_at dksX7_taken_2 10 rfl rfl)
theorem dX7_taken_56 : decode cX7_taken 56 = .ok (.getfield 15, 3) := dk_180 0 15 (dk_at dksX7_taken_2 11 rfl rfl)
theorem dX7_taken_59 : decode cX7_taken 59 = .ok (.iload_n 1, 1) := dk_27 (dk_at dksX7_taken_2 14 rfl rfl)
theorem dX7_taken_60 : decode cX7_taken 60 = .ok (.iaload, 1) := dk_46 (dk_at dksX7_taken_2 15 rfl rfl)
theorem dX7_taken_61 : decode cX7_taken 61 = .ok (.if_icmp .ne 6, 3) := dk_160 0 6 (dk_at dksX7_taken_2 16 rfl rfl)
theorem dX7_taken_64 : decode cX7_taken 64 = .ok (.goto 9, 3) := dk_167 0 9 (dk_at dksX7_taken_2 19 rfl rfl)
theorem dX7_taken_67 : decode cX7_taken 67 = .ok (.iload 4, 2) := dk_21 4 (dk_at dksX7_taken_2 22 rfl rfl)
theorem dX7_taken_69 : decode cX7_taken 69 = .ok (.istore_n 2, 1) := dk_61 (dk_at dksX7_taken_3 0 rfl rfl)
theorem dX7_taken_70 : decode cX7_taken 70 = .ok (.iload 5, 2) := dk_21 5 (dk_at dksX7_taken_3 1 rfl rfl)
theorem dX7_taken_72 : decode cX7_taken 72 = .ok (.istore_n 3, 1) := dk_62 (dk_at dksX7_taken_3 3 rfl rfl)
theorem dX7_taken_73 : decode cX7_taken 73 = .ok (.iinc 4 (-1), 3) := dk_132 4 255 (dk_at dksX7_taken_3 4 rfl rfl)
theorem dX7_taken_76 : decode cX7_taken 76 = .ok (.goto (-53), 3) := dk_167 255 203 (dk_at dksX7_taken_3 7 rfl rfl)
theorem dX7_taken_79 : decode cX7_taken 79 = .ok (.iload_n 2, 1) := dk_28 (dk_at dksX7_taken_3 10 rfl rfl)
theorem dX7_taken_80 : decode cX7_taken 80 = .ok (.ireturn, 1) := dk_172 (dk_at dksX7_taken_3 11 rfl rfl)
abbrev cX7_many : ByteArray := prog_21_method_4_code
def yX7_many : MethodName := ⟨RX7, "many", "(II)I"⟩
def dkwX7_many_2 : List UInt8 := [29, 172]
abbrev dktX7_many_2 : List UInt8 := dkwX7_many_2 ++ []
def dkwX7_many_1 : List UInt8 := [42, 180, 0, 15, 21, 4, 46, 28, 160, 0, 7, 4, 167, 0, 4, 3, 96, 62, 132, 4, 1, 167, 255, 216]
abbrev dktX7_many_1 : List UInt8 := dkwX7_many_1 ++ dktX7_many_2
def dkwX7_many_0 : List UInt8 := [3, 62, 3, 54, 4, 21, 4, 42, 180, 0, 35, 162, 0, 37, 29, 27, 21, 4, 184, 0, 47, 153, 0, 18]
abbrev dktX7_many_0 : List UInt8 := dkwX7_many_0 ++ dktX7_many_1
theorem dksX7_many_0 : cX7_many.data.toList.drop 0 = dktX7_many_0 := by decide +kernel
theorem dksX7_many_1 : cX7_many.data.toList.drop 24 = dktX7_many_1 := dk_seg dksX7_many_0 24 rfl rfl
theorem dksX7_many_2 : cX7_many.data.toList.drop 48 = dktX7_many_2 := dk_seg dksX7_many_1 24 rfl rfl
theorem dX7_many_0 : decode cX7_many 0 = .ok (.iconst 0, 1) := dk_3 (dk_at dksX7_many_0 0 rfl rfl)
theorem dX7_many_1 : decode cX7_many 1 = .ok (.istore_n 3, 1) := dk_62 (dk_at dksX7_many_0 1 rfl rfl)
theorem dX7_many_2 : decode cX7_many 2 = .ok (.iconst 0, 1) := dk_3 (dk_at dksX7_many_0 2 rfl rfl)
theorem dX7_many_3 : decode cX7_many 3 = .ok (.istore 4, 2) := dk_54 4 (dk_at dksX7_many_0 3 rfl rfl)
theorem dX7_many_5 : decode cX7_many 5 = .ok (.iload 4, 2) := dk_21 4 (dk_at dksX7_many_0 5 rfl rfl)
theorem dX7_many_7 : decode cX7_many 7 = .ok (.aload_n 0, 1) := dk_42 (dk_at dksX7_many_0 7 rfl rfl)
theorem dX7_many_8 : decode cX7_many 8 = .ok (.getfield 35, 3) := dk_180 0 35 (dk_at dksX7_many_0 8 rfl rfl)
theorem dX7_many_11 : decode cX7_many 11 = .ok (.if_icmp .ge 37, 3) := dk_162 0 37 (dk_at dksX7_many_0 11 rfl rfl)
theorem dX7_many_14 : decode cX7_many 14 = .ok (.iload_n 3, 1) := dk_29 (dk_at dksX7_many_0 14 rfl rfl)
theorem dX7_many_15 : decode cX7_many 15 = .ok (.iload_n 1, 1) := dk_27 (dk_at dksX7_many_0 15 rfl rfl)
theorem dX7_many_16 : decode cX7_many 16 = .ok (.iload 4, 2) := dk_21 4 (dk_at dksX7_many_0 16 rfl rfl)
theorem dX7_many_18 : decode cX7_many 18 = .ok (.invokestatic 47, 3) := dk_184 0 47 (dk_at dksX7_many_0 18 rfl rfl)
theorem dX7_many_21 : decode cX7_many 21 = .ok (.ifCond .eq 18, 3) := dk_153 0 18 (dk_at dksX7_many_0 21 rfl rfl)
theorem dX7_many_24 : decode cX7_many 24 = .ok (.aload_n 0, 1) := dk_42 (dk_at dksX7_many_1 0 rfl rfl)
theorem dX7_many_25 : decode cX7_many 25 = .ok (.getfield 15, 3) := dk_180 0 15 (dk_at dksX7_many_1 1 rfl rfl)
theorem dX7_many_28 : decode cX7_many 28 = .ok (.iload 4, 2) := dk_21 4 (dk_at dksX7_many_1 4 rfl rfl)
theorem dX7_many_30 : decode cX7_many 30 = .ok (.iaload, 1) := dk_46 (dk_at dksX7_many_1 6 rfl rfl)
theorem dX7_many_31 : decode cX7_many 31 = .ok (.iload_n 2, 1) := dk_28 (dk_at dksX7_many_1 7 rfl rfl)
theorem dX7_many_32 : decode cX7_many 32 = .ok (.if_icmp .ne 7, 3) := dk_160 0 7 (dk_at dksX7_many_1 8 rfl rfl)
theorem dX7_many_35 : decode cX7_many 35 = .ok (.iconst 1, 1) := dk_4 (dk_at dksX7_many_1 11 rfl rfl)
theorem dX7_many_36 : decode cX7_many 36 = .ok (.goto 4, 3) := dk_167 0 4 (dk_at dksX7_many_1 12 rfl rfl)
theorem dX7_many_39 : decode cX7_many 39 = .ok (.iconst 0, 1) := dk_3 (dk_at dksX7_many_1 15 rfl rfl)
theorem dX7_many_40 : decode cX7_many 40 = .ok (.iadd, 1) := dk_96 (dk_at dksX7_many_1 16 rfl rfl)
theorem dX7_many_41 : decode cX7_many 41 = .ok (.istore_n 3, 1) := dk_62 (dk_at dksX7_many_1 17 rfl rfl)
theorem dX7_many_42 : decode cX7_many 42 = .ok (.iinc 4 1, 3) := dk_132 4 1 (dk_at dksX7_many_1 18 rfl rfl)
theorem dX7_many_45 : decode cX7_many 45 = .ok (.goto (-40), 3) := dk_167 255 216 (dk_at dksX7_many_1 21 rfl rfl)
theorem dX7_many_48 : decode cX7_many 48 = .ok (.iload_n 3, 1) := dk_29 (dk_at dksX7_many_2 0 rfl rfl)
theorem dX7_many_49 : decode cX7_many 49 = .ok (.ireturn, 1) := dk_172 (dk_at dksX7_many_2 1 rfl rfl)
abbrev cX7_after : ByteArray := prog_21_method_7_code
def yX7_after : MethodName := ⟨RX7, "after", "(I)LCheekTown$Years;"⟩
def dkwX7_after_0 : List UInt8 := [3, 61, 28, 27, 162, 0, 16, 42, 182, 0, 58, 153, 0, 9, 132, 2, 1, 167, 255, 241, 42, 176]
abbrev dktX7_after_0 : List UInt8 := dkwX7_after_0 ++ []
theorem dksX7_after_0 : cX7_after.data.toList.drop 0 = dktX7_after_0 := by decide +kernel
theorem dX7_after_0 : decode cX7_after 0 = .ok (.iconst 0, 1) := dk_3 (dk_at dksX7_after_0 0 rfl rfl)
theorem dX7_after_1 : decode cX7_after 1 = .ok (.istore_n 2, 1) := dk_61 (dk_at dksX7_after_0 1 rfl rfl)
theorem dX7_after_2 : decode cX7_after 2 = .ok (.iload_n 2, 1) := dk_28 (dk_at dksX7_after_0 2 rfl rfl)
theorem dX7_after_3 : decode cX7_after 3 = .ok (.iload_n 1, 1) := dk_27 (dk_at dksX7_after_0 3 rfl rfl)
theorem dX7_after_4 : decode cX7_after 4 = .ok (.if_icmp .ge 16, 3) := dk_162 0 16 (dk_at dksX7_after_0 4 rfl rfl)
theorem dX7_after_7 : decode cX7_after 7 = .ok (.aload_n 0, 1) := dk_42 (dk_at dksX7_after_0 7 rfl rfl)
theorem dX7_after_8 : decode cX7_after 8 = .ok (.invokevirtual 58, 3) := dk_182 0 58 (dk_at dksX7_after_0 8 rfl rfl)
theorem dX7_after_11 : decode cX7_after 11 = .ok (.ifCond .eq 9, 3) := dk_153 0 9 (dk_at dksX7_after_0 11 rfl rfl)
theorem dX7_after_14 : decode cX7_after 14 = .ok (.iinc 2 1, 3) := dk_132 2 1 (dk_at dksX7_after_0 14 rfl rfl)
theorem dX7_after_17 : decode cX7_after 17 = .ok (.goto (-15), 3) := dk_167 255 241 (dk_at dksX7_after_0 17 rfl rfl)
theorem dX7_after_20 : decode cX7_after 20 = .ok (.aload_n 0, 1) := dk_42 (dk_at dksX7_after_0 20 rfl rfl)
theorem dX7_after_21 : decode cX7_after 21 = .ok (.areturn, 1) := dk_176 (dk_at dksX7_after_0 21 rfl rfl)
abbrev cX7_unlike : ByteArray := prog_21_method_10_code
def yX7_unlike : MethodName := ⟨RX7, "unlike", "()I"⟩
def dkwX7_unlike_1 : List UInt8 := [167, 0, 4, 3, 96, 60, 132, 2, 1, 167, 255, 227, 27, 172]
abbrev dktX7_unlike_1 : List UInt8 := dkwX7_unlike_1 ++ []
def dkwX7_unlike_0 : List UInt8 := [3, 60, 3, 61, 28, 16, 32, 162, 0, 29, 27, 42, 42, 182, 0, 62, 28, 182, 0, 51, 158, 0, 7, 4]
abbrev dktX7_unlike_0 : List UInt8 := dkwX7_unlike_0 ++ dktX7_unlike_1
theorem dksX7_unlike_0 : cX7_unlike.data.toList.drop 0 = dktX7_unlike_0 := by decide +kernel
theorem dksX7_unlike_1 : cX7_unlike.data.toList.drop 24 = dktX7_unlike_1 := dk_seg dksX7_unlike_0 24 rfl rfl
theorem dX7_unlike_0 : decode cX7_unlike 0 = .ok (.iconst 0, 1) := dk_3 (dk_at dksX7_unlike_0 0 rfl rfl)
theorem dX7_unlike_1 : decode cX7_unlike 1 = .ok (.istore_n 1, 1) := dk_60 (dk_at dksX7_unlike_0 1 rfl rfl)
theorem dX7_unlike_2 : decode cX7_unlike 2 = .ok (.iconst 0, 1) := dk_3 (dk_at dksX7_unlike_0 2 rfl rfl)
theorem dX7_unlike_3 : decode cX7_unlike 3 = .ok (.istore_n 2, 1) := dk_61 (dk_at dksX7_unlike_0 3 rfl rfl)
theorem dX7_unlike_4 : decode cX7_unlike 4 = .ok (.iload_n 2, 1) := dk_28 (dk_at dksX7_unlike_0 4 rfl rfl)
theorem dX7_unlike_5 : decode cX7_unlike 5 = .ok (.bipush 32, 2) := dk_16 32 (dk_at dksX7_unlike_0 5 rfl rfl)
theorem dX7_unlike_7 : decode cX7_unlike 7 = .ok (.if_icmp .ge 29, 3) := dk_162 0 29 (dk_at dksX7_unlike_0 7 rfl rfl)
theorem dX7_unlike_10 : decode cX7_unlike 10 = .ok (.iload_n 1, 1) := dk_27 (dk_at dksX7_unlike_0 10 rfl rfl)
theorem dX7_unlike_11 : decode cX7_unlike 11 = .ok (.aload_n 0, 1) := dk_42 (dk_at dksX7_unlike_0 11 rfl rfl)
theorem dX7_unlike_12 : decode cX7_unlike 12 = .ok (.aload_n 0, 1) := dk_42 (dk_at dksX7_unlike_0 12 rfl rfl)
theorem dX7_unlike_13 : decode cX7_unlike 13 = .ok (.invokevirtual 62, 3) := dk_182 0 62 (dk_at dksX7_unlike_0 13 rfl rfl)
theorem dX7_unlike_16 : decode cX7_unlike 16 = .ok (.iload_n 2, 1) := dk_28 (dk_at dksX7_unlike_0 16 rfl rfl)
theorem dX7_unlike_17 : decode cX7_unlike 17 = .ok (.invokevirtual 51, 3) := dk_182 0 51 (dk_at dksX7_unlike_0 17 rfl rfl)
theorem dX7_unlike_20 : decode cX7_unlike 20 = .ok (.ifCond .le 7, 3) := dk_158 0 7 (dk_at dksX7_unlike_0 20 rfl rfl)
theorem dX7_unlike_23 : decode cX7_unlike 23 = .ok (.iconst 1, 1) := dk_4 (dk_at dksX7_unlike_0 23 rfl rfl)
theorem dX7_unlike_24 : decode cX7_unlike 24 = .ok (.goto 4, 3) := dk_167 0 4 (dk_at dksX7_unlike_1 0 rfl rfl)
theorem dX7_unlike_27 : decode cX7_unlike 27 = .ok (.iconst 0, 1) := dk_3 (dk_at dksX7_unlike_1 3 rfl rfl)
theorem dX7_unlike_28 : decode cX7_unlike 28 = .ok (.iadd, 1) := dk_96 (dk_at dksX7_unlike_1 4 rfl rfl)
theorem dX7_unlike_29 : decode cX7_unlike 29 = .ok (.istore_n 1, 1) := dk_60 (dk_at dksX7_unlike_1 5 rfl rfl)
theorem dX7_unlike_30 : decode cX7_unlike 30 = .ok (.iinc 2 1, 3) := dk_132 2 1 (dk_at dksX7_unlike_1 6 rfl rfl)
theorem dX7_unlike_33 : decode cX7_unlike 33 = .ok (.goto (-29), 3) := dk_167 255 227 (dk_at dksX7_unlike_1 9 rfl rfl)
theorem dX7_unlike_36 : decode cX7_unlike 36 = .ok (.iload_n 1, 1) := dk_27 (dk_at dksX7_unlike_1 12 rfl rfl)
theorem dX7_unlike_37 : decode cX7_unlike 37 = .ok (.ireturn, 1) := dk_172 (dk_at dksX7_unlike_1 13 rfl rfl)
abbrev cX7_all : ByteArray := prog_21_method_8_code
def yX7_all : MethodName := ⟨RX7, "all", "()I"⟩
def dkwX7_all_0 : List UInt8 := [4, 42, 180, 0, 35, 120, 4, 100, 172]
abbrev dktX7_all_0 : List UInt8 := dkwX7_all_0 ++ []
theorem dksX7_all_0 : cX7_all.data.toList.drop 0 = dktX7_all_0 := by decide +kernel
theorem dX7_all_0 : decode cX7_all 0 = .ok (.iconst 1, 1) := dk_4 (dk_at dksX7_all_0 0 rfl rfl)
theorem dX7_all_1 : decode cX7_all 1 = .ok (.aload_n 0, 1) := dk_42 (dk_at dksX7_all_0 1 rfl rfl)
theorem dX7_all_2 : decode cX7_all 2 = .ok (.getfield 35, 3) := dk_180 0 35 (dk_at dksX7_all_0 2 rfl rfl)
theorem dX7_all_5 : decode cX7_all 5 = .ok (.ishl, 1) := dk_120 (dk_at dksX7_all_0 5 rfl rfl)
theorem dX7_all_6 : decode cX7_all 6 = .ok (.iconst 1, 1) := dk_4 (dk_at dksX7_all_0 6 rfl rfl)
theorem dX7_all_7 : decode cX7_all 7 = .ok (.isub, 1) := dk_100 (dk_at dksX7_all_0 7 rfl rfl)
theorem dX7_all_8 : decode cX7_all 8 = .ok (.ireturn, 1) := dk_172 (dk_at dksX7_all_0 8 rfl rfl)
abbrev cX7_most : ByteArray := prog_21_method_11_code
def yX7_most : MethodName := ⟨RX7, "most", "()I"⟩
def dkwX7_most_2 : List UInt8 := [167, 0, 4, 27, 172]
abbrev dktX7_most_2 : List UInt8 := dkwX7_most_2 ++ []
def dkwX7_most_1 : List UInt8 := [27, 182, 0, 51, 164, 0, 5, 28, 60, 132, 2, 1, 167, 255, 224, 42, 180, 0, 35, 154, 0, 7, 2]
abbrev dktX7_most_1 : List UInt8 := dkwX7_most_1 ++ dktX7_most_2
def dkwX7_most_0 : List UInt8 := [3, 60, 4, 61, 28, 16, 32, 162, 0, 32, 42, 42, 182, 0, 62, 28, 182, 0, 51, 42, 42, 182, 0, 62]
abbrev dktX7_most_0 : List UInt8 := dkwX7_most_0 ++ dktX7_most_1
theorem dksX7_most_0 : cX7_most.data.toList.drop 0 = dktX7_most_0 := by decide +kernel
theorem dksX7_most_1 : cX7_most.data.toList.drop 24 = dktX7_most_1 := dk_seg dksX7_most_0 24 rfl rfl
theorem dksX7_most_2 : cX7_most.data.toList.drop 47 = dktX7_most_2 := dk_seg dksX7_most_1 23 rfl rfl
theorem dX7_most_0 : decode cX7_most 0 = .ok (.iconst 0, 1) := dk_3 (dk_at dksX7_most_0 0 rfl rfl)
theorem dX7_most_1 : decode cX7_most 1 = .ok (.istore_n 1, 1) := dk_60 (dk_at dksX7_most_0 1 rfl rfl)
theorem dX7_most_2 : decode cX7_most 2 = .ok (.iconst 1, 1) := dk_4 (dk_at dksX7_most_0 2 rfl rfl)
theorem dX7_most_3 : decode cX7_most 3 = .ok (.istore_n 2, 1) := dk_61 (dk_at dksX7_most_0 3 rfl rfl)
theorem dX7_most_4 : decode cX7_most 4 = .ok (.iload_n 2, 1) := dk_28 (dk_at dksX7_most_0 4 rfl rfl)
theorem dX7_most_5 : decode cX7_most 5 = .ok (.bipush 32, 2) := dk_16 32 (dk_at dksX7_most_0 5 rfl rfl)
theorem dX7_most_7 : decode cX7_most 7 = .ok (.if_icmp .ge 32, 3) := dk_162 0 32 (dk_at dksX7_most_0 7 rfl rfl)
theorem dX7_most_10 : decode cX7_most 10 = .ok (.aload_n 0, 1) := dk_42 (dk_at dksX7_most_0 10 rfl rfl)
theorem dX7_most_11 : decode cX7_most 11 = .ok (.aload_n 0, 1) := dk_42 (dk_at dksX7_most_0 11 rfl rfl)
theorem dX7_most_12 : decode cX7_most 12 = .ok (.invokevirtual 62, 3) := dk_182 0 62 (dk_at dksX7_most_0 12 rfl rfl)
theorem dX7_most_15 : decode cX7_most 15 = .ok (.iload_n 2, 1) := dk_28 (dk_at dksX7_most_0 15 rfl rfl)
theorem dX7_most_16 : decode cX7_most 16 = .ok (.invokevirtual 51, 3) := dk_182 0 51 (dk_at dksX7_most_0 16 rfl rfl)
theorem dX7_most_19 : decode cX7_most 19 = .ok (.aload_n 0, 1) := dk_42 (dk_at dksX7_most_0 19 rfl rfl)
theorem dX7_most_20 : decode cX7_most 20 = .ok (.aload_n 0, 1) := dk_42 (dk_at dksX7_most_0 20 rfl rfl)
theorem dX7_most_21 : decode cX7_most 21 = .ok (.invokevirtual 62, 3) := dk_182 0 62 (dk_at dksX7_most_0 21 rfl rfl)
theorem dX7_most_24 : decode cX7_most 24 = .ok (.iload_n 1, 1) := dk_27 (dk_at dksX7_most_1 0 rfl rfl)
theorem dX7_most_25 : decode cX7_most 25 = .ok (.invokevirtual 51, 3) := dk_182 0 51 (dk_at dksX7_most_1 1 rfl rfl)
theorem dX7_most_28 : decode cX7_most 28 = .ok (.if_icmp .le 5, 3) := dk_164 0 5 (dk_at dksX7_most_1 4 rfl rfl)
theorem dX7_most_31 : decode cX7_most 31 = .ok (.iload_n 2, 1) := dk_28 (dk_at dksX7_most_1 7 rfl rfl)
theorem dX7_most_32 : decode cX7_most 32 = .ok (.istore_n 1, 1) := dk_60 (dk_at dksX7_most_1 8 rfl rfl)
theorem dX7_most_33 : decode cX7_most 33 = .ok (.iinc 2 1, 3) := dk_132 2 1 (dk_at dksX7_most_1 9 rfl rfl)
theorem dX7_most_36 : decode cX7_most 36 = .ok (.goto (-32), 3) := dk_167 255 224 (dk_at dksX7_most_1 12 rfl rfl)
theorem dX7_most_39 : decode cX7_most 39 = .ok (.aload_n 0, 1) := dk_42 (dk_at dksX7_most_1 15 rfl rfl)
theorem dX7_most_40 : decode cX7_most 40 = .ok (.getfield 35, 3) := dk_180 0 35 (dk_at dksX7_most_1 16 rfl rfl)
theorem dX7_most_43 : decode cX7_most 43 = .ok (.ifCond .ne 7, 3) := dk_154 0 7 (dk_at dksX7_most_1 19 rfl rfl)
theorem dX7_most_46 : decode cX7_most 46 = .ok (.iconst (-1), 1) := dk_2 (dk_at dksX7_most_1 22 rfl rfl)
theorem dX7_most_47 : decode cX7_most 47 = .ok (.goto 4, 3) := dk_167 0 4 (dk_at dksX7_most_2 0 rfl rfl)
theorem dX7_most_50 : decode cX7_most 50 = .ok (.iload_n 1, 1) := dk_27 (dk_at dksX7_most_2 3 rfl rfl)
theorem dX7_most_51 : decode cX7_most 51 = .ok (.ireturn, 1) := dk_172 (dk_at dksX7_most_2 4 rfl rfl)
abbrev cX7_feast : ByteArray := prog_21_method_3_code
def yX7_feast : MethodName := ⟨RX7, "feast", "(II)LCheekTown$Years;"⟩
def dkwX7_feast_2 : List UInt8 := [132, 3, 1, 167, 255, 230, 42, 176]
abbrev dktX7_feast_2 : List UInt8 := dkwX7_feast_2 ++ []
def dkwX7_feast_1 : List UInt8 := [62, 29, 42, 180, 0, 35, 162, 0, 24, 27, 29, 184, 0, 47, 153, 0, 10, 42, 180, 0, 15, 29, 28, 79]
abbrev dktX7_feast_1 : List UInt8 := dkwX7_feast_1 ++ dktX7_feast_2
def dkwX7_feast_0 : List UInt8 := [42, 180, 0, 3, 180, 0, 25, 180, 0, 36, 3, 42, 180, 0, 15, 3, 42, 180, 0, 35, 184, 0, 37, 3]
abbrev dktX7_feast_0 : List UInt8 := dkwX7_feast_0 ++ dktX7_feast_1
theorem dksX7_feast_0 : cX7_feast.data.toList.drop 0 = dktX7_feast_0 := by decide +kernel
theorem dksX7_feast_1 : cX7_feast.data.toList.drop 24 = dktX7_feast_1 := dk_seg dksX7_feast_0 24 rfl rfl
theorem dksX7_feast_2 : cX7_feast.data.toList.drop 48 = dktX7_feast_2 := dk_seg dksX7_feast_1 24 rfl rfl
theorem dX7_feast_0 : decode cX7_feast 0 = .ok (.aload_n 0, 1) := dk_42 (dk_at dksX7_feast_0 0 rfl rfl)
theorem dX7_feast_1 : decode cX7_feast 1 = .ok (.getfield 3, 3) := dk_180 0 3 (dk_at dksX7_feast_0 1 rfl rfl)
theorem dX7_feast_4 : decode cX7_feast 4 = .ok (.getfield 25, 3) := dk_180 0 25 (dk_at dksX7_feast_0 4 rfl rfl)
theorem dX7_feast_7 : decode cX7_feast 7 = .ok (.getfield 36, 3) := dk_180 0 36 (dk_at dksX7_feast_0 7 rfl rfl)
theorem dX7_feast_10 : decode cX7_feast 10 = .ok (.iconst 0, 1) := dk_3 (dk_at dksX7_feast_0 10 rfl rfl)
theorem dX7_feast_11 : decode cX7_feast 11 = .ok (.aload_n 0, 1) := dk_42 (dk_at dksX7_feast_0 11 rfl rfl)
theorem dX7_feast_12 : decode cX7_feast 12 = .ok (.getfield 15, 3) := dk_180 0 15 (dk_at dksX7_feast_0 12 rfl rfl)
theorem dX7_feast_15 : decode cX7_feast 15 = .ok (.iconst 0, 1) := dk_3 (dk_at dksX7_feast_0 15 rfl rfl)
theorem dX7_feast_16 : decode cX7_feast 16 = .ok (.aload_n 0, 1) := dk_42 (dk_at dksX7_feast_0 16 rfl rfl)
theorem dX7_feast_17 : decode cX7_feast 17 = .ok (.getfield 35, 3) := dk_180 0 35 (dk_at dksX7_feast_0 17 rfl rfl)
theorem dX7_feast_20 : decode cX7_feast 20 = .ok (.invokestatic 37, 3) := dk_184 0 37 (dk_at dksX7_feast_0 20 rfl rfl)
theorem dX7_feast_23 : decode cX7_feast 23 = .ok (.iconst 0, 1) := dk_3 (dk_at dksX7_feast_0 23 rfl rfl)
theorem dX7_feast_24 : decode cX7_feast 24 = .ok (.istore_n 3, 1) := dk_62 (dk_at dksX7_feast_1 0 rfl rfl)
theorem dX7_feast_25 : decode cX7_feast 25 = .ok (.iload_n 3, 1) := dk_29 (dk_at dksX7_feast_1 1 rfl rfl)
theorem dX7_feast_26 : decode cX7_feast 26 = .ok (.aload_n 0, 1) := dk_42 (dk_at dksX7_feast_1 2 rfl rfl)
theorem dX7_feast_27 : decode cX7_feast 27 = .ok (.getfield 35, 3) := dk_180 0 35 (dk_at dksX7_feast_1 3 rfl rfl)
theorem dX7_feast_30 : decode cX7_feast 30 = .ok (.if_icmp .ge 24, 3) := dk_162 0 24 (dk_at dksX7_feast_1 6 rfl rfl)
theorem dX7_feast_33 : decode cX7_feast 33 = .ok (.iload_n 1, 1) := dk_27 (dk_at dksX7_feast_1 9 rfl rfl)
theorem dX7_feast_34 : decode cX7_feast 34 = .ok (.iload_n 3, 1) := dk_29 (dk_at dksX7_feast_1 10 rfl rfl)
theorem dX7_feast_35 : decode cX7_feast 35 = .ok (.invokestatic 47, 3) := dk_184 0 47 (dk_at dksX7_feast_1 11 rfl rfl)
theorem dX7_feast_38 : decode cX7_feast 38 = .ok (.ifCond .eq 10, 3) := dk_153 0 10 (dk_at dksX7_feast_1 14 rfl rfl)
theorem dX7_feast_41 : decode cX7_feast 41 = .ok (.aload_n 0, 1) := dk_42 (dk_at dksX7_feast_1 17 rfl rfl)
theorem dX7_feast_42 : decode cX7_feast 42 = .ok (.getfield 15, 3) := dk_180 0 15 (dk_at dksX7_feast_1 18 rfl rfl)
theorem dX7_feast_45 : decode cX7_feast 45 = .ok (.iload_n 3, 1) := dk_29 (dk_at dksX7_feast_1 21 rfl rfl)
theorem dX7_feast_46 : decode cX7_feast 46 = .ok (.iload_n 2, 1) := dk_28 (dk_at dksX7_feast_1 22 rfl rfl)
theorem dX7_feast_47 : decode cX7_feast 47 = .ok (.iastore, 1) := dk_79 (dk_at dksX7_feast_1 23 rfl rfl)
theorem dX7_feast_48 : decode cX7_feast 48 = .ok (.iinc 3 1, 3) := dk_132 3 1 (dk_at dksX7_feast_2 0 rfl rfl)
theorem dX7_feast_51 : decode cX7_feast 51 = .ok (.goto (-26), 3) := dk_167 255 230 (dk_at dksX7_feast_2 3 rfl rfl)
theorem dX7_feast_54 : decode cX7_feast 54 = .ok (.aload_n 0, 1) := dk_42 (dk_at dksX7_feast_2 6 rfl rfl)
theorem dX7_feast_55 : decode cX7_feast 55 = .ok (.areturn, 1) := dk_176 (dk_at dksX7_feast_2 7 rfl rfl)
abbrev cX7_have : ByteArray := prog_21_method_9_code
def yX7_have : MethodName := ⟨RX7, "have", "(I)Z"⟩
def dkwX7_have_0 : List UInt8 := [42, 42, 182, 0, 62, 27, 182, 0, 51, 42, 180, 0, 35, 160, 0, 7, 4, 167, 0, 4, 3, 172]
abbrev dktX7_have_0 : List UInt8 := dkwX7_have_0 ++ []
theorem dksX7_have_0 : cX7_have.data.toList.drop 0 = dktX7_have_0 := by decide +kernel
theorem dX7_have_0 : decode cX7_have 0 = .ok (.aload_n 0, 1) := dk_42 (dk_at dksX7_have_0 0 rfl rfl)
theorem dX7_have_1 : decode cX7_have 1 = .ok (.aload_n 0, 1) := dk_42 (dk_at dksX7_have_0 1 rfl rfl)
theorem dX7_have_2 : decode cX7_have 2 = .ok (.invokevirtual 62, 3) := dk_182 0 62 (dk_at dksX7_have_0 2 rfl rfl)
theorem dX7_have_5 : decode cX7_have 5 = .ok (.iload_n 1, 1) := dk_27 (dk_at dksX7_have_0 5 rfl rfl)
theorem dX7_have_6 : decode cX7_have 6 = .ok (.invokevirtual 51, 3) := dk_182 0 51 (dk_at dksX7_have_0 6 rfl rfl)
theorem dX7_have_9 : decode cX7_have 9 = .ok (.aload_n 0, 1) := dk_42 (dk_at dksX7_have_0 9 rfl rfl)
theorem dX7_have_10 : decode cX7_have 10 = .ok (.getfield 35, 3) := dk_180 0 35 (dk_at dksX7_have_0 10 rfl rfl)
theorem dX7_have_13 : decode cX7_have 13 = .ok (.if_icmp .ne 7, 3) := dk_160 0 7 (dk_at dksX7_have_0 13 rfl rfl)
theorem dX7_have_16 : decode cX7_have 16 = .ok (.iconst 1, 1) := dk_4 (dk_at dksX7_have_0 16 rfl rfl)
theorem dX7_have_17 : decode cX7_have 17 = .ok (.goto 4, 3) := dk_167 0 4 (dk_at dksX7_have_0 17 rfl rfl)
theorem dX7_have_20 : decode cX7_have 20 = .ok (.iconst 0, 1) := dk_3 (dk_at dksX7_have_0 20 rfl rfl)
theorem dX7_have_21 : decode cX7_have 21 = .ok (.ireturn, 1) := dk_172 (dk_at dksX7_have_0 21 rfl rfl)
theorem q126 : (Jvm.Cond.initialized "CheekTown$Years") ∈ lw_all := lw_g (lw_at lw_m1 10 rfl) rfl
theorem q184 : (Jvm.Cond.fieldLinkNest "CheekTown$Years" (29 : Nat) "CheekTown$World" "people" "I" "CheekTown") ∈ lw_tbl := lw_at lw_m1 68 rfl
theorem q220 : (Jvm.Cond.fieldLinkNest "CheekTown$Years" (36 : Nat) "CheekTown$World" "own" "[I" "CheekTown") ∈ lw_tbl := lw_at lw_m1 104 rfl
theorem q443 : (Jvm.Cond.instantiable "CheekTown$Years" (5 : Nat)) ∈ lw_all := lw_g (lw_at lw_m2 87 rfl) rfl
theorem q445 : (Jvm.Cond.instanceMethod ({ cls := "CheekTown$Years", name := "<init>", desc := "(LCheekTown;)V" } : Jvm.MethodName)) ∈ lw_all := lw_g (lw_at lw_m2 89 rfl) rfl
theorem q446 : (Jvm.Cond.code ({ cls := "CheekTown$Years", name := "<init>", desc := "(LCheekTown;)V" } : Jvm.MethodName) prog_21_method_1_code (2 : Nat) (Option.none : Option Jvm.ClassFile.FieldType)) ∈ lw_all := lw_g (lw_at lw_m2 90 rfl) rfl
theorem q447 : (Jvm.Cond.methodLink "CheekTown$Years" (9 : Nat) ({ cls := "java/lang/Object", name := "<init>", desc := "()V" } : Jvm.MethodName)) ∈ lw_all := lw_g (lw_at lw_m2 91 rfl) rfl
theorem q448 : (Jvm.Cond.fieldLink "CheekTown$Years" (15 : Nat) "CheekTown$Years" "own" "[I") ∈ lw_all := lw_g (lw_at lw_m2 92 rfl) rfl
theorem q450 : (Jvm.Cond.fieldLink "CheekTown$Years" (19 : Nat) "CheekTown$Years" "then" "[I") ∈ lw_all := lw_g (lw_at lw_m2 94 rfl) rfl
theorem q451 : (Jvm.Cond.fieldLink "CheekTown$Years" (22 : Nat) "CheekTown$Years" "about" "[I") ∈ lw_all := lw_g (lw_at lw_m2 95 rfl) rfl
theorem q452 : (Jvm.Cond.fieldLink "CheekTown$Years" (35 : Nat) "CheekTown$Years" "people" "I") ∈ lw_all := lw_g (lw_at lw_m2 96 rfl) rfl
theorem q453 : (Jvm.Cond.fieldLink "CheekTown$Years" (3 : Nat) "CheekTown$Years" "this$0" "LCheekTown;") ∈ lw_all := lw_g (lw_at lw_m2 97 rfl) rfl
theorem q454 : (Jvm.Cond.laysFinal "CheekTown$Years" "CheekTown$Years" "own" "[I") ∈ lw_all := lw_g (lw_at lw_m2 98 rfl) rfl
theorem q455 : (Jvm.Cond.soleField "CheekTown$Years" "own") ∈ lw_all := lw_g (lw_at lw_m2 99 rfl) rfl
theorem q456 : (Jvm.Cond.laysFinal "CheekTown$Years" "CheekTown$Years" "then" "[I") ∈ lw_all := lw_g (lw_at lw_m2 100 rfl) rfl
theorem q457 : (Jvm.Cond.soleField "CheekTown$Years" "then") ∈ lw_all := lw_g (lw_at lw_m2 101 rfl) rfl
theorem q458 : (Jvm.Cond.laysFinal "CheekTown$Years" "CheekTown$Years" "about" "[I") ∈ lw_all := lw_g (lw_at lw_m2 102 rfl) rfl
theorem q459 : (Jvm.Cond.soleField "CheekTown$Years" "about") ∈ lw_all := lw_g (lw_at lw_m2 103 rfl) rfl
theorem q460 : (Jvm.Cond.lays "CheekTown$Years" "CheekTown$Years" "people" "I") ∈ lw_all := lw_g (lw_at lw_m2 104 rfl) rfl
theorem q461 : (Jvm.Cond.soleField "CheekTown$Years" "people") ∈ lw_all := lw_g (lw_at lw_m2 105 rfl) rfl
theorem q462 : (Jvm.Cond.laysFinal "CheekTown$Years" "CheekTown$Years" "this$0" "LCheekTown;") ∈ lw_all := lw_g (lw_at lw_m2 106 rfl) rfl
theorem q463 : (Jvm.Cond.soleField "CheekTown$Years" "this$0") ∈ lw_all := lw_g (lw_at lw_m2 107 rfl) rfl
theorem q464 : (Jvm.Cond.superclass "CheekTown$Years" "java/lang/Object") ∈ lw_all := lw_g (lw_at lw_m2 108 rfl) rfl
theorem q466 : (Jvm.Cond.fieldLinkNest "CheekTown$Years" (25 : Nat) "CheekTown" "world" "LCheekTown$World;" "CheekTown") ∈ lw_tbl := lw_at lw_m2 110 rfl
theorem q1014 : (Jvm.Cond.instanceMethod ({ cls := "CheekTown$Years", name := "now", desc := "()LCheekTown$Years;" } : Jvm.MethodName)) ∈ lw_all := lw_g (lw_at lw_m4 178 rfl) rfl
theorem q1015 : (Jvm.Cond.selects "CheekTown$Years" ({ cls := "CheekTown$Years", name := "now", desc := "()LCheekTown$Years;" } : Jvm.MethodName) ({ cls := "CheekTown$Years", name := "now", desc := "()LCheekTown$Years;" } : Jvm.MethodName)) ∈ lw_all := lw_g (lw_at lw_m4 179 rfl) rfl
theorem q1016 : (Jvm.Cond.code ({ cls := "CheekTown$Years", name := "now", desc := "()LCheekTown$Years;" } : Jvm.MethodName) prog_21_method_2_code (2 : Nat) (Option.some (Jvm.ClassFile.FieldType.object "CheekTown$Years"))) ∈ lw_all := lw_g (lw_at lw_m4 180 rfl) rfl
theorem q1017 : (Jvm.Cond.methodLink "CheekTown$Years" (37 : Nat) ({ cls := "java/lang/System", name := "arraycopy", desc := "(Ljava/lang/Object;ILjava/lang/Object;II)V" } : Jvm.MethodName)) ∈ lw_all := lw_g (lw_at lw_m4 181 rfl) rfl
theorem q1018 : (Jvm.Cond.methodLink "CheekTown$Years" (43 : Nat) ({ cls := "CheekTown$World", name := "tied", desc := "(I)I" } : Jvm.MethodName)) ∈ lw_all := lw_g (lw_at lw_m4 182 rfl) rfl
theorem q1027 : (Jvm.Cond.instanceMethod ({ cls := "CheekTown$Years", name := "goes", desc := "()Z" } : Jvm.MethodName)) ∈ lw_all := lw_g (lw_at lw_m4 191 rfl) rfl
theorem q1028 : (Jvm.Cond.selects "CheekTown$Years" ({ cls := "CheekTown$Years", name := "goes", desc := "()Z" } : Jvm.MethodName) ({ cls := "CheekTown$Years", name := "goes", desc := "()Z" } : Jvm.MethodName)) ∈ lw_all := lw_g (lw_at lw_m4 192 rfl) rfl
theorem q1029 : (Jvm.Cond.code ({ cls := "CheekTown$Years", name := "goes", desc := "()Z" } : Jvm.MethodName) prog_21_method_6_code (3 : Nat) (Option.some Jvm.ClassFile.FieldType.boolean)) ∈ lw_all := lw_g (lw_at lw_m4 193 rfl) rfl
theorem q1030 : (Jvm.Cond.methodLink "CheekTown$Years" (55 : Nat) ({ cls := "CheekTown$Years", name := "taken", desc := "(I)I" } : Jvm.MethodName)) ∈ lw_all := lw_g (lw_at lw_m4 194 rfl) rfl
theorem q1031 : (Jvm.Cond.instanceMethod ({ cls := "CheekTown$Years", name := "taken", desc := "(I)I" } : Jvm.MethodName)) ∈ lw_all := lw_g (lw_at lw_m4 195 rfl) rfl
theorem q1032 : (Jvm.Cond.selects "CheekTown$Years" ({ cls := "CheekTown$Years", name := "taken", desc := "(I)I" } : Jvm.MethodName) ({ cls := "CheekTown$Years", name := "taken", desc := "(I)I" } : Jvm.MethodName)) ∈ lw_all := lw_g (lw_at lw_m4 196 rfl) rfl
theorem q1033 : (Jvm.Cond.code ({ cls := "CheekTown$Years", name := "taken", desc := "(I)I" } : Jvm.MethodName) prog_21_method_5_code (6 : Nat) (Option.some Jvm.ClassFile.FieldType.int)) ∈ lw_all := lw_g (lw_at lw_m4 197 rfl) rfl
theorem q1034 : (Jvm.Cond.methodLink "CheekTown$Years" (51 : Nat) ({ cls := "CheekTown$Years", name := "many", desc := "(II)I" } : Jvm.MethodName)) ∈ lw_all := lw_g (lw_at lw_m4 198 rfl) rfl
theorem q1035 : (Jvm.Cond.instanceMethod ({ cls := "CheekTown$Years", name := "many", desc := "(II)I" } : Jvm.MethodName)) ∈ lw_all := lw_g (lw_at lw_m4 199 rfl) rfl
theorem q1036 : (Jvm.Cond.selects "CheekTown$Years" ({ cls := "CheekTown$Years", name := "many", desc := "(II)I" } : Jvm.MethodName) ({ cls := "CheekTown$Years", name := "many", desc := "(II)I" } : Jvm.MethodName)) ∈ lw_all := lw_g (lw_at lw_m4 200 rfl) rfl
theorem q1037 : (Jvm.Cond.code ({ cls := "CheekTown$Years", name := "many", desc := "(II)I" } : Jvm.MethodName) prog_21_method_4_code (5 : Nat) (Option.some Jvm.ClassFile.FieldType.int)) ∈ lw_all := lw_g (lw_at lw_m4 201 rfl) rfl
theorem q1038 : (Jvm.Cond.methodLinkNest "CheekTown$Years" (47 : Nat) ({ cls := "CheekTown", name := "has", desc := "(II)Z" } : Jvm.MethodName) "CheekTown") ∈ lw_tbl := lw_at lw_m4 202 rfl
theorem q1573 : (Jvm.Cond.selects "CheekTown$Years" ({ cls := "java/lang/Object", name := "getClass", desc := "()Ljava/lang/Class;" } : Jvm.MethodName) ({ cls := "java/lang/Object", name := "getClass", desc := "()Ljava/lang/Class;" } : Jvm.MethodName)) ∈ lw_all := lw_g (lw_at lw_m7 17 rfl) rfl
theorem q2048 : (Jvm.Cond.instanceMethod ({ cls := "CheekTown$Years", name := "after", desc := "(I)LCheekTown$Years;" } : Jvm.MethodName)) ∈ lw_all := lw_g (lw_at lw_m9 12 rfl) rfl
theorem q2049 : (Jvm.Cond.selects "CheekTown$Years" ({ cls := "CheekTown$Years", name := "after", desc := "(I)LCheekTown$Years;" } : Jvm.MethodName) ({ cls := "CheekTown$Years", name := "after", desc := "(I)LCheekTown$Years;" } : Jvm.MethodName)) ∈ lw_all := lw_g (lw_at lw_m9 13 rfl) rfl
theorem q2050 : (Jvm.Cond.code ({ cls := "CheekTown$Years", name := "after", desc := "(I)LCheekTown$Years;" } : Jvm.MethodName) prog_21_method_7_code (3 : Nat) (Option.some (Jvm.ClassFile.FieldType.object "CheekTown$Years"))) ∈ lw_all := lw_g (lw_at lw_m9 14 rfl) rfl
theorem q2051 : (Jvm.Cond.methodLink "CheekTown$Years" (58 : Nat) ({ cls := "CheekTown$Years", name := "goes", desc := "()Z" } : Jvm.MethodName)) ∈ lw_all := lw_g (lw_at lw_m9 15 rfl) rfl
theorem q2053 : (Jvm.Cond.instanceMethod ({ cls := "CheekTown$Years", name := "unlike", desc := "()I" } : Jvm.MethodName)) ∈ lw_all := lw_g (lw_at lw_m9 17 rfl) rfl
theorem q2054 : (Jvm.Cond.selects "CheekTown$Years" ({ cls := "CheekTown$Years", name := "unlike", desc := "()I" } : Jvm.MethodName) ({ cls := "CheekTown$Years", name := "unlike", desc := "()I" } : Jvm.MethodName)) ∈ lw_all := lw_g (lw_at lw_m9 18 rfl) rfl
theorem q2055 : (Jvm.Cond.code ({ cls := "CheekTown$Years", name := "unlike", desc := "()I" } : Jvm.MethodName) prog_21_method_10_code (3 : Nat) (Option.some Jvm.ClassFile.FieldType.int)) ∈ lw_all := lw_g (lw_at lw_m9 19 rfl) rfl
theorem q2056 : (Jvm.Cond.methodLink "CheekTown$Years" (62 : Nat) ({ cls := "CheekTown$Years", name := "all", desc := "()I" } : Jvm.MethodName)) ∈ lw_all := lw_g (lw_at lw_m9 20 rfl) rfl
theorem q2057 : (Jvm.Cond.instanceMethod ({ cls := "CheekTown$Years", name := "all", desc := "()I" } : Jvm.MethodName)) ∈ lw_all := lw_g (lw_at lw_m9 21 rfl) rfl
theorem q2058 : (Jvm.Cond.selects "CheekTown$Years" ({ cls := "CheekTown$Years", name := "all", desc := "()I" } : Jvm.MethodName) ({ cls := "CheekTown$Years", name := "all", desc := "()I" } : Jvm.MethodName)) ∈ lw_all := lw_g (lw_at lw_m9 22 rfl) rfl
theorem q2059 : (Jvm.Cond.code ({ cls := "CheekTown$Years", name := "all", desc := "()I" } : Jvm.MethodName) prog_21_method_8_code (1 : Nat) (Option.some Jvm.ClassFile.FieldType.int)) ∈ lw_all := lw_g (lw_at lw_m9 23 rfl) rfl
theorem q2061 : (Jvm.Cond.instanceMethod ({ cls := "CheekTown$Years", name := "most", desc := "()I" } : Jvm.MethodName)) ∈ lw_all := lw_g (lw_at lw_m9 25 rfl) rfl
theorem q2062 : (Jvm.Cond.selects "CheekTown$Years" ({ cls := "CheekTown$Years", name := "most", desc := "()I" } : Jvm.MethodName) ({ cls := "CheekTown$Years", name := "most", desc := "()I" } : Jvm.MethodName)) ∈ lw_all := lw_g (lw_at lw_m9 26 rfl) rfl
theorem q2063 : (Jvm.Cond.code ({ cls := "CheekTown$Years", name := "most", desc := "()I" } : Jvm.MethodName) prog_21_method_11_code (3 : Nat) (Option.some Jvm.ClassFile.FieldType.int)) ∈ lw_all := lw_g (lw_at lw_m9 27 rfl) rfl
theorem q2081 : (Jvm.Cond.instanceMethod ({ cls := "CheekTown$Years", name := "feast", desc := "(II)LCheekTown$Years;" } : Jvm.MethodName)) ∈ lw_all := lw_g (lw_at lw_m9 45 rfl) rfl
theorem q2082 : (Jvm.Cond.selects "CheekTown$Years" ({ cls := "CheekTown$Years", name := "feast", desc := "(II)LCheekTown$Years;" } : Jvm.MethodName) ({ cls := "CheekTown$Years", name := "feast", desc := "(II)LCheekTown$Years;" } : Jvm.MethodName)) ∈ lw_all := lw_g (lw_at lw_m9 46 rfl) rfl
theorem q2083 : (Jvm.Cond.code ({ cls := "CheekTown$Years", name := "feast", desc := "(II)LCheekTown$Years;" } : Jvm.MethodName) prog_21_method_3_code (4 : Nat) (Option.some (Jvm.ClassFile.FieldType.object "CheekTown$Years"))) ∈ lw_all := lw_g (lw_at lw_m9 47 rfl) rfl
theorem q2085 : (Jvm.Cond.instanceMethod ({ cls := "CheekTown$Years", name := "have", desc := "(I)Z" } : Jvm.MethodName)) ∈ lw_all := lw_g (lw_at lw_m9 49 rfl) rfl
theorem q2086 : (Jvm.Cond.selects "CheekTown$Years" ({ cls := "CheekTown$Years", name := "have", desc := "(I)Z" } : Jvm.MethodName) ({ cls := "CheekTown$Years", name := "have", desc := "(I)Z" } : Jvm.MethodName)) ∈ lw_all := lw_g (lw_at lw_m9 50 rfl) rfl
theorem q2087 : (Jvm.Cond.code ({ cls := "CheekTown$Years", name := "have", desc := "(I)Z" } : Jvm.MethodName) prog_21_method_9_code (2 : Nat) (Option.some Jvm.ClassFile.FieldType.boolean)) ∈ lw_all := lw_g (lw_at lw_m9 51 rfl) rfl
theorem q2747 : (Jvm.Cond.castable "CheekTown$Years" "java/lang/Object") ∈ lw_tbl := lw_at lw_m11 231 rfl
theorem in_X7 : ∀ w ∈ wsX70, w ∈ lw_all := lw_in wsX70 [454, 456, 458, 460, 462] (by decide +kernel) (by decide +kernel)

/-! CheekTown$Wrong -/
set_option maxRecDepth 100000
def RX9 : String := "CheekTown$Wrong"
def TX9 : u_T := fun k => match k with
  | 0 => ("java/lang/Throwable", "cause", "Ljava/lang/Throwable;", false)
  | 1 => ("java/lang/Throwable", "stackTrace", "[Ljava/lang/StackTraceElement;", false)
  | 2 => ("java/lang/Throwable", "suppressedExceptions", "Ljava/util/List;", false)
  | 3 => ("java/lang/Throwable", "detailMessage", "Ljava/lang/String;", false)
  | 4 => ("java/lang/Throwable", "backtrace", "Ljava/lang/Object;", false)
  | _ => ("java/lang/Throwable", "depth", "I", false)
def tyX9 : Nat → FieldType := fun k => match k with
  | 0 => .object "java/lang/Throwable"
  | 1 => .array (.object "java/lang/StackTraceElement")
  | 2 => .object "java/util/List"
  | 3 => .object "java/lang/String"
  | 4 => .object "java/lang/Object"
  | _ => .int
abbrev wsX90 : List Cond := u_ws RX9 TX9 6
theorem nmX9 : ∀ a, a < 6 → ∀ b, b < 6 → a ≠ b → (TX9 a).2.1 ≠ (TX9 b).2.1 := by decide +kernel
theorem tyX9_ok : ∀ k, k < 6 → parseFieldDescriptor (TX9 k).2.2.1 = some (tyX9 k) := by decide +kernel
abbrev cX9_init : ByteArray := prog_20_method_1_code
def yX9_init : MethodName := ⟨RX9, "<init>", "()V"⟩
def dkwX9_init_0 : List UInt8 := [42, 1, 1, 3, 3, 183, 0, 1, 177]
abbrev dktX9_init_0 : List UInt8 := dkwX9_init_0 ++ []
theorem dksX9_init_0 : cX9_init.data.toList.drop 0 = dktX9_init_0 := by decide +kernel
theorem dX9_init_0 : decode cX9_init 0 = .ok (.aload_n 0, 1) := dk_42 (dk_at dksX9_init_0 0 rfl rfl)
theorem dX9_init_1 : decode cX9_init 1 = .ok (.aconst_null, 1) := dk_1 (dk_at dksX9_init_0 1 rfl rfl)
theorem dX9_init_2 : decode cX9_init 2 = .ok (.aconst_null, 1) := dk_1 (dk_at dksX9_init_0 2 rfl rfl)
theorem dX9_init_3 : decode cX9_init 3 = .ok (.iconst 0, 1) := dk_3 (dk_at dksX9_init_0 3 rfl rfl)
theorem dX9_init_4 : decode cX9_init 4 = .ok (.iconst 0, 1) := dk_3 (dk_at dksX9_init_0 4 rfl rfl)
theorem dX9_init_5 : decode cX9_init 5 = .ok (.invokespecial 1, 3) := dk_183 0 1 (dk_at dksX9_init_0 5 rfl rfl)
theorem dX9_init_8 : decode cX9_init 8 = .ok (.return_, 1) := dk_177 (dk_at dksX9_init_0 8 rfl rfl)
theorem q144 : (Jvm.Cond.initialized "CheekTown$Wrong") ∈ lw_all := lw_g (lw_at lw_m1 28 rfl) rfl
theorem q649 : (Jvm.Cond.selects "CheekTown$Wrong" ({ cls := "java/lang/Throwable", name := "fillInStackTrace", desc := "()Ljava/lang/Throwable;" } : Jvm.MethodName) ({ cls := "java/lang/Throwable", name := "fillInStackTrace", desc := "()Ljava/lang/Throwable;" } : Jvm.MethodName)) ∈ lw_all := lw_g (lw_at lw_m3 53 rfl) rfl
theorem q1177 : (Jvm.Cond.instantiable "CheekTown$Wrong" (6 : Nat)) ∈ lw_all := lw_g (lw_at lw_m5 101 rfl) rfl
theorem q1178 : (Jvm.Cond.castable "CheekTown$Wrong" "CheekTown$Wrong") ∈ lw_tbl := lw_at lw_m5 102 rfl
theorem q1179 : (Jvm.Cond.selects "CheekTown$Wrong" ({ cls := "java/lang/Throwable", name := "fillInStackTrace", desc := "(I)Ljava/lang/Throwable;" } : Jvm.MethodName) ({ cls := "java/lang/Throwable", name := "fillInStackTrace", desc := "(I)Ljava/lang/Throwable;" } : Jvm.MethodName)) ∈ lw_all := lw_g (lw_at lw_m5 103 rfl) rfl
theorem q1180 : (Jvm.Cond.lays "CheekTown$Wrong" "java/lang/Throwable" "cause" "Ljava/lang/Throwable;") ∈ lw_all := lw_g (lw_at lw_m5 104 rfl) rfl
theorem q1181 : (Jvm.Cond.lays "CheekTown$Wrong" "java/lang/Throwable" "stackTrace" "[Ljava/lang/StackTraceElement;") ∈ lw_all := lw_g (lw_at lw_m5 105 rfl) rfl
theorem q1182 : (Jvm.Cond.lays "CheekTown$Wrong" "java/lang/Throwable" "suppressedExceptions" "Ljava/util/List;") ∈ lw_all := lw_g (lw_at lw_m5 106 rfl) rfl
theorem q1183 : (Jvm.Cond.lays "CheekTown$Wrong" "java/lang/Throwable" "detailMessage" "Ljava/lang/String;") ∈ lw_all := lw_g (lw_at lw_m5 107 rfl) rfl
theorem q1184 : (Jvm.Cond.lays "CheekTown$Wrong" "java/lang/Throwable" "backtrace" "Ljava/lang/Object;") ∈ lw_all := lw_g (lw_at lw_m5 108 rfl) rfl
theorem q1186 : (Jvm.Cond.instanceMethod ({ cls := "CheekTown$Wrong", name := "<init>", desc := "()V" } : Jvm.MethodName)) ∈ lw_all := lw_g (lw_at lw_m5 110 rfl) rfl
theorem q1187 : (Jvm.Cond.code ({ cls := "CheekTown$Wrong", name := "<init>", desc := "()V" } : Jvm.MethodName) prog_20_method_1_code (1 : Nat) (Option.none : Option Jvm.ClassFile.FieldType)) ∈ lw_all := lw_g (lw_at lw_m5 111 rfl) rfl
theorem q1188 : (Jvm.Cond.methodLink "CheekTown$Wrong" (1 : Nat) ({ cls := "java/lang/Exception", name := "<init>", desc := "(Ljava/lang/String;Ljava/lang/Throwable;ZZ)V" } : Jvm.MethodName)) ∈ lw_all := lw_g (lw_at lw_m5 112 rfl) rfl
theorem q1194 : (Jvm.Cond.lays "CheekTown$Wrong" "java/lang/Throwable" "depth" "I") ∈ lw_all := lw_g (lw_at lw_m5 118 rfl) rfl
theorem q1195 : (Jvm.Cond.superclass "CheekTown$Wrong" "java/lang/Exception") ∈ lw_all := lw_g (lw_at lw_m5 119 rfl) rfl
theorem q1572 : (Jvm.Cond.selects "CheekTown$Wrong" ({ cls := "java/lang/Object", name := "getClass", desc := "()Ljava/lang/Class;" } : Jvm.MethodName) ({ cls := "java/lang/Object", name := "getClass", desc := "()Ljava/lang/Class;" } : Jvm.MethodName)) ∈ lw_all := lw_g (lw_at lw_m7 16 rfl) rfl
theorem q2752 : (Jvm.Cond.castable "CheekTown$Wrong" "java/lang/Object") ∈ lw_tbl := lw_at lw_m11 236 rfl
theorem in_X9 : ∀ w ∈ wsX90, w ∈ lw_all := lw_in wsX90 [1180, 1181, 1182, 1183, 1184, 1194] (by decide +kernel) (by decide +kernel)

/-! CheekTown$Kind -/
set_option maxRecDepth 100000
def RX10 : String := "CheekTown$Kind"
abbrev cX10_of : ByteArray := prog_4_method_4_code
def yX10_of : MethodName := ⟨RX10, "of", "(Ljava/lang/String;)LCheekTown$Kind;"⟩
def dkwX10_of_1 : List UInt8 := [42, 182, 0, 43, 153, 0, 6, 25, 4, 176, 132, 3, 1, 167, 255, 228, 1, 176]
abbrev dktX10_of_1 : List UInt8 := dkwX10_of_1 ++ []
def dkwX10_of_0 : List UInt8 := [184, 0, 39, 76, 43, 190, 61, 3, 62, 29, 28, 162, 0, 29, 43, 29, 50, 58, 4, 25, 4, 180, 0, 35]
abbrev dktX10_of_0 : List UInt8 := dkwX10_of_0 ++ dktX10_of_1
theorem dksX10_of_0 : cX10_of.data.toList.drop 0 = dktX10_of_0 := by decide +kernel
theorem dksX10_of_1 : cX10_of.data.toList.drop 24 = dktX10_of_1 := dk_seg dksX10_of_0 24 rfl rfl
theorem dX10_of_0 : decode cX10_of 0 = .ok (.invokestatic 39, 3) := dk_184 0 39 (dk_at dksX10_of_0 0 rfl rfl)
theorem dX10_of_3 : decode cX10_of 3 = .ok (.astore_n 1, 1) := dk_76 (dk_at dksX10_of_0 3 rfl rfl)
theorem dX10_of_4 : decode cX10_of 4 = .ok (.aload_n 1, 1) := dk_43 (dk_at dksX10_of_0 4 rfl rfl)
theorem dX10_of_5 : decode cX10_of 5 = .ok (.arraylength, 1) := dk_190 (dk_at dksX10_of_0 5 rfl rfl)
theorem dX10_of_6 : decode cX10_of 6 = .ok (.istore_n 2, 1) := dk_61 (dk_at dksX10_of_0 6 rfl rfl)
theorem dX10_of_7 : decode cX10_of 7 = .ok (.iconst 0, 1) := dk_3 (dk_at dksX10_of_0 7 rfl rfl)
theorem dX10_of_8 : decode cX10_of 8 = .ok (.istore_n 3, 1) := dk_62 (dk_at dksX10_of_0 8 rfl rfl)
theorem dX10_of_9 : decode cX10_of 9 = .ok (.iload_n 3, 1) := dk_29 (dk_at dksX10_of_0 9 rfl rfl)
theorem dX10_of_10 : decode cX10_of 10 = .ok (.iload_n 2, 1) := dk_28 (dk_at dksX10_of_0 10 rfl rfl)
theorem dX10_of_11 : decode cX10_of 11 = .ok (.if_icmp .ge 29, 3) := dk_162 0 29 (dk_at dksX10_of_0 11 rfl rfl)
theorem dX10_of_14 : decode cX10_of 14 = .ok (.aload_n 1, 1) := dk_43 (dk_at dksX10_of_0 14 rfl rfl)
theorem dX10_of_15 : decode cX10_of 15 = .ok (.iload_n 3, 1) := dk_29 (dk_at dksX10_of_0 15 rfl rfl)
theorem dX10_of_16 : decode cX10_of 16 = .ok (.aaload, 1) := dk_50 (dk_at dksX10_of_0 16 rfl rfl)
theorem dX10_of_17 : decode cX10_of 17 = .ok (.astore 4, 2) := dk_58 4 (dk_at dksX10_of_0 17 rfl rfl)
theorem dX10_of_19 : decode cX10_of 19 = .ok (.aload 4, 2) := dk_25 4 (dk_at dksX10_of_0 19 rfl rfl)
theorem dX10_of_21 : decode cX10_of 21 = .ok (.getfield 35, 3) := dk_180 0 35 (dk_at dksX10_of_0 21 rfl rfl)
theorem dX10_of_24 : decode cX10_of 24 = .ok (.aload_n 0, 1) := dk_42 (dk_at dksX10_of_1 0 rfl rfl)
theorem dX10_of_25 : decode cX10_of 25 = .ok (.invokevirtual 43, 3) := dk_182 0 43 (dk_at dksX10_of_1 1 rfl rfl)
theorem dX10_of_28 : decode cX10_of 28 = .ok (.ifCond .eq 6, 3) := dk_153 0 6 (dk_at dksX10_of_1 4 rfl rfl)
theorem dX10_of_31 : decode cX10_of 31 = .ok (.aload 4, 2) := dk_25 4 (dk_at dksX10_of_1 7 rfl rfl)
theorem dX10_of_33 : decode cX10_of 33 = .ok (.areturn, 1) := dk_176 (dk_at dksX10_of_1 9 rfl rfl)
theorem dX10_of_34 : decode cX10_of 34 = .ok (.iinc 3 1, 3) := dk_132 3 1 (dk_at dksX10_of_1 10 rfl rfl)
theorem dX10_of_37 : decode cX10_of 37 = .ok (.goto (-28), 3) := dk_167 255 228 (dk_at dksX10_of_1 13 rfl rfl)
theorem dX10_of_40 : decode cX10_of 40 = .ok (.aconst_null, 1) := dk_1 (dk_at dksX10_of_1 16 rfl rfl)
theorem dX10_of_41 : decode cX10_of 41 = .ok (.areturn, 1) := dk_176 (dk_at dksX10_of_1 17 rfl rfl)
abbrev cX10_values : ByteArray := prog_4_method_1_code
def yX10_values : MethodName := ⟨RX10, "values", "()[LCheekTown$Kind;"⟩
def dkwX10_values_0 : List UInt8 := [178, 0, 16, 182, 0, 20, 192, 0, 21, 176]
abbrev dktX10_values_0 : List UInt8 := dkwX10_values_0 ++ []
theorem dksX10_values_0 : cX10_values.data.toList.drop 0 = dktX10_values_0 := by decide +kernel
theorem dX10_values_0 : decode cX10_values 0 = .ok (.getstatic 16, 3) := dk_178 0 16 (dk_at dksX10_values_0 0 rfl rfl)
theorem dX10_values_3 : decode cX10_values 3 = .ok (.invokevirtual 20, 3) := dk_182 0 20 (dk_at dksX10_values_0 3 rfl rfl)
theorem dX10_values_6 : decode cX10_values 6 = .ok (.checkcast 21, 3) := dk_192 0 21 (dk_at dksX10_values_0 6 rfl rfl)
theorem dX10_values_9 : decode cX10_values 9 = .ok (.areturn, 1) := dk_176 (dk_at dksX10_values_0 9 rfl rfl)
abbrev cX10_code : ByteArray := prog_4_method_5_code
def yX10_code : MethodName := ⟨RX10, "code", "(II)I"⟩
def dkwX10_code_0 : List UInt8 := [16, 8, 42, 182, 0, 49, 104, 5, 27, 4, 100, 104, 96, 28, 96, 172]
abbrev dktX10_code_0 : List UInt8 := dkwX10_code_0 ++ []
theorem dksX10_code_0 : cX10_code.data.toList.drop 0 = dktX10_code_0 := by decide +kernel
theorem dX10_code_0 : decode cX10_code 0 = .ok (.bipush 8, 2) := dk_16 8 (dk_at dksX10_code_0 0 rfl rfl)
theorem dX10_code_2 : decode cX10_code 2 = .ok (.aload_n 0, 1) := dk_42 (dk_at dksX10_code_0 2 rfl rfl)
theorem dX10_code_3 : decode cX10_code 3 = .ok (.invokevirtual 49, 3) := dk_182 0 49 (dk_at dksX10_code_0 3 rfl rfl)
theorem dX10_code_6 : decode cX10_code 6 = .ok (.imul, 1) := dk_104 (dk_at dksX10_code_0 6 rfl rfl)
theorem dX10_code_7 : decode cX10_code 7 = .ok (.iconst 2, 1) := dk_5 (dk_at dksX10_code_0 7 rfl rfl)
theorem dX10_code_8 : decode cX10_code 8 = .ok (.iload_n 1, 1) := dk_27 (dk_at dksX10_code_0 8 rfl rfl)
theorem dX10_code_9 : decode cX10_code 9 = .ok (.iconst 1, 1) := dk_4 (dk_at dksX10_code_0 9 rfl rfl)
theorem dX10_code_10 : decode cX10_code 10 = .ok (.isub, 1) := dk_100 (dk_at dksX10_code_0 10 rfl rfl)
theorem dX10_code_11 : decode cX10_code 11 = .ok (.imul, 1) := dk_104 (dk_at dksX10_code_0 11 rfl rfl)
theorem dX10_code_12 : decode cX10_code 12 = .ok (.iadd, 1) := dk_96 (dk_at dksX10_code_0 12 rfl rfl)
theorem dX10_code_13 : decode cX10_code 13 = .ok (.iload_n 2, 1) := dk_28 (dk_at dksX10_code_0 13 rfl rfl)
theorem dX10_code_14 : decode cX10_code 14 = .ok (.iadd, 1) := dk_96 (dk_at dksX10_code_0 14 rfl rfl)
theorem dX10_code_15 : decode cX10_code 15 = .ok (.ireturn, 1) := dk_172 (dk_at dksX10_code_0 15 rfl rfl)
theorem q146 : (Jvm.Cond.initialized "CheekTown$Kind") ∈ lw_all := lw_g (lw_at lw_m1 30 rfl) rfl
theorem q541 : (Jvm.Cond.laysStatic "CheekTown$Kind" "KISS" "LCheekTown$Kind;") ∈ lw_tbl := lw_at lw_m2 185 rfl
theorem q546 : (Jvm.Cond.sameMethod "CheekTown$Kind" "java/lang/Enum" "ordinal" "()I") ∈ lw_all := lw_g (lw_at lw_m2 190 rfl) rfl
theorem q548 : (Jvm.Cond.selects "CheekTown$Kind" ({ cls := "CheekTown$Kind", name := "ordinal", desc := "()I" } : Jvm.MethodName) ({ cls := "java/lang/Enum", name := "ordinal", desc := "()I" } : Jvm.MethodName)) ∈ lw_all := lw_g (lw_at lw_m2 192 rfl) rfl
theorem q1295 : (Jvm.Cond.static ({ cls := "CheekTown$Kind", name := "of", desc := "(Ljava/lang/String;)LCheekTown$Kind;" } : Jvm.MethodName)) ∈ lw_all := lw_g (lw_at lw_m5 219 rfl) rfl
theorem q1296 : (Jvm.Cond.code ({ cls := "CheekTown$Kind", name := "of", desc := "(Ljava/lang/String;)LCheekTown$Kind;" } : Jvm.MethodName) prog_4_method_4_code (5 : Nat) (Option.some (Jvm.ClassFile.FieldType.object "CheekTown$Kind"))) ∈ lw_all := lw_g (lw_at lw_m5 220 rfl) rfl
theorem q1297 : (Jvm.Cond.methodLink "CheekTown$Kind" (39 : Nat) ({ cls := "CheekTown$Kind", name := "values", desc := "()[LCheekTown$Kind;" } : Jvm.MethodName)) ∈ lw_all := lw_g (lw_at lw_m5 221 rfl) rfl
theorem q1298 : (Jvm.Cond.static ({ cls := "CheekTown$Kind", name := "values", desc := "()[LCheekTown$Kind;" } : Jvm.MethodName)) ∈ lw_all := lw_g (lw_at lw_m5 222 rfl) rfl
theorem q1299 : (Jvm.Cond.code ({ cls := "CheekTown$Kind", name := "values", desc := "()[LCheekTown$Kind;" } : Jvm.MethodName) prog_4_method_1_code (0 : Nat) (Option.some (Jvm.ClassFile.FieldType.array (Jvm.ClassFile.FieldType.object "CheekTown$Kind")))) ∈ lw_all := lw_g (lw_at lw_m5 223 rfl) rfl
theorem q1300 : (Jvm.Cond.fieldLink "CheekTown$Kind" (16 : Nat) "CheekTown$Kind" "$VALUES" "[LCheekTown$Kind;") ∈ lw_all := lw_g (lw_at lw_m5 224 rfl) rfl
theorem q1301 : (Jvm.Cond.laysStatic "CheekTown$Kind" "$VALUES" "[LCheekTown$Kind;") ∈ lw_tbl := lw_at lw_m5 225 rfl
theorem q1302 : (Jvm.Cond.methodLink "CheekTown$Kind" (20 : Nat) ({ cls := "[LCheekTown$Kind;", name := "clone", desc := "()Ljava/lang/Object;" } : Jvm.MethodName)) ∈ lw_all := lw_g (lw_at lw_m5 226 rfl) rfl
theorem q1307 : (Jvm.Cond.classLink "CheekTown$Kind" (21 : Nat) "[LCheekTown$Kind;") ∈ lw_all := lw_g (lw_at lw_m5 231 rfl) rfl
theorem q1308 : (Jvm.Cond.methodLink "CheekTown$Kind" (43 : Nat) ({ cls := "java/lang/String", name := "equals", desc := "(Ljava/lang/Object;)Z" } : Jvm.MethodName)) ∈ lw_all := lw_g (lw_at lw_m5 232 rfl) rfl
theorem q1315 : (Jvm.Cond.instanceMethod ({ cls := "CheekTown$Kind", name := "code", desc := "(II)I" } : Jvm.MethodName)) ∈ lw_all := lw_g (lw_at lw_m5 239 rfl) rfl
theorem q1316 : (Jvm.Cond.selects "CheekTown$Kind" ({ cls := "CheekTown$Kind", name := "code", desc := "(II)I" } : Jvm.MethodName) ({ cls := "CheekTown$Kind", name := "code", desc := "(II)I" } : Jvm.MethodName)) ∈ lw_all := lw_g (lw_at lw_m6 0 rfl) rfl
theorem q1317 : (Jvm.Cond.code ({ cls := "CheekTown$Kind", name := "code", desc := "(II)I" } : Jvm.MethodName) prog_4_method_5_code (3 : Nat) (Option.some Jvm.ClassFile.FieldType.int)) ∈ lw_all := lw_g (lw_at lw_m6 1 rfl) rfl
theorem q1318 : (Jvm.Cond.methodLink "CheekTown$Kind" (49 : Nat) ({ cls := "CheekTown$Kind", name := "ordinal", desc := "()I" } : Jvm.MethodName)) ∈ lw_all := lw_g (lw_at lw_m6 2 rfl) rfl
theorem q1556 : (Jvm.Cond.selects "CheekTown$Kind" ({ cls := "java/lang/Object", name := "getClass", desc := "()Ljava/lang/Class;" } : Jvm.MethodName) ({ cls := "java/lang/Object", name := "getClass", desc := "()Ljava/lang/Class;" } : Jvm.MethodName)) ∈ lw_all := lw_g (lw_at lw_m7 0 rfl) rfl
theorem q1847 : (Jvm.Cond.laysStatic "CheekTown$Kind" "WAVE" "LCheekTown$Kind;") ∈ lw_tbl := lw_at lw_m8 51 rfl
theorem q2737 : (Jvm.Cond.castable "CheekTown$Kind" "java/lang/Object") ∈ lw_tbl := lw_at lw_m11 221 rfl
theorem q2782 : (Jvm.Cond.fieldLink "CheekTown$Kind" (35 : Nat) "CheekTown$Kind" "told" "Ljava/lang/String;") ∈ lw_all := lw_g (lw_at lw_m12 26 rfl) rfl
theorem q2785 : (Jvm.Cond.stringRef "CheekTown$Kind" (63 : Nat) "kiss") ∈ lw_tbl := lw_at lw_m12 29 rfl
theorem q2786 : (Jvm.Cond.laysStatic "CheekTown$Kind" "HAND" "LCheekTown$Kind;") ∈ lw_tbl := lw_at lw_m12 30 rfl
theorem q2787 : (Jvm.Cond.laysStatic "CheekTown$Kind" "EMBRACE" "LCheekTown$Kind;") ∈ lw_tbl := lw_at lw_m12 31 rfl
theorem q2794 : (Jvm.Cond.stringRef "CheekTown$Kind" (54 : Nat) "wave") ∈ lw_tbl := lw_at lw_m12 38 rfl
theorem q2798 : (Jvm.Cond.stringRef "CheekTown$Kind" (60 : Nat) "hand") ∈ lw_tbl := lw_at lw_m12 42 rfl
theorem q2799 : (Jvm.Cond.stringRef "CheekTown$Kind" (66 : Nat) "embrace") ∈ lw_tbl := lw_at lw_m12 43 rfl

/-! CheekTown$Law -/
set_option maxRecDepth 100000
def RX11 : String := "CheekTown$Law"
def TX11 : u_T := fun k => match k with
  | _ => ("CheekTown$Law", "lines", "Ljava/util/ArrayList;", true)
def tyX11 : Nat → FieldType := fun k => match k with
  | _ => .object "java/util/ArrayList"
abbrev wsX110 : List Cond := u_ws RX11 TX11 1
theorem nmX11 : ∀ a, a < 1 → ∀ b, b < 1 → a ≠ b → (TX11 a).2.1 ≠ (TX11 b).2.1 := by decide +kernel
theorem tyX11_ok : ∀ k, k < 1 → parseFieldDescriptor (TX11 k).2.2.1 = some (tyX11 k) := by decide +kernel
abbrev cX11_init : ByteArray := prog_5_method_1_code
def yX11_init : MethodName := ⟨RX11, "<init>", "()V"⟩
def dkwX11_init_0 : List UInt8 := [42, 183, 0, 3, 42, 187, 0, 9, 89, 183, 0, 11, 181, 0, 12, 177]
abbrev dktX11_init_0 : List UInt8 := dkwX11_init_0 ++ []
theorem dksX11_init_0 : cX11_init.data.toList.drop 0 = dktX11_init_0 := by decide +kernel
theorem dX11_init_0 : decode cX11_init 0 = .ok (.aload_n 0, 1) := dk_42 (dk_at dksX11_init_0 0 rfl rfl)
theorem dX11_init_1 : decode cX11_init 1 = .ok (.invokespecial 3, 3) := dk_183 0 3 (dk_at dksX11_init_0 1 rfl rfl)
theorem dX11_init_4 : decode cX11_init 4 = .ok (.aload_n 0, 1) := dk_42 (dk_at dksX11_init_0 4 rfl rfl)
theorem dX11_init_5 : decode cX11_init 5 = .ok (.new 9, 3) := dk_187 0 9 (dk_at dksX11_init_0 5 rfl rfl)
theorem dX11_init_8 : decode cX11_init 8 = .ok (.dup, 1) := dk_89 (dk_at dksX11_init_0 8 rfl rfl)
theorem dX11_init_9 : decode cX11_init 9 = .ok (.invokespecial 11, 3) := dk_183 0 11 (dk_at dksX11_init_0 9 rfl rfl)
theorem dX11_init_12 : decode cX11_init 12 = .ok (.putfield 12, 3) := dk_181 0 12 (dk_at dksX11_init_0 12 rfl rfl)
theorem dX11_init_15 : decode cX11_init 15 = .ok (.return_, 1) := dk_177 (dk_at dksX11_init_0 15 rfl rfl)
abbrev cX11_tells : ByteArray := prog_5_method_2_code
def yX11_tells : MethodName := ⟨RX11, "tells", "(LCheekTown$Scene;)I"⟩
def dkwX11_tells_2 : List UInt8 := [180, 0, 38, 172, 132, 2, 1, 167, 255, 205, 2, 172]
abbrev dktX11_tells_2 : List UInt8 := dkwX11_tells_2 ++ []
def dkwX11_tells_1 : List UInt8 := [78, 45, 180, 0, 28, 198, 0, 16, 45, 180, 0, 28, 43, 185, 0, 32, 2, 0, 153, 0, 8, 45]
abbrev dktX11_tells_1 : List UInt8 := dkwX11_tells_1 ++ dktX11_tells_2
def dkwX11_tells_0 : List UInt8 := [3, 61, 28, 42, 180, 0, 12, 182, 0, 18, 162, 0, 46, 42, 180, 0, 12, 28, 182, 0, 22, 192, 0, 26]
abbrev dktX11_tells_0 : List UInt8 := dkwX11_tells_0 ++ dktX11_tells_1
theorem dksX11_tells_0 : cX11_tells.data.toList.drop 0 = dktX11_tells_0 := by decide +kernel
theorem dksX11_tells_1 : cX11_tells.data.toList.drop 24 = dktX11_tells_1 := dk_seg dksX11_tells_0 24 rfl rfl
theorem dksX11_tells_2 : cX11_tells.data.toList.drop 46 = dktX11_tells_2 := dk_seg dksX11_tells_1 22 rfl rfl
theorem dX11_tells_0 : decode cX11_tells 0 = .ok (.iconst 0, 1) := dk_3 (dk_at dksX11_tells_0 0 rfl rfl)
theorem dX11_tells_1 : decode cX11_tells 1 = .ok (.istore_n 2, 1) := dk_61 (dk_at dksX11_tells_0 1 rfl rfl)
theorem dX11_tells_2 : decode cX11_tells 2 = .ok (.iload_n 2, 1) := dk_28 (dk_at dksX11_tells_0 2 rfl rfl)
theorem dX11_tells_3 : decode cX11_tells 3 = .ok (.aload_n 0, 1) := dk_42 (dk_at dksX11_tells_0 3 rfl rfl)
theorem dX11_tells_4 : decode cX11_tells 4 = .ok (.getfield 12, 3) := dk_180 0 12 (dk_at dksX11_tells_0 4 rfl rfl)
theorem dX11_tells_7 : decode cX11_tells 7 = .ok (.invokevirtual 18, 3) := dk_182 0 18 (dk_at dksX11_tells_0 7 rfl rfl)
theorem dX11_tells_10 : decode cX11_tells 10 = .ok (.if_icmp .ge 46, 3) := dk_162 0 46 (dk_at dksX11_tells_0 10 rfl rfl)
theorem dX11_tells_13 : decode cX11_tells 13 = .ok (.aload_n 0, 1) := dk_42 (dk_at dksX11_tells_0 13 rfl rfl)
theorem dX11_tells_14 : decode cX11_tells 14 = .ok (.getfield 12, 3) := dk_180 0 12 (dk_at dksX11_tells_0 14 rfl rfl)
theorem dX11_tells_17 : decode cX11_tells 17 = .ok (.iload_n 2, 1) := dk_28 (dk_at dksX11_tells_0 17 rfl rfl)
theorem dX11_tells_18 : decode cX11_tells 18 = .ok (.invokevirtual 22, 3) := dk_182 0 22 (dk_at dksX11_tells_0 18 rfl rfl)
theorem dX11_tells_21 : decode cX11_tells 21 = .ok (.checkcast 26, 3) := dk_192 0 26 (dk_at dksX11_tells_0 21 rfl rfl)
theorem dX11_tells_24 : decode cX11_tells 24 = .ok (.astore_n 3, 1) := dk_78 (dk_at dksX11_tells_1 0 rfl rfl)
theorem dX11_tells_25 : decode cX11_tells 25 = .ok (.aload_n 3, 1) := dk_45 (dk_at dksX11_tells_1 1 rfl rfl)
theorem dX11_tells_26 : decode cX11_tells 26 = .ok (.getfield 28, 3) := dk_180 0 28 (dk_at dksX11_tells_1 2 rfl rfl)
theorem dX11_tells_29 : decode cX11_tells 29 = .ok (.ifnull 16, 3) := dk_198 0 16 (dk_at dksX11_tells_1 5 rfl rfl)
theorem dX11_tells_32 : decode cX11_tells 32 = .ok (.aload_n 3, 1) := dk_45 (dk_at dksX11_tells_1 8 rfl rfl)
theorem dX11_tells_33 : decode cX11_tells 33 = .ok (.getfield 28, 3) := dk_180 0 28 (dk_at dksX11_tells_1 9 rfl rfl)
theorem dX11_tells_36 : decode cX11_tells 36 = .ok (.aload_n 1, 1) := dk_43 (dk_at dksX11_tells_1 12 rfl rfl)
theorem dX11_tells_37 : decode cX11_tells 37 = .ok (.invokeinterface 32 2, 5) := by decide +kernel
theorem dX11_tells_42 : decode cX11_tells 42 = .ok (.ifCond .eq 8, 3) := dk_153 0 8 (dk_at dksX11_tells_1 18 rfl rfl)
theorem dX11_tells_45 : decode cX11_tells 45 = .ok (.aload_n 3, 1) := dk_45 (dk_at dksX11_tells_1 21 rfl rfl)
theorem dX11_tells_46 : decode cX11_tells 46 = .ok (.getfield 38, 3) := dk_180 0 38 (dk_at dksX11_tells_2 0 rfl rfl)
theorem dX11_tells_49 : decode cX11_tells 49 = .ok (.ireturn, 1) := dk_172 (dk_at dksX11_tells_2 3 rfl rfl)
theorem dX11_tells_50 : decode cX11_tells 50 = .ok (.iinc 2 1, 3) := dk_132 2 1 (dk_at dksX11_tells_2 4 rfl rfl)
theorem dX11_tells_53 : decode cX11_tells 53 = .ok (.goto (-51), 3) := dk_167 255 205 (dk_at dksX11_tells_2 7 rfl rfl)
theorem dX11_tells_56 : decode cX11_tells 56 = .ok (.iconst (-1), 1) := dk_2 (dk_at dksX11_tells_2 10 rfl rfl)
theorem dX11_tells_57 : decode cX11_tells 57 = .ok (.ireturn, 1) := dk_172 (dk_at dksX11_tells_2 11 rfl rfl)
theorem q148 : (Jvm.Cond.initialized "CheekTown$Law") ∈ lw_all := lw_g (lw_at lw_m1 32 rfl) rfl
theorem q1395 : (Jvm.Cond.instantiable "CheekTown$Law" (1 : Nat)) ∈ lw_all := lw_g (lw_at lw_m6 79 rfl) rfl
theorem q1397 : (Jvm.Cond.instanceMethod ({ cls := "CheekTown$Law", name := "<init>", desc := "()V" } : Jvm.MethodName)) ∈ lw_all := lw_g (lw_at lw_m6 81 rfl) rfl
theorem q1398 : (Jvm.Cond.code ({ cls := "CheekTown$Law", name := "<init>", desc := "()V" } : Jvm.MethodName) prog_5_method_1_code (1 : Nat) (Option.none : Option Jvm.ClassFile.FieldType)) ∈ lw_all := lw_g (lw_at lw_m6 82 rfl) rfl
theorem q1399 : (Jvm.Cond.methodLink "CheekTown$Law" (3 : Nat) ({ cls := "java/lang/Object", name := "<init>", desc := "()V" } : Jvm.MethodName)) ∈ lw_all := lw_g (lw_at lw_m6 83 rfl) rfl
theorem q1400 : (Jvm.Cond.classLink "CheekTown$Law" (9 : Nat) "java/util/ArrayList") ∈ lw_all := lw_g (lw_at lw_m6 84 rfl) rfl
theorem q1401 : (Jvm.Cond.methodLink "CheekTown$Law" (11 : Nat) ({ cls := "java/util/ArrayList", name := "<init>", desc := "()V" } : Jvm.MethodName)) ∈ lw_all := lw_g (lw_at lw_m6 85 rfl) rfl
theorem q1402 : (Jvm.Cond.fieldLink "CheekTown$Law" (12 : Nat) "CheekTown$Law" "lines" "Ljava/util/ArrayList;") ∈ lw_all := lw_g (lw_at lw_m6 86 rfl) rfl
theorem q1404 : (Jvm.Cond.laysFinal "CheekTown$Law" "CheekTown$Law" "lines" "Ljava/util/ArrayList;") ∈ lw_all := lw_g (lw_at lw_m6 88 rfl) rfl
theorem q1405 : (Jvm.Cond.soleField "CheekTown$Law" "lines") ∈ lw_all := lw_g (lw_at lw_m6 89 rfl) rfl
theorem q1406 : (Jvm.Cond.superclass "CheekTown$Law" "java/lang/Object") ∈ lw_all := lw_g (lw_at lw_m6 90 rfl) rfl
theorem q1557 : (Jvm.Cond.selects "CheekTown$Law" ({ cls := "java/lang/Object", name := "getClass", desc := "()Ljava/lang/Class;" } : Jvm.MethodName) ({ cls := "java/lang/Object", name := "getClass", desc := "()Ljava/lang/Class;" } : Jvm.MethodName)) ∈ lw_all := lw_g (lw_at lw_m7 1 rfl) rfl
theorem q1614 : (Jvm.Cond.fieldLinkNest "CheekTown$Law" (38 : Nat) "CheekTown$Line" "greeting" "I" "CheekTown") ∈ lw_tbl := lw_at lw_m7 58 rfl
theorem q1616 : (Jvm.Cond.fieldLinkNest "CheekTown$Law" (28 : Nat) "CheekTown$Line" "when" "LCheekTown$Cond;" "CheekTown") ∈ lw_tbl := lw_at lw_m7 60 rfl
theorem q1740 : (Jvm.Cond.instanceMethod ({ cls := "CheekTown$Law", name := "tells", desc := "(LCheekTown$Scene;)I" } : Jvm.MethodName)) ∈ lw_all := lw_g (lw_at lw_m7 184 rfl) rfl
theorem q1741 : (Jvm.Cond.selects "CheekTown$Law" ({ cls := "CheekTown$Law", name := "tells", desc := "(LCheekTown$Scene;)I" } : Jvm.MethodName) ({ cls := "CheekTown$Law", name := "tells", desc := "(LCheekTown$Scene;)I" } : Jvm.MethodName)) ∈ lw_all := lw_g (lw_at lw_m7 185 rfl) rfl
theorem q1742 : (Jvm.Cond.code ({ cls := "CheekTown$Law", name := "tells", desc := "(LCheekTown$Scene;)I" } : Jvm.MethodName) prog_5_method_2_code (4 : Nat) (Option.some Jvm.ClassFile.FieldType.int)) ∈ lw_all := lw_g (lw_at lw_m7 186 rfl) rfl
theorem q1743 : (Jvm.Cond.methodLink "CheekTown$Law" (18 : Nat) ({ cls := "java/util/ArrayList", name := "size", desc := "()I" } : Jvm.MethodName)) ∈ lw_all := lw_g (lw_at lw_m7 187 rfl) rfl
theorem q1744 : (Jvm.Cond.methodLink "CheekTown$Law" (22 : Nat) ({ cls := "java/util/ArrayList", name := "get", desc := "(I)Ljava/lang/Object;" } : Jvm.MethodName)) ∈ lw_all := lw_g (lw_at lw_m7 188 rfl) rfl
theorem q1752 : (Jvm.Cond.classLink "CheekTown$Law" (26 : Nat) "CheekTown$Line") ∈ lw_all := lw_g (lw_at lw_m7 196 rfl) rfl
theorem q1753 : (Jvm.Cond.interfaceEntry "CheekTown$Law" (32 : Nat)) ∈ lw_tbl := lw_at lw_m7 197 rfl
theorem q1754 : (Jvm.Cond.methodLink "CheekTown$Law" (32 : Nat) ({ cls := "CheekTown$Cond", name := "holds", desc := "(LCheekTown$Scene;)Z" } : Jvm.MethodName)) ∈ lw_all := lw_g (lw_at lw_m7 198 rfl) rfl
theorem q2755 : (Jvm.Cond.castable "CheekTown$Law" "java/lang/Object") ∈ lw_tbl := lw_at lw_m11 239 rfl
theorem in_X11 : ∀ w ∈ wsX110, w ∈ lw_all := lw_in wsX110 [1404] (by decide +kernel) (by decide +kernel)

/-! CheekTown$Line -/
set_option maxRecDepth 100000
def RX12 : String := "CheekTown$Line"
def TX12 : u_T := fun k => match k with
  | 0 => ("CheekTown$Line", "greeting", "I", true)
  | _ => ("CheekTown$Line", "when", "LCheekTown$Cond;", true)
def tyX12 : Nat → FieldType := fun k => match k with
  | 0 => .int
  | _ => .object "CheekTown$Cond"
abbrev wsX120 : List Cond := u_ws RX12 TX12 2
theorem nmX12 : ∀ a, a < 2 → ∀ b, b < 2 → a ≠ b → (TX12 a).2.1 ≠ (TX12 b).2.1 := by decide +kernel
theorem tyX12_ok : ∀ k, k < 2 → parseFieldDescriptor (TX12 k).2.2.1 = some (tyX12 k) := by decide +kernel
abbrev cX12_init : ByteArray := prog_7_method_1_code
def yX12_init : MethodName := ⟨RX12, "<init>", "(ILCheekTown$Cond;)V"⟩
def dkwX12_init_0 : List UInt8 := [42, 183, 0, 1, 42, 27, 181, 0, 7, 42, 44, 181, 0, 13, 177]
abbrev dktX12_init_0 : List UInt8 := dkwX12_init_0 ++ []
theorem dksX12_init_0 : cX12_init.data.toList.drop 0 = dktX12_init_0 := by decide +kernel
theorem dX12_init_0 : decode cX12_init 0 = .ok (.aload_n 0, 1) := dk_42 (dk_at dksX12_init_0 0 rfl rfl)
theorem dX12_init_1 : decode cX12_init 1 = .ok (.invokespecial 1, 3) := dk_183 0 1 (dk_at dksX12_init_0 1 rfl rfl)
theorem dX12_init_4 : decode cX12_init 4 = .ok (.aload_n 0, 1) := dk_42 (dk_at dksX12_init_0 4 rfl rfl)
theorem dX12_init_5 : decode cX12_init 5 = .ok (.iload_n 1, 1) := dk_27 (dk_at dksX12_init_0 5 rfl rfl)
theorem dX12_init_6 : decode cX12_init 6 = .ok (.putfield 7, 3) := dk_181 0 7 (dk_at dksX12_init_0 6 rfl rfl)
theorem dX12_init_9 : decode cX12_init 9 = .ok (.aload_n 0, 1) := dk_42 (dk_at dksX12_init_0 9 rfl rfl)
theorem dX12_init_10 : decode cX12_init 10 = .ok (.aload_n 2, 1) := dk_44 (dk_at dksX12_init_0 10 rfl rfl)
theorem dX12_init_11 : decode cX12_init 11 = .ok (.putfield 13, 3) := dk_181 0 13 (dk_at dksX12_init_0 11 rfl rfl)
theorem dX12_init_14 : decode cX12_init 14 = .ok (.return_, 1) := dk_177 (dk_at dksX12_init_0 14 rfl rfl)
theorem q149 : (Jvm.Cond.initialized "CheekTown$Line") ∈ lw_all := lw_g (lw_at lw_m1 33 rfl) rfl
theorem q1412 : (Jvm.Cond.instantiable "CheekTown$Line" (2 : Nat)) ∈ lw_all := lw_g (lw_at lw_m6 96 rfl) rfl
theorem q1559 : (Jvm.Cond.selects "CheekTown$Line" ({ cls := "java/lang/Object", name := "getClass", desc := "()Ljava/lang/Class;" } : Jvm.MethodName) ({ cls := "java/lang/Object", name := "getClass", desc := "()Ljava/lang/Class;" } : Jvm.MethodName)) ∈ lw_all := lw_g (lw_at lw_m7 3 rfl) rfl
theorem q1610 : (Jvm.Cond.instanceMethod ({ cls := "CheekTown$Line", name := "<init>", desc := "(ILCheekTown$Cond;)V" } : Jvm.MethodName)) ∈ lw_all := lw_g (lw_at lw_m7 54 rfl) rfl
theorem q1611 : (Jvm.Cond.code ({ cls := "CheekTown$Line", name := "<init>", desc := "(ILCheekTown$Cond;)V" } : Jvm.MethodName) prog_7_method_1_code (3 : Nat) (Option.none : Option Jvm.ClassFile.FieldType)) ∈ lw_all := lw_g (lw_at lw_m7 55 rfl) rfl
theorem q1612 : (Jvm.Cond.methodLink "CheekTown$Line" (1 : Nat) ({ cls := "java/lang/Object", name := "<init>", desc := "()V" } : Jvm.MethodName)) ∈ lw_all := lw_g (lw_at lw_m7 56 rfl) rfl
theorem q1613 : (Jvm.Cond.fieldLink "CheekTown$Line" (7 : Nat) "CheekTown$Line" "greeting" "I") ∈ lw_all := lw_g (lw_at lw_m7 57 rfl) rfl
theorem q1615 : (Jvm.Cond.fieldLink "CheekTown$Line" (13 : Nat) "CheekTown$Line" "when" "LCheekTown$Cond;") ∈ lw_all := lw_g (lw_at lw_m7 59 rfl) rfl
theorem q1617 : (Jvm.Cond.laysFinal "CheekTown$Line" "CheekTown$Line" "greeting" "I") ∈ lw_all := lw_g (lw_at lw_m7 61 rfl) rfl
theorem q1618 : (Jvm.Cond.soleField "CheekTown$Line" "greeting") ∈ lw_all := lw_g (lw_at lw_m7 62 rfl) rfl
theorem q1619 : (Jvm.Cond.laysFinal "CheekTown$Line" "CheekTown$Line" "when" "LCheekTown$Cond;") ∈ lw_all := lw_g (lw_at lw_m7 63 rfl) rfl
theorem q1620 : (Jvm.Cond.soleField "CheekTown$Line" "when") ∈ lw_all := lw_g (lw_at lw_m7 64 rfl) rfl
theorem q1621 : (Jvm.Cond.superclass "CheekTown$Line" "java/lang/Object") ∈ lw_all := lw_g (lw_at lw_m7 65 rfl) rfl
theorem q2756 : (Jvm.Cond.castable "CheekTown$Line" "java/lang/Object") ∈ lw_tbl := lw_at lw_m12 0 rfl
theorem in_X12 : ∀ w ∈ wsX120, w ∈ lw_all := lw_in wsX120 [1617, 1619] (by decide +kernel) (by decide +kernel)

/-! CheekTown$Row -/
set_option maxRecDepth 100000
def RX13 : String := "CheekTown$Row"
def TX13 : u_T := fun k => match k with
  | 0 => ("CheekTown$Row", "all", "Z", true)
  | _ => ("CheekTown$Row", "row", "Ljava/util/ArrayList;", true)
def tyX13 : Nat → FieldType := fun k => match k with
  | 0 => .boolean
  | _ => .object "java/util/ArrayList"
abbrev wsX130 : List Cond := u_ws RX13 TX13 2
theorem nmX13 : ∀ a, a < 2 → ∀ b, b < 2 → a ≠ b → (TX13 a).2.1 ≠ (TX13 b).2.1 := by decide +kernel
theorem tyX13_ok : ∀ k, k < 2 → parseFieldDescriptor (TX13 k).2.2.1 = some (tyX13 k) := by decide +kernel
abbrev cX13_init : ByteArray := prog_13_method_1_code
def yX13_init : MethodName := ⟨RX13, "<init>", "(Z)V"⟩
def dkwX13_init_0 : List UInt8 := [42, 183, 0, 1, 42, 187, 0, 7, 89, 183, 0, 9, 181, 0, 10, 42, 27, 181, 0, 16, 177]
abbrev dktX13_init_0 : List UInt8 := dkwX13_init_0 ++ []
theorem dksX13_init_0 : cX13_init.data.toList.drop 0 = dktX13_init_0 := by decide +kernel
theorem dX13_init_0 : decode cX13_init 0 = .ok (.aload_n 0, 1) := dk_42 (dk_at dksX13_init_0 0 rfl rfl)
theorem dX13_init_1 : decode cX13_init 1 = .ok (.invokespecial 1, 3) := dk_183 0 1 (dk_at dksX13_init_0 1 rfl rfl)
theorem dX13_init_4 : decode cX13_init 4 = .ok (.aload_n 0, 1) := dk_42 (dk_at dksX13_init_0 4 rfl rfl)
theorem dX13_init_5 : decode cX13_init 5 = .ok (.new 7, 3) := dk_187 0 7 (dk_at dksX13_init_0 5 rfl rfl)
theorem dX13_init_8 : decode cX13_init 8 = .ok (.dup, 1) := dk_89 (dk_at dksX13_init_0 8 rfl rfl)
theorem dX13_init_9 : decode cX13_init 9 = .ok (.invokespecial 9, 3) := dk_183 0 9 (dk_at dksX13_init_0 9 rfl rfl)
theorem dX13_init_12 : decode cX13_init 12 = .ok (.putfield 10, 3) := dk_181 0 10 (dk_at dksX13_init_0 12 rfl rfl)
theorem dX13_init_15 : decode cX13_init 15 = .ok (.aload_n 0, 1) := dk_42 (dk_at dksX13_init_0 15 rfl rfl)
theorem dX13_init_16 : decode cX13_init 16 = .ok (.iload_n 1, 1) := dk_27 (dk_at dksX13_init_0 16 rfl rfl)
theorem dX13_init_17 : decode cX13_init 17 = .ok (.putfield 16, 3) := dk_181 0 16 (dk_at dksX13_init_0 17 rfl rfl)
theorem dX13_init_20 : decode cX13_init 20 = .ok (.return_, 1) := dk_177 (dk_at dksX13_init_0 20 rfl rfl)
abbrev cX13_holds : ByteArray := prog_13_method_2_code
def yX13_holds : MethodName := ⟨RX13, "holds", "(LCheekTown$Scene;)Z"⟩
def dkwX13_holds_2 : List UInt8 := [3, 172, 132, 2, 1, 167, 255, 205, 42, 180, 0, 16, 172]
abbrev dktX13_holds_2 : List UInt8 := dkwX13_holds_2 ++ []
def dkwX13_holds_1 : List UInt8 := [43, 185, 0, 30, 2, 0, 42, 180, 0, 16, 159, 0, 16, 42, 180, 0, 16, 154, 0, 7, 4, 167, 0, 4]
abbrev dktX13_holds_1 : List UInt8 := dkwX13_holds_1 ++ dktX13_holds_2
def dkwX13_holds_0 : List UInt8 := [3, 61, 28, 42, 180, 0, 10, 182, 0, 20, 162, 0, 46, 42, 180, 0, 10, 28, 182, 0, 24, 192, 0, 28]
abbrev dktX13_holds_0 : List UInt8 := dkwX13_holds_0 ++ dktX13_holds_1
theorem dksX13_holds_0 : cX13_holds.data.toList.drop 0 = dktX13_holds_0 := by decide +kernel
theorem dksX13_holds_1 : cX13_holds.data.toList.drop 24 = dktX13_holds_1 := dk_seg dksX13_holds_0 24 rfl rfl
theorem dksX13_holds_2 : cX13_holds.data.toList.drop 48 = dktX13_holds_2 := dk_seg dksX13_holds_1 24 rfl rfl
theorem dX13_holds_0 : decode cX13_holds 0 = .ok (.iconst 0, 1) := dk_3 (dk_at dksX13_holds_0 0 rfl rfl)
theorem dX13_holds_1 : decode cX13_holds 1 = .ok (.istore_n 2, 1) := dk_61 (dk_at dksX13_holds_0 1 rfl rfl)
theorem dX13_holds_2 : decode cX13_holds 2 = .ok (.iload_n 2, 1) := dk_28 (dk_at dksX13_holds_0 2 rfl rfl)
theorem dX13_holds_3 : decode cX13_holds 3 = .ok (.aload_n 0, 1) := dk_42 (dk_at dksX13_holds_0 3 rfl rfl)
theorem dX13_holds_4 : decode cX13_holds 4 = .ok (.getfield 10, 3) := dk_180 0 10 (dk_at dksX13_holds_0 4 rfl rfl)
theorem dX13_holds_7 : decode cX13_holds 7 = .ok (.invokevirtual 20, 3) := dk_182 0 20 (dk_at dksX13_holds_0 7 rfl rfl)
theorem dX13_holds_10 : decode cX13_holds 10 = .ok (.if_icmp .ge 46, 3) := dk_162 0 46 (dk_at dksX13_holds_0 10 rfl rfl)
theorem dX13_holds_13 : decode cX13_holds 13 = .ok (.aload_n 0, 1) := dk_42 (dk_at dksX13_holds_0 13 rfl rfl)
theorem dX13_holds_14 : decode cX13_holds 14 = .ok (.getfield 10, 3) := dk_180 0 10 (dk_at dksX13_holds_0 14 rfl rfl)
theorem dX13_holds_17 : decode cX13_holds 17 = .ok (.iload_n 2, 1) := dk_28 (dk_at dksX13_holds_0 17 rfl rfl)
theorem dX13_holds_18 : decode cX13_holds 18 = .ok (.invokevirtual 24, 3) := dk_182 0 24 (dk_at dksX13_holds_0 18 rfl rfl)
theorem dX13_holds_21 : decode cX13_holds 21 = .ok (.checkcast 28, 3) := dk_192 0 28 (dk_at dksX13_holds_0 21 rfl rfl)
theorem dX13_holds_24 : decode cX13_holds 24 = .ok (.aload_n 1, 1) := dk_43 (dk_at dksX13_holds_1 0 rfl rfl)
theorem dX13_holds_25 : decode cX13_holds 25 = .ok (.invokeinterface 30 2, 5) := by decide +kernel
theorem dX13_holds_30 : decode cX13_holds 30 = .ok (.aload_n 0, 1) := dk_42 (dk_at dksX13_holds_1 6 rfl rfl)
theorem dX13_holds_31 : decode cX13_holds 31 = .ok (.getfield 16, 3) := dk_180 0 16 (dk_at dksX13_holds_1 7 rfl rfl)
theorem dX13_holds_34 : decode cX13_holds 34 = .ok (.if_icmp .eq 16, 3) := dk_159 0 16 (dk_at dksX13_holds_1 10 rfl rfl)
theorem dX13_holds_37 : decode cX13_holds 37 = .ok (.aload_n 0, 1) := dk_42 (dk_at dksX13_holds_1 13 rfl rfl)
theorem dX13_holds_38 : decode cX13_holds 38 = .ok (.getfield 16, 3) := dk_180 0 16 (dk_at dksX13_holds_1 14 rfl rfl)
theorem dX13_holds_41 : decode cX13_holds 41 = .ok (.ifCond .ne 7, 3) := dk_154 0 7 (dk_at dksX13_holds_1 17 rfl rfl)
theorem dX13_holds_44 : decode cX13_holds 44 = .ok (.iconst 1, 1) := dk_4 (dk_at dksX13_holds_1 20 rfl rfl)
theorem dX13_holds_45 : decode cX13_holds 45 = .ok (.goto 4, 3) := dk_167 0 4 (dk_at dksX13_holds_1 21 rfl rfl)
theorem dX13_holds_48 : decode cX13_holds 48 = .ok (.iconst 0, 1) := dk_3 (dk_at dksX13_holds_2 0 rfl rfl)
theorem dX13_holds_49 : decode cX13_holds 49 = .ok (.ireturn, 1) := dk_172 (dk_at dksX13_holds_2 1 rfl rfl)
theorem dX13_holds_50 : decode cX13_holds 50 = .ok (.iinc 2 1, 3) := dk_132 2 1 (dk_at dksX13_holds_2 2 rfl rfl)
theorem dX13_holds_53 : decode cX13_holds 53 = .ok (.goto (-51), 3) := dk_167 255 205 (dk_at dksX13_holds_2 5 rfl rfl)
theorem dX13_holds_56 : decode cX13_holds 56 = .ok (.aload_n 0, 1) := dk_42 (dk_at dksX13_holds_2 8 rfl rfl)
theorem dX13_holds_57 : decode cX13_holds 57 = .ok (.getfield 16, 3) := dk_180 0 16 (dk_at dksX13_holds_2 9 rfl rfl)
theorem dX13_holds_60 : decode cX13_holds 60 = .ok (.ireturn, 1) := dk_172 (dk_at dksX13_holds_2 12 rfl rfl)
theorem q150 : (Jvm.Cond.initialized "CheekTown$Row") ∈ lw_all := lw_g (lw_at lw_m1 34 rfl) rfl
theorem q1425 : (Jvm.Cond.instantiable "CheekTown$Row" (2 : Nat)) ∈ lw_all := lw_g (lw_at lw_m6 109 rfl) rfl
theorem q1427 : (Jvm.Cond.instanceMethod ({ cls := "CheekTown$Row", name := "<init>", desc := "(Z)V" } : Jvm.MethodName)) ∈ lw_all := lw_g (lw_at lw_m6 111 rfl) rfl
theorem q1428 : (Jvm.Cond.code ({ cls := "CheekTown$Row", name := "<init>", desc := "(Z)V" } : Jvm.MethodName) prog_13_method_1_code (2 : Nat) (Option.none : Option Jvm.ClassFile.FieldType)) ∈ lw_all := lw_g (lw_at lw_m6 112 rfl) rfl
theorem q1429 : (Jvm.Cond.methodLink "CheekTown$Row" (1 : Nat) ({ cls := "java/lang/Object", name := "<init>", desc := "()V" } : Jvm.MethodName)) ∈ lw_all := lw_g (lw_at lw_m6 113 rfl) rfl
theorem q1430 : (Jvm.Cond.classLink "CheekTown$Row" (7 : Nat) "java/util/ArrayList") ∈ lw_all := lw_g (lw_at lw_m6 114 rfl) rfl
theorem q1431 : (Jvm.Cond.methodLink "CheekTown$Row" (9 : Nat) ({ cls := "java/util/ArrayList", name := "<init>", desc := "()V" } : Jvm.MethodName)) ∈ lw_all := lw_g (lw_at lw_m6 115 rfl) rfl
theorem q1432 : (Jvm.Cond.fieldLink "CheekTown$Row" (16 : Nat) "CheekTown$Row" "all" "Z") ∈ lw_all := lw_g (lw_at lw_m6 116 rfl) rfl
theorem q1433 : (Jvm.Cond.fieldLink "CheekTown$Row" (10 : Nat) "CheekTown$Row" "row" "Ljava/util/ArrayList;") ∈ lw_all := lw_g (lw_at lw_m6 117 rfl) rfl
theorem q1435 : (Jvm.Cond.laysFinal "CheekTown$Row" "CheekTown$Row" "all" "Z") ∈ lw_all := lw_g (lw_at lw_m6 119 rfl) rfl
theorem q1436 : (Jvm.Cond.soleField "CheekTown$Row" "all") ∈ lw_all := lw_g (lw_at lw_m6 120 rfl) rfl
theorem q1437 : (Jvm.Cond.laysFinal "CheekTown$Row" "CheekTown$Row" "row" "Ljava/util/ArrayList;") ∈ lw_all := lw_g (lw_at lw_m6 121 rfl) rfl
theorem q1438 : (Jvm.Cond.soleField "CheekTown$Row" "row") ∈ lw_all := lw_g (lw_at lw_m6 122 rfl) rfl
theorem q1439 : (Jvm.Cond.superclass "CheekTown$Row" "java/lang/Object") ∈ lw_all := lw_g (lw_at lw_m6 123 rfl) rfl
theorem q1565 : (Jvm.Cond.selects "CheekTown$Row" ({ cls := "java/lang/Object", name := "getClass", desc := "()Ljava/lang/Class;" } : Jvm.MethodName) ({ cls := "java/lang/Object", name := "getClass", desc := "()Ljava/lang/Class;" } : Jvm.MethodName)) ∈ lw_all := lw_g (lw_at lw_m7 9 rfl) rfl
theorem q1789 : (Jvm.Cond.castable "CheekTown$Row" "CheekTown$Cond") ∈ lw_tbl := lw_at lw_m7 233 rfl
theorem q1790 : (Jvm.Cond.selects "CheekTown$Row" ({ cls := "CheekTown$Cond", name := "holds", desc := "(LCheekTown$Scene;)Z" } : Jvm.MethodName) ({ cls := "CheekTown$Row", name := "holds", desc := "(LCheekTown$Scene;)Z" } : Jvm.MethodName)) ∈ lw_all := lw_g (lw_at lw_m7 234 rfl) rfl
theorem q1791 : (Jvm.Cond.unhidden "CheekTown$Row" "holds" "(LCheekTown$Scene;)Z") ∈ lw_tbl := lw_at lw_m7 235 rfl
theorem q1792 : (Jvm.Cond.instanceMethod ({ cls := "CheekTown$Row", name := "holds", desc := "(LCheekTown$Scene;)Z" } : Jvm.MethodName)) ∈ lw_all := lw_g (lw_at lw_m7 236 rfl) rfl
theorem q1793 : (Jvm.Cond.publicMethod ({ cls := "CheekTown$Row", name := "holds", desc := "(LCheekTown$Scene;)Z" } : Jvm.MethodName)) ∈ lw_tbl := lw_at lw_m7 237 rfl
theorem q1794 : (Jvm.Cond.code ({ cls := "CheekTown$Row", name := "holds", desc := "(LCheekTown$Scene;)Z" } : Jvm.MethodName) prog_13_method_2_code (3 : Nat) (Option.some Jvm.ClassFile.FieldType.boolean)) ∈ lw_all := lw_g (lw_at lw_m7 238 rfl) rfl
theorem q1795 : (Jvm.Cond.methodLink "CheekTown$Row" (20 : Nat) ({ cls := "java/util/ArrayList", name := "size", desc := "()I" } : Jvm.MethodName)) ∈ lw_all := lw_g (lw_at lw_m7 239 rfl) rfl
theorem q1796 : (Jvm.Cond.methodLink "CheekTown$Row" (24 : Nat) ({ cls := "java/util/ArrayList", name := "get", desc := "(I)Ljava/lang/Object;" } : Jvm.MethodName)) ∈ lw_all := lw_g (lw_at lw_m8 0 rfl) rfl
theorem q1797 : (Jvm.Cond.classLink "CheekTown$Row" (28 : Nat) "CheekTown$Cond") ∈ lw_all := lw_g (lw_at lw_m8 1 rfl) rfl
theorem q1798 : (Jvm.Cond.interfaceEntry "CheekTown$Row" (30 : Nat)) ∈ lw_tbl := lw_at lw_m8 2 rfl
theorem q1799 : (Jvm.Cond.methodLink "CheekTown$Row" (30 : Nat) ({ cls := "CheekTown$Cond", name := "holds", desc := "(LCheekTown$Scene;)Z" } : Jvm.MethodName)) ∈ lw_all := lw_g (lw_at lw_m8 3 rfl) rfl
theorem q2757 : (Jvm.Cond.castable "CheekTown$Row" "java/lang/Object") ∈ lw_tbl := lw_at lw_m12 1 rfl
theorem in_X13 : ∀ w ∈ wsX130, w ∈ lw_all := lw_in wsX130 [1435, 1437] (by decide +kernel) (by decide +kernel)

/-! CheekTown$Not -/
set_option maxRecDepth 100000
def RX14 : String := "CheekTown$Not"
def TX14 : u_T := fun k => match k with
  | _ => ("CheekTown$Not", "a", "LCheekTown$Cond;", true)
def tyX14 : Nat → FieldType := fun k => match k with
  | _ => .object "CheekTown$Cond"
abbrev wsX140 : List Cond := u_ws RX14 TX14 1
theorem nmX14 : ∀ a, a < 1 → ∀ b, b < 1 → a ≠ b → (TX14 a).2.1 ≠ (TX14 b).2.1 := by decide +kernel
theorem tyX14_ok : ∀ k, k < 1 → parseFieldDescriptor (TX14 k).2.2.1 = some (tyX14 k) := by decide +kernel
abbrev cX14_init : ByteArray := prog_8_method_1_code
def yX14_init : MethodName := ⟨RX14, "<init>", "(LCheekTown$Cond;)V"⟩
def dkwX14_init_0 : List UInt8 := [42, 183, 0, 1, 42, 43, 181, 0, 7, 177]
abbrev dktX14_init_0 : List UInt8 := dkwX14_init_0 ++ []
theorem dksX14_init_0 : cX14_init.data.toList.drop 0 = dktX14_init_0 := by decide +kernel
theorem dX14_init_0 : decode cX14_init 0 = .ok (.aload_n 0, 1) := dk_42 (dk_at dksX14_init_0 0 rfl rfl)
theorem dX14_init_1 : decode cX14_init 1 = .ok (.invokespecial 1, 3) := dk_183 0 1 (dk_at dksX14_init_0 1 rfl rfl)
theorem dX14_init_4 : decode cX14_init 4 = .ok (.aload_n 0, 1) := dk_42 (dk_at dksX14_init_0 4 rfl rfl)
theorem dX14_init_5 : decode cX14_init 5 = .ok (.aload_n 1, 1) := dk_43 (dk_at dksX14_init_0 5 rfl rfl)
theorem dX14_init_6 : decode cX14_init 6 = .ok (.putfield 7, 3) := dk_181 0 7 (dk_at dksX14_init_0 6 rfl rfl)
theorem dX14_init_9 : decode cX14_init 9 = .ok (.return_, 1) := dk_177 (dk_at dksX14_init_0 9 rfl rfl)
abbrev cX14_holds : ByteArray := prog_8_method_2_code
def yX14_holds : MethodName := ⟨RX14, "holds", "(LCheekTown$Scene;)Z"⟩
def dkwX14_holds_0 : List UInt8 := [42, 180, 0, 7, 43, 185, 0, 13, 2, 0, 154, 0, 7, 4, 167, 0, 4, 3, 172]
abbrev dktX14_holds_0 : List UInt8 := dkwX14_holds_0 ++ []
theorem dksX14_holds_0 : cX14_holds.data.toList.drop 0 = dktX14_holds_0 := by decide +kernel
theorem dX14_holds_0 : decode cX14_holds 0 = .ok (.aload_n 0, 1) := dk_42 (dk_at dksX14_holds_0 0 rfl rfl)
theorem dX14_holds_1 : decode cX14_holds 1 = .ok (.getfield 7, 3) := dk_180 0 7 (dk_at dksX14_holds_0 1 rfl rfl)
theorem dX14_holds_4 : decode cX14_holds 4 = .ok (.aload_n 1, 1) := dk_43 (dk_at dksX14_holds_0 4 rfl rfl)
theorem dX14_holds_5 : decode cX14_holds 5 = .ok (.invokeinterface 13 2, 5) := by decide +kernel
theorem dX14_holds_10 : decode cX14_holds 10 = .ok (.ifCond .ne 7, 3) := dk_154 0 7 (dk_at dksX14_holds_0 10 rfl rfl)
theorem dX14_holds_13 : decode cX14_holds 13 = .ok (.iconst 1, 1) := dk_4 (dk_at dksX14_holds_0 13 rfl rfl)
theorem dX14_holds_14 : decode cX14_holds 14 = .ok (.goto 4, 3) := dk_167 0 4 (dk_at dksX14_holds_0 14 rfl rfl)
theorem dX14_holds_17 : decode cX14_holds 17 = .ok (.iconst 0, 1) := dk_3 (dk_at dksX14_holds_0 17 rfl rfl)
theorem dX14_holds_18 : decode cX14_holds 18 = .ok (.ireturn, 1) := dk_172 (dk_at dksX14_holds_0 18 rfl rfl)
theorem q151 : (Jvm.Cond.initialized "CheekTown$Not") ∈ lw_all := lw_g (lw_at lw_m1 35 rfl) rfl
theorem q1458 : (Jvm.Cond.instantiable "CheekTown$Not" (1 : Nat)) ∈ lw_all := lw_g (lw_at lw_m6 142 rfl) rfl
theorem q1460 : (Jvm.Cond.instanceMethod ({ cls := "CheekTown$Not", name := "<init>", desc := "(LCheekTown$Cond;)V" } : Jvm.MethodName)) ∈ lw_all := lw_g (lw_at lw_m6 144 rfl) rfl
theorem q1461 : (Jvm.Cond.code ({ cls := "CheekTown$Not", name := "<init>", desc := "(LCheekTown$Cond;)V" } : Jvm.MethodName) prog_8_method_1_code (2 : Nat) (Option.none : Option Jvm.ClassFile.FieldType)) ∈ lw_all := lw_g (lw_at lw_m6 145 rfl) rfl
theorem q1462 : (Jvm.Cond.methodLink "CheekTown$Not" (1 : Nat) ({ cls := "java/lang/Object", name := "<init>", desc := "()V" } : Jvm.MethodName)) ∈ lw_all := lw_g (lw_at lw_m6 146 rfl) rfl
theorem q1463 : (Jvm.Cond.fieldLink "CheekTown$Not" (7 : Nat) "CheekTown$Not" "a" "LCheekTown$Cond;") ∈ lw_all := lw_g (lw_at lw_m6 147 rfl) rfl
theorem q1464 : (Jvm.Cond.laysFinal "CheekTown$Not" "CheekTown$Not" "a" "LCheekTown$Cond;") ∈ lw_all := lw_g (lw_at lw_m6 148 rfl) rfl
theorem q1465 : (Jvm.Cond.soleField "CheekTown$Not" "a") ∈ lw_all := lw_g (lw_at lw_m6 149 rfl) rfl
theorem q1466 : (Jvm.Cond.superclass "CheekTown$Not" "java/lang/Object") ∈ lw_all := lw_g (lw_at lw_m6 150 rfl) rfl
theorem q1560 : (Jvm.Cond.selects "CheekTown$Not" ({ cls := "java/lang/Object", name := "getClass", desc := "()Ljava/lang/Class;" } : Jvm.MethodName) ({ cls := "java/lang/Object", name := "getClass", desc := "()Ljava/lang/Class;" } : Jvm.MethodName)) ∈ lw_all := lw_g (lw_at lw_m7 4 rfl) rfl
theorem q1781 : (Jvm.Cond.castable "CheekTown$Not" "CheekTown$Cond") ∈ lw_tbl := lw_at lw_m7 225 rfl
theorem q1782 : (Jvm.Cond.selects "CheekTown$Not" ({ cls := "CheekTown$Cond", name := "holds", desc := "(LCheekTown$Scene;)Z" } : Jvm.MethodName) ({ cls := "CheekTown$Not", name := "holds", desc := "(LCheekTown$Scene;)Z" } : Jvm.MethodName)) ∈ lw_all := lw_g (lw_at lw_m7 226 rfl) rfl
theorem q1783 : (Jvm.Cond.unhidden "CheekTown$Not" "holds" "(LCheekTown$Scene;)Z") ∈ lw_tbl := lw_at lw_m7 227 rfl
theorem q1784 : (Jvm.Cond.instanceMethod ({ cls := "CheekTown$Not", name := "holds", desc := "(LCheekTown$Scene;)Z" } : Jvm.MethodName)) ∈ lw_all := lw_g (lw_at lw_m7 228 rfl) rfl
theorem q1785 : (Jvm.Cond.publicMethod ({ cls := "CheekTown$Not", name := "holds", desc := "(LCheekTown$Scene;)Z" } : Jvm.MethodName)) ∈ lw_tbl := lw_at lw_m7 229 rfl
theorem q1786 : (Jvm.Cond.code ({ cls := "CheekTown$Not", name := "holds", desc := "(LCheekTown$Scene;)Z" } : Jvm.MethodName) prog_8_method_2_code (2 : Nat) (Option.some Jvm.ClassFile.FieldType.boolean)) ∈ lw_all := lw_g (lw_at lw_m7 230 rfl) rfl
theorem q1787 : (Jvm.Cond.interfaceEntry "CheekTown$Not" (13 : Nat)) ∈ lw_tbl := lw_at lw_m7 231 rfl
theorem q1788 : (Jvm.Cond.methodLink "CheekTown$Not" (13 : Nat) ({ cls := "CheekTown$Cond", name := "holds", desc := "(LCheekTown$Scene;)Z" } : Jvm.MethodName)) ∈ lw_all := lw_g (lw_at lw_m7 232 rfl) rfl
theorem q2758 : (Jvm.Cond.castable "CheekTown$Not" "java/lang/Object") ∈ lw_tbl := lw_at lw_m12 2 rfl
theorem in_X14 : ∀ w ∈ wsX140, w ∈ lw_all := lw_in wsX140 [1464] (by decide +kernel) (by decide +kernel)

/-! CheekTown$Tag -/
set_option maxRecDepth 100000
def RX15 : String := "CheekTown$Tag"
def TX15 : u_T := fun k => match k with
  | _ => ("CheekTown$Tag", "same", "Z", true)
def tyX15 : Nat → FieldType := fun k => match k with
  | _ => .boolean
abbrev wsX150 : List Cond := u_ws RX15 TX15 1
theorem nmX15 : ∀ a, a < 1 → ∀ b, b < 1 → a ≠ b → (TX15 a).2.1 ≠ (TX15 b).2.1 := by decide +kernel
theorem tyX15_ok : ∀ k, k < 1 → parseFieldDescriptor (TX15 k).2.2.1 = some (tyX15 k) := by decide +kernel
abbrev cX15_init : ByteArray := prog_18_method_1_code
def yX15_init : MethodName := ⟨RX15, "<init>", "(Z)V"⟩
def dkwX15_init_0 : List UInt8 := [42, 183, 0, 1, 42, 27, 181, 0, 7, 177]
abbrev dktX15_init_0 : List UInt8 := dkwX15_init_0 ++ []
theorem dksX15_init_0 : cX15_init.data.toList.drop 0 = dktX15_init_0 := by decide +kernel
theorem dX15_init_0 : decode cX15_init 0 = .ok (.aload_n 0, 1) := dk_42 (dk_at dksX15_init_0 0 rfl rfl)
theorem dX15_init_1 : decode cX15_init 1 = .ok (.invokespecial 1, 3) := dk_183 0 1 (dk_at dksX15_init_0 1 rfl rfl)
theorem dX15_init_4 : decode cX15_init 4 = .ok (.aload_n 0, 1) := dk_42 (dk_at dksX15_init_0 4 rfl rfl)
theorem dX15_init_5 : decode cX15_init 5 = .ok (.iload_n 1, 1) := dk_27 (dk_at dksX15_init_0 5 rfl rfl)
theorem dX15_init_6 : decode cX15_init 6 = .ok (.putfield 7, 3) := dk_181 0 7 (dk_at dksX15_init_0 6 rfl rfl)
theorem dX15_init_9 : decode cX15_init 9 = .ok (.return_, 1) := dk_177 (dk_at dksX15_init_0 9 rfl rfl)
abbrev cX15_holds : ByteArray := prog_18_method_2_code
def yX15_holds : MethodName := ⟨RX15, "holds", "(LCheekTown$Scene;)Z"⟩
def dkwX15_holds_0 : List UInt8 := [42, 180, 0, 7, 153, 0, 10, 43, 180, 0, 13, 167, 0, 7, 43, 180, 0, 16, 172]
abbrev dktX15_holds_0 : List UInt8 := dkwX15_holds_0 ++ []
theorem dksX15_holds_0 : cX15_holds.data.toList.drop 0 = dktX15_holds_0 := by decide +kernel
theorem dX15_holds_0 : decode cX15_holds 0 = .ok (.aload_n 0, 1) := dk_42 (dk_at dksX15_holds_0 0 rfl rfl)
theorem dX15_holds_1 : decode cX15_holds 1 = .ok (.getfield 7, 3) := dk_180 0 7 (dk_at dksX15_holds_0 1 rfl rfl)
theorem dX15_holds_4 : decode cX15_holds 4 = .ok (.ifCond .eq 10, 3) := dk_153 0 10 (dk_at dksX15_holds_0 4 rfl rfl)
theorem dX15_holds_7 : decode cX15_holds 7 = .ok (.aload_n 1, 1) := dk_43 (dk_at dksX15_holds_0 7 rfl rfl)
theorem dX15_holds_8 : decode cX15_holds 8 = .ok (.getfield 13, 3) := dk_180 0 13 (dk_at dksX15_holds_0 8 rfl rfl)
theorem dX15_holds_11 : decode cX15_holds 11 = .ok (.goto 7, 3) := dk_167 0 7 (dk_at dksX15_holds_0 11 rfl rfl)
theorem dX15_holds_14 : decode cX15_holds 14 = .ok (.aload_n 1, 1) := dk_43 (dk_at dksX15_holds_0 14 rfl rfl)
theorem dX15_holds_15 : decode cX15_holds 15 = .ok (.getfield 16, 3) := dk_180 0 16 (dk_at dksX15_holds_0 15 rfl rfl)
theorem dX15_holds_18 : decode cX15_holds 18 = .ok (.ireturn, 1) := dk_172 (dk_at dksX15_holds_0 18 rfl rfl)
theorem q152 : (Jvm.Cond.initialized "CheekTown$Tag") ∈ lw_all := lw_g (lw_at lw_m1 36 rfl) rfl
theorem q363 : (Jvm.Cond.fieldLinkNest "CheekTown$Tag" (13 : Nat) "CheekTown$Scene" "same" "Z" "CheekTown") ∈ lw_tbl := lw_at lw_m2 7 rfl
theorem q365 : (Jvm.Cond.fieldLinkNest "CheekTown$Tag" (16 : Nat) "CheekTown$Scene" "cold" "Z" "CheekTown") ∈ lw_tbl := lw_at lw_m2 9 rfl
theorem q1469 : (Jvm.Cond.instantiable "CheekTown$Tag" (1 : Nat)) ∈ lw_all := lw_g (lw_at lw_m6 153 rfl) rfl
theorem q1471 : (Jvm.Cond.instanceMethod ({ cls := "CheekTown$Tag", name := "<init>", desc := "(Z)V" } : Jvm.MethodName)) ∈ lw_all := lw_g (lw_at lw_m6 155 rfl) rfl
theorem q1472 : (Jvm.Cond.code ({ cls := "CheekTown$Tag", name := "<init>", desc := "(Z)V" } : Jvm.MethodName) prog_18_method_1_code (2 : Nat) (Option.none : Option Jvm.ClassFile.FieldType)) ∈ lw_all := lw_g (lw_at lw_m6 156 rfl) rfl
theorem q1473 : (Jvm.Cond.methodLink "CheekTown$Tag" (1 : Nat) ({ cls := "java/lang/Object", name := "<init>", desc := "()V" } : Jvm.MethodName)) ∈ lw_all := lw_g (lw_at lw_m6 157 rfl) rfl
theorem q1474 : (Jvm.Cond.fieldLink "CheekTown$Tag" (7 : Nat) "CheekTown$Tag" "same" "Z") ∈ lw_all := lw_g (lw_at lw_m6 158 rfl) rfl
theorem q1475 : (Jvm.Cond.laysFinal "CheekTown$Tag" "CheekTown$Tag" "same" "Z") ∈ lw_all := lw_g (lw_at lw_m6 159 rfl) rfl
theorem q1476 : (Jvm.Cond.soleField "CheekTown$Tag" "same") ∈ lw_all := lw_g (lw_at lw_m6 160 rfl) rfl
theorem q1477 : (Jvm.Cond.superclass "CheekTown$Tag" "java/lang/Object") ∈ lw_all := lw_g (lw_at lw_m6 161 rfl) rfl
theorem q1570 : (Jvm.Cond.selects "CheekTown$Tag" ({ cls := "java/lang/Object", name := "getClass", desc := "()Ljava/lang/Class;" } : Jvm.MethodName) ({ cls := "java/lang/Object", name := "getClass", desc := "()Ljava/lang/Class;" } : Jvm.MethodName)) ∈ lw_all := lw_g (lw_at lw_m7 14 rfl) rfl
theorem q1800 : (Jvm.Cond.castable "CheekTown$Tag" "CheekTown$Cond") ∈ lw_tbl := lw_at lw_m8 4 rfl
theorem q1801 : (Jvm.Cond.selects "CheekTown$Tag" ({ cls := "CheekTown$Cond", name := "holds", desc := "(LCheekTown$Scene;)Z" } : Jvm.MethodName) ({ cls := "CheekTown$Tag", name := "holds", desc := "(LCheekTown$Scene;)Z" } : Jvm.MethodName)) ∈ lw_all := lw_g (lw_at lw_m8 5 rfl) rfl
theorem q1802 : (Jvm.Cond.unhidden "CheekTown$Tag" "holds" "(LCheekTown$Scene;)Z") ∈ lw_tbl := lw_at lw_m8 6 rfl
theorem q1803 : (Jvm.Cond.instanceMethod ({ cls := "CheekTown$Tag", name := "holds", desc := "(LCheekTown$Scene;)Z" } : Jvm.MethodName)) ∈ lw_all := lw_g (lw_at lw_m8 7 rfl) rfl
theorem q1804 : (Jvm.Cond.publicMethod ({ cls := "CheekTown$Tag", name := "holds", desc := "(LCheekTown$Scene;)Z" } : Jvm.MethodName)) ∈ lw_tbl := lw_at lw_m8 8 rfl
theorem q1805 : (Jvm.Cond.code ({ cls := "CheekTown$Tag", name := "holds", desc := "(LCheekTown$Scene;)Z" } : Jvm.MethodName) prog_18_method_2_code (2 : Nat) (Option.some Jvm.ClassFile.FieldType.boolean)) ∈ lw_all := lw_g (lw_at lw_m8 9 rfl) rfl
theorem q2759 : (Jvm.Cond.castable "CheekTown$Tag" "java/lang/Object") ∈ lw_tbl := lw_at lw_m12 3 rfl
theorem in_X15 : ∀ w ∈ wsX150, w ∈ lw_all := lw_in wsX150 [1475] (by decide +kernel) (by decide +kernel)

/-! CheekTown$Sum -/
set_option maxRecDepth 100000
def RX16 : String := "CheekTown$Sum"
def TX16 : u_T := fun k => match k with
  | _ => ("CheekTown$Sum", "parts", "Ljava/util/ArrayList;", true)
def tyX16 : Nat → FieldType := fun k => match k with
  | _ => .object "java/util/ArrayList"
abbrev wsX160 : List Cond := u_ws RX16 TX16 1
theorem nmX16 : ∀ a, a < 1 → ∀ b, b < 1 → a ≠ b → (TX16 a).2.1 ≠ (TX16 b).2.1 := by decide +kernel
theorem tyX16_ok : ∀ k, k < 1 → parseFieldDescriptor (TX16 k).2.2.1 = some (tyX16 k) := by decide +kernel
abbrev cX16_init : ByteArray := prog_17_method_1_code
def yX16_init : MethodName := ⟨RX16, "<init>", "()V"⟩
def dkwX16_init_0 : List UInt8 := [42, 183, 0, 1, 42, 187, 0, 7, 89, 183, 0, 9, 181, 0, 10, 177]
abbrev dktX16_init_0 : List UInt8 := dkwX16_init_0 ++ []
theorem dksX16_init_0 : cX16_init.data.toList.drop 0 = dktX16_init_0 := by decide +kernel
theorem dX16_init_0 : decode cX16_init 0 = .ok (.aload_n 0, 1) := dk_42 (dk_at dksX16_init_0 0 rfl rfl)
theorem dX16_init_1 : decode cX16_init 1 = .ok (.invokespecial 1, 3) := dk_183 0 1 (dk_at dksX16_init_0 1 rfl rfl)
theorem dX16_init_4 : decode cX16_init 4 = .ok (.aload_n 0, 1) := dk_42 (dk_at dksX16_init_0 4 rfl rfl)
theorem dX16_init_5 : decode cX16_init 5 = .ok (.new 7, 3) := dk_187 0 7 (dk_at dksX16_init_0 5 rfl rfl)
theorem dX16_init_8 : decode cX16_init 8 = .ok (.dup, 1) := dk_89 (dk_at dksX16_init_0 8 rfl rfl)
theorem dX16_init_9 : decode cX16_init 9 = .ok (.invokespecial 9, 3) := dk_183 0 9 (dk_at dksX16_init_0 9 rfl rfl)
theorem dX16_init_12 : decode cX16_init 12 = .ok (.putfield 10, 3) := dk_181 0 10 (dk_at dksX16_init_0 12 rfl rfl)
theorem dX16_init_15 : decode cX16_init 15 = .ok (.return_, 1) := dk_177 (dk_at dksX16_init_0 15 rfl rfl)
abbrev cX16_in : ByteArray := prog_17_method_2_code
def yX16_in : MethodName := ⟨RX16, "in", "(LCheekTown$Scene;)I"⟩
def dkwX16_in_1 : List UInt8 := [192, 0, 24, 43, 182, 0, 26, 96, 61, 132, 3, 1, 167, 255, 224, 28, 172]
abbrev dktX16_in_1 : List UInt8 := dkwX16_in_1 ++ []
def dkwX16_in_0 : List UInt8 := [3, 61, 3, 62, 29, 42, 180, 0, 10, 182, 0, 16, 162, 0, 27, 28, 42, 180, 0, 10, 29, 182, 0, 20]
abbrev dktX16_in_0 : List UInt8 := dkwX16_in_0 ++ dktX16_in_1
theorem dksX16_in_0 : cX16_in.data.toList.drop 0 = dktX16_in_0 := by decide +kernel
theorem dksX16_in_1 : cX16_in.data.toList.drop 24 = dktX16_in_1 := dk_seg dksX16_in_0 24 rfl rfl
theorem dX16_in_0 : decode cX16_in 0 = .ok (.iconst 0, 1) := dk_3 (dk_at dksX16_in_0 0 rfl rfl)
theorem dX16_in_1 : decode cX16_in 1 = .ok (.istore_n 2, 1) := dk_61 (dk_at dksX16_in_0 1 rfl rfl)
theorem dX16_in_2 : decode cX16_in 2 = .ok (.iconst 0, 1) := dk_3 (dk_at dksX16_in_0 2 rfl rfl)
theorem dX16_in_3 : decode cX16_in 3 = .ok (.istore_n 3, 1) := dk_62 (dk_at dksX16_in_0 3 rfl rfl)
theorem dX16_in_4 : decode cX16_in 4 = .ok (.iload_n 3, 1) := dk_29 (dk_at dksX16_in_0 4 rfl rfl)
theorem dX16_in_5 : decode cX16_in 5 = .ok (.aload_n 0, 1) := dk_42 (dk_at dksX16_in_0 5 rfl rfl)
theorem dX16_in_6 : decode cX16_in 6 = .ok (.getfield 10, 3) := dk_180 0 10 (dk_at dksX16_in_0 6 rfl rfl)
theorem dX16_in_9 : decode cX16_in 9 = .ok (.invokevirtual 16, 3) := dk_182 0 16 (dk_at dksX16_in_0 9 rfl rfl)
theorem dX16_in_12 : decode cX16_in 12 = .ok (.if_icmp .ge 27, 3) := dk_162 0 27 (dk_at dksX16_in_0 12 rfl rfl)
theorem dX16_in_15 : decode cX16_in 15 = .ok (.iload_n 2, 1) := dk_28 (dk_at dksX16_in_0 15 rfl rfl)
theorem dX16_in_16 : decode cX16_in 16 = .ok (.aload_n 0, 1) := dk_42 (dk_at dksX16_in_0 16 rfl rfl)
theorem dX16_in_17 : decode cX16_in 17 = .ok (.getfield 10, 3) := dk_180 0 10 (dk_at dksX16_in_0 17 rfl rfl)
theorem dX16_in_20 : decode cX16_in 20 = .ok (.iload_n 3, 1) := dk_29 (dk_at dksX16_in_0 20 rfl rfl)
theorem dX16_in_21 : decode cX16_in 21 = .ok (.invokevirtual 20, 3) := dk_182 0 20 (dk_at dksX16_in_0 21 rfl rfl)
theorem dX16_in_24 : decode cX16_in 24 = .ok (.checkcast 24, 3) := dk_192 0 24 (dk_at dksX16_in_1 0 rfl rfl)
theorem dX16_in_27 : decode cX16_in 27 = .ok (.aload_n 1, 1) := dk_43 (dk_at dksX16_in_1 3 rfl rfl)
theorem dX16_in_28 : decode cX16_in 28 = .ok (.invokevirtual 26, 3) := dk_182 0 26 (dk_at dksX16_in_1 4 rfl rfl)
theorem dX16_in_31 : decode cX16_in 31 = .ok (.iadd, 1) := dk_96 (dk_at dksX16_in_1 7 rfl rfl)
theorem dX16_in_32 : decode cX16_in 32 = .ok (.istore_n 2, 1) := dk_61 (dk_at dksX16_in_1 8 rfl rfl)
theorem dX16_in_33 : decode cX16_in 33 = .ok (.iinc 3 1, 3) := dk_132 3 1 (dk_at dksX16_in_1 9 rfl rfl)
theorem dX16_in_36 : decode cX16_in 36 = .ok (.goto (-32), 3) := dk_167 255 224 (dk_at dksX16_in_1 12 rfl rfl)
theorem dX16_in_39 : decode cX16_in 39 = .ok (.iload_n 2, 1) := dk_28 (dk_at dksX16_in_1 15 rfl rfl)
theorem dX16_in_40 : decode cX16_in 40 = .ok (.ireturn, 1) := dk_172 (dk_at dksX16_in_1 16 rfl rfl)
theorem q153 : (Jvm.Cond.initialized "CheekTown$Sum") ∈ lw_all := lw_g (lw_at lw_m1 37 rfl) rfl
theorem q1483 : (Jvm.Cond.instantiable "CheekTown$Sum" (1 : Nat)) ∈ lw_all := lw_g (lw_at lw_m6 167 rfl) rfl
theorem q1485 : (Jvm.Cond.instanceMethod ({ cls := "CheekTown$Sum", name := "<init>", desc := "()V" } : Jvm.MethodName)) ∈ lw_all := lw_g (lw_at lw_m6 169 rfl) rfl
theorem q1486 : (Jvm.Cond.code ({ cls := "CheekTown$Sum", name := "<init>", desc := "()V" } : Jvm.MethodName) prog_17_method_1_code (1 : Nat) (Option.none : Option Jvm.ClassFile.FieldType)) ∈ lw_all := lw_g (lw_at lw_m6 170 rfl) rfl
theorem q1487 : (Jvm.Cond.methodLink "CheekTown$Sum" (1 : Nat) ({ cls := "java/lang/Object", name := "<init>", desc := "()V" } : Jvm.MethodName)) ∈ lw_all := lw_g (lw_at lw_m6 171 rfl) rfl
theorem q1488 : (Jvm.Cond.classLink "CheekTown$Sum" (7 : Nat) "java/util/ArrayList") ∈ lw_all := lw_g (lw_at lw_m6 172 rfl) rfl
theorem q1489 : (Jvm.Cond.methodLink "CheekTown$Sum" (9 : Nat) ({ cls := "java/util/ArrayList", name := "<init>", desc := "()V" } : Jvm.MethodName)) ∈ lw_all := lw_g (lw_at lw_m6 173 rfl) rfl
theorem q1490 : (Jvm.Cond.fieldLink "CheekTown$Sum" (10 : Nat) "CheekTown$Sum" "parts" "Ljava/util/ArrayList;") ∈ lw_all := lw_g (lw_at lw_m6 174 rfl) rfl
theorem q1492 : (Jvm.Cond.laysFinal "CheekTown$Sum" "CheekTown$Sum" "parts" "Ljava/util/ArrayList;") ∈ lw_all := lw_g (lw_at lw_m6 176 rfl) rfl
theorem q1493 : (Jvm.Cond.soleField "CheekTown$Sum" "parts") ∈ lw_all := lw_g (lw_at lw_m6 177 rfl) rfl
theorem q1494 : (Jvm.Cond.superclass "CheekTown$Sum" "java/lang/Object") ∈ lw_all := lw_g (lw_at lw_m6 178 rfl) rfl
theorem q1569 : (Jvm.Cond.selects "CheekTown$Sum" ({ cls := "java/lang/Object", name := "getClass", desc := "()Ljava/lang/Class;" } : Jvm.MethodName) ({ cls := "java/lang/Object", name := "getClass", desc := "()Ljava/lang/Class;" } : Jvm.MethodName)) ∈ lw_all := lw_g (lw_at lw_m7 13 rfl) rfl
theorem q1764 : (Jvm.Cond.instanceMethod ({ cls := "CheekTown$Sum", name := "in", desc := "(LCheekTown$Scene;)I" } : Jvm.MethodName)) ∈ lw_all := lw_g (lw_at lw_m7 208 rfl) rfl
theorem q1765 : (Jvm.Cond.selects "CheekTown$Sum" ({ cls := "CheekTown$Sum", name := "in", desc := "(LCheekTown$Scene;)I" } : Jvm.MethodName) ({ cls := "CheekTown$Sum", name := "in", desc := "(LCheekTown$Scene;)I" } : Jvm.MethodName)) ∈ lw_all := lw_g (lw_at lw_m7 209 rfl) rfl
theorem q1766 : (Jvm.Cond.code ({ cls := "CheekTown$Sum", name := "in", desc := "(LCheekTown$Scene;)I" } : Jvm.MethodName) prog_17_method_2_code (4 : Nat) (Option.some Jvm.ClassFile.FieldType.int)) ∈ lw_all := lw_g (lw_at lw_m7 210 rfl) rfl
theorem q1767 : (Jvm.Cond.methodLink "CheekTown$Sum" (16 : Nat) ({ cls := "java/util/ArrayList", name := "size", desc := "()I" } : Jvm.MethodName)) ∈ lw_all := lw_g (lw_at lw_m7 211 rfl) rfl
theorem q1768 : (Jvm.Cond.methodLink "CheekTown$Sum" (20 : Nat) ({ cls := "java/util/ArrayList", name := "get", desc := "(I)Ljava/lang/Object;" } : Jvm.MethodName)) ∈ lw_all := lw_g (lw_at lw_m7 212 rfl) rfl
theorem q1769 : (Jvm.Cond.classLink "CheekTown$Sum" (24 : Nat) "CheekTown$Part") ∈ lw_all := lw_g (lw_at lw_m7 213 rfl) rfl
theorem q1770 : (Jvm.Cond.methodLink "CheekTown$Sum" (26 : Nat) ({ cls := "CheekTown$Part", name := "in", desc := "(LCheekTown$Scene;)I" } : Jvm.MethodName)) ∈ lw_all := lw_g (lw_at lw_m7 214 rfl) rfl
theorem q2760 : (Jvm.Cond.castable "CheekTown$Sum" "java/lang/Object") ∈ lw_tbl := lw_at lw_m12 4 rfl
theorem in_X16 : ∀ w ∈ wsX160, w ∈ lw_all := lw_in wsX160 [1492] (by decide +kernel) (by decide +kernel)

/-! CheekTown$Part -/
set_option maxRecDepth 100000
def RX17 : String := "CheekTown$Part"
def TX17 : u_T := fun k => match k with
  | 0 => ("CheekTown$Part", "n", "I", true)
  | _ => ("CheekTown$Part", "fact", "LCheekTown$Fact;", true)
def tyX17 : Nat → FieldType := fun k => match k with
  | 0 => .int
  | _ => .object "CheekTown$Fact"
abbrev wsX170 : List Cond := u_ws RX17 TX17 2
theorem nmX17 : ∀ a, a < 2 → ∀ b, b < 2 → a ≠ b → (TX17 a).2.1 ≠ (TX17 b).2.1 := by decide +kernel
theorem tyX17_ok : ∀ k, k < 2 → parseFieldDescriptor (TX17 k).2.2.1 = some (tyX17 k) := by decide +kernel
abbrev cX17_init : ByteArray := prog_10_method_1_code
def yX17_init : MethodName := ⟨RX17, "<init>", "(ILCheekTown$Fact;)V"⟩
def dkwX17_init_0 : List UInt8 := [42, 183, 0, 1, 42, 27, 181, 0, 7, 42, 44, 181, 0, 13, 177]
abbrev dktX17_init_0 : List UInt8 := dkwX17_init_0 ++ []
theorem dksX17_init_0 : cX17_init.data.toList.drop 0 = dktX17_init_0 := by decide +kernel
theorem dX17_init_0 : decode cX17_init 0 = .ok (.aload_n 0, 1) := dk_42 (dk_at dksX17_init_0 0 rfl rfl)
theorem dX17_init_1 : decode cX17_init 1 = .ok (.invokespecial 1, 3) := dk_183 0 1 (dk_at dksX17_init_0 1 rfl rfl)
theorem dX17_init_4 : decode cX17_init 4 = .ok (.aload_n 0, 1) := dk_42 (dk_at dksX17_init_0 4 rfl rfl)
theorem dX17_init_5 : decode cX17_init 5 = .ok (.iload_n 1, 1) := dk_27 (dk_at dksX17_init_0 5 rfl rfl)
theorem dX17_init_6 : decode cX17_init 6 = .ok (.putfield 7, 3) := dk_181 0 7 (dk_at dksX17_init_0 6 rfl rfl)
theorem dX17_init_9 : decode cX17_init 9 = .ok (.aload_n 0, 1) := dk_42 (dk_at dksX17_init_0 9 rfl rfl)
theorem dX17_init_10 : decode cX17_init 10 = .ok (.aload_n 2, 1) := dk_44 (dk_at dksX17_init_0 10 rfl rfl)
theorem dX17_init_11 : decode cX17_init 11 = .ok (.putfield 13, 3) := dk_181 0 13 (dk_at dksX17_init_0 11 rfl rfl)
theorem dX17_init_14 : decode cX17_init 14 = .ok (.return_, 1) := dk_177 (dk_at dksX17_init_0 14 rfl rfl)
abbrev cX17_in : ByteArray := prog_10_method_2_code
def yX17_in : MethodName := ⟨RX17, "in", "(LCheekTown$Scene;)I"⟩
def dkwX17_in_0 : List UInt8 := [42, 180, 0, 13, 199, 0, 10, 42, 180, 0, 7, 167, 0, 11, 43, 42, 180, 0, 13, 182, 0, 17, 172]
abbrev dktX17_in_0 : List UInt8 := dkwX17_in_0 ++ []
theorem dksX17_in_0 : cX17_in.data.toList.drop 0 = dktX17_in_0 := by decide +kernel
theorem dX17_in_0 : decode cX17_in 0 = .ok (.aload_n 0, 1) := dk_42 (dk_at dksX17_in_0 0 rfl rfl)
theorem dX17_in_1 : decode cX17_in 1 = .ok (.getfield 13, 3) := dk_180 0 13 (dk_at dksX17_in_0 1 rfl rfl)
theorem dX17_in_4 : decode cX17_in 4 = .ok (.ifnonnull 10, 3) := dk_199 0 10 (dk_at dksX17_in_0 4 rfl rfl)
theorem dX17_in_7 : decode cX17_in 7 = .ok (.aload_n 0, 1) := dk_42 (dk_at dksX17_in_0 7 rfl rfl)
theorem dX17_in_8 : decode cX17_in 8 = .ok (.getfield 7, 3) := dk_180 0 7 (dk_at dksX17_in_0 8 rfl rfl)
theorem dX17_in_11 : decode cX17_in 11 = .ok (.goto 11, 3) := dk_167 0 11 (dk_at dksX17_in_0 11 rfl rfl)
theorem dX17_in_14 : decode cX17_in 14 = .ok (.aload_n 1, 1) := dk_43 (dk_at dksX17_in_0 14 rfl rfl)
theorem dX17_in_15 : decode cX17_in 15 = .ok (.aload_n 0, 1) := dk_42 (dk_at dksX17_in_0 15 rfl rfl)
theorem dX17_in_16 : decode cX17_in 16 = .ok (.getfield 13, 3) := dk_180 0 13 (dk_at dksX17_in_0 16 rfl rfl)
theorem dX17_in_19 : decode cX17_in 19 = .ok (.invokevirtual 17, 3) := dk_182 0 17 (dk_at dksX17_in_0 19 rfl rfl)
theorem dX17_in_22 : decode cX17_in 22 = .ok (.ireturn, 1) := dk_172 (dk_at dksX17_in_0 22 rfl rfl)
theorem q154 : (Jvm.Cond.initialized "CheekTown$Part") ∈ lw_all := lw_g (lw_at lw_m1 38 rfl) rfl
theorem q1504 : (Jvm.Cond.instantiable "CheekTown$Part" (2 : Nat)) ∈ lw_all := lw_g (lw_at lw_m6 188 rfl) rfl
theorem q1506 : (Jvm.Cond.instanceMethod ({ cls := "CheekTown$Part", name := "<init>", desc := "(ILCheekTown$Fact;)V" } : Jvm.MethodName)) ∈ lw_all := lw_g (lw_at lw_m6 190 rfl) rfl
theorem q1507 : (Jvm.Cond.code ({ cls := "CheekTown$Part", name := "<init>", desc := "(ILCheekTown$Fact;)V" } : Jvm.MethodName) prog_10_method_1_code (3 : Nat) (Option.none : Option Jvm.ClassFile.FieldType)) ∈ lw_all := lw_g (lw_at lw_m6 191 rfl) rfl
theorem q1508 : (Jvm.Cond.methodLink "CheekTown$Part" (1 : Nat) ({ cls := "java/lang/Object", name := "<init>", desc := "()V" } : Jvm.MethodName)) ∈ lw_all := lw_g (lw_at lw_m6 192 rfl) rfl
theorem q1509 : (Jvm.Cond.fieldLink "CheekTown$Part" (7 : Nat) "CheekTown$Part" "n" "I") ∈ lw_all := lw_g (lw_at lw_m6 193 rfl) rfl
theorem q1510 : (Jvm.Cond.fieldLink "CheekTown$Part" (13 : Nat) "CheekTown$Part" "fact" "LCheekTown$Fact;") ∈ lw_all := lw_g (lw_at lw_m6 194 rfl) rfl
theorem q1511 : (Jvm.Cond.laysFinal "CheekTown$Part" "CheekTown$Part" "n" "I") ∈ lw_all := lw_g (lw_at lw_m6 195 rfl) rfl
theorem q1512 : (Jvm.Cond.soleField "CheekTown$Part" "n") ∈ lw_all := lw_g (lw_at lw_m6 196 rfl) rfl
theorem q1513 : (Jvm.Cond.laysFinal "CheekTown$Part" "CheekTown$Part" "fact" "LCheekTown$Fact;") ∈ lw_all := lw_g (lw_at lw_m6 197 rfl) rfl
theorem q1514 : (Jvm.Cond.soleField "CheekTown$Part" "fact") ∈ lw_all := lw_g (lw_at lw_m6 198 rfl) rfl
theorem q1515 : (Jvm.Cond.superclass "CheekTown$Part" "java/lang/Object") ∈ lw_all := lw_g (lw_at lw_m6 199 rfl) rfl
theorem q1562 : (Jvm.Cond.selects "CheekTown$Part" ({ cls := "java/lang/Object", name := "getClass", desc := "()Ljava/lang/Class;" } : Jvm.MethodName) ({ cls := "java/lang/Object", name := "getClass", desc := "()Ljava/lang/Class;" } : Jvm.MethodName)) ∈ lw_all := lw_g (lw_at lw_m7 6 rfl) rfl
theorem q1771 : (Jvm.Cond.instanceMethod ({ cls := "CheekTown$Part", name := "in", desc := "(LCheekTown$Scene;)I" } : Jvm.MethodName)) ∈ lw_all := lw_g (lw_at lw_m7 215 rfl) rfl
theorem q1772 : (Jvm.Cond.selects "CheekTown$Part" ({ cls := "CheekTown$Part", name := "in", desc := "(LCheekTown$Scene;)I" } : Jvm.MethodName) ({ cls := "CheekTown$Part", name := "in", desc := "(LCheekTown$Scene;)I" } : Jvm.MethodName)) ∈ lw_all := lw_g (lw_at lw_m7 216 rfl) rfl
theorem q1773 : (Jvm.Cond.code ({ cls := "CheekTown$Part", name := "in", desc := "(LCheekTown$Scene;)I" } : Jvm.MethodName) prog_10_method_2_code (2 : Nat) (Option.some Jvm.ClassFile.FieldType.int)) ∈ lw_all := lw_g (lw_at lw_m7 217 rfl) rfl
theorem q1774 : (Jvm.Cond.methodLink "CheekTown$Part" (17 : Nat) ({ cls := "CheekTown$Scene", name := "of", desc := "(LCheekTown$Fact;)I" } : Jvm.MethodName)) ∈ lw_all := lw_g (lw_at lw_m7 218 rfl) rfl
theorem q2761 : (Jvm.Cond.castable "CheekTown$Part" "java/lang/Object") ∈ lw_tbl := lw_at lw_m12 5 rfl
theorem in_X17 : ∀ w ∈ wsX170, w ∈ lw_all := lw_in wsX170 [1511, 1513] (by decide +kernel) (by decide +kernel)

/-! CheekTown$Fact -/
set_option maxRecDepth 100000
def RX18 : String := "CheekTown$Fact"
abbrev cX18_of : ByteArray := prog_3_method_4_code
def yX18_of : MethodName := ⟨RX18, "of", "(Ljava/lang/String;)LCheekTown$Fact;"⟩
def dkwX18_of_1 : List UInt8 := [42, 182, 0, 49, 153, 0, 6, 25, 4, 176, 132, 3, 1, 167, 255, 228, 1, 176]
abbrev dktX18_of_1 : List UInt8 := dkwX18_of_1 ++ []
def dkwX18_of_0 : List UInt8 := [184, 0, 45, 76, 43, 190, 61, 3, 62, 29, 28, 162, 0, 29, 43, 29, 50, 58, 4, 25, 4, 180, 0, 41]
abbrev dktX18_of_0 : List UInt8 := dkwX18_of_0 ++ dktX18_of_1
theorem dksX18_of_0 : cX18_of.data.toList.drop 0 = dktX18_of_0 := by decide +kernel
theorem dksX18_of_1 : cX18_of.data.toList.drop 24 = dktX18_of_1 := dk_seg dksX18_of_0 24 rfl rfl
theorem dX18_of_0 : decode cX18_of 0 = .ok (.invokestatic 45, 3) := dk_184 0 45 (dk_at dksX18_of_0 0 rfl rfl)
theorem dX18_of_3 : decode cX18_of 3 = .ok (.astore_n 1, 1) := dk_76 (dk_at dksX18_of_0 3 rfl rfl)
theorem dX18_of_4 : decode cX18_of 4 = .ok (.aload_n 1, 1) := dk_43 (dk_at dksX18_of_0 4 rfl rfl)
theorem dX18_of_5 : decode cX18_of 5 = .ok (.arraylength, 1) := dk_190 (dk_at dksX18_of_0 5 rfl rfl)
theorem dX18_of_6 : decode cX18_of 6 = .ok (.istore_n 2, 1) := dk_61 (dk_at dksX18_of_0 6 rfl rfl)
theorem dX18_of_7 : decode cX18_of 7 = .ok (.iconst 0, 1) := dk_3 (dk_at dksX18_of_0 7 rfl rfl)
theorem dX18_of_8 : decode cX18_of 8 = .ok (.istore_n 3, 1) := dk_62 (dk_at dksX18_of_0 8 rfl rfl)
theorem dX18_of_9 : decode cX18_of 9 = .ok (.iload_n 3, 1) := dk_29 (dk_at dksX18_of_0 9 rfl rfl)
theorem dX18_of_10 : decode cX18_of 10 = .ok (.iload_n 2, 1) := dk_28 (dk_at dksX18_of_0 10 rfl rfl)
theorem dX18_of_11 : decode cX18_of 11 = .ok (.if_icmp .ge 29, 3) := dk_162 0 29 (dk_at dksX18_of_0 11 rfl rfl)
theorem dX18_of_14 : decode cX18_of 14 = .ok (.aload_n 1, 1) := dk_43 (dk_at dksX18_of_0 14 rfl rfl)
theorem dX18_of_15 : decode cX18_of 15 = .ok (.iload_n 3, 1) := dk_29 (dk_at dksX18_of_0 15 rfl rfl)
theorem dX18_of_16 : decode cX18_of 16 = .ok (.aaload, 1) := dk_50 (dk_at dksX18_of_0 16 rfl rfl)
theorem dX18_of_17 : decode cX18_of 17 = .ok (.astore 4, 2) := dk_58 4 (dk_at dksX18_of_0 17 rfl rfl)
theorem dX18_of_19 : decode cX18_of 19 = .ok (.aload 4, 2) := dk_25 4 (dk_at dksX18_of_0 19 rfl rfl)
theorem dX18_of_21 : decode cX18_of 21 = .ok (.getfield 41, 3) := dk_180 0 41 (dk_at dksX18_of_0 21 rfl rfl)
theorem dX18_of_24 : decode cX18_of 24 = .ok (.aload_n 0, 1) := dk_42 (dk_at dksX18_of_1 0 rfl rfl)
theorem dX18_of_25 : decode cX18_of 25 = .ok (.invokevirtual 49, 3) := dk_182 0 49 (dk_at dksX18_of_1 1 rfl rfl)
theorem dX18_of_28 : decode cX18_of 28 = .ok (.ifCond .eq 6, 3) := dk_153 0 6 (dk_at dksX18_of_1 4 rfl rfl)
theorem dX18_of_31 : decode cX18_of 31 = .ok (.aload 4, 2) := dk_25 4 (dk_at dksX18_of_1 7 rfl rfl)
theorem dX18_of_33 : decode cX18_of 33 = .ok (.areturn, 1) := dk_176 (dk_at dksX18_of_1 9 rfl rfl)
theorem dX18_of_34 : decode cX18_of 34 = .ok (.iinc 3 1, 3) := dk_132 3 1 (dk_at dksX18_of_1 10 rfl rfl)
theorem dX18_of_37 : decode cX18_of 37 = .ok (.goto (-28), 3) := dk_167 255 228 (dk_at dksX18_of_1 13 rfl rfl)
theorem dX18_of_40 : decode cX18_of 40 = .ok (.aconst_null, 1) := dk_1 (dk_at dksX18_of_1 16 rfl rfl)
theorem dX18_of_41 : decode cX18_of 41 = .ok (.areturn, 1) := dk_176 (dk_at dksX18_of_1 17 rfl rfl)
abbrev cX18_values : ByteArray := prog_3_method_1_code
def yX18_values : MethodName := ⟨RX18, "values", "()[LCheekTown$Fact;"⟩
def dkwX18_values_0 : List UInt8 := [178, 0, 22, 182, 0, 26, 192, 0, 27, 176]
abbrev dktX18_values_0 : List UInt8 := dkwX18_values_0 ++ []
theorem dksX18_values_0 : cX18_values.data.toList.drop 0 = dktX18_values_0 := by decide +kernel
theorem dX18_values_0 : decode cX18_values 0 = .ok (.getstatic 22, 3) := dk_178 0 22 (dk_at dksX18_values_0 0 rfl rfl)
theorem dX18_values_3 : decode cX18_values 3 = .ok (.invokevirtual 26, 3) := dk_182 0 26 (dk_at dksX18_values_0 3 rfl rfl)
theorem dX18_values_6 : decode cX18_values 6 = .ok (.checkcast 27, 3) := dk_192 0 27 (dk_at dksX18_values_0 6 rfl rfl)
theorem dX18_values_9 : decode cX18_values 9 = .ok (.areturn, 1) := dk_176 (dk_at dksX18_values_0 9 rfl rfl)
theorem q155 : (Jvm.Cond.initialized "CheekTown$Fact") ∈ lw_all := lw_g (lw_at lw_m1 39 rfl) rfl
theorem q1517 : (Jvm.Cond.static ({ cls := "CheekTown$Fact", name := "of", desc := "(Ljava/lang/String;)LCheekTown$Fact;" } : Jvm.MethodName)) ∈ lw_all := lw_g (lw_at lw_m6 201 rfl) rfl
theorem q1518 : (Jvm.Cond.code ({ cls := "CheekTown$Fact", name := "of", desc := "(Ljava/lang/String;)LCheekTown$Fact;" } : Jvm.MethodName) prog_3_method_4_code (5 : Nat) (Option.some (Jvm.ClassFile.FieldType.object "CheekTown$Fact"))) ∈ lw_all := lw_g (lw_at lw_m6 202 rfl) rfl
theorem q1519 : (Jvm.Cond.methodLink "CheekTown$Fact" (45 : Nat) ({ cls := "CheekTown$Fact", name := "values", desc := "()[LCheekTown$Fact;" } : Jvm.MethodName)) ∈ lw_all := lw_g (lw_at lw_m6 203 rfl) rfl
theorem q1520 : (Jvm.Cond.static ({ cls := "CheekTown$Fact", name := "values", desc := "()[LCheekTown$Fact;" } : Jvm.MethodName)) ∈ lw_all := lw_g (lw_at lw_m6 204 rfl) rfl
theorem q1521 : (Jvm.Cond.code ({ cls := "CheekTown$Fact", name := "values", desc := "()[LCheekTown$Fact;" } : Jvm.MethodName) prog_3_method_1_code (0 : Nat) (Option.some (Jvm.ClassFile.FieldType.array (Jvm.ClassFile.FieldType.object "CheekTown$Fact")))) ∈ lw_all := lw_g (lw_at lw_m6 205 rfl) rfl
theorem q1522 : (Jvm.Cond.fieldLink "CheekTown$Fact" (22 : Nat) "CheekTown$Fact" "$VALUES" "[LCheekTown$Fact;") ∈ lw_all := lw_g (lw_at lw_m6 206 rfl) rfl
theorem q1523 : (Jvm.Cond.laysStatic "CheekTown$Fact" "$VALUES" "[LCheekTown$Fact;") ∈ lw_tbl := lw_at lw_m6 207 rfl
theorem q1524 : (Jvm.Cond.methodLink "CheekTown$Fact" (26 : Nat) ({ cls := "[LCheekTown$Fact;", name := "clone", desc := "()Ljava/lang/Object;" } : Jvm.MethodName)) ∈ lw_all := lw_g (lw_at lw_m6 208 rfl) rfl
theorem q1529 : (Jvm.Cond.classLink "CheekTown$Fact" (27 : Nat) "[LCheekTown$Fact;") ∈ lw_all := lw_g (lw_at lw_m6 213 rfl) rfl
theorem q1530 : (Jvm.Cond.methodLink "CheekTown$Fact" (49 : Nat) ({ cls := "java/lang/String", name := "equals", desc := "(Ljava/lang/Object;)Z" } : Jvm.MethodName)) ∈ lw_all := lw_g (lw_at lw_m6 214 rfl) rfl
theorem q1555 : (Jvm.Cond.selects "CheekTown$Fact" ({ cls := "java/lang/Object", name := "getClass", desc := "()Ljava/lang/Class;" } : Jvm.MethodName) ({ cls := "java/lang/Object", name := "getClass", desc := "()Ljava/lang/Class;" } : Jvm.MethodName)) ∈ lw_all := lw_g (lw_at lw_m6 239 rfl) rfl
theorem q1779 : (Jvm.Cond.sameMethod "CheekTown$Fact" "java/lang/Enum" "ordinal" "()I") ∈ lw_all := lw_g (lw_at lw_m7 223 rfl) rfl
theorem q1780 : (Jvm.Cond.selects "CheekTown$Fact" ({ cls := "CheekTown$Fact", name := "ordinal", desc := "()I" } : Jvm.MethodName) ({ cls := "java/lang/Enum", name := "ordinal", desc := "()I" } : Jvm.MethodName)) ∈ lw_all := lw_g (lw_at lw_m7 224 rfl) rfl
theorem q2738 : (Jvm.Cond.castable "CheekTown$Fact" "java/lang/Object") ∈ lw_tbl := lw_at lw_m11 222 rfl
theorem q2784 : (Jvm.Cond.fieldLink "CheekTown$Fact" (41 : Nat) "CheekTown$Fact" "told" "Ljava/lang/String;") ∈ lw_all := lw_g (lw_at lw_m12 28 rfl) rfl
theorem q2788 : (Jvm.Cond.laysStatic "CheekTown$Fact" "WHO" "LCheekTown$Fact;") ∈ lw_tbl := lw_at lw_m12 32 rfl
theorem q2789 : (Jvm.Cond.laysStatic "CheekTown$Fact" "WHOM" "LCheekTown$Fact;") ∈ lw_tbl := lw_at lw_m12 33 rfl
theorem q2790 : (Jvm.Cond.laysStatic "CheekTown$Fact" "RANK" "LCheekTown$Fact;") ∈ lw_tbl := lw_at lw_m12 34 rfl
theorem q2791 : (Jvm.Cond.laysStatic "CheekTown$Fact" "THEIRS" "LCheekTown$Fact;") ∈ lw_tbl := lw_at lw_m12 35 rfl
theorem q2792 : (Jvm.Cond.laysStatic "CheekTown$Fact" "MET" "LCheekTown$Fact;") ∈ lw_tbl := lw_at lw_m12 36 rfl
theorem q2793 : (Jvm.Cond.laysStatic "CheekTown$Fact" "ROUND" "LCheekTown$Fact;") ∈ lw_tbl := lw_at lw_m12 37 rfl
theorem q2800 : (Jvm.Cond.stringRef "CheekTown$Fact" (56 : Nat) "who") ∈ lw_tbl := lw_at lw_m12 44 rfl
theorem q2801 : (Jvm.Cond.stringRef "CheekTown$Fact" (62 : Nat) "whom") ∈ lw_tbl := lw_at lw_m12 45 rfl
theorem q2802 : (Jvm.Cond.stringRef "CheekTown$Fact" (65 : Nat) "rank") ∈ lw_tbl := lw_at lw_m12 46 rfl
theorem q2803 : (Jvm.Cond.stringRef "CheekTown$Fact" (68 : Nat) "theirs") ∈ lw_tbl := lw_at lw_m12 47 rfl
theorem q2804 : (Jvm.Cond.stringRef "CheekTown$Fact" (71 : Nat) "met") ∈ lw_tbl := lw_at lw_m12 48 rfl
theorem q2805 : (Jvm.Cond.stringRef "CheekTown$Fact" (74 : Nat) "round") ∈ lw_tbl := lw_at lw_m12 49 rfl

/-! CheekTown$Less -/
set_option maxRecDepth 100000
def RX19 : String := "CheekTown$Less"
def TX19 : u_T := fun k => match k with
  | 0 => ("CheekTown$Less", "a", "LCheekTown$Sum;", true)
  | _ => ("CheekTown$Less", "b", "LCheekTown$Sum;", true)
def tyX19 : Nat → FieldType := fun k => match k with
  | 0 => .object "CheekTown$Sum"
  | _ => .object "CheekTown$Sum"
abbrev wsX190 : List Cond := u_ws RX19 TX19 2
theorem nmX19 : ∀ a, a < 2 → ∀ b, b < 2 → a ≠ b → (TX19 a).2.1 ≠ (TX19 b).2.1 := by decide +kernel
theorem tyX19_ok : ∀ k, k < 2 → parseFieldDescriptor (TX19 k).2.2.1 = some (tyX19 k) := by decide +kernel
abbrev cX19_init : ByteArray := prog_6_method_1_code
def yX19_init : MethodName := ⟨RX19, "<init>", "(LCheekTown$Sum;LCheekTown$Sum;)V"⟩
def dkwX19_init_0 : List UInt8 := [42, 183, 0, 1, 42, 43, 181, 0, 7, 42, 44, 181, 0, 13, 177]
abbrev dktX19_init_0 : List UInt8 := dkwX19_init_0 ++ []
theorem dksX19_init_0 : cX19_init.data.toList.drop 0 = dktX19_init_0 := by decide +kernel
theorem dX19_init_0 : decode cX19_init 0 = .ok (.aload_n 0, 1) := dk_42 (dk_at dksX19_init_0 0 rfl rfl)
theorem dX19_init_1 : decode cX19_init 1 = .ok (.invokespecial 1, 3) := dk_183 0 1 (dk_at dksX19_init_0 1 rfl rfl)
theorem dX19_init_4 : decode cX19_init 4 = .ok (.aload_n 0, 1) := dk_42 (dk_at dksX19_init_0 4 rfl rfl)
theorem dX19_init_5 : decode cX19_init 5 = .ok (.aload_n 1, 1) := dk_43 (dk_at dksX19_init_0 5 rfl rfl)
theorem dX19_init_6 : decode cX19_init 6 = .ok (.putfield 7, 3) := dk_181 0 7 (dk_at dksX19_init_0 6 rfl rfl)
theorem dX19_init_9 : decode cX19_init 9 = .ok (.aload_n 0, 1) := dk_42 (dk_at dksX19_init_0 9 rfl rfl)
theorem dX19_init_10 : decode cX19_init 10 = .ok (.aload_n 2, 1) := dk_44 (dk_at dksX19_init_0 10 rfl rfl)
theorem dX19_init_11 : decode cX19_init 11 = .ok (.putfield 13, 3) := dk_181 0 13 (dk_at dksX19_init_0 11 rfl rfl)
theorem dX19_init_14 : decode cX19_init 14 = .ok (.return_, 1) := dk_177 (dk_at dksX19_init_0 14 rfl rfl)
abbrev cX19_holds : ByteArray := prog_6_method_2_code
def yX19_holds : MethodName := ⟨RX19, "holds", "(LCheekTown$Scene;)Z"⟩
def dkwX19_holds_1 : List UInt8 := [172]
abbrev dktX19_holds_1 : List UInt8 := dkwX19_holds_1 ++ []
def dkwX19_holds_0 : List UInt8 := [42, 180, 0, 7, 43, 182, 0, 16, 42, 180, 0, 13, 43, 182, 0, 16, 162, 0, 7, 4, 167, 0, 4, 3]
abbrev dktX19_holds_0 : List UInt8 := dkwX19_holds_0 ++ dktX19_holds_1
theorem dksX19_holds_0 : cX19_holds.data.toList.drop 0 = dktX19_holds_0 := by decide +kernel
theorem dksX19_holds_1 : cX19_holds.data.toList.drop 24 = dktX19_holds_1 := dk_seg dksX19_holds_0 24 rfl rfl
theorem dX19_holds_0 : decode cX19_holds 0 = .ok (.aload_n 0, 1) := dk_42 (dk_at dksX19_holds_0 0 rfl rfl)
theorem dX19_holds_1 : decode cX19_holds 1 = .ok (.getfield 7, 3) := dk_180 0 7 (dk_at dksX19_holds_0 1 rfl rfl)
theorem dX19_holds_4 : decode cX19_holds 4 = .ok (.aload_n 1, 1) := dk_43 (dk_at dksX19_holds_0 4 rfl rfl)
theorem dX19_holds_5 : decode cX19_holds 5 = .ok (.invokevirtual 16, 3) := dk_182 0 16 (dk_at dksX19_holds_0 5 rfl rfl)
theorem dX19_holds_8 : decode cX19_holds 8 = .ok (.aload_n 0, 1) := dk_42 (dk_at dksX19_holds_0 8 rfl rfl)
theorem dX19_holds_9 : decode cX19_holds 9 = .ok (.getfield 13, 3) := dk_180 0 13 (dk_at dksX19_holds_0 9 rfl rfl)
theorem dX19_holds_12 : decode cX19_holds 12 = .ok (.aload_n 1, 1) := dk_43 (dk_at dksX19_holds_0 12 rfl rfl)
theorem dX19_holds_13 : decode cX19_holds 13 = .ok (.invokevirtual 16, 3) := dk_182 0 16 (dk_at dksX19_holds_0 13 rfl rfl)
theorem dX19_holds_16 : decode cX19_holds 16 = .ok (.if_icmp .ge 7, 3) := dk_162 0 7 (dk_at dksX19_holds_0 16 rfl rfl)
theorem dX19_holds_19 : decode cX19_holds 19 = .ok (.iconst 1, 1) := dk_4 (dk_at dksX19_holds_0 19 rfl rfl)
theorem dX19_holds_20 : decode cX19_holds 20 = .ok (.goto 4, 3) := dk_167 0 4 (dk_at dksX19_holds_0 20 rfl rfl)
theorem dX19_holds_23 : decode cX19_holds 23 = .ok (.iconst 0, 1) := dk_3 (dk_at dksX19_holds_0 23 rfl rfl)
theorem dX19_holds_24 : decode cX19_holds 24 = .ok (.ireturn, 1) := dk_172 (dk_at dksX19_holds_1 0 rfl rfl)
theorem q156 : (Jvm.Cond.initialized "CheekTown$Less") ∈ lw_all := lw_g (lw_at lw_m1 40 rfl) rfl
theorem q1558 : (Jvm.Cond.selects "CheekTown$Less" ({ cls := "java/lang/Object", name := "getClass", desc := "()Ljava/lang/Class;" } : Jvm.MethodName) ({ cls := "java/lang/Object", name := "getClass", desc := "()Ljava/lang/Class;" } : Jvm.MethodName)) ∈ lw_all := lw_g (lw_at lw_m7 2 rfl) rfl
theorem q1595 : (Jvm.Cond.instantiable "CheekTown$Less" (2 : Nat)) ∈ lw_all := lw_g (lw_at lw_m7 39 rfl) rfl
theorem q1597 : (Jvm.Cond.instanceMethod ({ cls := "CheekTown$Less", name := "<init>", desc := "(LCheekTown$Sum;LCheekTown$Sum;)V" } : Jvm.MethodName)) ∈ lw_all := lw_g (lw_at lw_m7 41 rfl) rfl
theorem q1598 : (Jvm.Cond.code ({ cls := "CheekTown$Less", name := "<init>", desc := "(LCheekTown$Sum;LCheekTown$Sum;)V" } : Jvm.MethodName) prog_6_method_1_code (3 : Nat) (Option.none : Option Jvm.ClassFile.FieldType)) ∈ lw_all := lw_g (lw_at lw_m7 42 rfl) rfl
theorem q1599 : (Jvm.Cond.methodLink "CheekTown$Less" (1 : Nat) ({ cls := "java/lang/Object", name := "<init>", desc := "()V" } : Jvm.MethodName)) ∈ lw_all := lw_g (lw_at lw_m7 43 rfl) rfl
theorem q1600 : (Jvm.Cond.fieldLink "CheekTown$Less" (7 : Nat) "CheekTown$Less" "a" "LCheekTown$Sum;") ∈ lw_all := lw_g (lw_at lw_m7 44 rfl) rfl
theorem q1601 : (Jvm.Cond.fieldLink "CheekTown$Less" (13 : Nat) "CheekTown$Less" "b" "LCheekTown$Sum;") ∈ lw_all := lw_g (lw_at lw_m7 45 rfl) rfl
theorem q1602 : (Jvm.Cond.laysFinal "CheekTown$Less" "CheekTown$Less" "a" "LCheekTown$Sum;") ∈ lw_all := lw_g (lw_at lw_m7 46 rfl) rfl
theorem q1603 : (Jvm.Cond.soleField "CheekTown$Less" "a") ∈ lw_all := lw_g (lw_at lw_m7 47 rfl) rfl
theorem q1604 : (Jvm.Cond.laysFinal "CheekTown$Less" "CheekTown$Less" "b" "LCheekTown$Sum;") ∈ lw_all := lw_g (lw_at lw_m7 48 rfl) rfl
theorem q1605 : (Jvm.Cond.soleField "CheekTown$Less" "b") ∈ lw_all := lw_g (lw_at lw_m7 49 rfl) rfl
theorem q1606 : (Jvm.Cond.superclass "CheekTown$Less" "java/lang/Object") ∈ lw_all := lw_g (lw_at lw_m7 50 rfl) rfl
theorem q1757 : (Jvm.Cond.castable "CheekTown$Less" "CheekTown$Cond") ∈ lw_tbl := lw_at lw_m7 201 rfl
theorem q1758 : (Jvm.Cond.selects "CheekTown$Less" ({ cls := "CheekTown$Cond", name := "holds", desc := "(LCheekTown$Scene;)Z" } : Jvm.MethodName) ({ cls := "CheekTown$Less", name := "holds", desc := "(LCheekTown$Scene;)Z" } : Jvm.MethodName)) ∈ lw_all := lw_g (lw_at lw_m7 202 rfl) rfl
theorem q1759 : (Jvm.Cond.unhidden "CheekTown$Less" "holds" "(LCheekTown$Scene;)Z") ∈ lw_tbl := lw_at lw_m7 203 rfl
theorem q1760 : (Jvm.Cond.instanceMethod ({ cls := "CheekTown$Less", name := "holds", desc := "(LCheekTown$Scene;)Z" } : Jvm.MethodName)) ∈ lw_all := lw_g (lw_at lw_m7 204 rfl) rfl
theorem q1761 : (Jvm.Cond.publicMethod ({ cls := "CheekTown$Less", name := "holds", desc := "(LCheekTown$Scene;)Z" } : Jvm.MethodName)) ∈ lw_tbl := lw_at lw_m7 205 rfl
theorem q1762 : (Jvm.Cond.code ({ cls := "CheekTown$Less", name := "holds", desc := "(LCheekTown$Scene;)Z" } : Jvm.MethodName) prog_6_method_2_code (2 : Nat) (Option.some Jvm.ClassFile.FieldType.boolean)) ∈ lw_all := lw_g (lw_at lw_m7 206 rfl) rfl
theorem q1763 : (Jvm.Cond.methodLink "CheekTown$Less" (16 : Nat) ({ cls := "CheekTown$Sum", name := "in", desc := "(LCheekTown$Scene;)I" } : Jvm.MethodName)) ∈ lw_all := lw_g (lw_at lw_m7 207 rfl) rfl
theorem q2762 : (Jvm.Cond.castable "CheekTown$Less" "java/lang/Object") ∈ lw_tbl := lw_at lw_m12 6 rfl
theorem in_X19 : ∀ w ∈ wsX190, w ∈ lw_all := lw_in wsX190 [1602, 1604] (by decide +kernel) (by decide +kernel)

/-! CheekTown$Share -/
set_option maxRecDepth 100000
def RX20 : String := "CheekTown$Share"
def TX20 : u_T := fun k => match k with
  | 0 => ("CheekTown$Share", "part", "J", false)
  | _ => ("CheekTown$Share", "whole", "J", false)
def tyX20 : Nat → FieldType := fun k => match k with
  | 0 => .long
  | _ => .long
abbrev wsX200 : List Cond := u_ws RX20 TX20 2
theorem nmX20 : ∀ a, a < 2 → ∀ b, b < 2 → a ≠ b → (TX20 a).2.1 ≠ (TX20 b).2.1 := by decide +kernel
theorem tyX20_ok : ∀ k, k < 2 → parseFieldDescriptor (TX20 k).2.2.1 = some (tyX20 k) := by decide +kernel
abbrev cX20_init : ByteArray := prog_16_method_1_code
def yX20_init : MethodName := ⟨RX20, "<init>", "()V"⟩
def dkwX20_init_0 : List UInt8 := [42, 183, 0, 1, 42, 10, 181, 0, 7, 42, 10, 181, 0, 13, 177]
abbrev dktX20_init_0 : List UInt8 := dkwX20_init_0 ++ []
theorem dksX20_init_0 : cX20_init.data.toList.drop 0 = dktX20_init_0 := by decide +kernel
theorem dX20_init_0 : decode cX20_init 0 = .ok (.aload_n 0, 1) := dk_42 (dk_at dksX20_init_0 0 rfl rfl)
theorem dX20_init_1 : decode cX20_init 1 = .ok (.invokespecial 1, 3) := dk_183 0 1 (dk_at dksX20_init_0 1 rfl rfl)
theorem dX20_init_4 : decode cX20_init 4 = .ok (.aload_n 0, 1) := dk_42 (dk_at dksX20_init_0 4 rfl rfl)
theorem dX20_init_5 : decode cX20_init 5 = .ok (.lconst 1, 1) := dk_10 (dk_at dksX20_init_0 5 rfl rfl)
theorem dX20_init_6 : decode cX20_init 6 = .ok (.putfield 7, 3) := dk_181 0 7 (dk_at dksX20_init_0 6 rfl rfl)
theorem dX20_init_9 : decode cX20_init 9 = .ok (.aload_n 0, 1) := dk_42 (dk_at dksX20_init_0 9 rfl rfl)
theorem dX20_init_10 : decode cX20_init 10 = .ok (.lconst 1, 1) := dk_10 (dk_at dksX20_init_0 10 rfl rfl)
theorem dX20_init_11 : decode cX20_init 11 = .ok (.putfield 13, 3) := dk_181 0 13 (dk_at dksX20_init_0 11 rfl rfl)
theorem dX20_init_14 : decode cX20_init 14 = .ok (.return_, 1) := dk_177 (dk_at dksX20_init_0 14 rfl rfl)
abbrev cX20_times : ByteArray := prog_16_method_2_code
def yX20_times : MethodName := ⟨RX20, "times", "(II)V"⟩
def dkwX20_times_0 : List UInt8 := [42, 89, 180, 0, 7, 27, 133, 105, 181, 0, 7, 42, 89, 180, 0, 13, 28, 133, 105, 181, 0, 13, 177]
abbrev dktX20_times_0 : List UInt8 := dkwX20_times_0 ++ []
theorem dksX20_times_0 : cX20_times.data.toList.drop 0 = dktX20_times_0 := by decide +kernel
theorem dX20_times_0 : decode cX20_times 0 = .ok (.aload_n 0, 1) := dk_42 (dk_at dksX20_times_0 0 rfl rfl)
theorem dX20_times_1 : decode cX20_times 1 = .ok (.dup, 1) := dk_89 (dk_at dksX20_times_0 1 rfl rfl)
theorem dX20_times_2 : decode cX20_times 2 = .ok (.getfield 7, 3) := dk_180 0 7 (dk_at dksX20_times_0 2 rfl rfl)
theorem dX20_times_5 : decode cX20_times 5 = .ok (.iload_n 1, 1) := dk_27 (dk_at dksX20_times_0 5 rfl rfl)
theorem dX20_times_6 : decode cX20_times 6 = .ok (.i2l, 1) := dk_133 (dk_at dksX20_times_0 6 rfl rfl)
theorem dX20_times_7 : decode cX20_times 7 = .ok (.lmul, 1) := dk_105 (dk_at dksX20_times_0 7 rfl rfl)
theorem dX20_times_8 : decode cX20_times 8 = .ok (.putfield 7, 3) := dk_181 0 7 (dk_at dksX20_times_0 8 rfl rfl)
theorem dX20_times_11 : decode cX20_times 11 = .ok (.aload_n 0, 1) := dk_42 (dk_at dksX20_times_0 11 rfl rfl)
theorem dX20_times_12 : decode cX20_times 12 = .ok (.dup, 1) := dk_89 (dk_at dksX20_times_0 12 rfl rfl)
theorem dX20_times_13 : decode cX20_times 13 = .ok (.getfield 13, 3) := dk_180 0 13 (dk_at dksX20_times_0 13 rfl rfl)
theorem dX20_times_16 : decode cX20_times 16 = .ok (.iload_n 2, 1) := dk_28 (dk_at dksX20_times_0 16 rfl rfl)
theorem dX20_times_17 : decode cX20_times 17 = .ok (.i2l, 1) := dk_133 (dk_at dksX20_times_0 17 rfl rfl)
theorem dX20_times_18 : decode cX20_times 18 = .ok (.lmul, 1) := dk_105 (dk_at dksX20_times_0 18 rfl rfl)
theorem dX20_times_19 : decode cX20_times 19 = .ok (.putfield 13, 3) := dk_181 0 13 (dk_at dksX20_times_0 19 rfl rfl)
theorem dX20_times_22 : decode cX20_times 22 = .ok (.return_, 1) := dk_177 (dk_at dksX20_times_0 22 rfl rfl)
abbrev cX20_isMore : ByteArray := prog_16_method_3_code
def yX20_isMore : MethodName := ⟨RX20, "isMore", "(LCheekTown$Share;)Z"⟩
def dkwX20_isMore_1 : List UInt8 := [167, 0, 4, 3, 172]
abbrev dktX20_isMore_1 : List UInt8 := dkwX20_isMore_1 ++ []
def dkwX20_isMore_0 : List UInt8 := [42, 180, 0, 7, 43, 180, 0, 13, 105, 43, 180, 0, 7, 42, 180, 0, 13, 105, 148, 158, 0, 7, 4]
abbrev dktX20_isMore_0 : List UInt8 := dkwX20_isMore_0 ++ dktX20_isMore_1
theorem dksX20_isMore_0 : cX20_isMore.data.toList.drop 0 = dktX20_isMore_0 := by decide +kernel
theorem dksX20_isMore_1 : cX20_isMore.data.toList.drop 23 = dktX20_isMore_1 := dk_seg dksX20_isMore_0 23 rfl rfl
theorem dX20_isMore_0 : decode cX20_isMore 0 = .ok (.aload_n 0, 1) := dk_42 (dk_at dksX20_isMore_0 0 rfl rfl)
theorem dX20_isMore_1 : decode cX20_isMore 1 = .ok (.getfield 7, 3) := dk_180 0 7 (dk_at dksX20_isMore_0 1 rfl rfl)
theorem dX20_isMore_4 : decode cX20_isMore 4 = .ok (.aload_n 1, 1) := dk_43 (dk_at dksX20_isMore_0 4 rfl rfl)
theorem dX20_isMore_5 : decode cX20_isMore 5 = .ok (.getfield 13, 3) := dk_180 0 13 (dk_at dksX20_isMore_0 5 rfl rfl)
theorem dX20_isMore_8 : decode cX20_isMore 8 = .ok (.lmul, 1) := dk_105 (dk_at dksX20_isMore_0 8 rfl rfl)
theorem dX20_isMore_9 : decode cX20_isMore 9 = .ok (.aload_n 1, 1) := dk_43 (dk_at dksX20_isMore_0 9 rfl rfl)
theorem dX20_isMore_10 : decode cX20_isMore 10 = .ok (.getfield 7, 3) := dk_180 0 7 (dk_at dksX20_isMore_0 10 rfl rfl)
theorem dX20_isMore_13 : decode cX20_isMore 13 = .ok (.aload_n 0, 1) := dk_42 (dk_at dksX20_isMore_0 13 rfl rfl)
theorem dX20_isMore_14 : decode cX20_isMore 14 = .ok (.getfield 13, 3) := dk_180 0 13 (dk_at dksX20_isMore_0 14 rfl rfl)
theorem dX20_isMore_17 : decode cX20_isMore 17 = .ok (.lmul, 1) := dk_105 (dk_at dksX20_isMore_0 17 rfl rfl)
theorem dX20_isMore_18 : decode cX20_isMore 18 = .ok (.lcmp, 1) := dk_148 (dk_at dksX20_isMore_0 18 rfl rfl)
theorem dX20_isMore_19 : decode cX20_isMore 19 = .ok (.ifCond .le 7, 3) := dk_158 0 7 (dk_at dksX20_isMore_0 19 rfl rfl)
theorem dX20_isMore_22 : decode cX20_isMore 22 = .ok (.iconst 1, 1) := dk_4 (dk_at dksX20_isMore_0 22 rfl rfl)
theorem dX20_isMore_23 : decode cX20_isMore 23 = .ok (.goto 4, 3) := dk_167 0 4 (dk_at dksX20_isMore_1 0 rfl rfl)
theorem dX20_isMore_26 : decode cX20_isMore 26 = .ok (.iconst 0, 1) := dk_3 (dk_at dksX20_isMore_1 3 rfl rfl)
theorem dX20_isMore_27 : decode cX20_isMore 27 = .ok (.ireturn, 1) := dk_172 (dk_at dksX20_isMore_1 4 rfl rfl)
theorem q162 : (Jvm.Cond.initialized "CheekTown$Share") ∈ lw_all := lw_g (lw_at lw_m1 46 rfl) rfl
theorem q1568 : (Jvm.Cond.selects "CheekTown$Share" ({ cls := "java/lang/Object", name := "getClass", desc := "()Ljava/lang/Class;" } : Jvm.MethodName) ({ cls := "java/lang/Object", name := "getClass", desc := "()Ljava/lang/Class;" } : Jvm.MethodName)) ∈ lw_all := lw_g (lw_at lw_m7 12 rfl) rfl
theorem q1955 : (Jvm.Cond.instantiable "CheekTown$Share" (2 : Nat)) ∈ lw_all := lw_g (lw_at lw_m8 159 rfl) rfl
theorem q1957 : (Jvm.Cond.instanceMethod ({ cls := "CheekTown$Share", name := "<init>", desc := "()V" } : Jvm.MethodName)) ∈ lw_all := lw_g (lw_at lw_m8 161 rfl) rfl
theorem q1958 : (Jvm.Cond.code ({ cls := "CheekTown$Share", name := "<init>", desc := "()V" } : Jvm.MethodName) prog_16_method_1_code (1 : Nat) (Option.none : Option Jvm.ClassFile.FieldType)) ∈ lw_all := lw_g (lw_at lw_m8 162 rfl) rfl
theorem q1959 : (Jvm.Cond.methodLink "CheekTown$Share" (1 : Nat) ({ cls := "java/lang/Object", name := "<init>", desc := "()V" } : Jvm.MethodName)) ∈ lw_all := lw_g (lw_at lw_m8 163 rfl) rfl
theorem q1960 : (Jvm.Cond.fieldLink "CheekTown$Share" (7 : Nat) "CheekTown$Share" "part" "J") ∈ lw_all := lw_g (lw_at lw_m8 164 rfl) rfl
theorem q1962 : (Jvm.Cond.fieldLink "CheekTown$Share" (13 : Nat) "CheekTown$Share" "whole" "J") ∈ lw_all := lw_g (lw_at lw_m8 166 rfl) rfl
theorem q1963 : (Jvm.Cond.lays "CheekTown$Share" "CheekTown$Share" "part" "J") ∈ lw_all := lw_g (lw_at lw_m8 167 rfl) rfl
theorem q1964 : (Jvm.Cond.soleField "CheekTown$Share" "part") ∈ lw_all := lw_g (lw_at lw_m8 168 rfl) rfl
theorem q1965 : (Jvm.Cond.lays "CheekTown$Share" "CheekTown$Share" "whole" "J") ∈ lw_all := lw_g (lw_at lw_m8 169 rfl) rfl
theorem q1966 : (Jvm.Cond.soleField "CheekTown$Share" "whole") ∈ lw_all := lw_g (lw_at lw_m8 170 rfl) rfl
theorem q1967 : (Jvm.Cond.superclass "CheekTown$Share" "java/lang/Object") ∈ lw_all := lw_g (lw_at lw_m8 171 rfl) rfl
theorem q1973 : (Jvm.Cond.instanceMethod ({ cls := "CheekTown$Share", name := "times", desc := "(II)V" } : Jvm.MethodName)) ∈ lw_all := lw_g (lw_at lw_m8 177 rfl) rfl
theorem q1974 : (Jvm.Cond.selects "CheekTown$Share" ({ cls := "CheekTown$Share", name := "times", desc := "(II)V" } : Jvm.MethodName) ({ cls := "CheekTown$Share", name := "times", desc := "(II)V" } : Jvm.MethodName)) ∈ lw_all := lw_g (lw_at lw_m8 178 rfl) rfl
theorem q1975 : (Jvm.Cond.code ({ cls := "CheekTown$Share", name := "times", desc := "(II)V" } : Jvm.MethodName) prog_16_method_2_code (3 : Nat) (Option.none : Option Jvm.ClassFile.FieldType)) ∈ lw_all := lw_g (lw_at lw_m8 179 rfl) rfl
theorem q1977 : (Jvm.Cond.instanceMethod ({ cls := "CheekTown$Share", name := "isMore", desc := "(LCheekTown$Share;)Z" } : Jvm.MethodName)) ∈ lw_all := lw_g (lw_at lw_m8 181 rfl) rfl
theorem q1978 : (Jvm.Cond.selects "CheekTown$Share" ({ cls := "CheekTown$Share", name := "isMore", desc := "(LCheekTown$Share;)Z" } : Jvm.MethodName) ({ cls := "CheekTown$Share", name := "isMore", desc := "(LCheekTown$Share;)Z" } : Jvm.MethodName)) ∈ lw_all := lw_g (lw_at lw_m8 182 rfl) rfl
theorem q1979 : (Jvm.Cond.code ({ cls := "CheekTown$Share", name := "isMore", desc := "(LCheekTown$Share;)Z" } : Jvm.MethodName) prog_16_method_3_code (2 : Nat) (Option.some Jvm.ClassFile.FieldType.boolean)) ∈ lw_all := lw_g (lw_at lw_m8 183 rfl) rfl
theorem q2767 : (Jvm.Cond.castable "CheekTown$Share" "java/lang/Object") ∈ lw_tbl := lw_at lw_m12 11 rfl
theorem in_X20 : ∀ w ∈ wsX200, w ∈ lw_all := lw_in wsX200 [1963, 1965] (by decide +kernel) (by decide +kernel)

/-! CheekTown$Rule -/
set_option maxRecDepth 100000
def RX21 : String := "CheekTown$Rule"
abbrev cX21_values : ByteArray := prog_14_method_1_code
def yX21_values : MethodName := ⟨RX21, "values", "()[LCheekTown$Rule;"⟩
def dkwX21_values_0 : List UInt8 := [178, 0, 13, 182, 0, 17, 192, 0, 18, 176]
abbrev dktX21_values_0 : List UInt8 := dkwX21_values_0 ++ []
theorem dksX21_values_0 : cX21_values.data.toList.drop 0 = dktX21_values_0 := by decide +kernel
theorem dX21_values_0 : decode cX21_values 0 = .ok (.getstatic 13, 3) := dk_178 0 13 (dk_at dksX21_values_0 0 rfl rfl)
theorem dX21_values_3 : decode cX21_values 3 = .ok (.invokevirtual 17, 3) := dk_182 0 17 (dk_at dksX21_values_0 3 rfl rfl)
theorem dX21_values_6 : decode cX21_values 6 = .ok (.checkcast 18, 3) := dk_192 0 18 (dk_at dksX21_values_0 6 rfl rfl)
theorem dX21_values_9 : decode cX21_values 9 = .ok (.areturn, 1) := dk_176 (dk_at dksX21_values_0 9 rfl rfl)
abbrev cX21_isFirst : ByteArray := prog_14_method_4_code
def yX21_isFirst : MethodName := ⟨RX21, "isFirst", "(II)Z"⟩
def dkwX21_isFirst_2 : List UInt8 := [27, 28, 161, 0, 7, 4, 167, 0, 4, 3, 172, 27, 28, 163, 0, 7, 4, 167, 0, 4, 3, 172, 4, 172]
abbrev dktX21_isFirst_2 : List UInt8 := dkwX21_isFirst_2 ++ []
def dkwX21_isFirst_1 : List UInt8 := [171, 0, 0, 0, 0, 0, 0, 50, 0, 0, 0, 2, 0, 0, 0, 0, 0, 0, 0, 28, 0, 0, 0, 1, 0, 0, 0, 39]
abbrev dktX21_isFirst_1 : List UInt8 := dkwX21_isFirst_1 ++ dktX21_isFirst_2
def dkwX21_isFirst_0 : List UInt8 := [42, 182, 0, 32]
abbrev dktX21_isFirst_0 : List UInt8 := dkwX21_isFirst_0 ++ dktX21_isFirst_1
theorem dksX21_isFirst_0 : cX21_isFirst.data.toList.drop 0 = dktX21_isFirst_0 := by decide +kernel
theorem dksX21_isFirst_1 : cX21_isFirst.data.toList.drop 4 = dktX21_isFirst_1 := dk_seg dksX21_isFirst_0 4 rfl rfl
theorem dksX21_isFirst_2 : cX21_isFirst.data.toList.drop 32 = dktX21_isFirst_2 := dk_seg dksX21_isFirst_1 28 rfl rfl
theorem dX21_isFirst_0 : decode cX21_isFirst 0 = .ok (.aload_n 0, 1) := dk_42 (dk_at dksX21_isFirst_0 0 rfl rfl)
theorem dX21_isFirst_1 : decode cX21_isFirst 1 = .ok (.invokevirtual 32, 3) := dk_182 0 32 (dk_at dksX21_isFirst_0 1 rfl rfl)
theorem dX21_isFirst_4 : decode cX21_isFirst 4 = .ok (.lookupswitch 50 #[(0, 28), (1, 39)], 28) := by decide +kernel
theorem dX21_isFirst_32 : decode cX21_isFirst 32 = .ok (.iload_n 1, 1) := dk_27 (dk_at dksX21_isFirst_2 0 rfl rfl)
theorem dX21_isFirst_33 : decode cX21_isFirst 33 = .ok (.iload_n 2, 1) := dk_28 (dk_at dksX21_isFirst_2 1 rfl rfl)
theorem dX21_isFirst_34 : decode cX21_isFirst 34 = .ok (.if_icmp .lt 7, 3) := dk_161 0 7 (dk_at dksX21_isFirst_2 2 rfl rfl)
theorem dX21_isFirst_37 : decode cX21_isFirst 37 = .ok (.iconst 1, 1) := dk_4 (dk_at dksX21_isFirst_2 5 rfl rfl)
theorem dX21_isFirst_38 : decode cX21_isFirst 38 = .ok (.goto 4, 3) := dk_167 0 4 (dk_at dksX21_isFirst_2 6 rfl rfl)
theorem dX21_isFirst_41 : decode cX21_isFirst 41 = .ok (.iconst 0, 1) := dk_3 (dk_at dksX21_isFirst_2 9 rfl rfl)
theorem dX21_isFirst_42 : decode cX21_isFirst 42 = .ok (.ireturn, 1) := dk_172 (dk_at dksX21_isFirst_2 10 rfl rfl)
theorem dX21_isFirst_43 : decode cX21_isFirst 43 = .ok (.iload_n 1, 1) := dk_27 (dk_at dksX21_isFirst_2 11 rfl rfl)
theorem dX21_isFirst_44 : decode cX21_isFirst 44 = .ok (.iload_n 2, 1) := dk_28 (dk_at dksX21_isFirst_2 12 rfl rfl)
theorem dX21_isFirst_45 : decode cX21_isFirst 45 = .ok (.if_icmp .gt 7, 3) := dk_163 0 7 (dk_at dksX21_isFirst_2 13 rfl rfl)
theorem dX21_isFirst_48 : decode cX21_isFirst 48 = .ok (.iconst 1, 1) := dk_4 (dk_at dksX21_isFirst_2 16 rfl rfl)
theorem dX21_isFirst_49 : decode cX21_isFirst 49 = .ok (.goto 4, 3) := dk_167 0 4 (dk_at dksX21_isFirst_2 17 rfl rfl)
theorem dX21_isFirst_52 : decode cX21_isFirst 52 = .ok (.iconst 0, 1) := dk_3 (dk_at dksX21_isFirst_2 20 rfl rfl)
theorem dX21_isFirst_53 : decode cX21_isFirst 53 = .ok (.ireturn, 1) := dk_172 (dk_at dksX21_isFirst_2 21 rfl rfl)
theorem dX21_isFirst_54 : decode cX21_isFirst 54 = .ok (.iconst 1, 1) := dk_4 (dk_at dksX21_isFirst_2 22 rfl rfl)
theorem dX21_isFirst_55 : decode cX21_isFirst 55 = .ok (.ireturn, 1) := dk_172 (dk_at dksX21_isFirst_2 23 rfl rfl)
theorem q163 : (Jvm.Cond.initialized "CheekTown$Rule") ∈ lw_all := lw_g (lw_at lw_m1 47 rfl) rfl
theorem q1566 : (Jvm.Cond.selects "CheekTown$Rule" ({ cls := "java/lang/Object", name := "getClass", desc := "()Ljava/lang/Class;" } : Jvm.MethodName) ({ cls := "java/lang/Object", name := "getClass", desc := "()Ljava/lang/Class;" } : Jvm.MethodName)) ∈ lw_all := lw_g (lw_at lw_m7 10 rfl) rfl
theorem q2019 : (Jvm.Cond.static ({ cls := "CheekTown$Rule", name := "values", desc := "()[LCheekTown$Rule;" } : Jvm.MethodName)) ∈ lw_all := lw_g (lw_at lw_m8 223 rfl) rfl
theorem q2020 : (Jvm.Cond.code ({ cls := "CheekTown$Rule", name := "values", desc := "()[LCheekTown$Rule;" } : Jvm.MethodName) prog_14_method_1_code (0 : Nat) (Option.some (Jvm.ClassFile.FieldType.array (Jvm.ClassFile.FieldType.object "CheekTown$Rule")))) ∈ lw_all := lw_g (lw_at lw_m8 224 rfl) rfl
theorem q2021 : (Jvm.Cond.fieldLink "CheekTown$Rule" (13 : Nat) "CheekTown$Rule" "$VALUES" "[LCheekTown$Rule;") ∈ lw_all := lw_g (lw_at lw_m8 225 rfl) rfl
theorem q2022 : (Jvm.Cond.laysStatic "CheekTown$Rule" "$VALUES" "[LCheekTown$Rule;") ∈ lw_tbl := lw_at lw_m8 226 rfl
theorem q2023 : (Jvm.Cond.methodLink "CheekTown$Rule" (17 : Nat) ({ cls := "[LCheekTown$Rule;", name := "clone", desc := "()Ljava/lang/Object;" } : Jvm.MethodName)) ∈ lw_all := lw_g (lw_at lw_m8 227 rfl) rfl
theorem q2028 : (Jvm.Cond.classLink "CheekTown$Rule" (18 : Nat) "[LCheekTown$Rule;") ∈ lw_all := lw_g (lw_at lw_m8 232 rfl) rfl
theorem q2034 : (Jvm.Cond.instanceMethod ({ cls := "CheekTown$Rule", name := "isFirst", desc := "(II)Z" } : Jvm.MethodName)) ∈ lw_all := lw_g (lw_at lw_m8 238 rfl) rfl
theorem q2035 : (Jvm.Cond.selects "CheekTown$Rule" ({ cls := "CheekTown$Rule", name := "isFirst", desc := "(II)Z" } : Jvm.MethodName) ({ cls := "CheekTown$Rule", name := "isFirst", desc := "(II)Z" } : Jvm.MethodName)) ∈ lw_all := lw_g (lw_at lw_m8 239 rfl) rfl
theorem q2036 : (Jvm.Cond.code ({ cls := "CheekTown$Rule", name := "isFirst", desc := "(II)Z" } : Jvm.MethodName) prog_14_method_4_code (3 : Nat) (Option.some Jvm.ClassFile.FieldType.boolean)) ∈ lw_all := lw_g (lw_at lw_m9 0 rfl) rfl
theorem q2037 : (Jvm.Cond.methodLink "CheekTown$Rule" (32 : Nat) ({ cls := "CheekTown$Rule", name := "ordinal", desc := "()I" } : Jvm.MethodName)) ∈ lw_all := lw_g (lw_at lw_m9 1 rfl) rfl
theorem q2038 : (Jvm.Cond.sameMethod "CheekTown$Rule" "java/lang/Enum" "ordinal" "()I") ∈ lw_all := lw_g (lw_at lw_m9 2 rfl) rfl
theorem q2039 : (Jvm.Cond.selects "CheekTown$Rule" ({ cls := "CheekTown$Rule", name := "ordinal", desc := "()I" } : Jvm.MethodName) ({ cls := "java/lang/Enum", name := "ordinal", desc := "()I" } : Jvm.MethodName)) ∈ lw_all := lw_g (lw_at lw_m9 3 rfl) rfl
theorem q2739 : (Jvm.Cond.castable "CheekTown$Rule" "java/lang/Object") ∈ lw_tbl := lw_at lw_m11 223 rfl
theorem q2795 : (Jvm.Cond.laysStatic "CheekTown$Rule" "GREATER" "LCheekTown$Rule;") ∈ lw_tbl := lw_at lw_m12 39 rfl
theorem q2796 : (Jvm.Cond.laysStatic "CheekTown$Rule" "LESSER" "LCheekTown$Rule;") ∈ lw_tbl := lw_at lw_m12 40 rfl
theorem q2797 : (Jvm.Cond.laysStatic "CheekTown$Rule" "NUMBER" "LCheekTown$Rule;") ∈ lw_tbl := lw_at lw_m12 41 rfl

