/-! CheekTownModel -/
set_option maxRecDepth 100000
def RX8 : String := "CheekTownModel"
def TX8 : u_T := fun k => match k with
  | 0 => ("CheekTownModel", "thrown", "I", false)
  | 1 => ("CheekTownModel", "m", "[I", true)
  | 2 => ("CheekTownModel", "kept", "[I", true)
  | 3 => ("CheekTownModel", "hasImage", "Z", false)
  | 4 => ("CheekTownModel", "aside", "[I", true)
  | 5 => ("CheekTownModel", "acts", "[I", true)
  | 6 => ("CheekTownModel", "acted", "I", false)
  | 7 => ("CheekTownModel", "tape", "[I", true)
  | 8 => ("CheekTownModel", "taped", "I", false)
  | 9 => ("CheekTownModel", "base", "I", false)
  | 10 => ("CheekTownModel", "end", "I", false)
  | 11 => ("CheekTownModel", "at", "I", false)
  | 12 => ("CheekTownModel", "fault", "I", false)
  | 13 => ("CheekTownModel", "deep", "I", false)
  | 14 => ("CheekTownModel", "fact", "[I", true)
  | 15 => ("CheekTownModel", "isSame", "Z", false)
  | 16 => ("CheekTownModel", "hasCold", "Z", false)
  | 17 => ("CheekTownModel", "says", "I", false)
  | 18 => ("CheekTownModel", "own", "[I", true)
  | 19 => ("CheekTownModel", "next", "[I", true)
  | 20 => ("CheekTownModel", "friends", "[I", true)
  | 21 => ("CheekTownModel", "votes", "[I", true)
  | 22 => ("CheekTownModel", "seat", "[I", true)
  | 23 => ("CheekTownModel", "first", "[I", true)
  | 24 => ("CheekTownModel", "most", "[I", true)
  | 25 => ("CheekTownModel", "began", "[I", true)
  | _ => ("CheekTownModel", "least", "I", false)
def tyX8 : Nat → FieldType := fun k => match k with
  | 0 => .int
  | 1 => .array .int
  | 2 => .array .int
  | 3 => .boolean
  | 4 => .array .int
  | 5 => .array .int
  | 6 => .int
  | 7 => .array .int
  | 8 => .int
  | 9 => .int
  | 10 => .int
  | 11 => .int
  | 12 => .int
  | 13 => .int
  | 14 => .array .int
  | 15 => .boolean
  | 16 => .boolean
  | 17 => .int
  | 18 => .array .int
  | 19 => .array .int
  | 20 => .array .int
  | 21 => .array .int
  | 22 => .array .int
  | 23 => .array .int
  | 24 => .array .int
  | 25 => .array .int
  | _ => .int
abbrev wsX80 : List Cond := u_ws RX8 TX8 27
set_option maxRecDepth 100000 in
theorem nmX8 : ∀ a, a < 27 → ∀ b, b < 27 → a ≠ b → (TX8 a).2.1 ≠ (TX8 b).2.1 := by decide +kernel
set_option maxRecDepth 100000 in
theorem tyX8_ok : ∀ k, k < 27 → parseFieldDescriptor (TX8 k).2.2.1 = some (tyX8 k) := by decide +kernel
abbrev cX8_init : ByteArray := prog_23_method_1_code
def yX8_init : MethodName := ⟨RX8, "<init>", "()V"⟩
def dkwX8_init_7 : List UInt8 := [16, 15, 8, 79, 177]
abbrev dktX8_init_7 : List UInt8 := dkwX8_init_7 ++ []
def dkwX8_init_6 : List UInt8 := [4, 79, 42, 180, 0, 7, 16, 13, 16, 10, 79, 42, 180, 0, 7, 16, 14, 5, 79, 42, 180, 0, 7]
abbrev dktX8_init_6 : List UInt8 := dkwX8_init_6 ++ dktX8_init_7
def dkwX8_init_5 : List UInt8 := [181, 0, 50, 42, 16, 100, 188, 10, 181, 0, 53, 42, 180, 0, 7, 4, 2, 79, 42, 180, 0, 7, 16, 16]
abbrev dktX8_init_5 : List UInt8 := dkwX8_init_5 ++ dktX8_init_6
def dkwX8_init_4 : List UInt8 := [42, 16, 8, 188, 10, 181, 0, 44, 42, 16, 8, 188, 10, 181, 0, 47, 42, 17, 4, 0, 188, 10]
abbrev dktX8_init_4 : List UInt8 := dkwX8_init_4 ++ dktX8_init_5
def dkwX8_init_3 : List UInt8 := [42, 16, 10, 188, 10, 181, 0, 35, 42, 16, 10, 188, 10, 181, 0, 38, 42, 16, 32, 188, 10, 181, 0, 41]
abbrev dktX8_init_3 : List UInt8 := dkwX8_init_3 ++ dktX8_init_4
def dkwX8_init_2 : List UInt8 := [181, 0, 22, 42, 2, 181, 0, 25, 42, 16, 6, 188, 10, 181, 0, 29, 42, 16, 10, 188, 10, 181, 0, 32]
abbrev dktX8_init_2 : List UInt8 := dkwX8_init_2 ++ dktX8_init_3
def dkwX8_init_1 : List UInt8 := [17, 3, 132, 188, 10, 181, 0, 16, 42, 17, 42, 48, 188, 10, 181, 0, 19, 42, 17, 1, 144, 188, 10]
abbrev dktX8_init_1 : List UInt8 := dkwX8_init_1 ++ dktX8_init_2
def dkwX8_init_0 : List UInt8 := [42, 183, 0, 1, 42, 17, 5, 20, 188, 10, 181, 0, 7, 42, 17, 5, 20, 188, 10, 181, 0, 13, 42]
abbrev dktX8_init_0 : List UInt8 := dkwX8_init_0 ++ dktX8_init_1
theorem dksX8_init_0 : cX8_init.data.toList.drop 0 = dktX8_init_0 := by decide +kernel
theorem dksX8_init_1 : cX8_init.data.toList.drop 23 = dktX8_init_1 := dk_seg dksX8_init_0 23 rfl rfl
theorem dksX8_init_2 : cX8_init.data.toList.drop 46 = dktX8_init_2 := dk_seg dksX8_init_1 23 rfl rfl
theorem dksX8_init_3 : cX8_init.data.toList.drop 70 = dktX8_init_3 := dk_seg dksX8_init_2 24 rfl rfl
theorem dksX8_init_4 : cX8_init.data.toList.drop 94 = dktX8_init_4 := dk_seg dksX8_init_3 24 rfl rfl
theorem dksX8_init_5 : cX8_init.data.toList.drop 116 = dktX8_init_5 := dk_seg dksX8_init_4 22 rfl rfl
theorem dksX8_init_6 : cX8_init.data.toList.drop 140 = dktX8_init_6 := dk_seg dksX8_init_5 24 rfl rfl
theorem dksX8_init_7 : cX8_init.data.toList.drop 163 = dktX8_init_7 := dk_seg dksX8_init_6 23 rfl rfl
theorem dX8_init_0 : decode cX8_init 0 = .ok (.aload_n 0, 1) := dk_42 (dk_at dksX8_init_0 0 rfl rfl)
theorem dX8_init_1 : decode cX8_init 1 = .ok (.invokespecial 1, 3) := dk_183 0 1 (dk_at dksX8_init_0 1 rfl rfl)
theorem dX8_init_4 : decode cX8_init 4 = .ok (.aload_n 0, 1) := dk_42 (dk_at dksX8_init_0 4 rfl rfl)
theorem dX8_init_5 : decode cX8_init 5 = .ok (.sipush 1300, 3) := dk_17 5 20 (dk_at dksX8_init_0 5 rfl rfl)
theorem dX8_init_8 : decode cX8_init 8 = .ok (.newarray .int, 2) := dk_188_10 (dk_at dksX8_init_0 8 rfl rfl)
theorem dX8_init_10 : decode cX8_init 10 = .ok (.putfield 7, 3) := dk_181 0 7 (dk_at dksX8_init_0 10 rfl rfl)
theorem dX8_init_13 : decode cX8_init 13 = .ok (.aload_n 0, 1) := dk_42 (dk_at dksX8_init_0 13 rfl rfl)
theorem dX8_init_14 : decode cX8_init 14 = .ok (.sipush 1300, 3) := dk_17 5 20 (dk_at dksX8_init_0 14 rfl rfl)
theorem dX8_init_17 : decode cX8_init 17 = .ok (.newarray .int, 2) := dk_188_10 (dk_at dksX8_init_0 17 rfl rfl)
theorem dX8_init_19 : decode cX8_init 19 = .ok (.putfield 13, 3) := dk_181 0 13 (dk_at dksX8_init_0 19 rfl rfl)
theorem dX8_init_22 : decode cX8_init 22 = .ok (.aload_n 0, 1) := dk_42 (dk_at dksX8_init_0 22 rfl rfl)
theorem dX8_init_23 : decode cX8_init 23 = .ok (.sipush 900, 3) := dk_17 3 132 (dk_at dksX8_init_1 0 rfl rfl)
theorem dX8_init_26 : decode cX8_init 26 = .ok (.newarray .int, 2) := dk_188_10 (dk_at dksX8_init_1 3 rfl rfl)
theorem dX8_init_28 : decode cX8_init 28 = .ok (.putfield 16, 3) := dk_181 0 16 (dk_at dksX8_init_1 5 rfl rfl)
theorem dX8_init_31 : decode cX8_init 31 = .ok (.aload_n 0, 1) := dk_42 (dk_at dksX8_init_1 8 rfl rfl)
theorem dX8_init_32 : decode cX8_init 32 = .ok (.sipush 10800, 3) := dk_17 42 48 (dk_at dksX8_init_1 9 rfl rfl)
theorem dX8_init_35 : decode cX8_init 35 = .ok (.newarray .int, 2) := dk_188_10 (dk_at dksX8_init_1 12 rfl rfl)
theorem dX8_init_37 : decode cX8_init 37 = .ok (.putfield 19, 3) := dk_181 0 19 (dk_at dksX8_init_1 14 rfl rfl)
theorem dX8_init_40 : decode cX8_init 40 = .ok (.aload_n 0, 1) := dk_42 (dk_at dksX8_init_1 17 rfl rfl)
theorem dX8_init_41 : decode cX8_init 41 = .ok (.sipush 400, 3) := dk_17 1 144 (dk_at dksX8_init_1 18 rfl rfl)
theorem dX8_init_44 : decode cX8_init 44 = .ok (.newarray .int, 2) := dk_188_10 (dk_at dksX8_init_1 21 rfl rfl)
theorem dX8_init_46 : decode cX8_init 46 = .ok (.putfield 22, 3) := dk_181 0 22 (dk_at dksX8_init_2 0 rfl rfl)
theorem dX8_init_49 : decode cX8_init 49 = .ok (.aload_n 0, 1) := dk_42 (dk_at dksX8_init_2 3 rfl rfl)
theorem dX8_init_50 : decode cX8_init 50 = .ok (.iconst (-1), 1) := dk_2 (dk_at dksX8_init_2 4 rfl rfl)
theorem dX8_init_51 : decode cX8_init 51 = .ok (.putfield 25, 3) := dk_181 0 25 (dk_at dksX8_init_2 5 rfl rfl)
theorem dX8_init_54 : decode cX8_init 54 = .ok (.aload_n 0, 1) := dk_42 (dk_at dksX8_init_2 8 rfl rfl)
theorem dX8_init_55 : decode cX8_init 55 = .ok (.bipush 6, 2) := dk_16 6 (dk_at dksX8_init_2 9 rfl rfl)
theorem dX8_init_57 : decode cX8_init 57 = .ok (.newarray .int, 2) := dk_188_10 (dk_at dksX8_init_2 11 rfl rfl)
theorem dX8_init_59 : decode cX8_init 59 = .ok (.putfield 29, 3) := dk_181 0 29 (dk_at dksX8_init_2 13 rfl rfl)
theorem dX8_init_62 : decode cX8_init 62 = .ok (.aload_n 0, 1) := dk_42 (dk_at dksX8_init_2 16 rfl rfl)
theorem dX8_init_63 : decode cX8_init 63 = .ok (.bipush 10, 2) := dk_16 10 (dk_at dksX8_init_2 17 rfl rfl)
theorem dX8_init_65 : decode cX8_init 65 = .ok (.newarray .int, 2) := dk_188_10 (dk_at dksX8_init_2 19 rfl rfl)
theorem dX8_init_67 : decode cX8_init 67 = .ok (.putfield 32, 3) := dk_181 0 32 (dk_at dksX8_init_2 21 rfl rfl)
theorem dX8_init_70 : decode cX8_init 70 = .ok (.aload_n 0, 1) := dk_42 (dk_at dksX8_init_3 0 rfl rfl)
theorem dX8_init_71 : decode cX8_init 71 = .ok (.bipush 10, 2) := dk_16 10 (dk_at dksX8_init_3 1 rfl rfl)
theorem dX8_init_73 : decode cX8_init 73 = .ok (.newarray .int, 2) := dk_188_10 (dk_at dksX8_init_3 3 rfl rfl)
theorem dX8_init_75 : decode cX8_init 75 = .ok (.putfield 35, 3) := dk_181 0 35 (dk_at dksX8_init_3 5 rfl rfl)
theorem dX8_init_78 : decode cX8_init 78 = .ok (.aload_n 0, 1) := dk_42 (dk_at dksX8_init_3 8 rfl rfl)
theorem dX8_init_79 : decode cX8_init 79 = .ok (.bipush 10, 2) := dk_16 10 (dk_at dksX8_init_3 9 rfl rfl)
theorem dX8_init_81 : decode cX8_init 81 = .ok (.newarray .int, 2) := dk_188_10 (dk_at dksX8_init_3 11 rfl rfl)
theorem dX8_init_83 : decode cX8_init 83 = .ok (.putfield 38, 3) := dk_181 0 38 (dk_at dksX8_init_3 13 rfl rfl)
theorem dX8_init_86 : decode cX8_init 86 = .ok (.aload_n 0, 1) := dk_42 (dk_at dksX8_init_3 16 rfl rfl)
theorem dX8_init_87 : decode cX8_init 87 = .ok (.bipush 32, 2) := dk_16 32 (dk_at dksX8_init_3 17 rfl rfl)
theorem dX8_init_89 : decode cX8_init 89 = .ok (.newarray .int, 2) := dk_188_10 (dk_at dksX8_init_3 19 rfl rfl)
theorem dX8_init_91 : decode cX8_init 91 = .ok (.putfield 41, 3) := dk_181 0 41 (dk_at dksX8_init_3 21 rfl rfl)
theorem dX8_init_94 : decode cX8_init 94 = .ok (.aload_n 0, 1) := dk_42 (dk_at dksX8_init_4 0 rfl rfl)
theorem dX8_init_95 : decode cX8_init 95 = .ok (.bipush 8, 2) := dk_16 8 (dk_at dksX8_init_4 1 rfl rfl)
theorem dX8_init_97 : decode cX8_init 97 = .ok (.newarray .int, 2) := dk_188_10 (dk_at dksX8_init_4 3 rfl rfl)
theorem dX8_init_99 : decode cX8_init 99 = .ok (.putfield 44, 3) := dk_181 0 44 (dk_at dksX8_init_4 5 rfl rfl)
theorem dX8_init_102 : decode cX8_init 102 = .ok (.aload_n 0, 1) := dk_42 (dk_at dksX8_init_4 8 rfl rfl)
theorem dX8_init_103 : decode cX8_init 103 = .ok (.bipush 8, 2) := dk_16 8 (dk_at dksX8_init_4 9 rfl rfl)
theorem dX8_init_105 : decode cX8_init 105 = .ok (.newarray .int, 2) := dk_188_10 (dk_at dksX8_init_4 11 rfl rfl)
theorem dX8_init_107 : decode cX8_init 107 = .ok (.putfield 47, 3) := dk_181 0 47 (dk_at dksX8_init_4 13 rfl rfl)
theorem dX8_init_110 : decode cX8_init 110 = .ok (.aload_n 0, 1) := dk_42 (dk_at dksX8_init_4 16 rfl rfl)
theorem dX8_init_111 : decode cX8_init 111 = .ok (.sipush 1024, 3) := dk_17 4 0 (dk_at dksX8_init_4 17 rfl rfl)
theorem dX8_init_114 : decode cX8_init 114 = .ok (.newarray .int, 2) := dk_188_10 (dk_at dksX8_init_4 20 rfl rfl)
theorem dX8_init_116 : decode cX8_init 116 = .ok (.putfield 50, 3) := dk_181 0 50 (dk_at dksX8_init_5 0 rfl rfl)
theorem dX8_init_119 : decode cX8_init 119 = .ok (.aload_n 0, 1) := dk_42 (dk_at dksX8_init_5 3 rfl rfl)
theorem dX8_init_120 : decode cX8_init 120 = .ok (.bipush 100, 2) := dk_16 100 (dk_at dksX8_init_5 4 rfl rfl)
theorem dX8_init_122 : decode cX8_init 122 = .ok (.newarray .int, 2) := dk_188_10 (dk_at dksX8_init_5 6 rfl rfl)
theorem dX8_init_124 : decode cX8_init 124 = .ok (.putfield 53, 3) := dk_181 0 53 (dk_at dksX8_init_5 8 rfl rfl)
theorem dX8_init_127 : decode cX8_init 127 = .ok (.aload_n 0, 1) := dk_42 (dk_at dksX8_init_5 11 rfl rfl)
theorem dX8_init_128 : decode cX8_init 128 = .ok (.getfield 7, 3) := dk_180 0 7 (dk_at dksX8_init_5 12 rfl rfl)
theorem dX8_init_131 : decode cX8_init 131 = .ok (.iconst 1, 1) := dk_4 (dk_at dksX8_init_5 15 rfl rfl)
theorem dX8_init_132 : decode cX8_init 132 = .ok (.iconst (-1), 1) := dk_2 (dk_at dksX8_init_5 16 rfl rfl)
theorem dX8_init_133 : decode cX8_init 133 = .ok (.iastore, 1) := dk_79 (dk_at dksX8_init_5 17 rfl rfl)
theorem dX8_init_134 : decode cX8_init 134 = .ok (.aload_n 0, 1) := dk_42 (dk_at dksX8_init_5 18 rfl rfl)
theorem dX8_init_135 : decode cX8_init 135 = .ok (.getfield 7, 3) := dk_180 0 7 (dk_at dksX8_init_5 19 rfl rfl)
theorem dX8_init_138 : decode cX8_init 138 = .ok (.bipush 16, 2) := dk_16 16 (dk_at dksX8_init_5 22 rfl rfl)
theorem dX8_init_140 : decode cX8_init 140 = .ok (.iconst 1, 1) := dk_4 (dk_at dksX8_init_6 0 rfl rfl)
theorem dX8_init_141 : decode cX8_init 141 = .ok (.iastore, 1) := dk_79 (dk_at dksX8_init_6 1 rfl rfl)
theorem dX8_init_142 : decode cX8_init 142 = .ok (.aload_n 0, 1) := dk_42 (dk_at dksX8_init_6 2 rfl rfl)
theorem dX8_init_143 : decode cX8_init 143 = .ok (.getfield 7, 3) := dk_180 0 7 (dk_at dksX8_init_6 3 rfl rfl)
theorem dX8_init_146 : decode cX8_init 146 = .ok (.bipush 13, 2) := dk_16 13 (dk_at dksX8_init_6 6 rfl rfl)
theorem dX8_init_148 : decode cX8_init 148 = .ok (.bipush 10, 2) := dk_16 10 (dk_at dksX8_init_6 8 rfl rfl)
theorem dX8_init_150 : decode cX8_init 150 = .ok (.iastore, 1) := dk_79 (dk_at dksX8_init_6 10 rfl rfl)
theorem dX8_init_151 : decode cX8_init 151 = .ok (.aload_n 0, 1) := dk_42 (dk_at dksX8_init_6 11 rfl rfl)
theorem dX8_init_152 : decode cX8_init 152 = .ok (.getfield 7, 3) := dk_180 0 7 (dk_at dksX8_init_6 12 rfl rfl)
theorem dX8_init_155 : decode cX8_init 155 = .ok (.bipush 14, 2) := dk_16 14 (dk_at dksX8_init_6 15 rfl rfl)
theorem dX8_init_157 : decode cX8_init 157 = .ok (.iconst 2, 1) := dk_5 (dk_at dksX8_init_6 17 rfl rfl)
theorem dX8_init_158 : decode cX8_init 158 = .ok (.iastore, 1) := dk_79 (dk_at dksX8_init_6 18 rfl rfl)
theorem dX8_init_159 : decode cX8_init 159 = .ok (.aload_n 0, 1) := dk_42 (dk_at dksX8_init_6 19 rfl rfl)
theorem dX8_init_160 : decode cX8_init 160 = .ok (.getfield 7, 3) := dk_180 0 7 (dk_at dksX8_init_6 20 rfl rfl)
theorem dX8_init_163 : decode cX8_init 163 = .ok (.bipush 15, 2) := dk_16 15 (dk_at dksX8_init_7 0 rfl rfl)
theorem dX8_init_165 : decode cX8_init 165 = .ok (.iconst 5, 1) := dk_8 (dk_at dksX8_init_7 2 rfl rfl)
theorem dX8_init_166 : decode cX8_init 166 = .ok (.iastore, 1) := dk_79 (dk_at dksX8_init_7 3 rfl rfl)
theorem dX8_init_167 : decode cX8_init 167 = .ok (.return_, 1) := dk_177 (dk_at dksX8_init_7 4 rfl rfl)
abbrev cX8_thrown : ByteArray := prog_23_method_2_code
def yX8_thrown : MethodName := ⟨RX8, "thrown", "()I"⟩
theorem dX8_thrown_0 : decode cX8_thrown 0 = .ok (.aload_n 0, 1) := by decide +kernel
theorem dX8_thrown_1 : decode cX8_thrown 1 = .ok (.getfield 56, 3) := by decide +kernel
theorem dX8_thrown_4 : decode cX8_thrown 4 = .ok (.ireturn, 1) := by decide +kernel
abbrev cX8_feed : ByteArray := prog_23_method_18_code
def yX8_feed : MethodName := ⟨RX8, "feed", "(IIIII)I"⟩
def dkwX8_feed_5 : List UInt8 := [167, 255, 162, 42, 180, 0, 73, 172]
abbrev dktX8_feed_5 : List UInt8 := dkwX8_feed_5 ++ []
def dkwX8_feed_4 : List UInt8 := [112, 104, 100, 124, 17, 0, 255, 126, 79, 42, 89, 180, 0, 73, 4, 96, 181, 0, 73, 132, 6, 1]
abbrev dktX8_feed_4 : List UInt8 := dkwX8_feed_4 ++ dktX8_feed_5
def dkwX8_feed_3 : List UInt8 := [167, 0, 5, 21, 5, 54, 7, 42, 180, 0, 22, 42, 180, 0, 73, 21, 7, 16, 24, 16, 8, 21, 6, 7]
abbrev dktX8_feed_3 : List UInt8 := dkwX8_feed_3 ++ dktX8_feed_4
def dkwX8_feed_2 : List UInt8 := [28, 167, 0, 28, 21, 6, 16, 12, 162, 0, 7, 29, 167, 0, 17, 21, 6, 16, 16, 162, 0, 8, 21, 4]
abbrev dktX8_feed_2 : List UInt8 := dkwX8_feed_2 ++ dktX8_feed_3
def dkwX8_feed_1 : List UInt8 := [21, 6, 16, 20, 162, 0, 93, 21, 6, 7, 162, 0, 7, 27, 167, 0, 39, 21, 6, 16, 8, 162, 0, 7]
abbrev dktX8_feed_1 : List UInt8 := dkwX8_feed_1 ++ dktX8_feed_2
def dkwX8_feed_0 : List UInt8 := [42, 3, 181, 0, 56, 42, 180, 0, 73, 16, 20, 96, 17, 1, 144, 164, 0, 5, 2, 172, 3, 54, 6]
abbrev dktX8_feed_0 : List UInt8 := dkwX8_feed_0 ++ dktX8_feed_1
theorem dksX8_feed_0 : cX8_feed.data.toList.drop 0 = dktX8_feed_0 := by decide +kernel
theorem dksX8_feed_1 : cX8_feed.data.toList.drop 23 = dktX8_feed_1 := dk_seg dksX8_feed_0 23 rfl rfl
theorem dksX8_feed_2 : cX8_feed.data.toList.drop 47 = dktX8_feed_2 := dk_seg dksX8_feed_1 24 rfl rfl
theorem dksX8_feed_3 : cX8_feed.data.toList.drop 71 = dktX8_feed_3 := dk_seg dksX8_feed_2 24 rfl rfl
theorem dksX8_feed_4 : cX8_feed.data.toList.drop 95 = dktX8_feed_4 := dk_seg dksX8_feed_3 24 rfl rfl
theorem dksX8_feed_5 : cX8_feed.data.toList.drop 117 = dktX8_feed_5 := dk_seg dksX8_feed_4 22 rfl rfl
theorem dX8_feed_0 : decode cX8_feed 0 = .ok (.aload_n 0, 1) := dk_42 (dk_at dksX8_feed_0 0 rfl rfl)
theorem dX8_feed_1 : decode cX8_feed 1 = .ok (.iconst 0, 1) := dk_3 (dk_at dksX8_feed_0 1 rfl rfl)
theorem dX8_feed_2 : decode cX8_feed 2 = .ok (.putfield 56, 3) := dk_181 0 56 (dk_at dksX8_feed_0 2 rfl rfl)
theorem dX8_feed_5 : decode cX8_feed 5 = .ok (.aload_n 0, 1) := dk_42 (dk_at dksX8_feed_0 5 rfl rfl)
theorem dX8_feed_6 : decode cX8_feed 6 = .ok (.getfield 73, 3) := dk_180 0 73 (dk_at dksX8_feed_0 6 rfl rfl)
theorem dX8_feed_9 : decode cX8_feed 9 = .ok (.bipush 20, 2) := dk_16 20 (dk_at dksX8_feed_0 9 rfl rfl)
theorem dX8_feed_11 : decode cX8_feed 11 = .ok (.iadd, 1) := dk_96 (dk_at dksX8_feed_0 11 rfl rfl)
theorem dX8_feed_12 : decode cX8_feed 12 = .ok (.sipush 400, 3) := dk_17 1 144 (dk_at dksX8_feed_0 12 rfl rfl)
theorem dX8_feed_15 : decode cX8_feed 15 = .ok (.if_icmp .le 5, 3) := dk_164 0 5 (dk_at dksX8_feed_0 15 rfl rfl)
theorem dX8_feed_18 : decode cX8_feed 18 = .ok (.iconst (-1), 1) := dk_2 (dk_at dksX8_feed_0 18 rfl rfl)
theorem dX8_feed_19 : decode cX8_feed 19 = .ok (.ireturn, 1) := dk_172 (dk_at dksX8_feed_0 19 rfl rfl)
theorem dX8_feed_20 : decode cX8_feed 20 = .ok (.iconst 0, 1) := dk_3 (dk_at dksX8_feed_0 20 rfl rfl)
theorem dX8_feed_21 : decode cX8_feed 21 = .ok (.istore 6, 2) := dk_54 6 (dk_at dksX8_feed_0 21 rfl rfl)
theorem dX8_feed_23 : decode cX8_feed 23 = .ok (.iload 6, 2) := dk_21 6 (dk_at dksX8_feed_1 0 rfl rfl)
theorem dX8_feed_25 : decode cX8_feed 25 = .ok (.bipush 20, 2) := dk_16 20 (dk_at dksX8_feed_1 2 rfl rfl)
theorem dX8_feed_27 : decode cX8_feed 27 = .ok (.if_icmp .ge 93, 3) := dk_162 0 93 (dk_at dksX8_feed_1 4 rfl rfl)
theorem dX8_feed_30 : decode cX8_feed 30 = .ok (.iload 6, 2) := dk_21 6 (dk_at dksX8_feed_1 7 rfl rfl)
theorem dX8_feed_32 : decode cX8_feed 32 = .ok (.iconst 4, 1) := dk_7 (dk_at dksX8_feed_1 9 rfl rfl)
theorem dX8_feed_33 : decode cX8_feed 33 = .ok (.if_icmp .ge 7, 3) := dk_162 0 7 (dk_at dksX8_feed_1 10 rfl rfl)
theorem dX8_feed_36 : decode cX8_feed 36 = .ok (.iload_n 1, 1) := dk_27 (dk_at dksX8_feed_1 13 rfl rfl)
theorem dX8_feed_37 : decode cX8_feed 37 = .ok (.goto 39, 3) := dk_167 0 39 (dk_at dksX8_feed_1 14 rfl rfl)
theorem dX8_feed_40 : decode cX8_feed 40 = .ok (.iload 6, 2) := dk_21 6 (dk_at dksX8_feed_1 17 rfl rfl)
theorem dX8_feed_42 : decode cX8_feed 42 = .ok (.bipush 8, 2) := dk_16 8 (dk_at dksX8_feed_1 19 rfl rfl)
theorem dX8_feed_44 : decode cX8_feed 44 = .ok (.if_icmp .ge 7, 3) := dk_162 0 7 (dk_at dksX8_feed_1 21 rfl rfl)
theorem dX8_feed_47 : decode cX8_feed 47 = .ok (.iload_n 2, 1) := dk_28 (dk_at dksX8_feed_2 0 rfl rfl)
theorem dX8_feed_48 : decode cX8_feed 48 = .ok (.goto 28, 3) := dk_167 0 28 (dk_at dksX8_feed_2 1 rfl rfl)
theorem dX8_feed_51 : decode cX8_feed 51 = .ok (.iload 6, 2) := dk_21 6 (dk_at dksX8_feed_2 4 rfl rfl)
theorem dX8_feed_53 : decode cX8_feed 53 = .ok (.bipush 12, 2) := dk_16 12 (dk_at dksX8_feed_2 6 rfl rfl)
theorem dX8_feed_55 : decode cX8_feed 55 = .ok (.if_icmp .ge 7, 3) := dk_162 0 7 (dk_at dksX8_feed_2 8 rfl rfl)
theorem dX8_feed_58 : decode cX8_feed 58 = .ok (.iload_n 3, 1) := dk_29 (dk_at dksX8_feed_2 11 rfl rfl)
theorem dX8_feed_59 : decode cX8_feed 59 = .ok (.goto 17, 3) := dk_167 0 17 (dk_at dksX8_feed_2 12 rfl rfl)
theorem dX8_feed_62 : decode cX8_feed 62 = .ok (.iload 6, 2) := dk_21 6 (dk_at dksX8_feed_2 15 rfl rfl)
theorem dX8_feed_64 : decode cX8_feed 64 = .ok (.bipush 16, 2) := dk_16 16 (dk_at dksX8_feed_2 17 rfl rfl)
theorem dX8_feed_66 : decode cX8_feed 66 = .ok (.if_icmp .ge 8, 3) := dk_162 0 8 (dk_at dksX8_feed_2 19 rfl rfl)
theorem dX8_feed_69 : decode cX8_feed 69 = .ok (.iload 4, 2) := dk_21 4 (dk_at dksX8_feed_2 22 rfl rfl)
theorem dX8_feed_71 : decode cX8_feed 71 = .ok (.goto 5, 3) := dk_167 0 5 (dk_at dksX8_feed_3 0 rfl rfl)
theorem dX8_feed_74 : decode cX8_feed 74 = .ok (.iload 5, 2) := dk_21 5 (dk_at dksX8_feed_3 3 rfl rfl)
theorem dX8_feed_76 : decode cX8_feed 76 = .ok (.istore 7, 2) := dk_54 7 (dk_at dksX8_feed_3 5 rfl rfl)
theorem dX8_feed_78 : decode cX8_feed 78 = .ok (.aload_n 0, 1) := dk_42 (dk_at dksX8_feed_3 7 rfl rfl)
theorem dX8_feed_79 : decode cX8_feed 79 = .ok (.getfield 22, 3) := dk_180 0 22 (dk_at dksX8_feed_3 8 rfl rfl)
theorem dX8_feed_82 : decode cX8_feed 82 = .ok (.aload_n 0, 1) := dk_42 (dk_at dksX8_feed_3 11 rfl rfl)
theorem dX8_feed_83 : decode cX8_feed 83 = .ok (.getfield 73, 3) := dk_180 0 73 (dk_at dksX8_feed_3 12 rfl rfl)
theorem dX8_feed_86 : decode cX8_feed 86 = .ok (.iload 7, 2) := dk_21 7 (dk_at dksX8_feed_3 15 rfl rfl)
theorem dX8_feed_88 : decode cX8_feed 88 = .ok (.bipush 24, 2) := dk_16 24 (dk_at dksX8_feed_3 17 rfl rfl)
theorem dX8_feed_90 : decode cX8_feed 90 = .ok (.bipush 8, 2) := dk_16 8 (dk_at dksX8_feed_3 19 rfl rfl)
theorem dX8_feed_92 : decode cX8_feed 92 = .ok (.iload 6, 2) := dk_21 6 (dk_at dksX8_feed_3 21 rfl rfl)
theorem dX8_feed_94 : decode cX8_feed 94 = .ok (.iconst 4, 1) := dk_7 (dk_at dksX8_feed_3 23 rfl rfl)
theorem dX8_feed_95 : decode cX8_feed 95 = .ok (.irem, 1) := dk_112 (dk_at dksX8_feed_4 0 rfl rfl)
theorem dX8_feed_96 : decode cX8_feed 96 = .ok (.imul, 1) := dk_104 (dk_at dksX8_feed_4 1 rfl rfl)
theorem dX8_feed_97 : decode cX8_feed 97 = .ok (.isub, 1) := dk_100 (dk_at dksX8_feed_4 2 rfl rfl)
theorem dX8_feed_98 : decode cX8_feed 98 = .ok (.iushr, 1) := dk_124 (dk_at dksX8_feed_4 3 rfl rfl)
theorem dX8_feed_99 : decode cX8_feed 99 = .ok (.sipush 255, 3) := dk_17 0 255 (dk_at dksX8_feed_4 4 rfl rfl)
theorem dX8_feed_102 : decode cX8_feed 102 = .ok (.iand, 1) := dk_126 (dk_at dksX8_feed_4 7 rfl rfl)
theorem dX8_feed_103 : decode cX8_feed 103 = .ok (.iastore, 1) := dk_79 (dk_at dksX8_feed_4 8 rfl rfl)
theorem dX8_feed_104 : decode cX8_feed 104 = .ok (.aload_n 0, 1) := dk_42 (dk_at dksX8_feed_4 9 rfl rfl)
theorem dX8_feed_105 : decode cX8_feed 105 = .ok (.dup, 1) := dk_89 (dk_at dksX8_feed_4 10 rfl rfl)
theorem dX8_feed_106 : decode cX8_feed 106 = .ok (.getfield 73, 3) := dk_180 0 73 (dk_at dksX8_feed_4 11 rfl rfl)
theorem dX8_feed_109 : decode cX8_feed 109 = .ok (.iconst 1, 1) := dk_4 (dk_at dksX8_feed_4 14 rfl rfl)
theorem dX8_feed_110 : decode cX8_feed 110 = .ok (.iadd, 1) := dk_96 (dk_at dksX8_feed_4 15 rfl rfl)
theorem dX8_feed_111 : decode cX8_feed 111 = .ok (.putfield 73, 3) := dk_181 0 73 (dk_at dksX8_feed_4 16 rfl rfl)
theorem dX8_feed_114 : decode cX8_feed 114 = .ok (.iinc 6 1, 3) := dk_132 6 1 (dk_at dksX8_feed_4 19 rfl rfl)
theorem dX8_feed_117 : decode cX8_feed 117 = .ok (.goto (-94), 3) := dk_167 255 162 (dk_at dksX8_feed_5 0 rfl rfl)
theorem dX8_feed_120 : decode cX8_feed 120 = .ok (.aload_n 0, 1) := dk_42 (dk_at dksX8_feed_5 3 rfl rfl)
theorem dX8_feed_121 : decode cX8_feed 121 = .ok (.getfield 73, 3) := dk_180 0 73 (dk_at dksX8_feed_5 4 rfl rfl)
theorem dX8_feed_124 : decode cX8_feed 124 = .ok (.ireturn, 1) := dk_172 (dk_at dksX8_feed_5 7 rfl rfl)
abbrev cX8_end : ByteArray := prog_23_method_19_code
def yX8_end : MethodName := ⟨RX8, "end", "(I)Z"⟩
def dkwX8_end_1 : List UInt8 := [4, 172]
abbrev dktX8_end_1 : List UInt8 := dkwX8_end_1 ++ []
def dkwX8_end_0 : List UInt8 := [42, 3, 181, 0, 56, 27, 3, 42, 180, 0, 73, 184, 0, 59, 154, 0, 5, 3, 172, 42, 27, 181, 0, 73]
abbrev dktX8_end_0 : List UInt8 := dkwX8_end_0 ++ dktX8_end_1
theorem dksX8_end_0 : cX8_end.data.toList.drop 0 = dktX8_end_0 := by decide +kernel
theorem dksX8_end_1 : cX8_end.data.toList.drop 24 = dktX8_end_1 := dk_seg dksX8_end_0 24 rfl rfl
theorem dX8_end_0 : decode cX8_end 0 = .ok (.aload_n 0, 1) := dk_42 (dk_at dksX8_end_0 0 rfl rfl)
theorem dX8_end_1 : decode cX8_end 1 = .ok (.iconst 0, 1) := dk_3 (dk_at dksX8_end_0 1 rfl rfl)
theorem dX8_end_2 : decode cX8_end 2 = .ok (.putfield 56, 3) := dk_181 0 56 (dk_at dksX8_end_0 2 rfl rfl)
theorem dX8_end_5 : decode cX8_end 5 = .ok (.iload_n 1, 1) := dk_27 (dk_at dksX8_end_0 5 rfl rfl)
theorem dX8_end_6 : decode cX8_end 6 = .ok (.iconst 0, 1) := dk_3 (dk_at dksX8_end_0 6 rfl rfl)
theorem dX8_end_7 : decode cX8_end 7 = .ok (.aload_n 0, 1) := dk_42 (dk_at dksX8_end_0 7 rfl rfl)
theorem dX8_end_8 : decode cX8_end 8 = .ok (.getfield 73, 3) := dk_180 0 73 (dk_at dksX8_end_0 8 rfl rfl)
theorem dX8_end_11 : decode cX8_end 11 = .ok (.invokestatic 59, 3) := dk_184 0 59 (dk_at dksX8_end_0 11 rfl rfl)
theorem dX8_end_14 : decode cX8_end 14 = .ok (.ifCond .ne 5, 3) := dk_154 0 5 (dk_at dksX8_end_0 14 rfl rfl)
theorem dX8_end_17 : decode cX8_end 17 = .ok (.iconst 0, 1) := dk_3 (dk_at dksX8_end_0 17 rfl rfl)
theorem dX8_end_18 : decode cX8_end 18 = .ok (.ireturn, 1) := dk_172 (dk_at dksX8_end_0 18 rfl rfl)
theorem dX8_end_19 : decode cX8_end 19 = .ok (.aload_n 0, 1) := dk_42 (dk_at dksX8_end_0 19 rfl rfl)
theorem dX8_end_20 : decode cX8_end 20 = .ok (.iload_n 1, 1) := dk_27 (dk_at dksX8_end_0 20 rfl rfl)
theorem dX8_end_21 : decode cX8_end 21 = .ok (.putfield 73, 3) := dk_181 0 73 (dk_at dksX8_end_0 21 rfl rfl)
theorem dX8_end_24 : decode cX8_end 24 = .ok (.iconst 1, 1) := dk_4 (dk_at dksX8_end_1 0 rfl rfl)
theorem dX8_end_25 : decode cX8_end 25 = .ok (.ireturn, 1) := dk_172 (dk_at dksX8_end_1 1 rfl rfl)
abbrev cX8_isIn : ByteArray := prog_23_method_3_code
def yX8_isIn : MethodName := ⟨RX8, "isIn", "(III)Z"⟩
def dkwX8_isIn_0 : List UInt8 := [26, 27, 161, 0, 12, 26, 28, 163, 0, 7, 4, 167, 0, 4, 3, 172]
abbrev dktX8_isIn_0 : List UInt8 := dkwX8_isIn_0 ++ []
theorem dksX8_isIn_0 : cX8_isIn.data.toList.drop 0 = dktX8_isIn_0 := by decide +kernel
theorem dX8_isIn_0 : decode cX8_isIn 0 = .ok (.iload_n 0, 1) := dk_26 (dk_at dksX8_isIn_0 0 rfl rfl)
theorem dX8_isIn_1 : decode cX8_isIn 1 = .ok (.iload_n 1, 1) := dk_27 (dk_at dksX8_isIn_0 1 rfl rfl)
theorem dX8_isIn_2 : decode cX8_isIn 2 = .ok (.if_icmp .lt 12, 3) := dk_161 0 12 (dk_at dksX8_isIn_0 2 rfl rfl)
theorem dX8_isIn_5 : decode cX8_isIn 5 = .ok (.iload_n 0, 1) := dk_26 (dk_at dksX8_isIn_0 5 rfl rfl)
theorem dX8_isIn_6 : decode cX8_isIn 6 = .ok (.iload_n 2, 1) := dk_28 (dk_at dksX8_isIn_0 6 rfl rfl)
theorem dX8_isIn_7 : decode cX8_isIn 7 = .ok (.if_icmp .gt 7, 3) := dk_163 0 7 (dk_at dksX8_isIn_0 7 rfl rfl)
theorem dX8_isIn_10 : decode cX8_isIn 10 = .ok (.iconst 1, 1) := dk_4 (dk_at dksX8_isIn_0 10 rfl rfl)
theorem dX8_isIn_11 : decode cX8_isIn 11 = .ok (.goto 4, 3) := dk_167 0 4 (dk_at dksX8_isIn_0 11 rfl rfl)
theorem dX8_isIn_14 : decode cX8_isIn 14 = .ok (.iconst 0, 1) := dk_3 (dk_at dksX8_isIn_0 14 rfl rfl)
theorem dX8_isIn_15 : decode cX8_isIn 15 = .ok (.ireturn, 1) := dk_172 (dk_at dksX8_isIn_0 15 rfl rfl)
abbrev cX8_town : ByteArray := prog_23_method_38_code
def yX8_town : MethodName := ⟨RX8, "town", "()I"⟩
def dkwX8_town_4 : List UInt8 := [181, 0, 207, 42, 180, 0, 7, 3, 46, 172]
abbrev dktX8_town_4 : List UInt8 := dkwX8_town_4 ++ []
def dkwX8_town_3 : List UInt8 := [180, 0, 56, 158, 0, 9, 42, 182, 0, 204, 3, 172, 42, 180, 0, 7, 3, 92, 46, 4, 96, 79, 42, 3]
abbrev dktX8_town_3 : List UInt8 := dkwX8_town_3 ++ dktX8_town_4
def dkwX8_town_2 : List UInt8 := [167, 0, 19, 42, 180, 0, 7, 3, 46, 16, 12, 160, 0, 7, 5, 167, 0, 4, 3, 181, 0, 56, 42]
abbrev dktX8_town_2 : List UInt8 := dkwX8_town_2 ++ dktX8_town_3
def dkwX8_town_1 : List UInt8 := [167, 255, 234, 42, 182, 0, 197, 42, 3, 182, 0, 200, 60, 42, 42, 180, 0, 25, 2, 159, 0, 7, 4]
abbrev dktX8_town_1 : List UInt8 := dkwX8_town_1 ++ dktX8_town_2
def dkwX8_town_0 : List UInt8 := [3, 60, 27, 17, 3, 132, 162, 0, 21, 42, 180, 0, 16, 27, 42, 180, 0, 7, 27, 46, 79, 132, 1, 1]
abbrev dktX8_town_0 : List UInt8 := dkwX8_town_0 ++ dktX8_town_1
theorem dksX8_town_0 : cX8_town.data.toList.drop 0 = dktX8_town_0 := by decide +kernel
theorem dksX8_town_1 : cX8_town.data.toList.drop 24 = dktX8_town_1 := dk_seg dksX8_town_0 24 rfl rfl
theorem dksX8_town_2 : cX8_town.data.toList.drop 47 = dktX8_town_2 := dk_seg dksX8_town_1 23 rfl rfl
theorem dksX8_town_3 : cX8_town.data.toList.drop 70 = dktX8_town_3 := dk_seg dksX8_town_2 23 rfl rfl
theorem dksX8_town_4 : cX8_town.data.toList.drop 94 = dktX8_town_4 := dk_seg dksX8_town_3 24 rfl rfl
theorem dX8_town_0 : decode cX8_town 0 = .ok (.iconst 0, 1) := dk_3 (dk_at dksX8_town_0 0 rfl rfl)
theorem dX8_town_1 : decode cX8_town 1 = .ok (.istore_n 1, 1) := dk_60 (dk_at dksX8_town_0 1 rfl rfl)
theorem dX8_town_2 : decode cX8_town 2 = .ok (.iload_n 1, 1) := dk_27 (dk_at dksX8_town_0 2 rfl rfl)
theorem dX8_town_3 : decode cX8_town 3 = .ok (.sipush 900, 3) := dk_17 3 132 (dk_at dksX8_town_0 3 rfl rfl)
theorem dX8_town_6 : decode cX8_town 6 = .ok (.if_icmp .ge 21, 3) := dk_162 0 21 (dk_at dksX8_town_0 6 rfl rfl)
theorem dX8_town_9 : decode cX8_town 9 = .ok (.aload_n 0, 1) := dk_42 (dk_at dksX8_town_0 9 rfl rfl)
theorem dX8_town_10 : decode cX8_town 10 = .ok (.getfield 16, 3) := dk_180 0 16 (dk_at dksX8_town_0 10 rfl rfl)
theorem dX8_town_13 : decode cX8_town 13 = .ok (.iload_n 1, 1) := dk_27 (dk_at dksX8_town_0 13 rfl rfl)
theorem dX8_town_14 : decode cX8_town 14 = .ok (.aload_n 0, 1) := dk_42 (dk_at dksX8_town_0 14 rfl rfl)
theorem dX8_town_15 : decode cX8_town 15 = .ok (.getfield 7, 3) := dk_180 0 7 (dk_at dksX8_town_0 15 rfl rfl)
theorem dX8_town_18 : decode cX8_town 18 = .ok (.iload_n 1, 1) := dk_27 (dk_at dksX8_town_0 18 rfl rfl)
theorem dX8_town_19 : decode cX8_town 19 = .ok (.iaload, 1) := dk_46 (dk_at dksX8_town_0 19 rfl rfl)
theorem dX8_town_20 : decode cX8_town 20 = .ok (.iastore, 1) := dk_79 (dk_at dksX8_town_0 20 rfl rfl)
theorem dX8_town_21 : decode cX8_town 21 = .ok (.iinc 1 1, 3) := dk_132 1 1 (dk_at dksX8_town_0 21 rfl rfl)
theorem dX8_town_24 : decode cX8_town 24 = .ok (.goto (-22), 3) := dk_167 255 234 (dk_at dksX8_town_1 0 rfl rfl)
theorem dX8_town_27 : decode cX8_town 27 = .ok (.aload_n 0, 1) := dk_42 (dk_at dksX8_town_1 3 rfl rfl)
theorem dX8_town_28 : decode cX8_town 28 = .ok (.invokevirtual 197, 3) := dk_182 0 197 (dk_at dksX8_town_1 4 rfl rfl)
theorem dX8_town_31 : decode cX8_town 31 = .ok (.aload_n 0, 1) := dk_42 (dk_at dksX8_town_1 7 rfl rfl)
theorem dX8_town_32 : decode cX8_town 32 = .ok (.iconst 0, 1) := dk_3 (dk_at dksX8_town_1 8 rfl rfl)
theorem dX8_town_33 : decode cX8_town 33 = .ok (.invokevirtual 200, 3) := dk_182 0 200 (dk_at dksX8_town_1 9 rfl rfl)
theorem dX8_town_36 : decode cX8_town 36 = .ok (.istore_n 1, 1) := dk_60 (dk_at dksX8_town_1 12 rfl rfl)
theorem dX8_town_37 : decode cX8_town 37 = .ok (.aload_n 0, 1) := dk_42 (dk_at dksX8_town_1 13 rfl rfl)
theorem dX8_town_38 : decode cX8_town 38 = .ok (.aload_n 0, 1) := dk_42 (dk_at dksX8_town_1 14 rfl rfl)
theorem dX8_town_39 : decode cX8_town 39 = .ok (.getfield 25, 3) := dk_180 0 25 (dk_at dksX8_town_1 15 rfl rfl)
theorem dX8_town_42 : decode cX8_town 42 = .ok (.iconst (-1), 1) := dk_2 (dk_at dksX8_town_1 18 rfl rfl)
theorem dX8_town_43 : decode cX8_town 43 = .ok (.if_icmp .eq 7, 3) := dk_159 0 7 (dk_at dksX8_town_1 19 rfl rfl)
theorem dX8_town_46 : decode cX8_town 46 = .ok (.iconst 1, 1) := dk_4 (dk_at dksX8_town_1 22 rfl rfl)
theorem dX8_town_47 : decode cX8_town 47 = .ok (.goto 19, 3) := dk_167 0 19 (dk_at dksX8_town_2 0 rfl rfl)
theorem dX8_town_50 : decode cX8_town 50 = .ok (.aload_n 0, 1) := dk_42 (dk_at dksX8_town_2 3 rfl rfl)
theorem dX8_town_51 : decode cX8_town 51 = .ok (.getfield 7, 3) := dk_180 0 7 (dk_at dksX8_town_2 4 rfl rfl)
theorem dX8_town_54 : decode cX8_town 54 = .ok (.iconst 0, 1) := dk_3 (dk_at dksX8_town_2 7 rfl rfl)
theorem dX8_town_55 : decode cX8_town 55 = .ok (.iaload, 1) := dk_46 (dk_at dksX8_town_2 8 rfl rfl)
theorem dX8_town_56 : decode cX8_town 56 = .ok (.bipush 12, 2) := dk_16 12 (dk_at dksX8_town_2 9 rfl rfl)
theorem dX8_town_58 : decode cX8_town 58 = .ok (.if_icmp .ne 7, 3) := dk_160 0 7 (dk_at dksX8_town_2 11 rfl rfl)
theorem dX8_town_61 : decode cX8_town 61 = .ok (.iconst 2, 1) := dk_5 (dk_at dksX8_town_2 14 rfl rfl)
theorem dX8_town_62 : decode cX8_town 62 = .ok (.goto 4, 3) := dk_167 0 4 (dk_at dksX8_town_2 15 rfl rfl)
theorem dX8_town_65 : decode cX8_town 65 = .ok (.iconst 0, 1) := dk_3 (dk_at dksX8_town_2 18 rfl rfl)
theorem dX8_town_66 : decode cX8_town 66 = .ok (.putfield 56, 3) := dk_181 0 56 (dk_at dksX8_town_2 19 rfl rfl)
theorem dX8_town_69 : decode cX8_town 69 = .ok (.aload_n 0, 1) := dk_42 (dk_at dksX8_town_2 22 rfl rfl)
theorem dX8_town_70 : decode cX8_town 70 = .ok (.getfield 56, 3) := dk_180 0 56 (dk_at dksX8_town_3 0 rfl rfl)
theorem dX8_town_73 : decode cX8_town 73 = .ok (.ifCond .le 9, 3) := dk_158 0 9 (dk_at dksX8_town_3 3 rfl rfl)
theorem dX8_town_76 : decode cX8_town 76 = .ok (.aload_n 0, 1) := dk_42 (dk_at dksX8_town_3 6 rfl rfl)
theorem dX8_town_77 : decode cX8_town 77 = .ok (.invokevirtual 204, 3) := dk_182 0 204 (dk_at dksX8_town_3 7 rfl rfl)
theorem dX8_town_80 : decode cX8_town 80 = .ok (.iconst 0, 1) := dk_3 (dk_at dksX8_town_3 10 rfl rfl)
theorem dX8_town_81 : decode cX8_town 81 = .ok (.ireturn, 1) := dk_172 (dk_at dksX8_town_3 11 rfl rfl)
theorem dX8_town_82 : decode cX8_town 82 = .ok (.aload_n 0, 1) := dk_42 (dk_at dksX8_town_3 12 rfl rfl)
theorem dX8_town_83 : decode cX8_town 83 = .ok (.getfield 7, 3) := dk_180 0 7 (dk_at dksX8_town_3 13 rfl rfl)
theorem dX8_town_86 : decode cX8_town 86 = .ok (.iconst 0, 1) := dk_3 (dk_at dksX8_town_3 16 rfl rfl)
theorem dX8_town_87 : decode cX8_town 87 = .ok (.dup2, 1) := dk_92 (dk_at dksX8_town_3 17 rfl rfl)
theorem dX8_town_88 : decode cX8_town 88 = .ok (.iaload, 1) := dk_46 (dk_at dksX8_town_3 18 rfl rfl)
theorem dX8_town_89 : decode cX8_town 89 = .ok (.iconst 1, 1) := dk_4 (dk_at dksX8_town_3 19 rfl rfl)
theorem dX8_town_90 : decode cX8_town 90 = .ok (.iadd, 1) := dk_96 (dk_at dksX8_town_3 20 rfl rfl)
theorem dX8_town_91 : decode cX8_town 91 = .ok (.iastore, 1) := dk_79 (dk_at dksX8_town_3 21 rfl rfl)
theorem dX8_town_92 : decode cX8_town 92 = .ok (.aload_n 0, 1) := dk_42 (dk_at dksX8_town_3 22 rfl rfl)
theorem dX8_town_93 : decode cX8_town 93 = .ok (.iconst 0, 1) := dk_3 (dk_at dksX8_town_3 23 rfl rfl)
theorem dX8_town_94 : decode cX8_town 94 = .ok (.putfield 207, 3) := dk_181 0 207 (dk_at dksX8_town_4 0 rfl rfl)
theorem dX8_town_97 : decode cX8_town 97 = .ok (.aload_n 0, 1) := dk_42 (dk_at dksX8_town_4 3 rfl rfl)
theorem dX8_town_98 : decode cX8_town 98 = .ok (.getfield 7, 3) := dk_180 0 7 (dk_at dksX8_town_4 4 rfl rfl)
theorem dX8_town_101 : decode cX8_town 101 = .ok (.iconst 0, 1) := dk_3 (dk_at dksX8_town_4 7 rfl rfl)
theorem dX8_town_102 : decode cX8_town 102 = .ok (.iaload, 1) := dk_46 (dk_at dksX8_town_4 8 rfl rfl)
theorem dX8_town_103 : decode cX8_town 103 = .ok (.ireturn, 1) := dk_172 (dk_at dksX8_town_4 9 rfl rfl)
abbrev cX8_begins : ByteArray := prog_23_method_36_code
def yX8_begins : MethodName := ⟨RX8, "begins", "()V"⟩
def dkwX8_begins_1 : List UInt8 := [3, 181, 0, 79, 42, 3, 181, 0, 184, 177]
abbrev dktX8_begins_1 : List UInt8 := dkwX8_begins_1 ++ []
def dkwX8_begins_0 : List UInt8 := [42, 2, 181, 0, 25, 42, 2, 181, 0, 76, 42, 42, 180, 0, 73, 181, 0, 82, 42, 3, 181, 0, 73, 42]
abbrev dktX8_begins_0 : List UInt8 := dkwX8_begins_0 ++ dktX8_begins_1
theorem dksX8_begins_0 : cX8_begins.data.toList.drop 0 = dktX8_begins_0 := by decide +kernel
theorem dksX8_begins_1 : cX8_begins.data.toList.drop 24 = dktX8_begins_1 := dk_seg dksX8_begins_0 24 rfl rfl
theorem dX8_begins_0 : decode cX8_begins 0 = .ok (.aload_n 0, 1) := dk_42 (dk_at dksX8_begins_0 0 rfl rfl)
theorem dX8_begins_1 : decode cX8_begins 1 = .ok (.iconst (-1), 1) := dk_2 (dk_at dksX8_begins_0 1 rfl rfl)
theorem dX8_begins_2 : decode cX8_begins 2 = .ok (.putfield 25, 3) := dk_181 0 25 (dk_at dksX8_begins_0 2 rfl rfl)
theorem dX8_begins_5 : decode cX8_begins 5 = .ok (.aload_n 0, 1) := dk_42 (dk_at dksX8_begins_0 5 rfl rfl)
theorem dX8_begins_6 : decode cX8_begins 6 = .ok (.iconst (-1), 1) := dk_2 (dk_at dksX8_begins_0 6 rfl rfl)
theorem dX8_begins_7 : decode cX8_begins 7 = .ok (.putfield 76, 3) := dk_181 0 76 (dk_at dksX8_begins_0 7 rfl rfl)
theorem dX8_begins_10 : decode cX8_begins 10 = .ok (.aload_n 0, 1) := dk_42 (dk_at dksX8_begins_0 10 rfl rfl)
theorem dX8_begins_11 : decode cX8_begins 11 = .ok (.aload_n 0, 1) := dk_42 (dk_at dksX8_begins_0 11 rfl rfl)
theorem dX8_begins_12 : decode cX8_begins 12 = .ok (.getfield 73, 3) := dk_180 0 73 (dk_at dksX8_begins_0 12 rfl rfl)
theorem dX8_begins_15 : decode cX8_begins 15 = .ok (.putfield 82, 3) := dk_181 0 82 (dk_at dksX8_begins_0 15 rfl rfl)
theorem dX8_begins_18 : decode cX8_begins 18 = .ok (.aload_n 0, 1) := dk_42 (dk_at dksX8_begins_0 18 rfl rfl)
theorem dX8_begins_19 : decode cX8_begins 19 = .ok (.iconst 0, 1) := dk_3 (dk_at dksX8_begins_0 19 rfl rfl)
theorem dX8_begins_20 : decode cX8_begins 20 = .ok (.putfield 73, 3) := dk_181 0 73 (dk_at dksX8_begins_0 20 rfl rfl)
theorem dX8_begins_23 : decode cX8_begins 23 = .ok (.aload_n 0, 1) := dk_42 (dk_at dksX8_begins_0 23 rfl rfl)
theorem dX8_begins_24 : decode cX8_begins 24 = .ok (.iconst 0, 1) := dk_3 (dk_at dksX8_begins_1 0 rfl rfl)
theorem dX8_begins_25 : decode cX8_begins 25 = .ok (.putfield 79, 3) := dk_181 0 79 (dk_at dksX8_begins_1 1 rfl rfl)
theorem dX8_begins_28 : decode cX8_begins 28 = .ok (.aload_n 0, 1) := dk_42 (dk_at dksX8_begins_1 4 rfl rfl)
theorem dX8_begins_29 : decode cX8_begins 29 = .ok (.iconst 0, 1) := dk_3 (dk_at dksX8_begins_1 5 rfl rfl)
theorem dX8_begins_30 : decode cX8_begins 30 = .ok (.putfield 184, 3) := dk_181 0 184 (dk_at dksX8_begins_1 6 rfl rfl)
theorem dX8_begins_33 : decode cX8_begins 33 = .ok (.return_, 1) := dk_177 (dk_at dksX8_begins_1 9 rfl rfl)
abbrev cX8_read : ByteArray := prog_23_method_37_code
def yX8_read : MethodName := ⟨RX8, "read", "(Z)I"⟩
def dkwX8_read_6 : List UInt8 := [182, 0, 105, 167, 255, 138, 29, 172]
abbrev dktX8_read_6 : List UInt8 := dkwX8_read_6 ++ []
def dkwX8_read_5 : List UInt8 := [182, 0, 193, 153, 0, 16, 42, 89, 180, 0, 79, 4, 96, 181, 0, 79, 167, 255, 149, 42, 42, 180, 0, 79]
abbrev dktX8_read_5 : List UInt8 := dkwX8_read_5 ++ dktX8_read_6
def dkwX8_read_4 : List UInt8 := [160, 0, 14, 42, 180, 0, 79, 42, 180, 0, 82, 160, 0, 8, 3, 61, 167, 255, 171, 42, 16, 59]
abbrev dktX8_read_4 : List UInt8 := dkwX8_read_4 ++ dktX8_read_5
def dkwX8_read_3 : List UInt8 := [182, 0, 187, 167, 0, 7, 42, 182, 0, 190, 132, 3, 1, 42, 182, 0, 88, 42, 180, 0, 25, 2]
abbrev dktX8_read_3 : List UInt8 := dkwX8_read_3 ++ dktX8_read_4
def dkwX8_read_2 : List UInt8 := [167, 0, 5, 16, 14, 160, 0, 14, 42, 42, 180, 0, 79, 182, 0, 105, 167, 0, 18, 27, 153, 0, 10, 42]
abbrev dktX8_read_2 : List UInt8 := dkwX8_read_2 ++ dktX8_read_3
def dkwX8_read_1 : List UInt8 := [153, 0, 120, 42, 180, 0, 25, 2, 160, 0, 112, 42, 182, 0, 88, 29, 27, 153, 0, 8, 16, 12]
abbrev dktX8_read_1 : List UInt8 := dkwX8_read_1 ++ dktX8_read_2
def dkwX8_read_0 : List UInt8 := [42, 182, 0, 88, 42, 180, 0, 79, 42, 180, 0, 82, 162, 0, 7, 4, 167, 0, 4, 3, 61, 3, 62, 28]
abbrev dktX8_read_0 : List UInt8 := dkwX8_read_0 ++ dktX8_read_1
theorem dksX8_read_0 : cX8_read.data.toList.drop 0 = dktX8_read_0 := by decide +kernel
theorem dksX8_read_1 : cX8_read.data.toList.drop 24 = dktX8_read_1 := dk_seg dksX8_read_0 24 rfl rfl
theorem dksX8_read_2 : cX8_read.data.toList.drop 46 = dktX8_read_2 := dk_seg dksX8_read_1 22 rfl rfl
theorem dksX8_read_3 : cX8_read.data.toList.drop 70 = dktX8_read_3 := dk_seg dksX8_read_2 24 rfl rfl
theorem dksX8_read_4 : cX8_read.data.toList.drop 92 = dktX8_read_4 := dk_seg dksX8_read_3 22 rfl rfl
theorem dksX8_read_5 : cX8_read.data.toList.drop 114 = dktX8_read_5 := dk_seg dksX8_read_4 22 rfl rfl
theorem dksX8_read_6 : cX8_read.data.toList.drop 138 = dktX8_read_6 := dk_seg dksX8_read_5 24 rfl rfl
theorem dX8_read_0 : decode cX8_read 0 = .ok (.aload_n 0, 1) := dk_42 (dk_at dksX8_read_0 0 rfl rfl)
theorem dX8_read_1 : decode cX8_read 1 = .ok (.invokevirtual 88, 3) := dk_182 0 88 (dk_at dksX8_read_0 1 rfl rfl)
theorem dX8_read_4 : decode cX8_read 4 = .ok (.aload_n 0, 1) := dk_42 (dk_at dksX8_read_0 4 rfl rfl)
theorem dX8_read_5 : decode cX8_read 5 = .ok (.getfield 79, 3) := dk_180 0 79 (dk_at dksX8_read_0 5 rfl rfl)
theorem dX8_read_8 : decode cX8_read 8 = .ok (.aload_n 0, 1) := dk_42 (dk_at dksX8_read_0 8 rfl rfl)
theorem dX8_read_9 : decode cX8_read 9 = .ok (.getfield 82, 3) := dk_180 0 82 (dk_at dksX8_read_0 9 rfl rfl)
theorem dX8_read_12 : decode cX8_read 12 = .ok (.if_icmp .ge 7, 3) := dk_162 0 7 (dk_at dksX8_read_0 12 rfl rfl)
theorem dX8_read_15 : decode cX8_read 15 = .ok (.iconst 1, 1) := dk_4 (dk_at dksX8_read_0 15 rfl rfl)
theorem dX8_read_16 : decode cX8_read 16 = .ok (.goto 4, 3) := dk_167 0 4 (dk_at dksX8_read_0 16 rfl rfl)
theorem dX8_read_19 : decode cX8_read 19 = .ok (.iconst 0, 1) := dk_3 (dk_at dksX8_read_0 19 rfl rfl)
theorem dX8_read_20 : decode cX8_read 20 = .ok (.istore_n 2, 1) := dk_61 (dk_at dksX8_read_0 20 rfl rfl)
theorem dX8_read_21 : decode cX8_read 21 = .ok (.iconst 0, 1) := dk_3 (dk_at dksX8_read_0 21 rfl rfl)
theorem dX8_read_22 : decode cX8_read 22 = .ok (.istore_n 3, 1) := dk_62 (dk_at dksX8_read_0 22 rfl rfl)
theorem dX8_read_23 : decode cX8_read 23 = .ok (.iload_n 2, 1) := dk_28 (dk_at dksX8_read_0 23 rfl rfl)
theorem dX8_read_24 : decode cX8_read 24 = .ok (.ifCond .eq 120, 3) := dk_153 0 120 (dk_at dksX8_read_1 0 rfl rfl)
theorem dX8_read_27 : decode cX8_read 27 = .ok (.aload_n 0, 1) := dk_42 (dk_at dksX8_read_1 3 rfl rfl)
theorem dX8_read_28 : decode cX8_read 28 = .ok (.getfield 25, 3) := dk_180 0 25 (dk_at dksX8_read_1 4 rfl rfl)
theorem dX8_read_31 : decode cX8_read 31 = .ok (.iconst (-1), 1) := dk_2 (dk_at dksX8_read_1 7 rfl rfl)
theorem dX8_read_32 : decode cX8_read 32 = .ok (.if_icmp .ne 112, 3) := dk_160 0 112 (dk_at dksX8_read_1 8 rfl rfl)
theorem dX8_read_35 : decode cX8_read 35 = .ok (.aload_n 0, 1) := dk_42 (dk_at dksX8_read_1 11 rfl rfl)
theorem dX8_read_36 : decode cX8_read 36 = .ok (.invokevirtual 88, 3) := dk_182 0 88 (dk_at dksX8_read_1 12 rfl rfl)
theorem dX8_read_39 : decode cX8_read 39 = .ok (.iload_n 3, 1) := dk_29 (dk_at dksX8_read_1 15 rfl rfl)
theorem dX8_read_40 : decode cX8_read 40 = .ok (.iload_n 1, 1) := dk_27 (dk_at dksX8_read_1 16 rfl rfl)
theorem dX8_read_41 : decode cX8_read 41 = .ok (.ifCond .eq 8, 3) := dk_153 0 8 (dk_at dksX8_read_1 17 rfl rfl)
theorem dX8_read_44 : decode cX8_read 44 = .ok (.bipush 12, 2) := dk_16 12 (dk_at dksX8_read_1 20 rfl rfl)
theorem dX8_read_46 : decode cX8_read 46 = .ok (.goto 5, 3) := dk_167 0 5 (dk_at dksX8_read_2 0 rfl rfl)
theorem dX8_read_49 : decode cX8_read 49 = .ok (.bipush 14, 2) := dk_16 14 (dk_at dksX8_read_2 3 rfl rfl)
theorem dX8_read_51 : decode cX8_read 51 = .ok (.if_icmp .ne 14, 3) := dk_160 0 14 (dk_at dksX8_read_2 5 rfl rfl)
theorem dX8_read_54 : decode cX8_read 54 = .ok (.aload_n 0, 1) := dk_42 (dk_at dksX8_read_2 8 rfl rfl)
theorem dX8_read_55 : decode cX8_read 55 = .ok (.aload_n 0, 1) := dk_42 (dk_at dksX8_read_2 9 rfl rfl)
theorem dX8_read_56 : decode cX8_read 56 = .ok (.getfield 79, 3) := dk_180 0 79 (dk_at dksX8_read_2 10 rfl rfl)
theorem dX8_read_59 : decode cX8_read 59 = .ok (.invokevirtual 105, 3) := dk_182 0 105 (dk_at dksX8_read_2 13 rfl rfl)
theorem dX8_read_62 : decode cX8_read 62 = .ok (.goto 18, 3) := dk_167 0 18 (dk_at dksX8_read_2 16 rfl rfl)
theorem dX8_read_65 : decode cX8_read 65 = .ok (.iload_n 1, 1) := dk_27 (dk_at dksX8_read_2 19 rfl rfl)
theorem dX8_read_66 : decode cX8_read 66 = .ok (.ifCond .eq 10, 3) := dk_153 0 10 (dk_at dksX8_read_2 20 rfl rfl)
theorem dX8_read_69 : decode cX8_read 69 = .ok (.aload_n 0, 1) := dk_42 (dk_at dksX8_read_2 23 rfl rfl)
theorem dX8_read_70 : decode cX8_read 70 = .ok (.invokevirtual 187, 3) := dk_182 0 187 (dk_at dksX8_read_3 0 rfl rfl)
theorem dX8_read_73 : decode cX8_read 73 = .ok (.goto 7, 3) := dk_167 0 7 (dk_at dksX8_read_3 3 rfl rfl)
theorem dX8_read_76 : decode cX8_read 76 = .ok (.aload_n 0, 1) := dk_42 (dk_at dksX8_read_3 6 rfl rfl)
theorem dX8_read_77 : decode cX8_read 77 = .ok (.invokevirtual 190, 3) := dk_182 0 190 (dk_at dksX8_read_3 7 rfl rfl)
theorem dX8_read_80 : decode cX8_read 80 = .ok (.iinc 3 1, 3) := dk_132 3 1 (dk_at dksX8_read_3 10 rfl rfl)
theorem dX8_read_83 : decode cX8_read 83 = .ok (.aload_n 0, 1) := dk_42 (dk_at dksX8_read_3 13 rfl rfl)
theorem dX8_read_84 : decode cX8_read 84 = .ok (.invokevirtual 88, 3) := dk_182 0 88 (dk_at dksX8_read_3 14 rfl rfl)
theorem dX8_read_87 : decode cX8_read 87 = .ok (.aload_n 0, 1) := dk_42 (dk_at dksX8_read_3 17 rfl rfl)
theorem dX8_read_88 : decode cX8_read 88 = .ok (.getfield 25, 3) := dk_180 0 25 (dk_at dksX8_read_3 18 rfl rfl)
theorem dX8_read_91 : decode cX8_read 91 = .ok (.iconst (-1), 1) := dk_2 (dk_at dksX8_read_3 21 rfl rfl)
theorem dX8_read_92 : decode cX8_read 92 = .ok (.if_icmp .ne 14, 3) := dk_160 0 14 (dk_at dksX8_read_4 0 rfl rfl)
theorem dX8_read_95 : decode cX8_read 95 = .ok (.aload_n 0, 1) := dk_42 (dk_at dksX8_read_4 3 rfl rfl)
theorem dX8_read_96 : decode cX8_read 96 = .ok (.getfield 79, 3) := dk_180 0 79 (dk_at dksX8_read_4 4 rfl rfl)
theorem dX8_read_99 : decode cX8_read 99 = .ok (.aload_n 0, 1) := dk_42 (dk_at dksX8_read_4 7 rfl rfl)
theorem dX8_read_100 : decode cX8_read 100 = .ok (.getfield 82, 3) := dk_180 0 82 (dk_at dksX8_read_4 8 rfl rfl)
theorem dX8_read_103 : decode cX8_read 103 = .ok (.if_icmp .ne 8, 3) := dk_160 0 8 (dk_at dksX8_read_4 11 rfl rfl)
theorem dX8_read_106 : decode cX8_read 106 = .ok (.iconst 0, 1) := dk_3 (dk_at dksX8_read_4 14 rfl rfl)
theorem dX8_read_107 : decode cX8_read 107 = .ok (.istore_n 2, 1) := dk_61 (dk_at dksX8_read_4 15 rfl rfl)
theorem dX8_read_108 : decode cX8_read 108 = .ok (.goto (-85), 3) := dk_167 255 171 (dk_at dksX8_read_4 16 rfl rfl)
theorem dX8_read_111 : decode cX8_read 111 = .ok (.aload_n 0, 1) := dk_42 (dk_at dksX8_read_4 19 rfl rfl)
theorem dX8_read_112 : decode cX8_read 112 = .ok (.bipush 59, 2) := dk_16 59 (dk_at dksX8_read_4 20 rfl rfl)
theorem dX8_read_114 : decode cX8_read 114 = .ok (.invokevirtual 193, 3) := dk_182 0 193 (dk_at dksX8_read_5 0 rfl rfl)
theorem dX8_read_117 : decode cX8_read 117 = .ok (.ifCond .eq 16, 3) := dk_153 0 16 (dk_at dksX8_read_5 3 rfl rfl)
theorem dX8_read_120 : decode cX8_read 120 = .ok (.aload_n 0, 1) := dk_42 (dk_at dksX8_read_5 6 rfl rfl)
theorem dX8_read_121 : decode cX8_read 121 = .ok (.dup, 1) := dk_89 (dk_at dksX8_read_5 7 rfl rfl)
theorem dX8_read_122 : decode cX8_read 122 = .ok (.getfield 79, 3) := dk_180 0 79 (dk_at dksX8_read_5 8 rfl rfl)
theorem dX8_read_125 : decode cX8_read 125 = .ok (.iconst 1, 1) := dk_4 (dk_at dksX8_read_5 11 rfl rfl)
theorem dX8_read_126 : decode cX8_read 126 = .ok (.iadd, 1) := dk_96 (dk_at dksX8_read_5 12 rfl rfl)
theorem dX8_read_127 : decode cX8_read 127 = .ok (.putfield 79, 3) := dk_181 0 79 (dk_at dksX8_read_5 13 rfl rfl)
theorem dX8_read_130 : decode cX8_read 130 = .ok (.goto (-107), 3) := dk_167 255 149 (dk_at dksX8_read_5 16 rfl rfl)
theorem dX8_read_133 : decode cX8_read 133 = .ok (.aload_n 0, 1) := dk_42 (dk_at dksX8_read_5 19 rfl rfl)
theorem dX8_read_134 : decode cX8_read 134 = .ok (.aload_n 0, 1) := dk_42 (dk_at dksX8_read_5 20 rfl rfl)
theorem dX8_read_135 : decode cX8_read 135 = .ok (.getfield 79, 3) := dk_180 0 79 (dk_at dksX8_read_5 21 rfl rfl)
theorem dX8_read_138 : decode cX8_read 138 = .ok (.invokevirtual 105, 3) := dk_182 0 105 (dk_at dksX8_read_6 0 rfl rfl)
theorem dX8_read_141 : decode cX8_read 141 = .ok (.goto (-118), 3) := dk_167 255 138 (dk_at dksX8_read_6 3 rfl rfl)
theorem dX8_read_144 : decode cX8_read 144 = .ok (.iload_n 3, 1) := dk_29 (dk_at dksX8_read_6 6 rfl rfl)
theorem dX8_read_145 : decode cX8_read 145 = .ok (.ireturn, 1) := dk_172 (dk_at dksX8_read_6 7 rfl rfl)
abbrev cX8_skip : ByteArray := prog_23_method_21_code
def yX8_skip : MethodName := ⟨RX8, "skip", "()V"⟩
def dkwX8_skip_1 : List UInt8 := [42, 89, 180, 0, 79, 4, 96, 181, 0, 79, 167, 255, 222, 177]
abbrev dktX8_skip_1 : List UInt8 := dkwX8_skip_1 ++ []
def dkwX8_skip_0 : List UInt8 := [42, 180, 0, 79, 42, 180, 0, 82, 162, 0, 29, 42, 42, 180, 0, 79, 182, 0, 85, 16, 32, 160, 0, 16]
abbrev dktX8_skip_0 : List UInt8 := dkwX8_skip_0 ++ dktX8_skip_1
theorem dksX8_skip_0 : cX8_skip.data.toList.drop 0 = dktX8_skip_0 := by decide +kernel
theorem dksX8_skip_1 : cX8_skip.data.toList.drop 24 = dktX8_skip_1 := dk_seg dksX8_skip_0 24 rfl rfl
theorem dX8_skip_0 : decode cX8_skip 0 = .ok (.aload_n 0, 1) := dk_42 (dk_at dksX8_skip_0 0 rfl rfl)
theorem dX8_skip_1 : decode cX8_skip 1 = .ok (.getfield 79, 3) := dk_180 0 79 (dk_at dksX8_skip_0 1 rfl rfl)
theorem dX8_skip_4 : decode cX8_skip 4 = .ok (.aload_n 0, 1) := dk_42 (dk_at dksX8_skip_0 4 rfl rfl)
theorem dX8_skip_5 : decode cX8_skip 5 = .ok (.getfield 82, 3) := dk_180 0 82 (dk_at dksX8_skip_0 5 rfl rfl)
theorem dX8_skip_8 : decode cX8_skip 8 = .ok (.if_icmp .ge 29, 3) := dk_162 0 29 (dk_at dksX8_skip_0 8 rfl rfl)
theorem dX8_skip_11 : decode cX8_skip 11 = .ok (.aload_n 0, 1) := dk_42 (dk_at dksX8_skip_0 11 rfl rfl)
theorem dX8_skip_12 : decode cX8_skip 12 = .ok (.aload_n 0, 1) := dk_42 (dk_at dksX8_skip_0 12 rfl rfl)
theorem dX8_skip_13 : decode cX8_skip 13 = .ok (.getfield 79, 3) := dk_180 0 79 (dk_at dksX8_skip_0 13 rfl rfl)
theorem dX8_skip_16 : decode cX8_skip 16 = .ok (.invokevirtual 85, 3) := dk_182 0 85 (dk_at dksX8_skip_0 16 rfl rfl)
theorem dX8_skip_19 : decode cX8_skip 19 = .ok (.bipush 32, 2) := dk_16 32 (dk_at dksX8_skip_0 19 rfl rfl)
theorem dX8_skip_21 : decode cX8_skip 21 = .ok (.if_icmp .ne 16, 3) := dk_160 0 16 (dk_at dksX8_skip_0 21 rfl rfl)
theorem dX8_skip_24 : decode cX8_skip 24 = .ok (.aload_n 0, 1) := dk_42 (dk_at dksX8_skip_1 0 rfl rfl)
theorem dX8_skip_25 : decode cX8_skip 25 = .ok (.dup, 1) := dk_89 (dk_at dksX8_skip_1 1 rfl rfl)
theorem dX8_skip_26 : decode cX8_skip 26 = .ok (.getfield 79, 3) := dk_180 0 79 (dk_at dksX8_skip_1 2 rfl rfl)
theorem dX8_skip_29 : decode cX8_skip 29 = .ok (.iconst 1, 1) := dk_4 (dk_at dksX8_skip_1 5 rfl rfl)
theorem dX8_skip_30 : decode cX8_skip 30 = .ok (.iadd, 1) := dk_96 (dk_at dksX8_skip_1 6 rfl rfl)
theorem dX8_skip_31 : decode cX8_skip 31 = .ok (.putfield 79, 3) := dk_181 0 79 (dk_at dksX8_skip_1 7 rfl rfl)
theorem dX8_skip_34 : decode cX8_skip 34 = .ok (.goto (-34), 3) := dk_167 255 222 (dk_at dksX8_skip_1 10 rfl rfl)
theorem dX8_skip_37 : decode cX8_skip 37 = .ok (.return_, 1) := dk_177 (dk_at dksX8_skip_1 13 rfl rfl)
abbrev cX8_letter : ByteArray := prog_23_method_20_code
def yX8_letter : MethodName := ⟨RX8, "letter", "(I)I"⟩
def dkwX8_letter_1 : List UInt8 := [180, 0, 76, 27, 96, 46, 172]
abbrev dktX8_letter_1 : List UInt8 := dkwX8_letter_1 ++ []
def dkwX8_letter_0 : List UInt8 := [42, 180, 0, 76, 2, 160, 0, 12, 42, 180, 0, 22, 27, 46, 167, 0, 14, 42, 180, 0, 7, 42]
abbrev dktX8_letter_0 : List UInt8 := dkwX8_letter_0 ++ dktX8_letter_1
theorem dksX8_letter_0 : cX8_letter.data.toList.drop 0 = dktX8_letter_0 := by decide +kernel
theorem dksX8_letter_1 : cX8_letter.data.toList.drop 22 = dktX8_letter_1 := dk_seg dksX8_letter_0 22 rfl rfl
theorem dX8_letter_0 : decode cX8_letter 0 = .ok (.aload_n 0, 1) := dk_42 (dk_at dksX8_letter_0 0 rfl rfl)
theorem dX8_letter_1 : decode cX8_letter 1 = .ok (.getfield 76, 3) := dk_180 0 76 (dk_at dksX8_letter_0 1 rfl rfl)
theorem dX8_letter_4 : decode cX8_letter 4 = .ok (.iconst (-1), 1) := dk_2 (dk_at dksX8_letter_0 4 rfl rfl)
theorem dX8_letter_5 : decode cX8_letter 5 = .ok (.if_icmp .ne 12, 3) := dk_160 0 12 (dk_at dksX8_letter_0 5 rfl rfl)
theorem dX8_letter_8 : decode cX8_letter 8 = .ok (.aload_n 0, 1) := dk_42 (dk_at dksX8_letter_0 8 rfl rfl)
theorem dX8_letter_9 : decode cX8_letter 9 = .ok (.getfield 22, 3) := dk_180 0 22 (dk_at dksX8_letter_0 9 rfl rfl)
theorem dX8_letter_12 : decode cX8_letter 12 = .ok (.iload_n 1, 1) := dk_27 (dk_at dksX8_letter_0 12 rfl rfl)
theorem dX8_letter_13 : decode cX8_letter 13 = .ok (.iaload, 1) := dk_46 (dk_at dksX8_letter_0 13 rfl rfl)
theorem dX8_letter_14 : decode cX8_letter 14 = .ok (.goto 14, 3) := dk_167 0 14 (dk_at dksX8_letter_0 14 rfl rfl)
theorem dX8_letter_17 : decode cX8_letter 17 = .ok (.aload_n 0, 1) := dk_42 (dk_at dksX8_letter_0 17 rfl rfl)
theorem dX8_letter_18 : decode cX8_letter 18 = .ok (.getfield 7, 3) := dk_180 0 7 (dk_at dksX8_letter_0 18 rfl rfl)
theorem dX8_letter_21 : decode cX8_letter 21 = .ok (.aload_n 0, 1) := dk_42 (dk_at dksX8_letter_0 21 rfl rfl)
theorem dX8_letter_22 : decode cX8_letter 22 = .ok (.getfield 76, 3) := dk_180 0 76 (dk_at dksX8_letter_1 0 rfl rfl)
theorem dX8_letter_25 : decode cX8_letter 25 = .ok (.iload_n 1, 1) := dk_27 (dk_at dksX8_letter_1 3 rfl rfl)
theorem dX8_letter_26 : decode cX8_letter 26 = .ok (.iadd, 1) := dk_96 (dk_at dksX8_letter_1 4 rfl rfl)
theorem dX8_letter_27 : decode cX8_letter 27 = .ok (.iaload, 1) := dk_46 (dk_at dksX8_letter_1 5 rfl rfl)
theorem dX8_letter_28 : decode cX8_letter 28 = .ok (.ireturn, 1) := dk_172 (dk_at dksX8_letter_1 6 rfl rfl)
abbrev cX8_wrong : ByteArray := prog_23_method_24_code
def yX8_wrong : MethodName := ⟨RX8, "wrong", "(I)V"⟩
def dkwX8_wrong_0 : List UInt8 := [42, 180, 0, 25, 2, 160, 0, 8, 42, 27, 181, 0, 25, 177]
abbrev dktX8_wrong_0 : List UInt8 := dkwX8_wrong_0 ++ []
theorem dksX8_wrong_0 : cX8_wrong.data.toList.drop 0 = dktX8_wrong_0 := by decide +kernel
theorem dX8_wrong_0 : decode cX8_wrong 0 = .ok (.aload_n 0, 1) := dk_42 (dk_at dksX8_wrong_0 0 rfl rfl)
theorem dX8_wrong_1 : decode cX8_wrong 1 = .ok (.getfield 25, 3) := dk_180 0 25 (dk_at dksX8_wrong_0 1 rfl rfl)
theorem dX8_wrong_4 : decode cX8_wrong 4 = .ok (.iconst (-1), 1) := dk_2 (dk_at dksX8_wrong_0 4 rfl rfl)
theorem dX8_wrong_5 : decode cX8_wrong 5 = .ok (.if_icmp .ne 8, 3) := dk_160 0 8 (dk_at dksX8_wrong_0 5 rfl rfl)
theorem dX8_wrong_8 : decode cX8_wrong 8 = .ok (.aload_n 0, 1) := dk_42 (dk_at dksX8_wrong_0 8 rfl rfl)
theorem dX8_wrong_9 : decode cX8_wrong 9 = .ok (.iload_n 1, 1) := dk_27 (dk_at dksX8_wrong_0 9 rfl rfl)
theorem dX8_wrong_10 : decode cX8_wrong 10 = .ok (.putfield 25, 3) := dk_181 0 25 (dk_at dksX8_wrong_0 10 rfl rfl)
theorem dX8_wrong_13 : decode cX8_wrong 13 = .ok (.return_, 1) := dk_177 (dk_at dksX8_wrong_0 13 rfl rfl)
abbrev cX8_lawLine : ByteArray := prog_23_method_46_code
def yX8_lawLine : MethodName := ⟨RX8, "lawLine", "()V"⟩
def dkwX8_lawLine_2 : List UInt8 := [42, 180, 0, 254, 2, 160, 0, 8, 42, 27, 181, 0, 254, 177]
abbrev dktX8_lawLine_2 : List UInt8 := dkwX8_lawLine_2 ++ []
def dkwX8_lawLine_1 : List UInt8 := [182, 0, 242, 153, 0, 7, 4, 167, 0, 4, 3, 61, 42, 180, 0, 25, 2, 160, 0, 20, 28, 153, 0, 16]
abbrev dktX8_lawLine_1 : List UInt8 := dkwX8_lawLine_1 ++ dktX8_lawLine_2
def dkwX8_lawLine_0 : List UInt8 := [42, 182, 0, 132, 60, 42, 180, 0, 25, 2, 159, 0, 4, 177, 42, 18, 252, 182, 0, 101, 153, 0, 10, 42]
abbrev dktX8_lawLine_0 : List UInt8 := dkwX8_lawLine_0 ++ dktX8_lawLine_1
theorem dksX8_lawLine_0 : cX8_lawLine.data.toList.drop 0 = dktX8_lawLine_0 := by decide +kernel
theorem dksX8_lawLine_1 : cX8_lawLine.data.toList.drop 24 = dktX8_lawLine_1 := dk_seg dksX8_lawLine_0 24 rfl rfl
theorem dksX8_lawLine_2 : cX8_lawLine.data.toList.drop 48 = dktX8_lawLine_2 := dk_seg dksX8_lawLine_1 24 rfl rfl
theorem dX8_lawLine_0 : decode cX8_lawLine 0 = .ok (.aload_n 0, 1) := dk_42 (dk_at dksX8_lawLine_0 0 rfl rfl)
theorem dX8_lawLine_1 : decode cX8_lawLine 1 = .ok (.invokevirtual 132, 3) := dk_182 0 132 (dk_at dksX8_lawLine_0 1 rfl rfl)
theorem dX8_lawLine_4 : decode cX8_lawLine 4 = .ok (.istore_n 1, 1) := dk_60 (dk_at dksX8_lawLine_0 4 rfl rfl)
theorem dX8_lawLine_5 : decode cX8_lawLine 5 = .ok (.aload_n 0, 1) := dk_42 (dk_at dksX8_lawLine_0 5 rfl rfl)
theorem dX8_lawLine_6 : decode cX8_lawLine 6 = .ok (.getfield 25, 3) := dk_180 0 25 (dk_at dksX8_lawLine_0 6 rfl rfl)
theorem dX8_lawLine_9 : decode cX8_lawLine 9 = .ok (.iconst (-1), 1) := dk_2 (dk_at dksX8_lawLine_0 9 rfl rfl)
theorem dX8_lawLine_10 : decode cX8_lawLine 10 = .ok (.if_icmp .eq 4, 3) := dk_159 0 4 (dk_at dksX8_lawLine_0 10 rfl rfl)
theorem dX8_lawLine_13 : decode cX8_lawLine 13 = .ok (.return_, 1) := dk_177 (dk_at dksX8_lawLine_0 13 rfl rfl)
theorem dX8_lawLine_14 : decode cX8_lawLine 14 = .ok (.aload_n 0, 1) := dk_42 (dk_at dksX8_lawLine_0 14 rfl rfl)
theorem dX8_lawLine_15 : decode cX8_lawLine 15 = .ok (.ldc 252, 2) := dk_18 252 (dk_at dksX8_lawLine_0 15 rfl rfl)
theorem dX8_lawLine_17 : decode cX8_lawLine 17 = .ok (.invokevirtual 101, 3) := dk_182 0 101 (dk_at dksX8_lawLine_0 17 rfl rfl)
theorem dX8_lawLine_20 : decode cX8_lawLine 20 = .ok (.ifCond .eq 10, 3) := dk_153 0 10 (dk_at dksX8_lawLine_0 20 rfl rfl)
theorem dX8_lawLine_23 : decode cX8_lawLine 23 = .ok (.aload_n 0, 1) := dk_42 (dk_at dksX8_lawLine_0 23 rfl rfl)
theorem dX8_lawLine_24 : decode cX8_lawLine 24 = .ok (.invokevirtual 242, 3) := dk_182 0 242 (dk_at dksX8_lawLine_1 0 rfl rfl)
theorem dX8_lawLine_27 : decode cX8_lawLine 27 = .ok (.ifCond .eq 7, 3) := dk_153 0 7 (dk_at dksX8_lawLine_1 3 rfl rfl)
theorem dX8_lawLine_30 : decode cX8_lawLine 30 = .ok (.iconst 1, 1) := dk_4 (dk_at dksX8_lawLine_1 6 rfl rfl)
theorem dX8_lawLine_31 : decode cX8_lawLine 31 = .ok (.goto 4, 3) := dk_167 0 4 (dk_at dksX8_lawLine_1 7 rfl rfl)
theorem dX8_lawLine_34 : decode cX8_lawLine 34 = .ok (.iconst 0, 1) := dk_3 (dk_at dksX8_lawLine_1 10 rfl rfl)
theorem dX8_lawLine_35 : decode cX8_lawLine 35 = .ok (.istore_n 2, 1) := dk_61 (dk_at dksX8_lawLine_1 11 rfl rfl)
theorem dX8_lawLine_36 : decode cX8_lawLine 36 = .ok (.aload_n 0, 1) := dk_42 (dk_at dksX8_lawLine_1 12 rfl rfl)
theorem dX8_lawLine_37 : decode cX8_lawLine 37 = .ok (.getfield 25, 3) := dk_180 0 25 (dk_at dksX8_lawLine_1 13 rfl rfl)
theorem dX8_lawLine_40 : decode cX8_lawLine 40 = .ok (.iconst (-1), 1) := dk_2 (dk_at dksX8_lawLine_1 16 rfl rfl)
theorem dX8_lawLine_41 : decode cX8_lawLine 41 = .ok (.if_icmp .ne 20, 3) := dk_160 0 20 (dk_at dksX8_lawLine_1 17 rfl rfl)
theorem dX8_lawLine_44 : decode cX8_lawLine 44 = .ok (.iload_n 2, 1) := dk_28 (dk_at dksX8_lawLine_1 20 rfl rfl)
theorem dX8_lawLine_45 : decode cX8_lawLine 45 = .ok (.ifCond .eq 16, 3) := dk_153 0 16 (dk_at dksX8_lawLine_1 21 rfl rfl)
theorem dX8_lawLine_48 : decode cX8_lawLine 48 = .ok (.aload_n 0, 1) := dk_42 (dk_at dksX8_lawLine_2 0 rfl rfl)
theorem dX8_lawLine_49 : decode cX8_lawLine 49 = .ok (.getfield 254, 3) := dk_180 0 254 (dk_at dksX8_lawLine_2 1 rfl rfl)
theorem dX8_lawLine_52 : decode cX8_lawLine 52 = .ok (.iconst (-1), 1) := dk_2 (dk_at dksX8_lawLine_2 4 rfl rfl)
theorem dX8_lawLine_53 : decode cX8_lawLine 53 = .ok (.if_icmp .ne 8, 3) := dk_160 0 8 (dk_at dksX8_lawLine_2 5 rfl rfl)
theorem dX8_lawLine_56 : decode cX8_lawLine 56 = .ok (.aload_n 0, 1) := dk_42 (dk_at dksX8_lawLine_2 8 rfl rfl)
theorem dX8_lawLine_57 : decode cX8_lawLine 57 = .ok (.iload_n 1, 1) := dk_27 (dk_at dksX8_lawLine_2 9 rfl rfl)
theorem dX8_lawLine_58 : decode cX8_lawLine 58 = .ok (.putfield 254, 3) := dk_181 0 254 (dk_at dksX8_lawLine_2 10 rfl rfl)
theorem dX8_lawLine_61 : decode cX8_lawLine 61 = .ok (.return_, 1) := dk_177 (dk_at dksX8_lawLine_2 13 rfl rfl)
abbrev cX8_greeting : ByteArray := prog_23_method_28_code
def yX8_greeting : MethodName := ⟨RX8, "greeting", "()I"⟩
def dkwX8_greeting_4 : List UInt8 := [4, 167, 0, 4, 3, 96, 172]
abbrev dktX8_greeting_4 : List UInt8 := dkwX8_greeting_4 ++ []
def dkwX8_greeting_3 : List UInt8 := [182, 0, 101, 61, 28, 154, 0, 9, 42, 18, 130, 182, 0, 120, 16, 14, 5, 27, 104, 96, 28, 153, 0, 7]
abbrev dktX8_greeting_3 : List UInt8 := dkwX8_greeting_3 ++ dktX8_greeting_4
def dkwX8_greeting_2 : List UInt8 := [182, 0, 120, 42, 4, 7, 182, 0, 124, 60, 42, 180, 0, 25, 2, 159, 0, 5, 3, 172, 42, 18, 128]
abbrev dktX8_greeting_2 : List UInt8 := dkwX8_greeting_2 ++ dktX8_greeting_3
def dkwX8_greeting_1 : List UInt8 := [182, 0, 101, 153, 0, 6, 16, 8, 172, 42, 18, 116, 182, 0, 101, 153, 0, 6, 16, 24, 172, 42, 18, 118]
abbrev dktX8_greeting_1 : List UInt8 := dkwX8_greeting_1 ++ dktX8_greeting_2
def dkwX8_greeting_0 : List UInt8 := [42, 180, 0, 25, 2, 159, 0, 5, 3, 172, 42, 18, 112, 182, 0, 101, 153, 0, 5, 3, 172, 42, 18, 114]
abbrev dktX8_greeting_0 : List UInt8 := dkwX8_greeting_0 ++ dktX8_greeting_1
theorem dksX8_greeting_0 : cX8_greeting.data.toList.drop 0 = dktX8_greeting_0 := by decide +kernel
theorem dksX8_greeting_1 : cX8_greeting.data.toList.drop 24 = dktX8_greeting_1 := dk_seg dksX8_greeting_0 24 rfl rfl
theorem dksX8_greeting_2 : cX8_greeting.data.toList.drop 48 = dktX8_greeting_2 := dk_seg dksX8_greeting_1 24 rfl rfl
theorem dksX8_greeting_3 : cX8_greeting.data.toList.drop 71 = dktX8_greeting_3 := dk_seg dksX8_greeting_2 23 rfl rfl
theorem dksX8_greeting_4 : cX8_greeting.data.toList.drop 95 = dktX8_greeting_4 := dk_seg dksX8_greeting_3 24 rfl rfl
theorem dX8_greeting_0 : decode cX8_greeting 0 = .ok (.aload_n 0, 1) := dk_42 (dk_at dksX8_greeting_0 0 rfl rfl)
theorem dX8_greeting_1 : decode cX8_greeting 1 = .ok (.getfield 25, 3) := dk_180 0 25 (dk_at dksX8_greeting_0 1 rfl rfl)
theorem dX8_greeting_4 : decode cX8_greeting 4 = .ok (.iconst (-1), 1) := dk_2 (dk_at dksX8_greeting_0 4 rfl rfl)
theorem dX8_greeting_5 : decode cX8_greeting 5 = .ok (.if_icmp .eq 5, 3) := dk_159 0 5 (dk_at dksX8_greeting_0 5 rfl rfl)
theorem dX8_greeting_8 : decode cX8_greeting 8 = .ok (.iconst 0, 1) := dk_3 (dk_at dksX8_greeting_0 8 rfl rfl)
theorem dX8_greeting_9 : decode cX8_greeting 9 = .ok (.ireturn, 1) := dk_172 (dk_at dksX8_greeting_0 9 rfl rfl)
theorem dX8_greeting_10 : decode cX8_greeting 10 = .ok (.aload_n 0, 1) := dk_42 (dk_at dksX8_greeting_0 10 rfl rfl)
theorem dX8_greeting_11 : decode cX8_greeting 11 = .ok (.ldc 112, 2) := dk_18 112 (dk_at dksX8_greeting_0 11 rfl rfl)
theorem dX8_greeting_13 : decode cX8_greeting 13 = .ok (.invokevirtual 101, 3) := dk_182 0 101 (dk_at dksX8_greeting_0 13 rfl rfl)
theorem dX8_greeting_16 : decode cX8_greeting 16 = .ok (.ifCond .eq 5, 3) := dk_153 0 5 (dk_at dksX8_greeting_0 16 rfl rfl)
theorem dX8_greeting_19 : decode cX8_greeting 19 = .ok (.iconst 0, 1) := dk_3 (dk_at dksX8_greeting_0 19 rfl rfl)
theorem dX8_greeting_20 : decode cX8_greeting 20 = .ok (.ireturn, 1) := dk_172 (dk_at dksX8_greeting_0 20 rfl rfl)
theorem dX8_greeting_21 : decode cX8_greeting 21 = .ok (.aload_n 0, 1) := dk_42 (dk_at dksX8_greeting_0 21 rfl rfl)
theorem dX8_greeting_22 : decode cX8_greeting 22 = .ok (.ldc 114, 2) := dk_18 114 (dk_at dksX8_greeting_0 22 rfl rfl)
theorem dX8_greeting_24 : decode cX8_greeting 24 = .ok (.invokevirtual 101, 3) := dk_182 0 101 (dk_at dksX8_greeting_1 0 rfl rfl)
theorem dX8_greeting_27 : decode cX8_greeting 27 = .ok (.ifCond .eq 6, 3) := dk_153 0 6 (dk_at dksX8_greeting_1 3 rfl rfl)
theorem dX8_greeting_30 : decode cX8_greeting 30 = .ok (.bipush 8, 2) := dk_16 8 (dk_at dksX8_greeting_1 6 rfl rfl)
theorem dX8_greeting_32 : decode cX8_greeting 32 = .ok (.ireturn, 1) := dk_172 (dk_at dksX8_greeting_1 8 rfl rfl)
theorem dX8_greeting_33 : decode cX8_greeting 33 = .ok (.aload_n 0, 1) := dk_42 (dk_at dksX8_greeting_1 9 rfl rfl)
theorem dX8_greeting_34 : decode cX8_greeting 34 = .ok (.ldc 116, 2) := dk_18 116 (dk_at dksX8_greeting_1 10 rfl rfl)
theorem dX8_greeting_36 : decode cX8_greeting 36 = .ok (.invokevirtual 101, 3) := dk_182 0 101 (dk_at dksX8_greeting_1 12 rfl rfl)
theorem dX8_greeting_39 : decode cX8_greeting 39 = .ok (.ifCond .eq 6, 3) := dk_153 0 6 (dk_at dksX8_greeting_1 15 rfl rfl)
theorem dX8_greeting_42 : decode cX8_greeting 42 = .ok (.bipush 24, 2) := dk_16 24 (dk_at dksX8_greeting_1 18 rfl rfl)
theorem dX8_greeting_44 : decode cX8_greeting 44 = .ok (.ireturn, 1) := dk_172 (dk_at dksX8_greeting_1 20 rfl rfl)
theorem dX8_greeting_45 : decode cX8_greeting 45 = .ok (.aload_n 0, 1) := dk_42 (dk_at dksX8_greeting_1 21 rfl rfl)
theorem dX8_greeting_46 : decode cX8_greeting 46 = .ok (.ldc 118, 2) := dk_18 118 (dk_at dksX8_greeting_1 22 rfl rfl)
theorem dX8_greeting_48 : decode cX8_greeting 48 = .ok (.invokevirtual 120, 3) := dk_182 0 120 (dk_at dksX8_greeting_2 0 rfl rfl)
theorem dX8_greeting_51 : decode cX8_greeting 51 = .ok (.aload_n 0, 1) := dk_42 (dk_at dksX8_greeting_2 3 rfl rfl)
theorem dX8_greeting_52 : decode cX8_greeting 52 = .ok (.iconst 1, 1) := dk_4 (dk_at dksX8_greeting_2 4 rfl rfl)
theorem dX8_greeting_53 : decode cX8_greeting 53 = .ok (.iconst 4, 1) := dk_7 (dk_at dksX8_greeting_2 5 rfl rfl)
theorem dX8_greeting_54 : decode cX8_greeting 54 = .ok (.invokevirtual 124, 3) := dk_182 0 124 (dk_at dksX8_greeting_2 6 rfl rfl)
theorem dX8_greeting_57 : decode cX8_greeting 57 = .ok (.istore_n 1, 1) := dk_60 (dk_at dksX8_greeting_2 9 rfl rfl)
theorem dX8_greeting_58 : decode cX8_greeting 58 = .ok (.aload_n 0, 1) := dk_42 (dk_at dksX8_greeting_2 10 rfl rfl)
theorem dX8_greeting_59 : decode cX8_greeting 59 = .ok (.getfield 25, 3) := dk_180 0 25 (dk_at dksX8_greeting_2 11 rfl rfl)
theorem dX8_greeting_62 : decode cX8_greeting 62 = .ok (.iconst (-1), 1) := dk_2 (dk_at dksX8_greeting_2 14 rfl rfl)
theorem dX8_greeting_63 : decode cX8_greeting 63 = .ok (.if_icmp .eq 5, 3) := dk_159 0 5 (dk_at dksX8_greeting_2 15 rfl rfl)
theorem dX8_greeting_66 : decode cX8_greeting 66 = .ok (.iconst 0, 1) := dk_3 (dk_at dksX8_greeting_2 18 rfl rfl)
theorem dX8_greeting_67 : decode cX8_greeting 67 = .ok (.ireturn, 1) := dk_172 (dk_at dksX8_greeting_2 19 rfl rfl)
theorem dX8_greeting_68 : decode cX8_greeting 68 = .ok (.aload_n 0, 1) := dk_42 (dk_at dksX8_greeting_2 20 rfl rfl)
theorem dX8_greeting_69 : decode cX8_greeting 69 = .ok (.ldc 128, 2) := dk_18 128 (dk_at dksX8_greeting_2 21 rfl rfl)
theorem dX8_greeting_71 : decode cX8_greeting 71 = .ok (.invokevirtual 101, 3) := dk_182 0 101 (dk_at dksX8_greeting_3 0 rfl rfl)
theorem dX8_greeting_74 : decode cX8_greeting 74 = .ok (.istore_n 2, 1) := dk_61 (dk_at dksX8_greeting_3 3 rfl rfl)
theorem dX8_greeting_75 : decode cX8_greeting 75 = .ok (.iload_n 2, 1) := dk_28 (dk_at dksX8_greeting_3 4 rfl rfl)
theorem dX8_greeting_76 : decode cX8_greeting 76 = .ok (.ifCond .ne 9, 3) := dk_154 0 9 (dk_at dksX8_greeting_3 5 rfl rfl)
theorem dX8_greeting_79 : decode cX8_greeting 79 = .ok (.aload_n 0, 1) := dk_42 (dk_at dksX8_greeting_3 8 rfl rfl)
theorem dX8_greeting_80 : decode cX8_greeting 80 = .ok (.ldc 130, 2) := dk_18 130 (dk_at dksX8_greeting_3 9 rfl rfl)
theorem dX8_greeting_82 : decode cX8_greeting 82 = .ok (.invokevirtual 120, 3) := dk_182 0 120 (dk_at dksX8_greeting_3 11 rfl rfl)
theorem dX8_greeting_85 : decode cX8_greeting 85 = .ok (.bipush 14, 2) := dk_16 14 (dk_at dksX8_greeting_3 14 rfl rfl)
theorem dX8_greeting_87 : decode cX8_greeting 87 = .ok (.iconst 2, 1) := dk_5 (dk_at dksX8_greeting_3 16 rfl rfl)
theorem dX8_greeting_88 : decode cX8_greeting 88 = .ok (.iload_n 1, 1) := dk_27 (dk_at dksX8_greeting_3 17 rfl rfl)
theorem dX8_greeting_89 : decode cX8_greeting 89 = .ok (.imul, 1) := dk_104 (dk_at dksX8_greeting_3 18 rfl rfl)
theorem dX8_greeting_90 : decode cX8_greeting 90 = .ok (.iadd, 1) := dk_96 (dk_at dksX8_greeting_3 19 rfl rfl)
theorem dX8_greeting_91 : decode cX8_greeting 91 = .ok (.iload_n 2, 1) := dk_28 (dk_at dksX8_greeting_3 20 rfl rfl)
theorem dX8_greeting_92 : decode cX8_greeting 92 = .ok (.ifCond .eq 7, 3) := dk_153 0 7 (dk_at dksX8_greeting_3 21 rfl rfl)
theorem dX8_greeting_95 : decode cX8_greeting 95 = .ok (.iconst 1, 1) := dk_4 (dk_at dksX8_greeting_4 0 rfl rfl)
theorem dX8_greeting_96 : decode cX8_greeting 96 = .ok (.goto 4, 3) := dk_167 0 4 (dk_at dksX8_greeting_4 1 rfl rfl)
theorem dX8_greeting_99 : decode cX8_greeting 99 = .ok (.iconst 0, 1) := dk_3 (dk_at dksX8_greeting_4 4 rfl rfl)
theorem dX8_greeting_100 : decode cX8_greeting 100 = .ok (.iadd, 1) := dk_96 (dk_at dksX8_greeting_4 5 rfl rfl)
theorem dX8_greeting_101 : decode cX8_greeting 101 = .ok (.ireturn, 1) := dk_172 (dk_at dksX8_greeting_4 6 rfl rfl)
abbrev cX8_has : ByteArray := prog_23_method_23_code
def yX8_has : MethodName := ⟨RX8, "has", "(Ljava/lang/String;)Z"⟩
def dkwX8_has_4 : List UInt8 := [4, 172]
abbrev dktX8_has_4 : List UInt8 := dkwX8_has_4 ++ []
def dkwX8_has_3 : List UInt8 := [182, 0, 85, 43, 29, 182, 0, 97, 159, 0, 5, 3, 172, 132, 3, 1, 167, 255, 225, 42, 28, 181, 0, 79]
abbrev dktX8_has_3 : List UInt8 := dkwX8_has_3 ++ dktX8_has_4
def dkwX8_has_2 : List UInt8 := [159, 0, 5, 3, 172, 3, 62, 29, 43, 182, 0, 91, 162, 0, 29, 42, 42, 180, 0, 79, 29, 96]
abbrev dktX8_has_2 : List UInt8 := dkwX8_has_2 ++ dktX8_has_3
def dkwX8_has_1 : List UInt8 := [16, 122, 184, 0, 59, 153, 0, 9, 132, 2, 1, 167, 255, 230, 28, 42, 180, 0, 79, 100, 43, 182, 0, 91]
abbrev dktX8_has_1 : List UInt8 := dkwX8_has_1 ++ dktX8_has_2
def dkwX8_has_0 : List UInt8 := [42, 182, 0, 88, 42, 180, 0, 79, 61, 28, 42, 180, 0, 82, 162, 0, 24, 42, 28, 182, 0, 85, 16, 97]
abbrev dktX8_has_0 : List UInt8 := dkwX8_has_0 ++ dktX8_has_1
theorem dksX8_has_0 : cX8_has.data.toList.drop 0 = dktX8_has_0 := by decide +kernel
theorem dksX8_has_1 : cX8_has.data.toList.drop 24 = dktX8_has_1 := dk_seg dksX8_has_0 24 rfl rfl
theorem dksX8_has_2 : cX8_has.data.toList.drop 48 = dktX8_has_2 := dk_seg dksX8_has_1 24 rfl rfl
theorem dksX8_has_3 : cX8_has.data.toList.drop 70 = dktX8_has_3 := dk_seg dksX8_has_2 22 rfl rfl
theorem dksX8_has_4 : cX8_has.data.toList.drop 94 = dktX8_has_4 := dk_seg dksX8_has_3 24 rfl rfl
theorem dX8_has_0 : decode cX8_has 0 = .ok (.aload_n 0, 1) := dk_42 (dk_at dksX8_has_0 0 rfl rfl)
theorem dX8_has_1 : decode cX8_has 1 = .ok (.invokevirtual 88, 3) := dk_182 0 88 (dk_at dksX8_has_0 1 rfl rfl)
theorem dX8_has_4 : decode cX8_has 4 = .ok (.aload_n 0, 1) := dk_42 (dk_at dksX8_has_0 4 rfl rfl)
theorem dX8_has_5 : decode cX8_has 5 = .ok (.getfield 79, 3) := dk_180 0 79 (dk_at dksX8_has_0 5 rfl rfl)
theorem dX8_has_8 : decode cX8_has 8 = .ok (.istore_n 2, 1) := dk_61 (dk_at dksX8_has_0 8 rfl rfl)
theorem dX8_has_9 : decode cX8_has 9 = .ok (.iload_n 2, 1) := dk_28 (dk_at dksX8_has_0 9 rfl rfl)
theorem dX8_has_10 : decode cX8_has 10 = .ok (.aload_n 0, 1) := dk_42 (dk_at dksX8_has_0 10 rfl rfl)
theorem dX8_has_11 : decode cX8_has 11 = .ok (.getfield 82, 3) := dk_180 0 82 (dk_at dksX8_has_0 11 rfl rfl)
theorem dX8_has_14 : decode cX8_has 14 = .ok (.if_icmp .ge 24, 3) := dk_162 0 24 (dk_at dksX8_has_0 14 rfl rfl)
theorem dX8_has_17 : decode cX8_has 17 = .ok (.aload_n 0, 1) := dk_42 (dk_at dksX8_has_0 17 rfl rfl)
theorem dX8_has_18 : decode cX8_has 18 = .ok (.iload_n 2, 1) := dk_28 (dk_at dksX8_has_0 18 rfl rfl)
theorem dX8_has_19 : decode cX8_has 19 = .ok (.invokevirtual 85, 3) := dk_182 0 85 (dk_at dksX8_has_0 19 rfl rfl)
theorem dX8_has_22 : decode cX8_has 22 = .ok (.bipush 97, 2) := dk_16 97 (dk_at dksX8_has_0 22 rfl rfl)
theorem dX8_has_24 : decode cX8_has 24 = .ok (.bipush 122, 2) := dk_16 122 (dk_at dksX8_has_1 0 rfl rfl)
theorem dX8_has_26 : decode cX8_has 26 = .ok (.invokestatic 59, 3) := dk_184 0 59 (dk_at dksX8_has_1 2 rfl rfl)
theorem dX8_has_29 : decode cX8_has 29 = .ok (.ifCond .eq 9, 3) := dk_153 0 9 (dk_at dksX8_has_1 5 rfl rfl)
theorem dX8_has_32 : decode cX8_has 32 = .ok (.iinc 2 1, 3) := dk_132 2 1 (dk_at dksX8_has_1 8 rfl rfl)
theorem dX8_has_35 : decode cX8_has 35 = .ok (.goto (-26), 3) := dk_167 255 230 (dk_at dksX8_has_1 11 rfl rfl)
theorem dX8_has_38 : decode cX8_has 38 = .ok (.iload_n 2, 1) := dk_28 (dk_at dksX8_has_1 14 rfl rfl)
theorem dX8_has_39 : decode cX8_has 39 = .ok (.aload_n 0, 1) := dk_42 (dk_at dksX8_has_1 15 rfl rfl)
theorem dX8_has_40 : decode cX8_has 40 = .ok (.getfield 79, 3) := dk_180 0 79 (dk_at dksX8_has_1 16 rfl rfl)
theorem dX8_has_43 : decode cX8_has 43 = .ok (.isub, 1) := dk_100 (dk_at dksX8_has_1 19 rfl rfl)
theorem dX8_has_44 : decode cX8_has 44 = .ok (.aload_n 1, 1) := dk_43 (dk_at dksX8_has_1 20 rfl rfl)
theorem dX8_has_45 : decode cX8_has 45 = .ok (.invokevirtual 91, 3) := dk_182 0 91 (dk_at dksX8_has_1 21 rfl rfl)
theorem dX8_has_48 : decode cX8_has 48 = .ok (.if_icmp .eq 5, 3) := dk_159 0 5 (dk_at dksX8_has_2 0 rfl rfl)
theorem dX8_has_51 : decode cX8_has 51 = .ok (.iconst 0, 1) := dk_3 (dk_at dksX8_has_2 3 rfl rfl)
theorem dX8_has_52 : decode cX8_has 52 = .ok (.ireturn, 1) := dk_172 (dk_at dksX8_has_2 4 rfl rfl)
theorem dX8_has_53 : decode cX8_has 53 = .ok (.iconst 0, 1) := dk_3 (dk_at dksX8_has_2 5 rfl rfl)
theorem dX8_has_54 : decode cX8_has 54 = .ok (.istore_n 3, 1) := dk_62 (dk_at dksX8_has_2 6 rfl rfl)
theorem dX8_has_55 : decode cX8_has 55 = .ok (.iload_n 3, 1) := dk_29 (dk_at dksX8_has_2 7 rfl rfl)
theorem dX8_has_56 : decode cX8_has 56 = .ok (.aload_n 1, 1) := dk_43 (dk_at dksX8_has_2 8 rfl rfl)
theorem dX8_has_57 : decode cX8_has 57 = .ok (.invokevirtual 91, 3) := dk_182 0 91 (dk_at dksX8_has_2 9 rfl rfl)
theorem dX8_has_60 : decode cX8_has 60 = .ok (.if_icmp .ge 29, 3) := dk_162 0 29 (dk_at dksX8_has_2 12 rfl rfl)
theorem dX8_has_63 : decode cX8_has 63 = .ok (.aload_n 0, 1) := dk_42 (dk_at dksX8_has_2 15 rfl rfl)
theorem dX8_has_64 : decode cX8_has 64 = .ok (.aload_n 0, 1) := dk_42 (dk_at dksX8_has_2 16 rfl rfl)
theorem dX8_has_65 : decode cX8_has 65 = .ok (.getfield 79, 3) := dk_180 0 79 (dk_at dksX8_has_2 17 rfl rfl)
theorem dX8_has_68 : decode cX8_has 68 = .ok (.iload_n 3, 1) := dk_29 (dk_at dksX8_has_2 20 rfl rfl)
theorem dX8_has_69 : decode cX8_has 69 = .ok (.iadd, 1) := dk_96 (dk_at dksX8_has_2 21 rfl rfl)
theorem dX8_has_70 : decode cX8_has 70 = .ok (.invokevirtual 85, 3) := dk_182 0 85 (dk_at dksX8_has_3 0 rfl rfl)
theorem dX8_has_73 : decode cX8_has 73 = .ok (.aload_n 1, 1) := dk_43 (dk_at dksX8_has_3 3 rfl rfl)
theorem dX8_has_74 : decode cX8_has 74 = .ok (.iload_n 3, 1) := dk_29 (dk_at dksX8_has_3 4 rfl rfl)
theorem dX8_has_75 : decode cX8_has 75 = .ok (.invokevirtual 97, 3) := dk_182 0 97 (dk_at dksX8_has_3 5 rfl rfl)
theorem dX8_has_78 : decode cX8_has 78 = .ok (.if_icmp .eq 5, 3) := dk_159 0 5 (dk_at dksX8_has_3 8 rfl rfl)
theorem dX8_has_81 : decode cX8_has 81 = .ok (.iconst 0, 1) := dk_3 (dk_at dksX8_has_3 11 rfl rfl)
theorem dX8_has_82 : decode cX8_has 82 = .ok (.ireturn, 1) := dk_172 (dk_at dksX8_has_3 12 rfl rfl)
theorem dX8_has_83 : decode cX8_has 83 = .ok (.iinc 3 1, 3) := dk_132 3 1 (dk_at dksX8_has_3 13 rfl rfl)
theorem dX8_has_86 : decode cX8_has 86 = .ok (.goto (-31), 3) := dk_167 255 225 (dk_at dksX8_has_3 16 rfl rfl)
theorem dX8_has_89 : decode cX8_has 89 = .ok (.aload_n 0, 1) := dk_42 (dk_at dksX8_has_3 19 rfl rfl)
theorem dX8_has_90 : decode cX8_has 90 = .ok (.iload_n 2, 1) := dk_28 (dk_at dksX8_has_3 20 rfl rfl)
theorem dX8_has_91 : decode cX8_has 91 = .ok (.putfield 79, 3) := dk_181 0 79 (dk_at dksX8_has_3 21 rfl rfl)
theorem dX8_has_94 : decode cX8_has 94 = .ok (.iconst 1, 1) := dk_4 (dk_at dksX8_has_4 0 rfl rfl)
theorem dX8_has_95 : decode cX8_has 95 = .ok (.ireturn, 1) := dk_172 (dk_at dksX8_has_4 1 rfl rfl)
abbrev cX8_must : ByteArray := prog_23_method_25_code
def yX8_must : MethodName := ⟨RX8, "must", "(Ljava/lang/String;)V"⟩
def dkwX8_must_1 : List UInt8 := [177]
abbrev dktX8_must_1 : List UInt8 := dkwX8_must_1 ++ []
def dkwX8_must_0 : List UInt8 := [42, 180, 0, 25, 2, 160, 0, 19, 42, 43, 182, 0, 101, 154, 0, 11, 42, 42, 180, 0, 79, 182, 0, 105]
abbrev dktX8_must_0 : List UInt8 := dkwX8_must_0 ++ dktX8_must_1
theorem dksX8_must_0 : cX8_must.data.toList.drop 0 = dktX8_must_0 := by decide +kernel
theorem dksX8_must_1 : cX8_must.data.toList.drop 24 = dktX8_must_1 := dk_seg dksX8_must_0 24 rfl rfl
theorem dX8_must_0 : decode cX8_must 0 = .ok (.aload_n 0, 1) := dk_42 (dk_at dksX8_must_0 0 rfl rfl)
theorem dX8_must_1 : decode cX8_must 1 = .ok (.getfield 25, 3) := dk_180 0 25 (dk_at dksX8_must_0 1 rfl rfl)
theorem dX8_must_4 : decode cX8_must 4 = .ok (.iconst (-1), 1) := dk_2 (dk_at dksX8_must_0 4 rfl rfl)
theorem dX8_must_5 : decode cX8_must 5 = .ok (.if_icmp .ne 19, 3) := dk_160 0 19 (dk_at dksX8_must_0 5 rfl rfl)
theorem dX8_must_8 : decode cX8_must 8 = .ok (.aload_n 0, 1) := dk_42 (dk_at dksX8_must_0 8 rfl rfl)
theorem dX8_must_9 : decode cX8_must 9 = .ok (.aload_n 1, 1) := dk_43 (dk_at dksX8_must_0 9 rfl rfl)
theorem dX8_must_10 : decode cX8_must 10 = .ok (.invokevirtual 101, 3) := dk_182 0 101 (dk_at dksX8_must_0 10 rfl rfl)
theorem dX8_must_13 : decode cX8_must 13 = .ok (.ifCond .ne 11, 3) := dk_154 0 11 (dk_at dksX8_must_0 13 rfl rfl)
theorem dX8_must_16 : decode cX8_must 16 = .ok (.aload_n 0, 1) := dk_42 (dk_at dksX8_must_0 16 rfl rfl)
theorem dX8_must_17 : decode cX8_must 17 = .ok (.aload_n 0, 1) := dk_42 (dk_at dksX8_must_0 17 rfl rfl)
theorem dX8_must_18 : decode cX8_must 18 = .ok (.getfield 79, 3) := dk_180 0 79 (dk_at dksX8_must_0 18 rfl rfl)
theorem dX8_must_21 : decode cX8_must 21 = .ok (.invokevirtual 105, 3) := dk_182 0 105 (dk_at dksX8_must_0 21 rfl rfl)
theorem dX8_must_24 : decode cX8_must 24 = .ok (.return_, 1) := dk_177 (dk_at dksX8_must_1 0 rfl rfl)
abbrev cX8_figures : ByteArray := prog_23_method_27_code
def yX8_figures : MethodName := ⟨RX8, "figures", "(II)I"⟩
def dkwX8_figures_5 : List UInt8 := [164, 0, 8, 42, 29, 182, 0, 105, 21, 4, 172]
abbrev dktX8_figures_5 : List UInt8 := dkwX8_figures_5 ++ []
def dkwX8_figures_4 : List UInt8 := [159, 0, 25, 42, 180, 0, 79, 29, 100, 6, 163, 0, 15, 21, 4, 27, 161, 0, 9, 21, 4, 28]
abbrev dktX8_figures_4 : List UInt8 := dkwX8_figures_4 ++ dktX8_figures_5
def dkwX8_figures_3 : List UInt8 := [16, 48, 100, 54, 4, 42, 89, 180, 0, 79, 4, 96, 181, 0, 79, 167, 255, 188, 42, 180, 0, 79, 29]
abbrev dktX8_figures_3 : List UInt8 := dkwX8_figures_3 ++ dktX8_figures_4
def dkwX8_figures_2 : List UInt8 := [42, 180, 0, 79, 29, 100, 6, 163, 0, 35, 16, 10, 21, 4, 104, 42, 42, 180, 0, 79, 182, 0, 85, 96]
abbrev dktX8_figures_2 : List UInt8 := dkwX8_figures_2 ++ dktX8_figures_3
def dkwX8_figures_1 : List UInt8 := [180, 0, 82, 162, 0, 63, 42, 42, 180, 0, 79, 182, 0, 85, 16, 48, 16, 57, 184, 0, 59, 153, 0, 45]
abbrev dktX8_figures_1 : List UInt8 := dkwX8_figures_1 ++ dktX8_figures_2
def dkwX8_figures_0 : List UInt8 := [42, 180, 0, 25, 2, 159, 0, 5, 3, 172, 42, 182, 0, 109, 62, 3, 54, 4, 42, 180, 0, 79, 42]
abbrev dktX8_figures_0 : List UInt8 := dkwX8_figures_0 ++ dktX8_figures_1
theorem dksX8_figures_0 : cX8_figures.data.toList.drop 0 = dktX8_figures_0 := by decide +kernel
theorem dksX8_figures_1 : cX8_figures.data.toList.drop 23 = dktX8_figures_1 := dk_seg dksX8_figures_0 23 rfl rfl
theorem dksX8_figures_2 : cX8_figures.data.toList.drop 47 = dktX8_figures_2 := dk_seg dksX8_figures_1 24 rfl rfl
theorem dksX8_figures_3 : cX8_figures.data.toList.drop 71 = dktX8_figures_3 := dk_seg dksX8_figures_2 24 rfl rfl
theorem dksX8_figures_4 : cX8_figures.data.toList.drop 94 = dktX8_figures_4 := dk_seg dksX8_figures_3 23 rfl rfl
theorem dksX8_figures_5 : cX8_figures.data.toList.drop 116 = dktX8_figures_5 := dk_seg dksX8_figures_4 22 rfl rfl
theorem dX8_figures_0 : decode cX8_figures 0 = .ok (.aload_n 0, 1) := dk_42 (dk_at dksX8_figures_0 0 rfl rfl)
theorem dX8_figures_1 : decode cX8_figures 1 = .ok (.getfield 25, 3) := dk_180 0 25 (dk_at dksX8_figures_0 1 rfl rfl)
theorem dX8_figures_4 : decode cX8_figures 4 = .ok (.iconst (-1), 1) := dk_2 (dk_at dksX8_figures_0 4 rfl rfl)
theorem dX8_figures_5 : decode cX8_figures 5 = .ok (.if_icmp .eq 5, 3) := dk_159 0 5 (dk_at dksX8_figures_0 5 rfl rfl)
theorem dX8_figures_8 : decode cX8_figures 8 = .ok (.iconst 0, 1) := dk_3 (dk_at dksX8_figures_0 8 rfl rfl)
theorem dX8_figures_9 : decode cX8_figures 9 = .ok (.ireturn, 1) := dk_172 (dk_at dksX8_figures_0 9 rfl rfl)
theorem dX8_figures_10 : decode cX8_figures 10 = .ok (.aload_n 0, 1) := dk_42 (dk_at dksX8_figures_0 10 rfl rfl)
theorem dX8_figures_11 : decode cX8_figures 11 = .ok (.invokevirtual 109, 3) := dk_182 0 109 (dk_at dksX8_figures_0 11 rfl rfl)
theorem dX8_figures_14 : decode cX8_figures 14 = .ok (.istore_n 3, 1) := dk_62 (dk_at dksX8_figures_0 14 rfl rfl)
theorem dX8_figures_15 : decode cX8_figures 15 = .ok (.iconst 0, 1) := dk_3 (dk_at dksX8_figures_0 15 rfl rfl)
theorem dX8_figures_16 : decode cX8_figures 16 = .ok (.istore 4, 2) := dk_54 4 (dk_at dksX8_figures_0 16 rfl rfl)
theorem dX8_figures_18 : decode cX8_figures 18 = .ok (.aload_n 0, 1) := dk_42 (dk_at dksX8_figures_0 18 rfl rfl)
theorem dX8_figures_19 : decode cX8_figures 19 = .ok (.getfield 79, 3) := dk_180 0 79 (dk_at dksX8_figures_0 19 rfl rfl)
theorem dX8_figures_22 : decode cX8_figures 22 = .ok (.aload_n 0, 1) := dk_42 (dk_at dksX8_figures_0 22 rfl rfl)
theorem dX8_figures_23 : decode cX8_figures 23 = .ok (.getfield 82, 3) := dk_180 0 82 (dk_at dksX8_figures_1 0 rfl rfl)
theorem dX8_figures_26 : decode cX8_figures 26 = .ok (.if_icmp .ge 63, 3) := dk_162 0 63 (dk_at dksX8_figures_1 3 rfl rfl)
theorem dX8_figures_29 : decode cX8_figures 29 = .ok (.aload_n 0, 1) := dk_42 (dk_at dksX8_figures_1 6 rfl rfl)
theorem dX8_figures_30 : decode cX8_figures 30 = .ok (.aload_n 0, 1) := dk_42 (dk_at dksX8_figures_1 7 rfl rfl)
theorem dX8_figures_31 : decode cX8_figures 31 = .ok (.getfield 79, 3) := dk_180 0 79 (dk_at dksX8_figures_1 8 rfl rfl)
theorem dX8_figures_34 : decode cX8_figures 34 = .ok (.invokevirtual 85, 3) := dk_182 0 85 (dk_at dksX8_figures_1 11 rfl rfl)
theorem dX8_figures_37 : decode cX8_figures 37 = .ok (.bipush 48, 2) := dk_16 48 (dk_at dksX8_figures_1 14 rfl rfl)
theorem dX8_figures_39 : decode cX8_figures 39 = .ok (.bipush 57, 2) := dk_16 57 (dk_at dksX8_figures_1 16 rfl rfl)
theorem dX8_figures_41 : decode cX8_figures 41 = .ok (.invokestatic 59, 3) := dk_184 0 59 (dk_at dksX8_figures_1 18 rfl rfl)
theorem dX8_figures_44 : decode cX8_figures 44 = .ok (.ifCond .eq 45, 3) := dk_153 0 45 (dk_at dksX8_figures_1 21 rfl rfl)
theorem dX8_figures_47 : decode cX8_figures 47 = .ok (.aload_n 0, 1) := dk_42 (dk_at dksX8_figures_2 0 rfl rfl)
theorem dX8_figures_48 : decode cX8_figures 48 = .ok (.getfield 79, 3) := dk_180 0 79 (dk_at dksX8_figures_2 1 rfl rfl)
theorem dX8_figures_51 : decode cX8_figures 51 = .ok (.iload_n 3, 1) := dk_29 (dk_at dksX8_figures_2 4 rfl rfl)
theorem dX8_figures_52 : decode cX8_figures 52 = .ok (.isub, 1) := dk_100 (dk_at dksX8_figures_2 5 rfl rfl)
theorem dX8_figures_53 : decode cX8_figures 53 = .ok (.iconst 3, 1) := dk_6 (dk_at dksX8_figures_2 6 rfl rfl)
theorem dX8_figures_54 : decode cX8_figures 54 = .ok (.if_icmp .gt 35, 3) := dk_163 0 35 (dk_at dksX8_figures_2 7 rfl rfl)
theorem dX8_figures_57 : decode cX8_figures 57 = .ok (.bipush 10, 2) := dk_16 10 (dk_at dksX8_figures_2 10 rfl rfl)
theorem dX8_figures_59 : decode cX8_figures 59 = .ok (.iload 4, 2) := dk_21 4 (dk_at dksX8_figures_2 12 rfl rfl)
theorem dX8_figures_61 : decode cX8_figures 61 = .ok (.imul, 1) := dk_104 (dk_at dksX8_figures_2 14 rfl rfl)
theorem dX8_figures_62 : decode cX8_figures 62 = .ok (.aload_n 0, 1) := dk_42 (dk_at dksX8_figures_2 15 rfl rfl)
theorem dX8_figures_63 : decode cX8_figures 63 = .ok (.aload_n 0, 1) := dk_42 (dk_at dksX8_figures_2 16 rfl rfl)
theorem dX8_figures_64 : decode cX8_figures 64 = .ok (.getfield 79, 3) := dk_180 0 79 (dk_at dksX8_figures_2 17 rfl rfl)
theorem dX8_figures_67 : decode cX8_figures 67 = .ok (.invokevirtual 85, 3) := dk_182 0 85 (dk_at dksX8_figures_2 20 rfl rfl)
theorem dX8_figures_70 : decode cX8_figures 70 = .ok (.iadd, 1) := dk_96 (dk_at dksX8_figures_2 23 rfl rfl)
theorem dX8_figures_71 : decode cX8_figures 71 = .ok (.bipush 48, 2) := dk_16 48 (dk_at dksX8_figures_3 0 rfl rfl)
theorem dX8_figures_73 : decode cX8_figures 73 = .ok (.isub, 1) := dk_100 (dk_at dksX8_figures_3 2 rfl rfl)
theorem dX8_figures_74 : decode cX8_figures 74 = .ok (.istore 4, 2) := dk_54 4 (dk_at dksX8_figures_3 3 rfl rfl)
theorem dX8_figures_76 : decode cX8_figures 76 = .ok (.aload_n 0, 1) := dk_42 (dk_at dksX8_figures_3 5 rfl rfl)
theorem dX8_figures_77 : decode cX8_figures 77 = .ok (.dup, 1) := dk_89 (dk_at dksX8_figures_3 6 rfl rfl)
theorem dX8_figures_78 : decode cX8_figures 78 = .ok (.getfield 79, 3) := dk_180 0 79 (dk_at dksX8_figures_3 7 rfl rfl)
theorem dX8_figures_81 : decode cX8_figures 81 = .ok (.iconst 1, 1) := dk_4 (dk_at dksX8_figures_3 10 rfl rfl)
theorem dX8_figures_82 : decode cX8_figures 82 = .ok (.iadd, 1) := dk_96 (dk_at dksX8_figures_3 11 rfl rfl)
theorem dX8_figures_83 : decode cX8_figures 83 = .ok (.putfield 79, 3) := dk_181 0 79 (dk_at dksX8_figures_3 12 rfl rfl)
theorem dX8_figures_86 : decode cX8_figures 86 = .ok (.goto (-68), 3) := dk_167 255 188 (dk_at dksX8_figures_3 15 rfl rfl)
theorem dX8_figures_89 : decode cX8_figures 89 = .ok (.aload_n 0, 1) := dk_42 (dk_at dksX8_figures_3 18 rfl rfl)
theorem dX8_figures_90 : decode cX8_figures 90 = .ok (.getfield 79, 3) := dk_180 0 79 (dk_at dksX8_figures_3 19 rfl rfl)
theorem dX8_figures_93 : decode cX8_figures 93 = .ok (.iload_n 3, 1) := dk_29 (dk_at dksX8_figures_3 22 rfl rfl)
theorem dX8_figures_94 : decode cX8_figures 94 = .ok (.if_icmp .eq 25, 3) := dk_159 0 25 (dk_at dksX8_figures_4 0 rfl rfl)
theorem dX8_figures_97 : decode cX8_figures 97 = .ok (.aload_n 0, 1) := dk_42 (dk_at dksX8_figures_4 3 rfl rfl)
theorem dX8_figures_98 : decode cX8_figures 98 = .ok (.getfield 79, 3) := dk_180 0 79 (dk_at dksX8_figures_4 4 rfl rfl)
theorem dX8_figures_101 : decode cX8_figures 101 = .ok (.iload_n 3, 1) := dk_29 (dk_at dksX8_figures_4 7 rfl rfl)
theorem dX8_figures_102 : decode cX8_figures 102 = .ok (.isub, 1) := dk_100 (dk_at dksX8_figures_4 8 rfl rfl)
theorem dX8_figures_103 : decode cX8_figures 103 = .ok (.iconst 3, 1) := dk_6 (dk_at dksX8_figures_4 9 rfl rfl)
theorem dX8_figures_104 : decode cX8_figures 104 = .ok (.if_icmp .gt 15, 3) := dk_163 0 15 (dk_at dksX8_figures_4 10 rfl rfl)
theorem dX8_figures_107 : decode cX8_figures 107 = .ok (.iload 4, 2) := dk_21 4 (dk_at dksX8_figures_4 13 rfl rfl)
theorem dX8_figures_109 : decode cX8_figures 109 = .ok (.iload_n 1, 1) := dk_27 (dk_at dksX8_figures_4 15 rfl rfl)
theorem dX8_figures_110 : decode cX8_figures 110 = .ok (.if_icmp .lt 9, 3) := dk_161 0 9 (dk_at dksX8_figures_4 16 rfl rfl)
theorem dX8_figures_113 : decode cX8_figures 113 = .ok (.iload 4, 2) := dk_21 4 (dk_at dksX8_figures_4 19 rfl rfl)
theorem dX8_figures_115 : decode cX8_figures 115 = .ok (.iload_n 2, 1) := dk_28 (dk_at dksX8_figures_4 21 rfl rfl)
theorem dX8_figures_116 : decode cX8_figures 116 = .ok (.if_icmp .le 8, 3) := dk_164 0 8 (dk_at dksX8_figures_5 0 rfl rfl)
theorem dX8_figures_119 : decode cX8_figures 119 = .ok (.aload_n 0, 1) := dk_42 (dk_at dksX8_figures_5 3 rfl rfl)
theorem dX8_figures_120 : decode cX8_figures 120 = .ok (.iload_n 3, 1) := dk_29 (dk_at dksX8_figures_5 4 rfl rfl)
theorem dX8_figures_121 : decode cX8_figures 121 = .ok (.invokevirtual 105, 3) := dk_182 0 105 (dk_at dksX8_figures_5 5 rfl rfl)
theorem dX8_figures_124 : decode cX8_figures 124 = .ok (.iload 4, 2) := dk_21 4 (dk_at dksX8_figures_5 8 rfl rfl)
theorem dX8_figures_126 : decode cX8_figures 126 = .ok (.ireturn, 1) := dk_172 (dk_at dksX8_figures_5 10 rfl rfl)
abbrev cX8_place : ByteArray := prog_23_method_26_code
def yX8_place : MethodName := ⟨RX8, "place", "()I"⟩
def dkwX8_place_0 : List UInt8 := [42, 182, 0, 88, 42, 180, 0, 79, 172]
abbrev dktX8_place_0 : List UInt8 := dkwX8_place_0 ++ []
theorem dksX8_place_0 : cX8_place.data.toList.drop 0 = dktX8_place_0 := by decide +kernel
theorem dX8_place_0 : decode cX8_place 0 = .ok (.aload_n 0, 1) := dk_42 (dk_at dksX8_place_0 0 rfl rfl)
theorem dX8_place_1 : decode cX8_place 1 = .ok (.invokevirtual 88, 3) := dk_182 0 88 (dk_at dksX8_place_0 1 rfl rfl)
theorem dX8_place_4 : decode cX8_place 4 = .ok (.aload_n 0, 1) := dk_42 (dk_at dksX8_place_0 4 rfl rfl)
theorem dX8_place_5 : decode cX8_place 5 = .ok (.getfield 79, 3) := dk_180 0 79 (dk_at dksX8_place_0 5 rfl rfl)
theorem dX8_place_8 : decode cX8_place 8 = .ok (.ireturn, 1) := dk_172 (dk_at dksX8_place_0 8 rfl rfl)
abbrev cX8_some : ByteArray := prog_23_method_45_code
def yX8_some : MethodName := ⟨RX8, "some", "()Z"⟩
def dkwX8_some_1 : List UInt8 := [182, 0, 247, 61, 27, 154, 0, 7, 28, 153, 0, 7, 4, 167, 0, 4, 3, 60, 167, 255, 220, 27, 172]
abbrev dktX8_some_1 : List UInt8 := dkwX8_some_1 ++ []
def dkwX8_some_0 : List UInt8 := [42, 182, 0, 247, 60, 42, 180, 0, 25, 2, 160, 0, 34, 42, 18, 250, 182, 0, 101, 153, 0, 25, 42]
abbrev dktX8_some_0 : List UInt8 := dkwX8_some_0 ++ dktX8_some_1
theorem dksX8_some_0 : cX8_some.data.toList.drop 0 = dktX8_some_0 := by decide +kernel
theorem dksX8_some_1 : cX8_some.data.toList.drop 23 = dktX8_some_1 := dk_seg dksX8_some_0 23 rfl rfl
theorem dX8_some_0 : decode cX8_some 0 = .ok (.aload_n 0, 1) := dk_42 (dk_at dksX8_some_0 0 rfl rfl)
theorem dX8_some_1 : decode cX8_some 1 = .ok (.invokevirtual 247, 3) := dk_182 0 247 (dk_at dksX8_some_0 1 rfl rfl)
theorem dX8_some_4 : decode cX8_some 4 = .ok (.istore_n 1, 1) := dk_60 (dk_at dksX8_some_0 4 rfl rfl)
theorem dX8_some_5 : decode cX8_some 5 = .ok (.aload_n 0, 1) := dk_42 (dk_at dksX8_some_0 5 rfl rfl)
theorem dX8_some_6 : decode cX8_some 6 = .ok (.getfield 25, 3) := dk_180 0 25 (dk_at dksX8_some_0 6 rfl rfl)
theorem dX8_some_9 : decode cX8_some 9 = .ok (.iconst (-1), 1) := dk_2 (dk_at dksX8_some_0 9 rfl rfl)
theorem dX8_some_10 : decode cX8_some 10 = .ok (.if_icmp .ne 34, 3) := dk_160 0 34 (dk_at dksX8_some_0 10 rfl rfl)
theorem dX8_some_13 : decode cX8_some 13 = .ok (.aload_n 0, 1) := dk_42 (dk_at dksX8_some_0 13 rfl rfl)
theorem dX8_some_14 : decode cX8_some 14 = .ok (.ldc 250, 2) := dk_18 250 (dk_at dksX8_some_0 14 rfl rfl)
theorem dX8_some_16 : decode cX8_some 16 = .ok (.invokevirtual 101, 3) := dk_182 0 101 (dk_at dksX8_some_0 16 rfl rfl)
theorem dX8_some_19 : decode cX8_some 19 = .ok (.ifCond .eq 25, 3) := dk_153 0 25 (dk_at dksX8_some_0 19 rfl rfl)
theorem dX8_some_22 : decode cX8_some 22 = .ok (.aload_n 0, 1) := dk_42 (dk_at dksX8_some_0 22 rfl rfl)
theorem dX8_some_23 : decode cX8_some 23 = .ok (.invokevirtual 247, 3) := dk_182 0 247 (dk_at dksX8_some_1 0 rfl rfl)
theorem dX8_some_26 : decode cX8_some 26 = .ok (.istore_n 2, 1) := dk_61 (dk_at dksX8_some_1 3 rfl rfl)
theorem dX8_some_27 : decode cX8_some 27 = .ok (.iload_n 1, 1) := dk_27 (dk_at dksX8_some_1 4 rfl rfl)
theorem dX8_some_28 : decode cX8_some 28 = .ok (.ifCond .ne 7, 3) := dk_154 0 7 (dk_at dksX8_some_1 5 rfl rfl)
theorem dX8_some_31 : decode cX8_some 31 = .ok (.iload_n 2, 1) := dk_28 (dk_at dksX8_some_1 8 rfl rfl)
theorem dX8_some_32 : decode cX8_some 32 = .ok (.ifCond .eq 7, 3) := dk_153 0 7 (dk_at dksX8_some_1 9 rfl rfl)
theorem dX8_some_35 : decode cX8_some 35 = .ok (.iconst 1, 1) := dk_4 (dk_at dksX8_some_1 12 rfl rfl)
theorem dX8_some_36 : decode cX8_some 36 = .ok (.goto 4, 3) := dk_167 0 4 (dk_at dksX8_some_1 13 rfl rfl)
theorem dX8_some_39 : decode cX8_some 39 = .ok (.iconst 0, 1) := dk_3 (dk_at dksX8_some_1 16 rfl rfl)
theorem dX8_some_40 : decode cX8_some 40 = .ok (.istore_n 1, 1) := dk_60 (dk_at dksX8_some_1 17 rfl rfl)
theorem dX8_some_41 : decode cX8_some 41 = .ok (.goto (-36), 3) := dk_167 255 220 (dk_at dksX8_some_1 18 rfl rfl)
theorem dX8_some_44 : decode cX8_some 44 = .ok (.iload_n 1, 1) := dk_27 (dk_at dksX8_some_1 21 rfl rfl)
theorem dX8_some_45 : decode cX8_some 45 = .ok (.ireturn, 1) := dk_172 (dk_at dksX8_some_1 22 rfl rfl)
abbrev cX8_every : ByteArray := prog_23_method_44_code
def yX8_every : MethodName := ⟨RX8, "every", "()Z"⟩
def dkwX8_every_1 : List UInt8 := [182, 0, 239, 61, 27, 153, 0, 11, 28, 153, 0, 7, 4, 167, 0, 4, 3, 60, 167, 255, 220, 27, 172]
abbrev dktX8_every_1 : List UInt8 := dkwX8_every_1 ++ []
def dkwX8_every_0 : List UInt8 := [42, 182, 0, 239, 60, 42, 180, 0, 25, 2, 160, 0, 34, 42, 18, 245, 182, 0, 101, 153, 0, 25, 42]
abbrev dktX8_every_0 : List UInt8 := dkwX8_every_0 ++ dktX8_every_1
theorem dksX8_every_0 : cX8_every.data.toList.drop 0 = dktX8_every_0 := by decide +kernel
theorem dksX8_every_1 : cX8_every.data.toList.drop 23 = dktX8_every_1 := dk_seg dksX8_every_0 23 rfl rfl
theorem dX8_every_0 : decode cX8_every 0 = .ok (.aload_n 0, 1) := dk_42 (dk_at dksX8_every_0 0 rfl rfl)
theorem dX8_every_1 : decode cX8_every 1 = .ok (.invokevirtual 239, 3) := dk_182 0 239 (dk_at dksX8_every_0 1 rfl rfl)
theorem dX8_every_4 : decode cX8_every 4 = .ok (.istore_n 1, 1) := dk_60 (dk_at dksX8_every_0 4 rfl rfl)
theorem dX8_every_5 : decode cX8_every 5 = .ok (.aload_n 0, 1) := dk_42 (dk_at dksX8_every_0 5 rfl rfl)
theorem dX8_every_6 : decode cX8_every 6 = .ok (.getfield 25, 3) := dk_180 0 25 (dk_at dksX8_every_0 6 rfl rfl)
theorem dX8_every_9 : decode cX8_every 9 = .ok (.iconst (-1), 1) := dk_2 (dk_at dksX8_every_0 9 rfl rfl)
theorem dX8_every_10 : decode cX8_every 10 = .ok (.if_icmp .ne 34, 3) := dk_160 0 34 (dk_at dksX8_every_0 10 rfl rfl)
theorem dX8_every_13 : decode cX8_every 13 = .ok (.aload_n 0, 1) := dk_42 (dk_at dksX8_every_0 13 rfl rfl)
theorem dX8_every_14 : decode cX8_every 14 = .ok (.ldc 245, 2) := dk_18 245 (dk_at dksX8_every_0 14 rfl rfl)
theorem dX8_every_16 : decode cX8_every 16 = .ok (.invokevirtual 101, 3) := dk_182 0 101 (dk_at dksX8_every_0 16 rfl rfl)
theorem dX8_every_19 : decode cX8_every 19 = .ok (.ifCond .eq 25, 3) := dk_153 0 25 (dk_at dksX8_every_0 19 rfl rfl)
theorem dX8_every_22 : decode cX8_every 22 = .ok (.aload_n 0, 1) := dk_42 (dk_at dksX8_every_0 22 rfl rfl)
theorem dX8_every_23 : decode cX8_every 23 = .ok (.invokevirtual 239, 3) := dk_182 0 239 (dk_at dksX8_every_1 0 rfl rfl)
theorem dX8_every_26 : decode cX8_every 26 = .ok (.istore_n 2, 1) := dk_61 (dk_at dksX8_every_1 3 rfl rfl)
theorem dX8_every_27 : decode cX8_every 27 = .ok (.iload_n 1, 1) := dk_27 (dk_at dksX8_every_1 4 rfl rfl)
theorem dX8_every_28 : decode cX8_every 28 = .ok (.ifCond .eq 11, 3) := dk_153 0 11 (dk_at dksX8_every_1 5 rfl rfl)
theorem dX8_every_31 : decode cX8_every 31 = .ok (.iload_n 2, 1) := dk_28 (dk_at dksX8_every_1 8 rfl rfl)
theorem dX8_every_32 : decode cX8_every 32 = .ok (.ifCond .eq 7, 3) := dk_153 0 7 (dk_at dksX8_every_1 9 rfl rfl)
theorem dX8_every_35 : decode cX8_every 35 = .ok (.iconst 1, 1) := dk_4 (dk_at dksX8_every_1 12 rfl rfl)
theorem dX8_every_36 : decode cX8_every 36 = .ok (.goto 4, 3) := dk_167 0 4 (dk_at dksX8_every_1 13 rfl rfl)
theorem dX8_every_39 : decode cX8_every 39 = .ok (.iconst 0, 1) := dk_3 (dk_at dksX8_every_1 16 rfl rfl)
theorem dX8_every_40 : decode cX8_every 40 = .ok (.istore_n 1, 1) := dk_60 (dk_at dksX8_every_1 17 rfl rfl)
theorem dX8_every_41 : decode cX8_every 41 = .ok (.goto (-36), 3) := dk_167 255 220 (dk_at dksX8_every_1 18 rfl rfl)
theorem dX8_every_44 : decode cX8_every 44 = .ok (.iload_n 1, 1) := dk_27 (dk_at dksX8_every_1 21 rfl rfl)
theorem dX8_every_45 : decode cX8_every 45 = .ok (.ireturn, 1) := dk_172 (dk_at dksX8_every_1 22 rfl rfl)
abbrev cX8_atom : ByteArray := prog_23_method_43_code
def yX8_atom : MethodName := ⟨RX8, "atom", "()Z"⟩
def dkwX8_atom_6 : List UInt8 := [180, 0, 184, 4, 100, 181, 0, 184, 29, 172]
abbrev dktX8_atom_6 : List UInt8 := dkwX8_atom_6 ++ []
def dkwX8_atom_5 : List UInt8 := [154, 0, 11, 42, 42, 180, 0, 79, 182, 0, 105, 42, 89, 180, 0, 79, 4, 96, 181, 0, 79, 42, 89]
abbrev dktX8_atom_5 : List UInt8 := dkwX8_atom_5 ++ dktX8_atom_6
def dkwX8_atom_4 : List UInt8 := [4, 96, 181, 0, 79, 42, 182, 0, 242, 62, 42, 180, 0, 25, 2, 160, 0, 20, 42, 16, 41, 182, 0, 193]
abbrev dktX8_atom_4 : List UInt8 := dkwX8_atom_4 ++ dktX8_atom_5
def dkwX8_atom_3 : List UInt8 := [153, 0, 19, 42, 182, 0, 239, 154, 0, 7, 4, 167, 0, 4, 3, 62, 167, 0, 53, 42, 89, 180, 0, 79]
abbrev dktX8_atom_3 : List UInt8 := dkwX8_atom_3 ++ dktX8_atom_4
def dkwX8_atom_2 : List UInt8 := [160, 0, 10, 42, 27, 182, 0, 105, 3, 172, 42, 89, 180, 0, 184, 4, 96, 181, 0, 184, 3, 62, 28]
abbrev dktX8_atom_2 : List UInt8 := dkwX8_atom_2 ++ dktX8_atom_3
def dkwX8_atom_1 : List UInt8 := [154, 0, 17, 42, 16, 40, 182, 0, 193, 154, 0, 8, 42, 182, 0, 235, 172, 42, 180, 0, 184, 16, 6]
abbrev dktX8_atom_1 : List UInt8 := dkwX8_atom_1 ++ dktX8_atom_2
def dkwX8_atom_0 : List UInt8 := [42, 180, 0, 25, 2, 159, 0, 5, 3, 172, 42, 182, 0, 109, 60, 42, 18, 233, 182, 0, 101, 61, 28]
abbrev dktX8_atom_0 : List UInt8 := dkwX8_atom_0 ++ dktX8_atom_1
theorem dksX8_atom_0 : cX8_atom.data.toList.drop 0 = dktX8_atom_0 := by decide +kernel
theorem dksX8_atom_1 : cX8_atom.data.toList.drop 23 = dktX8_atom_1 := dk_seg dksX8_atom_0 23 rfl rfl
theorem dksX8_atom_2 : cX8_atom.data.toList.drop 46 = dktX8_atom_2 := dk_seg dksX8_atom_1 23 rfl rfl
theorem dksX8_atom_3 : cX8_atom.data.toList.drop 69 = dktX8_atom_3 := dk_seg dksX8_atom_2 23 rfl rfl
theorem dksX8_atom_4 : cX8_atom.data.toList.drop 93 = dktX8_atom_4 := dk_seg dksX8_atom_3 24 rfl rfl
theorem dksX8_atom_5 : cX8_atom.data.toList.drop 117 = dktX8_atom_5 := dk_seg dksX8_atom_4 24 rfl rfl
theorem dksX8_atom_6 : cX8_atom.data.toList.drop 140 = dktX8_atom_6 := dk_seg dksX8_atom_5 23 rfl rfl
theorem dX8_atom_0 : decode cX8_atom 0 = .ok (.aload_n 0, 1) := dk_42 (dk_at dksX8_atom_0 0 rfl rfl)
theorem dX8_atom_1 : decode cX8_atom 1 = .ok (.getfield 25, 3) := dk_180 0 25 (dk_at dksX8_atom_0 1 rfl rfl)
theorem dX8_atom_4 : decode cX8_atom 4 = .ok (.iconst (-1), 1) := dk_2 (dk_at dksX8_atom_0 4 rfl rfl)
theorem dX8_atom_5 : decode cX8_atom 5 = .ok (.if_icmp .eq 5, 3) := dk_159 0 5 (dk_at dksX8_atom_0 5 rfl rfl)
theorem dX8_atom_8 : decode cX8_atom 8 = .ok (.iconst 0, 1) := dk_3 (dk_at dksX8_atom_0 8 rfl rfl)
theorem dX8_atom_9 : decode cX8_atom 9 = .ok (.ireturn, 1) := dk_172 (dk_at dksX8_atom_0 9 rfl rfl)
theorem dX8_atom_10 : decode cX8_atom 10 = .ok (.aload_n 0, 1) := dk_42 (dk_at dksX8_atom_0 10 rfl rfl)
theorem dX8_atom_11 : decode cX8_atom 11 = .ok (.invokevirtual 109, 3) := dk_182 0 109 (dk_at dksX8_atom_0 11 rfl rfl)
theorem dX8_atom_14 : decode cX8_atom 14 = .ok (.istore_n 1, 1) := dk_60 (dk_at dksX8_atom_0 14 rfl rfl)
theorem dX8_atom_15 : decode cX8_atom 15 = .ok (.aload_n 0, 1) := dk_42 (dk_at dksX8_atom_0 15 rfl rfl)
theorem dX8_atom_16 : decode cX8_atom 16 = .ok (.ldc 233, 2) := dk_18 233 (dk_at dksX8_atom_0 16 rfl rfl)
theorem dX8_atom_18 : decode cX8_atom 18 = .ok (.invokevirtual 101, 3) := dk_182 0 101 (dk_at dksX8_atom_0 18 rfl rfl)
theorem dX8_atom_21 : decode cX8_atom 21 = .ok (.istore_n 2, 1) := dk_61 (dk_at dksX8_atom_0 21 rfl rfl)
theorem dX8_atom_22 : decode cX8_atom 22 = .ok (.iload_n 2, 1) := dk_28 (dk_at dksX8_atom_0 22 rfl rfl)
theorem dX8_atom_23 : decode cX8_atom 23 = .ok (.ifCond .ne 17, 3) := dk_154 0 17 (dk_at dksX8_atom_1 0 rfl rfl)
theorem dX8_atom_26 : decode cX8_atom 26 = .ok (.aload_n 0, 1) := dk_42 (dk_at dksX8_atom_1 3 rfl rfl)
theorem dX8_atom_27 : decode cX8_atom 27 = .ok (.bipush 40, 2) := dk_16 40 (dk_at dksX8_atom_1 4 rfl rfl)
theorem dX8_atom_29 : decode cX8_atom 29 = .ok (.invokevirtual 193, 3) := dk_182 0 193 (dk_at dksX8_atom_1 6 rfl rfl)
theorem dX8_atom_32 : decode cX8_atom 32 = .ok (.ifCond .ne 8, 3) := dk_154 0 8 (dk_at dksX8_atom_1 9 rfl rfl)
theorem dX8_atom_35 : decode cX8_atom 35 = .ok (.aload_n 0, 1) := dk_42 (dk_at dksX8_atom_1 12 rfl rfl)
theorem dX8_atom_36 : decode cX8_atom 36 = .ok (.invokevirtual 235, 3) := dk_182 0 235 (dk_at dksX8_atom_1 13 rfl rfl)
theorem dX8_atom_39 : decode cX8_atom 39 = .ok (.ireturn, 1) := dk_172 (dk_at dksX8_atom_1 16 rfl rfl)
theorem dX8_atom_40 : decode cX8_atom 40 = .ok (.aload_n 0, 1) := dk_42 (dk_at dksX8_atom_1 17 rfl rfl)
theorem dX8_atom_41 : decode cX8_atom 41 = .ok (.getfield 184, 3) := dk_180 0 184 (dk_at dksX8_atom_1 18 rfl rfl)
theorem dX8_atom_44 : decode cX8_atom 44 = .ok (.bipush 6, 2) := dk_16 6 (dk_at dksX8_atom_1 21 rfl rfl)
theorem dX8_atom_46 : decode cX8_atom 46 = .ok (.if_icmp .ne 10, 3) := dk_160 0 10 (dk_at dksX8_atom_2 0 rfl rfl)
theorem dX8_atom_49 : decode cX8_atom 49 = .ok (.aload_n 0, 1) := dk_42 (dk_at dksX8_atom_2 3 rfl rfl)
theorem dX8_atom_50 : decode cX8_atom 50 = .ok (.iload_n 1, 1) := dk_27 (dk_at dksX8_atom_2 4 rfl rfl)
theorem dX8_atom_51 : decode cX8_atom 51 = .ok (.invokevirtual 105, 3) := dk_182 0 105 (dk_at dksX8_atom_2 5 rfl rfl)
theorem dX8_atom_54 : decode cX8_atom 54 = .ok (.iconst 0, 1) := dk_3 (dk_at dksX8_atom_2 8 rfl rfl)
theorem dX8_atom_55 : decode cX8_atom 55 = .ok (.ireturn, 1) := dk_172 (dk_at dksX8_atom_2 9 rfl rfl)
theorem dX8_atom_56 : decode cX8_atom 56 = .ok (.aload_n 0, 1) := dk_42 (dk_at dksX8_atom_2 10 rfl rfl)
theorem dX8_atom_57 : decode cX8_atom 57 = .ok (.dup, 1) := dk_89 (dk_at dksX8_atom_2 11 rfl rfl)
theorem dX8_atom_58 : decode cX8_atom 58 = .ok (.getfield 184, 3) := dk_180 0 184 (dk_at dksX8_atom_2 12 rfl rfl)
theorem dX8_atom_61 : decode cX8_atom 61 = .ok (.iconst 1, 1) := dk_4 (dk_at dksX8_atom_2 15 rfl rfl)
theorem dX8_atom_62 : decode cX8_atom 62 = .ok (.iadd, 1) := dk_96 (dk_at dksX8_atom_2 16 rfl rfl)
theorem dX8_atom_63 : decode cX8_atom 63 = .ok (.putfield 184, 3) := dk_181 0 184 (dk_at dksX8_atom_2 17 rfl rfl)
theorem dX8_atom_66 : decode cX8_atom 66 = .ok (.iconst 0, 1) := dk_3 (dk_at dksX8_atom_2 20 rfl rfl)
theorem dX8_atom_67 : decode cX8_atom 67 = .ok (.istore_n 3, 1) := dk_62 (dk_at dksX8_atom_2 21 rfl rfl)
theorem dX8_atom_68 : decode cX8_atom 68 = .ok (.iload_n 2, 1) := dk_28 (dk_at dksX8_atom_2 22 rfl rfl)
theorem dX8_atom_69 : decode cX8_atom 69 = .ok (.ifCond .eq 19, 3) := dk_153 0 19 (dk_at dksX8_atom_3 0 rfl rfl)
theorem dX8_atom_72 : decode cX8_atom 72 = .ok (.aload_n 0, 1) := dk_42 (dk_at dksX8_atom_3 3 rfl rfl)
theorem dX8_atom_73 : decode cX8_atom 73 = .ok (.invokevirtual 239, 3) := dk_182 0 239 (dk_at dksX8_atom_3 4 rfl rfl)
theorem dX8_atom_76 : decode cX8_atom 76 = .ok (.ifCond .ne 7, 3) := dk_154 0 7 (dk_at dksX8_atom_3 7 rfl rfl)
theorem dX8_atom_79 : decode cX8_atom 79 = .ok (.iconst 1, 1) := dk_4 (dk_at dksX8_atom_3 10 rfl rfl)
theorem dX8_atom_80 : decode cX8_atom 80 = .ok (.goto 4, 3) := dk_167 0 4 (dk_at dksX8_atom_3 11 rfl rfl)
theorem dX8_atom_83 : decode cX8_atom 83 = .ok (.iconst 0, 1) := dk_3 (dk_at dksX8_atom_3 14 rfl rfl)
theorem dX8_atom_84 : decode cX8_atom 84 = .ok (.istore_n 3, 1) := dk_62 (dk_at dksX8_atom_3 15 rfl rfl)
theorem dX8_atom_85 : decode cX8_atom 85 = .ok (.goto 53, 3) := dk_167 0 53 (dk_at dksX8_atom_3 16 rfl rfl)
theorem dX8_atom_88 : decode cX8_atom 88 = .ok (.aload_n 0, 1) := dk_42 (dk_at dksX8_atom_3 19 rfl rfl)
theorem dX8_atom_89 : decode cX8_atom 89 = .ok (.dup, 1) := dk_89 (dk_at dksX8_atom_3 20 rfl rfl)
theorem dX8_atom_90 : decode cX8_atom 90 = .ok (.getfield 79, 3) := dk_180 0 79 (dk_at dksX8_atom_3 21 rfl rfl)
theorem dX8_atom_93 : decode cX8_atom 93 = .ok (.iconst 1, 1) := dk_4 (dk_at dksX8_atom_4 0 rfl rfl)
theorem dX8_atom_94 : decode cX8_atom 94 = .ok (.iadd, 1) := dk_96 (dk_at dksX8_atom_4 1 rfl rfl)
theorem dX8_atom_95 : decode cX8_atom 95 = .ok (.putfield 79, 3) := dk_181 0 79 (dk_at dksX8_atom_4 2 rfl rfl)
theorem dX8_atom_98 : decode cX8_atom 98 = .ok (.aload_n 0, 1) := dk_42 (dk_at dksX8_atom_4 5 rfl rfl)
theorem dX8_atom_99 : decode cX8_atom 99 = .ok (.invokevirtual 242, 3) := dk_182 0 242 (dk_at dksX8_atom_4 6 rfl rfl)
theorem dX8_atom_102 : decode cX8_atom 102 = .ok (.istore_n 3, 1) := dk_62 (dk_at dksX8_atom_4 9 rfl rfl)
theorem dX8_atom_103 : decode cX8_atom 103 = .ok (.aload_n 0, 1) := dk_42 (dk_at dksX8_atom_4 10 rfl rfl)
theorem dX8_atom_104 : decode cX8_atom 104 = .ok (.getfield 25, 3) := dk_180 0 25 (dk_at dksX8_atom_4 11 rfl rfl)
theorem dX8_atom_107 : decode cX8_atom 107 = .ok (.iconst (-1), 1) := dk_2 (dk_at dksX8_atom_4 14 rfl rfl)
theorem dX8_atom_108 : decode cX8_atom 108 = .ok (.if_icmp .ne 20, 3) := dk_160 0 20 (dk_at dksX8_atom_4 15 rfl rfl)
theorem dX8_atom_111 : decode cX8_atom 111 = .ok (.aload_n 0, 1) := dk_42 (dk_at dksX8_atom_4 18 rfl rfl)
theorem dX8_atom_112 : decode cX8_atom 112 = .ok (.bipush 41, 2) := dk_16 41 (dk_at dksX8_atom_4 19 rfl rfl)
theorem dX8_atom_114 : decode cX8_atom 114 = .ok (.invokevirtual 193, 3) := dk_182 0 193 (dk_at dksX8_atom_4 21 rfl rfl)
theorem dX8_atom_117 : decode cX8_atom 117 = .ok (.ifCond .ne 11, 3) := dk_154 0 11 (dk_at dksX8_atom_5 0 rfl rfl)
theorem dX8_atom_120 : decode cX8_atom 120 = .ok (.aload_n 0, 1) := dk_42 (dk_at dksX8_atom_5 3 rfl rfl)
theorem dX8_atom_121 : decode cX8_atom 121 = .ok (.aload_n 0, 1) := dk_42 (dk_at dksX8_atom_5 4 rfl rfl)
theorem dX8_atom_122 : decode cX8_atom 122 = .ok (.getfield 79, 3) := dk_180 0 79 (dk_at dksX8_atom_5 5 rfl rfl)
theorem dX8_atom_125 : decode cX8_atom 125 = .ok (.invokevirtual 105, 3) := dk_182 0 105 (dk_at dksX8_atom_5 8 rfl rfl)
theorem dX8_atom_128 : decode cX8_atom 128 = .ok (.aload_n 0, 1) := dk_42 (dk_at dksX8_atom_5 11 rfl rfl)
theorem dX8_atom_129 : decode cX8_atom 129 = .ok (.dup, 1) := dk_89 (dk_at dksX8_atom_5 12 rfl rfl)
theorem dX8_atom_130 : decode cX8_atom 130 = .ok (.getfield 79, 3) := dk_180 0 79 (dk_at dksX8_atom_5 13 rfl rfl)
theorem dX8_atom_133 : decode cX8_atom 133 = .ok (.iconst 1, 1) := dk_4 (dk_at dksX8_atom_5 16 rfl rfl)
theorem dX8_atom_134 : decode cX8_atom 134 = .ok (.iadd, 1) := dk_96 (dk_at dksX8_atom_5 17 rfl rfl)
theorem dX8_atom_135 : decode cX8_atom 135 = .ok (.putfield 79, 3) := dk_181 0 79 (dk_at dksX8_atom_5 18 rfl rfl)
theorem dX8_atom_138 : decode cX8_atom 138 = .ok (.aload_n 0, 1) := dk_42 (dk_at dksX8_atom_5 21 rfl rfl)
theorem dX8_atom_139 : decode cX8_atom 139 = .ok (.dup, 1) := dk_89 (dk_at dksX8_atom_5 22 rfl rfl)
theorem dX8_atom_140 : decode cX8_atom 140 = .ok (.getfield 184, 3) := dk_180 0 184 (dk_at dksX8_atom_6 0 rfl rfl)
theorem dX8_atom_143 : decode cX8_atom 143 = .ok (.iconst 1, 1) := dk_4 (dk_at dksX8_atom_6 3 rfl rfl)
theorem dX8_atom_144 : decode cX8_atom 144 = .ok (.isub, 1) := dk_100 (dk_at dksX8_atom_6 4 rfl rfl)
theorem dX8_atom_145 : decode cX8_atom 145 = .ok (.putfield 184, 3) := dk_181 0 184 (dk_at dksX8_atom_6 5 rfl rfl)
theorem dX8_atom_148 : decode cX8_atom 148 = .ok (.iload_n 3, 1) := dk_29 (dk_at dksX8_atom_6 8 rfl rfl)
theorem dX8_atom_149 : decode cX8_atom 149 = .ok (.ireturn, 1) := dk_172 (dk_at dksX8_atom_6 9 rfl rfl)
abbrev cX8_isSign : ByteArray := prog_23_method_22_code
def yX8_isSign : MethodName := ⟨RX8, "isSign", "(I)Z"⟩
def dkwX8_isSign_1 : List UInt8 := [160, 0, 7, 4, 167, 0, 4, 3, 172]
abbrev dktX8_isSign_1 : List UInt8 := dkwX8_isSign_1 ++ []
def dkwX8_isSign_0 : List UInt8 := [42, 182, 0, 88, 42, 180, 0, 79, 42, 180, 0, 82, 162, 0, 19, 42, 42, 180, 0, 79, 182, 0, 85, 27]
abbrev dktX8_isSign_0 : List UInt8 := dkwX8_isSign_0 ++ dktX8_isSign_1
theorem dksX8_isSign_0 : cX8_isSign.data.toList.drop 0 = dktX8_isSign_0 := by decide +kernel
theorem dksX8_isSign_1 : cX8_isSign.data.toList.drop 24 = dktX8_isSign_1 := dk_seg dksX8_isSign_0 24 rfl rfl
theorem dX8_isSign_0 : decode cX8_isSign 0 = .ok (.aload_n 0, 1) := dk_42 (dk_at dksX8_isSign_0 0 rfl rfl)
theorem dX8_isSign_1 : decode cX8_isSign 1 = .ok (.invokevirtual 88, 3) := dk_182 0 88 (dk_at dksX8_isSign_0 1 rfl rfl)
theorem dX8_isSign_4 : decode cX8_isSign 4 = .ok (.aload_n 0, 1) := dk_42 (dk_at dksX8_isSign_0 4 rfl rfl)
theorem dX8_isSign_5 : decode cX8_isSign 5 = .ok (.getfield 79, 3) := dk_180 0 79 (dk_at dksX8_isSign_0 5 rfl rfl)
theorem dX8_isSign_8 : decode cX8_isSign 8 = .ok (.aload_n 0, 1) := dk_42 (dk_at dksX8_isSign_0 8 rfl rfl)
theorem dX8_isSign_9 : decode cX8_isSign 9 = .ok (.getfield 82, 3) := dk_180 0 82 (dk_at dksX8_isSign_0 9 rfl rfl)
theorem dX8_isSign_12 : decode cX8_isSign 12 = .ok (.if_icmp .ge 19, 3) := dk_162 0 19 (dk_at dksX8_isSign_0 12 rfl rfl)
theorem dX8_isSign_15 : decode cX8_isSign 15 = .ok (.aload_n 0, 1) := dk_42 (dk_at dksX8_isSign_0 15 rfl rfl)
theorem dX8_isSign_16 : decode cX8_isSign 16 = .ok (.aload_n 0, 1) := dk_42 (dk_at dksX8_isSign_0 16 rfl rfl)
theorem dX8_isSign_17 : decode cX8_isSign 17 = .ok (.getfield 79, 3) := dk_180 0 79 (dk_at dksX8_isSign_0 17 rfl rfl)
theorem dX8_isSign_20 : decode cX8_isSign 20 = .ok (.invokevirtual 85, 3) := dk_182 0 85 (dk_at dksX8_isSign_0 20 rfl rfl)
theorem dX8_isSign_23 : decode cX8_isSign 23 = .ok (.iload_n 1, 1) := dk_27 (dk_at dksX8_isSign_0 23 rfl rfl)
theorem dX8_isSign_24 : decode cX8_isSign 24 = .ok (.if_icmp .ne 7, 3) := dk_160 0 7 (dk_at dksX8_isSign_1 0 rfl rfl)
theorem dX8_isSign_27 : decode cX8_isSign 27 = .ok (.iconst 1, 1) := dk_4 (dk_at dksX8_isSign_1 3 rfl rfl)
theorem dX8_isSign_28 : decode cX8_isSign 28 = .ok (.goto 4, 3) := dk_167 0 4 (dk_at dksX8_isSign_1 4 rfl rfl)
theorem dX8_isSign_31 : decode cX8_isSign 31 = .ok (.iconst 0, 1) := dk_3 (dk_at dksX8_isSign_1 7 rfl rfl)
theorem dX8_isSign_32 : decode cX8_isSign 32 = .ok (.ireturn, 1) := dk_172 (dk_at dksX8_isSign_1 8 rfl rfl)
abbrev cX8_plain : ByteArray := prog_23_method_42_code
def yX8_plain : MethodName := ⟨RX8, "plain", "()Z"⟩
def dkwX8_plain_4 : List UInt8 := [27, 29, 162, 0, 7, 4, 167, 0, 17, 3, 167, 0, 13, 27, 29, 164, 0, 7, 4, 167, 0, 4, 3, 172]
abbrev dktX8_plain_4 : List UInt8 := dkwX8_plain_4 ++ []
def dkwX8_plain_3 : List UInt8 := [182, 0, 105, 3, 172, 42, 89, 180, 0, 79, 4, 96, 181, 0, 79, 42, 182, 0, 230, 62, 28, 153, 0, 16]
abbrev dktX8_plain_3 : List UInt8 := dkwX8_plain_3 ++ dktX8_plain_4
def dkwX8_plain_2 : List UInt8 := [182, 0, 193, 61, 28, 154, 0, 22, 42, 16, 62, 182, 0, 193, 154, 0, 13, 42, 42, 180, 0, 79]
abbrev dktX8_plain_2 : List UInt8 := dkwX8_plain_2 ++ dktX8_plain_3
def dkwX8_plain_1 : List UInt8 := [180, 0, 227, 172, 42, 182, 0, 230, 60, 42, 180, 0, 25, 2, 159, 0, 5, 3, 172, 42, 16, 60]
abbrev dktX8_plain_1 : List UInt8 := dkwX8_plain_1 ++ dktX8_plain_2
def dkwX8_plain_0 : List UInt8 := [42, 18, 221, 182, 0, 101, 153, 0, 8, 42, 180, 0, 223, 172, 42, 18, 168, 182, 0, 101, 153, 0, 8, 42]
abbrev dktX8_plain_0 : List UInt8 := dkwX8_plain_0 ++ dktX8_plain_1
theorem dksX8_plain_0 : cX8_plain.data.toList.drop 0 = dktX8_plain_0 := by decide +kernel
theorem dksX8_plain_1 : cX8_plain.data.toList.drop 24 = dktX8_plain_1 := dk_seg dksX8_plain_0 24 rfl rfl
theorem dksX8_plain_2 : cX8_plain.data.toList.drop 46 = dktX8_plain_2 := dk_seg dksX8_plain_1 22 rfl rfl
theorem dksX8_plain_3 : cX8_plain.data.toList.drop 68 = dktX8_plain_3 := dk_seg dksX8_plain_2 22 rfl rfl
theorem dksX8_plain_4 : cX8_plain.data.toList.drop 92 = dktX8_plain_4 := dk_seg dksX8_plain_3 24 rfl rfl
theorem dX8_plain_0 : decode cX8_plain 0 = .ok (.aload_n 0, 1) := dk_42 (dk_at dksX8_plain_0 0 rfl rfl)
theorem dX8_plain_1 : decode cX8_plain 1 = .ok (.ldc 221, 2) := dk_18 221 (dk_at dksX8_plain_0 1 rfl rfl)
theorem dX8_plain_3 : decode cX8_plain 3 = .ok (.invokevirtual 101, 3) := dk_182 0 101 (dk_at dksX8_plain_0 3 rfl rfl)
theorem dX8_plain_6 : decode cX8_plain 6 = .ok (.ifCond .eq 8, 3) := dk_153 0 8 (dk_at dksX8_plain_0 6 rfl rfl)
theorem dX8_plain_9 : decode cX8_plain 9 = .ok (.aload_n 0, 1) := dk_42 (dk_at dksX8_plain_0 9 rfl rfl)
theorem dX8_plain_10 : decode cX8_plain 10 = .ok (.getfield 223, 3) := dk_180 0 223 (dk_at dksX8_plain_0 10 rfl rfl)
theorem dX8_plain_13 : decode cX8_plain 13 = .ok (.ireturn, 1) := dk_172 (dk_at dksX8_plain_0 13 rfl rfl)
theorem dX8_plain_14 : decode cX8_plain 14 = .ok (.aload_n 0, 1) := dk_42 (dk_at dksX8_plain_0 14 rfl rfl)
theorem dX8_plain_15 : decode cX8_plain 15 = .ok (.ldc 168, 2) := dk_18 168 (dk_at dksX8_plain_0 15 rfl rfl)
theorem dX8_plain_17 : decode cX8_plain 17 = .ok (.invokevirtual 101, 3) := dk_182 0 101 (dk_at dksX8_plain_0 17 rfl rfl)
theorem dX8_plain_20 : decode cX8_plain 20 = .ok (.ifCond .eq 8, 3) := dk_153 0 8 (dk_at dksX8_plain_0 20 rfl rfl)
theorem dX8_plain_23 : decode cX8_plain 23 = .ok (.aload_n 0, 1) := dk_42 (dk_at dksX8_plain_0 23 rfl rfl)
theorem dX8_plain_24 : decode cX8_plain 24 = .ok (.getfield 227, 3) := dk_180 0 227 (dk_at dksX8_plain_1 0 rfl rfl)
theorem dX8_plain_27 : decode cX8_plain 27 = .ok (.ireturn, 1) := dk_172 (dk_at dksX8_plain_1 3 rfl rfl)
theorem dX8_plain_28 : decode cX8_plain 28 = .ok (.aload_n 0, 1) := dk_42 (dk_at dksX8_plain_1 4 rfl rfl)
theorem dX8_plain_29 : decode cX8_plain 29 = .ok (.invokevirtual 230, 3) := dk_182 0 230 (dk_at dksX8_plain_1 5 rfl rfl)
theorem dX8_plain_32 : decode cX8_plain 32 = .ok (.istore_n 1, 1) := dk_60 (dk_at dksX8_plain_1 8 rfl rfl)
theorem dX8_plain_33 : decode cX8_plain 33 = .ok (.aload_n 0, 1) := dk_42 (dk_at dksX8_plain_1 9 rfl rfl)
theorem dX8_plain_34 : decode cX8_plain 34 = .ok (.getfield 25, 3) := dk_180 0 25 (dk_at dksX8_plain_1 10 rfl rfl)
theorem dX8_plain_37 : decode cX8_plain 37 = .ok (.iconst (-1), 1) := dk_2 (dk_at dksX8_plain_1 13 rfl rfl)
theorem dX8_plain_38 : decode cX8_plain 38 = .ok (.if_icmp .eq 5, 3) := dk_159 0 5 (dk_at dksX8_plain_1 14 rfl rfl)
theorem dX8_plain_41 : decode cX8_plain 41 = .ok (.iconst 0, 1) := dk_3 (dk_at dksX8_plain_1 17 rfl rfl)
theorem dX8_plain_42 : decode cX8_plain 42 = .ok (.ireturn, 1) := dk_172 (dk_at dksX8_plain_1 18 rfl rfl)
theorem dX8_plain_43 : decode cX8_plain 43 = .ok (.aload_n 0, 1) := dk_42 (dk_at dksX8_plain_1 19 rfl rfl)
theorem dX8_plain_44 : decode cX8_plain 44 = .ok (.bipush 60, 2) := dk_16 60 (dk_at dksX8_plain_1 20 rfl rfl)
theorem dX8_plain_46 : decode cX8_plain 46 = .ok (.invokevirtual 193, 3) := dk_182 0 193 (dk_at dksX8_plain_2 0 rfl rfl)
theorem dX8_plain_49 : decode cX8_plain 49 = .ok (.istore_n 2, 1) := dk_61 (dk_at dksX8_plain_2 3 rfl rfl)
theorem dX8_plain_50 : decode cX8_plain 50 = .ok (.iload_n 2, 1) := dk_28 (dk_at dksX8_plain_2 4 rfl rfl)
theorem dX8_plain_51 : decode cX8_plain 51 = .ok (.ifCond .ne 22, 3) := dk_154 0 22 (dk_at dksX8_plain_2 5 rfl rfl)
theorem dX8_plain_54 : decode cX8_plain 54 = .ok (.aload_n 0, 1) := dk_42 (dk_at dksX8_plain_2 8 rfl rfl)
theorem dX8_plain_55 : decode cX8_plain 55 = .ok (.bipush 62, 2) := dk_16 62 (dk_at dksX8_plain_2 9 rfl rfl)
theorem dX8_plain_57 : decode cX8_plain 57 = .ok (.invokevirtual 193, 3) := dk_182 0 193 (dk_at dksX8_plain_2 11 rfl rfl)
theorem dX8_plain_60 : decode cX8_plain 60 = .ok (.ifCond .ne 13, 3) := dk_154 0 13 (dk_at dksX8_plain_2 14 rfl rfl)
theorem dX8_plain_63 : decode cX8_plain 63 = .ok (.aload_n 0, 1) := dk_42 (dk_at dksX8_plain_2 17 rfl rfl)
theorem dX8_plain_64 : decode cX8_plain 64 = .ok (.aload_n 0, 1) := dk_42 (dk_at dksX8_plain_2 18 rfl rfl)
theorem dX8_plain_65 : decode cX8_plain 65 = .ok (.getfield 79, 3) := dk_180 0 79 (dk_at dksX8_plain_2 19 rfl rfl)
theorem dX8_plain_68 : decode cX8_plain 68 = .ok (.invokevirtual 105, 3) := dk_182 0 105 (dk_at dksX8_plain_3 0 rfl rfl)
theorem dX8_plain_71 : decode cX8_plain 71 = .ok (.iconst 0, 1) := dk_3 (dk_at dksX8_plain_3 3 rfl rfl)
theorem dX8_plain_72 : decode cX8_plain 72 = .ok (.ireturn, 1) := dk_172 (dk_at dksX8_plain_3 4 rfl rfl)
theorem dX8_plain_73 : decode cX8_plain 73 = .ok (.aload_n 0, 1) := dk_42 (dk_at dksX8_plain_3 5 rfl rfl)
theorem dX8_plain_74 : decode cX8_plain 74 = .ok (.dup, 1) := dk_89 (dk_at dksX8_plain_3 6 rfl rfl)
theorem dX8_plain_75 : decode cX8_plain 75 = .ok (.getfield 79, 3) := dk_180 0 79 (dk_at dksX8_plain_3 7 rfl rfl)
theorem dX8_plain_78 : decode cX8_plain 78 = .ok (.iconst 1, 1) := dk_4 (dk_at dksX8_plain_3 10 rfl rfl)
theorem dX8_plain_79 : decode cX8_plain 79 = .ok (.iadd, 1) := dk_96 (dk_at dksX8_plain_3 11 rfl rfl)
theorem dX8_plain_80 : decode cX8_plain 80 = .ok (.putfield 79, 3) := dk_181 0 79 (dk_at dksX8_plain_3 12 rfl rfl)
theorem dX8_plain_83 : decode cX8_plain 83 = .ok (.aload_n 0, 1) := dk_42 (dk_at dksX8_plain_3 15 rfl rfl)
theorem dX8_plain_84 : decode cX8_plain 84 = .ok (.invokevirtual 230, 3) := dk_182 0 230 (dk_at dksX8_plain_3 16 rfl rfl)
theorem dX8_plain_87 : decode cX8_plain 87 = .ok (.istore_n 3, 1) := dk_62 (dk_at dksX8_plain_3 19 rfl rfl)
theorem dX8_plain_88 : decode cX8_plain 88 = .ok (.iload_n 2, 1) := dk_28 (dk_at dksX8_plain_3 20 rfl rfl)
theorem dX8_plain_89 : decode cX8_plain 89 = .ok (.ifCond .eq 16, 3) := dk_153 0 16 (dk_at dksX8_plain_3 21 rfl rfl)
theorem dX8_plain_92 : decode cX8_plain 92 = .ok (.iload_n 1, 1) := dk_27 (dk_at dksX8_plain_4 0 rfl rfl)
theorem dX8_plain_93 : decode cX8_plain 93 = .ok (.iload_n 3, 1) := dk_29 (dk_at dksX8_plain_4 1 rfl rfl)
theorem dX8_plain_94 : decode cX8_plain 94 = .ok (.if_icmp .ge 7, 3) := dk_162 0 7 (dk_at dksX8_plain_4 2 rfl rfl)
theorem dX8_plain_97 : decode cX8_plain 97 = .ok (.iconst 1, 1) := dk_4 (dk_at dksX8_plain_4 5 rfl rfl)
theorem dX8_plain_98 : decode cX8_plain 98 = .ok (.goto 17, 3) := dk_167 0 17 (dk_at dksX8_plain_4 6 rfl rfl)
theorem dX8_plain_101 : decode cX8_plain 101 = .ok (.iconst 0, 1) := dk_3 (dk_at dksX8_plain_4 9 rfl rfl)
theorem dX8_plain_102 : decode cX8_plain 102 = .ok (.goto 13, 3) := dk_167 0 13 (dk_at dksX8_plain_4 10 rfl rfl)
theorem dX8_plain_105 : decode cX8_plain 105 = .ok (.iload_n 1, 1) := dk_27 (dk_at dksX8_plain_4 13 rfl rfl)
theorem dX8_plain_106 : decode cX8_plain 106 = .ok (.iload_n 3, 1) := dk_29 (dk_at dksX8_plain_4 14 rfl rfl)
theorem dX8_plain_107 : decode cX8_plain 107 = .ok (.if_icmp .le 7, 3) := dk_164 0 7 (dk_at dksX8_plain_4 15 rfl rfl)
theorem dX8_plain_110 : decode cX8_plain 110 = .ok (.iconst 1, 1) := dk_4 (dk_at dksX8_plain_4 18 rfl rfl)
theorem dX8_plain_111 : decode cX8_plain 111 = .ok (.goto 4, 3) := dk_167 0 4 (dk_at dksX8_plain_4 19 rfl rfl)
theorem dX8_plain_114 : decode cX8_plain 114 = .ok (.iconst 0, 1) := dk_3 (dk_at dksX8_plain_4 22 rfl rfl)
theorem dX8_plain_115 : decode cX8_plain 115 = .ok (.ireturn, 1) := dk_172 (dk_at dksX8_plain_4 23 rfl rfl)
abbrev cX8_sum : ByteArray := prog_23_method_41_code
def yX8_sum : MethodName := ⟨RX8, "sum", "()I"⟩
def dkwX8_sum_1 : List UInt8 := [180, 0, 79, 4, 96, 181, 0, 79, 27, 42, 182, 0, 218, 96, 60, 167, 255, 222, 27, 172]
abbrev dktX8_sum_1 : List UInt8 := dkwX8_sum_1 ++ []
def dkwX8_sum_0 : List UInt8 := [42, 182, 0, 218, 60, 42, 180, 0, 25, 2, 160, 0, 32, 42, 16, 43, 182, 0, 193, 153, 0, 23, 42, 89]
abbrev dktX8_sum_0 : List UInt8 := dkwX8_sum_0 ++ dktX8_sum_1
theorem dksX8_sum_0 : cX8_sum.data.toList.drop 0 = dktX8_sum_0 := by decide +kernel
theorem dksX8_sum_1 : cX8_sum.data.toList.drop 24 = dktX8_sum_1 := dk_seg dksX8_sum_0 24 rfl rfl
theorem dX8_sum_0 : decode cX8_sum 0 = .ok (.aload_n 0, 1) := dk_42 (dk_at dksX8_sum_0 0 rfl rfl)
theorem dX8_sum_1 : decode cX8_sum 1 = .ok (.invokevirtual 218, 3) := dk_182 0 218 (dk_at dksX8_sum_0 1 rfl rfl)
theorem dX8_sum_4 : decode cX8_sum 4 = .ok (.istore_n 1, 1) := dk_60 (dk_at dksX8_sum_0 4 rfl rfl)
theorem dX8_sum_5 : decode cX8_sum 5 = .ok (.aload_n 0, 1) := dk_42 (dk_at dksX8_sum_0 5 rfl rfl)
theorem dX8_sum_6 : decode cX8_sum 6 = .ok (.getfield 25, 3) := dk_180 0 25 (dk_at dksX8_sum_0 6 rfl rfl)
theorem dX8_sum_9 : decode cX8_sum 9 = .ok (.iconst (-1), 1) := dk_2 (dk_at dksX8_sum_0 9 rfl rfl)
theorem dX8_sum_10 : decode cX8_sum 10 = .ok (.if_icmp .ne 32, 3) := dk_160 0 32 (dk_at dksX8_sum_0 10 rfl rfl)
theorem dX8_sum_13 : decode cX8_sum 13 = .ok (.aload_n 0, 1) := dk_42 (dk_at dksX8_sum_0 13 rfl rfl)
theorem dX8_sum_14 : decode cX8_sum 14 = .ok (.bipush 43, 2) := dk_16 43 (dk_at dksX8_sum_0 14 rfl rfl)
theorem dX8_sum_16 : decode cX8_sum 16 = .ok (.invokevirtual 193, 3) := dk_182 0 193 (dk_at dksX8_sum_0 16 rfl rfl)
theorem dX8_sum_19 : decode cX8_sum 19 = .ok (.ifCond .eq 23, 3) := dk_153 0 23 (dk_at dksX8_sum_0 19 rfl rfl)
theorem dX8_sum_22 : decode cX8_sum 22 = .ok (.aload_n 0, 1) := dk_42 (dk_at dksX8_sum_0 22 rfl rfl)
theorem dX8_sum_23 : decode cX8_sum 23 = .ok (.dup, 1) := dk_89 (dk_at dksX8_sum_0 23 rfl rfl)
theorem dX8_sum_24 : decode cX8_sum 24 = .ok (.getfield 79, 3) := dk_180 0 79 (dk_at dksX8_sum_1 0 rfl rfl)
theorem dX8_sum_27 : decode cX8_sum 27 = .ok (.iconst 1, 1) := dk_4 (dk_at dksX8_sum_1 3 rfl rfl)
theorem dX8_sum_28 : decode cX8_sum 28 = .ok (.iadd, 1) := dk_96 (dk_at dksX8_sum_1 4 rfl rfl)
theorem dX8_sum_29 : decode cX8_sum 29 = .ok (.putfield 79, 3) := dk_181 0 79 (dk_at dksX8_sum_1 5 rfl rfl)
theorem dX8_sum_32 : decode cX8_sum 32 = .ok (.iload_n 1, 1) := dk_27 (dk_at dksX8_sum_1 8 rfl rfl)
theorem dX8_sum_33 : decode cX8_sum 33 = .ok (.aload_n 0, 1) := dk_42 (dk_at dksX8_sum_1 9 rfl rfl)
theorem dX8_sum_34 : decode cX8_sum 34 = .ok (.invokevirtual 218, 3) := dk_182 0 218 (dk_at dksX8_sum_1 10 rfl rfl)
theorem dX8_sum_37 : decode cX8_sum 37 = .ok (.iadd, 1) := dk_96 (dk_at dksX8_sum_1 13 rfl rfl)
theorem dX8_sum_38 : decode cX8_sum 38 = .ok (.istore_n 1, 1) := dk_60 (dk_at dksX8_sum_1 14 rfl rfl)
theorem dX8_sum_39 : decode cX8_sum 39 = .ok (.goto (-34), 3) := dk_167 255 222 (dk_at dksX8_sum_1 15 rfl rfl)
theorem dX8_sum_42 : decode cX8_sum 42 = .ok (.iload_n 1, 1) := dk_27 (dk_at dksX8_sum_1 18 rfl rfl)
theorem dX8_sum_43 : decode cX8_sum 43 = .ok (.ireturn, 1) := dk_172 (dk_at dksX8_sum_1 19 rfl rfl)
abbrev cX8_part : ByteArray := prog_23_method_40_code
def yX8_part : MethodName := ⟨RX8, "part", "()I"⟩
def dkwX8_part_6 : List UInt8 := [42, 180, 0, 79, 182, 0, 105, 3, 172, 42, 180, 0, 29, 27, 46, 172]
abbrev dktX8_part_6 : List UInt8 := dkwX8_part_6 ++ []
def dkwX8_part_5 : List UInt8 := [167, 0, 17, 42, 18, 216, 182, 0, 101, 153, 0, 7, 8, 167, 0, 4, 2, 60, 27, 2, 160, 0, 13, 42]
abbrev dktX8_part_5 : List UInt8 := dkwX8_part_5 ++ dktX8_part_6
def dkwX8_part_4 : List UInt8 := [18, 212, 182, 0, 101, 153, 0, 7, 6, 167, 0, 30, 42, 18, 214, 182, 0, 101, 153, 0, 7, 7]
abbrev dktX8_part_4 : List UInt8 := dkwX8_part_4 ++ dktX8_part_5
def dkwX8_part_3 : List UInt8 := [182, 0, 101, 153, 0, 7, 4, 167, 0, 56, 42, 18, 137, 182, 0, 101, 153, 0, 7, 5, 167, 0, 43, 42]
abbrev dktX8_part_3 : List UInt8 := dkwX8_part_3 ++ dktX8_part_4
def dkwX8_part_2 : List UInt8 := [17, 3, 231, 182, 0, 124, 172, 42, 18, 210, 182, 0, 101, 153, 0, 7, 3, 167, 0, 69, 42, 18, 211]
abbrev dktX8_part_2 : List UInt8 := dkwX8_part_2 ++ dktX8_part_3
def dkwX8_part_1 : List UInt8 := [162, 0, 30, 42, 42, 180, 0, 79, 182, 0, 85, 16, 48, 16, 57, 184, 0, 59, 153, 0, 12, 42, 3]
abbrev dktX8_part_1 : List UInt8 := dkwX8_part_1 ++ dktX8_part_2
def dkwX8_part_0 : List UInt8 := [42, 180, 0, 25, 2, 159, 0, 5, 3, 172, 42, 182, 0, 88, 42, 180, 0, 79, 42, 180, 0, 82]
abbrev dktX8_part_0 : List UInt8 := dkwX8_part_0 ++ dktX8_part_1
theorem dksX8_part_0 : cX8_part.data.toList.drop 0 = dktX8_part_0 := by decide +kernel
theorem dksX8_part_1 : cX8_part.data.toList.drop 22 = dktX8_part_1 := dk_seg dksX8_part_0 22 rfl rfl
theorem dksX8_part_2 : cX8_part.data.toList.drop 45 = dktX8_part_2 := dk_seg dksX8_part_1 23 rfl rfl
theorem dksX8_part_3 : cX8_part.data.toList.drop 68 = dktX8_part_3 := dk_seg dksX8_part_2 23 rfl rfl
theorem dksX8_part_4 : cX8_part.data.toList.drop 92 = dktX8_part_4 := dk_seg dksX8_part_3 24 rfl rfl
theorem dksX8_part_5 : cX8_part.data.toList.drop 114 = dktX8_part_5 := dk_seg dksX8_part_4 22 rfl rfl
theorem dksX8_part_6 : cX8_part.data.toList.drop 138 = dktX8_part_6 := dk_seg dksX8_part_5 24 rfl rfl
theorem dX8_part_0 : decode cX8_part 0 = .ok (.aload_n 0, 1) := dk_42 (dk_at dksX8_part_0 0 rfl rfl)
theorem dX8_part_1 : decode cX8_part 1 = .ok (.getfield 25, 3) := dk_180 0 25 (dk_at dksX8_part_0 1 rfl rfl)
theorem dX8_part_4 : decode cX8_part 4 = .ok (.iconst (-1), 1) := dk_2 (dk_at dksX8_part_0 4 rfl rfl)
theorem dX8_part_5 : decode cX8_part 5 = .ok (.if_icmp .eq 5, 3) := dk_159 0 5 (dk_at dksX8_part_0 5 rfl rfl)
theorem dX8_part_8 : decode cX8_part 8 = .ok (.iconst 0, 1) := dk_3 (dk_at dksX8_part_0 8 rfl rfl)
theorem dX8_part_9 : decode cX8_part 9 = .ok (.ireturn, 1) := dk_172 (dk_at dksX8_part_0 9 rfl rfl)
theorem dX8_part_10 : decode cX8_part 10 = .ok (.aload_n 0, 1) := dk_42 (dk_at dksX8_part_0 10 rfl rfl)
theorem dX8_part_11 : decode cX8_part 11 = .ok (.invokevirtual 88, 3) := dk_182 0 88 (dk_at dksX8_part_0 11 rfl rfl)
theorem dX8_part_14 : decode cX8_part 14 = .ok (.aload_n 0, 1) := dk_42 (dk_at dksX8_part_0 14 rfl rfl)
theorem dX8_part_15 : decode cX8_part 15 = .ok (.getfield 79, 3) := dk_180 0 79 (dk_at dksX8_part_0 15 rfl rfl)
theorem dX8_part_18 : decode cX8_part 18 = .ok (.aload_n 0, 1) := dk_42 (dk_at dksX8_part_0 18 rfl rfl)
theorem dX8_part_19 : decode cX8_part 19 = .ok (.getfield 82, 3) := dk_180 0 82 (dk_at dksX8_part_0 19 rfl rfl)
theorem dX8_part_22 : decode cX8_part 22 = .ok (.if_icmp .ge 30, 3) := dk_162 0 30 (dk_at dksX8_part_1 0 rfl rfl)
theorem dX8_part_25 : decode cX8_part 25 = .ok (.aload_n 0, 1) := dk_42 (dk_at dksX8_part_1 3 rfl rfl)
theorem dX8_part_26 : decode cX8_part 26 = .ok (.aload_n 0, 1) := dk_42 (dk_at dksX8_part_1 4 rfl rfl)
theorem dX8_part_27 : decode cX8_part 27 = .ok (.getfield 79, 3) := dk_180 0 79 (dk_at dksX8_part_1 5 rfl rfl)
theorem dX8_part_30 : decode cX8_part 30 = .ok (.invokevirtual 85, 3) := dk_182 0 85 (dk_at dksX8_part_1 8 rfl rfl)
theorem dX8_part_33 : decode cX8_part 33 = .ok (.bipush 48, 2) := dk_16 48 (dk_at dksX8_part_1 11 rfl rfl)
theorem dX8_part_35 : decode cX8_part 35 = .ok (.bipush 57, 2) := dk_16 57 (dk_at dksX8_part_1 13 rfl rfl)
theorem dX8_part_37 : decode cX8_part 37 = .ok (.invokestatic 59, 3) := dk_184 0 59 (dk_at dksX8_part_1 15 rfl rfl)
theorem dX8_part_40 : decode cX8_part 40 = .ok (.ifCond .eq 12, 3) := dk_153 0 12 (dk_at dksX8_part_1 18 rfl rfl)
theorem dX8_part_43 : decode cX8_part 43 = .ok (.aload_n 0, 1) := dk_42 (dk_at dksX8_part_1 21 rfl rfl)
theorem dX8_part_44 : decode cX8_part 44 = .ok (.iconst 0, 1) := dk_3 (dk_at dksX8_part_1 22 rfl rfl)
theorem dX8_part_45 : decode cX8_part 45 = .ok (.sipush 999, 3) := dk_17 3 231 (dk_at dksX8_part_2 0 rfl rfl)
theorem dX8_part_48 : decode cX8_part 48 = .ok (.invokevirtual 124, 3) := dk_182 0 124 (dk_at dksX8_part_2 3 rfl rfl)
theorem dX8_part_51 : decode cX8_part 51 = .ok (.ireturn, 1) := dk_172 (dk_at dksX8_part_2 6 rfl rfl)
theorem dX8_part_52 : decode cX8_part 52 = .ok (.aload_n 0, 1) := dk_42 (dk_at dksX8_part_2 7 rfl rfl)
theorem dX8_part_53 : decode cX8_part 53 = .ok (.ldc 210, 2) := dk_18 210 (dk_at dksX8_part_2 8 rfl rfl)
theorem dX8_part_55 : decode cX8_part 55 = .ok (.invokevirtual 101, 3) := dk_182 0 101 (dk_at dksX8_part_2 10 rfl rfl)
theorem dX8_part_58 : decode cX8_part 58 = .ok (.ifCond .eq 7, 3) := dk_153 0 7 (dk_at dksX8_part_2 13 rfl rfl)
theorem dX8_part_61 : decode cX8_part 61 = .ok (.iconst 0, 1) := dk_3 (dk_at dksX8_part_2 16 rfl rfl)
theorem dX8_part_62 : decode cX8_part 62 = .ok (.goto 69, 3) := dk_167 0 69 (dk_at dksX8_part_2 17 rfl rfl)
theorem dX8_part_65 : decode cX8_part 65 = .ok (.aload_n 0, 1) := dk_42 (dk_at dksX8_part_2 20 rfl rfl)
theorem dX8_part_66 : decode cX8_part 66 = .ok (.ldc 211, 2) := dk_18 211 (dk_at dksX8_part_2 21 rfl rfl)
theorem dX8_part_68 : decode cX8_part 68 = .ok (.invokevirtual 101, 3) := dk_182 0 101 (dk_at dksX8_part_3 0 rfl rfl)
theorem dX8_part_71 : decode cX8_part 71 = .ok (.ifCond .eq 7, 3) := dk_153 0 7 (dk_at dksX8_part_3 3 rfl rfl)
theorem dX8_part_74 : decode cX8_part 74 = .ok (.iconst 1, 1) := dk_4 (dk_at dksX8_part_3 6 rfl rfl)
theorem dX8_part_75 : decode cX8_part 75 = .ok (.goto 56, 3) := dk_167 0 56 (dk_at dksX8_part_3 7 rfl rfl)
theorem dX8_part_78 : decode cX8_part 78 = .ok (.aload_n 0, 1) := dk_42 (dk_at dksX8_part_3 10 rfl rfl)
theorem dX8_part_79 : decode cX8_part 79 = .ok (.ldc 137, 2) := dk_18 137 (dk_at dksX8_part_3 11 rfl rfl)
theorem dX8_part_81 : decode cX8_part 81 = .ok (.invokevirtual 101, 3) := dk_182 0 101 (dk_at dksX8_part_3 13 rfl rfl)
theorem dX8_part_84 : decode cX8_part 84 = .ok (.ifCond .eq 7, 3) := dk_153 0 7 (dk_at dksX8_part_3 16 rfl rfl)
theorem dX8_part_87 : decode cX8_part 87 = .ok (.iconst 2, 1) := dk_5 (dk_at dksX8_part_3 19 rfl rfl)
theorem dX8_part_88 : decode cX8_part 88 = .ok (.goto 43, 3) := dk_167 0 43 (dk_at dksX8_part_3 20 rfl rfl)
theorem dX8_part_91 : decode cX8_part 91 = .ok (.aload_n 0, 1) := dk_42 (dk_at dksX8_part_3 23 rfl rfl)
theorem dX8_part_92 : decode cX8_part 92 = .ok (.ldc 212, 2) := dk_18 212 (dk_at dksX8_part_4 0 rfl rfl)
theorem dX8_part_94 : decode cX8_part 94 = .ok (.invokevirtual 101, 3) := dk_182 0 101 (dk_at dksX8_part_4 2 rfl rfl)
theorem dX8_part_97 : decode cX8_part 97 = .ok (.ifCond .eq 7, 3) := dk_153 0 7 (dk_at dksX8_part_4 5 rfl rfl)
theorem dX8_part_100 : decode cX8_part 100 = .ok (.iconst 3, 1) := dk_6 (dk_at dksX8_part_4 8 rfl rfl)
theorem dX8_part_101 : decode cX8_part 101 = .ok (.goto 30, 3) := dk_167 0 30 (dk_at dksX8_part_4 9 rfl rfl)
theorem dX8_part_104 : decode cX8_part 104 = .ok (.aload_n 0, 1) := dk_42 (dk_at dksX8_part_4 12 rfl rfl)
theorem dX8_part_105 : decode cX8_part 105 = .ok (.ldc 214, 2) := dk_18 214 (dk_at dksX8_part_4 13 rfl rfl)
theorem dX8_part_107 : decode cX8_part 107 = .ok (.invokevirtual 101, 3) := dk_182 0 101 (dk_at dksX8_part_4 15 rfl rfl)
theorem dX8_part_110 : decode cX8_part 110 = .ok (.ifCond .eq 7, 3) := dk_153 0 7 (dk_at dksX8_part_4 18 rfl rfl)
theorem dX8_part_113 : decode cX8_part 113 = .ok (.iconst 4, 1) := dk_7 (dk_at dksX8_part_4 21 rfl rfl)
theorem dX8_part_114 : decode cX8_part 114 = .ok (.goto 17, 3) := dk_167 0 17 (dk_at dksX8_part_5 0 rfl rfl)
theorem dX8_part_117 : decode cX8_part 117 = .ok (.aload_n 0, 1) := dk_42 (dk_at dksX8_part_5 3 rfl rfl)
theorem dX8_part_118 : decode cX8_part 118 = .ok (.ldc 216, 2) := dk_18 216 (dk_at dksX8_part_5 4 rfl rfl)
theorem dX8_part_120 : decode cX8_part 120 = .ok (.invokevirtual 101, 3) := dk_182 0 101 (dk_at dksX8_part_5 6 rfl rfl)
theorem dX8_part_123 : decode cX8_part 123 = .ok (.ifCond .eq 7, 3) := dk_153 0 7 (dk_at dksX8_part_5 9 rfl rfl)
theorem dX8_part_126 : decode cX8_part 126 = .ok (.iconst 5, 1) := dk_8 (dk_at dksX8_part_5 12 rfl rfl)
theorem dX8_part_127 : decode cX8_part 127 = .ok (.goto 4, 3) := dk_167 0 4 (dk_at dksX8_part_5 13 rfl rfl)
theorem dX8_part_130 : decode cX8_part 130 = .ok (.iconst (-1), 1) := dk_2 (dk_at dksX8_part_5 16 rfl rfl)
theorem dX8_part_131 : decode cX8_part 131 = .ok (.istore_n 1, 1) := dk_60 (dk_at dksX8_part_5 17 rfl rfl)
theorem dX8_part_132 : decode cX8_part 132 = .ok (.iload_n 1, 1) := dk_27 (dk_at dksX8_part_5 18 rfl rfl)
theorem dX8_part_133 : decode cX8_part 133 = .ok (.iconst (-1), 1) := dk_2 (dk_at dksX8_part_5 19 rfl rfl)
theorem dX8_part_134 : decode cX8_part 134 = .ok (.if_icmp .ne 13, 3) := dk_160 0 13 (dk_at dksX8_part_5 20 rfl rfl)
theorem dX8_part_137 : decode cX8_part 137 = .ok (.aload_n 0, 1) := dk_42 (dk_at dksX8_part_5 23 rfl rfl)
theorem dX8_part_138 : decode cX8_part 138 = .ok (.aload_n 0, 1) := dk_42 (dk_at dksX8_part_6 0 rfl rfl)
theorem dX8_part_139 : decode cX8_part 139 = .ok (.getfield 79, 3) := dk_180 0 79 (dk_at dksX8_part_6 1 rfl rfl)
theorem dX8_part_142 : decode cX8_part 142 = .ok (.invokevirtual 105, 3) := dk_182 0 105 (dk_at dksX8_part_6 4 rfl rfl)
theorem dX8_part_145 : decode cX8_part 145 = .ok (.iconst 0, 1) := dk_3 (dk_at dksX8_part_6 7 rfl rfl)
theorem dX8_part_146 : decode cX8_part 146 = .ok (.ireturn, 1) := dk_172 (dk_at dksX8_part_6 8 rfl rfl)
theorem dX8_part_147 : decode cX8_part 147 = .ok (.aload_n 0, 1) := dk_42 (dk_at dksX8_part_6 9 rfl rfl)
theorem dX8_part_148 : decode cX8_part 148 = .ok (.getfield 29, 3) := dk_180 0 29 (dk_at dksX8_part_6 10 rfl rfl)
theorem dX8_part_151 : decode cX8_part 151 = .ok (.iload_n 1, 1) := dk_27 (dk_at dksX8_part_6 13 rfl rfl)
theorem dX8_part_152 : decode cX8_part 152 = .ok (.iaload, 1) := dk_46 (dk_at dksX8_part_6 14 rfl rfl)
theorem dX8_part_153 : decode cX8_part 153 = .ok (.ireturn, 1) := dk_172 (dk_at dksX8_part_6 15 rfl rfl)
abbrev cX8_townLine : ByteArray := prog_23_method_35_code
def yX8_townLine : MethodName := ⟨RX8, "townLine", "()V"⟩
def dkwX8_townLine_8 : List UInt8 := [153, 0, 12, 42, 16, 15, 182, 0, 177, 167, 0, 11, 42, 42, 180, 0, 79, 182, 0, 105, 177]
abbrev dktX8_townLine_8 : List UInt8 := dkwX8_townLine_8 ++ []
def dkwX8_townLine_7 : List UInt8 := [42, 18, 180, 182, 0, 101, 153, 0, 12, 42, 16, 14, 182, 0, 177, 167, 0, 29, 42, 18, 182, 182, 0, 101]
abbrev dktX8_townLine_7 : List UInt8 := dkwX8_townLine_7 ++ dktX8_townLine_8
def dkwX8_townLine_6 : List UInt8 := [182, 0, 172, 167, 0, 65, 42, 18, 175, 182, 0, 101, 153, 0, 12, 42, 16, 13, 182, 0, 177, 167, 0, 47]
abbrev dktX8_townLine_6 : List UInt8 := dkwX8_townLine_6 ++ dktX8_townLine_7
def dkwX8_townLine_5 : List UInt8 := [160, 0, 10, 42, 28, 7, 4, 182, 0, 141, 167, 0, 82, 42, 18, 170, 182, 0, 101, 153, 0, 11, 42, 27]
abbrev dktX8_townLine_5 : List UInt8 := dkwX8_townLine_5 ++ dktX8_townLine_6
def dkwX8_townLine_4 : List UInt8 := [153, 0, 35, 42, 3, 42, 180, 0, 7, 8, 46, 4, 100, 182, 0, 124, 61, 42, 180, 0, 25, 2]
abbrev dktX8_townLine_4 : List UInt8 := dkwX8_townLine_4 ++ dktX8_townLine_5
def dkwX8_townLine_3 : List UInt8 := [18, 163, 182, 0, 101, 153, 0, 11, 42, 27, 182, 0, 165, 167, 0, 123, 42, 18, 168, 182, 0, 101]
abbrev dktX8_townLine_3 : List UInt8 := dkwX8_townLine_3 ++ dktX8_townLine_4
def dkwX8_townLine_2 : List UInt8 := [96, 79, 167, 0, 157, 42, 18, 158, 182, 0, 101, 153, 0, 11, 42, 27, 182, 0, 160, 167, 0, 140, 42]
abbrev dktX8_townLine_2 : List UInt8 := dkwX8_townLine_2 ++ dktX8_townLine_3
def dkwX8_townLine_1 : List UInt8 := [160, 0, 8, 42, 27, 182, 0, 105, 42, 180, 0, 25, 2, 160, 0, 170, 42, 180, 0, 7, 6, 92, 46, 4]
abbrev dktX8_townLine_1 : List UInt8 := dkwX8_townLine_1 ++ dktX8_townLine_2
def dkwX8_townLine_0 : List UInt8 := [42, 182, 0, 109, 60, 42, 18, 156, 182, 0, 101, 153, 0, 40, 42, 180, 0, 7, 6, 46, 16, 6]
abbrev dktX8_townLine_0 : List UInt8 := dkwX8_townLine_0 ++ dktX8_townLine_1
theorem dksX8_townLine_0 : cX8_townLine.data.toList.drop 0 = dktX8_townLine_0 := by decide +kernel
theorem dksX8_townLine_1 : cX8_townLine.data.toList.drop 22 = dktX8_townLine_1 := dk_seg dksX8_townLine_0 22 rfl rfl
theorem dksX8_townLine_2 : cX8_townLine.data.toList.drop 46 = dktX8_townLine_2 := dk_seg dksX8_townLine_1 24 rfl rfl
theorem dksX8_townLine_3 : cX8_townLine.data.toList.drop 69 = dktX8_townLine_3 := dk_seg dksX8_townLine_2 23 rfl rfl
theorem dksX8_townLine_4 : cX8_townLine.data.toList.drop 91 = dktX8_townLine_4 := dk_seg dksX8_townLine_3 22 rfl rfl
theorem dksX8_townLine_5 : cX8_townLine.data.toList.drop 113 = dktX8_townLine_5 := dk_seg dksX8_townLine_4 22 rfl rfl
theorem dksX8_townLine_6 : cX8_townLine.data.toList.drop 137 = dktX8_townLine_6 := dk_seg dksX8_townLine_5 24 rfl rfl
theorem dksX8_townLine_7 : cX8_townLine.data.toList.drop 161 = dktX8_townLine_7 := dk_seg dksX8_townLine_6 24 rfl rfl
theorem dksX8_townLine_8 : cX8_townLine.data.toList.drop 185 = dktX8_townLine_8 := dk_seg dksX8_townLine_7 24 rfl rfl
theorem dX8_townLine_0 : decode cX8_townLine 0 = .ok (.aload_n 0, 1) := dk_42 (dk_at dksX8_townLine_0 0 rfl rfl)
theorem dX8_townLine_1 : decode cX8_townLine 1 = .ok (.invokevirtual 109, 3) := dk_182 0 109 (dk_at dksX8_townLine_0 1 rfl rfl)
theorem dX8_townLine_4 : decode cX8_townLine 4 = .ok (.istore_n 1, 1) := dk_60 (dk_at dksX8_townLine_0 4 rfl rfl)
theorem dX8_townLine_5 : decode cX8_townLine 5 = .ok (.aload_n 0, 1) := dk_42 (dk_at dksX8_townLine_0 5 rfl rfl)
theorem dX8_townLine_6 : decode cX8_townLine 6 = .ok (.ldc 156, 2) := dk_18 156 (dk_at dksX8_townLine_0 6 rfl rfl)
theorem dX8_townLine_8 : decode cX8_townLine 8 = .ok (.invokevirtual 101, 3) := dk_182 0 101 (dk_at dksX8_townLine_0 8 rfl rfl)
theorem dX8_townLine_11 : decode cX8_townLine 11 = .ok (.ifCond .eq 40, 3) := dk_153 0 40 (dk_at dksX8_townLine_0 11 rfl rfl)
theorem dX8_townLine_14 : decode cX8_townLine 14 = .ok (.aload_n 0, 1) := dk_42 (dk_at dksX8_townLine_0 14 rfl rfl)
theorem dX8_townLine_15 : decode cX8_townLine 15 = .ok (.getfield 7, 3) := dk_180 0 7 (dk_at dksX8_townLine_0 15 rfl rfl)
theorem dX8_townLine_18 : decode cX8_townLine 18 = .ok (.iconst 3, 1) := dk_6 (dk_at dksX8_townLine_0 18 rfl rfl)
theorem dX8_townLine_19 : decode cX8_townLine 19 = .ok (.iaload, 1) := dk_46 (dk_at dksX8_townLine_0 19 rfl rfl)
theorem dX8_townLine_20 : decode cX8_townLine 20 = .ok (.bipush 6, 2) := dk_16 6 (dk_at dksX8_townLine_0 20 rfl rfl)
theorem dX8_townLine_22 : decode cX8_townLine 22 = .ok (.if_icmp .ne 8, 3) := dk_160 0 8 (dk_at dksX8_townLine_1 0 rfl rfl)
theorem dX8_townLine_25 : decode cX8_townLine 25 = .ok (.aload_n 0, 1) := dk_42 (dk_at dksX8_townLine_1 3 rfl rfl)
theorem dX8_townLine_26 : decode cX8_townLine 26 = .ok (.iload_n 1, 1) := dk_27 (dk_at dksX8_townLine_1 4 rfl rfl)
theorem dX8_townLine_27 : decode cX8_townLine 27 = .ok (.invokevirtual 105, 3) := dk_182 0 105 (dk_at dksX8_townLine_1 5 rfl rfl)
theorem dX8_townLine_30 : decode cX8_townLine 30 = .ok (.aload_n 0, 1) := dk_42 (dk_at dksX8_townLine_1 8 rfl rfl)
theorem dX8_townLine_31 : decode cX8_townLine 31 = .ok (.getfield 25, 3) := dk_180 0 25 (dk_at dksX8_townLine_1 9 rfl rfl)
theorem dX8_townLine_34 : decode cX8_townLine 34 = .ok (.iconst (-1), 1) := dk_2 (dk_at dksX8_townLine_1 12 rfl rfl)
theorem dX8_townLine_35 : decode cX8_townLine 35 = .ok (.if_icmp .ne 170, 3) := dk_160 0 170 (dk_at dksX8_townLine_1 13 rfl rfl)
theorem dX8_townLine_38 : decode cX8_townLine 38 = .ok (.aload_n 0, 1) := dk_42 (dk_at dksX8_townLine_1 16 rfl rfl)
theorem dX8_townLine_39 : decode cX8_townLine 39 = .ok (.getfield 7, 3) := dk_180 0 7 (dk_at dksX8_townLine_1 17 rfl rfl)
theorem dX8_townLine_42 : decode cX8_townLine 42 = .ok (.iconst 3, 1) := dk_6 (dk_at dksX8_townLine_1 20 rfl rfl)
theorem dX8_townLine_43 : decode cX8_townLine 43 = .ok (.dup2, 1) := dk_92 (dk_at dksX8_townLine_1 21 rfl rfl)
theorem dX8_townLine_44 : decode cX8_townLine 44 = .ok (.iaload, 1) := dk_46 (dk_at dksX8_townLine_1 22 rfl rfl)
theorem dX8_townLine_45 : decode cX8_townLine 45 = .ok (.iconst 1, 1) := dk_4 (dk_at dksX8_townLine_1 23 rfl rfl)
theorem dX8_townLine_46 : decode cX8_townLine 46 = .ok (.iadd, 1) := dk_96 (dk_at dksX8_townLine_2 0 rfl rfl)
theorem dX8_townLine_47 : decode cX8_townLine 47 = .ok (.iastore, 1) := dk_79 (dk_at dksX8_townLine_2 1 rfl rfl)
theorem dX8_townLine_48 : decode cX8_townLine 48 = .ok (.goto 157, 3) := dk_167 0 157 (dk_at dksX8_townLine_2 2 rfl rfl)
theorem dX8_townLine_51 : decode cX8_townLine 51 = .ok (.aload_n 0, 1) := dk_42 (dk_at dksX8_townLine_2 5 rfl rfl)
theorem dX8_townLine_52 : decode cX8_townLine 52 = .ok (.ldc 158, 2) := dk_18 158 (dk_at dksX8_townLine_2 6 rfl rfl)
theorem dX8_townLine_54 : decode cX8_townLine 54 = .ok (.invokevirtual 101, 3) := dk_182 0 101 (dk_at dksX8_townLine_2 8 rfl rfl)
theorem dX8_townLine_57 : decode cX8_townLine 57 = .ok (.ifCond .eq 11, 3) := dk_153 0 11 (dk_at dksX8_townLine_2 11 rfl rfl)
theorem dX8_townLine_60 : decode cX8_townLine 60 = .ok (.aload_n 0, 1) := dk_42 (dk_at dksX8_townLine_2 14 rfl rfl)
theorem dX8_townLine_61 : decode cX8_townLine 61 = .ok (.iload_n 1, 1) := dk_27 (dk_at dksX8_townLine_2 15 rfl rfl)
theorem dX8_townLine_62 : decode cX8_townLine 62 = .ok (.invokevirtual 160, 3) := dk_182 0 160 (dk_at dksX8_townLine_2 16 rfl rfl)
theorem dX8_townLine_65 : decode cX8_townLine 65 = .ok (.goto 140, 3) := dk_167 0 140 (dk_at dksX8_townLine_2 19 rfl rfl)
theorem dX8_townLine_68 : decode cX8_townLine 68 = .ok (.aload_n 0, 1) := dk_42 (dk_at dksX8_townLine_2 22 rfl rfl)
theorem dX8_townLine_69 : decode cX8_townLine 69 = .ok (.ldc 163, 2) := dk_18 163 (dk_at dksX8_townLine_3 0 rfl rfl)
theorem dX8_townLine_71 : decode cX8_townLine 71 = .ok (.invokevirtual 101, 3) := dk_182 0 101 (dk_at dksX8_townLine_3 2 rfl rfl)
theorem dX8_townLine_74 : decode cX8_townLine 74 = .ok (.ifCond .eq 11, 3) := dk_153 0 11 (dk_at dksX8_townLine_3 5 rfl rfl)
theorem dX8_townLine_77 : decode cX8_townLine 77 = .ok (.aload_n 0, 1) := dk_42 (dk_at dksX8_townLine_3 8 rfl rfl)
theorem dX8_townLine_78 : decode cX8_townLine 78 = .ok (.iload_n 1, 1) := dk_27 (dk_at dksX8_townLine_3 9 rfl rfl)
theorem dX8_townLine_79 : decode cX8_townLine 79 = .ok (.invokevirtual 165, 3) := dk_182 0 165 (dk_at dksX8_townLine_3 10 rfl rfl)
theorem dX8_townLine_82 : decode cX8_townLine 82 = .ok (.goto 123, 3) := dk_167 0 123 (dk_at dksX8_townLine_3 13 rfl rfl)
theorem dX8_townLine_85 : decode cX8_townLine 85 = .ok (.aload_n 0, 1) := dk_42 (dk_at dksX8_townLine_3 16 rfl rfl)
theorem dX8_townLine_86 : decode cX8_townLine 86 = .ok (.ldc 168, 2) := dk_18 168 (dk_at dksX8_townLine_3 17 rfl rfl)
theorem dX8_townLine_88 : decode cX8_townLine 88 = .ok (.invokevirtual 101, 3) := dk_182 0 101 (dk_at dksX8_townLine_3 19 rfl rfl)
theorem dX8_townLine_91 : decode cX8_townLine 91 = .ok (.ifCond .eq 35, 3) := dk_153 0 35 (dk_at dksX8_townLine_4 0 rfl rfl)
theorem dX8_townLine_94 : decode cX8_townLine 94 = .ok (.aload_n 0, 1) := dk_42 (dk_at dksX8_townLine_4 3 rfl rfl)
theorem dX8_townLine_95 : decode cX8_townLine 95 = .ok (.iconst 0, 1) := dk_3 (dk_at dksX8_townLine_4 4 rfl rfl)
theorem dX8_townLine_96 : decode cX8_townLine 96 = .ok (.aload_n 0, 1) := dk_42 (dk_at dksX8_townLine_4 5 rfl rfl)
theorem dX8_townLine_97 : decode cX8_townLine 97 = .ok (.getfield 7, 3) := dk_180 0 7 (dk_at dksX8_townLine_4 6 rfl rfl)
theorem dX8_townLine_100 : decode cX8_townLine 100 = .ok (.iconst 5, 1) := dk_8 (dk_at dksX8_townLine_4 9 rfl rfl)
theorem dX8_townLine_101 : decode cX8_townLine 101 = .ok (.iaload, 1) := dk_46 (dk_at dksX8_townLine_4 10 rfl rfl)
theorem dX8_townLine_102 : decode cX8_townLine 102 = .ok (.iconst 1, 1) := dk_4 (dk_at dksX8_townLine_4 11 rfl rfl)
theorem dX8_townLine_103 : decode cX8_townLine 103 = .ok (.isub, 1) := dk_100 (dk_at dksX8_townLine_4 12 rfl rfl)
theorem dX8_townLine_104 : decode cX8_townLine 104 = .ok (.invokevirtual 124, 3) := dk_182 0 124 (dk_at dksX8_townLine_4 13 rfl rfl)
theorem dX8_townLine_107 : decode cX8_townLine 107 = .ok (.istore_n 2, 1) := dk_61 (dk_at dksX8_townLine_4 16 rfl rfl)
theorem dX8_townLine_108 : decode cX8_townLine 108 = .ok (.aload_n 0, 1) := dk_42 (dk_at dksX8_townLine_4 17 rfl rfl)
theorem dX8_townLine_109 : decode cX8_townLine 109 = .ok (.getfield 25, 3) := dk_180 0 25 (dk_at dksX8_townLine_4 18 rfl rfl)
theorem dX8_townLine_112 : decode cX8_townLine 112 = .ok (.iconst (-1), 1) := dk_2 (dk_at dksX8_townLine_4 21 rfl rfl)
theorem dX8_townLine_113 : decode cX8_townLine 113 = .ok (.if_icmp .ne 10, 3) := dk_160 0 10 (dk_at dksX8_townLine_5 0 rfl rfl)
theorem dX8_townLine_116 : decode cX8_townLine 116 = .ok (.aload_n 0, 1) := dk_42 (dk_at dksX8_townLine_5 3 rfl rfl)
theorem dX8_townLine_117 : decode cX8_townLine 117 = .ok (.iload_n 2, 1) := dk_28 (dk_at dksX8_townLine_5 4 rfl rfl)
theorem dX8_townLine_118 : decode cX8_townLine 118 = .ok (.iconst 4, 1) := dk_7 (dk_at dksX8_townLine_5 5 rfl rfl)
theorem dX8_townLine_119 : decode cX8_townLine 119 = .ok (.iconst 1, 1) := dk_4 (dk_at dksX8_townLine_5 6 rfl rfl)
theorem dX8_townLine_120 : decode cX8_townLine 120 = .ok (.invokevirtual 141, 3) := dk_182 0 141 (dk_at dksX8_townLine_5 7 rfl rfl)
theorem dX8_townLine_123 : decode cX8_townLine 123 = .ok (.goto 82, 3) := dk_167 0 82 (dk_at dksX8_townLine_5 10 rfl rfl)
theorem dX8_townLine_126 : decode cX8_townLine 126 = .ok (.aload_n 0, 1) := dk_42 (dk_at dksX8_townLine_5 13 rfl rfl)
theorem dX8_townLine_127 : decode cX8_townLine 127 = .ok (.ldc 170, 2) := dk_18 170 (dk_at dksX8_townLine_5 14 rfl rfl)
theorem dX8_townLine_129 : decode cX8_townLine 129 = .ok (.invokevirtual 101, 3) := dk_182 0 101 (dk_at dksX8_townLine_5 16 rfl rfl)
theorem dX8_townLine_132 : decode cX8_townLine 132 = .ok (.ifCond .eq 11, 3) := dk_153 0 11 (dk_at dksX8_townLine_5 19 rfl rfl)
theorem dX8_townLine_135 : decode cX8_townLine 135 = .ok (.aload_n 0, 1) := dk_42 (dk_at dksX8_townLine_5 22 rfl rfl)
theorem dX8_townLine_136 : decode cX8_townLine 136 = .ok (.iload_n 1, 1) := dk_27 (dk_at dksX8_townLine_5 23 rfl rfl)
theorem dX8_townLine_137 : decode cX8_townLine 137 = .ok (.invokevirtual 172, 3) := dk_182 0 172 (dk_at dksX8_townLine_6 0 rfl rfl)
theorem dX8_townLine_140 : decode cX8_townLine 140 = .ok (.goto 65, 3) := dk_167 0 65 (dk_at dksX8_townLine_6 3 rfl rfl)
theorem dX8_townLine_143 : decode cX8_townLine 143 = .ok (.aload_n 0, 1) := dk_42 (dk_at dksX8_townLine_6 6 rfl rfl)
theorem dX8_townLine_144 : decode cX8_townLine 144 = .ok (.ldc 175, 2) := dk_18 175 (dk_at dksX8_townLine_6 7 rfl rfl)
theorem dX8_townLine_146 : decode cX8_townLine 146 = .ok (.invokevirtual 101, 3) := dk_182 0 101 (dk_at dksX8_townLine_6 9 rfl rfl)
theorem dX8_townLine_149 : decode cX8_townLine 149 = .ok (.ifCond .eq 12, 3) := dk_153 0 12 (dk_at dksX8_townLine_6 12 rfl rfl)
theorem dX8_townLine_152 : decode cX8_townLine 152 = .ok (.aload_n 0, 1) := dk_42 (dk_at dksX8_townLine_6 15 rfl rfl)
theorem dX8_townLine_153 : decode cX8_townLine 153 = .ok (.bipush 13, 2) := dk_16 13 (dk_at dksX8_townLine_6 16 rfl rfl)
theorem dX8_townLine_155 : decode cX8_townLine 155 = .ok (.invokevirtual 177, 3) := dk_182 0 177 (dk_at dksX8_townLine_6 18 rfl rfl)
theorem dX8_townLine_158 : decode cX8_townLine 158 = .ok (.goto 47, 3) := dk_167 0 47 (dk_at dksX8_townLine_6 21 rfl rfl)
theorem dX8_townLine_161 : decode cX8_townLine 161 = .ok (.aload_n 0, 1) := dk_42 (dk_at dksX8_townLine_7 0 rfl rfl)
theorem dX8_townLine_162 : decode cX8_townLine 162 = .ok (.ldc 180, 2) := dk_18 180 (dk_at dksX8_townLine_7 1 rfl rfl)
theorem dX8_townLine_164 : decode cX8_townLine 164 = .ok (.invokevirtual 101, 3) := dk_182 0 101 (dk_at dksX8_townLine_7 3 rfl rfl)
theorem dX8_townLine_167 : decode cX8_townLine 167 = .ok (.ifCond .eq 12, 3) := dk_153 0 12 (dk_at dksX8_townLine_7 6 rfl rfl)
theorem dX8_townLine_170 : decode cX8_townLine 170 = .ok (.aload_n 0, 1) := dk_42 (dk_at dksX8_townLine_7 9 rfl rfl)
theorem dX8_townLine_171 : decode cX8_townLine 171 = .ok (.bipush 14, 2) := dk_16 14 (dk_at dksX8_townLine_7 10 rfl rfl)
theorem dX8_townLine_173 : decode cX8_townLine 173 = .ok (.invokevirtual 177, 3) := dk_182 0 177 (dk_at dksX8_townLine_7 12 rfl rfl)
theorem dX8_townLine_176 : decode cX8_townLine 176 = .ok (.goto 29, 3) := dk_167 0 29 (dk_at dksX8_townLine_7 15 rfl rfl)
theorem dX8_townLine_179 : decode cX8_townLine 179 = .ok (.aload_n 0, 1) := dk_42 (dk_at dksX8_townLine_7 18 rfl rfl)
theorem dX8_townLine_180 : decode cX8_townLine 180 = .ok (.ldc 182, 2) := dk_18 182 (dk_at dksX8_townLine_7 19 rfl rfl)
theorem dX8_townLine_182 : decode cX8_townLine 182 = .ok (.invokevirtual 101, 3) := dk_182 0 101 (dk_at dksX8_townLine_7 21 rfl rfl)
theorem dX8_townLine_185 : decode cX8_townLine 185 = .ok (.ifCond .eq 12, 3) := dk_153 0 12 (dk_at dksX8_townLine_8 0 rfl rfl)
theorem dX8_townLine_188 : decode cX8_townLine 188 = .ok (.aload_n 0, 1) := dk_42 (dk_at dksX8_townLine_8 3 rfl rfl)
theorem dX8_townLine_189 : decode cX8_townLine 189 = .ok (.bipush 15, 2) := dk_16 15 (dk_at dksX8_townLine_8 4 rfl rfl)
theorem dX8_townLine_191 : decode cX8_townLine 191 = .ok (.invokevirtual 177, 3) := dk_182 0 177 (dk_at dksX8_townLine_8 6 rfl rfl)
theorem dX8_townLine_194 : decode cX8_townLine 194 = .ok (.goto 11, 3) := dk_167 0 11 (dk_at dksX8_townLine_8 9 rfl rfl)
theorem dX8_townLine_197 : decode cX8_townLine 197 = .ok (.aload_n 0, 1) := dk_42 (dk_at dksX8_townLine_8 12 rfl rfl)
theorem dX8_townLine_198 : decode cX8_townLine 198 = .ok (.aload_n 0, 1) := dk_42 (dk_at dksX8_townLine_8 13 rfl rfl)
theorem dX8_townLine_199 : decode cX8_townLine 199 = .ok (.getfield 79, 3) := dk_180 0 79 (dk_at dksX8_townLine_8 14 rfl rfl)
theorem dX8_townLine_202 : decode cX8_townLine 202 = .ok (.invokevirtual 105, 3) := dk_182 0 105 (dk_at dksX8_townLine_8 17 rfl rfl)
theorem dX8_townLine_205 : decode cX8_townLine 205 = .ok (.return_, 1) := dk_177 (dk_at dksX8_townLine_8 20 rfl rfl)
abbrev cX8_habitLine : ByteArray := prog_23_method_29_code
def yX8_habitLine : MethodName := ⟨RX8, "habitLine", "(I)V"⟩
def dkwX8_habitLine_4 : List UInt8 := [5, 96, 21, 4, 79, 42, 180, 0, 7, 7, 92, 46, 4, 96, 79, 177]
abbrev dktX8_habitLine_4 : List UInt8 := dkwX8_habitLine_4 ++ []
def dkwX8_habitLine_3 : List UInt8 := [42, 180, 0, 7, 21, 5, 28, 79, 42, 180, 0, 7, 21, 5, 4, 96, 29, 79, 42, 180, 0, 7, 21, 5]
abbrev dktX8_habitLine_3 : List UInt8 := dkwX8_habitLine_3 ++ dktX8_habitLine_4
def dkwX8_habitLine_2 : List UInt8 := [54, 4, 42, 180, 0, 25, 2, 159, 0, 4, 177, 16, 20, 6, 42, 180, 0, 7, 7, 46, 104, 96, 54, 5]
abbrev dktX8_habitLine_2 : List UInt8 := dkwX8_habitLine_2 ++ dktX8_habitLine_3
def dkwX8_habitLine_1 : List UInt8 := [4, 100, 182, 0, 124, 61, 42, 182, 0, 132, 62, 42, 18, 135, 182, 0, 120, 42, 4, 16, 9, 182, 0, 124]
abbrev dktX8_habitLine_1 : List UInt8 := dkwX8_habitLine_1 ++ dktX8_habitLine_2
def dkwX8_habitLine_0 : List UInt8 := [42, 180, 0, 7, 7, 46, 16, 24, 160, 0, 8, 42, 27, 182, 0, 105, 42, 3, 42, 180, 0, 7, 6, 46]
abbrev dktX8_habitLine_0 : List UInt8 := dkwX8_habitLine_0 ++ dktX8_habitLine_1
theorem dksX8_habitLine_0 : cX8_habitLine.data.toList.drop 0 = dktX8_habitLine_0 := by decide +kernel
theorem dksX8_habitLine_1 : cX8_habitLine.data.toList.drop 24 = dktX8_habitLine_1 := dk_seg dksX8_habitLine_0 24 rfl rfl
theorem dksX8_habitLine_2 : cX8_habitLine.data.toList.drop 48 = dktX8_habitLine_2 := dk_seg dksX8_habitLine_1 24 rfl rfl
theorem dksX8_habitLine_3 : cX8_habitLine.data.toList.drop 72 = dktX8_habitLine_3 := dk_seg dksX8_habitLine_2 24 rfl rfl
theorem dksX8_habitLine_4 : cX8_habitLine.data.toList.drop 96 = dktX8_habitLine_4 := dk_seg dksX8_habitLine_3 24 rfl rfl
theorem dX8_habitLine_0 : decode cX8_habitLine 0 = .ok (.aload_n 0, 1) := dk_42 (dk_at dksX8_habitLine_0 0 rfl rfl)
theorem dX8_habitLine_1 : decode cX8_habitLine 1 = .ok (.getfield 7, 3) := dk_180 0 7 (dk_at dksX8_habitLine_0 1 rfl rfl)
theorem dX8_habitLine_4 : decode cX8_habitLine 4 = .ok (.iconst 4, 1) := dk_7 (dk_at dksX8_habitLine_0 4 rfl rfl)
theorem dX8_habitLine_5 : decode cX8_habitLine 5 = .ok (.iaload, 1) := dk_46 (dk_at dksX8_habitLine_0 5 rfl rfl)
theorem dX8_habitLine_6 : decode cX8_habitLine 6 = .ok (.bipush 24, 2) := dk_16 24 (dk_at dksX8_habitLine_0 6 rfl rfl)
theorem dX8_habitLine_8 : decode cX8_habitLine 8 = .ok (.if_icmp .ne 8, 3) := dk_160 0 8 (dk_at dksX8_habitLine_0 8 rfl rfl)
theorem dX8_habitLine_11 : decode cX8_habitLine 11 = .ok (.aload_n 0, 1) := dk_42 (dk_at dksX8_habitLine_0 11 rfl rfl)
theorem dX8_habitLine_12 : decode cX8_habitLine 12 = .ok (.iload_n 1, 1) := dk_27 (dk_at dksX8_habitLine_0 12 rfl rfl)
theorem dX8_habitLine_13 : decode cX8_habitLine 13 = .ok (.invokevirtual 105, 3) := dk_182 0 105 (dk_at dksX8_habitLine_0 13 rfl rfl)
theorem dX8_habitLine_16 : decode cX8_habitLine 16 = .ok (.aload_n 0, 1) := dk_42 (dk_at dksX8_habitLine_0 16 rfl rfl)
theorem dX8_habitLine_17 : decode cX8_habitLine 17 = .ok (.iconst 0, 1) := dk_3 (dk_at dksX8_habitLine_0 17 rfl rfl)
theorem dX8_habitLine_18 : decode cX8_habitLine 18 = .ok (.aload_n 0, 1) := dk_42 (dk_at dksX8_habitLine_0 18 rfl rfl)
theorem dX8_habitLine_19 : decode cX8_habitLine 19 = .ok (.getfield 7, 3) := dk_180 0 7 (dk_at dksX8_habitLine_0 19 rfl rfl)
theorem dX8_habitLine_22 : decode cX8_habitLine 22 = .ok (.iconst 3, 1) := dk_6 (dk_at dksX8_habitLine_0 22 rfl rfl)
theorem dX8_habitLine_23 : decode cX8_habitLine 23 = .ok (.iaload, 1) := dk_46 (dk_at dksX8_habitLine_0 23 rfl rfl)
theorem dX8_habitLine_24 : decode cX8_habitLine 24 = .ok (.iconst 1, 1) := dk_4 (dk_at dksX8_habitLine_1 0 rfl rfl)
theorem dX8_habitLine_25 : decode cX8_habitLine 25 = .ok (.isub, 1) := dk_100 (dk_at dksX8_habitLine_1 1 rfl rfl)
theorem dX8_habitLine_26 : decode cX8_habitLine 26 = .ok (.invokevirtual 124, 3) := dk_182 0 124 (dk_at dksX8_habitLine_1 2 rfl rfl)
theorem dX8_habitLine_29 : decode cX8_habitLine 29 = .ok (.istore_n 2, 1) := dk_61 (dk_at dksX8_habitLine_1 5 rfl rfl)
theorem dX8_habitLine_30 : decode cX8_habitLine 30 = .ok (.aload_n 0, 1) := dk_42 (dk_at dksX8_habitLine_1 6 rfl rfl)
theorem dX8_habitLine_31 : decode cX8_habitLine 31 = .ok (.invokevirtual 132, 3) := dk_182 0 132 (dk_at dksX8_habitLine_1 7 rfl rfl)
theorem dX8_habitLine_34 : decode cX8_habitLine 34 = .ok (.istore_n 3, 1) := dk_62 (dk_at dksX8_habitLine_1 10 rfl rfl)
theorem dX8_habitLine_35 : decode cX8_habitLine 35 = .ok (.aload_n 0, 1) := dk_42 (dk_at dksX8_habitLine_1 11 rfl rfl)
theorem dX8_habitLine_36 : decode cX8_habitLine 36 = .ok (.ldc 135, 2) := dk_18 135 (dk_at dksX8_habitLine_1 12 rfl rfl)
theorem dX8_habitLine_38 : decode cX8_habitLine 38 = .ok (.invokevirtual 120, 3) := dk_182 0 120 (dk_at dksX8_habitLine_1 14 rfl rfl)
theorem dX8_habitLine_41 : decode cX8_habitLine 41 = .ok (.aload_n 0, 1) := dk_42 (dk_at dksX8_habitLine_1 17 rfl rfl)
theorem dX8_habitLine_42 : decode cX8_habitLine 42 = .ok (.iconst 1, 1) := dk_4 (dk_at dksX8_habitLine_1 18 rfl rfl)
theorem dX8_habitLine_43 : decode cX8_habitLine 43 = .ok (.bipush 9, 2) := dk_16 9 (dk_at dksX8_habitLine_1 19 rfl rfl)
theorem dX8_habitLine_45 : decode cX8_habitLine 45 = .ok (.invokevirtual 124, 3) := dk_182 0 124 (dk_at dksX8_habitLine_1 21 rfl rfl)
theorem dX8_habitLine_48 : decode cX8_habitLine 48 = .ok (.istore 4, 2) := dk_54 4 (dk_at dksX8_habitLine_2 0 rfl rfl)
theorem dX8_habitLine_50 : decode cX8_habitLine 50 = .ok (.aload_n 0, 1) := dk_42 (dk_at dksX8_habitLine_2 2 rfl rfl)
theorem dX8_habitLine_51 : decode cX8_habitLine 51 = .ok (.getfield 25, 3) := dk_180 0 25 (dk_at dksX8_habitLine_2 3 rfl rfl)
theorem dX8_habitLine_54 : decode cX8_habitLine 54 = .ok (.iconst (-1), 1) := dk_2 (dk_at dksX8_habitLine_2 6 rfl rfl)
theorem dX8_habitLine_55 : decode cX8_habitLine 55 = .ok (.if_icmp .eq 4, 3) := dk_159 0 4 (dk_at dksX8_habitLine_2 7 rfl rfl)
theorem dX8_habitLine_58 : decode cX8_habitLine 58 = .ok (.return_, 1) := dk_177 (dk_at dksX8_habitLine_2 10 rfl rfl)
theorem dX8_habitLine_59 : decode cX8_habitLine 59 = .ok (.bipush 20, 2) := dk_16 20 (dk_at dksX8_habitLine_2 11 rfl rfl)
theorem dX8_habitLine_61 : decode cX8_habitLine 61 = .ok (.iconst 3, 1) := dk_6 (dk_at dksX8_habitLine_2 13 rfl rfl)
theorem dX8_habitLine_62 : decode cX8_habitLine 62 = .ok (.aload_n 0, 1) := dk_42 (dk_at dksX8_habitLine_2 14 rfl rfl)
theorem dX8_habitLine_63 : decode cX8_habitLine 63 = .ok (.getfield 7, 3) := dk_180 0 7 (dk_at dksX8_habitLine_2 15 rfl rfl)
theorem dX8_habitLine_66 : decode cX8_habitLine 66 = .ok (.iconst 4, 1) := dk_7 (dk_at dksX8_habitLine_2 18 rfl rfl)
theorem dX8_habitLine_67 : decode cX8_habitLine 67 = .ok (.iaload, 1) := dk_46 (dk_at dksX8_habitLine_2 19 rfl rfl)
theorem dX8_habitLine_68 : decode cX8_habitLine 68 = .ok (.imul, 1) := dk_104 (dk_at dksX8_habitLine_2 20 rfl rfl)
theorem dX8_habitLine_69 : decode cX8_habitLine 69 = .ok (.iadd, 1) := dk_96 (dk_at dksX8_habitLine_2 21 rfl rfl)
theorem dX8_habitLine_70 : decode cX8_habitLine 70 = .ok (.istore 5, 2) := dk_54 5 (dk_at dksX8_habitLine_2 22 rfl rfl)
theorem dX8_habitLine_72 : decode cX8_habitLine 72 = .ok (.aload_n 0, 1) := dk_42 (dk_at dksX8_habitLine_3 0 rfl rfl)
theorem dX8_habitLine_73 : decode cX8_habitLine 73 = .ok (.getfield 7, 3) := dk_180 0 7 (dk_at dksX8_habitLine_3 1 rfl rfl)
theorem dX8_habitLine_76 : decode cX8_habitLine 76 = .ok (.iload 5, 2) := dk_21 5 (dk_at dksX8_habitLine_3 4 rfl rfl)
theorem dX8_habitLine_78 : decode cX8_habitLine 78 = .ok (.iload_n 2, 1) := dk_28 (dk_at dksX8_habitLine_3 6 rfl rfl)
theorem dX8_habitLine_79 : decode cX8_habitLine 79 = .ok (.iastore, 1) := dk_79 (dk_at dksX8_habitLine_3 7 rfl rfl)
theorem dX8_habitLine_80 : decode cX8_habitLine 80 = .ok (.aload_n 0, 1) := dk_42 (dk_at dksX8_habitLine_3 8 rfl rfl)
theorem dX8_habitLine_81 : decode cX8_habitLine 81 = .ok (.getfield 7, 3) := dk_180 0 7 (dk_at dksX8_habitLine_3 9 rfl rfl)
theorem dX8_habitLine_84 : decode cX8_habitLine 84 = .ok (.iload 5, 2) := dk_21 5 (dk_at dksX8_habitLine_3 12 rfl rfl)
theorem dX8_habitLine_86 : decode cX8_habitLine 86 = .ok (.iconst 1, 1) := dk_4 (dk_at dksX8_habitLine_3 14 rfl rfl)
theorem dX8_habitLine_87 : decode cX8_habitLine 87 = .ok (.iadd, 1) := dk_96 (dk_at dksX8_habitLine_3 15 rfl rfl)
theorem dX8_habitLine_88 : decode cX8_habitLine 88 = .ok (.iload_n 3, 1) := dk_29 (dk_at dksX8_habitLine_3 16 rfl rfl)
theorem dX8_habitLine_89 : decode cX8_habitLine 89 = .ok (.iastore, 1) := dk_79 (dk_at dksX8_habitLine_3 17 rfl rfl)
theorem dX8_habitLine_90 : decode cX8_habitLine 90 = .ok (.aload_n 0, 1) := dk_42 (dk_at dksX8_habitLine_3 18 rfl rfl)
theorem dX8_habitLine_91 : decode cX8_habitLine 91 = .ok (.getfield 7, 3) := dk_180 0 7 (dk_at dksX8_habitLine_3 19 rfl rfl)
theorem dX8_habitLine_94 : decode cX8_habitLine 94 = .ok (.iload 5, 2) := dk_21 5 (dk_at dksX8_habitLine_3 22 rfl rfl)
theorem dX8_habitLine_96 : decode cX8_habitLine 96 = .ok (.iconst 2, 1) := dk_5 (dk_at dksX8_habitLine_4 0 rfl rfl)
theorem dX8_habitLine_97 : decode cX8_habitLine 97 = .ok (.iadd, 1) := dk_96 (dk_at dksX8_habitLine_4 1 rfl rfl)
theorem dX8_habitLine_98 : decode cX8_habitLine 98 = .ok (.iload 4, 2) := dk_21 4 (dk_at dksX8_habitLine_4 2 rfl rfl)
theorem dX8_habitLine_100 : decode cX8_habitLine 100 = .ok (.iastore, 1) := dk_79 (dk_at dksX8_habitLine_4 4 rfl rfl)
theorem dX8_habitLine_101 : decode cX8_habitLine 101 = .ok (.aload_n 0, 1) := dk_42 (dk_at dksX8_habitLine_4 5 rfl rfl)
theorem dX8_habitLine_102 : decode cX8_habitLine 102 = .ok (.getfield 7, 3) := dk_180 0 7 (dk_at dksX8_habitLine_4 6 rfl rfl)
theorem dX8_habitLine_105 : decode cX8_habitLine 105 = .ok (.iconst 4, 1) := dk_7 (dk_at dksX8_habitLine_4 9 rfl rfl)
theorem dX8_habitLine_106 : decode cX8_habitLine 106 = .ok (.dup2, 1) := dk_92 (dk_at dksX8_habitLine_4 10 rfl rfl)
theorem dX8_habitLine_107 : decode cX8_habitLine 107 = .ok (.iaload, 1) := dk_46 (dk_at dksX8_habitLine_4 11 rfl rfl)
theorem dX8_habitLine_108 : decode cX8_habitLine 108 = .ok (.iconst 1, 1) := dk_4 (dk_at dksX8_habitLine_4 12 rfl rfl)
theorem dX8_habitLine_109 : decode cX8_habitLine 109 = .ok (.iadd, 1) := dk_96 (dk_at dksX8_habitLine_4 13 rfl rfl)
theorem dX8_habitLine_110 : decode cX8_habitLine 110 = .ok (.iastore, 1) := dk_79 (dk_at dksX8_habitLine_4 14 rfl rfl)
theorem dX8_habitLine_111 : decode cX8_habitLine 111 = .ok (.return_, 1) := dk_177 (dk_at dksX8_habitLine_4 15 rfl rfl)
abbrev cX8_personLine : ByteArray := prog_23_method_30_code
def yX8_personLine : MethodName := ⟨RX8, "personLine", "(I)V"⟩
def dkwX8_personLine_8 : List UInt8 := [180, 0, 7, 8, 92, 46, 4, 96, 79, 177]
abbrev dktX8_personLine_8 : List UInt8 := dkwX8_personLine_8 ++ []
def dkwX8_personLine_7 : List UInt8 := [3, 2, 182, 0, 144, 42, 21, 7, 21, 6, 3, 2, 182, 0, 144, 132, 7, 1, 167, 255, 226, 42]
abbrev dktX8_personLine_7 : List UInt8 := dkwX8_personLine_7 ++ dktX8_personLine_8
def dkwX8_personLine_6 : List UInt8 := [42, 21, 6, 16, 7, 2, 182, 0, 141, 3, 54, 7, 21, 7, 16, 10, 162, 0, 29, 42, 21, 6, 21, 7]
abbrev dktX8_personLine_6 : List UInt8 := dkwX8_personLine_6 ++ dktX8_personLine_7
def dkwX8_personLine_5 : List UInt8 := [21, 6, 7, 3, 182, 0, 141, 42, 21, 6, 8, 3, 182, 0, 141, 42, 21, 6, 16, 6, 2, 182, 0, 141]
abbrev dktX8_personLine_5 : List UInt8 := dkwX8_personLine_5 ++ dktX8_personLine_6
def dkwX8_personLine_4 : List UInt8 := [29, 182, 0, 141, 42, 21, 6, 5, 21, 4, 182, 0, 141, 42, 21, 6, 6, 21, 5, 182, 0, 141, 42]
abbrev dktX8_personLine_4 : List UInt8 := dkwX8_personLine_4 ++ dktX8_personLine_5
def dkwX8_personLine_3 : List UInt8 := [159, 0, 4, 177, 42, 180, 0, 7, 8, 46, 54, 6, 42, 21, 6, 3, 28, 182, 0, 141, 42, 21, 6, 4]
abbrev dktX8_personLine_3 : List UInt8 := dkwX8_personLine_3 ++ dktX8_personLine_4
def dkwX8_personLine_2 : List UInt8 := [54, 4, 42, 18, 139, 182, 0, 120, 42, 3, 16, 100, 182, 0, 124, 54, 5, 42, 180, 0, 25, 2]
abbrev dktX8_personLine_2 : List UInt8 := dkwX8_personLine_2 ++ dktX8_personLine_3
def dkwX8_personLine_1 : List UInt8 := [4, 100, 182, 0, 124, 61, 42, 182, 0, 132, 62, 42, 18, 137, 182, 0, 120, 42, 3, 16, 9, 182, 0, 124]
abbrev dktX8_personLine_1 : List UInt8 := dkwX8_personLine_1 ++ dktX8_personLine_2
def dkwX8_personLine_0 : List UInt8 := [42, 180, 0, 7, 8, 46, 16, 10, 160, 0, 8, 42, 27, 182, 0, 105, 42, 3, 42, 180, 0, 7, 6, 46]
abbrev dktX8_personLine_0 : List UInt8 := dkwX8_personLine_0 ++ dktX8_personLine_1
theorem dksX8_personLine_0 : cX8_personLine.data.toList.drop 0 = dktX8_personLine_0 := by decide +kernel
theorem dksX8_personLine_1 : cX8_personLine.data.toList.drop 24 = dktX8_personLine_1 := dk_seg dksX8_personLine_0 24 rfl rfl
theorem dksX8_personLine_2 : cX8_personLine.data.toList.drop 48 = dktX8_personLine_2 := dk_seg dksX8_personLine_1 24 rfl rfl
theorem dksX8_personLine_3 : cX8_personLine.data.toList.drop 70 = dktX8_personLine_3 := dk_seg dksX8_personLine_2 22 rfl rfl
theorem dksX8_personLine_4 : cX8_personLine.data.toList.drop 94 = dktX8_personLine_4 := dk_seg dksX8_personLine_3 24 rfl rfl
theorem dksX8_personLine_5 : cX8_personLine.data.toList.drop 117 = dktX8_personLine_5 := dk_seg dksX8_personLine_4 23 rfl rfl
theorem dksX8_personLine_6 : cX8_personLine.data.toList.drop 141 = dktX8_personLine_6 := dk_seg dksX8_personLine_5 24 rfl rfl
theorem dksX8_personLine_7 : cX8_personLine.data.toList.drop 165 = dktX8_personLine_7 := dk_seg dksX8_personLine_6 24 rfl rfl
theorem dksX8_personLine_8 : cX8_personLine.data.toList.drop 187 = dktX8_personLine_8 := dk_seg dksX8_personLine_7 22 rfl rfl
theorem dX8_personLine_0 : decode cX8_personLine 0 = .ok (.aload_n 0, 1) := dk_42 (dk_at dksX8_personLine_0 0 rfl rfl)
theorem dX8_personLine_1 : decode cX8_personLine 1 = .ok (.getfield 7, 3) := dk_180 0 7 (dk_at dksX8_personLine_0 1 rfl rfl)
theorem dX8_personLine_4 : decode cX8_personLine 4 = .ok (.iconst 5, 1) := dk_8 (dk_at dksX8_personLine_0 4 rfl rfl)
theorem dX8_personLine_5 : decode cX8_personLine 5 = .ok (.iaload, 1) := dk_46 (dk_at dksX8_personLine_0 5 rfl rfl)
theorem dX8_personLine_6 : decode cX8_personLine 6 = .ok (.bipush 10, 2) := dk_16 10 (dk_at dksX8_personLine_0 6 rfl rfl)
theorem dX8_personLine_8 : decode cX8_personLine 8 = .ok (.if_icmp .ne 8, 3) := dk_160 0 8 (dk_at dksX8_personLine_0 8 rfl rfl)
theorem dX8_personLine_11 : decode cX8_personLine 11 = .ok (.aload_n 0, 1) := dk_42 (dk_at dksX8_personLine_0 11 rfl rfl)
theorem dX8_personLine_12 : decode cX8_personLine 12 = .ok (.iload_n 1, 1) := dk_27 (dk_at dksX8_personLine_0 12 rfl rfl)
theorem dX8_personLine_13 : decode cX8_personLine 13 = .ok (.invokevirtual 105, 3) := dk_182 0 105 (dk_at dksX8_personLine_0 13 rfl rfl)
theorem dX8_personLine_16 : decode cX8_personLine 16 = .ok (.aload_n 0, 1) := dk_42 (dk_at dksX8_personLine_0 16 rfl rfl)
theorem dX8_personLine_17 : decode cX8_personLine 17 = .ok (.iconst 0, 1) := dk_3 (dk_at dksX8_personLine_0 17 rfl rfl)
theorem dX8_personLine_18 : decode cX8_personLine 18 = .ok (.aload_n 0, 1) := dk_42 (dk_at dksX8_personLine_0 18 rfl rfl)
theorem dX8_personLine_19 : decode cX8_personLine 19 = .ok (.getfield 7, 3) := dk_180 0 7 (dk_at dksX8_personLine_0 19 rfl rfl)
theorem dX8_personLine_22 : decode cX8_personLine 22 = .ok (.iconst 3, 1) := dk_6 (dk_at dksX8_personLine_0 22 rfl rfl)
theorem dX8_personLine_23 : decode cX8_personLine 23 = .ok (.iaload, 1) := dk_46 (dk_at dksX8_personLine_0 23 rfl rfl)
theorem dX8_personLine_24 : decode cX8_personLine 24 = .ok (.iconst 1, 1) := dk_4 (dk_at dksX8_personLine_1 0 rfl rfl)
theorem dX8_personLine_25 : decode cX8_personLine 25 = .ok (.isub, 1) := dk_100 (dk_at dksX8_personLine_1 1 rfl rfl)
theorem dX8_personLine_26 : decode cX8_personLine 26 = .ok (.invokevirtual 124, 3) := dk_182 0 124 (dk_at dksX8_personLine_1 2 rfl rfl)
theorem dX8_personLine_29 : decode cX8_personLine 29 = .ok (.istore_n 2, 1) := dk_61 (dk_at dksX8_personLine_1 5 rfl rfl)
theorem dX8_personLine_30 : decode cX8_personLine 30 = .ok (.aload_n 0, 1) := dk_42 (dk_at dksX8_personLine_1 6 rfl rfl)
theorem dX8_personLine_31 : decode cX8_personLine 31 = .ok (.invokevirtual 132, 3) := dk_182 0 132 (dk_at dksX8_personLine_1 7 rfl rfl)
theorem dX8_personLine_34 : decode cX8_personLine 34 = .ok (.istore_n 3, 1) := dk_62 (dk_at dksX8_personLine_1 10 rfl rfl)
theorem dX8_personLine_35 : decode cX8_personLine 35 = .ok (.aload_n 0, 1) := dk_42 (dk_at dksX8_personLine_1 11 rfl rfl)
theorem dX8_personLine_36 : decode cX8_personLine 36 = .ok (.ldc 137, 2) := dk_18 137 (dk_at dksX8_personLine_1 12 rfl rfl)
theorem dX8_personLine_38 : decode cX8_personLine 38 = .ok (.invokevirtual 120, 3) := dk_182 0 120 (dk_at dksX8_personLine_1 14 rfl rfl)
theorem dX8_personLine_41 : decode cX8_personLine 41 = .ok (.aload_n 0, 1) := dk_42 (dk_at dksX8_personLine_1 17 rfl rfl)
theorem dX8_personLine_42 : decode cX8_personLine 42 = .ok (.iconst 0, 1) := dk_3 (dk_at dksX8_personLine_1 18 rfl rfl)
theorem dX8_personLine_43 : decode cX8_personLine 43 = .ok (.bipush 9, 2) := dk_16 9 (dk_at dksX8_personLine_1 19 rfl rfl)
theorem dX8_personLine_45 : decode cX8_personLine 45 = .ok (.invokevirtual 124, 3) := dk_182 0 124 (dk_at dksX8_personLine_1 21 rfl rfl)
theorem dX8_personLine_48 : decode cX8_personLine 48 = .ok (.istore 4, 2) := dk_54 4 (dk_at dksX8_personLine_2 0 rfl rfl)
theorem dX8_personLine_50 : decode cX8_personLine 50 = .ok (.aload_n 0, 1) := dk_42 (dk_at dksX8_personLine_2 2 rfl rfl)
theorem dX8_personLine_51 : decode cX8_personLine 51 = .ok (.ldc 139, 2) := dk_18 139 (dk_at dksX8_personLine_2 3 rfl rfl)
theorem dX8_personLine_53 : decode cX8_personLine 53 = .ok (.invokevirtual 120, 3) := dk_182 0 120 (dk_at dksX8_personLine_2 5 rfl rfl)
theorem dX8_personLine_56 : decode cX8_personLine 56 = .ok (.aload_n 0, 1) := dk_42 (dk_at dksX8_personLine_2 8 rfl rfl)
theorem dX8_personLine_57 : decode cX8_personLine 57 = .ok (.iconst 0, 1) := dk_3 (dk_at dksX8_personLine_2 9 rfl rfl)
theorem dX8_personLine_58 : decode cX8_personLine 58 = .ok (.bipush 100, 2) := dk_16 100 (dk_at dksX8_personLine_2 10 rfl rfl)
theorem dX8_personLine_60 : decode cX8_personLine 60 = .ok (.invokevirtual 124, 3) := dk_182 0 124 (dk_at dksX8_personLine_2 12 rfl rfl)
theorem dX8_personLine_63 : decode cX8_personLine 63 = .ok (.istore 5, 2) := dk_54 5 (dk_at dksX8_personLine_2 15 rfl rfl)
theorem dX8_personLine_65 : decode cX8_personLine 65 = .ok (.aload_n 0, 1) := dk_42 (dk_at dksX8_personLine_2 17 rfl rfl)
theorem dX8_personLine_66 : decode cX8_personLine 66 = .ok (.getfield 25, 3) := dk_180 0 25 (dk_at dksX8_personLine_2 18 rfl rfl)
theorem dX8_personLine_69 : decode cX8_personLine 69 = .ok (.iconst (-1), 1) := dk_2 (dk_at dksX8_personLine_2 21 rfl rfl)
theorem dX8_personLine_70 : decode cX8_personLine 70 = .ok (.if_icmp .eq 4, 3) := dk_159 0 4 (dk_at dksX8_personLine_3 0 rfl rfl)
theorem dX8_personLine_73 : decode cX8_personLine 73 = .ok (.return_, 1) := dk_177 (dk_at dksX8_personLine_3 3 rfl rfl)
theorem dX8_personLine_74 : decode cX8_personLine 74 = .ok (.aload_n 0, 1) := dk_42 (dk_at dksX8_personLine_3 4 rfl rfl)
theorem dX8_personLine_75 : decode cX8_personLine 75 = .ok (.getfield 7, 3) := dk_180 0 7 (dk_at dksX8_personLine_3 5 rfl rfl)
theorem dX8_personLine_78 : decode cX8_personLine 78 = .ok (.iconst 5, 1) := dk_8 (dk_at dksX8_personLine_3 8 rfl rfl)
theorem dX8_personLine_79 : decode cX8_personLine 79 = .ok (.iaload, 1) := dk_46 (dk_at dksX8_personLine_3 9 rfl rfl)
theorem dX8_personLine_80 : decode cX8_personLine 80 = .ok (.istore 6, 2) := dk_54 6 (dk_at dksX8_personLine_3 10 rfl rfl)
theorem dX8_personLine_82 : decode cX8_personLine 82 = .ok (.aload_n 0, 1) := dk_42 (dk_at dksX8_personLine_3 12 rfl rfl)
theorem dX8_personLine_83 : decode cX8_personLine 83 = .ok (.iload 6, 2) := dk_21 6 (dk_at dksX8_personLine_3 13 rfl rfl)
theorem dX8_personLine_85 : decode cX8_personLine 85 = .ok (.iconst 0, 1) := dk_3 (dk_at dksX8_personLine_3 15 rfl rfl)
theorem dX8_personLine_86 : decode cX8_personLine 86 = .ok (.iload_n 2, 1) := dk_28 (dk_at dksX8_personLine_3 16 rfl rfl)
theorem dX8_personLine_87 : decode cX8_personLine 87 = .ok (.invokevirtual 141, 3) := dk_182 0 141 (dk_at dksX8_personLine_3 17 rfl rfl)
theorem dX8_personLine_90 : decode cX8_personLine 90 = .ok (.aload_n 0, 1) := dk_42 (dk_at dksX8_personLine_3 20 rfl rfl)
theorem dX8_personLine_91 : decode cX8_personLine 91 = .ok (.iload 6, 2) := dk_21 6 (dk_at dksX8_personLine_3 21 rfl rfl)
theorem dX8_personLine_93 : decode cX8_personLine 93 = .ok (.iconst 1, 1) := dk_4 (dk_at dksX8_personLine_3 23 rfl rfl)
theorem dX8_personLine_94 : decode cX8_personLine 94 = .ok (.iload_n 3, 1) := dk_29 (dk_at dksX8_personLine_4 0 rfl rfl)
theorem dX8_personLine_95 : decode cX8_personLine 95 = .ok (.invokevirtual 141, 3) := dk_182 0 141 (dk_at dksX8_personLine_4 1 rfl rfl)
theorem dX8_personLine_98 : decode cX8_personLine 98 = .ok (.aload_n 0, 1) := dk_42 (dk_at dksX8_personLine_4 4 rfl rfl)
theorem dX8_personLine_99 : decode cX8_personLine 99 = .ok (.iload 6, 2) := dk_21 6 (dk_at dksX8_personLine_4 5 rfl rfl)
theorem dX8_personLine_101 : decode cX8_personLine 101 = .ok (.iconst 2, 1) := dk_5 (dk_at dksX8_personLine_4 7 rfl rfl)
theorem dX8_personLine_102 : decode cX8_personLine 102 = .ok (.iload 4, 2) := dk_21 4 (dk_at dksX8_personLine_4 8 rfl rfl)
theorem dX8_personLine_104 : decode cX8_personLine 104 = .ok (.invokevirtual 141, 3) := dk_182 0 141 (dk_at dksX8_personLine_4 10 rfl rfl)
theorem dX8_personLine_107 : decode cX8_personLine 107 = .ok (.aload_n 0, 1) := dk_42 (dk_at dksX8_personLine_4 13 rfl rfl)
theorem dX8_personLine_108 : decode cX8_personLine 108 = .ok (.iload 6, 2) := dk_21 6 (dk_at dksX8_personLine_4 14 rfl rfl)
theorem dX8_personLine_110 : decode cX8_personLine 110 = .ok (.iconst 3, 1) := dk_6 (dk_at dksX8_personLine_4 16 rfl rfl)
theorem dX8_personLine_111 : decode cX8_personLine 111 = .ok (.iload 5, 2) := dk_21 5 (dk_at dksX8_personLine_4 17 rfl rfl)
theorem dX8_personLine_113 : decode cX8_personLine 113 = .ok (.invokevirtual 141, 3) := dk_182 0 141 (dk_at dksX8_personLine_4 19 rfl rfl)
theorem dX8_personLine_116 : decode cX8_personLine 116 = .ok (.aload_n 0, 1) := dk_42 (dk_at dksX8_personLine_4 22 rfl rfl)
theorem dX8_personLine_117 : decode cX8_personLine 117 = .ok (.iload 6, 2) := dk_21 6 (dk_at dksX8_personLine_5 0 rfl rfl)
theorem dX8_personLine_119 : decode cX8_personLine 119 = .ok (.iconst 4, 1) := dk_7 (dk_at dksX8_personLine_5 2 rfl rfl)
theorem dX8_personLine_120 : decode cX8_personLine 120 = .ok (.iconst 0, 1) := dk_3 (dk_at dksX8_personLine_5 3 rfl rfl)
theorem dX8_personLine_121 : decode cX8_personLine 121 = .ok (.invokevirtual 141, 3) := dk_182 0 141 (dk_at dksX8_personLine_5 4 rfl rfl)
theorem dX8_personLine_124 : decode cX8_personLine 124 = .ok (.aload_n 0, 1) := dk_42 (dk_at dksX8_personLine_5 7 rfl rfl)
theorem dX8_personLine_125 : decode cX8_personLine 125 = .ok (.iload 6, 2) := dk_21 6 (dk_at dksX8_personLine_5 8 rfl rfl)
theorem dX8_personLine_127 : decode cX8_personLine 127 = .ok (.iconst 5, 1) := dk_8 (dk_at dksX8_personLine_5 10 rfl rfl)
theorem dX8_personLine_128 : decode cX8_personLine 128 = .ok (.iconst 0, 1) := dk_3 (dk_at dksX8_personLine_5 11 rfl rfl)
theorem dX8_personLine_129 : decode cX8_personLine 129 = .ok (.invokevirtual 141, 3) := dk_182 0 141 (dk_at dksX8_personLine_5 12 rfl rfl)
theorem dX8_personLine_132 : decode cX8_personLine 132 = .ok (.aload_n 0, 1) := dk_42 (dk_at dksX8_personLine_5 15 rfl rfl)
theorem dX8_personLine_133 : decode cX8_personLine 133 = .ok (.iload 6, 2) := dk_21 6 (dk_at dksX8_personLine_5 16 rfl rfl)
theorem dX8_personLine_135 : decode cX8_personLine 135 = .ok (.bipush 6, 2) := dk_16 6 (dk_at dksX8_personLine_5 18 rfl rfl)
theorem dX8_personLine_137 : decode cX8_personLine 137 = .ok (.iconst (-1), 1) := dk_2 (dk_at dksX8_personLine_5 20 rfl rfl)
theorem dX8_personLine_138 : decode cX8_personLine 138 = .ok (.invokevirtual 141, 3) := dk_182 0 141 (dk_at dksX8_personLine_5 21 rfl rfl)
theorem dX8_personLine_141 : decode cX8_personLine 141 = .ok (.aload_n 0, 1) := dk_42 (dk_at dksX8_personLine_6 0 rfl rfl)
theorem dX8_personLine_142 : decode cX8_personLine 142 = .ok (.iload 6, 2) := dk_21 6 (dk_at dksX8_personLine_6 1 rfl rfl)
theorem dX8_personLine_144 : decode cX8_personLine 144 = .ok (.bipush 7, 2) := dk_16 7 (dk_at dksX8_personLine_6 3 rfl rfl)
theorem dX8_personLine_146 : decode cX8_personLine 146 = .ok (.iconst (-1), 1) := dk_2 (dk_at dksX8_personLine_6 5 rfl rfl)
theorem dX8_personLine_147 : decode cX8_personLine 147 = .ok (.invokevirtual 141, 3) := dk_182 0 141 (dk_at dksX8_personLine_6 6 rfl rfl)
theorem dX8_personLine_150 : decode cX8_personLine 150 = .ok (.iconst 0, 1) := dk_3 (dk_at dksX8_personLine_6 9 rfl rfl)
theorem dX8_personLine_151 : decode cX8_personLine 151 = .ok (.istore 7, 2) := dk_54 7 (dk_at dksX8_personLine_6 10 rfl rfl)
theorem dX8_personLine_153 : decode cX8_personLine 153 = .ok (.iload 7, 2) := dk_21 7 (dk_at dksX8_personLine_6 12 rfl rfl)
theorem dX8_personLine_155 : decode cX8_personLine 155 = .ok (.bipush 10, 2) := dk_16 10 (dk_at dksX8_personLine_6 14 rfl rfl)
theorem dX8_personLine_157 : decode cX8_personLine 157 = .ok (.if_icmp .ge 29, 3) := dk_162 0 29 (dk_at dksX8_personLine_6 16 rfl rfl)
theorem dX8_personLine_160 : decode cX8_personLine 160 = .ok (.aload_n 0, 1) := dk_42 (dk_at dksX8_personLine_6 19 rfl rfl)
theorem dX8_personLine_161 : decode cX8_personLine 161 = .ok (.iload 6, 2) := dk_21 6 (dk_at dksX8_personLine_6 20 rfl rfl)
theorem dX8_personLine_163 : decode cX8_personLine 163 = .ok (.iload 7, 2) := dk_21 7 (dk_at dksX8_personLine_6 22 rfl rfl)
theorem dX8_personLine_165 : decode cX8_personLine 165 = .ok (.iconst 0, 1) := dk_3 (dk_at dksX8_personLine_7 0 rfl rfl)
theorem dX8_personLine_166 : decode cX8_personLine 166 = .ok (.iconst (-1), 1) := dk_2 (dk_at dksX8_personLine_7 1 rfl rfl)
theorem dX8_personLine_167 : decode cX8_personLine 167 = .ok (.invokevirtual 144, 3) := dk_182 0 144 (dk_at dksX8_personLine_7 2 rfl rfl)
theorem dX8_personLine_170 : decode cX8_personLine 170 = .ok (.aload_n 0, 1) := dk_42 (dk_at dksX8_personLine_7 5 rfl rfl)
theorem dX8_personLine_171 : decode cX8_personLine 171 = .ok (.iload 7, 2) := dk_21 7 (dk_at dksX8_personLine_7 6 rfl rfl)
theorem dX8_personLine_173 : decode cX8_personLine 173 = .ok (.iload 6, 2) := dk_21 6 (dk_at dksX8_personLine_7 8 rfl rfl)
theorem dX8_personLine_175 : decode cX8_personLine 175 = .ok (.iconst 0, 1) := dk_3 (dk_at dksX8_personLine_7 10 rfl rfl)
theorem dX8_personLine_176 : decode cX8_personLine 176 = .ok (.iconst (-1), 1) := dk_2 (dk_at dksX8_personLine_7 11 rfl rfl)
theorem dX8_personLine_177 : decode cX8_personLine 177 = .ok (.invokevirtual 144, 3) := dk_182 0 144 (dk_at dksX8_personLine_7 12 rfl rfl)
theorem dX8_personLine_180 : decode cX8_personLine 180 = .ok (.iinc 7 1, 3) := dk_132 7 1 (dk_at dksX8_personLine_7 15 rfl rfl)
theorem dX8_personLine_183 : decode cX8_personLine 183 = .ok (.goto (-30), 3) := dk_167 255 226 (dk_at dksX8_personLine_7 18 rfl rfl)
theorem dX8_personLine_186 : decode cX8_personLine 186 = .ok (.aload_n 0, 1) := dk_42 (dk_at dksX8_personLine_7 21 rfl rfl)
theorem dX8_personLine_187 : decode cX8_personLine 187 = .ok (.getfield 7, 3) := dk_180 0 7 (dk_at dksX8_personLine_8 0 rfl rfl)
theorem dX8_personLine_190 : decode cX8_personLine 190 = .ok (.iconst 5, 1) := dk_8 (dk_at dksX8_personLine_8 3 rfl rfl)
theorem dX8_personLine_191 : decode cX8_personLine 191 = .ok (.dup2, 1) := dk_92 (dk_at dksX8_personLine_8 4 rfl rfl)
theorem dX8_personLine_192 : decode cX8_personLine 192 = .ok (.iaload, 1) := dk_46 (dk_at dksX8_personLine_8 5 rfl rfl)
theorem dX8_personLine_193 : decode cX8_personLine 193 = .ok (.iconst 1, 1) := dk_4 (dk_at dksX8_personLine_8 6 rfl rfl)
theorem dX8_personLine_194 : decode cX8_personLine 194 = .ok (.iadd, 1) := dk_96 (dk_at dksX8_personLine_8 7 rfl rfl)
theorem dX8_personLine_195 : decode cX8_personLine 195 = .ok (.iastore, 1) := dk_79 (dk_at dksX8_personLine_8 8 rfl rfl)
theorem dX8_personLine_196 : decode cX8_personLine 196 = .ok (.return_, 1) := dk_177 (dk_at dksX8_personLine_8 9 rfl rfl)
abbrev cX8_has_2 : ByteArray := prog_23_method_9_code
def yX8_has_2 : MethodName := ⟨RX8, "has", "(III)V"⟩
def dkwX8_has_2_0 : List UInt8 := [42, 180, 0, 7, 16, 92, 16, 8, 27, 104, 96, 28, 96, 29, 79, 177]
abbrev dktX8_has_2_0 : List UInt8 := dkwX8_has_2_0 ++ []
theorem dksX8_has_2_0 : cX8_has_2.data.toList.drop 0 = dktX8_has_2_0 := by decide +kernel
theorem dX8_has_2_0 : decode cX8_has_2 0 = .ok (.aload_n 0, 1) := dk_42 (dk_at dksX8_has_2_0 0 rfl rfl)
theorem dX8_has_2_1 : decode cX8_has_2 1 = .ok (.getfield 7, 3) := dk_180 0 7 (dk_at dksX8_has_2_0 1 rfl rfl)
theorem dX8_has_2_4 : decode cX8_has_2 4 = .ok (.bipush 92, 2) := dk_16 92 (dk_at dksX8_has_2_0 4 rfl rfl)
theorem dX8_has_2_6 : decode cX8_has_2 6 = .ok (.bipush 8, 2) := dk_16 8 (dk_at dksX8_has_2_0 6 rfl rfl)
theorem dX8_has_2_8 : decode cX8_has_2 8 = .ok (.iload_n 1, 1) := dk_27 (dk_at dksX8_has_2_0 8 rfl rfl)
theorem dX8_has_2_9 : decode cX8_has_2 9 = .ok (.imul, 1) := dk_104 (dk_at dksX8_has_2_0 9 rfl rfl)
theorem dX8_has_2_10 : decode cX8_has_2 10 = .ok (.iadd, 1) := dk_96 (dk_at dksX8_has_2_0 10 rfl rfl)
theorem dX8_has_2_11 : decode cX8_has_2 11 = .ok (.iload_n 2, 1) := dk_28 (dk_at dksX8_has_2_0 11 rfl rfl)
theorem dX8_has_2_12 : decode cX8_has_2 12 = .ok (.iadd, 1) := dk_96 (dk_at dksX8_has_2_0 12 rfl rfl)
theorem dX8_has_2_13 : decode cX8_has_2 13 = .ok (.iload_n 3, 1) := dk_29 (dk_at dksX8_has_2_0 13 rfl rfl)
theorem dX8_has_2_14 : decode cX8_has_2 14 = .ok (.iastore, 1) := dk_79 (dk_at dksX8_has_2_0 14 rfl rfl)
theorem dX8_has_2_15 : decode cX8_has_2 15 = .ok (.return_, 1) := dk_177 (dk_at dksX8_has_2_0 15 rfl rfl)
abbrev cX8_meets : ByteArray := prog_23_method_31_code
def yX8_meets : MethodName := ⟨RX8, "meets", "(IIII)V"⟩
def dkwX8_meets_1 : List UInt8 := [16, 10, 27, 104, 96, 28, 96, 21, 4, 79, 177]
abbrev dktX8_meets_1 : List UInt8 := dkwX8_meets_1 ++ []
def dkwX8_meets_0 : List UInt8 := [42, 180, 0, 7, 17, 0, 172, 16, 10, 27, 104, 96, 28, 96, 29, 79, 42, 180, 0, 7, 17, 1, 16]
abbrev dktX8_meets_0 : List UInt8 := dkwX8_meets_0 ++ dktX8_meets_1
theorem dksX8_meets_0 : cX8_meets.data.toList.drop 0 = dktX8_meets_0 := by decide +kernel
theorem dksX8_meets_1 : cX8_meets.data.toList.drop 23 = dktX8_meets_1 := dk_seg dksX8_meets_0 23 rfl rfl
theorem dX8_meets_0 : decode cX8_meets 0 = .ok (.aload_n 0, 1) := dk_42 (dk_at dksX8_meets_0 0 rfl rfl)
theorem dX8_meets_1 : decode cX8_meets 1 = .ok (.getfield 7, 3) := dk_180 0 7 (dk_at dksX8_meets_0 1 rfl rfl)
theorem dX8_meets_4 : decode cX8_meets 4 = .ok (.sipush 172, 3) := dk_17 0 172 (dk_at dksX8_meets_0 4 rfl rfl)
theorem dX8_meets_7 : decode cX8_meets 7 = .ok (.bipush 10, 2) := dk_16 10 (dk_at dksX8_meets_0 7 rfl rfl)
theorem dX8_meets_9 : decode cX8_meets 9 = .ok (.iload_n 1, 1) := dk_27 (dk_at dksX8_meets_0 9 rfl rfl)
theorem dX8_meets_10 : decode cX8_meets 10 = .ok (.imul, 1) := dk_104 (dk_at dksX8_meets_0 10 rfl rfl)
theorem dX8_meets_11 : decode cX8_meets 11 = .ok (.iadd, 1) := dk_96 (dk_at dksX8_meets_0 11 rfl rfl)
theorem dX8_meets_12 : decode cX8_meets 12 = .ok (.iload_n 2, 1) := dk_28 (dk_at dksX8_meets_0 12 rfl rfl)
theorem dX8_meets_13 : decode cX8_meets 13 = .ok (.iadd, 1) := dk_96 (dk_at dksX8_meets_0 13 rfl rfl)
theorem dX8_meets_14 : decode cX8_meets 14 = .ok (.iload_n 3, 1) := dk_29 (dk_at dksX8_meets_0 14 rfl rfl)
theorem dX8_meets_15 : decode cX8_meets 15 = .ok (.iastore, 1) := dk_79 (dk_at dksX8_meets_0 15 rfl rfl)
theorem dX8_meets_16 : decode cX8_meets 16 = .ok (.aload_n 0, 1) := dk_42 (dk_at dksX8_meets_0 16 rfl rfl)
theorem dX8_meets_17 : decode cX8_meets 17 = .ok (.getfield 7, 3) := dk_180 0 7 (dk_at dksX8_meets_0 17 rfl rfl)
theorem dX8_meets_20 : decode cX8_meets 20 = .ok (.sipush 272, 3) := dk_17 1 16 (dk_at dksX8_meets_0 20 rfl rfl)
theorem dX8_meets_23 : decode cX8_meets 23 = .ok (.bipush 10, 2) := dk_16 10 (dk_at dksX8_meets_1 0 rfl rfl)
theorem dX8_meets_25 : decode cX8_meets 25 = .ok (.iload_n 1, 1) := dk_27 (dk_at dksX8_meets_1 2 rfl rfl)
theorem dX8_meets_26 : decode cX8_meets 26 = .ok (.imul, 1) := dk_104 (dk_at dksX8_meets_1 3 rfl rfl)
theorem dX8_meets_27 : decode cX8_meets 27 = .ok (.iadd, 1) := dk_96 (dk_at dksX8_meets_1 4 rfl rfl)
theorem dX8_meets_28 : decode cX8_meets 28 = .ok (.iload_n 2, 1) := dk_28 (dk_at dksX8_meets_1 5 rfl rfl)
theorem dX8_meets_29 : decode cX8_meets 29 = .ok (.iadd, 1) := dk_96 (dk_at dksX8_meets_1 6 rfl rfl)
theorem dX8_meets_30 : decode cX8_meets 30 = .ok (.iload 4, 2) := dk_21 4 (dk_at dksX8_meets_1 7 rfl rfl)
theorem dX8_meets_32 : decode cX8_meets 32 = .ok (.iastore, 1) := dk_79 (dk_at dksX8_meets_1 9 rfl rfl)
theorem dX8_meets_33 : decode cX8_meets 33 = .ok (.return_, 1) := dk_177 (dk_at dksX8_meets_1 10 rfl rfl)
abbrev cX8_tieLine : ByteArray := prog_23_method_32_code
def yX8_tieLine : MethodName := ⟨RX8, "tieLine", "(I)V"⟩
def dkwX8_tieLine_4 : List UInt8 := [182, 0, 152, 177]
abbrev dktX8_tieLine_4 : List UInt8 := dkwX8_tieLine_4 ++ []
def dkwX8_tieLine_3 : List UInt8 := [182, 0, 148, 153, 0, 8, 42, 29, 182, 0, 105, 42, 180, 0, 25, 2, 160, 0, 10, 42, 28, 21, 4]
abbrev dktX8_tieLine_3 : List UInt8 := dkwX8_tieLine_3 ++ dktX8_tieLine_4
def dkwX8_tieLine_2 : List UInt8 := [182, 0, 124, 54, 4, 42, 180, 0, 25, 2, 160, 0, 24, 28, 21, 4, 159, 0, 13, 42, 28, 21, 4]
abbrev dktX8_tieLine_2 : List UInt8 := dkwX8_tieLine_2 ++ dktX8_tieLine_3
def dkwX8_tieLine_1 : List UInt8 := [46, 4, 100, 182, 0, 124, 61, 42, 182, 0, 109, 62, 42, 3, 42, 180, 0, 7, 8, 46, 4, 100]
abbrev dktX8_tieLine_1 : List UInt8 := dkwX8_tieLine_1 ++ dktX8_tieLine_2
def dkwX8_tieLine_0 : List UInt8 := [42, 180, 0, 7, 16, 6, 46, 16, 24, 160, 0, 8, 42, 27, 182, 0, 105, 42, 3, 42, 180, 0, 7, 8]
abbrev dktX8_tieLine_0 : List UInt8 := dkwX8_tieLine_0 ++ dktX8_tieLine_1
theorem dksX8_tieLine_0 : cX8_tieLine.data.toList.drop 0 = dktX8_tieLine_0 := by decide +kernel
theorem dksX8_tieLine_1 : cX8_tieLine.data.toList.drop 24 = dktX8_tieLine_1 := dk_seg dksX8_tieLine_0 24 rfl rfl
theorem dksX8_tieLine_2 : cX8_tieLine.data.toList.drop 46 = dktX8_tieLine_2 := dk_seg dksX8_tieLine_1 22 rfl rfl
theorem dksX8_tieLine_3 : cX8_tieLine.data.toList.drop 69 = dktX8_tieLine_3 := dk_seg dksX8_tieLine_2 23 rfl rfl
theorem dksX8_tieLine_4 : cX8_tieLine.data.toList.drop 92 = dktX8_tieLine_4 := dk_seg dksX8_tieLine_3 23 rfl rfl
theorem dX8_tieLine_0 : decode cX8_tieLine 0 = .ok (.aload_n 0, 1) := dk_42 (dk_at dksX8_tieLine_0 0 rfl rfl)
theorem dX8_tieLine_1 : decode cX8_tieLine 1 = .ok (.getfield 7, 3) := dk_180 0 7 (dk_at dksX8_tieLine_0 1 rfl rfl)
theorem dX8_tieLine_4 : decode cX8_tieLine 4 = .ok (.bipush 6, 2) := dk_16 6 (dk_at dksX8_tieLine_0 4 rfl rfl)
theorem dX8_tieLine_6 : decode cX8_tieLine 6 = .ok (.iaload, 1) := dk_46 (dk_at dksX8_tieLine_0 6 rfl rfl)
theorem dX8_tieLine_7 : decode cX8_tieLine 7 = .ok (.bipush 24, 2) := dk_16 24 (dk_at dksX8_tieLine_0 7 rfl rfl)
theorem dX8_tieLine_9 : decode cX8_tieLine 9 = .ok (.if_icmp .ne 8, 3) := dk_160 0 8 (dk_at dksX8_tieLine_0 9 rfl rfl)
theorem dX8_tieLine_12 : decode cX8_tieLine 12 = .ok (.aload_n 0, 1) := dk_42 (dk_at dksX8_tieLine_0 12 rfl rfl)
theorem dX8_tieLine_13 : decode cX8_tieLine 13 = .ok (.iload_n 1, 1) := dk_27 (dk_at dksX8_tieLine_0 13 rfl rfl)
theorem dX8_tieLine_14 : decode cX8_tieLine 14 = .ok (.invokevirtual 105, 3) := dk_182 0 105 (dk_at dksX8_tieLine_0 14 rfl rfl)
theorem dX8_tieLine_17 : decode cX8_tieLine 17 = .ok (.aload_n 0, 1) := dk_42 (dk_at dksX8_tieLine_0 17 rfl rfl)
theorem dX8_tieLine_18 : decode cX8_tieLine 18 = .ok (.iconst 0, 1) := dk_3 (dk_at dksX8_tieLine_0 18 rfl rfl)
theorem dX8_tieLine_19 : decode cX8_tieLine 19 = .ok (.aload_n 0, 1) := dk_42 (dk_at dksX8_tieLine_0 19 rfl rfl)
theorem dX8_tieLine_20 : decode cX8_tieLine 20 = .ok (.getfield 7, 3) := dk_180 0 7 (dk_at dksX8_tieLine_0 20 rfl rfl)
theorem dX8_tieLine_23 : decode cX8_tieLine 23 = .ok (.iconst 5, 1) := dk_8 (dk_at dksX8_tieLine_0 23 rfl rfl)
theorem dX8_tieLine_24 : decode cX8_tieLine 24 = .ok (.iaload, 1) := dk_46 (dk_at dksX8_tieLine_1 0 rfl rfl)
theorem dX8_tieLine_25 : decode cX8_tieLine 25 = .ok (.iconst 1, 1) := dk_4 (dk_at dksX8_tieLine_1 1 rfl rfl)
theorem dX8_tieLine_26 : decode cX8_tieLine 26 = .ok (.isub, 1) := dk_100 (dk_at dksX8_tieLine_1 2 rfl rfl)
theorem dX8_tieLine_27 : decode cX8_tieLine 27 = .ok (.invokevirtual 124, 3) := dk_182 0 124 (dk_at dksX8_tieLine_1 3 rfl rfl)
theorem dX8_tieLine_30 : decode cX8_tieLine 30 = .ok (.istore_n 2, 1) := dk_61 (dk_at dksX8_tieLine_1 6 rfl rfl)
theorem dX8_tieLine_31 : decode cX8_tieLine 31 = .ok (.aload_n 0, 1) := dk_42 (dk_at dksX8_tieLine_1 7 rfl rfl)
theorem dX8_tieLine_32 : decode cX8_tieLine 32 = .ok (.invokevirtual 109, 3) := dk_182 0 109 (dk_at dksX8_tieLine_1 8 rfl rfl)
theorem dX8_tieLine_35 : decode cX8_tieLine 35 = .ok (.istore_n 3, 1) := dk_62 (dk_at dksX8_tieLine_1 11 rfl rfl)
theorem dX8_tieLine_36 : decode cX8_tieLine 36 = .ok (.aload_n 0, 1) := dk_42 (dk_at dksX8_tieLine_1 12 rfl rfl)
theorem dX8_tieLine_37 : decode cX8_tieLine 37 = .ok (.iconst 0, 1) := dk_3 (dk_at dksX8_tieLine_1 13 rfl rfl)
theorem dX8_tieLine_38 : decode cX8_tieLine 38 = .ok (.aload_n 0, 1) := dk_42 (dk_at dksX8_tieLine_1 14 rfl rfl)
theorem dX8_tieLine_39 : decode cX8_tieLine 39 = .ok (.getfield 7, 3) := dk_180 0 7 (dk_at dksX8_tieLine_1 15 rfl rfl)
theorem dX8_tieLine_42 : decode cX8_tieLine 42 = .ok (.iconst 5, 1) := dk_8 (dk_at dksX8_tieLine_1 18 rfl rfl)
theorem dX8_tieLine_43 : decode cX8_tieLine 43 = .ok (.iaload, 1) := dk_46 (dk_at dksX8_tieLine_1 19 rfl rfl)
theorem dX8_tieLine_44 : decode cX8_tieLine 44 = .ok (.iconst 1, 1) := dk_4 (dk_at dksX8_tieLine_1 20 rfl rfl)
theorem dX8_tieLine_45 : decode cX8_tieLine 45 = .ok (.isub, 1) := dk_100 (dk_at dksX8_tieLine_1 21 rfl rfl)
theorem dX8_tieLine_46 : decode cX8_tieLine 46 = .ok (.invokevirtual 124, 3) := dk_182 0 124 (dk_at dksX8_tieLine_2 0 rfl rfl)
theorem dX8_tieLine_49 : decode cX8_tieLine 49 = .ok (.istore 4, 2) := dk_54 4 (dk_at dksX8_tieLine_2 3 rfl rfl)
theorem dX8_tieLine_51 : decode cX8_tieLine 51 = .ok (.aload_n 0, 1) := dk_42 (dk_at dksX8_tieLine_2 5 rfl rfl)
theorem dX8_tieLine_52 : decode cX8_tieLine 52 = .ok (.getfield 25, 3) := dk_180 0 25 (dk_at dksX8_tieLine_2 6 rfl rfl)
theorem dX8_tieLine_55 : decode cX8_tieLine 55 = .ok (.iconst (-1), 1) := dk_2 (dk_at dksX8_tieLine_2 9 rfl rfl)
theorem dX8_tieLine_56 : decode cX8_tieLine 56 = .ok (.if_icmp .ne 24, 3) := dk_160 0 24 (dk_at dksX8_tieLine_2 10 rfl rfl)
theorem dX8_tieLine_59 : decode cX8_tieLine 59 = .ok (.iload_n 2, 1) := dk_28 (dk_at dksX8_tieLine_2 13 rfl rfl)
theorem dX8_tieLine_60 : decode cX8_tieLine 60 = .ok (.iload 4, 2) := dk_21 4 (dk_at dksX8_tieLine_2 14 rfl rfl)
theorem dX8_tieLine_62 : decode cX8_tieLine 62 = .ok (.if_icmp .eq 13, 3) := dk_159 0 13 (dk_at dksX8_tieLine_2 16 rfl rfl)
theorem dX8_tieLine_65 : decode cX8_tieLine 65 = .ok (.aload_n 0, 1) := dk_42 (dk_at dksX8_tieLine_2 19 rfl rfl)
theorem dX8_tieLine_66 : decode cX8_tieLine 66 = .ok (.iload_n 2, 1) := dk_28 (dk_at dksX8_tieLine_2 20 rfl rfl)
theorem dX8_tieLine_67 : decode cX8_tieLine 67 = .ok (.iload 4, 2) := dk_21 4 (dk_at dksX8_tieLine_2 21 rfl rfl)
theorem dX8_tieLine_69 : decode cX8_tieLine 69 = .ok (.invokevirtual 148, 3) := dk_182 0 148 (dk_at dksX8_tieLine_3 0 rfl rfl)
theorem dX8_tieLine_72 : decode cX8_tieLine 72 = .ok (.ifCond .eq 8, 3) := dk_153 0 8 (dk_at dksX8_tieLine_3 3 rfl rfl)
theorem dX8_tieLine_75 : decode cX8_tieLine 75 = .ok (.aload_n 0, 1) := dk_42 (dk_at dksX8_tieLine_3 6 rfl rfl)
theorem dX8_tieLine_76 : decode cX8_tieLine 76 = .ok (.iload_n 3, 1) := dk_29 (dk_at dksX8_tieLine_3 7 rfl rfl)
theorem dX8_tieLine_77 : decode cX8_tieLine 77 = .ok (.invokevirtual 105, 3) := dk_182 0 105 (dk_at dksX8_tieLine_3 8 rfl rfl)
theorem dX8_tieLine_80 : decode cX8_tieLine 80 = .ok (.aload_n 0, 1) := dk_42 (dk_at dksX8_tieLine_3 11 rfl rfl)
theorem dX8_tieLine_81 : decode cX8_tieLine 81 = .ok (.getfield 25, 3) := dk_180 0 25 (dk_at dksX8_tieLine_3 12 rfl rfl)
theorem dX8_tieLine_84 : decode cX8_tieLine 84 = .ok (.iconst (-1), 1) := dk_2 (dk_at dksX8_tieLine_3 15 rfl rfl)
theorem dX8_tieLine_85 : decode cX8_tieLine 85 = .ok (.if_icmp .ne 10, 3) := dk_160 0 10 (dk_at dksX8_tieLine_3 16 rfl rfl)
theorem dX8_tieLine_88 : decode cX8_tieLine 88 = .ok (.aload_n 0, 1) := dk_42 (dk_at dksX8_tieLine_3 19 rfl rfl)
theorem dX8_tieLine_89 : decode cX8_tieLine 89 = .ok (.iload_n 2, 1) := dk_28 (dk_at dksX8_tieLine_3 20 rfl rfl)
theorem dX8_tieLine_90 : decode cX8_tieLine 90 = .ok (.iload 4, 2) := dk_21 4 (dk_at dksX8_tieLine_3 21 rfl rfl)
theorem dX8_tieLine_92 : decode cX8_tieLine 92 = .ok (.invokevirtual 152, 3) := dk_182 0 152 (dk_at dksX8_tieLine_4 0 rfl rfl)
theorem dX8_tieLine_95 : decode cX8_tieLine 95 = .ok (.return_, 1) := dk_177 (dk_at dksX8_tieLine_4 3 rfl rfl)
abbrev cX8_areTied : ByteArray := prog_23_method_16_code
def yX8_areTied : MethodName := ⟨RX8, "areTied", "(II)Z"⟩
def dkwX8_areTied_2 : List UInt8 := [160, 0, 5, 4, 172, 132, 3, 1, 167, 255, 204, 3, 172]
abbrev dktX8_areTied_2 : List UInt8 := dkwX8_areTied_2 ++ []
def dkwX8_areTied_1 : List UInt8 := [182, 0, 67, 28, 159, 0, 21, 42, 29, 182, 0, 63, 28, 160, 0, 14, 42, 29, 182, 0, 67, 27]
abbrev dktX8_areTied_1 : List UInt8 := dkwX8_areTied_1 ++ dktX8_areTied_2
def dkwX8_areTied_0 : List UInt8 := [3, 62, 29, 42, 180, 0, 7, 16, 6, 46, 162, 0, 47, 42, 29, 182, 0, 63, 27, 160, 0, 12, 42, 29]
abbrev dktX8_areTied_0 : List UInt8 := dkwX8_areTied_0 ++ dktX8_areTied_1
theorem dksX8_areTied_0 : cX8_areTied.data.toList.drop 0 = dktX8_areTied_0 := by decide +kernel
theorem dksX8_areTied_1 : cX8_areTied.data.toList.drop 24 = dktX8_areTied_1 := dk_seg dksX8_areTied_0 24 rfl rfl
theorem dksX8_areTied_2 : cX8_areTied.data.toList.drop 46 = dktX8_areTied_2 := dk_seg dksX8_areTied_1 22 rfl rfl
theorem dX8_areTied_0 : decode cX8_areTied 0 = .ok (.iconst 0, 1) := dk_3 (dk_at dksX8_areTied_0 0 rfl rfl)
theorem dX8_areTied_1 : decode cX8_areTied 1 = .ok (.istore_n 3, 1) := dk_62 (dk_at dksX8_areTied_0 1 rfl rfl)
theorem dX8_areTied_2 : decode cX8_areTied 2 = .ok (.iload_n 3, 1) := dk_29 (dk_at dksX8_areTied_0 2 rfl rfl)
theorem dX8_areTied_3 : decode cX8_areTied 3 = .ok (.aload_n 0, 1) := dk_42 (dk_at dksX8_areTied_0 3 rfl rfl)
theorem dX8_areTied_4 : decode cX8_areTied 4 = .ok (.getfield 7, 3) := dk_180 0 7 (dk_at dksX8_areTied_0 4 rfl rfl)
theorem dX8_areTied_7 : decode cX8_areTied 7 = .ok (.bipush 6, 2) := dk_16 6 (dk_at dksX8_areTied_0 7 rfl rfl)
theorem dX8_areTied_9 : decode cX8_areTied 9 = .ok (.iaload, 1) := dk_46 (dk_at dksX8_areTied_0 9 rfl rfl)
theorem dX8_areTied_10 : decode cX8_areTied 10 = .ok (.if_icmp .ge 47, 3) := dk_162 0 47 (dk_at dksX8_areTied_0 10 rfl rfl)
theorem dX8_areTied_13 : decode cX8_areTied 13 = .ok (.aload_n 0, 1) := dk_42 (dk_at dksX8_areTied_0 13 rfl rfl)
theorem dX8_areTied_14 : decode cX8_areTied 14 = .ok (.iload_n 3, 1) := dk_29 (dk_at dksX8_areTied_0 14 rfl rfl)
theorem dX8_areTied_15 : decode cX8_areTied 15 = .ok (.invokevirtual 63, 3) := dk_182 0 63 (dk_at dksX8_areTied_0 15 rfl rfl)
theorem dX8_areTied_18 : decode cX8_areTied 18 = .ok (.iload_n 1, 1) := dk_27 (dk_at dksX8_areTied_0 18 rfl rfl)
theorem dX8_areTied_19 : decode cX8_areTied 19 = .ok (.if_icmp .ne 12, 3) := dk_160 0 12 (dk_at dksX8_areTied_0 19 rfl rfl)
theorem dX8_areTied_22 : decode cX8_areTied 22 = .ok (.aload_n 0, 1) := dk_42 (dk_at dksX8_areTied_0 22 rfl rfl)
theorem dX8_areTied_23 : decode cX8_areTied 23 = .ok (.iload_n 3, 1) := dk_29 (dk_at dksX8_areTied_0 23 rfl rfl)
theorem dX8_areTied_24 : decode cX8_areTied 24 = .ok (.invokevirtual 67, 3) := dk_182 0 67 (dk_at dksX8_areTied_1 0 rfl rfl)
theorem dX8_areTied_27 : decode cX8_areTied 27 = .ok (.iload_n 2, 1) := dk_28 (dk_at dksX8_areTied_1 3 rfl rfl)
theorem dX8_areTied_28 : decode cX8_areTied 28 = .ok (.if_icmp .eq 21, 3) := dk_159 0 21 (dk_at dksX8_areTied_1 4 rfl rfl)
theorem dX8_areTied_31 : decode cX8_areTied 31 = .ok (.aload_n 0, 1) := dk_42 (dk_at dksX8_areTied_1 7 rfl rfl)
theorem dX8_areTied_32 : decode cX8_areTied 32 = .ok (.iload_n 3, 1) := dk_29 (dk_at dksX8_areTied_1 8 rfl rfl)
theorem dX8_areTied_33 : decode cX8_areTied 33 = .ok (.invokevirtual 63, 3) := dk_182 0 63 (dk_at dksX8_areTied_1 9 rfl rfl)
theorem dX8_areTied_36 : decode cX8_areTied 36 = .ok (.iload_n 2, 1) := dk_28 (dk_at dksX8_areTied_1 12 rfl rfl)
theorem dX8_areTied_37 : decode cX8_areTied 37 = .ok (.if_icmp .ne 14, 3) := dk_160 0 14 (dk_at dksX8_areTied_1 13 rfl rfl)
theorem dX8_areTied_40 : decode cX8_areTied 40 = .ok (.aload_n 0, 1) := dk_42 (dk_at dksX8_areTied_1 16 rfl rfl)
theorem dX8_areTied_41 : decode cX8_areTied 41 = .ok (.iload_n 3, 1) := dk_29 (dk_at dksX8_areTied_1 17 rfl rfl)
theorem dX8_areTied_42 : decode cX8_areTied 42 = .ok (.invokevirtual 67, 3) := dk_182 0 67 (dk_at dksX8_areTied_1 18 rfl rfl)
theorem dX8_areTied_45 : decode cX8_areTied 45 = .ok (.iload_n 1, 1) := dk_27 (dk_at dksX8_areTied_1 21 rfl rfl)
theorem dX8_areTied_46 : decode cX8_areTied 46 = .ok (.if_icmp .ne 5, 3) := dk_160 0 5 (dk_at dksX8_areTied_2 0 rfl rfl)
theorem dX8_areTied_49 : decode cX8_areTied 49 = .ok (.iconst 1, 1) := dk_4 (dk_at dksX8_areTied_2 3 rfl rfl)
theorem dX8_areTied_50 : decode cX8_areTied 50 = .ok (.ireturn, 1) := dk_172 (dk_at dksX8_areTied_2 4 rfl rfl)
theorem dX8_areTied_51 : decode cX8_areTied 51 = .ok (.iinc 3 1, 3) := dk_132 3 1 (dk_at dksX8_areTied_2 5 rfl rfl)
theorem dX8_areTied_54 : decode cX8_areTied 54 = .ok (.goto (-52), 3) := dk_167 255 204 (dk_at dksX8_areTied_2 8 rfl rfl)
theorem dX8_areTied_57 : decode cX8_areTied 57 = .ok (.iconst 0, 1) := dk_3 (dk_at dksX8_areTied_2 11 rfl rfl)
theorem dX8_areTied_58 : decode cX8_areTied 58 = .ok (.ireturn, 1) := dk_172 (dk_at dksX8_areTied_2 12 rfl rfl)
abbrev cX8_who : ByteArray := prog_23_method_14_code
def yX8_who : MethodName := ⟨RX8, "who", "(I)I"⟩
def dkwX8_who_0 : List UInt8 := [42, 180, 0, 7, 17, 1, 116, 5, 27, 104, 96, 46, 172]
abbrev dktX8_who_0 : List UInt8 := dkwX8_who_0 ++ []
theorem dksX8_who_0 : cX8_who.data.toList.drop 0 = dktX8_who_0 := by decide +kernel
theorem dX8_who_0 : decode cX8_who 0 = .ok (.aload_n 0, 1) := dk_42 (dk_at dksX8_who_0 0 rfl rfl)
theorem dX8_who_1 : decode cX8_who 1 = .ok (.getfield 7, 3) := dk_180 0 7 (dk_at dksX8_who_0 1 rfl rfl)
theorem dX8_who_4 : decode cX8_who 4 = .ok (.sipush 372, 3) := dk_17 1 116 (dk_at dksX8_who_0 4 rfl rfl)
theorem dX8_who_7 : decode cX8_who 7 = .ok (.iconst 2, 1) := dk_5 (dk_at dksX8_who_0 7 rfl rfl)
theorem dX8_who_8 : decode cX8_who 8 = .ok (.iload_n 1, 1) := dk_27 (dk_at dksX8_who_0 8 rfl rfl)
theorem dX8_who_9 : decode cX8_who 9 = .ok (.imul, 1) := dk_104 (dk_at dksX8_who_0 9 rfl rfl)
theorem dX8_who_10 : decode cX8_who 10 = .ok (.iadd, 1) := dk_96 (dk_at dksX8_who_0 10 rfl rfl)
theorem dX8_who_11 : decode cX8_who 11 = .ok (.iaload, 1) := dk_46 (dk_at dksX8_who_0 11 rfl rfl)
theorem dX8_who_12 : decode cX8_who 12 = .ok (.ireturn, 1) := dk_172 (dk_at dksX8_who_0 12 rfl rfl)
abbrev cX8_whom : ByteArray := prog_23_method_15_code
def yX8_whom : MethodName := ⟨RX8, "whom", "(I)I"⟩
def dkwX8_whom_0 : List UInt8 := [42, 180, 0, 7, 17, 1, 116, 5, 27, 104, 96, 4, 96, 46, 172]
abbrev dktX8_whom_0 : List UInt8 := dkwX8_whom_0 ++ []
theorem dksX8_whom_0 : cX8_whom.data.toList.drop 0 = dktX8_whom_0 := by decide +kernel
theorem dX8_whom_0 : decode cX8_whom 0 = .ok (.aload_n 0, 1) := dk_42 (dk_at dksX8_whom_0 0 rfl rfl)
theorem dX8_whom_1 : decode cX8_whom 1 = .ok (.getfield 7, 3) := dk_180 0 7 (dk_at dksX8_whom_0 1 rfl rfl)
theorem dX8_whom_4 : decode cX8_whom 4 = .ok (.sipush 372, 3) := dk_17 1 116 (dk_at dksX8_whom_0 4 rfl rfl)
theorem dX8_whom_7 : decode cX8_whom 7 = .ok (.iconst 2, 1) := dk_5 (dk_at dksX8_whom_0 7 rfl rfl)
theorem dX8_whom_8 : decode cX8_whom 8 = .ok (.iload_n 1, 1) := dk_27 (dk_at dksX8_whom_0 8 rfl rfl)
theorem dX8_whom_9 : decode cX8_whom 9 = .ok (.imul, 1) := dk_104 (dk_at dksX8_whom_0 9 rfl rfl)
theorem dX8_whom_10 : decode cX8_whom 10 = .ok (.iadd, 1) := dk_96 (dk_at dksX8_whom_0 10 rfl rfl)
theorem dX8_whom_11 : decode cX8_whom 11 = .ok (.iconst 1, 1) := dk_4 (dk_at dksX8_whom_0 11 rfl rfl)
theorem dX8_whom_12 : decode cX8_whom 12 = .ok (.iadd, 1) := dk_96 (dk_at dksX8_whom_0 12 rfl rfl)
theorem dX8_whom_13 : decode cX8_whom 13 = .ok (.iaload, 1) := dk_46 (dk_at dksX8_whom_0 13 rfl rfl)
theorem dX8_whom_14 : decode cX8_whom 14 = .ok (.ireturn, 1) := dk_172 (dk_at dksX8_whom_0 14 rfl rfl)
abbrev cX8_binds : ByteArray := prog_23_method_33_code
def yX8_binds : MethodName := ⟨RX8, "binds", "(II)V"⟩
def dkwX8_binds_2 : List UInt8 := [46, 4, 96, 79, 177]
abbrev dktX8_binds_2 : List UInt8 := dkwX8_binds_2 ++ []
def dkwX8_binds_1 : List UInt8 := [17, 1, 116, 5, 42, 180, 0, 7, 16, 6, 46, 104, 96, 4, 96, 28, 79, 42, 180, 0, 7, 16, 6, 92]
abbrev dktX8_binds_1 : List UInt8 := dkwX8_binds_1 ++ dktX8_binds_2
def dkwX8_binds_0 : List UInt8 := [42, 180, 0, 7, 17, 1, 116, 5, 42, 180, 0, 7, 16, 6, 46, 104, 96, 27, 79, 42, 180, 0, 7]
abbrev dktX8_binds_0 : List UInt8 := dkwX8_binds_0 ++ dktX8_binds_1
theorem dksX8_binds_0 : cX8_binds.data.toList.drop 0 = dktX8_binds_0 := by decide +kernel
theorem dksX8_binds_1 : cX8_binds.data.toList.drop 23 = dktX8_binds_1 := dk_seg dksX8_binds_0 23 rfl rfl
theorem dksX8_binds_2 : cX8_binds.data.toList.drop 47 = dktX8_binds_2 := dk_seg dksX8_binds_1 24 rfl rfl
theorem dX8_binds_0 : decode cX8_binds 0 = .ok (.aload_n 0, 1) := dk_42 (dk_at dksX8_binds_0 0 rfl rfl)
theorem dX8_binds_1 : decode cX8_binds 1 = .ok (.getfield 7, 3) := dk_180 0 7 (dk_at dksX8_binds_0 1 rfl rfl)
theorem dX8_binds_4 : decode cX8_binds 4 = .ok (.sipush 372, 3) := dk_17 1 116 (dk_at dksX8_binds_0 4 rfl rfl)
theorem dX8_binds_7 : decode cX8_binds 7 = .ok (.iconst 2, 1) := dk_5 (dk_at dksX8_binds_0 7 rfl rfl)
theorem dX8_binds_8 : decode cX8_binds 8 = .ok (.aload_n 0, 1) := dk_42 (dk_at dksX8_binds_0 8 rfl rfl)
theorem dX8_binds_9 : decode cX8_binds 9 = .ok (.getfield 7, 3) := dk_180 0 7 (dk_at dksX8_binds_0 9 rfl rfl)
theorem dX8_binds_12 : decode cX8_binds 12 = .ok (.bipush 6, 2) := dk_16 6 (dk_at dksX8_binds_0 12 rfl rfl)
theorem dX8_binds_14 : decode cX8_binds 14 = .ok (.iaload, 1) := dk_46 (dk_at dksX8_binds_0 14 rfl rfl)
theorem dX8_binds_15 : decode cX8_binds 15 = .ok (.imul, 1) := dk_104 (dk_at dksX8_binds_0 15 rfl rfl)
theorem dX8_binds_16 : decode cX8_binds 16 = .ok (.iadd, 1) := dk_96 (dk_at dksX8_binds_0 16 rfl rfl)
theorem dX8_binds_17 : decode cX8_binds 17 = .ok (.iload_n 1, 1) := dk_27 (dk_at dksX8_binds_0 17 rfl rfl)
theorem dX8_binds_18 : decode cX8_binds 18 = .ok (.iastore, 1) := dk_79 (dk_at dksX8_binds_0 18 rfl rfl)
theorem dX8_binds_19 : decode cX8_binds 19 = .ok (.aload_n 0, 1) := dk_42 (dk_at dksX8_binds_0 19 rfl rfl)
theorem dX8_binds_20 : decode cX8_binds 20 = .ok (.getfield 7, 3) := dk_180 0 7 (dk_at dksX8_binds_0 20 rfl rfl)
theorem dX8_binds_23 : decode cX8_binds 23 = .ok (.sipush 372, 3) := dk_17 1 116 (dk_at dksX8_binds_1 0 rfl rfl)
theorem dX8_binds_26 : decode cX8_binds 26 = .ok (.iconst 2, 1) := dk_5 (dk_at dksX8_binds_1 3 rfl rfl)
theorem dX8_binds_27 : decode cX8_binds 27 = .ok (.aload_n 0, 1) := dk_42 (dk_at dksX8_binds_1 4 rfl rfl)
theorem dX8_binds_28 : decode cX8_binds 28 = .ok (.getfield 7, 3) := dk_180 0 7 (dk_at dksX8_binds_1 5 rfl rfl)
theorem dX8_binds_31 : decode cX8_binds 31 = .ok (.bipush 6, 2) := dk_16 6 (dk_at dksX8_binds_1 8 rfl rfl)
theorem dX8_binds_33 : decode cX8_binds 33 = .ok (.iaload, 1) := dk_46 (dk_at dksX8_binds_1 10 rfl rfl)
theorem dX8_binds_34 : decode cX8_binds 34 = .ok (.imul, 1) := dk_104 (dk_at dksX8_binds_1 11 rfl rfl)
theorem dX8_binds_35 : decode cX8_binds 35 = .ok (.iadd, 1) := dk_96 (dk_at dksX8_binds_1 12 rfl rfl)
theorem dX8_binds_36 : decode cX8_binds 36 = .ok (.iconst 1, 1) := dk_4 (dk_at dksX8_binds_1 13 rfl rfl)
theorem dX8_binds_37 : decode cX8_binds 37 = .ok (.iadd, 1) := dk_96 (dk_at dksX8_binds_1 14 rfl rfl)
theorem dX8_binds_38 : decode cX8_binds 38 = .ok (.iload_n 2, 1) := dk_28 (dk_at dksX8_binds_1 15 rfl rfl)
theorem dX8_binds_39 : decode cX8_binds 39 = .ok (.iastore, 1) := dk_79 (dk_at dksX8_binds_1 16 rfl rfl)
theorem dX8_binds_40 : decode cX8_binds 40 = .ok (.aload_n 0, 1) := dk_42 (dk_at dksX8_binds_1 17 rfl rfl)
theorem dX8_binds_41 : decode cX8_binds 41 = .ok (.getfield 7, 3) := dk_180 0 7 (dk_at dksX8_binds_1 18 rfl rfl)
theorem dX8_binds_44 : decode cX8_binds 44 = .ok (.bipush 6, 2) := dk_16 6 (dk_at dksX8_binds_1 21 rfl rfl)
theorem dX8_binds_46 : decode cX8_binds 46 = .ok (.dup2, 1) := dk_92 (dk_at dksX8_binds_1 23 rfl rfl)
theorem dX8_binds_47 : decode cX8_binds 47 = .ok (.iaload, 1) := dk_46 (dk_at dksX8_binds_2 0 rfl rfl)
theorem dX8_binds_48 : decode cX8_binds 48 = .ok (.iconst 1, 1) := dk_4 (dk_at dksX8_binds_2 1 rfl rfl)
theorem dX8_binds_49 : decode cX8_binds 49 = .ok (.iadd, 1) := dk_96 (dk_at dksX8_binds_2 2 rfl rfl)
theorem dX8_binds_50 : decode cX8_binds 50 = .ok (.iastore, 1) := dk_79 (dk_at dksX8_binds_2 3 rfl rfl)
theorem dX8_binds_51 : decode cX8_binds 51 = .ok (.return_, 1) := dk_177 (dk_at dksX8_binds_2 4 rfl rfl)
abbrev cX8_tells : ByteArray := prog_23_method_34_code
def yX8_tells : MethodName := ⟨RX8, "tells", "(I)V"⟩
def dkwX8_tells_0 : List UInt8 := [42, 3, 16, 99, 182, 0, 124, 61, 42, 180, 0, 25, 2, 160, 0, 10, 42, 180, 0, 7, 27, 28, 79, 177]
abbrev dktX8_tells_0 : List UInt8 := dkwX8_tells_0 ++ []
theorem dksX8_tells_0 : cX8_tells.data.toList.drop 0 = dktX8_tells_0 := by decide +kernel
theorem dX8_tells_0 : decode cX8_tells 0 = .ok (.aload_n 0, 1) := dk_42 (dk_at dksX8_tells_0 0 rfl rfl)
theorem dX8_tells_1 : decode cX8_tells 1 = .ok (.iconst 0, 1) := dk_3 (dk_at dksX8_tells_0 1 rfl rfl)
theorem dX8_tells_2 : decode cX8_tells 2 = .ok (.bipush 99, 2) := dk_16 99 (dk_at dksX8_tells_0 2 rfl rfl)
theorem dX8_tells_4 : decode cX8_tells 4 = .ok (.invokevirtual 124, 3) := dk_182 0 124 (dk_at dksX8_tells_0 4 rfl rfl)
theorem dX8_tells_7 : decode cX8_tells 7 = .ok (.istore_n 2, 1) := dk_61 (dk_at dksX8_tells_0 7 rfl rfl)
theorem dX8_tells_8 : decode cX8_tells 8 = .ok (.aload_n 0, 1) := dk_42 (dk_at dksX8_tells_0 8 rfl rfl)
theorem dX8_tells_9 : decode cX8_tells 9 = .ok (.getfield 25, 3) := dk_180 0 25 (dk_at dksX8_tells_0 9 rfl rfl)
theorem dX8_tells_12 : decode cX8_tells 12 = .ok (.iconst (-1), 1) := dk_2 (dk_at dksX8_tells_0 12 rfl rfl)
theorem dX8_tells_13 : decode cX8_tells 13 = .ok (.if_icmp .ne 10, 3) := dk_160 0 10 (dk_at dksX8_tells_0 13 rfl rfl)
theorem dX8_tells_16 : decode cX8_tells 16 = .ok (.aload_n 0, 1) := dk_42 (dk_at dksX8_tells_0 16 rfl rfl)
theorem dX8_tells_17 : decode cX8_tells 17 = .ok (.getfield 7, 3) := dk_180 0 7 (dk_at dksX8_tells_0 17 rfl rfl)
theorem dX8_tells_20 : decode cX8_tells 20 = .ok (.iload_n 1, 1) := dk_27 (dk_at dksX8_tells_0 20 rfl rfl)
theorem dX8_tells_21 : decode cX8_tells 21 = .ok (.iload_n 2, 1) := dk_28 (dk_at dksX8_tells_0 21 rfl rfl)
theorem dX8_tells_22 : decode cX8_tells 22 = .ok (.iastore, 1) := dk_79 (dk_at dksX8_tells_0 22 rfl rfl)
theorem dX8_tells_23 : decode cX8_tells 23 = .ok (.return_, 1) := dk_177 (dk_at dksX8_tells_0 23 rfl rfl)
abbrev cX8_comesBack : ByteArray := prog_23_method_39_code
def yX8_comesBack : MethodName := ⟨RX8, "comesBack", "()V"⟩
def dkwX8_comesBack_1 : List UInt8 := [167, 255, 234, 177]
abbrev dktX8_comesBack_1 : List UInt8 := dkwX8_comesBack_1 ++ []
def dkwX8_comesBack_0 : List UInt8 := [3, 60, 27, 17, 3, 132, 162, 0, 21, 42, 180, 0, 7, 27, 42, 180, 0, 16, 27, 46, 79, 132, 1, 1]
abbrev dktX8_comesBack_0 : List UInt8 := dkwX8_comesBack_0 ++ dktX8_comesBack_1
theorem dksX8_comesBack_0 : cX8_comesBack.data.toList.drop 0 = dktX8_comesBack_0 := by decide +kernel
theorem dksX8_comesBack_1 : cX8_comesBack.data.toList.drop 24 = dktX8_comesBack_1 := dk_seg dksX8_comesBack_0 24 rfl rfl
theorem dX8_comesBack_0 : decode cX8_comesBack 0 = .ok (.iconst 0, 1) := dk_3 (dk_at dksX8_comesBack_0 0 rfl rfl)
theorem dX8_comesBack_1 : decode cX8_comesBack 1 = .ok (.istore_n 1, 1) := dk_60 (dk_at dksX8_comesBack_0 1 rfl rfl)
theorem dX8_comesBack_2 : decode cX8_comesBack 2 = .ok (.iload_n 1, 1) := dk_27 (dk_at dksX8_comesBack_0 2 rfl rfl)
theorem dX8_comesBack_3 : decode cX8_comesBack 3 = .ok (.sipush 900, 3) := dk_17 3 132 (dk_at dksX8_comesBack_0 3 rfl rfl)
theorem dX8_comesBack_6 : decode cX8_comesBack 6 = .ok (.if_icmp .ge 21, 3) := dk_162 0 21 (dk_at dksX8_comesBack_0 6 rfl rfl)
theorem dX8_comesBack_9 : decode cX8_comesBack 9 = .ok (.aload_n 0, 1) := dk_42 (dk_at dksX8_comesBack_0 9 rfl rfl)
theorem dX8_comesBack_10 : decode cX8_comesBack 10 = .ok (.getfield 7, 3) := dk_180 0 7 (dk_at dksX8_comesBack_0 10 rfl rfl)
theorem dX8_comesBack_13 : decode cX8_comesBack 13 = .ok (.iload_n 1, 1) := dk_27 (dk_at dksX8_comesBack_0 13 rfl rfl)
theorem dX8_comesBack_14 : decode cX8_comesBack 14 = .ok (.aload_n 0, 1) := dk_42 (dk_at dksX8_comesBack_0 14 rfl rfl)
theorem dX8_comesBack_15 : decode cX8_comesBack 15 = .ok (.getfield 16, 3) := dk_180 0 16 (dk_at dksX8_comesBack_0 15 rfl rfl)
theorem dX8_comesBack_18 : decode cX8_comesBack 18 = .ok (.iload_n 1, 1) := dk_27 (dk_at dksX8_comesBack_0 18 rfl rfl)
theorem dX8_comesBack_19 : decode cX8_comesBack 19 = .ok (.iaload, 1) := dk_46 (dk_at dksX8_comesBack_0 19 rfl rfl)
theorem dX8_comesBack_20 : decode cX8_comesBack 20 = .ok (.iastore, 1) := dk_79 (dk_at dksX8_comesBack_0 20 rfl rfl)
theorem dX8_comesBack_21 : decode cX8_comesBack 21 = .ok (.iinc 1 1, 3) := dk_132 1 1 (dk_at dksX8_comesBack_0 21 rfl rfl)
theorem dX8_comesBack_24 : decode cX8_comesBack 24 = .ok (.goto (-22), 3) := dk_167 255 234 (dk_at dksX8_comesBack_1 0 rfl rfl)
theorem dX8_comesBack_27 : decode cX8_comesBack 27 = .ok (.return_, 1) := dk_177 (dk_at dksX8_comesBack_1 3 rfl rfl)
abbrev cX8_law : ByteArray := prog_23_method_47_code
def yX8_law : MethodName := ⟨RX8, "law", "()I"⟩
def dkwX8_law_3 : List UInt8 := [42, 180, 0, 22, 28, 46, 79, 132, 2, 1, 167, 255, 229, 42, 3, 181, 0, 207, 27, 172]
abbrev dktX8_law_3 : List UInt8 := dkwX8_law_3 ++ []
def dkwX8_law_2 : List UInt8 := [42, 180, 0, 82, 79, 3, 61, 28, 42, 180, 0, 82, 162, 0, 25, 42, 180, 0, 7, 17, 3, 132, 28, 96]
abbrev dktX8_law_2 : List UInt8 := dkwX8_law_2 ++ dktX8_law_3
def dkwX8_law_1 : List UInt8 := [181, 0, 56, 42, 180, 0, 56, 158, 0, 5, 3, 172, 42, 180, 0, 7, 4, 27, 79, 42, 180, 0, 7, 5]
abbrev dktX8_law_1 : List UInt8 := dkwX8_law_1 ++ dktX8_law_2
def dkwX8_law_0 : List UInt8 := [42, 182, 0, 197, 42, 4, 182, 0, 200, 60, 42, 42, 180, 0, 25, 2, 159, 0, 7, 4, 167, 0, 4, 3]
abbrev dktX8_law_0 : List UInt8 := dkwX8_law_0 ++ dktX8_law_1
theorem dksX8_law_0 : cX8_law.data.toList.drop 0 = dktX8_law_0 := by decide +kernel
theorem dksX8_law_1 : cX8_law.data.toList.drop 24 = dktX8_law_1 := dk_seg dksX8_law_0 24 rfl rfl
theorem dksX8_law_2 : cX8_law.data.toList.drop 48 = dktX8_law_2 := dk_seg dksX8_law_1 24 rfl rfl
theorem dksX8_law_3 : cX8_law.data.toList.drop 72 = dktX8_law_3 := dk_seg dksX8_law_2 24 rfl rfl
theorem dX8_law_0 : decode cX8_law 0 = .ok (.aload_n 0, 1) := dk_42 (dk_at dksX8_law_0 0 rfl rfl)
theorem dX8_law_1 : decode cX8_law 1 = .ok (.invokevirtual 197, 3) := dk_182 0 197 (dk_at dksX8_law_0 1 rfl rfl)
theorem dX8_law_4 : decode cX8_law 4 = .ok (.aload_n 0, 1) := dk_42 (dk_at dksX8_law_0 4 rfl rfl)
theorem dX8_law_5 : decode cX8_law 5 = .ok (.iconst 1, 1) := dk_4 (dk_at dksX8_law_0 5 rfl rfl)
theorem dX8_law_6 : decode cX8_law 6 = .ok (.invokevirtual 200, 3) := dk_182 0 200 (dk_at dksX8_law_0 6 rfl rfl)
theorem dX8_law_9 : decode cX8_law 9 = .ok (.istore_n 1, 1) := dk_60 (dk_at dksX8_law_0 9 rfl rfl)
theorem dX8_law_10 : decode cX8_law 10 = .ok (.aload_n 0, 1) := dk_42 (dk_at dksX8_law_0 10 rfl rfl)
theorem dX8_law_11 : decode cX8_law 11 = .ok (.aload_n 0, 1) := dk_42 (dk_at dksX8_law_0 11 rfl rfl)
theorem dX8_law_12 : decode cX8_law 12 = .ok (.getfield 25, 3) := dk_180 0 25 (dk_at dksX8_law_0 12 rfl rfl)
theorem dX8_law_15 : decode cX8_law 15 = .ok (.iconst (-1), 1) := dk_2 (dk_at dksX8_law_0 15 rfl rfl)
theorem dX8_law_16 : decode cX8_law 16 = .ok (.if_icmp .eq 7, 3) := dk_159 0 7 (dk_at dksX8_law_0 16 rfl rfl)
theorem dX8_law_19 : decode cX8_law 19 = .ok (.iconst 1, 1) := dk_4 (dk_at dksX8_law_0 19 rfl rfl)
theorem dX8_law_20 : decode cX8_law 20 = .ok (.goto 4, 3) := dk_167 0 4 (dk_at dksX8_law_0 20 rfl rfl)
theorem dX8_law_23 : decode cX8_law 23 = .ok (.iconst 0, 1) := dk_3 (dk_at dksX8_law_0 23 rfl rfl)
theorem dX8_law_24 : decode cX8_law 24 = .ok (.putfield 56, 3) := dk_181 0 56 (dk_at dksX8_law_1 0 rfl rfl)
theorem dX8_law_27 : decode cX8_law 27 = .ok (.aload_n 0, 1) := dk_42 (dk_at dksX8_law_1 3 rfl rfl)
theorem dX8_law_28 : decode cX8_law 28 = .ok (.getfield 56, 3) := dk_180 0 56 (dk_at dksX8_law_1 4 rfl rfl)
theorem dX8_law_31 : decode cX8_law 31 = .ok (.ifCond .le 5, 3) := dk_158 0 5 (dk_at dksX8_law_1 7 rfl rfl)
theorem dX8_law_34 : decode cX8_law 34 = .ok (.iconst 0, 1) := dk_3 (dk_at dksX8_law_1 10 rfl rfl)
theorem dX8_law_35 : decode cX8_law 35 = .ok (.ireturn, 1) := dk_172 (dk_at dksX8_law_1 11 rfl rfl)
theorem dX8_law_36 : decode cX8_law 36 = .ok (.aload_n 0, 1) := dk_42 (dk_at dksX8_law_1 12 rfl rfl)
theorem dX8_law_37 : decode cX8_law 37 = .ok (.getfield 7, 3) := dk_180 0 7 (dk_at dksX8_law_1 13 rfl rfl)
theorem dX8_law_40 : decode cX8_law 40 = .ok (.iconst 1, 1) := dk_4 (dk_at dksX8_law_1 16 rfl rfl)
theorem dX8_law_41 : decode cX8_law 41 = .ok (.iload_n 1, 1) := dk_27 (dk_at dksX8_law_1 17 rfl rfl)
theorem dX8_law_42 : decode cX8_law 42 = .ok (.iastore, 1) := dk_79 (dk_at dksX8_law_1 18 rfl rfl)
theorem dX8_law_43 : decode cX8_law 43 = .ok (.aload_n 0, 1) := dk_42 (dk_at dksX8_law_1 19 rfl rfl)
theorem dX8_law_44 : decode cX8_law 44 = .ok (.getfield 7, 3) := dk_180 0 7 (dk_at dksX8_law_1 20 rfl rfl)
theorem dX8_law_47 : decode cX8_law 47 = .ok (.iconst 2, 1) := dk_5 (dk_at dksX8_law_1 23 rfl rfl)
theorem dX8_law_48 : decode cX8_law 48 = .ok (.aload_n 0, 1) := dk_42 (dk_at dksX8_law_2 0 rfl rfl)
theorem dX8_law_49 : decode cX8_law 49 = .ok (.getfield 82, 3) := dk_180 0 82 (dk_at dksX8_law_2 1 rfl rfl)
theorem dX8_law_52 : decode cX8_law 52 = .ok (.iastore, 1) := dk_79 (dk_at dksX8_law_2 4 rfl rfl)
theorem dX8_law_53 : decode cX8_law 53 = .ok (.iconst 0, 1) := dk_3 (dk_at dksX8_law_2 5 rfl rfl)
theorem dX8_law_54 : decode cX8_law 54 = .ok (.istore_n 2, 1) := dk_61 (dk_at dksX8_law_2 6 rfl rfl)
theorem dX8_law_55 : decode cX8_law 55 = .ok (.iload_n 2, 1) := dk_28 (dk_at dksX8_law_2 7 rfl rfl)
theorem dX8_law_56 : decode cX8_law 56 = .ok (.aload_n 0, 1) := dk_42 (dk_at dksX8_law_2 8 rfl rfl)
theorem dX8_law_57 : decode cX8_law 57 = .ok (.getfield 82, 3) := dk_180 0 82 (dk_at dksX8_law_2 9 rfl rfl)
theorem dX8_law_60 : decode cX8_law 60 = .ok (.if_icmp .ge 25, 3) := dk_162 0 25 (dk_at dksX8_law_2 12 rfl rfl)
theorem dX8_law_63 : decode cX8_law 63 = .ok (.aload_n 0, 1) := dk_42 (dk_at dksX8_law_2 15 rfl rfl)
theorem dX8_law_64 : decode cX8_law 64 = .ok (.getfield 7, 3) := dk_180 0 7 (dk_at dksX8_law_2 16 rfl rfl)
theorem dX8_law_67 : decode cX8_law 67 = .ok (.sipush 900, 3) := dk_17 3 132 (dk_at dksX8_law_2 19 rfl rfl)
theorem dX8_law_70 : decode cX8_law 70 = .ok (.iload_n 2, 1) := dk_28 (dk_at dksX8_law_2 22 rfl rfl)
theorem dX8_law_71 : decode cX8_law 71 = .ok (.iadd, 1) := dk_96 (dk_at dksX8_law_2 23 rfl rfl)
theorem dX8_law_72 : decode cX8_law 72 = .ok (.aload_n 0, 1) := dk_42 (dk_at dksX8_law_3 0 rfl rfl)
theorem dX8_law_73 : decode cX8_law 73 = .ok (.getfield 22, 3) := dk_180 0 22 (dk_at dksX8_law_3 1 rfl rfl)
theorem dX8_law_76 : decode cX8_law 76 = .ok (.iload_n 2, 1) := dk_28 (dk_at dksX8_law_3 4 rfl rfl)
theorem dX8_law_77 : decode cX8_law 77 = .ok (.iaload, 1) := dk_46 (dk_at dksX8_law_3 5 rfl rfl)
theorem dX8_law_78 : decode cX8_law 78 = .ok (.iastore, 1) := dk_79 (dk_at dksX8_law_3 6 rfl rfl)
theorem dX8_law_79 : decode cX8_law 79 = .ok (.iinc 2 1, 3) := dk_132 2 1 (dk_at dksX8_law_3 7 rfl rfl)
theorem dX8_law_82 : decode cX8_law 82 = .ok (.goto (-27), 3) := dk_167 255 229 (dk_at dksX8_law_3 10 rfl rfl)
theorem dX8_law_85 : decode cX8_law 85 = .ok (.aload_n 0, 1) := dk_42 (dk_at dksX8_law_3 13 rfl rfl)
theorem dX8_law_86 : decode cX8_law 86 = .ok (.iconst 0, 1) := dk_3 (dk_at dksX8_law_3 14 rfl rfl)
theorem dX8_law_87 : decode cX8_law 87 = .ok (.putfield 207, 3) := dk_181 0 207 (dk_at dksX8_law_3 15 rfl rfl)
theorem dX8_law_90 : decode cX8_law 90 = .ok (.iload_n 1, 1) := dk_27 (dk_at dksX8_law_3 18 rfl rfl)
theorem dX8_law_91 : decode cX8_law 91 = .ok (.ireturn, 1) := dk_172 (dk_at dksX8_law_3 19 rfl rfl)
abbrev cX8_fault : ByteArray := prog_23_method_48_code
def yX8_fault : MethodName := ⟨RX8, "fault", "()I"⟩
def dkwX8_fault_0 : List UInt8 := [42, 3, 181, 0, 56, 42, 180, 0, 25, 172]
abbrev dktX8_fault_0 : List UInt8 := dkwX8_fault_0 ++ []
theorem dksX8_fault_0 : cX8_fault.data.toList.drop 0 = dktX8_fault_0 := by decide +kernel
theorem dX8_fault_0 : decode cX8_fault 0 = .ok (.aload_n 0, 1) := dk_42 (dk_at dksX8_fault_0 0 rfl rfl)
theorem dX8_fault_1 : decode cX8_fault 1 = .ok (.iconst 0, 1) := dk_3 (dk_at dksX8_fault_0 1 rfl rfl)
theorem dX8_fault_2 : decode cX8_fault 2 = .ok (.putfield 56, 3) := dk_181 0 56 (dk_at dksX8_fault_0 2 rfl rfl)
theorem dX8_fault_5 : decode cX8_fault 5 = .ok (.aload_n 0, 1) := dk_42 (dk_at dksX8_fault_0 5 rfl rfl)
theorem dX8_fault_6 : decode cX8_fault 6 = .ok (.getfield 25, 3) := dk_180 0 25 (dk_at dksX8_fault_0 6 rfl rfl)
theorem dX8_fault_9 : decode cX8_fault 9 = .ok (.ireturn, 1) := dk_172 (dk_at dksX8_fault_0 9 rfl rfl)
abbrev cX8_cost : ByteArray := prog_23_method_50_code
def yX8_cost : MethodName := ⟨RX8, "cost", "(II)I"⟩
def dkwX8_cost_1 : List UInt8 := [180, 0, 56, 158, 0, 7, 3, 167, 0, 9, 42, 27, 28, 182, 1, 7, 172]
abbrev dktX8_cost_1 : List UInt8 := dkwX8_cost_1 ++ []
def dkwX8_cost_0 : List UInt8 := [42, 27, 184, 1, 4, 153, 0, 10, 28, 184, 1, 4, 154, 0, 7, 4, 167, 0, 4, 3, 181, 0, 56, 42]
abbrev dktX8_cost_0 : List UInt8 := dkwX8_cost_0 ++ dktX8_cost_1
theorem dksX8_cost_0 : cX8_cost.data.toList.drop 0 = dktX8_cost_0 := by decide +kernel
theorem dksX8_cost_1 : cX8_cost.data.toList.drop 24 = dktX8_cost_1 := dk_seg dksX8_cost_0 24 rfl rfl
theorem dX8_cost_0 : decode cX8_cost 0 = .ok (.aload_n 0, 1) := dk_42 (dk_at dksX8_cost_0 0 rfl rfl)
theorem dX8_cost_1 : decode cX8_cost 1 = .ok (.iload_n 1, 1) := dk_27 (dk_at dksX8_cost_0 1 rfl rfl)
theorem dX8_cost_2 : decode cX8_cost 2 = .ok (.invokestatic 260, 3) := dk_184 1 4 (dk_at dksX8_cost_0 2 rfl rfl)
theorem dX8_cost_5 : decode cX8_cost 5 = .ok (.ifCond .eq 10, 3) := dk_153 0 10 (dk_at dksX8_cost_0 5 rfl rfl)
theorem dX8_cost_8 : decode cX8_cost 8 = .ok (.iload_n 2, 1) := dk_28 (dk_at dksX8_cost_0 8 rfl rfl)
theorem dX8_cost_9 : decode cX8_cost 9 = .ok (.invokestatic 260, 3) := dk_184 1 4 (dk_at dksX8_cost_0 9 rfl rfl)
theorem dX8_cost_12 : decode cX8_cost 12 = .ok (.ifCond .ne 7, 3) := dk_154 0 7 (dk_at dksX8_cost_0 12 rfl rfl)
theorem dX8_cost_15 : decode cX8_cost 15 = .ok (.iconst 1, 1) := dk_4 (dk_at dksX8_cost_0 15 rfl rfl)
theorem dX8_cost_16 : decode cX8_cost 16 = .ok (.goto 4, 3) := dk_167 0 4 (dk_at dksX8_cost_0 16 rfl rfl)
theorem dX8_cost_19 : decode cX8_cost 19 = .ok (.iconst 0, 1) := dk_3 (dk_at dksX8_cost_0 19 rfl rfl)
theorem dX8_cost_20 : decode cX8_cost 20 = .ok (.putfield 56, 3) := dk_181 0 56 (dk_at dksX8_cost_0 20 rfl rfl)
theorem dX8_cost_23 : decode cX8_cost 23 = .ok (.aload_n 0, 1) := dk_42 (dk_at dksX8_cost_0 23 rfl rfl)
theorem dX8_cost_24 : decode cX8_cost 24 = .ok (.getfield 56, 3) := dk_180 0 56 (dk_at dksX8_cost_1 0 rfl rfl)
theorem dX8_cost_27 : decode cX8_cost 27 = .ok (.ifCond .le 7, 3) := dk_158 0 7 (dk_at dksX8_cost_1 3 rfl rfl)
theorem dX8_cost_30 : decode cX8_cost 30 = .ok (.iconst 0, 1) := dk_3 (dk_at dksX8_cost_1 6 rfl rfl)
theorem dX8_cost_31 : decode cX8_cost 31 = .ok (.goto 9, 3) := dk_167 0 9 (dk_at dksX8_cost_1 7 rfl rfl)
theorem dX8_cost_34 : decode cX8_cost 34 = .ok (.aload_n 0, 1) := dk_42 (dk_at dksX8_cost_1 10 rfl rfl)
theorem dX8_cost_35 : decode cX8_cost 35 = .ok (.iload_n 1, 1) := dk_27 (dk_at dksX8_cost_1 11 rfl rfl)
theorem dX8_cost_36 : decode cX8_cost 36 = .ok (.iload_n 2, 1) := dk_28 (dk_at dksX8_cost_1 12 rfl rfl)
theorem dX8_cost_37 : decode cX8_cost 37 = .ok (.invokevirtual 263, 3) := dk_182 1 7 (dk_at dksX8_cost_1 13 rfl rfl)
theorem dX8_cost_40 : decode cX8_cost 40 = .ok (.ireturn, 1) := dk_172 (dk_at dksX8_cost_1 16 rfl rfl)
abbrev cX8_isCode : ByteArray := prog_23_method_12_code
def yX8_isCode : MethodName := ⟨RX8, "isCode", "(I)Z"⟩
def dkwX8_isCode_0 : List UInt8 := [26, 3, 16, 31, 184, 0, 59, 172]
abbrev dktX8_isCode_0 : List UInt8 := dkwX8_isCode_0 ++ []
theorem dksX8_isCode_0 : cX8_isCode.data.toList.drop 0 = dktX8_isCode_0 := by decide +kernel
theorem dX8_isCode_0 : decode cX8_isCode 0 = .ok (.iload_n 0, 1) := dk_26 (dk_at dksX8_isCode_0 0 rfl rfl)
theorem dX8_isCode_1 : decode cX8_isCode 1 = .ok (.iconst 0, 1) := dk_3 (dk_at dksX8_isCode_0 1 rfl rfl)
theorem dX8_isCode_2 : decode cX8_isCode 2 = .ok (.bipush 31, 2) := dk_16 31 (dk_at dksX8_isCode_0 2 rfl rfl)
theorem dX8_isCode_4 : decode cX8_isCode 4 = .ok (.invokestatic 59, 3) := dk_184 0 59 (dk_at dksX8_isCode_0 4 rfl rfl)
theorem dX8_isCode_7 : decode cX8_isCode 7 = .ok (.ireturn, 1) := dk_172 (dk_at dksX8_isCode_0 7 rfl rfl)
abbrev cX8_costOf : ByteArray := prog_23_method_17_code
def yX8_costOf : MethodName := ⟨RX8, "costOf", "(II)I"⟩
def dkwX8_costOf_3 : List UInt8 := [16, 15, 46, 96, 172]
abbrev dktX8_costOf_3 : List UInt8 := dkwX8_costOf_3 ++ []
def dkwX8_costOf_2 : List UInt8 := [116, 167, 0, 4, 29, 104, 27, 4, 126, 28, 4, 126, 160, 0, 7, 3, 167, 0, 10, 42, 180, 0, 7]
abbrev dktX8_costOf_2 : List UInt8 := dkwX8_costOf_2 ++ dktX8_costOf_3
def dkwX8_costOf_1 : List UInt8 := [3, 172, 27, 184, 0, 70, 28, 184, 0, 70, 100, 62, 42, 180, 0, 7, 16, 14, 46, 29, 156, 0, 8, 29]
abbrev dktX8_costOf_1 : List UInt8 := dkwX8_costOf_1 ++ dktX8_costOf_2
def dkwX8_costOf_0 : List UInt8 := [27, 6, 122, 28, 6, 122, 159, 0, 11, 42, 180, 0, 7, 16, 13, 46, 172, 27, 6, 122, 5, 159, 0, 5]
abbrev dktX8_costOf_0 : List UInt8 := dkwX8_costOf_0 ++ dktX8_costOf_1
theorem dksX8_costOf_0 : cX8_costOf.data.toList.drop 0 = dktX8_costOf_0 := by decide +kernel
theorem dksX8_costOf_1 : cX8_costOf.data.toList.drop 24 = dktX8_costOf_1 := dk_seg dksX8_costOf_0 24 rfl rfl
theorem dksX8_costOf_2 : cX8_costOf.data.toList.drop 48 = dktX8_costOf_2 := dk_seg dksX8_costOf_1 24 rfl rfl
theorem dksX8_costOf_3 : cX8_costOf.data.toList.drop 71 = dktX8_costOf_3 := dk_seg dksX8_costOf_2 23 rfl rfl
theorem dX8_costOf_0 : decode cX8_costOf 0 = .ok (.iload_n 1, 1) := dk_27 (dk_at dksX8_costOf_0 0 rfl rfl)
theorem dX8_costOf_1 : decode cX8_costOf 1 = .ok (.iconst 3, 1) := dk_6 (dk_at dksX8_costOf_0 1 rfl rfl)
theorem dX8_costOf_2 : decode cX8_costOf 2 = .ok (.ishr, 1) := dk_122 (dk_at dksX8_costOf_0 2 rfl rfl)
theorem dX8_costOf_3 : decode cX8_costOf 3 = .ok (.iload_n 2, 1) := dk_28 (dk_at dksX8_costOf_0 3 rfl rfl)
theorem dX8_costOf_4 : decode cX8_costOf 4 = .ok (.iconst 3, 1) := dk_6 (dk_at dksX8_costOf_0 4 rfl rfl)
theorem dX8_costOf_5 : decode cX8_costOf 5 = .ok (.ishr, 1) := dk_122 (dk_at dksX8_costOf_0 5 rfl rfl)
theorem dX8_costOf_6 : decode cX8_costOf 6 = .ok (.if_icmp .eq 11, 3) := dk_159 0 11 (dk_at dksX8_costOf_0 6 rfl rfl)
theorem dX8_costOf_9 : decode cX8_costOf 9 = .ok (.aload_n 0, 1) := dk_42 (dk_at dksX8_costOf_0 9 rfl rfl)
theorem dX8_costOf_10 : decode cX8_costOf 10 = .ok (.getfield 7, 3) := dk_180 0 7 (dk_at dksX8_costOf_0 10 rfl rfl)
theorem dX8_costOf_13 : decode cX8_costOf 13 = .ok (.bipush 13, 2) := dk_16 13 (dk_at dksX8_costOf_0 13 rfl rfl)
theorem dX8_costOf_15 : decode cX8_costOf 15 = .ok (.iaload, 1) := dk_46 (dk_at dksX8_costOf_0 15 rfl rfl)
theorem dX8_costOf_16 : decode cX8_costOf 16 = .ok (.ireturn, 1) := dk_172 (dk_at dksX8_costOf_0 16 rfl rfl)
theorem dX8_costOf_17 : decode cX8_costOf 17 = .ok (.iload_n 1, 1) := dk_27 (dk_at dksX8_costOf_0 17 rfl rfl)
theorem dX8_costOf_18 : decode cX8_costOf 18 = .ok (.iconst 3, 1) := dk_6 (dk_at dksX8_costOf_0 18 rfl rfl)
theorem dX8_costOf_19 : decode cX8_costOf 19 = .ok (.ishr, 1) := dk_122 (dk_at dksX8_costOf_0 19 rfl rfl)
theorem dX8_costOf_20 : decode cX8_costOf 20 = .ok (.iconst 2, 1) := dk_5 (dk_at dksX8_costOf_0 20 rfl rfl)
theorem dX8_costOf_21 : decode cX8_costOf 21 = .ok (.if_icmp .eq 5, 3) := dk_159 0 5 (dk_at dksX8_costOf_0 21 rfl rfl)
theorem dX8_costOf_24 : decode cX8_costOf 24 = .ok (.iconst 0, 1) := dk_3 (dk_at dksX8_costOf_1 0 rfl rfl)
theorem dX8_costOf_25 : decode cX8_costOf 25 = .ok (.ireturn, 1) := dk_172 (dk_at dksX8_costOf_1 1 rfl rfl)
theorem dX8_costOf_26 : decode cX8_costOf 26 = .ok (.iload_n 1, 1) := dk_27 (dk_at dksX8_costOf_1 2 rfl rfl)
theorem dX8_costOf_27 : decode cX8_costOf 27 = .ok (.invokestatic 70, 3) := dk_184 0 70 (dk_at dksX8_costOf_1 3 rfl rfl)
theorem dX8_costOf_30 : decode cX8_costOf 30 = .ok (.iload_n 2, 1) := dk_28 (dk_at dksX8_costOf_1 6 rfl rfl)
theorem dX8_costOf_31 : decode cX8_costOf 31 = .ok (.invokestatic 70, 3) := dk_184 0 70 (dk_at dksX8_costOf_1 7 rfl rfl)
theorem dX8_costOf_34 : decode cX8_costOf 34 = .ok (.isub, 1) := dk_100 (dk_at dksX8_costOf_1 10 rfl rfl)
theorem dX8_costOf_35 : decode cX8_costOf 35 = .ok (.istore_n 3, 1) := dk_62 (dk_at dksX8_costOf_1 11 rfl rfl)
theorem dX8_costOf_36 : decode cX8_costOf 36 = .ok (.aload_n 0, 1) := dk_42 (dk_at dksX8_costOf_1 12 rfl rfl)
theorem dX8_costOf_37 : decode cX8_costOf 37 = .ok (.getfield 7, 3) := dk_180 0 7 (dk_at dksX8_costOf_1 13 rfl rfl)
theorem dX8_costOf_40 : decode cX8_costOf 40 = .ok (.bipush 14, 2) := dk_16 14 (dk_at dksX8_costOf_1 16 rfl rfl)
theorem dX8_costOf_42 : decode cX8_costOf 42 = .ok (.iaload, 1) := dk_46 (dk_at dksX8_costOf_1 18 rfl rfl)
theorem dX8_costOf_43 : decode cX8_costOf 43 = .ok (.iload_n 3, 1) := dk_29 (dk_at dksX8_costOf_1 19 rfl rfl)
theorem dX8_costOf_44 : decode cX8_costOf 44 = .ok (.ifCond .ge 8, 3) := dk_156 0 8 (dk_at dksX8_costOf_1 20 rfl rfl)
theorem dX8_costOf_47 : decode cX8_costOf 47 = .ok (.iload_n 3, 1) := dk_29 (dk_at dksX8_costOf_1 23 rfl rfl)
theorem dX8_costOf_48 : decode cX8_costOf 48 = .ok (.ineg, 1) := dk_116 (dk_at dksX8_costOf_2 0 rfl rfl)
theorem dX8_costOf_49 : decode cX8_costOf 49 = .ok (.goto 4, 3) := dk_167 0 4 (dk_at dksX8_costOf_2 1 rfl rfl)
theorem dX8_costOf_52 : decode cX8_costOf 52 = .ok (.iload_n 3, 1) := dk_29 (dk_at dksX8_costOf_2 4 rfl rfl)
theorem dX8_costOf_53 : decode cX8_costOf 53 = .ok (.imul, 1) := dk_104 (dk_at dksX8_costOf_2 5 rfl rfl)
theorem dX8_costOf_54 : decode cX8_costOf 54 = .ok (.iload_n 1, 1) := dk_27 (dk_at dksX8_costOf_2 6 rfl rfl)
theorem dX8_costOf_55 : decode cX8_costOf 55 = .ok (.iconst 1, 1) := dk_4 (dk_at dksX8_costOf_2 7 rfl rfl)
theorem dX8_costOf_56 : decode cX8_costOf 56 = .ok (.iand, 1) := dk_126 (dk_at dksX8_costOf_2 8 rfl rfl)
theorem dX8_costOf_57 : decode cX8_costOf 57 = .ok (.iload_n 2, 1) := dk_28 (dk_at dksX8_costOf_2 9 rfl rfl)
theorem dX8_costOf_58 : decode cX8_costOf 58 = .ok (.iconst 1, 1) := dk_4 (dk_at dksX8_costOf_2 10 rfl rfl)
theorem dX8_costOf_59 : decode cX8_costOf 59 = .ok (.iand, 1) := dk_126 (dk_at dksX8_costOf_2 11 rfl rfl)
theorem dX8_costOf_60 : decode cX8_costOf 60 = .ok (.if_icmp .ne 7, 3) := dk_160 0 7 (dk_at dksX8_costOf_2 12 rfl rfl)
theorem dX8_costOf_63 : decode cX8_costOf 63 = .ok (.iconst 0, 1) := dk_3 (dk_at dksX8_costOf_2 15 rfl rfl)
theorem dX8_costOf_64 : decode cX8_costOf 64 = .ok (.goto 10, 3) := dk_167 0 10 (dk_at dksX8_costOf_2 16 rfl rfl)
theorem dX8_costOf_67 : decode cX8_costOf 67 = .ok (.aload_n 0, 1) := dk_42 (dk_at dksX8_costOf_2 19 rfl rfl)
theorem dX8_costOf_68 : decode cX8_costOf 68 = .ok (.getfield 7, 3) := dk_180 0 7 (dk_at dksX8_costOf_2 20 rfl rfl)
theorem dX8_costOf_71 : decode cX8_costOf 71 = .ok (.bipush 15, 2) := dk_16 15 (dk_at dksX8_costOf_3 0 rfl rfl)
theorem dX8_costOf_73 : decode cX8_costOf 73 = .ok (.iaload, 1) := dk_46 (dk_at dksX8_costOf_3 2 rfl rfl)
theorem dX8_costOf_74 : decode cX8_costOf 74 = .ok (.iadd, 1) := dk_96 (dk_at dksX8_costOf_3 3 rfl rfl)
theorem dX8_costOf_75 : decode cX8_costOf 75 = .ok (.ireturn, 1) := dk_172 (dk_at dksX8_costOf_3 4 rfl rfl)
abbrev cX8_countOf : ByteArray := prog_23_method_13_code
def yX8_countOf : MethodName := ⟨RX8, "countOf", "(I)I"⟩
def dkwX8_countOf_0 : List UInt8 := [26, 4, 122, 6, 126, 4, 96, 172]
abbrev dktX8_countOf_0 : List UInt8 := dkwX8_countOf_0 ++ []
theorem dksX8_countOf_0 : cX8_countOf.data.toList.drop 0 = dktX8_countOf_0 := by decide +kernel
theorem dX8_countOf_0 : decode cX8_countOf 0 = .ok (.iload_n 0, 1) := dk_26 (dk_at dksX8_countOf_0 0 rfl rfl)
theorem dX8_countOf_1 : decode cX8_countOf 1 = .ok (.iconst 1, 1) := dk_4 (dk_at dksX8_countOf_0 1 rfl rfl)
theorem dX8_countOf_2 : decode cX8_countOf 2 = .ok (.ishr, 1) := dk_122 (dk_at dksX8_countOf_0 2 rfl rfl)
theorem dX8_countOf_3 : decode cX8_countOf 3 = .ok (.iconst 3, 1) := dk_6 (dk_at dksX8_countOf_0 3 rfl rfl)
theorem dX8_countOf_4 : decode cX8_countOf 4 = .ok (.iand, 1) := dk_126 (dk_at dksX8_countOf_0 4 rfl rfl)
theorem dX8_countOf_5 : decode cX8_countOf 5 = .ok (.iconst 1, 1) := dk_4 (dk_at dksX8_countOf_0 5 rfl rfl)
theorem dX8_countOf_6 : decode cX8_countOf 6 = .ok (.iadd, 1) := dk_96 (dk_at dksX8_countOf_0 6 rfl rfl)
theorem dX8_countOf_7 : decode cX8_countOf 7 = .ok (.ireturn, 1) := dk_172 (dk_at dksX8_countOf_0 7 rfl rfl)
abbrev cX8_habit : ByteArray := prog_23_method_52_code
def yX8_habit : MethodName := ⟨RX8, "habit", "(II)I"⟩
def dkwX8_habit_1 : List UInt8 := [42, 180, 0, 56, 158, 0, 7, 3, 167, 0, 9, 42, 27, 28, 182, 1, 13, 172]
abbrev dktX8_habit_1 : List UInt8 := dkwX8_habit_1 ++ []
def dkwX8_habit_0 : List UInt8 := [42, 42, 27, 182, 1, 10, 153, 0, 10, 28, 184, 1, 4, 154, 0, 7, 4, 167, 0, 4, 3, 181, 0, 56]
abbrev dktX8_habit_0 : List UInt8 := dkwX8_habit_0 ++ dktX8_habit_1
theorem dksX8_habit_0 : cX8_habit.data.toList.drop 0 = dktX8_habit_0 := by decide +kernel
theorem dksX8_habit_1 : cX8_habit.data.toList.drop 24 = dktX8_habit_1 := dk_seg dksX8_habit_0 24 rfl rfl
theorem dX8_habit_0 : decode cX8_habit 0 = .ok (.aload_n 0, 1) := dk_42 (dk_at dksX8_habit_0 0 rfl rfl)
theorem dX8_habit_1 : decode cX8_habit 1 = .ok (.aload_n 0, 1) := dk_42 (dk_at dksX8_habit_0 1 rfl rfl)
theorem dX8_habit_2 : decode cX8_habit 2 = .ok (.iload_n 1, 1) := dk_27 (dk_at dksX8_habit_0 2 rfl rfl)
theorem dX8_habit_3 : decode cX8_habit 3 = .ok (.invokevirtual 266, 3) := dk_182 1 10 (dk_at dksX8_habit_0 3 rfl rfl)
theorem dX8_habit_6 : decode cX8_habit 6 = .ok (.ifCond .eq 10, 3) := dk_153 0 10 (dk_at dksX8_habit_0 6 rfl rfl)
theorem dX8_habit_9 : decode cX8_habit 9 = .ok (.iload_n 2, 1) := dk_28 (dk_at dksX8_habit_0 9 rfl rfl)
theorem dX8_habit_10 : decode cX8_habit 10 = .ok (.invokestatic 260, 3) := dk_184 1 4 (dk_at dksX8_habit_0 10 rfl rfl)
theorem dX8_habit_13 : decode cX8_habit 13 = .ok (.ifCond .ne 7, 3) := dk_154 0 7 (dk_at dksX8_habit_0 13 rfl rfl)
theorem dX8_habit_16 : decode cX8_habit 16 = .ok (.iconst 1, 1) := dk_4 (dk_at dksX8_habit_0 16 rfl rfl)
theorem dX8_habit_17 : decode cX8_habit 17 = .ok (.goto 4, 3) := dk_167 0 4 (dk_at dksX8_habit_0 17 rfl rfl)
theorem dX8_habit_20 : decode cX8_habit 20 = .ok (.iconst 0, 1) := dk_3 (dk_at dksX8_habit_0 20 rfl rfl)
theorem dX8_habit_21 : decode cX8_habit 21 = .ok (.putfield 56, 3) := dk_181 0 56 (dk_at dksX8_habit_0 21 rfl rfl)
theorem dX8_habit_24 : decode cX8_habit 24 = .ok (.aload_n 0, 1) := dk_42 (dk_at dksX8_habit_1 0 rfl rfl)
theorem dX8_habit_25 : decode cX8_habit 25 = .ok (.getfield 56, 3) := dk_180 0 56 (dk_at dksX8_habit_1 1 rfl rfl)
theorem dX8_habit_28 : decode cX8_habit 28 = .ok (.ifCond .le 7, 3) := dk_158 0 7 (dk_at dksX8_habit_1 4 rfl rfl)
theorem dX8_habit_31 : decode cX8_habit 31 = .ok (.iconst 0, 1) := dk_3 (dk_at dksX8_habit_1 7 rfl rfl)
theorem dX8_habit_32 : decode cX8_habit 32 = .ok (.goto 9, 3) := dk_167 0 9 (dk_at dksX8_habit_1 8 rfl rfl)
theorem dX8_habit_35 : decode cX8_habit 35 = .ok (.aload_n 0, 1) := dk_42 (dk_at dksX8_habit_1 11 rfl rfl)
theorem dX8_habit_36 : decode cX8_habit 36 = .ok (.iload_n 1, 1) := dk_27 (dk_at dksX8_habit_1 12 rfl rfl)
theorem dX8_habit_37 : decode cX8_habit 37 = .ok (.iload_n 2, 1) := dk_28 (dk_at dksX8_habit_1 13 rfl rfl)
theorem dX8_habit_38 : decode cX8_habit 38 = .ok (.invokevirtual 269, 3) := dk_182 1 13 (dk_at dksX8_habit_1 14 rfl rfl)
theorem dX8_habit_41 : decode cX8_habit 41 = .ok (.ireturn, 1) := dk_172 (dk_at dksX8_habit_1 17 rfl rfl)
abbrev cX8_isLand : ByteArray := prog_23_method_11_code
def yX8_isLand : MethodName := ⟨RX8, "isLand", "(I)Z"⟩
def dkwX8_isLand_0 : List UInt8 := [27, 3, 42, 180, 0, 7, 6, 46, 4, 100, 184, 0, 59, 172]
abbrev dktX8_isLand_0 : List UInt8 := dkwX8_isLand_0 ++ []
theorem dksX8_isLand_0 : cX8_isLand.data.toList.drop 0 = dktX8_isLand_0 := by decide +kernel
theorem dX8_isLand_0 : decode cX8_isLand 0 = .ok (.iload_n 1, 1) := dk_27 (dk_at dksX8_isLand_0 0 rfl rfl)
theorem dX8_isLand_1 : decode cX8_isLand 1 = .ok (.iconst 0, 1) := dk_3 (dk_at dksX8_isLand_0 1 rfl rfl)
theorem dX8_isLand_2 : decode cX8_isLand 2 = .ok (.aload_n 0, 1) := dk_42 (dk_at dksX8_isLand_0 2 rfl rfl)
theorem dX8_isLand_3 : decode cX8_isLand 3 = .ok (.getfield 7, 3) := dk_180 0 7 (dk_at dksX8_isLand_0 3 rfl rfl)
theorem dX8_isLand_6 : decode cX8_isLand 6 = .ok (.iconst 3, 1) := dk_6 (dk_at dksX8_isLand_0 6 rfl rfl)
theorem dX8_isLand_7 : decode cX8_isLand 7 = .ok (.iaload, 1) := dk_46 (dk_at dksX8_isLand_0 7 rfl rfl)
theorem dX8_isLand_8 : decode cX8_isLand 8 = .ok (.iconst 1, 1) := dk_4 (dk_at dksX8_isLand_0 8 rfl rfl)
theorem dX8_isLand_9 : decode cX8_isLand 9 = .ok (.isub, 1) := dk_100 (dk_at dksX8_isLand_0 9 rfl rfl)
theorem dX8_isLand_10 : decode cX8_isLand 10 = .ok (.invokestatic 59, 3) := dk_184 0 59 (dk_at dksX8_isLand_0 10 rfl rfl)
theorem dX8_isLand_13 : decode cX8_isLand 13 = .ok (.ireturn, 1) := dk_172 (dk_at dksX8_isLand_0 13 rfl rfl)
abbrev cX8_weight : ByteArray := prog_23_method_51_code
def yX8_weight : MethodName := ⟨RX8, "weight", "(II)I"⟩
def dkwX8_weight_3 : List UInt8 := [167, 0, 4, 3, 96, 62, 132, 4, 1, 167, 255, 182, 29, 172]
abbrev dktX8_weight_3 : List UInt8 := dkwX8_weight_3 ++ []
def dkwX8_weight_2 : List UInt8 := [96, 4, 96, 46, 28, 160, 0, 20, 42, 180, 0, 7, 16, 20, 6, 21, 4, 104, 96, 5, 96, 46]
abbrev dktX8_weight_2 : List UInt8 := dkwX8_weight_2 ++ dktX8_weight_3
def dkwX8_weight_1 : List UInt8 := [21, 4, 104, 96, 46, 27, 160, 0, 43, 28, 2, 159, 0, 21, 42, 180, 0, 7, 16, 20, 6, 21, 4, 104]
abbrev dktX8_weight_1 : List UInt8 := dkwX8_weight_1 ++ dktX8_weight_2
def dkwX8_weight_0 : List UInt8 := [3, 62, 3, 54, 4, 21, 4, 42, 180, 0, 7, 7, 46, 162, 0, 69, 29, 42, 180, 0, 7, 16, 20, 6]
abbrev dktX8_weight_0 : List UInt8 := dkwX8_weight_0 ++ dktX8_weight_1
theorem dksX8_weight_0 : cX8_weight.data.toList.drop 0 = dktX8_weight_0 := by decide +kernel
theorem dksX8_weight_1 : cX8_weight.data.toList.drop 24 = dktX8_weight_1 := dk_seg dksX8_weight_0 24 rfl rfl
theorem dksX8_weight_2 : cX8_weight.data.toList.drop 48 = dktX8_weight_2 := dk_seg dksX8_weight_1 24 rfl rfl
theorem dksX8_weight_3 : cX8_weight.data.toList.drop 70 = dktX8_weight_3 := dk_seg dksX8_weight_2 22 rfl rfl
theorem dX8_weight_0 : decode cX8_weight 0 = .ok (.iconst 0, 1) := dk_3 (dk_at dksX8_weight_0 0 rfl rfl)
theorem dX8_weight_1 : decode cX8_weight 1 = .ok (.istore_n 3, 1) := dk_62 (dk_at dksX8_weight_0 1 rfl rfl)
theorem dX8_weight_2 : decode cX8_weight 2 = .ok (.iconst 0, 1) := dk_3 (dk_at dksX8_weight_0 2 rfl rfl)
theorem dX8_weight_3 : decode cX8_weight 3 = .ok (.istore 4, 2) := dk_54 4 (dk_at dksX8_weight_0 3 rfl rfl)
theorem dX8_weight_5 : decode cX8_weight 5 = .ok (.iload 4, 2) := dk_21 4 (dk_at dksX8_weight_0 5 rfl rfl)
theorem dX8_weight_7 : decode cX8_weight 7 = .ok (.aload_n 0, 1) := dk_42 (dk_at dksX8_weight_0 7 rfl rfl)
theorem dX8_weight_8 : decode cX8_weight 8 = .ok (.getfield 7, 3) := dk_180 0 7 (dk_at dksX8_weight_0 8 rfl rfl)
theorem dX8_weight_11 : decode cX8_weight 11 = .ok (.iconst 4, 1) := dk_7 (dk_at dksX8_weight_0 11 rfl rfl)
theorem dX8_weight_12 : decode cX8_weight 12 = .ok (.iaload, 1) := dk_46 (dk_at dksX8_weight_0 12 rfl rfl)
theorem dX8_weight_13 : decode cX8_weight 13 = .ok (.if_icmp .ge 69, 3) := dk_162 0 69 (dk_at dksX8_weight_0 13 rfl rfl)
theorem dX8_weight_16 : decode cX8_weight 16 = .ok (.iload_n 3, 1) := dk_29 (dk_at dksX8_weight_0 16 rfl rfl)
theorem dX8_weight_17 : decode cX8_weight 17 = .ok (.aload_n 0, 1) := dk_42 (dk_at dksX8_weight_0 17 rfl rfl)
theorem dX8_weight_18 : decode cX8_weight 18 = .ok (.getfield 7, 3) := dk_180 0 7 (dk_at dksX8_weight_0 18 rfl rfl)
theorem dX8_weight_21 : decode cX8_weight 21 = .ok (.bipush 20, 2) := dk_16 20 (dk_at dksX8_weight_0 21 rfl rfl)
theorem dX8_weight_23 : decode cX8_weight 23 = .ok (.iconst 3, 1) := dk_6 (dk_at dksX8_weight_0 23 rfl rfl)
theorem dX8_weight_24 : decode cX8_weight 24 = .ok (.iload 4, 2) := dk_21 4 (dk_at dksX8_weight_1 0 rfl rfl)
theorem dX8_weight_26 : decode cX8_weight 26 = .ok (.imul, 1) := dk_104 (dk_at dksX8_weight_1 2 rfl rfl)
theorem dX8_weight_27 : decode cX8_weight 27 = .ok (.iadd, 1) := dk_96 (dk_at dksX8_weight_1 3 rfl rfl)
theorem dX8_weight_28 : decode cX8_weight 28 = .ok (.iaload, 1) := dk_46 (dk_at dksX8_weight_1 4 rfl rfl)
theorem dX8_weight_29 : decode cX8_weight 29 = .ok (.iload_n 1, 1) := dk_27 (dk_at dksX8_weight_1 5 rfl rfl)
theorem dX8_weight_30 : decode cX8_weight 30 = .ok (.if_icmp .ne 43, 3) := dk_160 0 43 (dk_at dksX8_weight_1 6 rfl rfl)
theorem dX8_weight_33 : decode cX8_weight 33 = .ok (.iload_n 2, 1) := dk_28 (dk_at dksX8_weight_1 9 rfl rfl)
theorem dX8_weight_34 : decode cX8_weight 34 = .ok (.iconst (-1), 1) := dk_2 (dk_at dksX8_weight_1 10 rfl rfl)
theorem dX8_weight_35 : decode cX8_weight 35 = .ok (.if_icmp .eq 21, 3) := dk_159 0 21 (dk_at dksX8_weight_1 11 rfl rfl)
theorem dX8_weight_38 : decode cX8_weight 38 = .ok (.aload_n 0, 1) := dk_42 (dk_at dksX8_weight_1 14 rfl rfl)
theorem dX8_weight_39 : decode cX8_weight 39 = .ok (.getfield 7, 3) := dk_180 0 7 (dk_at dksX8_weight_1 15 rfl rfl)
theorem dX8_weight_42 : decode cX8_weight 42 = .ok (.bipush 20, 2) := dk_16 20 (dk_at dksX8_weight_1 18 rfl rfl)
theorem dX8_weight_44 : decode cX8_weight 44 = .ok (.iconst 3, 1) := dk_6 (dk_at dksX8_weight_1 20 rfl rfl)
theorem dX8_weight_45 : decode cX8_weight 45 = .ok (.iload 4, 2) := dk_21 4 (dk_at dksX8_weight_1 21 rfl rfl)
theorem dX8_weight_47 : decode cX8_weight 47 = .ok (.imul, 1) := dk_104 (dk_at dksX8_weight_1 23 rfl rfl)
theorem dX8_weight_48 : decode cX8_weight 48 = .ok (.iadd, 1) := dk_96 (dk_at dksX8_weight_2 0 rfl rfl)
theorem dX8_weight_49 : decode cX8_weight 49 = .ok (.iconst 1, 1) := dk_4 (dk_at dksX8_weight_2 1 rfl rfl)
theorem dX8_weight_50 : decode cX8_weight 50 = .ok (.iadd, 1) := dk_96 (dk_at dksX8_weight_2 2 rfl rfl)
theorem dX8_weight_51 : decode cX8_weight 51 = .ok (.iaload, 1) := dk_46 (dk_at dksX8_weight_2 3 rfl rfl)
theorem dX8_weight_52 : decode cX8_weight 52 = .ok (.iload_n 2, 1) := dk_28 (dk_at dksX8_weight_2 4 rfl rfl)
theorem dX8_weight_53 : decode cX8_weight 53 = .ok (.if_icmp .ne 20, 3) := dk_160 0 20 (dk_at dksX8_weight_2 5 rfl rfl)
theorem dX8_weight_56 : decode cX8_weight 56 = .ok (.aload_n 0, 1) := dk_42 (dk_at dksX8_weight_2 8 rfl rfl)
theorem dX8_weight_57 : decode cX8_weight 57 = .ok (.getfield 7, 3) := dk_180 0 7 (dk_at dksX8_weight_2 9 rfl rfl)
theorem dX8_weight_60 : decode cX8_weight 60 = .ok (.bipush 20, 2) := dk_16 20 (dk_at dksX8_weight_2 12 rfl rfl)
theorem dX8_weight_62 : decode cX8_weight 62 = .ok (.iconst 3, 1) := dk_6 (dk_at dksX8_weight_2 14 rfl rfl)
theorem dX8_weight_63 : decode cX8_weight 63 = .ok (.iload 4, 2) := dk_21 4 (dk_at dksX8_weight_2 15 rfl rfl)
theorem dX8_weight_65 : decode cX8_weight 65 = .ok (.imul, 1) := dk_104 (dk_at dksX8_weight_2 17 rfl rfl)
theorem dX8_weight_66 : decode cX8_weight 66 = .ok (.iadd, 1) := dk_96 (dk_at dksX8_weight_2 18 rfl rfl)
theorem dX8_weight_67 : decode cX8_weight 67 = .ok (.iconst 2, 1) := dk_5 (dk_at dksX8_weight_2 19 rfl rfl)
theorem dX8_weight_68 : decode cX8_weight 68 = .ok (.iadd, 1) := dk_96 (dk_at dksX8_weight_2 20 rfl rfl)
theorem dX8_weight_69 : decode cX8_weight 69 = .ok (.iaload, 1) := dk_46 (dk_at dksX8_weight_2 21 rfl rfl)
theorem dX8_weight_70 : decode cX8_weight 70 = .ok (.goto 4, 3) := dk_167 0 4 (dk_at dksX8_weight_3 0 rfl rfl)
theorem dX8_weight_73 : decode cX8_weight 73 = .ok (.iconst 0, 1) := dk_3 (dk_at dksX8_weight_3 3 rfl rfl)
theorem dX8_weight_74 : decode cX8_weight 74 = .ok (.iadd, 1) := dk_96 (dk_at dksX8_weight_3 4 rfl rfl)
theorem dX8_weight_75 : decode cX8_weight 75 = .ok (.istore_n 3, 1) := dk_62 (dk_at dksX8_weight_3 5 rfl rfl)
theorem dX8_weight_76 : decode cX8_weight 76 = .ok (.iinc 4 1, 3) := dk_132 4 1 (dk_at dksX8_weight_3 6 rfl rfl)
theorem dX8_weight_79 : decode cX8_weight 79 = .ok (.goto (-74), 3) := dk_167 255 182 (dk_at dksX8_weight_3 9 rfl rfl)
theorem dX8_weight_82 : decode cX8_weight 82 = .ok (.iload_n 3, 1) := dk_29 (dk_at dksX8_weight_3 12 rfl rfl)
theorem dX8_weight_83 : decode cX8_weight 83 = .ok (.ireturn, 1) := dk_172 (dk_at dksX8_weight_3 13 rfl rfl)
abbrev cX8_person : ByteArray := prog_23_method_54_code
def yX8_person : MethodName := ⟨RX8, "person", "(II)I"⟩
def dkwX8_person_3 : List UInt8 := [182, 1, 1, 172]
abbrev dktX8_person_3 : List UInt8 := dkwX8_person_3 ++ []
def dkwX8_person_2 : List UInt8 := [182, 1, 1, 167, 0, 22, 28, 8, 160, 0, 11, 42, 27, 182, 1, 18, 167, 0, 9, 42, 27, 8]
abbrev dktX8_person_2 : List UInt8 := dkwX8_person_2 ++ dktX8_person_3
def dkwX8_person_1 : List UInt8 := [167, 0, 4, 3, 181, 0, 56, 42, 180, 0, 56, 158, 0, 5, 3, 172, 28, 8, 162, 0, 12, 42, 27, 28]
abbrev dktX8_person_1 : List UInt8 := dkwX8_person_1 ++ dktX8_person_2
def dkwX8_person_0 : List UInt8 := [42, 42, 27, 182, 1, 15, 154, 0, 7, 4, 167, 0, 18, 28, 3, 16, 6, 184, 0, 59, 154, 0, 7, 5]
abbrev dktX8_person_0 : List UInt8 := dkwX8_person_0 ++ dktX8_person_1
theorem dksX8_person_0 : cX8_person.data.toList.drop 0 = dktX8_person_0 := by decide +kernel
theorem dksX8_person_1 : cX8_person.data.toList.drop 24 = dktX8_person_1 := dk_seg dksX8_person_0 24 rfl rfl
theorem dksX8_person_2 : cX8_person.data.toList.drop 48 = dktX8_person_2 := dk_seg dksX8_person_1 24 rfl rfl
theorem dksX8_person_3 : cX8_person.data.toList.drop 70 = dktX8_person_3 := dk_seg dksX8_person_2 22 rfl rfl
theorem dX8_person_0 : decode cX8_person 0 = .ok (.aload_n 0, 1) := dk_42 (dk_at dksX8_person_0 0 rfl rfl)
theorem dX8_person_1 : decode cX8_person 1 = .ok (.aload_n 0, 1) := dk_42 (dk_at dksX8_person_0 1 rfl rfl)
theorem dX8_person_2 : decode cX8_person 2 = .ok (.iload_n 1, 1) := dk_27 (dk_at dksX8_person_0 2 rfl rfl)
theorem dX8_person_3 : decode cX8_person 3 = .ok (.invokevirtual 271, 3) := dk_182 1 15 (dk_at dksX8_person_0 3 rfl rfl)
theorem dX8_person_6 : decode cX8_person 6 = .ok (.ifCond .ne 7, 3) := dk_154 0 7 (dk_at dksX8_person_0 6 rfl rfl)
theorem dX8_person_9 : decode cX8_person 9 = .ok (.iconst 1, 1) := dk_4 (dk_at dksX8_person_0 9 rfl rfl)
theorem dX8_person_10 : decode cX8_person 10 = .ok (.goto 18, 3) := dk_167 0 18 (dk_at dksX8_person_0 10 rfl rfl)
theorem dX8_person_13 : decode cX8_person 13 = .ok (.iload_n 2, 1) := dk_28 (dk_at dksX8_person_0 13 rfl rfl)
theorem dX8_person_14 : decode cX8_person 14 = .ok (.iconst 0, 1) := dk_3 (dk_at dksX8_person_0 14 rfl rfl)
theorem dX8_person_15 : decode cX8_person 15 = .ok (.bipush 6, 2) := dk_16 6 (dk_at dksX8_person_0 15 rfl rfl)
theorem dX8_person_17 : decode cX8_person 17 = .ok (.invokestatic 59, 3) := dk_184 0 59 (dk_at dksX8_person_0 17 rfl rfl)
theorem dX8_person_20 : decode cX8_person 20 = .ok (.ifCond .ne 7, 3) := dk_154 0 7 (dk_at dksX8_person_0 20 rfl rfl)
theorem dX8_person_23 : decode cX8_person 23 = .ok (.iconst 2, 1) := dk_5 (dk_at dksX8_person_0 23 rfl rfl)
theorem dX8_person_24 : decode cX8_person 24 = .ok (.goto 4, 3) := dk_167 0 4 (dk_at dksX8_person_1 0 rfl rfl)
theorem dX8_person_27 : decode cX8_person 27 = .ok (.iconst 0, 1) := dk_3 (dk_at dksX8_person_1 3 rfl rfl)
theorem dX8_person_28 : decode cX8_person 28 = .ok (.putfield 56, 3) := dk_181 0 56 (dk_at dksX8_person_1 4 rfl rfl)
theorem dX8_person_31 : decode cX8_person 31 = .ok (.aload_n 0, 1) := dk_42 (dk_at dksX8_person_1 7 rfl rfl)
theorem dX8_person_32 : decode cX8_person 32 = .ok (.getfield 56, 3) := dk_180 0 56 (dk_at dksX8_person_1 8 rfl rfl)
theorem dX8_person_35 : decode cX8_person 35 = .ok (.ifCond .le 5, 3) := dk_158 0 5 (dk_at dksX8_person_1 11 rfl rfl)
theorem dX8_person_38 : decode cX8_person 38 = .ok (.iconst 0, 1) := dk_3 (dk_at dksX8_person_1 14 rfl rfl)
theorem dX8_person_39 : decode cX8_person 39 = .ok (.ireturn, 1) := dk_172 (dk_at dksX8_person_1 15 rfl rfl)
theorem dX8_person_40 : decode cX8_person 40 = .ok (.iload_n 2, 1) := dk_28 (dk_at dksX8_person_1 16 rfl rfl)
theorem dX8_person_41 : decode cX8_person 41 = .ok (.iconst 5, 1) := dk_8 (dk_at dksX8_person_1 17 rfl rfl)
theorem dX8_person_42 : decode cX8_person 42 = .ok (.if_icmp .ge 12, 3) := dk_162 0 12 (dk_at dksX8_person_1 18 rfl rfl)
theorem dX8_person_45 : decode cX8_person 45 = .ok (.aload_n 0, 1) := dk_42 (dk_at dksX8_person_1 21 rfl rfl)
theorem dX8_person_46 : decode cX8_person 46 = .ok (.iload_n 1, 1) := dk_27 (dk_at dksX8_person_1 22 rfl rfl)
theorem dX8_person_47 : decode cX8_person 47 = .ok (.iload_n 2, 1) := dk_28 (dk_at dksX8_person_1 23 rfl rfl)
theorem dX8_person_48 : decode cX8_person 48 = .ok (.invokevirtual 257, 3) := dk_182 1 1 (dk_at dksX8_person_2 0 rfl rfl)
theorem dX8_person_51 : decode cX8_person 51 = .ok (.goto 22, 3) := dk_167 0 22 (dk_at dksX8_person_2 3 rfl rfl)
theorem dX8_person_54 : decode cX8_person 54 = .ok (.iload_n 2, 1) := dk_28 (dk_at dksX8_person_2 6 rfl rfl)
theorem dX8_person_55 : decode cX8_person 55 = .ok (.iconst 5, 1) := dk_8 (dk_at dksX8_person_2 7 rfl rfl)
theorem dX8_person_56 : decode cX8_person 56 = .ok (.if_icmp .ne 11, 3) := dk_160 0 11 (dk_at dksX8_person_2 8 rfl rfl)
theorem dX8_person_59 : decode cX8_person 59 = .ok (.aload_n 0, 1) := dk_42 (dk_at dksX8_person_2 11 rfl rfl)
theorem dX8_person_60 : decode cX8_person 60 = .ok (.iload_n 1, 1) := dk_27 (dk_at dksX8_person_2 12 rfl rfl)
theorem dX8_person_61 : decode cX8_person 61 = .ok (.invokevirtual 274, 3) := dk_182 1 18 (dk_at dksX8_person_2 13 rfl rfl)
theorem dX8_person_64 : decode cX8_person 64 = .ok (.goto 9, 3) := dk_167 0 9 (dk_at dksX8_person_2 16 rfl rfl)
theorem dX8_person_67 : decode cX8_person 67 = .ok (.aload_n 0, 1) := dk_42 (dk_at dksX8_person_2 19 rfl rfl)
theorem dX8_person_68 : decode cX8_person 68 = .ok (.iload_n 1, 1) := dk_27 (dk_at dksX8_person_2 20 rfl rfl)
theorem dX8_person_69 : decode cX8_person 69 = .ok (.iconst 5, 1) := dk_8 (dk_at dksX8_person_2 21 rfl rfl)
theorem dX8_person_70 : decode cX8_person 70 = .ok (.invokevirtual 257, 3) := dk_182 1 1 (dk_at dksX8_person_3 0 rfl rfl)
theorem dX8_person_73 : decode cX8_person 73 = .ok (.ireturn, 1) := dk_172 (dk_at dksX8_person_3 3 rfl rfl)
abbrev cX8_isPerson : ByteArray := prog_23_method_10_code
def yX8_isPerson : MethodName := ⟨RX8, "isPerson", "(I)Z"⟩
def dkwX8_isPerson_0 : List UInt8 := [27, 3, 42, 180, 0, 7, 8, 46, 4, 100, 184, 0, 59, 172]
abbrev dktX8_isPerson_0 : List UInt8 := dkwX8_isPerson_0 ++ []
theorem dksX8_isPerson_0 : cX8_isPerson.data.toList.drop 0 = dktX8_isPerson_0 := by decide +kernel
theorem dX8_isPerson_0 : decode cX8_isPerson 0 = .ok (.iload_n 1, 1) := dk_27 (dk_at dksX8_isPerson_0 0 rfl rfl)
theorem dX8_isPerson_1 : decode cX8_isPerson 1 = .ok (.iconst 0, 1) := dk_3 (dk_at dksX8_isPerson_0 1 rfl rfl)
theorem dX8_isPerson_2 : decode cX8_isPerson 2 = .ok (.aload_n 0, 1) := dk_42 (dk_at dksX8_isPerson_0 2 rfl rfl)
theorem dX8_isPerson_3 : decode cX8_isPerson 3 = .ok (.getfield 7, 3) := dk_180 0 7 (dk_at dksX8_isPerson_0 3 rfl rfl)
theorem dX8_isPerson_6 : decode cX8_isPerson 6 = .ok (.iconst 5, 1) := dk_8 (dk_at dksX8_isPerson_0 6 rfl rfl)
theorem dX8_isPerson_7 : decode cX8_isPerson 7 = .ok (.iaload, 1) := dk_46 (dk_at dksX8_isPerson_0 7 rfl rfl)
theorem dX8_isPerson_8 : decode cX8_isPerson 8 = .ok (.iconst 1, 1) := dk_4 (dk_at dksX8_isPerson_0 8 rfl rfl)
theorem dX8_isPerson_9 : decode cX8_isPerson 9 = .ok (.isub, 1) := dk_100 (dk_at dksX8_isPerson_0 9 rfl rfl)
theorem dX8_isPerson_10 : decode cX8_isPerson 10 = .ok (.invokestatic 59, 3) := dk_184 0 59 (dk_at dksX8_isPerson_0 10 rfl rfl)
theorem dX8_isPerson_13 : decode cX8_isPerson 13 = .ok (.ireturn, 1) := dk_172 (dk_at dksX8_isPerson_0 13 rfl rfl)
abbrev cX8_of : ByteArray := prog_23_method_8_code
def yX8_of : MethodName := ⟨RX8, "of", "(II)I"⟩
def dkwX8_of_0 : List UInt8 := [42, 180, 0, 7, 16, 92, 16, 8, 27, 104, 96, 28, 96, 46, 172]
abbrev dktX8_of_0 : List UInt8 := dkwX8_of_0 ++ []
theorem dksX8_of_0 : cX8_of.data.toList.drop 0 = dktX8_of_0 := by decide +kernel
theorem dX8_of_0 : decode cX8_of 0 = .ok (.aload_n 0, 1) := dk_42 (dk_at dksX8_of_0 0 rfl rfl)
theorem dX8_of_1 : decode cX8_of 1 = .ok (.getfield 7, 3) := dk_180 0 7 (dk_at dksX8_of_0 1 rfl rfl)
theorem dX8_of_4 : decode cX8_of 4 = .ok (.bipush 92, 2) := dk_16 92 (dk_at dksX8_of_0 4 rfl rfl)
theorem dX8_of_6 : decode cX8_of 6 = .ok (.bipush 8, 2) := dk_16 8 (dk_at dksX8_of_0 6 rfl rfl)
theorem dX8_of_8 : decode cX8_of 8 = .ok (.iload_n 1, 1) := dk_27 (dk_at dksX8_of_0 8 rfl rfl)
theorem dX8_of_9 : decode cX8_of 9 = .ok (.imul, 1) := dk_104 (dk_at dksX8_of_0 9 rfl rfl)
theorem dX8_of_10 : decode cX8_of 10 = .ok (.iadd, 1) := dk_96 (dk_at dksX8_of_0 10 rfl rfl)
theorem dX8_of_11 : decode cX8_of 11 = .ok (.iload_n 2, 1) := dk_28 (dk_at dksX8_of_0 11 rfl rfl)
theorem dX8_of_12 : decode cX8_of 12 = .ok (.iadd, 1) := dk_96 (dk_at dksX8_of_0 12 rfl rfl)
theorem dX8_of_13 : decode cX8_of 13 = .ok (.iaload, 1) := dk_46 (dk_at dksX8_of_0 13 rfl rfl)
theorem dX8_of_14 : decode cX8_of 14 = .ok (.ireturn, 1) := dk_172 (dk_at dksX8_of_0 14 rfl rfl)
abbrev cX8_tiedTo : ByteArray := prog_23_method_53_code
def yX8_tiedTo : MethodName := ⟨RX8, "tiedTo", "(I)I"⟩
def dkwX8_tiedTo_1 : List UInt8 := [4, 29, 120, 167, 0, 4, 3, 128, 61, 132, 3, 1, 167, 255, 224, 28, 172]
abbrev dktX8_tiedTo_1 : List UInt8 := dkwX8_tiedTo_1 ++ []
def dkwX8_tiedTo_0 : List UInt8 := [3, 61, 3, 62, 29, 42, 180, 0, 7, 8, 46, 162, 0, 28, 28, 42, 27, 29, 182, 0, 148, 153, 0, 9]
abbrev dktX8_tiedTo_0 : List UInt8 := dkwX8_tiedTo_0 ++ dktX8_tiedTo_1
theorem dksX8_tiedTo_0 : cX8_tiedTo.data.toList.drop 0 = dktX8_tiedTo_0 := by decide +kernel
theorem dksX8_tiedTo_1 : cX8_tiedTo.data.toList.drop 24 = dktX8_tiedTo_1 := dk_seg dksX8_tiedTo_0 24 rfl rfl
theorem dX8_tiedTo_0 : decode cX8_tiedTo 0 = .ok (.iconst 0, 1) := dk_3 (dk_at dksX8_tiedTo_0 0 rfl rfl)
theorem dX8_tiedTo_1 : decode cX8_tiedTo 1 = .ok (.istore_n 2, 1) := dk_61 (dk_at dksX8_tiedTo_0 1 rfl rfl)
theorem dX8_tiedTo_2 : decode cX8_tiedTo 2 = .ok (.iconst 0, 1) := dk_3 (dk_at dksX8_tiedTo_0 2 rfl rfl)
theorem dX8_tiedTo_3 : decode cX8_tiedTo 3 = .ok (.istore_n 3, 1) := dk_62 (dk_at dksX8_tiedTo_0 3 rfl rfl)
theorem dX8_tiedTo_4 : decode cX8_tiedTo 4 = .ok (.iload_n 3, 1) := dk_29 (dk_at dksX8_tiedTo_0 4 rfl rfl)
theorem dX8_tiedTo_5 : decode cX8_tiedTo 5 = .ok (.aload_n 0, 1) := dk_42 (dk_at dksX8_tiedTo_0 5 rfl rfl)
theorem dX8_tiedTo_6 : decode cX8_tiedTo 6 = .ok (.getfield 7, 3) := dk_180 0 7 (dk_at dksX8_tiedTo_0 6 rfl rfl)
theorem dX8_tiedTo_9 : decode cX8_tiedTo 9 = .ok (.iconst 5, 1) := dk_8 (dk_at dksX8_tiedTo_0 9 rfl rfl)
theorem dX8_tiedTo_10 : decode cX8_tiedTo 10 = .ok (.iaload, 1) := dk_46 (dk_at dksX8_tiedTo_0 10 rfl rfl)
theorem dX8_tiedTo_11 : decode cX8_tiedTo 11 = .ok (.if_icmp .ge 28, 3) := dk_162 0 28 (dk_at dksX8_tiedTo_0 11 rfl rfl)
theorem dX8_tiedTo_14 : decode cX8_tiedTo 14 = .ok (.iload_n 2, 1) := dk_28 (dk_at dksX8_tiedTo_0 14 rfl rfl)
theorem dX8_tiedTo_15 : decode cX8_tiedTo 15 = .ok (.aload_n 0, 1) := dk_42 (dk_at dksX8_tiedTo_0 15 rfl rfl)
theorem dX8_tiedTo_16 : decode cX8_tiedTo 16 = .ok (.iload_n 1, 1) := dk_27 (dk_at dksX8_tiedTo_0 16 rfl rfl)
theorem dX8_tiedTo_17 : decode cX8_tiedTo 17 = .ok (.iload_n 3, 1) := dk_29 (dk_at dksX8_tiedTo_0 17 rfl rfl)
theorem dX8_tiedTo_18 : decode cX8_tiedTo 18 = .ok (.invokevirtual 148, 3) := dk_182 0 148 (dk_at dksX8_tiedTo_0 18 rfl rfl)
theorem dX8_tiedTo_21 : decode cX8_tiedTo 21 = .ok (.ifCond .eq 9, 3) := dk_153 0 9 (dk_at dksX8_tiedTo_0 21 rfl rfl)
theorem dX8_tiedTo_24 : decode cX8_tiedTo 24 = .ok (.iconst 1, 1) := dk_4 (dk_at dksX8_tiedTo_1 0 rfl rfl)
theorem dX8_tiedTo_25 : decode cX8_tiedTo 25 = .ok (.iload_n 3, 1) := dk_29 (dk_at dksX8_tiedTo_1 1 rfl rfl)
theorem dX8_tiedTo_26 : decode cX8_tiedTo 26 = .ok (.ishl, 1) := dk_120 (dk_at dksX8_tiedTo_1 2 rfl rfl)
theorem dX8_tiedTo_27 : decode cX8_tiedTo 27 = .ok (.goto 4, 3) := dk_167 0 4 (dk_at dksX8_tiedTo_1 3 rfl rfl)
theorem dX8_tiedTo_30 : decode cX8_tiedTo 30 = .ok (.iconst 0, 1) := dk_3 (dk_at dksX8_tiedTo_1 6 rfl rfl)
theorem dX8_tiedTo_31 : decode cX8_tiedTo 31 = .ok (.ior, 1) := dk_128 (dk_at dksX8_tiedTo_1 7 rfl rfl)
theorem dX8_tiedTo_32 : decode cX8_tiedTo 32 = .ok (.istore_n 2, 1) := dk_61 (dk_at dksX8_tiedTo_1 8 rfl rfl)
theorem dX8_tiedTo_33 : decode cX8_tiedTo 33 = .ok (.iinc 3 1, 3) := dk_132 3 1 (dk_at dksX8_tiedTo_1 9 rfl rfl)
theorem dX8_tiedTo_36 : decode cX8_tiedTo 36 = .ok (.goto (-32), 3) := dk_167 255 224 (dk_at dksX8_tiedTo_1 12 rfl rfl)
theorem dX8_tiedTo_39 : decode cX8_tiedTo 39 = .ok (.iload_n 2, 1) := dk_28 (dk_at dksX8_tiedTo_1 15 rfl rfl)
theorem dX8_tiedTo_40 : decode cX8_tiedTo 40 = .ok (.ireturn, 1) := dk_172 (dk_at dksX8_tiedTo_1 16 rfl rfl)
abbrev cX8_saw : ByteArray := prog_23_method_56_code
def yX8_saw : MethodName := ⟨RX8, "saw", "(IIZ)I"⟩
def dkwX8_saw_1 : List UInt8 := [153, 0, 9, 17, 0, 172, 167, 0, 6, 17, 1, 16, 16, 10, 27, 104, 96, 28, 96, 46, 172]
abbrev dktX8_saw_1 : List UInt8 := dkwX8_saw_1 ++ []
def dkwX8_saw_0 : List UInt8 := [42, 42, 27, 28, 182, 1, 21, 181, 0, 56, 42, 180, 0, 56, 158, 0, 5, 3, 172, 42, 180, 0, 7, 29]
abbrev dktX8_saw_0 : List UInt8 := dkwX8_saw_0 ++ dktX8_saw_1
theorem dksX8_saw_0 : cX8_saw.data.toList.drop 0 = dktX8_saw_0 := by decide +kernel
theorem dksX8_saw_1 : cX8_saw.data.toList.drop 24 = dktX8_saw_1 := dk_seg dksX8_saw_0 24 rfl rfl
theorem dX8_saw_0 : decode cX8_saw 0 = .ok (.aload_n 0, 1) := dk_42 (dk_at dksX8_saw_0 0 rfl rfl)
theorem dX8_saw_1 : decode cX8_saw 1 = .ok (.aload_n 0, 1) := dk_42 (dk_at dksX8_saw_0 1 rfl rfl)
theorem dX8_saw_2 : decode cX8_saw 2 = .ok (.iload_n 1, 1) := dk_27 (dk_at dksX8_saw_0 2 rfl rfl)
theorem dX8_saw_3 : decode cX8_saw 3 = .ok (.iload_n 2, 1) := dk_28 (dk_at dksX8_saw_0 3 rfl rfl)
theorem dX8_saw_4 : decode cX8_saw 4 = .ok (.invokevirtual 277, 3) := dk_182 1 21 (dk_at dksX8_saw_0 4 rfl rfl)
theorem dX8_saw_7 : decode cX8_saw 7 = .ok (.putfield 56, 3) := dk_181 0 56 (dk_at dksX8_saw_0 7 rfl rfl)
theorem dX8_saw_10 : decode cX8_saw 10 = .ok (.aload_n 0, 1) := dk_42 (dk_at dksX8_saw_0 10 rfl rfl)
theorem dX8_saw_11 : decode cX8_saw 11 = .ok (.getfield 56, 3) := dk_180 0 56 (dk_at dksX8_saw_0 11 rfl rfl)
theorem dX8_saw_14 : decode cX8_saw 14 = .ok (.ifCond .le 5, 3) := dk_158 0 5 (dk_at dksX8_saw_0 14 rfl rfl)
theorem dX8_saw_17 : decode cX8_saw 17 = .ok (.iconst 0, 1) := dk_3 (dk_at dksX8_saw_0 17 rfl rfl)
theorem dX8_saw_18 : decode cX8_saw 18 = .ok (.ireturn, 1) := dk_172 (dk_at dksX8_saw_0 18 rfl rfl)
theorem dX8_saw_19 : decode cX8_saw 19 = .ok (.aload_n 0, 1) := dk_42 (dk_at dksX8_saw_0 19 rfl rfl)
theorem dX8_saw_20 : decode cX8_saw 20 = .ok (.getfield 7, 3) := dk_180 0 7 (dk_at dksX8_saw_0 20 rfl rfl)
theorem dX8_saw_23 : decode cX8_saw 23 = .ok (.iload_n 3, 1) := dk_29 (dk_at dksX8_saw_0 23 rfl rfl)
theorem dX8_saw_24 : decode cX8_saw 24 = .ok (.ifCond .eq 9, 3) := dk_153 0 9 (dk_at dksX8_saw_1 0 rfl rfl)
theorem dX8_saw_27 : decode cX8_saw 27 = .ok (.sipush 172, 3) := dk_17 0 172 (dk_at dksX8_saw_1 3 rfl rfl)
theorem dX8_saw_30 : decode cX8_saw 30 = .ok (.goto 6, 3) := dk_167 0 6 (dk_at dksX8_saw_1 6 rfl rfl)
theorem dX8_saw_33 : decode cX8_saw 33 = .ok (.sipush 272, 3) := dk_17 1 16 (dk_at dksX8_saw_1 9 rfl rfl)
theorem dX8_saw_36 : decode cX8_saw 36 = .ok (.bipush 10, 2) := dk_16 10 (dk_at dksX8_saw_1 12 rfl rfl)
theorem dX8_saw_38 : decode cX8_saw 38 = .ok (.iload_n 1, 1) := dk_27 (dk_at dksX8_saw_1 14 rfl rfl)
theorem dX8_saw_39 : decode cX8_saw 39 = .ok (.imul, 1) := dk_104 (dk_at dksX8_saw_1 15 rfl rfl)
theorem dX8_saw_40 : decode cX8_saw 40 = .ok (.iadd, 1) := dk_96 (dk_at dksX8_saw_1 16 rfl rfl)
theorem dX8_saw_41 : decode cX8_saw 41 = .ok (.iload_n 2, 1) := dk_28 (dk_at dksX8_saw_1 17 rfl rfl)
theorem dX8_saw_42 : decode cX8_saw 42 = .ok (.iadd, 1) := dk_96 (dk_at dksX8_saw_1 18 rfl rfl)
theorem dX8_saw_43 : decode cX8_saw 43 = .ok (.iaload, 1) := dk_46 (dk_at dksX8_saw_1 19 rfl rfl)
theorem dX8_saw_44 : decode cX8_saw 44 = .ok (.ireturn, 1) := dk_172 (dk_at dksX8_saw_1 20 rfl rfl)
abbrev cX8_two : ByteArray := prog_23_method_55_code
def yX8_two : MethodName := ⟨RX8, "two", "(II)I"⟩
def dkwX8_two_1 : List UInt8 := [160, 0, 7, 5, 167, 0, 4, 3, 172]
abbrev dktX8_two_1 : List UInt8 := dkwX8_two_1 ++ []
def dkwX8_two_0 : List UInt8 := [42, 27, 182, 1, 15, 153, 0, 11, 42, 28, 182, 1, 15, 154, 0, 7, 4, 167, 0, 13, 27, 28]
abbrev dktX8_two_0 : List UInt8 := dkwX8_two_0 ++ dktX8_two_1
theorem dksX8_two_0 : cX8_two.data.toList.drop 0 = dktX8_two_0 := by decide +kernel
theorem dksX8_two_1 : cX8_two.data.toList.drop 22 = dktX8_two_1 := dk_seg dksX8_two_0 22 rfl rfl
theorem dX8_two_0 : decode cX8_two 0 = .ok (.aload_n 0, 1) := dk_42 (dk_at dksX8_two_0 0 rfl rfl)
theorem dX8_two_1 : decode cX8_two 1 = .ok (.iload_n 1, 1) := dk_27 (dk_at dksX8_two_0 1 rfl rfl)
theorem dX8_two_2 : decode cX8_two 2 = .ok (.invokevirtual 271, 3) := dk_182 1 15 (dk_at dksX8_two_0 2 rfl rfl)
theorem dX8_two_5 : decode cX8_two 5 = .ok (.ifCond .eq 11, 3) := dk_153 0 11 (dk_at dksX8_two_0 5 rfl rfl)
theorem dX8_two_8 : decode cX8_two 8 = .ok (.aload_n 0, 1) := dk_42 (dk_at dksX8_two_0 8 rfl rfl)
theorem dX8_two_9 : decode cX8_two 9 = .ok (.iload_n 2, 1) := dk_28 (dk_at dksX8_two_0 9 rfl rfl)
theorem dX8_two_10 : decode cX8_two 10 = .ok (.invokevirtual 271, 3) := dk_182 1 15 (dk_at dksX8_two_0 10 rfl rfl)
theorem dX8_two_13 : decode cX8_two 13 = .ok (.ifCond .ne 7, 3) := dk_154 0 7 (dk_at dksX8_two_0 13 rfl rfl)
theorem dX8_two_16 : decode cX8_two 16 = .ok (.iconst 1, 1) := dk_4 (dk_at dksX8_two_0 16 rfl rfl)
theorem dX8_two_17 : decode cX8_two 17 = .ok (.goto 13, 3) := dk_167 0 13 (dk_at dksX8_two_0 17 rfl rfl)
theorem dX8_two_20 : decode cX8_two 20 = .ok (.iload_n 1, 1) := dk_27 (dk_at dksX8_two_0 20 rfl rfl)
theorem dX8_two_21 : decode cX8_two 21 = .ok (.iload_n 2, 1) := dk_28 (dk_at dksX8_two_0 21 rfl rfl)
theorem dX8_two_22 : decode cX8_two 22 = .ok (.if_icmp .ne 7, 3) := dk_160 0 7 (dk_at dksX8_two_1 0 rfl rfl)
theorem dX8_two_25 : decode cX8_two 25 = .ok (.iconst 2, 1) := dk_5 (dk_at dksX8_two_1 3 rfl rfl)
theorem dX8_two_26 : decode cX8_two 26 = .ok (.goto 4, 3) := dk_167 0 4 (dk_at dksX8_two_1 4 rfl rfl)
theorem dX8_two_29 : decode cX8_two 29 = .ok (.iconst 0, 1) := dk_3 (dk_at dksX8_two_1 7 rfl rfl)
theorem dX8_two_30 : decode cX8_two 30 = .ok (.ireturn, 1) := dk_172 (dk_at dksX8_two_1 8 rfl rfl)
abbrev cX8_tie : ByteArray := prog_23_method_57_code
def yX8_tie : MethodName := ⟨RX8, "tie", "(IZ)I"⟩
def dkwX8_tie_2 : List UInt8 := [42, 27, 182, 0, 63, 172]
abbrev dktX8_tie_2 : List UInt8 := dkwX8_tie_2 ++ []
def dkwX8_tie_1 : List UInt8 := [181, 0, 56, 42, 180, 0, 56, 158, 0, 5, 3, 172, 28, 153, 0, 11, 42, 27, 182, 0, 67, 167, 0, 8]
abbrev dktX8_tie_1 : List UInt8 := dkwX8_tie_1 ++ dktX8_tie_2
def dkwX8_tie_0 : List UInt8 := [42, 27, 3, 42, 180, 0, 7, 16, 6, 46, 4, 100, 184, 0, 59, 154, 0, 7, 4, 167, 0, 4, 3]
abbrev dktX8_tie_0 : List UInt8 := dkwX8_tie_0 ++ dktX8_tie_1
theorem dksX8_tie_0 : cX8_tie.data.toList.drop 0 = dktX8_tie_0 := by decide +kernel
theorem dksX8_tie_1 : cX8_tie.data.toList.drop 23 = dktX8_tie_1 := dk_seg dksX8_tie_0 23 rfl rfl
theorem dksX8_tie_2 : cX8_tie.data.toList.drop 47 = dktX8_tie_2 := dk_seg dksX8_tie_1 24 rfl rfl
theorem dX8_tie_0 : decode cX8_tie 0 = .ok (.aload_n 0, 1) := dk_42 (dk_at dksX8_tie_0 0 rfl rfl)
theorem dX8_tie_1 : decode cX8_tie 1 = .ok (.iload_n 1, 1) := dk_27 (dk_at dksX8_tie_0 1 rfl rfl)
theorem dX8_tie_2 : decode cX8_tie 2 = .ok (.iconst 0, 1) := dk_3 (dk_at dksX8_tie_0 2 rfl rfl)
theorem dX8_tie_3 : decode cX8_tie 3 = .ok (.aload_n 0, 1) := dk_42 (dk_at dksX8_tie_0 3 rfl rfl)
theorem dX8_tie_4 : decode cX8_tie 4 = .ok (.getfield 7, 3) := dk_180 0 7 (dk_at dksX8_tie_0 4 rfl rfl)
theorem dX8_tie_7 : decode cX8_tie 7 = .ok (.bipush 6, 2) := dk_16 6 (dk_at dksX8_tie_0 7 rfl rfl)
theorem dX8_tie_9 : decode cX8_tie 9 = .ok (.iaload, 1) := dk_46 (dk_at dksX8_tie_0 9 rfl rfl)
theorem dX8_tie_10 : decode cX8_tie 10 = .ok (.iconst 1, 1) := dk_4 (dk_at dksX8_tie_0 10 rfl rfl)
theorem dX8_tie_11 : decode cX8_tie 11 = .ok (.isub, 1) := dk_100 (dk_at dksX8_tie_0 11 rfl rfl)
theorem dX8_tie_12 : decode cX8_tie 12 = .ok (.invokestatic 59, 3) := dk_184 0 59 (dk_at dksX8_tie_0 12 rfl rfl)
theorem dX8_tie_15 : decode cX8_tie 15 = .ok (.ifCond .ne 7, 3) := dk_154 0 7 (dk_at dksX8_tie_0 15 rfl rfl)
theorem dX8_tie_18 : decode cX8_tie 18 = .ok (.iconst 1, 1) := dk_4 (dk_at dksX8_tie_0 18 rfl rfl)
theorem dX8_tie_19 : decode cX8_tie 19 = .ok (.goto 4, 3) := dk_167 0 4 (dk_at dksX8_tie_0 19 rfl rfl)
theorem dX8_tie_22 : decode cX8_tie 22 = .ok (.iconst 0, 1) := dk_3 (dk_at dksX8_tie_0 22 rfl rfl)
theorem dX8_tie_23 : decode cX8_tie 23 = .ok (.putfield 56, 3) := dk_181 0 56 (dk_at dksX8_tie_1 0 rfl rfl)
theorem dX8_tie_26 : decode cX8_tie 26 = .ok (.aload_n 0, 1) := dk_42 (dk_at dksX8_tie_1 3 rfl rfl)
theorem dX8_tie_27 : decode cX8_tie 27 = .ok (.getfield 56, 3) := dk_180 0 56 (dk_at dksX8_tie_1 4 rfl rfl)
theorem dX8_tie_30 : decode cX8_tie 30 = .ok (.ifCond .le 5, 3) := dk_158 0 5 (dk_at dksX8_tie_1 7 rfl rfl)
theorem dX8_tie_33 : decode cX8_tie 33 = .ok (.iconst 0, 1) := dk_3 (dk_at dksX8_tie_1 10 rfl rfl)
theorem dX8_tie_34 : decode cX8_tie 34 = .ok (.ireturn, 1) := dk_172 (dk_at dksX8_tie_1 11 rfl rfl)
theorem dX8_tie_35 : decode cX8_tie 35 = .ok (.iload_n 2, 1) := dk_28 (dk_at dksX8_tie_1 12 rfl rfl)
theorem dX8_tie_36 : decode cX8_tie 36 = .ok (.ifCond .eq 11, 3) := dk_153 0 11 (dk_at dksX8_tie_1 13 rfl rfl)
theorem dX8_tie_39 : decode cX8_tie 39 = .ok (.aload_n 0, 1) := dk_42 (dk_at dksX8_tie_1 16 rfl rfl)
theorem dX8_tie_40 : decode cX8_tie 40 = .ok (.iload_n 1, 1) := dk_27 (dk_at dksX8_tie_1 17 rfl rfl)
theorem dX8_tie_41 : decode cX8_tie 41 = .ok (.invokevirtual 67, 3) := dk_182 0 67 (dk_at dksX8_tie_1 18 rfl rfl)
theorem dX8_tie_44 : decode cX8_tie 44 = .ok (.goto 8, 3) := dk_167 0 8 (dk_at dksX8_tie_1 21 rfl rfl)
theorem dX8_tie_47 : decode cX8_tie 47 = .ok (.aload_n 0, 1) := dk_42 (dk_at dksX8_tie_2 0 rfl rfl)
theorem dX8_tie_48 : decode cX8_tie 48 = .ok (.iload_n 1, 1) := dk_27 (dk_at dksX8_tie_2 1 rfl rfl)
theorem dX8_tie_49 : decode cX8_tie 49 = .ok (.invokevirtual 63, 3) := dk_182 0 63 (dk_at dksX8_tie_2 2 rfl rfl)
theorem dX8_tie_52 : decode cX8_tie 52 = .ok (.ireturn, 1) := dk_172 (dk_at dksX8_tie_2 5 rfl rfl)
abbrev cX8_will : ByteArray := prog_23_method_58_code
def yX8_will : MethodName := ⟨RX8, "will", "(II)I"⟩
def dkwX8_will_1 : List UInt8 := [182, 1, 24, 172]
abbrev dktX8_will_1 : List UInt8 := dkwX8_will_1 ++ []
def dkwX8_will_0 : List UInt8 := [42, 42, 27, 28, 182, 1, 21, 181, 0, 56, 42, 180, 0, 56, 158, 0, 7, 3, 167, 0, 9, 42, 27, 28]
abbrev dktX8_will_0 : List UInt8 := dkwX8_will_0 ++ dktX8_will_1
theorem dksX8_will_0 : cX8_will.data.toList.drop 0 = dktX8_will_0 := by decide +kernel
theorem dksX8_will_1 : cX8_will.data.toList.drop 24 = dktX8_will_1 := dk_seg dksX8_will_0 24 rfl rfl
theorem dX8_will_0 : decode cX8_will 0 = .ok (.aload_n 0, 1) := dk_42 (dk_at dksX8_will_0 0 rfl rfl)
theorem dX8_will_1 : decode cX8_will 1 = .ok (.aload_n 0, 1) := dk_42 (dk_at dksX8_will_0 1 rfl rfl)
theorem dX8_will_2 : decode cX8_will 2 = .ok (.iload_n 1, 1) := dk_27 (dk_at dksX8_will_0 2 rfl rfl)
theorem dX8_will_3 : decode cX8_will 3 = .ok (.iload_n 2, 1) := dk_28 (dk_at dksX8_will_0 3 rfl rfl)
theorem dX8_will_4 : decode cX8_will 4 = .ok (.invokevirtual 277, 3) := dk_182 1 21 (dk_at dksX8_will_0 4 rfl rfl)
theorem dX8_will_7 : decode cX8_will 7 = .ok (.putfield 56, 3) := dk_181 0 56 (dk_at dksX8_will_0 7 rfl rfl)
theorem dX8_will_10 : decode cX8_will 10 = .ok (.aload_n 0, 1) := dk_42 (dk_at dksX8_will_0 10 rfl rfl)
theorem dX8_will_11 : decode cX8_will 11 = .ok (.getfield 56, 3) := dk_180 0 56 (dk_at dksX8_will_0 11 rfl rfl)
theorem dX8_will_14 : decode cX8_will 14 = .ok (.ifCond .le 7, 3) := dk_158 0 7 (dk_at dksX8_will_0 14 rfl rfl)
theorem dX8_will_17 : decode cX8_will 17 = .ok (.iconst 0, 1) := dk_3 (dk_at dksX8_will_0 17 rfl rfl)
theorem dX8_will_18 : decode cX8_will 18 = .ok (.goto 9, 3) := dk_167 0 9 (dk_at dksX8_will_0 18 rfl rfl)
theorem dX8_will_21 : decode cX8_will 21 = .ok (.aload_n 0, 1) := dk_42 (dk_at dksX8_will_0 21 rfl rfl)
theorem dX8_will_22 : decode cX8_will 22 = .ok (.iload_n 1, 1) := dk_27 (dk_at dksX8_will_0 22 rfl rfl)
theorem dX8_will_23 : decode cX8_will 23 = .ok (.iload_n 2, 1) := dk_28 (dk_at dksX8_will_0 23 rfl rfl)
theorem dX8_will_24 : decode cX8_will 24 = .ok (.invokevirtual 280, 3) := dk_182 1 24 (dk_at dksX8_will_1 0 rfl rfl)
theorem dX8_will_27 : decode cX8_will 27 = .ok (.ireturn, 1) := dk_172 (dk_at dksX8_will_1 3 rfl rfl)
abbrev cX8_beginning : ByteArray := prog_23_method_49_code
def yX8_beginning : MethodName := ⟨RX8, "beginning", "(II)I"⟩
def dkwX8_beginning_10 : List UInt8 := [172]
abbrev dktX8_beginning_10 : List UInt8 := dkwX8_beginning_10 ++ []
def dkwX8_beginning_9 : List UInt8 := [16, 10, 27, 104, 96, 28, 96, 46, 62, 29, 2, 160, 0, 12, 42, 27, 4, 182, 1, 1, 167, 0, 4, 29]
abbrev dktX8_beginning_9 : List UInt8 := dkwX8_beginning_9 ++ dktX8_beginning_10
def dkwX8_beginning_8 : List UInt8 := [181, 0, 25, 42, 180, 0, 254, 2, 159, 0, 8, 42, 180, 0, 254, 172, 42, 180, 0, 7, 17, 1, 16]
abbrev dktX8_beginning_8 : List UInt8 := dkwX8_beginning_8 ++ dktX8_beginning_9
def dkwX8_beginning_7 : List UInt8 := [181, 0, 82, 42, 3, 181, 0, 79, 42, 3, 181, 0, 184, 42, 4, 182, 0, 200, 54, 4, 42, 29]
abbrev dktX8_beginning_7 : List UInt8 := dkwX8_beginning_7 ++ dktX8_beginning_8
def dkwX8_beginning_6 : List UInt8 := [180, 0, 25, 62, 42, 2, 181, 0, 25, 42, 17, 3, 132, 181, 0, 76, 42, 42, 180, 0, 7, 5, 46]
abbrev dktX8_beginning_6 : List UInt8 := dkwX8_beginning_6 ++ dktX8_beginning_7
def dkwX8_beginning_5 : List UInt8 := [167, 0, 4, 3, 181, 0, 227, 42, 2, 181, 0, 254, 42, 180, 0, 7, 4, 46, 158, 0, 52, 42]
abbrev dktX8_beginning_5 : List UInt8 := dkwX8_beginning_5 ++ dktX8_beginning_6
def dkwX8_beginning_4 : List UInt8 := [3, 181, 0, 223, 42, 42, 27, 7, 182, 1, 1, 42, 28, 7, 182, 1, 1, 96, 158, 0, 7, 4]
abbrev dktX8_beginning_4 : List UInt8 := dkwX8_beginning_4 ++ dktX8_beginning_5
def dkwX8_beginning_3 : List UInt8 := [16, 7, 46, 79, 42, 42, 27, 3, 182, 1, 1, 42, 28, 3, 182, 1, 1, 160, 0, 7, 4, 167, 0, 4]
abbrev dktX8_beginning_3 : List UInt8 := dkwX8_beginning_3 ++ dktX8_beginning_4
def dkwX8_beginning_2 : List UInt8 := [180, 0, 7, 17, 0, 172, 16, 10, 27, 104, 96, 28, 96, 46, 79, 42, 180, 0, 29, 8, 42, 180, 0, 7]
abbrev dktX8_beginning_2 : List UInt8 := dkwX8_beginning_2 ++ dktX8_beginning_3
def dkwX8_beginning_1 : List UInt8 := [182, 1, 1, 79, 42, 180, 0, 29, 6, 42, 28, 5, 182, 1, 1, 79, 42, 180, 0, 29, 7, 42]
abbrev dktX8_beginning_1 : List UInt8 := dkwX8_beginning_1 ++ dktX8_beginning_2
def dkwX8_beginning_0 : List UInt8 := [42, 180, 0, 29, 3, 27, 79, 42, 180, 0, 29, 4, 28, 79, 42, 180, 0, 29, 5, 42, 27, 5]
abbrev dktX8_beginning_0 : List UInt8 := dkwX8_beginning_0 ++ dktX8_beginning_1
theorem dksX8_beginning_0 : cX8_beginning.data.toList.drop 0 = dktX8_beginning_0 := by decide +kernel
theorem dksX8_beginning_1 : cX8_beginning.data.toList.drop 22 = dktX8_beginning_1 := dk_seg dksX8_beginning_0 22 rfl rfl
theorem dksX8_beginning_2 : cX8_beginning.data.toList.drop 44 = dktX8_beginning_2 := dk_seg dksX8_beginning_1 22 rfl rfl
theorem dksX8_beginning_3 : cX8_beginning.data.toList.drop 68 = dktX8_beginning_3 := dk_seg dksX8_beginning_2 24 rfl rfl
theorem dksX8_beginning_4 : cX8_beginning.data.toList.drop 92 = dktX8_beginning_4 := dk_seg dksX8_beginning_3 24 rfl rfl
theorem dksX8_beginning_5 : cX8_beginning.data.toList.drop 114 = dktX8_beginning_5 := dk_seg dksX8_beginning_4 22 rfl rfl
theorem dksX8_beginning_6 : cX8_beginning.data.toList.drop 136 = dktX8_beginning_6 := dk_seg dksX8_beginning_5 22 rfl rfl
theorem dksX8_beginning_7 : cX8_beginning.data.toList.drop 159 = dktX8_beginning_7 := dk_seg dksX8_beginning_6 23 rfl rfl
theorem dksX8_beginning_8 : cX8_beginning.data.toList.drop 181 = dktX8_beginning_8 := dk_seg dksX8_beginning_7 22 rfl rfl
theorem dksX8_beginning_9 : cX8_beginning.data.toList.drop 204 = dktX8_beginning_9 := dk_seg dksX8_beginning_8 23 rfl rfl
theorem dksX8_beginning_10 : cX8_beginning.data.toList.drop 228 = dktX8_beginning_10 := dk_seg dksX8_beginning_9 24 rfl rfl
theorem dX8_beginning_0 : decode cX8_beginning 0 = .ok (.aload_n 0, 1) := dk_42 (dk_at dksX8_beginning_0 0 rfl rfl)
theorem dX8_beginning_1 : decode cX8_beginning 1 = .ok (.getfield 29, 3) := dk_180 0 29 (dk_at dksX8_beginning_0 1 rfl rfl)
theorem dX8_beginning_4 : decode cX8_beginning 4 = .ok (.iconst 0, 1) := dk_3 (dk_at dksX8_beginning_0 4 rfl rfl)
theorem dX8_beginning_5 : decode cX8_beginning 5 = .ok (.iload_n 1, 1) := dk_27 (dk_at dksX8_beginning_0 5 rfl rfl)
theorem dX8_beginning_6 : decode cX8_beginning 6 = .ok (.iastore, 1) := dk_79 (dk_at dksX8_beginning_0 6 rfl rfl)
theorem dX8_beginning_7 : decode cX8_beginning 7 = .ok (.aload_n 0, 1) := dk_42 (dk_at dksX8_beginning_0 7 rfl rfl)
theorem dX8_beginning_8 : decode cX8_beginning 8 = .ok (.getfield 29, 3) := dk_180 0 29 (dk_at dksX8_beginning_0 8 rfl rfl)
theorem dX8_beginning_11 : decode cX8_beginning 11 = .ok (.iconst 1, 1) := dk_4 (dk_at dksX8_beginning_0 11 rfl rfl)
theorem dX8_beginning_12 : decode cX8_beginning 12 = .ok (.iload_n 2, 1) := dk_28 (dk_at dksX8_beginning_0 12 rfl rfl)
theorem dX8_beginning_13 : decode cX8_beginning 13 = .ok (.iastore, 1) := dk_79 (dk_at dksX8_beginning_0 13 rfl rfl)
theorem dX8_beginning_14 : decode cX8_beginning 14 = .ok (.aload_n 0, 1) := dk_42 (dk_at dksX8_beginning_0 14 rfl rfl)
theorem dX8_beginning_15 : decode cX8_beginning 15 = .ok (.getfield 29, 3) := dk_180 0 29 (dk_at dksX8_beginning_0 15 rfl rfl)
theorem dX8_beginning_18 : decode cX8_beginning 18 = .ok (.iconst 2, 1) := dk_5 (dk_at dksX8_beginning_0 18 rfl rfl)
theorem dX8_beginning_19 : decode cX8_beginning 19 = .ok (.aload_n 0, 1) := dk_42 (dk_at dksX8_beginning_0 19 rfl rfl)
theorem dX8_beginning_20 : decode cX8_beginning 20 = .ok (.iload_n 1, 1) := dk_27 (dk_at dksX8_beginning_0 20 rfl rfl)
theorem dX8_beginning_21 : decode cX8_beginning 21 = .ok (.iconst 2, 1) := dk_5 (dk_at dksX8_beginning_0 21 rfl rfl)
theorem dX8_beginning_22 : decode cX8_beginning 22 = .ok (.invokevirtual 257, 3) := dk_182 1 1 (dk_at dksX8_beginning_1 0 rfl rfl)
theorem dX8_beginning_25 : decode cX8_beginning 25 = .ok (.iastore, 1) := dk_79 (dk_at dksX8_beginning_1 3 rfl rfl)
theorem dX8_beginning_26 : decode cX8_beginning 26 = .ok (.aload_n 0, 1) := dk_42 (dk_at dksX8_beginning_1 4 rfl rfl)
theorem dX8_beginning_27 : decode cX8_beginning 27 = .ok (.getfield 29, 3) := dk_180 0 29 (dk_at dksX8_beginning_1 5 rfl rfl)
theorem dX8_beginning_30 : decode cX8_beginning 30 = .ok (.iconst 3, 1) := dk_6 (dk_at dksX8_beginning_1 8 rfl rfl)
theorem dX8_beginning_31 : decode cX8_beginning 31 = .ok (.aload_n 0, 1) := dk_42 (dk_at dksX8_beginning_1 9 rfl rfl)
theorem dX8_beginning_32 : decode cX8_beginning 32 = .ok (.iload_n 2, 1) := dk_28 (dk_at dksX8_beginning_1 10 rfl rfl)
theorem dX8_beginning_33 : decode cX8_beginning 33 = .ok (.iconst 2, 1) := dk_5 (dk_at dksX8_beginning_1 11 rfl rfl)
theorem dX8_beginning_34 : decode cX8_beginning 34 = .ok (.invokevirtual 257, 3) := dk_182 1 1 (dk_at dksX8_beginning_1 12 rfl rfl)
theorem dX8_beginning_37 : decode cX8_beginning 37 = .ok (.iastore, 1) := dk_79 (dk_at dksX8_beginning_1 15 rfl rfl)
theorem dX8_beginning_38 : decode cX8_beginning 38 = .ok (.aload_n 0, 1) := dk_42 (dk_at dksX8_beginning_1 16 rfl rfl)
theorem dX8_beginning_39 : decode cX8_beginning 39 = .ok (.getfield 29, 3) := dk_180 0 29 (dk_at dksX8_beginning_1 17 rfl rfl)
theorem dX8_beginning_42 : decode cX8_beginning 42 = .ok (.iconst 4, 1) := dk_7 (dk_at dksX8_beginning_1 20 rfl rfl)
theorem dX8_beginning_43 : decode cX8_beginning 43 = .ok (.aload_n 0, 1) := dk_42 (dk_at dksX8_beginning_1 21 rfl rfl)
theorem dX8_beginning_44 : decode cX8_beginning 44 = .ok (.getfield 7, 3) := dk_180 0 7 (dk_at dksX8_beginning_2 0 rfl rfl)
theorem dX8_beginning_47 : decode cX8_beginning 47 = .ok (.sipush 172, 3) := dk_17 0 172 (dk_at dksX8_beginning_2 3 rfl rfl)
theorem dX8_beginning_50 : decode cX8_beginning 50 = .ok (.bipush 10, 2) := dk_16 10 (dk_at dksX8_beginning_2 6 rfl rfl)
theorem dX8_beginning_52 : decode cX8_beginning 52 = .ok (.iload_n 1, 1) := dk_27 (dk_at dksX8_beginning_2 8 rfl rfl)
theorem dX8_beginning_53 : decode cX8_beginning 53 = .ok (.imul, 1) := dk_104 (dk_at dksX8_beginning_2 9 rfl rfl)
theorem dX8_beginning_54 : decode cX8_beginning 54 = .ok (.iadd, 1) := dk_96 (dk_at dksX8_beginning_2 10 rfl rfl)
theorem dX8_beginning_55 : decode cX8_beginning 55 = .ok (.iload_n 2, 1) := dk_28 (dk_at dksX8_beginning_2 11 rfl rfl)
theorem dX8_beginning_56 : decode cX8_beginning 56 = .ok (.iadd, 1) := dk_96 (dk_at dksX8_beginning_2 12 rfl rfl)
theorem dX8_beginning_57 : decode cX8_beginning 57 = .ok (.iaload, 1) := dk_46 (dk_at dksX8_beginning_2 13 rfl rfl)
theorem dX8_beginning_58 : decode cX8_beginning 58 = .ok (.iastore, 1) := dk_79 (dk_at dksX8_beginning_2 14 rfl rfl)
theorem dX8_beginning_59 : decode cX8_beginning 59 = .ok (.aload_n 0, 1) := dk_42 (dk_at dksX8_beginning_2 15 rfl rfl)
theorem dX8_beginning_60 : decode cX8_beginning 60 = .ok (.getfield 29, 3) := dk_180 0 29 (dk_at dksX8_beginning_2 16 rfl rfl)
theorem dX8_beginning_63 : decode cX8_beginning 63 = .ok (.iconst 5, 1) := dk_8 (dk_at dksX8_beginning_2 19 rfl rfl)
theorem dX8_beginning_64 : decode cX8_beginning 64 = .ok (.aload_n 0, 1) := dk_42 (dk_at dksX8_beginning_2 20 rfl rfl)
theorem dX8_beginning_65 : decode cX8_beginning 65 = .ok (.getfield 7, 3) := dk_180 0 7 (dk_at dksX8_beginning_2 21 rfl rfl)
theorem dX8_beginning_68 : decode cX8_beginning 68 = .ok (.bipush 7, 2) := dk_16 7 (dk_at dksX8_beginning_3 0 rfl rfl)
theorem dX8_beginning_70 : decode cX8_beginning 70 = .ok (.iaload, 1) := dk_46 (dk_at dksX8_beginning_3 2 rfl rfl)
theorem dX8_beginning_71 : decode cX8_beginning 71 = .ok (.iastore, 1) := dk_79 (dk_at dksX8_beginning_3 3 rfl rfl)
theorem dX8_beginning_72 : decode cX8_beginning 72 = .ok (.aload_n 0, 1) := dk_42 (dk_at dksX8_beginning_3 4 rfl rfl)
theorem dX8_beginning_73 : decode cX8_beginning 73 = .ok (.aload_n 0, 1) := dk_42 (dk_at dksX8_beginning_3 5 rfl rfl)
theorem dX8_beginning_74 : decode cX8_beginning 74 = .ok (.iload_n 1, 1) := dk_27 (dk_at dksX8_beginning_3 6 rfl rfl)
theorem dX8_beginning_75 : decode cX8_beginning 75 = .ok (.iconst 0, 1) := dk_3 (dk_at dksX8_beginning_3 7 rfl rfl)
theorem dX8_beginning_76 : decode cX8_beginning 76 = .ok (.invokevirtual 257, 3) := dk_182 1 1 (dk_at dksX8_beginning_3 8 rfl rfl)
theorem dX8_beginning_79 : decode cX8_beginning 79 = .ok (.aload_n 0, 1) := dk_42 (dk_at dksX8_beginning_3 11 rfl rfl)
theorem dX8_beginning_80 : decode cX8_beginning 80 = .ok (.iload_n 2, 1) := dk_28 (dk_at dksX8_beginning_3 12 rfl rfl)
theorem dX8_beginning_81 : decode cX8_beginning 81 = .ok (.iconst 0, 1) := dk_3 (dk_at dksX8_beginning_3 13 rfl rfl)
theorem dX8_beginning_82 : decode cX8_beginning 82 = .ok (.invokevirtual 257, 3) := dk_182 1 1 (dk_at dksX8_beginning_3 14 rfl rfl)
theorem dX8_beginning_85 : decode cX8_beginning 85 = .ok (.if_icmp .ne 7, 3) := dk_160 0 7 (dk_at dksX8_beginning_3 17 rfl rfl)
theorem dX8_beginning_88 : decode cX8_beginning 88 = .ok (.iconst 1, 1) := dk_4 (dk_at dksX8_beginning_3 20 rfl rfl)
theorem dX8_beginning_89 : decode cX8_beginning 89 = .ok (.goto 4, 3) := dk_167 0 4 (dk_at dksX8_beginning_3 21 rfl rfl)
theorem dX8_beginning_92 : decode cX8_beginning 92 = .ok (.iconst 0, 1) := dk_3 (dk_at dksX8_beginning_4 0 rfl rfl)
theorem dX8_beginning_93 : decode cX8_beginning 93 = .ok (.putfield 223, 3) := dk_181 0 223 (dk_at dksX8_beginning_4 1 rfl rfl)
theorem dX8_beginning_96 : decode cX8_beginning 96 = .ok (.aload_n 0, 1) := dk_42 (dk_at dksX8_beginning_4 4 rfl rfl)
theorem dX8_beginning_97 : decode cX8_beginning 97 = .ok (.aload_n 0, 1) := dk_42 (dk_at dksX8_beginning_4 5 rfl rfl)
theorem dX8_beginning_98 : decode cX8_beginning 98 = .ok (.iload_n 1, 1) := dk_27 (dk_at dksX8_beginning_4 6 rfl rfl)
theorem dX8_beginning_99 : decode cX8_beginning 99 = .ok (.iconst 4, 1) := dk_7 (dk_at dksX8_beginning_4 7 rfl rfl)
theorem dX8_beginning_100 : decode cX8_beginning 100 = .ok (.invokevirtual 257, 3) := dk_182 1 1 (dk_at dksX8_beginning_4 8 rfl rfl)
theorem dX8_beginning_103 : decode cX8_beginning 103 = .ok (.aload_n 0, 1) := dk_42 (dk_at dksX8_beginning_4 11 rfl rfl)
theorem dX8_beginning_104 : decode cX8_beginning 104 = .ok (.iload_n 2, 1) := dk_28 (dk_at dksX8_beginning_4 12 rfl rfl)
theorem dX8_beginning_105 : decode cX8_beginning 105 = .ok (.iconst 4, 1) := dk_7 (dk_at dksX8_beginning_4 13 rfl rfl)
theorem dX8_beginning_106 : decode cX8_beginning 106 = .ok (.invokevirtual 257, 3) := dk_182 1 1 (dk_at dksX8_beginning_4 14 rfl rfl)
theorem dX8_beginning_109 : decode cX8_beginning 109 = .ok (.iadd, 1) := dk_96 (dk_at dksX8_beginning_4 17 rfl rfl)
theorem dX8_beginning_110 : decode cX8_beginning 110 = .ok (.ifCond .le 7, 3) := dk_158 0 7 (dk_at dksX8_beginning_4 18 rfl rfl)
theorem dX8_beginning_113 : decode cX8_beginning 113 = .ok (.iconst 1, 1) := dk_4 (dk_at dksX8_beginning_4 21 rfl rfl)
theorem dX8_beginning_114 : decode cX8_beginning 114 = .ok (.goto 4, 3) := dk_167 0 4 (dk_at dksX8_beginning_5 0 rfl rfl)
theorem dX8_beginning_117 : decode cX8_beginning 117 = .ok (.iconst 0, 1) := dk_3 (dk_at dksX8_beginning_5 3 rfl rfl)
theorem dX8_beginning_118 : decode cX8_beginning 118 = .ok (.putfield 227, 3) := dk_181 0 227 (dk_at dksX8_beginning_5 4 rfl rfl)
theorem dX8_beginning_121 : decode cX8_beginning 121 = .ok (.aload_n 0, 1) := dk_42 (dk_at dksX8_beginning_5 7 rfl rfl)
theorem dX8_beginning_122 : decode cX8_beginning 122 = .ok (.iconst (-1), 1) := dk_2 (dk_at dksX8_beginning_5 8 rfl rfl)
theorem dX8_beginning_123 : decode cX8_beginning 123 = .ok (.putfield 254, 3) := dk_181 0 254 (dk_at dksX8_beginning_5 9 rfl rfl)
theorem dX8_beginning_126 : decode cX8_beginning 126 = .ok (.aload_n 0, 1) := dk_42 (dk_at dksX8_beginning_5 12 rfl rfl)
theorem dX8_beginning_127 : decode cX8_beginning 127 = .ok (.getfield 7, 3) := dk_180 0 7 (dk_at dksX8_beginning_5 13 rfl rfl)
theorem dX8_beginning_130 : decode cX8_beginning 130 = .ok (.iconst 1, 1) := dk_4 (dk_at dksX8_beginning_5 16 rfl rfl)
theorem dX8_beginning_131 : decode cX8_beginning 131 = .ok (.iaload, 1) := dk_46 (dk_at dksX8_beginning_5 17 rfl rfl)
theorem dX8_beginning_132 : decode cX8_beginning 132 = .ok (.ifCond .le 52, 3) := dk_158 0 52 (dk_at dksX8_beginning_5 18 rfl rfl)
theorem dX8_beginning_135 : decode cX8_beginning 135 = .ok (.aload_n 0, 1) := dk_42 (dk_at dksX8_beginning_5 21 rfl rfl)
theorem dX8_beginning_136 : decode cX8_beginning 136 = .ok (.getfield 25, 3) := dk_180 0 25 (dk_at dksX8_beginning_6 0 rfl rfl)
theorem dX8_beginning_139 : decode cX8_beginning 139 = .ok (.istore_n 3, 1) := dk_62 (dk_at dksX8_beginning_6 3 rfl rfl)
theorem dX8_beginning_140 : decode cX8_beginning 140 = .ok (.aload_n 0, 1) := dk_42 (dk_at dksX8_beginning_6 4 rfl rfl)
theorem dX8_beginning_141 : decode cX8_beginning 141 = .ok (.iconst (-1), 1) := dk_2 (dk_at dksX8_beginning_6 5 rfl rfl)
theorem dX8_beginning_142 : decode cX8_beginning 142 = .ok (.putfield 25, 3) := dk_181 0 25 (dk_at dksX8_beginning_6 6 rfl rfl)
theorem dX8_beginning_145 : decode cX8_beginning 145 = .ok (.aload_n 0, 1) := dk_42 (dk_at dksX8_beginning_6 9 rfl rfl)
theorem dX8_beginning_146 : decode cX8_beginning 146 = .ok (.sipush 900, 3) := dk_17 3 132 (dk_at dksX8_beginning_6 10 rfl rfl)
theorem dX8_beginning_149 : decode cX8_beginning 149 = .ok (.putfield 76, 3) := dk_181 0 76 (dk_at dksX8_beginning_6 13 rfl rfl)
theorem dX8_beginning_152 : decode cX8_beginning 152 = .ok (.aload_n 0, 1) := dk_42 (dk_at dksX8_beginning_6 16 rfl rfl)
theorem dX8_beginning_153 : decode cX8_beginning 153 = .ok (.aload_n 0, 1) := dk_42 (dk_at dksX8_beginning_6 17 rfl rfl)
theorem dX8_beginning_154 : decode cX8_beginning 154 = .ok (.getfield 7, 3) := dk_180 0 7 (dk_at dksX8_beginning_6 18 rfl rfl)
theorem dX8_beginning_157 : decode cX8_beginning 157 = .ok (.iconst 2, 1) := dk_5 (dk_at dksX8_beginning_6 21 rfl rfl)
theorem dX8_beginning_158 : decode cX8_beginning 158 = .ok (.iaload, 1) := dk_46 (dk_at dksX8_beginning_6 22 rfl rfl)
theorem dX8_beginning_159 : decode cX8_beginning 159 = .ok (.putfield 82, 3) := dk_181 0 82 (dk_at dksX8_beginning_7 0 rfl rfl)
theorem dX8_beginning_162 : decode cX8_beginning 162 = .ok (.aload_n 0, 1) := dk_42 (dk_at dksX8_beginning_7 3 rfl rfl)
theorem dX8_beginning_163 : decode cX8_beginning 163 = .ok (.iconst 0, 1) := dk_3 (dk_at dksX8_beginning_7 4 rfl rfl)
theorem dX8_beginning_164 : decode cX8_beginning 164 = .ok (.putfield 79, 3) := dk_181 0 79 (dk_at dksX8_beginning_7 5 rfl rfl)
theorem dX8_beginning_167 : decode cX8_beginning 167 = .ok (.aload_n 0, 1) := dk_42 (dk_at dksX8_beginning_7 8 rfl rfl)
theorem dX8_beginning_168 : decode cX8_beginning 168 = .ok (.iconst 0, 1) := dk_3 (dk_at dksX8_beginning_7 9 rfl rfl)
theorem dX8_beginning_169 : decode cX8_beginning 169 = .ok (.putfield 184, 3) := dk_181 0 184 (dk_at dksX8_beginning_7 10 rfl rfl)
theorem dX8_beginning_172 : decode cX8_beginning 172 = .ok (.aload_n 0, 1) := dk_42 (dk_at dksX8_beginning_7 13 rfl rfl)
theorem dX8_beginning_173 : decode cX8_beginning 173 = .ok (.iconst 1, 1) := dk_4 (dk_at dksX8_beginning_7 14 rfl rfl)
theorem dX8_beginning_174 : decode cX8_beginning 174 = .ok (.invokevirtual 200, 3) := dk_182 0 200 (dk_at dksX8_beginning_7 15 rfl rfl)
theorem dX8_beginning_177 : decode cX8_beginning 177 = .ok (.istore 4, 2) := dk_54 4 (dk_at dksX8_beginning_7 18 rfl rfl)
theorem dX8_beginning_179 : decode cX8_beginning 179 = .ok (.aload_n 0, 1) := dk_42 (dk_at dksX8_beginning_7 20 rfl rfl)
theorem dX8_beginning_180 : decode cX8_beginning 180 = .ok (.iload_n 3, 1) := dk_29 (dk_at dksX8_beginning_7 21 rfl rfl)
theorem dX8_beginning_181 : decode cX8_beginning 181 = .ok (.putfield 25, 3) := dk_181 0 25 (dk_at dksX8_beginning_8 0 rfl rfl)
theorem dX8_beginning_184 : decode cX8_beginning 184 = .ok (.aload_n 0, 1) := dk_42 (dk_at dksX8_beginning_8 3 rfl rfl)
theorem dX8_beginning_185 : decode cX8_beginning 185 = .ok (.getfield 254, 3) := dk_180 0 254 (dk_at dksX8_beginning_8 4 rfl rfl)
theorem dX8_beginning_188 : decode cX8_beginning 188 = .ok (.iconst (-1), 1) := dk_2 (dk_at dksX8_beginning_8 7 rfl rfl)
theorem dX8_beginning_189 : decode cX8_beginning 189 = .ok (.if_icmp .eq 8, 3) := dk_159 0 8 (dk_at dksX8_beginning_8 8 rfl rfl)
theorem dX8_beginning_192 : decode cX8_beginning 192 = .ok (.aload_n 0, 1) := dk_42 (dk_at dksX8_beginning_8 11 rfl rfl)
theorem dX8_beginning_193 : decode cX8_beginning 193 = .ok (.getfield 254, 3) := dk_180 0 254 (dk_at dksX8_beginning_8 12 rfl rfl)
theorem dX8_beginning_196 : decode cX8_beginning 196 = .ok (.ireturn, 1) := dk_172 (dk_at dksX8_beginning_8 15 rfl rfl)
theorem dX8_beginning_197 : decode cX8_beginning 197 = .ok (.aload_n 0, 1) := dk_42 (dk_at dksX8_beginning_8 16 rfl rfl)
theorem dX8_beginning_198 : decode cX8_beginning 198 = .ok (.getfield 7, 3) := dk_180 0 7 (dk_at dksX8_beginning_8 17 rfl rfl)
theorem dX8_beginning_201 : decode cX8_beginning 201 = .ok (.sipush 272, 3) := dk_17 1 16 (dk_at dksX8_beginning_8 20 rfl rfl)
theorem dX8_beginning_204 : decode cX8_beginning 204 = .ok (.bipush 10, 2) := dk_16 10 (dk_at dksX8_beginning_9 0 rfl rfl)
theorem dX8_beginning_206 : decode cX8_beginning 206 = .ok (.iload_n 1, 1) := dk_27 (dk_at dksX8_beginning_9 2 rfl rfl)
theorem dX8_beginning_207 : decode cX8_beginning 207 = .ok (.imul, 1) := dk_104 (dk_at dksX8_beginning_9 3 rfl rfl)
theorem dX8_beginning_208 : decode cX8_beginning 208 = .ok (.iadd, 1) := dk_96 (dk_at dksX8_beginning_9 4 rfl rfl)
theorem dX8_beginning_209 : decode cX8_beginning 209 = .ok (.iload_n 2, 1) := dk_28 (dk_at dksX8_beginning_9 5 rfl rfl)
theorem dX8_beginning_210 : decode cX8_beginning 210 = .ok (.iadd, 1) := dk_96 (dk_at dksX8_beginning_9 6 rfl rfl)
theorem dX8_beginning_211 : decode cX8_beginning 211 = .ok (.iaload, 1) := dk_46 (dk_at dksX8_beginning_9 7 rfl rfl)
theorem dX8_beginning_212 : decode cX8_beginning 212 = .ok (.istore_n 3, 1) := dk_62 (dk_at dksX8_beginning_9 8 rfl rfl)
theorem dX8_beginning_213 : decode cX8_beginning 213 = .ok (.iload_n 3, 1) := dk_29 (dk_at dksX8_beginning_9 9 rfl rfl)
theorem dX8_beginning_214 : decode cX8_beginning 214 = .ok (.iconst (-1), 1) := dk_2 (dk_at dksX8_beginning_9 10 rfl rfl)
theorem dX8_beginning_215 : decode cX8_beginning 215 = .ok (.if_icmp .ne 12, 3) := dk_160 0 12 (dk_at dksX8_beginning_9 11 rfl rfl)
theorem dX8_beginning_218 : decode cX8_beginning 218 = .ok (.aload_n 0, 1) := dk_42 (dk_at dksX8_beginning_9 14 rfl rfl)
theorem dX8_beginning_219 : decode cX8_beginning 219 = .ok (.iload_n 1, 1) := dk_27 (dk_at dksX8_beginning_9 15 rfl rfl)
theorem dX8_beginning_220 : decode cX8_beginning 220 = .ok (.iconst 1, 1) := dk_4 (dk_at dksX8_beginning_9 16 rfl rfl)
theorem dX8_beginning_221 : decode cX8_beginning 221 = .ok (.invokevirtual 257, 3) := dk_182 1 1 (dk_at dksX8_beginning_9 17 rfl rfl)
theorem dX8_beginning_224 : decode cX8_beginning 224 = .ok (.goto 4, 3) := dk_167 0 4 (dk_at dksX8_beginning_9 20 rfl rfl)
theorem dX8_beginning_227 : decode cX8_beginning 227 = .ok (.iload_n 3, 1) := dk_29 (dk_at dksX8_beginning_9 23 rfl rfl)
theorem dX8_beginning_228 : decode cX8_beginning 228 = .ok (.ireturn, 1) := dk_172 (dk_at dksX8_beginning_10 0 rfl rfl)
abbrev cX8_meet : ByteArray := prog_23_method_63_code
def yX8_meet : MethodName := ⟨RX8, "meet", "(II)I"⟩
def dkwX8_meet_1 : List UInt8 := [27, 28, 182, 1, 43, 172]
abbrev dktX8_meet_1 : List UInt8 := dkwX8_meet_1 ++ []
def dkwX8_meet_0 : List UInt8 := [42, 42, 27, 28, 182, 1, 21, 181, 0, 56, 42, 180, 0, 56, 158, 0, 5, 3, 172, 42, 182, 1, 40, 42]
abbrev dktX8_meet_0 : List UInt8 := dkwX8_meet_0 ++ dktX8_meet_1
theorem dksX8_meet_0 : cX8_meet.data.toList.drop 0 = dktX8_meet_0 := by decide +kernel
theorem dksX8_meet_1 : cX8_meet.data.toList.drop 24 = dktX8_meet_1 := dk_seg dksX8_meet_0 24 rfl rfl
theorem dX8_meet_0 : decode cX8_meet 0 = .ok (.aload_n 0, 1) := dk_42 (dk_at dksX8_meet_0 0 rfl rfl)
theorem dX8_meet_1 : decode cX8_meet 1 = .ok (.aload_n 0, 1) := dk_42 (dk_at dksX8_meet_0 1 rfl rfl)
theorem dX8_meet_2 : decode cX8_meet 2 = .ok (.iload_n 1, 1) := dk_27 (dk_at dksX8_meet_0 2 rfl rfl)
theorem dX8_meet_3 : decode cX8_meet 3 = .ok (.iload_n 2, 1) := dk_28 (dk_at dksX8_meet_0 3 rfl rfl)
theorem dX8_meet_4 : decode cX8_meet 4 = .ok (.invokevirtual 277, 3) := dk_182 1 21 (dk_at dksX8_meet_0 4 rfl rfl)
theorem dX8_meet_7 : decode cX8_meet 7 = .ok (.putfield 56, 3) := dk_181 0 56 (dk_at dksX8_meet_0 7 rfl rfl)
theorem dX8_meet_10 : decode cX8_meet 10 = .ok (.aload_n 0, 1) := dk_42 (dk_at dksX8_meet_0 10 rfl rfl)
theorem dX8_meet_11 : decode cX8_meet 11 = .ok (.getfield 56, 3) := dk_180 0 56 (dk_at dksX8_meet_0 11 rfl rfl)
theorem dX8_meet_14 : decode cX8_meet 14 = .ok (.ifCond .le 5, 3) := dk_158 0 5 (dk_at dksX8_meet_0 14 rfl rfl)
theorem dX8_meet_17 : decode cX8_meet 17 = .ok (.iconst 0, 1) := dk_3 (dk_at dksX8_meet_0 17 rfl rfl)
theorem dX8_meet_18 : decode cX8_meet 18 = .ok (.ireturn, 1) := dk_172 (dk_at dksX8_meet_0 18 rfl rfl)
theorem dX8_meet_19 : decode cX8_meet 19 = .ok (.aload_n 0, 1) := dk_42 (dk_at dksX8_meet_0 19 rfl rfl)
theorem dX8_meet_20 : decode cX8_meet 20 = .ok (.invokevirtual 296, 3) := dk_182 1 40 (dk_at dksX8_meet_0 20 rfl rfl)
theorem dX8_meet_23 : decode cX8_meet 23 = .ok (.aload_n 0, 1) := dk_42 (dk_at dksX8_meet_0 23 rfl rfl)
theorem dX8_meet_24 : decode cX8_meet 24 = .ok (.iload_n 1, 1) := dk_27 (dk_at dksX8_meet_1 0 rfl rfl)
theorem dX8_meet_25 : decode cX8_meet 25 = .ok (.iload_n 2, 1) := dk_28 (dk_at dksX8_meet_1 1 rfl rfl)
theorem dX8_meet_26 : decode cX8_meet 26 = .ok (.invokevirtual 299, 3) := dk_182 1 43 (dk_at dksX8_meet_1 2 rfl rfl)
theorem dX8_meet_29 : decode cX8_meet 29 = .ok (.ireturn, 1) := dk_172 (dk_at dksX8_meet_1 5 rfl rfl)
abbrev cX8_remembers : ByteArray := prog_23_method_59_code
def yX8_remembers : MethodName := ⟨RX8, "remembers", "()V"⟩
def dkwX8_remembers_4 : List UInt8 := [181, 0, 207, 177]
abbrev dktX8_remembers_4 : List UInt8 := dkwX8_remembers_4 ++ []
def dkwX8_remembers_3 : List UInt8 := [27, 96, 42, 180, 0, 7, 27, 46, 79, 132, 1, 1, 167, 255, 225, 42, 89, 180, 0, 207, 4, 96]
abbrev dktX8_remembers_3 : List UInt8 := dkwX8_remembers_3 ++ dktX8_remembers_4
def dkwX8_remembers_2 : List UInt8 := [181, 0, 207, 3, 60, 27, 17, 3, 132, 162, 0, 30, 42, 180, 0, 19, 17, 3, 132, 42, 180, 0, 207, 104]
abbrev dktX8_remembers_2 : List UInt8 := dkwX8_remembers_2 ++ dktX8_remembers_3
def dkwX8_remembers_1 : List UInt8 := [180, 0, 19, 27, 17, 3, 132, 96, 46, 79, 132, 1, 1, 167, 255, 230, 42, 89, 180, 0, 207, 4, 100]
abbrev dktX8_remembers_1 : List UInt8 := dkwX8_remembers_1 ++ dktX8_remembers_2
def dkwX8_remembers_0 : List UInt8 := [42, 180, 0, 207, 16, 12, 160, 0, 44, 3, 60, 27, 17, 38, 172, 162, 0, 25, 42, 180, 0, 19, 27, 42]
abbrev dktX8_remembers_0 : List UInt8 := dkwX8_remembers_0 ++ dktX8_remembers_1
theorem dksX8_remembers_0 : cX8_remembers.data.toList.drop 0 = dktX8_remembers_0 := by decide +kernel
theorem dksX8_remembers_1 : cX8_remembers.data.toList.drop 24 = dktX8_remembers_1 := dk_seg dksX8_remembers_0 24 rfl rfl
theorem dksX8_remembers_2 : cX8_remembers.data.toList.drop 47 = dktX8_remembers_2 := dk_seg dksX8_remembers_1 23 rfl rfl
theorem dksX8_remembers_3 : cX8_remembers.data.toList.drop 71 = dktX8_remembers_3 := dk_seg dksX8_remembers_2 24 rfl rfl
theorem dksX8_remembers_4 : cX8_remembers.data.toList.drop 93 = dktX8_remembers_4 := dk_seg dksX8_remembers_3 22 rfl rfl
theorem dX8_remembers_0 : decode cX8_remembers 0 = .ok (.aload_n 0, 1) := dk_42 (dk_at dksX8_remembers_0 0 rfl rfl)
theorem dX8_remembers_1 : decode cX8_remembers 1 = .ok (.getfield 207, 3) := dk_180 0 207 (dk_at dksX8_remembers_0 1 rfl rfl)
theorem dX8_remembers_4 : decode cX8_remembers 4 = .ok (.bipush 12, 2) := dk_16 12 (dk_at dksX8_remembers_0 4 rfl rfl)
theorem dX8_remembers_6 : decode cX8_remembers 6 = .ok (.if_icmp .ne 44, 3) := dk_160 0 44 (dk_at dksX8_remembers_0 6 rfl rfl)
theorem dX8_remembers_9 : decode cX8_remembers 9 = .ok (.iconst 0, 1) := dk_3 (dk_at dksX8_remembers_0 9 rfl rfl)
theorem dX8_remembers_10 : decode cX8_remembers 10 = .ok (.istore_n 1, 1) := dk_60 (dk_at dksX8_remembers_0 10 rfl rfl)
theorem dX8_remembers_11 : decode cX8_remembers 11 = .ok (.iload_n 1, 1) := dk_27 (dk_at dksX8_remembers_0 11 rfl rfl)
theorem dX8_remembers_12 : decode cX8_remembers 12 = .ok (.sipush 9900, 3) := dk_17 38 172 (dk_at dksX8_remembers_0 12 rfl rfl)
theorem dX8_remembers_15 : decode cX8_remembers 15 = .ok (.if_icmp .ge 25, 3) := dk_162 0 25 (dk_at dksX8_remembers_0 15 rfl rfl)
theorem dX8_remembers_18 : decode cX8_remembers 18 = .ok (.aload_n 0, 1) := dk_42 (dk_at dksX8_remembers_0 18 rfl rfl)
theorem dX8_remembers_19 : decode cX8_remembers 19 = .ok (.getfield 19, 3) := dk_180 0 19 (dk_at dksX8_remembers_0 19 rfl rfl)
theorem dX8_remembers_22 : decode cX8_remembers 22 = .ok (.iload_n 1, 1) := dk_27 (dk_at dksX8_remembers_0 22 rfl rfl)
theorem dX8_remembers_23 : decode cX8_remembers 23 = .ok (.aload_n 0, 1) := dk_42 (dk_at dksX8_remembers_0 23 rfl rfl)
theorem dX8_remembers_24 : decode cX8_remembers 24 = .ok (.getfield 19, 3) := dk_180 0 19 (dk_at dksX8_remembers_1 0 rfl rfl)
theorem dX8_remembers_27 : decode cX8_remembers 27 = .ok (.iload_n 1, 1) := dk_27 (dk_at dksX8_remembers_1 3 rfl rfl)
theorem dX8_remembers_28 : decode cX8_remembers 28 = .ok (.sipush 900, 3) := dk_17 3 132 (dk_at dksX8_remembers_1 4 rfl rfl)
theorem dX8_remembers_31 : decode cX8_remembers 31 = .ok (.iadd, 1) := dk_96 (dk_at dksX8_remembers_1 7 rfl rfl)
theorem dX8_remembers_32 : decode cX8_remembers 32 = .ok (.iaload, 1) := dk_46 (dk_at dksX8_remembers_1 8 rfl rfl)
theorem dX8_remembers_33 : decode cX8_remembers 33 = .ok (.iastore, 1) := dk_79 (dk_at dksX8_remembers_1 9 rfl rfl)
theorem dX8_remembers_34 : decode cX8_remembers 34 = .ok (.iinc 1 1, 3) := dk_132 1 1 (dk_at dksX8_remembers_1 10 rfl rfl)
theorem dX8_remembers_37 : decode cX8_remembers 37 = .ok (.goto (-26), 3) := dk_167 255 230 (dk_at dksX8_remembers_1 13 rfl rfl)
theorem dX8_remembers_40 : decode cX8_remembers 40 = .ok (.aload_n 0, 1) := dk_42 (dk_at dksX8_remembers_1 16 rfl rfl)
theorem dX8_remembers_41 : decode cX8_remembers 41 = .ok (.dup, 1) := dk_89 (dk_at dksX8_remembers_1 17 rfl rfl)
theorem dX8_remembers_42 : decode cX8_remembers 42 = .ok (.getfield 207, 3) := dk_180 0 207 (dk_at dksX8_remembers_1 18 rfl rfl)
theorem dX8_remembers_45 : decode cX8_remembers 45 = .ok (.iconst 1, 1) := dk_4 (dk_at dksX8_remembers_1 21 rfl rfl)
theorem dX8_remembers_46 : decode cX8_remembers 46 = .ok (.isub, 1) := dk_100 (dk_at dksX8_remembers_1 22 rfl rfl)
theorem dX8_remembers_47 : decode cX8_remembers 47 = .ok (.putfield 207, 3) := dk_181 0 207 (dk_at dksX8_remembers_2 0 rfl rfl)
theorem dX8_remembers_50 : decode cX8_remembers 50 = .ok (.iconst 0, 1) := dk_3 (dk_at dksX8_remembers_2 3 rfl rfl)
theorem dX8_remembers_51 : decode cX8_remembers 51 = .ok (.istore_n 1, 1) := dk_60 (dk_at dksX8_remembers_2 4 rfl rfl)
theorem dX8_remembers_52 : decode cX8_remembers 52 = .ok (.iload_n 1, 1) := dk_27 (dk_at dksX8_remembers_2 5 rfl rfl)
theorem dX8_remembers_53 : decode cX8_remembers 53 = .ok (.sipush 900, 3) := dk_17 3 132 (dk_at dksX8_remembers_2 6 rfl rfl)
theorem dX8_remembers_56 : decode cX8_remembers 56 = .ok (.if_icmp .ge 30, 3) := dk_162 0 30 (dk_at dksX8_remembers_2 9 rfl rfl)
theorem dX8_remembers_59 : decode cX8_remembers 59 = .ok (.aload_n 0, 1) := dk_42 (dk_at dksX8_remembers_2 12 rfl rfl)
theorem dX8_remembers_60 : decode cX8_remembers 60 = .ok (.getfield 19, 3) := dk_180 0 19 (dk_at dksX8_remembers_2 13 rfl rfl)
theorem dX8_remembers_63 : decode cX8_remembers 63 = .ok (.sipush 900, 3) := dk_17 3 132 (dk_at dksX8_remembers_2 16 rfl rfl)
theorem dX8_remembers_66 : decode cX8_remembers 66 = .ok (.aload_n 0, 1) := dk_42 (dk_at dksX8_remembers_2 19 rfl rfl)
theorem dX8_remembers_67 : decode cX8_remembers 67 = .ok (.getfield 207, 3) := dk_180 0 207 (dk_at dksX8_remembers_2 20 rfl rfl)
theorem dX8_remembers_70 : decode cX8_remembers 70 = .ok (.imul, 1) := dk_104 (dk_at dksX8_remembers_2 23 rfl rfl)
theorem dX8_remembers_71 : decode cX8_remembers 71 = .ok (.iload_n 1, 1) := dk_27 (dk_at dksX8_remembers_3 0 rfl rfl)
theorem dX8_remembers_72 : decode cX8_remembers 72 = .ok (.iadd, 1) := dk_96 (dk_at dksX8_remembers_3 1 rfl rfl)
theorem dX8_remembers_73 : decode cX8_remembers 73 = .ok (.aload_n 0, 1) := dk_42 (dk_at dksX8_remembers_3 2 rfl rfl)
theorem dX8_remembers_74 : decode cX8_remembers 74 = .ok (.getfield 7, 3) := dk_180 0 7 (dk_at dksX8_remembers_3 3 rfl rfl)
theorem dX8_remembers_77 : decode cX8_remembers 77 = .ok (.iload_n 1, 1) := dk_27 (dk_at dksX8_remembers_3 6 rfl rfl)
theorem dX8_remembers_78 : decode cX8_remembers 78 = .ok (.iaload, 1) := dk_46 (dk_at dksX8_remembers_3 7 rfl rfl)
theorem dX8_remembers_79 : decode cX8_remembers 79 = .ok (.iastore, 1) := dk_79 (dk_at dksX8_remembers_3 8 rfl rfl)
theorem dX8_remembers_80 : decode cX8_remembers 80 = .ok (.iinc 1 1, 3) := dk_132 1 1 (dk_at dksX8_remembers_3 9 rfl rfl)
theorem dX8_remembers_83 : decode cX8_remembers 83 = .ok (.goto (-31), 3) := dk_167 255 225 (dk_at dksX8_remembers_3 12 rfl rfl)
theorem dX8_remembers_86 : decode cX8_remembers 86 = .ok (.aload_n 0, 1) := dk_42 (dk_at dksX8_remembers_3 15 rfl rfl)
theorem dX8_remembers_87 : decode cX8_remembers 87 = .ok (.dup, 1) := dk_89 (dk_at dksX8_remembers_3 16 rfl rfl)
theorem dX8_remembers_88 : decode cX8_remembers 88 = .ok (.getfield 207, 3) := dk_180 0 207 (dk_at dksX8_remembers_3 17 rfl rfl)
theorem dX8_remembers_91 : decode cX8_remembers 91 = .ok (.iconst 1, 1) := dk_4 (dk_at dksX8_remembers_3 20 rfl rfl)
theorem dX8_remembers_92 : decode cX8_remembers 92 = .ok (.iadd, 1) := dk_96 (dk_at dksX8_remembers_3 21 rfl rfl)
theorem dX8_remembers_93 : decode cX8_remembers 93 = .ok (.putfield 207, 3) := dk_181 0 207 (dk_at dksX8_remembers_4 0 rfl rfl)
theorem dX8_remembers_96 : decode cX8_remembers 96 = .ok (.return_, 1) := dk_177 (dk_at dksX8_remembers_4 3 rfl rfl)
abbrev cX8_meeting : ByteArray := prog_23_method_62_code
def yX8_meeting : MethodName := ⟨RX8, "meeting", "(II)I"⟩
def dkwX8_meeting_19 : List UInt8 := [21, 7, 172]
abbrev dktX8_meeting_19 : List UInt8 := dkwX8_meeting_19 ++ []
def dkwX8_meeting_18 : List UInt8 := [21, 7, 79, 42, 180, 0, 7, 16, 12, 16, 60, 42, 180, 0, 7, 16, 12, 46, 4, 96, 184, 1, 28, 79]
abbrev dktX8_meeting_18 : List UInt8 := dkwX8_meeting_18 ++ dktX8_meeting_19
def dkwX8_meeting_17 : List UInt8 := [17, 1, 169, 21, 10, 79, 42, 180, 0, 7, 17, 1, 170, 21, 11, 79, 42, 180, 0, 7, 17, 1, 171]
abbrev dktX8_meeting_17 : List UInt8 := dkwX8_meeting_17 ++ dktX8_meeting_18
def dkwX8_meeting_16 : List UInt8 := [180, 0, 7, 17, 1, 167, 21, 5, 79, 42, 180, 0, 7, 17, 1, 168, 21, 6, 79, 42, 180, 0, 7]
abbrev dktX8_meeting_16 : List UInt8 := dkwX8_meeting_16 ++ dktX8_meeting_17
def dkwX8_meeting_15 : List UInt8 := [16, 7, 46, 79, 42, 180, 0, 7, 17, 1, 165, 29, 79, 42, 180, 0, 7, 17, 1, 166, 21, 4, 79, 42]
abbrev dktX8_meeting_15 : List UInt8 := dkwX8_meeting_15 ++ dktX8_meeting_16
def dkwX8_meeting_14 : List UInt8 := [96, 16, 8, 100, 46, 79, 132, 12, 255, 167, 255, 221, 42, 180, 0, 7, 17, 1, 164, 42, 180, 0, 7]
abbrev dktX8_meeting_14 : List UInt8 := dkwX8_meeting_14 ++ dktX8_meeting_15
def dkwX8_meeting_13 : List UInt8 := [16, 8, 161, 0, 34, 42, 180, 0, 7, 17, 1, 164, 21, 12, 96, 42, 180, 0, 7, 17, 1, 164, 21, 12]
abbrev dktX8_meeting_13 : List UInt8 := dkwX8_meeting_13 ++ dktX8_meeting_14
def dkwX8_meeting_12 : List UInt8 := [46, 21, 10, 184, 0, 70, 21, 11, 184, 0, 70, 184, 1, 31, 96, 79, 17, 1, 223, 54, 12, 21, 12]
abbrev dktX8_meeting_12 : List UInt8 := dkwX8_meeting_12 ++ dktX8_meeting_13
def dkwX8_meeting_11 : List UInt8 := [16, 10, 92, 46, 21, 9, 2, 160, 0, 7, 3, 167, 0, 4, 4, 96, 79, 42, 180, 0, 7, 16, 11, 92]
abbrev dktX8_meeting_11 : List UInt8 := dkwX8_meeting_11 ++ dktX8_meeting_12
def dkwX8_meeting_10 : List UInt8 := [16, 8, 92, 46, 4, 96, 79, 42, 180, 0, 7, 16, 9, 92, 46, 21, 7, 96, 79, 42, 180, 0, 7]
abbrev dktX8_meeting_10 : List UInt8 := dkwX8_meeting_10 ++ dktX8_meeting_11
def dkwX8_meeting_9 : List UInt8 := [122, 153, 0, 18, 42, 29, 7, 4, 182, 0, 141, 42, 21, 4, 7, 4, 182, 0, 141, 42, 180, 0, 7]
abbrev dktX8_meeting_9 : List UInt8 := dkwX8_meeting_9 ++ dktX8_meeting_10
def dkwX8_meeting_8 : List UInt8 := [182, 1, 1, 42, 21, 4, 7, 182, 1, 1, 96, 158, 0, 32, 21, 10, 6, 122, 153, 0, 25, 21, 11, 6]
abbrev dktX8_meeting_8 : List UInt8 := dkwX8_meeting_8 ++ dktX8_meeting_9
def dkwX8_meeting_7 : List UInt8 := [54, 7, 42, 29, 21, 4, 21, 11, 182, 1, 37, 42, 21, 4, 29, 21, 10, 182, 1, 37, 42, 29, 7]
abbrev dktX8_meeting_7 : List UInt8 := dkwX8_meeting_7 ++ dktX8_meeting_8
def dkwX8_meeting_6 : List UInt8 := [21, 5, 167, 0, 5, 21, 6, 54, 11, 21, 9, 2, 160, 0, 8, 21, 7, 167, 0, 7, 21, 7, 5, 108]
abbrev dktX8_meeting_6 : List UInt8 := dkwX8_meeting_6 ++ dktX8_meeting_7
def dkwX8_meeting_5 : List UInt8 := [54, 9, 21, 9, 29, 160, 0, 8, 21, 6, 167, 0, 5, 21, 5, 54, 10, 21, 9, 21, 4, 160, 0, 8]
abbrev dktX8_meeting_5 : List UInt8 := dkwX8_meeting_5 ++ dktX8_meeting_6
def dkwX8_meeting_4 : List UInt8 := [158, 0, 26, 42, 29, 21, 4, 96, 21, 8, 100, 182, 1, 34, 153, 0, 12, 29, 21, 4, 96, 21, 8, 100]
abbrev dktX8_meeting_4 : List UInt8 := dkwX8_meeting_4 ++ dktX8_meeting_5
def dkwX8_meeting_3 : List UInt8 := [21, 7, 158, 0, 19, 42, 21, 8, 182, 1, 34, 153, 0, 10, 21, 8, 54, 9, 167, 0, 31, 21, 7]
abbrev dktX8_meeting_3 : List UInt8 := dkwX8_meeting_3 ++ dktX8_meeting_4
def dkwX8_meeting_2 : List UInt8 := [182, 1, 1, 42, 29, 5, 182, 1, 1, 162, 0, 8, 21, 4, 167, 0, 4, 29, 54, 8, 2, 54, 9]
abbrev dktX8_meeting_2 : List UInt8 := dkwX8_meeting_2 ++ dktX8_meeting_3
def dkwX8_meeting_1 : List UInt8 := [21, 4, 29, 182, 1, 24, 54, 6, 42, 21, 5, 21, 6, 182, 1, 7, 54, 7, 42, 21, 4, 5]
abbrev dktX8_meeting_1 : List UInt8 := dkwX8_meeting_1 ++ dktX8_meeting_2
def dkwX8_meeting_0 : List UInt8 := [27, 28, 184, 1, 28, 62, 27, 28, 184, 1, 31, 54, 4, 42, 29, 21, 4, 182, 1, 24, 54, 5, 42]
abbrev dktX8_meeting_0 : List UInt8 := dkwX8_meeting_0 ++ dktX8_meeting_1
theorem dksX8_meeting_0 : cX8_meeting.data.toList.drop 0 = dktX8_meeting_0 := by decide +kernel
theorem dksX8_meeting_1 : cX8_meeting.data.toList.drop 23 = dktX8_meeting_1 := dk_seg dksX8_meeting_0 23 rfl rfl
theorem dksX8_meeting_2 : cX8_meeting.data.toList.drop 45 = dktX8_meeting_2 := dk_seg dksX8_meeting_1 22 rfl rfl
theorem dksX8_meeting_3 : cX8_meeting.data.toList.drop 68 = dktX8_meeting_3 := dk_seg dksX8_meeting_2 23 rfl rfl
theorem dksX8_meeting_4 : cX8_meeting.data.toList.drop 91 = dktX8_meeting_4 := dk_seg dksX8_meeting_3 23 rfl rfl
theorem dksX8_meeting_5 : cX8_meeting.data.toList.drop 115 = dktX8_meeting_5 := dk_seg dksX8_meeting_4 24 rfl rfl
theorem dksX8_meeting_6 : cX8_meeting.data.toList.drop 139 = dktX8_meeting_6 := dk_seg dksX8_meeting_5 24 rfl rfl
theorem dksX8_meeting_7 : cX8_meeting.data.toList.drop 163 = dktX8_meeting_7 := dk_seg dksX8_meeting_6 24 rfl rfl
theorem dksX8_meeting_8 : cX8_meeting.data.toList.drop 186 = dktX8_meeting_8 := dk_seg dksX8_meeting_7 23 rfl rfl
theorem dksX8_meeting_9 : cX8_meeting.data.toList.drop 210 = dktX8_meeting_9 := dk_seg dksX8_meeting_8 24 rfl rfl
theorem dksX8_meeting_10 : cX8_meeting.data.toList.drop 233 = dktX8_meeting_10 := dk_seg dksX8_meeting_9 23 rfl rfl
theorem dksX8_meeting_11 : cX8_meeting.data.toList.drop 256 = dktX8_meeting_11 := dk_seg dksX8_meeting_10 23 rfl rfl
theorem dksX8_meeting_12 : cX8_meeting.data.toList.drop 280 = dktX8_meeting_12 := dk_seg dksX8_meeting_11 24 rfl rfl
theorem dksX8_meeting_13 : cX8_meeting.data.toList.drop 303 = dktX8_meeting_13 := dk_seg dksX8_meeting_12 23 rfl rfl
theorem dksX8_meeting_14 : cX8_meeting.data.toList.drop 327 = dktX8_meeting_14 := dk_seg dksX8_meeting_13 24 rfl rfl
theorem dksX8_meeting_15 : cX8_meeting.data.toList.drop 350 = dktX8_meeting_15 := dk_seg dksX8_meeting_14 23 rfl rfl
theorem dksX8_meeting_16 : cX8_meeting.data.toList.drop 374 = dktX8_meeting_16 := dk_seg dksX8_meeting_15 24 rfl rfl
theorem dksX8_meeting_17 : cX8_meeting.data.toList.drop 397 = dktX8_meeting_17 := dk_seg dksX8_meeting_16 23 rfl rfl
theorem dksX8_meeting_18 : cX8_meeting.data.toList.drop 420 = dktX8_meeting_18 := dk_seg dksX8_meeting_17 23 rfl rfl
theorem dksX8_meeting_19 : cX8_meeting.data.toList.drop 444 = dktX8_meeting_19 := dk_seg dksX8_meeting_18 24 rfl rfl
theorem dX8_meeting_0 : decode cX8_meeting 0 = .ok (.iload_n 1, 1) := dk_27 (dk_at dksX8_meeting_0 0 rfl rfl)
theorem dX8_meeting_1 : decode cX8_meeting 1 = .ok (.iload_n 2, 1) := dk_28 (dk_at dksX8_meeting_0 1 rfl rfl)
theorem dX8_meeting_2 : decode cX8_meeting 2 = .ok (.invokestatic 284, 3) := dk_184 1 28 (dk_at dksX8_meeting_0 2 rfl rfl)
theorem dX8_meeting_5 : decode cX8_meeting 5 = .ok (.istore_n 3, 1) := dk_62 (dk_at dksX8_meeting_0 5 rfl rfl)
theorem dX8_meeting_6 : decode cX8_meeting 6 = .ok (.iload_n 1, 1) := dk_27 (dk_at dksX8_meeting_0 6 rfl rfl)
theorem dX8_meeting_7 : decode cX8_meeting 7 = .ok (.iload_n 2, 1) := dk_28 (dk_at dksX8_meeting_0 7 rfl rfl)
theorem dX8_meeting_8 : decode cX8_meeting 8 = .ok (.invokestatic 287, 3) := dk_184 1 31 (dk_at dksX8_meeting_0 8 rfl rfl)
theorem dX8_meeting_11 : decode cX8_meeting 11 = .ok (.istore 4, 2) := dk_54 4 (dk_at dksX8_meeting_0 11 rfl rfl)
theorem dX8_meeting_13 : decode cX8_meeting 13 = .ok (.aload_n 0, 1) := dk_42 (dk_at dksX8_meeting_0 13 rfl rfl)
theorem dX8_meeting_14 : decode cX8_meeting 14 = .ok (.iload_n 3, 1) := dk_29 (dk_at dksX8_meeting_0 14 rfl rfl)
theorem dX8_meeting_15 : decode cX8_meeting 15 = .ok (.iload 4, 2) := dk_21 4 (dk_at dksX8_meeting_0 15 rfl rfl)
theorem dX8_meeting_17 : decode cX8_meeting 17 = .ok (.invokevirtual 280, 3) := dk_182 1 24 (dk_at dksX8_meeting_0 17 rfl rfl)
theorem dX8_meeting_20 : decode cX8_meeting 20 = .ok (.istore 5, 2) := dk_54 5 (dk_at dksX8_meeting_0 20 rfl rfl)
theorem dX8_meeting_22 : decode cX8_meeting 22 = .ok (.aload_n 0, 1) := dk_42 (dk_at dksX8_meeting_0 22 rfl rfl)
theorem dX8_meeting_23 : decode cX8_meeting 23 = .ok (.iload 4, 2) := dk_21 4 (dk_at dksX8_meeting_1 0 rfl rfl)
theorem dX8_meeting_25 : decode cX8_meeting 25 = .ok (.iload_n 3, 1) := dk_29 (dk_at dksX8_meeting_1 2 rfl rfl)
theorem dX8_meeting_26 : decode cX8_meeting 26 = .ok (.invokevirtual 280, 3) := dk_182 1 24 (dk_at dksX8_meeting_1 3 rfl rfl)
theorem dX8_meeting_29 : decode cX8_meeting 29 = .ok (.istore 6, 2) := dk_54 6 (dk_at dksX8_meeting_1 6 rfl rfl)
theorem dX8_meeting_31 : decode cX8_meeting 31 = .ok (.aload_n 0, 1) := dk_42 (dk_at dksX8_meeting_1 8 rfl rfl)
theorem dX8_meeting_32 : decode cX8_meeting 32 = .ok (.iload 5, 2) := dk_21 5 (dk_at dksX8_meeting_1 9 rfl rfl)
theorem dX8_meeting_34 : decode cX8_meeting 34 = .ok (.iload 6, 2) := dk_21 6 (dk_at dksX8_meeting_1 11 rfl rfl)
theorem dX8_meeting_36 : decode cX8_meeting 36 = .ok (.invokevirtual 263, 3) := dk_182 1 7 (dk_at dksX8_meeting_1 13 rfl rfl)
theorem dX8_meeting_39 : decode cX8_meeting 39 = .ok (.istore 7, 2) := dk_54 7 (dk_at dksX8_meeting_1 16 rfl rfl)
theorem dX8_meeting_41 : decode cX8_meeting 41 = .ok (.aload_n 0, 1) := dk_42 (dk_at dksX8_meeting_1 18 rfl rfl)
theorem dX8_meeting_42 : decode cX8_meeting 42 = .ok (.iload 4, 2) := dk_21 4 (dk_at dksX8_meeting_1 19 rfl rfl)
theorem dX8_meeting_44 : decode cX8_meeting 44 = .ok (.iconst 2, 1) := dk_5 (dk_at dksX8_meeting_1 21 rfl rfl)
theorem dX8_meeting_45 : decode cX8_meeting 45 = .ok (.invokevirtual 257, 3) := dk_182 1 1 (dk_at dksX8_meeting_2 0 rfl rfl)
theorem dX8_meeting_48 : decode cX8_meeting 48 = .ok (.aload_n 0, 1) := dk_42 (dk_at dksX8_meeting_2 3 rfl rfl)
theorem dX8_meeting_49 : decode cX8_meeting 49 = .ok (.iload_n 3, 1) := dk_29 (dk_at dksX8_meeting_2 4 rfl rfl)
theorem dX8_meeting_50 : decode cX8_meeting 50 = .ok (.iconst 2, 1) := dk_5 (dk_at dksX8_meeting_2 5 rfl rfl)
theorem dX8_meeting_51 : decode cX8_meeting 51 = .ok (.invokevirtual 257, 3) := dk_182 1 1 (dk_at dksX8_meeting_2 6 rfl rfl)
theorem dX8_meeting_54 : decode cX8_meeting 54 = .ok (.if_icmp .ge 8, 3) := dk_162 0 8 (dk_at dksX8_meeting_2 9 rfl rfl)
theorem dX8_meeting_57 : decode cX8_meeting 57 = .ok (.iload 4, 2) := dk_21 4 (dk_at dksX8_meeting_2 12 rfl rfl)
theorem dX8_meeting_59 : decode cX8_meeting 59 = .ok (.goto 4, 3) := dk_167 0 4 (dk_at dksX8_meeting_2 14 rfl rfl)
theorem dX8_meeting_62 : decode cX8_meeting 62 = .ok (.iload_n 3, 1) := dk_29 (dk_at dksX8_meeting_2 17 rfl rfl)
theorem dX8_meeting_63 : decode cX8_meeting 63 = .ok (.istore 8, 2) := dk_54 8 (dk_at dksX8_meeting_2 18 rfl rfl)
theorem dX8_meeting_65 : decode cX8_meeting 65 = .ok (.iconst (-1), 1) := dk_2 (dk_at dksX8_meeting_2 20 rfl rfl)
theorem dX8_meeting_66 : decode cX8_meeting 66 = .ok (.istore 9, 2) := dk_54 9 (dk_at dksX8_meeting_2 21 rfl rfl)
theorem dX8_meeting_68 : decode cX8_meeting 68 = .ok (.iload 7, 2) := dk_21 7 (dk_at dksX8_meeting_3 0 rfl rfl)
theorem dX8_meeting_70 : decode cX8_meeting 70 = .ok (.ifCond .le 19, 3) := dk_158 0 19 (dk_at dksX8_meeting_3 2 rfl rfl)
theorem dX8_meeting_73 : decode cX8_meeting 73 = .ok (.aload_n 0, 1) := dk_42 (dk_at dksX8_meeting_3 5 rfl rfl)
theorem dX8_meeting_74 : decode cX8_meeting 74 = .ok (.iload 8, 2) := dk_21 8 (dk_at dksX8_meeting_3 6 rfl rfl)
theorem dX8_meeting_76 : decode cX8_meeting 76 = .ok (.invokevirtual 290, 3) := dk_182 1 34 (dk_at dksX8_meeting_3 8 rfl rfl)
theorem dX8_meeting_79 : decode cX8_meeting 79 = .ok (.ifCond .eq 10, 3) := dk_153 0 10 (dk_at dksX8_meeting_3 11 rfl rfl)
theorem dX8_meeting_82 : decode cX8_meeting 82 = .ok (.iload 8, 2) := dk_21 8 (dk_at dksX8_meeting_3 14 rfl rfl)
theorem dX8_meeting_84 : decode cX8_meeting 84 = .ok (.istore 9, 2) := dk_54 9 (dk_at dksX8_meeting_3 16 rfl rfl)
theorem dX8_meeting_86 : decode cX8_meeting 86 = .ok (.goto 31, 3) := dk_167 0 31 (dk_at dksX8_meeting_3 18 rfl rfl)
theorem dX8_meeting_89 : decode cX8_meeting 89 = .ok (.iload 7, 2) := dk_21 7 (dk_at dksX8_meeting_3 21 rfl rfl)
theorem dX8_meeting_91 : decode cX8_meeting 91 = .ok (.ifCond .le 26, 3) := dk_158 0 26 (dk_at dksX8_meeting_4 0 rfl rfl)
theorem dX8_meeting_94 : decode cX8_meeting 94 = .ok (.aload_n 0, 1) := dk_42 (dk_at dksX8_meeting_4 3 rfl rfl)
theorem dX8_meeting_95 : decode cX8_meeting 95 = .ok (.iload_n 3, 1) := dk_29 (dk_at dksX8_meeting_4 4 rfl rfl)
theorem dX8_meeting_96 : decode cX8_meeting 96 = .ok (.iload 4, 2) := dk_21 4 (dk_at dksX8_meeting_4 5 rfl rfl)
theorem dX8_meeting_98 : decode cX8_meeting 98 = .ok (.iadd, 1) := dk_96 (dk_at dksX8_meeting_4 7 rfl rfl)
theorem dX8_meeting_99 : decode cX8_meeting 99 = .ok (.iload 8, 2) := dk_21 8 (dk_at dksX8_meeting_4 8 rfl rfl)
theorem dX8_meeting_101 : decode cX8_meeting 101 = .ok (.isub, 1) := dk_100 (dk_at dksX8_meeting_4 10 rfl rfl)
theorem dX8_meeting_102 : decode cX8_meeting 102 = .ok (.invokevirtual 290, 3) := dk_182 1 34 (dk_at dksX8_meeting_4 11 rfl rfl)
theorem dX8_meeting_105 : decode cX8_meeting 105 = .ok (.ifCond .eq 12, 3) := dk_153 0 12 (dk_at dksX8_meeting_4 14 rfl rfl)
theorem dX8_meeting_108 : decode cX8_meeting 108 = .ok (.iload_n 3, 1) := dk_29 (dk_at dksX8_meeting_4 17 rfl rfl)
theorem dX8_meeting_109 : decode cX8_meeting 109 = .ok (.iload 4, 2) := dk_21 4 (dk_at dksX8_meeting_4 18 rfl rfl)
theorem dX8_meeting_111 : decode cX8_meeting 111 = .ok (.iadd, 1) := dk_96 (dk_at dksX8_meeting_4 20 rfl rfl)
theorem dX8_meeting_112 : decode cX8_meeting 112 = .ok (.iload 8, 2) := dk_21 8 (dk_at dksX8_meeting_4 21 rfl rfl)
theorem dX8_meeting_114 : decode cX8_meeting 114 = .ok (.isub, 1) := dk_100 (dk_at dksX8_meeting_4 23 rfl rfl)
theorem dX8_meeting_115 : decode cX8_meeting 115 = .ok (.istore 9, 2) := dk_54 9 (dk_at dksX8_meeting_5 0 rfl rfl)
theorem dX8_meeting_117 : decode cX8_meeting 117 = .ok (.iload 9, 2) := dk_21 9 (dk_at dksX8_meeting_5 2 rfl rfl)
theorem dX8_meeting_119 : decode cX8_meeting 119 = .ok (.iload_n 3, 1) := dk_29 (dk_at dksX8_meeting_5 4 rfl rfl)
theorem dX8_meeting_120 : decode cX8_meeting 120 = .ok (.if_icmp .ne 8, 3) := dk_160 0 8 (dk_at dksX8_meeting_5 5 rfl rfl)
theorem dX8_meeting_123 : decode cX8_meeting 123 = .ok (.iload 6, 2) := dk_21 6 (dk_at dksX8_meeting_5 8 rfl rfl)
theorem dX8_meeting_125 : decode cX8_meeting 125 = .ok (.goto 5, 3) := dk_167 0 5 (dk_at dksX8_meeting_5 10 rfl rfl)
theorem dX8_meeting_128 : decode cX8_meeting 128 = .ok (.iload 5, 2) := dk_21 5 (dk_at dksX8_meeting_5 13 rfl rfl)
theorem dX8_meeting_130 : decode cX8_meeting 130 = .ok (.istore 10, 2) := dk_54 10 (dk_at dksX8_meeting_5 15 rfl rfl)
theorem dX8_meeting_132 : decode cX8_meeting 132 = .ok (.iload 9, 2) := dk_21 9 (dk_at dksX8_meeting_5 17 rfl rfl)
theorem dX8_meeting_134 : decode cX8_meeting 134 = .ok (.iload 4, 2) := dk_21 4 (dk_at dksX8_meeting_5 19 rfl rfl)
theorem dX8_meeting_136 : decode cX8_meeting 136 = .ok (.if_icmp .ne 8, 3) := dk_160 0 8 (dk_at dksX8_meeting_5 21 rfl rfl)
theorem dX8_meeting_139 : decode cX8_meeting 139 = .ok (.iload 5, 2) := dk_21 5 (dk_at dksX8_meeting_6 0 rfl rfl)
theorem dX8_meeting_141 : decode cX8_meeting 141 = .ok (.goto 5, 3) := dk_167 0 5 (dk_at dksX8_meeting_6 2 rfl rfl)
theorem dX8_meeting_144 : decode cX8_meeting 144 = .ok (.iload 6, 2) := dk_21 6 (dk_at dksX8_meeting_6 5 rfl rfl)
theorem dX8_meeting_146 : decode cX8_meeting 146 = .ok (.istore 11, 2) := dk_54 11 (dk_at dksX8_meeting_6 7 rfl rfl)
theorem dX8_meeting_148 : decode cX8_meeting 148 = .ok (.iload 9, 2) := dk_21 9 (dk_at dksX8_meeting_6 9 rfl rfl)
theorem dX8_meeting_150 : decode cX8_meeting 150 = .ok (.iconst (-1), 1) := dk_2 (dk_at dksX8_meeting_6 11 rfl rfl)
theorem dX8_meeting_151 : decode cX8_meeting 151 = .ok (.if_icmp .ne 8, 3) := dk_160 0 8 (dk_at dksX8_meeting_6 12 rfl rfl)
theorem dX8_meeting_154 : decode cX8_meeting 154 = .ok (.iload 7, 2) := dk_21 7 (dk_at dksX8_meeting_6 15 rfl rfl)
theorem dX8_meeting_156 : decode cX8_meeting 156 = .ok (.goto 7, 3) := dk_167 0 7 (dk_at dksX8_meeting_6 17 rfl rfl)
theorem dX8_meeting_159 : decode cX8_meeting 159 = .ok (.iload 7, 2) := dk_21 7 (dk_at dksX8_meeting_6 20 rfl rfl)
theorem dX8_meeting_161 : decode cX8_meeting 161 = .ok (.iconst 2, 1) := dk_5 (dk_at dksX8_meeting_6 22 rfl rfl)
theorem dX8_meeting_162 : decode cX8_meeting 162 = .ok (.idiv, 1) := dk_108 (dk_at dksX8_meeting_6 23 rfl rfl)
theorem dX8_meeting_163 : decode cX8_meeting 163 = .ok (.istore 7, 2) := dk_54 7 (dk_at dksX8_meeting_7 0 rfl rfl)
theorem dX8_meeting_165 : decode cX8_meeting 165 = .ok (.aload_n 0, 1) := dk_42 (dk_at dksX8_meeting_7 2 rfl rfl)
theorem dX8_meeting_166 : decode cX8_meeting 166 = .ok (.iload_n 3, 1) := dk_29 (dk_at dksX8_meeting_7 3 rfl rfl)
theorem dX8_meeting_167 : decode cX8_meeting 167 = .ok (.iload 4, 2) := dk_21 4 (dk_at dksX8_meeting_7 4 rfl rfl)
theorem dX8_meeting_169 : decode cX8_meeting 169 = .ok (.iload 11, 2) := dk_21 11 (dk_at dksX8_meeting_7 6 rfl rfl)
theorem dX8_meeting_171 : decode cX8_meeting 171 = .ok (.invokevirtual 293, 3) := dk_182 1 37 (dk_at dksX8_meeting_7 8 rfl rfl)
theorem dX8_meeting_174 : decode cX8_meeting 174 = .ok (.aload_n 0, 1) := dk_42 (dk_at dksX8_meeting_7 11 rfl rfl)
theorem dX8_meeting_175 : decode cX8_meeting 175 = .ok (.iload 4, 2) := dk_21 4 (dk_at dksX8_meeting_7 12 rfl rfl)
theorem dX8_meeting_177 : decode cX8_meeting 177 = .ok (.iload_n 3, 1) := dk_29 (dk_at dksX8_meeting_7 14 rfl rfl)
theorem dX8_meeting_178 : decode cX8_meeting 178 = .ok (.iload 10, 2) := dk_21 10 (dk_at dksX8_meeting_7 15 rfl rfl)
theorem dX8_meeting_180 : decode cX8_meeting 180 = .ok (.invokevirtual 293, 3) := dk_182 1 37 (dk_at dksX8_meeting_7 17 rfl rfl)
theorem dX8_meeting_183 : decode cX8_meeting 183 = .ok (.aload_n 0, 1) := dk_42 (dk_at dksX8_meeting_7 20 rfl rfl)
theorem dX8_meeting_184 : decode cX8_meeting 184 = .ok (.iload_n 3, 1) := dk_29 (dk_at dksX8_meeting_7 21 rfl rfl)
theorem dX8_meeting_185 : decode cX8_meeting 185 = .ok (.iconst 4, 1) := dk_7 (dk_at dksX8_meeting_7 22 rfl rfl)
theorem dX8_meeting_186 : decode cX8_meeting 186 = .ok (.invokevirtual 257, 3) := dk_182 1 1 (dk_at dksX8_meeting_8 0 rfl rfl)
theorem dX8_meeting_189 : decode cX8_meeting 189 = .ok (.aload_n 0, 1) := dk_42 (dk_at dksX8_meeting_8 3 rfl rfl)
theorem dX8_meeting_190 : decode cX8_meeting 190 = .ok (.iload 4, 2) := dk_21 4 (dk_at dksX8_meeting_8 4 rfl rfl)
theorem dX8_meeting_192 : decode cX8_meeting 192 = .ok (.iconst 4, 1) := dk_7 (dk_at dksX8_meeting_8 6 rfl rfl)
theorem dX8_meeting_193 : decode cX8_meeting 193 = .ok (.invokevirtual 257, 3) := dk_182 1 1 (dk_at dksX8_meeting_8 7 rfl rfl)
theorem dX8_meeting_196 : decode cX8_meeting 196 = .ok (.iadd, 1) := dk_96 (dk_at dksX8_meeting_8 10 rfl rfl)
theorem dX8_meeting_197 : decode cX8_meeting 197 = .ok (.ifCond .le 32, 3) := dk_158 0 32 (dk_at dksX8_meeting_8 11 rfl rfl)
theorem dX8_meeting_200 : decode cX8_meeting 200 = .ok (.iload 10, 2) := dk_21 10 (dk_at dksX8_meeting_8 14 rfl rfl)
theorem dX8_meeting_202 : decode cX8_meeting 202 = .ok (.iconst 3, 1) := dk_6 (dk_at dksX8_meeting_8 16 rfl rfl)
theorem dX8_meeting_203 : decode cX8_meeting 203 = .ok (.ishr, 1) := dk_122 (dk_at dksX8_meeting_8 17 rfl rfl)
theorem dX8_meeting_204 : decode cX8_meeting 204 = .ok (.ifCond .eq 25, 3) := dk_153 0 25 (dk_at dksX8_meeting_8 18 rfl rfl)
theorem dX8_meeting_207 : decode cX8_meeting 207 = .ok (.iload 11, 2) := dk_21 11 (dk_at dksX8_meeting_8 21 rfl rfl)
theorem dX8_meeting_209 : decode cX8_meeting 209 = .ok (.iconst 3, 1) := dk_6 (dk_at dksX8_meeting_8 23 rfl rfl)
theorem dX8_meeting_210 : decode cX8_meeting 210 = .ok (.ishr, 1) := dk_122 (dk_at dksX8_meeting_9 0 rfl rfl)
theorem dX8_meeting_211 : decode cX8_meeting 211 = .ok (.ifCond .eq 18, 3) := dk_153 0 18 (dk_at dksX8_meeting_9 1 rfl rfl)
theorem dX8_meeting_214 : decode cX8_meeting 214 = .ok (.aload_n 0, 1) := dk_42 (dk_at dksX8_meeting_9 4 rfl rfl)
theorem dX8_meeting_215 : decode cX8_meeting 215 = .ok (.iload_n 3, 1) := dk_29 (dk_at dksX8_meeting_9 5 rfl rfl)
theorem dX8_meeting_216 : decode cX8_meeting 216 = .ok (.iconst 4, 1) := dk_7 (dk_at dksX8_meeting_9 6 rfl rfl)
theorem dX8_meeting_217 : decode cX8_meeting 217 = .ok (.iconst 1, 1) := dk_4 (dk_at dksX8_meeting_9 7 rfl rfl)
theorem dX8_meeting_218 : decode cX8_meeting 218 = .ok (.invokevirtual 141, 3) := dk_182 0 141 (dk_at dksX8_meeting_9 8 rfl rfl)
theorem dX8_meeting_221 : decode cX8_meeting 221 = .ok (.aload_n 0, 1) := dk_42 (dk_at dksX8_meeting_9 11 rfl rfl)
theorem dX8_meeting_222 : decode cX8_meeting 222 = .ok (.iload 4, 2) := dk_21 4 (dk_at dksX8_meeting_9 12 rfl rfl)
theorem dX8_meeting_224 : decode cX8_meeting 224 = .ok (.iconst 4, 1) := dk_7 (dk_at dksX8_meeting_9 14 rfl rfl)
theorem dX8_meeting_225 : decode cX8_meeting 225 = .ok (.iconst 1, 1) := dk_4 (dk_at dksX8_meeting_9 15 rfl rfl)
theorem dX8_meeting_226 : decode cX8_meeting 226 = .ok (.invokevirtual 141, 3) := dk_182 0 141 (dk_at dksX8_meeting_9 16 rfl rfl)
theorem dX8_meeting_229 : decode cX8_meeting 229 = .ok (.aload_n 0, 1) := dk_42 (dk_at dksX8_meeting_9 19 rfl rfl)
theorem dX8_meeting_230 : decode cX8_meeting 230 = .ok (.getfield 7, 3) := dk_180 0 7 (dk_at dksX8_meeting_9 20 rfl rfl)
theorem dX8_meeting_233 : decode cX8_meeting 233 = .ok (.bipush 8, 2) := dk_16 8 (dk_at dksX8_meeting_10 0 rfl rfl)
theorem dX8_meeting_235 : decode cX8_meeting 235 = .ok (.dup2, 1) := dk_92 (dk_at dksX8_meeting_10 2 rfl rfl)
theorem dX8_meeting_236 : decode cX8_meeting 236 = .ok (.iaload, 1) := dk_46 (dk_at dksX8_meeting_10 3 rfl rfl)
theorem dX8_meeting_237 : decode cX8_meeting 237 = .ok (.iconst 1, 1) := dk_4 (dk_at dksX8_meeting_10 4 rfl rfl)
theorem dX8_meeting_238 : decode cX8_meeting 238 = .ok (.iadd, 1) := dk_96 (dk_at dksX8_meeting_10 5 rfl rfl)
theorem dX8_meeting_239 : decode cX8_meeting 239 = .ok (.iastore, 1) := dk_79 (dk_at dksX8_meeting_10 6 rfl rfl)
theorem dX8_meeting_240 : decode cX8_meeting 240 = .ok (.aload_n 0, 1) := dk_42 (dk_at dksX8_meeting_10 7 rfl rfl)
theorem dX8_meeting_241 : decode cX8_meeting 241 = .ok (.getfield 7, 3) := dk_180 0 7 (dk_at dksX8_meeting_10 8 rfl rfl)
theorem dX8_meeting_244 : decode cX8_meeting 244 = .ok (.bipush 9, 2) := dk_16 9 (dk_at dksX8_meeting_10 11 rfl rfl)
theorem dX8_meeting_246 : decode cX8_meeting 246 = .ok (.dup2, 1) := dk_92 (dk_at dksX8_meeting_10 13 rfl rfl)
theorem dX8_meeting_247 : decode cX8_meeting 247 = .ok (.iaload, 1) := dk_46 (dk_at dksX8_meeting_10 14 rfl rfl)
theorem dX8_meeting_248 : decode cX8_meeting 248 = .ok (.iload 7, 2) := dk_21 7 (dk_at dksX8_meeting_10 15 rfl rfl)
theorem dX8_meeting_250 : decode cX8_meeting 250 = .ok (.iadd, 1) := dk_96 (dk_at dksX8_meeting_10 17 rfl rfl)
theorem dX8_meeting_251 : decode cX8_meeting 251 = .ok (.iastore, 1) := dk_79 (dk_at dksX8_meeting_10 18 rfl rfl)
theorem dX8_meeting_252 : decode cX8_meeting 252 = .ok (.aload_n 0, 1) := dk_42 (dk_at dksX8_meeting_10 19 rfl rfl)
theorem dX8_meeting_253 : decode cX8_meeting 253 = .ok (.getfield 7, 3) := dk_180 0 7 (dk_at dksX8_meeting_10 20 rfl rfl)
theorem dX8_meeting_256 : decode cX8_meeting 256 = .ok (.bipush 10, 2) := dk_16 10 (dk_at dksX8_meeting_11 0 rfl rfl)
theorem dX8_meeting_258 : decode cX8_meeting 258 = .ok (.dup2, 1) := dk_92 (dk_at dksX8_meeting_11 2 rfl rfl)
theorem dX8_meeting_259 : decode cX8_meeting 259 = .ok (.iaload, 1) := dk_46 (dk_at dksX8_meeting_11 3 rfl rfl)
theorem dX8_meeting_260 : decode cX8_meeting 260 = .ok (.iload 9, 2) := dk_21 9 (dk_at dksX8_meeting_11 4 rfl rfl)
theorem dX8_meeting_262 : decode cX8_meeting 262 = .ok (.iconst (-1), 1) := dk_2 (dk_at dksX8_meeting_11 6 rfl rfl)
theorem dX8_meeting_263 : decode cX8_meeting 263 = .ok (.if_icmp .ne 7, 3) := dk_160 0 7 (dk_at dksX8_meeting_11 7 rfl rfl)
theorem dX8_meeting_266 : decode cX8_meeting 266 = .ok (.iconst 0, 1) := dk_3 (dk_at dksX8_meeting_11 10 rfl rfl)
theorem dX8_meeting_267 : decode cX8_meeting 267 = .ok (.goto 4, 3) := dk_167 0 4 (dk_at dksX8_meeting_11 11 rfl rfl)
theorem dX8_meeting_270 : decode cX8_meeting 270 = .ok (.iconst 1, 1) := dk_4 (dk_at dksX8_meeting_11 14 rfl rfl)
theorem dX8_meeting_271 : decode cX8_meeting 271 = .ok (.iadd, 1) := dk_96 (dk_at dksX8_meeting_11 15 rfl rfl)
theorem dX8_meeting_272 : decode cX8_meeting 272 = .ok (.iastore, 1) := dk_79 (dk_at dksX8_meeting_11 16 rfl rfl)
theorem dX8_meeting_273 : decode cX8_meeting 273 = .ok (.aload_n 0, 1) := dk_42 (dk_at dksX8_meeting_11 17 rfl rfl)
theorem dX8_meeting_274 : decode cX8_meeting 274 = .ok (.getfield 7, 3) := dk_180 0 7 (dk_at dksX8_meeting_11 18 rfl rfl)
theorem dX8_meeting_277 : decode cX8_meeting 277 = .ok (.bipush 11, 2) := dk_16 11 (dk_at dksX8_meeting_11 21 rfl rfl)
theorem dX8_meeting_279 : decode cX8_meeting 279 = .ok (.dup2, 1) := dk_92 (dk_at dksX8_meeting_11 23 rfl rfl)
theorem dX8_meeting_280 : decode cX8_meeting 280 = .ok (.iaload, 1) := dk_46 (dk_at dksX8_meeting_12 0 rfl rfl)
theorem dX8_meeting_281 : decode cX8_meeting 281 = .ok (.iload 10, 2) := dk_21 10 (dk_at dksX8_meeting_12 1 rfl rfl)
theorem dX8_meeting_283 : decode cX8_meeting 283 = .ok (.invokestatic 70, 3) := dk_184 0 70 (dk_at dksX8_meeting_12 3 rfl rfl)
theorem dX8_meeting_286 : decode cX8_meeting 286 = .ok (.iload 11, 2) := dk_21 11 (dk_at dksX8_meeting_12 6 rfl rfl)
theorem dX8_meeting_288 : decode cX8_meeting 288 = .ok (.invokestatic 70, 3) := dk_184 0 70 (dk_at dksX8_meeting_12 8 rfl rfl)
theorem dX8_meeting_291 : decode cX8_meeting 291 = .ok (.invokestatic 287, 3) := dk_184 1 31 (dk_at dksX8_meeting_12 11 rfl rfl)
theorem dX8_meeting_294 : decode cX8_meeting 294 = .ok (.iadd, 1) := dk_96 (dk_at dksX8_meeting_12 14 rfl rfl)
theorem dX8_meeting_295 : decode cX8_meeting 295 = .ok (.iastore, 1) := dk_79 (dk_at dksX8_meeting_12 15 rfl rfl)
theorem dX8_meeting_296 : decode cX8_meeting 296 = .ok (.sipush 479, 3) := dk_17 1 223 (dk_at dksX8_meeting_12 16 rfl rfl)
theorem dX8_meeting_299 : decode cX8_meeting 299 = .ok (.istore 12, 2) := dk_54 12 (dk_at dksX8_meeting_12 19 rfl rfl)
theorem dX8_meeting_301 : decode cX8_meeting 301 = .ok (.iload 12, 2) := dk_21 12 (dk_at dksX8_meeting_12 21 rfl rfl)
theorem dX8_meeting_303 : decode cX8_meeting 303 = .ok (.bipush 8, 2) := dk_16 8 (dk_at dksX8_meeting_13 0 rfl rfl)
theorem dX8_meeting_305 : decode cX8_meeting 305 = .ok (.if_icmp .lt 34, 3) := dk_161 0 34 (dk_at dksX8_meeting_13 2 rfl rfl)
theorem dX8_meeting_308 : decode cX8_meeting 308 = .ok (.aload_n 0, 1) := dk_42 (dk_at dksX8_meeting_13 5 rfl rfl)
theorem dX8_meeting_309 : decode cX8_meeting 309 = .ok (.getfield 7, 3) := dk_180 0 7 (dk_at dksX8_meeting_13 6 rfl rfl)
theorem dX8_meeting_312 : decode cX8_meeting 312 = .ok (.sipush 420, 3) := dk_17 1 164 (dk_at dksX8_meeting_13 9 rfl rfl)
theorem dX8_meeting_315 : decode cX8_meeting 315 = .ok (.iload 12, 2) := dk_21 12 (dk_at dksX8_meeting_13 12 rfl rfl)
theorem dX8_meeting_317 : decode cX8_meeting 317 = .ok (.iadd, 1) := dk_96 (dk_at dksX8_meeting_13 14 rfl rfl)
theorem dX8_meeting_318 : decode cX8_meeting 318 = .ok (.aload_n 0, 1) := dk_42 (dk_at dksX8_meeting_13 15 rfl rfl)
theorem dX8_meeting_319 : decode cX8_meeting 319 = .ok (.getfield 7, 3) := dk_180 0 7 (dk_at dksX8_meeting_13 16 rfl rfl)
theorem dX8_meeting_322 : decode cX8_meeting 322 = .ok (.sipush 420, 3) := dk_17 1 164 (dk_at dksX8_meeting_13 19 rfl rfl)
theorem dX8_meeting_325 : decode cX8_meeting 325 = .ok (.iload 12, 2) := dk_21 12 (dk_at dksX8_meeting_13 22 rfl rfl)
theorem dX8_meeting_327 : decode cX8_meeting 327 = .ok (.iadd, 1) := dk_96 (dk_at dksX8_meeting_14 0 rfl rfl)
theorem dX8_meeting_328 : decode cX8_meeting 328 = .ok (.bipush 8, 2) := dk_16 8 (dk_at dksX8_meeting_14 1 rfl rfl)
theorem dX8_meeting_330 : decode cX8_meeting 330 = .ok (.isub, 1) := dk_100 (dk_at dksX8_meeting_14 3 rfl rfl)
theorem dX8_meeting_331 : decode cX8_meeting 331 = .ok (.iaload, 1) := dk_46 (dk_at dksX8_meeting_14 4 rfl rfl)
theorem dX8_meeting_332 : decode cX8_meeting 332 = .ok (.iastore, 1) := dk_79 (dk_at dksX8_meeting_14 5 rfl rfl)
theorem dX8_meeting_333 : decode cX8_meeting 333 = .ok (.iinc 12 (-1), 3) := dk_132 12 255 (dk_at dksX8_meeting_14 6 rfl rfl)
theorem dX8_meeting_336 : decode cX8_meeting 336 = .ok (.goto (-35), 3) := dk_167 255 221 (dk_at dksX8_meeting_14 9 rfl rfl)
theorem dX8_meeting_339 : decode cX8_meeting 339 = .ok (.aload_n 0, 1) := dk_42 (dk_at dksX8_meeting_14 12 rfl rfl)
theorem dX8_meeting_340 : decode cX8_meeting 340 = .ok (.getfield 7, 3) := dk_180 0 7 (dk_at dksX8_meeting_14 13 rfl rfl)
theorem dX8_meeting_343 : decode cX8_meeting 343 = .ok (.sipush 420, 3) := dk_17 1 164 (dk_at dksX8_meeting_14 16 rfl rfl)
theorem dX8_meeting_346 : decode cX8_meeting 346 = .ok (.aload_n 0, 1) := dk_42 (dk_at dksX8_meeting_14 19 rfl rfl)
theorem dX8_meeting_347 : decode cX8_meeting 347 = .ok (.getfield 7, 3) := dk_180 0 7 (dk_at dksX8_meeting_14 20 rfl rfl)
theorem dX8_meeting_350 : decode cX8_meeting 350 = .ok (.bipush 7, 2) := dk_16 7 (dk_at dksX8_meeting_15 0 rfl rfl)
theorem dX8_meeting_352 : decode cX8_meeting 352 = .ok (.iaload, 1) := dk_46 (dk_at dksX8_meeting_15 2 rfl rfl)
theorem dX8_meeting_353 : decode cX8_meeting 353 = .ok (.iastore, 1) := dk_79 (dk_at dksX8_meeting_15 3 rfl rfl)
theorem dX8_meeting_354 : decode cX8_meeting 354 = .ok (.aload_n 0, 1) := dk_42 (dk_at dksX8_meeting_15 4 rfl rfl)
theorem dX8_meeting_355 : decode cX8_meeting 355 = .ok (.getfield 7, 3) := dk_180 0 7 (dk_at dksX8_meeting_15 5 rfl rfl)
theorem dX8_meeting_358 : decode cX8_meeting 358 = .ok (.sipush 421, 3) := dk_17 1 165 (dk_at dksX8_meeting_15 8 rfl rfl)
theorem dX8_meeting_361 : decode cX8_meeting 361 = .ok (.iload_n 3, 1) := dk_29 (dk_at dksX8_meeting_15 11 rfl rfl)
theorem dX8_meeting_362 : decode cX8_meeting 362 = .ok (.iastore, 1) := dk_79 (dk_at dksX8_meeting_15 12 rfl rfl)
theorem dX8_meeting_363 : decode cX8_meeting 363 = .ok (.aload_n 0, 1) := dk_42 (dk_at dksX8_meeting_15 13 rfl rfl)
theorem dX8_meeting_364 : decode cX8_meeting 364 = .ok (.getfield 7, 3) := dk_180 0 7 (dk_at dksX8_meeting_15 14 rfl rfl)
theorem dX8_meeting_367 : decode cX8_meeting 367 = .ok (.sipush 422, 3) := dk_17 1 166 (dk_at dksX8_meeting_15 17 rfl rfl)
theorem dX8_meeting_370 : decode cX8_meeting 370 = .ok (.iload 4, 2) := dk_21 4 (dk_at dksX8_meeting_15 20 rfl rfl)
theorem dX8_meeting_372 : decode cX8_meeting 372 = .ok (.iastore, 1) := dk_79 (dk_at dksX8_meeting_15 22 rfl rfl)
theorem dX8_meeting_373 : decode cX8_meeting 373 = .ok (.aload_n 0, 1) := dk_42 (dk_at dksX8_meeting_15 23 rfl rfl)
theorem dX8_meeting_374 : decode cX8_meeting 374 = .ok (.getfield 7, 3) := dk_180 0 7 (dk_at dksX8_meeting_16 0 rfl rfl)
theorem dX8_meeting_377 : decode cX8_meeting 377 = .ok (.sipush 423, 3) := dk_17 1 167 (dk_at dksX8_meeting_16 3 rfl rfl)
theorem dX8_meeting_380 : decode cX8_meeting 380 = .ok (.iload 5, 2) := dk_21 5 (dk_at dksX8_meeting_16 6 rfl rfl)
theorem dX8_meeting_382 : decode cX8_meeting 382 = .ok (.iastore, 1) := dk_79 (dk_at dksX8_meeting_16 8 rfl rfl)
theorem dX8_meeting_383 : decode cX8_meeting 383 = .ok (.aload_n 0, 1) := dk_42 (dk_at dksX8_meeting_16 9 rfl rfl)
theorem dX8_meeting_384 : decode cX8_meeting 384 = .ok (.getfield 7, 3) := dk_180 0 7 (dk_at dksX8_meeting_16 10 rfl rfl)
theorem dX8_meeting_387 : decode cX8_meeting 387 = .ok (.sipush 424, 3) := dk_17 1 168 (dk_at dksX8_meeting_16 13 rfl rfl)
theorem dX8_meeting_390 : decode cX8_meeting 390 = .ok (.iload 6, 2) := dk_21 6 (dk_at dksX8_meeting_16 16 rfl rfl)
theorem dX8_meeting_392 : decode cX8_meeting 392 = .ok (.iastore, 1) := dk_79 (dk_at dksX8_meeting_16 18 rfl rfl)
theorem dX8_meeting_393 : decode cX8_meeting 393 = .ok (.aload_n 0, 1) := dk_42 (dk_at dksX8_meeting_16 19 rfl rfl)
theorem dX8_meeting_394 : decode cX8_meeting 394 = .ok (.getfield 7, 3) := dk_180 0 7 (dk_at dksX8_meeting_16 20 rfl rfl)
theorem dX8_meeting_397 : decode cX8_meeting 397 = .ok (.sipush 425, 3) := dk_17 1 169 (dk_at dksX8_meeting_17 0 rfl rfl)
theorem dX8_meeting_400 : decode cX8_meeting 400 = .ok (.iload 10, 2) := dk_21 10 (dk_at dksX8_meeting_17 3 rfl rfl)
theorem dX8_meeting_402 : decode cX8_meeting 402 = .ok (.iastore, 1) := dk_79 (dk_at dksX8_meeting_17 5 rfl rfl)
theorem dX8_meeting_403 : decode cX8_meeting 403 = .ok (.aload_n 0, 1) := dk_42 (dk_at dksX8_meeting_17 6 rfl rfl)
theorem dX8_meeting_404 : decode cX8_meeting 404 = .ok (.getfield 7, 3) := dk_180 0 7 (dk_at dksX8_meeting_17 7 rfl rfl)
theorem dX8_meeting_407 : decode cX8_meeting 407 = .ok (.sipush 426, 3) := dk_17 1 170 (dk_at dksX8_meeting_17 10 rfl rfl)
theorem dX8_meeting_410 : decode cX8_meeting 410 = .ok (.iload 11, 2) := dk_21 11 (dk_at dksX8_meeting_17 13 rfl rfl)
theorem dX8_meeting_412 : decode cX8_meeting 412 = .ok (.iastore, 1) := dk_79 (dk_at dksX8_meeting_17 15 rfl rfl)
theorem dX8_meeting_413 : decode cX8_meeting 413 = .ok (.aload_n 0, 1) := dk_42 (dk_at dksX8_meeting_17 16 rfl rfl)
theorem dX8_meeting_414 : decode cX8_meeting 414 = .ok (.getfield 7, 3) := dk_180 0 7 (dk_at dksX8_meeting_17 17 rfl rfl)
theorem dX8_meeting_417 : decode cX8_meeting 417 = .ok (.sipush 427, 3) := dk_17 1 171 (dk_at dksX8_meeting_17 20 rfl rfl)
theorem dX8_meeting_420 : decode cX8_meeting 420 = .ok (.iload 7, 2) := dk_21 7 (dk_at dksX8_meeting_18 0 rfl rfl)
theorem dX8_meeting_422 : decode cX8_meeting 422 = .ok (.iastore, 1) := dk_79 (dk_at dksX8_meeting_18 2 rfl rfl)
theorem dX8_meeting_423 : decode cX8_meeting 423 = .ok (.aload_n 0, 1) := dk_42 (dk_at dksX8_meeting_18 3 rfl rfl)
theorem dX8_meeting_424 : decode cX8_meeting 424 = .ok (.getfield 7, 3) := dk_180 0 7 (dk_at dksX8_meeting_18 4 rfl rfl)
theorem dX8_meeting_427 : decode cX8_meeting 427 = .ok (.bipush 12, 2) := dk_16 12 (dk_at dksX8_meeting_18 7 rfl rfl)
theorem dX8_meeting_429 : decode cX8_meeting 429 = .ok (.bipush 60, 2) := dk_16 60 (dk_at dksX8_meeting_18 9 rfl rfl)
theorem dX8_meeting_431 : decode cX8_meeting 431 = .ok (.aload_n 0, 1) := dk_42 (dk_at dksX8_meeting_18 11 rfl rfl)
theorem dX8_meeting_432 : decode cX8_meeting 432 = .ok (.getfield 7, 3) := dk_180 0 7 (dk_at dksX8_meeting_18 12 rfl rfl)
theorem dX8_meeting_435 : decode cX8_meeting 435 = .ok (.bipush 12, 2) := dk_16 12 (dk_at dksX8_meeting_18 15 rfl rfl)
theorem dX8_meeting_437 : decode cX8_meeting 437 = .ok (.iaload, 1) := dk_46 (dk_at dksX8_meeting_18 17 rfl rfl)
theorem dX8_meeting_438 : decode cX8_meeting 438 = .ok (.iconst 1, 1) := dk_4 (dk_at dksX8_meeting_18 18 rfl rfl)
theorem dX8_meeting_439 : decode cX8_meeting 439 = .ok (.iadd, 1) := dk_96 (dk_at dksX8_meeting_18 19 rfl rfl)
theorem dX8_meeting_440 : decode cX8_meeting 440 = .ok (.invokestatic 284, 3) := dk_184 1 28 (dk_at dksX8_meeting_18 20 rfl rfl)
theorem dX8_meeting_443 : decode cX8_meeting 443 = .ok (.iastore, 1) := dk_79 (dk_at dksX8_meeting_18 23 rfl rfl)
theorem dX8_meeting_444 : decode cX8_meeting 444 = .ok (.iload 7, 2) := dk_21 7 (dk_at dksX8_meeting_19 0 rfl rfl)
theorem dX8_meeting_446 : decode cX8_meeting 446 = .ok (.ireturn, 1) := dk_172 (dk_at dksX8_meeting_19 2 rfl rfl)
abbrev cX8_lesser : ByteArray := prog_23_method_4_code
def yX8_lesser : MethodName := ⟨RX8, "lesser", "(II)I"⟩
def dkwX8_lesser_0 : List UInt8 := [26, 27, 162, 0, 7, 26, 167, 0, 4, 27, 172]
abbrev dktX8_lesser_0 : List UInt8 := dkwX8_lesser_0 ++ []
theorem dksX8_lesser_0 : cX8_lesser.data.toList.drop 0 = dktX8_lesser_0 := by decide +kernel
theorem dX8_lesser_0 : decode cX8_lesser 0 = .ok (.iload_n 0, 1) := dk_26 (dk_at dksX8_lesser_0 0 rfl rfl)
theorem dX8_lesser_1 : decode cX8_lesser 1 = .ok (.iload_n 1, 1) := dk_27 (dk_at dksX8_lesser_0 1 rfl rfl)
theorem dX8_lesser_2 : decode cX8_lesser 2 = .ok (.if_icmp .ge 7, 3) := dk_162 0 7 (dk_at dksX8_lesser_0 2 rfl rfl)
theorem dX8_lesser_5 : decode cX8_lesser 5 = .ok (.iload_n 0, 1) := dk_26 (dk_at dksX8_lesser_0 5 rfl rfl)
theorem dX8_lesser_6 : decode cX8_lesser 6 = .ok (.goto 4, 3) := dk_167 0 4 (dk_at dksX8_lesser_0 6 rfl rfl)
theorem dX8_lesser_9 : decode cX8_lesser 9 = .ok (.iload_n 1, 1) := dk_27 (dk_at dksX8_lesser_0 9 rfl rfl)
theorem dX8_lesser_10 : decode cX8_lesser 10 = .ok (.ireturn, 1) := dk_172 (dk_at dksX8_lesser_0 10 rfl rfl)
abbrev cX8_greater : ByteArray := prog_23_method_5_code
def yX8_greater : MethodName := ⟨RX8, "greater", "(II)I"⟩
def dkwX8_greater_0 : List UInt8 := [26, 27, 164, 0, 7, 26, 167, 0, 4, 27, 172]
abbrev dktX8_greater_0 : List UInt8 := dkwX8_greater_0 ++ []
theorem dksX8_greater_0 : cX8_greater.data.toList.drop 0 = dktX8_greater_0 := by decide +kernel
theorem dX8_greater_0 : decode cX8_greater 0 = .ok (.iload_n 0, 1) := dk_26 (dk_at dksX8_greater_0 0 rfl rfl)
theorem dX8_greater_1 : decode cX8_greater 1 = .ok (.iload_n 1, 1) := dk_27 (dk_at dksX8_greater_0 1 rfl rfl)
theorem dX8_greater_2 : decode cX8_greater 2 = .ok (.if_icmp .le 7, 3) := dk_164 0 7 (dk_at dksX8_greater_0 2 rfl rfl)
theorem dX8_greater_5 : decode cX8_greater 5 = .ok (.iload_n 0, 1) := dk_26 (dk_at dksX8_greater_0 5 rfl rfl)
theorem dX8_greater_6 : decode cX8_greater 6 = .ok (.goto 4, 3) := dk_167 0 4 (dk_at dksX8_greater_0 6 rfl rfl)
theorem dX8_greater_9 : decode cX8_greater 9 = .ok (.iload_n 1, 1) := dk_27 (dk_at dksX8_greater_0 9 rfl rfl)
theorem dX8_greater_10 : decode cX8_greater 10 = .ok (.ireturn, 1) := dk_172 (dk_at dksX8_greater_0 10 rfl rfl)
abbrev cX8_isBent : ByteArray := prog_23_method_60_code
def yX8_isBent : MethodName := ⟨RX8, "isBent", "(I)Z"⟩
def dkwX8_isBent_2 : List UInt8 := [162, 0, 7, 4, 167, 0, 4, 3, 172]
abbrev dktX8_isBent_2 : List UInt8 := dkwX8_isBent_2 ++ []
def dkwX8_isBent_1 : List UInt8 := [180, 0, 7, 16, 16, 46, 16, 16, 124, 17, 127, 255, 126, 16, 100, 112, 42, 27, 6, 182, 1, 1]
abbrev dktX8_isBent_1 : List UInt8 := dkwX8_isBent_1 ++ dktX8_isBent_2
def dkwX8_isBent_0 : List UInt8 := [42, 180, 0, 7, 16, 16, 19, 1, 27, 42, 180, 0, 7, 16, 16, 46, 104, 17, 48, 57, 96, 79, 42]
abbrev dktX8_isBent_0 : List UInt8 := dkwX8_isBent_0 ++ dktX8_isBent_1
theorem dksX8_isBent_0 : cX8_isBent.data.toList.drop 0 = dktX8_isBent_0 := by decide +kernel
theorem dksX8_isBent_1 : cX8_isBent.data.toList.drop 23 = dktX8_isBent_1 := dk_seg dksX8_isBent_0 23 rfl rfl
theorem dksX8_isBent_2 : cX8_isBent.data.toList.drop 45 = dktX8_isBent_2 := dk_seg dksX8_isBent_1 22 rfl rfl
theorem dX8_isBent_0 : decode cX8_isBent 0 = .ok (.aload_n 0, 1) := dk_42 (dk_at dksX8_isBent_0 0 rfl rfl)
theorem dX8_isBent_1 : decode cX8_isBent 1 = .ok (.getfield 7, 3) := dk_180 0 7 (dk_at dksX8_isBent_0 1 rfl rfl)
theorem dX8_isBent_4 : decode cX8_isBent 4 = .ok (.bipush 16, 2) := dk_16 16 (dk_at dksX8_isBent_0 4 rfl rfl)
theorem dX8_isBent_6 : decode cX8_isBent 6 = .ok (.ldc_w 283, 3) := dk_19 1 27 (dk_at dksX8_isBent_0 6 rfl rfl)
theorem dX8_isBent_9 : decode cX8_isBent 9 = .ok (.aload_n 0, 1) := dk_42 (dk_at dksX8_isBent_0 9 rfl rfl)
theorem dX8_isBent_10 : decode cX8_isBent 10 = .ok (.getfield 7, 3) := dk_180 0 7 (dk_at dksX8_isBent_0 10 rfl rfl)
theorem dX8_isBent_13 : decode cX8_isBent 13 = .ok (.bipush 16, 2) := dk_16 16 (dk_at dksX8_isBent_0 13 rfl rfl)
theorem dX8_isBent_15 : decode cX8_isBent 15 = .ok (.iaload, 1) := dk_46 (dk_at dksX8_isBent_0 15 rfl rfl)
theorem dX8_isBent_16 : decode cX8_isBent 16 = .ok (.imul, 1) := dk_104 (dk_at dksX8_isBent_0 16 rfl rfl)
theorem dX8_isBent_17 : decode cX8_isBent 17 = .ok (.sipush 12345, 3) := dk_17 48 57 (dk_at dksX8_isBent_0 17 rfl rfl)
theorem dX8_isBent_20 : decode cX8_isBent 20 = .ok (.iadd, 1) := dk_96 (dk_at dksX8_isBent_0 20 rfl rfl)
theorem dX8_isBent_21 : decode cX8_isBent 21 = .ok (.iastore, 1) := dk_79 (dk_at dksX8_isBent_0 21 rfl rfl)
theorem dX8_isBent_22 : decode cX8_isBent 22 = .ok (.aload_n 0, 1) := dk_42 (dk_at dksX8_isBent_0 22 rfl rfl)
theorem dX8_isBent_23 : decode cX8_isBent 23 = .ok (.getfield 7, 3) := dk_180 0 7 (dk_at dksX8_isBent_1 0 rfl rfl)
theorem dX8_isBent_26 : decode cX8_isBent 26 = .ok (.bipush 16, 2) := dk_16 16 (dk_at dksX8_isBent_1 3 rfl rfl)
theorem dX8_isBent_28 : decode cX8_isBent 28 = .ok (.iaload, 1) := dk_46 (dk_at dksX8_isBent_1 5 rfl rfl)
theorem dX8_isBent_29 : decode cX8_isBent 29 = .ok (.bipush 16, 2) := dk_16 16 (dk_at dksX8_isBent_1 6 rfl rfl)
theorem dX8_isBent_31 : decode cX8_isBent 31 = .ok (.iushr, 1) := dk_124 (dk_at dksX8_isBent_1 8 rfl rfl)
theorem dX8_isBent_32 : decode cX8_isBent 32 = .ok (.sipush 32767, 3) := dk_17 127 255 (dk_at dksX8_isBent_1 9 rfl rfl)
theorem dX8_isBent_35 : decode cX8_isBent 35 = .ok (.iand, 1) := dk_126 (dk_at dksX8_isBent_1 12 rfl rfl)
theorem dX8_isBent_36 : decode cX8_isBent 36 = .ok (.bipush 100, 2) := dk_16 100 (dk_at dksX8_isBent_1 13 rfl rfl)
theorem dX8_isBent_38 : decode cX8_isBent 38 = .ok (.irem, 1) := dk_112 (dk_at dksX8_isBent_1 15 rfl rfl)
theorem dX8_isBent_39 : decode cX8_isBent 39 = .ok (.aload_n 0, 1) := dk_42 (dk_at dksX8_isBent_1 16 rfl rfl)
theorem dX8_isBent_40 : decode cX8_isBent 40 = .ok (.iload_n 1, 1) := dk_27 (dk_at dksX8_isBent_1 17 rfl rfl)
theorem dX8_isBent_41 : decode cX8_isBent 41 = .ok (.iconst 3, 1) := dk_6 (dk_at dksX8_isBent_1 18 rfl rfl)
theorem dX8_isBent_42 : decode cX8_isBent 42 = .ok (.invokevirtual 257, 3) := dk_182 1 1 (dk_at dksX8_isBent_1 19 rfl rfl)
theorem dX8_isBent_45 : decode cX8_isBent 45 = .ok (.if_icmp .ge 7, 3) := dk_162 0 7 (dk_at dksX8_isBent_2 0 rfl rfl)
theorem dX8_isBent_48 : decode cX8_isBent 48 = .ok (.iconst 1, 1) := dk_4 (dk_at dksX8_isBent_2 3 rfl rfl)
theorem dX8_isBent_49 : decode cX8_isBent 49 = .ok (.goto 4, 3) := dk_167 0 4 (dk_at dksX8_isBent_2 4 rfl rfl)
theorem dX8_isBent_52 : decode cX8_isBent 52 = .ok (.iconst 0, 1) := dk_3 (dk_at dksX8_isBent_2 7 rfl rfl)
theorem dX8_isBent_53 : decode cX8_isBent 53 = .ok (.ireturn, 1) := dk_172 (dk_at dksX8_isBent_2 8 rfl rfl)
abbrev cX8_sees : ByteArray := prog_23_method_61_code
def yX8_sees : MethodName := ⟨RX8, "sees", "(III)V"⟩
def dkwX8_sees_3 : List UInt8 := [182, 0, 141, 42, 27, 8, 42, 27, 8, 182, 1, 1, 4, 96, 182, 0, 141, 177]
abbrev dktX8_sees_3 : List UInt8 := dkwX8_sees_3 ++ []
def dkwX8_sees_2 : List UInt8 := [4, 29, 182, 0, 141, 42, 27, 16, 7, 42, 27, 16, 6, 182, 1, 1, 182, 0, 141, 42, 27, 16, 6, 29]
abbrev dktX8_sees_2 : List UInt8 := dkwX8_sees_2 ++ dktX8_sees_3
def dkwX8_sees_1 : List UInt8 := [42, 27, 16, 6, 182, 1, 1, 29, 160, 0, 21, 42, 27, 16, 7, 182, 1, 1, 29, 160, 0, 10, 42, 27]
abbrev dktX8_sees_1 : List UInt8 := dkwX8_sees_1 ++ dktX8_sees_2
def dkwX8_sees_0 : List UInt8 := [42, 27, 28, 42, 180, 0, 7, 17, 0, 172, 16, 10, 27, 104, 96, 28, 96, 46, 4, 96, 29, 182, 0, 144]
abbrev dktX8_sees_0 : List UInt8 := dkwX8_sees_0 ++ dktX8_sees_1
theorem dksX8_sees_0 : cX8_sees.data.toList.drop 0 = dktX8_sees_0 := by decide +kernel
theorem dksX8_sees_1 : cX8_sees.data.toList.drop 24 = dktX8_sees_1 := dk_seg dksX8_sees_0 24 rfl rfl
theorem dksX8_sees_2 : cX8_sees.data.toList.drop 48 = dktX8_sees_2 := dk_seg dksX8_sees_1 24 rfl rfl
theorem dksX8_sees_3 : cX8_sees.data.toList.drop 72 = dktX8_sees_3 := dk_seg dksX8_sees_2 24 rfl rfl
theorem dX8_sees_0 : decode cX8_sees 0 = .ok (.aload_n 0, 1) := dk_42 (dk_at dksX8_sees_0 0 rfl rfl)
theorem dX8_sees_1 : decode cX8_sees 1 = .ok (.iload_n 1, 1) := dk_27 (dk_at dksX8_sees_0 1 rfl rfl)
theorem dX8_sees_2 : decode cX8_sees 2 = .ok (.iload_n 2, 1) := dk_28 (dk_at dksX8_sees_0 2 rfl rfl)
theorem dX8_sees_3 : decode cX8_sees 3 = .ok (.aload_n 0, 1) := dk_42 (dk_at dksX8_sees_0 3 rfl rfl)
theorem dX8_sees_4 : decode cX8_sees 4 = .ok (.getfield 7, 3) := dk_180 0 7 (dk_at dksX8_sees_0 4 rfl rfl)
theorem dX8_sees_7 : decode cX8_sees 7 = .ok (.sipush 172, 3) := dk_17 0 172 (dk_at dksX8_sees_0 7 rfl rfl)
theorem dX8_sees_10 : decode cX8_sees 10 = .ok (.bipush 10, 2) := dk_16 10 (dk_at dksX8_sees_0 10 rfl rfl)
theorem dX8_sees_12 : decode cX8_sees 12 = .ok (.iload_n 1, 1) := dk_27 (dk_at dksX8_sees_0 12 rfl rfl)
theorem dX8_sees_13 : decode cX8_sees 13 = .ok (.imul, 1) := dk_104 (dk_at dksX8_sees_0 13 rfl rfl)
theorem dX8_sees_14 : decode cX8_sees 14 = .ok (.iadd, 1) := dk_96 (dk_at dksX8_sees_0 14 rfl rfl)
theorem dX8_sees_15 : decode cX8_sees 15 = .ok (.iload_n 2, 1) := dk_28 (dk_at dksX8_sees_0 15 rfl rfl)
theorem dX8_sees_16 : decode cX8_sees 16 = .ok (.iadd, 1) := dk_96 (dk_at dksX8_sees_0 16 rfl rfl)
theorem dX8_sees_17 : decode cX8_sees 17 = .ok (.iaload, 1) := dk_46 (dk_at dksX8_sees_0 17 rfl rfl)
theorem dX8_sees_18 : decode cX8_sees 18 = .ok (.iconst 1, 1) := dk_4 (dk_at dksX8_sees_0 18 rfl rfl)
theorem dX8_sees_19 : decode cX8_sees 19 = .ok (.iadd, 1) := dk_96 (dk_at dksX8_sees_0 19 rfl rfl)
theorem dX8_sees_20 : decode cX8_sees 20 = .ok (.iload_n 3, 1) := dk_29 (dk_at dksX8_sees_0 20 rfl rfl)
theorem dX8_sees_21 : decode cX8_sees 21 = .ok (.invokevirtual 144, 3) := dk_182 0 144 (dk_at dksX8_sees_0 21 rfl rfl)
theorem dX8_sees_24 : decode cX8_sees 24 = .ok (.aload_n 0, 1) := dk_42 (dk_at dksX8_sees_1 0 rfl rfl)
theorem dX8_sees_25 : decode cX8_sees 25 = .ok (.iload_n 1, 1) := dk_27 (dk_at dksX8_sees_1 1 rfl rfl)
theorem dX8_sees_26 : decode cX8_sees 26 = .ok (.bipush 6, 2) := dk_16 6 (dk_at dksX8_sees_1 2 rfl rfl)
theorem dX8_sees_28 : decode cX8_sees 28 = .ok (.invokevirtual 257, 3) := dk_182 1 1 (dk_at dksX8_sees_1 4 rfl rfl)
theorem dX8_sees_31 : decode cX8_sees 31 = .ok (.iload_n 3, 1) := dk_29 (dk_at dksX8_sees_1 7 rfl rfl)
theorem dX8_sees_32 : decode cX8_sees 32 = .ok (.if_icmp .ne 21, 3) := dk_160 0 21 (dk_at dksX8_sees_1 8 rfl rfl)
theorem dX8_sees_35 : decode cX8_sees 35 = .ok (.aload_n 0, 1) := dk_42 (dk_at dksX8_sees_1 11 rfl rfl)
theorem dX8_sees_36 : decode cX8_sees 36 = .ok (.iload_n 1, 1) := dk_27 (dk_at dksX8_sees_1 12 rfl rfl)
theorem dX8_sees_37 : decode cX8_sees 37 = .ok (.bipush 7, 2) := dk_16 7 (dk_at dksX8_sees_1 13 rfl rfl)
theorem dX8_sees_39 : decode cX8_sees 39 = .ok (.invokevirtual 257, 3) := dk_182 1 1 (dk_at dksX8_sees_1 15 rfl rfl)
theorem dX8_sees_42 : decode cX8_sees 42 = .ok (.iload_n 3, 1) := dk_29 (dk_at dksX8_sees_1 18 rfl rfl)
theorem dX8_sees_43 : decode cX8_sees 43 = .ok (.if_icmp .ne 10, 3) := dk_160 0 10 (dk_at dksX8_sees_1 19 rfl rfl)
theorem dX8_sees_46 : decode cX8_sees 46 = .ok (.aload_n 0, 1) := dk_42 (dk_at dksX8_sees_1 22 rfl rfl)
theorem dX8_sees_47 : decode cX8_sees 47 = .ok (.iload_n 1, 1) := dk_27 (dk_at dksX8_sees_1 23 rfl rfl)
theorem dX8_sees_48 : decode cX8_sees 48 = .ok (.iconst 1, 1) := dk_4 (dk_at dksX8_sees_2 0 rfl rfl)
theorem dX8_sees_49 : decode cX8_sees 49 = .ok (.iload_n 3, 1) := dk_29 (dk_at dksX8_sees_2 1 rfl rfl)
theorem dX8_sees_50 : decode cX8_sees 50 = .ok (.invokevirtual 141, 3) := dk_182 0 141 (dk_at dksX8_sees_2 2 rfl rfl)
theorem dX8_sees_53 : decode cX8_sees 53 = .ok (.aload_n 0, 1) := dk_42 (dk_at dksX8_sees_2 5 rfl rfl)
theorem dX8_sees_54 : decode cX8_sees 54 = .ok (.iload_n 1, 1) := dk_27 (dk_at dksX8_sees_2 6 rfl rfl)
theorem dX8_sees_55 : decode cX8_sees 55 = .ok (.bipush 7, 2) := dk_16 7 (dk_at dksX8_sees_2 7 rfl rfl)
theorem dX8_sees_57 : decode cX8_sees 57 = .ok (.aload_n 0, 1) := dk_42 (dk_at dksX8_sees_2 9 rfl rfl)
theorem dX8_sees_58 : decode cX8_sees 58 = .ok (.iload_n 1, 1) := dk_27 (dk_at dksX8_sees_2 10 rfl rfl)
theorem dX8_sees_59 : decode cX8_sees 59 = .ok (.bipush 6, 2) := dk_16 6 (dk_at dksX8_sees_2 11 rfl rfl)
theorem dX8_sees_61 : decode cX8_sees 61 = .ok (.invokevirtual 257, 3) := dk_182 1 1 (dk_at dksX8_sees_2 13 rfl rfl)
theorem dX8_sees_64 : decode cX8_sees 64 = .ok (.invokevirtual 141, 3) := dk_182 0 141 (dk_at dksX8_sees_2 16 rfl rfl)
theorem dX8_sees_67 : decode cX8_sees 67 = .ok (.aload_n 0, 1) := dk_42 (dk_at dksX8_sees_2 19 rfl rfl)
theorem dX8_sees_68 : decode cX8_sees 68 = .ok (.iload_n 1, 1) := dk_27 (dk_at dksX8_sees_2 20 rfl rfl)
theorem dX8_sees_69 : decode cX8_sees 69 = .ok (.bipush 6, 2) := dk_16 6 (dk_at dksX8_sees_2 21 rfl rfl)
theorem dX8_sees_71 : decode cX8_sees 71 = .ok (.iload_n 3, 1) := dk_29 (dk_at dksX8_sees_2 23 rfl rfl)
theorem dX8_sees_72 : decode cX8_sees 72 = .ok (.invokevirtual 141, 3) := dk_182 0 141 (dk_at dksX8_sees_3 0 rfl rfl)
theorem dX8_sees_75 : decode cX8_sees 75 = .ok (.aload_n 0, 1) := dk_42 (dk_at dksX8_sees_3 3 rfl rfl)
theorem dX8_sees_76 : decode cX8_sees 76 = .ok (.iload_n 1, 1) := dk_27 (dk_at dksX8_sees_3 4 rfl rfl)
theorem dX8_sees_77 : decode cX8_sees 77 = .ok (.iconst 5, 1) := dk_8 (dk_at dksX8_sees_3 5 rfl rfl)
theorem dX8_sees_78 : decode cX8_sees 78 = .ok (.aload_n 0, 1) := dk_42 (dk_at dksX8_sees_3 6 rfl rfl)
theorem dX8_sees_79 : decode cX8_sees 79 = .ok (.iload_n 1, 1) := dk_27 (dk_at dksX8_sees_3 7 rfl rfl)
theorem dX8_sees_80 : decode cX8_sees 80 = .ok (.iconst 5, 1) := dk_8 (dk_at dksX8_sees_3 8 rfl rfl)
theorem dX8_sees_81 : decode cX8_sees 81 = .ok (.invokevirtual 257, 3) := dk_182 1 1 (dk_at dksX8_sees_3 9 rfl rfl)
theorem dX8_sees_84 : decode cX8_sees 84 = .ok (.iconst 1, 1) := dk_4 (dk_at dksX8_sees_3 12 rfl rfl)
theorem dX8_sees_85 : decode cX8_sees 85 = .ok (.iadd, 1) := dk_96 (dk_at dksX8_sees_3 13 rfl rfl)
theorem dX8_sees_86 : decode cX8_sees 86 = .ok (.invokevirtual 141, 3) := dk_182 0 141 (dk_at dksX8_sees_3 14 rfl rfl)
theorem dX8_sees_89 : decode cX8_sees 89 = .ok (.return_, 1) := dk_177 (dk_at dksX8_sees_3 17 rfl rfl)
abbrev cX8_rounds : ByteArray := prog_23_method_65_code
def yX8_rounds : MethodName := ⟨RX8, "rounds", "(I)I"⟩
def dkwX8_rounds_1 : List UInt8 := [158, 0, 5, 3, 172, 42, 182, 1, 40, 42, 27, 182, 1, 46, 172]
abbrev dktX8_rounds_1 : List UInt8 := dkwX8_rounds_1 ++ []
def dkwX8_rounds_0 : List UInt8 := [42, 27, 4, 16, 50, 184, 0, 59, 154, 0, 7, 4, 167, 0, 4, 3, 181, 0, 56, 42, 180, 0, 56]
abbrev dktX8_rounds_0 : List UInt8 := dkwX8_rounds_0 ++ dktX8_rounds_1
theorem dksX8_rounds_0 : cX8_rounds.data.toList.drop 0 = dktX8_rounds_0 := by decide +kernel
theorem dksX8_rounds_1 : cX8_rounds.data.toList.drop 23 = dktX8_rounds_1 := dk_seg dksX8_rounds_0 23 rfl rfl
theorem dX8_rounds_0 : decode cX8_rounds 0 = .ok (.aload_n 0, 1) := dk_42 (dk_at dksX8_rounds_0 0 rfl rfl)
theorem dX8_rounds_1 : decode cX8_rounds 1 = .ok (.iload_n 1, 1) := dk_27 (dk_at dksX8_rounds_0 1 rfl rfl)
theorem dX8_rounds_2 : decode cX8_rounds 2 = .ok (.iconst 1, 1) := dk_4 (dk_at dksX8_rounds_0 2 rfl rfl)
theorem dX8_rounds_3 : decode cX8_rounds 3 = .ok (.bipush 50, 2) := dk_16 50 (dk_at dksX8_rounds_0 3 rfl rfl)
theorem dX8_rounds_5 : decode cX8_rounds 5 = .ok (.invokestatic 59, 3) := dk_184 0 59 (dk_at dksX8_rounds_0 5 rfl rfl)
theorem dX8_rounds_8 : decode cX8_rounds 8 = .ok (.ifCond .ne 7, 3) := dk_154 0 7 (dk_at dksX8_rounds_0 8 rfl rfl)
theorem dX8_rounds_11 : decode cX8_rounds 11 = .ok (.iconst 1, 1) := dk_4 (dk_at dksX8_rounds_0 11 rfl rfl)
theorem dX8_rounds_12 : decode cX8_rounds 12 = .ok (.goto 4, 3) := dk_167 0 4 (dk_at dksX8_rounds_0 12 rfl rfl)
theorem dX8_rounds_15 : decode cX8_rounds 15 = .ok (.iconst 0, 1) := dk_3 (dk_at dksX8_rounds_0 15 rfl rfl)
theorem dX8_rounds_16 : decode cX8_rounds 16 = .ok (.putfield 56, 3) := dk_181 0 56 (dk_at dksX8_rounds_0 16 rfl rfl)
theorem dX8_rounds_19 : decode cX8_rounds 19 = .ok (.aload_n 0, 1) := dk_42 (dk_at dksX8_rounds_0 19 rfl rfl)
theorem dX8_rounds_20 : decode cX8_rounds 20 = .ok (.getfield 56, 3) := dk_180 0 56 (dk_at dksX8_rounds_0 20 rfl rfl)
theorem dX8_rounds_23 : decode cX8_rounds 23 = .ok (.ifCond .le 5, 3) := dk_158 0 5 (dk_at dksX8_rounds_1 0 rfl rfl)
theorem dX8_rounds_26 : decode cX8_rounds 26 = .ok (.iconst 0, 1) := dk_3 (dk_at dksX8_rounds_1 3 rfl rfl)
theorem dX8_rounds_27 : decode cX8_rounds 27 = .ok (.ireturn, 1) := dk_172 (dk_at dksX8_rounds_1 4 rfl rfl)
theorem dX8_rounds_28 : decode cX8_rounds 28 = .ok (.aload_n 0, 1) := dk_42 (dk_at dksX8_rounds_1 5 rfl rfl)
theorem dX8_rounds_29 : decode cX8_rounds 29 = .ok (.invokevirtual 296, 3) := dk_182 1 40 (dk_at dksX8_rounds_1 6 rfl rfl)
theorem dX8_rounds_32 : decode cX8_rounds 32 = .ok (.aload_n 0, 1) := dk_42 (dk_at dksX8_rounds_1 9 rfl rfl)
theorem dX8_rounds_33 : decode cX8_rounds 33 = .ok (.iload_n 1, 1) := dk_27 (dk_at dksX8_rounds_1 10 rfl rfl)
theorem dX8_rounds_34 : decode cX8_rounds 34 = .ok (.invokevirtual 302, 3) := dk_182 1 46 (dk_at dksX8_rounds_1 11 rfl rfl)
theorem dX8_rounds_37 : decode cX8_rounds 37 = .ok (.ireturn, 1) := dk_172 (dk_at dksX8_rounds_1 14 rfl rfl)
abbrev cX8_goes : ByteArray := prog_23_method_64_code
def yX8_goes : MethodName := ⟨RX8, "goes", "(I)I"⟩
def dkwX8_goes_2 : List UInt8 := [167, 255, 222, 42, 180, 0, 7, 16, 7, 92, 46, 4, 96, 79, 132, 3, 1, 167, 255, 197, 28, 172]
abbrev dktX8_goes_2 : List UInt8 := dkwX8_goes_2 ++ []
def dkwX8_goes_1 : List UInt8 := [28, 42, 42, 21, 4, 182, 0, 63, 42, 21, 4, 182, 0, 67, 182, 1, 43, 96, 61, 132, 4, 1]
abbrev dktX8_goes_1 : List UInt8 := dkwX8_goes_1 ++ dktX8_goes_2
def dkwX8_goes_0 : List UInt8 := [3, 61, 3, 62, 29, 27, 162, 0, 60, 3, 54, 4, 21, 4, 42, 180, 0, 7, 16, 6, 46, 162, 0, 28]
abbrev dktX8_goes_0 : List UInt8 := dkwX8_goes_0 ++ dktX8_goes_1
theorem dksX8_goes_0 : cX8_goes.data.toList.drop 0 = dktX8_goes_0 := by decide +kernel
theorem dksX8_goes_1 : cX8_goes.data.toList.drop 24 = dktX8_goes_1 := dk_seg dksX8_goes_0 24 rfl rfl
theorem dksX8_goes_2 : cX8_goes.data.toList.drop 46 = dktX8_goes_2 := dk_seg dksX8_goes_1 22 rfl rfl
theorem dX8_goes_0 : decode cX8_goes 0 = .ok (.iconst 0, 1) := dk_3 (dk_at dksX8_goes_0 0 rfl rfl)
theorem dX8_goes_1 : decode cX8_goes 1 = .ok (.istore_n 2, 1) := dk_61 (dk_at dksX8_goes_0 1 rfl rfl)
theorem dX8_goes_2 : decode cX8_goes 2 = .ok (.iconst 0, 1) := dk_3 (dk_at dksX8_goes_0 2 rfl rfl)
theorem dX8_goes_3 : decode cX8_goes 3 = .ok (.istore_n 3, 1) := dk_62 (dk_at dksX8_goes_0 3 rfl rfl)
theorem dX8_goes_4 : decode cX8_goes 4 = .ok (.iload_n 3, 1) := dk_29 (dk_at dksX8_goes_0 4 rfl rfl)
theorem dX8_goes_5 : decode cX8_goes 5 = .ok (.iload_n 1, 1) := dk_27 (dk_at dksX8_goes_0 5 rfl rfl)
theorem dX8_goes_6 : decode cX8_goes 6 = .ok (.if_icmp .ge 60, 3) := dk_162 0 60 (dk_at dksX8_goes_0 6 rfl rfl)
theorem dX8_goes_9 : decode cX8_goes 9 = .ok (.iconst 0, 1) := dk_3 (dk_at dksX8_goes_0 9 rfl rfl)
theorem dX8_goes_10 : decode cX8_goes 10 = .ok (.istore 4, 2) := dk_54 4 (dk_at dksX8_goes_0 10 rfl rfl)
theorem dX8_goes_12 : decode cX8_goes 12 = .ok (.iload 4, 2) := dk_21 4 (dk_at dksX8_goes_0 12 rfl rfl)
theorem dX8_goes_14 : decode cX8_goes 14 = .ok (.aload_n 0, 1) := dk_42 (dk_at dksX8_goes_0 14 rfl rfl)
theorem dX8_goes_15 : decode cX8_goes 15 = .ok (.getfield 7, 3) := dk_180 0 7 (dk_at dksX8_goes_0 15 rfl rfl)
theorem dX8_goes_18 : decode cX8_goes 18 = .ok (.bipush 6, 2) := dk_16 6 (dk_at dksX8_goes_0 18 rfl rfl)
theorem dX8_goes_20 : decode cX8_goes 20 = .ok (.iaload, 1) := dk_46 (dk_at dksX8_goes_0 20 rfl rfl)
theorem dX8_goes_21 : decode cX8_goes 21 = .ok (.if_icmp .ge 28, 3) := dk_162 0 28 (dk_at dksX8_goes_0 21 rfl rfl)
theorem dX8_goes_24 : decode cX8_goes 24 = .ok (.iload_n 2, 1) := dk_28 (dk_at dksX8_goes_1 0 rfl rfl)
theorem dX8_goes_25 : decode cX8_goes 25 = .ok (.aload_n 0, 1) := dk_42 (dk_at dksX8_goes_1 1 rfl rfl)
theorem dX8_goes_26 : decode cX8_goes 26 = .ok (.aload_n 0, 1) := dk_42 (dk_at dksX8_goes_1 2 rfl rfl)
theorem dX8_goes_27 : decode cX8_goes 27 = .ok (.iload 4, 2) := dk_21 4 (dk_at dksX8_goes_1 3 rfl rfl)
theorem dX8_goes_29 : decode cX8_goes 29 = .ok (.invokevirtual 63, 3) := dk_182 0 63 (dk_at dksX8_goes_1 5 rfl rfl)
theorem dX8_goes_32 : decode cX8_goes 32 = .ok (.aload_n 0, 1) := dk_42 (dk_at dksX8_goes_1 8 rfl rfl)
theorem dX8_goes_33 : decode cX8_goes 33 = .ok (.iload 4, 2) := dk_21 4 (dk_at dksX8_goes_1 9 rfl rfl)
theorem dX8_goes_35 : decode cX8_goes 35 = .ok (.invokevirtual 67, 3) := dk_182 0 67 (dk_at dksX8_goes_1 11 rfl rfl)
theorem dX8_goes_38 : decode cX8_goes 38 = .ok (.invokevirtual 299, 3) := dk_182 1 43 (dk_at dksX8_goes_1 14 rfl rfl)
theorem dX8_goes_41 : decode cX8_goes 41 = .ok (.iadd, 1) := dk_96 (dk_at dksX8_goes_1 17 rfl rfl)
theorem dX8_goes_42 : decode cX8_goes 42 = .ok (.istore_n 2, 1) := dk_61 (dk_at dksX8_goes_1 18 rfl rfl)
theorem dX8_goes_43 : decode cX8_goes 43 = .ok (.iinc 4 1, 3) := dk_132 4 1 (dk_at dksX8_goes_1 19 rfl rfl)
theorem dX8_goes_46 : decode cX8_goes 46 = .ok (.goto (-34), 3) := dk_167 255 222 (dk_at dksX8_goes_2 0 rfl rfl)
theorem dX8_goes_49 : decode cX8_goes 49 = .ok (.aload_n 0, 1) := dk_42 (dk_at dksX8_goes_2 3 rfl rfl)
theorem dX8_goes_50 : decode cX8_goes 50 = .ok (.getfield 7, 3) := dk_180 0 7 (dk_at dksX8_goes_2 4 rfl rfl)
theorem dX8_goes_53 : decode cX8_goes 53 = .ok (.bipush 7, 2) := dk_16 7 (dk_at dksX8_goes_2 7 rfl rfl)
theorem dX8_goes_55 : decode cX8_goes 55 = .ok (.dup2, 1) := dk_92 (dk_at dksX8_goes_2 9 rfl rfl)
theorem dX8_goes_56 : decode cX8_goes 56 = .ok (.iaload, 1) := dk_46 (dk_at dksX8_goes_2 10 rfl rfl)
theorem dX8_goes_57 : decode cX8_goes 57 = .ok (.iconst 1, 1) := dk_4 (dk_at dksX8_goes_2 11 rfl rfl)
theorem dX8_goes_58 : decode cX8_goes 58 = .ok (.iadd, 1) := dk_96 (dk_at dksX8_goes_2 12 rfl rfl)
theorem dX8_goes_59 : decode cX8_goes 59 = .ok (.iastore, 1) := dk_79 (dk_at dksX8_goes_2 13 rfl rfl)
theorem dX8_goes_60 : decode cX8_goes 60 = .ok (.iinc 3 1, 3) := dk_132 3 1 (dk_at dksX8_goes_2 14 rfl rfl)
theorem dX8_goes_63 : decode cX8_goes 63 = .ok (.goto (-59), 3) := dk_167 255 197 (dk_at dksX8_goes_2 17 rfl rfl)
theorem dX8_goes_66 : decode cX8_goes 66 = .ok (.iload_n 2, 1) := dk_28 (dk_at dksX8_goes_2 20 rfl rfl)
theorem dX8_goes_67 : decode cX8_goes 67 = .ok (.ireturn, 1) := dk_172 (dk_at dksX8_goes_2 21 rfl rfl)
abbrev cX8_own : ByteArray := prog_23_method_66_code
def yX8_own : MethodName := ⟨RX8, "own", "(II)I"⟩
def dkwX8_own_2 : List UInt8 := [182, 0, 141, 29, 172]
abbrev dktX8_own_2 : List UInt8 := dkwX8_own_2 ++ []
def dkwX8_own_1 : List UInt8 := [42, 180, 0, 56, 158, 0, 5, 3, 172, 42, 182, 1, 40, 42, 27, 4, 182, 1, 1, 62, 42, 27, 4, 28]
abbrev dktX8_own_1 : List UInt8 := dkwX8_own_1 ++ dktX8_own_2
def dkwX8_own_0 : List UInt8 := [42, 42, 27, 182, 1, 15, 153, 0, 10, 28, 184, 1, 4, 154, 0, 7, 4, 167, 0, 4, 3, 181, 0, 56]
abbrev dktX8_own_0 : List UInt8 := dkwX8_own_0 ++ dktX8_own_1
theorem dksX8_own_0 : cX8_own.data.toList.drop 0 = dktX8_own_0 := by decide +kernel
theorem dksX8_own_1 : cX8_own.data.toList.drop 24 = dktX8_own_1 := dk_seg dksX8_own_0 24 rfl rfl
theorem dksX8_own_2 : cX8_own.data.toList.drop 48 = dktX8_own_2 := dk_seg dksX8_own_1 24 rfl rfl
theorem dX8_own_0 : decode cX8_own 0 = .ok (.aload_n 0, 1) := dk_42 (dk_at dksX8_own_0 0 rfl rfl)
theorem dX8_own_1 : decode cX8_own 1 = .ok (.aload_n 0, 1) := dk_42 (dk_at dksX8_own_0 1 rfl rfl)
theorem dX8_own_2 : decode cX8_own 2 = .ok (.iload_n 1, 1) := dk_27 (dk_at dksX8_own_0 2 rfl rfl)
theorem dX8_own_3 : decode cX8_own 3 = .ok (.invokevirtual 271, 3) := dk_182 1 15 (dk_at dksX8_own_0 3 rfl rfl)
theorem dX8_own_6 : decode cX8_own 6 = .ok (.ifCond .eq 10, 3) := dk_153 0 10 (dk_at dksX8_own_0 6 rfl rfl)
theorem dX8_own_9 : decode cX8_own 9 = .ok (.iload_n 2, 1) := dk_28 (dk_at dksX8_own_0 9 rfl rfl)
theorem dX8_own_10 : decode cX8_own 10 = .ok (.invokestatic 260, 3) := dk_184 1 4 (dk_at dksX8_own_0 10 rfl rfl)
theorem dX8_own_13 : decode cX8_own 13 = .ok (.ifCond .ne 7, 3) := dk_154 0 7 (dk_at dksX8_own_0 13 rfl rfl)
theorem dX8_own_16 : decode cX8_own 16 = .ok (.iconst 1, 1) := dk_4 (dk_at dksX8_own_0 16 rfl rfl)
theorem dX8_own_17 : decode cX8_own 17 = .ok (.goto 4, 3) := dk_167 0 4 (dk_at dksX8_own_0 17 rfl rfl)
theorem dX8_own_20 : decode cX8_own 20 = .ok (.iconst 0, 1) := dk_3 (dk_at dksX8_own_0 20 rfl rfl)
theorem dX8_own_21 : decode cX8_own 21 = .ok (.putfield 56, 3) := dk_181 0 56 (dk_at dksX8_own_0 21 rfl rfl)
theorem dX8_own_24 : decode cX8_own 24 = .ok (.aload_n 0, 1) := dk_42 (dk_at dksX8_own_1 0 rfl rfl)
theorem dX8_own_25 : decode cX8_own 25 = .ok (.getfield 56, 3) := dk_180 0 56 (dk_at dksX8_own_1 1 rfl rfl)
theorem dX8_own_28 : decode cX8_own 28 = .ok (.ifCond .le 5, 3) := dk_158 0 5 (dk_at dksX8_own_1 4 rfl rfl)
theorem dX8_own_31 : decode cX8_own 31 = .ok (.iconst 0, 1) := dk_3 (dk_at dksX8_own_1 7 rfl rfl)
theorem dX8_own_32 : decode cX8_own 32 = .ok (.ireturn, 1) := dk_172 (dk_at dksX8_own_1 8 rfl rfl)
theorem dX8_own_33 : decode cX8_own 33 = .ok (.aload_n 0, 1) := dk_42 (dk_at dksX8_own_1 9 rfl rfl)
theorem dX8_own_34 : decode cX8_own 34 = .ok (.invokevirtual 296, 3) := dk_182 1 40 (dk_at dksX8_own_1 10 rfl rfl)
theorem dX8_own_37 : decode cX8_own 37 = .ok (.aload_n 0, 1) := dk_42 (dk_at dksX8_own_1 13 rfl rfl)
theorem dX8_own_38 : decode cX8_own 38 = .ok (.iload_n 1, 1) := dk_27 (dk_at dksX8_own_1 14 rfl rfl)
theorem dX8_own_39 : decode cX8_own 39 = .ok (.iconst 1, 1) := dk_4 (dk_at dksX8_own_1 15 rfl rfl)
theorem dX8_own_40 : decode cX8_own 40 = .ok (.invokevirtual 257, 3) := dk_182 1 1 (dk_at dksX8_own_1 16 rfl rfl)
theorem dX8_own_43 : decode cX8_own 43 = .ok (.istore_n 3, 1) := dk_62 (dk_at dksX8_own_1 19 rfl rfl)
theorem dX8_own_44 : decode cX8_own 44 = .ok (.aload_n 0, 1) := dk_42 (dk_at dksX8_own_1 20 rfl rfl)
theorem dX8_own_45 : decode cX8_own 45 = .ok (.iload_n 1, 1) := dk_27 (dk_at dksX8_own_1 21 rfl rfl)
theorem dX8_own_46 : decode cX8_own 46 = .ok (.iconst 1, 1) := dk_4 (dk_at dksX8_own_1 22 rfl rfl)
theorem dX8_own_47 : decode cX8_own 47 = .ok (.iload_n 2, 1) := dk_28 (dk_at dksX8_own_1 23 rfl rfl)
theorem dX8_own_48 : decode cX8_own 48 = .ok (.invokevirtual 141, 3) := dk_182 0 141 (dk_at dksX8_own_2 0 rfl rfl)
theorem dX8_own_51 : decode cX8_own 51 = .ok (.iload_n 3, 1) := dk_29 (dk_at dksX8_own_2 3 rfl rfl)
theorem dX8_own_52 : decode cX8_own 52 = .ok (.ireturn, 1) := dk_172 (dk_at dksX8_own_2 4 rfl rfl)
abbrev cX8_cold : ByteArray := prog_23_method_67_code
def yX8_cold : MethodName := ⟨RX8, "cold", "(IZ)Z"⟩
def dkwX8_cold_2 : List UInt8 := [7, 28, 153, 0, 7, 4, 167, 0, 4, 3, 182, 0, 141, 29, 172]
abbrev dktX8_cold_2 : List UInt8 := dkwX8_cold_2 ++ []
def dkwX8_cold_1 : List UInt8 := [3, 172, 42, 182, 1, 40, 42, 27, 7, 182, 1, 1, 4, 160, 0, 7, 4, 167, 0, 4, 3, 62, 42, 27]
abbrev dktX8_cold_1 : List UInt8 := dkwX8_cold_1 ++ dktX8_cold_2
def dkwX8_cold_0 : List UInt8 := [42, 42, 27, 182, 1, 15, 154, 0, 7, 4, 167, 0, 4, 3, 181, 0, 56, 42, 180, 0, 56, 158, 0, 5]
abbrev dktX8_cold_0 : List UInt8 := dkwX8_cold_0 ++ dktX8_cold_1
theorem dksX8_cold_0 : cX8_cold.data.toList.drop 0 = dktX8_cold_0 := by decide +kernel
theorem dksX8_cold_1 : cX8_cold.data.toList.drop 24 = dktX8_cold_1 := dk_seg dksX8_cold_0 24 rfl rfl
theorem dksX8_cold_2 : cX8_cold.data.toList.drop 48 = dktX8_cold_2 := dk_seg dksX8_cold_1 24 rfl rfl
theorem dX8_cold_0 : decode cX8_cold 0 = .ok (.aload_n 0, 1) := dk_42 (dk_at dksX8_cold_0 0 rfl rfl)
theorem dX8_cold_1 : decode cX8_cold 1 = .ok (.aload_n 0, 1) := dk_42 (dk_at dksX8_cold_0 1 rfl rfl)
theorem dX8_cold_2 : decode cX8_cold 2 = .ok (.iload_n 1, 1) := dk_27 (dk_at dksX8_cold_0 2 rfl rfl)
theorem dX8_cold_3 : decode cX8_cold 3 = .ok (.invokevirtual 271, 3) := dk_182 1 15 (dk_at dksX8_cold_0 3 rfl rfl)
theorem dX8_cold_6 : decode cX8_cold 6 = .ok (.ifCond .ne 7, 3) := dk_154 0 7 (dk_at dksX8_cold_0 6 rfl rfl)
theorem dX8_cold_9 : decode cX8_cold 9 = .ok (.iconst 1, 1) := dk_4 (dk_at dksX8_cold_0 9 rfl rfl)
theorem dX8_cold_10 : decode cX8_cold 10 = .ok (.goto 4, 3) := dk_167 0 4 (dk_at dksX8_cold_0 10 rfl rfl)
theorem dX8_cold_13 : decode cX8_cold 13 = .ok (.iconst 0, 1) := dk_3 (dk_at dksX8_cold_0 13 rfl rfl)
theorem dX8_cold_14 : decode cX8_cold 14 = .ok (.putfield 56, 3) := dk_181 0 56 (dk_at dksX8_cold_0 14 rfl rfl)
theorem dX8_cold_17 : decode cX8_cold 17 = .ok (.aload_n 0, 1) := dk_42 (dk_at dksX8_cold_0 17 rfl rfl)
theorem dX8_cold_18 : decode cX8_cold 18 = .ok (.getfield 56, 3) := dk_180 0 56 (dk_at dksX8_cold_0 18 rfl rfl)
theorem dX8_cold_21 : decode cX8_cold 21 = .ok (.ifCond .le 5, 3) := dk_158 0 5 (dk_at dksX8_cold_0 21 rfl rfl)
theorem dX8_cold_24 : decode cX8_cold 24 = .ok (.iconst 0, 1) := dk_3 (dk_at dksX8_cold_1 0 rfl rfl)
theorem dX8_cold_25 : decode cX8_cold 25 = .ok (.ireturn, 1) := dk_172 (dk_at dksX8_cold_1 1 rfl rfl)
theorem dX8_cold_26 : decode cX8_cold 26 = .ok (.aload_n 0, 1) := dk_42 (dk_at dksX8_cold_1 2 rfl rfl)
theorem dX8_cold_27 : decode cX8_cold 27 = .ok (.invokevirtual 296, 3) := dk_182 1 40 (dk_at dksX8_cold_1 3 rfl rfl)
theorem dX8_cold_30 : decode cX8_cold 30 = .ok (.aload_n 0, 1) := dk_42 (dk_at dksX8_cold_1 6 rfl rfl)
theorem dX8_cold_31 : decode cX8_cold 31 = .ok (.iload_n 1, 1) := dk_27 (dk_at dksX8_cold_1 7 rfl rfl)
theorem dX8_cold_32 : decode cX8_cold 32 = .ok (.iconst 4, 1) := dk_7 (dk_at dksX8_cold_1 8 rfl rfl)
theorem dX8_cold_33 : decode cX8_cold 33 = .ok (.invokevirtual 257, 3) := dk_182 1 1 (dk_at dksX8_cold_1 9 rfl rfl)
theorem dX8_cold_36 : decode cX8_cold 36 = .ok (.iconst 1, 1) := dk_4 (dk_at dksX8_cold_1 12 rfl rfl)
theorem dX8_cold_37 : decode cX8_cold 37 = .ok (.if_icmp .ne 7, 3) := dk_160 0 7 (dk_at dksX8_cold_1 13 rfl rfl)
theorem dX8_cold_40 : decode cX8_cold 40 = .ok (.iconst 1, 1) := dk_4 (dk_at dksX8_cold_1 16 rfl rfl)
theorem dX8_cold_41 : decode cX8_cold 41 = .ok (.goto 4, 3) := dk_167 0 4 (dk_at dksX8_cold_1 17 rfl rfl)
theorem dX8_cold_44 : decode cX8_cold 44 = .ok (.iconst 0, 1) := dk_3 (dk_at dksX8_cold_1 20 rfl rfl)
theorem dX8_cold_45 : decode cX8_cold 45 = .ok (.istore_n 3, 1) := dk_62 (dk_at dksX8_cold_1 21 rfl rfl)
theorem dX8_cold_46 : decode cX8_cold 46 = .ok (.aload_n 0, 1) := dk_42 (dk_at dksX8_cold_1 22 rfl rfl)
theorem dX8_cold_47 : decode cX8_cold 47 = .ok (.iload_n 1, 1) := dk_27 (dk_at dksX8_cold_1 23 rfl rfl)
theorem dX8_cold_48 : decode cX8_cold 48 = .ok (.iconst 4, 1) := dk_7 (dk_at dksX8_cold_2 0 rfl rfl)
theorem dX8_cold_49 : decode cX8_cold 49 = .ok (.iload_n 2, 1) := dk_28 (dk_at dksX8_cold_2 1 rfl rfl)
theorem dX8_cold_50 : decode cX8_cold 50 = .ok (.ifCond .eq 7, 3) := dk_153 0 7 (dk_at dksX8_cold_2 2 rfl rfl)
theorem dX8_cold_53 : decode cX8_cold 53 = .ok (.iconst 1, 1) := dk_4 (dk_at dksX8_cold_2 5 rfl rfl)
theorem dX8_cold_54 : decode cX8_cold 54 = .ok (.goto 4, 3) := dk_167 0 4 (dk_at dksX8_cold_2 6 rfl rfl)
theorem dX8_cold_57 : decode cX8_cold 57 = .ok (.iconst 0, 1) := dk_3 (dk_at dksX8_cold_2 9 rfl rfl)
theorem dX8_cold_58 : decode cX8_cold 58 = .ok (.invokevirtual 141, 3) := dk_182 0 141 (dk_at dksX8_cold_2 10 rfl rfl)
theorem dX8_cold_61 : decode cX8_cold 61 = .ok (.iload_n 3, 1) := dk_29 (dk_at dksX8_cold_2 13 rfl rfl)
theorem dX8_cold_62 : decode cX8_cold 62 = .ok (.ireturn, 1) := dk_172 (dk_at dksX8_cold_2 14 rfl rfl)
abbrev cX8_ties : ByteArray := prog_23_method_68_code
def yX8_ties : MethodName := ⟨RX8, "ties", "(II)I"⟩
def dkwX8_ties_3 : List UInt8 := [182, 0, 152, 42, 180, 0, 7, 16, 6, 46, 4, 100, 172]
abbrev dktX8_ties_3 : List UInt8 := dkwX8_ties_3 ++ []
def dkwX8_ties_2 : List UInt8 := [167, 0, 4, 3, 181, 0, 56, 42, 180, 0, 56, 158, 0, 5, 3, 172, 42, 182, 1, 40, 42, 27, 28]
abbrev dktX8_ties_2 : List UInt8 := dkwX8_ties_2 ++ dktX8_ties_3
def dkwX8_ties_1 : List UInt8 := [182, 0, 148, 153, 0, 7, 6, 167, 0, 20, 42, 180, 0, 7, 16, 6, 46, 16, 24, 160, 0, 7, 7]
abbrev dktX8_ties_1 : List UInt8 := dkwX8_ties_1 ++ dktX8_ties_2
def dkwX8_ties_0 : List UInt8 := [42, 42, 27, 28, 182, 1, 21, 158, 0, 12, 42, 27, 28, 182, 1, 21, 167, 0, 33, 42, 27, 28]
abbrev dktX8_ties_0 : List UInt8 := dkwX8_ties_0 ++ dktX8_ties_1
theorem dksX8_ties_0 : cX8_ties.data.toList.drop 0 = dktX8_ties_0 := by decide +kernel
theorem dksX8_ties_1 : cX8_ties.data.toList.drop 22 = dktX8_ties_1 := dk_seg dksX8_ties_0 22 rfl rfl
theorem dksX8_ties_2 : cX8_ties.data.toList.drop 45 = dktX8_ties_2 := dk_seg dksX8_ties_1 23 rfl rfl
theorem dksX8_ties_3 : cX8_ties.data.toList.drop 68 = dktX8_ties_3 := dk_seg dksX8_ties_2 23 rfl rfl
theorem dX8_ties_0 : decode cX8_ties 0 = .ok (.aload_n 0, 1) := dk_42 (dk_at dksX8_ties_0 0 rfl rfl)
theorem dX8_ties_1 : decode cX8_ties 1 = .ok (.aload_n 0, 1) := dk_42 (dk_at dksX8_ties_0 1 rfl rfl)
theorem dX8_ties_2 : decode cX8_ties 2 = .ok (.iload_n 1, 1) := dk_27 (dk_at dksX8_ties_0 2 rfl rfl)
theorem dX8_ties_3 : decode cX8_ties 3 = .ok (.iload_n 2, 1) := dk_28 (dk_at dksX8_ties_0 3 rfl rfl)
theorem dX8_ties_4 : decode cX8_ties 4 = .ok (.invokevirtual 277, 3) := dk_182 1 21 (dk_at dksX8_ties_0 4 rfl rfl)
theorem dX8_ties_7 : decode cX8_ties 7 = .ok (.ifCond .le 12, 3) := dk_158 0 12 (dk_at dksX8_ties_0 7 rfl rfl)
theorem dX8_ties_10 : decode cX8_ties 10 = .ok (.aload_n 0, 1) := dk_42 (dk_at dksX8_ties_0 10 rfl rfl)
theorem dX8_ties_11 : decode cX8_ties 11 = .ok (.iload_n 1, 1) := dk_27 (dk_at dksX8_ties_0 11 rfl rfl)
theorem dX8_ties_12 : decode cX8_ties 12 = .ok (.iload_n 2, 1) := dk_28 (dk_at dksX8_ties_0 12 rfl rfl)
theorem dX8_ties_13 : decode cX8_ties 13 = .ok (.invokevirtual 277, 3) := dk_182 1 21 (dk_at dksX8_ties_0 13 rfl rfl)
theorem dX8_ties_16 : decode cX8_ties 16 = .ok (.goto 33, 3) := dk_167 0 33 (dk_at dksX8_ties_0 16 rfl rfl)
theorem dX8_ties_19 : decode cX8_ties 19 = .ok (.aload_n 0, 1) := dk_42 (dk_at dksX8_ties_0 19 rfl rfl)
theorem dX8_ties_20 : decode cX8_ties 20 = .ok (.iload_n 1, 1) := dk_27 (dk_at dksX8_ties_0 20 rfl rfl)
theorem dX8_ties_21 : decode cX8_ties 21 = .ok (.iload_n 2, 1) := dk_28 (dk_at dksX8_ties_0 21 rfl rfl)
theorem dX8_ties_22 : decode cX8_ties 22 = .ok (.invokevirtual 148, 3) := dk_182 0 148 (dk_at dksX8_ties_1 0 rfl rfl)
theorem dX8_ties_25 : decode cX8_ties 25 = .ok (.ifCond .eq 7, 3) := dk_153 0 7 (dk_at dksX8_ties_1 3 rfl rfl)
theorem dX8_ties_28 : decode cX8_ties 28 = .ok (.iconst 3, 1) := dk_6 (dk_at dksX8_ties_1 6 rfl rfl)
theorem dX8_ties_29 : decode cX8_ties 29 = .ok (.goto 20, 3) := dk_167 0 20 (dk_at dksX8_ties_1 7 rfl rfl)
theorem dX8_ties_32 : decode cX8_ties 32 = .ok (.aload_n 0, 1) := dk_42 (dk_at dksX8_ties_1 10 rfl rfl)
theorem dX8_ties_33 : decode cX8_ties 33 = .ok (.getfield 7, 3) := dk_180 0 7 (dk_at dksX8_ties_1 11 rfl rfl)
theorem dX8_ties_36 : decode cX8_ties 36 = .ok (.bipush 6, 2) := dk_16 6 (dk_at dksX8_ties_1 14 rfl rfl)
theorem dX8_ties_38 : decode cX8_ties 38 = .ok (.iaload, 1) := dk_46 (dk_at dksX8_ties_1 16 rfl rfl)
theorem dX8_ties_39 : decode cX8_ties 39 = .ok (.bipush 24, 2) := dk_16 24 (dk_at dksX8_ties_1 17 rfl rfl)
theorem dX8_ties_41 : decode cX8_ties 41 = .ok (.if_icmp .ne 7, 3) := dk_160 0 7 (dk_at dksX8_ties_1 19 rfl rfl)
theorem dX8_ties_44 : decode cX8_ties 44 = .ok (.iconst 4, 1) := dk_7 (dk_at dksX8_ties_1 22 rfl rfl)
theorem dX8_ties_45 : decode cX8_ties 45 = .ok (.goto 4, 3) := dk_167 0 4 (dk_at dksX8_ties_2 0 rfl rfl)
theorem dX8_ties_48 : decode cX8_ties 48 = .ok (.iconst 0, 1) := dk_3 (dk_at dksX8_ties_2 3 rfl rfl)
theorem dX8_ties_49 : decode cX8_ties 49 = .ok (.putfield 56, 3) := dk_181 0 56 (dk_at dksX8_ties_2 4 rfl rfl)
theorem dX8_ties_52 : decode cX8_ties 52 = .ok (.aload_n 0, 1) := dk_42 (dk_at dksX8_ties_2 7 rfl rfl)
theorem dX8_ties_53 : decode cX8_ties 53 = .ok (.getfield 56, 3) := dk_180 0 56 (dk_at dksX8_ties_2 8 rfl rfl)
theorem dX8_ties_56 : decode cX8_ties 56 = .ok (.ifCond .le 5, 3) := dk_158 0 5 (dk_at dksX8_ties_2 11 rfl rfl)
theorem dX8_ties_59 : decode cX8_ties 59 = .ok (.iconst 0, 1) := dk_3 (dk_at dksX8_ties_2 14 rfl rfl)
theorem dX8_ties_60 : decode cX8_ties 60 = .ok (.ireturn, 1) := dk_172 (dk_at dksX8_ties_2 15 rfl rfl)
theorem dX8_ties_61 : decode cX8_ties 61 = .ok (.aload_n 0, 1) := dk_42 (dk_at dksX8_ties_2 16 rfl rfl)
theorem dX8_ties_62 : decode cX8_ties 62 = .ok (.invokevirtual 296, 3) := dk_182 1 40 (dk_at dksX8_ties_2 17 rfl rfl)
theorem dX8_ties_65 : decode cX8_ties 65 = .ok (.aload_n 0, 1) := dk_42 (dk_at dksX8_ties_2 20 rfl rfl)
theorem dX8_ties_66 : decode cX8_ties 66 = .ok (.iload_n 1, 1) := dk_27 (dk_at dksX8_ties_2 21 rfl rfl)
theorem dX8_ties_67 : decode cX8_ties 67 = .ok (.iload_n 2, 1) := dk_28 (dk_at dksX8_ties_2 22 rfl rfl)
theorem dX8_ties_68 : decode cX8_ties 68 = .ok (.invokevirtual 152, 3) := dk_182 0 152 (dk_at dksX8_ties_3 0 rfl rfl)
theorem dX8_ties_71 : decode cX8_ties 71 = .ok (.aload_n 0, 1) := dk_42 (dk_at dksX8_ties_3 3 rfl rfl)
theorem dX8_ties_72 : decode cX8_ties 72 = .ok (.getfield 7, 3) := dk_180 0 7 (dk_at dksX8_ties_3 4 rfl rfl)
theorem dX8_ties_75 : decode cX8_ties 75 = .ok (.bipush 6, 2) := dk_16 6 (dk_at dksX8_ties_3 7 rfl rfl)
theorem dX8_ties_77 : decode cX8_ties 77 = .ok (.iaload, 1) := dk_46 (dk_at dksX8_ties_3 9 rfl rfl)
theorem dX8_ties_78 : decode cX8_ties 78 = .ok (.iconst 1, 1) := dk_4 (dk_at dksX8_ties_3 10 rfl rfl)
theorem dX8_ties_79 : decode cX8_ties 79 = .ok (.isub, 1) := dk_100 (dk_at dksX8_ties_3 11 rfl rfl)
theorem dX8_ties_80 : decode cX8_ties 80 = .ok (.ireturn, 1) := dk_172 (dk_at dksX8_ties_3 12 rfl rfl)
abbrev cX8_cut : ByteArray := prog_23_method_69_code
def yX8_cut : MethodName := ⟨RX8, "cut", "(I)I"⟩
def dkwX8_cut_4 : List UInt8 := [42, 180, 0, 7, 16, 6, 46, 172]
abbrev dktX8_cut_4 : List UInt8 := dkwX8_cut_4 ++ []
def dkwX8_cut_3 : List UInt8 := [17, 1, 116, 28, 96, 42, 180, 0, 7, 17, 1, 116, 28, 96, 5, 96, 46, 79, 132, 2, 1, 167, 255, 218]
abbrev dktX8_cut_3 : List UInt8 := dkwX8_cut_3 ++ dktX8_cut_4
def dkwX8_cut_2 : List UInt8 := [4, 100, 79, 5, 27, 104, 61, 28, 5, 42, 180, 0, 7, 16, 6, 46, 104, 162, 0, 31, 42, 180, 0, 7]
abbrev dktX8_cut_2 : List UInt8 := dkwX8_cut_2 ++ dktX8_cut_3
def dkwX8_cut_1 : List UInt8 := [181, 0, 56, 42, 180, 0, 56, 158, 0, 5, 3, 172, 42, 182, 1, 40, 42, 180, 0, 7, 16, 6, 92, 46]
abbrev dktX8_cut_1 : List UInt8 := dkwX8_cut_1 ++ dktX8_cut_2
def dkwX8_cut_0 : List UInt8 := [42, 27, 3, 42, 180, 0, 7, 16, 6, 46, 4, 100, 184, 0, 59, 154, 0, 7, 4, 167, 0, 4, 3]
abbrev dktX8_cut_0 : List UInt8 := dkwX8_cut_0 ++ dktX8_cut_1
theorem dksX8_cut_0 : cX8_cut.data.toList.drop 0 = dktX8_cut_0 := by decide +kernel
theorem dksX8_cut_1 : cX8_cut.data.toList.drop 23 = dktX8_cut_1 := dk_seg dksX8_cut_0 23 rfl rfl
theorem dksX8_cut_2 : cX8_cut.data.toList.drop 47 = dktX8_cut_2 := dk_seg dksX8_cut_1 24 rfl rfl
theorem dksX8_cut_3 : cX8_cut.data.toList.drop 71 = dktX8_cut_3 := dk_seg dksX8_cut_2 24 rfl rfl
theorem dksX8_cut_4 : cX8_cut.data.toList.drop 95 = dktX8_cut_4 := dk_seg dksX8_cut_3 24 rfl rfl
theorem dX8_cut_0 : decode cX8_cut 0 = .ok (.aload_n 0, 1) := dk_42 (dk_at dksX8_cut_0 0 rfl rfl)
theorem dX8_cut_1 : decode cX8_cut 1 = .ok (.iload_n 1, 1) := dk_27 (dk_at dksX8_cut_0 1 rfl rfl)
theorem dX8_cut_2 : decode cX8_cut 2 = .ok (.iconst 0, 1) := dk_3 (dk_at dksX8_cut_0 2 rfl rfl)
theorem dX8_cut_3 : decode cX8_cut 3 = .ok (.aload_n 0, 1) := dk_42 (dk_at dksX8_cut_0 3 rfl rfl)
theorem dX8_cut_4 : decode cX8_cut 4 = .ok (.getfield 7, 3) := dk_180 0 7 (dk_at dksX8_cut_0 4 rfl rfl)
theorem dX8_cut_7 : decode cX8_cut 7 = .ok (.bipush 6, 2) := dk_16 6 (dk_at dksX8_cut_0 7 rfl rfl)
theorem dX8_cut_9 : decode cX8_cut 9 = .ok (.iaload, 1) := dk_46 (dk_at dksX8_cut_0 9 rfl rfl)
theorem dX8_cut_10 : decode cX8_cut 10 = .ok (.iconst 1, 1) := dk_4 (dk_at dksX8_cut_0 10 rfl rfl)
theorem dX8_cut_11 : decode cX8_cut 11 = .ok (.isub, 1) := dk_100 (dk_at dksX8_cut_0 11 rfl rfl)
theorem dX8_cut_12 : decode cX8_cut 12 = .ok (.invokestatic 59, 3) := dk_184 0 59 (dk_at dksX8_cut_0 12 rfl rfl)
theorem dX8_cut_15 : decode cX8_cut 15 = .ok (.ifCond .ne 7, 3) := dk_154 0 7 (dk_at dksX8_cut_0 15 rfl rfl)
theorem dX8_cut_18 : decode cX8_cut 18 = .ok (.iconst 1, 1) := dk_4 (dk_at dksX8_cut_0 18 rfl rfl)
theorem dX8_cut_19 : decode cX8_cut 19 = .ok (.goto 4, 3) := dk_167 0 4 (dk_at dksX8_cut_0 19 rfl rfl)
theorem dX8_cut_22 : decode cX8_cut 22 = .ok (.iconst 0, 1) := dk_3 (dk_at dksX8_cut_0 22 rfl rfl)
theorem dX8_cut_23 : decode cX8_cut 23 = .ok (.putfield 56, 3) := dk_181 0 56 (dk_at dksX8_cut_1 0 rfl rfl)
theorem dX8_cut_26 : decode cX8_cut 26 = .ok (.aload_n 0, 1) := dk_42 (dk_at dksX8_cut_1 3 rfl rfl)
theorem dX8_cut_27 : decode cX8_cut 27 = .ok (.getfield 56, 3) := dk_180 0 56 (dk_at dksX8_cut_1 4 rfl rfl)
theorem dX8_cut_30 : decode cX8_cut 30 = .ok (.ifCond .le 5, 3) := dk_158 0 5 (dk_at dksX8_cut_1 7 rfl rfl)
theorem dX8_cut_33 : decode cX8_cut 33 = .ok (.iconst 0, 1) := dk_3 (dk_at dksX8_cut_1 10 rfl rfl)
theorem dX8_cut_34 : decode cX8_cut 34 = .ok (.ireturn, 1) := dk_172 (dk_at dksX8_cut_1 11 rfl rfl)
theorem dX8_cut_35 : decode cX8_cut 35 = .ok (.aload_n 0, 1) := dk_42 (dk_at dksX8_cut_1 12 rfl rfl)
theorem dX8_cut_36 : decode cX8_cut 36 = .ok (.invokevirtual 296, 3) := dk_182 1 40 (dk_at dksX8_cut_1 13 rfl rfl)
theorem dX8_cut_39 : decode cX8_cut 39 = .ok (.aload_n 0, 1) := dk_42 (dk_at dksX8_cut_1 16 rfl rfl)
theorem dX8_cut_40 : decode cX8_cut 40 = .ok (.getfield 7, 3) := dk_180 0 7 (dk_at dksX8_cut_1 17 rfl rfl)
theorem dX8_cut_43 : decode cX8_cut 43 = .ok (.bipush 6, 2) := dk_16 6 (dk_at dksX8_cut_1 20 rfl rfl)
theorem dX8_cut_45 : decode cX8_cut 45 = .ok (.dup2, 1) := dk_92 (dk_at dksX8_cut_1 22 rfl rfl)
theorem dX8_cut_46 : decode cX8_cut 46 = .ok (.iaload, 1) := dk_46 (dk_at dksX8_cut_1 23 rfl rfl)
theorem dX8_cut_47 : decode cX8_cut 47 = .ok (.iconst 1, 1) := dk_4 (dk_at dksX8_cut_2 0 rfl rfl)
theorem dX8_cut_48 : decode cX8_cut 48 = .ok (.isub, 1) := dk_100 (dk_at dksX8_cut_2 1 rfl rfl)
theorem dX8_cut_49 : decode cX8_cut 49 = .ok (.iastore, 1) := dk_79 (dk_at dksX8_cut_2 2 rfl rfl)
theorem dX8_cut_50 : decode cX8_cut 50 = .ok (.iconst 2, 1) := dk_5 (dk_at dksX8_cut_2 3 rfl rfl)
theorem dX8_cut_51 : decode cX8_cut 51 = .ok (.iload_n 1, 1) := dk_27 (dk_at dksX8_cut_2 4 rfl rfl)
theorem dX8_cut_52 : decode cX8_cut 52 = .ok (.imul, 1) := dk_104 (dk_at dksX8_cut_2 5 rfl rfl)
theorem dX8_cut_53 : decode cX8_cut 53 = .ok (.istore_n 2, 1) := dk_61 (dk_at dksX8_cut_2 6 rfl rfl)
theorem dX8_cut_54 : decode cX8_cut 54 = .ok (.iload_n 2, 1) := dk_28 (dk_at dksX8_cut_2 7 rfl rfl)
theorem dX8_cut_55 : decode cX8_cut 55 = .ok (.iconst 2, 1) := dk_5 (dk_at dksX8_cut_2 8 rfl rfl)
theorem dX8_cut_56 : decode cX8_cut 56 = .ok (.aload_n 0, 1) := dk_42 (dk_at dksX8_cut_2 9 rfl rfl)
theorem dX8_cut_57 : decode cX8_cut 57 = .ok (.getfield 7, 3) := dk_180 0 7 (dk_at dksX8_cut_2 10 rfl rfl)
theorem dX8_cut_60 : decode cX8_cut 60 = .ok (.bipush 6, 2) := dk_16 6 (dk_at dksX8_cut_2 13 rfl rfl)
theorem dX8_cut_62 : decode cX8_cut 62 = .ok (.iaload, 1) := dk_46 (dk_at dksX8_cut_2 15 rfl rfl)
theorem dX8_cut_63 : decode cX8_cut 63 = .ok (.imul, 1) := dk_104 (dk_at dksX8_cut_2 16 rfl rfl)
theorem dX8_cut_64 : decode cX8_cut 64 = .ok (.if_icmp .ge 31, 3) := dk_162 0 31 (dk_at dksX8_cut_2 17 rfl rfl)
theorem dX8_cut_67 : decode cX8_cut 67 = .ok (.aload_n 0, 1) := dk_42 (dk_at dksX8_cut_2 20 rfl rfl)
theorem dX8_cut_68 : decode cX8_cut 68 = .ok (.getfield 7, 3) := dk_180 0 7 (dk_at dksX8_cut_2 21 rfl rfl)
theorem dX8_cut_71 : decode cX8_cut 71 = .ok (.sipush 372, 3) := dk_17 1 116 (dk_at dksX8_cut_3 0 rfl rfl)
theorem dX8_cut_74 : decode cX8_cut 74 = .ok (.iload_n 2, 1) := dk_28 (dk_at dksX8_cut_3 3 rfl rfl)
theorem dX8_cut_75 : decode cX8_cut 75 = .ok (.iadd, 1) := dk_96 (dk_at dksX8_cut_3 4 rfl rfl)
theorem dX8_cut_76 : decode cX8_cut 76 = .ok (.aload_n 0, 1) := dk_42 (dk_at dksX8_cut_3 5 rfl rfl)
theorem dX8_cut_77 : decode cX8_cut 77 = .ok (.getfield 7, 3) := dk_180 0 7 (dk_at dksX8_cut_3 6 rfl rfl)
theorem dX8_cut_80 : decode cX8_cut 80 = .ok (.sipush 372, 3) := dk_17 1 116 (dk_at dksX8_cut_3 9 rfl rfl)
theorem dX8_cut_83 : decode cX8_cut 83 = .ok (.iload_n 2, 1) := dk_28 (dk_at dksX8_cut_3 12 rfl rfl)
theorem dX8_cut_84 : decode cX8_cut 84 = .ok (.iadd, 1) := dk_96 (dk_at dksX8_cut_3 13 rfl rfl)
theorem dX8_cut_85 : decode cX8_cut 85 = .ok (.iconst 2, 1) := dk_5 (dk_at dksX8_cut_3 14 rfl rfl)
theorem dX8_cut_86 : decode cX8_cut 86 = .ok (.iadd, 1) := dk_96 (dk_at dksX8_cut_3 15 rfl rfl)
theorem dX8_cut_87 : decode cX8_cut 87 = .ok (.iaload, 1) := dk_46 (dk_at dksX8_cut_3 16 rfl rfl)
theorem dX8_cut_88 : decode cX8_cut 88 = .ok (.iastore, 1) := dk_79 (dk_at dksX8_cut_3 17 rfl rfl)
theorem dX8_cut_89 : decode cX8_cut 89 = .ok (.iinc 2 1, 3) := dk_132 2 1 (dk_at dksX8_cut_3 18 rfl rfl)
theorem dX8_cut_92 : decode cX8_cut 92 = .ok (.goto (-38), 3) := dk_167 255 218 (dk_at dksX8_cut_3 21 rfl rfl)
theorem dX8_cut_95 : decode cX8_cut 95 = .ok (.aload_n 0, 1) := dk_42 (dk_at dksX8_cut_4 0 rfl rfl)
theorem dX8_cut_96 : decode cX8_cut 96 = .ok (.getfield 7, 3) := dk_180 0 7 (dk_at dksX8_cut_4 1 rfl rfl)
theorem dX8_cut_99 : decode cX8_cut 99 = .ok (.bipush 6, 2) := dk_16 6 (dk_at dksX8_cut_4 4 rfl rfl)
theorem dX8_cut_101 : decode cX8_cut 101 = .ok (.iaload, 1) := dk_46 (dk_at dksX8_cut_4 6 rfl rfl)
theorem dX8_cut_102 : decode cX8_cut 102 = .ok (.ireturn, 1) := dk_172 (dk_at dksX8_cut_4 7 rfl rfl)
abbrev cX8_feast : ByteArray := prog_23_method_70_code
def yX8_feast : MethodName := ⟨RX8, "feast", "(II)I"⟩
def dkwX8_feast_4 : List UInt8 := [172]
abbrev dktX8_feast_4 : List UInt8 := dkwX8_feast_4 ++ []
def dkwX8_feast_3 : List UInt8 := [167, 0, 7, 4, 21, 4, 120, 128, 62, 42, 21, 4, 4, 28, 182, 0, 141, 132, 4, 1, 167, 255, 200, 29]
abbrev dktX8_feast_3 : List UInt8 := dkwX8_feast_3 ++ dktX8_feast_4
def dkwX8_feast_2 : List UInt8 := [184, 1, 49, 154, 0, 6, 167, 0, 33, 29, 42, 21, 4, 4, 182, 1, 1, 28, 160, 0, 7, 3]
abbrev dktX8_feast_2 : List UInt8 := dkwX8_feast_2 ++ dktX8_feast_3
def dkwX8_feast_1 : List UInt8 := [172, 42, 182, 1, 40, 3, 62, 3, 54, 4, 21, 4, 42, 180, 0, 7, 8, 46, 162, 0, 51, 27, 21, 4]
abbrev dktX8_feast_1 : List UInt8 := dkwX8_feast_1 ++ dktX8_feast_2
def dkwX8_feast_0 : List UInt8 := [42, 28, 184, 1, 4, 154, 0, 7, 4, 167, 0, 4, 3, 181, 0, 56, 42, 180, 0, 56, 158, 0, 5, 3]
abbrev dktX8_feast_0 : List UInt8 := dkwX8_feast_0 ++ dktX8_feast_1
theorem dksX8_feast_0 : cX8_feast.data.toList.drop 0 = dktX8_feast_0 := by decide +kernel
theorem dksX8_feast_1 : cX8_feast.data.toList.drop 24 = dktX8_feast_1 := dk_seg dksX8_feast_0 24 rfl rfl
theorem dksX8_feast_2 : cX8_feast.data.toList.drop 48 = dktX8_feast_2 := dk_seg dksX8_feast_1 24 rfl rfl
theorem dksX8_feast_3 : cX8_feast.data.toList.drop 70 = dktX8_feast_3 := dk_seg dksX8_feast_2 22 rfl rfl
theorem dksX8_feast_4 : cX8_feast.data.toList.drop 94 = dktX8_feast_4 := dk_seg dksX8_feast_3 24 rfl rfl
theorem dX8_feast_0 : decode cX8_feast 0 = .ok (.aload_n 0, 1) := dk_42 (dk_at dksX8_feast_0 0 rfl rfl)
theorem dX8_feast_1 : decode cX8_feast 1 = .ok (.iload_n 2, 1) := dk_28 (dk_at dksX8_feast_0 1 rfl rfl)
theorem dX8_feast_2 : decode cX8_feast 2 = .ok (.invokestatic 260, 3) := dk_184 1 4 (dk_at dksX8_feast_0 2 rfl rfl)
theorem dX8_feast_5 : decode cX8_feast 5 = .ok (.ifCond .ne 7, 3) := dk_154 0 7 (dk_at dksX8_feast_0 5 rfl rfl)
theorem dX8_feast_8 : decode cX8_feast 8 = .ok (.iconst 1, 1) := dk_4 (dk_at dksX8_feast_0 8 rfl rfl)
theorem dX8_feast_9 : decode cX8_feast 9 = .ok (.goto 4, 3) := dk_167 0 4 (dk_at dksX8_feast_0 9 rfl rfl)
theorem dX8_feast_12 : decode cX8_feast 12 = .ok (.iconst 0, 1) := dk_3 (dk_at dksX8_feast_0 12 rfl rfl)
theorem dX8_feast_13 : decode cX8_feast 13 = .ok (.putfield 56, 3) := dk_181 0 56 (dk_at dksX8_feast_0 13 rfl rfl)
theorem dX8_feast_16 : decode cX8_feast 16 = .ok (.aload_n 0, 1) := dk_42 (dk_at dksX8_feast_0 16 rfl rfl)
theorem dX8_feast_17 : decode cX8_feast 17 = .ok (.getfield 56, 3) := dk_180 0 56 (dk_at dksX8_feast_0 17 rfl rfl)
theorem dX8_feast_20 : decode cX8_feast 20 = .ok (.ifCond .le 5, 3) := dk_158 0 5 (dk_at dksX8_feast_0 20 rfl rfl)
theorem dX8_feast_23 : decode cX8_feast 23 = .ok (.iconst 0, 1) := dk_3 (dk_at dksX8_feast_0 23 rfl rfl)
theorem dX8_feast_24 : decode cX8_feast 24 = .ok (.ireturn, 1) := dk_172 (dk_at dksX8_feast_1 0 rfl rfl)
theorem dX8_feast_25 : decode cX8_feast 25 = .ok (.aload_n 0, 1) := dk_42 (dk_at dksX8_feast_1 1 rfl rfl)
theorem dX8_feast_26 : decode cX8_feast 26 = .ok (.invokevirtual 296, 3) := dk_182 1 40 (dk_at dksX8_feast_1 2 rfl rfl)
theorem dX8_feast_29 : decode cX8_feast 29 = .ok (.iconst 0, 1) := dk_3 (dk_at dksX8_feast_1 5 rfl rfl)
theorem dX8_feast_30 : decode cX8_feast 30 = .ok (.istore_n 3, 1) := dk_62 (dk_at dksX8_feast_1 6 rfl rfl)
theorem dX8_feast_31 : decode cX8_feast 31 = .ok (.iconst 0, 1) := dk_3 (dk_at dksX8_feast_1 7 rfl rfl)
theorem dX8_feast_32 : decode cX8_feast 32 = .ok (.istore 4, 2) := dk_54 4 (dk_at dksX8_feast_1 8 rfl rfl)
theorem dX8_feast_34 : decode cX8_feast 34 = .ok (.iload 4, 2) := dk_21 4 (dk_at dksX8_feast_1 10 rfl rfl)
theorem dX8_feast_36 : decode cX8_feast 36 = .ok (.aload_n 0, 1) := dk_42 (dk_at dksX8_feast_1 12 rfl rfl)
theorem dX8_feast_37 : decode cX8_feast 37 = .ok (.getfield 7, 3) := dk_180 0 7 (dk_at dksX8_feast_1 13 rfl rfl)
theorem dX8_feast_40 : decode cX8_feast 40 = .ok (.iconst 5, 1) := dk_8 (dk_at dksX8_feast_1 16 rfl rfl)
theorem dX8_feast_41 : decode cX8_feast 41 = .ok (.iaload, 1) := dk_46 (dk_at dksX8_feast_1 17 rfl rfl)
theorem dX8_feast_42 : decode cX8_feast 42 = .ok (.if_icmp .ge 51, 3) := dk_162 0 51 (dk_at dksX8_feast_1 18 rfl rfl)
theorem dX8_feast_45 : decode cX8_feast 45 = .ok (.iload_n 1, 1) := dk_27 (dk_at dksX8_feast_1 21 rfl rfl)
theorem dX8_feast_46 : decode cX8_feast 46 = .ok (.iload 4, 2) := dk_21 4 (dk_at dksX8_feast_1 22 rfl rfl)
theorem dX8_feast_48 : decode cX8_feast 48 = .ok (.invokestatic 305, 3) := dk_184 1 49 (dk_at dksX8_feast_2 0 rfl rfl)
theorem dX8_feast_51 : decode cX8_feast 51 = .ok (.ifCond .ne 6, 3) := dk_154 0 6 (dk_at dksX8_feast_2 3 rfl rfl)
theorem dX8_feast_54 : decode cX8_feast 54 = .ok (.goto 33, 3) := dk_167 0 33 (dk_at dksX8_feast_2 6 rfl rfl)
theorem dX8_feast_57 : decode cX8_feast 57 = .ok (.iload_n 3, 1) := dk_29 (dk_at dksX8_feast_2 9 rfl rfl)
theorem dX8_feast_58 : decode cX8_feast 58 = .ok (.aload_n 0, 1) := dk_42 (dk_at dksX8_feast_2 10 rfl rfl)
theorem dX8_feast_59 : decode cX8_feast 59 = .ok (.iload 4, 2) := dk_21 4 (dk_at dksX8_feast_2 11 rfl rfl)
theorem dX8_feast_61 : decode cX8_feast 61 = .ok (.iconst 1, 1) := dk_4 (dk_at dksX8_feast_2 13 rfl rfl)
theorem dX8_feast_62 : decode cX8_feast 62 = .ok (.invokevirtual 257, 3) := dk_182 1 1 (dk_at dksX8_feast_2 14 rfl rfl)
theorem dX8_feast_65 : decode cX8_feast 65 = .ok (.iload_n 2, 1) := dk_28 (dk_at dksX8_feast_2 17 rfl rfl)
theorem dX8_feast_66 : decode cX8_feast 66 = .ok (.if_icmp .ne 7, 3) := dk_160 0 7 (dk_at dksX8_feast_2 18 rfl rfl)
theorem dX8_feast_69 : decode cX8_feast 69 = .ok (.iconst 0, 1) := dk_3 (dk_at dksX8_feast_2 21 rfl rfl)
theorem dX8_feast_70 : decode cX8_feast 70 = .ok (.goto 7, 3) := dk_167 0 7 (dk_at dksX8_feast_3 0 rfl rfl)
theorem dX8_feast_73 : decode cX8_feast 73 = .ok (.iconst 1, 1) := dk_4 (dk_at dksX8_feast_3 3 rfl rfl)
theorem dX8_feast_74 : decode cX8_feast 74 = .ok (.iload 4, 2) := dk_21 4 (dk_at dksX8_feast_3 4 rfl rfl)
theorem dX8_feast_76 : decode cX8_feast 76 = .ok (.ishl, 1) := dk_120 (dk_at dksX8_feast_3 6 rfl rfl)
theorem dX8_feast_77 : decode cX8_feast 77 = .ok (.ior, 1) := dk_128 (dk_at dksX8_feast_3 7 rfl rfl)
theorem dX8_feast_78 : decode cX8_feast 78 = .ok (.istore_n 3, 1) := dk_62 (dk_at dksX8_feast_3 8 rfl rfl)
theorem dX8_feast_79 : decode cX8_feast 79 = .ok (.aload_n 0, 1) := dk_42 (dk_at dksX8_feast_3 9 rfl rfl)
theorem dX8_feast_80 : decode cX8_feast 80 = .ok (.iload 4, 2) := dk_21 4 (dk_at dksX8_feast_3 10 rfl rfl)
theorem dX8_feast_82 : decode cX8_feast 82 = .ok (.iconst 1, 1) := dk_4 (dk_at dksX8_feast_3 12 rfl rfl)
theorem dX8_feast_83 : decode cX8_feast 83 = .ok (.iload_n 2, 1) := dk_28 (dk_at dksX8_feast_3 13 rfl rfl)
theorem dX8_feast_84 : decode cX8_feast 84 = .ok (.invokevirtual 141, 3) := dk_182 0 141 (dk_at dksX8_feast_3 14 rfl rfl)
theorem dX8_feast_87 : decode cX8_feast 87 = .ok (.iinc 4 1, 3) := dk_132 4 1 (dk_at dksX8_feast_3 17 rfl rfl)
theorem dX8_feast_90 : decode cX8_feast 90 = .ok (.goto (-56), 3) := dk_167 255 200 (dk_at dksX8_feast_3 20 rfl rfl)
theorem dX8_feast_93 : decode cX8_feast 93 = .ok (.iload_n 3, 1) := dk_29 (dk_at dksX8_feast_3 23 rfl rfl)
theorem dX8_feast_94 : decode cX8_feast 94 = .ok (.ireturn, 1) := dk_172 (dk_at dksX8_feast_4 0 rfl rfl)
abbrev cX8_isOf : ByteArray := prog_23_method_6_code
def yX8_isOf : MethodName := ⟨RX8, "isOf", "(II)Z"⟩
def dkwX8_isOf_0 : List UInt8 := [26, 27, 122, 4, 126, 4, 160, 0, 7, 4, 167, 0, 4, 3, 172]
abbrev dktX8_isOf_0 : List UInt8 := dkwX8_isOf_0 ++ []
theorem dksX8_isOf_0 : cX8_isOf.data.toList.drop 0 = dktX8_isOf_0 := by decide +kernel
theorem dX8_isOf_0 : decode cX8_isOf 0 = .ok (.iload_n 0, 1) := dk_26 (dk_at dksX8_isOf_0 0 rfl rfl)
theorem dX8_isOf_1 : decode cX8_isOf 1 = .ok (.iload_n 1, 1) := dk_27 (dk_at dksX8_isOf_0 1 rfl rfl)
theorem dX8_isOf_2 : decode cX8_isOf 2 = .ok (.ishr, 1) := dk_122 (dk_at dksX8_isOf_0 2 rfl rfl)
theorem dX8_isOf_3 : decode cX8_isOf 3 = .ok (.iconst 1, 1) := dk_4 (dk_at dksX8_isOf_0 3 rfl rfl)
theorem dX8_isOf_4 : decode cX8_isOf 4 = .ok (.iand, 1) := dk_126 (dk_at dksX8_isOf_0 4 rfl rfl)
theorem dX8_isOf_5 : decode cX8_isOf 5 = .ok (.iconst 1, 1) := dk_4 (dk_at dksX8_isOf_0 5 rfl rfl)
theorem dX8_isOf_6 : decode cX8_isOf 6 = .ok (.if_icmp .ne 7, 3) := dk_160 0 7 (dk_at dksX8_isOf_0 6 rfl rfl)
theorem dX8_isOf_9 : decode cX8_isOf 9 = .ok (.iconst 1, 1) := dk_4 (dk_at dksX8_isOf_0 9 rfl rfl)
theorem dX8_isOf_10 : decode cX8_isOf 10 = .ok (.goto 4, 3) := dk_167 0 4 (dk_at dksX8_isOf_0 10 rfl rfl)
theorem dX8_isOf_13 : decode cX8_isOf 13 = .ok (.iconst 0, 1) := dk_3 (dk_at dksX8_isOf_0 13 rfl rfl)
theorem dX8_isOf_14 : decode cX8_isOf 14 = .ok (.ireturn, 1) := dk_172 (dk_at dksX8_isOf_0 14 rfl rfl)
abbrev cX8_expected : ByteArray := prog_23_method_72_code
def yX8_expected : MethodName := ⟨RX8, "expected", "(II)I"⟩
def dkwX8_expected_1 : List UInt8 := [42, 180, 0, 56, 158, 0, 7, 3, 167, 0, 9, 42, 27, 28, 182, 1, 52, 172]
abbrev dktX8_expected_1 : List UInt8 := dkwX8_expected_1 ++ []
def dkwX8_expected_0 : List UInt8 := [42, 42, 27, 182, 1, 10, 153, 0, 10, 28, 184, 1, 4, 154, 0, 7, 4, 167, 0, 4, 3, 181, 0, 56]
abbrev dktX8_expected_0 : List UInt8 := dkwX8_expected_0 ++ dktX8_expected_1
theorem dksX8_expected_0 : cX8_expected.data.toList.drop 0 = dktX8_expected_0 := by decide +kernel
theorem dksX8_expected_1 : cX8_expected.data.toList.drop 24 = dktX8_expected_1 := dk_seg dksX8_expected_0 24 rfl rfl
theorem dX8_expected_0 : decode cX8_expected 0 = .ok (.aload_n 0, 1) := dk_42 (dk_at dksX8_expected_0 0 rfl rfl)
theorem dX8_expected_1 : decode cX8_expected 1 = .ok (.aload_n 0, 1) := dk_42 (dk_at dksX8_expected_0 1 rfl rfl)
theorem dX8_expected_2 : decode cX8_expected 2 = .ok (.iload_n 1, 1) := dk_27 (dk_at dksX8_expected_0 2 rfl rfl)
theorem dX8_expected_3 : decode cX8_expected 3 = .ok (.invokevirtual 266, 3) := dk_182 1 10 (dk_at dksX8_expected_0 3 rfl rfl)
theorem dX8_expected_6 : decode cX8_expected 6 = .ok (.ifCond .eq 10, 3) := dk_153 0 10 (dk_at dksX8_expected_0 6 rfl rfl)
theorem dX8_expected_9 : decode cX8_expected 9 = .ok (.iload_n 2, 1) := dk_28 (dk_at dksX8_expected_0 9 rfl rfl)
theorem dX8_expected_10 : decode cX8_expected 10 = .ok (.invokestatic 260, 3) := dk_184 1 4 (dk_at dksX8_expected_0 10 rfl rfl)
theorem dX8_expected_13 : decode cX8_expected 13 = .ok (.ifCond .ne 7, 3) := dk_154 0 7 (dk_at dksX8_expected_0 13 rfl rfl)
theorem dX8_expected_16 : decode cX8_expected 16 = .ok (.iconst 1, 1) := dk_4 (dk_at dksX8_expected_0 16 rfl rfl)
theorem dX8_expected_17 : decode cX8_expected 17 = .ok (.goto 4, 3) := dk_167 0 4 (dk_at dksX8_expected_0 17 rfl rfl)
theorem dX8_expected_20 : decode cX8_expected 20 = .ok (.iconst 0, 1) := dk_3 (dk_at dksX8_expected_0 20 rfl rfl)
theorem dX8_expected_21 : decode cX8_expected 21 = .ok (.putfield 56, 3) := dk_181 0 56 (dk_at dksX8_expected_0 21 rfl rfl)
theorem dX8_expected_24 : decode cX8_expected 24 = .ok (.aload_n 0, 1) := dk_42 (dk_at dksX8_expected_1 0 rfl rfl)
theorem dX8_expected_25 : decode cX8_expected 25 = .ok (.getfield 56, 3) := dk_180 0 56 (dk_at dksX8_expected_1 1 rfl rfl)
theorem dX8_expected_28 : decode cX8_expected 28 = .ok (.ifCond .le 7, 3) := dk_158 0 7 (dk_at dksX8_expected_1 4 rfl rfl)
theorem dX8_expected_31 : decode cX8_expected 31 = .ok (.iconst 0, 1) := dk_3 (dk_at dksX8_expected_1 7 rfl rfl)
theorem dX8_expected_32 : decode cX8_expected 32 = .ok (.goto 9, 3) := dk_167 0 9 (dk_at dksX8_expected_1 8 rfl rfl)
theorem dX8_expected_35 : decode cX8_expected 35 = .ok (.aload_n 0, 1) := dk_42 (dk_at dksX8_expected_1 11 rfl rfl)
theorem dX8_expected_36 : decode cX8_expected 36 = .ok (.iload_n 1, 1) := dk_27 (dk_at dksX8_expected_1 12 rfl rfl)
theorem dX8_expected_37 : decode cX8_expected 37 = .ok (.iload_n 2, 1) := dk_28 (dk_at dksX8_expected_1 13 rfl rfl)
theorem dX8_expected_38 : decode cX8_expected 38 = .ok (.invokevirtual 308, 3) := dk_182 1 52 (dk_at dksX8_expected_1 14 rfl rfl)
theorem dX8_expected_41 : decode cX8_expected 41 = .ok (.ireturn, 1) := dk_172 (dk_at dksX8_expected_1 17 rfl rfl)
abbrev cX8_expects : ByteArray := prog_23_method_71_code
def yX8_expects : MethodName := ⟨RX8, "expects", "(II)I"⟩
def dkwX8_expects_3 : List UInt8 := [62, 132, 4, 1, 167, 255, 185, 29, 172]
abbrev dktX8_expects_3 : List UInt8 := dkwX8_expects_3 ++ []
def dkwX8_expects_2 : List UInt8 := [28, 42, 180, 0, 7, 16, 20, 6, 21, 4, 104, 96, 4, 96, 46, 182, 1, 7, 104, 167, 0, 4, 3, 96]
abbrev dktX8_expects_2 : List UInt8 := dkwX8_expects_2 ++ dktX8_expects_3
def dkwX8_expects_1 : List UInt8 := [21, 4, 104, 96, 46, 27, 160, 0, 40, 42, 180, 0, 7, 16, 20, 6, 21, 4, 104, 96, 5, 96, 46, 42]
abbrev dktX8_expects_1 : List UInt8 := dkwX8_expects_1 ++ dktX8_expects_2
def dkwX8_expects_0 : List UInt8 := [3, 62, 3, 54, 4, 21, 4, 42, 180, 0, 7, 7, 46, 162, 0, 66, 29, 42, 180, 0, 7, 16, 20, 6]
abbrev dktX8_expects_0 : List UInt8 := dkwX8_expects_0 ++ dktX8_expects_1
theorem dksX8_expects_0 : cX8_expects.data.toList.drop 0 = dktX8_expects_0 := by decide +kernel
theorem dksX8_expects_1 : cX8_expects.data.toList.drop 24 = dktX8_expects_1 := dk_seg dksX8_expects_0 24 rfl rfl
theorem dksX8_expects_2 : cX8_expects.data.toList.drop 48 = dktX8_expects_2 := dk_seg dksX8_expects_1 24 rfl rfl
theorem dksX8_expects_3 : cX8_expects.data.toList.drop 72 = dktX8_expects_3 := dk_seg dksX8_expects_2 24 rfl rfl
theorem dX8_expects_0 : decode cX8_expects 0 = .ok (.iconst 0, 1) := dk_3 (dk_at dksX8_expects_0 0 rfl rfl)
theorem dX8_expects_1 : decode cX8_expects 1 = .ok (.istore_n 3, 1) := dk_62 (dk_at dksX8_expects_0 1 rfl rfl)
theorem dX8_expects_2 : decode cX8_expects 2 = .ok (.iconst 0, 1) := dk_3 (dk_at dksX8_expects_0 2 rfl rfl)
theorem dX8_expects_3 : decode cX8_expects 3 = .ok (.istore 4, 2) := dk_54 4 (dk_at dksX8_expects_0 3 rfl rfl)
theorem dX8_expects_5 : decode cX8_expects 5 = .ok (.iload 4, 2) := dk_21 4 (dk_at dksX8_expects_0 5 rfl rfl)
theorem dX8_expects_7 : decode cX8_expects 7 = .ok (.aload_n 0, 1) := dk_42 (dk_at dksX8_expects_0 7 rfl rfl)
theorem dX8_expects_8 : decode cX8_expects 8 = .ok (.getfield 7, 3) := dk_180 0 7 (dk_at dksX8_expects_0 8 rfl rfl)
theorem dX8_expects_11 : decode cX8_expects 11 = .ok (.iconst 4, 1) := dk_7 (dk_at dksX8_expects_0 11 rfl rfl)
theorem dX8_expects_12 : decode cX8_expects 12 = .ok (.iaload, 1) := dk_46 (dk_at dksX8_expects_0 12 rfl rfl)
theorem dX8_expects_13 : decode cX8_expects 13 = .ok (.if_icmp .ge 66, 3) := dk_162 0 66 (dk_at dksX8_expects_0 13 rfl rfl)
theorem dX8_expects_16 : decode cX8_expects 16 = .ok (.iload_n 3, 1) := dk_29 (dk_at dksX8_expects_0 16 rfl rfl)
theorem dX8_expects_17 : decode cX8_expects 17 = .ok (.aload_n 0, 1) := dk_42 (dk_at dksX8_expects_0 17 rfl rfl)
theorem dX8_expects_18 : decode cX8_expects 18 = .ok (.getfield 7, 3) := dk_180 0 7 (dk_at dksX8_expects_0 18 rfl rfl)
theorem dX8_expects_21 : decode cX8_expects 21 = .ok (.bipush 20, 2) := dk_16 20 (dk_at dksX8_expects_0 21 rfl rfl)
theorem dX8_expects_23 : decode cX8_expects 23 = .ok (.iconst 3, 1) := dk_6 (dk_at dksX8_expects_0 23 rfl rfl)
theorem dX8_expects_24 : decode cX8_expects 24 = .ok (.iload 4, 2) := dk_21 4 (dk_at dksX8_expects_1 0 rfl rfl)
theorem dX8_expects_26 : decode cX8_expects 26 = .ok (.imul, 1) := dk_104 (dk_at dksX8_expects_1 2 rfl rfl)
theorem dX8_expects_27 : decode cX8_expects 27 = .ok (.iadd, 1) := dk_96 (dk_at dksX8_expects_1 3 rfl rfl)
theorem dX8_expects_28 : decode cX8_expects 28 = .ok (.iaload, 1) := dk_46 (dk_at dksX8_expects_1 4 rfl rfl)
theorem dX8_expects_29 : decode cX8_expects 29 = .ok (.iload_n 1, 1) := dk_27 (dk_at dksX8_expects_1 5 rfl rfl)
theorem dX8_expects_30 : decode cX8_expects 30 = .ok (.if_icmp .ne 40, 3) := dk_160 0 40 (dk_at dksX8_expects_1 6 rfl rfl)
theorem dX8_expects_33 : decode cX8_expects 33 = .ok (.aload_n 0, 1) := dk_42 (dk_at dksX8_expects_1 9 rfl rfl)
theorem dX8_expects_34 : decode cX8_expects 34 = .ok (.getfield 7, 3) := dk_180 0 7 (dk_at dksX8_expects_1 10 rfl rfl)
theorem dX8_expects_37 : decode cX8_expects 37 = .ok (.bipush 20, 2) := dk_16 20 (dk_at dksX8_expects_1 13 rfl rfl)
theorem dX8_expects_39 : decode cX8_expects 39 = .ok (.iconst 3, 1) := dk_6 (dk_at dksX8_expects_1 15 rfl rfl)
theorem dX8_expects_40 : decode cX8_expects 40 = .ok (.iload 4, 2) := dk_21 4 (dk_at dksX8_expects_1 16 rfl rfl)
theorem dX8_expects_42 : decode cX8_expects 42 = .ok (.imul, 1) := dk_104 (dk_at dksX8_expects_1 18 rfl rfl)
theorem dX8_expects_43 : decode cX8_expects 43 = .ok (.iadd, 1) := dk_96 (dk_at dksX8_expects_1 19 rfl rfl)
theorem dX8_expects_44 : decode cX8_expects 44 = .ok (.iconst 2, 1) := dk_5 (dk_at dksX8_expects_1 20 rfl rfl)
theorem dX8_expects_45 : decode cX8_expects 45 = .ok (.iadd, 1) := dk_96 (dk_at dksX8_expects_1 21 rfl rfl)
theorem dX8_expects_46 : decode cX8_expects 46 = .ok (.iaload, 1) := dk_46 (dk_at dksX8_expects_1 22 rfl rfl)
theorem dX8_expects_47 : decode cX8_expects 47 = .ok (.aload_n 0, 1) := dk_42 (dk_at dksX8_expects_1 23 rfl rfl)
theorem dX8_expects_48 : decode cX8_expects 48 = .ok (.iload_n 2, 1) := dk_28 (dk_at dksX8_expects_2 0 rfl rfl)
theorem dX8_expects_49 : decode cX8_expects 49 = .ok (.aload_n 0, 1) := dk_42 (dk_at dksX8_expects_2 1 rfl rfl)
theorem dX8_expects_50 : decode cX8_expects 50 = .ok (.getfield 7, 3) := dk_180 0 7 (dk_at dksX8_expects_2 2 rfl rfl)
theorem dX8_expects_53 : decode cX8_expects 53 = .ok (.bipush 20, 2) := dk_16 20 (dk_at dksX8_expects_2 5 rfl rfl)
theorem dX8_expects_55 : decode cX8_expects 55 = .ok (.iconst 3, 1) := dk_6 (dk_at dksX8_expects_2 7 rfl rfl)
theorem dX8_expects_56 : decode cX8_expects 56 = .ok (.iload 4, 2) := dk_21 4 (dk_at dksX8_expects_2 8 rfl rfl)
theorem dX8_expects_58 : decode cX8_expects 58 = .ok (.imul, 1) := dk_104 (dk_at dksX8_expects_2 10 rfl rfl)
theorem dX8_expects_59 : decode cX8_expects 59 = .ok (.iadd, 1) := dk_96 (dk_at dksX8_expects_2 11 rfl rfl)
theorem dX8_expects_60 : decode cX8_expects 60 = .ok (.iconst 1, 1) := dk_4 (dk_at dksX8_expects_2 12 rfl rfl)
theorem dX8_expects_61 : decode cX8_expects 61 = .ok (.iadd, 1) := dk_96 (dk_at dksX8_expects_2 13 rfl rfl)
theorem dX8_expects_62 : decode cX8_expects 62 = .ok (.iaload, 1) := dk_46 (dk_at dksX8_expects_2 14 rfl rfl)
theorem dX8_expects_63 : decode cX8_expects 63 = .ok (.invokevirtual 263, 3) := dk_182 1 7 (dk_at dksX8_expects_2 15 rfl rfl)
theorem dX8_expects_66 : decode cX8_expects 66 = .ok (.imul, 1) := dk_104 (dk_at dksX8_expects_2 18 rfl rfl)
theorem dX8_expects_67 : decode cX8_expects 67 = .ok (.goto 4, 3) := dk_167 0 4 (dk_at dksX8_expects_2 19 rfl rfl)
theorem dX8_expects_70 : decode cX8_expects 70 = .ok (.iconst 0, 1) := dk_3 (dk_at dksX8_expects_2 22 rfl rfl)
theorem dX8_expects_71 : decode cX8_expects 71 = .ok (.iadd, 1) := dk_96 (dk_at dksX8_expects_2 23 rfl rfl)
theorem dX8_expects_72 : decode cX8_expects 72 = .ok (.istore_n 3, 1) := dk_62 (dk_at dksX8_expects_3 0 rfl rfl)
theorem dX8_expects_73 : decode cX8_expects 73 = .ok (.iinc 4 1, 3) := dk_132 4 1 (dk_at dksX8_expects_3 1 rfl rfl)
theorem dX8_expects_76 : decode cX8_expects 76 = .ok (.goto (-71), 3) := dk_167 255 185 (dk_at dksX8_expects_3 4 rfl rfl)
theorem dX8_expects_79 : decode cX8_expects 79 = .ok (.iload_n 3, 1) := dk_29 (dk_at dksX8_expects_3 7 rfl rfl)
theorem dX8_expects_80 : decode cX8_expects 80 = .ok (.ireturn, 1) := dk_172 (dk_at dksX8_expects_3 8 rfl rfl)
abbrev cX8_best : ByteArray := prog_23_method_74_code
def yX8_best : MethodName := ⟨RX8, "best", "(I)I"⟩
def dkwX8_best_1 : List UInt8 := [3, 167, 0, 8, 42, 27, 182, 1, 55, 172]
abbrev dktX8_best_1 : List UInt8 := dkwX8_best_1 ++ []
def dkwX8_best_0 : List UInt8 := [42, 42, 27, 182, 1, 10, 154, 0, 7, 4, 167, 0, 4, 3, 181, 0, 56, 42, 180, 0, 56, 158, 0, 7]
abbrev dktX8_best_0 : List UInt8 := dkwX8_best_0 ++ dktX8_best_1
theorem dksX8_best_0 : cX8_best.data.toList.drop 0 = dktX8_best_0 := by decide +kernel
theorem dksX8_best_1 : cX8_best.data.toList.drop 24 = dktX8_best_1 := dk_seg dksX8_best_0 24 rfl rfl
theorem dX8_best_0 : decode cX8_best 0 = .ok (.aload_n 0, 1) := dk_42 (dk_at dksX8_best_0 0 rfl rfl)
theorem dX8_best_1 : decode cX8_best 1 = .ok (.aload_n 0, 1) := dk_42 (dk_at dksX8_best_0 1 rfl rfl)
theorem dX8_best_2 : decode cX8_best 2 = .ok (.iload_n 1, 1) := dk_27 (dk_at dksX8_best_0 2 rfl rfl)
theorem dX8_best_3 : decode cX8_best 3 = .ok (.invokevirtual 266, 3) := dk_182 1 10 (dk_at dksX8_best_0 3 rfl rfl)
theorem dX8_best_6 : decode cX8_best 6 = .ok (.ifCond .ne 7, 3) := dk_154 0 7 (dk_at dksX8_best_0 6 rfl rfl)
theorem dX8_best_9 : decode cX8_best 9 = .ok (.iconst 1, 1) := dk_4 (dk_at dksX8_best_0 9 rfl rfl)
theorem dX8_best_10 : decode cX8_best 10 = .ok (.goto 4, 3) := dk_167 0 4 (dk_at dksX8_best_0 10 rfl rfl)
theorem dX8_best_13 : decode cX8_best 13 = .ok (.iconst 0, 1) := dk_3 (dk_at dksX8_best_0 13 rfl rfl)
theorem dX8_best_14 : decode cX8_best 14 = .ok (.putfield 56, 3) := dk_181 0 56 (dk_at dksX8_best_0 14 rfl rfl)
theorem dX8_best_17 : decode cX8_best 17 = .ok (.aload_n 0, 1) := dk_42 (dk_at dksX8_best_0 17 rfl rfl)
theorem dX8_best_18 : decode cX8_best 18 = .ok (.getfield 56, 3) := dk_180 0 56 (dk_at dksX8_best_0 18 rfl rfl)
theorem dX8_best_21 : decode cX8_best 21 = .ok (.ifCond .le 7, 3) := dk_158 0 7 (dk_at dksX8_best_0 21 rfl rfl)
theorem dX8_best_24 : decode cX8_best 24 = .ok (.iconst 0, 1) := dk_3 (dk_at dksX8_best_1 0 rfl rfl)
theorem dX8_best_25 : decode cX8_best 25 = .ok (.goto 8, 3) := dk_167 0 8 (dk_at dksX8_best_1 1 rfl rfl)
theorem dX8_best_28 : decode cX8_best 28 = .ok (.aload_n 0, 1) := dk_42 (dk_at dksX8_best_1 4 rfl rfl)
theorem dX8_best_29 : decode cX8_best 29 = .ok (.iload_n 1, 1) := dk_27 (dk_at dksX8_best_1 5 rfl rfl)
theorem dX8_best_30 : decode cX8_best 30 = .ok (.invokevirtual 311, 3) := dk_182 1 55 (dk_at dksX8_best_1 6 rfl rfl)
theorem dX8_best_33 : decode cX8_best 33 = .ok (.ireturn, 1) := dk_172 (dk_at dksX8_best_1 9 rfl rfl)
abbrev cX8_bestOf : ByteArray := prog_23_method_73_code
def yX8_bestOf : MethodName := ⟨RX8, "bestOf", "(I)I"⟩
def dkwX8_bestOf_1 : List UInt8 := [162, 0, 5, 29, 61, 132, 3, 1, 167, 255, 230, 28, 172]
abbrev dktX8_bestOf_1 : List UInt8 := dkwX8_bestOf_1 ++ []
def dkwX8_bestOf_0 : List UInt8 := [3, 61, 4, 62, 29, 16, 32, 162, 0, 26, 42, 27, 29, 182, 1, 52, 42, 27, 28, 182, 1, 52]
abbrev dktX8_bestOf_0 : List UInt8 := dkwX8_bestOf_0 ++ dktX8_bestOf_1
theorem dksX8_bestOf_0 : cX8_bestOf.data.toList.drop 0 = dktX8_bestOf_0 := by decide +kernel
theorem dksX8_bestOf_1 : cX8_bestOf.data.toList.drop 22 = dktX8_bestOf_1 := dk_seg dksX8_bestOf_0 22 rfl rfl
theorem dX8_bestOf_0 : decode cX8_bestOf 0 = .ok (.iconst 0, 1) := dk_3 (dk_at dksX8_bestOf_0 0 rfl rfl)
theorem dX8_bestOf_1 : decode cX8_bestOf 1 = .ok (.istore_n 2, 1) := dk_61 (dk_at dksX8_bestOf_0 1 rfl rfl)
theorem dX8_bestOf_2 : decode cX8_bestOf 2 = .ok (.iconst 1, 1) := dk_4 (dk_at dksX8_bestOf_0 2 rfl rfl)
theorem dX8_bestOf_3 : decode cX8_bestOf 3 = .ok (.istore_n 3, 1) := dk_62 (dk_at dksX8_bestOf_0 3 rfl rfl)
theorem dX8_bestOf_4 : decode cX8_bestOf 4 = .ok (.iload_n 3, 1) := dk_29 (dk_at dksX8_bestOf_0 4 rfl rfl)
theorem dX8_bestOf_5 : decode cX8_bestOf 5 = .ok (.bipush 32, 2) := dk_16 32 (dk_at dksX8_bestOf_0 5 rfl rfl)
theorem dX8_bestOf_7 : decode cX8_bestOf 7 = .ok (.if_icmp .ge 26, 3) := dk_162 0 26 (dk_at dksX8_bestOf_0 7 rfl rfl)
theorem dX8_bestOf_10 : decode cX8_bestOf 10 = .ok (.aload_n 0, 1) := dk_42 (dk_at dksX8_bestOf_0 10 rfl rfl)
theorem dX8_bestOf_11 : decode cX8_bestOf 11 = .ok (.iload_n 1, 1) := dk_27 (dk_at dksX8_bestOf_0 11 rfl rfl)
theorem dX8_bestOf_12 : decode cX8_bestOf 12 = .ok (.iload_n 3, 1) := dk_29 (dk_at dksX8_bestOf_0 12 rfl rfl)
theorem dX8_bestOf_13 : decode cX8_bestOf 13 = .ok (.invokevirtual 308, 3) := dk_182 1 52 (dk_at dksX8_bestOf_0 13 rfl rfl)
theorem dX8_bestOf_16 : decode cX8_bestOf 16 = .ok (.aload_n 0, 1) := dk_42 (dk_at dksX8_bestOf_0 16 rfl rfl)
theorem dX8_bestOf_17 : decode cX8_bestOf 17 = .ok (.iload_n 1, 1) := dk_27 (dk_at dksX8_bestOf_0 17 rfl rfl)
theorem dX8_bestOf_18 : decode cX8_bestOf 18 = .ok (.iload_n 2, 1) := dk_28 (dk_at dksX8_bestOf_0 18 rfl rfl)
theorem dX8_bestOf_19 : decode cX8_bestOf 19 = .ok (.invokevirtual 308, 3) := dk_182 1 52 (dk_at dksX8_bestOf_0 19 rfl rfl)
theorem dX8_bestOf_22 : decode cX8_bestOf 22 = .ok (.if_icmp .ge 5, 3) := dk_162 0 5 (dk_at dksX8_bestOf_1 0 rfl rfl)
theorem dX8_bestOf_25 : decode cX8_bestOf 25 = .ok (.iload_n 3, 1) := dk_29 (dk_at dksX8_bestOf_1 3 rfl rfl)
theorem dX8_bestOf_26 : decode cX8_bestOf 26 = .ok (.istore_n 2, 1) := dk_61 (dk_at dksX8_bestOf_1 4 rfl rfl)
theorem dX8_bestOf_27 : decode cX8_bestOf 27 = .ok (.iinc 3 1, 3) := dk_132 3 1 (dk_at dksX8_bestOf_1 5 rfl rfl)
theorem dX8_bestOf_30 : decode cX8_bestOf 30 = .ok (.goto (-26), 3) := dk_167 255 230 (dk_at dksX8_bestOf_1 8 rfl rfl)
theorem dX8_bestOf_33 : decode cX8_bestOf 33 = .ok (.iload_n 2, 1) := dk_28 (dk_at dksX8_bestOf_1 11 rfl rfl)
theorem dX8_bestOf_34 : decode cX8_bestOf 34 = .ok (.ireturn, 1) := dk_172 (dk_at dksX8_bestOf_1 12 rfl rfl)
abbrev cX8_safest : ByteArray := prog_23_method_76_code
def yX8_safest : MethodName := ⟨RX8, "safest", "(Z)I"⟩
def dkwX8_safest_2 : List UInt8 := [167, 0, 4, 28, 172]
abbrev dktX8_safest_2 : List UInt8 := dkwX8_safest_2 ++ []
def dkwX8_safest_1 : List UInt8 := [182, 1, 58, 162, 0, 5, 29, 61, 132, 3, 1, 167, 255, 232, 27, 153, 0, 11, 42, 28, 182, 1, 58]
abbrev dktX8_safest_1 : List UInt8 := dkwX8_safest_1 ++ dktX8_safest_2
def dkwX8_safest_0 : List UInt8 := [42, 3, 181, 0, 56, 3, 61, 4, 62, 29, 16, 32, 162, 0, 24, 42, 29, 182, 1, 58, 42, 28]
abbrev dktX8_safest_0 : List UInt8 := dkwX8_safest_0 ++ dktX8_safest_1
theorem dksX8_safest_0 : cX8_safest.data.toList.drop 0 = dktX8_safest_0 := by decide +kernel
theorem dksX8_safest_1 : cX8_safest.data.toList.drop 22 = dktX8_safest_1 := dk_seg dksX8_safest_0 22 rfl rfl
theorem dksX8_safest_2 : cX8_safest.data.toList.drop 45 = dktX8_safest_2 := dk_seg dksX8_safest_1 23 rfl rfl
theorem dX8_safest_0 : decode cX8_safest 0 = .ok (.aload_n 0, 1) := dk_42 (dk_at dksX8_safest_0 0 rfl rfl)
theorem dX8_safest_1 : decode cX8_safest 1 = .ok (.iconst 0, 1) := dk_3 (dk_at dksX8_safest_0 1 rfl rfl)
theorem dX8_safest_2 : decode cX8_safest 2 = .ok (.putfield 56, 3) := dk_181 0 56 (dk_at dksX8_safest_0 2 rfl rfl)
theorem dX8_safest_5 : decode cX8_safest 5 = .ok (.iconst 0, 1) := dk_3 (dk_at dksX8_safest_0 5 rfl rfl)
theorem dX8_safest_6 : decode cX8_safest 6 = .ok (.istore_n 2, 1) := dk_61 (dk_at dksX8_safest_0 6 rfl rfl)
theorem dX8_safest_7 : decode cX8_safest 7 = .ok (.iconst 1, 1) := dk_4 (dk_at dksX8_safest_0 7 rfl rfl)
theorem dX8_safest_8 : decode cX8_safest 8 = .ok (.istore_n 3, 1) := dk_62 (dk_at dksX8_safest_0 8 rfl rfl)
theorem dX8_safest_9 : decode cX8_safest 9 = .ok (.iload_n 3, 1) := dk_29 (dk_at dksX8_safest_0 9 rfl rfl)
theorem dX8_safest_10 : decode cX8_safest 10 = .ok (.bipush 32, 2) := dk_16 32 (dk_at dksX8_safest_0 10 rfl rfl)
theorem dX8_safest_12 : decode cX8_safest 12 = .ok (.if_icmp .ge 24, 3) := dk_162 0 24 (dk_at dksX8_safest_0 12 rfl rfl)
theorem dX8_safest_15 : decode cX8_safest 15 = .ok (.aload_n 0, 1) := dk_42 (dk_at dksX8_safest_0 15 rfl rfl)
theorem dX8_safest_16 : decode cX8_safest 16 = .ok (.iload_n 3, 1) := dk_29 (dk_at dksX8_safest_0 16 rfl rfl)
theorem dX8_safest_17 : decode cX8_safest 17 = .ok (.invokevirtual 314, 3) := dk_182 1 58 (dk_at dksX8_safest_0 17 rfl rfl)
theorem dX8_safest_20 : decode cX8_safest 20 = .ok (.aload_n 0, 1) := dk_42 (dk_at dksX8_safest_0 20 rfl rfl)
theorem dX8_safest_21 : decode cX8_safest 21 = .ok (.iload_n 2, 1) := dk_28 (dk_at dksX8_safest_0 21 rfl rfl)
theorem dX8_safest_22 : decode cX8_safest 22 = .ok (.invokevirtual 314, 3) := dk_182 1 58 (dk_at dksX8_safest_1 0 rfl rfl)
theorem dX8_safest_25 : decode cX8_safest 25 = .ok (.if_icmp .ge 5, 3) := dk_162 0 5 (dk_at dksX8_safest_1 3 rfl rfl)
theorem dX8_safest_28 : decode cX8_safest 28 = .ok (.iload_n 3, 1) := dk_29 (dk_at dksX8_safest_1 6 rfl rfl)
theorem dX8_safest_29 : decode cX8_safest 29 = .ok (.istore_n 2, 1) := dk_61 (dk_at dksX8_safest_1 7 rfl rfl)
theorem dX8_safest_30 : decode cX8_safest 30 = .ok (.iinc 3 1, 3) := dk_132 3 1 (dk_at dksX8_safest_1 8 rfl rfl)
theorem dX8_safest_33 : decode cX8_safest 33 = .ok (.goto (-24), 3) := dk_167 255 232 (dk_at dksX8_safest_1 11 rfl rfl)
theorem dX8_safest_36 : decode cX8_safest 36 = .ok (.iload_n 1, 1) := dk_27 (dk_at dksX8_safest_1 14 rfl rfl)
theorem dX8_safest_37 : decode cX8_safest 37 = .ok (.ifCond .eq 11, 3) := dk_153 0 11 (dk_at dksX8_safest_1 15 rfl rfl)
theorem dX8_safest_40 : decode cX8_safest 40 = .ok (.aload_n 0, 1) := dk_42 (dk_at dksX8_safest_1 18 rfl rfl)
theorem dX8_safest_41 : decode cX8_safest 41 = .ok (.iload_n 2, 1) := dk_28 (dk_at dksX8_safest_1 19 rfl rfl)
theorem dX8_safest_42 : decode cX8_safest 42 = .ok (.invokevirtual 314, 3) := dk_182 1 58 (dk_at dksX8_safest_1 20 rfl rfl)
theorem dX8_safest_45 : decode cX8_safest 45 = .ok (.goto 4, 3) := dk_167 0 4 (dk_at dksX8_safest_2 0 rfl rfl)
theorem dX8_safest_48 : decode cX8_safest 48 = .ok (.iload_n 2, 1) := dk_28 (dk_at dksX8_safest_2 3 rfl rfl)
theorem dX8_safest_49 : decode cX8_safest 49 = .ok (.ireturn, 1) := dk_172 (dk_at dksX8_safest_2 4 rfl rfl)
abbrev cX8_dearest : ByteArray := prog_23_method_75_code
def yX8_dearest : MethodName := ⟨RX8, "dearest", "(I)I"⟩
def dkwX8_dearest_1 : List UInt8 := [29, 104, 96, 4, 96, 46, 182, 1, 7, 184, 1, 31, 61, 132, 3, 1, 167, 255, 220, 28, 172]
abbrev dktX8_dearest_1 : List UInt8 := dkwX8_dearest_1 ++ []
def dkwX8_dearest_0 : List UInt8 := [3, 61, 3, 62, 29, 42, 180, 0, 7, 7, 46, 162, 0, 32, 28, 42, 27, 42, 180, 0, 7, 16, 20, 6]
abbrev dktX8_dearest_0 : List UInt8 := dkwX8_dearest_0 ++ dktX8_dearest_1
theorem dksX8_dearest_0 : cX8_dearest.data.toList.drop 0 = dktX8_dearest_0 := by decide +kernel
theorem dksX8_dearest_1 : cX8_dearest.data.toList.drop 24 = dktX8_dearest_1 := dk_seg dksX8_dearest_0 24 rfl rfl
theorem dX8_dearest_0 : decode cX8_dearest 0 = .ok (.iconst 0, 1) := dk_3 (dk_at dksX8_dearest_0 0 rfl rfl)
theorem dX8_dearest_1 : decode cX8_dearest 1 = .ok (.istore_n 2, 1) := dk_61 (dk_at dksX8_dearest_0 1 rfl rfl)
theorem dX8_dearest_2 : decode cX8_dearest 2 = .ok (.iconst 0, 1) := dk_3 (dk_at dksX8_dearest_0 2 rfl rfl)
theorem dX8_dearest_3 : decode cX8_dearest 3 = .ok (.istore_n 3, 1) := dk_62 (dk_at dksX8_dearest_0 3 rfl rfl)
theorem dX8_dearest_4 : decode cX8_dearest 4 = .ok (.iload_n 3, 1) := dk_29 (dk_at dksX8_dearest_0 4 rfl rfl)
theorem dX8_dearest_5 : decode cX8_dearest 5 = .ok (.aload_n 0, 1) := dk_42 (dk_at dksX8_dearest_0 5 rfl rfl)
theorem dX8_dearest_6 : decode cX8_dearest 6 = .ok (.getfield 7, 3) := dk_180 0 7 (dk_at dksX8_dearest_0 6 rfl rfl)
theorem dX8_dearest_9 : decode cX8_dearest 9 = .ok (.iconst 4, 1) := dk_7 (dk_at dksX8_dearest_0 9 rfl rfl)
theorem dX8_dearest_10 : decode cX8_dearest 10 = .ok (.iaload, 1) := dk_46 (dk_at dksX8_dearest_0 10 rfl rfl)
theorem dX8_dearest_11 : decode cX8_dearest 11 = .ok (.if_icmp .ge 32, 3) := dk_162 0 32 (dk_at dksX8_dearest_0 11 rfl rfl)
theorem dX8_dearest_14 : decode cX8_dearest 14 = .ok (.iload_n 2, 1) := dk_28 (dk_at dksX8_dearest_0 14 rfl rfl)
theorem dX8_dearest_15 : decode cX8_dearest 15 = .ok (.aload_n 0, 1) := dk_42 (dk_at dksX8_dearest_0 15 rfl rfl)
theorem dX8_dearest_16 : decode cX8_dearest 16 = .ok (.iload_n 1, 1) := dk_27 (dk_at dksX8_dearest_0 16 rfl rfl)
theorem dX8_dearest_17 : decode cX8_dearest 17 = .ok (.aload_n 0, 1) := dk_42 (dk_at dksX8_dearest_0 17 rfl rfl)
theorem dX8_dearest_18 : decode cX8_dearest 18 = .ok (.getfield 7, 3) := dk_180 0 7 (dk_at dksX8_dearest_0 18 rfl rfl)
theorem dX8_dearest_21 : decode cX8_dearest 21 = .ok (.bipush 20, 2) := dk_16 20 (dk_at dksX8_dearest_0 21 rfl rfl)
theorem dX8_dearest_23 : decode cX8_dearest 23 = .ok (.iconst 3, 1) := dk_6 (dk_at dksX8_dearest_0 23 rfl rfl)
theorem dX8_dearest_24 : decode cX8_dearest 24 = .ok (.iload_n 3, 1) := dk_29 (dk_at dksX8_dearest_1 0 rfl rfl)
theorem dX8_dearest_25 : decode cX8_dearest 25 = .ok (.imul, 1) := dk_104 (dk_at dksX8_dearest_1 1 rfl rfl)
theorem dX8_dearest_26 : decode cX8_dearest 26 = .ok (.iadd, 1) := dk_96 (dk_at dksX8_dearest_1 2 rfl rfl)
theorem dX8_dearest_27 : decode cX8_dearest 27 = .ok (.iconst 1, 1) := dk_4 (dk_at dksX8_dearest_1 3 rfl rfl)
theorem dX8_dearest_28 : decode cX8_dearest 28 = .ok (.iadd, 1) := dk_96 (dk_at dksX8_dearest_1 4 rfl rfl)
theorem dX8_dearest_29 : decode cX8_dearest 29 = .ok (.iaload, 1) := dk_46 (dk_at dksX8_dearest_1 5 rfl rfl)
theorem dX8_dearest_30 : decode cX8_dearest 30 = .ok (.invokevirtual 263, 3) := dk_182 1 7 (dk_at dksX8_dearest_1 6 rfl rfl)
theorem dX8_dearest_33 : decode cX8_dearest 33 = .ok (.invokestatic 287, 3) := dk_184 1 31 (dk_at dksX8_dearest_1 9 rfl rfl)
theorem dX8_dearest_36 : decode cX8_dearest 36 = .ok (.istore_n 2, 1) := dk_61 (dk_at dksX8_dearest_1 12 rfl rfl)
theorem dX8_dearest_37 : decode cX8_dearest 37 = .ok (.iinc 3 1, 3) := dk_132 3 1 (dk_at dksX8_dearest_1 13 rfl rfl)
theorem dX8_dearest_40 : decode cX8_dearest 40 = .ok (.goto (-36), 3) := dk_167 255 220 (dk_at dksX8_dearest_1 16 rfl rfl)
theorem dX8_dearest_43 : decode cX8_dearest 43 = .ok (.iload_n 2, 1) := dk_28 (dk_at dksX8_dearest_1 19 rfl rfl)
theorem dX8_dearest_44 : decode cX8_dearest 44 = .ok (.ireturn, 1) := dk_172 (dk_at dksX8_dearest_1 20 rfl rfl)
abbrev cX8_odds : ByteArray := prog_23_method_77_code
def yX8_odds : MethodName := ⟨RX8, "odds", "(II)I"⟩
def dkwX8_odds_2 : List UInt8 := [182, 1, 13, 104, 42, 27, 2, 182, 1, 13, 108, 172]
abbrev dktX8_odds_2 : List UInt8 := dkwX8_odds_2 ++ []
def dkwX8_odds_1 : List UInt8 := [42, 180, 0, 56, 157, 0, 12, 42, 27, 2, 182, 1, 13, 154, 0, 5, 3, 172, 17, 39, 16, 42, 27, 28]
abbrev dktX8_odds_1 : List UInt8 := dkwX8_odds_1 ++ dktX8_odds_2
def dkwX8_odds_0 : List UInt8 := [42, 42, 27, 182, 1, 10, 153, 0, 10, 28, 184, 1, 4, 154, 0, 7, 4, 167, 0, 4, 3, 181, 0, 56]
abbrev dktX8_odds_0 : List UInt8 := dkwX8_odds_0 ++ dktX8_odds_1
theorem dksX8_odds_0 : cX8_odds.data.toList.drop 0 = dktX8_odds_0 := by decide +kernel
theorem dksX8_odds_1 : cX8_odds.data.toList.drop 24 = dktX8_odds_1 := dk_seg dksX8_odds_0 24 rfl rfl
theorem dksX8_odds_2 : cX8_odds.data.toList.drop 48 = dktX8_odds_2 := dk_seg dksX8_odds_1 24 rfl rfl
theorem dX8_odds_0 : decode cX8_odds 0 = .ok (.aload_n 0, 1) := dk_42 (dk_at dksX8_odds_0 0 rfl rfl)
theorem dX8_odds_1 : decode cX8_odds 1 = .ok (.aload_n 0, 1) := dk_42 (dk_at dksX8_odds_0 1 rfl rfl)
theorem dX8_odds_2 : decode cX8_odds 2 = .ok (.iload_n 1, 1) := dk_27 (dk_at dksX8_odds_0 2 rfl rfl)
theorem dX8_odds_3 : decode cX8_odds 3 = .ok (.invokevirtual 266, 3) := dk_182 1 10 (dk_at dksX8_odds_0 3 rfl rfl)
theorem dX8_odds_6 : decode cX8_odds 6 = .ok (.ifCond .eq 10, 3) := dk_153 0 10 (dk_at dksX8_odds_0 6 rfl rfl)
theorem dX8_odds_9 : decode cX8_odds 9 = .ok (.iload_n 2, 1) := dk_28 (dk_at dksX8_odds_0 9 rfl rfl)
theorem dX8_odds_10 : decode cX8_odds 10 = .ok (.invokestatic 260, 3) := dk_184 1 4 (dk_at dksX8_odds_0 10 rfl rfl)
theorem dX8_odds_13 : decode cX8_odds 13 = .ok (.ifCond .ne 7, 3) := dk_154 0 7 (dk_at dksX8_odds_0 13 rfl rfl)
theorem dX8_odds_16 : decode cX8_odds 16 = .ok (.iconst 1, 1) := dk_4 (dk_at dksX8_odds_0 16 rfl rfl)
theorem dX8_odds_17 : decode cX8_odds 17 = .ok (.goto 4, 3) := dk_167 0 4 (dk_at dksX8_odds_0 17 rfl rfl)
theorem dX8_odds_20 : decode cX8_odds 20 = .ok (.iconst 0, 1) := dk_3 (dk_at dksX8_odds_0 20 rfl rfl)
theorem dX8_odds_21 : decode cX8_odds 21 = .ok (.putfield 56, 3) := dk_181 0 56 (dk_at dksX8_odds_0 21 rfl rfl)
theorem dX8_odds_24 : decode cX8_odds 24 = .ok (.aload_n 0, 1) := dk_42 (dk_at dksX8_odds_1 0 rfl rfl)
theorem dX8_odds_25 : decode cX8_odds 25 = .ok (.getfield 56, 3) := dk_180 0 56 (dk_at dksX8_odds_1 1 rfl rfl)
theorem dX8_odds_28 : decode cX8_odds 28 = .ok (.ifCond .gt 12, 3) := dk_157 0 12 (dk_at dksX8_odds_1 4 rfl rfl)
theorem dX8_odds_31 : decode cX8_odds 31 = .ok (.aload_n 0, 1) := dk_42 (dk_at dksX8_odds_1 7 rfl rfl)
theorem dX8_odds_32 : decode cX8_odds 32 = .ok (.iload_n 1, 1) := dk_27 (dk_at dksX8_odds_1 8 rfl rfl)
theorem dX8_odds_33 : decode cX8_odds 33 = .ok (.iconst (-1), 1) := dk_2 (dk_at dksX8_odds_1 9 rfl rfl)
theorem dX8_odds_34 : decode cX8_odds 34 = .ok (.invokevirtual 269, 3) := dk_182 1 13 (dk_at dksX8_odds_1 10 rfl rfl)
theorem dX8_odds_37 : decode cX8_odds 37 = .ok (.ifCond .ne 5, 3) := dk_154 0 5 (dk_at dksX8_odds_1 13 rfl rfl)
theorem dX8_odds_40 : decode cX8_odds 40 = .ok (.iconst 0, 1) := dk_3 (dk_at dksX8_odds_1 16 rfl rfl)
theorem dX8_odds_41 : decode cX8_odds 41 = .ok (.ireturn, 1) := dk_172 (dk_at dksX8_odds_1 17 rfl rfl)
theorem dX8_odds_42 : decode cX8_odds 42 = .ok (.sipush 10000, 3) := dk_17 39 16 (dk_at dksX8_odds_1 18 rfl rfl)
theorem dX8_odds_45 : decode cX8_odds 45 = .ok (.aload_n 0, 1) := dk_42 (dk_at dksX8_odds_1 21 rfl rfl)
theorem dX8_odds_46 : decode cX8_odds 46 = .ok (.iload_n 1, 1) := dk_27 (dk_at dksX8_odds_1 22 rfl rfl)
theorem dX8_odds_47 : decode cX8_odds 47 = .ok (.iload_n 2, 1) := dk_28 (dk_at dksX8_odds_1 23 rfl rfl)
theorem dX8_odds_48 : decode cX8_odds 48 = .ok (.invokevirtual 269, 3) := dk_182 1 13 (dk_at dksX8_odds_2 0 rfl rfl)
theorem dX8_odds_51 : decode cX8_odds 51 = .ok (.imul, 1) := dk_104 (dk_at dksX8_odds_2 3 rfl rfl)
theorem dX8_odds_52 : decode cX8_odds 52 = .ok (.aload_n 0, 1) := dk_42 (dk_at dksX8_odds_2 4 rfl rfl)
theorem dX8_odds_53 : decode cX8_odds 53 = .ok (.iload_n 1, 1) := dk_27 (dk_at dksX8_odds_2 5 rfl rfl)
theorem dX8_odds_54 : decode cX8_odds 54 = .ok (.iconst (-1), 1) := dk_2 (dk_at dksX8_odds_2 6 rfl rfl)
theorem dX8_odds_55 : decode cX8_odds 55 = .ok (.invokevirtual 269, 3) := dk_182 1 13 (dk_at dksX8_odds_2 7 rfl rfl)
theorem dX8_odds_58 : decode cX8_odds 58 = .ok (.idiv, 1) := dk_108 (dk_at dksX8_odds_2 10 rfl rfl)
theorem dX8_odds_59 : decode cX8_odds 59 = .ok (.ireturn, 1) := dk_172 (dk_at dksX8_odds_2 11 rfl rfl)
abbrev cX8_from : ByteArray := prog_23_method_79_code
def yX8_from : MethodName := ⟨RX8, "from", "(Z)I"⟩
def dkwX8_from_7 : List UInt8 := [132, 6, 1, 167, 255, 169, 27, 153, 0, 8, 21, 5, 167, 0, 5, 21, 4, 172]
abbrev dktX8_from_7 : List UInt8 := dkwX8_from_7 ++ []
def dkwX8_from_6 : List UInt8 := [28, 3, 182, 1, 61, 42, 21, 6, 28, 4, 182, 1, 61, 105, 148, 158, 0, 7, 21, 6, 54, 5]
abbrev dktX8_from_6 : List UInt8 := dkwX8_from_6 ++ dktX8_from_7
def dkwX8_from_5 : List UInt8 := [2, 159, 0, 41, 42, 21, 6, 28, 3, 182, 1, 61, 42, 21, 5, 28, 4, 182, 1, 61, 105, 42, 21, 5]
abbrev dktX8_from_5 : List UInt8 := dkwX8_from_5 ++ dktX8_from_6
def dkwX8_from_4 : List UInt8 := [28, 3, 182, 1, 61, 9, 148, 154, 0, 6, 167, 0, 60, 21, 4, 4, 21, 6, 120, 128, 54, 4, 21, 5]
abbrev dktX8_from_4 : List UInt8 := dkwX8_from_4 ++ dktX8_from_5
def dkwX8_from_3 : List UInt8 := [172, 3, 54, 4, 2, 54, 5, 3, 54, 6, 21, 6, 42, 180, 0, 7, 6, 46, 162, 0, 82, 42, 21, 6]
abbrev dktX8_from_3 : List UInt8 := dkwX8_from_3 ++ dktX8_from_4
def dkwX8_from_2 : List UInt8 := [167, 255, 232, 42, 29, 153, 0, 7, 3, 167, 0, 4, 4, 181, 0, 56, 42, 180, 0, 56, 158, 0, 5, 3]
abbrev dktX8_from_2 : List UInt8 := dkwX8_from_2 ++ dktX8_from_3
def dkwX8_from_1 : List UInt8 := [21, 4, 28, 162, 0, 24, 29, 153, 0, 20, 42, 180, 0, 22, 21, 4, 46, 184, 1, 4, 62, 132, 4, 1]
abbrev dktX8_from_1 : List UInt8 := dkwX8_from_1 ++ dktX8_from_2
def dkwX8_from_0 : List UInt8 := [42, 180, 0, 73, 61, 42, 3, 181, 0, 73, 28, 7, 163, 0, 7, 4, 167, 0, 4, 3, 62, 3, 54, 4]
abbrev dktX8_from_0 : List UInt8 := dkwX8_from_0 ++ dktX8_from_1
theorem dksX8_from_0 : cX8_from.data.toList.drop 0 = dktX8_from_0 := by decide +kernel
theorem dksX8_from_1 : cX8_from.data.toList.drop 24 = dktX8_from_1 := dk_seg dksX8_from_0 24 rfl rfl
theorem dksX8_from_2 : cX8_from.data.toList.drop 48 = dktX8_from_2 := dk_seg dksX8_from_1 24 rfl rfl
theorem dksX8_from_3 : cX8_from.data.toList.drop 72 = dktX8_from_3 := dk_seg dksX8_from_2 24 rfl rfl
theorem dksX8_from_4 : cX8_from.data.toList.drop 96 = dktX8_from_4 := dk_seg dksX8_from_3 24 rfl rfl
theorem dksX8_from_5 : cX8_from.data.toList.drop 120 = dktX8_from_5 := dk_seg dksX8_from_4 24 rfl rfl
theorem dksX8_from_6 : cX8_from.data.toList.drop 144 = dktX8_from_6 := dk_seg dksX8_from_5 24 rfl rfl
theorem dksX8_from_7 : cX8_from.data.toList.drop 166 = dktX8_from_7 := dk_seg dksX8_from_6 22 rfl rfl
theorem dX8_from_0 : decode cX8_from 0 = .ok (.aload_n 0, 1) := dk_42 (dk_at dksX8_from_0 0 rfl rfl)
theorem dX8_from_1 : decode cX8_from 1 = .ok (.getfield 73, 3) := dk_180 0 73 (dk_at dksX8_from_0 1 rfl rfl)
theorem dX8_from_4 : decode cX8_from 4 = .ok (.istore_n 2, 1) := dk_61 (dk_at dksX8_from_0 4 rfl rfl)
theorem dX8_from_5 : decode cX8_from 5 = .ok (.aload_n 0, 1) := dk_42 (dk_at dksX8_from_0 5 rfl rfl)
theorem dX8_from_6 : decode cX8_from 6 = .ok (.iconst 0, 1) := dk_3 (dk_at dksX8_from_0 6 rfl rfl)
theorem dX8_from_7 : decode cX8_from 7 = .ok (.putfield 73, 3) := dk_181 0 73 (dk_at dksX8_from_0 7 rfl rfl)
theorem dX8_from_10 : decode cX8_from 10 = .ok (.iload_n 2, 1) := dk_28 (dk_at dksX8_from_0 10 rfl rfl)
theorem dX8_from_11 : decode cX8_from 11 = .ok (.iconst 4, 1) := dk_7 (dk_at dksX8_from_0 11 rfl rfl)
theorem dX8_from_12 : decode cX8_from 12 = .ok (.if_icmp .gt 7, 3) := dk_163 0 7 (dk_at dksX8_from_0 12 rfl rfl)
theorem dX8_from_15 : decode cX8_from 15 = .ok (.iconst 1, 1) := dk_4 (dk_at dksX8_from_0 15 rfl rfl)
theorem dX8_from_16 : decode cX8_from 16 = .ok (.goto 4, 3) := dk_167 0 4 (dk_at dksX8_from_0 16 rfl rfl)
theorem dX8_from_19 : decode cX8_from 19 = .ok (.iconst 0, 1) := dk_3 (dk_at dksX8_from_0 19 rfl rfl)
theorem dX8_from_20 : decode cX8_from 20 = .ok (.istore_n 3, 1) := dk_62 (dk_at dksX8_from_0 20 rfl rfl)
theorem dX8_from_21 : decode cX8_from 21 = .ok (.iconst 0, 1) := dk_3 (dk_at dksX8_from_0 21 rfl rfl)
theorem dX8_from_22 : decode cX8_from 22 = .ok (.istore 4, 2) := dk_54 4 (dk_at dksX8_from_0 22 rfl rfl)
theorem dX8_from_24 : decode cX8_from 24 = .ok (.iload 4, 2) := dk_21 4 (dk_at dksX8_from_1 0 rfl rfl)
theorem dX8_from_26 : decode cX8_from 26 = .ok (.iload_n 2, 1) := dk_28 (dk_at dksX8_from_1 2 rfl rfl)
theorem dX8_from_27 : decode cX8_from 27 = .ok (.if_icmp .ge 24, 3) := dk_162 0 24 (dk_at dksX8_from_1 3 rfl rfl)
theorem dX8_from_30 : decode cX8_from 30 = .ok (.iload_n 3, 1) := dk_29 (dk_at dksX8_from_1 6 rfl rfl)
theorem dX8_from_31 : decode cX8_from 31 = .ok (.ifCond .eq 20, 3) := dk_153 0 20 (dk_at dksX8_from_1 7 rfl rfl)
theorem dX8_from_34 : decode cX8_from 34 = .ok (.aload_n 0, 1) := dk_42 (dk_at dksX8_from_1 10 rfl rfl)
theorem dX8_from_35 : decode cX8_from 35 = .ok (.getfield 22, 3) := dk_180 0 22 (dk_at dksX8_from_1 11 rfl rfl)
theorem dX8_from_38 : decode cX8_from 38 = .ok (.iload 4, 2) := dk_21 4 (dk_at dksX8_from_1 14 rfl rfl)
theorem dX8_from_40 : decode cX8_from 40 = .ok (.iaload, 1) := dk_46 (dk_at dksX8_from_1 16 rfl rfl)
theorem dX8_from_41 : decode cX8_from 41 = .ok (.invokestatic 260, 3) := dk_184 1 4 (dk_at dksX8_from_1 17 rfl rfl)
theorem dX8_from_44 : decode cX8_from 44 = .ok (.istore_n 3, 1) := dk_62 (dk_at dksX8_from_1 20 rfl rfl)
theorem dX8_from_45 : decode cX8_from 45 = .ok (.iinc 4 1, 3) := dk_132 4 1 (dk_at dksX8_from_1 21 rfl rfl)
theorem dX8_from_48 : decode cX8_from 48 = .ok (.goto (-24), 3) := dk_167 255 232 (dk_at dksX8_from_2 0 rfl rfl)
theorem dX8_from_51 : decode cX8_from 51 = .ok (.aload_n 0, 1) := dk_42 (dk_at dksX8_from_2 3 rfl rfl)
theorem dX8_from_52 : decode cX8_from 52 = .ok (.iload_n 3, 1) := dk_29 (dk_at dksX8_from_2 4 rfl rfl)
theorem dX8_from_53 : decode cX8_from 53 = .ok (.ifCond .eq 7, 3) := dk_153 0 7 (dk_at dksX8_from_2 5 rfl rfl)
theorem dX8_from_56 : decode cX8_from 56 = .ok (.iconst 0, 1) := dk_3 (dk_at dksX8_from_2 8 rfl rfl)
theorem dX8_from_57 : decode cX8_from 57 = .ok (.goto 4, 3) := dk_167 0 4 (dk_at dksX8_from_2 9 rfl rfl)
theorem dX8_from_60 : decode cX8_from 60 = .ok (.iconst 1, 1) := dk_4 (dk_at dksX8_from_2 12 rfl rfl)
theorem dX8_from_61 : decode cX8_from 61 = .ok (.putfield 56, 3) := dk_181 0 56 (dk_at dksX8_from_2 13 rfl rfl)
theorem dX8_from_64 : decode cX8_from 64 = .ok (.aload_n 0, 1) := dk_42 (dk_at dksX8_from_2 16 rfl rfl)
theorem dX8_from_65 : decode cX8_from 65 = .ok (.getfield 56, 3) := dk_180 0 56 (dk_at dksX8_from_2 17 rfl rfl)
theorem dX8_from_68 : decode cX8_from 68 = .ok (.ifCond .le 5, 3) := dk_158 0 5 (dk_at dksX8_from_2 20 rfl rfl)
theorem dX8_from_71 : decode cX8_from 71 = .ok (.iconst 0, 1) := dk_3 (dk_at dksX8_from_2 23 rfl rfl)
theorem dX8_from_72 : decode cX8_from 72 = .ok (.ireturn, 1) := dk_172 (dk_at dksX8_from_3 0 rfl rfl)
theorem dX8_from_73 : decode cX8_from 73 = .ok (.iconst 0, 1) := dk_3 (dk_at dksX8_from_3 1 rfl rfl)
theorem dX8_from_74 : decode cX8_from 74 = .ok (.istore 4, 2) := dk_54 4 (dk_at dksX8_from_3 2 rfl rfl)
theorem dX8_from_76 : decode cX8_from 76 = .ok (.iconst (-1), 1) := dk_2 (dk_at dksX8_from_3 4 rfl rfl)
theorem dX8_from_77 : decode cX8_from 77 = .ok (.istore 5, 2) := dk_54 5 (dk_at dksX8_from_3 5 rfl rfl)
theorem dX8_from_79 : decode cX8_from 79 = .ok (.iconst 0, 1) := dk_3 (dk_at dksX8_from_3 7 rfl rfl)
theorem dX8_from_80 : decode cX8_from 80 = .ok (.istore 6, 2) := dk_54 6 (dk_at dksX8_from_3 8 rfl rfl)
theorem dX8_from_82 : decode cX8_from 82 = .ok (.iload 6, 2) := dk_21 6 (dk_at dksX8_from_3 10 rfl rfl)
theorem dX8_from_84 : decode cX8_from 84 = .ok (.aload_n 0, 1) := dk_42 (dk_at dksX8_from_3 12 rfl rfl)
theorem dX8_from_85 : decode cX8_from 85 = .ok (.getfield 7, 3) := dk_180 0 7 (dk_at dksX8_from_3 13 rfl rfl)
theorem dX8_from_88 : decode cX8_from 88 = .ok (.iconst 3, 1) := dk_6 (dk_at dksX8_from_3 16 rfl rfl)
theorem dX8_from_89 : decode cX8_from 89 = .ok (.iaload, 1) := dk_46 (dk_at dksX8_from_3 17 rfl rfl)
theorem dX8_from_90 : decode cX8_from 90 = .ok (.if_icmp .ge 82, 3) := dk_162 0 82 (dk_at dksX8_from_3 18 rfl rfl)
theorem dX8_from_93 : decode cX8_from 93 = .ok (.aload_n 0, 1) := dk_42 (dk_at dksX8_from_3 21 rfl rfl)
theorem dX8_from_94 : decode cX8_from 94 = .ok (.iload 6, 2) := dk_21 6 (dk_at dksX8_from_3 22 rfl rfl)
theorem dX8_from_96 : decode cX8_from 96 = .ok (.iload_n 2, 1) := dk_28 (dk_at dksX8_from_4 0 rfl rfl)
theorem dX8_from_97 : decode cX8_from 97 = .ok (.iconst 0, 1) := dk_3 (dk_at dksX8_from_4 1 rfl rfl)
theorem dX8_from_98 : decode cX8_from 98 = .ok (.invokevirtual 317, 3) := dk_182 1 61 (dk_at dksX8_from_4 2 rfl rfl)
theorem dX8_from_101 : decode cX8_from 101 = .ok (.lconst 0, 1) := dk_9 (dk_at dksX8_from_4 5 rfl rfl)
theorem dX8_from_102 : decode cX8_from 102 = .ok (.lcmp, 1) := dk_148 (dk_at dksX8_from_4 6 rfl rfl)
theorem dX8_from_103 : decode cX8_from 103 = .ok (.ifCond .ne 6, 3) := dk_154 0 6 (dk_at dksX8_from_4 7 rfl rfl)
theorem dX8_from_106 : decode cX8_from 106 = .ok (.goto 60, 3) := dk_167 0 60 (dk_at dksX8_from_4 10 rfl rfl)
theorem dX8_from_109 : decode cX8_from 109 = .ok (.iload 4, 2) := dk_21 4 (dk_at dksX8_from_4 13 rfl rfl)
theorem dX8_from_111 : decode cX8_from 111 = .ok (.iconst 1, 1) := dk_4 (dk_at dksX8_from_4 15 rfl rfl)
theorem dX8_from_112 : decode cX8_from 112 = .ok (.iload 6, 2) := dk_21 6 (dk_at dksX8_from_4 16 rfl rfl)
theorem dX8_from_114 : decode cX8_from 114 = .ok (.ishl, 1) := dk_120 (dk_at dksX8_from_4 18 rfl rfl)
theorem dX8_from_115 : decode cX8_from 115 = .ok (.ior, 1) := dk_128 (dk_at dksX8_from_4 19 rfl rfl)
theorem dX8_from_116 : decode cX8_from 116 = .ok (.istore 4, 2) := dk_54 4 (dk_at dksX8_from_4 20 rfl rfl)
theorem dX8_from_118 : decode cX8_from 118 = .ok (.iload 5, 2) := dk_21 5 (dk_at dksX8_from_4 22 rfl rfl)
theorem dX8_from_120 : decode cX8_from 120 = .ok (.iconst (-1), 1) := dk_2 (dk_at dksX8_from_5 0 rfl rfl)
theorem dX8_from_121 : decode cX8_from 121 = .ok (.if_icmp .eq 41, 3) := dk_159 0 41 (dk_at dksX8_from_5 1 rfl rfl)
theorem dX8_from_124 : decode cX8_from 124 = .ok (.aload_n 0, 1) := dk_42 (dk_at dksX8_from_5 4 rfl rfl)
theorem dX8_from_125 : decode cX8_from 125 = .ok (.iload 6, 2) := dk_21 6 (dk_at dksX8_from_5 5 rfl rfl)
theorem dX8_from_127 : decode cX8_from 127 = .ok (.iload_n 2, 1) := dk_28 (dk_at dksX8_from_5 7 rfl rfl)
theorem dX8_from_128 : decode cX8_from 128 = .ok (.iconst 0, 1) := dk_3 (dk_at dksX8_from_5 8 rfl rfl)
theorem dX8_from_129 : decode cX8_from 129 = .ok (.invokevirtual 317, 3) := dk_182 1 61 (dk_at dksX8_from_5 9 rfl rfl)
theorem dX8_from_132 : decode cX8_from 132 = .ok (.aload_n 0, 1) := dk_42 (dk_at dksX8_from_5 12 rfl rfl)
theorem dX8_from_133 : decode cX8_from 133 = .ok (.iload 5, 2) := dk_21 5 (dk_at dksX8_from_5 13 rfl rfl)
theorem dX8_from_135 : decode cX8_from 135 = .ok (.iload_n 2, 1) := dk_28 (dk_at dksX8_from_5 15 rfl rfl)
theorem dX8_from_136 : decode cX8_from 136 = .ok (.iconst 1, 1) := dk_4 (dk_at dksX8_from_5 16 rfl rfl)
theorem dX8_from_137 : decode cX8_from 137 = .ok (.invokevirtual 317, 3) := dk_182 1 61 (dk_at dksX8_from_5 17 rfl rfl)
theorem dX8_from_140 : decode cX8_from 140 = .ok (.lmul, 1) := dk_105 (dk_at dksX8_from_5 20 rfl rfl)
theorem dX8_from_141 : decode cX8_from 141 = .ok (.aload_n 0, 1) := dk_42 (dk_at dksX8_from_5 21 rfl rfl)
theorem dX8_from_142 : decode cX8_from 142 = .ok (.iload 5, 2) := dk_21 5 (dk_at dksX8_from_5 22 rfl rfl)
theorem dX8_from_144 : decode cX8_from 144 = .ok (.iload_n 2, 1) := dk_28 (dk_at dksX8_from_6 0 rfl rfl)
theorem dX8_from_145 : decode cX8_from 145 = .ok (.iconst 0, 1) := dk_3 (dk_at dksX8_from_6 1 rfl rfl)
theorem dX8_from_146 : decode cX8_from 146 = .ok (.invokevirtual 317, 3) := dk_182 1 61 (dk_at dksX8_from_6 2 rfl rfl)
theorem dX8_from_149 : decode cX8_from 149 = .ok (.aload_n 0, 1) := dk_42 (dk_at dksX8_from_6 5 rfl rfl)
theorem dX8_from_150 : decode cX8_from 150 = .ok (.iload 6, 2) := dk_21 6 (dk_at dksX8_from_6 6 rfl rfl)
theorem dX8_from_152 : decode cX8_from 152 = .ok (.iload_n 2, 1) := dk_28 (dk_at dksX8_from_6 8 rfl rfl)
theorem dX8_from_153 : decode cX8_from 153 = .ok (.iconst 1, 1) := dk_4 (dk_at dksX8_from_6 9 rfl rfl)
theorem dX8_from_154 : decode cX8_from 154 = .ok (.invokevirtual 317, 3) := dk_182 1 61 (dk_at dksX8_from_6 10 rfl rfl)
theorem dX8_from_157 : decode cX8_from 157 = .ok (.lmul, 1) := dk_105 (dk_at dksX8_from_6 13 rfl rfl)
theorem dX8_from_158 : decode cX8_from 158 = .ok (.lcmp, 1) := dk_148 (dk_at dksX8_from_6 14 rfl rfl)
theorem dX8_from_159 : decode cX8_from 159 = .ok (.ifCond .le 7, 3) := dk_158 0 7 (dk_at dksX8_from_6 15 rfl rfl)
theorem dX8_from_162 : decode cX8_from 162 = .ok (.iload 6, 2) := dk_21 6 (dk_at dksX8_from_6 18 rfl rfl)
theorem dX8_from_164 : decode cX8_from 164 = .ok (.istore 5, 2) := dk_54 5 (dk_at dksX8_from_6 20 rfl rfl)
theorem dX8_from_166 : decode cX8_from 166 = .ok (.iinc 6 1, 3) := dk_132 6 1 (dk_at dksX8_from_7 0 rfl rfl)
theorem dX8_from_169 : decode cX8_from 169 = .ok (.goto (-87), 3) := dk_167 255 169 (dk_at dksX8_from_7 3 rfl rfl)
theorem dX8_from_172 : decode cX8_from 172 = .ok (.iload_n 1, 1) := dk_27 (dk_at dksX8_from_7 6 rfl rfl)
theorem dX8_from_173 : decode cX8_from 173 = .ok (.ifCond .eq 8, 3) := dk_153 0 8 (dk_at dksX8_from_7 7 rfl rfl)
theorem dX8_from_176 : decode cX8_from 176 = .ok (.iload 5, 2) := dk_21 5 (dk_at dksX8_from_7 10 rfl rfl)
theorem dX8_from_178 : decode cX8_from 178 = .ok (.goto 5, 3) := dk_167 0 5 (dk_at dksX8_from_7 12 rfl rfl)
theorem dX8_from_181 : decode cX8_from 181 = .ok (.iload 4, 2) := dk_21 4 (dk_at dksX8_from_7 15 rfl rfl)
theorem dX8_from_183 : decode cX8_from 183 = .ok (.ireturn, 1) := dk_172 (dk_at dksX8_from_7 17 rfl rfl)
abbrev cX8_likely : ByteArray := prog_23_method_78_code
def yX8_likely : MethodName := ⟨RX8, "likely", "(IIZ)J"⟩
def dkwX8_likely_2 : List UInt8 := [182, 1, 13, 154, 0, 11, 29, 154, 0, 7, 9, 167, 0, 5, 22, 4, 173]
abbrev dktX8_likely_2 : List UInt8 := dkwX8_likely_2 ++ []
def dkwX8_likely_1 : List UInt8 := [42, 180, 0, 22, 21, 6, 46, 182, 1, 13, 133, 105, 55, 4, 132, 6, 1, 167, 255, 221, 42, 27, 2]
abbrev dktX8_likely_1 : List UInt8 := dkwX8_likely_1 ++ dktX8_likely_2
def dkwX8_likely_0 : List UInt8 := [10, 55, 4, 3, 54, 6, 21, 6, 28, 162, 0, 35, 22, 4, 42, 27, 29, 153, 0, 7, 2, 167, 0, 10]
abbrev dktX8_likely_0 : List UInt8 := dkwX8_likely_0 ++ dktX8_likely_1
theorem dksX8_likely_0 : cX8_likely.data.toList.drop 0 = dktX8_likely_0 := by decide +kernel
theorem dksX8_likely_1 : cX8_likely.data.toList.drop 24 = dktX8_likely_1 := dk_seg dksX8_likely_0 24 rfl rfl
theorem dksX8_likely_2 : cX8_likely.data.toList.drop 47 = dktX8_likely_2 := dk_seg dksX8_likely_1 23 rfl rfl
theorem dX8_likely_0 : decode cX8_likely 0 = .ok (.lconst 1, 1) := dk_10 (dk_at dksX8_likely_0 0 rfl rfl)
theorem dX8_likely_1 : decode cX8_likely 1 = .ok (.lstore 4, 2) := dk_55 4 (dk_at dksX8_likely_0 1 rfl rfl)
theorem dX8_likely_3 : decode cX8_likely 3 = .ok (.iconst 0, 1) := dk_3 (dk_at dksX8_likely_0 3 rfl rfl)
theorem dX8_likely_4 : decode cX8_likely 4 = .ok (.istore 6, 2) := dk_54 6 (dk_at dksX8_likely_0 4 rfl rfl)
theorem dX8_likely_6 : decode cX8_likely 6 = .ok (.iload 6, 2) := dk_21 6 (dk_at dksX8_likely_0 6 rfl rfl)
theorem dX8_likely_8 : decode cX8_likely 8 = .ok (.iload_n 2, 1) := dk_28 (dk_at dksX8_likely_0 8 rfl rfl)
theorem dX8_likely_9 : decode cX8_likely 9 = .ok (.if_icmp .ge 35, 3) := dk_162 0 35 (dk_at dksX8_likely_0 9 rfl rfl)
theorem dX8_likely_12 : decode cX8_likely 12 = .ok (.lload 4, 2) := dk_22 4 (dk_at dksX8_likely_0 12 rfl rfl)
theorem dX8_likely_14 : decode cX8_likely 14 = .ok (.aload_n 0, 1) := dk_42 (dk_at dksX8_likely_0 14 rfl rfl)
theorem dX8_likely_15 : decode cX8_likely 15 = .ok (.iload_n 1, 1) := dk_27 (dk_at dksX8_likely_0 15 rfl rfl)
theorem dX8_likely_16 : decode cX8_likely 16 = .ok (.iload_n 3, 1) := dk_29 (dk_at dksX8_likely_0 16 rfl rfl)
theorem dX8_likely_17 : decode cX8_likely 17 = .ok (.ifCond .eq 7, 3) := dk_153 0 7 (dk_at dksX8_likely_0 17 rfl rfl)
theorem dX8_likely_20 : decode cX8_likely 20 = .ok (.iconst (-1), 1) := dk_2 (dk_at dksX8_likely_0 20 rfl rfl)
theorem dX8_likely_21 : decode cX8_likely 21 = .ok (.goto 10, 3) := dk_167 0 10 (dk_at dksX8_likely_0 21 rfl rfl)
theorem dX8_likely_24 : decode cX8_likely 24 = .ok (.aload_n 0, 1) := dk_42 (dk_at dksX8_likely_1 0 rfl rfl)
theorem dX8_likely_25 : decode cX8_likely 25 = .ok (.getfield 22, 3) := dk_180 0 22 (dk_at dksX8_likely_1 1 rfl rfl)
theorem dX8_likely_28 : decode cX8_likely 28 = .ok (.iload 6, 2) := dk_21 6 (dk_at dksX8_likely_1 4 rfl rfl)
theorem dX8_likely_30 : decode cX8_likely 30 = .ok (.iaload, 1) := dk_46 (dk_at dksX8_likely_1 6 rfl rfl)
theorem dX8_likely_31 : decode cX8_likely 31 = .ok (.invokevirtual 269, 3) := dk_182 1 13 (dk_at dksX8_likely_1 7 rfl rfl)
theorem dX8_likely_34 : decode cX8_likely 34 = .ok (.i2l, 1) := dk_133 (dk_at dksX8_likely_1 10 rfl rfl)
theorem dX8_likely_35 : decode cX8_likely 35 = .ok (.lmul, 1) := dk_105 (dk_at dksX8_likely_1 11 rfl rfl)
theorem dX8_likely_36 : decode cX8_likely 36 = .ok (.lstore 4, 2) := dk_55 4 (dk_at dksX8_likely_1 12 rfl rfl)
theorem dX8_likely_38 : decode cX8_likely 38 = .ok (.iinc 6 1, 3) := dk_132 6 1 (dk_at dksX8_likely_1 14 rfl rfl)
theorem dX8_likely_41 : decode cX8_likely 41 = .ok (.goto (-35), 3) := dk_167 255 221 (dk_at dksX8_likely_1 17 rfl rfl)
theorem dX8_likely_44 : decode cX8_likely 44 = .ok (.aload_n 0, 1) := dk_42 (dk_at dksX8_likely_1 20 rfl rfl)
theorem dX8_likely_45 : decode cX8_likely 45 = .ok (.iload_n 1, 1) := dk_27 (dk_at dksX8_likely_1 21 rfl rfl)
theorem dX8_likely_46 : decode cX8_likely 46 = .ok (.iconst (-1), 1) := dk_2 (dk_at dksX8_likely_1 22 rfl rfl)
theorem dX8_likely_47 : decode cX8_likely 47 = .ok (.invokevirtual 269, 3) := dk_182 1 13 (dk_at dksX8_likely_2 0 rfl rfl)
theorem dX8_likely_50 : decode cX8_likely 50 = .ok (.ifCond .ne 11, 3) := dk_154 0 11 (dk_at dksX8_likely_2 3 rfl rfl)
theorem dX8_likely_53 : decode cX8_likely 53 = .ok (.iload_n 3, 1) := dk_29 (dk_at dksX8_likely_2 6 rfl rfl)
theorem dX8_likely_54 : decode cX8_likely 54 = .ok (.ifCond .ne 7, 3) := dk_154 0 7 (dk_at dksX8_likely_2 7 rfl rfl)
theorem dX8_likely_57 : decode cX8_likely 57 = .ok (.lconst 0, 1) := dk_9 (dk_at dksX8_likely_2 10 rfl rfl)
theorem dX8_likely_58 : decode cX8_likely 58 = .ok (.goto 5, 3) := dk_167 0 5 (dk_at dksX8_likely_2 11 rfl rfl)
theorem dX8_likely_61 : decode cX8_likely 61 = .ok (.lload 4, 2) := dk_22 4 (dk_at dksX8_likely_2 14 rfl rfl)
theorem dX8_likely_63 : decode cX8_likely 63 = .ok (.lreturn, 1) := dk_173 (dk_at dksX8_likely_2 16 rfl rfl)
abbrev cX8_worth : ByteArray := prog_23_method_82_code
def yX8_worth : MethodName := ⟨RX8, "worth", "()I"⟩
def dkwX8_worth_1 : List UInt8 := [182, 1, 68, 184, 1, 28, 60, 132, 2, 1, 167, 255, 237, 27, 42, 2, 182, 1, 68, 100, 172]
abbrev dktX8_worth_1 : List UInt8 := dkwX8_worth_1 ++ []
def dkwX8_worth_0 : List UInt8 := [42, 3, 181, 0, 56, 42, 3, 182, 1, 68, 60, 4, 61, 28, 16, 32, 162, 0, 19, 27, 42, 28]
abbrev dktX8_worth_0 : List UInt8 := dkwX8_worth_0 ++ dktX8_worth_1
theorem dksX8_worth_0 : cX8_worth.data.toList.drop 0 = dktX8_worth_0 := by decide +kernel
theorem dksX8_worth_1 : cX8_worth.data.toList.drop 22 = dktX8_worth_1 := dk_seg dksX8_worth_0 22 rfl rfl
theorem dX8_worth_0 : decode cX8_worth 0 = .ok (.aload_n 0, 1) := dk_42 (dk_at dksX8_worth_0 0 rfl rfl)
theorem dX8_worth_1 : decode cX8_worth 1 = .ok (.iconst 0, 1) := dk_3 (dk_at dksX8_worth_0 1 rfl rfl)
theorem dX8_worth_2 : decode cX8_worth 2 = .ok (.putfield 56, 3) := dk_181 0 56 (dk_at dksX8_worth_0 2 rfl rfl)
theorem dX8_worth_5 : decode cX8_worth 5 = .ok (.aload_n 0, 1) := dk_42 (dk_at dksX8_worth_0 5 rfl rfl)
theorem dX8_worth_6 : decode cX8_worth 6 = .ok (.iconst 0, 1) := dk_3 (dk_at dksX8_worth_0 6 rfl rfl)
theorem dX8_worth_7 : decode cX8_worth 7 = .ok (.invokevirtual 324, 3) := dk_182 1 68 (dk_at dksX8_worth_0 7 rfl rfl)
theorem dX8_worth_10 : decode cX8_worth 10 = .ok (.istore_n 1, 1) := dk_60 (dk_at dksX8_worth_0 10 rfl rfl)
theorem dX8_worth_11 : decode cX8_worth 11 = .ok (.iconst 1, 1) := dk_4 (dk_at dksX8_worth_0 11 rfl rfl)
theorem dX8_worth_12 : decode cX8_worth 12 = .ok (.istore_n 2, 1) := dk_61 (dk_at dksX8_worth_0 12 rfl rfl)
theorem dX8_worth_13 : decode cX8_worth 13 = .ok (.iload_n 2, 1) := dk_28 (dk_at dksX8_worth_0 13 rfl rfl)
theorem dX8_worth_14 : decode cX8_worth 14 = .ok (.bipush 32, 2) := dk_16 32 (dk_at dksX8_worth_0 14 rfl rfl)
theorem dX8_worth_16 : decode cX8_worth 16 = .ok (.if_icmp .ge 19, 3) := dk_162 0 19 (dk_at dksX8_worth_0 16 rfl rfl)
theorem dX8_worth_19 : decode cX8_worth 19 = .ok (.iload_n 1, 1) := dk_27 (dk_at dksX8_worth_0 19 rfl rfl)
theorem dX8_worth_20 : decode cX8_worth 20 = .ok (.aload_n 0, 1) := dk_42 (dk_at dksX8_worth_0 20 rfl rfl)
theorem dX8_worth_21 : decode cX8_worth 21 = .ok (.iload_n 2, 1) := dk_28 (dk_at dksX8_worth_0 21 rfl rfl)
theorem dX8_worth_22 : decode cX8_worth 22 = .ok (.invokevirtual 324, 3) := dk_182 1 68 (dk_at dksX8_worth_1 0 rfl rfl)
theorem dX8_worth_25 : decode cX8_worth 25 = .ok (.invokestatic 284, 3) := dk_184 1 28 (dk_at dksX8_worth_1 3 rfl rfl)
theorem dX8_worth_28 : decode cX8_worth 28 = .ok (.istore_n 1, 1) := dk_60 (dk_at dksX8_worth_1 6 rfl rfl)
theorem dX8_worth_29 : decode cX8_worth 29 = .ok (.iinc 2 1, 3) := dk_132 2 1 (dk_at dksX8_worth_1 7 rfl rfl)
theorem dX8_worth_32 : decode cX8_worth 32 = .ok (.goto (-19), 3) := dk_167 255 237 (dk_at dksX8_worth_1 10 rfl rfl)
theorem dX8_worth_35 : decode cX8_worth 35 = .ok (.iload_n 1, 1) := dk_27 (dk_at dksX8_worth_1 13 rfl rfl)
theorem dX8_worth_36 : decode cX8_worth 36 = .ok (.aload_n 0, 1) := dk_42 (dk_at dksX8_worth_1 14 rfl rfl)
theorem dX8_worth_37 : decode cX8_worth 37 = .ok (.iconst (-1), 1) := dk_2 (dk_at dksX8_worth_1 15 rfl rfl)
theorem dX8_worth_38 : decode cX8_worth 38 = .ok (.invokevirtual 324, 3) := dk_182 1 68 (dk_at dksX8_worth_1 16 rfl rfl)
theorem dX8_worth_41 : decode cX8_worth 41 = .ok (.isub, 1) := dk_100 (dk_at dksX8_worth_1 19 rfl rfl)
theorem dX8_worth_42 : decode cX8_worth 42 = .ok (.ireturn, 1) := dk_172 (dk_at dksX8_worth_1 20 rfl rfl)
abbrev cX8_expectsAll : ByteArray := prog_23_method_81_code
def yX8_expectsAll : MethodName := ⟨RX8, "expectsAll", "(I)I"⟩
def dkwX8_expectsAll_2 : List UInt8 := [28, 172]
abbrev dktX8_expectsAll_2 : List UInt8 := dkwX8_expectsAll_2 ++ []
def dkwX8_expectsAll_1 : List UInt8 := [160, 0, 11, 42, 29, 182, 1, 55, 167, 0, 4, 27, 182, 1, 52, 104, 96, 61, 132, 3, 1, 167, 255, 215]
abbrev dktX8_expectsAll_1 : List UInt8 := dkwX8_expectsAll_1 ++ dktX8_expectsAll_2
def dkwX8_expectsAll_0 : List UInt8 := [3, 61, 3, 62, 29, 42, 180, 0, 7, 6, 46, 162, 0, 37, 28, 42, 29, 182, 1, 65, 42, 29, 27, 2]
abbrev dktX8_expectsAll_0 : List UInt8 := dkwX8_expectsAll_0 ++ dktX8_expectsAll_1
theorem dksX8_expectsAll_0 : cX8_expectsAll.data.toList.drop 0 = dktX8_expectsAll_0 := by decide +kernel
theorem dksX8_expectsAll_1 : cX8_expectsAll.data.toList.drop 24 = dktX8_expectsAll_1 := dk_seg dksX8_expectsAll_0 24 rfl rfl
theorem dksX8_expectsAll_2 : cX8_expectsAll.data.toList.drop 48 = dktX8_expectsAll_2 := dk_seg dksX8_expectsAll_1 24 rfl rfl
theorem dX8_expectsAll_0 : decode cX8_expectsAll 0 = .ok (.iconst 0, 1) := dk_3 (dk_at dksX8_expectsAll_0 0 rfl rfl)
theorem dX8_expectsAll_1 : decode cX8_expectsAll 1 = .ok (.istore_n 2, 1) := dk_61 (dk_at dksX8_expectsAll_0 1 rfl rfl)
theorem dX8_expectsAll_2 : decode cX8_expectsAll 2 = .ok (.iconst 0, 1) := dk_3 (dk_at dksX8_expectsAll_0 2 rfl rfl)
theorem dX8_expectsAll_3 : decode cX8_expectsAll 3 = .ok (.istore_n 3, 1) := dk_62 (dk_at dksX8_expectsAll_0 3 rfl rfl)
theorem dX8_expectsAll_4 : decode cX8_expectsAll 4 = .ok (.iload_n 3, 1) := dk_29 (dk_at dksX8_expectsAll_0 4 rfl rfl)
theorem dX8_expectsAll_5 : decode cX8_expectsAll 5 = .ok (.aload_n 0, 1) := dk_42 (dk_at dksX8_expectsAll_0 5 rfl rfl)
theorem dX8_expectsAll_6 : decode cX8_expectsAll 6 = .ok (.getfield 7, 3) := dk_180 0 7 (dk_at dksX8_expectsAll_0 6 rfl rfl)
theorem dX8_expectsAll_9 : decode cX8_expectsAll 9 = .ok (.iconst 3, 1) := dk_6 (dk_at dksX8_expectsAll_0 9 rfl rfl)
theorem dX8_expectsAll_10 : decode cX8_expectsAll 10 = .ok (.iaload, 1) := dk_46 (dk_at dksX8_expectsAll_0 10 rfl rfl)
theorem dX8_expectsAll_11 : decode cX8_expectsAll 11 = .ok (.if_icmp .ge 37, 3) := dk_162 0 37 (dk_at dksX8_expectsAll_0 11 rfl rfl)
theorem dX8_expectsAll_14 : decode cX8_expectsAll 14 = .ok (.iload_n 2, 1) := dk_28 (dk_at dksX8_expectsAll_0 14 rfl rfl)
theorem dX8_expectsAll_15 : decode cX8_expectsAll 15 = .ok (.aload_n 0, 1) := dk_42 (dk_at dksX8_expectsAll_0 15 rfl rfl)
theorem dX8_expectsAll_16 : decode cX8_expectsAll 16 = .ok (.iload_n 3, 1) := dk_29 (dk_at dksX8_expectsAll_0 16 rfl rfl)
theorem dX8_expectsAll_17 : decode cX8_expectsAll 17 = .ok (.invokevirtual 321, 3) := dk_182 1 65 (dk_at dksX8_expectsAll_0 17 rfl rfl)
theorem dX8_expectsAll_20 : decode cX8_expectsAll 20 = .ok (.aload_n 0, 1) := dk_42 (dk_at dksX8_expectsAll_0 20 rfl rfl)
theorem dX8_expectsAll_21 : decode cX8_expectsAll 21 = .ok (.iload_n 3, 1) := dk_29 (dk_at dksX8_expectsAll_0 21 rfl rfl)
theorem dX8_expectsAll_22 : decode cX8_expectsAll 22 = .ok (.iload_n 1, 1) := dk_27 (dk_at dksX8_expectsAll_0 22 rfl rfl)
theorem dX8_expectsAll_23 : decode cX8_expectsAll 23 = .ok (.iconst (-1), 1) := dk_2 (dk_at dksX8_expectsAll_0 23 rfl rfl)
theorem dX8_expectsAll_24 : decode cX8_expectsAll 24 = .ok (.if_icmp .ne 11, 3) := dk_160 0 11 (dk_at dksX8_expectsAll_1 0 rfl rfl)
theorem dX8_expectsAll_27 : decode cX8_expectsAll 27 = .ok (.aload_n 0, 1) := dk_42 (dk_at dksX8_expectsAll_1 3 rfl rfl)
theorem dX8_expectsAll_28 : decode cX8_expectsAll 28 = .ok (.iload_n 3, 1) := dk_29 (dk_at dksX8_expectsAll_1 4 rfl rfl)
theorem dX8_expectsAll_29 : decode cX8_expectsAll 29 = .ok (.invokevirtual 311, 3) := dk_182 1 55 (dk_at dksX8_expectsAll_1 5 rfl rfl)
theorem dX8_expectsAll_32 : decode cX8_expectsAll 32 = .ok (.goto 4, 3) := dk_167 0 4 (dk_at dksX8_expectsAll_1 8 rfl rfl)
theorem dX8_expectsAll_35 : decode cX8_expectsAll 35 = .ok (.iload_n 1, 1) := dk_27 (dk_at dksX8_expectsAll_1 11 rfl rfl)
theorem dX8_expectsAll_36 : decode cX8_expectsAll 36 = .ok (.invokevirtual 308, 3) := dk_182 1 52 (dk_at dksX8_expectsAll_1 12 rfl rfl)
theorem dX8_expectsAll_39 : decode cX8_expectsAll 39 = .ok (.imul, 1) := dk_104 (dk_at dksX8_expectsAll_1 15 rfl rfl)
theorem dX8_expectsAll_40 : decode cX8_expectsAll 40 = .ok (.iadd, 1) := dk_96 (dk_at dksX8_expectsAll_1 16 rfl rfl)
theorem dX8_expectsAll_41 : decode cX8_expectsAll 41 = .ok (.istore_n 2, 1) := dk_61 (dk_at dksX8_expectsAll_1 17 rfl rfl)
theorem dX8_expectsAll_42 : decode cX8_expectsAll 42 = .ok (.iinc 3 1, 3) := dk_132 3 1 (dk_at dksX8_expectsAll_1 18 rfl rfl)
theorem dX8_expectsAll_45 : decode cX8_expectsAll 45 = .ok (.goto (-41), 3) := dk_167 255 215 (dk_at dksX8_expectsAll_1 21 rfl rfl)
theorem dX8_expectsAll_48 : decode cX8_expectsAll 48 = .ok (.iload_n 2, 1) := dk_28 (dk_at dksX8_expectsAll_2 0 rfl rfl)
theorem dX8_expectsAll_49 : decode cX8_expectsAll 49 = .ok (.ireturn, 1) := dk_172 (dk_at dksX8_expectsAll_2 1 rfl rfl)
abbrev cX8_peopleOf : ByteArray := prog_23_method_80_code
def yX8_peopleOf : MethodName := ⟨RX8, "peopleOf", "(I)I"⟩
def dkwX8_peopleOf_1 : List UInt8 := [160, 0, 7, 4, 167, 0, 4, 3, 96, 61, 132, 3, 1, 167, 255, 225, 28, 172]
abbrev dktX8_peopleOf_1 : List UInt8 := dkwX8_peopleOf_1 ++ []
def dkwX8_peopleOf_0 : List UInt8 := [3, 61, 3, 62, 29, 42, 180, 0, 7, 8, 46, 162, 0, 27, 28, 42, 29, 3, 182, 1, 1, 27]
abbrev dktX8_peopleOf_0 : List UInt8 := dkwX8_peopleOf_0 ++ dktX8_peopleOf_1
theorem dksX8_peopleOf_0 : cX8_peopleOf.data.toList.drop 0 = dktX8_peopleOf_0 := by decide +kernel
theorem dksX8_peopleOf_1 : cX8_peopleOf.data.toList.drop 22 = dktX8_peopleOf_1 := dk_seg dksX8_peopleOf_0 22 rfl rfl
theorem dX8_peopleOf_0 : decode cX8_peopleOf 0 = .ok (.iconst 0, 1) := dk_3 (dk_at dksX8_peopleOf_0 0 rfl rfl)
theorem dX8_peopleOf_1 : decode cX8_peopleOf 1 = .ok (.istore_n 2, 1) := dk_61 (dk_at dksX8_peopleOf_0 1 rfl rfl)
theorem dX8_peopleOf_2 : decode cX8_peopleOf 2 = .ok (.iconst 0, 1) := dk_3 (dk_at dksX8_peopleOf_0 2 rfl rfl)
theorem dX8_peopleOf_3 : decode cX8_peopleOf 3 = .ok (.istore_n 3, 1) := dk_62 (dk_at dksX8_peopleOf_0 3 rfl rfl)
theorem dX8_peopleOf_4 : decode cX8_peopleOf 4 = .ok (.iload_n 3, 1) := dk_29 (dk_at dksX8_peopleOf_0 4 rfl rfl)
theorem dX8_peopleOf_5 : decode cX8_peopleOf 5 = .ok (.aload_n 0, 1) := dk_42 (dk_at dksX8_peopleOf_0 5 rfl rfl)
theorem dX8_peopleOf_6 : decode cX8_peopleOf 6 = .ok (.getfield 7, 3) := dk_180 0 7 (dk_at dksX8_peopleOf_0 6 rfl rfl)
theorem dX8_peopleOf_9 : decode cX8_peopleOf 9 = .ok (.iconst 5, 1) := dk_8 (dk_at dksX8_peopleOf_0 9 rfl rfl)
theorem dX8_peopleOf_10 : decode cX8_peopleOf 10 = .ok (.iaload, 1) := dk_46 (dk_at dksX8_peopleOf_0 10 rfl rfl)
theorem dX8_peopleOf_11 : decode cX8_peopleOf 11 = .ok (.if_icmp .ge 27, 3) := dk_162 0 27 (dk_at dksX8_peopleOf_0 11 rfl rfl)
theorem dX8_peopleOf_14 : decode cX8_peopleOf 14 = .ok (.iload_n 2, 1) := dk_28 (dk_at dksX8_peopleOf_0 14 rfl rfl)
theorem dX8_peopleOf_15 : decode cX8_peopleOf 15 = .ok (.aload_n 0, 1) := dk_42 (dk_at dksX8_peopleOf_0 15 rfl rfl)
theorem dX8_peopleOf_16 : decode cX8_peopleOf 16 = .ok (.iload_n 3, 1) := dk_29 (dk_at dksX8_peopleOf_0 16 rfl rfl)
theorem dX8_peopleOf_17 : decode cX8_peopleOf 17 = .ok (.iconst 0, 1) := dk_3 (dk_at dksX8_peopleOf_0 17 rfl rfl)
theorem dX8_peopleOf_18 : decode cX8_peopleOf 18 = .ok (.invokevirtual 257, 3) := dk_182 1 1 (dk_at dksX8_peopleOf_0 18 rfl rfl)
theorem dX8_peopleOf_21 : decode cX8_peopleOf 21 = .ok (.iload_n 1, 1) := dk_27 (dk_at dksX8_peopleOf_0 21 rfl rfl)
theorem dX8_peopleOf_22 : decode cX8_peopleOf 22 = .ok (.if_icmp .ne 7, 3) := dk_160 0 7 (dk_at dksX8_peopleOf_1 0 rfl rfl)
theorem dX8_peopleOf_25 : decode cX8_peopleOf 25 = .ok (.iconst 1, 1) := dk_4 (dk_at dksX8_peopleOf_1 3 rfl rfl)
theorem dX8_peopleOf_26 : decode cX8_peopleOf 26 = .ok (.goto 4, 3) := dk_167 0 4 (dk_at dksX8_peopleOf_1 4 rfl rfl)
theorem dX8_peopleOf_29 : decode cX8_peopleOf 29 = .ok (.iconst 0, 1) := dk_3 (dk_at dksX8_peopleOf_1 7 rfl rfl)
theorem dX8_peopleOf_30 : decode cX8_peopleOf 30 = .ok (.iadd, 1) := dk_96 (dk_at dksX8_peopleOf_1 8 rfl rfl)
theorem dX8_peopleOf_31 : decode cX8_peopleOf 31 = .ok (.istore_n 2, 1) := dk_61 (dk_at dksX8_peopleOf_1 9 rfl rfl)
theorem dX8_peopleOf_32 : decode cX8_peopleOf 32 = .ok (.iinc 3 1, 3) := dk_132 3 1 (dk_at dksX8_peopleOf_1 10 rfl rfl)
theorem dX8_peopleOf_35 : decode cX8_peopleOf 35 = .ok (.goto (-31), 3) := dk_167 255 225 (dk_at dksX8_peopleOf_1 13 rfl rfl)
theorem dX8_peopleOf_38 : decode cX8_peopleOf 38 = .ok (.iload_n 2, 1) := dk_28 (dk_at dksX8_peopleOf_1 16 rfl rfl)
theorem dX8_peopleOf_39 : decode cX8_peopleOf 39 = .ok (.ireturn, 1) := dk_172 (dk_at dksX8_peopleOf_1 17 rfl rfl)
abbrev cX8_rests : ByteArray := prog_23_method_84_code
def yX8_rests : MethodName := ⟨RX8, "rests", "(II)I"⟩
def dkwX8_rests_5 : List UInt8 := [167, 255, 162, 29, 172]
abbrev dktX8_rests_5 : List UInt8 := dkwX8_rests_5 ++ []
def dkwX8_rests_4 : List UInt8 := [42, 28, 27, 21, 6, 21, 5, 182, 1, 71, 161, 0, 10, 29, 4, 21, 4, 120, 128, 62, 132, 4, 1]
abbrev dktX8_rests_4 : List UInt8 := dkwX8_rests_4 ++ dktX8_rests_5
def dkwX8_rests_3 : List UInt8 := [182, 1, 71, 161, 0, 41, 42, 28, 27, 21, 6, 154, 0, 7, 4, 167, 0, 4, 3, 21, 5, 182, 1, 71]
abbrev dktX8_rests_3 : List UInt8 := dkwX8_rests_3 ++ dktX8_rests_4
def dkwX8_rests_2 : List UInt8 := [28, 21, 5, 154, 0, 7, 4, 167, 0, 4, 3, 21, 6, 182, 1, 71, 42, 27, 28, 21, 5, 21, 6]
abbrev dktX8_rests_2 : List UInt8 := dkwX8_rests_2 ++ dktX8_rests_3
def dkwX8_rests_1 : List UInt8 := [21, 4, 7, 162, 0, 94, 21, 4, 3, 184, 1, 49, 54, 5, 21, 4, 4, 184, 1, 49, 54, 6, 42, 27]
abbrev dktX8_rests_1 : List UInt8 := dkwX8_rests_1 ++ dktX8_rests_2
def dkwX8_rests_0 : List UInt8 := [42, 42, 27, 28, 182, 1, 21, 181, 0, 56, 42, 180, 0, 56, 158, 0, 5, 3, 172, 3, 62, 3, 54, 4]
abbrev dktX8_rests_0 : List UInt8 := dkwX8_rests_0 ++ dktX8_rests_1
theorem dksX8_rests_0 : cX8_rests.data.toList.drop 0 = dktX8_rests_0 := by decide +kernel
theorem dksX8_rests_1 : cX8_rests.data.toList.drop 24 = dktX8_rests_1 := dk_seg dksX8_rests_0 24 rfl rfl
theorem dksX8_rests_2 : cX8_rests.data.toList.drop 48 = dktX8_rests_2 := dk_seg dksX8_rests_1 24 rfl rfl
theorem dksX8_rests_3 : cX8_rests.data.toList.drop 71 = dktX8_rests_3 := dk_seg dksX8_rests_2 23 rfl rfl
theorem dksX8_rests_4 : cX8_rests.data.toList.drop 95 = dktX8_rests_4 := dk_seg dksX8_rests_3 24 rfl rfl
theorem dksX8_rests_5 : cX8_rests.data.toList.drop 118 = dktX8_rests_5 := dk_seg dksX8_rests_4 23 rfl rfl
theorem dX8_rests_0 : decode cX8_rests 0 = .ok (.aload_n 0, 1) := dk_42 (dk_at dksX8_rests_0 0 rfl rfl)
theorem dX8_rests_1 : decode cX8_rests 1 = .ok (.aload_n 0, 1) := dk_42 (dk_at dksX8_rests_0 1 rfl rfl)
theorem dX8_rests_2 : decode cX8_rests 2 = .ok (.iload_n 1, 1) := dk_27 (dk_at dksX8_rests_0 2 rfl rfl)
theorem dX8_rests_3 : decode cX8_rests 3 = .ok (.iload_n 2, 1) := dk_28 (dk_at dksX8_rests_0 3 rfl rfl)
theorem dX8_rests_4 : decode cX8_rests 4 = .ok (.invokevirtual 277, 3) := dk_182 1 21 (dk_at dksX8_rests_0 4 rfl rfl)
theorem dX8_rests_7 : decode cX8_rests 7 = .ok (.putfield 56, 3) := dk_181 0 56 (dk_at dksX8_rests_0 7 rfl rfl)
theorem dX8_rests_10 : decode cX8_rests 10 = .ok (.aload_n 0, 1) := dk_42 (dk_at dksX8_rests_0 10 rfl rfl)
theorem dX8_rests_11 : decode cX8_rests 11 = .ok (.getfield 56, 3) := dk_180 0 56 (dk_at dksX8_rests_0 11 rfl rfl)
theorem dX8_rests_14 : decode cX8_rests 14 = .ok (.ifCond .le 5, 3) := dk_158 0 5 (dk_at dksX8_rests_0 14 rfl rfl)
theorem dX8_rests_17 : decode cX8_rests 17 = .ok (.iconst 0, 1) := dk_3 (dk_at dksX8_rests_0 17 rfl rfl)
theorem dX8_rests_18 : decode cX8_rests 18 = .ok (.ireturn, 1) := dk_172 (dk_at dksX8_rests_0 18 rfl rfl)
theorem dX8_rests_19 : decode cX8_rests 19 = .ok (.iconst 0, 1) := dk_3 (dk_at dksX8_rests_0 19 rfl rfl)
theorem dX8_rests_20 : decode cX8_rests 20 = .ok (.istore_n 3, 1) := dk_62 (dk_at dksX8_rests_0 20 rfl rfl)
theorem dX8_rests_21 : decode cX8_rests 21 = .ok (.iconst 0, 1) := dk_3 (dk_at dksX8_rests_0 21 rfl rfl)
theorem dX8_rests_22 : decode cX8_rests 22 = .ok (.istore 4, 2) := dk_54 4 (dk_at dksX8_rests_0 22 rfl rfl)
theorem dX8_rests_24 : decode cX8_rests 24 = .ok (.iload 4, 2) := dk_21 4 (dk_at dksX8_rests_1 0 rfl rfl)
theorem dX8_rests_26 : decode cX8_rests 26 = .ok (.iconst 4, 1) := dk_7 (dk_at dksX8_rests_1 2 rfl rfl)
theorem dX8_rests_27 : decode cX8_rests 27 = .ok (.if_icmp .ge 94, 3) := dk_162 0 94 (dk_at dksX8_rests_1 3 rfl rfl)
theorem dX8_rests_30 : decode cX8_rests 30 = .ok (.iload 4, 2) := dk_21 4 (dk_at dksX8_rests_1 6 rfl rfl)
theorem dX8_rests_32 : decode cX8_rests 32 = .ok (.iconst 0, 1) := dk_3 (dk_at dksX8_rests_1 8 rfl rfl)
theorem dX8_rests_33 : decode cX8_rests 33 = .ok (.invokestatic 305, 3) := dk_184 1 49 (dk_at dksX8_rests_1 9 rfl rfl)
theorem dX8_rests_36 : decode cX8_rests 36 = .ok (.istore 5, 2) := dk_54 5 (dk_at dksX8_rests_1 12 rfl rfl)
theorem dX8_rests_38 : decode cX8_rests 38 = .ok (.iload 4, 2) := dk_21 4 (dk_at dksX8_rests_1 14 rfl rfl)
theorem dX8_rests_40 : decode cX8_rests 40 = .ok (.iconst 1, 1) := dk_4 (dk_at dksX8_rests_1 16 rfl rfl)
theorem dX8_rests_41 : decode cX8_rests 41 = .ok (.invokestatic 305, 3) := dk_184 1 49 (dk_at dksX8_rests_1 17 rfl rfl)
theorem dX8_rests_44 : decode cX8_rests 44 = .ok (.istore 6, 2) := dk_54 6 (dk_at dksX8_rests_1 20 rfl rfl)
theorem dX8_rests_46 : decode cX8_rests 46 = .ok (.aload_n 0, 1) := dk_42 (dk_at dksX8_rests_1 22 rfl rfl)
theorem dX8_rests_47 : decode cX8_rests 47 = .ok (.iload_n 1, 1) := dk_27 (dk_at dksX8_rests_1 23 rfl rfl)
theorem dX8_rests_48 : decode cX8_rests 48 = .ok (.iload_n 2, 1) := dk_28 (dk_at dksX8_rests_2 0 rfl rfl)
theorem dX8_rests_49 : decode cX8_rests 49 = .ok (.iload 5, 2) := dk_21 5 (dk_at dksX8_rests_2 1 rfl rfl)
theorem dX8_rests_51 : decode cX8_rests 51 = .ok (.ifCond .ne 7, 3) := dk_154 0 7 (dk_at dksX8_rests_2 3 rfl rfl)
theorem dX8_rests_54 : decode cX8_rests 54 = .ok (.iconst 1, 1) := dk_4 (dk_at dksX8_rests_2 6 rfl rfl)
theorem dX8_rests_55 : decode cX8_rests 55 = .ok (.goto 4, 3) := dk_167 0 4 (dk_at dksX8_rests_2 7 rfl rfl)
theorem dX8_rests_58 : decode cX8_rests 58 = .ok (.iconst 0, 1) := dk_3 (dk_at dksX8_rests_2 10 rfl rfl)
theorem dX8_rests_59 : decode cX8_rests 59 = .ok (.iload 6, 2) := dk_21 6 (dk_at dksX8_rests_2 11 rfl rfl)
theorem dX8_rests_61 : decode cX8_rests 61 = .ok (.invokevirtual 327, 3) := dk_182 1 71 (dk_at dksX8_rests_2 13 rfl rfl)
theorem dX8_rests_64 : decode cX8_rests 64 = .ok (.aload_n 0, 1) := dk_42 (dk_at dksX8_rests_2 16 rfl rfl)
theorem dX8_rests_65 : decode cX8_rests 65 = .ok (.iload_n 1, 1) := dk_27 (dk_at dksX8_rests_2 17 rfl rfl)
theorem dX8_rests_66 : decode cX8_rests 66 = .ok (.iload_n 2, 1) := dk_28 (dk_at dksX8_rests_2 18 rfl rfl)
theorem dX8_rests_67 : decode cX8_rests 67 = .ok (.iload 5, 2) := dk_21 5 (dk_at dksX8_rests_2 19 rfl rfl)
theorem dX8_rests_69 : decode cX8_rests 69 = .ok (.iload 6, 2) := dk_21 6 (dk_at dksX8_rests_2 21 rfl rfl)
theorem dX8_rests_71 : decode cX8_rests 71 = .ok (.invokevirtual 327, 3) := dk_182 1 71 (dk_at dksX8_rests_3 0 rfl rfl)
theorem dX8_rests_74 : decode cX8_rests 74 = .ok (.if_icmp .lt 41, 3) := dk_161 0 41 (dk_at dksX8_rests_3 3 rfl rfl)
theorem dX8_rests_77 : decode cX8_rests 77 = .ok (.aload_n 0, 1) := dk_42 (dk_at dksX8_rests_3 6 rfl rfl)
theorem dX8_rests_78 : decode cX8_rests 78 = .ok (.iload_n 2, 1) := dk_28 (dk_at dksX8_rests_3 7 rfl rfl)
theorem dX8_rests_79 : decode cX8_rests 79 = .ok (.iload_n 1, 1) := dk_27 (dk_at dksX8_rests_3 8 rfl rfl)
theorem dX8_rests_80 : decode cX8_rests 80 = .ok (.iload 6, 2) := dk_21 6 (dk_at dksX8_rests_3 9 rfl rfl)
theorem dX8_rests_82 : decode cX8_rests 82 = .ok (.ifCond .ne 7, 3) := dk_154 0 7 (dk_at dksX8_rests_3 11 rfl rfl)
theorem dX8_rests_85 : decode cX8_rests 85 = .ok (.iconst 1, 1) := dk_4 (dk_at dksX8_rests_3 14 rfl rfl)
theorem dX8_rests_86 : decode cX8_rests 86 = .ok (.goto 4, 3) := dk_167 0 4 (dk_at dksX8_rests_3 15 rfl rfl)
theorem dX8_rests_89 : decode cX8_rests 89 = .ok (.iconst 0, 1) := dk_3 (dk_at dksX8_rests_3 18 rfl rfl)
theorem dX8_rests_90 : decode cX8_rests 90 = .ok (.iload 5, 2) := dk_21 5 (dk_at dksX8_rests_3 19 rfl rfl)
theorem dX8_rests_92 : decode cX8_rests 92 = .ok (.invokevirtual 327, 3) := dk_182 1 71 (dk_at dksX8_rests_3 21 rfl rfl)
theorem dX8_rests_95 : decode cX8_rests 95 = .ok (.aload_n 0, 1) := dk_42 (dk_at dksX8_rests_4 0 rfl rfl)
theorem dX8_rests_96 : decode cX8_rests 96 = .ok (.iload_n 2, 1) := dk_28 (dk_at dksX8_rests_4 1 rfl rfl)
theorem dX8_rests_97 : decode cX8_rests 97 = .ok (.iload_n 1, 1) := dk_27 (dk_at dksX8_rests_4 2 rfl rfl)
theorem dX8_rests_98 : decode cX8_rests 98 = .ok (.iload 6, 2) := dk_21 6 (dk_at dksX8_rests_4 3 rfl rfl)
theorem dX8_rests_100 : decode cX8_rests 100 = .ok (.iload 5, 2) := dk_21 5 (dk_at dksX8_rests_4 5 rfl rfl)
theorem dX8_rests_102 : decode cX8_rests 102 = .ok (.invokevirtual 327, 3) := dk_182 1 71 (dk_at dksX8_rests_4 7 rfl rfl)
theorem dX8_rests_105 : decode cX8_rests 105 = .ok (.if_icmp .lt 10, 3) := dk_161 0 10 (dk_at dksX8_rests_4 10 rfl rfl)
theorem dX8_rests_108 : decode cX8_rests 108 = .ok (.iload_n 3, 1) := dk_29 (dk_at dksX8_rests_4 13 rfl rfl)
theorem dX8_rests_109 : decode cX8_rests 109 = .ok (.iconst 1, 1) := dk_4 (dk_at dksX8_rests_4 14 rfl rfl)
theorem dX8_rests_110 : decode cX8_rests 110 = .ok (.iload 4, 2) := dk_21 4 (dk_at dksX8_rests_4 15 rfl rfl)
theorem dX8_rests_112 : decode cX8_rests 112 = .ok (.ishl, 1) := dk_120 (dk_at dksX8_rests_4 17 rfl rfl)
theorem dX8_rests_113 : decode cX8_rests 113 = .ok (.ior, 1) := dk_128 (dk_at dksX8_rests_4 18 rfl rfl)
theorem dX8_rests_114 : decode cX8_rests 114 = .ok (.istore_n 3, 1) := dk_62 (dk_at dksX8_rests_4 19 rfl rfl)
theorem dX8_rests_115 : decode cX8_rests 115 = .ok (.iinc 4 1, 3) := dk_132 4 1 (dk_at dksX8_rests_4 20 rfl rfl)
theorem dX8_rests_118 : decode cX8_rests 118 = .ok (.goto (-94), 3) := dk_167 255 162 (dk_at dksX8_rests_5 0 rfl rfl)
theorem dX8_rests_121 : decode cX8_rests 121 = .ok (.iload_n 3, 1) := dk_29 (dk_at dksX8_rests_5 3 rfl rfl)
theorem dX8_rests_122 : decode cX8_rests 122 = .ok (.ireturn, 1) := dk_172 (dk_at dksX8_rests_5 4 rfl rfl)
abbrev cX8_pays : ByteArray := prog_23_method_83_code
def yX8_pays : MethodName := ⟨RX8, "pays", "(IIZZ)I"⟩
def dkwX8_pays_2 : List UInt8 := [21, 6, 182, 1, 7, 29, 153, 0, 7, 4, 167, 0, 4, 3, 96, 172]
abbrev dktX8_pays_2 : List UInt8 := dkwX8_pays_2 ++ []
def dkwX8_pays_1 : List UInt8 := [153, 0, 12, 42, 27, 4, 182, 1, 1, 167, 0, 9, 42, 28, 4, 182, 1, 1, 54, 6, 42, 21, 5]
abbrev dktX8_pays_1 : List UInt8 := dkwX8_pays_1 ++ dktX8_pays_2
def dkwX8_pays_0 : List UInt8 := [29, 153, 0, 12, 42, 28, 4, 182, 1, 1, 167, 0, 9, 42, 27, 4, 182, 1, 1, 54, 5, 21, 4]
abbrev dktX8_pays_0 : List UInt8 := dkwX8_pays_0 ++ dktX8_pays_1
theorem dksX8_pays_0 : cX8_pays.data.toList.drop 0 = dktX8_pays_0 := by decide +kernel
theorem dksX8_pays_1 : cX8_pays.data.toList.drop 23 = dktX8_pays_1 := dk_seg dksX8_pays_0 23 rfl rfl
theorem dksX8_pays_2 : cX8_pays.data.toList.drop 46 = dktX8_pays_2 := dk_seg dksX8_pays_1 23 rfl rfl
theorem dX8_pays_0 : decode cX8_pays 0 = .ok (.iload_n 3, 1) := dk_29 (dk_at dksX8_pays_0 0 rfl rfl)
theorem dX8_pays_1 : decode cX8_pays 1 = .ok (.ifCond .eq 12, 3) := dk_153 0 12 (dk_at dksX8_pays_0 1 rfl rfl)
theorem dX8_pays_4 : decode cX8_pays 4 = .ok (.aload_n 0, 1) := dk_42 (dk_at dksX8_pays_0 4 rfl rfl)
theorem dX8_pays_5 : decode cX8_pays 5 = .ok (.iload_n 2, 1) := dk_28 (dk_at dksX8_pays_0 5 rfl rfl)
theorem dX8_pays_6 : decode cX8_pays 6 = .ok (.iconst 1, 1) := dk_4 (dk_at dksX8_pays_0 6 rfl rfl)
theorem dX8_pays_7 : decode cX8_pays 7 = .ok (.invokevirtual 257, 3) := dk_182 1 1 (dk_at dksX8_pays_0 7 rfl rfl)
theorem dX8_pays_10 : decode cX8_pays 10 = .ok (.goto 9, 3) := dk_167 0 9 (dk_at dksX8_pays_0 10 rfl rfl)
theorem dX8_pays_13 : decode cX8_pays 13 = .ok (.aload_n 0, 1) := dk_42 (dk_at dksX8_pays_0 13 rfl rfl)
theorem dX8_pays_14 : decode cX8_pays 14 = .ok (.iload_n 1, 1) := dk_27 (dk_at dksX8_pays_0 14 rfl rfl)
theorem dX8_pays_15 : decode cX8_pays 15 = .ok (.iconst 1, 1) := dk_4 (dk_at dksX8_pays_0 15 rfl rfl)
theorem dX8_pays_16 : decode cX8_pays 16 = .ok (.invokevirtual 257, 3) := dk_182 1 1 (dk_at dksX8_pays_0 16 rfl rfl)
theorem dX8_pays_19 : decode cX8_pays 19 = .ok (.istore 5, 2) := dk_54 5 (dk_at dksX8_pays_0 19 rfl rfl)
theorem dX8_pays_21 : decode cX8_pays 21 = .ok (.iload 4, 2) := dk_21 4 (dk_at dksX8_pays_0 21 rfl rfl)
theorem dX8_pays_23 : decode cX8_pays 23 = .ok (.ifCond .eq 12, 3) := dk_153 0 12 (dk_at dksX8_pays_1 0 rfl rfl)
theorem dX8_pays_26 : decode cX8_pays 26 = .ok (.aload_n 0, 1) := dk_42 (dk_at dksX8_pays_1 3 rfl rfl)
theorem dX8_pays_27 : decode cX8_pays 27 = .ok (.iload_n 1, 1) := dk_27 (dk_at dksX8_pays_1 4 rfl rfl)
theorem dX8_pays_28 : decode cX8_pays 28 = .ok (.iconst 1, 1) := dk_4 (dk_at dksX8_pays_1 5 rfl rfl)
theorem dX8_pays_29 : decode cX8_pays 29 = .ok (.invokevirtual 257, 3) := dk_182 1 1 (dk_at dksX8_pays_1 6 rfl rfl)
theorem dX8_pays_32 : decode cX8_pays 32 = .ok (.goto 9, 3) := dk_167 0 9 (dk_at dksX8_pays_1 9 rfl rfl)
theorem dX8_pays_35 : decode cX8_pays 35 = .ok (.aload_n 0, 1) := dk_42 (dk_at dksX8_pays_1 12 rfl rfl)
theorem dX8_pays_36 : decode cX8_pays 36 = .ok (.iload_n 2, 1) := dk_28 (dk_at dksX8_pays_1 13 rfl rfl)
theorem dX8_pays_37 : decode cX8_pays 37 = .ok (.iconst 1, 1) := dk_4 (dk_at dksX8_pays_1 14 rfl rfl)
theorem dX8_pays_38 : decode cX8_pays 38 = .ok (.invokevirtual 257, 3) := dk_182 1 1 (dk_at dksX8_pays_1 15 rfl rfl)
theorem dX8_pays_41 : decode cX8_pays 41 = .ok (.istore 6, 2) := dk_54 6 (dk_at dksX8_pays_1 18 rfl rfl)
theorem dX8_pays_43 : decode cX8_pays 43 = .ok (.aload_n 0, 1) := dk_42 (dk_at dksX8_pays_1 20 rfl rfl)
theorem dX8_pays_44 : decode cX8_pays 44 = .ok (.iload 5, 2) := dk_21 5 (dk_at dksX8_pays_1 21 rfl rfl)
theorem dX8_pays_46 : decode cX8_pays 46 = .ok (.iload 6, 2) := dk_21 6 (dk_at dksX8_pays_2 0 rfl rfl)
theorem dX8_pays_48 : decode cX8_pays 48 = .ok (.invokevirtual 263, 3) := dk_182 1 7 (dk_at dksX8_pays_2 2 rfl rfl)
theorem dX8_pays_51 : decode cX8_pays 51 = .ok (.iload_n 3, 1) := dk_29 (dk_at dksX8_pays_2 5 rfl rfl)
theorem dX8_pays_52 : decode cX8_pays 52 = .ok (.ifCond .eq 7, 3) := dk_153 0 7 (dk_at dksX8_pays_2 6 rfl rfl)
theorem dX8_pays_55 : decode cX8_pays 55 = .ok (.iconst 1, 1) := dk_4 (dk_at dksX8_pays_2 9 rfl rfl)
theorem dX8_pays_56 : decode cX8_pays 56 = .ok (.goto 4, 3) := dk_167 0 4 (dk_at dksX8_pays_2 10 rfl rfl)
theorem dX8_pays_59 : decode cX8_pays 59 = .ok (.iconst 0, 1) := dk_3 (dk_at dksX8_pays_2 13 rfl rfl)
theorem dX8_pays_60 : decode cX8_pays 60 = .ok (.iadd, 1) := dk_96 (dk_at dksX8_pays_2 14 rfl rfl)
theorem dX8_pays_61 : decode cX8_pays 61 = .ok (.ireturn, 1) := dk_172 (dk_at dksX8_pays_2 15 rfl rfl)
abbrev cX8_sake : ByteArray := prog_23_method_86_code
def yX8_sake : MethodName := ⟨RX8, "sake", "(IIZ)I"⟩
def dkwX8_sake_5 : List UInt8 := [167, 255, 210, 2, 172]
abbrev dktX8_sake_5 : List UInt8 := dkwX8_sake_5 ++ []
def dkwX8_sake_4 : List UInt8 := [154, 0, 12, 21, 4, 21, 5, 184, 1, 75, 54, 4, 21, 5, 21, 7, 184, 1, 75, 54, 5, 132, 6, 1]
abbrev dktX8_sake_4 : List UInt8 := dkwX8_sake_4 ++ dktX8_sake_5
def dkwX8_sake_3 : List UInt8 := [21, 6, 16, 8, 162, 0, 45, 21, 4, 21, 5, 160, 0, 6, 21, 6, 172, 21, 4, 54, 7, 29]
abbrev dktX8_sake_3 : List UInt8 := dkwX8_sake_3 ++ dktX8_sake_4
def dkwX8_sake_2 : List UInt8 := [27, 4, 182, 1, 1, 184, 0, 70, 54, 4, 42, 28, 4, 182, 1, 1, 184, 0, 70, 54, 5, 3, 54, 6]
abbrev dktX8_sake_2 : List UInt8 := dkwX8_sake_2 ++ dktX8_sake_3
def dkwX8_sake_1 : List UInt8 := [182, 1, 1, 6, 122, 5, 160, 0, 15, 42, 28, 4, 182, 1, 1, 6, 122, 5, 159, 0, 5, 2, 172, 42]
abbrev dktX8_sake_1 : List UInt8 := dkwX8_sake_1 ++ dktX8_sake_2
def dkwX8_sake_0 : List UInt8 := [42, 42, 27, 28, 182, 1, 21, 181, 0, 56, 42, 180, 0, 56, 158, 0, 5, 3, 172, 42, 27, 4]
abbrev dktX8_sake_0 : List UInt8 := dkwX8_sake_0 ++ dktX8_sake_1
theorem dksX8_sake_0 : cX8_sake.data.toList.drop 0 = dktX8_sake_0 := by decide +kernel
theorem dksX8_sake_1 : cX8_sake.data.toList.drop 22 = dktX8_sake_1 := dk_seg dksX8_sake_0 22 rfl rfl
theorem dksX8_sake_2 : cX8_sake.data.toList.drop 46 = dktX8_sake_2 := dk_seg dksX8_sake_1 24 rfl rfl
theorem dksX8_sake_3 : cX8_sake.data.toList.drop 70 = dktX8_sake_3 := dk_seg dksX8_sake_2 24 rfl rfl
theorem dksX8_sake_4 : cX8_sake.data.toList.drop 92 = dktX8_sake_4 := dk_seg dksX8_sake_3 22 rfl rfl
theorem dksX8_sake_5 : cX8_sake.data.toList.drop 116 = dktX8_sake_5 := dk_seg dksX8_sake_4 24 rfl rfl
theorem dX8_sake_0 : decode cX8_sake 0 = .ok (.aload_n 0, 1) := dk_42 (dk_at dksX8_sake_0 0 rfl rfl)
theorem dX8_sake_1 : decode cX8_sake 1 = .ok (.aload_n 0, 1) := dk_42 (dk_at dksX8_sake_0 1 rfl rfl)
theorem dX8_sake_2 : decode cX8_sake 2 = .ok (.iload_n 1, 1) := dk_27 (dk_at dksX8_sake_0 2 rfl rfl)
theorem dX8_sake_3 : decode cX8_sake 3 = .ok (.iload_n 2, 1) := dk_28 (dk_at dksX8_sake_0 3 rfl rfl)
theorem dX8_sake_4 : decode cX8_sake 4 = .ok (.invokevirtual 277, 3) := dk_182 1 21 (dk_at dksX8_sake_0 4 rfl rfl)
theorem dX8_sake_7 : decode cX8_sake 7 = .ok (.putfield 56, 3) := dk_181 0 56 (dk_at dksX8_sake_0 7 rfl rfl)
theorem dX8_sake_10 : decode cX8_sake 10 = .ok (.aload_n 0, 1) := dk_42 (dk_at dksX8_sake_0 10 rfl rfl)
theorem dX8_sake_11 : decode cX8_sake 11 = .ok (.getfield 56, 3) := dk_180 0 56 (dk_at dksX8_sake_0 11 rfl rfl)
theorem dX8_sake_14 : decode cX8_sake 14 = .ok (.ifCond .le 5, 3) := dk_158 0 5 (dk_at dksX8_sake_0 14 rfl rfl)
theorem dX8_sake_17 : decode cX8_sake 17 = .ok (.iconst 0, 1) := dk_3 (dk_at dksX8_sake_0 17 rfl rfl)
theorem dX8_sake_18 : decode cX8_sake 18 = .ok (.ireturn, 1) := dk_172 (dk_at dksX8_sake_0 18 rfl rfl)
theorem dX8_sake_19 : decode cX8_sake 19 = .ok (.aload_n 0, 1) := dk_42 (dk_at dksX8_sake_0 19 rfl rfl)
theorem dX8_sake_20 : decode cX8_sake 20 = .ok (.iload_n 1, 1) := dk_27 (dk_at dksX8_sake_0 20 rfl rfl)
theorem dX8_sake_21 : decode cX8_sake 21 = .ok (.iconst 1, 1) := dk_4 (dk_at dksX8_sake_0 21 rfl rfl)
theorem dX8_sake_22 : decode cX8_sake 22 = .ok (.invokevirtual 257, 3) := dk_182 1 1 (dk_at dksX8_sake_1 0 rfl rfl)
theorem dX8_sake_25 : decode cX8_sake 25 = .ok (.iconst 3, 1) := dk_6 (dk_at dksX8_sake_1 3 rfl rfl)
theorem dX8_sake_26 : decode cX8_sake 26 = .ok (.ishr, 1) := dk_122 (dk_at dksX8_sake_1 4 rfl rfl)
theorem dX8_sake_27 : decode cX8_sake 27 = .ok (.iconst 2, 1) := dk_5 (dk_at dksX8_sake_1 5 rfl rfl)
theorem dX8_sake_28 : decode cX8_sake 28 = .ok (.if_icmp .ne 15, 3) := dk_160 0 15 (dk_at dksX8_sake_1 6 rfl rfl)
theorem dX8_sake_31 : decode cX8_sake 31 = .ok (.aload_n 0, 1) := dk_42 (dk_at dksX8_sake_1 9 rfl rfl)
theorem dX8_sake_32 : decode cX8_sake 32 = .ok (.iload_n 2, 1) := dk_28 (dk_at dksX8_sake_1 10 rfl rfl)
theorem dX8_sake_33 : decode cX8_sake 33 = .ok (.iconst 1, 1) := dk_4 (dk_at dksX8_sake_1 11 rfl rfl)
theorem dX8_sake_34 : decode cX8_sake 34 = .ok (.invokevirtual 257, 3) := dk_182 1 1 (dk_at dksX8_sake_1 12 rfl rfl)
theorem dX8_sake_37 : decode cX8_sake 37 = .ok (.iconst 3, 1) := dk_6 (dk_at dksX8_sake_1 15 rfl rfl)
theorem dX8_sake_38 : decode cX8_sake 38 = .ok (.ishr, 1) := dk_122 (dk_at dksX8_sake_1 16 rfl rfl)
theorem dX8_sake_39 : decode cX8_sake 39 = .ok (.iconst 2, 1) := dk_5 (dk_at dksX8_sake_1 17 rfl rfl)
theorem dX8_sake_40 : decode cX8_sake 40 = .ok (.if_icmp .eq 5, 3) := dk_159 0 5 (dk_at dksX8_sake_1 18 rfl rfl)
theorem dX8_sake_43 : decode cX8_sake 43 = .ok (.iconst (-1), 1) := dk_2 (dk_at dksX8_sake_1 21 rfl rfl)
theorem dX8_sake_44 : decode cX8_sake 44 = .ok (.ireturn, 1) := dk_172 (dk_at dksX8_sake_1 22 rfl rfl)
theorem dX8_sake_45 : decode cX8_sake 45 = .ok (.aload_n 0, 1) := dk_42 (dk_at dksX8_sake_1 23 rfl rfl)
theorem dX8_sake_46 : decode cX8_sake 46 = .ok (.iload_n 1, 1) := dk_27 (dk_at dksX8_sake_2 0 rfl rfl)
theorem dX8_sake_47 : decode cX8_sake 47 = .ok (.iconst 1, 1) := dk_4 (dk_at dksX8_sake_2 1 rfl rfl)
theorem dX8_sake_48 : decode cX8_sake 48 = .ok (.invokevirtual 257, 3) := dk_182 1 1 (dk_at dksX8_sake_2 2 rfl rfl)
theorem dX8_sake_51 : decode cX8_sake 51 = .ok (.invokestatic 70, 3) := dk_184 0 70 (dk_at dksX8_sake_2 5 rfl rfl)
theorem dX8_sake_54 : decode cX8_sake 54 = .ok (.istore 4, 2) := dk_54 4 (dk_at dksX8_sake_2 8 rfl rfl)
theorem dX8_sake_56 : decode cX8_sake 56 = .ok (.aload_n 0, 1) := dk_42 (dk_at dksX8_sake_2 10 rfl rfl)
theorem dX8_sake_57 : decode cX8_sake 57 = .ok (.iload_n 2, 1) := dk_28 (dk_at dksX8_sake_2 11 rfl rfl)
theorem dX8_sake_58 : decode cX8_sake 58 = .ok (.iconst 1, 1) := dk_4 (dk_at dksX8_sake_2 12 rfl rfl)
theorem dX8_sake_59 : decode cX8_sake 59 = .ok (.invokevirtual 257, 3) := dk_182 1 1 (dk_at dksX8_sake_2 13 rfl rfl)
theorem dX8_sake_62 : decode cX8_sake 62 = .ok (.invokestatic 70, 3) := dk_184 0 70 (dk_at dksX8_sake_2 16 rfl rfl)
theorem dX8_sake_65 : decode cX8_sake 65 = .ok (.istore 5, 2) := dk_54 5 (dk_at dksX8_sake_2 19 rfl rfl)
theorem dX8_sake_67 : decode cX8_sake 67 = .ok (.iconst 0, 1) := dk_3 (dk_at dksX8_sake_2 21 rfl rfl)
theorem dX8_sake_68 : decode cX8_sake 68 = .ok (.istore 6, 2) := dk_54 6 (dk_at dksX8_sake_2 22 rfl rfl)
theorem dX8_sake_70 : decode cX8_sake 70 = .ok (.iload 6, 2) := dk_21 6 (dk_at dksX8_sake_3 0 rfl rfl)
theorem dX8_sake_72 : decode cX8_sake 72 = .ok (.bipush 8, 2) := dk_16 8 (dk_at dksX8_sake_3 2 rfl rfl)
theorem dX8_sake_74 : decode cX8_sake 74 = .ok (.if_icmp .ge 45, 3) := dk_162 0 45 (dk_at dksX8_sake_3 4 rfl rfl)
theorem dX8_sake_77 : decode cX8_sake 77 = .ok (.iload 4, 2) := dk_21 4 (dk_at dksX8_sake_3 7 rfl rfl)
theorem dX8_sake_79 : decode cX8_sake 79 = .ok (.iload 5, 2) := dk_21 5 (dk_at dksX8_sake_3 9 rfl rfl)
theorem dX8_sake_81 : decode cX8_sake 81 = .ok (.if_icmp .ne 6, 3) := dk_160 0 6 (dk_at dksX8_sake_3 11 rfl rfl)
theorem dX8_sake_84 : decode cX8_sake 84 = .ok (.iload 6, 2) := dk_21 6 (dk_at dksX8_sake_3 14 rfl rfl)
theorem dX8_sake_86 : decode cX8_sake 86 = .ok (.ireturn, 1) := dk_172 (dk_at dksX8_sake_3 16 rfl rfl)
theorem dX8_sake_87 : decode cX8_sake 87 = .ok (.iload 4, 2) := dk_21 4 (dk_at dksX8_sake_3 17 rfl rfl)
theorem dX8_sake_89 : decode cX8_sake 89 = .ok (.istore 7, 2) := dk_54 7 (dk_at dksX8_sake_3 19 rfl rfl)
theorem dX8_sake_91 : decode cX8_sake 91 = .ok (.iload_n 3, 1) := dk_29 (dk_at dksX8_sake_3 21 rfl rfl)
theorem dX8_sake_92 : decode cX8_sake 92 = .ok (.ifCond .ne 12, 3) := dk_154 0 12 (dk_at dksX8_sake_4 0 rfl rfl)
theorem dX8_sake_95 : decode cX8_sake 95 = .ok (.iload 4, 2) := dk_21 4 (dk_at dksX8_sake_4 3 rfl rfl)
theorem dX8_sake_97 : decode cX8_sake 97 = .ok (.iload 5, 2) := dk_21 5 (dk_at dksX8_sake_4 5 rfl rfl)
theorem dX8_sake_99 : decode cX8_sake 99 = .ok (.invokestatic 331, 3) := dk_184 1 75 (dk_at dksX8_sake_4 7 rfl rfl)
theorem dX8_sake_102 : decode cX8_sake 102 = .ok (.istore 4, 2) := dk_54 4 (dk_at dksX8_sake_4 10 rfl rfl)
theorem dX8_sake_104 : decode cX8_sake 104 = .ok (.iload 5, 2) := dk_21 5 (dk_at dksX8_sake_4 12 rfl rfl)
theorem dX8_sake_106 : decode cX8_sake 106 = .ok (.iload 7, 2) := dk_21 7 (dk_at dksX8_sake_4 14 rfl rfl)
theorem dX8_sake_108 : decode cX8_sake 108 = .ok (.invokestatic 331, 3) := dk_184 1 75 (dk_at dksX8_sake_4 16 rfl rfl)
theorem dX8_sake_111 : decode cX8_sake 111 = .ok (.istore 5, 2) := dk_54 5 (dk_at dksX8_sake_4 19 rfl rfl)
theorem dX8_sake_113 : decode cX8_sake 113 = .ok (.iinc 6 1, 3) := dk_132 6 1 (dk_at dksX8_sake_4 21 rfl rfl)
theorem dX8_sake_116 : decode cX8_sake 116 = .ok (.goto (-46), 3) := dk_167 255 210 (dk_at dksX8_sake_5 0 rfl rfl)
theorem dX8_sake_119 : decode cX8_sake 119 = .ok (.iconst (-1), 1) := dk_2 (dk_at dksX8_sake_5 3 rfl rfl)
theorem dX8_sake_120 : decode cX8_sake 120 = .ok (.ireturn, 1) := dk_172 (dk_at dksX8_sake_5 4 rfl rfl)
abbrev cX8_towards : ByteArray := prog_23_method_85_code
def yX8_towards : MethodName := ⟨RX8, "towards", "(II)I"⟩
def dkwX8_towards_0 : List UInt8 := [26, 27, 162, 0, 9, 26, 4, 96, 167, 0, 15, 26, 27, 164, 0, 9, 26, 4, 100, 167, 0, 4, 26, 172]
abbrev dktX8_towards_0 : List UInt8 := dkwX8_towards_0 ++ []
theorem dksX8_towards_0 : cX8_towards.data.toList.drop 0 = dktX8_towards_0 := by decide +kernel
theorem dX8_towards_0 : decode cX8_towards 0 = .ok (.iload_n 0, 1) := dk_26 (dk_at dksX8_towards_0 0 rfl rfl)
theorem dX8_towards_1 : decode cX8_towards 1 = .ok (.iload_n 1, 1) := dk_27 (dk_at dksX8_towards_0 1 rfl rfl)
theorem dX8_towards_2 : decode cX8_towards 2 = .ok (.if_icmp .ge 9, 3) := dk_162 0 9 (dk_at dksX8_towards_0 2 rfl rfl)
theorem dX8_towards_5 : decode cX8_towards 5 = .ok (.iload_n 0, 1) := dk_26 (dk_at dksX8_towards_0 5 rfl rfl)
theorem dX8_towards_6 : decode cX8_towards 6 = .ok (.iconst 1, 1) := dk_4 (dk_at dksX8_towards_0 6 rfl rfl)
theorem dX8_towards_7 : decode cX8_towards 7 = .ok (.iadd, 1) := dk_96 (dk_at dksX8_towards_0 7 rfl rfl)
theorem dX8_towards_8 : decode cX8_towards 8 = .ok (.goto 15, 3) := dk_167 0 15 (dk_at dksX8_towards_0 8 rfl rfl)
theorem dX8_towards_11 : decode cX8_towards 11 = .ok (.iload_n 0, 1) := dk_26 (dk_at dksX8_towards_0 11 rfl rfl)
theorem dX8_towards_12 : decode cX8_towards 12 = .ok (.iload_n 1, 1) := dk_27 (dk_at dksX8_towards_0 12 rfl rfl)
theorem dX8_towards_13 : decode cX8_towards 13 = .ok (.if_icmp .le 9, 3) := dk_164 0 9 (dk_at dksX8_towards_0 13 rfl rfl)
theorem dX8_towards_16 : decode cX8_towards 16 = .ok (.iload_n 0, 1) := dk_26 (dk_at dksX8_towards_0 16 rfl rfl)
theorem dX8_towards_17 : decode cX8_towards 17 = .ok (.iconst 1, 1) := dk_4 (dk_at dksX8_towards_0 17 rfl rfl)
theorem dX8_towards_18 : decode cX8_towards 18 = .ok (.isub, 1) := dk_100 (dk_at dksX8_towards_0 18 rfl rfl)
theorem dX8_towards_19 : decode cX8_towards 19 = .ok (.goto 4, 3) := dk_167 0 4 (dk_at dksX8_towards_0 19 rfl rfl)
theorem dX8_towards_22 : decode cX8_towards 22 = .ok (.iload_n 0, 1) := dk_26 (dk_at dksX8_towards_0 22 rfl rfl)
theorem dX8_towards_23 : decode cX8_towards 23 = .ok (.ireturn, 1) := dk_172 (dk_at dksX8_towards_0 23 rfl rfl)
abbrev cX8_table : ByteArray := prog_23_method_88_code
def yX8_table : MethodName := ⟨RX8, "table", "(II)I"⟩
def dkwX8_table_4 : List UInt8 := [167, 0, 4, 2, 172]
abbrev dktX8_table_4 : List UInt8 := dkwX8_table_4 ++ []
def dkwX8_table_3 : List UInt8 := [180, 1, 78, 172, 28, 3, 21, 4, 4, 100, 184, 0, 59, 153, 0, 12, 42, 180, 0, 47, 28, 46]
abbrev dktX8_table_3 : List UInt8 := dkwX8_table_3 ++ dktX8_table_4
def dkwX8_table_2 : List UInt8 := [3, 21, 4, 3, 182, 1, 81, 28, 2, 160, 0, 17, 21, 4, 154, 0, 7, 3, 167, 0, 7, 42]
abbrev dktX8_table_2 : List UInt8 := dkwX8_table_2 ++ dktX8_table_3
def dkwX8_table_1 : List UInt8 := [21, 4, 16, 8, 164, 0, 6, 16, 253, 172, 42, 19, 1, 87, 181, 1, 78, 21, 4, 158, 0, 12, 42, 29]
abbrev dktX8_table_1 : List UInt8 := dkwX8_table_1 ++ dktX8_table_2
def dkwX8_table_0 : List UInt8 := [42, 3, 181, 0, 56, 27, 4, 42, 180, 0, 7, 8, 46, 120, 4, 100, 126, 62, 29, 184, 1, 84, 54, 4]
abbrev dktX8_table_0 : List UInt8 := dkwX8_table_0 ++ dktX8_table_1
theorem dksX8_table_0 : cX8_table.data.toList.drop 0 = dktX8_table_0 := by decide +kernel
theorem dksX8_table_1 : cX8_table.data.toList.drop 24 = dktX8_table_1 := dk_seg dksX8_table_0 24 rfl rfl
theorem dksX8_table_2 : cX8_table.data.toList.drop 48 = dktX8_table_2 := dk_seg dksX8_table_1 24 rfl rfl
theorem dksX8_table_3 : cX8_table.data.toList.drop 70 = dktX8_table_3 := dk_seg dksX8_table_2 22 rfl rfl
theorem dksX8_table_4 : cX8_table.data.toList.drop 92 = dktX8_table_4 := dk_seg dksX8_table_3 22 rfl rfl
theorem dX8_table_0 : decode cX8_table 0 = .ok (.aload_n 0, 1) := dk_42 (dk_at dksX8_table_0 0 rfl rfl)
theorem dX8_table_1 : decode cX8_table 1 = .ok (.iconst 0, 1) := dk_3 (dk_at dksX8_table_0 1 rfl rfl)
theorem dX8_table_2 : decode cX8_table 2 = .ok (.putfield 56, 3) := dk_181 0 56 (dk_at dksX8_table_0 2 rfl rfl)
theorem dX8_table_5 : decode cX8_table 5 = .ok (.iload_n 1, 1) := dk_27 (dk_at dksX8_table_0 5 rfl rfl)
theorem dX8_table_6 : decode cX8_table 6 = .ok (.iconst 1, 1) := dk_4 (dk_at dksX8_table_0 6 rfl rfl)
theorem dX8_table_7 : decode cX8_table 7 = .ok (.aload_n 0, 1) := dk_42 (dk_at dksX8_table_0 7 rfl rfl)
theorem dX8_table_8 : decode cX8_table 8 = .ok (.getfield 7, 3) := dk_180 0 7 (dk_at dksX8_table_0 8 rfl rfl)
theorem dX8_table_11 : decode cX8_table 11 = .ok (.iconst 5, 1) := dk_8 (dk_at dksX8_table_0 11 rfl rfl)
theorem dX8_table_12 : decode cX8_table 12 = .ok (.iaload, 1) := dk_46 (dk_at dksX8_table_0 12 rfl rfl)
theorem dX8_table_13 : decode cX8_table 13 = .ok (.ishl, 1) := dk_120 (dk_at dksX8_table_0 13 rfl rfl)
theorem dX8_table_14 : decode cX8_table 14 = .ok (.iconst 1, 1) := dk_4 (dk_at dksX8_table_0 14 rfl rfl)
theorem dX8_table_15 : decode cX8_table 15 = .ok (.isub, 1) := dk_100 (dk_at dksX8_table_0 15 rfl rfl)
theorem dX8_table_16 : decode cX8_table 16 = .ok (.iand, 1) := dk_126 (dk_at dksX8_table_0 16 rfl rfl)
theorem dX8_table_17 : decode cX8_table 17 = .ok (.istore_n 3, 1) := dk_62 (dk_at dksX8_table_0 17 rfl rfl)
theorem dX8_table_18 : decode cX8_table 18 = .ok (.iload_n 3, 1) := dk_29 (dk_at dksX8_table_0 18 rfl rfl)
theorem dX8_table_19 : decode cX8_table 19 = .ok (.invokestatic 340, 3) := dk_184 1 84 (dk_at dksX8_table_0 19 rfl rfl)
theorem dX8_table_22 : decode cX8_table 22 = .ok (.istore 4, 2) := dk_54 4 (dk_at dksX8_table_0 22 rfl rfl)
theorem dX8_table_24 : decode cX8_table 24 = .ok (.iload 4, 2) := dk_21 4 (dk_at dksX8_table_1 0 rfl rfl)
theorem dX8_table_26 : decode cX8_table 26 = .ok (.bipush 8, 2) := dk_16 8 (dk_at dksX8_table_1 2 rfl rfl)
theorem dX8_table_28 : decode cX8_table 28 = .ok (.if_icmp .le 6, 3) := dk_164 0 6 (dk_at dksX8_table_1 4 rfl rfl)
theorem dX8_table_31 : decode cX8_table 31 = .ok (.bipush (-3), 2) := dk_16 253 (dk_at dksX8_table_1 7 rfl rfl)
theorem dX8_table_33 : decode cX8_table 33 = .ok (.ireturn, 1) := dk_172 (dk_at dksX8_table_1 9 rfl rfl)
theorem dX8_table_34 : decode cX8_table 34 = .ok (.aload_n 0, 1) := dk_42 (dk_at dksX8_table_1 10 rfl rfl)
theorem dX8_table_35 : decode cX8_table 35 = .ok (.ldc_w 343, 3) := dk_19 1 87 (dk_at dksX8_table_1 11 rfl rfl)
theorem dX8_table_38 : decode cX8_table 38 = .ok (.putfield 334, 3) := dk_181 1 78 (dk_at dksX8_table_1 14 rfl rfl)
theorem dX8_table_41 : decode cX8_table 41 = .ok (.iload 4, 2) := dk_21 4 (dk_at dksX8_table_1 17 rfl rfl)
theorem dX8_table_43 : decode cX8_table 43 = .ok (.ifCond .le 12, 3) := dk_158 0 12 (dk_at dksX8_table_1 19 rfl rfl)
theorem dX8_table_46 : decode cX8_table 46 = .ok (.aload_n 0, 1) := dk_42 (dk_at dksX8_table_1 22 rfl rfl)
theorem dX8_table_47 : decode cX8_table 47 = .ok (.iload_n 3, 1) := dk_29 (dk_at dksX8_table_1 23 rfl rfl)
theorem dX8_table_48 : decode cX8_table 48 = .ok (.iconst 0, 1) := dk_3 (dk_at dksX8_table_2 0 rfl rfl)
theorem dX8_table_49 : decode cX8_table 49 = .ok (.iload 4, 2) := dk_21 4 (dk_at dksX8_table_2 1 rfl rfl)
theorem dX8_table_51 : decode cX8_table 51 = .ok (.iconst 0, 1) := dk_3 (dk_at dksX8_table_2 3 rfl rfl)
theorem dX8_table_52 : decode cX8_table 52 = .ok (.invokevirtual 337, 3) := dk_182 1 81 (dk_at dksX8_table_2 4 rfl rfl)
theorem dX8_table_55 : decode cX8_table 55 = .ok (.iload_n 2, 1) := dk_28 (dk_at dksX8_table_2 7 rfl rfl)
theorem dX8_table_56 : decode cX8_table 56 = .ok (.iconst (-1), 1) := dk_2 (dk_at dksX8_table_2 8 rfl rfl)
theorem dX8_table_57 : decode cX8_table 57 = .ok (.if_icmp .ne 17, 3) := dk_160 0 17 (dk_at dksX8_table_2 9 rfl rfl)
theorem dX8_table_60 : decode cX8_table 60 = .ok (.iload 4, 2) := dk_21 4 (dk_at dksX8_table_2 12 rfl rfl)
theorem dX8_table_62 : decode cX8_table 62 = .ok (.ifCond .ne 7, 3) := dk_154 0 7 (dk_at dksX8_table_2 14 rfl rfl)
theorem dX8_table_65 : decode cX8_table 65 = .ok (.iconst 0, 1) := dk_3 (dk_at dksX8_table_2 17 rfl rfl)
theorem dX8_table_66 : decode cX8_table 66 = .ok (.goto 7, 3) := dk_167 0 7 (dk_at dksX8_table_2 18 rfl rfl)
theorem dX8_table_69 : decode cX8_table 69 = .ok (.aload_n 0, 1) := dk_42 (dk_at dksX8_table_2 21 rfl rfl)
theorem dX8_table_70 : decode cX8_table 70 = .ok (.getfield 334, 3) := dk_180 1 78 (dk_at dksX8_table_3 0 rfl rfl)
theorem dX8_table_73 : decode cX8_table 73 = .ok (.ireturn, 1) := dk_172 (dk_at dksX8_table_3 3 rfl rfl)
theorem dX8_table_74 : decode cX8_table 74 = .ok (.iload_n 2, 1) := dk_28 (dk_at dksX8_table_3 4 rfl rfl)
theorem dX8_table_75 : decode cX8_table 75 = .ok (.iconst 0, 1) := dk_3 (dk_at dksX8_table_3 5 rfl rfl)
theorem dX8_table_76 : decode cX8_table 76 = .ok (.iload 4, 2) := dk_21 4 (dk_at dksX8_table_3 6 rfl rfl)
theorem dX8_table_78 : decode cX8_table 78 = .ok (.iconst 1, 1) := dk_4 (dk_at dksX8_table_3 8 rfl rfl)
theorem dX8_table_79 : decode cX8_table 79 = .ok (.isub, 1) := dk_100 (dk_at dksX8_table_3 9 rfl rfl)
theorem dX8_table_80 : decode cX8_table 80 = .ok (.invokestatic 59, 3) := dk_184 0 59 (dk_at dksX8_table_3 10 rfl rfl)
theorem dX8_table_83 : decode cX8_table 83 = .ok (.ifCond .eq 12, 3) := dk_153 0 12 (dk_at dksX8_table_3 13 rfl rfl)
theorem dX8_table_86 : decode cX8_table 86 = .ok (.aload_n 0, 1) := dk_42 (dk_at dksX8_table_3 16 rfl rfl)
theorem dX8_table_87 : decode cX8_table 87 = .ok (.getfield 47, 3) := dk_180 0 47 (dk_at dksX8_table_3 17 rfl rfl)
theorem dX8_table_90 : decode cX8_table 90 = .ok (.iload_n 2, 1) := dk_28 (dk_at dksX8_table_3 20 rfl rfl)
theorem dX8_table_91 : decode cX8_table 91 = .ok (.iaload, 1) := dk_46 (dk_at dksX8_table_3 21 rfl rfl)
theorem dX8_table_92 : decode cX8_table 92 = .ok (.goto 4, 3) := dk_167 0 4 (dk_at dksX8_table_4 0 rfl rfl)
theorem dX8_table_95 : decode cX8_table 95 = .ok (.iconst (-1), 1) := dk_2 (dk_at dksX8_table_4 3 rfl rfl)
theorem dX8_table_96 : decode cX8_table 96 = .ok (.ireturn, 1) := dk_172 (dk_at dksX8_table_4 4 rfl rfl)
abbrev cX8_bits : ByteArray := prog_23_method_7_code
def yX8_bits : MethodName := ⟨RX8, "bits", "(I)I"⟩
def dkwX8_bits_1 : List UInt8 := [27, 172]
abbrev dktX8_bits_1 : List UInt8 := dkwX8_bits_1 ++ []
def dkwX8_bits_0 : List UInt8 := [3, 60, 3, 61, 28, 16, 31, 162, 0, 17, 27, 26, 28, 122, 4, 126, 96, 60, 132, 2, 1, 167, 255, 239]
abbrev dktX8_bits_0 : List UInt8 := dkwX8_bits_0 ++ dktX8_bits_1
theorem dksX8_bits_0 : cX8_bits.data.toList.drop 0 = dktX8_bits_0 := by decide +kernel
theorem dksX8_bits_1 : cX8_bits.data.toList.drop 24 = dktX8_bits_1 := dk_seg dksX8_bits_0 24 rfl rfl
theorem dX8_bits_0 : decode cX8_bits 0 = .ok (.iconst 0, 1) := dk_3 (dk_at dksX8_bits_0 0 rfl rfl)
theorem dX8_bits_1 : decode cX8_bits 1 = .ok (.istore_n 1, 1) := dk_60 (dk_at dksX8_bits_0 1 rfl rfl)
theorem dX8_bits_2 : decode cX8_bits 2 = .ok (.iconst 0, 1) := dk_3 (dk_at dksX8_bits_0 2 rfl rfl)
theorem dX8_bits_3 : decode cX8_bits 3 = .ok (.istore_n 2, 1) := dk_61 (dk_at dksX8_bits_0 3 rfl rfl)
theorem dX8_bits_4 : decode cX8_bits 4 = .ok (.iload_n 2, 1) := dk_28 (dk_at dksX8_bits_0 4 rfl rfl)
theorem dX8_bits_5 : decode cX8_bits 5 = .ok (.bipush 31, 2) := dk_16 31 (dk_at dksX8_bits_0 5 rfl rfl)
theorem dX8_bits_7 : decode cX8_bits 7 = .ok (.if_icmp .ge 17, 3) := dk_162 0 17 (dk_at dksX8_bits_0 7 rfl rfl)
theorem dX8_bits_10 : decode cX8_bits 10 = .ok (.iload_n 1, 1) := dk_27 (dk_at dksX8_bits_0 10 rfl rfl)
theorem dX8_bits_11 : decode cX8_bits 11 = .ok (.iload_n 0, 1) := dk_26 (dk_at dksX8_bits_0 11 rfl rfl)
theorem dX8_bits_12 : decode cX8_bits 12 = .ok (.iload_n 2, 1) := dk_28 (dk_at dksX8_bits_0 12 rfl rfl)
theorem dX8_bits_13 : decode cX8_bits 13 = .ok (.ishr, 1) := dk_122 (dk_at dksX8_bits_0 13 rfl rfl)
theorem dX8_bits_14 : decode cX8_bits 14 = .ok (.iconst 1, 1) := dk_4 (dk_at dksX8_bits_0 14 rfl rfl)
theorem dX8_bits_15 : decode cX8_bits 15 = .ok (.iand, 1) := dk_126 (dk_at dksX8_bits_0 15 rfl rfl)
theorem dX8_bits_16 : decode cX8_bits 16 = .ok (.iadd, 1) := dk_96 (dk_at dksX8_bits_0 16 rfl rfl)
theorem dX8_bits_17 : decode cX8_bits 17 = .ok (.istore_n 1, 1) := dk_60 (dk_at dksX8_bits_0 17 rfl rfl)
theorem dX8_bits_18 : decode cX8_bits 18 = .ok (.iinc 2 1, 3) := dk_132 2 1 (dk_at dksX8_bits_0 18 rfl rfl)
theorem dX8_bits_21 : decode cX8_bits 21 = .ok (.goto (-17), 3) := dk_167 255 239 (dk_at dksX8_bits_0 21 rfl rfl)
theorem dX8_bits_24 : decode cX8_bits 24 = .ok (.iload_n 1, 1) := dk_27 (dk_at dksX8_bits_1 0 rfl rfl)
theorem dX8_bits_25 : decode cX8_bits 25 = .ok (.ireturn, 1) := dk_172 (dk_at dksX8_bits_1 1 rfl rfl)
abbrev cX8_sits : ByteArray := prog_23_method_87_code
def yX8_sits : MethodName := ⟨RX8, "sits", "(IIII)V"⟩
def dkwX8_sits_8 : List UInt8 := [154, 0, 4, 177, 132, 5, 1, 167, 255, 166, 177]
abbrev dktX8_sits_8 : List UInt8 := dkwX8_sits_8 ++ []
def dkwX8_sits_7 : List UInt8 := [4, 182, 1, 1, 42, 21, 5, 4, 182, 1, 1, 182, 1, 7, 167, 0, 4, 3, 96, 182, 1, 81, 28]
abbrev dktX8_sits_7 : List UInt8 := dkwX8_sits_7 ++ dktX8_sits_8
def dkwX8_sits_6 : List UInt8 := [120, 2, 130, 126, 28, 4, 96, 29, 21, 4, 28, 158, 0, 30, 42, 42, 42, 180, 0, 44, 28, 4, 100, 46]
abbrev dktX8_sits_6 : List UInt8 := dkwX8_sits_6 ++ dktX8_sits_7
def dkwX8_sits_5 : List UInt8 := [21, 5, 184, 1, 49, 154, 0, 6, 167, 0, 67, 42, 180, 0, 44, 28, 21, 5, 79, 42, 27, 4, 21, 5]
abbrev dktX8_sits_5 : List UInt8 := dkwX8_sits_5 ++ dktX8_sits_6
def dkwX8_sits_4 : List UInt8 := [46, 79, 132, 6, 1, 167, 255, 233, 177, 3, 54, 5, 21, 5, 42, 180, 0, 7, 8, 46, 162, 0, 85, 27]
abbrev dktX8_sits_4 : List UInt8 := dkwX8_sits_4 ++ dktX8_sits_5
def dkwX8_sits_3 : List UInt8 := [181, 1, 78, 3, 54, 6, 21, 6, 29, 162, 0, 23, 42, 180, 0, 47, 21, 6, 42, 180, 0, 44, 21, 6]
abbrev dktX8_sits_3 : List UInt8 := dkwX8_sits_3 ++ dktX8_sits_4
def dkwX8_sits_2 : List UInt8 := [182, 1, 7, 167, 0, 4, 3, 96, 54, 5, 21, 5, 42, 180, 1, 78, 161, 0, 4, 177, 42, 21, 5]
abbrev dktX8_sits_2 : List UInt8 := dkwX8_sits_2 ++ dktX8_sits_3
def dkwX8_sits_1 : List UInt8 := [180, 0, 44, 29, 4, 100, 46, 4, 182, 1, 1, 42, 42, 180, 0, 44, 3, 46, 4, 182, 1, 1]
abbrev dktX8_sits_1 : List UInt8 := dkwX8_sits_1 ++ dktX8_sits_2
def dkwX8_sits_0 : List UInt8 := [21, 4, 42, 180, 1, 78, 164, 0, 4, 177, 27, 154, 0, 91, 21, 4, 29, 5, 164, 0, 34, 42, 42, 42]
abbrev dktX8_sits_0 : List UInt8 := dkwX8_sits_0 ++ dktX8_sits_1
theorem dksX8_sits_0 : cX8_sits.data.toList.drop 0 = dktX8_sits_0 := by decide +kernel
theorem dksX8_sits_1 : cX8_sits.data.toList.drop 24 = dktX8_sits_1 := dk_seg dksX8_sits_0 24 rfl rfl
theorem dksX8_sits_2 : cX8_sits.data.toList.drop 46 = dktX8_sits_2 := dk_seg dksX8_sits_1 22 rfl rfl
theorem dksX8_sits_3 : cX8_sits.data.toList.drop 69 = dktX8_sits_3 := dk_seg dksX8_sits_2 23 rfl rfl
theorem dksX8_sits_4 : cX8_sits.data.toList.drop 93 = dktX8_sits_4 := dk_seg dksX8_sits_3 24 rfl rfl
theorem dksX8_sits_5 : cX8_sits.data.toList.drop 117 = dktX8_sits_5 := dk_seg dksX8_sits_4 24 rfl rfl
theorem dksX8_sits_6 : cX8_sits.data.toList.drop 141 = dktX8_sits_6 := dk_seg dksX8_sits_5 24 rfl rfl
theorem dksX8_sits_7 : cX8_sits.data.toList.drop 165 = dktX8_sits_7 := dk_seg dksX8_sits_6 24 rfl rfl
theorem dksX8_sits_8 : cX8_sits.data.toList.drop 188 = dktX8_sits_8 := dk_seg dksX8_sits_7 23 rfl rfl
theorem dX8_sits_0 : decode cX8_sits 0 = .ok (.iload 4, 2) := dk_21 4 (dk_at dksX8_sits_0 0 rfl rfl)
theorem dX8_sits_2 : decode cX8_sits 2 = .ok (.aload_n 0, 1) := dk_42 (dk_at dksX8_sits_0 2 rfl rfl)
theorem dX8_sits_3 : decode cX8_sits 3 = .ok (.getfield 334, 3) := dk_180 1 78 (dk_at dksX8_sits_0 3 rfl rfl)
theorem dX8_sits_6 : decode cX8_sits 6 = .ok (.if_icmp .le 4, 3) := dk_164 0 4 (dk_at dksX8_sits_0 6 rfl rfl)
theorem dX8_sits_9 : decode cX8_sits 9 = .ok (.return_, 1) := dk_177 (dk_at dksX8_sits_0 9 rfl rfl)
theorem dX8_sits_10 : decode cX8_sits 10 = .ok (.iload_n 1, 1) := dk_27 (dk_at dksX8_sits_0 10 rfl rfl)
theorem dX8_sits_11 : decode cX8_sits 11 = .ok (.ifCond .ne 91, 3) := dk_154 0 91 (dk_at dksX8_sits_0 11 rfl rfl)
theorem dX8_sits_14 : decode cX8_sits 14 = .ok (.iload 4, 2) := dk_21 4 (dk_at dksX8_sits_0 14 rfl rfl)
theorem dX8_sits_16 : decode cX8_sits 16 = .ok (.iload_n 3, 1) := dk_29 (dk_at dksX8_sits_0 16 rfl rfl)
theorem dX8_sits_17 : decode cX8_sits 17 = .ok (.iconst 2, 1) := dk_5 (dk_at dksX8_sits_0 17 rfl rfl)
theorem dX8_sits_18 : decode cX8_sits 18 = .ok (.if_icmp .le 34, 3) := dk_164 0 34 (dk_at dksX8_sits_0 18 rfl rfl)
theorem dX8_sits_21 : decode cX8_sits 21 = .ok (.aload_n 0, 1) := dk_42 (dk_at dksX8_sits_0 21 rfl rfl)
theorem dX8_sits_22 : decode cX8_sits 22 = .ok (.aload_n 0, 1) := dk_42 (dk_at dksX8_sits_0 22 rfl rfl)
theorem dX8_sits_23 : decode cX8_sits 23 = .ok (.aload_n 0, 1) := dk_42 (dk_at dksX8_sits_0 23 rfl rfl)
theorem dX8_sits_24 : decode cX8_sits 24 = .ok (.getfield 44, 3) := dk_180 0 44 (dk_at dksX8_sits_1 0 rfl rfl)
theorem dX8_sits_27 : decode cX8_sits 27 = .ok (.iload_n 3, 1) := dk_29 (dk_at dksX8_sits_1 3 rfl rfl)
theorem dX8_sits_28 : decode cX8_sits 28 = .ok (.iconst 1, 1) := dk_4 (dk_at dksX8_sits_1 4 rfl rfl)
theorem dX8_sits_29 : decode cX8_sits 29 = .ok (.isub, 1) := dk_100 (dk_at dksX8_sits_1 5 rfl rfl)
theorem dX8_sits_30 : decode cX8_sits 30 = .ok (.iaload, 1) := dk_46 (dk_at dksX8_sits_1 6 rfl rfl)
theorem dX8_sits_31 : decode cX8_sits 31 = .ok (.iconst 1, 1) := dk_4 (dk_at dksX8_sits_1 7 rfl rfl)
theorem dX8_sits_32 : decode cX8_sits 32 = .ok (.invokevirtual 257, 3) := dk_182 1 1 (dk_at dksX8_sits_1 8 rfl rfl)
theorem dX8_sits_35 : decode cX8_sits 35 = .ok (.aload_n 0, 1) := dk_42 (dk_at dksX8_sits_1 11 rfl rfl)
theorem dX8_sits_36 : decode cX8_sits 36 = .ok (.aload_n 0, 1) := dk_42 (dk_at dksX8_sits_1 12 rfl rfl)
theorem dX8_sits_37 : decode cX8_sits 37 = .ok (.getfield 44, 3) := dk_180 0 44 (dk_at dksX8_sits_1 13 rfl rfl)
theorem dX8_sits_40 : decode cX8_sits 40 = .ok (.iconst 0, 1) := dk_3 (dk_at dksX8_sits_1 16 rfl rfl)
theorem dX8_sits_41 : decode cX8_sits 41 = .ok (.iaload, 1) := dk_46 (dk_at dksX8_sits_1 17 rfl rfl)
theorem dX8_sits_42 : decode cX8_sits 42 = .ok (.iconst 1, 1) := dk_4 (dk_at dksX8_sits_1 18 rfl rfl)
theorem dX8_sits_43 : decode cX8_sits 43 = .ok (.invokevirtual 257, 3) := dk_182 1 1 (dk_at dksX8_sits_1 19 rfl rfl)
theorem dX8_sits_46 : decode cX8_sits 46 = .ok (.invokevirtual 263, 3) := dk_182 1 7 (dk_at dksX8_sits_2 0 rfl rfl)
theorem dX8_sits_49 : decode cX8_sits 49 = .ok (.goto 4, 3) := dk_167 0 4 (dk_at dksX8_sits_2 3 rfl rfl)
theorem dX8_sits_52 : decode cX8_sits 52 = .ok (.iconst 0, 1) := dk_3 (dk_at dksX8_sits_2 6 rfl rfl)
theorem dX8_sits_53 : decode cX8_sits 53 = .ok (.iadd, 1) := dk_96 (dk_at dksX8_sits_2 7 rfl rfl)
theorem dX8_sits_54 : decode cX8_sits 54 = .ok (.istore 5, 2) := dk_54 5 (dk_at dksX8_sits_2 8 rfl rfl)
theorem dX8_sits_56 : decode cX8_sits 56 = .ok (.iload 5, 2) := dk_21 5 (dk_at dksX8_sits_2 10 rfl rfl)
theorem dX8_sits_58 : decode cX8_sits 58 = .ok (.aload_n 0, 1) := dk_42 (dk_at dksX8_sits_2 12 rfl rfl)
theorem dX8_sits_59 : decode cX8_sits 59 = .ok (.getfield 334, 3) := dk_180 1 78 (dk_at dksX8_sits_2 13 rfl rfl)
theorem dX8_sits_62 : decode cX8_sits 62 = .ok (.if_icmp .lt 4, 3) := dk_161 0 4 (dk_at dksX8_sits_2 16 rfl rfl)
theorem dX8_sits_65 : decode cX8_sits 65 = .ok (.return_, 1) := dk_177 (dk_at dksX8_sits_2 19 rfl rfl)
theorem dX8_sits_66 : decode cX8_sits 66 = .ok (.aload_n 0, 1) := dk_42 (dk_at dksX8_sits_2 20 rfl rfl)
theorem dX8_sits_67 : decode cX8_sits 67 = .ok (.iload 5, 2) := dk_21 5 (dk_at dksX8_sits_2 21 rfl rfl)
theorem dX8_sits_69 : decode cX8_sits 69 = .ok (.putfield 334, 3) := dk_181 1 78 (dk_at dksX8_sits_3 0 rfl rfl)
theorem dX8_sits_72 : decode cX8_sits 72 = .ok (.iconst 0, 1) := dk_3 (dk_at dksX8_sits_3 3 rfl rfl)
theorem dX8_sits_73 : decode cX8_sits 73 = .ok (.istore 6, 2) := dk_54 6 (dk_at dksX8_sits_3 4 rfl rfl)
theorem dX8_sits_75 : decode cX8_sits 75 = .ok (.iload 6, 2) := dk_21 6 (dk_at dksX8_sits_3 6 rfl rfl)
theorem dX8_sits_77 : decode cX8_sits 77 = .ok (.iload_n 3, 1) := dk_29 (dk_at dksX8_sits_3 8 rfl rfl)
theorem dX8_sits_78 : decode cX8_sits 78 = .ok (.if_icmp .ge 23, 3) := dk_162 0 23 (dk_at dksX8_sits_3 9 rfl rfl)
theorem dX8_sits_81 : decode cX8_sits 81 = .ok (.aload_n 0, 1) := dk_42 (dk_at dksX8_sits_3 12 rfl rfl)
theorem dX8_sits_82 : decode cX8_sits 82 = .ok (.getfield 47, 3) := dk_180 0 47 (dk_at dksX8_sits_3 13 rfl rfl)
theorem dX8_sits_85 : decode cX8_sits 85 = .ok (.iload 6, 2) := dk_21 6 (dk_at dksX8_sits_3 16 rfl rfl)
theorem dX8_sits_87 : decode cX8_sits 87 = .ok (.aload_n 0, 1) := dk_42 (dk_at dksX8_sits_3 18 rfl rfl)
theorem dX8_sits_88 : decode cX8_sits 88 = .ok (.getfield 44, 3) := dk_180 0 44 (dk_at dksX8_sits_3 19 rfl rfl)
theorem dX8_sits_91 : decode cX8_sits 91 = .ok (.iload 6, 2) := dk_21 6 (dk_at dksX8_sits_3 22 rfl rfl)
theorem dX8_sits_93 : decode cX8_sits 93 = .ok (.iaload, 1) := dk_46 (dk_at dksX8_sits_4 0 rfl rfl)
theorem dX8_sits_94 : decode cX8_sits 94 = .ok (.iastore, 1) := dk_79 (dk_at dksX8_sits_4 1 rfl rfl)
theorem dX8_sits_95 : decode cX8_sits 95 = .ok (.iinc 6 1, 3) := dk_132 6 1 (dk_at dksX8_sits_4 2 rfl rfl)
theorem dX8_sits_98 : decode cX8_sits 98 = .ok (.goto (-23), 3) := dk_167 255 233 (dk_at dksX8_sits_4 5 rfl rfl)
theorem dX8_sits_101 : decode cX8_sits 101 = .ok (.return_, 1) := dk_177 (dk_at dksX8_sits_4 8 rfl rfl)
theorem dX8_sits_102 : decode cX8_sits 102 = .ok (.iconst 0, 1) := dk_3 (dk_at dksX8_sits_4 9 rfl rfl)
theorem dX8_sits_103 : decode cX8_sits 103 = .ok (.istore 5, 2) := dk_54 5 (dk_at dksX8_sits_4 10 rfl rfl)
theorem dX8_sits_105 : decode cX8_sits 105 = .ok (.iload 5, 2) := dk_21 5 (dk_at dksX8_sits_4 12 rfl rfl)
theorem dX8_sits_107 : decode cX8_sits 107 = .ok (.aload_n 0, 1) := dk_42 (dk_at dksX8_sits_4 14 rfl rfl)
theorem dX8_sits_108 : decode cX8_sits 108 = .ok (.getfield 7, 3) := dk_180 0 7 (dk_at dksX8_sits_4 15 rfl rfl)
theorem dX8_sits_111 : decode cX8_sits 111 = .ok (.iconst 5, 1) := dk_8 (dk_at dksX8_sits_4 18 rfl rfl)
theorem dX8_sits_112 : decode cX8_sits 112 = .ok (.iaload, 1) := dk_46 (dk_at dksX8_sits_4 19 rfl rfl)
theorem dX8_sits_113 : decode cX8_sits 113 = .ok (.if_icmp .ge 85, 3) := dk_162 0 85 (dk_at dksX8_sits_4 20 rfl rfl)
theorem dX8_sits_116 : decode cX8_sits 116 = .ok (.iload_n 1, 1) := dk_27 (dk_at dksX8_sits_4 23 rfl rfl)
theorem dX8_sits_117 : decode cX8_sits 117 = .ok (.iload 5, 2) := dk_21 5 (dk_at dksX8_sits_5 0 rfl rfl)
theorem dX8_sits_119 : decode cX8_sits 119 = .ok (.invokestatic 305, 3) := dk_184 1 49 (dk_at dksX8_sits_5 2 rfl rfl)
theorem dX8_sits_122 : decode cX8_sits 122 = .ok (.ifCond .ne 6, 3) := dk_154 0 6 (dk_at dksX8_sits_5 5 rfl rfl)
theorem dX8_sits_125 : decode cX8_sits 125 = .ok (.goto 67, 3) := dk_167 0 67 (dk_at dksX8_sits_5 8 rfl rfl)
theorem dX8_sits_128 : decode cX8_sits 128 = .ok (.aload_n 0, 1) := dk_42 (dk_at dksX8_sits_5 11 rfl rfl)
theorem dX8_sits_129 : decode cX8_sits 129 = .ok (.getfield 44, 3) := dk_180 0 44 (dk_at dksX8_sits_5 12 rfl rfl)
theorem dX8_sits_132 : decode cX8_sits 132 = .ok (.iload_n 2, 1) := dk_28 (dk_at dksX8_sits_5 15 rfl rfl)
theorem dX8_sits_133 : decode cX8_sits 133 = .ok (.iload 5, 2) := dk_21 5 (dk_at dksX8_sits_5 16 rfl rfl)
theorem dX8_sits_135 : decode cX8_sits 135 = .ok (.iastore, 1) := dk_79 (dk_at dksX8_sits_5 18 rfl rfl)
theorem dX8_sits_136 : decode cX8_sits 136 = .ok (.aload_n 0, 1) := dk_42 (dk_at dksX8_sits_5 19 rfl rfl)
theorem dX8_sits_137 : decode cX8_sits 137 = .ok (.iload_n 1, 1) := dk_27 (dk_at dksX8_sits_5 20 rfl rfl)
theorem dX8_sits_138 : decode cX8_sits 138 = .ok (.iconst 1, 1) := dk_4 (dk_at dksX8_sits_5 21 rfl rfl)
theorem dX8_sits_139 : decode cX8_sits 139 = .ok (.iload 5, 2) := dk_21 5 (dk_at dksX8_sits_5 22 rfl rfl)
theorem dX8_sits_141 : decode cX8_sits 141 = .ok (.ishl, 1) := dk_120 (dk_at dksX8_sits_6 0 rfl rfl)
theorem dX8_sits_142 : decode cX8_sits 142 = .ok (.iconst (-1), 1) := dk_2 (dk_at dksX8_sits_6 1 rfl rfl)
theorem dX8_sits_143 : decode cX8_sits 143 = .ok (.ixor, 1) := dk_130 (dk_at dksX8_sits_6 2 rfl rfl)
theorem dX8_sits_144 : decode cX8_sits 144 = .ok (.iand, 1) := dk_126 (dk_at dksX8_sits_6 3 rfl rfl)
theorem dX8_sits_145 : decode cX8_sits 145 = .ok (.iload_n 2, 1) := dk_28 (dk_at dksX8_sits_6 4 rfl rfl)
theorem dX8_sits_146 : decode cX8_sits 146 = .ok (.iconst 1, 1) := dk_4 (dk_at dksX8_sits_6 5 rfl rfl)
theorem dX8_sits_147 : decode cX8_sits 147 = .ok (.iadd, 1) := dk_96 (dk_at dksX8_sits_6 6 rfl rfl)
theorem dX8_sits_148 : decode cX8_sits 148 = .ok (.iload_n 3, 1) := dk_29 (dk_at dksX8_sits_6 7 rfl rfl)
theorem dX8_sits_149 : decode cX8_sits 149 = .ok (.iload 4, 2) := dk_21 4 (dk_at dksX8_sits_6 8 rfl rfl)
theorem dX8_sits_151 : decode cX8_sits 151 = .ok (.iload_n 2, 1) := dk_28 (dk_at dksX8_sits_6 10 rfl rfl)
theorem dX8_sits_152 : decode cX8_sits 152 = .ok (.ifCond .le 30, 3) := dk_158 0 30 (dk_at dksX8_sits_6 11 rfl rfl)
theorem dX8_sits_155 : decode cX8_sits 155 = .ok (.aload_n 0, 1) := dk_42 (dk_at dksX8_sits_6 14 rfl rfl)
theorem dX8_sits_156 : decode cX8_sits 156 = .ok (.aload_n 0, 1) := dk_42 (dk_at dksX8_sits_6 15 rfl rfl)
theorem dX8_sits_157 : decode cX8_sits 157 = .ok (.aload_n 0, 1) := dk_42 (dk_at dksX8_sits_6 16 rfl rfl)
theorem dX8_sits_158 : decode cX8_sits 158 = .ok (.getfield 44, 3) := dk_180 0 44 (dk_at dksX8_sits_6 17 rfl rfl)
theorem dX8_sits_161 : decode cX8_sits 161 = .ok (.iload_n 2, 1) := dk_28 (dk_at dksX8_sits_6 20 rfl rfl)
theorem dX8_sits_162 : decode cX8_sits 162 = .ok (.iconst 1, 1) := dk_4 (dk_at dksX8_sits_6 21 rfl rfl)
theorem dX8_sits_163 : decode cX8_sits 163 = .ok (.isub, 1) := dk_100 (dk_at dksX8_sits_6 22 rfl rfl)
theorem dX8_sits_164 : decode cX8_sits 164 = .ok (.iaload, 1) := dk_46 (dk_at dksX8_sits_6 23 rfl rfl)
theorem dX8_sits_165 : decode cX8_sits 165 = .ok (.iconst 1, 1) := dk_4 (dk_at dksX8_sits_7 0 rfl rfl)
theorem dX8_sits_166 : decode cX8_sits 166 = .ok (.invokevirtual 257, 3) := dk_182 1 1 (dk_at dksX8_sits_7 1 rfl rfl)
theorem dX8_sits_169 : decode cX8_sits 169 = .ok (.aload_n 0, 1) := dk_42 (dk_at dksX8_sits_7 4 rfl rfl)
theorem dX8_sits_170 : decode cX8_sits 170 = .ok (.iload 5, 2) := dk_21 5 (dk_at dksX8_sits_7 5 rfl rfl)
theorem dX8_sits_172 : decode cX8_sits 172 = .ok (.iconst 1, 1) := dk_4 (dk_at dksX8_sits_7 7 rfl rfl)
theorem dX8_sits_173 : decode cX8_sits 173 = .ok (.invokevirtual 257, 3) := dk_182 1 1 (dk_at dksX8_sits_7 8 rfl rfl)
theorem dX8_sits_176 : decode cX8_sits 176 = .ok (.invokevirtual 263, 3) := dk_182 1 7 (dk_at dksX8_sits_7 11 rfl rfl)
theorem dX8_sits_179 : decode cX8_sits 179 = .ok (.goto 4, 3) := dk_167 0 4 (dk_at dksX8_sits_7 14 rfl rfl)
theorem dX8_sits_182 : decode cX8_sits 182 = .ok (.iconst 0, 1) := dk_3 (dk_at dksX8_sits_7 17 rfl rfl)
theorem dX8_sits_183 : decode cX8_sits 183 = .ok (.iadd, 1) := dk_96 (dk_at dksX8_sits_7 18 rfl rfl)
theorem dX8_sits_184 : decode cX8_sits 184 = .ok (.invokevirtual 337, 3) := dk_182 1 81 (dk_at dksX8_sits_7 19 rfl rfl)
theorem dX8_sits_187 : decode cX8_sits 187 = .ok (.iload_n 2, 1) := dk_28 (dk_at dksX8_sits_7 22 rfl rfl)
theorem dX8_sits_188 : decode cX8_sits 188 = .ok (.ifCond .ne 4, 3) := dk_154 0 4 (dk_at dksX8_sits_8 0 rfl rfl)
theorem dX8_sits_191 : decode cX8_sits 191 = .ok (.return_, 1) := dk_177 (dk_at dksX8_sits_8 3 rfl rfl)
theorem dX8_sits_192 : decode cX8_sits 192 = .ok (.iinc 5 1, 3) := dk_132 5 1 (dk_at dksX8_sits_8 4 rfl rfl)
theorem dX8_sits_195 : decode cX8_sits 195 = .ok (.goto (-90), 3) := dk_167 255 166 (dk_at dksX8_sits_8 7 rfl rfl)
theorem dX8_sits_198 : decode cX8_sits 198 = .ok (.return_, 1) := dk_177 (dk_at dksX8_sits_8 10 rfl rfl)
abbrev cX8_pairs : ByteArray := prog_23_method_90_code
def yX8_pairs : MethodName := ⟨RX8, "pairs", "(Z)I"⟩
def dkwX8_pairs_5 : List UInt8 := [21, 5, 2, 130, 126, 61, 132, 4, 1, 167, 255, 181, 28, 29, 126, 172]
abbrev dktX8_pairs_5 : List UInt8 := dkwX8_pairs_5 ++ []
def dkwX8_pairs_4 : List UInt8 := [160, 0, 30, 4, 42, 28, 21, 5, 2, 130, 126, 182, 1, 88, 96, 42, 28, 182, 1, 88, 160, 0, 10, 28]
abbrev dktX8_pairs_4 : List UInt8 := dkwX8_pairs_4 ++ dktX8_pairs_5
def dkwX8_pairs_3 : List UInt8 := [120, 4, 42, 21, 4, 182, 0, 67, 120, 128, 54, 5, 29, 21, 5, 128, 62, 28, 21, 5, 126, 21, 5]
abbrev dktX8_pairs_3 : List UInt8 := dkwX8_pairs_3 ++ dktX8_pairs_4
def dkwX8_pairs_2 : List UInt8 := [3, 62, 3, 54, 4, 21, 4, 42, 180, 0, 7, 16, 6, 46, 162, 0, 69, 4, 42, 21, 4, 182, 0, 63]
abbrev dktX8_pairs_2 : List UInt8 := dkwX8_pairs_2 ++ dktX8_pairs_3
def dkwX8_pairs_1 : List UInt8 := [167, 255, 239, 4, 42, 180, 0, 7, 8, 46, 120, 4, 100, 61, 27, 154, 0, 9, 42, 28, 182, 1, 88, 172]
abbrev dktX8_pairs_1 : List UInt8 := dkwX8_pairs_1 ++ dktX8_pairs_2
def dkwX8_pairs_0 : List UInt8 := [42, 3, 181, 0, 56, 3, 61, 28, 17, 4, 0, 162, 0, 16, 42, 180, 0, 50, 28, 2, 79, 132, 2, 1]
abbrev dktX8_pairs_0 : List UInt8 := dkwX8_pairs_0 ++ dktX8_pairs_1
theorem dksX8_pairs_0 : cX8_pairs.data.toList.drop 0 = dktX8_pairs_0 := by decide +kernel
theorem dksX8_pairs_1 : cX8_pairs.data.toList.drop 24 = dktX8_pairs_1 := dk_seg dksX8_pairs_0 24 rfl rfl
theorem dksX8_pairs_2 : cX8_pairs.data.toList.drop 48 = dktX8_pairs_2 := dk_seg dksX8_pairs_1 24 rfl rfl
theorem dksX8_pairs_3 : cX8_pairs.data.toList.drop 72 = dktX8_pairs_3 := dk_seg dksX8_pairs_2 24 rfl rfl
theorem dksX8_pairs_4 : cX8_pairs.data.toList.drop 95 = dktX8_pairs_4 := dk_seg dksX8_pairs_3 23 rfl rfl
theorem dksX8_pairs_5 : cX8_pairs.data.toList.drop 119 = dktX8_pairs_5 := dk_seg dksX8_pairs_4 24 rfl rfl
theorem dX8_pairs_0 : decode cX8_pairs 0 = .ok (.aload_n 0, 1) := dk_42 (dk_at dksX8_pairs_0 0 rfl rfl)
theorem dX8_pairs_1 : decode cX8_pairs 1 = .ok (.iconst 0, 1) := dk_3 (dk_at dksX8_pairs_0 1 rfl rfl)
theorem dX8_pairs_2 : decode cX8_pairs 2 = .ok (.putfield 56, 3) := dk_181 0 56 (dk_at dksX8_pairs_0 2 rfl rfl)
theorem dX8_pairs_5 : decode cX8_pairs 5 = .ok (.iconst 0, 1) := dk_3 (dk_at dksX8_pairs_0 5 rfl rfl)
theorem dX8_pairs_6 : decode cX8_pairs 6 = .ok (.istore_n 2, 1) := dk_61 (dk_at dksX8_pairs_0 6 rfl rfl)
theorem dX8_pairs_7 : decode cX8_pairs 7 = .ok (.iload_n 2, 1) := dk_28 (dk_at dksX8_pairs_0 7 rfl rfl)
theorem dX8_pairs_8 : decode cX8_pairs 8 = .ok (.sipush 1024, 3) := dk_17 4 0 (dk_at dksX8_pairs_0 8 rfl rfl)
theorem dX8_pairs_11 : decode cX8_pairs 11 = .ok (.if_icmp .ge 16, 3) := dk_162 0 16 (dk_at dksX8_pairs_0 11 rfl rfl)
theorem dX8_pairs_14 : decode cX8_pairs 14 = .ok (.aload_n 0, 1) := dk_42 (dk_at dksX8_pairs_0 14 rfl rfl)
theorem dX8_pairs_15 : decode cX8_pairs 15 = .ok (.getfield 50, 3) := dk_180 0 50 (dk_at dksX8_pairs_0 15 rfl rfl)
theorem dX8_pairs_18 : decode cX8_pairs 18 = .ok (.iload_n 2, 1) := dk_28 (dk_at dksX8_pairs_0 18 rfl rfl)
theorem dX8_pairs_19 : decode cX8_pairs 19 = .ok (.iconst (-1), 1) := dk_2 (dk_at dksX8_pairs_0 19 rfl rfl)
theorem dX8_pairs_20 : decode cX8_pairs 20 = .ok (.iastore, 1) := dk_79 (dk_at dksX8_pairs_0 20 rfl rfl)
theorem dX8_pairs_21 : decode cX8_pairs 21 = .ok (.iinc 2 1, 3) := dk_132 2 1 (dk_at dksX8_pairs_0 21 rfl rfl)
theorem dX8_pairs_24 : decode cX8_pairs 24 = .ok (.goto (-17), 3) := dk_167 255 239 (dk_at dksX8_pairs_1 0 rfl rfl)
theorem dX8_pairs_27 : decode cX8_pairs 27 = .ok (.iconst 1, 1) := dk_4 (dk_at dksX8_pairs_1 3 rfl rfl)
theorem dX8_pairs_28 : decode cX8_pairs 28 = .ok (.aload_n 0, 1) := dk_42 (dk_at dksX8_pairs_1 4 rfl rfl)
theorem dX8_pairs_29 : decode cX8_pairs 29 = .ok (.getfield 7, 3) := dk_180 0 7 (dk_at dksX8_pairs_1 5 rfl rfl)
theorem dX8_pairs_32 : decode cX8_pairs 32 = .ok (.iconst 5, 1) := dk_8 (dk_at dksX8_pairs_1 8 rfl rfl)
theorem dX8_pairs_33 : decode cX8_pairs 33 = .ok (.iaload, 1) := dk_46 (dk_at dksX8_pairs_1 9 rfl rfl)
theorem dX8_pairs_34 : decode cX8_pairs 34 = .ok (.ishl, 1) := dk_120 (dk_at dksX8_pairs_1 10 rfl rfl)
theorem dX8_pairs_35 : decode cX8_pairs 35 = .ok (.iconst 1, 1) := dk_4 (dk_at dksX8_pairs_1 11 rfl rfl)
theorem dX8_pairs_36 : decode cX8_pairs 36 = .ok (.isub, 1) := dk_100 (dk_at dksX8_pairs_1 12 rfl rfl)
theorem dX8_pairs_37 : decode cX8_pairs 37 = .ok (.istore_n 2, 1) := dk_61 (dk_at dksX8_pairs_1 13 rfl rfl)
theorem dX8_pairs_38 : decode cX8_pairs 38 = .ok (.iload_n 1, 1) := dk_27 (dk_at dksX8_pairs_1 14 rfl rfl)
theorem dX8_pairs_39 : decode cX8_pairs 39 = .ok (.ifCond .ne 9, 3) := dk_154 0 9 (dk_at dksX8_pairs_1 15 rfl rfl)
theorem dX8_pairs_42 : decode cX8_pairs 42 = .ok (.aload_n 0, 1) := dk_42 (dk_at dksX8_pairs_1 18 rfl rfl)
theorem dX8_pairs_43 : decode cX8_pairs 43 = .ok (.iload_n 2, 1) := dk_28 (dk_at dksX8_pairs_1 19 rfl rfl)
theorem dX8_pairs_44 : decode cX8_pairs 44 = .ok (.invokevirtual 344, 3) := dk_182 1 88 (dk_at dksX8_pairs_1 20 rfl rfl)
theorem dX8_pairs_47 : decode cX8_pairs 47 = .ok (.ireturn, 1) := dk_172 (dk_at dksX8_pairs_1 23 rfl rfl)
theorem dX8_pairs_48 : decode cX8_pairs 48 = .ok (.iconst 0, 1) := dk_3 (dk_at dksX8_pairs_2 0 rfl rfl)
theorem dX8_pairs_49 : decode cX8_pairs 49 = .ok (.istore_n 3, 1) := dk_62 (dk_at dksX8_pairs_2 1 rfl rfl)
theorem dX8_pairs_50 : decode cX8_pairs 50 = .ok (.iconst 0, 1) := dk_3 (dk_at dksX8_pairs_2 2 rfl rfl)
theorem dX8_pairs_51 : decode cX8_pairs 51 = .ok (.istore 4, 2) := dk_54 4 (dk_at dksX8_pairs_2 3 rfl rfl)
theorem dX8_pairs_53 : decode cX8_pairs 53 = .ok (.iload 4, 2) := dk_21 4 (dk_at dksX8_pairs_2 5 rfl rfl)
theorem dX8_pairs_55 : decode cX8_pairs 55 = .ok (.aload_n 0, 1) := dk_42 (dk_at dksX8_pairs_2 7 rfl rfl)
theorem dX8_pairs_56 : decode cX8_pairs 56 = .ok (.getfield 7, 3) := dk_180 0 7 (dk_at dksX8_pairs_2 8 rfl rfl)
theorem dX8_pairs_59 : decode cX8_pairs 59 = .ok (.bipush 6, 2) := dk_16 6 (dk_at dksX8_pairs_2 11 rfl rfl)
theorem dX8_pairs_61 : decode cX8_pairs 61 = .ok (.iaload, 1) := dk_46 (dk_at dksX8_pairs_2 13 rfl rfl)
theorem dX8_pairs_62 : decode cX8_pairs 62 = .ok (.if_icmp .ge 69, 3) := dk_162 0 69 (dk_at dksX8_pairs_2 14 rfl rfl)
theorem dX8_pairs_65 : decode cX8_pairs 65 = .ok (.iconst 1, 1) := dk_4 (dk_at dksX8_pairs_2 17 rfl rfl)
theorem dX8_pairs_66 : decode cX8_pairs 66 = .ok (.aload_n 0, 1) := dk_42 (dk_at dksX8_pairs_2 18 rfl rfl)
theorem dX8_pairs_67 : decode cX8_pairs 67 = .ok (.iload 4, 2) := dk_21 4 (dk_at dksX8_pairs_2 19 rfl rfl)
theorem dX8_pairs_69 : decode cX8_pairs 69 = .ok (.invokevirtual 63, 3) := dk_182 0 63 (dk_at dksX8_pairs_2 21 rfl rfl)
theorem dX8_pairs_72 : decode cX8_pairs 72 = .ok (.ishl, 1) := dk_120 (dk_at dksX8_pairs_3 0 rfl rfl)
theorem dX8_pairs_73 : decode cX8_pairs 73 = .ok (.iconst 1, 1) := dk_4 (dk_at dksX8_pairs_3 1 rfl rfl)
theorem dX8_pairs_74 : decode cX8_pairs 74 = .ok (.aload_n 0, 1) := dk_42 (dk_at dksX8_pairs_3 2 rfl rfl)
theorem dX8_pairs_75 : decode cX8_pairs 75 = .ok (.iload 4, 2) := dk_21 4 (dk_at dksX8_pairs_3 3 rfl rfl)
theorem dX8_pairs_77 : decode cX8_pairs 77 = .ok (.invokevirtual 67, 3) := dk_182 0 67 (dk_at dksX8_pairs_3 5 rfl rfl)
theorem dX8_pairs_80 : decode cX8_pairs 80 = .ok (.ishl, 1) := dk_120 (dk_at dksX8_pairs_3 8 rfl rfl)
theorem dX8_pairs_81 : decode cX8_pairs 81 = .ok (.ior, 1) := dk_128 (dk_at dksX8_pairs_3 9 rfl rfl)
theorem dX8_pairs_82 : decode cX8_pairs 82 = .ok (.istore 5, 2) := dk_54 5 (dk_at dksX8_pairs_3 10 rfl rfl)
theorem dX8_pairs_84 : decode cX8_pairs 84 = .ok (.iload_n 3, 1) := dk_29 (dk_at dksX8_pairs_3 12 rfl rfl)
theorem dX8_pairs_85 : decode cX8_pairs 85 = .ok (.iload 5, 2) := dk_21 5 (dk_at dksX8_pairs_3 13 rfl rfl)
theorem dX8_pairs_87 : decode cX8_pairs 87 = .ok (.ior, 1) := dk_128 (dk_at dksX8_pairs_3 15 rfl rfl)
theorem dX8_pairs_88 : decode cX8_pairs 88 = .ok (.istore_n 3, 1) := dk_62 (dk_at dksX8_pairs_3 16 rfl rfl)
theorem dX8_pairs_89 : decode cX8_pairs 89 = .ok (.iload_n 2, 1) := dk_28 (dk_at dksX8_pairs_3 17 rfl rfl)
theorem dX8_pairs_90 : decode cX8_pairs 90 = .ok (.iload 5, 2) := dk_21 5 (dk_at dksX8_pairs_3 18 rfl rfl)
theorem dX8_pairs_92 : decode cX8_pairs 92 = .ok (.iand, 1) := dk_126 (dk_at dksX8_pairs_3 20 rfl rfl)
theorem dX8_pairs_93 : decode cX8_pairs 93 = .ok (.iload 5, 2) := dk_21 5 (dk_at dksX8_pairs_3 21 rfl rfl)
theorem dX8_pairs_95 : decode cX8_pairs 95 = .ok (.if_icmp .ne 30, 3) := dk_160 0 30 (dk_at dksX8_pairs_4 0 rfl rfl)
theorem dX8_pairs_98 : decode cX8_pairs 98 = .ok (.iconst 1, 1) := dk_4 (dk_at dksX8_pairs_4 3 rfl rfl)
theorem dX8_pairs_99 : decode cX8_pairs 99 = .ok (.aload_n 0, 1) := dk_42 (dk_at dksX8_pairs_4 4 rfl rfl)
theorem dX8_pairs_100 : decode cX8_pairs 100 = .ok (.iload_n 2, 1) := dk_28 (dk_at dksX8_pairs_4 5 rfl rfl)
theorem dX8_pairs_101 : decode cX8_pairs 101 = .ok (.iload 5, 2) := dk_21 5 (dk_at dksX8_pairs_4 6 rfl rfl)
theorem dX8_pairs_103 : decode cX8_pairs 103 = .ok (.iconst (-1), 1) := dk_2 (dk_at dksX8_pairs_4 8 rfl rfl)
theorem dX8_pairs_104 : decode cX8_pairs 104 = .ok (.ixor, 1) := dk_130 (dk_at dksX8_pairs_4 9 rfl rfl)
theorem dX8_pairs_105 : decode cX8_pairs 105 = .ok (.iand, 1) := dk_126 (dk_at dksX8_pairs_4 10 rfl rfl)
theorem dX8_pairs_106 : decode cX8_pairs 106 = .ok (.invokevirtual 344, 3) := dk_182 1 88 (dk_at dksX8_pairs_4 11 rfl rfl)
theorem dX8_pairs_109 : decode cX8_pairs 109 = .ok (.iadd, 1) := dk_96 (dk_at dksX8_pairs_4 14 rfl rfl)
theorem dX8_pairs_110 : decode cX8_pairs 110 = .ok (.aload_n 0, 1) := dk_42 (dk_at dksX8_pairs_4 15 rfl rfl)
theorem dX8_pairs_111 : decode cX8_pairs 111 = .ok (.iload_n 2, 1) := dk_28 (dk_at dksX8_pairs_4 16 rfl rfl)
theorem dX8_pairs_112 : decode cX8_pairs 112 = .ok (.invokevirtual 344, 3) := dk_182 1 88 (dk_at dksX8_pairs_4 17 rfl rfl)
theorem dX8_pairs_115 : decode cX8_pairs 115 = .ok (.if_icmp .ne 10, 3) := dk_160 0 10 (dk_at dksX8_pairs_4 20 rfl rfl)
theorem dX8_pairs_118 : decode cX8_pairs 118 = .ok (.iload_n 2, 1) := dk_28 (dk_at dksX8_pairs_4 23 rfl rfl)
theorem dX8_pairs_119 : decode cX8_pairs 119 = .ok (.iload 5, 2) := dk_21 5 (dk_at dksX8_pairs_5 0 rfl rfl)
theorem dX8_pairs_121 : decode cX8_pairs 121 = .ok (.iconst (-1), 1) := dk_2 (dk_at dksX8_pairs_5 2 rfl rfl)
theorem dX8_pairs_122 : decode cX8_pairs 122 = .ok (.ixor, 1) := dk_130 (dk_at dksX8_pairs_5 3 rfl rfl)
theorem dX8_pairs_123 : decode cX8_pairs 123 = .ok (.iand, 1) := dk_126 (dk_at dksX8_pairs_5 4 rfl rfl)
theorem dX8_pairs_124 : decode cX8_pairs 124 = .ok (.istore_n 2, 1) := dk_61 (dk_at dksX8_pairs_5 5 rfl rfl)
theorem dX8_pairs_125 : decode cX8_pairs 125 = .ok (.iinc 4 1, 3) := dk_132 4 1 (dk_at dksX8_pairs_5 6 rfl rfl)
theorem dX8_pairs_128 : decode cX8_pairs 128 = .ok (.goto (-75), 3) := dk_167 255 181 (dk_at dksX8_pairs_5 9 rfl rfl)
theorem dX8_pairs_131 : decode cX8_pairs 131 = .ok (.iload_n 2, 1) := dk_28 (dk_at dksX8_pairs_5 12 rfl rfl)
theorem dX8_pairs_132 : decode cX8_pairs 132 = .ok (.iload_n 3, 1) := dk_29 (dk_at dksX8_pairs_5 13 rfl rfl)
theorem dX8_pairs_133 : decode cX8_pairs 133 = .ok (.iand, 1) := dk_126 (dk_at dksX8_pairs_5 14 rfl rfl)
theorem dX8_pairs_134 : decode cX8_pairs 134 = .ok (.ireturn, 1) := dk_172 (dk_at dksX8_pairs_5 15 rfl rfl)
abbrev cX8_pairsOf : ByteArray := prog_23_method_89_code
def yX8_pairsOf : MethodName := ⟨RX8, "pairsOf", "(I)I"⟩
def dkwX8_pairsOf_5 : List UInt8 := [180, 0, 50, 27, 21, 4, 79, 21, 4, 172]
abbrev dktX8_pairsOf_5 : List UInt8 := dkwX8_pairsOf_5 ++ []
def dkwX8_pairsOf_4 : List UInt8 := [21, 5, 120, 2, 130, 126, 182, 1, 88, 96, 184, 1, 31, 54, 4, 132, 5, 1, 167, 255, 202, 42]
abbrev dktX8_pairsOf_4 : List UInt8 := dkwX8_pairsOf_4 ++ dktX8_pairsOf_5
def dkwX8_pairsOf_3 : List UInt8 := [21, 5, 184, 1, 49, 153, 0, 34, 42, 28, 21, 5, 182, 0, 148, 153, 0, 24, 21, 4, 4, 42, 29, 4]
abbrev dktX8_pairsOf_3 : List UInt8 := dkwX8_pairsOf_3 ++ dktX8_pairsOf_4
def dkwX8_pairsOf_2 : List UInt8 := [29, 182, 1, 88, 54, 4, 28, 4, 96, 54, 5, 21, 5, 42, 180, 0, 7, 8, 46, 162, 0, 49, 29]
abbrev dktX8_pairsOf_2 : List UInt8 := dkwX8_pairsOf_2 ++ dktX8_pairsOf_3
def dkwX8_pairsOf_1 : List UInt8 := [61, 27, 28, 184, 1, 49, 154, 0, 9, 132, 2, 1, 167, 255, 245, 27, 4, 28, 120, 2, 130, 126, 62, 42]
abbrev dktX8_pairsOf_1 : List UInt8 := dkwX8_pairsOf_1 ++ dktX8_pairsOf_2
def dkwX8_pairsOf_0 : List UInt8 := [27, 154, 0, 5, 3, 172, 42, 180, 0, 50, 27, 46, 2, 159, 0, 10, 42, 180, 0, 50, 27, 46, 172, 3]
abbrev dktX8_pairsOf_0 : List UInt8 := dkwX8_pairsOf_0 ++ dktX8_pairsOf_1
theorem dksX8_pairsOf_0 : cX8_pairsOf.data.toList.drop 0 = dktX8_pairsOf_0 := by decide +kernel
theorem dksX8_pairsOf_1 : cX8_pairsOf.data.toList.drop 24 = dktX8_pairsOf_1 := dk_seg dksX8_pairsOf_0 24 rfl rfl
theorem dksX8_pairsOf_2 : cX8_pairsOf.data.toList.drop 48 = dktX8_pairsOf_2 := dk_seg dksX8_pairsOf_1 24 rfl rfl
theorem dksX8_pairsOf_3 : cX8_pairsOf.data.toList.drop 71 = dktX8_pairsOf_3 := dk_seg dksX8_pairsOf_2 23 rfl rfl
theorem dksX8_pairsOf_4 : cX8_pairsOf.data.toList.drop 95 = dktX8_pairsOf_4 := dk_seg dksX8_pairsOf_3 24 rfl rfl
theorem dksX8_pairsOf_5 : cX8_pairsOf.data.toList.drop 117 = dktX8_pairsOf_5 := dk_seg dksX8_pairsOf_4 22 rfl rfl
theorem dX8_pairsOf_0 : decode cX8_pairsOf 0 = .ok (.iload_n 1, 1) := dk_27 (dk_at dksX8_pairsOf_0 0 rfl rfl)
theorem dX8_pairsOf_1 : decode cX8_pairsOf 1 = .ok (.ifCond .ne 5, 3) := dk_154 0 5 (dk_at dksX8_pairsOf_0 1 rfl rfl)
theorem dX8_pairsOf_4 : decode cX8_pairsOf 4 = .ok (.iconst 0, 1) := dk_3 (dk_at dksX8_pairsOf_0 4 rfl rfl)
theorem dX8_pairsOf_5 : decode cX8_pairsOf 5 = .ok (.ireturn, 1) := dk_172 (dk_at dksX8_pairsOf_0 5 rfl rfl)
theorem dX8_pairsOf_6 : decode cX8_pairsOf 6 = .ok (.aload_n 0, 1) := dk_42 (dk_at dksX8_pairsOf_0 6 rfl rfl)
theorem dX8_pairsOf_7 : decode cX8_pairsOf 7 = .ok (.getfield 50, 3) := dk_180 0 50 (dk_at dksX8_pairsOf_0 7 rfl rfl)
theorem dX8_pairsOf_10 : decode cX8_pairsOf 10 = .ok (.iload_n 1, 1) := dk_27 (dk_at dksX8_pairsOf_0 10 rfl rfl)
theorem dX8_pairsOf_11 : decode cX8_pairsOf 11 = .ok (.iaload, 1) := dk_46 (dk_at dksX8_pairsOf_0 11 rfl rfl)
theorem dX8_pairsOf_12 : decode cX8_pairsOf 12 = .ok (.iconst (-1), 1) := dk_2 (dk_at dksX8_pairsOf_0 12 rfl rfl)
theorem dX8_pairsOf_13 : decode cX8_pairsOf 13 = .ok (.if_icmp .eq 10, 3) := dk_159 0 10 (dk_at dksX8_pairsOf_0 13 rfl rfl)
theorem dX8_pairsOf_16 : decode cX8_pairsOf 16 = .ok (.aload_n 0, 1) := dk_42 (dk_at dksX8_pairsOf_0 16 rfl rfl)
theorem dX8_pairsOf_17 : decode cX8_pairsOf 17 = .ok (.getfield 50, 3) := dk_180 0 50 (dk_at dksX8_pairsOf_0 17 rfl rfl)
theorem dX8_pairsOf_20 : decode cX8_pairsOf 20 = .ok (.iload_n 1, 1) := dk_27 (dk_at dksX8_pairsOf_0 20 rfl rfl)
theorem dX8_pairsOf_21 : decode cX8_pairsOf 21 = .ok (.iaload, 1) := dk_46 (dk_at dksX8_pairsOf_0 21 rfl rfl)
theorem dX8_pairsOf_22 : decode cX8_pairsOf 22 = .ok (.ireturn, 1) := dk_172 (dk_at dksX8_pairsOf_0 22 rfl rfl)
theorem dX8_pairsOf_23 : decode cX8_pairsOf 23 = .ok (.iconst 0, 1) := dk_3 (dk_at dksX8_pairsOf_0 23 rfl rfl)
theorem dX8_pairsOf_24 : decode cX8_pairsOf 24 = .ok (.istore_n 2, 1) := dk_61 (dk_at dksX8_pairsOf_1 0 rfl rfl)
theorem dX8_pairsOf_25 : decode cX8_pairsOf 25 = .ok (.iload_n 1, 1) := dk_27 (dk_at dksX8_pairsOf_1 1 rfl rfl)
theorem dX8_pairsOf_26 : decode cX8_pairsOf 26 = .ok (.iload_n 2, 1) := dk_28 (dk_at dksX8_pairsOf_1 2 rfl rfl)
theorem dX8_pairsOf_27 : decode cX8_pairsOf 27 = .ok (.invokestatic 305, 3) := dk_184 1 49 (dk_at dksX8_pairsOf_1 3 rfl rfl)
theorem dX8_pairsOf_30 : decode cX8_pairsOf 30 = .ok (.ifCond .ne 9, 3) := dk_154 0 9 (dk_at dksX8_pairsOf_1 6 rfl rfl)
theorem dX8_pairsOf_33 : decode cX8_pairsOf 33 = .ok (.iinc 2 1, 3) := dk_132 2 1 (dk_at dksX8_pairsOf_1 9 rfl rfl)
theorem dX8_pairsOf_36 : decode cX8_pairsOf 36 = .ok (.goto (-11), 3) := dk_167 255 245 (dk_at dksX8_pairsOf_1 12 rfl rfl)
theorem dX8_pairsOf_39 : decode cX8_pairsOf 39 = .ok (.iload_n 1, 1) := dk_27 (dk_at dksX8_pairsOf_1 15 rfl rfl)
theorem dX8_pairsOf_40 : decode cX8_pairsOf 40 = .ok (.iconst 1, 1) := dk_4 (dk_at dksX8_pairsOf_1 16 rfl rfl)
theorem dX8_pairsOf_41 : decode cX8_pairsOf 41 = .ok (.iload_n 2, 1) := dk_28 (dk_at dksX8_pairsOf_1 17 rfl rfl)
theorem dX8_pairsOf_42 : decode cX8_pairsOf 42 = .ok (.ishl, 1) := dk_120 (dk_at dksX8_pairsOf_1 18 rfl rfl)
theorem dX8_pairsOf_43 : decode cX8_pairsOf 43 = .ok (.iconst (-1), 1) := dk_2 (dk_at dksX8_pairsOf_1 19 rfl rfl)
theorem dX8_pairsOf_44 : decode cX8_pairsOf 44 = .ok (.ixor, 1) := dk_130 (dk_at dksX8_pairsOf_1 20 rfl rfl)
theorem dX8_pairsOf_45 : decode cX8_pairsOf 45 = .ok (.iand, 1) := dk_126 (dk_at dksX8_pairsOf_1 21 rfl rfl)
theorem dX8_pairsOf_46 : decode cX8_pairsOf 46 = .ok (.istore_n 3, 1) := dk_62 (dk_at dksX8_pairsOf_1 22 rfl rfl)
theorem dX8_pairsOf_47 : decode cX8_pairsOf 47 = .ok (.aload_n 0, 1) := dk_42 (dk_at dksX8_pairsOf_1 23 rfl rfl)
theorem dX8_pairsOf_48 : decode cX8_pairsOf 48 = .ok (.iload_n 3, 1) := dk_29 (dk_at dksX8_pairsOf_2 0 rfl rfl)
theorem dX8_pairsOf_49 : decode cX8_pairsOf 49 = .ok (.invokevirtual 344, 3) := dk_182 1 88 (dk_at dksX8_pairsOf_2 1 rfl rfl)
theorem dX8_pairsOf_52 : decode cX8_pairsOf 52 = .ok (.istore 4, 2) := dk_54 4 (dk_at dksX8_pairsOf_2 4 rfl rfl)
theorem dX8_pairsOf_54 : decode cX8_pairsOf 54 = .ok (.iload_n 2, 1) := dk_28 (dk_at dksX8_pairsOf_2 6 rfl rfl)
theorem dX8_pairsOf_55 : decode cX8_pairsOf 55 = .ok (.iconst 1, 1) := dk_4 (dk_at dksX8_pairsOf_2 7 rfl rfl)
theorem dX8_pairsOf_56 : decode cX8_pairsOf 56 = .ok (.iadd, 1) := dk_96 (dk_at dksX8_pairsOf_2 8 rfl rfl)
theorem dX8_pairsOf_57 : decode cX8_pairsOf 57 = .ok (.istore 5, 2) := dk_54 5 (dk_at dksX8_pairsOf_2 9 rfl rfl)
theorem dX8_pairsOf_59 : decode cX8_pairsOf 59 = .ok (.iload 5, 2) := dk_21 5 (dk_at dksX8_pairsOf_2 11 rfl rfl)
theorem dX8_pairsOf_61 : decode cX8_pairsOf 61 = .ok (.aload_n 0, 1) := dk_42 (dk_at dksX8_pairsOf_2 13 rfl rfl)
theorem dX8_pairsOf_62 : decode cX8_pairsOf 62 = .ok (.getfield 7, 3) := dk_180 0 7 (dk_at dksX8_pairsOf_2 14 rfl rfl)
theorem dX8_pairsOf_65 : decode cX8_pairsOf 65 = .ok (.iconst 5, 1) := dk_8 (dk_at dksX8_pairsOf_2 17 rfl rfl)
theorem dX8_pairsOf_66 : decode cX8_pairsOf 66 = .ok (.iaload, 1) := dk_46 (dk_at dksX8_pairsOf_2 18 rfl rfl)
theorem dX8_pairsOf_67 : decode cX8_pairsOf 67 = .ok (.if_icmp .ge 49, 3) := dk_162 0 49 (dk_at dksX8_pairsOf_2 19 rfl rfl)
theorem dX8_pairsOf_70 : decode cX8_pairsOf 70 = .ok (.iload_n 3, 1) := dk_29 (dk_at dksX8_pairsOf_2 22 rfl rfl)
theorem dX8_pairsOf_71 : decode cX8_pairsOf 71 = .ok (.iload 5, 2) := dk_21 5 (dk_at dksX8_pairsOf_3 0 rfl rfl)
theorem dX8_pairsOf_73 : decode cX8_pairsOf 73 = .ok (.invokestatic 305, 3) := dk_184 1 49 (dk_at dksX8_pairsOf_3 2 rfl rfl)
theorem dX8_pairsOf_76 : decode cX8_pairsOf 76 = .ok (.ifCond .eq 34, 3) := dk_153 0 34 (dk_at dksX8_pairsOf_3 5 rfl rfl)
theorem dX8_pairsOf_79 : decode cX8_pairsOf 79 = .ok (.aload_n 0, 1) := dk_42 (dk_at dksX8_pairsOf_3 8 rfl rfl)
theorem dX8_pairsOf_80 : decode cX8_pairsOf 80 = .ok (.iload_n 2, 1) := dk_28 (dk_at dksX8_pairsOf_3 9 rfl rfl)
theorem dX8_pairsOf_81 : decode cX8_pairsOf 81 = .ok (.iload 5, 2) := dk_21 5 (dk_at dksX8_pairsOf_3 10 rfl rfl)
theorem dX8_pairsOf_83 : decode cX8_pairsOf 83 = .ok (.invokevirtual 148, 3) := dk_182 0 148 (dk_at dksX8_pairsOf_3 12 rfl rfl)
theorem dX8_pairsOf_86 : decode cX8_pairsOf 86 = .ok (.ifCond .eq 24, 3) := dk_153 0 24 (dk_at dksX8_pairsOf_3 15 rfl rfl)
theorem dX8_pairsOf_89 : decode cX8_pairsOf 89 = .ok (.iload 4, 2) := dk_21 4 (dk_at dksX8_pairsOf_3 18 rfl rfl)
theorem dX8_pairsOf_91 : decode cX8_pairsOf 91 = .ok (.iconst 1, 1) := dk_4 (dk_at dksX8_pairsOf_3 20 rfl rfl)
theorem dX8_pairsOf_92 : decode cX8_pairsOf 92 = .ok (.aload_n 0, 1) := dk_42 (dk_at dksX8_pairsOf_3 21 rfl rfl)
theorem dX8_pairsOf_93 : decode cX8_pairsOf 93 = .ok (.iload_n 3, 1) := dk_29 (dk_at dksX8_pairsOf_3 22 rfl rfl)
theorem dX8_pairsOf_94 : decode cX8_pairsOf 94 = .ok (.iconst 1, 1) := dk_4 (dk_at dksX8_pairsOf_3 23 rfl rfl)
theorem dX8_pairsOf_95 : decode cX8_pairsOf 95 = .ok (.iload 5, 2) := dk_21 5 (dk_at dksX8_pairsOf_4 0 rfl rfl)
theorem dX8_pairsOf_97 : decode cX8_pairsOf 97 = .ok (.ishl, 1) := dk_120 (dk_at dksX8_pairsOf_4 2 rfl rfl)
theorem dX8_pairsOf_98 : decode cX8_pairsOf 98 = .ok (.iconst (-1), 1) := dk_2 (dk_at dksX8_pairsOf_4 3 rfl rfl)
theorem dX8_pairsOf_99 : decode cX8_pairsOf 99 = .ok (.ixor, 1) := dk_130 (dk_at dksX8_pairsOf_4 4 rfl rfl)
theorem dX8_pairsOf_100 : decode cX8_pairsOf 100 = .ok (.iand, 1) := dk_126 (dk_at dksX8_pairsOf_4 5 rfl rfl)
theorem dX8_pairsOf_101 : decode cX8_pairsOf 101 = .ok (.invokevirtual 344, 3) := dk_182 1 88 (dk_at dksX8_pairsOf_4 6 rfl rfl)
theorem dX8_pairsOf_104 : decode cX8_pairsOf 104 = .ok (.iadd, 1) := dk_96 (dk_at dksX8_pairsOf_4 9 rfl rfl)
theorem dX8_pairsOf_105 : decode cX8_pairsOf 105 = .ok (.invokestatic 287, 3) := dk_184 1 31 (dk_at dksX8_pairsOf_4 10 rfl rfl)
theorem dX8_pairsOf_108 : decode cX8_pairsOf 108 = .ok (.istore 4, 2) := dk_54 4 (dk_at dksX8_pairsOf_4 13 rfl rfl)
theorem dX8_pairsOf_110 : decode cX8_pairsOf 110 = .ok (.iinc 5 1, 3) := dk_132 5 1 (dk_at dksX8_pairsOf_4 15 rfl rfl)
theorem dX8_pairsOf_113 : decode cX8_pairsOf 113 = .ok (.goto (-54), 3) := dk_167 255 202 (dk_at dksX8_pairsOf_4 18 rfl rfl)
theorem dX8_pairsOf_116 : decode cX8_pairsOf 116 = .ok (.aload_n 0, 1) := dk_42 (dk_at dksX8_pairsOf_4 21 rfl rfl)
theorem dX8_pairsOf_117 : decode cX8_pairsOf 117 = .ok (.getfield 50, 3) := dk_180 0 50 (dk_at dksX8_pairsOf_5 0 rfl rfl)
theorem dX8_pairsOf_120 : decode cX8_pairsOf 120 = .ok (.iload_n 1, 1) := dk_27 (dk_at dksX8_pairsOf_5 3 rfl rfl)
theorem dX8_pairsOf_121 : decode cX8_pairsOf 121 = .ok (.iload 4, 2) := dk_21 4 (dk_at dksX8_pairsOf_5 4 rfl rfl)
theorem dX8_pairsOf_123 : decode cX8_pairsOf 123 = .ok (.iastore, 1) := dk_79 (dk_at dksX8_pairsOf_5 6 rfl rfl)
theorem dX8_pairsOf_124 : decode cX8_pairsOf 124 = .ok (.iload 4, 2) := dk_21 4 (dk_at dksX8_pairsOf_5 7 rfl rfl)
theorem dX8_pairsOf_126 : decode cX8_pairsOf 126 = .ok (.ireturn, 1) := dk_172 (dk_at dksX8_pairsOf_5 9 rfl rfl)
abbrev cX8_begins_2 : ByteArray := prog_23_method_93_code
def yX8_begins_2 : MethodName := ⟨RX8, "begins", "(I)I"⟩
def dkwX8_begins_2_3 : List UInt8 := [28, 172]
abbrev dktX8_begins_2_3 : List UInt8 := dkwX8_begins_2_3 ++ []
def dkwX8_begins_2_2 : List UInt8 := [162, 0, 24, 42, 29, 182, 1, 95, 42, 28, 182, 1, 95, 162, 0, 5, 29, 61, 132, 3, 1, 167, 255, 233]
abbrev dktX8_begins_2_2 : List UInt8 := dkwX8_begins_2_2 ++ dktX8_begins_2_3
def dkwX8_begins_2_1 : List UInt8 := [158, 0, 5, 3, 172, 27, 2, 159, 0, 9, 42, 27, 182, 1, 95, 172, 3, 61, 4, 62, 29, 6]
abbrev dktX8_begins_2_1 : List UInt8 := dkwX8_begins_2_1 ++ dktX8_begins_2_2
def dkwX8_begins_2_0 : List UInt8 := [42, 27, 2, 5, 184, 0, 59, 154, 0, 7, 4, 167, 0, 4, 3, 181, 0, 56, 42, 180, 0, 56]
abbrev dktX8_begins_2_0 : List UInt8 := dkwX8_begins_2_0 ++ dktX8_begins_2_1
theorem dksX8_begins_2_0 : cX8_begins_2.data.toList.drop 0 = dktX8_begins_2_0 := by decide +kernel
theorem dksX8_begins_2_1 : cX8_begins_2.data.toList.drop 22 = dktX8_begins_2_1 := dk_seg dksX8_begins_2_0 22 rfl rfl
theorem dksX8_begins_2_2 : cX8_begins_2.data.toList.drop 44 = dktX8_begins_2_2 := dk_seg dksX8_begins_2_1 22 rfl rfl
theorem dksX8_begins_2_3 : cX8_begins_2.data.toList.drop 68 = dktX8_begins_2_3 := dk_seg dksX8_begins_2_2 24 rfl rfl
theorem dX8_begins_2_0 : decode cX8_begins_2 0 = .ok (.aload_n 0, 1) := dk_42 (dk_at dksX8_begins_2_0 0 rfl rfl)
theorem dX8_begins_2_1 : decode cX8_begins_2 1 = .ok (.iload_n 1, 1) := dk_27 (dk_at dksX8_begins_2_0 1 rfl rfl)
theorem dX8_begins_2_2 : decode cX8_begins_2 2 = .ok (.iconst (-1), 1) := dk_2 (dk_at dksX8_begins_2_0 2 rfl rfl)
theorem dX8_begins_2_3 : decode cX8_begins_2 3 = .ok (.iconst 2, 1) := dk_5 (dk_at dksX8_begins_2_0 3 rfl rfl)
theorem dX8_begins_2_4 : decode cX8_begins_2 4 = .ok (.invokestatic 59, 3) := dk_184 0 59 (dk_at dksX8_begins_2_0 4 rfl rfl)
theorem dX8_begins_2_7 : decode cX8_begins_2 7 = .ok (.ifCond .ne 7, 3) := dk_154 0 7 (dk_at dksX8_begins_2_0 7 rfl rfl)
theorem dX8_begins_2_10 : decode cX8_begins_2 10 = .ok (.iconst 1, 1) := dk_4 (dk_at dksX8_begins_2_0 10 rfl rfl)
theorem dX8_begins_2_11 : decode cX8_begins_2 11 = .ok (.goto 4, 3) := dk_167 0 4 (dk_at dksX8_begins_2_0 11 rfl rfl)
theorem dX8_begins_2_14 : decode cX8_begins_2 14 = .ok (.iconst 0, 1) := dk_3 (dk_at dksX8_begins_2_0 14 rfl rfl)
theorem dX8_begins_2_15 : decode cX8_begins_2 15 = .ok (.putfield 56, 3) := dk_181 0 56 (dk_at dksX8_begins_2_0 15 rfl rfl)
theorem dX8_begins_2_18 : decode cX8_begins_2 18 = .ok (.aload_n 0, 1) := dk_42 (dk_at dksX8_begins_2_0 18 rfl rfl)
theorem dX8_begins_2_19 : decode cX8_begins_2 19 = .ok (.getfield 56, 3) := dk_180 0 56 (dk_at dksX8_begins_2_0 19 rfl rfl)
theorem dX8_begins_2_22 : decode cX8_begins_2 22 = .ok (.ifCond .le 5, 3) := dk_158 0 5 (dk_at dksX8_begins_2_1 0 rfl rfl)
theorem dX8_begins_2_25 : decode cX8_begins_2 25 = .ok (.iconst 0, 1) := dk_3 (dk_at dksX8_begins_2_1 3 rfl rfl)
theorem dX8_begins_2_26 : decode cX8_begins_2 26 = .ok (.ireturn, 1) := dk_172 (dk_at dksX8_begins_2_1 4 rfl rfl)
theorem dX8_begins_2_27 : decode cX8_begins_2 27 = .ok (.iload_n 1, 1) := dk_27 (dk_at dksX8_begins_2_1 5 rfl rfl)
theorem dX8_begins_2_28 : decode cX8_begins_2 28 = .ok (.iconst (-1), 1) := dk_2 (dk_at dksX8_begins_2_1 6 rfl rfl)
theorem dX8_begins_2_29 : decode cX8_begins_2 29 = .ok (.if_icmp .eq 9, 3) := dk_159 0 9 (dk_at dksX8_begins_2_1 7 rfl rfl)
theorem dX8_begins_2_32 : decode cX8_begins_2 32 = .ok (.aload_n 0, 1) := dk_42 (dk_at dksX8_begins_2_1 10 rfl rfl)
theorem dX8_begins_2_33 : decode cX8_begins_2 33 = .ok (.iload_n 1, 1) := dk_27 (dk_at dksX8_begins_2_1 11 rfl rfl)
theorem dX8_begins_2_34 : decode cX8_begins_2 34 = .ok (.invokevirtual 351, 3) := dk_182 1 95 (dk_at dksX8_begins_2_1 12 rfl rfl)
theorem dX8_begins_2_37 : decode cX8_begins_2 37 = .ok (.ireturn, 1) := dk_172 (dk_at dksX8_begins_2_1 15 rfl rfl)
theorem dX8_begins_2_38 : decode cX8_begins_2 38 = .ok (.iconst 0, 1) := dk_3 (dk_at dksX8_begins_2_1 16 rfl rfl)
theorem dX8_begins_2_39 : decode cX8_begins_2 39 = .ok (.istore_n 2, 1) := dk_61 (dk_at dksX8_begins_2_1 17 rfl rfl)
theorem dX8_begins_2_40 : decode cX8_begins_2 40 = .ok (.iconst 1, 1) := dk_4 (dk_at dksX8_begins_2_1 18 rfl rfl)
theorem dX8_begins_2_41 : decode cX8_begins_2 41 = .ok (.istore_n 3, 1) := dk_62 (dk_at dksX8_begins_2_1 19 rfl rfl)
theorem dX8_begins_2_42 : decode cX8_begins_2 42 = .ok (.iload_n 3, 1) := dk_29 (dk_at dksX8_begins_2_1 20 rfl rfl)
theorem dX8_begins_2_43 : decode cX8_begins_2 43 = .ok (.iconst 3, 1) := dk_6 (dk_at dksX8_begins_2_1 21 rfl rfl)
theorem dX8_begins_2_44 : decode cX8_begins_2 44 = .ok (.if_icmp .ge 24, 3) := dk_162 0 24 (dk_at dksX8_begins_2_2 0 rfl rfl)
theorem dX8_begins_2_47 : decode cX8_begins_2 47 = .ok (.aload_n 0, 1) := dk_42 (dk_at dksX8_begins_2_2 3 rfl rfl)
theorem dX8_begins_2_48 : decode cX8_begins_2 48 = .ok (.iload_n 3, 1) := dk_29 (dk_at dksX8_begins_2_2 4 rfl rfl)
theorem dX8_begins_2_49 : decode cX8_begins_2 49 = .ok (.invokevirtual 351, 3) := dk_182 1 95 (dk_at dksX8_begins_2_2 5 rfl rfl)
theorem dX8_begins_2_52 : decode cX8_begins_2 52 = .ok (.aload_n 0, 1) := dk_42 (dk_at dksX8_begins_2_2 8 rfl rfl)
theorem dX8_begins_2_53 : decode cX8_begins_2 53 = .ok (.iload_n 2, 1) := dk_28 (dk_at dksX8_begins_2_2 9 rfl rfl)
theorem dX8_begins_2_54 : decode cX8_begins_2 54 = .ok (.invokevirtual 351, 3) := dk_182 1 95 (dk_at dksX8_begins_2_2 10 rfl rfl)
theorem dX8_begins_2_57 : decode cX8_begins_2 57 = .ok (.if_icmp .ge 5, 3) := dk_162 0 5 (dk_at dksX8_begins_2_2 13 rfl rfl)
theorem dX8_begins_2_60 : decode cX8_begins_2 60 = .ok (.iload_n 3, 1) := dk_29 (dk_at dksX8_begins_2_2 16 rfl rfl)
theorem dX8_begins_2_61 : decode cX8_begins_2 61 = .ok (.istore_n 2, 1) := dk_61 (dk_at dksX8_begins_2_2 17 rfl rfl)
theorem dX8_begins_2_62 : decode cX8_begins_2 62 = .ok (.iinc 3 1, 3) := dk_132 3 1 (dk_at dksX8_begins_2_2 18 rfl rfl)
theorem dX8_begins_2_65 : decode cX8_begins_2 65 = .ok (.goto (-23), 3) := dk_167 255 233 (dk_at dksX8_begins_2_2 21 rfl rfl)
theorem dX8_begins_2_68 : decode cX8_begins_2 68 = .ok (.iload_n 2, 1) := dk_28 (dk_at dksX8_begins_2_3 0 rfl rfl)
theorem dX8_begins_2_69 : decode cX8_begins_2 69 = .ok (.ireturn, 1) := dk_172 (dk_at dksX8_begins_2_3 1 rfl rfl)
abbrev cX8_byRule : ByteArray := prog_23_method_92_code
def yX8_byRule : MethodName := ⟨RX8, "byRule", "(I)I"⟩
def dkwX8_byRule_3 : List UInt8 := [16, 100, 42, 21, 5, 6, 182, 1, 1, 100, 104, 96, 61, 132, 3, 1, 167, 255, 175, 28, 172]
abbrev dktX8_byRule_3 : List UInt8 := dkwX8_byRule_3 ++ []
def dkwX8_byRule_2 : List UInt8 := [54, 5, 28, 42, 42, 21, 4, 21, 5, 182, 1, 24, 42, 21, 5, 21, 4, 182, 1, 24, 182, 1, 7]
abbrev dktX8_byRule_2 : List UInt8 := dkwX8_byRule_2 ++ dktX8_byRule_3
def dkwX8_byRule_1 : List UInt8 := [182, 0, 67, 27, 182, 1, 91, 54, 4, 42, 29, 182, 0, 63, 42, 29, 182, 0, 67, 96, 21, 4, 100]
abbrev dktX8_byRule_1 : List UInt8 := dkwX8_byRule_1 ++ dktX8_byRule_2
def dkwX8_byRule_0 : List UInt8 := [3, 61, 3, 62, 29, 42, 180, 0, 7, 16, 6, 46, 162, 0, 76, 42, 42, 29, 182, 0, 63, 42, 29]
abbrev dktX8_byRule_0 : List UInt8 := dkwX8_byRule_0 ++ dktX8_byRule_1
theorem dksX8_byRule_0 : cX8_byRule.data.toList.drop 0 = dktX8_byRule_0 := by decide +kernel
theorem dksX8_byRule_1 : cX8_byRule.data.toList.drop 23 = dktX8_byRule_1 := dk_seg dksX8_byRule_0 23 rfl rfl
theorem dksX8_byRule_2 : cX8_byRule.data.toList.drop 46 = dktX8_byRule_2 := dk_seg dksX8_byRule_1 23 rfl rfl
theorem dksX8_byRule_3 : cX8_byRule.data.toList.drop 69 = dktX8_byRule_3 := dk_seg dksX8_byRule_2 23 rfl rfl
theorem dX8_byRule_0 : decode cX8_byRule 0 = .ok (.iconst 0, 1) := dk_3 (dk_at dksX8_byRule_0 0 rfl rfl)
theorem dX8_byRule_1 : decode cX8_byRule 1 = .ok (.istore_n 2, 1) := dk_61 (dk_at dksX8_byRule_0 1 rfl rfl)
theorem dX8_byRule_2 : decode cX8_byRule 2 = .ok (.iconst 0, 1) := dk_3 (dk_at dksX8_byRule_0 2 rfl rfl)
theorem dX8_byRule_3 : decode cX8_byRule 3 = .ok (.istore_n 3, 1) := dk_62 (dk_at dksX8_byRule_0 3 rfl rfl)
theorem dX8_byRule_4 : decode cX8_byRule 4 = .ok (.iload_n 3, 1) := dk_29 (dk_at dksX8_byRule_0 4 rfl rfl)
theorem dX8_byRule_5 : decode cX8_byRule 5 = .ok (.aload_n 0, 1) := dk_42 (dk_at dksX8_byRule_0 5 rfl rfl)
theorem dX8_byRule_6 : decode cX8_byRule 6 = .ok (.getfield 7, 3) := dk_180 0 7 (dk_at dksX8_byRule_0 6 rfl rfl)
theorem dX8_byRule_9 : decode cX8_byRule 9 = .ok (.bipush 6, 2) := dk_16 6 (dk_at dksX8_byRule_0 9 rfl rfl)
theorem dX8_byRule_11 : decode cX8_byRule 11 = .ok (.iaload, 1) := dk_46 (dk_at dksX8_byRule_0 11 rfl rfl)
theorem dX8_byRule_12 : decode cX8_byRule 12 = .ok (.if_icmp .ge 76, 3) := dk_162 0 76 (dk_at dksX8_byRule_0 12 rfl rfl)
theorem dX8_byRule_15 : decode cX8_byRule 15 = .ok (.aload_n 0, 1) := dk_42 (dk_at dksX8_byRule_0 15 rfl rfl)
theorem dX8_byRule_16 : decode cX8_byRule 16 = .ok (.aload_n 0, 1) := dk_42 (dk_at dksX8_byRule_0 16 rfl rfl)
theorem dX8_byRule_17 : decode cX8_byRule 17 = .ok (.iload_n 3, 1) := dk_29 (dk_at dksX8_byRule_0 17 rfl rfl)
theorem dX8_byRule_18 : decode cX8_byRule 18 = .ok (.invokevirtual 63, 3) := dk_182 0 63 (dk_at dksX8_byRule_0 18 rfl rfl)
theorem dX8_byRule_21 : decode cX8_byRule 21 = .ok (.aload_n 0, 1) := dk_42 (dk_at dksX8_byRule_0 21 rfl rfl)
theorem dX8_byRule_22 : decode cX8_byRule 22 = .ok (.iload_n 3, 1) := dk_29 (dk_at dksX8_byRule_0 22 rfl rfl)
theorem dX8_byRule_23 : decode cX8_byRule 23 = .ok (.invokevirtual 67, 3) := dk_182 0 67 (dk_at dksX8_byRule_1 0 rfl rfl)
theorem dX8_byRule_26 : decode cX8_byRule 26 = .ok (.iload_n 1, 1) := dk_27 (dk_at dksX8_byRule_1 3 rfl rfl)
theorem dX8_byRule_27 : decode cX8_byRule 27 = .ok (.invokevirtual 347, 3) := dk_182 1 91 (dk_at dksX8_byRule_1 4 rfl rfl)
theorem dX8_byRule_30 : decode cX8_byRule 30 = .ok (.istore 4, 2) := dk_54 4 (dk_at dksX8_byRule_1 7 rfl rfl)
theorem dX8_byRule_32 : decode cX8_byRule 32 = .ok (.aload_n 0, 1) := dk_42 (dk_at dksX8_byRule_1 9 rfl rfl)
theorem dX8_byRule_33 : decode cX8_byRule 33 = .ok (.iload_n 3, 1) := dk_29 (dk_at dksX8_byRule_1 10 rfl rfl)
theorem dX8_byRule_34 : decode cX8_byRule 34 = .ok (.invokevirtual 63, 3) := dk_182 0 63 (dk_at dksX8_byRule_1 11 rfl rfl)
theorem dX8_byRule_37 : decode cX8_byRule 37 = .ok (.aload_n 0, 1) := dk_42 (dk_at dksX8_byRule_1 14 rfl rfl)
theorem dX8_byRule_38 : decode cX8_byRule 38 = .ok (.iload_n 3, 1) := dk_29 (dk_at dksX8_byRule_1 15 rfl rfl)
theorem dX8_byRule_39 : decode cX8_byRule 39 = .ok (.invokevirtual 67, 3) := dk_182 0 67 (dk_at dksX8_byRule_1 16 rfl rfl)
theorem dX8_byRule_42 : decode cX8_byRule 42 = .ok (.iadd, 1) := dk_96 (dk_at dksX8_byRule_1 19 rfl rfl)
theorem dX8_byRule_43 : decode cX8_byRule 43 = .ok (.iload 4, 2) := dk_21 4 (dk_at dksX8_byRule_1 20 rfl rfl)
theorem dX8_byRule_45 : decode cX8_byRule 45 = .ok (.isub, 1) := dk_100 (dk_at dksX8_byRule_1 22 rfl rfl)
theorem dX8_byRule_46 : decode cX8_byRule 46 = .ok (.istore 5, 2) := dk_54 5 (dk_at dksX8_byRule_2 0 rfl rfl)
theorem dX8_byRule_48 : decode cX8_byRule 48 = .ok (.iload_n 2, 1) := dk_28 (dk_at dksX8_byRule_2 2 rfl rfl)
theorem dX8_byRule_49 : decode cX8_byRule 49 = .ok (.aload_n 0, 1) := dk_42 (dk_at dksX8_byRule_2 3 rfl rfl)
theorem dX8_byRule_50 : decode cX8_byRule 50 = .ok (.aload_n 0, 1) := dk_42 (dk_at dksX8_byRule_2 4 rfl rfl)
theorem dX8_byRule_51 : decode cX8_byRule 51 = .ok (.iload 4, 2) := dk_21 4 (dk_at dksX8_byRule_2 5 rfl rfl)
theorem dX8_byRule_53 : decode cX8_byRule 53 = .ok (.iload 5, 2) := dk_21 5 (dk_at dksX8_byRule_2 7 rfl rfl)
theorem dX8_byRule_55 : decode cX8_byRule 55 = .ok (.invokevirtual 280, 3) := dk_182 1 24 (dk_at dksX8_byRule_2 9 rfl rfl)
theorem dX8_byRule_58 : decode cX8_byRule 58 = .ok (.aload_n 0, 1) := dk_42 (dk_at dksX8_byRule_2 12 rfl rfl)
theorem dX8_byRule_59 : decode cX8_byRule 59 = .ok (.iload 5, 2) := dk_21 5 (dk_at dksX8_byRule_2 13 rfl rfl)
theorem dX8_byRule_61 : decode cX8_byRule 61 = .ok (.iload 4, 2) := dk_21 4 (dk_at dksX8_byRule_2 15 rfl rfl)
theorem dX8_byRule_63 : decode cX8_byRule 63 = .ok (.invokevirtual 280, 3) := dk_182 1 24 (dk_at dksX8_byRule_2 17 rfl rfl)
theorem dX8_byRule_66 : decode cX8_byRule 66 = .ok (.invokevirtual 263, 3) := dk_182 1 7 (dk_at dksX8_byRule_2 20 rfl rfl)
theorem dX8_byRule_69 : decode cX8_byRule 69 = .ok (.bipush 100, 2) := dk_16 100 (dk_at dksX8_byRule_3 0 rfl rfl)
theorem dX8_byRule_71 : decode cX8_byRule 71 = .ok (.aload_n 0, 1) := dk_42 (dk_at dksX8_byRule_3 2 rfl rfl)
theorem dX8_byRule_72 : decode cX8_byRule 72 = .ok (.iload 5, 2) := dk_21 5 (dk_at dksX8_byRule_3 3 rfl rfl)
theorem dX8_byRule_74 : decode cX8_byRule 74 = .ok (.iconst 3, 1) := dk_6 (dk_at dksX8_byRule_3 5 rfl rfl)
theorem dX8_byRule_75 : decode cX8_byRule 75 = .ok (.invokevirtual 257, 3) := dk_182 1 1 (dk_at dksX8_byRule_3 6 rfl rfl)
theorem dX8_byRule_78 : decode cX8_byRule 78 = .ok (.isub, 1) := dk_100 (dk_at dksX8_byRule_3 9 rfl rfl)
theorem dX8_byRule_79 : decode cX8_byRule 79 = .ok (.imul, 1) := dk_104 (dk_at dksX8_byRule_3 10 rfl rfl)
theorem dX8_byRule_80 : decode cX8_byRule 80 = .ok (.iadd, 1) := dk_96 (dk_at dksX8_byRule_3 11 rfl rfl)
theorem dX8_byRule_81 : decode cX8_byRule 81 = .ok (.istore_n 2, 1) := dk_61 (dk_at dksX8_byRule_3 12 rfl rfl)
theorem dX8_byRule_82 : decode cX8_byRule 82 = .ok (.iinc 3 1, 3) := dk_132 3 1 (dk_at dksX8_byRule_3 13 rfl rfl)
theorem dX8_byRule_85 : decode cX8_byRule 85 = .ok (.goto (-81), 3) := dk_167 255 175 (dk_at dksX8_byRule_3 16 rfl rfl)
theorem dX8_byRule_88 : decode cX8_byRule 88 = .ok (.iload_n 2, 1) := dk_28 (dk_at dksX8_byRule_3 19 rfl rfl)
theorem dX8_byRule_89 : decode cX8_byRule 89 = .ok (.ireturn, 1) := dk_172 (dk_at dksX8_byRule_3 20 rfl rfl)
abbrev cX8_beginner : ByteArray := prog_23_method_91_code
def yX8_beginner : MethodName := ⟨RX8, "beginner", "(III)I"⟩
def dkwX8_beginner_3 : List UInt8 := [167, 0, 5, 21, 4, 172]
abbrev dktX8_beginner_3 : List UInt8 := dkwX8_beginner_3 ++ []
def dkwX8_beginner_2 : List UInt8 := [160, 0, 25, 42, 21, 5, 5, 182, 1, 1, 42, 21, 4, 5, 182, 1, 1, 162, 0, 8, 21, 5]
abbrev dktX8_beginner_2 : List UInt8 := dkwX8_beginner_2 ++ dktX8_beginner_3
def dkwX8_beginner_1 : List UInt8 := [182, 1, 1, 42, 21, 4, 5, 182, 1, 1, 164, 0, 8, 21, 5, 167, 0, 5, 21, 4, 172, 29, 4]
abbrev dktX8_beginner_1 : List UInt8 := dkwX8_beginner_1 ++ dktX8_beginner_2
def dkwX8_beginner_0 : List UInt8 := [27, 28, 184, 1, 28, 54, 4, 27, 28, 184, 1, 31, 54, 5, 29, 154, 0, 28, 42, 21, 5, 5]
abbrev dktX8_beginner_0 : List UInt8 := dkwX8_beginner_0 ++ dktX8_beginner_1
theorem dksX8_beginner_0 : cX8_beginner.data.toList.drop 0 = dktX8_beginner_0 := by decide +kernel
theorem dksX8_beginner_1 : cX8_beginner.data.toList.drop 22 = dktX8_beginner_1 := dk_seg dksX8_beginner_0 22 rfl rfl
theorem dksX8_beginner_2 : cX8_beginner.data.toList.drop 45 = dktX8_beginner_2 := dk_seg dksX8_beginner_1 23 rfl rfl
theorem dksX8_beginner_3 : cX8_beginner.data.toList.drop 67 = dktX8_beginner_3 := dk_seg dksX8_beginner_2 22 rfl rfl
theorem dX8_beginner_0 : decode cX8_beginner 0 = .ok (.iload_n 1, 1) := dk_27 (dk_at dksX8_beginner_0 0 rfl rfl)
theorem dX8_beginner_1 : decode cX8_beginner 1 = .ok (.iload_n 2, 1) := dk_28 (dk_at dksX8_beginner_0 1 rfl rfl)
theorem dX8_beginner_2 : decode cX8_beginner 2 = .ok (.invokestatic 284, 3) := dk_184 1 28 (dk_at dksX8_beginner_0 2 rfl rfl)
theorem dX8_beginner_5 : decode cX8_beginner 5 = .ok (.istore 4, 2) := dk_54 4 (dk_at dksX8_beginner_0 5 rfl rfl)
theorem dX8_beginner_7 : decode cX8_beginner 7 = .ok (.iload_n 1, 1) := dk_27 (dk_at dksX8_beginner_0 7 rfl rfl)
theorem dX8_beginner_8 : decode cX8_beginner 8 = .ok (.iload_n 2, 1) := dk_28 (dk_at dksX8_beginner_0 8 rfl rfl)
theorem dX8_beginner_9 : decode cX8_beginner 9 = .ok (.invokestatic 287, 3) := dk_184 1 31 (dk_at dksX8_beginner_0 9 rfl rfl)
theorem dX8_beginner_12 : decode cX8_beginner 12 = .ok (.istore 5, 2) := dk_54 5 (dk_at dksX8_beginner_0 12 rfl rfl)
theorem dX8_beginner_14 : decode cX8_beginner 14 = .ok (.iload_n 3, 1) := dk_29 (dk_at dksX8_beginner_0 14 rfl rfl)
theorem dX8_beginner_15 : decode cX8_beginner 15 = .ok (.ifCond .ne 28, 3) := dk_154 0 28 (dk_at dksX8_beginner_0 15 rfl rfl)
theorem dX8_beginner_18 : decode cX8_beginner 18 = .ok (.aload_n 0, 1) := dk_42 (dk_at dksX8_beginner_0 18 rfl rfl)
theorem dX8_beginner_19 : decode cX8_beginner 19 = .ok (.iload 5, 2) := dk_21 5 (dk_at dksX8_beginner_0 19 rfl rfl)
theorem dX8_beginner_21 : decode cX8_beginner 21 = .ok (.iconst 2, 1) := dk_5 (dk_at dksX8_beginner_0 21 rfl rfl)
theorem dX8_beginner_22 : decode cX8_beginner 22 = .ok (.invokevirtual 257, 3) := dk_182 1 1 (dk_at dksX8_beginner_1 0 rfl rfl)
theorem dX8_beginner_25 : decode cX8_beginner 25 = .ok (.aload_n 0, 1) := dk_42 (dk_at dksX8_beginner_1 3 rfl rfl)
theorem dX8_beginner_26 : decode cX8_beginner 26 = .ok (.iload 4, 2) := dk_21 4 (dk_at dksX8_beginner_1 4 rfl rfl)
theorem dX8_beginner_28 : decode cX8_beginner 28 = .ok (.iconst 2, 1) := dk_5 (dk_at dksX8_beginner_1 6 rfl rfl)
theorem dX8_beginner_29 : decode cX8_beginner 29 = .ok (.invokevirtual 257, 3) := dk_182 1 1 (dk_at dksX8_beginner_1 7 rfl rfl)
theorem dX8_beginner_32 : decode cX8_beginner 32 = .ok (.if_icmp .le 8, 3) := dk_164 0 8 (dk_at dksX8_beginner_1 10 rfl rfl)
theorem dX8_beginner_35 : decode cX8_beginner 35 = .ok (.iload 5, 2) := dk_21 5 (dk_at dksX8_beginner_1 13 rfl rfl)
theorem dX8_beginner_37 : decode cX8_beginner 37 = .ok (.goto 5, 3) := dk_167 0 5 (dk_at dksX8_beginner_1 15 rfl rfl)
theorem dX8_beginner_40 : decode cX8_beginner 40 = .ok (.iload 4, 2) := dk_21 4 (dk_at dksX8_beginner_1 18 rfl rfl)
theorem dX8_beginner_42 : decode cX8_beginner 42 = .ok (.ireturn, 1) := dk_172 (dk_at dksX8_beginner_1 20 rfl rfl)
theorem dX8_beginner_43 : decode cX8_beginner 43 = .ok (.iload_n 3, 1) := dk_29 (dk_at dksX8_beginner_1 21 rfl rfl)
theorem dX8_beginner_44 : decode cX8_beginner 44 = .ok (.iconst 1, 1) := dk_4 (dk_at dksX8_beginner_1 22 rfl rfl)
theorem dX8_beginner_45 : decode cX8_beginner 45 = .ok (.if_icmp .ne 25, 3) := dk_160 0 25 (dk_at dksX8_beginner_2 0 rfl rfl)
theorem dX8_beginner_48 : decode cX8_beginner 48 = .ok (.aload_n 0, 1) := dk_42 (dk_at dksX8_beginner_2 3 rfl rfl)
theorem dX8_beginner_49 : decode cX8_beginner 49 = .ok (.iload 5, 2) := dk_21 5 (dk_at dksX8_beginner_2 4 rfl rfl)
theorem dX8_beginner_51 : decode cX8_beginner 51 = .ok (.iconst 2, 1) := dk_5 (dk_at dksX8_beginner_2 6 rfl rfl)
theorem dX8_beginner_52 : decode cX8_beginner 52 = .ok (.invokevirtual 257, 3) := dk_182 1 1 (dk_at dksX8_beginner_2 7 rfl rfl)
theorem dX8_beginner_55 : decode cX8_beginner 55 = .ok (.aload_n 0, 1) := dk_42 (dk_at dksX8_beginner_2 10 rfl rfl)
theorem dX8_beginner_56 : decode cX8_beginner 56 = .ok (.iload 4, 2) := dk_21 4 (dk_at dksX8_beginner_2 11 rfl rfl)
theorem dX8_beginner_58 : decode cX8_beginner 58 = .ok (.iconst 2, 1) := dk_5 (dk_at dksX8_beginner_2 13 rfl rfl)
theorem dX8_beginner_59 : decode cX8_beginner 59 = .ok (.invokevirtual 257, 3) := dk_182 1 1 (dk_at dksX8_beginner_2 14 rfl rfl)
theorem dX8_beginner_62 : decode cX8_beginner 62 = .ok (.if_icmp .ge 8, 3) := dk_162 0 8 (dk_at dksX8_beginner_2 17 rfl rfl)
theorem dX8_beginner_65 : decode cX8_beginner 65 = .ok (.iload 5, 2) := dk_21 5 (dk_at dksX8_beginner_2 20 rfl rfl)
theorem dX8_beginner_67 : decode cX8_beginner 67 = .ok (.goto 5, 3) := dk_167 0 5 (dk_at dksX8_beginner_3 0 rfl rfl)
theorem dX8_beginner_70 : decode cX8_beginner 70 = .ok (.iload 4, 2) := dk_21 4 (dk_at dksX8_beginner_3 3 rfl rfl)
theorem dX8_beginner_72 : decode cX8_beginner 72 = .ok (.ireturn, 1) := dk_172 (dk_at dksX8_beginner_3 5 rfl rfl)
abbrev cX8_after : ByteArray := prog_23_method_99_code
def yX8_after : MethodName := ⟨RX8, "after", "(II)I"⟩
def dkwX8_after_5 : List UInt8 := [154, 0, 7, 2, 167, 0, 5, 21, 4, 172]
abbrev dktX8_after_5 : List UInt8 := dkwX8_after_5 ++ []
def dkwX8_after_4 : List UInt8 := [54, 4, 132, 5, 1, 167, 255, 225, 28, 5, 160, 0, 13, 42, 180, 0, 41, 21, 4, 46, 167, 0, 13, 29]
abbrev dktX8_after_4 : List UInt8 := dkwX8_after_4 ++ dktX8_after_5
def dkwX8_after_3 : List UInt8 := [16, 32, 162, 0, 30, 42, 180, 0, 41, 21, 5, 46, 42, 180, 0, 41, 21, 4, 46, 164, 0, 7, 21, 5]
abbrev dktX8_after_3 : List UInt8 := dkwX8_after_3 ++ dktX8_after_4
def dkwX8_after_2 : List UInt8 := [27, 182, 1, 107, 42, 182, 1, 110, 62, 28, 154, 0, 5, 29, 172, 3, 54, 4, 4, 54, 5, 21, 5]
abbrev dktX8_after_2 : List UInt8 := dkwX8_after_2 ++ dktX8_after_3
def dkwX8_after_1 : List UInt8 := [5, 167, 0, 4, 3, 181, 0, 56, 42, 180, 0, 56, 158, 0, 5, 3, 172, 42, 3, 3, 182, 1, 104, 42]
abbrev dktX8_after_1 : List UInt8 := dkwX8_after_1 ++ dktX8_after_2
def dkwX8_after_0 : List UInt8 := [42, 27, 3, 16, 60, 184, 0, 59, 154, 0, 7, 4, 167, 0, 17, 28, 3, 5, 184, 0, 59, 154, 0, 7]
abbrev dktX8_after_0 : List UInt8 := dkwX8_after_0 ++ dktX8_after_1
theorem dksX8_after_0 : cX8_after.data.toList.drop 0 = dktX8_after_0 := by decide +kernel
theorem dksX8_after_1 : cX8_after.data.toList.drop 24 = dktX8_after_1 := dk_seg dksX8_after_0 24 rfl rfl
theorem dksX8_after_2 : cX8_after.data.toList.drop 48 = dktX8_after_2 := dk_seg dksX8_after_1 24 rfl rfl
theorem dksX8_after_3 : cX8_after.data.toList.drop 71 = dktX8_after_3 := dk_seg dksX8_after_2 23 rfl rfl
theorem dksX8_after_4 : cX8_after.data.toList.drop 95 = dktX8_after_4 := dk_seg dksX8_after_3 24 rfl rfl
theorem dksX8_after_5 : cX8_after.data.toList.drop 119 = dktX8_after_5 := dk_seg dksX8_after_4 24 rfl rfl
theorem dX8_after_0 : decode cX8_after 0 = .ok (.aload_n 0, 1) := dk_42 (dk_at dksX8_after_0 0 rfl rfl)
theorem dX8_after_1 : decode cX8_after 1 = .ok (.iload_n 1, 1) := dk_27 (dk_at dksX8_after_0 1 rfl rfl)
theorem dX8_after_2 : decode cX8_after 2 = .ok (.iconst 0, 1) := dk_3 (dk_at dksX8_after_0 2 rfl rfl)
theorem dX8_after_3 : decode cX8_after 3 = .ok (.bipush 60, 2) := dk_16 60 (dk_at dksX8_after_0 3 rfl rfl)
theorem dX8_after_5 : decode cX8_after 5 = .ok (.invokestatic 59, 3) := dk_184 0 59 (dk_at dksX8_after_0 5 rfl rfl)
theorem dX8_after_8 : decode cX8_after 8 = .ok (.ifCond .ne 7, 3) := dk_154 0 7 (dk_at dksX8_after_0 8 rfl rfl)
theorem dX8_after_11 : decode cX8_after 11 = .ok (.iconst 1, 1) := dk_4 (dk_at dksX8_after_0 11 rfl rfl)
theorem dX8_after_12 : decode cX8_after 12 = .ok (.goto 17, 3) := dk_167 0 17 (dk_at dksX8_after_0 12 rfl rfl)
theorem dX8_after_15 : decode cX8_after 15 = .ok (.iload_n 2, 1) := dk_28 (dk_at dksX8_after_0 15 rfl rfl)
theorem dX8_after_16 : decode cX8_after 16 = .ok (.iconst 0, 1) := dk_3 (dk_at dksX8_after_0 16 rfl rfl)
theorem dX8_after_17 : decode cX8_after 17 = .ok (.iconst 2, 1) := dk_5 (dk_at dksX8_after_0 17 rfl rfl)
theorem dX8_after_18 : decode cX8_after 18 = .ok (.invokestatic 59, 3) := dk_184 0 59 (dk_at dksX8_after_0 18 rfl rfl)
theorem dX8_after_21 : decode cX8_after 21 = .ok (.ifCond .ne 7, 3) := dk_154 0 7 (dk_at dksX8_after_0 21 rfl rfl)
theorem dX8_after_24 : decode cX8_after 24 = .ok (.iconst 2, 1) := dk_5 (dk_at dksX8_after_1 0 rfl rfl)
theorem dX8_after_25 : decode cX8_after 25 = .ok (.goto 4, 3) := dk_167 0 4 (dk_at dksX8_after_1 1 rfl rfl)
theorem dX8_after_28 : decode cX8_after 28 = .ok (.iconst 0, 1) := dk_3 (dk_at dksX8_after_1 4 rfl rfl)
theorem dX8_after_29 : decode cX8_after 29 = .ok (.putfield 56, 3) := dk_181 0 56 (dk_at dksX8_after_1 5 rfl rfl)
theorem dX8_after_32 : decode cX8_after 32 = .ok (.aload_n 0, 1) := dk_42 (dk_at dksX8_after_1 8 rfl rfl)
theorem dX8_after_33 : decode cX8_after 33 = .ok (.getfield 56, 3) := dk_180 0 56 (dk_at dksX8_after_1 9 rfl rfl)
theorem dX8_after_36 : decode cX8_after 36 = .ok (.ifCond .le 5, 3) := dk_158 0 5 (dk_at dksX8_after_1 12 rfl rfl)
theorem dX8_after_39 : decode cX8_after 39 = .ok (.iconst 0, 1) := dk_3 (dk_at dksX8_after_1 15 rfl rfl)
theorem dX8_after_40 : decode cX8_after 40 = .ok (.ireturn, 1) := dk_172 (dk_at dksX8_after_1 16 rfl rfl)
theorem dX8_after_41 : decode cX8_after 41 = .ok (.aload_n 0, 1) := dk_42 (dk_at dksX8_after_1 17 rfl rfl)
theorem dX8_after_42 : decode cX8_after 42 = .ok (.iconst 0, 1) := dk_3 (dk_at dksX8_after_1 18 rfl rfl)
theorem dX8_after_43 : decode cX8_after 43 = .ok (.iconst 0, 1) := dk_3 (dk_at dksX8_after_1 19 rfl rfl)
theorem dX8_after_44 : decode cX8_after 44 = .ok (.invokevirtual 360, 3) := dk_182 1 104 (dk_at dksX8_after_1 20 rfl rfl)
theorem dX8_after_47 : decode cX8_after 47 = .ok (.aload_n 0, 1) := dk_42 (dk_at dksX8_after_1 23 rfl rfl)
theorem dX8_after_48 : decode cX8_after 48 = .ok (.iload_n 1, 1) := dk_27 (dk_at dksX8_after_2 0 rfl rfl)
theorem dX8_after_49 : decode cX8_after 49 = .ok (.invokevirtual 363, 3) := dk_182 1 107 (dk_at dksX8_after_2 1 rfl rfl)
theorem dX8_after_52 : decode cX8_after 52 = .ok (.aload_n 0, 1) := dk_42 (dk_at dksX8_after_2 4 rfl rfl)
theorem dX8_after_53 : decode cX8_after 53 = .ok (.invokevirtual 366, 3) := dk_182 1 110 (dk_at dksX8_after_2 5 rfl rfl)
theorem dX8_after_56 : decode cX8_after 56 = .ok (.istore_n 3, 1) := dk_62 (dk_at dksX8_after_2 8 rfl rfl)
theorem dX8_after_57 : decode cX8_after 57 = .ok (.iload_n 2, 1) := dk_28 (dk_at dksX8_after_2 9 rfl rfl)
theorem dX8_after_58 : decode cX8_after 58 = .ok (.ifCond .ne 5, 3) := dk_154 0 5 (dk_at dksX8_after_2 10 rfl rfl)
theorem dX8_after_61 : decode cX8_after 61 = .ok (.iload_n 3, 1) := dk_29 (dk_at dksX8_after_2 13 rfl rfl)
theorem dX8_after_62 : decode cX8_after 62 = .ok (.ireturn, 1) := dk_172 (dk_at dksX8_after_2 14 rfl rfl)
theorem dX8_after_63 : decode cX8_after 63 = .ok (.iconst 0, 1) := dk_3 (dk_at dksX8_after_2 15 rfl rfl)
theorem dX8_after_64 : decode cX8_after 64 = .ok (.istore 4, 2) := dk_54 4 (dk_at dksX8_after_2 16 rfl rfl)
theorem dX8_after_66 : decode cX8_after 66 = .ok (.iconst 1, 1) := dk_4 (dk_at dksX8_after_2 18 rfl rfl)
theorem dX8_after_67 : decode cX8_after 67 = .ok (.istore 5, 2) := dk_54 5 (dk_at dksX8_after_2 19 rfl rfl)
theorem dX8_after_69 : decode cX8_after 69 = .ok (.iload 5, 2) := dk_21 5 (dk_at dksX8_after_2 21 rfl rfl)
theorem dX8_after_71 : decode cX8_after 71 = .ok (.bipush 32, 2) := dk_16 32 (dk_at dksX8_after_3 0 rfl rfl)
theorem dX8_after_73 : decode cX8_after 73 = .ok (.if_icmp .ge 30, 3) := dk_162 0 30 (dk_at dksX8_after_3 2 rfl rfl)
theorem dX8_after_76 : decode cX8_after 76 = .ok (.aload_n 0, 1) := dk_42 (dk_at dksX8_after_3 5 rfl rfl)
theorem dX8_after_77 : decode cX8_after 77 = .ok (.getfield 41, 3) := dk_180 0 41 (dk_at dksX8_after_3 6 rfl rfl)
theorem dX8_after_80 : decode cX8_after 80 = .ok (.iload 5, 2) := dk_21 5 (dk_at dksX8_after_3 9 rfl rfl)
theorem dX8_after_82 : decode cX8_after 82 = .ok (.iaload, 1) := dk_46 (dk_at dksX8_after_3 11 rfl rfl)
theorem dX8_after_83 : decode cX8_after 83 = .ok (.aload_n 0, 1) := dk_42 (dk_at dksX8_after_3 12 rfl rfl)
theorem dX8_after_84 : decode cX8_after 84 = .ok (.getfield 41, 3) := dk_180 0 41 (dk_at dksX8_after_3 13 rfl rfl)
theorem dX8_after_87 : decode cX8_after 87 = .ok (.iload 4, 2) := dk_21 4 (dk_at dksX8_after_3 16 rfl rfl)
theorem dX8_after_89 : decode cX8_after 89 = .ok (.iaload, 1) := dk_46 (dk_at dksX8_after_3 18 rfl rfl)
theorem dX8_after_90 : decode cX8_after 90 = .ok (.if_icmp .le 7, 3) := dk_164 0 7 (dk_at dksX8_after_3 19 rfl rfl)
theorem dX8_after_93 : decode cX8_after 93 = .ok (.iload 5, 2) := dk_21 5 (dk_at dksX8_after_3 22 rfl rfl)
theorem dX8_after_95 : decode cX8_after 95 = .ok (.istore 4, 2) := dk_54 4 (dk_at dksX8_after_4 0 rfl rfl)
theorem dX8_after_97 : decode cX8_after 97 = .ok (.iinc 5 1, 3) := dk_132 5 1 (dk_at dksX8_after_4 2 rfl rfl)
theorem dX8_after_100 : decode cX8_after 100 = .ok (.goto (-31), 3) := dk_167 255 225 (dk_at dksX8_after_4 5 rfl rfl)
theorem dX8_after_103 : decode cX8_after 103 = .ok (.iload_n 2, 1) := dk_28 (dk_at dksX8_after_4 8 rfl rfl)
theorem dX8_after_104 : decode cX8_after 104 = .ok (.iconst 2, 1) := dk_5 (dk_at dksX8_after_4 9 rfl rfl)
theorem dX8_after_105 : decode cX8_after 105 = .ok (.if_icmp .ne 13, 3) := dk_160 0 13 (dk_at dksX8_after_4 10 rfl rfl)
theorem dX8_after_108 : decode cX8_after 108 = .ok (.aload_n 0, 1) := dk_42 (dk_at dksX8_after_4 13 rfl rfl)
theorem dX8_after_109 : decode cX8_after 109 = .ok (.getfield 41, 3) := dk_180 0 41 (dk_at dksX8_after_4 14 rfl rfl)
theorem dX8_after_112 : decode cX8_after 112 = .ok (.iload 4, 2) := dk_21 4 (dk_at dksX8_after_4 17 rfl rfl)
theorem dX8_after_114 : decode cX8_after 114 = .ok (.iaload, 1) := dk_46 (dk_at dksX8_after_4 19 rfl rfl)
theorem dX8_after_115 : decode cX8_after 115 = .ok (.goto 13, 3) := dk_167 0 13 (dk_at dksX8_after_4 20 rfl rfl)
theorem dX8_after_118 : decode cX8_after 118 = .ok (.iload_n 3, 1) := dk_29 (dk_at dksX8_after_4 23 rfl rfl)
theorem dX8_after_119 : decode cX8_after 119 = .ok (.ifCond .ne 7, 3) := dk_154 0 7 (dk_at dksX8_after_5 0 rfl rfl)
theorem dX8_after_122 : decode cX8_after 122 = .ok (.iconst (-1), 1) := dk_2 (dk_at dksX8_after_5 3 rfl rfl)
theorem dX8_after_123 : decode cX8_after 123 = .ok (.goto 5, 3) := dk_167 0 5 (dk_at dksX8_after_5 4 rfl rfl)
theorem dX8_after_126 : decode cX8_after 126 = .ok (.iload 4, 2) := dk_21 4 (dk_at dksX8_after_5 7 rfl rfl)
theorem dX8_after_128 : decode cX8_after 128 = .ok (.ireturn, 1) := dk_172 (dk_at dksX8_after_5 9 rfl rfl)
abbrev cX8_starts : ByteArray := prog_23_method_96_code
def yX8_starts : MethodName := ⟨RX8, "starts", "(II)V"⟩
def dkwX8_starts_2 : List UInt8 := [4, 29, 120, 128, 79, 132, 3, 1, 167, 255, 204, 177]
abbrev dktX8_starts_2 : List UInt8 := dkwX8_starts_2 ++ []
def dkwX8_starts_1 : List UInt8 := [153, 0, 7, 28, 167, 0, 9, 42, 29, 4, 182, 1, 1, 79, 42, 180, 0, 38, 29, 42, 29, 182, 1, 18]
abbrev dktX8_starts_1 : List UInt8 := dkwX8_starts_1 ++ dktX8_starts_2
def dkwX8_starts_0 : List UInt8 := [3, 62, 29, 42, 180, 0, 7, 8, 46, 162, 0, 48, 42, 180, 0, 32, 29, 27, 29, 184, 1, 49]
abbrev dktX8_starts_0 : List UInt8 := dkwX8_starts_0 ++ dktX8_starts_1
theorem dksX8_starts_0 : cX8_starts.data.toList.drop 0 = dktX8_starts_0 := by decide +kernel
theorem dksX8_starts_1 : cX8_starts.data.toList.drop 22 = dktX8_starts_1 := dk_seg dksX8_starts_0 22 rfl rfl
theorem dksX8_starts_2 : cX8_starts.data.toList.drop 46 = dktX8_starts_2 := dk_seg dksX8_starts_1 24 rfl rfl
theorem dX8_starts_0 : decode cX8_starts 0 = .ok (.iconst 0, 1) := dk_3 (dk_at dksX8_starts_0 0 rfl rfl)
theorem dX8_starts_1 : decode cX8_starts 1 = .ok (.istore_n 3, 1) := dk_62 (dk_at dksX8_starts_0 1 rfl rfl)
theorem dX8_starts_2 : decode cX8_starts 2 = .ok (.iload_n 3, 1) := dk_29 (dk_at dksX8_starts_0 2 rfl rfl)
theorem dX8_starts_3 : decode cX8_starts 3 = .ok (.aload_n 0, 1) := dk_42 (dk_at dksX8_starts_0 3 rfl rfl)
theorem dX8_starts_4 : decode cX8_starts 4 = .ok (.getfield 7, 3) := dk_180 0 7 (dk_at dksX8_starts_0 4 rfl rfl)
theorem dX8_starts_7 : decode cX8_starts 7 = .ok (.iconst 5, 1) := dk_8 (dk_at dksX8_starts_0 7 rfl rfl)
theorem dX8_starts_8 : decode cX8_starts 8 = .ok (.iaload, 1) := dk_46 (dk_at dksX8_starts_0 8 rfl rfl)
theorem dX8_starts_9 : decode cX8_starts 9 = .ok (.if_icmp .ge 48, 3) := dk_162 0 48 (dk_at dksX8_starts_0 9 rfl rfl)
theorem dX8_starts_12 : decode cX8_starts 12 = .ok (.aload_n 0, 1) := dk_42 (dk_at dksX8_starts_0 12 rfl rfl)
theorem dX8_starts_13 : decode cX8_starts 13 = .ok (.getfield 32, 3) := dk_180 0 32 (dk_at dksX8_starts_0 13 rfl rfl)
theorem dX8_starts_16 : decode cX8_starts 16 = .ok (.iload_n 3, 1) := dk_29 (dk_at dksX8_starts_0 16 rfl rfl)
theorem dX8_starts_17 : decode cX8_starts 17 = .ok (.iload_n 1, 1) := dk_27 (dk_at dksX8_starts_0 17 rfl rfl)
theorem dX8_starts_18 : decode cX8_starts 18 = .ok (.iload_n 3, 1) := dk_29 (dk_at dksX8_starts_0 18 rfl rfl)
theorem dX8_starts_19 : decode cX8_starts 19 = .ok (.invokestatic 305, 3) := dk_184 1 49 (dk_at dksX8_starts_0 19 rfl rfl)
theorem dX8_starts_22 : decode cX8_starts 22 = .ok (.ifCond .eq 7, 3) := dk_153 0 7 (dk_at dksX8_starts_1 0 rfl rfl)
theorem dX8_starts_25 : decode cX8_starts 25 = .ok (.iload_n 2, 1) := dk_28 (dk_at dksX8_starts_1 3 rfl rfl)
theorem dX8_starts_26 : decode cX8_starts 26 = .ok (.goto 9, 3) := dk_167 0 9 (dk_at dksX8_starts_1 4 rfl rfl)
theorem dX8_starts_29 : decode cX8_starts 29 = .ok (.aload_n 0, 1) := dk_42 (dk_at dksX8_starts_1 7 rfl rfl)
theorem dX8_starts_30 : decode cX8_starts 30 = .ok (.iload_n 3, 1) := dk_29 (dk_at dksX8_starts_1 8 rfl rfl)
theorem dX8_starts_31 : decode cX8_starts 31 = .ok (.iconst 1, 1) := dk_4 (dk_at dksX8_starts_1 9 rfl rfl)
theorem dX8_starts_32 : decode cX8_starts 32 = .ok (.invokevirtual 257, 3) := dk_182 1 1 (dk_at dksX8_starts_1 10 rfl rfl)
theorem dX8_starts_35 : decode cX8_starts 35 = .ok (.iastore, 1) := dk_79 (dk_at dksX8_starts_1 13 rfl rfl)
theorem dX8_starts_36 : decode cX8_starts 36 = .ok (.aload_n 0, 1) := dk_42 (dk_at dksX8_starts_1 14 rfl rfl)
theorem dX8_starts_37 : decode cX8_starts 37 = .ok (.getfield 38, 3) := dk_180 0 38 (dk_at dksX8_starts_1 15 rfl rfl)
theorem dX8_starts_40 : decode cX8_starts 40 = .ok (.iload_n 3, 1) := dk_29 (dk_at dksX8_starts_1 18 rfl rfl)
theorem dX8_starts_41 : decode cX8_starts 41 = .ok (.aload_n 0, 1) := dk_42 (dk_at dksX8_starts_1 19 rfl rfl)
theorem dX8_starts_42 : decode cX8_starts 42 = .ok (.iload_n 3, 1) := dk_29 (dk_at dksX8_starts_1 20 rfl rfl)
theorem dX8_starts_43 : decode cX8_starts 43 = .ok (.invokevirtual 274, 3) := dk_182 1 18 (dk_at dksX8_starts_1 21 rfl rfl)
theorem dX8_starts_46 : decode cX8_starts 46 = .ok (.iconst 1, 1) := dk_4 (dk_at dksX8_starts_2 0 rfl rfl)
theorem dX8_starts_47 : decode cX8_starts 47 = .ok (.iload_n 3, 1) := dk_29 (dk_at dksX8_starts_2 1 rfl rfl)
theorem dX8_starts_48 : decode cX8_starts 48 = .ok (.ishl, 1) := dk_120 (dk_at dksX8_starts_2 2 rfl rfl)
theorem dX8_starts_49 : decode cX8_starts 49 = .ok (.ior, 1) := dk_128 (dk_at dksX8_starts_2 3 rfl rfl)
theorem dX8_starts_50 : decode cX8_starts 50 = .ok (.iastore, 1) := dk_79 (dk_at dksX8_starts_2 4 rfl rfl)
theorem dX8_starts_51 : decode cX8_starts 51 = .ok (.iinc 3 1, 3) := dk_132 3 1 (dk_at dksX8_starts_2 5 rfl rfl)
theorem dX8_starts_54 : decode cX8_starts 54 = .ok (.goto (-52), 3) := dk_167 255 204 (dk_at dksX8_starts_2 8 rfl rfl)
theorem dX8_starts_57 : decode cX8_starts 57 = .ok (.return_, 1) := dk_177 (dk_at dksX8_starts_2 11 rfl rfl)
abbrev cX8_years : ByteArray := prog_23_method_97_code
def yX8_years : MethodName := ⟨RX8, "years", "(I)V"⟩
def dkwX8_years_1 : List UInt8 := [177]
abbrev dktX8_years_1 : List UInt8 := dkwX8_years_1 ++ []
def dkwX8_years_0 : List UInt8 := [4, 61, 3, 62, 29, 27, 162, 0, 18, 28, 153, 0, 14, 42, 182, 1, 101, 61, 132, 3, 1, 167, 255, 239]
abbrev dktX8_years_0 : List UInt8 := dkwX8_years_0 ++ dktX8_years_1
theorem dksX8_years_0 : cX8_years.data.toList.drop 0 = dktX8_years_0 := by decide +kernel
theorem dksX8_years_1 : cX8_years.data.toList.drop 24 = dktX8_years_1 := dk_seg dksX8_years_0 24 rfl rfl
theorem dX8_years_0 : decode cX8_years 0 = .ok (.iconst 1, 1) := dk_4 (dk_at dksX8_years_0 0 rfl rfl)
theorem dX8_years_1 : decode cX8_years 1 = .ok (.istore_n 2, 1) := dk_61 (dk_at dksX8_years_0 1 rfl rfl)
theorem dX8_years_2 : decode cX8_years 2 = .ok (.iconst 0, 1) := dk_3 (dk_at dksX8_years_0 2 rfl rfl)
theorem dX8_years_3 : decode cX8_years 3 = .ok (.istore_n 3, 1) := dk_62 (dk_at dksX8_years_0 3 rfl rfl)
theorem dX8_years_4 : decode cX8_years 4 = .ok (.iload_n 3, 1) := dk_29 (dk_at dksX8_years_0 4 rfl rfl)
theorem dX8_years_5 : decode cX8_years 5 = .ok (.iload_n 1, 1) := dk_27 (dk_at dksX8_years_0 5 rfl rfl)
theorem dX8_years_6 : decode cX8_years 6 = .ok (.if_icmp .ge 18, 3) := dk_162 0 18 (dk_at dksX8_years_0 6 rfl rfl)
theorem dX8_years_9 : decode cX8_years 9 = .ok (.iload_n 2, 1) := dk_28 (dk_at dksX8_years_0 9 rfl rfl)
theorem dX8_years_10 : decode cX8_years 10 = .ok (.ifCond .eq 14, 3) := dk_153 0 14 (dk_at dksX8_years_0 10 rfl rfl)
theorem dX8_years_13 : decode cX8_years 13 = .ok (.aload_n 0, 1) := dk_42 (dk_at dksX8_years_0 13 rfl rfl)
theorem dX8_years_14 : decode cX8_years 14 = .ok (.invokevirtual 357, 3) := dk_182 1 101 (dk_at dksX8_years_0 14 rfl rfl)
theorem dX8_years_17 : decode cX8_years 17 = .ok (.istore_n 2, 1) := dk_61 (dk_at dksX8_years_0 17 rfl rfl)
theorem dX8_years_18 : decode cX8_years 18 = .ok (.iinc 3 1, 3) := dk_132 3 1 (dk_at dksX8_years_0 18 rfl rfl)
theorem dX8_years_21 : decode cX8_years 21 = .ok (.goto (-17), 3) := dk_167 255 239 (dk_at dksX8_years_0 21 rfl rfl)
theorem dX8_years_24 : decode cX8_years 24 = .ok (.return_, 1) := dk_177 (dk_at dksX8_years_1 0 rfl rfl)
abbrev cX8_year : ByteArray := prog_23_method_95_code
def yX8_year : MethodName := ⟨RX8, "year", "()Z"⟩
def dkwX8_year_3 : List UInt8 := [28, 42, 180, 0, 35, 28, 46, 79, 132, 2, 1, 167, 255, 206, 27, 172]
abbrev dktX8_year_3 : List UInt8 := dkwX8_year_3 ++ []
def dkwX8_year_2 : List UInt8 := [180, 0, 32, 28, 46, 42, 180, 0, 35, 28, 46, 159, 0, 7, 4, 167, 0, 4, 3, 60, 42, 180, 0, 32]
abbrev dktX8_year_2 : List UInt8 := dkwX8_year_2 ++ dktX8_year_3
def dkwX8_year_1 : List UInt8 := [79, 132, 2, 1, 167, 255, 232, 3, 61, 28, 42, 180, 0, 7, 8, 46, 162, 0, 46, 27, 154, 0, 18, 42]
abbrev dktX8_year_1 : List UInt8 := dkwX8_year_1 ++ dktX8_year_2
def dkwX8_year_0 : List UInt8 := [3, 60, 3, 61, 28, 42, 180, 0, 7, 8, 46, 162, 0, 20, 42, 180, 0, 35, 28, 42, 28, 182, 1, 98]
abbrev dktX8_year_0 : List UInt8 := dkwX8_year_0 ++ dktX8_year_1
theorem dksX8_year_0 : cX8_year.data.toList.drop 0 = dktX8_year_0 := by decide +kernel
theorem dksX8_year_1 : cX8_year.data.toList.drop 24 = dktX8_year_1 := dk_seg dksX8_year_0 24 rfl rfl
theorem dksX8_year_2 : cX8_year.data.toList.drop 48 = dktX8_year_2 := dk_seg dksX8_year_1 24 rfl rfl
theorem dksX8_year_3 : cX8_year.data.toList.drop 72 = dktX8_year_3 := dk_seg dksX8_year_2 24 rfl rfl
theorem dX8_year_0 : decode cX8_year 0 = .ok (.iconst 0, 1) := dk_3 (dk_at dksX8_year_0 0 rfl rfl)
theorem dX8_year_1 : decode cX8_year 1 = .ok (.istore_n 1, 1) := dk_60 (dk_at dksX8_year_0 1 rfl rfl)
theorem dX8_year_2 : decode cX8_year 2 = .ok (.iconst 0, 1) := dk_3 (dk_at dksX8_year_0 2 rfl rfl)
theorem dX8_year_3 : decode cX8_year 3 = .ok (.istore_n 2, 1) := dk_61 (dk_at dksX8_year_0 3 rfl rfl)
theorem dX8_year_4 : decode cX8_year 4 = .ok (.iload_n 2, 1) := dk_28 (dk_at dksX8_year_0 4 rfl rfl)
theorem dX8_year_5 : decode cX8_year 5 = .ok (.aload_n 0, 1) := dk_42 (dk_at dksX8_year_0 5 rfl rfl)
theorem dX8_year_6 : decode cX8_year 6 = .ok (.getfield 7, 3) := dk_180 0 7 (dk_at dksX8_year_0 6 rfl rfl)
theorem dX8_year_9 : decode cX8_year 9 = .ok (.iconst 5, 1) := dk_8 (dk_at dksX8_year_0 9 rfl rfl)
theorem dX8_year_10 : decode cX8_year 10 = .ok (.iaload, 1) := dk_46 (dk_at dksX8_year_0 10 rfl rfl)
theorem dX8_year_11 : decode cX8_year 11 = .ok (.if_icmp .ge 20, 3) := dk_162 0 20 (dk_at dksX8_year_0 11 rfl rfl)
theorem dX8_year_14 : decode cX8_year 14 = .ok (.aload_n 0, 1) := dk_42 (dk_at dksX8_year_0 14 rfl rfl)
theorem dX8_year_15 : decode cX8_year 15 = .ok (.getfield 35, 3) := dk_180 0 35 (dk_at dksX8_year_0 15 rfl rfl)
theorem dX8_year_18 : decode cX8_year 18 = .ok (.iload_n 2, 1) := dk_28 (dk_at dksX8_year_0 18 rfl rfl)
theorem dX8_year_19 : decode cX8_year 19 = .ok (.aload_n 0, 1) := dk_42 (dk_at dksX8_year_0 19 rfl rfl)
theorem dX8_year_20 : decode cX8_year 20 = .ok (.iload_n 2, 1) := dk_28 (dk_at dksX8_year_0 20 rfl rfl)
theorem dX8_year_21 : decode cX8_year 21 = .ok (.invokevirtual 354, 3) := dk_182 1 98 (dk_at dksX8_year_0 21 rfl rfl)
theorem dX8_year_24 : decode cX8_year 24 = .ok (.iastore, 1) := dk_79 (dk_at dksX8_year_1 0 rfl rfl)
theorem dX8_year_25 : decode cX8_year 25 = .ok (.iinc 2 1, 3) := dk_132 2 1 (dk_at dksX8_year_1 1 rfl rfl)
theorem dX8_year_28 : decode cX8_year 28 = .ok (.goto (-24), 3) := dk_167 255 232 (dk_at dksX8_year_1 4 rfl rfl)
theorem dX8_year_31 : decode cX8_year 31 = .ok (.iconst 0, 1) := dk_3 (dk_at dksX8_year_1 7 rfl rfl)
theorem dX8_year_32 : decode cX8_year 32 = .ok (.istore_n 2, 1) := dk_61 (dk_at dksX8_year_1 8 rfl rfl)
theorem dX8_year_33 : decode cX8_year 33 = .ok (.iload_n 2, 1) := dk_28 (dk_at dksX8_year_1 9 rfl rfl)
theorem dX8_year_34 : decode cX8_year 34 = .ok (.aload_n 0, 1) := dk_42 (dk_at dksX8_year_1 10 rfl rfl)
theorem dX8_year_35 : decode cX8_year 35 = .ok (.getfield 7, 3) := dk_180 0 7 (dk_at dksX8_year_1 11 rfl rfl)
theorem dX8_year_38 : decode cX8_year 38 = .ok (.iconst 5, 1) := dk_8 (dk_at dksX8_year_1 14 rfl rfl)
theorem dX8_year_39 : decode cX8_year 39 = .ok (.iaload, 1) := dk_46 (dk_at dksX8_year_1 15 rfl rfl)
theorem dX8_year_40 : decode cX8_year 40 = .ok (.if_icmp .ge 46, 3) := dk_162 0 46 (dk_at dksX8_year_1 16 rfl rfl)
theorem dX8_year_43 : decode cX8_year 43 = .ok (.iload_n 1, 1) := dk_27 (dk_at dksX8_year_1 19 rfl rfl)
theorem dX8_year_44 : decode cX8_year 44 = .ok (.ifCond .ne 18, 3) := dk_154 0 18 (dk_at dksX8_year_1 20 rfl rfl)
theorem dX8_year_47 : decode cX8_year 47 = .ok (.aload_n 0, 1) := dk_42 (dk_at dksX8_year_1 23 rfl rfl)
theorem dX8_year_48 : decode cX8_year 48 = .ok (.getfield 32, 3) := dk_180 0 32 (dk_at dksX8_year_2 0 rfl rfl)
theorem dX8_year_51 : decode cX8_year 51 = .ok (.iload_n 2, 1) := dk_28 (dk_at dksX8_year_2 3 rfl rfl)
theorem dX8_year_52 : decode cX8_year 52 = .ok (.iaload, 1) := dk_46 (dk_at dksX8_year_2 4 rfl rfl)
theorem dX8_year_53 : decode cX8_year 53 = .ok (.aload_n 0, 1) := dk_42 (dk_at dksX8_year_2 5 rfl rfl)
theorem dX8_year_54 : decode cX8_year 54 = .ok (.getfield 35, 3) := dk_180 0 35 (dk_at dksX8_year_2 6 rfl rfl)
theorem dX8_year_57 : decode cX8_year 57 = .ok (.iload_n 2, 1) := dk_28 (dk_at dksX8_year_2 9 rfl rfl)
theorem dX8_year_58 : decode cX8_year 58 = .ok (.iaload, 1) := dk_46 (dk_at dksX8_year_2 10 rfl rfl)
theorem dX8_year_59 : decode cX8_year 59 = .ok (.if_icmp .eq 7, 3) := dk_159 0 7 (dk_at dksX8_year_2 11 rfl rfl)
theorem dX8_year_62 : decode cX8_year 62 = .ok (.iconst 1, 1) := dk_4 (dk_at dksX8_year_2 14 rfl rfl)
theorem dX8_year_63 : decode cX8_year 63 = .ok (.goto 4, 3) := dk_167 0 4 (dk_at dksX8_year_2 15 rfl rfl)
theorem dX8_year_66 : decode cX8_year 66 = .ok (.iconst 0, 1) := dk_3 (dk_at dksX8_year_2 18 rfl rfl)
theorem dX8_year_67 : decode cX8_year 67 = .ok (.istore_n 1, 1) := dk_60 (dk_at dksX8_year_2 19 rfl rfl)
theorem dX8_year_68 : decode cX8_year 68 = .ok (.aload_n 0, 1) := dk_42 (dk_at dksX8_year_2 20 rfl rfl)
theorem dX8_year_69 : decode cX8_year 69 = .ok (.getfield 32, 3) := dk_180 0 32 (dk_at dksX8_year_2 21 rfl rfl)
theorem dX8_year_72 : decode cX8_year 72 = .ok (.iload_n 2, 1) := dk_28 (dk_at dksX8_year_3 0 rfl rfl)
theorem dX8_year_73 : decode cX8_year 73 = .ok (.aload_n 0, 1) := dk_42 (dk_at dksX8_year_3 1 rfl rfl)
theorem dX8_year_74 : decode cX8_year 74 = .ok (.getfield 35, 3) := dk_180 0 35 (dk_at dksX8_year_3 2 rfl rfl)
theorem dX8_year_77 : decode cX8_year 77 = .ok (.iload_n 2, 1) := dk_28 (dk_at dksX8_year_3 5 rfl rfl)
theorem dX8_year_78 : decode cX8_year 78 = .ok (.iaload, 1) := dk_46 (dk_at dksX8_year_3 6 rfl rfl)
theorem dX8_year_79 : decode cX8_year 79 = .ok (.iastore, 1) := dk_79 (dk_at dksX8_year_3 7 rfl rfl)
theorem dX8_year_80 : decode cX8_year 80 = .ok (.iinc 2 1, 3) := dk_132 2 1 (dk_at dksX8_year_3 8 rfl rfl)
theorem dX8_year_83 : decode cX8_year 83 = .ok (.goto (-50), 3) := dk_167 255 206 (dk_at dksX8_year_3 11 rfl rfl)
theorem dX8_year_86 : decode cX8_year 86 = .ok (.iload_n 1, 1) := dk_27 (dk_at dksX8_year_3 14 rfl rfl)
theorem dX8_year_87 : decode cX8_year 87 = .ok (.ireturn, 1) := dk_172 (dk_at dksX8_year_3 15 rfl rfl)
abbrev cX8_takes : ByteArray := prog_23_method_94_code
def yX8_takes : MethodName := ⟨RX8, "takes", "(I)I"⟩
def dkwX8_takes_4 : List UInt8 := [61, 132, 3, 1, 167, 255, 230, 28, 172]
abbrev dktX8_takes_4 : List UInt8 := dkwX8_takes_4 ++ []
def dkwX8_takes_3 : List UInt8 := [3, 62, 29, 16, 32, 162, 0, 26, 42, 180, 0, 41, 29, 46, 42, 180, 0, 41, 28, 46, 164, 0, 5, 29]
abbrev dktX8_takes_3 : List UInt8 := dkwX8_takes_3 ++ dktX8_takes_4
def dkwX8_takes_2 : List UInt8 := [180, 0, 38, 27, 46, 28, 122, 4, 126, 96, 79, 132, 2, 1, 167, 255, 219, 42, 180, 0, 32, 27, 46, 61]
abbrev dktX8_takes_2 : List UInt8 := dkwX8_takes_2 ++ dktX8_takes_3
def dkwX8_takes_1 : List UInt8 := [42, 180, 0, 7, 8, 46, 162, 0, 33, 42, 180, 0, 41, 42, 180, 0, 32, 28, 46, 92, 46, 42]
abbrev dktX8_takes_1 : List UInt8 := dkwX8_takes_1 ++ dktX8_takes_2
def dkwX8_takes_0 : List UInt8 := [3, 61, 28, 16, 32, 162, 0, 16, 42, 180, 0, 41, 28, 3, 79, 132, 2, 1, 167, 255, 240, 3, 61, 28]
abbrev dktX8_takes_0 : List UInt8 := dkwX8_takes_0 ++ dktX8_takes_1
theorem dksX8_takes_0 : cX8_takes.data.toList.drop 0 = dktX8_takes_0 := by decide +kernel
theorem dksX8_takes_1 : cX8_takes.data.toList.drop 24 = dktX8_takes_1 := dk_seg dksX8_takes_0 24 rfl rfl
theorem dksX8_takes_2 : cX8_takes.data.toList.drop 46 = dktX8_takes_2 := dk_seg dksX8_takes_1 22 rfl rfl
theorem dksX8_takes_3 : cX8_takes.data.toList.drop 70 = dktX8_takes_3 := dk_seg dksX8_takes_2 24 rfl rfl
theorem dksX8_takes_4 : cX8_takes.data.toList.drop 94 = dktX8_takes_4 := dk_seg dksX8_takes_3 24 rfl rfl
theorem dX8_takes_0 : decode cX8_takes 0 = .ok (.iconst 0, 1) := dk_3 (dk_at dksX8_takes_0 0 rfl rfl)
theorem dX8_takes_1 : decode cX8_takes 1 = .ok (.istore_n 2, 1) := dk_61 (dk_at dksX8_takes_0 1 rfl rfl)
theorem dX8_takes_2 : decode cX8_takes 2 = .ok (.iload_n 2, 1) := dk_28 (dk_at dksX8_takes_0 2 rfl rfl)
theorem dX8_takes_3 : decode cX8_takes 3 = .ok (.bipush 32, 2) := dk_16 32 (dk_at dksX8_takes_0 3 rfl rfl)
theorem dX8_takes_5 : decode cX8_takes 5 = .ok (.if_icmp .ge 16, 3) := dk_162 0 16 (dk_at dksX8_takes_0 5 rfl rfl)
theorem dX8_takes_8 : decode cX8_takes 8 = .ok (.aload_n 0, 1) := dk_42 (dk_at dksX8_takes_0 8 rfl rfl)
theorem dX8_takes_9 : decode cX8_takes 9 = .ok (.getfield 41, 3) := dk_180 0 41 (dk_at dksX8_takes_0 9 rfl rfl)
theorem dX8_takes_12 : decode cX8_takes 12 = .ok (.iload_n 2, 1) := dk_28 (dk_at dksX8_takes_0 12 rfl rfl)
theorem dX8_takes_13 : decode cX8_takes 13 = .ok (.iconst 0, 1) := dk_3 (dk_at dksX8_takes_0 13 rfl rfl)
theorem dX8_takes_14 : decode cX8_takes 14 = .ok (.iastore, 1) := dk_79 (dk_at dksX8_takes_0 14 rfl rfl)
theorem dX8_takes_15 : decode cX8_takes 15 = .ok (.iinc 2 1, 3) := dk_132 2 1 (dk_at dksX8_takes_0 15 rfl rfl)
theorem dX8_takes_18 : decode cX8_takes 18 = .ok (.goto (-16), 3) := dk_167 255 240 (dk_at dksX8_takes_0 18 rfl rfl)
theorem dX8_takes_21 : decode cX8_takes 21 = .ok (.iconst 0, 1) := dk_3 (dk_at dksX8_takes_0 21 rfl rfl)
theorem dX8_takes_22 : decode cX8_takes 22 = .ok (.istore_n 2, 1) := dk_61 (dk_at dksX8_takes_0 22 rfl rfl)
theorem dX8_takes_23 : decode cX8_takes 23 = .ok (.iload_n 2, 1) := dk_28 (dk_at dksX8_takes_0 23 rfl rfl)
theorem dX8_takes_24 : decode cX8_takes 24 = .ok (.aload_n 0, 1) := dk_42 (dk_at dksX8_takes_1 0 rfl rfl)
theorem dX8_takes_25 : decode cX8_takes 25 = .ok (.getfield 7, 3) := dk_180 0 7 (dk_at dksX8_takes_1 1 rfl rfl)
theorem dX8_takes_28 : decode cX8_takes 28 = .ok (.iconst 5, 1) := dk_8 (dk_at dksX8_takes_1 4 rfl rfl)
theorem dX8_takes_29 : decode cX8_takes 29 = .ok (.iaload, 1) := dk_46 (dk_at dksX8_takes_1 5 rfl rfl)
theorem dX8_takes_30 : decode cX8_takes 30 = .ok (.if_icmp .ge 33, 3) := dk_162 0 33 (dk_at dksX8_takes_1 6 rfl rfl)
theorem dX8_takes_33 : decode cX8_takes 33 = .ok (.aload_n 0, 1) := dk_42 (dk_at dksX8_takes_1 9 rfl rfl)
theorem dX8_takes_34 : decode cX8_takes 34 = .ok (.getfield 41, 3) := dk_180 0 41 (dk_at dksX8_takes_1 10 rfl rfl)
theorem dX8_takes_37 : decode cX8_takes 37 = .ok (.aload_n 0, 1) := dk_42 (dk_at dksX8_takes_1 13 rfl rfl)
theorem dX8_takes_38 : decode cX8_takes 38 = .ok (.getfield 32, 3) := dk_180 0 32 (dk_at dksX8_takes_1 14 rfl rfl)
theorem dX8_takes_41 : decode cX8_takes 41 = .ok (.iload_n 2, 1) := dk_28 (dk_at dksX8_takes_1 17 rfl rfl)
theorem dX8_takes_42 : decode cX8_takes 42 = .ok (.iaload, 1) := dk_46 (dk_at dksX8_takes_1 18 rfl rfl)
theorem dX8_takes_43 : decode cX8_takes 43 = .ok (.dup2, 1) := dk_92 (dk_at dksX8_takes_1 19 rfl rfl)
theorem dX8_takes_44 : decode cX8_takes 44 = .ok (.iaload, 1) := dk_46 (dk_at dksX8_takes_1 20 rfl rfl)
theorem dX8_takes_45 : decode cX8_takes 45 = .ok (.aload_n 0, 1) := dk_42 (dk_at dksX8_takes_1 21 rfl rfl)
theorem dX8_takes_46 : decode cX8_takes 46 = .ok (.getfield 38, 3) := dk_180 0 38 (dk_at dksX8_takes_2 0 rfl rfl)
theorem dX8_takes_49 : decode cX8_takes 49 = .ok (.iload_n 1, 1) := dk_27 (dk_at dksX8_takes_2 3 rfl rfl)
theorem dX8_takes_50 : decode cX8_takes 50 = .ok (.iaload, 1) := dk_46 (dk_at dksX8_takes_2 4 rfl rfl)
theorem dX8_takes_51 : decode cX8_takes 51 = .ok (.iload_n 2, 1) := dk_28 (dk_at dksX8_takes_2 5 rfl rfl)
theorem dX8_takes_52 : decode cX8_takes 52 = .ok (.ishr, 1) := dk_122 (dk_at dksX8_takes_2 6 rfl rfl)
theorem dX8_takes_53 : decode cX8_takes 53 = .ok (.iconst 1, 1) := dk_4 (dk_at dksX8_takes_2 7 rfl rfl)
theorem dX8_takes_54 : decode cX8_takes 54 = .ok (.iand, 1) := dk_126 (dk_at dksX8_takes_2 8 rfl rfl)
theorem dX8_takes_55 : decode cX8_takes 55 = .ok (.iadd, 1) := dk_96 (dk_at dksX8_takes_2 9 rfl rfl)
theorem dX8_takes_56 : decode cX8_takes 56 = .ok (.iastore, 1) := dk_79 (dk_at dksX8_takes_2 10 rfl rfl)
theorem dX8_takes_57 : decode cX8_takes 57 = .ok (.iinc 2 1, 3) := dk_132 2 1 (dk_at dksX8_takes_2 11 rfl rfl)
theorem dX8_takes_60 : decode cX8_takes 60 = .ok (.goto (-37), 3) := dk_167 255 219 (dk_at dksX8_takes_2 14 rfl rfl)
theorem dX8_takes_63 : decode cX8_takes 63 = .ok (.aload_n 0, 1) := dk_42 (dk_at dksX8_takes_2 17 rfl rfl)
theorem dX8_takes_64 : decode cX8_takes 64 = .ok (.getfield 32, 3) := dk_180 0 32 (dk_at dksX8_takes_2 18 rfl rfl)
theorem dX8_takes_67 : decode cX8_takes 67 = .ok (.iload_n 1, 1) := dk_27 (dk_at dksX8_takes_2 21 rfl rfl)
theorem dX8_takes_68 : decode cX8_takes 68 = .ok (.iaload, 1) := dk_46 (dk_at dksX8_takes_2 22 rfl rfl)
theorem dX8_takes_69 : decode cX8_takes 69 = .ok (.istore_n 2, 1) := dk_61 (dk_at dksX8_takes_2 23 rfl rfl)
theorem dX8_takes_70 : decode cX8_takes 70 = .ok (.iconst 0, 1) := dk_3 (dk_at dksX8_takes_3 0 rfl rfl)
theorem dX8_takes_71 : decode cX8_takes 71 = .ok (.istore_n 3, 1) := dk_62 (dk_at dksX8_takes_3 1 rfl rfl)
theorem dX8_takes_72 : decode cX8_takes 72 = .ok (.iload_n 3, 1) := dk_29 (dk_at dksX8_takes_3 2 rfl rfl)
theorem dX8_takes_73 : decode cX8_takes 73 = .ok (.bipush 32, 2) := dk_16 32 (dk_at dksX8_takes_3 3 rfl rfl)
theorem dX8_takes_75 : decode cX8_takes 75 = .ok (.if_icmp .ge 26, 3) := dk_162 0 26 (dk_at dksX8_takes_3 5 rfl rfl)
theorem dX8_takes_78 : decode cX8_takes 78 = .ok (.aload_n 0, 1) := dk_42 (dk_at dksX8_takes_3 8 rfl rfl)
theorem dX8_takes_79 : decode cX8_takes 79 = .ok (.getfield 41, 3) := dk_180 0 41 (dk_at dksX8_takes_3 9 rfl rfl)
theorem dX8_takes_82 : decode cX8_takes 82 = .ok (.iload_n 3, 1) := dk_29 (dk_at dksX8_takes_3 12 rfl rfl)
theorem dX8_takes_83 : decode cX8_takes 83 = .ok (.iaload, 1) := dk_46 (dk_at dksX8_takes_3 13 rfl rfl)
theorem dX8_takes_84 : decode cX8_takes 84 = .ok (.aload_n 0, 1) := dk_42 (dk_at dksX8_takes_3 14 rfl rfl)
theorem dX8_takes_85 : decode cX8_takes 85 = .ok (.getfield 41, 3) := dk_180 0 41 (dk_at dksX8_takes_3 15 rfl rfl)
theorem dX8_takes_88 : decode cX8_takes 88 = .ok (.iload_n 2, 1) := dk_28 (dk_at dksX8_takes_3 18 rfl rfl)
theorem dX8_takes_89 : decode cX8_takes 89 = .ok (.iaload, 1) := dk_46 (dk_at dksX8_takes_3 19 rfl rfl)
theorem dX8_takes_90 : decode cX8_takes 90 = .ok (.if_icmp .le 5, 3) := dk_164 0 5 (dk_at dksX8_takes_3 20 rfl rfl)
theorem dX8_takes_93 : decode cX8_takes 93 = .ok (.iload_n 3, 1) := dk_29 (dk_at dksX8_takes_3 23 rfl rfl)
theorem dX8_takes_94 : decode cX8_takes 94 = .ok (.istore_n 2, 1) := dk_61 (dk_at dksX8_takes_4 0 rfl rfl)
theorem dX8_takes_95 : decode cX8_takes 95 = .ok (.iinc 3 1, 3) := dk_132 3 1 (dk_at dksX8_takes_4 1 rfl rfl)
theorem dX8_takes_98 : decode cX8_takes 98 = .ok (.goto (-26), 3) := dk_167 255 230 (dk_at dksX8_takes_4 4 rfl rfl)
theorem dX8_takes_101 : decode cX8_takes 101 = .ok (.iload_n 2, 1) := dk_28 (dk_at dksX8_takes_4 7 rfl rfl)
theorem dX8_takes_102 : decode cX8_takes 102 = .ok (.ireturn, 1) := dk_172 (dk_at dksX8_takes_4 8 rfl rfl)
abbrev cX8_counts : ByteArray := prog_23_method_98_code
def yX8_counts : MethodName := ⟨RX8, "counts", "()I"⟩
def dkwX8_counts_3 : List UInt8 := [79, 132, 2, 1, 167, 255, 206, 27, 172]
abbrev dktX8_counts_3 : List UInt8 := dkwX8_counts_3 ++ []
def dkwX8_counts_2 : List UInt8 := [154, 0, 7, 4, 167, 0, 4, 3, 96, 60, 42, 180, 0, 41, 42, 180, 0, 32, 28, 46, 92, 46, 4, 96]
abbrev dktX8_counts_2 : List UInt8 := dkwX8_counts_2 ++ dktX8_counts_3
def dkwX8_counts_1 : List UInt8 := [61, 28, 42, 180, 0, 7, 8, 46, 162, 0, 46, 27, 42, 180, 0, 41, 42, 180, 0, 32, 28, 46, 46]
abbrev dktX8_counts_1 : List UInt8 := dkwX8_counts_1 ++ dktX8_counts_2
def dkwX8_counts_0 : List UInt8 := [3, 60, 3, 61, 28, 16, 32, 162, 0, 16, 42, 180, 0, 41, 28, 3, 79, 132, 2, 1, 167, 255, 240, 3]
abbrev dktX8_counts_0 : List UInt8 := dkwX8_counts_0 ++ dktX8_counts_1
theorem dksX8_counts_0 : cX8_counts.data.toList.drop 0 = dktX8_counts_0 := by decide +kernel
theorem dksX8_counts_1 : cX8_counts.data.toList.drop 24 = dktX8_counts_1 := dk_seg dksX8_counts_0 24 rfl rfl
theorem dksX8_counts_2 : cX8_counts.data.toList.drop 47 = dktX8_counts_2 := dk_seg dksX8_counts_1 23 rfl rfl
theorem dksX8_counts_3 : cX8_counts.data.toList.drop 71 = dktX8_counts_3 := dk_seg dksX8_counts_2 24 rfl rfl
theorem dX8_counts_0 : decode cX8_counts 0 = .ok (.iconst 0, 1) := dk_3 (dk_at dksX8_counts_0 0 rfl rfl)
theorem dX8_counts_1 : decode cX8_counts 1 = .ok (.istore_n 1, 1) := dk_60 (dk_at dksX8_counts_0 1 rfl rfl)
theorem dX8_counts_2 : decode cX8_counts 2 = .ok (.iconst 0, 1) := dk_3 (dk_at dksX8_counts_0 2 rfl rfl)
theorem dX8_counts_3 : decode cX8_counts 3 = .ok (.istore_n 2, 1) := dk_61 (dk_at dksX8_counts_0 3 rfl rfl)
theorem dX8_counts_4 : decode cX8_counts 4 = .ok (.iload_n 2, 1) := dk_28 (dk_at dksX8_counts_0 4 rfl rfl)
theorem dX8_counts_5 : decode cX8_counts 5 = .ok (.bipush 32, 2) := dk_16 32 (dk_at dksX8_counts_0 5 rfl rfl)
theorem dX8_counts_7 : decode cX8_counts 7 = .ok (.if_icmp .ge 16, 3) := dk_162 0 16 (dk_at dksX8_counts_0 7 rfl rfl)
theorem dX8_counts_10 : decode cX8_counts 10 = .ok (.aload_n 0, 1) := dk_42 (dk_at dksX8_counts_0 10 rfl rfl)
theorem dX8_counts_11 : decode cX8_counts 11 = .ok (.getfield 41, 3) := dk_180 0 41 (dk_at dksX8_counts_0 11 rfl rfl)
theorem dX8_counts_14 : decode cX8_counts 14 = .ok (.iload_n 2, 1) := dk_28 (dk_at dksX8_counts_0 14 rfl rfl)
theorem dX8_counts_15 : decode cX8_counts 15 = .ok (.iconst 0, 1) := dk_3 (dk_at dksX8_counts_0 15 rfl rfl)
theorem dX8_counts_16 : decode cX8_counts 16 = .ok (.iastore, 1) := dk_79 (dk_at dksX8_counts_0 16 rfl rfl)
theorem dX8_counts_17 : decode cX8_counts 17 = .ok (.iinc 2 1, 3) := dk_132 2 1 (dk_at dksX8_counts_0 17 rfl rfl)
theorem dX8_counts_20 : decode cX8_counts 20 = .ok (.goto (-16), 3) := dk_167 255 240 (dk_at dksX8_counts_0 20 rfl rfl)
theorem dX8_counts_23 : decode cX8_counts 23 = .ok (.iconst 0, 1) := dk_3 (dk_at dksX8_counts_0 23 rfl rfl)
theorem dX8_counts_24 : decode cX8_counts 24 = .ok (.istore_n 2, 1) := dk_61 (dk_at dksX8_counts_1 0 rfl rfl)
theorem dX8_counts_25 : decode cX8_counts 25 = .ok (.iload_n 2, 1) := dk_28 (dk_at dksX8_counts_1 1 rfl rfl)
theorem dX8_counts_26 : decode cX8_counts 26 = .ok (.aload_n 0, 1) := dk_42 (dk_at dksX8_counts_1 2 rfl rfl)
theorem dX8_counts_27 : decode cX8_counts 27 = .ok (.getfield 7, 3) := dk_180 0 7 (dk_at dksX8_counts_1 3 rfl rfl)
theorem dX8_counts_30 : decode cX8_counts 30 = .ok (.iconst 5, 1) := dk_8 (dk_at dksX8_counts_1 6 rfl rfl)
theorem dX8_counts_31 : decode cX8_counts 31 = .ok (.iaload, 1) := dk_46 (dk_at dksX8_counts_1 7 rfl rfl)
theorem dX8_counts_32 : decode cX8_counts 32 = .ok (.if_icmp .ge 46, 3) := dk_162 0 46 (dk_at dksX8_counts_1 8 rfl rfl)
theorem dX8_counts_35 : decode cX8_counts 35 = .ok (.iload_n 1, 1) := dk_27 (dk_at dksX8_counts_1 11 rfl rfl)
theorem dX8_counts_36 : decode cX8_counts 36 = .ok (.aload_n 0, 1) := dk_42 (dk_at dksX8_counts_1 12 rfl rfl)
theorem dX8_counts_37 : decode cX8_counts 37 = .ok (.getfield 41, 3) := dk_180 0 41 (dk_at dksX8_counts_1 13 rfl rfl)
theorem dX8_counts_40 : decode cX8_counts 40 = .ok (.aload_n 0, 1) := dk_42 (dk_at dksX8_counts_1 16 rfl rfl)
theorem dX8_counts_41 : decode cX8_counts 41 = .ok (.getfield 32, 3) := dk_180 0 32 (dk_at dksX8_counts_1 17 rfl rfl)
theorem dX8_counts_44 : decode cX8_counts 44 = .ok (.iload_n 2, 1) := dk_28 (dk_at dksX8_counts_1 20 rfl rfl)
theorem dX8_counts_45 : decode cX8_counts 45 = .ok (.iaload, 1) := dk_46 (dk_at dksX8_counts_1 21 rfl rfl)
theorem dX8_counts_46 : decode cX8_counts 46 = .ok (.iaload, 1) := dk_46 (dk_at dksX8_counts_1 22 rfl rfl)
theorem dX8_counts_47 : decode cX8_counts 47 = .ok (.ifCond .ne 7, 3) := dk_154 0 7 (dk_at dksX8_counts_2 0 rfl rfl)
theorem dX8_counts_50 : decode cX8_counts 50 = .ok (.iconst 1, 1) := dk_4 (dk_at dksX8_counts_2 3 rfl rfl)
theorem dX8_counts_51 : decode cX8_counts 51 = .ok (.goto 4, 3) := dk_167 0 4 (dk_at dksX8_counts_2 4 rfl rfl)
theorem dX8_counts_54 : decode cX8_counts 54 = .ok (.iconst 0, 1) := dk_3 (dk_at dksX8_counts_2 7 rfl rfl)
theorem dX8_counts_55 : decode cX8_counts 55 = .ok (.iadd, 1) := dk_96 (dk_at dksX8_counts_2 8 rfl rfl)
theorem dX8_counts_56 : decode cX8_counts 56 = .ok (.istore_n 1, 1) := dk_60 (dk_at dksX8_counts_2 9 rfl rfl)
theorem dX8_counts_57 : decode cX8_counts 57 = .ok (.aload_n 0, 1) := dk_42 (dk_at dksX8_counts_2 10 rfl rfl)
theorem dX8_counts_58 : decode cX8_counts 58 = .ok (.getfield 41, 3) := dk_180 0 41 (dk_at dksX8_counts_2 11 rfl rfl)
theorem dX8_counts_61 : decode cX8_counts 61 = .ok (.aload_n 0, 1) := dk_42 (dk_at dksX8_counts_2 14 rfl rfl)
theorem dX8_counts_62 : decode cX8_counts 62 = .ok (.getfield 32, 3) := dk_180 0 32 (dk_at dksX8_counts_2 15 rfl rfl)
theorem dX8_counts_65 : decode cX8_counts 65 = .ok (.iload_n 2, 1) := dk_28 (dk_at dksX8_counts_2 18 rfl rfl)
theorem dX8_counts_66 : decode cX8_counts 66 = .ok (.iaload, 1) := dk_46 (dk_at dksX8_counts_2 19 rfl rfl)
theorem dX8_counts_67 : decode cX8_counts 67 = .ok (.dup2, 1) := dk_92 (dk_at dksX8_counts_2 20 rfl rfl)
theorem dX8_counts_68 : decode cX8_counts 68 = .ok (.iaload, 1) := dk_46 (dk_at dksX8_counts_2 21 rfl rfl)
theorem dX8_counts_69 : decode cX8_counts 69 = .ok (.iconst 1, 1) := dk_4 (dk_at dksX8_counts_2 22 rfl rfl)
theorem dX8_counts_70 : decode cX8_counts 70 = .ok (.iadd, 1) := dk_96 (dk_at dksX8_counts_2 23 rfl rfl)
theorem dX8_counts_71 : decode cX8_counts 71 = .ok (.iastore, 1) := dk_79 (dk_at dksX8_counts_3 0 rfl rfl)
theorem dX8_counts_72 : decode cX8_counts 72 = .ok (.iinc 2 1, 3) := dk_132 2 1 (dk_at dksX8_counts_3 1 rfl rfl)
theorem dX8_counts_75 : decode cX8_counts 75 = .ok (.goto (-50), 3) := dk_167 255 206 (dk_at dksX8_counts_3 4 rfl rfl)
theorem dX8_counts_78 : decode cX8_counts 78 = .ok (.iload_n 1, 1) := dk_27 (dk_at dksX8_counts_3 7 rfl rfl)
theorem dX8_counts_79 : decode cX8_counts 79 = .ok (.ireturn, 1) := dk_172 (dk_at dksX8_counts_3 8 rfl rfl)
abbrev cX8_custom : ByteArray := prog_23_method_100_code
def yX8_custom : MethodName := ⟨RX8, "custom", "(II)I"⟩
def dkwX8_custom_2 : List UInt8 := [182, 1, 107, 42, 180, 0, 32, 27, 46, 172]
abbrev dktX8_custom_2 : List UInt8 := dkwX8_custom_2 ++ []
def dkwX8_custom_1 : List UInt8 := [167, 0, 4, 3, 181, 0, 56, 42, 180, 0, 56, 158, 0, 5, 3, 172, 42, 3, 3, 182, 1, 104, 42, 28]
abbrev dktX8_custom_1 : List UInt8 := dkwX8_custom_1 ++ dktX8_custom_2
def dkwX8_custom_0 : List UInt8 := [42, 42, 27, 182, 1, 15, 154, 0, 7, 4, 167, 0, 18, 28, 3, 16, 60, 184, 0, 59, 154, 0, 7, 5]
abbrev dktX8_custom_0 : List UInt8 := dkwX8_custom_0 ++ dktX8_custom_1
theorem dksX8_custom_0 : cX8_custom.data.toList.drop 0 = dktX8_custom_0 := by decide +kernel
theorem dksX8_custom_1 : cX8_custom.data.toList.drop 24 = dktX8_custom_1 := dk_seg dksX8_custom_0 24 rfl rfl
theorem dksX8_custom_2 : cX8_custom.data.toList.drop 48 = dktX8_custom_2 := dk_seg dksX8_custom_1 24 rfl rfl
theorem dX8_custom_0 : decode cX8_custom 0 = .ok (.aload_n 0, 1) := dk_42 (dk_at dksX8_custom_0 0 rfl rfl)
theorem dX8_custom_1 : decode cX8_custom 1 = .ok (.aload_n 0, 1) := dk_42 (dk_at dksX8_custom_0 1 rfl rfl)
theorem dX8_custom_2 : decode cX8_custom 2 = .ok (.iload_n 1, 1) := dk_27 (dk_at dksX8_custom_0 2 rfl rfl)
theorem dX8_custom_3 : decode cX8_custom 3 = .ok (.invokevirtual 271, 3) := dk_182 1 15 (dk_at dksX8_custom_0 3 rfl rfl)
theorem dX8_custom_6 : decode cX8_custom 6 = .ok (.ifCond .ne 7, 3) := dk_154 0 7 (dk_at dksX8_custom_0 6 rfl rfl)
theorem dX8_custom_9 : decode cX8_custom 9 = .ok (.iconst 1, 1) := dk_4 (dk_at dksX8_custom_0 9 rfl rfl)
theorem dX8_custom_10 : decode cX8_custom 10 = .ok (.goto 18, 3) := dk_167 0 18 (dk_at dksX8_custom_0 10 rfl rfl)
theorem dX8_custom_13 : decode cX8_custom 13 = .ok (.iload_n 2, 1) := dk_28 (dk_at dksX8_custom_0 13 rfl rfl)
theorem dX8_custom_14 : decode cX8_custom 14 = .ok (.iconst 0, 1) := dk_3 (dk_at dksX8_custom_0 14 rfl rfl)
theorem dX8_custom_15 : decode cX8_custom 15 = .ok (.bipush 60, 2) := dk_16 60 (dk_at dksX8_custom_0 15 rfl rfl)
theorem dX8_custom_17 : decode cX8_custom 17 = .ok (.invokestatic 59, 3) := dk_184 0 59 (dk_at dksX8_custom_0 17 rfl rfl)
theorem dX8_custom_20 : decode cX8_custom 20 = .ok (.ifCond .ne 7, 3) := dk_154 0 7 (dk_at dksX8_custom_0 20 rfl rfl)
theorem dX8_custom_23 : decode cX8_custom 23 = .ok (.iconst 2, 1) := dk_5 (dk_at dksX8_custom_0 23 rfl rfl)
theorem dX8_custom_24 : decode cX8_custom 24 = .ok (.goto 4, 3) := dk_167 0 4 (dk_at dksX8_custom_1 0 rfl rfl)
theorem dX8_custom_27 : decode cX8_custom 27 = .ok (.iconst 0, 1) := dk_3 (dk_at dksX8_custom_1 3 rfl rfl)
theorem dX8_custom_28 : decode cX8_custom 28 = .ok (.putfield 56, 3) := dk_181 0 56 (dk_at dksX8_custom_1 4 rfl rfl)
theorem dX8_custom_31 : decode cX8_custom 31 = .ok (.aload_n 0, 1) := dk_42 (dk_at dksX8_custom_1 7 rfl rfl)
theorem dX8_custom_32 : decode cX8_custom 32 = .ok (.getfield 56, 3) := dk_180 0 56 (dk_at dksX8_custom_1 8 rfl rfl)
theorem dX8_custom_35 : decode cX8_custom 35 = .ok (.ifCond .le 5, 3) := dk_158 0 5 (dk_at dksX8_custom_1 11 rfl rfl)
theorem dX8_custom_38 : decode cX8_custom 38 = .ok (.iconst 0, 1) := dk_3 (dk_at dksX8_custom_1 14 rfl rfl)
theorem dX8_custom_39 : decode cX8_custom 39 = .ok (.ireturn, 1) := dk_172 (dk_at dksX8_custom_1 15 rfl rfl)
theorem dX8_custom_40 : decode cX8_custom 40 = .ok (.aload_n 0, 1) := dk_42 (dk_at dksX8_custom_1 16 rfl rfl)
theorem dX8_custom_41 : decode cX8_custom 41 = .ok (.iconst 0, 1) := dk_3 (dk_at dksX8_custom_1 17 rfl rfl)
theorem dX8_custom_42 : decode cX8_custom 42 = .ok (.iconst 0, 1) := dk_3 (dk_at dksX8_custom_1 18 rfl rfl)
theorem dX8_custom_43 : decode cX8_custom 43 = .ok (.invokevirtual 360, 3) := dk_182 1 104 (dk_at dksX8_custom_1 19 rfl rfl)
theorem dX8_custom_46 : decode cX8_custom 46 = .ok (.aload_n 0, 1) := dk_42 (dk_at dksX8_custom_1 22 rfl rfl)
theorem dX8_custom_47 : decode cX8_custom 47 = .ok (.iload_n 2, 1) := dk_28 (dk_at dksX8_custom_1 23 rfl rfl)
theorem dX8_custom_48 : decode cX8_custom 48 = .ok (.invokevirtual 363, 3) := dk_182 1 107 (dk_at dksX8_custom_2 0 rfl rfl)
theorem dX8_custom_51 : decode cX8_custom 51 = .ok (.aload_n 0, 1) := dk_42 (dk_at dksX8_custom_2 3 rfl rfl)
theorem dX8_custom_52 : decode cX8_custom 52 = .ok (.getfield 32, 3) := dk_180 0 32 (dk_at dksX8_custom_2 4 rfl rfl)
theorem dX8_custom_55 : decode cX8_custom 55 = .ok (.iload_n 1, 1) := dk_27 (dk_at dksX8_custom_2 7 rfl rfl)
theorem dX8_custom_56 : decode cX8_custom 56 = .ok (.iaload, 1) := dk_46 (dk_at dksX8_custom_2 8 rfl rfl)
theorem dX8_custom_57 : decode cX8_custom 57 = .ok (.ireturn, 1) := dk_172 (dk_at dksX8_custom_2 9 rfl rfl)
abbrev cX8_still : ByteArray := prog_23_method_101_code
def yX8_still : MethodName := ⟨RX8, "still", "()I"⟩
def dkwX8_still_1 : List UInt8 := [154, 0, 5, 27, 172, 132, 1, 1, 167, 255, 238, 2, 172]
abbrev dktX8_still_1 : List UInt8 := dkwX8_still_1 ++ []
def dkwX8_still_0 : List UInt8 := [42, 3, 181, 0, 56, 42, 3, 3, 182, 1, 104, 3, 60, 27, 16, 60, 163, 0, 18, 42, 182, 1, 101]
abbrev dktX8_still_0 : List UInt8 := dkwX8_still_0 ++ dktX8_still_1
theorem dksX8_still_0 : cX8_still.data.toList.drop 0 = dktX8_still_0 := by decide +kernel
theorem dksX8_still_1 : cX8_still.data.toList.drop 23 = dktX8_still_1 := dk_seg dksX8_still_0 23 rfl rfl
theorem dX8_still_0 : decode cX8_still 0 = .ok (.aload_n 0, 1) := dk_42 (dk_at dksX8_still_0 0 rfl rfl)
theorem dX8_still_1 : decode cX8_still 1 = .ok (.iconst 0, 1) := dk_3 (dk_at dksX8_still_0 1 rfl rfl)
theorem dX8_still_2 : decode cX8_still 2 = .ok (.putfield 56, 3) := dk_181 0 56 (dk_at dksX8_still_0 2 rfl rfl)
theorem dX8_still_5 : decode cX8_still 5 = .ok (.aload_n 0, 1) := dk_42 (dk_at dksX8_still_0 5 rfl rfl)
theorem dX8_still_6 : decode cX8_still 6 = .ok (.iconst 0, 1) := dk_3 (dk_at dksX8_still_0 6 rfl rfl)
theorem dX8_still_7 : decode cX8_still 7 = .ok (.iconst 0, 1) := dk_3 (dk_at dksX8_still_0 7 rfl rfl)
theorem dX8_still_8 : decode cX8_still 8 = .ok (.invokevirtual 360, 3) := dk_182 1 104 (dk_at dksX8_still_0 8 rfl rfl)
theorem dX8_still_11 : decode cX8_still 11 = .ok (.iconst 0, 1) := dk_3 (dk_at dksX8_still_0 11 rfl rfl)
theorem dX8_still_12 : decode cX8_still 12 = .ok (.istore_n 1, 1) := dk_60 (dk_at dksX8_still_0 12 rfl rfl)
theorem dX8_still_13 : decode cX8_still 13 = .ok (.iload_n 1, 1) := dk_27 (dk_at dksX8_still_0 13 rfl rfl)
theorem dX8_still_14 : decode cX8_still 14 = .ok (.bipush 60, 2) := dk_16 60 (dk_at dksX8_still_0 14 rfl rfl)
theorem dX8_still_16 : decode cX8_still 16 = .ok (.if_icmp .gt 18, 3) := dk_163 0 18 (dk_at dksX8_still_0 16 rfl rfl)
theorem dX8_still_19 : decode cX8_still 19 = .ok (.aload_n 0, 1) := dk_42 (dk_at dksX8_still_0 19 rfl rfl)
theorem dX8_still_20 : decode cX8_still 20 = .ok (.invokevirtual 357, 3) := dk_182 1 101 (dk_at dksX8_still_0 20 rfl rfl)
theorem dX8_still_23 : decode cX8_still 23 = .ok (.ifCond .ne 5, 3) := dk_154 0 5 (dk_at dksX8_still_1 0 rfl rfl)
theorem dX8_still_26 : decode cX8_still 26 = .ok (.iload_n 1, 1) := dk_27 (dk_at dksX8_still_1 3 rfl rfl)
theorem dX8_still_27 : decode cX8_still 27 = .ok (.ireturn, 1) := dk_172 (dk_at dksX8_still_1 4 rfl rfl)
theorem dX8_still_28 : decode cX8_still 28 = .ok (.iinc 1 1, 3) := dk_132 1 1 (dk_at dksX8_still_1 5 rfl rfl)
theorem dX8_still_31 : decode cX8_still 31 = .ok (.goto (-18), 3) := dk_167 255 238 (dk_at dksX8_still_1 8 rfl rfl)
theorem dX8_still_34 : decode cX8_still 34 = .ok (.iconst (-1), 1) := dk_2 (dk_at dksX8_still_1 11 rfl rfl)
theorem dX8_still_35 : decode cX8_still 35 = .ok (.ireturn, 1) := dk_172 (dk_at dksX8_still_1 12 rfl rfl)
abbrev cX8_told : ByteArray := prog_23_method_103_code
def yX8_told : MethodName := ⟨RX8, "told", "(II)I"⟩
def dkwX8_told_4 : List UInt8 := [167, 255, 206, 29, 172]
abbrev dktX8_told_4 : List UInt8 := dkwX8_told_4 ++ []
def dkwX8_told_3 : List UInt8 := [161, 0, 6, 167, 0, 17, 42, 21, 4, 27, 28, 182, 1, 113, 153, 0, 6, 21, 4, 62, 132, 4, 1]
abbrev dktX8_told_3 : List UInt8 := dkwX8_told_3 ++ dktX8_told_4
def dkwX8_told_2 : List UInt8 := [42, 180, 0, 7, 8, 46, 120, 162, 0, 43, 29, 2, 159, 0, 18, 21, 4, 184, 1, 84, 29, 184, 1, 84]
abbrev dktX8_told_2 : List UInt8 := dkwX8_told_2 ++ dktX8_told_3
def dkwX8_told_1 : List UInt8 := [167, 0, 4, 3, 181, 0, 56, 42, 180, 0, 56, 158, 0, 5, 3, 172, 2, 62, 3, 54, 4, 21, 4, 4]
abbrev dktX8_told_1 : List UInt8 := dkwX8_told_1 ++ dktX8_told_2
def dkwX8_told_0 : List UInt8 := [42, 27, 184, 1, 4, 154, 0, 7, 4, 167, 0, 18, 28, 3, 16, 60, 184, 0, 59, 154, 0, 7, 5]
abbrev dktX8_told_0 : List UInt8 := dkwX8_told_0 ++ dktX8_told_1
theorem dksX8_told_0 : cX8_told.data.toList.drop 0 = dktX8_told_0 := by decide +kernel
theorem dksX8_told_1 : cX8_told.data.toList.drop 23 = dktX8_told_1 := dk_seg dksX8_told_0 23 rfl rfl
theorem dksX8_told_2 : cX8_told.data.toList.drop 47 = dktX8_told_2 := dk_seg dksX8_told_1 24 rfl rfl
theorem dksX8_told_3 : cX8_told.data.toList.drop 71 = dktX8_told_3 := dk_seg dksX8_told_2 24 rfl rfl
theorem dksX8_told_4 : cX8_told.data.toList.drop 94 = dktX8_told_4 := dk_seg dksX8_told_3 23 rfl rfl
theorem dX8_told_0 : decode cX8_told 0 = .ok (.aload_n 0, 1) := dk_42 (dk_at dksX8_told_0 0 rfl rfl)
theorem dX8_told_1 : decode cX8_told 1 = .ok (.iload_n 1, 1) := dk_27 (dk_at dksX8_told_0 1 rfl rfl)
theorem dX8_told_2 : decode cX8_told 2 = .ok (.invokestatic 260, 3) := dk_184 1 4 (dk_at dksX8_told_0 2 rfl rfl)
theorem dX8_told_5 : decode cX8_told 5 = .ok (.ifCond .ne 7, 3) := dk_154 0 7 (dk_at dksX8_told_0 5 rfl rfl)
theorem dX8_told_8 : decode cX8_told 8 = .ok (.iconst 1, 1) := dk_4 (dk_at dksX8_told_0 8 rfl rfl)
theorem dX8_told_9 : decode cX8_told 9 = .ok (.goto 18, 3) := dk_167 0 18 (dk_at dksX8_told_0 9 rfl rfl)
theorem dX8_told_12 : decode cX8_told 12 = .ok (.iload_n 2, 1) := dk_28 (dk_at dksX8_told_0 12 rfl rfl)
theorem dX8_told_13 : decode cX8_told 13 = .ok (.iconst 0, 1) := dk_3 (dk_at dksX8_told_0 13 rfl rfl)
theorem dX8_told_14 : decode cX8_told 14 = .ok (.bipush 60, 2) := dk_16 60 (dk_at dksX8_told_0 14 rfl rfl)
theorem dX8_told_16 : decode cX8_told 16 = .ok (.invokestatic 59, 3) := dk_184 0 59 (dk_at dksX8_told_0 16 rfl rfl)
theorem dX8_told_19 : decode cX8_told 19 = .ok (.ifCond .ne 7, 3) := dk_154 0 7 (dk_at dksX8_told_0 19 rfl rfl)
theorem dX8_told_22 : decode cX8_told 22 = .ok (.iconst 2, 1) := dk_5 (dk_at dksX8_told_0 22 rfl rfl)
theorem dX8_told_23 : decode cX8_told 23 = .ok (.goto 4, 3) := dk_167 0 4 (dk_at dksX8_told_1 0 rfl rfl)
theorem dX8_told_26 : decode cX8_told 26 = .ok (.iconst 0, 1) := dk_3 (dk_at dksX8_told_1 3 rfl rfl)
theorem dX8_told_27 : decode cX8_told 27 = .ok (.putfield 56, 3) := dk_181 0 56 (dk_at dksX8_told_1 4 rfl rfl)
theorem dX8_told_30 : decode cX8_told 30 = .ok (.aload_n 0, 1) := dk_42 (dk_at dksX8_told_1 7 rfl rfl)
theorem dX8_told_31 : decode cX8_told 31 = .ok (.getfield 56, 3) := dk_180 0 56 (dk_at dksX8_told_1 8 rfl rfl)
theorem dX8_told_34 : decode cX8_told 34 = .ok (.ifCond .le 5, 3) := dk_158 0 5 (dk_at dksX8_told_1 11 rfl rfl)
theorem dX8_told_37 : decode cX8_told 37 = .ok (.iconst 0, 1) := dk_3 (dk_at dksX8_told_1 14 rfl rfl)
theorem dX8_told_38 : decode cX8_told 38 = .ok (.ireturn, 1) := dk_172 (dk_at dksX8_told_1 15 rfl rfl)
theorem dX8_told_39 : decode cX8_told 39 = .ok (.iconst (-1), 1) := dk_2 (dk_at dksX8_told_1 16 rfl rfl)
theorem dX8_told_40 : decode cX8_told 40 = .ok (.istore_n 3, 1) := dk_62 (dk_at dksX8_told_1 17 rfl rfl)
theorem dX8_told_41 : decode cX8_told 41 = .ok (.iconst 0, 1) := dk_3 (dk_at dksX8_told_1 18 rfl rfl)
theorem dX8_told_42 : decode cX8_told 42 = .ok (.istore 4, 2) := dk_54 4 (dk_at dksX8_told_1 19 rfl rfl)
theorem dX8_told_44 : decode cX8_told 44 = .ok (.iload 4, 2) := dk_21 4 (dk_at dksX8_told_1 21 rfl rfl)
theorem dX8_told_46 : decode cX8_told 46 = .ok (.iconst 1, 1) := dk_4 (dk_at dksX8_told_1 23 rfl rfl)
theorem dX8_told_47 : decode cX8_told 47 = .ok (.aload_n 0, 1) := dk_42 (dk_at dksX8_told_2 0 rfl rfl)
theorem dX8_told_48 : decode cX8_told 48 = .ok (.getfield 7, 3) := dk_180 0 7 (dk_at dksX8_told_2 1 rfl rfl)
theorem dX8_told_51 : decode cX8_told 51 = .ok (.iconst 5, 1) := dk_8 (dk_at dksX8_told_2 4 rfl rfl)
theorem dX8_told_52 : decode cX8_told 52 = .ok (.iaload, 1) := dk_46 (dk_at dksX8_told_2 5 rfl rfl)
theorem dX8_told_53 : decode cX8_told 53 = .ok (.ishl, 1) := dk_120 (dk_at dksX8_told_2 6 rfl rfl)
theorem dX8_told_54 : decode cX8_told 54 = .ok (.if_icmp .ge 43, 3) := dk_162 0 43 (dk_at dksX8_told_2 7 rfl rfl)
theorem dX8_told_57 : decode cX8_told 57 = .ok (.iload_n 3, 1) := dk_29 (dk_at dksX8_told_2 10 rfl rfl)
theorem dX8_told_58 : decode cX8_told 58 = .ok (.iconst (-1), 1) := dk_2 (dk_at dksX8_told_2 11 rfl rfl)
theorem dX8_told_59 : decode cX8_told 59 = .ok (.if_icmp .eq 18, 3) := dk_159 0 18 (dk_at dksX8_told_2 12 rfl rfl)
theorem dX8_told_62 : decode cX8_told 62 = .ok (.iload 4, 2) := dk_21 4 (dk_at dksX8_told_2 15 rfl rfl)
theorem dX8_told_64 : decode cX8_told 64 = .ok (.invokestatic 340, 3) := dk_184 1 84 (dk_at dksX8_told_2 17 rfl rfl)
theorem dX8_told_67 : decode cX8_told 67 = .ok (.iload_n 3, 1) := dk_29 (dk_at dksX8_told_2 20 rfl rfl)
theorem dX8_told_68 : decode cX8_told 68 = .ok (.invokestatic 340, 3) := dk_184 1 84 (dk_at dksX8_told_2 21 rfl rfl)
theorem dX8_told_71 : decode cX8_told 71 = .ok (.if_icmp .lt 6, 3) := dk_161 0 6 (dk_at dksX8_told_3 0 rfl rfl)
theorem dX8_told_74 : decode cX8_told 74 = .ok (.goto 17, 3) := dk_167 0 17 (dk_at dksX8_told_3 3 rfl rfl)
theorem dX8_told_77 : decode cX8_told 77 = .ok (.aload_n 0, 1) := dk_42 (dk_at dksX8_told_3 6 rfl rfl)
theorem dX8_told_78 : decode cX8_told 78 = .ok (.iload 4, 2) := dk_21 4 (dk_at dksX8_told_3 7 rfl rfl)
theorem dX8_told_80 : decode cX8_told 80 = .ok (.iload_n 1, 1) := dk_27 (dk_at dksX8_told_3 9 rfl rfl)
theorem dX8_told_81 : decode cX8_told 81 = .ok (.iload_n 2, 1) := dk_28 (dk_at dksX8_told_3 10 rfl rfl)
theorem dX8_told_82 : decode cX8_told 82 = .ok (.invokevirtual 369, 3) := dk_182 1 113 (dk_at dksX8_told_3 11 rfl rfl)
theorem dX8_told_85 : decode cX8_told 85 = .ok (.ifCond .eq 6, 3) := dk_153 0 6 (dk_at dksX8_told_3 14 rfl rfl)
theorem dX8_told_88 : decode cX8_told 88 = .ok (.iload 4, 2) := dk_21 4 (dk_at dksX8_told_3 17 rfl rfl)
theorem dX8_told_90 : decode cX8_told 90 = .ok (.istore_n 3, 1) := dk_62 (dk_at dksX8_told_3 19 rfl rfl)
theorem dX8_told_91 : decode cX8_told 91 = .ok (.iinc 4 1, 3) := dk_132 4 1 (dk_at dksX8_told_3 20 rfl rfl)
theorem dX8_told_94 : decode cX8_told 94 = .ok (.goto (-50), 3) := dk_167 255 206 (dk_at dksX8_told_4 0 rfl rfl)
theorem dX8_told_97 : decode cX8_told 97 = .ok (.iload_n 3, 1) := dk_29 (dk_at dksX8_told_4 3 rfl rfl)
theorem dX8_told_98 : decode cX8_told 98 = .ok (.ireturn, 1) := dk_172 (dk_at dksX8_told_4 4 rfl rfl)
abbrev cX8_wins : ByteArray := prog_23_method_102_code
def yX8_wins : MethodName := ⟨RX8, "wins", "(III)Z"⟩
def dkwX8_wins_1 : List UInt8 := [162, 0, 22, 42, 180, 0, 32, 21, 4, 46, 28, 159, 0, 5, 3, 172, 132, 4, 1, 167, 255, 229, 4, 172]
abbrev dktX8_wins_1 : List UInt8 := dkwX8_wins_1 ++ []
def dkwX8_wins_0 : List UInt8 := [42, 27, 28, 182, 1, 104, 42, 29, 182, 1, 107, 3, 54, 4, 21, 4, 42, 180, 0, 7, 8, 46]
abbrev dktX8_wins_0 : List UInt8 := dkwX8_wins_0 ++ dktX8_wins_1
theorem dksX8_wins_0 : cX8_wins.data.toList.drop 0 = dktX8_wins_0 := by decide +kernel
theorem dksX8_wins_1 : cX8_wins.data.toList.drop 22 = dktX8_wins_1 := dk_seg dksX8_wins_0 22 rfl rfl
theorem dX8_wins_0 : decode cX8_wins 0 = .ok (.aload_n 0, 1) := dk_42 (dk_at dksX8_wins_0 0 rfl rfl)
theorem dX8_wins_1 : decode cX8_wins 1 = .ok (.iload_n 1, 1) := dk_27 (dk_at dksX8_wins_0 1 rfl rfl)
theorem dX8_wins_2 : decode cX8_wins 2 = .ok (.iload_n 2, 1) := dk_28 (dk_at dksX8_wins_0 2 rfl rfl)
theorem dX8_wins_3 : decode cX8_wins 3 = .ok (.invokevirtual 360, 3) := dk_182 1 104 (dk_at dksX8_wins_0 3 rfl rfl)
theorem dX8_wins_6 : decode cX8_wins 6 = .ok (.aload_n 0, 1) := dk_42 (dk_at dksX8_wins_0 6 rfl rfl)
theorem dX8_wins_7 : decode cX8_wins 7 = .ok (.iload_n 3, 1) := dk_29 (dk_at dksX8_wins_0 7 rfl rfl)
theorem dX8_wins_8 : decode cX8_wins 8 = .ok (.invokevirtual 363, 3) := dk_182 1 107 (dk_at dksX8_wins_0 8 rfl rfl)
theorem dX8_wins_11 : decode cX8_wins 11 = .ok (.iconst 0, 1) := dk_3 (dk_at dksX8_wins_0 11 rfl rfl)
theorem dX8_wins_12 : decode cX8_wins 12 = .ok (.istore 4, 2) := dk_54 4 (dk_at dksX8_wins_0 12 rfl rfl)
theorem dX8_wins_14 : decode cX8_wins 14 = .ok (.iload 4, 2) := dk_21 4 (dk_at dksX8_wins_0 14 rfl rfl)
theorem dX8_wins_16 : decode cX8_wins 16 = .ok (.aload_n 0, 1) := dk_42 (dk_at dksX8_wins_0 16 rfl rfl)
theorem dX8_wins_17 : decode cX8_wins 17 = .ok (.getfield 7, 3) := dk_180 0 7 (dk_at dksX8_wins_0 17 rfl rfl)
theorem dX8_wins_20 : decode cX8_wins 20 = .ok (.iconst 5, 1) := dk_8 (dk_at dksX8_wins_0 20 rfl rfl)
theorem dX8_wins_21 : decode cX8_wins 21 = .ok (.iaload, 1) := dk_46 (dk_at dksX8_wins_0 21 rfl rfl)
theorem dX8_wins_22 : decode cX8_wins 22 = .ok (.if_icmp .ge 22, 3) := dk_162 0 22 (dk_at dksX8_wins_1 0 rfl rfl)
theorem dX8_wins_25 : decode cX8_wins 25 = .ok (.aload_n 0, 1) := dk_42 (dk_at dksX8_wins_1 3 rfl rfl)
theorem dX8_wins_26 : decode cX8_wins 26 = .ok (.getfield 32, 3) := dk_180 0 32 (dk_at dksX8_wins_1 4 rfl rfl)
theorem dX8_wins_29 : decode cX8_wins 29 = .ok (.iload 4, 2) := dk_21 4 (dk_at dksX8_wins_1 7 rfl rfl)
theorem dX8_wins_31 : decode cX8_wins 31 = .ok (.iaload, 1) := dk_46 (dk_at dksX8_wins_1 9 rfl rfl)
theorem dX8_wins_32 : decode cX8_wins 32 = .ok (.iload_n 2, 1) := dk_28 (dk_at dksX8_wins_1 10 rfl rfl)
theorem dX8_wins_33 : decode cX8_wins 33 = .ok (.if_icmp .eq 5, 3) := dk_159 0 5 (dk_at dksX8_wins_1 11 rfl rfl)
theorem dX8_wins_36 : decode cX8_wins 36 = .ok (.iconst 0, 1) := dk_3 (dk_at dksX8_wins_1 14 rfl rfl)
theorem dX8_wins_37 : decode cX8_wins 37 = .ok (.ireturn, 1) := dk_172 (dk_at dksX8_wins_1 15 rfl rfl)
theorem dX8_wins_38 : decode cX8_wins 38 = .ok (.iinc 4 1, 3) := dk_132 4 1 (dk_at dksX8_wins_1 16 rfl rfl)
theorem dX8_wins_41 : decode cX8_wins 41 = .ok (.goto (-27), 3) := dk_167 255 229 (dk_at dksX8_wins_1 19 rfl rfl)
theorem dX8_wins_44 : decode cX8_wins 44 = .ok (.iconst 1, 1) := dk_4 (dk_at dksX8_wins_1 22 rfl rfl)
theorem dX8_wins_45 : decode cX8_wins 45 = .ok (.ireturn, 1) := dk_172 (dk_at dksX8_wins_1 23 rfl rfl)
abbrev cX8_colds : ByteArray := prog_23_method_106_code
def yX8_colds : MethodName := ⟨RX8, "colds", "(II)I"⟩
def dkwX8_colds_1 : List UInt8 := [158, 0, 7, 3, 167, 0, 9, 42, 27, 28, 182, 1, 119, 172]
abbrev dktX8_colds_1 : List UInt8 := dkwX8_colds_1 ++ []
def dkwX8_colds_0 : List UInt8 := [42, 28, 3, 16, 20, 184, 0, 59, 154, 0, 7, 4, 167, 0, 4, 3, 181, 0, 56, 42, 180, 0, 56]
abbrev dktX8_colds_0 : List UInt8 := dkwX8_colds_0 ++ dktX8_colds_1
theorem dksX8_colds_0 : cX8_colds.data.toList.drop 0 = dktX8_colds_0 := by decide +kernel
theorem dksX8_colds_1 : cX8_colds.data.toList.drop 23 = dktX8_colds_1 := dk_seg dksX8_colds_0 23 rfl rfl
theorem dX8_colds_0 : decode cX8_colds 0 = .ok (.aload_n 0, 1) := dk_42 (dk_at dksX8_colds_0 0 rfl rfl)
theorem dX8_colds_1 : decode cX8_colds 1 = .ok (.iload_n 2, 1) := dk_28 (dk_at dksX8_colds_0 1 rfl rfl)
theorem dX8_colds_2 : decode cX8_colds 2 = .ok (.iconst 0, 1) := dk_3 (dk_at dksX8_colds_0 2 rfl rfl)
theorem dX8_colds_3 : decode cX8_colds 3 = .ok (.bipush 20, 2) := dk_16 20 (dk_at dksX8_colds_0 3 rfl rfl)
theorem dX8_colds_5 : decode cX8_colds 5 = .ok (.invokestatic 59, 3) := dk_184 0 59 (dk_at dksX8_colds_0 5 rfl rfl)
theorem dX8_colds_8 : decode cX8_colds 8 = .ok (.ifCond .ne 7, 3) := dk_154 0 7 (dk_at dksX8_colds_0 8 rfl rfl)
theorem dX8_colds_11 : decode cX8_colds 11 = .ok (.iconst 1, 1) := dk_4 (dk_at dksX8_colds_0 11 rfl rfl)
theorem dX8_colds_12 : decode cX8_colds 12 = .ok (.goto 4, 3) := dk_167 0 4 (dk_at dksX8_colds_0 12 rfl rfl)
theorem dX8_colds_15 : decode cX8_colds 15 = .ok (.iconst 0, 1) := dk_3 (dk_at dksX8_colds_0 15 rfl rfl)
theorem dX8_colds_16 : decode cX8_colds 16 = .ok (.putfield 56, 3) := dk_181 0 56 (dk_at dksX8_colds_0 16 rfl rfl)
theorem dX8_colds_19 : decode cX8_colds 19 = .ok (.aload_n 0, 1) := dk_42 (dk_at dksX8_colds_0 19 rfl rfl)
theorem dX8_colds_20 : decode cX8_colds 20 = .ok (.getfield 56, 3) := dk_180 0 56 (dk_at dksX8_colds_0 20 rfl rfl)
theorem dX8_colds_23 : decode cX8_colds 23 = .ok (.ifCond .le 7, 3) := dk_158 0 7 (dk_at dksX8_colds_1 0 rfl rfl)
theorem dX8_colds_26 : decode cX8_colds 26 = .ok (.iconst 0, 1) := dk_3 (dk_at dksX8_colds_1 3 rfl rfl)
theorem dX8_colds_27 : decode cX8_colds 27 = .ok (.goto 9, 3) := dk_167 0 9 (dk_at dksX8_colds_1 4 rfl rfl)
theorem dX8_colds_30 : decode cX8_colds 30 = .ok (.aload_n 0, 1) := dk_42 (dk_at dksX8_colds_1 7 rfl rfl)
theorem dX8_colds_31 : decode cX8_colds 31 = .ok (.iload_n 1, 1) := dk_27 (dk_at dksX8_colds_1 8 rfl rfl)
theorem dX8_colds_32 : decode cX8_colds 32 = .ok (.iload_n 2, 1) := dk_28 (dk_at dksX8_colds_1 9 rfl rfl)
theorem dX8_colds_33 : decode cX8_colds 33 = .ok (.invokevirtual 375, 3) := dk_182 1 119 (dk_at dksX8_colds_1 10 rfl rfl)
theorem dX8_colds_36 : decode cX8_colds 36 = .ok (.ireturn, 1) := dk_172 (dk_at dksX8_colds_1 13 rfl rfl)
abbrev cX8_passes : ByteArray := prog_23_method_105_code
def yX8_passes : MethodName := ⟨RX8, "passes", "(II)I"⟩
def dkwX8_passes_3 : List UInt8 := [167, 255, 203, 132, 4, 1, 167, 255, 188, 29, 172]
abbrev dktX8_passes_3 : List UInt8 := dkwX8_passes_3 ++ []
def dkwX8_passes_2 : List UInt8 := [54, 6, 27, 21, 6, 126, 154, 0, 15, 29, 21, 6, 126, 153, 0, 8, 29, 21, 6, 128, 62, 132, 5, 1]
abbrev dktX8_passes_2 : List UInt8 := dkwX8_passes_2 ++ dktX8_passes_3
def dkwX8_passes_1 : List UInt8 := [16, 6, 46, 162, 0, 47, 4, 42, 21, 5, 182, 0, 63, 120, 4, 42, 21, 5, 182, 0, 67, 120, 128]
abbrev dktX8_passes_1 : List UInt8 := dkwX8_passes_1 ++ dktX8_passes_2
def dkwX8_passes_0 : List UInt8 := [42, 182, 1, 116, 62, 3, 54, 4, 21, 4, 28, 162, 0, 68, 3, 54, 5, 21, 5, 42, 180, 0, 7]
abbrev dktX8_passes_0 : List UInt8 := dkwX8_passes_0 ++ dktX8_passes_1
theorem dksX8_passes_0 : cX8_passes.data.toList.drop 0 = dktX8_passes_0 := by decide +kernel
theorem dksX8_passes_1 : cX8_passes.data.toList.drop 23 = dktX8_passes_1 := dk_seg dksX8_passes_0 23 rfl rfl
theorem dksX8_passes_2 : cX8_passes.data.toList.drop 46 = dktX8_passes_2 := dk_seg dksX8_passes_1 23 rfl rfl
theorem dksX8_passes_3 : cX8_passes.data.toList.drop 70 = dktX8_passes_3 := dk_seg dksX8_passes_2 24 rfl rfl
theorem dX8_passes_0 : decode cX8_passes 0 = .ok (.aload_n 0, 1) := dk_42 (dk_at dksX8_passes_0 0 rfl rfl)
theorem dX8_passes_1 : decode cX8_passes 1 = .ok (.invokevirtual 372, 3) := dk_182 1 116 (dk_at dksX8_passes_0 1 rfl rfl)
theorem dX8_passes_4 : decode cX8_passes 4 = .ok (.istore_n 3, 1) := dk_62 (dk_at dksX8_passes_0 4 rfl rfl)
theorem dX8_passes_5 : decode cX8_passes 5 = .ok (.iconst 0, 1) := dk_3 (dk_at dksX8_passes_0 5 rfl rfl)
theorem dX8_passes_6 : decode cX8_passes 6 = .ok (.istore 4, 2) := dk_54 4 (dk_at dksX8_passes_0 6 rfl rfl)
theorem dX8_passes_8 : decode cX8_passes 8 = .ok (.iload 4, 2) := dk_21 4 (dk_at dksX8_passes_0 8 rfl rfl)
theorem dX8_passes_10 : decode cX8_passes 10 = .ok (.iload_n 2, 1) := dk_28 (dk_at dksX8_passes_0 10 rfl rfl)
theorem dX8_passes_11 : decode cX8_passes 11 = .ok (.if_icmp .ge 68, 3) := dk_162 0 68 (dk_at dksX8_passes_0 11 rfl rfl)
theorem dX8_passes_14 : decode cX8_passes 14 = .ok (.iconst 0, 1) := dk_3 (dk_at dksX8_passes_0 14 rfl rfl)
theorem dX8_passes_15 : decode cX8_passes 15 = .ok (.istore 5, 2) := dk_54 5 (dk_at dksX8_passes_0 15 rfl rfl)
theorem dX8_passes_17 : decode cX8_passes 17 = .ok (.iload 5, 2) := dk_21 5 (dk_at dksX8_passes_0 17 rfl rfl)
theorem dX8_passes_19 : decode cX8_passes 19 = .ok (.aload_n 0, 1) := dk_42 (dk_at dksX8_passes_0 19 rfl rfl)
theorem dX8_passes_20 : decode cX8_passes 20 = .ok (.getfield 7, 3) := dk_180 0 7 (dk_at dksX8_passes_0 20 rfl rfl)
theorem dX8_passes_23 : decode cX8_passes 23 = .ok (.bipush 6, 2) := dk_16 6 (dk_at dksX8_passes_1 0 rfl rfl)
theorem dX8_passes_25 : decode cX8_passes 25 = .ok (.iaload, 1) := dk_46 (dk_at dksX8_passes_1 2 rfl rfl)
theorem dX8_passes_26 : decode cX8_passes 26 = .ok (.if_icmp .ge 47, 3) := dk_162 0 47 (dk_at dksX8_passes_1 3 rfl rfl)
theorem dX8_passes_29 : decode cX8_passes 29 = .ok (.iconst 1, 1) := dk_4 (dk_at dksX8_passes_1 6 rfl rfl)
theorem dX8_passes_30 : decode cX8_passes 30 = .ok (.aload_n 0, 1) := dk_42 (dk_at dksX8_passes_1 7 rfl rfl)
theorem dX8_passes_31 : decode cX8_passes 31 = .ok (.iload 5, 2) := dk_21 5 (dk_at dksX8_passes_1 8 rfl rfl)
theorem dX8_passes_33 : decode cX8_passes 33 = .ok (.invokevirtual 63, 3) := dk_182 0 63 (dk_at dksX8_passes_1 10 rfl rfl)
theorem dX8_passes_36 : decode cX8_passes 36 = .ok (.ishl, 1) := dk_120 (dk_at dksX8_passes_1 13 rfl rfl)
theorem dX8_passes_37 : decode cX8_passes 37 = .ok (.iconst 1, 1) := dk_4 (dk_at dksX8_passes_1 14 rfl rfl)
theorem dX8_passes_38 : decode cX8_passes 38 = .ok (.aload_n 0, 1) := dk_42 (dk_at dksX8_passes_1 15 rfl rfl)
theorem dX8_passes_39 : decode cX8_passes 39 = .ok (.iload 5, 2) := dk_21 5 (dk_at dksX8_passes_1 16 rfl rfl)
theorem dX8_passes_41 : decode cX8_passes 41 = .ok (.invokevirtual 67, 3) := dk_182 0 67 (dk_at dksX8_passes_1 18 rfl rfl)
theorem dX8_passes_44 : decode cX8_passes 44 = .ok (.ishl, 1) := dk_120 (dk_at dksX8_passes_1 21 rfl rfl)
theorem dX8_passes_45 : decode cX8_passes 45 = .ok (.ior, 1) := dk_128 (dk_at dksX8_passes_1 22 rfl rfl)
theorem dX8_passes_46 : decode cX8_passes 46 = .ok (.istore 6, 2) := dk_54 6 (dk_at dksX8_passes_2 0 rfl rfl)
theorem dX8_passes_48 : decode cX8_passes 48 = .ok (.iload_n 1, 1) := dk_27 (dk_at dksX8_passes_2 2 rfl rfl)
theorem dX8_passes_49 : decode cX8_passes 49 = .ok (.iload 6, 2) := dk_21 6 (dk_at dksX8_passes_2 3 rfl rfl)
theorem dX8_passes_51 : decode cX8_passes 51 = .ok (.iand, 1) := dk_126 (dk_at dksX8_passes_2 5 rfl rfl)
theorem dX8_passes_52 : decode cX8_passes 52 = .ok (.ifCond .ne 15, 3) := dk_154 0 15 (dk_at dksX8_passes_2 6 rfl rfl)
theorem dX8_passes_55 : decode cX8_passes 55 = .ok (.iload_n 3, 1) := dk_29 (dk_at dksX8_passes_2 9 rfl rfl)
theorem dX8_passes_56 : decode cX8_passes 56 = .ok (.iload 6, 2) := dk_21 6 (dk_at dksX8_passes_2 10 rfl rfl)
theorem dX8_passes_58 : decode cX8_passes 58 = .ok (.iand, 1) := dk_126 (dk_at dksX8_passes_2 12 rfl rfl)
theorem dX8_passes_59 : decode cX8_passes 59 = .ok (.ifCond .eq 8, 3) := dk_153 0 8 (dk_at dksX8_passes_2 13 rfl rfl)
theorem dX8_passes_62 : decode cX8_passes 62 = .ok (.iload_n 3, 1) := dk_29 (dk_at dksX8_passes_2 16 rfl rfl)
theorem dX8_passes_63 : decode cX8_passes 63 = .ok (.iload 6, 2) := dk_21 6 (dk_at dksX8_passes_2 17 rfl rfl)
theorem dX8_passes_65 : decode cX8_passes 65 = .ok (.ior, 1) := dk_128 (dk_at dksX8_passes_2 19 rfl rfl)
theorem dX8_passes_66 : decode cX8_passes 66 = .ok (.istore_n 3, 1) := dk_62 (dk_at dksX8_passes_2 20 rfl rfl)
theorem dX8_passes_67 : decode cX8_passes 67 = .ok (.iinc 5 1, 3) := dk_132 5 1 (dk_at dksX8_passes_2 21 rfl rfl)
theorem dX8_passes_70 : decode cX8_passes 70 = .ok (.goto (-53), 3) := dk_167 255 203 (dk_at dksX8_passes_3 0 rfl rfl)
theorem dX8_passes_73 : decode cX8_passes 73 = .ok (.iinc 4 1, 3) := dk_132 4 1 (dk_at dksX8_passes_3 3 rfl rfl)
theorem dX8_passes_76 : decode cX8_passes 76 = .ok (.goto (-68), 3) := dk_167 255 188 (dk_at dksX8_passes_3 6 rfl rfl)
theorem dX8_passes_79 : decode cX8_passes 79 = .ok (.iload_n 3, 1) := dk_29 (dk_at dksX8_passes_3 9 rfl rfl)
theorem dX8_passes_80 : decode cX8_passes 80 = .ok (.ireturn, 1) := dk_172 (dk_at dksX8_passes_3 10 rfl rfl)
abbrev cX8_coldsNow : ByteArray := prog_23_method_104_code
def yX8_coldsNow : MethodName := ⟨RX8, "coldsNow", "()I"⟩
def dkwX8_coldsNow_1 : List UInt8 := [60, 132, 2, 1, 167, 255, 232, 27, 172]
abbrev dktX8_coldsNow_1 : List UInt8 := dkwX8_coldsNow_1 ++ []
def dkwX8_coldsNow_0 : List UInt8 := [3, 60, 3, 61, 28, 42, 180, 0, 7, 8, 46, 162, 0, 20, 27, 42, 28, 7, 182, 1, 1, 28, 120, 128]
abbrev dktX8_coldsNow_0 : List UInt8 := dkwX8_coldsNow_0 ++ dktX8_coldsNow_1
theorem dksX8_coldsNow_0 : cX8_coldsNow.data.toList.drop 0 = dktX8_coldsNow_0 := by decide +kernel
theorem dksX8_coldsNow_1 : cX8_coldsNow.data.toList.drop 24 = dktX8_coldsNow_1 := dk_seg dksX8_coldsNow_0 24 rfl rfl
theorem dX8_coldsNow_0 : decode cX8_coldsNow 0 = .ok (.iconst 0, 1) := dk_3 (dk_at dksX8_coldsNow_0 0 rfl rfl)
theorem dX8_coldsNow_1 : decode cX8_coldsNow 1 = .ok (.istore_n 1, 1) := dk_60 (dk_at dksX8_coldsNow_0 1 rfl rfl)
theorem dX8_coldsNow_2 : decode cX8_coldsNow 2 = .ok (.iconst 0, 1) := dk_3 (dk_at dksX8_coldsNow_0 2 rfl rfl)
theorem dX8_coldsNow_3 : decode cX8_coldsNow 3 = .ok (.istore_n 2, 1) := dk_61 (dk_at dksX8_coldsNow_0 3 rfl rfl)
theorem dX8_coldsNow_4 : decode cX8_coldsNow 4 = .ok (.iload_n 2, 1) := dk_28 (dk_at dksX8_coldsNow_0 4 rfl rfl)
theorem dX8_coldsNow_5 : decode cX8_coldsNow 5 = .ok (.aload_n 0, 1) := dk_42 (dk_at dksX8_coldsNow_0 5 rfl rfl)
theorem dX8_coldsNow_6 : decode cX8_coldsNow 6 = .ok (.getfield 7, 3) := dk_180 0 7 (dk_at dksX8_coldsNow_0 6 rfl rfl)
theorem dX8_coldsNow_9 : decode cX8_coldsNow 9 = .ok (.iconst 5, 1) := dk_8 (dk_at dksX8_coldsNow_0 9 rfl rfl)
theorem dX8_coldsNow_10 : decode cX8_coldsNow 10 = .ok (.iaload, 1) := dk_46 (dk_at dksX8_coldsNow_0 10 rfl rfl)
theorem dX8_coldsNow_11 : decode cX8_coldsNow 11 = .ok (.if_icmp .ge 20, 3) := dk_162 0 20 (dk_at dksX8_coldsNow_0 11 rfl rfl)
theorem dX8_coldsNow_14 : decode cX8_coldsNow 14 = .ok (.iload_n 1, 1) := dk_27 (dk_at dksX8_coldsNow_0 14 rfl rfl)
theorem dX8_coldsNow_15 : decode cX8_coldsNow 15 = .ok (.aload_n 0, 1) := dk_42 (dk_at dksX8_coldsNow_0 15 rfl rfl)
theorem dX8_coldsNow_16 : decode cX8_coldsNow 16 = .ok (.iload_n 2, 1) := dk_28 (dk_at dksX8_coldsNow_0 16 rfl rfl)
theorem dX8_coldsNow_17 : decode cX8_coldsNow 17 = .ok (.iconst 4, 1) := dk_7 (dk_at dksX8_coldsNow_0 17 rfl rfl)
theorem dX8_coldsNow_18 : decode cX8_coldsNow 18 = .ok (.invokevirtual 257, 3) := dk_182 1 1 (dk_at dksX8_coldsNow_0 18 rfl rfl)
theorem dX8_coldsNow_21 : decode cX8_coldsNow 21 = .ok (.iload_n 2, 1) := dk_28 (dk_at dksX8_coldsNow_0 21 rfl rfl)
theorem dX8_coldsNow_22 : decode cX8_coldsNow 22 = .ok (.ishl, 1) := dk_120 (dk_at dksX8_coldsNow_0 22 rfl rfl)
theorem dX8_coldsNow_23 : decode cX8_coldsNow 23 = .ok (.ior, 1) := dk_128 (dk_at dksX8_coldsNow_0 23 rfl rfl)
theorem dX8_coldsNow_24 : decode cX8_coldsNow 24 = .ok (.istore_n 1, 1) := dk_60 (dk_at dksX8_coldsNow_1 0 rfl rfl)
theorem dX8_coldsNow_25 : decode cX8_coldsNow 25 = .ok (.iinc 2 1, 3) := dk_132 2 1 (dk_at dksX8_coldsNow_1 1 rfl rfl)
theorem dX8_coldsNow_28 : decode cX8_coldsNow 28 = .ok (.goto (-24), 3) := dk_167 255 232 (dk_at dksX8_coldsNow_1 4 rfl rfl)
theorem dX8_coldsNow_31 : decode cX8_coldsNow 31 = .ok (.iload_n 1, 1) := dk_27 (dk_at dksX8_coldsNow_1 7 rfl rfl)
theorem dX8_coldsNow_32 : decode cX8_coldsNow 32 = .ok (.ireturn, 1) := dk_172 (dk_at dksX8_coldsNow_1 8 rfl rfl)
abbrev cX8_spared : ByteArray := prog_23_method_107_code
def yX8_spared : MethodName := ⟨RX8, "spared", "(II)I"⟩
def dkwX8_spared_5 : List UInt8 := [21, 4, 62, 132, 4, 1, 167, 255, 193, 29, 172]
abbrev dktX8_spared_5 : List UInt8 := dkwX8_spared_5 ++ []
def dkwX8_spared_4 : List UInt8 := [184, 1, 84, 161, 0, 6, 167, 0, 20, 42, 21, 4, 28, 182, 1, 119, 27, 184, 1, 49, 154, 0, 6]
abbrev dktX8_spared_4 : List UInt8 := dkwX8_spared_4 ++ dktX8_spared_5
def dkwX8_spared_3 : List UInt8 := [162, 0, 56, 21, 4, 27, 184, 1, 49, 154, 0, 41, 29, 16, 254, 159, 0, 18, 21, 4, 184, 1, 84, 29]
abbrev dktX8_spared_3 : List UInt8 := dkwX8_spared_3 ++ dktX8_spared_4
def dkwX8_spared_2 : List UInt8 := [160, 0, 6, 16, 254, 172, 16, 254, 62, 3, 54, 4, 21, 4, 4, 42, 180, 0, 7, 8, 46, 120]
abbrev dktX8_spared_2 : List UInt8 := dkwX8_spared_2 ++ dktX8_spared_3
def dkwX8_spared_1 : List UInt8 := [167, 0, 4, 3, 181, 0, 56, 42, 180, 0, 56, 158, 0, 5, 3, 172, 42, 27, 7, 182, 1, 1, 4]
abbrev dktX8_spared_1 : List UInt8 := dkwX8_spared_1 ++ dktX8_spared_2
def dkwX8_spared_0 : List UInt8 := [42, 42, 27, 182, 1, 15, 154, 0, 7, 4, 167, 0, 18, 28, 3, 16, 20, 184, 0, 59, 154, 0, 7, 5]
abbrev dktX8_spared_0 : List UInt8 := dkwX8_spared_0 ++ dktX8_spared_1
theorem dksX8_spared_0 : cX8_spared.data.toList.drop 0 = dktX8_spared_0 := by decide +kernel
theorem dksX8_spared_1 : cX8_spared.data.toList.drop 24 = dktX8_spared_1 := dk_seg dksX8_spared_0 24 rfl rfl
theorem dksX8_spared_2 : cX8_spared.data.toList.drop 47 = dktX8_spared_2 := dk_seg dksX8_spared_1 23 rfl rfl
theorem dksX8_spared_3 : cX8_spared.data.toList.drop 69 = dktX8_spared_3 := dk_seg dksX8_spared_2 22 rfl rfl
theorem dksX8_spared_4 : cX8_spared.data.toList.drop 93 = dktX8_spared_4 := dk_seg dksX8_spared_3 24 rfl rfl
theorem dksX8_spared_5 : cX8_spared.data.toList.drop 116 = dktX8_spared_5 := dk_seg dksX8_spared_4 23 rfl rfl
theorem dX8_spared_0 : decode cX8_spared 0 = .ok (.aload_n 0, 1) := dk_42 (dk_at dksX8_spared_0 0 rfl rfl)
theorem dX8_spared_1 : decode cX8_spared 1 = .ok (.aload_n 0, 1) := dk_42 (dk_at dksX8_spared_0 1 rfl rfl)
theorem dX8_spared_2 : decode cX8_spared 2 = .ok (.iload_n 1, 1) := dk_27 (dk_at dksX8_spared_0 2 rfl rfl)
theorem dX8_spared_3 : decode cX8_spared 3 = .ok (.invokevirtual 271, 3) := dk_182 1 15 (dk_at dksX8_spared_0 3 rfl rfl)
theorem dX8_spared_6 : decode cX8_spared 6 = .ok (.ifCond .ne 7, 3) := dk_154 0 7 (dk_at dksX8_spared_0 6 rfl rfl)
theorem dX8_spared_9 : decode cX8_spared 9 = .ok (.iconst 1, 1) := dk_4 (dk_at dksX8_spared_0 9 rfl rfl)
theorem dX8_spared_10 : decode cX8_spared 10 = .ok (.goto 18, 3) := dk_167 0 18 (dk_at dksX8_spared_0 10 rfl rfl)
theorem dX8_spared_13 : decode cX8_spared 13 = .ok (.iload_n 2, 1) := dk_28 (dk_at dksX8_spared_0 13 rfl rfl)
theorem dX8_spared_14 : decode cX8_spared 14 = .ok (.iconst 0, 1) := dk_3 (dk_at dksX8_spared_0 14 rfl rfl)
theorem dX8_spared_15 : decode cX8_spared 15 = .ok (.bipush 20, 2) := dk_16 20 (dk_at dksX8_spared_0 15 rfl rfl)
theorem dX8_spared_17 : decode cX8_spared 17 = .ok (.invokestatic 59, 3) := dk_184 0 59 (dk_at dksX8_spared_0 17 rfl rfl)
theorem dX8_spared_20 : decode cX8_spared 20 = .ok (.ifCond .ne 7, 3) := dk_154 0 7 (dk_at dksX8_spared_0 20 rfl rfl)
theorem dX8_spared_23 : decode cX8_spared 23 = .ok (.iconst 2, 1) := dk_5 (dk_at dksX8_spared_0 23 rfl rfl)
theorem dX8_spared_24 : decode cX8_spared 24 = .ok (.goto 4, 3) := dk_167 0 4 (dk_at dksX8_spared_1 0 rfl rfl)
theorem dX8_spared_27 : decode cX8_spared 27 = .ok (.iconst 0, 1) := dk_3 (dk_at dksX8_spared_1 3 rfl rfl)
theorem dX8_spared_28 : decode cX8_spared 28 = .ok (.putfield 56, 3) := dk_181 0 56 (dk_at dksX8_spared_1 4 rfl rfl)
theorem dX8_spared_31 : decode cX8_spared 31 = .ok (.aload_n 0, 1) := dk_42 (dk_at dksX8_spared_1 7 rfl rfl)
theorem dX8_spared_32 : decode cX8_spared 32 = .ok (.getfield 56, 3) := dk_180 0 56 (dk_at dksX8_spared_1 8 rfl rfl)
theorem dX8_spared_35 : decode cX8_spared 35 = .ok (.ifCond .le 5, 3) := dk_158 0 5 (dk_at dksX8_spared_1 11 rfl rfl)
theorem dX8_spared_38 : decode cX8_spared 38 = .ok (.iconst 0, 1) := dk_3 (dk_at dksX8_spared_1 14 rfl rfl)
theorem dX8_spared_39 : decode cX8_spared 39 = .ok (.ireturn, 1) := dk_172 (dk_at dksX8_spared_1 15 rfl rfl)
theorem dX8_spared_40 : decode cX8_spared 40 = .ok (.aload_n 0, 1) := dk_42 (dk_at dksX8_spared_1 16 rfl rfl)
theorem dX8_spared_41 : decode cX8_spared 41 = .ok (.iload_n 1, 1) := dk_27 (dk_at dksX8_spared_1 17 rfl rfl)
theorem dX8_spared_42 : decode cX8_spared 42 = .ok (.iconst 4, 1) := dk_7 (dk_at dksX8_spared_1 18 rfl rfl)
theorem dX8_spared_43 : decode cX8_spared 43 = .ok (.invokevirtual 257, 3) := dk_182 1 1 (dk_at dksX8_spared_1 19 rfl rfl)
theorem dX8_spared_46 : decode cX8_spared 46 = .ok (.iconst 1, 1) := dk_4 (dk_at dksX8_spared_1 22 rfl rfl)
theorem dX8_spared_47 : decode cX8_spared 47 = .ok (.if_icmp .ne 6, 3) := dk_160 0 6 (dk_at dksX8_spared_2 0 rfl rfl)
theorem dX8_spared_50 : decode cX8_spared 50 = .ok (.bipush (-2), 2) := dk_16 254 (dk_at dksX8_spared_2 3 rfl rfl)
theorem dX8_spared_52 : decode cX8_spared 52 = .ok (.ireturn, 1) := dk_172 (dk_at dksX8_spared_2 5 rfl rfl)
theorem dX8_spared_53 : decode cX8_spared 53 = .ok (.bipush (-2), 2) := dk_16 254 (dk_at dksX8_spared_2 6 rfl rfl)
theorem dX8_spared_55 : decode cX8_spared 55 = .ok (.istore_n 3, 1) := dk_62 (dk_at dksX8_spared_2 8 rfl rfl)
theorem dX8_spared_56 : decode cX8_spared 56 = .ok (.iconst 0, 1) := dk_3 (dk_at dksX8_spared_2 9 rfl rfl)
theorem dX8_spared_57 : decode cX8_spared 57 = .ok (.istore 4, 2) := dk_54 4 (dk_at dksX8_spared_2 10 rfl rfl)
theorem dX8_spared_59 : decode cX8_spared 59 = .ok (.iload 4, 2) := dk_21 4 (dk_at dksX8_spared_2 12 rfl rfl)
theorem dX8_spared_61 : decode cX8_spared 61 = .ok (.iconst 1, 1) := dk_4 (dk_at dksX8_spared_2 14 rfl rfl)
theorem dX8_spared_62 : decode cX8_spared 62 = .ok (.aload_n 0, 1) := dk_42 (dk_at dksX8_spared_2 15 rfl rfl)
theorem dX8_spared_63 : decode cX8_spared 63 = .ok (.getfield 7, 3) := dk_180 0 7 (dk_at dksX8_spared_2 16 rfl rfl)
theorem dX8_spared_66 : decode cX8_spared 66 = .ok (.iconst 5, 1) := dk_8 (dk_at dksX8_spared_2 19 rfl rfl)
theorem dX8_spared_67 : decode cX8_spared 67 = .ok (.iaload, 1) := dk_46 (dk_at dksX8_spared_2 20 rfl rfl)
theorem dX8_spared_68 : decode cX8_spared 68 = .ok (.ishl, 1) := dk_120 (dk_at dksX8_spared_2 21 rfl rfl)
theorem dX8_spared_69 : decode cX8_spared 69 = .ok (.if_icmp .ge 56, 3) := dk_162 0 56 (dk_at dksX8_spared_3 0 rfl rfl)
theorem dX8_spared_72 : decode cX8_spared 72 = .ok (.iload 4, 2) := dk_21 4 (dk_at dksX8_spared_3 3 rfl rfl)
theorem dX8_spared_74 : decode cX8_spared 74 = .ok (.iload_n 1, 1) := dk_27 (dk_at dksX8_spared_3 5 rfl rfl)
theorem dX8_spared_75 : decode cX8_spared 75 = .ok (.invokestatic 305, 3) := dk_184 1 49 (dk_at dksX8_spared_3 6 rfl rfl)
theorem dX8_spared_78 : decode cX8_spared 78 = .ok (.ifCond .ne 41, 3) := dk_154 0 41 (dk_at dksX8_spared_3 9 rfl rfl)
theorem dX8_spared_81 : decode cX8_spared 81 = .ok (.iload_n 3, 1) := dk_29 (dk_at dksX8_spared_3 12 rfl rfl)
theorem dX8_spared_82 : decode cX8_spared 82 = .ok (.bipush (-2), 2) := dk_16 254 (dk_at dksX8_spared_3 13 rfl rfl)
theorem dX8_spared_84 : decode cX8_spared 84 = .ok (.if_icmp .eq 18, 3) := dk_159 0 18 (dk_at dksX8_spared_3 15 rfl rfl)
theorem dX8_spared_87 : decode cX8_spared 87 = .ok (.iload 4, 2) := dk_21 4 (dk_at dksX8_spared_3 18 rfl rfl)
theorem dX8_spared_89 : decode cX8_spared 89 = .ok (.invokestatic 340, 3) := dk_184 1 84 (dk_at dksX8_spared_3 20 rfl rfl)
theorem dX8_spared_92 : decode cX8_spared 92 = .ok (.iload_n 3, 1) := dk_29 (dk_at dksX8_spared_3 23 rfl rfl)
theorem dX8_spared_93 : decode cX8_spared 93 = .ok (.invokestatic 340, 3) := dk_184 1 84 (dk_at dksX8_spared_4 0 rfl rfl)
theorem dX8_spared_96 : decode cX8_spared 96 = .ok (.if_icmp .lt 6, 3) := dk_161 0 6 (dk_at dksX8_spared_4 3 rfl rfl)
theorem dX8_spared_99 : decode cX8_spared 99 = .ok (.goto 20, 3) := dk_167 0 20 (dk_at dksX8_spared_4 6 rfl rfl)
theorem dX8_spared_102 : decode cX8_spared 102 = .ok (.aload_n 0, 1) := dk_42 (dk_at dksX8_spared_4 9 rfl rfl)
theorem dX8_spared_103 : decode cX8_spared 103 = .ok (.iload 4, 2) := dk_21 4 (dk_at dksX8_spared_4 10 rfl rfl)
theorem dX8_spared_105 : decode cX8_spared 105 = .ok (.iload_n 2, 1) := dk_28 (dk_at dksX8_spared_4 12 rfl rfl)
theorem dX8_spared_106 : decode cX8_spared 106 = .ok (.invokevirtual 375, 3) := dk_182 1 119 (dk_at dksX8_spared_4 13 rfl rfl)
theorem dX8_spared_109 : decode cX8_spared 109 = .ok (.iload_n 1, 1) := dk_27 (dk_at dksX8_spared_4 16 rfl rfl)
theorem dX8_spared_110 : decode cX8_spared 110 = .ok (.invokestatic 305, 3) := dk_184 1 49 (dk_at dksX8_spared_4 17 rfl rfl)
theorem dX8_spared_113 : decode cX8_spared 113 = .ok (.ifCond .ne 6, 3) := dk_154 0 6 (dk_at dksX8_spared_4 20 rfl rfl)
theorem dX8_spared_116 : decode cX8_spared 116 = .ok (.iload 4, 2) := dk_21 4 (dk_at dksX8_spared_5 0 rfl rfl)
theorem dX8_spared_118 : decode cX8_spared 118 = .ok (.istore_n 3, 1) := dk_62 (dk_at dksX8_spared_5 2 rfl rfl)
theorem dX8_spared_119 : decode cX8_spared 119 = .ok (.iinc 4 1, 3) := dk_132 4 1 (dk_at dksX8_spared_5 3 rfl rfl)
theorem dX8_spared_122 : decode cX8_spared 122 = .ok (.goto (-63), 3) := dk_167 255 193 (dk_at dksX8_spared_5 6 rfl rfl)
theorem dX8_spared_125 : decode cX8_spared 125 = .ok (.iload_n 3, 1) := dk_29 (dk_at dksX8_spared_5 9 rfl rfl)
theorem dX8_spared_126 : decode cX8_spared 126 = .ok (.ireturn, 1) := dk_172 (dk_at dksX8_spared_5 10 rfl rfl)
abbrev cX8_changed : ByteArray := prog_23_method_109_code
def yX8_changed : MethodName := ⟨RX8, "changed", "(Z)I"⟩
def dkwX8_changed_6 : List UInt8 := [132, 5, 1, 167, 255, 163, 132, 4, 255, 167, 255, 149, 27, 153, 0, 7, 29, 167, 0, 4, 28, 172]
abbrev dktX8_changed_6 : List UInt8 := dkwX8_changed_6 ++ []
def dkwX8_changed_5 : List UInt8 := [159, 0, 13, 28, 4, 21, 6, 120, 128, 61, 132, 3, 1, 42, 180, 0, 53, 21, 7, 21, 8, 79]
abbrev dktX8_changed_5 : List UInt8 := dkwX8_changed_5 ++ dktX8_changed_6
def dkwX8_changed_4 : List UInt8 := [54, 8, 42, 180, 0, 53, 21, 7, 46, 2, 159, 0, 25, 42, 180, 0, 53, 21, 7, 46, 21, 8]
abbrev dktX8_changed_4 : List UInt8 := dkwX8_changed_4 ++ dktX8_changed_5
def dkwX8_changed_3 : List UInt8 := [104, 42, 21, 4, 5, 21, 5, 100, 182, 1, 122, 96, 54, 7, 42, 21, 4, 6, 21, 5, 96, 182, 1, 122]
abbrev dktX8_changed_3 : List UInt8 := dkwX8_changed_3 ++ dktX8_changed_4
def dkwX8_changed_2 : List UInt8 := [54, 5, 21, 5, 5, 162, 0, 93, 42, 21, 4, 4, 21, 5, 96, 182, 1, 122, 54, 6, 16, 10, 21, 6]
abbrev dktX8_changed_2 : List UInt8 := dkwX8_changed_2 ++ dktX8_changed_3
def dkwX8_changed_1 : List UInt8 := [167, 255, 240, 3, 61, 3, 62, 42, 180, 0, 7, 16, 12, 46, 4, 100, 54, 4, 21, 4, 155, 0, 108, 3]
abbrev dktX8_changed_1 : List UInt8 := dkwX8_changed_1 ++ dktX8_changed_2
def dkwX8_changed_0 : List UInt8 := [42, 3, 181, 0, 56, 3, 61, 28, 16, 100, 162, 0, 16, 42, 180, 0, 53, 28, 2, 79, 132, 2, 1]
abbrev dktX8_changed_0 : List UInt8 := dkwX8_changed_0 ++ dktX8_changed_1
theorem dksX8_changed_0 : cX8_changed.data.toList.drop 0 = dktX8_changed_0 := by decide +kernel
theorem dksX8_changed_1 : cX8_changed.data.toList.drop 23 = dktX8_changed_1 := dk_seg dksX8_changed_0 23 rfl rfl
theorem dksX8_changed_2 : cX8_changed.data.toList.drop 47 = dktX8_changed_2 := dk_seg dksX8_changed_1 24 rfl rfl
theorem dksX8_changed_3 : cX8_changed.data.toList.drop 71 = dktX8_changed_3 := dk_seg dksX8_changed_2 24 rfl rfl
theorem dksX8_changed_4 : cX8_changed.data.toList.drop 95 = dktX8_changed_4 := dk_seg dksX8_changed_3 24 rfl rfl
theorem dksX8_changed_5 : cX8_changed.data.toList.drop 117 = dktX8_changed_5 := dk_seg dksX8_changed_4 22 rfl rfl
theorem dksX8_changed_6 : cX8_changed.data.toList.drop 139 = dktX8_changed_6 := dk_seg dksX8_changed_5 22 rfl rfl
theorem dX8_changed_0 : decode cX8_changed 0 = .ok (.aload_n 0, 1) := dk_42 (dk_at dksX8_changed_0 0 rfl rfl)
theorem dX8_changed_1 : decode cX8_changed 1 = .ok (.iconst 0, 1) := dk_3 (dk_at dksX8_changed_0 1 rfl rfl)
theorem dX8_changed_2 : decode cX8_changed 2 = .ok (.putfield 56, 3) := dk_181 0 56 (dk_at dksX8_changed_0 2 rfl rfl)
theorem dX8_changed_5 : decode cX8_changed 5 = .ok (.iconst 0, 1) := dk_3 (dk_at dksX8_changed_0 5 rfl rfl)
theorem dX8_changed_6 : decode cX8_changed 6 = .ok (.istore_n 2, 1) := dk_61 (dk_at dksX8_changed_0 6 rfl rfl)
theorem dX8_changed_7 : decode cX8_changed 7 = .ok (.iload_n 2, 1) := dk_28 (dk_at dksX8_changed_0 7 rfl rfl)
theorem dX8_changed_8 : decode cX8_changed 8 = .ok (.bipush 100, 2) := dk_16 100 (dk_at dksX8_changed_0 8 rfl rfl)
theorem dX8_changed_10 : decode cX8_changed 10 = .ok (.if_icmp .ge 16, 3) := dk_162 0 16 (dk_at dksX8_changed_0 10 rfl rfl)
theorem dX8_changed_13 : decode cX8_changed 13 = .ok (.aload_n 0, 1) := dk_42 (dk_at dksX8_changed_0 13 rfl rfl)
theorem dX8_changed_14 : decode cX8_changed 14 = .ok (.getfield 53, 3) := dk_180 0 53 (dk_at dksX8_changed_0 14 rfl rfl)
theorem dX8_changed_17 : decode cX8_changed 17 = .ok (.iload_n 2, 1) := dk_28 (dk_at dksX8_changed_0 17 rfl rfl)
theorem dX8_changed_18 : decode cX8_changed 18 = .ok (.iconst (-1), 1) := dk_2 (dk_at dksX8_changed_0 18 rfl rfl)
theorem dX8_changed_19 : decode cX8_changed 19 = .ok (.iastore, 1) := dk_79 (dk_at dksX8_changed_0 19 rfl rfl)
theorem dX8_changed_20 : decode cX8_changed 20 = .ok (.iinc 2 1, 3) := dk_132 2 1 (dk_at dksX8_changed_0 20 rfl rfl)
theorem dX8_changed_23 : decode cX8_changed 23 = .ok (.goto (-16), 3) := dk_167 255 240 (dk_at dksX8_changed_1 0 rfl rfl)
theorem dX8_changed_26 : decode cX8_changed 26 = .ok (.iconst 0, 1) := dk_3 (dk_at dksX8_changed_1 3 rfl rfl)
theorem dX8_changed_27 : decode cX8_changed 27 = .ok (.istore_n 2, 1) := dk_61 (dk_at dksX8_changed_1 4 rfl rfl)
theorem dX8_changed_28 : decode cX8_changed 28 = .ok (.iconst 0, 1) := dk_3 (dk_at dksX8_changed_1 5 rfl rfl)
theorem dX8_changed_29 : decode cX8_changed 29 = .ok (.istore_n 3, 1) := dk_62 (dk_at dksX8_changed_1 6 rfl rfl)
theorem dX8_changed_30 : decode cX8_changed 30 = .ok (.aload_n 0, 1) := dk_42 (dk_at dksX8_changed_1 7 rfl rfl)
theorem dX8_changed_31 : decode cX8_changed 31 = .ok (.getfield 7, 3) := dk_180 0 7 (dk_at dksX8_changed_1 8 rfl rfl)
theorem dX8_changed_34 : decode cX8_changed 34 = .ok (.bipush 12, 2) := dk_16 12 (dk_at dksX8_changed_1 11 rfl rfl)
theorem dX8_changed_36 : decode cX8_changed 36 = .ok (.iaload, 1) := dk_46 (dk_at dksX8_changed_1 13 rfl rfl)
theorem dX8_changed_37 : decode cX8_changed 37 = .ok (.iconst 1, 1) := dk_4 (dk_at dksX8_changed_1 14 rfl rfl)
theorem dX8_changed_38 : decode cX8_changed 38 = .ok (.isub, 1) := dk_100 (dk_at dksX8_changed_1 15 rfl rfl)
theorem dX8_changed_39 : decode cX8_changed 39 = .ok (.istore 4, 2) := dk_54 4 (dk_at dksX8_changed_1 16 rfl rfl)
theorem dX8_changed_41 : decode cX8_changed 41 = .ok (.iload 4, 2) := dk_21 4 (dk_at dksX8_changed_1 18 rfl rfl)
theorem dX8_changed_43 : decode cX8_changed 43 = .ok (.ifCond .lt 108, 3) := dk_155 0 108 (dk_at dksX8_changed_1 20 rfl rfl)
theorem dX8_changed_46 : decode cX8_changed 46 = .ok (.iconst 0, 1) := dk_3 (dk_at dksX8_changed_1 23 rfl rfl)
theorem dX8_changed_47 : decode cX8_changed 47 = .ok (.istore 5, 2) := dk_54 5 (dk_at dksX8_changed_2 0 rfl rfl)
theorem dX8_changed_49 : decode cX8_changed 49 = .ok (.iload 5, 2) := dk_21 5 (dk_at dksX8_changed_2 2 rfl rfl)
theorem dX8_changed_51 : decode cX8_changed 51 = .ok (.iconst 2, 1) := dk_5 (dk_at dksX8_changed_2 4 rfl rfl)
theorem dX8_changed_52 : decode cX8_changed 52 = .ok (.if_icmp .ge 93, 3) := dk_162 0 93 (dk_at dksX8_changed_2 5 rfl rfl)
theorem dX8_changed_55 : decode cX8_changed 55 = .ok (.aload_n 0, 1) := dk_42 (dk_at dksX8_changed_2 8 rfl rfl)
theorem dX8_changed_56 : decode cX8_changed 56 = .ok (.iload 4, 2) := dk_21 4 (dk_at dksX8_changed_2 9 rfl rfl)
theorem dX8_changed_58 : decode cX8_changed 58 = .ok (.iconst 1, 1) := dk_4 (dk_at dksX8_changed_2 11 rfl rfl)
theorem dX8_changed_59 : decode cX8_changed 59 = .ok (.iload 5, 2) := dk_21 5 (dk_at dksX8_changed_2 12 rfl rfl)
theorem dX8_changed_61 : decode cX8_changed 61 = .ok (.iadd, 1) := dk_96 (dk_at dksX8_changed_2 14 rfl rfl)
theorem dX8_changed_62 : decode cX8_changed 62 = .ok (.invokevirtual 378, 3) := dk_182 1 122 (dk_at dksX8_changed_2 15 rfl rfl)
theorem dX8_changed_65 : decode cX8_changed 65 = .ok (.istore 6, 2) := dk_54 6 (dk_at dksX8_changed_2 18 rfl rfl)
theorem dX8_changed_67 : decode cX8_changed 67 = .ok (.bipush 10, 2) := dk_16 10 (dk_at dksX8_changed_2 20 rfl rfl)
theorem dX8_changed_69 : decode cX8_changed 69 = .ok (.iload 6, 2) := dk_21 6 (dk_at dksX8_changed_2 22 rfl rfl)
theorem dX8_changed_71 : decode cX8_changed 71 = .ok (.imul, 1) := dk_104 (dk_at dksX8_changed_3 0 rfl rfl)
theorem dX8_changed_72 : decode cX8_changed 72 = .ok (.aload_n 0, 1) := dk_42 (dk_at dksX8_changed_3 1 rfl rfl)
theorem dX8_changed_73 : decode cX8_changed 73 = .ok (.iload 4, 2) := dk_21 4 (dk_at dksX8_changed_3 2 rfl rfl)
theorem dX8_changed_75 : decode cX8_changed 75 = .ok (.iconst 2, 1) := dk_5 (dk_at dksX8_changed_3 4 rfl rfl)
theorem dX8_changed_76 : decode cX8_changed 76 = .ok (.iload 5, 2) := dk_21 5 (dk_at dksX8_changed_3 5 rfl rfl)
theorem dX8_changed_78 : decode cX8_changed 78 = .ok (.isub, 1) := dk_100 (dk_at dksX8_changed_3 7 rfl rfl)
theorem dX8_changed_79 : decode cX8_changed 79 = .ok (.invokevirtual 378, 3) := dk_182 1 122 (dk_at dksX8_changed_3 8 rfl rfl)
theorem dX8_changed_82 : decode cX8_changed 82 = .ok (.iadd, 1) := dk_96 (dk_at dksX8_changed_3 11 rfl rfl)
theorem dX8_changed_83 : decode cX8_changed 83 = .ok (.istore 7, 2) := dk_54 7 (dk_at dksX8_changed_3 12 rfl rfl)
theorem dX8_changed_85 : decode cX8_changed 85 = .ok (.aload_n 0, 1) := dk_42 (dk_at dksX8_changed_3 14 rfl rfl)
theorem dX8_changed_86 : decode cX8_changed 86 = .ok (.iload 4, 2) := dk_21 4 (dk_at dksX8_changed_3 15 rfl rfl)
theorem dX8_changed_88 : decode cX8_changed 88 = .ok (.iconst 3, 1) := dk_6 (dk_at dksX8_changed_3 17 rfl rfl)
theorem dX8_changed_89 : decode cX8_changed 89 = .ok (.iload 5, 2) := dk_21 5 (dk_at dksX8_changed_3 18 rfl rfl)
theorem dX8_changed_91 : decode cX8_changed 91 = .ok (.iadd, 1) := dk_96 (dk_at dksX8_changed_3 20 rfl rfl)
theorem dX8_changed_92 : decode cX8_changed 92 = .ok (.invokevirtual 378, 3) := dk_182 1 122 (dk_at dksX8_changed_3 21 rfl rfl)
theorem dX8_changed_95 : decode cX8_changed 95 = .ok (.istore 8, 2) := dk_54 8 (dk_at dksX8_changed_4 0 rfl rfl)
theorem dX8_changed_97 : decode cX8_changed 97 = .ok (.aload_n 0, 1) := dk_42 (dk_at dksX8_changed_4 2 rfl rfl)
theorem dX8_changed_98 : decode cX8_changed 98 = .ok (.getfield 53, 3) := dk_180 0 53 (dk_at dksX8_changed_4 3 rfl rfl)
theorem dX8_changed_101 : decode cX8_changed 101 = .ok (.iload 7, 2) := dk_21 7 (dk_at dksX8_changed_4 6 rfl rfl)
theorem dX8_changed_103 : decode cX8_changed 103 = .ok (.iaload, 1) := dk_46 (dk_at dksX8_changed_4 8 rfl rfl)
theorem dX8_changed_104 : decode cX8_changed 104 = .ok (.iconst (-1), 1) := dk_2 (dk_at dksX8_changed_4 9 rfl rfl)
theorem dX8_changed_105 : decode cX8_changed 105 = .ok (.if_icmp .eq 25, 3) := dk_159 0 25 (dk_at dksX8_changed_4 10 rfl rfl)
theorem dX8_changed_108 : decode cX8_changed 108 = .ok (.aload_n 0, 1) := dk_42 (dk_at dksX8_changed_4 13 rfl rfl)
theorem dX8_changed_109 : decode cX8_changed 109 = .ok (.getfield 53, 3) := dk_180 0 53 (dk_at dksX8_changed_4 14 rfl rfl)
theorem dX8_changed_112 : decode cX8_changed 112 = .ok (.iload 7, 2) := dk_21 7 (dk_at dksX8_changed_4 17 rfl rfl)
theorem dX8_changed_114 : decode cX8_changed 114 = .ok (.iaload, 1) := dk_46 (dk_at dksX8_changed_4 19 rfl rfl)
theorem dX8_changed_115 : decode cX8_changed 115 = .ok (.iload 8, 2) := dk_21 8 (dk_at dksX8_changed_4 20 rfl rfl)
theorem dX8_changed_117 : decode cX8_changed 117 = .ok (.if_icmp .eq 13, 3) := dk_159 0 13 (dk_at dksX8_changed_5 0 rfl rfl)
theorem dX8_changed_120 : decode cX8_changed 120 = .ok (.iload_n 2, 1) := dk_28 (dk_at dksX8_changed_5 3 rfl rfl)
theorem dX8_changed_121 : decode cX8_changed 121 = .ok (.iconst 1, 1) := dk_4 (dk_at dksX8_changed_5 4 rfl rfl)
theorem dX8_changed_122 : decode cX8_changed 122 = .ok (.iload 6, 2) := dk_21 6 (dk_at dksX8_changed_5 5 rfl rfl)
theorem dX8_changed_124 : decode cX8_changed 124 = .ok (.ishl, 1) := dk_120 (dk_at dksX8_changed_5 7 rfl rfl)
theorem dX8_changed_125 : decode cX8_changed 125 = .ok (.ior, 1) := dk_128 (dk_at dksX8_changed_5 8 rfl rfl)
theorem dX8_changed_126 : decode cX8_changed 126 = .ok (.istore_n 2, 1) := dk_61 (dk_at dksX8_changed_5 9 rfl rfl)
theorem dX8_changed_127 : decode cX8_changed 127 = .ok (.iinc 3 1, 3) := dk_132 3 1 (dk_at dksX8_changed_5 10 rfl rfl)
theorem dX8_changed_130 : decode cX8_changed 130 = .ok (.aload_n 0, 1) := dk_42 (dk_at dksX8_changed_5 13 rfl rfl)
theorem dX8_changed_131 : decode cX8_changed 131 = .ok (.getfield 53, 3) := dk_180 0 53 (dk_at dksX8_changed_5 14 rfl rfl)
theorem dX8_changed_134 : decode cX8_changed 134 = .ok (.iload 7, 2) := dk_21 7 (dk_at dksX8_changed_5 17 rfl rfl)
theorem dX8_changed_136 : decode cX8_changed 136 = .ok (.iload 8, 2) := dk_21 8 (dk_at dksX8_changed_5 19 rfl rfl)
theorem dX8_changed_138 : decode cX8_changed 138 = .ok (.iastore, 1) := dk_79 (dk_at dksX8_changed_5 21 rfl rfl)
theorem dX8_changed_139 : decode cX8_changed 139 = .ok (.iinc 5 1, 3) := dk_132 5 1 (dk_at dksX8_changed_6 0 rfl rfl)
theorem dX8_changed_142 : decode cX8_changed 142 = .ok (.goto (-93), 3) := dk_167 255 163 (dk_at dksX8_changed_6 3 rfl rfl)
theorem dX8_changed_145 : decode cX8_changed 145 = .ok (.iinc 4 (-1), 3) := dk_132 4 255 (dk_at dksX8_changed_6 6 rfl rfl)
theorem dX8_changed_148 : decode cX8_changed 148 = .ok (.goto (-107), 3) := dk_167 255 149 (dk_at dksX8_changed_6 9 rfl rfl)
theorem dX8_changed_151 : decode cX8_changed 151 = .ok (.iload_n 1, 1) := dk_27 (dk_at dksX8_changed_6 12 rfl rfl)
theorem dX8_changed_152 : decode cX8_changed 152 = .ok (.ifCond .eq 7, 3) := dk_153 0 7 (dk_at dksX8_changed_6 13 rfl rfl)
theorem dX8_changed_155 : decode cX8_changed 155 = .ok (.iload_n 3, 1) := dk_29 (dk_at dksX8_changed_6 16 rfl rfl)
theorem dX8_changed_156 : decode cX8_changed 156 = .ok (.goto 4, 3) := dk_167 0 4 (dk_at dksX8_changed_6 17 rfl rfl)
theorem dX8_changed_159 : decode cX8_changed 159 = .ok (.iload_n 2, 1) := dk_28 (dk_at dksX8_changed_6 20 rfl rfl)
theorem dX8_changed_160 : decode cX8_changed 160 = .ok (.ireturn, 1) := dk_172 (dk_at dksX8_changed_6 21 rfl rfl)
abbrev cX8_logged : ByteArray := prog_23_method_108_code
def yX8_logged : MethodName := ⟨RX8, "logged", "(II)I"⟩
def dkwX8_logged_0 : List UInt8 := [42, 180, 0, 7, 17, 1, 164, 16, 8, 27, 104, 96, 28, 96, 46, 172]
abbrev dktX8_logged_0 : List UInt8 := dkwX8_logged_0 ++ []
theorem dksX8_logged_0 : cX8_logged.data.toList.drop 0 = dktX8_logged_0 := by decide +kernel
theorem dX8_logged_0 : decode cX8_logged 0 = .ok (.aload_n 0, 1) := dk_42 (dk_at dksX8_logged_0 0 rfl rfl)
theorem dX8_logged_1 : decode cX8_logged 1 = .ok (.getfield 7, 3) := dk_180 0 7 (dk_at dksX8_logged_0 1 rfl rfl)
theorem dX8_logged_4 : decode cX8_logged 4 = .ok (.sipush 420, 3) := dk_17 1 164 (dk_at dksX8_logged_0 4 rfl rfl)
theorem dX8_logged_7 : decode cX8_logged 7 = .ok (.bipush 8, 2) := dk_16 8 (dk_at dksX8_logged_0 7 rfl rfl)
theorem dX8_logged_9 : decode cX8_logged 9 = .ok (.iload_n 1, 1) := dk_27 (dk_at dksX8_logged_0 9 rfl rfl)
theorem dX8_logged_10 : decode cX8_logged 10 = .ok (.imul, 1) := dk_104 (dk_at dksX8_logged_0 10 rfl rfl)
theorem dX8_logged_11 : decode cX8_logged 11 = .ok (.iadd, 1) := dk_96 (dk_at dksX8_logged_0 11 rfl rfl)
theorem dX8_logged_12 : decode cX8_logged 12 = .ok (.iload_n 2, 1) := dk_28 (dk_at dksX8_logged_0 12 rfl rfl)
theorem dX8_logged_13 : decode cX8_logged 13 = .ok (.iadd, 1) := dk_96 (dk_at dksX8_logged_0 13 rfl rfl)
theorem dX8_logged_14 : decode cX8_logged 14 = .ok (.iaload, 1) := dk_46 (dk_at dksX8_logged_0 14 rfl rfl)
theorem dX8_logged_15 : decode cX8_logged 15 = .ok (.ireturn, 1) := dk_172 (dk_at dksX8_logged_0 15 rfl rfl)
abbrev cX8_trial : ByteArray := prog_23_method_111_code
def yX8_trial : MethodName := ⟨RX8, "trial", "(II)I"⟩
def dkwX8_trial_3 : List UInt8 := [182, 1, 125, 172]
abbrev dktX8_trial_3 : List UInt8 := dkwX8_trial_3 ++ []
def dkwX8_trial_2 : List UInt8 := [162, 0, 21, 42, 180, 0, 16, 29, 42, 180, 0, 7, 29, 46, 79, 132, 3, 1, 167, 255, 234, 42, 27, 28]
abbrev dktX8_trial_2 : List UInt8 := dkwX8_trial_2 ++ dktX8_trial_3
def dkwX8_trial_1 : List UInt8 := [5, 167, 0, 4, 3, 181, 0, 56, 42, 180, 0, 56, 158, 0, 5, 3, 172, 3, 62, 29, 17, 3, 132]
abbrev dktX8_trial_1 : List UInt8 := dkwX8_trial_1 ++ dktX8_trial_2
def dkwX8_trial_0 : List UInt8 := [42, 27, 3, 16, 20, 184, 0, 59, 154, 0, 7, 4, 167, 0, 17, 28, 3, 6, 184, 0, 59, 154, 0, 7]
abbrev dktX8_trial_0 : List UInt8 := dkwX8_trial_0 ++ dktX8_trial_1
theorem dksX8_trial_0 : cX8_trial.data.toList.drop 0 = dktX8_trial_0 := by decide +kernel
theorem dksX8_trial_1 : cX8_trial.data.toList.drop 24 = dktX8_trial_1 := dk_seg dksX8_trial_0 24 rfl rfl
theorem dksX8_trial_2 : cX8_trial.data.toList.drop 47 = dktX8_trial_2 := dk_seg dksX8_trial_1 23 rfl rfl
theorem dksX8_trial_3 : cX8_trial.data.toList.drop 71 = dktX8_trial_3 := dk_seg dksX8_trial_2 24 rfl rfl
theorem dX8_trial_0 : decode cX8_trial 0 = .ok (.aload_n 0, 1) := dk_42 (dk_at dksX8_trial_0 0 rfl rfl)
theorem dX8_trial_1 : decode cX8_trial 1 = .ok (.iload_n 1, 1) := dk_27 (dk_at dksX8_trial_0 1 rfl rfl)
theorem dX8_trial_2 : decode cX8_trial 2 = .ok (.iconst 0, 1) := dk_3 (dk_at dksX8_trial_0 2 rfl rfl)
theorem dX8_trial_3 : decode cX8_trial 3 = .ok (.bipush 20, 2) := dk_16 20 (dk_at dksX8_trial_0 3 rfl rfl)
theorem dX8_trial_5 : decode cX8_trial 5 = .ok (.invokestatic 59, 3) := dk_184 0 59 (dk_at dksX8_trial_0 5 rfl rfl)
theorem dX8_trial_8 : decode cX8_trial 8 = .ok (.ifCond .ne 7, 3) := dk_154 0 7 (dk_at dksX8_trial_0 8 rfl rfl)
theorem dX8_trial_11 : decode cX8_trial 11 = .ok (.iconst 1, 1) := dk_4 (dk_at dksX8_trial_0 11 rfl rfl)
theorem dX8_trial_12 : decode cX8_trial 12 = .ok (.goto 17, 3) := dk_167 0 17 (dk_at dksX8_trial_0 12 rfl rfl)
theorem dX8_trial_15 : decode cX8_trial 15 = .ok (.iload_n 2, 1) := dk_28 (dk_at dksX8_trial_0 15 rfl rfl)
theorem dX8_trial_16 : decode cX8_trial 16 = .ok (.iconst 0, 1) := dk_3 (dk_at dksX8_trial_0 16 rfl rfl)
theorem dX8_trial_17 : decode cX8_trial 17 = .ok (.iconst 3, 1) := dk_6 (dk_at dksX8_trial_0 17 rfl rfl)
theorem dX8_trial_18 : decode cX8_trial 18 = .ok (.invokestatic 59, 3) := dk_184 0 59 (dk_at dksX8_trial_0 18 rfl rfl)
theorem dX8_trial_21 : decode cX8_trial 21 = .ok (.ifCond .ne 7, 3) := dk_154 0 7 (dk_at dksX8_trial_0 21 rfl rfl)
theorem dX8_trial_24 : decode cX8_trial 24 = .ok (.iconst 2, 1) := dk_5 (dk_at dksX8_trial_1 0 rfl rfl)
theorem dX8_trial_25 : decode cX8_trial 25 = .ok (.goto 4, 3) := dk_167 0 4 (dk_at dksX8_trial_1 1 rfl rfl)
theorem dX8_trial_28 : decode cX8_trial 28 = .ok (.iconst 0, 1) := dk_3 (dk_at dksX8_trial_1 4 rfl rfl)
theorem dX8_trial_29 : decode cX8_trial 29 = .ok (.putfield 56, 3) := dk_181 0 56 (dk_at dksX8_trial_1 5 rfl rfl)
theorem dX8_trial_32 : decode cX8_trial 32 = .ok (.aload_n 0, 1) := dk_42 (dk_at dksX8_trial_1 8 rfl rfl)
theorem dX8_trial_33 : decode cX8_trial 33 = .ok (.getfield 56, 3) := dk_180 0 56 (dk_at dksX8_trial_1 9 rfl rfl)
theorem dX8_trial_36 : decode cX8_trial 36 = .ok (.ifCond .le 5, 3) := dk_158 0 5 (dk_at dksX8_trial_1 12 rfl rfl)
theorem dX8_trial_39 : decode cX8_trial 39 = .ok (.iconst 0, 1) := dk_3 (dk_at dksX8_trial_1 15 rfl rfl)
theorem dX8_trial_40 : decode cX8_trial 40 = .ok (.ireturn, 1) := dk_172 (dk_at dksX8_trial_1 16 rfl rfl)
theorem dX8_trial_41 : decode cX8_trial 41 = .ok (.iconst 0, 1) := dk_3 (dk_at dksX8_trial_1 17 rfl rfl)
theorem dX8_trial_42 : decode cX8_trial 42 = .ok (.istore_n 3, 1) := dk_62 (dk_at dksX8_trial_1 18 rfl rfl)
theorem dX8_trial_43 : decode cX8_trial 43 = .ok (.iload_n 3, 1) := dk_29 (dk_at dksX8_trial_1 19 rfl rfl)
theorem dX8_trial_44 : decode cX8_trial 44 = .ok (.sipush 900, 3) := dk_17 3 132 (dk_at dksX8_trial_1 20 rfl rfl)
theorem dX8_trial_47 : decode cX8_trial 47 = .ok (.if_icmp .ge 21, 3) := dk_162 0 21 (dk_at dksX8_trial_2 0 rfl rfl)
theorem dX8_trial_50 : decode cX8_trial 50 = .ok (.aload_n 0, 1) := dk_42 (dk_at dksX8_trial_2 3 rfl rfl)
theorem dX8_trial_51 : decode cX8_trial 51 = .ok (.getfield 16, 3) := dk_180 0 16 (dk_at dksX8_trial_2 4 rfl rfl)
theorem dX8_trial_54 : decode cX8_trial 54 = .ok (.iload_n 3, 1) := dk_29 (dk_at dksX8_trial_2 7 rfl rfl)
theorem dX8_trial_55 : decode cX8_trial 55 = .ok (.aload_n 0, 1) := dk_42 (dk_at dksX8_trial_2 8 rfl rfl)
theorem dX8_trial_56 : decode cX8_trial 56 = .ok (.getfield 7, 3) := dk_180 0 7 (dk_at dksX8_trial_2 9 rfl rfl)
theorem dX8_trial_59 : decode cX8_trial 59 = .ok (.iload_n 3, 1) := dk_29 (dk_at dksX8_trial_2 12 rfl rfl)
theorem dX8_trial_60 : decode cX8_trial 60 = .ok (.iaload, 1) := dk_46 (dk_at dksX8_trial_2 13 rfl rfl)
theorem dX8_trial_61 : decode cX8_trial 61 = .ok (.iastore, 1) := dk_79 (dk_at dksX8_trial_2 14 rfl rfl)
theorem dX8_trial_62 : decode cX8_trial 62 = .ok (.iinc 3 1, 3) := dk_132 3 1 (dk_at dksX8_trial_2 15 rfl rfl)
theorem dX8_trial_65 : decode cX8_trial 65 = .ok (.goto (-22), 3) := dk_167 255 234 (dk_at dksX8_trial_2 18 rfl rfl)
theorem dX8_trial_68 : decode cX8_trial 68 = .ok (.aload_n 0, 1) := dk_42 (dk_at dksX8_trial_2 21 rfl rfl)
theorem dX8_trial_69 : decode cX8_trial 69 = .ok (.iload_n 1, 1) := dk_27 (dk_at dksX8_trial_2 22 rfl rfl)
theorem dX8_trial_70 : decode cX8_trial 70 = .ok (.iload_n 2, 1) := dk_28 (dk_at dksX8_trial_2 23 rfl rfl)
theorem dX8_trial_71 : decode cX8_trial 71 = .ok (.invokevirtual 381, 3) := dk_182 1 125 (dk_at dksX8_trial_3 0 rfl rfl)
theorem dX8_trial_74 : decode cX8_trial 74 = .ok (.ireturn, 1) := dk_172 (dk_at dksX8_trial_3 3 rfl rfl)
abbrev cX8_tries : ByteArray := prog_23_method_110_code
def yX8_tries : MethodName := ⟨RX8, "tries", "(II)I"⟩
def dkwX8_tries_2 : List UInt8 := [5, 160, 0, 15, 42, 3, 3, 182, 1, 104, 42, 182, 1, 110, 54, 5, 42, 182, 0, 204, 21, 5, 172]
abbrev dktX8_tries_2 : List UInt8 := dkwX8_tries_2 ++ []
def dkwX8_tries_1 : List UInt8 := [28, 4, 160, 0, 15, 42, 180, 0, 7, 16, 10, 46, 29, 100, 167, 0, 7, 42, 182, 1, 116, 54, 5, 28]
abbrev dktX8_tries_1 : List UInt8 := dkwX8_tries_1 ++ dktX8_tries_2
def dkwX8_tries_0 : List UInt8 := [42, 180, 0, 7, 16, 10, 46, 62, 42, 27, 182, 1, 46, 54, 4, 28, 154, 0, 8, 21, 4, 167, 0, 24]
abbrev dktX8_tries_0 : List UInt8 := dkwX8_tries_0 ++ dktX8_tries_1
theorem dksX8_tries_0 : cX8_tries.data.toList.drop 0 = dktX8_tries_0 := by decide +kernel
theorem dksX8_tries_1 : cX8_tries.data.toList.drop 24 = dktX8_tries_1 := dk_seg dksX8_tries_0 24 rfl rfl
theorem dksX8_tries_2 : cX8_tries.data.toList.drop 48 = dktX8_tries_2 := dk_seg dksX8_tries_1 24 rfl rfl
theorem dX8_tries_0 : decode cX8_tries 0 = .ok (.aload_n 0, 1) := dk_42 (dk_at dksX8_tries_0 0 rfl rfl)
theorem dX8_tries_1 : decode cX8_tries 1 = .ok (.getfield 7, 3) := dk_180 0 7 (dk_at dksX8_tries_0 1 rfl rfl)
theorem dX8_tries_4 : decode cX8_tries 4 = .ok (.bipush 10, 2) := dk_16 10 (dk_at dksX8_tries_0 4 rfl rfl)
theorem dX8_tries_6 : decode cX8_tries 6 = .ok (.iaload, 1) := dk_46 (dk_at dksX8_tries_0 6 rfl rfl)
theorem dX8_tries_7 : decode cX8_tries 7 = .ok (.istore_n 3, 1) := dk_62 (dk_at dksX8_tries_0 7 rfl rfl)
theorem dX8_tries_8 : decode cX8_tries 8 = .ok (.aload_n 0, 1) := dk_42 (dk_at dksX8_tries_0 8 rfl rfl)
theorem dX8_tries_9 : decode cX8_tries 9 = .ok (.iload_n 1, 1) := dk_27 (dk_at dksX8_tries_0 9 rfl rfl)
theorem dX8_tries_10 : decode cX8_tries 10 = .ok (.invokevirtual 302, 3) := dk_182 1 46 (dk_at dksX8_tries_0 10 rfl rfl)
theorem dX8_tries_13 : decode cX8_tries 13 = .ok (.istore 4, 2) := dk_54 4 (dk_at dksX8_tries_0 13 rfl rfl)
theorem dX8_tries_15 : decode cX8_tries 15 = .ok (.iload_n 2, 1) := dk_28 (dk_at dksX8_tries_0 15 rfl rfl)
theorem dX8_tries_16 : decode cX8_tries 16 = .ok (.ifCond .ne 8, 3) := dk_154 0 8 (dk_at dksX8_tries_0 16 rfl rfl)
theorem dX8_tries_19 : decode cX8_tries 19 = .ok (.iload 4, 2) := dk_21 4 (dk_at dksX8_tries_0 19 rfl rfl)
theorem dX8_tries_21 : decode cX8_tries 21 = .ok (.goto 24, 3) := dk_167 0 24 (dk_at dksX8_tries_0 21 rfl rfl)
theorem dX8_tries_24 : decode cX8_tries 24 = .ok (.iload_n 2, 1) := dk_28 (dk_at dksX8_tries_1 0 rfl rfl)
theorem dX8_tries_25 : decode cX8_tries 25 = .ok (.iconst 1, 1) := dk_4 (dk_at dksX8_tries_1 1 rfl rfl)
theorem dX8_tries_26 : decode cX8_tries 26 = .ok (.if_icmp .ne 15, 3) := dk_160 0 15 (dk_at dksX8_tries_1 2 rfl rfl)
theorem dX8_tries_29 : decode cX8_tries 29 = .ok (.aload_n 0, 1) := dk_42 (dk_at dksX8_tries_1 5 rfl rfl)
theorem dX8_tries_30 : decode cX8_tries 30 = .ok (.getfield 7, 3) := dk_180 0 7 (dk_at dksX8_tries_1 6 rfl rfl)
theorem dX8_tries_33 : decode cX8_tries 33 = .ok (.bipush 10, 2) := dk_16 10 (dk_at dksX8_tries_1 9 rfl rfl)
theorem dX8_tries_35 : decode cX8_tries 35 = .ok (.iaload, 1) := dk_46 (dk_at dksX8_tries_1 11 rfl rfl)
theorem dX8_tries_36 : decode cX8_tries 36 = .ok (.iload_n 3, 1) := dk_29 (dk_at dksX8_tries_1 12 rfl rfl)
theorem dX8_tries_37 : decode cX8_tries 37 = .ok (.isub, 1) := dk_100 (dk_at dksX8_tries_1 13 rfl rfl)
theorem dX8_tries_38 : decode cX8_tries 38 = .ok (.goto 7, 3) := dk_167 0 7 (dk_at dksX8_tries_1 14 rfl rfl)
theorem dX8_tries_41 : decode cX8_tries 41 = .ok (.aload_n 0, 1) := dk_42 (dk_at dksX8_tries_1 17 rfl rfl)
theorem dX8_tries_42 : decode cX8_tries 42 = .ok (.invokevirtual 372, 3) := dk_182 1 116 (dk_at dksX8_tries_1 18 rfl rfl)
theorem dX8_tries_45 : decode cX8_tries 45 = .ok (.istore 5, 2) := dk_54 5 (dk_at dksX8_tries_1 21 rfl rfl)
theorem dX8_tries_47 : decode cX8_tries 47 = .ok (.iload_n 2, 1) := dk_28 (dk_at dksX8_tries_1 23 rfl rfl)
theorem dX8_tries_48 : decode cX8_tries 48 = .ok (.iconst 2, 1) := dk_5 (dk_at dksX8_tries_2 0 rfl rfl)
theorem dX8_tries_49 : decode cX8_tries 49 = .ok (.if_icmp .ne 15, 3) := dk_160 0 15 (dk_at dksX8_tries_2 1 rfl rfl)
theorem dX8_tries_52 : decode cX8_tries 52 = .ok (.aload_n 0, 1) := dk_42 (dk_at dksX8_tries_2 4 rfl rfl)
theorem dX8_tries_53 : decode cX8_tries 53 = .ok (.iconst 0, 1) := dk_3 (dk_at dksX8_tries_2 5 rfl rfl)
theorem dX8_tries_54 : decode cX8_tries 54 = .ok (.iconst 0, 1) := dk_3 (dk_at dksX8_tries_2 6 rfl rfl)
theorem dX8_tries_55 : decode cX8_tries 55 = .ok (.invokevirtual 360, 3) := dk_182 1 104 (dk_at dksX8_tries_2 7 rfl rfl)
theorem dX8_tries_58 : decode cX8_tries 58 = .ok (.aload_n 0, 1) := dk_42 (dk_at dksX8_tries_2 10 rfl rfl)
theorem dX8_tries_59 : decode cX8_tries 59 = .ok (.invokevirtual 366, 3) := dk_182 1 110 (dk_at dksX8_tries_2 11 rfl rfl)
theorem dX8_tries_62 : decode cX8_tries 62 = .ok (.istore 5, 2) := dk_54 5 (dk_at dksX8_tries_2 14 rfl rfl)
theorem dX8_tries_64 : decode cX8_tries 64 = .ok (.aload_n 0, 1) := dk_42 (dk_at dksX8_tries_2 16 rfl rfl)
theorem dX8_tries_65 : decode cX8_tries 65 = .ok (.invokevirtual 204, 3) := dk_182 0 204 (dk_at dksX8_tries_2 17 rfl rfl)
theorem dX8_tries_68 : decode cX8_tries 68 = .ok (.iload 5, 2) := dk_21 5 (dk_at dksX8_tries_2 20 rfl rfl)
theorem dX8_tries_70 : decode cX8_tries 70 = .ok (.ireturn, 1) := dk_172 (dk_at dksX8_tries_2 22 rfl rfl)
abbrev cX8_span : ByteArray := prog_23_method_112_code
def yX8_span : MethodName := ⟨RX8, "span", "(IZ)I"⟩
def dkwX8_span_5 : List UInt8 := [167, 255, 199, 29, 172]
abbrev dktX8_span_5 : List UInt8 := dkwX8_span_5 ++ []
def dkwX8_span_4 : List UInt8 := [153, 0, 12, 29, 21, 5, 184, 1, 31, 167, 0, 9, 29, 21, 5, 184, 1, 28, 62, 132, 4, 1]
abbrev dktX8_span_4 : List UInt8 := dkwX8_span_4 ++ dktX8_span_5
def dkwX8_span_3 : List UInt8 := [16, 16, 21, 4, 79, 42, 27, 3, 182, 1, 125, 54, 5, 29, 2, 160, 0, 8, 21, 5, 167, 0, 22, 28]
abbrev dktX8_span_3 : List UInt8 := dkwX8_span_3 ++ dktX8_span_4
def dkwX8_span_2 : List UInt8 := [46, 79, 132, 3, 1, 167, 255, 234, 2, 62, 4, 54, 4, 21, 4, 16, 6, 163, 0, 56, 42, 180, 0, 7]
abbrev dktX8_span_2 : List UInt8 := dkwX8_span_2 ++ dktX8_span_3
def dkwX8_span_1 : List UInt8 := [158, 0, 5, 3, 172, 3, 62, 29, 17, 3, 132, 162, 0, 21, 42, 180, 0, 16, 29, 42, 180, 0, 7, 29]
abbrev dktX8_span_1 : List UInt8 := dkwX8_span_1 ++ dktX8_span_2
def dkwX8_span_0 : List UInt8 := [42, 27, 3, 16, 20, 184, 0, 59, 154, 0, 7, 4, 167, 0, 4, 3, 181, 0, 56, 42, 180, 0, 56]
abbrev dktX8_span_0 : List UInt8 := dkwX8_span_0 ++ dktX8_span_1
theorem dksX8_span_0 : cX8_span.data.toList.drop 0 = dktX8_span_0 := by decide +kernel
theorem dksX8_span_1 : cX8_span.data.toList.drop 23 = dktX8_span_1 := dk_seg dksX8_span_0 23 rfl rfl
theorem dksX8_span_2 : cX8_span.data.toList.drop 47 = dktX8_span_2 := dk_seg dksX8_span_1 24 rfl rfl
theorem dksX8_span_3 : cX8_span.data.toList.drop 71 = dktX8_span_3 := dk_seg dksX8_span_2 24 rfl rfl
theorem dksX8_span_4 : cX8_span.data.toList.drop 95 = dktX8_span_4 := dk_seg dksX8_span_3 24 rfl rfl
theorem dksX8_span_5 : cX8_span.data.toList.drop 117 = dktX8_span_5 := dk_seg dksX8_span_4 22 rfl rfl
theorem dX8_span_0 : decode cX8_span 0 = .ok (.aload_n 0, 1) := dk_42 (dk_at dksX8_span_0 0 rfl rfl)
theorem dX8_span_1 : decode cX8_span 1 = .ok (.iload_n 1, 1) := dk_27 (dk_at dksX8_span_0 1 rfl rfl)
theorem dX8_span_2 : decode cX8_span 2 = .ok (.iconst 0, 1) := dk_3 (dk_at dksX8_span_0 2 rfl rfl)
theorem dX8_span_3 : decode cX8_span 3 = .ok (.bipush 20, 2) := dk_16 20 (dk_at dksX8_span_0 3 rfl rfl)
theorem dX8_span_5 : decode cX8_span 5 = .ok (.invokestatic 59, 3) := dk_184 0 59 (dk_at dksX8_span_0 5 rfl rfl)
theorem dX8_span_8 : decode cX8_span 8 = .ok (.ifCond .ne 7, 3) := dk_154 0 7 (dk_at dksX8_span_0 8 rfl rfl)
theorem dX8_span_11 : decode cX8_span 11 = .ok (.iconst 1, 1) := dk_4 (dk_at dksX8_span_0 11 rfl rfl)
theorem dX8_span_12 : decode cX8_span 12 = .ok (.goto 4, 3) := dk_167 0 4 (dk_at dksX8_span_0 12 rfl rfl)
theorem dX8_span_15 : decode cX8_span 15 = .ok (.iconst 0, 1) := dk_3 (dk_at dksX8_span_0 15 rfl rfl)
theorem dX8_span_16 : decode cX8_span 16 = .ok (.putfield 56, 3) := dk_181 0 56 (dk_at dksX8_span_0 16 rfl rfl)
theorem dX8_span_19 : decode cX8_span 19 = .ok (.aload_n 0, 1) := dk_42 (dk_at dksX8_span_0 19 rfl rfl)
theorem dX8_span_20 : decode cX8_span 20 = .ok (.getfield 56, 3) := dk_180 0 56 (dk_at dksX8_span_0 20 rfl rfl)
theorem dX8_span_23 : decode cX8_span 23 = .ok (.ifCond .le 5, 3) := dk_158 0 5 (dk_at dksX8_span_1 0 rfl rfl)
theorem dX8_span_26 : decode cX8_span 26 = .ok (.iconst 0, 1) := dk_3 (dk_at dksX8_span_1 3 rfl rfl)
theorem dX8_span_27 : decode cX8_span 27 = .ok (.ireturn, 1) := dk_172 (dk_at dksX8_span_1 4 rfl rfl)
theorem dX8_span_28 : decode cX8_span 28 = .ok (.iconst 0, 1) := dk_3 (dk_at dksX8_span_1 5 rfl rfl)
theorem dX8_span_29 : decode cX8_span 29 = .ok (.istore_n 3, 1) := dk_62 (dk_at dksX8_span_1 6 rfl rfl)
theorem dX8_span_30 : decode cX8_span 30 = .ok (.iload_n 3, 1) := dk_29 (dk_at dksX8_span_1 7 rfl rfl)
theorem dX8_span_31 : decode cX8_span 31 = .ok (.sipush 900, 3) := dk_17 3 132 (dk_at dksX8_span_1 8 rfl rfl)
theorem dX8_span_34 : decode cX8_span 34 = .ok (.if_icmp .ge 21, 3) := dk_162 0 21 (dk_at dksX8_span_1 11 rfl rfl)
theorem dX8_span_37 : decode cX8_span 37 = .ok (.aload_n 0, 1) := dk_42 (dk_at dksX8_span_1 14 rfl rfl)
theorem dX8_span_38 : decode cX8_span 38 = .ok (.getfield 16, 3) := dk_180 0 16 (dk_at dksX8_span_1 15 rfl rfl)
theorem dX8_span_41 : decode cX8_span 41 = .ok (.iload_n 3, 1) := dk_29 (dk_at dksX8_span_1 18 rfl rfl)
theorem dX8_span_42 : decode cX8_span 42 = .ok (.aload_n 0, 1) := dk_42 (dk_at dksX8_span_1 19 rfl rfl)
theorem dX8_span_43 : decode cX8_span 43 = .ok (.getfield 7, 3) := dk_180 0 7 (dk_at dksX8_span_1 20 rfl rfl)
theorem dX8_span_46 : decode cX8_span 46 = .ok (.iload_n 3, 1) := dk_29 (dk_at dksX8_span_1 23 rfl rfl)
theorem dX8_span_47 : decode cX8_span 47 = .ok (.iaload, 1) := dk_46 (dk_at dksX8_span_2 0 rfl rfl)
theorem dX8_span_48 : decode cX8_span 48 = .ok (.iastore, 1) := dk_79 (dk_at dksX8_span_2 1 rfl rfl)
theorem dX8_span_49 : decode cX8_span 49 = .ok (.iinc 3 1, 3) := dk_132 3 1 (dk_at dksX8_span_2 2 rfl rfl)
theorem dX8_span_52 : decode cX8_span 52 = .ok (.goto (-22), 3) := dk_167 255 234 (dk_at dksX8_span_2 5 rfl rfl)
theorem dX8_span_55 : decode cX8_span 55 = .ok (.iconst (-1), 1) := dk_2 (dk_at dksX8_span_2 8 rfl rfl)
theorem dX8_span_56 : decode cX8_span 56 = .ok (.istore_n 3, 1) := dk_62 (dk_at dksX8_span_2 9 rfl rfl)
theorem dX8_span_57 : decode cX8_span 57 = .ok (.iconst 1, 1) := dk_4 (dk_at dksX8_span_2 10 rfl rfl)
theorem dX8_span_58 : decode cX8_span 58 = .ok (.istore 4, 2) := dk_54 4 (dk_at dksX8_span_2 11 rfl rfl)
theorem dX8_span_60 : decode cX8_span 60 = .ok (.iload 4, 2) := dk_21 4 (dk_at dksX8_span_2 13 rfl rfl)
theorem dX8_span_62 : decode cX8_span 62 = .ok (.bipush 6, 2) := dk_16 6 (dk_at dksX8_span_2 15 rfl rfl)
theorem dX8_span_64 : decode cX8_span 64 = .ok (.if_icmp .gt 56, 3) := dk_163 0 56 (dk_at dksX8_span_2 17 rfl rfl)
theorem dX8_span_67 : decode cX8_span 67 = .ok (.aload_n 0, 1) := dk_42 (dk_at dksX8_span_2 20 rfl rfl)
theorem dX8_span_68 : decode cX8_span 68 = .ok (.getfield 7, 3) := dk_180 0 7 (dk_at dksX8_span_2 21 rfl rfl)
theorem dX8_span_71 : decode cX8_span 71 = .ok (.bipush 16, 2) := dk_16 16 (dk_at dksX8_span_3 0 rfl rfl)
theorem dX8_span_73 : decode cX8_span 73 = .ok (.iload 4, 2) := dk_21 4 (dk_at dksX8_span_3 2 rfl rfl)
theorem dX8_span_75 : decode cX8_span 75 = .ok (.iastore, 1) := dk_79 (dk_at dksX8_span_3 4 rfl rfl)
theorem dX8_span_76 : decode cX8_span 76 = .ok (.aload_n 0, 1) := dk_42 (dk_at dksX8_span_3 5 rfl rfl)
theorem dX8_span_77 : decode cX8_span 77 = .ok (.iload_n 1, 1) := dk_27 (dk_at dksX8_span_3 6 rfl rfl)
theorem dX8_span_78 : decode cX8_span 78 = .ok (.iconst 0, 1) := dk_3 (dk_at dksX8_span_3 7 rfl rfl)
theorem dX8_span_79 : decode cX8_span 79 = .ok (.invokevirtual 381, 3) := dk_182 1 125 (dk_at dksX8_span_3 8 rfl rfl)
theorem dX8_span_82 : decode cX8_span 82 = .ok (.istore 5, 2) := dk_54 5 (dk_at dksX8_span_3 11 rfl rfl)
theorem dX8_span_84 : decode cX8_span 84 = .ok (.iload_n 3, 1) := dk_29 (dk_at dksX8_span_3 13 rfl rfl)
theorem dX8_span_85 : decode cX8_span 85 = .ok (.iconst (-1), 1) := dk_2 (dk_at dksX8_span_3 14 rfl rfl)
theorem dX8_span_86 : decode cX8_span 86 = .ok (.if_icmp .ne 8, 3) := dk_160 0 8 (dk_at dksX8_span_3 15 rfl rfl)
theorem dX8_span_89 : decode cX8_span 89 = .ok (.iload 5, 2) := dk_21 5 (dk_at dksX8_span_3 18 rfl rfl)
theorem dX8_span_91 : decode cX8_span 91 = .ok (.goto 22, 3) := dk_167 0 22 (dk_at dksX8_span_3 20 rfl rfl)
theorem dX8_span_94 : decode cX8_span 94 = .ok (.iload_n 2, 1) := dk_28 (dk_at dksX8_span_3 23 rfl rfl)
theorem dX8_span_95 : decode cX8_span 95 = .ok (.ifCond .eq 12, 3) := dk_153 0 12 (dk_at dksX8_span_4 0 rfl rfl)
theorem dX8_span_98 : decode cX8_span 98 = .ok (.iload_n 3, 1) := dk_29 (dk_at dksX8_span_4 3 rfl rfl)
theorem dX8_span_99 : decode cX8_span 99 = .ok (.iload 5, 2) := dk_21 5 (dk_at dksX8_span_4 4 rfl rfl)
theorem dX8_span_101 : decode cX8_span 101 = .ok (.invokestatic 287, 3) := dk_184 1 31 (dk_at dksX8_span_4 6 rfl rfl)
theorem dX8_span_104 : decode cX8_span 104 = .ok (.goto 9, 3) := dk_167 0 9 (dk_at dksX8_span_4 9 rfl rfl)
theorem dX8_span_107 : decode cX8_span 107 = .ok (.iload_n 3, 1) := dk_29 (dk_at dksX8_span_4 12 rfl rfl)
theorem dX8_span_108 : decode cX8_span 108 = .ok (.iload 5, 2) := dk_21 5 (dk_at dksX8_span_4 13 rfl rfl)
theorem dX8_span_110 : decode cX8_span 110 = .ok (.invokestatic 284, 3) := dk_184 1 28 (dk_at dksX8_span_4 15 rfl rfl)
theorem dX8_span_113 : decode cX8_span 113 = .ok (.istore_n 3, 1) := dk_62 (dk_at dksX8_span_4 18 rfl rfl)
theorem dX8_span_114 : decode cX8_span 114 = .ok (.iinc 4 1, 3) := dk_132 4 1 (dk_at dksX8_span_4 19 rfl rfl)
theorem dX8_span_117 : decode cX8_span 117 = .ok (.goto (-57), 3) := dk_167 255 199 (dk_at dksX8_span_5 0 rfl rfl)
theorem dX8_span_120 : decode cX8_span 120 = .ok (.iload_n 3, 1) := dk_29 (dk_at dksX8_span_5 3 rfl rfl)
theorem dX8_span_121 : decode cX8_span 121 = .ok (.ireturn, 1) := dk_172 (dk_at dksX8_span_5 4 rfl rfl)
abbrev cX8_log : ByteArray := prog_23_method_113_code
def yX8_log : MethodName := ⟨RX8, "log", "(II)I"⟩
def dkwX8_log_2 : List UInt8 := [28, 182, 1, 122, 167, 0, 4, 2, 172]
abbrev dktX8_log_2 : List UInt8 := dkwX8_log_2 ++ []
def dkwX8_log_1 : List UInt8 := [158, 0, 5, 3, 172, 27, 3, 42, 180, 0, 7, 16, 12, 46, 4, 100, 184, 0, 59, 153, 0, 12, 42, 27]
abbrev dktX8_log_1 : List UInt8 := dkwX8_log_1 ++ dktX8_log_2
def dkwX8_log_0 : List UInt8 := [42, 28, 3, 16, 7, 184, 0, 59, 154, 0, 7, 4, 167, 0, 4, 3, 181, 0, 56, 42, 180, 0, 56]
abbrev dktX8_log_0 : List UInt8 := dkwX8_log_0 ++ dktX8_log_1
theorem dksX8_log_0 : cX8_log.data.toList.drop 0 = dktX8_log_0 := by decide +kernel
theorem dksX8_log_1 : cX8_log.data.toList.drop 23 = dktX8_log_1 := dk_seg dksX8_log_0 23 rfl rfl
theorem dksX8_log_2 : cX8_log.data.toList.drop 47 = dktX8_log_2 := dk_seg dksX8_log_1 24 rfl rfl
theorem dX8_log_0 : decode cX8_log 0 = .ok (.aload_n 0, 1) := dk_42 (dk_at dksX8_log_0 0 rfl rfl)
theorem dX8_log_1 : decode cX8_log 1 = .ok (.iload_n 2, 1) := dk_28 (dk_at dksX8_log_0 1 rfl rfl)
theorem dX8_log_2 : decode cX8_log 2 = .ok (.iconst 0, 1) := dk_3 (dk_at dksX8_log_0 2 rfl rfl)
theorem dX8_log_3 : decode cX8_log 3 = .ok (.bipush 7, 2) := dk_16 7 (dk_at dksX8_log_0 3 rfl rfl)
theorem dX8_log_5 : decode cX8_log 5 = .ok (.invokestatic 59, 3) := dk_184 0 59 (dk_at dksX8_log_0 5 rfl rfl)
theorem dX8_log_8 : decode cX8_log 8 = .ok (.ifCond .ne 7, 3) := dk_154 0 7 (dk_at dksX8_log_0 8 rfl rfl)
theorem dX8_log_11 : decode cX8_log 11 = .ok (.iconst 1, 1) := dk_4 (dk_at dksX8_log_0 11 rfl rfl)
theorem dX8_log_12 : decode cX8_log 12 = .ok (.goto 4, 3) := dk_167 0 4 (dk_at dksX8_log_0 12 rfl rfl)
theorem dX8_log_15 : decode cX8_log 15 = .ok (.iconst 0, 1) := dk_3 (dk_at dksX8_log_0 15 rfl rfl)
theorem dX8_log_16 : decode cX8_log 16 = .ok (.putfield 56, 3) := dk_181 0 56 (dk_at dksX8_log_0 16 rfl rfl)
theorem dX8_log_19 : decode cX8_log 19 = .ok (.aload_n 0, 1) := dk_42 (dk_at dksX8_log_0 19 rfl rfl)
theorem dX8_log_20 : decode cX8_log 20 = .ok (.getfield 56, 3) := dk_180 0 56 (dk_at dksX8_log_0 20 rfl rfl)
theorem dX8_log_23 : decode cX8_log 23 = .ok (.ifCond .le 5, 3) := dk_158 0 5 (dk_at dksX8_log_1 0 rfl rfl)
theorem dX8_log_26 : decode cX8_log 26 = .ok (.iconst 0, 1) := dk_3 (dk_at dksX8_log_1 3 rfl rfl)
theorem dX8_log_27 : decode cX8_log 27 = .ok (.ireturn, 1) := dk_172 (dk_at dksX8_log_1 4 rfl rfl)
theorem dX8_log_28 : decode cX8_log 28 = .ok (.iload_n 1, 1) := dk_27 (dk_at dksX8_log_1 5 rfl rfl)
theorem dX8_log_29 : decode cX8_log 29 = .ok (.iconst 0, 1) := dk_3 (dk_at dksX8_log_1 6 rfl rfl)
theorem dX8_log_30 : decode cX8_log 30 = .ok (.aload_n 0, 1) := dk_42 (dk_at dksX8_log_1 7 rfl rfl)
theorem dX8_log_31 : decode cX8_log 31 = .ok (.getfield 7, 3) := dk_180 0 7 (dk_at dksX8_log_1 8 rfl rfl)
theorem dX8_log_34 : decode cX8_log 34 = .ok (.bipush 12, 2) := dk_16 12 (dk_at dksX8_log_1 11 rfl rfl)
theorem dX8_log_36 : decode cX8_log 36 = .ok (.iaload, 1) := dk_46 (dk_at dksX8_log_1 13 rfl rfl)
theorem dX8_log_37 : decode cX8_log 37 = .ok (.iconst 1, 1) := dk_4 (dk_at dksX8_log_1 14 rfl rfl)
theorem dX8_log_38 : decode cX8_log 38 = .ok (.isub, 1) := dk_100 (dk_at dksX8_log_1 15 rfl rfl)
theorem dX8_log_39 : decode cX8_log 39 = .ok (.invokestatic 59, 3) := dk_184 0 59 (dk_at dksX8_log_1 16 rfl rfl)
theorem dX8_log_42 : decode cX8_log 42 = .ok (.ifCond .eq 12, 3) := dk_153 0 12 (dk_at dksX8_log_1 19 rfl rfl)
theorem dX8_log_45 : decode cX8_log 45 = .ok (.aload_n 0, 1) := dk_42 (dk_at dksX8_log_1 22 rfl rfl)
theorem dX8_log_46 : decode cX8_log 46 = .ok (.iload_n 1, 1) := dk_27 (dk_at dksX8_log_1 23 rfl rfl)
theorem dX8_log_47 : decode cX8_log 47 = .ok (.iload_n 2, 1) := dk_28 (dk_at dksX8_log_2 0 rfl rfl)
theorem dX8_log_48 : decode cX8_log 48 = .ok (.invokevirtual 378, 3) := dk_182 1 122 (dk_at dksX8_log_2 1 rfl rfl)
theorem dX8_log_51 : decode cX8_log 51 = .ok (.goto 4, 3) := dk_167 0 4 (dk_at dksX8_log_2 4 rfl rfl)
theorem dX8_log_54 : decode cX8_log 54 = .ok (.iconst (-1), 1) := dk_2 (dk_at dksX8_log_2 7 rfl rfl)
theorem dX8_log_55 : decode cX8_log 55 = .ok (.ireturn, 1) := dk_172 (dk_at dksX8_log_2 8 rfl rfl)
abbrev cX8_seed : ByteArray := prog_23_method_114_code
def yX8_seed : MethodName := ⟨RX8, "seed", "(I)I"⟩
def dkwX8_seed_0 : List UInt8 := [42, 3, 181, 0, 56, 42, 180, 0, 7, 16, 16, 46, 61, 42, 180, 0, 7, 16, 16, 27, 79, 28, 172]
abbrev dktX8_seed_0 : List UInt8 := dkwX8_seed_0 ++ []
theorem dksX8_seed_0 : cX8_seed.data.toList.drop 0 = dktX8_seed_0 := by decide +kernel
theorem dX8_seed_0 : decode cX8_seed 0 = .ok (.aload_n 0, 1) := dk_42 (dk_at dksX8_seed_0 0 rfl rfl)
theorem dX8_seed_1 : decode cX8_seed 1 = .ok (.iconst 0, 1) := dk_3 (dk_at dksX8_seed_0 1 rfl rfl)
theorem dX8_seed_2 : decode cX8_seed 2 = .ok (.putfield 56, 3) := dk_181 0 56 (dk_at dksX8_seed_0 2 rfl rfl)
theorem dX8_seed_5 : decode cX8_seed 5 = .ok (.aload_n 0, 1) := dk_42 (dk_at dksX8_seed_0 5 rfl rfl)
theorem dX8_seed_6 : decode cX8_seed 6 = .ok (.getfield 7, 3) := dk_180 0 7 (dk_at dksX8_seed_0 6 rfl rfl)
theorem dX8_seed_9 : decode cX8_seed 9 = .ok (.bipush 16, 2) := dk_16 16 (dk_at dksX8_seed_0 9 rfl rfl)
theorem dX8_seed_11 : decode cX8_seed 11 = .ok (.iaload, 1) := dk_46 (dk_at dksX8_seed_0 11 rfl rfl)
theorem dX8_seed_12 : decode cX8_seed 12 = .ok (.istore_n 2, 1) := dk_61 (dk_at dksX8_seed_0 12 rfl rfl)
theorem dX8_seed_13 : decode cX8_seed 13 = .ok (.aload_n 0, 1) := dk_42 (dk_at dksX8_seed_0 13 rfl rfl)
theorem dX8_seed_14 : decode cX8_seed 14 = .ok (.getfield 7, 3) := dk_180 0 7 (dk_at dksX8_seed_0 14 rfl rfl)
theorem dX8_seed_17 : decode cX8_seed 17 = .ok (.bipush 16, 2) := dk_16 16 (dk_at dksX8_seed_0 17 rfl rfl)
theorem dX8_seed_19 : decode cX8_seed 19 = .ok (.iload_n 1, 1) := dk_27 (dk_at dksX8_seed_0 19 rfl rfl)
theorem dX8_seed_20 : decode cX8_seed 20 = .ok (.iastore, 1) := dk_79 (dk_at dksX8_seed_0 20 rfl rfl)
theorem dX8_seed_21 : decode cX8_seed 21 = .ok (.iload_n 2, 1) := dk_28 (dk_at dksX8_seed_0 21 rfl rfl)
theorem dX8_seed_22 : decode cX8_seed 22 = .ok (.ireturn, 1) := dk_172 (dk_at dksX8_seed_0 22 rfl rfl)
abbrev cX8_undo : ByteArray := prog_23_method_115_code
def yX8_undo : MethodName := ⟨RX8, "undo", "()Z"⟩
def dkwX8_undo_2 : List UInt8 := [180, 0, 207, 104, 27, 96, 46, 79, 132, 1, 1, 167, 255, 225, 4, 172]
abbrev dktX8_undo_2 : List UInt8 := dkwX8_undo_2 ++ []
def dkwX8_undo_1 : List UInt8 := [3, 60, 27, 17, 3, 132, 162, 0, 30, 42, 180, 0, 7, 27, 42, 180, 0, 19, 17, 3, 132, 42]
abbrev dktX8_undo_1 : List UInt8 := dkwX8_undo_1 ++ dktX8_undo_2
def dkwX8_undo_0 : List UInt8 := [42, 3, 181, 0, 56, 42, 180, 0, 207, 154, 0, 5, 3, 172, 42, 89, 180, 0, 207, 4, 100, 181, 0, 207]
abbrev dktX8_undo_0 : List UInt8 := dkwX8_undo_0 ++ dktX8_undo_1
theorem dksX8_undo_0 : cX8_undo.data.toList.drop 0 = dktX8_undo_0 := by decide +kernel
theorem dksX8_undo_1 : cX8_undo.data.toList.drop 24 = dktX8_undo_1 := dk_seg dksX8_undo_0 24 rfl rfl
theorem dksX8_undo_2 : cX8_undo.data.toList.drop 46 = dktX8_undo_2 := dk_seg dksX8_undo_1 22 rfl rfl
theorem dX8_undo_0 : decode cX8_undo 0 = .ok (.aload_n 0, 1) := dk_42 (dk_at dksX8_undo_0 0 rfl rfl)
theorem dX8_undo_1 : decode cX8_undo 1 = .ok (.iconst 0, 1) := dk_3 (dk_at dksX8_undo_0 1 rfl rfl)
theorem dX8_undo_2 : decode cX8_undo 2 = .ok (.putfield 56, 3) := dk_181 0 56 (dk_at dksX8_undo_0 2 rfl rfl)
theorem dX8_undo_5 : decode cX8_undo 5 = .ok (.aload_n 0, 1) := dk_42 (dk_at dksX8_undo_0 5 rfl rfl)
theorem dX8_undo_6 : decode cX8_undo 6 = .ok (.getfield 207, 3) := dk_180 0 207 (dk_at dksX8_undo_0 6 rfl rfl)
theorem dX8_undo_9 : decode cX8_undo 9 = .ok (.ifCond .ne 5, 3) := dk_154 0 5 (dk_at dksX8_undo_0 9 rfl rfl)
theorem dX8_undo_12 : decode cX8_undo 12 = .ok (.iconst 0, 1) := dk_3 (dk_at dksX8_undo_0 12 rfl rfl)
theorem dX8_undo_13 : decode cX8_undo 13 = .ok (.ireturn, 1) := dk_172 (dk_at dksX8_undo_0 13 rfl rfl)
theorem dX8_undo_14 : decode cX8_undo 14 = .ok (.aload_n 0, 1) := dk_42 (dk_at dksX8_undo_0 14 rfl rfl)
theorem dX8_undo_15 : decode cX8_undo 15 = .ok (.dup, 1) := dk_89 (dk_at dksX8_undo_0 15 rfl rfl)
theorem dX8_undo_16 : decode cX8_undo 16 = .ok (.getfield 207, 3) := dk_180 0 207 (dk_at dksX8_undo_0 16 rfl rfl)
theorem dX8_undo_19 : decode cX8_undo 19 = .ok (.iconst 1, 1) := dk_4 (dk_at dksX8_undo_0 19 rfl rfl)
theorem dX8_undo_20 : decode cX8_undo 20 = .ok (.isub, 1) := dk_100 (dk_at dksX8_undo_0 20 rfl rfl)
theorem dX8_undo_21 : decode cX8_undo 21 = .ok (.putfield 207, 3) := dk_181 0 207 (dk_at dksX8_undo_0 21 rfl rfl)
theorem dX8_undo_24 : decode cX8_undo 24 = .ok (.iconst 0, 1) := dk_3 (dk_at dksX8_undo_1 0 rfl rfl)
theorem dX8_undo_25 : decode cX8_undo 25 = .ok (.istore_n 1, 1) := dk_60 (dk_at dksX8_undo_1 1 rfl rfl)
theorem dX8_undo_26 : decode cX8_undo 26 = .ok (.iload_n 1, 1) := dk_27 (dk_at dksX8_undo_1 2 rfl rfl)
theorem dX8_undo_27 : decode cX8_undo 27 = .ok (.sipush 900, 3) := dk_17 3 132 (dk_at dksX8_undo_1 3 rfl rfl)
theorem dX8_undo_30 : decode cX8_undo 30 = .ok (.if_icmp .ge 30, 3) := dk_162 0 30 (dk_at dksX8_undo_1 6 rfl rfl)
theorem dX8_undo_33 : decode cX8_undo 33 = .ok (.aload_n 0, 1) := dk_42 (dk_at dksX8_undo_1 9 rfl rfl)
theorem dX8_undo_34 : decode cX8_undo 34 = .ok (.getfield 7, 3) := dk_180 0 7 (dk_at dksX8_undo_1 10 rfl rfl)
theorem dX8_undo_37 : decode cX8_undo 37 = .ok (.iload_n 1, 1) := dk_27 (dk_at dksX8_undo_1 13 rfl rfl)
theorem dX8_undo_38 : decode cX8_undo 38 = .ok (.aload_n 0, 1) := dk_42 (dk_at dksX8_undo_1 14 rfl rfl)
theorem dX8_undo_39 : decode cX8_undo 39 = .ok (.getfield 19, 3) := dk_180 0 19 (dk_at dksX8_undo_1 15 rfl rfl)
theorem dX8_undo_42 : decode cX8_undo 42 = .ok (.sipush 900, 3) := dk_17 3 132 (dk_at dksX8_undo_1 18 rfl rfl)
theorem dX8_undo_45 : decode cX8_undo 45 = .ok (.aload_n 0, 1) := dk_42 (dk_at dksX8_undo_1 21 rfl rfl)
theorem dX8_undo_46 : decode cX8_undo 46 = .ok (.getfield 207, 3) := dk_180 0 207 (dk_at dksX8_undo_2 0 rfl rfl)
theorem dX8_undo_49 : decode cX8_undo 49 = .ok (.imul, 1) := dk_104 (dk_at dksX8_undo_2 3 rfl rfl)
theorem dX8_undo_50 : decode cX8_undo 50 = .ok (.iload_n 1, 1) := dk_27 (dk_at dksX8_undo_2 4 rfl rfl)
theorem dX8_undo_51 : decode cX8_undo 51 = .ok (.iadd, 1) := dk_96 (dk_at dksX8_undo_2 5 rfl rfl)
theorem dX8_undo_52 : decode cX8_undo 52 = .ok (.iaload, 1) := dk_46 (dk_at dksX8_undo_2 6 rfl rfl)
theorem dX8_undo_53 : decode cX8_undo 53 = .ok (.iastore, 1) := dk_79 (dk_at dksX8_undo_2 7 rfl rfl)
theorem dX8_undo_54 : decode cX8_undo 54 = .ok (.iinc 1 1, 3) := dk_132 1 1 (dk_at dksX8_undo_2 8 rfl rfl)
theorem dX8_undo_57 : decode cX8_undo 57 = .ok (.goto (-31), 3) := dk_167 255 225 (dk_at dksX8_undo_2 11 rfl rfl)
theorem dX8_undo_60 : decode cX8_undo 60 = .ok (.iconst 1, 1) := dk_4 (dk_at dksX8_undo_2 14 rfl rfl)
theorem dX8_undo_61 : decode cX8_undo 61 = .ok (.ireturn, 1) := dk_172 (dk_at dksX8_undo_2 15 rfl rfl)
abbrev cX8_image : ByteArray := prog_23_method_116_code
def yX8_image : MethodName := ⟨RX8, "image", "()V"⟩
def dkwX8_image_1 : List UInt8 := [46, 79, 132, 1, 1, 167, 255, 234, 42, 4, 181, 1, 128, 177]
abbrev dktX8_image_1 : List UInt8 := dkwX8_image_1 ++ []
def dkwX8_image_0 : List UInt8 := [42, 3, 181, 0, 56, 3, 60, 27, 17, 5, 20, 162, 0, 21, 42, 180, 0, 13, 27, 42, 180, 0, 7, 27]
abbrev dktX8_image_0 : List UInt8 := dkwX8_image_0 ++ dktX8_image_1
theorem dksX8_image_0 : cX8_image.data.toList.drop 0 = dktX8_image_0 := by decide +kernel
theorem dksX8_image_1 : cX8_image.data.toList.drop 24 = dktX8_image_1 := dk_seg dksX8_image_0 24 rfl rfl
theorem dX8_image_0 : decode cX8_image 0 = .ok (.aload_n 0, 1) := dk_42 (dk_at dksX8_image_0 0 rfl rfl)
theorem dX8_image_1 : decode cX8_image 1 = .ok (.iconst 0, 1) := dk_3 (dk_at dksX8_image_0 1 rfl rfl)
theorem dX8_image_2 : decode cX8_image 2 = .ok (.putfield 56, 3) := dk_181 0 56 (dk_at dksX8_image_0 2 rfl rfl)
theorem dX8_image_5 : decode cX8_image 5 = .ok (.iconst 0, 1) := dk_3 (dk_at dksX8_image_0 5 rfl rfl)
theorem dX8_image_6 : decode cX8_image 6 = .ok (.istore_n 1, 1) := dk_60 (dk_at dksX8_image_0 6 rfl rfl)
theorem dX8_image_7 : decode cX8_image 7 = .ok (.iload_n 1, 1) := dk_27 (dk_at dksX8_image_0 7 rfl rfl)
theorem dX8_image_8 : decode cX8_image 8 = .ok (.sipush 1300, 3) := dk_17 5 20 (dk_at dksX8_image_0 8 rfl rfl)
theorem dX8_image_11 : decode cX8_image 11 = .ok (.if_icmp .ge 21, 3) := dk_162 0 21 (dk_at dksX8_image_0 11 rfl rfl)
theorem dX8_image_14 : decode cX8_image 14 = .ok (.aload_n 0, 1) := dk_42 (dk_at dksX8_image_0 14 rfl rfl)
theorem dX8_image_15 : decode cX8_image 15 = .ok (.getfield 13, 3) := dk_180 0 13 (dk_at dksX8_image_0 15 rfl rfl)
theorem dX8_image_18 : decode cX8_image 18 = .ok (.iload_n 1, 1) := dk_27 (dk_at dksX8_image_0 18 rfl rfl)
theorem dX8_image_19 : decode cX8_image 19 = .ok (.aload_n 0, 1) := dk_42 (dk_at dksX8_image_0 19 rfl rfl)
theorem dX8_image_20 : decode cX8_image 20 = .ok (.getfield 7, 3) := dk_180 0 7 (dk_at dksX8_image_0 20 rfl rfl)
theorem dX8_image_23 : decode cX8_image 23 = .ok (.iload_n 1, 1) := dk_27 (dk_at dksX8_image_0 23 rfl rfl)
theorem dX8_image_24 : decode cX8_image 24 = .ok (.iaload, 1) := dk_46 (dk_at dksX8_image_1 0 rfl rfl)
theorem dX8_image_25 : decode cX8_image 25 = .ok (.iastore, 1) := dk_79 (dk_at dksX8_image_1 1 rfl rfl)
theorem dX8_image_26 : decode cX8_image 26 = .ok (.iinc 1 1, 3) := dk_132 1 1 (dk_at dksX8_image_1 2 rfl rfl)
theorem dX8_image_29 : decode cX8_image 29 = .ok (.goto (-22), 3) := dk_167 255 234 (dk_at dksX8_image_1 5 rfl rfl)
theorem dX8_image_32 : decode cX8_image 32 = .ok (.aload_n 0, 1) := dk_42 (dk_at dksX8_image_1 8 rfl rfl)
theorem dX8_image_33 : decode cX8_image 33 = .ok (.iconst 1, 1) := dk_4 (dk_at dksX8_image_1 9 rfl rfl)
theorem dX8_image_34 : decode cX8_image 34 = .ok (.putfield 384, 3) := dk_181 1 128 (dk_at dksX8_image_1 10 rfl rfl)
theorem dX8_image_37 : decode cX8_image 37 = .ok (.return_, 1) := dk_177 (dk_at dksX8_image_1 13 rfl rfl)
abbrev cX8_back : ByteArray := prog_23_method_117_code
def yX8_back : MethodName := ⟨RX8, "back", "()Z"⟩
def dkwX8_back_1 : List UInt8 := [180, 0, 7, 27, 42, 180, 0, 13, 27, 46, 79, 132, 1, 1, 167, 255, 234, 42, 3, 181, 0, 207, 4, 172]
abbrev dktX8_back_1 : List UInt8 := dkwX8_back_1 ++ []
def dkwX8_back_0 : List UInt8 := [42, 3, 181, 0, 56, 42, 180, 1, 128, 154, 0, 5, 3, 172, 3, 60, 27, 17, 5, 20, 162, 0, 21, 42]
abbrev dktX8_back_0 : List UInt8 := dkwX8_back_0 ++ dktX8_back_1
theorem dksX8_back_0 : cX8_back.data.toList.drop 0 = dktX8_back_0 := by decide +kernel
theorem dksX8_back_1 : cX8_back.data.toList.drop 24 = dktX8_back_1 := dk_seg dksX8_back_0 24 rfl rfl
theorem dX8_back_0 : decode cX8_back 0 = .ok (.aload_n 0, 1) := dk_42 (dk_at dksX8_back_0 0 rfl rfl)
theorem dX8_back_1 : decode cX8_back 1 = .ok (.iconst 0, 1) := dk_3 (dk_at dksX8_back_0 1 rfl rfl)
theorem dX8_back_2 : decode cX8_back 2 = .ok (.putfield 56, 3) := dk_181 0 56 (dk_at dksX8_back_0 2 rfl rfl)
theorem dX8_back_5 : decode cX8_back 5 = .ok (.aload_n 0, 1) := dk_42 (dk_at dksX8_back_0 5 rfl rfl)
theorem dX8_back_6 : decode cX8_back 6 = .ok (.getfield 384, 3) := dk_180 1 128 (dk_at dksX8_back_0 6 rfl rfl)
theorem dX8_back_9 : decode cX8_back 9 = .ok (.ifCond .ne 5, 3) := dk_154 0 5 (dk_at dksX8_back_0 9 rfl rfl)
theorem dX8_back_12 : decode cX8_back 12 = .ok (.iconst 0, 1) := dk_3 (dk_at dksX8_back_0 12 rfl rfl)
theorem dX8_back_13 : decode cX8_back 13 = .ok (.ireturn, 1) := dk_172 (dk_at dksX8_back_0 13 rfl rfl)
theorem dX8_back_14 : decode cX8_back 14 = .ok (.iconst 0, 1) := dk_3 (dk_at dksX8_back_0 14 rfl rfl)
theorem dX8_back_15 : decode cX8_back 15 = .ok (.istore_n 1, 1) := dk_60 (dk_at dksX8_back_0 15 rfl rfl)
theorem dX8_back_16 : decode cX8_back 16 = .ok (.iload_n 1, 1) := dk_27 (dk_at dksX8_back_0 16 rfl rfl)
theorem dX8_back_17 : decode cX8_back 17 = .ok (.sipush 1300, 3) := dk_17 5 20 (dk_at dksX8_back_0 17 rfl rfl)
theorem dX8_back_20 : decode cX8_back 20 = .ok (.if_icmp .ge 21, 3) := dk_162 0 21 (dk_at dksX8_back_0 20 rfl rfl)
theorem dX8_back_23 : decode cX8_back 23 = .ok (.aload_n 0, 1) := dk_42 (dk_at dksX8_back_0 23 rfl rfl)
theorem dX8_back_24 : decode cX8_back 24 = .ok (.getfield 7, 3) := dk_180 0 7 (dk_at dksX8_back_1 0 rfl rfl)
theorem dX8_back_27 : decode cX8_back 27 = .ok (.iload_n 1, 1) := dk_27 (dk_at dksX8_back_1 3 rfl rfl)
theorem dX8_back_28 : decode cX8_back 28 = .ok (.aload_n 0, 1) := dk_42 (dk_at dksX8_back_1 4 rfl rfl)
theorem dX8_back_29 : decode cX8_back 29 = .ok (.getfield 13, 3) := dk_180 0 13 (dk_at dksX8_back_1 5 rfl rfl)
theorem dX8_back_32 : decode cX8_back 32 = .ok (.iload_n 1, 1) := dk_27 (dk_at dksX8_back_1 8 rfl rfl)
theorem dX8_back_33 : decode cX8_back 33 = .ok (.iaload, 1) := dk_46 (dk_at dksX8_back_1 9 rfl rfl)
theorem dX8_back_34 : decode cX8_back 34 = .ok (.iastore, 1) := dk_79 (dk_at dksX8_back_1 10 rfl rfl)
theorem dX8_back_35 : decode cX8_back 35 = .ok (.iinc 1 1, 3) := dk_132 1 1 (dk_at dksX8_back_1 11 rfl rfl)
theorem dX8_back_38 : decode cX8_back 38 = .ok (.goto (-22), 3) := dk_167 255 234 (dk_at dksX8_back_1 14 rfl rfl)
theorem dX8_back_41 : decode cX8_back 41 = .ok (.aload_n 0, 1) := dk_42 (dk_at dksX8_back_1 17 rfl rfl)
theorem dX8_back_42 : decode cX8_back 42 = .ok (.iconst 0, 1) := dk_3 (dk_at dksX8_back_1 18 rfl rfl)
theorem dX8_back_43 : decode cX8_back 43 = .ok (.putfield 207, 3) := dk_181 0 207 (dk_at dksX8_back_1 19 rfl rfl)
theorem dX8_back_46 : decode cX8_back 46 = .ok (.iconst 1, 1) := dk_4 (dk_at dksX8_back_1 22 rfl rfl)
theorem dX8_back_47 : decode cX8_back 47 = .ok (.ireturn, 1) := dk_172 (dk_at dksX8_back_1 23 rfl rfl)
abbrev cX8_count : ByteArray := prog_23_method_118_code
def yX8_count : MethodName := ⟨RX8, "count", "(I)I"⟩
def dkwX8_count_6 : List UInt8 := [184, 0, 59, 153, 0, 18, 42, 180, 0, 7, 16, 13, 27, 96, 16, 14, 100, 46, 167, 0, 4, 2, 172]
abbrev dktX8_count_6 : List UInt8 := dkwX8_count_6 ++ []
def dkwX8_count_5 : List UInt8 := [42, 180, 0, 7, 16, 12, 46, 172, 27, 16, 13, 160, 0, 8, 42, 180, 0, 207, 172, 27, 16, 14, 16, 16]
abbrev dktX8_count_5 : List UInt8 := dkwX8_count_5 ++ dktX8_count_6
def dkwX8_count_4 : List UInt8 := [27, 96, 16, 6, 100, 46, 172, 27, 16, 11, 160, 0, 8, 42, 182, 1, 116, 172, 27, 16, 12, 160, 0, 11]
abbrev dktX8_count_4 : List UInt8 := dkwX8_count_4 ++ dktX8_count_5
def dkwX8_count_3 : List UInt8 := [42, 180, 0, 7, 4, 46, 172, 27, 16, 6, 16, 10, 184, 0, 59, 153, 0, 16, 42, 180, 0, 7, 16, 7]
abbrev dktX8_count_3 : List UInt8 := dkwX8_count_3 ++ dktX8_count_4
def dkwX8_count_2 : List UInt8 := [180, 0, 7, 16, 6, 46, 172, 27, 7, 160, 0, 10, 42, 180, 0, 7, 3, 46, 172, 27, 8, 160, 0, 10]
abbrev dktX8_count_2 : List UInt8 := dkwX8_count_2 ++ dktX8_count_3
def dkwX8_count_1 : List UInt8 := [180, 0, 7, 7, 46, 172, 27, 5, 160, 0, 10, 42, 180, 0, 7, 8, 46, 172, 27, 6, 160, 0, 11, 42]
abbrev dktX8_count_1 : List UInt8 := dkwX8_count_1 ++ dktX8_count_2
def dkwX8_count_0 : List UInt8 := [42, 3, 181, 0, 56, 27, 154, 0, 10, 42, 180, 0, 7, 6, 46, 172, 27, 4, 160, 0, 10, 42]
abbrev dktX8_count_0 : List UInt8 := dkwX8_count_0 ++ dktX8_count_1
theorem dksX8_count_0 : cX8_count.data.toList.drop 0 = dktX8_count_0 := by decide +kernel
theorem dksX8_count_1 : cX8_count.data.toList.drop 22 = dktX8_count_1 := dk_seg dksX8_count_0 22 rfl rfl
theorem dksX8_count_2 : cX8_count.data.toList.drop 46 = dktX8_count_2 := dk_seg dksX8_count_1 24 rfl rfl
theorem dksX8_count_3 : cX8_count.data.toList.drop 70 = dktX8_count_3 := dk_seg dksX8_count_2 24 rfl rfl
theorem dksX8_count_4 : cX8_count.data.toList.drop 94 = dktX8_count_4 := dk_seg dksX8_count_3 24 rfl rfl
theorem dksX8_count_5 : cX8_count.data.toList.drop 118 = dktX8_count_5 := dk_seg dksX8_count_4 24 rfl rfl
theorem dksX8_count_6 : cX8_count.data.toList.drop 142 = dktX8_count_6 := dk_seg dksX8_count_5 24 rfl rfl
theorem dX8_count_0 : decode cX8_count 0 = .ok (.aload_n 0, 1) := dk_42 (dk_at dksX8_count_0 0 rfl rfl)
theorem dX8_count_1 : decode cX8_count 1 = .ok (.iconst 0, 1) := dk_3 (dk_at dksX8_count_0 1 rfl rfl)
theorem dX8_count_2 : decode cX8_count 2 = .ok (.putfield 56, 3) := dk_181 0 56 (dk_at dksX8_count_0 2 rfl rfl)
theorem dX8_count_5 : decode cX8_count 5 = .ok (.iload_n 1, 1) := dk_27 (dk_at dksX8_count_0 5 rfl rfl)
theorem dX8_count_6 : decode cX8_count 6 = .ok (.ifCond .ne 10, 3) := dk_154 0 10 (dk_at dksX8_count_0 6 rfl rfl)
theorem dX8_count_9 : decode cX8_count 9 = .ok (.aload_n 0, 1) := dk_42 (dk_at dksX8_count_0 9 rfl rfl)
theorem dX8_count_10 : decode cX8_count 10 = .ok (.getfield 7, 3) := dk_180 0 7 (dk_at dksX8_count_0 10 rfl rfl)
theorem dX8_count_13 : decode cX8_count 13 = .ok (.iconst 3, 1) := dk_6 (dk_at dksX8_count_0 13 rfl rfl)
theorem dX8_count_14 : decode cX8_count 14 = .ok (.iaload, 1) := dk_46 (dk_at dksX8_count_0 14 rfl rfl)
theorem dX8_count_15 : decode cX8_count 15 = .ok (.ireturn, 1) := dk_172 (dk_at dksX8_count_0 15 rfl rfl)
theorem dX8_count_16 : decode cX8_count 16 = .ok (.iload_n 1, 1) := dk_27 (dk_at dksX8_count_0 16 rfl rfl)
theorem dX8_count_17 : decode cX8_count 17 = .ok (.iconst 1, 1) := dk_4 (dk_at dksX8_count_0 17 rfl rfl)
theorem dX8_count_18 : decode cX8_count 18 = .ok (.if_icmp .ne 10, 3) := dk_160 0 10 (dk_at dksX8_count_0 18 rfl rfl)
theorem dX8_count_21 : decode cX8_count 21 = .ok (.aload_n 0, 1) := dk_42 (dk_at dksX8_count_0 21 rfl rfl)
theorem dX8_count_22 : decode cX8_count 22 = .ok (.getfield 7, 3) := dk_180 0 7 (dk_at dksX8_count_1 0 rfl rfl)
theorem dX8_count_25 : decode cX8_count 25 = .ok (.iconst 4, 1) := dk_7 (dk_at dksX8_count_1 3 rfl rfl)
theorem dX8_count_26 : decode cX8_count 26 = .ok (.iaload, 1) := dk_46 (dk_at dksX8_count_1 4 rfl rfl)
theorem dX8_count_27 : decode cX8_count 27 = .ok (.ireturn, 1) := dk_172 (dk_at dksX8_count_1 5 rfl rfl)
theorem dX8_count_28 : decode cX8_count 28 = .ok (.iload_n 1, 1) := dk_27 (dk_at dksX8_count_1 6 rfl rfl)
theorem dX8_count_29 : decode cX8_count 29 = .ok (.iconst 2, 1) := dk_5 (dk_at dksX8_count_1 7 rfl rfl)
theorem dX8_count_30 : decode cX8_count 30 = .ok (.if_icmp .ne 10, 3) := dk_160 0 10 (dk_at dksX8_count_1 8 rfl rfl)
theorem dX8_count_33 : decode cX8_count 33 = .ok (.aload_n 0, 1) := dk_42 (dk_at dksX8_count_1 11 rfl rfl)
theorem dX8_count_34 : decode cX8_count 34 = .ok (.getfield 7, 3) := dk_180 0 7 (dk_at dksX8_count_1 12 rfl rfl)
theorem dX8_count_37 : decode cX8_count 37 = .ok (.iconst 5, 1) := dk_8 (dk_at dksX8_count_1 15 rfl rfl)
theorem dX8_count_38 : decode cX8_count 38 = .ok (.iaload, 1) := dk_46 (dk_at dksX8_count_1 16 rfl rfl)
theorem dX8_count_39 : decode cX8_count 39 = .ok (.ireturn, 1) := dk_172 (dk_at dksX8_count_1 17 rfl rfl)
theorem dX8_count_40 : decode cX8_count 40 = .ok (.iload_n 1, 1) := dk_27 (dk_at dksX8_count_1 18 rfl rfl)
theorem dX8_count_41 : decode cX8_count 41 = .ok (.iconst 3, 1) := dk_6 (dk_at dksX8_count_1 19 rfl rfl)
theorem dX8_count_42 : decode cX8_count 42 = .ok (.if_icmp .ne 11, 3) := dk_160 0 11 (dk_at dksX8_count_1 20 rfl rfl)
theorem dX8_count_45 : decode cX8_count 45 = .ok (.aload_n 0, 1) := dk_42 (dk_at dksX8_count_1 23 rfl rfl)
theorem dX8_count_46 : decode cX8_count 46 = .ok (.getfield 7, 3) := dk_180 0 7 (dk_at dksX8_count_2 0 rfl rfl)
theorem dX8_count_49 : decode cX8_count 49 = .ok (.bipush 6, 2) := dk_16 6 (dk_at dksX8_count_2 3 rfl rfl)
theorem dX8_count_51 : decode cX8_count 51 = .ok (.iaload, 1) := dk_46 (dk_at dksX8_count_2 5 rfl rfl)
theorem dX8_count_52 : decode cX8_count 52 = .ok (.ireturn, 1) := dk_172 (dk_at dksX8_count_2 6 rfl rfl)
theorem dX8_count_53 : decode cX8_count 53 = .ok (.iload_n 1, 1) := dk_27 (dk_at dksX8_count_2 7 rfl rfl)
theorem dX8_count_54 : decode cX8_count 54 = .ok (.iconst 4, 1) := dk_7 (dk_at dksX8_count_2 8 rfl rfl)
theorem dX8_count_55 : decode cX8_count 55 = .ok (.if_icmp .ne 10, 3) := dk_160 0 10 (dk_at dksX8_count_2 9 rfl rfl)
theorem dX8_count_58 : decode cX8_count 58 = .ok (.aload_n 0, 1) := dk_42 (dk_at dksX8_count_2 12 rfl rfl)
theorem dX8_count_59 : decode cX8_count 59 = .ok (.getfield 7, 3) := dk_180 0 7 (dk_at dksX8_count_2 13 rfl rfl)
theorem dX8_count_62 : decode cX8_count 62 = .ok (.iconst 0, 1) := dk_3 (dk_at dksX8_count_2 16 rfl rfl)
theorem dX8_count_63 : decode cX8_count 63 = .ok (.iaload, 1) := dk_46 (dk_at dksX8_count_2 17 rfl rfl)
theorem dX8_count_64 : decode cX8_count 64 = .ok (.ireturn, 1) := dk_172 (dk_at dksX8_count_2 18 rfl rfl)
theorem dX8_count_65 : decode cX8_count 65 = .ok (.iload_n 1, 1) := dk_27 (dk_at dksX8_count_2 19 rfl rfl)
theorem dX8_count_66 : decode cX8_count 66 = .ok (.iconst 5, 1) := dk_8 (dk_at dksX8_count_2 20 rfl rfl)
theorem dX8_count_67 : decode cX8_count 67 = .ok (.if_icmp .ne 10, 3) := dk_160 0 10 (dk_at dksX8_count_2 21 rfl rfl)
theorem dX8_count_70 : decode cX8_count 70 = .ok (.aload_n 0, 1) := dk_42 (dk_at dksX8_count_3 0 rfl rfl)
theorem dX8_count_71 : decode cX8_count 71 = .ok (.getfield 7, 3) := dk_180 0 7 (dk_at dksX8_count_3 1 rfl rfl)
theorem dX8_count_74 : decode cX8_count 74 = .ok (.iconst 1, 1) := dk_4 (dk_at dksX8_count_3 4 rfl rfl)
theorem dX8_count_75 : decode cX8_count 75 = .ok (.iaload, 1) := dk_46 (dk_at dksX8_count_3 5 rfl rfl)
theorem dX8_count_76 : decode cX8_count 76 = .ok (.ireturn, 1) := dk_172 (dk_at dksX8_count_3 6 rfl rfl)
theorem dX8_count_77 : decode cX8_count 77 = .ok (.iload_n 1, 1) := dk_27 (dk_at dksX8_count_3 7 rfl rfl)
theorem dX8_count_78 : decode cX8_count 78 = .ok (.bipush 6, 2) := dk_16 6 (dk_at dksX8_count_3 8 rfl rfl)
theorem dX8_count_80 : decode cX8_count 80 = .ok (.bipush 10, 2) := dk_16 10 (dk_at dksX8_count_3 10 rfl rfl)
theorem dX8_count_82 : decode cX8_count 82 = .ok (.invokestatic 59, 3) := dk_184 0 59 (dk_at dksX8_count_3 12 rfl rfl)
theorem dX8_count_85 : decode cX8_count 85 = .ok (.ifCond .eq 16, 3) := dk_153 0 16 (dk_at dksX8_count_3 15 rfl rfl)
theorem dX8_count_88 : decode cX8_count 88 = .ok (.aload_n 0, 1) := dk_42 (dk_at dksX8_count_3 18 rfl rfl)
theorem dX8_count_89 : decode cX8_count 89 = .ok (.getfield 7, 3) := dk_180 0 7 (dk_at dksX8_count_3 19 rfl rfl)
theorem dX8_count_92 : decode cX8_count 92 = .ok (.bipush 7, 2) := dk_16 7 (dk_at dksX8_count_3 22 rfl rfl)
theorem dX8_count_94 : decode cX8_count 94 = .ok (.iload_n 1, 1) := dk_27 (dk_at dksX8_count_4 0 rfl rfl)
theorem dX8_count_95 : decode cX8_count 95 = .ok (.iadd, 1) := dk_96 (dk_at dksX8_count_4 1 rfl rfl)
theorem dX8_count_96 : decode cX8_count 96 = .ok (.bipush 6, 2) := dk_16 6 (dk_at dksX8_count_4 2 rfl rfl)
theorem dX8_count_98 : decode cX8_count 98 = .ok (.isub, 1) := dk_100 (dk_at dksX8_count_4 4 rfl rfl)
theorem dX8_count_99 : decode cX8_count 99 = .ok (.iaload, 1) := dk_46 (dk_at dksX8_count_4 5 rfl rfl)
theorem dX8_count_100 : decode cX8_count 100 = .ok (.ireturn, 1) := dk_172 (dk_at dksX8_count_4 6 rfl rfl)
theorem dX8_count_101 : decode cX8_count 101 = .ok (.iload_n 1, 1) := dk_27 (dk_at dksX8_count_4 7 rfl rfl)
theorem dX8_count_102 : decode cX8_count 102 = .ok (.bipush 11, 2) := dk_16 11 (dk_at dksX8_count_4 8 rfl rfl)
theorem dX8_count_104 : decode cX8_count 104 = .ok (.if_icmp .ne 8, 3) := dk_160 0 8 (dk_at dksX8_count_4 10 rfl rfl)
theorem dX8_count_107 : decode cX8_count 107 = .ok (.aload_n 0, 1) := dk_42 (dk_at dksX8_count_4 13 rfl rfl)
theorem dX8_count_108 : decode cX8_count 108 = .ok (.invokevirtual 372, 3) := dk_182 1 116 (dk_at dksX8_count_4 14 rfl rfl)
theorem dX8_count_111 : decode cX8_count 111 = .ok (.ireturn, 1) := dk_172 (dk_at dksX8_count_4 17 rfl rfl)
theorem dX8_count_112 : decode cX8_count 112 = .ok (.iload_n 1, 1) := dk_27 (dk_at dksX8_count_4 18 rfl rfl)
theorem dX8_count_113 : decode cX8_count 113 = .ok (.bipush 12, 2) := dk_16 12 (dk_at dksX8_count_4 19 rfl rfl)
theorem dX8_count_115 : decode cX8_count 115 = .ok (.if_icmp .ne 11, 3) := dk_160 0 11 (dk_at dksX8_count_4 21 rfl rfl)
theorem dX8_count_118 : decode cX8_count 118 = .ok (.aload_n 0, 1) := dk_42 (dk_at dksX8_count_5 0 rfl rfl)
theorem dX8_count_119 : decode cX8_count 119 = .ok (.getfield 7, 3) := dk_180 0 7 (dk_at dksX8_count_5 1 rfl rfl)
theorem dX8_count_122 : decode cX8_count 122 = .ok (.bipush 12, 2) := dk_16 12 (dk_at dksX8_count_5 4 rfl rfl)
theorem dX8_count_124 : decode cX8_count 124 = .ok (.iaload, 1) := dk_46 (dk_at dksX8_count_5 6 rfl rfl)
theorem dX8_count_125 : decode cX8_count 125 = .ok (.ireturn, 1) := dk_172 (dk_at dksX8_count_5 7 rfl rfl)
theorem dX8_count_126 : decode cX8_count 126 = .ok (.iload_n 1, 1) := dk_27 (dk_at dksX8_count_5 8 rfl rfl)
theorem dX8_count_127 : decode cX8_count 127 = .ok (.bipush 13, 2) := dk_16 13 (dk_at dksX8_count_5 9 rfl rfl)
theorem dX8_count_129 : decode cX8_count 129 = .ok (.if_icmp .ne 8, 3) := dk_160 0 8 (dk_at dksX8_count_5 11 rfl rfl)
theorem dX8_count_132 : decode cX8_count 132 = .ok (.aload_n 0, 1) := dk_42 (dk_at dksX8_count_5 14 rfl rfl)
theorem dX8_count_133 : decode cX8_count 133 = .ok (.getfield 207, 3) := dk_180 0 207 (dk_at dksX8_count_5 15 rfl rfl)
theorem dX8_count_136 : decode cX8_count 136 = .ok (.ireturn, 1) := dk_172 (dk_at dksX8_count_5 18 rfl rfl)
theorem dX8_count_137 : decode cX8_count 137 = .ok (.iload_n 1, 1) := dk_27 (dk_at dksX8_count_5 19 rfl rfl)
theorem dX8_count_138 : decode cX8_count 138 = .ok (.bipush 14, 2) := dk_16 14 (dk_at dksX8_count_5 20 rfl rfl)
theorem dX8_count_140 : decode cX8_count 140 = .ok (.bipush 16, 2) := dk_16 16 (dk_at dksX8_count_5 22 rfl rfl)
theorem dX8_count_142 : decode cX8_count 142 = .ok (.invokestatic 59, 3) := dk_184 0 59 (dk_at dksX8_count_6 0 rfl rfl)
theorem dX8_count_145 : decode cX8_count 145 = .ok (.ifCond .eq 18, 3) := dk_153 0 18 (dk_at dksX8_count_6 3 rfl rfl)
theorem dX8_count_148 : decode cX8_count 148 = .ok (.aload_n 0, 1) := dk_42 (dk_at dksX8_count_6 6 rfl rfl)
theorem dX8_count_149 : decode cX8_count 149 = .ok (.getfield 7, 3) := dk_180 0 7 (dk_at dksX8_count_6 7 rfl rfl)
theorem dX8_count_152 : decode cX8_count 152 = .ok (.bipush 13, 2) := dk_16 13 (dk_at dksX8_count_6 10 rfl rfl)
theorem dX8_count_154 : decode cX8_count 154 = .ok (.iload_n 1, 1) := dk_27 (dk_at dksX8_count_6 12 rfl rfl)
theorem dX8_count_155 : decode cX8_count 155 = .ok (.iadd, 1) := dk_96 (dk_at dksX8_count_6 13 rfl rfl)
theorem dX8_count_156 : decode cX8_count 156 = .ok (.bipush 14, 2) := dk_16 14 (dk_at dksX8_count_6 14 rfl rfl)
theorem dX8_count_158 : decode cX8_count 158 = .ok (.isub, 1) := dk_100 (dk_at dksX8_count_6 16 rfl rfl)
theorem dX8_count_159 : decode cX8_count 159 = .ok (.iaload, 1) := dk_46 (dk_at dksX8_count_6 17 rfl rfl)
theorem dX8_count_160 : decode cX8_count 160 = .ok (.goto 4, 3) := dk_167 0 4 (dk_at dksX8_count_6 18 rfl rfl)
theorem dX8_count_163 : decode cX8_count 163 = .ok (.iconst (-1), 1) := dk_2 (dk_at dksX8_count_6 21 rfl rfl)
theorem dX8_count_164 : decode cX8_count 164 = .ok (.ireturn, 1) := dk_172 (dk_at dksX8_count_6 22 rfl rfl)
theorem q127 : (Jvm.Cond.initialized "CheekTownModel") ∈ lw_all := lw_g (lw_at lw_m1 11 rfl) rfl
theorem q1574 : (Jvm.Cond.selects "CheekTownModel" ({ cls := "java/lang/Object", name := "getClass", desc := "()Ljava/lang/Class;" } : Jvm.MethodName) ({ cls := "java/lang/Object", name := "getClass", desc := "()Ljava/lang/Class;" } : Jvm.MethodName)) ∈ lw_all := lw_g (lw_at lw_m7 18 rfl) rfl
theorem q2136 : (Jvm.Cond.instantiable "CheekTownModel" (27 : Nat)) ∈ lw_all := lw_g (lw_at lw_m9 100 rfl) rfl
theorem q2138 : (Jvm.Cond.instanceMethod ({ cls := "CheekTownModel", name := "<init>", desc := "()V" } : Jvm.MethodName)) ∈ lw_all := lw_g (lw_at lw_m9 102 rfl) rfl
theorem q2139 : (Jvm.Cond.code ({ cls := "CheekTownModel", name := "<init>", desc := "()V" } : Jvm.MethodName) prog_23_method_1_code (1 : Nat) (Option.none : Option Jvm.ClassFile.FieldType)) ∈ lw_all := lw_g (lw_at lw_m9 103 rfl) rfl
theorem q2140 : (Jvm.Cond.methodLink "CheekTownModel" (1 : Nat) ({ cls := "java/lang/Object", name := "<init>", desc := "()V" } : Jvm.MethodName)) ∈ lw_all := lw_g (lw_at lw_m9 104 rfl) rfl
theorem q2141 : (Jvm.Cond.fieldLink "CheekTownModel" (56 : Nat) "CheekTownModel" "thrown" "I") ∈ lw_all := lw_g (lw_at lw_m9 105 rfl) rfl
theorem q2142 : (Jvm.Cond.fieldLink "CheekTownModel" (7 : Nat) "CheekTownModel" "m" "[I") ∈ lw_all := lw_g (lw_at lw_m9 106 rfl) rfl
theorem q2143 : (Jvm.Cond.fieldLink "CheekTownModel" (13 : Nat) "CheekTownModel" "kept" "[I") ∈ lw_all := lw_g (lw_at lw_m9 107 rfl) rfl
theorem q2144 : (Jvm.Cond.fieldLink "CheekTownModel" (384 : Nat) "CheekTownModel" "hasImage" "Z") ∈ lw_all := lw_g (lw_at lw_m9 108 rfl) rfl
theorem q2145 : (Jvm.Cond.fieldLink "CheekTownModel" (16 : Nat) "CheekTownModel" "aside" "[I") ∈ lw_all := lw_g (lw_at lw_m9 109 rfl) rfl
theorem q2146 : (Jvm.Cond.fieldLink "CheekTownModel" (19 : Nat) "CheekTownModel" "acts" "[I") ∈ lw_all := lw_g (lw_at lw_m9 110 rfl) rfl
theorem q2147 : (Jvm.Cond.fieldLink "CheekTownModel" (207 : Nat) "CheekTownModel" "acted" "I") ∈ lw_all := lw_g (lw_at lw_m9 111 rfl) rfl
theorem q2148 : (Jvm.Cond.fieldLink "CheekTownModel" (22 : Nat) "CheekTownModel" "tape" "[I") ∈ lw_all := lw_g (lw_at lw_m9 112 rfl) rfl
theorem q2149 : (Jvm.Cond.fieldLink "CheekTownModel" (73 : Nat) "CheekTownModel" "taped" "I") ∈ lw_all := lw_g (lw_at lw_m9 113 rfl) rfl
theorem q2150 : (Jvm.Cond.fieldLink "CheekTownModel" (76 : Nat) "CheekTownModel" "base" "I") ∈ lw_all := lw_g (lw_at lw_m9 114 rfl) rfl
theorem q2151 : (Jvm.Cond.fieldLink "CheekTownModel" (82 : Nat) "CheekTownModel" "end" "I") ∈ lw_all := lw_g (lw_at lw_m9 115 rfl) rfl
theorem q2152 : (Jvm.Cond.fieldLink "CheekTownModel" (79 : Nat) "CheekTownModel" "at" "I") ∈ lw_all := lw_g (lw_at lw_m9 116 rfl) rfl
theorem q2153 : (Jvm.Cond.fieldLink "CheekTownModel" (25 : Nat) "CheekTownModel" "fault" "I") ∈ lw_all := lw_g (lw_at lw_m9 117 rfl) rfl
theorem q2154 : (Jvm.Cond.fieldLink "CheekTownModel" (184 : Nat) "CheekTownModel" "deep" "I") ∈ lw_all := lw_g (lw_at lw_m9 118 rfl) rfl
theorem q2155 : (Jvm.Cond.fieldLink "CheekTownModel" (29 : Nat) "CheekTownModel" "fact" "[I") ∈ lw_all := lw_g (lw_at lw_m9 119 rfl) rfl
theorem q2156 : (Jvm.Cond.fieldLink "CheekTownModel" (223 : Nat) "CheekTownModel" "isSame" "Z") ∈ lw_all := lw_g (lw_at lw_m9 120 rfl) rfl
theorem q2157 : (Jvm.Cond.fieldLink "CheekTownModel" (227 : Nat) "CheekTownModel" "hasCold" "Z") ∈ lw_all := lw_g (lw_at lw_m9 121 rfl) rfl
theorem q2158 : (Jvm.Cond.fieldLink "CheekTownModel" (254 : Nat) "CheekTownModel" "says" "I") ∈ lw_all := lw_g (lw_at lw_m9 122 rfl) rfl
theorem q2159 : (Jvm.Cond.fieldLink "CheekTownModel" (32 : Nat) "CheekTownModel" "own" "[I") ∈ lw_all := lw_g (lw_at lw_m9 123 rfl) rfl
theorem q2160 : (Jvm.Cond.fieldLink "CheekTownModel" (35 : Nat) "CheekTownModel" "next" "[I") ∈ lw_all := lw_g (lw_at lw_m9 124 rfl) rfl
theorem q2161 : (Jvm.Cond.fieldLink "CheekTownModel" (38 : Nat) "CheekTownModel" "friends" "[I") ∈ lw_all := lw_g (lw_at lw_m9 125 rfl) rfl
theorem q2162 : (Jvm.Cond.fieldLink "CheekTownModel" (41 : Nat) "CheekTownModel" "votes" "[I") ∈ lw_all := lw_g (lw_at lw_m9 126 rfl) rfl
theorem q2163 : (Jvm.Cond.fieldLink "CheekTownModel" (44 : Nat) "CheekTownModel" "seat" "[I") ∈ lw_all := lw_g (lw_at lw_m9 127 rfl) rfl
theorem q2164 : (Jvm.Cond.fieldLink "CheekTownModel" (47 : Nat) "CheekTownModel" "first" "[I") ∈ lw_all := lw_g (lw_at lw_m9 128 rfl) rfl
theorem q2165 : (Jvm.Cond.fieldLink "CheekTownModel" (50 : Nat) "CheekTownModel" "most" "[I") ∈ lw_all := lw_g (lw_at lw_m9 129 rfl) rfl
theorem q2166 : (Jvm.Cond.fieldLink "CheekTownModel" (53 : Nat) "CheekTownModel" "began" "[I") ∈ lw_all := lw_g (lw_at lw_m9 130 rfl) rfl
theorem q2167 : (Jvm.Cond.fieldLink "CheekTownModel" (334 : Nat) "CheekTownModel" "least" "I") ∈ lw_all := lw_g (lw_at lw_m9 131 rfl) rfl
theorem q2168 : (Jvm.Cond.lays "CheekTownModel" "CheekTownModel" "thrown" "I") ∈ lw_all := lw_g (lw_at lw_m9 132 rfl) rfl
theorem q2169 : (Jvm.Cond.soleField "CheekTownModel" "thrown") ∈ lw_all := lw_g (lw_at lw_m9 133 rfl) rfl
theorem q2170 : (Jvm.Cond.laysFinal "CheekTownModel" "CheekTownModel" "m" "[I") ∈ lw_all := lw_g (lw_at lw_m9 134 rfl) rfl
theorem q2171 : (Jvm.Cond.soleField "CheekTownModel" "m") ∈ lw_all := lw_g (lw_at lw_m9 135 rfl) rfl
theorem q2172 : (Jvm.Cond.laysFinal "CheekTownModel" "CheekTownModel" "kept" "[I") ∈ lw_all := lw_g (lw_at lw_m9 136 rfl) rfl
theorem q2173 : (Jvm.Cond.soleField "CheekTownModel" "kept") ∈ lw_all := lw_g (lw_at lw_m9 137 rfl) rfl
theorem q2174 : (Jvm.Cond.lays "CheekTownModel" "CheekTownModel" "hasImage" "Z") ∈ lw_all := lw_g (lw_at lw_m9 138 rfl) rfl
theorem q2175 : (Jvm.Cond.soleField "CheekTownModel" "hasImage") ∈ lw_all := lw_g (lw_at lw_m9 139 rfl) rfl
theorem q2176 : (Jvm.Cond.laysFinal "CheekTownModel" "CheekTownModel" "aside" "[I") ∈ lw_all := lw_g (lw_at lw_m9 140 rfl) rfl
theorem q2177 : (Jvm.Cond.soleField "CheekTownModel" "aside") ∈ lw_all := lw_g (lw_at lw_m9 141 rfl) rfl
theorem q2178 : (Jvm.Cond.laysFinal "CheekTownModel" "CheekTownModel" "acts" "[I") ∈ lw_all := lw_g (lw_at lw_m9 142 rfl) rfl
theorem q2179 : (Jvm.Cond.soleField "CheekTownModel" "acts") ∈ lw_all := lw_g (lw_at lw_m9 143 rfl) rfl
theorem q2180 : (Jvm.Cond.lays "CheekTownModel" "CheekTownModel" "acted" "I") ∈ lw_all := lw_g (lw_at lw_m9 144 rfl) rfl
theorem q2181 : (Jvm.Cond.soleField "CheekTownModel" "acted") ∈ lw_all := lw_g (lw_at lw_m9 145 rfl) rfl
theorem q2182 : (Jvm.Cond.laysFinal "CheekTownModel" "CheekTownModel" "tape" "[I") ∈ lw_all := lw_g (lw_at lw_m9 146 rfl) rfl
theorem q2183 : (Jvm.Cond.soleField "CheekTownModel" "tape") ∈ lw_all := lw_g (lw_at lw_m9 147 rfl) rfl
theorem q2184 : (Jvm.Cond.lays "CheekTownModel" "CheekTownModel" "taped" "I") ∈ lw_all := lw_g (lw_at lw_m9 148 rfl) rfl
theorem q2185 : (Jvm.Cond.soleField "CheekTownModel" "taped") ∈ lw_all := lw_g (lw_at lw_m9 149 rfl) rfl
theorem q2186 : (Jvm.Cond.lays "CheekTownModel" "CheekTownModel" "base" "I") ∈ lw_all := lw_g (lw_at lw_m9 150 rfl) rfl
theorem q2187 : (Jvm.Cond.soleField "CheekTownModel" "base") ∈ lw_all := lw_g (lw_at lw_m9 151 rfl) rfl
theorem q2188 : (Jvm.Cond.lays "CheekTownModel" "CheekTownModel" "end" "I") ∈ lw_all := lw_g (lw_at lw_m9 152 rfl) rfl
theorem q2189 : (Jvm.Cond.soleField "CheekTownModel" "end") ∈ lw_all := lw_g (lw_at lw_m9 153 rfl) rfl
theorem q2190 : (Jvm.Cond.lays "CheekTownModel" "CheekTownModel" "at" "I") ∈ lw_all := lw_g (lw_at lw_m9 154 rfl) rfl
theorem q2191 : (Jvm.Cond.soleField "CheekTownModel" "at") ∈ lw_all := lw_g (lw_at lw_m9 155 rfl) rfl
theorem q2192 : (Jvm.Cond.lays "CheekTownModel" "CheekTownModel" "fault" "I") ∈ lw_all := lw_g (lw_at lw_m9 156 rfl) rfl
theorem q2193 : (Jvm.Cond.soleField "CheekTownModel" "fault") ∈ lw_all := lw_g (lw_at lw_m9 157 rfl) rfl
theorem q2194 : (Jvm.Cond.lays "CheekTownModel" "CheekTownModel" "deep" "I") ∈ lw_all := lw_g (lw_at lw_m9 158 rfl) rfl
theorem q2195 : (Jvm.Cond.soleField "CheekTownModel" "deep") ∈ lw_all := lw_g (lw_at lw_m9 159 rfl) rfl
theorem q2196 : (Jvm.Cond.laysFinal "CheekTownModel" "CheekTownModel" "fact" "[I") ∈ lw_all := lw_g (lw_at lw_m9 160 rfl) rfl
theorem q2197 : (Jvm.Cond.soleField "CheekTownModel" "fact") ∈ lw_all := lw_g (lw_at lw_m9 161 rfl) rfl
theorem q2198 : (Jvm.Cond.lays "CheekTownModel" "CheekTownModel" "isSame" "Z") ∈ lw_all := lw_g (lw_at lw_m9 162 rfl) rfl
theorem q2199 : (Jvm.Cond.soleField "CheekTownModel" "isSame") ∈ lw_all := lw_g (lw_at lw_m9 163 rfl) rfl
theorem q2200 : (Jvm.Cond.lays "CheekTownModel" "CheekTownModel" "hasCold" "Z") ∈ lw_all := lw_g (lw_at lw_m9 164 rfl) rfl
theorem q2201 : (Jvm.Cond.soleField "CheekTownModel" "hasCold") ∈ lw_all := lw_g (lw_at lw_m9 165 rfl) rfl
theorem q2202 : (Jvm.Cond.lays "CheekTownModel" "CheekTownModel" "says" "I") ∈ lw_all := lw_g (lw_at lw_m9 166 rfl) rfl
theorem q2203 : (Jvm.Cond.soleField "CheekTownModel" "says") ∈ lw_all := lw_g (lw_at lw_m9 167 rfl) rfl
theorem q2204 : (Jvm.Cond.laysFinal "CheekTownModel" "CheekTownModel" "own" "[I") ∈ lw_all := lw_g (lw_at lw_m9 168 rfl) rfl
theorem q2205 : (Jvm.Cond.soleField "CheekTownModel" "own") ∈ lw_all := lw_g (lw_at lw_m9 169 rfl) rfl
theorem q2206 : (Jvm.Cond.laysFinal "CheekTownModel" "CheekTownModel" "next" "[I") ∈ lw_all := lw_g (lw_at lw_m9 170 rfl) rfl
theorem q2207 : (Jvm.Cond.soleField "CheekTownModel" "next") ∈ lw_all := lw_g (lw_at lw_m9 171 rfl) rfl
theorem q2208 : (Jvm.Cond.laysFinal "CheekTownModel" "CheekTownModel" "friends" "[I") ∈ lw_all := lw_g (lw_at lw_m9 172 rfl) rfl
theorem q2209 : (Jvm.Cond.soleField "CheekTownModel" "friends") ∈ lw_all := lw_g (lw_at lw_m9 173 rfl) rfl
theorem q2210 : (Jvm.Cond.laysFinal "CheekTownModel" "CheekTownModel" "votes" "[I") ∈ lw_all := lw_g (lw_at lw_m9 174 rfl) rfl
theorem q2211 : (Jvm.Cond.soleField "CheekTownModel" "votes") ∈ lw_all := lw_g (lw_at lw_m9 175 rfl) rfl
theorem q2212 : (Jvm.Cond.laysFinal "CheekTownModel" "CheekTownModel" "seat" "[I") ∈ lw_all := lw_g (lw_at lw_m9 176 rfl) rfl
theorem q2213 : (Jvm.Cond.soleField "CheekTownModel" "seat") ∈ lw_all := lw_g (lw_at lw_m9 177 rfl) rfl
theorem q2214 : (Jvm.Cond.laysFinal "CheekTownModel" "CheekTownModel" "first" "[I") ∈ lw_all := lw_g (lw_at lw_m9 178 rfl) rfl
theorem q2215 : (Jvm.Cond.soleField "CheekTownModel" "first") ∈ lw_all := lw_g (lw_at lw_m9 179 rfl) rfl
theorem q2216 : (Jvm.Cond.laysFinal "CheekTownModel" "CheekTownModel" "most" "[I") ∈ lw_all := lw_g (lw_at lw_m9 180 rfl) rfl
theorem q2217 : (Jvm.Cond.soleField "CheekTownModel" "most") ∈ lw_all := lw_g (lw_at lw_m9 181 rfl) rfl
theorem q2218 : (Jvm.Cond.laysFinal "CheekTownModel" "CheekTownModel" "began" "[I") ∈ lw_all := lw_g (lw_at lw_m9 182 rfl) rfl
theorem q2219 : (Jvm.Cond.soleField "CheekTownModel" "began") ∈ lw_all := lw_g (lw_at lw_m9 183 rfl) rfl
theorem q2220 : (Jvm.Cond.lays "CheekTownModel" "CheekTownModel" "least" "I") ∈ lw_all := lw_g (lw_at lw_m9 184 rfl) rfl
theorem q2221 : (Jvm.Cond.soleField "CheekTownModel" "least") ∈ lw_all := lw_g (lw_at lw_m9 185 rfl) rfl
theorem q2222 : (Jvm.Cond.superclass "CheekTownModel" "java/lang/Object") ∈ lw_all := lw_g (lw_at lw_m9 186 rfl) rfl
theorem q2224 : (Jvm.Cond.instanceMethod ({ cls := "CheekTownModel", name := "thrown", desc := "()I" } : Jvm.MethodName)) ∈ lw_all := lw_g (lw_at lw_m9 188 rfl) rfl
theorem q2225 : (Jvm.Cond.selects "CheekTownModel" ({ cls := "CheekTownModel", name := "thrown", desc := "()I" } : Jvm.MethodName) ({ cls := "CheekTownModel", name := "thrown", desc := "()I" } : Jvm.MethodName)) ∈ lw_all := lw_g (lw_at lw_m9 189 rfl) rfl
theorem q2226 : (Jvm.Cond.code ({ cls := "CheekTownModel", name := "thrown", desc := "()I" } : Jvm.MethodName) prog_23_method_2_code (1 : Nat) (Option.some Jvm.ClassFile.FieldType.int)) ∈ lw_all := lw_g (lw_at lw_m9 190 rfl) rfl
theorem q2228 : (Jvm.Cond.instanceMethod ({ cls := "CheekTownModel", name := "feed", desc := "(IIIII)I" } : Jvm.MethodName)) ∈ lw_all := lw_g (lw_at lw_m9 192 rfl) rfl
theorem q2229 : (Jvm.Cond.selects "CheekTownModel" ({ cls := "CheekTownModel", name := "feed", desc := "(IIIII)I" } : Jvm.MethodName) ({ cls := "CheekTownModel", name := "feed", desc := "(IIIII)I" } : Jvm.MethodName)) ∈ lw_all := lw_g (lw_at lw_m9 193 rfl) rfl
theorem q2230 : (Jvm.Cond.code ({ cls := "CheekTownModel", name := "feed", desc := "(IIIII)I" } : Jvm.MethodName) prog_23_method_18_code (8 : Nat) (Option.some Jvm.ClassFile.FieldType.int)) ∈ lw_all := lw_g (lw_at lw_m9 194 rfl) rfl
theorem q2232 : (Jvm.Cond.instanceMethod ({ cls := "CheekTownModel", name := "end", desc := "(I)Z" } : Jvm.MethodName)) ∈ lw_all := lw_g (lw_at lw_m9 196 rfl) rfl
theorem q2233 : (Jvm.Cond.selects "CheekTownModel" ({ cls := "CheekTownModel", name := "end", desc := "(I)Z" } : Jvm.MethodName) ({ cls := "CheekTownModel", name := "end", desc := "(I)Z" } : Jvm.MethodName)) ∈ lw_all := lw_g (lw_at lw_m9 197 rfl) rfl
theorem q2234 : (Jvm.Cond.code ({ cls := "CheekTownModel", name := "end", desc := "(I)Z" } : Jvm.MethodName) prog_23_method_19_code (2 : Nat) (Option.some Jvm.ClassFile.FieldType.boolean)) ∈ lw_all := lw_g (lw_at lw_m9 198 rfl) rfl
theorem q2235 : (Jvm.Cond.methodLink "CheekTownModel" (59 : Nat) ({ cls := "CheekTownModel", name := "isIn", desc := "(III)Z" } : Jvm.MethodName)) ∈ lw_all := lw_g (lw_at lw_m9 199 rfl) rfl
theorem q2236 : (Jvm.Cond.static ({ cls := "CheekTownModel", name := "isIn", desc := "(III)Z" } : Jvm.MethodName)) ∈ lw_all := lw_g (lw_at lw_m9 200 rfl) rfl
theorem q2237 : (Jvm.Cond.code ({ cls := "CheekTownModel", name := "isIn", desc := "(III)Z" } : Jvm.MethodName) prog_23_method_3_code (3 : Nat) (Option.some Jvm.ClassFile.FieldType.boolean)) ∈ lw_all := lw_g (lw_at lw_m9 201 rfl) rfl
theorem q2239 : (Jvm.Cond.instanceMethod ({ cls := "CheekTownModel", name := "town", desc := "()I" } : Jvm.MethodName)) ∈ lw_all := lw_g (lw_at lw_m9 203 rfl) rfl
theorem q2240 : (Jvm.Cond.selects "CheekTownModel" ({ cls := "CheekTownModel", name := "town", desc := "()I" } : Jvm.MethodName) ({ cls := "CheekTownModel", name := "town", desc := "()I" } : Jvm.MethodName)) ∈ lw_all := lw_g (lw_at lw_m9 204 rfl) rfl
theorem q2241 : (Jvm.Cond.code ({ cls := "CheekTownModel", name := "town", desc := "()I" } : Jvm.MethodName) prog_23_method_38_code (2 : Nat) (Option.some Jvm.ClassFile.FieldType.int)) ∈ lw_all := lw_g (lw_at lw_m9 205 rfl) rfl
theorem q2242 : (Jvm.Cond.methodLink "CheekTownModel" (197 : Nat) ({ cls := "CheekTownModel", name := "begins", desc := "()V" } : Jvm.MethodName)) ∈ lw_all := lw_g (lw_at lw_m9 206 rfl) rfl
theorem q2243 : (Jvm.Cond.privateMethod ({ cls := "CheekTownModel", name := "begins", desc := "()V" } : Jvm.MethodName)) ∈ lw_tbl := lw_at lw_m9 207 rfl
theorem q2244 : (Jvm.Cond.instanceMethod ({ cls := "CheekTownModel", name := "begins", desc := "()V" } : Jvm.MethodName)) ∈ lw_all := lw_g (lw_at lw_m9 208 rfl) rfl
theorem q2245 : (Jvm.Cond.code ({ cls := "CheekTownModel", name := "begins", desc := "()V" } : Jvm.MethodName) prog_23_method_36_code (1 : Nat) (Option.none : Option Jvm.ClassFile.FieldType)) ∈ lw_all := lw_g (lw_at lw_m9 209 rfl) rfl
theorem q2246 : (Jvm.Cond.methodLink "CheekTownModel" (200 : Nat) ({ cls := "CheekTownModel", name := "read", desc := "(Z)I" } : Jvm.MethodName)) ∈ lw_all := lw_g (lw_at lw_m9 210 rfl) rfl
theorem q2247 : (Jvm.Cond.privateMethod ({ cls := "CheekTownModel", name := "read", desc := "(Z)I" } : Jvm.MethodName)) ∈ lw_tbl := lw_at lw_m9 211 rfl
theorem q2248 : (Jvm.Cond.instanceMethod ({ cls := "CheekTownModel", name := "read", desc := "(Z)I" } : Jvm.MethodName)) ∈ lw_all := lw_g (lw_at lw_m9 212 rfl) rfl
theorem q2249 : (Jvm.Cond.code ({ cls := "CheekTownModel", name := "read", desc := "(Z)I" } : Jvm.MethodName) prog_23_method_37_code (4 : Nat) (Option.some Jvm.ClassFile.FieldType.int)) ∈ lw_all := lw_g (lw_at lw_m9 213 rfl) rfl
theorem q2250 : (Jvm.Cond.methodLink "CheekTownModel" (88 : Nat) ({ cls := "CheekTownModel", name := "skip", desc := "()V" } : Jvm.MethodName)) ∈ lw_all := lw_g (lw_at lw_m9 214 rfl) rfl
theorem q2251 : (Jvm.Cond.privateMethod ({ cls := "CheekTownModel", name := "skip", desc := "()V" } : Jvm.MethodName)) ∈ lw_tbl := lw_at lw_m9 215 rfl
theorem q2252 : (Jvm.Cond.instanceMethod ({ cls := "CheekTownModel", name := "skip", desc := "()V" } : Jvm.MethodName)) ∈ lw_all := lw_g (lw_at lw_m9 216 rfl) rfl
theorem q2253 : (Jvm.Cond.code ({ cls := "CheekTownModel", name := "skip", desc := "()V" } : Jvm.MethodName) prog_23_method_21_code (1 : Nat) (Option.none : Option Jvm.ClassFile.FieldType)) ∈ lw_all := lw_g (lw_at lw_m9 217 rfl) rfl
theorem q2254 : (Jvm.Cond.methodLink "CheekTownModel" (85 : Nat) ({ cls := "CheekTownModel", name := "letter", desc := "(I)I" } : Jvm.MethodName)) ∈ lw_all := lw_g (lw_at lw_m9 218 rfl) rfl
theorem q2255 : (Jvm.Cond.privateMethod ({ cls := "CheekTownModel", name := "letter", desc := "(I)I" } : Jvm.MethodName)) ∈ lw_tbl := lw_at lw_m9 219 rfl
theorem q2256 : (Jvm.Cond.instanceMethod ({ cls := "CheekTownModel", name := "letter", desc := "(I)I" } : Jvm.MethodName)) ∈ lw_all := lw_g (lw_at lw_m9 220 rfl) rfl
theorem q2257 : (Jvm.Cond.code ({ cls := "CheekTownModel", name := "letter", desc := "(I)I" } : Jvm.MethodName) prog_23_method_20_code (2 : Nat) (Option.some Jvm.ClassFile.FieldType.int)) ∈ lw_all := lw_g (lw_at lw_m9 221 rfl) rfl
theorem q2258 : (Jvm.Cond.methodLink "CheekTownModel" (105 : Nat) ({ cls := "CheekTownModel", name := "wrong", desc := "(I)V" } : Jvm.MethodName)) ∈ lw_all := lw_g (lw_at lw_m9 222 rfl) rfl
theorem q2259 : (Jvm.Cond.privateMethod ({ cls := "CheekTownModel", name := "wrong", desc := "(I)V" } : Jvm.MethodName)) ∈ lw_tbl := lw_at lw_m9 223 rfl
theorem q2260 : (Jvm.Cond.instanceMethod ({ cls := "CheekTownModel", name := "wrong", desc := "(I)V" } : Jvm.MethodName)) ∈ lw_all := lw_g (lw_at lw_m9 224 rfl) rfl
theorem q2261 : (Jvm.Cond.code ({ cls := "CheekTownModel", name := "wrong", desc := "(I)V" } : Jvm.MethodName) prog_23_method_24_code (2 : Nat) (Option.none : Option Jvm.ClassFile.FieldType)) ∈ lw_all := lw_g (lw_at lw_m9 225 rfl) rfl
theorem q2262 : (Jvm.Cond.methodLink "CheekTownModel" (187 : Nat) ({ cls := "CheekTownModel", name := "lawLine", desc := "()V" } : Jvm.MethodName)) ∈ lw_all := lw_g (lw_at lw_m9 226 rfl) rfl
theorem q2263 : (Jvm.Cond.privateMethod ({ cls := "CheekTownModel", name := "lawLine", desc := "()V" } : Jvm.MethodName)) ∈ lw_tbl := lw_at lw_m9 227 rfl
theorem q2264 : (Jvm.Cond.instanceMethod ({ cls := "CheekTownModel", name := "lawLine", desc := "()V" } : Jvm.MethodName)) ∈ lw_all := lw_g (lw_at lw_m9 228 rfl) rfl
theorem q2265 : (Jvm.Cond.code ({ cls := "CheekTownModel", name := "lawLine", desc := "()V" } : Jvm.MethodName) prog_23_method_46_code (3 : Nat) (Option.none : Option Jvm.ClassFile.FieldType)) ∈ lw_all := lw_g (lw_at lw_m9 229 rfl) rfl
theorem q2266 : (Jvm.Cond.methodLink "CheekTownModel" (132 : Nat) ({ cls := "CheekTownModel", name := "greeting", desc := "()I" } : Jvm.MethodName)) ∈ lw_all := lw_g (lw_at lw_m9 230 rfl) rfl
theorem q2267 : (Jvm.Cond.privateMethod ({ cls := "CheekTownModel", name := "greeting", desc := "()I" } : Jvm.MethodName)) ∈ lw_tbl := lw_at lw_m9 231 rfl
theorem q2268 : (Jvm.Cond.instanceMethod ({ cls := "CheekTownModel", name := "greeting", desc := "()I" } : Jvm.MethodName)) ∈ lw_all := lw_g (lw_at lw_m9 232 rfl) rfl
theorem q2269 : (Jvm.Cond.code ({ cls := "CheekTownModel", name := "greeting", desc := "()I" } : Jvm.MethodName) prog_23_method_28_code (3 : Nat) (Option.some Jvm.ClassFile.FieldType.int)) ∈ lw_all := lw_g (lw_at lw_m9 233 rfl) rfl
theorem q2270 : (Jvm.Cond.stringRef "CheekTownModel" (112 : Nat) "wave") ∈ lw_tbl := lw_at lw_m9 234 rfl
theorem q2271 : (Jvm.Cond.methodLink "CheekTownModel" (101 : Nat) ({ cls := "CheekTownModel", name := "has", desc := "(Ljava/lang/String;)Z" } : Jvm.MethodName)) ∈ lw_all := lw_g (lw_at lw_m9 235 rfl) rfl
theorem q2272 : (Jvm.Cond.privateMethod ({ cls := "CheekTownModel", name := "has", desc := "(Ljava/lang/String;)Z" } : Jvm.MethodName)) ∈ lw_tbl := lw_at lw_m9 236 rfl
theorem q2273 : (Jvm.Cond.instanceMethod ({ cls := "CheekTownModel", name := "has", desc := "(Ljava/lang/String;)Z" } : Jvm.MethodName)) ∈ lw_all := lw_g (lw_at lw_m9 237 rfl) rfl
theorem q2274 : (Jvm.Cond.code ({ cls := "CheekTownModel", name := "has", desc := "(Ljava/lang/String;)Z" } : Jvm.MethodName) prog_23_method_23_code (4 : Nat) (Option.some Jvm.ClassFile.FieldType.boolean)) ∈ lw_all := lw_g (lw_at lw_m9 238 rfl) rfl
theorem q2275 : (Jvm.Cond.methodLink "CheekTownModel" (91 : Nat) ({ cls := "java/lang/String", name := "length", desc := "()I" } : Jvm.MethodName)) ∈ lw_all := lw_g (lw_at lw_m9 239 rfl) rfl
theorem q2276 : (Jvm.Cond.methodLink "CheekTownModel" (97 : Nat) ({ cls := "java/lang/String", name := "charAt", desc := "(I)C" } : Jvm.MethodName)) ∈ lw_all := lw_g (lw_at lw_m10 0 rfl) rfl
theorem q2287 : (Jvm.Cond.stringRef "CheekTownModel" (114 : Nat) "hand") ∈ lw_tbl := lw_at lw_m10 11 rfl
theorem q2288 : (Jvm.Cond.stringRef "CheekTownModel" (116 : Nat) "embrace") ∈ lw_tbl := lw_at lw_m10 12 rfl
theorem q2289 : (Jvm.Cond.stringRef "CheekTownModel" (118 : Nat) "kiss") ∈ lw_tbl := lw_at lw_m10 13 rfl
theorem q2290 : (Jvm.Cond.methodLink "CheekTownModel" (120 : Nat) ({ cls := "CheekTownModel", name := "must", desc := "(Ljava/lang/String;)V" } : Jvm.MethodName)) ∈ lw_all := lw_g (lw_at lw_m10 14 rfl) rfl
theorem q2291 : (Jvm.Cond.privateMethod ({ cls := "CheekTownModel", name := "must", desc := "(Ljava/lang/String;)V" } : Jvm.MethodName)) ∈ lw_tbl := lw_at lw_m10 15 rfl
theorem q2292 : (Jvm.Cond.instanceMethod ({ cls := "CheekTownModel", name := "must", desc := "(Ljava/lang/String;)V" } : Jvm.MethodName)) ∈ lw_all := lw_g (lw_at lw_m10 16 rfl) rfl
theorem q2293 : (Jvm.Cond.code ({ cls := "CheekTownModel", name := "must", desc := "(Ljava/lang/String;)V" } : Jvm.MethodName) prog_23_method_25_code (2 : Nat) (Option.none : Option Jvm.ClassFile.FieldType)) ∈ lw_all := lw_g (lw_at lw_m10 17 rfl) rfl
theorem q2294 : (Jvm.Cond.methodLink "CheekTownModel" (124 : Nat) ({ cls := "CheekTownModel", name := "figures", desc := "(II)I" } : Jvm.MethodName)) ∈ lw_all := lw_g (lw_at lw_m10 18 rfl) rfl
theorem q2295 : (Jvm.Cond.privateMethod ({ cls := "CheekTownModel", name := "figures", desc := "(II)I" } : Jvm.MethodName)) ∈ lw_tbl := lw_at lw_m10 19 rfl
theorem q2296 : (Jvm.Cond.instanceMethod ({ cls := "CheekTownModel", name := "figures", desc := "(II)I" } : Jvm.MethodName)) ∈ lw_all := lw_g (lw_at lw_m10 20 rfl) rfl
theorem q2297 : (Jvm.Cond.code ({ cls := "CheekTownModel", name := "figures", desc := "(II)I" } : Jvm.MethodName) prog_23_method_27_code (5 : Nat) (Option.some Jvm.ClassFile.FieldType.int)) ∈ lw_all := lw_g (lw_at lw_m10 21 rfl) rfl
theorem q2298 : (Jvm.Cond.methodLink "CheekTownModel" (109 : Nat) ({ cls := "CheekTownModel", name := "place", desc := "()I" } : Jvm.MethodName)) ∈ lw_all := lw_g (lw_at lw_m10 22 rfl) rfl
theorem q2299 : (Jvm.Cond.privateMethod ({ cls := "CheekTownModel", name := "place", desc := "()I" } : Jvm.MethodName)) ∈ lw_tbl := lw_at lw_m10 23 rfl
theorem q2300 : (Jvm.Cond.instanceMethod ({ cls := "CheekTownModel", name := "place", desc := "()I" } : Jvm.MethodName)) ∈ lw_all := lw_g (lw_at lw_m10 24 rfl) rfl
theorem q2301 : (Jvm.Cond.code ({ cls := "CheekTownModel", name := "place", desc := "()I" } : Jvm.MethodName) prog_23_method_26_code (1 : Nat) (Option.some Jvm.ClassFile.FieldType.int)) ∈ lw_all := lw_g (lw_at lw_m10 25 rfl) rfl
theorem q2302 : (Jvm.Cond.stringRef "CheekTownModel" (128 : Nat) "right") ∈ lw_tbl := lw_at lw_m10 26 rfl
theorem q2303 : (Jvm.Cond.stringRef "CheekTownModel" (130 : Nat) "left") ∈ lw_tbl := lw_at lw_m10 27 rfl
theorem q2304 : (Jvm.Cond.stringRef "CheekTownModel" (252 : Nat) "if") ∈ lw_tbl := lw_at lw_m10 28 rfl
theorem q2305 : (Jvm.Cond.methodLink "CheekTownModel" (242 : Nat) ({ cls := "CheekTownModel", name := "some", desc := "()Z" } : Jvm.MethodName)) ∈ lw_all := lw_g (lw_at lw_m10 29 rfl) rfl
theorem q2306 : (Jvm.Cond.privateMethod ({ cls := "CheekTownModel", name := "some", desc := "()Z" } : Jvm.MethodName)) ∈ lw_tbl := lw_at lw_m10 30 rfl
theorem q2307 : (Jvm.Cond.instanceMethod ({ cls := "CheekTownModel", name := "some", desc := "()Z" } : Jvm.MethodName)) ∈ lw_all := lw_g (lw_at lw_m10 31 rfl) rfl
theorem q2308 : (Jvm.Cond.code ({ cls := "CheekTownModel", name := "some", desc := "()Z" } : Jvm.MethodName) prog_23_method_45_code (3 : Nat) (Option.some Jvm.ClassFile.FieldType.boolean)) ∈ lw_all := lw_g (lw_at lw_m10 32 rfl) rfl
theorem q2309 : (Jvm.Cond.methodLink "CheekTownModel" (247 : Nat) ({ cls := "CheekTownModel", name := "every", desc := "()Z" } : Jvm.MethodName)) ∈ lw_all := lw_g (lw_at lw_m10 33 rfl) rfl
theorem q2310 : (Jvm.Cond.privateMethod ({ cls := "CheekTownModel", name := "every", desc := "()Z" } : Jvm.MethodName)) ∈ lw_tbl := lw_at lw_m10 34 rfl
theorem q2311 : (Jvm.Cond.instanceMethod ({ cls := "CheekTownModel", name := "every", desc := "()Z" } : Jvm.MethodName)) ∈ lw_all := lw_g (lw_at lw_m10 35 rfl) rfl
theorem q2312 : (Jvm.Cond.code ({ cls := "CheekTownModel", name := "every", desc := "()Z" } : Jvm.MethodName) prog_23_method_44_code (3 : Nat) (Option.some Jvm.ClassFile.FieldType.boolean)) ∈ lw_all := lw_g (lw_at lw_m10 36 rfl) rfl
theorem q2313 : (Jvm.Cond.methodLink "CheekTownModel" (239 : Nat) ({ cls := "CheekTownModel", name := "atom", desc := "()Z" } : Jvm.MethodName)) ∈ lw_all := lw_g (lw_at lw_m10 37 rfl) rfl
theorem q2314 : (Jvm.Cond.privateMethod ({ cls := "CheekTownModel", name := "atom", desc := "()Z" } : Jvm.MethodName)) ∈ lw_tbl := lw_at lw_m10 38 rfl
theorem q2315 : (Jvm.Cond.instanceMethod ({ cls := "CheekTownModel", name := "atom", desc := "()Z" } : Jvm.MethodName)) ∈ lw_all := lw_g (lw_at lw_m10 39 rfl) rfl
theorem q2316 : (Jvm.Cond.code ({ cls := "CheekTownModel", name := "atom", desc := "()Z" } : Jvm.MethodName) prog_23_method_43_code (4 : Nat) (Option.some Jvm.ClassFile.FieldType.boolean)) ∈ lw_all := lw_g (lw_at lw_m10 40 rfl) rfl
theorem q2317 : (Jvm.Cond.stringRef "CheekTownModel" (233 : Nat) "not") ∈ lw_tbl := lw_at lw_m10 41 rfl
theorem q2318 : (Jvm.Cond.methodLink "CheekTownModel" (193 : Nat) ({ cls := "CheekTownModel", name := "isSign", desc := "(I)Z" } : Jvm.MethodName)) ∈ lw_all := lw_g (lw_at lw_m10 42 rfl) rfl
theorem q2319 : (Jvm.Cond.privateMethod ({ cls := "CheekTownModel", name := "isSign", desc := "(I)Z" } : Jvm.MethodName)) ∈ lw_tbl := lw_at lw_m10 43 rfl
theorem q2320 : (Jvm.Cond.instanceMethod ({ cls := "CheekTownModel", name := "isSign", desc := "(I)Z" } : Jvm.MethodName)) ∈ lw_all := lw_g (lw_at lw_m10 44 rfl) rfl
theorem q2321 : (Jvm.Cond.code ({ cls := "CheekTownModel", name := "isSign", desc := "(I)Z" } : Jvm.MethodName) prog_23_method_22_code (2 : Nat) (Option.some Jvm.ClassFile.FieldType.boolean)) ∈ lw_all := lw_g (lw_at lw_m10 45 rfl) rfl
theorem q2322 : (Jvm.Cond.methodLink "CheekTownModel" (235 : Nat) ({ cls := "CheekTownModel", name := "plain", desc := "()Z" } : Jvm.MethodName)) ∈ lw_all := lw_g (lw_at lw_m10 46 rfl) rfl
theorem q2323 : (Jvm.Cond.privateMethod ({ cls := "CheekTownModel", name := "plain", desc := "()Z" } : Jvm.MethodName)) ∈ lw_tbl := lw_at lw_m10 47 rfl
theorem q2324 : (Jvm.Cond.instanceMethod ({ cls := "CheekTownModel", name := "plain", desc := "()Z" } : Jvm.MethodName)) ∈ lw_all := lw_g (lw_at lw_m10 48 rfl) rfl
theorem q2325 : (Jvm.Cond.code ({ cls := "CheekTownModel", name := "plain", desc := "()Z" } : Jvm.MethodName) prog_23_method_42_code (4 : Nat) (Option.some Jvm.ClassFile.FieldType.boolean)) ∈ lw_all := lw_g (lw_at lw_m10 49 rfl) rfl
theorem q2326 : (Jvm.Cond.stringRef "CheekTownModel" (221 : Nat) "same") ∈ lw_tbl := lw_at lw_m10 50 rfl
theorem q2327 : (Jvm.Cond.stringRef "CheekTownModel" (168 : Nat) "cold") ∈ lw_tbl := lw_at lw_m10 51 rfl
theorem q2328 : (Jvm.Cond.methodLink "CheekTownModel" (230 : Nat) ({ cls := "CheekTownModel", name := "sum", desc := "()I" } : Jvm.MethodName)) ∈ lw_all := lw_g (lw_at lw_m10 52 rfl) rfl
theorem q2329 : (Jvm.Cond.privateMethod ({ cls := "CheekTownModel", name := "sum", desc := "()I" } : Jvm.MethodName)) ∈ lw_tbl := lw_at lw_m10 53 rfl
theorem q2330 : (Jvm.Cond.instanceMethod ({ cls := "CheekTownModel", name := "sum", desc := "()I" } : Jvm.MethodName)) ∈ lw_all := lw_g (lw_at lw_m10 54 rfl) rfl
theorem q2331 : (Jvm.Cond.code ({ cls := "CheekTownModel", name := "sum", desc := "()I" } : Jvm.MethodName) prog_23_method_41_code (2 : Nat) (Option.some Jvm.ClassFile.FieldType.int)) ∈ lw_all := lw_g (lw_at lw_m10 55 rfl) rfl
theorem q2332 : (Jvm.Cond.methodLink "CheekTownModel" (218 : Nat) ({ cls := "CheekTownModel", name := "part", desc := "()I" } : Jvm.MethodName)) ∈ lw_all := lw_g (lw_at lw_m10 56 rfl) rfl
theorem q2333 : (Jvm.Cond.privateMethod ({ cls := "CheekTownModel", name := "part", desc := "()I" } : Jvm.MethodName)) ∈ lw_tbl := lw_at lw_m10 57 rfl
theorem q2334 : (Jvm.Cond.instanceMethod ({ cls := "CheekTownModel", name := "part", desc := "()I" } : Jvm.MethodName)) ∈ lw_all := lw_g (lw_at lw_m10 58 rfl) rfl
theorem q2335 : (Jvm.Cond.code ({ cls := "CheekTownModel", name := "part", desc := "()I" } : Jvm.MethodName) prog_23_method_40_code (2 : Nat) (Option.some Jvm.ClassFile.FieldType.int)) ∈ lw_all := lw_g (lw_at lw_m10 59 rfl) rfl
theorem q2336 : (Jvm.Cond.stringRef "CheekTownModel" (210 : Nat) "who") ∈ lw_tbl := lw_at lw_m10 60 rfl
theorem q2337 : (Jvm.Cond.stringRef "CheekTownModel" (211 : Nat) "whom") ∈ lw_tbl := lw_at lw_m10 61 rfl
theorem q2338 : (Jvm.Cond.stringRef "CheekTownModel" (137 : Nat) "rank") ∈ lw_tbl := lw_at lw_m10 62 rfl
theorem q2339 : (Jvm.Cond.stringRef "CheekTownModel" (212 : Nat) "theirs") ∈ lw_tbl := lw_at lw_m10 63 rfl
theorem q2340 : (Jvm.Cond.stringRef "CheekTownModel" (214 : Nat) "met") ∈ lw_tbl := lw_at lw_m10 64 rfl
theorem q2341 : (Jvm.Cond.stringRef "CheekTownModel" (216 : Nat) "round") ∈ lw_tbl := lw_at lw_m10 65 rfl
theorem q2342 : (Jvm.Cond.stringRef "CheekTownModel" (245 : Nat) "and") ∈ lw_tbl := lw_at lw_m10 66 rfl
theorem q2343 : (Jvm.Cond.stringRef "CheekTownModel" (250 : Nat) "or") ∈ lw_tbl := lw_at lw_m10 67 rfl
theorem q2344 : (Jvm.Cond.methodLink "CheekTownModel" (190 : Nat) ({ cls := "CheekTownModel", name := "townLine", desc := "()V" } : Jvm.MethodName)) ∈ lw_all := lw_g (lw_at lw_m10 68 rfl) rfl
theorem q2345 : (Jvm.Cond.privateMethod ({ cls := "CheekTownModel", name := "townLine", desc := "()V" } : Jvm.MethodName)) ∈ lw_tbl := lw_at lw_m10 69 rfl
theorem q2346 : (Jvm.Cond.instanceMethod ({ cls := "CheekTownModel", name := "townLine", desc := "()V" } : Jvm.MethodName)) ∈ lw_all := lw_g (lw_at lw_m10 70 rfl) rfl
theorem q2347 : (Jvm.Cond.code ({ cls := "CheekTownModel", name := "townLine", desc := "()V" } : Jvm.MethodName) prog_23_method_35_code (3 : Nat) (Option.none : Option Jvm.ClassFile.FieldType)) ∈ lw_all := lw_g (lw_at lw_m10 71 rfl) rfl
theorem q2348 : (Jvm.Cond.stringRef "CheekTownModel" (156 : Nat) "land") ∈ lw_tbl := lw_at lw_m10 72 rfl
theorem q2349 : (Jvm.Cond.stringRef "CheekTownModel" (158 : Nat) "habit") ∈ lw_tbl := lw_at lw_m10 73 rfl
theorem q2350 : (Jvm.Cond.methodLink "CheekTownModel" (160 : Nat) ({ cls := "CheekTownModel", name := "habitLine", desc := "(I)V" } : Jvm.MethodName)) ∈ lw_all := lw_g (lw_at lw_m10 74 rfl) rfl
theorem q2351 : (Jvm.Cond.privateMethod ({ cls := "CheekTownModel", name := "habitLine", desc := "(I)V" } : Jvm.MethodName)) ∈ lw_tbl := lw_at lw_m10 75 rfl
theorem q2352 : (Jvm.Cond.instanceMethod ({ cls := "CheekTownModel", name := "habitLine", desc := "(I)V" } : Jvm.MethodName)) ∈ lw_all := lw_g (lw_at lw_m10 76 rfl) rfl
theorem q2353 : (Jvm.Cond.code ({ cls := "CheekTownModel", name := "habitLine", desc := "(I)V" } : Jvm.MethodName) prog_23_method_29_code (6 : Nat) (Option.none : Option Jvm.ClassFile.FieldType)) ∈ lw_all := lw_g (lw_at lw_m10 77 rfl) rfl
theorem q2354 : (Jvm.Cond.stringRef "CheekTownModel" (135 : Nat) "weight") ∈ lw_tbl := lw_at lw_m10 78 rfl
theorem q2355 : (Jvm.Cond.stringRef "CheekTownModel" (163 : Nat) "person") ∈ lw_tbl := lw_at lw_m10 79 rfl
theorem q2356 : (Jvm.Cond.methodLink "CheekTownModel" (165 : Nat) ({ cls := "CheekTownModel", name := "personLine", desc := "(I)V" } : Jvm.MethodName)) ∈ lw_all := lw_g (lw_at lw_m10 80 rfl) rfl
theorem q2357 : (Jvm.Cond.privateMethod ({ cls := "CheekTownModel", name := "personLine", desc := "(I)V" } : Jvm.MethodName)) ∈ lw_tbl := lw_at lw_m10 81 rfl
theorem q2358 : (Jvm.Cond.instanceMethod ({ cls := "CheekTownModel", name := "personLine", desc := "(I)V" } : Jvm.MethodName)) ∈ lw_all := lw_g (lw_at lw_m10 82 rfl) rfl
theorem q2359 : (Jvm.Cond.code ({ cls := "CheekTownModel", name := "personLine", desc := "(I)V" } : Jvm.MethodName) prog_23_method_30_code (8 : Nat) (Option.none : Option Jvm.ClassFile.FieldType)) ∈ lw_all := lw_g (lw_at lw_m10 83 rfl) rfl
theorem q2360 : (Jvm.Cond.stringRef "CheekTownModel" (139 : Nat) "bent") ∈ lw_tbl := lw_at lw_m10 84 rfl
theorem q2361 : (Jvm.Cond.methodLink "CheekTownModel" (141 : Nat) ({ cls := "CheekTownModel", name := "has", desc := "(III)V" } : Jvm.MethodName)) ∈ lw_all := lw_g (lw_at lw_m10 85 rfl) rfl
theorem q2362 : (Jvm.Cond.privateMethod ({ cls := "CheekTownModel", name := "has", desc := "(III)V" } : Jvm.MethodName)) ∈ lw_tbl := lw_at lw_m10 86 rfl
theorem q2363 : (Jvm.Cond.instanceMethod ({ cls := "CheekTownModel", name := "has", desc := "(III)V" } : Jvm.MethodName)) ∈ lw_all := lw_g (lw_at lw_m10 87 rfl) rfl
theorem q2364 : (Jvm.Cond.code ({ cls := "CheekTownModel", name := "has", desc := "(III)V" } : Jvm.MethodName) prog_23_method_9_code (4 : Nat) (Option.none : Option Jvm.ClassFile.FieldType)) ∈ lw_all := lw_g (lw_at lw_m10 88 rfl) rfl
theorem q2365 : (Jvm.Cond.methodLink "CheekTownModel" (144 : Nat) ({ cls := "CheekTownModel", name := "meets", desc := "(IIII)V" } : Jvm.MethodName)) ∈ lw_all := lw_g (lw_at lw_m10 89 rfl) rfl
theorem q2366 : (Jvm.Cond.privateMethod ({ cls := "CheekTownModel", name := "meets", desc := "(IIII)V" } : Jvm.MethodName)) ∈ lw_tbl := lw_at lw_m10 90 rfl
theorem q2367 : (Jvm.Cond.instanceMethod ({ cls := "CheekTownModel", name := "meets", desc := "(IIII)V" } : Jvm.MethodName)) ∈ lw_all := lw_g (lw_at lw_m10 91 rfl) rfl
theorem q2368 : (Jvm.Cond.code ({ cls := "CheekTownModel", name := "meets", desc := "(IIII)V" } : Jvm.MethodName) prog_23_method_31_code (5 : Nat) (Option.none : Option Jvm.ClassFile.FieldType)) ∈ lw_all := lw_g (lw_at lw_m10 92 rfl) rfl
theorem q2369 : (Jvm.Cond.stringRef "CheekTownModel" (170 : Nat) "tie") ∈ lw_tbl := lw_at lw_m10 93 rfl
theorem q2370 : (Jvm.Cond.methodLink "CheekTownModel" (172 : Nat) ({ cls := "CheekTownModel", name := "tieLine", desc := "(I)V" } : Jvm.MethodName)) ∈ lw_all := lw_g (lw_at lw_m10 94 rfl) rfl
theorem q2371 : (Jvm.Cond.privateMethod ({ cls := "CheekTownModel", name := "tieLine", desc := "(I)V" } : Jvm.MethodName)) ∈ lw_tbl := lw_at lw_m10 95 rfl
theorem q2372 : (Jvm.Cond.instanceMethod ({ cls := "CheekTownModel", name := "tieLine", desc := "(I)V" } : Jvm.MethodName)) ∈ lw_all := lw_g (lw_at lw_m10 96 rfl) rfl
theorem q2373 : (Jvm.Cond.code ({ cls := "CheekTownModel", name := "tieLine", desc := "(I)V" } : Jvm.MethodName) prog_23_method_32_code (5 : Nat) (Option.none : Option Jvm.ClassFile.FieldType)) ∈ lw_all := lw_g (lw_at lw_m10 97 rfl) rfl
theorem q2374 : (Jvm.Cond.methodLink "CheekTownModel" (148 : Nat) ({ cls := "CheekTownModel", name := "areTied", desc := "(II)Z" } : Jvm.MethodName)) ∈ lw_all := lw_g (lw_at lw_m10 98 rfl) rfl
theorem q2375 : (Jvm.Cond.privateMethod ({ cls := "CheekTownModel", name := "areTied", desc := "(II)Z" } : Jvm.MethodName)) ∈ lw_tbl := lw_at lw_m10 99 rfl
theorem q2376 : (Jvm.Cond.instanceMethod ({ cls := "CheekTownModel", name := "areTied", desc := "(II)Z" } : Jvm.MethodName)) ∈ lw_all := lw_g (lw_at lw_m10 100 rfl) rfl
theorem q2377 : (Jvm.Cond.code ({ cls := "CheekTownModel", name := "areTied", desc := "(II)Z" } : Jvm.MethodName) prog_23_method_16_code (4 : Nat) (Option.some Jvm.ClassFile.FieldType.boolean)) ∈ lw_all := lw_g (lw_at lw_m10 101 rfl) rfl
theorem q2378 : (Jvm.Cond.methodLink "CheekTownModel" (63 : Nat) ({ cls := "CheekTownModel", name := "who", desc := "(I)I" } : Jvm.MethodName)) ∈ lw_all := lw_g (lw_at lw_m10 102 rfl) rfl
theorem q2379 : (Jvm.Cond.privateMethod ({ cls := "CheekTownModel", name := "who", desc := "(I)I" } : Jvm.MethodName)) ∈ lw_tbl := lw_at lw_m10 103 rfl
theorem q2380 : (Jvm.Cond.instanceMethod ({ cls := "CheekTownModel", name := "who", desc := "(I)I" } : Jvm.MethodName)) ∈ lw_all := lw_g (lw_at lw_m10 104 rfl) rfl
theorem q2381 : (Jvm.Cond.code ({ cls := "CheekTownModel", name := "who", desc := "(I)I" } : Jvm.MethodName) prog_23_method_14_code (2 : Nat) (Option.some Jvm.ClassFile.FieldType.int)) ∈ lw_all := lw_g (lw_at lw_m10 105 rfl) rfl
theorem q2382 : (Jvm.Cond.methodLink "CheekTownModel" (67 : Nat) ({ cls := "CheekTownModel", name := "whom", desc := "(I)I" } : Jvm.MethodName)) ∈ lw_all := lw_g (lw_at lw_m10 106 rfl) rfl
theorem q2383 : (Jvm.Cond.privateMethod ({ cls := "CheekTownModel", name := "whom", desc := "(I)I" } : Jvm.MethodName)) ∈ lw_tbl := lw_at lw_m10 107 rfl
theorem q2384 : (Jvm.Cond.instanceMethod ({ cls := "CheekTownModel", name := "whom", desc := "(I)I" } : Jvm.MethodName)) ∈ lw_all := lw_g (lw_at lw_m10 108 rfl) rfl
theorem q2385 : (Jvm.Cond.code ({ cls := "CheekTownModel", name := "whom", desc := "(I)I" } : Jvm.MethodName) prog_23_method_15_code (2 : Nat) (Option.some Jvm.ClassFile.FieldType.int)) ∈ lw_all := lw_g (lw_at lw_m10 109 rfl) rfl
theorem q2386 : (Jvm.Cond.methodLink "CheekTownModel" (152 : Nat) ({ cls := "CheekTownModel", name := "binds", desc := "(II)V" } : Jvm.MethodName)) ∈ lw_all := lw_g (lw_at lw_m10 110 rfl) rfl
theorem q2387 : (Jvm.Cond.privateMethod ({ cls := "CheekTownModel", name := "binds", desc := "(II)V" } : Jvm.MethodName)) ∈ lw_tbl := lw_at lw_m10 111 rfl
theorem q2388 : (Jvm.Cond.instanceMethod ({ cls := "CheekTownModel", name := "binds", desc := "(II)V" } : Jvm.MethodName)) ∈ lw_all := lw_g (lw_at lw_m10 112 rfl) rfl
theorem q2389 : (Jvm.Cond.code ({ cls := "CheekTownModel", name := "binds", desc := "(II)V" } : Jvm.MethodName) prog_23_method_33_code (3 : Nat) (Option.none : Option Jvm.ClassFile.FieldType)) ∈ lw_all := lw_g (lw_at lw_m10 113 rfl) rfl
theorem q2390 : (Jvm.Cond.stringRef "CheekTownModel" (175 : Nat) "stomach") ∈ lw_tbl := lw_at lw_m10 114 rfl
theorem q2391 : (Jvm.Cond.methodLink "CheekTownModel" (177 : Nat) ({ cls := "CheekTownModel", name := "tells", desc := "(I)V" } : Jvm.MethodName)) ∈ lw_all := lw_g (lw_at lw_m10 115 rfl) rfl
theorem q2392 : (Jvm.Cond.privateMethod ({ cls := "CheekTownModel", name := "tells", desc := "(I)V" } : Jvm.MethodName)) ∈ lw_tbl := lw_at lw_m10 116 rfl
theorem q2393 : (Jvm.Cond.instanceMethod ({ cls := "CheekTownModel", name := "tells", desc := "(I)V" } : Jvm.MethodName)) ∈ lw_all := lw_g (lw_at lw_m10 117 rfl) rfl
theorem q2394 : (Jvm.Cond.code ({ cls := "CheekTownModel", name := "tells", desc := "(I)V" } : Jvm.MethodName) prog_23_method_34_code (3 : Nat) (Option.none : Option Jvm.ClassFile.FieldType)) ∈ lw_all := lw_g (lw_at lw_m10 118 rfl) rfl
theorem q2395 : (Jvm.Cond.stringRef "CheekTownModel" (180 : Nat) "air") ∈ lw_tbl := lw_at lw_m10 119 rfl
theorem q2396 : (Jvm.Cond.stringRef "CheekTownModel" (182 : Nat) "noses") ∈ lw_tbl := lw_at lw_m10 120 rfl
theorem q2397 : (Jvm.Cond.methodLink "CheekTownModel" (204 : Nat) ({ cls := "CheekTownModel", name := "comesBack", desc := "()V" } : Jvm.MethodName)) ∈ lw_all := lw_g (lw_at lw_m10 121 rfl) rfl
theorem q2398 : (Jvm.Cond.privateMethod ({ cls := "CheekTownModel", name := "comesBack", desc := "()V" } : Jvm.MethodName)) ∈ lw_tbl := lw_at lw_m10 122 rfl
theorem q2399 : (Jvm.Cond.instanceMethod ({ cls := "CheekTownModel", name := "comesBack", desc := "()V" } : Jvm.MethodName)) ∈ lw_all := lw_g (lw_at lw_m10 123 rfl) rfl
theorem q2400 : (Jvm.Cond.code ({ cls := "CheekTownModel", name := "comesBack", desc := "()V" } : Jvm.MethodName) prog_23_method_39_code (2 : Nat) (Option.none : Option Jvm.ClassFile.FieldType)) ∈ lw_all := lw_g (lw_at lw_m10 124 rfl) rfl
theorem q2402 : (Jvm.Cond.instanceMethod ({ cls := "CheekTownModel", name := "law", desc := "()I" } : Jvm.MethodName)) ∈ lw_all := lw_g (lw_at lw_m10 126 rfl) rfl
theorem q2403 : (Jvm.Cond.selects "CheekTownModel" ({ cls := "CheekTownModel", name := "law", desc := "()I" } : Jvm.MethodName) ({ cls := "CheekTownModel", name := "law", desc := "()I" } : Jvm.MethodName)) ∈ lw_all := lw_g (lw_at lw_m10 127 rfl) rfl
theorem q2404 : (Jvm.Cond.code ({ cls := "CheekTownModel", name := "law", desc := "()I" } : Jvm.MethodName) prog_23_method_47_code (3 : Nat) (Option.some Jvm.ClassFile.FieldType.int)) ∈ lw_all := lw_g (lw_at lw_m10 128 rfl) rfl
theorem q2406 : (Jvm.Cond.instanceMethod ({ cls := "CheekTownModel", name := "fault", desc := "()I" } : Jvm.MethodName)) ∈ lw_all := lw_g (lw_at lw_m10 130 rfl) rfl
theorem q2407 : (Jvm.Cond.selects "CheekTownModel" ({ cls := "CheekTownModel", name := "fault", desc := "()I" } : Jvm.MethodName) ({ cls := "CheekTownModel", name := "fault", desc := "()I" } : Jvm.MethodName)) ∈ lw_all := lw_g (lw_at lw_m10 131 rfl) rfl
theorem q2408 : (Jvm.Cond.code ({ cls := "CheekTownModel", name := "fault", desc := "()I" } : Jvm.MethodName) prog_23_method_48_code (1 : Nat) (Option.some Jvm.ClassFile.FieldType.int)) ∈ lw_all := lw_g (lw_at lw_m10 132 rfl) rfl
theorem q2410 : (Jvm.Cond.instanceMethod ({ cls := "CheekTownModel", name := "cost", desc := "(II)I" } : Jvm.MethodName)) ∈ lw_all := lw_g (lw_at lw_m10 134 rfl) rfl
theorem q2411 : (Jvm.Cond.selects "CheekTownModel" ({ cls := "CheekTownModel", name := "cost", desc := "(II)I" } : Jvm.MethodName) ({ cls := "CheekTownModel", name := "cost", desc := "(II)I" } : Jvm.MethodName)) ∈ lw_all := lw_g (lw_at lw_m10 135 rfl) rfl
theorem q2412 : (Jvm.Cond.code ({ cls := "CheekTownModel", name := "cost", desc := "(II)I" } : Jvm.MethodName) prog_23_method_50_code (3 : Nat) (Option.some Jvm.ClassFile.FieldType.int)) ∈ lw_all := lw_g (lw_at lw_m10 136 rfl) rfl
theorem q2413 : (Jvm.Cond.methodLink "CheekTownModel" (260 : Nat) ({ cls := "CheekTownModel", name := "isCode", desc := "(I)Z" } : Jvm.MethodName)) ∈ lw_all := lw_g (lw_at lw_m10 137 rfl) rfl
theorem q2414 : (Jvm.Cond.static ({ cls := "CheekTownModel", name := "isCode", desc := "(I)Z" } : Jvm.MethodName)) ∈ lw_all := lw_g (lw_at lw_m10 138 rfl) rfl
theorem q2415 : (Jvm.Cond.code ({ cls := "CheekTownModel", name := "isCode", desc := "(I)Z" } : Jvm.MethodName) prog_23_method_12_code (1 : Nat) (Option.some Jvm.ClassFile.FieldType.boolean)) ∈ lw_all := lw_g (lw_at lw_m10 139 rfl) rfl
theorem q2416 : (Jvm.Cond.methodLink "CheekTownModel" (263 : Nat) ({ cls := "CheekTownModel", name := "costOf", desc := "(II)I" } : Jvm.MethodName)) ∈ lw_all := lw_g (lw_at lw_m10 140 rfl) rfl
theorem q2417 : (Jvm.Cond.privateMethod ({ cls := "CheekTownModel", name := "costOf", desc := "(II)I" } : Jvm.MethodName)) ∈ lw_tbl := lw_at lw_m10 141 rfl
theorem q2418 : (Jvm.Cond.instanceMethod ({ cls := "CheekTownModel", name := "costOf", desc := "(II)I" } : Jvm.MethodName)) ∈ lw_all := lw_g (lw_at lw_m10 142 rfl) rfl
theorem q2419 : (Jvm.Cond.code ({ cls := "CheekTownModel", name := "costOf", desc := "(II)I" } : Jvm.MethodName) prog_23_method_17_code (4 : Nat) (Option.some Jvm.ClassFile.FieldType.int)) ∈ lw_all := lw_g (lw_at lw_m10 143 rfl) rfl
theorem q2420 : (Jvm.Cond.methodLink "CheekTownModel" (70 : Nat) ({ cls := "CheekTownModel", name := "countOf", desc := "(I)I" } : Jvm.MethodName)) ∈ lw_all := lw_g (lw_at lw_m10 144 rfl) rfl
theorem q2421 : (Jvm.Cond.static ({ cls := "CheekTownModel", name := "countOf", desc := "(I)I" } : Jvm.MethodName)) ∈ lw_all := lw_g (lw_at lw_m10 145 rfl) rfl
theorem q2422 : (Jvm.Cond.code ({ cls := "CheekTownModel", name := "countOf", desc := "(I)I" } : Jvm.MethodName) prog_23_method_13_code (1 : Nat) (Option.some Jvm.ClassFile.FieldType.int)) ∈ lw_all := lw_g (lw_at lw_m10 146 rfl) rfl
theorem q2424 : (Jvm.Cond.instanceMethod ({ cls := "CheekTownModel", name := "habit", desc := "(II)I" } : Jvm.MethodName)) ∈ lw_all := lw_g (lw_at lw_m10 148 rfl) rfl
theorem q2425 : (Jvm.Cond.selects "CheekTownModel" ({ cls := "CheekTownModel", name := "habit", desc := "(II)I" } : Jvm.MethodName) ({ cls := "CheekTownModel", name := "habit", desc := "(II)I" } : Jvm.MethodName)) ∈ lw_all := lw_g (lw_at lw_m10 149 rfl) rfl
theorem q2426 : (Jvm.Cond.code ({ cls := "CheekTownModel", name := "habit", desc := "(II)I" } : Jvm.MethodName) prog_23_method_52_code (3 : Nat) (Option.some Jvm.ClassFile.FieldType.int)) ∈ lw_all := lw_g (lw_at lw_m10 150 rfl) rfl
theorem q2427 : (Jvm.Cond.methodLink "CheekTownModel" (266 : Nat) ({ cls := "CheekTownModel", name := "isLand", desc := "(I)Z" } : Jvm.MethodName)) ∈ lw_all := lw_g (lw_at lw_m10 151 rfl) rfl
theorem q2428 : (Jvm.Cond.privateMethod ({ cls := "CheekTownModel", name := "isLand", desc := "(I)Z" } : Jvm.MethodName)) ∈ lw_tbl := lw_at lw_m10 152 rfl
theorem q2429 : (Jvm.Cond.instanceMethod ({ cls := "CheekTownModel", name := "isLand", desc := "(I)Z" } : Jvm.MethodName)) ∈ lw_all := lw_g (lw_at lw_m10 153 rfl) rfl
theorem q2430 : (Jvm.Cond.code ({ cls := "CheekTownModel", name := "isLand", desc := "(I)Z" } : Jvm.MethodName) prog_23_method_11_code (2 : Nat) (Option.some Jvm.ClassFile.FieldType.boolean)) ∈ lw_all := lw_g (lw_at lw_m10 154 rfl) rfl
theorem q2431 : (Jvm.Cond.methodLink "CheekTownModel" (269 : Nat) ({ cls := "CheekTownModel", name := "weight", desc := "(II)I" } : Jvm.MethodName)) ∈ lw_all := lw_g (lw_at lw_m10 155 rfl) rfl
theorem q2432 : (Jvm.Cond.privateMethod ({ cls := "CheekTownModel", name := "weight", desc := "(II)I" } : Jvm.MethodName)) ∈ lw_tbl := lw_at lw_m10 156 rfl
theorem q2433 : (Jvm.Cond.instanceMethod ({ cls := "CheekTownModel", name := "weight", desc := "(II)I" } : Jvm.MethodName)) ∈ lw_all := lw_g (lw_at lw_m10 157 rfl) rfl
theorem q2434 : (Jvm.Cond.code ({ cls := "CheekTownModel", name := "weight", desc := "(II)I" } : Jvm.MethodName) prog_23_method_51_code (5 : Nat) (Option.some Jvm.ClassFile.FieldType.int)) ∈ lw_all := lw_g (lw_at lw_m10 158 rfl) rfl
theorem q2436 : (Jvm.Cond.instanceMethod ({ cls := "CheekTownModel", name := "person", desc := "(II)I" } : Jvm.MethodName)) ∈ lw_all := lw_g (lw_at lw_m10 160 rfl) rfl
theorem q2437 : (Jvm.Cond.selects "CheekTownModel" ({ cls := "CheekTownModel", name := "person", desc := "(II)I" } : Jvm.MethodName) ({ cls := "CheekTownModel", name := "person", desc := "(II)I" } : Jvm.MethodName)) ∈ lw_all := lw_g (lw_at lw_m10 161 rfl) rfl
theorem q2438 : (Jvm.Cond.code ({ cls := "CheekTownModel", name := "person", desc := "(II)I" } : Jvm.MethodName) prog_23_method_54_code (3 : Nat) (Option.some Jvm.ClassFile.FieldType.int)) ∈ lw_all := lw_g (lw_at lw_m10 162 rfl) rfl
theorem q2439 : (Jvm.Cond.methodLink "CheekTownModel" (271 : Nat) ({ cls := "CheekTownModel", name := "isPerson", desc := "(I)Z" } : Jvm.MethodName)) ∈ lw_all := lw_g (lw_at lw_m10 163 rfl) rfl
theorem q2440 : (Jvm.Cond.privateMethod ({ cls := "CheekTownModel", name := "isPerson", desc := "(I)Z" } : Jvm.MethodName)) ∈ lw_tbl := lw_at lw_m10 164 rfl
theorem q2441 : (Jvm.Cond.instanceMethod ({ cls := "CheekTownModel", name := "isPerson", desc := "(I)Z" } : Jvm.MethodName)) ∈ lw_all := lw_g (lw_at lw_m10 165 rfl) rfl
theorem q2442 : (Jvm.Cond.code ({ cls := "CheekTownModel", name := "isPerson", desc := "(I)Z" } : Jvm.MethodName) prog_23_method_10_code (2 : Nat) (Option.some Jvm.ClassFile.FieldType.boolean)) ∈ lw_all := lw_g (lw_at lw_m10 166 rfl) rfl
theorem q2443 : (Jvm.Cond.methodLink "CheekTownModel" (257 : Nat) ({ cls := "CheekTownModel", name := "of", desc := "(II)I" } : Jvm.MethodName)) ∈ lw_all := lw_g (lw_at lw_m10 167 rfl) rfl
theorem q2444 : (Jvm.Cond.privateMethod ({ cls := "CheekTownModel", name := "of", desc := "(II)I" } : Jvm.MethodName)) ∈ lw_tbl := lw_at lw_m10 168 rfl
theorem q2445 : (Jvm.Cond.instanceMethod ({ cls := "CheekTownModel", name := "of", desc := "(II)I" } : Jvm.MethodName)) ∈ lw_all := lw_g (lw_at lw_m10 169 rfl) rfl
theorem q2446 : (Jvm.Cond.code ({ cls := "CheekTownModel", name := "of", desc := "(II)I" } : Jvm.MethodName) prog_23_method_8_code (3 : Nat) (Option.some Jvm.ClassFile.FieldType.int)) ∈ lw_all := lw_g (lw_at lw_m10 170 rfl) rfl
theorem q2447 : (Jvm.Cond.methodLink "CheekTownModel" (274 : Nat) ({ cls := "CheekTownModel", name := "tiedTo", desc := "(I)I" } : Jvm.MethodName)) ∈ lw_all := lw_g (lw_at lw_m10 171 rfl) rfl
theorem q2448 : (Jvm.Cond.privateMethod ({ cls := "CheekTownModel", name := "tiedTo", desc := "(I)I" } : Jvm.MethodName)) ∈ lw_tbl := lw_at lw_m10 172 rfl
theorem q2449 : (Jvm.Cond.instanceMethod ({ cls := "CheekTownModel", name := "tiedTo", desc := "(I)I" } : Jvm.MethodName)) ∈ lw_all := lw_g (lw_at lw_m10 173 rfl) rfl
theorem q2450 : (Jvm.Cond.code ({ cls := "CheekTownModel", name := "tiedTo", desc := "(I)I" } : Jvm.MethodName) prog_23_method_53_code (4 : Nat) (Option.some Jvm.ClassFile.FieldType.int)) ∈ lw_all := lw_g (lw_at lw_m10 174 rfl) rfl
theorem q2452 : (Jvm.Cond.instanceMethod ({ cls := "CheekTownModel", name := "saw", desc := "(IIZ)I" } : Jvm.MethodName)) ∈ lw_all := lw_g (lw_at lw_m10 176 rfl) rfl
theorem q2453 : (Jvm.Cond.selects "CheekTownModel" ({ cls := "CheekTownModel", name := "saw", desc := "(IIZ)I" } : Jvm.MethodName) ({ cls := "CheekTownModel", name := "saw", desc := "(IIZ)I" } : Jvm.MethodName)) ∈ lw_all := lw_g (lw_at lw_m10 177 rfl) rfl
theorem q2454 : (Jvm.Cond.code ({ cls := "CheekTownModel", name := "saw", desc := "(IIZ)I" } : Jvm.MethodName) prog_23_method_56_code (4 : Nat) (Option.some Jvm.ClassFile.FieldType.int)) ∈ lw_all := lw_g (lw_at lw_m10 178 rfl) rfl
theorem q2455 : (Jvm.Cond.methodLink "CheekTownModel" (277 : Nat) ({ cls := "CheekTownModel", name := "two", desc := "(II)I" } : Jvm.MethodName)) ∈ lw_all := lw_g (lw_at lw_m10 179 rfl) rfl
theorem q2456 : (Jvm.Cond.privateMethod ({ cls := "CheekTownModel", name := "two", desc := "(II)I" } : Jvm.MethodName)) ∈ lw_tbl := lw_at lw_m10 180 rfl
theorem q2457 : (Jvm.Cond.instanceMethod ({ cls := "CheekTownModel", name := "two", desc := "(II)I" } : Jvm.MethodName)) ∈ lw_all := lw_g (lw_at lw_m10 181 rfl) rfl
theorem q2458 : (Jvm.Cond.code ({ cls := "CheekTownModel", name := "two", desc := "(II)I" } : Jvm.MethodName) prog_23_method_55_code (3 : Nat) (Option.some Jvm.ClassFile.FieldType.int)) ∈ lw_all := lw_g (lw_at lw_m10 182 rfl) rfl
theorem q2460 : (Jvm.Cond.instanceMethod ({ cls := "CheekTownModel", name := "tie", desc := "(IZ)I" } : Jvm.MethodName)) ∈ lw_all := lw_g (lw_at lw_m10 184 rfl) rfl
theorem q2461 : (Jvm.Cond.selects "CheekTownModel" ({ cls := "CheekTownModel", name := "tie", desc := "(IZ)I" } : Jvm.MethodName) ({ cls := "CheekTownModel", name := "tie", desc := "(IZ)I" } : Jvm.MethodName)) ∈ lw_all := lw_g (lw_at lw_m10 185 rfl) rfl
theorem q2462 : (Jvm.Cond.code ({ cls := "CheekTownModel", name := "tie", desc := "(IZ)I" } : Jvm.MethodName) prog_23_method_57_code (3 : Nat) (Option.some Jvm.ClassFile.FieldType.int)) ∈ lw_all := lw_g (lw_at lw_m10 186 rfl) rfl
theorem q2464 : (Jvm.Cond.instanceMethod ({ cls := "CheekTownModel", name := "will", desc := "(II)I" } : Jvm.MethodName)) ∈ lw_all := lw_g (lw_at lw_m10 188 rfl) rfl
theorem q2465 : (Jvm.Cond.selects "CheekTownModel" ({ cls := "CheekTownModel", name := "will", desc := "(II)I" } : Jvm.MethodName) ({ cls := "CheekTownModel", name := "will", desc := "(II)I" } : Jvm.MethodName)) ∈ lw_all := lw_g (lw_at lw_m10 189 rfl) rfl
theorem q2466 : (Jvm.Cond.code ({ cls := "CheekTownModel", name := "will", desc := "(II)I" } : Jvm.MethodName) prog_23_method_58_code (3 : Nat) (Option.some Jvm.ClassFile.FieldType.int)) ∈ lw_all := lw_g (lw_at lw_m10 190 rfl) rfl
theorem q2467 : (Jvm.Cond.methodLink "CheekTownModel" (280 : Nat) ({ cls := "CheekTownModel", name := "beginning", desc := "(II)I" } : Jvm.MethodName)) ∈ lw_all := lw_g (lw_at lw_m10 191 rfl) rfl
theorem q2468 : (Jvm.Cond.privateMethod ({ cls := "CheekTownModel", name := "beginning", desc := "(II)I" } : Jvm.MethodName)) ∈ lw_tbl := lw_at lw_m10 192 rfl
theorem q2469 : (Jvm.Cond.instanceMethod ({ cls := "CheekTownModel", name := "beginning", desc := "(II)I" } : Jvm.MethodName)) ∈ lw_all := lw_g (lw_at lw_m10 193 rfl) rfl
theorem q2470 : (Jvm.Cond.code ({ cls := "CheekTownModel", name := "beginning", desc := "(II)I" } : Jvm.MethodName) prog_23_method_49_code (5 : Nat) (Option.some Jvm.ClassFile.FieldType.int)) ∈ lw_all := lw_g (lw_at lw_m10 194 rfl) rfl
theorem q2472 : (Jvm.Cond.instanceMethod ({ cls := "CheekTownModel", name := "meet", desc := "(II)I" } : Jvm.MethodName)) ∈ lw_all := lw_g (lw_at lw_m10 196 rfl) rfl
theorem q2473 : (Jvm.Cond.selects "CheekTownModel" ({ cls := "CheekTownModel", name := "meet", desc := "(II)I" } : Jvm.MethodName) ({ cls := "CheekTownModel", name := "meet", desc := "(II)I" } : Jvm.MethodName)) ∈ lw_all := lw_g (lw_at lw_m10 197 rfl) rfl
theorem q2474 : (Jvm.Cond.code ({ cls := "CheekTownModel", name := "meet", desc := "(II)I" } : Jvm.MethodName) prog_23_method_63_code (3 : Nat) (Option.some Jvm.ClassFile.FieldType.int)) ∈ lw_all := lw_g (lw_at lw_m10 198 rfl) rfl
theorem q2475 : (Jvm.Cond.methodLink "CheekTownModel" (296 : Nat) ({ cls := "CheekTownModel", name := "remembers", desc := "()V" } : Jvm.MethodName)) ∈ lw_all := lw_g (lw_at lw_m10 199 rfl) rfl
theorem q2476 : (Jvm.Cond.privateMethod ({ cls := "CheekTownModel", name := "remembers", desc := "()V" } : Jvm.MethodName)) ∈ lw_tbl := lw_at lw_m10 200 rfl
theorem q2477 : (Jvm.Cond.instanceMethod ({ cls := "CheekTownModel", name := "remembers", desc := "()V" } : Jvm.MethodName)) ∈ lw_all := lw_g (lw_at lw_m10 201 rfl) rfl
theorem q2478 : (Jvm.Cond.code ({ cls := "CheekTownModel", name := "remembers", desc := "()V" } : Jvm.MethodName) prog_23_method_59_code (2 : Nat) (Option.none : Option Jvm.ClassFile.FieldType)) ∈ lw_all := lw_g (lw_at lw_m10 202 rfl) rfl
theorem q2479 : (Jvm.Cond.methodLink "CheekTownModel" (299 : Nat) ({ cls := "CheekTownModel", name := "meeting", desc := "(II)I" } : Jvm.MethodName)) ∈ lw_all := lw_g (lw_at lw_m10 203 rfl) rfl
theorem q2480 : (Jvm.Cond.privateMethod ({ cls := "CheekTownModel", name := "meeting", desc := "(II)I" } : Jvm.MethodName)) ∈ lw_tbl := lw_at lw_m10 204 rfl
theorem q2481 : (Jvm.Cond.instanceMethod ({ cls := "CheekTownModel", name := "meeting", desc := "(II)I" } : Jvm.MethodName)) ∈ lw_all := lw_g (lw_at lw_m10 205 rfl) rfl
theorem q2482 : (Jvm.Cond.code ({ cls := "CheekTownModel", name := "meeting", desc := "(II)I" } : Jvm.MethodName) prog_23_method_62_code (13 : Nat) (Option.some Jvm.ClassFile.FieldType.int)) ∈ lw_all := lw_g (lw_at lw_m10 206 rfl) rfl
theorem q2483 : (Jvm.Cond.methodLink "CheekTownModel" (284 : Nat) ({ cls := "CheekTownModel", name := "lesser", desc := "(II)I" } : Jvm.MethodName)) ∈ lw_all := lw_g (lw_at lw_m10 207 rfl) rfl
theorem q2484 : (Jvm.Cond.static ({ cls := "CheekTownModel", name := "lesser", desc := "(II)I" } : Jvm.MethodName)) ∈ lw_all := lw_g (lw_at lw_m10 208 rfl) rfl
theorem q2485 : (Jvm.Cond.code ({ cls := "CheekTownModel", name := "lesser", desc := "(II)I" } : Jvm.MethodName) prog_23_method_4_code (2 : Nat) (Option.some Jvm.ClassFile.FieldType.int)) ∈ lw_all := lw_g (lw_at lw_m10 209 rfl) rfl
theorem q2486 : (Jvm.Cond.methodLink "CheekTownModel" (287 : Nat) ({ cls := "CheekTownModel", name := "greater", desc := "(II)I" } : Jvm.MethodName)) ∈ lw_all := lw_g (lw_at lw_m10 210 rfl) rfl
theorem q2487 : (Jvm.Cond.static ({ cls := "CheekTownModel", name := "greater", desc := "(II)I" } : Jvm.MethodName)) ∈ lw_all := lw_g (lw_at lw_m10 211 rfl) rfl
theorem q2488 : (Jvm.Cond.code ({ cls := "CheekTownModel", name := "greater", desc := "(II)I" } : Jvm.MethodName) prog_23_method_5_code (2 : Nat) (Option.some Jvm.ClassFile.FieldType.int)) ∈ lw_all := lw_g (lw_at lw_m10 212 rfl) rfl
theorem q2489 : (Jvm.Cond.methodLink "CheekTownModel" (290 : Nat) ({ cls := "CheekTownModel", name := "isBent", desc := "(I)Z" } : Jvm.MethodName)) ∈ lw_all := lw_g (lw_at lw_m10 213 rfl) rfl
theorem q2490 : (Jvm.Cond.privateMethod ({ cls := "CheekTownModel", name := "isBent", desc := "(I)Z" } : Jvm.MethodName)) ∈ lw_tbl := lw_at lw_m10 214 rfl
theorem q2491 : (Jvm.Cond.instanceMethod ({ cls := "CheekTownModel", name := "isBent", desc := "(I)Z" } : Jvm.MethodName)) ∈ lw_all := lw_g (lw_at lw_m10 215 rfl) rfl
theorem q2492 : (Jvm.Cond.code ({ cls := "CheekTownModel", name := "isBent", desc := "(I)Z" } : Jvm.MethodName) prog_23_method_60_code (2 : Nat) (Option.some Jvm.ClassFile.FieldType.boolean)) ∈ lw_all := lw_g (lw_at lw_m10 216 rfl) rfl
theorem q2493 : (Jvm.Cond.constant "CheekTownModel" (283 : Nat) (1103515245 : Int32)) ∈ lw_all := lw_g (lw_at lw_m10 217 rfl) rfl
theorem q2494 : (Jvm.Cond.methodLink "CheekTownModel" (293 : Nat) ({ cls := "CheekTownModel", name := "sees", desc := "(III)V" } : Jvm.MethodName)) ∈ lw_all := lw_g (lw_at lw_m10 218 rfl) rfl
theorem q2495 : (Jvm.Cond.privateMethod ({ cls := "CheekTownModel", name := "sees", desc := "(III)V" } : Jvm.MethodName)) ∈ lw_tbl := lw_at lw_m10 219 rfl
theorem q2496 : (Jvm.Cond.instanceMethod ({ cls := "CheekTownModel", name := "sees", desc := "(III)V" } : Jvm.MethodName)) ∈ lw_all := lw_g (lw_at lw_m10 220 rfl) rfl
theorem q2497 : (Jvm.Cond.code ({ cls := "CheekTownModel", name := "sees", desc := "(III)V" } : Jvm.MethodName) prog_23_method_61_code (4 : Nat) (Option.none : Option Jvm.ClassFile.FieldType)) ∈ lw_all := lw_g (lw_at lw_m10 221 rfl) rfl
theorem q2499 : (Jvm.Cond.instanceMethod ({ cls := "CheekTownModel", name := "rounds", desc := "(I)I" } : Jvm.MethodName)) ∈ lw_all := lw_g (lw_at lw_m10 223 rfl) rfl
theorem q2500 : (Jvm.Cond.selects "CheekTownModel" ({ cls := "CheekTownModel", name := "rounds", desc := "(I)I" } : Jvm.MethodName) ({ cls := "CheekTownModel", name := "rounds", desc := "(I)I" } : Jvm.MethodName)) ∈ lw_all := lw_g (lw_at lw_m10 224 rfl) rfl
theorem q2501 : (Jvm.Cond.code ({ cls := "CheekTownModel", name := "rounds", desc := "(I)I" } : Jvm.MethodName) prog_23_method_65_code (2 : Nat) (Option.some Jvm.ClassFile.FieldType.int)) ∈ lw_all := lw_g (lw_at lw_m10 225 rfl) rfl
theorem q2502 : (Jvm.Cond.methodLink "CheekTownModel" (302 : Nat) ({ cls := "CheekTownModel", name := "goes", desc := "(I)I" } : Jvm.MethodName)) ∈ lw_all := lw_g (lw_at lw_m10 226 rfl) rfl
theorem q2503 : (Jvm.Cond.privateMethod ({ cls := "CheekTownModel", name := "goes", desc := "(I)I" } : Jvm.MethodName)) ∈ lw_tbl := lw_at lw_m10 227 rfl
theorem q2504 : (Jvm.Cond.instanceMethod ({ cls := "CheekTownModel", name := "goes", desc := "(I)I" } : Jvm.MethodName)) ∈ lw_all := lw_g (lw_at lw_m10 228 rfl) rfl
theorem q2505 : (Jvm.Cond.code ({ cls := "CheekTownModel", name := "goes", desc := "(I)I" } : Jvm.MethodName) prog_23_method_64_code (5 : Nat) (Option.some Jvm.ClassFile.FieldType.int)) ∈ lw_all := lw_g (lw_at lw_m10 229 rfl) rfl
theorem q2507 : (Jvm.Cond.instanceMethod ({ cls := "CheekTownModel", name := "own", desc := "(II)I" } : Jvm.MethodName)) ∈ lw_all := lw_g (lw_at lw_m10 231 rfl) rfl
theorem q2508 : (Jvm.Cond.selects "CheekTownModel" ({ cls := "CheekTownModel", name := "own", desc := "(II)I" } : Jvm.MethodName) ({ cls := "CheekTownModel", name := "own", desc := "(II)I" } : Jvm.MethodName)) ∈ lw_all := lw_g (lw_at lw_m10 232 rfl) rfl
theorem q2509 : (Jvm.Cond.code ({ cls := "CheekTownModel", name := "own", desc := "(II)I" } : Jvm.MethodName) prog_23_method_66_code (4 : Nat) (Option.some Jvm.ClassFile.FieldType.int)) ∈ lw_all := lw_g (lw_at lw_m10 233 rfl) rfl
theorem q2511 : (Jvm.Cond.instanceMethod ({ cls := "CheekTownModel", name := "cold", desc := "(IZ)Z" } : Jvm.MethodName)) ∈ lw_all := lw_g (lw_at lw_m10 235 rfl) rfl
theorem q2512 : (Jvm.Cond.selects "CheekTownModel" ({ cls := "CheekTownModel", name := "cold", desc := "(IZ)Z" } : Jvm.MethodName) ({ cls := "CheekTownModel", name := "cold", desc := "(IZ)Z" } : Jvm.MethodName)) ∈ lw_all := lw_g (lw_at lw_m10 236 rfl) rfl
theorem q2513 : (Jvm.Cond.code ({ cls := "CheekTownModel", name := "cold", desc := "(IZ)Z" } : Jvm.MethodName) prog_23_method_67_code (4 : Nat) (Option.some Jvm.ClassFile.FieldType.boolean)) ∈ lw_all := lw_g (lw_at lw_m10 237 rfl) rfl
theorem q2515 : (Jvm.Cond.instanceMethod ({ cls := "CheekTownModel", name := "ties", desc := "(II)I" } : Jvm.MethodName)) ∈ lw_all := lw_g (lw_at lw_m10 239 rfl) rfl
theorem q2516 : (Jvm.Cond.selects "CheekTownModel" ({ cls := "CheekTownModel", name := "ties", desc := "(II)I" } : Jvm.MethodName) ({ cls := "CheekTownModel", name := "ties", desc := "(II)I" } : Jvm.MethodName)) ∈ lw_all := lw_g (lw_at lw_m11 0 rfl) rfl
theorem q2517 : (Jvm.Cond.code ({ cls := "CheekTownModel", name := "ties", desc := "(II)I" } : Jvm.MethodName) prog_23_method_68_code (3 : Nat) (Option.some Jvm.ClassFile.FieldType.int)) ∈ lw_all := lw_g (lw_at lw_m11 1 rfl) rfl
theorem q2519 : (Jvm.Cond.instanceMethod ({ cls := "CheekTownModel", name := "cut", desc := "(I)I" } : Jvm.MethodName)) ∈ lw_all := lw_g (lw_at lw_m11 3 rfl) rfl
theorem q2520 : (Jvm.Cond.selects "CheekTownModel" ({ cls := "CheekTownModel", name := "cut", desc := "(I)I" } : Jvm.MethodName) ({ cls := "CheekTownModel", name := "cut", desc := "(I)I" } : Jvm.MethodName)) ∈ lw_all := lw_g (lw_at lw_m11 4 rfl) rfl
theorem q2521 : (Jvm.Cond.code ({ cls := "CheekTownModel", name := "cut", desc := "(I)I" } : Jvm.MethodName) prog_23_method_69_code (3 : Nat) (Option.some Jvm.ClassFile.FieldType.int)) ∈ lw_all := lw_g (lw_at lw_m11 5 rfl) rfl
theorem q2523 : (Jvm.Cond.instanceMethod ({ cls := "CheekTownModel", name := "feast", desc := "(II)I" } : Jvm.MethodName)) ∈ lw_all := lw_g (lw_at lw_m11 7 rfl) rfl
theorem q2524 : (Jvm.Cond.selects "CheekTownModel" ({ cls := "CheekTownModel", name := "feast", desc := "(II)I" } : Jvm.MethodName) ({ cls := "CheekTownModel", name := "feast", desc := "(II)I" } : Jvm.MethodName)) ∈ lw_all := lw_g (lw_at lw_m11 8 rfl) rfl
theorem q2525 : (Jvm.Cond.code ({ cls := "CheekTownModel", name := "feast", desc := "(II)I" } : Jvm.MethodName) prog_23_method_70_code (5 : Nat) (Option.some Jvm.ClassFile.FieldType.int)) ∈ lw_all := lw_g (lw_at lw_m11 9 rfl) rfl
theorem q2526 : (Jvm.Cond.methodLink "CheekTownModel" (305 : Nat) ({ cls := "CheekTownModel", name := "isOf", desc := "(II)Z" } : Jvm.MethodName)) ∈ lw_all := lw_g (lw_at lw_m11 10 rfl) rfl
theorem q2527 : (Jvm.Cond.static ({ cls := "CheekTownModel", name := "isOf", desc := "(II)Z" } : Jvm.MethodName)) ∈ lw_all := lw_g (lw_at lw_m11 11 rfl) rfl
theorem q2528 : (Jvm.Cond.code ({ cls := "CheekTownModel", name := "isOf", desc := "(II)Z" } : Jvm.MethodName) prog_23_method_6_code (2 : Nat) (Option.some Jvm.ClassFile.FieldType.boolean)) ∈ lw_all := lw_g (lw_at lw_m11 12 rfl) rfl
theorem q2530 : (Jvm.Cond.instanceMethod ({ cls := "CheekTownModel", name := "expected", desc := "(II)I" } : Jvm.MethodName)) ∈ lw_all := lw_g (lw_at lw_m11 14 rfl) rfl
theorem q2531 : (Jvm.Cond.selects "CheekTownModel" ({ cls := "CheekTownModel", name := "expected", desc := "(II)I" } : Jvm.MethodName) ({ cls := "CheekTownModel", name := "expected", desc := "(II)I" } : Jvm.MethodName)) ∈ lw_all := lw_g (lw_at lw_m11 15 rfl) rfl
theorem q2532 : (Jvm.Cond.code ({ cls := "CheekTownModel", name := "expected", desc := "(II)I" } : Jvm.MethodName) prog_23_method_72_code (3 : Nat) (Option.some Jvm.ClassFile.FieldType.int)) ∈ lw_all := lw_g (lw_at lw_m11 16 rfl) rfl
theorem q2533 : (Jvm.Cond.methodLink "CheekTownModel" (308 : Nat) ({ cls := "CheekTownModel", name := "expects", desc := "(II)I" } : Jvm.MethodName)) ∈ lw_all := lw_g (lw_at lw_m11 17 rfl) rfl
theorem q2534 : (Jvm.Cond.privateMethod ({ cls := "CheekTownModel", name := "expects", desc := "(II)I" } : Jvm.MethodName)) ∈ lw_tbl := lw_at lw_m11 18 rfl
theorem q2535 : (Jvm.Cond.instanceMethod ({ cls := "CheekTownModel", name := "expects", desc := "(II)I" } : Jvm.MethodName)) ∈ lw_all := lw_g (lw_at lw_m11 19 rfl) rfl
theorem q2536 : (Jvm.Cond.code ({ cls := "CheekTownModel", name := "expects", desc := "(II)I" } : Jvm.MethodName) prog_23_method_71_code (5 : Nat) (Option.some Jvm.ClassFile.FieldType.int)) ∈ lw_all := lw_g (lw_at lw_m11 20 rfl) rfl
theorem q2538 : (Jvm.Cond.instanceMethod ({ cls := "CheekTownModel", name := "best", desc := "(I)I" } : Jvm.MethodName)) ∈ lw_all := lw_g (lw_at lw_m11 22 rfl) rfl
theorem q2539 : (Jvm.Cond.selects "CheekTownModel" ({ cls := "CheekTownModel", name := "best", desc := "(I)I" } : Jvm.MethodName) ({ cls := "CheekTownModel", name := "best", desc := "(I)I" } : Jvm.MethodName)) ∈ lw_all := lw_g (lw_at lw_m11 23 rfl) rfl
theorem q2540 : (Jvm.Cond.code ({ cls := "CheekTownModel", name := "best", desc := "(I)I" } : Jvm.MethodName) prog_23_method_74_code (2 : Nat) (Option.some Jvm.ClassFile.FieldType.int)) ∈ lw_all := lw_g (lw_at lw_m11 24 rfl) rfl
theorem q2541 : (Jvm.Cond.methodLink "CheekTownModel" (311 : Nat) ({ cls := "CheekTownModel", name := "bestOf", desc := "(I)I" } : Jvm.MethodName)) ∈ lw_all := lw_g (lw_at lw_m11 25 rfl) rfl
theorem q2542 : (Jvm.Cond.privateMethod ({ cls := "CheekTownModel", name := "bestOf", desc := "(I)I" } : Jvm.MethodName)) ∈ lw_tbl := lw_at lw_m11 26 rfl
theorem q2543 : (Jvm.Cond.instanceMethod ({ cls := "CheekTownModel", name := "bestOf", desc := "(I)I" } : Jvm.MethodName)) ∈ lw_all := lw_g (lw_at lw_m11 27 rfl) rfl
theorem q2544 : (Jvm.Cond.code ({ cls := "CheekTownModel", name := "bestOf", desc := "(I)I" } : Jvm.MethodName) prog_23_method_73_code (4 : Nat) (Option.some Jvm.ClassFile.FieldType.int)) ∈ lw_all := lw_g (lw_at lw_m11 28 rfl) rfl
theorem q2546 : (Jvm.Cond.instanceMethod ({ cls := "CheekTownModel", name := "safest", desc := "(Z)I" } : Jvm.MethodName)) ∈ lw_all := lw_g (lw_at lw_m11 30 rfl) rfl
theorem q2547 : (Jvm.Cond.selects "CheekTownModel" ({ cls := "CheekTownModel", name := "safest", desc := "(Z)I" } : Jvm.MethodName) ({ cls := "CheekTownModel", name := "safest", desc := "(Z)I" } : Jvm.MethodName)) ∈ lw_all := lw_g (lw_at lw_m11 31 rfl) rfl
theorem q2548 : (Jvm.Cond.code ({ cls := "CheekTownModel", name := "safest", desc := "(Z)I" } : Jvm.MethodName) prog_23_method_76_code (4 : Nat) (Option.some Jvm.ClassFile.FieldType.int)) ∈ lw_all := lw_g (lw_at lw_m11 32 rfl) rfl
theorem q2549 : (Jvm.Cond.methodLink "CheekTownModel" (314 : Nat) ({ cls := "CheekTownModel", name := "dearest", desc := "(I)I" } : Jvm.MethodName)) ∈ lw_all := lw_g (lw_at lw_m11 33 rfl) rfl
theorem q2550 : (Jvm.Cond.privateMethod ({ cls := "CheekTownModel", name := "dearest", desc := "(I)I" } : Jvm.MethodName)) ∈ lw_tbl := lw_at lw_m11 34 rfl
theorem q2551 : (Jvm.Cond.instanceMethod ({ cls := "CheekTownModel", name := "dearest", desc := "(I)I" } : Jvm.MethodName)) ∈ lw_all := lw_g (lw_at lw_m11 35 rfl) rfl
theorem q2552 : (Jvm.Cond.code ({ cls := "CheekTownModel", name := "dearest", desc := "(I)I" } : Jvm.MethodName) prog_23_method_75_code (4 : Nat) (Option.some Jvm.ClassFile.FieldType.int)) ∈ lw_all := lw_g (lw_at lw_m11 36 rfl) rfl
theorem q2554 : (Jvm.Cond.instanceMethod ({ cls := "CheekTownModel", name := "odds", desc := "(II)I" } : Jvm.MethodName)) ∈ lw_all := lw_g (lw_at lw_m11 38 rfl) rfl
theorem q2555 : (Jvm.Cond.selects "CheekTownModel" ({ cls := "CheekTownModel", name := "odds", desc := "(II)I" } : Jvm.MethodName) ({ cls := "CheekTownModel", name := "odds", desc := "(II)I" } : Jvm.MethodName)) ∈ lw_all := lw_g (lw_at lw_m11 39 rfl) rfl
theorem q2556 : (Jvm.Cond.code ({ cls := "CheekTownModel", name := "odds", desc := "(II)I" } : Jvm.MethodName) prog_23_method_77_code (3 : Nat) (Option.some Jvm.ClassFile.FieldType.int)) ∈ lw_all := lw_g (lw_at lw_m11 40 rfl) rfl
theorem q2558 : (Jvm.Cond.instanceMethod ({ cls := "CheekTownModel", name := "from", desc := "(Z)I" } : Jvm.MethodName)) ∈ lw_all := lw_g (lw_at lw_m11 42 rfl) rfl
theorem q2559 : (Jvm.Cond.selects "CheekTownModel" ({ cls := "CheekTownModel", name := "from", desc := "(Z)I" } : Jvm.MethodName) ({ cls := "CheekTownModel", name := "from", desc := "(Z)I" } : Jvm.MethodName)) ∈ lw_all := lw_g (lw_at lw_m11 43 rfl) rfl
theorem q2560 : (Jvm.Cond.code ({ cls := "CheekTownModel", name := "from", desc := "(Z)I" } : Jvm.MethodName) prog_23_method_79_code (7 : Nat) (Option.some Jvm.ClassFile.FieldType.int)) ∈ lw_all := lw_g (lw_at lw_m11 44 rfl) rfl
theorem q2561 : (Jvm.Cond.methodLink "CheekTownModel" (317 : Nat) ({ cls := "CheekTownModel", name := "likely", desc := "(IIZ)J" } : Jvm.MethodName)) ∈ lw_all := lw_g (lw_at lw_m11 45 rfl) rfl
theorem q2562 : (Jvm.Cond.privateMethod ({ cls := "CheekTownModel", name := "likely", desc := "(IIZ)J" } : Jvm.MethodName)) ∈ lw_tbl := lw_at lw_m11 46 rfl
theorem q2563 : (Jvm.Cond.instanceMethod ({ cls := "CheekTownModel", name := "likely", desc := "(IIZ)J" } : Jvm.MethodName)) ∈ lw_all := lw_g (lw_at lw_m11 47 rfl) rfl
theorem q2564 : (Jvm.Cond.code ({ cls := "CheekTownModel", name := "likely", desc := "(IIZ)J" } : Jvm.MethodName) prog_23_method_78_code (7 : Nat) (Option.some Jvm.ClassFile.FieldType.long)) ∈ lw_all := lw_g (lw_at lw_m11 48 rfl) rfl
theorem q2566 : (Jvm.Cond.instanceMethod ({ cls := "CheekTownModel", name := "worth", desc := "()I" } : Jvm.MethodName)) ∈ lw_all := lw_g (lw_at lw_m11 50 rfl) rfl
theorem q2567 : (Jvm.Cond.selects "CheekTownModel" ({ cls := "CheekTownModel", name := "worth", desc := "()I" } : Jvm.MethodName) ({ cls := "CheekTownModel", name := "worth", desc := "()I" } : Jvm.MethodName)) ∈ lw_all := lw_g (lw_at lw_m11 51 rfl) rfl
theorem q2568 : (Jvm.Cond.code ({ cls := "CheekTownModel", name := "worth", desc := "()I" } : Jvm.MethodName) prog_23_method_82_code (3 : Nat) (Option.some Jvm.ClassFile.FieldType.int)) ∈ lw_all := lw_g (lw_at lw_m11 52 rfl) rfl
theorem q2569 : (Jvm.Cond.methodLink "CheekTownModel" (324 : Nat) ({ cls := "CheekTownModel", name := "expectsAll", desc := "(I)I" } : Jvm.MethodName)) ∈ lw_all := lw_g (lw_at lw_m11 53 rfl) rfl
theorem q2570 : (Jvm.Cond.privateMethod ({ cls := "CheekTownModel", name := "expectsAll", desc := "(I)I" } : Jvm.MethodName)) ∈ lw_tbl := lw_at lw_m11 54 rfl
theorem q2571 : (Jvm.Cond.instanceMethod ({ cls := "CheekTownModel", name := "expectsAll", desc := "(I)I" } : Jvm.MethodName)) ∈ lw_all := lw_g (lw_at lw_m11 55 rfl) rfl
theorem q2572 : (Jvm.Cond.code ({ cls := "CheekTownModel", name := "expectsAll", desc := "(I)I" } : Jvm.MethodName) prog_23_method_81_code (4 : Nat) (Option.some Jvm.ClassFile.FieldType.int)) ∈ lw_all := lw_g (lw_at lw_m11 56 rfl) rfl
theorem q2573 : (Jvm.Cond.methodLink "CheekTownModel" (321 : Nat) ({ cls := "CheekTownModel", name := "peopleOf", desc := "(I)I" } : Jvm.MethodName)) ∈ lw_all := lw_g (lw_at lw_m11 57 rfl) rfl
theorem q2574 : (Jvm.Cond.privateMethod ({ cls := "CheekTownModel", name := "peopleOf", desc := "(I)I" } : Jvm.MethodName)) ∈ lw_tbl := lw_at lw_m11 58 rfl
theorem q2575 : (Jvm.Cond.instanceMethod ({ cls := "CheekTownModel", name := "peopleOf", desc := "(I)I" } : Jvm.MethodName)) ∈ lw_all := lw_g (lw_at lw_m11 59 rfl) rfl
theorem q2576 : (Jvm.Cond.code ({ cls := "CheekTownModel", name := "peopleOf", desc := "(I)I" } : Jvm.MethodName) prog_23_method_80_code (4 : Nat) (Option.some Jvm.ClassFile.FieldType.int)) ∈ lw_all := lw_g (lw_at lw_m11 60 rfl) rfl
theorem q2578 : (Jvm.Cond.instanceMethod ({ cls := "CheekTownModel", name := "rests", desc := "(II)I" } : Jvm.MethodName)) ∈ lw_all := lw_g (lw_at lw_m11 62 rfl) rfl
theorem q2579 : (Jvm.Cond.selects "CheekTownModel" ({ cls := "CheekTownModel", name := "rests", desc := "(II)I" } : Jvm.MethodName) ({ cls := "CheekTownModel", name := "rests", desc := "(II)I" } : Jvm.MethodName)) ∈ lw_all := lw_g (lw_at lw_m11 63 rfl) rfl
theorem q2580 : (Jvm.Cond.code ({ cls := "CheekTownModel", name := "rests", desc := "(II)I" } : Jvm.MethodName) prog_23_method_84_code (7 : Nat) (Option.some Jvm.ClassFile.FieldType.int)) ∈ lw_all := lw_g (lw_at lw_m11 64 rfl) rfl
theorem q2581 : (Jvm.Cond.methodLink "CheekTownModel" (327 : Nat) ({ cls := "CheekTownModel", name := "pays", desc := "(IIZZ)I" } : Jvm.MethodName)) ∈ lw_all := lw_g (lw_at lw_m11 65 rfl) rfl
theorem q2582 : (Jvm.Cond.privateMethod ({ cls := "CheekTownModel", name := "pays", desc := "(IIZZ)I" } : Jvm.MethodName)) ∈ lw_tbl := lw_at lw_m11 66 rfl
theorem q2583 : (Jvm.Cond.instanceMethod ({ cls := "CheekTownModel", name := "pays", desc := "(IIZZ)I" } : Jvm.MethodName)) ∈ lw_all := lw_g (lw_at lw_m11 67 rfl) rfl
theorem q2584 : (Jvm.Cond.code ({ cls := "CheekTownModel", name := "pays", desc := "(IIZZ)I" } : Jvm.MethodName) prog_23_method_83_code (7 : Nat) (Option.some Jvm.ClassFile.FieldType.int)) ∈ lw_all := lw_g (lw_at lw_m11 68 rfl) rfl
theorem q2586 : (Jvm.Cond.instanceMethod ({ cls := "CheekTownModel", name := "sake", desc := "(IIZ)I" } : Jvm.MethodName)) ∈ lw_all := lw_g (lw_at lw_m11 70 rfl) rfl
theorem q2587 : (Jvm.Cond.selects "CheekTownModel" ({ cls := "CheekTownModel", name := "sake", desc := "(IIZ)I" } : Jvm.MethodName) ({ cls := "CheekTownModel", name := "sake", desc := "(IIZ)I" } : Jvm.MethodName)) ∈ lw_all := lw_g (lw_at lw_m11 71 rfl) rfl
theorem q2588 : (Jvm.Cond.code ({ cls := "CheekTownModel", name := "sake", desc := "(IIZ)I" } : Jvm.MethodName) prog_23_method_86_code (8 : Nat) (Option.some Jvm.ClassFile.FieldType.int)) ∈ lw_all := lw_g (lw_at lw_m11 72 rfl) rfl
theorem q2589 : (Jvm.Cond.methodLink "CheekTownModel" (331 : Nat) ({ cls := "CheekTownModel", name := "towards", desc := "(II)I" } : Jvm.MethodName)) ∈ lw_all := lw_g (lw_at lw_m11 73 rfl) rfl
theorem q2590 : (Jvm.Cond.static ({ cls := "CheekTownModel", name := "towards", desc := "(II)I" } : Jvm.MethodName)) ∈ lw_all := lw_g (lw_at lw_m11 74 rfl) rfl
theorem q2591 : (Jvm.Cond.code ({ cls := "CheekTownModel", name := "towards", desc := "(II)I" } : Jvm.MethodName) prog_23_method_85_code (2 : Nat) (Option.some Jvm.ClassFile.FieldType.int)) ∈ lw_all := lw_g (lw_at lw_m11 75 rfl) rfl
theorem q2593 : (Jvm.Cond.instanceMethod ({ cls := "CheekTownModel", name := "table", desc := "(II)I" } : Jvm.MethodName)) ∈ lw_all := lw_g (lw_at lw_m11 77 rfl) rfl
theorem q2594 : (Jvm.Cond.selects "CheekTownModel" ({ cls := "CheekTownModel", name := "table", desc := "(II)I" } : Jvm.MethodName) ({ cls := "CheekTownModel", name := "table", desc := "(II)I" } : Jvm.MethodName)) ∈ lw_all := lw_g (lw_at lw_m11 78 rfl) rfl
theorem q2595 : (Jvm.Cond.code ({ cls := "CheekTownModel", name := "table", desc := "(II)I" } : Jvm.MethodName) prog_23_method_88_code (5 : Nat) (Option.some Jvm.ClassFile.FieldType.int)) ∈ lw_all := lw_g (lw_at lw_m11 79 rfl) rfl
theorem q2596 : (Jvm.Cond.methodLink "CheekTownModel" (340 : Nat) ({ cls := "CheekTownModel", name := "bits", desc := "(I)I" } : Jvm.MethodName)) ∈ lw_all := lw_g (lw_at lw_m11 80 rfl) rfl
theorem q2597 : (Jvm.Cond.static ({ cls := "CheekTownModel", name := "bits", desc := "(I)I" } : Jvm.MethodName)) ∈ lw_all := lw_g (lw_at lw_m11 81 rfl) rfl
theorem q2598 : (Jvm.Cond.code ({ cls := "CheekTownModel", name := "bits", desc := "(I)I" } : Jvm.MethodName) prog_23_method_7_code (3 : Nat) (Option.some Jvm.ClassFile.FieldType.int)) ∈ lw_all := lw_g (lw_at lw_m11 82 rfl) rfl
theorem q2599 : (Jvm.Cond.constant "CheekTownModel" (343 : Nat) (1000000 : Int32)) ∈ lw_all := lw_g (lw_at lw_m11 83 rfl) rfl
theorem q2600 : (Jvm.Cond.methodLink "CheekTownModel" (337 : Nat) ({ cls := "CheekTownModel", name := "sits", desc := "(IIII)V" } : Jvm.MethodName)) ∈ lw_all := lw_g (lw_at lw_m11 84 rfl) rfl
theorem q2601 : (Jvm.Cond.privateMethod ({ cls := "CheekTownModel", name := "sits", desc := "(IIII)V" } : Jvm.MethodName)) ∈ lw_tbl := lw_at lw_m11 85 rfl
theorem q2602 : (Jvm.Cond.instanceMethod ({ cls := "CheekTownModel", name := "sits", desc := "(IIII)V" } : Jvm.MethodName)) ∈ lw_all := lw_g (lw_at lw_m11 86 rfl) rfl
theorem q2603 : (Jvm.Cond.code ({ cls := "CheekTownModel", name := "sits", desc := "(IIII)V" } : Jvm.MethodName) prog_23_method_87_code (7 : Nat) (Option.none : Option Jvm.ClassFile.FieldType)) ∈ lw_all := lw_g (lw_at lw_m11 87 rfl) rfl
theorem q2605 : (Jvm.Cond.instanceMethod ({ cls := "CheekTownModel", name := "pairs", desc := "(Z)I" } : Jvm.MethodName)) ∈ lw_all := lw_g (lw_at lw_m11 89 rfl) rfl
theorem q2606 : (Jvm.Cond.selects "CheekTownModel" ({ cls := "CheekTownModel", name := "pairs", desc := "(Z)I" } : Jvm.MethodName) ({ cls := "CheekTownModel", name := "pairs", desc := "(Z)I" } : Jvm.MethodName)) ∈ lw_all := lw_g (lw_at lw_m11 90 rfl) rfl
theorem q2607 : (Jvm.Cond.code ({ cls := "CheekTownModel", name := "pairs", desc := "(Z)I" } : Jvm.MethodName) prog_23_method_90_code (6 : Nat) (Option.some Jvm.ClassFile.FieldType.int)) ∈ lw_all := lw_g (lw_at lw_m11 91 rfl) rfl
theorem q2608 : (Jvm.Cond.methodLink "CheekTownModel" (344 : Nat) ({ cls := "CheekTownModel", name := "pairsOf", desc := "(I)I" } : Jvm.MethodName)) ∈ lw_all := lw_g (lw_at lw_m11 92 rfl) rfl
theorem q2609 : (Jvm.Cond.privateMethod ({ cls := "CheekTownModel", name := "pairsOf", desc := "(I)I" } : Jvm.MethodName)) ∈ lw_tbl := lw_at lw_m11 93 rfl
theorem q2610 : (Jvm.Cond.instanceMethod ({ cls := "CheekTownModel", name := "pairsOf", desc := "(I)I" } : Jvm.MethodName)) ∈ lw_all := lw_g (lw_at lw_m11 94 rfl) rfl
theorem q2611 : (Jvm.Cond.code ({ cls := "CheekTownModel", name := "pairsOf", desc := "(I)I" } : Jvm.MethodName) prog_23_method_89_code (6 : Nat) (Option.some Jvm.ClassFile.FieldType.int)) ∈ lw_all := lw_g (lw_at lw_m11 95 rfl) rfl
theorem q2613 : (Jvm.Cond.instanceMethod ({ cls := "CheekTownModel", name := "begins", desc := "(I)I" } : Jvm.MethodName)) ∈ lw_all := lw_g (lw_at lw_m11 97 rfl) rfl
theorem q2614 : (Jvm.Cond.selects "CheekTownModel" ({ cls := "CheekTownModel", name := "begins", desc := "(I)I" } : Jvm.MethodName) ({ cls := "CheekTownModel", name := "begins", desc := "(I)I" } : Jvm.MethodName)) ∈ lw_all := lw_g (lw_at lw_m11 98 rfl) rfl
theorem q2615 : (Jvm.Cond.code ({ cls := "CheekTownModel", name := "begins", desc := "(I)I" } : Jvm.MethodName) prog_23_method_93_code (4 : Nat) (Option.some Jvm.ClassFile.FieldType.int)) ∈ lw_all := lw_g (lw_at lw_m11 99 rfl) rfl
theorem q2616 : (Jvm.Cond.methodLink "CheekTownModel" (351 : Nat) ({ cls := "CheekTownModel", name := "byRule", desc := "(I)I" } : Jvm.MethodName)) ∈ lw_all := lw_g (lw_at lw_m11 100 rfl) rfl
theorem q2617 : (Jvm.Cond.privateMethod ({ cls := "CheekTownModel", name := "byRule", desc := "(I)I" } : Jvm.MethodName)) ∈ lw_tbl := lw_at lw_m11 101 rfl
theorem q2618 : (Jvm.Cond.instanceMethod ({ cls := "CheekTownModel", name := "byRule", desc := "(I)I" } : Jvm.MethodName)) ∈ lw_all := lw_g (lw_at lw_m11 102 rfl) rfl
theorem q2619 : (Jvm.Cond.code ({ cls := "CheekTownModel", name := "byRule", desc := "(I)I" } : Jvm.MethodName) prog_23_method_92_code (6 : Nat) (Option.some Jvm.ClassFile.FieldType.int)) ∈ lw_all := lw_g (lw_at lw_m11 103 rfl) rfl
theorem q2620 : (Jvm.Cond.methodLink "CheekTownModel" (347 : Nat) ({ cls := "CheekTownModel", name := "beginner", desc := "(III)I" } : Jvm.MethodName)) ∈ lw_all := lw_g (lw_at lw_m11 104 rfl) rfl
theorem q2621 : (Jvm.Cond.privateMethod ({ cls := "CheekTownModel", name := "beginner", desc := "(III)I" } : Jvm.MethodName)) ∈ lw_tbl := lw_at lw_m11 105 rfl
theorem q2622 : (Jvm.Cond.instanceMethod ({ cls := "CheekTownModel", name := "beginner", desc := "(III)I" } : Jvm.MethodName)) ∈ lw_all := lw_g (lw_at lw_m11 106 rfl) rfl
theorem q2623 : (Jvm.Cond.code ({ cls := "CheekTownModel", name := "beginner", desc := "(III)I" } : Jvm.MethodName) prog_23_method_91_code (6 : Nat) (Option.some Jvm.ClassFile.FieldType.int)) ∈ lw_all := lw_g (lw_at lw_m11 107 rfl) rfl
theorem q2625 : (Jvm.Cond.instanceMethod ({ cls := "CheekTownModel", name := "after", desc := "(II)I" } : Jvm.MethodName)) ∈ lw_all := lw_g (lw_at lw_m11 109 rfl) rfl
theorem q2626 : (Jvm.Cond.selects "CheekTownModel" ({ cls := "CheekTownModel", name := "after", desc := "(II)I" } : Jvm.MethodName) ({ cls := "CheekTownModel", name := "after", desc := "(II)I" } : Jvm.MethodName)) ∈ lw_all := lw_g (lw_at lw_m11 110 rfl) rfl
theorem q2627 : (Jvm.Cond.code ({ cls := "CheekTownModel", name := "after", desc := "(II)I" } : Jvm.MethodName) prog_23_method_99_code (6 : Nat) (Option.some Jvm.ClassFile.FieldType.int)) ∈ lw_all := lw_g (lw_at lw_m11 111 rfl) rfl
theorem q2628 : (Jvm.Cond.methodLink "CheekTownModel" (360 : Nat) ({ cls := "CheekTownModel", name := "starts", desc := "(II)V" } : Jvm.MethodName)) ∈ lw_all := lw_g (lw_at lw_m11 112 rfl) rfl
theorem q2629 : (Jvm.Cond.privateMethod ({ cls := "CheekTownModel", name := "starts", desc := "(II)V" } : Jvm.MethodName)) ∈ lw_tbl := lw_at lw_m11 113 rfl
theorem q2630 : (Jvm.Cond.instanceMethod ({ cls := "CheekTownModel", name := "starts", desc := "(II)V" } : Jvm.MethodName)) ∈ lw_all := lw_g (lw_at lw_m11 114 rfl) rfl
theorem q2631 : (Jvm.Cond.code ({ cls := "CheekTownModel", name := "starts", desc := "(II)V" } : Jvm.MethodName) prog_23_method_96_code (4 : Nat) (Option.none : Option Jvm.ClassFile.FieldType)) ∈ lw_all := lw_g (lw_at lw_m11 115 rfl) rfl
theorem q2632 : (Jvm.Cond.methodLink "CheekTownModel" (363 : Nat) ({ cls := "CheekTownModel", name := "years", desc := "(I)V" } : Jvm.MethodName)) ∈ lw_all := lw_g (lw_at lw_m11 116 rfl) rfl
theorem q2633 : (Jvm.Cond.privateMethod ({ cls := "CheekTownModel", name := "years", desc := "(I)V" } : Jvm.MethodName)) ∈ lw_tbl := lw_at lw_m11 117 rfl
theorem q2634 : (Jvm.Cond.instanceMethod ({ cls := "CheekTownModel", name := "years", desc := "(I)V" } : Jvm.MethodName)) ∈ lw_all := lw_g (lw_at lw_m11 118 rfl) rfl
theorem q2635 : (Jvm.Cond.code ({ cls := "CheekTownModel", name := "years", desc := "(I)V" } : Jvm.MethodName) prog_23_method_97_code (4 : Nat) (Option.none : Option Jvm.ClassFile.FieldType)) ∈ lw_all := lw_g (lw_at lw_m11 119 rfl) rfl
theorem q2636 : (Jvm.Cond.methodLink "CheekTownModel" (357 : Nat) ({ cls := "CheekTownModel", name := "year", desc := "()Z" } : Jvm.MethodName)) ∈ lw_all := lw_g (lw_at lw_m11 120 rfl) rfl
theorem q2637 : (Jvm.Cond.privateMethod ({ cls := "CheekTownModel", name := "year", desc := "()Z" } : Jvm.MethodName)) ∈ lw_tbl := lw_at lw_m11 121 rfl
theorem q2638 : (Jvm.Cond.instanceMethod ({ cls := "CheekTownModel", name := "year", desc := "()Z" } : Jvm.MethodName)) ∈ lw_all := lw_g (lw_at lw_m11 122 rfl) rfl
theorem q2639 : (Jvm.Cond.code ({ cls := "CheekTownModel", name := "year", desc := "()Z" } : Jvm.MethodName) prog_23_method_95_code (3 : Nat) (Option.some Jvm.ClassFile.FieldType.boolean)) ∈ lw_all := lw_g (lw_at lw_m11 123 rfl) rfl
theorem q2640 : (Jvm.Cond.methodLink "CheekTownModel" (354 : Nat) ({ cls := "CheekTownModel", name := "takes", desc := "(I)I" } : Jvm.MethodName)) ∈ lw_all := lw_g (lw_at lw_m11 124 rfl) rfl
theorem q2641 : (Jvm.Cond.privateMethod ({ cls := "CheekTownModel", name := "takes", desc := "(I)I" } : Jvm.MethodName)) ∈ lw_tbl := lw_at lw_m11 125 rfl
theorem q2642 : (Jvm.Cond.instanceMethod ({ cls := "CheekTownModel", name := "takes", desc := "(I)I" } : Jvm.MethodName)) ∈ lw_all := lw_g (lw_at lw_m11 126 rfl) rfl
theorem q2643 : (Jvm.Cond.code ({ cls := "CheekTownModel", name := "takes", desc := "(I)I" } : Jvm.MethodName) prog_23_method_94_code (4 : Nat) (Option.some Jvm.ClassFile.FieldType.int)) ∈ lw_all := lw_g (lw_at lw_m11 127 rfl) rfl
theorem q2644 : (Jvm.Cond.methodLink "CheekTownModel" (366 : Nat) ({ cls := "CheekTownModel", name := "counts", desc := "()I" } : Jvm.MethodName)) ∈ lw_all := lw_g (lw_at lw_m11 128 rfl) rfl
theorem q2645 : (Jvm.Cond.privateMethod ({ cls := "CheekTownModel", name := "counts", desc := "()I" } : Jvm.MethodName)) ∈ lw_tbl := lw_at lw_m11 129 rfl
theorem q2646 : (Jvm.Cond.instanceMethod ({ cls := "CheekTownModel", name := "counts", desc := "()I" } : Jvm.MethodName)) ∈ lw_all := lw_g (lw_at lw_m11 130 rfl) rfl
theorem q2647 : (Jvm.Cond.code ({ cls := "CheekTownModel", name := "counts", desc := "()I" } : Jvm.MethodName) prog_23_method_98_code (3 : Nat) (Option.some Jvm.ClassFile.FieldType.int)) ∈ lw_all := lw_g (lw_at lw_m11 131 rfl) rfl
theorem q2649 : (Jvm.Cond.instanceMethod ({ cls := "CheekTownModel", name := "custom", desc := "(II)I" } : Jvm.MethodName)) ∈ lw_all := lw_g (lw_at lw_m11 133 rfl) rfl
theorem q2650 : (Jvm.Cond.selects "CheekTownModel" ({ cls := "CheekTownModel", name := "custom", desc := "(II)I" } : Jvm.MethodName) ({ cls := "CheekTownModel", name := "custom", desc := "(II)I" } : Jvm.MethodName)) ∈ lw_all := lw_g (lw_at lw_m11 134 rfl) rfl
theorem q2651 : (Jvm.Cond.code ({ cls := "CheekTownModel", name := "custom", desc := "(II)I" } : Jvm.MethodName) prog_23_method_100_code (3 : Nat) (Option.some Jvm.ClassFile.FieldType.int)) ∈ lw_all := lw_g (lw_at lw_m11 135 rfl) rfl
theorem q2653 : (Jvm.Cond.instanceMethod ({ cls := "CheekTownModel", name := "still", desc := "()I" } : Jvm.MethodName)) ∈ lw_all := lw_g (lw_at lw_m11 137 rfl) rfl
theorem q2654 : (Jvm.Cond.selects "CheekTownModel" ({ cls := "CheekTownModel", name := "still", desc := "()I" } : Jvm.MethodName) ({ cls := "CheekTownModel", name := "still", desc := "()I" } : Jvm.MethodName)) ∈ lw_all := lw_g (lw_at lw_m11 138 rfl) rfl
theorem q2655 : (Jvm.Cond.code ({ cls := "CheekTownModel", name := "still", desc := "()I" } : Jvm.MethodName) prog_23_method_101_code (2 : Nat) (Option.some Jvm.ClassFile.FieldType.int)) ∈ lw_all := lw_g (lw_at lw_m11 139 rfl) rfl
theorem q2657 : (Jvm.Cond.instanceMethod ({ cls := "CheekTownModel", name := "told", desc := "(II)I" } : Jvm.MethodName)) ∈ lw_all := lw_g (lw_at lw_m11 141 rfl) rfl
theorem q2658 : (Jvm.Cond.selects "CheekTownModel" ({ cls := "CheekTownModel", name := "told", desc := "(II)I" } : Jvm.MethodName) ({ cls := "CheekTownModel", name := "told", desc := "(II)I" } : Jvm.MethodName)) ∈ lw_all := lw_g (lw_at lw_m11 142 rfl) rfl
theorem q2659 : (Jvm.Cond.code ({ cls := "CheekTownModel", name := "told", desc := "(II)I" } : Jvm.MethodName) prog_23_method_103_code (5 : Nat) (Option.some Jvm.ClassFile.FieldType.int)) ∈ lw_all := lw_g (lw_at lw_m11 143 rfl) rfl
theorem q2660 : (Jvm.Cond.methodLink "CheekTownModel" (369 : Nat) ({ cls := "CheekTownModel", name := "wins", desc := "(III)Z" } : Jvm.MethodName)) ∈ lw_all := lw_g (lw_at lw_m11 144 rfl) rfl
theorem q2661 : (Jvm.Cond.privateMethod ({ cls := "CheekTownModel", name := "wins", desc := "(III)Z" } : Jvm.MethodName)) ∈ lw_tbl := lw_at lw_m11 145 rfl
theorem q2662 : (Jvm.Cond.instanceMethod ({ cls := "CheekTownModel", name := "wins", desc := "(III)Z" } : Jvm.MethodName)) ∈ lw_all := lw_g (lw_at lw_m11 146 rfl) rfl
theorem q2663 : (Jvm.Cond.code ({ cls := "CheekTownModel", name := "wins", desc := "(III)Z" } : Jvm.MethodName) prog_23_method_102_code (5 : Nat) (Option.some Jvm.ClassFile.FieldType.boolean)) ∈ lw_all := lw_g (lw_at lw_m11 147 rfl) rfl
theorem q2665 : (Jvm.Cond.instanceMethod ({ cls := "CheekTownModel", name := "colds", desc := "(II)I" } : Jvm.MethodName)) ∈ lw_all := lw_g (lw_at lw_m11 149 rfl) rfl
theorem q2666 : (Jvm.Cond.selects "CheekTownModel" ({ cls := "CheekTownModel", name := "colds", desc := "(II)I" } : Jvm.MethodName) ({ cls := "CheekTownModel", name := "colds", desc := "(II)I" } : Jvm.MethodName)) ∈ lw_all := lw_g (lw_at lw_m11 150 rfl) rfl
theorem q2667 : (Jvm.Cond.code ({ cls := "CheekTownModel", name := "colds", desc := "(II)I" } : Jvm.MethodName) prog_23_method_106_code (3 : Nat) (Option.some Jvm.ClassFile.FieldType.int)) ∈ lw_all := lw_g (lw_at lw_m11 151 rfl) rfl
theorem q2668 : (Jvm.Cond.methodLink "CheekTownModel" (375 : Nat) ({ cls := "CheekTownModel", name := "passes", desc := "(II)I" } : Jvm.MethodName)) ∈ lw_all := lw_g (lw_at lw_m11 152 rfl) rfl
theorem q2669 : (Jvm.Cond.privateMethod ({ cls := "CheekTownModel", name := "passes", desc := "(II)I" } : Jvm.MethodName)) ∈ lw_tbl := lw_at lw_m11 153 rfl
theorem q2670 : (Jvm.Cond.instanceMethod ({ cls := "CheekTownModel", name := "passes", desc := "(II)I" } : Jvm.MethodName)) ∈ lw_all := lw_g (lw_at lw_m11 154 rfl) rfl
theorem q2671 : (Jvm.Cond.code ({ cls := "CheekTownModel", name := "passes", desc := "(II)I" } : Jvm.MethodName) prog_23_method_105_code (7 : Nat) (Option.some Jvm.ClassFile.FieldType.int)) ∈ lw_all := lw_g (lw_at lw_m11 155 rfl) rfl
theorem q2672 : (Jvm.Cond.methodLink "CheekTownModel" (372 : Nat) ({ cls := "CheekTownModel", name := "coldsNow", desc := "()I" } : Jvm.MethodName)) ∈ lw_all := lw_g (lw_at lw_m11 156 rfl) rfl
theorem q2673 : (Jvm.Cond.privateMethod ({ cls := "CheekTownModel", name := "coldsNow", desc := "()I" } : Jvm.MethodName)) ∈ lw_tbl := lw_at lw_m11 157 rfl
theorem q2674 : (Jvm.Cond.instanceMethod ({ cls := "CheekTownModel", name := "coldsNow", desc := "()I" } : Jvm.MethodName)) ∈ lw_all := lw_g (lw_at lw_m11 158 rfl) rfl
theorem q2675 : (Jvm.Cond.code ({ cls := "CheekTownModel", name := "coldsNow", desc := "()I" } : Jvm.MethodName) prog_23_method_104_code (3 : Nat) (Option.some Jvm.ClassFile.FieldType.int)) ∈ lw_all := lw_g (lw_at lw_m11 159 rfl) rfl
theorem q2677 : (Jvm.Cond.instanceMethod ({ cls := "CheekTownModel", name := "spared", desc := "(II)I" } : Jvm.MethodName)) ∈ lw_all := lw_g (lw_at lw_m11 161 rfl) rfl
theorem q2678 : (Jvm.Cond.selects "CheekTownModel" ({ cls := "CheekTownModel", name := "spared", desc := "(II)I" } : Jvm.MethodName) ({ cls := "CheekTownModel", name := "spared", desc := "(II)I" } : Jvm.MethodName)) ∈ lw_all := lw_g (lw_at lw_m11 162 rfl) rfl
theorem q2679 : (Jvm.Cond.code ({ cls := "CheekTownModel", name := "spared", desc := "(II)I" } : Jvm.MethodName) prog_23_method_107_code (5 : Nat) (Option.some Jvm.ClassFile.FieldType.int)) ∈ lw_all := lw_g (lw_at lw_m11 163 rfl) rfl
theorem q2681 : (Jvm.Cond.instanceMethod ({ cls := "CheekTownModel", name := "changed", desc := "(Z)I" } : Jvm.MethodName)) ∈ lw_all := lw_g (lw_at lw_m11 165 rfl) rfl
theorem q2682 : (Jvm.Cond.selects "CheekTownModel" ({ cls := "CheekTownModel", name := "changed", desc := "(Z)I" } : Jvm.MethodName) ({ cls := "CheekTownModel", name := "changed", desc := "(Z)I" } : Jvm.MethodName)) ∈ lw_all := lw_g (lw_at lw_m11 166 rfl) rfl
theorem q2683 : (Jvm.Cond.code ({ cls := "CheekTownModel", name := "changed", desc := "(Z)I" } : Jvm.MethodName) prog_23_method_109_code (9 : Nat) (Option.some Jvm.ClassFile.FieldType.int)) ∈ lw_all := lw_g (lw_at lw_m11 167 rfl) rfl
theorem q2684 : (Jvm.Cond.methodLink "CheekTownModel" (378 : Nat) ({ cls := "CheekTownModel", name := "logged", desc := "(II)I" } : Jvm.MethodName)) ∈ lw_all := lw_g (lw_at lw_m11 168 rfl) rfl
theorem q2685 : (Jvm.Cond.privateMethod ({ cls := "CheekTownModel", name := "logged", desc := "(II)I" } : Jvm.MethodName)) ∈ lw_tbl := lw_at lw_m11 169 rfl
theorem q2686 : (Jvm.Cond.instanceMethod ({ cls := "CheekTownModel", name := "logged", desc := "(II)I" } : Jvm.MethodName)) ∈ lw_all := lw_g (lw_at lw_m11 170 rfl) rfl
theorem q2687 : (Jvm.Cond.code ({ cls := "CheekTownModel", name := "logged", desc := "(II)I" } : Jvm.MethodName) prog_23_method_108_code (3 : Nat) (Option.some Jvm.ClassFile.FieldType.int)) ∈ lw_all := lw_g (lw_at lw_m11 171 rfl) rfl
theorem q2689 : (Jvm.Cond.instanceMethod ({ cls := "CheekTownModel", name := "trial", desc := "(II)I" } : Jvm.MethodName)) ∈ lw_all := lw_g (lw_at lw_m11 173 rfl) rfl
theorem q2690 : (Jvm.Cond.selects "CheekTownModel" ({ cls := "CheekTownModel", name := "trial", desc := "(II)I" } : Jvm.MethodName) ({ cls := "CheekTownModel", name := "trial", desc := "(II)I" } : Jvm.MethodName)) ∈ lw_all := lw_g (lw_at lw_m11 174 rfl) rfl
theorem q2691 : (Jvm.Cond.code ({ cls := "CheekTownModel", name := "trial", desc := "(II)I" } : Jvm.MethodName) prog_23_method_111_code (4 : Nat) (Option.some Jvm.ClassFile.FieldType.int)) ∈ lw_all := lw_g (lw_at lw_m11 175 rfl) rfl
theorem q2692 : (Jvm.Cond.methodLink "CheekTownModel" (381 : Nat) ({ cls := "CheekTownModel", name := "tries", desc := "(II)I" } : Jvm.MethodName)) ∈ lw_all := lw_g (lw_at lw_m11 176 rfl) rfl
theorem q2693 : (Jvm.Cond.privateMethod ({ cls := "CheekTownModel", name := "tries", desc := "(II)I" } : Jvm.MethodName)) ∈ lw_tbl := lw_at lw_m11 177 rfl
theorem q2694 : (Jvm.Cond.instanceMethod ({ cls := "CheekTownModel", name := "tries", desc := "(II)I" } : Jvm.MethodName)) ∈ lw_all := lw_g (lw_at lw_m11 178 rfl) rfl
theorem q2695 : (Jvm.Cond.code ({ cls := "CheekTownModel", name := "tries", desc := "(II)I" } : Jvm.MethodName) prog_23_method_110_code (6 : Nat) (Option.some Jvm.ClassFile.FieldType.int)) ∈ lw_all := lw_g (lw_at lw_m11 179 rfl) rfl
theorem q2697 : (Jvm.Cond.instanceMethod ({ cls := "CheekTownModel", name := "span", desc := "(IZ)I" } : Jvm.MethodName)) ∈ lw_all := lw_g (lw_at lw_m11 181 rfl) rfl
theorem q2698 : (Jvm.Cond.selects "CheekTownModel" ({ cls := "CheekTownModel", name := "span", desc := "(IZ)I" } : Jvm.MethodName) ({ cls := "CheekTownModel", name := "span", desc := "(IZ)I" } : Jvm.MethodName)) ∈ lw_all := lw_g (lw_at lw_m11 182 rfl) rfl
theorem q2699 : (Jvm.Cond.code ({ cls := "CheekTownModel", name := "span", desc := "(IZ)I" } : Jvm.MethodName) prog_23_method_112_code (6 : Nat) (Option.some Jvm.ClassFile.FieldType.int)) ∈ lw_all := lw_g (lw_at lw_m11 183 rfl) rfl
theorem q2701 : (Jvm.Cond.instanceMethod ({ cls := "CheekTownModel", name := "log", desc := "(II)I" } : Jvm.MethodName)) ∈ lw_all := lw_g (lw_at lw_m11 185 rfl) rfl
theorem q2702 : (Jvm.Cond.selects "CheekTownModel" ({ cls := "CheekTownModel", name := "log", desc := "(II)I" } : Jvm.MethodName) ({ cls := "CheekTownModel", name := "log", desc := "(II)I" } : Jvm.MethodName)) ∈ lw_all := lw_g (lw_at lw_m11 186 rfl) rfl
theorem q2703 : (Jvm.Cond.code ({ cls := "CheekTownModel", name := "log", desc := "(II)I" } : Jvm.MethodName) prog_23_method_113_code (3 : Nat) (Option.some Jvm.ClassFile.FieldType.int)) ∈ lw_all := lw_g (lw_at lw_m11 187 rfl) rfl
theorem q2705 : (Jvm.Cond.instanceMethod ({ cls := "CheekTownModel", name := "seed", desc := "(I)I" } : Jvm.MethodName)) ∈ lw_all := lw_g (lw_at lw_m11 189 rfl) rfl
theorem q2706 : (Jvm.Cond.selects "CheekTownModel" ({ cls := "CheekTownModel", name := "seed", desc := "(I)I" } : Jvm.MethodName) ({ cls := "CheekTownModel", name := "seed", desc := "(I)I" } : Jvm.MethodName)) ∈ lw_all := lw_g (lw_at lw_m11 190 rfl) rfl
theorem q2707 : (Jvm.Cond.code ({ cls := "CheekTownModel", name := "seed", desc := "(I)I" } : Jvm.MethodName) prog_23_method_114_code (3 : Nat) (Option.some Jvm.ClassFile.FieldType.int)) ∈ lw_all := lw_g (lw_at lw_m11 191 rfl) rfl
theorem q2709 : (Jvm.Cond.instanceMethod ({ cls := "CheekTownModel", name := "undo", desc := "()Z" } : Jvm.MethodName)) ∈ lw_all := lw_g (lw_at lw_m11 193 rfl) rfl
theorem q2710 : (Jvm.Cond.selects "CheekTownModel" ({ cls := "CheekTownModel", name := "undo", desc := "()Z" } : Jvm.MethodName) ({ cls := "CheekTownModel", name := "undo", desc := "()Z" } : Jvm.MethodName)) ∈ lw_all := lw_g (lw_at lw_m11 194 rfl) rfl
theorem q2711 : (Jvm.Cond.code ({ cls := "CheekTownModel", name := "undo", desc := "()Z" } : Jvm.MethodName) prog_23_method_115_code (2 : Nat) (Option.some Jvm.ClassFile.FieldType.boolean)) ∈ lw_all := lw_g (lw_at lw_m11 195 rfl) rfl
theorem q2713 : (Jvm.Cond.instanceMethod ({ cls := "CheekTownModel", name := "image", desc := "()V" } : Jvm.MethodName)) ∈ lw_all := lw_g (lw_at lw_m11 197 rfl) rfl
theorem q2714 : (Jvm.Cond.selects "CheekTownModel" ({ cls := "CheekTownModel", name := "image", desc := "()V" } : Jvm.MethodName) ({ cls := "CheekTownModel", name := "image", desc := "()V" } : Jvm.MethodName)) ∈ lw_all := lw_g (lw_at lw_m11 198 rfl) rfl
theorem q2715 : (Jvm.Cond.code ({ cls := "CheekTownModel", name := "image", desc := "()V" } : Jvm.MethodName) prog_23_method_116_code (2 : Nat) (Option.none : Option Jvm.ClassFile.FieldType)) ∈ lw_all := lw_g (lw_at lw_m11 199 rfl) rfl
theorem q2717 : (Jvm.Cond.instanceMethod ({ cls := "CheekTownModel", name := "back", desc := "()Z" } : Jvm.MethodName)) ∈ lw_all := lw_g (lw_at lw_m11 201 rfl) rfl
theorem q2718 : (Jvm.Cond.selects "CheekTownModel" ({ cls := "CheekTownModel", name := "back", desc := "()Z" } : Jvm.MethodName) ({ cls := "CheekTownModel", name := "back", desc := "()Z" } : Jvm.MethodName)) ∈ lw_all := lw_g (lw_at lw_m11 202 rfl) rfl
theorem q2719 : (Jvm.Cond.code ({ cls := "CheekTownModel", name := "back", desc := "()Z" } : Jvm.MethodName) prog_23_method_117_code (2 : Nat) (Option.some Jvm.ClassFile.FieldType.boolean)) ∈ lw_all := lw_g (lw_at lw_m11 203 rfl) rfl
theorem q2721 : (Jvm.Cond.instanceMethod ({ cls := "CheekTownModel", name := "count", desc := "(I)I" } : Jvm.MethodName)) ∈ lw_all := lw_g (lw_at lw_m11 205 rfl) rfl
theorem q2722 : (Jvm.Cond.selects "CheekTownModel" ({ cls := "CheekTownModel", name := "count", desc := "(I)I" } : Jvm.MethodName) ({ cls := "CheekTownModel", name := "count", desc := "(I)I" } : Jvm.MethodName)) ∈ lw_all := lw_g (lw_at lw_m11 206 rfl) rfl
theorem q2723 : (Jvm.Cond.code ({ cls := "CheekTownModel", name := "count", desc := "(I)I" } : Jvm.MethodName) prog_23_method_118_code (2 : Nat) (Option.some Jvm.ClassFile.FieldType.int)) ∈ lw_all := lw_g (lw_at lw_m11 207 rfl) rfl
theorem q2748 : (Jvm.Cond.castable "CheekTownModel" "java/lang/Object") ∈ lw_tbl := lw_at lw_m11 232 rfl
theorem in_X8 : ∀ w ∈ wsX80, w ∈ lw_all := lw_in wsX80 [2168, 2170, 2172, 2174, 2176, 2178, 2180, 2182, 2184, 2186, 2188, 2190, 2192, 2194, 2196, 2198, 2200, 2202, 2204, 2206, 2208, 2210, 2212, 2214, 2216, 2218, 2220] (by decide +kernel) (by decide +kernel)
