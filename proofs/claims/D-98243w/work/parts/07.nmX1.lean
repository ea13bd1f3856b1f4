/-! CheekTown -/
set_option maxRecDepth 100000
def RX1 : String := "CheekTown"
def TX1 : u_T := fun k => match k with
  | 0 => ("CheekTown", "world", "LCheekTown$World;", true)
  | 1 => ("CheekTown", "draft", "LCheekTown$World;", true)
  | 2 => ("CheekTown", "image", "LCheekTown$World;", true)
  | 3 => ("CheekTown", "hasImage", "Z", false)
  | 4 => ("CheekTown", "reader", "LCheekTown$Reader;", true)
  | 5 => ("CheekTown", "scene", "LCheekTown$Scene;", true)
  | 6 => ("CheekTown", "kept", "Ljava/util/ArrayList;", true)
  | 7 => ("CheekTown", "began", "[I", true)
  | 8 => ("CheekTown", "did", "[I", true)
  | 9 => ("CheekTown", "ring", "LCheekTown$Ring;", true)
  | 10 => ("CheekTown", "pairing", "LCheekTown$Pairing;", true)
  | 11 => ("CheekTown", "years", "LCheekTown$Years;", true)
  | _ => ("CheekTown", "trial", "LCheekTown$World;", true)
def tyX1 : Nat → FieldType := fun k => match k with
  | 0 => .object "CheekTown$World"
  | 1 => .object "CheekTown$World"
  | 2 => .object "CheekTown$World"
  | 3 => .boolean
  | 4 => .object "CheekTown$Reader"
  | 5 => .object "CheekTown$Scene"
  | 6 => .object "java/util/ArrayList"
  | 7 => .array .int
  | 8 => .array .int
  | 9 => .object "CheekTown$Ring"
  | 10 => .object "CheekTown$Pairing"
  | 11 => .object "CheekTown$Years"
  | _ => .object "CheekTown$World"
abbrev wsX10 : List Cond := u_ws RX1 TX1 13
set_option maxRecDepth 100000 in
theorem nmX1 : ∀ a, a < 13 → ∀ b, b < 13 → a ≠ b → (TX1 a).2.1 ≠ (TX1 b).2.1 := by decide +kernel
set_option maxRecDepth 100000 in
theorem tyX1_ok : ∀ k, k < 13 → parseFieldDescriptor (TX1 k).2.2.1 = some (tyX1 k) := by decide +kernel
abbrev cX1_init : ByteArray := prog_1_method_1_code
def yX1_init : MethodName := ⟨RX1, "<init>", "()V"⟩
def dkwX1_init_5 : List UInt8 := [183, 0, 68, 181, 0, 69, 42, 187, 0, 7, 89, 183, 0, 9, 181, 0, 73, 177]
abbrev dktX1_init_5 : List UInt8 := dkwX1_init_5 ++ []
def dkwX1_init_4 : List UInt8 := [183, 0, 52, 181, 0, 55, 42, 187, 0, 59, 89, 42, 183, 0, 61, 181, 0, 62, 42, 187, 0, 66, 89, 42]
abbrev dktX1_init_4 : List UInt8 := dkwX1_init_4 ++ dktX1_init_5
def dkwX1_init_3 : List UInt8 := [181, 0, 39, 42, 5, 188, 10, 181, 0, 43, 42, 5, 188, 10, 181, 0, 47, 42, 187, 0, 50, 89, 42]
abbrev dktX1_init_3 : List UInt8 := dkwX1_init_3 ++ dktX1_init_4
def dkwX1_init_2 : List UInt8 := [181, 0, 25, 42, 187, 0, 29, 89, 183, 0, 31, 181, 0, 32, 42, 187, 0, 36, 89, 183, 0, 38]
abbrev dktX1_init_2 : List UInt8 := dkwX1_init_2 ++ dktX1_init_3
def dkwX1_init_1 : List UInt8 := [181, 0, 16, 42, 187, 0, 7, 89, 183, 0, 9, 181, 0, 19, 42, 187, 0, 22, 89, 183, 0, 24]
abbrev dktX1_init_1 : List UInt8 := dkwX1_init_1 ++ dktX1_init_2
def dkwX1_init_0 : List UInt8 := [42, 183, 0, 1, 42, 187, 0, 7, 89, 183, 0, 9, 181, 0, 10, 42, 187, 0, 7, 89, 183, 0, 9]
abbrev dktX1_init_0 : List UInt8 := dkwX1_init_0 ++ dktX1_init_1
theorem dksX1_init_0 : cX1_init.data.toList.drop 0 = dktX1_init_0 := by decide +kernel
theorem dksX1_init_1 : cX1_init.data.toList.drop 23 = dktX1_init_1 := dk_seg dksX1_init_0 23 rfl rfl
theorem dksX1_init_2 : cX1_init.data.toList.drop 45 = dktX1_init_2 := dk_seg dksX1_init_1 22 rfl rfl
theorem dksX1_init_3 : cX1_init.data.toList.drop 67 = dktX1_init_3 := dk_seg dksX1_init_2 22 rfl rfl
theorem dksX1_init_4 : cX1_init.data.toList.drop 90 = dktX1_init_4 := dk_seg dksX1_init_3 23 rfl rfl
theorem dksX1_init_5 : cX1_init.data.toList.drop 114 = dktX1_init_5 := dk_seg dksX1_init_4 24 rfl rfl
theorem dX1_init_0 : decode cX1_init 0 = .ok (.aload_n 0, 1) := dk_42 (dk_at dksX1_init_0 0 rfl rfl)
theorem dX1_init_1 : decode cX1_init 1 = .ok (.invokespecial 1, 3) := dk_183 0 1 (dk_at dksX1_init_0 1 rfl rfl)
theorem dX1_init_4 : decode cX1_init 4 = .ok (.aload_n 0, 1) := dk_42 (dk_at dksX1_init_0 4 rfl rfl)
theorem dX1_init_5 : decode cX1_init 5 = .ok (.new 7, 3) := dk_187 0 7 (dk_at dksX1_init_0 5 rfl rfl)
theorem dX1_init_8 : decode cX1_init 8 = .ok (.dup, 1) := dk_89 (dk_at dksX1_init_0 8 rfl rfl)
theorem dX1_init_9 : decode cX1_init 9 = .ok (.invokespecial 9, 3) := dk_183 0 9 (dk_at dksX1_init_0 9 rfl rfl)
theorem dX1_init_12 : decode cX1_init 12 = .ok (.putfield 10, 3) := dk_181 0 10 (dk_at dksX1_init_0 12 rfl rfl)
theorem dX1_init_15 : decode cX1_init 15 = .ok (.aload_n 0, 1) := dk_42 (dk_at dksX1_init_0 15 rfl rfl)
theorem dX1_init_16 : decode cX1_init 16 = .ok (.new 7, 3) := dk_187 0 7 (dk_at dksX1_init_0 16 rfl rfl)
theorem dX1_init_19 : decode cX1_init 19 = .ok (.dup, 1) := dk_89 (dk_at dksX1_init_0 19 rfl rfl)
theorem dX1_init_20 : decode cX1_init 20 = .ok (.invokespecial 9, 3) := dk_183 0 9 (dk_at dksX1_init_0 20 rfl rfl)
theorem dX1_init_23 : decode cX1_init 23 = .ok (.putfield 16, 3) := dk_181 0 16 (dk_at dksX1_init_1 0 rfl rfl)
theorem dX1_init_26 : decode cX1_init 26 = .ok (.aload_n 0, 1) := dk_42 (dk_at dksX1_init_1 3 rfl rfl)
theorem dX1_init_27 : decode cX1_init 27 = .ok (.new 7, 3) := dk_187 0 7 (dk_at dksX1_init_1 4 rfl rfl)
theorem dX1_init_30 : decode cX1_init 30 = .ok (.dup, 1) := dk_89 (dk_at dksX1_init_1 7 rfl rfl)
theorem dX1_init_31 : decode cX1_init 31 = .ok (.invokespecial 9, 3) := dk_183 0 9 (dk_at dksX1_init_1 8 rfl rfl)
theorem dX1_init_34 : decode cX1_init 34 = .ok (.putfield 19, 3) := dk_181 0 19 (dk_at dksX1_init_1 11 rfl rfl)
theorem dX1_init_37 : decode cX1_init 37 = .ok (.aload_n 0, 1) := dk_42 (dk_at dksX1_init_1 14 rfl rfl)
theorem dX1_init_38 : decode cX1_init 38 = .ok (.new 22, 3) := dk_187 0 22 (dk_at dksX1_init_1 15 rfl rfl)
theorem dX1_init_41 : decode cX1_init 41 = .ok (.dup, 1) := dk_89 (dk_at dksX1_init_1 18 rfl rfl)
theorem dX1_init_42 : decode cX1_init 42 = .ok (.invokespecial 24, 3) := dk_183 0 24 (dk_at dksX1_init_1 19 rfl rfl)
theorem dX1_init_45 : decode cX1_init 45 = .ok (.putfield 25, 3) := dk_181 0 25 (dk_at dksX1_init_2 0 rfl rfl)
theorem dX1_init_48 : decode cX1_init 48 = .ok (.aload_n 0, 1) := dk_42 (dk_at dksX1_init_2 3 rfl rfl)
theorem dX1_init_49 : decode cX1_init 49 = .ok (.new 29, 3) := dk_187 0 29 (dk_at dksX1_init_2 4 rfl rfl)
theorem dX1_init_52 : decode cX1_init 52 = .ok (.dup, 1) := dk_89 (dk_at dksX1_init_2 7 rfl rfl)
theorem dX1_init_53 : decode cX1_init 53 = .ok (.invokespecial 31, 3) := dk_183 0 31 (dk_at dksX1_init_2 8 rfl rfl)
theorem dX1_init_56 : decode cX1_init 56 = .ok (.putfield 32, 3) := dk_181 0 32 (dk_at dksX1_init_2 11 rfl rfl)
theorem dX1_init_59 : decode cX1_init 59 = .ok (.aload_n 0, 1) := dk_42 (dk_at dksX1_init_2 14 rfl rfl)
theorem dX1_init_60 : decode cX1_init 60 = .ok (.new 36, 3) := dk_187 0 36 (dk_at dksX1_init_2 15 rfl rfl)
theorem dX1_init_63 : decode cX1_init 63 = .ok (.dup, 1) := dk_89 (dk_at dksX1_init_2 18 rfl rfl)
theorem dX1_init_64 : decode cX1_init 64 = .ok (.invokespecial 38, 3) := dk_183 0 38 (dk_at dksX1_init_2 19 rfl rfl)
theorem dX1_init_67 : decode cX1_init 67 = .ok (.putfield 39, 3) := dk_181 0 39 (dk_at dksX1_init_3 0 rfl rfl)
theorem dX1_init_70 : decode cX1_init 70 = .ok (.aload_n 0, 1) := dk_42 (dk_at dksX1_init_3 3 rfl rfl)
theorem dX1_init_71 : decode cX1_init 71 = .ok (.iconst 2, 1) := dk_5 (dk_at dksX1_init_3 4 rfl rfl)
theorem dX1_init_72 : decode cX1_init 72 = .ok (.newarray .int, 2) := dk_188_10 (dk_at dksX1_init_3 5 rfl rfl)
theorem dX1_init_74 : decode cX1_init 74 = .ok (.putfield 43, 3) := dk_181 0 43 (dk_at dksX1_init_3 7 rfl rfl)
theorem dX1_init_77 : decode cX1_init 77 = .ok (.aload_n 0, 1) := dk_42 (dk_at dksX1_init_3 10 rfl rfl)
theorem dX1_init_78 : decode cX1_init 78 = .ok (.iconst 2, 1) := dk_5 (dk_at dksX1_init_3 11 rfl rfl)
theorem dX1_init_79 : decode cX1_init 79 = .ok (.newarray .int, 2) := dk_188_10 (dk_at dksX1_init_3 12 rfl rfl)
theorem dX1_init_81 : decode cX1_init 81 = .ok (.putfield 47, 3) := dk_181 0 47 (dk_at dksX1_init_3 14 rfl rfl)
theorem dX1_init_84 : decode cX1_init 84 = .ok (.aload_n 0, 1) := dk_42 (dk_at dksX1_init_3 17 rfl rfl)
theorem dX1_init_85 : decode cX1_init 85 = .ok (.new 50, 3) := dk_187 0 50 (dk_at dksX1_init_3 18 rfl rfl)
theorem dX1_init_88 : decode cX1_init 88 = .ok (.dup, 1) := dk_89 (dk_at dksX1_init_3 21 rfl rfl)
theorem dX1_init_89 : decode cX1_init 89 = .ok (.aload_n 0, 1) := dk_42 (dk_at dksX1_init_3 22 rfl rfl)
theorem dX1_init_90 : decode cX1_init 90 = .ok (.invokespecial 52, 3) := dk_183 0 52 (dk_at dksX1_init_4 0 rfl rfl)
theorem dX1_init_93 : decode cX1_init 93 = .ok (.putfield 55, 3) := dk_181 0 55 (dk_at dksX1_init_4 3 rfl rfl)
theorem dX1_init_96 : decode cX1_init 96 = .ok (.aload_n 0, 1) := dk_42 (dk_at dksX1_init_4 6 rfl rfl)
theorem dX1_init_97 : decode cX1_init 97 = .ok (.new 59, 3) := dk_187 0 59 (dk_at dksX1_init_4 7 rfl rfl)
theorem dX1_init_100 : decode cX1_init 100 = .ok (.dup, 1) := dk_89 (dk_at dksX1_init_4 10 rfl rfl)
theorem dX1_init_101 : decode cX1_init 101 = .ok (.aload_n 0, 1) := dk_42 (dk_at dksX1_init_4 11 rfl rfl)
theorem dX1_init_102 : decode cX1_init 102 = .ok (.invokespecial 61, 3) := dk_183 0 61 (dk_at dksX1_init_4 12 rfl rfl)
theorem dX1_init_105 : decode cX1_init 105 = .ok (.putfield 62, 3) := dk_181 0 62 (dk_at dksX1_init_4 15 rfl rfl)
theorem dX1_init_108 : decode cX1_init 108 = .ok (.aload_n 0, 1) := dk_42 (dk_at dksX1_init_4 18 rfl rfl)
theorem dX1_init_109 : decode cX1_init 109 = .ok (.new 66, 3) := dk_187 0 66 (dk_at dksX1_init_4 19 rfl rfl)
theorem dX1_init_112 : decode cX1_init 112 = .ok (.dup, 1) := dk_89 (dk_at dksX1_init_4 22 rfl rfl)
theorem dX1_init_113 : decode cX1_init 113 = .ok (.aload_n 0, 1) := dk_42 (dk_at dksX1_init_4 23 rfl rfl)
theorem dX1_init_114 : decode cX1_init 114 = .ok (.invokespecial 68, 3) := dk_183 0 68 (dk_at dksX1_init_5 0 rfl rfl)
theorem dX1_init_117 : decode cX1_init 117 = .ok (.putfield 69, 3) := dk_181 0 69 (dk_at dksX1_init_5 3 rfl rfl)
theorem dX1_init_120 : decode cX1_init 120 = .ok (.aload_n 0, 1) := dk_42 (dk_at dksX1_init_5 6 rfl rfl)
theorem dX1_init_121 : decode cX1_init 121 = .ok (.new 7, 3) := dk_187 0 7 (dk_at dksX1_init_5 7 rfl rfl)
theorem dX1_init_124 : decode cX1_init 124 = .ok (.dup, 1) := dk_89 (dk_at dksX1_init_5 10 rfl rfl)
theorem dX1_init_125 : decode cX1_init 125 = .ok (.invokespecial 9, 3) := dk_183 0 9 (dk_at dksX1_init_5 11 rfl rfl)
theorem dX1_init_128 : decode cX1_init 128 = .ok (.putfield 73, 3) := dk_181 0 73 (dk_at dksX1_init_5 14 rfl rfl)
theorem dX1_init_131 : decode cX1_init 131 = .ok (.return_, 1) := dk_177 (dk_at dksX1_init_5 17 rfl rfl)
abbrev cX1_feed : ByteArray := prog_1_method_3_code
def yX1_feed : MethodName := ⟨RX1, "feed", "(IIIII)I"⟩
def dkwX1_feed_1 : List UInt8 := [89, 7, 21, 5, 79, 182, 0, 76, 172]
abbrev dktX1_feed_1 : List UInt8 := dkwX1_feed_1 ++ []
def dkwX1_feed_0 : List UInt8 := [42, 180, 0, 25, 8, 188, 10, 89, 3, 27, 79, 89, 4, 28, 79, 89, 5, 29, 79, 89, 6, 21, 4, 79]
abbrev dktX1_feed_0 : List UInt8 := dkwX1_feed_0 ++ dktX1_feed_1
theorem dksX1_feed_0 : cX1_feed.data.toList.drop 0 = dktX1_feed_0 := by decide +kernel
theorem dksX1_feed_1 : cX1_feed.data.toList.drop 24 = dktX1_feed_1 := dk_seg dksX1_feed_0 24 rfl rfl
theorem dX1_feed_0 : decode cX1_feed 0 = .ok (.aload_n 0, 1) := dk_42 (dk_at dksX1_feed_0 0 rfl rfl)
theorem dX1_feed_1 : decode cX1_feed 1 = .ok (.getfield 25, 3) := dk_180 0 25 (dk_at dksX1_feed_0 1 rfl rfl)
theorem dX1_feed_4 : decode cX1_feed 4 = .ok (.iconst 5, 1) := dk_8 (dk_at dksX1_feed_0 4 rfl rfl)
theorem dX1_feed_5 : decode cX1_feed 5 = .ok (.newarray .int, 2) := dk_188_10 (dk_at dksX1_feed_0 5 rfl rfl)
theorem dX1_feed_7 : decode cX1_feed 7 = .ok (.dup, 1) := dk_89 (dk_at dksX1_feed_0 7 rfl rfl)
theorem dX1_feed_8 : decode cX1_feed 8 = .ok (.iconst 0, 1) := dk_3 (dk_at dksX1_feed_0 8 rfl rfl)
theorem dX1_feed_9 : decode cX1_feed 9 = .ok (.iload_n 1, 1) := dk_27 (dk_at dksX1_feed_0 9 rfl rfl)
theorem dX1_feed_10 : decode cX1_feed 10 = .ok (.iastore, 1) := dk_79 (dk_at dksX1_feed_0 10 rfl rfl)
theorem dX1_feed_11 : decode cX1_feed 11 = .ok (.dup, 1) := dk_89 (dk_at dksX1_feed_0 11 rfl rfl)
theorem dX1_feed_12 : decode cX1_feed 12 = .ok (.iconst 1, 1) := dk_4 (dk_at dksX1_feed_0 12 rfl rfl)
theorem dX1_feed_13 : decode cX1_feed 13 = .ok (.iload_n 2, 1) := dk_28 (dk_at dksX1_feed_0 13 rfl rfl)
theorem dX1_feed_14 : decode cX1_feed 14 = .ok (.iastore, 1) := dk_79 (dk_at dksX1_feed_0 14 rfl rfl)
theorem dX1_feed_15 : decode cX1_feed 15 = .ok (.dup, 1) := dk_89 (dk_at dksX1_feed_0 15 rfl rfl)
theorem dX1_feed_16 : decode cX1_feed 16 = .ok (.iconst 2, 1) := dk_5 (dk_at dksX1_feed_0 16 rfl rfl)
theorem dX1_feed_17 : decode cX1_feed 17 = .ok (.iload_n 3, 1) := dk_29 (dk_at dksX1_feed_0 17 rfl rfl)
theorem dX1_feed_18 : decode cX1_feed 18 = .ok (.iastore, 1) := dk_79 (dk_at dksX1_feed_0 18 rfl rfl)
theorem dX1_feed_19 : decode cX1_feed 19 = .ok (.dup, 1) := dk_89 (dk_at dksX1_feed_0 19 rfl rfl)
theorem dX1_feed_20 : decode cX1_feed 20 = .ok (.iconst 3, 1) := dk_6 (dk_at dksX1_feed_0 20 rfl rfl)
theorem dX1_feed_21 : decode cX1_feed 21 = .ok (.iload 4, 2) := dk_21 4 (dk_at dksX1_feed_0 21 rfl rfl)
theorem dX1_feed_23 : decode cX1_feed 23 = .ok (.iastore, 1) := dk_79 (dk_at dksX1_feed_0 23 rfl rfl)
theorem dX1_feed_24 : decode cX1_feed 24 = .ok (.dup, 1) := dk_89 (dk_at dksX1_feed_1 0 rfl rfl)
theorem dX1_feed_25 : decode cX1_feed 25 = .ok (.iconst 4, 1) := dk_7 (dk_at dksX1_feed_1 1 rfl rfl)
theorem dX1_feed_26 : decode cX1_feed 26 = .ok (.iload 5, 2) := dk_21 5 (dk_at dksX1_feed_1 2 rfl rfl)
theorem dX1_feed_28 : decode cX1_feed 28 = .ok (.iastore, 1) := dk_79 (dk_at dksX1_feed_1 4 rfl rfl)
theorem dX1_feed_29 : decode cX1_feed 29 = .ok (.invokevirtual 76, 3) := dk_182 0 76 (dk_at dksX1_feed_1 5 rfl rfl)
theorem dX1_feed_32 : decode cX1_feed 32 = .ok (.ireturn, 1) := dk_172 (dk_at dksX1_feed_1 8 rfl rfl)
abbrev cX1_end : ByteArray := prog_1_method_4_code
def yX1_end : MethodName := ⟨RX1, "end", "(I)Z"⟩
def dkwX1_end_0 : List UInt8 := [42, 180, 0, 25, 27, 182, 0, 80, 172]
abbrev dktX1_end_0 : List UInt8 := dkwX1_end_0 ++ []
theorem dksX1_end_0 : cX1_end.data.toList.drop 0 = dktX1_end_0 := by decide +kernel
theorem dX1_end_0 : decode cX1_end 0 = .ok (.aload_n 0, 1) := dk_42 (dk_at dksX1_end_0 0 rfl rfl)
theorem dX1_end_1 : decode cX1_end 1 = .ok (.getfield 25, 3) := dk_180 0 25 (dk_at dksX1_end_0 1 rfl rfl)
theorem dX1_end_4 : decode cX1_end 4 = .ok (.iload_n 1, 1) := dk_27 (dk_at dksX1_end_0 4 rfl rfl)
theorem dX1_end_5 : decode cX1_end 5 = .ok (.invokevirtual 80, 3) := dk_182 0 80 (dk_at dksX1_end_0 5 rfl rfl)
theorem dX1_end_8 : decode cX1_end 8 = .ok (.ireturn, 1) := dk_172 (dk_at dksX1_end_0 8 rfl rfl)
abbrev cX1_fault : ByteArray := prog_1_method_5_code
def yX1_fault : MethodName := ⟨RX1, "fault", "()I"⟩
def dkwX1_fault_0 : List UInt8 := [42, 180, 0, 25, 180, 0, 84, 172]
abbrev dktX1_fault_0 : List UInt8 := dkwX1_fault_0 ++ []
theorem dksX1_fault_0 : cX1_fault.data.toList.drop 0 = dktX1_fault_0 := by decide +kernel
theorem dX1_fault_0 : decode cX1_fault 0 = .ok (.aload_n 0, 1) := dk_42 (dk_at dksX1_fault_0 0 rfl rfl)
theorem dX1_fault_1 : decode cX1_fault 1 = .ok (.getfield 25, 3) := dk_180 0 25 (dk_at dksX1_fault_0 1 rfl rfl)
theorem dX1_fault_4 : decode cX1_fault 4 = .ok (.getfield 84, 3) := dk_180 0 84 (dk_at dksX1_fault_0 4 rfl rfl)
theorem dX1_fault_7 : decode cX1_fault 7 = .ok (.ireturn, 1) := dk_172 (dk_at dksX1_fault_0 7 rfl rfl)
abbrev cX1_safest : ByteArray := prog_1_method_66_code
def yX1_safest : MethodName := ⟨RX1, "safest", "(Z)I"⟩
def dkwX1_safest_1 : List UInt8 := [61, 132, 3, 1, 167, 255, 232, 27, 153, 0, 11, 42, 28, 182, 2, 40, 167, 0, 4, 28, 172]
abbrev dktX1_safest_1 : List UInt8 := dkwX1_safest_1 ++ []
def dkwX1_safest_0 : List UInt8 := [3, 61, 4, 62, 29, 16, 32, 162, 0, 24, 42, 29, 182, 2, 40, 42, 28, 182, 2, 40, 162, 0, 5, 29]
abbrev dktX1_safest_0 : List UInt8 := dkwX1_safest_0 ++ dktX1_safest_1
theorem dksX1_safest_0 : cX1_safest.data.toList.drop 0 = dktX1_safest_0 := by decide +kernel
theorem dksX1_safest_1 : cX1_safest.data.toList.drop 24 = dktX1_safest_1 := dk_seg dksX1_safest_0 24 rfl rfl
theorem dX1_safest_0 : decode cX1_safest 0 = .ok (.iconst 0, 1) := dk_3 (dk_at dksX1_safest_0 0 rfl rfl)
theorem dX1_safest_1 : decode cX1_safest 1 = .ok (.istore_n 2, 1) := dk_61 (dk_at dksX1_safest_0 1 rfl rfl)
theorem dX1_safest_2 : decode cX1_safest 2 = .ok (.iconst 1, 1) := dk_4 (dk_at dksX1_safest_0 2 rfl rfl)
theorem dX1_safest_3 : decode cX1_safest 3 = .ok (.istore_n 3, 1) := dk_62 (dk_at dksX1_safest_0 3 rfl rfl)
theorem dX1_safest_4 : decode cX1_safest 4 = .ok (.iload_n 3, 1) := dk_29 (dk_at dksX1_safest_0 4 rfl rfl)
theorem dX1_safest_5 : decode cX1_safest 5 = .ok (.bipush 32, 2) := dk_16 32 (dk_at dksX1_safest_0 5 rfl rfl)
theorem dX1_safest_7 : decode cX1_safest 7 = .ok (.if_icmp .ge 24, 3) := dk_162 0 24 (dk_at dksX1_safest_0 7 rfl rfl)
theorem dX1_safest_10 : decode cX1_safest 10 = .ok (.aload_n 0, 1) := dk_42 (dk_at dksX1_safest_0 10 rfl rfl)
theorem dX1_safest_11 : decode cX1_safest 11 = .ok (.iload_n 3, 1) := dk_29 (dk_at dksX1_safest_0 11 rfl rfl)
theorem dX1_safest_12 : decode cX1_safest 12 = .ok (.invokevirtual 552, 3) := dk_182 2 40 (dk_at dksX1_safest_0 12 rfl rfl)
theorem dX1_safest_15 : decode cX1_safest 15 = .ok (.aload_n 0, 1) := dk_42 (dk_at dksX1_safest_0 15 rfl rfl)
theorem dX1_safest_16 : decode cX1_safest 16 = .ok (.iload_n 2, 1) := dk_28 (dk_at dksX1_safest_0 16 rfl rfl)
theorem dX1_safest_17 : decode cX1_safest 17 = .ok (.invokevirtual 552, 3) := dk_182 2 40 (dk_at dksX1_safest_0 17 rfl rfl)
theorem dX1_safest_20 : decode cX1_safest 20 = .ok (.if_icmp .ge 5, 3) := dk_162 0 5 (dk_at dksX1_safest_0 20 rfl rfl)
theorem dX1_safest_23 : decode cX1_safest 23 = .ok (.iload_n 3, 1) := dk_29 (dk_at dksX1_safest_0 23 rfl rfl)
theorem dX1_safest_24 : decode cX1_safest 24 = .ok (.istore_n 2, 1) := dk_61 (dk_at dksX1_safest_1 0 rfl rfl)
theorem dX1_safest_25 : decode cX1_safest 25 = .ok (.iinc 3 1, 3) := dk_132 3 1 (dk_at dksX1_safest_1 1 rfl rfl)
theorem dX1_safest_28 : decode cX1_safest 28 = .ok (.goto (-24), 3) := dk_167 255 232 (dk_at dksX1_safest_1 4 rfl rfl)
theorem dX1_safest_31 : decode cX1_safest 31 = .ok (.iload_n 1, 1) := dk_27 (dk_at dksX1_safest_1 7 rfl rfl)
theorem dX1_safest_32 : decode cX1_safest 32 = .ok (.ifCond .eq 11, 3) := dk_153 0 11 (dk_at dksX1_safest_1 8 rfl rfl)
theorem dX1_safest_35 : decode cX1_safest 35 = .ok (.aload_n 0, 1) := dk_42 (dk_at dksX1_safest_1 11 rfl rfl)
theorem dX1_safest_36 : decode cX1_safest 36 = .ok (.iload_n 2, 1) := dk_28 (dk_at dksX1_safest_1 12 rfl rfl)
theorem dX1_safest_37 : decode cX1_safest 37 = .ok (.invokevirtual 552, 3) := dk_182 2 40 (dk_at dksX1_safest_1 13 rfl rfl)
theorem dX1_safest_40 : decode cX1_safest 40 = .ok (.goto 4, 3) := dk_167 0 4 (dk_at dksX1_safest_1 16 rfl rfl)
theorem dX1_safest_43 : decode cX1_safest 43 = .ok (.iload_n 2, 1) := dk_28 (dk_at dksX1_safest_1 19 rfl rfl)
theorem dX1_safest_44 : decode cX1_safest 44 = .ok (.ireturn, 1) := dk_172 (dk_at dksX1_safest_1 20 rfl rfl)
abbrev cX1_worst : ByteArray := prog_1_method_65_code
def yX1_worst : MethodName := ⟨RX1, "worst", "(I)I"⟩
def dkwX1_worst_1 : List UInt8 := [180, 0, 10, 180, 0, 140, 29, 46, 182, 1, 181, 184, 1, 250, 61, 132, 3, 1, 167, 255, 220, 28, 172]
abbrev dktX1_worst_1 : List UInt8 := dkwX1_worst_1 ++ []
def dkwX1_worst_0 : List UInt8 := [3, 61, 3, 62, 29, 42, 180, 0, 10, 180, 0, 131, 162, 0, 31, 28, 42, 180, 0, 10, 27, 42]
abbrev dktX1_worst_0 : List UInt8 := dkwX1_worst_0 ++ dktX1_worst_1
theorem dksX1_worst_0 : cX1_worst.data.toList.drop 0 = dktX1_worst_0 := by decide +kernel
theorem dksX1_worst_1 : cX1_worst.data.toList.drop 22 = dktX1_worst_1 := dk_seg dksX1_worst_0 22 rfl rfl
theorem dX1_worst_0 : decode cX1_worst 0 = .ok (.iconst 0, 1) := dk_3 (dk_at dksX1_worst_0 0 rfl rfl)
theorem dX1_worst_1 : decode cX1_worst 1 = .ok (.istore_n 2, 1) := dk_61 (dk_at dksX1_worst_0 1 rfl rfl)
theorem dX1_worst_2 : decode cX1_worst 2 = .ok (.iconst 0, 1) := dk_3 (dk_at dksX1_worst_0 2 rfl rfl)
theorem dX1_worst_3 : decode cX1_worst 3 = .ok (.istore_n 3, 1) := dk_62 (dk_at dksX1_worst_0 3 rfl rfl)
theorem dX1_worst_4 : decode cX1_worst 4 = .ok (.iload_n 3, 1) := dk_29 (dk_at dksX1_worst_0 4 rfl rfl)
theorem dX1_worst_5 : decode cX1_worst 5 = .ok (.aload_n 0, 1) := dk_42 (dk_at dksX1_worst_0 5 rfl rfl)
theorem dX1_worst_6 : decode cX1_worst 6 = .ok (.getfield 10, 3) := dk_180 0 10 (dk_at dksX1_worst_0 6 rfl rfl)
theorem dX1_worst_9 : decode cX1_worst 9 = .ok (.getfield 131, 3) := dk_180 0 131 (dk_at dksX1_worst_0 9 rfl rfl)
theorem dX1_worst_12 : decode cX1_worst 12 = .ok (.if_icmp .ge 31, 3) := dk_162 0 31 (dk_at dksX1_worst_0 12 rfl rfl)
theorem dX1_worst_15 : decode cX1_worst 15 = .ok (.iload_n 2, 1) := dk_28 (dk_at dksX1_worst_0 15 rfl rfl)
theorem dX1_worst_16 : decode cX1_worst 16 = .ok (.aload_n 0, 1) := dk_42 (dk_at dksX1_worst_0 16 rfl rfl)
theorem dX1_worst_17 : decode cX1_worst 17 = .ok (.getfield 10, 3) := dk_180 0 10 (dk_at dksX1_worst_0 17 rfl rfl)
theorem dX1_worst_20 : decode cX1_worst 20 = .ok (.iload_n 1, 1) := dk_27 (dk_at dksX1_worst_0 20 rfl rfl)
theorem dX1_worst_21 : decode cX1_worst 21 = .ok (.aload_n 0, 1) := dk_42 (dk_at dksX1_worst_0 21 rfl rfl)
theorem dX1_worst_22 : decode cX1_worst 22 = .ok (.getfield 10, 3) := dk_180 0 10 (dk_at dksX1_worst_1 0 rfl rfl)
theorem dX1_worst_25 : decode cX1_worst 25 = .ok (.getfield 140, 3) := dk_180 0 140 (dk_at dksX1_worst_1 3 rfl rfl)
theorem dX1_worst_28 : decode cX1_worst 28 = .ok (.iload_n 3, 1) := dk_29 (dk_at dksX1_worst_1 6 rfl rfl)
theorem dX1_worst_29 : decode cX1_worst 29 = .ok (.iaload, 1) := dk_46 (dk_at dksX1_worst_1 7 rfl rfl)
theorem dX1_worst_30 : decode cX1_worst 30 = .ok (.invokevirtual 437, 3) := dk_182 1 181 (dk_at dksX1_worst_1 8 rfl rfl)
theorem dX1_worst_33 : decode cX1_worst 33 = .ok (.invokestatic 506, 3) := dk_184 1 250 (dk_at dksX1_worst_1 11 rfl rfl)
theorem dX1_worst_36 : decode cX1_worst 36 = .ok (.istore_n 2, 1) := dk_61 (dk_at dksX1_worst_1 14 rfl rfl)
theorem dX1_worst_37 : decode cX1_worst 37 = .ok (.iinc 3 1, 3) := dk_132 3 1 (dk_at dksX1_worst_1 15 rfl rfl)
theorem dX1_worst_40 : decode cX1_worst 40 = .ok (.goto (-36), 3) := dk_167 255 220 (dk_at dksX1_worst_1 18 rfl rfl)
theorem dX1_worst_43 : decode cX1_worst 43 = .ok (.iload_n 2, 1) := dk_28 (dk_at dksX1_worst_1 21 rfl rfl)
theorem dX1_worst_44 : decode cX1_worst 44 = .ok (.ireturn, 1) := dk_172 (dk_at dksX1_worst_1 22 rfl rfl)
abbrev cX1_isOf : ByteArray := prog_1_method_6_code
def yX1_isOf : MethodName := ⟨RX1, "isOf", "(LCheekTown$Kind;I)Z"⟩
def dkwX1_isOf_0 : List UInt8 := [27, 16, 8, 108, 42, 182, 0, 88, 160, 0, 7, 4, 167, 0, 4, 3, 172]
abbrev dktX1_isOf_0 : List UInt8 := dkwX1_isOf_0 ++ []
theorem dksX1_isOf_0 : cX1_isOf.data.toList.drop 0 = dktX1_isOf_0 := by decide +kernel
theorem dX1_isOf_0 : decode cX1_isOf 0 = .ok (.iload_n 1, 1) := dk_27 (dk_at dksX1_isOf_0 0 rfl rfl)
theorem dX1_isOf_1 : decode cX1_isOf 1 = .ok (.bipush 8, 2) := dk_16 8 (dk_at dksX1_isOf_0 1 rfl rfl)
theorem dX1_isOf_3 : decode cX1_isOf 3 = .ok (.idiv, 1) := dk_108 (dk_at dksX1_isOf_0 3 rfl rfl)
theorem dX1_isOf_4 : decode cX1_isOf 4 = .ok (.aload_n 0, 1) := dk_42 (dk_at dksX1_isOf_0 4 rfl rfl)
theorem dX1_isOf_5 : decode cX1_isOf 5 = .ok (.invokevirtual 88, 3) := dk_182 0 88 (dk_at dksX1_isOf_0 5 rfl rfl)
theorem dX1_isOf_8 : decode cX1_isOf 8 = .ok (.if_icmp .ne 7, 3) := dk_160 0 7 (dk_at dksX1_isOf_0 8 rfl rfl)
theorem dX1_isOf_11 : decode cX1_isOf 11 = .ok (.iconst 1, 1) := dk_4 (dk_at dksX1_isOf_0 11 rfl rfl)
theorem dX1_isOf_12 : decode cX1_isOf 12 = .ok (.goto 4, 3) := dk_167 0 4 (dk_at dksX1_isOf_0 12 rfl rfl)
theorem dX1_isOf_15 : decode cX1_isOf 15 = .ok (.iconst 0, 1) := dk_3 (dk_at dksX1_isOf_0 15 rfl rfl)
theorem dX1_isOf_16 : decode cX1_isOf 16 = .ok (.ireturn, 1) := dk_172 (dk_at dksX1_isOf_0 16 rfl rfl)
abbrev cX1_side : ByteArray := prog_1_method_8_code
def yX1_side : MethodName := ⟨RX1, "side", "(I)I"⟩
def dkwX1_side_0 : List UInt8 := [26, 5, 112, 172]
abbrev dktX1_side_0 : List UInt8 := dkwX1_side_0 ++ []
theorem dksX1_side_0 : cX1_side.data.toList.drop 0 = dktX1_side_0 := by decide +kernel
theorem dX1_side_0 : decode cX1_side 0 = .ok (.iload_n 0, 1) := dk_26 (dk_at dksX1_side_0 0 rfl rfl)
theorem dX1_side_1 : decode cX1_side 1 = .ok (.iconst 2, 1) := dk_5 (dk_at dksX1_side_0 1 rfl rfl)
theorem dX1_side_2 : decode cX1_side 2 = .ok (.irem, 1) := dk_112 (dk_at dksX1_side_0 2 rfl rfl)
theorem dX1_side_3 : decode cX1_side 3 = .ok (.ireturn, 1) := dk_172 (dk_at dksX1_side_0 3 rfl rfl)
abbrev cX1_times : ByteArray := prog_1_method_7_code
def yX1_times : MethodName := ⟨RX1, "times", "(I)I"⟩
def dkwX1_times_0 : List UInt8 := [26, 5, 108, 7, 112, 4, 96, 172]
abbrev dktX1_times_0 : List UInt8 := dkwX1_times_0 ++ []
theorem dksX1_times_0 : cX1_times.data.toList.drop 0 = dktX1_times_0 := by decide +kernel
theorem dX1_times_0 : decode cX1_times 0 = .ok (.iload_n 0, 1) := dk_26 (dk_at dksX1_times_0 0 rfl rfl)
theorem dX1_times_1 : decode cX1_times 1 = .ok (.iconst 2, 1) := dk_5 (dk_at dksX1_times_0 1 rfl rfl)
theorem dX1_times_2 : decode cX1_times 2 = .ok (.idiv, 1) := dk_108 (dk_at dksX1_times_0 2 rfl rfl)
theorem dX1_times_3 : decode cX1_times 3 = .ok (.iconst 4, 1) := dk_7 (dk_at dksX1_times_0 3 rfl rfl)
theorem dX1_times_4 : decode cX1_times 4 = .ok (.irem, 1) := dk_112 (dk_at dksX1_times_0 4 rfl rfl)
theorem dX1_times_5 : decode cX1_times 5 = .ok (.iconst 1, 1) := dk_4 (dk_at dksX1_times_0 5 rfl rfl)
theorem dX1_times_6 : decode cX1_times 6 = .ok (.iadd, 1) := dk_96 (dk_at dksX1_times_0 6 rfl rfl)
theorem dX1_times_7 : decode cX1_times 7 = .ok (.ireturn, 1) := dk_172 (dk_at dksX1_times_0 7 rfl rfl)
abbrev cX1_worth : ByteArray := prog_1_method_72_code
def yX1_worth : MethodName := ⟨RX1, "worth", "()I"⟩
def dkwX1_worth_3 : List UInt8 := [100, 172]
abbrev dktX1_worth_3 : List UInt8 := dkwX1_worth_3 ++ []
def dkwX1_worth_2 : List UInt8 := [182, 2, 70, 42, 29, 42, 29, 182, 2, 37, 182, 2, 34, 104, 96, 61, 132, 3, 1, 167, 255, 223, 27, 28]
abbrev dktX1_worth_2 : List UInt8 := dkwX1_worth_2 ++ dktX1_worth_3
def dkwX1_worth_1 : List UInt8 := [132, 2, 1, 167, 255, 237, 3, 61, 3, 62, 29, 42, 180, 0, 10, 180, 0, 137, 162, 0, 28, 28, 42, 29]
abbrev dktX1_worth_1 : List UInt8 := dkwX1_worth_1 ++ dktX1_worth_2
def dkwX1_worth_0 : List UInt8 := [42, 3, 182, 2, 73, 60, 4, 61, 28, 16, 32, 162, 0, 19, 27, 42, 28, 182, 2, 73, 184, 2, 8, 60]
abbrev dktX1_worth_0 : List UInt8 := dkwX1_worth_0 ++ dktX1_worth_1
theorem dksX1_worth_0 : cX1_worth.data.toList.drop 0 = dktX1_worth_0 := by decide +kernel
theorem dksX1_worth_1 : cX1_worth.data.toList.drop 24 = dktX1_worth_1 := dk_seg dksX1_worth_0 24 rfl rfl
theorem dksX1_worth_2 : cX1_worth.data.toList.drop 48 = dktX1_worth_2 := dk_seg dksX1_worth_1 24 rfl rfl
theorem dksX1_worth_3 : cX1_worth.data.toList.drop 72 = dktX1_worth_3 := dk_seg dksX1_worth_2 24 rfl rfl
theorem dX1_worth_0 : decode cX1_worth 0 = .ok (.aload_n 0, 1) := dk_42 (dk_at dksX1_worth_0 0 rfl rfl)
theorem dX1_worth_1 : decode cX1_worth 1 = .ok (.iconst 0, 1) := dk_3 (dk_at dksX1_worth_0 1 rfl rfl)
theorem dX1_worth_2 : decode cX1_worth 2 = .ok (.invokevirtual 585, 3) := dk_182 2 73 (dk_at dksX1_worth_0 2 rfl rfl)
theorem dX1_worth_5 : decode cX1_worth 5 = .ok (.istore_n 1, 1) := dk_60 (dk_at dksX1_worth_0 5 rfl rfl)
theorem dX1_worth_6 : decode cX1_worth 6 = .ok (.iconst 1, 1) := dk_4 (dk_at dksX1_worth_0 6 rfl rfl)
theorem dX1_worth_7 : decode cX1_worth 7 = .ok (.istore_n 2, 1) := dk_61 (dk_at dksX1_worth_0 7 rfl rfl)
theorem dX1_worth_8 : decode cX1_worth 8 = .ok (.iload_n 2, 1) := dk_28 (dk_at dksX1_worth_0 8 rfl rfl)
theorem dX1_worth_9 : decode cX1_worth 9 = .ok (.bipush 32, 2) := dk_16 32 (dk_at dksX1_worth_0 9 rfl rfl)
theorem dX1_worth_11 : decode cX1_worth 11 = .ok (.if_icmp .ge 19, 3) := dk_162 0 19 (dk_at dksX1_worth_0 11 rfl rfl)
theorem dX1_worth_14 : decode cX1_worth 14 = .ok (.iload_n 1, 1) := dk_27 (dk_at dksX1_worth_0 14 rfl rfl)
theorem dX1_worth_15 : decode cX1_worth 15 = .ok (.aload_n 0, 1) := dk_42 (dk_at dksX1_worth_0 15 rfl rfl)
theorem dX1_worth_16 : decode cX1_worth 16 = .ok (.iload_n 2, 1) := dk_28 (dk_at dksX1_worth_0 16 rfl rfl)
theorem dX1_worth_17 : decode cX1_worth 17 = .ok (.invokevirtual 585, 3) := dk_182 2 73 (dk_at dksX1_worth_0 17 rfl rfl)
theorem dX1_worth_20 : decode cX1_worth 20 = .ok (.invokestatic 520, 3) := dk_184 2 8 (dk_at dksX1_worth_0 20 rfl rfl)
theorem dX1_worth_23 : decode cX1_worth 23 = .ok (.istore_n 1, 1) := dk_60 (dk_at dksX1_worth_0 23 rfl rfl)
theorem dX1_worth_24 : decode cX1_worth 24 = .ok (.iinc 2 1, 3) := dk_132 2 1 (dk_at dksX1_worth_1 0 rfl rfl)
theorem dX1_worth_27 : decode cX1_worth 27 = .ok (.goto (-19), 3) := dk_167 255 237 (dk_at dksX1_worth_1 3 rfl rfl)
theorem dX1_worth_30 : decode cX1_worth 30 = .ok (.iconst 0, 1) := dk_3 (dk_at dksX1_worth_1 6 rfl rfl)
theorem dX1_worth_31 : decode cX1_worth 31 = .ok (.istore_n 2, 1) := dk_61 (dk_at dksX1_worth_1 7 rfl rfl)
theorem dX1_worth_32 : decode cX1_worth 32 = .ok (.iconst 0, 1) := dk_3 (dk_at dksX1_worth_1 8 rfl rfl)
theorem dX1_worth_33 : decode cX1_worth 33 = .ok (.istore_n 3, 1) := dk_62 (dk_at dksX1_worth_1 9 rfl rfl)
theorem dX1_worth_34 : decode cX1_worth 34 = .ok (.iload_n 3, 1) := dk_29 (dk_at dksX1_worth_1 10 rfl rfl)
theorem dX1_worth_35 : decode cX1_worth 35 = .ok (.aload_n 0, 1) := dk_42 (dk_at dksX1_worth_1 11 rfl rfl)
theorem dX1_worth_36 : decode cX1_worth 36 = .ok (.getfield 10, 3) := dk_180 0 10 (dk_at dksX1_worth_1 12 rfl rfl)
theorem dX1_worth_39 : decode cX1_worth 39 = .ok (.getfield 137, 3) := dk_180 0 137 (dk_at dksX1_worth_1 15 rfl rfl)
theorem dX1_worth_42 : decode cX1_worth 42 = .ok (.if_icmp .ge 28, 3) := dk_162 0 28 (dk_at dksX1_worth_1 18 rfl rfl)
theorem dX1_worth_45 : decode cX1_worth 45 = .ok (.iload_n 2, 1) := dk_28 (dk_at dksX1_worth_1 21 rfl rfl)
theorem dX1_worth_46 : decode cX1_worth 46 = .ok (.aload_n 0, 1) := dk_42 (dk_at dksX1_worth_1 22 rfl rfl)
theorem dX1_worth_47 : decode cX1_worth 47 = .ok (.iload_n 3, 1) := dk_29 (dk_at dksX1_worth_1 23 rfl rfl)
theorem dX1_worth_48 : decode cX1_worth 48 = .ok (.invokevirtual 582, 3) := dk_182 2 70 (dk_at dksX1_worth_2 0 rfl rfl)
theorem dX1_worth_51 : decode cX1_worth 51 = .ok (.aload_n 0, 1) := dk_42 (dk_at dksX1_worth_2 3 rfl rfl)
theorem dX1_worth_52 : decode cX1_worth 52 = .ok (.iload_n 3, 1) := dk_29 (dk_at dksX1_worth_2 4 rfl rfl)
theorem dX1_worth_53 : decode cX1_worth 53 = .ok (.aload_n 0, 1) := dk_42 (dk_at dksX1_worth_2 5 rfl rfl)
theorem dX1_worth_54 : decode cX1_worth 54 = .ok (.iload_n 3, 1) := dk_29 (dk_at dksX1_worth_2 6 rfl rfl)
theorem dX1_worth_55 : decode cX1_worth 55 = .ok (.invokevirtual 549, 3) := dk_182 2 37 (dk_at dksX1_worth_2 7 rfl rfl)
theorem dX1_worth_58 : decode cX1_worth 58 = .ok (.invokevirtual 546, 3) := dk_182 2 34 (dk_at dksX1_worth_2 10 rfl rfl)
theorem dX1_worth_61 : decode cX1_worth 61 = .ok (.imul, 1) := dk_104 (dk_at dksX1_worth_2 13 rfl rfl)
theorem dX1_worth_62 : decode cX1_worth 62 = .ok (.iadd, 1) := dk_96 (dk_at dksX1_worth_2 14 rfl rfl)
theorem dX1_worth_63 : decode cX1_worth 63 = .ok (.istore_n 2, 1) := dk_61 (dk_at dksX1_worth_2 15 rfl rfl)
theorem dX1_worth_64 : decode cX1_worth 64 = .ok (.iinc 3 1, 3) := dk_132 3 1 (dk_at dksX1_worth_2 16 rfl rfl)
theorem dX1_worth_67 : decode cX1_worth 67 = .ok (.goto (-33), 3) := dk_167 255 223 (dk_at dksX1_worth_2 19 rfl rfl)
theorem dX1_worth_70 : decode cX1_worth 70 = .ok (.iload_n 1, 1) := dk_27 (dk_at dksX1_worth_2 22 rfl rfl)
theorem dX1_worth_71 : decode cX1_worth 71 = .ok (.iload_n 2, 1) := dk_28 (dk_at dksX1_worth_2 23 rfl rfl)
theorem dX1_worth_72 : decode cX1_worth 72 = .ok (.isub, 1) := dk_100 (dk_at dksX1_worth_3 0 rfl rfl)
theorem dX1_worth_73 : decode cX1_worth 73 = .ok (.ireturn, 1) := dk_172 (dk_at dksX1_worth_3 1 rfl rfl)
abbrev cX1_blindly : ByteArray := prog_1_method_71_code
def yX1_blindly : MethodName := ⟨RX1, "blindly", "(I)I"⟩
def dkwX1_blindly_1 : List UInt8 := [182, 2, 34, 104, 96, 61, 132, 3, 1, 167, 255, 227, 28, 172]
abbrev dktX1_blindly_1 : List UInt8 := dkwX1_blindly_1 ++ []
def dkwX1_blindly_0 : List UInt8 := [3, 61, 3, 62, 29, 42, 180, 0, 10, 180, 0, 137, 162, 0, 24, 28, 42, 29, 182, 2, 70, 42, 29, 27]
abbrev dktX1_blindly_0 : List UInt8 := dkwX1_blindly_0 ++ dktX1_blindly_1
theorem dksX1_blindly_0 : cX1_blindly.data.toList.drop 0 = dktX1_blindly_0 := by decide +kernel
theorem dksX1_blindly_1 : cX1_blindly.data.toList.drop 24 = dktX1_blindly_1 := dk_seg dksX1_blindly_0 24 rfl rfl
theorem dX1_blindly_0 : decode cX1_blindly 0 = .ok (.iconst 0, 1) := dk_3 (dk_at dksX1_blindly_0 0 rfl rfl)
theorem dX1_blindly_1 : decode cX1_blindly 1 = .ok (.istore_n 2, 1) := dk_61 (dk_at dksX1_blindly_0 1 rfl rfl)
theorem dX1_blindly_2 : decode cX1_blindly 2 = .ok (.iconst 0, 1) := dk_3 (dk_at dksX1_blindly_0 2 rfl rfl)
theorem dX1_blindly_3 : decode cX1_blindly 3 = .ok (.istore_n 3, 1) := dk_62 (dk_at dksX1_blindly_0 3 rfl rfl)
theorem dX1_blindly_4 : decode cX1_blindly 4 = .ok (.iload_n 3, 1) := dk_29 (dk_at dksX1_blindly_0 4 rfl rfl)
theorem dX1_blindly_5 : decode cX1_blindly 5 = .ok (.aload_n 0, 1) := dk_42 (dk_at dksX1_blindly_0 5 rfl rfl)
theorem dX1_blindly_6 : decode cX1_blindly 6 = .ok (.getfield 10, 3) := dk_180 0 10 (dk_at dksX1_blindly_0 6 rfl rfl)
theorem dX1_blindly_9 : decode cX1_blindly 9 = .ok (.getfield 137, 3) := dk_180 0 137 (dk_at dksX1_blindly_0 9 rfl rfl)
theorem dX1_blindly_12 : decode cX1_blindly 12 = .ok (.if_icmp .ge 24, 3) := dk_162 0 24 (dk_at dksX1_blindly_0 12 rfl rfl)
theorem dX1_blindly_15 : decode cX1_blindly 15 = .ok (.iload_n 2, 1) := dk_28 (dk_at dksX1_blindly_0 15 rfl rfl)
theorem dX1_blindly_16 : decode cX1_blindly 16 = .ok (.aload_n 0, 1) := dk_42 (dk_at dksX1_blindly_0 16 rfl rfl)
theorem dX1_blindly_17 : decode cX1_blindly 17 = .ok (.iload_n 3, 1) := dk_29 (dk_at dksX1_blindly_0 17 rfl rfl)
theorem dX1_blindly_18 : decode cX1_blindly 18 = .ok (.invokevirtual 582, 3) := dk_182 2 70 (dk_at dksX1_blindly_0 18 rfl rfl)
theorem dX1_blindly_21 : decode cX1_blindly 21 = .ok (.aload_n 0, 1) := dk_42 (dk_at dksX1_blindly_0 21 rfl rfl)
theorem dX1_blindly_22 : decode cX1_blindly 22 = .ok (.iload_n 3, 1) := dk_29 (dk_at dksX1_blindly_0 22 rfl rfl)
theorem dX1_blindly_23 : decode cX1_blindly 23 = .ok (.iload_n 1, 1) := dk_27 (dk_at dksX1_blindly_0 23 rfl rfl)
theorem dX1_blindly_24 : decode cX1_blindly 24 = .ok (.invokevirtual 546, 3) := dk_182 2 34 (dk_at dksX1_blindly_1 0 rfl rfl)
theorem dX1_blindly_27 : decode cX1_blindly 27 = .ok (.imul, 1) := dk_104 (dk_at dksX1_blindly_1 3 rfl rfl)
theorem dX1_blindly_28 : decode cX1_blindly 28 = .ok (.iadd, 1) := dk_96 (dk_at dksX1_blindly_1 4 rfl rfl)
theorem dX1_blindly_29 : decode cX1_blindly 29 = .ok (.istore_n 2, 1) := dk_61 (dk_at dksX1_blindly_1 5 rfl rfl)
theorem dX1_blindly_30 : decode cX1_blindly 30 = .ok (.iinc 3 1, 3) := dk_132 3 1 (dk_at dksX1_blindly_1 6 rfl rfl)
theorem dX1_blindly_33 : decode cX1_blindly 33 = .ok (.goto (-29), 3) := dk_167 255 227 (dk_at dksX1_blindly_1 9 rfl rfl)
theorem dX1_blindly_36 : decode cX1_blindly 36 = .ok (.iload_n 2, 1) := dk_28 (dk_at dksX1_blindly_1 12 rfl rfl)
theorem dX1_blindly_37 : decode cX1_blindly 37 = .ok (.ireturn, 1) := dk_172 (dk_at dksX1_blindly_1 13 rfl rfl)
abbrev cX1_peopleOf : ByteArray := prog_1_method_70_code
def yX1_peopleOf : MethodName := ⟨RX1, "peopleOf", "(I)I"⟩
def dkwX1_peopleOf_1 : List UInt8 := [46, 27, 160, 0, 7, 4, 167, 0, 4, 3, 96, 61, 132, 3, 1, 167, 255, 221, 28, 172]
abbrev dktX1_peopleOf_1 : List UInt8 := dkwX1_peopleOf_1 ++ []
def dkwX1_peopleOf_0 : List UInt8 := [3, 61, 3, 62, 29, 42, 180, 0, 10, 180, 0, 154, 162, 0, 30, 28, 42, 180, 0, 10, 180, 0, 157, 29]
abbrev dktX1_peopleOf_0 : List UInt8 := dkwX1_peopleOf_0 ++ dktX1_peopleOf_1
theorem dksX1_peopleOf_0 : cX1_peopleOf.data.toList.drop 0 = dktX1_peopleOf_0 := by decide +kernel
theorem dksX1_peopleOf_1 : cX1_peopleOf.data.toList.drop 24 = dktX1_peopleOf_1 := dk_seg dksX1_peopleOf_0 24 rfl rfl
theorem dX1_peopleOf_0 : decode cX1_peopleOf 0 = .ok (.iconst 0, 1) := dk_3 (dk_at dksX1_peopleOf_0 0 rfl rfl)
theorem dX1_peopleOf_1 : decode cX1_peopleOf 1 = .ok (.istore_n 2, 1) := dk_61 (dk_at dksX1_peopleOf_0 1 rfl rfl)
theorem dX1_peopleOf_2 : decode cX1_peopleOf 2 = .ok (.iconst 0, 1) := dk_3 (dk_at dksX1_peopleOf_0 2 rfl rfl)
theorem dX1_peopleOf_3 : decode cX1_peopleOf 3 = .ok (.istore_n 3, 1) := dk_62 (dk_at dksX1_peopleOf_0 3 rfl rfl)
theorem dX1_peopleOf_4 : decode cX1_peopleOf 4 = .ok (.iload_n 3, 1) := dk_29 (dk_at dksX1_peopleOf_0 4 rfl rfl)
theorem dX1_peopleOf_5 : decode cX1_peopleOf 5 = .ok (.aload_n 0, 1) := dk_42 (dk_at dksX1_peopleOf_0 5 rfl rfl)
theorem dX1_peopleOf_6 : decode cX1_peopleOf 6 = .ok (.getfield 10, 3) := dk_180 0 10 (dk_at dksX1_peopleOf_0 6 rfl rfl)
theorem dX1_peopleOf_9 : decode cX1_peopleOf 9 = .ok (.getfield 154, 3) := dk_180 0 154 (dk_at dksX1_peopleOf_0 9 rfl rfl)
theorem dX1_peopleOf_12 : decode cX1_peopleOf 12 = .ok (.if_icmp .ge 30, 3) := dk_162 0 30 (dk_at dksX1_peopleOf_0 12 rfl rfl)
theorem dX1_peopleOf_15 : decode cX1_peopleOf 15 = .ok (.iload_n 2, 1) := dk_28 (dk_at dksX1_peopleOf_0 15 rfl rfl)
theorem dX1_peopleOf_16 : decode cX1_peopleOf 16 = .ok (.aload_n 0, 1) := dk_42 (dk_at dksX1_peopleOf_0 16 rfl rfl)
theorem dX1_peopleOf_17 : decode cX1_peopleOf 17 = .ok (.getfield 10, 3) := dk_180 0 10 (dk_at dksX1_peopleOf_0 17 rfl rfl)
theorem dX1_peopleOf_20 : decode cX1_peopleOf 20 = .ok (.getfield 157, 3) := dk_180 0 157 (dk_at dksX1_peopleOf_0 20 rfl rfl)
theorem dX1_peopleOf_23 : decode cX1_peopleOf 23 = .ok (.iload_n 3, 1) := dk_29 (dk_at dksX1_peopleOf_0 23 rfl rfl)
theorem dX1_peopleOf_24 : decode cX1_peopleOf 24 = .ok (.iaload, 1) := dk_46 (dk_at dksX1_peopleOf_1 0 rfl rfl)
theorem dX1_peopleOf_25 : decode cX1_peopleOf 25 = .ok (.iload_n 1, 1) := dk_27 (dk_at dksX1_peopleOf_1 1 rfl rfl)
theorem dX1_peopleOf_26 : decode cX1_peopleOf 26 = .ok (.if_icmp .ne 7, 3) := dk_160 0 7 (dk_at dksX1_peopleOf_1 2 rfl rfl)
theorem dX1_peopleOf_29 : decode cX1_peopleOf 29 = .ok (.iconst 1, 1) := dk_4 (dk_at dksX1_peopleOf_1 5 rfl rfl)
theorem dX1_peopleOf_30 : decode cX1_peopleOf 30 = .ok (.goto 4, 3) := dk_167 0 4 (dk_at dksX1_peopleOf_1 6 rfl rfl)
theorem dX1_peopleOf_33 : decode cX1_peopleOf 33 = .ok (.iconst 0, 1) := dk_3 (dk_at dksX1_peopleOf_1 9 rfl rfl)
theorem dX1_peopleOf_34 : decode cX1_peopleOf 34 = .ok (.iadd, 1) := dk_96 (dk_at dksX1_peopleOf_1 10 rfl rfl)
theorem dX1_peopleOf_35 : decode cX1_peopleOf 35 = .ok (.istore_n 2, 1) := dk_61 (dk_at dksX1_peopleOf_1 11 rfl rfl)
theorem dX1_peopleOf_36 : decode cX1_peopleOf 36 = .ok (.iinc 3 1, 3) := dk_132 3 1 (dk_at dksX1_peopleOf_1 12 rfl rfl)
theorem dX1_peopleOf_39 : decode cX1_peopleOf 39 = .ok (.goto (-35), 3) := dk_167 255 221 (dk_at dksX1_peopleOf_1 15 rfl rfl)
theorem dX1_peopleOf_42 : decode cX1_peopleOf 42 = .ok (.iload_n 2, 1) := dk_28 (dk_at dksX1_peopleOf_1 18 rfl rfl)
theorem dX1_peopleOf_43 : decode cX1_peopleOf 43 = .ok (.ireturn, 1) := dk_172 (dk_at dksX1_peopleOf_1 19 rfl rfl)
abbrev cX1_expects : ByteArray := prog_1_method_61_code
def yX1_expects : MethodName := ⟨RX1, "expects", "(II)I"⟩
def dkwX1_expects_2 : List UInt8 := [21, 5, 46, 182, 1, 181, 104, 167, 0, 4, 3, 96, 54, 4, 132, 5, 1, 167, 255, 204, 21, 4, 172]
abbrev dktX1_expects_2 : List UInt8 := dkwX1_expects_2 ++ []
def dkwX1_expects_1 : List UInt8 := [180, 0, 134, 21, 5, 46, 27, 160, 0, 26, 45, 180, 0, 152, 21, 5, 46, 45, 28, 45, 180, 0, 140]
abbrev dktX1_expects_1 : List UInt8 := dkwX1_expects_1 ++ dktX1_expects_2
def dkwX1_expects_0 : List UInt8 := [42, 180, 0, 10, 78, 3, 54, 4, 3, 54, 5, 21, 5, 45, 180, 0, 131, 162, 0, 49, 21, 4, 45]
abbrev dktX1_expects_0 : List UInt8 := dkwX1_expects_0 ++ dktX1_expects_1
theorem dksX1_expects_0 : cX1_expects.data.toList.drop 0 = dktX1_expects_0 := by decide +kernel
theorem dksX1_expects_1 : cX1_expects.data.toList.drop 23 = dktX1_expects_1 := dk_seg dksX1_expects_0 23 rfl rfl
theorem dksX1_expects_2 : cX1_expects.data.toList.drop 46 = dktX1_expects_2 := dk_seg dksX1_expects_1 23 rfl rfl
theorem dX1_expects_0 : decode cX1_expects 0 = .ok (.aload_n 0, 1) := dk_42 (dk_at dksX1_expects_0 0 rfl rfl)
theorem dX1_expects_1 : decode cX1_expects 1 = .ok (.getfield 10, 3) := dk_180 0 10 (dk_at dksX1_expects_0 1 rfl rfl)
theorem dX1_expects_4 : decode cX1_expects 4 = .ok (.astore_n 3, 1) := dk_78 (dk_at dksX1_expects_0 4 rfl rfl)
theorem dX1_expects_5 : decode cX1_expects 5 = .ok (.iconst 0, 1) := dk_3 (dk_at dksX1_expects_0 5 rfl rfl)
theorem dX1_expects_6 : decode cX1_expects 6 = .ok (.istore 4, 2) := dk_54 4 (dk_at dksX1_expects_0 6 rfl rfl)
theorem dX1_expects_8 : decode cX1_expects 8 = .ok (.iconst 0, 1) := dk_3 (dk_at dksX1_expects_0 8 rfl rfl)
theorem dX1_expects_9 : decode cX1_expects 9 = .ok (.istore 5, 2) := dk_54 5 (dk_at dksX1_expects_0 9 rfl rfl)
theorem dX1_expects_11 : decode cX1_expects 11 = .ok (.iload 5, 2) := dk_21 5 (dk_at dksX1_expects_0 11 rfl rfl)
theorem dX1_expects_13 : decode cX1_expects 13 = .ok (.aload_n 3, 1) := dk_45 (dk_at dksX1_expects_0 13 rfl rfl)
theorem dX1_expects_14 : decode cX1_expects 14 = .ok (.getfield 131, 3) := dk_180 0 131 (dk_at dksX1_expects_0 14 rfl rfl)
theorem dX1_expects_17 : decode cX1_expects 17 = .ok (.if_icmp .ge 49, 3) := dk_162 0 49 (dk_at dksX1_expects_0 17 rfl rfl)
theorem dX1_expects_20 : decode cX1_expects 20 = .ok (.iload 4, 2) := dk_21 4 (dk_at dksX1_expects_0 20 rfl rfl)
theorem dX1_expects_22 : decode cX1_expects 22 = .ok (.aload_n 3, 1) := dk_45 (dk_at dksX1_expects_0 22 rfl rfl)
theorem dX1_expects_23 : decode cX1_expects 23 = .ok (.getfield 134, 3) := dk_180 0 134 (dk_at dksX1_expects_1 0 rfl rfl)
theorem dX1_expects_26 : decode cX1_expects 26 = .ok (.iload 5, 2) := dk_21 5 (dk_at dksX1_expects_1 3 rfl rfl)
theorem dX1_expects_28 : decode cX1_expects 28 = .ok (.iaload, 1) := dk_46 (dk_at dksX1_expects_1 5 rfl rfl)
theorem dX1_expects_29 : decode cX1_expects 29 = .ok (.iload_n 1, 1) := dk_27 (dk_at dksX1_expects_1 6 rfl rfl)
theorem dX1_expects_30 : decode cX1_expects 30 = .ok (.if_icmp .ne 26, 3) := dk_160 0 26 (dk_at dksX1_expects_1 7 rfl rfl)
theorem dX1_expects_33 : decode cX1_expects 33 = .ok (.aload_n 3, 1) := dk_45 (dk_at dksX1_expects_1 10 rfl rfl)
theorem dX1_expects_34 : decode cX1_expects 34 = .ok (.getfield 152, 3) := dk_180 0 152 (dk_at dksX1_expects_1 11 rfl rfl)
theorem dX1_expects_37 : decode cX1_expects 37 = .ok (.iload 5, 2) := dk_21 5 (dk_at dksX1_expects_1 14 rfl rfl)
theorem dX1_expects_39 : decode cX1_expects 39 = .ok (.iaload, 1) := dk_46 (dk_at dksX1_expects_1 16 rfl rfl)
theorem dX1_expects_40 : decode cX1_expects 40 = .ok (.aload_n 3, 1) := dk_45 (dk_at dksX1_expects_1 17 rfl rfl)
theorem dX1_expects_41 : decode cX1_expects 41 = .ok (.iload_n 2, 1) := dk_28 (dk_at dksX1_expects_1 18 rfl rfl)
theorem dX1_expects_42 : decode cX1_expects 42 = .ok (.aload_n 3, 1) := dk_45 (dk_at dksX1_expects_1 19 rfl rfl)
theorem dX1_expects_43 : decode cX1_expects 43 = .ok (.getfield 140, 3) := dk_180 0 140 (dk_at dksX1_expects_1 20 rfl rfl)
theorem dX1_expects_46 : decode cX1_expects 46 = .ok (.iload 5, 2) := dk_21 5 (dk_at dksX1_expects_2 0 rfl rfl)
theorem dX1_expects_48 : decode cX1_expects 48 = .ok (.iaload, 1) := dk_46 (dk_at dksX1_expects_2 2 rfl rfl)
theorem dX1_expects_49 : decode cX1_expects 49 = .ok (.invokevirtual 437, 3) := dk_182 1 181 (dk_at dksX1_expects_2 3 rfl rfl)
theorem dX1_expects_52 : decode cX1_expects 52 = .ok (.imul, 1) := dk_104 (dk_at dksX1_expects_2 6 rfl rfl)
theorem dX1_expects_53 : decode cX1_expects 53 = .ok (.goto 4, 3) := dk_167 0 4 (dk_at dksX1_expects_2 7 rfl rfl)
theorem dX1_expects_56 : decode cX1_expects 56 = .ok (.iconst 0, 1) := dk_3 (dk_at dksX1_expects_2 10 rfl rfl)
theorem dX1_expects_57 : decode cX1_expects 57 = .ok (.iadd, 1) := dk_96 (dk_at dksX1_expects_2 11 rfl rfl)
theorem dX1_expects_58 : decode cX1_expects 58 = .ok (.istore 4, 2) := dk_54 4 (dk_at dksX1_expects_2 12 rfl rfl)
theorem dX1_expects_60 : decode cX1_expects 60 = .ok (.iinc 5 1, 3) := dk_132 5 1 (dk_at dksX1_expects_2 14 rfl rfl)
theorem dX1_expects_63 : decode cX1_expects 63 = .ok (.goto (-52), 3) := dk_167 255 204 (dk_at dksX1_expects_2 17 rfl rfl)
theorem dX1_expects_66 : decode cX1_expects 66 = .ok (.iload 4, 2) := dk_21 4 (dk_at dksX1_expects_2 20 rfl rfl)
theorem dX1_expects_68 : decode cX1_expects 68 = .ok (.ireturn, 1) := dk_172 (dk_at dksX1_expects_2 22 rfl rfl)
abbrev cX1_bestIn : ByteArray := prog_1_method_62_code
def yX1_bestIn : MethodName := ⟨RX1, "bestIn", "(I)I"⟩
def dkwX1_bestIn_1 : List UInt8 := [162, 0, 5, 29, 61, 132, 3, 1, 167, 255, 230, 28, 172]
abbrev dktX1_bestIn_1 : List UInt8 := dkwX1_bestIn_1 ++ []
def dkwX1_bestIn_0 : List UInt8 := [3, 61, 4, 62, 29, 16, 32, 162, 0, 26, 42, 27, 29, 182, 2, 34, 42, 27, 28, 182, 2, 34]
abbrev dktX1_bestIn_0 : List UInt8 := dkwX1_bestIn_0 ++ dktX1_bestIn_1
theorem dksX1_bestIn_0 : cX1_bestIn.data.toList.drop 0 = dktX1_bestIn_0 := by decide +kernel
theorem dksX1_bestIn_1 : cX1_bestIn.data.toList.drop 22 = dktX1_bestIn_1 := dk_seg dksX1_bestIn_0 22 rfl rfl
theorem dX1_bestIn_0 : decode cX1_bestIn 0 = .ok (.iconst 0, 1) := dk_3 (dk_at dksX1_bestIn_0 0 rfl rfl)
theorem dX1_bestIn_1 : decode cX1_bestIn 1 = .ok (.istore_n 2, 1) := dk_61 (dk_at dksX1_bestIn_0 1 rfl rfl)
theorem dX1_bestIn_2 : decode cX1_bestIn 2 = .ok (.iconst 1, 1) := dk_4 (dk_at dksX1_bestIn_0 2 rfl rfl)
theorem dX1_bestIn_3 : decode cX1_bestIn 3 = .ok (.istore_n 3, 1) := dk_62 (dk_at dksX1_bestIn_0 3 rfl rfl)
theorem dX1_bestIn_4 : decode cX1_bestIn 4 = .ok (.iload_n 3, 1) := dk_29 (dk_at dksX1_bestIn_0 4 rfl rfl)
theorem dX1_bestIn_5 : decode cX1_bestIn 5 = .ok (.bipush 32, 2) := dk_16 32 (dk_at dksX1_bestIn_0 5 rfl rfl)
theorem dX1_bestIn_7 : decode cX1_bestIn 7 = .ok (.if_icmp .ge 26, 3) := dk_162 0 26 (dk_at dksX1_bestIn_0 7 rfl rfl)
theorem dX1_bestIn_10 : decode cX1_bestIn 10 = .ok (.aload_n 0, 1) := dk_42 (dk_at dksX1_bestIn_0 10 rfl rfl)
theorem dX1_bestIn_11 : decode cX1_bestIn 11 = .ok (.iload_n 1, 1) := dk_27 (dk_at dksX1_bestIn_0 11 rfl rfl)
theorem dX1_bestIn_12 : decode cX1_bestIn 12 = .ok (.iload_n 3, 1) := dk_29 (dk_at dksX1_bestIn_0 12 rfl rfl)
theorem dX1_bestIn_13 : decode cX1_bestIn 13 = .ok (.invokevirtual 546, 3) := dk_182 2 34 (dk_at dksX1_bestIn_0 13 rfl rfl)
theorem dX1_bestIn_16 : decode cX1_bestIn 16 = .ok (.aload_n 0, 1) := dk_42 (dk_at dksX1_bestIn_0 16 rfl rfl)
theorem dX1_bestIn_17 : decode cX1_bestIn 17 = .ok (.iload_n 1, 1) := dk_27 (dk_at dksX1_bestIn_0 17 rfl rfl)
theorem dX1_bestIn_18 : decode cX1_bestIn 18 = .ok (.iload_n 2, 1) := dk_28 (dk_at dksX1_bestIn_0 18 rfl rfl)
theorem dX1_bestIn_19 : decode cX1_bestIn 19 = .ok (.invokevirtual 546, 3) := dk_182 2 34 (dk_at dksX1_bestIn_0 19 rfl rfl)
theorem dX1_bestIn_22 : decode cX1_bestIn 22 = .ok (.if_icmp .ge 5, 3) := dk_162 0 5 (dk_at dksX1_bestIn_1 0 rfl rfl)
theorem dX1_bestIn_25 : decode cX1_bestIn 25 = .ok (.iload_n 3, 1) := dk_29 (dk_at dksX1_bestIn_1 3 rfl rfl)
theorem dX1_bestIn_26 : decode cX1_bestIn 26 = .ok (.istore_n 2, 1) := dk_61 (dk_at dksX1_bestIn_1 4 rfl rfl)
theorem dX1_bestIn_27 : decode cX1_bestIn 27 = .ok (.iinc 3 1, 3) := dk_132 3 1 (dk_at dksX1_bestIn_1 5 rfl rfl)
theorem dX1_bestIn_30 : decode cX1_bestIn 30 = .ok (.goto (-26), 3) := dk_167 255 230 (dk_at dksX1_bestIn_1 8 rfl rfl)
theorem dX1_bestIn_33 : decode cX1_bestIn 33 = .ok (.iload_n 2, 1) := dk_28 (dk_at dksX1_bestIn_1 11 rfl rfl)
theorem dX1_bestIn_34 : decode cX1_bestIn 34 = .ok (.ireturn, 1) := dk_172 (dk_at dksX1_bestIn_1 12 rfl rfl)
abbrev cX1_table : ByteArray := prog_1_method_79_code
def yX1_table : MethodName := ⟨RX1, "table", "(II)I"⟩
def dkwX1_table_3 : List UInt8 := [180, 0, 55, 4, 3, 182, 2, 102, 167, 0, 11, 42, 180, 0, 55, 28, 182, 2, 105, 172]
abbrev dktX1_table_3 : List UInt8 := dkwX1_table_3 ++ []
def dkwX1_table_2 : List UInt8 := [100, 184, 1, 158, 154, 0, 5, 2, 172, 42, 180, 0, 55, 29, 182, 2, 98, 87, 28, 2, 160, 0, 15, 42]
abbrev dktX1_table_2 : List UInt8 := dkwX1_table_2 ++ dktX1_table_3
def dkwX1_table_1 : List UInt8 := [154, 0, 14, 28, 2, 160, 0, 7, 3, 167, 0, 4, 2, 172, 28, 2, 159, 0, 17, 28, 3, 21, 4, 4]
abbrev dktX1_table_1 : List UInt8 := dkwX1_table_1 ++ dktX1_table_2
def dkwX1_table_0 : List UInt8 := [42, 27, 182, 2, 28, 62, 29, 184, 2, 95, 54, 4, 21, 4, 16, 8, 164, 0, 6, 16, 253, 172, 21, 4]
abbrev dktX1_table_0 : List UInt8 := dkwX1_table_0 ++ dktX1_table_1
theorem dksX1_table_0 : cX1_table.data.toList.drop 0 = dktX1_table_0 := by decide +kernel
theorem dksX1_table_1 : cX1_table.data.toList.drop 24 = dktX1_table_1 := dk_seg dksX1_table_0 24 rfl rfl
theorem dksX1_table_2 : cX1_table.data.toList.drop 48 = dktX1_table_2 := dk_seg dksX1_table_1 24 rfl rfl
theorem dksX1_table_3 : cX1_table.data.toList.drop 72 = dktX1_table_3 := dk_seg dksX1_table_2 24 rfl rfl
theorem dX1_table_0 : decode cX1_table 0 = .ok (.aload_n 0, 1) := dk_42 (dk_at dksX1_table_0 0 rfl rfl)
theorem dX1_table_1 : decode cX1_table 1 = .ok (.iload_n 1, 1) := dk_27 (dk_at dksX1_table_0 1 rfl rfl)
theorem dX1_table_2 : decode cX1_table 2 = .ok (.invokevirtual 540, 3) := dk_182 2 28 (dk_at dksX1_table_0 2 rfl rfl)
theorem dX1_table_5 : decode cX1_table 5 = .ok (.istore_n 3, 1) := dk_62 (dk_at dksX1_table_0 5 rfl rfl)
theorem dX1_table_6 : decode cX1_table 6 = .ok (.iload_n 3, 1) := dk_29 (dk_at dksX1_table_0 6 rfl rfl)
theorem dX1_table_7 : decode cX1_table 7 = .ok (.invokestatic 607, 3) := dk_184 2 95 (dk_at dksX1_table_0 7 rfl rfl)
theorem dX1_table_10 : decode cX1_table 10 = .ok (.istore 4, 2) := dk_54 4 (dk_at dksX1_table_0 10 rfl rfl)
theorem dX1_table_12 : decode cX1_table 12 = .ok (.iload 4, 2) := dk_21 4 (dk_at dksX1_table_0 12 rfl rfl)
theorem dX1_table_14 : decode cX1_table 14 = .ok (.bipush 8, 2) := dk_16 8 (dk_at dksX1_table_0 14 rfl rfl)
theorem dX1_table_16 : decode cX1_table 16 = .ok (.if_icmp .le 6, 3) := dk_164 0 6 (dk_at dksX1_table_0 16 rfl rfl)
theorem dX1_table_19 : decode cX1_table 19 = .ok (.bipush (-3), 2) := dk_16 253 (dk_at dksX1_table_0 19 rfl rfl)
theorem dX1_table_21 : decode cX1_table 21 = .ok (.ireturn, 1) := dk_172 (dk_at dksX1_table_0 21 rfl rfl)
theorem dX1_table_22 : decode cX1_table 22 = .ok (.iload 4, 2) := dk_21 4 (dk_at dksX1_table_0 22 rfl rfl)
theorem dX1_table_24 : decode cX1_table 24 = .ok (.ifCond .ne 14, 3) := dk_154 0 14 (dk_at dksX1_table_1 0 rfl rfl)
theorem dX1_table_27 : decode cX1_table 27 = .ok (.iload_n 2, 1) := dk_28 (dk_at dksX1_table_1 3 rfl rfl)
theorem dX1_table_28 : decode cX1_table 28 = .ok (.iconst (-1), 1) := dk_2 (dk_at dksX1_table_1 4 rfl rfl)
theorem dX1_table_29 : decode cX1_table 29 = .ok (.if_icmp .ne 7, 3) := dk_160 0 7 (dk_at dksX1_table_1 5 rfl rfl)
theorem dX1_table_32 : decode cX1_table 32 = .ok (.iconst 0, 1) := dk_3 (dk_at dksX1_table_1 8 rfl rfl)
theorem dX1_table_33 : decode cX1_table 33 = .ok (.goto 4, 3) := dk_167 0 4 (dk_at dksX1_table_1 9 rfl rfl)
theorem dX1_table_36 : decode cX1_table 36 = .ok (.iconst (-1), 1) := dk_2 (dk_at dksX1_table_1 12 rfl rfl)
theorem dX1_table_37 : decode cX1_table 37 = .ok (.ireturn, 1) := dk_172 (dk_at dksX1_table_1 13 rfl rfl)
theorem dX1_table_38 : decode cX1_table 38 = .ok (.iload_n 2, 1) := dk_28 (dk_at dksX1_table_1 14 rfl rfl)
theorem dX1_table_39 : decode cX1_table 39 = .ok (.iconst (-1), 1) := dk_2 (dk_at dksX1_table_1 15 rfl rfl)
theorem dX1_table_40 : decode cX1_table 40 = .ok (.if_icmp .eq 17, 3) := dk_159 0 17 (dk_at dksX1_table_1 16 rfl rfl)
theorem dX1_table_43 : decode cX1_table 43 = .ok (.iload_n 2, 1) := dk_28 (dk_at dksX1_table_1 19 rfl rfl)
theorem dX1_table_44 : decode cX1_table 44 = .ok (.iconst 0, 1) := dk_3 (dk_at dksX1_table_1 20 rfl rfl)
theorem dX1_table_45 : decode cX1_table 45 = .ok (.iload 4, 2) := dk_21 4 (dk_at dksX1_table_1 21 rfl rfl)
theorem dX1_table_47 : decode cX1_table 47 = .ok (.iconst 1, 1) := dk_4 (dk_at dksX1_table_1 23 rfl rfl)
theorem dX1_table_48 : decode cX1_table 48 = .ok (.isub, 1) := dk_100 (dk_at dksX1_table_2 0 rfl rfl)
theorem dX1_table_49 : decode cX1_table 49 = .ok (.invokestatic 414, 3) := dk_184 1 158 (dk_at dksX1_table_2 1 rfl rfl)
theorem dX1_table_52 : decode cX1_table 52 = .ok (.ifCond .ne 5, 3) := dk_154 0 5 (dk_at dksX1_table_2 4 rfl rfl)
theorem dX1_table_55 : decode cX1_table 55 = .ok (.iconst (-1), 1) := dk_2 (dk_at dksX1_table_2 7 rfl rfl)
theorem dX1_table_56 : decode cX1_table 56 = .ok (.ireturn, 1) := dk_172 (dk_at dksX1_table_2 8 rfl rfl)
theorem dX1_table_57 : decode cX1_table 57 = .ok (.aload_n 0, 1) := dk_42 (dk_at dksX1_table_2 9 rfl rfl)
theorem dX1_table_58 : decode cX1_table 58 = .ok (.getfield 55, 3) := dk_180 0 55 (dk_at dksX1_table_2 10 rfl rfl)
theorem dX1_table_61 : decode cX1_table 61 = .ok (.iload_n 3, 1) := dk_29 (dk_at dksX1_table_2 13 rfl rfl)
theorem dX1_table_62 : decode cX1_table 62 = .ok (.invokevirtual 610, 3) := dk_182 2 98 (dk_at dksX1_table_2 14 rfl rfl)
theorem dX1_table_65 : decode cX1_table 65 = .ok (.pop, 1) := dk_87 (dk_at dksX1_table_2 17 rfl rfl)
theorem dX1_table_66 : decode cX1_table 66 = .ok (.iload_n 2, 1) := dk_28 (dk_at dksX1_table_2 18 rfl rfl)
theorem dX1_table_67 : decode cX1_table 67 = .ok (.iconst (-1), 1) := dk_2 (dk_at dksX1_table_2 19 rfl rfl)
theorem dX1_table_68 : decode cX1_table 68 = .ok (.if_icmp .ne 15, 3) := dk_160 0 15 (dk_at dksX1_table_2 20 rfl rfl)
theorem dX1_table_71 : decode cX1_table 71 = .ok (.aload_n 0, 1) := dk_42 (dk_at dksX1_table_2 23 rfl rfl)
theorem dX1_table_72 : decode cX1_table 72 = .ok (.getfield 55, 3) := dk_180 0 55 (dk_at dksX1_table_3 0 rfl rfl)
theorem dX1_table_75 : decode cX1_table 75 = .ok (.iconst 1, 1) := dk_4 (dk_at dksX1_table_3 3 rfl rfl)
theorem dX1_table_76 : decode cX1_table 76 = .ok (.iconst 0, 1) := dk_3 (dk_at dksX1_table_3 4 rfl rfl)
theorem dX1_table_77 : decode cX1_table 77 = .ok (.invokevirtual 614, 3) := dk_182 2 102 (dk_at dksX1_table_3 5 rfl rfl)
theorem dX1_table_80 : decode cX1_table 80 = .ok (.goto 11, 3) := dk_167 0 11 (dk_at dksX1_table_3 8 rfl rfl)
theorem dX1_table_83 : decode cX1_table 83 = .ok (.aload_n 0, 1) := dk_42 (dk_at dksX1_table_3 11 rfl rfl)
theorem dX1_table_84 : decode cX1_table 84 = .ok (.getfield 55, 3) := dk_180 0 55 (dk_at dksX1_table_3 12 rfl rfl)
theorem dX1_table_87 : decode cX1_table 87 = .ok (.iload_n 2, 1) := dk_28 (dk_at dksX1_table_3 15 rfl rfl)
theorem dX1_table_88 : decode cX1_table 88 = .ok (.invokevirtual 617, 3) := dk_182 2 105 (dk_at dksX1_table_3 16 rfl rfl)
theorem dX1_table_91 : decode cX1_table 91 = .ok (.ireturn, 1) := dk_172 (dk_at dksX1_table_3 19 rfl rfl)
abbrev cX1_allOf : ByteArray := prog_1_method_40_code
def yX1_allOf : MethodName := ⟨RX1, "allOf", "(I)I"⟩
def dkwX1_allOf_0 : List UInt8 := [27, 4, 42, 180, 0, 10, 180, 0, 154, 120, 4, 100, 126, 172]
abbrev dktX1_allOf_0 : List UInt8 := dkwX1_allOf_0 ++ []
theorem dksX1_allOf_0 : cX1_allOf.data.toList.drop 0 = dktX1_allOf_0 := by decide +kernel
theorem dX1_allOf_0 : decode cX1_allOf 0 = .ok (.iload_n 1, 1) := dk_27 (dk_at dksX1_allOf_0 0 rfl rfl)
theorem dX1_allOf_1 : decode cX1_allOf 1 = .ok (.iconst 1, 1) := dk_4 (dk_at dksX1_allOf_0 1 rfl rfl)
theorem dX1_allOf_2 : decode cX1_allOf 2 = .ok (.aload_n 0, 1) := dk_42 (dk_at dksX1_allOf_0 2 rfl rfl)
theorem dX1_allOf_3 : decode cX1_allOf 3 = .ok (.getfield 10, 3) := dk_180 0 10 (dk_at dksX1_allOf_0 3 rfl rfl)
theorem dX1_allOf_6 : decode cX1_allOf 6 = .ok (.getfield 154, 3) := dk_180 0 154 (dk_at dksX1_allOf_0 6 rfl rfl)
theorem dX1_allOf_9 : decode cX1_allOf 9 = .ok (.ishl, 1) := dk_120 (dk_at dksX1_allOf_0 9 rfl rfl)
theorem dX1_allOf_10 : decode cX1_allOf 10 = .ok (.iconst 1, 1) := dk_4 (dk_at dksX1_allOf_0 10 rfl rfl)
theorem dX1_allOf_11 : decode cX1_allOf 11 = .ok (.isub, 1) := dk_100 (dk_at dksX1_allOf_0 11 rfl rfl)
theorem dX1_allOf_12 : decode cX1_allOf 12 = .ok (.iand, 1) := dk_126 (dk_at dksX1_allOf_0 12 rfl rfl)
theorem dX1_allOf_13 : decode cX1_allOf 13 = .ok (.ireturn, 1) := dk_172 (dk_at dksX1_allOf_0 13 rfl rfl)
abbrev cX1_in : ByteArray := prog_1_method_2_code
def yX1_in : MethodName := ⟨RX1, "in", "(III)Z"⟩
def dkwX1_in_0 : List UInt8 := [26, 27, 161, 0, 12, 26, 28, 163, 0, 7, 4, 167, 0, 4, 3, 172]
abbrev dktX1_in_0 : List UInt8 := dkwX1_in_0 ++ []
theorem dksX1_in_0 : cX1_in.data.toList.drop 0 = dktX1_in_0 := by decide +kernel
theorem dX1_in_0 : decode cX1_in 0 = .ok (.iload_n 0, 1) := dk_26 (dk_at dksX1_in_0 0 rfl rfl)
theorem dX1_in_1 : decode cX1_in 1 = .ok (.iload_n 1, 1) := dk_27 (dk_at dksX1_in_0 1 rfl rfl)
theorem dX1_in_2 : decode cX1_in 2 = .ok (.if_icmp .lt 12, 3) := dk_161 0 12 (dk_at dksX1_in_0 2 rfl rfl)
theorem dX1_in_5 : decode cX1_in 5 = .ok (.iload_n 0, 1) := dk_26 (dk_at dksX1_in_0 5 rfl rfl)
theorem dX1_in_6 : decode cX1_in 6 = .ok (.iload_n 2, 1) := dk_28 (dk_at dksX1_in_0 6 rfl rfl)
theorem dX1_in_7 : decode cX1_in 7 = .ok (.if_icmp .gt 7, 3) := dk_163 0 7 (dk_at dksX1_in_0 7 rfl rfl)
theorem dX1_in_10 : decode cX1_in 10 = .ok (.iconst 1, 1) := dk_4 (dk_at dksX1_in_0 10 rfl rfl)
theorem dX1_in_11 : decode cX1_in 11 = .ok (.goto 4, 3) := dk_167 0 4 (dk_at dksX1_in_0 11 rfl rfl)
theorem dX1_in_14 : decode cX1_in 14 = .ok (.iconst 0, 1) := dk_3 (dk_at dksX1_in_0 14 rfl rfl)
theorem dX1_in_15 : decode cX1_in 15 = .ok (.ireturn, 1) := dk_172 (dk_at dksX1_in_0 15 rfl rfl)
abbrev cX1_has : ByteArray := prog_1_method_39_code
def yX1_has : MethodName := ⟨RX1, "has", "(II)Z"⟩
def dkwX1_has_0 : List UInt8 := [26, 27, 122, 4, 126, 4, 160, 0, 7, 4, 167, 0, 4, 3, 172]
abbrev dktX1_has_0 : List UInt8 := dkwX1_has_0 ++ []
theorem dksX1_has_0 : cX1_has.data.toList.drop 0 = dktX1_has_0 := by decide +kernel
theorem dX1_has_0 : decode cX1_has 0 = .ok (.iload_n 0, 1) := dk_26 (dk_at dksX1_has_0 0 rfl rfl)
theorem dX1_has_1 : decode cX1_has 1 = .ok (.iload_n 1, 1) := dk_27 (dk_at dksX1_has_0 1 rfl rfl)
theorem dX1_has_2 : decode cX1_has 2 = .ok (.ishr, 1) := dk_122 (dk_at dksX1_has_0 2 rfl rfl)
theorem dX1_has_3 : decode cX1_has 3 = .ok (.iconst 1, 1) := dk_4 (dk_at dksX1_has_0 3 rfl rfl)
theorem dX1_has_4 : decode cX1_has 4 = .ok (.iand, 1) := dk_126 (dk_at dksX1_has_0 4 rfl rfl)
theorem dX1_has_5 : decode cX1_has 5 = .ok (.iconst 1, 1) := dk_4 (dk_at dksX1_has_0 5 rfl rfl)
theorem dX1_has_6 : decode cX1_has 6 = .ok (.if_icmp .ne 7, 3) := dk_160 0 7 (dk_at dksX1_has_0 6 rfl rfl)
theorem dX1_has_9 : decode cX1_has 9 = .ok (.iconst 1, 1) := dk_4 (dk_at dksX1_has_0 9 rfl rfl)
theorem dX1_has_10 : decode cX1_has 10 = .ok (.goto 4, 3) := dk_167 0 4 (dk_at dksX1_has_0 10 rfl rfl)
theorem dX1_has_13 : decode cX1_has 13 = .ok (.iconst 0, 1) := dk_3 (dk_at dksX1_has_0 13 rfl rfl)
theorem dX1_has_14 : decode cX1_has 14 = .ok (.ireturn, 1) := dk_172 (dk_at dksX1_has_0 14 rfl rfl)
abbrev cX1_pairs : ByteArray := prog_1_method_80_code
def yX1_pairs : MethodName := ⟨RX1, "pairs", "(Z)I"⟩
def dkwX1_pairs_2 : List UInt8 := [167, 255, 232, 29, 44, 182, 2, 116, 2, 130, 126, 172]
abbrev dktX1_pairs_2 : List UInt8 := dkwX1_pairs_2 ++ []
def dkwX1_pairs_1 : List UInt8 := [21, 4, 42, 180, 0, 10, 180, 0, 184, 162, 0, 18, 29, 44, 21, 4, 182, 2, 113, 128, 62, 132, 4, 1]
abbrev dktX1_pairs_1 : List UInt8 := dkwX1_pairs_1 ++ dktX1_pairs_2
def dkwX1_pairs_0 : List UInt8 := [42, 180, 0, 62, 182, 2, 108, 77, 27, 154, 0, 10, 44, 3, 3, 182, 2, 112, 172, 3, 62, 3, 54, 4]
abbrev dktX1_pairs_0 : List UInt8 := dkwX1_pairs_0 ++ dktX1_pairs_1
theorem dksX1_pairs_0 : cX1_pairs.data.toList.drop 0 = dktX1_pairs_0 := by decide +kernel
theorem dksX1_pairs_1 : cX1_pairs.data.toList.drop 24 = dktX1_pairs_1 := dk_seg dksX1_pairs_0 24 rfl rfl
theorem dksX1_pairs_2 : cX1_pairs.data.toList.drop 48 = dktX1_pairs_2 := dk_seg dksX1_pairs_1 24 rfl rfl
theorem dX1_pairs_0 : decode cX1_pairs 0 = .ok (.aload_n 0, 1) := dk_42 (dk_at dksX1_pairs_0 0 rfl rfl)
theorem dX1_pairs_1 : decode cX1_pairs 1 = .ok (.getfield 62, 3) := dk_180 0 62 (dk_at dksX1_pairs_0 1 rfl rfl)
theorem dX1_pairs_4 : decode cX1_pairs 4 = .ok (.invokevirtual 620, 3) := dk_182 2 108 (dk_at dksX1_pairs_0 4 rfl rfl)
theorem dX1_pairs_7 : decode cX1_pairs 7 = .ok (.astore_n 2, 1) := dk_77 (dk_at dksX1_pairs_0 7 rfl rfl)
theorem dX1_pairs_8 : decode cX1_pairs 8 = .ok (.iload_n 1, 1) := dk_27 (dk_at dksX1_pairs_0 8 rfl rfl)
theorem dX1_pairs_9 : decode cX1_pairs 9 = .ok (.ifCond .ne 10, 3) := dk_154 0 10 (dk_at dksX1_pairs_0 9 rfl rfl)
theorem dX1_pairs_12 : decode cX1_pairs 12 = .ok (.aload_n 2, 1) := dk_44 (dk_at dksX1_pairs_0 12 rfl rfl)
theorem dX1_pairs_13 : decode cX1_pairs 13 = .ok (.iconst 0, 1) := dk_3 (dk_at dksX1_pairs_0 13 rfl rfl)
theorem dX1_pairs_14 : decode cX1_pairs 14 = .ok (.iconst 0, 1) := dk_3 (dk_at dksX1_pairs_0 14 rfl rfl)
theorem dX1_pairs_15 : decode cX1_pairs 15 = .ok (.invokevirtual 624, 3) := dk_182 2 112 (dk_at dksX1_pairs_0 15 rfl rfl)
theorem dX1_pairs_18 : decode cX1_pairs 18 = .ok (.ireturn, 1) := dk_172 (dk_at dksX1_pairs_0 18 rfl rfl)
theorem dX1_pairs_19 : decode cX1_pairs 19 = .ok (.iconst 0, 1) := dk_3 (dk_at dksX1_pairs_0 19 rfl rfl)
theorem dX1_pairs_20 : decode cX1_pairs 20 = .ok (.istore_n 3, 1) := dk_62 (dk_at dksX1_pairs_0 20 rfl rfl)
theorem dX1_pairs_21 : decode cX1_pairs 21 = .ok (.iconst 0, 1) := dk_3 (dk_at dksX1_pairs_0 21 rfl rfl)
theorem dX1_pairs_22 : decode cX1_pairs 22 = .ok (.istore 4, 2) := dk_54 4 (dk_at dksX1_pairs_0 22 rfl rfl)
theorem dX1_pairs_24 : decode cX1_pairs 24 = .ok (.iload 4, 2) := dk_21 4 (dk_at dksX1_pairs_1 0 rfl rfl)
theorem dX1_pairs_26 : decode cX1_pairs 26 = .ok (.aload_n 0, 1) := dk_42 (dk_at dksX1_pairs_1 2 rfl rfl)
theorem dX1_pairs_27 : decode cX1_pairs 27 = .ok (.getfield 10, 3) := dk_180 0 10 (dk_at dksX1_pairs_1 3 rfl rfl)
theorem dX1_pairs_30 : decode cX1_pairs 30 = .ok (.getfield 184, 3) := dk_180 0 184 (dk_at dksX1_pairs_1 6 rfl rfl)
theorem dX1_pairs_33 : decode cX1_pairs 33 = .ok (.if_icmp .ge 18, 3) := dk_162 0 18 (dk_at dksX1_pairs_1 9 rfl rfl)
theorem dX1_pairs_36 : decode cX1_pairs 36 = .ok (.iload_n 3, 1) := dk_29 (dk_at dksX1_pairs_1 12 rfl rfl)
theorem dX1_pairs_37 : decode cX1_pairs 37 = .ok (.aload_n 2, 1) := dk_44 (dk_at dksX1_pairs_1 13 rfl rfl)
theorem dX1_pairs_38 : decode cX1_pairs 38 = .ok (.iload 4, 2) := dk_21 4 (dk_at dksX1_pairs_1 14 rfl rfl)
theorem dX1_pairs_40 : decode cX1_pairs 40 = .ok (.invokevirtual 625, 3) := dk_182 2 113 (dk_at dksX1_pairs_1 16 rfl rfl)
theorem dX1_pairs_43 : decode cX1_pairs 43 = .ok (.ior, 1) := dk_128 (dk_at dksX1_pairs_1 19 rfl rfl)
theorem dX1_pairs_44 : decode cX1_pairs 44 = .ok (.istore_n 3, 1) := dk_62 (dk_at dksX1_pairs_1 20 rfl rfl)
theorem dX1_pairs_45 : decode cX1_pairs 45 = .ok (.iinc 4 1, 3) := dk_132 4 1 (dk_at dksX1_pairs_1 21 rfl rfl)
theorem dX1_pairs_48 : decode cX1_pairs 48 = .ok (.goto (-24), 3) := dk_167 255 232 (dk_at dksX1_pairs_2 0 rfl rfl)
theorem dX1_pairs_51 : decode cX1_pairs 51 = .ok (.iload_n 3, 1) := dk_29 (dk_at dksX1_pairs_2 3 rfl rfl)
theorem dX1_pairs_52 : decode cX1_pairs 52 = .ok (.aload_n 2, 1) := dk_44 (dk_at dksX1_pairs_2 4 rfl rfl)
theorem dX1_pairs_53 : decode cX1_pairs 53 = .ok (.invokevirtual 628, 3) := dk_182 2 116 (dk_at dksX1_pairs_2 5 rfl rfl)
theorem dX1_pairs_56 : decode cX1_pairs 56 = .ok (.iconst (-1), 1) := dk_2 (dk_at dksX1_pairs_2 8 rfl rfl)
theorem dX1_pairs_57 : decode cX1_pairs 57 = .ok (.ixor, 1) := dk_130 (dk_at dksX1_pairs_2 9 rfl rfl)
theorem dX1_pairs_58 : decode cX1_pairs 58 = .ok (.iand, 1) := dk_126 (dk_at dksX1_pairs_2 10 rfl rfl)
theorem dX1_pairs_59 : decode cX1_pairs 59 = .ok (.ireturn, 1) := dk_172 (dk_at dksX1_pairs_2 11 rfl rfl)
abbrev cX1_still : ByteArray := prog_1_method_85_code
def yX1_still : MethodName := ⟨RX1, "still", "()I"⟩
def dkwX1_still_1 : List UInt8 := [172, 132, 2, 1, 167, 255, 238, 2, 172]
abbrev dktX1_still_1 : List UInt8 := dkwX1_still_1 ++ []
def dkwX1_still_0 : List UInt8 := [42, 180, 0, 69, 182, 2, 132, 76, 3, 61, 28, 16, 60, 163, 0, 18, 43, 182, 2, 153, 154, 0, 5, 28]
abbrev dktX1_still_0 : List UInt8 := dkwX1_still_0 ++ dktX1_still_1
theorem dksX1_still_0 : cX1_still.data.toList.drop 0 = dktX1_still_0 := by decide +kernel
theorem dksX1_still_1 : cX1_still.data.toList.drop 24 = dktX1_still_1 := dk_seg dksX1_still_0 24 rfl rfl
theorem dX1_still_0 : decode cX1_still 0 = .ok (.aload_n 0, 1) := dk_42 (dk_at dksX1_still_0 0 rfl rfl)
theorem dX1_still_1 : decode cX1_still 1 = .ok (.getfield 69, 3) := dk_180 0 69 (dk_at dksX1_still_0 1 rfl rfl)
theorem dX1_still_4 : decode cX1_still 4 = .ok (.invokevirtual 644, 3) := dk_182 2 132 (dk_at dksX1_still_0 4 rfl rfl)
theorem dX1_still_7 : decode cX1_still 7 = .ok (.astore_n 1, 1) := dk_76 (dk_at dksX1_still_0 7 rfl rfl)
theorem dX1_still_8 : decode cX1_still 8 = .ok (.iconst 0, 1) := dk_3 (dk_at dksX1_still_0 8 rfl rfl)
theorem dX1_still_9 : decode cX1_still 9 = .ok (.istore_n 2, 1) := dk_61 (dk_at dksX1_still_0 9 rfl rfl)
theorem dX1_still_10 : decode cX1_still 10 = .ok (.iload_n 2, 1) := dk_28 (dk_at dksX1_still_0 10 rfl rfl)
theorem dX1_still_11 : decode cX1_still 11 = .ok (.bipush 60, 2) := dk_16 60 (dk_at dksX1_still_0 11 rfl rfl)
theorem dX1_still_13 : decode cX1_still 13 = .ok (.if_icmp .gt 18, 3) := dk_163 0 18 (dk_at dksX1_still_0 13 rfl rfl)
theorem dX1_still_16 : decode cX1_still 16 = .ok (.aload_n 1, 1) := dk_43 (dk_at dksX1_still_0 16 rfl rfl)
theorem dX1_still_17 : decode cX1_still 17 = .ok (.invokevirtual 665, 3) := dk_182 2 153 (dk_at dksX1_still_0 17 rfl rfl)
theorem dX1_still_20 : decode cX1_still 20 = .ok (.ifCond .ne 5, 3) := dk_154 0 5 (dk_at dksX1_still_0 20 rfl rfl)
theorem dX1_still_23 : decode cX1_still 23 = .ok (.iload_n 2, 1) := dk_28 (dk_at dksX1_still_0 23 rfl rfl)
theorem dX1_still_24 : decode cX1_still 24 = .ok (.ireturn, 1) := dk_172 (dk_at dksX1_still_1 0 rfl rfl)
theorem dX1_still_25 : decode cX1_still 25 = .ok (.iinc 2 1, 3) := dk_132 2 1 (dk_at dksX1_still_1 1 rfl rfl)
theorem dX1_still_28 : decode cX1_still 28 = .ok (.goto (-18), 3) := dk_167 255 238 (dk_at dksX1_still_1 4 rfl rfl)
theorem dX1_still_31 : decode cX1_still 31 = .ok (.iconst (-1), 1) := dk_2 (dk_at dksX1_still_1 7 rfl rfl)
theorem dX1_still_32 : decode cX1_still 32 = .ok (.ireturn, 1) := dk_172 (dk_at dksX1_still_1 8 rfl rfl)
abbrev cX1_changed : ByteArray := prog_1_method_92_code
def yX1_changed : MethodName := ⟨RX1, "changed", "(Z)I"⟩
def dkwX1_changed_4 : List UInt8 := [132, 4, 1, 167, 255, 168, 27, 153, 0, 7, 29, 167, 0, 4, 28, 172]
abbrev dktX1_changed_4 : List UInt8 := dkwX1_changed_4 ++ []
def dkwX1_changed_3 : List UInt8 := [42, 21, 4, 4, 21, 6, 96, 182, 2, 175, 120, 128, 61, 132, 3, 1, 132, 6, 1, 167, 255, 197]
abbrev dktX1_changed_3 : List UInt8 := dkwX1_changed_3 ++ dktX1_changed_4
def dkwX1_changed_2 : List UInt8 := [21, 6, 96, 182, 2, 175, 42, 21, 5, 6, 21, 6, 96, 182, 2, 175, 160, 0, 6, 167, 0, 21, 28, 4]
abbrev dktX1_changed_2 : List UInt8 := dkwX1_changed_2 ++ dktX1_changed_3
def dkwX1_changed_1 : List UInt8 := [182, 2, 178, 54, 5, 3, 54, 6, 21, 6, 5, 162, 0, 59, 21, 5, 2, 159, 0, 53, 42, 21, 4, 6]
abbrev dktX1_changed_1 : List UInt8 := dkwX1_changed_1 ++ dktX1_changed_2
def dkwX1_changed_0 : List UInt8 := [3, 61, 3, 62, 3, 54, 4, 21, 4, 42, 180, 0, 10, 180, 2, 172, 162, 0, 82, 42, 21, 4]
abbrev dktX1_changed_0 : List UInt8 := dkwX1_changed_0 ++ dktX1_changed_1
theorem dksX1_changed_0 : cX1_changed.data.toList.drop 0 = dktX1_changed_0 := by decide +kernel
theorem dksX1_changed_1 : cX1_changed.data.toList.drop 22 = dktX1_changed_1 := dk_seg dksX1_changed_0 22 rfl rfl
theorem dksX1_changed_2 : cX1_changed.data.toList.drop 46 = dktX1_changed_2 := dk_seg dksX1_changed_1 24 rfl rfl
theorem dksX1_changed_3 : cX1_changed.data.toList.drop 70 = dktX1_changed_3 := dk_seg dksX1_changed_2 24 rfl rfl
theorem dksX1_changed_4 : cX1_changed.data.toList.drop 92 = dktX1_changed_4 := dk_seg dksX1_changed_3 22 rfl rfl
theorem dX1_changed_0 : decode cX1_changed 0 = .ok (.iconst 0, 1) := dk_3 (dk_at dksX1_changed_0 0 rfl rfl)
theorem dX1_changed_1 : decode cX1_changed 1 = .ok (.istore_n 2, 1) := dk_61 (dk_at dksX1_changed_0 1 rfl rfl)
theorem dX1_changed_2 : decode cX1_changed 2 = .ok (.iconst 0, 1) := dk_3 (dk_at dksX1_changed_0 2 rfl rfl)
theorem dX1_changed_3 : decode cX1_changed 3 = .ok (.istore_n 3, 1) := dk_62 (dk_at dksX1_changed_0 3 rfl rfl)
theorem dX1_changed_4 : decode cX1_changed 4 = .ok (.iconst 0, 1) := dk_3 (dk_at dksX1_changed_0 4 rfl rfl)
theorem dX1_changed_5 : decode cX1_changed 5 = .ok (.istore 4, 2) := dk_54 4 (dk_at dksX1_changed_0 5 rfl rfl)
theorem dX1_changed_7 : decode cX1_changed 7 = .ok (.iload 4, 2) := dk_21 4 (dk_at dksX1_changed_0 7 rfl rfl)
theorem dX1_changed_9 : decode cX1_changed 9 = .ok (.aload_n 0, 1) := dk_42 (dk_at dksX1_changed_0 9 rfl rfl)
theorem dX1_changed_10 : decode cX1_changed 10 = .ok (.getfield 10, 3) := dk_180 0 10 (dk_at dksX1_changed_0 10 rfl rfl)
theorem dX1_changed_13 : decode cX1_changed 13 = .ok (.getfield 684, 3) := dk_180 2 172 (dk_at dksX1_changed_0 13 rfl rfl)
theorem dX1_changed_16 : decode cX1_changed 16 = .ok (.if_icmp .ge 82, 3) := dk_162 0 82 (dk_at dksX1_changed_0 16 rfl rfl)
theorem dX1_changed_19 : decode cX1_changed 19 = .ok (.aload_n 0, 1) := dk_42 (dk_at dksX1_changed_0 19 rfl rfl)
theorem dX1_changed_20 : decode cX1_changed 20 = .ok (.iload 4, 2) := dk_21 4 (dk_at dksX1_changed_0 20 rfl rfl)
theorem dX1_changed_22 : decode cX1_changed 22 = .ok (.invokevirtual 690, 3) := dk_182 2 178 (dk_at dksX1_changed_1 0 rfl rfl)
theorem dX1_changed_25 : decode cX1_changed 25 = .ok (.istore 5, 2) := dk_54 5 (dk_at dksX1_changed_1 3 rfl rfl)
theorem dX1_changed_27 : decode cX1_changed 27 = .ok (.iconst 0, 1) := dk_3 (dk_at dksX1_changed_1 5 rfl rfl)
theorem dX1_changed_28 : decode cX1_changed 28 = .ok (.istore 6, 2) := dk_54 6 (dk_at dksX1_changed_1 6 rfl rfl)
theorem dX1_changed_30 : decode cX1_changed 30 = .ok (.iload 6, 2) := dk_21 6 (dk_at dksX1_changed_1 8 rfl rfl)
theorem dX1_changed_32 : decode cX1_changed 32 = .ok (.iconst 2, 1) := dk_5 (dk_at dksX1_changed_1 10 rfl rfl)
theorem dX1_changed_33 : decode cX1_changed 33 = .ok (.if_icmp .ge 59, 3) := dk_162 0 59 (dk_at dksX1_changed_1 11 rfl rfl)
theorem dX1_changed_36 : decode cX1_changed 36 = .ok (.iload 5, 2) := dk_21 5 (dk_at dksX1_changed_1 14 rfl rfl)
theorem dX1_changed_38 : decode cX1_changed 38 = .ok (.iconst (-1), 1) := dk_2 (dk_at dksX1_changed_1 16 rfl rfl)
theorem dX1_changed_39 : decode cX1_changed 39 = .ok (.if_icmp .eq 53, 3) := dk_159 0 53 (dk_at dksX1_changed_1 17 rfl rfl)
theorem dX1_changed_42 : decode cX1_changed 42 = .ok (.aload_n 0, 1) := dk_42 (dk_at dksX1_changed_1 20 rfl rfl)
theorem dX1_changed_43 : decode cX1_changed 43 = .ok (.iload 4, 2) := dk_21 4 (dk_at dksX1_changed_1 21 rfl rfl)
theorem dX1_changed_45 : decode cX1_changed 45 = .ok (.iconst 3, 1) := dk_6 (dk_at dksX1_changed_1 23 rfl rfl)
theorem dX1_changed_46 : decode cX1_changed 46 = .ok (.iload 6, 2) := dk_21 6 (dk_at dksX1_changed_2 0 rfl rfl)
theorem dX1_changed_48 : decode cX1_changed 48 = .ok (.iadd, 1) := dk_96 (dk_at dksX1_changed_2 2 rfl rfl)
theorem dX1_changed_49 : decode cX1_changed 49 = .ok (.invokevirtual 687, 3) := dk_182 2 175 (dk_at dksX1_changed_2 3 rfl rfl)
theorem dX1_changed_52 : decode cX1_changed 52 = .ok (.aload_n 0, 1) := dk_42 (dk_at dksX1_changed_2 6 rfl rfl)
theorem dX1_changed_53 : decode cX1_changed 53 = .ok (.iload 5, 2) := dk_21 5 (dk_at dksX1_changed_2 7 rfl rfl)
theorem dX1_changed_55 : decode cX1_changed 55 = .ok (.iconst 3, 1) := dk_6 (dk_at dksX1_changed_2 9 rfl rfl)
theorem dX1_changed_56 : decode cX1_changed 56 = .ok (.iload 6, 2) := dk_21 6 (dk_at dksX1_changed_2 10 rfl rfl)
theorem dX1_changed_58 : decode cX1_changed 58 = .ok (.iadd, 1) := dk_96 (dk_at dksX1_changed_2 12 rfl rfl)
theorem dX1_changed_59 : decode cX1_changed 59 = .ok (.invokevirtual 687, 3) := dk_182 2 175 (dk_at dksX1_changed_2 13 rfl rfl)
theorem dX1_changed_62 : decode cX1_changed 62 = .ok (.if_icmp .ne 6, 3) := dk_160 0 6 (dk_at dksX1_changed_2 16 rfl rfl)
theorem dX1_changed_65 : decode cX1_changed 65 = .ok (.goto 21, 3) := dk_167 0 21 (dk_at dksX1_changed_2 19 rfl rfl)
theorem dX1_changed_68 : decode cX1_changed 68 = .ok (.iload_n 2, 1) := dk_28 (dk_at dksX1_changed_2 22 rfl rfl)
theorem dX1_changed_69 : decode cX1_changed 69 = .ok (.iconst 1, 1) := dk_4 (dk_at dksX1_changed_2 23 rfl rfl)
theorem dX1_changed_70 : decode cX1_changed 70 = .ok (.aload_n 0, 1) := dk_42 (dk_at dksX1_changed_3 0 rfl rfl)
theorem dX1_changed_71 : decode cX1_changed 71 = .ok (.iload 4, 2) := dk_21 4 (dk_at dksX1_changed_3 1 rfl rfl)
theorem dX1_changed_73 : decode cX1_changed 73 = .ok (.iconst 1, 1) := dk_4 (dk_at dksX1_changed_3 3 rfl rfl)
theorem dX1_changed_74 : decode cX1_changed 74 = .ok (.iload 6, 2) := dk_21 6 (dk_at dksX1_changed_3 4 rfl rfl)
theorem dX1_changed_76 : decode cX1_changed 76 = .ok (.iadd, 1) := dk_96 (dk_at dksX1_changed_3 6 rfl rfl)
theorem dX1_changed_77 : decode cX1_changed 77 = .ok (.invokevirtual 687, 3) := dk_182 2 175 (dk_at dksX1_changed_3 7 rfl rfl)
theorem dX1_changed_80 : decode cX1_changed 80 = .ok (.ishl, 1) := dk_120 (dk_at dksX1_changed_3 10 rfl rfl)
theorem dX1_changed_81 : decode cX1_changed 81 = .ok (.ior, 1) := dk_128 (dk_at dksX1_changed_3 11 rfl rfl)
theorem dX1_changed_82 : decode cX1_changed 82 = .ok (.istore_n 2, 1) := dk_61 (dk_at dksX1_changed_3 12 rfl rfl)
theorem dX1_changed_83 : decode cX1_changed 83 = .ok (.iinc 3 1, 3) := dk_132 3 1 (dk_at dksX1_changed_3 13 rfl rfl)
theorem dX1_changed_86 : decode cX1_changed 86 = .ok (.iinc 6 1, 3) := dk_132 6 1 (dk_at dksX1_changed_3 16 rfl rfl)
theorem dX1_changed_89 : decode cX1_changed 89 = .ok (.goto (-59), 3) := dk_167 255 197 (dk_at dksX1_changed_3 19 rfl rfl)
theorem dX1_changed_92 : decode cX1_changed 92 = .ok (.iinc 4 1, 3) := dk_132 4 1 (dk_at dksX1_changed_4 0 rfl rfl)
theorem dX1_changed_95 : decode cX1_changed 95 = .ok (.goto (-88), 3) := dk_167 255 168 (dk_at dksX1_changed_4 3 rfl rfl)
theorem dX1_changed_98 : decode cX1_changed 98 = .ok (.iload_n 1, 1) := dk_27 (dk_at dksX1_changed_4 6 rfl rfl)
theorem dX1_changed_99 : decode cX1_changed 99 = .ok (.ifCond .eq 7, 3) := dk_153 0 7 (dk_at dksX1_changed_4 7 rfl rfl)
theorem dX1_changed_102 : decode cX1_changed 102 = .ok (.iload_n 3, 1) := dk_29 (dk_at dksX1_changed_4 10 rfl rfl)
theorem dX1_changed_103 : decode cX1_changed 103 = .ok (.goto 4, 3) := dk_167 0 4 (dk_at dksX1_changed_4 11 rfl rfl)
theorem dX1_changed_106 : decode cX1_changed 106 = .ok (.iload_n 2, 1) := dk_28 (dk_at dksX1_changed_4 14 rfl rfl)
theorem dX1_changed_107 : decode cX1_changed 107 = .ok (.ireturn, 1) := dk_172 (dk_at dksX1_changed_4 15 rfl rfl)
abbrev cX1_olderOf : ByteArray := prog_1_method_91_code
def yX1_olderOf : MethodName := ⟨RX1, "olderOf", "(I)I"⟩
def dkwX1_olderOf_2 : List UInt8 := [167, 255, 212, 28, 42, 180, 0, 10, 180, 2, 172, 162, 0, 7, 28, 167, 0, 4, 2, 172]
abbrev dktX1_olderOf_2 : List UInt8 := dkwX1_olderOf_2 ++ []
def dkwX1_olderOf_1 : List UInt8 := [182, 2, 175, 160, 0, 18, 42, 28, 5, 182, 2, 175, 42, 27, 5, 182, 2, 175, 159, 0, 9, 132, 2, 1]
abbrev dktX1_olderOf_1 : List UInt8 := dkwX1_olderOf_1 ++ dktX1_olderOf_2
def dkwX1_olderOf_0 : List UInt8 := [27, 4, 96, 61, 28, 42, 180, 0, 10, 180, 2, 172, 162, 0, 39, 42, 28, 4, 182, 2, 175, 42, 27, 4]
abbrev dktX1_olderOf_0 : List UInt8 := dkwX1_olderOf_0 ++ dktX1_olderOf_1
theorem dksX1_olderOf_0 : cX1_olderOf.data.toList.drop 0 = dktX1_olderOf_0 := by decide +kernel
theorem dksX1_olderOf_1 : cX1_olderOf.data.toList.drop 24 = dktX1_olderOf_1 := dk_seg dksX1_olderOf_0 24 rfl rfl
theorem dksX1_olderOf_2 : cX1_olderOf.data.toList.drop 48 = dktX1_olderOf_2 := dk_seg dksX1_olderOf_1 24 rfl rfl
theorem dX1_olderOf_0 : decode cX1_olderOf 0 = .ok (.iload_n 1, 1) := dk_27 (dk_at dksX1_olderOf_0 0 rfl rfl)
theorem dX1_olderOf_1 : decode cX1_olderOf 1 = .ok (.iconst 1, 1) := dk_4 (dk_at dksX1_olderOf_0 1 rfl rfl)
theorem dX1_olderOf_2 : decode cX1_olderOf 2 = .ok (.iadd, 1) := dk_96 (dk_at dksX1_olderOf_0 2 rfl rfl)
theorem dX1_olderOf_3 : decode cX1_olderOf 3 = .ok (.istore_n 2, 1) := dk_61 (dk_at dksX1_olderOf_0 3 rfl rfl)
theorem dX1_olderOf_4 : decode cX1_olderOf 4 = .ok (.iload_n 2, 1) := dk_28 (dk_at dksX1_olderOf_0 4 rfl rfl)
theorem dX1_olderOf_5 : decode cX1_olderOf 5 = .ok (.aload_n 0, 1) := dk_42 (dk_at dksX1_olderOf_0 5 rfl rfl)
theorem dX1_olderOf_6 : decode cX1_olderOf 6 = .ok (.getfield 10, 3) := dk_180 0 10 (dk_at dksX1_olderOf_0 6 rfl rfl)
theorem dX1_olderOf_9 : decode cX1_olderOf 9 = .ok (.getfield 684, 3) := dk_180 2 172 (dk_at dksX1_olderOf_0 9 rfl rfl)
theorem dX1_olderOf_12 : decode cX1_olderOf 12 = .ok (.if_icmp .ge 39, 3) := dk_162 0 39 (dk_at dksX1_olderOf_0 12 rfl rfl)
theorem dX1_olderOf_15 : decode cX1_olderOf 15 = .ok (.aload_n 0, 1) := dk_42 (dk_at dksX1_olderOf_0 15 rfl rfl)
theorem dX1_olderOf_16 : decode cX1_olderOf 16 = .ok (.iload_n 2, 1) := dk_28 (dk_at dksX1_olderOf_0 16 rfl rfl)
theorem dX1_olderOf_17 : decode cX1_olderOf 17 = .ok (.iconst 1, 1) := dk_4 (dk_at dksX1_olderOf_0 17 rfl rfl)
theorem dX1_olderOf_18 : decode cX1_olderOf 18 = .ok (.invokevirtual 687, 3) := dk_182 2 175 (dk_at dksX1_olderOf_0 18 rfl rfl)
theorem dX1_olderOf_21 : decode cX1_olderOf 21 = .ok (.aload_n 0, 1) := dk_42 (dk_at dksX1_olderOf_0 21 rfl rfl)
theorem dX1_olderOf_22 : decode cX1_olderOf 22 = .ok (.iload_n 1, 1) := dk_27 (dk_at dksX1_olderOf_0 22 rfl rfl)
theorem dX1_olderOf_23 : decode cX1_olderOf 23 = .ok (.iconst 1, 1) := dk_4 (dk_at dksX1_olderOf_0 23 rfl rfl)
theorem dX1_olderOf_24 : decode cX1_olderOf 24 = .ok (.invokevirtual 687, 3) := dk_182 2 175 (dk_at dksX1_olderOf_1 0 rfl rfl)
theorem dX1_olderOf_27 : decode cX1_olderOf 27 = .ok (.if_icmp .ne 18, 3) := dk_160 0 18 (dk_at dksX1_olderOf_1 3 rfl rfl)
theorem dX1_olderOf_30 : decode cX1_olderOf 30 = .ok (.aload_n 0, 1) := dk_42 (dk_at dksX1_olderOf_1 6 rfl rfl)
theorem dX1_olderOf_31 : decode cX1_olderOf 31 = .ok (.iload_n 2, 1) := dk_28 (dk_at dksX1_olderOf_1 7 rfl rfl)
theorem dX1_olderOf_32 : decode cX1_olderOf 32 = .ok (.iconst 2, 1) := dk_5 (dk_at dksX1_olderOf_1 8 rfl rfl)
theorem dX1_olderOf_33 : decode cX1_olderOf 33 = .ok (.invokevirtual 687, 3) := dk_182 2 175 (dk_at dksX1_olderOf_1 9 rfl rfl)
theorem dX1_olderOf_36 : decode cX1_olderOf 36 = .ok (.aload_n 0, 1) := dk_42 (dk_at dksX1_olderOf_1 12 rfl rfl)
theorem dX1_olderOf_37 : decode cX1_olderOf 37 = .ok (.iload_n 1, 1) := dk_27 (dk_at dksX1_olderOf_1 13 rfl rfl)
theorem dX1_olderOf_38 : decode cX1_olderOf 38 = .ok (.iconst 2, 1) := dk_5 (dk_at dksX1_olderOf_1 14 rfl rfl)
theorem dX1_olderOf_39 : decode cX1_olderOf 39 = .ok (.invokevirtual 687, 3) := dk_182 2 175 (dk_at dksX1_olderOf_1 15 rfl rfl)
theorem dX1_olderOf_42 : decode cX1_olderOf 42 = .ok (.if_icmp .eq 9, 3) := dk_159 0 9 (dk_at dksX1_olderOf_1 18 rfl rfl)
theorem dX1_olderOf_45 : decode cX1_olderOf 45 = .ok (.iinc 2 1, 3) := dk_132 2 1 (dk_at dksX1_olderOf_1 21 rfl rfl)
theorem dX1_olderOf_48 : decode cX1_olderOf 48 = .ok (.goto (-44), 3) := dk_167 255 212 (dk_at dksX1_olderOf_2 0 rfl rfl)
theorem dX1_olderOf_51 : decode cX1_olderOf 51 = .ok (.iload_n 2, 1) := dk_28 (dk_at dksX1_olderOf_2 3 rfl rfl)
theorem dX1_olderOf_52 : decode cX1_olderOf 52 = .ok (.aload_n 0, 1) := dk_42 (dk_at dksX1_olderOf_2 4 rfl rfl)
theorem dX1_olderOf_53 : decode cX1_olderOf 53 = .ok (.getfield 10, 3) := dk_180 0 10 (dk_at dksX1_olderOf_2 5 rfl rfl)
theorem dX1_olderOf_56 : decode cX1_olderOf 56 = .ok (.getfield 684, 3) := dk_180 2 172 (dk_at dksX1_olderOf_2 8 rfl rfl)
theorem dX1_olderOf_59 : decode cX1_olderOf 59 = .ok (.if_icmp .ge 7, 3) := dk_162 0 7 (dk_at dksX1_olderOf_2 11 rfl rfl)
theorem dX1_olderOf_62 : decode cX1_olderOf 62 = .ok (.iload_n 2, 1) := dk_28 (dk_at dksX1_olderOf_2 14 rfl rfl)
theorem dX1_olderOf_63 : decode cX1_olderOf 63 = .ok (.goto 4, 3) := dk_167 0 4 (dk_at dksX1_olderOf_2 15 rfl rfl)
theorem dX1_olderOf_66 : decode cX1_olderOf 66 = .ok (.iconst (-1), 1) := dk_2 (dk_at dksX1_olderOf_2 18 rfl rfl)
theorem dX1_olderOf_67 : decode cX1_olderOf 67 = .ok (.ireturn, 1) := dk_172 (dk_at dksX1_olderOf_2 19 rfl rfl)
abbrev cX1_ofLog : ByteArray := prog_1_method_90_code
def yX1_ofLog : MethodName := ⟨RX1, "ofLog", "(II)I"⟩
def dkwX1_ofLog_0 : List UInt8 := [42, 180, 0, 10, 180, 2, 169, 16, 8, 27, 104, 28, 96, 46, 172]
abbrev dktX1_ofLog_0 : List UInt8 := dkwX1_ofLog_0 ++ []
theorem dksX1_ofLog_0 : cX1_ofLog.data.toList.drop 0 = dktX1_ofLog_0 := by decide +kernel
theorem dX1_ofLog_0 : decode cX1_ofLog 0 = .ok (.aload_n 0, 1) := dk_42 (dk_at dksX1_ofLog_0 0 rfl rfl)
theorem dX1_ofLog_1 : decode cX1_ofLog 1 = .ok (.getfield 10, 3) := dk_180 0 10 (dk_at dksX1_ofLog_0 1 rfl rfl)
theorem dX1_ofLog_4 : decode cX1_ofLog 4 = .ok (.getfield 681, 3) := dk_180 2 169 (dk_at dksX1_ofLog_0 4 rfl rfl)
theorem dX1_ofLog_7 : decode cX1_ofLog 7 = .ok (.bipush 8, 2) := dk_16 8 (dk_at dksX1_ofLog_0 7 rfl rfl)
theorem dX1_ofLog_9 : decode cX1_ofLog 9 = .ok (.iload_n 1, 1) := dk_27 (dk_at dksX1_ofLog_0 9 rfl rfl)
theorem dX1_ofLog_10 : decode cX1_ofLog 10 = .ok (.imul, 1) := dk_104 (dk_at dksX1_ofLog_0 10 rfl rfl)
theorem dX1_ofLog_11 : decode cX1_ofLog 11 = .ok (.iload_n 2, 1) := dk_28 (dk_at dksX1_ofLog_0 11 rfl rfl)
theorem dX1_ofLog_12 : decode cX1_ofLog 12 = .ok (.iadd, 1) := dk_96 (dk_at dksX1_ofLog_0 12 rfl rfl)
theorem dX1_ofLog_13 : decode cX1_ofLog 13 = .ok (.iaload, 1) := dk_46 (dk_at dksX1_ofLog_0 13 rfl rfl)
theorem dX1_ofLog_14 : decode cX1_ofLog 14 = .ok (.ireturn, 1) := dk_172 (dk_at dksX1_ofLog_0 14 rfl rfl)
abbrev cX1_seed : ByteArray := prog_1_method_98_code
def yX1_seed : MethodName := ⟨RX1, "seed", "(I)I"⟩
def dkwX1_seed_0 : List UInt8 := [42, 180, 0, 10, 180, 2, 187, 61, 42, 180, 0, 10, 27, 181, 2, 187, 28, 172]
abbrev dktX1_seed_0 : List UInt8 := dkwX1_seed_0 ++ []
theorem dksX1_seed_0 : cX1_seed.data.toList.drop 0 = dktX1_seed_0 := by decide +kernel
theorem dX1_seed_0 : decode cX1_seed 0 = .ok (.aload_n 0, 1) := dk_42 (dk_at dksX1_seed_0 0 rfl rfl)
theorem dX1_seed_1 : decode cX1_seed 1 = .ok (.getfield 10, 3) := dk_180 0 10 (dk_at dksX1_seed_0 1 rfl rfl)
theorem dX1_seed_4 : decode cX1_seed 4 = .ok (.getfield 699, 3) := dk_180 2 187 (dk_at dksX1_seed_0 4 rfl rfl)
theorem dX1_seed_7 : decode cX1_seed 7 = .ok (.istore_n 2, 1) := dk_61 (dk_at dksX1_seed_0 7 rfl rfl)
theorem dX1_seed_8 : decode cX1_seed 8 = .ok (.aload_n 0, 1) := dk_42 (dk_at dksX1_seed_0 8 rfl rfl)
theorem dX1_seed_9 : decode cX1_seed 9 = .ok (.getfield 10, 3) := dk_180 0 10 (dk_at dksX1_seed_0 9 rfl rfl)
theorem dX1_seed_12 : decode cX1_seed 12 = .ok (.iload_n 1, 1) := dk_27 (dk_at dksX1_seed_0 12 rfl rfl)
theorem dX1_seed_13 : decode cX1_seed 13 = .ok (.putfield 699, 3) := dk_181 2 187 (dk_at dksX1_seed_0 13 rfl rfl)
theorem dX1_seed_16 : decode cX1_seed 16 = .ok (.iload_n 2, 1) := dk_28 (dk_at dksX1_seed_0 16 rfl rfl)
theorem dX1_seed_17 : decode cX1_seed 17 = .ok (.ireturn, 1) := dk_172 (dk_at dksX1_seed_0 17 rfl rfl)
abbrev cX1_undo : ByteArray := prog_1_method_99_code
def yX1_undo : MethodName := ⟨RX1, "undo", "()Z"⟩
def dkwX1_undo_1 : List UInt8 := [182, 1, 110, 4, 100, 182, 1, 212, 192, 0, 7, 182, 0, 254, 87, 4, 172]
abbrev dktX1_undo_1 : List UInt8 := dkwX1_undo_1 ++ []
def dkwX1_undo_0 : List UInt8 := [42, 180, 0, 39, 182, 2, 190, 153, 0, 5, 3, 172, 42, 180, 0, 10, 42, 180, 0, 39, 42, 180, 0, 39]
abbrev dktX1_undo_0 : List UInt8 := dkwX1_undo_0 ++ dktX1_undo_1
theorem dksX1_undo_0 : cX1_undo.data.toList.drop 0 = dktX1_undo_0 := by decide +kernel
theorem dksX1_undo_1 : cX1_undo.data.toList.drop 24 = dktX1_undo_1 := dk_seg dksX1_undo_0 24 rfl rfl
theorem dX1_undo_0 : decode cX1_undo 0 = .ok (.aload_n 0, 1) := dk_42 (dk_at dksX1_undo_0 0 rfl rfl)
theorem dX1_undo_1 : decode cX1_undo 1 = .ok (.getfield 39, 3) := dk_180 0 39 (dk_at dksX1_undo_0 1 rfl rfl)
theorem dX1_undo_4 : decode cX1_undo 4 = .ok (.invokevirtual 702, 3) := dk_182 2 190 (dk_at dksX1_undo_0 4 rfl rfl)
theorem dX1_undo_7 : decode cX1_undo 7 = .ok (.ifCond .eq 5, 3) := dk_153 0 5 (dk_at dksX1_undo_0 7 rfl rfl)
theorem dX1_undo_10 : decode cX1_undo 10 = .ok (.iconst 0, 1) := dk_3 (dk_at dksX1_undo_0 10 rfl rfl)
theorem dX1_undo_11 : decode cX1_undo 11 = .ok (.ireturn, 1) := dk_172 (dk_at dksX1_undo_0 11 rfl rfl)
theorem dX1_undo_12 : decode cX1_undo 12 = .ok (.aload_n 0, 1) := dk_42 (dk_at dksX1_undo_0 12 rfl rfl)
theorem dX1_undo_13 : decode cX1_undo 13 = .ok (.getfield 10, 3) := dk_180 0 10 (dk_at dksX1_undo_0 13 rfl rfl)
theorem dX1_undo_16 : decode cX1_undo 16 = .ok (.aload_n 0, 1) := dk_42 (dk_at dksX1_undo_0 16 rfl rfl)
theorem dX1_undo_17 : decode cX1_undo 17 = .ok (.getfield 39, 3) := dk_180 0 39 (dk_at dksX1_undo_0 17 rfl rfl)
theorem dX1_undo_20 : decode cX1_undo 20 = .ok (.aload_n 0, 1) := dk_42 (dk_at dksX1_undo_0 20 rfl rfl)
theorem dX1_undo_21 : decode cX1_undo 21 = .ok (.getfield 39, 3) := dk_180 0 39 (dk_at dksX1_undo_0 21 rfl rfl)
theorem dX1_undo_24 : decode cX1_undo 24 = .ok (.invokevirtual 366, 3) := dk_182 1 110 (dk_at dksX1_undo_1 0 rfl rfl)
theorem dX1_undo_27 : decode cX1_undo 27 = .ok (.iconst 1, 1) := dk_4 (dk_at dksX1_undo_1 3 rfl rfl)
theorem dX1_undo_28 : decode cX1_undo 28 = .ok (.isub, 1) := dk_100 (dk_at dksX1_undo_1 4 rfl rfl)
theorem dX1_undo_29 : decode cX1_undo 29 = .ok (.invokevirtual 468, 3) := dk_182 1 212 (dk_at dksX1_undo_1 5 rfl rfl)
theorem dX1_undo_32 : decode cX1_undo 32 = .ok (.checkcast 7, 3) := dk_192 0 7 (dk_at dksX1_undo_1 8 rfl rfl)
theorem dX1_undo_35 : decode cX1_undo 35 = .ok (.invokevirtual 254, 3) := dk_182 0 254 (dk_at dksX1_undo_1 11 rfl rfl)
theorem dX1_undo_38 : decode cX1_undo 38 = .ok (.pop, 1) := dk_87 (dk_at dksX1_undo_1 14 rfl rfl)
theorem dX1_undo_39 : decode cX1_undo 39 = .ok (.iconst 1, 1) := dk_4 (dk_at dksX1_undo_1 15 rfl rfl)
theorem dX1_undo_40 : decode cX1_undo 40 = .ok (.ireturn, 1) := dk_172 (dk_at dksX1_undo_1 16 rfl rfl)
abbrev cX1_image : ByteArray := prog_1_method_100_code
def yX1_image : MethodName := ⟨RX1, "image", "()V"⟩
def dkwX1_image_0 : List UInt8 := [42, 4, 181, 2, 193, 42, 180, 0, 19, 42, 180, 0, 10, 182, 0, 254, 87, 177]
abbrev dktX1_image_0 : List UInt8 := dkwX1_image_0 ++ []
theorem dksX1_image_0 : cX1_image.data.toList.drop 0 = dktX1_image_0 := by decide +kernel
theorem dX1_image_0 : decode cX1_image 0 = .ok (.aload_n 0, 1) := dk_42 (dk_at dksX1_image_0 0 rfl rfl)
theorem dX1_image_1 : decode cX1_image 1 = .ok (.iconst 1, 1) := dk_4 (dk_at dksX1_image_0 1 rfl rfl)
theorem dX1_image_2 : decode cX1_image 2 = .ok (.putfield 705, 3) := dk_181 2 193 (dk_at dksX1_image_0 2 rfl rfl)
theorem dX1_image_5 : decode cX1_image 5 = .ok (.aload_n 0, 1) := dk_42 (dk_at dksX1_image_0 5 rfl rfl)
theorem dX1_image_6 : decode cX1_image 6 = .ok (.getfield 19, 3) := dk_180 0 19 (dk_at dksX1_image_0 6 rfl rfl)
theorem dX1_image_9 : decode cX1_image 9 = .ok (.aload_n 0, 1) := dk_42 (dk_at dksX1_image_0 9 rfl rfl)
theorem dX1_image_10 : decode cX1_image 10 = .ok (.getfield 10, 3) := dk_180 0 10 (dk_at dksX1_image_0 10 rfl rfl)
theorem dX1_image_13 : decode cX1_image 13 = .ok (.invokevirtual 254, 3) := dk_182 0 254 (dk_at dksX1_image_0 13 rfl rfl)
theorem dX1_image_16 : decode cX1_image 16 = .ok (.pop, 1) := dk_87 (dk_at dksX1_image_0 16 rfl rfl)
theorem dX1_image_17 : decode cX1_image 17 = .ok (.return_, 1) := dk_177 (dk_at dksX1_image_0 17 rfl rfl)
abbrev cX1_back : ByteArray := prog_1_method_101_code
def yX1_back : MethodName := ⟨RX1, "back", "()Z"⟩
def dkwX1_back_1 : List UInt8 := [180, 0, 39, 182, 1, 16, 4, 172]
abbrev dktX1_back_1 : List UInt8 := dkwX1_back_1 ++ []
def dkwX1_back_0 : List UInt8 := [42, 180, 2, 193, 154, 0, 5, 3, 172, 42, 180, 0, 10, 42, 180, 0, 19, 182, 0, 254, 87, 42]
abbrev dktX1_back_0 : List UInt8 := dkwX1_back_0 ++ dktX1_back_1
theorem dksX1_back_0 : cX1_back.data.toList.drop 0 = dktX1_back_0 := by decide +kernel
theorem dksX1_back_1 : cX1_back.data.toList.drop 22 = dktX1_back_1 := dk_seg dksX1_back_0 22 rfl rfl
theorem dX1_back_0 : decode cX1_back 0 = .ok (.aload_n 0, 1) := dk_42 (dk_at dksX1_back_0 0 rfl rfl)
theorem dX1_back_1 : decode cX1_back 1 = .ok (.getfield 705, 3) := dk_180 2 193 (dk_at dksX1_back_0 1 rfl rfl)
theorem dX1_back_4 : decode cX1_back 4 = .ok (.ifCond .ne 5, 3) := dk_154 0 5 (dk_at dksX1_back_0 4 rfl rfl)
theorem dX1_back_7 : decode cX1_back 7 = .ok (.iconst 0, 1) := dk_3 (dk_at dksX1_back_0 7 rfl rfl)
theorem dX1_back_8 : decode cX1_back 8 = .ok (.ireturn, 1) := dk_172 (dk_at dksX1_back_0 8 rfl rfl)
theorem dX1_back_9 : decode cX1_back 9 = .ok (.aload_n 0, 1) := dk_42 (dk_at dksX1_back_0 9 rfl rfl)
theorem dX1_back_10 : decode cX1_back 10 = .ok (.getfield 10, 3) := dk_180 0 10 (dk_at dksX1_back_0 10 rfl rfl)
theorem dX1_back_13 : decode cX1_back 13 = .ok (.aload_n 0, 1) := dk_42 (dk_at dksX1_back_0 13 rfl rfl)
theorem dX1_back_14 : decode cX1_back 14 = .ok (.getfield 19, 3) := dk_180 0 19 (dk_at dksX1_back_0 14 rfl rfl)
theorem dX1_back_17 : decode cX1_back 17 = .ok (.invokevirtual 254, 3) := dk_182 0 254 (dk_at dksX1_back_0 17 rfl rfl)
theorem dX1_back_20 : decode cX1_back 20 = .ok (.pop, 1) := dk_87 (dk_at dksX1_back_0 20 rfl rfl)
theorem dX1_back_21 : decode cX1_back 21 = .ok (.aload_n 0, 1) := dk_42 (dk_at dksX1_back_0 21 rfl rfl)
theorem dX1_back_22 : decode cX1_back 22 = .ok (.getfield 39, 3) := dk_180 0 39 (dk_at dksX1_back_1 0 rfl rfl)
theorem dX1_back_25 : decode cX1_back 25 = .ok (.invokevirtual 272, 3) := dk_182 1 16 (dk_at dksX1_back_1 3 rfl rfl)
theorem dX1_back_28 : decode cX1_back 28 = .ok (.iconst 1, 1) := dk_4 (dk_at dksX1_back_1 6 rfl rfl)
theorem dX1_back_29 : decode cX1_back 29 = .ok (.ireturn, 1) := dk_172 (dk_at dksX1_back_1 7 rfl rfl)
abbrev cX1_count : ByteArray := prog_1_method_102_code
def yX1_count : MethodName := ⟨RX1, "count", "(I)I"⟩
def dkwX1_count_6 : List UInt8 := [180, 0, 225, 172, 44, 180, 0, 227, 172, 2, 172]
abbrev dktX1_count_6 : List UInt8 := dkwX1_count_6 ++ []
def dkwX1_count_5 : List UInt8 := [44, 182, 2, 163, 172, 44, 180, 2, 172, 172, 42, 180, 0, 39, 182, 1, 110, 172, 44, 180, 0, 223, 172, 44]
abbrev dktX1_count_5 : List UInt8 := dkwX1_count_5 ++ dktX1_count_6
def dkwX1_count_4 : List UInt8 := [180, 1, 141, 172, 44, 180, 1, 255, 172, 44, 180, 2, 2, 172, 44, 180, 1, 219, 172, 44, 180, 1, 244, 172]
abbrev dktX1_count_4 : List UInt8 := dkwX1_count_4 ++ dktX1_count_5
def dkwX1_count_3 : List UInt8 := [172, 44, 180, 1, 121, 199, 0, 7, 2, 167, 0, 13, 44, 180, 1, 121, 180, 1, 107, 182, 1, 110, 172, 44]
abbrev dktX1_count_3 : List UInt8 := dkwX1_count_3 ++ dktX1_count_4
def dkwX1_count_2 : List UInt8 := [44, 180, 0, 137, 172, 44, 180, 0, 131, 172, 44, 180, 0, 154, 172, 44, 180, 0, 184, 172, 44, 180, 1, 10]
abbrev dktX1_count_2 : List UInt8 := dkwX1_count_2 ++ dktX1_count_3
def dkwX1_count_1 : List UInt8 := [170, 0, 0, 0, 0, 187, 0, 0, 0, 0, 0, 0, 0, 16, 0, 0, 0, 82, 0, 0, 0, 87, 0, 0, 0, 92, 0, 0, 0, 97, 0, 0, 0, 102, 0, 0, 0, 107, 0, 0, 0, 129, 0, 0, 0, 134, 0, 0, 0, 139, 0, 0, 0, 144, 0, 0, 0, 149, 0, 0, 0, 154, 0, 0, 0, 159, 0, 0, 0, 164, 0, 0, 0, 172, 0, 0, 0, 177, 0, 0, 0, 182]
abbrev dktX1_count_1 : List UInt8 := dkwX1_count_1 ++ dktX1_count_2
def dkwX1_count_0 : List UInt8 := [42, 180, 0, 10, 77, 27]
abbrev dktX1_count_0 : List UInt8 := dkwX1_count_0 ++ dktX1_count_1
theorem dksX1_count_0 : cX1_count.data.toList.drop 0 = dktX1_count_0 := by decide +kernel
theorem dksX1_count_1 : cX1_count.data.toList.drop 6 = dktX1_count_1 := dk_seg dksX1_count_0 6 rfl rfl
theorem dksX1_count_2 : cX1_count.data.toList.drop 88 = dktX1_count_2 := dk_seg dksX1_count_1 82 rfl rfl
theorem dksX1_count_3 : cX1_count.data.toList.drop 112 = dktX1_count_3 := dk_seg dksX1_count_2 24 rfl rfl
theorem dksX1_count_4 : cX1_count.data.toList.drop 136 = dktX1_count_4 := dk_seg dksX1_count_3 24 rfl rfl
theorem dksX1_count_5 : cX1_count.data.toList.drop 160 = dktX1_count_5 := dk_seg dksX1_count_4 24 rfl rfl
theorem dksX1_count_6 : cX1_count.data.toList.drop 184 = dktX1_count_6 := dk_seg dksX1_count_5 24 rfl rfl
theorem dX1_count_0 : decode cX1_count 0 = .ok (.aload_n 0, 1) := dk_42 (dk_at dksX1_count_0 0 rfl rfl)
theorem dX1_count_1 : decode cX1_count 1 = .ok (.getfield 10, 3) := dk_180 0 10 (dk_at dksX1_count_0 1 rfl rfl)
theorem dX1_count_4 : decode cX1_count 4 = .ok (.astore_n 2, 1) := dk_77 (dk_at dksX1_count_0 4 rfl rfl)
theorem dX1_count_5 : decode cX1_count 5 = .ok (.iload_n 1, 1) := dk_27 (dk_at dksX1_count_0 5 rfl rfl)
theorem dX1_count_6 : decode cX1_count 6 = .ok (.tableswitch 187 0 16 #[82, 87, 92, 97, 102, 107, 129, 134, 139, 144, 149, 154, 159, 164, 172, 177, 182], 82) := by decide +kernel
theorem dX1_count_88 : decode cX1_count 88 = .ok (.aload_n 2, 1) := dk_44 (dk_at dksX1_count_2 0 rfl rfl)
theorem dX1_count_89 : decode cX1_count 89 = .ok (.getfield 137, 3) := dk_180 0 137 (dk_at dksX1_count_2 1 rfl rfl)
theorem dX1_count_92 : decode cX1_count 92 = .ok (.ireturn, 1) := dk_172 (dk_at dksX1_count_2 4 rfl rfl)
theorem dX1_count_93 : decode cX1_count 93 = .ok (.aload_n 2, 1) := dk_44 (dk_at dksX1_count_2 5 rfl rfl)
theorem dX1_count_94 : decode cX1_count 94 = .ok (.getfield 131, 3) := dk_180 0 131 (dk_at dksX1_count_2 6 rfl rfl)
theorem dX1_count_97 : decode cX1_count 97 = .ok (.ireturn, 1) := dk_172 (dk_at dksX1_count_2 9 rfl rfl)
theorem dX1_count_98 : decode cX1_count 98 = .ok (.aload_n 2, 1) := dk_44 (dk_at dksX1_count_2 10 rfl rfl)
theorem dX1_count_99 : decode cX1_count 99 = .ok (.getfield 154, 3) := dk_180 0 154 (dk_at dksX1_count_2 11 rfl rfl)
theorem dX1_count_102 : decode cX1_count 102 = .ok (.ireturn, 1) := dk_172 (dk_at dksX1_count_2 14 rfl rfl)
theorem dX1_count_103 : decode cX1_count 103 = .ok (.aload_n 2, 1) := dk_44 (dk_at dksX1_count_2 15 rfl rfl)
theorem dX1_count_104 : decode cX1_count 104 = .ok (.getfield 184, 3) := dk_180 0 184 (dk_at dksX1_count_2 16 rfl rfl)
theorem dX1_count_107 : decode cX1_count 107 = .ok (.ireturn, 1) := dk_172 (dk_at dksX1_count_2 19 rfl rfl)
theorem dX1_count_108 : decode cX1_count 108 = .ok (.aload_n 2, 1) := dk_44 (dk_at dksX1_count_2 20 rfl rfl)
theorem dX1_count_109 : decode cX1_count 109 = .ok (.getfield 266, 3) := dk_180 1 10 (dk_at dksX1_count_2 21 rfl rfl)
theorem dX1_count_112 : decode cX1_count 112 = .ok (.ireturn, 1) := dk_172 (dk_at dksX1_count_3 0 rfl rfl)
theorem dX1_count_113 : decode cX1_count 113 = .ok (.aload_n 2, 1) := dk_44 (dk_at dksX1_count_3 1 rfl rfl)
theorem dX1_count_114 : decode cX1_count 114 = .ok (.getfield 377, 3) := dk_180 1 121 (dk_at dksX1_count_3 2 rfl rfl)
theorem dX1_count_117 : decode cX1_count 117 = .ok (.ifnonnull 7, 3) := dk_199 0 7 (dk_at dksX1_count_3 5 rfl rfl)
theorem dX1_count_120 : decode cX1_count 120 = .ok (.iconst (-1), 1) := dk_2 (dk_at dksX1_count_3 8 rfl rfl)
theorem dX1_count_121 : decode cX1_count 121 = .ok (.goto 13, 3) := dk_167 0 13 (dk_at dksX1_count_3 9 rfl rfl)
theorem dX1_count_124 : decode cX1_count 124 = .ok (.aload_n 2, 1) := dk_44 (dk_at dksX1_count_3 12 rfl rfl)
theorem dX1_count_125 : decode cX1_count 125 = .ok (.getfield 377, 3) := dk_180 1 121 (dk_at dksX1_count_3 13 rfl rfl)
theorem dX1_count_128 : decode cX1_count 128 = .ok (.getfield 363, 3) := dk_180 1 107 (dk_at dksX1_count_3 16 rfl rfl)
theorem dX1_count_131 : decode cX1_count 131 = .ok (.invokevirtual 366, 3) := dk_182 1 110 (dk_at dksX1_count_3 19 rfl rfl)
theorem dX1_count_134 : decode cX1_count 134 = .ok (.ireturn, 1) := dk_172 (dk_at dksX1_count_3 22 rfl rfl)
theorem dX1_count_135 : decode cX1_count 135 = .ok (.aload_n 2, 1) := dk_44 (dk_at dksX1_count_3 23 rfl rfl)
theorem dX1_count_136 : decode cX1_count 136 = .ok (.getfield 397, 3) := dk_180 1 141 (dk_at dksX1_count_4 0 rfl rfl)
theorem dX1_count_139 : decode cX1_count 139 = .ok (.ireturn, 1) := dk_172 (dk_at dksX1_count_4 3 rfl rfl)
theorem dX1_count_140 : decode cX1_count 140 = .ok (.aload_n 2, 1) := dk_44 (dk_at dksX1_count_4 4 rfl rfl)
theorem dX1_count_141 : decode cX1_count 141 = .ok (.getfield 511, 3) := dk_180 1 255 (dk_at dksX1_count_4 5 rfl rfl)
theorem dX1_count_144 : decode cX1_count 144 = .ok (.ireturn, 1) := dk_172 (dk_at dksX1_count_4 8 rfl rfl)
theorem dX1_count_145 : decode cX1_count 145 = .ok (.aload_n 2, 1) := dk_44 (dk_at dksX1_count_4 9 rfl rfl)
theorem dX1_count_146 : decode cX1_count 146 = .ok (.getfield 514, 3) := dk_180 2 2 (dk_at dksX1_count_4 10 rfl rfl)
theorem dX1_count_149 : decode cX1_count 149 = .ok (.ireturn, 1) := dk_172 (dk_at dksX1_count_4 13 rfl rfl)
theorem dX1_count_150 : decode cX1_count 150 = .ok (.aload_n 2, 1) := dk_44 (dk_at dksX1_count_4 14 rfl rfl)
theorem dX1_count_151 : decode cX1_count 151 = .ok (.getfield 475, 3) := dk_180 1 219 (dk_at dksX1_count_4 15 rfl rfl)
theorem dX1_count_154 : decode cX1_count 154 = .ok (.ireturn, 1) := dk_172 (dk_at dksX1_count_4 18 rfl rfl)
theorem dX1_count_155 : decode cX1_count 155 = .ok (.aload_n 2, 1) := dk_44 (dk_at dksX1_count_4 19 rfl rfl)
theorem dX1_count_156 : decode cX1_count 156 = .ok (.getfield 500, 3) := dk_180 1 244 (dk_at dksX1_count_4 20 rfl rfl)
theorem dX1_count_159 : decode cX1_count 159 = .ok (.ireturn, 1) := dk_172 (dk_at dksX1_count_4 23 rfl rfl)
theorem dX1_count_160 : decode cX1_count 160 = .ok (.aload_n 2, 1) := dk_44 (dk_at dksX1_count_5 0 rfl rfl)
theorem dX1_count_161 : decode cX1_count 161 = .ok (.invokevirtual 675, 3) := dk_182 2 163 (dk_at dksX1_count_5 1 rfl rfl)
theorem dX1_count_164 : decode cX1_count 164 = .ok (.ireturn, 1) := dk_172 (dk_at dksX1_count_5 4 rfl rfl)
theorem dX1_count_165 : decode cX1_count 165 = .ok (.aload_n 2, 1) := dk_44 (dk_at dksX1_count_5 5 rfl rfl)
theorem dX1_count_166 : decode cX1_count 166 = .ok (.getfield 684, 3) := dk_180 2 172 (dk_at dksX1_count_5 6 rfl rfl)
theorem dX1_count_169 : decode cX1_count 169 = .ok (.ireturn, 1) := dk_172 (dk_at dksX1_count_5 9 rfl rfl)
theorem dX1_count_170 : decode cX1_count 170 = .ok (.aload_n 0, 1) := dk_42 (dk_at dksX1_count_5 10 rfl rfl)
theorem dX1_count_171 : decode cX1_count 171 = .ok (.getfield 39, 3) := dk_180 0 39 (dk_at dksX1_count_5 11 rfl rfl)
theorem dX1_count_174 : decode cX1_count 174 = .ok (.invokevirtual 366, 3) := dk_182 1 110 (dk_at dksX1_count_5 14 rfl rfl)
theorem dX1_count_177 : decode cX1_count 177 = .ok (.ireturn, 1) := dk_172 (dk_at dksX1_count_5 17 rfl rfl)
theorem dX1_count_178 : decode cX1_count 178 = .ok (.aload_n 2, 1) := dk_44 (dk_at dksX1_count_5 18 rfl rfl)
theorem dX1_count_179 : decode cX1_count 179 = .ok (.getfield 223, 3) := dk_180 0 223 (dk_at dksX1_count_5 19 rfl rfl)
theorem dX1_count_182 : decode cX1_count 182 = .ok (.ireturn, 1) := dk_172 (dk_at dksX1_count_5 22 rfl rfl)
theorem dX1_count_183 : decode cX1_count 183 = .ok (.aload_n 2, 1) := dk_44 (dk_at dksX1_count_5 23 rfl rfl)
theorem dX1_count_184 : decode cX1_count 184 = .ok (.getfield 225, 3) := dk_180 0 225 (dk_at dksX1_count_6 0 rfl rfl)
theorem dX1_count_187 : decode cX1_count 187 = .ok (.ireturn, 1) := dk_172 (dk_at dksX1_count_6 3 rfl rfl)
theorem dX1_count_188 : decode cX1_count 188 = .ok (.aload_n 2, 1) := dk_44 (dk_at dksX1_count_6 4 rfl rfl)
theorem dX1_count_189 : decode cX1_count 189 = .ok (.getfield 227, 3) := dk_180 0 227 (dk_at dksX1_count_6 5 rfl rfl)
theorem dX1_count_192 : decode cX1_count 192 = .ok (.ireturn, 1) := dk_172 (dk_at dksX1_count_6 8 rfl rfl)
theorem dX1_count_193 : decode cX1_count 193 = .ok (.iconst (-1), 1) := dk_2 (dk_at dksX1_count_6 9 rfl rfl)
theorem dX1_count_194 : decode cX1_count 194 = .ok (.ireturn, 1) := dk_172 (dk_at dksX1_count_6 10 rfl rfl)
abbrev cX1_town : ByteArray := prog_1_method_21_code
def yX1_town : MethodName := ⟨RX1, "town", "()I"⟩
def dkwX1_town_4 : List UInt8 := [42, 180, 0, 10, 180, 1, 10, 172]
abbrev dktX1_town_4 : List UInt8 := dkwX1_town_4 ++ []
def dkwX1_town_3 : List UInt8 := [4, 96, 181, 1, 10, 42, 180, 0, 10, 42, 180, 0, 16, 182, 0, 254, 87, 42, 180, 0, 39, 182, 1, 16]
abbrev dktX1_town_3 : List UInt8 := dkwX1_town_3 ++ dktX1_town_4
def dkwX1_town_2 : List UInt8 := [180, 1, 10, 16, 12, 160, 0, 11, 187, 1, 13, 89, 183, 1, 15, 191, 42, 180, 0, 16, 89, 180, 1, 10]
abbrev dktX1_town_2 : List UInt8 := dkwX1_town_2 ++ dktX1_town_3
def dkwX1_town_1 : List UInt8 := [182, 1, 2, 42, 180, 0, 25, 2, 181, 0, 84, 167, 0, 8, 76, 42, 182, 1, 7, 42, 180, 0, 10]
abbrev dktX1_town_1 : List UInt8 := dkwX1_town_1 ++ dktX1_town_2
def dkwX1_town_0 : List UInt8 := [42, 180, 0, 25, 182, 0, 251, 42, 180, 0, 16, 42, 180, 0, 10, 182, 0, 254, 87, 42, 42, 180, 0, 16]
abbrev dktX1_town_0 : List UInt8 := dkwX1_town_0 ++ dktX1_town_1
theorem dksX1_town_0 : cX1_town.data.toList.drop 0 = dktX1_town_0 := by decide +kernel
theorem dksX1_town_1 : cX1_town.data.toList.drop 24 = dktX1_town_1 := dk_seg dksX1_town_0 24 rfl rfl
theorem dksX1_town_2 : cX1_town.data.toList.drop 47 = dktX1_town_2 := dk_seg dksX1_town_1 23 rfl rfl
theorem dksX1_town_3 : cX1_town.data.toList.drop 71 = dktX1_town_3 := dk_seg dksX1_town_2 24 rfl rfl
theorem dksX1_town_4 : cX1_town.data.toList.drop 95 = dktX1_town_4 := dk_seg dksX1_town_3 24 rfl rfl
theorem dX1_town_0 : decode cX1_town 0 = .ok (.aload_n 0, 1) := dk_42 (dk_at dksX1_town_0 0 rfl rfl)
theorem dX1_town_1 : decode cX1_town 1 = .ok (.getfield 25, 3) := dk_180 0 25 (dk_at dksX1_town_0 1 rfl rfl)
theorem dX1_town_4 : decode cX1_town 4 = .ok (.invokevirtual 251, 3) := dk_182 0 251 (dk_at dksX1_town_0 4 rfl rfl)
theorem dX1_town_7 : decode cX1_town 7 = .ok (.aload_n 0, 1) := dk_42 (dk_at dksX1_town_0 7 rfl rfl)
theorem dX1_town_8 : decode cX1_town 8 = .ok (.getfield 16, 3) := dk_180 0 16 (dk_at dksX1_town_0 8 rfl rfl)
theorem dX1_town_11 : decode cX1_town 11 = .ok (.aload_n 0, 1) := dk_42 (dk_at dksX1_town_0 11 rfl rfl)
theorem dX1_town_12 : decode cX1_town 12 = .ok (.getfield 10, 3) := dk_180 0 10 (dk_at dksX1_town_0 12 rfl rfl)
theorem dX1_town_15 : decode cX1_town 15 = .ok (.invokevirtual 254, 3) := dk_182 0 254 (dk_at dksX1_town_0 15 rfl rfl)
theorem dX1_town_18 : decode cX1_town 18 = .ok (.pop, 1) := dk_87 (dk_at dksX1_town_0 18 rfl rfl)
theorem dX1_town_19 : decode cX1_town 19 = .ok (.aload_n 0, 1) := dk_42 (dk_at dksX1_town_0 19 rfl rfl)
theorem dX1_town_20 : decode cX1_town 20 = .ok (.aload_n 0, 1) := dk_42 (dk_at dksX1_town_0 20 rfl rfl)
theorem dX1_town_21 : decode cX1_town 21 = .ok (.getfield 16, 3) := dk_180 0 16 (dk_at dksX1_town_0 21 rfl rfl)
theorem dX1_town_24 : decode cX1_town 24 = .ok (.invokevirtual 258, 3) := dk_182 1 2 (dk_at dksX1_town_1 0 rfl rfl)
theorem dX1_town_27 : decode cX1_town 27 = .ok (.aload_n 0, 1) := dk_42 (dk_at dksX1_town_1 3 rfl rfl)
theorem dX1_town_28 : decode cX1_town 28 = .ok (.getfield 25, 3) := dk_180 0 25 (dk_at dksX1_town_1 4 rfl rfl)
theorem dX1_town_31 : decode cX1_town 31 = .ok (.iconst (-1), 1) := dk_2 (dk_at dksX1_town_1 7 rfl rfl)
theorem dX1_town_32 : decode cX1_town 32 = .ok (.putfield 84, 3) := dk_181 0 84 (dk_at dksX1_town_1 8 rfl rfl)
theorem dX1_town_35 : decode cX1_town 35 = .ok (.goto 8, 3) := dk_167 0 8 (dk_at dksX1_town_1 11 rfl rfl)
theorem dX1_town_38 : decode cX1_town 38 = .ok (.astore_n 1, 1) := dk_76 (dk_at dksX1_town_1 14 rfl rfl)
theorem dX1_town_39 : decode cX1_town 39 = .ok (.aload_n 0, 1) := dk_42 (dk_at dksX1_town_1 15 rfl rfl)
theorem dX1_town_40 : decode cX1_town 40 = .ok (.invokevirtual 263, 3) := dk_182 1 7 (dk_at dksX1_town_1 16 rfl rfl)
theorem dX1_town_43 : decode cX1_town 43 = .ok (.aload_n 0, 1) := dk_42 (dk_at dksX1_town_1 19 rfl rfl)
theorem dX1_town_44 : decode cX1_town 44 = .ok (.getfield 10, 3) := dk_180 0 10 (dk_at dksX1_town_1 20 rfl rfl)
theorem dX1_town_47 : decode cX1_town 47 = .ok (.getfield 266, 3) := dk_180 1 10 (dk_at dksX1_town_2 0 rfl rfl)
theorem dX1_town_50 : decode cX1_town 50 = .ok (.bipush 12, 2) := dk_16 12 (dk_at dksX1_town_2 3 rfl rfl)
theorem dX1_town_52 : decode cX1_town 52 = .ok (.if_icmp .ne 11, 3) := dk_160 0 11 (dk_at dksX1_town_2 5 rfl rfl)
theorem dX1_town_55 : decode cX1_town 55 = .ok (.new 269, 3) := dk_187 1 13 (dk_at dksX1_town_2 8 rfl rfl)
theorem dX1_town_58 : decode cX1_town 58 = .ok (.dup, 1) := dk_89 (dk_at dksX1_town_2 11 rfl rfl)
theorem dX1_town_59 : decode cX1_town 59 = .ok (.invokespecial 271, 3) := dk_183 1 15 (dk_at dksX1_town_2 12 rfl rfl)
theorem dX1_town_62 : decode cX1_town 62 = .ok (.athrow, 1) := dk_191 (dk_at dksX1_town_2 15 rfl rfl)
theorem dX1_town_63 : decode cX1_town 63 = .ok (.aload_n 0, 1) := dk_42 (dk_at dksX1_town_2 16 rfl rfl)
theorem dX1_town_64 : decode cX1_town 64 = .ok (.getfield 16, 3) := dk_180 0 16 (dk_at dksX1_town_2 17 rfl rfl)
theorem dX1_town_67 : decode cX1_town 67 = .ok (.dup, 1) := dk_89 (dk_at dksX1_town_2 20 rfl rfl)
theorem dX1_town_68 : decode cX1_town 68 = .ok (.getfield 266, 3) := dk_180 1 10 (dk_at dksX1_town_2 21 rfl rfl)
theorem dX1_town_71 : decode cX1_town 71 = .ok (.iconst 1, 1) := dk_4 (dk_at dksX1_town_3 0 rfl rfl)
theorem dX1_town_72 : decode cX1_town 72 = .ok (.iadd, 1) := dk_96 (dk_at dksX1_town_3 1 rfl rfl)
theorem dX1_town_73 : decode cX1_town 73 = .ok (.putfield 266, 3) := dk_181 1 10 (dk_at dksX1_town_3 2 rfl rfl)
theorem dX1_town_76 : decode cX1_town 76 = .ok (.aload_n 0, 1) := dk_42 (dk_at dksX1_town_3 5 rfl rfl)
theorem dX1_town_77 : decode cX1_town 77 = .ok (.getfield 10, 3) := dk_180 0 10 (dk_at dksX1_town_3 6 rfl rfl)
theorem dX1_town_80 : decode cX1_town 80 = .ok (.aload_n 0, 1) := dk_42 (dk_at dksX1_town_3 9 rfl rfl)
theorem dX1_town_81 : decode cX1_town 81 = .ok (.getfield 16, 3) := dk_180 0 16 (dk_at dksX1_town_3 10 rfl rfl)
theorem dX1_town_84 : decode cX1_town 84 = .ok (.invokevirtual 254, 3) := dk_182 0 254 (dk_at dksX1_town_3 13 rfl rfl)
theorem dX1_town_87 : decode cX1_town 87 = .ok (.pop, 1) := dk_87 (dk_at dksX1_town_3 16 rfl rfl)
theorem dX1_town_88 : decode cX1_town 88 = .ok (.aload_n 0, 1) := dk_42 (dk_at dksX1_town_3 17 rfl rfl)
theorem dX1_town_89 : decode cX1_town 89 = .ok (.getfield 39, 3) := dk_180 0 39 (dk_at dksX1_town_3 18 rfl rfl)
theorem dX1_town_92 : decode cX1_town 92 = .ok (.invokevirtual 272, 3) := dk_182 1 16 (dk_at dksX1_town_3 21 rfl rfl)
theorem dX1_town_95 : decode cX1_town 95 = .ok (.aload_n 0, 1) := dk_42 (dk_at dksX1_town_4 0 rfl rfl)
theorem dX1_town_96 : decode cX1_town 96 = .ok (.getfield 10, 3) := dk_180 0 10 (dk_at dksX1_town_4 1 rfl rfl)
theorem dX1_town_99 : decode cX1_town 99 = .ok (.getfield 266, 3) := dk_180 1 10 (dk_at dksX1_town_4 4 rfl rfl)
theorem dX1_town_102 : decode cX1_town 102 = .ok (.ireturn, 1) := dk_172 (dk_at dksX1_town_4 7 rfl rfl)
abbrev cX1_townText : ByteArray := prog_1_method_17_code
def yX1_townText : MethodName := ⟨RX1, "townText", "(LCheekTown$World;)V"⟩
def dkwX1_townText_1 : List UInt8 := [182, 0, 236, 132, 2, 1, 42, 182, 0, 239, 154, 255, 237, 177]
abbrev dktX1_townText_1 : List UInt8 := dkwX1_townText_1 ++ []
def dkwX1_townText_0 : List UInt8 := [42, 180, 0, 25, 182, 0, 229, 153, 0, 4, 177, 3, 61, 42, 28, 16, 14, 182, 0, 233, 42, 43]
abbrev dktX1_townText_0 : List UInt8 := dkwX1_townText_0 ++ dktX1_townText_1
theorem dksX1_townText_0 : cX1_townText.data.toList.drop 0 = dktX1_townText_0 := by decide +kernel
theorem dksX1_townText_1 : cX1_townText.data.toList.drop 22 = dktX1_townText_1 := dk_seg dksX1_townText_0 22 rfl rfl
theorem dX1_townText_0 : decode cX1_townText 0 = .ok (.aload_n 0, 1) := dk_42 (dk_at dksX1_townText_0 0 rfl rfl)
theorem dX1_townText_1 : decode cX1_townText 1 = .ok (.getfield 25, 3) := dk_180 0 25 (dk_at dksX1_townText_0 1 rfl rfl)
theorem dX1_townText_4 : decode cX1_townText 4 = .ok (.invokevirtual 229, 3) := dk_182 0 229 (dk_at dksX1_townText_0 4 rfl rfl)
theorem dX1_townText_7 : decode cX1_townText 7 = .ok (.ifCond .eq 4, 3) := dk_153 0 4 (dk_at dksX1_townText_0 7 rfl rfl)
theorem dX1_townText_10 : decode cX1_townText 10 = .ok (.return_, 1) := dk_177 (dk_at dksX1_townText_0 10 rfl rfl)
theorem dX1_townText_11 : decode cX1_townText 11 = .ok (.iconst 0, 1) := dk_3 (dk_at dksX1_townText_0 11 rfl rfl)
theorem dX1_townText_12 : decode cX1_townText 12 = .ok (.istore_n 2, 1) := dk_61 (dk_at dksX1_townText_0 12 rfl rfl)
theorem dX1_townText_13 : decode cX1_townText 13 = .ok (.aload_n 0, 1) := dk_42 (dk_at dksX1_townText_0 13 rfl rfl)
theorem dX1_townText_14 : decode cX1_townText 14 = .ok (.iload_n 2, 1) := dk_28 (dk_at dksX1_townText_0 14 rfl rfl)
theorem dX1_townText_15 : decode cX1_townText 15 = .ok (.bipush 14, 2) := dk_16 14 (dk_at dksX1_townText_0 15 rfl rfl)
theorem dX1_townText_17 : decode cX1_townText 17 = .ok (.invokevirtual 233, 3) := dk_182 0 233 (dk_at dksX1_townText_0 17 rfl rfl)
theorem dX1_townText_20 : decode cX1_townText 20 = .ok (.aload_n 0, 1) := dk_42 (dk_at dksX1_townText_0 20 rfl rfl)
theorem dX1_townText_21 : decode cX1_townText 21 = .ok (.aload_n 1, 1) := dk_43 (dk_at dksX1_townText_0 21 rfl rfl)
theorem dX1_townText_22 : decode cX1_townText 22 = .ok (.invokevirtual 236, 3) := dk_182 0 236 (dk_at dksX1_townText_1 0 rfl rfl)
theorem dX1_townText_25 : decode cX1_townText 25 = .ok (.iinc 2 1, 3) := dk_132 2 1 (dk_at dksX1_townText_1 3 rfl rfl)
theorem dX1_townText_28 : decode cX1_townText 28 = .ok (.aload_n 0, 1) := dk_42 (dk_at dksX1_townText_1 6 rfl rfl)
theorem dX1_townText_29 : decode cX1_townText 29 = .ok (.invokevirtual 239, 3) := dk_182 0 239 (dk_at dksX1_townText_1 7 rfl rfl)
theorem dX1_townText_32 : decode cX1_townText 32 = .ok (.ifCond .ne (-19), 3) := dk_154 255 237 (dk_at dksX1_townText_1 10 rfl rfl)
theorem dX1_townText_35 : decode cX1_townText 35 = .ok (.return_, 1) := dk_177 (dk_at dksX1_townText_1 13 rfl rfl)
abbrev cX1_noMore : ByteArray := prog_1_method_18_code
def yX1_noMore : MethodName := ⟨RX1, "noMore", "(II)V"⟩
def dkwX1_noMore_0 : List UInt8 := [27, 28, 162, 0, 4, 177, 42, 180, 0, 25, 182, 0, 109, 87, 42, 180, 0, 25, 182, 0, 94, 191]
abbrev dktX1_noMore_0 : List UInt8 := dkwX1_noMore_0 ++ []
theorem dksX1_noMore_0 : cX1_noMore.data.toList.drop 0 = dktX1_noMore_0 := by decide +kernel
theorem dX1_noMore_0 : decode cX1_noMore 0 = .ok (.iload_n 1, 1) := dk_27 (dk_at dksX1_noMore_0 0 rfl rfl)
theorem dX1_noMore_1 : decode cX1_noMore 1 = .ok (.iload_n 2, 1) := dk_28 (dk_at dksX1_noMore_0 1 rfl rfl)
theorem dX1_noMore_2 : decode cX1_noMore 2 = .ok (.if_icmp .ge 4, 3) := dk_162 0 4 (dk_at dksX1_noMore_0 2 rfl rfl)
theorem dX1_noMore_5 : decode cX1_noMore 5 = .ok (.return_, 1) := dk_177 (dk_at dksX1_noMore_0 5 rfl rfl)
theorem dX1_noMore_6 : decode cX1_noMore 6 = .ok (.aload_n 0, 1) := dk_42 (dk_at dksX1_noMore_0 6 rfl rfl)
theorem dX1_noMore_7 : decode cX1_noMore 7 = .ok (.getfield 25, 3) := dk_180 0 25 (dk_at dksX1_noMore_0 7 rfl rfl)
theorem dX1_noMore_10 : decode cX1_noMore 10 = .ok (.invokevirtual 109, 3) := dk_182 0 109 (dk_at dksX1_noMore_0 10 rfl rfl)
theorem dX1_noMore_13 : decode cX1_noMore 13 = .ok (.pop, 1) := dk_87 (dk_at dksX1_noMore_0 13 rfl rfl)
theorem dX1_noMore_14 : decode cX1_noMore 14 = .ok (.aload_n 0, 1) := dk_42 (dk_at dksX1_noMore_0 14 rfl rfl)
theorem dX1_noMore_15 : decode cX1_noMore 15 = .ok (.getfield 25, 3) := dk_180 0 25 (dk_at dksX1_noMore_0 15 rfl rfl)
theorem dX1_noMore_18 : decode cX1_noMore 18 = .ok (.invokevirtual 94, 3) := dk_182 0 94 (dk_at dksX1_noMore_0 18 rfl rfl)
theorem dX1_noMore_21 : decode cX1_noMore 21 = .ok (.athrow, 1) := dk_191 (dk_at dksX1_noMore_0 21 rfl rfl)
abbrev cX1_townLine : ByteArray := prog_1_method_16_code
def yX1_townLine : MethodName := ⟨RX1, "townLine", "(LCheekTown$World;)V"⟩
def dkwX1_townLine_12 : List UInt8 := [182, 0, 106, 181, 0, 225, 177, 43, 44, 3, 16, 99, 182, 0, 106, 181, 0, 227, 177, 44, 182, 0, 94, 191]
abbrev dktX1_townLine_12 : List UInt8 := dkwX1_townLine_12 ++ []
def dkwX1_townLine_11 : List UInt8 := [177, 42, 43, 182, 0, 220, 177, 43, 44, 3, 16, 99, 182, 0, 106, 181, 0, 223, 177, 43, 44, 3, 16, 99]
abbrev dktX1_townLine_11 : List UInt8 := dkwX1_townLine_11 ++ dktX1_townLine_12
def dkwX1_townLine_10 : List UInt8 := [177, 42, 43, 182, 0, 213, 177, 42, 43, 182, 0, 217, 177, 43, 180, 0, 171, 42, 43, 182, 0, 187, 4, 84]
abbrev dktX1_townLine_10 : List UInt8 := dkwX1_townLine_10 ++ dktX1_townLine_11
def dkwX1_townLine_9 : List UInt8 := [43, 180, 0, 137, 16, 6, 160, 0, 8, 44, 182, 0, 94, 191, 43, 89, 180, 0, 137, 4, 96, 181, 0, 137]
abbrev dktX1_townLine_9 : List UInt8 := dkwX1_townLine_9 ++ dktX1_townLine_10
def dkwX1_townLine_8 : List UInt8 := [170, 0, 0, 0, 0, 0, 138, 0, 0, 0, 0, 0, 0, 0, 7, 0, 0, 0, 47, 0, 0, 0, 72, 0, 0, 0, 78, 0, 0, 0, 84, 0, 0, 0, 96, 0, 0, 0, 102, 0, 0, 0, 114, 0, 0, 0, 126]
abbrev dktX1_townLine_8 : List UInt8 := dkwX1_townLine_8 ++ dktX1_townLine_9
def dkwX1_townLine_7 : List UInt8 := [21, 4]
abbrev dktX1_townLine_7 : List UInt8 := dkwX1_townLine_7 ++ dktX1_townLine_8
def dkwX1_townLine_6 : List UInt8 := [153, 0, 23, 16, 6, 54, 4, 167, 0, 16, 45, 18, 211, 182, 0, 115, 153, 0, 7, 16, 7, 54, 4]
abbrev dktX1_townLine_6 : List UInt8 := dkwX1_townLine_6 ++ dktX1_townLine_7
def dkwX1_townLine_5 : List UInt8 := [167, 0, 47, 45, 18, 207, 182, 0, 115, 153, 0, 38, 8, 54, 4, 167, 0, 32, 45, 18, 209, 182, 0, 115]
abbrev dktX1_townLine_5 : List UInt8 := dkwX1_townLine_5 ++ dktX1_townLine_6
def dkwX1_townLine_4 : List UInt8 := [182, 0, 115, 153, 0, 68, 6, 54, 4, 167, 0, 62, 45, 18, 205, 182, 0, 115, 153, 0, 53, 7, 54, 4]
abbrev dktX1_townLine_4 : List UInt8 := dkwX1_townLine_4 ++ dktX1_townLine_5
def dkwX1_townLine_3 : List UInt8 := [4, 54, 4, 167, 0, 92, 45, 18, 202, 182, 0, 115, 153, 0, 83, 5, 54, 4, 167, 0, 77, 45, 18, 204]
abbrev dktX1_townLine_3 : List UInt8 := dkwX1_townLine_3 ++ dktX1_townLine_4
def dkwX1_townLine_2 : List UInt8 := [45, 18, 200, 182, 0, 115, 153, 0, 113, 3, 54, 4, 167, 0, 107, 45, 18, 201, 182, 0, 115, 153, 0, 98]
abbrev dktX1_townLine_2 : List UInt8 := dkwX1_townLine_2 ++ dktX1_townLine_3
def dkwX1_townLine_1 : List UInt8 := [171, 0, 0, 0, 0, 0, 194, 0, 0, 0, 8, 143, 173, 252, 39, 0, 0, 0, 150, 196, 227, 155, 85, 0, 0, 0, 105, 0, 1, 121, 74, 0, 0, 0, 165, 0, 1, 192, 144, 0, 0, 0, 135, 0, 46, 174, 228, 0, 0, 0, 120, 0, 50, 145, 235, 0, 0, 0, 75, 5, 231, 33, 116, 0, 0, 0, 90, 6, 66, 75, 0, 0, 0, 0, 181]
abbrev dktX1_townLine_1 : List UInt8 := dkwX1_townLine_1 ++ dktX1_townLine_2
def dkwX1_townLine_0 : List UInt8 := [42, 180, 0, 25, 77, 44, 182, 0, 109, 78, 2, 54, 4, 45, 182, 0, 197]
abbrev dktX1_townLine_0 : List UInt8 := dkwX1_townLine_0 ++ dktX1_townLine_1
theorem dksX1_townLine_0 : cX1_townLine.data.toList.drop 0 = dktX1_townLine_0 := by decide +kernel
theorem dksX1_townLine_1 : cX1_townLine.data.toList.drop 17 = dktX1_townLine_1 := dk_seg dksX1_townLine_0 17 rfl rfl
theorem dksX1_townLine_2 : cX1_townLine.data.toList.drop 92 = dktX1_townLine_2 := dk_seg dksX1_townLine_1 75 rfl rfl
theorem dksX1_townLine_3 : cX1_townLine.data.toList.drop 116 = dktX1_townLine_3 := dk_seg dksX1_townLine_2 24 rfl rfl
theorem dksX1_townLine_4 : cX1_townLine.data.toList.drop 140 = dktX1_townLine_4 := dk_seg dksX1_townLine_3 24 rfl rfl
theorem dksX1_townLine_5 : cX1_townLine.data.toList.drop 164 = dktX1_townLine_5 := dk_seg dksX1_townLine_4 24 rfl rfl
theorem dksX1_townLine_6 : cX1_townLine.data.toList.drop 188 = dktX1_townLine_6 := dk_seg dksX1_townLine_5 24 rfl rfl
theorem dksX1_townLine_7 : cX1_townLine.data.toList.drop 211 = dktX1_townLine_7 := dk_seg dksX1_townLine_6 23 rfl rfl
theorem dksX1_townLine_8 : cX1_townLine.data.toList.drop 213 = dktX1_townLine_8 := dk_seg dksX1_townLine_7 2 rfl rfl
theorem dksX1_townLine_9 : cX1_townLine.data.toList.drop 260 = dktX1_townLine_9 := dk_seg dksX1_townLine_8 47 rfl rfl
theorem dksX1_townLine_10 : cX1_townLine.data.toList.drop 284 = dktX1_townLine_10 := dk_seg dksX1_townLine_9 24 rfl rfl
theorem dksX1_townLine_11 : cX1_townLine.data.toList.drop 308 = dktX1_townLine_11 := dk_seg dksX1_townLine_10 24 rfl rfl
theorem dksX1_townLine_12 : cX1_townLine.data.toList.drop 332 = dktX1_townLine_12 := dk_seg dksX1_townLine_11 24 rfl rfl
theorem dX1_townLine_0 : decode cX1_townLine 0 = .ok (.aload_n 0, 1) := dk_42 (dk_at dksX1_townLine_0 0 rfl rfl)
theorem dX1_townLine_1 : decode cX1_townLine 1 = .ok (.getfield 25, 3) := dk_180 0 25 (dk_at dksX1_townLine_0 1 rfl rfl)
theorem dX1_townLine_4 : decode cX1_townLine 4 = .ok (.astore_n 2, 1) := dk_77 (dk_at dksX1_townLine_0 4 rfl rfl)
theorem dX1_townLine_5 : decode cX1_townLine 5 = .ok (.aload_n 2, 1) := dk_44 (dk_at dksX1_townLine_0 5 rfl rfl)
theorem dX1_townLine_6 : decode cX1_townLine 6 = .ok (.invokevirtual 109, 3) := dk_182 0 109 (dk_at dksX1_townLine_0 6 rfl rfl)
theorem dX1_townLine_9 : decode cX1_townLine 9 = .ok (.astore_n 3, 1) := dk_78 (dk_at dksX1_townLine_0 9 rfl rfl)
theorem dX1_townLine_10 : decode cX1_townLine 10 = .ok (.iconst (-1), 1) := dk_2 (dk_at dksX1_townLine_0 10 rfl rfl)
theorem dX1_townLine_11 : decode cX1_townLine 11 = .ok (.istore 4, 2) := dk_54 4 (dk_at dksX1_townLine_0 11 rfl rfl)
theorem dX1_townLine_13 : decode cX1_townLine 13 = .ok (.aload_n 3, 1) := dk_45 (dk_at dksX1_townLine_0 13 rfl rfl)
theorem dX1_townLine_14 : decode cX1_townLine 14 = .ok (.invokevirtual 197, 3) := dk_182 0 197 (dk_at dksX1_townLine_0 14 rfl rfl)
theorem dX1_townLine_17 : decode cX1_townLine 17 = .ok (.lookupswitch 194 #[(-1884423129, 150), (-991716523, 105), (96586, 165), (114832, 135), (3059428, 120), (3314155, 75), (99033460, 90), (105007872, 181)], 75) := by decide +kernel
theorem dX1_townLine_92 : decode cX1_townLine 92 = .ok (.aload_n 3, 1) := dk_45 (dk_at dksX1_townLine_2 0 rfl rfl)
theorem dX1_townLine_93 : decode cX1_townLine 93 = .ok (.ldc 200, 2) := dk_18 200 (dk_at dksX1_townLine_2 1 rfl rfl)
theorem dX1_townLine_95 : decode cX1_townLine 95 = .ok (.invokevirtual 115, 3) := dk_182 0 115 (dk_at dksX1_townLine_2 3 rfl rfl)
theorem dX1_townLine_98 : decode cX1_townLine 98 = .ok (.ifCond .eq 113, 3) := dk_153 0 113 (dk_at dksX1_townLine_2 6 rfl rfl)
theorem dX1_townLine_101 : decode cX1_townLine 101 = .ok (.iconst 0, 1) := dk_3 (dk_at dksX1_townLine_2 9 rfl rfl)
theorem dX1_townLine_102 : decode cX1_townLine 102 = .ok (.istore 4, 2) := dk_54 4 (dk_at dksX1_townLine_2 10 rfl rfl)
theorem dX1_townLine_104 : decode cX1_townLine 104 = .ok (.goto 107, 3) := dk_167 0 107 (dk_at dksX1_townLine_2 12 rfl rfl)
theorem dX1_townLine_107 : decode cX1_townLine 107 = .ok (.aload_n 3, 1) := dk_45 (dk_at dksX1_townLine_2 15 rfl rfl)
theorem dX1_townLine_108 : decode cX1_townLine 108 = .ok (.ldc 201, 2) := dk_18 201 (dk_at dksX1_townLine_2 16 rfl rfl)
theorem dX1_townLine_110 : decode cX1_townLine 110 = .ok (.invokevirtual 115, 3) := dk_182 0 115 (dk_at dksX1_townLine_2 18 rfl rfl)
theorem dX1_townLine_113 : decode cX1_townLine 113 = .ok (.ifCond .eq 98, 3) := dk_153 0 98 (dk_at dksX1_townLine_2 21 rfl rfl)
theorem dX1_townLine_116 : decode cX1_townLine 116 = .ok (.iconst 1, 1) := dk_4 (dk_at dksX1_townLine_3 0 rfl rfl)
theorem dX1_townLine_117 : decode cX1_townLine 117 = .ok (.istore 4, 2) := dk_54 4 (dk_at dksX1_townLine_3 1 rfl rfl)
theorem dX1_townLine_119 : decode cX1_townLine 119 = .ok (.goto 92, 3) := dk_167 0 92 (dk_at dksX1_townLine_3 3 rfl rfl)
theorem dX1_townLine_122 : decode cX1_townLine 122 = .ok (.aload_n 3, 1) := dk_45 (dk_at dksX1_townLine_3 6 rfl rfl)
theorem dX1_townLine_123 : decode cX1_townLine 123 = .ok (.ldc 202, 2) := dk_18 202 (dk_at dksX1_townLine_3 7 rfl rfl)
theorem dX1_townLine_125 : decode cX1_townLine 125 = .ok (.invokevirtual 115, 3) := dk_182 0 115 (dk_at dksX1_townLine_3 9 rfl rfl)
theorem dX1_townLine_128 : decode cX1_townLine 128 = .ok (.ifCond .eq 83, 3) := dk_153 0 83 (dk_at dksX1_townLine_3 12 rfl rfl)
theorem dX1_townLine_131 : decode cX1_townLine 131 = .ok (.iconst 2, 1) := dk_5 (dk_at dksX1_townLine_3 15 rfl rfl)
theorem dX1_townLine_132 : decode cX1_townLine 132 = .ok (.istore 4, 2) := dk_54 4 (dk_at dksX1_townLine_3 16 rfl rfl)
theorem dX1_townLine_134 : decode cX1_townLine 134 = .ok (.goto 77, 3) := dk_167 0 77 (dk_at dksX1_townLine_3 18 rfl rfl)
theorem dX1_townLine_137 : decode cX1_townLine 137 = .ok (.aload_n 3, 1) := dk_45 (dk_at dksX1_townLine_3 21 rfl rfl)
theorem dX1_townLine_138 : decode cX1_townLine 138 = .ok (.ldc 204, 2) := dk_18 204 (dk_at dksX1_townLine_3 22 rfl rfl)
theorem dX1_townLine_140 : decode cX1_townLine 140 = .ok (.invokevirtual 115, 3) := dk_182 0 115 (dk_at dksX1_townLine_4 0 rfl rfl)
theorem dX1_townLine_143 : decode cX1_townLine 143 = .ok (.ifCond .eq 68, 3) := dk_153 0 68 (dk_at dksX1_townLine_4 3 rfl rfl)
theorem dX1_townLine_146 : decode cX1_townLine 146 = .ok (.iconst 3, 1) := dk_6 (dk_at dksX1_townLine_4 6 rfl rfl)
theorem dX1_townLine_147 : decode cX1_townLine 147 = .ok (.istore 4, 2) := dk_54 4 (dk_at dksX1_townLine_4 7 rfl rfl)
theorem dX1_townLine_149 : decode cX1_townLine 149 = .ok (.goto 62, 3) := dk_167 0 62 (dk_at dksX1_townLine_4 9 rfl rfl)
theorem dX1_townLine_152 : decode cX1_townLine 152 = .ok (.aload_n 3, 1) := dk_45 (dk_at dksX1_townLine_4 12 rfl rfl)
theorem dX1_townLine_153 : decode cX1_townLine 153 = .ok (.ldc 205, 2) := dk_18 205 (dk_at dksX1_townLine_4 13 rfl rfl)
theorem dX1_townLine_155 : decode cX1_townLine 155 = .ok (.invokevirtual 115, 3) := dk_182 0 115 (dk_at dksX1_townLine_4 15 rfl rfl)
theorem dX1_townLine_158 : decode cX1_townLine 158 = .ok (.ifCond .eq 53, 3) := dk_153 0 53 (dk_at dksX1_townLine_4 18 rfl rfl)
theorem dX1_townLine_161 : decode cX1_townLine 161 = .ok (.iconst 4, 1) := dk_7 (dk_at dksX1_townLine_4 21 rfl rfl)
theorem dX1_townLine_162 : decode cX1_townLine 162 = .ok (.istore 4, 2) := dk_54 4 (dk_at dksX1_townLine_4 22 rfl rfl)
theorem dX1_townLine_164 : decode cX1_townLine 164 = .ok (.goto 47, 3) := dk_167 0 47 (dk_at dksX1_townLine_5 0 rfl rfl)
theorem dX1_townLine_167 : decode cX1_townLine 167 = .ok (.aload_n 3, 1) := dk_45 (dk_at dksX1_townLine_5 3 rfl rfl)
theorem dX1_townLine_168 : decode cX1_townLine 168 = .ok (.ldc 207, 2) := dk_18 207 (dk_at dksX1_townLine_5 4 rfl rfl)
theorem dX1_townLine_170 : decode cX1_townLine 170 = .ok (.invokevirtual 115, 3) := dk_182 0 115 (dk_at dksX1_townLine_5 6 rfl rfl)
theorem dX1_townLine_173 : decode cX1_townLine 173 = .ok (.ifCond .eq 38, 3) := dk_153 0 38 (dk_at dksX1_townLine_5 9 rfl rfl)
theorem dX1_townLine_176 : decode cX1_townLine 176 = .ok (.iconst 5, 1) := dk_8 (dk_at dksX1_townLine_5 12 rfl rfl)
theorem dX1_townLine_177 : decode cX1_townLine 177 = .ok (.istore 4, 2) := dk_54 4 (dk_at dksX1_townLine_5 13 rfl rfl)
theorem dX1_townLine_179 : decode cX1_townLine 179 = .ok (.goto 32, 3) := dk_167 0 32 (dk_at dksX1_townLine_5 15 rfl rfl)
theorem dX1_townLine_182 : decode cX1_townLine 182 = .ok (.aload_n 3, 1) := dk_45 (dk_at dksX1_townLine_5 18 rfl rfl)
theorem dX1_townLine_183 : decode cX1_townLine 183 = .ok (.ldc 209, 2) := dk_18 209 (dk_at dksX1_townLine_5 19 rfl rfl)
theorem dX1_townLine_185 : decode cX1_townLine 185 = .ok (.invokevirtual 115, 3) := dk_182 0 115 (dk_at dksX1_townLine_5 21 rfl rfl)
theorem dX1_townLine_188 : decode cX1_townLine 188 = .ok (.ifCond .eq 23, 3) := dk_153 0 23 (dk_at dksX1_townLine_6 0 rfl rfl)
theorem dX1_townLine_191 : decode cX1_townLine 191 = .ok (.bipush 6, 2) := dk_16 6 (dk_at dksX1_townLine_6 3 rfl rfl)
theorem dX1_townLine_193 : decode cX1_townLine 193 = .ok (.istore 4, 2) := dk_54 4 (dk_at dksX1_townLine_6 5 rfl rfl)
theorem dX1_townLine_195 : decode cX1_townLine 195 = .ok (.goto 16, 3) := dk_167 0 16 (dk_at dksX1_townLine_6 7 rfl rfl)
theorem dX1_townLine_198 : decode cX1_townLine 198 = .ok (.aload_n 3, 1) := dk_45 (dk_at dksX1_townLine_6 10 rfl rfl)
theorem dX1_townLine_199 : decode cX1_townLine 199 = .ok (.ldc 211, 2) := dk_18 211 (dk_at dksX1_townLine_6 11 rfl rfl)
theorem dX1_townLine_201 : decode cX1_townLine 201 = .ok (.invokevirtual 115, 3) := dk_182 0 115 (dk_at dksX1_townLine_6 13 rfl rfl)
theorem dX1_townLine_204 : decode cX1_townLine 204 = .ok (.ifCond .eq 7, 3) := dk_153 0 7 (dk_at dksX1_townLine_6 16 rfl rfl)
theorem dX1_townLine_207 : decode cX1_townLine 207 = .ok (.bipush 7, 2) := dk_16 7 (dk_at dksX1_townLine_6 19 rfl rfl)
theorem dX1_townLine_209 : decode cX1_townLine 209 = .ok (.istore 4, 2) := dk_54 4 (dk_at dksX1_townLine_6 21 rfl rfl)
theorem dX1_townLine_211 : decode cX1_townLine 211 = .ok (.iload 4, 2) := dk_21 4 (dk_at dksX1_townLine_7 0 rfl rfl)
theorem dX1_townLine_213 : decode cX1_townLine 213 = .ok (.tableswitch 138 0 7 #[47, 72, 78, 84, 96, 102, 114, 126], 47) := by decide +kernel
theorem dX1_townLine_260 : decode cX1_townLine 260 = .ok (.aload_n 1, 1) := dk_43 (dk_at dksX1_townLine_9 0 rfl rfl)
theorem dX1_townLine_261 : decode cX1_townLine 261 = .ok (.getfield 137, 3) := dk_180 0 137 (dk_at dksX1_townLine_9 1 rfl rfl)
theorem dX1_townLine_264 : decode cX1_townLine 264 = .ok (.bipush 6, 2) := dk_16 6 (dk_at dksX1_townLine_9 4 rfl rfl)
theorem dX1_townLine_266 : decode cX1_townLine 266 = .ok (.if_icmp .ne 8, 3) := dk_160 0 8 (dk_at dksX1_townLine_9 6 rfl rfl)
theorem dX1_townLine_269 : decode cX1_townLine 269 = .ok (.aload_n 2, 1) := dk_44 (dk_at dksX1_townLine_9 9 rfl rfl)
theorem dX1_townLine_270 : decode cX1_townLine 270 = .ok (.invokevirtual 94, 3) := dk_182 0 94 (dk_at dksX1_townLine_9 10 rfl rfl)
theorem dX1_townLine_273 : decode cX1_townLine 273 = .ok (.athrow, 1) := dk_191 (dk_at dksX1_townLine_9 13 rfl rfl)
theorem dX1_townLine_274 : decode cX1_townLine 274 = .ok (.aload_n 1, 1) := dk_43 (dk_at dksX1_townLine_9 14 rfl rfl)
theorem dX1_townLine_275 : decode cX1_townLine 275 = .ok (.dup, 1) := dk_89 (dk_at dksX1_townLine_9 15 rfl rfl)
theorem dX1_townLine_276 : decode cX1_townLine 276 = .ok (.getfield 137, 3) := dk_180 0 137 (dk_at dksX1_townLine_9 16 rfl rfl)
theorem dX1_townLine_279 : decode cX1_townLine 279 = .ok (.iconst 1, 1) := dk_4 (dk_at dksX1_townLine_9 19 rfl rfl)
theorem dX1_townLine_280 : decode cX1_townLine 280 = .ok (.iadd, 1) := dk_96 (dk_at dksX1_townLine_9 20 rfl rfl)
theorem dX1_townLine_281 : decode cX1_townLine 281 = .ok (.putfield 137, 3) := dk_181 0 137 (dk_at dksX1_townLine_9 21 rfl rfl)
theorem dX1_townLine_284 : decode cX1_townLine 284 = .ok (.return_, 1) := dk_177 (dk_at dksX1_townLine_10 0 rfl rfl)
theorem dX1_townLine_285 : decode cX1_townLine 285 = .ok (.aload_n 0, 1) := dk_42 (dk_at dksX1_townLine_10 1 rfl rfl)
theorem dX1_townLine_286 : decode cX1_townLine 286 = .ok (.aload_n 1, 1) := dk_43 (dk_at dksX1_townLine_10 2 rfl rfl)
theorem dX1_townLine_287 : decode cX1_townLine 287 = .ok (.invokevirtual 213, 3) := dk_182 0 213 (dk_at dksX1_townLine_10 3 rfl rfl)
theorem dX1_townLine_290 : decode cX1_townLine 290 = .ok (.return_, 1) := dk_177 (dk_at dksX1_townLine_10 6 rfl rfl)
theorem dX1_townLine_291 : decode cX1_townLine 291 = .ok (.aload_n 0, 1) := dk_42 (dk_at dksX1_townLine_10 7 rfl rfl)
theorem dX1_townLine_292 : decode cX1_townLine 292 = .ok (.aload_n 1, 1) := dk_43 (dk_at dksX1_townLine_10 8 rfl rfl)
theorem dX1_townLine_293 : decode cX1_townLine 293 = .ok (.invokevirtual 217, 3) := dk_182 0 217 (dk_at dksX1_townLine_10 9 rfl rfl)
theorem dX1_townLine_296 : decode cX1_townLine 296 = .ok (.return_, 1) := dk_177 (dk_at dksX1_townLine_10 12 rfl rfl)
theorem dX1_townLine_297 : decode cX1_townLine 297 = .ok (.aload_n 1, 1) := dk_43 (dk_at dksX1_townLine_10 13 rfl rfl)
theorem dX1_townLine_298 : decode cX1_townLine 298 = .ok (.getfield 171, 3) := dk_180 0 171 (dk_at dksX1_townLine_10 14 rfl rfl)
theorem dX1_townLine_301 : decode cX1_townLine 301 = .ok (.aload_n 0, 1) := dk_42 (dk_at dksX1_townLine_10 17 rfl rfl)
theorem dX1_townLine_302 : decode cX1_townLine 302 = .ok (.aload_n 1, 1) := dk_43 (dk_at dksX1_townLine_10 18 rfl rfl)
theorem dX1_townLine_303 : decode cX1_townLine 303 = .ok (.invokevirtual 187, 3) := dk_182 0 187 (dk_at dksX1_townLine_10 19 rfl rfl)
theorem dX1_townLine_306 : decode cX1_townLine 306 = .ok (.iconst 1, 1) := dk_4 (dk_at dksX1_townLine_10 22 rfl rfl)
theorem dX1_townLine_307 : decode cX1_townLine 307 = .ok (.bastore, 1) := dk_84 (dk_at dksX1_townLine_10 23 rfl rfl)
theorem dX1_townLine_308 : decode cX1_townLine 308 = .ok (.return_, 1) := dk_177 (dk_at dksX1_townLine_11 0 rfl rfl)
theorem dX1_townLine_309 : decode cX1_townLine 309 = .ok (.aload_n 0, 1) := dk_42 (dk_at dksX1_townLine_11 1 rfl rfl)
theorem dX1_townLine_310 : decode cX1_townLine 310 = .ok (.aload_n 1, 1) := dk_43 (dk_at dksX1_townLine_11 2 rfl rfl)
theorem dX1_townLine_311 : decode cX1_townLine 311 = .ok (.invokevirtual 220, 3) := dk_182 0 220 (dk_at dksX1_townLine_11 3 rfl rfl)
theorem dX1_townLine_314 : decode cX1_townLine 314 = .ok (.return_, 1) := dk_177 (dk_at dksX1_townLine_11 6 rfl rfl)
theorem dX1_townLine_315 : decode cX1_townLine 315 = .ok (.aload_n 1, 1) := dk_43 (dk_at dksX1_townLine_11 7 rfl rfl)
theorem dX1_townLine_316 : decode cX1_townLine 316 = .ok (.aload_n 2, 1) := dk_44 (dk_at dksX1_townLine_11 8 rfl rfl)
theorem dX1_townLine_317 : decode cX1_townLine 317 = .ok (.iconst 0, 1) := dk_3 (dk_at dksX1_townLine_11 9 rfl rfl)
theorem dX1_townLine_318 : decode cX1_townLine 318 = .ok (.bipush 99, 2) := dk_16 99 (dk_at dksX1_townLine_11 10 rfl rfl)
theorem dX1_townLine_320 : decode cX1_townLine 320 = .ok (.invokevirtual 106, 3) := dk_182 0 106 (dk_at dksX1_townLine_11 12 rfl rfl)
theorem dX1_townLine_323 : decode cX1_townLine 323 = .ok (.putfield 223, 3) := dk_181 0 223 (dk_at dksX1_townLine_11 15 rfl rfl)
theorem dX1_townLine_326 : decode cX1_townLine 326 = .ok (.return_, 1) := dk_177 (dk_at dksX1_townLine_11 18 rfl rfl)
theorem dX1_townLine_327 : decode cX1_townLine 327 = .ok (.aload_n 1, 1) := dk_43 (dk_at dksX1_townLine_11 19 rfl rfl)
theorem dX1_townLine_328 : decode cX1_townLine 328 = .ok (.aload_n 2, 1) := dk_44 (dk_at dksX1_townLine_11 20 rfl rfl)
theorem dX1_townLine_329 : decode cX1_townLine 329 = .ok (.iconst 0, 1) := dk_3 (dk_at dksX1_townLine_11 21 rfl rfl)
theorem dX1_townLine_330 : decode cX1_townLine 330 = .ok (.bipush 99, 2) := dk_16 99 (dk_at dksX1_townLine_11 22 rfl rfl)
theorem dX1_townLine_332 : decode cX1_townLine 332 = .ok (.invokevirtual 106, 3) := dk_182 0 106 (dk_at dksX1_townLine_12 0 rfl rfl)
theorem dX1_townLine_335 : decode cX1_townLine 335 = .ok (.putfield 225, 3) := dk_181 0 225 (dk_at dksX1_townLine_12 3 rfl rfl)
theorem dX1_townLine_338 : decode cX1_townLine 338 = .ok (.return_, 1) := dk_177 (dk_at dksX1_townLine_12 6 rfl rfl)
theorem dX1_townLine_339 : decode cX1_townLine 339 = .ok (.aload_n 1, 1) := dk_43 (dk_at dksX1_townLine_12 7 rfl rfl)
theorem dX1_townLine_340 : decode cX1_townLine 340 = .ok (.aload_n 2, 1) := dk_44 (dk_at dksX1_townLine_12 8 rfl rfl)
theorem dX1_townLine_341 : decode cX1_townLine 341 = .ok (.iconst 0, 1) := dk_3 (dk_at dksX1_townLine_12 9 rfl rfl)
theorem dX1_townLine_342 : decode cX1_townLine 342 = .ok (.bipush 99, 2) := dk_16 99 (dk_at dksX1_townLine_12 10 rfl rfl)
theorem dX1_townLine_344 : decode cX1_townLine 344 = .ok (.invokevirtual 106, 3) := dk_182 0 106 (dk_at dksX1_townLine_12 12 rfl rfl)
theorem dX1_townLine_347 : decode cX1_townLine 347 = .ok (.putfield 227, 3) := dk_181 0 227 (dk_at dksX1_townLine_12 15 rfl rfl)
theorem dX1_townLine_350 : decode cX1_townLine 350 = .ok (.return_, 1) := dk_177 (dk_at dksX1_townLine_12 18 rfl rfl)
theorem dX1_townLine_351 : decode cX1_townLine 351 = .ok (.aload_n 2, 1) := dk_44 (dk_at dksX1_townLine_12 19 rfl rfl)
theorem dX1_townLine_352 : decode cX1_townLine 352 = .ok (.invokevirtual 94, 3) := dk_182 0 94 (dk_at dksX1_townLine_12 20 rfl rfl)
theorem dX1_townLine_355 : decode cX1_townLine 355 = .ok (.athrow, 1) := dk_191 (dk_at dksX1_townLine_12 23 rfl rfl)
abbrev cX1_aHabit : ByteArray := prog_1_method_12_code
def yX1_aHabit : MethodName := ⟨RX1, "aHabit", "(LCheekTown$World;)V"⟩
def dkwX1_aHabit_3 : List UInt8 := [89, 180, 0, 131, 4, 96, 181, 0, 131, 177]
abbrev dktX1_aHabit_3 : List UInt8 := dkwX1_aHabit_3 ++ []
def dkwX1_aHabit_2 : List UInt8 := [182, 0, 143, 79, 42, 18, 146, 182, 0, 148, 43, 180, 0, 152, 29, 44, 4, 16, 9, 182, 0, 106, 79, 43]
abbrev dktX1_aHabit_2 : List UInt8 := dkwX1_aHabit_2 ++ dktX1_aHabit_3
def dkwX1_aHabit_1 : List UInt8 := [180, 0, 134, 29, 44, 3, 43, 180, 0, 137, 4, 100, 182, 0, 106, 79, 43, 180, 0, 140, 29, 42]
abbrev dktX1_aHabit_1 : List UInt8 := dkwX1_aHabit_1 ++ dktX1_aHabit_2
def dkwX1_aHabit_0 : List UInt8 := [42, 180, 0, 25, 77, 43, 180, 0, 131, 62, 29, 16, 24, 160, 0, 8, 44, 182, 0, 94, 191, 43]
abbrev dktX1_aHabit_0 : List UInt8 := dkwX1_aHabit_0 ++ dktX1_aHabit_1
theorem dksX1_aHabit_0 : cX1_aHabit.data.toList.drop 0 = dktX1_aHabit_0 := by decide +kernel
theorem dksX1_aHabit_1 : cX1_aHabit.data.toList.drop 22 = dktX1_aHabit_1 := dk_seg dksX1_aHabit_0 22 rfl rfl
theorem dksX1_aHabit_2 : cX1_aHabit.data.toList.drop 44 = dktX1_aHabit_2 := dk_seg dksX1_aHabit_1 22 rfl rfl
theorem dksX1_aHabit_3 : cX1_aHabit.data.toList.drop 68 = dktX1_aHabit_3 := dk_seg dksX1_aHabit_2 24 rfl rfl
theorem dX1_aHabit_0 : decode cX1_aHabit 0 = .ok (.aload_n 0, 1) := dk_42 (dk_at dksX1_aHabit_0 0 rfl rfl)
theorem dX1_aHabit_1 : decode cX1_aHabit 1 = .ok (.getfield 25, 3) := dk_180 0 25 (dk_at dksX1_aHabit_0 1 rfl rfl)
theorem dX1_aHabit_4 : decode cX1_aHabit 4 = .ok (.astore_n 2, 1) := dk_77 (dk_at dksX1_aHabit_0 4 rfl rfl)
theorem dX1_aHabit_5 : decode cX1_aHabit 5 = .ok (.aload_n 1, 1) := dk_43 (dk_at dksX1_aHabit_0 5 rfl rfl)
theorem dX1_aHabit_6 : decode cX1_aHabit 6 = .ok (.getfield 131, 3) := dk_180 0 131 (dk_at dksX1_aHabit_0 6 rfl rfl)
theorem dX1_aHabit_9 : decode cX1_aHabit 9 = .ok (.istore_n 3, 1) := dk_62 (dk_at dksX1_aHabit_0 9 rfl rfl)
theorem dX1_aHabit_10 : decode cX1_aHabit 10 = .ok (.iload_n 3, 1) := dk_29 (dk_at dksX1_aHabit_0 10 rfl rfl)
theorem dX1_aHabit_11 : decode cX1_aHabit 11 = .ok (.bipush 24, 2) := dk_16 24 (dk_at dksX1_aHabit_0 11 rfl rfl)
theorem dX1_aHabit_13 : decode cX1_aHabit 13 = .ok (.if_icmp .ne 8, 3) := dk_160 0 8 (dk_at dksX1_aHabit_0 13 rfl rfl)
theorem dX1_aHabit_16 : decode cX1_aHabit 16 = .ok (.aload_n 2, 1) := dk_44 (dk_at dksX1_aHabit_0 16 rfl rfl)
theorem dX1_aHabit_17 : decode cX1_aHabit 17 = .ok (.invokevirtual 94, 3) := dk_182 0 94 (dk_at dksX1_aHabit_0 17 rfl rfl)
theorem dX1_aHabit_20 : decode cX1_aHabit 20 = .ok (.athrow, 1) := dk_191 (dk_at dksX1_aHabit_0 20 rfl rfl)
theorem dX1_aHabit_21 : decode cX1_aHabit 21 = .ok (.aload_n 1, 1) := dk_43 (dk_at dksX1_aHabit_0 21 rfl rfl)
theorem dX1_aHabit_22 : decode cX1_aHabit 22 = .ok (.getfield 134, 3) := dk_180 0 134 (dk_at dksX1_aHabit_1 0 rfl rfl)
theorem dX1_aHabit_25 : decode cX1_aHabit 25 = .ok (.iload_n 3, 1) := dk_29 (dk_at dksX1_aHabit_1 3 rfl rfl)
theorem dX1_aHabit_26 : decode cX1_aHabit 26 = .ok (.aload_n 2, 1) := dk_44 (dk_at dksX1_aHabit_1 4 rfl rfl)
theorem dX1_aHabit_27 : decode cX1_aHabit 27 = .ok (.iconst 0, 1) := dk_3 (dk_at dksX1_aHabit_1 5 rfl rfl)
theorem dX1_aHabit_28 : decode cX1_aHabit 28 = .ok (.aload_n 1, 1) := dk_43 (dk_at dksX1_aHabit_1 6 rfl rfl)
theorem dX1_aHabit_29 : decode cX1_aHabit 29 = .ok (.getfield 137, 3) := dk_180 0 137 (dk_at dksX1_aHabit_1 7 rfl rfl)
theorem dX1_aHabit_32 : decode cX1_aHabit 32 = .ok (.iconst 1, 1) := dk_4 (dk_at dksX1_aHabit_1 10 rfl rfl)
theorem dX1_aHabit_33 : decode cX1_aHabit 33 = .ok (.isub, 1) := dk_100 (dk_at dksX1_aHabit_1 11 rfl rfl)
theorem dX1_aHabit_34 : decode cX1_aHabit 34 = .ok (.invokevirtual 106, 3) := dk_182 0 106 (dk_at dksX1_aHabit_1 12 rfl rfl)
theorem dX1_aHabit_37 : decode cX1_aHabit 37 = .ok (.iastore, 1) := dk_79 (dk_at dksX1_aHabit_1 15 rfl rfl)
theorem dX1_aHabit_38 : decode cX1_aHabit 38 = .ok (.aload_n 1, 1) := dk_43 (dk_at dksX1_aHabit_1 16 rfl rfl)
theorem dX1_aHabit_39 : decode cX1_aHabit 39 = .ok (.getfield 140, 3) := dk_180 0 140 (dk_at dksX1_aHabit_1 17 rfl rfl)
theorem dX1_aHabit_42 : decode cX1_aHabit 42 = .ok (.iload_n 3, 1) := dk_29 (dk_at dksX1_aHabit_1 20 rfl rfl)
theorem dX1_aHabit_43 : decode cX1_aHabit 43 = .ok (.aload_n 0, 1) := dk_42 (dk_at dksX1_aHabit_1 21 rfl rfl)
theorem dX1_aHabit_44 : decode cX1_aHabit 44 = .ok (.invokevirtual 143, 3) := dk_182 0 143 (dk_at dksX1_aHabit_2 0 rfl rfl)
theorem dX1_aHabit_47 : decode cX1_aHabit 47 = .ok (.iastore, 1) := dk_79 (dk_at dksX1_aHabit_2 3 rfl rfl)
theorem dX1_aHabit_48 : decode cX1_aHabit 48 = .ok (.aload_n 0, 1) := dk_42 (dk_at dksX1_aHabit_2 4 rfl rfl)
theorem dX1_aHabit_49 : decode cX1_aHabit 49 = .ok (.ldc 146, 2) := dk_18 146 (dk_at dksX1_aHabit_2 5 rfl rfl)
theorem dX1_aHabit_51 : decode cX1_aHabit 51 = .ok (.invokevirtual 148, 3) := dk_182 0 148 (dk_at dksX1_aHabit_2 7 rfl rfl)
theorem dX1_aHabit_54 : decode cX1_aHabit 54 = .ok (.aload_n 1, 1) := dk_43 (dk_at dksX1_aHabit_2 10 rfl rfl)
theorem dX1_aHabit_55 : decode cX1_aHabit 55 = .ok (.getfield 152, 3) := dk_180 0 152 (dk_at dksX1_aHabit_2 11 rfl rfl)
theorem dX1_aHabit_58 : decode cX1_aHabit 58 = .ok (.iload_n 3, 1) := dk_29 (dk_at dksX1_aHabit_2 14 rfl rfl)
theorem dX1_aHabit_59 : decode cX1_aHabit 59 = .ok (.aload_n 2, 1) := dk_44 (dk_at dksX1_aHabit_2 15 rfl rfl)
theorem dX1_aHabit_60 : decode cX1_aHabit 60 = .ok (.iconst 1, 1) := dk_4 (dk_at dksX1_aHabit_2 16 rfl rfl)
theorem dX1_aHabit_61 : decode cX1_aHabit 61 = .ok (.bipush 9, 2) := dk_16 9 (dk_at dksX1_aHabit_2 17 rfl rfl)
theorem dX1_aHabit_63 : decode cX1_aHabit 63 = .ok (.invokevirtual 106, 3) := dk_182 0 106 (dk_at dksX1_aHabit_2 19 rfl rfl)
theorem dX1_aHabit_66 : decode cX1_aHabit 66 = .ok (.iastore, 1) := dk_79 (dk_at dksX1_aHabit_2 22 rfl rfl)
theorem dX1_aHabit_67 : decode cX1_aHabit 67 = .ok (.aload_n 1, 1) := dk_43 (dk_at dksX1_aHabit_2 23 rfl rfl)
theorem dX1_aHabit_68 : decode cX1_aHabit 68 = .ok (.dup, 1) := dk_89 (dk_at dksX1_aHabit_3 0 rfl rfl)
theorem dX1_aHabit_69 : decode cX1_aHabit 69 = .ok (.getfield 131, 3) := dk_180 0 131 (dk_at dksX1_aHabit_3 1 rfl rfl)
theorem dX1_aHabit_72 : decode cX1_aHabit 72 = .ok (.iconst 1, 1) := dk_4 (dk_at dksX1_aHabit_3 4 rfl rfl)
theorem dX1_aHabit_73 : decode cX1_aHabit 73 = .ok (.iadd, 1) := dk_96 (dk_at dksX1_aHabit_3 5 rfl rfl)
theorem dX1_aHabit_74 : decode cX1_aHabit 74 = .ok (.putfield 131, 3) := dk_181 0 131 (dk_at dksX1_aHabit_3 6 rfl rfl)
theorem dX1_aHabit_77 : decode cX1_aHabit 77 = .ok (.return_, 1) := dk_177 (dk_at dksX1_aHabit_3 9 rfl rfl)
abbrev cX1_greetingTold : ByteArray := prog_1_method_10_code
def yX1_greetingTold : MethodName := ⟨RX1, "greetingTold", "()I"⟩
def dkwX1_greetingTold_0 : List UInt8 := [42, 42, 180, 0, 25, 182, 0, 109, 184, 0, 123, 182, 0, 127, 172]
abbrev dktX1_greetingTold_0 : List UInt8 := dkwX1_greetingTold_0 ++ []
theorem dksX1_greetingTold_0 : cX1_greetingTold.data.toList.drop 0 = dktX1_greetingTold_0 := by decide +kernel
theorem dX1_greetingTold_0 : decode cX1_greetingTold 0 = .ok (.aload_n 0, 1) := dk_42 (dk_at dksX1_greetingTold_0 0 rfl rfl)
theorem dX1_greetingTold_1 : decode cX1_greetingTold 1 = .ok (.aload_n 0, 1) := dk_42 (dk_at dksX1_greetingTold_0 1 rfl rfl)
theorem dX1_greetingTold_2 : decode cX1_greetingTold 2 = .ok (.getfield 25, 3) := dk_180 0 25 (dk_at dksX1_greetingTold_0 2 rfl rfl)
theorem dX1_greetingTold_5 : decode cX1_greetingTold 5 = .ok (.invokevirtual 109, 3) := dk_182 0 109 (dk_at dksX1_greetingTold_0 5 rfl rfl)
theorem dX1_greetingTold_8 : decode cX1_greetingTold 8 = .ok (.invokestatic 123, 3) := dk_184 0 123 (dk_at dksX1_greetingTold_0 8 rfl rfl)
theorem dX1_greetingTold_11 : decode cX1_greetingTold 11 = .ok (.invokevirtual 127, 3) := dk_182 0 127 (dk_at dksX1_greetingTold_0 11 rfl rfl)
theorem dX1_greetingTold_14 : decode cX1_greetingTold 14 = .ok (.ireturn, 1) := dk_172 (dk_at dksX1_greetingTold_0 14 rfl rfl)
abbrev cX1_greetingBy : ByteArray := prog_1_method_9_code
def yX1_greetingBy : MethodName := ⟨RX1, "greetingBy", "(LCheekTown$Kind;)I"⟩
def dkwX1_greetingBy_3 : List UInt8 := [43, 28, 4, 182, 0, 102, 172, 42, 180, 0, 25, 182, 0, 94, 191]
abbrev dktX1_greetingBy_3 : List UInt8 := dkwX1_greetingBy_3 ++ []
def dkwX1_greetingBy_2 : List UInt8 := [18, 113, 182, 0, 115, 153, 0, 10, 43, 28, 3, 182, 0, 102, 172, 45, 18, 121, 182, 0, 115, 153, 0, 10]
abbrev dktX1_greetingBy_2 : List UInt8 := dkwX1_greetingBy_2 ++ dktX1_greetingBy_3
def dkwX1_greetingBy_1 : List UInt8 := [182, 0, 102, 172, 42, 180, 0, 25, 4, 7, 182, 0, 106, 61, 42, 180, 0, 25, 182, 0, 109, 78, 45]
abbrev dktX1_greetingBy_1 : List UInt8 := dkwX1_greetingBy_1 ++ dktX1_greetingBy_2
def dkwX1_greetingBy_0 : List UInt8 := [43, 199, 0, 11, 42, 180, 0, 25, 182, 0, 94, 191, 43, 178, 0, 98, 165, 0, 10, 43, 4, 3]
abbrev dktX1_greetingBy_0 : List UInt8 := dkwX1_greetingBy_0 ++ dktX1_greetingBy_1
theorem dksX1_greetingBy_0 : cX1_greetingBy.data.toList.drop 0 = dktX1_greetingBy_0 := by decide +kernel
theorem dksX1_greetingBy_1 : cX1_greetingBy.data.toList.drop 22 = dktX1_greetingBy_1 := dk_seg dksX1_greetingBy_0 22 rfl rfl
theorem dksX1_greetingBy_2 : cX1_greetingBy.data.toList.drop 45 = dktX1_greetingBy_2 := dk_seg dksX1_greetingBy_1 23 rfl rfl
theorem dksX1_greetingBy_3 : cX1_greetingBy.data.toList.drop 69 = dktX1_greetingBy_3 := dk_seg dksX1_greetingBy_2 24 rfl rfl
theorem dX1_greetingBy_0 : decode cX1_greetingBy 0 = .ok (.aload_n 1, 1) := dk_43 (dk_at dksX1_greetingBy_0 0 rfl rfl)
theorem dX1_greetingBy_1 : decode cX1_greetingBy 1 = .ok (.ifnonnull 11, 3) := dk_199 0 11 (dk_at dksX1_greetingBy_0 1 rfl rfl)
theorem dX1_greetingBy_4 : decode cX1_greetingBy 4 = .ok (.aload_n 0, 1) := dk_42 (dk_at dksX1_greetingBy_0 4 rfl rfl)
theorem dX1_greetingBy_5 : decode cX1_greetingBy 5 = .ok (.getfield 25, 3) := dk_180 0 25 (dk_at dksX1_greetingBy_0 5 rfl rfl)
theorem dX1_greetingBy_8 : decode cX1_greetingBy 8 = .ok (.invokevirtual 94, 3) := dk_182 0 94 (dk_at dksX1_greetingBy_0 8 rfl rfl)
theorem dX1_greetingBy_11 : decode cX1_greetingBy 11 = .ok (.athrow, 1) := dk_191 (dk_at dksX1_greetingBy_0 11 rfl rfl)
theorem dX1_greetingBy_12 : decode cX1_greetingBy 12 = .ok (.aload_n 1, 1) := dk_43 (dk_at dksX1_greetingBy_0 12 rfl rfl)
theorem dX1_greetingBy_13 : decode cX1_greetingBy 13 = .ok (.getstatic 98, 3) := dk_178 0 98 (dk_at dksX1_greetingBy_0 13 rfl rfl)
theorem dX1_greetingBy_16 : decode cX1_greetingBy 16 = .ok (.if_acmp .eq 10, 3) := dk_165 0 10 (dk_at dksX1_greetingBy_0 16 rfl rfl)
theorem dX1_greetingBy_19 : decode cX1_greetingBy 19 = .ok (.aload_n 1, 1) := dk_43 (dk_at dksX1_greetingBy_0 19 rfl rfl)
theorem dX1_greetingBy_20 : decode cX1_greetingBy 20 = .ok (.iconst 1, 1) := dk_4 (dk_at dksX1_greetingBy_0 20 rfl rfl)
theorem dX1_greetingBy_21 : decode cX1_greetingBy 21 = .ok (.iconst 0, 1) := dk_3 (dk_at dksX1_greetingBy_0 21 rfl rfl)
theorem dX1_greetingBy_22 : decode cX1_greetingBy 22 = .ok (.invokevirtual 102, 3) := dk_182 0 102 (dk_at dksX1_greetingBy_1 0 rfl rfl)
theorem dX1_greetingBy_25 : decode cX1_greetingBy 25 = .ok (.ireturn, 1) := dk_172 (dk_at dksX1_greetingBy_1 3 rfl rfl)
theorem dX1_greetingBy_26 : decode cX1_greetingBy 26 = .ok (.aload_n 0, 1) := dk_42 (dk_at dksX1_greetingBy_1 4 rfl rfl)
theorem dX1_greetingBy_27 : decode cX1_greetingBy 27 = .ok (.getfield 25, 3) := dk_180 0 25 (dk_at dksX1_greetingBy_1 5 rfl rfl)
theorem dX1_greetingBy_30 : decode cX1_greetingBy 30 = .ok (.iconst 1, 1) := dk_4 (dk_at dksX1_greetingBy_1 8 rfl rfl)
theorem dX1_greetingBy_31 : decode cX1_greetingBy 31 = .ok (.iconst 4, 1) := dk_7 (dk_at dksX1_greetingBy_1 9 rfl rfl)
theorem dX1_greetingBy_32 : decode cX1_greetingBy 32 = .ok (.invokevirtual 106, 3) := dk_182 0 106 (dk_at dksX1_greetingBy_1 10 rfl rfl)
theorem dX1_greetingBy_35 : decode cX1_greetingBy 35 = .ok (.istore_n 2, 1) := dk_61 (dk_at dksX1_greetingBy_1 13 rfl rfl)
theorem dX1_greetingBy_36 : decode cX1_greetingBy 36 = .ok (.aload_n 0, 1) := dk_42 (dk_at dksX1_greetingBy_1 14 rfl rfl)
theorem dX1_greetingBy_37 : decode cX1_greetingBy 37 = .ok (.getfield 25, 3) := dk_180 0 25 (dk_at dksX1_greetingBy_1 15 rfl rfl)
theorem dX1_greetingBy_40 : decode cX1_greetingBy 40 = .ok (.invokevirtual 109, 3) := dk_182 0 109 (dk_at dksX1_greetingBy_1 18 rfl rfl)
theorem dX1_greetingBy_43 : decode cX1_greetingBy 43 = .ok (.astore_n 3, 1) := dk_78 (dk_at dksX1_greetingBy_1 21 rfl rfl)
theorem dX1_greetingBy_44 : decode cX1_greetingBy 44 = .ok (.aload_n 3, 1) := dk_45 (dk_at dksX1_greetingBy_1 22 rfl rfl)
theorem dX1_greetingBy_45 : decode cX1_greetingBy 45 = .ok (.ldc 113, 2) := dk_18 113 (dk_at dksX1_greetingBy_2 0 rfl rfl)
theorem dX1_greetingBy_47 : decode cX1_greetingBy 47 = .ok (.invokevirtual 115, 3) := dk_182 0 115 (dk_at dksX1_greetingBy_2 2 rfl rfl)
theorem dX1_greetingBy_50 : decode cX1_greetingBy 50 = .ok (.ifCond .eq 10, 3) := dk_153 0 10 (dk_at dksX1_greetingBy_2 5 rfl rfl)
theorem dX1_greetingBy_53 : decode cX1_greetingBy 53 = .ok (.aload_n 1, 1) := dk_43 (dk_at dksX1_greetingBy_2 8 rfl rfl)
theorem dX1_greetingBy_54 : decode cX1_greetingBy 54 = .ok (.iload_n 2, 1) := dk_28 (dk_at dksX1_greetingBy_2 9 rfl rfl)
theorem dX1_greetingBy_55 : decode cX1_greetingBy 55 = .ok (.iconst 0, 1) := dk_3 (dk_at dksX1_greetingBy_2 10 rfl rfl)
theorem dX1_greetingBy_56 : decode cX1_greetingBy 56 = .ok (.invokevirtual 102, 3) := dk_182 0 102 (dk_at dksX1_greetingBy_2 11 rfl rfl)
theorem dX1_greetingBy_59 : decode cX1_greetingBy 59 = .ok (.ireturn, 1) := dk_172 (dk_at dksX1_greetingBy_2 14 rfl rfl)
theorem dX1_greetingBy_60 : decode cX1_greetingBy 60 = .ok (.aload_n 3, 1) := dk_45 (dk_at dksX1_greetingBy_2 15 rfl rfl)
theorem dX1_greetingBy_61 : decode cX1_greetingBy 61 = .ok (.ldc 121, 2) := dk_18 121 (dk_at dksX1_greetingBy_2 16 rfl rfl)
theorem dX1_greetingBy_63 : decode cX1_greetingBy 63 = .ok (.invokevirtual 115, 3) := dk_182 0 115 (dk_at dksX1_greetingBy_2 18 rfl rfl)
theorem dX1_greetingBy_66 : decode cX1_greetingBy 66 = .ok (.ifCond .eq 10, 3) := dk_153 0 10 (dk_at dksX1_greetingBy_2 21 rfl rfl)
theorem dX1_greetingBy_69 : decode cX1_greetingBy 69 = .ok (.aload_n 1, 1) := dk_43 (dk_at dksX1_greetingBy_3 0 rfl rfl)
theorem dX1_greetingBy_70 : decode cX1_greetingBy 70 = .ok (.iload_n 2, 1) := dk_28 (dk_at dksX1_greetingBy_3 1 rfl rfl)
theorem dX1_greetingBy_71 : decode cX1_greetingBy 71 = .ok (.iconst 1, 1) := dk_4 (dk_at dksX1_greetingBy_3 2 rfl rfl)
theorem dX1_greetingBy_72 : decode cX1_greetingBy 72 = .ok (.invokevirtual 102, 3) := dk_182 0 102 (dk_at dksX1_greetingBy_3 3 rfl rfl)
theorem dX1_greetingBy_75 : decode cX1_greetingBy 75 = .ok (.ireturn, 1) := dk_172 (dk_at dksX1_greetingBy_3 6 rfl rfl)
theorem dX1_greetingBy_76 : decode cX1_greetingBy 76 = .ok (.aload_n 0, 1) := dk_42 (dk_at dksX1_greetingBy_3 7 rfl rfl)
theorem dX1_greetingBy_77 : decode cX1_greetingBy 77 = .ok (.getfield 25, 3) := dk_180 0 25 (dk_at dksX1_greetingBy_3 8 rfl rfl)
theorem dX1_greetingBy_80 : decode cX1_greetingBy 80 = .ok (.invokevirtual 94, 3) := dk_182 0 94 (dk_at dksX1_greetingBy_3 11 rfl rfl)
theorem dX1_greetingBy_83 : decode cX1_greetingBy 83 = .ok (.athrow, 1) := dk_191 (dk_at dksX1_greetingBy_3 14 rfl rfl)
abbrev cX1_needs : ByteArray := prog_1_method_11_code
def yX1_needs : MethodName := ⟨RX1, "needs", "(Ljava/lang/String;)V"⟩
def dkwX1_needs_0 : List UInt8 := [42, 180, 0, 25, 182, 0, 109, 43, 182, 0, 115, 154, 0, 11, 42, 180, 0, 25, 182, 0, 94, 191, 177]
abbrev dktX1_needs_0 : List UInt8 := dkwX1_needs_0 ++ []
theorem dksX1_needs_0 : cX1_needs.data.toList.drop 0 = dktX1_needs_0 := by decide +kernel
theorem dX1_needs_0 : decode cX1_needs 0 = .ok (.aload_n 0, 1) := dk_42 (dk_at dksX1_needs_0 0 rfl rfl)
theorem dX1_needs_1 : decode cX1_needs 1 = .ok (.getfield 25, 3) := dk_180 0 25 (dk_at dksX1_needs_0 1 rfl rfl)
theorem dX1_needs_4 : decode cX1_needs 4 = .ok (.invokevirtual 109, 3) := dk_182 0 109 (dk_at dksX1_needs_0 4 rfl rfl)
theorem dX1_needs_7 : decode cX1_needs 7 = .ok (.aload_n 1, 1) := dk_43 (dk_at dksX1_needs_0 7 rfl rfl)
theorem dX1_needs_8 : decode cX1_needs 8 = .ok (.invokevirtual 115, 3) := dk_182 0 115 (dk_at dksX1_needs_0 8 rfl rfl)
theorem dX1_needs_11 : decode cX1_needs 11 = .ok (.ifCond .ne 11, 3) := dk_154 0 11 (dk_at dksX1_needs_0 11 rfl rfl)
theorem dX1_needs_14 : decode cX1_needs 14 = .ok (.aload_n 0, 1) := dk_42 (dk_at dksX1_needs_0 14 rfl rfl)
theorem dX1_needs_15 : decode cX1_needs 15 = .ok (.getfield 25, 3) := dk_180 0 25 (dk_at dksX1_needs_0 15 rfl rfl)
theorem dX1_needs_18 : decode cX1_needs 18 = .ok (.invokevirtual 94, 3) := dk_182 0 94 (dk_at dksX1_needs_0 18 rfl rfl)
theorem dX1_needs_21 : decode cX1_needs 21 = .ok (.athrow, 1) := dk_191 (dk_at dksX1_needs_0 21 rfl rfl)
theorem dX1_needs_22 : decode cX1_needs 22 = .ok (.return_, 1) := dk_177 (dk_at dksX1_needs_0 22 rfl rfl)
abbrev cX1_aPerson : ByteArray := prog_1_method_13_code
def yX1_aPerson : MethodName := ⟨RX1, "aPerson", "(LCheekTown$World;)V"⟩
def dkwX1_aPerson_6 : List UInt8 := [104, 29, 96, 2, 79, 132, 4, 1, 167, 255, 220, 43, 89, 180, 0, 154, 4, 96, 181, 0, 154, 177]
abbrev dktX1_aPerson_6 : List UInt8 := dkwX1_aPerson_6 ++ []
def dkwX1_aPerson_5 : List UInt8 := [162, 0, 35, 43, 180, 0, 181, 16, 10, 29, 104, 21, 4, 96, 2, 79, 43, 180, 0, 181, 16, 10, 21, 4]
abbrev dktX1_aPerson_5 : List UInt8 := dkwX1_aPerson_5 ++ dktX1_aPerson_6
def dkwX1_aPerson_4 : List UInt8 := [84, 43, 180, 0, 175, 29, 2, 79, 43, 180, 0, 178, 29, 2, 79, 3, 54, 4, 21, 4, 16, 10]
abbrev dktX1_aPerson_4 : List UInt8 := dkwX1_aPerson_4 ++ dktX1_aPerson_5
def dkwX1_aPerson_3 : List UInt8 := [18, 167, 182, 0, 148, 43, 180, 0, 169, 29, 44, 3, 16, 100, 182, 0, 106, 79, 43, 180, 0, 171, 29, 3]
abbrev dktX1_aPerson_3 : List UInt8 := dkwX1_aPerson_3 ++ dktX1_aPerson_4
def dkwX1_aPerson_2 : List UInt8 := [182, 0, 143, 79, 42, 18, 163, 182, 0, 148, 43, 180, 0, 165, 29, 44, 3, 16, 9, 182, 0, 106, 79, 42]
abbrev dktX1_aPerson_2 : List UInt8 := dkwX1_aPerson_2 ++ dktX1_aPerson_3
def dkwX1_aPerson_1 : List UInt8 := [180, 0, 157, 29, 44, 3, 43, 180, 0, 137, 4, 100, 182, 0, 106, 79, 43, 180, 0, 160, 29, 42]
abbrev dktX1_aPerson_1 : List UInt8 := dkwX1_aPerson_1 ++ dktX1_aPerson_2
def dkwX1_aPerson_0 : List UInt8 := [42, 180, 0, 25, 77, 43, 180, 0, 154, 62, 29, 16, 10, 160, 0, 8, 44, 182, 0, 94, 191, 43]
abbrev dktX1_aPerson_0 : List UInt8 := dkwX1_aPerson_0 ++ dktX1_aPerson_1
theorem dksX1_aPerson_0 : cX1_aPerson.data.toList.drop 0 = dktX1_aPerson_0 := by decide +kernel
theorem dksX1_aPerson_1 : cX1_aPerson.data.toList.drop 22 = dktX1_aPerson_1 := dk_seg dksX1_aPerson_0 22 rfl rfl
theorem dksX1_aPerson_2 : cX1_aPerson.data.toList.drop 44 = dktX1_aPerson_2 := dk_seg dksX1_aPerson_1 22 rfl rfl
theorem dksX1_aPerson_3 : cX1_aPerson.data.toList.drop 68 = dktX1_aPerson_3 := dk_seg dksX1_aPerson_2 24 rfl rfl
theorem dksX1_aPerson_4 : cX1_aPerson.data.toList.drop 92 = dktX1_aPerson_4 := dk_seg dksX1_aPerson_3 24 rfl rfl
theorem dksX1_aPerson_5 : cX1_aPerson.data.toList.drop 114 = dktX1_aPerson_5 := dk_seg dksX1_aPerson_4 22 rfl rfl
theorem dksX1_aPerson_6 : cX1_aPerson.data.toList.drop 138 = dktX1_aPerson_6 := dk_seg dksX1_aPerson_5 24 rfl rfl
theorem dX1_aPerson_0 : decode cX1_aPerson 0 = .ok (.aload_n 0, 1) := dk_42 (dk_at dksX1_aPerson_0 0 rfl rfl)
theorem dX1_aPerson_1 : decode cX1_aPerson 1 = .ok (.getfield 25, 3) := dk_180 0 25 (dk_at dksX1_aPerson_0 1 rfl rfl)
theorem dX1_aPerson_4 : decode cX1_aPerson 4 = .ok (.astore_n 2, 1) := dk_77 (dk_at dksX1_aPerson_0 4 rfl rfl)
theorem dX1_aPerson_5 : decode cX1_aPerson 5 = .ok (.aload_n 1, 1) := dk_43 (dk_at dksX1_aPerson_0 5 rfl rfl)
theorem dX1_aPerson_6 : decode cX1_aPerson 6 = .ok (.getfield 154, 3) := dk_180 0 154 (dk_at dksX1_aPerson_0 6 rfl rfl)
theorem dX1_aPerson_9 : decode cX1_aPerson 9 = .ok (.istore_n 3, 1) := dk_62 (dk_at dksX1_aPerson_0 9 rfl rfl)
theorem dX1_aPerson_10 : decode cX1_aPerson 10 = .ok (.iload_n 3, 1) := dk_29 (dk_at dksX1_aPerson_0 10 rfl rfl)
theorem dX1_aPerson_11 : decode cX1_aPerson 11 = .ok (.bipush 10, 2) := dk_16 10 (dk_at dksX1_aPerson_0 11 rfl rfl)
theorem dX1_aPerson_13 : decode cX1_aPerson 13 = .ok (.if_icmp .ne 8, 3) := dk_160 0 8 (dk_at dksX1_aPerson_0 13 rfl rfl)
theorem dX1_aPerson_16 : decode cX1_aPerson 16 = .ok (.aload_n 2, 1) := dk_44 (dk_at dksX1_aPerson_0 16 rfl rfl)
theorem dX1_aPerson_17 : decode cX1_aPerson 17 = .ok (.invokevirtual 94, 3) := dk_182 0 94 (dk_at dksX1_aPerson_0 17 rfl rfl)
theorem dX1_aPerson_20 : decode cX1_aPerson 20 = .ok (.athrow, 1) := dk_191 (dk_at dksX1_aPerson_0 20 rfl rfl)
theorem dX1_aPerson_21 : decode cX1_aPerson 21 = .ok (.aload_n 1, 1) := dk_43 (dk_at dksX1_aPerson_0 21 rfl rfl)
theorem dX1_aPerson_22 : decode cX1_aPerson 22 = .ok (.getfield 157, 3) := dk_180 0 157 (dk_at dksX1_aPerson_1 0 rfl rfl)
theorem dX1_aPerson_25 : decode cX1_aPerson 25 = .ok (.iload_n 3, 1) := dk_29 (dk_at dksX1_aPerson_1 3 rfl rfl)
theorem dX1_aPerson_26 : decode cX1_aPerson 26 = .ok (.aload_n 2, 1) := dk_44 (dk_at dksX1_aPerson_1 4 rfl rfl)
theorem dX1_aPerson_27 : decode cX1_aPerson 27 = .ok (.iconst 0, 1) := dk_3 (dk_at dksX1_aPerson_1 5 rfl rfl)
theorem dX1_aPerson_28 : decode cX1_aPerson 28 = .ok (.aload_n 1, 1) := dk_43 (dk_at dksX1_aPerson_1 6 rfl rfl)
theorem dX1_aPerson_29 : decode cX1_aPerson 29 = .ok (.getfield 137, 3) := dk_180 0 137 (dk_at dksX1_aPerson_1 7 rfl rfl)
theorem dX1_aPerson_32 : decode cX1_aPerson 32 = .ok (.iconst 1, 1) := dk_4 (dk_at dksX1_aPerson_1 10 rfl rfl)
theorem dX1_aPerson_33 : decode cX1_aPerson 33 = .ok (.isub, 1) := dk_100 (dk_at dksX1_aPerson_1 11 rfl rfl)
theorem dX1_aPerson_34 : decode cX1_aPerson 34 = .ok (.invokevirtual 106, 3) := dk_182 0 106 (dk_at dksX1_aPerson_1 12 rfl rfl)
theorem dX1_aPerson_37 : decode cX1_aPerson 37 = .ok (.iastore, 1) := dk_79 (dk_at dksX1_aPerson_1 15 rfl rfl)
theorem dX1_aPerson_38 : decode cX1_aPerson 38 = .ok (.aload_n 1, 1) := dk_43 (dk_at dksX1_aPerson_1 16 rfl rfl)
theorem dX1_aPerson_39 : decode cX1_aPerson 39 = .ok (.getfield 160, 3) := dk_180 0 160 (dk_at dksX1_aPerson_1 17 rfl rfl)
theorem dX1_aPerson_42 : decode cX1_aPerson 42 = .ok (.iload_n 3, 1) := dk_29 (dk_at dksX1_aPerson_1 20 rfl rfl)
theorem dX1_aPerson_43 : decode cX1_aPerson 43 = .ok (.aload_n 0, 1) := dk_42 (dk_at dksX1_aPerson_1 21 rfl rfl)
theorem dX1_aPerson_44 : decode cX1_aPerson 44 = .ok (.invokevirtual 143, 3) := dk_182 0 143 (dk_at dksX1_aPerson_2 0 rfl rfl)
theorem dX1_aPerson_47 : decode cX1_aPerson 47 = .ok (.iastore, 1) := dk_79 (dk_at dksX1_aPerson_2 3 rfl rfl)
theorem dX1_aPerson_48 : decode cX1_aPerson 48 = .ok (.aload_n 0, 1) := dk_42 (dk_at dksX1_aPerson_2 4 rfl rfl)
theorem dX1_aPerson_49 : decode cX1_aPerson 49 = .ok (.ldc 163, 2) := dk_18 163 (dk_at dksX1_aPerson_2 5 rfl rfl)
theorem dX1_aPerson_51 : decode cX1_aPerson 51 = .ok (.invokevirtual 148, 3) := dk_182 0 148 (dk_at dksX1_aPerson_2 7 rfl rfl)
theorem dX1_aPerson_54 : decode cX1_aPerson 54 = .ok (.aload_n 1, 1) := dk_43 (dk_at dksX1_aPerson_2 10 rfl rfl)
theorem dX1_aPerson_55 : decode cX1_aPerson 55 = .ok (.getfield 165, 3) := dk_180 0 165 (dk_at dksX1_aPerson_2 11 rfl rfl)
theorem dX1_aPerson_58 : decode cX1_aPerson 58 = .ok (.iload_n 3, 1) := dk_29 (dk_at dksX1_aPerson_2 14 rfl rfl)
theorem dX1_aPerson_59 : decode cX1_aPerson 59 = .ok (.aload_n 2, 1) := dk_44 (dk_at dksX1_aPerson_2 15 rfl rfl)
theorem dX1_aPerson_60 : decode cX1_aPerson 60 = .ok (.iconst 0, 1) := dk_3 (dk_at dksX1_aPerson_2 16 rfl rfl)
theorem dX1_aPerson_61 : decode cX1_aPerson 61 = .ok (.bipush 9, 2) := dk_16 9 (dk_at dksX1_aPerson_2 17 rfl rfl)
theorem dX1_aPerson_63 : decode cX1_aPerson 63 = .ok (.invokevirtual 106, 3) := dk_182 0 106 (dk_at dksX1_aPerson_2 19 rfl rfl)
theorem dX1_aPerson_66 : decode cX1_aPerson 66 = .ok (.iastore, 1) := dk_79 (dk_at dksX1_aPerson_2 22 rfl rfl)
theorem dX1_aPerson_67 : decode cX1_aPerson 67 = .ok (.aload_n 0, 1) := dk_42 (dk_at dksX1_aPerson_2 23 rfl rfl)
theorem dX1_aPerson_68 : decode cX1_aPerson 68 = .ok (.ldc 167, 2) := dk_18 167 (dk_at dksX1_aPerson_3 0 rfl rfl)
theorem dX1_aPerson_70 : decode cX1_aPerson 70 = .ok (.invokevirtual 148, 3) := dk_182 0 148 (dk_at dksX1_aPerson_3 2 rfl rfl)
theorem dX1_aPerson_73 : decode cX1_aPerson 73 = .ok (.aload_n 1, 1) := dk_43 (dk_at dksX1_aPerson_3 5 rfl rfl)
theorem dX1_aPerson_74 : decode cX1_aPerson 74 = .ok (.getfield 169, 3) := dk_180 0 169 (dk_at dksX1_aPerson_3 6 rfl rfl)
theorem dX1_aPerson_77 : decode cX1_aPerson 77 = .ok (.iload_n 3, 1) := dk_29 (dk_at dksX1_aPerson_3 9 rfl rfl)
theorem dX1_aPerson_78 : decode cX1_aPerson 78 = .ok (.aload_n 2, 1) := dk_44 (dk_at dksX1_aPerson_3 10 rfl rfl)
theorem dX1_aPerson_79 : decode cX1_aPerson 79 = .ok (.iconst 0, 1) := dk_3 (dk_at dksX1_aPerson_3 11 rfl rfl)
theorem dX1_aPerson_80 : decode cX1_aPerson 80 = .ok (.bipush 100, 2) := dk_16 100 (dk_at dksX1_aPerson_3 12 rfl rfl)
theorem dX1_aPerson_82 : decode cX1_aPerson 82 = .ok (.invokevirtual 106, 3) := dk_182 0 106 (dk_at dksX1_aPerson_3 14 rfl rfl)
theorem dX1_aPerson_85 : decode cX1_aPerson 85 = .ok (.iastore, 1) := dk_79 (dk_at dksX1_aPerson_3 17 rfl rfl)
theorem dX1_aPerson_86 : decode cX1_aPerson 86 = .ok (.aload_n 1, 1) := dk_43 (dk_at dksX1_aPerson_3 18 rfl rfl)
theorem dX1_aPerson_87 : decode cX1_aPerson 87 = .ok (.getfield 171, 3) := dk_180 0 171 (dk_at dksX1_aPerson_3 19 rfl rfl)
theorem dX1_aPerson_90 : decode cX1_aPerson 90 = .ok (.iload_n 3, 1) := dk_29 (dk_at dksX1_aPerson_3 22 rfl rfl)
theorem dX1_aPerson_91 : decode cX1_aPerson 91 = .ok (.iconst 0, 1) := dk_3 (dk_at dksX1_aPerson_3 23 rfl rfl)
theorem dX1_aPerson_92 : decode cX1_aPerson 92 = .ok (.bastore, 1) := dk_84 (dk_at dksX1_aPerson_4 0 rfl rfl)
theorem dX1_aPerson_93 : decode cX1_aPerson 93 = .ok (.aload_n 1, 1) := dk_43 (dk_at dksX1_aPerson_4 1 rfl rfl)
theorem dX1_aPerson_94 : decode cX1_aPerson 94 = .ok (.getfield 175, 3) := dk_180 0 175 (dk_at dksX1_aPerson_4 2 rfl rfl)
theorem dX1_aPerson_97 : decode cX1_aPerson 97 = .ok (.iload_n 3, 1) := dk_29 (dk_at dksX1_aPerson_4 5 rfl rfl)
theorem dX1_aPerson_98 : decode cX1_aPerson 98 = .ok (.iconst (-1), 1) := dk_2 (dk_at dksX1_aPerson_4 6 rfl rfl)
theorem dX1_aPerson_99 : decode cX1_aPerson 99 = .ok (.iastore, 1) := dk_79 (dk_at dksX1_aPerson_4 7 rfl rfl)
theorem dX1_aPerson_100 : decode cX1_aPerson 100 = .ok (.aload_n 1, 1) := dk_43 (dk_at dksX1_aPerson_4 8 rfl rfl)
theorem dX1_aPerson_101 : decode cX1_aPerson 101 = .ok (.getfield 178, 3) := dk_180 0 178 (dk_at dksX1_aPerson_4 9 rfl rfl)
theorem dX1_aPerson_104 : decode cX1_aPerson 104 = .ok (.iload_n 3, 1) := dk_29 (dk_at dksX1_aPerson_4 12 rfl rfl)
theorem dX1_aPerson_105 : decode cX1_aPerson 105 = .ok (.iconst (-1), 1) := dk_2 (dk_at dksX1_aPerson_4 13 rfl rfl)
theorem dX1_aPerson_106 : decode cX1_aPerson 106 = .ok (.iastore, 1) := dk_79 (dk_at dksX1_aPerson_4 14 rfl rfl)
theorem dX1_aPerson_107 : decode cX1_aPerson 107 = .ok (.iconst 0, 1) := dk_3 (dk_at dksX1_aPerson_4 15 rfl rfl)
theorem dX1_aPerson_108 : decode cX1_aPerson 108 = .ok (.istore 4, 2) := dk_54 4 (dk_at dksX1_aPerson_4 16 rfl rfl)
theorem dX1_aPerson_110 : decode cX1_aPerson 110 = .ok (.iload 4, 2) := dk_21 4 (dk_at dksX1_aPerson_4 18 rfl rfl)
theorem dX1_aPerson_112 : decode cX1_aPerson 112 = .ok (.bipush 10, 2) := dk_16 10 (dk_at dksX1_aPerson_4 20 rfl rfl)
theorem dX1_aPerson_114 : decode cX1_aPerson 114 = .ok (.if_icmp .ge 35, 3) := dk_162 0 35 (dk_at dksX1_aPerson_5 0 rfl rfl)
theorem dX1_aPerson_117 : decode cX1_aPerson 117 = .ok (.aload_n 1, 1) := dk_43 (dk_at dksX1_aPerson_5 3 rfl rfl)
theorem dX1_aPerson_118 : decode cX1_aPerson 118 = .ok (.getfield 181, 3) := dk_180 0 181 (dk_at dksX1_aPerson_5 4 rfl rfl)
theorem dX1_aPerson_121 : decode cX1_aPerson 121 = .ok (.bipush 10, 2) := dk_16 10 (dk_at dksX1_aPerson_5 7 rfl rfl)
theorem dX1_aPerson_123 : decode cX1_aPerson 123 = .ok (.iload_n 3, 1) := dk_29 (dk_at dksX1_aPerson_5 9 rfl rfl)
theorem dX1_aPerson_124 : decode cX1_aPerson 124 = .ok (.imul, 1) := dk_104 (dk_at dksX1_aPerson_5 10 rfl rfl)
theorem dX1_aPerson_125 : decode cX1_aPerson 125 = .ok (.iload 4, 2) := dk_21 4 (dk_at dksX1_aPerson_5 11 rfl rfl)
theorem dX1_aPerson_127 : decode cX1_aPerson 127 = .ok (.iadd, 1) := dk_96 (dk_at dksX1_aPerson_5 13 rfl rfl)
theorem dX1_aPerson_128 : decode cX1_aPerson 128 = .ok (.iconst (-1), 1) := dk_2 (dk_at dksX1_aPerson_5 14 rfl rfl)
theorem dX1_aPerson_129 : decode cX1_aPerson 129 = .ok (.iastore, 1) := dk_79 (dk_at dksX1_aPerson_5 15 rfl rfl)
theorem dX1_aPerson_130 : decode cX1_aPerson 130 = .ok (.aload_n 1, 1) := dk_43 (dk_at dksX1_aPerson_5 16 rfl rfl)
theorem dX1_aPerson_131 : decode cX1_aPerson 131 = .ok (.getfield 181, 3) := dk_180 0 181 (dk_at dksX1_aPerson_5 17 rfl rfl)
theorem dX1_aPerson_134 : decode cX1_aPerson 134 = .ok (.bipush 10, 2) := dk_16 10 (dk_at dksX1_aPerson_5 20 rfl rfl)
theorem dX1_aPerson_136 : decode cX1_aPerson 136 = .ok (.iload 4, 2) := dk_21 4 (dk_at dksX1_aPerson_5 22 rfl rfl)
theorem dX1_aPerson_138 : decode cX1_aPerson 138 = .ok (.imul, 1) := dk_104 (dk_at dksX1_aPerson_6 0 rfl rfl)
theorem dX1_aPerson_139 : decode cX1_aPerson 139 = .ok (.iload_n 3, 1) := dk_29 (dk_at dksX1_aPerson_6 1 rfl rfl)
theorem dX1_aPerson_140 : decode cX1_aPerson 140 = .ok (.iadd, 1) := dk_96 (dk_at dksX1_aPerson_6 2 rfl rfl)
theorem dX1_aPerson_141 : decode cX1_aPerson 141 = .ok (.iconst (-1), 1) := dk_2 (dk_at dksX1_aPerson_6 3 rfl rfl)
theorem dX1_aPerson_142 : decode cX1_aPerson 142 = .ok (.iastore, 1) := dk_79 (dk_at dksX1_aPerson_6 4 rfl rfl)
theorem dX1_aPerson_143 : decode cX1_aPerson 143 = .ok (.iinc 4 1, 3) := dk_132 4 1 (dk_at dksX1_aPerson_6 5 rfl rfl)
theorem dX1_aPerson_146 : decode cX1_aPerson 146 = .ok (.goto (-36), 3) := dk_167 255 220 (dk_at dksX1_aPerson_6 8 rfl rfl)
theorem dX1_aPerson_149 : decode cX1_aPerson 149 = .ok (.aload_n 1, 1) := dk_43 (dk_at dksX1_aPerson_6 11 rfl rfl)
theorem dX1_aPerson_150 : decode cX1_aPerson 150 = .ok (.dup, 1) := dk_89 (dk_at dksX1_aPerson_6 12 rfl rfl)
theorem dX1_aPerson_151 : decode cX1_aPerson 151 = .ok (.getfield 154, 3) := dk_180 0 154 (dk_at dksX1_aPerson_6 13 rfl rfl)
theorem dX1_aPerson_154 : decode cX1_aPerson 154 = .ok (.iconst 1, 1) := dk_4 (dk_at dksX1_aPerson_6 16 rfl rfl)
theorem dX1_aPerson_155 : decode cX1_aPerson 155 = .ok (.iadd, 1) := dk_96 (dk_at dksX1_aPerson_6 17 rfl rfl)
theorem dX1_aPerson_156 : decode cX1_aPerson 156 = .ok (.putfield 154, 3) := dk_181 0 154 (dk_at dksX1_aPerson_6 18 rfl rfl)
theorem dX1_aPerson_159 : decode cX1_aPerson 159 = .ok (.return_, 1) := dk_177 (dk_at dksX1_aPerson_6 21 rfl rfl)
abbrev cX1_personTold : ByteArray := prog_1_method_14_code
def yX1_personTold : MethodName := ⟨RX1, "personTold", "(LCheekTown$World;)I"⟩
def dkwX1_personTold_0 : List UInt8 := [42, 180, 0, 25, 3, 43, 180, 0, 154, 4, 100, 182, 0, 106, 172]
abbrev dktX1_personTold_0 : List UInt8 := dkwX1_personTold_0 ++ []
theorem dksX1_personTold_0 : cX1_personTold.data.toList.drop 0 = dktX1_personTold_0 := by decide +kernel
theorem dX1_personTold_0 : decode cX1_personTold 0 = .ok (.aload_n 0, 1) := dk_42 (dk_at dksX1_personTold_0 0 rfl rfl)
theorem dX1_personTold_1 : decode cX1_personTold 1 = .ok (.getfield 25, 3) := dk_180 0 25 (dk_at dksX1_personTold_0 1 rfl rfl)
theorem dX1_personTold_4 : decode cX1_personTold 4 = .ok (.iconst 0, 1) := dk_3 (dk_at dksX1_personTold_0 4 rfl rfl)
theorem dX1_personTold_5 : decode cX1_personTold 5 = .ok (.aload_n 1, 1) := dk_43 (dk_at dksX1_personTold_0 5 rfl rfl)
theorem dX1_personTold_6 : decode cX1_personTold 6 = .ok (.getfield 154, 3) := dk_180 0 154 (dk_at dksX1_personTold_0 6 rfl rfl)
theorem dX1_personTold_9 : decode cX1_personTold 9 = .ok (.iconst 1, 1) := dk_4 (dk_at dksX1_personTold_0 9 rfl rfl)
theorem dX1_personTold_10 : decode cX1_personTold 10 = .ok (.isub, 1) := dk_100 (dk_at dksX1_personTold_0 10 rfl rfl)
theorem dX1_personTold_11 : decode cX1_personTold 11 = .ok (.invokevirtual 106, 3) := dk_182 0 106 (dk_at dksX1_personTold_0 11 rfl rfl)
theorem dX1_personTold_14 : decode cX1_personTold 14 = .ok (.ireturn, 1) := dk_172 (dk_at dksX1_personTold_0 14 rfl rfl)
abbrev cX1_aTie : ByteArray := prog_1_method_15_code
def yX1_aTie : MethodName := ⟨RX1, "aTie", "(LCheekTown$World;)V"⟩
def dkwX1_aTie_2 : List UInt8 := [182, 0, 94, 191, 43, 28, 29, 182, 0, 194, 177]
abbrev dktX1_aTie_2 : List UInt8 := dkwX1_aTie_2 ++ []
def dkwX1_aTie_1 : List UInt8 := [43, 182, 0, 187, 62, 28, 29, 159, 0, 13, 43, 28, 29, 182, 0, 191, 2, 159, 0, 11, 42, 180, 0, 25]
abbrev dktX1_aTie_1 : List UInt8 := dkwX1_aTie_1 ++ dktX1_aTie_2
def dkwX1_aTie_0 : List UInt8 := [43, 180, 0, 184, 16, 24, 160, 0, 11, 42, 180, 0, 25, 182, 0, 94, 191, 42, 43, 182, 0, 187, 61, 42]
abbrev dktX1_aTie_0 : List UInt8 := dkwX1_aTie_0 ++ dktX1_aTie_1
theorem dksX1_aTie_0 : cX1_aTie.data.toList.drop 0 = dktX1_aTie_0 := by decide +kernel
theorem dksX1_aTie_1 : cX1_aTie.data.toList.drop 24 = dktX1_aTie_1 := dk_seg dksX1_aTie_0 24 rfl rfl
theorem dksX1_aTie_2 : cX1_aTie.data.toList.drop 48 = dktX1_aTie_2 := dk_seg dksX1_aTie_1 24 rfl rfl
theorem dX1_aTie_0 : decode cX1_aTie 0 = .ok (.aload_n 1, 1) := dk_43 (dk_at dksX1_aTie_0 0 rfl rfl)
theorem dX1_aTie_1 : decode cX1_aTie 1 = .ok (.getfield 184, 3) := dk_180 0 184 (dk_at dksX1_aTie_0 1 rfl rfl)
theorem dX1_aTie_4 : decode cX1_aTie 4 = .ok (.bipush 24, 2) := dk_16 24 (dk_at dksX1_aTie_0 4 rfl rfl)
theorem dX1_aTie_6 : decode cX1_aTie 6 = .ok (.if_icmp .ne 11, 3) := dk_160 0 11 (dk_at dksX1_aTie_0 6 rfl rfl)
theorem dX1_aTie_9 : decode cX1_aTie 9 = .ok (.aload_n 0, 1) := dk_42 (dk_at dksX1_aTie_0 9 rfl rfl)
theorem dX1_aTie_10 : decode cX1_aTie 10 = .ok (.getfield 25, 3) := dk_180 0 25 (dk_at dksX1_aTie_0 10 rfl rfl)
theorem dX1_aTie_13 : decode cX1_aTie 13 = .ok (.invokevirtual 94, 3) := dk_182 0 94 (dk_at dksX1_aTie_0 13 rfl rfl)
theorem dX1_aTie_16 : decode cX1_aTie 16 = .ok (.athrow, 1) := dk_191 (dk_at dksX1_aTie_0 16 rfl rfl)
theorem dX1_aTie_17 : decode cX1_aTie 17 = .ok (.aload_n 0, 1) := dk_42 (dk_at dksX1_aTie_0 17 rfl rfl)
theorem dX1_aTie_18 : decode cX1_aTie 18 = .ok (.aload_n 1, 1) := dk_43 (dk_at dksX1_aTie_0 18 rfl rfl)
theorem dX1_aTie_19 : decode cX1_aTie 19 = .ok (.invokevirtual 187, 3) := dk_182 0 187 (dk_at dksX1_aTie_0 19 rfl rfl)
theorem dX1_aTie_22 : decode cX1_aTie 22 = .ok (.istore_n 2, 1) := dk_61 (dk_at dksX1_aTie_0 22 rfl rfl)
theorem dX1_aTie_23 : decode cX1_aTie 23 = .ok (.aload_n 0, 1) := dk_42 (dk_at dksX1_aTie_0 23 rfl rfl)
theorem dX1_aTie_24 : decode cX1_aTie 24 = .ok (.aload_n 1, 1) := dk_43 (dk_at dksX1_aTie_1 0 rfl rfl)
theorem dX1_aTie_25 : decode cX1_aTie 25 = .ok (.invokevirtual 187, 3) := dk_182 0 187 (dk_at dksX1_aTie_1 1 rfl rfl)
theorem dX1_aTie_28 : decode cX1_aTie 28 = .ok (.istore_n 3, 1) := dk_62 (dk_at dksX1_aTie_1 4 rfl rfl)
theorem dX1_aTie_29 : decode cX1_aTie 29 = .ok (.iload_n 2, 1) := dk_28 (dk_at dksX1_aTie_1 5 rfl rfl)
theorem dX1_aTie_30 : decode cX1_aTie 30 = .ok (.iload_n 3, 1) := dk_29 (dk_at dksX1_aTie_1 6 rfl rfl)
theorem dX1_aTie_31 : decode cX1_aTie 31 = .ok (.if_icmp .eq 13, 3) := dk_159 0 13 (dk_at dksX1_aTie_1 7 rfl rfl)
theorem dX1_aTie_34 : decode cX1_aTie 34 = .ok (.aload_n 1, 1) := dk_43 (dk_at dksX1_aTie_1 10 rfl rfl)
theorem dX1_aTie_35 : decode cX1_aTie 35 = .ok (.iload_n 2, 1) := dk_28 (dk_at dksX1_aTie_1 11 rfl rfl)
theorem dX1_aTie_36 : decode cX1_aTie 36 = .ok (.iload_n 3, 1) := dk_29 (dk_at dksX1_aTie_1 12 rfl rfl)
theorem dX1_aTie_37 : decode cX1_aTie 37 = .ok (.invokevirtual 191, 3) := dk_182 0 191 (dk_at dksX1_aTie_1 13 rfl rfl)
theorem dX1_aTie_40 : decode cX1_aTie 40 = .ok (.iconst (-1), 1) := dk_2 (dk_at dksX1_aTie_1 16 rfl rfl)
theorem dX1_aTie_41 : decode cX1_aTie 41 = .ok (.if_icmp .eq 11, 3) := dk_159 0 11 (dk_at dksX1_aTie_1 17 rfl rfl)
theorem dX1_aTie_44 : decode cX1_aTie 44 = .ok (.aload_n 0, 1) := dk_42 (dk_at dksX1_aTie_1 20 rfl rfl)
theorem dX1_aTie_45 : decode cX1_aTie 45 = .ok (.getfield 25, 3) := dk_180 0 25 (dk_at dksX1_aTie_1 21 rfl rfl)
theorem dX1_aTie_48 : decode cX1_aTie 48 = .ok (.invokevirtual 94, 3) := dk_182 0 94 (dk_at dksX1_aTie_2 0 rfl rfl)
theorem dX1_aTie_51 : decode cX1_aTie 51 = .ok (.athrow, 1) := dk_191 (dk_at dksX1_aTie_2 3 rfl rfl)
theorem dX1_aTie_52 : decode cX1_aTie 52 = .ok (.aload_n 1, 1) := dk_43 (dk_at dksX1_aTie_2 4 rfl rfl)
theorem dX1_aTie_53 : decode cX1_aTie 53 = .ok (.iload_n 2, 1) := dk_28 (dk_at dksX1_aTie_2 5 rfl rfl)
theorem dX1_aTie_54 : decode cX1_aTie 54 = .ok (.iload_n 3, 1) := dk_29 (dk_at dksX1_aTie_2 6 rfl rfl)
theorem dX1_aTie_55 : decode cX1_aTie 55 = .ok (.invokevirtual 194, 3) := dk_182 0 194 (dk_at dksX1_aTie_2 7 rfl rfl)
theorem dX1_aTie_58 : decode cX1_aTie 58 = .ok (.return_, 1) := dk_177 (dk_at dksX1_aTie_2 10 rfl rfl)
abbrev cX1_goesOn : ByteArray := prog_1_method_19_code
def yX1_goesOn : MethodName := ⟨RX1, "goesOn", "()Z"⟩
def dkwX1_goesOn_1 : List UInt8 := [4, 172, 42, 180, 0, 25, 182, 0, 94, 191]
abbrev dktX1_goesOn_1 : List UInt8 := dkwX1_goesOn_1 ++ []
def dkwX1_goesOn_0 : List UInt8 := [42, 180, 0, 25, 182, 0, 229, 153, 0, 5, 3, 172, 42, 180, 0, 25, 16, 59, 182, 0, 242, 153, 0, 5]
abbrev dktX1_goesOn_0 : List UInt8 := dkwX1_goesOn_0 ++ dktX1_goesOn_1
theorem dksX1_goesOn_0 : cX1_goesOn.data.toList.drop 0 = dktX1_goesOn_0 := by decide +kernel
theorem dksX1_goesOn_1 : cX1_goesOn.data.toList.drop 24 = dktX1_goesOn_1 := dk_seg dksX1_goesOn_0 24 rfl rfl
theorem dX1_goesOn_0 : decode cX1_goesOn 0 = .ok (.aload_n 0, 1) := dk_42 (dk_at dksX1_goesOn_0 0 rfl rfl)
theorem dX1_goesOn_1 : decode cX1_goesOn 1 = .ok (.getfield 25, 3) := dk_180 0 25 (dk_at dksX1_goesOn_0 1 rfl rfl)
theorem dX1_goesOn_4 : decode cX1_goesOn 4 = .ok (.invokevirtual 229, 3) := dk_182 0 229 (dk_at dksX1_goesOn_0 4 rfl rfl)
theorem dX1_goesOn_7 : decode cX1_goesOn 7 = .ok (.ifCond .eq 5, 3) := dk_153 0 5 (dk_at dksX1_goesOn_0 7 rfl rfl)
theorem dX1_goesOn_10 : decode cX1_goesOn 10 = .ok (.iconst 0, 1) := dk_3 (dk_at dksX1_goesOn_0 10 rfl rfl)
theorem dX1_goesOn_11 : decode cX1_goesOn 11 = .ok (.ireturn, 1) := dk_172 (dk_at dksX1_goesOn_0 11 rfl rfl)
theorem dX1_goesOn_12 : decode cX1_goesOn 12 = .ok (.aload_n 0, 1) := dk_42 (dk_at dksX1_goesOn_0 12 rfl rfl)
theorem dX1_goesOn_13 : decode cX1_goesOn 13 = .ok (.getfield 25, 3) := dk_180 0 25 (dk_at dksX1_goesOn_0 13 rfl rfl)
theorem dX1_goesOn_16 : decode cX1_goesOn 16 = .ok (.bipush 59, 2) := dk_16 59 (dk_at dksX1_goesOn_0 16 rfl rfl)
theorem dX1_goesOn_18 : decode cX1_goesOn 18 = .ok (.invokevirtual 242, 3) := dk_182 0 242 (dk_at dksX1_goesOn_0 18 rfl rfl)
theorem dX1_goesOn_21 : decode cX1_goesOn 21 = .ok (.ifCond .eq 5, 3) := dk_153 0 5 (dk_at dksX1_goesOn_0 21 rfl rfl)
theorem dX1_goesOn_24 : decode cX1_goesOn 24 = .ok (.iconst 1, 1) := dk_4 (dk_at dksX1_goesOn_1 0 rfl rfl)
theorem dX1_goesOn_25 : decode cX1_goesOn 25 = .ok (.ireturn, 1) := dk_172 (dk_at dksX1_goesOn_1 1 rfl rfl)
theorem dX1_goesOn_26 : decode cX1_goesOn 26 = .ok (.aload_n 0, 1) := dk_42 (dk_at dksX1_goesOn_1 2 rfl rfl)
theorem dX1_goesOn_27 : decode cX1_goesOn 27 = .ok (.getfield 25, 3) := dk_180 0 25 (dk_at dksX1_goesOn_1 3 rfl rfl)
theorem dX1_goesOn_30 : decode cX1_goesOn 30 = .ok (.invokevirtual 94, 3) := dk_182 0 94 (dk_at dksX1_goesOn_1 6 rfl rfl)
theorem dX1_goesOn_33 : decode cX1_goesOn 33 = .ok (.athrow, 1) := dk_191 (dk_at dksX1_goesOn_1 9 rfl rfl)
abbrev cX1_fails : ByteArray := prog_1_method_20_code
def yX1_fails : MethodName := ⟨RX1, "fails", "()V"⟩
def dkwX1_fails_0 : List UInt8 := [42, 180, 0, 25, 42, 180, 0, 25, 180, 0, 245, 181, 0, 84, 187, 0, 248, 89, 183, 0, 250, 191]
abbrev dktX1_fails_0 : List UInt8 := dkwX1_fails_0 ++ []
theorem dksX1_fails_0 : cX1_fails.data.toList.drop 0 = dktX1_fails_0 := by decide +kernel
theorem dX1_fails_0 : decode cX1_fails 0 = .ok (.aload_n 0, 1) := dk_42 (dk_at dksX1_fails_0 0 rfl rfl)
theorem dX1_fails_1 : decode cX1_fails 1 = .ok (.getfield 25, 3) := dk_180 0 25 (dk_at dksX1_fails_0 1 rfl rfl)
theorem dX1_fails_4 : decode cX1_fails 4 = .ok (.aload_n 0, 1) := dk_42 (dk_at dksX1_fails_0 4 rfl rfl)
theorem dX1_fails_5 : decode cX1_fails 5 = .ok (.getfield 25, 3) := dk_180 0 25 (dk_at dksX1_fails_0 5 rfl rfl)
theorem dX1_fails_8 : decode cX1_fails 8 = .ok (.getfield 245, 3) := dk_180 0 245 (dk_at dksX1_fails_0 8 rfl rfl)
theorem dX1_fails_11 : decode cX1_fails 11 = .ok (.putfield 84, 3) := dk_181 0 84 (dk_at dksX1_fails_0 11 rfl rfl)
theorem dX1_fails_14 : decode cX1_fails 14 = .ok (.new 248, 3) := dk_187 0 248 (dk_at dksX1_fails_0 14 rfl rfl)
theorem dX1_fails_17 : decode cX1_fails 17 = .ok (.dup, 1) := dk_89 (dk_at dksX1_fails_0 17 rfl rfl)
theorem dX1_fails_18 : decode cX1_fails 18 = .ok (.invokespecial 250, 3) := dk_183 0 250 (dk_at dksX1_fails_0 18 rfl rfl)
theorem dX1_fails_21 : decode cX1_fails 21 = .ok (.athrow, 1) := dk_191 (dk_at dksX1_fails_0 21 rfl rfl)
abbrev cX1_law : ByteArray := prog_1_method_29_code
def yX1_law : MethodName := ⟨RX1, "law", "()I"⟩
def dkwX1_law_2 : List UInt8 := [180, 1, 121, 180, 1, 107, 182, 1, 110, 172]
abbrev dktX1_law_2 : List UInt8 := dkwX1_law_2 ++ []
def dkwX1_law_1 : List UInt8 := [181, 0, 84, 167, 0, 8, 76, 42, 182, 1, 7, 42, 180, 0, 39, 182, 1, 16, 42, 180, 0, 10]
abbrev dktX1_law_1 : List UInt8 := dkwX1_law_1 ++ dktX1_law_2
def dkwX1_law_0 : List UInt8 := [42, 180, 0, 25, 182, 0, 251, 42, 180, 0, 10, 42, 182, 1, 117, 181, 1, 121, 42, 180, 0, 25, 2]
abbrev dktX1_law_0 : List UInt8 := dkwX1_law_0 ++ dktX1_law_1
theorem dksX1_law_0 : cX1_law.data.toList.drop 0 = dktX1_law_0 := by decide +kernel
theorem dksX1_law_1 : cX1_law.data.toList.drop 23 = dktX1_law_1 := dk_seg dksX1_law_0 23 rfl rfl
theorem dksX1_law_2 : cX1_law.data.toList.drop 45 = dktX1_law_2 := dk_seg dksX1_law_1 22 rfl rfl
theorem dX1_law_0 : decode cX1_law 0 = .ok (.aload_n 0, 1) := dk_42 (dk_at dksX1_law_0 0 rfl rfl)
theorem dX1_law_1 : decode cX1_law 1 = .ok (.getfield 25, 3) := dk_180 0 25 (dk_at dksX1_law_0 1 rfl rfl)
theorem dX1_law_4 : decode cX1_law 4 = .ok (.invokevirtual 251, 3) := dk_182 0 251 (dk_at dksX1_law_0 4 rfl rfl)
theorem dX1_law_7 : decode cX1_law 7 = .ok (.aload_n 0, 1) := dk_42 (dk_at dksX1_law_0 7 rfl rfl)
theorem dX1_law_8 : decode cX1_law 8 = .ok (.getfield 10, 3) := dk_180 0 10 (dk_at dksX1_law_0 8 rfl rfl)
theorem dX1_law_11 : decode cX1_law 11 = .ok (.aload_n 0, 1) := dk_42 (dk_at dksX1_law_0 11 rfl rfl)
theorem dX1_law_12 : decode cX1_law 12 = .ok (.invokevirtual 373, 3) := dk_182 1 117 (dk_at dksX1_law_0 12 rfl rfl)
theorem dX1_law_15 : decode cX1_law 15 = .ok (.putfield 377, 3) := dk_181 1 121 (dk_at dksX1_law_0 15 rfl rfl)
theorem dX1_law_18 : decode cX1_law 18 = .ok (.aload_n 0, 1) := dk_42 (dk_at dksX1_law_0 18 rfl rfl)
theorem dX1_law_19 : decode cX1_law 19 = .ok (.getfield 25, 3) := dk_180 0 25 (dk_at dksX1_law_0 19 rfl rfl)
theorem dX1_law_22 : decode cX1_law 22 = .ok (.iconst (-1), 1) := dk_2 (dk_at dksX1_law_0 22 rfl rfl)
theorem dX1_law_23 : decode cX1_law 23 = .ok (.putfield 84, 3) := dk_181 0 84 (dk_at dksX1_law_1 0 rfl rfl)
theorem dX1_law_26 : decode cX1_law 26 = .ok (.goto 8, 3) := dk_167 0 8 (dk_at dksX1_law_1 3 rfl rfl)
theorem dX1_law_29 : decode cX1_law 29 = .ok (.astore_n 1, 1) := dk_76 (dk_at dksX1_law_1 6 rfl rfl)
theorem dX1_law_30 : decode cX1_law 30 = .ok (.aload_n 0, 1) := dk_42 (dk_at dksX1_law_1 7 rfl rfl)
theorem dX1_law_31 : decode cX1_law 31 = .ok (.invokevirtual 263, 3) := dk_182 1 7 (dk_at dksX1_law_1 8 rfl rfl)
theorem dX1_law_34 : decode cX1_law 34 = .ok (.aload_n 0, 1) := dk_42 (dk_at dksX1_law_1 11 rfl rfl)
theorem dX1_law_35 : decode cX1_law 35 = .ok (.getfield 39, 3) := dk_180 0 39 (dk_at dksX1_law_1 12 rfl rfl)
theorem dX1_law_38 : decode cX1_law 38 = .ok (.invokevirtual 272, 3) := dk_182 1 16 (dk_at dksX1_law_1 15 rfl rfl)
theorem dX1_law_41 : decode cX1_law 41 = .ok (.aload_n 0, 1) := dk_42 (dk_at dksX1_law_1 18 rfl rfl)
theorem dX1_law_42 : decode cX1_law 42 = .ok (.getfield 10, 3) := dk_180 0 10 (dk_at dksX1_law_1 19 rfl rfl)
theorem dX1_law_45 : decode cX1_law 45 = .ok (.getfield 377, 3) := dk_180 1 121 (dk_at dksX1_law_2 0 rfl rfl)
theorem dX1_law_48 : decode cX1_law 48 = .ok (.getfield 363, 3) := dk_180 1 107 (dk_at dksX1_law_2 3 rfl rfl)
theorem dX1_law_51 : decode cX1_law 51 = .ok (.invokevirtual 366, 3) := dk_182 1 110 (dk_at dksX1_law_2 6 rfl rfl)
theorem dX1_law_54 : decode cX1_law 54 = .ok (.ireturn, 1) := dk_172 (dk_at dksX1_law_2 9 rfl rfl)
abbrev cX1_lawText : ByteArray := prog_1_method_28_code
def yX1_lawText : MethodName := ⟨RX1, "lawText", "()LCheekTown$Law;"⟩
def dkwX1_lawText_2 : List UInt8 := [182, 0, 239, 154, 255, 227, 43, 176]
abbrev dktX1_lawText_2 : List UInt8 := dkwX1_lawText_2 ++ []
def dkwX1_lawText_1 : List UInt8 := [180, 1, 107, 182, 1, 110, 16, 12, 182, 0, 233, 43, 180, 1, 107, 42, 182, 1, 113, 182, 1, 42, 87, 42]
abbrev dktX1_lawText_1 : List UInt8 := dkwX1_lawText_1 ++ dktX1_lawText_2
def dkwX1_lawText_0 : List UInt8 := [187, 1, 104, 89, 183, 1, 106, 76, 42, 180, 0, 25, 182, 0, 229, 153, 0, 5, 43, 176, 42, 43]
abbrev dktX1_lawText_0 : List UInt8 := dkwX1_lawText_0 ++ dktX1_lawText_1
theorem dksX1_lawText_0 : cX1_lawText.data.toList.drop 0 = dktX1_lawText_0 := by decide +kernel
theorem dksX1_lawText_1 : cX1_lawText.data.toList.drop 22 = dktX1_lawText_1 := dk_seg dksX1_lawText_0 22 rfl rfl
theorem dksX1_lawText_2 : cX1_lawText.data.toList.drop 46 = dktX1_lawText_2 := dk_seg dksX1_lawText_1 24 rfl rfl
theorem dX1_lawText_0 : decode cX1_lawText 0 = .ok (.new 360, 3) := dk_187 1 104 (dk_at dksX1_lawText_0 0 rfl rfl)
theorem dX1_lawText_3 : decode cX1_lawText 3 = .ok (.dup, 1) := dk_89 (dk_at dksX1_lawText_0 3 rfl rfl)
theorem dX1_lawText_4 : decode cX1_lawText 4 = .ok (.invokespecial 362, 3) := dk_183 1 106 (dk_at dksX1_lawText_0 4 rfl rfl)
theorem dX1_lawText_7 : decode cX1_lawText 7 = .ok (.astore_n 1, 1) := dk_76 (dk_at dksX1_lawText_0 7 rfl rfl)
theorem dX1_lawText_8 : decode cX1_lawText 8 = .ok (.aload_n 0, 1) := dk_42 (dk_at dksX1_lawText_0 8 rfl rfl)
theorem dX1_lawText_9 : decode cX1_lawText 9 = .ok (.getfield 25, 3) := dk_180 0 25 (dk_at dksX1_lawText_0 9 rfl rfl)
theorem dX1_lawText_12 : decode cX1_lawText 12 = .ok (.invokevirtual 229, 3) := dk_182 0 229 (dk_at dksX1_lawText_0 12 rfl rfl)
theorem dX1_lawText_15 : decode cX1_lawText 15 = .ok (.ifCond .eq 5, 3) := dk_153 0 5 (dk_at dksX1_lawText_0 15 rfl rfl)
theorem dX1_lawText_18 : decode cX1_lawText 18 = .ok (.aload_n 1, 1) := dk_43 (dk_at dksX1_lawText_0 18 rfl rfl)
theorem dX1_lawText_19 : decode cX1_lawText 19 = .ok (.areturn, 1) := dk_176 (dk_at dksX1_lawText_0 19 rfl rfl)
theorem dX1_lawText_20 : decode cX1_lawText 20 = .ok (.aload_n 0, 1) := dk_42 (dk_at dksX1_lawText_0 20 rfl rfl)
theorem dX1_lawText_21 : decode cX1_lawText 21 = .ok (.aload_n 1, 1) := dk_43 (dk_at dksX1_lawText_0 21 rfl rfl)
theorem dX1_lawText_22 : decode cX1_lawText 22 = .ok (.getfield 363, 3) := dk_180 1 107 (dk_at dksX1_lawText_1 0 rfl rfl)
theorem dX1_lawText_25 : decode cX1_lawText 25 = .ok (.invokevirtual 366, 3) := dk_182 1 110 (dk_at dksX1_lawText_1 3 rfl rfl)
theorem dX1_lawText_28 : decode cX1_lawText 28 = .ok (.bipush 12, 2) := dk_16 12 (dk_at dksX1_lawText_1 6 rfl rfl)
theorem dX1_lawText_30 : decode cX1_lawText 30 = .ok (.invokevirtual 233, 3) := dk_182 0 233 (dk_at dksX1_lawText_1 8 rfl rfl)
theorem dX1_lawText_33 : decode cX1_lawText 33 = .ok (.aload_n 1, 1) := dk_43 (dk_at dksX1_lawText_1 11 rfl rfl)
theorem dX1_lawText_34 : decode cX1_lawText 34 = .ok (.getfield 363, 3) := dk_180 1 107 (dk_at dksX1_lawText_1 12 rfl rfl)
theorem dX1_lawText_37 : decode cX1_lawText 37 = .ok (.aload_n 0, 1) := dk_42 (dk_at dksX1_lawText_1 15 rfl rfl)
theorem dX1_lawText_38 : decode cX1_lawText 38 = .ok (.invokevirtual 369, 3) := dk_182 1 113 (dk_at dksX1_lawText_1 16 rfl rfl)
theorem dX1_lawText_41 : decode cX1_lawText 41 = .ok (.invokevirtual 298, 3) := dk_182 1 42 (dk_at dksX1_lawText_1 19 rfl rfl)
theorem dX1_lawText_44 : decode cX1_lawText 44 = .ok (.pop, 1) := dk_87 (dk_at dksX1_lawText_1 22 rfl rfl)
theorem dX1_lawText_45 : decode cX1_lawText 45 = .ok (.aload_n 0, 1) := dk_42 (dk_at dksX1_lawText_1 23 rfl rfl)
theorem dX1_lawText_46 : decode cX1_lawText 46 = .ok (.invokevirtual 239, 3) := dk_182 0 239 (dk_at dksX1_lawText_2 0 rfl rfl)
theorem dX1_lawText_49 : decode cX1_lawText 49 = .ok (.ifCond .ne (-29), 3) := dk_154 255 227 (dk_at dksX1_lawText_2 3 rfl rfl)
theorem dX1_lawText_52 : decode cX1_lawText 52 = .ok (.aload_n 1, 1) := dk_43 (dk_at dksX1_lawText_2 6 rfl rfl)
theorem dX1_lawText_53 : decode cX1_lawText 53 = .ok (.areturn, 1) := dk_176 (dk_at dksX1_lawText_2 7 rfl rfl)
abbrev cX1_lawLine : ByteArray := prog_1_method_27_code
def yX1_lawLine : MethodName := ⟨RX1, "lawLine", "()LCheekTown$Line;"⟩
def dkwX1_lawLine_1 : List UInt8 := [182, 1, 47, 167, 0, 4, 1, 183, 1, 101, 176]
abbrev dktX1_lawLine_1 : List UInt8 := dkwX1_lawLine_1 ++ []
def dkwX1_lawLine_0 : List UInt8 := [42, 182, 0, 143, 60, 187, 1, 97, 89, 27, 42, 180, 0, 25, 19, 1, 99, 182, 1, 56, 153, 0, 10, 42]
abbrev dktX1_lawLine_0 : List UInt8 := dkwX1_lawLine_0 ++ dktX1_lawLine_1
theorem dksX1_lawLine_0 : cX1_lawLine.data.toList.drop 0 = dktX1_lawLine_0 := by decide +kernel
theorem dksX1_lawLine_1 : cX1_lawLine.data.toList.drop 24 = dktX1_lawLine_1 := dk_seg dksX1_lawLine_0 24 rfl rfl
theorem dX1_lawLine_0 : decode cX1_lawLine 0 = .ok (.aload_n 0, 1) := dk_42 (dk_at dksX1_lawLine_0 0 rfl rfl)
theorem dX1_lawLine_1 : decode cX1_lawLine 1 = .ok (.invokevirtual 143, 3) := dk_182 0 143 (dk_at dksX1_lawLine_0 1 rfl rfl)
theorem dX1_lawLine_4 : decode cX1_lawLine 4 = .ok (.istore_n 1, 1) := dk_60 (dk_at dksX1_lawLine_0 4 rfl rfl)
theorem dX1_lawLine_5 : decode cX1_lawLine 5 = .ok (.new 353, 3) := dk_187 1 97 (dk_at dksX1_lawLine_0 5 rfl rfl)
theorem dX1_lawLine_8 : decode cX1_lawLine 8 = .ok (.dup, 1) := dk_89 (dk_at dksX1_lawLine_0 8 rfl rfl)
theorem dX1_lawLine_9 : decode cX1_lawLine 9 = .ok (.iload_n 1, 1) := dk_27 (dk_at dksX1_lawLine_0 9 rfl rfl)
theorem dX1_lawLine_10 : decode cX1_lawLine 10 = .ok (.aload_n 0, 1) := dk_42 (dk_at dksX1_lawLine_0 10 rfl rfl)
theorem dX1_lawLine_11 : decode cX1_lawLine 11 = .ok (.getfield 25, 3) := dk_180 0 25 (dk_at dksX1_lawLine_0 11 rfl rfl)
theorem dX1_lawLine_14 : decode cX1_lawLine 14 = .ok (.ldc_w 355, 3) := dk_19 1 99 (dk_at dksX1_lawLine_0 14 rfl rfl)
theorem dX1_lawLine_17 : decode cX1_lawLine 17 = .ok (.invokevirtual 312, 3) := dk_182 1 56 (dk_at dksX1_lawLine_0 17 rfl rfl)
theorem dX1_lawLine_20 : decode cX1_lawLine 20 = .ok (.ifCond .eq 10, 3) := dk_153 0 10 (dk_at dksX1_lawLine_0 20 rfl rfl)
theorem dX1_lawLine_23 : decode cX1_lawLine 23 = .ok (.aload_n 0, 1) := dk_42 (dk_at dksX1_lawLine_0 23 rfl rfl)
theorem dX1_lawLine_24 : decode cX1_lawLine 24 = .ok (.invokevirtual 303, 3) := dk_182 1 47 (dk_at dksX1_lawLine_1 0 rfl rfl)
theorem dX1_lawLine_27 : decode cX1_lawLine 27 = .ok (.goto 4, 3) := dk_167 0 4 (dk_at dksX1_lawLine_1 3 rfl rfl)
theorem dX1_lawLine_30 : decode cX1_lawLine 30 = .ok (.aconst_null, 1) := dk_1 (dk_at dksX1_lawLine_1 6 rfl rfl)
theorem dX1_lawLine_31 : decode cX1_lawLine 31 = .ok (.invokespecial 357, 3) := dk_183 1 101 (dk_at dksX1_lawLine_1 7 rfl rfl)
theorem dX1_lawLine_34 : decode cX1_lawLine 34 = .ok (.areturn, 1) := dk_176 (dk_at dksX1_lawLine_1 10 rfl rfl)
abbrev cX1_cond : ByteArray := prog_1_method_26_code
def yX1_cond : MethodName := ⟨RX1, "cond", "()LCheekTown$Cond;"⟩
def dkwX1_cond_1 : List UInt8 := [180, 0, 25, 19, 1, 95, 182, 1, 56, 154, 255, 234, 43, 176]
abbrev dktX1_cond_1 : List UInt8 := dkwX1_cond_1 ++ []
def dkwX1_cond_0 : List UInt8 := [187, 1, 84, 89, 3, 183, 1, 86, 76, 43, 180, 1, 87, 42, 182, 1, 92, 182, 1, 42, 87, 42]
abbrev dktX1_cond_0 : List UInt8 := dkwX1_cond_0 ++ dktX1_cond_1
theorem dksX1_cond_0 : cX1_cond.data.toList.drop 0 = dktX1_cond_0 := by decide +kernel
theorem dksX1_cond_1 : cX1_cond.data.toList.drop 22 = dktX1_cond_1 := dk_seg dksX1_cond_0 22 rfl rfl
theorem dX1_cond_0 : decode cX1_cond 0 = .ok (.new 340, 3) := dk_187 1 84 (dk_at dksX1_cond_0 0 rfl rfl)
theorem dX1_cond_3 : decode cX1_cond 3 = .ok (.dup, 1) := dk_89 (dk_at dksX1_cond_0 3 rfl rfl)
theorem dX1_cond_4 : decode cX1_cond 4 = .ok (.iconst 0, 1) := dk_3 (dk_at dksX1_cond_0 4 rfl rfl)
theorem dX1_cond_5 : decode cX1_cond 5 = .ok (.invokespecial 342, 3) := dk_183 1 86 (dk_at dksX1_cond_0 5 rfl rfl)
theorem dX1_cond_8 : decode cX1_cond 8 = .ok (.astore_n 1, 1) := dk_76 (dk_at dksX1_cond_0 8 rfl rfl)
theorem dX1_cond_9 : decode cX1_cond 9 = .ok (.aload_n 1, 1) := dk_43 (dk_at dksX1_cond_0 9 rfl rfl)
theorem dX1_cond_10 : decode cX1_cond 10 = .ok (.getfield 343, 3) := dk_180 1 87 (dk_at dksX1_cond_0 10 rfl rfl)
theorem dX1_cond_13 : decode cX1_cond 13 = .ok (.aload_n 0, 1) := dk_42 (dk_at dksX1_cond_0 13 rfl rfl)
theorem dX1_cond_14 : decode cX1_cond 14 = .ok (.invokevirtual 348, 3) := dk_182 1 92 (dk_at dksX1_cond_0 14 rfl rfl)
theorem dX1_cond_17 : decode cX1_cond 17 = .ok (.invokevirtual 298, 3) := dk_182 1 42 (dk_at dksX1_cond_0 17 rfl rfl)
theorem dX1_cond_20 : decode cX1_cond 20 = .ok (.pop, 1) := dk_87 (dk_at dksX1_cond_0 20 rfl rfl)
theorem dX1_cond_21 : decode cX1_cond 21 = .ok (.aload_n 0, 1) := dk_42 (dk_at dksX1_cond_0 21 rfl rfl)
theorem dX1_cond_22 : decode cX1_cond 22 = .ok (.getfield 25, 3) := dk_180 0 25 (dk_at dksX1_cond_1 0 rfl rfl)
theorem dX1_cond_25 : decode cX1_cond 25 = .ok (.ldc_w 351, 3) := dk_19 1 95 (dk_at dksX1_cond_1 3 rfl rfl)
theorem dX1_cond_28 : decode cX1_cond 28 = .ok (.invokevirtual 312, 3) := dk_182 1 56 (dk_at dksX1_cond_1 6 rfl rfl)
theorem dX1_cond_31 : decode cX1_cond 31 = .ok (.ifCond .ne (-22), 3) := dk_154 255 234 (dk_at dksX1_cond_1 9 rfl rfl)
theorem dX1_cond_34 : decode cX1_cond 34 = .ok (.aload_n 1, 1) := dk_43 (dk_at dksX1_cond_1 12 rfl rfl)
theorem dX1_cond_35 : decode cX1_cond 35 = .ok (.areturn, 1) := dk_176 (dk_at dksX1_cond_1 13 rfl rfl)
abbrev cX1_allOf_2 : ByteArray := prog_1_method_25_code
def yX1_allOf_2 : MethodName := ⟨RX1, "allOf", "()LCheekTown$Cond;"⟩
def dkwX1_allOf_2_1 : List UInt8 := [180, 0, 25, 19, 1, 90, 182, 1, 56, 154, 255, 234, 43, 176]
abbrev dktX1_allOf_2_1 : List UInt8 := dkwX1_allOf_2_1 ++ []
def dkwX1_allOf_2_0 : List UInt8 := [187, 1, 84, 89, 4, 183, 1, 86, 76, 43, 180, 1, 87, 42, 182, 1, 60, 182, 1, 42, 87, 42]
abbrev dktX1_allOf_2_0 : List UInt8 := dkwX1_allOf_2_0 ++ dktX1_allOf_2_1
theorem dksX1_allOf_2_0 : cX1_allOf_2.data.toList.drop 0 = dktX1_allOf_2_0 := by decide +kernel
theorem dksX1_allOf_2_1 : cX1_allOf_2.data.toList.drop 22 = dktX1_allOf_2_1 := dk_seg dksX1_allOf_2_0 22 rfl rfl
theorem dX1_allOf_2_0 : decode cX1_allOf_2 0 = .ok (.new 340, 3) := dk_187 1 84 (dk_at dksX1_allOf_2_0 0 rfl rfl)
theorem dX1_allOf_2_3 : decode cX1_allOf_2 3 = .ok (.dup, 1) := dk_89 (dk_at dksX1_allOf_2_0 3 rfl rfl)
theorem dX1_allOf_2_4 : decode cX1_allOf_2 4 = .ok (.iconst 1, 1) := dk_4 (dk_at dksX1_allOf_2_0 4 rfl rfl)
theorem dX1_allOf_2_5 : decode cX1_allOf_2 5 = .ok (.invokespecial 342, 3) := dk_183 1 86 (dk_at dksX1_allOf_2_0 5 rfl rfl)
theorem dX1_allOf_2_8 : decode cX1_allOf_2 8 = .ok (.astore_n 1, 1) := dk_76 (dk_at dksX1_allOf_2_0 8 rfl rfl)
theorem dX1_allOf_2_9 : decode cX1_allOf_2 9 = .ok (.aload_n 1, 1) := dk_43 (dk_at dksX1_allOf_2_0 9 rfl rfl)
theorem dX1_allOf_2_10 : decode cX1_allOf_2 10 = .ok (.getfield 343, 3) := dk_180 1 87 (dk_at dksX1_allOf_2_0 10 rfl rfl)
theorem dX1_allOf_2_13 : decode cX1_allOf_2 13 = .ok (.aload_n 0, 1) := dk_42 (dk_at dksX1_allOf_2_0 13 rfl rfl)
theorem dX1_allOf_2_14 : decode cX1_allOf_2 14 = .ok (.invokevirtual 316, 3) := dk_182 1 60 (dk_at dksX1_allOf_2_0 14 rfl rfl)
theorem dX1_allOf_2_17 : decode cX1_allOf_2 17 = .ok (.invokevirtual 298, 3) := dk_182 1 42 (dk_at dksX1_allOf_2_0 17 rfl rfl)
theorem dX1_allOf_2_20 : decode cX1_allOf_2 20 = .ok (.pop, 1) := dk_87 (dk_at dksX1_allOf_2_0 20 rfl rfl)
theorem dX1_allOf_2_21 : decode cX1_allOf_2 21 = .ok (.aload_n 0, 1) := dk_42 (dk_at dksX1_allOf_2_0 21 rfl rfl)
theorem dX1_allOf_2_22 : decode cX1_allOf_2 22 = .ok (.getfield 25, 3) := dk_180 0 25 (dk_at dksX1_allOf_2_1 0 rfl rfl)
theorem dX1_allOf_2_25 : decode cX1_allOf_2 25 = .ok (.ldc_w 346, 3) := dk_19 1 90 (dk_at dksX1_allOf_2_1 3 rfl rfl)
theorem dX1_allOf_2_28 : decode cX1_allOf_2 28 = .ok (.invokevirtual 312, 3) := dk_182 1 56 (dk_at dksX1_allOf_2_1 6 rfl rfl)
theorem dX1_allOf_2_31 : decode cX1_allOf_2 31 = .ok (.ifCond .ne (-22), 3) := dk_154 255 234 (dk_at dksX1_allOf_2_1 9 rfl rfl)
theorem dX1_allOf_2_34 : decode cX1_allOf_2 34 = .ok (.aload_n 1, 1) := dk_43 (dk_at dksX1_allOf_2_1 12 rfl rfl)
theorem dX1_allOf_2_35 : decode cX1_allOf_2 35 = .ok (.areturn, 1) := dk_176 (dk_at dksX1_allOf_2_1 13 rfl rfl)
abbrev cX1_atom : ByteArray := prog_1_method_24_code
def yX1_atom : MethodName := ⟨RX1, "atom", "()LCheekTown$Cond;"⟩
def dkwX1_atom_6 : List UInt8 := [182, 0, 242, 154, 0, 8, 43, 182, 0, 94, 191, 187, 1, 79, 89, 42, 182, 1, 75, 44, 183, 1, 81, 176]
abbrev dktX1_atom_6 : List UInt8 := dkwX1_atom_6 ++ []
def dkwX1_atom_5 : List UInt8 := [16, 60, 182, 0, 242, 153, 0, 16, 187, 1, 79, 89, 44, 42, 182, 1, 75, 183, 1, 81, 176, 43, 16, 62]
abbrev dktX1_atom_5 : List UInt8 := dkwX1_atom_5 ++ dktX1_atom_6
def dkwX1_atom_4 : List UInt8 := [18, 204, 182, 1, 56, 153, 0, 12, 187, 1, 70, 89, 3, 183, 1, 72, 176, 42, 182, 1, 75, 77, 43]
abbrev dktX1_atom_4 : List UInt8 := dkwX1_atom_4 ++ dktX1_atom_5
def dkwX1_atom_3 : List UInt8 := [183, 1, 65, 176, 43, 19, 1, 68, 182, 1, 56, 153, 0, 12, 187, 1, 70, 89, 4, 183, 1, 72, 176, 43]
abbrev dktX1_atom_3 : List UInt8 := dkwX1_atom_3 ++ dktX1_atom_4
def dkwX1_atom_2 : List UInt8 := [182, 1, 56, 153, 0, 25, 43, 182, 1, 44, 42, 182, 1, 60, 77, 43, 182, 1, 51, 187, 1, 63, 89, 44]
abbrev dktX1_atom_2 : List UInt8 := dkwX1_atom_2 ++ dktX1_atom_3
def dkwX1_atom_1 : List UInt8 := [182, 1, 51, 43, 16, 41, 182, 0, 242, 154, 0, 8, 43, 182, 0, 94, 191, 44, 176, 43, 19, 1, 54]
abbrev dktX1_atom_1 : List UInt8 := dkwX1_atom_1 ++ dktX1_atom_2
def dkwX1_atom_0 : List UInt8 := [42, 180, 0, 25, 76, 43, 16, 40, 182, 0, 242, 153, 0, 32, 43, 182, 1, 44, 42, 182, 1, 47, 77, 43]
abbrev dktX1_atom_0 : List UInt8 := dkwX1_atom_0 ++ dktX1_atom_1
theorem dksX1_atom_0 : cX1_atom.data.toList.drop 0 = dktX1_atom_0 := by decide +kernel
theorem dksX1_atom_1 : cX1_atom.data.toList.drop 24 = dktX1_atom_1 := dk_seg dksX1_atom_0 24 rfl rfl
theorem dksX1_atom_2 : cX1_atom.data.toList.drop 47 = dktX1_atom_2 := dk_seg dksX1_atom_1 23 rfl rfl
theorem dksX1_atom_3 : cX1_atom.data.toList.drop 71 = dktX1_atom_3 := dk_seg dksX1_atom_2 24 rfl rfl
theorem dksX1_atom_4 : cX1_atom.data.toList.drop 95 = dktX1_atom_4 := dk_seg dksX1_atom_3 24 rfl rfl
theorem dksX1_atom_5 : cX1_atom.data.toList.drop 118 = dktX1_atom_5 := dk_seg dksX1_atom_4 23 rfl rfl
theorem dksX1_atom_6 : cX1_atom.data.toList.drop 142 = dktX1_atom_6 := dk_seg dksX1_atom_5 24 rfl rfl
theorem dX1_atom_0 : decode cX1_atom 0 = .ok (.aload_n 0, 1) := dk_42 (dk_at dksX1_atom_0 0 rfl rfl)
theorem dX1_atom_1 : decode cX1_atom 1 = .ok (.getfield 25, 3) := dk_180 0 25 (dk_at dksX1_atom_0 1 rfl rfl)
theorem dX1_atom_4 : decode cX1_atom 4 = .ok (.astore_n 1, 1) := dk_76 (dk_at dksX1_atom_0 4 rfl rfl)
theorem dX1_atom_5 : decode cX1_atom 5 = .ok (.aload_n 1, 1) := dk_43 (dk_at dksX1_atom_0 5 rfl rfl)
theorem dX1_atom_6 : decode cX1_atom 6 = .ok (.bipush 40, 2) := dk_16 40 (dk_at dksX1_atom_0 6 rfl rfl)
theorem dX1_atom_8 : decode cX1_atom 8 = .ok (.invokevirtual 242, 3) := dk_182 0 242 (dk_at dksX1_atom_0 8 rfl rfl)
theorem dX1_atom_11 : decode cX1_atom 11 = .ok (.ifCond .eq 32, 3) := dk_153 0 32 (dk_at dksX1_atom_0 11 rfl rfl)
theorem dX1_atom_14 : decode cX1_atom 14 = .ok (.aload_n 1, 1) := dk_43 (dk_at dksX1_atom_0 14 rfl rfl)
theorem dX1_atom_15 : decode cX1_atom 15 = .ok (.invokevirtual 300, 3) := dk_182 1 44 (dk_at dksX1_atom_0 15 rfl rfl)
theorem dX1_atom_18 : decode cX1_atom 18 = .ok (.aload_n 0, 1) := dk_42 (dk_at dksX1_atom_0 18 rfl rfl)
theorem dX1_atom_19 : decode cX1_atom 19 = .ok (.invokevirtual 303, 3) := dk_182 1 47 (dk_at dksX1_atom_0 19 rfl rfl)
theorem dX1_atom_22 : decode cX1_atom 22 = .ok (.astore_n 2, 1) := dk_77 (dk_at dksX1_atom_0 22 rfl rfl)
theorem dX1_atom_23 : decode cX1_atom 23 = .ok (.aload_n 1, 1) := dk_43 (dk_at dksX1_atom_0 23 rfl rfl)
theorem dX1_atom_24 : decode cX1_atom 24 = .ok (.invokevirtual 307, 3) := dk_182 1 51 (dk_at dksX1_atom_1 0 rfl rfl)
theorem dX1_atom_27 : decode cX1_atom 27 = .ok (.aload_n 1, 1) := dk_43 (dk_at dksX1_atom_1 3 rfl rfl)
theorem dX1_atom_28 : decode cX1_atom 28 = .ok (.bipush 41, 2) := dk_16 41 (dk_at dksX1_atom_1 4 rfl rfl)
theorem dX1_atom_30 : decode cX1_atom 30 = .ok (.invokevirtual 242, 3) := dk_182 0 242 (dk_at dksX1_atom_1 6 rfl rfl)
theorem dX1_atom_33 : decode cX1_atom 33 = .ok (.ifCond .ne 8, 3) := dk_154 0 8 (dk_at dksX1_atom_1 9 rfl rfl)
theorem dX1_atom_36 : decode cX1_atom 36 = .ok (.aload_n 1, 1) := dk_43 (dk_at dksX1_atom_1 12 rfl rfl)
theorem dX1_atom_37 : decode cX1_atom 37 = .ok (.invokevirtual 94, 3) := dk_182 0 94 (dk_at dksX1_atom_1 13 rfl rfl)
theorem dX1_atom_40 : decode cX1_atom 40 = .ok (.athrow, 1) := dk_191 (dk_at dksX1_atom_1 16 rfl rfl)
theorem dX1_atom_41 : decode cX1_atom 41 = .ok (.aload_n 2, 1) := dk_44 (dk_at dksX1_atom_1 17 rfl rfl)
theorem dX1_atom_42 : decode cX1_atom 42 = .ok (.areturn, 1) := dk_176 (dk_at dksX1_atom_1 18 rfl rfl)
theorem dX1_atom_43 : decode cX1_atom 43 = .ok (.aload_n 1, 1) := dk_43 (dk_at dksX1_atom_1 19 rfl rfl)
theorem dX1_atom_44 : decode cX1_atom 44 = .ok (.ldc_w 310, 3) := dk_19 1 54 (dk_at dksX1_atom_1 20 rfl rfl)
theorem dX1_atom_47 : decode cX1_atom 47 = .ok (.invokevirtual 312, 3) := dk_182 1 56 (dk_at dksX1_atom_2 0 rfl rfl)
theorem dX1_atom_50 : decode cX1_atom 50 = .ok (.ifCond .eq 25, 3) := dk_153 0 25 (dk_at dksX1_atom_2 3 rfl rfl)
theorem dX1_atom_53 : decode cX1_atom 53 = .ok (.aload_n 1, 1) := dk_43 (dk_at dksX1_atom_2 6 rfl rfl)
theorem dX1_atom_54 : decode cX1_atom 54 = .ok (.invokevirtual 300, 3) := dk_182 1 44 (dk_at dksX1_atom_2 7 rfl rfl)
theorem dX1_atom_57 : decode cX1_atom 57 = .ok (.aload_n 0, 1) := dk_42 (dk_at dksX1_atom_2 10 rfl rfl)
theorem dX1_atom_58 : decode cX1_atom 58 = .ok (.invokevirtual 316, 3) := dk_182 1 60 (dk_at dksX1_atom_2 11 rfl rfl)
theorem dX1_atom_61 : decode cX1_atom 61 = .ok (.astore_n 2, 1) := dk_77 (dk_at dksX1_atom_2 14 rfl rfl)
theorem dX1_atom_62 : decode cX1_atom 62 = .ok (.aload_n 1, 1) := dk_43 (dk_at dksX1_atom_2 15 rfl rfl)
theorem dX1_atom_63 : decode cX1_atom 63 = .ok (.invokevirtual 307, 3) := dk_182 1 51 (dk_at dksX1_atom_2 16 rfl rfl)
theorem dX1_atom_66 : decode cX1_atom 66 = .ok (.new 319, 3) := dk_187 1 63 (dk_at dksX1_atom_2 19 rfl rfl)
theorem dX1_atom_69 : decode cX1_atom 69 = .ok (.dup, 1) := dk_89 (dk_at dksX1_atom_2 22 rfl rfl)
theorem dX1_atom_70 : decode cX1_atom 70 = .ok (.aload_n 2, 1) := dk_44 (dk_at dksX1_atom_2 23 rfl rfl)
theorem dX1_atom_71 : decode cX1_atom 71 = .ok (.invokespecial 321, 3) := dk_183 1 65 (dk_at dksX1_atom_3 0 rfl rfl)
theorem dX1_atom_74 : decode cX1_atom 74 = .ok (.areturn, 1) := dk_176 (dk_at dksX1_atom_3 3 rfl rfl)
theorem dX1_atom_75 : decode cX1_atom 75 = .ok (.aload_n 1, 1) := dk_43 (dk_at dksX1_atom_3 4 rfl rfl)
theorem dX1_atom_76 : decode cX1_atom 76 = .ok (.ldc_w 324, 3) := dk_19 1 68 (dk_at dksX1_atom_3 5 rfl rfl)
theorem dX1_atom_79 : decode cX1_atom 79 = .ok (.invokevirtual 312, 3) := dk_182 1 56 (dk_at dksX1_atom_3 8 rfl rfl)
theorem dX1_atom_82 : decode cX1_atom 82 = .ok (.ifCond .eq 12, 3) := dk_153 0 12 (dk_at dksX1_atom_3 11 rfl rfl)
theorem dX1_atom_85 : decode cX1_atom 85 = .ok (.new 326, 3) := dk_187 1 70 (dk_at dksX1_atom_3 14 rfl rfl)
theorem dX1_atom_88 : decode cX1_atom 88 = .ok (.dup, 1) := dk_89 (dk_at dksX1_atom_3 17 rfl rfl)
theorem dX1_atom_89 : decode cX1_atom 89 = .ok (.iconst 1, 1) := dk_4 (dk_at dksX1_atom_3 18 rfl rfl)
theorem dX1_atom_90 : decode cX1_atom 90 = .ok (.invokespecial 328, 3) := dk_183 1 72 (dk_at dksX1_atom_3 19 rfl rfl)
theorem dX1_atom_93 : decode cX1_atom 93 = .ok (.areturn, 1) := dk_176 (dk_at dksX1_atom_3 22 rfl rfl)
theorem dX1_atom_94 : decode cX1_atom 94 = .ok (.aload_n 1, 1) := dk_43 (dk_at dksX1_atom_3 23 rfl rfl)
theorem dX1_atom_95 : decode cX1_atom 95 = .ok (.ldc 204, 2) := dk_18 204 (dk_at dksX1_atom_4 0 rfl rfl)
theorem dX1_atom_97 : decode cX1_atom 97 = .ok (.invokevirtual 312, 3) := dk_182 1 56 (dk_at dksX1_atom_4 2 rfl rfl)
theorem dX1_atom_100 : decode cX1_atom 100 = .ok (.ifCond .eq 12, 3) := dk_153 0 12 (dk_at dksX1_atom_4 5 rfl rfl)
theorem dX1_atom_103 : decode cX1_atom 103 = .ok (.new 326, 3) := dk_187 1 70 (dk_at dksX1_atom_4 8 rfl rfl)
theorem dX1_atom_106 : decode cX1_atom 106 = .ok (.dup, 1) := dk_89 (dk_at dksX1_atom_4 11 rfl rfl)
theorem dX1_atom_107 : decode cX1_atom 107 = .ok (.iconst 0, 1) := dk_3 (dk_at dksX1_atom_4 12 rfl rfl)
theorem dX1_atom_108 : decode cX1_atom 108 = .ok (.invokespecial 328, 3) := dk_183 1 72 (dk_at dksX1_atom_4 13 rfl rfl)
theorem dX1_atom_111 : decode cX1_atom 111 = .ok (.areturn, 1) := dk_176 (dk_at dksX1_atom_4 16 rfl rfl)
theorem dX1_atom_112 : decode cX1_atom 112 = .ok (.aload_n 0, 1) := dk_42 (dk_at dksX1_atom_4 17 rfl rfl)
theorem dX1_atom_113 : decode cX1_atom 113 = .ok (.invokevirtual 331, 3) := dk_182 1 75 (dk_at dksX1_atom_4 18 rfl rfl)
theorem dX1_atom_116 : decode cX1_atom 116 = .ok (.astore_n 2, 1) := dk_77 (dk_at dksX1_atom_4 21 rfl rfl)
theorem dX1_atom_117 : decode cX1_atom 117 = .ok (.aload_n 1, 1) := dk_43 (dk_at dksX1_atom_4 22 rfl rfl)
theorem dX1_atom_118 : decode cX1_atom 118 = .ok (.bipush 60, 2) := dk_16 60 (dk_at dksX1_atom_5 0 rfl rfl)
theorem dX1_atom_120 : decode cX1_atom 120 = .ok (.invokevirtual 242, 3) := dk_182 0 242 (dk_at dksX1_atom_5 2 rfl rfl)
theorem dX1_atom_123 : decode cX1_atom 123 = .ok (.ifCond .eq 16, 3) := dk_153 0 16 (dk_at dksX1_atom_5 5 rfl rfl)
theorem dX1_atom_126 : decode cX1_atom 126 = .ok (.new 335, 3) := dk_187 1 79 (dk_at dksX1_atom_5 8 rfl rfl)
theorem dX1_atom_129 : decode cX1_atom 129 = .ok (.dup, 1) := dk_89 (dk_at dksX1_atom_5 11 rfl rfl)
theorem dX1_atom_130 : decode cX1_atom 130 = .ok (.aload_n 2, 1) := dk_44 (dk_at dksX1_atom_5 12 rfl rfl)
theorem dX1_atom_131 : decode cX1_atom 131 = .ok (.aload_n 0, 1) := dk_42 (dk_at dksX1_atom_5 13 rfl rfl)
theorem dX1_atom_132 : decode cX1_atom 132 = .ok (.invokevirtual 331, 3) := dk_182 1 75 (dk_at dksX1_atom_5 14 rfl rfl)
theorem dX1_atom_135 : decode cX1_atom 135 = .ok (.invokespecial 337, 3) := dk_183 1 81 (dk_at dksX1_atom_5 17 rfl rfl)
theorem dX1_atom_138 : decode cX1_atom 138 = .ok (.areturn, 1) := dk_176 (dk_at dksX1_atom_5 20 rfl rfl)
theorem dX1_atom_139 : decode cX1_atom 139 = .ok (.aload_n 1, 1) := dk_43 (dk_at dksX1_atom_5 21 rfl rfl)
theorem dX1_atom_140 : decode cX1_atom 140 = .ok (.bipush 62, 2) := dk_16 62 (dk_at dksX1_atom_5 22 rfl rfl)
theorem dX1_atom_142 : decode cX1_atom 142 = .ok (.invokevirtual 242, 3) := dk_182 0 242 (dk_at dksX1_atom_6 0 rfl rfl)
theorem dX1_atom_145 : decode cX1_atom 145 = .ok (.ifCond .ne 8, 3) := dk_154 0 8 (dk_at dksX1_atom_6 3 rfl rfl)
theorem dX1_atom_148 : decode cX1_atom 148 = .ok (.aload_n 1, 1) := dk_43 (dk_at dksX1_atom_6 6 rfl rfl)
theorem dX1_atom_149 : decode cX1_atom 149 = .ok (.invokevirtual 94, 3) := dk_182 0 94 (dk_at dksX1_atom_6 7 rfl rfl)
theorem dX1_atom_152 : decode cX1_atom 152 = .ok (.athrow, 1) := dk_191 (dk_at dksX1_atom_6 10 rfl rfl)
theorem dX1_atom_153 : decode cX1_atom 153 = .ok (.new 335, 3) := dk_187 1 79 (dk_at dksX1_atom_6 11 rfl rfl)
theorem dX1_atom_156 : decode cX1_atom 156 = .ok (.dup, 1) := dk_89 (dk_at dksX1_atom_6 14 rfl rfl)
theorem dX1_atom_157 : decode cX1_atom 157 = .ok (.aload_n 0, 1) := dk_42 (dk_at dksX1_atom_6 15 rfl rfl)
theorem dX1_atom_158 : decode cX1_atom 158 = .ok (.invokevirtual 331, 3) := dk_182 1 75 (dk_at dksX1_atom_6 16 rfl rfl)
theorem dX1_atom_161 : decode cX1_atom 161 = .ok (.aload_n 2, 1) := dk_44 (dk_at dksX1_atom_6 19 rfl rfl)
theorem dX1_atom_162 : decode cX1_atom 162 = .ok (.invokespecial 337, 3) := dk_183 1 81 (dk_at dksX1_atom_6 20 rfl rfl)
theorem dX1_atom_165 : decode cX1_atom 165 = .ok (.areturn, 1) := dk_176 (dk_at dksX1_atom_6 23 rfl rfl)
abbrev cX1_sum : ByteArray := prog_1_method_23_code
def yX1_sum : MethodName := ⟨RX1, "sum", "()LCheekTown$Sum;"⟩
def dkwX1_sum_1 : List UInt8 := [16, 43, 182, 0, 242, 154, 255, 235, 43, 176]
abbrev dktX1_sum_1 : List UInt8 := dkwX1_sum_1 ++ []
def dkwX1_sum_0 : List UInt8 := [187, 1, 32, 89, 183, 1, 34, 76, 43, 180, 1, 35, 42, 182, 1, 38, 182, 1, 42, 87, 42, 180, 0, 25]
abbrev dktX1_sum_0 : List UInt8 := dkwX1_sum_0 ++ dktX1_sum_1
theorem dksX1_sum_0 : cX1_sum.data.toList.drop 0 = dktX1_sum_0 := by decide +kernel
theorem dksX1_sum_1 : cX1_sum.data.toList.drop 24 = dktX1_sum_1 := dk_seg dksX1_sum_0 24 rfl rfl
theorem dX1_sum_0 : decode cX1_sum 0 = .ok (.new 288, 3) := dk_187 1 32 (dk_at dksX1_sum_0 0 rfl rfl)
theorem dX1_sum_3 : decode cX1_sum 3 = .ok (.dup, 1) := dk_89 (dk_at dksX1_sum_0 3 rfl rfl)
theorem dX1_sum_4 : decode cX1_sum 4 = .ok (.invokespecial 290, 3) := dk_183 1 34 (dk_at dksX1_sum_0 4 rfl rfl)
theorem dX1_sum_7 : decode cX1_sum 7 = .ok (.astore_n 1, 1) := dk_76 (dk_at dksX1_sum_0 7 rfl rfl)
theorem dX1_sum_8 : decode cX1_sum 8 = .ok (.aload_n 1, 1) := dk_43 (dk_at dksX1_sum_0 8 rfl rfl)
theorem dX1_sum_9 : decode cX1_sum 9 = .ok (.getfield 291, 3) := dk_180 1 35 (dk_at dksX1_sum_0 9 rfl rfl)
theorem dX1_sum_12 : decode cX1_sum 12 = .ok (.aload_n 0, 1) := dk_42 (dk_at dksX1_sum_0 12 rfl rfl)
theorem dX1_sum_13 : decode cX1_sum 13 = .ok (.invokevirtual 294, 3) := dk_182 1 38 (dk_at dksX1_sum_0 13 rfl rfl)
theorem dX1_sum_16 : decode cX1_sum 16 = .ok (.invokevirtual 298, 3) := dk_182 1 42 (dk_at dksX1_sum_0 16 rfl rfl)
theorem dX1_sum_19 : decode cX1_sum 19 = .ok (.pop, 1) := dk_87 (dk_at dksX1_sum_0 19 rfl rfl)
theorem dX1_sum_20 : decode cX1_sum 20 = .ok (.aload_n 0, 1) := dk_42 (dk_at dksX1_sum_0 20 rfl rfl)
theorem dX1_sum_21 : decode cX1_sum 21 = .ok (.getfield 25, 3) := dk_180 0 25 (dk_at dksX1_sum_0 21 rfl rfl)
theorem dX1_sum_24 : decode cX1_sum 24 = .ok (.bipush 43, 2) := dk_16 43 (dk_at dksX1_sum_1 0 rfl rfl)
theorem dX1_sum_26 : decode cX1_sum 26 = .ok (.invokevirtual 242, 3) := dk_182 0 242 (dk_at dksX1_sum_1 2 rfl rfl)
theorem dX1_sum_29 : decode cX1_sum 29 = .ok (.ifCond .ne (-21), 3) := dk_154 255 235 (dk_at dksX1_sum_1 5 rfl rfl)
theorem dX1_sum_32 : decode cX1_sum 32 = .ok (.aload_n 1, 1) := dk_43 (dk_at dksX1_sum_1 8 rfl rfl)
theorem dX1_sum_33 : decode cX1_sum 33 = .ok (.areturn, 1) := dk_176 (dk_at dksX1_sum_1 9 rfl rfl)
abbrev cX1_onePart : ByteArray := prog_1_method_22_code
def yX1_onePart : MethodName := ⟨RX1, "onePart", "()LCheekTown$Part;"⟩
def dkwX1_onePart_2 : List UInt8 := [180, 0, 25, 182, 0, 94, 191, 187, 1, 22, 89, 3, 43, 183, 1, 24, 176]
abbrev dktX1_onePart_2 : List UInt8 := dkwX1_onePart_2 ++ []
def dkwX1_onePart_1 : List UInt8 := [182, 0, 106, 1, 183, 1, 24, 176, 42, 180, 0, 25, 182, 0, 109, 184, 1, 27, 76, 43, 199, 0, 11, 42]
abbrev dktX1_onePart_1 : List UInt8 := dkwX1_onePart_1 ++ dktX1_onePart_2
def dkwX1_onePart_0 : List UInt8 := [42, 180, 0, 25, 182, 1, 19, 153, 0, 23, 187, 1, 22, 89, 42, 180, 0, 25, 3, 17, 3, 231]
abbrev dktX1_onePart_0 : List UInt8 := dkwX1_onePart_0 ++ dktX1_onePart_1
theorem dksX1_onePart_0 : cX1_onePart.data.toList.drop 0 = dktX1_onePart_0 := by decide +kernel
theorem dksX1_onePart_1 : cX1_onePart.data.toList.drop 22 = dktX1_onePart_1 := dk_seg dksX1_onePart_0 22 rfl rfl
theorem dksX1_onePart_2 : cX1_onePart.data.toList.drop 46 = dktX1_onePart_2 := dk_seg dksX1_onePart_1 24 rfl rfl
theorem dX1_onePart_0 : decode cX1_onePart 0 = .ok (.aload_n 0, 1) := dk_42 (dk_at dksX1_onePart_0 0 rfl rfl)
theorem dX1_onePart_1 : decode cX1_onePart 1 = .ok (.getfield 25, 3) := dk_180 0 25 (dk_at dksX1_onePart_0 1 rfl rfl)
theorem dX1_onePart_4 : decode cX1_onePart 4 = .ok (.invokevirtual 275, 3) := dk_182 1 19 (dk_at dksX1_onePart_0 4 rfl rfl)
theorem dX1_onePart_7 : decode cX1_onePart 7 = .ok (.ifCond .eq 23, 3) := dk_153 0 23 (dk_at dksX1_onePart_0 7 rfl rfl)
theorem dX1_onePart_10 : decode cX1_onePart 10 = .ok (.new 278, 3) := dk_187 1 22 (dk_at dksX1_onePart_0 10 rfl rfl)
theorem dX1_onePart_13 : decode cX1_onePart 13 = .ok (.dup, 1) := dk_89 (dk_at dksX1_onePart_0 13 rfl rfl)
theorem dX1_onePart_14 : decode cX1_onePart 14 = .ok (.aload_n 0, 1) := dk_42 (dk_at dksX1_onePart_0 14 rfl rfl)
theorem dX1_onePart_15 : decode cX1_onePart 15 = .ok (.getfield 25, 3) := dk_180 0 25 (dk_at dksX1_onePart_0 15 rfl rfl)
theorem dX1_onePart_18 : decode cX1_onePart 18 = .ok (.iconst 0, 1) := dk_3 (dk_at dksX1_onePart_0 18 rfl rfl)
theorem dX1_onePart_19 : decode cX1_onePart 19 = .ok (.sipush 999, 3) := dk_17 3 231 (dk_at dksX1_onePart_0 19 rfl rfl)
theorem dX1_onePart_22 : decode cX1_onePart 22 = .ok (.invokevirtual 106, 3) := dk_182 0 106 (dk_at dksX1_onePart_1 0 rfl rfl)
theorem dX1_onePart_25 : decode cX1_onePart 25 = .ok (.aconst_null, 1) := dk_1 (dk_at dksX1_onePart_1 3 rfl rfl)
theorem dX1_onePart_26 : decode cX1_onePart 26 = .ok (.invokespecial 280, 3) := dk_183 1 24 (dk_at dksX1_onePart_1 4 rfl rfl)
theorem dX1_onePart_29 : decode cX1_onePart 29 = .ok (.areturn, 1) := dk_176 (dk_at dksX1_onePart_1 7 rfl rfl)
theorem dX1_onePart_30 : decode cX1_onePart 30 = .ok (.aload_n 0, 1) := dk_42 (dk_at dksX1_onePart_1 8 rfl rfl)
theorem dX1_onePart_31 : decode cX1_onePart 31 = .ok (.getfield 25, 3) := dk_180 0 25 (dk_at dksX1_onePart_1 9 rfl rfl)
theorem dX1_onePart_34 : decode cX1_onePart 34 = .ok (.invokevirtual 109, 3) := dk_182 0 109 (dk_at dksX1_onePart_1 12 rfl rfl)
theorem dX1_onePart_37 : decode cX1_onePart 37 = .ok (.invokestatic 283, 3) := dk_184 1 27 (dk_at dksX1_onePart_1 15 rfl rfl)
theorem dX1_onePart_40 : decode cX1_onePart 40 = .ok (.astore_n 1, 1) := dk_76 (dk_at dksX1_onePart_1 18 rfl rfl)
theorem dX1_onePart_41 : decode cX1_onePart 41 = .ok (.aload_n 1, 1) := dk_43 (dk_at dksX1_onePart_1 19 rfl rfl)
theorem dX1_onePart_42 : decode cX1_onePart 42 = .ok (.ifnonnull 11, 3) := dk_199 0 11 (dk_at dksX1_onePart_1 20 rfl rfl)
theorem dX1_onePart_45 : decode cX1_onePart 45 = .ok (.aload_n 0, 1) := dk_42 (dk_at dksX1_onePart_1 23 rfl rfl)
theorem dX1_onePart_46 : decode cX1_onePart 46 = .ok (.getfield 25, 3) := dk_180 0 25 (dk_at dksX1_onePart_2 0 rfl rfl)
theorem dX1_onePart_49 : decode cX1_onePart 49 = .ok (.invokevirtual 94, 3) := dk_182 0 94 (dk_at dksX1_onePart_2 3 rfl rfl)
theorem dX1_onePart_52 : decode cX1_onePart 52 = .ok (.athrow, 1) := dk_191 (dk_at dksX1_onePart_2 6 rfl rfl)
theorem dX1_onePart_53 : decode cX1_onePart 53 = .ok (.new 278, 3) := dk_187 1 22 (dk_at dksX1_onePart_2 7 rfl rfl)
theorem dX1_onePart_56 : decode cX1_onePart 56 = .ok (.dup, 1) := dk_89 (dk_at dksX1_onePart_2 10 rfl rfl)
theorem dX1_onePart_57 : decode cX1_onePart 57 = .ok (.iconst 0, 1) := dk_3 (dk_at dksX1_onePart_2 11 rfl rfl)
theorem dX1_onePart_58 : decode cX1_onePart 58 = .ok (.aload_n 1, 1) := dk_43 (dk_at dksX1_onePart_2 12 rfl rfl)
theorem dX1_onePart_59 : decode cX1_onePart 59 = .ok (.invokespecial 280, 3) := dk_183 1 24 (dk_at dksX1_onePart_2 13 rfl rfl)
theorem dX1_onePart_62 : decode cX1_onePart 62 = .ok (.areturn, 1) := dk_176 (dk_at dksX1_onePart_2 16 rfl rfl)
abbrev cX1_cost : ByteArray := prog_1_method_41_code
def yX1_cost : MethodName := ⟨RX1, "cost", "(II)I"⟩
def dkwX1_cost_0 : List UInt8 := [27, 184, 1, 178, 28, 184, 1, 178, 42, 180, 0, 10, 27, 28, 182, 1, 181, 172]
abbrev dktX1_cost_0 : List UInt8 := dkwX1_cost_0 ++ []
theorem dksX1_cost_0 : cX1_cost.data.toList.drop 0 = dktX1_cost_0 := by decide +kernel
theorem dX1_cost_0 : decode cX1_cost 0 = .ok (.iload_n 1, 1) := dk_27 (dk_at dksX1_cost_0 0 rfl rfl)
theorem dX1_cost_1 : decode cX1_cost 1 = .ok (.invokestatic 434, 3) := dk_184 1 178 (dk_at dksX1_cost_0 1 rfl rfl)
theorem dX1_cost_4 : decode cX1_cost 4 = .ok (.iload_n 2, 1) := dk_28 (dk_at dksX1_cost_0 4 rfl rfl)
theorem dX1_cost_5 : decode cX1_cost 5 = .ok (.invokestatic 434, 3) := dk_184 1 178 (dk_at dksX1_cost_0 5 rfl rfl)
theorem dX1_cost_8 : decode cX1_cost 8 = .ok (.aload_n 0, 1) := dk_42 (dk_at dksX1_cost_0 8 rfl rfl)
theorem dX1_cost_9 : decode cX1_cost 9 = .ok (.getfield 10, 3) := dk_180 0 10 (dk_at dksX1_cost_0 9 rfl rfl)
theorem dX1_cost_12 : decode cX1_cost 12 = .ok (.iload_n 1, 1) := dk_27 (dk_at dksX1_cost_0 12 rfl rfl)
theorem dX1_cost_13 : decode cX1_cost 13 = .ok (.iload_n 2, 1) := dk_28 (dk_at dksX1_cost_0 13 rfl rfl)
theorem dX1_cost_14 : decode cX1_cost 14 = .ok (.invokevirtual 437, 3) := dk_182 1 181 (dk_at dksX1_cost_0 14 rfl rfl)
theorem dX1_cost_17 : decode cX1_cost 17 = .ok (.ireturn, 1) := dk_172 (dk_at dksX1_cost_0 17 rfl rfl)
abbrev cX1_greetingAt : ByteArray := prog_1_method_37_code
def yX1_greetingAt : MethodName := ⟨RX1, "greetingAt", "(I)V"⟩
def dkwX1_greetingAt_0 : List UInt8 := [26, 16, 32, 184, 1, 168, 177]
abbrev dktX1_greetingAt_0 : List UInt8 := dkwX1_greetingAt_0 ++ []
theorem dksX1_greetingAt_0 : cX1_greetingAt.data.toList.drop 0 = dktX1_greetingAt_0 := by decide +kernel
theorem dX1_greetingAt_0 : decode cX1_greetingAt 0 = .ok (.iload_n 0, 1) := dk_26 (dk_at dksX1_greetingAt_0 0 rfl rfl)
theorem dX1_greetingAt_1 : decode cX1_greetingAt 1 = .ok (.bipush 32, 2) := dk_16 32 (dk_at dksX1_greetingAt_0 1 rfl rfl)
theorem dX1_greetingAt_3 : decode cX1_greetingAt 3 = .ok (.invokestatic 424, 3) := dk_184 1 168 (dk_at dksX1_greetingAt_0 3 rfl rfl)
theorem dX1_greetingAt_6 : decode cX1_greetingAt 6 = .ok (.return_, 1) := dk_177 (dk_at dksX1_greetingAt_0 6 rfl rfl)
abbrev cX1_there : ByteArray := prog_1_method_32_code
def yX1_there : MethodName := ⟨RX1, "there", "(II)V"⟩
def dkwX1_there_0 : List UInt8 := [26, 3, 27, 4, 100, 184, 1, 158, 154, 0, 11, 187, 1, 162, 89, 183, 1, 164, 191, 177]
abbrev dktX1_there_0 : List UInt8 := dkwX1_there_0 ++ []
theorem dksX1_there_0 : cX1_there.data.toList.drop 0 = dktX1_there_0 := by decide +kernel
theorem dX1_there_0 : decode cX1_there 0 = .ok (.iload_n 0, 1) := dk_26 (dk_at dksX1_there_0 0 rfl rfl)
theorem dX1_there_1 : decode cX1_there 1 = .ok (.iconst 0, 1) := dk_3 (dk_at dksX1_there_0 1 rfl rfl)
theorem dX1_there_2 : decode cX1_there 2 = .ok (.iload_n 1, 1) := dk_27 (dk_at dksX1_there_0 2 rfl rfl)
theorem dX1_there_3 : decode cX1_there 3 = .ok (.iconst 1, 1) := dk_4 (dk_at dksX1_there_0 3 rfl rfl)
theorem dX1_there_4 : decode cX1_there 4 = .ok (.isub, 1) := dk_100 (dk_at dksX1_there_0 4 rfl rfl)
theorem dX1_there_5 : decode cX1_there 5 = .ok (.invokestatic 414, 3) := dk_184 1 158 (dk_at dksX1_there_0 5 rfl rfl)
theorem dX1_there_8 : decode cX1_there 8 = .ok (.ifCond .ne 11, 3) := dk_154 0 11 (dk_at dksX1_there_0 8 rfl rfl)
theorem dX1_there_11 : decode cX1_there 11 = .ok (.new 418, 3) := dk_187 1 162 (dk_at dksX1_there_0 11 rfl rfl)
theorem dX1_there_14 : decode cX1_there 14 = .ok (.dup, 1) := dk_89 (dk_at dksX1_there_0 14 rfl rfl)
theorem dX1_there_15 : decode cX1_there 15 = .ok (.invokespecial 420, 3) := dk_183 1 164 (dk_at dksX1_there_0 15 rfl rfl)
theorem dX1_there_18 : decode cX1_there 18 = .ok (.athrow, 1) := dk_191 (dk_at dksX1_there_0 18 rfl rfl)
theorem dX1_there_19 : decode cX1_there 19 = .ok (.return_, 1) := dk_177 (dk_at dksX1_there_0 19 rfl rfl)
abbrev cX1_habit : ByteArray := prog_1_method_42_code
def yX1_habit : MethodName := ⟨RX1, "habit", "(II)I"⟩
def dkwX1_habit_0 : List UInt8 := [42, 27, 182, 1, 184, 28, 184, 1, 178, 42, 180, 0, 10, 27, 28, 182, 1, 187, 172]
abbrev dktX1_habit_0 : List UInt8 := dkwX1_habit_0 ++ []
theorem dksX1_habit_0 : cX1_habit.data.toList.drop 0 = dktX1_habit_0 := by decide +kernel
theorem dX1_habit_0 : decode cX1_habit 0 = .ok (.aload_n 0, 1) := dk_42 (dk_at dksX1_habit_0 0 rfl rfl)
theorem dX1_habit_1 : decode cX1_habit 1 = .ok (.iload_n 1, 1) := dk_27 (dk_at dksX1_habit_0 1 rfl rfl)
theorem dX1_habit_2 : decode cX1_habit 2 = .ok (.invokevirtual 440, 3) := dk_182 1 184 (dk_at dksX1_habit_0 2 rfl rfl)
theorem dX1_habit_5 : decode cX1_habit 5 = .ok (.iload_n 2, 1) := dk_28 (dk_at dksX1_habit_0 5 rfl rfl)
theorem dX1_habit_6 : decode cX1_habit 6 = .ok (.invokestatic 434, 3) := dk_184 1 178 (dk_at dksX1_habit_0 6 rfl rfl)
theorem dX1_habit_9 : decode cX1_habit 9 = .ok (.aload_n 0, 1) := dk_42 (dk_at dksX1_habit_0 9 rfl rfl)
theorem dX1_habit_10 : decode cX1_habit 10 = .ok (.getfield 10, 3) := dk_180 0 10 (dk_at dksX1_habit_0 10 rfl rfl)
theorem dX1_habit_13 : decode cX1_habit 13 = .ok (.iload_n 1, 1) := dk_27 (dk_at dksX1_habit_0 13 rfl rfl)
theorem dX1_habit_14 : decode cX1_habit 14 = .ok (.iload_n 2, 1) := dk_28 (dk_at dksX1_habit_0 14 rfl rfl)
theorem dX1_habit_15 : decode cX1_habit 15 = .ok (.invokevirtual 443, 3) := dk_182 1 187 (dk_at dksX1_habit_0 15 rfl rfl)
theorem dX1_habit_18 : decode cX1_habit 18 = .ok (.ireturn, 1) := dk_172 (dk_at dksX1_habit_0 18 rfl rfl)
abbrev cX1_landAt : ByteArray := prog_1_method_36_code
def yX1_landAt : MethodName := ⟨RX1, "landAt", "(I)V"⟩
def dkwX1_landAt_0 : List UInt8 := [27, 42, 180, 0, 10, 180, 0, 137, 184, 1, 168, 177]
abbrev dktX1_landAt_0 : List UInt8 := dkwX1_landAt_0 ++ []
theorem dksX1_landAt_0 : cX1_landAt.data.toList.drop 0 = dktX1_landAt_0 := by decide +kernel
theorem dX1_landAt_0 : decode cX1_landAt 0 = .ok (.iload_n 1, 1) := dk_27 (dk_at dksX1_landAt_0 0 rfl rfl)
theorem dX1_landAt_1 : decode cX1_landAt 1 = .ok (.aload_n 0, 1) := dk_42 (dk_at dksX1_landAt_0 1 rfl rfl)
theorem dX1_landAt_2 : decode cX1_landAt 2 = .ok (.getfield 10, 3) := dk_180 0 10 (dk_at dksX1_landAt_0 2 rfl rfl)
theorem dX1_landAt_5 : decode cX1_landAt 5 = .ok (.getfield 137, 3) := dk_180 0 137 (dk_at dksX1_landAt_0 5 rfl rfl)
theorem dX1_landAt_8 : decode cX1_landAt 8 = .ok (.invokestatic 424, 3) := dk_184 1 168 (dk_at dksX1_landAt_0 8 rfl rfl)
theorem dX1_landAt_11 : decode cX1_landAt 11 = .ok (.return_, 1) := dk_177 (dk_at dksX1_landAt_0 11 rfl rfl)
abbrev cX1_person : ByteArray := prog_1_method_43_code
def yX1_person : MethodName := ⟨RX1, "person", "(II)I"⟩
def dkwX1_person_4 : List UInt8 := [182, 1, 193, 172, 45, 27, 182, 1, 197, 172]
abbrev dktX1_person_4 : List UInt8 := dkwX1_person_4 ++ []
def dkwX1_person_3 : List UInt8 := [180, 0, 169, 27, 46, 172, 45, 180, 0, 171, 27, 51, 153, 0, 7, 4, 167, 0, 4, 3, 172, 45, 27]
abbrev dktX1_person_3 : List UInt8 := dkwX1_person_3 ++ dktX1_person_4
def dkwX1_person_2 : List UInt8 := [45, 180, 0, 157, 27, 46, 172, 45, 180, 0, 160, 27, 46, 172, 45, 180, 0, 165, 27, 46, 172, 45]
abbrev dktX1_person_2 : List UInt8 := dkwX1_person_2 ++ dktX1_person_3
def dkwX1_person_1 : List UInt8 := [170, 0, 0, 0, 0, 0, 88, 0, 0, 0, 0, 0, 0, 0, 5, 0, 0, 0, 39, 0, 0, 0, 46, 0, 0, 0, 53, 0, 0, 0, 60, 0, 0, 0, 67, 0, 0, 0, 82]
abbrev dktX1_person_1 : List UInt8 := dkwX1_person_1 ++ dktX1_person_2
def dkwX1_person_0 : List UInt8 := [42, 27, 182, 1, 171, 28, 16, 6, 184, 1, 190, 42, 180, 0, 10, 78, 28]
abbrev dktX1_person_0 : List UInt8 := dkwX1_person_0 ++ dktX1_person_1
theorem dksX1_person_0 : cX1_person.data.toList.drop 0 = dktX1_person_0 := by decide +kernel
theorem dksX1_person_1 : cX1_person.data.toList.drop 17 = dktX1_person_1 := dk_seg dksX1_person_0 17 rfl rfl
theorem dksX1_person_2 : cX1_person.data.toList.drop 56 = dktX1_person_2 := dk_seg dksX1_person_1 39 rfl rfl
theorem dksX1_person_3 : cX1_person.data.toList.drop 78 = dktX1_person_3 := dk_seg dksX1_person_2 22 rfl rfl
theorem dksX1_person_4 : cX1_person.data.toList.drop 101 = dktX1_person_4 := dk_seg dksX1_person_3 23 rfl rfl
theorem dX1_person_0 : decode cX1_person 0 = .ok (.aload_n 0, 1) := dk_42 (dk_at dksX1_person_0 0 rfl rfl)
theorem dX1_person_1 : decode cX1_person 1 = .ok (.iload_n 1, 1) := dk_27 (dk_at dksX1_person_0 1 rfl rfl)
theorem dX1_person_2 : decode cX1_person 2 = .ok (.invokevirtual 427, 3) := dk_182 1 171 (dk_at dksX1_person_0 2 rfl rfl)
theorem dX1_person_5 : decode cX1_person 5 = .ok (.iload_n 2, 1) := dk_28 (dk_at dksX1_person_0 5 rfl rfl)
theorem dX1_person_6 : decode cX1_person 6 = .ok (.bipush 6, 2) := dk_16 6 (dk_at dksX1_person_0 6 rfl rfl)
theorem dX1_person_8 : decode cX1_person 8 = .ok (.invokestatic 446, 3) := dk_184 1 190 (dk_at dksX1_person_0 8 rfl rfl)
theorem dX1_person_11 : decode cX1_person 11 = .ok (.aload_n 0, 1) := dk_42 (dk_at dksX1_person_0 11 rfl rfl)
theorem dX1_person_12 : decode cX1_person 12 = .ok (.getfield 10, 3) := dk_180 0 10 (dk_at dksX1_person_0 12 rfl rfl)
theorem dX1_person_15 : decode cX1_person 15 = .ok (.astore_n 3, 1) := dk_78 (dk_at dksX1_person_0 15 rfl rfl)
theorem dX1_person_16 : decode cX1_person 16 = .ok (.iload_n 2, 1) := dk_28 (dk_at dksX1_person_0 16 rfl rfl)
theorem dX1_person_17 : decode cX1_person 17 = .ok (.tableswitch 88 0 5 #[39, 46, 53, 60, 67, 82], 39) := by decide +kernel
theorem dX1_person_56 : decode cX1_person 56 = .ok (.aload_n 3, 1) := dk_45 (dk_at dksX1_person_2 0 rfl rfl)
theorem dX1_person_57 : decode cX1_person 57 = .ok (.getfield 157, 3) := dk_180 0 157 (dk_at dksX1_person_2 1 rfl rfl)
theorem dX1_person_60 : decode cX1_person 60 = .ok (.iload_n 1, 1) := dk_27 (dk_at dksX1_person_2 4 rfl rfl)
theorem dX1_person_61 : decode cX1_person 61 = .ok (.iaload, 1) := dk_46 (dk_at dksX1_person_2 5 rfl rfl)
theorem dX1_person_62 : decode cX1_person 62 = .ok (.ireturn, 1) := dk_172 (dk_at dksX1_person_2 6 rfl rfl)
theorem dX1_person_63 : decode cX1_person 63 = .ok (.aload_n 3, 1) := dk_45 (dk_at dksX1_person_2 7 rfl rfl)
theorem dX1_person_64 : decode cX1_person 64 = .ok (.getfield 160, 3) := dk_180 0 160 (dk_at dksX1_person_2 8 rfl rfl)
theorem dX1_person_67 : decode cX1_person 67 = .ok (.iload_n 1, 1) := dk_27 (dk_at dksX1_person_2 11 rfl rfl)
theorem dX1_person_68 : decode cX1_person 68 = .ok (.iaload, 1) := dk_46 (dk_at dksX1_person_2 12 rfl rfl)
theorem dX1_person_69 : decode cX1_person 69 = .ok (.ireturn, 1) := dk_172 (dk_at dksX1_person_2 13 rfl rfl)
theorem dX1_person_70 : decode cX1_person 70 = .ok (.aload_n 3, 1) := dk_45 (dk_at dksX1_person_2 14 rfl rfl)
theorem dX1_person_71 : decode cX1_person 71 = .ok (.getfield 165, 3) := dk_180 0 165 (dk_at dksX1_person_2 15 rfl rfl)
theorem dX1_person_74 : decode cX1_person 74 = .ok (.iload_n 1, 1) := dk_27 (dk_at dksX1_person_2 18 rfl rfl)
theorem dX1_person_75 : decode cX1_person 75 = .ok (.iaload, 1) := dk_46 (dk_at dksX1_person_2 19 rfl rfl)
theorem dX1_person_76 : decode cX1_person 76 = .ok (.ireturn, 1) := dk_172 (dk_at dksX1_person_2 20 rfl rfl)
theorem dX1_person_77 : decode cX1_person 77 = .ok (.aload_n 3, 1) := dk_45 (dk_at dksX1_person_2 21 rfl rfl)
theorem dX1_person_78 : decode cX1_person 78 = .ok (.getfield 169, 3) := dk_180 0 169 (dk_at dksX1_person_3 0 rfl rfl)
theorem dX1_person_81 : decode cX1_person 81 = .ok (.iload_n 1, 1) := dk_27 (dk_at dksX1_person_3 3 rfl rfl)
theorem dX1_person_82 : decode cX1_person 82 = .ok (.iaload, 1) := dk_46 (dk_at dksX1_person_3 4 rfl rfl)
theorem dX1_person_83 : decode cX1_person 83 = .ok (.ireturn, 1) := dk_172 (dk_at dksX1_person_3 5 rfl rfl)
theorem dX1_person_84 : decode cX1_person 84 = .ok (.aload_n 3, 1) := dk_45 (dk_at dksX1_person_3 6 rfl rfl)
theorem dX1_person_85 : decode cX1_person 85 = .ok (.getfield 171, 3) := dk_180 0 171 (dk_at dksX1_person_3 7 rfl rfl)
theorem dX1_person_88 : decode cX1_person 88 = .ok (.iload_n 1, 1) := dk_27 (dk_at dksX1_person_3 10 rfl rfl)
theorem dX1_person_89 : decode cX1_person 89 = .ok (.baload, 1) := dk_51 (dk_at dksX1_person_3 11 rfl rfl)
theorem dX1_person_90 : decode cX1_person 90 = .ok (.ifCond .eq 7, 3) := dk_153 0 7 (dk_at dksX1_person_3 12 rfl rfl)
theorem dX1_person_93 : decode cX1_person 93 = .ok (.iconst 1, 1) := dk_4 (dk_at dksX1_person_3 15 rfl rfl)
theorem dX1_person_94 : decode cX1_person 94 = .ok (.goto 4, 3) := dk_167 0 4 (dk_at dksX1_person_3 16 rfl rfl)
theorem dX1_person_97 : decode cX1_person 97 = .ok (.iconst 0, 1) := dk_3 (dk_at dksX1_person_3 19 rfl rfl)
theorem dX1_person_98 : decode cX1_person 98 = .ok (.ireturn, 1) := dk_172 (dk_at dksX1_person_3 20 rfl rfl)
theorem dX1_person_99 : decode cX1_person 99 = .ok (.aload_n 3, 1) := dk_45 (dk_at dksX1_person_3 21 rfl rfl)
theorem dX1_person_100 : decode cX1_person 100 = .ok (.iload_n 1, 1) := dk_27 (dk_at dksX1_person_3 22 rfl rfl)
theorem dX1_person_101 : decode cX1_person 101 = .ok (.invokevirtual 449, 3) := dk_182 1 193 (dk_at dksX1_person_4 0 rfl rfl)
theorem dX1_person_104 : decode cX1_person 104 = .ok (.ireturn, 1) := dk_172 (dk_at dksX1_person_4 3 rfl rfl)
theorem dX1_person_105 : decode cX1_person 105 = .ok (.aload_n 3, 1) := dk_45 (dk_at dksX1_person_4 4 rfl rfl)
theorem dX1_person_106 : decode cX1_person 106 = .ok (.iload_n 1, 1) := dk_27 (dk_at dksX1_person_4 5 rfl rfl)
theorem dX1_person_107 : decode cX1_person 107 = .ok (.invokevirtual 453, 3) := dk_182 1 197 (dk_at dksX1_person_4 6 rfl rfl)
theorem dX1_person_110 : decode cX1_person 110 = .ok (.ireturn, 1) := dk_172 (dk_at dksX1_person_4 9 rfl rfl)
abbrev cX1_personAt : ByteArray := prog_1_method_35_code
def yX1_personAt : MethodName := ⟨RX1, "personAt", "(I)V"⟩
def dkwX1_personAt_0 : List UInt8 := [27, 42, 180, 0, 10, 180, 0, 154, 184, 1, 168, 177]
abbrev dktX1_personAt_0 : List UInt8 := dkwX1_personAt_0 ++ []
theorem dksX1_personAt_0 : cX1_personAt.data.toList.drop 0 = dktX1_personAt_0 := by decide +kernel
theorem dX1_personAt_0 : decode cX1_personAt 0 = .ok (.iload_n 1, 1) := dk_27 (dk_at dksX1_personAt_0 0 rfl rfl)
theorem dX1_personAt_1 : decode cX1_personAt 1 = .ok (.aload_n 0, 1) := dk_42 (dk_at dksX1_personAt_0 1 rfl rfl)
theorem dX1_personAt_2 : decode cX1_personAt 2 = .ok (.getfield 10, 3) := dk_180 0 10 (dk_at dksX1_personAt_0 2 rfl rfl)
theorem dX1_personAt_5 : decode cX1_personAt 5 = .ok (.getfield 154, 3) := dk_180 0 154 (dk_at dksX1_personAt_0 5 rfl rfl)
theorem dX1_personAt_8 : decode cX1_personAt 8 = .ok (.invokestatic 424, 3) := dk_184 1 168 (dk_at dksX1_personAt_0 8 rfl rfl)
theorem dX1_personAt_11 : decode cX1_personAt 11 = .ok (.return_, 1) := dk_177 (dk_at dksX1_personAt_0 11 rfl rfl)
abbrev cX1_question : ByteArray := prog_1_method_34_code
def yX1_question : MethodName := ⟨RX1, "question", "(II)V"⟩
def dkwX1_question_0 : List UInt8 := [26, 3, 27, 184, 1, 158, 154, 0, 11, 187, 1, 165, 89, 183, 1, 167, 191, 177]
abbrev dktX1_question_0 : List UInt8 := dkwX1_question_0 ++ []
theorem dksX1_question_0 : cX1_question.data.toList.drop 0 = dktX1_question_0 := by decide +kernel
theorem dX1_question_0 : decode cX1_question 0 = .ok (.iload_n 0, 1) := dk_26 (dk_at dksX1_question_0 0 rfl rfl)
theorem dX1_question_1 : decode cX1_question 1 = .ok (.iconst 0, 1) := dk_3 (dk_at dksX1_question_0 1 rfl rfl)
theorem dX1_question_2 : decode cX1_question 2 = .ok (.iload_n 1, 1) := dk_27 (dk_at dksX1_question_0 2 rfl rfl)
theorem dX1_question_3 : decode cX1_question 3 = .ok (.invokestatic 414, 3) := dk_184 1 158 (dk_at dksX1_question_0 3 rfl rfl)
theorem dX1_question_6 : decode cX1_question 6 = .ok (.ifCond .ne 11, 3) := dk_154 0 11 (dk_at dksX1_question_0 6 rfl rfl)
theorem dX1_question_9 : decode cX1_question 9 = .ok (.new 421, 3) := dk_187 1 165 (dk_at dksX1_question_0 9 rfl rfl)
theorem dX1_question_12 : decode cX1_question 12 = .ok (.dup, 1) := dk_89 (dk_at dksX1_question_0 12 rfl rfl)
theorem dX1_question_13 : decode cX1_question 13 = .ok (.invokespecial 423, 3) := dk_183 1 167 (dk_at dksX1_question_0 13 rfl rfl)
theorem dX1_question_16 : decode cX1_question 16 = .ok (.athrow, 1) := dk_191 (dk_at dksX1_question_0 16 rfl rfl)
theorem dX1_question_17 : decode cX1_question 17 = .ok (.return_, 1) := dk_177 (dk_at dksX1_question_0 17 rfl rfl)
abbrev cX1_saw : ByteArray := prog_1_method_44_code
def yX1_saw : MethodName := ⟨RX1, "saw", "(IIZ)I"⟩
def dkwX1_saw_1 : List UInt8 := [180, 1, 136, 21, 4, 46, 167, 0, 13, 42, 180, 0, 10, 180, 0, 181, 21, 4, 46, 172]
abbrev dktX1_saw_1 : List UInt8 := dkwX1_saw_1 ++ []
def dkwX1_saw_0 : List UInt8 := [42, 27, 28, 182, 1, 200, 16, 10, 27, 104, 28, 96, 54, 4, 29, 153, 0, 16, 42, 180, 0, 10]
abbrev dktX1_saw_0 : List UInt8 := dkwX1_saw_0 ++ dktX1_saw_1
theorem dksX1_saw_0 : cX1_saw.data.toList.drop 0 = dktX1_saw_0 := by decide +kernel
theorem dksX1_saw_1 : cX1_saw.data.toList.drop 22 = dktX1_saw_1 := dk_seg dksX1_saw_0 22 rfl rfl
theorem dX1_saw_0 : decode cX1_saw 0 = .ok (.aload_n 0, 1) := dk_42 (dk_at dksX1_saw_0 0 rfl rfl)
theorem dX1_saw_1 : decode cX1_saw 1 = .ok (.iload_n 1, 1) := dk_27 (dk_at dksX1_saw_0 1 rfl rfl)
theorem dX1_saw_2 : decode cX1_saw 2 = .ok (.iload_n 2, 1) := dk_28 (dk_at dksX1_saw_0 2 rfl rfl)
theorem dX1_saw_3 : decode cX1_saw 3 = .ok (.invokevirtual 456, 3) := dk_182 1 200 (dk_at dksX1_saw_0 3 rfl rfl)
theorem dX1_saw_6 : decode cX1_saw 6 = .ok (.bipush 10, 2) := dk_16 10 (dk_at dksX1_saw_0 6 rfl rfl)
theorem dX1_saw_8 : decode cX1_saw 8 = .ok (.iload_n 1, 1) := dk_27 (dk_at dksX1_saw_0 8 rfl rfl)
theorem dX1_saw_9 : decode cX1_saw 9 = .ok (.imul, 1) := dk_104 (dk_at dksX1_saw_0 9 rfl rfl)
theorem dX1_saw_10 : decode cX1_saw 10 = .ok (.iload_n 2, 1) := dk_28 (dk_at dksX1_saw_0 10 rfl rfl)
theorem dX1_saw_11 : decode cX1_saw 11 = .ok (.iadd, 1) := dk_96 (dk_at dksX1_saw_0 11 rfl rfl)
theorem dX1_saw_12 : decode cX1_saw 12 = .ok (.istore 4, 2) := dk_54 4 (dk_at dksX1_saw_0 12 rfl rfl)
theorem dX1_saw_14 : decode cX1_saw 14 = .ok (.iload_n 3, 1) := dk_29 (dk_at dksX1_saw_0 14 rfl rfl)
theorem dX1_saw_15 : decode cX1_saw 15 = .ok (.ifCond .eq 16, 3) := dk_153 0 16 (dk_at dksX1_saw_0 15 rfl rfl)
theorem dX1_saw_18 : decode cX1_saw 18 = .ok (.aload_n 0, 1) := dk_42 (dk_at dksX1_saw_0 18 rfl rfl)
theorem dX1_saw_19 : decode cX1_saw 19 = .ok (.getfield 10, 3) := dk_180 0 10 (dk_at dksX1_saw_0 19 rfl rfl)
theorem dX1_saw_22 : decode cX1_saw 22 = .ok (.getfield 392, 3) := dk_180 1 136 (dk_at dksX1_saw_1 0 rfl rfl)
theorem dX1_saw_25 : decode cX1_saw 25 = .ok (.iload 4, 2) := dk_21 4 (dk_at dksX1_saw_1 3 rfl rfl)
theorem dX1_saw_27 : decode cX1_saw 27 = .ok (.iaload, 1) := dk_46 (dk_at dksX1_saw_1 5 rfl rfl)
theorem dX1_saw_28 : decode cX1_saw 28 = .ok (.goto 13, 3) := dk_167 0 13 (dk_at dksX1_saw_1 6 rfl rfl)
theorem dX1_saw_31 : decode cX1_saw 31 = .ok (.aload_n 0, 1) := dk_42 (dk_at dksX1_saw_1 9 rfl rfl)
theorem dX1_saw_32 : decode cX1_saw 32 = .ok (.getfield 10, 3) := dk_180 0 10 (dk_at dksX1_saw_1 10 rfl rfl)
theorem dX1_saw_35 : decode cX1_saw 35 = .ok (.getfield 181, 3) := dk_180 0 181 (dk_at dksX1_saw_1 13 rfl rfl)
theorem dX1_saw_38 : decode cX1_saw 38 = .ok (.iload 4, 2) := dk_21 4 (dk_at dksX1_saw_1 16 rfl rfl)
theorem dX1_saw_40 : decode cX1_saw 40 = .ok (.iaload, 1) := dk_46 (dk_at dksX1_saw_1 18 rfl rfl)
theorem dX1_saw_41 : decode cX1_saw 41 = .ok (.ireturn, 1) := dk_172 (dk_at dksX1_saw_1 19 rfl rfl)
abbrev cX1_twoAt : ByteArray := prog_1_method_38_code
def yX1_twoAt : MethodName := ⟨RX1, "twoAt", "(II)V"⟩
def dkwX1_twoAt_0 : List UInt8 := [42, 27, 182, 1, 171, 42, 28, 182, 1, 171, 27, 28, 159, 0, 7, 4, 167, 0, 4, 3, 184, 1, 175, 177]
abbrev dktX1_twoAt_0 : List UInt8 := dkwX1_twoAt_0 ++ []
theorem dksX1_twoAt_0 : cX1_twoAt.data.toList.drop 0 = dktX1_twoAt_0 := by decide +kernel
theorem dX1_twoAt_0 : decode cX1_twoAt 0 = .ok (.aload_n 0, 1) := dk_42 (dk_at dksX1_twoAt_0 0 rfl rfl)
theorem dX1_twoAt_1 : decode cX1_twoAt 1 = .ok (.iload_n 1, 1) := dk_27 (dk_at dksX1_twoAt_0 1 rfl rfl)
theorem dX1_twoAt_2 : decode cX1_twoAt 2 = .ok (.invokevirtual 427, 3) := dk_182 1 171 (dk_at dksX1_twoAt_0 2 rfl rfl)
theorem dX1_twoAt_5 : decode cX1_twoAt 5 = .ok (.aload_n 0, 1) := dk_42 (dk_at dksX1_twoAt_0 5 rfl rfl)
theorem dX1_twoAt_6 : decode cX1_twoAt 6 = .ok (.iload_n 2, 1) := dk_28 (dk_at dksX1_twoAt_0 6 rfl rfl)
theorem dX1_twoAt_7 : decode cX1_twoAt 7 = .ok (.invokevirtual 427, 3) := dk_182 1 171 (dk_at dksX1_twoAt_0 7 rfl rfl)
theorem dX1_twoAt_10 : decode cX1_twoAt 10 = .ok (.iload_n 1, 1) := dk_27 (dk_at dksX1_twoAt_0 10 rfl rfl)
theorem dX1_twoAt_11 : decode cX1_twoAt 11 = .ok (.iload_n 2, 1) := dk_28 (dk_at dksX1_twoAt_0 11 rfl rfl)
theorem dX1_twoAt_12 : decode cX1_twoAt 12 = .ok (.if_icmp .eq 7, 3) := dk_159 0 7 (dk_at dksX1_twoAt_0 12 rfl rfl)
theorem dX1_twoAt_15 : decode cX1_twoAt 15 = .ok (.iconst 1, 1) := dk_4 (dk_at dksX1_twoAt_0 15 rfl rfl)
theorem dX1_twoAt_16 : decode cX1_twoAt 16 = .ok (.goto 4, 3) := dk_167 0 4 (dk_at dksX1_twoAt_0 16 rfl rfl)
theorem dX1_twoAt_19 : decode cX1_twoAt 19 = .ok (.iconst 0, 1) := dk_3 (dk_at dksX1_twoAt_0 19 rfl rfl)
theorem dX1_twoAt_20 : decode cX1_twoAt 20 = .ok (.invokestatic 431, 3) := dk_184 1 175 (dk_at dksX1_twoAt_0 20 rfl rfl)
theorem dX1_twoAt_23 : decode cX1_twoAt 23 = .ok (.return_, 1) := dk_177 (dk_at dksX1_twoAt_0 23 rfl rfl)
abbrev cX1_demand : ByteArray := prog_1_method_33_code
def yX1_demand : MethodName := ⟨RX1, "demand", "(Z)V"⟩
def dkwX1_demand_0 : List UInt8 := [26, 154, 0, 11, 187, 0, 248, 89, 183, 0, 250, 191, 177]
abbrev dktX1_demand_0 : List UInt8 := dkwX1_demand_0 ++ []
theorem dksX1_demand_0 : cX1_demand.data.toList.drop 0 = dktX1_demand_0 := by decide +kernel
theorem dX1_demand_0 : decode cX1_demand 0 = .ok (.iload_n 0, 1) := dk_26 (dk_at dksX1_demand_0 0 rfl rfl)
theorem dX1_demand_1 : decode cX1_demand 1 = .ok (.ifCond .ne 11, 3) := dk_154 0 11 (dk_at dksX1_demand_0 1 rfl rfl)
theorem dX1_demand_4 : decode cX1_demand 4 = .ok (.new 248, 3) := dk_187 0 248 (dk_at dksX1_demand_0 4 rfl rfl)
theorem dX1_demand_7 : decode cX1_demand 7 = .ok (.dup, 1) := dk_89 (dk_at dksX1_demand_0 7 rfl rfl)
theorem dX1_demand_8 : decode cX1_demand 8 = .ok (.invokespecial 250, 3) := dk_183 0 250 (dk_at dksX1_demand_0 8 rfl rfl)
theorem dX1_demand_11 : decode cX1_demand 11 = .ok (.athrow, 1) := dk_191 (dk_at dksX1_demand_0 11 rfl rfl)
theorem dX1_demand_12 : decode cX1_demand 12 = .ok (.return_, 1) := dk_177 (dk_at dksX1_demand_0 12 rfl rfl)
abbrev cX1_tie : ByteArray := prog_1_method_45_code
def yX1_tie : MethodName := ⟨RX1, "tie", "(IZ)I"⟩
def dkwX1_tie_1 : List UInt8 := [167, 0, 12, 42, 180, 0, 10, 180, 1, 206, 27, 46, 172]
abbrev dktX1_tie_1 : List UInt8 := dkwX1_tie_1 ++ []
def dkwX1_tie_0 : List UInt8 := [27, 42, 180, 0, 10, 180, 0, 184, 184, 1, 168, 28, 153, 0, 15, 42, 180, 0, 10, 180, 1, 203, 27, 46]
abbrev dktX1_tie_0 : List UInt8 := dkwX1_tie_0 ++ dktX1_tie_1
theorem dksX1_tie_0 : cX1_tie.data.toList.drop 0 = dktX1_tie_0 := by decide +kernel
theorem dksX1_tie_1 : cX1_tie.data.toList.drop 24 = dktX1_tie_1 := dk_seg dksX1_tie_0 24 rfl rfl
theorem dX1_tie_0 : decode cX1_tie 0 = .ok (.iload_n 1, 1) := dk_27 (dk_at dksX1_tie_0 0 rfl rfl)
theorem dX1_tie_1 : decode cX1_tie 1 = .ok (.aload_n 0, 1) := dk_42 (dk_at dksX1_tie_0 1 rfl rfl)
theorem dX1_tie_2 : decode cX1_tie 2 = .ok (.getfield 10, 3) := dk_180 0 10 (dk_at dksX1_tie_0 2 rfl rfl)
theorem dX1_tie_5 : decode cX1_tie 5 = .ok (.getfield 184, 3) := dk_180 0 184 (dk_at dksX1_tie_0 5 rfl rfl)
theorem dX1_tie_8 : decode cX1_tie 8 = .ok (.invokestatic 424, 3) := dk_184 1 168 (dk_at dksX1_tie_0 8 rfl rfl)
theorem dX1_tie_11 : decode cX1_tie 11 = .ok (.iload_n 2, 1) := dk_28 (dk_at dksX1_tie_0 11 rfl rfl)
theorem dX1_tie_12 : decode cX1_tie 12 = .ok (.ifCond .eq 15, 3) := dk_153 0 15 (dk_at dksX1_tie_0 12 rfl rfl)
theorem dX1_tie_15 : decode cX1_tie 15 = .ok (.aload_n 0, 1) := dk_42 (dk_at dksX1_tie_0 15 rfl rfl)
theorem dX1_tie_16 : decode cX1_tie 16 = .ok (.getfield 10, 3) := dk_180 0 10 (dk_at dksX1_tie_0 16 rfl rfl)
theorem dX1_tie_19 : decode cX1_tie 19 = .ok (.getfield 459, 3) := dk_180 1 203 (dk_at dksX1_tie_0 19 rfl rfl)
theorem dX1_tie_22 : decode cX1_tie 22 = .ok (.iload_n 1, 1) := dk_27 (dk_at dksX1_tie_0 22 rfl rfl)
theorem dX1_tie_23 : decode cX1_tie 23 = .ok (.iaload, 1) := dk_46 (dk_at dksX1_tie_0 23 rfl rfl)
theorem dX1_tie_24 : decode cX1_tie 24 = .ok (.goto 12, 3) := dk_167 0 12 (dk_at dksX1_tie_1 0 rfl rfl)
theorem dX1_tie_27 : decode cX1_tie 27 = .ok (.aload_n 0, 1) := dk_42 (dk_at dksX1_tie_1 3 rfl rfl)
theorem dX1_tie_28 : decode cX1_tie 28 = .ok (.getfield 10, 3) := dk_180 0 10 (dk_at dksX1_tie_1 4 rfl rfl)
theorem dX1_tie_31 : decode cX1_tie 31 = .ok (.getfield 462, 3) := dk_180 1 206 (dk_at dksX1_tie_1 7 rfl rfl)
theorem dX1_tie_34 : decode cX1_tie 34 = .ok (.iload_n 1, 1) := dk_27 (dk_at dksX1_tie_1 10 rfl rfl)
theorem dX1_tie_35 : decode cX1_tie 35 = .ok (.iaload, 1) := dk_46 (dk_at dksX1_tie_1 11 rfl rfl)
theorem dX1_tie_36 : decode cX1_tie 36 = .ok (.ireturn, 1) := dk_172 (dk_at dksX1_tie_1 12 rfl rfl)
abbrev cX1_will : ByteArray := prog_1_method_46_code
def yX1_will : MethodName := ⟨RX1, "will", "(II)I"⟩
def dkwX1_will_0 : List UInt8 := [42, 27, 28, 182, 1, 200, 42, 42, 180, 0, 10, 27, 28, 182, 1, 209, 172]
abbrev dktX1_will_0 : List UInt8 := dkwX1_will_0 ++ []
theorem dksX1_will_0 : cX1_will.data.toList.drop 0 = dktX1_will_0 := by decide +kernel
theorem dX1_will_0 : decode cX1_will 0 = .ok (.aload_n 0, 1) := dk_42 (dk_at dksX1_will_0 0 rfl rfl)
theorem dX1_will_1 : decode cX1_will 1 = .ok (.iload_n 1, 1) := dk_27 (dk_at dksX1_will_0 1 rfl rfl)
theorem dX1_will_2 : decode cX1_will 2 = .ok (.iload_n 2, 1) := dk_28 (dk_at dksX1_will_0 2 rfl rfl)
theorem dX1_will_3 : decode cX1_will 3 = .ok (.invokevirtual 456, 3) := dk_182 1 200 (dk_at dksX1_will_0 3 rfl rfl)
theorem dX1_will_6 : decode cX1_will 6 = .ok (.aload_n 0, 1) := dk_42 (dk_at dksX1_will_0 6 rfl rfl)
theorem dX1_will_7 : decode cX1_will 7 = .ok (.aload_n 0, 1) := dk_42 (dk_at dksX1_will_0 7 rfl rfl)
theorem dX1_will_8 : decode cX1_will 8 = .ok (.getfield 10, 3) := dk_180 0 10 (dk_at dksX1_will_0 8 rfl rfl)
theorem dX1_will_11 : decode cX1_will 11 = .ok (.iload_n 1, 1) := dk_27 (dk_at dksX1_will_0 11 rfl rfl)
theorem dX1_will_12 : decode cX1_will 12 = .ok (.iload_n 2, 1) := dk_28 (dk_at dksX1_will_0 12 rfl rfl)
theorem dX1_will_13 : decode cX1_will 13 = .ok (.invokevirtual 465, 3) := dk_182 1 209 (dk_at dksX1_will_0 13 rfl rfl)
theorem dX1_will_16 : decode cX1_will 16 = .ok (.ireturn, 1) := dk_172 (dk_at dksX1_will_0 16 rfl rfl)
abbrev cX1_beginsWith : ByteArray := prog_1_method_31_code
def yX1_beginsWith : MethodName := ⟨RX1, "beginsWith", "(LCheekTown$World;II)I"⟩
def dkwX1_beginsWith_2 : List UInt8 := [172]
abbrev dktX1_beginsWith_2 : List UInt8 := dkwX1_beginsWith_2 ++ []
def dkwX1_beginsWith_1 : List UInt8 := [28, 104, 29, 96, 46, 54, 5, 21, 5, 2, 159, 0, 8, 21, 5, 167, 0, 9, 43, 180, 0, 160, 28, 46]
abbrev dktX1_beginsWith_1 : List UInt8 := dkwX1_beginsWith_1 ++ dktX1_beginsWith_2
def dkwX1_beginsWith_0 : List UInt8 := [42, 43, 28, 29, 182, 1, 154, 54, 4, 21, 4, 2, 159, 0, 6, 21, 4, 172, 43, 180, 0, 181, 16, 10]
abbrev dktX1_beginsWith_0 : List UInt8 := dkwX1_beginsWith_0 ++ dktX1_beginsWith_1
theorem dksX1_beginsWith_0 : cX1_beginsWith.data.toList.drop 0 = dktX1_beginsWith_0 := by decide +kernel
theorem dksX1_beginsWith_1 : cX1_beginsWith.data.toList.drop 24 = dktX1_beginsWith_1 := dk_seg dksX1_beginsWith_0 24 rfl rfl
theorem dksX1_beginsWith_2 : cX1_beginsWith.data.toList.drop 48 = dktX1_beginsWith_2 := dk_seg dksX1_beginsWith_1 24 rfl rfl
theorem dX1_beginsWith_0 : decode cX1_beginsWith 0 = .ok (.aload_n 0, 1) := dk_42 (dk_at dksX1_beginsWith_0 0 rfl rfl)
theorem dX1_beginsWith_1 : decode cX1_beginsWith 1 = .ok (.aload_n 1, 1) := dk_43 (dk_at dksX1_beginsWith_0 1 rfl rfl)
theorem dX1_beginsWith_2 : decode cX1_beginsWith 2 = .ok (.iload_n 2, 1) := dk_28 (dk_at dksX1_beginsWith_0 2 rfl rfl)
theorem dX1_beginsWith_3 : decode cX1_beginsWith 3 = .ok (.iload_n 3, 1) := dk_29 (dk_at dksX1_beginsWith_0 3 rfl rfl)
theorem dX1_beginsWith_4 : decode cX1_beginsWith 4 = .ok (.invokevirtual 410, 3) := dk_182 1 154 (dk_at dksX1_beginsWith_0 4 rfl rfl)
theorem dX1_beginsWith_7 : decode cX1_beginsWith 7 = .ok (.istore 4, 2) := dk_54 4 (dk_at dksX1_beginsWith_0 7 rfl rfl)
theorem dX1_beginsWith_9 : decode cX1_beginsWith 9 = .ok (.iload 4, 2) := dk_21 4 (dk_at dksX1_beginsWith_0 9 rfl rfl)
theorem dX1_beginsWith_11 : decode cX1_beginsWith 11 = .ok (.iconst (-1), 1) := dk_2 (dk_at dksX1_beginsWith_0 11 rfl rfl)
theorem dX1_beginsWith_12 : decode cX1_beginsWith 12 = .ok (.if_icmp .eq 6, 3) := dk_159 0 6 (dk_at dksX1_beginsWith_0 12 rfl rfl)
theorem dX1_beginsWith_15 : decode cX1_beginsWith 15 = .ok (.iload 4, 2) := dk_21 4 (dk_at dksX1_beginsWith_0 15 rfl rfl)
theorem dX1_beginsWith_17 : decode cX1_beginsWith 17 = .ok (.ireturn, 1) := dk_172 (dk_at dksX1_beginsWith_0 17 rfl rfl)
theorem dX1_beginsWith_18 : decode cX1_beginsWith 18 = .ok (.aload_n 1, 1) := dk_43 (dk_at dksX1_beginsWith_0 18 rfl rfl)
theorem dX1_beginsWith_19 : decode cX1_beginsWith 19 = .ok (.getfield 181, 3) := dk_180 0 181 (dk_at dksX1_beginsWith_0 19 rfl rfl)
theorem dX1_beginsWith_22 : decode cX1_beginsWith 22 = .ok (.bipush 10, 2) := dk_16 10 (dk_at dksX1_beginsWith_0 22 rfl rfl)
theorem dX1_beginsWith_24 : decode cX1_beginsWith 24 = .ok (.iload_n 2, 1) := dk_28 (dk_at dksX1_beginsWith_1 0 rfl rfl)
theorem dX1_beginsWith_25 : decode cX1_beginsWith 25 = .ok (.imul, 1) := dk_104 (dk_at dksX1_beginsWith_1 1 rfl rfl)
theorem dX1_beginsWith_26 : decode cX1_beginsWith 26 = .ok (.iload_n 3, 1) := dk_29 (dk_at dksX1_beginsWith_1 2 rfl rfl)
theorem dX1_beginsWith_27 : decode cX1_beginsWith 27 = .ok (.iadd, 1) := dk_96 (dk_at dksX1_beginsWith_1 3 rfl rfl)
theorem dX1_beginsWith_28 : decode cX1_beginsWith 28 = .ok (.iaload, 1) := dk_46 (dk_at dksX1_beginsWith_1 4 rfl rfl)
theorem dX1_beginsWith_29 : decode cX1_beginsWith 29 = .ok (.istore 5, 2) := dk_54 5 (dk_at dksX1_beginsWith_1 5 rfl rfl)
theorem dX1_beginsWith_31 : decode cX1_beginsWith 31 = .ok (.iload 5, 2) := dk_21 5 (dk_at dksX1_beginsWith_1 7 rfl rfl)
theorem dX1_beginsWith_33 : decode cX1_beginsWith 33 = .ok (.iconst (-1), 1) := dk_2 (dk_at dksX1_beginsWith_1 9 rfl rfl)
theorem dX1_beginsWith_34 : decode cX1_beginsWith 34 = .ok (.if_icmp .eq 8, 3) := dk_159 0 8 (dk_at dksX1_beginsWith_1 10 rfl rfl)
theorem dX1_beginsWith_37 : decode cX1_beginsWith 37 = .ok (.iload 5, 2) := dk_21 5 (dk_at dksX1_beginsWith_1 13 rfl rfl)
theorem dX1_beginsWith_39 : decode cX1_beginsWith 39 = .ok (.goto 9, 3) := dk_167 0 9 (dk_at dksX1_beginsWith_1 15 rfl rfl)
theorem dX1_beginsWith_42 : decode cX1_beginsWith 42 = .ok (.aload_n 1, 1) := dk_43 (dk_at dksX1_beginsWith_1 18 rfl rfl)
theorem dX1_beginsWith_43 : decode cX1_beginsWith 43 = .ok (.getfield 160, 3) := dk_180 0 160 (dk_at dksX1_beginsWith_1 19 rfl rfl)
theorem dX1_beginsWith_46 : decode cX1_beginsWith 46 = .ok (.iload_n 2, 1) := dk_28 (dk_at dksX1_beginsWith_1 22 rfl rfl)
theorem dX1_beginsWith_47 : decode cX1_beginsWith 47 = .ok (.iaload, 1) := dk_46 (dk_at dksX1_beginsWith_1 23 rfl rfl)
theorem dX1_beginsWith_48 : decode cX1_beginsWith 48 = .ok (.ireturn, 1) := dk_172 (dk_at dksX1_beginsWith_2 0 rfl rfl)
abbrev cX1_toldBy : ByteArray := prog_1_method_30_code
def yX1_toldBy : MethodName := ⟨RX1, "toldBy", "(LCheekTown$World;II)I"⟩
def dkwX1_toldBy_6 : List UInt8 := [42, 180, 0, 32, 182, 1, 150, 172]
abbrev dktX1_toldBy_6 : List UInt8 := dkwX1_toldBy_6 ++ []
def dkwX1_toldBy_5 : List UInt8 := [154, 0, 12, 43, 180, 0, 171, 29, 51, 153, 0, 7, 4, 167, 0, 4, 3, 181, 1, 148, 43, 180, 1, 121]
abbrev dktX1_toldBy_5 : List UInt8 := dkwX1_toldBy_5 ++ dktX1_toldBy_6
def dkwX1_toldBy_4 : List UInt8 := [29, 46, 160, 0, 7, 4, 167, 0, 4, 3, 181, 1, 145, 42, 180, 0, 32, 43, 180, 0, 171, 28, 51]
abbrev dktX1_toldBy_4 : List UInt8 := dkwX1_toldBy_4 ++ dktX1_toldBy_5
def dkwX1_toldBy_3 : List UInt8 := [180, 0, 32, 43, 180, 1, 141, 181, 1, 144, 42, 180, 0, 32, 43, 180, 0, 157, 28, 46, 43, 180, 0, 157]
abbrev dktX1_toldBy_3 : List UInt8 := dkwX1_toldBy_3 ++ dktX1_toldBy_4
def dkwX1_toldBy_2 : List UInt8 := [29, 46, 181, 1, 133, 42, 180, 0, 32, 43, 180, 1, 136, 16, 10, 28, 104, 29, 96, 46, 181, 1, 139, 42]
abbrev dktX1_toldBy_2 : List UInt8 := dkwX1_toldBy_2 ++ dktX1_toldBy_3
def dkwX1_toldBy_1 : List UInt8 := [181, 1, 128, 42, 180, 0, 32, 43, 180, 0, 165, 28, 46, 181, 1, 131, 42, 180, 0, 32, 43, 180, 0, 165]
abbrev dktX1_toldBy_1 : List UInt8 := dkwX1_toldBy_1 ++ dktX1_toldBy_2
def dkwX1_toldBy_0 : List UInt8 := [43, 180, 1, 121, 199, 0, 5, 2, 172, 42, 180, 0, 32, 28, 181, 1, 125, 42, 180, 0, 32, 29]
abbrev dktX1_toldBy_0 : List UInt8 := dkwX1_toldBy_0 ++ dktX1_toldBy_1
theorem dksX1_toldBy_0 : cX1_toldBy.data.toList.drop 0 = dktX1_toldBy_0 := by decide +kernel
theorem dksX1_toldBy_1 : cX1_toldBy.data.toList.drop 22 = dktX1_toldBy_1 := dk_seg dksX1_toldBy_0 22 rfl rfl
theorem dksX1_toldBy_2 : cX1_toldBy.data.toList.drop 46 = dktX1_toldBy_2 := dk_seg dksX1_toldBy_1 24 rfl rfl
theorem dksX1_toldBy_3 : cX1_toldBy.data.toList.drop 70 = dktX1_toldBy_3 := dk_seg dksX1_toldBy_2 24 rfl rfl
theorem dksX1_toldBy_4 : cX1_toldBy.data.toList.drop 94 = dktX1_toldBy_4 := dk_seg dksX1_toldBy_3 24 rfl rfl
theorem dksX1_toldBy_5 : cX1_toldBy.data.toList.drop 117 = dktX1_toldBy_5 := dk_seg dksX1_toldBy_4 23 rfl rfl
theorem dksX1_toldBy_6 : cX1_toldBy.data.toList.drop 141 = dktX1_toldBy_6 := dk_seg dksX1_toldBy_5 24 rfl rfl
theorem dX1_toldBy_0 : decode cX1_toldBy 0 = .ok (.aload_n 1, 1) := dk_43 (dk_at dksX1_toldBy_0 0 rfl rfl)
theorem dX1_toldBy_1 : decode cX1_toldBy 1 = .ok (.getfield 377, 3) := dk_180 1 121 (dk_at dksX1_toldBy_0 1 rfl rfl)
theorem dX1_toldBy_4 : decode cX1_toldBy 4 = .ok (.ifnonnull 5, 3) := dk_199 0 5 (dk_at dksX1_toldBy_0 4 rfl rfl)
theorem dX1_toldBy_7 : decode cX1_toldBy 7 = .ok (.iconst (-1), 1) := dk_2 (dk_at dksX1_toldBy_0 7 rfl rfl)
theorem dX1_toldBy_8 : decode cX1_toldBy 8 = .ok (.ireturn, 1) := dk_172 (dk_at dksX1_toldBy_0 8 rfl rfl)
theorem dX1_toldBy_9 : decode cX1_toldBy 9 = .ok (.aload_n 0, 1) := dk_42 (dk_at dksX1_toldBy_0 9 rfl rfl)
theorem dX1_toldBy_10 : decode cX1_toldBy 10 = .ok (.getfield 32, 3) := dk_180 0 32 (dk_at dksX1_toldBy_0 10 rfl rfl)
theorem dX1_toldBy_13 : decode cX1_toldBy 13 = .ok (.iload_n 2, 1) := dk_28 (dk_at dksX1_toldBy_0 13 rfl rfl)
theorem dX1_toldBy_14 : decode cX1_toldBy 14 = .ok (.putfield 381, 3) := dk_181 1 125 (dk_at dksX1_toldBy_0 14 rfl rfl)
theorem dX1_toldBy_17 : decode cX1_toldBy 17 = .ok (.aload_n 0, 1) := dk_42 (dk_at dksX1_toldBy_0 17 rfl rfl)
theorem dX1_toldBy_18 : decode cX1_toldBy 18 = .ok (.getfield 32, 3) := dk_180 0 32 (dk_at dksX1_toldBy_0 18 rfl rfl)
theorem dX1_toldBy_21 : decode cX1_toldBy 21 = .ok (.iload_n 3, 1) := dk_29 (dk_at dksX1_toldBy_0 21 rfl rfl)
theorem dX1_toldBy_22 : decode cX1_toldBy 22 = .ok (.putfield 384, 3) := dk_181 1 128 (dk_at dksX1_toldBy_1 0 rfl rfl)
theorem dX1_toldBy_25 : decode cX1_toldBy 25 = .ok (.aload_n 0, 1) := dk_42 (dk_at dksX1_toldBy_1 3 rfl rfl)
theorem dX1_toldBy_26 : decode cX1_toldBy 26 = .ok (.getfield 32, 3) := dk_180 0 32 (dk_at dksX1_toldBy_1 4 rfl rfl)
theorem dX1_toldBy_29 : decode cX1_toldBy 29 = .ok (.aload_n 1, 1) := dk_43 (dk_at dksX1_toldBy_1 7 rfl rfl)
theorem dX1_toldBy_30 : decode cX1_toldBy 30 = .ok (.getfield 165, 3) := dk_180 0 165 (dk_at dksX1_toldBy_1 8 rfl rfl)
theorem dX1_toldBy_33 : decode cX1_toldBy 33 = .ok (.iload_n 2, 1) := dk_28 (dk_at dksX1_toldBy_1 11 rfl rfl)
theorem dX1_toldBy_34 : decode cX1_toldBy 34 = .ok (.iaload, 1) := dk_46 (dk_at dksX1_toldBy_1 12 rfl rfl)
theorem dX1_toldBy_35 : decode cX1_toldBy 35 = .ok (.putfield 387, 3) := dk_181 1 131 (dk_at dksX1_toldBy_1 13 rfl rfl)
theorem dX1_toldBy_38 : decode cX1_toldBy 38 = .ok (.aload_n 0, 1) := dk_42 (dk_at dksX1_toldBy_1 16 rfl rfl)
theorem dX1_toldBy_39 : decode cX1_toldBy 39 = .ok (.getfield 32, 3) := dk_180 0 32 (dk_at dksX1_toldBy_1 17 rfl rfl)
theorem dX1_toldBy_42 : decode cX1_toldBy 42 = .ok (.aload_n 1, 1) := dk_43 (dk_at dksX1_toldBy_1 20 rfl rfl)
theorem dX1_toldBy_43 : decode cX1_toldBy 43 = .ok (.getfield 165, 3) := dk_180 0 165 (dk_at dksX1_toldBy_1 21 rfl rfl)
theorem dX1_toldBy_46 : decode cX1_toldBy 46 = .ok (.iload_n 3, 1) := dk_29 (dk_at dksX1_toldBy_2 0 rfl rfl)
theorem dX1_toldBy_47 : decode cX1_toldBy 47 = .ok (.iaload, 1) := dk_46 (dk_at dksX1_toldBy_2 1 rfl rfl)
theorem dX1_toldBy_48 : decode cX1_toldBy 48 = .ok (.putfield 389, 3) := dk_181 1 133 (dk_at dksX1_toldBy_2 2 rfl rfl)
theorem dX1_toldBy_51 : decode cX1_toldBy 51 = .ok (.aload_n 0, 1) := dk_42 (dk_at dksX1_toldBy_2 5 rfl rfl)
theorem dX1_toldBy_52 : decode cX1_toldBy 52 = .ok (.getfield 32, 3) := dk_180 0 32 (dk_at dksX1_toldBy_2 6 rfl rfl)
theorem dX1_toldBy_55 : decode cX1_toldBy 55 = .ok (.aload_n 1, 1) := dk_43 (dk_at dksX1_toldBy_2 9 rfl rfl)
theorem dX1_toldBy_56 : decode cX1_toldBy 56 = .ok (.getfield 392, 3) := dk_180 1 136 (dk_at dksX1_toldBy_2 10 rfl rfl)
theorem dX1_toldBy_59 : decode cX1_toldBy 59 = .ok (.bipush 10, 2) := dk_16 10 (dk_at dksX1_toldBy_2 13 rfl rfl)
theorem dX1_toldBy_61 : decode cX1_toldBy 61 = .ok (.iload_n 2, 1) := dk_28 (dk_at dksX1_toldBy_2 15 rfl rfl)
theorem dX1_toldBy_62 : decode cX1_toldBy 62 = .ok (.imul, 1) := dk_104 (dk_at dksX1_toldBy_2 16 rfl rfl)
theorem dX1_toldBy_63 : decode cX1_toldBy 63 = .ok (.iload_n 3, 1) := dk_29 (dk_at dksX1_toldBy_2 17 rfl rfl)
theorem dX1_toldBy_64 : decode cX1_toldBy 64 = .ok (.iadd, 1) := dk_96 (dk_at dksX1_toldBy_2 18 rfl rfl)
theorem dX1_toldBy_65 : decode cX1_toldBy 65 = .ok (.iaload, 1) := dk_46 (dk_at dksX1_toldBy_2 19 rfl rfl)
theorem dX1_toldBy_66 : decode cX1_toldBy 66 = .ok (.putfield 395, 3) := dk_181 1 139 (dk_at dksX1_toldBy_2 20 rfl rfl)
theorem dX1_toldBy_69 : decode cX1_toldBy 69 = .ok (.aload_n 0, 1) := dk_42 (dk_at dksX1_toldBy_2 23 rfl rfl)
theorem dX1_toldBy_70 : decode cX1_toldBy 70 = .ok (.getfield 32, 3) := dk_180 0 32 (dk_at dksX1_toldBy_3 0 rfl rfl)
theorem dX1_toldBy_73 : decode cX1_toldBy 73 = .ok (.aload_n 1, 1) := dk_43 (dk_at dksX1_toldBy_3 3 rfl rfl)
theorem dX1_toldBy_74 : decode cX1_toldBy 74 = .ok (.getfield 397, 3) := dk_180 1 141 (dk_at dksX1_toldBy_3 4 rfl rfl)
theorem dX1_toldBy_77 : decode cX1_toldBy 77 = .ok (.putfield 400, 3) := dk_181 1 144 (dk_at dksX1_toldBy_3 7 rfl rfl)
theorem dX1_toldBy_80 : decode cX1_toldBy 80 = .ok (.aload_n 0, 1) := dk_42 (dk_at dksX1_toldBy_3 10 rfl rfl)
theorem dX1_toldBy_81 : decode cX1_toldBy 81 = .ok (.getfield 32, 3) := dk_180 0 32 (dk_at dksX1_toldBy_3 11 rfl rfl)
theorem dX1_toldBy_84 : decode cX1_toldBy 84 = .ok (.aload_n 1, 1) := dk_43 (dk_at dksX1_toldBy_3 14 rfl rfl)
theorem dX1_toldBy_85 : decode cX1_toldBy 85 = .ok (.getfield 157, 3) := dk_180 0 157 (dk_at dksX1_toldBy_3 15 rfl rfl)
theorem dX1_toldBy_88 : decode cX1_toldBy 88 = .ok (.iload_n 2, 1) := dk_28 (dk_at dksX1_toldBy_3 18 rfl rfl)
theorem dX1_toldBy_89 : decode cX1_toldBy 89 = .ok (.iaload, 1) := dk_46 (dk_at dksX1_toldBy_3 19 rfl rfl)
theorem dX1_toldBy_90 : decode cX1_toldBy 90 = .ok (.aload_n 1, 1) := dk_43 (dk_at dksX1_toldBy_3 20 rfl rfl)
theorem dX1_toldBy_91 : decode cX1_toldBy 91 = .ok (.getfield 157, 3) := dk_180 0 157 (dk_at dksX1_toldBy_3 21 rfl rfl)
theorem dX1_toldBy_94 : decode cX1_toldBy 94 = .ok (.iload_n 3, 1) := dk_29 (dk_at dksX1_toldBy_4 0 rfl rfl)
theorem dX1_toldBy_95 : decode cX1_toldBy 95 = .ok (.iaload, 1) := dk_46 (dk_at dksX1_toldBy_4 1 rfl rfl)
theorem dX1_toldBy_96 : decode cX1_toldBy 96 = .ok (.if_icmp .ne 7, 3) := dk_160 0 7 (dk_at dksX1_toldBy_4 2 rfl rfl)
theorem dX1_toldBy_99 : decode cX1_toldBy 99 = .ok (.iconst 1, 1) := dk_4 (dk_at dksX1_toldBy_4 5 rfl rfl)
theorem dX1_toldBy_100 : decode cX1_toldBy 100 = .ok (.goto 4, 3) := dk_167 0 4 (dk_at dksX1_toldBy_4 6 rfl rfl)
theorem dX1_toldBy_103 : decode cX1_toldBy 103 = .ok (.iconst 0, 1) := dk_3 (dk_at dksX1_toldBy_4 9 rfl rfl)
theorem dX1_toldBy_104 : decode cX1_toldBy 104 = .ok (.putfield 401, 3) := dk_181 1 145 (dk_at dksX1_toldBy_4 10 rfl rfl)
theorem dX1_toldBy_107 : decode cX1_toldBy 107 = .ok (.aload_n 0, 1) := dk_42 (dk_at dksX1_toldBy_4 13 rfl rfl)
theorem dX1_toldBy_108 : decode cX1_toldBy 108 = .ok (.getfield 32, 3) := dk_180 0 32 (dk_at dksX1_toldBy_4 14 rfl rfl)
theorem dX1_toldBy_111 : decode cX1_toldBy 111 = .ok (.aload_n 1, 1) := dk_43 (dk_at dksX1_toldBy_4 17 rfl rfl)
theorem dX1_toldBy_112 : decode cX1_toldBy 112 = .ok (.getfield 171, 3) := dk_180 0 171 (dk_at dksX1_toldBy_4 18 rfl rfl)
theorem dX1_toldBy_115 : decode cX1_toldBy 115 = .ok (.iload_n 2, 1) := dk_28 (dk_at dksX1_toldBy_4 21 rfl rfl)
theorem dX1_toldBy_116 : decode cX1_toldBy 116 = .ok (.baload, 1) := dk_51 (dk_at dksX1_toldBy_4 22 rfl rfl)
theorem dX1_toldBy_117 : decode cX1_toldBy 117 = .ok (.ifCond .ne 12, 3) := dk_154 0 12 (dk_at dksX1_toldBy_5 0 rfl rfl)
theorem dX1_toldBy_120 : decode cX1_toldBy 120 = .ok (.aload_n 1, 1) := dk_43 (dk_at dksX1_toldBy_5 3 rfl rfl)
theorem dX1_toldBy_121 : decode cX1_toldBy 121 = .ok (.getfield 171, 3) := dk_180 0 171 (dk_at dksX1_toldBy_5 4 rfl rfl)
theorem dX1_toldBy_124 : decode cX1_toldBy 124 = .ok (.iload_n 3, 1) := dk_29 (dk_at dksX1_toldBy_5 7 rfl rfl)
theorem dX1_toldBy_125 : decode cX1_toldBy 125 = .ok (.baload, 1) := dk_51 (dk_at dksX1_toldBy_5 8 rfl rfl)
theorem dX1_toldBy_126 : decode cX1_toldBy 126 = .ok (.ifCond .eq 7, 3) := dk_153 0 7 (dk_at dksX1_toldBy_5 9 rfl rfl)
theorem dX1_toldBy_129 : decode cX1_toldBy 129 = .ok (.iconst 1, 1) := dk_4 (dk_at dksX1_toldBy_5 12 rfl rfl)
theorem dX1_toldBy_130 : decode cX1_toldBy 130 = .ok (.goto 4, 3) := dk_167 0 4 (dk_at dksX1_toldBy_5 13 rfl rfl)
theorem dX1_toldBy_133 : decode cX1_toldBy 133 = .ok (.iconst 0, 1) := dk_3 (dk_at dksX1_toldBy_5 16 rfl rfl)
theorem dX1_toldBy_134 : decode cX1_toldBy 134 = .ok (.putfield 404, 3) := dk_181 1 148 (dk_at dksX1_toldBy_5 17 rfl rfl)
theorem dX1_toldBy_137 : decode cX1_toldBy 137 = .ok (.aload_n 1, 1) := dk_43 (dk_at dksX1_toldBy_5 20 rfl rfl)
theorem dX1_toldBy_138 : decode cX1_toldBy 138 = .ok (.getfield 377, 3) := dk_180 1 121 (dk_at dksX1_toldBy_5 21 rfl rfl)
theorem dX1_toldBy_141 : decode cX1_toldBy 141 = .ok (.aload_n 0, 1) := dk_42 (dk_at dksX1_toldBy_6 0 rfl rfl)
theorem dX1_toldBy_142 : decode cX1_toldBy 142 = .ok (.getfield 32, 3) := dk_180 0 32 (dk_at dksX1_toldBy_6 1 rfl rfl)
theorem dX1_toldBy_145 : decode cX1_toldBy 145 = .ok (.invokevirtual 406, 3) := dk_182 1 150 (dk_at dksX1_toldBy_6 4 rfl rfl)
theorem dX1_toldBy_148 : decode cX1_toldBy 148 = .ok (.ireturn, 1) := dk_172 (dk_at dksX1_toldBy_6 7 rfl rfl)
abbrev cX1_meet : ByteArray := prog_1_method_54_code
def yX1_meet : MethodName := ⟨RX1, "meet", "(II)I"⟩
def dkwX1_meet_0 : List UInt8 := [42, 27, 28, 182, 1, 200, 42, 182, 2, 17, 42, 42, 180, 0, 10, 27, 28, 182, 2, 14, 172]
abbrev dktX1_meet_0 : List UInt8 := dkwX1_meet_0 ++ []
theorem dksX1_meet_0 : cX1_meet.data.toList.drop 0 = dktX1_meet_0 := by decide +kernel
theorem dX1_meet_0 : decode cX1_meet 0 = .ok (.aload_n 0, 1) := dk_42 (dk_at dksX1_meet_0 0 rfl rfl)
theorem dX1_meet_1 : decode cX1_meet 1 = .ok (.iload_n 1, 1) := dk_27 (dk_at dksX1_meet_0 1 rfl rfl)
theorem dX1_meet_2 : decode cX1_meet 2 = .ok (.iload_n 2, 1) := dk_28 (dk_at dksX1_meet_0 2 rfl rfl)
theorem dX1_meet_3 : decode cX1_meet 3 = .ok (.invokevirtual 456, 3) := dk_182 1 200 (dk_at dksX1_meet_0 3 rfl rfl)
theorem dX1_meet_6 : decode cX1_meet 6 = .ok (.aload_n 0, 1) := dk_42 (dk_at dksX1_meet_0 6 rfl rfl)
theorem dX1_meet_7 : decode cX1_meet 7 = .ok (.invokevirtual 529, 3) := dk_182 2 17 (dk_at dksX1_meet_0 7 rfl rfl)
theorem dX1_meet_10 : decode cX1_meet 10 = .ok (.aload_n 0, 1) := dk_42 (dk_at dksX1_meet_0 10 rfl rfl)
theorem dX1_meet_11 : decode cX1_meet 11 = .ok (.aload_n 0, 1) := dk_42 (dk_at dksX1_meet_0 11 rfl rfl)
theorem dX1_meet_12 : decode cX1_meet 12 = .ok (.getfield 10, 3) := dk_180 0 10 (dk_at dksX1_meet_0 12 rfl rfl)
theorem dX1_meet_15 : decode cX1_meet 15 = .ok (.iload_n 1, 1) := dk_27 (dk_at dksX1_meet_0 15 rfl rfl)
theorem dX1_meet_16 : decode cX1_meet 16 = .ok (.iload_n 2, 1) := dk_28 (dk_at dksX1_meet_0 16 rfl rfl)
theorem dX1_meet_17 : decode cX1_meet 17 = .ok (.invokevirtual 526, 3) := dk_182 2 14 (dk_at dksX1_meet_0 17 rfl rfl)
theorem dX1_meet_20 : decode cX1_meet 20 = .ok (.ireturn, 1) := dk_172 (dk_at dksX1_meet_0 20 rfl rfl)
abbrev cX1_remembers : ByteArray := prog_1_method_47_code
def yX1_remembers : MethodName := ⟨RX1, "remembers", "()V"⟩
def dkwX1_remembers_2 : List UInt8 := [182, 1, 42, 87, 177]
abbrev dktX1_remembers_2 : List UInt8 := dkwX1_remembers_2 ++ []
def dkwX1_remembers_1 : List UInt8 := [167, 0, 10, 187, 0, 7, 89, 183, 0, 9, 76, 42, 180, 0, 39, 43, 42, 180, 0, 10, 182, 0, 254]
abbrev dktX1_remembers_1 : List UInt8 := dkwX1_remembers_1 ++ dktX1_remembers_2
def dkwX1_remembers_0 : List UInt8 := [42, 180, 0, 39, 182, 1, 110, 16, 12, 160, 0, 17, 42, 180, 0, 39, 3, 182, 1, 212, 192, 0, 7]
abbrev dktX1_remembers_0 : List UInt8 := dkwX1_remembers_0 ++ dktX1_remembers_1
theorem dksX1_remembers_0 : cX1_remembers.data.toList.drop 0 = dktX1_remembers_0 := by decide +kernel
theorem dksX1_remembers_1 : cX1_remembers.data.toList.drop 23 = dktX1_remembers_1 := dk_seg dksX1_remembers_0 23 rfl rfl
theorem dksX1_remembers_2 : cX1_remembers.data.toList.drop 46 = dktX1_remembers_2 := dk_seg dksX1_remembers_1 23 rfl rfl
theorem dX1_remembers_0 : decode cX1_remembers 0 = .ok (.aload_n 0, 1) := dk_42 (dk_at dksX1_remembers_0 0 rfl rfl)
theorem dX1_remembers_1 : decode cX1_remembers 1 = .ok (.getfield 39, 3) := dk_180 0 39 (dk_at dksX1_remembers_0 1 rfl rfl)
theorem dX1_remembers_4 : decode cX1_remembers 4 = .ok (.invokevirtual 366, 3) := dk_182 1 110 (dk_at dksX1_remembers_0 4 rfl rfl)
theorem dX1_remembers_7 : decode cX1_remembers 7 = .ok (.bipush 12, 2) := dk_16 12 (dk_at dksX1_remembers_0 7 rfl rfl)
theorem dX1_remembers_9 : decode cX1_remembers 9 = .ok (.if_icmp .ne 17, 3) := dk_160 0 17 (dk_at dksX1_remembers_0 9 rfl rfl)
theorem dX1_remembers_12 : decode cX1_remembers 12 = .ok (.aload_n 0, 1) := dk_42 (dk_at dksX1_remembers_0 12 rfl rfl)
theorem dX1_remembers_13 : decode cX1_remembers 13 = .ok (.getfield 39, 3) := dk_180 0 39 (dk_at dksX1_remembers_0 13 rfl rfl)
theorem dX1_remembers_16 : decode cX1_remembers 16 = .ok (.iconst 0, 1) := dk_3 (dk_at dksX1_remembers_0 16 rfl rfl)
theorem dX1_remembers_17 : decode cX1_remembers 17 = .ok (.invokevirtual 468, 3) := dk_182 1 212 (dk_at dksX1_remembers_0 17 rfl rfl)
theorem dX1_remembers_20 : decode cX1_remembers 20 = .ok (.checkcast 7, 3) := dk_192 0 7 (dk_at dksX1_remembers_0 20 rfl rfl)
theorem dX1_remembers_23 : decode cX1_remembers 23 = .ok (.goto 10, 3) := dk_167 0 10 (dk_at dksX1_remembers_1 0 rfl rfl)
theorem dX1_remembers_26 : decode cX1_remembers 26 = .ok (.new 7, 3) := dk_187 0 7 (dk_at dksX1_remembers_1 3 rfl rfl)
theorem dX1_remembers_29 : decode cX1_remembers 29 = .ok (.dup, 1) := dk_89 (dk_at dksX1_remembers_1 6 rfl rfl)
theorem dX1_remembers_30 : decode cX1_remembers 30 = .ok (.invokespecial 9, 3) := dk_183 0 9 (dk_at dksX1_remembers_1 7 rfl rfl)
theorem dX1_remembers_33 : decode cX1_remembers 33 = .ok (.astore_n 1, 1) := dk_76 (dk_at dksX1_remembers_1 10 rfl rfl)
theorem dX1_remembers_34 : decode cX1_remembers 34 = .ok (.aload_n 0, 1) := dk_42 (dk_at dksX1_remembers_1 11 rfl rfl)
theorem dX1_remembers_35 : decode cX1_remembers 35 = .ok (.getfield 39, 3) := dk_180 0 39 (dk_at dksX1_remembers_1 12 rfl rfl)
theorem dX1_remembers_38 : decode cX1_remembers 38 = .ok (.aload_n 1, 1) := dk_43 (dk_at dksX1_remembers_1 15 rfl rfl)
theorem dX1_remembers_39 : decode cX1_remembers 39 = .ok (.aload_n 0, 1) := dk_42 (dk_at dksX1_remembers_1 16 rfl rfl)
theorem dX1_remembers_40 : decode cX1_remembers 40 = .ok (.getfield 10, 3) := dk_180 0 10 (dk_at dksX1_remembers_1 17 rfl rfl)
theorem dX1_remembers_43 : decode cX1_remembers 43 = .ok (.invokevirtual 254, 3) := dk_182 0 254 (dk_at dksX1_remembers_1 20 rfl rfl)
theorem dX1_remembers_46 : decode cX1_remembers 46 = .ok (.invokevirtual 298, 3) := dk_182 1 42 (dk_at dksX1_remembers_2 0 rfl rfl)
theorem dX1_remembers_49 : decode cX1_remembers 49 = .ok (.pop, 1) := dk_87 (dk_at dksX1_remembers_2 3 rfl rfl)
theorem dX1_remembers_50 : decode cX1_remembers 50 = .ok (.return_, 1) := dk_177 (dk_at dksX1_remembers_2 4 rfl rfl)
abbrev cX1_meetsAny : ByteArray := prog_1_method_52_code
def yX1_meetsAny : MethodName := ⟨RX1, "meetsAny", "(LCheekTown$World;II)I"⟩
def dkwX1_meetsAny_0 : List UInt8 := [42, 43, 28, 29, 184, 2, 8, 28, 29, 184, 1, 250, 182, 2, 11, 172]
abbrev dktX1_meetsAny_0 : List UInt8 := dkwX1_meetsAny_0 ++ []
theorem dksX1_meetsAny_0 : cX1_meetsAny.data.toList.drop 0 = dktX1_meetsAny_0 := by decide +kernel
theorem dX1_meetsAny_0 : decode cX1_meetsAny 0 = .ok (.aload_n 0, 1) := dk_42 (dk_at dksX1_meetsAny_0 0 rfl rfl)
theorem dX1_meetsAny_1 : decode cX1_meetsAny 1 = .ok (.aload_n 1, 1) := dk_43 (dk_at dksX1_meetsAny_0 1 rfl rfl)
theorem dX1_meetsAny_2 : decode cX1_meetsAny 2 = .ok (.iload_n 2, 1) := dk_28 (dk_at dksX1_meetsAny_0 2 rfl rfl)
theorem dX1_meetsAny_3 : decode cX1_meetsAny 3 = .ok (.iload_n 3, 1) := dk_29 (dk_at dksX1_meetsAny_0 3 rfl rfl)
theorem dX1_meetsAny_4 : decode cX1_meetsAny 4 = .ok (.invokestatic 520, 3) := dk_184 2 8 (dk_at dksX1_meetsAny_0 4 rfl rfl)
theorem dX1_meetsAny_7 : decode cX1_meetsAny 7 = .ok (.iload_n 2, 1) := dk_28 (dk_at dksX1_meetsAny_0 7 rfl rfl)
theorem dX1_meetsAny_8 : decode cX1_meetsAny 8 = .ok (.iload_n 3, 1) := dk_29 (dk_at dksX1_meetsAny_0 8 rfl rfl)
theorem dX1_meetsAny_9 : decode cX1_meetsAny 9 = .ok (.invokestatic 506, 3) := dk_184 1 250 (dk_at dksX1_meetsAny_0 9 rfl rfl)
theorem dX1_meetsAny_12 : decode cX1_meetsAny 12 = .ok (.invokevirtual 523, 3) := dk_182 2 11 (dk_at dksX1_meetsAny_0 12 rfl rfl)
theorem dX1_meetsAny_15 : decode cX1_meetsAny 15 = .ok (.ireturn, 1) := dk_172 (dk_at dksX1_meetsAny_0 15 rfl rfl)
abbrev cX1_meets : ByteArray := prog_1_method_51_code
def yX1_meets : MethodName := ⟨RX1, "meets", "(LCheekTown$World;II)I"⟩
def dkwX1_meets_8 : List UInt8 := [182, 2, 5, 21, 4, 172]
abbrev dktX1_meets_8 : List UInt8 := dkwX1_meets_8 ++ []
def dkwX1_meets_7 : List UInt8 := [180, 2, 2, 21, 4, 96, 181, 2, 2, 43, 28, 29, 42, 180, 0, 43, 42, 180, 0, 47, 21, 4]
abbrev dktX1_meets_7 : List UInt8 := dkwX1_meets_7 ++ dktX1_meets_8
def dkwX1_meets_6 : List UInt8 := [184, 1, 247, 184, 1, 250, 96, 181, 1, 244, 43, 89, 180, 1, 255, 4, 96, 181, 1, 255, 43, 89]
abbrev dktX1_meets_6 : List UInt8 := dkwX1_meets_6 ++ dktX1_meets_7
def dkwX1_meets_5 : List UInt8 := [29, 182, 1, 240, 43, 89, 180, 1, 244, 42, 180, 0, 47, 3, 46, 184, 1, 247, 42, 180, 0, 47, 4, 46]
abbrev dktX1_meets_5 : List UInt8 := dkwX1_meets_5 ++ dktX1_meets_6
def dkwX1_meets_4 : List UInt8 := [42, 180, 0, 47, 4, 46, 182, 1, 236, 43, 29, 28, 42, 180, 0, 47, 3, 46, 182, 1, 236, 42, 43, 28]
abbrev dktX1_meets_4 : List UInt8 := dkwX1_meets_4 ++ dktX1_meets_5
def dkwX1_meets_3 : List UInt8 := [21, 4, 158, 0, 19, 42, 43, 28, 29, 182, 1, 233, 153, 0, 9, 21, 4, 5, 108, 54, 4, 43, 28, 29]
abbrev dktX1_meets_3 : List UInt8 := dkwX1_meets_3 ++ dktX1_meets_4
def dkwX1_meets_2 : List UInt8 := [180, 0, 43, 4, 46, 79, 43, 42, 180, 0, 43, 3, 46, 42, 180, 0, 43, 4, 46, 182, 1, 181, 54, 4]
abbrev dktX1_meets_2 : List UInt8 := dkwX1_meets_2 ++ dktX1_meets_3
def dkwX1_meets_1 : List UInt8 := [182, 1, 209, 79, 42, 180, 0, 47, 3, 42, 180, 0, 43, 3, 46, 79, 42, 180, 0, 47, 4, 42]
abbrev dktX1_meets_1 : List UInt8 := dkwX1_meets_1 ++ dktX1_meets_2
def dkwX1_meets_0 : List UInt8 := [42, 180, 0, 43, 3, 42, 43, 28, 29, 182, 1, 209, 79, 42, 180, 0, 43, 4, 42, 43, 29, 28]
abbrev dktX1_meets_0 : List UInt8 := dkwX1_meets_0 ++ dktX1_meets_1
theorem dksX1_meets_0 : cX1_meets.data.toList.drop 0 = dktX1_meets_0 := by decide +kernel
theorem dksX1_meets_1 : cX1_meets.data.toList.drop 22 = dktX1_meets_1 := dk_seg dksX1_meets_0 22 rfl rfl
theorem dksX1_meets_2 : cX1_meets.data.toList.drop 44 = dktX1_meets_2 := dk_seg dksX1_meets_1 22 rfl rfl
theorem dksX1_meets_3 : cX1_meets.data.toList.drop 68 = dktX1_meets_3 := dk_seg dksX1_meets_2 24 rfl rfl
theorem dksX1_meets_4 : cX1_meets.data.toList.drop 92 = dktX1_meets_4 := dk_seg dksX1_meets_3 24 rfl rfl
theorem dksX1_meets_5 : cX1_meets.data.toList.drop 116 = dktX1_meets_5 := dk_seg dksX1_meets_4 24 rfl rfl
theorem dksX1_meets_6 : cX1_meets.data.toList.drop 140 = dktX1_meets_6 := dk_seg dksX1_meets_5 24 rfl rfl
theorem dksX1_meets_7 : cX1_meets.data.toList.drop 162 = dktX1_meets_7 := dk_seg dksX1_meets_6 22 rfl rfl
theorem dksX1_meets_8 : cX1_meets.data.toList.drop 184 = dktX1_meets_8 := dk_seg dksX1_meets_7 22 rfl rfl
theorem dX1_meets_0 : decode cX1_meets 0 = .ok (.aload_n 0, 1) := dk_42 (dk_at dksX1_meets_0 0 rfl rfl)
theorem dX1_meets_1 : decode cX1_meets 1 = .ok (.getfield 43, 3) := dk_180 0 43 (dk_at dksX1_meets_0 1 rfl rfl)
theorem dX1_meets_4 : decode cX1_meets 4 = .ok (.iconst 0, 1) := dk_3 (dk_at dksX1_meets_0 4 rfl rfl)
theorem dX1_meets_5 : decode cX1_meets 5 = .ok (.aload_n 0, 1) := dk_42 (dk_at dksX1_meets_0 5 rfl rfl)
theorem dX1_meets_6 : decode cX1_meets 6 = .ok (.aload_n 1, 1) := dk_43 (dk_at dksX1_meets_0 6 rfl rfl)
theorem dX1_meets_7 : decode cX1_meets 7 = .ok (.iload_n 2, 1) := dk_28 (dk_at dksX1_meets_0 7 rfl rfl)
theorem dX1_meets_8 : decode cX1_meets 8 = .ok (.iload_n 3, 1) := dk_29 (dk_at dksX1_meets_0 8 rfl rfl)
theorem dX1_meets_9 : decode cX1_meets 9 = .ok (.invokevirtual 465, 3) := dk_182 1 209 (dk_at dksX1_meets_0 9 rfl rfl)
theorem dX1_meets_12 : decode cX1_meets 12 = .ok (.iastore, 1) := dk_79 (dk_at dksX1_meets_0 12 rfl rfl)
theorem dX1_meets_13 : decode cX1_meets 13 = .ok (.aload_n 0, 1) := dk_42 (dk_at dksX1_meets_0 13 rfl rfl)
theorem dX1_meets_14 : decode cX1_meets 14 = .ok (.getfield 43, 3) := dk_180 0 43 (dk_at dksX1_meets_0 14 rfl rfl)
theorem dX1_meets_17 : decode cX1_meets 17 = .ok (.iconst 1, 1) := dk_4 (dk_at dksX1_meets_0 17 rfl rfl)
theorem dX1_meets_18 : decode cX1_meets 18 = .ok (.aload_n 0, 1) := dk_42 (dk_at dksX1_meets_0 18 rfl rfl)
theorem dX1_meets_19 : decode cX1_meets 19 = .ok (.aload_n 1, 1) := dk_43 (dk_at dksX1_meets_0 19 rfl rfl)
theorem dX1_meets_20 : decode cX1_meets 20 = .ok (.iload_n 3, 1) := dk_29 (dk_at dksX1_meets_0 20 rfl rfl)
theorem dX1_meets_21 : decode cX1_meets 21 = .ok (.iload_n 2, 1) := dk_28 (dk_at dksX1_meets_0 21 rfl rfl)
theorem dX1_meets_22 : decode cX1_meets 22 = .ok (.invokevirtual 465, 3) := dk_182 1 209 (dk_at dksX1_meets_1 0 rfl rfl)
theorem dX1_meets_25 : decode cX1_meets 25 = .ok (.iastore, 1) := dk_79 (dk_at dksX1_meets_1 3 rfl rfl)
theorem dX1_meets_26 : decode cX1_meets 26 = .ok (.aload_n 0, 1) := dk_42 (dk_at dksX1_meets_1 4 rfl rfl)
theorem dX1_meets_27 : decode cX1_meets 27 = .ok (.getfield 47, 3) := dk_180 0 47 (dk_at dksX1_meets_1 5 rfl rfl)
theorem dX1_meets_30 : decode cX1_meets 30 = .ok (.iconst 0, 1) := dk_3 (dk_at dksX1_meets_1 8 rfl rfl)
theorem dX1_meets_31 : decode cX1_meets 31 = .ok (.aload_n 0, 1) := dk_42 (dk_at dksX1_meets_1 9 rfl rfl)
theorem dX1_meets_32 : decode cX1_meets 32 = .ok (.getfield 43, 3) := dk_180 0 43 (dk_at dksX1_meets_1 10 rfl rfl)
theorem dX1_meets_35 : decode cX1_meets 35 = .ok (.iconst 0, 1) := dk_3 (dk_at dksX1_meets_1 13 rfl rfl)
theorem dX1_meets_36 : decode cX1_meets 36 = .ok (.iaload, 1) := dk_46 (dk_at dksX1_meets_1 14 rfl rfl)
theorem dX1_meets_37 : decode cX1_meets 37 = .ok (.iastore, 1) := dk_79 (dk_at dksX1_meets_1 15 rfl rfl)
theorem dX1_meets_38 : decode cX1_meets 38 = .ok (.aload_n 0, 1) := dk_42 (dk_at dksX1_meets_1 16 rfl rfl)
theorem dX1_meets_39 : decode cX1_meets 39 = .ok (.getfield 47, 3) := dk_180 0 47 (dk_at dksX1_meets_1 17 rfl rfl)
theorem dX1_meets_42 : decode cX1_meets 42 = .ok (.iconst 1, 1) := dk_4 (dk_at dksX1_meets_1 20 rfl rfl)
theorem dX1_meets_43 : decode cX1_meets 43 = .ok (.aload_n 0, 1) := dk_42 (dk_at dksX1_meets_1 21 rfl rfl)
theorem dX1_meets_44 : decode cX1_meets 44 = .ok (.getfield 43, 3) := dk_180 0 43 (dk_at dksX1_meets_2 0 rfl rfl)
theorem dX1_meets_47 : decode cX1_meets 47 = .ok (.iconst 1, 1) := dk_4 (dk_at dksX1_meets_2 3 rfl rfl)
theorem dX1_meets_48 : decode cX1_meets 48 = .ok (.iaload, 1) := dk_46 (dk_at dksX1_meets_2 4 rfl rfl)
theorem dX1_meets_49 : decode cX1_meets 49 = .ok (.iastore, 1) := dk_79 (dk_at dksX1_meets_2 5 rfl rfl)
theorem dX1_meets_50 : decode cX1_meets 50 = .ok (.aload_n 1, 1) := dk_43 (dk_at dksX1_meets_2 6 rfl rfl)
theorem dX1_meets_51 : decode cX1_meets 51 = .ok (.aload_n 0, 1) := dk_42 (dk_at dksX1_meets_2 7 rfl rfl)
theorem dX1_meets_52 : decode cX1_meets 52 = .ok (.getfield 43, 3) := dk_180 0 43 (dk_at dksX1_meets_2 8 rfl rfl)
theorem dX1_meets_55 : decode cX1_meets 55 = .ok (.iconst 0, 1) := dk_3 (dk_at dksX1_meets_2 11 rfl rfl)
theorem dX1_meets_56 : decode cX1_meets 56 = .ok (.iaload, 1) := dk_46 (dk_at dksX1_meets_2 12 rfl rfl)
theorem dX1_meets_57 : decode cX1_meets 57 = .ok (.aload_n 0, 1) := dk_42 (dk_at dksX1_meets_2 13 rfl rfl)
theorem dX1_meets_58 : decode cX1_meets 58 = .ok (.getfield 43, 3) := dk_180 0 43 (dk_at dksX1_meets_2 14 rfl rfl)
theorem dX1_meets_61 : decode cX1_meets 61 = .ok (.iconst 1, 1) := dk_4 (dk_at dksX1_meets_2 17 rfl rfl)
theorem dX1_meets_62 : decode cX1_meets 62 = .ok (.iaload, 1) := dk_46 (dk_at dksX1_meets_2 18 rfl rfl)
theorem dX1_meets_63 : decode cX1_meets 63 = .ok (.invokevirtual 437, 3) := dk_182 1 181 (dk_at dksX1_meets_2 19 rfl rfl)
theorem dX1_meets_66 : decode cX1_meets 66 = .ok (.istore 4, 2) := dk_54 4 (dk_at dksX1_meets_2 22 rfl rfl)
theorem dX1_meets_68 : decode cX1_meets 68 = .ok (.iload 4, 2) := dk_21 4 (dk_at dksX1_meets_3 0 rfl rfl)
theorem dX1_meets_70 : decode cX1_meets 70 = .ok (.ifCond .le 19, 3) := dk_158 0 19 (dk_at dksX1_meets_3 2 rfl rfl)
theorem dX1_meets_73 : decode cX1_meets 73 = .ok (.aload_n 0, 1) := dk_42 (dk_at dksX1_meets_3 5 rfl rfl)
theorem dX1_meets_74 : decode cX1_meets 74 = .ok (.aload_n 1, 1) := dk_43 (dk_at dksX1_meets_3 6 rfl rfl)
theorem dX1_meets_75 : decode cX1_meets 75 = .ok (.iload_n 2, 1) := dk_28 (dk_at dksX1_meets_3 7 rfl rfl)
theorem dX1_meets_76 : decode cX1_meets 76 = .ok (.iload_n 3, 1) := dk_29 (dk_at dksX1_meets_3 8 rfl rfl)
theorem dX1_meets_77 : decode cX1_meets 77 = .ok (.invokevirtual 489, 3) := dk_182 1 233 (dk_at dksX1_meets_3 9 rfl rfl)
theorem dX1_meets_80 : decode cX1_meets 80 = .ok (.ifCond .eq 9, 3) := dk_153 0 9 (dk_at dksX1_meets_3 12 rfl rfl)
theorem dX1_meets_83 : decode cX1_meets 83 = .ok (.iload 4, 2) := dk_21 4 (dk_at dksX1_meets_3 15 rfl rfl)
theorem dX1_meets_85 : decode cX1_meets 85 = .ok (.iconst 2, 1) := dk_5 (dk_at dksX1_meets_3 17 rfl rfl)
theorem dX1_meets_86 : decode cX1_meets 86 = .ok (.idiv, 1) := dk_108 (dk_at dksX1_meets_3 18 rfl rfl)
theorem dX1_meets_87 : decode cX1_meets 87 = .ok (.istore 4, 2) := dk_54 4 (dk_at dksX1_meets_3 19 rfl rfl)
theorem dX1_meets_89 : decode cX1_meets 89 = .ok (.aload_n 1, 1) := dk_43 (dk_at dksX1_meets_3 21 rfl rfl)
theorem dX1_meets_90 : decode cX1_meets 90 = .ok (.iload_n 2, 1) := dk_28 (dk_at dksX1_meets_3 22 rfl rfl)
theorem dX1_meets_91 : decode cX1_meets 91 = .ok (.iload_n 3, 1) := dk_29 (dk_at dksX1_meets_3 23 rfl rfl)
theorem dX1_meets_92 : decode cX1_meets 92 = .ok (.aload_n 0, 1) := dk_42 (dk_at dksX1_meets_4 0 rfl rfl)
theorem dX1_meets_93 : decode cX1_meets 93 = .ok (.getfield 47, 3) := dk_180 0 47 (dk_at dksX1_meets_4 1 rfl rfl)
theorem dX1_meets_96 : decode cX1_meets 96 = .ok (.iconst 1, 1) := dk_4 (dk_at dksX1_meets_4 4 rfl rfl)
theorem dX1_meets_97 : decode cX1_meets 97 = .ok (.iaload, 1) := dk_46 (dk_at dksX1_meets_4 5 rfl rfl)
theorem dX1_meets_98 : decode cX1_meets 98 = .ok (.invokevirtual 492, 3) := dk_182 1 236 (dk_at dksX1_meets_4 6 rfl rfl)
theorem dX1_meets_101 : decode cX1_meets 101 = .ok (.aload_n 1, 1) := dk_43 (dk_at dksX1_meets_4 9 rfl rfl)
theorem dX1_meets_102 : decode cX1_meets 102 = .ok (.iload_n 3, 1) := dk_29 (dk_at dksX1_meets_4 10 rfl rfl)
theorem dX1_meets_103 : decode cX1_meets 103 = .ok (.iload_n 2, 1) := dk_28 (dk_at dksX1_meets_4 11 rfl rfl)
theorem dX1_meets_104 : decode cX1_meets 104 = .ok (.aload_n 0, 1) := dk_42 (dk_at dksX1_meets_4 12 rfl rfl)
theorem dX1_meets_105 : decode cX1_meets 105 = .ok (.getfield 47, 3) := dk_180 0 47 (dk_at dksX1_meets_4 13 rfl rfl)
theorem dX1_meets_108 : decode cX1_meets 108 = .ok (.iconst 0, 1) := dk_3 (dk_at dksX1_meets_4 16 rfl rfl)
theorem dX1_meets_109 : decode cX1_meets 109 = .ok (.iaload, 1) := dk_46 (dk_at dksX1_meets_4 17 rfl rfl)
theorem dX1_meets_110 : decode cX1_meets 110 = .ok (.invokevirtual 492, 3) := dk_182 1 236 (dk_at dksX1_meets_4 18 rfl rfl)
theorem dX1_meets_113 : decode cX1_meets 113 = .ok (.aload_n 0, 1) := dk_42 (dk_at dksX1_meets_4 21 rfl rfl)
theorem dX1_meets_114 : decode cX1_meets 114 = .ok (.aload_n 1, 1) := dk_43 (dk_at dksX1_meets_4 22 rfl rfl)
theorem dX1_meets_115 : decode cX1_meets 115 = .ok (.iload_n 2, 1) := dk_28 (dk_at dksX1_meets_4 23 rfl rfl)
theorem dX1_meets_116 : decode cX1_meets 116 = .ok (.iload_n 3, 1) := dk_29 (dk_at dksX1_meets_5 0 rfl rfl)
theorem dX1_meets_117 : decode cX1_meets 117 = .ok (.invokevirtual 496, 3) := dk_182 1 240 (dk_at dksX1_meets_5 1 rfl rfl)
theorem dX1_meets_120 : decode cX1_meets 120 = .ok (.aload_n 1, 1) := dk_43 (dk_at dksX1_meets_5 4 rfl rfl)
theorem dX1_meets_121 : decode cX1_meets 121 = .ok (.dup, 1) := dk_89 (dk_at dksX1_meets_5 5 rfl rfl)
theorem dX1_meets_122 : decode cX1_meets 122 = .ok (.getfield 500, 3) := dk_180 1 244 (dk_at dksX1_meets_5 6 rfl rfl)
theorem dX1_meets_125 : decode cX1_meets 125 = .ok (.aload_n 0, 1) := dk_42 (dk_at dksX1_meets_5 9 rfl rfl)
theorem dX1_meets_126 : decode cX1_meets 126 = .ok (.getfield 47, 3) := dk_180 0 47 (dk_at dksX1_meets_5 10 rfl rfl)
theorem dX1_meets_129 : decode cX1_meets 129 = .ok (.iconst 0, 1) := dk_3 (dk_at dksX1_meets_5 13 rfl rfl)
theorem dX1_meets_130 : decode cX1_meets 130 = .ok (.iaload, 1) := dk_46 (dk_at dksX1_meets_5 14 rfl rfl)
theorem dX1_meets_131 : decode cX1_meets 131 = .ok (.invokestatic 503, 3) := dk_184 1 247 (dk_at dksX1_meets_5 15 rfl rfl)
theorem dX1_meets_134 : decode cX1_meets 134 = .ok (.aload_n 0, 1) := dk_42 (dk_at dksX1_meets_5 18 rfl rfl)
theorem dX1_meets_135 : decode cX1_meets 135 = .ok (.getfield 47, 3) := dk_180 0 47 (dk_at dksX1_meets_5 19 rfl rfl)
theorem dX1_meets_138 : decode cX1_meets 138 = .ok (.iconst 1, 1) := dk_4 (dk_at dksX1_meets_5 22 rfl rfl)
theorem dX1_meets_139 : decode cX1_meets 139 = .ok (.iaload, 1) := dk_46 (dk_at dksX1_meets_5 23 rfl rfl)
theorem dX1_meets_140 : decode cX1_meets 140 = .ok (.invokestatic 503, 3) := dk_184 1 247 (dk_at dksX1_meets_6 0 rfl rfl)
theorem dX1_meets_143 : decode cX1_meets 143 = .ok (.invokestatic 506, 3) := dk_184 1 250 (dk_at dksX1_meets_6 3 rfl rfl)
theorem dX1_meets_146 : decode cX1_meets 146 = .ok (.iadd, 1) := dk_96 (dk_at dksX1_meets_6 6 rfl rfl)
theorem dX1_meets_147 : decode cX1_meets 147 = .ok (.putfield 500, 3) := dk_181 1 244 (dk_at dksX1_meets_6 7 rfl rfl)
theorem dX1_meets_150 : decode cX1_meets 150 = .ok (.aload_n 1, 1) := dk_43 (dk_at dksX1_meets_6 10 rfl rfl)
theorem dX1_meets_151 : decode cX1_meets 151 = .ok (.dup, 1) := dk_89 (dk_at dksX1_meets_6 11 rfl rfl)
theorem dX1_meets_152 : decode cX1_meets 152 = .ok (.getfield 511, 3) := dk_180 1 255 (dk_at dksX1_meets_6 12 rfl rfl)
theorem dX1_meets_155 : decode cX1_meets 155 = .ok (.iconst 1, 1) := dk_4 (dk_at dksX1_meets_6 15 rfl rfl)
theorem dX1_meets_156 : decode cX1_meets 156 = .ok (.iadd, 1) := dk_96 (dk_at dksX1_meets_6 16 rfl rfl)
theorem dX1_meets_157 : decode cX1_meets 157 = .ok (.putfield 511, 3) := dk_181 1 255 (dk_at dksX1_meets_6 17 rfl rfl)
theorem dX1_meets_160 : decode cX1_meets 160 = .ok (.aload_n 1, 1) := dk_43 (dk_at dksX1_meets_6 20 rfl rfl)
theorem dX1_meets_161 : decode cX1_meets 161 = .ok (.dup, 1) := dk_89 (dk_at dksX1_meets_6 21 rfl rfl)
theorem dX1_meets_162 : decode cX1_meets 162 = .ok (.getfield 514, 3) := dk_180 2 2 (dk_at dksX1_meets_7 0 rfl rfl)
theorem dX1_meets_165 : decode cX1_meets 165 = .ok (.iload 4, 2) := dk_21 4 (dk_at dksX1_meets_7 3 rfl rfl)
theorem dX1_meets_167 : decode cX1_meets 167 = .ok (.iadd, 1) := dk_96 (dk_at dksX1_meets_7 5 rfl rfl)
theorem dX1_meets_168 : decode cX1_meets 168 = .ok (.putfield 514, 3) := dk_181 2 2 (dk_at dksX1_meets_7 6 rfl rfl)
theorem dX1_meets_171 : decode cX1_meets 171 = .ok (.aload_n 1, 1) := dk_43 (dk_at dksX1_meets_7 9 rfl rfl)
theorem dX1_meets_172 : decode cX1_meets 172 = .ok (.iload_n 2, 1) := dk_28 (dk_at dksX1_meets_7 10 rfl rfl)
theorem dX1_meets_173 : decode cX1_meets 173 = .ok (.iload_n 3, 1) := dk_29 (dk_at dksX1_meets_7 11 rfl rfl)
theorem dX1_meets_174 : decode cX1_meets 174 = .ok (.aload_n 0, 1) := dk_42 (dk_at dksX1_meets_7 12 rfl rfl)
theorem dX1_meets_175 : decode cX1_meets 175 = .ok (.getfield 43, 3) := dk_180 0 43 (dk_at dksX1_meets_7 13 rfl rfl)
theorem dX1_meets_178 : decode cX1_meets 178 = .ok (.aload_n 0, 1) := dk_42 (dk_at dksX1_meets_7 16 rfl rfl)
theorem dX1_meets_179 : decode cX1_meets 179 = .ok (.getfield 47, 3) := dk_180 0 47 (dk_at dksX1_meets_7 17 rfl rfl)
theorem dX1_meets_182 : decode cX1_meets 182 = .ok (.iload 4, 2) := dk_21 4 (dk_at dksX1_meets_7 20 rfl rfl)
theorem dX1_meets_184 : decode cX1_meets 184 = .ok (.invokevirtual 517, 3) := dk_182 2 5 (dk_at dksX1_meets_8 0 rfl rfl)
theorem dX1_meets_187 : decode cX1_meets 187 = .ok (.iload 4, 2) := dk_21 4 (dk_at dksX1_meets_8 3 rfl rfl)
theorem dX1_meets_189 : decode cX1_meets 189 = .ok (.ireturn, 1) := dk_172 (dk_at dksX1_meets_8 5 rfl rfl)
abbrev cX1_someoneYields : ByteArray := prog_1_method_49_code
def yX1_someoneYields : MethodName := ⟨RX1, "someoneYields", "(LCheekTown$World;II)Z"⟩
def dkwX1_someoneYields_3 : List UInt8 := [153, 0, 7, 4, 167, 0, 4, 3, 172]
abbrev dktX1_someoneYields_3 : List UInt8 := dkwX1_someoneYields_3 ++ []
def dkwX1_someoneYields_2 : List UInt8 := [167, 0, 4, 3, 172, 42, 43, 28, 3, 182, 1, 222, 154, 0, 13, 42, 43, 29, 4, 182, 1, 222]
abbrev dktX1_someoneYields_2 : List UInt8 := dkwX1_someoneYields_2 ++ dktX1_someoneYields_3
def dkwX1_someoneYields_1 : List UInt8 := [153, 0, 29, 42, 43, 29, 4, 182, 1, 222, 154, 0, 13, 42, 43, 28, 3, 182, 1, 222, 153, 0, 7, 4]
abbrev dktX1_someoneYields_1 : List UInt8 := dkwX1_someoneYields_1 ++ dktX1_someoneYields_2
def dkwX1_someoneYields_0 : List UInt8 := [43, 180, 0, 165, 29, 46, 43, 180, 0, 165, 28, 46, 162, 0, 7, 4, 167, 0, 4, 3, 54, 4, 21, 4]
abbrev dktX1_someoneYields_0 : List UInt8 := dkwX1_someoneYields_0 ++ dktX1_someoneYields_1
theorem dksX1_someoneYields_0 : cX1_someoneYields.data.toList.drop 0 = dktX1_someoneYields_0 := by decide +kernel
theorem dksX1_someoneYields_1 : cX1_someoneYields.data.toList.drop 24 = dktX1_someoneYields_1 := dk_seg dksX1_someoneYields_0 24 rfl rfl
theorem dksX1_someoneYields_2 : cX1_someoneYields.data.toList.drop 48 = dktX1_someoneYields_2 := dk_seg dksX1_someoneYields_1 24 rfl rfl
theorem dksX1_someoneYields_3 : cX1_someoneYields.data.toList.drop 70 = dktX1_someoneYields_3 := dk_seg dksX1_someoneYields_2 22 rfl rfl
theorem dX1_someoneYields_0 : decode cX1_someoneYields 0 = .ok (.aload_n 1, 1) := dk_43 (dk_at dksX1_someoneYields_0 0 rfl rfl)
theorem dX1_someoneYields_1 : decode cX1_someoneYields 1 = .ok (.getfield 165, 3) := dk_180 0 165 (dk_at dksX1_someoneYields_0 1 rfl rfl)
theorem dX1_someoneYields_4 : decode cX1_someoneYields 4 = .ok (.iload_n 3, 1) := dk_29 (dk_at dksX1_someoneYields_0 4 rfl rfl)
theorem dX1_someoneYields_5 : decode cX1_someoneYields 5 = .ok (.iaload, 1) := dk_46 (dk_at dksX1_someoneYields_0 5 rfl rfl)
theorem dX1_someoneYields_6 : decode cX1_someoneYields 6 = .ok (.aload_n 1, 1) := dk_43 (dk_at dksX1_someoneYields_0 6 rfl rfl)
theorem dX1_someoneYields_7 : decode cX1_someoneYields 7 = .ok (.getfield 165, 3) := dk_180 0 165 (dk_at dksX1_someoneYields_0 7 rfl rfl)
theorem dX1_someoneYields_10 : decode cX1_someoneYields 10 = .ok (.iload_n 2, 1) := dk_28 (dk_at dksX1_someoneYields_0 10 rfl rfl)
theorem dX1_someoneYields_11 : decode cX1_someoneYields 11 = .ok (.iaload, 1) := dk_46 (dk_at dksX1_someoneYields_0 11 rfl rfl)
theorem dX1_someoneYields_12 : decode cX1_someoneYields 12 = .ok (.if_icmp .ge 7, 3) := dk_162 0 7 (dk_at dksX1_someoneYields_0 12 rfl rfl)
theorem dX1_someoneYields_15 : decode cX1_someoneYields 15 = .ok (.iconst 1, 1) := dk_4 (dk_at dksX1_someoneYields_0 15 rfl rfl)
theorem dX1_someoneYields_16 : decode cX1_someoneYields 16 = .ok (.goto 4, 3) := dk_167 0 4 (dk_at dksX1_someoneYields_0 16 rfl rfl)
theorem dX1_someoneYields_19 : decode cX1_someoneYields 19 = .ok (.iconst 0, 1) := dk_3 (dk_at dksX1_someoneYields_0 19 rfl rfl)
theorem dX1_someoneYields_20 : decode cX1_someoneYields 20 = .ok (.istore 4, 2) := dk_54 4 (dk_at dksX1_someoneYields_0 20 rfl rfl)
theorem dX1_someoneYields_22 : decode cX1_someoneYields 22 = .ok (.iload 4, 2) := dk_21 4 (dk_at dksX1_someoneYields_0 22 rfl rfl)
theorem dX1_someoneYields_24 : decode cX1_someoneYields 24 = .ok (.ifCond .eq 29, 3) := dk_153 0 29 (dk_at dksX1_someoneYields_1 0 rfl rfl)
theorem dX1_someoneYields_27 : decode cX1_someoneYields 27 = .ok (.aload_n 0, 1) := dk_42 (dk_at dksX1_someoneYields_1 3 rfl rfl)
theorem dX1_someoneYields_28 : decode cX1_someoneYields 28 = .ok (.aload_n 1, 1) := dk_43 (dk_at dksX1_someoneYields_1 4 rfl rfl)
theorem dX1_someoneYields_29 : decode cX1_someoneYields 29 = .ok (.iload_n 3, 1) := dk_29 (dk_at dksX1_someoneYields_1 5 rfl rfl)
theorem dX1_someoneYields_30 : decode cX1_someoneYields 30 = .ok (.iconst 1, 1) := dk_4 (dk_at dksX1_someoneYields_1 6 rfl rfl)
theorem dX1_someoneYields_31 : decode cX1_someoneYields 31 = .ok (.invokevirtual 478, 3) := dk_182 1 222 (dk_at dksX1_someoneYields_1 7 rfl rfl)
theorem dX1_someoneYields_34 : decode cX1_someoneYields 34 = .ok (.ifCond .ne 13, 3) := dk_154 0 13 (dk_at dksX1_someoneYields_1 10 rfl rfl)
theorem dX1_someoneYields_37 : decode cX1_someoneYields 37 = .ok (.aload_n 0, 1) := dk_42 (dk_at dksX1_someoneYields_1 13 rfl rfl)
theorem dX1_someoneYields_38 : decode cX1_someoneYields 38 = .ok (.aload_n 1, 1) := dk_43 (dk_at dksX1_someoneYields_1 14 rfl rfl)
theorem dX1_someoneYields_39 : decode cX1_someoneYields 39 = .ok (.iload_n 2, 1) := dk_28 (dk_at dksX1_someoneYields_1 15 rfl rfl)
theorem dX1_someoneYields_40 : decode cX1_someoneYields 40 = .ok (.iconst 0, 1) := dk_3 (dk_at dksX1_someoneYields_1 16 rfl rfl)
theorem dX1_someoneYields_41 : decode cX1_someoneYields 41 = .ok (.invokevirtual 478, 3) := dk_182 1 222 (dk_at dksX1_someoneYields_1 17 rfl rfl)
theorem dX1_someoneYields_44 : decode cX1_someoneYields 44 = .ok (.ifCond .eq 7, 3) := dk_153 0 7 (dk_at dksX1_someoneYields_1 20 rfl rfl)
theorem dX1_someoneYields_47 : decode cX1_someoneYields 47 = .ok (.iconst 1, 1) := dk_4 (dk_at dksX1_someoneYields_1 23 rfl rfl)
theorem dX1_someoneYields_48 : decode cX1_someoneYields 48 = .ok (.goto 4, 3) := dk_167 0 4 (dk_at dksX1_someoneYields_2 0 rfl rfl)
theorem dX1_someoneYields_51 : decode cX1_someoneYields 51 = .ok (.iconst 0, 1) := dk_3 (dk_at dksX1_someoneYields_2 3 rfl rfl)
theorem dX1_someoneYields_52 : decode cX1_someoneYields 52 = .ok (.ireturn, 1) := dk_172 (dk_at dksX1_someoneYields_2 4 rfl rfl)
theorem dX1_someoneYields_53 : decode cX1_someoneYields 53 = .ok (.aload_n 0, 1) := dk_42 (dk_at dksX1_someoneYields_2 5 rfl rfl)
theorem dX1_someoneYields_54 : decode cX1_someoneYields 54 = .ok (.aload_n 1, 1) := dk_43 (dk_at dksX1_someoneYields_2 6 rfl rfl)
theorem dX1_someoneYields_55 : decode cX1_someoneYields 55 = .ok (.iload_n 2, 1) := dk_28 (dk_at dksX1_someoneYields_2 7 rfl rfl)
theorem dX1_someoneYields_56 : decode cX1_someoneYields 56 = .ok (.iconst 0, 1) := dk_3 (dk_at dksX1_someoneYields_2 8 rfl rfl)
theorem dX1_someoneYields_57 : decode cX1_someoneYields 57 = .ok (.invokevirtual 478, 3) := dk_182 1 222 (dk_at dksX1_someoneYields_2 9 rfl rfl)
theorem dX1_someoneYields_60 : decode cX1_someoneYields 60 = .ok (.ifCond .ne 13, 3) := dk_154 0 13 (dk_at dksX1_someoneYields_2 12 rfl rfl)
theorem dX1_someoneYields_63 : decode cX1_someoneYields 63 = .ok (.aload_n 0, 1) := dk_42 (dk_at dksX1_someoneYields_2 15 rfl rfl)
theorem dX1_someoneYields_64 : decode cX1_someoneYields 64 = .ok (.aload_n 1, 1) := dk_43 (dk_at dksX1_someoneYields_2 16 rfl rfl)
theorem dX1_someoneYields_65 : decode cX1_someoneYields 65 = .ok (.iload_n 3, 1) := dk_29 (dk_at dksX1_someoneYields_2 17 rfl rfl)
theorem dX1_someoneYields_66 : decode cX1_someoneYields 66 = .ok (.iconst 1, 1) := dk_4 (dk_at dksX1_someoneYields_2 18 rfl rfl)
theorem dX1_someoneYields_67 : decode cX1_someoneYields 67 = .ok (.invokevirtual 478, 3) := dk_182 1 222 (dk_at dksX1_someoneYields_2 19 rfl rfl)
theorem dX1_someoneYields_70 : decode cX1_someoneYields 70 = .ok (.ifCond .eq 7, 3) := dk_153 0 7 (dk_at dksX1_someoneYields_3 0 rfl rfl)
theorem dX1_someoneYields_73 : decode cX1_someoneYields 73 = .ok (.iconst 1, 1) := dk_4 (dk_at dksX1_someoneYields_3 3 rfl rfl)
theorem dX1_someoneYields_74 : decode cX1_someoneYields 74 = .ok (.goto 4, 3) := dk_167 0 4 (dk_at dksX1_someoneYields_3 4 rfl rfl)
theorem dX1_someoneYields_77 : decode cX1_someoneYields 77 = .ok (.iconst 0, 1) := dk_3 (dk_at dksX1_someoneYields_3 7 rfl rfl)
theorem dX1_someoneYields_78 : decode cX1_someoneYields 78 = .ok (.ireturn, 1) := dk_172 (dk_at dksX1_someoneYields_3 8 rfl rfl)
abbrev cX1_yields : ByteArray := prog_1_method_48_code
def yX1_yields : MethodName := ⟨RX1, "yields", "(LCheekTown$World;II)Z"⟩
def dkwX1_yields_1 : List UInt8 := [180, 0, 43, 4, 29, 100, 46, 79, 43, 89, 180, 1, 219, 4, 96, 181, 1, 219, 4, 172]
abbrev dktX1_yields_1 : List UInt8 := dkwX1_yields_1 ++ []
def dkwX1_yields_0 : List UInt8 := [43, 16, 100, 182, 1, 216, 43, 180, 0, 169, 28, 46, 161, 0, 5, 3, 172, 42, 180, 0, 47, 29, 42]
abbrev dktX1_yields_0 : List UInt8 := dkwX1_yields_0 ++ dktX1_yields_1
theorem dksX1_yields_0 : cX1_yields.data.toList.drop 0 = dktX1_yields_0 := by decide +kernel
theorem dksX1_yields_1 : cX1_yields.data.toList.drop 23 = dktX1_yields_1 := dk_seg dksX1_yields_0 23 rfl rfl
theorem dX1_yields_0 : decode cX1_yields 0 = .ok (.aload_n 1, 1) := dk_43 (dk_at dksX1_yields_0 0 rfl rfl)
theorem dX1_yields_1 : decode cX1_yields 1 = .ok (.bipush 100, 2) := dk_16 100 (dk_at dksX1_yields_0 1 rfl rfl)
theorem dX1_yields_3 : decode cX1_yields 3 = .ok (.invokevirtual 472, 3) := dk_182 1 216 (dk_at dksX1_yields_0 3 rfl rfl)
theorem dX1_yields_6 : decode cX1_yields 6 = .ok (.aload_n 1, 1) := dk_43 (dk_at dksX1_yields_0 6 rfl rfl)
theorem dX1_yields_7 : decode cX1_yields 7 = .ok (.getfield 169, 3) := dk_180 0 169 (dk_at dksX1_yields_0 7 rfl rfl)
theorem dX1_yields_10 : decode cX1_yields 10 = .ok (.iload_n 2, 1) := dk_28 (dk_at dksX1_yields_0 10 rfl rfl)
theorem dX1_yields_11 : decode cX1_yields 11 = .ok (.iaload, 1) := dk_46 (dk_at dksX1_yields_0 11 rfl rfl)
theorem dX1_yields_12 : decode cX1_yields 12 = .ok (.if_icmp .lt 5, 3) := dk_161 0 5 (dk_at dksX1_yields_0 12 rfl rfl)
theorem dX1_yields_15 : decode cX1_yields 15 = .ok (.iconst 0, 1) := dk_3 (dk_at dksX1_yields_0 15 rfl rfl)
theorem dX1_yields_16 : decode cX1_yields 16 = .ok (.ireturn, 1) := dk_172 (dk_at dksX1_yields_0 16 rfl rfl)
theorem dX1_yields_17 : decode cX1_yields 17 = .ok (.aload_n 0, 1) := dk_42 (dk_at dksX1_yields_0 17 rfl rfl)
theorem dX1_yields_18 : decode cX1_yields 18 = .ok (.getfield 47, 3) := dk_180 0 47 (dk_at dksX1_yields_0 18 rfl rfl)
theorem dX1_yields_21 : decode cX1_yields 21 = .ok (.iload_n 3, 1) := dk_29 (dk_at dksX1_yields_0 21 rfl rfl)
theorem dX1_yields_22 : decode cX1_yields 22 = .ok (.aload_n 0, 1) := dk_42 (dk_at dksX1_yields_0 22 rfl rfl)
theorem dX1_yields_23 : decode cX1_yields 23 = .ok (.getfield 43, 3) := dk_180 0 43 (dk_at dksX1_yields_1 0 rfl rfl)
theorem dX1_yields_26 : decode cX1_yields 26 = .ok (.iconst 1, 1) := dk_4 (dk_at dksX1_yields_1 3 rfl rfl)
theorem dX1_yields_27 : decode cX1_yields 27 = .ok (.iload_n 3, 1) := dk_29 (dk_at dksX1_yields_1 4 rfl rfl)
theorem dX1_yields_28 : decode cX1_yields 28 = .ok (.isub, 1) := dk_100 (dk_at dksX1_yields_1 5 rfl rfl)
theorem dX1_yields_29 : decode cX1_yields 29 = .ok (.iaload, 1) := dk_46 (dk_at dksX1_yields_1 6 rfl rfl)
theorem dX1_yields_30 : decode cX1_yields 30 = .ok (.iastore, 1) := dk_79 (dk_at dksX1_yields_1 7 rfl rfl)
theorem dX1_yields_31 : decode cX1_yields 31 = .ok (.aload_n 1, 1) := dk_43 (dk_at dksX1_yields_1 8 rfl rfl)
theorem dX1_yields_32 : decode cX1_yields 32 = .ok (.dup, 1) := dk_89 (dk_at dksX1_yields_1 9 rfl rfl)
theorem dX1_yields_33 : decode cX1_yields 33 = .ok (.getfield 475, 3) := dk_180 1 219 (dk_at dksX1_yields_1 10 rfl rfl)
theorem dX1_yields_36 : decode cX1_yields 36 = .ok (.iconst 1, 1) := dk_4 (dk_at dksX1_yields_1 13 rfl rfl)
theorem dX1_yields_37 : decode cX1_yields 37 = .ok (.iadd, 1) := dk_96 (dk_at dksX1_yields_1 14 rfl rfl)
theorem dX1_yields_38 : decode cX1_yields 38 = .ok (.putfield 475, 3) := dk_181 1 219 (dk_at dksX1_yields_1 15 rfl rfl)
theorem dX1_yields_41 : decode cX1_yields 41 = .ok (.iconst 1, 1) := dk_4 (dk_at dksX1_yields_1 18 rfl rfl)
theorem dX1_yields_42 : decode cX1_yields 42 = .ok (.ireturn, 1) := dk_172 (dk_at dksX1_yields_1 19 rfl rfl)
abbrev cX1_catches : ByteArray := prog_1_method_50_code
def yX1_catches : MethodName := ⟨RX1, "catches", "(LCheekTown$World;II)V"⟩
def dkwX1_catches_3 : List UInt8 := [29, 4, 84, 177]
abbrev dktX1_catches_3 : List UInt8 := dkwX1_catches_3 ++ []
def dkwX1_catches_2 : List UInt8 := [154, 0, 13, 43, 180, 0, 171, 29, 51, 154, 0, 4, 177, 43, 180, 0, 171, 28, 4, 84, 43, 180, 0, 171]
abbrev dktX1_catches_2 : List UInt8 := dkwX1_catches_2 ++ dktX1_catches_3
def dkwX1_catches_1 : List UInt8 := [184, 1, 229, 154, 0, 7, 4, 167, 0, 4, 3, 54, 4, 21, 4, 153, 0, 21, 43, 180, 0, 171, 28, 51]
abbrev dktX1_catches_1 : List UInt8 := dkwX1_catches_1 ++ dktX1_catches_2
def dkwX1_catches_0 : List UInt8 := [178, 1, 226, 42, 180, 0, 47, 3, 46, 184, 1, 229, 154, 0, 22, 178, 1, 226, 42, 180, 0, 47, 4, 46]
abbrev dktX1_catches_0 : List UInt8 := dkwX1_catches_0 ++ dktX1_catches_1
theorem dksX1_catches_0 : cX1_catches.data.toList.drop 0 = dktX1_catches_0 := by decide +kernel
theorem dksX1_catches_1 : cX1_catches.data.toList.drop 24 = dktX1_catches_1 := dk_seg dksX1_catches_0 24 rfl rfl
theorem dksX1_catches_2 : cX1_catches.data.toList.drop 48 = dktX1_catches_2 := dk_seg dksX1_catches_1 24 rfl rfl
theorem dksX1_catches_3 : cX1_catches.data.toList.drop 72 = dktX1_catches_3 := dk_seg dksX1_catches_2 24 rfl rfl
theorem dX1_catches_0 : decode cX1_catches 0 = .ok (.getstatic 482, 3) := dk_178 1 226 (dk_at dksX1_catches_0 0 rfl rfl)
theorem dX1_catches_3 : decode cX1_catches 3 = .ok (.aload_n 0, 1) := dk_42 (dk_at dksX1_catches_0 3 rfl rfl)
theorem dX1_catches_4 : decode cX1_catches 4 = .ok (.getfield 47, 3) := dk_180 0 47 (dk_at dksX1_catches_0 4 rfl rfl)
theorem dX1_catches_7 : decode cX1_catches 7 = .ok (.iconst 0, 1) := dk_3 (dk_at dksX1_catches_0 7 rfl rfl)
theorem dX1_catches_8 : decode cX1_catches 8 = .ok (.iaload, 1) := dk_46 (dk_at dksX1_catches_0 8 rfl rfl)
theorem dX1_catches_9 : decode cX1_catches 9 = .ok (.invokestatic 485, 3) := dk_184 1 229 (dk_at dksX1_catches_0 9 rfl rfl)
theorem dX1_catches_12 : decode cX1_catches 12 = .ok (.ifCond .ne 22, 3) := dk_154 0 22 (dk_at dksX1_catches_0 12 rfl rfl)
theorem dX1_catches_15 : decode cX1_catches 15 = .ok (.getstatic 482, 3) := dk_178 1 226 (dk_at dksX1_catches_0 15 rfl rfl)
theorem dX1_catches_18 : decode cX1_catches 18 = .ok (.aload_n 0, 1) := dk_42 (dk_at dksX1_catches_0 18 rfl rfl)
theorem dX1_catches_19 : decode cX1_catches 19 = .ok (.getfield 47, 3) := dk_180 0 47 (dk_at dksX1_catches_0 19 rfl rfl)
theorem dX1_catches_22 : decode cX1_catches 22 = .ok (.iconst 1, 1) := dk_4 (dk_at dksX1_catches_0 22 rfl rfl)
theorem dX1_catches_23 : decode cX1_catches 23 = .ok (.iaload, 1) := dk_46 (dk_at dksX1_catches_0 23 rfl rfl)
theorem dX1_catches_24 : decode cX1_catches 24 = .ok (.invokestatic 485, 3) := dk_184 1 229 (dk_at dksX1_catches_1 0 rfl rfl)
theorem dX1_catches_27 : decode cX1_catches 27 = .ok (.ifCond .ne 7, 3) := dk_154 0 7 (dk_at dksX1_catches_1 3 rfl rfl)
theorem dX1_catches_30 : decode cX1_catches 30 = .ok (.iconst 1, 1) := dk_4 (dk_at dksX1_catches_1 6 rfl rfl)
theorem dX1_catches_31 : decode cX1_catches 31 = .ok (.goto 4, 3) := dk_167 0 4 (dk_at dksX1_catches_1 7 rfl rfl)
theorem dX1_catches_34 : decode cX1_catches 34 = .ok (.iconst 0, 1) := dk_3 (dk_at dksX1_catches_1 10 rfl rfl)
theorem dX1_catches_35 : decode cX1_catches 35 = .ok (.istore 4, 2) := dk_54 4 (dk_at dksX1_catches_1 11 rfl rfl)
theorem dX1_catches_37 : decode cX1_catches 37 = .ok (.iload 4, 2) := dk_21 4 (dk_at dksX1_catches_1 13 rfl rfl)
theorem dX1_catches_39 : decode cX1_catches 39 = .ok (.ifCond .eq 21, 3) := dk_153 0 21 (dk_at dksX1_catches_1 15 rfl rfl)
theorem dX1_catches_42 : decode cX1_catches 42 = .ok (.aload_n 1, 1) := dk_43 (dk_at dksX1_catches_1 18 rfl rfl)
theorem dX1_catches_43 : decode cX1_catches 43 = .ok (.getfield 171, 3) := dk_180 0 171 (dk_at dksX1_catches_1 19 rfl rfl)
theorem dX1_catches_46 : decode cX1_catches 46 = .ok (.iload_n 2, 1) := dk_28 (dk_at dksX1_catches_1 22 rfl rfl)
theorem dX1_catches_47 : decode cX1_catches 47 = .ok (.baload, 1) := dk_51 (dk_at dksX1_catches_1 23 rfl rfl)
theorem dX1_catches_48 : decode cX1_catches 48 = .ok (.ifCond .ne 13, 3) := dk_154 0 13 (dk_at dksX1_catches_2 0 rfl rfl)
theorem dX1_catches_51 : decode cX1_catches 51 = .ok (.aload_n 1, 1) := dk_43 (dk_at dksX1_catches_2 3 rfl rfl)
theorem dX1_catches_52 : decode cX1_catches 52 = .ok (.getfield 171, 3) := dk_180 0 171 (dk_at dksX1_catches_2 4 rfl rfl)
theorem dX1_catches_55 : decode cX1_catches 55 = .ok (.iload_n 3, 1) := dk_29 (dk_at dksX1_catches_2 7 rfl rfl)
theorem dX1_catches_56 : decode cX1_catches 56 = .ok (.baload, 1) := dk_51 (dk_at dksX1_catches_2 8 rfl rfl)
theorem dX1_catches_57 : decode cX1_catches 57 = .ok (.ifCond .ne 4, 3) := dk_154 0 4 (dk_at dksX1_catches_2 9 rfl rfl)
theorem dX1_catches_60 : decode cX1_catches 60 = .ok (.return_, 1) := dk_177 (dk_at dksX1_catches_2 12 rfl rfl)
theorem dX1_catches_61 : decode cX1_catches 61 = .ok (.aload_n 1, 1) := dk_43 (dk_at dksX1_catches_2 13 rfl rfl)
theorem dX1_catches_62 : decode cX1_catches 62 = .ok (.getfield 171, 3) := dk_180 0 171 (dk_at dksX1_catches_2 14 rfl rfl)
theorem dX1_catches_65 : decode cX1_catches 65 = .ok (.iload_n 2, 1) := dk_28 (dk_at dksX1_catches_2 17 rfl rfl)
theorem dX1_catches_66 : decode cX1_catches 66 = .ok (.iconst 1, 1) := dk_4 (dk_at dksX1_catches_2 18 rfl rfl)
theorem dX1_catches_67 : decode cX1_catches 67 = .ok (.bastore, 1) := dk_84 (dk_at dksX1_catches_2 19 rfl rfl)
theorem dX1_catches_68 : decode cX1_catches 68 = .ok (.aload_n 1, 1) := dk_43 (dk_at dksX1_catches_2 20 rfl rfl)
theorem dX1_catches_69 : decode cX1_catches 69 = .ok (.getfield 171, 3) := dk_180 0 171 (dk_at dksX1_catches_2 21 rfl rfl)
theorem dX1_catches_72 : decode cX1_catches 72 = .ok (.iload_n 3, 1) := dk_29 (dk_at dksX1_catches_3 0 rfl rfl)
theorem dX1_catches_73 : decode cX1_catches 73 = .ok (.iconst 1, 1) := dk_4 (dk_at dksX1_catches_3 1 rfl rfl)
theorem dX1_catches_74 : decode cX1_catches 74 = .ok (.bastore, 1) := dk_84 (dk_at dksX1_catches_3 2 rfl rfl)
theorem dX1_catches_75 : decode cX1_catches 75 = .ok (.return_, 1) := dk_177 (dk_at dksX1_catches_3 3 rfl rfl)
abbrev cX1_rounds : ByteArray := prog_1_method_55_code
def yX1_rounds : MethodName := ⟨RX1, "rounds", "(I)I"⟩
def dkwX1_rounds_1 : List UInt8 := [42, 42, 180, 0, 10, 182, 2, 20, 96, 61, 132, 3, 1, 167, 255, 237, 28, 172]
abbrev dktX1_rounds_1 : List UInt8 := dkwX1_rounds_1 ++ []
def dkwX1_rounds_0 : List UInt8 := [27, 4, 16, 50, 184, 1, 158, 184, 1, 175, 42, 182, 2, 17, 3, 61, 3, 62, 29, 27, 162, 0, 20, 28]
abbrev dktX1_rounds_0 : List UInt8 := dkwX1_rounds_0 ++ dktX1_rounds_1
theorem dksX1_rounds_0 : cX1_rounds.data.toList.drop 0 = dktX1_rounds_0 := by decide +kernel
theorem dksX1_rounds_1 : cX1_rounds.data.toList.drop 24 = dktX1_rounds_1 := dk_seg dksX1_rounds_0 24 rfl rfl
theorem dX1_rounds_0 : decode cX1_rounds 0 = .ok (.iload_n 1, 1) := dk_27 (dk_at dksX1_rounds_0 0 rfl rfl)
theorem dX1_rounds_1 : decode cX1_rounds 1 = .ok (.iconst 1, 1) := dk_4 (dk_at dksX1_rounds_0 1 rfl rfl)
theorem dX1_rounds_2 : decode cX1_rounds 2 = .ok (.bipush 50, 2) := dk_16 50 (dk_at dksX1_rounds_0 2 rfl rfl)
theorem dX1_rounds_4 : decode cX1_rounds 4 = .ok (.invokestatic 414, 3) := dk_184 1 158 (dk_at dksX1_rounds_0 4 rfl rfl)
theorem dX1_rounds_7 : decode cX1_rounds 7 = .ok (.invokestatic 431, 3) := dk_184 1 175 (dk_at dksX1_rounds_0 7 rfl rfl)
theorem dX1_rounds_10 : decode cX1_rounds 10 = .ok (.aload_n 0, 1) := dk_42 (dk_at dksX1_rounds_0 10 rfl rfl)
theorem dX1_rounds_11 : decode cX1_rounds 11 = .ok (.invokevirtual 529, 3) := dk_182 2 17 (dk_at dksX1_rounds_0 11 rfl rfl)
theorem dX1_rounds_14 : decode cX1_rounds 14 = .ok (.iconst 0, 1) := dk_3 (dk_at dksX1_rounds_0 14 rfl rfl)
theorem dX1_rounds_15 : decode cX1_rounds 15 = .ok (.istore_n 2, 1) := dk_61 (dk_at dksX1_rounds_0 15 rfl rfl)
theorem dX1_rounds_16 : decode cX1_rounds 16 = .ok (.iconst 0, 1) := dk_3 (dk_at dksX1_rounds_0 16 rfl rfl)
theorem dX1_rounds_17 : decode cX1_rounds 17 = .ok (.istore_n 3, 1) := dk_62 (dk_at dksX1_rounds_0 17 rfl rfl)
theorem dX1_rounds_18 : decode cX1_rounds 18 = .ok (.iload_n 3, 1) := dk_29 (dk_at dksX1_rounds_0 18 rfl rfl)
theorem dX1_rounds_19 : decode cX1_rounds 19 = .ok (.iload_n 1, 1) := dk_27 (dk_at dksX1_rounds_0 19 rfl rfl)
theorem dX1_rounds_20 : decode cX1_rounds 20 = .ok (.if_icmp .ge 20, 3) := dk_162 0 20 (dk_at dksX1_rounds_0 20 rfl rfl)
theorem dX1_rounds_23 : decode cX1_rounds 23 = .ok (.iload_n 2, 1) := dk_28 (dk_at dksX1_rounds_0 23 rfl rfl)
theorem dX1_rounds_24 : decode cX1_rounds 24 = .ok (.aload_n 0, 1) := dk_42 (dk_at dksX1_rounds_1 0 rfl rfl)
theorem dX1_rounds_25 : decode cX1_rounds 25 = .ok (.aload_n 0, 1) := dk_42 (dk_at dksX1_rounds_1 1 rfl rfl)
theorem dX1_rounds_26 : decode cX1_rounds 26 = .ok (.getfield 10, 3) := dk_180 0 10 (dk_at dksX1_rounds_1 2 rfl rfl)
theorem dX1_rounds_29 : decode cX1_rounds 29 = .ok (.invokevirtual 532, 3) := dk_182 2 20 (dk_at dksX1_rounds_1 5 rfl rfl)
theorem dX1_rounds_32 : decode cX1_rounds 32 = .ok (.iadd, 1) := dk_96 (dk_at dksX1_rounds_1 8 rfl rfl)
theorem dX1_rounds_33 : decode cX1_rounds 33 = .ok (.istore_n 2, 1) := dk_61 (dk_at dksX1_rounds_1 9 rfl rfl)
theorem dX1_rounds_34 : decode cX1_rounds 34 = .ok (.iinc 3 1, 3) := dk_132 3 1 (dk_at dksX1_rounds_1 10 rfl rfl)
theorem dX1_rounds_37 : decode cX1_rounds 37 = .ok (.goto (-19), 3) := dk_167 255 237 (dk_at dksX1_rounds_1 13 rfl rfl)
theorem dX1_rounds_40 : decode cX1_rounds 40 = .ok (.iload_n 2, 1) := dk_28 (dk_at dksX1_rounds_1 16 rfl rfl)
theorem dX1_rounds_41 : decode cX1_rounds 41 = .ok (.ireturn, 1) := dk_172 (dk_at dksX1_rounds_1 17 rfl rfl)
abbrev cX1_round : ByteArray := prog_1_method_53_code
def yX1_round : MethodName := ⟨RX1, "round", "(LCheekTown$World;)I"⟩
def dkwX1_round_2 : List UInt8 := [181, 1, 141, 28, 172]
abbrev dktX1_round_2 : List UInt8 := dkwX1_round_2 ++ []
def dkwX1_round_1 : List UInt8 := [180, 1, 203, 29, 46, 182, 2, 14, 96, 61, 132, 3, 1, 167, 255, 225, 43, 89, 180, 1, 141, 4, 96]
abbrev dktX1_round_1 : List UInt8 := dkwX1_round_1 ++ dktX1_round_2
def dkwX1_round_0 : List UInt8 := [3, 61, 3, 62, 29, 43, 180, 0, 184, 162, 0, 29, 28, 42, 43, 43, 180, 1, 206, 29, 46, 43]
abbrev dktX1_round_0 : List UInt8 := dkwX1_round_0 ++ dktX1_round_1
theorem dksX1_round_0 : cX1_round.data.toList.drop 0 = dktX1_round_0 := by decide +kernel
theorem dksX1_round_1 : cX1_round.data.toList.drop 22 = dktX1_round_1 := dk_seg dksX1_round_0 22 rfl rfl
theorem dksX1_round_2 : cX1_round.data.toList.drop 45 = dktX1_round_2 := dk_seg dksX1_round_1 23 rfl rfl
theorem dX1_round_0 : decode cX1_round 0 = .ok (.iconst 0, 1) := dk_3 (dk_at dksX1_round_0 0 rfl rfl)
theorem dX1_round_1 : decode cX1_round 1 = .ok (.istore_n 2, 1) := dk_61 (dk_at dksX1_round_0 1 rfl rfl)
theorem dX1_round_2 : decode cX1_round 2 = .ok (.iconst 0, 1) := dk_3 (dk_at dksX1_round_0 2 rfl rfl)
theorem dX1_round_3 : decode cX1_round 3 = .ok (.istore_n 3, 1) := dk_62 (dk_at dksX1_round_0 3 rfl rfl)
theorem dX1_round_4 : decode cX1_round 4 = .ok (.iload_n 3, 1) := dk_29 (dk_at dksX1_round_0 4 rfl rfl)
theorem dX1_round_5 : decode cX1_round 5 = .ok (.aload_n 1, 1) := dk_43 (dk_at dksX1_round_0 5 rfl rfl)
theorem dX1_round_6 : decode cX1_round 6 = .ok (.getfield 184, 3) := dk_180 0 184 (dk_at dksX1_round_0 6 rfl rfl)
theorem dX1_round_9 : decode cX1_round 9 = .ok (.if_icmp .ge 29, 3) := dk_162 0 29 (dk_at dksX1_round_0 9 rfl rfl)
theorem dX1_round_12 : decode cX1_round 12 = .ok (.iload_n 2, 1) := dk_28 (dk_at dksX1_round_0 12 rfl rfl)
theorem dX1_round_13 : decode cX1_round 13 = .ok (.aload_n 0, 1) := dk_42 (dk_at dksX1_round_0 13 rfl rfl)
theorem dX1_round_14 : decode cX1_round 14 = .ok (.aload_n 1, 1) := dk_43 (dk_at dksX1_round_0 14 rfl rfl)
theorem dX1_round_15 : decode cX1_round 15 = .ok (.aload_n 1, 1) := dk_43 (dk_at dksX1_round_0 15 rfl rfl)
theorem dX1_round_16 : decode cX1_round 16 = .ok (.getfield 462, 3) := dk_180 1 206 (dk_at dksX1_round_0 16 rfl rfl)
theorem dX1_round_19 : decode cX1_round 19 = .ok (.iload_n 3, 1) := dk_29 (dk_at dksX1_round_0 19 rfl rfl)
theorem dX1_round_20 : decode cX1_round 20 = .ok (.iaload, 1) := dk_46 (dk_at dksX1_round_0 20 rfl rfl)
theorem dX1_round_21 : decode cX1_round 21 = .ok (.aload_n 1, 1) := dk_43 (dk_at dksX1_round_0 21 rfl rfl)
theorem dX1_round_22 : decode cX1_round 22 = .ok (.getfield 459, 3) := dk_180 1 203 (dk_at dksX1_round_1 0 rfl rfl)
theorem dX1_round_25 : decode cX1_round 25 = .ok (.iload_n 3, 1) := dk_29 (dk_at dksX1_round_1 3 rfl rfl)
theorem dX1_round_26 : decode cX1_round 26 = .ok (.iaload, 1) := dk_46 (dk_at dksX1_round_1 4 rfl rfl)
theorem dX1_round_27 : decode cX1_round 27 = .ok (.invokevirtual 526, 3) := dk_182 2 14 (dk_at dksX1_round_1 5 rfl rfl)
theorem dX1_round_30 : decode cX1_round 30 = .ok (.iadd, 1) := dk_96 (dk_at dksX1_round_1 8 rfl rfl)
theorem dX1_round_31 : decode cX1_round 31 = .ok (.istore_n 2, 1) := dk_61 (dk_at dksX1_round_1 9 rfl rfl)
theorem dX1_round_32 : decode cX1_round 32 = .ok (.iinc 3 1, 3) := dk_132 3 1 (dk_at dksX1_round_1 10 rfl rfl)
theorem dX1_round_35 : decode cX1_round 35 = .ok (.goto (-31), 3) := dk_167 255 225 (dk_at dksX1_round_1 13 rfl rfl)
theorem dX1_round_38 : decode cX1_round 38 = .ok (.aload_n 1, 1) := dk_43 (dk_at dksX1_round_1 16 rfl rfl)
theorem dX1_round_39 : decode cX1_round 39 = .ok (.dup, 1) := dk_89 (dk_at dksX1_round_1 17 rfl rfl)
theorem dX1_round_40 : decode cX1_round 40 = .ok (.getfield 397, 3) := dk_180 1 141 (dk_at dksX1_round_1 18 rfl rfl)
theorem dX1_round_43 : decode cX1_round 43 = .ok (.iconst 1, 1) := dk_4 (dk_at dksX1_round_1 21 rfl rfl)
theorem dX1_round_44 : decode cX1_round 44 = .ok (.iadd, 1) := dk_96 (dk_at dksX1_round_1 22 rfl rfl)
theorem dX1_round_45 : decode cX1_round 45 = .ok (.putfield 397, 3) := dk_181 1 141 (dk_at dksX1_round_2 0 rfl rfl)
theorem dX1_round_48 : decode cX1_round 48 = .ok (.iload_n 2, 1) := dk_28 (dk_at dksX1_round_2 3 rfl rfl)
theorem dX1_round_49 : decode cX1_round 49 = .ok (.ireturn, 1) := dk_172 (dk_at dksX1_round_2 4 rfl rfl)
abbrev cX1_own : ByteArray := prog_1_method_56_code
def yX1_own : MethodName := ⟨RX1, "own", "(II)I"⟩
def dkwX1_own_1 : List UInt8 := [180, 0, 10, 180, 0, 160, 27, 28, 79, 29, 172]
abbrev dktX1_own_1 : List UInt8 := dkwX1_own_1 ++ []
def dkwX1_own_0 : List UInt8 := [42, 27, 182, 1, 171, 28, 184, 1, 178, 42, 182, 2, 17, 42, 180, 0, 10, 180, 0, 160, 27, 46, 62, 42]
abbrev dktX1_own_0 : List UInt8 := dkwX1_own_0 ++ dktX1_own_1
theorem dksX1_own_0 : cX1_own.data.toList.drop 0 = dktX1_own_0 := by decide +kernel
theorem dksX1_own_1 : cX1_own.data.toList.drop 24 = dktX1_own_1 := dk_seg dksX1_own_0 24 rfl rfl
theorem dX1_own_0 : decode cX1_own 0 = .ok (.aload_n 0, 1) := dk_42 (dk_at dksX1_own_0 0 rfl rfl)
theorem dX1_own_1 : decode cX1_own 1 = .ok (.iload_n 1, 1) := dk_27 (dk_at dksX1_own_0 1 rfl rfl)
theorem dX1_own_2 : decode cX1_own 2 = .ok (.invokevirtual 427, 3) := dk_182 1 171 (dk_at dksX1_own_0 2 rfl rfl)
theorem dX1_own_5 : decode cX1_own 5 = .ok (.iload_n 2, 1) := dk_28 (dk_at dksX1_own_0 5 rfl rfl)
theorem dX1_own_6 : decode cX1_own 6 = .ok (.invokestatic 434, 3) := dk_184 1 178 (dk_at dksX1_own_0 6 rfl rfl)
theorem dX1_own_9 : decode cX1_own 9 = .ok (.aload_n 0, 1) := dk_42 (dk_at dksX1_own_0 9 rfl rfl)
theorem dX1_own_10 : decode cX1_own 10 = .ok (.invokevirtual 529, 3) := dk_182 2 17 (dk_at dksX1_own_0 10 rfl rfl)
theorem dX1_own_13 : decode cX1_own 13 = .ok (.aload_n 0, 1) := dk_42 (dk_at dksX1_own_0 13 rfl rfl)
theorem dX1_own_14 : decode cX1_own 14 = .ok (.getfield 10, 3) := dk_180 0 10 (dk_at dksX1_own_0 14 rfl rfl)
theorem dX1_own_17 : decode cX1_own 17 = .ok (.getfield 160, 3) := dk_180 0 160 (dk_at dksX1_own_0 17 rfl rfl)
theorem dX1_own_20 : decode cX1_own 20 = .ok (.iload_n 1, 1) := dk_27 (dk_at dksX1_own_0 20 rfl rfl)
theorem dX1_own_21 : decode cX1_own 21 = .ok (.iaload, 1) := dk_46 (dk_at dksX1_own_0 21 rfl rfl)
theorem dX1_own_22 : decode cX1_own 22 = .ok (.istore_n 3, 1) := dk_62 (dk_at dksX1_own_0 22 rfl rfl)
theorem dX1_own_23 : decode cX1_own 23 = .ok (.aload_n 0, 1) := dk_42 (dk_at dksX1_own_0 23 rfl rfl)
theorem dX1_own_24 : decode cX1_own 24 = .ok (.getfield 10, 3) := dk_180 0 10 (dk_at dksX1_own_1 0 rfl rfl)
theorem dX1_own_27 : decode cX1_own 27 = .ok (.getfield 160, 3) := dk_180 0 160 (dk_at dksX1_own_1 3 rfl rfl)
theorem dX1_own_30 : decode cX1_own 30 = .ok (.iload_n 1, 1) := dk_27 (dk_at dksX1_own_1 6 rfl rfl)
theorem dX1_own_31 : decode cX1_own 31 = .ok (.iload_n 2, 1) := dk_28 (dk_at dksX1_own_1 7 rfl rfl)
theorem dX1_own_32 : decode cX1_own 32 = .ok (.iastore, 1) := dk_79 (dk_at dksX1_own_1 8 rfl rfl)
theorem dX1_own_33 : decode cX1_own 33 = .ok (.iload_n 3, 1) := dk_29 (dk_at dksX1_own_1 9 rfl rfl)
theorem dX1_own_34 : decode cX1_own 34 = .ok (.ireturn, 1) := dk_172 (dk_at dksX1_own_1 10 rfl rfl)
abbrev cX1_cold : ByteArray := prog_1_method_57_code
def yX1_cold : MethodName := ⟨RX1, "cold", "(IZ)Z"⟩
def dkwX1_cold_1 : List UInt8 := [180, 0, 171, 27, 28, 84, 29, 172]
abbrev dktX1_cold_1 : List UInt8 := dkwX1_cold_1 ++ []
def dkwX1_cold_0 : List UInt8 := [42, 27, 182, 1, 171, 42, 182, 2, 17, 42, 180, 0, 10, 180, 0, 171, 27, 51, 62, 42, 180, 0, 10]
abbrev dktX1_cold_0 : List UInt8 := dkwX1_cold_0 ++ dktX1_cold_1
theorem dksX1_cold_0 : cX1_cold.data.toList.drop 0 = dktX1_cold_0 := by decide +kernel
theorem dksX1_cold_1 : cX1_cold.data.toList.drop 23 = dktX1_cold_1 := dk_seg dksX1_cold_0 23 rfl rfl
theorem dX1_cold_0 : decode cX1_cold 0 = .ok (.aload_n 0, 1) := dk_42 (dk_at dksX1_cold_0 0 rfl rfl)
theorem dX1_cold_1 : decode cX1_cold 1 = .ok (.iload_n 1, 1) := dk_27 (dk_at dksX1_cold_0 1 rfl rfl)
theorem dX1_cold_2 : decode cX1_cold 2 = .ok (.invokevirtual 427, 3) := dk_182 1 171 (dk_at dksX1_cold_0 2 rfl rfl)
theorem dX1_cold_5 : decode cX1_cold 5 = .ok (.aload_n 0, 1) := dk_42 (dk_at dksX1_cold_0 5 rfl rfl)
theorem dX1_cold_6 : decode cX1_cold 6 = .ok (.invokevirtual 529, 3) := dk_182 2 17 (dk_at dksX1_cold_0 6 rfl rfl)
theorem dX1_cold_9 : decode cX1_cold 9 = .ok (.aload_n 0, 1) := dk_42 (dk_at dksX1_cold_0 9 rfl rfl)
theorem dX1_cold_10 : decode cX1_cold 10 = .ok (.getfield 10, 3) := dk_180 0 10 (dk_at dksX1_cold_0 10 rfl rfl)
theorem dX1_cold_13 : decode cX1_cold 13 = .ok (.getfield 171, 3) := dk_180 0 171 (dk_at dksX1_cold_0 13 rfl rfl)
theorem dX1_cold_16 : decode cX1_cold 16 = .ok (.iload_n 1, 1) := dk_27 (dk_at dksX1_cold_0 16 rfl rfl)
theorem dX1_cold_17 : decode cX1_cold 17 = .ok (.baload, 1) := dk_51 (dk_at dksX1_cold_0 17 rfl rfl)
theorem dX1_cold_18 : decode cX1_cold 18 = .ok (.istore_n 3, 1) := dk_62 (dk_at dksX1_cold_0 18 rfl rfl)
theorem dX1_cold_19 : decode cX1_cold 19 = .ok (.aload_n 0, 1) := dk_42 (dk_at dksX1_cold_0 19 rfl rfl)
theorem dX1_cold_20 : decode cX1_cold 20 = .ok (.getfield 10, 3) := dk_180 0 10 (dk_at dksX1_cold_0 20 rfl rfl)
theorem dX1_cold_23 : decode cX1_cold 23 = .ok (.getfield 171, 3) := dk_180 0 171 (dk_at dksX1_cold_1 0 rfl rfl)
theorem dX1_cold_26 : decode cX1_cold 26 = .ok (.iload_n 1, 1) := dk_27 (dk_at dksX1_cold_1 3 rfl rfl)
theorem dX1_cold_27 : decode cX1_cold 27 = .ok (.iload_n 2, 1) := dk_28 (dk_at dksX1_cold_1 4 rfl rfl)
theorem dX1_cold_28 : decode cX1_cold 28 = .ok (.bastore, 1) := dk_84 (dk_at dksX1_cold_1 5 rfl rfl)
theorem dX1_cold_29 : decode cX1_cold 29 = .ok (.iload_n 3, 1) := dk_29 (dk_at dksX1_cold_1 6 rfl rfl)
theorem dX1_cold_30 : decode cX1_cold 30 = .ok (.ireturn, 1) := dk_172 (dk_at dksX1_cold_1 7 rfl rfl)
abbrev cX1_ties : ByteArray := prog_1_method_58_code
def yX1_ties : MethodName := ⟨RX1, "ties", "(II)I"⟩
def dkwX1_ties_2 : List UInt8 := [42, 182, 2, 17, 42, 180, 0, 10, 27, 28, 182, 0, 194, 42, 180, 0, 10, 180, 0, 184, 4, 100, 172]
abbrev dktX1_ties_2 : List UInt8 := dkwX1_ties_2 ++ []
def dkwX1_ties_1 : List UInt8 := [183, 2, 24, 191, 42, 180, 0, 10, 180, 0, 184, 16, 24, 160, 0, 11, 187, 1, 13, 89, 183, 1, 15, 191]
abbrev dktX1_ties_1 : List UInt8 := dkwX1_ties_1 ++ dktX1_ties_2
def dkwX1_ties_0 : List UInt8 := [42, 27, 28, 182, 1, 200, 42, 180, 0, 10, 27, 28, 182, 0, 191, 2, 159, 0, 11, 187, 2, 22, 89]
abbrev dktX1_ties_0 : List UInt8 := dkwX1_ties_0 ++ dktX1_ties_1
theorem dksX1_ties_0 : cX1_ties.data.toList.drop 0 = dktX1_ties_0 := by decide +kernel
theorem dksX1_ties_1 : cX1_ties.data.toList.drop 23 = dktX1_ties_1 := dk_seg dksX1_ties_0 23 rfl rfl
theorem dksX1_ties_2 : cX1_ties.data.toList.drop 47 = dktX1_ties_2 := dk_seg dksX1_ties_1 24 rfl rfl
theorem dX1_ties_0 : decode cX1_ties 0 = .ok (.aload_n 0, 1) := dk_42 (dk_at dksX1_ties_0 0 rfl rfl)
theorem dX1_ties_1 : decode cX1_ties 1 = .ok (.iload_n 1, 1) := dk_27 (dk_at dksX1_ties_0 1 rfl rfl)
theorem dX1_ties_2 : decode cX1_ties 2 = .ok (.iload_n 2, 1) := dk_28 (dk_at dksX1_ties_0 2 rfl rfl)
theorem dX1_ties_3 : decode cX1_ties 3 = .ok (.invokevirtual 456, 3) := dk_182 1 200 (dk_at dksX1_ties_0 3 rfl rfl)
theorem dX1_ties_6 : decode cX1_ties 6 = .ok (.aload_n 0, 1) := dk_42 (dk_at dksX1_ties_0 6 rfl rfl)
theorem dX1_ties_7 : decode cX1_ties 7 = .ok (.getfield 10, 3) := dk_180 0 10 (dk_at dksX1_ties_0 7 rfl rfl)
theorem dX1_ties_10 : decode cX1_ties 10 = .ok (.iload_n 1, 1) := dk_27 (dk_at dksX1_ties_0 10 rfl rfl)
theorem dX1_ties_11 : decode cX1_ties 11 = .ok (.iload_n 2, 1) := dk_28 (dk_at dksX1_ties_0 11 rfl rfl)
theorem dX1_ties_12 : decode cX1_ties 12 = .ok (.invokevirtual 191, 3) := dk_182 0 191 (dk_at dksX1_ties_0 12 rfl rfl)
theorem dX1_ties_15 : decode cX1_ties 15 = .ok (.iconst (-1), 1) := dk_2 (dk_at dksX1_ties_0 15 rfl rfl)
theorem dX1_ties_16 : decode cX1_ties 16 = .ok (.if_icmp .eq 11, 3) := dk_159 0 11 (dk_at dksX1_ties_0 16 rfl rfl)
theorem dX1_ties_19 : decode cX1_ties 19 = .ok (.new 534, 3) := dk_187 2 22 (dk_at dksX1_ties_0 19 rfl rfl)
theorem dX1_ties_22 : decode cX1_ties 22 = .ok (.dup, 1) := dk_89 (dk_at dksX1_ties_0 22 rfl rfl)
theorem dX1_ties_23 : decode cX1_ties 23 = .ok (.invokespecial 536, 3) := dk_183 2 24 (dk_at dksX1_ties_1 0 rfl rfl)
theorem dX1_ties_26 : decode cX1_ties 26 = .ok (.athrow, 1) := dk_191 (dk_at dksX1_ties_1 3 rfl rfl)
theorem dX1_ties_27 : decode cX1_ties 27 = .ok (.aload_n 0, 1) := dk_42 (dk_at dksX1_ties_1 4 rfl rfl)
theorem dX1_ties_28 : decode cX1_ties 28 = .ok (.getfield 10, 3) := dk_180 0 10 (dk_at dksX1_ties_1 5 rfl rfl)
theorem dX1_ties_31 : decode cX1_ties 31 = .ok (.getfield 184, 3) := dk_180 0 184 (dk_at dksX1_ties_1 8 rfl rfl)
theorem dX1_ties_34 : decode cX1_ties 34 = .ok (.bipush 24, 2) := dk_16 24 (dk_at dksX1_ties_1 11 rfl rfl)
theorem dX1_ties_36 : decode cX1_ties 36 = .ok (.if_icmp .ne 11, 3) := dk_160 0 11 (dk_at dksX1_ties_1 13 rfl rfl)
theorem dX1_ties_39 : decode cX1_ties 39 = .ok (.new 269, 3) := dk_187 1 13 (dk_at dksX1_ties_1 16 rfl rfl)
theorem dX1_ties_42 : decode cX1_ties 42 = .ok (.dup, 1) := dk_89 (dk_at dksX1_ties_1 19 rfl rfl)
theorem dX1_ties_43 : decode cX1_ties 43 = .ok (.invokespecial 271, 3) := dk_183 1 15 (dk_at dksX1_ties_1 20 rfl rfl)
theorem dX1_ties_46 : decode cX1_ties 46 = .ok (.athrow, 1) := dk_191 (dk_at dksX1_ties_1 23 rfl rfl)
theorem dX1_ties_47 : decode cX1_ties 47 = .ok (.aload_n 0, 1) := dk_42 (dk_at dksX1_ties_2 0 rfl rfl)
theorem dX1_ties_48 : decode cX1_ties 48 = .ok (.invokevirtual 529, 3) := dk_182 2 17 (dk_at dksX1_ties_2 1 rfl rfl)
theorem dX1_ties_51 : decode cX1_ties 51 = .ok (.aload_n 0, 1) := dk_42 (dk_at dksX1_ties_2 4 rfl rfl)
theorem dX1_ties_52 : decode cX1_ties 52 = .ok (.getfield 10, 3) := dk_180 0 10 (dk_at dksX1_ties_2 5 rfl rfl)
theorem dX1_ties_55 : decode cX1_ties 55 = .ok (.iload_n 1, 1) := dk_27 (dk_at dksX1_ties_2 8 rfl rfl)
theorem dX1_ties_56 : decode cX1_ties 56 = .ok (.iload_n 2, 1) := dk_28 (dk_at dksX1_ties_2 9 rfl rfl)
theorem dX1_ties_57 : decode cX1_ties 57 = .ok (.invokevirtual 194, 3) := dk_182 0 194 (dk_at dksX1_ties_2 10 rfl rfl)
theorem dX1_ties_60 : decode cX1_ties 60 = .ok (.aload_n 0, 1) := dk_42 (dk_at dksX1_ties_2 13 rfl rfl)
theorem dX1_ties_61 : decode cX1_ties 61 = .ok (.getfield 10, 3) := dk_180 0 10 (dk_at dksX1_ties_2 14 rfl rfl)
theorem dX1_ties_64 : decode cX1_ties 64 = .ok (.getfield 184, 3) := dk_180 0 184 (dk_at dksX1_ties_2 17 rfl rfl)
theorem dX1_ties_67 : decode cX1_ties 67 = .ok (.iconst 1, 1) := dk_4 (dk_at dksX1_ties_2 20 rfl rfl)
theorem dX1_ties_68 : decode cX1_ties 68 = .ok (.isub, 1) := dk_100 (dk_at dksX1_ties_2 21 rfl rfl)
theorem dX1_ties_69 : decode cX1_ties 69 = .ok (.ireturn, 1) := dk_172 (dk_at dksX1_ties_2 22 rfl rfl)
abbrev cX1_cut : ByteArray := prog_1_method_59_code
def yX1_cut : MethodName := ⟨RX1, "cut", "(I)I"⟩
def dkwX1_cut_1 : List UInt8 := [180, 0, 10, 180, 0, 184, 172]
abbrev dktX1_cut_1 : List UInt8 := dkwX1_cut_1 ++ []
def dkwX1_cut_0 : List UInt8 := [27, 42, 180, 0, 10, 180, 0, 184, 184, 1, 168, 42, 182, 2, 17, 42, 180, 0, 10, 27, 182, 2, 25, 42]
abbrev dktX1_cut_0 : List UInt8 := dkwX1_cut_0 ++ dktX1_cut_1
theorem dksX1_cut_0 : cX1_cut.data.toList.drop 0 = dktX1_cut_0 := by decide +kernel
theorem dksX1_cut_1 : cX1_cut.data.toList.drop 24 = dktX1_cut_1 := dk_seg dksX1_cut_0 24 rfl rfl
theorem dX1_cut_0 : decode cX1_cut 0 = .ok (.iload_n 1, 1) := dk_27 (dk_at dksX1_cut_0 0 rfl rfl)
theorem dX1_cut_1 : decode cX1_cut 1 = .ok (.aload_n 0, 1) := dk_42 (dk_at dksX1_cut_0 1 rfl rfl)
theorem dX1_cut_2 : decode cX1_cut 2 = .ok (.getfield 10, 3) := dk_180 0 10 (dk_at dksX1_cut_0 2 rfl rfl)
theorem dX1_cut_5 : decode cX1_cut 5 = .ok (.getfield 184, 3) := dk_180 0 184 (dk_at dksX1_cut_0 5 rfl rfl)
theorem dX1_cut_8 : decode cX1_cut 8 = .ok (.invokestatic 424, 3) := dk_184 1 168 (dk_at dksX1_cut_0 8 rfl rfl)
theorem dX1_cut_11 : decode cX1_cut 11 = .ok (.aload_n 0, 1) := dk_42 (dk_at dksX1_cut_0 11 rfl rfl)
theorem dX1_cut_12 : decode cX1_cut 12 = .ok (.invokevirtual 529, 3) := dk_182 2 17 (dk_at dksX1_cut_0 12 rfl rfl)
theorem dX1_cut_15 : decode cX1_cut 15 = .ok (.aload_n 0, 1) := dk_42 (dk_at dksX1_cut_0 15 rfl rfl)
theorem dX1_cut_16 : decode cX1_cut 16 = .ok (.getfield 10, 3) := dk_180 0 10 (dk_at dksX1_cut_0 16 rfl rfl)
theorem dX1_cut_19 : decode cX1_cut 19 = .ok (.iload_n 1, 1) := dk_27 (dk_at dksX1_cut_0 19 rfl rfl)
theorem dX1_cut_20 : decode cX1_cut 20 = .ok (.invokevirtual 537, 3) := dk_182 2 25 (dk_at dksX1_cut_0 20 rfl rfl)
theorem dX1_cut_23 : decode cX1_cut 23 = .ok (.aload_n 0, 1) := dk_42 (dk_at dksX1_cut_0 23 rfl rfl)
theorem dX1_cut_24 : decode cX1_cut 24 = .ok (.getfield 10, 3) := dk_180 0 10 (dk_at dksX1_cut_1 0 rfl rfl)
theorem dX1_cut_27 : decode cX1_cut 27 = .ok (.getfield 184, 3) := dk_180 0 184 (dk_at dksX1_cut_1 3 rfl rfl)
theorem dX1_cut_30 : decode cX1_cut 30 = .ok (.ireturn, 1) := dk_172 (dk_at dksX1_cut_1 6 rfl rfl)
abbrev cX1_feast : ByteArray := prog_1_method_60_code
def yX1_feast : MethodName := ⟨RX1, "feast", "(II)I"⟩
def dkwX1_feast_3 : List UInt8 := [42, 180, 0, 10, 180, 0, 160, 21, 5, 28, 79, 132, 5, 1, 167, 255, 191, 21, 4, 172]
abbrev dktX1_feast_3 : List UInt8 := dkwX1_feast_3 ++ []
def dkwX1_feast_2 : List UInt8 := [180, 0, 10, 180, 0, 160, 21, 5, 46, 28, 159, 0, 10, 4, 21, 5, 120, 167, 0, 4, 3, 128, 54, 4]
abbrev dktX1_feast_2 : List UInt8 := dkwX1_feast_2 ++ dktX1_feast_3
def dkwX1_feast_1 : List UInt8 := [180, 0, 10, 180, 0, 154, 162, 0, 59, 29, 21, 5, 184, 2, 30, 154, 0, 6, 167, 0, 41, 21, 4, 42]
abbrev dktX1_feast_1 : List UInt8 := dkwX1_feast_1 ++ dktX1_feast_2
def dkwX1_feast_0 : List UInt8 := [28, 184, 1, 178, 42, 182, 2, 17, 42, 27, 182, 2, 28, 62, 3, 54, 4, 3, 54, 5, 21, 5, 42]
abbrev dktX1_feast_0 : List UInt8 := dkwX1_feast_0 ++ dktX1_feast_1
theorem dksX1_feast_0 : cX1_feast.data.toList.drop 0 = dktX1_feast_0 := by decide +kernel
theorem dksX1_feast_1 : cX1_feast.data.toList.drop 23 = dktX1_feast_1 := dk_seg dksX1_feast_0 23 rfl rfl
theorem dksX1_feast_2 : cX1_feast.data.toList.drop 47 = dktX1_feast_2 := dk_seg dksX1_feast_1 24 rfl rfl
theorem dksX1_feast_3 : cX1_feast.data.toList.drop 71 = dktX1_feast_3 := dk_seg dksX1_feast_2 24 rfl rfl
theorem dX1_feast_0 : decode cX1_feast 0 = .ok (.iload_n 2, 1) := dk_28 (dk_at dksX1_feast_0 0 rfl rfl)
theorem dX1_feast_1 : decode cX1_feast 1 = .ok (.invokestatic 434, 3) := dk_184 1 178 (dk_at dksX1_feast_0 1 rfl rfl)
theorem dX1_feast_4 : decode cX1_feast 4 = .ok (.aload_n 0, 1) := dk_42 (dk_at dksX1_feast_0 4 rfl rfl)
theorem dX1_feast_5 : decode cX1_feast 5 = .ok (.invokevirtual 529, 3) := dk_182 2 17 (dk_at dksX1_feast_0 5 rfl rfl)
theorem dX1_feast_8 : decode cX1_feast 8 = .ok (.aload_n 0, 1) := dk_42 (dk_at dksX1_feast_0 8 rfl rfl)
theorem dX1_feast_9 : decode cX1_feast 9 = .ok (.iload_n 1, 1) := dk_27 (dk_at dksX1_feast_0 9 rfl rfl)
theorem dX1_feast_10 : decode cX1_feast 10 = .ok (.invokevirtual 540, 3) := dk_182 2 28 (dk_at dksX1_feast_0 10 rfl rfl)
theorem dX1_feast_13 : decode cX1_feast 13 = .ok (.istore_n 3, 1) := dk_62 (dk_at dksX1_feast_0 13 rfl rfl)
theorem dX1_feast_14 : decode cX1_feast 14 = .ok (.iconst 0, 1) := dk_3 (dk_at dksX1_feast_0 14 rfl rfl)
theorem dX1_feast_15 : decode cX1_feast 15 = .ok (.istore 4, 2) := dk_54 4 (dk_at dksX1_feast_0 15 rfl rfl)
theorem dX1_feast_17 : decode cX1_feast 17 = .ok (.iconst 0, 1) := dk_3 (dk_at dksX1_feast_0 17 rfl rfl)
theorem dX1_feast_18 : decode cX1_feast 18 = .ok (.istore 5, 2) := dk_54 5 (dk_at dksX1_feast_0 18 rfl rfl)
theorem dX1_feast_20 : decode cX1_feast 20 = .ok (.iload 5, 2) := dk_21 5 (dk_at dksX1_feast_0 20 rfl rfl)
theorem dX1_feast_22 : decode cX1_feast 22 = .ok (.aload_n 0, 1) := dk_42 (dk_at dksX1_feast_0 22 rfl rfl)
theorem dX1_feast_23 : decode cX1_feast 23 = .ok (.getfield 10, 3) := dk_180 0 10 (dk_at dksX1_feast_1 0 rfl rfl)
theorem dX1_feast_26 : decode cX1_feast 26 = .ok (.getfield 154, 3) := dk_180 0 154 (dk_at dksX1_feast_1 3 rfl rfl)
theorem dX1_feast_29 : decode cX1_feast 29 = .ok (.if_icmp .ge 59, 3) := dk_162 0 59 (dk_at dksX1_feast_1 6 rfl rfl)
theorem dX1_feast_32 : decode cX1_feast 32 = .ok (.iload_n 3, 1) := dk_29 (dk_at dksX1_feast_1 9 rfl rfl)
theorem dX1_feast_33 : decode cX1_feast 33 = .ok (.iload 5, 2) := dk_21 5 (dk_at dksX1_feast_1 10 rfl rfl)
theorem dX1_feast_35 : decode cX1_feast 35 = .ok (.invokestatic 542, 3) := dk_184 2 30 (dk_at dksX1_feast_1 12 rfl rfl)
theorem dX1_feast_38 : decode cX1_feast 38 = .ok (.ifCond .ne 6, 3) := dk_154 0 6 (dk_at dksX1_feast_1 15 rfl rfl)
theorem dX1_feast_41 : decode cX1_feast 41 = .ok (.goto 41, 3) := dk_167 0 41 (dk_at dksX1_feast_1 18 rfl rfl)
theorem dX1_feast_44 : decode cX1_feast 44 = .ok (.iload 4, 2) := dk_21 4 (dk_at dksX1_feast_1 21 rfl rfl)
theorem dX1_feast_46 : decode cX1_feast 46 = .ok (.aload_n 0, 1) := dk_42 (dk_at dksX1_feast_1 23 rfl rfl)
theorem dX1_feast_47 : decode cX1_feast 47 = .ok (.getfield 10, 3) := dk_180 0 10 (dk_at dksX1_feast_2 0 rfl rfl)
theorem dX1_feast_50 : decode cX1_feast 50 = .ok (.getfield 160, 3) := dk_180 0 160 (dk_at dksX1_feast_2 3 rfl rfl)
theorem dX1_feast_53 : decode cX1_feast 53 = .ok (.iload 5, 2) := dk_21 5 (dk_at dksX1_feast_2 6 rfl rfl)
theorem dX1_feast_55 : decode cX1_feast 55 = .ok (.iaload, 1) := dk_46 (dk_at dksX1_feast_2 8 rfl rfl)
theorem dX1_feast_56 : decode cX1_feast 56 = .ok (.iload_n 2, 1) := dk_28 (dk_at dksX1_feast_2 9 rfl rfl)
theorem dX1_feast_57 : decode cX1_feast 57 = .ok (.if_icmp .eq 10, 3) := dk_159 0 10 (dk_at dksX1_feast_2 10 rfl rfl)
theorem dX1_feast_60 : decode cX1_feast 60 = .ok (.iconst 1, 1) := dk_4 (dk_at dksX1_feast_2 13 rfl rfl)
theorem dX1_feast_61 : decode cX1_feast 61 = .ok (.iload 5, 2) := dk_21 5 (dk_at dksX1_feast_2 14 rfl rfl)
theorem dX1_feast_63 : decode cX1_feast 63 = .ok (.ishl, 1) := dk_120 (dk_at dksX1_feast_2 16 rfl rfl)
theorem dX1_feast_64 : decode cX1_feast 64 = .ok (.goto 4, 3) := dk_167 0 4 (dk_at dksX1_feast_2 17 rfl rfl)
theorem dX1_feast_67 : decode cX1_feast 67 = .ok (.iconst 0, 1) := dk_3 (dk_at dksX1_feast_2 20 rfl rfl)
theorem dX1_feast_68 : decode cX1_feast 68 = .ok (.ior, 1) := dk_128 (dk_at dksX1_feast_2 21 rfl rfl)
theorem dX1_feast_69 : decode cX1_feast 69 = .ok (.istore 4, 2) := dk_54 4 (dk_at dksX1_feast_2 22 rfl rfl)
theorem dX1_feast_71 : decode cX1_feast 71 = .ok (.aload_n 0, 1) := dk_42 (dk_at dksX1_feast_3 0 rfl rfl)
theorem dX1_feast_72 : decode cX1_feast 72 = .ok (.getfield 10, 3) := dk_180 0 10 (dk_at dksX1_feast_3 1 rfl rfl)
theorem dX1_feast_75 : decode cX1_feast 75 = .ok (.getfield 160, 3) := dk_180 0 160 (dk_at dksX1_feast_3 4 rfl rfl)
theorem dX1_feast_78 : decode cX1_feast 78 = .ok (.iload 5, 2) := dk_21 5 (dk_at dksX1_feast_3 7 rfl rfl)
theorem dX1_feast_80 : decode cX1_feast 80 = .ok (.iload_n 2, 1) := dk_28 (dk_at dksX1_feast_3 9 rfl rfl)
theorem dX1_feast_81 : decode cX1_feast 81 = .ok (.iastore, 1) := dk_79 (dk_at dksX1_feast_3 10 rfl rfl)
theorem dX1_feast_82 : decode cX1_feast 82 = .ok (.iinc 5 1, 3) := dk_132 5 1 (dk_at dksX1_feast_3 11 rfl rfl)
theorem dX1_feast_85 : decode cX1_feast 85 = .ok (.goto (-65), 3) := dk_167 255 191 (dk_at dksX1_feast_3 14 rfl rfl)
theorem dX1_feast_88 : decode cX1_feast 88 = .ok (.iload 4, 2) := dk_21 4 (dk_at dksX1_feast_3 17 rfl rfl)
theorem dX1_feast_90 : decode cX1_feast 90 = .ok (.ireturn, 1) := dk_172 (dk_at dksX1_feast_3 19 rfl rfl)
abbrev cX1_expected : ByteArray := prog_1_method_63_code
def yX1_expected : MethodName := ⟨RX1, "expected", "(II)I"⟩
def dkwX1_expected_0 : List UInt8 := [42, 27, 182, 1, 184, 28, 184, 1, 178, 42, 27, 28, 182, 2, 34, 172]
abbrev dktX1_expected_0 : List UInt8 := dkwX1_expected_0 ++ []
theorem dksX1_expected_0 : cX1_expected.data.toList.drop 0 = dktX1_expected_0 := by decide +kernel
theorem dX1_expected_0 : decode cX1_expected 0 = .ok (.aload_n 0, 1) := dk_42 (dk_at dksX1_expected_0 0 rfl rfl)
theorem dX1_expected_1 : decode cX1_expected 1 = .ok (.iload_n 1, 1) := dk_27 (dk_at dksX1_expected_0 1 rfl rfl)
theorem dX1_expected_2 : decode cX1_expected 2 = .ok (.invokevirtual 440, 3) := dk_182 1 184 (dk_at dksX1_expected_0 2 rfl rfl)
theorem dX1_expected_5 : decode cX1_expected 5 = .ok (.iload_n 2, 1) := dk_28 (dk_at dksX1_expected_0 5 rfl rfl)
theorem dX1_expected_6 : decode cX1_expected 6 = .ok (.invokestatic 434, 3) := dk_184 1 178 (dk_at dksX1_expected_0 6 rfl rfl)
theorem dX1_expected_9 : decode cX1_expected 9 = .ok (.aload_n 0, 1) := dk_42 (dk_at dksX1_expected_0 9 rfl rfl)
theorem dX1_expected_10 : decode cX1_expected 10 = .ok (.iload_n 1, 1) := dk_27 (dk_at dksX1_expected_0 10 rfl rfl)
theorem dX1_expected_11 : decode cX1_expected 11 = .ok (.iload_n 2, 1) := dk_28 (dk_at dksX1_expected_0 11 rfl rfl)
theorem dX1_expected_12 : decode cX1_expected 12 = .ok (.invokevirtual 546, 3) := dk_182 2 34 (dk_at dksX1_expected_0 12 rfl rfl)
theorem dX1_expected_15 : decode cX1_expected 15 = .ok (.ireturn, 1) := dk_172 (dk_at dksX1_expected_0 15 rfl rfl)
abbrev cX1_best : ByteArray := prog_1_method_64_code
def yX1_best : MethodName := ⟨RX1, "best", "(I)I"⟩
def dkwX1_best_0 : List UInt8 := [42, 27, 182, 1, 184, 42, 27, 182, 2, 37, 172]
abbrev dktX1_best_0 : List UInt8 := dkwX1_best_0 ++ []
theorem dksX1_best_0 : cX1_best.data.toList.drop 0 = dktX1_best_0 := by decide +kernel
theorem dX1_best_0 : decode cX1_best 0 = .ok (.aload_n 0, 1) := dk_42 (dk_at dksX1_best_0 0 rfl rfl)
theorem dX1_best_1 : decode cX1_best 1 = .ok (.iload_n 1, 1) := dk_27 (dk_at dksX1_best_0 1 rfl rfl)
theorem dX1_best_2 : decode cX1_best 2 = .ok (.invokevirtual 440, 3) := dk_182 1 184 (dk_at dksX1_best_0 2 rfl rfl)
theorem dX1_best_5 : decode cX1_best 5 = .ok (.aload_n 0, 1) := dk_42 (dk_at dksX1_best_0 5 rfl rfl)
theorem dX1_best_6 : decode cX1_best 6 = .ok (.iload_n 1, 1) := dk_27 (dk_at dksX1_best_0 6 rfl rfl)
theorem dX1_best_7 : decode cX1_best 7 = .ok (.invokevirtual 549, 3) := dk_182 2 37 (dk_at dksX1_best_0 7 rfl rfl)
theorem dX1_best_10 : decode cX1_best 10 = .ok (.ireturn, 1) := dk_172 (dk_at dksX1_best_0 10 rfl rfl)
abbrev cX1_odds : ByteArray := prog_1_method_67_code
def yX1_odds : MethodName := ⟨RX1, "odds", "(II)I"⟩
def dkwX1_odds_1 : List UInt8 := [167, 0, 18, 17, 39, 16, 42, 180, 0, 10, 27, 28, 182, 1, 187, 104, 29, 108, 172]
abbrev dktX1_odds_1 : List UInt8 := dkwX1_odds_1 ++ []
def dkwX1_odds_0 : List UInt8 := [42, 27, 182, 1, 184, 28, 184, 1, 178, 42, 180, 0, 10, 27, 182, 2, 43, 62, 29, 154, 0, 7, 3]
abbrev dktX1_odds_0 : List UInt8 := dkwX1_odds_0 ++ dktX1_odds_1
theorem dksX1_odds_0 : cX1_odds.data.toList.drop 0 = dktX1_odds_0 := by decide +kernel
theorem dksX1_odds_1 : cX1_odds.data.toList.drop 23 = dktX1_odds_1 := dk_seg dksX1_odds_0 23 rfl rfl
theorem dX1_odds_0 : decode cX1_odds 0 = .ok (.aload_n 0, 1) := dk_42 (dk_at dksX1_odds_0 0 rfl rfl)
theorem dX1_odds_1 : decode cX1_odds 1 = .ok (.iload_n 1, 1) := dk_27 (dk_at dksX1_odds_0 1 rfl rfl)
theorem dX1_odds_2 : decode cX1_odds 2 = .ok (.invokevirtual 440, 3) := dk_182 1 184 (dk_at dksX1_odds_0 2 rfl rfl)
theorem dX1_odds_5 : decode cX1_odds 5 = .ok (.iload_n 2, 1) := dk_28 (dk_at dksX1_odds_0 5 rfl rfl)
theorem dX1_odds_6 : decode cX1_odds 6 = .ok (.invokestatic 434, 3) := dk_184 1 178 (dk_at dksX1_odds_0 6 rfl rfl)
theorem dX1_odds_9 : decode cX1_odds 9 = .ok (.aload_n 0, 1) := dk_42 (dk_at dksX1_odds_0 9 rfl rfl)
theorem dX1_odds_10 : decode cX1_odds 10 = .ok (.getfield 10, 3) := dk_180 0 10 (dk_at dksX1_odds_0 10 rfl rfl)
theorem dX1_odds_13 : decode cX1_odds 13 = .ok (.iload_n 1, 1) := dk_27 (dk_at dksX1_odds_0 13 rfl rfl)
theorem dX1_odds_14 : decode cX1_odds 14 = .ok (.invokevirtual 555, 3) := dk_182 2 43 (dk_at dksX1_odds_0 14 rfl rfl)
theorem dX1_odds_17 : decode cX1_odds 17 = .ok (.istore_n 3, 1) := dk_62 (dk_at dksX1_odds_0 17 rfl rfl)
theorem dX1_odds_18 : decode cX1_odds 18 = .ok (.iload_n 3, 1) := dk_29 (dk_at dksX1_odds_0 18 rfl rfl)
theorem dX1_odds_19 : decode cX1_odds 19 = .ok (.ifCond .ne 7, 3) := dk_154 0 7 (dk_at dksX1_odds_0 19 rfl rfl)
theorem dX1_odds_22 : decode cX1_odds 22 = .ok (.iconst 0, 1) := dk_3 (dk_at dksX1_odds_0 22 rfl rfl)
theorem dX1_odds_23 : decode cX1_odds 23 = .ok (.goto 18, 3) := dk_167 0 18 (dk_at dksX1_odds_1 0 rfl rfl)
theorem dX1_odds_26 : decode cX1_odds 26 = .ok (.sipush 10000, 3) := dk_17 39 16 (dk_at dksX1_odds_1 3 rfl rfl)
theorem dX1_odds_29 : decode cX1_odds 29 = .ok (.aload_n 0, 1) := dk_42 (dk_at dksX1_odds_1 6 rfl rfl)
theorem dX1_odds_30 : decode cX1_odds 30 = .ok (.getfield 10, 3) := dk_180 0 10 (dk_at dksX1_odds_1 7 rfl rfl)
theorem dX1_odds_33 : decode cX1_odds 33 = .ok (.iload_n 1, 1) := dk_27 (dk_at dksX1_odds_1 10 rfl rfl)
theorem dX1_odds_34 : decode cX1_odds 34 = .ok (.iload_n 2, 1) := dk_28 (dk_at dksX1_odds_1 11 rfl rfl)
theorem dX1_odds_35 : decode cX1_odds 35 = .ok (.invokevirtual 443, 3) := dk_182 1 187 (dk_at dksX1_odds_1 12 rfl rfl)
theorem dX1_odds_38 : decode cX1_odds 38 = .ok (.imul, 1) := dk_104 (dk_at dksX1_odds_1 15 rfl rfl)
theorem dX1_odds_39 : decode cX1_odds 39 = .ok (.iload_n 3, 1) := dk_29 (dk_at dksX1_odds_1 16 rfl rfl)
theorem dX1_odds_40 : decode cX1_odds 40 = .ok (.idiv, 1) := dk_108 (dk_at dksX1_odds_1 17 rfl rfl)
theorem dX1_odds_41 : decode cX1_odds 41 = .ok (.ireturn, 1) := dk_172 (dk_at dksX1_odds_1 18 rfl rfl)
abbrev cX1_from : ByteArray := prog_1_method_69_code
def yX1_from : MethodName := ⟨RX1, "from", "(Z)I"⟩
def dkwX1_from_6 : List UInt8 := [167, 255, 195, 27, 153, 0, 8, 21, 4, 167, 0, 4, 29, 172]
abbrev dktX1_from_6 : List UInt8 := dkwX1_from_6 ++ []
def dkwX1_from_5 : List UInt8 := [25, 7, 25, 5, 182, 2, 66, 154, 0, 6, 167, 0, 11, 21, 6, 54, 4, 25, 7, 58, 5, 132, 6, 1]
abbrev dktX1_from_5 : List UInt8 := dkwX1_from_5 ++ dktX1_from_6
def dkwX1_from_4 : List UInt8 := [21, 6, 182, 2, 62, 58, 7, 25, 7, 180, 2, 49, 9, 148, 158, 0, 10, 29, 4, 21, 6, 120, 128, 62]
abbrev dktX1_from_4 : List UInt8 := dkwX1_from_4 ++ dktX1_from_5
def dkwX1_from_3 : List UInt8 := [58, 5, 25, 5, 9, 181, 2, 49, 3, 54, 6, 21, 6, 42, 180, 0, 10, 180, 0, 137, 162, 0, 55, 42]
abbrev dktX1_from_3 : List UInt8 := dkwX1_from_3 ++ dktX1_from_4
def dkwX1_from_2 : List UInt8 := [184, 1, 158, 184, 1, 175, 132, 3, 1, 167, 255, 230, 3, 62, 2, 54, 4, 187, 2, 46, 89, 183, 2, 48]
abbrev dktX1_from_2 : List UInt8 := dkwX1_from_2 ++ dktX1_from_3
def dkwX1_from_1 : List UInt8 := [184, 1, 175, 3, 62, 29, 44, 180, 2, 53, 162, 0, 24, 44, 180, 2, 56, 29, 51, 3, 16, 31]
abbrev dktX1_from_1 : List UInt8 := dkwX1_from_1 ++ dktX1_from_2
def dkwX1_from_0 : List UInt8 := [42, 180, 0, 25, 77, 44, 182, 0, 251, 44, 180, 2, 53, 7, 163, 0, 7, 4, 167, 0, 4, 3]
abbrev dktX1_from_0 : List UInt8 := dkwX1_from_0 ++ dktX1_from_1
theorem dksX1_from_0 : cX1_from.data.toList.drop 0 = dktX1_from_0 := by decide +kernel
theorem dksX1_from_1 : cX1_from.data.toList.drop 22 = dktX1_from_1 := dk_seg dksX1_from_0 22 rfl rfl
theorem dksX1_from_2 : cX1_from.data.toList.drop 44 = dktX1_from_2 := dk_seg dksX1_from_1 22 rfl rfl
theorem dksX1_from_3 : cX1_from.data.toList.drop 68 = dktX1_from_3 := dk_seg dksX1_from_2 24 rfl rfl
theorem dksX1_from_4 : cX1_from.data.toList.drop 92 = dktX1_from_4 := dk_seg dksX1_from_3 24 rfl rfl
theorem dksX1_from_5 : cX1_from.data.toList.drop 116 = dktX1_from_5 := dk_seg dksX1_from_4 24 rfl rfl
theorem dksX1_from_6 : cX1_from.data.toList.drop 140 = dktX1_from_6 := dk_seg dksX1_from_5 24 rfl rfl
theorem dX1_from_0 : decode cX1_from 0 = .ok (.aload_n 0, 1) := dk_42 (dk_at dksX1_from_0 0 rfl rfl)
theorem dX1_from_1 : decode cX1_from 1 = .ok (.getfield 25, 3) := dk_180 0 25 (dk_at dksX1_from_0 1 rfl rfl)
theorem dX1_from_4 : decode cX1_from 4 = .ok (.astore_n 2, 1) := dk_77 (dk_at dksX1_from_0 4 rfl rfl)
theorem dX1_from_5 : decode cX1_from 5 = .ok (.aload_n 2, 1) := dk_44 (dk_at dksX1_from_0 5 rfl rfl)
theorem dX1_from_6 : decode cX1_from 6 = .ok (.invokevirtual 251, 3) := dk_182 0 251 (dk_at dksX1_from_0 6 rfl rfl)
theorem dX1_from_9 : decode cX1_from 9 = .ok (.aload_n 2, 1) := dk_44 (dk_at dksX1_from_0 9 rfl rfl)
theorem dX1_from_10 : decode cX1_from 10 = .ok (.getfield 565, 3) := dk_180 2 53 (dk_at dksX1_from_0 10 rfl rfl)
theorem dX1_from_13 : decode cX1_from 13 = .ok (.iconst 4, 1) := dk_7 (dk_at dksX1_from_0 13 rfl rfl)
theorem dX1_from_14 : decode cX1_from 14 = .ok (.if_icmp .gt 7, 3) := dk_163 0 7 (dk_at dksX1_from_0 14 rfl rfl)
theorem dX1_from_17 : decode cX1_from 17 = .ok (.iconst 1, 1) := dk_4 (dk_at dksX1_from_0 17 rfl rfl)
theorem dX1_from_18 : decode cX1_from 18 = .ok (.goto 4, 3) := dk_167 0 4 (dk_at dksX1_from_0 18 rfl rfl)
theorem dX1_from_21 : decode cX1_from 21 = .ok (.iconst 0, 1) := dk_3 (dk_at dksX1_from_0 21 rfl rfl)
theorem dX1_from_22 : decode cX1_from 22 = .ok (.invokestatic 431, 3) := dk_184 1 175 (dk_at dksX1_from_1 0 rfl rfl)
theorem dX1_from_25 : decode cX1_from 25 = .ok (.iconst 0, 1) := dk_3 (dk_at dksX1_from_1 3 rfl rfl)
theorem dX1_from_26 : decode cX1_from 26 = .ok (.istore_n 3, 1) := dk_62 (dk_at dksX1_from_1 4 rfl rfl)
theorem dX1_from_27 : decode cX1_from 27 = .ok (.iload_n 3, 1) := dk_29 (dk_at dksX1_from_1 5 rfl rfl)
theorem dX1_from_28 : decode cX1_from 28 = .ok (.aload_n 2, 1) := dk_44 (dk_at dksX1_from_1 6 rfl rfl)
theorem dX1_from_29 : decode cX1_from 29 = .ok (.getfield 565, 3) := dk_180 2 53 (dk_at dksX1_from_1 7 rfl rfl)
theorem dX1_from_32 : decode cX1_from 32 = .ok (.if_icmp .ge 24, 3) := dk_162 0 24 (dk_at dksX1_from_1 10 rfl rfl)
theorem dX1_from_35 : decode cX1_from 35 = .ok (.aload_n 2, 1) := dk_44 (dk_at dksX1_from_1 13 rfl rfl)
theorem dX1_from_36 : decode cX1_from 36 = .ok (.getfield 568, 3) := dk_180 2 56 (dk_at dksX1_from_1 14 rfl rfl)
theorem dX1_from_39 : decode cX1_from 39 = .ok (.iload_n 3, 1) := dk_29 (dk_at dksX1_from_1 17 rfl rfl)
theorem dX1_from_40 : decode cX1_from 40 = .ok (.baload, 1) := dk_51 (dk_at dksX1_from_1 18 rfl rfl)
theorem dX1_from_41 : decode cX1_from 41 = .ok (.iconst 0, 1) := dk_3 (dk_at dksX1_from_1 19 rfl rfl)
theorem dX1_from_42 : decode cX1_from 42 = .ok (.bipush 31, 2) := dk_16 31 (dk_at dksX1_from_1 20 rfl rfl)
theorem dX1_from_44 : decode cX1_from 44 = .ok (.invokestatic 414, 3) := dk_184 1 158 (dk_at dksX1_from_2 0 rfl rfl)
theorem dX1_from_47 : decode cX1_from 47 = .ok (.invokestatic 431, 3) := dk_184 1 175 (dk_at dksX1_from_2 3 rfl rfl)
theorem dX1_from_50 : decode cX1_from 50 = .ok (.iinc 3 1, 3) := dk_132 3 1 (dk_at dksX1_from_2 6 rfl rfl)
theorem dX1_from_53 : decode cX1_from 53 = .ok (.goto (-26), 3) := dk_167 255 230 (dk_at dksX1_from_2 9 rfl rfl)
theorem dX1_from_56 : decode cX1_from 56 = .ok (.iconst 0, 1) := dk_3 (dk_at dksX1_from_2 12 rfl rfl)
theorem dX1_from_57 : decode cX1_from 57 = .ok (.istore_n 3, 1) := dk_62 (dk_at dksX1_from_2 13 rfl rfl)
theorem dX1_from_58 : decode cX1_from 58 = .ok (.iconst (-1), 1) := dk_2 (dk_at dksX1_from_2 14 rfl rfl)
theorem dX1_from_59 : decode cX1_from 59 = .ok (.istore 4, 2) := dk_54 4 (dk_at dksX1_from_2 15 rfl rfl)
theorem dX1_from_61 : decode cX1_from 61 = .ok (.new 558, 3) := dk_187 2 46 (dk_at dksX1_from_2 17 rfl rfl)
theorem dX1_from_64 : decode cX1_from 64 = .ok (.dup, 1) := dk_89 (dk_at dksX1_from_2 20 rfl rfl)
theorem dX1_from_65 : decode cX1_from 65 = .ok (.invokespecial 560, 3) := dk_183 2 48 (dk_at dksX1_from_2 21 rfl rfl)
theorem dX1_from_68 : decode cX1_from 68 = .ok (.astore 5, 2) := dk_58 5 (dk_at dksX1_from_3 0 rfl rfl)
theorem dX1_from_70 : decode cX1_from 70 = .ok (.aload 5, 2) := dk_25 5 (dk_at dksX1_from_3 2 rfl rfl)
theorem dX1_from_72 : decode cX1_from 72 = .ok (.lconst 0, 1) := dk_9 (dk_at dksX1_from_3 4 rfl rfl)
theorem dX1_from_73 : decode cX1_from 73 = .ok (.putfield 561, 3) := dk_181 2 49 (dk_at dksX1_from_3 5 rfl rfl)
theorem dX1_from_76 : decode cX1_from 76 = .ok (.iconst 0, 1) := dk_3 (dk_at dksX1_from_3 8 rfl rfl)
theorem dX1_from_77 : decode cX1_from 77 = .ok (.istore 6, 2) := dk_54 6 (dk_at dksX1_from_3 9 rfl rfl)
theorem dX1_from_79 : decode cX1_from 79 = .ok (.iload 6, 2) := dk_21 6 (dk_at dksX1_from_3 11 rfl rfl)
theorem dX1_from_81 : decode cX1_from 81 = .ok (.aload_n 0, 1) := dk_42 (dk_at dksX1_from_3 13 rfl rfl)
theorem dX1_from_82 : decode cX1_from 82 = .ok (.getfield 10, 3) := dk_180 0 10 (dk_at dksX1_from_3 14 rfl rfl)
theorem dX1_from_85 : decode cX1_from 85 = .ok (.getfield 137, 3) := dk_180 0 137 (dk_at dksX1_from_3 17 rfl rfl)
theorem dX1_from_88 : decode cX1_from 88 = .ok (.if_icmp .ge 55, 3) := dk_162 0 55 (dk_at dksX1_from_3 20 rfl rfl)
theorem dX1_from_91 : decode cX1_from 91 = .ok (.aload_n 0, 1) := dk_42 (dk_at dksX1_from_3 23 rfl rfl)
theorem dX1_from_92 : decode cX1_from 92 = .ok (.iload 6, 2) := dk_21 6 (dk_at dksX1_from_4 0 rfl rfl)
theorem dX1_from_94 : decode cX1_from 94 = .ok (.invokevirtual 574, 3) := dk_182 2 62 (dk_at dksX1_from_4 2 rfl rfl)
theorem dX1_from_97 : decode cX1_from 97 = .ok (.astore 7, 2) := dk_58 7 (dk_at dksX1_from_4 5 rfl rfl)
theorem dX1_from_99 : decode cX1_from 99 = .ok (.aload 7, 2) := dk_25 7 (dk_at dksX1_from_4 7 rfl rfl)
theorem dX1_from_101 : decode cX1_from 101 = .ok (.getfield 561, 3) := dk_180 2 49 (dk_at dksX1_from_4 9 rfl rfl)
theorem dX1_from_104 : decode cX1_from 104 = .ok (.lconst 0, 1) := dk_9 (dk_at dksX1_from_4 12 rfl rfl)
theorem dX1_from_105 : decode cX1_from 105 = .ok (.lcmp, 1) := dk_148 (dk_at dksX1_from_4 13 rfl rfl)
theorem dX1_from_106 : decode cX1_from 106 = .ok (.ifCond .le 10, 3) := dk_158 0 10 (dk_at dksX1_from_4 14 rfl rfl)
theorem dX1_from_109 : decode cX1_from 109 = .ok (.iload_n 3, 1) := dk_29 (dk_at dksX1_from_4 17 rfl rfl)
theorem dX1_from_110 : decode cX1_from 110 = .ok (.iconst 1, 1) := dk_4 (dk_at dksX1_from_4 18 rfl rfl)
theorem dX1_from_111 : decode cX1_from 111 = .ok (.iload 6, 2) := dk_21 6 (dk_at dksX1_from_4 19 rfl rfl)
theorem dX1_from_113 : decode cX1_from 113 = .ok (.ishl, 1) := dk_120 (dk_at dksX1_from_4 21 rfl rfl)
theorem dX1_from_114 : decode cX1_from 114 = .ok (.ior, 1) := dk_128 (dk_at dksX1_from_4 22 rfl rfl)
theorem dX1_from_115 : decode cX1_from 115 = .ok (.istore_n 3, 1) := dk_62 (dk_at dksX1_from_4 23 rfl rfl)
theorem dX1_from_116 : decode cX1_from 116 = .ok (.aload 7, 2) := dk_25 7 (dk_at dksX1_from_5 0 rfl rfl)
theorem dX1_from_118 : decode cX1_from 118 = .ok (.aload 5, 2) := dk_25 5 (dk_at dksX1_from_5 2 rfl rfl)
theorem dX1_from_120 : decode cX1_from 120 = .ok (.invokevirtual 578, 3) := dk_182 2 66 (dk_at dksX1_from_5 4 rfl rfl)
theorem dX1_from_123 : decode cX1_from 123 = .ok (.ifCond .ne 6, 3) := dk_154 0 6 (dk_at dksX1_from_5 7 rfl rfl)
theorem dX1_from_126 : decode cX1_from 126 = .ok (.goto 11, 3) := dk_167 0 11 (dk_at dksX1_from_5 10 rfl rfl)
theorem dX1_from_129 : decode cX1_from 129 = .ok (.iload 6, 2) := dk_21 6 (dk_at dksX1_from_5 13 rfl rfl)
theorem dX1_from_131 : decode cX1_from 131 = .ok (.istore 4, 2) := dk_54 4 (dk_at dksX1_from_5 15 rfl rfl)
theorem dX1_from_133 : decode cX1_from 133 = .ok (.aload 7, 2) := dk_25 7 (dk_at dksX1_from_5 17 rfl rfl)
theorem dX1_from_135 : decode cX1_from 135 = .ok (.astore 5, 2) := dk_58 5 (dk_at dksX1_from_5 19 rfl rfl)
theorem dX1_from_137 : decode cX1_from 137 = .ok (.iinc 6 1, 3) := dk_132 6 1 (dk_at dksX1_from_5 21 rfl rfl)
theorem dX1_from_140 : decode cX1_from 140 = .ok (.goto (-61), 3) := dk_167 255 195 (dk_at dksX1_from_6 0 rfl rfl)
theorem dX1_from_143 : decode cX1_from 143 = .ok (.iload_n 1, 1) := dk_27 (dk_at dksX1_from_6 3 rfl rfl)
theorem dX1_from_144 : decode cX1_from 144 = .ok (.ifCond .eq 8, 3) := dk_153 0 8 (dk_at dksX1_from_6 4 rfl rfl)
theorem dX1_from_147 : decode cX1_from 147 = .ok (.iload 4, 2) := dk_21 4 (dk_at dksX1_from_6 7 rfl rfl)
theorem dX1_from_149 : decode cX1_from 149 = .ok (.goto 4, 3) := dk_167 0 4 (dk_at dksX1_from_6 9 rfl rfl)
theorem dX1_from_152 : decode cX1_from 152 = .ok (.iload_n 3, 1) := dk_29 (dk_at dksX1_from_6 12 rfl rfl)
theorem dX1_from_153 : decode cX1_from 153 = .ok (.ireturn, 1) := dk_172 (dk_at dksX1_from_6 13 rfl rfl)
abbrev cX1_likely : ByteArray := prog_1_method_68_code
def yX1_likely : MethodName := ⟨RX1, "likely", "(I)LCheekTown$Share;"⟩
def dkwX1_likely_3 : List UInt8 := [167, 255, 214, 44, 176]
abbrev dktX1_likely_3 : List UInt8 := dkwX1_likely_3 ++ []
def dkwX1_likely_2 : List UInt8 := [180, 0, 10, 27, 42, 180, 0, 25, 180, 2, 56, 21, 4, 51, 182, 1, 187, 29, 182, 2, 60, 132, 4, 1]
abbrev dktX1_likely_2 : List UInt8 := dkwX1_likely_2 ++ dktX1_likely_3
def dkwX1_likely_1 : List UInt8 := [181, 2, 49, 3, 54, 4, 21, 4, 42, 180, 0, 25, 180, 2, 53, 162, 0, 36, 29, 158, 0, 32, 44, 42]
abbrev dktX1_likely_1 : List UInt8 := dkwX1_likely_1 ++ dktX1_likely_2
def dkwX1_likely_0 : List UInt8 := [187, 2, 46, 89, 183, 2, 48, 77, 42, 180, 0, 10, 27, 182, 2, 43, 62, 29, 154, 0, 8, 44, 9]
abbrev dktX1_likely_0 : List UInt8 := dkwX1_likely_0 ++ dktX1_likely_1
theorem dksX1_likely_0 : cX1_likely.data.toList.drop 0 = dktX1_likely_0 := by decide +kernel
theorem dksX1_likely_1 : cX1_likely.data.toList.drop 23 = dktX1_likely_1 := dk_seg dksX1_likely_0 23 rfl rfl
theorem dksX1_likely_2 : cX1_likely.data.toList.drop 47 = dktX1_likely_2 := dk_seg dksX1_likely_1 24 rfl rfl
theorem dksX1_likely_3 : cX1_likely.data.toList.drop 71 = dktX1_likely_3 := dk_seg dksX1_likely_2 24 rfl rfl
theorem dX1_likely_0 : decode cX1_likely 0 = .ok (.new 558, 3) := dk_187 2 46 (dk_at dksX1_likely_0 0 rfl rfl)
theorem dX1_likely_3 : decode cX1_likely 3 = .ok (.dup, 1) := dk_89 (dk_at dksX1_likely_0 3 rfl rfl)
theorem dX1_likely_4 : decode cX1_likely 4 = .ok (.invokespecial 560, 3) := dk_183 2 48 (dk_at dksX1_likely_0 4 rfl rfl)
theorem dX1_likely_7 : decode cX1_likely 7 = .ok (.astore_n 2, 1) := dk_77 (dk_at dksX1_likely_0 7 rfl rfl)
theorem dX1_likely_8 : decode cX1_likely 8 = .ok (.aload_n 0, 1) := dk_42 (dk_at dksX1_likely_0 8 rfl rfl)
theorem dX1_likely_9 : decode cX1_likely 9 = .ok (.getfield 10, 3) := dk_180 0 10 (dk_at dksX1_likely_0 9 rfl rfl)
theorem dX1_likely_12 : decode cX1_likely 12 = .ok (.iload_n 1, 1) := dk_27 (dk_at dksX1_likely_0 12 rfl rfl)
theorem dX1_likely_13 : decode cX1_likely 13 = .ok (.invokevirtual 555, 3) := dk_182 2 43 (dk_at dksX1_likely_0 13 rfl rfl)
theorem dX1_likely_16 : decode cX1_likely 16 = .ok (.istore_n 3, 1) := dk_62 (dk_at dksX1_likely_0 16 rfl rfl)
theorem dX1_likely_17 : decode cX1_likely 17 = .ok (.iload_n 3, 1) := dk_29 (dk_at dksX1_likely_0 17 rfl rfl)
theorem dX1_likely_18 : decode cX1_likely 18 = .ok (.ifCond .ne 8, 3) := dk_154 0 8 (dk_at dksX1_likely_0 18 rfl rfl)
theorem dX1_likely_21 : decode cX1_likely 21 = .ok (.aload_n 2, 1) := dk_44 (dk_at dksX1_likely_0 21 rfl rfl)
theorem dX1_likely_22 : decode cX1_likely 22 = .ok (.lconst 0, 1) := dk_9 (dk_at dksX1_likely_0 22 rfl rfl)
theorem dX1_likely_23 : decode cX1_likely 23 = .ok (.putfield 561, 3) := dk_181 2 49 (dk_at dksX1_likely_1 0 rfl rfl)
theorem dX1_likely_26 : decode cX1_likely 26 = .ok (.iconst 0, 1) := dk_3 (dk_at dksX1_likely_1 3 rfl rfl)
theorem dX1_likely_27 : decode cX1_likely 27 = .ok (.istore 4, 2) := dk_54 4 (dk_at dksX1_likely_1 4 rfl rfl)
theorem dX1_likely_29 : decode cX1_likely 29 = .ok (.iload 4, 2) := dk_21 4 (dk_at dksX1_likely_1 6 rfl rfl)
theorem dX1_likely_31 : decode cX1_likely 31 = .ok (.aload_n 0, 1) := dk_42 (dk_at dksX1_likely_1 8 rfl rfl)
theorem dX1_likely_32 : decode cX1_likely 32 = .ok (.getfield 25, 3) := dk_180 0 25 (dk_at dksX1_likely_1 9 rfl rfl)
theorem dX1_likely_35 : decode cX1_likely 35 = .ok (.getfield 565, 3) := dk_180 2 53 (dk_at dksX1_likely_1 12 rfl rfl)
theorem dX1_likely_38 : decode cX1_likely 38 = .ok (.if_icmp .ge 36, 3) := dk_162 0 36 (dk_at dksX1_likely_1 15 rfl rfl)
theorem dX1_likely_41 : decode cX1_likely 41 = .ok (.iload_n 3, 1) := dk_29 (dk_at dksX1_likely_1 18 rfl rfl)
theorem dX1_likely_42 : decode cX1_likely 42 = .ok (.ifCond .le 32, 3) := dk_158 0 32 (dk_at dksX1_likely_1 19 rfl rfl)
theorem dX1_likely_45 : decode cX1_likely 45 = .ok (.aload_n 2, 1) := dk_44 (dk_at dksX1_likely_1 22 rfl rfl)
theorem dX1_likely_46 : decode cX1_likely 46 = .ok (.aload_n 0, 1) := dk_42 (dk_at dksX1_likely_1 23 rfl rfl)
theorem dX1_likely_47 : decode cX1_likely 47 = .ok (.getfield 10, 3) := dk_180 0 10 (dk_at dksX1_likely_2 0 rfl rfl)
theorem dX1_likely_50 : decode cX1_likely 50 = .ok (.iload_n 1, 1) := dk_27 (dk_at dksX1_likely_2 3 rfl rfl)
theorem dX1_likely_51 : decode cX1_likely 51 = .ok (.aload_n 0, 1) := dk_42 (dk_at dksX1_likely_2 4 rfl rfl)
theorem dX1_likely_52 : decode cX1_likely 52 = .ok (.getfield 25, 3) := dk_180 0 25 (dk_at dksX1_likely_2 5 rfl rfl)
theorem dX1_likely_55 : decode cX1_likely 55 = .ok (.getfield 568, 3) := dk_180 2 56 (dk_at dksX1_likely_2 8 rfl rfl)
theorem dX1_likely_58 : decode cX1_likely 58 = .ok (.iload 4, 2) := dk_21 4 (dk_at dksX1_likely_2 11 rfl rfl)
theorem dX1_likely_60 : decode cX1_likely 60 = .ok (.baload, 1) := dk_51 (dk_at dksX1_likely_2 13 rfl rfl)
theorem dX1_likely_61 : decode cX1_likely 61 = .ok (.invokevirtual 443, 3) := dk_182 1 187 (dk_at dksX1_likely_2 14 rfl rfl)
theorem dX1_likely_64 : decode cX1_likely 64 = .ok (.iload_n 3, 1) := dk_29 (dk_at dksX1_likely_2 17 rfl rfl)
theorem dX1_likely_65 : decode cX1_likely 65 = .ok (.invokevirtual 572, 3) := dk_182 2 60 (dk_at dksX1_likely_2 18 rfl rfl)
theorem dX1_likely_68 : decode cX1_likely 68 = .ok (.iinc 4 1, 3) := dk_132 4 1 (dk_at dksX1_likely_2 21 rfl rfl)
theorem dX1_likely_71 : decode cX1_likely 71 = .ok (.goto (-42), 3) := dk_167 255 214 (dk_at dksX1_likely_3 0 rfl rfl)
theorem dX1_likely_74 : decode cX1_likely 74 = .ok (.aload_n 2, 1) := dk_44 (dk_at dksX1_likely_3 3 rfl rfl)
theorem dX1_likely_75 : decode cX1_likely 75 = .ok (.areturn, 1) := dk_176 (dk_at dksX1_likely_3 4 rfl rfl)
abbrev cX1_rests : ByteArray := prog_1_method_76_code
def yX1_rests : MethodName := ⟨RX1, "rests", "(II)I"⟩
def dkwX1_rests_3 : List UInt8 := [21, 4, 120, 128, 62, 132, 4, 1, 167, 255, 191, 29, 172]
abbrev dktX1_rests_3 : List UInt8 := dkwX1_rests_3 ++ []
def dkwX1_rests_2 : List UInt8 := [167, 0, 4, 3, 21, 4, 4, 164, 0, 7, 4, 167, 0, 4, 3, 182, 2, 83, 153, 0, 10, 29, 4]
abbrev dktX1_rests_2 : List UInt8 := dkwX1_rests_2 ++ dktX1_rests_3
def dkwX1_rests_1 : List UInt8 := [180, 0, 160, 27, 46, 42, 180, 0, 10, 180, 0, 160, 28, 46, 21, 4, 5, 112, 4, 160, 0, 7, 4]
abbrev dktX1_rests_1 : List UInt8 := dkwX1_rests_1 ++ dktX1_rests_2
def dkwX1_rests_0 : List UInt8 := [42, 27, 28, 182, 1, 200, 3, 62, 3, 54, 4, 21, 4, 7, 162, 0, 65, 42, 42, 180, 0, 10]
abbrev dktX1_rests_0 : List UInt8 := dkwX1_rests_0 ++ dktX1_rests_1
theorem dksX1_rests_0 : cX1_rests.data.toList.drop 0 = dktX1_rests_0 := by decide +kernel
theorem dksX1_rests_1 : cX1_rests.data.toList.drop 22 = dktX1_rests_1 := dk_seg dksX1_rests_0 22 rfl rfl
theorem dksX1_rests_2 : cX1_rests.data.toList.drop 45 = dktX1_rests_2 := dk_seg dksX1_rests_1 23 rfl rfl
theorem dksX1_rests_3 : cX1_rests.data.toList.drop 68 = dktX1_rests_3 := dk_seg dksX1_rests_2 23 rfl rfl
theorem dX1_rests_0 : decode cX1_rests 0 = .ok (.aload_n 0, 1) := dk_42 (dk_at dksX1_rests_0 0 rfl rfl)
theorem dX1_rests_1 : decode cX1_rests 1 = .ok (.iload_n 1, 1) := dk_27 (dk_at dksX1_rests_0 1 rfl rfl)
theorem dX1_rests_2 : decode cX1_rests 2 = .ok (.iload_n 2, 1) := dk_28 (dk_at dksX1_rests_0 2 rfl rfl)
theorem dX1_rests_3 : decode cX1_rests 3 = .ok (.invokevirtual 456, 3) := dk_182 1 200 (dk_at dksX1_rests_0 3 rfl rfl)
theorem dX1_rests_6 : decode cX1_rests 6 = .ok (.iconst 0, 1) := dk_3 (dk_at dksX1_rests_0 6 rfl rfl)
theorem dX1_rests_7 : decode cX1_rests 7 = .ok (.istore_n 3, 1) := dk_62 (dk_at dksX1_rests_0 7 rfl rfl)
theorem dX1_rests_8 : decode cX1_rests 8 = .ok (.iconst 0, 1) := dk_3 (dk_at dksX1_rests_0 8 rfl rfl)
theorem dX1_rests_9 : decode cX1_rests 9 = .ok (.istore 4, 2) := dk_54 4 (dk_at dksX1_rests_0 9 rfl rfl)
theorem dX1_rests_11 : decode cX1_rests 11 = .ok (.iload 4, 2) := dk_21 4 (dk_at dksX1_rests_0 11 rfl rfl)
theorem dX1_rests_13 : decode cX1_rests 13 = .ok (.iconst 4, 1) := dk_7 (dk_at dksX1_rests_0 13 rfl rfl)
theorem dX1_rests_14 : decode cX1_rests 14 = .ok (.if_icmp .ge 65, 3) := dk_162 0 65 (dk_at dksX1_rests_0 14 rfl rfl)
theorem dX1_rests_17 : decode cX1_rests 17 = .ok (.aload_n 0, 1) := dk_42 (dk_at dksX1_rests_0 17 rfl rfl)
theorem dX1_rests_18 : decode cX1_rests 18 = .ok (.aload_n 0, 1) := dk_42 (dk_at dksX1_rests_0 18 rfl rfl)
theorem dX1_rests_19 : decode cX1_rests 19 = .ok (.getfield 10, 3) := dk_180 0 10 (dk_at dksX1_rests_0 19 rfl rfl)
theorem dX1_rests_22 : decode cX1_rests 22 = .ok (.getfield 160, 3) := dk_180 0 160 (dk_at dksX1_rests_1 0 rfl rfl)
theorem dX1_rests_25 : decode cX1_rests 25 = .ok (.iload_n 1, 1) := dk_27 (dk_at dksX1_rests_1 3 rfl rfl)
theorem dX1_rests_26 : decode cX1_rests 26 = .ok (.iaload, 1) := dk_46 (dk_at dksX1_rests_1 4 rfl rfl)
theorem dX1_rests_27 : decode cX1_rests 27 = .ok (.aload_n 0, 1) := dk_42 (dk_at dksX1_rests_1 5 rfl rfl)
theorem dX1_rests_28 : decode cX1_rests 28 = .ok (.getfield 10, 3) := dk_180 0 10 (dk_at dksX1_rests_1 6 rfl rfl)
theorem dX1_rests_31 : decode cX1_rests 31 = .ok (.getfield 160, 3) := dk_180 0 160 (dk_at dksX1_rests_1 9 rfl rfl)
theorem dX1_rests_34 : decode cX1_rests 34 = .ok (.iload_n 2, 1) := dk_28 (dk_at dksX1_rests_1 12 rfl rfl)
theorem dX1_rests_35 : decode cX1_rests 35 = .ok (.iaload, 1) := dk_46 (dk_at dksX1_rests_1 13 rfl rfl)
theorem dX1_rests_36 : decode cX1_rests 36 = .ok (.iload 4, 2) := dk_21 4 (dk_at dksX1_rests_1 14 rfl rfl)
theorem dX1_rests_38 : decode cX1_rests 38 = .ok (.iconst 2, 1) := dk_5 (dk_at dksX1_rests_1 16 rfl rfl)
theorem dX1_rests_39 : decode cX1_rests 39 = .ok (.irem, 1) := dk_112 (dk_at dksX1_rests_1 17 rfl rfl)
theorem dX1_rests_40 : decode cX1_rests 40 = .ok (.iconst 1, 1) := dk_4 (dk_at dksX1_rests_1 18 rfl rfl)
theorem dX1_rests_41 : decode cX1_rests 41 = .ok (.if_icmp .ne 7, 3) := dk_160 0 7 (dk_at dksX1_rests_1 19 rfl rfl)
theorem dX1_rests_44 : decode cX1_rests 44 = .ok (.iconst 1, 1) := dk_4 (dk_at dksX1_rests_1 22 rfl rfl)
theorem dX1_rests_45 : decode cX1_rests 45 = .ok (.goto 4, 3) := dk_167 0 4 (dk_at dksX1_rests_2 0 rfl rfl)
theorem dX1_rests_48 : decode cX1_rests 48 = .ok (.iconst 0, 1) := dk_3 (dk_at dksX1_rests_2 3 rfl rfl)
theorem dX1_rests_49 : decode cX1_rests 49 = .ok (.iload 4, 2) := dk_21 4 (dk_at dksX1_rests_2 4 rfl rfl)
theorem dX1_rests_51 : decode cX1_rests 51 = .ok (.iconst 1, 1) := dk_4 (dk_at dksX1_rests_2 6 rfl rfl)
theorem dX1_rests_52 : decode cX1_rests 52 = .ok (.if_icmp .le 7, 3) := dk_164 0 7 (dk_at dksX1_rests_2 7 rfl rfl)
theorem dX1_rests_55 : decode cX1_rests 55 = .ok (.iconst 1, 1) := dk_4 (dk_at dksX1_rests_2 10 rfl rfl)
theorem dX1_rests_56 : decode cX1_rests 56 = .ok (.goto 4, 3) := dk_167 0 4 (dk_at dksX1_rests_2 11 rfl rfl)
theorem dX1_rests_59 : decode cX1_rests 59 = .ok (.iconst 0, 1) := dk_3 (dk_at dksX1_rests_2 14 rfl rfl)
theorem dX1_rests_60 : decode cX1_rests 60 = .ok (.invokevirtual 595, 3) := dk_182 2 83 (dk_at dksX1_rests_2 15 rfl rfl)
theorem dX1_rests_63 : decode cX1_rests 63 = .ok (.ifCond .eq 10, 3) := dk_153 0 10 (dk_at dksX1_rests_2 18 rfl rfl)
theorem dX1_rests_66 : decode cX1_rests 66 = .ok (.iload_n 3, 1) := dk_29 (dk_at dksX1_rests_2 21 rfl rfl)
theorem dX1_rests_67 : decode cX1_rests 67 = .ok (.iconst 1, 1) := dk_4 (dk_at dksX1_rests_2 22 rfl rfl)
theorem dX1_rests_68 : decode cX1_rests 68 = .ok (.iload 4, 2) := dk_21 4 (dk_at dksX1_rests_3 0 rfl rfl)
theorem dX1_rests_70 : decode cX1_rests 70 = .ok (.ishl, 1) := dk_120 (dk_at dksX1_rests_3 2 rfl rfl)
theorem dX1_rests_71 : decode cX1_rests 71 = .ok (.ior, 1) := dk_128 (dk_at dksX1_rests_3 3 rfl rfl)
theorem dX1_rests_72 : decode cX1_rests 72 = .ok (.istore_n 3, 1) := dk_62 (dk_at dksX1_rests_3 4 rfl rfl)
theorem dX1_rests_73 : decode cX1_rests 73 = .ok (.iinc 4 1, 3) := dk_132 4 1 (dk_at dksX1_rests_3 5 rfl rfl)
theorem dX1_rests_76 : decode cX1_rests 76 = .ok (.goto (-65), 3) := dk_167 255 191 (dk_at dksX1_rests_3 8 rfl rfl)
theorem dX1_rests_79 : decode cX1_rests 79 = .ok (.iload_n 3, 1) := dk_29 (dk_at dksX1_rests_3 11 rfl rfl)
theorem dX1_rests_80 : decode cX1_rests 80 = .ok (.ireturn, 1) := dk_172 (dk_at dksX1_rests_3 12 rfl rfl)
abbrev cX1_isRest : ByteArray := prog_1_method_75_code
def yX1_isRest : MethodName := ⟨RX1, "isRest", "(IIZZ)Z"⟩
def dkwX1_isRest_4 : List UInt8 := [96, 21, 5, 21, 4, 184, 2, 80, 96, 161, 0, 7, 4, 167, 0, 4, 3, 172]
abbrev dktX1_isRest_4 : List UInt8 := dkwX1_isRest_4 ++ []
def dkwX1_isRest_3 : List UInt8 := [154, 0, 7, 4, 167, 0, 4, 3, 182, 2, 76, 21, 4, 154, 0, 7, 4, 167, 0, 4, 3, 184, 2, 80]
abbrev dktX1_isRest_3 : List UInt8 := dkwX1_isRest_3 ++ dktX1_isRest_4
def dkwX1_isRest_2 : List UInt8 := [96, 162, 0, 7, 4, 167, 0, 4, 3, 54, 6, 21, 6, 154, 0, 49, 42, 27, 28, 29, 21, 4]
abbrev dktX1_isRest_2 : List UInt8 := dkwX1_isRest_2 ++ dktX1_isRest_3
def dkwX1_isRest_1 : List UInt8 := [21, 4, 182, 2, 76, 29, 154, 0, 7, 4, 167, 0, 4, 3, 184, 2, 80, 96, 21, 5, 29, 184, 2, 80]
abbrev dktX1_isRest_1 : List UInt8 := dkwX1_isRest_1 ++ dktX1_isRest_2
def dkwX1_isRest_0 : List UInt8 := [42, 27, 28, 29, 21, 4, 182, 2, 76, 54, 5, 42, 27, 28, 29, 154, 0, 7, 4, 167, 0, 4, 3]
abbrev dktX1_isRest_0 : List UInt8 := dkwX1_isRest_0 ++ dktX1_isRest_1
theorem dksX1_isRest_0 : cX1_isRest.data.toList.drop 0 = dktX1_isRest_0 := by decide +kernel
theorem dksX1_isRest_1 : cX1_isRest.data.toList.drop 23 = dktX1_isRest_1 := dk_seg dksX1_isRest_0 23 rfl rfl
theorem dksX1_isRest_2 : cX1_isRest.data.toList.drop 47 = dktX1_isRest_2 := dk_seg dksX1_isRest_1 24 rfl rfl
theorem dksX1_isRest_3 : cX1_isRest.data.toList.drop 69 = dktX1_isRest_3 := dk_seg dksX1_isRest_2 22 rfl rfl
theorem dksX1_isRest_4 : cX1_isRest.data.toList.drop 93 = dktX1_isRest_4 := dk_seg dksX1_isRest_3 24 rfl rfl
theorem dX1_isRest_0 : decode cX1_isRest 0 = .ok (.aload_n 0, 1) := dk_42 (dk_at dksX1_isRest_0 0 rfl rfl)
theorem dX1_isRest_1 : decode cX1_isRest 1 = .ok (.iload_n 1, 1) := dk_27 (dk_at dksX1_isRest_0 1 rfl rfl)
theorem dX1_isRest_2 : decode cX1_isRest 2 = .ok (.iload_n 2, 1) := dk_28 (dk_at dksX1_isRest_0 2 rfl rfl)
theorem dX1_isRest_3 : decode cX1_isRest 3 = .ok (.iload_n 3, 1) := dk_29 (dk_at dksX1_isRest_0 3 rfl rfl)
theorem dX1_isRest_4 : decode cX1_isRest 4 = .ok (.iload 4, 2) := dk_21 4 (dk_at dksX1_isRest_0 4 rfl rfl)
theorem dX1_isRest_6 : decode cX1_isRest 6 = .ok (.invokevirtual 588, 3) := dk_182 2 76 (dk_at dksX1_isRest_0 6 rfl rfl)
theorem dX1_isRest_9 : decode cX1_isRest 9 = .ok (.istore 5, 2) := dk_54 5 (dk_at dksX1_isRest_0 9 rfl rfl)
theorem dX1_isRest_11 : decode cX1_isRest 11 = .ok (.aload_n 0, 1) := dk_42 (dk_at dksX1_isRest_0 11 rfl rfl)
theorem dX1_isRest_12 : decode cX1_isRest 12 = .ok (.iload_n 1, 1) := dk_27 (dk_at dksX1_isRest_0 12 rfl rfl)
theorem dX1_isRest_13 : decode cX1_isRest 13 = .ok (.iload_n 2, 1) := dk_28 (dk_at dksX1_isRest_0 13 rfl rfl)
theorem dX1_isRest_14 : decode cX1_isRest 14 = .ok (.iload_n 3, 1) := dk_29 (dk_at dksX1_isRest_0 14 rfl rfl)
theorem dX1_isRest_15 : decode cX1_isRest 15 = .ok (.ifCond .ne 7, 3) := dk_154 0 7 (dk_at dksX1_isRest_0 15 rfl rfl)
theorem dX1_isRest_18 : decode cX1_isRest 18 = .ok (.iconst 1, 1) := dk_4 (dk_at dksX1_isRest_0 18 rfl rfl)
theorem dX1_isRest_19 : decode cX1_isRest 19 = .ok (.goto 4, 3) := dk_167 0 4 (dk_at dksX1_isRest_0 19 rfl rfl)
theorem dX1_isRest_22 : decode cX1_isRest 22 = .ok (.iconst 0, 1) := dk_3 (dk_at dksX1_isRest_0 22 rfl rfl)
theorem dX1_isRest_23 : decode cX1_isRest 23 = .ok (.iload 4, 2) := dk_21 4 (dk_at dksX1_isRest_1 0 rfl rfl)
theorem dX1_isRest_25 : decode cX1_isRest 25 = .ok (.invokevirtual 588, 3) := dk_182 2 76 (dk_at dksX1_isRest_1 2 rfl rfl)
theorem dX1_isRest_28 : decode cX1_isRest 28 = .ok (.iload_n 3, 1) := dk_29 (dk_at dksX1_isRest_1 5 rfl rfl)
theorem dX1_isRest_29 : decode cX1_isRest 29 = .ok (.ifCond .ne 7, 3) := dk_154 0 7 (dk_at dksX1_isRest_1 6 rfl rfl)
theorem dX1_isRest_32 : decode cX1_isRest 32 = .ok (.iconst 1, 1) := dk_4 (dk_at dksX1_isRest_1 9 rfl rfl)
theorem dX1_isRest_33 : decode cX1_isRest 33 = .ok (.goto 4, 3) := dk_167 0 4 (dk_at dksX1_isRest_1 10 rfl rfl)
theorem dX1_isRest_36 : decode cX1_isRest 36 = .ok (.iconst 0, 1) := dk_3 (dk_at dksX1_isRest_1 13 rfl rfl)
theorem dX1_isRest_37 : decode cX1_isRest 37 = .ok (.invokestatic 592, 3) := dk_184 2 80 (dk_at dksX1_isRest_1 14 rfl rfl)
theorem dX1_isRest_40 : decode cX1_isRest 40 = .ok (.iadd, 1) := dk_96 (dk_at dksX1_isRest_1 17 rfl rfl)
theorem dX1_isRest_41 : decode cX1_isRest 41 = .ok (.iload 5, 2) := dk_21 5 (dk_at dksX1_isRest_1 18 rfl rfl)
theorem dX1_isRest_43 : decode cX1_isRest 43 = .ok (.iload_n 3, 1) := dk_29 (dk_at dksX1_isRest_1 20 rfl rfl)
theorem dX1_isRest_44 : decode cX1_isRest 44 = .ok (.invokestatic 592, 3) := dk_184 2 80 (dk_at dksX1_isRest_1 21 rfl rfl)
theorem dX1_isRest_47 : decode cX1_isRest 47 = .ok (.iadd, 1) := dk_96 (dk_at dksX1_isRest_2 0 rfl rfl)
theorem dX1_isRest_48 : decode cX1_isRest 48 = .ok (.if_icmp .ge 7, 3) := dk_162 0 7 (dk_at dksX1_isRest_2 1 rfl rfl)
theorem dX1_isRest_51 : decode cX1_isRest 51 = .ok (.iconst 1, 1) := dk_4 (dk_at dksX1_isRest_2 4 rfl rfl)
theorem dX1_isRest_52 : decode cX1_isRest 52 = .ok (.goto 4, 3) := dk_167 0 4 (dk_at dksX1_isRest_2 5 rfl rfl)
theorem dX1_isRest_55 : decode cX1_isRest 55 = .ok (.iconst 0, 1) := dk_3 (dk_at dksX1_isRest_2 8 rfl rfl)
theorem dX1_isRest_56 : decode cX1_isRest 56 = .ok (.istore 6, 2) := dk_54 6 (dk_at dksX1_isRest_2 9 rfl rfl)
theorem dX1_isRest_58 : decode cX1_isRest 58 = .ok (.iload 6, 2) := dk_21 6 (dk_at dksX1_isRest_2 11 rfl rfl)
theorem dX1_isRest_60 : decode cX1_isRest 60 = .ok (.ifCond .ne 49, 3) := dk_154 0 49 (dk_at dksX1_isRest_2 13 rfl rfl)
theorem dX1_isRest_63 : decode cX1_isRest 63 = .ok (.aload_n 0, 1) := dk_42 (dk_at dksX1_isRest_2 16 rfl rfl)
theorem dX1_isRest_64 : decode cX1_isRest 64 = .ok (.iload_n 1, 1) := dk_27 (dk_at dksX1_isRest_2 17 rfl rfl)
theorem dX1_isRest_65 : decode cX1_isRest 65 = .ok (.iload_n 2, 1) := dk_28 (dk_at dksX1_isRest_2 18 rfl rfl)
theorem dX1_isRest_66 : decode cX1_isRest 66 = .ok (.iload_n 3, 1) := dk_29 (dk_at dksX1_isRest_2 19 rfl rfl)
theorem dX1_isRest_67 : decode cX1_isRest 67 = .ok (.iload 4, 2) := dk_21 4 (dk_at dksX1_isRest_2 20 rfl rfl)
theorem dX1_isRest_69 : decode cX1_isRest 69 = .ok (.ifCond .ne 7, 3) := dk_154 0 7 (dk_at dksX1_isRest_3 0 rfl rfl)
theorem dX1_isRest_72 : decode cX1_isRest 72 = .ok (.iconst 1, 1) := dk_4 (dk_at dksX1_isRest_3 3 rfl rfl)
theorem dX1_isRest_73 : decode cX1_isRest 73 = .ok (.goto 4, 3) := dk_167 0 4 (dk_at dksX1_isRest_3 4 rfl rfl)
theorem dX1_isRest_76 : decode cX1_isRest 76 = .ok (.iconst 0, 1) := dk_3 (dk_at dksX1_isRest_3 7 rfl rfl)
theorem dX1_isRest_77 : decode cX1_isRest 77 = .ok (.invokevirtual 588, 3) := dk_182 2 76 (dk_at dksX1_isRest_3 8 rfl rfl)
theorem dX1_isRest_80 : decode cX1_isRest 80 = .ok (.iload 4, 2) := dk_21 4 (dk_at dksX1_isRest_3 11 rfl rfl)
theorem dX1_isRest_82 : decode cX1_isRest 82 = .ok (.ifCond .ne 7, 3) := dk_154 0 7 (dk_at dksX1_isRest_3 13 rfl rfl)
theorem dX1_isRest_85 : decode cX1_isRest 85 = .ok (.iconst 1, 1) := dk_4 (dk_at dksX1_isRest_3 16 rfl rfl)
theorem dX1_isRest_86 : decode cX1_isRest 86 = .ok (.goto 4, 3) := dk_167 0 4 (dk_at dksX1_isRest_3 17 rfl rfl)
theorem dX1_isRest_89 : decode cX1_isRest 89 = .ok (.iconst 0, 1) := dk_3 (dk_at dksX1_isRest_3 20 rfl rfl)
theorem dX1_isRest_90 : decode cX1_isRest 90 = .ok (.invokestatic 592, 3) := dk_184 2 80 (dk_at dksX1_isRest_3 21 rfl rfl)
theorem dX1_isRest_93 : decode cX1_isRest 93 = .ok (.iadd, 1) := dk_96 (dk_at dksX1_isRest_4 0 rfl rfl)
theorem dX1_isRest_94 : decode cX1_isRest 94 = .ok (.iload 5, 2) := dk_21 5 (dk_at dksX1_isRest_4 1 rfl rfl)
theorem dX1_isRest_96 : decode cX1_isRest 96 = .ok (.iload 4, 2) := dk_21 4 (dk_at dksX1_isRest_4 3 rfl rfl)
theorem dX1_isRest_98 : decode cX1_isRest 98 = .ok (.invokestatic 592, 3) := dk_184 2 80 (dk_at dksX1_isRest_4 5 rfl rfl)
theorem dX1_isRest_101 : decode cX1_isRest 101 = .ok (.iadd, 1) := dk_96 (dk_at dksX1_isRest_4 8 rfl rfl)
theorem dX1_isRest_102 : decode cX1_isRest 102 = .ok (.if_icmp .lt 7, 3) := dk_161 0 7 (dk_at dksX1_isRest_4 9 rfl rfl)
theorem dX1_isRest_105 : decode cX1_isRest 105 = .ok (.iconst 1, 1) := dk_4 (dk_at dksX1_isRest_4 12 rfl rfl)
theorem dX1_isRest_106 : decode cX1_isRest 106 = .ok (.goto 4, 3) := dk_167 0 4 (dk_at dksX1_isRest_4 13 rfl rfl)
theorem dX1_isRest_109 : decode cX1_isRest 109 = .ok (.iconst 0, 1) := dk_3 (dk_at dksX1_isRest_4 16 rfl rfl)
theorem dX1_isRest_110 : decode cX1_isRest 110 = .ok (.ireturn, 1) := dk_172 (dk_at dksX1_isRest_4 17 rfl rfl)
abbrev cX1_pairCost : ByteArray := prog_1_method_73_code
def yX1_pairCost : MethodName := ⟨RX1, "pairCost", "(IIZZ)I"⟩
def dkwX1_pairCost_1 : List UInt8 := [182, 1, 181, 172]
abbrev dktX1_pairCost_1 : List UInt8 := dkwX1_pairCost_1 ++ []
def dkwX1_pairCost_0 : List UInt8 := [42, 180, 0, 10, 29, 153, 0, 7, 28, 167, 0, 4, 27, 21, 4, 153, 0, 7, 27, 167, 0, 4, 28]
abbrev dktX1_pairCost_0 : List UInt8 := dkwX1_pairCost_0 ++ dktX1_pairCost_1
theorem dksX1_pairCost_0 : cX1_pairCost.data.toList.drop 0 = dktX1_pairCost_0 := by decide +kernel
theorem dksX1_pairCost_1 : cX1_pairCost.data.toList.drop 23 = dktX1_pairCost_1 := dk_seg dksX1_pairCost_0 23 rfl rfl
theorem dX1_pairCost_0 : decode cX1_pairCost 0 = .ok (.aload_n 0, 1) := dk_42 (dk_at dksX1_pairCost_0 0 rfl rfl)
theorem dX1_pairCost_1 : decode cX1_pairCost 1 = .ok (.getfield 10, 3) := dk_180 0 10 (dk_at dksX1_pairCost_0 1 rfl rfl)
theorem dX1_pairCost_4 : decode cX1_pairCost 4 = .ok (.iload_n 3, 1) := dk_29 (dk_at dksX1_pairCost_0 4 rfl rfl)
theorem dX1_pairCost_5 : decode cX1_pairCost 5 = .ok (.ifCond .eq 7, 3) := dk_153 0 7 (dk_at dksX1_pairCost_0 5 rfl rfl)
theorem dX1_pairCost_8 : decode cX1_pairCost 8 = .ok (.iload_n 2, 1) := dk_28 (dk_at dksX1_pairCost_0 8 rfl rfl)
theorem dX1_pairCost_9 : decode cX1_pairCost 9 = .ok (.goto 4, 3) := dk_167 0 4 (dk_at dksX1_pairCost_0 9 rfl rfl)
theorem dX1_pairCost_12 : decode cX1_pairCost 12 = .ok (.iload_n 1, 1) := dk_27 (dk_at dksX1_pairCost_0 12 rfl rfl)
theorem dX1_pairCost_13 : decode cX1_pairCost 13 = .ok (.iload 4, 2) := dk_21 4 (dk_at dksX1_pairCost_0 13 rfl rfl)
theorem dX1_pairCost_15 : decode cX1_pairCost 15 = .ok (.ifCond .eq 7, 3) := dk_153 0 7 (dk_at dksX1_pairCost_0 15 rfl rfl)
theorem dX1_pairCost_18 : decode cX1_pairCost 18 = .ok (.iload_n 1, 1) := dk_27 (dk_at dksX1_pairCost_0 18 rfl rfl)
theorem dX1_pairCost_19 : decode cX1_pairCost 19 = .ok (.goto 4, 3) := dk_167 0 4 (dk_at dksX1_pairCost_0 19 rfl rfl)
theorem dX1_pairCost_22 : decode cX1_pairCost 22 = .ok (.iload_n 2, 1) := dk_28 (dk_at dksX1_pairCost_0 22 rfl rfl)
theorem dX1_pairCost_23 : decode cX1_pairCost 23 = .ok (.invokevirtual 437, 3) := dk_182 1 181 (dk_at dksX1_pairCost_1 0 rfl rfl)
theorem dX1_pairCost_26 : decode cX1_pairCost 26 = .ok (.ireturn, 1) := dk_172 (dk_at dksX1_pairCost_1 3 rfl rfl)
abbrev cX1_one : ByteArray := prog_1_method_74_code
def yX1_one : MethodName := ⟨RX1, "one", "(Z)I"⟩
def dkwX1_one_0 : List UInt8 := [26, 153, 0, 7, 4, 167, 0, 4, 3, 172]
abbrev dktX1_one_0 : List UInt8 := dkwX1_one_0 ++ []
theorem dksX1_one_0 : cX1_one.data.toList.drop 0 = dktX1_one_0 := by decide +kernel
theorem dX1_one_0 : decode cX1_one 0 = .ok (.iload_n 0, 1) := dk_26 (dk_at dksX1_one_0 0 rfl rfl)
theorem dX1_one_1 : decode cX1_one 1 = .ok (.ifCond .eq 7, 3) := dk_153 0 7 (dk_at dksX1_one_0 1 rfl rfl)
theorem dX1_one_4 : decode cX1_one 4 = .ok (.iconst 1, 1) := dk_4 (dk_at dksX1_one_0 4 rfl rfl)
theorem dX1_one_5 : decode cX1_one 5 = .ok (.goto 4, 3) := dk_167 0 4 (dk_at dksX1_one_0 5 rfl rfl)
theorem dX1_one_8 : decode cX1_one 8 = .ok (.iconst 0, 1) := dk_3 (dk_at dksX1_one_0 8 rfl rfl)
theorem dX1_one_9 : decode cX1_one 9 = .ok (.ireturn, 1) := dk_172 (dk_at dksX1_one_0 9 rfl rfl)
abbrev cX1_sake : ByteArray := prog_1_method_78_code
def yX1_sake : MethodName := ⟨RX1, "sake", "(IIZ)I"⟩
def dkwX1_sake_5 : List UInt8 := [132, 8, 1, 167, 255, 205, 2, 172]
abbrev dktX1_sake_5 : List UInt8 := dkwX1_sake_5 ++ []
def dkwX1_sake_4 : List UInt8 := [21, 6, 21, 7, 184, 2, 92, 54, 9, 21, 7, 21, 6, 184, 2, 92, 54, 7, 21, 9, 54, 6]
abbrev dktX1_sake_4 : List UInt8 := dkwX1_sake_4 ++ dktX1_sake_5
def dkwX1_sake_3 : List UInt8 := [16, 8, 162, 0, 50, 21, 6, 21, 7, 160, 0, 6, 21, 8, 172, 29, 153, 0, 8, 21, 6, 167, 0, 10]
abbrev dktX1_sake_3 : List UInt8 := dkwX1_sake_3 ++ dktX1_sake_4
def dkwX1_sake_2 : List UInt8 := [154, 0, 5, 2, 172, 21, 4, 184, 1, 247, 54, 6, 21, 5, 184, 1, 247, 54, 7, 3, 54, 8, 21, 8]
abbrev dktX1_sake_2 : List UInt8 := dkwX1_sake_2 ++ dktX1_sake_3
def dkwX1_sake_1 : List UInt8 := [28, 46, 54, 5, 178, 0, 98, 21, 4, 184, 1, 229, 153, 0, 14, 178, 0, 98, 21, 5, 184, 1, 229]
abbrev dktX1_sake_1 : List UInt8 := dkwX1_sake_1 ++ dktX1_sake_2
def dkwX1_sake_0 : List UInt8 := [42, 27, 28, 182, 1, 200, 42, 180, 0, 10, 180, 0, 160, 27, 46, 54, 4, 42, 180, 0, 10, 180, 0, 160]
abbrev dktX1_sake_0 : List UInt8 := dkwX1_sake_0 ++ dktX1_sake_1
theorem dksX1_sake_0 : cX1_sake.data.toList.drop 0 = dktX1_sake_0 := by decide +kernel
theorem dksX1_sake_1 : cX1_sake.data.toList.drop 24 = dktX1_sake_1 := dk_seg dksX1_sake_0 24 rfl rfl
theorem dksX1_sake_2 : cX1_sake.data.toList.drop 47 = dktX1_sake_2 := dk_seg dksX1_sake_1 23 rfl rfl
theorem dksX1_sake_3 : cX1_sake.data.toList.drop 71 = dktX1_sake_3 := dk_seg dksX1_sake_2 24 rfl rfl
theorem dksX1_sake_4 : cX1_sake.data.toList.drop 95 = dktX1_sake_4 := dk_seg dksX1_sake_3 24 rfl rfl
theorem dksX1_sake_5 : cX1_sake.data.toList.drop 117 = dktX1_sake_5 := dk_seg dksX1_sake_4 22 rfl rfl
theorem dX1_sake_0 : decode cX1_sake 0 = .ok (.aload_n 0, 1) := dk_42 (dk_at dksX1_sake_0 0 rfl rfl)
theorem dX1_sake_1 : decode cX1_sake 1 = .ok (.iload_n 1, 1) := dk_27 (dk_at dksX1_sake_0 1 rfl rfl)
theorem dX1_sake_2 : decode cX1_sake 2 = .ok (.iload_n 2, 1) := dk_28 (dk_at dksX1_sake_0 2 rfl rfl)
theorem dX1_sake_3 : decode cX1_sake 3 = .ok (.invokevirtual 456, 3) := dk_182 1 200 (dk_at dksX1_sake_0 3 rfl rfl)
theorem dX1_sake_6 : decode cX1_sake 6 = .ok (.aload_n 0, 1) := dk_42 (dk_at dksX1_sake_0 6 rfl rfl)
theorem dX1_sake_7 : decode cX1_sake 7 = .ok (.getfield 10, 3) := dk_180 0 10 (dk_at dksX1_sake_0 7 rfl rfl)
theorem dX1_sake_10 : decode cX1_sake 10 = .ok (.getfield 160, 3) := dk_180 0 160 (dk_at dksX1_sake_0 10 rfl rfl)
theorem dX1_sake_13 : decode cX1_sake 13 = .ok (.iload_n 1, 1) := dk_27 (dk_at dksX1_sake_0 13 rfl rfl)
theorem dX1_sake_14 : decode cX1_sake 14 = .ok (.iaload, 1) := dk_46 (dk_at dksX1_sake_0 14 rfl rfl)
theorem dX1_sake_15 : decode cX1_sake 15 = .ok (.istore 4, 2) := dk_54 4 (dk_at dksX1_sake_0 15 rfl rfl)
theorem dX1_sake_17 : decode cX1_sake 17 = .ok (.aload_n 0, 1) := dk_42 (dk_at dksX1_sake_0 17 rfl rfl)
theorem dX1_sake_18 : decode cX1_sake 18 = .ok (.getfield 10, 3) := dk_180 0 10 (dk_at dksX1_sake_0 18 rfl rfl)
theorem dX1_sake_21 : decode cX1_sake 21 = .ok (.getfield 160, 3) := dk_180 0 160 (dk_at dksX1_sake_0 21 rfl rfl)
theorem dX1_sake_24 : decode cX1_sake 24 = .ok (.iload_n 2, 1) := dk_28 (dk_at dksX1_sake_1 0 rfl rfl)
theorem dX1_sake_25 : decode cX1_sake 25 = .ok (.iaload, 1) := dk_46 (dk_at dksX1_sake_1 1 rfl rfl)
theorem dX1_sake_26 : decode cX1_sake 26 = .ok (.istore 5, 2) := dk_54 5 (dk_at dksX1_sake_1 2 rfl rfl)
theorem dX1_sake_28 : decode cX1_sake 28 = .ok (.getstatic 98, 3) := dk_178 0 98 (dk_at dksX1_sake_1 4 rfl rfl)
theorem dX1_sake_31 : decode cX1_sake 31 = .ok (.iload 4, 2) := dk_21 4 (dk_at dksX1_sake_1 7 rfl rfl)
theorem dX1_sake_33 : decode cX1_sake 33 = .ok (.invokestatic 485, 3) := dk_184 1 229 (dk_at dksX1_sake_1 9 rfl rfl)
theorem dX1_sake_36 : decode cX1_sake 36 = .ok (.ifCond .eq 14, 3) := dk_153 0 14 (dk_at dksX1_sake_1 12 rfl rfl)
theorem dX1_sake_39 : decode cX1_sake 39 = .ok (.getstatic 98, 3) := dk_178 0 98 (dk_at dksX1_sake_1 15 rfl rfl)
theorem dX1_sake_42 : decode cX1_sake 42 = .ok (.iload 5, 2) := dk_21 5 (dk_at dksX1_sake_1 18 rfl rfl)
theorem dX1_sake_44 : decode cX1_sake 44 = .ok (.invokestatic 485, 3) := dk_184 1 229 (dk_at dksX1_sake_1 20 rfl rfl)
theorem dX1_sake_47 : decode cX1_sake 47 = .ok (.ifCond .ne 5, 3) := dk_154 0 5 (dk_at dksX1_sake_2 0 rfl rfl)
theorem dX1_sake_50 : decode cX1_sake 50 = .ok (.iconst (-1), 1) := dk_2 (dk_at dksX1_sake_2 3 rfl rfl)
theorem dX1_sake_51 : decode cX1_sake 51 = .ok (.ireturn, 1) := dk_172 (dk_at dksX1_sake_2 4 rfl rfl)
theorem dX1_sake_52 : decode cX1_sake 52 = .ok (.iload 4, 2) := dk_21 4 (dk_at dksX1_sake_2 5 rfl rfl)
theorem dX1_sake_54 : decode cX1_sake 54 = .ok (.invokestatic 503, 3) := dk_184 1 247 (dk_at dksX1_sake_2 7 rfl rfl)
theorem dX1_sake_57 : decode cX1_sake 57 = .ok (.istore 6, 2) := dk_54 6 (dk_at dksX1_sake_2 10 rfl rfl)
theorem dX1_sake_59 : decode cX1_sake 59 = .ok (.iload 5, 2) := dk_21 5 (dk_at dksX1_sake_2 12 rfl rfl)
theorem dX1_sake_61 : decode cX1_sake 61 = .ok (.invokestatic 503, 3) := dk_184 1 247 (dk_at dksX1_sake_2 14 rfl rfl)
theorem dX1_sake_64 : decode cX1_sake 64 = .ok (.istore 7, 2) := dk_54 7 (dk_at dksX1_sake_2 17 rfl rfl)
theorem dX1_sake_66 : decode cX1_sake 66 = .ok (.iconst 0, 1) := dk_3 (dk_at dksX1_sake_2 19 rfl rfl)
theorem dX1_sake_67 : decode cX1_sake 67 = .ok (.istore 8, 2) := dk_54 8 (dk_at dksX1_sake_2 20 rfl rfl)
theorem dX1_sake_69 : decode cX1_sake 69 = .ok (.iload 8, 2) := dk_21 8 (dk_at dksX1_sake_2 22 rfl rfl)
theorem dX1_sake_71 : decode cX1_sake 71 = .ok (.bipush 8, 2) := dk_16 8 (dk_at dksX1_sake_3 0 rfl rfl)
theorem dX1_sake_73 : decode cX1_sake 73 = .ok (.if_icmp .ge 50, 3) := dk_162 0 50 (dk_at dksX1_sake_3 2 rfl rfl)
theorem dX1_sake_76 : decode cX1_sake 76 = .ok (.iload 6, 2) := dk_21 6 (dk_at dksX1_sake_3 5 rfl rfl)
theorem dX1_sake_78 : decode cX1_sake 78 = .ok (.iload 7, 2) := dk_21 7 (dk_at dksX1_sake_3 7 rfl rfl)
theorem dX1_sake_80 : decode cX1_sake 80 = .ok (.if_icmp .ne 6, 3) := dk_160 0 6 (dk_at dksX1_sake_3 9 rfl rfl)
theorem dX1_sake_83 : decode cX1_sake 83 = .ok (.iload 8, 2) := dk_21 8 (dk_at dksX1_sake_3 12 rfl rfl)
theorem dX1_sake_85 : decode cX1_sake 85 = .ok (.ireturn, 1) := dk_172 (dk_at dksX1_sake_3 14 rfl rfl)
theorem dX1_sake_86 : decode cX1_sake 86 = .ok (.iload_n 3, 1) := dk_29 (dk_at dksX1_sake_3 15 rfl rfl)
theorem dX1_sake_87 : decode cX1_sake 87 = .ok (.ifCond .eq 8, 3) := dk_153 0 8 (dk_at dksX1_sake_3 16 rfl rfl)
theorem dX1_sake_90 : decode cX1_sake 90 = .ok (.iload 6, 2) := dk_21 6 (dk_at dksX1_sake_3 19 rfl rfl)
theorem dX1_sake_92 : decode cX1_sake 92 = .ok (.goto 10, 3) := dk_167 0 10 (dk_at dksX1_sake_3 21 rfl rfl)
theorem dX1_sake_95 : decode cX1_sake 95 = .ok (.iload 6, 2) := dk_21 6 (dk_at dksX1_sake_4 0 rfl rfl)
theorem dX1_sake_97 : decode cX1_sake 97 = .ok (.iload 7, 2) := dk_21 7 (dk_at dksX1_sake_4 2 rfl rfl)
theorem dX1_sake_99 : decode cX1_sake 99 = .ok (.invokestatic 604, 3) := dk_184 2 92 (dk_at dksX1_sake_4 4 rfl rfl)
theorem dX1_sake_102 : decode cX1_sake 102 = .ok (.istore 9, 2) := dk_54 9 (dk_at dksX1_sake_4 7 rfl rfl)
theorem dX1_sake_104 : decode cX1_sake 104 = .ok (.iload 7, 2) := dk_21 7 (dk_at dksX1_sake_4 9 rfl rfl)
theorem dX1_sake_106 : decode cX1_sake 106 = .ok (.iload 6, 2) := dk_21 6 (dk_at dksX1_sake_4 11 rfl rfl)
theorem dX1_sake_108 : decode cX1_sake 108 = .ok (.invokestatic 604, 3) := dk_184 2 92 (dk_at dksX1_sake_4 13 rfl rfl)
theorem dX1_sake_111 : decode cX1_sake 111 = .ok (.istore 7, 2) := dk_54 7 (dk_at dksX1_sake_4 16 rfl rfl)
theorem dX1_sake_113 : decode cX1_sake 113 = .ok (.iload 9, 2) := dk_21 9 (dk_at dksX1_sake_4 18 rfl rfl)
theorem dX1_sake_115 : decode cX1_sake 115 = .ok (.istore 6, 2) := dk_54 6 (dk_at dksX1_sake_4 20 rfl rfl)
theorem dX1_sake_117 : decode cX1_sake 117 = .ok (.iinc 8 1, 3) := dk_132 8 1 (dk_at dksX1_sake_5 0 rfl rfl)
theorem dX1_sake_120 : decode cX1_sake 120 = .ok (.goto (-51), 3) := dk_167 255 205 (dk_at dksX1_sake_5 3 rfl rfl)
theorem dX1_sake_123 : decode cX1_sake 123 = .ok (.iconst (-1), 1) := dk_2 (dk_at dksX1_sake_5 6 rfl rfl)
theorem dX1_sake_124 : decode cX1_sake 124 = .ok (.ireturn, 1) := dk_172 (dk_at dksX1_sake_5 7 rfl rfl)
abbrev cX1_towards : ByteArray := prog_1_method_77_code
def yX1_towards : MethodName := ⟨RX1, "towards", "(II)I"⟩
def dkwX1_towards_0 : List UInt8 := [26, 27, 26, 100, 184, 2, 87, 96, 172]
abbrev dktX1_towards_0 : List UInt8 := dkwX1_towards_0 ++ []
theorem dksX1_towards_0 : cX1_towards.data.toList.drop 0 = dktX1_towards_0 := by decide +kernel
theorem dX1_towards_0 : decode cX1_towards 0 = .ok (.iload_n 0, 1) := dk_26 (dk_at dksX1_towards_0 0 rfl rfl)
theorem dX1_towards_1 : decode cX1_towards 1 = .ok (.iload_n 1, 1) := dk_27 (dk_at dksX1_towards_0 1 rfl rfl)
theorem dX1_towards_2 : decode cX1_towards 2 = .ok (.iload_n 0, 1) := dk_26 (dk_at dksX1_towards_0 2 rfl rfl)
theorem dX1_towards_3 : decode cX1_towards 3 = .ok (.isub, 1) := dk_100 (dk_at dksX1_towards_0 3 rfl rfl)
theorem dX1_towards_4 : decode cX1_towards 4 = .ok (.invokestatic 599, 3) := dk_184 2 87 (dk_at dksX1_towards_0 4 rfl rfl)
theorem dX1_towards_7 : decode cX1_towards 7 = .ok (.iadd, 1) := dk_96 (dk_at dksX1_towards_0 7 rfl rfl)
theorem dX1_towards_8 : decode cX1_towards 8 = .ok (.ireturn, 1) := dk_172 (dk_at dksX1_towards_0 8 rfl rfl)
abbrev cX1_begins : ByteArray := prog_1_method_82_code
def yX1_begins : MethodName := ⟨RX1, "begins", "(I)I"⟩
def dkwX1_begins_2 : List UInt8 := [42, 44, 29, 50, 182, 2, 128, 162, 0, 6, 21, 4, 62, 132, 4, 1, 167, 255, 225, 29, 172]
abbrev dktX1_begins_2 : List UInt8 := dkwX1_begins_2 ++ []
def dkwX1_begins_1 : List UInt8 := [182, 2, 128, 172, 3, 62, 4, 54, 4, 21, 4, 44, 190, 162, 0, 30, 42, 44, 21, 4, 50, 182, 2, 128]
abbrev dktX1_begins_1 : List UInt8 := dkwX1_begins_1 ++ dktX1_begins_2
def dkwX1_begins_0 : List UInt8 := [27, 2, 5, 184, 1, 158, 184, 1, 175, 184, 2, 124, 77, 27, 2, 159, 0, 11, 42, 44, 27, 50]
abbrev dktX1_begins_0 : List UInt8 := dkwX1_begins_0 ++ dktX1_begins_1
theorem dksX1_begins_0 : cX1_begins.data.toList.drop 0 = dktX1_begins_0 := by decide +kernel
theorem dksX1_begins_1 : cX1_begins.data.toList.drop 22 = dktX1_begins_1 := dk_seg dksX1_begins_0 22 rfl rfl
theorem dksX1_begins_2 : cX1_begins.data.toList.drop 46 = dktX1_begins_2 := dk_seg dksX1_begins_1 24 rfl rfl
theorem dX1_begins_0 : decode cX1_begins 0 = .ok (.iload_n 1, 1) := dk_27 (dk_at dksX1_begins_0 0 rfl rfl)
theorem dX1_begins_1 : decode cX1_begins 1 = .ok (.iconst (-1), 1) := dk_2 (dk_at dksX1_begins_0 1 rfl rfl)
theorem dX1_begins_2 : decode cX1_begins 2 = .ok (.iconst 2, 1) := dk_5 (dk_at dksX1_begins_0 2 rfl rfl)
theorem dX1_begins_3 : decode cX1_begins 3 = .ok (.invokestatic 414, 3) := dk_184 1 158 (dk_at dksX1_begins_0 3 rfl rfl)
theorem dX1_begins_6 : decode cX1_begins 6 = .ok (.invokestatic 431, 3) := dk_184 1 175 (dk_at dksX1_begins_0 6 rfl rfl)
theorem dX1_begins_9 : decode cX1_begins 9 = .ok (.invokestatic 636, 3) := dk_184 2 124 (dk_at dksX1_begins_0 9 rfl rfl)
theorem dX1_begins_12 : decode cX1_begins 12 = .ok (.astore_n 2, 1) := dk_77 (dk_at dksX1_begins_0 12 rfl rfl)
theorem dX1_begins_13 : decode cX1_begins 13 = .ok (.iload_n 1, 1) := dk_27 (dk_at dksX1_begins_0 13 rfl rfl)
theorem dX1_begins_14 : decode cX1_begins 14 = .ok (.iconst (-1), 1) := dk_2 (dk_at dksX1_begins_0 14 rfl rfl)
theorem dX1_begins_15 : decode cX1_begins 15 = .ok (.if_icmp .eq 11, 3) := dk_159 0 11 (dk_at dksX1_begins_0 15 rfl rfl)
theorem dX1_begins_18 : decode cX1_begins 18 = .ok (.aload_n 0, 1) := dk_42 (dk_at dksX1_begins_0 18 rfl rfl)
theorem dX1_begins_19 : decode cX1_begins 19 = .ok (.aload_n 2, 1) := dk_44 (dk_at dksX1_begins_0 19 rfl rfl)
theorem dX1_begins_20 : decode cX1_begins 20 = .ok (.iload_n 1, 1) := dk_27 (dk_at dksX1_begins_0 20 rfl rfl)
theorem dX1_begins_21 : decode cX1_begins 21 = .ok (.aaload, 1) := dk_50 (dk_at dksX1_begins_0 21 rfl rfl)
theorem dX1_begins_22 : decode cX1_begins 22 = .ok (.invokevirtual 640, 3) := dk_182 2 128 (dk_at dksX1_begins_1 0 rfl rfl)
theorem dX1_begins_25 : decode cX1_begins 25 = .ok (.ireturn, 1) := dk_172 (dk_at dksX1_begins_1 3 rfl rfl)
theorem dX1_begins_26 : decode cX1_begins 26 = .ok (.iconst 0, 1) := dk_3 (dk_at dksX1_begins_1 4 rfl rfl)
theorem dX1_begins_27 : decode cX1_begins 27 = .ok (.istore_n 3, 1) := dk_62 (dk_at dksX1_begins_1 5 rfl rfl)
theorem dX1_begins_28 : decode cX1_begins 28 = .ok (.iconst 1, 1) := dk_4 (dk_at dksX1_begins_1 6 rfl rfl)
theorem dX1_begins_29 : decode cX1_begins 29 = .ok (.istore 4, 2) := dk_54 4 (dk_at dksX1_begins_1 7 rfl rfl)
theorem dX1_begins_31 : decode cX1_begins 31 = .ok (.iload 4, 2) := dk_21 4 (dk_at dksX1_begins_1 9 rfl rfl)
theorem dX1_begins_33 : decode cX1_begins 33 = .ok (.aload_n 2, 1) := dk_44 (dk_at dksX1_begins_1 11 rfl rfl)
theorem dX1_begins_34 : decode cX1_begins 34 = .ok (.arraylength, 1) := dk_190 (dk_at dksX1_begins_1 12 rfl rfl)
theorem dX1_begins_35 : decode cX1_begins 35 = .ok (.if_icmp .ge 30, 3) := dk_162 0 30 (dk_at dksX1_begins_1 13 rfl rfl)
theorem dX1_begins_38 : decode cX1_begins 38 = .ok (.aload_n 0, 1) := dk_42 (dk_at dksX1_begins_1 16 rfl rfl)
theorem dX1_begins_39 : decode cX1_begins 39 = .ok (.aload_n 2, 1) := dk_44 (dk_at dksX1_begins_1 17 rfl rfl)
theorem dX1_begins_40 : decode cX1_begins 40 = .ok (.iload 4, 2) := dk_21 4 (dk_at dksX1_begins_1 18 rfl rfl)
theorem dX1_begins_42 : decode cX1_begins 42 = .ok (.aaload, 1) := dk_50 (dk_at dksX1_begins_1 20 rfl rfl)
theorem dX1_begins_43 : decode cX1_begins 43 = .ok (.invokevirtual 640, 3) := dk_182 2 128 (dk_at dksX1_begins_1 21 rfl rfl)
theorem dX1_begins_46 : decode cX1_begins 46 = .ok (.aload_n 0, 1) := dk_42 (dk_at dksX1_begins_2 0 rfl rfl)
theorem dX1_begins_47 : decode cX1_begins 47 = .ok (.aload_n 2, 1) := dk_44 (dk_at dksX1_begins_2 1 rfl rfl)
theorem dX1_begins_48 : decode cX1_begins 48 = .ok (.iload_n 3, 1) := dk_29 (dk_at dksX1_begins_2 2 rfl rfl)
theorem dX1_begins_49 : decode cX1_begins 49 = .ok (.aaload, 1) := dk_50 (dk_at dksX1_begins_2 3 rfl rfl)
theorem dX1_begins_50 : decode cX1_begins 50 = .ok (.invokevirtual 640, 3) := dk_182 2 128 (dk_at dksX1_begins_2 4 rfl rfl)
theorem dX1_begins_53 : decode cX1_begins 53 = .ok (.if_icmp .ge 6, 3) := dk_162 0 6 (dk_at dksX1_begins_2 7 rfl rfl)
theorem dX1_begins_56 : decode cX1_begins 56 = .ok (.iload 4, 2) := dk_21 4 (dk_at dksX1_begins_2 10 rfl rfl)
theorem dX1_begins_58 : decode cX1_begins 58 = .ok (.istore_n 3, 1) := dk_62 (dk_at dksX1_begins_2 12 rfl rfl)
theorem dX1_begins_59 : decode cX1_begins 59 = .ok (.iinc 4 1, 3) := dk_132 4 1 (dk_at dksX1_begins_2 13 rfl rfl)
theorem dX1_begins_62 : decode cX1_begins 62 = .ok (.goto (-31), 3) := dk_167 255 225 (dk_at dksX1_begins_2 16 rfl rfl)
theorem dX1_begins_65 : decode cX1_begins 65 = .ok (.iload_n 3, 1) := dk_29 (dk_at dksX1_begins_2 19 rfl rfl)
theorem dX1_begins_66 : decode cX1_begins 66 = .ok (.ireturn, 1) := dk_172 (dk_at dksX1_begins_2 20 rfl rfl)
abbrev cX1_costOf : ByteArray := prog_1_method_81_code
def yX1_costOf : MethodName := ⟨RX1, "costOf", "(LCheekTown$Rule;)I"⟩
def dkwX1_costOf_5 : List UInt8 := [21, 7, 46, 100, 104, 96, 62, 132, 4, 1, 167, 255, 140, 29, 172]
abbrev dktX1_costOf_5 : List UInt8 := dkwX1_costOf_5 ++ []
def dkwX1_costOf_4 : List UInt8 := [21, 6, 182, 1, 209, 42, 44, 21, 6, 21, 5, 182, 1, 209, 182, 1, 181, 16, 100, 44, 180, 0, 169]
abbrev dktX1_costOf_4 : List UInt8 := dkwX1_costOf_4 ++ dktX1_costOf_5
def dkwX1_costOf_3 : List UInt8 := [21, 6, 46, 182, 2, 119, 153, 0, 8, 21, 6, 167, 0, 5, 21, 5, 54, 7, 29, 44, 42, 44, 21, 5]
abbrev dktX1_costOf_3 : List UInt8 := dkwX1_costOf_3 ++ dktX1_costOf_4
def dkwX1_costOf_2 : List UInt8 := [180, 1, 203, 21, 4, 46, 184, 1, 250, 54, 6, 43, 44, 180, 0, 165, 21, 5, 46, 44, 180, 0, 165]
abbrev dktX1_costOf_2 : List UInt8 := dkwX1_costOf_2 ++ dktX1_costOf_3
def dkwX1_costOf_1 : List UInt8 := [21, 4, 46, 44, 180, 1, 203, 21, 4, 46, 184, 2, 8, 54, 5, 44, 180, 1, 206, 21, 4, 46, 44]
abbrev dktX1_costOf_1 : List UInt8 := dkwX1_costOf_1 ++ dktX1_costOf_2
def dkwX1_costOf_0 : List UInt8 := [42, 180, 0, 10, 77, 3, 62, 3, 54, 4, 21, 4, 44, 180, 0, 184, 162, 0, 113, 44, 180, 1, 206]
abbrev dktX1_costOf_0 : List UInt8 := dkwX1_costOf_0 ++ dktX1_costOf_1
theorem dksX1_costOf_0 : cX1_costOf.data.toList.drop 0 = dktX1_costOf_0 := by decide +kernel
theorem dksX1_costOf_1 : cX1_costOf.data.toList.drop 23 = dktX1_costOf_1 := dk_seg dksX1_costOf_0 23 rfl rfl
theorem dksX1_costOf_2 : cX1_costOf.data.toList.drop 46 = dktX1_costOf_2 := dk_seg dksX1_costOf_1 23 rfl rfl
theorem dksX1_costOf_3 : cX1_costOf.data.toList.drop 69 = dktX1_costOf_3 := dk_seg dksX1_costOf_2 23 rfl rfl
theorem dksX1_costOf_4 : cX1_costOf.data.toList.drop 93 = dktX1_costOf_4 := dk_seg dksX1_costOf_3 24 rfl rfl
theorem dksX1_costOf_5 : cX1_costOf.data.toList.drop 116 = dktX1_costOf_5 := dk_seg dksX1_costOf_4 23 rfl rfl
theorem dX1_costOf_0 : decode cX1_costOf 0 = .ok (.aload_n 0, 1) := dk_42 (dk_at dksX1_costOf_0 0 rfl rfl)
theorem dX1_costOf_1 : decode cX1_costOf 1 = .ok (.getfield 10, 3) := dk_180 0 10 (dk_at dksX1_costOf_0 1 rfl rfl)
theorem dX1_costOf_4 : decode cX1_costOf 4 = .ok (.astore_n 2, 1) := dk_77 (dk_at dksX1_costOf_0 4 rfl rfl)
theorem dX1_costOf_5 : decode cX1_costOf 5 = .ok (.iconst 0, 1) := dk_3 (dk_at dksX1_costOf_0 5 rfl rfl)
theorem dX1_costOf_6 : decode cX1_costOf 6 = .ok (.istore_n 3, 1) := dk_62 (dk_at dksX1_costOf_0 6 rfl rfl)
theorem dX1_costOf_7 : decode cX1_costOf 7 = .ok (.iconst 0, 1) := dk_3 (dk_at dksX1_costOf_0 7 rfl rfl)
theorem dX1_costOf_8 : decode cX1_costOf 8 = .ok (.istore 4, 2) := dk_54 4 (dk_at dksX1_costOf_0 8 rfl rfl)
theorem dX1_costOf_10 : decode cX1_costOf 10 = .ok (.iload 4, 2) := dk_21 4 (dk_at dksX1_costOf_0 10 rfl rfl)
theorem dX1_costOf_12 : decode cX1_costOf 12 = .ok (.aload_n 2, 1) := dk_44 (dk_at dksX1_costOf_0 12 rfl rfl)
theorem dX1_costOf_13 : decode cX1_costOf 13 = .ok (.getfield 184, 3) := dk_180 0 184 (dk_at dksX1_costOf_0 13 rfl rfl)
theorem dX1_costOf_16 : decode cX1_costOf 16 = .ok (.if_icmp .ge 113, 3) := dk_162 0 113 (dk_at dksX1_costOf_0 16 rfl rfl)
theorem dX1_costOf_19 : decode cX1_costOf 19 = .ok (.aload_n 2, 1) := dk_44 (dk_at dksX1_costOf_0 19 rfl rfl)
theorem dX1_costOf_20 : decode cX1_costOf 20 = .ok (.getfield 462, 3) := dk_180 1 206 (dk_at dksX1_costOf_0 20 rfl rfl)
theorem dX1_costOf_23 : decode cX1_costOf 23 = .ok (.iload 4, 2) := dk_21 4 (dk_at dksX1_costOf_1 0 rfl rfl)
theorem dX1_costOf_25 : decode cX1_costOf 25 = .ok (.iaload, 1) := dk_46 (dk_at dksX1_costOf_1 2 rfl rfl)
theorem dX1_costOf_26 : decode cX1_costOf 26 = .ok (.aload_n 2, 1) := dk_44 (dk_at dksX1_costOf_1 3 rfl rfl)
theorem dX1_costOf_27 : decode cX1_costOf 27 = .ok (.getfield 459, 3) := dk_180 1 203 (dk_at dksX1_costOf_1 4 rfl rfl)
theorem dX1_costOf_30 : decode cX1_costOf 30 = .ok (.iload 4, 2) := dk_21 4 (dk_at dksX1_costOf_1 7 rfl rfl)
theorem dX1_costOf_32 : decode cX1_costOf 32 = .ok (.iaload, 1) := dk_46 (dk_at dksX1_costOf_1 9 rfl rfl)
theorem dX1_costOf_33 : decode cX1_costOf 33 = .ok (.invokestatic 520, 3) := dk_184 2 8 (dk_at dksX1_costOf_1 10 rfl rfl)
theorem dX1_costOf_36 : decode cX1_costOf 36 = .ok (.istore 5, 2) := dk_54 5 (dk_at dksX1_costOf_1 13 rfl rfl)
theorem dX1_costOf_38 : decode cX1_costOf 38 = .ok (.aload_n 2, 1) := dk_44 (dk_at dksX1_costOf_1 15 rfl rfl)
theorem dX1_costOf_39 : decode cX1_costOf 39 = .ok (.getfield 462, 3) := dk_180 1 206 (dk_at dksX1_costOf_1 16 rfl rfl)
theorem dX1_costOf_42 : decode cX1_costOf 42 = .ok (.iload 4, 2) := dk_21 4 (dk_at dksX1_costOf_1 19 rfl rfl)
theorem dX1_costOf_44 : decode cX1_costOf 44 = .ok (.iaload, 1) := dk_46 (dk_at dksX1_costOf_1 21 rfl rfl)
theorem dX1_costOf_45 : decode cX1_costOf 45 = .ok (.aload_n 2, 1) := dk_44 (dk_at dksX1_costOf_1 22 rfl rfl)
theorem dX1_costOf_46 : decode cX1_costOf 46 = .ok (.getfield 459, 3) := dk_180 1 203 (dk_at dksX1_costOf_2 0 rfl rfl)
theorem dX1_costOf_49 : decode cX1_costOf 49 = .ok (.iload 4, 2) := dk_21 4 (dk_at dksX1_costOf_2 3 rfl rfl)
theorem dX1_costOf_51 : decode cX1_costOf 51 = .ok (.iaload, 1) := dk_46 (dk_at dksX1_costOf_2 5 rfl rfl)
theorem dX1_costOf_52 : decode cX1_costOf 52 = .ok (.invokestatic 506, 3) := dk_184 1 250 (dk_at dksX1_costOf_2 6 rfl rfl)
theorem dX1_costOf_55 : decode cX1_costOf 55 = .ok (.istore 6, 2) := dk_54 6 (dk_at dksX1_costOf_2 9 rfl rfl)
theorem dX1_costOf_57 : decode cX1_costOf 57 = .ok (.aload_n 1, 1) := dk_43 (dk_at dksX1_costOf_2 11 rfl rfl)
theorem dX1_costOf_58 : decode cX1_costOf 58 = .ok (.aload_n 2, 1) := dk_44 (dk_at dksX1_costOf_2 12 rfl rfl)
theorem dX1_costOf_59 : decode cX1_costOf 59 = .ok (.getfield 165, 3) := dk_180 0 165 (dk_at dksX1_costOf_2 13 rfl rfl)
theorem dX1_costOf_62 : decode cX1_costOf 62 = .ok (.iload 5, 2) := dk_21 5 (dk_at dksX1_costOf_2 16 rfl rfl)
theorem dX1_costOf_64 : decode cX1_costOf 64 = .ok (.iaload, 1) := dk_46 (dk_at dksX1_costOf_2 18 rfl rfl)
theorem dX1_costOf_65 : decode cX1_costOf 65 = .ok (.aload_n 2, 1) := dk_44 (dk_at dksX1_costOf_2 19 rfl rfl)
theorem dX1_costOf_66 : decode cX1_costOf 66 = .ok (.getfield 165, 3) := dk_180 0 165 (dk_at dksX1_costOf_2 20 rfl rfl)
theorem dX1_costOf_69 : decode cX1_costOf 69 = .ok (.iload 6, 2) := dk_21 6 (dk_at dksX1_costOf_3 0 rfl rfl)
theorem dX1_costOf_71 : decode cX1_costOf 71 = .ok (.iaload, 1) := dk_46 (dk_at dksX1_costOf_3 2 rfl rfl)
theorem dX1_costOf_72 : decode cX1_costOf 72 = .ok (.invokevirtual 631, 3) := dk_182 2 119 (dk_at dksX1_costOf_3 3 rfl rfl)
theorem dX1_costOf_75 : decode cX1_costOf 75 = .ok (.ifCond .eq 8, 3) := dk_153 0 8 (dk_at dksX1_costOf_3 6 rfl rfl)
theorem dX1_costOf_78 : decode cX1_costOf 78 = .ok (.iload 6, 2) := dk_21 6 (dk_at dksX1_costOf_3 9 rfl rfl)
theorem dX1_costOf_80 : decode cX1_costOf 80 = .ok (.goto 5, 3) := dk_167 0 5 (dk_at dksX1_costOf_3 11 rfl rfl)
theorem dX1_costOf_83 : decode cX1_costOf 83 = .ok (.iload 5, 2) := dk_21 5 (dk_at dksX1_costOf_3 14 rfl rfl)
theorem dX1_costOf_85 : decode cX1_costOf 85 = .ok (.istore 7, 2) := dk_54 7 (dk_at dksX1_costOf_3 16 rfl rfl)
theorem dX1_costOf_87 : decode cX1_costOf 87 = .ok (.iload_n 3, 1) := dk_29 (dk_at dksX1_costOf_3 18 rfl rfl)
theorem dX1_costOf_88 : decode cX1_costOf 88 = .ok (.aload_n 2, 1) := dk_44 (dk_at dksX1_costOf_3 19 rfl rfl)
theorem dX1_costOf_89 : decode cX1_costOf 89 = .ok (.aload_n 0, 1) := dk_42 (dk_at dksX1_costOf_3 20 rfl rfl)
theorem dX1_costOf_90 : decode cX1_costOf 90 = .ok (.aload_n 2, 1) := dk_44 (dk_at dksX1_costOf_3 21 rfl rfl)
theorem dX1_costOf_91 : decode cX1_costOf 91 = .ok (.iload 5, 2) := dk_21 5 (dk_at dksX1_costOf_3 22 rfl rfl)
theorem dX1_costOf_93 : decode cX1_costOf 93 = .ok (.iload 6, 2) := dk_21 6 (dk_at dksX1_costOf_4 0 rfl rfl)
theorem dX1_costOf_95 : decode cX1_costOf 95 = .ok (.invokevirtual 465, 3) := dk_182 1 209 (dk_at dksX1_costOf_4 2 rfl rfl)
theorem dX1_costOf_98 : decode cX1_costOf 98 = .ok (.aload_n 0, 1) := dk_42 (dk_at dksX1_costOf_4 5 rfl rfl)
theorem dX1_costOf_99 : decode cX1_costOf 99 = .ok (.aload_n 2, 1) := dk_44 (dk_at dksX1_costOf_4 6 rfl rfl)
theorem dX1_costOf_100 : decode cX1_costOf 100 = .ok (.iload 6, 2) := dk_21 6 (dk_at dksX1_costOf_4 7 rfl rfl)
theorem dX1_costOf_102 : decode cX1_costOf 102 = .ok (.iload 5, 2) := dk_21 5 (dk_at dksX1_costOf_4 9 rfl rfl)
theorem dX1_costOf_104 : decode cX1_costOf 104 = .ok (.invokevirtual 465, 3) := dk_182 1 209 (dk_at dksX1_costOf_4 11 rfl rfl)
theorem dX1_costOf_107 : decode cX1_costOf 107 = .ok (.invokevirtual 437, 3) := dk_182 1 181 (dk_at dksX1_costOf_4 14 rfl rfl)
theorem dX1_costOf_110 : decode cX1_costOf 110 = .ok (.bipush 100, 2) := dk_16 100 (dk_at dksX1_costOf_4 17 rfl rfl)
theorem dX1_costOf_112 : decode cX1_costOf 112 = .ok (.aload_n 2, 1) := dk_44 (dk_at dksX1_costOf_4 19 rfl rfl)
theorem dX1_costOf_113 : decode cX1_costOf 113 = .ok (.getfield 169, 3) := dk_180 0 169 (dk_at dksX1_costOf_4 20 rfl rfl)
theorem dX1_costOf_116 : decode cX1_costOf 116 = .ok (.iload 7, 2) := dk_21 7 (dk_at dksX1_costOf_5 0 rfl rfl)
theorem dX1_costOf_118 : decode cX1_costOf 118 = .ok (.iaload, 1) := dk_46 (dk_at dksX1_costOf_5 2 rfl rfl)
theorem dX1_costOf_119 : decode cX1_costOf 119 = .ok (.isub, 1) := dk_100 (dk_at dksX1_costOf_5 3 rfl rfl)
theorem dX1_costOf_120 : decode cX1_costOf 120 = .ok (.imul, 1) := dk_104 (dk_at dksX1_costOf_5 4 rfl rfl)
theorem dX1_costOf_121 : decode cX1_costOf 121 = .ok (.iadd, 1) := dk_96 (dk_at dksX1_costOf_5 5 rfl rfl)
theorem dX1_costOf_122 : decode cX1_costOf 122 = .ok (.istore_n 3, 1) := dk_62 (dk_at dksX1_costOf_5 6 rfl rfl)
theorem dX1_costOf_123 : decode cX1_costOf 123 = .ok (.iinc 4 1, 3) := dk_132 4 1 (dk_at dksX1_costOf_5 7 rfl rfl)
theorem dX1_costOf_126 : decode cX1_costOf 126 = .ok (.goto (-116), 3) := dk_167 255 140 (dk_at dksX1_costOf_5 10 rfl rfl)
theorem dX1_costOf_129 : decode cX1_costOf 129 = .ok (.iload_n 3, 1) := dk_29 (dk_at dksX1_costOf_5 13 rfl rfl)
theorem dX1_costOf_130 : decode cX1_costOf 130 = .ok (.ireturn, 1) := dk_172 (dk_at dksX1_costOf_5 14 rfl rfl)
abbrev cX1_after : ByteArray := prog_1_method_83_code
def yX1_after : MethodName := ⟨RX1, "after", "(II)I"⟩
def dkwX1_after_3 : List UInt8 := [182, 2, 149, 172]
abbrev dktX1_after_3 : List UInt8 := dkwX1_after_3 ++ []
def dkwX1_after_2 : List UInt8 := [180, 0, 10, 180, 0, 154, 154, 0, 7, 3, 167, 0, 15, 45, 45, 182, 2, 146, 45, 182, 2, 143]
abbrev dktX1_after_2 : List UInt8 := dkwX1_after_2 ++ dktX1_after_3
def dkwX1_after_1 : List UInt8 := [182, 2, 136, 78, 28, 154, 0, 8, 45, 182, 2, 140, 172, 28, 4, 160, 0, 8, 45, 182, 2, 143, 172, 42]
abbrev dktX1_after_1 : List UInt8 := dkwX1_after_1 ++ dktX1_after_2
def dkwX1_after_0 : List UInt8 := [27, 3, 16, 60, 184, 1, 158, 184, 1, 175, 28, 5, 184, 1, 190, 42, 180, 0, 69, 182, 2, 132, 27]
abbrev dktX1_after_0 : List UInt8 := dkwX1_after_0 ++ dktX1_after_1
theorem dksX1_after_0 : cX1_after.data.toList.drop 0 = dktX1_after_0 := by decide +kernel
theorem dksX1_after_1 : cX1_after.data.toList.drop 23 = dktX1_after_1 := dk_seg dksX1_after_0 23 rfl rfl
theorem dksX1_after_2 : cX1_after.data.toList.drop 47 = dktX1_after_2 := dk_seg dksX1_after_1 24 rfl rfl
theorem dksX1_after_3 : cX1_after.data.toList.drop 69 = dktX1_after_3 := dk_seg dksX1_after_2 22 rfl rfl
theorem dX1_after_0 : decode cX1_after 0 = .ok (.iload_n 1, 1) := dk_27 (dk_at dksX1_after_0 0 rfl rfl)
theorem dX1_after_1 : decode cX1_after 1 = .ok (.iconst 0, 1) := dk_3 (dk_at dksX1_after_0 1 rfl rfl)
theorem dX1_after_2 : decode cX1_after 2 = .ok (.bipush 60, 2) := dk_16 60 (dk_at dksX1_after_0 2 rfl rfl)
theorem dX1_after_4 : decode cX1_after 4 = .ok (.invokestatic 414, 3) := dk_184 1 158 (dk_at dksX1_after_0 4 rfl rfl)
theorem dX1_after_7 : decode cX1_after 7 = .ok (.invokestatic 431, 3) := dk_184 1 175 (dk_at dksX1_after_0 7 rfl rfl)
theorem dX1_after_10 : decode cX1_after 10 = .ok (.iload_n 2, 1) := dk_28 (dk_at dksX1_after_0 10 rfl rfl)
theorem dX1_after_11 : decode cX1_after 11 = .ok (.iconst 2, 1) := dk_5 (dk_at dksX1_after_0 11 rfl rfl)
theorem dX1_after_12 : decode cX1_after 12 = .ok (.invokestatic 446, 3) := dk_184 1 190 (dk_at dksX1_after_0 12 rfl rfl)
theorem dX1_after_15 : decode cX1_after 15 = .ok (.aload_n 0, 1) := dk_42 (dk_at dksX1_after_0 15 rfl rfl)
theorem dX1_after_16 : decode cX1_after 16 = .ok (.getfield 69, 3) := dk_180 0 69 (dk_at dksX1_after_0 16 rfl rfl)
theorem dX1_after_19 : decode cX1_after 19 = .ok (.invokevirtual 644, 3) := dk_182 2 132 (dk_at dksX1_after_0 19 rfl rfl)
theorem dX1_after_22 : decode cX1_after 22 = .ok (.iload_n 1, 1) := dk_27 (dk_at dksX1_after_0 22 rfl rfl)
theorem dX1_after_23 : decode cX1_after 23 = .ok (.invokevirtual 648, 3) := dk_182 2 136 (dk_at dksX1_after_1 0 rfl rfl)
theorem dX1_after_26 : decode cX1_after 26 = .ok (.astore_n 3, 1) := dk_78 (dk_at dksX1_after_1 3 rfl rfl)
theorem dX1_after_27 : decode cX1_after 27 = .ok (.iload_n 2, 1) := dk_28 (dk_at dksX1_after_1 4 rfl rfl)
theorem dX1_after_28 : decode cX1_after 28 = .ok (.ifCond .ne 8, 3) := dk_154 0 8 (dk_at dksX1_after_1 5 rfl rfl)
theorem dX1_after_31 : decode cX1_after 31 = .ok (.aload_n 3, 1) := dk_45 (dk_at dksX1_after_1 8 rfl rfl)
theorem dX1_after_32 : decode cX1_after 32 = .ok (.invokevirtual 652, 3) := dk_182 2 140 (dk_at dksX1_after_1 9 rfl rfl)
theorem dX1_after_35 : decode cX1_after 35 = .ok (.ireturn, 1) := dk_172 (dk_at dksX1_after_1 12 rfl rfl)
theorem dX1_after_36 : decode cX1_after 36 = .ok (.iload_n 2, 1) := dk_28 (dk_at dksX1_after_1 13 rfl rfl)
theorem dX1_after_37 : decode cX1_after 37 = .ok (.iconst 1, 1) := dk_4 (dk_at dksX1_after_1 14 rfl rfl)
theorem dX1_after_38 : decode cX1_after 38 = .ok (.if_icmp .ne 8, 3) := dk_160 0 8 (dk_at dksX1_after_1 15 rfl rfl)
theorem dX1_after_41 : decode cX1_after 41 = .ok (.aload_n 3, 1) := dk_45 (dk_at dksX1_after_1 18 rfl rfl)
theorem dX1_after_42 : decode cX1_after 42 = .ok (.invokevirtual 655, 3) := dk_182 2 143 (dk_at dksX1_after_1 19 rfl rfl)
theorem dX1_after_45 : decode cX1_after 45 = .ok (.ireturn, 1) := dk_172 (dk_at dksX1_after_1 22 rfl rfl)
theorem dX1_after_46 : decode cX1_after 46 = .ok (.aload_n 0, 1) := dk_42 (dk_at dksX1_after_1 23 rfl rfl)
theorem dX1_after_47 : decode cX1_after 47 = .ok (.getfield 10, 3) := dk_180 0 10 (dk_at dksX1_after_2 0 rfl rfl)
theorem dX1_after_50 : decode cX1_after 50 = .ok (.getfield 154, 3) := dk_180 0 154 (dk_at dksX1_after_2 3 rfl rfl)
theorem dX1_after_53 : decode cX1_after 53 = .ok (.ifCond .ne 7, 3) := dk_154 0 7 (dk_at dksX1_after_2 6 rfl rfl)
theorem dX1_after_56 : decode cX1_after 56 = .ok (.iconst 0, 1) := dk_3 (dk_at dksX1_after_2 9 rfl rfl)
theorem dX1_after_57 : decode cX1_after 57 = .ok (.goto 15, 3) := dk_167 0 15 (dk_at dksX1_after_2 10 rfl rfl)
theorem dX1_after_60 : decode cX1_after 60 = .ok (.aload_n 3, 1) := dk_45 (dk_at dksX1_after_2 13 rfl rfl)
theorem dX1_after_61 : decode cX1_after 61 = .ok (.aload_n 3, 1) := dk_45 (dk_at dksX1_after_2 14 rfl rfl)
theorem dX1_after_62 : decode cX1_after 62 = .ok (.invokevirtual 658, 3) := dk_182 2 146 (dk_at dksX1_after_2 15 rfl rfl)
theorem dX1_after_65 : decode cX1_after 65 = .ok (.aload_n 3, 1) := dk_45 (dk_at dksX1_after_2 18 rfl rfl)
theorem dX1_after_66 : decode cX1_after 66 = .ok (.invokevirtual 655, 3) := dk_182 2 143 (dk_at dksX1_after_2 19 rfl rfl)
theorem dX1_after_69 : decode cX1_after 69 = .ok (.invokevirtual 661, 3) := dk_182 2 149 (dk_at dksX1_after_3 0 rfl rfl)
theorem dX1_after_72 : decode cX1_after 72 = .ok (.ireturn, 1) := dk_172 (dk_at dksX1_after_3 3 rfl rfl)
abbrev cX1_custom : ByteArray := prog_1_method_84_code
def yX1_custom : MethodName := ⟨RX1, "custom", "(II)I"⟩
def dkwX1_custom_1 : List UInt8 := [182, 2, 136, 180, 2, 152, 27, 46, 172]
abbrev dktX1_custom_1 : List UInt8 := dkwX1_custom_1 ++ []
def dkwX1_custom_0 : List UInt8 := [42, 27, 182, 1, 171, 28, 3, 16, 60, 184, 1, 158, 184, 1, 175, 42, 180, 0, 69, 182, 2, 132, 28]
abbrev dktX1_custom_0 : List UInt8 := dkwX1_custom_0 ++ dktX1_custom_1
theorem dksX1_custom_0 : cX1_custom.data.toList.drop 0 = dktX1_custom_0 := by decide +kernel
theorem dksX1_custom_1 : cX1_custom.data.toList.drop 23 = dktX1_custom_1 := dk_seg dksX1_custom_0 23 rfl rfl
theorem dX1_custom_0 : decode cX1_custom 0 = .ok (.aload_n 0, 1) := dk_42 (dk_at dksX1_custom_0 0 rfl rfl)
theorem dX1_custom_1 : decode cX1_custom 1 = .ok (.iload_n 1, 1) := dk_27 (dk_at dksX1_custom_0 1 rfl rfl)
theorem dX1_custom_2 : decode cX1_custom 2 = .ok (.invokevirtual 427, 3) := dk_182 1 171 (dk_at dksX1_custom_0 2 rfl rfl)
theorem dX1_custom_5 : decode cX1_custom 5 = .ok (.iload_n 2, 1) := dk_28 (dk_at dksX1_custom_0 5 rfl rfl)
theorem dX1_custom_6 : decode cX1_custom 6 = .ok (.iconst 0, 1) := dk_3 (dk_at dksX1_custom_0 6 rfl rfl)
theorem dX1_custom_7 : decode cX1_custom 7 = .ok (.bipush 60, 2) := dk_16 60 (dk_at dksX1_custom_0 7 rfl rfl)
theorem dX1_custom_9 : decode cX1_custom 9 = .ok (.invokestatic 414, 3) := dk_184 1 158 (dk_at dksX1_custom_0 9 rfl rfl)
theorem dX1_custom_12 : decode cX1_custom 12 = .ok (.invokestatic 431, 3) := dk_184 1 175 (dk_at dksX1_custom_0 12 rfl rfl)
theorem dX1_custom_15 : decode cX1_custom 15 = .ok (.aload_n 0, 1) := dk_42 (dk_at dksX1_custom_0 15 rfl rfl)
theorem dX1_custom_16 : decode cX1_custom 16 = .ok (.getfield 69, 3) := dk_180 0 69 (dk_at dksX1_custom_0 16 rfl rfl)
theorem dX1_custom_19 : decode cX1_custom 19 = .ok (.invokevirtual 644, 3) := dk_182 2 132 (dk_at dksX1_custom_0 19 rfl rfl)
theorem dX1_custom_22 : decode cX1_custom 22 = .ok (.iload_n 2, 1) := dk_28 (dk_at dksX1_custom_0 22 rfl rfl)
theorem dX1_custom_23 : decode cX1_custom 23 = .ok (.invokevirtual 648, 3) := dk_182 2 136 (dk_at dksX1_custom_1 0 rfl rfl)
theorem dX1_custom_26 : decode cX1_custom 26 = .ok (.getfield 664, 3) := dk_180 2 152 (dk_at dksX1_custom_1 3 rfl rfl)
theorem dX1_custom_29 : decode cX1_custom 29 = .ok (.iload_n 1, 1) := dk_27 (dk_at dksX1_custom_1 6 rfl rfl)
theorem dX1_custom_30 : decode cX1_custom 30 = .ok (.iaload, 1) := dk_46 (dk_at dksX1_custom_1 7 rfl rfl)
theorem dX1_custom_31 : decode cX1_custom 31 = .ok (.ireturn, 1) := dk_172 (dk_at dksX1_custom_1 8 rfl rfl)
abbrev cX1_told : ByteArray := prog_1_method_86_code
def yX1_told : MethodName := ⟨RX1, "told", "(II)I"⟩
def dkwX1_told_3 : List UInt8 := [21, 5, 54, 4, 132, 5, 255, 167, 255, 210, 21, 4, 172]
abbrev dktX1_told_3 : List UInt8 := dkwX1_told_3 ++ []
def dkwX1_told_2 : List UInt8 := [164, 0, 6, 167, 0, 25, 45, 21, 5, 27, 182, 2, 156, 28, 182, 2, 136, 27, 182, 2, 160, 153, 0, 7]
abbrev dktX1_told_2 : List UInt8 := dkwX1_told_2 ++ dktX1_told_3
def dkwX1_told_1 : List UInt8 := [182, 2, 146, 54, 4, 21, 4, 54, 5, 21, 5, 155, 0, 47, 21, 5, 184, 2, 95, 21, 4, 184, 2, 95]
abbrev dktX1_told_1 : List UInt8 := dkwX1_told_1 ++ dktX1_told_2
def dkwX1_told_0 : List UInt8 := [27, 184, 1, 178, 28, 3, 16, 60, 184, 1, 158, 184, 1, 175, 42, 180, 0, 69, 182, 2, 132, 78, 45]
abbrev dktX1_told_0 : List UInt8 := dkwX1_told_0 ++ dktX1_told_1
theorem dksX1_told_0 : cX1_told.data.toList.drop 0 = dktX1_told_0 := by decide +kernel
theorem dksX1_told_1 : cX1_told.data.toList.drop 23 = dktX1_told_1 := dk_seg dksX1_told_0 23 rfl rfl
theorem dksX1_told_2 : cX1_told.data.toList.drop 47 = dktX1_told_2 := dk_seg dksX1_told_1 24 rfl rfl
theorem dksX1_told_3 : cX1_told.data.toList.drop 71 = dktX1_told_3 := dk_seg dksX1_told_2 24 rfl rfl
theorem dX1_told_0 : decode cX1_told 0 = .ok (.iload_n 1, 1) := dk_27 (dk_at dksX1_told_0 0 rfl rfl)
theorem dX1_told_1 : decode cX1_told 1 = .ok (.invokestatic 434, 3) := dk_184 1 178 (dk_at dksX1_told_0 1 rfl rfl)
theorem dX1_told_4 : decode cX1_told 4 = .ok (.iload_n 2, 1) := dk_28 (dk_at dksX1_told_0 4 rfl rfl)
theorem dX1_told_5 : decode cX1_told 5 = .ok (.iconst 0, 1) := dk_3 (dk_at dksX1_told_0 5 rfl rfl)
theorem dX1_told_6 : decode cX1_told 6 = .ok (.bipush 60, 2) := dk_16 60 (dk_at dksX1_told_0 6 rfl rfl)
theorem dX1_told_8 : decode cX1_told 8 = .ok (.invokestatic 414, 3) := dk_184 1 158 (dk_at dksX1_told_0 8 rfl rfl)
theorem dX1_told_11 : decode cX1_told 11 = .ok (.invokestatic 431, 3) := dk_184 1 175 (dk_at dksX1_told_0 11 rfl rfl)
theorem dX1_told_14 : decode cX1_told 14 = .ok (.aload_n 0, 1) := dk_42 (dk_at dksX1_told_0 14 rfl rfl)
theorem dX1_told_15 : decode cX1_told 15 = .ok (.getfield 69, 3) := dk_180 0 69 (dk_at dksX1_told_0 15 rfl rfl)
theorem dX1_told_18 : decode cX1_told 18 = .ok (.invokevirtual 644, 3) := dk_182 2 132 (dk_at dksX1_told_0 18 rfl rfl)
theorem dX1_told_21 : decode cX1_told 21 = .ok (.astore_n 3, 1) := dk_78 (dk_at dksX1_told_0 21 rfl rfl)
theorem dX1_told_22 : decode cX1_told 22 = .ok (.aload_n 3, 1) := dk_45 (dk_at dksX1_told_0 22 rfl rfl)
theorem dX1_told_23 : decode cX1_told 23 = .ok (.invokevirtual 658, 3) := dk_182 2 146 (dk_at dksX1_told_1 0 rfl rfl)
theorem dX1_told_26 : decode cX1_told 26 = .ok (.istore 4, 2) := dk_54 4 (dk_at dksX1_told_1 3 rfl rfl)
theorem dX1_told_28 : decode cX1_told 28 = .ok (.iload 4, 2) := dk_21 4 (dk_at dksX1_told_1 5 rfl rfl)
theorem dX1_told_30 : decode cX1_told 30 = .ok (.istore 5, 2) := dk_54 5 (dk_at dksX1_told_1 7 rfl rfl)
theorem dX1_told_32 : decode cX1_told 32 = .ok (.iload 5, 2) := dk_21 5 (dk_at dksX1_told_1 9 rfl rfl)
theorem dX1_told_34 : decode cX1_told 34 = .ok (.ifCond .lt 47, 3) := dk_155 0 47 (dk_at dksX1_told_1 11 rfl rfl)
theorem dX1_told_37 : decode cX1_told 37 = .ok (.iload 5, 2) := dk_21 5 (dk_at dksX1_told_1 14 rfl rfl)
theorem dX1_told_39 : decode cX1_told 39 = .ok (.invokestatic 607, 3) := dk_184 2 95 (dk_at dksX1_told_1 16 rfl rfl)
theorem dX1_told_42 : decode cX1_told 42 = .ok (.iload 4, 2) := dk_21 4 (dk_at dksX1_told_1 19 rfl rfl)
theorem dX1_told_44 : decode cX1_told 44 = .ok (.invokestatic 607, 3) := dk_184 2 95 (dk_at dksX1_told_1 21 rfl rfl)
theorem dX1_told_47 : decode cX1_told 47 = .ok (.if_icmp .le 6, 3) := dk_164 0 6 (dk_at dksX1_told_2 0 rfl rfl)
theorem dX1_told_50 : decode cX1_told 50 = .ok (.goto 25, 3) := dk_167 0 25 (dk_at dksX1_told_2 3 rfl rfl)
theorem dX1_told_53 : decode cX1_told 53 = .ok (.aload_n 3, 1) := dk_45 (dk_at dksX1_told_2 6 rfl rfl)
theorem dX1_told_54 : decode cX1_told 54 = .ok (.iload 5, 2) := dk_21 5 (dk_at dksX1_told_2 7 rfl rfl)
theorem dX1_told_56 : decode cX1_told 56 = .ok (.iload_n 1, 1) := dk_27 (dk_at dksX1_told_2 9 rfl rfl)
theorem dX1_told_57 : decode cX1_told 57 = .ok (.invokevirtual 668, 3) := dk_182 2 156 (dk_at dksX1_told_2 10 rfl rfl)
theorem dX1_told_60 : decode cX1_told 60 = .ok (.iload_n 2, 1) := dk_28 (dk_at dksX1_told_2 13 rfl rfl)
theorem dX1_told_61 : decode cX1_told 61 = .ok (.invokevirtual 648, 3) := dk_182 2 136 (dk_at dksX1_told_2 14 rfl rfl)
theorem dX1_told_64 : decode cX1_told 64 = .ok (.iload_n 1, 1) := dk_27 (dk_at dksX1_told_2 17 rfl rfl)
theorem dX1_told_65 : decode cX1_told 65 = .ok (.invokevirtual 672, 3) := dk_182 2 160 (dk_at dksX1_told_2 18 rfl rfl)
theorem dX1_told_68 : decode cX1_told 68 = .ok (.ifCond .eq 7, 3) := dk_153 0 7 (dk_at dksX1_told_2 21 rfl rfl)
theorem dX1_told_71 : decode cX1_told 71 = .ok (.iload 5, 2) := dk_21 5 (dk_at dksX1_told_3 0 rfl rfl)
theorem dX1_told_73 : decode cX1_told 73 = .ok (.istore 4, 2) := dk_54 4 (dk_at dksX1_told_3 2 rfl rfl)
theorem dX1_told_75 : decode cX1_told 75 = .ok (.iinc 5 (-1), 3) := dk_132 5 255 (dk_at dksX1_told_3 4 rfl rfl)
theorem dX1_told_78 : decode cX1_told 78 = .ok (.goto (-46), 3) := dk_167 255 210 (dk_at dksX1_told_3 7 rfl rfl)
theorem dX1_told_81 : decode cX1_told 81 = .ok (.iload 4, 2) := dk_21 4 (dk_at dksX1_told_3 10 rfl rfl)
theorem dX1_told_83 : decode cX1_told 83 = .ok (.ireturn, 1) := dk_172 (dk_at dksX1_told_3 12 rfl rfl)
abbrev cX1_colds : ByteArray := prog_1_method_88_code
def yX1_colds : MethodName := ⟨RX1, "colds", "(II)I"⟩
def dkwX1_colds_0 : List UInt8 := [28, 3, 16, 20, 184, 1, 158, 184, 1, 175, 42, 42, 27, 182, 2, 28, 28, 182, 2, 166, 172]
abbrev dktX1_colds_0 : List UInt8 := dkwX1_colds_0 ++ []
theorem dksX1_colds_0 : cX1_colds.data.toList.drop 0 = dktX1_colds_0 := by decide +kernel
theorem dX1_colds_0 : decode cX1_colds 0 = .ok (.iload_n 2, 1) := dk_28 (dk_at dksX1_colds_0 0 rfl rfl)
theorem dX1_colds_1 : decode cX1_colds 1 = .ok (.iconst 0, 1) := dk_3 (dk_at dksX1_colds_0 1 rfl rfl)
theorem dX1_colds_2 : decode cX1_colds 2 = .ok (.bipush 20, 2) := dk_16 20 (dk_at dksX1_colds_0 2 rfl rfl)
theorem dX1_colds_4 : decode cX1_colds 4 = .ok (.invokestatic 414, 3) := dk_184 1 158 (dk_at dksX1_colds_0 4 rfl rfl)
theorem dX1_colds_7 : decode cX1_colds 7 = .ok (.invokestatic 431, 3) := dk_184 1 175 (dk_at dksX1_colds_0 7 rfl rfl)
theorem dX1_colds_10 : decode cX1_colds 10 = .ok (.aload_n 0, 1) := dk_42 (dk_at dksX1_colds_0 10 rfl rfl)
theorem dX1_colds_11 : decode cX1_colds 11 = .ok (.aload_n 0, 1) := dk_42 (dk_at dksX1_colds_0 11 rfl rfl)
theorem dX1_colds_12 : decode cX1_colds 12 = .ok (.iload_n 1, 1) := dk_27 (dk_at dksX1_colds_0 12 rfl rfl)
theorem dX1_colds_13 : decode cX1_colds 13 = .ok (.invokevirtual 540, 3) := dk_182 2 28 (dk_at dksX1_colds_0 13 rfl rfl)
theorem dX1_colds_16 : decode cX1_colds 16 = .ok (.iload_n 2, 1) := dk_28 (dk_at dksX1_colds_0 16 rfl rfl)
theorem dX1_colds_17 : decode cX1_colds 17 = .ok (.invokevirtual 678, 3) := dk_182 2 166 (dk_at dksX1_colds_0 17 rfl rfl)
theorem dX1_colds_20 : decode cX1_colds 20 = .ok (.ireturn, 1) := dk_172 (dk_at dksX1_colds_0 20 rfl rfl)
abbrev cX1_coldsBy : ByteArray := prog_1_method_87_code
def yX1_coldsBy : MethodName := ⟨RX1, "coldsBy", "(II)I"⟩
def dkwX1_coldsBy_3 : List UInt8 := [21, 7, 128, 54, 4, 132, 6, 1, 167, 255, 201, 132, 5, 1, 167, 255, 186, 21, 4, 172]
abbrev dktX1_coldsBy_3 : List UInt8 := dkwX1_coldsBy_3 ++ []
def dkwX1_coldsBy_2 : List UInt8 := [21, 6, 46, 120, 128, 54, 7, 21, 7, 27, 126, 154, 0, 18, 21, 7, 21, 4, 126, 153, 0, 10, 21, 4]
abbrev dktX1_coldsBy_2 : List UInt8 := dkwX1_coldsBy_2 ++ dktX1_coldsBy_3
def dkwX1_coldsBy_1 : List UInt8 := [21, 6, 45, 180, 0, 184, 162, 0, 52, 4, 45, 180, 1, 206, 21, 6, 46, 120, 4, 45, 180, 1, 203]
abbrev dktX1_coldsBy_1 : List UInt8 := dkwX1_coldsBy_1 ++ dktX1_coldsBy_2
def dkwX1_coldsBy_0 : List UInt8 := [42, 180, 0, 10, 78, 45, 182, 2, 163, 54, 4, 3, 54, 5, 21, 5, 28, 162, 0, 70, 3, 54, 6]
abbrev dktX1_coldsBy_0 : List UInt8 := dkwX1_coldsBy_0 ++ dktX1_coldsBy_1
theorem dksX1_coldsBy_0 : cX1_coldsBy.data.toList.drop 0 = dktX1_coldsBy_0 := by decide +kernel
theorem dksX1_coldsBy_1 : cX1_coldsBy.data.toList.drop 23 = dktX1_coldsBy_1 := dk_seg dksX1_coldsBy_0 23 rfl rfl
theorem dksX1_coldsBy_2 : cX1_coldsBy.data.toList.drop 46 = dktX1_coldsBy_2 := dk_seg dksX1_coldsBy_1 23 rfl rfl
theorem dksX1_coldsBy_3 : cX1_coldsBy.data.toList.drop 70 = dktX1_coldsBy_3 := dk_seg dksX1_coldsBy_2 24 rfl rfl
theorem dX1_coldsBy_0 : decode cX1_coldsBy 0 = .ok (.aload_n 0, 1) := dk_42 (dk_at dksX1_coldsBy_0 0 rfl rfl)
theorem dX1_coldsBy_1 : decode cX1_coldsBy 1 = .ok (.getfield 10, 3) := dk_180 0 10 (dk_at dksX1_coldsBy_0 1 rfl rfl)
theorem dX1_coldsBy_4 : decode cX1_coldsBy 4 = .ok (.astore_n 3, 1) := dk_78 (dk_at dksX1_coldsBy_0 4 rfl rfl)
theorem dX1_coldsBy_5 : decode cX1_coldsBy 5 = .ok (.aload_n 3, 1) := dk_45 (dk_at dksX1_coldsBy_0 5 rfl rfl)
theorem dX1_coldsBy_6 : decode cX1_coldsBy 6 = .ok (.invokevirtual 675, 3) := dk_182 2 163 (dk_at dksX1_coldsBy_0 6 rfl rfl)
theorem dX1_coldsBy_9 : decode cX1_coldsBy 9 = .ok (.istore 4, 2) := dk_54 4 (dk_at dksX1_coldsBy_0 9 rfl rfl)
theorem dX1_coldsBy_11 : decode cX1_coldsBy 11 = .ok (.iconst 0, 1) := dk_3 (dk_at dksX1_coldsBy_0 11 rfl rfl)
theorem dX1_coldsBy_12 : decode cX1_coldsBy 12 = .ok (.istore 5, 2) := dk_54 5 (dk_at dksX1_coldsBy_0 12 rfl rfl)
theorem dX1_coldsBy_14 : decode cX1_coldsBy 14 = .ok (.iload 5, 2) := dk_21 5 (dk_at dksX1_coldsBy_0 14 rfl rfl)
theorem dX1_coldsBy_16 : decode cX1_coldsBy 16 = .ok (.iload_n 2, 1) := dk_28 (dk_at dksX1_coldsBy_0 16 rfl rfl)
theorem dX1_coldsBy_17 : decode cX1_coldsBy 17 = .ok (.if_icmp .ge 70, 3) := dk_162 0 70 (dk_at dksX1_coldsBy_0 17 rfl rfl)
theorem dX1_coldsBy_20 : decode cX1_coldsBy 20 = .ok (.iconst 0, 1) := dk_3 (dk_at dksX1_coldsBy_0 20 rfl rfl)
theorem dX1_coldsBy_21 : decode cX1_coldsBy 21 = .ok (.istore 6, 2) := dk_54 6 (dk_at dksX1_coldsBy_0 21 rfl rfl)
theorem dX1_coldsBy_23 : decode cX1_coldsBy 23 = .ok (.iload 6, 2) := dk_21 6 (dk_at dksX1_coldsBy_1 0 rfl rfl)
theorem dX1_coldsBy_25 : decode cX1_coldsBy 25 = .ok (.aload_n 3, 1) := dk_45 (dk_at dksX1_coldsBy_1 2 rfl rfl)
theorem dX1_coldsBy_26 : decode cX1_coldsBy 26 = .ok (.getfield 184, 3) := dk_180 0 184 (dk_at dksX1_coldsBy_1 3 rfl rfl)
theorem dX1_coldsBy_29 : decode cX1_coldsBy 29 = .ok (.if_icmp .ge 52, 3) := dk_162 0 52 (dk_at dksX1_coldsBy_1 6 rfl rfl)
theorem dX1_coldsBy_32 : decode cX1_coldsBy 32 = .ok (.iconst 1, 1) := dk_4 (dk_at dksX1_coldsBy_1 9 rfl rfl)
theorem dX1_coldsBy_33 : decode cX1_coldsBy 33 = .ok (.aload_n 3, 1) := dk_45 (dk_at dksX1_coldsBy_1 10 rfl rfl)
theorem dX1_coldsBy_34 : decode cX1_coldsBy 34 = .ok (.getfield 462, 3) := dk_180 1 206 (dk_at dksX1_coldsBy_1 11 rfl rfl)
theorem dX1_coldsBy_37 : decode cX1_coldsBy 37 = .ok (.iload 6, 2) := dk_21 6 (dk_at dksX1_coldsBy_1 14 rfl rfl)
theorem dX1_coldsBy_39 : decode cX1_coldsBy 39 = .ok (.iaload, 1) := dk_46 (dk_at dksX1_coldsBy_1 16 rfl rfl)
theorem dX1_coldsBy_40 : decode cX1_coldsBy 40 = .ok (.ishl, 1) := dk_120 (dk_at dksX1_coldsBy_1 17 rfl rfl)
theorem dX1_coldsBy_41 : decode cX1_coldsBy 41 = .ok (.iconst 1, 1) := dk_4 (dk_at dksX1_coldsBy_1 18 rfl rfl)
theorem dX1_coldsBy_42 : decode cX1_coldsBy 42 = .ok (.aload_n 3, 1) := dk_45 (dk_at dksX1_coldsBy_1 19 rfl rfl)
theorem dX1_coldsBy_43 : decode cX1_coldsBy 43 = .ok (.getfield 459, 3) := dk_180 1 203 (dk_at dksX1_coldsBy_1 20 rfl rfl)
theorem dX1_coldsBy_46 : decode cX1_coldsBy 46 = .ok (.iload 6, 2) := dk_21 6 (dk_at dksX1_coldsBy_2 0 rfl rfl)
theorem dX1_coldsBy_48 : decode cX1_coldsBy 48 = .ok (.iaload, 1) := dk_46 (dk_at dksX1_coldsBy_2 2 rfl rfl)
theorem dX1_coldsBy_49 : decode cX1_coldsBy 49 = .ok (.ishl, 1) := dk_120 (dk_at dksX1_coldsBy_2 3 rfl rfl)
theorem dX1_coldsBy_50 : decode cX1_coldsBy 50 = .ok (.ior, 1) := dk_128 (dk_at dksX1_coldsBy_2 4 rfl rfl)
theorem dX1_coldsBy_51 : decode cX1_coldsBy 51 = .ok (.istore 7, 2) := dk_54 7 (dk_at dksX1_coldsBy_2 5 rfl rfl)
theorem dX1_coldsBy_53 : decode cX1_coldsBy 53 = .ok (.iload 7, 2) := dk_21 7 (dk_at dksX1_coldsBy_2 7 rfl rfl)
theorem dX1_coldsBy_55 : decode cX1_coldsBy 55 = .ok (.iload_n 1, 1) := dk_27 (dk_at dksX1_coldsBy_2 9 rfl rfl)
theorem dX1_coldsBy_56 : decode cX1_coldsBy 56 = .ok (.iand, 1) := dk_126 (dk_at dksX1_coldsBy_2 10 rfl rfl)
theorem dX1_coldsBy_57 : decode cX1_coldsBy 57 = .ok (.ifCond .ne 18, 3) := dk_154 0 18 (dk_at dksX1_coldsBy_2 11 rfl rfl)
theorem dX1_coldsBy_60 : decode cX1_coldsBy 60 = .ok (.iload 7, 2) := dk_21 7 (dk_at dksX1_coldsBy_2 14 rfl rfl)
theorem dX1_coldsBy_62 : decode cX1_coldsBy 62 = .ok (.iload 4, 2) := dk_21 4 (dk_at dksX1_coldsBy_2 16 rfl rfl)
theorem dX1_coldsBy_64 : decode cX1_coldsBy 64 = .ok (.iand, 1) := dk_126 (dk_at dksX1_coldsBy_2 18 rfl rfl)
theorem dX1_coldsBy_65 : decode cX1_coldsBy 65 = .ok (.ifCond .eq 10, 3) := dk_153 0 10 (dk_at dksX1_coldsBy_2 19 rfl rfl)
theorem dX1_coldsBy_68 : decode cX1_coldsBy 68 = .ok (.iload 4, 2) := dk_21 4 (dk_at dksX1_coldsBy_2 22 rfl rfl)
theorem dX1_coldsBy_70 : decode cX1_coldsBy 70 = .ok (.iload 7, 2) := dk_21 7 (dk_at dksX1_coldsBy_3 0 rfl rfl)
theorem dX1_coldsBy_72 : decode cX1_coldsBy 72 = .ok (.ior, 1) := dk_128 (dk_at dksX1_coldsBy_3 2 rfl rfl)
theorem dX1_coldsBy_73 : decode cX1_coldsBy 73 = .ok (.istore 4, 2) := dk_54 4 (dk_at dksX1_coldsBy_3 3 rfl rfl)
theorem dX1_coldsBy_75 : decode cX1_coldsBy 75 = .ok (.iinc 6 1, 3) := dk_132 6 1 (dk_at dksX1_coldsBy_3 5 rfl rfl)
theorem dX1_coldsBy_78 : decode cX1_coldsBy 78 = .ok (.goto (-55), 3) := dk_167 255 201 (dk_at dksX1_coldsBy_3 8 rfl rfl)
theorem dX1_coldsBy_81 : decode cX1_coldsBy 81 = .ok (.iinc 5 1, 3) := dk_132 5 1 (dk_at dksX1_coldsBy_3 11 rfl rfl)
theorem dX1_coldsBy_84 : decode cX1_coldsBy 84 = .ok (.goto (-70), 3) := dk_167 255 186 (dk_at dksX1_coldsBy_3 14 rfl rfl)
theorem dX1_coldsBy_87 : decode cX1_coldsBy 87 = .ok (.iload 4, 2) := dk_21 4 (dk_at dksX1_coldsBy_3 17 rfl rfl)
theorem dX1_coldsBy_89 : decode cX1_coldsBy 89 = .ok (.ireturn, 1) := dk_172 (dk_at dksX1_coldsBy_3 19 rfl rfl)
abbrev cX1_spared : ByteArray := prog_1_method_89_code
def yX1_spared : MethodName := ⟨RX1, "spared", "(II)I"⟩
def dkwX1_spared_4 : List UInt8 := [21, 4, 62, 132, 4, 255, 167, 255, 207, 29, 172]
abbrev dktX1_spared_4 : List UInt8 := dkwX1_spared_4 ++ []
def dkwX1_spared_3 : List UInt8 := [184, 2, 95, 164, 0, 6, 167, 0, 20, 42, 21, 4, 28, 182, 2, 166, 27, 184, 2, 30, 154, 0, 6]
abbrev dktX1_spared_3 : List UInt8 := dkwX1_spared_3 ++ dktX1_spared_4
def dkwX1_spared_2 : List UInt8 := [29, 54, 4, 21, 4, 155, 0, 50, 21, 4, 27, 184, 2, 30, 154, 0, 35, 21, 4, 184, 2, 95, 29]
abbrev dktX1_spared_2 : List UInt8 := dkwX1_spared_2 ++ dktX1_spared_3
def dkwX1_spared_1 : List UInt8 := [153, 0, 6, 16, 254, 172, 4, 42, 180, 0, 10, 180, 0, 154, 120, 4, 100, 4, 27, 120, 2, 130, 126, 62]
abbrev dktX1_spared_1 : List UInt8 := dkwX1_spared_1 ++ dktX1_spared_2
def dkwX1_spared_0 : List UInt8 := [42, 27, 182, 1, 171, 28, 3, 16, 20, 184, 1, 158, 184, 1, 175, 42, 180, 0, 10, 180, 0, 171, 27, 51]
abbrev dktX1_spared_0 : List UInt8 := dkwX1_spared_0 ++ dktX1_spared_1
theorem dksX1_spared_0 : cX1_spared.data.toList.drop 0 = dktX1_spared_0 := by decide +kernel
theorem dksX1_spared_1 : cX1_spared.data.toList.drop 24 = dktX1_spared_1 := dk_seg dksX1_spared_0 24 rfl rfl
theorem dksX1_spared_2 : cX1_spared.data.toList.drop 48 = dktX1_spared_2 := dk_seg dksX1_spared_1 24 rfl rfl
theorem dksX1_spared_3 : cX1_spared.data.toList.drop 71 = dktX1_spared_3 := dk_seg dksX1_spared_2 23 rfl rfl
theorem dksX1_spared_4 : cX1_spared.data.toList.drop 94 = dktX1_spared_4 := dk_seg dksX1_spared_3 23 rfl rfl
theorem dX1_spared_0 : decode cX1_spared 0 = .ok (.aload_n 0, 1) := dk_42 (dk_at dksX1_spared_0 0 rfl rfl)
theorem dX1_spared_1 : decode cX1_spared 1 = .ok (.iload_n 1, 1) := dk_27 (dk_at dksX1_spared_0 1 rfl rfl)
theorem dX1_spared_2 : decode cX1_spared 2 = .ok (.invokevirtual 427, 3) := dk_182 1 171 (dk_at dksX1_spared_0 2 rfl rfl)
theorem dX1_spared_5 : decode cX1_spared 5 = .ok (.iload_n 2, 1) := dk_28 (dk_at dksX1_spared_0 5 rfl rfl)
theorem dX1_spared_6 : decode cX1_spared 6 = .ok (.iconst 0, 1) := dk_3 (dk_at dksX1_spared_0 6 rfl rfl)
theorem dX1_spared_7 : decode cX1_spared 7 = .ok (.bipush 20, 2) := dk_16 20 (dk_at dksX1_spared_0 7 rfl rfl)
theorem dX1_spared_9 : decode cX1_spared 9 = .ok (.invokestatic 414, 3) := dk_184 1 158 (dk_at dksX1_spared_0 9 rfl rfl)
theorem dX1_spared_12 : decode cX1_spared 12 = .ok (.invokestatic 431, 3) := dk_184 1 175 (dk_at dksX1_spared_0 12 rfl rfl)
theorem dX1_spared_15 : decode cX1_spared 15 = .ok (.aload_n 0, 1) := dk_42 (dk_at dksX1_spared_0 15 rfl rfl)
theorem dX1_spared_16 : decode cX1_spared 16 = .ok (.getfield 10, 3) := dk_180 0 10 (dk_at dksX1_spared_0 16 rfl rfl)
theorem dX1_spared_19 : decode cX1_spared 19 = .ok (.getfield 171, 3) := dk_180 0 171 (dk_at dksX1_spared_0 19 rfl rfl)
theorem dX1_spared_22 : decode cX1_spared 22 = .ok (.iload_n 1, 1) := dk_27 (dk_at dksX1_spared_0 22 rfl rfl)
theorem dX1_spared_23 : decode cX1_spared 23 = .ok (.baload, 1) := dk_51 (dk_at dksX1_spared_0 23 rfl rfl)
theorem dX1_spared_24 : decode cX1_spared 24 = .ok (.ifCond .eq 6, 3) := dk_153 0 6 (dk_at dksX1_spared_1 0 rfl rfl)
theorem dX1_spared_27 : decode cX1_spared 27 = .ok (.bipush (-2), 2) := dk_16 254 (dk_at dksX1_spared_1 3 rfl rfl)
theorem dX1_spared_29 : decode cX1_spared 29 = .ok (.ireturn, 1) := dk_172 (dk_at dksX1_spared_1 5 rfl rfl)
theorem dX1_spared_30 : decode cX1_spared 30 = .ok (.iconst 1, 1) := dk_4 (dk_at dksX1_spared_1 6 rfl rfl)
theorem dX1_spared_31 : decode cX1_spared 31 = .ok (.aload_n 0, 1) := dk_42 (dk_at dksX1_spared_1 7 rfl rfl)
theorem dX1_spared_32 : decode cX1_spared 32 = .ok (.getfield 10, 3) := dk_180 0 10 (dk_at dksX1_spared_1 8 rfl rfl)
theorem dX1_spared_35 : decode cX1_spared 35 = .ok (.getfield 154, 3) := dk_180 0 154 (dk_at dksX1_spared_1 11 rfl rfl)
theorem dX1_spared_38 : decode cX1_spared 38 = .ok (.ishl, 1) := dk_120 (dk_at dksX1_spared_1 14 rfl rfl)
theorem dX1_spared_39 : decode cX1_spared 39 = .ok (.iconst 1, 1) := dk_4 (dk_at dksX1_spared_1 15 rfl rfl)
theorem dX1_spared_40 : decode cX1_spared 40 = .ok (.isub, 1) := dk_100 (dk_at dksX1_spared_1 16 rfl rfl)
theorem dX1_spared_41 : decode cX1_spared 41 = .ok (.iconst 1, 1) := dk_4 (dk_at dksX1_spared_1 17 rfl rfl)
theorem dX1_spared_42 : decode cX1_spared 42 = .ok (.iload_n 1, 1) := dk_27 (dk_at dksX1_spared_1 18 rfl rfl)
theorem dX1_spared_43 : decode cX1_spared 43 = .ok (.ishl, 1) := dk_120 (dk_at dksX1_spared_1 19 rfl rfl)
theorem dX1_spared_44 : decode cX1_spared 44 = .ok (.iconst (-1), 1) := dk_2 (dk_at dksX1_spared_1 20 rfl rfl)
theorem dX1_spared_45 : decode cX1_spared 45 = .ok (.ixor, 1) := dk_130 (dk_at dksX1_spared_1 21 rfl rfl)
theorem dX1_spared_46 : decode cX1_spared 46 = .ok (.iand, 1) := dk_126 (dk_at dksX1_spared_1 22 rfl rfl)
theorem dX1_spared_47 : decode cX1_spared 47 = .ok (.istore_n 3, 1) := dk_62 (dk_at dksX1_spared_1 23 rfl rfl)
theorem dX1_spared_48 : decode cX1_spared 48 = .ok (.iload_n 3, 1) := dk_29 (dk_at dksX1_spared_2 0 rfl rfl)
theorem dX1_spared_49 : decode cX1_spared 49 = .ok (.istore 4, 2) := dk_54 4 (dk_at dksX1_spared_2 1 rfl rfl)
theorem dX1_spared_51 : decode cX1_spared 51 = .ok (.iload 4, 2) := dk_21 4 (dk_at dksX1_spared_2 3 rfl rfl)
theorem dX1_spared_53 : decode cX1_spared 53 = .ok (.ifCond .lt 50, 3) := dk_155 0 50 (dk_at dksX1_spared_2 5 rfl rfl)
theorem dX1_spared_56 : decode cX1_spared 56 = .ok (.iload 4, 2) := dk_21 4 (dk_at dksX1_spared_2 8 rfl rfl)
theorem dX1_spared_58 : decode cX1_spared 58 = .ok (.iload_n 1, 1) := dk_27 (dk_at dksX1_spared_2 10 rfl rfl)
theorem dX1_spared_59 : decode cX1_spared 59 = .ok (.invokestatic 542, 3) := dk_184 2 30 (dk_at dksX1_spared_2 11 rfl rfl)
theorem dX1_spared_62 : decode cX1_spared 62 = .ok (.ifCond .ne 35, 3) := dk_154 0 35 (dk_at dksX1_spared_2 14 rfl rfl)
theorem dX1_spared_65 : decode cX1_spared 65 = .ok (.iload 4, 2) := dk_21 4 (dk_at dksX1_spared_2 17 rfl rfl)
theorem dX1_spared_67 : decode cX1_spared 67 = .ok (.invokestatic 607, 3) := dk_184 2 95 (dk_at dksX1_spared_2 19 rfl rfl)
theorem dX1_spared_70 : decode cX1_spared 70 = .ok (.iload_n 3, 1) := dk_29 (dk_at dksX1_spared_2 22 rfl rfl)
theorem dX1_spared_71 : decode cX1_spared 71 = .ok (.invokestatic 607, 3) := dk_184 2 95 (dk_at dksX1_spared_3 0 rfl rfl)
theorem dX1_spared_74 : decode cX1_spared 74 = .ok (.if_icmp .le 6, 3) := dk_164 0 6 (dk_at dksX1_spared_3 3 rfl rfl)
theorem dX1_spared_77 : decode cX1_spared 77 = .ok (.goto 20, 3) := dk_167 0 20 (dk_at dksX1_spared_3 6 rfl rfl)
theorem dX1_spared_80 : decode cX1_spared 80 = .ok (.aload_n 0, 1) := dk_42 (dk_at dksX1_spared_3 9 rfl rfl)
theorem dX1_spared_81 : decode cX1_spared 81 = .ok (.iload 4, 2) := dk_21 4 (dk_at dksX1_spared_3 10 rfl rfl)
theorem dX1_spared_83 : decode cX1_spared 83 = .ok (.iload_n 2, 1) := dk_28 (dk_at dksX1_spared_3 12 rfl rfl)
theorem dX1_spared_84 : decode cX1_spared 84 = .ok (.invokevirtual 678, 3) := dk_182 2 166 (dk_at dksX1_spared_3 13 rfl rfl)
theorem dX1_spared_87 : decode cX1_spared 87 = .ok (.iload_n 1, 1) := dk_27 (dk_at dksX1_spared_3 16 rfl rfl)
theorem dX1_spared_88 : decode cX1_spared 88 = .ok (.invokestatic 542, 3) := dk_184 2 30 (dk_at dksX1_spared_3 17 rfl rfl)
theorem dX1_spared_91 : decode cX1_spared 91 = .ok (.ifCond .ne 6, 3) := dk_154 0 6 (dk_at dksX1_spared_3 20 rfl rfl)
theorem dX1_spared_94 : decode cX1_spared 94 = .ok (.iload 4, 2) := dk_21 4 (dk_at dksX1_spared_4 0 rfl rfl)
theorem dX1_spared_96 : decode cX1_spared 96 = .ok (.istore_n 3, 1) := dk_62 (dk_at dksX1_spared_4 2 rfl rfl)
theorem dX1_spared_97 : decode cX1_spared 97 = .ok (.iinc 4 (-1), 3) := dk_132 4 255 (dk_at dksX1_spared_4 3 rfl rfl)
theorem dX1_spared_100 : decode cX1_spared 100 = .ok (.goto (-49), 3) := dk_167 255 207 (dk_at dksX1_spared_4 6 rfl rfl)
theorem dX1_spared_103 : decode cX1_spared 103 = .ok (.iload_n 3, 1) := dk_29 (dk_at dksX1_spared_4 9 rfl rfl)
theorem dX1_spared_104 : decode cX1_spared 104 = .ok (.ireturn, 1) := dk_172 (dk_at dksX1_spared_4 10 rfl rfl)
abbrev cX1_trial : ByteArray := prog_1_method_95_code
def yX1_trial : MethodName := ⟨RX1, "trial", "(II)I"⟩
def dkwX1_trial_4 : List UInt8 := [182, 2, 184, 172, 42, 180, 0, 73, 182, 2, 163, 172]
abbrev dktX1_trial_4 : List UInt8 := dkwX1_trial_4 ++ []
def dkwX1_trial_3 : List UInt8 := [29, 172, 42, 180, 0, 73, 180, 1, 219, 42, 180, 0, 10, 180, 1, 219, 100, 172, 42, 42, 180, 0, 73]
abbrev dktX1_trial_3 : List UInt8 := dkwX1_trial_3 ++ dktX1_trial_4
def dkwX1_trial_2 : List UInt8 := [170, 0, 0, 0, 0, 53, 0, 0, 0, 0, 0, 0, 0, 2, 0, 0, 0, 26, 0, 0, 0, 28, 0, 0, 0, 44]
abbrev dktX1_trial_2 : List UInt8 := dkwX1_trial_2 ++ dktX1_trial_3
def dkwX1_trial_1 : List UInt8 := [182, 0, 254, 87, 42, 27, 182, 2, 181, 62, 28]
abbrev dktX1_trial_1 : List UInt8 := dkwX1_trial_1 ++ dktX1_trial_2
def dkwX1_trial_0 : List UInt8 := [27, 3, 16, 20, 184, 1, 158, 184, 1, 175, 28, 6, 184, 1, 190, 42, 180, 0, 73, 42, 180, 0, 10]
abbrev dktX1_trial_0 : List UInt8 := dkwX1_trial_0 ++ dktX1_trial_1
theorem dksX1_trial_0 : cX1_trial.data.toList.drop 0 = dktX1_trial_0 := by decide +kernel
theorem dksX1_trial_1 : cX1_trial.data.toList.drop 23 = dktX1_trial_1 := dk_seg dksX1_trial_0 23 rfl rfl
theorem dksX1_trial_2 : cX1_trial.data.toList.drop 34 = dktX1_trial_2 := dk_seg dksX1_trial_1 11 rfl rfl
theorem dksX1_trial_3 : cX1_trial.data.toList.drop 60 = dktX1_trial_3 := dk_seg dksX1_trial_2 26 rfl rfl
theorem dksX1_trial_4 : cX1_trial.data.toList.drop 83 = dktX1_trial_4 := dk_seg dksX1_trial_3 23 rfl rfl
theorem dX1_trial_0 : decode cX1_trial 0 = .ok (.iload_n 1, 1) := dk_27 (dk_at dksX1_trial_0 0 rfl rfl)
theorem dX1_trial_1 : decode cX1_trial 1 = .ok (.iconst 0, 1) := dk_3 (dk_at dksX1_trial_0 1 rfl rfl)
theorem dX1_trial_2 : decode cX1_trial 2 = .ok (.bipush 20, 2) := dk_16 20 (dk_at dksX1_trial_0 2 rfl rfl)
theorem dX1_trial_4 : decode cX1_trial 4 = .ok (.invokestatic 414, 3) := dk_184 1 158 (dk_at dksX1_trial_0 4 rfl rfl)
theorem dX1_trial_7 : decode cX1_trial 7 = .ok (.invokestatic 431, 3) := dk_184 1 175 (dk_at dksX1_trial_0 7 rfl rfl)
theorem dX1_trial_10 : decode cX1_trial 10 = .ok (.iload_n 2, 1) := dk_28 (dk_at dksX1_trial_0 10 rfl rfl)
theorem dX1_trial_11 : decode cX1_trial 11 = .ok (.iconst 3, 1) := dk_6 (dk_at dksX1_trial_0 11 rfl rfl)
theorem dX1_trial_12 : decode cX1_trial 12 = .ok (.invokestatic 446, 3) := dk_184 1 190 (dk_at dksX1_trial_0 12 rfl rfl)
theorem dX1_trial_15 : decode cX1_trial 15 = .ok (.aload_n 0, 1) := dk_42 (dk_at dksX1_trial_0 15 rfl rfl)
theorem dX1_trial_16 : decode cX1_trial 16 = .ok (.getfield 73, 3) := dk_180 0 73 (dk_at dksX1_trial_0 16 rfl rfl)
theorem dX1_trial_19 : decode cX1_trial 19 = .ok (.aload_n 0, 1) := dk_42 (dk_at dksX1_trial_0 19 rfl rfl)
theorem dX1_trial_20 : decode cX1_trial 20 = .ok (.getfield 10, 3) := dk_180 0 10 (dk_at dksX1_trial_0 20 rfl rfl)
theorem dX1_trial_23 : decode cX1_trial 23 = .ok (.invokevirtual 254, 3) := dk_182 0 254 (dk_at dksX1_trial_1 0 rfl rfl)
theorem dX1_trial_26 : decode cX1_trial 26 = .ok (.pop, 1) := dk_87 (dk_at dksX1_trial_1 3 rfl rfl)
theorem dX1_trial_27 : decode cX1_trial 27 = .ok (.aload_n 0, 1) := dk_42 (dk_at dksX1_trial_1 4 rfl rfl)
theorem dX1_trial_28 : decode cX1_trial 28 = .ok (.iload_n 1, 1) := dk_27 (dk_at dksX1_trial_1 5 rfl rfl)
theorem dX1_trial_29 : decode cX1_trial 29 = .ok (.invokevirtual 693, 3) := dk_182 2 181 (dk_at dksX1_trial_1 6 rfl rfl)
theorem dX1_trial_32 : decode cX1_trial 32 = .ok (.istore_n 3, 1) := dk_62 (dk_at dksX1_trial_1 9 rfl rfl)
theorem dX1_trial_33 : decode cX1_trial 33 = .ok (.iload_n 2, 1) := dk_28 (dk_at dksX1_trial_1 10 rfl rfl)
theorem dX1_trial_34 : decode cX1_trial 34 = .ok (.tableswitch 53 0 2 #[26, 28, 44], 26) := by decide +kernel
theorem dX1_trial_60 : decode cX1_trial 60 = .ok (.iload_n 3, 1) := dk_29 (dk_at dksX1_trial_3 0 rfl rfl)
theorem dX1_trial_61 : decode cX1_trial 61 = .ok (.ireturn, 1) := dk_172 (dk_at dksX1_trial_3 1 rfl rfl)
theorem dX1_trial_62 : decode cX1_trial 62 = .ok (.aload_n 0, 1) := dk_42 (dk_at dksX1_trial_3 2 rfl rfl)
theorem dX1_trial_63 : decode cX1_trial 63 = .ok (.getfield 73, 3) := dk_180 0 73 (dk_at dksX1_trial_3 3 rfl rfl)
theorem dX1_trial_66 : decode cX1_trial 66 = .ok (.getfield 475, 3) := dk_180 1 219 (dk_at dksX1_trial_3 6 rfl rfl)
theorem dX1_trial_69 : decode cX1_trial 69 = .ok (.aload_n 0, 1) := dk_42 (dk_at dksX1_trial_3 9 rfl rfl)
theorem dX1_trial_70 : decode cX1_trial 70 = .ok (.getfield 10, 3) := dk_180 0 10 (dk_at dksX1_trial_3 10 rfl rfl)
theorem dX1_trial_73 : decode cX1_trial 73 = .ok (.getfield 475, 3) := dk_180 1 219 (dk_at dksX1_trial_3 13 rfl rfl)
theorem dX1_trial_76 : decode cX1_trial 76 = .ok (.isub, 1) := dk_100 (dk_at dksX1_trial_3 16 rfl rfl)
theorem dX1_trial_77 : decode cX1_trial 77 = .ok (.ireturn, 1) := dk_172 (dk_at dksX1_trial_3 17 rfl rfl)
theorem dX1_trial_78 : decode cX1_trial 78 = .ok (.aload_n 0, 1) := dk_42 (dk_at dksX1_trial_3 18 rfl rfl)
theorem dX1_trial_79 : decode cX1_trial 79 = .ok (.aload_n 0, 1) := dk_42 (dk_at dksX1_trial_3 19 rfl rfl)
theorem dX1_trial_80 : decode cX1_trial 80 = .ok (.getfield 73, 3) := dk_180 0 73 (dk_at dksX1_trial_3 20 rfl rfl)
theorem dX1_trial_83 : decode cX1_trial 83 = .ok (.invokevirtual 696, 3) := dk_182 2 184 (dk_at dksX1_trial_4 0 rfl rfl)
theorem dX1_trial_86 : decode cX1_trial 86 = .ok (.ireturn, 1) := dk_172 (dk_at dksX1_trial_4 3 rfl rfl)
theorem dX1_trial_87 : decode cX1_trial 87 = .ok (.aload_n 0, 1) := dk_42 (dk_at dksX1_trial_4 4 rfl rfl)
theorem dX1_trial_88 : decode cX1_trial 88 = .ok (.getfield 73, 3) := dk_180 0 73 (dk_at dksX1_trial_4 5 rfl rfl)
theorem dX1_trial_91 : decode cX1_trial 91 = .ok (.invokevirtual 675, 3) := dk_182 2 163 (dk_at dksX1_trial_4 8 rfl rfl)
theorem dX1_trial_94 : decode cX1_trial 94 = .ok (.ireturn, 1) := dk_172 (dk_at dksX1_trial_4 11 rfl rfl)
abbrev cX1_tries : ByteArray := prog_1_method_93_code
def yX1_tries : MethodName := ⟨RX1, "tries", "(I)I"⟩
def dkwX1_tries_1 : List UInt8 := [167, 255, 237, 28, 172]
abbrev dktX1_tries_1 : List UInt8 := dkwX1_tries_1 ++ []
def dkwX1_tries_0 : List UInt8 := [3, 61, 3, 62, 29, 27, 162, 0, 20, 28, 42, 42, 180, 0, 73, 182, 2, 20, 96, 61, 132, 3, 1]
abbrev dktX1_tries_0 : List UInt8 := dkwX1_tries_0 ++ dktX1_tries_1
theorem dksX1_tries_0 : cX1_tries.data.toList.drop 0 = dktX1_tries_0 := by decide +kernel
theorem dksX1_tries_1 : cX1_tries.data.toList.drop 23 = dktX1_tries_1 := dk_seg dksX1_tries_0 23 rfl rfl
theorem dX1_tries_0 : decode cX1_tries 0 = .ok (.iconst 0, 1) := dk_3 (dk_at dksX1_tries_0 0 rfl rfl)
theorem dX1_tries_1 : decode cX1_tries 1 = .ok (.istore_n 2, 1) := dk_61 (dk_at dksX1_tries_0 1 rfl rfl)
theorem dX1_tries_2 : decode cX1_tries 2 = .ok (.iconst 0, 1) := dk_3 (dk_at dksX1_tries_0 2 rfl rfl)
theorem dX1_tries_3 : decode cX1_tries 3 = .ok (.istore_n 3, 1) := dk_62 (dk_at dksX1_tries_0 3 rfl rfl)
theorem dX1_tries_4 : decode cX1_tries 4 = .ok (.iload_n 3, 1) := dk_29 (dk_at dksX1_tries_0 4 rfl rfl)
theorem dX1_tries_5 : decode cX1_tries 5 = .ok (.iload_n 1, 1) := dk_27 (dk_at dksX1_tries_0 5 rfl rfl)
theorem dX1_tries_6 : decode cX1_tries 6 = .ok (.if_icmp .ge 20, 3) := dk_162 0 20 (dk_at dksX1_tries_0 6 rfl rfl)
theorem dX1_tries_9 : decode cX1_tries 9 = .ok (.iload_n 2, 1) := dk_28 (dk_at dksX1_tries_0 9 rfl rfl)
theorem dX1_tries_10 : decode cX1_tries 10 = .ok (.aload_n 0, 1) := dk_42 (dk_at dksX1_tries_0 10 rfl rfl)
theorem dX1_tries_11 : decode cX1_tries 11 = .ok (.aload_n 0, 1) := dk_42 (dk_at dksX1_tries_0 11 rfl rfl)
theorem dX1_tries_12 : decode cX1_tries 12 = .ok (.getfield 73, 3) := dk_180 0 73 (dk_at dksX1_tries_0 12 rfl rfl)
theorem dX1_tries_15 : decode cX1_tries 15 = .ok (.invokevirtual 532, 3) := dk_182 2 20 (dk_at dksX1_tries_0 15 rfl rfl)
theorem dX1_tries_18 : decode cX1_tries 18 = .ok (.iadd, 1) := dk_96 (dk_at dksX1_tries_0 18 rfl rfl)
theorem dX1_tries_19 : decode cX1_tries 19 = .ok (.istore_n 2, 1) := dk_61 (dk_at dksX1_tries_0 19 rfl rfl)
theorem dX1_tries_20 : decode cX1_tries 20 = .ok (.iinc 3 1, 3) := dk_132 3 1 (dk_at dksX1_tries_0 20 rfl rfl)
theorem dX1_tries_23 : decode cX1_tries 23 = .ok (.goto (-19), 3) := dk_167 255 237 (dk_at dksX1_tries_1 0 rfl rfl)
theorem dX1_tries_26 : decode cX1_tries 26 = .ok (.iload_n 2, 1) := dk_28 (dk_at dksX1_tries_1 3 rfl rfl)
theorem dX1_tries_27 : decode cX1_tries 27 = .ok (.ireturn, 1) := dk_172 (dk_at dksX1_tries_1 4 rfl rfl)
abbrev cX1_owns : ByteArray := prog_1_method_94_code
def yX1_owns : MethodName := ⟨RX1, "owns", "(LCheekTown$World;)I"⟩
def dkwX1_owns_1 : List UInt8 := [132, 3, 1, 167, 255, 234, 28, 184, 2, 95, 172]
abbrev dktX1_owns_1 : List UInt8 := dkwX1_owns_1 ++ []
def dkwX1_owns_0 : List UInt8 := [3, 61, 3, 62, 29, 43, 180, 0, 154, 162, 0, 20, 28, 4, 43, 180, 0, 160, 29, 46, 120, 128, 61]
abbrev dktX1_owns_0 : List UInt8 := dkwX1_owns_0 ++ dktX1_owns_1
theorem dksX1_owns_0 : cX1_owns.data.toList.drop 0 = dktX1_owns_0 := by decide +kernel
theorem dksX1_owns_1 : cX1_owns.data.toList.drop 23 = dktX1_owns_1 := dk_seg dksX1_owns_0 23 rfl rfl
theorem dX1_owns_0 : decode cX1_owns 0 = .ok (.iconst 0, 1) := dk_3 (dk_at dksX1_owns_0 0 rfl rfl)
theorem dX1_owns_1 : decode cX1_owns 1 = .ok (.istore_n 2, 1) := dk_61 (dk_at dksX1_owns_0 1 rfl rfl)
theorem dX1_owns_2 : decode cX1_owns 2 = .ok (.iconst 0, 1) := dk_3 (dk_at dksX1_owns_0 2 rfl rfl)
theorem dX1_owns_3 : decode cX1_owns 3 = .ok (.istore_n 3, 1) := dk_62 (dk_at dksX1_owns_0 3 rfl rfl)
theorem dX1_owns_4 : decode cX1_owns 4 = .ok (.iload_n 3, 1) := dk_29 (dk_at dksX1_owns_0 4 rfl rfl)
theorem dX1_owns_5 : decode cX1_owns 5 = .ok (.aload_n 1, 1) := dk_43 (dk_at dksX1_owns_0 5 rfl rfl)
theorem dX1_owns_6 : decode cX1_owns 6 = .ok (.getfield 154, 3) := dk_180 0 154 (dk_at dksX1_owns_0 6 rfl rfl)
theorem dX1_owns_9 : decode cX1_owns 9 = .ok (.if_icmp .ge 20, 3) := dk_162 0 20 (dk_at dksX1_owns_0 9 rfl rfl)
theorem dX1_owns_12 : decode cX1_owns 12 = .ok (.iload_n 2, 1) := dk_28 (dk_at dksX1_owns_0 12 rfl rfl)
theorem dX1_owns_13 : decode cX1_owns 13 = .ok (.iconst 1, 1) := dk_4 (dk_at dksX1_owns_0 13 rfl rfl)
theorem dX1_owns_14 : decode cX1_owns 14 = .ok (.aload_n 1, 1) := dk_43 (dk_at dksX1_owns_0 14 rfl rfl)
theorem dX1_owns_15 : decode cX1_owns 15 = .ok (.getfield 160, 3) := dk_180 0 160 (dk_at dksX1_owns_0 15 rfl rfl)
theorem dX1_owns_18 : decode cX1_owns 18 = .ok (.iload_n 3, 1) := dk_29 (dk_at dksX1_owns_0 18 rfl rfl)
theorem dX1_owns_19 : decode cX1_owns 19 = .ok (.iaload, 1) := dk_46 (dk_at dksX1_owns_0 19 rfl rfl)
theorem dX1_owns_20 : decode cX1_owns 20 = .ok (.ishl, 1) := dk_120 (dk_at dksX1_owns_0 20 rfl rfl)
theorem dX1_owns_21 : decode cX1_owns 21 = .ok (.ior, 1) := dk_128 (dk_at dksX1_owns_0 21 rfl rfl)
theorem dX1_owns_22 : decode cX1_owns 22 = .ok (.istore_n 2, 1) := dk_61 (dk_at dksX1_owns_0 22 rfl rfl)
theorem dX1_owns_23 : decode cX1_owns 23 = .ok (.iinc 3 1, 3) := dk_132 3 1 (dk_at dksX1_owns_1 0 rfl rfl)
theorem dX1_owns_26 : decode cX1_owns 26 = .ok (.goto (-22), 3) := dk_167 255 234 (dk_at dksX1_owns_1 3 rfl rfl)
theorem dX1_owns_29 : decode cX1_owns 29 = .ok (.iload_n 2, 1) := dk_28 (dk_at dksX1_owns_1 6 rfl rfl)
theorem dX1_owns_30 : decode cX1_owns 30 = .ok (.invokestatic 607, 3) := dk_184 2 95 (dk_at dksX1_owns_1 7 rfl rfl)
theorem dX1_owns_33 : decode cX1_owns 33 = .ok (.ireturn, 1) := dk_172 (dk_at dksX1_owns_1 10 rfl rfl)
abbrev cX1_span : ByteArray := prog_1_method_96_code
def yX1_span : MethodName := ⟨RX1, "span", "(IZ)I"⟩
def dkwX1_span_3 : List UInt8 := [184, 1, 250, 167, 0, 9, 29, 21, 5, 184, 2, 8, 62, 132, 4, 1, 167, 255, 188, 29, 172]
abbrev dktX1_span_3 : List UInt8 := dkwX1_span_3 ++ []
def dkwX1_span_2 : List UInt8 := [182, 2, 181, 54, 5, 29, 2, 160, 0, 8, 21, 5, 167, 0, 22, 28, 153, 0, 12, 29, 21, 5]
abbrev dktX1_span_2 : List UInt8 := dkwX1_span_2 ++ dktX1_span_3
def dkwX1_span_1 : List UInt8 := [180, 0, 73, 42, 180, 0, 10, 182, 0, 254, 87, 42, 180, 0, 73, 21, 4, 181, 2, 187, 42, 27]
abbrev dktX1_span_1 : List UInt8 := dkwX1_span_1 ++ dktX1_span_2
def dkwX1_span_0 : List UInt8 := [27, 3, 16, 20, 184, 1, 158, 184, 1, 175, 2, 62, 4, 54, 4, 21, 4, 16, 6, 163, 0, 67, 42]
abbrev dktX1_span_0 : List UInt8 := dkwX1_span_0 ++ dktX1_span_1
theorem dksX1_span_0 : cX1_span.data.toList.drop 0 = dktX1_span_0 := by decide +kernel
theorem dksX1_span_1 : cX1_span.data.toList.drop 23 = dktX1_span_1 := dk_seg dksX1_span_0 23 rfl rfl
theorem dksX1_span_2 : cX1_span.data.toList.drop 45 = dktX1_span_2 := dk_seg dksX1_span_1 22 rfl rfl
theorem dksX1_span_3 : cX1_span.data.toList.drop 67 = dktX1_span_3 := dk_seg dksX1_span_2 22 rfl rfl
theorem dX1_span_0 : decode cX1_span 0 = .ok (.iload_n 1, 1) := dk_27 (dk_at dksX1_span_0 0 rfl rfl)
theorem dX1_span_1 : decode cX1_span 1 = .ok (.iconst 0, 1) := dk_3 (dk_at dksX1_span_0 1 rfl rfl)
theorem dX1_span_2 : decode cX1_span 2 = .ok (.bipush 20, 2) := dk_16 20 (dk_at dksX1_span_0 2 rfl rfl)
theorem dX1_span_4 : decode cX1_span 4 = .ok (.invokestatic 414, 3) := dk_184 1 158 (dk_at dksX1_span_0 4 rfl rfl)
theorem dX1_span_7 : decode cX1_span 7 = .ok (.invokestatic 431, 3) := dk_184 1 175 (dk_at dksX1_span_0 7 rfl rfl)
theorem dX1_span_10 : decode cX1_span 10 = .ok (.iconst (-1), 1) := dk_2 (dk_at dksX1_span_0 10 rfl rfl)
theorem dX1_span_11 : decode cX1_span 11 = .ok (.istore_n 3, 1) := dk_62 (dk_at dksX1_span_0 11 rfl rfl)
theorem dX1_span_12 : decode cX1_span 12 = .ok (.iconst 1, 1) := dk_4 (dk_at dksX1_span_0 12 rfl rfl)
theorem dX1_span_13 : decode cX1_span 13 = .ok (.istore 4, 2) := dk_54 4 (dk_at dksX1_span_0 13 rfl rfl)
theorem dX1_span_15 : decode cX1_span 15 = .ok (.iload 4, 2) := dk_21 4 (dk_at dksX1_span_0 15 rfl rfl)
theorem dX1_span_17 : decode cX1_span 17 = .ok (.bipush 6, 2) := dk_16 6 (dk_at dksX1_span_0 17 rfl rfl)
theorem dX1_span_19 : decode cX1_span 19 = .ok (.if_icmp .gt 67, 3) := dk_163 0 67 (dk_at dksX1_span_0 19 rfl rfl)
theorem dX1_span_22 : decode cX1_span 22 = .ok (.aload_n 0, 1) := dk_42 (dk_at dksX1_span_0 22 rfl rfl)
theorem dX1_span_23 : decode cX1_span 23 = .ok (.getfield 73, 3) := dk_180 0 73 (dk_at dksX1_span_1 0 rfl rfl)
theorem dX1_span_26 : decode cX1_span 26 = .ok (.aload_n 0, 1) := dk_42 (dk_at dksX1_span_1 3 rfl rfl)
theorem dX1_span_27 : decode cX1_span 27 = .ok (.getfield 10, 3) := dk_180 0 10 (dk_at dksX1_span_1 4 rfl rfl)
theorem dX1_span_30 : decode cX1_span 30 = .ok (.invokevirtual 254, 3) := dk_182 0 254 (dk_at dksX1_span_1 7 rfl rfl)
theorem dX1_span_33 : decode cX1_span 33 = .ok (.pop, 1) := dk_87 (dk_at dksX1_span_1 10 rfl rfl)
theorem dX1_span_34 : decode cX1_span 34 = .ok (.aload_n 0, 1) := dk_42 (dk_at dksX1_span_1 11 rfl rfl)
theorem dX1_span_35 : decode cX1_span 35 = .ok (.getfield 73, 3) := dk_180 0 73 (dk_at dksX1_span_1 12 rfl rfl)
theorem dX1_span_38 : decode cX1_span 38 = .ok (.iload 4, 2) := dk_21 4 (dk_at dksX1_span_1 15 rfl rfl)
theorem dX1_span_40 : decode cX1_span 40 = .ok (.putfield 699, 3) := dk_181 2 187 (dk_at dksX1_span_1 17 rfl rfl)
theorem dX1_span_43 : decode cX1_span 43 = .ok (.aload_n 0, 1) := dk_42 (dk_at dksX1_span_1 20 rfl rfl)
theorem dX1_span_44 : decode cX1_span 44 = .ok (.iload_n 1, 1) := dk_27 (dk_at dksX1_span_1 21 rfl rfl)
theorem dX1_span_45 : decode cX1_span 45 = .ok (.invokevirtual 693, 3) := dk_182 2 181 (dk_at dksX1_span_2 0 rfl rfl)
theorem dX1_span_48 : decode cX1_span 48 = .ok (.istore 5, 2) := dk_54 5 (dk_at dksX1_span_2 3 rfl rfl)
theorem dX1_span_50 : decode cX1_span 50 = .ok (.iload_n 3, 1) := dk_29 (dk_at dksX1_span_2 5 rfl rfl)
theorem dX1_span_51 : decode cX1_span 51 = .ok (.iconst (-1), 1) := dk_2 (dk_at dksX1_span_2 6 rfl rfl)
theorem dX1_span_52 : decode cX1_span 52 = .ok (.if_icmp .ne 8, 3) := dk_160 0 8 (dk_at dksX1_span_2 7 rfl rfl)
theorem dX1_span_55 : decode cX1_span 55 = .ok (.iload 5, 2) := dk_21 5 (dk_at dksX1_span_2 10 rfl rfl)
theorem dX1_span_57 : decode cX1_span 57 = .ok (.goto 22, 3) := dk_167 0 22 (dk_at dksX1_span_2 12 rfl rfl)
theorem dX1_span_60 : decode cX1_span 60 = .ok (.iload_n 2, 1) := dk_28 (dk_at dksX1_span_2 15 rfl rfl)
theorem dX1_span_61 : decode cX1_span 61 = .ok (.ifCond .eq 12, 3) := dk_153 0 12 (dk_at dksX1_span_2 16 rfl rfl)
theorem dX1_span_64 : decode cX1_span 64 = .ok (.iload_n 3, 1) := dk_29 (dk_at dksX1_span_2 19 rfl rfl)
theorem dX1_span_65 : decode cX1_span 65 = .ok (.iload 5, 2) := dk_21 5 (dk_at dksX1_span_2 20 rfl rfl)
theorem dX1_span_67 : decode cX1_span 67 = .ok (.invokestatic 506, 3) := dk_184 1 250 (dk_at dksX1_span_3 0 rfl rfl)
theorem dX1_span_70 : decode cX1_span 70 = .ok (.goto 9, 3) := dk_167 0 9 (dk_at dksX1_span_3 3 rfl rfl)
theorem dX1_span_73 : decode cX1_span 73 = .ok (.iload_n 3, 1) := dk_29 (dk_at dksX1_span_3 6 rfl rfl)
theorem dX1_span_74 : decode cX1_span 74 = .ok (.iload 5, 2) := dk_21 5 (dk_at dksX1_span_3 7 rfl rfl)
theorem dX1_span_76 : decode cX1_span 76 = .ok (.invokestatic 520, 3) := dk_184 2 8 (dk_at dksX1_span_3 9 rfl rfl)
theorem dX1_span_79 : decode cX1_span 79 = .ok (.istore_n 3, 1) := dk_62 (dk_at dksX1_span_3 12 rfl rfl)
theorem dX1_span_80 : decode cX1_span 80 = .ok (.iinc 4 1, 3) := dk_132 4 1 (dk_at dksX1_span_3 13 rfl rfl)
theorem dX1_span_83 : decode cX1_span 83 = .ok (.goto (-68), 3) := dk_167 255 188 (dk_at dksX1_span_3 16 rfl rfl)
theorem dX1_span_86 : decode cX1_span 86 = .ok (.iload_n 3, 1) := dk_29 (dk_at dksX1_span_3 19 rfl rfl)
theorem dX1_span_87 : decode cX1_span 87 = .ok (.ireturn, 1) := dk_172 (dk_at dksX1_span_3 20 rfl rfl)
abbrev cX1_log : ByteArray := prog_1_method_97_code
def yX1_log : MethodName := ⟨RX1, "log", "(II)I"⟩
def dkwX1_log_1 : List UInt8 := [27, 28, 182, 2, 175, 167, 0, 4, 2, 172]
abbrev dktX1_log_1 : List UInt8 := dkwX1_log_1 ++ []
def dkwX1_log_0 : List UInt8 := [28, 16, 7, 184, 1, 190, 27, 3, 42, 180, 0, 10, 180, 2, 172, 4, 100, 184, 1, 158, 153, 0, 12, 42]
abbrev dktX1_log_0 : List UInt8 := dkwX1_log_0 ++ dktX1_log_1
theorem dksX1_log_0 : cX1_log.data.toList.drop 0 = dktX1_log_0 := by decide +kernel
theorem dksX1_log_1 : cX1_log.data.toList.drop 24 = dktX1_log_1 := dk_seg dksX1_log_0 24 rfl rfl
theorem dX1_log_0 : decode cX1_log 0 = .ok (.iload_n 2, 1) := dk_28 (dk_at dksX1_log_0 0 rfl rfl)
theorem dX1_log_1 : decode cX1_log 1 = .ok (.bipush 7, 2) := dk_16 7 (dk_at dksX1_log_0 1 rfl rfl)
theorem dX1_log_3 : decode cX1_log 3 = .ok (.invokestatic 446, 3) := dk_184 1 190 (dk_at dksX1_log_0 3 rfl rfl)
theorem dX1_log_6 : decode cX1_log 6 = .ok (.iload_n 1, 1) := dk_27 (dk_at dksX1_log_0 6 rfl rfl)
theorem dX1_log_7 : decode cX1_log 7 = .ok (.iconst 0, 1) := dk_3 (dk_at dksX1_log_0 7 rfl rfl)
theorem dX1_log_8 : decode cX1_log 8 = .ok (.aload_n 0, 1) := dk_42 (dk_at dksX1_log_0 8 rfl rfl)
theorem dX1_log_9 : decode cX1_log 9 = .ok (.getfield 10, 3) := dk_180 0 10 (dk_at dksX1_log_0 9 rfl rfl)
theorem dX1_log_12 : decode cX1_log 12 = .ok (.getfield 684, 3) := dk_180 2 172 (dk_at dksX1_log_0 12 rfl rfl)
theorem dX1_log_15 : decode cX1_log 15 = .ok (.iconst 1, 1) := dk_4 (dk_at dksX1_log_0 15 rfl rfl)
theorem dX1_log_16 : decode cX1_log 16 = .ok (.isub, 1) := dk_100 (dk_at dksX1_log_0 16 rfl rfl)
theorem dX1_log_17 : decode cX1_log 17 = .ok (.invokestatic 414, 3) := dk_184 1 158 (dk_at dksX1_log_0 17 rfl rfl)
theorem dX1_log_20 : decode cX1_log 20 = .ok (.ifCond .eq 12, 3) := dk_153 0 12 (dk_at dksX1_log_0 20 rfl rfl)
theorem dX1_log_23 : decode cX1_log 23 = .ok (.aload_n 0, 1) := dk_42 (dk_at dksX1_log_0 23 rfl rfl)
theorem dX1_log_24 : decode cX1_log 24 = .ok (.iload_n 1, 1) := dk_27 (dk_at dksX1_log_1 0 rfl rfl)
theorem dX1_log_25 : decode cX1_log 25 = .ok (.iload_n 2, 1) := dk_28 (dk_at dksX1_log_1 1 rfl rfl)
theorem dX1_log_26 : decode cX1_log 26 = .ok (.invokevirtual 687, 3) := dk_182 2 175 (dk_at dksX1_log_1 2 rfl rfl)
theorem dX1_log_29 : decode cX1_log 29 = .ok (.goto 4, 3) := dk_167 0 4 (dk_at dksX1_log_1 5 rfl rfl)
theorem dX1_log_32 : decode cX1_log 32 = .ok (.iconst (-1), 1) := dk_2 (dk_at dksX1_log_1 8 rfl rfl)
theorem dX1_log_33 : decode cX1_log 33 = .ok (.ireturn, 1) := dk_172 (dk_at dksX1_log_1 9 rfl rfl)
theorem q117 : (Jvm.Cond.initialized "CheekTown") ∈ lw_all := lw_g (lw_at lw_m1 1 rfl) rfl
theorem q165 : (Jvm.Cond.instantiable "CheekTown" (13 : Nat)) ∈ lw_all := lw_g (lw_at lw_m1 49 rfl) rfl
theorem q167 : (Jvm.Cond.instanceMethod ({ cls := "CheekTown", name := "<init>", desc := "()V" } : Jvm.MethodName)) ∈ lw_all := lw_g (lw_at lw_m1 51 rfl) rfl
theorem q168 : (Jvm.Cond.code ({ cls := "CheekTown", name := "<init>", desc := "()V" } : Jvm.MethodName) prog_1_method_1_code (1 : Nat) (Option.none : Option Jvm.ClassFile.FieldType)) ∈ lw_all := lw_g (lw_at lw_m1 52 rfl) rfl
theorem q169 : (Jvm.Cond.methodLink "CheekTown" (1 : Nat) ({ cls := "java/lang/Object", name := "<init>", desc := "()V" } : Jvm.MethodName)) ∈ lw_all := lw_g (lw_at lw_m1 53 rfl) rfl
theorem q172 : (Jvm.Cond.classLink "CheekTown" (7 : Nat) "CheekTown$World") ∈ lw_all := lw_g (lw_at lw_m1 56 rfl) rfl
theorem q174 : (Jvm.Cond.methodLinkNest "CheekTown" (9 : Nat) ({ cls := "CheekTown$World", name := "<init>", desc := "()V" } : Jvm.MethodName) "CheekTown") ∈ lw_tbl := lw_at lw_m1 58 rfl
theorem q179 : (Jvm.Cond.fieldLinkNest "CheekTown" (266 : Nat) "CheekTown$World" "texts" "I" "CheekTown") ∈ lw_tbl := lw_at lw_m1 63 rfl
theorem q181 : (Jvm.Cond.fieldLinkNest "CheekTown" (137 : Nat) "CheekTown$World" "lands" "I" "CheekTown") ∈ lw_tbl := lw_at lw_m1 65 rfl
theorem q183 : (Jvm.Cond.fieldLinkNest "CheekTown" (131 : Nat) "CheekTown$World" "habits" "I" "CheekTown") ∈ lw_tbl := lw_at lw_m1 67 rfl
theorem q187 : (Jvm.Cond.fieldLinkNest "CheekTown" (154 : Nat) "CheekTown$World" "people" "I" "CheekTown") ∈ lw_tbl := lw_at lw_m1 71 rfl
theorem q190 : (Jvm.Cond.fieldLinkNest "CheekTown" (184 : Nat) "CheekTown$World" "ties" "I" "CheekTown") ∈ lw_tbl := lw_at lw_m1 74 rfl
theorem q192 : (Jvm.Cond.fieldLinkNest "CheekTown" (397 : Nat) "CheekTown$World" "round" "I" "CheekTown") ∈ lw_tbl := lw_at lw_m1 76 rfl
theorem q194 : (Jvm.Cond.fieldLinkNest "CheekTown" (511 : Nat) "CheekTown$World" "meetings" "I" "CheekTown") ∈ lw_tbl := lw_at lw_m1 78 rfl
theorem q196 : (Jvm.Cond.fieldLinkNest "CheekTown" (514 : Nat) "CheekTown$World" "spent" "I" "CheekTown") ∈ lw_tbl := lw_at lw_m1 80 rfl
theorem q198 : (Jvm.Cond.fieldLinkNest "CheekTown" (475 : Nat) "CheekTown$World" "yielded" "I" "CheekTown") ∈ lw_tbl := lw_at lw_m1 82 rfl
theorem q200 : (Jvm.Cond.fieldLinkNest "CheekTown" (500 : Nat) "CheekTown$World" "minutes" "I" "CheekTown") ∈ lw_tbl := lw_at lw_m1 84 rfl
theorem q202 : (Jvm.Cond.fieldLinkNest "CheekTown" (684 : Nat) "CheekTown$World" "logged" "I" "CheekTown") ∈ lw_tbl := lw_at lw_m1 86 rfl
theorem q204 : (Jvm.Cond.fieldLinkNest "CheekTown" (223 : Nat) "CheekTown$World" "stomach" "I" "CheekTown") ∈ lw_tbl := lw_at lw_m1 88 rfl
theorem q206 : (Jvm.Cond.fieldLinkNest "CheekTown" (225 : Nat) "CheekTown$World" "air" "I" "CheekTown") ∈ lw_tbl := lw_at lw_m1 90 rfl
theorem q208 : (Jvm.Cond.fieldLinkNest "CheekTown" (227 : Nat) "CheekTown$World" "noses" "I" "CheekTown") ∈ lw_tbl := lw_at lw_m1 92 rfl
theorem q210 : (Jvm.Cond.fieldLinkNest "CheekTown" (699 : Nat) "CheekTown$World" "seed" "I" "CheekTown") ∈ lw_tbl := lw_at lw_m1 94 rfl
theorem q212 : (Jvm.Cond.fieldLinkNest "CheekTown" (134 : Nat) "CheekTown$World" "habitOf" "[I" "CheekTown") ∈ lw_tbl := lw_at lw_m1 96 rfl
theorem q214 : (Jvm.Cond.fieldLinkNest "CheekTown" (140 : Nat) "CheekTown$World" "habit" "[I" "CheekTown") ∈ lw_tbl := lw_at lw_m1 98 rfl
theorem q216 : (Jvm.Cond.fieldLinkNest "CheekTown" (152 : Nat) "CheekTown$World" "weight" "[I" "CheekTown") ∈ lw_tbl := lw_at lw_m1 100 rfl
theorem q218 : (Jvm.Cond.fieldLinkNest "CheekTown" (157 : Nat) "CheekTown$World" "land" "[I" "CheekTown") ∈ lw_tbl := lw_at lw_m1 102 rfl
theorem q222 : (Jvm.Cond.fieldLinkNest "CheekTown" (160 : Nat) "CheekTown$World" "own" "[I" "CheekTown") ∈ lw_tbl := lw_at lw_m1 106 rfl
theorem q224 : (Jvm.Cond.fieldLinkNest "CheekTown" (165 : Nat) "CheekTown$World" "rank" "[I" "CheekTown") ∈ lw_tbl := lw_at lw_m1 108 rfl
theorem q226 : (Jvm.Cond.fieldLinkNest "CheekTown" (169 : Nat) "CheekTown$World" "bent" "[I" "CheekTown") ∈ lw_tbl := lw_at lw_m1 110 rfl
theorem q228 : (Jvm.Cond.fieldLinkNest "CheekTown" (171 : Nat) "CheekTown$World" "cold" "[Z" "CheekTown") ∈ lw_tbl := lw_at lw_m1 112 rfl
theorem q230 : (Jvm.Cond.fieldLinkNest "CheekTown" (392 : Nat) "CheekTown$World" "met" "[I" "CheekTown") ∈ lw_tbl := lw_at lw_m1 114 rfl
theorem q232 : (Jvm.Cond.fieldLinkNest "CheekTown" (181 : Nat) "CheekTown$World" "saw" "[I" "CheekTown") ∈ lw_tbl := lw_at lw_m1 116 rfl
theorem q234 : (Jvm.Cond.fieldLinkNest "CheekTown" (175 : Nat) "CheekTown$World" "latest" "[I" "CheekTown") ∈ lw_tbl := lw_at lw_m1 118 rfl
theorem q236 : (Jvm.Cond.fieldLinkNest "CheekTown" (178 : Nat) "CheekTown$World" "before" "[I" "CheekTown") ∈ lw_tbl := lw_at lw_m1 120 rfl
theorem q239 : (Jvm.Cond.fieldLinkNest "CheekTown" (462 : Nat) "CheekTown$World" "one" "[I" "CheekTown") ∈ lw_tbl := lw_at lw_m1 123 rfl
theorem q242 : (Jvm.Cond.fieldLinkNest "CheekTown" (459 : Nat) "CheekTown$World" "other" "[I" "CheekTown") ∈ lw_tbl := lw_at lw_m1 126 rfl
theorem q244 : (Jvm.Cond.fieldLinkNest "CheekTown" (681 : Nat) "CheekTown$World" "log" "[I" "CheekTown") ∈ lw_tbl := lw_at lw_m1 128 rfl
theorem q246 : (Jvm.Cond.fieldLinkNest "CheekTown" (377 : Nat) "CheekTown$World" "law" "LCheekTown$Law;" "CheekTown") ∈ lw_tbl := lw_at lw_m1 130 rfl
theorem q312 : (Jvm.Cond.classLink "CheekTown" (22 : Nat) "CheekTown$Reader") ∈ lw_all := lw_g (lw_at lw_m1 196 rfl) rfl
theorem q314 : (Jvm.Cond.methodLinkNest "CheekTown" (24 : Nat) ({ cls := "CheekTown$Reader", name := "<init>", desc := "()V" } : Jvm.MethodName) "CheekTown") ∈ lw_tbl := lw_at lw_m1 198 rfl
theorem q319 : (Jvm.Cond.fieldLinkNest "CheekTown" (568 : Nat) "CheekTown$Reader" "tape" "[B" "CheekTown") ∈ lw_tbl := lw_at lw_m1 203 rfl
theorem q322 : (Jvm.Cond.fieldLinkNest "CheekTown" (565 : Nat) "CheekTown$Reader" "end" "I" "CheekTown") ∈ lw_tbl := lw_at lw_m1 206 rfl
theorem q325 : (Jvm.Cond.fieldLinkNest "CheekTown" (245 : Nat) "CheekTown$Reader" "begin" "I" "CheekTown") ∈ lw_tbl := lw_at lw_m1 209 rfl
theorem q327 : (Jvm.Cond.fieldLinkNest "CheekTown" (84 : Nat) "CheekTown$Reader" "fault" "I" "CheekTown") ∈ lw_tbl := lw_at lw_m1 211 rfl
theorem q345 : (Jvm.Cond.classLink "CheekTown" (29 : Nat) "CheekTown$Scene") ∈ lw_all := lw_g (lw_at lw_m1 229 rfl) rfl
theorem q347 : (Jvm.Cond.methodLinkNest "CheekTown" (31 : Nat) ({ cls := "CheekTown$Scene", name := "<init>", desc := "()V" } : Jvm.MethodName) "CheekTown") ∈ lw_tbl := lw_at lw_m1 231 rfl
theorem q352 : (Jvm.Cond.fieldLinkNest "CheekTown" (381 : Nat) "CheekTown$Scene" "who" "I" "CheekTown") ∈ lw_tbl := lw_at lw_m1 236 rfl
theorem q354 : (Jvm.Cond.fieldLinkNest "CheekTown" (384 : Nat) "CheekTown$Scene" "whom" "I" "CheekTown") ∈ lw_tbl := lw_at lw_m1 238 rfl
theorem q356 : (Jvm.Cond.fieldLinkNest "CheekTown" (387 : Nat) "CheekTown$Scene" "rank" "I" "CheekTown") ∈ lw_tbl := lw_at lw_m2 0 rfl
theorem q358 : (Jvm.Cond.fieldLinkNest "CheekTown" (389 : Nat) "CheekTown$Scene" "theirs" "I" "CheekTown") ∈ lw_tbl := lw_at lw_m2 2 rfl
theorem q360 : (Jvm.Cond.fieldLinkNest "CheekTown" (395 : Nat) "CheekTown$Scene" "met" "I" "CheekTown") ∈ lw_tbl := lw_at lw_m2 4 rfl
theorem q362 : (Jvm.Cond.fieldLinkNest "CheekTown" (400 : Nat) "CheekTown$Scene" "round" "I" "CheekTown") ∈ lw_tbl := lw_at lw_m2 6 rfl
theorem q364 : (Jvm.Cond.fieldLinkNest "CheekTown" (401 : Nat) "CheekTown$Scene" "same" "Z" "CheekTown") ∈ lw_tbl := lw_at lw_m2 8 rfl
theorem q366 : (Jvm.Cond.fieldLinkNest "CheekTown" (404 : Nat) "CheekTown$Scene" "cold" "Z" "CheekTown") ∈ lw_tbl := lw_at lw_m2 10 rfl
theorem q384 : (Jvm.Cond.classLink "CheekTown" (36 : Nat) "java/util/ArrayList") ∈ lw_all := lw_g (lw_at lw_m2 28 rfl) rfl
theorem q386 : (Jvm.Cond.methodLink "CheekTown" (38 : Nat) ({ cls := "java/util/ArrayList", name := "<init>", desc := "()V" } : Jvm.MethodName)) ∈ lw_all := lw_g (lw_at lw_m2 30 rfl) rfl
theorem q410 : (Jvm.Cond.classLink "CheekTown" (50 : Nat) "CheekTown$Ring") ∈ lw_all := lw_g (lw_at lw_m2 54 rfl) rfl
theorem q412 : (Jvm.Cond.methodLinkNest "CheekTown" (52 : Nat) ({ cls := "CheekTown$Ring", name := "<init>", desc := "(LCheekTown;)V" } : Jvm.MethodName) "CheekTown") ∈ lw_tbl := lw_at lw_m2 56 rfl
theorem q429 : (Jvm.Cond.classLink "CheekTown" (59 : Nat) "CheekTown$Pairing") ∈ lw_all := lw_g (lw_at lw_m2 73 rfl) rfl
theorem q431 : (Jvm.Cond.methodLinkNest "CheekTown" (61 : Nat) ({ cls := "CheekTown$Pairing", name := "<init>", desc := "(LCheekTown;)V" } : Jvm.MethodName) "CheekTown") ∈ lw_tbl := lw_at lw_m2 75 rfl
theorem q442 : (Jvm.Cond.classLink "CheekTown" (66 : Nat) "CheekTown$Years") ∈ lw_all := lw_g (lw_at lw_m2 86 rfl) rfl
theorem q444 : (Jvm.Cond.methodLinkNest "CheekTown" (68 : Nat) ({ cls := "CheekTown$Years", name := "<init>", desc := "(LCheekTown;)V" } : Jvm.MethodName) "CheekTown") ∈ lw_tbl := lw_at lw_m2 88 rfl
theorem q449 : (Jvm.Cond.fieldLinkNest "CheekTown" (664 : Nat) "CheekTown$Years" "own" "[I" "CheekTown") ∈ lw_tbl := lw_at lw_m2 93 rfl
theorem q465 : (Jvm.Cond.fieldLink "CheekTown" (10 : Nat) "CheekTown" "world" "LCheekTown$World;") ∈ lw_all := lw_g (lw_at lw_m2 109 rfl) rfl
theorem q469 : (Jvm.Cond.fieldLink "CheekTown" (16 : Nat) "CheekTown" "draft" "LCheekTown$World;") ∈ lw_all := lw_g (lw_at lw_m2 113 rfl) rfl
theorem q470 : (Jvm.Cond.fieldLink "CheekTown" (19 : Nat) "CheekTown" "image" "LCheekTown$World;") ∈ lw_all := lw_g (lw_at lw_m2 114 rfl) rfl
theorem q471 : (Jvm.Cond.fieldLink "CheekTown" (705 : Nat) "CheekTown" "hasImage" "Z") ∈ lw_all := lw_g (lw_at lw_m2 115 rfl) rfl
theorem q472 : (Jvm.Cond.fieldLink "CheekTown" (25 : Nat) "CheekTown" "reader" "LCheekTown$Reader;") ∈ lw_all := lw_g (lw_at lw_m2 116 rfl) rfl
theorem q473 : (Jvm.Cond.fieldLink "CheekTown" (32 : Nat) "CheekTown" "scene" "LCheekTown$Scene;") ∈ lw_all := lw_g (lw_at lw_m2 117 rfl) rfl
theorem q474 : (Jvm.Cond.fieldLink "CheekTown" (39 : Nat) "CheekTown" "kept" "Ljava/util/ArrayList;") ∈ lw_all := lw_g (lw_at lw_m2 118 rfl) rfl
theorem q475 : (Jvm.Cond.fieldLink "CheekTown" (43 : Nat) "CheekTown" "began" "[I") ∈ lw_all := lw_g (lw_at lw_m2 119 rfl) rfl
theorem q476 : (Jvm.Cond.fieldLink "CheekTown" (47 : Nat) "CheekTown" "did" "[I") ∈ lw_all := lw_g (lw_at lw_m2 120 rfl) rfl
theorem q477 : (Jvm.Cond.fieldLink "CheekTown" (55 : Nat) "CheekTown" "ring" "LCheekTown$Ring;") ∈ lw_all := lw_g (lw_at lw_m2 121 rfl) rfl
theorem q478 : (Jvm.Cond.fieldLink "CheekTown" (62 : Nat) "CheekTown" "pairing" "LCheekTown$Pairing;") ∈ lw_all := lw_g (lw_at lw_m2 122 rfl) rfl
theorem q479 : (Jvm.Cond.fieldLink "CheekTown" (69 : Nat) "CheekTown" "years" "LCheekTown$Years;") ∈ lw_all := lw_g (lw_at lw_m2 123 rfl) rfl
theorem q480 : (Jvm.Cond.fieldLink "CheekTown" (73 : Nat) "CheekTown" "trial" "LCheekTown$World;") ∈ lw_all := lw_g (lw_at lw_m2 124 rfl) rfl
theorem q481 : (Jvm.Cond.laysFinal "CheekTown" "CheekTown" "world" "LCheekTown$World;") ∈ lw_all := lw_g (lw_at lw_m2 125 rfl) rfl
theorem q482 : (Jvm.Cond.soleField "CheekTown" "world") ∈ lw_all := lw_g (lw_at lw_m2 126 rfl) rfl
theorem q483 : (Jvm.Cond.laysFinal "CheekTown" "CheekTown" "draft" "LCheekTown$World;") ∈ lw_all := lw_g (lw_at lw_m2 127 rfl) rfl
theorem q484 : (Jvm.Cond.soleField "CheekTown" "draft") ∈ lw_all := lw_g (lw_at lw_m2 128 rfl) rfl
theorem q485 : (Jvm.Cond.laysFinal "CheekTown" "CheekTown" "image" "LCheekTown$World;") ∈ lw_all := lw_g (lw_at lw_m2 129 rfl) rfl
theorem q486 : (Jvm.Cond.soleField "CheekTown" "image") ∈ lw_all := lw_g (lw_at lw_m2 130 rfl) rfl
theorem q487 : (Jvm.Cond.lays "CheekTown" "CheekTown" "hasImage" "Z") ∈ lw_all := lw_g (lw_at lw_m2 131 rfl) rfl
theorem q488 : (Jvm.Cond.soleField "CheekTown" "hasImage") ∈ lw_all := lw_g (lw_at lw_m2 132 rfl) rfl
theorem q489 : (Jvm.Cond.laysFinal "CheekTown" "CheekTown" "reader" "LCheekTown$Reader;") ∈ lw_all := lw_g (lw_at lw_m2 133 rfl) rfl
theorem q490 : (Jvm.Cond.soleField "CheekTown" "reader") ∈ lw_all := lw_g (lw_at lw_m2 134 rfl) rfl
theorem q491 : (Jvm.Cond.laysFinal "CheekTown" "CheekTown" "scene" "LCheekTown$Scene;") ∈ lw_all := lw_g (lw_at lw_m2 135 rfl) rfl
theorem q492 : (Jvm.Cond.soleField "CheekTown" "scene") ∈ lw_all := lw_g (lw_at lw_m2 136 rfl) rfl
theorem q493 : (Jvm.Cond.laysFinal "CheekTown" "CheekTown" "kept" "Ljava/util/ArrayList;") ∈ lw_all := lw_g (lw_at lw_m2 137 rfl) rfl
theorem q494 : (Jvm.Cond.soleField "CheekTown" "kept") ∈ lw_all := lw_g (lw_at lw_m2 138 rfl) rfl
theorem q495 : (Jvm.Cond.laysFinal "CheekTown" "CheekTown" "began" "[I") ∈ lw_all := lw_g (lw_at lw_m2 139 rfl) rfl
theorem q496 : (Jvm.Cond.soleField "CheekTown" "began") ∈ lw_all := lw_g (lw_at lw_m2 140 rfl) rfl
theorem q497 : (Jvm.Cond.laysFinal "CheekTown" "CheekTown" "did" "[I") ∈ lw_all := lw_g (lw_at lw_m2 141 rfl) rfl
theorem q498 : (Jvm.Cond.soleField "CheekTown" "did") ∈ lw_all := lw_g (lw_at lw_m2 142 rfl) rfl
theorem q499 : (Jvm.Cond.laysFinal "CheekTown" "CheekTown" "ring" "LCheekTown$Ring;") ∈ lw_all := lw_g (lw_at lw_m2 143 rfl) rfl
theorem q500 : (Jvm.Cond.soleField "CheekTown" "ring") ∈ lw_all := lw_g (lw_at lw_m2 144 rfl) rfl
theorem q501 : (Jvm.Cond.laysFinal "CheekTown" "CheekTown" "pairing" "LCheekTown$Pairing;") ∈ lw_all := lw_g (lw_at lw_m2 145 rfl) rfl
theorem q502 : (Jvm.Cond.soleField "CheekTown" "pairing") ∈ lw_all := lw_g (lw_at lw_m2 146 rfl) rfl
theorem q503 : (Jvm.Cond.laysFinal "CheekTown" "CheekTown" "years" "LCheekTown$Years;") ∈ lw_all := lw_g (lw_at lw_m2 147 rfl) rfl
theorem q504 : (Jvm.Cond.soleField "CheekTown" "years") ∈ lw_all := lw_g (lw_at lw_m2 148 rfl) rfl
theorem q505 : (Jvm.Cond.laysFinal "CheekTown" "CheekTown" "trial" "LCheekTown$World;") ∈ lw_all := lw_g (lw_at lw_m2 149 rfl) rfl
theorem q506 : (Jvm.Cond.soleField "CheekTown" "trial") ∈ lw_all := lw_g (lw_at lw_m2 150 rfl) rfl
theorem q507 : (Jvm.Cond.superclass "CheekTown" "java/lang/Object") ∈ lw_all := lw_g (lw_at lw_m2 151 rfl) rfl
theorem q509 : (Jvm.Cond.instanceMethod ({ cls := "CheekTown", name := "feed", desc := "(IIIII)I" } : Jvm.MethodName)) ∈ lw_all := lw_g (lw_at lw_m2 153 rfl) rfl
theorem q510 : (Jvm.Cond.selects "CheekTown" ({ cls := "CheekTown", name := "feed", desc := "(IIIII)I" } : Jvm.MethodName) ({ cls := "CheekTown", name := "feed", desc := "(IIIII)I" } : Jvm.MethodName)) ∈ lw_all := lw_g (lw_at lw_m2 154 rfl) rfl
theorem q511 : (Jvm.Cond.code ({ cls := "CheekTown", name := "feed", desc := "(IIIII)I" } : Jvm.MethodName) prog_1_method_3_code (6 : Nat) (Option.some Jvm.ClassFile.FieldType.int)) ∈ lw_all := lw_g (lw_at lw_m2 155 rfl) rfl
theorem q512 : (Jvm.Cond.methodLink "CheekTown" (76 : Nat) ({ cls := "CheekTown$Reader", name := "add", desc := "([I)I" } : Jvm.MethodName)) ∈ lw_all := lw_g (lw_at lw_m2 156 rfl) rfl
theorem q517 : (Jvm.Cond.instanceMethod ({ cls := "CheekTown", name := "end", desc := "(I)Z" } : Jvm.MethodName)) ∈ lw_all := lw_g (lw_at lw_m2 161 rfl) rfl
theorem q518 : (Jvm.Cond.selects "CheekTown" ({ cls := "CheekTown", name := "end", desc := "(I)Z" } : Jvm.MethodName) ({ cls := "CheekTown", name := "end", desc := "(I)Z" } : Jvm.MethodName)) ∈ lw_all := lw_g (lw_at lw_m2 162 rfl) rfl
theorem q519 : (Jvm.Cond.code ({ cls := "CheekTown", name := "end", desc := "(I)Z" } : Jvm.MethodName) prog_1_method_4_code (2 : Nat) (Option.some Jvm.ClassFile.FieldType.boolean)) ∈ lw_all := lw_g (lw_at lw_m2 163 rfl) rfl
theorem q520 : (Jvm.Cond.methodLink "CheekTown" (80 : Nat) ({ cls := "CheekTown$Reader", name := "cut", desc := "(I)Z" } : Jvm.MethodName)) ∈ lw_all := lw_g (lw_at lw_m2 164 rfl) rfl
theorem q525 : (Jvm.Cond.instanceMethod ({ cls := "CheekTown", name := "fault", desc := "()I" } : Jvm.MethodName)) ∈ lw_all := lw_g (lw_at lw_m2 169 rfl) rfl
theorem q526 : (Jvm.Cond.selects "CheekTown" ({ cls := "CheekTown", name := "fault", desc := "()I" } : Jvm.MethodName) ({ cls := "CheekTown", name := "fault", desc := "()I" } : Jvm.MethodName)) ∈ lw_all := lw_g (lw_at lw_m2 170 rfl) rfl
theorem q527 : (Jvm.Cond.code ({ cls := "CheekTown", name := "fault", desc := "()I" } : Jvm.MethodName) prog_1_method_5_code (1 : Nat) (Option.some Jvm.ClassFile.FieldType.int)) ∈ lw_all := lw_g (lw_at lw_m2 171 rfl) rfl
theorem q529 : (Jvm.Cond.instanceMethod ({ cls := "CheekTown", name := "safest", desc := "(Z)I" } : Jvm.MethodName)) ∈ lw_all := lw_g (lw_at lw_m2 173 rfl) rfl
theorem q530 : (Jvm.Cond.selects "CheekTown" ({ cls := "CheekTown", name := "safest", desc := "(Z)I" } : Jvm.MethodName) ({ cls := "CheekTown", name := "safest", desc := "(Z)I" } : Jvm.MethodName)) ∈ lw_all := lw_g (lw_at lw_m2 174 rfl) rfl
theorem q531 : (Jvm.Cond.code ({ cls := "CheekTown", name := "safest", desc := "(Z)I" } : Jvm.MethodName) prog_1_method_66_code (4 : Nat) (Option.some Jvm.ClassFile.FieldType.int)) ∈ lw_all := lw_g (lw_at lw_m2 175 rfl) rfl
theorem q532 : (Jvm.Cond.methodLink "CheekTown" (552 : Nat) ({ cls := "CheekTown", name := "worst", desc := "(I)I" } : Jvm.MethodName)) ∈ lw_all := lw_g (lw_at lw_m2 176 rfl) rfl
theorem q533 : (Jvm.Cond.privateMethod ({ cls := "CheekTown", name := "worst", desc := "(I)I" } : Jvm.MethodName)) ∈ lw_tbl := lw_at lw_m2 177 rfl
theorem q534 : (Jvm.Cond.instanceMethod ({ cls := "CheekTown", name := "worst", desc := "(I)I" } : Jvm.MethodName)) ∈ lw_all := lw_g (lw_at lw_m2 178 rfl) rfl
theorem q535 : (Jvm.Cond.code ({ cls := "CheekTown", name := "worst", desc := "(I)I" } : Jvm.MethodName) prog_1_method_65_code (4 : Nat) (Option.some Jvm.ClassFile.FieldType.int)) ∈ lw_all := lw_g (lw_at lw_m2 179 rfl) rfl
theorem q536 : (Jvm.Cond.methodLink "CheekTown" (437 : Nat) ({ cls := "CheekTown$World", name := "cost", desc := "(II)I" } : Jvm.MethodName)) ∈ lw_all := lw_g (lw_at lw_m2 180 rfl) rfl
theorem q543 : (Jvm.Cond.static ({ cls := "CheekTown", name := "isOf", desc := "(LCheekTown$Kind;I)Z" } : Jvm.MethodName)) ∈ lw_all := lw_g (lw_at lw_m2 187 rfl) rfl
theorem q544 : (Jvm.Cond.code ({ cls := "CheekTown", name := "isOf", desc := "(LCheekTown$Kind;I)Z" } : Jvm.MethodName) prog_1_method_6_code (2 : Nat) (Option.some Jvm.ClassFile.FieldType.boolean)) ∈ lw_all := lw_g (lw_at lw_m2 188 rfl) rfl
theorem q545 : (Jvm.Cond.methodLink "CheekTown" (88 : Nat) ({ cls := "CheekTown$Kind", name := "ordinal", desc := "()I" } : Jvm.MethodName)) ∈ lw_all := lw_g (lw_at lw_m2 189 rfl) rfl
theorem q552 : (Jvm.Cond.static ({ cls := "CheekTown", name := "side", desc := "(I)I" } : Jvm.MethodName)) ∈ lw_all := lw_g (lw_at lw_m2 196 rfl) rfl
theorem q553 : (Jvm.Cond.code ({ cls := "CheekTown", name := "side", desc := "(I)I" } : Jvm.MethodName) prog_1_method_8_code (1 : Nat) (Option.some Jvm.ClassFile.FieldType.int)) ∈ lw_all := lw_g (lw_at lw_m2 197 rfl) rfl
theorem q555 : (Jvm.Cond.static ({ cls := "CheekTown", name := "times", desc := "(I)I" } : Jvm.MethodName)) ∈ lw_all := lw_g (lw_at lw_m2 199 rfl) rfl
theorem q556 : (Jvm.Cond.code ({ cls := "CheekTown", name := "times", desc := "(I)I" } : Jvm.MethodName) prog_1_method_7_code (1 : Nat) (Option.some Jvm.ClassFile.FieldType.int)) ∈ lw_all := lw_g (lw_at lw_m2 200 rfl) rfl
theorem q560 : (Jvm.Cond.methodLink "CheekTown" (506 : Nat) ({ cls := "java/lang/Math", name := "max", desc := "(II)I" } : Jvm.MethodName)) ∈ lw_all := lw_g (lw_at lw_m2 204 rfl) rfl
theorem q564 : (Jvm.Cond.instanceMethod ({ cls := "CheekTown", name := "worth", desc := "()I" } : Jvm.MethodName)) ∈ lw_all := lw_g (lw_at lw_m2 208 rfl) rfl
theorem q565 : (Jvm.Cond.selects "CheekTown" ({ cls := "CheekTown", name := "worth", desc := "()I" } : Jvm.MethodName) ({ cls := "CheekTown", name := "worth", desc := "()I" } : Jvm.MethodName)) ∈ lw_all := lw_g (lw_at lw_m2 209 rfl) rfl
theorem q566 : (Jvm.Cond.code ({ cls := "CheekTown", name := "worth", desc := "()I" } : Jvm.MethodName) prog_1_method_72_code (4 : Nat) (Option.some Jvm.ClassFile.FieldType.int)) ∈ lw_all := lw_g (lw_at lw_m2 210 rfl) rfl
theorem q567 : (Jvm.Cond.methodLink "CheekTown" (585 : Nat) ({ cls := "CheekTown", name := "blindly", desc := "(I)I" } : Jvm.MethodName)) ∈ lw_all := lw_g (lw_at lw_m2 211 rfl) rfl
theorem q568 : (Jvm.Cond.privateMethod ({ cls := "CheekTown", name := "blindly", desc := "(I)I" } : Jvm.MethodName)) ∈ lw_tbl := lw_at lw_m2 212 rfl
theorem q569 : (Jvm.Cond.instanceMethod ({ cls := "CheekTown", name := "blindly", desc := "(I)I" } : Jvm.MethodName)) ∈ lw_all := lw_g (lw_at lw_m2 213 rfl) rfl
theorem q570 : (Jvm.Cond.code ({ cls := "CheekTown", name := "blindly", desc := "(I)I" } : Jvm.MethodName) prog_1_method_71_code (4 : Nat) (Option.some Jvm.ClassFile.FieldType.int)) ∈ lw_all := lw_g (lw_at lw_m2 214 rfl) rfl
theorem q571 : (Jvm.Cond.methodLink "CheekTown" (582 : Nat) ({ cls := "CheekTown", name := "peopleOf", desc := "(I)I" } : Jvm.MethodName)) ∈ lw_all := lw_g (lw_at lw_m2 215 rfl) rfl
theorem q572 : (Jvm.Cond.privateMethod ({ cls := "CheekTown", name := "peopleOf", desc := "(I)I" } : Jvm.MethodName)) ∈ lw_tbl := lw_at lw_m2 216 rfl
theorem q573 : (Jvm.Cond.instanceMethod ({ cls := "CheekTown", name := "peopleOf", desc := "(I)I" } : Jvm.MethodName)) ∈ lw_all := lw_g (lw_at lw_m2 217 rfl) rfl
theorem q574 : (Jvm.Cond.code ({ cls := "CheekTown", name := "peopleOf", desc := "(I)I" } : Jvm.MethodName) prog_1_method_70_code (4 : Nat) (Option.some Jvm.ClassFile.FieldType.int)) ∈ lw_all := lw_g (lw_at lw_m2 218 rfl) rfl
theorem q575 : (Jvm.Cond.methodLink "CheekTown" (546 : Nat) ({ cls := "CheekTown", name := "expects", desc := "(II)I" } : Jvm.MethodName)) ∈ lw_all := lw_g (lw_at lw_m2 219 rfl) rfl
theorem q576 : (Jvm.Cond.privateMethod ({ cls := "CheekTown", name := "expects", desc := "(II)I" } : Jvm.MethodName)) ∈ lw_tbl := lw_at lw_m2 220 rfl
theorem q577 : (Jvm.Cond.instanceMethod ({ cls := "CheekTown", name := "expects", desc := "(II)I" } : Jvm.MethodName)) ∈ lw_all := lw_g (lw_at lw_m2 221 rfl) rfl
theorem q578 : (Jvm.Cond.code ({ cls := "CheekTown", name := "expects", desc := "(II)I" } : Jvm.MethodName) prog_1_method_61_code (6 : Nat) (Option.some Jvm.ClassFile.FieldType.int)) ∈ lw_all := lw_g (lw_at lw_m2 222 rfl) rfl
theorem q579 : (Jvm.Cond.methodLink "CheekTown" (520 : Nat) ({ cls := "java/lang/Math", name := "min", desc := "(II)I" } : Jvm.MethodName)) ∈ lw_all := lw_g (lw_at lw_m2 223 rfl) rfl
theorem q582 : (Jvm.Cond.methodLink "CheekTown" (549 : Nat) ({ cls := "CheekTown", name := "bestIn", desc := "(I)I" } : Jvm.MethodName)) ∈ lw_all := lw_g (lw_at lw_m2 226 rfl) rfl
theorem q583 : (Jvm.Cond.privateMethod ({ cls := "CheekTown", name := "bestIn", desc := "(I)I" } : Jvm.MethodName)) ∈ lw_tbl := lw_at lw_m2 227 rfl
theorem q584 : (Jvm.Cond.instanceMethod ({ cls := "CheekTown", name := "bestIn", desc := "(I)I" } : Jvm.MethodName)) ∈ lw_all := lw_g (lw_at lw_m2 228 rfl) rfl
theorem q585 : (Jvm.Cond.code ({ cls := "CheekTown", name := "bestIn", desc := "(I)I" } : Jvm.MethodName) prog_1_method_62_code (4 : Nat) (Option.some Jvm.ClassFile.FieldType.int)) ∈ lw_all := lw_g (lw_at lw_m2 229 rfl) rfl
theorem q587 : (Jvm.Cond.instanceMethod ({ cls := "CheekTown", name := "table", desc := "(II)I" } : Jvm.MethodName)) ∈ lw_all := lw_g (lw_at lw_m2 231 rfl) rfl
theorem q588 : (Jvm.Cond.selects "CheekTown" ({ cls := "CheekTown", name := "table", desc := "(II)I" } : Jvm.MethodName) ({ cls := "CheekTown", name := "table", desc := "(II)I" } : Jvm.MethodName)) ∈ lw_all := lw_g (lw_at lw_m2 232 rfl) rfl
theorem q589 : (Jvm.Cond.code ({ cls := "CheekTown", name := "table", desc := "(II)I" } : Jvm.MethodName) prog_1_method_79_code (5 : Nat) (Option.some Jvm.ClassFile.FieldType.int)) ∈ lw_all := lw_g (lw_at lw_m2 233 rfl) rfl
theorem q590 : (Jvm.Cond.methodLink "CheekTown" (540 : Nat) ({ cls := "CheekTown", name := "allOf", desc := "(I)I" } : Jvm.MethodName)) ∈ lw_all := lw_g (lw_at lw_m2 234 rfl) rfl
theorem q591 : (Jvm.Cond.privateMethod ({ cls := "CheekTown", name := "allOf", desc := "(I)I" } : Jvm.MethodName)) ∈ lw_tbl := lw_at lw_m2 235 rfl
theorem q592 : (Jvm.Cond.instanceMethod ({ cls := "CheekTown", name := "allOf", desc := "(I)I" } : Jvm.MethodName)) ∈ lw_all := lw_g (lw_at lw_m2 236 rfl) rfl
theorem q593 : (Jvm.Cond.code ({ cls := "CheekTown", name := "allOf", desc := "(I)I" } : Jvm.MethodName) prog_1_method_40_code (2 : Nat) (Option.some Jvm.ClassFile.FieldType.int)) ∈ lw_all := lw_g (lw_at lw_m2 237 rfl) rfl
theorem q594 : (Jvm.Cond.methodLink "CheekTown" (607 : Nat) ({ cls := "java/lang/Integer", name := "bitCount", desc := "(I)I" } : Jvm.MethodName)) ∈ lw_all := lw_g (lw_at lw_m2 238 rfl) rfl
theorem q600 : (Jvm.Cond.methodLink "CheekTown" (414 : Nat) ({ cls := "CheekTown", name := "in", desc := "(III)Z" } : Jvm.MethodName)) ∈ lw_all := lw_g (lw_at lw_m3 4 rfl) rfl
theorem q601 : (Jvm.Cond.static ({ cls := "CheekTown", name := "in", desc := "(III)Z" } : Jvm.MethodName)) ∈ lw_all := lw_g (lw_at lw_m3 5 rfl) rfl
theorem q602 : (Jvm.Cond.code ({ cls := "CheekTown", name := "in", desc := "(III)Z" } : Jvm.MethodName) prog_1_method_2_code (3 : Nat) (Option.some Jvm.ClassFile.FieldType.boolean)) ∈ lw_all := lw_g (lw_at lw_m3 6 rfl) rfl
theorem q603 : (Jvm.Cond.methodLink "CheekTown" (610 : Nat) ({ cls := "CheekTown$Ring", name := "seats", desc := "(I)LCheekTown$Ring;" } : Jvm.MethodName)) ∈ lw_all := lw_g (lw_at lw_m3 7 rfl) rfl
theorem q608 : (Jvm.Cond.static ({ cls := "CheekTown", name := "has", desc := "(II)Z" } : Jvm.MethodName)) ∈ lw_all := lw_g (lw_at lw_m3 12 rfl) rfl
theorem q609 : (Jvm.Cond.code ({ cls := "CheekTown", name := "has", desc := "(II)Z" } : Jvm.MethodName) prog_1_method_39_code (2 : Nat) (Option.some Jvm.ClassFile.FieldType.boolean)) ∈ lw_all := lw_g (lw_at lw_m3 13 rfl) rfl
theorem q950 : (Jvm.Cond.methodLink "CheekTown" (614 : Nat) ({ cls := "CheekTown$Ring", name := "from", desc := "(II)I" } : Jvm.MethodName)) ∈ lw_all := lw_g (lw_at lw_m4 114 rfl) rfl
theorem q974 : (Jvm.Cond.methodLink "CheekTown" (617 : Nat) ({ cls := "CheekTown$Ring", name := "sitter", desc := "(I)I" } : Jvm.MethodName)) ∈ lw_all := lw_g (lw_at lw_m4 138 rfl) rfl
theorem q979 : (Jvm.Cond.instanceMethod ({ cls := "CheekTown", name := "pairs", desc := "(Z)I" } : Jvm.MethodName)) ∈ lw_all := lw_g (lw_at lw_m4 143 rfl) rfl
theorem q980 : (Jvm.Cond.selects "CheekTown" ({ cls := "CheekTown", name := "pairs", desc := "(Z)I" } : Jvm.MethodName) ({ cls := "CheekTown", name := "pairs", desc := "(Z)I" } : Jvm.MethodName)) ∈ lw_all := lw_g (lw_at lw_m4 144 rfl) rfl
theorem q981 : (Jvm.Cond.code ({ cls := "CheekTown", name := "pairs", desc := "(Z)I" } : Jvm.MethodName) prog_1_method_80_code (5 : Nat) (Option.some Jvm.ClassFile.FieldType.int)) ∈ lw_all := lw_g (lw_at lw_m4 145 rfl) rfl
theorem q982 : (Jvm.Cond.methodLink "CheekTown" (620 : Nat) ({ cls := "CheekTown$Pairing", name := "anew", desc := "()LCheekTown$Pairing;" } : Jvm.MethodName)) ∈ lw_all := lw_g (lw_at lw_m4 146 rfl) rfl
theorem q989 : (Jvm.Cond.methodLink "CheekTown" (624 : Nat) ({ cls := "CheekTown$Pairing", name := "from", desc := "(II)I" } : Jvm.MethodName)) ∈ lw_all := lw_g (lw_at lw_m4 153 rfl) rfl
theorem q1004 : (Jvm.Cond.methodLink "CheekTown" (625 : Nat) ({ cls := "CheekTown$Pairing", name := "both", desc := "(I)I" } : Jvm.MethodName)) ∈ lw_all := lw_g (lw_at lw_m4 168 rfl) rfl
theorem q1005 : (Jvm.Cond.methodLink "CheekTown" (628 : Nat) ({ cls := "CheekTown$Pairing", name := "first", desc := "()I" } : Jvm.MethodName)) ∈ lw_all := lw_g (lw_at lw_m4 169 rfl) rfl
theorem q1010 : (Jvm.Cond.instanceMethod ({ cls := "CheekTown", name := "still", desc := "()I" } : Jvm.MethodName)) ∈ lw_all := lw_g (lw_at lw_m4 174 rfl) rfl
theorem q1011 : (Jvm.Cond.selects "CheekTown" ({ cls := "CheekTown", name := "still", desc := "()I" } : Jvm.MethodName) ({ cls := "CheekTown", name := "still", desc := "()I" } : Jvm.MethodName)) ∈ lw_all := lw_g (lw_at lw_m4 175 rfl) rfl
theorem q1012 : (Jvm.Cond.code ({ cls := "CheekTown", name := "still", desc := "()I" } : Jvm.MethodName) prog_1_method_85_code (3 : Nat) (Option.some Jvm.ClassFile.FieldType.int)) ∈ lw_all := lw_g (lw_at lw_m4 176 rfl) rfl
theorem q1013 : (Jvm.Cond.methodLink "CheekTown" (644 : Nat) ({ cls := "CheekTown$Years", name := "now", desc := "()LCheekTown$Years;" } : Jvm.MethodName)) ∈ lw_all := lw_g (lw_at lw_m4 177 rfl) rfl
theorem q1026 : (Jvm.Cond.methodLink "CheekTown" (665 : Nat) ({ cls := "CheekTown$Years", name := "goes", desc := "()Z" } : Jvm.MethodName)) ∈ lw_all := lw_g (lw_at lw_m4 190 rfl) rfl
theorem q1040 : (Jvm.Cond.instanceMethod ({ cls := "CheekTown", name := "changed", desc := "(Z)I" } : Jvm.MethodName)) ∈ lw_all := lw_g (lw_at lw_m4 204 rfl) rfl
theorem q1041 : (Jvm.Cond.selects "CheekTown" ({ cls := "CheekTown", name := "changed", desc := "(Z)I" } : Jvm.MethodName) ({ cls := "CheekTown", name := "changed", desc := "(Z)I" } : Jvm.MethodName)) ∈ lw_all := lw_g (lw_at lw_m4 205 rfl) rfl
theorem q1042 : (Jvm.Cond.code ({ cls := "CheekTown", name := "changed", desc := "(Z)I" } : Jvm.MethodName) prog_1_method_92_code (7 : Nat) (Option.some Jvm.ClassFile.FieldType.int)) ∈ lw_all := lw_g (lw_at lw_m4 206 rfl) rfl
theorem q1043 : (Jvm.Cond.methodLink "CheekTown" (690 : Nat) ({ cls := "CheekTown", name := "olderOf", desc := "(I)I" } : Jvm.MethodName)) ∈ lw_all := lw_g (lw_at lw_m4 207 rfl) rfl
theorem q1044 : (Jvm.Cond.privateMethod ({ cls := "CheekTown", name := "olderOf", desc := "(I)I" } : Jvm.MethodName)) ∈ lw_tbl := lw_at lw_m4 208 rfl
theorem q1045 : (Jvm.Cond.instanceMethod ({ cls := "CheekTown", name := "olderOf", desc := "(I)I" } : Jvm.MethodName)) ∈ lw_all := lw_g (lw_at lw_m4 209 rfl) rfl
theorem q1046 : (Jvm.Cond.code ({ cls := "CheekTown", name := "olderOf", desc := "(I)I" } : Jvm.MethodName) prog_1_method_91_code (3 : Nat) (Option.some Jvm.ClassFile.FieldType.int)) ∈ lw_all := lw_g (lw_at lw_m4 210 rfl) rfl
theorem q1047 : (Jvm.Cond.methodLink "CheekTown" (687 : Nat) ({ cls := "CheekTown", name := "ofLog", desc := "(II)I" } : Jvm.MethodName)) ∈ lw_all := lw_g (lw_at lw_m4 211 rfl) rfl
theorem q1048 : (Jvm.Cond.privateMethod ({ cls := "CheekTown", name := "ofLog", desc := "(II)I" } : Jvm.MethodName)) ∈ lw_tbl := lw_at lw_m4 212 rfl
theorem q1049 : (Jvm.Cond.instanceMethod ({ cls := "CheekTown", name := "ofLog", desc := "(II)I" } : Jvm.MethodName)) ∈ lw_all := lw_g (lw_at lw_m4 213 rfl) rfl
theorem q1050 : (Jvm.Cond.code ({ cls := "CheekTown", name := "ofLog", desc := "(II)I" } : Jvm.MethodName) prog_1_method_90_code (3 : Nat) (Option.some Jvm.ClassFile.FieldType.int)) ∈ lw_all := lw_g (lw_at lw_m4 214 rfl) rfl
theorem q1052 : (Jvm.Cond.instanceMethod ({ cls := "CheekTown", name := "seed", desc := "(I)I" } : Jvm.MethodName)) ∈ lw_all := lw_g (lw_at lw_m4 216 rfl) rfl
theorem q1053 : (Jvm.Cond.selects "CheekTown" ({ cls := "CheekTown", name := "seed", desc := "(I)I" } : Jvm.MethodName) ({ cls := "CheekTown", name := "seed", desc := "(I)I" } : Jvm.MethodName)) ∈ lw_all := lw_g (lw_at lw_m4 217 rfl) rfl
theorem q1054 : (Jvm.Cond.code ({ cls := "CheekTown", name := "seed", desc := "(I)I" } : Jvm.MethodName) prog_1_method_98_code (3 : Nat) (Option.some Jvm.ClassFile.FieldType.int)) ∈ lw_all := lw_g (lw_at lw_m4 218 rfl) rfl
theorem q1056 : (Jvm.Cond.instanceMethod ({ cls := "CheekTown", name := "undo", desc := "()Z" } : Jvm.MethodName)) ∈ lw_all := lw_g (lw_at lw_m4 220 rfl) rfl
theorem q1057 : (Jvm.Cond.selects "CheekTown" ({ cls := "CheekTown", name := "undo", desc := "()Z" } : Jvm.MethodName) ({ cls := "CheekTown", name := "undo", desc := "()Z" } : Jvm.MethodName)) ∈ lw_all := lw_g (lw_at lw_m4 221 rfl) rfl
theorem q1058 : (Jvm.Cond.code ({ cls := "CheekTown", name := "undo", desc := "()Z" } : Jvm.MethodName) prog_1_method_99_code (1 : Nat) (Option.some Jvm.ClassFile.FieldType.boolean)) ∈ lw_all := lw_g (lw_at lw_m4 222 rfl) rfl
theorem q1059 : (Jvm.Cond.methodLink "CheekTown" (702 : Nat) ({ cls := "java/util/ArrayList", name := "isEmpty", desc := "()Z" } : Jvm.MethodName)) ∈ lw_all := lw_g (lw_at lw_m4 223 rfl) rfl
theorem q1063 : (Jvm.Cond.methodLink "CheekTown" (366 : Nat) ({ cls := "java/util/ArrayList", name := "size", desc := "()I" } : Jvm.MethodName)) ∈ lw_all := lw_g (lw_at lw_m4 227 rfl) rfl
theorem q1067 : (Jvm.Cond.methodLink "CheekTown" (468 : Nat) ({ cls := "java/util/ArrayList", name := "remove", desc := "(I)Ljava/lang/Object;" } : Jvm.MethodName)) ∈ lw_all := lw_g (lw_at lw_m4 231 rfl) rfl
theorem q1082 : (Jvm.Cond.methodLink "CheekTown" (254 : Nat) ({ cls := "CheekTown$World", name := "likens", desc := "(LCheekTown$World;)LCheekTown$World;" } : Jvm.MethodName)) ∈ lw_all := lw_g (lw_at lw_m5 6 rfl) rfl
theorem q1091 : (Jvm.Cond.instanceMethod ({ cls := "CheekTown", name := "image", desc := "()V" } : Jvm.MethodName)) ∈ lw_all := lw_g (lw_at lw_m5 15 rfl) rfl
theorem q1092 : (Jvm.Cond.selects "CheekTown" ({ cls := "CheekTown", name := "image", desc := "()V" } : Jvm.MethodName) ({ cls := "CheekTown", name := "image", desc := "()V" } : Jvm.MethodName)) ∈ lw_all := lw_g (lw_at lw_m5 16 rfl) rfl
theorem q1093 : (Jvm.Cond.code ({ cls := "CheekTown", name := "image", desc := "()V" } : Jvm.MethodName) prog_1_method_100_code (1 : Nat) (Option.none : Option Jvm.ClassFile.FieldType)) ∈ lw_all := lw_g (lw_at lw_m5 17 rfl) rfl
theorem q1095 : (Jvm.Cond.instanceMethod ({ cls := "CheekTown", name := "back", desc := "()Z" } : Jvm.MethodName)) ∈ lw_all := lw_g (lw_at lw_m5 19 rfl) rfl
theorem q1096 : (Jvm.Cond.selects "CheekTown" ({ cls := "CheekTown", name := "back", desc := "()Z" } : Jvm.MethodName) ({ cls := "CheekTown", name := "back", desc := "()Z" } : Jvm.MethodName)) ∈ lw_all := lw_g (lw_at lw_m5 20 rfl) rfl
theorem q1097 : (Jvm.Cond.code ({ cls := "CheekTown", name := "back", desc := "()Z" } : Jvm.MethodName) prog_1_method_101_code (1 : Nat) (Option.some Jvm.ClassFile.FieldType.boolean)) ∈ lw_all := lw_g (lw_at lw_m5 21 rfl) rfl
theorem q1098 : (Jvm.Cond.methodLink "CheekTown" (272 : Nat) ({ cls := "java/util/ArrayList", name := "clear", desc := "()V" } : Jvm.MethodName)) ∈ lw_all := lw_g (lw_at lw_m5 22 rfl) rfl
theorem q1103 : (Jvm.Cond.instanceMethod ({ cls := "CheekTown", name := "count", desc := "(I)I" } : Jvm.MethodName)) ∈ lw_all := lw_g (lw_at lw_m5 27 rfl) rfl
theorem q1104 : (Jvm.Cond.selects "CheekTown" ({ cls := "CheekTown", name := "count", desc := "(I)I" } : Jvm.MethodName) ({ cls := "CheekTown", name := "count", desc := "(I)I" } : Jvm.MethodName)) ∈ lw_all := lw_g (lw_at lw_m5 28 rfl) rfl
theorem q1105 : (Jvm.Cond.code ({ cls := "CheekTown", name := "count", desc := "(I)I" } : Jvm.MethodName) prog_1_method_102_code (3 : Nat) (Option.some Jvm.ClassFile.FieldType.int)) ∈ lw_all := lw_g (lw_at lw_m5 29 rfl) rfl
theorem q1106 : (Jvm.Cond.methodLink "CheekTown" (675 : Nat) ({ cls := "CheekTown$World", name := "colds", desc := "()I" } : Jvm.MethodName)) ∈ lw_all := lw_g (lw_at lw_m5 30 rfl) rfl
theorem q1116 : (Jvm.Cond.instanceMethod ({ cls := "CheekTown", name := "town", desc := "()I" } : Jvm.MethodName)) ∈ lw_all := lw_g (lw_at lw_m5 40 rfl) rfl
theorem q1117 : (Jvm.Cond.selects "CheekTown" ({ cls := "CheekTown", name := "town", desc := "()I" } : Jvm.MethodName) ({ cls := "CheekTown", name := "town", desc := "()I" } : Jvm.MethodName)) ∈ lw_all := lw_g (lw_at lw_m5 41 rfl) rfl
theorem q1118 : (Jvm.Cond.codeWith ({ cls := "CheekTown", name := "town", desc := "()I" } : Jvm.MethodName) prog_1_method_21_code (2 : Nat) (Option.some Jvm.ClassFile.FieldType.int) [((19 : Nat), (35 : Nat), (38 : Nat), (261 : Nat))]) ∈ lw_all := lw_g (lw_at lw_m5 42 rfl) rfl
theorem q1119 : (Jvm.Cond.classLink "CheekTown" (261 : Nat) "CheekTown$Wrong") ∈ lw_all := lw_g (lw_at lw_m5 43 rfl) rfl
theorem q1120 : (Jvm.Cond.methodLink "CheekTown" (251 : Nat) ({ cls := "CheekTown$Reader", name := "begins", desc := "()V" } : Jvm.MethodName)) ∈ lw_all := lw_g (lw_at lw_m5 44 rfl) rfl
theorem q1124 : (Jvm.Cond.methodLink "CheekTown" (258 : Nat) ({ cls := "CheekTown", name := "townText", desc := "(LCheekTown$World;)V" } : Jvm.MethodName)) ∈ lw_all := lw_g (lw_at lw_m5 48 rfl) rfl
theorem q1125 : (Jvm.Cond.privateMethod ({ cls := "CheekTown", name := "townText", desc := "(LCheekTown$World;)V" } : Jvm.MethodName)) ∈ lw_tbl := lw_at lw_m5 49 rfl
theorem q1126 : (Jvm.Cond.instanceMethod ({ cls := "CheekTown", name := "townText", desc := "(LCheekTown$World;)V" } : Jvm.MethodName)) ∈ lw_all := lw_g (lw_at lw_m5 50 rfl) rfl
theorem q1127 : (Jvm.Cond.code ({ cls := "CheekTown", name := "townText", desc := "(LCheekTown$World;)V" } : Jvm.MethodName) prog_1_method_17_code (3 : Nat) (Option.none : Option Jvm.ClassFile.FieldType)) ∈ lw_all := lw_g (lw_at lw_m5 51 rfl) rfl
theorem q1128 : (Jvm.Cond.methodLink "CheekTown" (229 : Nat) ({ cls := "CheekTown$Reader", name := "isOver", desc := "()Z" } : Jvm.MethodName)) ∈ lw_all := lw_g (lw_at lw_m5 52 rfl) rfl
theorem q1140 : (Jvm.Cond.methodLink "CheekTown" (233 : Nat) ({ cls := "CheekTown", name := "noMore", desc := "(II)V" } : Jvm.MethodName)) ∈ lw_all := lw_g (lw_at lw_m5 64 rfl) rfl
theorem q1141 : (Jvm.Cond.privateMethod ({ cls := "CheekTown", name := "noMore", desc := "(II)V" } : Jvm.MethodName)) ∈ lw_tbl := lw_at lw_m5 65 rfl
theorem q1142 : (Jvm.Cond.instanceMethod ({ cls := "CheekTown", name := "noMore", desc := "(II)V" } : Jvm.MethodName)) ∈ lw_all := lw_g (lw_at lw_m5 66 rfl) rfl
theorem q1143 : (Jvm.Cond.code ({ cls := "CheekTown", name := "noMore", desc := "(II)V" } : Jvm.MethodName) prog_1_method_18_code (3 : Nat) (Option.none : Option Jvm.ClassFile.FieldType)) ∈ lw_all := lw_g (lw_at lw_m5 67 rfl) rfl
theorem q1144 : (Jvm.Cond.methodLink "CheekTown" (109 : Nat) ({ cls := "CheekTown$Reader", name := "word", desc := "()Ljava/lang/String;" } : Jvm.MethodName)) ∈ lw_all := lw_g (lw_at lw_m5 68 rfl) rfl
theorem q1172 : (Jvm.Cond.methodLink "CheekTown" (94 : Nat) ({ cls := "CheekTown$Reader", name := "wrong", desc := "()LCheekTown$Wrong;" } : Jvm.MethodName)) ∈ lw_all := lw_g (lw_at lw_m5 96 rfl) rfl
theorem q1196 : (Jvm.Cond.methodLink "CheekTown" (236 : Nat) ({ cls := "CheekTown", name := "townLine", desc := "(LCheekTown$World;)V" } : Jvm.MethodName)) ∈ lw_all := lw_g (lw_at lw_m5 120 rfl) rfl
theorem q1197 : (Jvm.Cond.privateMethod ({ cls := "CheekTown", name := "townLine", desc := "(LCheekTown$World;)V" } : Jvm.MethodName)) ∈ lw_tbl := lw_at lw_m5 121 rfl
theorem q1198 : (Jvm.Cond.instanceMethod ({ cls := "CheekTown", name := "townLine", desc := "(LCheekTown$World;)V" } : Jvm.MethodName)) ∈ lw_all := lw_g (lw_at lw_m5 122 rfl) rfl
theorem q1199 : (Jvm.Cond.code ({ cls := "CheekTown", name := "townLine", desc := "(LCheekTown$World;)V" } : Jvm.MethodName) prog_1_method_16_code (5 : Nat) (Option.none : Option Jvm.ClassFile.FieldType)) ∈ lw_all := lw_g (lw_at lw_m5 123 rfl) rfl
theorem q1200 : (Jvm.Cond.methodLink "CheekTown" (197 : Nat) ({ cls := "java/lang/String", name := "hashCode", desc := "()I" } : Jvm.MethodName)) ∈ lw_all := lw_g (lw_at lw_m5 124 rfl) rfl
theorem q1261 : (Jvm.Cond.stringRef "CheekTown" (200 : Nat) "land") ∈ lw_tbl := lw_at lw_m5 185 rfl
theorem q1262 : (Jvm.Cond.methodLink "CheekTown" (115 : Nat) ({ cls := "java/lang/String", name := "equals", desc := "(Ljava/lang/Object;)Z" } : Jvm.MethodName)) ∈ lw_all := lw_g (lw_at lw_m5 186 rfl) rfl
theorem q1270 : (Jvm.Cond.stringRef "CheekTown" (201 : Nat) "habit") ∈ lw_tbl := lw_at lw_m5 194 rfl
theorem q1271 : (Jvm.Cond.stringRef "CheekTown" (202 : Nat) "person") ∈ lw_tbl := lw_at lw_m5 195 rfl
theorem q1272 : (Jvm.Cond.stringRef "CheekTown" (204 : Nat) "cold") ∈ lw_tbl := lw_at lw_m5 196 rfl
theorem q1273 : (Jvm.Cond.stringRef "CheekTown" (205 : Nat) "tie") ∈ lw_tbl := lw_at lw_m5 197 rfl
theorem q1274 : (Jvm.Cond.stringRef "CheekTown" (207 : Nat) "stomach") ∈ lw_tbl := lw_at lw_m5 198 rfl
theorem q1275 : (Jvm.Cond.stringRef "CheekTown" (209 : Nat) "air") ∈ lw_tbl := lw_at lw_m5 199 rfl
theorem q1276 : (Jvm.Cond.stringRef "CheekTown" (211 : Nat) "noses") ∈ lw_tbl := lw_at lw_m5 200 rfl
theorem q1277 : (Jvm.Cond.methodLink "CheekTown" (213 : Nat) ({ cls := "CheekTown", name := "aHabit", desc := "(LCheekTown$World;)V" } : Jvm.MethodName)) ∈ lw_all := lw_g (lw_at lw_m5 201 rfl) rfl
theorem q1278 : (Jvm.Cond.privateMethod ({ cls := "CheekTown", name := "aHabit", desc := "(LCheekTown$World;)V" } : Jvm.MethodName)) ∈ lw_tbl := lw_at lw_m5 202 rfl
theorem q1279 : (Jvm.Cond.instanceMethod ({ cls := "CheekTown", name := "aHabit", desc := "(LCheekTown$World;)V" } : Jvm.MethodName)) ∈ lw_all := lw_g (lw_at lw_m5 203 rfl) rfl
theorem q1280 : (Jvm.Cond.code ({ cls := "CheekTown", name := "aHabit", desc := "(LCheekTown$World;)V" } : Jvm.MethodName) prog_1_method_12_code (4 : Nat) (Option.none : Option Jvm.ClassFile.FieldType)) ∈ lw_all := lw_g (lw_at lw_m5 204 rfl) rfl
theorem q1281 : (Jvm.Cond.methodLink "CheekTown" (106 : Nat) ({ cls := "CheekTown$Reader", name := "number", desc := "(II)I" } : Jvm.MethodName)) ∈ lw_all := lw_g (lw_at lw_m5 205 rfl) rfl
theorem q1290 : (Jvm.Cond.methodLink "CheekTown" (143 : Nat) ({ cls := "CheekTown", name := "greetingTold", desc := "()I" } : Jvm.MethodName)) ∈ lw_all := lw_g (lw_at lw_m5 214 rfl) rfl
theorem q1291 : (Jvm.Cond.privateMethod ({ cls := "CheekTown", name := "greetingTold", desc := "()I" } : Jvm.MethodName)) ∈ lw_tbl := lw_at lw_m5 215 rfl
theorem q1292 : (Jvm.Cond.instanceMethod ({ cls := "CheekTown", name := "greetingTold", desc := "()I" } : Jvm.MethodName)) ∈ lw_all := lw_g (lw_at lw_m5 216 rfl) rfl
theorem q1293 : (Jvm.Cond.code ({ cls := "CheekTown", name := "greetingTold", desc := "()I" } : Jvm.MethodName) prog_1_method_10_code (1 : Nat) (Option.some Jvm.ClassFile.FieldType.int)) ∈ lw_all := lw_g (lw_at lw_m5 217 rfl) rfl
theorem q1294 : (Jvm.Cond.methodLink "CheekTown" (123 : Nat) ({ cls := "CheekTown$Kind", name := "of", desc := "(Ljava/lang/String;)LCheekTown$Kind;" } : Jvm.MethodName)) ∈ lw_all := lw_g (lw_at lw_m5 218 rfl) rfl
theorem q1309 : (Jvm.Cond.methodLink "CheekTown" (127 : Nat) ({ cls := "CheekTown", name := "greetingBy", desc := "(LCheekTown$Kind;)I" } : Jvm.MethodName)) ∈ lw_all := lw_g (lw_at lw_m5 233 rfl) rfl
theorem q1310 : (Jvm.Cond.privateMethod ({ cls := "CheekTown", name := "greetingBy", desc := "(LCheekTown$Kind;)I" } : Jvm.MethodName)) ∈ lw_tbl := lw_at lw_m5 234 rfl
theorem q1311 : (Jvm.Cond.instanceMethod ({ cls := "CheekTown", name := "greetingBy", desc := "(LCheekTown$Kind;)I" } : Jvm.MethodName)) ∈ lw_all := lw_g (lw_at lw_m5 235 rfl) rfl
theorem q1312 : (Jvm.Cond.code ({ cls := "CheekTown", name := "greetingBy", desc := "(LCheekTown$Kind;)I" } : Jvm.MethodName) prog_1_method_9_code (4 : Nat) (Option.some Jvm.ClassFile.FieldType.int)) ∈ lw_all := lw_g (lw_at lw_m5 236 rfl) rfl
theorem q1313 : (Jvm.Cond.fieldLink "CheekTown" (98 : Nat) "CheekTown$Kind" "KISS" "LCheekTown$Kind;") ∈ lw_all := lw_g (lw_at lw_m5 237 rfl) rfl
theorem q1314 : (Jvm.Cond.methodLink "CheekTown" (102 : Nat) ({ cls := "CheekTown$Kind", name := "code", desc := "(II)I" } : Jvm.MethodName)) ∈ lw_all := lw_g (lw_at lw_m5 238 rfl) rfl
theorem q1319 : (Jvm.Cond.stringRef "CheekTown" (113 : Nat) "left") ∈ lw_tbl := lw_at lw_m6 3 rfl
theorem q1320 : (Jvm.Cond.stringRef "CheekTown" (121 : Nat) "right") ∈ lw_tbl := lw_at lw_m6 4 rfl
theorem q1321 : (Jvm.Cond.stringRef "CheekTown" (146 : Nat) "weight") ∈ lw_tbl := lw_at lw_m6 5 rfl
theorem q1322 : (Jvm.Cond.methodLink "CheekTown" (148 : Nat) ({ cls := "CheekTown", name := "needs", desc := "(Ljava/lang/String;)V" } : Jvm.MethodName)) ∈ lw_all := lw_g (lw_at lw_m6 6 rfl) rfl
theorem q1323 : (Jvm.Cond.privateMethod ({ cls := "CheekTown", name := "needs", desc := "(Ljava/lang/String;)V" } : Jvm.MethodName)) ∈ lw_tbl := lw_at lw_m6 7 rfl
theorem q1324 : (Jvm.Cond.instanceMethod ({ cls := "CheekTown", name := "needs", desc := "(Ljava/lang/String;)V" } : Jvm.MethodName)) ∈ lw_all := lw_g (lw_at lw_m6 8 rfl) rfl
theorem q1325 : (Jvm.Cond.code ({ cls := "CheekTown", name := "needs", desc := "(Ljava/lang/String;)V" } : Jvm.MethodName) prog_1_method_11_code (2 : Nat) (Option.none : Option Jvm.ClassFile.FieldType)) ∈ lw_all := lw_g (lw_at lw_m6 9 rfl) rfl
theorem q1326 : (Jvm.Cond.methodLink "CheekTown" (217 : Nat) ({ cls := "CheekTown", name := "aPerson", desc := "(LCheekTown$World;)V" } : Jvm.MethodName)) ∈ lw_all := lw_g (lw_at lw_m6 10 rfl) rfl
theorem q1327 : (Jvm.Cond.privateMethod ({ cls := "CheekTown", name := "aPerson", desc := "(LCheekTown$World;)V" } : Jvm.MethodName)) ∈ lw_tbl := lw_at lw_m6 11 rfl
theorem q1328 : (Jvm.Cond.instanceMethod ({ cls := "CheekTown", name := "aPerson", desc := "(LCheekTown$World;)V" } : Jvm.MethodName)) ∈ lw_all := lw_g (lw_at lw_m6 12 rfl) rfl
theorem q1329 : (Jvm.Cond.code ({ cls := "CheekTown", name := "aPerson", desc := "(LCheekTown$World;)V" } : Jvm.MethodName) prog_1_method_13_code (5 : Nat) (Option.none : Option Jvm.ClassFile.FieldType)) ∈ lw_all := lw_g (lw_at lw_m6 13 rfl) rfl
theorem q1330 : (Jvm.Cond.stringRef "CheekTown" (163 : Nat) "rank") ∈ lw_tbl := lw_at lw_m6 14 rfl
theorem q1331 : (Jvm.Cond.stringRef "CheekTown" (167 : Nat) "bent") ∈ lw_tbl := lw_at lw_m6 15 rfl
theorem q1332 : (Jvm.Cond.methodLink "CheekTown" (187 : Nat) ({ cls := "CheekTown", name := "personTold", desc := "(LCheekTown$World;)I" } : Jvm.MethodName)) ∈ lw_all := lw_g (lw_at lw_m6 16 rfl) rfl
theorem q1333 : (Jvm.Cond.privateMethod ({ cls := "CheekTown", name := "personTold", desc := "(LCheekTown$World;)I" } : Jvm.MethodName)) ∈ lw_tbl := lw_at lw_m6 17 rfl
theorem q1334 : (Jvm.Cond.instanceMethod ({ cls := "CheekTown", name := "personTold", desc := "(LCheekTown$World;)I" } : Jvm.MethodName)) ∈ lw_all := lw_g (lw_at lw_m6 18 rfl) rfl
theorem q1335 : (Jvm.Cond.code ({ cls := "CheekTown", name := "personTold", desc := "(LCheekTown$World;)I" } : Jvm.MethodName) prog_1_method_14_code (2 : Nat) (Option.some Jvm.ClassFile.FieldType.int)) ∈ lw_all := lw_g (lw_at lw_m6 19 rfl) rfl
theorem q1336 : (Jvm.Cond.methodLink "CheekTown" (220 : Nat) ({ cls := "CheekTown", name := "aTie", desc := "(LCheekTown$World;)V" } : Jvm.MethodName)) ∈ lw_all := lw_g (lw_at lw_m6 20 rfl) rfl
theorem q1337 : (Jvm.Cond.privateMethod ({ cls := "CheekTown", name := "aTie", desc := "(LCheekTown$World;)V" } : Jvm.MethodName)) ∈ lw_tbl := lw_at lw_m6 21 rfl
theorem q1338 : (Jvm.Cond.instanceMethod ({ cls := "CheekTown", name := "aTie", desc := "(LCheekTown$World;)V" } : Jvm.MethodName)) ∈ lw_all := lw_g (lw_at lw_m6 22 rfl) rfl
theorem q1339 : (Jvm.Cond.code ({ cls := "CheekTown", name := "aTie", desc := "(LCheekTown$World;)V" } : Jvm.MethodName) prog_1_method_15_code (4 : Nat) (Option.none : Option Jvm.ClassFile.FieldType)) ∈ lw_all := lw_g (lw_at lw_m6 23 rfl) rfl
theorem q1340 : (Jvm.Cond.methodLink "CheekTown" (191 : Nat) ({ cls := "CheekTown$World", name := "tieOf", desc := "(II)I" } : Jvm.MethodName)) ∈ lw_all := lw_g (lw_at lw_m6 24 rfl) rfl
theorem q1341 : (Jvm.Cond.methodLink "CheekTown" (194 : Nat) ({ cls := "CheekTown$World", name := "ties", desc := "(II)V" } : Jvm.MethodName)) ∈ lw_all := lw_g (lw_at lw_m6 25 rfl) rfl
theorem q1345 : (Jvm.Cond.methodLink "CheekTown" (239 : Nat) ({ cls := "CheekTown", name := "goesOn", desc := "()Z" } : Jvm.MethodName)) ∈ lw_all := lw_g (lw_at lw_m6 29 rfl) rfl
theorem q1346 : (Jvm.Cond.privateMethod ({ cls := "CheekTown", name := "goesOn", desc := "()Z" } : Jvm.MethodName)) ∈ lw_tbl := lw_at lw_m6 30 rfl
theorem q1347 : (Jvm.Cond.instanceMethod ({ cls := "CheekTown", name := "goesOn", desc := "()Z" } : Jvm.MethodName)) ∈ lw_all := lw_g (lw_at lw_m6 31 rfl) rfl
theorem q1348 : (Jvm.Cond.code ({ cls := "CheekTown", name := "goesOn", desc := "()Z" } : Jvm.MethodName) prog_1_method_19_code (1 : Nat) (Option.some Jvm.ClassFile.FieldType.boolean)) ∈ lw_all := lw_g (lw_at lw_m6 32 rfl) rfl
theorem q1349 : (Jvm.Cond.methodLink "CheekTown" (242 : Nat) ({ cls := "CheekTown$Reader", name := "sign", desc := "(I)Z" } : Jvm.MethodName)) ∈ lw_all := lw_g (lw_at lw_m6 33 rfl) rfl
theorem q1353 : (Jvm.Cond.methodLink "CheekTown" (263 : Nat) ({ cls := "CheekTown", name := "fails", desc := "()V" } : Jvm.MethodName)) ∈ lw_all := lw_g (lw_at lw_m6 37 rfl) rfl
theorem q1354 : (Jvm.Cond.privateMethod ({ cls := "CheekTown", name := "fails", desc := "()V" } : Jvm.MethodName)) ∈ lw_tbl := lw_at lw_m6 38 rfl
theorem q1355 : (Jvm.Cond.instanceMethod ({ cls := "CheekTown", name := "fails", desc := "()V" } : Jvm.MethodName)) ∈ lw_all := lw_g (lw_at lw_m6 39 rfl) rfl
theorem q1356 : (Jvm.Cond.code ({ cls := "CheekTown", name := "fails", desc := "()V" } : Jvm.MethodName) prog_1_method_20_code (1 : Nat) (Option.none : Option Jvm.ClassFile.FieldType)) ∈ lw_all := lw_g (lw_at lw_m6 40 rfl) rfl
theorem q1357 : (Jvm.Cond.classLink "CheekTown" (248 : Nat) "java/lang/IllegalArgumentException") ∈ lw_all := lw_g (lw_at lw_m6 41 rfl) rfl
theorem q1358 : (Jvm.Cond.methodLink "CheekTown" (250 : Nat) ({ cls := "java/lang/IllegalArgumentException", name := "<init>", desc := "()V" } : Jvm.MethodName)) ∈ lw_all := lw_g (lw_at lw_m6 42 rfl) rfl
theorem q1368 : (Jvm.Cond.classLink "CheekTown" (269 : Nat) "java/lang/UnsupportedOperationException") ∈ lw_all := lw_g (lw_at lw_m6 52 rfl) rfl
theorem q1377 : (Jvm.Cond.methodLink "CheekTown" (271 : Nat) ({ cls := "java/lang/UnsupportedOperationException", name := "<init>", desc := "()V" } : Jvm.MethodName)) ∈ lw_all := lw_g (lw_at lw_m6 61 rfl) rfl
theorem q1387 : (Jvm.Cond.instanceMethod ({ cls := "CheekTown", name := "law", desc := "()I" } : Jvm.MethodName)) ∈ lw_all := lw_g (lw_at lw_m6 71 rfl) rfl
theorem q1388 : (Jvm.Cond.selects "CheekTown" ({ cls := "CheekTown", name := "law", desc := "()I" } : Jvm.MethodName) ({ cls := "CheekTown", name := "law", desc := "()I" } : Jvm.MethodName)) ∈ lw_all := lw_g (lw_at lw_m6 72 rfl) rfl
theorem q1389 : (Jvm.Cond.codeWith ({ cls := "CheekTown", name := "law", desc := "()I" } : Jvm.MethodName) prog_1_method_29_code (2 : Nat) (Option.some Jvm.ClassFile.FieldType.int) [((7 : Nat), (26 : Nat), (29 : Nat), (261 : Nat))]) ∈ lw_all := lw_g (lw_at lw_m6 73 rfl) rfl
theorem q1390 : (Jvm.Cond.methodLink "CheekTown" (373 : Nat) ({ cls := "CheekTown", name := "lawText", desc := "()LCheekTown$Law;" } : Jvm.MethodName)) ∈ lw_all := lw_g (lw_at lw_m6 74 rfl) rfl
theorem q1391 : (Jvm.Cond.privateMethod ({ cls := "CheekTown", name := "lawText", desc := "()LCheekTown$Law;" } : Jvm.MethodName)) ∈ lw_tbl := lw_at lw_m6 75 rfl
theorem q1392 : (Jvm.Cond.instanceMethod ({ cls := "CheekTown", name := "lawText", desc := "()LCheekTown$Law;" } : Jvm.MethodName)) ∈ lw_all := lw_g (lw_at lw_m6 76 rfl) rfl
theorem q1393 : (Jvm.Cond.code ({ cls := "CheekTown", name := "lawText", desc := "()LCheekTown$Law;" } : Jvm.MethodName) prog_1_method_28_code (2 : Nat) (Option.some (Jvm.ClassFile.FieldType.object "CheekTown$Law"))) ∈ lw_all := lw_g (lw_at lw_m6 77 rfl) rfl
theorem q1394 : (Jvm.Cond.classLink "CheekTown" (360 : Nat) "CheekTown$Law") ∈ lw_all := lw_g (lw_at lw_m6 78 rfl) rfl
theorem q1396 : (Jvm.Cond.methodLinkNest "CheekTown" (362 : Nat) ({ cls := "CheekTown$Law", name := "<init>", desc := "()V" } : Jvm.MethodName) "CheekTown") ∈ lw_tbl := lw_at lw_m6 80 rfl
theorem q1403 : (Jvm.Cond.fieldLinkNest "CheekTown" (363 : Nat) "CheekTown$Law" "lines" "Ljava/util/ArrayList;" "CheekTown") ∈ lw_tbl := lw_at lw_m6 87 rfl
theorem q1407 : (Jvm.Cond.methodLink "CheekTown" (369 : Nat) ({ cls := "CheekTown", name := "lawLine", desc := "()LCheekTown$Line;" } : Jvm.MethodName)) ∈ lw_all := lw_g (lw_at lw_m6 91 rfl) rfl
theorem q1408 : (Jvm.Cond.privateMethod ({ cls := "CheekTown", name := "lawLine", desc := "()LCheekTown$Line;" } : Jvm.MethodName)) ∈ lw_tbl := lw_at lw_m6 92 rfl
theorem q1409 : (Jvm.Cond.instanceMethod ({ cls := "CheekTown", name := "lawLine", desc := "()LCheekTown$Line;" } : Jvm.MethodName)) ∈ lw_all := lw_g (lw_at lw_m6 93 rfl) rfl
theorem q1410 : (Jvm.Cond.code ({ cls := "CheekTown", name := "lawLine", desc := "()LCheekTown$Line;" } : Jvm.MethodName) prog_1_method_27_code (2 : Nat) (Option.some (Jvm.ClassFile.FieldType.object "CheekTown$Line"))) ∈ lw_all := lw_g (lw_at lw_m6 94 rfl) rfl
theorem q1411 : (Jvm.Cond.classLink "CheekTown" (353 : Nat) "CheekTown$Line") ∈ lw_all := lw_g (lw_at lw_m6 95 rfl) rfl
theorem q1413 : (Jvm.Cond.stringRef "CheekTown" (355 : Nat) "if") ∈ lw_tbl := lw_at lw_m6 97 rfl
theorem q1414 : (Jvm.Cond.methodLink "CheekTown" (312 : Nat) ({ cls := "CheekTown$Reader", name := "passes", desc := "(Ljava/lang/String;)Z" } : Jvm.MethodName)) ∈ lw_all := lw_g (lw_at lw_m6 98 rfl) rfl
theorem q1420 : (Jvm.Cond.methodLink "CheekTown" (303 : Nat) ({ cls := "CheekTown", name := "cond", desc := "()LCheekTown$Cond;" } : Jvm.MethodName)) ∈ lw_all := lw_g (lw_at lw_m6 104 rfl) rfl
theorem q1421 : (Jvm.Cond.privateMethod ({ cls := "CheekTown", name := "cond", desc := "()LCheekTown$Cond;" } : Jvm.MethodName)) ∈ lw_tbl := lw_at lw_m6 105 rfl
theorem q1422 : (Jvm.Cond.instanceMethod ({ cls := "CheekTown", name := "cond", desc := "()LCheekTown$Cond;" } : Jvm.MethodName)) ∈ lw_all := lw_g (lw_at lw_m6 106 rfl) rfl
theorem q1423 : (Jvm.Cond.code ({ cls := "CheekTown", name := "cond", desc := "()LCheekTown$Cond;" } : Jvm.MethodName) prog_1_method_26_code (2 : Nat) (Option.some (Jvm.ClassFile.FieldType.object "CheekTown$Cond"))) ∈ lw_all := lw_g (lw_at lw_m6 107 rfl) rfl
theorem q1424 : (Jvm.Cond.classLink "CheekTown" (340 : Nat) "CheekTown$Row") ∈ lw_all := lw_g (lw_at lw_m6 108 rfl) rfl
theorem q1426 : (Jvm.Cond.methodLink "CheekTown" (342 : Nat) ({ cls := "CheekTown$Row", name := "<init>", desc := "(Z)V" } : Jvm.MethodName)) ∈ lw_all := lw_g (lw_at lw_m6 110 rfl) rfl
theorem q1434 : (Jvm.Cond.fieldLinkNest "CheekTown" (343 : Nat) "CheekTown$Row" "row" "Ljava/util/ArrayList;" "CheekTown") ∈ lw_tbl := lw_at lw_m6 118 rfl
theorem q1440 : (Jvm.Cond.methodLink "CheekTown" (348 : Nat) ({ cls := "CheekTown", name := "allOf", desc := "()LCheekTown$Cond;" } : Jvm.MethodName)) ∈ lw_all := lw_g (lw_at lw_m6 124 rfl) rfl
theorem q1441 : (Jvm.Cond.privateMethod ({ cls := "CheekTown", name := "allOf", desc := "()LCheekTown$Cond;" } : Jvm.MethodName)) ∈ lw_tbl := lw_at lw_m6 125 rfl
theorem q1442 : (Jvm.Cond.instanceMethod ({ cls := "CheekTown", name := "allOf", desc := "()LCheekTown$Cond;" } : Jvm.MethodName)) ∈ lw_all := lw_g (lw_at lw_m6 126 rfl) rfl
theorem q1443 : (Jvm.Cond.code ({ cls := "CheekTown", name := "allOf", desc := "()LCheekTown$Cond;" } : Jvm.MethodName) prog_1_method_25_code (2 : Nat) (Option.some (Jvm.ClassFile.FieldType.object "CheekTown$Cond"))) ∈ lw_all := lw_g (lw_at lw_m6 127 rfl) rfl
theorem q1444 : (Jvm.Cond.methodLink "CheekTown" (316 : Nat) ({ cls := "CheekTown", name := "atom", desc := "()LCheekTown$Cond;" } : Jvm.MethodName)) ∈ lw_all := lw_g (lw_at lw_m6 128 rfl) rfl
theorem q1445 : (Jvm.Cond.privateMethod ({ cls := "CheekTown", name := "atom", desc := "()LCheekTown$Cond;" } : Jvm.MethodName)) ∈ lw_tbl := lw_at lw_m6 129 rfl
theorem q1446 : (Jvm.Cond.instanceMethod ({ cls := "CheekTown", name := "atom", desc := "()LCheekTown$Cond;" } : Jvm.MethodName)) ∈ lw_all := lw_g (lw_at lw_m6 130 rfl) rfl
theorem q1447 : (Jvm.Cond.code ({ cls := "CheekTown", name := "atom", desc := "()LCheekTown$Cond;" } : Jvm.MethodName) prog_1_method_24_code (3 : Nat) (Option.some (Jvm.ClassFile.FieldType.object "CheekTown$Cond"))) ∈ lw_all := lw_g (lw_at lw_m6 131 rfl) rfl
theorem q1448 : (Jvm.Cond.methodLink "CheekTown" (300 : Nat) ({ cls := "CheekTown$Reader", name := "goesDeeper", desc := "()V" } : Jvm.MethodName)) ∈ lw_all := lw_g (lw_at lw_m6 132 rfl) rfl
theorem q1452 : (Jvm.Cond.methodLink "CheekTown" (307 : Nat) ({ cls := "CheekTown$Reader", name := "comesUp", desc := "()V" } : Jvm.MethodName)) ∈ lw_all := lw_g (lw_at lw_m6 136 rfl) rfl
theorem q1456 : (Jvm.Cond.stringRef "CheekTown" (310 : Nat) "not") ∈ lw_tbl := lw_at lw_m6 140 rfl
theorem q1457 : (Jvm.Cond.classLink "CheekTown" (319 : Nat) "CheekTown$Not") ∈ lw_all := lw_g (lw_at lw_m6 141 rfl) rfl
theorem q1459 : (Jvm.Cond.methodLink "CheekTown" (321 : Nat) ({ cls := "CheekTown$Not", name := "<init>", desc := "(LCheekTown$Cond;)V" } : Jvm.MethodName)) ∈ lw_all := lw_g (lw_at lw_m6 143 rfl) rfl
theorem q1467 : (Jvm.Cond.stringRef "CheekTown" (324 : Nat) "same") ∈ lw_tbl := lw_at lw_m6 151 rfl
theorem q1468 : (Jvm.Cond.classLink "CheekTown" (326 : Nat) "CheekTown$Tag") ∈ lw_all := lw_g (lw_at lw_m6 152 rfl) rfl
theorem q1470 : (Jvm.Cond.methodLink "CheekTown" (328 : Nat) ({ cls := "CheekTown$Tag", name := "<init>", desc := "(Z)V" } : Jvm.MethodName)) ∈ lw_all := lw_g (lw_at lw_m6 154 rfl) rfl
theorem q1478 : (Jvm.Cond.methodLink "CheekTown" (331 : Nat) ({ cls := "CheekTown", name := "sum", desc := "()LCheekTown$Sum;" } : Jvm.MethodName)) ∈ lw_all := lw_g (lw_at lw_m6 162 rfl) rfl
theorem q1479 : (Jvm.Cond.privateMethod ({ cls := "CheekTown", name := "sum", desc := "()LCheekTown$Sum;" } : Jvm.MethodName)) ∈ lw_tbl := lw_at lw_m6 163 rfl
theorem q1480 : (Jvm.Cond.instanceMethod ({ cls := "CheekTown", name := "sum", desc := "()LCheekTown$Sum;" } : Jvm.MethodName)) ∈ lw_all := lw_g (lw_at lw_m6 164 rfl) rfl
theorem q1481 : (Jvm.Cond.code ({ cls := "CheekTown", name := "sum", desc := "()LCheekTown$Sum;" } : Jvm.MethodName) prog_1_method_23_code (2 : Nat) (Option.some (Jvm.ClassFile.FieldType.object "CheekTown$Sum"))) ∈ lw_all := lw_g (lw_at lw_m6 165 rfl) rfl
theorem q1482 : (Jvm.Cond.classLink "CheekTown" (288 : Nat) "CheekTown$Sum") ∈ lw_all := lw_g (lw_at lw_m6 166 rfl) rfl
theorem q1484 : (Jvm.Cond.methodLinkNest "CheekTown" (290 : Nat) ({ cls := "CheekTown$Sum", name := "<init>", desc := "()V" } : Jvm.MethodName) "CheekTown") ∈ lw_tbl := lw_at lw_m6 168 rfl
theorem q1491 : (Jvm.Cond.fieldLinkNest "CheekTown" (291 : Nat) "CheekTown$Sum" "parts" "Ljava/util/ArrayList;" "CheekTown") ∈ lw_tbl := lw_at lw_m6 175 rfl
theorem q1495 : (Jvm.Cond.methodLink "CheekTown" (294 : Nat) ({ cls := "CheekTown", name := "onePart", desc := "()LCheekTown$Part;" } : Jvm.MethodName)) ∈ lw_all := lw_g (lw_at lw_m6 179 rfl) rfl
theorem q1496 : (Jvm.Cond.privateMethod ({ cls := "CheekTown", name := "onePart", desc := "()LCheekTown$Part;" } : Jvm.MethodName)) ∈ lw_tbl := lw_at lw_m6 180 rfl
theorem q1497 : (Jvm.Cond.instanceMethod ({ cls := "CheekTown", name := "onePart", desc := "()LCheekTown$Part;" } : Jvm.MethodName)) ∈ lw_all := lw_g (lw_at lw_m6 181 rfl) rfl
theorem q1498 : (Jvm.Cond.code ({ cls := "CheekTown", name := "onePart", desc := "()LCheekTown$Part;" } : Jvm.MethodName) prog_1_method_22_code (2 : Nat) (Option.some (Jvm.ClassFile.FieldType.object "CheekTown$Part"))) ∈ lw_all := lw_g (lw_at lw_m6 182 rfl) rfl
theorem q1499 : (Jvm.Cond.methodLink "CheekTown" (275 : Nat) ({ cls := "CheekTown$Reader", name := "isFigure", desc := "()Z" } : Jvm.MethodName)) ∈ lw_all := lw_g (lw_at lw_m6 183 rfl) rfl
theorem q1503 : (Jvm.Cond.classLink "CheekTown" (278 : Nat) "CheekTown$Part") ∈ lw_all := lw_g (lw_at lw_m6 187 rfl) rfl
theorem q1505 : (Jvm.Cond.methodLink "CheekTown" (280 : Nat) ({ cls := "CheekTown$Part", name := "<init>", desc := "(ILCheekTown$Fact;)V" } : Jvm.MethodName)) ∈ lw_all := lw_g (lw_at lw_m6 189 rfl) rfl
theorem q1516 : (Jvm.Cond.methodLink "CheekTown" (283 : Nat) ({ cls := "CheekTown$Fact", name := "of", desc := "(Ljava/lang/String;)LCheekTown$Fact;" } : Jvm.MethodName)) ∈ lw_all := lw_g (lw_at lw_m6 200 rfl) rfl
theorem q1531 : (Jvm.Cond.methodLink "CheekTown" (298 : Nat) ({ cls := "java/util/ArrayList", name := "add", desc := "(Ljava/lang/Object;)Z" } : Jvm.MethodName)) ∈ lw_all := lw_g (lw_at lw_m6 215 rfl) rfl
theorem q1554 : (Jvm.Cond.selects "CheekTown" ({ cls := "java/lang/Object", name := "getClass", desc := "()Ljava/lang/Class;" } : Jvm.MethodName) ({ cls := "java/lang/Object", name := "getClass", desc := "()Ljava/lang/Class;" } : Jvm.MethodName)) ∈ lw_all := lw_g (lw_at lw_m6 238 rfl) rfl
theorem q1594 : (Jvm.Cond.classLink "CheekTown" (335 : Nat) "CheekTown$Less") ∈ lw_all := lw_g (lw_at lw_m7 38 rfl) rfl
theorem q1596 : (Jvm.Cond.methodLink "CheekTown" (337 : Nat) ({ cls := "CheekTown$Less", name := "<init>", desc := "(LCheekTown$Sum;LCheekTown$Sum;)V" } : Jvm.MethodName)) ∈ lw_all := lw_g (lw_at lw_m7 40 rfl) rfl
theorem q1607 : (Jvm.Cond.stringRef "CheekTown" (346 : Nat) "and") ∈ lw_tbl := lw_at lw_m7 51 rfl
theorem q1608 : (Jvm.Cond.stringRef "CheekTown" (351 : Nat) "or") ∈ lw_tbl := lw_at lw_m7 52 rfl
theorem q1609 : (Jvm.Cond.methodLink "CheekTown" (357 : Nat) ({ cls := "CheekTown$Line", name := "<init>", desc := "(ILCheekTown$Cond;)V" } : Jvm.MethodName)) ∈ lw_all := lw_g (lw_at lw_m7 53 rfl) rfl
theorem q1629 : (Jvm.Cond.instanceMethod ({ cls := "CheekTown", name := "cost", desc := "(II)I" } : Jvm.MethodName)) ∈ lw_all := lw_g (lw_at lw_m7 73 rfl) rfl
theorem q1630 : (Jvm.Cond.selects "CheekTown" ({ cls := "CheekTown", name := "cost", desc := "(II)I" } : Jvm.MethodName) ({ cls := "CheekTown", name := "cost", desc := "(II)I" } : Jvm.MethodName)) ∈ lw_all := lw_g (lw_at lw_m7 74 rfl) rfl
theorem q1631 : (Jvm.Cond.code ({ cls := "CheekTown", name := "cost", desc := "(II)I" } : Jvm.MethodName) prog_1_method_41_code (3 : Nat) (Option.some Jvm.ClassFile.FieldType.int)) ∈ lw_all := lw_g (lw_at lw_m7 75 rfl) rfl
theorem q1632 : (Jvm.Cond.methodLink "CheekTown" (434 : Nat) ({ cls := "CheekTown", name := "greetingAt", desc := "(I)V" } : Jvm.MethodName)) ∈ lw_all := lw_g (lw_at lw_m7 76 rfl) rfl
theorem q1633 : (Jvm.Cond.static ({ cls := "CheekTown", name := "greetingAt", desc := "(I)V" } : Jvm.MethodName)) ∈ lw_all := lw_g (lw_at lw_m7 77 rfl) rfl
theorem q1634 : (Jvm.Cond.code ({ cls := "CheekTown", name := "greetingAt", desc := "(I)V" } : Jvm.MethodName) prog_1_method_37_code (1 : Nat) (Option.none : Option Jvm.ClassFile.FieldType)) ∈ lw_all := lw_g (lw_at lw_m7 78 rfl) rfl
theorem q1635 : (Jvm.Cond.methodLink "CheekTown" (424 : Nat) ({ cls := "CheekTown", name := "there", desc := "(II)V" } : Jvm.MethodName)) ∈ lw_all := lw_g (lw_at lw_m7 79 rfl) rfl
theorem q1636 : (Jvm.Cond.static ({ cls := "CheekTown", name := "there", desc := "(II)V" } : Jvm.MethodName)) ∈ lw_all := lw_g (lw_at lw_m7 80 rfl) rfl
theorem q1637 : (Jvm.Cond.code ({ cls := "CheekTown", name := "there", desc := "(II)V" } : Jvm.MethodName) prog_1_method_32_code (2 : Nat) (Option.none : Option Jvm.ClassFile.FieldType)) ∈ lw_all := lw_g (lw_at lw_m7 81 rfl) rfl
theorem q1638 : (Jvm.Cond.classLink "CheekTown" (418 : Nat) "java/lang/IndexOutOfBoundsException") ∈ lw_all := lw_g (lw_at lw_m7 82 rfl) rfl
theorem q1647 : (Jvm.Cond.methodLink "CheekTown" (420 : Nat) ({ cls := "java/lang/IndexOutOfBoundsException", name := "<init>", desc := "()V" } : Jvm.MethodName)) ∈ lw_all := lw_g (lw_at lw_m7 91 rfl) rfl
theorem q1657 : (Jvm.Cond.instanceMethod ({ cls := "CheekTown", name := "habit", desc := "(II)I" } : Jvm.MethodName)) ∈ lw_all := lw_g (lw_at lw_m7 101 rfl) rfl
theorem q1658 : (Jvm.Cond.selects "CheekTown" ({ cls := "CheekTown", name := "habit", desc := "(II)I" } : Jvm.MethodName) ({ cls := "CheekTown", name := "habit", desc := "(II)I" } : Jvm.MethodName)) ∈ lw_all := lw_g (lw_at lw_m7 102 rfl) rfl
theorem q1659 : (Jvm.Cond.code ({ cls := "CheekTown", name := "habit", desc := "(II)I" } : Jvm.MethodName) prog_1_method_42_code (3 : Nat) (Option.some Jvm.ClassFile.FieldType.int)) ∈ lw_all := lw_g (lw_at lw_m7 103 rfl) rfl
theorem q1660 : (Jvm.Cond.methodLink "CheekTown" (440 : Nat) ({ cls := "CheekTown", name := "landAt", desc := "(I)V" } : Jvm.MethodName)) ∈ lw_all := lw_g (lw_at lw_m7 104 rfl) rfl
theorem q1661 : (Jvm.Cond.privateMethod ({ cls := "CheekTown", name := "landAt", desc := "(I)V" } : Jvm.MethodName)) ∈ lw_tbl := lw_at lw_m7 105 rfl
theorem q1662 : (Jvm.Cond.instanceMethod ({ cls := "CheekTown", name := "landAt", desc := "(I)V" } : Jvm.MethodName)) ∈ lw_all := lw_g (lw_at lw_m7 106 rfl) rfl
theorem q1663 : (Jvm.Cond.code ({ cls := "CheekTown", name := "landAt", desc := "(I)V" } : Jvm.MethodName) prog_1_method_36_code (2 : Nat) (Option.none : Option Jvm.ClassFile.FieldType)) ∈ lw_all := lw_g (lw_at lw_m7 107 rfl) rfl
theorem q1664 : (Jvm.Cond.methodLink "CheekTown" (443 : Nat) ({ cls := "CheekTown$World", name := "weightOf", desc := "(II)I" } : Jvm.MethodName)) ∈ lw_all := lw_g (lw_at lw_m7 108 rfl) rfl
theorem q1673 : (Jvm.Cond.instanceMethod ({ cls := "CheekTown", name := "person", desc := "(II)I" } : Jvm.MethodName)) ∈ lw_all := lw_g (lw_at lw_m7 117 rfl) rfl
theorem q1674 : (Jvm.Cond.selects "CheekTown" ({ cls := "CheekTown", name := "person", desc := "(II)I" } : Jvm.MethodName) ({ cls := "CheekTown", name := "person", desc := "(II)I" } : Jvm.MethodName)) ∈ lw_all := lw_g (lw_at lw_m7 118 rfl) rfl
theorem q1675 : (Jvm.Cond.code ({ cls := "CheekTown", name := "person", desc := "(II)I" } : Jvm.MethodName) prog_1_method_43_code (4 : Nat) (Option.some Jvm.ClassFile.FieldType.int)) ∈ lw_all := lw_g (lw_at lw_m7 119 rfl) rfl
theorem q1676 : (Jvm.Cond.methodLink "CheekTown" (427 : Nat) ({ cls := "CheekTown", name := "personAt", desc := "(I)V" } : Jvm.MethodName)) ∈ lw_all := lw_g (lw_at lw_m7 120 rfl) rfl
theorem q1677 : (Jvm.Cond.privateMethod ({ cls := "CheekTown", name := "personAt", desc := "(I)V" } : Jvm.MethodName)) ∈ lw_tbl := lw_at lw_m7 121 rfl
theorem q1678 : (Jvm.Cond.instanceMethod ({ cls := "CheekTown", name := "personAt", desc := "(I)V" } : Jvm.MethodName)) ∈ lw_all := lw_g (lw_at lw_m7 122 rfl) rfl
theorem q1679 : (Jvm.Cond.code ({ cls := "CheekTown", name := "personAt", desc := "(I)V" } : Jvm.MethodName) prog_1_method_35_code (2 : Nat) (Option.none : Option Jvm.ClassFile.FieldType)) ∈ lw_all := lw_g (lw_at lw_m7 123 rfl) rfl
theorem q1680 : (Jvm.Cond.methodLink "CheekTown" (446 : Nat) ({ cls := "CheekTown", name := "question", desc := "(II)V" } : Jvm.MethodName)) ∈ lw_all := lw_g (lw_at lw_m7 124 rfl) rfl
theorem q1681 : (Jvm.Cond.static ({ cls := "CheekTown", name := "question", desc := "(II)V" } : Jvm.MethodName)) ∈ lw_all := lw_g (lw_at lw_m7 125 rfl) rfl
theorem q1682 : (Jvm.Cond.code ({ cls := "CheekTown", name := "question", desc := "(II)V" } : Jvm.MethodName) prog_1_method_34_code (2 : Nat) (Option.none : Option Jvm.ClassFile.FieldType)) ∈ lw_all := lw_g (lw_at lw_m7 126 rfl) rfl
theorem q1683 : (Jvm.Cond.classLink "CheekTown" (421 : Nat) "java/util/NoSuchElementException") ∈ lw_all := lw_g (lw_at lw_m7 127 rfl) rfl
theorem q1692 : (Jvm.Cond.methodLink "CheekTown" (423 : Nat) ({ cls := "java/util/NoSuchElementException", name := "<init>", desc := "()V" } : Jvm.MethodName)) ∈ lw_all := lw_g (lw_at lw_m7 136 rfl) rfl
theorem q1698 : (Jvm.Cond.methodLink "CheekTown" (449 : Nat) ({ cls := "CheekTown$World", name := "tied", desc := "(I)I" } : Jvm.MethodName)) ∈ lw_all := lw_g (lw_at lw_m7 142 rfl) rfl
theorem q1699 : (Jvm.Cond.methodLink "CheekTown" (453 : Nat) ({ cls := "CheekTown$World", name := "meetingsOf", desc := "(I)I" } : Jvm.MethodName)) ∈ lw_all := lw_g (lw_at lw_m7 143 rfl) rfl
theorem q1707 : (Jvm.Cond.instanceMethod ({ cls := "CheekTown", name := "saw", desc := "(IIZ)I" } : Jvm.MethodName)) ∈ lw_all := lw_g (lw_at lw_m7 151 rfl) rfl
theorem q1708 : (Jvm.Cond.selects "CheekTown" ({ cls := "CheekTown", name := "saw", desc := "(IIZ)I" } : Jvm.MethodName) ({ cls := "CheekTown", name := "saw", desc := "(IIZ)I" } : Jvm.MethodName)) ∈ lw_all := lw_g (lw_at lw_m7 152 rfl) rfl
theorem q1709 : (Jvm.Cond.code ({ cls := "CheekTown", name := "saw", desc := "(IIZ)I" } : Jvm.MethodName) prog_1_method_44_code (5 : Nat) (Option.some Jvm.ClassFile.FieldType.int)) ∈ lw_all := lw_g (lw_at lw_m7 153 rfl) rfl
theorem q1710 : (Jvm.Cond.methodLink "CheekTown" (456 : Nat) ({ cls := "CheekTown", name := "twoAt", desc := "(II)V" } : Jvm.MethodName)) ∈ lw_all := lw_g (lw_at lw_m7 154 rfl) rfl
theorem q1711 : (Jvm.Cond.privateMethod ({ cls := "CheekTown", name := "twoAt", desc := "(II)V" } : Jvm.MethodName)) ∈ lw_tbl := lw_at lw_m7 155 rfl
theorem q1712 : (Jvm.Cond.instanceMethod ({ cls := "CheekTown", name := "twoAt", desc := "(II)V" } : Jvm.MethodName)) ∈ lw_all := lw_g (lw_at lw_m7 156 rfl) rfl
theorem q1713 : (Jvm.Cond.code ({ cls := "CheekTown", name := "twoAt", desc := "(II)V" } : Jvm.MethodName) prog_1_method_38_code (3 : Nat) (Option.none : Option Jvm.ClassFile.FieldType)) ∈ lw_all := lw_g (lw_at lw_m7 157 rfl) rfl
theorem q1714 : (Jvm.Cond.methodLink "CheekTown" (431 : Nat) ({ cls := "CheekTown", name := "demand", desc := "(Z)V" } : Jvm.MethodName)) ∈ lw_all := lw_g (lw_at lw_m7 158 rfl) rfl
theorem q1715 : (Jvm.Cond.static ({ cls := "CheekTown", name := "demand", desc := "(Z)V" } : Jvm.MethodName)) ∈ lw_all := lw_g (lw_at lw_m7 159 rfl) rfl
theorem q1716 : (Jvm.Cond.code ({ cls := "CheekTown", name := "demand", desc := "(Z)V" } : Jvm.MethodName) prog_1_method_33_code (1 : Nat) (Option.none : Option Jvm.ClassFile.FieldType)) ∈ lw_all := lw_g (lw_at lw_m7 160 rfl) rfl
theorem q1721 : (Jvm.Cond.instanceMethod ({ cls := "CheekTown", name := "tie", desc := "(IZ)I" } : Jvm.MethodName)) ∈ lw_all := lw_g (lw_at lw_m7 165 rfl) rfl
theorem q1722 : (Jvm.Cond.selects "CheekTown" ({ cls := "CheekTown", name := "tie", desc := "(IZ)I" } : Jvm.MethodName) ({ cls := "CheekTown", name := "tie", desc := "(IZ)I" } : Jvm.MethodName)) ∈ lw_all := lw_g (lw_at lw_m7 166 rfl) rfl
theorem q1723 : (Jvm.Cond.code ({ cls := "CheekTown", name := "tie", desc := "(IZ)I" } : Jvm.MethodName) prog_1_method_45_code (3 : Nat) (Option.some Jvm.ClassFile.FieldType.int)) ∈ lw_all := lw_g (lw_at lw_m7 167 rfl) rfl
theorem q1728 : (Jvm.Cond.instanceMethod ({ cls := "CheekTown", name := "will", desc := "(II)I" } : Jvm.MethodName)) ∈ lw_all := lw_g (lw_at lw_m7 172 rfl) rfl
theorem q1729 : (Jvm.Cond.selects "CheekTown" ({ cls := "CheekTown", name := "will", desc := "(II)I" } : Jvm.MethodName) ({ cls := "CheekTown", name := "will", desc := "(II)I" } : Jvm.MethodName)) ∈ lw_all := lw_g (lw_at lw_m7 173 rfl) rfl
theorem q1730 : (Jvm.Cond.code ({ cls := "CheekTown", name := "will", desc := "(II)I" } : Jvm.MethodName) prog_1_method_46_code (3 : Nat) (Option.some Jvm.ClassFile.FieldType.int)) ∈ lw_all := lw_g (lw_at lw_m7 174 rfl) rfl
theorem q1731 : (Jvm.Cond.methodLink "CheekTown" (465 : Nat) ({ cls := "CheekTown", name := "beginsWith", desc := "(LCheekTown$World;II)I" } : Jvm.MethodName)) ∈ lw_all := lw_g (lw_at lw_m7 175 rfl) rfl
theorem q1732 : (Jvm.Cond.privateMethod ({ cls := "CheekTown", name := "beginsWith", desc := "(LCheekTown$World;II)I" } : Jvm.MethodName)) ∈ lw_tbl := lw_at lw_m7 176 rfl
theorem q1733 : (Jvm.Cond.instanceMethod ({ cls := "CheekTown", name := "beginsWith", desc := "(LCheekTown$World;II)I" } : Jvm.MethodName)) ∈ lw_all := lw_g (lw_at lw_m7 177 rfl) rfl
theorem q1734 : (Jvm.Cond.code ({ cls := "CheekTown", name := "beginsWith", desc := "(LCheekTown$World;II)I" } : Jvm.MethodName) prog_1_method_31_code (6 : Nat) (Option.some Jvm.ClassFile.FieldType.int)) ∈ lw_all := lw_g (lw_at lw_m7 178 rfl) rfl
theorem q1735 : (Jvm.Cond.methodLink "CheekTown" (410 : Nat) ({ cls := "CheekTown", name := "toldBy", desc := "(LCheekTown$World;II)I" } : Jvm.MethodName)) ∈ lw_all := lw_g (lw_at lw_m7 179 rfl) rfl
theorem q1736 : (Jvm.Cond.privateMethod ({ cls := "CheekTown", name := "toldBy", desc := "(LCheekTown$World;II)I" } : Jvm.MethodName)) ∈ lw_tbl := lw_at lw_m7 180 rfl
theorem q1737 : (Jvm.Cond.instanceMethod ({ cls := "CheekTown", name := "toldBy", desc := "(LCheekTown$World;II)I" } : Jvm.MethodName)) ∈ lw_all := lw_g (lw_at lw_m7 181 rfl) rfl
theorem q1738 : (Jvm.Cond.code ({ cls := "CheekTown", name := "toldBy", desc := "(LCheekTown$World;II)I" } : Jvm.MethodName) prog_1_method_30_code (4 : Nat) (Option.some Jvm.ClassFile.FieldType.int)) ∈ lw_all := lw_g (lw_at lw_m7 182 rfl) rfl
theorem q1739 : (Jvm.Cond.methodLink "CheekTown" (406 : Nat) ({ cls := "CheekTown$Law", name := "tells", desc := "(LCheekTown$Scene;)I" } : Jvm.MethodName)) ∈ lw_all := lw_g (lw_at lw_m7 183 rfl) rfl
theorem q1810 : (Jvm.Cond.instanceMethod ({ cls := "CheekTown", name := "meet", desc := "(II)I" } : Jvm.MethodName)) ∈ lw_all := lw_g (lw_at lw_m8 14 rfl) rfl
theorem q1811 : (Jvm.Cond.selects "CheekTown" ({ cls := "CheekTown", name := "meet", desc := "(II)I" } : Jvm.MethodName) ({ cls := "CheekTown", name := "meet", desc := "(II)I" } : Jvm.MethodName)) ∈ lw_all := lw_g (lw_at lw_m8 15 rfl) rfl
theorem q1812 : (Jvm.Cond.code ({ cls := "CheekTown", name := "meet", desc := "(II)I" } : Jvm.MethodName) prog_1_method_54_code (3 : Nat) (Option.some Jvm.ClassFile.FieldType.int)) ∈ lw_all := lw_g (lw_at lw_m8 16 rfl) rfl
theorem q1813 : (Jvm.Cond.methodLink "CheekTown" (529 : Nat) ({ cls := "CheekTown", name := "remembers", desc := "()V" } : Jvm.MethodName)) ∈ lw_all := lw_g (lw_at lw_m8 17 rfl) rfl
theorem q1814 : (Jvm.Cond.privateMethod ({ cls := "CheekTown", name := "remembers", desc := "()V" } : Jvm.MethodName)) ∈ lw_tbl := lw_at lw_m8 18 rfl
theorem q1815 : (Jvm.Cond.instanceMethod ({ cls := "CheekTown", name := "remembers", desc := "()V" } : Jvm.MethodName)) ∈ lw_all := lw_g (lw_at lw_m8 19 rfl) rfl
theorem q1816 : (Jvm.Cond.code ({ cls := "CheekTown", name := "remembers", desc := "()V" } : Jvm.MethodName) prog_1_method_47_code (2 : Nat) (Option.none : Option Jvm.ClassFile.FieldType)) ∈ lw_all := lw_g (lw_at lw_m8 20 rfl) rfl
theorem q1817 : (Jvm.Cond.methodLink "CheekTown" (526 : Nat) ({ cls := "CheekTown", name := "meetsAny", desc := "(LCheekTown$World;II)I" } : Jvm.MethodName)) ∈ lw_all := lw_g (lw_at lw_m8 21 rfl) rfl
theorem q1818 : (Jvm.Cond.privateMethod ({ cls := "CheekTown", name := "meetsAny", desc := "(LCheekTown$World;II)I" } : Jvm.MethodName)) ∈ lw_tbl := lw_at lw_m8 22 rfl
theorem q1819 : (Jvm.Cond.instanceMethod ({ cls := "CheekTown", name := "meetsAny", desc := "(LCheekTown$World;II)I" } : Jvm.MethodName)) ∈ lw_all := lw_g (lw_at lw_m8 23 rfl) rfl
theorem q1820 : (Jvm.Cond.code ({ cls := "CheekTown", name := "meetsAny", desc := "(LCheekTown$World;II)I" } : Jvm.MethodName) prog_1_method_52_code (4 : Nat) (Option.some Jvm.ClassFile.FieldType.int)) ∈ lw_all := lw_g (lw_at lw_m8 24 rfl) rfl
theorem q1821 : (Jvm.Cond.methodLink "CheekTown" (523 : Nat) ({ cls := "CheekTown", name := "meets", desc := "(LCheekTown$World;II)I" } : Jvm.MethodName)) ∈ lw_all := lw_g (lw_at lw_m8 25 rfl) rfl
theorem q1822 : (Jvm.Cond.privateMethod ({ cls := "CheekTown", name := "meets", desc := "(LCheekTown$World;II)I" } : Jvm.MethodName)) ∈ lw_tbl := lw_at lw_m8 26 rfl
theorem q1823 : (Jvm.Cond.instanceMethod ({ cls := "CheekTown", name := "meets", desc := "(LCheekTown$World;II)I" } : Jvm.MethodName)) ∈ lw_all := lw_g (lw_at lw_m8 27 rfl) rfl
theorem q1824 : (Jvm.Cond.code ({ cls := "CheekTown", name := "meets", desc := "(LCheekTown$World;II)I" } : Jvm.MethodName) prog_1_method_51_code (5 : Nat) (Option.some Jvm.ClassFile.FieldType.int)) ∈ lw_all := lw_g (lw_at lw_m8 28 rfl) rfl
theorem q1825 : (Jvm.Cond.methodLink "CheekTown" (489 : Nat) ({ cls := "CheekTown", name := "someoneYields", desc := "(LCheekTown$World;II)Z" } : Jvm.MethodName)) ∈ lw_all := lw_g (lw_at lw_m8 29 rfl) rfl
theorem q1826 : (Jvm.Cond.privateMethod ({ cls := "CheekTown", name := "someoneYields", desc := "(LCheekTown$World;II)Z" } : Jvm.MethodName)) ∈ lw_tbl := lw_at lw_m8 30 rfl
theorem q1827 : (Jvm.Cond.instanceMethod ({ cls := "CheekTown", name := "someoneYields", desc := "(LCheekTown$World;II)Z" } : Jvm.MethodName)) ∈ lw_all := lw_g (lw_at lw_m8 31 rfl) rfl
theorem q1828 : (Jvm.Cond.code ({ cls := "CheekTown", name := "someoneYields", desc := "(LCheekTown$World;II)Z" } : Jvm.MethodName) prog_1_method_49_code (5 : Nat) (Option.some Jvm.ClassFile.FieldType.boolean)) ∈ lw_all := lw_g (lw_at lw_m8 32 rfl) rfl
theorem q1829 : (Jvm.Cond.methodLink "CheekTown" (478 : Nat) ({ cls := "CheekTown", name := "yields", desc := "(LCheekTown$World;II)Z" } : Jvm.MethodName)) ∈ lw_all := lw_g (lw_at lw_m8 33 rfl) rfl
theorem q1830 : (Jvm.Cond.privateMethod ({ cls := "CheekTown", name := "yields", desc := "(LCheekTown$World;II)Z" } : Jvm.MethodName)) ∈ lw_tbl := lw_at lw_m8 34 rfl
theorem q1831 : (Jvm.Cond.instanceMethod ({ cls := "CheekTown", name := "yields", desc := "(LCheekTown$World;II)Z" } : Jvm.MethodName)) ∈ lw_all := lw_g (lw_at lw_m8 35 rfl) rfl
theorem q1832 : (Jvm.Cond.code ({ cls := "CheekTown", name := "yields", desc := "(LCheekTown$World;II)Z" } : Jvm.MethodName) prog_1_method_48_code (4 : Nat) (Option.some Jvm.ClassFile.FieldType.boolean)) ∈ lw_all := lw_g (lw_at lw_m8 36 rfl) rfl
theorem q1833 : (Jvm.Cond.methodLink "CheekTown" (472 : Nat) ({ cls := "CheekTown$World", name := "draw", desc := "(I)I" } : Jvm.MethodName)) ∈ lw_all := lw_g (lw_at lw_m8 37 rfl) rfl
theorem q1838 : (Jvm.Cond.methodLink "CheekTown" (492 : Nat) ({ cls := "CheekTown$World", name := "sees", desc := "(III)V" } : Jvm.MethodName)) ∈ lw_all := lw_g (lw_at lw_m8 42 rfl) rfl
theorem q1842 : (Jvm.Cond.methodLink "CheekTown" (496 : Nat) ({ cls := "CheekTown", name := "catches", desc := "(LCheekTown$World;II)V" } : Jvm.MethodName)) ∈ lw_all := lw_g (lw_at lw_m8 46 rfl) rfl
theorem q1843 : (Jvm.Cond.privateMethod ({ cls := "CheekTown", name := "catches", desc := "(LCheekTown$World;II)V" } : Jvm.MethodName)) ∈ lw_tbl := lw_at lw_m8 47 rfl
theorem q1844 : (Jvm.Cond.instanceMethod ({ cls := "CheekTown", name := "catches", desc := "(LCheekTown$World;II)V" } : Jvm.MethodName)) ∈ lw_all := lw_g (lw_at lw_m8 48 rfl) rfl
theorem q1845 : (Jvm.Cond.code ({ cls := "CheekTown", name := "catches", desc := "(LCheekTown$World;II)V" } : Jvm.MethodName) prog_1_method_50_code (5 : Nat) (Option.none : Option Jvm.ClassFile.FieldType)) ∈ lw_all := lw_g (lw_at lw_m8 49 rfl) rfl
theorem q1846 : (Jvm.Cond.fieldLink "CheekTown" (482 : Nat) "CheekTown$Kind" "WAVE" "LCheekTown$Kind;") ∈ lw_all := lw_g (lw_at lw_m8 50 rfl) rfl
theorem q1848 : (Jvm.Cond.methodLink "CheekTown" (485 : Nat) ({ cls := "CheekTown", name := "isOf", desc := "(LCheekTown$Kind;I)Z" } : Jvm.MethodName)) ∈ lw_all := lw_g (lw_at lw_m8 52 rfl) rfl
theorem q1849 : (Jvm.Cond.methodLink "CheekTown" (503 : Nat) ({ cls := "CheekTown", name := "times", desc := "(I)I" } : Jvm.MethodName)) ∈ lw_all := lw_g (lw_at lw_m8 53 rfl) rfl
theorem q1850 : (Jvm.Cond.methodLink "CheekTown" (517 : Nat) ({ cls := "CheekTown$World", name := "tells", desc := "(II[I[II)V" } : Jvm.MethodName)) ∈ lw_all := lw_g (lw_at lw_m8 54 rfl) rfl
theorem q1859 : (Jvm.Cond.instanceMethod ({ cls := "CheekTown", name := "rounds", desc := "(I)I" } : Jvm.MethodName)) ∈ lw_all := lw_g (lw_at lw_m8 63 rfl) rfl
theorem q1860 : (Jvm.Cond.selects "CheekTown" ({ cls := "CheekTown", name := "rounds", desc := "(I)I" } : Jvm.MethodName) ({ cls := "CheekTown", name := "rounds", desc := "(I)I" } : Jvm.MethodName)) ∈ lw_all := lw_g (lw_at lw_m8 64 rfl) rfl
theorem q1861 : (Jvm.Cond.code ({ cls := "CheekTown", name := "rounds", desc := "(I)I" } : Jvm.MethodName) prog_1_method_55_code (4 : Nat) (Option.some Jvm.ClassFile.FieldType.int)) ∈ lw_all := lw_g (lw_at lw_m8 65 rfl) rfl
theorem q1862 : (Jvm.Cond.methodLink "CheekTown" (532 : Nat) ({ cls := "CheekTown", name := "round", desc := "(LCheekTown$World;)I" } : Jvm.MethodName)) ∈ lw_all := lw_g (lw_at lw_m8 66 rfl) rfl
theorem q1863 : (Jvm.Cond.privateMethod ({ cls := "CheekTown", name := "round", desc := "(LCheekTown$World;)I" } : Jvm.MethodName)) ∈ lw_tbl := lw_at lw_m8 67 rfl
theorem q1864 : (Jvm.Cond.instanceMethod ({ cls := "CheekTown", name := "round", desc := "(LCheekTown$World;)I" } : Jvm.MethodName)) ∈ lw_all := lw_g (lw_at lw_m8 68 rfl) rfl
theorem q1865 : (Jvm.Cond.code ({ cls := "CheekTown", name := "round", desc := "(LCheekTown$World;)I" } : Jvm.MethodName) prog_1_method_53_code (4 : Nat) (Option.some Jvm.ClassFile.FieldType.int)) ∈ lw_all := lw_g (lw_at lw_m8 69 rfl) rfl
theorem q1870 : (Jvm.Cond.instanceMethod ({ cls := "CheekTown", name := "own", desc := "(II)I" } : Jvm.MethodName)) ∈ lw_all := lw_g (lw_at lw_m8 74 rfl) rfl
theorem q1871 : (Jvm.Cond.selects "CheekTown" ({ cls := "CheekTown", name := "own", desc := "(II)I" } : Jvm.MethodName) ({ cls := "CheekTown", name := "own", desc := "(II)I" } : Jvm.MethodName)) ∈ lw_all := lw_g (lw_at lw_m8 75 rfl) rfl
theorem q1872 : (Jvm.Cond.code ({ cls := "CheekTown", name := "own", desc := "(II)I" } : Jvm.MethodName) prog_1_method_56_code (4 : Nat) (Option.some Jvm.ClassFile.FieldType.int)) ∈ lw_all := lw_g (lw_at lw_m8 76 rfl) rfl
theorem q1877 : (Jvm.Cond.instanceMethod ({ cls := "CheekTown", name := "cold", desc := "(IZ)Z" } : Jvm.MethodName)) ∈ lw_all := lw_g (lw_at lw_m8 81 rfl) rfl
theorem q1878 : (Jvm.Cond.selects "CheekTown" ({ cls := "CheekTown", name := "cold", desc := "(IZ)Z" } : Jvm.MethodName) ({ cls := "CheekTown", name := "cold", desc := "(IZ)Z" } : Jvm.MethodName)) ∈ lw_all := lw_g (lw_at lw_m8 82 rfl) rfl
theorem q1879 : (Jvm.Cond.code ({ cls := "CheekTown", name := "cold", desc := "(IZ)Z" } : Jvm.MethodName) prog_1_method_57_code (4 : Nat) (Option.some Jvm.ClassFile.FieldType.boolean)) ∈ lw_all := lw_g (lw_at lw_m8 83 rfl) rfl
theorem q1885 : (Jvm.Cond.instanceMethod ({ cls := "CheekTown", name := "ties", desc := "(II)I" } : Jvm.MethodName)) ∈ lw_all := lw_g (lw_at lw_m8 89 rfl) rfl
theorem q1886 : (Jvm.Cond.selects "CheekTown" ({ cls := "CheekTown", name := "ties", desc := "(II)I" } : Jvm.MethodName) ({ cls := "CheekTown", name := "ties", desc := "(II)I" } : Jvm.MethodName)) ∈ lw_all := lw_g (lw_at lw_m8 90 rfl) rfl
theorem q1887 : (Jvm.Cond.code ({ cls := "CheekTown", name := "ties", desc := "(II)I" } : Jvm.MethodName) prog_1_method_58_code (3 : Nat) (Option.some Jvm.ClassFile.FieldType.int)) ∈ lw_all := lw_g (lw_at lw_m8 91 rfl) rfl
theorem q1888 : (Jvm.Cond.classLink "CheekTown" (534 : Nat) "java/lang/IllegalStateException") ∈ lw_all := lw_g (lw_at lw_m8 92 rfl) rfl
theorem q1897 : (Jvm.Cond.methodLink "CheekTown" (536 : Nat) ({ cls := "java/lang/IllegalStateException", name := "<init>", desc := "()V" } : Jvm.MethodName)) ∈ lw_all := lw_g (lw_at lw_m8 101 rfl) rfl
theorem q1907 : (Jvm.Cond.instanceMethod ({ cls := "CheekTown", name := "cut", desc := "(I)I" } : Jvm.MethodName)) ∈ lw_all := lw_g (lw_at lw_m8 111 rfl) rfl
theorem q1908 : (Jvm.Cond.selects "CheekTown" ({ cls := "CheekTown", name := "cut", desc := "(I)I" } : Jvm.MethodName) ({ cls := "CheekTown", name := "cut", desc := "(I)I" } : Jvm.MethodName)) ∈ lw_all := lw_g (lw_at lw_m8 112 rfl) rfl
theorem q1909 : (Jvm.Cond.code ({ cls := "CheekTown", name := "cut", desc := "(I)I" } : Jvm.MethodName) prog_1_method_59_code (2 : Nat) (Option.some Jvm.ClassFile.FieldType.int)) ∈ lw_all := lw_g (lw_at lw_m8 113 rfl) rfl
theorem q1910 : (Jvm.Cond.methodLink "CheekTown" (537 : Nat) ({ cls := "CheekTown$World", name := "cuts", desc := "(I)V" } : Jvm.MethodName)) ∈ lw_all := lw_g (lw_at lw_m8 114 rfl) rfl
theorem q1918 : (Jvm.Cond.instanceMethod ({ cls := "CheekTown", name := "feast", desc := "(II)I" } : Jvm.MethodName)) ∈ lw_all := lw_g (lw_at lw_m8 122 rfl) rfl
theorem q1919 : (Jvm.Cond.selects "CheekTown" ({ cls := "CheekTown", name := "feast", desc := "(II)I" } : Jvm.MethodName) ({ cls := "CheekTown", name := "feast", desc := "(II)I" } : Jvm.MethodName)) ∈ lw_all := lw_g (lw_at lw_m8 123 rfl) rfl
theorem q1920 : (Jvm.Cond.code ({ cls := "CheekTown", name := "feast", desc := "(II)I" } : Jvm.MethodName) prog_1_method_60_code (6 : Nat) (Option.some Jvm.ClassFile.FieldType.int)) ∈ lw_all := lw_g (lw_at lw_m8 124 rfl) rfl
theorem q1921 : (Jvm.Cond.methodLink "CheekTown" (542 : Nat) ({ cls := "CheekTown", name := "has", desc := "(II)Z" } : Jvm.MethodName)) ∈ lw_all := lw_g (lw_at lw_m8 125 rfl) rfl
theorem q1926 : (Jvm.Cond.instanceMethod ({ cls := "CheekTown", name := "expected", desc := "(II)I" } : Jvm.MethodName)) ∈ lw_all := lw_g (lw_at lw_m8 130 rfl) rfl
theorem q1927 : (Jvm.Cond.selects "CheekTown" ({ cls := "CheekTown", name := "expected", desc := "(II)I" } : Jvm.MethodName) ({ cls := "CheekTown", name := "expected", desc := "(II)I" } : Jvm.MethodName)) ∈ lw_all := lw_g (lw_at lw_m8 131 rfl) rfl
theorem q1928 : (Jvm.Cond.code ({ cls := "CheekTown", name := "expected", desc := "(II)I" } : Jvm.MethodName) prog_1_method_63_code (3 : Nat) (Option.some Jvm.ClassFile.FieldType.int)) ∈ lw_all := lw_g (lw_at lw_m8 132 rfl) rfl
theorem q1933 : (Jvm.Cond.instanceMethod ({ cls := "CheekTown", name := "best", desc := "(I)I" } : Jvm.MethodName)) ∈ lw_all := lw_g (lw_at lw_m8 137 rfl) rfl
theorem q1934 : (Jvm.Cond.selects "CheekTown" ({ cls := "CheekTown", name := "best", desc := "(I)I" } : Jvm.MethodName) ({ cls := "CheekTown", name := "best", desc := "(I)I" } : Jvm.MethodName)) ∈ lw_all := lw_g (lw_at lw_m8 138 rfl) rfl
theorem q1935 : (Jvm.Cond.code ({ cls := "CheekTown", name := "best", desc := "(I)I" } : Jvm.MethodName) prog_1_method_64_code (2 : Nat) (Option.some Jvm.ClassFile.FieldType.int)) ∈ lw_all := lw_g (lw_at lw_m8 139 rfl) rfl
theorem q1940 : (Jvm.Cond.instanceMethod ({ cls := "CheekTown", name := "odds", desc := "(II)I" } : Jvm.MethodName)) ∈ lw_all := lw_g (lw_at lw_m8 144 rfl) rfl
theorem q1941 : (Jvm.Cond.selects "CheekTown" ({ cls := "CheekTown", name := "odds", desc := "(II)I" } : Jvm.MethodName) ({ cls := "CheekTown", name := "odds", desc := "(II)I" } : Jvm.MethodName)) ∈ lw_all := lw_g (lw_at lw_m8 145 rfl) rfl
theorem q1942 : (Jvm.Cond.code ({ cls := "CheekTown", name := "odds", desc := "(II)I" } : Jvm.MethodName) prog_1_method_67_code (4 : Nat) (Option.some Jvm.ClassFile.FieldType.int)) ∈ lw_all := lw_g (lw_at lw_m8 146 rfl) rfl
theorem q1943 : (Jvm.Cond.methodLink "CheekTown" (555 : Nat) ({ cls := "CheekTown$World", name := "weightAll", desc := "(I)I" } : Jvm.MethodName)) ∈ lw_all := lw_g (lw_at lw_m8 147 rfl) rfl
theorem q1951 : (Jvm.Cond.instanceMethod ({ cls := "CheekTown", name := "from", desc := "(Z)I" } : Jvm.MethodName)) ∈ lw_all := lw_g (lw_at lw_m8 155 rfl) rfl
theorem q1952 : (Jvm.Cond.selects "CheekTown" ({ cls := "CheekTown", name := "from", desc := "(Z)I" } : Jvm.MethodName) ({ cls := "CheekTown", name := "from", desc := "(Z)I" } : Jvm.MethodName)) ∈ lw_all := lw_g (lw_at lw_m8 156 rfl) rfl
theorem q1953 : (Jvm.Cond.code ({ cls := "CheekTown", name := "from", desc := "(Z)I" } : Jvm.MethodName) prog_1_method_69_code (8 : Nat) (Option.some Jvm.ClassFile.FieldType.int)) ∈ lw_all := lw_g (lw_at lw_m8 157 rfl) rfl
theorem q1954 : (Jvm.Cond.classLink "CheekTown" (558 : Nat) "CheekTown$Share") ∈ lw_all := lw_g (lw_at lw_m8 158 rfl) rfl
theorem q1956 : (Jvm.Cond.methodLinkNest "CheekTown" (560 : Nat) ({ cls := "CheekTown$Share", name := "<init>", desc := "()V" } : Jvm.MethodName) "CheekTown") ∈ lw_tbl := lw_at lw_m8 160 rfl
theorem q1961 : (Jvm.Cond.fieldLinkNest "CheekTown" (561 : Nat) "CheekTown$Share" "part" "J" "CheekTown") ∈ lw_tbl := lw_at lw_m8 165 rfl
theorem q1968 : (Jvm.Cond.methodLink "CheekTown" (574 : Nat) ({ cls := "CheekTown", name := "likely", desc := "(I)LCheekTown$Share;" } : Jvm.MethodName)) ∈ lw_all := lw_g (lw_at lw_m8 172 rfl) rfl
theorem q1969 : (Jvm.Cond.privateMethod ({ cls := "CheekTown", name := "likely", desc := "(I)LCheekTown$Share;" } : Jvm.MethodName)) ∈ lw_tbl := lw_at lw_m8 173 rfl
theorem q1970 : (Jvm.Cond.instanceMethod ({ cls := "CheekTown", name := "likely", desc := "(I)LCheekTown$Share;" } : Jvm.MethodName)) ∈ lw_all := lw_g (lw_at lw_m8 174 rfl) rfl
theorem q1971 : (Jvm.Cond.code ({ cls := "CheekTown", name := "likely", desc := "(I)LCheekTown$Share;" } : Jvm.MethodName) prog_1_method_68_code (5 : Nat) (Option.some (Jvm.ClassFile.FieldType.object "CheekTown$Share"))) ∈ lw_all := lw_g (lw_at lw_m8 175 rfl) rfl
theorem q1972 : (Jvm.Cond.methodLink "CheekTown" (572 : Nat) ({ cls := "CheekTown$Share", name := "times", desc := "(II)V" } : Jvm.MethodName)) ∈ lw_all := lw_g (lw_at lw_m8 176 rfl) rfl
theorem q1976 : (Jvm.Cond.methodLink "CheekTown" (578 : Nat) ({ cls := "CheekTown$Share", name := "isMore", desc := "(LCheekTown$Share;)Z" } : Jvm.MethodName)) ∈ lw_all := lw_g (lw_at lw_m8 180 rfl) rfl
theorem q1984 : (Jvm.Cond.instanceMethod ({ cls := "CheekTown", name := "rests", desc := "(II)I" } : Jvm.MethodName)) ∈ lw_all := lw_g (lw_at lw_m8 188 rfl) rfl
theorem q1985 : (Jvm.Cond.selects "CheekTown" ({ cls := "CheekTown", name := "rests", desc := "(II)I" } : Jvm.MethodName) ({ cls := "CheekTown", name := "rests", desc := "(II)I" } : Jvm.MethodName)) ∈ lw_all := lw_g (lw_at lw_m8 189 rfl) rfl
theorem q1986 : (Jvm.Cond.code ({ cls := "CheekTown", name := "rests", desc := "(II)I" } : Jvm.MethodName) prog_1_method_76_code (5 : Nat) (Option.some Jvm.ClassFile.FieldType.int)) ∈ lw_all := lw_g (lw_at lw_m8 190 rfl) rfl
theorem q1987 : (Jvm.Cond.methodLink "CheekTown" (595 : Nat) ({ cls := "CheekTown", name := "isRest", desc := "(IIZZ)Z" } : Jvm.MethodName)) ∈ lw_all := lw_g (lw_at lw_m8 191 rfl) rfl
theorem q1988 : (Jvm.Cond.privateMethod ({ cls := "CheekTown", name := "isRest", desc := "(IIZZ)Z" } : Jvm.MethodName)) ∈ lw_tbl := lw_at lw_m8 192 rfl
theorem q1989 : (Jvm.Cond.instanceMethod ({ cls := "CheekTown", name := "isRest", desc := "(IIZZ)Z" } : Jvm.MethodName)) ∈ lw_all := lw_g (lw_at lw_m8 193 rfl) rfl
theorem q1990 : (Jvm.Cond.code ({ cls := "CheekTown", name := "isRest", desc := "(IIZZ)Z" } : Jvm.MethodName) prog_1_method_75_code (7 : Nat) (Option.some Jvm.ClassFile.FieldType.boolean)) ∈ lw_all := lw_g (lw_at lw_m8 194 rfl) rfl
theorem q1991 : (Jvm.Cond.methodLink "CheekTown" (588 : Nat) ({ cls := "CheekTown", name := "pairCost", desc := "(IIZZ)I" } : Jvm.MethodName)) ∈ lw_all := lw_g (lw_at lw_m8 195 rfl) rfl
theorem q1992 : (Jvm.Cond.privateMethod ({ cls := "CheekTown", name := "pairCost", desc := "(IIZZ)I" } : Jvm.MethodName)) ∈ lw_tbl := lw_at lw_m8 196 rfl
theorem q1993 : (Jvm.Cond.instanceMethod ({ cls := "CheekTown", name := "pairCost", desc := "(IIZZ)I" } : Jvm.MethodName)) ∈ lw_all := lw_g (lw_at lw_m8 197 rfl) rfl
theorem q1994 : (Jvm.Cond.code ({ cls := "CheekTown", name := "pairCost", desc := "(IIZZ)I" } : Jvm.MethodName) prog_1_method_73_code (5 : Nat) (Option.some Jvm.ClassFile.FieldType.int)) ∈ lw_all := lw_g (lw_at lw_m8 198 rfl) rfl
theorem q1995 : (Jvm.Cond.methodLink "CheekTown" (592 : Nat) ({ cls := "CheekTown", name := "one", desc := "(Z)I" } : Jvm.MethodName)) ∈ lw_all := lw_g (lw_at lw_m8 199 rfl) rfl
theorem q1996 : (Jvm.Cond.static ({ cls := "CheekTown", name := "one", desc := "(Z)I" } : Jvm.MethodName)) ∈ lw_all := lw_g (lw_at lw_m8 200 rfl) rfl
theorem q1997 : (Jvm.Cond.code ({ cls := "CheekTown", name := "one", desc := "(Z)I" } : Jvm.MethodName) prog_1_method_74_code (1 : Nat) (Option.some Jvm.ClassFile.FieldType.int)) ∈ lw_all := lw_g (lw_at lw_m8 201 rfl) rfl
theorem q2002 : (Jvm.Cond.instanceMethod ({ cls := "CheekTown", name := "sake", desc := "(IIZ)I" } : Jvm.MethodName)) ∈ lw_all := lw_g (lw_at lw_m8 206 rfl) rfl
theorem q2003 : (Jvm.Cond.selects "CheekTown" ({ cls := "CheekTown", name := "sake", desc := "(IIZ)I" } : Jvm.MethodName) ({ cls := "CheekTown", name := "sake", desc := "(IIZ)I" } : Jvm.MethodName)) ∈ lw_all := lw_g (lw_at lw_m8 207 rfl) rfl
theorem q2004 : (Jvm.Cond.code ({ cls := "CheekTown", name := "sake", desc := "(IIZ)I" } : Jvm.MethodName) prog_1_method_78_code (10 : Nat) (Option.some Jvm.ClassFile.FieldType.int)) ∈ lw_all := lw_g (lw_at lw_m8 208 rfl) rfl
theorem q2005 : (Jvm.Cond.methodLink "CheekTown" (604 : Nat) ({ cls := "CheekTown", name := "towards", desc := "(II)I" } : Jvm.MethodName)) ∈ lw_all := lw_g (lw_at lw_m8 209 rfl) rfl
theorem q2006 : (Jvm.Cond.static ({ cls := "CheekTown", name := "towards", desc := "(II)I" } : Jvm.MethodName)) ∈ lw_all := lw_g (lw_at lw_m8 210 rfl) rfl
theorem q2007 : (Jvm.Cond.code ({ cls := "CheekTown", name := "towards", desc := "(II)I" } : Jvm.MethodName) prog_1_method_77_code (2 : Nat) (Option.some Jvm.ClassFile.FieldType.int)) ∈ lw_all := lw_g (lw_at lw_m8 211 rfl) rfl
theorem q2008 : (Jvm.Cond.methodLink "CheekTown" (599 : Nat) ({ cls := "java/lang/Integer", name := "signum", desc := "(I)I" } : Jvm.MethodName)) ∈ lw_all := lw_g (lw_at lw_m8 212 rfl) rfl
theorem q2015 : (Jvm.Cond.instanceMethod ({ cls := "CheekTown", name := "begins", desc := "(I)I" } : Jvm.MethodName)) ∈ lw_all := lw_g (lw_at lw_m8 219 rfl) rfl
theorem q2016 : (Jvm.Cond.selects "CheekTown" ({ cls := "CheekTown", name := "begins", desc := "(I)I" } : Jvm.MethodName) ({ cls := "CheekTown", name := "begins", desc := "(I)I" } : Jvm.MethodName)) ∈ lw_all := lw_g (lw_at lw_m8 220 rfl) rfl
theorem q2017 : (Jvm.Cond.code ({ cls := "CheekTown", name := "begins", desc := "(I)I" } : Jvm.MethodName) prog_1_method_82_code (5 : Nat) (Option.some Jvm.ClassFile.FieldType.int)) ∈ lw_all := lw_g (lw_at lw_m8 221 rfl) rfl
theorem q2018 : (Jvm.Cond.methodLink "CheekTown" (636 : Nat) ({ cls := "CheekTown$Rule", name := "values", desc := "()[LCheekTown$Rule;" } : Jvm.MethodName)) ∈ lw_all := lw_g (lw_at lw_m8 222 rfl) rfl
theorem q2029 : (Jvm.Cond.methodLink "CheekTown" (640 : Nat) ({ cls := "CheekTown", name := "costOf", desc := "(LCheekTown$Rule;)I" } : Jvm.MethodName)) ∈ lw_all := lw_g (lw_at lw_m8 233 rfl) rfl
theorem q2030 : (Jvm.Cond.privateMethod ({ cls := "CheekTown", name := "costOf", desc := "(LCheekTown$Rule;)I" } : Jvm.MethodName)) ∈ lw_tbl := lw_at lw_m8 234 rfl
theorem q2031 : (Jvm.Cond.instanceMethod ({ cls := "CheekTown", name := "costOf", desc := "(LCheekTown$Rule;)I" } : Jvm.MethodName)) ∈ lw_all := lw_g (lw_at lw_m8 235 rfl) rfl
theorem q2032 : (Jvm.Cond.code ({ cls := "CheekTown", name := "costOf", desc := "(LCheekTown$Rule;)I" } : Jvm.MethodName) prog_1_method_81_code (8 : Nat) (Option.some Jvm.ClassFile.FieldType.int)) ∈ lw_all := lw_g (lw_at lw_m8 236 rfl) rfl
theorem q2033 : (Jvm.Cond.methodLink "CheekTown" (631 : Nat) ({ cls := "CheekTown$Rule", name := "isFirst", desc := "(II)Z" } : Jvm.MethodName)) ∈ lw_all := lw_g (lw_at lw_m8 237 rfl) rfl
theorem q2044 : (Jvm.Cond.instanceMethod ({ cls := "CheekTown", name := "after", desc := "(II)I" } : Jvm.MethodName)) ∈ lw_all := lw_g (lw_at lw_m9 8 rfl) rfl
theorem q2045 : (Jvm.Cond.selects "CheekTown" ({ cls := "CheekTown", name := "after", desc := "(II)I" } : Jvm.MethodName) ({ cls := "CheekTown", name := "after", desc := "(II)I" } : Jvm.MethodName)) ∈ lw_all := lw_g (lw_at lw_m9 9 rfl) rfl
theorem q2046 : (Jvm.Cond.code ({ cls := "CheekTown", name := "after", desc := "(II)I" } : Jvm.MethodName) prog_1_method_83_code (4 : Nat) (Option.some Jvm.ClassFile.FieldType.int)) ∈ lw_all := lw_g (lw_at lw_m9 10 rfl) rfl
theorem q2047 : (Jvm.Cond.methodLink "CheekTown" (648 : Nat) ({ cls := "CheekTown$Years", name := "after", desc := "(I)LCheekTown$Years;" } : Jvm.MethodName)) ∈ lw_all := lw_g (lw_at lw_m9 11 rfl) rfl
theorem q2052 : (Jvm.Cond.methodLink "CheekTown" (652 : Nat) ({ cls := "CheekTown$Years", name := "unlike", desc := "()I" } : Jvm.MethodName)) ∈ lw_all := lw_g (lw_at lw_m9 16 rfl) rfl
theorem q2060 : (Jvm.Cond.methodLink "CheekTown" (655 : Nat) ({ cls := "CheekTown$Years", name := "most", desc := "()I" } : Jvm.MethodName)) ∈ lw_all := lw_g (lw_at lw_m9 24 rfl) rfl
theorem q2064 : (Jvm.Cond.methodLink "CheekTown" (658 : Nat) ({ cls := "CheekTown$Years", name := "all", desc := "()I" } : Jvm.MethodName)) ∈ lw_all := lw_g (lw_at lw_m9 28 rfl) rfl
theorem q2065 : (Jvm.Cond.methodLink "CheekTown" (661 : Nat) ({ cls := "CheekTown$Years", name := "many", desc := "(II)I" } : Jvm.MethodName)) ∈ lw_all := lw_g (lw_at lw_m9 29 rfl) rfl
theorem q2070 : (Jvm.Cond.instanceMethod ({ cls := "CheekTown", name := "custom", desc := "(II)I" } : Jvm.MethodName)) ∈ lw_all := lw_g (lw_at lw_m9 34 rfl) rfl
theorem q2071 : (Jvm.Cond.selects "CheekTown" ({ cls := "CheekTown", name := "custom", desc := "(II)I" } : Jvm.MethodName) ({ cls := "CheekTown", name := "custom", desc := "(II)I" } : Jvm.MethodName)) ∈ lw_all := lw_g (lw_at lw_m9 35 rfl) rfl
theorem q2072 : (Jvm.Cond.code ({ cls := "CheekTown", name := "custom", desc := "(II)I" } : Jvm.MethodName) prog_1_method_84_code (3 : Nat) (Option.some Jvm.ClassFile.FieldType.int)) ∈ lw_all := lw_g (lw_at lw_m9 36 rfl) rfl
theorem q2077 : (Jvm.Cond.instanceMethod ({ cls := "CheekTown", name := "told", desc := "(II)I" } : Jvm.MethodName)) ∈ lw_all := lw_g (lw_at lw_m9 41 rfl) rfl
theorem q2078 : (Jvm.Cond.selects "CheekTown" ({ cls := "CheekTown", name := "told", desc := "(II)I" } : Jvm.MethodName) ({ cls := "CheekTown", name := "told", desc := "(II)I" } : Jvm.MethodName)) ∈ lw_all := lw_g (lw_at lw_m9 42 rfl) rfl
theorem q2079 : (Jvm.Cond.code ({ cls := "CheekTown", name := "told", desc := "(II)I" } : Jvm.MethodName) prog_1_method_86_code (6 : Nat) (Option.some Jvm.ClassFile.FieldType.int)) ∈ lw_all := lw_g (lw_at lw_m9 43 rfl) rfl
theorem q2080 : (Jvm.Cond.methodLink "CheekTown" (668 : Nat) ({ cls := "CheekTown$Years", name := "feast", desc := "(II)LCheekTown$Years;" } : Jvm.MethodName)) ∈ lw_all := lw_g (lw_at lw_m9 44 rfl) rfl
theorem q2084 : (Jvm.Cond.methodLink "CheekTown" (672 : Nat) ({ cls := "CheekTown$Years", name := "have", desc := "(I)Z" } : Jvm.MethodName)) ∈ lw_all := lw_g (lw_at lw_m9 48 rfl) rfl
theorem q2092 : (Jvm.Cond.instanceMethod ({ cls := "CheekTown", name := "colds", desc := "(II)I" } : Jvm.MethodName)) ∈ lw_all := lw_g (lw_at lw_m9 56 rfl) rfl
theorem q2093 : (Jvm.Cond.selects "CheekTown" ({ cls := "CheekTown", name := "colds", desc := "(II)I" } : Jvm.MethodName) ({ cls := "CheekTown", name := "colds", desc := "(II)I" } : Jvm.MethodName)) ∈ lw_all := lw_g (lw_at lw_m9 57 rfl) rfl
theorem q2094 : (Jvm.Cond.code ({ cls := "CheekTown", name := "colds", desc := "(II)I" } : Jvm.MethodName) prog_1_method_88_code (3 : Nat) (Option.some Jvm.ClassFile.FieldType.int)) ∈ lw_all := lw_g (lw_at lw_m9 58 rfl) rfl
theorem q2095 : (Jvm.Cond.methodLink "CheekTown" (678 : Nat) ({ cls := "CheekTown", name := "coldsBy", desc := "(II)I" } : Jvm.MethodName)) ∈ lw_all := lw_g (lw_at lw_m9 59 rfl) rfl
theorem q2096 : (Jvm.Cond.privateMethod ({ cls := "CheekTown", name := "coldsBy", desc := "(II)I" } : Jvm.MethodName)) ∈ lw_tbl := lw_at lw_m9 60 rfl
theorem q2097 : (Jvm.Cond.instanceMethod ({ cls := "CheekTown", name := "coldsBy", desc := "(II)I" } : Jvm.MethodName)) ∈ lw_all := lw_g (lw_at lw_m9 61 rfl) rfl
theorem q2098 : (Jvm.Cond.code ({ cls := "CheekTown", name := "coldsBy", desc := "(II)I" } : Jvm.MethodName) prog_1_method_87_code (8 : Nat) (Option.some Jvm.ClassFile.FieldType.int)) ∈ lw_all := lw_g (lw_at lw_m9 62 rfl) rfl
theorem q2103 : (Jvm.Cond.instanceMethod ({ cls := "CheekTown", name := "spared", desc := "(II)I" } : Jvm.MethodName)) ∈ lw_all := lw_g (lw_at lw_m9 67 rfl) rfl
theorem q2104 : (Jvm.Cond.selects "CheekTown" ({ cls := "CheekTown", name := "spared", desc := "(II)I" } : Jvm.MethodName) ({ cls := "CheekTown", name := "spared", desc := "(II)I" } : Jvm.MethodName)) ∈ lw_all := lw_g (lw_at lw_m9 68 rfl) rfl
theorem q2105 : (Jvm.Cond.code ({ cls := "CheekTown", name := "spared", desc := "(II)I" } : Jvm.MethodName) prog_1_method_89_code (5 : Nat) (Option.some Jvm.ClassFile.FieldType.int)) ∈ lw_all := lw_g (lw_at lw_m9 69 rfl) rfl
theorem q2110 : (Jvm.Cond.instanceMethod ({ cls := "CheekTown", name := "trial", desc := "(II)I" } : Jvm.MethodName)) ∈ lw_all := lw_g (lw_at lw_m9 74 rfl) rfl
theorem q2111 : (Jvm.Cond.selects "CheekTown" ({ cls := "CheekTown", name := "trial", desc := "(II)I" } : Jvm.MethodName) ({ cls := "CheekTown", name := "trial", desc := "(II)I" } : Jvm.MethodName)) ∈ lw_all := lw_g (lw_at lw_m9 75 rfl) rfl
theorem q2112 : (Jvm.Cond.code ({ cls := "CheekTown", name := "trial", desc := "(II)I" } : Jvm.MethodName) prog_1_method_95_code (4 : Nat) (Option.some Jvm.ClassFile.FieldType.int)) ∈ lw_all := lw_g (lw_at lw_m9 76 rfl) rfl
theorem q2113 : (Jvm.Cond.methodLink "CheekTown" (693 : Nat) ({ cls := "CheekTown", name := "tries", desc := "(I)I" } : Jvm.MethodName)) ∈ lw_all := lw_g (lw_at lw_m9 77 rfl) rfl
theorem q2114 : (Jvm.Cond.privateMethod ({ cls := "CheekTown", name := "tries", desc := "(I)I" } : Jvm.MethodName)) ∈ lw_tbl := lw_at lw_m9 78 rfl
theorem q2115 : (Jvm.Cond.instanceMethod ({ cls := "CheekTown", name := "tries", desc := "(I)I" } : Jvm.MethodName)) ∈ lw_all := lw_g (lw_at lw_m9 79 rfl) rfl
theorem q2116 : (Jvm.Cond.code ({ cls := "CheekTown", name := "tries", desc := "(I)I" } : Jvm.MethodName) prog_1_method_93_code (4 : Nat) (Option.some Jvm.ClassFile.FieldType.int)) ∈ lw_all := lw_g (lw_at lw_m9 80 rfl) rfl
theorem q2117 : (Jvm.Cond.methodLink "CheekTown" (696 : Nat) ({ cls := "CheekTown", name := "owns", desc := "(LCheekTown$World;)I" } : Jvm.MethodName)) ∈ lw_all := lw_g (lw_at lw_m9 81 rfl) rfl
theorem q2118 : (Jvm.Cond.privateMethod ({ cls := "CheekTown", name := "owns", desc := "(LCheekTown$World;)I" } : Jvm.MethodName)) ∈ lw_tbl := lw_at lw_m9 82 rfl
theorem q2119 : (Jvm.Cond.instanceMethod ({ cls := "CheekTown", name := "owns", desc := "(LCheekTown$World;)I" } : Jvm.MethodName)) ∈ lw_all := lw_g (lw_at lw_m9 83 rfl) rfl
theorem q2120 : (Jvm.Cond.code ({ cls := "CheekTown", name := "owns", desc := "(LCheekTown$World;)I" } : Jvm.MethodName) prog_1_method_94_code (4 : Nat) (Option.some Jvm.ClassFile.FieldType.int)) ∈ lw_all := lw_g (lw_at lw_m9 84 rfl) rfl
theorem q2125 : (Jvm.Cond.instanceMethod ({ cls := "CheekTown", name := "span", desc := "(IZ)I" } : Jvm.MethodName)) ∈ lw_all := lw_g (lw_at lw_m9 89 rfl) rfl
theorem q2126 : (Jvm.Cond.selects "CheekTown" ({ cls := "CheekTown", name := "span", desc := "(IZ)I" } : Jvm.MethodName) ({ cls := "CheekTown", name := "span", desc := "(IZ)I" } : Jvm.MethodName)) ∈ lw_all := lw_g (lw_at lw_m9 90 rfl) rfl
theorem q2127 : (Jvm.Cond.code ({ cls := "CheekTown", name := "span", desc := "(IZ)I" } : Jvm.MethodName) prog_1_method_96_code (6 : Nat) (Option.some Jvm.ClassFile.FieldType.int)) ∈ lw_all := lw_g (lw_at lw_m9 91 rfl) rfl
theorem q2132 : (Jvm.Cond.instanceMethod ({ cls := "CheekTown", name := "log", desc := "(II)I" } : Jvm.MethodName)) ∈ lw_all := lw_g (lw_at lw_m9 96 rfl) rfl
theorem q2133 : (Jvm.Cond.selects "CheekTown" ({ cls := "CheekTown", name := "log", desc := "(II)I" } : Jvm.MethodName) ({ cls := "CheekTown", name := "log", desc := "(II)I" } : Jvm.MethodName)) ∈ lw_all := lw_g (lw_at lw_m9 97 rfl) rfl
theorem q2134 : (Jvm.Cond.code ({ cls := "CheekTown", name := "log", desc := "(II)I" } : Jvm.MethodName) prog_1_method_97_code (3 : Nat) (Option.some Jvm.ClassFile.FieldType.int)) ∈ lw_all := lw_g (lw_at lw_m9 98 rfl) rfl
theorem q2740 : (Jvm.Cond.castable "CheekTown" "java/lang/Object") ∈ lw_tbl := lw_at lw_m11 224 rfl
theorem in_X1 : ∀ w ∈ wsX10, w ∈ lw_all := lw_in wsX10 [481, 483, 485, 487, 489, 491, 493, 495, 497, 499, 501, 503, 505] (by decide +kernel) (by decide +kernel)
