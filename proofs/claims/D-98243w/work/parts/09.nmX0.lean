/-! CheekTownLaw -/
set_option maxRecDepth 100000
def RX0 : String := "CheekTownLaw"
abbrev cX0_town : ByteArray := method_3_code
def yX0_town : MethodName := ⟨RX0, "town", "(LCheekTown;[J)I"⟩
def dkwX0_town_0 : List UInt8 := [43, 3, 42, 182, 0, 7, 133, 80, 167, 0, 9, 77, 4, 172, 77, 5, 172, 3, 172]
abbrev dktX0_town_0 : List UInt8 := dkwX0_town_0 ++ []
theorem dksX0_town_0 : cX0_town.data.toList.drop 0 = dktX0_town_0 := by decide +kernel
theorem dX0_town_0 : decode cX0_town 0 = .ok (.aload_n 1, 1) := dk_43 (dk_at dksX0_town_0 0 rfl rfl)
theorem dX0_town_1 : decode cX0_town 1 = .ok (.iconst 0, 1) := dk_3 (dk_at dksX0_town_0 1 rfl rfl)
theorem dX0_town_2 : decode cX0_town 2 = .ok (.aload_n 0, 1) := dk_42 (dk_at dksX0_town_0 2 rfl rfl)
theorem dX0_town_3 : decode cX0_town 3 = .ok (.invokevirtual 7, 3) := dk_182 0 7 (dk_at dksX0_town_0 3 rfl rfl)
theorem dX0_town_6 : decode cX0_town 6 = .ok (.i2l, 1) := dk_133 (dk_at dksX0_town_0 6 rfl rfl)
theorem dX0_town_7 : decode cX0_town 7 = .ok (.lastore, 1) := dk_80 (dk_at dksX0_town_0 7 rfl rfl)
theorem dX0_town_8 : decode cX0_town 8 = .ok (.goto 9, 3) := dk_167 0 9 (dk_at dksX0_town_0 8 rfl rfl)
theorem dX0_town_11 : decode cX0_town 11 = .ok (.astore_n 2, 1) := dk_77 (dk_at dksX0_town_0 11 rfl rfl)
theorem dX0_town_12 : decode cX0_town 12 = .ok (.iconst 1, 1) := dk_4 (dk_at dksX0_town_0 12 rfl rfl)
theorem dX0_town_13 : decode cX0_town 13 = .ok (.ireturn, 1) := dk_172 (dk_at dksX0_town_0 13 rfl rfl)
theorem dX0_town_14 : decode cX0_town 14 = .ok (.astore_n 2, 1) := dk_77 (dk_at dksX0_town_0 14 rfl rfl)
theorem dX0_town_15 : decode cX0_town 15 = .ok (.iconst 2, 1) := dk_5 (dk_at dksX0_town_0 15 rfl rfl)
theorem dX0_town_16 : decode cX0_town 16 = .ok (.ireturn, 1) := dk_172 (dk_at dksX0_town_0 16 rfl rfl)
theorem dX0_town_17 : decode cX0_town 17 = .ok (.iconst 0, 1) := dk_3 (dk_at dksX0_town_0 17 rfl rfl)
theorem dX0_town_18 : decode cX0_town 18 = .ok (.ireturn, 1) := dk_172 (dk_at dksX0_town_0 18 rfl rfl)
abbrev cX0_law : ByteArray := method_4_code
def yX0_law : MethodName := ⟨RX0, "law", "(LCheekTown;[J)I"⟩
def dkwX0_law_0 : List UInt8 := [43, 3, 42, 182, 0, 17, 133, 80, 167, 0, 6, 77, 4, 172, 3, 172]
abbrev dktX0_law_0 : List UInt8 := dkwX0_law_0 ++ []
theorem dksX0_law_0 : cX0_law.data.toList.drop 0 = dktX0_law_0 := by decide +kernel
theorem dX0_law_0 : decode cX0_law 0 = .ok (.aload_n 1, 1) := dk_43 (dk_at dksX0_law_0 0 rfl rfl)
theorem dX0_law_1 : decode cX0_law 1 = .ok (.iconst 0, 1) := dk_3 (dk_at dksX0_law_0 1 rfl rfl)
theorem dX0_law_2 : decode cX0_law 2 = .ok (.aload_n 0, 1) := dk_42 (dk_at dksX0_law_0 2 rfl rfl)
theorem dX0_law_3 : decode cX0_law 3 = .ok (.invokevirtual 17, 3) := dk_182 0 17 (dk_at dksX0_law_0 3 rfl rfl)
theorem dX0_law_6 : decode cX0_law 6 = .ok (.i2l, 1) := dk_133 (dk_at dksX0_law_0 6 rfl rfl)
theorem dX0_law_7 : decode cX0_law 7 = .ok (.lastore, 1) := dk_80 (dk_at dksX0_law_0 7 rfl rfl)
theorem dX0_law_8 : decode cX0_law 8 = .ok (.goto 6, 3) := dk_167 0 6 (dk_at dksX0_law_0 8 rfl rfl)
theorem dX0_law_11 : decode cX0_law 11 = .ok (.astore_n 2, 1) := dk_77 (dk_at dksX0_law_0 11 rfl rfl)
theorem dX0_law_12 : decode cX0_law 12 = .ok (.iconst 1, 1) := dk_4 (dk_at dksX0_law_0 12 rfl rfl)
theorem dX0_law_13 : decode cX0_law 13 = .ok (.ireturn, 1) := dk_172 (dk_at dksX0_law_0 13 rfl rfl)
theorem dX0_law_14 : decode cX0_law 14 = .ok (.iconst 0, 1) := dk_3 (dk_at dksX0_law_0 14 rfl rfl)
theorem dX0_law_15 : decode cX0_law 15 = .ok (.ireturn, 1) := dk_172 (dk_at dksX0_law_0 15 rfl rfl)
abbrev cX0_cost : ByteArray := method_5_code
def yX0_cost : MethodName := ⟨RX0, "cost", "(LCheekTown;II[J)I"⟩
def dkwX0_cost_0 : List UInt8 := [45, 3, 42, 27, 28, 182, 0, 20, 133, 80, 167, 0, 7, 58, 4, 4, 172, 3, 172]
abbrev dktX0_cost_0 : List UInt8 := dkwX0_cost_0 ++ []
theorem dksX0_cost_0 : cX0_cost.data.toList.drop 0 = dktX0_cost_0 := by decide +kernel
theorem dX0_cost_0 : decode cX0_cost 0 = .ok (.aload_n 3, 1) := dk_45 (dk_at dksX0_cost_0 0 rfl rfl)
theorem dX0_cost_1 : decode cX0_cost 1 = .ok (.iconst 0, 1) := dk_3 (dk_at dksX0_cost_0 1 rfl rfl)
theorem dX0_cost_2 : decode cX0_cost 2 = .ok (.aload_n 0, 1) := dk_42 (dk_at dksX0_cost_0 2 rfl rfl)
theorem dX0_cost_3 : decode cX0_cost 3 = .ok (.iload_n 1, 1) := dk_27 (dk_at dksX0_cost_0 3 rfl rfl)
theorem dX0_cost_4 : decode cX0_cost 4 = .ok (.iload_n 2, 1) := dk_28 (dk_at dksX0_cost_0 4 rfl rfl)
theorem dX0_cost_5 : decode cX0_cost 5 = .ok (.invokevirtual 20, 3) := dk_182 0 20 (dk_at dksX0_cost_0 5 rfl rfl)
theorem dX0_cost_8 : decode cX0_cost 8 = .ok (.i2l, 1) := dk_133 (dk_at dksX0_cost_0 8 rfl rfl)
theorem dX0_cost_9 : decode cX0_cost 9 = .ok (.lastore, 1) := dk_80 (dk_at dksX0_cost_0 9 rfl rfl)
theorem dX0_cost_10 : decode cX0_cost 10 = .ok (.goto 7, 3) := dk_167 0 7 (dk_at dksX0_cost_0 10 rfl rfl)
theorem dX0_cost_13 : decode cX0_cost 13 = .ok (.astore 4, 2) := dk_58 4 (dk_at dksX0_cost_0 13 rfl rfl)
theorem dX0_cost_15 : decode cX0_cost 15 = .ok (.iconst 1, 1) := dk_4 (dk_at dksX0_cost_0 15 rfl rfl)
theorem dX0_cost_16 : decode cX0_cost 16 = .ok (.ireturn, 1) := dk_172 (dk_at dksX0_cost_0 16 rfl rfl)
theorem dX0_cost_17 : decode cX0_cost 17 = .ok (.iconst 0, 1) := dk_3 (dk_at dksX0_cost_0 17 rfl rfl)
theorem dX0_cost_18 : decode cX0_cost 18 = .ok (.ireturn, 1) := dk_172 (dk_at dksX0_cost_0 18 rfl rfl)
abbrev cX0_habit : ByteArray := method_6_code
def yX0_habit : MethodName := ⟨RX0, "habit", "(LCheekTown;II[J)I"⟩
def dkwX0_habit_0 : List UInt8 := [45, 3, 42, 27, 28, 182, 0, 26, 133, 80, 167, 0, 7, 58, 4, 4, 172, 3, 172]
abbrev dktX0_habit_0 : List UInt8 := dkwX0_habit_0 ++ []
theorem dksX0_habit_0 : cX0_habit.data.toList.drop 0 = dktX0_habit_0 := by decide +kernel
theorem dX0_habit_0 : decode cX0_habit 0 = .ok (.aload_n 3, 1) := dk_45 (dk_at dksX0_habit_0 0 rfl rfl)
theorem dX0_habit_1 : decode cX0_habit 1 = .ok (.iconst 0, 1) := dk_3 (dk_at dksX0_habit_0 1 rfl rfl)
theorem dX0_habit_2 : decode cX0_habit 2 = .ok (.aload_n 0, 1) := dk_42 (dk_at dksX0_habit_0 2 rfl rfl)
theorem dX0_habit_3 : decode cX0_habit 3 = .ok (.iload_n 1, 1) := dk_27 (dk_at dksX0_habit_0 3 rfl rfl)
theorem dX0_habit_4 : decode cX0_habit 4 = .ok (.iload_n 2, 1) := dk_28 (dk_at dksX0_habit_0 4 rfl rfl)
theorem dX0_habit_5 : decode cX0_habit 5 = .ok (.invokevirtual 26, 3) := dk_182 0 26 (dk_at dksX0_habit_0 5 rfl rfl)
theorem dX0_habit_8 : decode cX0_habit 8 = .ok (.i2l, 1) := dk_133 (dk_at dksX0_habit_0 8 rfl rfl)
theorem dX0_habit_9 : decode cX0_habit 9 = .ok (.lastore, 1) := dk_80 (dk_at dksX0_habit_0 9 rfl rfl)
theorem dX0_habit_10 : decode cX0_habit 10 = .ok (.goto 7, 3) := dk_167 0 7 (dk_at dksX0_habit_0 10 rfl rfl)
theorem dX0_habit_13 : decode cX0_habit 13 = .ok (.astore 4, 2) := dk_58 4 (dk_at dksX0_habit_0 13 rfl rfl)
theorem dX0_habit_15 : decode cX0_habit 15 = .ok (.iconst 1, 1) := dk_4 (dk_at dksX0_habit_0 15 rfl rfl)
theorem dX0_habit_16 : decode cX0_habit 16 = .ok (.ireturn, 1) := dk_172 (dk_at dksX0_habit_0 16 rfl rfl)
theorem dX0_habit_17 : decode cX0_habit 17 = .ok (.iconst 0, 1) := dk_3 (dk_at dksX0_habit_0 17 rfl rfl)
theorem dX0_habit_18 : decode cX0_habit 18 = .ok (.ireturn, 1) := dk_172 (dk_at dksX0_habit_0 18 rfl rfl)
abbrev cX0_person : ByteArray := method_7_code
def yX0_person : MethodName := ⟨RX0, "person", "(LCheekTown;II[J)I"⟩
def dkwX0_person_0 : List UInt8 := [45, 3, 42, 27, 28, 182, 0, 29, 133, 80, 167, 0, 11, 58, 4, 4, 172, 58, 4, 5, 172, 3, 172]
abbrev dktX0_person_0 : List UInt8 := dkwX0_person_0 ++ []
theorem dksX0_person_0 : cX0_person.data.toList.drop 0 = dktX0_person_0 := by decide +kernel
theorem dX0_person_0 : decode cX0_person 0 = .ok (.aload_n 3, 1) := dk_45 (dk_at dksX0_person_0 0 rfl rfl)
theorem dX0_person_1 : decode cX0_person 1 = .ok (.iconst 0, 1) := dk_3 (dk_at dksX0_person_0 1 rfl rfl)
theorem dX0_person_2 : decode cX0_person 2 = .ok (.aload_n 0, 1) := dk_42 (dk_at dksX0_person_0 2 rfl rfl)
theorem dX0_person_3 : decode cX0_person 3 = .ok (.iload_n 1, 1) := dk_27 (dk_at dksX0_person_0 3 rfl rfl)
theorem dX0_person_4 : decode cX0_person 4 = .ok (.iload_n 2, 1) := dk_28 (dk_at dksX0_person_0 4 rfl rfl)
theorem dX0_person_5 : decode cX0_person 5 = .ok (.invokevirtual 29, 3) := dk_182 0 29 (dk_at dksX0_person_0 5 rfl rfl)
theorem dX0_person_8 : decode cX0_person 8 = .ok (.i2l, 1) := dk_133 (dk_at dksX0_person_0 8 rfl rfl)
theorem dX0_person_9 : decode cX0_person 9 = .ok (.lastore, 1) := dk_80 (dk_at dksX0_person_0 9 rfl rfl)
theorem dX0_person_10 : decode cX0_person 10 = .ok (.goto 11, 3) := dk_167 0 11 (dk_at dksX0_person_0 10 rfl rfl)
theorem dX0_person_13 : decode cX0_person 13 = .ok (.astore 4, 2) := dk_58 4 (dk_at dksX0_person_0 13 rfl rfl)
theorem dX0_person_15 : decode cX0_person 15 = .ok (.iconst 1, 1) := dk_4 (dk_at dksX0_person_0 15 rfl rfl)
theorem dX0_person_16 : decode cX0_person 16 = .ok (.ireturn, 1) := dk_172 (dk_at dksX0_person_0 16 rfl rfl)
theorem dX0_person_17 : decode cX0_person 17 = .ok (.astore 4, 2) := dk_58 4 (dk_at dksX0_person_0 17 rfl rfl)
theorem dX0_person_19 : decode cX0_person 19 = .ok (.iconst 2, 1) := dk_5 (dk_at dksX0_person_0 19 rfl rfl)
theorem dX0_person_20 : decode cX0_person 20 = .ok (.ireturn, 1) := dk_172 (dk_at dksX0_person_0 20 rfl rfl)
theorem dX0_person_21 : decode cX0_person 21 = .ok (.iconst 0, 1) := dk_3 (dk_at dksX0_person_0 21 rfl rfl)
theorem dX0_person_22 : decode cX0_person 22 = .ok (.ireturn, 1) := dk_172 (dk_at dksX0_person_0 22 rfl rfl)
abbrev cX0_saw : ByteArray := method_8_code
def yX0_saw : MethodName := ⟨RX0, "saw", "(LCheekTown;IIZ[J)I"⟩
def dkwX0_saw_1 : List UInt8 := [172]
abbrev dktX0_saw_1 : List UInt8 := dkwX0_saw_1 ++ []
def dkwX0_saw_0 : List UInt8 := [25, 4, 3, 42, 27, 28, 29, 182, 0, 34, 133, 80, 167, 0, 11, 58, 5, 4, 172, 58, 5, 5, 172, 3]
abbrev dktX0_saw_0 : List UInt8 := dkwX0_saw_0 ++ dktX0_saw_1
theorem dksX0_saw_0 : cX0_saw.data.toList.drop 0 = dktX0_saw_0 := by decide +kernel
theorem dksX0_saw_1 : cX0_saw.data.toList.drop 24 = dktX0_saw_1 := dk_seg dksX0_saw_0 24 rfl rfl
theorem dX0_saw_0 : decode cX0_saw 0 = .ok (.aload 4, 2) := dk_25 4 (dk_at dksX0_saw_0 0 rfl rfl)
theorem dX0_saw_2 : decode cX0_saw 2 = .ok (.iconst 0, 1) := dk_3 (dk_at dksX0_saw_0 2 rfl rfl)
theorem dX0_saw_3 : decode cX0_saw 3 = .ok (.aload_n 0, 1) := dk_42 (dk_at dksX0_saw_0 3 rfl rfl)
theorem dX0_saw_4 : decode cX0_saw 4 = .ok (.iload_n 1, 1) := dk_27 (dk_at dksX0_saw_0 4 rfl rfl)
theorem dX0_saw_5 : decode cX0_saw 5 = .ok (.iload_n 2, 1) := dk_28 (dk_at dksX0_saw_0 5 rfl rfl)
theorem dX0_saw_6 : decode cX0_saw 6 = .ok (.iload_n 3, 1) := dk_29 (dk_at dksX0_saw_0 6 rfl rfl)
theorem dX0_saw_7 : decode cX0_saw 7 = .ok (.invokevirtual 34, 3) := dk_182 0 34 (dk_at dksX0_saw_0 7 rfl rfl)
theorem dX0_saw_10 : decode cX0_saw 10 = .ok (.i2l, 1) := dk_133 (dk_at dksX0_saw_0 10 rfl rfl)
theorem dX0_saw_11 : decode cX0_saw 11 = .ok (.lastore, 1) := dk_80 (dk_at dksX0_saw_0 11 rfl rfl)
theorem dX0_saw_12 : decode cX0_saw 12 = .ok (.goto 11, 3) := dk_167 0 11 (dk_at dksX0_saw_0 12 rfl rfl)
theorem dX0_saw_15 : decode cX0_saw 15 = .ok (.astore 5, 2) := dk_58 5 (dk_at dksX0_saw_0 15 rfl rfl)
theorem dX0_saw_17 : decode cX0_saw 17 = .ok (.iconst 1, 1) := dk_4 (dk_at dksX0_saw_0 17 rfl rfl)
theorem dX0_saw_18 : decode cX0_saw 18 = .ok (.ireturn, 1) := dk_172 (dk_at dksX0_saw_0 18 rfl rfl)
theorem dX0_saw_19 : decode cX0_saw 19 = .ok (.astore 5, 2) := dk_58 5 (dk_at dksX0_saw_0 19 rfl rfl)
theorem dX0_saw_21 : decode cX0_saw 21 = .ok (.iconst 2, 1) := dk_5 (dk_at dksX0_saw_0 21 rfl rfl)
theorem dX0_saw_22 : decode cX0_saw 22 = .ok (.ireturn, 1) := dk_172 (dk_at dksX0_saw_0 22 rfl rfl)
theorem dX0_saw_23 : decode cX0_saw 23 = .ok (.iconst 0, 1) := dk_3 (dk_at dksX0_saw_0 23 rfl rfl)
theorem dX0_saw_24 : decode cX0_saw 24 = .ok (.ireturn, 1) := dk_172 (dk_at dksX0_saw_1 0 rfl rfl)
abbrev cX0_tie : ByteArray := method_9_code
def yX0_tie : MethodName := ⟨RX0, "tie", "(LCheekTown;IZ[J)I"⟩
def dkwX0_tie_0 : List UInt8 := [45, 3, 42, 27, 28, 182, 0, 38, 133, 80, 167, 0, 7, 58, 4, 4, 172, 3, 172]
abbrev dktX0_tie_0 : List UInt8 := dkwX0_tie_0 ++ []
theorem dksX0_tie_0 : cX0_tie.data.toList.drop 0 = dktX0_tie_0 := by decide +kernel
theorem dX0_tie_0 : decode cX0_tie 0 = .ok (.aload_n 3, 1) := dk_45 (dk_at dksX0_tie_0 0 rfl rfl)
theorem dX0_tie_1 : decode cX0_tie 1 = .ok (.iconst 0, 1) := dk_3 (dk_at dksX0_tie_0 1 rfl rfl)
theorem dX0_tie_2 : decode cX0_tie 2 = .ok (.aload_n 0, 1) := dk_42 (dk_at dksX0_tie_0 2 rfl rfl)
theorem dX0_tie_3 : decode cX0_tie 3 = .ok (.iload_n 1, 1) := dk_27 (dk_at dksX0_tie_0 3 rfl rfl)
theorem dX0_tie_4 : decode cX0_tie 4 = .ok (.iload_n 2, 1) := dk_28 (dk_at dksX0_tie_0 4 rfl rfl)
theorem dX0_tie_5 : decode cX0_tie 5 = .ok (.invokevirtual 38, 3) := dk_182 0 38 (dk_at dksX0_tie_0 5 rfl rfl)
theorem dX0_tie_8 : decode cX0_tie 8 = .ok (.i2l, 1) := dk_133 (dk_at dksX0_tie_0 8 rfl rfl)
theorem dX0_tie_9 : decode cX0_tie 9 = .ok (.lastore, 1) := dk_80 (dk_at dksX0_tie_0 9 rfl rfl)
theorem dX0_tie_10 : decode cX0_tie 10 = .ok (.goto 7, 3) := dk_167 0 7 (dk_at dksX0_tie_0 10 rfl rfl)
theorem dX0_tie_13 : decode cX0_tie 13 = .ok (.astore 4, 2) := dk_58 4 (dk_at dksX0_tie_0 13 rfl rfl)
theorem dX0_tie_15 : decode cX0_tie 15 = .ok (.iconst 1, 1) := dk_4 (dk_at dksX0_tie_0 15 rfl rfl)
theorem dX0_tie_16 : decode cX0_tie 16 = .ok (.ireturn, 1) := dk_172 (dk_at dksX0_tie_0 16 rfl rfl)
theorem dX0_tie_17 : decode cX0_tie 17 = .ok (.iconst 0, 1) := dk_3 (dk_at dksX0_tie_0 17 rfl rfl)
theorem dX0_tie_18 : decode cX0_tie 18 = .ok (.ireturn, 1) := dk_172 (dk_at dksX0_tie_0 18 rfl rfl)
abbrev cX0_will : ByteArray := method_10_code
def yX0_will : MethodName := ⟨RX0, "will", "(LCheekTown;II[J)I"⟩
def dkwX0_will_0 : List UInt8 := [45, 3, 42, 27, 28, 182, 0, 42, 133, 80, 167, 0, 11, 58, 4, 4, 172, 58, 4, 5, 172, 3, 172]
abbrev dktX0_will_0 : List UInt8 := dkwX0_will_0 ++ []
theorem dksX0_will_0 : cX0_will.data.toList.drop 0 = dktX0_will_0 := by decide +kernel
theorem dX0_will_0 : decode cX0_will 0 = .ok (.aload_n 3, 1) := dk_45 (dk_at dksX0_will_0 0 rfl rfl)
theorem dX0_will_1 : decode cX0_will 1 = .ok (.iconst 0, 1) := dk_3 (dk_at dksX0_will_0 1 rfl rfl)
theorem dX0_will_2 : decode cX0_will 2 = .ok (.aload_n 0, 1) := dk_42 (dk_at dksX0_will_0 2 rfl rfl)
theorem dX0_will_3 : decode cX0_will 3 = .ok (.iload_n 1, 1) := dk_27 (dk_at dksX0_will_0 3 rfl rfl)
theorem dX0_will_4 : decode cX0_will 4 = .ok (.iload_n 2, 1) := dk_28 (dk_at dksX0_will_0 4 rfl rfl)
theorem dX0_will_5 : decode cX0_will 5 = .ok (.invokevirtual 42, 3) := dk_182 0 42 (dk_at dksX0_will_0 5 rfl rfl)
theorem dX0_will_8 : decode cX0_will 8 = .ok (.i2l, 1) := dk_133 (dk_at dksX0_will_0 8 rfl rfl)
theorem dX0_will_9 : decode cX0_will 9 = .ok (.lastore, 1) := dk_80 (dk_at dksX0_will_0 9 rfl rfl)
theorem dX0_will_10 : decode cX0_will 10 = .ok (.goto 11, 3) := dk_167 0 11 (dk_at dksX0_will_0 10 rfl rfl)
theorem dX0_will_13 : decode cX0_will 13 = .ok (.astore 4, 2) := dk_58 4 (dk_at dksX0_will_0 13 rfl rfl)
theorem dX0_will_15 : decode cX0_will 15 = .ok (.iconst 1, 1) := dk_4 (dk_at dksX0_will_0 15 rfl rfl)
theorem dX0_will_16 : decode cX0_will 16 = .ok (.ireturn, 1) := dk_172 (dk_at dksX0_will_0 16 rfl rfl)
theorem dX0_will_17 : decode cX0_will 17 = .ok (.astore 4, 2) := dk_58 4 (dk_at dksX0_will_0 17 rfl rfl)
theorem dX0_will_19 : decode cX0_will 19 = .ok (.iconst 2, 1) := dk_5 (dk_at dksX0_will_0 19 rfl rfl)
theorem dX0_will_20 : decode cX0_will 20 = .ok (.ireturn, 1) := dk_172 (dk_at dksX0_will_0 20 rfl rfl)
theorem dX0_will_21 : decode cX0_will 21 = .ok (.iconst 0, 1) := dk_3 (dk_at dksX0_will_0 21 rfl rfl)
theorem dX0_will_22 : decode cX0_will 22 = .ok (.ireturn, 1) := dk_172 (dk_at dksX0_will_0 22 rfl rfl)
abbrev cX0_meet : ByteArray := method_11_code
def yX0_meet : MethodName := ⟨RX0, "meet", "(LCheekTown;II[J)I"⟩
def dkwX0_meet_0 : List UInt8 := [45, 3, 42, 27, 28, 182, 0, 45, 133, 80, 167, 0, 11, 58, 4, 4, 172, 58, 4, 5, 172, 3, 172]
abbrev dktX0_meet_0 : List UInt8 := dkwX0_meet_0 ++ []
theorem dksX0_meet_0 : cX0_meet.data.toList.drop 0 = dktX0_meet_0 := by decide +kernel
theorem dX0_meet_0 : decode cX0_meet 0 = .ok (.aload_n 3, 1) := dk_45 (dk_at dksX0_meet_0 0 rfl rfl)
theorem dX0_meet_1 : decode cX0_meet 1 = .ok (.iconst 0, 1) := dk_3 (dk_at dksX0_meet_0 1 rfl rfl)
theorem dX0_meet_2 : decode cX0_meet 2 = .ok (.aload_n 0, 1) := dk_42 (dk_at dksX0_meet_0 2 rfl rfl)
theorem dX0_meet_3 : decode cX0_meet 3 = .ok (.iload_n 1, 1) := dk_27 (dk_at dksX0_meet_0 3 rfl rfl)
theorem dX0_meet_4 : decode cX0_meet 4 = .ok (.iload_n 2, 1) := dk_28 (dk_at dksX0_meet_0 4 rfl rfl)
theorem dX0_meet_5 : decode cX0_meet 5 = .ok (.invokevirtual 45, 3) := dk_182 0 45 (dk_at dksX0_meet_0 5 rfl rfl)
theorem dX0_meet_8 : decode cX0_meet 8 = .ok (.i2l, 1) := dk_133 (dk_at dksX0_meet_0 8 rfl rfl)
theorem dX0_meet_9 : decode cX0_meet 9 = .ok (.lastore, 1) := dk_80 (dk_at dksX0_meet_0 9 rfl rfl)
theorem dX0_meet_10 : decode cX0_meet 10 = .ok (.goto 11, 3) := dk_167 0 11 (dk_at dksX0_meet_0 10 rfl rfl)
theorem dX0_meet_13 : decode cX0_meet 13 = .ok (.astore 4, 2) := dk_58 4 (dk_at dksX0_meet_0 13 rfl rfl)
theorem dX0_meet_15 : decode cX0_meet 15 = .ok (.iconst 1, 1) := dk_4 (dk_at dksX0_meet_0 15 rfl rfl)
theorem dX0_meet_16 : decode cX0_meet 16 = .ok (.ireturn, 1) := dk_172 (dk_at dksX0_meet_0 16 rfl rfl)
theorem dX0_meet_17 : decode cX0_meet 17 = .ok (.astore 4, 2) := dk_58 4 (dk_at dksX0_meet_0 17 rfl rfl)
theorem dX0_meet_19 : decode cX0_meet 19 = .ok (.iconst 2, 1) := dk_5 (dk_at dksX0_meet_0 19 rfl rfl)
theorem dX0_meet_20 : decode cX0_meet 20 = .ok (.ireturn, 1) := dk_172 (dk_at dksX0_meet_0 20 rfl rfl)
theorem dX0_meet_21 : decode cX0_meet 21 = .ok (.iconst 0, 1) := dk_3 (dk_at dksX0_meet_0 21 rfl rfl)
theorem dX0_meet_22 : decode cX0_meet 22 = .ok (.ireturn, 1) := dk_172 (dk_at dksX0_meet_0 22 rfl rfl)
abbrev cX0_rounds : ByteArray := method_12_code
def yX0_rounds : MethodName := ⟨RX0, "rounds", "(LCheekTown;I[J)I"⟩
def dkwX0_rounds_0 : List UInt8 := [44, 3, 42, 27, 182, 0, 48, 133, 80, 167, 0, 6, 78, 4, 172, 3, 172]
abbrev dktX0_rounds_0 : List UInt8 := dkwX0_rounds_0 ++ []
theorem dksX0_rounds_0 : cX0_rounds.data.toList.drop 0 = dktX0_rounds_0 := by decide +kernel
theorem dX0_rounds_0 : decode cX0_rounds 0 = .ok (.aload_n 2, 1) := dk_44 (dk_at dksX0_rounds_0 0 rfl rfl)
theorem dX0_rounds_1 : decode cX0_rounds 1 = .ok (.iconst 0, 1) := dk_3 (dk_at dksX0_rounds_0 1 rfl rfl)
theorem dX0_rounds_2 : decode cX0_rounds 2 = .ok (.aload_n 0, 1) := dk_42 (dk_at dksX0_rounds_0 2 rfl rfl)
theorem dX0_rounds_3 : decode cX0_rounds 3 = .ok (.iload_n 1, 1) := dk_27 (dk_at dksX0_rounds_0 3 rfl rfl)
theorem dX0_rounds_4 : decode cX0_rounds 4 = .ok (.invokevirtual 48, 3) := dk_182 0 48 (dk_at dksX0_rounds_0 4 rfl rfl)
theorem dX0_rounds_7 : decode cX0_rounds 7 = .ok (.i2l, 1) := dk_133 (dk_at dksX0_rounds_0 7 rfl rfl)
theorem dX0_rounds_8 : decode cX0_rounds 8 = .ok (.lastore, 1) := dk_80 (dk_at dksX0_rounds_0 8 rfl rfl)
theorem dX0_rounds_9 : decode cX0_rounds 9 = .ok (.goto 6, 3) := dk_167 0 6 (dk_at dksX0_rounds_0 9 rfl rfl)
theorem dX0_rounds_12 : decode cX0_rounds 12 = .ok (.astore_n 3, 1) := dk_78 (dk_at dksX0_rounds_0 12 rfl rfl)
theorem dX0_rounds_13 : decode cX0_rounds 13 = .ok (.iconst 1, 1) := dk_4 (dk_at dksX0_rounds_0 13 rfl rfl)
theorem dX0_rounds_14 : decode cX0_rounds 14 = .ok (.ireturn, 1) := dk_172 (dk_at dksX0_rounds_0 14 rfl rfl)
theorem dX0_rounds_15 : decode cX0_rounds 15 = .ok (.iconst 0, 1) := dk_3 (dk_at dksX0_rounds_0 15 rfl rfl)
theorem dX0_rounds_16 : decode cX0_rounds 16 = .ok (.ireturn, 1) := dk_172 (dk_at dksX0_rounds_0 16 rfl rfl)
abbrev cX0_own : ByteArray := method_13_code
def yX0_own : MethodName := ⟨RX0, "own", "(LCheekTown;II[J)I"⟩
def dkwX0_own_0 : List UInt8 := [45, 3, 42, 27, 28, 182, 0, 52, 133, 80, 167, 0, 7, 58, 4, 4, 172, 3, 172]
abbrev dktX0_own_0 : List UInt8 := dkwX0_own_0 ++ []
theorem dksX0_own_0 : cX0_own.data.toList.drop 0 = dktX0_own_0 := by decide +kernel
theorem dX0_own_0 : decode cX0_own 0 = .ok (.aload_n 3, 1) := dk_45 (dk_at dksX0_own_0 0 rfl rfl)
theorem dX0_own_1 : decode cX0_own 1 = .ok (.iconst 0, 1) := dk_3 (dk_at dksX0_own_0 1 rfl rfl)
theorem dX0_own_2 : decode cX0_own 2 = .ok (.aload_n 0, 1) := dk_42 (dk_at dksX0_own_0 2 rfl rfl)
theorem dX0_own_3 : decode cX0_own 3 = .ok (.iload_n 1, 1) := dk_27 (dk_at dksX0_own_0 3 rfl rfl)
theorem dX0_own_4 : decode cX0_own 4 = .ok (.iload_n 2, 1) := dk_28 (dk_at dksX0_own_0 4 rfl rfl)
theorem dX0_own_5 : decode cX0_own 5 = .ok (.invokevirtual 52, 3) := dk_182 0 52 (dk_at dksX0_own_0 5 rfl rfl)
theorem dX0_own_8 : decode cX0_own 8 = .ok (.i2l, 1) := dk_133 (dk_at dksX0_own_0 8 rfl rfl)
theorem dX0_own_9 : decode cX0_own 9 = .ok (.lastore, 1) := dk_80 (dk_at dksX0_own_0 9 rfl rfl)
theorem dX0_own_10 : decode cX0_own 10 = .ok (.goto 7, 3) := dk_167 0 7 (dk_at dksX0_own_0 10 rfl rfl)
theorem dX0_own_13 : decode cX0_own 13 = .ok (.astore 4, 2) := dk_58 4 (dk_at dksX0_own_0 13 rfl rfl)
theorem dX0_own_15 : decode cX0_own 15 = .ok (.iconst 1, 1) := dk_4 (dk_at dksX0_own_0 15 rfl rfl)
theorem dX0_own_16 : decode cX0_own 16 = .ok (.ireturn, 1) := dk_172 (dk_at dksX0_own_0 16 rfl rfl)
theorem dX0_own_17 : decode cX0_own 17 = .ok (.iconst 0, 1) := dk_3 (dk_at dksX0_own_0 17 rfl rfl)
theorem dX0_own_18 : decode cX0_own 18 = .ok (.ireturn, 1) := dk_172 (dk_at dksX0_own_0 18 rfl rfl)
abbrev cX0_cold : ByteArray := method_14_code
def yX0_cold : MethodName := ⟨RX0, "cold", "(LCheekTown;IZ[J)I"⟩
def dkwX0_cold_1 : List UInt8 := [3, 172]
abbrev dktX0_cold_1 : List UInt8 := dkwX0_cold_1 ++ []
def dkwX0_cold_0 : List UInt8 := [45, 3, 42, 27, 28, 182, 0, 55, 153, 0, 7, 10, 167, 0, 4, 9, 80, 167, 0, 7, 58, 4, 4, 172]
abbrev dktX0_cold_0 : List UInt8 := dkwX0_cold_0 ++ dktX0_cold_1
theorem dksX0_cold_0 : cX0_cold.data.toList.drop 0 = dktX0_cold_0 := by decide +kernel
theorem dksX0_cold_1 : cX0_cold.data.toList.drop 24 = dktX0_cold_1 := dk_seg dksX0_cold_0 24 rfl rfl
theorem dX0_cold_0 : decode cX0_cold 0 = .ok (.aload_n 3, 1) := dk_45 (dk_at dksX0_cold_0 0 rfl rfl)
theorem dX0_cold_1 : decode cX0_cold 1 = .ok (.iconst 0, 1) := dk_3 (dk_at dksX0_cold_0 1 rfl rfl)
theorem dX0_cold_2 : decode cX0_cold 2 = .ok (.aload_n 0, 1) := dk_42 (dk_at dksX0_cold_0 2 rfl rfl)
theorem dX0_cold_3 : decode cX0_cold 3 = .ok (.iload_n 1, 1) := dk_27 (dk_at dksX0_cold_0 3 rfl rfl)
theorem dX0_cold_4 : decode cX0_cold 4 = .ok (.iload_n 2, 1) := dk_28 (dk_at dksX0_cold_0 4 rfl rfl)
theorem dX0_cold_5 : decode cX0_cold 5 = .ok (.invokevirtual 55, 3) := dk_182 0 55 (dk_at dksX0_cold_0 5 rfl rfl)
theorem dX0_cold_8 : decode cX0_cold 8 = .ok (.ifCond .eq 7, 3) := dk_153 0 7 (dk_at dksX0_cold_0 8 rfl rfl)
theorem dX0_cold_11 : decode cX0_cold 11 = .ok (.lconst 1, 1) := dk_10 (dk_at dksX0_cold_0 11 rfl rfl)
theorem dX0_cold_12 : decode cX0_cold 12 = .ok (.goto 4, 3) := dk_167 0 4 (dk_at dksX0_cold_0 12 rfl rfl)
theorem dX0_cold_15 : decode cX0_cold 15 = .ok (.lconst 0, 1) := dk_9 (dk_at dksX0_cold_0 15 rfl rfl)
theorem dX0_cold_16 : decode cX0_cold 16 = .ok (.lastore, 1) := dk_80 (dk_at dksX0_cold_0 16 rfl rfl)
theorem dX0_cold_17 : decode cX0_cold 17 = .ok (.goto 7, 3) := dk_167 0 7 (dk_at dksX0_cold_0 17 rfl rfl)
theorem dX0_cold_20 : decode cX0_cold 20 = .ok (.astore 4, 2) := dk_58 4 (dk_at dksX0_cold_0 20 rfl rfl)
theorem dX0_cold_22 : decode cX0_cold 22 = .ok (.iconst 1, 1) := dk_4 (dk_at dksX0_cold_0 22 rfl rfl)
theorem dX0_cold_23 : decode cX0_cold 23 = .ok (.ireturn, 1) := dk_172 (dk_at dksX0_cold_0 23 rfl rfl)
theorem dX0_cold_24 : decode cX0_cold 24 = .ok (.iconst 0, 1) := dk_3 (dk_at dksX0_cold_1 0 rfl rfl)
theorem dX0_cold_25 : decode cX0_cold 25 = .ok (.ireturn, 1) := dk_172 (dk_at dksX0_cold_1 1 rfl rfl)
abbrev cX0_ties : ByteArray := method_15_code
def yX0_ties : MethodName := ⟨RX0, "ties", "(LCheekTown;II[J)I"⟩
def dkwX0_ties_1 : List UInt8 := [172, 58, 4, 7, 172, 3, 172]
abbrev dktX0_ties_1 : List UInt8 := dkwX0_ties_1 ++ []
def dkwX0_ties_0 : List UInt8 := [45, 3, 42, 27, 28, 182, 0, 59, 133, 80, 167, 0, 19, 58, 4, 4, 172, 58, 4, 5, 172, 58, 4, 6]
abbrev dktX0_ties_0 : List UInt8 := dkwX0_ties_0 ++ dktX0_ties_1
theorem dksX0_ties_0 : cX0_ties.data.toList.drop 0 = dktX0_ties_0 := by decide +kernel
theorem dksX0_ties_1 : cX0_ties.data.toList.drop 24 = dktX0_ties_1 := dk_seg dksX0_ties_0 24 rfl rfl
theorem dX0_ties_0 : decode cX0_ties 0 = .ok (.aload_n 3, 1) := dk_45 (dk_at dksX0_ties_0 0 rfl rfl)
theorem dX0_ties_1 : decode cX0_ties 1 = .ok (.iconst 0, 1) := dk_3 (dk_at dksX0_ties_0 1 rfl rfl)
theorem dX0_ties_2 : decode cX0_ties 2 = .ok (.aload_n 0, 1) := dk_42 (dk_at dksX0_ties_0 2 rfl rfl)
theorem dX0_ties_3 : decode cX0_ties 3 = .ok (.iload_n 1, 1) := dk_27 (dk_at dksX0_ties_0 3 rfl rfl)
theorem dX0_ties_4 : decode cX0_ties 4 = .ok (.iload_n 2, 1) := dk_28 (dk_at dksX0_ties_0 4 rfl rfl)
theorem dX0_ties_5 : decode cX0_ties 5 = .ok (.invokevirtual 59, 3) := dk_182 0 59 (dk_at dksX0_ties_0 5 rfl rfl)
theorem dX0_ties_8 : decode cX0_ties 8 = .ok (.i2l, 1) := dk_133 (dk_at dksX0_ties_0 8 rfl rfl)
theorem dX0_ties_9 : decode cX0_ties 9 = .ok (.lastore, 1) := dk_80 (dk_at dksX0_ties_0 9 rfl rfl)
theorem dX0_ties_10 : decode cX0_ties 10 = .ok (.goto 19, 3) := dk_167 0 19 (dk_at dksX0_ties_0 10 rfl rfl)
theorem dX0_ties_13 : decode cX0_ties 13 = .ok (.astore 4, 2) := dk_58 4 (dk_at dksX0_ties_0 13 rfl rfl)
theorem dX0_ties_15 : decode cX0_ties 15 = .ok (.iconst 1, 1) := dk_4 (dk_at dksX0_ties_0 15 rfl rfl)
theorem dX0_ties_16 : decode cX0_ties 16 = .ok (.ireturn, 1) := dk_172 (dk_at dksX0_ties_0 16 rfl rfl)
theorem dX0_ties_17 : decode cX0_ties 17 = .ok (.astore 4, 2) := dk_58 4 (dk_at dksX0_ties_0 17 rfl rfl)
theorem dX0_ties_19 : decode cX0_ties 19 = .ok (.iconst 2, 1) := dk_5 (dk_at dksX0_ties_0 19 rfl rfl)
theorem dX0_ties_20 : decode cX0_ties 20 = .ok (.ireturn, 1) := dk_172 (dk_at dksX0_ties_0 20 rfl rfl)
theorem dX0_ties_21 : decode cX0_ties 21 = .ok (.astore 4, 2) := dk_58 4 (dk_at dksX0_ties_0 21 rfl rfl)
theorem dX0_ties_23 : decode cX0_ties 23 = .ok (.iconst 3, 1) := dk_6 (dk_at dksX0_ties_0 23 rfl rfl)
theorem dX0_ties_24 : decode cX0_ties 24 = .ok (.ireturn, 1) := dk_172 (dk_at dksX0_ties_1 0 rfl rfl)
theorem dX0_ties_25 : decode cX0_ties 25 = .ok (.astore 4, 2) := dk_58 4 (dk_at dksX0_ties_1 1 rfl rfl)
theorem dX0_ties_27 : decode cX0_ties 27 = .ok (.iconst 4, 1) := dk_7 (dk_at dksX0_ties_1 3 rfl rfl)
theorem dX0_ties_28 : decode cX0_ties 28 = .ok (.ireturn, 1) := dk_172 (dk_at dksX0_ties_1 4 rfl rfl)
theorem dX0_ties_29 : decode cX0_ties 29 = .ok (.iconst 0, 1) := dk_3 (dk_at dksX0_ties_1 5 rfl rfl)
theorem dX0_ties_30 : decode cX0_ties 30 = .ok (.ireturn, 1) := dk_172 (dk_at dksX0_ties_1 6 rfl rfl)
abbrev cX0_cut : ByteArray := method_16_code
def yX0_cut : MethodName := ⟨RX0, "cut", "(LCheekTown;I[J)I"⟩
def dkwX0_cut_0 : List UInt8 := [44, 3, 42, 27, 182, 0, 64, 133, 80, 167, 0, 6, 78, 4, 172, 3, 172]
abbrev dktX0_cut_0 : List UInt8 := dkwX0_cut_0 ++ []
theorem dksX0_cut_0 : cX0_cut.data.toList.drop 0 = dktX0_cut_0 := by decide +kernel
theorem dX0_cut_0 : decode cX0_cut 0 = .ok (.aload_n 2, 1) := dk_44 (dk_at dksX0_cut_0 0 rfl rfl)
theorem dX0_cut_1 : decode cX0_cut 1 = .ok (.iconst 0, 1) := dk_3 (dk_at dksX0_cut_0 1 rfl rfl)
theorem dX0_cut_2 : decode cX0_cut 2 = .ok (.aload_n 0, 1) := dk_42 (dk_at dksX0_cut_0 2 rfl rfl)
theorem dX0_cut_3 : decode cX0_cut 3 = .ok (.iload_n 1, 1) := dk_27 (dk_at dksX0_cut_0 3 rfl rfl)
theorem dX0_cut_4 : decode cX0_cut 4 = .ok (.invokevirtual 64, 3) := dk_182 0 64 (dk_at dksX0_cut_0 4 rfl rfl)
theorem dX0_cut_7 : decode cX0_cut 7 = .ok (.i2l, 1) := dk_133 (dk_at dksX0_cut_0 7 rfl rfl)
theorem dX0_cut_8 : decode cX0_cut 8 = .ok (.lastore, 1) := dk_80 (dk_at dksX0_cut_0 8 rfl rfl)
theorem dX0_cut_9 : decode cX0_cut 9 = .ok (.goto 6, 3) := dk_167 0 6 (dk_at dksX0_cut_0 9 rfl rfl)
theorem dX0_cut_12 : decode cX0_cut 12 = .ok (.astore_n 3, 1) := dk_78 (dk_at dksX0_cut_0 12 rfl rfl)
theorem dX0_cut_13 : decode cX0_cut 13 = .ok (.iconst 1, 1) := dk_4 (dk_at dksX0_cut_0 13 rfl rfl)
theorem dX0_cut_14 : decode cX0_cut 14 = .ok (.ireturn, 1) := dk_172 (dk_at dksX0_cut_0 14 rfl rfl)
theorem dX0_cut_15 : decode cX0_cut 15 = .ok (.iconst 0, 1) := dk_3 (dk_at dksX0_cut_0 15 rfl rfl)
theorem dX0_cut_16 : decode cX0_cut 16 = .ok (.ireturn, 1) := dk_172 (dk_at dksX0_cut_0 16 rfl rfl)
abbrev cX0_feast : ByteArray := method_17_code
def yX0_feast : MethodName := ⟨RX0, "feast", "(LCheekTown;II[J)I"⟩
def dkwX0_feast_0 : List UInt8 := [45, 3, 42, 27, 28, 182, 0, 67, 133, 80, 167, 0, 7, 58, 4, 4, 172, 3, 172]
abbrev dktX0_feast_0 : List UInt8 := dkwX0_feast_0 ++ []
theorem dksX0_feast_0 : cX0_feast.data.toList.drop 0 = dktX0_feast_0 := by decide +kernel
theorem dX0_feast_0 : decode cX0_feast 0 = .ok (.aload_n 3, 1) := dk_45 (dk_at dksX0_feast_0 0 rfl rfl)
theorem dX0_feast_1 : decode cX0_feast 1 = .ok (.iconst 0, 1) := dk_3 (dk_at dksX0_feast_0 1 rfl rfl)
theorem dX0_feast_2 : decode cX0_feast 2 = .ok (.aload_n 0, 1) := dk_42 (dk_at dksX0_feast_0 2 rfl rfl)
theorem dX0_feast_3 : decode cX0_feast 3 = .ok (.iload_n 1, 1) := dk_27 (dk_at dksX0_feast_0 3 rfl rfl)
theorem dX0_feast_4 : decode cX0_feast 4 = .ok (.iload_n 2, 1) := dk_28 (dk_at dksX0_feast_0 4 rfl rfl)
theorem dX0_feast_5 : decode cX0_feast 5 = .ok (.invokevirtual 67, 3) := dk_182 0 67 (dk_at dksX0_feast_0 5 rfl rfl)
theorem dX0_feast_8 : decode cX0_feast 8 = .ok (.i2l, 1) := dk_133 (dk_at dksX0_feast_0 8 rfl rfl)
theorem dX0_feast_9 : decode cX0_feast 9 = .ok (.lastore, 1) := dk_80 (dk_at dksX0_feast_0 9 rfl rfl)
theorem dX0_feast_10 : decode cX0_feast 10 = .ok (.goto 7, 3) := dk_167 0 7 (dk_at dksX0_feast_0 10 rfl rfl)
theorem dX0_feast_13 : decode cX0_feast 13 = .ok (.astore 4, 2) := dk_58 4 (dk_at dksX0_feast_0 13 rfl rfl)
theorem dX0_feast_15 : decode cX0_feast 15 = .ok (.iconst 1, 1) := dk_4 (dk_at dksX0_feast_0 15 rfl rfl)
theorem dX0_feast_16 : decode cX0_feast 16 = .ok (.ireturn, 1) := dk_172 (dk_at dksX0_feast_0 16 rfl rfl)
theorem dX0_feast_17 : decode cX0_feast 17 = .ok (.iconst 0, 1) := dk_3 (dk_at dksX0_feast_0 17 rfl rfl)
theorem dX0_feast_18 : decode cX0_feast 18 = .ok (.ireturn, 1) := dk_172 (dk_at dksX0_feast_0 18 rfl rfl)
abbrev cX0_expected : ByteArray := method_18_code
def yX0_expected : MethodName := ⟨RX0, "expected", "(LCheekTown;II[J)I"⟩
def dkwX0_expected_0 : List UInt8 := [45, 3, 42, 27, 28, 182, 0, 70, 133, 80, 167, 0, 7, 58, 4, 4, 172, 3, 172]
abbrev dktX0_expected_0 : List UInt8 := dkwX0_expected_0 ++ []
theorem dksX0_expected_0 : cX0_expected.data.toList.drop 0 = dktX0_expected_0 := by decide +kernel
theorem dX0_expected_0 : decode cX0_expected 0 = .ok (.aload_n 3, 1) := dk_45 (dk_at dksX0_expected_0 0 rfl rfl)
theorem dX0_expected_1 : decode cX0_expected 1 = .ok (.iconst 0, 1) := dk_3 (dk_at dksX0_expected_0 1 rfl rfl)
theorem dX0_expected_2 : decode cX0_expected 2 = .ok (.aload_n 0, 1) := dk_42 (dk_at dksX0_expected_0 2 rfl rfl)
theorem dX0_expected_3 : decode cX0_expected 3 = .ok (.iload_n 1, 1) := dk_27 (dk_at dksX0_expected_0 3 rfl rfl)
theorem dX0_expected_4 : decode cX0_expected 4 = .ok (.iload_n 2, 1) := dk_28 (dk_at dksX0_expected_0 4 rfl rfl)
theorem dX0_expected_5 : decode cX0_expected 5 = .ok (.invokevirtual 70, 3) := dk_182 0 70 (dk_at dksX0_expected_0 5 rfl rfl)
theorem dX0_expected_8 : decode cX0_expected 8 = .ok (.i2l, 1) := dk_133 (dk_at dksX0_expected_0 8 rfl rfl)
theorem dX0_expected_9 : decode cX0_expected 9 = .ok (.lastore, 1) := dk_80 (dk_at dksX0_expected_0 9 rfl rfl)
theorem dX0_expected_10 : decode cX0_expected 10 = .ok (.goto 7, 3) := dk_167 0 7 (dk_at dksX0_expected_0 10 rfl rfl)
theorem dX0_expected_13 : decode cX0_expected 13 = .ok (.astore 4, 2) := dk_58 4 (dk_at dksX0_expected_0 13 rfl rfl)
theorem dX0_expected_15 : decode cX0_expected 15 = .ok (.iconst 1, 1) := dk_4 (dk_at dksX0_expected_0 15 rfl rfl)
theorem dX0_expected_16 : decode cX0_expected 16 = .ok (.ireturn, 1) := dk_172 (dk_at dksX0_expected_0 16 rfl rfl)
theorem dX0_expected_17 : decode cX0_expected 17 = .ok (.iconst 0, 1) := dk_3 (dk_at dksX0_expected_0 17 rfl rfl)
theorem dX0_expected_18 : decode cX0_expected 18 = .ok (.ireturn, 1) := dk_172 (dk_at dksX0_expected_0 18 rfl rfl)
abbrev cX0_best : ByteArray := method_19_code
def yX0_best : MethodName := ⟨RX0, "best", "(LCheekTown;I[J)I"⟩
def dkwX0_best_0 : List UInt8 := [44, 3, 42, 27, 182, 0, 73, 133, 80, 167, 0, 6, 78, 4, 172, 3, 172]
abbrev dktX0_best_0 : List UInt8 := dkwX0_best_0 ++ []
theorem dksX0_best_0 : cX0_best.data.toList.drop 0 = dktX0_best_0 := by decide +kernel
theorem dX0_best_0 : decode cX0_best 0 = .ok (.aload_n 2, 1) := dk_44 (dk_at dksX0_best_0 0 rfl rfl)
theorem dX0_best_1 : decode cX0_best 1 = .ok (.iconst 0, 1) := dk_3 (dk_at dksX0_best_0 1 rfl rfl)
theorem dX0_best_2 : decode cX0_best 2 = .ok (.aload_n 0, 1) := dk_42 (dk_at dksX0_best_0 2 rfl rfl)
theorem dX0_best_3 : decode cX0_best 3 = .ok (.iload_n 1, 1) := dk_27 (dk_at dksX0_best_0 3 rfl rfl)
theorem dX0_best_4 : decode cX0_best 4 = .ok (.invokevirtual 73, 3) := dk_182 0 73 (dk_at dksX0_best_0 4 rfl rfl)
theorem dX0_best_7 : decode cX0_best 7 = .ok (.i2l, 1) := dk_133 (dk_at dksX0_best_0 7 rfl rfl)
theorem dX0_best_8 : decode cX0_best 8 = .ok (.lastore, 1) := dk_80 (dk_at dksX0_best_0 8 rfl rfl)
theorem dX0_best_9 : decode cX0_best 9 = .ok (.goto 6, 3) := dk_167 0 6 (dk_at dksX0_best_0 9 rfl rfl)
theorem dX0_best_12 : decode cX0_best 12 = .ok (.astore_n 3, 1) := dk_78 (dk_at dksX0_best_0 12 rfl rfl)
theorem dX0_best_13 : decode cX0_best 13 = .ok (.iconst 1, 1) := dk_4 (dk_at dksX0_best_0 13 rfl rfl)
theorem dX0_best_14 : decode cX0_best 14 = .ok (.ireturn, 1) := dk_172 (dk_at dksX0_best_0 14 rfl rfl)
theorem dX0_best_15 : decode cX0_best 15 = .ok (.iconst 0, 1) := dk_3 (dk_at dksX0_best_0 15 rfl rfl)
theorem dX0_best_16 : decode cX0_best 16 = .ok (.ireturn, 1) := dk_172 (dk_at dksX0_best_0 16 rfl rfl)
abbrev cX0_odds : ByteArray := method_20_code
def yX0_odds : MethodName := ⟨RX0, "odds", "(LCheekTown;II[J)I"⟩
def dkwX0_odds_0 : List UInt8 := [45, 3, 42, 27, 28, 182, 0, 76, 133, 80, 167, 0, 7, 58, 4, 4, 172, 3, 172]
abbrev dktX0_odds_0 : List UInt8 := dkwX0_odds_0 ++ []
theorem dksX0_odds_0 : cX0_odds.data.toList.drop 0 = dktX0_odds_0 := by decide +kernel
theorem dX0_odds_0 : decode cX0_odds 0 = .ok (.aload_n 3, 1) := dk_45 (dk_at dksX0_odds_0 0 rfl rfl)
theorem dX0_odds_1 : decode cX0_odds 1 = .ok (.iconst 0, 1) := dk_3 (dk_at dksX0_odds_0 1 rfl rfl)
theorem dX0_odds_2 : decode cX0_odds 2 = .ok (.aload_n 0, 1) := dk_42 (dk_at dksX0_odds_0 2 rfl rfl)
theorem dX0_odds_3 : decode cX0_odds 3 = .ok (.iload_n 1, 1) := dk_27 (dk_at dksX0_odds_0 3 rfl rfl)
theorem dX0_odds_4 : decode cX0_odds 4 = .ok (.iload_n 2, 1) := dk_28 (dk_at dksX0_odds_0 4 rfl rfl)
theorem dX0_odds_5 : decode cX0_odds 5 = .ok (.invokevirtual 76, 3) := dk_182 0 76 (dk_at dksX0_odds_0 5 rfl rfl)
theorem dX0_odds_8 : decode cX0_odds 8 = .ok (.i2l, 1) := dk_133 (dk_at dksX0_odds_0 8 rfl rfl)
theorem dX0_odds_9 : decode cX0_odds 9 = .ok (.lastore, 1) := dk_80 (dk_at dksX0_odds_0 9 rfl rfl)
theorem dX0_odds_10 : decode cX0_odds 10 = .ok (.goto 7, 3) := dk_167 0 7 (dk_at dksX0_odds_0 10 rfl rfl)
theorem dX0_odds_13 : decode cX0_odds 13 = .ok (.astore 4, 2) := dk_58 4 (dk_at dksX0_odds_0 13 rfl rfl)
theorem dX0_odds_15 : decode cX0_odds 15 = .ok (.iconst 1, 1) := dk_4 (dk_at dksX0_odds_0 15 rfl rfl)
theorem dX0_odds_16 : decode cX0_odds 16 = .ok (.ireturn, 1) := dk_172 (dk_at dksX0_odds_0 16 rfl rfl)
theorem dX0_odds_17 : decode cX0_odds 17 = .ok (.iconst 0, 1) := dk_3 (dk_at dksX0_odds_0 17 rfl rfl)
theorem dX0_odds_18 : decode cX0_odds 18 = .ok (.ireturn, 1) := dk_172 (dk_at dksX0_odds_0 18 rfl rfl)
abbrev cX0_from : ByteArray := method_21_code
def yX0_from : MethodName := ⟨RX0, "from", "(LCheekTown;Z[J)I"⟩
def dkwX0_from_0 : List UInt8 := [44, 3, 42, 27, 182, 0, 79, 133, 80, 167, 0, 6, 78, 4, 172, 3, 172]
abbrev dktX0_from_0 : List UInt8 := dkwX0_from_0 ++ []
theorem dksX0_from_0 : cX0_from.data.toList.drop 0 = dktX0_from_0 := by decide +kernel
theorem dX0_from_0 : decode cX0_from 0 = .ok (.aload_n 2, 1) := dk_44 (dk_at dksX0_from_0 0 rfl rfl)
theorem dX0_from_1 : decode cX0_from 1 = .ok (.iconst 0, 1) := dk_3 (dk_at dksX0_from_0 1 rfl rfl)
theorem dX0_from_2 : decode cX0_from 2 = .ok (.aload_n 0, 1) := dk_42 (dk_at dksX0_from_0 2 rfl rfl)
theorem dX0_from_3 : decode cX0_from 3 = .ok (.iload_n 1, 1) := dk_27 (dk_at dksX0_from_0 3 rfl rfl)
theorem dX0_from_4 : decode cX0_from 4 = .ok (.invokevirtual 79, 3) := dk_182 0 79 (dk_at dksX0_from_0 4 rfl rfl)
theorem dX0_from_7 : decode cX0_from 7 = .ok (.i2l, 1) := dk_133 (dk_at dksX0_from_0 7 rfl rfl)
theorem dX0_from_8 : decode cX0_from 8 = .ok (.lastore, 1) := dk_80 (dk_at dksX0_from_0 8 rfl rfl)
theorem dX0_from_9 : decode cX0_from 9 = .ok (.goto 6, 3) := dk_167 0 6 (dk_at dksX0_from_0 9 rfl rfl)
theorem dX0_from_12 : decode cX0_from 12 = .ok (.astore_n 3, 1) := dk_78 (dk_at dksX0_from_0 12 rfl rfl)
theorem dX0_from_13 : decode cX0_from 13 = .ok (.iconst 1, 1) := dk_4 (dk_at dksX0_from_0 13 rfl rfl)
theorem dX0_from_14 : decode cX0_from 14 = .ok (.ireturn, 1) := dk_172 (dk_at dksX0_from_0 14 rfl rfl)
theorem dX0_from_15 : decode cX0_from 15 = .ok (.iconst 0, 1) := dk_3 (dk_at dksX0_from_0 15 rfl rfl)
theorem dX0_from_16 : decode cX0_from 16 = .ok (.ireturn, 1) := dk_172 (dk_at dksX0_from_0 16 rfl rfl)
abbrev cX0_rests : ByteArray := method_22_code
def yX0_rests : MethodName := ⟨RX0, "rests", "(LCheekTown;II[J)I"⟩
def dkwX0_rests_0 : List UInt8 := [45, 3, 42, 27, 28, 182, 0, 83, 133, 80, 167, 0, 11, 58, 4, 4, 172, 58, 4, 5, 172, 3, 172]
abbrev dktX0_rests_0 : List UInt8 := dkwX0_rests_0 ++ []
theorem dksX0_rests_0 : cX0_rests.data.toList.drop 0 = dktX0_rests_0 := by decide +kernel
theorem dX0_rests_0 : decode cX0_rests 0 = .ok (.aload_n 3, 1) := dk_45 (dk_at dksX0_rests_0 0 rfl rfl)
theorem dX0_rests_1 : decode cX0_rests 1 = .ok (.iconst 0, 1) := dk_3 (dk_at dksX0_rests_0 1 rfl rfl)
theorem dX0_rests_2 : decode cX0_rests 2 = .ok (.aload_n 0, 1) := dk_42 (dk_at dksX0_rests_0 2 rfl rfl)
theorem dX0_rests_3 : decode cX0_rests 3 = .ok (.iload_n 1, 1) := dk_27 (dk_at dksX0_rests_0 3 rfl rfl)
theorem dX0_rests_4 : decode cX0_rests 4 = .ok (.iload_n 2, 1) := dk_28 (dk_at dksX0_rests_0 4 rfl rfl)
theorem dX0_rests_5 : decode cX0_rests 5 = .ok (.invokevirtual 83, 3) := dk_182 0 83 (dk_at dksX0_rests_0 5 rfl rfl)
theorem dX0_rests_8 : decode cX0_rests 8 = .ok (.i2l, 1) := dk_133 (dk_at dksX0_rests_0 8 rfl rfl)
theorem dX0_rests_9 : decode cX0_rests 9 = .ok (.lastore, 1) := dk_80 (dk_at dksX0_rests_0 9 rfl rfl)
theorem dX0_rests_10 : decode cX0_rests 10 = .ok (.goto 11, 3) := dk_167 0 11 (dk_at dksX0_rests_0 10 rfl rfl)
theorem dX0_rests_13 : decode cX0_rests 13 = .ok (.astore 4, 2) := dk_58 4 (dk_at dksX0_rests_0 13 rfl rfl)
theorem dX0_rests_15 : decode cX0_rests 15 = .ok (.iconst 1, 1) := dk_4 (dk_at dksX0_rests_0 15 rfl rfl)
theorem dX0_rests_16 : decode cX0_rests 16 = .ok (.ireturn, 1) := dk_172 (dk_at dksX0_rests_0 16 rfl rfl)
theorem dX0_rests_17 : decode cX0_rests 17 = .ok (.astore 4, 2) := dk_58 4 (dk_at dksX0_rests_0 17 rfl rfl)
theorem dX0_rests_19 : decode cX0_rests 19 = .ok (.iconst 2, 1) := dk_5 (dk_at dksX0_rests_0 19 rfl rfl)
theorem dX0_rests_20 : decode cX0_rests 20 = .ok (.ireturn, 1) := dk_172 (dk_at dksX0_rests_0 20 rfl rfl)
theorem dX0_rests_21 : decode cX0_rests 21 = .ok (.iconst 0, 1) := dk_3 (dk_at dksX0_rests_0 21 rfl rfl)
theorem dX0_rests_22 : decode cX0_rests 22 = .ok (.ireturn, 1) := dk_172 (dk_at dksX0_rests_0 22 rfl rfl)
abbrev cX0_sake : ByteArray := method_23_code
def yX0_sake : MethodName := ⟨RX0, "sake", "(LCheekTown;IIZ[J)I"⟩
def dkwX0_sake_1 : List UInt8 := [172]
abbrev dktX0_sake_1 : List UInt8 := dkwX0_sake_1 ++ []
def dkwX0_sake_0 : List UInt8 := [25, 4, 3, 42, 27, 28, 29, 182, 0, 86, 133, 80, 167, 0, 11, 58, 5, 4, 172, 58, 5, 5, 172, 3]
abbrev dktX0_sake_0 : List UInt8 := dkwX0_sake_0 ++ dktX0_sake_1
theorem dksX0_sake_0 : cX0_sake.data.toList.drop 0 = dktX0_sake_0 := by decide +kernel
theorem dksX0_sake_1 : cX0_sake.data.toList.drop 24 = dktX0_sake_1 := dk_seg dksX0_sake_0 24 rfl rfl
theorem dX0_sake_0 : decode cX0_sake 0 = .ok (.aload 4, 2) := dk_25 4 (dk_at dksX0_sake_0 0 rfl rfl)
theorem dX0_sake_2 : decode cX0_sake 2 = .ok (.iconst 0, 1) := dk_3 (dk_at dksX0_sake_0 2 rfl rfl)
theorem dX0_sake_3 : decode cX0_sake 3 = .ok (.aload_n 0, 1) := dk_42 (dk_at dksX0_sake_0 3 rfl rfl)
theorem dX0_sake_4 : decode cX0_sake 4 = .ok (.iload_n 1, 1) := dk_27 (dk_at dksX0_sake_0 4 rfl rfl)
theorem dX0_sake_5 : decode cX0_sake 5 = .ok (.iload_n 2, 1) := dk_28 (dk_at dksX0_sake_0 5 rfl rfl)
theorem dX0_sake_6 : decode cX0_sake 6 = .ok (.iload_n 3, 1) := dk_29 (dk_at dksX0_sake_0 6 rfl rfl)
theorem dX0_sake_7 : decode cX0_sake 7 = .ok (.invokevirtual 86, 3) := dk_182 0 86 (dk_at dksX0_sake_0 7 rfl rfl)
theorem dX0_sake_10 : decode cX0_sake 10 = .ok (.i2l, 1) := dk_133 (dk_at dksX0_sake_0 10 rfl rfl)
theorem dX0_sake_11 : decode cX0_sake 11 = .ok (.lastore, 1) := dk_80 (dk_at dksX0_sake_0 11 rfl rfl)
theorem dX0_sake_12 : decode cX0_sake 12 = .ok (.goto 11, 3) := dk_167 0 11 (dk_at dksX0_sake_0 12 rfl rfl)
theorem dX0_sake_15 : decode cX0_sake 15 = .ok (.astore 5, 2) := dk_58 5 (dk_at dksX0_sake_0 15 rfl rfl)
theorem dX0_sake_17 : decode cX0_sake 17 = .ok (.iconst 1, 1) := dk_4 (dk_at dksX0_sake_0 17 rfl rfl)
theorem dX0_sake_18 : decode cX0_sake 18 = .ok (.ireturn, 1) := dk_172 (dk_at dksX0_sake_0 18 rfl rfl)
theorem dX0_sake_19 : decode cX0_sake 19 = .ok (.astore 5, 2) := dk_58 5 (dk_at dksX0_sake_0 19 rfl rfl)
theorem dX0_sake_21 : decode cX0_sake 21 = .ok (.iconst 2, 1) := dk_5 (dk_at dksX0_sake_0 21 rfl rfl)
theorem dX0_sake_22 : decode cX0_sake 22 = .ok (.ireturn, 1) := dk_172 (dk_at dksX0_sake_0 22 rfl rfl)
theorem dX0_sake_23 : decode cX0_sake 23 = .ok (.iconst 0, 1) := dk_3 (dk_at dksX0_sake_0 23 rfl rfl)
theorem dX0_sake_24 : decode cX0_sake 24 = .ok (.ireturn, 1) := dk_172 (dk_at dksX0_sake_1 0 rfl rfl)
abbrev cX0_begins : ByteArray := method_24_code
def yX0_begins : MethodName := ⟨RX0, "begins", "(LCheekTown;I[J)I"⟩
def dkwX0_begins_0 : List UInt8 := [44, 3, 42, 27, 182, 0, 89, 133, 80, 167, 0, 6, 78, 4, 172, 3, 172]
abbrev dktX0_begins_0 : List UInt8 := dkwX0_begins_0 ++ []
theorem dksX0_begins_0 : cX0_begins.data.toList.drop 0 = dktX0_begins_0 := by decide +kernel
theorem dX0_begins_0 : decode cX0_begins 0 = .ok (.aload_n 2, 1) := dk_44 (dk_at dksX0_begins_0 0 rfl rfl)
theorem dX0_begins_1 : decode cX0_begins 1 = .ok (.iconst 0, 1) := dk_3 (dk_at dksX0_begins_0 1 rfl rfl)
theorem dX0_begins_2 : decode cX0_begins 2 = .ok (.aload_n 0, 1) := dk_42 (dk_at dksX0_begins_0 2 rfl rfl)
theorem dX0_begins_3 : decode cX0_begins 3 = .ok (.iload_n 1, 1) := dk_27 (dk_at dksX0_begins_0 3 rfl rfl)
theorem dX0_begins_4 : decode cX0_begins 4 = .ok (.invokevirtual 89, 3) := dk_182 0 89 (dk_at dksX0_begins_0 4 rfl rfl)
theorem dX0_begins_7 : decode cX0_begins 7 = .ok (.i2l, 1) := dk_133 (dk_at dksX0_begins_0 7 rfl rfl)
theorem dX0_begins_8 : decode cX0_begins 8 = .ok (.lastore, 1) := dk_80 (dk_at dksX0_begins_0 8 rfl rfl)
theorem dX0_begins_9 : decode cX0_begins 9 = .ok (.goto 6, 3) := dk_167 0 6 (dk_at dksX0_begins_0 9 rfl rfl)
theorem dX0_begins_12 : decode cX0_begins 12 = .ok (.astore_n 3, 1) := dk_78 (dk_at dksX0_begins_0 12 rfl rfl)
theorem dX0_begins_13 : decode cX0_begins 13 = .ok (.iconst 1, 1) := dk_4 (dk_at dksX0_begins_0 13 rfl rfl)
theorem dX0_begins_14 : decode cX0_begins 14 = .ok (.ireturn, 1) := dk_172 (dk_at dksX0_begins_0 14 rfl rfl)
theorem dX0_begins_15 : decode cX0_begins 15 = .ok (.iconst 0, 1) := dk_3 (dk_at dksX0_begins_0 15 rfl rfl)
theorem dX0_begins_16 : decode cX0_begins 16 = .ok (.ireturn, 1) := dk_172 (dk_at dksX0_begins_0 16 rfl rfl)
abbrev cX0_after : ByteArray := method_25_code
def yX0_after : MethodName := ⟨RX0, "after", "(LCheekTown;II[J)I"⟩
def dkwX0_after_0 : List UInt8 := [45, 3, 42, 27, 28, 182, 0, 92, 133, 80, 167, 0, 11, 58, 4, 4, 172, 58, 4, 5, 172, 3, 172]
abbrev dktX0_after_0 : List UInt8 := dkwX0_after_0 ++ []
theorem dksX0_after_0 : cX0_after.data.toList.drop 0 = dktX0_after_0 := by decide +kernel
theorem dX0_after_0 : decode cX0_after 0 = .ok (.aload_n 3, 1) := dk_45 (dk_at dksX0_after_0 0 rfl rfl)
theorem dX0_after_1 : decode cX0_after 1 = .ok (.iconst 0, 1) := dk_3 (dk_at dksX0_after_0 1 rfl rfl)
theorem dX0_after_2 : decode cX0_after 2 = .ok (.aload_n 0, 1) := dk_42 (dk_at dksX0_after_0 2 rfl rfl)
theorem dX0_after_3 : decode cX0_after 3 = .ok (.iload_n 1, 1) := dk_27 (dk_at dksX0_after_0 3 rfl rfl)
theorem dX0_after_4 : decode cX0_after 4 = .ok (.iload_n 2, 1) := dk_28 (dk_at dksX0_after_0 4 rfl rfl)
theorem dX0_after_5 : decode cX0_after 5 = .ok (.invokevirtual 92, 3) := dk_182 0 92 (dk_at dksX0_after_0 5 rfl rfl)
theorem dX0_after_8 : decode cX0_after 8 = .ok (.i2l, 1) := dk_133 (dk_at dksX0_after_0 8 rfl rfl)
theorem dX0_after_9 : decode cX0_after 9 = .ok (.lastore, 1) := dk_80 (dk_at dksX0_after_0 9 rfl rfl)
theorem dX0_after_10 : decode cX0_after 10 = .ok (.goto 11, 3) := dk_167 0 11 (dk_at dksX0_after_0 10 rfl rfl)
theorem dX0_after_13 : decode cX0_after 13 = .ok (.astore 4, 2) := dk_58 4 (dk_at dksX0_after_0 13 rfl rfl)
theorem dX0_after_15 : decode cX0_after 15 = .ok (.iconst 1, 1) := dk_4 (dk_at dksX0_after_0 15 rfl rfl)
theorem dX0_after_16 : decode cX0_after 16 = .ok (.ireturn, 1) := dk_172 (dk_at dksX0_after_0 16 rfl rfl)
theorem dX0_after_17 : decode cX0_after 17 = .ok (.astore 4, 2) := dk_58 4 (dk_at dksX0_after_0 17 rfl rfl)
theorem dX0_after_19 : decode cX0_after 19 = .ok (.iconst 2, 1) := dk_5 (dk_at dksX0_after_0 19 rfl rfl)
theorem dX0_after_20 : decode cX0_after 20 = .ok (.ireturn, 1) := dk_172 (dk_at dksX0_after_0 20 rfl rfl)
theorem dX0_after_21 : decode cX0_after 21 = .ok (.iconst 0, 1) := dk_3 (dk_at dksX0_after_0 21 rfl rfl)
theorem dX0_after_22 : decode cX0_after 22 = .ok (.ireturn, 1) := dk_172 (dk_at dksX0_after_0 22 rfl rfl)
abbrev cX0_custom : ByteArray := method_26_code
def yX0_custom : MethodName := ⟨RX0, "custom", "(LCheekTown;II[J)I"⟩
def dkwX0_custom_0 : List UInt8 := [45, 3, 42, 27, 28, 182, 0, 95, 133, 80, 167, 0, 11, 58, 4, 4, 172, 58, 4, 5, 172, 3, 172]
abbrev dktX0_custom_0 : List UInt8 := dkwX0_custom_0 ++ []
theorem dksX0_custom_0 : cX0_custom.data.toList.drop 0 = dktX0_custom_0 := by decide +kernel
theorem dX0_custom_0 : decode cX0_custom 0 = .ok (.aload_n 3, 1) := dk_45 (dk_at dksX0_custom_0 0 rfl rfl)
theorem dX0_custom_1 : decode cX0_custom 1 = .ok (.iconst 0, 1) := dk_3 (dk_at dksX0_custom_0 1 rfl rfl)
theorem dX0_custom_2 : decode cX0_custom 2 = .ok (.aload_n 0, 1) := dk_42 (dk_at dksX0_custom_0 2 rfl rfl)
theorem dX0_custom_3 : decode cX0_custom 3 = .ok (.iload_n 1, 1) := dk_27 (dk_at dksX0_custom_0 3 rfl rfl)
theorem dX0_custom_4 : decode cX0_custom 4 = .ok (.iload_n 2, 1) := dk_28 (dk_at dksX0_custom_0 4 rfl rfl)
theorem dX0_custom_5 : decode cX0_custom 5 = .ok (.invokevirtual 95, 3) := dk_182 0 95 (dk_at dksX0_custom_0 5 rfl rfl)
theorem dX0_custom_8 : decode cX0_custom 8 = .ok (.i2l, 1) := dk_133 (dk_at dksX0_custom_0 8 rfl rfl)
theorem dX0_custom_9 : decode cX0_custom 9 = .ok (.lastore, 1) := dk_80 (dk_at dksX0_custom_0 9 rfl rfl)
theorem dX0_custom_10 : decode cX0_custom 10 = .ok (.goto 11, 3) := dk_167 0 11 (dk_at dksX0_custom_0 10 rfl rfl)
theorem dX0_custom_13 : decode cX0_custom 13 = .ok (.astore 4, 2) := dk_58 4 (dk_at dksX0_custom_0 13 rfl rfl)
theorem dX0_custom_15 : decode cX0_custom 15 = .ok (.iconst 1, 1) := dk_4 (dk_at dksX0_custom_0 15 rfl rfl)
theorem dX0_custom_16 : decode cX0_custom 16 = .ok (.ireturn, 1) := dk_172 (dk_at dksX0_custom_0 16 rfl rfl)
theorem dX0_custom_17 : decode cX0_custom 17 = .ok (.astore 4, 2) := dk_58 4 (dk_at dksX0_custom_0 17 rfl rfl)
theorem dX0_custom_19 : decode cX0_custom 19 = .ok (.iconst 2, 1) := dk_5 (dk_at dksX0_custom_0 19 rfl rfl)
theorem dX0_custom_20 : decode cX0_custom 20 = .ok (.ireturn, 1) := dk_172 (dk_at dksX0_custom_0 20 rfl rfl)
theorem dX0_custom_21 : decode cX0_custom 21 = .ok (.iconst 0, 1) := dk_3 (dk_at dksX0_custom_0 21 rfl rfl)
theorem dX0_custom_22 : decode cX0_custom 22 = .ok (.ireturn, 1) := dk_172 (dk_at dksX0_custom_0 22 rfl rfl)
abbrev cX0_told : ByteArray := method_27_code
def yX0_told : MethodName := ⟨RX0, "told", "(LCheekTown;II[J)I"⟩
def dkwX0_told_0 : List UInt8 := [45, 3, 42, 27, 28, 182, 0, 98, 133, 80, 167, 0, 11, 58, 4, 4, 172, 58, 4, 5, 172, 3, 172]
abbrev dktX0_told_0 : List UInt8 := dkwX0_told_0 ++ []
theorem dksX0_told_0 : cX0_told.data.toList.drop 0 = dktX0_told_0 := by decide +kernel
theorem dX0_told_0 : decode cX0_told 0 = .ok (.aload_n 3, 1) := dk_45 (dk_at dksX0_told_0 0 rfl rfl)
theorem dX0_told_1 : decode cX0_told 1 = .ok (.iconst 0, 1) := dk_3 (dk_at dksX0_told_0 1 rfl rfl)
theorem dX0_told_2 : decode cX0_told 2 = .ok (.aload_n 0, 1) := dk_42 (dk_at dksX0_told_0 2 rfl rfl)
theorem dX0_told_3 : decode cX0_told 3 = .ok (.iload_n 1, 1) := dk_27 (dk_at dksX0_told_0 3 rfl rfl)
theorem dX0_told_4 : decode cX0_told 4 = .ok (.iload_n 2, 1) := dk_28 (dk_at dksX0_told_0 4 rfl rfl)
theorem dX0_told_5 : decode cX0_told 5 = .ok (.invokevirtual 98, 3) := dk_182 0 98 (dk_at dksX0_told_0 5 rfl rfl)
theorem dX0_told_8 : decode cX0_told 8 = .ok (.i2l, 1) := dk_133 (dk_at dksX0_told_0 8 rfl rfl)
theorem dX0_told_9 : decode cX0_told 9 = .ok (.lastore, 1) := dk_80 (dk_at dksX0_told_0 9 rfl rfl)
theorem dX0_told_10 : decode cX0_told 10 = .ok (.goto 11, 3) := dk_167 0 11 (dk_at dksX0_told_0 10 rfl rfl)
theorem dX0_told_13 : decode cX0_told 13 = .ok (.astore 4, 2) := dk_58 4 (dk_at dksX0_told_0 13 rfl rfl)
theorem dX0_told_15 : decode cX0_told 15 = .ok (.iconst 1, 1) := dk_4 (dk_at dksX0_told_0 15 rfl rfl)
theorem dX0_told_16 : decode cX0_told 16 = .ok (.ireturn, 1) := dk_172 (dk_at dksX0_told_0 16 rfl rfl)
theorem dX0_told_17 : decode cX0_told 17 = .ok (.astore 4, 2) := dk_58 4 (dk_at dksX0_told_0 17 rfl rfl)
theorem dX0_told_19 : decode cX0_told 19 = .ok (.iconst 2, 1) := dk_5 (dk_at dksX0_told_0 19 rfl rfl)
theorem dX0_told_20 : decode cX0_told 20 = .ok (.ireturn, 1) := dk_172 (dk_at dksX0_told_0 20 rfl rfl)
theorem dX0_told_21 : decode cX0_told 21 = .ok (.iconst 0, 1) := dk_3 (dk_at dksX0_told_0 21 rfl rfl)
theorem dX0_told_22 : decode cX0_told 22 = .ok (.ireturn, 1) := dk_172 (dk_at dksX0_told_0 22 rfl rfl)
abbrev cX0_colds : ByteArray := method_28_code
def yX0_colds : MethodName := ⟨RX0, "colds", "(LCheekTown;II[J)I"⟩
def dkwX0_colds_0 : List UInt8 := [45, 3, 42, 27, 28, 182, 0, 101, 133, 80, 167, 0, 7, 58, 4, 4, 172, 3, 172]
abbrev dktX0_colds_0 : List UInt8 := dkwX0_colds_0 ++ []
theorem dksX0_colds_0 : cX0_colds.data.toList.drop 0 = dktX0_colds_0 := by decide +kernel
theorem dX0_colds_0 : decode cX0_colds 0 = .ok (.aload_n 3, 1) := dk_45 (dk_at dksX0_colds_0 0 rfl rfl)
theorem dX0_colds_1 : decode cX0_colds 1 = .ok (.iconst 0, 1) := dk_3 (dk_at dksX0_colds_0 1 rfl rfl)
theorem dX0_colds_2 : decode cX0_colds 2 = .ok (.aload_n 0, 1) := dk_42 (dk_at dksX0_colds_0 2 rfl rfl)
theorem dX0_colds_3 : decode cX0_colds 3 = .ok (.iload_n 1, 1) := dk_27 (dk_at dksX0_colds_0 3 rfl rfl)
theorem dX0_colds_4 : decode cX0_colds 4 = .ok (.iload_n 2, 1) := dk_28 (dk_at dksX0_colds_0 4 rfl rfl)
theorem dX0_colds_5 : decode cX0_colds 5 = .ok (.invokevirtual 101, 3) := dk_182 0 101 (dk_at dksX0_colds_0 5 rfl rfl)
theorem dX0_colds_8 : decode cX0_colds 8 = .ok (.i2l, 1) := dk_133 (dk_at dksX0_colds_0 8 rfl rfl)
theorem dX0_colds_9 : decode cX0_colds 9 = .ok (.lastore, 1) := dk_80 (dk_at dksX0_colds_0 9 rfl rfl)
theorem dX0_colds_10 : decode cX0_colds 10 = .ok (.goto 7, 3) := dk_167 0 7 (dk_at dksX0_colds_0 10 rfl rfl)
theorem dX0_colds_13 : decode cX0_colds 13 = .ok (.astore 4, 2) := dk_58 4 (dk_at dksX0_colds_0 13 rfl rfl)
theorem dX0_colds_15 : decode cX0_colds 15 = .ok (.iconst 1, 1) := dk_4 (dk_at dksX0_colds_0 15 rfl rfl)
theorem dX0_colds_16 : decode cX0_colds 16 = .ok (.ireturn, 1) := dk_172 (dk_at dksX0_colds_0 16 rfl rfl)
theorem dX0_colds_17 : decode cX0_colds 17 = .ok (.iconst 0, 1) := dk_3 (dk_at dksX0_colds_0 17 rfl rfl)
theorem dX0_colds_18 : decode cX0_colds 18 = .ok (.ireturn, 1) := dk_172 (dk_at dksX0_colds_0 18 rfl rfl)
abbrev cX0_spared : ByteArray := method_29_code
def yX0_spared : MethodName := ⟨RX0, "spared", "(LCheekTown;II[J)I"⟩
def dkwX0_spared_0 : List UInt8 := [45, 3, 42, 27, 28, 182, 0, 104, 133, 80, 167, 0, 11, 58, 4, 4, 172, 58, 4, 5, 172, 3, 172]
abbrev dktX0_spared_0 : List UInt8 := dkwX0_spared_0 ++ []
theorem dksX0_spared_0 : cX0_spared.data.toList.drop 0 = dktX0_spared_0 := by decide +kernel
theorem dX0_spared_0 : decode cX0_spared 0 = .ok (.aload_n 3, 1) := dk_45 (dk_at dksX0_spared_0 0 rfl rfl)
theorem dX0_spared_1 : decode cX0_spared 1 = .ok (.iconst 0, 1) := dk_3 (dk_at dksX0_spared_0 1 rfl rfl)
theorem dX0_spared_2 : decode cX0_spared 2 = .ok (.aload_n 0, 1) := dk_42 (dk_at dksX0_spared_0 2 rfl rfl)
theorem dX0_spared_3 : decode cX0_spared 3 = .ok (.iload_n 1, 1) := dk_27 (dk_at dksX0_spared_0 3 rfl rfl)
theorem dX0_spared_4 : decode cX0_spared 4 = .ok (.iload_n 2, 1) := dk_28 (dk_at dksX0_spared_0 4 rfl rfl)
theorem dX0_spared_5 : decode cX0_spared 5 = .ok (.invokevirtual 104, 3) := dk_182 0 104 (dk_at dksX0_spared_0 5 rfl rfl)
theorem dX0_spared_8 : decode cX0_spared 8 = .ok (.i2l, 1) := dk_133 (dk_at dksX0_spared_0 8 rfl rfl)
theorem dX0_spared_9 : decode cX0_spared 9 = .ok (.lastore, 1) := dk_80 (dk_at dksX0_spared_0 9 rfl rfl)
theorem dX0_spared_10 : decode cX0_spared 10 = .ok (.goto 11, 3) := dk_167 0 11 (dk_at dksX0_spared_0 10 rfl rfl)
theorem dX0_spared_13 : decode cX0_spared 13 = .ok (.astore 4, 2) := dk_58 4 (dk_at dksX0_spared_0 13 rfl rfl)
theorem dX0_spared_15 : decode cX0_spared 15 = .ok (.iconst 1, 1) := dk_4 (dk_at dksX0_spared_0 15 rfl rfl)
theorem dX0_spared_16 : decode cX0_spared 16 = .ok (.ireturn, 1) := dk_172 (dk_at dksX0_spared_0 16 rfl rfl)
theorem dX0_spared_17 : decode cX0_spared 17 = .ok (.astore 4, 2) := dk_58 4 (dk_at dksX0_spared_0 17 rfl rfl)
theorem dX0_spared_19 : decode cX0_spared 19 = .ok (.iconst 2, 1) := dk_5 (dk_at dksX0_spared_0 19 rfl rfl)
theorem dX0_spared_20 : decode cX0_spared 20 = .ok (.ireturn, 1) := dk_172 (dk_at dksX0_spared_0 20 rfl rfl)
theorem dX0_spared_21 : decode cX0_spared 21 = .ok (.iconst 0, 1) := dk_3 (dk_at dksX0_spared_0 21 rfl rfl)
theorem dX0_spared_22 : decode cX0_spared 22 = .ok (.ireturn, 1) := dk_172 (dk_at dksX0_spared_0 22 rfl rfl)
abbrev cX0_trial : ByteArray := method_30_code
def yX0_trial : MethodName := ⟨RX0, "trial", "(LCheekTown;II[J)I"⟩
def dkwX0_trial_0 : List UInt8 := [45, 3, 42, 27, 28, 182, 0, 107, 133, 80, 167, 0, 11, 58, 4, 4, 172, 58, 4, 5, 172, 3, 172]
abbrev dktX0_trial_0 : List UInt8 := dkwX0_trial_0 ++ []
theorem dksX0_trial_0 : cX0_trial.data.toList.drop 0 = dktX0_trial_0 := by decide +kernel
theorem dX0_trial_0 : decode cX0_trial 0 = .ok (.aload_n 3, 1) := dk_45 (dk_at dksX0_trial_0 0 rfl rfl)
theorem dX0_trial_1 : decode cX0_trial 1 = .ok (.iconst 0, 1) := dk_3 (dk_at dksX0_trial_0 1 rfl rfl)
theorem dX0_trial_2 : decode cX0_trial 2 = .ok (.aload_n 0, 1) := dk_42 (dk_at dksX0_trial_0 2 rfl rfl)
theorem dX0_trial_3 : decode cX0_trial 3 = .ok (.iload_n 1, 1) := dk_27 (dk_at dksX0_trial_0 3 rfl rfl)
theorem dX0_trial_4 : decode cX0_trial 4 = .ok (.iload_n 2, 1) := dk_28 (dk_at dksX0_trial_0 4 rfl rfl)
theorem dX0_trial_5 : decode cX0_trial 5 = .ok (.invokevirtual 107, 3) := dk_182 0 107 (dk_at dksX0_trial_0 5 rfl rfl)
theorem dX0_trial_8 : decode cX0_trial 8 = .ok (.i2l, 1) := dk_133 (dk_at dksX0_trial_0 8 rfl rfl)
theorem dX0_trial_9 : decode cX0_trial 9 = .ok (.lastore, 1) := dk_80 (dk_at dksX0_trial_0 9 rfl rfl)
theorem dX0_trial_10 : decode cX0_trial 10 = .ok (.goto 11, 3) := dk_167 0 11 (dk_at dksX0_trial_0 10 rfl rfl)
theorem dX0_trial_13 : decode cX0_trial 13 = .ok (.astore 4, 2) := dk_58 4 (dk_at dksX0_trial_0 13 rfl rfl)
theorem dX0_trial_15 : decode cX0_trial 15 = .ok (.iconst 1, 1) := dk_4 (dk_at dksX0_trial_0 15 rfl rfl)
theorem dX0_trial_16 : decode cX0_trial 16 = .ok (.ireturn, 1) := dk_172 (dk_at dksX0_trial_0 16 rfl rfl)
theorem dX0_trial_17 : decode cX0_trial 17 = .ok (.astore 4, 2) := dk_58 4 (dk_at dksX0_trial_0 17 rfl rfl)
theorem dX0_trial_19 : decode cX0_trial 19 = .ok (.iconst 2, 1) := dk_5 (dk_at dksX0_trial_0 19 rfl rfl)
theorem dX0_trial_20 : decode cX0_trial 20 = .ok (.ireturn, 1) := dk_172 (dk_at dksX0_trial_0 20 rfl rfl)
theorem dX0_trial_21 : decode cX0_trial 21 = .ok (.iconst 0, 1) := dk_3 (dk_at dksX0_trial_0 21 rfl rfl)
theorem dX0_trial_22 : decode cX0_trial 22 = .ok (.ireturn, 1) := dk_172 (dk_at dksX0_trial_0 22 rfl rfl)
abbrev cX0_span : ByteArray := method_31_code
def yX0_span : MethodName := ⟨RX0, "span", "(LCheekTown;IZ[J)I"⟩
def dkwX0_span_0 : List UInt8 := [45, 3, 42, 27, 28, 182, 0, 110, 133, 80, 167, 0, 7, 58, 4, 4, 172, 3, 172]
abbrev dktX0_span_0 : List UInt8 := dkwX0_span_0 ++ []
theorem dksX0_span_0 : cX0_span.data.toList.drop 0 = dktX0_span_0 := by decide +kernel
theorem dX0_span_0 : decode cX0_span 0 = .ok (.aload_n 3, 1) := dk_45 (dk_at dksX0_span_0 0 rfl rfl)
theorem dX0_span_1 : decode cX0_span 1 = .ok (.iconst 0, 1) := dk_3 (dk_at dksX0_span_0 1 rfl rfl)
theorem dX0_span_2 : decode cX0_span 2 = .ok (.aload_n 0, 1) := dk_42 (dk_at dksX0_span_0 2 rfl rfl)
theorem dX0_span_3 : decode cX0_span 3 = .ok (.iload_n 1, 1) := dk_27 (dk_at dksX0_span_0 3 rfl rfl)
theorem dX0_span_4 : decode cX0_span 4 = .ok (.iload_n 2, 1) := dk_28 (dk_at dksX0_span_0 4 rfl rfl)
theorem dX0_span_5 : decode cX0_span 5 = .ok (.invokevirtual 110, 3) := dk_182 0 110 (dk_at dksX0_span_0 5 rfl rfl)
theorem dX0_span_8 : decode cX0_span 8 = .ok (.i2l, 1) := dk_133 (dk_at dksX0_span_0 8 rfl rfl)
theorem dX0_span_9 : decode cX0_span 9 = .ok (.lastore, 1) := dk_80 (dk_at dksX0_span_0 9 rfl rfl)
theorem dX0_span_10 : decode cX0_span 10 = .ok (.goto 7, 3) := dk_167 0 7 (dk_at dksX0_span_0 10 rfl rfl)
theorem dX0_span_13 : decode cX0_span 13 = .ok (.astore 4, 2) := dk_58 4 (dk_at dksX0_span_0 13 rfl rfl)
theorem dX0_span_15 : decode cX0_span 15 = .ok (.iconst 1, 1) := dk_4 (dk_at dksX0_span_0 15 rfl rfl)
theorem dX0_span_16 : decode cX0_span 16 = .ok (.ireturn, 1) := dk_172 (dk_at dksX0_span_0 16 rfl rfl)
theorem dX0_span_17 : decode cX0_span 17 = .ok (.iconst 0, 1) := dk_3 (dk_at dksX0_span_0 17 rfl rfl)
theorem dX0_span_18 : decode cX0_span 18 = .ok (.ireturn, 1) := dk_172 (dk_at dksX0_span_0 18 rfl rfl)
abbrev cX0_log : ByteArray := method_32_code
def yX0_log : MethodName := ⟨RX0, "log", "(LCheekTown;II[J)I"⟩
def dkwX0_log_0 : List UInt8 := [45, 3, 42, 27, 28, 182, 0, 113, 133, 80, 167, 0, 7, 58, 4, 4, 172, 3, 172]
abbrev dktX0_log_0 : List UInt8 := dkwX0_log_0 ++ []
theorem dksX0_log_0 : cX0_log.data.toList.drop 0 = dktX0_log_0 := by decide +kernel
theorem dX0_log_0 : decode cX0_log 0 = .ok (.aload_n 3, 1) := dk_45 (dk_at dksX0_log_0 0 rfl rfl)
theorem dX0_log_1 : decode cX0_log 1 = .ok (.iconst 0, 1) := dk_3 (dk_at dksX0_log_0 1 rfl rfl)
theorem dX0_log_2 : decode cX0_log 2 = .ok (.aload_n 0, 1) := dk_42 (dk_at dksX0_log_0 2 rfl rfl)
theorem dX0_log_3 : decode cX0_log 3 = .ok (.iload_n 1, 1) := dk_27 (dk_at dksX0_log_0 3 rfl rfl)
theorem dX0_log_4 : decode cX0_log 4 = .ok (.iload_n 2, 1) := dk_28 (dk_at dksX0_log_0 4 rfl rfl)
theorem dX0_log_5 : decode cX0_log 5 = .ok (.invokevirtual 113, 3) := dk_182 0 113 (dk_at dksX0_log_0 5 rfl rfl)
theorem dX0_log_8 : decode cX0_log 8 = .ok (.i2l, 1) := dk_133 (dk_at dksX0_log_0 8 rfl rfl)
theorem dX0_log_9 : decode cX0_log 9 = .ok (.lastore, 1) := dk_80 (dk_at dksX0_log_0 9 rfl rfl)
theorem dX0_log_10 : decode cX0_log 10 = .ok (.goto 7, 3) := dk_167 0 7 (dk_at dksX0_log_0 10 rfl rfl)
theorem dX0_log_13 : decode cX0_log 13 = .ok (.astore 4, 2) := dk_58 4 (dk_at dksX0_log_0 13 rfl rfl)
theorem dX0_log_15 : decode cX0_log 15 = .ok (.iconst 1, 1) := dk_4 (dk_at dksX0_log_0 15 rfl rfl)
theorem dX0_log_16 : decode cX0_log 16 = .ok (.ireturn, 1) := dk_172 (dk_at dksX0_log_0 16 rfl rfl)
theorem dX0_log_17 : decode cX0_log 17 = .ok (.iconst 0, 1) := dk_3 (dk_at dksX0_log_0 17 rfl rfl)
theorem dX0_log_18 : decode cX0_log 18 = .ok (.ireturn, 1) := dk_172 (dk_at dksX0_log_0 18 rfl rfl)
theorem q116 : (Jvm.Cond.initialized "CheekTownLaw") ∈ lw_all := lw_g (lw_at lw_m1 0 rfl) rfl
theorem q164 : (Jvm.Cond.classLink "CheekTownLaw" (8 : Nat) "CheekTown") ∈ lw_all := lw_g (lw_at lw_m1 48 rfl) rfl
theorem q166 : (Jvm.Cond.methodLink "CheekTownLaw" (116 : Nat) ({ cls := "CheekTown", name := "<init>", desc := "()V" } : Jvm.MethodName)) ∈ lw_all := lw_g (lw_at lw_m1 50 rfl) rfl
theorem q508 : (Jvm.Cond.methodLink "CheekTownLaw" (120 : Nat) ({ cls := "CheekTown", name := "feed", desc := "(IIIII)I" } : Jvm.MethodName)) ∈ lw_all := lw_g (lw_at lw_m2 152 rfl) rfl
theorem q516 : (Jvm.Cond.methodLink "CheekTownLaw" (125 : Nat) ({ cls := "CheekTown", name := "end", desc := "(I)Z" } : Jvm.MethodName)) ∈ lw_all := lw_g (lw_at lw_m2 160 rfl) rfl
theorem q524 : (Jvm.Cond.methodLink "CheekTownLaw" (142 : Nat) ({ cls := "CheekTown", name := "fault", desc := "()I" } : Jvm.MethodName)) ∈ lw_all := lw_g (lw_at lw_m2 168 rfl) rfl
theorem q528 : (Jvm.Cond.methodLink "CheekTownLaw" (195 : Nat) ({ cls := "CheekTown", name := "safest", desc := "(Z)I" } : Jvm.MethodName)) ∈ lw_all := lw_g (lw_at lw_m2 172 rfl) rfl
theorem q563 : (Jvm.Cond.methodLink "CheekTownLaw" (206 : Nat) ({ cls := "CheekTown", name := "worth", desc := "()I" } : Jvm.MethodName)) ∈ lw_all := lw_g (lw_at lw_m2 207 rfl) rfl
theorem q586 : (Jvm.Cond.methodLink "CheekTownLaw" (216 : Nat) ({ cls := "CheekTown", name := "table", desc := "(II)I" } : Jvm.MethodName)) ∈ lw_all := lw_g (lw_at lw_m2 230 rfl) rfl
theorem q978 : (Jvm.Cond.methodLink "CheekTownLaw" (220 : Nat) ({ cls := "CheekTown", name := "pairs", desc := "(Z)I" } : Jvm.MethodName)) ∈ lw_all := lw_g (lw_at lw_m4 142 rfl) rfl
theorem q1009 : (Jvm.Cond.methodLink "CheekTownLaw" (233 : Nat) ({ cls := "CheekTown", name := "still", desc := "()I" } : Jvm.MethodName)) ∈ lw_all := lw_g (lw_at lw_m4 173 rfl) rfl
theorem q1039 : (Jvm.Cond.methodLink "CheekTownLaw" (246 : Nat) ({ cls := "CheekTown", name := "changed", desc := "(Z)I" } : Jvm.MethodName)) ∈ lw_all := lw_g (lw_at lw_m4 203 rfl) rfl
theorem q1051 : (Jvm.Cond.methodLink "CheekTownLaw" (259 : Nat) ({ cls := "CheekTown", name := "seed", desc := "(I)I" } : Jvm.MethodName)) ∈ lw_all := lw_g (lw_at lw_m4 215 rfl) rfl
theorem q1055 : (Jvm.Cond.methodLink "CheekTownLaw" (263 : Nat) ({ cls := "CheekTown", name := "undo", desc := "()Z" } : Jvm.MethodName)) ∈ lw_all := lw_g (lw_at lw_m4 219 rfl) rfl
theorem q1090 : (Jvm.Cond.methodLink "CheekTownLaw" (268 : Nat) ({ cls := "CheekTown", name := "image", desc := "()V" } : Jvm.MethodName)) ∈ lw_all := lw_g (lw_at lw_m5 14 rfl) rfl
theorem q1094 : (Jvm.Cond.methodLink "CheekTownLaw" (272 : Nat) ({ cls := "CheekTown", name := "back", desc := "()Z" } : Jvm.MethodName)) ∈ lw_all := lw_g (lw_at lw_m5 18 rfl) rfl
theorem q1102 : (Jvm.Cond.methodLink "CheekTownLaw" (276 : Nat) ({ cls := "CheekTown", name := "count", desc := "(I)I" } : Jvm.MethodName)) ∈ lw_all := lw_g (lw_at lw_m5 26 rfl) rfl
theorem q1110 : (Jvm.Cond.methodLink "CheekTownLaw" (130 : Nat) ({ cls := "CheekTownLaw", name := "town", desc := "(LCheekTown;[J)I" } : Jvm.MethodName)) ∈ lw_all := lw_g (lw_at lw_m5 34 rfl) rfl
theorem q1111 : (Jvm.Cond.static ({ cls := "CheekTownLaw", name := "town", desc := "(LCheekTown;[J)I" } : Jvm.MethodName)) ∈ lw_all := lw_g (lw_at lw_m5 35 rfl) rfl
theorem q1112 : (Jvm.Cond.codeWith ({ cls := "CheekTownLaw", name := "town", desc := "(LCheekTown;[J)I" } : Jvm.MethodName) method_3_code (3 : Nat) (Option.some Jvm.ClassFile.FieldType.int) [((0 : Nat), (8 : Nat), (11 : Nat), (13 : Nat)), ((0 : Nat), (8 : Nat), (14 : Nat), (15 : Nat))]) ∈ lw_all := lw_g (lw_at lw_m5 36 rfl) rfl
theorem q1113 : (Jvm.Cond.classLink "CheekTownLaw" (13 : Nat) "java/lang/IllegalArgumentException") ∈ lw_all := lw_g (lw_at lw_m5 37 rfl) rfl
theorem q1114 : (Jvm.Cond.classLink "CheekTownLaw" (15 : Nat) "java/lang/UnsupportedOperationException") ∈ lw_all := lw_g (lw_at lw_m5 38 rfl) rfl
theorem q1115 : (Jvm.Cond.methodLink "CheekTownLaw" (7 : Nat) ({ cls := "CheekTown", name := "town", desc := "()I" } : Jvm.MethodName)) ∈ lw_all := lw_g (lw_at lw_m5 39 rfl) rfl
theorem q1383 : (Jvm.Cond.methodLink "CheekTownLaw" (139 : Nat) ({ cls := "CheekTownLaw", name := "law", desc := "(LCheekTown;[J)I" } : Jvm.MethodName)) ∈ lw_all := lw_g (lw_at lw_m6 67 rfl) rfl
theorem q1384 : (Jvm.Cond.static ({ cls := "CheekTownLaw", name := "law", desc := "(LCheekTown;[J)I" } : Jvm.MethodName)) ∈ lw_all := lw_g (lw_at lw_m6 68 rfl) rfl
theorem q1385 : (Jvm.Cond.codeWith ({ cls := "CheekTownLaw", name := "law", desc := "(LCheekTown;[J)I" } : Jvm.MethodName) method_4_code (3 : Nat) (Option.some Jvm.ClassFile.FieldType.int) [((0 : Nat), (8 : Nat), (11 : Nat), (13 : Nat))]) ∈ lw_all := lw_g (lw_at lw_m6 69 rfl) rfl
theorem q1386 : (Jvm.Cond.methodLink "CheekTownLaw" (17 : Nat) ({ cls := "CheekTown", name := "law", desc := "()I" } : Jvm.MethodName)) ∈ lw_all := lw_g (lw_at lw_m6 70 rfl) rfl
theorem q1622 : (Jvm.Cond.methodLink "CheekTownLaw" (146 : Nat) ({ cls := "CheekTownLaw", name := "cost", desc := "(LCheekTown;II[J)I" } : Jvm.MethodName)) ∈ lw_all := lw_g (lw_at lw_m7 66 rfl) rfl
theorem q1623 : (Jvm.Cond.static ({ cls := "CheekTownLaw", name := "cost", desc := "(LCheekTown;II[J)I" } : Jvm.MethodName)) ∈ lw_all := lw_g (lw_at lw_m7 67 rfl) rfl
theorem q1624 : (Jvm.Cond.codeWith ({ cls := "CheekTownLaw", name := "cost", desc := "(LCheekTown;II[J)I" } : Jvm.MethodName) method_5_code (5 : Nat) (Option.some Jvm.ClassFile.FieldType.int) [((0 : Nat), (10 : Nat), (13 : Nat), (24 : Nat))]) ∈ lw_all := lw_g (lw_at lw_m7 68 rfl) rfl
theorem q1625 : (Jvm.Cond.classLink "CheekTownLaw" (24 : Nat) "java/lang/IndexOutOfBoundsException") ∈ lw_all := lw_g (lw_at lw_m7 69 rfl) rfl
theorem q1628 : (Jvm.Cond.methodLink "CheekTownLaw" (20 : Nat) ({ cls := "CheekTown", name := "cost", desc := "(II)I" } : Jvm.MethodName)) ∈ lw_all := lw_g (lw_at lw_m7 72 rfl) rfl
theorem q1653 : (Jvm.Cond.methodLink "CheekTownLaw" (150 : Nat) ({ cls := "CheekTownLaw", name := "habit", desc := "(LCheekTown;II[J)I" } : Jvm.MethodName)) ∈ lw_all := lw_g (lw_at lw_m7 97 rfl) rfl
theorem q1654 : (Jvm.Cond.static ({ cls := "CheekTownLaw", name := "habit", desc := "(LCheekTown;II[J)I" } : Jvm.MethodName)) ∈ lw_all := lw_g (lw_at lw_m7 98 rfl) rfl
theorem q1655 : (Jvm.Cond.codeWith ({ cls := "CheekTownLaw", name := "habit", desc := "(LCheekTown;II[J)I" } : Jvm.MethodName) method_6_code (5 : Nat) (Option.some Jvm.ClassFile.FieldType.int) [((0 : Nat), (10 : Nat), (13 : Nat), (24 : Nat))]) ∈ lw_all := lw_g (lw_at lw_m7 99 rfl) rfl
theorem q1656 : (Jvm.Cond.methodLink "CheekTownLaw" (26 : Nat) ({ cls := "CheekTown", name := "habit", desc := "(II)I" } : Jvm.MethodName)) ∈ lw_all := lw_g (lw_at lw_m7 100 rfl) rfl
theorem q1668 : (Jvm.Cond.methodLink "CheekTownLaw" (153 : Nat) ({ cls := "CheekTownLaw", name := "person", desc := "(LCheekTown;II[J)I" } : Jvm.MethodName)) ∈ lw_all := lw_g (lw_at lw_m7 112 rfl) rfl
theorem q1669 : (Jvm.Cond.static ({ cls := "CheekTownLaw", name := "person", desc := "(LCheekTown;II[J)I" } : Jvm.MethodName)) ∈ lw_all := lw_g (lw_at lw_m7 113 rfl) rfl
theorem q1670 : (Jvm.Cond.codeWith ({ cls := "CheekTownLaw", name := "person", desc := "(LCheekTown;II[J)I" } : Jvm.MethodName) method_7_code (5 : Nat) (Option.some Jvm.ClassFile.FieldType.int) [((0 : Nat), (10 : Nat), (13 : Nat), (24 : Nat)), ((0 : Nat), (10 : Nat), (17 : Nat), (32 : Nat))]) ∈ lw_all := lw_g (lw_at lw_m7 114 rfl) rfl
theorem q1671 : (Jvm.Cond.classLink "CheekTownLaw" (32 : Nat) "java/util/NoSuchElementException") ∈ lw_all := lw_g (lw_at lw_m7 115 rfl) rfl
theorem q1672 : (Jvm.Cond.methodLink "CheekTownLaw" (29 : Nat) ({ cls := "CheekTown", name := "person", desc := "(II)I" } : Jvm.MethodName)) ∈ lw_all := lw_g (lw_at lw_m7 116 rfl) rfl
theorem q1703 : (Jvm.Cond.methodLink "CheekTownLaw" (156 : Nat) ({ cls := "CheekTownLaw", name := "saw", desc := "(LCheekTown;IIZ[J)I" } : Jvm.MethodName)) ∈ lw_all := lw_g (lw_at lw_m7 147 rfl) rfl
theorem q1704 : (Jvm.Cond.static ({ cls := "CheekTownLaw", name := "saw", desc := "(LCheekTown;IIZ[J)I" } : Jvm.MethodName)) ∈ lw_all := lw_g (lw_at lw_m7 148 rfl) rfl
theorem q1705 : (Jvm.Cond.codeWith ({ cls := "CheekTownLaw", name := "saw", desc := "(LCheekTown;IIZ[J)I" } : Jvm.MethodName) method_8_code (6 : Nat) (Option.some Jvm.ClassFile.FieldType.int) [((0 : Nat), (12 : Nat), (15 : Nat), (24 : Nat)), ((0 : Nat), (12 : Nat), (19 : Nat), (13 : Nat))]) ∈ lw_all := lw_g (lw_at lw_m7 149 rfl) rfl
theorem q1706 : (Jvm.Cond.methodLink "CheekTownLaw" (34 : Nat) ({ cls := "CheekTown", name := "saw", desc := "(IIZ)I" } : Jvm.MethodName)) ∈ lw_all := lw_g (lw_at lw_m7 150 rfl) rfl
theorem q1717 : (Jvm.Cond.methodLink "CheekTownLaw" (160 : Nat) ({ cls := "CheekTownLaw", name := "tie", desc := "(LCheekTown;IZ[J)I" } : Jvm.MethodName)) ∈ lw_all := lw_g (lw_at lw_m7 161 rfl) rfl
theorem q1718 : (Jvm.Cond.static ({ cls := "CheekTownLaw", name := "tie", desc := "(LCheekTown;IZ[J)I" } : Jvm.MethodName)) ∈ lw_all := lw_g (lw_at lw_m7 162 rfl) rfl
theorem q1719 : (Jvm.Cond.codeWith ({ cls := "CheekTownLaw", name := "tie", desc := "(LCheekTown;IZ[J)I" } : Jvm.MethodName) method_9_code (5 : Nat) (Option.some Jvm.ClassFile.FieldType.int) [((0 : Nat), (10 : Nat), (13 : Nat), (24 : Nat))]) ∈ lw_all := lw_g (lw_at lw_m7 163 rfl) rfl
theorem q1720 : (Jvm.Cond.methodLink "CheekTownLaw" (38 : Nat) ({ cls := "CheekTown", name := "tie", desc := "(IZ)I" } : Jvm.MethodName)) ∈ lw_all := lw_g (lw_at lw_m7 164 rfl) rfl
theorem q1724 : (Jvm.Cond.methodLink "CheekTownLaw" (164 : Nat) ({ cls := "CheekTownLaw", name := "will", desc := "(LCheekTown;II[J)I" } : Jvm.MethodName)) ∈ lw_all := lw_g (lw_at lw_m7 168 rfl) rfl
theorem q1725 : (Jvm.Cond.static ({ cls := "CheekTownLaw", name := "will", desc := "(LCheekTown;II[J)I" } : Jvm.MethodName)) ∈ lw_all := lw_g (lw_at lw_m7 169 rfl) rfl
theorem q1726 : (Jvm.Cond.codeWith ({ cls := "CheekTownLaw", name := "will", desc := "(LCheekTown;II[J)I" } : Jvm.MethodName) method_10_code (5 : Nat) (Option.some Jvm.ClassFile.FieldType.int) [((0 : Nat), (10 : Nat), (13 : Nat), (24 : Nat)), ((0 : Nat), (10 : Nat), (17 : Nat), (13 : Nat))]) ∈ lw_all := lw_g (lw_at lw_m7 170 rfl) rfl
theorem q1727 : (Jvm.Cond.methodLink "CheekTownLaw" (42 : Nat) ({ cls := "CheekTown", name := "will", desc := "(II)I" } : Jvm.MethodName)) ∈ lw_all := lw_g (lw_at lw_m7 171 rfl) rfl
theorem q1806 : (Jvm.Cond.methodLink "CheekTownLaw" (167 : Nat) ({ cls := "CheekTownLaw", name := "meet", desc := "(LCheekTown;II[J)I" } : Jvm.MethodName)) ∈ lw_all := lw_g (lw_at lw_m8 10 rfl) rfl
theorem q1807 : (Jvm.Cond.static ({ cls := "CheekTownLaw", name := "meet", desc := "(LCheekTown;II[J)I" } : Jvm.MethodName)) ∈ lw_all := lw_g (lw_at lw_m8 11 rfl) rfl
theorem q1808 : (Jvm.Cond.codeWith ({ cls := "CheekTownLaw", name := "meet", desc := "(LCheekTown;II[J)I" } : Jvm.MethodName) method_11_code (5 : Nat) (Option.some Jvm.ClassFile.FieldType.int) [((0 : Nat), (10 : Nat), (13 : Nat), (24 : Nat)), ((0 : Nat), (10 : Nat), (17 : Nat), (13 : Nat))]) ∈ lw_all := lw_g (lw_at lw_m8 12 rfl) rfl
theorem q1809 : (Jvm.Cond.methodLink "CheekTownLaw" (45 : Nat) ({ cls := "CheekTown", name := "meet", desc := "(II)I" } : Jvm.MethodName)) ∈ lw_all := lw_g (lw_at lw_m8 13 rfl) rfl
theorem q1855 : (Jvm.Cond.methodLink "CheekTownLaw" (170 : Nat) ({ cls := "CheekTownLaw", name := "rounds", desc := "(LCheekTown;I[J)I" } : Jvm.MethodName)) ∈ lw_all := lw_g (lw_at lw_m8 59 rfl) rfl
theorem q1856 : (Jvm.Cond.static ({ cls := "CheekTownLaw", name := "rounds", desc := "(LCheekTown;I[J)I" } : Jvm.MethodName)) ∈ lw_all := lw_g (lw_at lw_m8 60 rfl) rfl
theorem q1857 : (Jvm.Cond.codeWith ({ cls := "CheekTownLaw", name := "rounds", desc := "(LCheekTown;I[J)I" } : Jvm.MethodName) method_12_code (4 : Nat) (Option.some Jvm.ClassFile.FieldType.int) [((0 : Nat), (9 : Nat), (12 : Nat), (13 : Nat))]) ∈ lw_all := lw_g (lw_at lw_m8 61 rfl) rfl
theorem q1858 : (Jvm.Cond.methodLink "CheekTownLaw" (48 : Nat) ({ cls := "CheekTown", name := "rounds", desc := "(I)I" } : Jvm.MethodName)) ∈ lw_all := lw_g (lw_at lw_m8 62 rfl) rfl
theorem q1866 : (Jvm.Cond.methodLink "CheekTownLaw" (174 : Nat) ({ cls := "CheekTownLaw", name := "own", desc := "(LCheekTown;II[J)I" } : Jvm.MethodName)) ∈ lw_all := lw_g (lw_at lw_m8 70 rfl) rfl
theorem q1867 : (Jvm.Cond.static ({ cls := "CheekTownLaw", name := "own", desc := "(LCheekTown;II[J)I" } : Jvm.MethodName)) ∈ lw_all := lw_g (lw_at lw_m8 71 rfl) rfl
theorem q1868 : (Jvm.Cond.codeWith ({ cls := "CheekTownLaw", name := "own", desc := "(LCheekTown;II[J)I" } : Jvm.MethodName) method_13_code (5 : Nat) (Option.some Jvm.ClassFile.FieldType.int) [((0 : Nat), (10 : Nat), (13 : Nat), (24 : Nat))]) ∈ lw_all := lw_g (lw_at lw_m8 72 rfl) rfl
theorem q1869 : (Jvm.Cond.methodLink "CheekTownLaw" (52 : Nat) ({ cls := "CheekTown", name := "own", desc := "(II)I" } : Jvm.MethodName)) ∈ lw_all := lw_g (lw_at lw_m8 73 rfl) rfl
theorem q1873 : (Jvm.Cond.methodLink "CheekTownLaw" (177 : Nat) ({ cls := "CheekTownLaw", name := "cold", desc := "(LCheekTown;IZ[J)I" } : Jvm.MethodName)) ∈ lw_all := lw_g (lw_at lw_m8 77 rfl) rfl
theorem q1874 : (Jvm.Cond.static ({ cls := "CheekTownLaw", name := "cold", desc := "(LCheekTown;IZ[J)I" } : Jvm.MethodName)) ∈ lw_all := lw_g (lw_at lw_m8 78 rfl) rfl
theorem q1875 : (Jvm.Cond.codeWith ({ cls := "CheekTownLaw", name := "cold", desc := "(LCheekTown;IZ[J)I" } : Jvm.MethodName) method_14_code (5 : Nat) (Option.some Jvm.ClassFile.FieldType.int) [((0 : Nat), (17 : Nat), (20 : Nat), (24 : Nat))]) ∈ lw_all := lw_g (lw_at lw_m8 79 rfl) rfl
theorem q1876 : (Jvm.Cond.methodLink "CheekTownLaw" (55 : Nat) ({ cls := "CheekTown", name := "cold", desc := "(IZ)Z" } : Jvm.MethodName)) ∈ lw_all := lw_g (lw_at lw_m8 80 rfl) rfl
theorem q1880 : (Jvm.Cond.methodLink "CheekTownLaw" (180 : Nat) ({ cls := "CheekTownLaw", name := "ties", desc := "(LCheekTown;II[J)I" } : Jvm.MethodName)) ∈ lw_all := lw_g (lw_at lw_m8 84 rfl) rfl
theorem q1881 : (Jvm.Cond.static ({ cls := "CheekTownLaw", name := "ties", desc := "(LCheekTown;II[J)I" } : Jvm.MethodName)) ∈ lw_all := lw_g (lw_at lw_m8 85 rfl) rfl
theorem q1882 : (Jvm.Cond.codeWith ({ cls := "CheekTownLaw", name := "ties", desc := "(LCheekTown;II[J)I" } : Jvm.MethodName) method_15_code (5 : Nat) (Option.some Jvm.ClassFile.FieldType.int) [((0 : Nat), (10 : Nat), (13 : Nat), (24 : Nat)), ((0 : Nat), (10 : Nat), (17 : Nat), (13 : Nat)), ((0 : Nat), (10 : Nat), (21 : Nat), (62 : Nat)), ((0 : Nat), (10 : Nat), (25 : Nat), (15 : Nat))]) ∈ lw_all := lw_g (lw_at lw_m8 86 rfl) rfl
theorem q1883 : (Jvm.Cond.classLink "CheekTownLaw" (62 : Nat) "java/lang/IllegalStateException") ∈ lw_all := lw_g (lw_at lw_m8 87 rfl) rfl
theorem q1884 : (Jvm.Cond.methodLink "CheekTownLaw" (59 : Nat) ({ cls := "CheekTown", name := "ties", desc := "(II)I" } : Jvm.MethodName)) ∈ lw_all := lw_g (lw_at lw_m8 88 rfl) rfl
theorem q1903 : (Jvm.Cond.methodLink "CheekTownLaw" (183 : Nat) ({ cls := "CheekTownLaw", name := "cut", desc := "(LCheekTown;I[J)I" } : Jvm.MethodName)) ∈ lw_all := lw_g (lw_at lw_m8 107 rfl) rfl
theorem q1904 : (Jvm.Cond.static ({ cls := "CheekTownLaw", name := "cut", desc := "(LCheekTown;I[J)I" } : Jvm.MethodName)) ∈ lw_all := lw_g (lw_at lw_m8 108 rfl) rfl
theorem q1905 : (Jvm.Cond.codeWith ({ cls := "CheekTownLaw", name := "cut", desc := "(LCheekTown;I[J)I" } : Jvm.MethodName) method_16_code (4 : Nat) (Option.some Jvm.ClassFile.FieldType.int) [((0 : Nat), (9 : Nat), (12 : Nat), (24 : Nat))]) ∈ lw_all := lw_g (lw_at lw_m8 109 rfl) rfl
theorem q1906 : (Jvm.Cond.methodLink "CheekTownLaw" (64 : Nat) ({ cls := "CheekTown", name := "cut", desc := "(I)I" } : Jvm.MethodName)) ∈ lw_all := lw_g (lw_at lw_m8 110 rfl) rfl
theorem q1914 : (Jvm.Cond.methodLink "CheekTownLaw" (186 : Nat) ({ cls := "CheekTownLaw", name := "feast", desc := "(LCheekTown;II[J)I" } : Jvm.MethodName)) ∈ lw_all := lw_g (lw_at lw_m8 118 rfl) rfl
theorem q1915 : (Jvm.Cond.static ({ cls := "CheekTownLaw", name := "feast", desc := "(LCheekTown;II[J)I" } : Jvm.MethodName)) ∈ lw_all := lw_g (lw_at lw_m8 119 rfl) rfl
theorem q1916 : (Jvm.Cond.codeWith ({ cls := "CheekTownLaw", name := "feast", desc := "(LCheekTown;II[J)I" } : Jvm.MethodName) method_17_code (5 : Nat) (Option.some Jvm.ClassFile.FieldType.int) [((0 : Nat), (10 : Nat), (13 : Nat), (24 : Nat))]) ∈ lw_all := lw_g (lw_at lw_m8 120 rfl) rfl
theorem q1917 : (Jvm.Cond.methodLink "CheekTownLaw" (67 : Nat) ({ cls := "CheekTown", name := "feast", desc := "(II)I" } : Jvm.MethodName)) ∈ lw_all := lw_g (lw_at lw_m8 121 rfl) rfl
theorem q1922 : (Jvm.Cond.methodLink "CheekTownLaw" (189 : Nat) ({ cls := "CheekTownLaw", name := "expected", desc := "(LCheekTown;II[J)I" } : Jvm.MethodName)) ∈ lw_all := lw_g (lw_at lw_m8 126 rfl) rfl
theorem q1923 : (Jvm.Cond.static ({ cls := "CheekTownLaw", name := "expected", desc := "(LCheekTown;II[J)I" } : Jvm.MethodName)) ∈ lw_all := lw_g (lw_at lw_m8 127 rfl) rfl
theorem q1924 : (Jvm.Cond.codeWith ({ cls := "CheekTownLaw", name := "expected", desc := "(LCheekTown;II[J)I" } : Jvm.MethodName) method_18_code (5 : Nat) (Option.some Jvm.ClassFile.FieldType.int) [((0 : Nat), (10 : Nat), (13 : Nat), (24 : Nat))]) ∈ lw_all := lw_g (lw_at lw_m8 128 rfl) rfl
theorem q1925 : (Jvm.Cond.methodLink "CheekTownLaw" (70 : Nat) ({ cls := "CheekTown", name := "expected", desc := "(II)I" } : Jvm.MethodName)) ∈ lw_all := lw_g (lw_at lw_m8 129 rfl) rfl
theorem q1929 : (Jvm.Cond.methodLink "CheekTownLaw" (192 : Nat) ({ cls := "CheekTownLaw", name := "best", desc := "(LCheekTown;I[J)I" } : Jvm.MethodName)) ∈ lw_all := lw_g (lw_at lw_m8 133 rfl) rfl
theorem q1930 : (Jvm.Cond.static ({ cls := "CheekTownLaw", name := "best", desc := "(LCheekTown;I[J)I" } : Jvm.MethodName)) ∈ lw_all := lw_g (lw_at lw_m8 134 rfl) rfl
theorem q1931 : (Jvm.Cond.codeWith ({ cls := "CheekTownLaw", name := "best", desc := "(LCheekTown;I[J)I" } : Jvm.MethodName) method_19_code (4 : Nat) (Option.some Jvm.ClassFile.FieldType.int) [((0 : Nat), (9 : Nat), (12 : Nat), (24 : Nat))]) ∈ lw_all := lw_g (lw_at lw_m8 135 rfl) rfl
theorem q1932 : (Jvm.Cond.methodLink "CheekTownLaw" (73 : Nat) ({ cls := "CheekTown", name := "best", desc := "(I)I" } : Jvm.MethodName)) ∈ lw_all := lw_g (lw_at lw_m8 136 rfl) rfl
theorem q1936 : (Jvm.Cond.methodLink "CheekTownLaw" (199 : Nat) ({ cls := "CheekTownLaw", name := "odds", desc := "(LCheekTown;II[J)I" } : Jvm.MethodName)) ∈ lw_all := lw_g (lw_at lw_m8 140 rfl) rfl
theorem q1937 : (Jvm.Cond.static ({ cls := "CheekTownLaw", name := "odds", desc := "(LCheekTown;II[J)I" } : Jvm.MethodName)) ∈ lw_all := lw_g (lw_at lw_m8 141 rfl) rfl
theorem q1938 : (Jvm.Cond.codeWith ({ cls := "CheekTownLaw", name := "odds", desc := "(LCheekTown;II[J)I" } : Jvm.MethodName) method_20_code (5 : Nat) (Option.some Jvm.ClassFile.FieldType.int) [((0 : Nat), (10 : Nat), (13 : Nat), (24 : Nat))]) ∈ lw_all := lw_g (lw_at lw_m8 142 rfl) rfl
theorem q1939 : (Jvm.Cond.methodLink "CheekTownLaw" (76 : Nat) ({ cls := "CheekTown", name := "odds", desc := "(II)I" } : Jvm.MethodName)) ∈ lw_all := lw_g (lw_at lw_m8 143 rfl) rfl
theorem q1947 : (Jvm.Cond.methodLink "CheekTownLaw" (202 : Nat) ({ cls := "CheekTownLaw", name := "from", desc := "(LCheekTown;Z[J)I" } : Jvm.MethodName)) ∈ lw_all := lw_g (lw_at lw_m8 151 rfl) rfl
theorem q1948 : (Jvm.Cond.static ({ cls := "CheekTownLaw", name := "from", desc := "(LCheekTown;Z[J)I" } : Jvm.MethodName)) ∈ lw_all := lw_g (lw_at lw_m8 152 rfl) rfl
theorem q1949 : (Jvm.Cond.codeWith ({ cls := "CheekTownLaw", name := "from", desc := "(LCheekTown;Z[J)I" } : Jvm.MethodName) method_21_code (4 : Nat) (Option.some Jvm.ClassFile.FieldType.int) [((0 : Nat), (9 : Nat), (12 : Nat), (13 : Nat))]) ∈ lw_all := lw_g (lw_at lw_m8 153 rfl) rfl
theorem q1950 : (Jvm.Cond.methodLink "CheekTownLaw" (79 : Nat) ({ cls := "CheekTown", name := "from", desc := "(Z)I" } : Jvm.MethodName)) ∈ lw_all := lw_g (lw_at lw_m8 154 rfl) rfl
theorem q1980 : (Jvm.Cond.methodLink "CheekTownLaw" (210 : Nat) ({ cls := "CheekTownLaw", name := "rests", desc := "(LCheekTown;II[J)I" } : Jvm.MethodName)) ∈ lw_all := lw_g (lw_at lw_m8 184 rfl) rfl
theorem q1981 : (Jvm.Cond.static ({ cls := "CheekTownLaw", name := "rests", desc := "(LCheekTown;II[J)I" } : Jvm.MethodName)) ∈ lw_all := lw_g (lw_at lw_m8 185 rfl) rfl
theorem q1982 : (Jvm.Cond.codeWith ({ cls := "CheekTownLaw", name := "rests", desc := "(LCheekTown;II[J)I" } : Jvm.MethodName) method_22_code (5 : Nat) (Option.some Jvm.ClassFile.FieldType.int) [((0 : Nat), (10 : Nat), (13 : Nat), (24 : Nat)), ((0 : Nat), (10 : Nat), (17 : Nat), (13 : Nat))]) ∈ lw_all := lw_g (lw_at lw_m8 186 rfl) rfl
theorem q1983 : (Jvm.Cond.methodLink "CheekTownLaw" (83 : Nat) ({ cls := "CheekTown", name := "rests", desc := "(II)I" } : Jvm.MethodName)) ∈ lw_all := lw_g (lw_at lw_m8 187 rfl) rfl
theorem q1998 : (Jvm.Cond.methodLink "CheekTownLaw" (213 : Nat) ({ cls := "CheekTownLaw", name := "sake", desc := "(LCheekTown;IIZ[J)I" } : Jvm.MethodName)) ∈ lw_all := lw_g (lw_at lw_m8 202 rfl) rfl
theorem q1999 : (Jvm.Cond.static ({ cls := "CheekTownLaw", name := "sake", desc := "(LCheekTown;IIZ[J)I" } : Jvm.MethodName)) ∈ lw_all := lw_g (lw_at lw_m8 203 rfl) rfl
theorem q2000 : (Jvm.Cond.codeWith ({ cls := "CheekTownLaw", name := "sake", desc := "(LCheekTown;IIZ[J)I" } : Jvm.MethodName) method_23_code (6 : Nat) (Option.some Jvm.ClassFile.FieldType.int) [((0 : Nat), (12 : Nat), (15 : Nat), (24 : Nat)), ((0 : Nat), (12 : Nat), (19 : Nat), (13 : Nat))]) ∈ lw_all := lw_g (lw_at lw_m8 204 rfl) rfl
theorem q2001 : (Jvm.Cond.methodLink "CheekTownLaw" (86 : Nat) ({ cls := "CheekTown", name := "sake", desc := "(IIZ)I" } : Jvm.MethodName)) ∈ lw_all := lw_g (lw_at lw_m8 205 rfl) rfl
theorem q2011 : (Jvm.Cond.methodLink "CheekTownLaw" (224 : Nat) ({ cls := "CheekTownLaw", name := "begins", desc := "(LCheekTown;I[J)I" } : Jvm.MethodName)) ∈ lw_all := lw_g (lw_at lw_m8 215 rfl) rfl
theorem q2012 : (Jvm.Cond.static ({ cls := "CheekTownLaw", name := "begins", desc := "(LCheekTown;I[J)I" } : Jvm.MethodName)) ∈ lw_all := lw_g (lw_at lw_m8 216 rfl) rfl
theorem q2013 : (Jvm.Cond.codeWith ({ cls := "CheekTownLaw", name := "begins", desc := "(LCheekTown;I[J)I" } : Jvm.MethodName) method_24_code (4 : Nat) (Option.some Jvm.ClassFile.FieldType.int) [((0 : Nat), (9 : Nat), (12 : Nat), (13 : Nat))]) ∈ lw_all := lw_g (lw_at lw_m8 217 rfl) rfl
theorem q2014 : (Jvm.Cond.methodLink "CheekTownLaw" (89 : Nat) ({ cls := "CheekTown", name := "begins", desc := "(I)I" } : Jvm.MethodName)) ∈ lw_all := lw_g (lw_at lw_m8 218 rfl) rfl
theorem q2040 : (Jvm.Cond.methodLink "CheekTownLaw" (227 : Nat) ({ cls := "CheekTownLaw", name := "after", desc := "(LCheekTown;II[J)I" } : Jvm.MethodName)) ∈ lw_all := lw_g (lw_at lw_m9 4 rfl) rfl
theorem q2041 : (Jvm.Cond.static ({ cls := "CheekTownLaw", name := "after", desc := "(LCheekTown;II[J)I" } : Jvm.MethodName)) ∈ lw_all := lw_g (lw_at lw_m9 5 rfl) rfl
theorem q2042 : (Jvm.Cond.codeWith ({ cls := "CheekTownLaw", name := "after", desc := "(LCheekTown;II[J)I" } : Jvm.MethodName) method_25_code (5 : Nat) (Option.some Jvm.ClassFile.FieldType.int) [((0 : Nat), (10 : Nat), (13 : Nat), (13 : Nat)), ((0 : Nat), (10 : Nat), (17 : Nat), (32 : Nat))]) ∈ lw_all := lw_g (lw_at lw_m9 6 rfl) rfl
theorem q2043 : (Jvm.Cond.methodLink "CheekTownLaw" (92 : Nat) ({ cls := "CheekTown", name := "after", desc := "(II)I" } : Jvm.MethodName)) ∈ lw_all := lw_g (lw_at lw_m9 7 rfl) rfl
theorem q2066 : (Jvm.Cond.methodLink "CheekTownLaw" (230 : Nat) ({ cls := "CheekTownLaw", name := "custom", desc := "(LCheekTown;II[J)I" } : Jvm.MethodName)) ∈ lw_all := lw_g (lw_at lw_m9 30 rfl) rfl
theorem q2067 : (Jvm.Cond.static ({ cls := "CheekTownLaw", name := "custom", desc := "(LCheekTown;II[J)I" } : Jvm.MethodName)) ∈ lw_all := lw_g (lw_at lw_m9 31 rfl) rfl
theorem q2068 : (Jvm.Cond.codeWith ({ cls := "CheekTownLaw", name := "custom", desc := "(LCheekTown;II[J)I" } : Jvm.MethodName) method_26_code (5 : Nat) (Option.some Jvm.ClassFile.FieldType.int) [((0 : Nat), (10 : Nat), (13 : Nat), (24 : Nat)), ((0 : Nat), (10 : Nat), (17 : Nat), (13 : Nat))]) ∈ lw_all := lw_g (lw_at lw_m9 32 rfl) rfl
theorem q2069 : (Jvm.Cond.methodLink "CheekTownLaw" (95 : Nat) ({ cls := "CheekTown", name := "custom", desc := "(II)I" } : Jvm.MethodName)) ∈ lw_all := lw_g (lw_at lw_m9 33 rfl) rfl
theorem q2073 : (Jvm.Cond.methodLink "CheekTownLaw" (237 : Nat) ({ cls := "CheekTownLaw", name := "told", desc := "(LCheekTown;II[J)I" } : Jvm.MethodName)) ∈ lw_all := lw_g (lw_at lw_m9 37 rfl) rfl
theorem q2074 : (Jvm.Cond.static ({ cls := "CheekTownLaw", name := "told", desc := "(LCheekTown;II[J)I" } : Jvm.MethodName)) ∈ lw_all := lw_g (lw_at lw_m9 38 rfl) rfl
theorem q2075 : (Jvm.Cond.codeWith ({ cls := "CheekTownLaw", name := "told", desc := "(LCheekTown;II[J)I" } : Jvm.MethodName) method_27_code (5 : Nat) (Option.some Jvm.ClassFile.FieldType.int) [((0 : Nat), (10 : Nat), (13 : Nat), (24 : Nat)), ((0 : Nat), (10 : Nat), (17 : Nat), (13 : Nat))]) ∈ lw_all := lw_g (lw_at lw_m9 39 rfl) rfl
theorem q2076 : (Jvm.Cond.methodLink "CheekTownLaw" (98 : Nat) ({ cls := "CheekTown", name := "told", desc := "(II)I" } : Jvm.MethodName)) ∈ lw_all := lw_g (lw_at lw_m9 40 rfl) rfl
theorem q2088 : (Jvm.Cond.methodLink "CheekTownLaw" (240 : Nat) ({ cls := "CheekTownLaw", name := "colds", desc := "(LCheekTown;II[J)I" } : Jvm.MethodName)) ∈ lw_all := lw_g (lw_at lw_m9 52 rfl) rfl
theorem q2089 : (Jvm.Cond.static ({ cls := "CheekTownLaw", name := "colds", desc := "(LCheekTown;II[J)I" } : Jvm.MethodName)) ∈ lw_all := lw_g (lw_at lw_m9 53 rfl) rfl
theorem q2090 : (Jvm.Cond.codeWith ({ cls := "CheekTownLaw", name := "colds", desc := "(LCheekTown;II[J)I" } : Jvm.MethodName) method_28_code (5 : Nat) (Option.some Jvm.ClassFile.FieldType.int) [((0 : Nat), (10 : Nat), (13 : Nat), (13 : Nat))]) ∈ lw_all := lw_g (lw_at lw_m9 54 rfl) rfl
theorem q2091 : (Jvm.Cond.methodLink "CheekTownLaw" (101 : Nat) ({ cls := "CheekTown", name := "colds", desc := "(II)I" } : Jvm.MethodName)) ∈ lw_all := lw_g (lw_at lw_m9 55 rfl) rfl
theorem q2099 : (Jvm.Cond.methodLink "CheekTownLaw" (243 : Nat) ({ cls := "CheekTownLaw", name := "spared", desc := "(LCheekTown;II[J)I" } : Jvm.MethodName)) ∈ lw_all := lw_g (lw_at lw_m9 63 rfl) rfl
theorem q2100 : (Jvm.Cond.static ({ cls := "CheekTownLaw", name := "spared", desc := "(LCheekTown;II[J)I" } : Jvm.MethodName)) ∈ lw_all := lw_g (lw_at lw_m9 64 rfl) rfl
theorem q2101 : (Jvm.Cond.codeWith ({ cls := "CheekTownLaw", name := "spared", desc := "(LCheekTown;II[J)I" } : Jvm.MethodName) method_29_code (5 : Nat) (Option.some Jvm.ClassFile.FieldType.int) [((0 : Nat), (10 : Nat), (13 : Nat), (24 : Nat)), ((0 : Nat), (10 : Nat), (17 : Nat), (13 : Nat))]) ∈ lw_all := lw_g (lw_at lw_m9 65 rfl) rfl
theorem q2102 : (Jvm.Cond.methodLink "CheekTownLaw" (104 : Nat) ({ cls := "CheekTown", name := "spared", desc := "(II)I" } : Jvm.MethodName)) ∈ lw_all := lw_g (lw_at lw_m9 66 rfl) rfl
theorem q2106 : (Jvm.Cond.methodLink "CheekTownLaw" (250 : Nat) ({ cls := "CheekTownLaw", name := "trial", desc := "(LCheekTown;II[J)I" } : Jvm.MethodName)) ∈ lw_all := lw_g (lw_at lw_m9 70 rfl) rfl
theorem q2107 : (Jvm.Cond.static ({ cls := "CheekTownLaw", name := "trial", desc := "(LCheekTown;II[J)I" } : Jvm.MethodName)) ∈ lw_all := lw_g (lw_at lw_m9 71 rfl) rfl
theorem q2108 : (Jvm.Cond.codeWith ({ cls := "CheekTownLaw", name := "trial", desc := "(LCheekTown;II[J)I" } : Jvm.MethodName) method_30_code (5 : Nat) (Option.some Jvm.ClassFile.FieldType.int) [((0 : Nat), (10 : Nat), (13 : Nat), (13 : Nat)), ((0 : Nat), (10 : Nat), (17 : Nat), (32 : Nat))]) ∈ lw_all := lw_g (lw_at lw_m9 72 rfl) rfl
theorem q2109 : (Jvm.Cond.methodLink "CheekTownLaw" (107 : Nat) ({ cls := "CheekTown", name := "trial", desc := "(II)I" } : Jvm.MethodName)) ∈ lw_all := lw_g (lw_at lw_m9 73 rfl) rfl
theorem q2121 : (Jvm.Cond.methodLink "CheekTownLaw" (253 : Nat) ({ cls := "CheekTownLaw", name := "span", desc := "(LCheekTown;IZ[J)I" } : Jvm.MethodName)) ∈ lw_all := lw_g (lw_at lw_m9 85 rfl) rfl
theorem q2122 : (Jvm.Cond.static ({ cls := "CheekTownLaw", name := "span", desc := "(LCheekTown;IZ[J)I" } : Jvm.MethodName)) ∈ lw_all := lw_g (lw_at lw_m9 86 rfl) rfl
theorem q2123 : (Jvm.Cond.codeWith ({ cls := "CheekTownLaw", name := "span", desc := "(LCheekTown;IZ[J)I" } : Jvm.MethodName) method_31_code (5 : Nat) (Option.some Jvm.ClassFile.FieldType.int) [((0 : Nat), (10 : Nat), (13 : Nat), (13 : Nat))]) ∈ lw_all := lw_g (lw_at lw_m9 87 rfl) rfl
theorem q2124 : (Jvm.Cond.methodLink "CheekTownLaw" (110 : Nat) ({ cls := "CheekTown", name := "span", desc := "(IZ)I" } : Jvm.MethodName)) ∈ lw_all := lw_g (lw_at lw_m9 88 rfl) rfl
theorem q2128 : (Jvm.Cond.methodLink "CheekTownLaw" (256 : Nat) ({ cls := "CheekTownLaw", name := "log", desc := "(LCheekTown;II[J)I" } : Jvm.MethodName)) ∈ lw_all := lw_g (lw_at lw_m9 92 rfl) rfl
theorem q2129 : (Jvm.Cond.static ({ cls := "CheekTownLaw", name := "log", desc := "(LCheekTown;II[J)I" } : Jvm.MethodName)) ∈ lw_all := lw_g (lw_at lw_m9 93 rfl) rfl
theorem q2130 : (Jvm.Cond.codeWith ({ cls := "CheekTownLaw", name := "log", desc := "(LCheekTown;II[J)I" } : Jvm.MethodName) method_32_code (5 : Nat) (Option.some Jvm.ClassFile.FieldType.int) [((0 : Nat), (10 : Nat), (13 : Nat), (32 : Nat))]) ∈ lw_all := lw_g (lw_at lw_m9 94 rfl) rfl
theorem q2131 : (Jvm.Cond.methodLink "CheekTownLaw" (113 : Nat) ({ cls := "CheekTown", name := "log", desc := "(II)I" } : Jvm.MethodName)) ∈ lw_all := lw_g (lw_at lw_m9 95 rfl) rfl
theorem q2135 : (Jvm.Cond.classLink "CheekTownLaw" (117 : Nat) "CheekTownModel") ∈ lw_all := lw_g (lw_at lw_m9 99 rfl) rfl
theorem q2137 : (Jvm.Cond.methodLink "CheekTownLaw" (119 : Nat) ({ cls := "CheekTownModel", name := "<init>", desc := "()V" } : Jvm.MethodName)) ∈ lw_all := lw_g (lw_at lw_m9 101 rfl) rfl
theorem q2223 : (Jvm.Cond.methodLink "CheekTownLaw" (136 : Nat) ({ cls := "CheekTownModel", name := "thrown", desc := "()I" } : Jvm.MethodName)) ∈ lw_all := lw_g (lw_at lw_m9 187 rfl) rfl
theorem q2227 : (Jvm.Cond.methodLink "CheekTownLaw" (124 : Nat) ({ cls := "CheekTownModel", name := "feed", desc := "(IIIII)I" } : Jvm.MethodName)) ∈ lw_all := lw_g (lw_at lw_m9 191 rfl) rfl
theorem q2231 : (Jvm.Cond.methodLink "CheekTownLaw" (129 : Nat) ({ cls := "CheekTownModel", name := "end", desc := "(I)Z" } : Jvm.MethodName)) ∈ lw_all := lw_g (lw_at lw_m9 195 rfl) rfl
theorem q2238 : (Jvm.Cond.methodLink "CheekTownLaw" (135 : Nat) ({ cls := "CheekTownModel", name := "town", desc := "()I" } : Jvm.MethodName)) ∈ lw_all := lw_g (lw_at lw_m9 202 rfl) rfl
theorem q2401 : (Jvm.Cond.methodLink "CheekTownLaw" (141 : Nat) ({ cls := "CheekTownModel", name := "law", desc := "()I" } : Jvm.MethodName)) ∈ lw_all := lw_g (lw_at lw_m10 125 rfl) rfl
theorem q2405 : (Jvm.Cond.methodLink "CheekTownLaw" (145 : Nat) ({ cls := "CheekTownModel", name := "fault", desc := "()I" } : Jvm.MethodName)) ∈ lw_all := lw_g (lw_at lw_m10 129 rfl) rfl
theorem q2409 : (Jvm.Cond.methodLink "CheekTownLaw" (149 : Nat) ({ cls := "CheekTownModel", name := "cost", desc := "(II)I" } : Jvm.MethodName)) ∈ lw_all := lw_g (lw_at lw_m10 133 rfl) rfl
theorem q2423 : (Jvm.Cond.methodLink "CheekTownLaw" (152 : Nat) ({ cls := "CheekTownModel", name := "habit", desc := "(II)I" } : Jvm.MethodName)) ∈ lw_all := lw_g (lw_at lw_m10 147 rfl) rfl
theorem q2435 : (Jvm.Cond.methodLink "CheekTownLaw" (155 : Nat) ({ cls := "CheekTownModel", name := "person", desc := "(II)I" } : Jvm.MethodName)) ∈ lw_all := lw_g (lw_at lw_m10 159 rfl) rfl
theorem q2451 : (Jvm.Cond.methodLink "CheekTownLaw" (159 : Nat) ({ cls := "CheekTownModel", name := "saw", desc := "(IIZ)I" } : Jvm.MethodName)) ∈ lw_all := lw_g (lw_at lw_m10 175 rfl) rfl
theorem q2459 : (Jvm.Cond.methodLink "CheekTownLaw" (163 : Nat) ({ cls := "CheekTownModel", name := "tie", desc := "(IZ)I" } : Jvm.MethodName)) ∈ lw_all := lw_g (lw_at lw_m10 183 rfl) rfl
theorem q2463 : (Jvm.Cond.methodLink "CheekTownLaw" (166 : Nat) ({ cls := "CheekTownModel", name := "will", desc := "(II)I" } : Jvm.MethodName)) ∈ lw_all := lw_g (lw_at lw_m10 187 rfl) rfl
theorem q2471 : (Jvm.Cond.methodLink "CheekTownLaw" (169 : Nat) ({ cls := "CheekTownModel", name := "meet", desc := "(II)I" } : Jvm.MethodName)) ∈ lw_all := lw_g (lw_at lw_m10 195 rfl) rfl
theorem q2498 : (Jvm.Cond.methodLink "CheekTownLaw" (173 : Nat) ({ cls := "CheekTownModel", name := "rounds", desc := "(I)I" } : Jvm.MethodName)) ∈ lw_all := lw_g (lw_at lw_m10 222 rfl) rfl
theorem q2506 : (Jvm.Cond.methodLink "CheekTownLaw" (176 : Nat) ({ cls := "CheekTownModel", name := "own", desc := "(II)I" } : Jvm.MethodName)) ∈ lw_all := lw_g (lw_at lw_m10 230 rfl) rfl
theorem q2510 : (Jvm.Cond.methodLink "CheekTownLaw" (179 : Nat) ({ cls := "CheekTownModel", name := "cold", desc := "(IZ)Z" } : Jvm.MethodName)) ∈ lw_all := lw_g (lw_at lw_m10 234 rfl) rfl
theorem q2514 : (Jvm.Cond.methodLink "CheekTownLaw" (182 : Nat) ({ cls := "CheekTownModel", name := "ties", desc := "(II)I" } : Jvm.MethodName)) ∈ lw_all := lw_g (lw_at lw_m10 238 rfl) rfl
theorem q2518 : (Jvm.Cond.methodLink "CheekTownLaw" (185 : Nat) ({ cls := "CheekTownModel", name := "cut", desc := "(I)I" } : Jvm.MethodName)) ∈ lw_all := lw_g (lw_at lw_m11 2 rfl) rfl
theorem q2522 : (Jvm.Cond.methodLink "CheekTownLaw" (188 : Nat) ({ cls := "CheekTownModel", name := "feast", desc := "(II)I" } : Jvm.MethodName)) ∈ lw_all := lw_g (lw_at lw_m11 6 rfl) rfl
theorem q2529 : (Jvm.Cond.methodLink "CheekTownLaw" (191 : Nat) ({ cls := "CheekTownModel", name := "expected", desc := "(II)I" } : Jvm.MethodName)) ∈ lw_all := lw_g (lw_at lw_m11 13 rfl) rfl
theorem q2537 : (Jvm.Cond.methodLink "CheekTownLaw" (194 : Nat) ({ cls := "CheekTownModel", name := "best", desc := "(I)I" } : Jvm.MethodName)) ∈ lw_all := lw_g (lw_at lw_m11 21 rfl) rfl
theorem q2545 : (Jvm.Cond.methodLink "CheekTownLaw" (198 : Nat) ({ cls := "CheekTownModel", name := "safest", desc := "(Z)I" } : Jvm.MethodName)) ∈ lw_all := lw_g (lw_at lw_m11 29 rfl) rfl
theorem q2553 : (Jvm.Cond.methodLink "CheekTownLaw" (201 : Nat) ({ cls := "CheekTownModel", name := "odds", desc := "(II)I" } : Jvm.MethodName)) ∈ lw_all := lw_g (lw_at lw_m11 37 rfl) rfl
theorem q2557 : (Jvm.Cond.methodLink "CheekTownLaw" (205 : Nat) ({ cls := "CheekTownModel", name := "from", desc := "(Z)I" } : Jvm.MethodName)) ∈ lw_all := lw_g (lw_at lw_m11 41 rfl) rfl
theorem q2565 : (Jvm.Cond.methodLink "CheekTownLaw" (209 : Nat) ({ cls := "CheekTownModel", name := "worth", desc := "()I" } : Jvm.MethodName)) ∈ lw_all := lw_g (lw_at lw_m11 49 rfl) rfl
theorem q2577 : (Jvm.Cond.methodLink "CheekTownLaw" (212 : Nat) ({ cls := "CheekTownModel", name := "rests", desc := "(II)I" } : Jvm.MethodName)) ∈ lw_all := lw_g (lw_at lw_m11 61 rfl) rfl
theorem q2585 : (Jvm.Cond.methodLink "CheekTownLaw" (215 : Nat) ({ cls := "CheekTownModel", name := "sake", desc := "(IIZ)I" } : Jvm.MethodName)) ∈ lw_all := lw_g (lw_at lw_m11 69 rfl) rfl
theorem q2592 : (Jvm.Cond.methodLink "CheekTownLaw" (219 : Nat) ({ cls := "CheekTownModel", name := "table", desc := "(II)I" } : Jvm.MethodName)) ∈ lw_all := lw_g (lw_at lw_m11 76 rfl) rfl
theorem q2604 : (Jvm.Cond.methodLink "CheekTownLaw" (223 : Nat) ({ cls := "CheekTownModel", name := "pairs", desc := "(Z)I" } : Jvm.MethodName)) ∈ lw_all := lw_g (lw_at lw_m11 88 rfl) rfl
theorem q2612 : (Jvm.Cond.methodLink "CheekTownLaw" (226 : Nat) ({ cls := "CheekTownModel", name := "begins", desc := "(I)I" } : Jvm.MethodName)) ∈ lw_all := lw_g (lw_at lw_m11 96 rfl) rfl
theorem q2624 : (Jvm.Cond.methodLink "CheekTownLaw" (229 : Nat) ({ cls := "CheekTownModel", name := "after", desc := "(II)I" } : Jvm.MethodName)) ∈ lw_all := lw_g (lw_at lw_m11 108 rfl) rfl
theorem q2648 : (Jvm.Cond.methodLink "CheekTownLaw" (232 : Nat) ({ cls := "CheekTownModel", name := "custom", desc := "(II)I" } : Jvm.MethodName)) ∈ lw_all := lw_g (lw_at lw_m11 132 rfl) rfl
theorem q2652 : (Jvm.Cond.methodLink "CheekTownLaw" (236 : Nat) ({ cls := "CheekTownModel", name := "still", desc := "()I" } : Jvm.MethodName)) ∈ lw_all := lw_g (lw_at lw_m11 136 rfl) rfl
theorem q2656 : (Jvm.Cond.methodLink "CheekTownLaw" (239 : Nat) ({ cls := "CheekTownModel", name := "told", desc := "(II)I" } : Jvm.MethodName)) ∈ lw_all := lw_g (lw_at lw_m11 140 rfl) rfl
theorem q2664 : (Jvm.Cond.methodLink "CheekTownLaw" (242 : Nat) ({ cls := "CheekTownModel", name := "colds", desc := "(II)I" } : Jvm.MethodName)) ∈ lw_all := lw_g (lw_at lw_m11 148 rfl) rfl
theorem q2676 : (Jvm.Cond.methodLink "CheekTownLaw" (245 : Nat) ({ cls := "CheekTownModel", name := "spared", desc := "(II)I" } : Jvm.MethodName)) ∈ lw_all := lw_g (lw_at lw_m11 160 rfl) rfl
theorem q2680 : (Jvm.Cond.methodLink "CheekTownLaw" (249 : Nat) ({ cls := "CheekTownModel", name := "changed", desc := "(Z)I" } : Jvm.MethodName)) ∈ lw_all := lw_g (lw_at lw_m11 164 rfl) rfl
theorem q2688 : (Jvm.Cond.methodLink "CheekTownLaw" (252 : Nat) ({ cls := "CheekTownModel", name := "trial", desc := "(II)I" } : Jvm.MethodName)) ∈ lw_all := lw_g (lw_at lw_m11 172 rfl) rfl
theorem q2696 : (Jvm.Cond.methodLink "CheekTownLaw" (255 : Nat) ({ cls := "CheekTownModel", name := "span", desc := "(IZ)I" } : Jvm.MethodName)) ∈ lw_all := lw_g (lw_at lw_m11 180 rfl) rfl
theorem q2700 : (Jvm.Cond.methodLink "CheekTownLaw" (258 : Nat) ({ cls := "CheekTownModel", name := "log", desc := "(II)I" } : Jvm.MethodName)) ∈ lw_all := lw_g (lw_at lw_m11 184 rfl) rfl
theorem q2704 : (Jvm.Cond.methodLink "CheekTownLaw" (262 : Nat) ({ cls := "CheekTownModel", name := "seed", desc := "(I)I" } : Jvm.MethodName)) ∈ lw_all := lw_g (lw_at lw_m11 188 rfl) rfl
theorem q2708 : (Jvm.Cond.methodLink "CheekTownLaw" (267 : Nat) ({ cls := "CheekTownModel", name := "undo", desc := "()Z" } : Jvm.MethodName)) ∈ lw_all := lw_g (lw_at lw_m11 192 rfl) rfl
theorem q2712 : (Jvm.Cond.methodLink "CheekTownLaw" (271 : Nat) ({ cls := "CheekTownModel", name := "image", desc := "()V" } : Jvm.MethodName)) ∈ lw_all := lw_g (lw_at lw_m11 196 rfl) rfl
theorem q2716 : (Jvm.Cond.methodLink "CheekTownLaw" (275 : Nat) ({ cls := "CheekTownModel", name := "back", desc := "()Z" } : Jvm.MethodName)) ∈ lw_all := lw_g (lw_at lw_m11 200 rfl) rfl
theorem q2720 : (Jvm.Cond.methodLink "CheekTownLaw" (279 : Nat) ({ cls := "CheekTownModel", name := "count", desc := "(I)I" } : Jvm.MethodName)) ∈ lw_all := lw_g (lw_at lw_m11 204 rfl) rfl
