set_option maxRecDepth 100000
-- CheekTownLaw.town(LCheekTown;[J)I cuts [0]
def tX0_town_0 (d : Nat) (Q : Outcome → MH → Prop) (J : Nat → KT) : KT :=
  i_aload 1 <|
  i_const 0 <|
  i_aload 0 <|
  i_call mX1_town d 1 (pV 1) (xCat 25 2 (i_const 1 <|
  i_ret Q (some .int))
  (xCat 29 2 (i_const 2 <|
  i_ret Q (some .int))
  xNone)) <|
  i_i2l <|
  i_last <|
  i_const 0 <|
  i_ret Q (some .int)
theorem kX0_town_0 {d : Nat} {Q : Outcome → MH → Prop} : ∀ ls st h, tX0_town_0 d Q (fun pc ls st h => WPb mX0_town d pc ls st h Q) ls st h → WPb mX0_town d 0 ls st h Q :=
  r_aload_n (k := 1) dX0_town_0 rfl <|
  r_iconst (v := 0) dX0_town_1 rfl <|
  r_aload_n (k := 0) dX0_town_2 rfl <|
  r_cVX (Z := mX1_town) (ci := 1) (q := (RX1, TX1, 13)) dX0_town_3 rfl (by decide +kernel) ⟨by decide, by decide⟩ (by decide) rfl rfl q1115 q1116 q1117 q117 q1118 (XS.cat (k0 := 25) (pre := []) (suf := [⟨0, 8, 14, 15⟩]) (x := ⟨0, 8, 11, 13⟩) (name := "java/lang/IllegalArgumentException") rfl (fun z hz => by cases hz) (by decide) (by decide) q1113 q618 rfl (Or.inl ⟨2, rfl, dX0_town_11, rfl⟩) (r_iconst (v := 1) dX0_town_12 rfl <|
  r_ret rfl (Or.inl ⟨dX0_town_13, Or.inl rfl⟩))
  (XS.cat (k0 := 29) (pre := [⟨0, 8, 11, 13⟩]) (suf := []) (x := ⟨0, 8, 14, 15⟩) (name := "java/lang/UnsupportedOperationException") rfl (by
    intro z hz
    simp only [List.mem_cons, List.not_mem_nil, or_false] at hz
    rcases hz with rfl
    · exact Or.inr ⟨by decide, "java/lang/IllegalArgumentException", q1113, by decide +kernel⟩) (by decide) (by decide) q1114 q1370 rfl (Or.inl ⟨2, rfl, dX0_town_14, rfl⟩) (r_iconst (v := 2) dX0_town_15 rfl <|
  r_ret rfl (Or.inl ⟨dX0_town_16, Or.inl rfl⟩))
  XS.none)) <|
  r_i2l dX0_town_6 <|
  r_last dX0_town_7 <|
  r_goto (pt := 17) dX0_town_8 (by decide) <|
  r_iconst (v := 0) dX0_town_17 rfl <|
  r_ret rfl (Or.inl ⟨dX0_town_18, Or.inl rfl⟩)
-- CheekTownLaw.law(LCheekTown;[J)I cuts [0]
def tX0_law_0 (d : Nat) (Q : Outcome → MH → Prop) (J : Nat → KT) : KT :=
  i_aload 1 <|
  i_const 0 <|
  i_aload 0 <|
  i_call mX1_law d 1 (pV 1) (xCat 25 2 (i_const 1 <|
  i_ret Q (some .int))
  xNone) <|
  i_i2l <|
  i_last <|
  i_const 0 <|
  i_ret Q (some .int)
theorem kX0_law_0 {d : Nat} {Q : Outcome → MH → Prop} : ∀ ls st h, tX0_law_0 d Q (fun pc ls st h => WPb mX0_law d pc ls st h Q) ls st h → WPb mX0_law d 0 ls st h Q :=
  r_aload_n (k := 1) dX0_law_0 rfl <|
  r_iconst (v := 0) dX0_law_1 rfl <|
  r_aload_n (k := 0) dX0_law_2 rfl <|
  r_cVX (Z := mX1_law) (ci := 1) (q := (RX1, TX1, 13)) dX0_law_3 rfl (by decide +kernel) ⟨by decide, by decide⟩ (by decide) rfl rfl q1386 q1387 q1388 q117 q1389 (XS.cat (k0 := 25) (pre := []) (suf := []) (x := ⟨0, 8, 11, 13⟩) (name := "java/lang/IllegalArgumentException") rfl (fun z hz => by cases hz) (by decide) (by decide) q1113 q618 rfl (Or.inl ⟨2, rfl, dX0_law_11, rfl⟩) (r_iconst (v := 1) dX0_law_12 rfl <|
  r_ret rfl (Or.inl ⟨dX0_law_13, Or.inl rfl⟩))
  XS.none) <|
  r_i2l dX0_law_6 <|
  r_last dX0_law_7 <|
  r_goto (pt := 14) dX0_law_8 (by decide) <|
  r_iconst (v := 0) dX0_law_14 rfl <|
  r_ret rfl (Or.inl ⟨dX0_law_15, Or.inl rfl⟩)
-- CheekTownLaw.cost(LCheekTown;II[J)I cuts [0]
def tX0_cost_0 (d : Nat) (Q : Outcome → MH → Prop) (J : Nat → KT) : KT :=
  i_aload 3 <|
  i_const 0 <|
  i_aload 0 <|
  i_iload 1 <|
  i_iload 2 <|
  i_call mX1_cost d 3 (pV 1) (xCat 26 4 (i_const 1 <|
  i_ret Q (some .int))
  xNone) <|
  i_i2l <|
  i_last <|
  i_const 0 <|
  i_ret Q (some .int)
theorem kX0_cost_0 {d : Nat} {Q : Outcome → MH → Prop} : ∀ ls st h, tX0_cost_0 d Q (fun pc ls st h => WPb mX0_cost d pc ls st h Q) ls st h → WPb mX0_cost d 0 ls st h Q :=
  r_aload_n (k := 3) dX0_cost_0 rfl <|
  r_iconst (v := 0) dX0_cost_1 rfl <|
  r_aload_n (k := 0) dX0_cost_2 rfl <|
  r_iload_n (k := 1) dX0_cost_3 rfl <|
  r_iload_n (k := 2) dX0_cost_4 rfl <|
  r_cV (Z := mX1_cost) (ci := 1) (q := (RX1, TX1, 13)) dX0_cost_5 rfl (by decide +kernel) ⟨by decide, by decide⟩ (by decide) rfl rfl q1628 q1629 q1630 q117 q1631 (XS.cat (k0 := 26) (pre := []) (suf := []) (x := ⟨0, 10, 13, 24⟩) (name := "java/lang/IndexOutOfBoundsException") rfl (fun z hz => by cases hz) (by decide) (by decide) q1625 q1640 rfl (Or.inr ⟨dX0_cost_13, rfl⟩) (r_iconst (v := 1) dX0_cost_15 rfl <|
  r_ret rfl (Or.inl ⟨dX0_cost_16, Or.inl rfl⟩))
  XS.none) <|
  r_i2l dX0_cost_8 <|
  r_last dX0_cost_9 <|
  r_goto (pt := 17) dX0_cost_10 (by decide) <|
  r_iconst (v := 0) dX0_cost_17 rfl <|
  r_ret rfl (Or.inl ⟨dX0_cost_18, Or.inl rfl⟩)
-- CheekTownLaw.habit(LCheekTown;II[J)I cuts [0]
def tX0_habit_0 (d : Nat) (Q : Outcome → MH → Prop) (J : Nat → KT) : KT :=
  i_aload 3 <|
  i_const 0 <|
  i_aload 0 <|
  i_iload 1 <|
  i_iload 2 <|
  i_call mX1_habit d 3 (pV 1) (xCat 26 4 (i_const 1 <|
  i_ret Q (some .int))
  xNone) <|
  i_i2l <|
  i_last <|
  i_const 0 <|
  i_ret Q (some .int)
theorem kX0_habit_0 {d : Nat} {Q : Outcome → MH → Prop} : ∀ ls st h, tX0_habit_0 d Q (fun pc ls st h => WPb mX0_habit d pc ls st h Q) ls st h → WPb mX0_habit d 0 ls st h Q :=
  r_aload_n (k := 3) dX0_habit_0 rfl <|
  r_iconst (v := 0) dX0_habit_1 rfl <|
  r_aload_n (k := 0) dX0_habit_2 rfl <|
  r_iload_n (k := 1) dX0_habit_3 rfl <|
  r_iload_n (k := 2) dX0_habit_4 rfl <|
  r_cV (Z := mX1_habit) (ci := 1) (q := (RX1, TX1, 13)) dX0_habit_5 rfl (by decide +kernel) ⟨by decide, by decide⟩ (by decide) rfl rfl q1656 q1657 q1658 q117 q1659 (XS.cat (k0 := 26) (pre := []) (suf := []) (x := ⟨0, 10, 13, 24⟩) (name := "java/lang/IndexOutOfBoundsException") rfl (fun z hz => by cases hz) (by decide) (by decide) q1625 q1640 rfl (Or.inr ⟨dX0_habit_13, rfl⟩) (r_iconst (v := 1) dX0_habit_15 rfl <|
  r_ret rfl (Or.inl ⟨dX0_habit_16, Or.inl rfl⟩))
  XS.none) <|
  r_i2l dX0_habit_8 <|
  r_last dX0_habit_9 <|
  r_goto (pt := 17) dX0_habit_10 (by decide) <|
  r_iconst (v := 0) dX0_habit_17 rfl <|
  r_ret rfl (Or.inl ⟨dX0_habit_18, Or.inl rfl⟩)
-- CheekTownLaw.person(LCheekTown;II[J)I cuts [0]
def tX0_person_0 (d : Nat) (Q : Outcome → MH → Prop) (J : Nat → KT) : KT :=
  i_aload 3 <|
  i_const 0 <|
  i_aload 0 <|
  i_iload 1 <|
  i_iload 2 <|
  i_call mX1_person d 3 (pV 1) (xCat 26 4 (i_const 1 <|
  i_ret Q (some .int))
  (xCat 27 4 (i_const 2 <|
  i_ret Q (some .int))
  xNone)) <|
  i_i2l <|
  i_last <|
  i_const 0 <|
  i_ret Q (some .int)
theorem kX0_person_0 {d : Nat} {Q : Outcome → MH → Prop} : ∀ ls st h, tX0_person_0 d Q (fun pc ls st h => WPb mX0_person d pc ls st h Q) ls st h → WPb mX0_person d 0 ls st h Q :=
  r_aload_n (k := 3) dX0_person_0 rfl <|
  r_iconst (v := 0) dX0_person_1 rfl <|
  r_aload_n (k := 0) dX0_person_2 rfl <|
  r_iload_n (k := 1) dX0_person_3 rfl <|
  r_iload_n (k := 2) dX0_person_4 rfl <|
  r_cV (Z := mX1_person) (ci := 1) (q := (RX1, TX1, 13)) dX0_person_5 rfl (by decide +kernel) ⟨by decide, by decide⟩ (by decide) rfl rfl q1672 q1673 q1674 q117 q1675 (XS.cat (k0 := 26) (pre := []) (suf := [⟨0, 10, 17, 32⟩]) (x := ⟨0, 10, 13, 24⟩) (name := "java/lang/IndexOutOfBoundsException") rfl (fun z hz => by cases hz) (by decide) (by decide) q1625 q1640 rfl (Or.inr ⟨dX0_person_13, rfl⟩) (r_iconst (v := 1) dX0_person_15 rfl <|
  r_ret rfl (Or.inl ⟨dX0_person_16, Or.inl rfl⟩))
  (XS.cat (k0 := 27) (pre := [⟨0, 10, 13, 24⟩]) (suf := []) (x := ⟨0, 10, 17, 32⟩) (name := "java/util/NoSuchElementException") rfl (by
    intro z hz
    simp only [List.mem_cons, List.not_mem_nil, or_false] at hz
    rcases hz with rfl
    · exact Or.inr ⟨by decide, "java/lang/IndexOutOfBoundsException", q1625, by decide +kernel⟩) (by decide) (by decide) q1671 q1685 rfl (Or.inr ⟨dX0_person_17, rfl⟩) (r_iconst (v := 2) dX0_person_19 rfl <|
  r_ret rfl (Or.inl ⟨dX0_person_20, Or.inl rfl⟩))
  XS.none)) <|
  r_i2l dX0_person_8 <|
  r_last dX0_person_9 <|
  r_goto (pt := 21) dX0_person_10 (by decide) <|
  r_iconst (v := 0) dX0_person_21 rfl <|
  r_ret rfl (Or.inl ⟨dX0_person_22, Or.inl rfl⟩)
-- CheekTownLaw.saw(LCheekTown;IIZ[J)I cuts [0]
def tX0_saw_0 (d : Nat) (Q : Outcome → MH → Prop) (J : Nat → KT) : KT :=
  i_aload 4 <|
  i_const 0 <|
  i_aload 0 <|
  i_iload 1 <|
  i_iload 2 <|
  i_iload 3 <|
  i_call mX1_saw d 4 (pV 1) (xCat 26 5 (i_const 1 <|
  i_ret Q (some .int))
  (xCat 25 5 (i_const 2 <|
  i_ret Q (some .int))
  xNone)) <|
  i_i2l <|
  i_last <|
  i_const 0 <|
  i_ret Q (some .int)
theorem kX0_saw_0 {d : Nat} {Q : Outcome → MH → Prop} : ∀ ls st h, tX0_saw_0 d Q (fun pc ls st h => WPb mX0_saw d pc ls st h Q) ls st h → WPb mX0_saw d 0 ls st h Q :=
  r_aload dX0_saw_0 <|
  r_iconst (v := 0) dX0_saw_2 rfl <|
  r_aload_n (k := 0) dX0_saw_3 rfl <|
  r_iload_n (k := 1) dX0_saw_4 rfl <|
  r_iload_n (k := 2) dX0_saw_5 rfl <|
  r_iload_n (k := 3) dX0_saw_6 rfl <|
  r_cV (Z := mX1_saw) (ci := 1) (q := (RX1, TX1, 13)) dX0_saw_7 rfl (by decide +kernel) ⟨by decide, by decide⟩ (by decide) rfl rfl q1706 q1707 q1708 q117 q1709 (XS.cat (k0 := 26) (pre := []) (suf := [⟨0, 12, 19, 13⟩]) (x := ⟨0, 12, 15, 24⟩) (name := "java/lang/IndexOutOfBoundsException") rfl (fun z hz => by cases hz) (by decide) (by decide) q1625 q1640 rfl (Or.inr ⟨dX0_saw_15, rfl⟩) (r_iconst (v := 1) dX0_saw_17 rfl <|
  r_ret rfl (Or.inl ⟨dX0_saw_18, Or.inl rfl⟩))
  (XS.cat (k0 := 25) (pre := [⟨0, 12, 15, 24⟩]) (suf := []) (x := ⟨0, 12, 19, 13⟩) (name := "java/lang/IllegalArgumentException") rfl (by
    intro z hz
    simp only [List.mem_cons, List.not_mem_nil, or_false] at hz
    rcases hz with rfl
    · exact Or.inr ⟨by decide, "java/lang/IndexOutOfBoundsException", q1625, by decide +kernel⟩) (by decide) (by decide) q1113 q618 rfl (Or.inr ⟨dX0_saw_19, rfl⟩) (r_iconst (v := 2) dX0_saw_21 rfl <|
  r_ret rfl (Or.inl ⟨dX0_saw_22, Or.inl rfl⟩))
  XS.none)) <|
  r_i2l dX0_saw_10 <|
  r_last dX0_saw_11 <|
  r_goto (pt := 23) dX0_saw_12 (by decide) <|
  r_iconst (v := 0) dX0_saw_23 rfl <|
  r_ret rfl (Or.inl ⟨dX0_saw_24, Or.inl rfl⟩)
-- CheekTownLaw.tie(LCheekTown;IZ[J)I cuts [0]
def tX0_tie_0 (d : Nat) (Q : Outcome → MH → Prop) (J : Nat → KT) : KT :=
  i_aload 3 <|
  i_const 0 <|
  i_aload 0 <|
  i_iload 1 <|
  i_iload 2 <|
  i_call mX1_tie d 3 (pV 1) (xCat 26 4 (i_const 1 <|
  i_ret Q (some .int))
  xNone) <|
  i_i2l <|
  i_last <|
  i_const 0 <|
  i_ret Q (some .int)
theorem kX0_tie_0 {d : Nat} {Q : Outcome → MH → Prop} : ∀ ls st h, tX0_tie_0 d Q (fun pc ls st h => WPb mX0_tie d pc ls st h Q) ls st h → WPb mX0_tie d 0 ls st h Q :=
  r_aload_n (k := 3) dX0_tie_0 rfl <|
  r_iconst (v := 0) dX0_tie_1 rfl <|
  r_aload_n (k := 0) dX0_tie_2 rfl <|
  r_iload_n (k := 1) dX0_tie_3 rfl <|
  r_iload_n (k := 2) dX0_tie_4 rfl <|
  r_cV (Z := mX1_tie) (ci := 1) (q := (RX1, TX1, 13)) dX0_tie_5 rfl (by decide +kernel) ⟨by decide, by decide⟩ (by decide) rfl rfl q1720 q1721 q1722 q117 q1723 (XS.cat (k0 := 26) (pre := []) (suf := []) (x := ⟨0, 10, 13, 24⟩) (name := "java/lang/IndexOutOfBoundsException") rfl (fun z hz => by cases hz) (by decide) (by decide) q1625 q1640 rfl (Or.inr ⟨dX0_tie_13, rfl⟩) (r_iconst (v := 1) dX0_tie_15 rfl <|
  r_ret rfl (Or.inl ⟨dX0_tie_16, Or.inl rfl⟩))
  XS.none) <|
  r_i2l dX0_tie_8 <|
  r_last dX0_tie_9 <|
  r_goto (pt := 17) dX0_tie_10 (by decide) <|
  r_iconst (v := 0) dX0_tie_17 rfl <|
  r_ret rfl (Or.inl ⟨dX0_tie_18, Or.inl rfl⟩)
-- CheekTownLaw.will(LCheekTown;II[J)I cuts [0]
def tX0_will_0 (d : Nat) (Q : Outcome → MH → Prop) (J : Nat → KT) : KT :=
  i_aload 3 <|
  i_const 0 <|
  i_aload 0 <|
  i_iload 1 <|
  i_iload 2 <|
  i_call mX1_will d 3 (pV 1) (xCat 26 4 (i_const 1 <|
  i_ret Q (some .int))
  (xCat 25 4 (i_const 2 <|
  i_ret Q (some .int))
  xNone)) <|
  i_i2l <|
  i_last <|
  i_const 0 <|
  i_ret Q (some .int)
theorem kX0_will_0 {d : Nat} {Q : Outcome → MH → Prop} : ∀ ls st h, tX0_will_0 d Q (fun pc ls st h => WPb mX0_will d pc ls st h Q) ls st h → WPb mX0_will d 0 ls st h Q :=
  r_aload_n (k := 3) dX0_will_0 rfl <|
  r_iconst (v := 0) dX0_will_1 rfl <|
  r_aload_n (k := 0) dX0_will_2 rfl <|
  r_iload_n (k := 1) dX0_will_3 rfl <|
  r_iload_n (k := 2) dX0_will_4 rfl <|
  r_cV (Z := mX1_will) (ci := 1) (q := (RX1, TX1, 13)) dX0_will_5 rfl (by decide +kernel) ⟨by decide, by decide⟩ (by decide) rfl rfl q1727 q1728 q1729 q117 q1730 (XS.cat (k0 := 26) (pre := []) (suf := [⟨0, 10, 17, 13⟩]) (x := ⟨0, 10, 13, 24⟩) (name := "java/lang/IndexOutOfBoundsException") rfl (fun z hz => by cases hz) (by decide) (by decide) q1625 q1640 rfl (Or.inr ⟨dX0_will_13, rfl⟩) (r_iconst (v := 1) dX0_will_15 rfl <|
  r_ret rfl (Or.inl ⟨dX0_will_16, Or.inl rfl⟩))
  (XS.cat (k0 := 25) (pre := [⟨0, 10, 13, 24⟩]) (suf := []) (x := ⟨0, 10, 17, 13⟩) (name := "java/lang/IllegalArgumentException") rfl (by
    intro z hz
    simp only [List.mem_cons, List.not_mem_nil, or_false] at hz
    rcases hz with rfl
    · exact Or.inr ⟨by decide, "java/lang/IndexOutOfBoundsException", q1625, by decide +kernel⟩) (by decide) (by decide) q1113 q618 rfl (Or.inr ⟨dX0_will_17, rfl⟩) (r_iconst (v := 2) dX0_will_19 rfl <|
  r_ret rfl (Or.inl ⟨dX0_will_20, Or.inl rfl⟩))
  XS.none)) <|
  r_i2l dX0_will_8 <|
  r_last dX0_will_9 <|
  r_goto (pt := 21) dX0_will_10 (by decide) <|
  r_iconst (v := 0) dX0_will_21 rfl <|
  r_ret rfl (Or.inl ⟨dX0_will_22, Or.inl rfl⟩)
-- CheekTownLaw.meet(LCheekTown;II[J)I cuts [0]
def tX0_meet_0 (d : Nat) (Q : Outcome → MH → Prop) (J : Nat → KT) : KT :=
  i_aload 3 <|
  i_const 0 <|
  i_aload 0 <|
  i_iload 1 <|
  i_iload 2 <|
  i_call mX1_meet d 3 (pV 1) (xCat 26 4 (i_const 1 <|
  i_ret Q (some .int))
  (xCat 25 4 (i_const 2 <|
  i_ret Q (some .int))
  xNone)) <|
  i_i2l <|
  i_last <|
  i_const 0 <|
  i_ret Q (some .int)
theorem kX0_meet_0 {d : Nat} {Q : Outcome → MH → Prop} : ∀ ls st h, tX0_meet_0 d Q (fun pc ls st h => WPb mX0_meet d pc ls st h Q) ls st h → WPb mX0_meet d 0 ls st h Q :=
  r_aload_n (k := 3) dX0_meet_0 rfl <|
  r_iconst (v := 0) dX0_meet_1 rfl <|
  r_aload_n (k := 0) dX0_meet_2 rfl <|
  r_iload_n (k := 1) dX0_meet_3 rfl <|
  r_iload_n (k := 2) dX0_meet_4 rfl <|
  r_cV (Z := mX1_meet) (ci := 1) (q := (RX1, TX1, 13)) dX0_meet_5 rfl (by decide +kernel) ⟨by decide, by decide⟩ (by decide) rfl rfl q1809 q1810 q1811 q117 q1812 (XS.cat (k0 := 26) (pre := []) (suf := [⟨0, 10, 17, 13⟩]) (x := ⟨0, 10, 13, 24⟩) (name := "java/lang/IndexOutOfBoundsException") rfl (fun z hz => by cases hz) (by decide) (by decide) q1625 q1640 rfl (Or.inr ⟨dX0_meet_13, rfl⟩) (r_iconst (v := 1) dX0_meet_15 rfl <|
  r_ret rfl (Or.inl ⟨dX0_meet_16, Or.inl rfl⟩))
  (XS.cat (k0 := 25) (pre := [⟨0, 10, 13, 24⟩]) (suf := []) (x := ⟨0, 10, 17, 13⟩) (name := "java/lang/IllegalArgumentException") rfl (by
    intro z hz
    simp only [List.mem_cons, List.not_mem_nil, or_false] at hz
    rcases hz with rfl
    · exact Or.inr ⟨by decide, "java/lang/IndexOutOfBoundsException", q1625, by decide +kernel⟩) (by decide) (by decide) q1113 q618 rfl (Or.inr ⟨dX0_meet_17, rfl⟩) (r_iconst (v := 2) dX0_meet_19 rfl <|
  r_ret rfl (Or.inl ⟨dX0_meet_20, Or.inl rfl⟩))
  XS.none)) <|
  r_i2l dX0_meet_8 <|
  r_last dX0_meet_9 <|
  r_goto (pt := 21) dX0_meet_10 (by decide) <|
  r_iconst (v := 0) dX0_meet_21 rfl <|
  r_ret rfl (Or.inl ⟨dX0_meet_22, Or.inl rfl⟩)
-- CheekTownLaw.rounds(LCheekTown;I[J)I cuts [0]
def tX0_rounds_0 (d : Nat) (Q : Outcome → MH → Prop) (J : Nat → KT) : KT :=
  i_aload 2 <|
  i_const 0 <|
  i_aload 0 <|
  i_iload 1 <|
  i_call mX1_rounds d 2 (pV 1) (xCat 25 3 (i_const 1 <|
  i_ret Q (some .int))
  xNone) <|
  i_i2l <|
  i_last <|
  i_const 0 <|
  i_ret Q (some .int)
theorem kX0_rounds_0 {d : Nat} {Q : Outcome → MH → Prop} : ∀ ls st h, tX0_rounds_0 d Q (fun pc ls st h => WPb mX0_rounds d pc ls st h Q) ls st h → WPb mX0_rounds d 0 ls st h Q :=
  r_aload_n (k := 2) dX0_rounds_0 rfl <|
  r_iconst (v := 0) dX0_rounds_1 rfl <|
  r_aload_n (k := 0) dX0_rounds_2 rfl <|
  r_iload_n (k := 1) dX0_rounds_3 rfl <|
  r_cV (Z := mX1_rounds) (ci := 1) (q := (RX1, TX1, 13)) dX0_rounds_4 rfl (by decide +kernel) ⟨by decide, by decide⟩ (by decide) rfl rfl q1858 q1859 q1860 q117 q1861 (XS.cat (k0 := 25) (pre := []) (suf := []) (x := ⟨0, 9, 12, 13⟩) (name := "java/lang/IllegalArgumentException") rfl (fun z hz => by cases hz) (by decide) (by decide) q1113 q618 rfl (Or.inl ⟨3, rfl, dX0_rounds_12, rfl⟩) (r_iconst (v := 1) dX0_rounds_13 rfl <|
  r_ret rfl (Or.inl ⟨dX0_rounds_14, Or.inl rfl⟩))
  XS.none) <|
  r_i2l dX0_rounds_7 <|
  r_last dX0_rounds_8 <|
  r_goto (pt := 15) dX0_rounds_9 (by decide) <|
  r_iconst (v := 0) dX0_rounds_15 rfl <|
  r_ret rfl (Or.inl ⟨dX0_rounds_16, Or.inl rfl⟩)
-- CheekTownLaw.own(LCheekTown;II[J)I cuts [0]
def tX0_own_0 (d : Nat) (Q : Outcome → MH → Prop) (J : Nat → KT) : KT :=
  i_aload 3 <|
  i_const 0 <|
  i_aload 0 <|
  i_iload 1 <|
  i_iload 2 <|
  i_call mX1_own d 3 (pV 1) (xCat 26 4 (i_const 1 <|
  i_ret Q (some .int))
  xNone) <|
  i_i2l <|
  i_last <|
  i_const 0 <|
  i_ret Q (some .int)
theorem kX0_own_0 {d : Nat} {Q : Outcome → MH → Prop} : ∀ ls st h, tX0_own_0 d Q (fun pc ls st h => WPb mX0_own d pc ls st h Q) ls st h → WPb mX0_own d 0 ls st h Q :=
  r_aload_n (k := 3) dX0_own_0 rfl <|
  r_iconst (v := 0) dX0_own_1 rfl <|
  r_aload_n (k := 0) dX0_own_2 rfl <|
  r_iload_n (k := 1) dX0_own_3 rfl <|
  r_iload_n (k := 2) dX0_own_4 rfl <|
  r_cV (Z := mX1_own) (ci := 1) (q := (RX1, TX1, 13)) dX0_own_5 rfl (by decide +kernel) ⟨by decide, by decide⟩ (by decide) rfl rfl q1869 q1870 q1871 q117 q1872 (XS.cat (k0 := 26) (pre := []) (suf := []) (x := ⟨0, 10, 13, 24⟩) (name := "java/lang/IndexOutOfBoundsException") rfl (fun z hz => by cases hz) (by decide) (by decide) q1625 q1640 rfl (Or.inr ⟨dX0_own_13, rfl⟩) (r_iconst (v := 1) dX0_own_15 rfl <|
  r_ret rfl (Or.inl ⟨dX0_own_16, Or.inl rfl⟩))
  XS.none) <|
  r_i2l dX0_own_8 <|
  r_last dX0_own_9 <|
  r_goto (pt := 17) dX0_own_10 (by decide) <|
  r_iconst (v := 0) dX0_own_17 rfl <|
  r_ret rfl (Or.inl ⟨dX0_own_18, Or.inl rfl⟩)
-- CheekTownLaw.cold(LCheekTown;IZ[J)I cuts [0]
def tX0_cold_0 (d : Nat) (Q : Outcome → MH → Prop) (J : Nat → KT) : KT :=
  i_aload 3 <|
  i_const 0 <|
  i_aload 0 <|
  i_iload 1 <|
  i_iload 2 <|
  i_call mX1_cold d 3 (pV 1) (xCat 26 4 (i_const 1 <|
  i_ret Q (some .int))
  xNone) <|
  i_if_eq
  (i_lconst 0 <|
  i_last <|
  i_const 0 <|
  i_ret Q (some .int))
  (i_lconst 1 <|
  i_last <|
  i_const 0 <|
  i_ret Q (some .int))
theorem kX0_cold_0 {d : Nat} {Q : Outcome → MH → Prop} : ∀ ls st h, tX0_cold_0 d Q (fun pc ls st h => WPb mX0_cold d pc ls st h Q) ls st h → WPb mX0_cold d 0 ls st h Q :=
  r_aload_n (k := 3) dX0_cold_0 rfl <|
  r_iconst (v := 0) dX0_cold_1 rfl <|
  r_aload_n (k := 0) dX0_cold_2 rfl <|
  r_iload_n (k := 1) dX0_cold_3 rfl <|
  r_iload_n (k := 2) dX0_cold_4 rfl <|
  r_cV (Z := mX1_cold) (ci := 1) (q := (RX1, TX1, 13)) dX0_cold_5 rfl (by decide +kernel) ⟨by decide, by decide⟩ (by decide) rfl rfl q1876 q1877 q1878 q117 q1879 (XS.cat (k0 := 26) (pre := []) (suf := []) (x := ⟨0, 17, 20, 24⟩) (name := "java/lang/IndexOutOfBoundsException") rfl (fun z hz => by cases hz) (by decide) (by decide) q1625 q1640 rfl (Or.inr ⟨dX0_cold_20, rfl⟩) (r_iconst (v := 1) dX0_cold_22 rfl <|
  r_ret rfl (Or.inl ⟨dX0_cold_23, Or.inl rfl⟩))
  XS.none) <|
  r_if_eq (pt := 15) dX0_cold_8 (by decide)
  (r_lconst (v := 0) dX0_cold_15 rfl <|
  r_last dX0_cold_16 <|
  r_goto (pt := 24) dX0_cold_17 (by decide) <|
  r_iconst (v := 0) dX0_cold_24 rfl <|
  r_ret rfl (Or.inl ⟨dX0_cold_25, Or.inl rfl⟩))
  (r_lconst (v := 1) dX0_cold_11 rfl <|
  r_goto (pt := 16) dX0_cold_12 (by decide) <|
  r_last dX0_cold_16 <|
  r_goto (pt := 24) dX0_cold_17 (by decide) <|
  r_iconst (v := 0) dX0_cold_24 rfl <|
  r_ret rfl (Or.inl ⟨dX0_cold_25, Or.inl rfl⟩))
-- CheekTownLaw.ties(LCheekTown;II[J)I cuts [0]
def tX0_ties_0 (d : Nat) (Q : Outcome → MH → Prop) (J : Nat → KT) : KT :=
  i_aload 3 <|
  i_const 0 <|
  i_aload 0 <|
  i_iload 1 <|
  i_iload 2 <|
  i_call mX1_ties d 3 (pV 1) (xCat 26 4 (i_const 1 <|
  i_ret Q (some .int))
  (xCat 25 4 (i_const 2 <|
  i_ret Q (some .int))
  (xCat 28 4 (i_const 3 <|
  i_ret Q (some .int))
  (xCat 29 4 (i_const 4 <|
  i_ret Q (some .int))
  xNone)))) <|
  i_i2l <|
  i_last <|
  i_const 0 <|
  i_ret Q (some .int)
theorem kX0_ties_0 {d : Nat} {Q : Outcome → MH → Prop} : ∀ ls st h, tX0_ties_0 d Q (fun pc ls st h => WPb mX0_ties d pc ls st h Q) ls st h → WPb mX0_ties d 0 ls st h Q :=
  r_aload_n (k := 3) dX0_ties_0 rfl <|
  r_iconst (v := 0) dX0_ties_1 rfl <|
  r_aload_n (k := 0) dX0_ties_2 rfl <|
  r_iload_n (k := 1) dX0_ties_3 rfl <|
  r_iload_n (k := 2) dX0_ties_4 rfl <|
  r_cV (Z := mX1_ties) (ci := 1) (q := (RX1, TX1, 13)) dX0_ties_5 rfl (by decide +kernel) ⟨by decide, by decide⟩ (by decide) rfl rfl q1884 q1885 q1886 q117 q1887 (XS.cat (k0 := 26) (pre := []) (suf := [⟨0, 10, 17, 13⟩, ⟨0, 10, 21, 62⟩, ⟨0, 10, 25, 15⟩]) (x := ⟨0, 10, 13, 24⟩) (name := "java/lang/IndexOutOfBoundsException") rfl (fun z hz => by cases hz) (by decide) (by decide) q1625 q1640 rfl (Or.inr ⟨dX0_ties_13, rfl⟩) (r_iconst (v := 1) dX0_ties_15 rfl <|
  r_ret rfl (Or.inl ⟨dX0_ties_16, Or.inl rfl⟩))
  (XS.cat (k0 := 25) (pre := [⟨0, 10, 13, 24⟩]) (suf := [⟨0, 10, 21, 62⟩, ⟨0, 10, 25, 15⟩]) (x := ⟨0, 10, 17, 13⟩) (name := "java/lang/IllegalArgumentException") rfl (by
    intro z hz
    simp only [List.mem_cons, List.not_mem_nil, or_false] at hz
    rcases hz with rfl
    · exact Or.inr ⟨by decide, "java/lang/IndexOutOfBoundsException", q1625, by decide +kernel⟩) (by decide) (by decide) q1113 q618 rfl (Or.inr ⟨dX0_ties_17, rfl⟩) (r_iconst (v := 2) dX0_ties_19 rfl <|
  r_ret rfl (Or.inl ⟨dX0_ties_20, Or.inl rfl⟩))
  (XS.cat (k0 := 28) (pre := [⟨0, 10, 13, 24⟩, ⟨0, 10, 17, 13⟩]) (suf := [⟨0, 10, 25, 15⟩]) (x := ⟨0, 10, 21, 62⟩) (name := "java/lang/IllegalStateException") rfl (by
    intro z hz
    simp only [List.mem_cons, List.not_mem_nil, or_false] at hz
    rcases hz with rfl | rfl
    · exact Or.inr ⟨by decide, "java/lang/IndexOutOfBoundsException", q1625, by decide +kernel⟩
    · exact Or.inr ⟨by decide, "java/lang/IllegalArgumentException", q1113, by decide +kernel⟩) (by decide) (by decide) q1883 q1890 rfl (Or.inr ⟨dX0_ties_21, rfl⟩) (r_iconst (v := 3) dX0_ties_23 rfl <|
  r_ret rfl (Or.inl ⟨dX0_ties_24, Or.inl rfl⟩))
  (XS.cat (k0 := 29) (pre := [⟨0, 10, 13, 24⟩, ⟨0, 10, 17, 13⟩, ⟨0, 10, 21, 62⟩]) (suf := []) (x := ⟨0, 10, 25, 15⟩) (name := "java/lang/UnsupportedOperationException") rfl (by
    intro z hz
    simp only [List.mem_cons, List.not_mem_nil, or_false] at hz
    rcases hz with rfl | rfl | rfl
    · exact Or.inr ⟨by decide, "java/lang/IndexOutOfBoundsException", q1625, by decide +kernel⟩
    · exact Or.inr ⟨by decide, "java/lang/IllegalArgumentException", q1113, by decide +kernel⟩
    · exact Or.inr ⟨by decide, "java/lang/IllegalStateException", q1883, by decide +kernel⟩) (by decide) (by decide) q1114 q1370 rfl (Or.inr ⟨dX0_ties_25, rfl⟩) (r_iconst (v := 4) dX0_ties_27 rfl <|
  r_ret rfl (Or.inl ⟨dX0_ties_28, Or.inl rfl⟩))
  XS.none)))) <|
  r_i2l dX0_ties_8 <|
  r_last dX0_ties_9 <|
  r_goto (pt := 29) dX0_ties_10 (by decide) <|
  r_iconst (v := 0) dX0_ties_29 rfl <|
  r_ret rfl (Or.inl ⟨dX0_ties_30, Or.inl rfl⟩)
-- CheekTownLaw.cut(LCheekTown;I[J)I cuts [0]
def tX0_cut_0 (d : Nat) (Q : Outcome → MH → Prop) (J : Nat → KT) : KT :=
  i_aload 2 <|
  i_const 0 <|
  i_aload 0 <|
  i_iload 1 <|
  i_call mX1_cut d 2 (pV 1) (xCat 26 3 (i_const 1 <|
  i_ret Q (some .int))
  xNone) <|
  i_i2l <|
  i_last <|
  i_const 0 <|
  i_ret Q (some .int)
theorem kX0_cut_0 {d : Nat} {Q : Outcome → MH → Prop} : ∀ ls st h, tX0_cut_0 d Q (fun pc ls st h => WPb mX0_cut d pc ls st h Q) ls st h → WPb mX0_cut d 0 ls st h Q :=
  r_aload_n (k := 2) dX0_cut_0 rfl <|
  r_iconst (v := 0) dX0_cut_1 rfl <|
  r_aload_n (k := 0) dX0_cut_2 rfl <|
  r_iload_n (k := 1) dX0_cut_3 rfl <|
  r_cV (Z := mX1_cut) (ci := 1) (q := (RX1, TX1, 13)) dX0_cut_4 rfl (by decide +kernel) ⟨by decide, by decide⟩ (by decide) rfl rfl q1906 q1907 q1908 q117 q1909 (XS.cat (k0 := 26) (pre := []) (suf := []) (x := ⟨0, 9, 12, 24⟩) (name := "java/lang/IndexOutOfBoundsException") rfl (fun z hz => by cases hz) (by decide) (by decide) q1625 q1640 rfl (Or.inl ⟨3, rfl, dX0_cut_12, rfl⟩) (r_iconst (v := 1) dX0_cut_13 rfl <|
  r_ret rfl (Or.inl ⟨dX0_cut_14, Or.inl rfl⟩))
  XS.none) <|
  r_i2l dX0_cut_7 <|
  r_last dX0_cut_8 <|
  r_goto (pt := 15) dX0_cut_9 (by decide) <|
  r_iconst (v := 0) dX0_cut_15 rfl <|
  r_ret rfl (Or.inl ⟨dX0_cut_16, Or.inl rfl⟩)
-- CheekTownLaw.feast(LCheekTown;II[J)I cuts [0]
def tX0_feast_0 (d : Nat) (Q : Outcome → MH → Prop) (J : Nat → KT) : KT :=
  i_aload 3 <|
  i_const 0 <|
  i_aload 0 <|
  i_iload 1 <|
  i_iload 2 <|
  i_call mX1_feast d 3 (pV 1) (xCat 26 4 (i_const 1 <|
  i_ret Q (some .int))
  xNone) <|
  i_i2l <|
  i_last <|
  i_const 0 <|
  i_ret Q (some .int)
theorem kX0_feast_0 {d : Nat} {Q : Outcome → MH → Prop} : ∀ ls st h, tX0_feast_0 d Q (fun pc ls st h => WPb mX0_feast d pc ls st h Q) ls st h → WPb mX0_feast d 0 ls st h Q :=
  r_aload_n (k := 3) dX0_feast_0 rfl <|
  r_iconst (v := 0) dX0_feast_1 rfl <|
  r_aload_n (k := 0) dX0_feast_2 rfl <|
  r_iload_n (k := 1) dX0_feast_3 rfl <|
  r_iload_n (k := 2) dX0_feast_4 rfl <|
  r_cV (Z := mX1_feast) (ci := 1) (q := (RX1, TX1, 13)) dX0_feast_5 rfl (by decide +kernel) ⟨by decide, by decide⟩ (by decide) rfl rfl q1917 q1918 q1919 q117 q1920 (XS.cat (k0 := 26) (pre := []) (suf := []) (x := ⟨0, 10, 13, 24⟩) (name := "java/lang/IndexOutOfBoundsException") rfl (fun z hz => by cases hz) (by decide) (by decide) q1625 q1640 rfl (Or.inr ⟨dX0_feast_13, rfl⟩) (r_iconst (v := 1) dX0_feast_15 rfl <|
  r_ret rfl (Or.inl ⟨dX0_feast_16, Or.inl rfl⟩))
  XS.none) <|
  r_i2l dX0_feast_8 <|
  r_last dX0_feast_9 <|
  r_goto (pt := 17) dX0_feast_10 (by decide) <|
  r_iconst (v := 0) dX0_feast_17 rfl <|
  r_ret rfl (Or.inl ⟨dX0_feast_18, Or.inl rfl⟩)
-- CheekTownLaw.expected(LCheekTown;II[J)I cuts [0]
def tX0_expected_0 (d : Nat) (Q : Outcome → MH → Prop) (J : Nat → KT) : KT :=
  i_aload 3 <|
  i_const 0 <|
  i_aload 0 <|
  i_iload 1 <|
  i_iload 2 <|
  i_call mX1_expected d 3 (pV 1) (xCat 26 4 (i_const 1 <|
  i_ret Q (some .int))
  xNone) <|
  i_i2l <|
  i_last <|
  i_const 0 <|
  i_ret Q (some .int)
theorem kX0_expected_0 {d : Nat} {Q : Outcome → MH → Prop} : ∀ ls st h, tX0_expected_0 d Q (fun pc ls st h => WPb mX0_expected d pc ls st h Q) ls st h → WPb mX0_expected d 0 ls st h Q :=
  r_aload_n (k := 3) dX0_expected_0 rfl <|
  r_iconst (v := 0) dX0_expected_1 rfl <|
  r_aload_n (k := 0) dX0_expected_2 rfl <|
  r_iload_n (k := 1) dX0_expected_3 rfl <|
  r_iload_n (k := 2) dX0_expected_4 rfl <|
  r_cV (Z := mX1_expected) (ci := 1) (q := (RX1, TX1, 13)) dX0_expected_5 rfl (by decide +kernel) ⟨by decide, by decide⟩ (by decide) rfl rfl q1925 q1926 q1927 q117 q1928 (XS.cat (k0 := 26) (pre := []) (suf := []) (x := ⟨0, 10, 13, 24⟩) (name := "java/lang/IndexOutOfBoundsException") rfl (fun z hz => by cases hz) (by decide) (by decide) q1625 q1640 rfl (Or.inr ⟨dX0_expected_13, rfl⟩) (r_iconst (v := 1) dX0_expected_15 rfl <|
  r_ret rfl (Or.inl ⟨dX0_expected_16, Or.inl rfl⟩))
  XS.none) <|
  r_i2l dX0_expected_8 <|
  r_last dX0_expected_9 <|
  r_goto (pt := 17) dX0_expected_10 (by decide) <|
  r_iconst (v := 0) dX0_expected_17 rfl <|
  r_ret rfl (Or.inl ⟨dX0_expected_18, Or.inl rfl⟩)
-- CheekTownLaw.best(LCheekTown;I[J)I cuts [0]
def tX0_best_0 (d : Nat) (Q : Outcome → MH → Prop) (J : Nat → KT) : KT :=
  i_aload 2 <|
  i_const 0 <|
  i_aload 0 <|
  i_iload 1 <|
  i_call mX1_best d 2 (pV 1) (xCat 26 3 (i_const 1 <|
  i_ret Q (some .int))
  xNone) <|
  i_i2l <|
  i_last <|
  i_const 0 <|
  i_ret Q (some .int)
theorem kX0_best_0 {d : Nat} {Q : Outcome → MH → Prop} : ∀ ls st h, tX0_best_0 d Q (fun pc ls st h => WPb mX0_best d pc ls st h Q) ls st h → WPb mX0_best d 0 ls st h Q :=
  r_aload_n (k := 2) dX0_best_0 rfl <|
  r_iconst (v := 0) dX0_best_1 rfl <|
  r_aload_n (k := 0) dX0_best_2 rfl <|
  r_iload_n (k := 1) dX0_best_3 rfl <|
  r_cV (Z := mX1_best) (ci := 1) (q := (RX1, TX1, 13)) dX0_best_4 rfl (by decide +kernel) ⟨by decide, by decide⟩ (by decide) rfl rfl q1932 q1933 q1934 q117 q1935 (XS.cat (k0 := 26) (pre := []) (suf := []) (x := ⟨0, 9, 12, 24⟩) (name := "java/lang/IndexOutOfBoundsException") rfl (fun z hz => by cases hz) (by decide) (by decide) q1625 q1640 rfl (Or.inl ⟨3, rfl, dX0_best_12, rfl⟩) (r_iconst (v := 1) dX0_best_13 rfl <|
  r_ret rfl (Or.inl ⟨dX0_best_14, Or.inl rfl⟩))
  XS.none) <|
  r_i2l dX0_best_7 <|
  r_last dX0_best_8 <|
  r_goto (pt := 15) dX0_best_9 (by decide) <|
  r_iconst (v := 0) dX0_best_15 rfl <|
  r_ret rfl (Or.inl ⟨dX0_best_16, Or.inl rfl⟩)
-- CheekTownLaw.odds(LCheekTown;II[J)I cuts [0]
def tX0_odds_0 (d : Nat) (Q : Outcome → MH → Prop) (J : Nat → KT) : KT :=
  i_aload 3 <|
  i_const 0 <|
  i_aload 0 <|
  i_iload 1 <|
  i_iload 2 <|
  i_call mX1_odds d 3 (pV 1) (xCat 26 4 (i_const 1 <|
  i_ret Q (some .int))
  xNone) <|
  i_i2l <|
  i_last <|
  i_const 0 <|
  i_ret Q (some .int)
theorem kX0_odds_0 {d : Nat} {Q : Outcome → MH → Prop} : ∀ ls st h, tX0_odds_0 d Q (fun pc ls st h => WPb mX0_odds d pc ls st h Q) ls st h → WPb mX0_odds d 0 ls st h Q :=
  r_aload_n (k := 3) dX0_odds_0 rfl <|
  r_iconst (v := 0) dX0_odds_1 rfl <|
  r_aload_n (k := 0) dX0_odds_2 rfl <|
  r_iload_n (k := 1) dX0_odds_3 rfl <|
  r_iload_n (k := 2) dX0_odds_4 rfl <|
  r_cV (Z := mX1_odds) (ci := 1) (q := (RX1, TX1, 13)) dX0_odds_5 rfl (by decide +kernel) ⟨by decide, by decide⟩ (by decide) rfl rfl q1939 q1940 q1941 q117 q1942 (XS.cat (k0 := 26) (pre := []) (suf := []) (x := ⟨0, 10, 13, 24⟩) (name := "java/lang/IndexOutOfBoundsException") rfl (fun z hz => by cases hz) (by decide) (by decide) q1625 q1640 rfl (Or.inr ⟨dX0_odds_13, rfl⟩) (r_iconst (v := 1) dX0_odds_15 rfl <|
  r_ret rfl (Or.inl ⟨dX0_odds_16, Or.inl rfl⟩))
  XS.none) <|
  r_i2l dX0_odds_8 <|
  r_last dX0_odds_9 <|
  r_goto (pt := 17) dX0_odds_10 (by decide) <|
  r_iconst (v := 0) dX0_odds_17 rfl <|
  r_ret rfl (Or.inl ⟨dX0_odds_18, Or.inl rfl⟩)
-- CheekTownLaw.from(LCheekTown;Z[J)I cuts [0]
def tX0_from_0 (d : Nat) (Q : Outcome → MH → Prop) (J : Nat → KT) : KT :=
  i_aload 2 <|
  i_const 0 <|
  i_aload 0 <|
  i_iload 1 <|
  i_call mX1_from d 2 (pV 1) (xCat 25 3 (i_const 1 <|
  i_ret Q (some .int))
  xNone) <|
  i_i2l <|
  i_last <|
  i_const 0 <|
  i_ret Q (some .int)
theorem kX0_from_0 {d : Nat} {Q : Outcome → MH → Prop} : ∀ ls st h, tX0_from_0 d Q (fun pc ls st h => WPb mX0_from d pc ls st h Q) ls st h → WPb mX0_from d 0 ls st h Q :=
  r_aload_n (k := 2) dX0_from_0 rfl <|
  r_iconst (v := 0) dX0_from_1 rfl <|
  r_aload_n (k := 0) dX0_from_2 rfl <|
  r_iload_n (k := 1) dX0_from_3 rfl <|
  r_cV (Z := mX1_from) (ci := 1) (q := (RX1, TX1, 13)) dX0_from_4 rfl (by decide +kernel) ⟨by decide, by decide⟩ (by decide) rfl rfl q1950 q1951 q1952 q117 q1953 (XS.cat (k0 := 25) (pre := []) (suf := []) (x := ⟨0, 9, 12, 13⟩) (name := "java/lang/IllegalArgumentException") rfl (fun z hz => by cases hz) (by decide) (by decide) q1113 q618 rfl (Or.inl ⟨3, rfl, dX0_from_12, rfl⟩) (r_iconst (v := 1) dX0_from_13 rfl <|
  r_ret rfl (Or.inl ⟨dX0_from_14, Or.inl rfl⟩))
  XS.none) <|
  r_i2l dX0_from_7 <|
  r_last dX0_from_8 <|
  r_goto (pt := 15) dX0_from_9 (by decide) <|
  r_iconst (v := 0) dX0_from_15 rfl <|
  r_ret rfl (Or.inl ⟨dX0_from_16, Or.inl rfl⟩)
-- CheekTownLaw.rests(LCheekTown;II[J)I cuts [0]
def tX0_rests_0 (d : Nat) (Q : Outcome → MH → Prop) (J : Nat → KT) : KT :=
  i_aload 3 <|
  i_const 0 <|
  i_aload 0 <|
  i_iload 1 <|
  i_iload 2 <|
  i_call mX1_rests d 3 (pV 1) (xCat 26 4 (i_const 1 <|
  i_ret Q (some .int))
  (xCat 25 4 (i_const 2 <|
  i_ret Q (some .int))
  xNone)) <|
  i_i2l <|
  i_last <|
  i_const 0 <|
  i_ret Q (some .int)
theorem kX0_rests_0 {d : Nat} {Q : Outcome → MH → Prop} : ∀ ls st h, tX0_rests_0 d Q (fun pc ls st h => WPb mX0_rests d pc ls st h Q) ls st h → WPb mX0_rests d 0 ls st h Q :=
  r_aload_n (k := 3) dX0_rests_0 rfl <|
  r_iconst (v := 0) dX0_rests_1 rfl <|
  r_aload_n (k := 0) dX0_rests_2 rfl <|
  r_iload_n (k := 1) dX0_rests_3 rfl <|
  r_iload_n (k := 2) dX0_rests_4 rfl <|
  r_cV (Z := mX1_rests) (ci := 1) (q := (RX1, TX1, 13)) dX0_rests_5 rfl (by decide +kernel) ⟨by decide, by decide⟩ (by decide) rfl rfl q1983 q1984 q1985 q117 q1986 (XS.cat (k0 := 26) (pre := []) (suf := [⟨0, 10, 17, 13⟩]) (x := ⟨0, 10, 13, 24⟩) (name := "java/lang/IndexOutOfBoundsException") rfl (fun z hz => by cases hz) (by decide) (by decide) q1625 q1640 rfl (Or.inr ⟨dX0_rests_13, rfl⟩) (r_iconst (v := 1) dX0_rests_15 rfl <|
  r_ret rfl (Or.inl ⟨dX0_rests_16, Or.inl rfl⟩))
  (XS.cat (k0 := 25) (pre := [⟨0, 10, 13, 24⟩]) (suf := []) (x := ⟨0, 10, 17, 13⟩) (name := "java/lang/IllegalArgumentException") rfl (by
    intro z hz
    simp only [List.mem_cons, List.not_mem_nil, or_false] at hz
    rcases hz with rfl
    · exact Or.inr ⟨by decide, "java/lang/IndexOutOfBoundsException", q1625, by decide +kernel⟩) (by decide) (by decide) q1113 q618 rfl (Or.inr ⟨dX0_rests_17, rfl⟩) (r_iconst (v := 2) dX0_rests_19 rfl <|
  r_ret rfl (Or.inl ⟨dX0_rests_20, Or.inl rfl⟩))
  XS.none)) <|
  r_i2l dX0_rests_8 <|
  r_last dX0_rests_9 <|
  r_goto (pt := 21) dX0_rests_10 (by decide) <|
  r_iconst (v := 0) dX0_rests_21 rfl <|
  r_ret rfl (Or.inl ⟨dX0_rests_22, Or.inl rfl⟩)
-- CheekTownLaw.sake(LCheekTown;IIZ[J)I cuts [0]
def tX0_sake_0 (d : Nat) (Q : Outcome → MH → Prop) (J : Nat → KT) : KT :=
  i_aload 4 <|
  i_const 0 <|
  i_aload 0 <|
  i_iload 1 <|
  i_iload 2 <|
  i_iload 3 <|
  i_call mX1_sake d 4 (pV 1) (xCat 26 5 (i_const 1 <|
  i_ret Q (some .int))
  (xCat 25 5 (i_const 2 <|
  i_ret Q (some .int))
  xNone)) <|
  i_i2l <|
  i_last <|
  i_const 0 <|
  i_ret Q (some .int)
theorem kX0_sake_0 {d : Nat} {Q : Outcome → MH → Prop} : ∀ ls st h, tX0_sake_0 d Q (fun pc ls st h => WPb mX0_sake d pc ls st h Q) ls st h → WPb mX0_sake d 0 ls st h Q :=
  r_aload dX0_sake_0 <|
  r_iconst (v := 0) dX0_sake_2 rfl <|
  r_aload_n (k := 0) dX0_sake_3 rfl <|
  r_iload_n (k := 1) dX0_sake_4 rfl <|
  r_iload_n (k := 2) dX0_sake_5 rfl <|
  r_iload_n (k := 3) dX0_sake_6 rfl <|
  r_cV (Z := mX1_sake) (ci := 1) (q := (RX1, TX1, 13)) dX0_sake_7 rfl (by decide +kernel) ⟨by decide, by decide⟩ (by decide) rfl rfl q2001 q2002 q2003 q117 q2004 (XS.cat (k0 := 26) (pre := []) (suf := [⟨0, 12, 19, 13⟩]) (x := ⟨0, 12, 15, 24⟩) (name := "java/lang/IndexOutOfBoundsException") rfl (fun z hz => by cases hz) (by decide) (by decide) q1625 q1640 rfl (Or.inr ⟨dX0_sake_15, rfl⟩) (r_iconst (v := 1) dX0_sake_17 rfl <|
  r_ret rfl (Or.inl ⟨dX0_sake_18, Or.inl rfl⟩))
  (XS.cat (k0 := 25) (pre := [⟨0, 12, 15, 24⟩]) (suf := []) (x := ⟨0, 12, 19, 13⟩) (name := "java/lang/IllegalArgumentException") rfl (by
    intro z hz
    simp only [List.mem_cons, List.not_mem_nil, or_false] at hz
    rcases hz with rfl
    · exact Or.inr ⟨by decide, "java/lang/IndexOutOfBoundsException", q1625, by decide +kernel⟩) (by decide) (by decide) q1113 q618 rfl (Or.inr ⟨dX0_sake_19, rfl⟩) (r_iconst (v := 2) dX0_sake_21 rfl <|
  r_ret rfl (Or.inl ⟨dX0_sake_22, Or.inl rfl⟩))
  XS.none)) <|
  r_i2l dX0_sake_10 <|
  r_last dX0_sake_11 <|
  r_goto (pt := 23) dX0_sake_12 (by decide) <|
  r_iconst (v := 0) dX0_sake_23 rfl <|
  r_ret rfl (Or.inl ⟨dX0_sake_24, Or.inl rfl⟩)
-- CheekTownLaw.begins(LCheekTown;I[J)I cuts [0]
def tX0_begins_0 (d : Nat) (Q : Outcome → MH → Prop) (J : Nat → KT) : KT :=
  i_aload 2 <|
  i_const 0 <|
  i_aload 0 <|
  i_iload 1 <|
  i_call mX1_begins d 2 (pV 1) (xCat 25 3 (i_const 1 <|
  i_ret Q (some .int))
  xNone) <|
  i_i2l <|
  i_last <|
  i_const 0 <|
  i_ret Q (some .int)
theorem kX0_begins_0 {d : Nat} {Q : Outcome → MH → Prop} : ∀ ls st h, tX0_begins_0 d Q (fun pc ls st h => WPb mX0_begins d pc ls st h Q) ls st h → WPb mX0_begins d 0 ls st h Q :=
  r_aload_n (k := 2) dX0_begins_0 rfl <|
  r_iconst (v := 0) dX0_begins_1 rfl <|
  r_aload_n (k := 0) dX0_begins_2 rfl <|
  r_iload_n (k := 1) dX0_begins_3 rfl <|
  r_cV (Z := mX1_begins) (ci := 1) (q := (RX1, TX1, 13)) dX0_begins_4 rfl (by decide +kernel) ⟨by decide, by decide⟩ (by decide) rfl rfl q2014 q2015 q2016 q117 q2017 (XS.cat (k0 := 25) (pre := []) (suf := []) (x := ⟨0, 9, 12, 13⟩) (name := "java/lang/IllegalArgumentException") rfl (fun z hz => by cases hz) (by decide) (by decide) q1113 q618 rfl (Or.inl ⟨3, rfl, dX0_begins_12, rfl⟩) (r_iconst (v := 1) dX0_begins_13 rfl <|
  r_ret rfl (Or.inl ⟨dX0_begins_14, Or.inl rfl⟩))
  XS.none) <|
  r_i2l dX0_begins_7 <|
  r_last dX0_begins_8 <|
  r_goto (pt := 15) dX0_begins_9 (by decide) <|
  r_iconst (v := 0) dX0_begins_15 rfl <|
  r_ret rfl (Or.inl ⟨dX0_begins_16, Or.inl rfl⟩)
-- CheekTownLaw.after(LCheekTown;II[J)I cuts [0]
def tX0_after_0 (d : Nat) (Q : Outcome → MH → Prop) (J : Nat → KT) : KT :=
  i_aload 3 <|
  i_const 0 <|
  i_aload 0 <|
  i_iload 1 <|
  i_iload 2 <|
  i_call mX1_after d 3 (pV 1) (xCat 25 4 (i_const 1 <|
  i_ret Q (some .int))
  (xCat 27 4 (i_const 2 <|
  i_ret Q (some .int))
  xNone)) <|
  i_i2l <|
  i_last <|
  i_const 0 <|
  i_ret Q (some .int)
theorem kX0_after_0 {d : Nat} {Q : Outcome → MH → Prop} : ∀ ls st h, tX0_after_0 d Q (fun pc ls st h => WPb mX0_after d pc ls st h Q) ls st h → WPb mX0_after d 0 ls st h Q :=
  r_aload_n (k := 3) dX0_after_0 rfl <|
  r_iconst (v := 0) dX0_after_1 rfl <|
  r_aload_n (k := 0) dX0_after_2 rfl <|
  r_iload_n (k := 1) dX0_after_3 rfl <|
  r_iload_n (k := 2) dX0_after_4 rfl <|
  r_cV (Z := mX1_after) (ci := 1) (q := (RX1, TX1, 13)) dX0_after_5 rfl (by decide +kernel) ⟨by decide, by decide⟩ (by decide) rfl rfl q2043 q2044 q2045 q117 q2046 (XS.cat (k0 := 25) (pre := []) (suf := [⟨0, 10, 17, 32⟩]) (x := ⟨0, 10, 13, 13⟩) (name := "java/lang/IllegalArgumentException") rfl (fun z hz => by cases hz) (by decide) (by decide) q1113 q618 rfl (Or.inr ⟨dX0_after_13, rfl⟩) (r_iconst (v := 1) dX0_after_15 rfl <|
  r_ret rfl (Or.inl ⟨dX0_after_16, Or.inl rfl⟩))
  (XS.cat (k0 := 27) (pre := [⟨0, 10, 13, 13⟩]) (suf := []) (x := ⟨0, 10, 17, 32⟩) (name := "java/util/NoSuchElementException") rfl (by
    intro z hz
    simp only [List.mem_cons, List.not_mem_nil, or_false] at hz
    rcases hz with rfl
    · exact Or.inr ⟨by decide, "java/lang/IllegalArgumentException", q1113, by decide +kernel⟩) (by decide) (by decide) q1671 q1685 rfl (Or.inr ⟨dX0_after_17, rfl⟩) (r_iconst (v := 2) dX0_after_19 rfl <|
  r_ret rfl (Or.inl ⟨dX0_after_20, Or.inl rfl⟩))
  XS.none)) <|
  r_i2l dX0_after_8 <|
  r_last dX0_after_9 <|
  r_goto (pt := 21) dX0_after_10 (by decide) <|
  r_iconst (v := 0) dX0_after_21 rfl <|
  r_ret rfl (Or.inl ⟨dX0_after_22, Or.inl rfl⟩)
-- CheekTownLaw.custom(LCheekTown;II[J)I cuts [0]
def tX0_custom_0 (d : Nat) (Q : Outcome → MH → Prop) (J : Nat → KT) : KT :=
  i_aload 3 <|
  i_const 0 <|
  i_aload 0 <|
  i_iload 1 <|
  i_iload 2 <|
  i_call mX1_custom d 3 (pV 1) (xCat 26 4 (i_const 1 <|
  i_ret Q (some .int))
  (xCat 25 4 (i_const 2 <|
  i_ret Q (some .int))
  xNone)) <|
  i_i2l <|
  i_last <|
  i_const 0 <|
  i_ret Q (some .int)
theorem kX0_custom_0 {d : Nat} {Q : Outcome → MH → Prop} : ∀ ls st h, tX0_custom_0 d Q (fun pc ls st h => WPb mX0_custom d pc ls st h Q) ls st h → WPb mX0_custom d 0 ls st h Q :=
  r_aload_n (k := 3) dX0_custom_0 rfl <|
  r_iconst (v := 0) dX0_custom_1 rfl <|
  r_aload_n (k := 0) dX0_custom_2 rfl <|
  r_iload_n (k := 1) dX0_custom_3 rfl <|
  r_iload_n (k := 2) dX0_custom_4 rfl <|
  r_cV (Z := mX1_custom) (ci := 1) (q := (RX1, TX1, 13)) dX0_custom_5 rfl (by decide +kernel) ⟨by decide, by decide⟩ (by decide) rfl rfl q2069 q2070 q2071 q117 q2072 (XS.cat (k0 := 26) (pre := []) (suf := [⟨0, 10, 17, 13⟩]) (x := ⟨0, 10, 13, 24⟩) (name := "java/lang/IndexOutOfBoundsException") rfl (fun z hz => by cases hz) (by decide) (by decide) q1625 q1640 rfl (Or.inr ⟨dX0_custom_13, rfl⟩) (r_iconst (v := 1) dX0_custom_15 rfl <|
  r_ret rfl (Or.inl ⟨dX0_custom_16, Or.inl rfl⟩))
  (XS.cat (k0 := 25) (pre := [⟨0, 10, 13, 24⟩]) (suf := []) (x := ⟨0, 10, 17, 13⟩) (name := "java/lang/IllegalArgumentException") rfl (by
    intro z hz
    simp only [List.mem_cons, List.not_mem_nil, or_false] at hz
    rcases hz with rfl
    · exact Or.inr ⟨by decide, "java/lang/IndexOutOfBoundsException", q1625, by decide +kernel⟩) (by decide) (by decide) q1113 q618 rfl (Or.inr ⟨dX0_custom_17, rfl⟩) (r_iconst (v := 2) dX0_custom_19 rfl <|
  r_ret rfl (Or.inl ⟨dX0_custom_20, Or.inl rfl⟩))
  XS.none)) <|
  r_i2l dX0_custom_8 <|
  r_last dX0_custom_9 <|
  r_goto (pt := 21) dX0_custom_10 (by decide) <|
  r_iconst (v := 0) dX0_custom_21 rfl <|
  r_ret rfl (Or.inl ⟨dX0_custom_22, Or.inl rfl⟩)
-- CheekTownLaw.told(LCheekTown;II[J)I cuts [0]
def tX0_told_0 (d : Nat) (Q : Outcome → MH → Prop) (J : Nat → KT) : KT :=
  i_aload 3 <|
  i_const 0 <|
  i_aload 0 <|
  i_iload 1 <|
  i_iload 2 <|
  i_call mX1_told d 3 (pV 1) (xCat 26 4 (i_const 1 <|
  i_ret Q (some .int))
  (xCat 25 4 (i_const 2 <|
  i_ret Q (some .int))
  xNone)) <|
  i_i2l <|
  i_last <|
  i_const 0 <|
  i_ret Q (some .int)
theorem kX0_told_0 {d : Nat} {Q : Outcome → MH → Prop} : ∀ ls st h, tX0_told_0 d Q (fun pc ls st h => WPb mX0_told d pc ls st h Q) ls st h → WPb mX0_told d 0 ls st h Q :=
  r_aload_n (k := 3) dX0_told_0 rfl <|
  r_iconst (v := 0) dX0_told_1 rfl <|
  r_aload_n (k := 0) dX0_told_2 rfl <|
  r_iload_n (k := 1) dX0_told_3 rfl <|
  r_iload_n (k := 2) dX0_told_4 rfl <|
  r_cV (Z := mX1_told) (ci := 1) (q := (RX1, TX1, 13)) dX0_told_5 rfl (by decide +kernel) ⟨by decide, by decide⟩ (by decide) rfl rfl q2076 q2077 q2078 q117 q2079 (XS.cat (k0 := 26) (pre := []) (suf := [⟨0, 10, 17, 13⟩]) (x := ⟨0, 10, 13, 24⟩) (name := "java/lang/IndexOutOfBoundsException") rfl (fun z hz => by cases hz) (by decide) (by decide) q1625 q1640 rfl (Or.inr ⟨dX0_told_13, rfl⟩) (r_iconst (v := 1) dX0_told_15 rfl <|
  r_ret rfl (Or.inl ⟨dX0_told_16, Or.inl rfl⟩))
  (XS.cat (k0 := 25) (pre := [⟨0, 10, 13, 24⟩]) (suf := []) (x := ⟨0, 10, 17, 13⟩) (name := "java/lang/IllegalArgumentException") rfl (by
    intro z hz
    simp only [List.mem_cons, List.not_mem_nil, or_false] at hz
    rcases hz with rfl
    · exact Or.inr ⟨by decide, "java/lang/IndexOutOfBoundsException", q1625, by decide +kernel⟩) (by decide) (by decide) q1113 q618 rfl (Or.inr ⟨dX0_told_17, rfl⟩) (r_iconst (v := 2) dX0_told_19 rfl <|
  r_ret rfl (Or.inl ⟨dX0_told_20, Or.inl rfl⟩))
  XS.none)) <|
  r_i2l dX0_told_8 <|
  r_last dX0_told_9 <|
  r_goto (pt := 21) dX0_told_10 (by decide) <|
  r_iconst (v := 0) dX0_told_21 rfl <|
  r_ret rfl (Or.inl ⟨dX0_told_22, Or.inl rfl⟩)
-- CheekTownLaw.colds(LCheekTown;II[J)I cuts [0]
def tX0_colds_0 (d : Nat) (Q : Outcome → MH → Prop) (J : Nat → KT) : KT :=
  i_aload 3 <|
  i_const 0 <|
  i_aload 0 <|
  i_iload 1 <|
  i_iload 2 <|
  i_call mX1_colds d 3 (pV 1) (xCat 25 4 (i_const 1 <|
  i_ret Q (some .int))
  xNone) <|
  i_i2l <|
  i_last <|
  i_const 0 <|
  i_ret Q (some .int)
theorem kX0_colds_0 {d : Nat} {Q : Outcome → MH → Prop} : ∀ ls st h, tX0_colds_0 d Q (fun pc ls st h => WPb mX0_colds d pc ls st h Q) ls st h → WPb mX0_colds d 0 ls st h Q :=
  r_aload_n (k := 3) dX0_colds_0 rfl <|
  r_iconst (v := 0) dX0_colds_1 rfl <|
  r_aload_n (k := 0) dX0_colds_2 rfl <|
  r_iload_n (k := 1) dX0_colds_3 rfl <|
  r_iload_n (k := 2) dX0_colds_4 rfl <|
  r_cV (Z := mX1_colds) (ci := 1) (q := (RX1, TX1, 13)) dX0_colds_5 rfl (by decide +kernel) ⟨by decide, by decide⟩ (by decide) rfl rfl q2091 q2092 q2093 q117 q2094 (XS.cat (k0 := 25) (pre := []) (suf := []) (x := ⟨0, 10, 13, 13⟩) (name := "java/lang/IllegalArgumentException") rfl (fun z hz => by cases hz) (by decide) (by decide) q1113 q618 rfl (Or.inr ⟨dX0_colds_13, rfl⟩) (r_iconst (v := 1) dX0_colds_15 rfl <|
  r_ret rfl (Or.inl ⟨dX0_colds_16, Or.inl rfl⟩))
  XS.none) <|
  r_i2l dX0_colds_8 <|
  r_last dX0_colds_9 <|
  r_goto (pt := 17) dX0_colds_10 (by decide) <|
  r_iconst (v := 0) dX0_colds_17 rfl <|
  r_ret rfl (Or.inl ⟨dX0_colds_18, Or.inl rfl⟩)
-- CheekTownLaw.spared(LCheekTown;II[J)I cuts [0]
def tX0_spared_0 (d : Nat) (Q : Outcome → MH → Prop) (J : Nat → KT) : KT :=
  i_aload 3 <|
  i_const 0 <|
  i_aload 0 <|
  i_iload 1 <|
  i_iload 2 <|
  i_call mX1_spared d 3 (pV 1) (xCat 26 4 (i_const 1 <|
  i_ret Q (some .int))
  (xCat 25 4 (i_const 2 <|
  i_ret Q (some .int))
  xNone)) <|
  i_i2l <|
  i_last <|
  i_const 0 <|
  i_ret Q (some .int)
theorem kX0_spared_0 {d : Nat} {Q : Outcome → MH → Prop} : ∀ ls st h, tX0_spared_0 d Q (fun pc ls st h => WPb mX0_spared d pc ls st h Q) ls st h → WPb mX0_spared d 0 ls st h Q :=
  r_aload_n (k := 3) dX0_spared_0 rfl <|
  r_iconst (v := 0) dX0_spared_1 rfl <|
  r_aload_n (k := 0) dX0_spared_2 rfl <|
  r_iload_n (k := 1) dX0_spared_3 rfl <|
  r_iload_n (k := 2) dX0_spared_4 rfl <|
  r_cV (Z := mX1_spared) (ci := 1) (q := (RX1, TX1, 13)) dX0_spared_5 rfl (by decide +kernel) ⟨by decide, by decide⟩ (by decide) rfl rfl q2102 q2103 q2104 q117 q2105 (XS.cat (k0 := 26) (pre := []) (suf := [⟨0, 10, 17, 13⟩]) (x := ⟨0, 10, 13, 24⟩) (name := "java/lang/IndexOutOfBoundsException") rfl (fun z hz => by cases hz) (by decide) (by decide) q1625 q1640 rfl (Or.inr ⟨dX0_spared_13, rfl⟩) (r_iconst (v := 1) dX0_spared_15 rfl <|
  r_ret rfl (Or.inl ⟨dX0_spared_16, Or.inl rfl⟩))
  (XS.cat (k0 := 25) (pre := [⟨0, 10, 13, 24⟩]) (suf := []) (x := ⟨0, 10, 17, 13⟩) (name := "java/lang/IllegalArgumentException") rfl (by
    intro z hz
    simp only [List.mem_cons, List.not_mem_nil, or_false] at hz
    rcases hz with rfl
    · exact Or.inr ⟨by decide, "java/lang/IndexOutOfBoundsException", q1625, by decide +kernel⟩) (by decide) (by decide) q1113 q618 rfl (Or.inr ⟨dX0_spared_17, rfl⟩) (r_iconst (v := 2) dX0_spared_19 rfl <|
  r_ret rfl (Or.inl ⟨dX0_spared_20, Or.inl rfl⟩))
  XS.none)) <|
  r_i2l dX0_spared_8 <|
  r_last dX0_spared_9 <|
  r_goto (pt := 21) dX0_spared_10 (by decide) <|
  r_iconst (v := 0) dX0_spared_21 rfl <|
  r_ret rfl (Or.inl ⟨dX0_spared_22, Or.inl rfl⟩)
-- CheekTownLaw.trial(LCheekTown;II[J)I cuts [0]
def tX0_trial_0 (d : Nat) (Q : Outcome → MH → Prop) (J : Nat → KT) : KT :=
  i_aload 3 <|
  i_const 0 <|
  i_aload 0 <|
  i_iload 1 <|
  i_iload 2 <|
  i_call mX1_trial d 3 (pV 1) (xCat 25 4 (i_const 1 <|
  i_ret Q (some .int))
  (xCat 27 4 (i_const 2 <|
  i_ret Q (some .int))
  xNone)) <|
  i_i2l <|
  i_last <|
  i_const 0 <|
  i_ret Q (some .int)
theorem kX0_trial_0 {d : Nat} {Q : Outcome → MH → Prop} : ∀ ls st h, tX0_trial_0 d Q (fun pc ls st h => WPb mX0_trial d pc ls st h Q) ls st h → WPb mX0_trial d 0 ls st h Q :=
  r_aload_n (k := 3) dX0_trial_0 rfl <|
  r_iconst (v := 0) dX0_trial_1 rfl <|
  r_aload_n (k := 0) dX0_trial_2 rfl <|
  r_iload_n (k := 1) dX0_trial_3 rfl <|
  r_iload_n (k := 2) dX0_trial_4 rfl <|
  r_cV (Z := mX1_trial) (ci := 1) (q := (RX1, TX1, 13)) dX0_trial_5 rfl (by decide +kernel) ⟨by decide, by decide⟩ (by decide) rfl rfl q2109 q2110 q2111 q117 q2112 (XS.cat (k0 := 25) (pre := []) (suf := [⟨0, 10, 17, 32⟩]) (x := ⟨0, 10, 13, 13⟩) (name := "java/lang/IllegalArgumentException") rfl (fun z hz => by cases hz) (by decide) (by decide) q1113 q618 rfl (Or.inr ⟨dX0_trial_13, rfl⟩) (r_iconst (v := 1) dX0_trial_15 rfl <|
  r_ret rfl (Or.inl ⟨dX0_trial_16, Or.inl rfl⟩))
  (XS.cat (k0 := 27) (pre := [⟨0, 10, 13, 13⟩]) (suf := []) (x := ⟨0, 10, 17, 32⟩) (name := "java/util/NoSuchElementException") rfl (by
    intro z hz
    simp only [List.mem_cons, List.not_mem_nil, or_false] at hz
    rcases hz with rfl
    · exact Or.inr ⟨by decide, "java/lang/IllegalArgumentException", q1113, by decide +kernel⟩) (by decide) (by decide) q1671 q1685 rfl (Or.inr ⟨dX0_trial_17, rfl⟩) (r_iconst (v := 2) dX0_trial_19 rfl <|
  r_ret rfl (Or.inl ⟨dX0_trial_20, Or.inl rfl⟩))
  XS.none)) <|
  r_i2l dX0_trial_8 <|
  r_last dX0_trial_9 <|
  r_goto (pt := 21) dX0_trial_10 (by decide) <|
  r_iconst (v := 0) dX0_trial_21 rfl <|
  r_ret rfl (Or.inl ⟨dX0_trial_22, Or.inl rfl⟩)
-- CheekTownLaw.span(LCheekTown;IZ[J)I cuts [0]
def tX0_span_0 (d : Nat) (Q : Outcome → MH → Prop) (J : Nat → KT) : KT :=
  i_aload 3 <|
  i_const 0 <|
  i_aload 0 <|
  i_iload 1 <|
  i_iload 2 <|
  i_call mX1_span d 3 (pV 1) (xCat 25 4 (i_const 1 <|
  i_ret Q (some .int))
  xNone) <|
  i_i2l <|
  i_last <|
  i_const 0 <|
  i_ret Q (some .int)
theorem kX0_span_0 {d : Nat} {Q : Outcome → MH → Prop} : ∀ ls st h, tX0_span_0 d Q (fun pc ls st h => WPb mX0_span d pc ls st h Q) ls st h → WPb mX0_span d 0 ls st h Q :=
  r_aload_n (k := 3) dX0_span_0 rfl <|
  r_iconst (v := 0) dX0_span_1 rfl <|
  r_aload_n (k := 0) dX0_span_2 rfl <|
  r_iload_n (k := 1) dX0_span_3 rfl <|
  r_iload_n (k := 2) dX0_span_4 rfl <|
  r_cV (Z := mX1_span) (ci := 1) (q := (RX1, TX1, 13)) dX0_span_5 rfl (by decide +kernel) ⟨by decide, by decide⟩ (by decide) rfl rfl q2124 q2125 q2126 q117 q2127 (XS.cat (k0 := 25) (pre := []) (suf := []) (x := ⟨0, 10, 13, 13⟩) (name := "java/lang/IllegalArgumentException") rfl (fun z hz => by cases hz) (by decide) (by decide) q1113 q618 rfl (Or.inr ⟨dX0_span_13, rfl⟩) (r_iconst (v := 1) dX0_span_15 rfl <|
  r_ret rfl (Or.inl ⟨dX0_span_16, Or.inl rfl⟩))
  XS.none) <|
  r_i2l dX0_span_8 <|
  r_last dX0_span_9 <|
  r_goto (pt := 17) dX0_span_10 (by decide) <|
  r_iconst (v := 0) dX0_span_17 rfl <|
  r_ret rfl (Or.inl ⟨dX0_span_18, Or.inl rfl⟩)
-- CheekTownLaw.log(LCheekTown;II[J)I cuts [0]
def tX0_log_0 (d : Nat) (Q : Outcome → MH → Prop) (J : Nat → KT) : KT :=
  i_aload 3 <|
  i_const 0 <|
  i_aload 0 <|
  i_iload 1 <|
  i_iload 2 <|
  i_call mX1_log d 3 (pV 1) (xCat 27 4 (i_const 1 <|
  i_ret Q (some .int))
  xNone) <|
  i_i2l <|
  i_last <|
  i_const 0 <|
  i_ret Q (some .int)
theorem kX0_log_0 {d : Nat} {Q : Outcome → MH → Prop} : ∀ ls st h, tX0_log_0 d Q (fun pc ls st h => WPb mX0_log d pc ls st h Q) ls st h → WPb mX0_log d 0 ls st h Q :=
  r_aload_n (k := 3) dX0_log_0 rfl <|
  r_iconst (v := 0) dX0_log_1 rfl <|
  r_aload_n (k := 0) dX0_log_2 rfl <|
  r_iload_n (k := 1) dX0_log_3 rfl <|
  r_iload_n (k := 2) dX0_log_4 rfl <|
  r_cV (Z := mX1_log) (ci := 1) (q := (RX1, TX1, 13)) dX0_log_5 rfl (by decide +kernel) ⟨by decide, by decide⟩ (by decide) rfl rfl q2131 q2132 q2133 q117 q2134 (XS.cat (k0 := 27) (pre := []) (suf := []) (x := ⟨0, 10, 13, 32⟩) (name := "java/util/NoSuchElementException") rfl (fun z hz => by cases hz) (by decide) (by decide) q1671 q1685 rfl (Or.inr ⟨dX0_log_13, rfl⟩) (r_iconst (v := 1) dX0_log_15 rfl <|
  r_ret rfl (Or.inl ⟨dX0_log_16, Or.inl rfl⟩))
  XS.none) <|
  r_i2l dX0_log_8 <|
  r_last dX0_log_9 <|
  r_goto (pt := 17) dX0_log_10 (by decide) <|
  r_iconst (v := 0) dX0_log_17 rfl <|
  r_ret rfl (Or.inl ⟨dX0_log_18, Or.inl rfl⟩)
-- CheekTownLaw.law([I)Z cuts [0, 23, 2675, 662, 752, 1096, 1497, 1606, 1771, 1892, 2342, 2457, 695, 779, 1123, 1627, 1804, 2484]
def tL_law_0 (d : Nat) (Q : Outcome → MH → Prop) (J : Nat → KT) : KT :=
  i_new 1 13 <|
  i_dup <|
  i_call mX1_init d 1 pI (xOut Q) <|
  i_astore 1 <|
  i_new 8 27 <|
  i_dup <|
  i_call mX8_init d 1 pI (xOut Q) <|
  i_astore 2 <|
  i_const 1 <|
  i_newa 3 <|
  i_astore 3 <|
  i_const 0 <|
  i_istore 4 <|
  (J 23)
theorem kL_law_0 {d : Nat} {Q : Outcome → MH → Prop} : ∀ ls st h, tL_law_0 d Q (fun pc ls st h => WPb mL_law d pc ls st h Q) ls st h → WPb mL_law d 0 ls st h Q :=
  r_new (ci := 1) (q := (RX1, TX1, 13)) tyX1 tyX1_ok (by decide) (by decide) (by decide) rfl rfl in_X1 q164 q165 q117 dL_law_0 <|
  r_dup dL_law_3 <|
  r_cI (Z := mX1_init) dL_law_4 rfl rfl rfl (by decide +kernel) ⟨by decide, by decide⟩ q166 q167 q117 q168 (XS.out (noH _)) <|
  r_astore_n (k := 1) dL_law_7 rfl <|
  r_new (ci := 8) (q := (RX8, TX8, 27)) tyX8 tyX8_ok (by decide) (by decide) (by decide) rfl rfl in_X8 q2135 q2136 q127 dL_law_8 <|
  r_dup dL_law_11 <|
  r_cI (Z := mX8_init) dL_law_12 rfl rfl rfl (by decide +kernel) ⟨by decide, by decide⟩ q2137 q2138 q127 q2139 (XS.out (noH _)) <|
  r_astore_n (k := 2) dL_law_15 rfl <|
  r_iconst (v := 1) dL_law_16 rfl <|
  r_newa (t := 3) (at9 := .long) (ty := .long) (by decide) rfl rfl q2724 (by decide) dL_law_17 <|
  r_astore_n (k := 3) dL_law_19 rfl <|
  r_iconst (v := 0) dL_law_20 rfl <|
  r_istore dL_law_21 <|
  (fun _ _ _ H => H)
def tL_law_23 (d : Nat) (Q : Outcome → MH → Prop) (J : Nat → KT) : KT :=
  i_iload 4 <|
  i_aload 0 <|
  i_alen <|
  i_const 6 <|
  i_isub <|
  i_icmp_gt
  (i_const 1 <|
  i_ret Q (some .boolean))
  (i_aload 0 <|
  i_iload 4 <|
  i_iald <|
  i_const 63 <|
  i_iand <|
  i_sw [(0, i_aload 1 <|
  i_aload 0 <|
  i_iload 4 <|
  i_const 1 <|
  i_iadd <|
  i_iald <|
  i_aload 0 <|
  i_iload 4 <|
  i_const 2 <|
  i_iadd <|
  i_iald <|
  i_aload 0 <|
  i_iload 4 <|
  i_const 3 <|
  i_iadd <|
  i_iald <|
  i_aload 0 <|
  i_iload 4 <|
  i_const 4 <|
  i_iadd <|
  i_iald <|
  i_aload 0 <|
  i_iload 4 <|
  i_const 5 <|
  i_iadd <|
  i_iald <|
  i_call mX1_feed d 6 (pV 1) (xOut Q) <|
  i_aload 2 <|
  i_aload 0 <|
  i_iload 4 <|
  i_const 1 <|
  i_iadd <|
  i_iald <|
  i_aload 0 <|
  i_iload 4 <|
  i_const 2 <|
  i_iadd <|
  i_iald <|
  i_aload 0 <|
  i_iload 4 <|
  i_const 3 <|
  i_iadd <|
  i_iald <|
  i_aload 0 <|
  i_iload 4 <|
  i_const 4 <|
  i_iadd <|
  i_iald <|
  i_aload 0 <|
  i_iload 4 <|
  i_const 5 <|
  i_iadd <|
  i_iald <|
  i_call mX8_feed d 6 (pV 8) (xOut Q) <|
  i_icmp_eq
  ((J 2675))
  (i_const 0 <|
  i_ret Q (some .boolean))),
  (1, i_aload 1 <|
  i_aload 0 <|
  i_iload 4 <|
  i_const 1 <|
  i_iadd <|
  i_iald <|
  i_call mX1_end d 2 (pV 1) (xOut Q) <|
  i_aload 2 <|
  i_aload 0 <|
  i_iload 4 <|
  i_const 1 <|
  i_iadd <|
  i_iald <|
  i_call mX8_end d 2 (pV 8) (xOut Q) <|
  i_icmp_eq
  ((J 2675))
  (i_const 0 <|
  i_ret Q (some .boolean))),
  (2, i_aload 1 <|
  i_aload 3 <|
  i_call mX0_town d 2 pS (xOut Q) <|
  i_istore 5 <|
  i_aload 2 <|
  i_call mX8_town d 1 (pV 8) (xOut Q) <|
  i_istore 6 <|
  i_aload 2 <|
  i_call mX8_thrown d 1 (pV 8) (xOut Q) <|
  i_iload 5 <|
  i_icmp_eq
  (i_iload 5 <|
  i_if_ne
  ((J 2675))
  (i_aload 3 <|
  i_const 0 <|
  i_lald <|
  i_iload 6 <|
  i_i2l <|
  i_lcmp <|
  i_if_eq
  ((J 2675))
  (i_const 0 <|
  i_ret Q (some .boolean))))
  (i_const 0 <|
  i_ret Q (some .boolean))),
  (3, i_aload 1 <|
  i_aload 3 <|
  i_call mX0_law d 2 pS (xOut Q) <|
  i_istore 5 <|
  i_aload 2 <|
  i_call mX8_law d 1 (pV 8) (xOut Q) <|
  i_istore 6 <|
  i_aload 2 <|
  i_call mX8_thrown d 1 (pV 8) (xOut Q) <|
  i_iload 5 <|
  i_icmp_eq
  (i_iload 5 <|
  i_if_ne
  ((J 2675))
  (i_aload 3 <|
  i_const 0 <|
  i_lald <|
  i_iload 6 <|
  i_i2l <|
  i_lcmp <|
  i_if_eq
  ((J 2675))
  (i_const 0 <|
  i_ret Q (some .boolean))))
  (i_const 0 <|
  i_ret Q (some .boolean))),
  (4, i_aload 1 <|
  i_call mX1_fault d 1 (pV 1) (xOut Q) <|
  i_aload 2 <|
  i_call mX8_fault d 1 (pV 8) (xOut Q) <|
  i_icmp_eq
  ((J 2675))
  (i_const 0 <|
  i_ret Q (some .boolean))),
  (5, i_aload 1 <|
  i_aload 0 <|
  i_iload 4 <|
  i_const 1 <|
  i_iadd <|
  i_iald <|
  i_aload 0 <|
  i_iload 4 <|
  i_const 2 <|
  i_iadd <|
  i_iald <|
  i_aload 3 <|
  i_call mX0_cost d 4 pS (xOut Q) <|
  i_istore 5 <|
  i_aload 2 <|
  i_aload 0 <|
  i_iload 4 <|
  i_const 1 <|
  i_iadd <|
  i_iald <|
  i_aload 0 <|
  i_iload 4 <|
  i_const 2 <|
  i_iadd <|
  i_iald <|
  i_call mX8_cost d 3 (pV 8) (xOut Q) <|
  i_istore 6 <|
  i_aload 2 <|
  i_call mX8_thrown d 1 (pV 8) (xOut Q) <|
  i_iload 5 <|
  i_icmp_eq
  (i_iload 5 <|
  i_if_ne
  ((J 2675))
  (i_aload 3 <|
  i_const 0 <|
  i_lald <|
  i_iload 6 <|
  i_i2l <|
  i_lcmp <|
  i_if_eq
  ((J 2675))
  (i_const 0 <|
  i_ret Q (some .boolean))))
  (i_const 0 <|
  i_ret Q (some .boolean))),
  (6, i_aload 1 <|
  i_aload 0 <|
  i_iload 4 <|
  i_const 1 <|
  i_iadd <|
  i_iald <|
  i_aload 0 <|
  i_iload 4 <|
  i_const 2 <|
  i_iadd <|
  i_iald <|
  i_aload 3 <|
  i_call mX0_habit d 4 pS (xOut Q) <|
  i_istore 5 <|
  i_aload 2 <|
  i_aload 0 <|
  i_iload 4 <|
  i_const 1 <|
  i_iadd <|
  i_iald <|
  i_aload 0 <|
  i_iload 4 <|
  i_const 2 <|
  i_iadd <|
  i_iald <|
  i_call mX8_habit d 3 (pV 8) (xOut Q) <|
  i_istore 6 <|
  i_aload 2 <|
  i_call mX8_thrown d 1 (pV 8) (xOut Q) <|
  i_iload 5 <|
  i_icmp_eq
  (i_iload 5 <|
  i_if_ne
  ((J 2675))
  (i_aload 3 <|
  i_const 0 <|
  i_lald <|
  i_iload 6 <|
  i_i2l <|
  i_lcmp <|
  i_if_eq
  ((J 2675))
  (i_const 0 <|
  i_ret Q (some .boolean))))
  (i_const 0 <|
  i_ret Q (some .boolean))),
  (7, i_aload 1 <|
  i_aload 0 <|
  i_iload 4 <|
  i_const 1 <|
  i_iadd <|
  i_iald <|
  i_aload 0 <|
  i_iload 4 <|
  i_const 2 <|
  i_iadd <|
  i_iald <|
  i_aload 3 <|
  i_call mX0_person d 4 pS (xOut Q) <|
  i_istore 5 <|
  i_aload 2 <|
  i_aload 0 <|
  i_iload 4 <|
  i_const 1 <|
  i_iadd <|
  i_iald <|
  i_aload 0 <|
  i_iload 4 <|
  i_const 2 <|
  i_iadd <|
  i_iald <|
  i_call mX8_person d 3 (pV 8) (xOut Q) <|
  i_istore 6 <|
  i_aload 2 <|
  i_call mX8_thrown d 1 (pV 8) (xOut Q) <|
  i_iload 5 <|
  i_icmp_eq
  (i_iload 5 <|
  i_if_ne
  ((J 2675))
  (i_aload 3 <|
  i_const 0 <|
  i_lald <|
  i_iload 6 <|
  i_i2l <|
  i_lcmp <|
  i_if_eq
  ((J 2675))
  (i_const 0 <|
  i_ret Q (some .boolean))))
  (i_const 0 <|
  i_ret Q (some .boolean))),
  (8, i_aload 1 <|
  i_aload 0 <|
  i_iload 4 <|
  i_const 1 <|
  i_iadd <|
  i_iald <|
  i_aload 0 <|
  i_iload 4 <|
  i_const 2 <|
  i_iadd <|
  i_iald <|
  i_aload 0 <|
  i_iload 4 <|
  i_const 3 <|
  i_iadd <|
  i_iald <|
  i_if_eq
  (i_const 0 <|
  (J 662))
  (i_const 1 <|
  (J 662))),
  (9, i_aload 1 <|
  i_aload 0 <|
  i_iload 4 <|
  i_const 1 <|
  i_iadd <|
  i_iald <|
  i_aload 0 <|
  i_iload 4 <|
  i_const 2 <|
  i_iadd <|
  i_iald <|
  i_if_eq
  (i_const 0 <|
  (J 752))
  (i_const 1 <|
  (J 752))),
  (10, i_aload 1 <|
  i_aload 0 <|
  i_iload 4 <|
  i_const 1 <|
  i_iadd <|
  i_iald <|
  i_aload 0 <|
  i_iload 4 <|
  i_const 2 <|
  i_iadd <|
  i_iald <|
  i_aload 3 <|
  i_call mX0_will d 4 pS (xOut Q) <|
  i_istore 5 <|
  i_aload 2 <|
  i_aload 0 <|
  i_iload 4 <|
  i_const 1 <|
  i_iadd <|
  i_iald <|
  i_aload 0 <|
  i_iload 4 <|
  i_const 2 <|
  i_iadd <|
  i_iald <|
  i_call mX8_will d 3 (pV 8) (xOut Q) <|
  i_istore 6 <|
  i_aload 2 <|
  i_call mX8_thrown d 1 (pV 8) (xOut Q) <|
  i_iload 5 <|
  i_icmp_eq
  (i_iload 5 <|
  i_if_ne
  ((J 2675))
  (i_aload 3 <|
  i_const 0 <|
  i_lald <|
  i_iload 6 <|
  i_i2l <|
  i_lcmp <|
  i_if_eq
  ((J 2675))
  (i_const 0 <|
  i_ret Q (some .boolean))))
  (i_const 0 <|
  i_ret Q (some .boolean))),
  (11, i_aload 1 <|
  i_aload 0 <|
  i_iload 4 <|
  i_const 1 <|
  i_iadd <|
  i_iald <|
  i_aload 0 <|
  i_iload 4 <|
  i_const 2 <|
  i_iadd <|
  i_iald <|
  i_aload 3 <|
  i_call mX0_meet d 4 pS (xOut Q) <|
  i_istore 5 <|
  i_aload 2 <|
  i_aload 0 <|
  i_iload 4 <|
  i_const 1 <|
  i_iadd <|
  i_iald <|
  i_aload 0 <|
  i_iload 4 <|
  i_const 2 <|
  i_iadd <|
  i_iald <|
  i_call mX8_meet d 3 (pV 8) (xOut Q) <|
  i_istore 6 <|
  i_aload 2 <|
  i_call mX8_thrown d 1 (pV 8) (xOut Q) <|
  i_iload 5 <|
  i_icmp_eq
  (i_iload 5 <|
  i_if_ne
  ((J 2675))
  (i_aload 3 <|
  i_const 0 <|
  i_lald <|
  i_iload 6 <|
  i_i2l <|
  i_lcmp <|
  i_if_eq
  ((J 2675))
  (i_const 0 <|
  i_ret Q (some .boolean))))
  (i_const 0 <|
  i_ret Q (some .boolean))),
  (12, i_aload 1 <|
  i_aload 0 <|
  i_iload 4 <|
  i_const 1 <|
  i_iadd <|
  i_iald <|
  i_aload 3 <|
  i_call mX0_rounds d 3 pS (xOut Q) <|
  i_istore 5 <|
  i_aload 2 <|
  i_aload 0 <|
  i_iload 4 <|
  i_const 1 <|
  i_iadd <|
  i_iald <|
  i_call mX8_rounds d 2 (pV 8) (xOut Q) <|
  i_istore 6 <|
  i_aload 2 <|
  i_call mX8_thrown d 1 (pV 8) (xOut Q) <|
  i_iload 5 <|
  i_icmp_eq
  (i_iload 5 <|
  i_if_ne
  ((J 2675))
  (i_aload 3 <|
  i_const 0 <|
  i_lald <|
  i_iload 6 <|
  i_i2l <|
  i_lcmp <|
  i_if_eq
  ((J 2675))
  (i_const 0 <|
  i_ret Q (some .boolean))))
  (i_const 0 <|
  i_ret Q (some .boolean))),
  (13, i_aload 1 <|
  i_aload 0 <|
  i_iload 4 <|
  i_const 1 <|
  i_iadd <|
  i_iald <|
  i_aload 0 <|
  i_iload 4 <|
  i_const 2 <|
  i_iadd <|
  i_iald <|
  i_aload 3 <|
  i_call mX0_own d 4 pS (xOut Q) <|
  i_istore 5 <|
  i_aload 2 <|
  i_aload 0 <|
  i_iload 4 <|
  i_const 1 <|
  i_iadd <|
  i_iald <|
  i_aload 0 <|
  i_iload 4 <|
  i_const 2 <|
  i_iadd <|
  i_iald <|
  i_call mX8_own d 3 (pV 8) (xOut Q) <|
  i_istore 6 <|
  i_aload 2 <|
  i_call mX8_thrown d 1 (pV 8) (xOut Q) <|
  i_iload 5 <|
  i_icmp_eq
  (i_iload 5 <|
  i_if_ne
  ((J 2675))
  (i_aload 3 <|
  i_const 0 <|
  i_lald <|
  i_iload 6 <|
  i_i2l <|
  i_lcmp <|
  i_if_eq
  ((J 2675))
  (i_const 0 <|
  i_ret Q (some .boolean))))
  (i_const 0 <|
  i_ret Q (some .boolean))),
  (14, i_aload 1 <|
  i_aload 0 <|
  i_iload 4 <|
  i_const 1 <|
  i_iadd <|
  i_iald <|
  i_aload 0 <|
  i_iload 4 <|
  i_const 2 <|
  i_iadd <|
  i_iald <|
  i_if_eq
  (i_const 0 <|
  (J 1096))
  (i_const 1 <|
  (J 1096))),
  (15, i_aload 1 <|
  i_aload 0 <|
  i_iload 4 <|
  i_const 1 <|
  i_iadd <|
  i_iald <|
  i_aload 0 <|
  i_iload 4 <|
  i_const 2 <|
  i_iadd <|
  i_iald <|
  i_aload 3 <|
  i_call mX0_ties d 4 pS (xOut Q) <|
  i_istore 5 <|
  i_aload 2 <|
  i_aload 0 <|
  i_iload 4 <|
  i_const 1 <|
  i_iadd <|
  i_iald <|
  i_aload 0 <|
  i_iload 4 <|
  i_const 2 <|
  i_iadd <|
  i_iald <|
  i_call mX8_ties d 3 (pV 8) (xOut Q) <|
  i_istore 6 <|
  i_aload 2 <|
  i_call mX8_thrown d 1 (pV 8) (xOut Q) <|
  i_iload 5 <|
  i_icmp_eq
  (i_iload 5 <|
  i_if_ne
  ((J 2675))
  (i_aload 3 <|
  i_const 0 <|
  i_lald <|
  i_iload 6 <|
  i_i2l <|
  i_lcmp <|
  i_if_eq
  ((J 2675))
  (i_const 0 <|
  i_ret Q (some .boolean))))
  (i_const 0 <|
  i_ret Q (some .boolean))),
  (16, i_aload 1 <|
  i_aload 0 <|
  i_iload 4 <|
  i_const 1 <|
  i_iadd <|
  i_iald <|
  i_aload 3 <|
  i_call mX0_cut d 3 pS (xOut Q) <|
  i_istore 5 <|
  i_aload 2 <|
  i_aload 0 <|
  i_iload 4 <|
  i_const 1 <|
  i_iadd <|
  i_iald <|
  i_call mX8_cut d 2 (pV 8) (xOut Q) <|
  i_istore 6 <|
  i_aload 2 <|
  i_call mX8_thrown d 1 (pV 8) (xOut Q) <|
  i_iload 5 <|
  i_icmp_eq
  (i_iload 5 <|
  i_if_ne
  ((J 2675))
  (i_aload 3 <|
  i_const 0 <|
  i_lald <|
  i_iload 6 <|
  i_i2l <|
  i_lcmp <|
  i_if_eq
  ((J 2675))
  (i_const 0 <|
  i_ret Q (some .boolean))))
  (i_const 0 <|
  i_ret Q (some .boolean))),
  (17, i_aload 1 <|
  i_aload 0 <|
  i_iload 4 <|
  i_const 1 <|
  i_iadd <|
  i_iald <|
  i_aload 0 <|
  i_iload 4 <|
  i_const 2 <|
  i_iadd <|
  i_iald <|
  i_aload 3 <|
  i_call mX0_feast d 4 pS (xOut Q) <|
  i_istore 5 <|
  i_aload 2 <|
  i_aload 0 <|
  i_iload 4 <|
  i_const 1 <|
  i_iadd <|
  i_iald <|
  i_aload 0 <|
  i_iload 4 <|
  i_const 2 <|
  i_iadd <|
  i_iald <|
  i_call mX8_feast d 3 (pV 8) (xOut Q) <|
  i_istore 6 <|
  i_aload 2 <|
  i_call mX8_thrown d 1 (pV 8) (xOut Q) <|
  i_iload 5 <|
  i_icmp_eq
  (i_iload 5 <|
  i_if_ne
  ((J 2675))
  (i_aload 3 <|
  i_const 0 <|
  i_lald <|
  i_iload 6 <|
  i_i2l <|
  i_lcmp <|
  i_if_eq
  ((J 2675))
  (i_const 0 <|
  i_ret Q (some .boolean))))
  (i_const 0 <|
  i_ret Q (some .boolean))),
  (18, i_aload 1 <|
  i_aload 0 <|
  i_iload 4 <|
  i_const 1 <|
  i_iadd <|
  i_iald <|
  i_aload 0 <|
  i_iload 4 <|
  i_const 2 <|
  i_iadd <|
  i_iald <|
  i_aload 3 <|
  i_call mX0_expected d 4 pS (xOut Q) <|
  i_istore 5 <|
  i_aload 2 <|
  i_aload 0 <|
  i_iload 4 <|
  i_const 1 <|
  i_iadd <|
  i_iald <|
  i_aload 0 <|
  i_iload 4 <|
  i_const 2 <|
  i_iadd <|
  i_iald <|
  i_call mX8_expected d 3 (pV 8) (xOut Q) <|
  i_istore 6 <|
  i_aload 2 <|
  i_call mX8_thrown d 1 (pV 8) (xOut Q) <|
  i_iload 5 <|
  i_icmp_eq
  (i_iload 5 <|
  i_if_ne
  ((J 2675))
  (i_aload 3 <|
  i_const 0 <|
  i_lald <|
  i_iload 6 <|
  i_i2l <|
  i_lcmp <|
  i_if_eq
  ((J 2675))
  (i_const 0 <|
  i_ret Q (some .boolean))))
  (i_const 0 <|
  i_ret Q (some .boolean))),
  (19, i_aload 1 <|
  i_aload 0 <|
  i_iload 4 <|
  i_const 1 <|
  i_iadd <|
  i_iald <|
  i_aload 3 <|
  i_call mX0_best d 3 pS (xOut Q) <|
  i_istore 5 <|
  i_aload 2 <|
  i_aload 0 <|
  i_iload 4 <|
  i_const 1 <|
  i_iadd <|
  i_iald <|
  i_call mX8_best d 2 (pV 8) (xOut Q) <|
  i_istore 6 <|
  i_aload 2 <|
  i_call mX8_thrown d 1 (pV 8) (xOut Q) <|
  i_iload 5 <|
  i_icmp_eq
  (i_iload 5 <|
  i_if_ne
  ((J 2675))
  (i_aload 3 <|
  i_const 0 <|
  i_lald <|
  i_iload 6 <|
  i_i2l <|
  i_lcmp <|
  i_if_eq
  ((J 2675))
  (i_const 0 <|
  i_ret Q (some .boolean))))
  (i_const 0 <|
  i_ret Q (some .boolean))),
  (20, i_aload 1 <|
  i_aload 0 <|
  i_iload 4 <|
  i_const 1 <|
  i_iadd <|
  i_iald <|
  i_if_eq
  (i_const 0 <|
  (J 1497))
  (i_const 1 <|
  (J 1497))),
  (21, i_aload 1 <|
  i_aload 0 <|
  i_iload 4 <|
  i_const 1 <|
  i_iadd <|
  i_iald <|
  i_aload 0 <|
  i_iload 4 <|
  i_const 2 <|
  i_iadd <|
  i_iald <|
  i_aload 3 <|
  i_call mX0_odds d 4 pS (xOut Q) <|
  i_istore 5 <|
  i_aload 2 <|
  i_aload 0 <|
  i_iload 4 <|
  i_const 1 <|
  i_iadd <|
  i_iald <|
  i_aload 0 <|
  i_iload 4 <|
  i_const 2 <|
  i_iadd <|
  i_iald <|
  i_call mX8_odds d 3 (pV 8) (xOut Q) <|
  i_istore 6 <|
  i_aload 2 <|
  i_call mX8_thrown d 1 (pV 8) (xOut Q) <|
  i_iload 5 <|
  i_icmp_eq
  (i_iload 5 <|
  i_if_ne
  ((J 2675))
  (i_aload 3 <|
  i_const 0 <|
  i_lald <|
  i_iload 6 <|
  i_i2l <|
  i_lcmp <|
  i_if_eq
  ((J 2675))
  (i_const 0 <|
  i_ret Q (some .boolean))))
  (i_const 0 <|
  i_ret Q (some .boolean))),
  (22, i_aload 1 <|
  i_aload 0 <|
  i_iload 4 <|
  i_const 1 <|
  i_iadd <|
  i_iald <|
  i_if_eq
  (i_const 0 <|
  (J 1606))
  (i_const 1 <|
  (J 1606))),
  (23, i_aload 1 <|
  i_call mX1_worth d 1 (pV 1) (xOut Q) <|
  i_aload 2 <|
  i_call mX8_worth d 1 (pV 8) (xOut Q) <|
  i_icmp_eq
  ((J 2675))
  (i_const 0 <|
  i_ret Q (some .boolean))),
  (24, i_aload 1 <|
  i_aload 0 <|
  i_iload 4 <|
  i_const 1 <|
  i_iadd <|
  i_iald <|
  i_aload 0 <|
  i_iload 4 <|
  i_const 2 <|
  i_iadd <|
  i_iald <|
  i_aload 3 <|
  i_call mX0_rests d 4 pS (xOut Q) <|
  i_istore 5 <|
  i_aload 2 <|
  i_aload 0 <|
  i_iload 4 <|
  i_const 1 <|
  i_iadd <|
  i_iald <|
  i_aload 0 <|
  i_iload 4 <|
  i_const 2 <|
  i_iadd <|
  i_iald <|
  i_call mX8_rests d 3 (pV 8) (xOut Q) <|
  i_istore 6 <|
  i_aload 2 <|
  i_call mX8_thrown d 1 (pV 8) (xOut Q) <|
  i_iload 5 <|
  i_icmp_eq
  (i_iload 5 <|
  i_if_ne
  ((J 2675))
  (i_aload 3 <|
  i_const 0 <|
  i_lald <|
  i_iload 6 <|
  i_i2l <|
  i_lcmp <|
  i_if_eq
  ((J 2675))
  (i_const 0 <|
  i_ret Q (some .boolean))))
  (i_const 0 <|
  i_ret Q (some .boolean))),
  (25, i_aload 1 <|
  i_aload 0 <|
  i_iload 4 <|
  i_const 1 <|
  i_iadd <|
  i_iald <|
  i_aload 0 <|
  i_iload 4 <|
  i_const 2 <|
  i_iadd <|
  i_iald <|
  i_aload 0 <|
  i_iload 4 <|
  i_const 3 <|
  i_iadd <|
  i_iald <|
  i_if_eq
  (i_const 0 <|
  (J 1771))
  (i_const 1 <|
  (J 1771))),
  (26, i_aload 1 <|
  i_aload 0 <|
  i_iload 4 <|
  i_const 1 <|
  i_iadd <|
  i_iald <|
  i_aload 0 <|
  i_iload 4 <|
  i_const 2 <|
  i_iadd <|
  i_iald <|
  i_call mX1_table d 3 (pV 1) (xOut Q) <|
  i_aload 2 <|
  i_aload 0 <|
  i_iload 4 <|
  i_const 1 <|
  i_iadd <|
  i_iald <|
  i_aload 0 <|
  i_iload 4 <|
  i_const 2 <|
  i_iadd <|
  i_iald <|
  i_call mX8_table d 3 (pV 8) (xOut Q) <|
  i_icmp_eq
  ((J 2675))
  (i_const 0 <|
  i_ret Q (some .boolean))),
  (27, i_aload 1 <|
  i_aload 0 <|
  i_iload 4 <|
  i_const 1 <|
  i_iadd <|
  i_iald <|
  i_if_eq
  (i_const 0 <|
  (J 1892))
  (i_const 1 <|
  (J 1892))),
  (28, i_aload 1 <|
  i_aload 0 <|
  i_iload 4 <|
  i_const 1 <|
  i_iadd <|
  i_iald <|
  i_aload 3 <|
  i_call mX0_begins d 3 pS (xOut Q) <|
  i_istore 5 <|
  i_aload 2 <|
  i_aload 0 <|
  i_iload 4 <|
  i_const 1 <|
  i_iadd <|
  i_iald <|
  i_call mX8_begins_2 d 2 (pV 8) (xOut Q) <|
  i_istore 6 <|
  i_aload 2 <|
  i_call mX8_thrown d 1 (pV 8) (xOut Q) <|
  i_iload 5 <|
  i_icmp_eq
  (i_iload 5 <|
  i_if_ne
  ((J 2675))
  (i_aload 3 <|
  i_const 0 <|
  i_lald <|
  i_iload 6 <|
  i_i2l <|
  i_lcmp <|
  i_if_eq
  ((J 2675))
  (i_const 0 <|
  i_ret Q (some .boolean))))
  (i_const 0 <|
  i_ret Q (some .boolean))),
  (29, i_aload 1 <|
  i_aload 0 <|
  i_iload 4 <|
  i_const 1 <|
  i_iadd <|
  i_iald <|
  i_aload 0 <|
  i_iload 4 <|
  i_const 2 <|
  i_iadd <|
  i_iald <|
  i_aload 3 <|
  i_call mX0_after d 4 pS (xOut Q) <|
  i_istore 5 <|
  i_aload 2 <|
  i_aload 0 <|
  i_iload 4 <|
  i_const 1 <|
  i_iadd <|
  i_iald <|
  i_aload 0 <|
  i_iload 4 <|
  i_const 2 <|
  i_iadd <|
  i_iald <|
  i_call mX8_after d 3 (pV 8) (xOut Q) <|
  i_istore 6 <|
  i_aload 2 <|
  i_call mX8_thrown d 1 (pV 8) (xOut Q) <|
  i_iload 5 <|
  i_icmp_eq
  (i_iload 5 <|
  i_if_ne
  ((J 2675))
  (i_aload 3 <|
  i_const 0 <|
  i_lald <|
  i_iload 6 <|
  i_i2l <|
  i_lcmp <|
  i_if_eq
  ((J 2675))
  (i_const 0 <|
  i_ret Q (some .boolean))))
  (i_const 0 <|
  i_ret Q (some .boolean))),
  (30, i_aload 1 <|
  i_aload 0 <|
  i_iload 4 <|
  i_const 1 <|
  i_iadd <|
  i_iald <|
  i_aload 0 <|
  i_iload 4 <|
  i_const 2 <|
  i_iadd <|
  i_iald <|
  i_aload 3 <|
  i_call mX0_custom d 4 pS (xOut Q) <|
  i_istore 5 <|
  i_aload 2 <|
  i_aload 0 <|
  i_iload 4 <|
  i_const 1 <|
  i_iadd <|
  i_iald <|
  i_aload 0 <|
  i_iload 4 <|
  i_const 2 <|
  i_iadd <|
  i_iald <|
  i_call mX8_custom d 3 (pV 8) (xOut Q) <|
  i_istore 6 <|
  i_aload 2 <|
  i_call mX8_thrown d 1 (pV 8) (xOut Q) <|
  i_iload 5 <|
  i_icmp_eq
  (i_iload 5 <|
  i_if_ne
  ((J 2675))
  (i_aload 3 <|
  i_const 0 <|
  i_lald <|
  i_iload 6 <|
  i_i2l <|
  i_lcmp <|
  i_if_eq
  ((J 2675))
  (i_const 0 <|
  i_ret Q (some .boolean))))
  (i_const 0 <|
  i_ret Q (some .boolean))),
  (31, i_aload 1 <|
  i_call mX1_still d 1 (pV 1) (xOut Q) <|
  i_aload 2 <|
  i_call mX8_still d 1 (pV 8) (xOut Q) <|
  i_icmp_eq
  ((J 2675))
  (i_const 0 <|
  i_ret Q (some .boolean))),
  (32, i_aload 1 <|
  i_aload 0 <|
  i_iload 4 <|
  i_const 1 <|
  i_iadd <|
  i_iald <|
  i_aload 0 <|
  i_iload 4 <|
  i_const 2 <|
  i_iadd <|
  i_iald <|
  i_aload 3 <|
  i_call mX0_told d 4 pS (xOut Q) <|
  i_istore 5 <|
  i_aload 2 <|
  i_aload 0 <|
  i_iload 4 <|
  i_const 1 <|
  i_iadd <|
  i_iald <|
  i_aload 0 <|
  i_iload 4 <|
  i_const 2 <|
  i_iadd <|
  i_iald <|
  i_call mX8_told d 3 (pV 8) (xOut Q) <|
  i_istore 6 <|
  i_aload 2 <|
  i_call mX8_thrown d 1 (pV 8) (xOut Q) <|
  i_iload 5 <|
  i_icmp_eq
  (i_iload 5 <|
  i_if_ne
  ((J 2675))
  (i_aload 3 <|
  i_const 0 <|
  i_lald <|
  i_iload 6 <|
  i_i2l <|
  i_lcmp <|
  i_if_eq
  ((J 2675))
  (i_const 0 <|
  i_ret Q (some .boolean))))
  (i_const 0 <|
  i_ret Q (some .boolean))),
  (33, i_aload 1 <|
  i_aload 0 <|
  i_iload 4 <|
  i_const 1 <|
  i_iadd <|
  i_iald <|
  i_aload 0 <|
  i_iload 4 <|
  i_const 2 <|
  i_iadd <|
  i_iald <|
  i_aload 3 <|
  i_call mX0_colds d 4 pS (xOut Q) <|
  i_istore 5 <|
  i_aload 2 <|
  i_aload 0 <|
  i_iload 4 <|
  i_const 1 <|
  i_iadd <|
  i_iald <|
  i_aload 0 <|
  i_iload 4 <|
  i_const 2 <|
  i_iadd <|
  i_iald <|
  i_call mX8_colds d 3 (pV 8) (xOut Q) <|
  i_istore 6 <|
  i_aload 2 <|
  i_call mX8_thrown d 1 (pV 8) (xOut Q) <|
  i_iload 5 <|
  i_icmp_eq
  (i_iload 5 <|
  i_if_ne
  ((J 2675))
  (i_aload 3 <|
  i_const 0 <|
  i_lald <|
  i_iload 6 <|
  i_i2l <|
  i_lcmp <|
  i_if_eq
  ((J 2675))
  (i_const 0 <|
  i_ret Q (some .boolean))))
  (i_const 0 <|
  i_ret Q (some .boolean))),
  (34, i_aload 1 <|
  i_aload 0 <|
  i_iload 4 <|
  i_const 1 <|
  i_iadd <|
  i_iald <|
  i_aload 0 <|
  i_iload 4 <|
  i_const 2 <|
  i_iadd <|
  i_iald <|
  i_aload 3 <|
  i_call mX0_spared d 4 pS (xOut Q) <|
  i_istore 5 <|
  i_aload 2 <|
  i_aload 0 <|
  i_iload 4 <|
  i_const 1 <|
  i_iadd <|
  i_iald <|
  i_aload 0 <|
  i_iload 4 <|
  i_const 2 <|
  i_iadd <|
  i_iald <|
  i_call mX8_spared d 3 (pV 8) (xOut Q) <|
  i_istore 6 <|
  i_aload 2 <|
  i_call mX8_thrown d 1 (pV 8) (xOut Q) <|
  i_iload 5 <|
  i_icmp_eq
  (i_iload 5 <|
  i_if_ne
  ((J 2675))
  (i_aload 3 <|
  i_const 0 <|
  i_lald <|
  i_iload 6 <|
  i_i2l <|
  i_lcmp <|
  i_if_eq
  ((J 2675))
  (i_const 0 <|
  i_ret Q (some .boolean))))
  (i_const 0 <|
  i_ret Q (some .boolean))),
  (35, i_aload 1 <|
  i_aload 0 <|
  i_iload 4 <|
  i_const 1 <|
  i_iadd <|
  i_iald <|
  i_if_eq
  (i_const 0 <|
  (J 2342))
  (i_const 1 <|
  (J 2342))),
  (36, i_aload 1 <|
  i_aload 0 <|
  i_iload 4 <|
  i_const 1 <|
  i_iadd <|
  i_iald <|
  i_aload 0 <|
  i_iload 4 <|
  i_const 2 <|
  i_iadd <|
  i_iald <|
  i_aload 3 <|
  i_call mX0_trial d 4 pS (xOut Q) <|
  i_istore 5 <|
  i_aload 2 <|
  i_aload 0 <|
  i_iload 4 <|
  i_const 1 <|
  i_iadd <|
  i_iald <|
  i_aload 0 <|
  i_iload 4 <|
  i_const 2 <|
  i_iadd <|
  i_iald <|
  i_call mX8_trial d 3 (pV 8) (xOut Q) <|
  i_istore 6 <|
  i_aload 2 <|
  i_call mX8_thrown d 1 (pV 8) (xOut Q) <|
  i_iload 5 <|
  i_icmp_eq
  (i_iload 5 <|
  i_if_ne
  ((J 2675))
  (i_aload 3 <|
  i_const 0 <|
  i_lald <|
  i_iload 6 <|
  i_i2l <|
  i_lcmp <|
  i_if_eq
  ((J 2675))
  (i_const 0 <|
  i_ret Q (some .boolean))))
  (i_const 0 <|
  i_ret Q (some .boolean))),
  (37, i_aload 1 <|
  i_aload 0 <|
  i_iload 4 <|
  i_const 1 <|
  i_iadd <|
  i_iald <|
  i_aload 0 <|
  i_iload 4 <|
  i_const 2 <|
  i_iadd <|
  i_iald <|
  i_if_eq
  (i_const 0 <|
  (J 2457))
  (i_const 1 <|
  (J 2457))),
  (38, i_aload 1 <|
  i_aload 0 <|
  i_iload 4 <|
  i_const 1 <|
  i_iadd <|
  i_iald <|
  i_aload 0 <|
  i_iload 4 <|
  i_const 2 <|
  i_iadd <|
  i_iald <|
  i_aload 3 <|
  i_call mX0_log d 4 pS (xOut Q) <|
  i_istore 5 <|
  i_aload 2 <|
  i_aload 0 <|
  i_iload 4 <|
  i_const 1 <|
  i_iadd <|
  i_iald <|
  i_aload 0 <|
  i_iload 4 <|
  i_const 2 <|
  i_iadd <|
  i_iald <|
  i_call mX8_log d 3 (pV 8) (xOut Q) <|
  i_istore 6 <|
  i_aload 2 <|
  i_call mX8_thrown d 1 (pV 8) (xOut Q) <|
  i_iload 5 <|
  i_icmp_eq
  (i_iload 5 <|
  i_if_ne
  ((J 2675))
  (i_aload 3 <|
  i_const 0 <|
  i_lald <|
  i_iload 6 <|
  i_i2l <|
  i_lcmp <|
  i_if_eq
  ((J 2675))
  (i_const 0 <|
  i_ret Q (some .boolean))))
  (i_const 0 <|
  i_ret Q (some .boolean))),
  (39, i_aload 1 <|
  i_aload 0 <|
  i_iload 4 <|
  i_const 1 <|
  i_iadd <|
  i_iald <|
  i_call mX1_seed d 2 (pV 1) (xOut Q) <|
  i_aload 2 <|
  i_aload 0 <|
  i_iload 4 <|
  i_const 1 <|
  i_iadd <|
  i_iald <|
  i_call mX8_seed d 2 (pV 8) (xOut Q) <|
  i_icmp_eq
  ((J 2675))
  (i_const 0 <|
  i_ret Q (some .boolean))),
  (40, i_aload 1 <|
  i_call mX1_undo d 1 (pV 1) (xOut Q) <|
  i_aload 2 <|
  i_call mX8_undo d 1 (pV 8) (xOut Q) <|
  i_icmp_eq
  ((J 2675))
  (i_const 0 <|
  i_ret Q (some .boolean))),
  (41, i_aload 1 <|
  i_call mX1_image d 1 (pV 1) (xOut Q) <|
  i_aload 2 <|
  i_call mX8_image d 1 (pV 8) (xOut Q) <|
  (J 2675)),
  (42, i_aload 1 <|
  i_call mX1_back d 1 (pV 1) (xOut Q) <|
  i_aload 2 <|
  i_call mX8_back d 1 (pV 8) (xOut Q) <|
  i_icmp_eq
  ((J 2675))
  (i_const 0 <|
  i_ret Q (some .boolean))),
  (43, i_aload 1 <|
  i_aload 0 <|
  i_iload 4 <|
  i_const 1 <|
  i_iadd <|
  i_iald <|
  i_call mX1_count d 2 (pV 1) (xOut Q) <|
  i_aload 2 <|
  i_aload 0 <|
  i_iload 4 <|
  i_const 1 <|
  i_iadd <|
  i_iald <|
  i_call mX8_count d 2 (pV 8) (xOut Q) <|
  i_icmp_eq
  ((J 2675))
  (i_const 0 <|
  i_ret Q (some .boolean)))]
  ((J 2675)))
theorem kL_law_23 {d : Nat} {Q : Outcome → MH → Prop} : ∀ ls st h, tL_law_23 d Q (fun pc ls st h => WPb mL_law d pc ls st h Q) ls st h → WPb mL_law d 23 ls st h Q :=
  r_iload dL_law_23 <|
  r_aload_n (k := 0) dL_law_25 rfl <|
  r_alen dL_law_26 <|
  r_bipush (v := 6) dL_law_27 rfl <|
  r_isub dL_law_29 <|
  r_icmp_gt (pt := 2681) dL_law_30 (by decide)
  (r_iconst (v := 1) dL_law_2681 rfl <|
  r_ret rfl (Or.inl ⟨dL_law_2682, Or.inr (Or.inl rfl)⟩))
  (r_aload_n (k := 0) dL_law_33 rfl <|
  r_iload dL_law_34 <|
  r_iald dL_law_36 <|
  r_bipush (v := 63) dL_law_37 rfl <|
  r_iand dL_law_39 <|
  r_tsw (tl := [(0, 232), (1, 305), (2, 330), (3, 374), (4, 418), (5, 431), (6, 499), (7, 567), (8, 635), (9, 731), (10, 815), (11, 883), (12, 951), (13, 1007), (14, 1075), (15, 1166), (16, 1234), (17, 1290), (18, 1358), (19, 1426), (20, 1482), (21, 1523), (22, 1591), (23, 1663), (24, 1676), (25, 1744), (26, 1840), (27, 1877), (28, 1918), (29, 1974), (30, 2042), (31, 2110), (32, 2123), (33, 2191), (34, 2259), (35, 2327), (36, 2368), (37, 2436), (38, 2520), (39, 2588), (40, 2613), (41, 2626), (42, 2637), (43, 2650)]) (td := 2675) dL_law_40 (by decide +kernel) (by decide) (by decide +kernel) (by decide) (sw_cons (r_aload_n (k := 1) dL_law_232 rfl <|
  r_aload_n (k := 0) dL_law_233 rfl <|
  r_iload dL_law_234 <|
  r_iconst (v := 1) dL_law_236 rfl <|
  r_iadd dL_law_237 <|
  r_iald dL_law_238 <|
  r_aload_n (k := 0) dL_law_239 rfl <|
  r_iload dL_law_240 <|
  r_iconst (v := 2) dL_law_242 rfl <|
  r_iadd dL_law_243 <|
  r_iald dL_law_244 <|
  r_aload_n (k := 0) dL_law_245 rfl <|
  r_iload dL_law_246 <|
  r_iconst (v := 3) dL_law_248 rfl <|
  r_iadd dL_law_249 <|
  r_iald dL_law_250 <|
  r_aload_n (k := 0) dL_law_251 rfl <|
  r_iload dL_law_252 <|
  r_iconst (v := 4) dL_law_254 rfl <|
  r_iadd dL_law_255 <|
  r_iald dL_law_256 <|
  r_aload_n (k := 0) dL_law_257 rfl <|
  r_iload dL_law_258 <|
  r_iconst (v := 5) dL_law_260 rfl <|
  r_iadd dL_law_261 <|
  r_iald dL_law_262 <|
  r_cV (Z := mX1_feed) (ci := 1) (q := (RX1, TX1, 13)) dL_law_263 rfl (by decide +kernel) ⟨by decide, by decide⟩ (by decide) rfl rfl q508 q509 q510 q117 q511 (XS.out (noH _)) <|
  r_aload_n (k := 2) dL_law_266 rfl <|
  r_aload_n (k := 0) dL_law_267 rfl <|
  r_iload dL_law_268 <|
  r_iconst (v := 1) dL_law_270 rfl <|
  r_iadd dL_law_271 <|
  r_iald dL_law_272 <|
  r_aload_n (k := 0) dL_law_273 rfl <|
  r_iload dL_law_274 <|
  r_iconst (v := 2) dL_law_276 rfl <|
  r_iadd dL_law_277 <|
  r_iald dL_law_278 <|
  r_aload_n (k := 0) dL_law_279 rfl <|
  r_iload dL_law_280 <|
  r_iconst (v := 3) dL_law_282 rfl <|
  r_iadd dL_law_283 <|
  r_iald dL_law_284 <|
  r_aload_n (k := 0) dL_law_285 rfl <|
  r_iload dL_law_286 <|
  r_iconst (v := 4) dL_law_288 rfl <|
  r_iadd dL_law_289 <|
  r_iald dL_law_290 <|
  r_aload_n (k := 0) dL_law_291 rfl <|
  r_iload dL_law_292 <|
  r_iconst (v := 5) dL_law_294 rfl <|
  r_iadd dL_law_295 <|
  r_iald dL_law_296 <|
  r_cV (Z := mX8_feed) (ci := 8) (q := (RX8, TX8, 27)) dL_law_297 rfl (by decide +kernel) ⟨by decide, by decide⟩ (by decide) rfl rfl q2227 q2228 q2229 q127 q2230 (XS.out (noH _)) <|
  r_icmp_eq (pt := 2675) dL_law_300 (by decide)
  ((fun _ _ _ H => H))
  (r_iconst (v := 0) dL_law_303 rfl <|
  r_ret rfl (Or.inl ⟨dL_law_304, Or.inr (Or.inl rfl)⟩)))
  (sw_cons (r_aload_n (k := 1) dL_law_305 rfl <|
  r_aload_n (k := 0) dL_law_306 rfl <|
  r_iload dL_law_307 <|
  r_iconst (v := 1) dL_law_309 rfl <|
  r_iadd dL_law_310 <|
  r_iald dL_law_311 <|
  r_cV (Z := mX1_end) (ci := 1) (q := (RX1, TX1, 13)) dL_law_312 rfl (by decide +kernel) ⟨by decide, by decide⟩ (by decide) rfl rfl q516 q517 q518 q117 q519 (XS.out (noH _)) <|
  r_aload_n (k := 2) dL_law_315 rfl <|
  r_aload_n (k := 0) dL_law_316 rfl <|
  r_iload dL_law_317 <|
  r_iconst (v := 1) dL_law_319 rfl <|
  r_iadd dL_law_320 <|
  r_iald dL_law_321 <|
  r_cV (Z := mX8_end) (ci := 8) (q := (RX8, TX8, 27)) dL_law_322 rfl (by decide +kernel) ⟨by decide, by decide⟩ (by decide) rfl rfl q2231 q2232 q2233 q127 q2234 (XS.out (noH _)) <|
  r_icmp_eq (pt := 2675) dL_law_325 (by decide)
  ((fun _ _ _ H => H))
  (r_iconst (v := 0) dL_law_328 rfl <|
  r_ret rfl (Or.inl ⟨dL_law_329, Or.inr (Or.inl rfl)⟩)))
  (sw_cons (r_aload_n (k := 1) dL_law_330 rfl <|
  r_aload_n (k := 3) dL_law_331 rfl <|
  r_cSX (Z := mX0_town) dL_law_332 rfl (by decide +kernel) ⟨by decide, by decide⟩ q1110 q1111 q116 q1112 (XS.out (noH _)) <|
  r_istore dL_law_335 <|
  r_aload_n (k := 2) dL_law_337 rfl <|
  r_cV (Z := mX8_town) (ci := 8) (q := (RX8, TX8, 27)) dL_law_338 rfl (by decide +kernel) ⟨by decide, by decide⟩ (by decide) rfl rfl q2238 q2239 q2240 q127 q2241 (XS.out (noH _)) <|
  r_istore dL_law_341 <|
  r_aload_n (k := 2) dL_law_343 rfl <|
  r_cV (Z := mX8_thrown) (ci := 8) (q := (RX8, TX8, 27)) dL_law_344 rfl (by decide +kernel) ⟨by decide, by decide⟩ (by decide) rfl rfl q2223 q2224 q2225 q127 q2226 (XS.out (noH _)) <|
  r_iload dL_law_347 <|
  r_icmp_eq (pt := 354) dL_law_349 (by decide)
  (r_iload dL_law_354 <|
  r_if_ne (pt := 371) dL_law_356 (by decide)
  (r_goto (pt := 2675) dL_law_371 (by decide) <|
  (fun _ _ _ H => H))
  (r_aload_n (k := 3) dL_law_359 rfl <|
  r_iconst (v := 0) dL_law_360 rfl <|
  r_lald dL_law_361 <|
  r_iload dL_law_362 <|
  r_i2l dL_law_364 <|
  r_lcmp dL_law_365 <|
  r_if_eq (pt := 371) dL_law_366 (by decide)
  (r_goto (pt := 2675) dL_law_371 (by decide) <|
  (fun _ _ _ H => H))
  (r_iconst (v := 0) dL_law_369 rfl <|
  r_ret rfl (Or.inl ⟨dL_law_370, Or.inr (Or.inl rfl)⟩))))
  (r_iconst (v := 0) dL_law_352 rfl <|
  r_ret rfl (Or.inl ⟨dL_law_353, Or.inr (Or.inl rfl)⟩)))
  (sw_cons (r_aload_n (k := 1) dL_law_374 rfl <|
  r_aload_n (k := 3) dL_law_375 rfl <|
  r_cSX (Z := mX0_law) dL_law_376 rfl (by decide +kernel) ⟨by decide, by decide⟩ q1383 q1384 q116 q1385 (XS.out (noH _)) <|
  r_istore dL_law_379 <|
  r_aload_n (k := 2) dL_law_381 rfl <|
  r_cV (Z := mX8_law) (ci := 8) (q := (RX8, TX8, 27)) dL_law_382 rfl (by decide +kernel) ⟨by decide, by decide⟩ (by decide) rfl rfl q2401 q2402 q2403 q127 q2404 (XS.out (noH _)) <|
  r_istore dL_law_385 <|
  r_aload_n (k := 2) dL_law_387 rfl <|
  r_cV (Z := mX8_thrown) (ci := 8) (q := (RX8, TX8, 27)) dL_law_388 rfl (by decide +kernel) ⟨by decide, by decide⟩ (by decide) rfl rfl q2223 q2224 q2225 q127 q2226 (XS.out (noH _)) <|
  r_iload dL_law_391 <|
  r_icmp_eq (pt := 398) dL_law_393 (by decide)
  (r_iload dL_law_398 <|
  r_if_ne (pt := 415) dL_law_400 (by decide)
  (r_goto (pt := 2675) dL_law_415 (by decide) <|
  (fun _ _ _ H => H))
  (r_aload_n (k := 3) dL_law_403 rfl <|
  r_iconst (v := 0) dL_law_404 rfl <|
  r_lald dL_law_405 <|
  r_iload dL_law_406 <|
  r_i2l dL_law_408 <|
  r_lcmp dL_law_409 <|
  r_if_eq (pt := 415) dL_law_410 (by decide)
  (r_goto (pt := 2675) dL_law_415 (by decide) <|
  (fun _ _ _ H => H))
  (r_iconst (v := 0) dL_law_413 rfl <|
  r_ret rfl (Or.inl ⟨dL_law_414, Or.inr (Or.inl rfl)⟩))))
  (r_iconst (v := 0) dL_law_396 rfl <|
  r_ret rfl (Or.inl ⟨dL_law_397, Or.inr (Or.inl rfl)⟩)))
  (sw_cons (r_aload_n (k := 1) dL_law_418 rfl <|
  r_cV (Z := mX1_fault) (ci := 1) (q := (RX1, TX1, 13)) dL_law_419 rfl (by decide +kernel) ⟨by decide, by decide⟩ (by decide) rfl rfl q524 q525 q526 q117 q527 (XS.out (noH _)) <|
  r_aload_n (k := 2) dL_law_422 rfl <|
  r_cV (Z := mX8_fault) (ci := 8) (q := (RX8, TX8, 27)) dL_law_423 rfl (by decide +kernel) ⟨by decide, by decide⟩ (by decide) rfl rfl q2405 q2406 q2407 q127 q2408 (XS.out (noH _)) <|
  r_icmp_eq (pt := 2675) dL_law_426 (by decide)
  ((fun _ _ _ H => H))
  (r_iconst (v := 0) dL_law_429 rfl <|
  r_ret rfl (Or.inl ⟨dL_law_430, Or.inr (Or.inl rfl)⟩)))
  (sw_cons (r_aload_n (k := 1) dL_law_431 rfl <|
  r_aload_n (k := 0) dL_law_432 rfl <|
  r_iload dL_law_433 <|
  r_iconst (v := 1) dL_law_435 rfl <|
  r_iadd dL_law_436 <|
  r_iald dL_law_437 <|
  r_aload_n (k := 0) dL_law_438 rfl <|
  r_iload dL_law_439 <|
  r_iconst (v := 2) dL_law_441 rfl <|
  r_iadd dL_law_442 <|
  r_iald dL_law_443 <|
  r_aload_n (k := 3) dL_law_444 rfl <|
  r_cSX (Z := mX0_cost) dL_law_445 rfl (by decide +kernel) ⟨by decide, by decide⟩ q1622 q1623 q116 q1624 (XS.out (noH _)) <|
  r_istore dL_law_448 <|
  r_aload_n (k := 2) dL_law_450 rfl <|
  r_aload_n (k := 0) dL_law_451 rfl <|
  r_iload dL_law_452 <|
  r_iconst (v := 1) dL_law_454 rfl <|
  r_iadd dL_law_455 <|
  r_iald dL_law_456 <|
  r_aload_n (k := 0) dL_law_457 rfl <|
  r_iload dL_law_458 <|
  r_iconst (v := 2) dL_law_460 rfl <|
  r_iadd dL_law_461 <|
  r_iald dL_law_462 <|
  r_cV (Z := mX8_cost) (ci := 8) (q := (RX8, TX8, 27)) dL_law_463 rfl (by decide +kernel) ⟨by decide, by decide⟩ (by decide) rfl rfl q2409 q2410 q2411 q127 q2412 (XS.out (noH _)) <|
  r_istore dL_law_466 <|
  r_aload_n (k := 2) dL_law_468 rfl <|
  r_cV (Z := mX8_thrown) (ci := 8) (q := (RX8, TX8, 27)) dL_law_469 rfl (by decide +kernel) ⟨by decide, by decide⟩ (by decide) rfl rfl q2223 q2224 q2225 q127 q2226 (XS.out (noH _)) <|
  r_iload dL_law_472 <|
  r_icmp_eq (pt := 479) dL_law_474 (by decide)
  (r_iload dL_law_479 <|
  r_if_ne (pt := 496) dL_law_481 (by decide)
  (r_goto (pt := 2675) dL_law_496 (by decide) <|
  (fun _ _ _ H => H))
  (r_aload_n (k := 3) dL_law_484 rfl <|
  r_iconst (v := 0) dL_law_485 rfl <|
  r_lald dL_law_486 <|
  r_iload dL_law_487 <|
  r_i2l dL_law_489 <|
  r_lcmp dL_law_490 <|
  r_if_eq (pt := 496) dL_law_491 (by decide)
  (r_goto (pt := 2675) dL_law_496 (by decide) <|
  (fun _ _ _ H => H))
  (r_iconst (v := 0) dL_law_494 rfl <|
  r_ret rfl (Or.inl ⟨dL_law_495, Or.inr (Or.inl rfl)⟩))))
  (r_iconst (v := 0) dL_law_477 rfl <|
  r_ret rfl (Or.inl ⟨dL_law_478, Or.inr (Or.inl rfl)⟩)))
  (sw_cons (r_aload_n (k := 1) dL_law_499 rfl <|
  r_aload_n (k := 0) dL_law_500 rfl <|
  r_iload dL_law_501 <|
  r_iconst (v := 1) dL_law_503 rfl <|
  r_iadd dL_law_504 <|
  r_iald dL_law_505 <|
  r_aload_n (k := 0) dL_law_506 rfl <|
  r_iload dL_law_507 <|
  r_iconst (v := 2) dL_law_509 rfl <|
  r_iadd dL_law_510 <|
  r_iald dL_law_511 <|
  r_aload_n (k := 3) dL_law_512 rfl <|
  r_cSX (Z := mX0_habit) dL_law_513 rfl (by decide +kernel) ⟨by decide, by decide⟩ q1653 q1654 q116 q1655 (XS.out (noH _)) <|
  r_istore dL_law_516 <|
  r_aload_n (k := 2) dL_law_518 rfl <|
  r_aload_n (k := 0) dL_law_519 rfl <|
  r_iload dL_law_520 <|
  r_iconst (v := 1) dL_law_522 rfl <|
  r_iadd dL_law_523 <|
  r_iald dL_law_524 <|
  r_aload_n (k := 0) dL_law_525 rfl <|
  r_iload dL_law_526 <|
  r_iconst (v := 2) dL_law_528 rfl <|
  r_iadd dL_law_529 <|
  r_iald dL_law_530 <|
  r_cV (Z := mX8_habit) (ci := 8) (q := (RX8, TX8, 27)) dL_law_531 rfl (by decide +kernel) ⟨by decide, by decide⟩ (by decide) rfl rfl q2423 q2424 q2425 q127 q2426 (XS.out (noH _)) <|
  r_istore dL_law_534 <|
  r_aload_n (k := 2) dL_law_536 rfl <|
  r_cV (Z := mX8_thrown) (ci := 8) (q := (RX8, TX8, 27)) dL_law_537 rfl (by decide +kernel) ⟨by decide, by decide⟩ (by decide) rfl rfl q2223 q2224 q2225 q127 q2226 (XS.out (noH _)) <|
  r_iload dL_law_540 <|
  r_icmp_eq (pt := 547) dL_law_542 (by decide)
  (r_iload dL_law_547 <|
  r_if_ne (pt := 564) dL_law_549 (by decide)
  (r_goto (pt := 2675) dL_law_564 (by decide) <|
  (fun _ _ _ H => H))
  (r_aload_n (k := 3) dL_law_552 rfl <|
  r_iconst (v := 0) dL_law_553 rfl <|
  r_lald dL_law_554 <|
  r_iload dL_law_555 <|
  r_i2l dL_law_557 <|
  r_lcmp dL_law_558 <|
  r_if_eq (pt := 564) dL_law_559 (by decide)
  (r_goto (pt := 2675) dL_law_564 (by decide) <|
  (fun _ _ _ H => H))
  (r_iconst (v := 0) dL_law_562 rfl <|
  r_ret rfl (Or.inl ⟨dL_law_563, Or.inr (Or.inl rfl)⟩))))
  (r_iconst (v := 0) dL_law_545 rfl <|
  r_ret rfl (Or.inl ⟨dL_law_546, Or.inr (Or.inl rfl)⟩)))
  (sw_cons (r_aload_n (k := 1) dL_law_567 rfl <|
  r_aload_n (k := 0) dL_law_568 rfl <|
  r_iload dL_law_569 <|
  r_iconst (v := 1) dL_law_571 rfl <|
  r_iadd dL_law_572 <|
  r_iald dL_law_573 <|
  r_aload_n (k := 0) dL_law_574 rfl <|
  r_iload dL_law_575 <|
  r_iconst (v := 2) dL_law_577 rfl <|
  r_iadd dL_law_578 <|
  r_iald dL_law_579 <|
  r_aload_n (k := 3) dL_law_580 rfl <|
  r_cSX (Z := mX0_person) dL_law_581 rfl (by decide +kernel) ⟨by decide, by decide⟩ q1668 q1669 q116 q1670 (XS.out (noH _)) <|
  r_istore dL_law_584 <|
  r_aload_n (k := 2) dL_law_586 rfl <|
  r_aload_n (k := 0) dL_law_587 rfl <|
  r_iload dL_law_588 <|
  r_iconst (v := 1) dL_law_590 rfl <|
  r_iadd dL_law_591 <|
  r_iald dL_law_592 <|
  r_aload_n (k := 0) dL_law_593 rfl <|
  r_iload dL_law_594 <|
  r_iconst (v := 2) dL_law_596 rfl <|
  r_iadd dL_law_597 <|
  r_iald dL_law_598 <|
  r_cV (Z := mX8_person) (ci := 8) (q := (RX8, TX8, 27)) dL_law_599 rfl (by decide +kernel) ⟨by decide, by decide⟩ (by decide) rfl rfl q2435 q2436 q2437 q127 q2438 (XS.out (noH _)) <|
  r_istore dL_law_602 <|
  r_aload_n (k := 2) dL_law_604 rfl <|
  r_cV (Z := mX8_thrown) (ci := 8) (q := (RX8, TX8, 27)) dL_law_605 rfl (by decide +kernel) ⟨by decide, by decide⟩ (by decide) rfl rfl q2223 q2224 q2225 q127 q2226 (XS.out (noH _)) <|
  r_iload dL_law_608 <|
  r_icmp_eq (pt := 615) dL_law_610 (by decide)
  (r_iload dL_law_615 <|
  r_if_ne (pt := 632) dL_law_617 (by decide)
  (r_goto (pt := 2675) dL_law_632 (by decide) <|
  (fun _ _ _ H => H))
  (r_aload_n (k := 3) dL_law_620 rfl <|
  r_iconst (v := 0) dL_law_621 rfl <|
  r_lald dL_law_622 <|
  r_iload dL_law_623 <|
  r_i2l dL_law_625 <|
  r_lcmp dL_law_626 <|
  r_if_eq (pt := 632) dL_law_627 (by decide)
  (r_goto (pt := 2675) dL_law_632 (by decide) <|
  (fun _ _ _ H => H))
  (r_iconst (v := 0) dL_law_630 rfl <|
  r_ret rfl (Or.inl ⟨dL_law_631, Or.inr (Or.inl rfl)⟩))))
  (r_iconst (v := 0) dL_law_613 rfl <|
  r_ret rfl (Or.inl ⟨dL_law_614, Or.inr (Or.inl rfl)⟩)))
  (sw_cons (r_aload_n (k := 1) dL_law_635 rfl <|
  r_aload_n (k := 0) dL_law_636 rfl <|
  r_iload dL_law_637 <|
  r_iconst (v := 1) dL_law_639 rfl <|
  r_iadd dL_law_640 <|
  r_iald dL_law_641 <|
  r_aload_n (k := 0) dL_law_642 rfl <|
  r_iload dL_law_643 <|
  r_iconst (v := 2) dL_law_645 rfl <|
  r_iadd dL_law_646 <|
  r_iald dL_law_647 <|
  r_aload_n (k := 0) dL_law_648 rfl <|
  r_iload dL_law_649 <|
  r_iconst (v := 3) dL_law_651 rfl <|
  r_iadd dL_law_652 <|
  r_iald dL_law_653 <|
  r_if_eq (pt := 661) dL_law_654 (by decide)
  (r_iconst (v := 0) dL_law_661 rfl <|
  (fun _ _ _ H => H))
  (r_iconst (v := 1) dL_law_657 rfl <|
  r_goto (pt := 662) dL_law_658 (by decide) <|
  (fun _ _ _ H => H)))
  (sw_cons (r_aload_n (k := 1) dL_law_731 rfl <|
  r_aload_n (k := 0) dL_law_732 rfl <|
  r_iload dL_law_733 <|
  r_iconst (v := 1) dL_law_735 rfl <|
  r_iadd dL_law_736 <|
  r_iald dL_law_737 <|
  r_aload_n (k := 0) dL_law_738 rfl <|
  r_iload dL_law_739 <|
  r_iconst (v := 2) dL_law_741 rfl <|
  r_iadd dL_law_742 <|
  r_iald dL_law_743 <|
  r_if_eq (pt := 751) dL_law_744 (by decide)
  (r_iconst (v := 0) dL_law_751 rfl <|
  (fun _ _ _ H => H))
  (r_iconst (v := 1) dL_law_747 rfl <|
  r_goto (pt := 752) dL_law_748 (by decide) <|
  (fun _ _ _ H => H)))
  (sw_cons (r_aload_n (k := 1) dL_law_815 rfl <|
  r_aload_n (k := 0) dL_law_816 rfl <|
  r_iload dL_law_817 <|
  r_iconst (v := 1) dL_law_819 rfl <|
  r_iadd dL_law_820 <|
  r_iald dL_law_821 <|
  r_aload_n (k := 0) dL_law_822 rfl <|
  r_iload dL_law_823 <|
  r_iconst (v := 2) dL_law_825 rfl <|
  r_iadd dL_law_826 <|
  r_iald dL_law_827 <|
  r_aload_n (k := 3) dL_law_828 rfl <|
  r_cSX (Z := mX0_will) dL_law_829 rfl (by decide +kernel) ⟨by decide, by decide⟩ q1724 q1725 q116 q1726 (XS.out (noH _)) <|
  r_istore dL_law_832 <|
  r_aload_n (k := 2) dL_law_834 rfl <|
  r_aload_n (k := 0) dL_law_835 rfl <|
  r_iload dL_law_836 <|
  r_iconst (v := 1) dL_law_838 rfl <|
  r_iadd dL_law_839 <|
  r_iald dL_law_840 <|
  r_aload_n (k := 0) dL_law_841 rfl <|
  r_iload dL_law_842 <|
  r_iconst (v := 2) dL_law_844 rfl <|
  r_iadd dL_law_845 <|
  r_iald dL_law_846 <|
  r_cV (Z := mX8_will) (ci := 8) (q := (RX8, TX8, 27)) dL_law_847 rfl (by decide +kernel) ⟨by decide, by decide⟩ (by decide) rfl rfl q2463 q2464 q2465 q127 q2466 (XS.out (noH _)) <|
  r_istore dL_law_850 <|
  r_aload_n (k := 2) dL_law_852 rfl <|
  r_cV (Z := mX8_thrown) (ci := 8) (q := (RX8, TX8, 27)) dL_law_853 rfl (by decide +kernel) ⟨by decide, by decide⟩ (by decide) rfl rfl q2223 q2224 q2225 q127 q2226 (XS.out (noH _)) <|
  r_iload dL_law_856 <|
  r_icmp_eq (pt := 863) dL_law_858 (by decide)
  (r_iload dL_law_863 <|
  r_if_ne (pt := 880) dL_law_865 (by decide)
  (r_goto (pt := 2675) dL_law_880 (by decide) <|
  (fun _ _ _ H => H))
  (r_aload_n (k := 3) dL_law_868 rfl <|
  r_iconst (v := 0) dL_law_869 rfl <|
  r_lald dL_law_870 <|
  r_iload dL_law_871 <|
  r_i2l dL_law_873 <|
  r_lcmp dL_law_874 <|
  r_if_eq (pt := 880) dL_law_875 (by decide)
  (r_goto (pt := 2675) dL_law_880 (by decide) <|
  (fun _ _ _ H => H))
  (r_iconst (v := 0) dL_law_878 rfl <|
  r_ret rfl (Or.inl ⟨dL_law_879, Or.inr (Or.inl rfl)⟩))))
  (r_iconst (v := 0) dL_law_861 rfl <|
  r_ret rfl (Or.inl ⟨dL_law_862, Or.inr (Or.inl rfl)⟩)))
  (sw_cons (r_aload_n (k := 1) dL_law_883 rfl <|
  r_aload_n (k := 0) dL_law_884 rfl <|
  r_iload dL_law_885 <|
  r_iconst (v := 1) dL_law_887 rfl <|
  r_iadd dL_law_888 <|
  r_iald dL_law_889 <|
  r_aload_n (k := 0) dL_law_890 rfl <|
  r_iload dL_law_891 <|
  r_iconst (v := 2) dL_law_893 rfl <|
  r_iadd dL_law_894 <|
  r_iald dL_law_895 <|
  r_aload_n (k := 3) dL_law_896 rfl <|
  r_cSX (Z := mX0_meet) dL_law_897 rfl (by decide +kernel) ⟨by decide, by decide⟩ q1806 q1807 q116 q1808 (XS.out (noH _)) <|
  r_istore dL_law_900 <|
  r_aload_n (k := 2) dL_law_902 rfl <|
  r_aload_n (k := 0) dL_law_903 rfl <|
  r_iload dL_law_904 <|
  r_iconst (v := 1) dL_law_906 rfl <|
  r_iadd dL_law_907 <|
  r_iald dL_law_908 <|
  r_aload_n (k := 0) dL_law_909 rfl <|
  r_iload dL_law_910 <|
  r_iconst (v := 2) dL_law_912 rfl <|
  r_iadd dL_law_913 <|
  r_iald dL_law_914 <|
  r_cV (Z := mX8_meet) (ci := 8) (q := (RX8, TX8, 27)) dL_law_915 rfl (by decide +kernel) ⟨by decide, by decide⟩ (by decide) rfl rfl q2471 q2472 q2473 q127 q2474 (XS.out (noH _)) <|
  r_istore dL_law_918 <|
  r_aload_n (k := 2) dL_law_920 rfl <|
  r_cV (Z := mX8_thrown) (ci := 8) (q := (RX8, TX8, 27)) dL_law_921 rfl (by decide +kernel) ⟨by decide, by decide⟩ (by decide) rfl rfl q2223 q2224 q2225 q127 q2226 (XS.out (noH _)) <|
  r_iload dL_law_924 <|
  r_icmp_eq (pt := 931) dL_law_926 (by decide)
  (r_iload dL_law_931 <|
  r_if_ne (pt := 948) dL_law_933 (by decide)
  (r_goto (pt := 2675) dL_law_948 (by decide) <|
  (fun _ _ _ H => H))
  (r_aload_n (k := 3) dL_law_936 rfl <|
  r_iconst (v := 0) dL_law_937 rfl <|
  r_lald dL_law_938 <|
  r_iload dL_law_939 <|
  r_i2l dL_law_941 <|
  r_lcmp dL_law_942 <|
  r_if_eq (pt := 948) dL_law_943 (by decide)
  (r_goto (pt := 2675) dL_law_948 (by decide) <|
  (fun _ _ _ H => H))
  (r_iconst (v := 0) dL_law_946 rfl <|
  r_ret rfl (Or.inl ⟨dL_law_947, Or.inr (Or.inl rfl)⟩))))
  (r_iconst (v := 0) dL_law_929 rfl <|
  r_ret rfl (Or.inl ⟨dL_law_930, Or.inr (Or.inl rfl)⟩)))
  (sw_cons (r_aload_n (k := 1) dL_law_951 rfl <|
  r_aload_n (k := 0) dL_law_952 rfl <|
  r_iload dL_law_953 <|
  r_iconst (v := 1) dL_law_955 rfl <|
  r_iadd dL_law_956 <|
  r_iald dL_law_957 <|
  r_aload_n (k := 3) dL_law_958 rfl <|
  r_cSX (Z := mX0_rounds) dL_law_959 rfl (by decide +kernel) ⟨by decide, by decide⟩ q1855 q1856 q116 q1857 (XS.out (noH _)) <|
  r_istore dL_law_962 <|
  r_aload_n (k := 2) dL_law_964 rfl <|
  r_aload_n (k := 0) dL_law_965 rfl <|
  r_iload dL_law_966 <|
  r_iconst (v := 1) dL_law_968 rfl <|
  r_iadd dL_law_969 <|
  r_iald dL_law_970 <|
  r_cV (Z := mX8_rounds) (ci := 8) (q := (RX8, TX8, 27)) dL_law_971 rfl (by decide +kernel) ⟨by decide, by decide⟩ (by decide) rfl rfl q2498 q2499 q2500 q127 q2501 (XS.out (noH _)) <|
  r_istore dL_law_974 <|
  r_aload_n (k := 2) dL_law_976 rfl <|
  r_cV (Z := mX8_thrown) (ci := 8) (q := (RX8, TX8, 27)) dL_law_977 rfl (by decide +kernel) ⟨by decide, by decide⟩ (by decide) rfl rfl q2223 q2224 q2225 q127 q2226 (XS.out (noH _)) <|
  r_iload dL_law_980 <|
  r_icmp_eq (pt := 987) dL_law_982 (by decide)
  (r_iload dL_law_987 <|
  r_if_ne (pt := 1004) dL_law_989 (by decide)
  (r_goto (pt := 2675) dL_law_1004 (by decide) <|
  (fun _ _ _ H => H))
  (r_aload_n (k := 3) dL_law_992 rfl <|
  r_iconst (v := 0) dL_law_993 rfl <|
  r_lald dL_law_994 <|
  r_iload dL_law_995 <|
  r_i2l dL_law_997 <|
  r_lcmp dL_law_998 <|
  r_if_eq (pt := 1004) dL_law_999 (by decide)
  (r_goto (pt := 2675) dL_law_1004 (by decide) <|
  (fun _ _ _ H => H))
  (r_iconst (v := 0) dL_law_1002 rfl <|
  r_ret rfl (Or.inl ⟨dL_law_1003, Or.inr (Or.inl rfl)⟩))))
  (r_iconst (v := 0) dL_law_985 rfl <|
  r_ret rfl (Or.inl ⟨dL_law_986, Or.inr (Or.inl rfl)⟩)))
  (sw_cons (r_aload_n (k := 1) dL_law_1007 rfl <|
  r_aload_n (k := 0) dL_law_1008 rfl <|
  r_iload dL_law_1009 <|
  r_iconst (v := 1) dL_law_1011 rfl <|
  r_iadd dL_law_1012 <|
  r_iald dL_law_1013 <|
  r_aload_n (k := 0) dL_law_1014 rfl <|
  r_iload dL_law_1015 <|
  r_iconst (v := 2) dL_law_1017 rfl <|
  r_iadd dL_law_1018 <|
  r_iald dL_law_1019 <|
  r_aload_n (k := 3) dL_law_1020 rfl <|
  r_cSX (Z := mX0_own) dL_law_1021 rfl (by decide +kernel) ⟨by decide, by decide⟩ q1866 q1867 q116 q1868 (XS.out (noH _)) <|
  r_istore dL_law_1024 <|
  r_aload_n (k := 2) dL_law_1026 rfl <|
  r_aload_n (k := 0) dL_law_1027 rfl <|
  r_iload dL_law_1028 <|
  r_iconst (v := 1) dL_law_1030 rfl <|
  r_iadd dL_law_1031 <|
  r_iald dL_law_1032 <|
  r_aload_n (k := 0) dL_law_1033 rfl <|
  r_iload dL_law_1034 <|
  r_iconst (v := 2) dL_law_1036 rfl <|
  r_iadd dL_law_1037 <|
  r_iald dL_law_1038 <|
  r_cV (Z := mX8_own) (ci := 8) (q := (RX8, TX8, 27)) dL_law_1039 rfl (by decide +kernel) ⟨by decide, by decide⟩ (by decide) rfl rfl q2506 q2507 q2508 q127 q2509 (XS.out (noH _)) <|
  r_istore dL_law_1042 <|
  r_aload_n (k := 2) dL_law_1044 rfl <|
  r_cV (Z := mX8_thrown) (ci := 8) (q := (RX8, TX8, 27)) dL_law_1045 rfl (by decide +kernel) ⟨by decide, by decide⟩ (by decide) rfl rfl q2223 q2224 q2225 q127 q2226 (XS.out (noH _)) <|
  r_iload dL_law_1048 <|
  r_icmp_eq (pt := 1055) dL_law_1050 (by decide)
  (r_iload dL_law_1055 <|
  r_if_ne (pt := 1072) dL_law_1057 (by decide)
  (r_goto (pt := 2675) dL_law_1072 (by decide) <|
  (fun _ _ _ H => H))
  (r_aload_n (k := 3) dL_law_1060 rfl <|
  r_iconst (v := 0) dL_law_1061 rfl <|
  r_lald dL_law_1062 <|
  r_iload dL_law_1063 <|
  r_i2l dL_law_1065 <|
  r_lcmp dL_law_1066 <|
  r_if_eq (pt := 1072) dL_law_1067 (by decide)
  (r_goto (pt := 2675) dL_law_1072 (by decide) <|
  (fun _ _ _ H => H))
  (r_iconst (v := 0) dL_law_1070 rfl <|
  r_ret rfl (Or.inl ⟨dL_law_1071, Or.inr (Or.inl rfl)⟩))))
  (r_iconst (v := 0) dL_law_1053 rfl <|
  r_ret rfl (Or.inl ⟨dL_law_1054, Or.inr (Or.inl rfl)⟩)))
  (sw_cons (r_aload_n (k := 1) dL_law_1075 rfl <|
  r_aload_n (k := 0) dL_law_1076 rfl <|
  r_iload dL_law_1077 <|
  r_iconst (v := 1) dL_law_1079 rfl <|
  r_iadd dL_law_1080 <|
  r_iald dL_law_1081 <|
  r_aload_n (k := 0) dL_law_1082 rfl <|
  r_iload dL_law_1083 <|
  r_iconst (v := 2) dL_law_1085 rfl <|
  r_iadd dL_law_1086 <|
  r_iald dL_law_1087 <|
  r_if_eq (pt := 1095) dL_law_1088 (by decide)
  (r_iconst (v := 0) dL_law_1095 rfl <|
  (fun _ _ _ H => H))
  (r_iconst (v := 1) dL_law_1091 rfl <|
  r_goto (pt := 1096) dL_law_1092 (by decide) <|
  (fun _ _ _ H => H)))
  (sw_cons (r_aload_n (k := 1) dL_law_1166 rfl <|
  r_aload_n (k := 0) dL_law_1167 rfl <|
  r_iload dL_law_1168 <|
  r_iconst (v := 1) dL_law_1170 rfl <|
  r_iadd dL_law_1171 <|
  r_iald dL_law_1172 <|
  r_aload_n (k := 0) dL_law_1173 rfl <|
  r_iload dL_law_1174 <|
  r_iconst (v := 2) dL_law_1176 rfl <|
  r_iadd dL_law_1177 <|
  r_iald dL_law_1178 <|
  r_aload_n (k := 3) dL_law_1179 rfl <|
  r_cSX (Z := mX0_ties) dL_law_1180 rfl (by decide +kernel) ⟨by decide, by decide⟩ q1880 q1881 q116 q1882 (XS.out (noH _)) <|
  r_istore dL_law_1183 <|
  r_aload_n (k := 2) dL_law_1185 rfl <|
  r_aload_n (k := 0) dL_law_1186 rfl <|
  r_iload dL_law_1187 <|
  r_iconst (v := 1) dL_law_1189 rfl <|
  r_iadd dL_law_1190 <|
  r_iald dL_law_1191 <|
  r_aload_n (k := 0) dL_law_1192 rfl <|
  r_iload dL_law_1193 <|
  r_iconst (v := 2) dL_law_1195 rfl <|
  r_iadd dL_law_1196 <|
  r_iald dL_law_1197 <|
  r_cV (Z := mX8_ties) (ci := 8) (q := (RX8, TX8, 27)) dL_law_1198 rfl (by decide +kernel) ⟨by decide, by decide⟩ (by decide) rfl rfl q2514 q2515 q2516 q127 q2517 (XS.out (noH _)) <|
  r_istore dL_law_1201 <|
  r_aload_n (k := 2) dL_law_1203 rfl <|
  r_cV (Z := mX8_thrown) (ci := 8) (q := (RX8, TX8, 27)) dL_law_1204 rfl (by decide +kernel) ⟨by decide, by decide⟩ (by decide) rfl rfl q2223 q2224 q2225 q127 q2226 (XS.out (noH _)) <|
  r_iload dL_law_1207 <|
  r_icmp_eq (pt := 1214) dL_law_1209 (by decide)
  (r_iload dL_law_1214 <|
  r_if_ne (pt := 1231) dL_law_1216 (by decide)
  (r_goto (pt := 2675) dL_law_1231 (by decide) <|
  (fun _ _ _ H => H))
  (r_aload_n (k := 3) dL_law_1219 rfl <|
  r_iconst (v := 0) dL_law_1220 rfl <|
  r_lald dL_law_1221 <|
  r_iload dL_law_1222 <|
  r_i2l dL_law_1224 <|
  r_lcmp dL_law_1225 <|
  r_if_eq (pt := 1231) dL_law_1226 (by decide)
  (r_goto (pt := 2675) dL_law_1231 (by decide) <|
  (fun _ _ _ H => H))
  (r_iconst (v := 0) dL_law_1229 rfl <|
  r_ret rfl (Or.inl ⟨dL_law_1230, Or.inr (Or.inl rfl)⟩))))
  (r_iconst (v := 0) dL_law_1212 rfl <|
  r_ret rfl (Or.inl ⟨dL_law_1213, Or.inr (Or.inl rfl)⟩)))
  (sw_cons (r_aload_n (k := 1) dL_law_1234 rfl <|
  r_aload_n (k := 0) dL_law_1235 rfl <|
  r_iload dL_law_1236 <|
  r_iconst (v := 1) dL_law_1238 rfl <|
  r_iadd dL_law_1239 <|
  r_iald dL_law_1240 <|
  r_aload_n (k := 3) dL_law_1241 rfl <|
  r_cSX (Z := mX0_cut) dL_law_1242 rfl (by decide +kernel) ⟨by decide, by decide⟩ q1903 q1904 q116 q1905 (XS.out (noH _)) <|
  r_istore dL_law_1245 <|
  r_aload_n (k := 2) dL_law_1247 rfl <|
  r_aload_n (k := 0) dL_law_1248 rfl <|
  r_iload dL_law_1249 <|
  r_iconst (v := 1) dL_law_1251 rfl <|
  r_iadd dL_law_1252 <|
  r_iald dL_law_1253 <|
  r_cV (Z := mX8_cut) (ci := 8) (q := (RX8, TX8, 27)) dL_law_1254 rfl (by decide +kernel) ⟨by decide, by decide⟩ (by decide) rfl rfl q2518 q2519 q2520 q127 q2521 (XS.out (noH _)) <|
  r_istore dL_law_1257 <|
  r_aload_n (k := 2) dL_law_1259 rfl <|
  r_cV (Z := mX8_thrown) (ci := 8) (q := (RX8, TX8, 27)) dL_law_1260 rfl (by decide +kernel) ⟨by decide, by decide⟩ (by decide) rfl rfl q2223 q2224 q2225 q127 q2226 (XS.out (noH _)) <|
  r_iload dL_law_1263 <|
  r_icmp_eq (pt := 1270) dL_law_1265 (by decide)
  (r_iload dL_law_1270 <|
  r_if_ne (pt := 1287) dL_law_1272 (by decide)
  (r_goto (pt := 2675) dL_law_1287 (by decide) <|
  (fun _ _ _ H => H))
  (r_aload_n (k := 3) dL_law_1275 rfl <|
  r_iconst (v := 0) dL_law_1276 rfl <|
  r_lald dL_law_1277 <|
  r_iload dL_law_1278 <|
  r_i2l dL_law_1280 <|
  r_lcmp dL_law_1281 <|
  r_if_eq (pt := 1287) dL_law_1282 (by decide)
  (r_goto (pt := 2675) dL_law_1287 (by decide) <|
  (fun _ _ _ H => H))
  (r_iconst (v := 0) dL_law_1285 rfl <|
  r_ret rfl (Or.inl ⟨dL_law_1286, Or.inr (Or.inl rfl)⟩))))
  (r_iconst (v := 0) dL_law_1268 rfl <|
  r_ret rfl (Or.inl ⟨dL_law_1269, Or.inr (Or.inl rfl)⟩)))
  (sw_cons (r_aload_n (k := 1) dL_law_1290 rfl <|
  r_aload_n (k := 0) dL_law_1291 rfl <|
  r_iload dL_law_1292 <|
  r_iconst (v := 1) dL_law_1294 rfl <|
  r_iadd dL_law_1295 <|
  r_iald dL_law_1296 <|
  r_aload_n (k := 0) dL_law_1297 rfl <|
  r_iload dL_law_1298 <|
  r_iconst (v := 2) dL_law_1300 rfl <|
  r_iadd dL_law_1301 <|
  r_iald dL_law_1302 <|
  r_aload_n (k := 3) dL_law_1303 rfl <|
  r_cSX (Z := mX0_feast) dL_law_1304 rfl (by decide +kernel) ⟨by decide, by decide⟩ q1914 q1915 q116 q1916 (XS.out (noH _)) <|
  r_istore dL_law_1307 <|
  r_aload_n (k := 2) dL_law_1309 rfl <|
  r_aload_n (k := 0) dL_law_1310 rfl <|
  r_iload dL_law_1311 <|
  r_iconst (v := 1) dL_law_1313 rfl <|
  r_iadd dL_law_1314 <|
  r_iald dL_law_1315 <|
  r_aload_n (k := 0) dL_law_1316 rfl <|
  r_iload dL_law_1317 <|
  r_iconst (v := 2) dL_law_1319 rfl <|
  r_iadd dL_law_1320 <|
  r_iald dL_law_1321 <|
  r_cV (Z := mX8_feast) (ci := 8) (q := (RX8, TX8, 27)) dL_law_1322 rfl (by decide +kernel) ⟨by decide, by decide⟩ (by decide) rfl rfl q2522 q2523 q2524 q127 q2525 (XS.out (noH _)) <|
  r_istore dL_law_1325 <|
  r_aload_n (k := 2) dL_law_1327 rfl <|
  r_cV (Z := mX8_thrown) (ci := 8) (q := (RX8, TX8, 27)) dL_law_1328 rfl (by decide +kernel) ⟨by decide, by decide⟩ (by decide) rfl rfl q2223 q2224 q2225 q127 q2226 (XS.out (noH _)) <|
  r_iload dL_law_1331 <|
  r_icmp_eq (pt := 1338) dL_law_1333 (by decide)
  (r_iload dL_law_1338 <|
  r_if_ne (pt := 1355) dL_law_1340 (by decide)
  (r_goto (pt := 2675) dL_law_1355 (by decide) <|
  (fun _ _ _ H => H))
  (r_aload_n (k := 3) dL_law_1343 rfl <|
  r_iconst (v := 0) dL_law_1344 rfl <|
  r_lald dL_law_1345 <|
  r_iload dL_law_1346 <|
  r_i2l dL_law_1348 <|
  r_lcmp dL_law_1349 <|
  r_if_eq (pt := 1355) dL_law_1350 (by decide)
  (r_goto (pt := 2675) dL_law_1355 (by decide) <|
  (fun _ _ _ H => H))
  (r_iconst (v := 0) dL_law_1353 rfl <|
  r_ret rfl (Or.inl ⟨dL_law_1354, Or.inr (Or.inl rfl)⟩))))
  (r_iconst (v := 0) dL_law_1336 rfl <|
  r_ret rfl (Or.inl ⟨dL_law_1337, Or.inr (Or.inl rfl)⟩)))
  (sw_cons (r_aload_n (k := 1) dL_law_1358 rfl <|
  r_aload_n (k := 0) dL_law_1359 rfl <|
  r_iload dL_law_1360 <|
  r_iconst (v := 1) dL_law_1362 rfl <|
  r_iadd dL_law_1363 <|
  r_iald dL_law_1364 <|
  r_aload_n (k := 0) dL_law_1365 rfl <|
  r_iload dL_law_1366 <|
  r_iconst (v := 2) dL_law_1368 rfl <|
  r_iadd dL_law_1369 <|
  r_iald dL_law_1370 <|
  r_aload_n (k := 3) dL_law_1371 rfl <|
  r_cSX (Z := mX0_expected) dL_law_1372 rfl (by decide +kernel) ⟨by decide, by decide⟩ q1922 q1923 q116 q1924 (XS.out (noH _)) <|
  r_istore dL_law_1375 <|
  r_aload_n (k := 2) dL_law_1377 rfl <|
  r_aload_n (k := 0) dL_law_1378 rfl <|
  r_iload dL_law_1379 <|
  r_iconst (v := 1) dL_law_1381 rfl <|
  r_iadd dL_law_1382 <|
  r_iald dL_law_1383 <|
  r_aload_n (k := 0) dL_law_1384 rfl <|
  r_iload dL_law_1385 <|
  r_iconst (v := 2) dL_law_1387 rfl <|
  r_iadd dL_law_1388 <|
  r_iald dL_law_1389 <|
  r_cV (Z := mX8_expected) (ci := 8) (q := (RX8, TX8, 27)) dL_law_1390 rfl (by decide +kernel) ⟨by decide, by decide⟩ (by decide) rfl rfl q2529 q2530 q2531 q127 q2532 (XS.out (noH _)) <|
  r_istore dL_law_1393 <|
  r_aload_n (k := 2) dL_law_1395 rfl <|
  r_cV (Z := mX8_thrown) (ci := 8) (q := (RX8, TX8, 27)) dL_law_1396 rfl (by decide +kernel) ⟨by decide, by decide⟩ (by decide) rfl rfl q2223 q2224 q2225 q127 q2226 (XS.out (noH _)) <|
  r_iload dL_law_1399 <|
  r_icmp_eq (pt := 1406) dL_law_1401 (by decide)
  (r_iload dL_law_1406 <|
  r_if_ne (pt := 1423) dL_law_1408 (by decide)
  (r_goto (pt := 2675) dL_law_1423 (by decide) <|
  (fun _ _ _ H => H))
  (r_aload_n (k := 3) dL_law_1411 rfl <|
  r_iconst (v := 0) dL_law_1412 rfl <|
  r_lald dL_law_1413 <|
  r_iload dL_law_1414 <|
  r_i2l dL_law_1416 <|
  r_lcmp dL_law_1417 <|
  r_if_eq (pt := 1423) dL_law_1418 (by decide)
  (r_goto (pt := 2675) dL_law_1423 (by decide) <|
  (fun _ _ _ H => H))
  (r_iconst (v := 0) dL_law_1421 rfl <|
  r_ret rfl (Or.inl ⟨dL_law_1422, Or.inr (Or.inl rfl)⟩))))
  (r_iconst (v := 0) dL_law_1404 rfl <|
  r_ret rfl (Or.inl ⟨dL_law_1405, Or.inr (Or.inl rfl)⟩)))
  (sw_cons (r_aload_n (k := 1) dL_law_1426 rfl <|
  r_aload_n (k := 0) dL_law_1427 rfl <|
  r_iload dL_law_1428 <|
  r_iconst (v := 1) dL_law_1430 rfl <|
  r_iadd dL_law_1431 <|
  r_iald dL_law_1432 <|
  r_aload_n (k := 3) dL_law_1433 rfl <|
  r_cSX (Z := mX0_best) dL_law_1434 rfl (by decide +kernel) ⟨by decide, by decide⟩ q1929 q1930 q116 q1931 (XS.out (noH _)) <|
  r_istore dL_law_1437 <|
  r_aload_n (k := 2) dL_law_1439 rfl <|
  r_aload_n (k := 0) dL_law_1440 rfl <|
  r_iload dL_law_1441 <|
  r_iconst (v := 1) dL_law_1443 rfl <|
  r_iadd dL_law_1444 <|
  r_iald dL_law_1445 <|
  r_cV (Z := mX8_best) (ci := 8) (q := (RX8, TX8, 27)) dL_law_1446 rfl (by decide +kernel) ⟨by decide, by decide⟩ (by decide) rfl rfl q2537 q2538 q2539 q127 q2540 (XS.out (noH _)) <|
  r_istore dL_law_1449 <|
  r_aload_n (k := 2) dL_law_1451 rfl <|
  r_cV (Z := mX8_thrown) (ci := 8) (q := (RX8, TX8, 27)) dL_law_1452 rfl (by decide +kernel) ⟨by decide, by decide⟩ (by decide) rfl rfl q2223 q2224 q2225 q127 q2226 (XS.out (noH _)) <|
  r_iload dL_law_1455 <|
  r_icmp_eq (pt := 1462) dL_law_1457 (by decide)
  (r_iload dL_law_1462 <|
  r_if_ne (pt := 1479) dL_law_1464 (by decide)
  (r_goto (pt := 2675) dL_law_1479 (by decide) <|
  (fun _ _ _ H => H))
  (r_aload_n (k := 3) dL_law_1467 rfl <|
  r_iconst (v := 0) dL_law_1468 rfl <|
  r_lald dL_law_1469 <|
  r_iload dL_law_1470 <|
  r_i2l dL_law_1472 <|
  r_lcmp dL_law_1473 <|
  r_if_eq (pt := 1479) dL_law_1474 (by decide)
  (r_goto (pt := 2675) dL_law_1479 (by decide) <|
  (fun _ _ _ H => H))
  (r_iconst (v := 0) dL_law_1477 rfl <|
  r_ret rfl (Or.inl ⟨dL_law_1478, Or.inr (Or.inl rfl)⟩))))
  (r_iconst (v := 0) dL_law_1460 rfl <|
  r_ret rfl (Or.inl ⟨dL_law_1461, Or.inr (Or.inl rfl)⟩)))
  (sw_cons (r_aload_n (k := 1) dL_law_1482 rfl <|
  r_aload_n (k := 0) dL_law_1483 rfl <|
  r_iload dL_law_1484 <|
  r_iconst (v := 1) dL_law_1486 rfl <|
  r_iadd dL_law_1487 <|
  r_iald dL_law_1488 <|
  r_if_eq (pt := 1496) dL_law_1489 (by decide)
  (r_iconst (v := 0) dL_law_1496 rfl <|
  (fun _ _ _ H => H))
  (r_iconst (v := 1) dL_law_1492 rfl <|
  r_goto (pt := 1497) dL_law_1493 (by decide) <|
  (fun _ _ _ H => H)))
  (sw_cons (r_aload_n (k := 1) dL_law_1523 rfl <|
  r_aload_n (k := 0) dL_law_1524 rfl <|
  r_iload dL_law_1525 <|
  r_iconst (v := 1) dL_law_1527 rfl <|
  r_iadd dL_law_1528 <|
  r_iald dL_law_1529 <|
  r_aload_n (k := 0) dL_law_1530 rfl <|
  r_iload dL_law_1531 <|
  r_iconst (v := 2) dL_law_1533 rfl <|
  r_iadd dL_law_1534 <|
  r_iald dL_law_1535 <|
  r_aload_n (k := 3) dL_law_1536 rfl <|
  r_cSX (Z := mX0_odds) dL_law_1537 rfl (by decide +kernel) ⟨by decide, by decide⟩ q1936 q1937 q116 q1938 (XS.out (noH _)) <|
  r_istore dL_law_1540 <|
  r_aload_n (k := 2) dL_law_1542 rfl <|
  r_aload_n (k := 0) dL_law_1543 rfl <|
  r_iload dL_law_1544 <|
  r_iconst (v := 1) dL_law_1546 rfl <|
  r_iadd dL_law_1547 <|
  r_iald dL_law_1548 <|
  r_aload_n (k := 0) dL_law_1549 rfl <|
  r_iload dL_law_1550 <|
  r_iconst (v := 2) dL_law_1552 rfl <|
  r_iadd dL_law_1553 <|
  r_iald dL_law_1554 <|
  r_cV (Z := mX8_odds) (ci := 8) (q := (RX8, TX8, 27)) dL_law_1555 rfl (by decide +kernel) ⟨by decide, by decide⟩ (by decide) rfl rfl q2553 q2554 q2555 q127 q2556 (XS.out (noH _)) <|
  r_istore dL_law_1558 <|
  r_aload_n (k := 2) dL_law_1560 rfl <|
  r_cV (Z := mX8_thrown) (ci := 8) (q := (RX8, TX8, 27)) dL_law_1561 rfl (by decide +kernel) ⟨by decide, by decide⟩ (by decide) rfl rfl q2223 q2224 q2225 q127 q2226 (XS.out (noH _)) <|
  r_iload dL_law_1564 <|
  r_icmp_eq (pt := 1571) dL_law_1566 (by decide)
  (r_iload dL_law_1571 <|
  r_if_ne (pt := 1588) dL_law_1573 (by decide)
  (r_goto (pt := 2675) dL_law_1588 (by decide) <|
  (fun _ _ _ H => H))
  (r_aload_n (k := 3) dL_law_1576 rfl <|
  r_iconst (v := 0) dL_law_1577 rfl <|
  r_lald dL_law_1578 <|
  r_iload dL_law_1579 <|
  r_i2l dL_law_1581 <|
  r_lcmp dL_law_1582 <|
  r_if_eq (pt := 1588) dL_law_1583 (by decide)
  (r_goto (pt := 2675) dL_law_1588 (by decide) <|
  (fun _ _ _ H => H))
  (r_iconst (v := 0) dL_law_1586 rfl <|
  r_ret rfl (Or.inl ⟨dL_law_1587, Or.inr (Or.inl rfl)⟩))))
  (r_iconst (v := 0) dL_law_1569 rfl <|
  r_ret rfl (Or.inl ⟨dL_law_1570, Or.inr (Or.inl rfl)⟩)))
  (sw_cons (r_aload_n (k := 1) dL_law_1591 rfl <|
  r_aload_n (k := 0) dL_law_1592 rfl <|
  r_iload dL_law_1593 <|
  r_iconst (v := 1) dL_law_1595 rfl <|
  r_iadd dL_law_1596 <|
  r_iald dL_law_1597 <|
  r_if_eq (pt := 1605) dL_law_1598 (by decide)
  (r_iconst (v := 0) dL_law_1605 rfl <|
  (fun _ _ _ H => H))
  (r_iconst (v := 1) dL_law_1601 rfl <|
  r_goto (pt := 1606) dL_law_1602 (by decide) <|
  (fun _ _ _ H => H)))
  (sw_cons (r_aload_n (k := 1) dL_law_1663 rfl <|
  r_cV (Z := mX1_worth) (ci := 1) (q := (RX1, TX1, 13)) dL_law_1664 rfl (by decide +kernel) ⟨by decide, by decide⟩ (by decide) rfl rfl q563 q564 q565 q117 q566 (XS.out (noH _)) <|
  r_aload_n (k := 2) dL_law_1667 rfl <|
  r_cV (Z := mX8_worth) (ci := 8) (q := (RX8, TX8, 27)) dL_law_1668 rfl (by decide +kernel) ⟨by decide, by decide⟩ (by decide) rfl rfl q2565 q2566 q2567 q127 q2568 (XS.out (noH _)) <|
  r_icmp_eq (pt := 2675) dL_law_1671 (by decide)
  ((fun _ _ _ H => H))
  (r_iconst (v := 0) dL_law_1674 rfl <|
  r_ret rfl (Or.inl ⟨dL_law_1675, Or.inr (Or.inl rfl)⟩)))
  (sw_cons (r_aload_n (k := 1) dL_law_1676 rfl <|
  r_aload_n (k := 0) dL_law_1677 rfl <|
  r_iload dL_law_1678 <|
  r_iconst (v := 1) dL_law_1680 rfl <|
  r_iadd dL_law_1681 <|
  r_iald dL_law_1682 <|
  r_aload_n (k := 0) dL_law_1683 rfl <|
  r_iload dL_law_1684 <|
  r_iconst (v := 2) dL_law_1686 rfl <|
  r_iadd dL_law_1687 <|
  r_iald dL_law_1688 <|
  r_aload_n (k := 3) dL_law_1689 rfl <|
  r_cSX (Z := mX0_rests) dL_law_1690 rfl (by decide +kernel) ⟨by decide, by decide⟩ q1980 q1981 q116 q1982 (XS.out (noH _)) <|
  r_istore dL_law_1693 <|
  r_aload_n (k := 2) dL_law_1695 rfl <|
  r_aload_n (k := 0) dL_law_1696 rfl <|
  r_iload dL_law_1697 <|
  r_iconst (v := 1) dL_law_1699 rfl <|
  r_iadd dL_law_1700 <|
  r_iald dL_law_1701 <|
  r_aload_n (k := 0) dL_law_1702 rfl <|
  r_iload dL_law_1703 <|
  r_iconst (v := 2) dL_law_1705 rfl <|
  r_iadd dL_law_1706 <|
  r_iald dL_law_1707 <|
  r_cV (Z := mX8_rests) (ci := 8) (q := (RX8, TX8, 27)) dL_law_1708 rfl (by decide +kernel) ⟨by decide, by decide⟩ (by decide) rfl rfl q2577 q2578 q2579 q127 q2580 (XS.out (noH _)) <|
  r_istore dL_law_1711 <|
  r_aload_n (k := 2) dL_law_1713 rfl <|
  r_cV (Z := mX8_thrown) (ci := 8) (q := (RX8, TX8, 27)) dL_law_1714 rfl (by decide +kernel) ⟨by decide, by decide⟩ (by decide) rfl rfl q2223 q2224 q2225 q127 q2226 (XS.out (noH _)) <|
  r_iload dL_law_1717 <|
  r_icmp_eq (pt := 1724) dL_law_1719 (by decide)
  (r_iload dL_law_1724 <|
  r_if_ne (pt := 1741) dL_law_1726 (by decide)
  (r_goto (pt := 2675) dL_law_1741 (by decide) <|
  (fun _ _ _ H => H))
  (r_aload_n (k := 3) dL_law_1729 rfl <|
  r_iconst (v := 0) dL_law_1730 rfl <|
  r_lald dL_law_1731 <|
  r_iload dL_law_1732 <|
  r_i2l dL_law_1734 <|
  r_lcmp dL_law_1735 <|
  r_if_eq (pt := 1741) dL_law_1736 (by decide)
  (r_goto (pt := 2675) dL_law_1741 (by decide) <|
  (fun _ _ _ H => H))
  (r_iconst (v := 0) dL_law_1739 rfl <|
  r_ret rfl (Or.inl ⟨dL_law_1740, Or.inr (Or.inl rfl)⟩))))
  (r_iconst (v := 0) dL_law_1722 rfl <|
  r_ret rfl (Or.inl ⟨dL_law_1723, Or.inr (Or.inl rfl)⟩)))
  (sw_cons (r_aload_n (k := 1) dL_law_1744 rfl <|
  r_aload_n (k := 0) dL_law_1745 rfl <|
  r_iload dL_law_1746 <|
  r_iconst (v := 1) dL_law_1748 rfl <|
  r_iadd dL_law_1749 <|
  r_iald dL_law_1750 <|
  r_aload_n (k := 0) dL_law_1751 rfl <|
  r_iload dL_law_1752 <|
  r_iconst (v := 2) dL_law_1754 rfl <|
  r_iadd dL_law_1755 <|
  r_iald dL_law_1756 <|
  r_aload_n (k := 0) dL_law_1757 rfl <|
  r_iload dL_law_1758 <|
  r_iconst (v := 3) dL_law_1760 rfl <|
  r_iadd dL_law_1761 <|
  r_iald dL_law_1762 <|
  r_if_eq (pt := 1770) dL_law_1763 (by decide)
  (r_iconst (v := 0) dL_law_1770 rfl <|
  (fun _ _ _ H => H))
  (r_iconst (v := 1) dL_law_1766 rfl <|
  r_goto (pt := 1771) dL_law_1767 (by decide) <|
  (fun _ _ _ H => H)))
  (sw_cons (r_aload_n (k := 1) dL_law_1840 rfl <|
  r_aload_n (k := 0) dL_law_1841 rfl <|
  r_iload dL_law_1842 <|
  r_iconst (v := 1) dL_law_1844 rfl <|
  r_iadd dL_law_1845 <|
  r_iald dL_law_1846 <|
  r_aload_n (k := 0) dL_law_1847 rfl <|
  r_iload dL_law_1848 <|
  r_iconst (v := 2) dL_law_1850 rfl <|
  r_iadd dL_law_1851 <|
  r_iald dL_law_1852 <|
  r_cV (Z := mX1_table) (ci := 1) (q := (RX1, TX1, 13)) dL_law_1853 rfl (by decide +kernel) ⟨by decide, by decide⟩ (by decide) rfl rfl q586 q587 q588 q117 q589 (XS.out (noH _)) <|
  r_aload_n (k := 2) dL_law_1856 rfl <|
  r_aload_n (k := 0) dL_law_1857 rfl <|
  r_iload dL_law_1858 <|
  r_iconst (v := 1) dL_law_1860 rfl <|
  r_iadd dL_law_1861 <|
  r_iald dL_law_1862 <|
  r_aload_n (k := 0) dL_law_1863 rfl <|
  r_iload dL_law_1864 <|
  r_iconst (v := 2) dL_law_1866 rfl <|
  r_iadd dL_law_1867 <|
  r_iald dL_law_1868 <|
  r_cV (Z := mX8_table) (ci := 8) (q := (RX8, TX8, 27)) dL_law_1869 rfl (by decide +kernel) ⟨by decide, by decide⟩ (by decide) rfl rfl q2592 q2593 q2594 q127 q2595 (XS.out (noH _)) <|
  r_icmp_eq (pt := 2675) dL_law_1872 (by decide)
  ((fun _ _ _ H => H))
  (r_iconst (v := 0) dL_law_1875 rfl <|
  r_ret rfl (Or.inl ⟨dL_law_1876, Or.inr (Or.inl rfl)⟩)))
  (sw_cons (r_aload_n (k := 1) dL_law_1877 rfl <|
  r_aload_n (k := 0) dL_law_1878 rfl <|
  r_iload dL_law_1879 <|
  r_iconst (v := 1) dL_law_1881 rfl <|
  r_iadd dL_law_1882 <|
  r_iald dL_law_1883 <|
  r_if_eq (pt := 1891) dL_law_1884 (by decide)
  (r_iconst (v := 0) dL_law_1891 rfl <|
  (fun _ _ _ H => H))
  (r_iconst (v := 1) dL_law_1887 rfl <|
  r_goto (pt := 1892) dL_law_1888 (by decide) <|
  (fun _ _ _ H => H)))
  (sw_cons (r_aload_n (k := 1) dL_law_1918 rfl <|
  r_aload_n (k := 0) dL_law_1919 rfl <|
  r_iload dL_law_1920 <|
  r_iconst (v := 1) dL_law_1922 rfl <|
  r_iadd dL_law_1923 <|
  r_iald dL_law_1924 <|
  r_aload_n (k := 3) dL_law_1925 rfl <|
  r_cSX (Z := mX0_begins) dL_law_1926 rfl (by decide +kernel) ⟨by decide, by decide⟩ q2011 q2012 q116 q2013 (XS.out (noH _)) <|
  r_istore dL_law_1929 <|
  r_aload_n (k := 2) dL_law_1931 rfl <|
  r_aload_n (k := 0) dL_law_1932 rfl <|
  r_iload dL_law_1933 <|
  r_iconst (v := 1) dL_law_1935 rfl <|
  r_iadd dL_law_1936 <|
  r_iald dL_law_1937 <|
  r_cV (Z := mX8_begins_2) (ci := 8) (q := (RX8, TX8, 27)) dL_law_1938 rfl (by decide +kernel) ⟨by decide, by decide⟩ (by decide) rfl rfl q2612 q2613 q2614 q127 q2615 (XS.out (noH _)) <|
  r_istore dL_law_1941 <|
  r_aload_n (k := 2) dL_law_1943 rfl <|
  r_cV (Z := mX8_thrown) (ci := 8) (q := (RX8, TX8, 27)) dL_law_1944 rfl (by decide +kernel) ⟨by decide, by decide⟩ (by decide) rfl rfl q2223 q2224 q2225 q127 q2226 (XS.out (noH _)) <|
  r_iload dL_law_1947 <|
  r_icmp_eq (pt := 1954) dL_law_1949 (by decide)
  (r_iload dL_law_1954 <|
  r_if_ne (pt := 1971) dL_law_1956 (by decide)
  (r_goto (pt := 2675) dL_law_1971 (by decide) <|
  (fun _ _ _ H => H))
  (r_aload_n (k := 3) dL_law_1959 rfl <|
  r_iconst (v := 0) dL_law_1960 rfl <|
  r_lald dL_law_1961 <|
  r_iload dL_law_1962 <|
  r_i2l dL_law_1964 <|
  r_lcmp dL_law_1965 <|
  r_if_eq (pt := 1971) dL_law_1966 (by decide)
  (r_goto (pt := 2675) dL_law_1971 (by decide) <|
  (fun _ _ _ H => H))
  (r_iconst (v := 0) dL_law_1969 rfl <|
  r_ret rfl (Or.inl ⟨dL_law_1970, Or.inr (Or.inl rfl)⟩))))
  (r_iconst (v := 0) dL_law_1952 rfl <|
  r_ret rfl (Or.inl ⟨dL_law_1953, Or.inr (Or.inl rfl)⟩)))
  (sw_cons (r_aload_n (k := 1) dL_law_1974 rfl <|
  r_aload_n (k := 0) dL_law_1975 rfl <|
  r_iload dL_law_1976 <|
  r_iconst (v := 1) dL_law_1978 rfl <|
  r_iadd dL_law_1979 <|
  r_iald dL_law_1980 <|
  r_aload_n (k := 0) dL_law_1981 rfl <|
  r_iload dL_law_1982 <|
  r_iconst (v := 2) dL_law_1984 rfl <|
  r_iadd dL_law_1985 <|
  r_iald dL_law_1986 <|
  r_aload_n (k := 3) dL_law_1987 rfl <|
  r_cSX (Z := mX0_after) dL_law_1988 rfl (by decide +kernel) ⟨by decide, by decide⟩ q2040 q2041 q116 q2042 (XS.out (noH _)) <|
  r_istore dL_law_1991 <|
  r_aload_n (k := 2) dL_law_1993 rfl <|
  r_aload_n (k := 0) dL_law_1994 rfl <|
  r_iload dL_law_1995 <|
  r_iconst (v := 1) dL_law_1997 rfl <|
  r_iadd dL_law_1998 <|
  r_iald dL_law_1999 <|
  r_aload_n (k := 0) dL_law_2000 rfl <|
  r_iload dL_law_2001 <|
  r_iconst (v := 2) dL_law_2003 rfl <|
  r_iadd dL_law_2004 <|
  r_iald dL_law_2005 <|
  r_cV (Z := mX8_after) (ci := 8) (q := (RX8, TX8, 27)) dL_law_2006 rfl (by decide +kernel) ⟨by decide, by decide⟩ (by decide) rfl rfl q2624 q2625 q2626 q127 q2627 (XS.out (noH _)) <|
  r_istore dL_law_2009 <|
  r_aload_n (k := 2) dL_law_2011 rfl <|
  r_cV (Z := mX8_thrown) (ci := 8) (q := (RX8, TX8, 27)) dL_law_2012 rfl (by decide +kernel) ⟨by decide, by decide⟩ (by decide) rfl rfl q2223 q2224 q2225 q127 q2226 (XS.out (noH _)) <|
  r_iload dL_law_2015 <|
  r_icmp_eq (pt := 2022) dL_law_2017 (by decide)
  (r_iload dL_law_2022 <|
  r_if_ne (pt := 2039) dL_law_2024 (by decide)
  (r_goto (pt := 2675) dL_law_2039 (by decide) <|
  (fun _ _ _ H => H))
  (r_aload_n (k := 3) dL_law_2027 rfl <|
  r_iconst (v := 0) dL_law_2028 rfl <|
  r_lald dL_law_2029 <|
  r_iload dL_law_2030 <|
  r_i2l dL_law_2032 <|
  r_lcmp dL_law_2033 <|
  r_if_eq (pt := 2039) dL_law_2034 (by decide)
  (r_goto (pt := 2675) dL_law_2039 (by decide) <|
  (fun _ _ _ H => H))
  (r_iconst (v := 0) dL_law_2037 rfl <|
  r_ret rfl (Or.inl ⟨dL_law_2038, Or.inr (Or.inl rfl)⟩))))
  (r_iconst (v := 0) dL_law_2020 rfl <|
  r_ret rfl (Or.inl ⟨dL_law_2021, Or.inr (Or.inl rfl)⟩)))
  (sw_cons (r_aload_n (k := 1) dL_law_2042 rfl <|
  r_aload_n (k := 0) dL_law_2043 rfl <|
  r_iload dL_law_2044 <|
  r_iconst (v := 1) dL_law_2046 rfl <|
  r_iadd dL_law_2047 <|
  r_iald dL_law_2048 <|
  r_aload_n (k := 0) dL_law_2049 rfl <|
  r_iload dL_law_2050 <|
  r_iconst (v := 2) dL_law_2052 rfl <|
  r_iadd dL_law_2053 <|
  r_iald dL_law_2054 <|
  r_aload_n (k := 3) dL_law_2055 rfl <|
  r_cSX (Z := mX0_custom) dL_law_2056 rfl (by decide +kernel) ⟨by decide, by decide⟩ q2066 q2067 q116 q2068 (XS.out (noH _)) <|
  r_istore dL_law_2059 <|
  r_aload_n (k := 2) dL_law_2061 rfl <|
  r_aload_n (k := 0) dL_law_2062 rfl <|
  r_iload dL_law_2063 <|
  r_iconst (v := 1) dL_law_2065 rfl <|
  r_iadd dL_law_2066 <|
  r_iald dL_law_2067 <|
  r_aload_n (k := 0) dL_law_2068 rfl <|
  r_iload dL_law_2069 <|
  r_iconst (v := 2) dL_law_2071 rfl <|
  r_iadd dL_law_2072 <|
  r_iald dL_law_2073 <|
  r_cV (Z := mX8_custom) (ci := 8) (q := (RX8, TX8, 27)) dL_law_2074 rfl (by decide +kernel) ⟨by decide, by decide⟩ (by decide) rfl rfl q2648 q2649 q2650 q127 q2651 (XS.out (noH _)) <|
  r_istore dL_law_2077 <|
  r_aload_n (k := 2) dL_law_2079 rfl <|
  r_cV (Z := mX8_thrown) (ci := 8) (q := (RX8, TX8, 27)) dL_law_2080 rfl (by decide +kernel) ⟨by decide, by decide⟩ (by decide) rfl rfl q2223 q2224 q2225 q127 q2226 (XS.out (noH _)) <|
  r_iload dL_law_2083 <|
  r_icmp_eq (pt := 2090) dL_law_2085 (by decide)
  (r_iload dL_law_2090 <|
  r_if_ne (pt := 2107) dL_law_2092 (by decide)
  (r_goto (pt := 2675) dL_law_2107 (by decide) <|
  (fun _ _ _ H => H))
  (r_aload_n (k := 3) dL_law_2095 rfl <|
  r_iconst (v := 0) dL_law_2096 rfl <|
  r_lald dL_law_2097 <|
  r_iload dL_law_2098 <|
  r_i2l dL_law_2100 <|
  r_lcmp dL_law_2101 <|
  r_if_eq (pt := 2107) dL_law_2102 (by decide)
  (r_goto (pt := 2675) dL_law_2107 (by decide) <|
  (fun _ _ _ H => H))
  (r_iconst (v := 0) dL_law_2105 rfl <|
  r_ret rfl (Or.inl ⟨dL_law_2106, Or.inr (Or.inl rfl)⟩))))
  (r_iconst (v := 0) dL_law_2088 rfl <|
  r_ret rfl (Or.inl ⟨dL_law_2089, Or.inr (Or.inl rfl)⟩)))
  (sw_cons (r_aload_n (k := 1) dL_law_2110 rfl <|
  r_cV (Z := mX1_still) (ci := 1) (q := (RX1, TX1, 13)) dL_law_2111 rfl (by decide +kernel) ⟨by decide, by decide⟩ (by decide) rfl rfl q1009 q1010 q1011 q117 q1012 (XS.out (noH _)) <|
  r_aload_n (k := 2) dL_law_2114 rfl <|
  r_cV (Z := mX8_still) (ci := 8) (q := (RX8, TX8, 27)) dL_law_2115 rfl (by decide +kernel) ⟨by decide, by decide⟩ (by decide) rfl rfl q2652 q2653 q2654 q127 q2655 (XS.out (noH _)) <|
  r_icmp_eq (pt := 2675) dL_law_2118 (by decide)
  ((fun _ _ _ H => H))
  (r_iconst (v := 0) dL_law_2121 rfl <|
  r_ret rfl (Or.inl ⟨dL_law_2122, Or.inr (Or.inl rfl)⟩)))
  (sw_cons (r_aload_n (k := 1) dL_law_2123 rfl <|
  r_aload_n (k := 0) dL_law_2124 rfl <|
  r_iload dL_law_2125 <|
  r_iconst (v := 1) dL_law_2127 rfl <|
  r_iadd dL_law_2128 <|
  r_iald dL_law_2129 <|
  r_aload_n (k := 0) dL_law_2130 rfl <|
  r_iload dL_law_2131 <|
  r_iconst (v := 2) dL_law_2133 rfl <|
  r_iadd dL_law_2134 <|
  r_iald dL_law_2135 <|
  r_aload_n (k := 3) dL_law_2136 rfl <|
  r_cSX (Z := mX0_told) dL_law_2137 rfl (by decide +kernel) ⟨by decide, by decide⟩ q2073 q2074 q116 q2075 (XS.out (noH _)) <|
  r_istore dL_law_2140 <|
  r_aload_n (k := 2) dL_law_2142 rfl <|
  r_aload_n (k := 0) dL_law_2143 rfl <|
  r_iload dL_law_2144 <|
  r_iconst (v := 1) dL_law_2146 rfl <|
  r_iadd dL_law_2147 <|
  r_iald dL_law_2148 <|
  r_aload_n (k := 0) dL_law_2149 rfl <|
  r_iload dL_law_2150 <|
  r_iconst (v := 2) dL_law_2152 rfl <|
  r_iadd dL_law_2153 <|
  r_iald dL_law_2154 <|
  r_cV (Z := mX8_told) (ci := 8) (q := (RX8, TX8, 27)) dL_law_2155 rfl (by decide +kernel) ⟨by decide, by decide⟩ (by decide) rfl rfl q2656 q2657 q2658 q127 q2659 (XS.out (noH _)) <|
  r_istore dL_law_2158 <|
  r_aload_n (k := 2) dL_law_2160 rfl <|
  r_cV (Z := mX8_thrown) (ci := 8) (q := (RX8, TX8, 27)) dL_law_2161 rfl (by decide +kernel) ⟨by decide, by decide⟩ (by decide) rfl rfl q2223 q2224 q2225 q127 q2226 (XS.out (noH _)) <|
  r_iload dL_law_2164 <|
  r_icmp_eq (pt := 2171) dL_law_2166 (by decide)
  (r_iload dL_law_2171 <|
  r_if_ne (pt := 2188) dL_law_2173 (by decide)
  (r_goto (pt := 2675) dL_law_2188 (by decide) <|
  (fun _ _ _ H => H))
  (r_aload_n (k := 3) dL_law_2176 rfl <|
  r_iconst (v := 0) dL_law_2177 rfl <|
  r_lald dL_law_2178 <|
  r_iload dL_law_2179 <|
  r_i2l dL_law_2181 <|
  r_lcmp dL_law_2182 <|
  r_if_eq (pt := 2188) dL_law_2183 (by decide)
  (r_goto (pt := 2675) dL_law_2188 (by decide) <|
  (fun _ _ _ H => H))
  (r_iconst (v := 0) dL_law_2186 rfl <|
  r_ret rfl (Or.inl ⟨dL_law_2187, Or.inr (Or.inl rfl)⟩))))
  (r_iconst (v := 0) dL_law_2169 rfl <|
  r_ret rfl (Or.inl ⟨dL_law_2170, Or.inr (Or.inl rfl)⟩)))
  (sw_cons (r_aload_n (k := 1) dL_law_2191 rfl <|
  r_aload_n (k := 0) dL_law_2192 rfl <|
  r_iload dL_law_2193 <|
  r_iconst (v := 1) dL_law_2195 rfl <|
  r_iadd dL_law_2196 <|
  r_iald dL_law_2197 <|
  r_aload_n (k := 0) dL_law_2198 rfl <|
  r_iload dL_law_2199 <|
  r_iconst (v := 2) dL_law_2201 rfl <|
  r_iadd dL_law_2202 <|
  r_iald dL_law_2203 <|
  r_aload_n (k := 3) dL_law_2204 rfl <|
  r_cSX (Z := mX0_colds) dL_law_2205 rfl (by decide +kernel) ⟨by decide, by decide⟩ q2088 q2089 q116 q2090 (XS.out (noH _)) <|
  r_istore dL_law_2208 <|
  r_aload_n (k := 2) dL_law_2210 rfl <|
  r_aload_n (k := 0) dL_law_2211 rfl <|
  r_iload dL_law_2212 <|
  r_iconst (v := 1) dL_law_2214 rfl <|
  r_iadd dL_law_2215 <|
  r_iald dL_law_2216 <|
  r_aload_n (k := 0) dL_law_2217 rfl <|
  r_iload dL_law_2218 <|
  r_iconst (v := 2) dL_law_2220 rfl <|
  r_iadd dL_law_2221 <|
  r_iald dL_law_2222 <|
  r_cV (Z := mX8_colds) (ci := 8) (q := (RX8, TX8, 27)) dL_law_2223 rfl (by decide +kernel) ⟨by decide, by decide⟩ (by decide) rfl rfl q2664 q2665 q2666 q127 q2667 (XS.out (noH _)) <|
  r_istore dL_law_2226 <|
  r_aload_n (k := 2) dL_law_2228 rfl <|
  r_cV (Z := mX8_thrown) (ci := 8) (q := (RX8, TX8, 27)) dL_law_2229 rfl (by decide +kernel) ⟨by decide, by decide⟩ (by decide) rfl rfl q2223 q2224 q2225 q127 q2226 (XS.out (noH _)) <|
  r_iload dL_law_2232 <|
  r_icmp_eq (pt := 2239) dL_law_2234 (by decide)
  (r_iload dL_law_2239 <|
  r_if_ne (pt := 2256) dL_law_2241 (by decide)
  (r_goto (pt := 2675) dL_law_2256 (by decide) <|
  (fun _ _ _ H => H))
  (r_aload_n (k := 3) dL_law_2244 rfl <|
  r_iconst (v := 0) dL_law_2245 rfl <|
  r_lald dL_law_2246 <|
  r_iload dL_law_2247 <|
  r_i2l dL_law_2249 <|
  r_lcmp dL_law_2250 <|
  r_if_eq (pt := 2256) dL_law_2251 (by decide)
  (r_goto (pt := 2675) dL_law_2256 (by decide) <|
  (fun _ _ _ H => H))
  (r_iconst (v := 0) dL_law_2254 rfl <|
  r_ret rfl (Or.inl ⟨dL_law_2255, Or.inr (Or.inl rfl)⟩))))
  (r_iconst (v := 0) dL_law_2237 rfl <|
  r_ret rfl (Or.inl ⟨dL_law_2238, Or.inr (Or.inl rfl)⟩)))
  (sw_cons (r_aload_n (k := 1) dL_law_2259 rfl <|
  r_aload_n (k := 0) dL_law_2260 rfl <|
  r_iload dL_law_2261 <|
  r_iconst (v := 1) dL_law_2263 rfl <|
  r_iadd dL_law_2264 <|
  r_iald dL_law_2265 <|
  r_aload_n (k := 0) dL_law_2266 rfl <|
  r_iload dL_law_2267 <|
  r_iconst (v := 2) dL_law_2269 rfl <|
  r_iadd dL_law_2270 <|
  r_iald dL_law_2271 <|
  r_aload_n (k := 3) dL_law_2272 rfl <|
  r_cSX (Z := mX0_spared) dL_law_2273 rfl (by decide +kernel) ⟨by decide, by decide⟩ q2099 q2100 q116 q2101 (XS.out (noH _)) <|
  r_istore dL_law_2276 <|
  r_aload_n (k := 2) dL_law_2278 rfl <|
  r_aload_n (k := 0) dL_law_2279 rfl <|
  r_iload dL_law_2280 <|
  r_iconst (v := 1) dL_law_2282 rfl <|
  r_iadd dL_law_2283 <|
  r_iald dL_law_2284 <|
  r_aload_n (k := 0) dL_law_2285 rfl <|
  r_iload dL_law_2286 <|
  r_iconst (v := 2) dL_law_2288 rfl <|
  r_iadd dL_law_2289 <|
  r_iald dL_law_2290 <|
  r_cV (Z := mX8_spared) (ci := 8) (q := (RX8, TX8, 27)) dL_law_2291 rfl (by decide +kernel) ⟨by decide, by decide⟩ (by decide) rfl rfl q2676 q2677 q2678 q127 q2679 (XS.out (noH _)) <|
  r_istore dL_law_2294 <|
  r_aload_n (k := 2) dL_law_2296 rfl <|
  r_cV (Z := mX8_thrown) (ci := 8) (q := (RX8, TX8, 27)) dL_law_2297 rfl (by decide +kernel) ⟨by decide, by decide⟩ (by decide) rfl rfl q2223 q2224 q2225 q127 q2226 (XS.out (noH _)) <|
  r_iload dL_law_2300 <|
  r_icmp_eq (pt := 2307) dL_law_2302 (by decide)
  (r_iload dL_law_2307 <|
  r_if_ne (pt := 2324) dL_law_2309 (by decide)
  (r_goto (pt := 2675) dL_law_2324 (by decide) <|
  (fun _ _ _ H => H))
  (r_aload_n (k := 3) dL_law_2312 rfl <|
  r_iconst (v := 0) dL_law_2313 rfl <|
  r_lald dL_law_2314 <|
  r_iload dL_law_2315 <|
  r_i2l dL_law_2317 <|
  r_lcmp dL_law_2318 <|
  r_if_eq (pt := 2324) dL_law_2319 (by decide)
  (r_goto (pt := 2675) dL_law_2324 (by decide) <|
  (fun _ _ _ H => H))
  (r_iconst (v := 0) dL_law_2322 rfl <|
  r_ret rfl (Or.inl ⟨dL_law_2323, Or.inr (Or.inl rfl)⟩))))
  (r_iconst (v := 0) dL_law_2305 rfl <|
  r_ret rfl (Or.inl ⟨dL_law_2306, Or.inr (Or.inl rfl)⟩)))
  (sw_cons (r_aload_n (k := 1) dL_law_2327 rfl <|
  r_aload_n (k := 0) dL_law_2328 rfl <|
  r_iload dL_law_2329 <|
  r_iconst (v := 1) dL_law_2331 rfl <|
  r_iadd dL_law_2332 <|
  r_iald dL_law_2333 <|
  r_if_eq (pt := 2341) dL_law_2334 (by decide)
  (r_iconst (v := 0) dL_law_2341 rfl <|
  (fun _ _ _ H => H))
  (r_iconst (v := 1) dL_law_2337 rfl <|
  r_goto (pt := 2342) dL_law_2338 (by decide) <|
  (fun _ _ _ H => H)))
  (sw_cons (r_aload_n (k := 1) dL_law_2368 rfl <|
  r_aload_n (k := 0) dL_law_2369 rfl <|
  r_iload dL_law_2370 <|
  r_iconst (v := 1) dL_law_2372 rfl <|
  r_iadd dL_law_2373 <|
  r_iald dL_law_2374 <|
  r_aload_n (k := 0) dL_law_2375 rfl <|
  r_iload dL_law_2376 <|
  r_iconst (v := 2) dL_law_2378 rfl <|
  r_iadd dL_law_2379 <|
  r_iald dL_law_2380 <|
  r_aload_n (k := 3) dL_law_2381 rfl <|
  r_cSX (Z := mX0_trial) dL_law_2382 rfl (by decide +kernel) ⟨by decide, by decide⟩ q2106 q2107 q116 q2108 (XS.out (noH _)) <|
  r_istore dL_law_2385 <|
  r_aload_n (k := 2) dL_law_2387 rfl <|
  r_aload_n (k := 0) dL_law_2388 rfl <|
  r_iload dL_law_2389 <|
  r_iconst (v := 1) dL_law_2391 rfl <|
  r_iadd dL_law_2392 <|
  r_iald dL_law_2393 <|
  r_aload_n (k := 0) dL_law_2394 rfl <|
  r_iload dL_law_2395 <|
  r_iconst (v := 2) dL_law_2397 rfl <|
  r_iadd dL_law_2398 <|
  r_iald dL_law_2399 <|
  r_cV (Z := mX8_trial) (ci := 8) (q := (RX8, TX8, 27)) dL_law_2400 rfl (by decide +kernel) ⟨by decide, by decide⟩ (by decide) rfl rfl q2688 q2689 q2690 q127 q2691 (XS.out (noH _)) <|
  r_istore dL_law_2403 <|
  r_aload_n (k := 2) dL_law_2405 rfl <|
  r_cV (Z := mX8_thrown) (ci := 8) (q := (RX8, TX8, 27)) dL_law_2406 rfl (by decide +kernel) ⟨by decide, by decide⟩ (by decide) rfl rfl q2223 q2224 q2225 q127 q2226 (XS.out (noH _)) <|
  r_iload dL_law_2409 <|
  r_icmp_eq (pt := 2416) dL_law_2411 (by decide)
  (r_iload dL_law_2416 <|
  r_if_ne (pt := 2433) dL_law_2418 (by decide)
  (r_goto (pt := 2675) dL_law_2433 (by decide) <|
  (fun _ _ _ H => H))
  (r_aload_n (k := 3) dL_law_2421 rfl <|
  r_iconst (v := 0) dL_law_2422 rfl <|
  r_lald dL_law_2423 <|
  r_iload dL_law_2424 <|
  r_i2l dL_law_2426 <|
  r_lcmp dL_law_2427 <|
  r_if_eq (pt := 2433) dL_law_2428 (by decide)
  (r_goto (pt := 2675) dL_law_2433 (by decide) <|
  (fun _ _ _ H => H))
  (r_iconst (v := 0) dL_law_2431 rfl <|
  r_ret rfl (Or.inl ⟨dL_law_2432, Or.inr (Or.inl rfl)⟩))))
  (r_iconst (v := 0) dL_law_2414 rfl <|
  r_ret rfl (Or.inl ⟨dL_law_2415, Or.inr (Or.inl rfl)⟩)))
  (sw_cons (r_aload_n (k := 1) dL_law_2436 rfl <|
  r_aload_n (k := 0) dL_law_2437 rfl <|
  r_iload dL_law_2438 <|
  r_iconst (v := 1) dL_law_2440 rfl <|
  r_iadd dL_law_2441 <|
  r_iald dL_law_2442 <|
  r_aload_n (k := 0) dL_law_2443 rfl <|
  r_iload dL_law_2444 <|
  r_iconst (v := 2) dL_law_2446 rfl <|
  r_iadd dL_law_2447 <|
  r_iald dL_law_2448 <|
  r_if_eq (pt := 2456) dL_law_2449 (by decide)
  (r_iconst (v := 0) dL_law_2456 rfl <|
  (fun _ _ _ H => H))
  (r_iconst (v := 1) dL_law_2452 rfl <|
  r_goto (pt := 2457) dL_law_2453 (by decide) <|
  (fun _ _ _ H => H)))
  (sw_cons (r_aload_n (k := 1) dL_law_2520 rfl <|
  r_aload_n (k := 0) dL_law_2521 rfl <|
  r_iload dL_law_2522 <|
  r_iconst (v := 1) dL_law_2524 rfl <|
  r_iadd dL_law_2525 <|
  r_iald dL_law_2526 <|
  r_aload_n (k := 0) dL_law_2527 rfl <|
  r_iload dL_law_2528 <|
  r_iconst (v := 2) dL_law_2530 rfl <|
  r_iadd dL_law_2531 <|
  r_iald dL_law_2532 <|
  r_aload_n (k := 3) dL_law_2533 rfl <|
  r_cSX (Z := mX0_log) dL_law_2534 rfl (by decide +kernel) ⟨by decide, by decide⟩ q2128 q2129 q116 q2130 (XS.out (noH _)) <|
  r_istore dL_law_2537 <|
  r_aload_n (k := 2) dL_law_2539 rfl <|
  r_aload_n (k := 0) dL_law_2540 rfl <|
  r_iload dL_law_2541 <|
  r_iconst (v := 1) dL_law_2543 rfl <|
  r_iadd dL_law_2544 <|
  r_iald dL_law_2545 <|
  r_aload_n (k := 0) dL_law_2546 rfl <|
  r_iload dL_law_2547 <|
  r_iconst (v := 2) dL_law_2549 rfl <|
  r_iadd dL_law_2550 <|
  r_iald dL_law_2551 <|
  r_cV (Z := mX8_log) (ci := 8) (q := (RX8, TX8, 27)) dL_law_2552 rfl (by decide +kernel) ⟨by decide, by decide⟩ (by decide) rfl rfl q2700 q2701 q2702 q127 q2703 (XS.out (noH _)) <|
  r_istore dL_law_2555 <|
  r_aload_n (k := 2) dL_law_2557 rfl <|
  r_cV (Z := mX8_thrown) (ci := 8) (q := (RX8, TX8, 27)) dL_law_2558 rfl (by decide +kernel) ⟨by decide, by decide⟩ (by decide) rfl rfl q2223 q2224 q2225 q127 q2226 (XS.out (noH _)) <|
  r_iload dL_law_2561 <|
  r_icmp_eq (pt := 2568) dL_law_2563 (by decide)
  (r_iload dL_law_2568 <|
  r_if_ne (pt := 2585) dL_law_2570 (by decide)
  (r_goto (pt := 2675) dL_law_2585 (by decide) <|
  (fun _ _ _ H => H))
  (r_aload_n (k := 3) dL_law_2573 rfl <|
  r_iconst (v := 0) dL_law_2574 rfl <|
  r_lald dL_law_2575 <|
  r_iload dL_law_2576 <|
  r_i2l dL_law_2578 <|
  r_lcmp dL_law_2579 <|
  r_if_eq (pt := 2585) dL_law_2580 (by decide)
  (r_goto (pt := 2675) dL_law_2585 (by decide) <|
  (fun _ _ _ H => H))
  (r_iconst (v := 0) dL_law_2583 rfl <|
  r_ret rfl (Or.inl ⟨dL_law_2584, Or.inr (Or.inl rfl)⟩))))
  (r_iconst (v := 0) dL_law_2566 rfl <|
  r_ret rfl (Or.inl ⟨dL_law_2567, Or.inr (Or.inl rfl)⟩)))
  (sw_cons (r_aload_n (k := 1) dL_law_2588 rfl <|
  r_aload_n (k := 0) dL_law_2589 rfl <|
  r_iload dL_law_2590 <|
  r_iconst (v := 1) dL_law_2592 rfl <|
  r_iadd dL_law_2593 <|
  r_iald dL_law_2594 <|
  r_cV (Z := mX1_seed) (ci := 1) (q := (RX1, TX1, 13)) dL_law_2595 rfl (by decide +kernel) ⟨by decide, by decide⟩ (by decide) rfl rfl q1051 q1052 q1053 q117 q1054 (XS.out (noH _)) <|
  r_aload_n (k := 2) dL_law_2598 rfl <|
  r_aload_n (k := 0) dL_law_2599 rfl <|
  r_iload dL_law_2600 <|
  r_iconst (v := 1) dL_law_2602 rfl <|
  r_iadd dL_law_2603 <|
  r_iald dL_law_2604 <|
  r_cV (Z := mX8_seed) (ci := 8) (q := (RX8, TX8, 27)) dL_law_2605 rfl (by decide +kernel) ⟨by decide, by decide⟩ (by decide) rfl rfl q2704 q2705 q2706 q127 q2707 (XS.out (noH _)) <|
  r_icmp_eq (pt := 2675) dL_law_2608 (by decide)
  ((fun _ _ _ H => H))
  (r_iconst (v := 0) dL_law_2611 rfl <|
  r_ret rfl (Or.inl ⟨dL_law_2612, Or.inr (Or.inl rfl)⟩)))
  (sw_cons (r_aload_n (k := 1) dL_law_2613 rfl <|
  r_cV (Z := mX1_undo) (ci := 1) (q := (RX1, TX1, 13)) dL_law_2614 rfl (by decide +kernel) ⟨by decide, by decide⟩ (by decide) rfl rfl q1055 q1056 q1057 q117 q1058 (XS.out (noH _)) <|
  r_aload_n (k := 2) dL_law_2617 rfl <|
  r_cV (Z := mX8_undo) (ci := 8) (q := (RX8, TX8, 27)) dL_law_2618 rfl (by decide +kernel) ⟨by decide, by decide⟩ (by decide) rfl rfl q2708 q2709 q2710 q127 q2711 (XS.out (noH _)) <|
  r_icmp_eq (pt := 2675) dL_law_2621 (by decide)
  ((fun _ _ _ H => H))
  (r_iconst (v := 0) dL_law_2624 rfl <|
  r_ret rfl (Or.inl ⟨dL_law_2625, Or.inr (Or.inl rfl)⟩)))
  (sw_cons (r_aload_n (k := 1) dL_law_2626 rfl <|
  r_cV (Z := mX1_image) (ci := 1) (q := (RX1, TX1, 13)) dL_law_2627 rfl (by decide +kernel) ⟨by decide, by decide⟩ (by decide) rfl rfl q1090 q1091 q1092 q117 q1093 (XS.out (noH _)) <|
  r_aload_n (k := 2) dL_law_2630 rfl <|
  r_cV (Z := mX8_image) (ci := 8) (q := (RX8, TX8, 27)) dL_law_2631 rfl (by decide +kernel) ⟨by decide, by decide⟩ (by decide) rfl rfl q2712 q2713 q2714 q127 q2715 (XS.out (noH _)) <|
  r_goto (pt := 2675) dL_law_2634 (by decide) <|
  (fun _ _ _ H => H))
  (sw_cons (r_aload_n (k := 1) dL_law_2637 rfl <|
  r_cV (Z := mX1_back) (ci := 1) (q := (RX1, TX1, 13)) dL_law_2638 rfl (by decide +kernel) ⟨by decide, by decide⟩ (by decide) rfl rfl q1094 q1095 q1096 q117 q1097 (XS.out (noH _)) <|
  r_aload_n (k := 2) dL_law_2641 rfl <|
  r_cV (Z := mX8_back) (ci := 8) (q := (RX8, TX8, 27)) dL_law_2642 rfl (by decide +kernel) ⟨by decide, by decide⟩ (by decide) rfl rfl q2716 q2717 q2718 q127 q2719 (XS.out (noH _)) <|
  r_icmp_eq (pt := 2675) dL_law_2645 (by decide)
  ((fun _ _ _ H => H))
  (r_iconst (v := 0) dL_law_2648 rfl <|
  r_ret rfl (Or.inl ⟨dL_law_2649, Or.inr (Or.inl rfl)⟩)))
  (sw_cons (r_aload_n (k := 1) dL_law_2650 rfl <|
  r_aload_n (k := 0) dL_law_2651 rfl <|
  r_iload dL_law_2652 <|
  r_iconst (v := 1) dL_law_2654 rfl <|
  r_iadd dL_law_2655 <|
  r_iald dL_law_2656 <|
  r_cV (Z := mX1_count) (ci := 1) (q := (RX1, TX1, 13)) dL_law_2657 rfl (by decide +kernel) ⟨by decide, by decide⟩ (by decide) rfl rfl q1102 q1103 q1104 q117 q1105 (XS.out (noH _)) <|
  r_aload_n (k := 2) dL_law_2660 rfl <|
  r_aload_n (k := 0) dL_law_2661 rfl <|
  r_iload dL_law_2662 <|
  r_iconst (v := 1) dL_law_2664 rfl <|
  r_iadd dL_law_2665 <|
  r_iald dL_law_2666 <|
  r_cV (Z := mX8_count) (ci := 8) (q := (RX8, TX8, 27)) dL_law_2667 rfl (by decide +kernel) ⟨by decide, by decide⟩ (by decide) rfl rfl q2720 q2721 q2722 q127 q2723 (XS.out (noH _)) <|
  r_icmp_eq (pt := 2675) dL_law_2670 (by decide)
  ((fun _ _ _ H => H))
  (r_iconst (v := 0) dL_law_2673 rfl <|
  r_ret rfl (Or.inl ⟨dL_law_2674, Or.inr (Or.inl rfl)⟩)))
  (sw_nil ((fun _ _ _ H => H))))))))))))))))))))))))))))))))))))))))))))))))
def tL_law_2675 (d : Nat) (Q : Outcome → MH → Prop) (J : Nat → KT) : KT :=
  i_iinc 4 6 <|
  (J 23)
theorem kL_law_2675 {d : Nat} {Q : Outcome → MH → Prop} : ∀ ls st h, tL_law_2675 d Q (fun pc ls st h => WPb mL_law d pc ls st h Q) ls st h → WPb mL_law d 2675 ls st h Q :=
  r_iinc (v := 6) dL_law_2675 rfl <|
  r_goto (pt := 23) dL_law_2678 (by decide) <|
  (fun _ _ _ H => H)
def tL_law_662 (d : Nat) (Q : Outcome → MH → Prop) (J : Nat → KT) : KT :=
  i_aload 3 <|
  i_call mX0_saw d 5 pS (xOut Q) <|
  i_istore 5 <|
  i_aload 2 <|
  i_aload 0 <|
  i_iload 4 <|
  i_const 1 <|
  i_iadd <|
  i_iald <|
  i_aload 0 <|
  i_iload 4 <|
  i_const 2 <|
  i_iadd <|
  i_iald <|
  i_aload 0 <|
  i_iload 4 <|
  i_const 3 <|
  i_iadd <|
  i_iald <|
  i_if_eq
  (i_const 0 <|
  (J 695))
  (i_const 1 <|
  (J 695))
theorem kL_law_662 {d : Nat} {Q : Outcome → MH → Prop} : ∀ ls st h, tL_law_662 d Q (fun pc ls st h => WPb mL_law d pc ls st h Q) ls st h → WPb mL_law d 662 ls st h Q :=
  r_aload_n (k := 3) dL_law_662 rfl <|
  r_cSX (Z := mX0_saw) dL_law_663 rfl (by decide +kernel) ⟨by decide, by decide⟩ q1703 q1704 q116 q1705 (XS.out (noH _)) <|
  r_istore dL_law_666 <|
  r_aload_n (k := 2) dL_law_668 rfl <|
  r_aload_n (k := 0) dL_law_669 rfl <|
  r_iload dL_law_670 <|
  r_iconst (v := 1) dL_law_672 rfl <|
  r_iadd dL_law_673 <|
  r_iald dL_law_674 <|
  r_aload_n (k := 0) dL_law_675 rfl <|
  r_iload dL_law_676 <|
  r_iconst (v := 2) dL_law_678 rfl <|
  r_iadd dL_law_679 <|
  r_iald dL_law_680 <|
  r_aload_n (k := 0) dL_law_681 rfl <|
  r_iload dL_law_682 <|
  r_iconst (v := 3) dL_law_684 rfl <|
  r_iadd dL_law_685 <|
  r_iald dL_law_686 <|
  r_if_eq (pt := 694) dL_law_687 (by decide)
  (r_iconst (v := 0) dL_law_694 rfl <|
  (fun _ _ _ H => H))
  (r_iconst (v := 1) dL_law_690 rfl <|
  r_goto (pt := 695) dL_law_691 (by decide) <|
  (fun _ _ _ H => H))
def tL_law_752 (d : Nat) (Q : Outcome → MH → Prop) (J : Nat → KT) : KT :=
  i_aload 3 <|
  i_call mX0_tie d 4 pS (xOut Q) <|
  i_istore 5 <|
  i_aload 2 <|
  i_aload 0 <|
  i_iload 4 <|
  i_const 1 <|
  i_iadd <|
  i_iald <|
  i_aload 0 <|
  i_iload 4 <|
  i_const 2 <|
  i_iadd <|
  i_iald <|
  i_if_eq
  (i_const 0 <|
  (J 779))
  (i_const 1 <|
  (J 779))
theorem kL_law_752 {d : Nat} {Q : Outcome → MH → Prop} : ∀ ls st h, tL_law_752 d Q (fun pc ls st h => WPb mL_law d pc ls st h Q) ls st h → WPb mL_law d 752 ls st h Q :=
  r_aload_n (k := 3) dL_law_752 rfl <|
  r_cSX (Z := mX0_tie) dL_law_753 rfl (by decide +kernel) ⟨by decide, by decide⟩ q1717 q1718 q116 q1719 (XS.out (noH _)) <|
  r_istore dL_law_756 <|
  r_aload_n (k := 2) dL_law_758 rfl <|
  r_aload_n (k := 0) dL_law_759 rfl <|
  r_iload dL_law_760 <|
  r_iconst (v := 1) dL_law_762 rfl <|
  r_iadd dL_law_763 <|
  r_iald dL_law_764 <|
  r_aload_n (k := 0) dL_law_765 rfl <|
  r_iload dL_law_766 <|
  r_iconst (v := 2) dL_law_768 rfl <|
  r_iadd dL_law_769 <|
  r_iald dL_law_770 <|
  r_if_eq (pt := 778) dL_law_771 (by decide)
  (r_iconst (v := 0) dL_law_778 rfl <|
  (fun _ _ _ H => H))
  (r_iconst (v := 1) dL_law_774 rfl <|
  r_goto (pt := 779) dL_law_775 (by decide) <|
  (fun _ _ _ H => H))
def tL_law_1096 (d : Nat) (Q : Outcome → MH → Prop) (J : Nat → KT) : KT :=
  i_aload 3 <|
  i_call mX0_cold d 4 pS (xOut Q) <|
  i_istore 5 <|
  i_aload 2 <|
  i_aload 0 <|
  i_iload 4 <|
  i_const 1 <|
  i_iadd <|
  i_iald <|
  i_aload 0 <|
  i_iload 4 <|
  i_const 2 <|
  i_iadd <|
  i_iald <|
  i_if_eq
  (i_const 0 <|
  (J 1123))
  (i_const 1 <|
  (J 1123))
theorem kL_law_1096 {d : Nat} {Q : Outcome → MH → Prop} : ∀ ls st h, tL_law_1096 d Q (fun pc ls st h => WPb mL_law d pc ls st h Q) ls st h → WPb mL_law d 1096 ls st h Q :=
  r_aload_n (k := 3) dL_law_1096 rfl <|
  r_cSX (Z := mX0_cold) dL_law_1097 rfl (by decide +kernel) ⟨by decide, by decide⟩ q1873 q1874 q116 q1875 (XS.out (noH _)) <|
  r_istore dL_law_1100 <|
  r_aload_n (k := 2) dL_law_1102 rfl <|
  r_aload_n (k := 0) dL_law_1103 rfl <|
  r_iload dL_law_1104 <|
  r_iconst (v := 1) dL_law_1106 rfl <|
  r_iadd dL_law_1107 <|
  r_iald dL_law_1108 <|
  r_aload_n (k := 0) dL_law_1109 rfl <|
  r_iload dL_law_1110 <|
  r_iconst (v := 2) dL_law_1112 rfl <|
  r_iadd dL_law_1113 <|
  r_iald dL_law_1114 <|
  r_if_eq (pt := 1122) dL_law_1115 (by decide)
  (r_iconst (v := 0) dL_law_1122 rfl <|
  (fun _ _ _ H => H))
  (r_iconst (v := 1) dL_law_1118 rfl <|
  r_goto (pt := 1123) dL_law_1119 (by decide) <|
  (fun _ _ _ H => H))
def tL_law_1497 (d : Nat) (Q : Outcome → MH → Prop) (J : Nat → KT) : KT :=
  i_call mX1_safest d 2 (pV 1) (xOut Q) <|
  i_aload 2 <|
  i_aload 0 <|
  i_iload 4 <|
  i_const 1 <|
  i_iadd <|
  i_iald <|
  i_if_eq
  (i_const 0 <|
  i_call mX8_safest d 2 (pV 8) (xOut Q) <|
  i_icmp_eq
  ((J 2675))
  (i_const 0 <|
  i_ret Q (some .boolean)))
  (i_const 1 <|
  i_call mX8_safest d 2 (pV 8) (xOut Q) <|
  i_icmp_eq
  ((J 2675))
  (i_const 0 <|
  i_ret Q (some .boolean)))
theorem kL_law_1497 {d : Nat} {Q : Outcome → MH → Prop} : ∀ ls st h, tL_law_1497 d Q (fun pc ls st h => WPb mL_law d pc ls st h Q) ls st h → WPb mL_law d 1497 ls st h Q :=
  r_cV (Z := mX1_safest) (ci := 1) (q := (RX1, TX1, 13)) dL_law_1497 rfl (by decide +kernel) ⟨by decide, by decide⟩ (by decide) rfl rfl q528 q529 q530 q117 q531 (XS.out (noH _)) <|
  r_aload_n (k := 2) dL_law_1500 rfl <|
  r_aload_n (k := 0) dL_law_1501 rfl <|
  r_iload dL_law_1502 <|
  r_iconst (v := 1) dL_law_1504 rfl <|
  r_iadd dL_law_1505 <|
  r_iald dL_law_1506 <|
  r_if_eq (pt := 1514) dL_law_1507 (by decide)
  (r_iconst (v := 0) dL_law_1514 rfl <|
  r_cV (Z := mX8_safest) (ci := 8) (q := (RX8, TX8, 27)) dL_law_1515 rfl (by decide +kernel) ⟨by decide, by decide⟩ (by decide) rfl rfl q2545 q2546 q2547 q127 q2548 (XS.out (noH _)) <|
  r_icmp_eq (pt := 2675) dL_law_1518 (by decide)
  ((fun _ _ _ H => H))
  (r_iconst (v := 0) dL_law_1521 rfl <|
  r_ret rfl (Or.inl ⟨dL_law_1522, Or.inr (Or.inl rfl)⟩)))
  (r_iconst (v := 1) dL_law_1510 rfl <|
  r_goto (pt := 1515) dL_law_1511 (by decide) <|
  r_cV (Z := mX8_safest) (ci := 8) (q := (RX8, TX8, 27)) dL_law_1515 rfl (by decide +kernel) ⟨by decide, by decide⟩ (by decide) rfl rfl q2545 q2546 q2547 q127 q2548 (XS.out (noH _)) <|
  r_icmp_eq (pt := 2675) dL_law_1518 (by decide)
  ((fun _ _ _ H => H))
  (r_iconst (v := 0) dL_law_1521 rfl <|
  r_ret rfl (Or.inl ⟨dL_law_1522, Or.inr (Or.inl rfl)⟩)))
def tL_law_1606 (d : Nat) (Q : Outcome → MH → Prop) (J : Nat → KT) : KT :=
  i_aload 3 <|
  i_call mX0_from d 3 pS (xOut Q) <|
  i_istore 5 <|
  i_aload 2 <|
  i_aload 0 <|
  i_iload 4 <|
  i_const 1 <|
  i_iadd <|
  i_iald <|
  i_if_eq
  (i_const 0 <|
  (J 1627))
  (i_const 1 <|
  (J 1627))
theorem kL_law_1606 {d : Nat} {Q : Outcome → MH → Prop} : ∀ ls st h, tL_law_1606 d Q (fun pc ls st h => WPb mL_law d pc ls st h Q) ls st h → WPb mL_law d 1606 ls st h Q :=
  r_aload_n (k := 3) dL_law_1606 rfl <|
  r_cSX (Z := mX0_from) dL_law_1607 rfl (by decide +kernel) ⟨by decide, by decide⟩ q1947 q1948 q116 q1949 (XS.out (noH _)) <|
  r_istore dL_law_1610 <|
  r_aload_n (k := 2) dL_law_1612 rfl <|
  r_aload_n (k := 0) dL_law_1613 rfl <|
  r_iload dL_law_1614 <|
  r_iconst (v := 1) dL_law_1616 rfl <|
  r_iadd dL_law_1617 <|
  r_iald dL_law_1618 <|
  r_if_eq (pt := 1626) dL_law_1619 (by decide)
  (r_iconst (v := 0) dL_law_1626 rfl <|
  (fun _ _ _ H => H))
  (r_iconst (v := 1) dL_law_1622 rfl <|
  r_goto (pt := 1627) dL_law_1623 (by decide) <|
  (fun _ _ _ H => H))
def tL_law_1771 (d : Nat) (Q : Outcome → MH → Prop) (J : Nat → KT) : KT :=
  i_aload 3 <|
  i_call mX0_sake d 5 pS (xOut Q) <|
  i_istore 5 <|
  i_aload 2 <|
  i_aload 0 <|
  i_iload 4 <|
  i_const 1 <|
  i_iadd <|
  i_iald <|
  i_aload 0 <|
  i_iload 4 <|
  i_const 2 <|
  i_iadd <|
  i_iald <|
  i_aload 0 <|
  i_iload 4 <|
  i_const 3 <|
  i_iadd <|
  i_iald <|
  i_if_eq
  (i_const 0 <|
  (J 1804))
  (i_const 1 <|
  (J 1804))
theorem kL_law_1771 {d : Nat} {Q : Outcome → MH → Prop} : ∀ ls st h, tL_law_1771 d Q (fun pc ls st h => WPb mL_law d pc ls st h Q) ls st h → WPb mL_law d 1771 ls st h Q :=
  r_aload_n (k := 3) dL_law_1771 rfl <|
  r_cSX (Z := mX0_sake) dL_law_1772 rfl (by decide +kernel) ⟨by decide, by decide⟩ q1998 q1999 q116 q2000 (XS.out (noH _)) <|
  r_istore dL_law_1775 <|
  r_aload_n (k := 2) dL_law_1777 rfl <|
  r_aload_n (k := 0) dL_law_1778 rfl <|
  r_iload dL_law_1779 <|
  r_iconst (v := 1) dL_law_1781 rfl <|
  r_iadd dL_law_1782 <|
  r_iald dL_law_1783 <|
  r_aload_n (k := 0) dL_law_1784 rfl <|
  r_iload dL_law_1785 <|
  r_iconst (v := 2) dL_law_1787 rfl <|
  r_iadd dL_law_1788 <|
  r_iald dL_law_1789 <|
  r_aload_n (k := 0) dL_law_1790 rfl <|
  r_iload dL_law_1791 <|
  r_iconst (v := 3) dL_law_1793 rfl <|
  r_iadd dL_law_1794 <|
  r_iald dL_law_1795 <|
  r_if_eq (pt := 1803) dL_law_1796 (by decide)
  (r_iconst (v := 0) dL_law_1803 rfl <|
  (fun _ _ _ H => H))
  (r_iconst (v := 1) dL_law_1799 rfl <|
  r_goto (pt := 1804) dL_law_1800 (by decide) <|
  (fun _ _ _ H => H))
def tL_law_1892 (d : Nat) (Q : Outcome → MH → Prop) (J : Nat → KT) : KT :=
  i_call mX1_pairs d 2 (pV 1) (xOut Q) <|
  i_aload 2 <|
  i_aload 0 <|
  i_iload 4 <|
  i_const 1 <|
  i_iadd <|
  i_iald <|
  i_if_eq
  (i_const 0 <|
  i_call mX8_pairs d 2 (pV 8) (xOut Q) <|
  i_icmp_eq
  ((J 2675))
  (i_const 0 <|
  i_ret Q (some .boolean)))
  (i_const 1 <|
  i_call mX8_pairs d 2 (pV 8) (xOut Q) <|
  i_icmp_eq
  ((J 2675))
  (i_const 0 <|
  i_ret Q (some .boolean)))
theorem kL_law_1892 {d : Nat} {Q : Outcome → MH → Prop} : ∀ ls st h, tL_law_1892 d Q (fun pc ls st h => WPb mL_law d pc ls st h Q) ls st h → WPb mL_law d 1892 ls st h Q :=
  r_cV (Z := mX1_pairs) (ci := 1) (q := (RX1, TX1, 13)) dL_law_1892 rfl (by decide +kernel) ⟨by decide, by decide⟩ (by decide) rfl rfl q978 q979 q980 q117 q981 (XS.out (noH _)) <|
  r_aload_n (k := 2) dL_law_1895 rfl <|
  r_aload_n (k := 0) dL_law_1896 rfl <|
  r_iload dL_law_1897 <|
  r_iconst (v := 1) dL_law_1899 rfl <|
  r_iadd dL_law_1900 <|
  r_iald dL_law_1901 <|
  r_if_eq (pt := 1909) dL_law_1902 (by decide)
  (r_iconst (v := 0) dL_law_1909 rfl <|
  r_cV (Z := mX8_pairs) (ci := 8) (q := (RX8, TX8, 27)) dL_law_1910 rfl (by decide +kernel) ⟨by decide, by decide⟩ (by decide) rfl rfl q2604 q2605 q2606 q127 q2607 (XS.out (noH _)) <|
  r_icmp_eq (pt := 2675) dL_law_1913 (by decide)
  ((fun _ _ _ H => H))
  (r_iconst (v := 0) dL_law_1916 rfl <|
  r_ret rfl (Or.inl ⟨dL_law_1917, Or.inr (Or.inl rfl)⟩)))
  (r_iconst (v := 1) dL_law_1905 rfl <|
  r_goto (pt := 1910) dL_law_1906 (by decide) <|
  r_cV (Z := mX8_pairs) (ci := 8) (q := (RX8, TX8, 27)) dL_law_1910 rfl (by decide +kernel) ⟨by decide, by decide⟩ (by decide) rfl rfl q2604 q2605 q2606 q127 q2607 (XS.out (noH _)) <|
  r_icmp_eq (pt := 2675) dL_law_1913 (by decide)
  ((fun _ _ _ H => H))
  (r_iconst (v := 0) dL_law_1916 rfl <|
  r_ret rfl (Or.inl ⟨dL_law_1917, Or.inr (Or.inl rfl)⟩)))
def tL_law_2342 (d : Nat) (Q : Outcome → MH → Prop) (J : Nat → KT) : KT :=
  i_call mX1_changed d 2 (pV 1) (xOut Q) <|
  i_aload 2 <|
  i_aload 0 <|
  i_iload 4 <|
  i_const 1 <|
  i_iadd <|
  i_iald <|
  i_if_eq
  (i_const 0 <|
  i_call mX8_changed d 2 (pV 8) (xOut Q) <|
  i_icmp_eq
  ((J 2675))
  (i_const 0 <|
  i_ret Q (some .boolean)))
  (i_const 1 <|
  i_call mX8_changed d 2 (pV 8) (xOut Q) <|
  i_icmp_eq
  ((J 2675))
  (i_const 0 <|
  i_ret Q (some .boolean)))
theorem kL_law_2342 {d : Nat} {Q : Outcome → MH → Prop} : ∀ ls st h, tL_law_2342 d Q (fun pc ls st h => WPb mL_law d pc ls st h Q) ls st h → WPb mL_law d 2342 ls st h Q :=
  r_cV (Z := mX1_changed) (ci := 1) (q := (RX1, TX1, 13)) dL_law_2342 rfl (by decide +kernel) ⟨by decide, by decide⟩ (by decide) rfl rfl q1039 q1040 q1041 q117 q1042 (XS.out (noH _)) <|
  r_aload_n (k := 2) dL_law_2345 rfl <|
  r_aload_n (k := 0) dL_law_2346 rfl <|
  r_iload dL_law_2347 <|
  r_iconst (v := 1) dL_law_2349 rfl <|
  r_iadd dL_law_2350 <|
  r_iald dL_law_2351 <|
  r_if_eq (pt := 2359) dL_law_2352 (by decide)
  (r_iconst (v := 0) dL_law_2359 rfl <|
  r_cV (Z := mX8_changed) (ci := 8) (q := (RX8, TX8, 27)) dL_law_2360 rfl (by decide +kernel) ⟨by decide, by decide⟩ (by decide) rfl rfl q2680 q2681 q2682 q127 q2683 (XS.out (noH _)) <|
  r_icmp_eq (pt := 2675) dL_law_2363 (by decide)
  ((fun _ _ _ H => H))
  (r_iconst (v := 0) dL_law_2366 rfl <|
  r_ret rfl (Or.inl ⟨dL_law_2367, Or.inr (Or.inl rfl)⟩)))
  (r_iconst (v := 1) dL_law_2355 rfl <|
  r_goto (pt := 2360) dL_law_2356 (by decide) <|
  r_cV (Z := mX8_changed) (ci := 8) (q := (RX8, TX8, 27)) dL_law_2360 rfl (by decide +kernel) ⟨by decide, by decide⟩ (by decide) rfl rfl q2680 q2681 q2682 q127 q2683 (XS.out (noH _)) <|
  r_icmp_eq (pt := 2675) dL_law_2363 (by decide)
  ((fun _ _ _ H => H))
  (r_iconst (v := 0) dL_law_2366 rfl <|
  r_ret rfl (Or.inl ⟨dL_law_2367, Or.inr (Or.inl rfl)⟩)))
def tL_law_2457 (d : Nat) (Q : Outcome → MH → Prop) (J : Nat → KT) : KT :=
  i_aload 3 <|
  i_call mX0_span d 4 pS (xOut Q) <|
  i_istore 5 <|
  i_aload 2 <|
  i_aload 0 <|
  i_iload 4 <|
  i_const 1 <|
  i_iadd <|
  i_iald <|
  i_aload 0 <|
  i_iload 4 <|
  i_const 2 <|
  i_iadd <|
  i_iald <|
  i_if_eq
  (i_const 0 <|
  (J 2484))
  (i_const 1 <|
  (J 2484))
theorem kL_law_2457 {d : Nat} {Q : Outcome → MH → Prop} : ∀ ls st h, tL_law_2457 d Q (fun pc ls st h => WPb mL_law d pc ls st h Q) ls st h → WPb mL_law d 2457 ls st h Q :=
  r_aload_n (k := 3) dL_law_2457 rfl <|
  r_cSX (Z := mX0_span) dL_law_2458 rfl (by decide +kernel) ⟨by decide, by decide⟩ q2121 q2122 q116 q2123 (XS.out (noH _)) <|
  r_istore dL_law_2461 <|
  r_aload_n (k := 2) dL_law_2463 rfl <|
  r_aload_n (k := 0) dL_law_2464 rfl <|
  r_iload dL_law_2465 <|
  r_iconst (v := 1) dL_law_2467 rfl <|
  r_iadd dL_law_2468 <|
  r_iald dL_law_2469 <|
  r_aload_n (k := 0) dL_law_2470 rfl <|
  r_iload dL_law_2471 <|
  r_iconst (v := 2) dL_law_2473 rfl <|
  r_iadd dL_law_2474 <|
  r_iald dL_law_2475 <|
  r_if_eq (pt := 2483) dL_law_2476 (by decide)
  (r_iconst (v := 0) dL_law_2483 rfl <|
  (fun _ _ _ H => H))
  (r_iconst (v := 1) dL_law_2479 rfl <|
  r_goto (pt := 2484) dL_law_2480 (by decide) <|
  (fun _ _ _ H => H))
def tL_law_695 (d : Nat) (Q : Outcome → MH → Prop) (J : Nat → KT) : KT :=
  i_call mX8_saw d 4 (pV 8) (xOut Q) <|
  i_istore 6 <|
  i_aload 2 <|
  i_call mX8_thrown d 1 (pV 8) (xOut Q) <|
  i_iload 5 <|
  i_icmp_eq
  (i_iload 5 <|
  i_if_ne
  ((J 2675))
  (i_aload 3 <|
  i_const 0 <|
  i_lald <|
  i_iload 6 <|
  i_i2l <|
  i_lcmp <|
  i_if_eq
  ((J 2675))
  (i_const 0 <|
  i_ret Q (some .boolean))))
  (i_const 0 <|
  i_ret Q (some .boolean))
theorem kL_law_695 {d : Nat} {Q : Outcome → MH → Prop} : ∀ ls st h, tL_law_695 d Q (fun pc ls st h => WPb mL_law d pc ls st h Q) ls st h → WPb mL_law d 695 ls st h Q :=
  r_cV (Z := mX8_saw) (ci := 8) (q := (RX8, TX8, 27)) dL_law_695 rfl (by decide +kernel) ⟨by decide, by decide⟩ (by decide) rfl rfl q2451 q2452 q2453 q127 q2454 (XS.out (noH _)) <|
  r_istore dL_law_698 <|
  r_aload_n (k := 2) dL_law_700 rfl <|
  r_cV (Z := mX8_thrown) (ci := 8) (q := (RX8, TX8, 27)) dL_law_701 rfl (by decide +kernel) ⟨by decide, by decide⟩ (by decide) rfl rfl q2223 q2224 q2225 q127 q2226 (XS.out (noH _)) <|
  r_iload dL_law_704 <|
  r_icmp_eq (pt := 711) dL_law_706 (by decide)
  (r_iload dL_law_711 <|
  r_if_ne (pt := 728) dL_law_713 (by decide)
  (r_goto (pt := 2675) dL_law_728 (by decide) <|
  (fun _ _ _ H => H))
  (r_aload_n (k := 3) dL_law_716 rfl <|
  r_iconst (v := 0) dL_law_717 rfl <|
  r_lald dL_law_718 <|
  r_iload dL_law_719 <|
  r_i2l dL_law_721 <|
  r_lcmp dL_law_722 <|
  r_if_eq (pt := 728) dL_law_723 (by decide)
  (r_goto (pt := 2675) dL_law_728 (by decide) <|
  (fun _ _ _ H => H))
  (r_iconst (v := 0) dL_law_726 rfl <|
  r_ret rfl (Or.inl ⟨dL_law_727, Or.inr (Or.inl rfl)⟩))))
  (r_iconst (v := 0) dL_law_709 rfl <|
  r_ret rfl (Or.inl ⟨dL_law_710, Or.inr (Or.inl rfl)⟩))
def tL_law_779 (d : Nat) (Q : Outcome → MH → Prop) (J : Nat → KT) : KT :=
  i_call mX8_tie d 3 (pV 8) (xOut Q) <|
  i_istore 6 <|
  i_aload 2 <|
  i_call mX8_thrown d 1 (pV 8) (xOut Q) <|
  i_iload 5 <|
  i_icmp_eq
  (i_iload 5 <|
  i_if_ne
  ((J 2675))
  (i_aload 3 <|
  i_const 0 <|
  i_lald <|
  i_iload 6 <|
  i_i2l <|
  i_lcmp <|
  i_if_eq
  ((J 2675))
  (i_const 0 <|
  i_ret Q (some .boolean))))
  (i_const 0 <|
  i_ret Q (some .boolean))
theorem kL_law_779 {d : Nat} {Q : Outcome → MH → Prop} : ∀ ls st h, tL_law_779 d Q (fun pc ls st h => WPb mL_law d pc ls st h Q) ls st h → WPb mL_law d 779 ls st h Q :=
  r_cV (Z := mX8_tie) (ci := 8) (q := (RX8, TX8, 27)) dL_law_779 rfl (by decide +kernel) ⟨by decide, by decide⟩ (by decide) rfl rfl q2459 q2460 q2461 q127 q2462 (XS.out (noH _)) <|
  r_istore dL_law_782 <|
  r_aload_n (k := 2) dL_law_784 rfl <|
  r_cV (Z := mX8_thrown) (ci := 8) (q := (RX8, TX8, 27)) dL_law_785 rfl (by decide +kernel) ⟨by decide, by decide⟩ (by decide) rfl rfl q2223 q2224 q2225 q127 q2226 (XS.out (noH _)) <|
  r_iload dL_law_788 <|
  r_icmp_eq (pt := 795) dL_law_790 (by decide)
  (r_iload dL_law_795 <|
  r_if_ne (pt := 812) dL_law_797 (by decide)
  (r_goto (pt := 2675) dL_law_812 (by decide) <|
  (fun _ _ _ H => H))
  (r_aload_n (k := 3) dL_law_800 rfl <|
  r_iconst (v := 0) dL_law_801 rfl <|
  r_lald dL_law_802 <|
  r_iload dL_law_803 <|
  r_i2l dL_law_805 <|
  r_lcmp dL_law_806 <|
  r_if_eq (pt := 812) dL_law_807 (by decide)
  (r_goto (pt := 2675) dL_law_812 (by decide) <|
  (fun _ _ _ H => H))
  (r_iconst (v := 0) dL_law_810 rfl <|
  r_ret rfl (Or.inl ⟨dL_law_811, Or.inr (Or.inl rfl)⟩))))
  (r_iconst (v := 0) dL_law_793 rfl <|
  r_ret rfl (Or.inl ⟨dL_law_794, Or.inr (Or.inl rfl)⟩))
def tL_law_1123 (d : Nat) (Q : Outcome → MH → Prop) (J : Nat → KT) : KT :=
  i_call mX8_cold d 3 (pV 8) (xOut Q) <|
  i_istore 6 <|
  i_aload 2 <|
  i_call mX8_thrown d 1 (pV 8) (xOut Q) <|
  i_iload 5 <|
  i_icmp_eq
  (i_iload 5 <|
  i_if_ne
  ((J 2675))
  (i_aload 3 <|
  i_const 0 <|
  i_lald <|
  i_iload 6 <|
  i_if_eq
  (i_lconst 0 <|
  i_lcmp <|
  i_if_eq
  ((J 2675))
  (i_const 0 <|
  i_ret Q (some .boolean)))
  (i_lconst 1 <|
  i_lcmp <|
  i_if_eq
  ((J 2675))
  (i_const 0 <|
  i_ret Q (some .boolean)))))
  (i_const 0 <|
  i_ret Q (some .boolean))
theorem kL_law_1123 {d : Nat} {Q : Outcome → MH → Prop} : ∀ ls st h, tL_law_1123 d Q (fun pc ls st h => WPb mL_law d pc ls st h Q) ls st h → WPb mL_law d 1123 ls st h Q :=
  r_cV (Z := mX8_cold) (ci := 8) (q := (RX8, TX8, 27)) dL_law_1123 rfl (by decide +kernel) ⟨by decide, by decide⟩ (by decide) rfl rfl q2510 q2511 q2512 q127 q2513 (XS.out (noH _)) <|
  r_istore dL_law_1126 <|
  r_aload_n (k := 2) dL_law_1128 rfl <|
  r_cV (Z := mX8_thrown) (ci := 8) (q := (RX8, TX8, 27)) dL_law_1129 rfl (by decide +kernel) ⟨by decide, by decide⟩ (by decide) rfl rfl q2223 q2224 q2225 q127 q2226 (XS.out (noH _)) <|
  r_iload dL_law_1132 <|
  r_icmp_eq (pt := 1139) dL_law_1134 (by decide)
  (r_iload dL_law_1139 <|
  r_if_ne (pt := 1163) dL_law_1141 (by decide)
  (r_goto (pt := 2675) dL_law_1163 (by decide) <|
  (fun _ _ _ H => H))
  (r_aload_n (k := 3) dL_law_1144 rfl <|
  r_iconst (v := 0) dL_law_1145 rfl <|
  r_lald dL_law_1146 <|
  r_iload dL_law_1147 <|
  r_if_eq (pt := 1156) dL_law_1149 (by decide)
  (r_lconst (v := 0) dL_law_1156 rfl <|
  r_lcmp dL_law_1157 <|
  r_if_eq (pt := 1163) dL_law_1158 (by decide)
  (r_goto (pt := 2675) dL_law_1163 (by decide) <|
  (fun _ _ _ H => H))
  (r_iconst (v := 0) dL_law_1161 rfl <|
  r_ret rfl (Or.inl ⟨dL_law_1162, Or.inr (Or.inl rfl)⟩)))
  (r_lconst (v := 1) dL_law_1152 rfl <|
  r_goto (pt := 1157) dL_law_1153 (by decide) <|
  r_lcmp dL_law_1157 <|
  r_if_eq (pt := 1163) dL_law_1158 (by decide)
  (r_goto (pt := 2675) dL_law_1163 (by decide) <|
  (fun _ _ _ H => H))
  (r_iconst (v := 0) dL_law_1161 rfl <|
  r_ret rfl (Or.inl ⟨dL_law_1162, Or.inr (Or.inl rfl)⟩)))))
  (r_iconst (v := 0) dL_law_1137 rfl <|
  r_ret rfl (Or.inl ⟨dL_law_1138, Or.inr (Or.inl rfl)⟩))
def tL_law_1627 (d : Nat) (Q : Outcome → MH → Prop) (J : Nat → KT) : KT :=
  i_call mX8_from d 2 (pV 8) (xOut Q) <|
  i_istore 6 <|
  i_aload 2 <|
  i_call mX8_thrown d 1 (pV 8) (xOut Q) <|
  i_iload 5 <|
  i_icmp_eq
  (i_iload 5 <|
  i_if_ne
  ((J 2675))
  (i_aload 3 <|
  i_const 0 <|
  i_lald <|
  i_iload 6 <|
  i_i2l <|
  i_lcmp <|
  i_if_eq
  ((J 2675))
  (i_const 0 <|
  i_ret Q (some .boolean))))
  (i_const 0 <|
  i_ret Q (some .boolean))
theorem kL_law_1627 {d : Nat} {Q : Outcome → MH → Prop} : ∀ ls st h, tL_law_1627 d Q (fun pc ls st h => WPb mL_law d pc ls st h Q) ls st h → WPb mL_law d 1627 ls st h Q :=
  r_cV (Z := mX8_from) (ci := 8) (q := (RX8, TX8, 27)) dL_law_1627 rfl (by decide +kernel) ⟨by decide, by decide⟩ (by decide) rfl rfl q2557 q2558 q2559 q127 q2560 (XS.out (noH _)) <|
  r_istore dL_law_1630 <|
  r_aload_n (k := 2) dL_law_1632 rfl <|
  r_cV (Z := mX8_thrown) (ci := 8) (q := (RX8, TX8, 27)) dL_law_1633 rfl (by decide +kernel) ⟨by decide, by decide⟩ (by decide) rfl rfl q2223 q2224 q2225 q127 q2226 (XS.out (noH _)) <|
  r_iload dL_law_1636 <|
  r_icmp_eq (pt := 1643) dL_law_1638 (by decide)
  (r_iload dL_law_1643 <|
  r_if_ne (pt := 1660) dL_law_1645 (by decide)
  (r_goto (pt := 2675) dL_law_1660 (by decide) <|
  (fun _ _ _ H => H))
  (r_aload_n (k := 3) dL_law_1648 rfl <|
  r_iconst (v := 0) dL_law_1649 rfl <|
  r_lald dL_law_1650 <|
  r_iload dL_law_1651 <|
  r_i2l dL_law_1653 <|
  r_lcmp dL_law_1654 <|
  r_if_eq (pt := 1660) dL_law_1655 (by decide)
  (r_goto (pt := 2675) dL_law_1660 (by decide) <|
  (fun _ _ _ H => H))
  (r_iconst (v := 0) dL_law_1658 rfl <|
  r_ret rfl (Or.inl ⟨dL_law_1659, Or.inr (Or.inl rfl)⟩))))
  (r_iconst (v := 0) dL_law_1641 rfl <|
  r_ret rfl (Or.inl ⟨dL_law_1642, Or.inr (Or.inl rfl)⟩))
def tL_law_1804 (d : Nat) (Q : Outcome → MH → Prop) (J : Nat → KT) : KT :=
  i_call mX8_sake d 4 (pV 8) (xOut Q) <|
  i_istore 6 <|
  i_aload 2 <|
  i_call mX8_thrown d 1 (pV 8) (xOut Q) <|
  i_iload 5 <|
  i_icmp_eq
  (i_iload 5 <|
  i_if_ne
  ((J 2675))
  (i_aload 3 <|
  i_const 0 <|
  i_lald <|
  i_iload 6 <|
  i_i2l <|
  i_lcmp <|
  i_if_eq
  ((J 2675))
  (i_const 0 <|
  i_ret Q (some .boolean))))
  (i_const 0 <|
  i_ret Q (some .boolean))
theorem kL_law_1804 {d : Nat} {Q : Outcome → MH → Prop} : ∀ ls st h, tL_law_1804 d Q (fun pc ls st h => WPb mL_law d pc ls st h Q) ls st h → WPb mL_law d 1804 ls st h Q :=
  r_cV (Z := mX8_sake) (ci := 8) (q := (RX8, TX8, 27)) dL_law_1804 rfl (by decide +kernel) ⟨by decide, by decide⟩ (by decide) rfl rfl q2585 q2586 q2587 q127 q2588 (XS.out (noH _)) <|
  r_istore dL_law_1807 <|
  r_aload_n (k := 2) dL_law_1809 rfl <|
  r_cV (Z := mX8_thrown) (ci := 8) (q := (RX8, TX8, 27)) dL_law_1810 rfl (by decide +kernel) ⟨by decide, by decide⟩ (by decide) rfl rfl q2223 q2224 q2225 q127 q2226 (XS.out (noH _)) <|
  r_iload dL_law_1813 <|
  r_icmp_eq (pt := 1820) dL_law_1815 (by decide)
  (r_iload dL_law_1820 <|
  r_if_ne (pt := 1837) dL_law_1822 (by decide)
  (r_goto (pt := 2675) dL_law_1837 (by decide) <|
  (fun _ _ _ H => H))
  (r_aload_n (k := 3) dL_law_1825 rfl <|
  r_iconst (v := 0) dL_law_1826 rfl <|
  r_lald dL_law_1827 <|
  r_iload dL_law_1828 <|
  r_i2l dL_law_1830 <|
  r_lcmp dL_law_1831 <|
  r_if_eq (pt := 1837) dL_law_1832 (by decide)
  (r_goto (pt := 2675) dL_law_1837 (by decide) <|
  (fun _ _ _ H => H))
  (r_iconst (v := 0) dL_law_1835 rfl <|
  r_ret rfl (Or.inl ⟨dL_law_1836, Or.inr (Or.inl rfl)⟩))))
  (r_iconst (v := 0) dL_law_1818 rfl <|
  r_ret rfl (Or.inl ⟨dL_law_1819, Or.inr (Or.inl rfl)⟩))
def tL_law_2484 (d : Nat) (Q : Outcome → MH → Prop) (J : Nat → KT) : KT :=
  i_call mX8_span d 3 (pV 8) (xOut Q) <|
  i_istore 6 <|
  i_aload 2 <|
  i_call mX8_thrown d 1 (pV 8) (xOut Q) <|
  i_iload 5 <|
  i_icmp_eq
  (i_iload 5 <|
  i_if_ne
  ((J 2675))
  (i_aload 3 <|
  i_const 0 <|
  i_lald <|
  i_iload 6 <|
  i_i2l <|
  i_lcmp <|
  i_if_eq
  ((J 2675))
  (i_const 0 <|
  i_ret Q (some .boolean))))
  (i_const 0 <|
  i_ret Q (some .boolean))
theorem kL_law_2484 {d : Nat} {Q : Outcome → MH → Prop} : ∀ ls st h, tL_law_2484 d Q (fun pc ls st h => WPb mL_law d pc ls st h Q) ls st h → WPb mL_law d 2484 ls st h Q :=
  r_cV (Z := mX8_span) (ci := 8) (q := (RX8, TX8, 27)) dL_law_2484 rfl (by decide +kernel) ⟨by decide, by decide⟩ (by decide) rfl rfl q2696 q2697 q2698 q127 q2699 (XS.out (noH _)) <|
  r_istore dL_law_2487 <|
  r_aload_n (k := 2) dL_law_2489 rfl <|
  r_cV (Z := mX8_thrown) (ci := 8) (q := (RX8, TX8, 27)) dL_law_2490 rfl (by decide +kernel) ⟨by decide, by decide⟩ (by decide) rfl rfl q2223 q2224 q2225 q127 q2226 (XS.out (noH _)) <|
  r_iload dL_law_2493 <|
  r_icmp_eq (pt := 2500) dL_law_2495 (by decide)
  (r_iload dL_law_2500 <|
  r_if_ne (pt := 2517) dL_law_2502 (by decide)
  (r_goto (pt := 2675) dL_law_2517 (by decide) <|
  (fun _ _ _ H => H))
  (r_aload_n (k := 3) dL_law_2505 rfl <|
  r_iconst (v := 0) dL_law_2506 rfl <|
  r_lald dL_law_2507 <|
  r_iload dL_law_2508 <|
  r_i2l dL_law_2510 <|
  r_lcmp dL_law_2511 <|
  r_if_eq (pt := 2517) dL_law_2512 (by decide)
  (r_goto (pt := 2675) dL_law_2517 (by decide) <|
  (fun _ _ _ H => H))
  (r_iconst (v := 0) dL_law_2515 rfl <|
  r_ret rfl (Or.inl ⟨dL_law_2516, Or.inr (Or.inl rfl)⟩))))
  (r_iconst (v := 0) dL_law_2498 rfl <|
  r_ret rfl (Or.inl ⟨dL_law_2499, Or.inr (Or.inl rfl)⟩))
