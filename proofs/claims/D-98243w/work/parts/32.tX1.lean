set_option maxRecDepth 100000
-- CheekTown.<init>()V cuts [0]
def tX1_init_0 (d : Nat) (Q : Outcome → MH → Prop) (J : Nat → KT) : KT :=
  i_aload 0 <|
  i_obj d <|
  i_aload 0 <|
  i_new 2 31 <|
  i_dup <|
  i_call mX2_init d 1 pI (xOut Q) <|
  i_putR 1 0 <|
  i_aload 0 <|
  i_new 2 31 <|
  i_dup <|
  i_call mX2_init d 1 pI (xOut Q) <|
  i_putR 1 1 <|
  i_aload 0 <|
  i_new 2 31 <|
  i_dup <|
  i_call mX2_init d 1 pI (xOut Q) <|
  i_putR 1 2 <|
  i_aload 0 <|
  i_new 3 7 <|
  i_dup <|
  i_call mX3_init d 1 pI (xOut Q) <|
  i_putR 1 4 <|
  i_aload 0 <|
  i_new 4 8 <|
  i_dup <|
  i_call mX4_init d 1 pI (xOut Q) <|
  i_putR 1 5 <|
  i_aload 0 <|
  i_new 22 3 <|
  i_dup <|
  i_call mJ2_init d 1 pI (xOut Q) <|
  i_putR 1 6 <|
  i_aload 0 <|
  i_const 2 <|
  i_newa 0 <|
  i_putR 1 7 <|
  i_aload 0 <|
  i_const 2 <|
  i_newa 0 <|
  i_putR 1 8 <|
  i_aload 0 <|
  i_new 5 4 <|
  i_dup <|
  i_aload 0 <|
  i_call mX5_init d 2 pI (xOut Q) <|
  i_putR 1 9 <|
  i_aload 0 <|
  i_new 6 2 <|
  i_dup <|
  i_aload 0 <|
  i_call mX6_init d 2 pI (xOut Q) <|
  i_putR 1 10 <|
  i_aload 0 <|
  i_new 7 5 <|
  i_dup <|
  i_aload 0 <|
  i_call mX7_init d 2 pI (xOut Q) <|
  i_putR 1 11 <|
  i_aload 0 <|
  i_new 2 31 <|
  i_dup <|
  i_call mX2_init d 1 pI (xOut Q) <|
  i_putR 1 12 <|
  i_vret Q
theorem kX1_init_0 {d : Nat} {Q : Outcome → MH → Prop} : ∀ ls st h, tX1_init_0 d Q (fun pc ls st h => WPb mX1_init d pc ls st h Q) ls st h → WPb mX1_init d 0 ls st h Q :=
  r_aload_n (k := 0) dX1_init_0 rfl <|
  r_obj dX1_init_1 q169 q170 q171 <|
  r_aload_n (k := 0) dX1_init_4 rfl <|
  r_new (ci := 2) (q := (RX2, TX2, 31)) tyX2 tyX2_ok (by decide) (by decide) (by decide) rfl rfl in_X2 q172 q173 q118 dX1_init_5 <|
  r_dup dX1_init_8 <|
  r_cIN (Z := mX2_init) dX1_init_9 rfl rfl rfl (by decide +kernel) ⟨by decide, by decide⟩ q174 q175 q118 q176 (XS.out (noH _)) <|
  r_putR (ci := 1) (q := (RX1, TX1, 13)) (k := 0) tyX1 tyX1_ok nmX1 dX1_init_12 (by decide) rfl in_X1 (by decide) (Or.inr ⟨rfl, rfl, rfl, q465⟩) rfl rfl <|
  r_aload_n (k := 0) dX1_init_15 rfl <|
  r_new (ci := 2) (q := (RX2, TX2, 31)) tyX2 tyX2_ok (by decide) (by decide) (by decide) rfl rfl in_X2 q172 q173 q118 dX1_init_16 <|
  r_dup dX1_init_19 <|
  r_cIN (Z := mX2_init) dX1_init_20 rfl rfl rfl (by decide +kernel) ⟨by decide, by decide⟩ q174 q175 q118 q176 (XS.out (noH _)) <|
  r_putR (ci := 1) (q := (RX1, TX1, 13)) (k := 1) tyX1 tyX1_ok nmX1 dX1_init_23 (by decide) rfl in_X1 (by decide) (Or.inr ⟨rfl, rfl, rfl, q469⟩) rfl rfl <|
  r_aload_n (k := 0) dX1_init_26 rfl <|
  r_new (ci := 2) (q := (RX2, TX2, 31)) tyX2 tyX2_ok (by decide) (by decide) (by decide) rfl rfl in_X2 q172 q173 q118 dX1_init_27 <|
  r_dup dX1_init_30 <|
  r_cIN (Z := mX2_init) dX1_init_31 rfl rfl rfl (by decide +kernel) ⟨by decide, by decide⟩ q174 q175 q118 q176 (XS.out (noH _)) <|
  r_putR (ci := 1) (q := (RX1, TX1, 13)) (k := 2) tyX1 tyX1_ok nmX1 dX1_init_34 (by decide) rfl in_X1 (by decide) (Or.inr ⟨rfl, rfl, rfl, q470⟩) rfl rfl <|
  r_aload_n (k := 0) dX1_init_37 rfl <|
  r_new (ci := 3) (q := (RX3, TX3, 7)) tyX3 tyX3_ok (by decide) (by decide) (by decide) rfl rfl in_X3 q312 q313 q119 dX1_init_38 <|
  r_dup dX1_init_41 <|
  r_cIN (Z := mX3_init) dX1_init_42 rfl rfl rfl (by decide +kernel) ⟨by decide, by decide⟩ q314 q315 q119 q316 (XS.out (noH _)) <|
  r_putR (ci := 1) (q := (RX1, TX1, 13)) (k := 4) tyX1 tyX1_ok nmX1 dX1_init_45 (by decide) rfl in_X1 (by decide) (Or.inr ⟨rfl, rfl, rfl, q472⟩) rfl rfl <|
  r_aload_n (k := 0) dX1_init_48 rfl <|
  r_new (ci := 4) (q := (RX4, TX4, 8)) tyX4 tyX4_ok (by decide) (by decide) (by decide) rfl rfl in_X4 q345 q346 q120 dX1_init_49 <|
  r_dup dX1_init_52 <|
  r_cIN (Z := mX4_init) dX1_init_53 rfl rfl rfl (by decide +kernel) ⟨by decide, by decide⟩ q347 q348 q120 q349 (XS.out (noH _)) <|
  r_putR (ci := 1) (q := (RX1, TX1, 13)) (k := 5) tyX1 tyX1_ok nmX1 dX1_init_56 (by decide) rfl in_X1 (by decide) (Or.inr ⟨rfl, rfl, rfl, q473⟩) rfl rfl <|
  r_aload_n (k := 0) dX1_init_59 rfl <|
  r_new (ci := 22) (q := (RJ2, TJ2, 3)) tyJ2 tyJ2_ok (by decide) (by decide) (by decide) rfl rfl in_J2 q384 q385 q123 dX1_init_60 <|
  r_dup dX1_init_63 <|
  r_cI (Z := mJ2_init) dX1_init_64 rfl rfl rfl (by decide +kernel) ⟨by decide, by decide⟩ q386 q387 q123 q388 (XS.out (noH _)) <|
  r_putR (ci := 1) (q := (RX1, TX1, 13)) (k := 6) tyX1 tyX1_ok nmX1 dX1_init_67 (by decide) rfl in_X1 (by decide) (Or.inr ⟨rfl, rfl, rfl, q474⟩) rfl rfl <|
  r_aload_n (k := 0) dX1_init_70 rfl <|
  r_iconst (v := 2) dX1_init_71 rfl <|
  r_newa (t := 0) (at9 := .int) (ty := .int) (by decide) rfl rfl q310 (by decide) dX1_init_72 <|
  r_putR (ci := 1) (q := (RX1, TX1, 13)) (k := 7) tyX1 tyX1_ok nmX1 dX1_init_74 (by decide) rfl in_X1 (by decide) (Or.inr ⟨rfl, rfl, rfl, q475⟩) rfl rfl <|
  r_aload_n (k := 0) dX1_init_77 rfl <|
  r_iconst (v := 2) dX1_init_78 rfl <|
  r_newa (t := 0) (at9 := .int) (ty := .int) (by decide) rfl rfl q310 (by decide) dX1_init_79 <|
  r_putR (ci := 1) (q := (RX1, TX1, 13)) (k := 8) tyX1 tyX1_ok nmX1 dX1_init_81 (by decide) rfl in_X1 (by decide) (Or.inr ⟨rfl, rfl, rfl, q476⟩) rfl rfl <|
  r_aload_n (k := 0) dX1_init_84 rfl <|
  r_new (ci := 5) (q := (RX5, TX5, 4)) tyX5 tyX5_ok (by decide) (by decide) (by decide) rfl rfl in_X5 q410 q411 q124 dX1_init_85 <|
  r_dup dX1_init_88 <|
  r_aload_n (k := 0) dX1_init_89 rfl <|
  r_cIN (Z := mX5_init) dX1_init_90 rfl rfl rfl (by decide +kernel) ⟨by decide, by decide⟩ q412 q413 q124 q414 (XS.out (noH _)) <|
  r_putR (ci := 1) (q := (RX1, TX1, 13)) (k := 9) tyX1 tyX1_ok nmX1 dX1_init_93 (by decide) rfl in_X1 (by decide) (Or.inr ⟨rfl, rfl, rfl, q477⟩) rfl rfl <|
  r_aload_n (k := 0) dX1_init_96 rfl <|
  r_new (ci := 6) (q := (RX6, TX6, 2)) tyX6 tyX6_ok (by decide) (by decide) (by decide) rfl rfl in_X6 q429 q430 q125 dX1_init_97 <|
  r_dup dX1_init_100 <|
  r_aload_n (k := 0) dX1_init_101 rfl <|
  r_cIN (Z := mX6_init) dX1_init_102 rfl rfl rfl (by decide +kernel) ⟨by decide, by decide⟩ q431 q432 q125 q433 (XS.out (noH _)) <|
  r_putR (ci := 1) (q := (RX1, TX1, 13)) (k := 10) tyX1 tyX1_ok nmX1 dX1_init_105 (by decide) rfl in_X1 (by decide) (Or.inr ⟨rfl, rfl, rfl, q478⟩) rfl rfl <|
  r_aload_n (k := 0) dX1_init_108 rfl <|
  r_new (ci := 7) (q := (RX7, TX7, 5)) tyX7 tyX7_ok (by decide) (by decide) (by decide) rfl rfl in_X7 q442 q443 q126 dX1_init_109 <|
  r_dup dX1_init_112 <|
  r_aload_n (k := 0) dX1_init_113 rfl <|
  r_cIN (Z := mX7_init) dX1_init_114 rfl rfl rfl (by decide +kernel) ⟨by decide, by decide⟩ q444 q445 q126 q446 (XS.out (noH _)) <|
  r_putR (ci := 1) (q := (RX1, TX1, 13)) (k := 11) tyX1 tyX1_ok nmX1 dX1_init_117 (by decide) rfl in_X1 (by decide) (Or.inr ⟨rfl, rfl, rfl, q479⟩) rfl rfl <|
  r_aload_n (k := 0) dX1_init_120 rfl <|
  r_new (ci := 2) (q := (RX2, TX2, 31)) tyX2 tyX2_ok (by decide) (by decide) (by decide) rfl rfl in_X2 q172 q173 q118 dX1_init_121 <|
  r_dup dX1_init_124 <|
  r_cIN (Z := mX2_init) dX1_init_125 rfl rfl rfl (by decide +kernel) ⟨by decide, by decide⟩ q174 q175 q118 q176 (XS.out (noH _)) <|
  r_putR (ci := 1) (q := (RX1, TX1, 13)) (k := 12) tyX1 tyX1_ok nmX1 dX1_init_128 (by decide) rfl in_X1 (by decide) (Or.inr ⟨rfl, rfl, rfl, q480⟩) rfl rfl <|
  r_vret rfl dX1_init_131
-- CheekTown.feed(IIIII)I cuts [0]
def tX1_feed_0 (d : Nat) (Q : Outcome → MH → Prop) (J : Nat → KT) : KT :=
  i_aload 0 <|
  i_getR 1 4 <|
  i_const 5 <|
  i_newa 0 <|
  i_dup <|
  i_const 0 <|
  i_iload 1 <|
  i_iast <|
  i_dup <|
  i_const 1 <|
  i_iload 2 <|
  i_iast <|
  i_dup <|
  i_const 2 <|
  i_iload 3 <|
  i_iast <|
  i_dup <|
  i_const 3 <|
  i_iload 4 <|
  i_iast <|
  i_dup <|
  i_const 4 <|
  i_iload 5 <|
  i_iast <|
  i_call mX3_add d 2 (pV 3) (xOut Q) <|
  i_ret Q (some .int)
theorem kX1_feed_0 {d : Nat} {Q : Outcome → MH → Prop} : ∀ ls st h, tX1_feed_0 d Q (fun pc ls st h => WPb mX1_feed d pc ls st h Q) ls st h → WPb mX1_feed d 0 ls st h Q :=
  r_aload_n (k := 0) dX1_feed_0 rfl <|
  r_getR (ci := 1) (q := (RX1, TX1, 13)) (k := 4) dX1_feed_1 (by decide) rfl in_X1 (by decide) (Or.inl q472) rfl <|
  r_iconst (v := 5) dX1_feed_4 rfl <|
  r_newa (t := 0) (at9 := .int) (ty := .int) (by decide) rfl rfl q310 (by decide) dX1_feed_5 <|
  r_dup dX1_feed_7 <|
  r_iconst (v := 0) dX1_feed_8 rfl <|
  r_iload_n (k := 1) dX1_feed_9 rfl <|
  r_iast dX1_feed_10 <|
  r_dup dX1_feed_11 <|
  r_iconst (v := 1) dX1_feed_12 rfl <|
  r_iload_n (k := 2) dX1_feed_13 rfl <|
  r_iast dX1_feed_14 <|
  r_dup dX1_feed_15 <|
  r_iconst (v := 2) dX1_feed_16 rfl <|
  r_iload_n (k := 3) dX1_feed_17 rfl <|
  r_iast dX1_feed_18 <|
  r_dup dX1_feed_19 <|
  r_iconst (v := 3) dX1_feed_20 rfl <|
  r_iload dX1_feed_21 <|
  r_iast dX1_feed_23 <|
  r_dup dX1_feed_24 <|
  r_iconst (v := 4) dX1_feed_25 rfl <|
  r_iload dX1_feed_26 <|
  r_iast dX1_feed_28 <|
  r_cV (Z := mX3_add) (ci := 3) (q := (RX3, TX3, 7)) dX1_feed_29 rfl (by decide +kernel) ⟨by decide, by decide⟩ (by decide) rfl rfl q512 q513 q514 q119 q515 (XS.out (noH _)) <|
  r_ret rfl (Or.inl ⟨dX1_feed_32, Or.inl rfl⟩)
-- CheekTown.end(I)Z cuts [0]
def tX1_end_0 (d : Nat) (Q : Outcome → MH → Prop) (J : Nat → KT) : KT :=
  i_aload 0 <|
  i_getR 1 4 <|
  i_iload 1 <|
  i_call mX3_cut d 2 (pV 3) (xOut Q) <|
  i_ret Q (some .boolean)
theorem kX1_end_0 {d : Nat} {Q : Outcome → MH → Prop} : ∀ ls st h, tX1_end_0 d Q (fun pc ls st h => WPb mX1_end d pc ls st h Q) ls st h → WPb mX1_end d 0 ls st h Q :=
  r_aload_n (k := 0) dX1_end_0 rfl <|
  r_getR (ci := 1) (q := (RX1, TX1, 13)) (k := 4) dX1_end_1 (by decide) rfl in_X1 (by decide) (Or.inl q472) rfl <|
  r_iload_n (k := 1) dX1_end_4 rfl <|
  r_cV (Z := mX3_cut) (ci := 3) (q := (RX3, TX3, 7)) dX1_end_5 rfl (by decide +kernel) ⟨by decide, by decide⟩ (by decide) rfl rfl q520 q521 q522 q119 q523 (XS.out (noH _)) <|
  r_ret rfl (Or.inl ⟨dX1_end_8, Or.inr (Or.inl rfl)⟩)
-- CheekTown.fault()I cuts [0]
def tX1_fault_0 (d : Nat) (Q : Outcome → MH → Prop) (J : Nat → KT) : KT :=
  i_aload 0 <|
  i_getR 1 4 <|
  i_getI 3 5 <|
  i_ret Q (some .int)
theorem kX1_fault_0 {d : Nat} {Q : Outcome → MH → Prop} : ∀ ls st h, tX1_fault_0 d Q (fun pc ls st h => WPb mX1_fault d pc ls st h Q) ls st h → WPb mX1_fault d 0 ls st h Q :=
  r_aload_n (k := 0) dX1_fault_0 rfl <|
  r_getR (ci := 1) (q := (RX1, TX1, 13)) (k := 4) dX1_fault_1 (by decide) rfl in_X1 (by decide) (Or.inl q472) rfl <|
  r_getI (ci := 3) (q := (RX3, TX3, 7)) (k := 5) dX1_fault_4 (by decide) rfl in_X3 (by decide) (Or.inr (Or.inl ⟨_, q327⟩)) rfl <|
  r_ret rfl (Or.inl ⟨dX1_fault_7, Or.inl rfl⟩)
-- CheekTown.safest(Z)I cuts [0, 4]
def tX1_safest_0 (d : Nat) (Q : Outcome → MH → Prop) (J : Nat → KT) : KT :=
  i_const 0 <|
  i_istore 2 <|
  i_const 1 <|
  i_istore 3 <|
  (J 4)
theorem kX1_safest_0 {d : Nat} {Q : Outcome → MH → Prop} : ∀ ls st h, tX1_safest_0 d Q (fun pc ls st h => WPb mX1_safest d pc ls st h Q) ls st h → WPb mX1_safest d 0 ls st h Q :=
  r_iconst (v := 0) dX1_safest_0 rfl <|
  r_istore_n (k := 2) dX1_safest_1 rfl <|
  r_iconst (v := 1) dX1_safest_2 rfl <|
  r_istore_n (k := 3) dX1_safest_3 rfl <|
  (fun _ _ _ H => H)
def tX1_safest_4 (d : Nat) (Q : Outcome → MH → Prop) (J : Nat → KT) : KT :=
  i_iload 3 <|
  i_const 32 <|
  i_icmp_ge
  (i_iload 1 <|
  i_if_eq
  (i_iload 2 <|
  i_ret Q (some .int))
  (i_aload 0 <|
  i_iload 2 <|
  i_call mX1_worst d 2 (pV 1) (xOut Q) <|
  i_ret Q (some .int)))
  (i_aload 0 <|
  i_iload 3 <|
  i_call mX1_worst d 2 (pV 1) (xOut Q) <|
  i_aload 0 <|
  i_iload 2 <|
  i_call mX1_worst d 2 (pV 1) (xOut Q) <|
  i_icmp_ge
  (i_iinc 3 1 <|
  (J 4))
  (i_iload 3 <|
  i_istore 2 <|
  i_iinc 3 1 <|
  (J 4)))
theorem kX1_safest_4 {d : Nat} {Q : Outcome → MH → Prop} : ∀ ls st h, tX1_safest_4 d Q (fun pc ls st h => WPb mX1_safest d pc ls st h Q) ls st h → WPb mX1_safest d 4 ls st h Q :=
  r_iload_n (k := 3) dX1_safest_4 rfl <|
  r_bipush (v := 32) dX1_safest_5 rfl <|
  r_icmp_ge (pt := 31) dX1_safest_7 (by decide)
  (r_iload_n (k := 1) dX1_safest_31 rfl <|
  r_if_eq (pt := 43) dX1_safest_32 (by decide)
  (r_iload_n (k := 2) dX1_safest_43 rfl <|
  r_ret rfl (Or.inl ⟨dX1_safest_44, Or.inl rfl⟩))
  (r_aload_n (k := 0) dX1_safest_35 rfl <|
  r_iload_n (k := 2) dX1_safest_36 rfl <|
  r_cV (Z := mX1_worst) (ci := 1) (q := (RX1, TX1, 13)) dX1_safest_37 rfl (by decide +kernel) ⟨by decide, by decide⟩ (by decide) rfl rfl q532 q534 qs0 q117 q535 (XS.out (noH _)) <|
  r_goto (pt := 44) dX1_safest_40 (by decide) <|
  r_ret rfl (Or.inl ⟨dX1_safest_44, Or.inl rfl⟩)))
  (r_aload_n (k := 0) dX1_safest_10 rfl <|
  r_iload_n (k := 3) dX1_safest_11 rfl <|
  r_cV (Z := mX1_worst) (ci := 1) (q := (RX1, TX1, 13)) dX1_safest_12 rfl (by decide +kernel) ⟨by decide, by decide⟩ (by decide) rfl rfl q532 q534 qs0 q117 q535 (XS.out (noH _)) <|
  r_aload_n (k := 0) dX1_safest_15 rfl <|
  r_iload_n (k := 2) dX1_safest_16 rfl <|
  r_cV (Z := mX1_worst) (ci := 1) (q := (RX1, TX1, 13)) dX1_safest_17 rfl (by decide +kernel) ⟨by decide, by decide⟩ (by decide) rfl rfl q532 q534 qs0 q117 q535 (XS.out (noH _)) <|
  r_icmp_ge (pt := 25) dX1_safest_20 (by decide)
  (r_iinc (v := 1) dX1_safest_25 rfl <|
  r_goto (pt := 4) dX1_safest_28 (by decide) <|
  (fun _ _ _ H => H))
  (r_iload_n (k := 3) dX1_safest_23 rfl <|
  r_istore_n (k := 2) dX1_safest_24 rfl <|
  r_iinc (v := 1) dX1_safest_25 rfl <|
  r_goto (pt := 4) dX1_safest_28 (by decide) <|
  (fun _ _ _ H => H)))
-- CheekTown.worst(I)I cuts [0, 4]
def tX1_worst_0 (d : Nat) (Q : Outcome → MH → Prop) (J : Nat → KT) : KT :=
  i_const 0 <|
  i_istore 2 <|
  i_const 0 <|
  i_istore 3 <|
  (J 4)
theorem kX1_worst_0 {d : Nat} {Q : Outcome → MH → Prop} : ∀ ls st h, tX1_worst_0 d Q (fun pc ls st h => WPb mX1_worst d pc ls st h Q) ls st h → WPb mX1_worst d 0 ls st h Q :=
  r_iconst (v := 0) dX1_worst_0 rfl <|
  r_istore_n (k := 2) dX1_worst_1 rfl <|
  r_iconst (v := 0) dX1_worst_2 rfl <|
  r_istore_n (k := 3) dX1_worst_3 rfl <|
  (fun _ _ _ H => H)
def tX1_worst_4 (d : Nat) (Q : Outcome → MH → Prop) (J : Nat → KT) : KT :=
  i_iload 3 <|
  i_aload 0 <|
  i_getR 1 0 <|
  i_getI 2 2 <|
  i_icmp_ge
  (i_iload 2 <|
  i_ret Q (some .int))
  (i_iload 2 <|
  i_aload 0 <|
  i_getR 1 0 <|
  i_iload 1 <|
  i_aload 0 <|
  i_getR 1 0 <|
  i_getR 2 16 <|
  i_iload 3 <|
  i_iald <|
  i_call mX2_cost d 3 (pV 2) (xOut Q) <|
  i_mmax d <|
  i_istore 2 <|
  i_iinc 3 1 <|
  (J 4))
theorem kX1_worst_4 {d : Nat} {Q : Outcome → MH → Prop} : ∀ ls st h, tX1_worst_4 d Q (fun pc ls st h => WPb mX1_worst d pc ls st h Q) ls st h → WPb mX1_worst d 4 ls st h Q :=
  r_iload_n (k := 3) dX1_worst_4 rfl <|
  r_aload_n (k := 0) dX1_worst_5 rfl <|
  r_getR (ci := 1) (q := (RX1, TX1, 13)) (k := 0) dX1_worst_6 (by decide) rfl in_X1 (by decide) (Or.inl q465) rfl <|
  r_getI (ci := 2) (q := (RX2, TX2, 31)) (k := 2) dX1_worst_9 (by decide) rfl in_X2 (by decide) (Or.inr (Or.inl ⟨_, q183⟩)) rfl <|
  r_icmp_ge (pt := 43) dX1_worst_12 (by decide)
  (r_iload_n (k := 2) dX1_worst_43 rfl <|
  r_ret rfl (Or.inl ⟨dX1_worst_44, Or.inl rfl⟩))
  (r_iload_n (k := 2) dX1_worst_15 rfl <|
  r_aload_n (k := 0) dX1_worst_16 rfl <|
  r_getR (ci := 1) (q := (RX1, TX1, 13)) (k := 0) dX1_worst_17 (by decide) rfl in_X1 (by decide) (Or.inl q465) rfl <|
  r_iload_n (k := 1) dX1_worst_20 rfl <|
  r_aload_n (k := 0) dX1_worst_21 rfl <|
  r_getR (ci := 1) (q := (RX1, TX1, 13)) (k := 0) dX1_worst_22 (by decide) rfl in_X1 (by decide) (Or.inl q465) rfl <|
  r_getR (ci := 2) (q := (RX2, TX2, 31)) (k := 16) dX1_worst_25 (by decide) rfl in_X2 (by decide) (Or.inr (Or.inl ⟨_, q214⟩)) rfl <|
  r_iload_n (k := 3) dX1_worst_28 rfl <|
  r_iald dX1_worst_29 <|
  r_cV (Z := mX2_cost) (ci := 2) (q := (RX2, TX2, 31)) dX1_worst_30 rfl (by decide +kernel) ⟨by decide, by decide⟩ (by decide) rfl rfl q536 q537 q538 q118 q539 (XS.out (noH _)) <|
  r_mmax dX1_worst_33 q560 q561 q134 q562 <|
  r_istore_n (k := 2) dX1_worst_36 rfl <|
  r_iinc (v := 1) dX1_worst_37 rfl <|
  r_goto (pt := 4) dX1_worst_40 (by decide) <|
  (fun _ _ _ H => H))
-- CheekTown.isOf(LCheekTown$Kind;I)Z cuts [0]
def tX1_isOf_0 (d : Nat) (Q : Outcome → MH → Prop) (J : Nat → KT) : KT :=
  i_iload 1 <|
  i_const 8 <|
  i_idiv <|
  i_aload 0 <|
  i_call mJ17_ordinal d 1 (pV 10) (xOut Q) <|
  i_icmp_ne
  (i_const 0 <|
  i_ret Q (some .boolean))
  (i_const 1 <|
  i_ret Q (some .boolean))
theorem kX1_isOf_0 {d : Nat} {Q : Outcome → MH → Prop} : ∀ ls st h, tX1_isOf_0 d Q (fun pc ls st h => WPb mX1_isOf d pc ls st h Q) ls st h → WPb mX1_isOf d 0 ls st h Q :=
  r_iload_n (k := 1) dX1_isOf_0 rfl <|
  r_bipush (v := 8) dX1_isOf_1 rfl <|
  r_idiv dX1_isOf_3 <|
  r_aload_n (k := 0) dX1_isOf_4 rfl <|
  r_cU (Z := mJ17_ordinal) (n := 0) (ci := 10) (q := (RX10, cx_TK, 2)) (owner := "java/lang/Enum") (x := ⟨"CheekTown$Kind", "ordinal", "()I"⟩) dX1_isOf_5 rfl (by decide +kernel) ⟨by decide, by decide⟩ (by decide) rfl rfl q545 q546 q548 q549 q145 q550 (XS.out (noH _)) <|
  r_icmp_ne (pt := 15) dX1_isOf_8 (by decide)
  (r_iconst (v := 0) dX1_isOf_15 rfl <|
  r_ret rfl (Or.inl ⟨dX1_isOf_16, Or.inr (Or.inl rfl)⟩))
  (r_iconst (v := 1) dX1_isOf_11 rfl <|
  r_goto (pt := 16) dX1_isOf_12 (by decide) <|
  r_ret rfl (Or.inl ⟨dX1_isOf_16, Or.inr (Or.inl rfl)⟩))
-- CheekTown.side(I)I cuts [0]
def tX1_side_0 (d : Nat) (Q : Outcome → MH → Prop) (J : Nat → KT) : KT :=
  i_iload 0 <|
  i_const 2 <|
  i_irem <|
  i_ret Q (some .int)
theorem kX1_side_0 {d : Nat} {Q : Outcome → MH → Prop} : ∀ ls st h, tX1_side_0 d Q (fun pc ls st h => WPb mX1_side d pc ls st h Q) ls st h → WPb mX1_side d 0 ls st h Q :=
  r_iload_n (k := 0) dX1_side_0 rfl <|
  r_iconst (v := 2) dX1_side_1 rfl <|
  r_irem dX1_side_2 <|
  r_ret rfl (Or.inl ⟨dX1_side_3, Or.inl rfl⟩)
-- CheekTown.times(I)I cuts [0]
def tX1_times_0 (d : Nat) (Q : Outcome → MH → Prop) (J : Nat → KT) : KT :=
  i_iload 0 <|
  i_const 2 <|
  i_idiv <|
  i_const 4 <|
  i_irem <|
  i_const 1 <|
  i_iadd <|
  i_ret Q (some .int)
theorem kX1_times_0 {d : Nat} {Q : Outcome → MH → Prop} : ∀ ls st h, tX1_times_0 d Q (fun pc ls st h => WPb mX1_times d pc ls st h Q) ls st h → WPb mX1_times d 0 ls st h Q :=
  r_iload_n (k := 0) dX1_times_0 rfl <|
  r_iconst (v := 2) dX1_times_1 rfl <|
  r_idiv dX1_times_2 <|
  r_iconst (v := 4) dX1_times_3 rfl <|
  r_irem dX1_times_4 <|
  r_iconst (v := 1) dX1_times_5 rfl <|
  r_iadd dX1_times_6 <|
  r_ret rfl (Or.inl ⟨dX1_times_7, Or.inl rfl⟩)
-- CheekTown.worth()I cuts [0, 8, 34]
def tX1_worth_0 (d : Nat) (Q : Outcome → MH → Prop) (J : Nat → KT) : KT :=
  i_aload 0 <|
  i_const 0 <|
  i_call mX1_blindly d 2 (pV 1) (xOut Q) <|
  i_istore 1 <|
  i_const 1 <|
  i_istore 2 <|
  (J 8)
theorem kX1_worth_0 {d : Nat} {Q : Outcome → MH → Prop} : ∀ ls st h, tX1_worth_0 d Q (fun pc ls st h => WPb mX1_worth d pc ls st h Q) ls st h → WPb mX1_worth d 0 ls st h Q :=
  r_aload_n (k := 0) dX1_worth_0 rfl <|
  r_iconst (v := 0) dX1_worth_1 rfl <|
  r_cV (Z := mX1_blindly) (ci := 1) (q := (RX1, TX1, 13)) dX1_worth_2 rfl (by decide +kernel) ⟨by decide, by decide⟩ (by decide) rfl rfl q567 q569 qs1 q117 q570 (XS.out (noH _)) <|
  r_istore_n (k := 1) dX1_worth_5 rfl <|
  r_iconst (v := 1) dX1_worth_6 rfl <|
  r_istore_n (k := 2) dX1_worth_7 rfl <|
  (fun _ _ _ H => H)
def tX1_worth_8 (d : Nat) (Q : Outcome → MH → Prop) (J : Nat → KT) : KT :=
  i_iload 2 <|
  i_const 32 <|
  i_icmp_ge
  (i_const 0 <|
  i_istore 2 <|
  i_const 0 <|
  i_istore 3 <|
  (J 34))
  (i_iload 1 <|
  i_aload 0 <|
  i_iload 2 <|
  i_call mX1_blindly d 2 (pV 1) (xOut Q) <|
  i_mmin d <|
  i_istore 1 <|
  i_iinc 2 1 <|
  (J 8))
theorem kX1_worth_8 {d : Nat} {Q : Outcome → MH → Prop} : ∀ ls st h, tX1_worth_8 d Q (fun pc ls st h => WPb mX1_worth d pc ls st h Q) ls st h → WPb mX1_worth d 8 ls st h Q :=
  r_iload_n (k := 2) dX1_worth_8 rfl <|
  r_bipush (v := 32) dX1_worth_9 rfl <|
  r_icmp_ge (pt := 30) dX1_worth_11 (by decide)
  (r_iconst (v := 0) dX1_worth_30 rfl <|
  r_istore_n (k := 2) dX1_worth_31 rfl <|
  r_iconst (v := 0) dX1_worth_32 rfl <|
  r_istore_n (k := 3) dX1_worth_33 rfl <|
  (fun _ _ _ H => H))
  (r_iload_n (k := 1) dX1_worth_14 rfl <|
  r_aload_n (k := 0) dX1_worth_15 rfl <|
  r_iload_n (k := 2) dX1_worth_16 rfl <|
  r_cV (Z := mX1_blindly) (ci := 1) (q := (RX1, TX1, 13)) dX1_worth_17 rfl (by decide +kernel) ⟨by decide, by decide⟩ (by decide) rfl rfl q567 q569 qs1 q117 q570 (XS.out (noH _)) <|
  r_mmin dX1_worth_20 q579 q580 q134 q581 <|
  r_istore_n (k := 1) dX1_worth_23 rfl <|
  r_iinc (v := 1) dX1_worth_24 rfl <|
  r_goto (pt := 8) dX1_worth_27 (by decide) <|
  (fun _ _ _ H => H))
def tX1_worth_34 (d : Nat) (Q : Outcome → MH → Prop) (J : Nat → KT) : KT :=
  i_iload 3 <|
  i_aload 0 <|
  i_getR 1 0 <|
  i_getI 2 1 <|
  i_icmp_ge
  (i_iload 1 <|
  i_iload 2 <|
  i_isub <|
  i_ret Q (some .int))
  (i_iload 2 <|
  i_aload 0 <|
  i_iload 3 <|
  i_call mX1_peopleOf d 2 (pV 1) (xOut Q) <|
  i_aload 0 <|
  i_iload 3 <|
  i_aload 0 <|
  i_iload 3 <|
  i_call mX1_bestIn d 2 (pV 1) (xOut Q) <|
  i_call mX1_expects d 3 (pV 1) (xOut Q) <|
  i_imul <|
  i_iadd <|
  i_istore 2 <|
  i_iinc 3 1 <|
  (J 34))
theorem kX1_worth_34 {d : Nat} {Q : Outcome → MH → Prop} : ∀ ls st h, tX1_worth_34 d Q (fun pc ls st h => WPb mX1_worth d pc ls st h Q) ls st h → WPb mX1_worth d 34 ls st h Q :=
  r_iload_n (k := 3) dX1_worth_34 rfl <|
  r_aload_n (k := 0) dX1_worth_35 rfl <|
  r_getR (ci := 1) (q := (RX1, TX1, 13)) (k := 0) dX1_worth_36 (by decide) rfl in_X1 (by decide) (Or.inl q465) rfl <|
  r_getI (ci := 2) (q := (RX2, TX2, 31)) (k := 1) dX1_worth_39 (by decide) rfl in_X2 (by decide) (Or.inr (Or.inl ⟨_, q181⟩)) rfl <|
  r_icmp_ge (pt := 70) dX1_worth_42 (by decide)
  (r_iload_n (k := 1) dX1_worth_70 rfl <|
  r_iload_n (k := 2) dX1_worth_71 rfl <|
  r_isub dX1_worth_72 <|
  r_ret rfl (Or.inl ⟨dX1_worth_73, Or.inl rfl⟩))
  (r_iload_n (k := 2) dX1_worth_45 rfl <|
  r_aload_n (k := 0) dX1_worth_46 rfl <|
  r_iload_n (k := 3) dX1_worth_47 rfl <|
  r_cV (Z := mX1_peopleOf) (ci := 1) (q := (RX1, TX1, 13)) dX1_worth_48 rfl (by decide +kernel) ⟨by decide, by decide⟩ (by decide) rfl rfl q571 q573 qs2 q117 q574 (XS.out (noH _)) <|
  r_aload_n (k := 0) dX1_worth_51 rfl <|
  r_iload_n (k := 3) dX1_worth_52 rfl <|
  r_aload_n (k := 0) dX1_worth_53 rfl <|
  r_iload_n (k := 3) dX1_worth_54 rfl <|
  r_cV (Z := mX1_bestIn) (ci := 1) (q := (RX1, TX1, 13)) dX1_worth_55 rfl (by decide +kernel) ⟨by decide, by decide⟩ (by decide) rfl rfl q582 q584 qs4 q117 q585 (XS.out (noH _)) <|
  r_cV (Z := mX1_expects) (ci := 1) (q := (RX1, TX1, 13)) dX1_worth_58 rfl (by decide +kernel) ⟨by decide, by decide⟩ (by decide) rfl rfl q575 q577 qs3 q117 q578 (XS.out (noH _)) <|
  r_imul dX1_worth_61 <|
  r_iadd dX1_worth_62 <|
  r_istore_n (k := 2) dX1_worth_63 rfl <|
  r_iinc (v := 1) dX1_worth_64 rfl <|
  r_goto (pt := 34) dX1_worth_67 (by decide) <|
  (fun _ _ _ H => H))
-- CheekTown.blindly(I)I cuts [0, 4]
def tX1_blindly_0 (d : Nat) (Q : Outcome → MH → Prop) (J : Nat → KT) : KT :=
  i_const 0 <|
  i_istore 2 <|
  i_const 0 <|
  i_istore 3 <|
  (J 4)
theorem kX1_blindly_0 {d : Nat} {Q : Outcome → MH → Prop} : ∀ ls st h, tX1_blindly_0 d Q (fun pc ls st h => WPb mX1_blindly d pc ls st h Q) ls st h → WPb mX1_blindly d 0 ls st h Q :=
  r_iconst (v := 0) dX1_blindly_0 rfl <|
  r_istore_n (k := 2) dX1_blindly_1 rfl <|
  r_iconst (v := 0) dX1_blindly_2 rfl <|
  r_istore_n (k := 3) dX1_blindly_3 rfl <|
  (fun _ _ _ H => H)
def tX1_blindly_4 (d : Nat) (Q : Outcome → MH → Prop) (J : Nat → KT) : KT :=
  i_iload 3 <|
  i_aload 0 <|
  i_getR 1 0 <|
  i_getI 2 1 <|
  i_icmp_ge
  (i_iload 2 <|
  i_ret Q (some .int))
  (i_iload 2 <|
  i_aload 0 <|
  i_iload 3 <|
  i_call mX1_peopleOf d 2 (pV 1) (xOut Q) <|
  i_aload 0 <|
  i_iload 3 <|
  i_iload 1 <|
  i_call mX1_expects d 3 (pV 1) (xOut Q) <|
  i_imul <|
  i_iadd <|
  i_istore 2 <|
  i_iinc 3 1 <|
  (J 4))
theorem kX1_blindly_4 {d : Nat} {Q : Outcome → MH → Prop} : ∀ ls st h, tX1_blindly_4 d Q (fun pc ls st h => WPb mX1_blindly d pc ls st h Q) ls st h → WPb mX1_blindly d 4 ls st h Q :=
  r_iload_n (k := 3) dX1_blindly_4 rfl <|
  r_aload_n (k := 0) dX1_blindly_5 rfl <|
  r_getR (ci := 1) (q := (RX1, TX1, 13)) (k := 0) dX1_blindly_6 (by decide) rfl in_X1 (by decide) (Or.inl q465) rfl <|
  r_getI (ci := 2) (q := (RX2, TX2, 31)) (k := 1) dX1_blindly_9 (by decide) rfl in_X2 (by decide) (Or.inr (Or.inl ⟨_, q181⟩)) rfl <|
  r_icmp_ge (pt := 36) dX1_blindly_12 (by decide)
  (r_iload_n (k := 2) dX1_blindly_36 rfl <|
  r_ret rfl (Or.inl ⟨dX1_blindly_37, Or.inl rfl⟩))
  (r_iload_n (k := 2) dX1_blindly_15 rfl <|
  r_aload_n (k := 0) dX1_blindly_16 rfl <|
  r_iload_n (k := 3) dX1_blindly_17 rfl <|
  r_cV (Z := mX1_peopleOf) (ci := 1) (q := (RX1, TX1, 13)) dX1_blindly_18 rfl (by decide +kernel) ⟨by decide, by decide⟩ (by decide) rfl rfl q571 q573 qs2 q117 q574 (XS.out (noH _)) <|
  r_aload_n (k := 0) dX1_blindly_21 rfl <|
  r_iload_n (k := 3) dX1_blindly_22 rfl <|
  r_iload_n (k := 1) dX1_blindly_23 rfl <|
  r_cV (Z := mX1_expects) (ci := 1) (q := (RX1, TX1, 13)) dX1_blindly_24 rfl (by decide +kernel) ⟨by decide, by decide⟩ (by decide) rfl rfl q575 q577 qs3 q117 q578 (XS.out (noH _)) <|
  r_imul dX1_blindly_27 <|
  r_iadd dX1_blindly_28 <|
  r_istore_n (k := 2) dX1_blindly_29 rfl <|
  r_iinc (v := 1) dX1_blindly_30 rfl <|
  r_goto (pt := 4) dX1_blindly_33 (by decide) <|
  (fun _ _ _ H => H))
-- CheekTown.peopleOf(I)I cuts [0, 4]
def tX1_peopleOf_0 (d : Nat) (Q : Outcome → MH → Prop) (J : Nat → KT) : KT :=
  i_const 0 <|
  i_istore 2 <|
  i_const 0 <|
  i_istore 3 <|
  (J 4)
theorem kX1_peopleOf_0 {d : Nat} {Q : Outcome → MH → Prop} : ∀ ls st h, tX1_peopleOf_0 d Q (fun pc ls st h => WPb mX1_peopleOf d pc ls st h Q) ls st h → WPb mX1_peopleOf d 0 ls st h Q :=
  r_iconst (v := 0) dX1_peopleOf_0 rfl <|
  r_istore_n (k := 2) dX1_peopleOf_1 rfl <|
  r_iconst (v := 0) dX1_peopleOf_2 rfl <|
  r_istore_n (k := 3) dX1_peopleOf_3 rfl <|
  (fun _ _ _ H => H)
def tX1_peopleOf_4 (d : Nat) (Q : Outcome → MH → Prop) (J : Nat → KT) : KT :=
  i_iload 3 <|
  i_aload 0 <|
  i_getR 1 0 <|
  i_getI 2 3 <|
  i_icmp_ge
  (i_iload 2 <|
  i_ret Q (some .int))
  (i_iload 2 <|
  i_aload 0 <|
  i_getR 1 0 <|
  i_getR 2 18 <|
  i_iload 3 <|
  i_iald <|
  i_iload 1 <|
  i_icmp_ne
  (i_const 0 <|
  i_iadd <|
  i_istore 2 <|
  i_iinc 3 1 <|
  (J 4))
  (i_const 1 <|
  i_iadd <|
  i_istore 2 <|
  i_iinc 3 1 <|
  (J 4)))
theorem kX1_peopleOf_4 {d : Nat} {Q : Outcome → MH → Prop} : ∀ ls st h, tX1_peopleOf_4 d Q (fun pc ls st h => WPb mX1_peopleOf d pc ls st h Q) ls st h → WPb mX1_peopleOf d 4 ls st h Q :=
  r_iload_n (k := 3) dX1_peopleOf_4 rfl <|
  r_aload_n (k := 0) dX1_peopleOf_5 rfl <|
  r_getR (ci := 1) (q := (RX1, TX1, 13)) (k := 0) dX1_peopleOf_6 (by decide) rfl in_X1 (by decide) (Or.inl q465) rfl <|
  r_getI (ci := 2) (q := (RX2, TX2, 31)) (k := 3) dX1_peopleOf_9 (by decide) rfl in_X2 (by decide) (Or.inr (Or.inl ⟨_, q187⟩)) rfl <|
  r_icmp_ge (pt := 42) dX1_peopleOf_12 (by decide)
  (r_iload_n (k := 2) dX1_peopleOf_42 rfl <|
  r_ret rfl (Or.inl ⟨dX1_peopleOf_43, Or.inl rfl⟩))
  (r_iload_n (k := 2) dX1_peopleOf_15 rfl <|
  r_aload_n (k := 0) dX1_peopleOf_16 rfl <|
  r_getR (ci := 1) (q := (RX1, TX1, 13)) (k := 0) dX1_peopleOf_17 (by decide) rfl in_X1 (by decide) (Or.inl q465) rfl <|
  r_getR (ci := 2) (q := (RX2, TX2, 31)) (k := 18) dX1_peopleOf_20 (by decide) rfl in_X2 (by decide) (Or.inr (Or.inl ⟨_, q218⟩)) rfl <|
  r_iload_n (k := 3) dX1_peopleOf_23 rfl <|
  r_iald dX1_peopleOf_24 <|
  r_iload_n (k := 1) dX1_peopleOf_25 rfl <|
  r_icmp_ne (pt := 33) dX1_peopleOf_26 (by decide)
  (r_iconst (v := 0) dX1_peopleOf_33 rfl <|
  r_iadd dX1_peopleOf_34 <|
  r_istore_n (k := 2) dX1_peopleOf_35 rfl <|
  r_iinc (v := 1) dX1_peopleOf_36 rfl <|
  r_goto (pt := 4) dX1_peopleOf_39 (by decide) <|
  (fun _ _ _ H => H))
  (r_iconst (v := 1) dX1_peopleOf_29 rfl <|
  r_goto (pt := 34) dX1_peopleOf_30 (by decide) <|
  r_iadd dX1_peopleOf_34 <|
  r_istore_n (k := 2) dX1_peopleOf_35 rfl <|
  r_iinc (v := 1) dX1_peopleOf_36 rfl <|
  r_goto (pt := 4) dX1_peopleOf_39 (by decide) <|
  (fun _ _ _ H => H)))
-- CheekTown.expects(II)I cuts [0, 11]
def tX1_expects_0 (d : Nat) (Q : Outcome → MH → Prop) (J : Nat → KT) : KT :=
  i_aload 0 <|
  i_getR 1 0 <|
  i_astore 3 <|
  i_const 0 <|
  i_istore 4 <|
  i_const 0 <|
  i_istore 5 <|
  (J 11)
theorem kX1_expects_0 {d : Nat} {Q : Outcome → MH → Prop} : ∀ ls st h, tX1_expects_0 d Q (fun pc ls st h => WPb mX1_expects d pc ls st h Q) ls st h → WPb mX1_expects d 0 ls st h Q :=
  r_aload_n (k := 0) dX1_expects_0 rfl <|
  r_getR (ci := 1) (q := (RX1, TX1, 13)) (k := 0) dX1_expects_1 (by decide) rfl in_X1 (by decide) (Or.inl q465) rfl <|
  r_astore_n (k := 3) dX1_expects_4 rfl <|
  r_iconst (v := 0) dX1_expects_5 rfl <|
  r_istore dX1_expects_6 <|
  r_iconst (v := 0) dX1_expects_8 rfl <|
  r_istore dX1_expects_9 <|
  (fun _ _ _ H => H)
def tX1_expects_11 (d : Nat) (Q : Outcome → MH → Prop) (J : Nat → KT) : KT :=
  i_iload 5 <|
  i_aload 3 <|
  i_getI 2 2 <|
  i_icmp_ge
  (i_iload 4 <|
  i_ret Q (some .int))
  (i_iload 4 <|
  i_aload 3 <|
  i_getR 2 15 <|
  i_iload 5 <|
  i_iald <|
  i_iload 1 <|
  i_icmp_ne
  (i_const 0 <|
  i_iadd <|
  i_istore 4 <|
  i_iinc 5 1 <|
  (J 11))
  (i_aload 3 <|
  i_getR 2 17 <|
  i_iload 5 <|
  i_iald <|
  i_aload 3 <|
  i_iload 2 <|
  i_aload 3 <|
  i_getR 2 16 <|
  i_iload 5 <|
  i_iald <|
  i_call mX2_cost d 3 (pV 2) (xOut Q) <|
  i_imul <|
  i_iadd <|
  i_istore 4 <|
  i_iinc 5 1 <|
  (J 11)))
theorem kX1_expects_11 {d : Nat} {Q : Outcome → MH → Prop} : ∀ ls st h, tX1_expects_11 d Q (fun pc ls st h => WPb mX1_expects d pc ls st h Q) ls st h → WPb mX1_expects d 11 ls st h Q :=
  r_iload dX1_expects_11 <|
  r_aload_n (k := 3) dX1_expects_13 rfl <|
  r_getI (ci := 2) (q := (RX2, TX2, 31)) (k := 2) dX1_expects_14 (by decide) rfl in_X2 (by decide) (Or.inr (Or.inl ⟨_, q183⟩)) rfl <|
  r_icmp_ge (pt := 66) dX1_expects_17 (by decide)
  (r_iload dX1_expects_66 <|
  r_ret rfl (Or.inl ⟨dX1_expects_68, Or.inl rfl⟩))
  (r_iload dX1_expects_20 <|
  r_aload_n (k := 3) dX1_expects_22 rfl <|
  r_getR (ci := 2) (q := (RX2, TX2, 31)) (k := 15) dX1_expects_23 (by decide) rfl in_X2 (by decide) (Or.inr (Or.inl ⟨_, q212⟩)) rfl <|
  r_iload dX1_expects_26 <|
  r_iald dX1_expects_28 <|
  r_iload_n (k := 1) dX1_expects_29 rfl <|
  r_icmp_ne (pt := 56) dX1_expects_30 (by decide)
  (r_iconst (v := 0) dX1_expects_56 rfl <|
  r_iadd dX1_expects_57 <|
  r_istore dX1_expects_58 <|
  r_iinc (v := 1) dX1_expects_60 rfl <|
  r_goto (pt := 11) dX1_expects_63 (by decide) <|
  (fun _ _ _ H => H))
  (r_aload_n (k := 3) dX1_expects_33 rfl <|
  r_getR (ci := 2) (q := (RX2, TX2, 31)) (k := 17) dX1_expects_34 (by decide) rfl in_X2 (by decide) (Or.inr (Or.inl ⟨_, q216⟩)) rfl <|
  r_iload dX1_expects_37 <|
  r_iald dX1_expects_39 <|
  r_aload_n (k := 3) dX1_expects_40 rfl <|
  r_iload_n (k := 2) dX1_expects_41 rfl <|
  r_aload_n (k := 3) dX1_expects_42 rfl <|
  r_getR (ci := 2) (q := (RX2, TX2, 31)) (k := 16) dX1_expects_43 (by decide) rfl in_X2 (by decide) (Or.inr (Or.inl ⟨_, q214⟩)) rfl <|
  r_iload dX1_expects_46 <|
  r_iald dX1_expects_48 <|
  r_cV (Z := mX2_cost) (ci := 2) (q := (RX2, TX2, 31)) dX1_expects_49 rfl (by decide +kernel) ⟨by decide, by decide⟩ (by decide) rfl rfl q536 q537 q538 q118 q539 (XS.out (noH _)) <|
  r_imul dX1_expects_52 <|
  r_goto (pt := 57) dX1_expects_53 (by decide) <|
  r_iadd dX1_expects_57 <|
  r_istore dX1_expects_58 <|
  r_iinc (v := 1) dX1_expects_60 rfl <|
  r_goto (pt := 11) dX1_expects_63 (by decide) <|
  (fun _ _ _ H => H)))
-- CheekTown.bestIn(I)I cuts [0, 4]
def tX1_bestIn_0 (d : Nat) (Q : Outcome → MH → Prop) (J : Nat → KT) : KT :=
  i_const 0 <|
  i_istore 2 <|
  i_const 1 <|
  i_istore 3 <|
  (J 4)
theorem kX1_bestIn_0 {d : Nat} {Q : Outcome → MH → Prop} : ∀ ls st h, tX1_bestIn_0 d Q (fun pc ls st h => WPb mX1_bestIn d pc ls st h Q) ls st h → WPb mX1_bestIn d 0 ls st h Q :=
  r_iconst (v := 0) dX1_bestIn_0 rfl <|
  r_istore_n (k := 2) dX1_bestIn_1 rfl <|
  r_iconst (v := 1) dX1_bestIn_2 rfl <|
  r_istore_n (k := 3) dX1_bestIn_3 rfl <|
  (fun _ _ _ H => H)
def tX1_bestIn_4 (d : Nat) (Q : Outcome → MH → Prop) (J : Nat → KT) : KT :=
  i_iload 3 <|
  i_const 32 <|
  i_icmp_ge
  (i_iload 2 <|
  i_ret Q (some .int))
  (i_aload 0 <|
  i_iload 1 <|
  i_iload 3 <|
  i_call mX1_expects d 3 (pV 1) (xOut Q) <|
  i_aload 0 <|
  i_iload 1 <|
  i_iload 2 <|
  i_call mX1_expects d 3 (pV 1) (xOut Q) <|
  i_icmp_ge
  (i_iinc 3 1 <|
  (J 4))
  (i_iload 3 <|
  i_istore 2 <|
  i_iinc 3 1 <|
  (J 4)))
theorem kX1_bestIn_4 {d : Nat} {Q : Outcome → MH → Prop} : ∀ ls st h, tX1_bestIn_4 d Q (fun pc ls st h => WPb mX1_bestIn d pc ls st h Q) ls st h → WPb mX1_bestIn d 4 ls st h Q :=
  r_iload_n (k := 3) dX1_bestIn_4 rfl <|
  r_bipush (v := 32) dX1_bestIn_5 rfl <|
  r_icmp_ge (pt := 33) dX1_bestIn_7 (by decide)
  (r_iload_n (k := 2) dX1_bestIn_33 rfl <|
  r_ret rfl (Or.inl ⟨dX1_bestIn_34, Or.inl rfl⟩))
  (r_aload_n (k := 0) dX1_bestIn_10 rfl <|
  r_iload_n (k := 1) dX1_bestIn_11 rfl <|
  r_iload_n (k := 3) dX1_bestIn_12 rfl <|
  r_cV (Z := mX1_expects) (ci := 1) (q := (RX1, TX1, 13)) dX1_bestIn_13 rfl (by decide +kernel) ⟨by decide, by decide⟩ (by decide) rfl rfl q575 q577 qs3 q117 q578 (XS.out (noH _)) <|
  r_aload_n (k := 0) dX1_bestIn_16 rfl <|
  r_iload_n (k := 1) dX1_bestIn_17 rfl <|
  r_iload_n (k := 2) dX1_bestIn_18 rfl <|
  r_cV (Z := mX1_expects) (ci := 1) (q := (RX1, TX1, 13)) dX1_bestIn_19 rfl (by decide +kernel) ⟨by decide, by decide⟩ (by decide) rfl rfl q575 q577 qs3 q117 q578 (XS.out (noH _)) <|
  r_icmp_ge (pt := 27) dX1_bestIn_22 (by decide)
  (r_iinc (v := 1) dX1_bestIn_27 rfl <|
  r_goto (pt := 4) dX1_bestIn_30 (by decide) <|
  (fun _ _ _ H => H))
  (r_iload_n (k := 3) dX1_bestIn_25 rfl <|
  r_istore_n (k := 2) dX1_bestIn_26 rfl <|
  r_iinc (v := 1) dX1_bestIn_27 rfl <|
  r_goto (pt := 4) dX1_bestIn_30 (by decide) <|
  (fun _ _ _ H => H)))
-- CheekTown.table(II)I cuts [0, 57]
def tX1_table_0 (d : Nat) (Q : Outcome → MH → Prop) (J : Nat → KT) : KT :=
  i_aload 0 <|
  i_iload 1 <|
  i_call mX1_allOf d 2 (pV 1) (xOut Q) <|
  i_istore 3 <|
  i_iload 3 <|
  i_call mJ16_bitCount d 1 pS (xOut Q) <|
  i_istore 4 <|
  i_iload 4 <|
  i_const 8 <|
  i_icmp_le
  (i_iload 4 <|
  i_if_ne
  (i_iload 2 <|
  i_const (-1) <|
  i_icmp_eq
  ((J 57))
  (i_iload 2 <|
  i_const 0 <|
  i_iload 4 <|
  i_const 1 <|
  i_isub <|
  i_call mX1_in d 3 pS (xOut Q) <|
  i_if_ne
  ((J 57))
  (i_const (-1) <|
  i_ret Q (some .int))))
  (i_iload 2 <|
  i_const (-1) <|
  i_icmp_ne
  (i_const (-1) <|
  i_ret Q (some .int))
  (i_const 0 <|
  i_ret Q (some .int))))
  (i_const (-3) <|
  i_ret Q (some .int))
theorem kX1_table_0 {d : Nat} {Q : Outcome → MH → Prop} : ∀ ls st h, tX1_table_0 d Q (fun pc ls st h => WPb mX1_table d pc ls st h Q) ls st h → WPb mX1_table d 0 ls st h Q :=
  r_aload_n (k := 0) dX1_table_0 rfl <|
  r_iload_n (k := 1) dX1_table_1 rfl <|
  r_cV (Z := mX1_allOf) (ci := 1) (q := (RX1, TX1, 13)) dX1_table_2 rfl (by decide +kernel) ⟨by decide, by decide⟩ (by decide) rfl rfl q590 q592 qs5 q117 q593 (XS.out (noH _)) <|
  r_istore_n (k := 3) dX1_table_5 rfl <|
  r_iload_n (k := 3) dX1_table_6 rfl <|
  r_cS (Z := mJ16_bitCount) dX1_table_7 rfl (by decide +kernel) ⟨by decide, by decide⟩ q594 q595 q143 q596 (XS.out (noH _)) <|
  r_istore dX1_table_10 <|
  r_iload dX1_table_12 <|
  r_bipush (v := 8) dX1_table_14 rfl <|
  r_icmp_le (pt := 22) dX1_table_16 (by decide)
  (r_iload dX1_table_22 <|
  r_if_ne (pt := 38) dX1_table_24 (by decide)
  (r_iload_n (k := 2) dX1_table_38 rfl <|
  r_iconst (v := (-1)) dX1_table_39 rfl <|
  r_icmp_eq (pt := 57) dX1_table_40 (by decide)
  ((fun _ _ _ H => H))
  (r_iload_n (k := 2) dX1_table_43 rfl <|
  r_iconst (v := 0) dX1_table_44 rfl <|
  r_iload dX1_table_45 <|
  r_iconst (v := 1) dX1_table_47 rfl <|
  r_isub dX1_table_48 <|
  r_cS (Z := mX1_in) dX1_table_49 rfl (by decide +kernel) ⟨by decide, by decide⟩ q600 q601 q117 q602 (XS.out (noH _)) <|
  r_if_ne (pt := 57) dX1_table_52 (by decide)
  ((fun _ _ _ H => H))
  (r_iconst (v := (-1)) dX1_table_55 rfl <|
  r_ret rfl (Or.inl ⟨dX1_table_56, Or.inl rfl⟩))))
  (r_iload_n (k := 2) dX1_table_27 rfl <|
  r_iconst (v := (-1)) dX1_table_28 rfl <|
  r_icmp_ne (pt := 36) dX1_table_29 (by decide)
  (r_iconst (v := (-1)) dX1_table_36 rfl <|
  r_ret rfl (Or.inl ⟨dX1_table_37, Or.inl rfl⟩))
  (r_iconst (v := 0) dX1_table_32 rfl <|
  r_goto (pt := 37) dX1_table_33 (by decide) <|
  r_ret rfl (Or.inl ⟨dX1_table_37, Or.inl rfl⟩))))
  (r_bipush (v := (-3)) dX1_table_19 rfl <|
  r_ret rfl (Or.inl ⟨dX1_table_21, Or.inl rfl⟩))
def tX1_table_57 (d : Nat) (Q : Outcome → MH → Prop) (J : Nat → KT) : KT :=
  i_aload 0 <|
  i_getR 1 9 <|
  i_iload 3 <|
  i_call mX5_seats d 2 (pV 5) (xOut Q) <|
  i_pop <|
  i_iload 2 <|
  i_const (-1) <|
  i_icmp_ne
  (i_aload 0 <|
  i_getR 1 9 <|
  i_iload 2 <|
  i_call mX5_sitter d 2 (pV 5) (xOut Q) <|
  i_ret Q (some .int))
  (i_aload 0 <|
  i_getR 1 9 <|
  i_const 1 <|
  i_const 0 <|
  i_call mX5_from d 3 (pV 5) (xOut Q) <|
  i_ret Q (some .int))
theorem kX1_table_57 {d : Nat} {Q : Outcome → MH → Prop} : ∀ ls st h, tX1_table_57 d Q (fun pc ls st h => WPb mX1_table d pc ls st h Q) ls st h → WPb mX1_table d 57 ls st h Q :=
  r_aload_n (k := 0) dX1_table_57 rfl <|
  r_getR (ci := 1) (q := (RX1, TX1, 13)) (k := 9) dX1_table_58 (by decide) rfl in_X1 (by decide) (Or.inl q477) rfl <|
  r_iload_n (k := 3) dX1_table_61 rfl <|
  r_cV (Z := mX5_seats) (ci := 5) (q := (RX5, TX5, 4)) dX1_table_62 rfl (by decide +kernel) ⟨by decide, by decide⟩ (by decide) rfl rfl q603 q604 q605 q124 q606 (XS.out (noH _)) <|
  r_pop dX1_table_65 <|
  r_iload_n (k := 2) dX1_table_66 rfl <|
  r_iconst (v := (-1)) dX1_table_67 rfl <|
  r_icmp_ne (pt := 83) dX1_table_68 (by decide)
  (r_aload_n (k := 0) dX1_table_83 rfl <|
  r_getR (ci := 1) (q := (RX1, TX1, 13)) (k := 9) dX1_table_84 (by decide) rfl in_X1 (by decide) (Or.inl q477) rfl <|
  r_iload_n (k := 2) dX1_table_87 rfl <|
  r_cV (Z := mX5_sitter) (ci := 5) (q := (RX5, TX5, 4)) dX1_table_88 rfl (by decide +kernel) ⟨by decide, by decide⟩ (by decide) rfl rfl q974 q975 q976 q124 q977 (XS.out (noH _)) <|
  r_ret rfl (Or.inl ⟨dX1_table_91, Or.inl rfl⟩))
  (r_aload_n (k := 0) dX1_table_71 rfl <|
  r_getR (ci := 1) (q := (RX1, TX1, 13)) (k := 9) dX1_table_72 (by decide) rfl in_X1 (by decide) (Or.inl q477) rfl <|
  r_iconst (v := 1) dX1_table_75 rfl <|
  r_iconst (v := 0) dX1_table_76 rfl <|
  r_cV (Z := mX5_from) (ci := 5) (q := (RX5, TX5, 4)) dX1_table_77 rfl (by decide +kernel) ⟨by decide, by decide⟩ (by decide) rfl rfl q950 q951 q952 q124 q953 (XS.out (noH _)) <|
  r_goto (pt := 91) dX1_table_80 (by decide) <|
  r_ret rfl (Or.inl ⟨dX1_table_91, Or.inl rfl⟩))
-- CheekTown.allOf(I)I cuts [0]
def tX1_allOf_0 (d : Nat) (Q : Outcome → MH → Prop) (J : Nat → KT) : KT :=
  i_iload 1 <|
  i_const 1 <|
  i_aload 0 <|
  i_getR 1 0 <|
  i_getI 2 3 <|
  i_ishl <|
  i_const 1 <|
  i_isub <|
  i_iand <|
  i_ret Q (some .int)
theorem kX1_allOf_0 {d : Nat} {Q : Outcome → MH → Prop} : ∀ ls st h, tX1_allOf_0 d Q (fun pc ls st h => WPb mX1_allOf d pc ls st h Q) ls st h → WPb mX1_allOf d 0 ls st h Q :=
  r_iload_n (k := 1) dX1_allOf_0 rfl <|
  r_iconst (v := 1) dX1_allOf_1 rfl <|
  r_aload_n (k := 0) dX1_allOf_2 rfl <|
  r_getR (ci := 1) (q := (RX1, TX1, 13)) (k := 0) dX1_allOf_3 (by decide) rfl in_X1 (by decide) (Or.inl q465) rfl <|
  r_getI (ci := 2) (q := (RX2, TX2, 31)) (k := 3) dX1_allOf_6 (by decide) rfl in_X2 (by decide) (Or.inr (Or.inl ⟨_, q187⟩)) rfl <|
  r_ishl dX1_allOf_9 <|
  r_iconst (v := 1) dX1_allOf_10 rfl <|
  r_isub dX1_allOf_11 <|
  r_iand dX1_allOf_12 <|
  r_ret rfl (Or.inl ⟨dX1_allOf_13, Or.inl rfl⟩)
-- CheekTown.in(III)Z cuts [0]
def tX1_in_0 (d : Nat) (Q : Outcome → MH → Prop) (J : Nat → KT) : KT :=
  i_iload 0 <|
  i_iload 1 <|
  i_icmp_lt
  (i_const 0 <|
  i_ret Q (some .boolean))
  (i_iload 0 <|
  i_iload 2 <|
  i_icmp_gt
  (i_const 0 <|
  i_ret Q (some .boolean))
  (i_const 1 <|
  i_ret Q (some .boolean)))
theorem kX1_in_0 {d : Nat} {Q : Outcome → MH → Prop} : ∀ ls st h, tX1_in_0 d Q (fun pc ls st h => WPb mX1_in d pc ls st h Q) ls st h → WPb mX1_in d 0 ls st h Q :=
  r_iload_n (k := 0) dX1_in_0 rfl <|
  r_iload_n (k := 1) dX1_in_1 rfl <|
  r_icmp_lt (pt := 14) dX1_in_2 (by decide)
  (r_iconst (v := 0) dX1_in_14 rfl <|
  r_ret rfl (Or.inl ⟨dX1_in_15, Or.inr (Or.inl rfl)⟩))
  (r_iload_n (k := 0) dX1_in_5 rfl <|
  r_iload_n (k := 2) dX1_in_6 rfl <|
  r_icmp_gt (pt := 14) dX1_in_7 (by decide)
  (r_iconst (v := 0) dX1_in_14 rfl <|
  r_ret rfl (Or.inl ⟨dX1_in_15, Or.inr (Or.inl rfl)⟩))
  (r_iconst (v := 1) dX1_in_10 rfl <|
  r_goto (pt := 15) dX1_in_11 (by decide) <|
  r_ret rfl (Or.inl ⟨dX1_in_15, Or.inr (Or.inl rfl)⟩)))
-- CheekTown.has(II)Z cuts [0]
def tX1_has_0 (d : Nat) (Q : Outcome → MH → Prop) (J : Nat → KT) : KT :=
  i_iload 0 <|
  i_iload 1 <|
  i_ishr <|
  i_const 1 <|
  i_iand <|
  i_const 1 <|
  i_icmp_ne
  (i_const 0 <|
  i_ret Q (some .boolean))
  (i_const 1 <|
  i_ret Q (some .boolean))
theorem kX1_has_0 {d : Nat} {Q : Outcome → MH → Prop} : ∀ ls st h, tX1_has_0 d Q (fun pc ls st h => WPb mX1_has d pc ls st h Q) ls st h → WPb mX1_has d 0 ls st h Q :=
  r_iload_n (k := 0) dX1_has_0 rfl <|
  r_iload_n (k := 1) dX1_has_1 rfl <|
  r_ishr dX1_has_2 <|
  r_iconst (v := 1) dX1_has_3 rfl <|
  r_iand dX1_has_4 <|
  r_iconst (v := 1) dX1_has_5 rfl <|
  r_icmp_ne (pt := 13) dX1_has_6 (by decide)
  (r_iconst (v := 0) dX1_has_13 rfl <|
  r_ret rfl (Or.inl ⟨dX1_has_14, Or.inr (Or.inl rfl)⟩))
  (r_iconst (v := 1) dX1_has_9 rfl <|
  r_goto (pt := 14) dX1_has_10 (by decide) <|
  r_ret rfl (Or.inl ⟨dX1_has_14, Or.inr (Or.inl rfl)⟩))
-- CheekTown.pairs(Z)I cuts [0, 24]
def tX1_pairs_0 (d : Nat) (Q : Outcome → MH → Prop) (J : Nat → KT) : KT :=
  i_aload 0 <|
  i_getR 1 10 <|
  i_call mX6_anew d 1 (pV 6) (xOut Q) <|
  i_astore 2 <|
  i_iload 1 <|
  i_if_ne
  (i_const 0 <|
  i_istore 3 <|
  i_const 0 <|
  i_istore 4 <|
  (J 24))
  (i_aload 2 <|
  i_const 0 <|
  i_const 0 <|
  i_call mX6_from d 3 (pV 6) (xOut Q) <|
  i_ret Q (some .int))
theorem kX1_pairs_0 {d : Nat} {Q : Outcome → MH → Prop} : ∀ ls st h, tX1_pairs_0 d Q (fun pc ls st h => WPb mX1_pairs d pc ls st h Q) ls st h → WPb mX1_pairs d 0 ls st h Q :=
  r_aload_n (k := 0) dX1_pairs_0 rfl <|
  r_getR (ci := 1) (q := (RX1, TX1, 13)) (k := 10) dX1_pairs_1 (by decide) rfl in_X1 (by decide) (Or.inl q478) rfl <|
  r_cV (Z := mX6_anew) (ci := 6) (q := (RX6, TX6, 2)) dX1_pairs_4 rfl (by decide +kernel) ⟨by decide, by decide⟩ (by decide) rfl rfl q982 q983 q984 q125 q985 (XS.out (noH _)) <|
  r_astore_n (k := 2) dX1_pairs_7 rfl <|
  r_iload_n (k := 1) dX1_pairs_8 rfl <|
  r_if_ne (pt := 19) dX1_pairs_9 (by decide)
  (r_iconst (v := 0) dX1_pairs_19 rfl <|
  r_istore_n (k := 3) dX1_pairs_20 rfl <|
  r_iconst (v := 0) dX1_pairs_21 rfl <|
  r_istore dX1_pairs_22 <|
  (fun _ _ _ H => H))
  (r_aload_n (k := 2) dX1_pairs_12 rfl <|
  r_iconst (v := 0) dX1_pairs_13 rfl <|
  r_iconst (v := 0) dX1_pairs_14 rfl <|
  r_cV (Z := mX6_from) (ci := 6) (q := (RX6, TX6, 2)) dX1_pairs_15 rfl (by decide +kernel) ⟨by decide, by decide⟩ (by decide) rfl rfl q989 q990 q991 q125 q992 (XS.out (noH _)) <|
  r_ret rfl (Or.inl ⟨dX1_pairs_18, Or.inl rfl⟩))
def tX1_pairs_24 (d : Nat) (Q : Outcome → MH → Prop) (J : Nat → KT) : KT :=
  i_iload 4 <|
  i_aload 0 <|
  i_getR 1 0 <|
  i_getI 2 4 <|
  i_icmp_ge
  (i_iload 3 <|
  i_aload 2 <|
  i_call mX6_first d 1 (pV 6) (xOut Q) <|
  i_const (-1) <|
  i_ixor <|
  i_iand <|
  i_ret Q (some .int))
  (i_iload 3 <|
  i_aload 2 <|
  i_iload 4 <|
  i_call mX6_both d 2 (pV 6) (xOut Q) <|
  i_ior <|
  i_istore 3 <|
  i_iinc 4 1 <|
  (J 24))
theorem kX1_pairs_24 {d : Nat} {Q : Outcome → MH → Prop} : ∀ ls st h, tX1_pairs_24 d Q (fun pc ls st h => WPb mX1_pairs d pc ls st h Q) ls st h → WPb mX1_pairs d 24 ls st h Q :=
  r_iload dX1_pairs_24 <|
  r_aload_n (k := 0) dX1_pairs_26 rfl <|
  r_getR (ci := 1) (q := (RX1, TX1, 13)) (k := 0) dX1_pairs_27 (by decide) rfl in_X1 (by decide) (Or.inl q465) rfl <|
  r_getI (ci := 2) (q := (RX2, TX2, 31)) (k := 4) dX1_pairs_30 (by decide) rfl in_X2 (by decide) (Or.inr (Or.inl ⟨_, q190⟩)) rfl <|
  r_icmp_ge (pt := 51) dX1_pairs_33 (by decide)
  (r_iload_n (k := 3) dX1_pairs_51 rfl <|
  r_aload_n (k := 2) dX1_pairs_52 rfl <|
  r_cV (Z := mX6_first) (ci := 6) (q := (RX6, TX6, 2)) dX1_pairs_53 rfl (by decide +kernel) ⟨by decide, by decide⟩ (by decide) rfl rfl q1005 q1006 q1007 q125 q1008 (XS.out (noH _)) <|
  r_iconst (v := (-1)) dX1_pairs_56 rfl <|
  r_ixor dX1_pairs_57 <|
  r_iand dX1_pairs_58 <|
  r_ret rfl (Or.inl ⟨dX1_pairs_59, Or.inl rfl⟩))
  (r_iload_n (k := 3) dX1_pairs_36 rfl <|
  r_aload_n (k := 2) dX1_pairs_37 rfl <|
  r_iload dX1_pairs_38 <|
  r_cV (Z := mX6_both) (ci := 6) (q := (RX6, TX6, 2)) dX1_pairs_40 rfl (by decide +kernel) ⟨by decide, by decide⟩ (by decide) rfl rfl q1004 q1000 q1001 q125 q1002 (XS.out (noH _)) <|
  r_ior dX1_pairs_43 <|
  r_istore_n (k := 3) dX1_pairs_44 rfl <|
  r_iinc (v := 1) dX1_pairs_45 rfl <|
  r_goto (pt := 24) dX1_pairs_48 (by decide) <|
  (fun _ _ _ H => H))
-- CheekTown.still()I cuts [0, 10]
def tX1_still_0 (d : Nat) (Q : Outcome → MH → Prop) (J : Nat → KT) : KT :=
  i_aload 0 <|
  i_getR 1 11 <|
  i_call mX7_now d 1 (pV 7) (xOut Q) <|
  i_astore 1 <|
  i_const 0 <|
  i_istore 2 <|
  (J 10)
theorem kX1_still_0 {d : Nat} {Q : Outcome → MH → Prop} : ∀ ls st h, tX1_still_0 d Q (fun pc ls st h => WPb mX1_still d pc ls st h Q) ls st h → WPb mX1_still d 0 ls st h Q :=
  r_aload_n (k := 0) dX1_still_0 rfl <|
  r_getR (ci := 1) (q := (RX1, TX1, 13)) (k := 11) dX1_still_1 (by decide) rfl in_X1 (by decide) (Or.inl q479) rfl <|
  r_cV (Z := mX7_now) (ci := 7) (q := (RX7, TX7, 5)) dX1_still_4 rfl (by decide +kernel) ⟨by decide, by decide⟩ (by decide) rfl rfl q1013 q1014 q1015 q126 q1016 (XS.out (noH _)) <|
  r_astore_n (k := 1) dX1_still_7 rfl <|
  r_iconst (v := 0) dX1_still_8 rfl <|
  r_istore_n (k := 2) dX1_still_9 rfl <|
  (fun _ _ _ H => H)
def tX1_still_10 (d : Nat) (Q : Outcome → MH → Prop) (J : Nat → KT) : KT :=
  i_iload 2 <|
  i_const 60 <|
  i_icmp_gt
  (i_const (-1) <|
  i_ret Q (some .int))
  (i_aload 1 <|
  i_call mX7_goes d 1 (pV 7) (xOut Q) <|
  i_if_ne
  (i_iinc 2 1 <|
  (J 10))
  (i_iload 2 <|
  i_ret Q (some .int)))
theorem kX1_still_10 {d : Nat} {Q : Outcome → MH → Prop} : ∀ ls st h, tX1_still_10 d Q (fun pc ls st h => WPb mX1_still d pc ls st h Q) ls st h → WPb mX1_still d 10 ls st h Q :=
  r_iload_n (k := 2) dX1_still_10 rfl <|
  r_bipush (v := 60) dX1_still_11 rfl <|
  r_icmp_gt (pt := 31) dX1_still_13 (by decide)
  (r_iconst (v := (-1)) dX1_still_31 rfl <|
  r_ret rfl (Or.inl ⟨dX1_still_32, Or.inl rfl⟩))
  (r_aload_n (k := 1) dX1_still_16 rfl <|
  r_cV (Z := mX7_goes) (ci := 7) (q := (RX7, TX7, 5)) dX1_still_17 rfl (by decide +kernel) ⟨by decide, by decide⟩ (by decide) rfl rfl q1026 q1027 q1028 q126 q1029 (XS.out (noH _)) <|
  r_if_ne (pt := 25) dX1_still_20 (by decide)
  (r_iinc (v := 1) dX1_still_25 rfl <|
  r_goto (pt := 10) dX1_still_28 (by decide) <|
  (fun _ _ _ H => H))
  (r_iload_n (k := 2) dX1_still_23 rfl <|
  r_ret rfl (Or.inl ⟨dX1_still_24, Or.inl rfl⟩)))
-- CheekTown.changed(Z)I cuts [0, 7, 30]
def tX1_changed_0 (d : Nat) (Q : Outcome → MH → Prop) (J : Nat → KT) : KT :=
  i_const 0 <|
  i_istore 2 <|
  i_const 0 <|
  i_istore 3 <|
  i_const 0 <|
  i_istore 4 <|
  (J 7)
theorem kX1_changed_0 {d : Nat} {Q : Outcome → MH → Prop} : ∀ ls st h, tX1_changed_0 d Q (fun pc ls st h => WPb mX1_changed d pc ls st h Q) ls st h → WPb mX1_changed d 0 ls st h Q :=
  r_iconst (v := 0) dX1_changed_0 rfl <|
  r_istore_n (k := 2) dX1_changed_1 rfl <|
  r_iconst (v := 0) dX1_changed_2 rfl <|
  r_istore_n (k := 3) dX1_changed_3 rfl <|
  r_iconst (v := 0) dX1_changed_4 rfl <|
  r_istore dX1_changed_5 <|
  (fun _ _ _ H => H)
def tX1_changed_7 (d : Nat) (Q : Outcome → MH → Prop) (J : Nat → KT) : KT :=
  i_iload 4 <|
  i_aload 0 <|
  i_getR 1 0 <|
  i_getI 2 10 <|
  i_icmp_ge
  (i_iload 1 <|
  i_if_eq
  (i_iload 2 <|
  i_ret Q (some .int))
  (i_iload 3 <|
  i_ret Q (some .int)))
  (i_aload 0 <|
  i_iload 4 <|
  i_call mX1_olderOf d 2 (pV 1) (xOut Q) <|
  i_istore 5 <|
  i_const 0 <|
  i_istore 6 <|
  (J 30))
theorem kX1_changed_7 {d : Nat} {Q : Outcome → MH → Prop} : ∀ ls st h, tX1_changed_7 d Q (fun pc ls st h => WPb mX1_changed d pc ls st h Q) ls st h → WPb mX1_changed d 7 ls st h Q :=
  r_iload dX1_changed_7 <|
  r_aload_n (k := 0) dX1_changed_9 rfl <|
  r_getR (ci := 1) (q := (RX1, TX1, 13)) (k := 0) dX1_changed_10 (by decide) rfl in_X1 (by decide) (Or.inl q465) rfl <|
  r_getI (ci := 2) (q := (RX2, TX2, 31)) (k := 10) dX1_changed_13 (by decide) rfl in_X2 (by decide) (Or.inr (Or.inl ⟨_, q202⟩)) rfl <|
  r_icmp_ge (pt := 98) dX1_changed_16 (by decide)
  (r_iload_n (k := 1) dX1_changed_98 rfl <|
  r_if_eq (pt := 106) dX1_changed_99 (by decide)
  (r_iload_n (k := 2) dX1_changed_106 rfl <|
  r_ret rfl (Or.inl ⟨dX1_changed_107, Or.inl rfl⟩))
  (r_iload_n (k := 3) dX1_changed_102 rfl <|
  r_goto (pt := 107) dX1_changed_103 (by decide) <|
  r_ret rfl (Or.inl ⟨dX1_changed_107, Or.inl rfl⟩)))
  (r_aload_n (k := 0) dX1_changed_19 rfl <|
  r_iload dX1_changed_20 <|
  r_cV (Z := mX1_olderOf) (ci := 1) (q := (RX1, TX1, 13)) dX1_changed_22 rfl (by decide +kernel) ⟨by decide, by decide⟩ (by decide) rfl rfl q1043 q1045 qs7 q117 q1046 (XS.out (noH _)) <|
  r_istore dX1_changed_25 <|
  r_iconst (v := 0) dX1_changed_27 rfl <|
  r_istore dX1_changed_28 <|
  (fun _ _ _ H => H))
def tX1_changed_30 (d : Nat) (Q : Outcome → MH → Prop) (J : Nat → KT) : KT :=
  i_iload 6 <|
  i_const 2 <|
  i_icmp_ge
  (i_iinc 4 1 <|
  (J 7))
  (i_iload 5 <|
  i_const (-1) <|
  i_icmp_eq
  (i_iinc 4 1 <|
  (J 7))
  (i_aload 0 <|
  i_iload 4 <|
  i_const 3 <|
  i_iload 6 <|
  i_iadd <|
  i_call mX1_ofLog d 3 (pV 1) (xOut Q) <|
  i_aload 0 <|
  i_iload 5 <|
  i_const 3 <|
  i_iload 6 <|
  i_iadd <|
  i_call mX1_ofLog d 3 (pV 1) (xOut Q) <|
  i_icmp_ne
  (i_iload 2 <|
  i_const 1 <|
  i_aload 0 <|
  i_iload 4 <|
  i_const 1 <|
  i_iload 6 <|
  i_iadd <|
  i_call mX1_ofLog d 3 (pV 1) (xOut Q) <|
  i_ishl <|
  i_ior <|
  i_istore 2 <|
  i_iinc 3 1 <|
  i_iinc 6 1 <|
  (J 30))
  (i_iinc 6 1 <|
  (J 30))))
theorem kX1_changed_30 {d : Nat} {Q : Outcome → MH → Prop} : ∀ ls st h, tX1_changed_30 d Q (fun pc ls st h => WPb mX1_changed d pc ls st h Q) ls st h → WPb mX1_changed d 30 ls st h Q :=
  r_iload dX1_changed_30 <|
  r_iconst (v := 2) dX1_changed_32 rfl <|
  r_icmp_ge (pt := 92) dX1_changed_33 (by decide)
  (r_iinc (v := 1) dX1_changed_92 rfl <|
  r_goto (pt := 7) dX1_changed_95 (by decide) <|
  (fun _ _ _ H => H))
  (r_iload dX1_changed_36 <|
  r_iconst (v := (-1)) dX1_changed_38 rfl <|
  r_icmp_eq (pt := 92) dX1_changed_39 (by decide)
  (r_iinc (v := 1) dX1_changed_92 rfl <|
  r_goto (pt := 7) dX1_changed_95 (by decide) <|
  (fun _ _ _ H => H))
  (r_aload_n (k := 0) dX1_changed_42 rfl <|
  r_iload dX1_changed_43 <|
  r_iconst (v := 3) dX1_changed_45 rfl <|
  r_iload dX1_changed_46 <|
  r_iadd dX1_changed_48 <|
  r_cV (Z := mX1_ofLog) (ci := 1) (q := (RX1, TX1, 13)) dX1_changed_49 rfl (by decide +kernel) ⟨by decide, by decide⟩ (by decide) rfl rfl q1047 q1049 qs8 q117 q1050 (XS.out (noH _)) <|
  r_aload_n (k := 0) dX1_changed_52 rfl <|
  r_iload dX1_changed_53 <|
  r_iconst (v := 3) dX1_changed_55 rfl <|
  r_iload dX1_changed_56 <|
  r_iadd dX1_changed_58 <|
  r_cV (Z := mX1_ofLog) (ci := 1) (q := (RX1, TX1, 13)) dX1_changed_59 rfl (by decide +kernel) ⟨by decide, by decide⟩ (by decide) rfl rfl q1047 q1049 qs8 q117 q1050 (XS.out (noH _)) <|
  r_icmp_ne (pt := 68) dX1_changed_62 (by decide)
  (r_iload_n (k := 2) dX1_changed_68 rfl <|
  r_iconst (v := 1) dX1_changed_69 rfl <|
  r_aload_n (k := 0) dX1_changed_70 rfl <|
  r_iload dX1_changed_71 <|
  r_iconst (v := 1) dX1_changed_73 rfl <|
  r_iload dX1_changed_74 <|
  r_iadd dX1_changed_76 <|
  r_cV (Z := mX1_ofLog) (ci := 1) (q := (RX1, TX1, 13)) dX1_changed_77 rfl (by decide +kernel) ⟨by decide, by decide⟩ (by decide) rfl rfl q1047 q1049 qs8 q117 q1050 (XS.out (noH _)) <|
  r_ishl dX1_changed_80 <|
  r_ior dX1_changed_81 <|
  r_istore_n (k := 2) dX1_changed_82 rfl <|
  r_iinc (v := 1) dX1_changed_83 rfl <|
  r_iinc (v := 1) dX1_changed_86 rfl <|
  r_goto (pt := 30) dX1_changed_89 (by decide) <|
  (fun _ _ _ H => H))
  (r_goto (pt := 86) dX1_changed_65 (by decide) <|
  r_iinc (v := 1) dX1_changed_86 rfl <|
  r_goto (pt := 30) dX1_changed_89 (by decide) <|
  (fun _ _ _ H => H))))
-- CheekTown.olderOf(I)I cuts [0, 4]
def tX1_olderOf_0 (d : Nat) (Q : Outcome → MH → Prop) (J : Nat → KT) : KT :=
  i_iload 1 <|
  i_const 1 <|
  i_iadd <|
  i_istore 2 <|
  (J 4)
theorem kX1_olderOf_0 {d : Nat} {Q : Outcome → MH → Prop} : ∀ ls st h, tX1_olderOf_0 d Q (fun pc ls st h => WPb mX1_olderOf d pc ls st h Q) ls st h → WPb mX1_olderOf d 0 ls st h Q :=
  r_iload_n (k := 1) dX1_olderOf_0 rfl <|
  r_iconst (v := 1) dX1_olderOf_1 rfl <|
  r_iadd dX1_olderOf_2 <|
  r_istore_n (k := 2) dX1_olderOf_3 rfl <|
  (fun _ _ _ H => H)
def tX1_olderOf_4 (d : Nat) (Q : Outcome → MH → Prop) (J : Nat → KT) : KT :=
  i_iload 2 <|
  i_aload 0 <|
  i_getR 1 0 <|
  i_getI 2 10 <|
  i_icmp_ge
  (i_iload 2 <|
  i_aload 0 <|
  i_getR 1 0 <|
  i_getI 2 10 <|
  i_icmp_ge
  (i_const (-1) <|
  i_ret Q (some .int))
  (i_iload 2 <|
  i_ret Q (some .int)))
  (i_aload 0 <|
  i_iload 2 <|
  i_const 1 <|
  i_call mX1_ofLog d 3 (pV 1) (xOut Q) <|
  i_aload 0 <|
  i_iload 1 <|
  i_const 1 <|
  i_call mX1_ofLog d 3 (pV 1) (xOut Q) <|
  i_icmp_ne
  (i_iinc 2 1 <|
  (J 4))
  (i_aload 0 <|
  i_iload 2 <|
  i_const 2 <|
  i_call mX1_ofLog d 3 (pV 1) (xOut Q) <|
  i_aload 0 <|
  i_iload 1 <|
  i_const 2 <|
  i_call mX1_ofLog d 3 (pV 1) (xOut Q) <|
  i_icmp_eq
  (i_iload 2 <|
  i_aload 0 <|
  i_getR 1 0 <|
  i_getI 2 10 <|
  i_icmp_ge
  (i_const (-1) <|
  i_ret Q (some .int))
  (i_iload 2 <|
  i_ret Q (some .int)))
  (i_iinc 2 1 <|
  (J 4))))
theorem kX1_olderOf_4 {d : Nat} {Q : Outcome → MH → Prop} : ∀ ls st h, tX1_olderOf_4 d Q (fun pc ls st h => WPb mX1_olderOf d pc ls st h Q) ls st h → WPb mX1_olderOf d 4 ls st h Q :=
  r_iload_n (k := 2) dX1_olderOf_4 rfl <|
  r_aload_n (k := 0) dX1_olderOf_5 rfl <|
  r_getR (ci := 1) (q := (RX1, TX1, 13)) (k := 0) dX1_olderOf_6 (by decide) rfl in_X1 (by decide) (Or.inl q465) rfl <|
  r_getI (ci := 2) (q := (RX2, TX2, 31)) (k := 10) dX1_olderOf_9 (by decide) rfl in_X2 (by decide) (Or.inr (Or.inl ⟨_, q202⟩)) rfl <|
  r_icmp_ge (pt := 51) dX1_olderOf_12 (by decide)
  (r_iload_n (k := 2) dX1_olderOf_51 rfl <|
  r_aload_n (k := 0) dX1_olderOf_52 rfl <|
  r_getR (ci := 1) (q := (RX1, TX1, 13)) (k := 0) dX1_olderOf_53 (by decide) rfl in_X1 (by decide) (Or.inl q465) rfl <|
  r_getI (ci := 2) (q := (RX2, TX2, 31)) (k := 10) dX1_olderOf_56 (by decide) rfl in_X2 (by decide) (Or.inr (Or.inl ⟨_, q202⟩)) rfl <|
  r_icmp_ge (pt := 66) dX1_olderOf_59 (by decide)
  (r_iconst (v := (-1)) dX1_olderOf_66 rfl <|
  r_ret rfl (Or.inl ⟨dX1_olderOf_67, Or.inl rfl⟩))
  (r_iload_n (k := 2) dX1_olderOf_62 rfl <|
  r_goto (pt := 67) dX1_olderOf_63 (by decide) <|
  r_ret rfl (Or.inl ⟨dX1_olderOf_67, Or.inl rfl⟩)))
  (r_aload_n (k := 0) dX1_olderOf_15 rfl <|
  r_iload_n (k := 2) dX1_olderOf_16 rfl <|
  r_iconst (v := 1) dX1_olderOf_17 rfl <|
  r_cV (Z := mX1_ofLog) (ci := 1) (q := (RX1, TX1, 13)) dX1_olderOf_18 rfl (by decide +kernel) ⟨by decide, by decide⟩ (by decide) rfl rfl q1047 q1049 qs8 q117 q1050 (XS.out (noH _)) <|
  r_aload_n (k := 0) dX1_olderOf_21 rfl <|
  r_iload_n (k := 1) dX1_olderOf_22 rfl <|
  r_iconst (v := 1) dX1_olderOf_23 rfl <|
  r_cV (Z := mX1_ofLog) (ci := 1) (q := (RX1, TX1, 13)) dX1_olderOf_24 rfl (by decide +kernel) ⟨by decide, by decide⟩ (by decide) rfl rfl q1047 q1049 qs8 q117 q1050 (XS.out (noH _)) <|
  r_icmp_ne (pt := 45) dX1_olderOf_27 (by decide)
  (r_iinc (v := 1) dX1_olderOf_45 rfl <|
  r_goto (pt := 4) dX1_olderOf_48 (by decide) <|
  (fun _ _ _ H => H))
  (r_aload_n (k := 0) dX1_olderOf_30 rfl <|
  r_iload_n (k := 2) dX1_olderOf_31 rfl <|
  r_iconst (v := 2) dX1_olderOf_32 rfl <|
  r_cV (Z := mX1_ofLog) (ci := 1) (q := (RX1, TX1, 13)) dX1_olderOf_33 rfl (by decide +kernel) ⟨by decide, by decide⟩ (by decide) rfl rfl q1047 q1049 qs8 q117 q1050 (XS.out (noH _)) <|
  r_aload_n (k := 0) dX1_olderOf_36 rfl <|
  r_iload_n (k := 1) dX1_olderOf_37 rfl <|
  r_iconst (v := 2) dX1_olderOf_38 rfl <|
  r_cV (Z := mX1_ofLog) (ci := 1) (q := (RX1, TX1, 13)) dX1_olderOf_39 rfl (by decide +kernel) ⟨by decide, by decide⟩ (by decide) rfl rfl q1047 q1049 qs8 q117 q1050 (XS.out (noH _)) <|
  r_icmp_eq (pt := 51) dX1_olderOf_42 (by decide)
  (r_iload_n (k := 2) dX1_olderOf_51 rfl <|
  r_aload_n (k := 0) dX1_olderOf_52 rfl <|
  r_getR (ci := 1) (q := (RX1, TX1, 13)) (k := 0) dX1_olderOf_53 (by decide) rfl in_X1 (by decide) (Or.inl q465) rfl <|
  r_getI (ci := 2) (q := (RX2, TX2, 31)) (k := 10) dX1_olderOf_56 (by decide) rfl in_X2 (by decide) (Or.inr (Or.inl ⟨_, q202⟩)) rfl <|
  r_icmp_ge (pt := 66) dX1_olderOf_59 (by decide)
  (r_iconst (v := (-1)) dX1_olderOf_66 rfl <|
  r_ret rfl (Or.inl ⟨dX1_olderOf_67, Or.inl rfl⟩))
  (r_iload_n (k := 2) dX1_olderOf_62 rfl <|
  r_goto (pt := 67) dX1_olderOf_63 (by decide) <|
  r_ret rfl (Or.inl ⟨dX1_olderOf_67, Or.inl rfl⟩)))
  (r_iinc (v := 1) dX1_olderOf_45 rfl <|
  r_goto (pt := 4) dX1_olderOf_48 (by decide) <|
  (fun _ _ _ H => H))))
-- CheekTown.ofLog(II)I cuts [0]
def tX1_ofLog_0 (d : Nat) (Q : Outcome → MH → Prop) (J : Nat → KT) : KT :=
  i_aload 0 <|
  i_getR 1 0 <|
  i_getR 2 29 <|
  i_const 8 <|
  i_iload 1 <|
  i_imul <|
  i_iload 2 <|
  i_iadd <|
  i_iald <|
  i_ret Q (some .int)
theorem kX1_ofLog_0 {d : Nat} {Q : Outcome → MH → Prop} : ∀ ls st h, tX1_ofLog_0 d Q (fun pc ls st h => WPb mX1_ofLog d pc ls st h Q) ls st h → WPb mX1_ofLog d 0 ls st h Q :=
  r_aload_n (k := 0) dX1_ofLog_0 rfl <|
  r_getR (ci := 1) (q := (RX1, TX1, 13)) (k := 0) dX1_ofLog_1 (by decide) rfl in_X1 (by decide) (Or.inl q465) rfl <|
  r_getR (ci := 2) (q := (RX2, TX2, 31)) (k := 29) dX1_ofLog_4 (by decide) rfl in_X2 (by decide) (Or.inr (Or.inl ⟨_, q244⟩)) rfl <|
  r_bipush (v := 8) dX1_ofLog_7 rfl <|
  r_iload_n (k := 1) dX1_ofLog_9 rfl <|
  r_imul dX1_ofLog_10 <|
  r_iload_n (k := 2) dX1_ofLog_11 rfl <|
  r_iadd dX1_ofLog_12 <|
  r_iald dX1_ofLog_13 <|
  r_ret rfl (Or.inl ⟨dX1_ofLog_14, Or.inl rfl⟩)
-- CheekTown.seed(I)I cuts [0]
def tX1_seed_0 (d : Nat) (Q : Outcome → MH → Prop) (J : Nat → KT) : KT :=
  i_aload 0 <|
  i_getR 1 0 <|
  i_getI 2 14 <|
  i_istore 2 <|
  i_aload 0 <|
  i_getR 1 0 <|
  i_iload 1 <|
  i_putI 2 14 .int <|
  i_iload 2 <|
  i_ret Q (some .int)
theorem kX1_seed_0 {d : Nat} {Q : Outcome → MH → Prop} : ∀ ls st h, tX1_seed_0 d Q (fun pc ls st h => WPb mX1_seed d pc ls st h Q) ls st h → WPb mX1_seed d 0 ls st h Q :=
  r_aload_n (k := 0) dX1_seed_0 rfl <|
  r_getR (ci := 1) (q := (RX1, TX1, 13)) (k := 0) dX1_seed_1 (by decide) rfl in_X1 (by decide) (Or.inl q465) rfl <|
  r_getI (ci := 2) (q := (RX2, TX2, 31)) (k := 14) dX1_seed_4 (by decide) rfl in_X2 (by decide) (Or.inr (Or.inl ⟨_, q210⟩)) rfl <|
  r_istore_n (k := 2) dX1_seed_7 rfl <|
  r_aload_n (k := 0) dX1_seed_8 rfl <|
  r_getR (ci := 1) (q := (RX1, TX1, 13)) (k := 0) dX1_seed_9 (by decide) rfl in_X1 (by decide) (Or.inl q465) rfl <|
  r_iload_n (k := 1) dX1_seed_12 rfl <|
  r_putI (ci := 2) (q := (RX2, TX2, 31)) (k := 14) tyX2 tyX2_ok nmX2 dX1_seed_13 (by decide) rfl in_X2 (by decide) (Or.inl ⟨rfl, (Or.inr (Or.inl ⟨_, q210⟩))⟩) rfl rfl <|
  r_iload_n (k := 2) dX1_seed_16 rfl <|
  r_ret rfl (Or.inl ⟨dX1_seed_17, Or.inl rfl⟩)
-- CheekTown.undo()Z cuts [0]
def tX1_undo_0 (d : Nat) (Q : Outcome → MH → Prop) (J : Nat → KT) : KT :=
  i_aload 0 <|
  i_getR 1 6 <|
  i_call mJ2_isEmpty d 1 (pV 22) (xOut Q) <|
  i_if_eq
  (i_aload 0 <|
  i_getR 1 0 <|
  i_aload 0 <|
  i_getR 1 6 <|
  i_aload 0 <|
  i_getR 1 6 <|
  i_call mJ2_size d 1 (pV 22) (xOut Q) <|
  i_const 1 <|
  i_isub <|
  i_call mJ2_remove d 2 (pV 22) (xOut Q) <|
  i_cast 2 <|
  i_call mX2_likens d 2 (pV 2) (xOut Q) <|
  i_pop <|
  i_const 1 <|
  i_ret Q (some .boolean))
  (i_const 0 <|
  i_ret Q (some .boolean))
theorem kX1_undo_0 {d : Nat} {Q : Outcome → MH → Prop} : ∀ ls st h, tX1_undo_0 d Q (fun pc ls st h => WPb mX1_undo d pc ls st h Q) ls st h → WPb mX1_undo d 0 ls st h Q :=
  r_aload_n (k := 0) dX1_undo_0 rfl <|
  r_getR (ci := 1) (q := (RX1, TX1, 13)) (k := 6) dX1_undo_1 (by decide) rfl in_X1 (by decide) (Or.inl q474) rfl <|
  r_cV (Z := mJ2_isEmpty) (ci := 22) (q := (RJ2, TJ2, 3)) dX1_undo_4 rfl (by decide +kernel) ⟨by decide, by decide⟩ (by decide) rfl rfl q1059 q1060 q1061 q123 q1062 (XS.out (noH _)) <|
  r_if_eq (pt := 12) dX1_undo_7 (by decide)
  (r_aload_n (k := 0) dX1_undo_12 rfl <|
  r_getR (ci := 1) (q := (RX1, TX1, 13)) (k := 0) dX1_undo_13 (by decide) rfl in_X1 (by decide) (Or.inl q465) rfl <|
  r_aload_n (k := 0) dX1_undo_16 rfl <|
  r_getR (ci := 1) (q := (RX1, TX1, 13)) (k := 6) dX1_undo_17 (by decide) rfl in_X1 (by decide) (Or.inl q474) rfl <|
  r_aload_n (k := 0) dX1_undo_20 rfl <|
  r_getR (ci := 1) (q := (RX1, TX1, 13)) (k := 6) dX1_undo_21 (by decide) rfl in_X1 (by decide) (Or.inl q474) rfl <|
  r_cV (Z := mJ2_size) (ci := 22) (q := (RJ2, TJ2, 3)) dX1_undo_24 rfl (by decide +kernel) ⟨by decide, by decide⟩ (by decide) rfl rfl q1063 q1064 q1065 q123 q1066 (XS.out (noH _)) <|
  r_iconst (v := 1) dX1_undo_27 rfl <|
  r_isub dX1_undo_28 <|
  r_cV (Z := mJ2_remove) (ci := 22) (q := (RJ2, TJ2, 3)) dX1_undo_29 rfl (by decide +kernel) ⟨by decide, by decide⟩ (by decide) rfl rfl q1067 q1068 q1069 q123 q1070 (XS.out (noH _)) <|
  r_cast (ci := 2) (q := (RX2, TX2, 31)) (by decide) rfl q172 dX1_undo_32 <|
  r_cV (Z := mX2_likens) (ci := 2) (q := (RX2, TX2, 31)) dX1_undo_35 rfl (by decide +kernel) ⟨by decide, by decide⟩ (by decide) rfl rfl q1082 q1083 q1084 q118 q1085 (XS.out (noH _)) <|
  r_pop dX1_undo_38 <|
  r_iconst (v := 1) dX1_undo_39 rfl <|
  r_ret rfl (Or.inl ⟨dX1_undo_40, Or.inr (Or.inl rfl)⟩))
  (r_iconst (v := 0) dX1_undo_10 rfl <|
  r_ret rfl (Or.inl ⟨dX1_undo_11, Or.inr (Or.inl rfl)⟩))
-- CheekTown.image()V cuts [0]
def tX1_image_0 (d : Nat) (Q : Outcome → MH → Prop) (J : Nat → KT) : KT :=
  i_aload 0 <|
  i_const 1 <|
  i_putI 1 3 .boolean <|
  i_aload 0 <|
  i_getR 1 2 <|
  i_aload 0 <|
  i_getR 1 0 <|
  i_call mX2_likens d 2 (pV 2) (xOut Q) <|
  i_pop <|
  i_vret Q
theorem kX1_image_0 {d : Nat} {Q : Outcome → MH → Prop} : ∀ ls st h, tX1_image_0 d Q (fun pc ls st h => WPb mX1_image d pc ls st h Q) ls st h → WPb mX1_image d 0 ls st h Q :=
  r_aload_n (k := 0) dX1_image_0 rfl <|
  r_iconst (v := 1) dX1_image_1 rfl <|
  r_putI (ci := 1) (q := (RX1, TX1, 13)) (k := 3) tyX1 tyX1_ok nmX1 dX1_image_2 (by decide) rfl in_X1 (by decide) (Or.inl ⟨rfl, (Or.inl q471)⟩) rfl rfl <|
  r_aload_n (k := 0) dX1_image_5 rfl <|
  r_getR (ci := 1) (q := (RX1, TX1, 13)) (k := 2) dX1_image_6 (by decide) rfl in_X1 (by decide) (Or.inl q470) rfl <|
  r_aload_n (k := 0) dX1_image_9 rfl <|
  r_getR (ci := 1) (q := (RX1, TX1, 13)) (k := 0) dX1_image_10 (by decide) rfl in_X1 (by decide) (Or.inl q465) rfl <|
  r_cV (Z := mX2_likens) (ci := 2) (q := (RX2, TX2, 31)) dX1_image_13 rfl (by decide +kernel) ⟨by decide, by decide⟩ (by decide) rfl rfl q1082 q1083 q1084 q118 q1085 (XS.out (noH _)) <|
  r_pop dX1_image_16 <|
  r_vret rfl dX1_image_17
-- CheekTown.back()Z cuts [0]
def tX1_back_0 (d : Nat) (Q : Outcome → MH → Prop) (J : Nat → KT) : KT :=
  i_aload 0 <|
  i_getI 1 3 <|
  i_if_ne
  (i_aload 0 <|
  i_getR 1 0 <|
  i_aload 0 <|
  i_getR 1 2 <|
  i_call mX2_likens d 2 (pV 2) (xOut Q) <|
  i_pop <|
  i_aload 0 <|
  i_getR 1 6 <|
  i_call mJ2_clear d 1 (pV 22) (xOut Q) <|
  i_const 1 <|
  i_ret Q (some .boolean))
  (i_const 0 <|
  i_ret Q (some .boolean))
theorem kX1_back_0 {d : Nat} {Q : Outcome → MH → Prop} : ∀ ls st h, tX1_back_0 d Q (fun pc ls st h => WPb mX1_back d pc ls st h Q) ls st h → WPb mX1_back d 0 ls st h Q :=
  r_aload_n (k := 0) dX1_back_0 rfl <|
  r_getI (ci := 1) (q := (RX1, TX1, 13)) (k := 3) dX1_back_1 (by decide) rfl in_X1 (by decide) (Or.inl q471) rfl <|
  r_if_ne (pt := 9) dX1_back_4 (by decide)
  (r_aload_n (k := 0) dX1_back_9 rfl <|
  r_getR (ci := 1) (q := (RX1, TX1, 13)) (k := 0) dX1_back_10 (by decide) rfl in_X1 (by decide) (Or.inl q465) rfl <|
  r_aload_n (k := 0) dX1_back_13 rfl <|
  r_getR (ci := 1) (q := (RX1, TX1, 13)) (k := 2) dX1_back_14 (by decide) rfl in_X1 (by decide) (Or.inl q470) rfl <|
  r_cV (Z := mX2_likens) (ci := 2) (q := (RX2, TX2, 31)) dX1_back_17 rfl (by decide +kernel) ⟨by decide, by decide⟩ (by decide) rfl rfl q1082 q1083 q1084 q118 q1085 (XS.out (noH _)) <|
  r_pop dX1_back_20 <|
  r_aload_n (k := 0) dX1_back_21 rfl <|
  r_getR (ci := 1) (q := (RX1, TX1, 13)) (k := 6) dX1_back_22 (by decide) rfl in_X1 (by decide) (Or.inl q474) rfl <|
  r_cV (Z := mJ2_clear) (ci := 22) (q := (RJ2, TJ2, 3)) dX1_back_25 rfl (by decide +kernel) ⟨by decide, by decide⟩ (by decide) rfl rfl q1098 q1099 q1100 q123 q1101 (XS.out (noH _)) <|
  r_iconst (v := 1) dX1_back_28 rfl <|
  r_ret rfl (Or.inl ⟨dX1_back_29, Or.inr (Or.inl rfl)⟩))
  (r_iconst (v := 0) dX1_back_7 rfl <|
  r_ret rfl (Or.inl ⟨dX1_back_8, Or.inr (Or.inl rfl)⟩))
-- CheekTown.count(I)I cuts [0]
def tX1_count_0 (d : Nat) (Q : Outcome → MH → Prop) (J : Nat → KT) : KT :=
  i_aload 0 <|
  i_getR 1 0 <|
  i_astore 2 <|
  i_iload 1 <|
  i_sw [(0, i_aload 2 <|
  i_getI 2 1 <|
  i_ret Q (some .int)),
  (1, i_aload 2 <|
  i_getI 2 2 <|
  i_ret Q (some .int)),
  (2, i_aload 2 <|
  i_getI 2 3 <|
  i_ret Q (some .int)),
  (3, i_aload 2 <|
  i_getI 2 4 <|
  i_ret Q (some .int)),
  (4, i_aload 2 <|
  i_getI 2 0 <|
  i_ret Q (some .int)),
  (5, i_aload 2 <|
  i_getR 2 30 <|
  i_ifnonnull
  (i_aload 2 <|
  i_getR 2 30 <|
  i_getR 11 0 <|
  i_call mJ2_size d 1 (pV 22) (xOut Q) <|
  i_ret Q (some .int))
  (i_const (-1) <|
  i_ret Q (some .int))),
  (6, i_aload 2 <|
  i_getI 2 5 <|
  i_ret Q (some .int)),
  (7, i_aload 2 <|
  i_getI 2 6 <|
  i_ret Q (some .int)),
  (8, i_aload 2 <|
  i_getI 2 7 <|
  i_ret Q (some .int)),
  (9, i_aload 2 <|
  i_getI 2 8 <|
  i_ret Q (some .int)),
  (10, i_aload 2 <|
  i_getI 2 9 <|
  i_ret Q (some .int)),
  (11, i_aload 2 <|
  i_call mX2_colds d 1 (pV 2) (xOut Q) <|
  i_ret Q (some .int)),
  (12, i_aload 2 <|
  i_getI 2 10 <|
  i_ret Q (some .int)),
  (13, i_aload 0 <|
  i_getR 1 6 <|
  i_call mJ2_size d 1 (pV 22) (xOut Q) <|
  i_ret Q (some .int)),
  (14, i_aload 2 <|
  i_getI 2 11 <|
  i_ret Q (some .int)),
  (15, i_aload 2 <|
  i_getI 2 12 <|
  i_ret Q (some .int)),
  (16, i_aload 2 <|
  i_getI 2 13 <|
  i_ret Q (some .int))]
  (i_const (-1) <|
  i_ret Q (some .int))
theorem kX1_count_0 {d : Nat} {Q : Outcome → MH → Prop} : ∀ ls st h, tX1_count_0 d Q (fun pc ls st h => WPb mX1_count d pc ls st h Q) ls st h → WPb mX1_count d 0 ls st h Q :=
  r_aload_n (k := 0) dX1_count_0 rfl <|
  r_getR (ci := 1) (q := (RX1, TX1, 13)) (k := 0) dX1_count_1 (by decide) rfl in_X1 (by decide) (Or.inl q465) rfl <|
  r_astore_n (k := 2) dX1_count_4 rfl <|
  r_iload_n (k := 1) dX1_count_5 rfl <|
  r_tsw (tl := [(0, 88), (1, 93), (2, 98), (3, 103), (4, 108), (5, 113), (6, 135), (7, 140), (8, 145), (9, 150), (10, 155), (11, 160), (12, 165), (13, 170), (14, 178), (15, 183), (16, 188)]) (td := 193) dX1_count_6 (by decide +kernel) (by decide) (by decide +kernel) (by decide) (sw_cons (r_aload_n (k := 2) dX1_count_88 rfl <|
  r_getI (ci := 2) (q := (RX2, TX2, 31)) (k := 1) dX1_count_89 (by decide) rfl in_X2 (by decide) (Or.inr (Or.inl ⟨_, q181⟩)) rfl <|
  r_ret rfl (Or.inl ⟨dX1_count_92, Or.inl rfl⟩))
  (sw_cons (r_aload_n (k := 2) dX1_count_93 rfl <|
  r_getI (ci := 2) (q := (RX2, TX2, 31)) (k := 2) dX1_count_94 (by decide) rfl in_X2 (by decide) (Or.inr (Or.inl ⟨_, q183⟩)) rfl <|
  r_ret rfl (Or.inl ⟨dX1_count_97, Or.inl rfl⟩))
  (sw_cons (r_aload_n (k := 2) dX1_count_98 rfl <|
  r_getI (ci := 2) (q := (RX2, TX2, 31)) (k := 3) dX1_count_99 (by decide) rfl in_X2 (by decide) (Or.inr (Or.inl ⟨_, q187⟩)) rfl <|
  r_ret rfl (Or.inl ⟨dX1_count_102, Or.inl rfl⟩))
  (sw_cons (r_aload_n (k := 2) dX1_count_103 rfl <|
  r_getI (ci := 2) (q := (RX2, TX2, 31)) (k := 4) dX1_count_104 (by decide) rfl in_X2 (by decide) (Or.inr (Or.inl ⟨_, q190⟩)) rfl <|
  r_ret rfl (Or.inl ⟨dX1_count_107, Or.inl rfl⟩))
  (sw_cons (r_aload_n (k := 2) dX1_count_108 rfl <|
  r_getI (ci := 2) (q := (RX2, TX2, 31)) (k := 0) dX1_count_109 (by decide) rfl in_X2 (by decide) (Or.inr (Or.inl ⟨_, q179⟩)) rfl <|
  r_ret rfl (Or.inl ⟨dX1_count_112, Or.inl rfl⟩))
  (sw_cons (r_aload_n (k := 2) dX1_count_113 rfl <|
  r_getR (ci := 2) (q := (RX2, TX2, 31)) (k := 30) dX1_count_114 (by decide) rfl in_X2 (by decide) (Or.inr (Or.inl ⟨_, q246⟩)) rfl <|
  r_ifnonnull (pt := 124) dX1_count_117 (by decide)
  (r_aload_n (k := 2) dX1_count_124 rfl <|
  r_getR (ci := 2) (q := (RX2, TX2, 31)) (k := 30) dX1_count_125 (by decide) rfl in_X2 (by decide) (Or.inr (Or.inl ⟨_, q246⟩)) rfl <|
  r_getR (ci := 11) (q := (RX11, TX11, 1)) (k := 0) dX1_count_128 (by decide) rfl in_X11 (by decide) (Or.inr (Or.inl ⟨_, q1403⟩)) rfl <|
  r_cV (Z := mJ2_size) (ci := 22) (q := (RJ2, TJ2, 3)) dX1_count_131 rfl (by decide +kernel) ⟨by decide, by decide⟩ (by decide) rfl rfl q1063 q1064 q1065 q123 q1066 (XS.out (noH _)) <|
  r_ret rfl (Or.inl ⟨dX1_count_134, Or.inl rfl⟩))
  (r_iconst (v := (-1)) dX1_count_120 rfl <|
  r_goto (pt := 134) dX1_count_121 (by decide) <|
  r_ret rfl (Or.inl ⟨dX1_count_134, Or.inl rfl⟩)))
  (sw_cons (r_aload_n (k := 2) dX1_count_135 rfl <|
  r_getI (ci := 2) (q := (RX2, TX2, 31)) (k := 5) dX1_count_136 (by decide) rfl in_X2 (by decide) (Or.inr (Or.inl ⟨_, q192⟩)) rfl <|
  r_ret rfl (Or.inl ⟨dX1_count_139, Or.inl rfl⟩))
  (sw_cons (r_aload_n (k := 2) dX1_count_140 rfl <|
  r_getI (ci := 2) (q := (RX2, TX2, 31)) (k := 6) dX1_count_141 (by decide) rfl in_X2 (by decide) (Or.inr (Or.inl ⟨_, q194⟩)) rfl <|
  r_ret rfl (Or.inl ⟨dX1_count_144, Or.inl rfl⟩))
  (sw_cons (r_aload_n (k := 2) dX1_count_145 rfl <|
  r_getI (ci := 2) (q := (RX2, TX2, 31)) (k := 7) dX1_count_146 (by decide) rfl in_X2 (by decide) (Or.inr (Or.inl ⟨_, q196⟩)) rfl <|
  r_ret rfl (Or.inl ⟨dX1_count_149, Or.inl rfl⟩))
  (sw_cons (r_aload_n (k := 2) dX1_count_150 rfl <|
  r_getI (ci := 2) (q := (RX2, TX2, 31)) (k := 8) dX1_count_151 (by decide) rfl in_X2 (by decide) (Or.inr (Or.inl ⟨_, q198⟩)) rfl <|
  r_ret rfl (Or.inl ⟨dX1_count_154, Or.inl rfl⟩))
  (sw_cons (r_aload_n (k := 2) dX1_count_155 rfl <|
  r_getI (ci := 2) (q := (RX2, TX2, 31)) (k := 9) dX1_count_156 (by decide) rfl in_X2 (by decide) (Or.inr (Or.inl ⟨_, q200⟩)) rfl <|
  r_ret rfl (Or.inl ⟨dX1_count_159, Or.inl rfl⟩))
  (sw_cons (r_aload_n (k := 2) dX1_count_160 rfl <|
  r_cV (Z := mX2_colds) (ci := 2) (q := (RX2, TX2, 31)) dX1_count_161 rfl (by decide +kernel) ⟨by decide, by decide⟩ (by decide) rfl rfl q1106 q1107 q1108 q118 q1109 (XS.out (noH _)) <|
  r_ret rfl (Or.inl ⟨dX1_count_164, Or.inl rfl⟩))
  (sw_cons (r_aload_n (k := 2) dX1_count_165 rfl <|
  r_getI (ci := 2) (q := (RX2, TX2, 31)) (k := 10) dX1_count_166 (by decide) rfl in_X2 (by decide) (Or.inr (Or.inl ⟨_, q202⟩)) rfl <|
  r_ret rfl (Or.inl ⟨dX1_count_169, Or.inl rfl⟩))
  (sw_cons (r_aload_n (k := 0) dX1_count_170 rfl <|
  r_getR (ci := 1) (q := (RX1, TX1, 13)) (k := 6) dX1_count_171 (by decide) rfl in_X1 (by decide) (Or.inl q474) rfl <|
  r_cV (Z := mJ2_size) (ci := 22) (q := (RJ2, TJ2, 3)) dX1_count_174 rfl (by decide +kernel) ⟨by decide, by decide⟩ (by decide) rfl rfl q1063 q1064 q1065 q123 q1066 (XS.out (noH _)) <|
  r_ret rfl (Or.inl ⟨dX1_count_177, Or.inl rfl⟩))
  (sw_cons (r_aload_n (k := 2) dX1_count_178 rfl <|
  r_getI (ci := 2) (q := (RX2, TX2, 31)) (k := 11) dX1_count_179 (by decide) rfl in_X2 (by decide) (Or.inr (Or.inl ⟨_, q204⟩)) rfl <|
  r_ret rfl (Or.inl ⟨dX1_count_182, Or.inl rfl⟩))
  (sw_cons (r_aload_n (k := 2) dX1_count_183 rfl <|
  r_getI (ci := 2) (q := (RX2, TX2, 31)) (k := 12) dX1_count_184 (by decide) rfl in_X2 (by decide) (Or.inr (Or.inl ⟨_, q206⟩)) rfl <|
  r_ret rfl (Or.inl ⟨dX1_count_187, Or.inl rfl⟩))
  (sw_cons (r_aload_n (k := 2) dX1_count_188 rfl <|
  r_getI (ci := 2) (q := (RX2, TX2, 31)) (k := 13) dX1_count_189 (by decide) rfl in_X2 (by decide) (Or.inr (Or.inl ⟨_, q208⟩)) rfl <|
  r_ret rfl (Or.inl ⟨dX1_count_192, Or.inl rfl⟩))
  (sw_nil (r_iconst (v := (-1)) dX1_count_193 rfl <|
  r_ret rfl (Or.inl ⟨dX1_count_194, Or.inl rfl⟩))))))))))))))))))))
-- CheekTown.town()I cuts [0, 43]
def tX1_town_0 (d : Nat) (Q : Outcome → MH → Prop) (J : Nat → KT) : KT :=
  i_aload 0 <|
  i_getR 1 4 <|
  i_call mX3_begins d 1 (pV 3) (xOut Q) <|
  i_aload 0 <|
  i_getR 1 1 <|
  i_aload 0 <|
  i_getR 1 0 <|
  i_call mX2_likens d 2 (pV 2) (xOut Q) <|
  i_pop <|
  i_aload 0 <|
  i_aload 0 <|
  i_getR 1 1 <|
  i_call mX1_townText d 2 (pV 1) (xCat 9 1 (i_aload 0 <|
  i_call mX1_fails d 1 (pV 1) (xOut Q) <|
  (J 43))
  xNone) <|
  i_aload 0 <|
  i_getR 1 4 <|
  i_const (-1) <|
  i_putI 3 5 .int <|
  (J 43)
theorem kX1_town_0 {d : Nat} {Q : Outcome → MH → Prop} : ∀ ls st h, tX1_town_0 d Q (fun pc ls st h => WPb mX1_town d pc ls st h Q) ls st h → WPb mX1_town d 0 ls st h Q :=
  r_aload_n (k := 0) dX1_town_0 rfl <|
  r_getR (ci := 1) (q := (RX1, TX1, 13)) (k := 4) dX1_town_1 (by decide) rfl in_X1 (by decide) (Or.inl q472) rfl <|
  r_cV (Z := mX3_begins) (ci := 3) (q := (RX3, TX3, 7)) dX1_town_4 rfl (by decide +kernel) ⟨by decide, by decide⟩ (by decide) rfl rfl q1120 q1121 q1122 q119 q1123 (XS.out (by decide)) <|
  r_aload_n (k := 0) dX1_town_7 rfl <|
  r_getR (ci := 1) (q := (RX1, TX1, 13)) (k := 1) dX1_town_8 (by decide) rfl in_X1 (by decide) (Or.inl q469) rfl <|
  r_aload_n (k := 0) dX1_town_11 rfl <|
  r_getR (ci := 1) (q := (RX1, TX1, 13)) (k := 0) dX1_town_12 (by decide) rfl in_X1 (by decide) (Or.inl q465) rfl <|
  r_cV (Z := mX2_likens) (ci := 2) (q := (RX2, TX2, 31)) dX1_town_15 rfl (by decide +kernel) ⟨by decide, by decide⟩ (by decide) rfl rfl q1082 q1083 q1084 q118 q1085 (XS.out (by decide)) <|
  r_pop dX1_town_18 <|
  r_aload_n (k := 0) dX1_town_19 rfl <|
  r_aload_n (k := 0) dX1_town_20 rfl <|
  r_getR (ci := 1) (q := (RX1, TX1, 13)) (k := 1) dX1_town_21 (by decide) rfl in_X1 (by decide) (Or.inl q469) rfl <|
  r_cV (Z := mX1_townText) (ci := 1) (q := (RX1, TX1, 13)) dX1_town_24 rfl (by decide +kernel) ⟨by decide, by decide⟩ (by decide) rfl rfl q1124 q1126 qs10 q117 q1127 (XS.cat (k0 := 9) (pre := []) (suf := []) (x := ⟨19, 35, 38, 261⟩) (name := "CheekTown$Wrong") rfl (fun z hz => by cases hz) (by decide) (by decide) q1119 q1178 rfl (Or.inl ⟨1, rfl, dX1_town_38, rfl⟩) (r_aload_n (k := 0) dX1_town_39 rfl <|
  r_cV (Z := mX1_fails) (ci := 1) (q := (RX1, TX1, 13)) dX1_town_40 rfl (by decide +kernel) ⟨by decide, by decide⟩ (by decide) rfl rfl q1353 q1355 qs22 q117 q1356 (XS.out (by decide)) <|
  (fun _ _ _ H => H))
  XS.none) <|
  r_aload_n (k := 0) dX1_town_27 rfl <|
  r_getR (ci := 1) (q := (RX1, TX1, 13)) (k := 4) dX1_town_28 (by decide) rfl in_X1 (by decide) (Or.inl q472) rfl <|
  r_iconst (v := (-1)) dX1_town_31 rfl <|
  r_putI (ci := 3) (q := (RX3, TX3, 7)) (k := 5) tyX3 tyX3_ok nmX3 dX1_town_32 (by decide) rfl in_X3 (by decide) (Or.inl ⟨rfl, (Or.inr (Or.inl ⟨_, q327⟩))⟩) rfl rfl <|
  r_goto (pt := 43) dX1_town_35 (by decide) <|
  (fun _ _ _ H => H)
def tX1_town_43 (d : Nat) (Q : Outcome → MH → Prop) (J : Nat → KT) : KT :=
  i_aload 0 <|
  i_getR 1 0 <|
  i_getI 2 0 <|
  i_const 12 <|
  i_icmp_ne
  (i_aload 0 <|
  i_getR 1 1 <|
  i_dup <|
  i_getI 2 0 <|
  i_const 1 <|
  i_iadd <|
  i_putI 2 0 .int <|
  i_aload 0 <|
  i_getR 1 0 <|
  i_aload 0 <|
  i_getR 1 1 <|
  i_call mX2_likens d 2 (pV 2) (xOut Q) <|
  i_pop <|
  i_aload 0 <|
  i_getR 1 6 <|
  i_call mJ2_clear d 1 (pV 22) (xOut Q) <|
  i_aload 0 <|
  i_getR 1 0 <|
  i_getI 2 0 <|
  i_ret Q (some .int))
  (i_exc d 29 <|
  i_thr Q)
theorem kX1_town_43 {d : Nat} {Q : Outcome → MH → Prop} : ∀ ls st h, tX1_town_43 d Q (fun pc ls st h => WPb mX1_town d pc ls st h Q) ls st h → WPb mX1_town d 43 ls st h Q :=
  r_aload_n (k := 0) dX1_town_43 rfl <|
  r_getR (ci := 1) (q := (RX1, TX1, 13)) (k := 0) dX1_town_44 (by decide) rfl in_X1 (by decide) (Or.inl q465) rfl <|
  r_getI (ci := 2) (q := (RX2, TX2, 31)) (k := 0) dX1_town_47 (by decide) rfl in_X2 (by decide) (Or.inr (Or.inl ⟨_, q179⟩)) rfl <|
  r_bipush (v := 12) dX1_town_50 rfl <|
  r_icmp_ne (pt := 63) dX1_town_52 (by decide)
  (r_aload_n (k := 0) dX1_town_63 rfl <|
  r_getR (ci := 1) (q := (RX1, TX1, 13)) (k := 1) dX1_town_64 (by decide) rfl in_X1 (by decide) (Or.inl q469) rfl <|
  r_dup dX1_town_67 <|
  r_getI (ci := 2) (q := (RX2, TX2, 31)) (k := 0) dX1_town_68 (by decide) rfl in_X2 (by decide) (Or.inr (Or.inl ⟨_, q179⟩)) rfl <|
  r_iconst (v := 1) dX1_town_71 rfl <|
  r_iadd dX1_town_72 <|
  r_putI (ci := 2) (q := (RX2, TX2, 31)) (k := 0) tyX2 tyX2_ok nmX2 dX1_town_73 (by decide) rfl in_X2 (by decide) (Or.inl ⟨rfl, (Or.inr (Or.inl ⟨_, q179⟩))⟩) rfl rfl <|
  r_aload_n (k := 0) dX1_town_76 rfl <|
  r_getR (ci := 1) (q := (RX1, TX1, 13)) (k := 0) dX1_town_77 (by decide) rfl in_X1 (by decide) (Or.inl q465) rfl <|
  r_aload_n (k := 0) dX1_town_80 rfl <|
  r_getR (ci := 1) (q := (RX1, TX1, 13)) (k := 1) dX1_town_81 (by decide) rfl in_X1 (by decide) (Or.inl q469) rfl <|
  r_cV (Z := mX2_likens) (ci := 2) (q := (RX2, TX2, 31)) dX1_town_84 rfl (by decide +kernel) ⟨by decide, by decide⟩ (by decide) rfl rfl q1082 q1083 q1084 q118 q1085 (XS.out (by decide)) <|
  r_pop dX1_town_87 <|
  r_aload_n (k := 0) dX1_town_88 rfl <|
  r_getR (ci := 1) (q := (RX1, TX1, 13)) (k := 6) dX1_town_89 (by decide) rfl in_X1 (by decide) (Or.inl q474) rfl <|
  r_cV (Z := mJ2_clear) (ci := 22) (q := (RJ2, TJ2, 3)) dX1_town_92 rfl (by decide +kernel) ⟨by decide, by decide⟩ (by decide) rfl rfl q1098 q1099 q1100 q123 q1101 (XS.out (by decide)) <|
  r_aload_n (k := 0) dX1_town_95 rfl <|
  r_getR (ci := 1) (q := (RX1, TX1, 13)) (k := 0) dX1_town_96 (by decide) rfl in_X1 (by decide) (Or.inl q465) rfl <|
  r_getI (ci := 2) (q := (RX2, TX2, 31)) (k := 0) dX1_town_99 (by decide) rfl in_X2 (by decide) (Or.inr (Or.inl ⟨_, q179⟩)) rfl <|
  r_ret rfl (Or.inl ⟨dX1_town_102, Or.inl rfl⟩))
  (r_exc29 rfl dX1_town_55 dX1_town_58 dX1_town_59 q1368 <|
  r_thr dX1_town_62 (by decide))
-- CheekTown.townText(LCheekTown$World;)V cuts [0, 13]
def tX1_townText_0 (d : Nat) (Q : Outcome → MH → Prop) (J : Nat → KT) : KT :=
  i_aload 0 <|
  i_getR 1 4 <|
  i_call mX3_isOver d 1 (pV 3) (xOut Q) <|
  i_if_eq
  (i_const 0 <|
  i_istore 2 <|
  (J 13))
  (i_vret Q)
theorem kX1_townText_0 {d : Nat} {Q : Outcome → MH → Prop} : ∀ ls st h, tX1_townText_0 d Q (fun pc ls st h => WPb mX1_townText d pc ls st h Q) ls st h → WPb mX1_townText d 0 ls st h Q :=
  r_aload_n (k := 0) dX1_townText_0 rfl <|
  r_getR (ci := 1) (q := (RX1, TX1, 13)) (k := 4) dX1_townText_1 (by decide) rfl in_X1 (by decide) (Or.inl q472) rfl <|
  r_cV (Z := mX3_isOver) (ci := 3) (q := (RX3, TX3, 7)) dX1_townText_4 rfl (by decide +kernel) ⟨by decide, by decide⟩ (by decide) rfl rfl q1128 q1129 q1130 q119 q1131 (XS.out (noH _)) <|
  r_if_eq (pt := 11) dX1_townText_7 (by decide)
  (r_iconst (v := 0) dX1_townText_11 rfl <|
  r_istore_n (k := 2) dX1_townText_12 rfl <|
  (fun _ _ _ H => H))
  (r_vret rfl dX1_townText_10)
def tX1_townText_13 (d : Nat) (Q : Outcome → MH → Prop) (J : Nat → KT) : KT :=
  i_aload 0 <|
  i_iload 2 <|
  i_const 14 <|
  i_call mX1_noMore d 3 (pV 1) (xOut Q) <|
  i_aload 0 <|
  i_aload 1 <|
  i_call mX1_townLine d 2 (pV 1) (xOut Q) <|
  i_iinc 2 1 <|
  i_aload 0 <|
  i_call mX1_goesOn d 1 (pV 1) (xOut Q) <|
  i_if_ne
  ((J 13))
  (i_vret Q)
theorem kX1_townText_13 {d : Nat} {Q : Outcome → MH → Prop} : ∀ ls st h, tX1_townText_13 d Q (fun pc ls st h => WPb mX1_townText d pc ls st h Q) ls st h → WPb mX1_townText d 13 ls st h Q :=
  r_aload_n (k := 0) dX1_townText_13 rfl <|
  r_iload_n (k := 2) dX1_townText_14 rfl <|
  r_bipush (v := 14) dX1_townText_15 rfl <|
  r_cV (Z := mX1_noMore) (ci := 1) (q := (RX1, TX1, 13)) dX1_townText_17 rfl (by decide +kernel) ⟨by decide, by decide⟩ (by decide) rfl rfl q1140 q1142 qs12 q117 q1143 (XS.out (noH _)) <|
  r_aload_n (k := 0) dX1_townText_20 rfl <|
  r_aload_n (k := 1) dX1_townText_21 rfl <|
  r_cV (Z := mX1_townLine) (ci := 1) (q := (RX1, TX1, 13)) dX1_townText_22 rfl (by decide +kernel) ⟨by decide, by decide⟩ (by decide) rfl rfl q1196 q1198 qs13 q117 q1199 (XS.out (noH _)) <|
  r_iinc (v := 1) dX1_townText_25 rfl <|
  r_aload_n (k := 0) dX1_townText_28 rfl <|
  r_cV (Z := mX1_goesOn) (ci := 1) (q := (RX1, TX1, 13)) dX1_townText_29 rfl (by decide +kernel) ⟨by decide, by decide⟩ (by decide) rfl rfl q1345 q1347 qs21 q117 q1348 (XS.out (noH _)) <|
  r_if_ne (pt := 13) dX1_townText_32 (by decide)
  ((fun _ _ _ H => H))
  (r_vret rfl dX1_townText_35)
-- CheekTown.noMore(II)V cuts [0]
def tX1_noMore_0 (d : Nat) (Q : Outcome → MH → Prop) (J : Nat → KT) : KT :=
  i_iload 1 <|
  i_iload 2 <|
  i_icmp_ge
  (i_aload 0 <|
  i_getR 1 4 <|
  i_call mX3_word d 1 (pV 3) (xOut Q) <|
  i_pop <|
  i_aload 0 <|
  i_getR 1 4 <|
  i_call mX3_wrong d 1 (pV 3) (xOut Q) <|
  i_thr Q)
  (i_vret Q)
theorem kX1_noMore_0 {d : Nat} {Q : Outcome → MH → Prop} : ∀ ls st h, tX1_noMore_0 d Q (fun pc ls st h => WPb mX1_noMore d pc ls st h Q) ls st h → WPb mX1_noMore d 0 ls st h Q :=
  r_iload_n (k := 1) dX1_noMore_0 rfl <|
  r_iload_n (k := 2) dX1_noMore_1 rfl <|
  r_icmp_ge (pt := 6) dX1_noMore_2 (by decide)
  (r_aload_n (k := 0) dX1_noMore_6 rfl <|
  r_getR (ci := 1) (q := (RX1, TX1, 13)) (k := 4) dX1_noMore_7 (by decide) rfl in_X1 (by decide) (Or.inl q472) rfl <|
  r_cV (Z := mX3_word) (ci := 3) (q := (RX3, TX3, 7)) dX1_noMore_10 rfl (by decide +kernel) ⟨by decide, by decide⟩ (by decide) rfl rfl q1144 q1145 q1146 q119 q1147 (XS.out (noH _)) <|
  r_pop dX1_noMore_13 <|
  r_aload_n (k := 0) dX1_noMore_14 rfl <|
  r_getR (ci := 1) (q := (RX1, TX1, 13)) (k := 4) dX1_noMore_15 (by decide) rfl in_X1 (by decide) (Or.inl q472) rfl <|
  r_cV (Z := mX3_wrong) (ci := 3) (q := (RX3, TX3, 7)) dX1_noMore_18 rfl (by decide +kernel) ⟨by decide, by decide⟩ (by decide) rfl rfl q1172 q1173 q1174 q119 q1175 (XS.out (noH _)) <|
  r_thr dX1_noMore_21 (noH _))
  (r_vret rfl dX1_noMore_5)
-- CheekTown.townLine(LCheekTown$World;)V cuts [0, 211]
def tX1_townLine_0 (d : Nat) (Q : Outcome → MH → Prop) (J : Nat → KT) : KT :=
  i_aload 0 <|
  i_getR 1 4 <|
  i_astore 2 <|
  i_aload 2 <|
  i_call mX3_word d 1 (pV 3) (xOut Q) <|
  i_astore 3 <|
  i_const (-1) <|
  i_istore 4 <|
  i_aload 3 <|
  i_call mJ5_hashCode d 1 (pV 24) (xOut Q) <|
  i_sw [((-1884423129), i_aload 3 <|
  i_ldcS 50 <|
  i_call mJ5_equals d 2 (pV 24) (xOut Q) <|
  i_if_eq
  ((J 211))
  (i_const 5 <|
  i_istore 4 <|
  (J 211))),
  ((-991716523), i_aload 3 <|
  i_ldcS 44 <|
  i_call mJ5_equals d 2 (pV 24) (xOut Q) <|
  i_if_eq
  ((J 211))
  (i_const 2 <|
  i_istore 4 <|
  (J 211))),
  (96586, i_aload 3 <|
  i_ldcS 52 <|
  i_call mJ5_equals d 2 (pV 24) (xOut Q) <|
  i_if_eq
  ((J 211))
  (i_const 6 <|
  i_istore 4 <|
  (J 211))),
  (114832, i_aload 3 <|
  i_ldcS 48 <|
  i_call mJ5_equals d 2 (pV 24) (xOut Q) <|
  i_if_eq
  ((J 211))
  (i_const 4 <|
  i_istore 4 <|
  (J 211))),
  (3059428, i_aload 3 <|
  i_ldcS 46 <|
  i_call mJ5_equals d 2 (pV 24) (xOut Q) <|
  i_if_eq
  ((J 211))
  (i_const 3 <|
  i_istore 4 <|
  (J 211))),
  (3314155, i_aload 3 <|
  i_ldcS 40 <|
  i_call mJ5_equals d 2 (pV 24) (xOut Q) <|
  i_if_eq
  ((J 211))
  (i_const 0 <|
  i_istore 4 <|
  (J 211))),
  (99033460, i_aload 3 <|
  i_ldcS 42 <|
  i_call mJ5_equals d 2 (pV 24) (xOut Q) <|
  i_if_eq
  ((J 211))
  (i_const 1 <|
  i_istore 4 <|
  (J 211))),
  (105007872, i_aload 3 <|
  i_ldcS 54 <|
  i_call mJ5_equals d 2 (pV 24) (xOut Q) <|
  i_if_eq
  ((J 211))
  (i_const 7 <|
  i_istore 4 <|
  (J 211)))]
  ((J 211))
theorem kX1_townLine_0 {d : Nat} {Q : Outcome → MH → Prop} : ∀ ls st h, tX1_townLine_0 d Q (fun pc ls st h => WPb mX1_townLine d pc ls st h Q) ls st h → WPb mX1_townLine d 0 ls st h Q :=
  r_aload_n (k := 0) dX1_townLine_0 rfl <|
  r_getR (ci := 1) (q := (RX1, TX1, 13)) (k := 4) dX1_townLine_1 (by decide) rfl in_X1 (by decide) (Or.inl q472) rfl <|
  r_astore_n (k := 2) dX1_townLine_4 rfl <|
  r_aload_n (k := 2) dX1_townLine_5 rfl <|
  r_cV (Z := mX3_word) (ci := 3) (q := (RX3, TX3, 7)) dX1_townLine_6 rfl (by decide +kernel) ⟨by decide, by decide⟩ (by decide) rfl rfl q1144 q1145 q1146 q119 q1147 (XS.out (noH _)) <|
  r_astore_n (k := 3) dX1_townLine_9 rfl <|
  r_iconst (v := (-1)) dX1_townLine_10 rfl <|
  r_istore dX1_townLine_11 <|
  r_aload_n (k := 3) dX1_townLine_13 rfl <|
  r_cV (Z := mJ5_hashCode) (ci := 24) (q := (RJ5, TJ5, 4)) dX1_townLine_14 rfl (by decide +kernel) ⟨by decide, by decide⟩ (by decide) rfl rfl q1200 q1201 q1202 q131 q1203 (XS.out (noH _)) <|
  r_lsw (tl := [((-1884423129), 167), ((-991716523), 122), (96586, 182), (114832, 152), (3059428, 137), (3314155, 92), (99033460, 107), (105007872, 198)]) (td := 211) dX1_townLine_17 (by decide +kernel) (by decide +kernel) (by decide) (sw_cons (r_aload_n (k := 3) dX1_townLine_167 rfl <|
  r_ldcS (a := 50) (tx := "stomach") dX1_townLine_168 (by decide +kernel) (by decide) <|
  r_cV (Z := mJ5_equals) (ci := 24) (q := (RJ5, TJ5, 4)) dX1_townLine_170 rfl (by decide +kernel) ⟨by decide, by decide⟩ (by decide) rfl rfl q1262 q1263 q1264 q131 q1265 (XS.out (noH _)) <|
  r_if_eq (pt := 211) dX1_townLine_173 (by decide)
  ((fun _ _ _ H => H))
  (r_iconst (v := 5) dX1_townLine_176 rfl <|
  r_istore dX1_townLine_177 <|
  r_goto (pt := 211) dX1_townLine_179 (by decide) <|
  (fun _ _ _ H => H)))
  (sw_cons (r_aload_n (k := 3) dX1_townLine_122 rfl <|
  r_ldcS (a := 44) (tx := "person") dX1_townLine_123 (by decide +kernel) (by decide) <|
  r_cV (Z := mJ5_equals) (ci := 24) (q := (RJ5, TJ5, 4)) dX1_townLine_125 rfl (by decide +kernel) ⟨by decide, by decide⟩ (by decide) rfl rfl q1262 q1263 q1264 q131 q1265 (XS.out (noH _)) <|
  r_if_eq (pt := 211) dX1_townLine_128 (by decide)
  ((fun _ _ _ H => H))
  (r_iconst (v := 2) dX1_townLine_131 rfl <|
  r_istore dX1_townLine_132 <|
  r_goto (pt := 211) dX1_townLine_134 (by decide) <|
  (fun _ _ _ H => H)))
  (sw_cons (r_aload_n (k := 3) dX1_townLine_182 rfl <|
  r_ldcS (a := 52) (tx := "air") dX1_townLine_183 (by decide +kernel) (by decide) <|
  r_cV (Z := mJ5_equals) (ci := 24) (q := (RJ5, TJ5, 4)) dX1_townLine_185 rfl (by decide +kernel) ⟨by decide, by decide⟩ (by decide) rfl rfl q1262 q1263 q1264 q131 q1265 (XS.out (noH _)) <|
  r_if_eq (pt := 211) dX1_townLine_188 (by decide)
  ((fun _ _ _ H => H))
  (r_bipush (v := 6) dX1_townLine_191 rfl <|
  r_istore dX1_townLine_193 <|
  r_goto (pt := 211) dX1_townLine_195 (by decide) <|
  (fun _ _ _ H => H)))
  (sw_cons (r_aload_n (k := 3) dX1_townLine_152 rfl <|
  r_ldcS (a := 48) (tx := "tie") dX1_townLine_153 (by decide +kernel) (by decide) <|
  r_cV (Z := mJ5_equals) (ci := 24) (q := (RJ5, TJ5, 4)) dX1_townLine_155 rfl (by decide +kernel) ⟨by decide, by decide⟩ (by decide) rfl rfl q1262 q1263 q1264 q131 q1265 (XS.out (noH _)) <|
  r_if_eq (pt := 211) dX1_townLine_158 (by decide)
  ((fun _ _ _ H => H))
  (r_iconst (v := 4) dX1_townLine_161 rfl <|
  r_istore dX1_townLine_162 <|
  r_goto (pt := 211) dX1_townLine_164 (by decide) <|
  (fun _ _ _ H => H)))
  (sw_cons (r_aload_n (k := 3) dX1_townLine_137 rfl <|
  r_ldcS (a := 46) (tx := "cold") dX1_townLine_138 (by decide +kernel) (by decide) <|
  r_cV (Z := mJ5_equals) (ci := 24) (q := (RJ5, TJ5, 4)) dX1_townLine_140 rfl (by decide +kernel) ⟨by decide, by decide⟩ (by decide) rfl rfl q1262 q1263 q1264 q131 q1265 (XS.out (noH _)) <|
  r_if_eq (pt := 211) dX1_townLine_143 (by decide)
  ((fun _ _ _ H => H))
  (r_iconst (v := 3) dX1_townLine_146 rfl <|
  r_istore dX1_townLine_147 <|
  r_goto (pt := 211) dX1_townLine_149 (by decide) <|
  (fun _ _ _ H => H)))
  (sw_cons (r_aload_n (k := 3) dX1_townLine_92 rfl <|
  r_ldcS (a := 40) (tx := "land") dX1_townLine_93 (by decide +kernel) (by decide) <|
  r_cV (Z := mJ5_equals) (ci := 24) (q := (RJ5, TJ5, 4)) dX1_townLine_95 rfl (by decide +kernel) ⟨by decide, by decide⟩ (by decide) rfl rfl q1262 q1263 q1264 q131 q1265 (XS.out (noH _)) <|
  r_if_eq (pt := 211) dX1_townLine_98 (by decide)
  ((fun _ _ _ H => H))
  (r_iconst (v := 0) dX1_townLine_101 rfl <|
  r_istore dX1_townLine_102 <|
  r_goto (pt := 211) dX1_townLine_104 (by decide) <|
  (fun _ _ _ H => H)))
  (sw_cons (r_aload_n (k := 3) dX1_townLine_107 rfl <|
  r_ldcS (a := 42) (tx := "habit") dX1_townLine_108 (by decide +kernel) (by decide) <|
  r_cV (Z := mJ5_equals) (ci := 24) (q := (RJ5, TJ5, 4)) dX1_townLine_110 rfl (by decide +kernel) ⟨by decide, by decide⟩ (by decide) rfl rfl q1262 q1263 q1264 q131 q1265 (XS.out (noH _)) <|
  r_if_eq (pt := 211) dX1_townLine_113 (by decide)
  ((fun _ _ _ H => H))
  (r_iconst (v := 1) dX1_townLine_116 rfl <|
  r_istore dX1_townLine_117 <|
  r_goto (pt := 211) dX1_townLine_119 (by decide) <|
  (fun _ _ _ H => H)))
  (sw_cons (r_aload_n (k := 3) dX1_townLine_198 rfl <|
  r_ldcS (a := 54) (tx := "noses") dX1_townLine_199 (by decide +kernel) (by decide) <|
  r_cV (Z := mJ5_equals) (ci := 24) (q := (RJ5, TJ5, 4)) dX1_townLine_201 rfl (by decide +kernel) ⟨by decide, by decide⟩ (by decide) rfl rfl q1262 q1263 q1264 q131 q1265 (XS.out (noH _)) <|
  r_if_eq (pt := 211) dX1_townLine_204 (by decide)
  ((fun _ _ _ H => H))
  (r_bipush (v := 7) dX1_townLine_207 rfl <|
  r_istore dX1_townLine_209 <|
  (fun _ _ _ H => H)))
  (sw_nil ((fun _ _ _ H => H)))))))))))
def tX1_townLine_211 (d : Nat) (Q : Outcome → MH → Prop) (J : Nat → KT) : KT :=
  i_iload 4 <|
  i_sw [(0, i_aload 1 <|
  i_getI 2 1 <|
  i_const 6 <|
  i_icmp_ne
  (i_aload 1 <|
  i_dup <|
  i_getI 2 1 <|
  i_const 1 <|
  i_iadd <|
  i_putI 2 1 .int <|
  i_vret Q)
  (i_aload 2 <|
  i_call mX3_wrong d 1 (pV 3) (xOut Q) <|
  i_thr Q)),
  (1, i_aload 0 <|
  i_aload 1 <|
  i_call mX1_aHabit d 2 (pV 1) (xOut Q) <|
  i_vret Q),
  (2, i_aload 0 <|
  i_aload 1 <|
  i_call mX1_aPerson d 2 (pV 1) (xOut Q) <|
  i_vret Q),
  (3, i_aload 1 <|
  i_getR 2 22 <|
  i_aload 0 <|
  i_aload 1 <|
  i_call mX1_personTold d 2 (pV 1) (xOut Q) <|
  i_const 1 <|
  i_zast <|
  i_vret Q),
  (4, i_aload 0 <|
  i_aload 1 <|
  i_call mX1_aTie d 2 (pV 1) (xOut Q) <|
  i_vret Q),
  (5, i_aload 1 <|
  i_aload 2 <|
  i_const 0 <|
  i_const 99 <|
  i_call mX3_number d 3 (pV 3) (xOut Q) <|
  i_putI 2 11 .int <|
  i_vret Q),
  (6, i_aload 1 <|
  i_aload 2 <|
  i_const 0 <|
  i_const 99 <|
  i_call mX3_number d 3 (pV 3) (xOut Q) <|
  i_putI 2 12 .int <|
  i_vret Q),
  (7, i_aload 1 <|
  i_aload 2 <|
  i_const 0 <|
  i_const 99 <|
  i_call mX3_number d 3 (pV 3) (xOut Q) <|
  i_putI 2 13 .int <|
  i_vret Q)]
  (i_aload 2 <|
  i_call mX3_wrong d 1 (pV 3) (xOut Q) <|
  i_thr Q)
theorem kX1_townLine_211 {d : Nat} {Q : Outcome → MH → Prop} : ∀ ls st h, tX1_townLine_211 d Q (fun pc ls st h => WPb mX1_townLine d pc ls st h Q) ls st h → WPb mX1_townLine d 211 ls st h Q :=
  r_iload dX1_townLine_211 <|
  r_tsw (tl := [(0, 260), (1, 285), (2, 291), (3, 297), (4, 309), (5, 315), (6, 327), (7, 339)]) (td := 351) dX1_townLine_213 (by decide +kernel) (by decide) (by decide +kernel) (by decide) (sw_cons (r_aload_n (k := 1) dX1_townLine_260 rfl <|
  r_getI (ci := 2) (q := (RX2, TX2, 31)) (k := 1) dX1_townLine_261 (by decide) rfl in_X2 (by decide) (Or.inr (Or.inl ⟨_, q181⟩)) rfl <|
  r_bipush (v := 6) dX1_townLine_264 rfl <|
  r_icmp_ne (pt := 274) dX1_townLine_266 (by decide)
  (r_aload_n (k := 1) dX1_townLine_274 rfl <|
  r_dup dX1_townLine_275 <|
  r_getI (ci := 2) (q := (RX2, TX2, 31)) (k := 1) dX1_townLine_276 (by decide) rfl in_X2 (by decide) (Or.inr (Or.inl ⟨_, q181⟩)) rfl <|
  r_iconst (v := 1) dX1_townLine_279 rfl <|
  r_iadd dX1_townLine_280 <|
  r_putI (ci := 2) (q := (RX2, TX2, 31)) (k := 1) tyX2 tyX2_ok nmX2 dX1_townLine_281 (by decide) rfl in_X2 (by decide) (Or.inl ⟨rfl, (Or.inr (Or.inl ⟨_, q181⟩))⟩) rfl rfl <|
  r_vret rfl dX1_townLine_284)
  (r_aload_n (k := 2) dX1_townLine_269 rfl <|
  r_cV (Z := mX3_wrong) (ci := 3) (q := (RX3, TX3, 7)) dX1_townLine_270 rfl (by decide +kernel) ⟨by decide, by decide⟩ (by decide) rfl rfl q1172 q1173 q1174 q119 q1175 (XS.out (noH _)) <|
  r_thr dX1_townLine_273 (noH _)))
  (sw_cons (r_aload_n (k := 0) dX1_townLine_285 rfl <|
  r_aload_n (k := 1) dX1_townLine_286 rfl <|
  r_cV (Z := mX1_aHabit) (ci := 1) (q := (RX1, TX1, 13)) dX1_townLine_287 rfl (by decide +kernel) ⟨by decide, by decide⟩ (by decide) rfl rfl q1277 q1279 qs14 q117 q1280 (XS.out (noH _)) <|
  r_vret rfl dX1_townLine_290)
  (sw_cons (r_aload_n (k := 0) dX1_townLine_291 rfl <|
  r_aload_n (k := 1) dX1_townLine_292 rfl <|
  r_cV (Z := mX1_aPerson) (ci := 1) (q := (RX1, TX1, 13)) dX1_townLine_293 rfl (by decide +kernel) ⟨by decide, by decide⟩ (by decide) rfl rfl q1326 q1328 qs18 q117 q1329 (XS.out (noH _)) <|
  r_vret rfl dX1_townLine_296)
  (sw_cons (r_aload_n (k := 1) dX1_townLine_297 rfl <|
  r_getR (ci := 2) (q := (RX2, TX2, 31)) (k := 22) dX1_townLine_298 (by decide) rfl in_X2 (by decide) (Or.inr (Or.inl ⟨_, q228⟩)) rfl <|
  r_aload_n (k := 0) dX1_townLine_301 rfl <|
  r_aload_n (k := 1) dX1_townLine_302 rfl <|
  r_cV (Z := mX1_personTold) (ci := 1) (q := (RX1, TX1, 13)) dX1_townLine_303 rfl (by decide +kernel) ⟨by decide, by decide⟩ (by decide) rfl rfl q1332 q1334 qs19 q117 q1335 (XS.out (noH _)) <|
  r_iconst (v := 1) dX1_townLine_306 rfl <|
  r_zast dX1_townLine_307 <|
  r_vret rfl dX1_townLine_308)
  (sw_cons (r_aload_n (k := 0) dX1_townLine_309 rfl <|
  r_aload_n (k := 1) dX1_townLine_310 rfl <|
  r_cV (Z := mX1_aTie) (ci := 1) (q := (RX1, TX1, 13)) dX1_townLine_311 rfl (by decide +kernel) ⟨by decide, by decide⟩ (by decide) rfl rfl q1336 q1338 qs20 q117 q1339 (XS.out (noH _)) <|
  r_vret rfl dX1_townLine_314)
  (sw_cons (r_aload_n (k := 1) dX1_townLine_315 rfl <|
  r_aload_n (k := 2) dX1_townLine_316 rfl <|
  r_iconst (v := 0) dX1_townLine_317 rfl <|
  r_bipush (v := 99) dX1_townLine_318 rfl <|
  r_cV (Z := mX3_number) (ci := 3) (q := (RX3, TX3, 7)) dX1_townLine_320 rfl (by decide +kernel) ⟨by decide, by decide⟩ (by decide) rfl rfl q1281 q1282 q1283 q119 q1284 (XS.out (noH _)) <|
  r_putI (ci := 2) (q := (RX2, TX2, 31)) (k := 11) tyX2 tyX2_ok nmX2 dX1_townLine_323 (by decide) rfl in_X2 (by decide) (Or.inl ⟨rfl, (Or.inr (Or.inl ⟨_, q204⟩))⟩) rfl rfl <|
  r_vret rfl dX1_townLine_326)
  (sw_cons (r_aload_n (k := 1) dX1_townLine_327 rfl <|
  r_aload_n (k := 2) dX1_townLine_328 rfl <|
  r_iconst (v := 0) dX1_townLine_329 rfl <|
  r_bipush (v := 99) dX1_townLine_330 rfl <|
  r_cV (Z := mX3_number) (ci := 3) (q := (RX3, TX3, 7)) dX1_townLine_332 rfl (by decide +kernel) ⟨by decide, by decide⟩ (by decide) rfl rfl q1281 q1282 q1283 q119 q1284 (XS.out (noH _)) <|
  r_putI (ci := 2) (q := (RX2, TX2, 31)) (k := 12) tyX2 tyX2_ok nmX2 dX1_townLine_335 (by decide) rfl in_X2 (by decide) (Or.inl ⟨rfl, (Or.inr (Or.inl ⟨_, q206⟩))⟩) rfl rfl <|
  r_vret rfl dX1_townLine_338)
  (sw_cons (r_aload_n (k := 1) dX1_townLine_339 rfl <|
  r_aload_n (k := 2) dX1_townLine_340 rfl <|
  r_iconst (v := 0) dX1_townLine_341 rfl <|
  r_bipush (v := 99) dX1_townLine_342 rfl <|
  r_cV (Z := mX3_number) (ci := 3) (q := (RX3, TX3, 7)) dX1_townLine_344 rfl (by decide +kernel) ⟨by decide, by decide⟩ (by decide) rfl rfl q1281 q1282 q1283 q119 q1284 (XS.out (noH _)) <|
  r_putI (ci := 2) (q := (RX2, TX2, 31)) (k := 13) tyX2 tyX2_ok nmX2 dX1_townLine_347 (by decide) rfl in_X2 (by decide) (Or.inl ⟨rfl, (Or.inr (Or.inl ⟨_, q208⟩))⟩) rfl rfl <|
  r_vret rfl dX1_townLine_350)
  (sw_nil (r_aload_n (k := 2) dX1_townLine_351 rfl <|
  r_cV (Z := mX3_wrong) (ci := 3) (q := (RX3, TX3, 7)) dX1_townLine_352 rfl (by decide +kernel) ⟨by decide, by decide⟩ (by decide) rfl rfl q1172 q1173 q1174 q119 q1175 (XS.out (noH _)) <|
  r_thr dX1_townLine_355 (noH _)))))))))))
-- CheekTown.aHabit(LCheekTown$World;)V cuts [0]
def tX1_aHabit_0 (d : Nat) (Q : Outcome → MH → Prop) (J : Nat → KT) : KT :=
  i_aload 0 <|
  i_getR 1 4 <|
  i_astore 2 <|
  i_aload 1 <|
  i_getI 2 2 <|
  i_istore 3 <|
  i_iload 3 <|
  i_const 24 <|
  i_icmp_ne
  (i_aload 1 <|
  i_getR 2 15 <|
  i_iload 3 <|
  i_aload 2 <|
  i_const 0 <|
  i_aload 1 <|
  i_getI 2 1 <|
  i_const 1 <|
  i_isub <|
  i_call mX3_number d 3 (pV 3) (xOut Q) <|
  i_iast <|
  i_aload 1 <|
  i_getR 2 16 <|
  i_iload 3 <|
  i_aload 0 <|
  i_call mX1_greetingTold d 1 (pV 1) (xOut Q) <|
  i_iast <|
  i_aload 0 <|
  i_ldcS 34 <|
  i_call mX1_needs d 2 (pV 1) (xOut Q) <|
  i_aload 1 <|
  i_getR 2 17 <|
  i_iload 3 <|
  i_aload 2 <|
  i_const 1 <|
  i_const 9 <|
  i_call mX3_number d 3 (pV 3) (xOut Q) <|
  i_iast <|
  i_aload 1 <|
  i_dup <|
  i_getI 2 2 <|
  i_const 1 <|
  i_iadd <|
  i_putI 2 2 .int <|
  i_vret Q)
  (i_aload 2 <|
  i_call mX3_wrong d 1 (pV 3) (xOut Q) <|
  i_thr Q)
theorem kX1_aHabit_0 {d : Nat} {Q : Outcome → MH → Prop} : ∀ ls st h, tX1_aHabit_0 d Q (fun pc ls st h => WPb mX1_aHabit d pc ls st h Q) ls st h → WPb mX1_aHabit d 0 ls st h Q :=
  r_aload_n (k := 0) dX1_aHabit_0 rfl <|
  r_getR (ci := 1) (q := (RX1, TX1, 13)) (k := 4) dX1_aHabit_1 (by decide) rfl in_X1 (by decide) (Or.inl q472) rfl <|
  r_astore_n (k := 2) dX1_aHabit_4 rfl <|
  r_aload_n (k := 1) dX1_aHabit_5 rfl <|
  r_getI (ci := 2) (q := (RX2, TX2, 31)) (k := 2) dX1_aHabit_6 (by decide) rfl in_X2 (by decide) (Or.inr (Or.inl ⟨_, q183⟩)) rfl <|
  r_istore_n (k := 3) dX1_aHabit_9 rfl <|
  r_iload_n (k := 3) dX1_aHabit_10 rfl <|
  r_bipush (v := 24) dX1_aHabit_11 rfl <|
  r_icmp_ne (pt := 21) dX1_aHabit_13 (by decide)
  (r_aload_n (k := 1) dX1_aHabit_21 rfl <|
  r_getR (ci := 2) (q := (RX2, TX2, 31)) (k := 15) dX1_aHabit_22 (by decide) rfl in_X2 (by decide) (Or.inr (Or.inl ⟨_, q212⟩)) rfl <|
  r_iload_n (k := 3) dX1_aHabit_25 rfl <|
  r_aload_n (k := 2) dX1_aHabit_26 rfl <|
  r_iconst (v := 0) dX1_aHabit_27 rfl <|
  r_aload_n (k := 1) dX1_aHabit_28 rfl <|
  r_getI (ci := 2) (q := (RX2, TX2, 31)) (k := 1) dX1_aHabit_29 (by decide) rfl in_X2 (by decide) (Or.inr (Or.inl ⟨_, q181⟩)) rfl <|
  r_iconst (v := 1) dX1_aHabit_32 rfl <|
  r_isub dX1_aHabit_33 <|
  r_cV (Z := mX3_number) (ci := 3) (q := (RX3, TX3, 7)) dX1_aHabit_34 rfl (by decide +kernel) ⟨by decide, by decide⟩ (by decide) rfl rfl q1281 q1282 q1283 q119 q1284 (XS.out (noH _)) <|
  r_iast dX1_aHabit_37 <|
  r_aload_n (k := 1) dX1_aHabit_38 rfl <|
  r_getR (ci := 2) (q := (RX2, TX2, 31)) (k := 16) dX1_aHabit_39 (by decide) rfl in_X2 (by decide) (Or.inr (Or.inl ⟨_, q214⟩)) rfl <|
  r_iload_n (k := 3) dX1_aHabit_42 rfl <|
  r_aload_n (k := 0) dX1_aHabit_43 rfl <|
  r_cV (Z := mX1_greetingTold) (ci := 1) (q := (RX1, TX1, 13)) dX1_aHabit_44 rfl (by decide +kernel) ⟨by decide, by decide⟩ (by decide) rfl rfl q1290 q1292 qs15 q117 q1293 (XS.out (noH _)) <|
  r_iast dX1_aHabit_47 <|
  r_aload_n (k := 0) dX1_aHabit_48 rfl <|
  r_ldcS (a := 34) (tx := "weight") dX1_aHabit_49 (by decide +kernel) (by decide) <|
  r_cV (Z := mX1_needs) (ci := 1) (q := (RX1, TX1, 13)) dX1_aHabit_51 rfl (by decide +kernel) ⟨by decide, by decide⟩ (by decide) rfl rfl q1322 q1324 qs17 q117 q1325 (XS.out (noH _)) <|
  r_aload_n (k := 1) dX1_aHabit_54 rfl <|
  r_getR (ci := 2) (q := (RX2, TX2, 31)) (k := 17) dX1_aHabit_55 (by decide) rfl in_X2 (by decide) (Or.inr (Or.inl ⟨_, q216⟩)) rfl <|
  r_iload_n (k := 3) dX1_aHabit_58 rfl <|
  r_aload_n (k := 2) dX1_aHabit_59 rfl <|
  r_iconst (v := 1) dX1_aHabit_60 rfl <|
  r_bipush (v := 9) dX1_aHabit_61 rfl <|
  r_cV (Z := mX3_number) (ci := 3) (q := (RX3, TX3, 7)) dX1_aHabit_63 rfl (by decide +kernel) ⟨by decide, by decide⟩ (by decide) rfl rfl q1281 q1282 q1283 q119 q1284 (XS.out (noH _)) <|
  r_iast dX1_aHabit_66 <|
  r_aload_n (k := 1) dX1_aHabit_67 rfl <|
  r_dup dX1_aHabit_68 <|
  r_getI (ci := 2) (q := (RX2, TX2, 31)) (k := 2) dX1_aHabit_69 (by decide) rfl in_X2 (by decide) (Or.inr (Or.inl ⟨_, q183⟩)) rfl <|
  r_iconst (v := 1) dX1_aHabit_72 rfl <|
  r_iadd dX1_aHabit_73 <|
  r_putI (ci := 2) (q := (RX2, TX2, 31)) (k := 2) tyX2 tyX2_ok nmX2 dX1_aHabit_74 (by decide) rfl in_X2 (by decide) (Or.inl ⟨rfl, (Or.inr (Or.inl ⟨_, q183⟩))⟩) rfl rfl <|
  r_vret rfl dX1_aHabit_77)
  (r_aload_n (k := 2) dX1_aHabit_16 rfl <|
  r_cV (Z := mX3_wrong) (ci := 3) (q := (RX3, TX3, 7)) dX1_aHabit_17 rfl (by decide +kernel) ⟨by decide, by decide⟩ (by decide) rfl rfl q1172 q1173 q1174 q119 q1175 (XS.out (noH _)) <|
  r_thr dX1_aHabit_20 (noH _))
-- CheekTown.greetingTold()I cuts [0]
def tX1_greetingTold_0 (d : Nat) (Q : Outcome → MH → Prop) (J : Nat → KT) : KT :=
  i_aload 0 <|
  i_aload 0 <|
  i_getR 1 4 <|
  i_call mX3_word d 1 (pV 3) (xOut Q) <|
  i_call mX10_of d 1 pS (xOut Q) <|
  i_call mX1_greetingBy d 2 (pV 1) (xOut Q) <|
  i_ret Q (some .int)
theorem kX1_greetingTold_0 {d : Nat} {Q : Outcome → MH → Prop} : ∀ ls st h, tX1_greetingTold_0 d Q (fun pc ls st h => WPb mX1_greetingTold d pc ls st h Q) ls st h → WPb mX1_greetingTold d 0 ls st h Q :=
  r_aload_n (k := 0) dX1_greetingTold_0 rfl <|
  r_aload_n (k := 0) dX1_greetingTold_1 rfl <|
  r_getR (ci := 1) (q := (RX1, TX1, 13)) (k := 4) dX1_greetingTold_2 (by decide) rfl in_X1 (by decide) (Or.inl q472) rfl <|
  r_cV (Z := mX3_word) (ci := 3) (q := (RX3, TX3, 7)) dX1_greetingTold_5 rfl (by decide +kernel) ⟨by decide, by decide⟩ (by decide) rfl rfl q1144 q1145 q1146 q119 q1147 (XS.out (noH _)) <|
  r_cS (Z := mX10_of) dX1_greetingTold_8 rfl (by decide +kernel) ⟨by decide, by decide⟩ q1294 q1295 q146 q1296 (XS.out (noH _)) <|
  r_cV (Z := mX1_greetingBy) (ci := 1) (q := (RX1, TX1, 13)) dX1_greetingTold_11 rfl (by decide +kernel) ⟨by decide, by decide⟩ (by decide) rfl rfl q1309 q1311 qs16 q117 q1312 (XS.out (noH _)) <|
  r_ret rfl (Or.inl ⟨dX1_greetingTold_14, Or.inl rfl⟩)
-- CheekTown.greetingBy(LCheekTown$Kind;)I cuts [0]
def tX1_greetingBy_0 (d : Nat) (Q : Outcome → MH → Prop) (J : Nat → KT) : KT :=
  i_aload 1 <|
  i_ifnonnull
  (i_aload 1 <|
  i_sref 4 <|
  i_acmp_eq
  (i_aload 0 <|
  i_getR 1 4 <|
  i_const 1 <|
  i_const 4 <|
  i_call mX3_number d 3 (pV 3) (xOut Q) <|
  i_istore 2 <|
  i_aload 0 <|
  i_getR 1 4 <|
  i_call mX3_word d 1 (pV 3) (xOut Q) <|
  i_astore 3 <|
  i_aload 3 <|
  i_ldcS 30 <|
  i_call mJ5_equals d 2 (pV 24) (xOut Q) <|
  i_if_eq
  (i_aload 3 <|
  i_ldcS 32 <|
  i_call mJ5_equals d 2 (pV 24) (xOut Q) <|
  i_if_eq
  (i_aload 0 <|
  i_getR 1 4 <|
  i_call mX3_wrong d 1 (pV 3) (xOut Q) <|
  i_thr Q)
  (i_aload 1 <|
  i_iload 2 <|
  i_const 1 <|
  i_call mX10_code d 3 (pV 10) (xOut Q) <|
  i_ret Q (some .int)))
  (i_aload 1 <|
  i_iload 2 <|
  i_const 0 <|
  i_call mX10_code d 3 (pV 10) (xOut Q) <|
  i_ret Q (some .int)))
  (i_aload 1 <|
  i_const 1 <|
  i_const 0 <|
  i_call mX10_code d 3 (pV 10) (xOut Q) <|
  i_ret Q (some .int)))
  (i_aload 0 <|
  i_getR 1 4 <|
  i_call mX3_wrong d 1 (pV 3) (xOut Q) <|
  i_thr Q)
theorem kX1_greetingBy_0 {d : Nat} {Q : Outcome → MH → Prop} : ∀ ls st h, tX1_greetingBy_0 d Q (fun pc ls st h => WPb mX1_greetingBy d pc ls st h Q) ls st h → WPb mX1_greetingBy d 0 ls st h Q :=
  r_aload_n (k := 1) dX1_greetingBy_0 rfl <|
  r_ifnonnull (pt := 12) dX1_greetingBy_1 (by decide)
  (r_aload_n (k := 1) dX1_greetingBy_12 rfl <|
  r_getsR (a := 4) (T := ("CheekTown$Kind", "KISS", "LCheekTown$Kind;")) (by decide +kernel) (by decide) q1313 dX1_greetingBy_13 <|
  r_acmp_eq (pt := 26) dX1_greetingBy_16 (by decide)
  (r_aload_n (k := 0) dX1_greetingBy_26 rfl <|
  r_getR (ci := 1) (q := (RX1, TX1, 13)) (k := 4) dX1_greetingBy_27 (by decide) rfl in_X1 (by decide) (Or.inl q472) rfl <|
  r_iconst (v := 1) dX1_greetingBy_30 rfl <|
  r_iconst (v := 4) dX1_greetingBy_31 rfl <|
  r_cV (Z := mX3_number) (ci := 3) (q := (RX3, TX3, 7)) dX1_greetingBy_32 rfl (by decide +kernel) ⟨by decide, by decide⟩ (by decide) rfl rfl q1281 q1282 q1283 q119 q1284 (XS.out (noH _)) <|
  r_istore_n (k := 2) dX1_greetingBy_35 rfl <|
  r_aload_n (k := 0) dX1_greetingBy_36 rfl <|
  r_getR (ci := 1) (q := (RX1, TX1, 13)) (k := 4) dX1_greetingBy_37 (by decide) rfl in_X1 (by decide) (Or.inl q472) rfl <|
  r_cV (Z := mX3_word) (ci := 3) (q := (RX3, TX3, 7)) dX1_greetingBy_40 rfl (by decide +kernel) ⟨by decide, by decide⟩ (by decide) rfl rfl q1144 q1145 q1146 q119 q1147 (XS.out (noH _)) <|
  r_astore_n (k := 3) dX1_greetingBy_43 rfl <|
  r_aload_n (k := 3) dX1_greetingBy_44 rfl <|
  r_ldcS (a := 30) (tx := "left") dX1_greetingBy_45 (by decide +kernel) (by decide) <|
  r_cV (Z := mJ5_equals) (ci := 24) (q := (RJ5, TJ5, 4)) dX1_greetingBy_47 rfl (by decide +kernel) ⟨by decide, by decide⟩ (by decide) rfl rfl q1262 q1263 q1264 q131 q1265 (XS.out (noH _)) <|
  r_if_eq (pt := 60) dX1_greetingBy_50 (by decide)
  (r_aload_n (k := 3) dX1_greetingBy_60 rfl <|
  r_ldcS (a := 32) (tx := "right") dX1_greetingBy_61 (by decide +kernel) (by decide) <|
  r_cV (Z := mJ5_equals) (ci := 24) (q := (RJ5, TJ5, 4)) dX1_greetingBy_63 rfl (by decide +kernel) ⟨by decide, by decide⟩ (by decide) rfl rfl q1262 q1263 q1264 q131 q1265 (XS.out (noH _)) <|
  r_if_eq (pt := 76) dX1_greetingBy_66 (by decide)
  (r_aload_n (k := 0) dX1_greetingBy_76 rfl <|
  r_getR (ci := 1) (q := (RX1, TX1, 13)) (k := 4) dX1_greetingBy_77 (by decide) rfl in_X1 (by decide) (Or.inl q472) rfl <|
  r_cV (Z := mX3_wrong) (ci := 3) (q := (RX3, TX3, 7)) dX1_greetingBy_80 rfl (by decide +kernel) ⟨by decide, by decide⟩ (by decide) rfl rfl q1172 q1173 q1174 q119 q1175 (XS.out (noH _)) <|
  r_thr dX1_greetingBy_83 (noH _))
  (r_aload_n (k := 1) dX1_greetingBy_69 rfl <|
  r_iload_n (k := 2) dX1_greetingBy_70 rfl <|
  r_iconst (v := 1) dX1_greetingBy_71 rfl <|
  r_cV (Z := mX10_code) (ci := 10) (q := (RX10, cx_TK, 2)) dX1_greetingBy_72 rfl (by decide +kernel) ⟨by decide, by decide⟩ (by decide) rfl rfl q1314 q1315 q1316 q146 q1317 (XS.out (noH _)) <|
  r_ret rfl (Or.inl ⟨dX1_greetingBy_75, Or.inl rfl⟩)))
  (r_aload_n (k := 1) dX1_greetingBy_53 rfl <|
  r_iload_n (k := 2) dX1_greetingBy_54 rfl <|
  r_iconst (v := 0) dX1_greetingBy_55 rfl <|
  r_cV (Z := mX10_code) (ci := 10) (q := (RX10, cx_TK, 2)) dX1_greetingBy_56 rfl (by decide +kernel) ⟨by decide, by decide⟩ (by decide) rfl rfl q1314 q1315 q1316 q146 q1317 (XS.out (noH _)) <|
  r_ret rfl (Or.inl ⟨dX1_greetingBy_59, Or.inl rfl⟩)))
  (r_aload_n (k := 1) dX1_greetingBy_19 rfl <|
  r_iconst (v := 1) dX1_greetingBy_20 rfl <|
  r_iconst (v := 0) dX1_greetingBy_21 rfl <|
  r_cV (Z := mX10_code) (ci := 10) (q := (RX10, cx_TK, 2)) dX1_greetingBy_22 rfl (by decide +kernel) ⟨by decide, by decide⟩ (by decide) rfl rfl q1314 q1315 q1316 q146 q1317 (XS.out (noH _)) <|
  r_ret rfl (Or.inl ⟨dX1_greetingBy_25, Or.inl rfl⟩)))
  (r_aload_n (k := 0) dX1_greetingBy_4 rfl <|
  r_getR (ci := 1) (q := (RX1, TX1, 13)) (k := 4) dX1_greetingBy_5 (by decide) rfl in_X1 (by decide) (Or.inl q472) rfl <|
  r_cV (Z := mX3_wrong) (ci := 3) (q := (RX3, TX3, 7)) dX1_greetingBy_8 rfl (by decide +kernel) ⟨by decide, by decide⟩ (by decide) rfl rfl q1172 q1173 q1174 q119 q1175 (XS.out (noH _)) <|
  r_thr dX1_greetingBy_11 (noH _))
-- CheekTown.needs(Ljava/lang/String;)V cuts [0]
def tX1_needs_0 (d : Nat) (Q : Outcome → MH → Prop) (J : Nat → KT) : KT :=
  i_aload 0 <|
  i_getR 1 4 <|
  i_call mX3_word d 1 (pV 3) (xOut Q) <|
  i_aload 1 <|
  i_call mJ5_equals d 2 (pV 24) (xOut Q) <|
  i_if_ne
  (i_vret Q)
  (i_aload 0 <|
  i_getR 1 4 <|
  i_call mX3_wrong d 1 (pV 3) (xOut Q) <|
  i_thr Q)
theorem kX1_needs_0 {d : Nat} {Q : Outcome → MH → Prop} : ∀ ls st h, tX1_needs_0 d Q (fun pc ls st h => WPb mX1_needs d pc ls st h Q) ls st h → WPb mX1_needs d 0 ls st h Q :=
  r_aload_n (k := 0) dX1_needs_0 rfl <|
  r_getR (ci := 1) (q := (RX1, TX1, 13)) (k := 4) dX1_needs_1 (by decide) rfl in_X1 (by decide) (Or.inl q472) rfl <|
  r_cV (Z := mX3_word) (ci := 3) (q := (RX3, TX3, 7)) dX1_needs_4 rfl (by decide +kernel) ⟨by decide, by decide⟩ (by decide) rfl rfl q1144 q1145 q1146 q119 q1147 (XS.out (noH _)) <|
  r_aload_n (k := 1) dX1_needs_7 rfl <|
  r_cV (Z := mJ5_equals) (ci := 24) (q := (RJ5, TJ5, 4)) dX1_needs_8 rfl (by decide +kernel) ⟨by decide, by decide⟩ (by decide) rfl rfl q1262 q1263 q1264 q131 q1265 (XS.out (noH _)) <|
  r_if_ne (pt := 22) dX1_needs_11 (by decide)
  (r_vret rfl dX1_needs_22)
  (r_aload_n (k := 0) dX1_needs_14 rfl <|
  r_getR (ci := 1) (q := (RX1, TX1, 13)) (k := 4) dX1_needs_15 (by decide) rfl in_X1 (by decide) (Or.inl q472) rfl <|
  r_cV (Z := mX3_wrong) (ci := 3) (q := (RX3, TX3, 7)) dX1_needs_18 rfl (by decide +kernel) ⟨by decide, by decide⟩ (by decide) rfl rfl q1172 q1173 q1174 q119 q1175 (XS.out (noH _)) <|
  r_thr dX1_needs_21 (noH _))
-- CheekTown.aPerson(LCheekTown$World;)V cuts [0, 110]
def tX1_aPerson_0 (d : Nat) (Q : Outcome → MH → Prop) (J : Nat → KT) : KT :=
  i_aload 0 <|
  i_getR 1 4 <|
  i_astore 2 <|
  i_aload 1 <|
  i_getI 2 3 <|
  i_istore 3 <|
  i_iload 3 <|
  i_const 10 <|
  i_icmp_ne
  (i_aload 1 <|
  i_getR 2 18 <|
  i_iload 3 <|
  i_aload 2 <|
  i_const 0 <|
  i_aload 1 <|
  i_getI 2 1 <|
  i_const 1 <|
  i_isub <|
  i_call mX3_number d 3 (pV 3) (xOut Q) <|
  i_iast <|
  i_aload 1 <|
  i_getR 2 19 <|
  i_iload 3 <|
  i_aload 0 <|
  i_call mX1_greetingTold d 1 (pV 1) (xOut Q) <|
  i_iast <|
  i_aload 0 <|
  i_ldcS 36 <|
  i_call mX1_needs d 2 (pV 1) (xOut Q) <|
  i_aload 1 <|
  i_getR 2 20 <|
  i_iload 3 <|
  i_aload 2 <|
  i_const 0 <|
  i_const 9 <|
  i_call mX3_number d 3 (pV 3) (xOut Q) <|
  i_iast <|
  i_aload 0 <|
  i_ldcS 38 <|
  i_call mX1_needs d 2 (pV 1) (xOut Q) <|
  i_aload 1 <|
  i_getR 2 21 <|
  i_iload 3 <|
  i_aload 2 <|
  i_const 0 <|
  i_const 100 <|
  i_call mX3_number d 3 (pV 3) (xOut Q) <|
  i_iast <|
  i_aload 1 <|
  i_getR 2 22 <|
  i_iload 3 <|
  i_const 0 <|
  i_zast <|
  i_aload 1 <|
  i_getR 2 25 <|
  i_iload 3 <|
  i_const (-1) <|
  i_iast <|
  i_aload 1 <|
  i_getR 2 26 <|
  i_iload 3 <|
  i_const (-1) <|
  i_iast <|
  i_const 0 <|
  i_istore 4 <|
  (J 110))
  (i_aload 2 <|
  i_call mX3_wrong d 1 (pV 3) (xOut Q) <|
  i_thr Q)
theorem kX1_aPerson_0 {d : Nat} {Q : Outcome → MH → Prop} : ∀ ls st h, tX1_aPerson_0 d Q (fun pc ls st h => WPb mX1_aPerson d pc ls st h Q) ls st h → WPb mX1_aPerson d 0 ls st h Q :=
  r_aload_n (k := 0) dX1_aPerson_0 rfl <|
  r_getR (ci := 1) (q := (RX1, TX1, 13)) (k := 4) dX1_aPerson_1 (by decide) rfl in_X1 (by decide) (Or.inl q472) rfl <|
  r_astore_n (k := 2) dX1_aPerson_4 rfl <|
  r_aload_n (k := 1) dX1_aPerson_5 rfl <|
  r_getI (ci := 2) (q := (RX2, TX2, 31)) (k := 3) dX1_aPerson_6 (by decide) rfl in_X2 (by decide) (Or.inr (Or.inl ⟨_, q187⟩)) rfl <|
  r_istore_n (k := 3) dX1_aPerson_9 rfl <|
  r_iload_n (k := 3) dX1_aPerson_10 rfl <|
  r_bipush (v := 10) dX1_aPerson_11 rfl <|
  r_icmp_ne (pt := 21) dX1_aPerson_13 (by decide)
  (r_aload_n (k := 1) dX1_aPerson_21 rfl <|
  r_getR (ci := 2) (q := (RX2, TX2, 31)) (k := 18) dX1_aPerson_22 (by decide) rfl in_X2 (by decide) (Or.inr (Or.inl ⟨_, q218⟩)) rfl <|
  r_iload_n (k := 3) dX1_aPerson_25 rfl <|
  r_aload_n (k := 2) dX1_aPerson_26 rfl <|
  r_iconst (v := 0) dX1_aPerson_27 rfl <|
  r_aload_n (k := 1) dX1_aPerson_28 rfl <|
  r_getI (ci := 2) (q := (RX2, TX2, 31)) (k := 1) dX1_aPerson_29 (by decide) rfl in_X2 (by decide) (Or.inr (Or.inl ⟨_, q181⟩)) rfl <|
  r_iconst (v := 1) dX1_aPerson_32 rfl <|
  r_isub dX1_aPerson_33 <|
  r_cV (Z := mX3_number) (ci := 3) (q := (RX3, TX3, 7)) dX1_aPerson_34 rfl (by decide +kernel) ⟨by decide, by decide⟩ (by decide) rfl rfl q1281 q1282 q1283 q119 q1284 (XS.out (noH _)) <|
  r_iast dX1_aPerson_37 <|
  r_aload_n (k := 1) dX1_aPerson_38 rfl <|
  r_getR (ci := 2) (q := (RX2, TX2, 31)) (k := 19) dX1_aPerson_39 (by decide) rfl in_X2 (by decide) (Or.inr (Or.inl ⟨_, q222⟩)) rfl <|
  r_iload_n (k := 3) dX1_aPerson_42 rfl <|
  r_aload_n (k := 0) dX1_aPerson_43 rfl <|
  r_cV (Z := mX1_greetingTold) (ci := 1) (q := (RX1, TX1, 13)) dX1_aPerson_44 rfl (by decide +kernel) ⟨by decide, by decide⟩ (by decide) rfl rfl q1290 q1292 qs15 q117 q1293 (XS.out (noH _)) <|
  r_iast dX1_aPerson_47 <|
  r_aload_n (k := 0) dX1_aPerson_48 rfl <|
  r_ldcS (a := 36) (tx := "rank") dX1_aPerson_49 (by decide +kernel) (by decide) <|
  r_cV (Z := mX1_needs) (ci := 1) (q := (RX1, TX1, 13)) dX1_aPerson_51 rfl (by decide +kernel) ⟨by decide, by decide⟩ (by decide) rfl rfl q1322 q1324 qs17 q117 q1325 (XS.out (noH _)) <|
  r_aload_n (k := 1) dX1_aPerson_54 rfl <|
  r_getR (ci := 2) (q := (RX2, TX2, 31)) (k := 20) dX1_aPerson_55 (by decide) rfl in_X2 (by decide) (Or.inr (Or.inl ⟨_, q224⟩)) rfl <|
  r_iload_n (k := 3) dX1_aPerson_58 rfl <|
  r_aload_n (k := 2) dX1_aPerson_59 rfl <|
  r_iconst (v := 0) dX1_aPerson_60 rfl <|
  r_bipush (v := 9) dX1_aPerson_61 rfl <|
  r_cV (Z := mX3_number) (ci := 3) (q := (RX3, TX3, 7)) dX1_aPerson_63 rfl (by decide +kernel) ⟨by decide, by decide⟩ (by decide) rfl rfl q1281 q1282 q1283 q119 q1284 (XS.out (noH _)) <|
  r_iast dX1_aPerson_66 <|
  r_aload_n (k := 0) dX1_aPerson_67 rfl <|
  r_ldcS (a := 38) (tx := "bent") dX1_aPerson_68 (by decide +kernel) (by decide) <|
  r_cV (Z := mX1_needs) (ci := 1) (q := (RX1, TX1, 13)) dX1_aPerson_70 rfl (by decide +kernel) ⟨by decide, by decide⟩ (by decide) rfl rfl q1322 q1324 qs17 q117 q1325 (XS.out (noH _)) <|
  r_aload_n (k := 1) dX1_aPerson_73 rfl <|
  r_getR (ci := 2) (q := (RX2, TX2, 31)) (k := 21) dX1_aPerson_74 (by decide) rfl in_X2 (by decide) (Or.inr (Or.inl ⟨_, q226⟩)) rfl <|
  r_iload_n (k := 3) dX1_aPerson_77 rfl <|
  r_aload_n (k := 2) dX1_aPerson_78 rfl <|
  r_iconst (v := 0) dX1_aPerson_79 rfl <|
  r_bipush (v := 100) dX1_aPerson_80 rfl <|
  r_cV (Z := mX3_number) (ci := 3) (q := (RX3, TX3, 7)) dX1_aPerson_82 rfl (by decide +kernel) ⟨by decide, by decide⟩ (by decide) rfl rfl q1281 q1282 q1283 q119 q1284 (XS.out (noH _)) <|
  r_iast dX1_aPerson_85 <|
  r_aload_n (k := 1) dX1_aPerson_86 rfl <|
  r_getR (ci := 2) (q := (RX2, TX2, 31)) (k := 22) dX1_aPerson_87 (by decide) rfl in_X2 (by decide) (Or.inr (Or.inl ⟨_, q228⟩)) rfl <|
  r_iload_n (k := 3) dX1_aPerson_90 rfl <|
  r_iconst (v := 0) dX1_aPerson_91 rfl <|
  r_zast dX1_aPerson_92 <|
  r_aload_n (k := 1) dX1_aPerson_93 rfl <|
  r_getR (ci := 2) (q := (RX2, TX2, 31)) (k := 25) dX1_aPerson_94 (by decide) rfl in_X2 (by decide) (Or.inr (Or.inl ⟨_, q234⟩)) rfl <|
  r_iload_n (k := 3) dX1_aPerson_97 rfl <|
  r_iconst (v := (-1)) dX1_aPerson_98 rfl <|
  r_iast dX1_aPerson_99 <|
  r_aload_n (k := 1) dX1_aPerson_100 rfl <|
  r_getR (ci := 2) (q := (RX2, TX2, 31)) (k := 26) dX1_aPerson_101 (by decide) rfl in_X2 (by decide) (Or.inr (Or.inl ⟨_, q236⟩)) rfl <|
  r_iload_n (k := 3) dX1_aPerson_104 rfl <|
  r_iconst (v := (-1)) dX1_aPerson_105 rfl <|
  r_iast dX1_aPerson_106 <|
  r_iconst (v := 0) dX1_aPerson_107 rfl <|
  r_istore dX1_aPerson_108 <|
  (fun _ _ _ H => H))
  (r_aload_n (k := 2) dX1_aPerson_16 rfl <|
  r_cV (Z := mX3_wrong) (ci := 3) (q := (RX3, TX3, 7)) dX1_aPerson_17 rfl (by decide +kernel) ⟨by decide, by decide⟩ (by decide) rfl rfl q1172 q1173 q1174 q119 q1175 (XS.out (noH _)) <|
  r_thr dX1_aPerson_20 (noH _))
def tX1_aPerson_110 (d : Nat) (Q : Outcome → MH → Prop) (J : Nat → KT) : KT :=
  i_iload 4 <|
  i_const 10 <|
  i_icmp_ge
  (i_aload 1 <|
  i_dup <|
  i_getI 2 3 <|
  i_const 1 <|
  i_iadd <|
  i_putI 2 3 .int <|
  i_vret Q)
  (i_aload 1 <|
  i_getR 2 24 <|
  i_const 10 <|
  i_iload 3 <|
  i_imul <|
  i_iload 4 <|
  i_iadd <|
  i_const (-1) <|
  i_iast <|
  i_aload 1 <|
  i_getR 2 24 <|
  i_const 10 <|
  i_iload 4 <|
  i_imul <|
  i_iload 3 <|
  i_iadd <|
  i_const (-1) <|
  i_iast <|
  i_iinc 4 1 <|
  (J 110))
theorem kX1_aPerson_110 {d : Nat} {Q : Outcome → MH → Prop} : ∀ ls st h, tX1_aPerson_110 d Q (fun pc ls st h => WPb mX1_aPerson d pc ls st h Q) ls st h → WPb mX1_aPerson d 110 ls st h Q :=
  r_iload dX1_aPerson_110 <|
  r_bipush (v := 10) dX1_aPerson_112 rfl <|
  r_icmp_ge (pt := 149) dX1_aPerson_114 (by decide)
  (r_aload_n (k := 1) dX1_aPerson_149 rfl <|
  r_dup dX1_aPerson_150 <|
  r_getI (ci := 2) (q := (RX2, TX2, 31)) (k := 3) dX1_aPerson_151 (by decide) rfl in_X2 (by decide) (Or.inr (Or.inl ⟨_, q187⟩)) rfl <|
  r_iconst (v := 1) dX1_aPerson_154 rfl <|
  r_iadd dX1_aPerson_155 <|
  r_putI (ci := 2) (q := (RX2, TX2, 31)) (k := 3) tyX2 tyX2_ok nmX2 dX1_aPerson_156 (by decide) rfl in_X2 (by decide) (Or.inl ⟨rfl, (Or.inr (Or.inl ⟨_, q187⟩))⟩) rfl rfl <|
  r_vret rfl dX1_aPerson_159)
  (r_aload_n (k := 1) dX1_aPerson_117 rfl <|
  r_getR (ci := 2) (q := (RX2, TX2, 31)) (k := 24) dX1_aPerson_118 (by decide) rfl in_X2 (by decide) (Or.inr (Or.inl ⟨_, q232⟩)) rfl <|
  r_bipush (v := 10) dX1_aPerson_121 rfl <|
  r_iload_n (k := 3) dX1_aPerson_123 rfl <|
  r_imul dX1_aPerson_124 <|
  r_iload dX1_aPerson_125 <|
  r_iadd dX1_aPerson_127 <|
  r_iconst (v := (-1)) dX1_aPerson_128 rfl <|
  r_iast dX1_aPerson_129 <|
  r_aload_n (k := 1) dX1_aPerson_130 rfl <|
  r_getR (ci := 2) (q := (RX2, TX2, 31)) (k := 24) dX1_aPerson_131 (by decide) rfl in_X2 (by decide) (Or.inr (Or.inl ⟨_, q232⟩)) rfl <|
  r_bipush (v := 10) dX1_aPerson_134 rfl <|
  r_iload dX1_aPerson_136 <|
  r_imul dX1_aPerson_138 <|
  r_iload_n (k := 3) dX1_aPerson_139 rfl <|
  r_iadd dX1_aPerson_140 <|
  r_iconst (v := (-1)) dX1_aPerson_141 rfl <|
  r_iast dX1_aPerson_142 <|
  r_iinc (v := 1) dX1_aPerson_143 rfl <|
  r_goto (pt := 110) dX1_aPerson_146 (by decide) <|
  (fun _ _ _ H => H))
-- CheekTown.personTold(LCheekTown$World;)I cuts [0]
def tX1_personTold_0 (d : Nat) (Q : Outcome → MH → Prop) (J : Nat → KT) : KT :=
  i_aload 0 <|
  i_getR 1 4 <|
  i_const 0 <|
  i_aload 1 <|
  i_getI 2 3 <|
  i_const 1 <|
  i_isub <|
  i_call mX3_number d 3 (pV 3) (xOut Q) <|
  i_ret Q (some .int)
theorem kX1_personTold_0 {d : Nat} {Q : Outcome → MH → Prop} : ∀ ls st h, tX1_personTold_0 d Q (fun pc ls st h => WPb mX1_personTold d pc ls st h Q) ls st h → WPb mX1_personTold d 0 ls st h Q :=
  r_aload_n (k := 0) dX1_personTold_0 rfl <|
  r_getR (ci := 1) (q := (RX1, TX1, 13)) (k := 4) dX1_personTold_1 (by decide) rfl in_X1 (by decide) (Or.inl q472) rfl <|
  r_iconst (v := 0) dX1_personTold_4 rfl <|
  r_aload_n (k := 1) dX1_personTold_5 rfl <|
  r_getI (ci := 2) (q := (RX2, TX2, 31)) (k := 3) dX1_personTold_6 (by decide) rfl in_X2 (by decide) (Or.inr (Or.inl ⟨_, q187⟩)) rfl <|
  r_iconst (v := 1) dX1_personTold_9 rfl <|
  r_isub dX1_personTold_10 <|
  r_cV (Z := mX3_number) (ci := 3) (q := (RX3, TX3, 7)) dX1_personTold_11 rfl (by decide +kernel) ⟨by decide, by decide⟩ (by decide) rfl rfl q1281 q1282 q1283 q119 q1284 (XS.out (noH _)) <|
  r_ret rfl (Or.inl ⟨dX1_personTold_14, Or.inl rfl⟩)
-- CheekTown.aTie(LCheekTown$World;)V cuts [0]
def tX1_aTie_0 (d : Nat) (Q : Outcome → MH → Prop) (J : Nat → KT) : KT :=
  i_aload 1 <|
  i_getI 2 4 <|
  i_const 24 <|
  i_icmp_ne
  (i_aload 0 <|
  i_aload 1 <|
  i_call mX1_personTold d 2 (pV 1) (xOut Q) <|
  i_istore 2 <|
  i_aload 0 <|
  i_aload 1 <|
  i_call mX1_personTold d 2 (pV 1) (xOut Q) <|
  i_istore 3 <|
  i_iload 2 <|
  i_iload 3 <|
  i_icmp_eq
  (i_aload 0 <|
  i_getR 1 4 <|
  i_call mX3_wrong d 1 (pV 3) (xOut Q) <|
  i_thr Q)
  (i_aload 1 <|
  i_iload 2 <|
  i_iload 3 <|
  i_call mX2_tieOf d 3 (pV 2) (xOut Q) <|
  i_const (-1) <|
  i_icmp_eq
  (i_aload 1 <|
  i_iload 2 <|
  i_iload 3 <|
  i_call mX2_ties d 3 (pV 2) (xOut Q) <|
  i_vret Q)
  (i_aload 0 <|
  i_getR 1 4 <|
  i_call mX3_wrong d 1 (pV 3) (xOut Q) <|
  i_thr Q)))
  (i_aload 0 <|
  i_getR 1 4 <|
  i_call mX3_wrong d 1 (pV 3) (xOut Q) <|
  i_thr Q)
theorem kX1_aTie_0 {d : Nat} {Q : Outcome → MH → Prop} : ∀ ls st h, tX1_aTie_0 d Q (fun pc ls st h => WPb mX1_aTie d pc ls st h Q) ls st h → WPb mX1_aTie d 0 ls st h Q :=
  r_aload_n (k := 1) dX1_aTie_0 rfl <|
  r_getI (ci := 2) (q := (RX2, TX2, 31)) (k := 4) dX1_aTie_1 (by decide) rfl in_X2 (by decide) (Or.inr (Or.inl ⟨_, q190⟩)) rfl <|
  r_bipush (v := 24) dX1_aTie_4 rfl <|
  r_icmp_ne (pt := 17) dX1_aTie_6 (by decide)
  (r_aload_n (k := 0) dX1_aTie_17 rfl <|
  r_aload_n (k := 1) dX1_aTie_18 rfl <|
  r_cV (Z := mX1_personTold) (ci := 1) (q := (RX1, TX1, 13)) dX1_aTie_19 rfl (by decide +kernel) ⟨by decide, by decide⟩ (by decide) rfl rfl q1332 q1334 qs19 q117 q1335 (XS.out (noH _)) <|
  r_istore_n (k := 2) dX1_aTie_22 rfl <|
  r_aload_n (k := 0) dX1_aTie_23 rfl <|
  r_aload_n (k := 1) dX1_aTie_24 rfl <|
  r_cV (Z := mX1_personTold) (ci := 1) (q := (RX1, TX1, 13)) dX1_aTie_25 rfl (by decide +kernel) ⟨by decide, by decide⟩ (by decide) rfl rfl q1332 q1334 qs19 q117 q1335 (XS.out (noH _)) <|
  r_istore_n (k := 3) dX1_aTie_28 rfl <|
  r_iload_n (k := 2) dX1_aTie_29 rfl <|
  r_iload_n (k := 3) dX1_aTie_30 rfl <|
  r_icmp_eq (pt := 44) dX1_aTie_31 (by decide)
  (r_aload_n (k := 0) dX1_aTie_44 rfl <|
  r_getR (ci := 1) (q := (RX1, TX1, 13)) (k := 4) dX1_aTie_45 (by decide) rfl in_X1 (by decide) (Or.inl q472) rfl <|
  r_cV (Z := mX3_wrong) (ci := 3) (q := (RX3, TX3, 7)) dX1_aTie_48 rfl (by decide +kernel) ⟨by decide, by decide⟩ (by decide) rfl rfl q1172 q1173 q1174 q119 q1175 (XS.out (noH _)) <|
  r_thr dX1_aTie_51 (noH _))
  (r_aload_n (k := 1) dX1_aTie_34 rfl <|
  r_iload_n (k := 2) dX1_aTie_35 rfl <|
  r_iload_n (k := 3) dX1_aTie_36 rfl <|
  r_cV (Z := mX2_tieOf) (ci := 2) (q := (RX2, TX2, 31)) dX1_aTie_37 rfl (by decide +kernel) ⟨by decide, by decide⟩ (by decide) rfl rfl q1340 q1023 q1024 q118 q1025 (XS.out (noH _)) <|
  r_iconst (v := (-1)) dX1_aTie_40 rfl <|
  r_icmp_eq (pt := 52) dX1_aTie_41 (by decide)
  (r_aload_n (k := 1) dX1_aTie_52 rfl <|
  r_iload_n (k := 2) dX1_aTie_53 rfl <|
  r_iload_n (k := 3) dX1_aTie_54 rfl <|
  r_cV (Z := mX2_ties) (ci := 2) (q := (RX2, TX2, 31)) dX1_aTie_55 rfl (by decide +kernel) ⟨by decide, by decide⟩ (by decide) rfl rfl q1341 q1342 q1343 q118 q1344 (XS.out (noH _)) <|
  r_vret rfl dX1_aTie_58)
  (r_aload_n (k := 0) dX1_aTie_44 rfl <|
  r_getR (ci := 1) (q := (RX1, TX1, 13)) (k := 4) dX1_aTie_45 (by decide) rfl in_X1 (by decide) (Or.inl q472) rfl <|
  r_cV (Z := mX3_wrong) (ci := 3) (q := (RX3, TX3, 7)) dX1_aTie_48 rfl (by decide +kernel) ⟨by decide, by decide⟩ (by decide) rfl rfl q1172 q1173 q1174 q119 q1175 (XS.out (noH _)) <|
  r_thr dX1_aTie_51 (noH _))))
  (r_aload_n (k := 0) dX1_aTie_9 rfl <|
  r_getR (ci := 1) (q := (RX1, TX1, 13)) (k := 4) dX1_aTie_10 (by decide) rfl in_X1 (by decide) (Or.inl q472) rfl <|
  r_cV (Z := mX3_wrong) (ci := 3) (q := (RX3, TX3, 7)) dX1_aTie_13 rfl (by decide +kernel) ⟨by decide, by decide⟩ (by decide) rfl rfl q1172 q1173 q1174 q119 q1175 (XS.out (noH _)) <|
  r_thr dX1_aTie_16 (noH _))
-- CheekTown.goesOn()Z cuts [0]
def tX1_goesOn_0 (d : Nat) (Q : Outcome → MH → Prop) (J : Nat → KT) : KT :=
  i_aload 0 <|
  i_getR 1 4 <|
  i_call mX3_isOver d 1 (pV 3) (xOut Q) <|
  i_if_eq
  (i_aload 0 <|
  i_getR 1 4 <|
  i_const 59 <|
  i_call mX3_sign d 2 (pV 3) (xOut Q) <|
  i_if_eq
  (i_aload 0 <|
  i_getR 1 4 <|
  i_call mX3_wrong d 1 (pV 3) (xOut Q) <|
  i_thr Q)
  (i_const 1 <|
  i_ret Q (some .boolean)))
  (i_const 0 <|
  i_ret Q (some .boolean))
theorem kX1_goesOn_0 {d : Nat} {Q : Outcome → MH → Prop} : ∀ ls st h, tX1_goesOn_0 d Q (fun pc ls st h => WPb mX1_goesOn d pc ls st h Q) ls st h → WPb mX1_goesOn d 0 ls st h Q :=
  r_aload_n (k := 0) dX1_goesOn_0 rfl <|
  r_getR (ci := 1) (q := (RX1, TX1, 13)) (k := 4) dX1_goesOn_1 (by decide) rfl in_X1 (by decide) (Or.inl q472) rfl <|
  r_cV (Z := mX3_isOver) (ci := 3) (q := (RX3, TX3, 7)) dX1_goesOn_4 rfl (by decide +kernel) ⟨by decide, by decide⟩ (by decide) rfl rfl q1128 q1129 q1130 q119 q1131 (XS.out (noH _)) <|
  r_if_eq (pt := 12) dX1_goesOn_7 (by decide)
  (r_aload_n (k := 0) dX1_goesOn_12 rfl <|
  r_getR (ci := 1) (q := (RX1, TX1, 13)) (k := 4) dX1_goesOn_13 (by decide) rfl in_X1 (by decide) (Or.inl q472) rfl <|
  r_bipush (v := 59) dX1_goesOn_16 rfl <|
  r_cV (Z := mX3_sign) (ci := 3) (q := (RX3, TX3, 7)) dX1_goesOn_18 rfl (by decide +kernel) ⟨by decide, by decide⟩ (by decide) rfl rfl q1349 q1350 q1351 q119 q1352 (XS.out (noH _)) <|
  r_if_eq (pt := 26) dX1_goesOn_21 (by decide)
  (r_aload_n (k := 0) dX1_goesOn_26 rfl <|
  r_getR (ci := 1) (q := (RX1, TX1, 13)) (k := 4) dX1_goesOn_27 (by decide) rfl in_X1 (by decide) (Or.inl q472) rfl <|
  r_cV (Z := mX3_wrong) (ci := 3) (q := (RX3, TX3, 7)) dX1_goesOn_30 rfl (by decide +kernel) ⟨by decide, by decide⟩ (by decide) rfl rfl q1172 q1173 q1174 q119 q1175 (XS.out (noH _)) <|
  r_thr dX1_goesOn_33 (noH _))
  (r_iconst (v := 1) dX1_goesOn_24 rfl <|
  r_ret rfl (Or.inl ⟨dX1_goesOn_25, Or.inr (Or.inl rfl)⟩)))
  (r_iconst (v := 0) dX1_goesOn_10 rfl <|
  r_ret rfl (Or.inl ⟨dX1_goesOn_11, Or.inr (Or.inl rfl)⟩))
-- CheekTown.fails()V cuts [0]
def tX1_fails_0 (d : Nat) (Q : Outcome → MH → Prop) (J : Nat → KT) : KT :=
  i_aload 0 <|
  i_getR 1 4 <|
  i_aload 0 <|
  i_getR 1 4 <|
  i_getI 3 4 <|
  i_putI 3 5 .int <|
  i_exc d 25 <|
  i_thr Q
theorem kX1_fails_0 {d : Nat} {Q : Outcome → MH → Prop} : ∀ ls st h, tX1_fails_0 d Q (fun pc ls st h => WPb mX1_fails d pc ls st h Q) ls st h → WPb mX1_fails d 0 ls st h Q :=
  r_aload_n (k := 0) dX1_fails_0 rfl <|
  r_getR (ci := 1) (q := (RX1, TX1, 13)) (k := 4) dX1_fails_1 (by decide) rfl in_X1 (by decide) (Or.inl q472) rfl <|
  r_aload_n (k := 0) dX1_fails_4 rfl <|
  r_getR (ci := 1) (q := (RX1, TX1, 13)) (k := 4) dX1_fails_5 (by decide) rfl in_X1 (by decide) (Or.inl q472) rfl <|
  r_getI (ci := 3) (q := (RX3, TX3, 7)) (k := 4) dX1_fails_8 (by decide) rfl in_X3 (by decide) (Or.inr (Or.inl ⟨_, q325⟩)) rfl <|
  r_putI (ci := 3) (q := (RX3, TX3, 7)) (k := 5) tyX3 tyX3_ok nmX3 dX1_fails_11 (by decide) rfl in_X3 (by decide) (Or.inl ⟨rfl, (Or.inr (Or.inl ⟨_, q327⟩))⟩) rfl rfl <|
  r_exc25 rfl dX1_fails_14 dX1_fails_17 dX1_fails_18 q1357 <|
  r_thr dX1_fails_21 (noH _)
-- CheekTown.law()I cuts [0]
def tX1_law_0 (d : Nat) (Q : Outcome → MH → Prop) (J : Nat → KT) : KT :=
  i_aload 0 <|
  i_getR 1 4 <|
  i_call mX3_begins d 1 (pV 3) (xOut Q) <|
  i_aload 0 <|
  i_getR 1 0 <|
  i_aload 0 <|
  i_call mX1_lawText d 1 (pV 1) (xCat 9 1 (i_aload 0 <|
  i_call mX1_fails d 1 (pV 1) (xOut Q) <|
  i_aload 0 <|
  i_getR 1 6 <|
  i_call mJ2_clear d 1 (pV 22) (xOut Q) <|
  i_aload 0 <|
  i_getR 1 0 <|
  i_getR 2 30 <|
  i_getR 11 0 <|
  i_call mJ2_size d 1 (pV 22) (xOut Q) <|
  i_ret Q (some .int))
  xNone) <|
  i_putR 2 30 <|
  i_aload 0 <|
  i_getR 1 4 <|
  i_const (-1) <|
  i_putI 3 5 .int <|
  i_aload 0 <|
  i_getR 1 6 <|
  i_call mJ2_clear d 1 (pV 22) (xOut Q) <|
  i_aload 0 <|
  i_getR 1 0 <|
  i_getR 2 30 <|
  i_getR 11 0 <|
  i_call mJ2_size d 1 (pV 22) (xOut Q) <|
  i_ret Q (some .int)
theorem kX1_law_0 {d : Nat} {Q : Outcome → MH → Prop} : ∀ ls st h, tX1_law_0 d Q (fun pc ls st h => WPb mX1_law d pc ls st h Q) ls st h → WPb mX1_law d 0 ls st h Q :=
  r_aload_n (k := 0) dX1_law_0 rfl <|
  r_getR (ci := 1) (q := (RX1, TX1, 13)) (k := 4) dX1_law_1 (by decide) rfl in_X1 (by decide) (Or.inl q472) rfl <|
  r_cV (Z := mX3_begins) (ci := 3) (q := (RX3, TX3, 7)) dX1_law_4 rfl (by decide +kernel) ⟨by decide, by decide⟩ (by decide) rfl rfl q1120 q1121 q1122 q119 q1123 (XS.out (by decide)) <|
  r_aload_n (k := 0) dX1_law_7 rfl <|
  r_getR (ci := 1) (q := (RX1, TX1, 13)) (k := 0) dX1_law_8 (by decide) rfl in_X1 (by decide) (Or.inl q465) rfl <|
  r_aload_n (k := 0) dX1_law_11 rfl <|
  r_cV (Z := mX1_lawText) (ci := 1) (q := (RX1, TX1, 13)) dX1_law_12 rfl (by decide +kernel) ⟨by decide, by decide⟩ (by decide) rfl rfl q1390 q1392 qs23 q117 q1393 (XS.cat (k0 := 9) (pre := []) (suf := []) (x := ⟨7, 26, 29, 261⟩) (name := "CheekTown$Wrong") rfl (fun z hz => by cases hz) (by decide) (by decide) q1119 q1178 rfl (Or.inl ⟨1, rfl, dX1_law_29, rfl⟩) (r_aload_n (k := 0) dX1_law_30 rfl <|
  r_cV (Z := mX1_fails) (ci := 1) (q := (RX1, TX1, 13)) dX1_law_31 rfl (by decide +kernel) ⟨by decide, by decide⟩ (by decide) rfl rfl q1353 q1355 qs22 q117 q1356 (XS.out (by decide)) <|
  r_aload_n (k := 0) dX1_law_34 rfl <|
  r_getR (ci := 1) (q := (RX1, TX1, 13)) (k := 6) dX1_law_35 (by decide) rfl in_X1 (by decide) (Or.inl q474) rfl <|
  r_cV (Z := mJ2_clear) (ci := 22) (q := (RJ2, TJ2, 3)) dX1_law_38 rfl (by decide +kernel) ⟨by decide, by decide⟩ (by decide) rfl rfl q1098 q1099 q1100 q123 q1101 (XS.out (by decide)) <|
  r_aload_n (k := 0) dX1_law_41 rfl <|
  r_getR (ci := 1) (q := (RX1, TX1, 13)) (k := 0) dX1_law_42 (by decide) rfl in_X1 (by decide) (Or.inl q465) rfl <|
  r_getR (ci := 2) (q := (RX2, TX2, 31)) (k := 30) dX1_law_45 (by decide) rfl in_X2 (by decide) (Or.inr (Or.inl ⟨_, q246⟩)) rfl <|
  r_getR (ci := 11) (q := (RX11, TX11, 1)) (k := 0) dX1_law_48 (by decide) rfl in_X11 (by decide) (Or.inr (Or.inl ⟨_, q1403⟩)) rfl <|
  r_cV (Z := mJ2_size) (ci := 22) (q := (RJ2, TJ2, 3)) dX1_law_51 rfl (by decide +kernel) ⟨by decide, by decide⟩ (by decide) rfl rfl q1063 q1064 q1065 q123 q1066 (XS.out (by decide)) <|
  r_ret rfl (Or.inl ⟨dX1_law_54, Or.inl rfl⟩))
  XS.none) <|
  r_putR (ci := 2) (q := (RX2, TX2, 31)) (k := 30) tyX2 tyX2_ok nmX2 dX1_law_15 (by decide) rfl in_X2 (by decide) (Or.inl ⟨rfl, (Or.inr (Or.inl ⟨_, q246⟩))⟩) rfl rfl <|
  r_aload_n (k := 0) dX1_law_18 rfl <|
  r_getR (ci := 1) (q := (RX1, TX1, 13)) (k := 4) dX1_law_19 (by decide) rfl in_X1 (by decide) (Or.inl q472) rfl <|
  r_iconst (v := (-1)) dX1_law_22 rfl <|
  r_putI (ci := 3) (q := (RX3, TX3, 7)) (k := 5) tyX3 tyX3_ok nmX3 dX1_law_23 (by decide) rfl in_X3 (by decide) (Or.inl ⟨rfl, (Or.inr (Or.inl ⟨_, q327⟩))⟩) rfl rfl <|
  r_goto (pt := 34) dX1_law_26 (by decide) <|
  r_aload_n (k := 0) dX1_law_34 rfl <|
  r_getR (ci := 1) (q := (RX1, TX1, 13)) (k := 6) dX1_law_35 (by decide) rfl in_X1 (by decide) (Or.inl q474) rfl <|
  r_cV (Z := mJ2_clear) (ci := 22) (q := (RJ2, TJ2, 3)) dX1_law_38 rfl (by decide +kernel) ⟨by decide, by decide⟩ (by decide) rfl rfl q1098 q1099 q1100 q123 q1101 (XS.out (by decide)) <|
  r_aload_n (k := 0) dX1_law_41 rfl <|
  r_getR (ci := 1) (q := (RX1, TX1, 13)) (k := 0) dX1_law_42 (by decide) rfl in_X1 (by decide) (Or.inl q465) rfl <|
  r_getR (ci := 2) (q := (RX2, TX2, 31)) (k := 30) dX1_law_45 (by decide) rfl in_X2 (by decide) (Or.inr (Or.inl ⟨_, q246⟩)) rfl <|
  r_getR (ci := 11) (q := (RX11, TX11, 1)) (k := 0) dX1_law_48 (by decide) rfl in_X11 (by decide) (Or.inr (Or.inl ⟨_, q1403⟩)) rfl <|
  r_cV (Z := mJ2_size) (ci := 22) (q := (RJ2, TJ2, 3)) dX1_law_51 rfl (by decide +kernel) ⟨by decide, by decide⟩ (by decide) rfl rfl q1063 q1064 q1065 q123 q1066 (XS.out (by decide)) <|
  r_ret rfl (Or.inl ⟨dX1_law_54, Or.inl rfl⟩)
-- CheekTown.lawText()LCheekTown$Law; cuts [0, 20]
def tX1_lawText_0 (d : Nat) (Q : Outcome → MH → Prop) (J : Nat → KT) : KT :=
  i_new 11 1 <|
  i_dup <|
  i_call mX11_init d 1 pI (xOut Q) <|
  i_astore 1 <|
  i_aload 0 <|
  i_getR 1 4 <|
  i_call mX3_isOver d 1 (pV 3) (xOut Q) <|
  i_if_eq
  ((J 20))
  (i_aload 1 <|
  i_ret Q (some (.object "CheekTown$Law")))
theorem kX1_lawText_0 {d : Nat} {Q : Outcome → MH → Prop} : ∀ ls st h, tX1_lawText_0 d Q (fun pc ls st h => WPb mX1_lawText d pc ls st h Q) ls st h → WPb mX1_lawText d 0 ls st h Q :=
  r_new (ci := 11) (q := (RX11, TX11, 1)) tyX11 tyX11_ok (by decide) (by decide) (by decide) rfl rfl in_X11 q1394 q1395 q148 dX1_lawText_0 <|
  r_dup dX1_lawText_3 <|
  r_cIN (Z := mX11_init) dX1_lawText_4 rfl rfl rfl (by decide +kernel) ⟨by decide, by decide⟩ q1396 q1397 q148 q1398 (XS.out (noH _)) <|
  r_astore_n (k := 1) dX1_lawText_7 rfl <|
  r_aload_n (k := 0) dX1_lawText_8 rfl <|
  r_getR (ci := 1) (q := (RX1, TX1, 13)) (k := 4) dX1_lawText_9 (by decide) rfl in_X1 (by decide) (Or.inl q472) rfl <|
  r_cV (Z := mX3_isOver) (ci := 3) (q := (RX3, TX3, 7)) dX1_lawText_12 rfl (by decide +kernel) ⟨by decide, by decide⟩ (by decide) rfl rfl q1128 q1129 q1130 q119 q1131 (XS.out (noH _)) <|
  r_if_eq (pt := 20) dX1_lawText_15 (by decide)
  ((fun _ _ _ H => H))
  (r_aload_n (k := 1) dX1_lawText_18 rfl <|
  r_ret rfl (Or.inr (Or.inr ⟨dX1_lawText_19, Or.inl ⟨_, rfl⟩⟩)))
def tX1_lawText_20 (d : Nat) (Q : Outcome → MH → Prop) (J : Nat → KT) : KT :=
  i_aload 0 <|
  i_aload 1 <|
  i_getR 11 0 <|
  i_call mJ2_size d 1 (pV 22) (xOut Q) <|
  i_const 12 <|
  i_call mX1_noMore d 3 (pV 1) (xOut Q) <|
  i_aload 1 <|
  i_getR 11 0 <|
  i_aload 0 <|
  i_call mX1_lawLine d 1 (pV 1) (xOut Q) <|
  i_call mJ2_add d 2 (pV 22) (xOut Q) <|
  i_pop <|
  i_aload 0 <|
  i_call mX1_goesOn d 1 (pV 1) (xOut Q) <|
  i_if_ne
  ((J 20))
  (i_aload 1 <|
  i_ret Q (some (.object "CheekTown$Law")))
theorem kX1_lawText_20 {d : Nat} {Q : Outcome → MH → Prop} : ∀ ls st h, tX1_lawText_20 d Q (fun pc ls st h => WPb mX1_lawText d pc ls st h Q) ls st h → WPb mX1_lawText d 20 ls st h Q :=
  r_aload_n (k := 0) dX1_lawText_20 rfl <|
  r_aload_n (k := 1) dX1_lawText_21 rfl <|
  r_getR (ci := 11) (q := (RX11, TX11, 1)) (k := 0) dX1_lawText_22 (by decide) rfl in_X11 (by decide) (Or.inr (Or.inl ⟨_, q1403⟩)) rfl <|
  r_cV (Z := mJ2_size) (ci := 22) (q := (RJ2, TJ2, 3)) dX1_lawText_25 rfl (by decide +kernel) ⟨by decide, by decide⟩ (by decide) rfl rfl q1063 q1064 q1065 q123 q1066 (XS.out (noH _)) <|
  r_bipush (v := 12) dX1_lawText_28 rfl <|
  r_cV (Z := mX1_noMore) (ci := 1) (q := (RX1, TX1, 13)) dX1_lawText_30 rfl (by decide +kernel) ⟨by decide, by decide⟩ (by decide) rfl rfl q1140 q1142 qs12 q117 q1143 (XS.out (noH _)) <|
  r_aload_n (k := 1) dX1_lawText_33 rfl <|
  r_getR (ci := 11) (q := (RX11, TX11, 1)) (k := 0) dX1_lawText_34 (by decide) rfl in_X11 (by decide) (Or.inr (Or.inl ⟨_, q1403⟩)) rfl <|
  r_aload_n (k := 0) dX1_lawText_37 rfl <|
  r_cV (Z := mX1_lawLine) (ci := 1) (q := (RX1, TX1, 13)) dX1_lawText_38 rfl (by decide +kernel) ⟨by decide, by decide⟩ (by decide) rfl rfl q1407 q1409 qs24 q117 q1410 (XS.out (noH _)) <|
  r_cV (Z := mJ2_add) (ci := 22) (q := (RJ2, TJ2, 3)) dX1_lawText_41 rfl (by decide +kernel) ⟨by decide, by decide⟩ (by decide) rfl rfl q1531 q1532 q1533 q123 q1534 (XS.out (noH _)) <|
  r_pop dX1_lawText_44 <|
  r_aload_n (k := 0) dX1_lawText_45 rfl <|
  r_cV (Z := mX1_goesOn) (ci := 1) (q := (RX1, TX1, 13)) dX1_lawText_46 rfl (by decide +kernel) ⟨by decide, by decide⟩ (by decide) rfl rfl q1345 q1347 qs21 q117 q1348 (XS.out (noH _)) <|
  r_if_ne (pt := 20) dX1_lawText_49 (by decide)
  ((fun _ _ _ H => H))
  (r_aload_n (k := 1) dX1_lawText_52 rfl <|
  r_ret rfl (Or.inr (Or.inr ⟨dX1_lawText_53, Or.inl ⟨_, rfl⟩⟩)))
-- CheekTown.lawLine()LCheekTown$Line; cuts [0]
def tX1_lawLine_0 (d : Nat) (Q : Outcome → MH → Prop) (J : Nat → KT) : KT :=
  i_aload 0 <|
  i_call mX1_greetingTold d 1 (pV 1) (xOut Q) <|
  i_istore 1 <|
  i_new 12 2 <|
  i_dup <|
  i_iload 1 <|
  i_aload 0 <|
  i_getR 1 4 <|
  i_ldcS 64 <|
  i_call mX3_passes d 2 (pV 3) (xOut Q) <|
  i_if_eq
  (i_null <|
  i_call mX12_init d 3 pI (xOut Q) <|
  i_ret Q (some (.object "CheekTown$Line")))
  (i_aload 0 <|
  i_call mX1_cond d 1 (pV 1) (xOut Q) <|
  i_call mX12_init d 3 pI (xOut Q) <|
  i_ret Q (some (.object "CheekTown$Line")))
theorem kX1_lawLine_0 {d : Nat} {Q : Outcome → MH → Prop} : ∀ ls st h, tX1_lawLine_0 d Q (fun pc ls st h => WPb mX1_lawLine d pc ls st h Q) ls st h → WPb mX1_lawLine d 0 ls st h Q :=
  r_aload_n (k := 0) dX1_lawLine_0 rfl <|
  r_cV (Z := mX1_greetingTold) (ci := 1) (q := (RX1, TX1, 13)) dX1_lawLine_1 rfl (by decide +kernel) ⟨by decide, by decide⟩ (by decide) rfl rfl q1290 q1292 qs15 q117 q1293 (XS.out (noH _)) <|
  r_istore_n (k := 1) dX1_lawLine_4 rfl <|
  r_new (ci := 12) (q := (RX12, TX12, 2)) tyX12 tyX12_ok (by decide) (by decide) (by decide) rfl rfl in_X12 q1411 q1412 q149 dX1_lawLine_5 <|
  r_dup dX1_lawLine_8 <|
  r_iload_n (k := 1) dX1_lawLine_9 rfl <|
  r_aload_n (k := 0) dX1_lawLine_10 rfl <|
  r_getR (ci := 1) (q := (RX1, TX1, 13)) (k := 4) dX1_lawLine_11 (by decide) rfl in_X1 (by decide) (Or.inl q472) rfl <|
  r_ldcwS (a := 64) (tx := "if") dX1_lawLine_14 (by decide +kernel) (by decide) <|
  r_cV (Z := mX3_passes) (ci := 3) (q := (RX3, TX3, 7)) dX1_lawLine_17 rfl (by decide +kernel) ⟨by decide, by decide⟩ (by decide) rfl rfl q1414 q1415 q1416 q119 q1417 (XS.out (noH _)) <|
  r_if_eq (pt := 30) dX1_lawLine_20 (by decide)
  (r_null dX1_lawLine_30 <|
  r_cI (Z := mX12_init) dX1_lawLine_31 rfl rfl rfl (by decide +kernel) ⟨by decide, by decide⟩ q1609 q1610 q149 q1611 (XS.out (noH _)) <|
  r_ret rfl (Or.inr (Or.inr ⟨dX1_lawLine_34, Or.inl ⟨_, rfl⟩⟩)))
  (r_aload_n (k := 0) dX1_lawLine_23 rfl <|
  r_cV (Z := mX1_cond) (ci := 1) (q := (RX1, TX1, 13)) dX1_lawLine_24 rfl (by decide +kernel) ⟨by decide, by decide⟩ (by decide) rfl rfl q1420 q1422 qs25 q117 q1423 (XS.out (noH _)) <|
  r_goto (pt := 31) dX1_lawLine_27 (by decide) <|
  r_cI (Z := mX12_init) dX1_lawLine_31 rfl rfl rfl (by decide +kernel) ⟨by decide, by decide⟩ q1609 q1610 q149 q1611 (XS.out (noH _)) <|
  r_ret rfl (Or.inr (Or.inr ⟨dX1_lawLine_34, Or.inl ⟨_, rfl⟩⟩)))
-- CheekTown.cond()LCheekTown$Cond; cuts [0, 9]
def tX1_cond_0 (d : Nat) (Q : Outcome → MH → Prop) (J : Nat → KT) : KT :=
  i_new 13 2 <|
  i_dup <|
  i_const 0 <|
  i_call mX13_init d 2 pI (xOut Q) <|
  i_astore 1 <|
  (J 9)
theorem kX1_cond_0 {d : Nat} {Q : Outcome → MH → Prop} : ∀ ls st h, tX1_cond_0 d Q (fun pc ls st h => WPb mX1_cond d pc ls st h Q) ls st h → WPb mX1_cond d 0 ls st h Q :=
  r_new (ci := 13) (q := (RX13, TX13, 2)) tyX13 tyX13_ok (by decide) (by decide) (by decide) rfl rfl in_X13 q1424 q1425 q150 dX1_cond_0 <|
  r_dup dX1_cond_3 <|
  r_iconst (v := 0) dX1_cond_4 rfl <|
  r_cI (Z := mX13_init) dX1_cond_5 rfl rfl rfl (by decide +kernel) ⟨by decide, by decide⟩ q1426 q1427 q150 q1428 (XS.out (noH _)) <|
  r_astore_n (k := 1) dX1_cond_8 rfl <|
  (fun _ _ _ H => H)
def tX1_cond_9 (d : Nat) (Q : Outcome → MH → Prop) (J : Nat → KT) : KT :=
  i_aload 1 <|
  i_getR 13 1 <|
  i_aload 0 <|
  i_call mX1_allOf_2 d 1 (pV 1) (xOut Q) <|
  i_call mJ2_add d 2 (pV 22) (xOut Q) <|
  i_pop <|
  i_aload 0 <|
  i_getR 1 4 <|
  i_ldcS 62 <|
  i_call mX3_passes d 2 (pV 3) (xOut Q) <|
  i_if_ne
  ((J 9))
  (i_aload 1 <|
  i_ret Q (some (.object "CheekTown$Cond")))
theorem kX1_cond_9 {d : Nat} {Q : Outcome → MH → Prop} : ∀ ls st h, tX1_cond_9 d Q (fun pc ls st h => WPb mX1_cond d pc ls st h Q) ls st h → WPb mX1_cond d 9 ls st h Q :=
  r_aload_n (k := 1) dX1_cond_9 rfl <|
  r_getR (ci := 13) (q := (RX13, TX13, 2)) (k := 1) dX1_cond_10 (by decide) rfl in_X13 (by decide) (Or.inr (Or.inl ⟨_, q1434⟩)) rfl <|
  r_aload_n (k := 0) dX1_cond_13 rfl <|
  r_cV (Z := mX1_allOf_2) (ci := 1) (q := (RX1, TX1, 13)) dX1_cond_14 rfl (by decide +kernel) ⟨by decide, by decide⟩ (by decide) rfl rfl q1440 q1442 qs26 q117 q1443 (XS.out (noH _)) <|
  r_cV (Z := mJ2_add) (ci := 22) (q := (RJ2, TJ2, 3)) dX1_cond_17 rfl (by decide +kernel) ⟨by decide, by decide⟩ (by decide) rfl rfl q1531 q1532 q1533 q123 q1534 (XS.out (noH _)) <|
  r_pop dX1_cond_20 <|
  r_aload_n (k := 0) dX1_cond_21 rfl <|
  r_getR (ci := 1) (q := (RX1, TX1, 13)) (k := 4) dX1_cond_22 (by decide) rfl in_X1 (by decide) (Or.inl q472) rfl <|
  r_ldcwS (a := 62) (tx := "or") dX1_cond_25 (by decide +kernel) (by decide) <|
  r_cV (Z := mX3_passes) (ci := 3) (q := (RX3, TX3, 7)) dX1_cond_28 rfl (by decide +kernel) ⟨by decide, by decide⟩ (by decide) rfl rfl q1414 q1415 q1416 q119 q1417 (XS.out (noH _)) <|
  r_if_ne (pt := 9) dX1_cond_31 (by decide)
  ((fun _ _ _ H => H))
  (r_aload_n (k := 1) dX1_cond_34 rfl <|
  r_ret rfl (Or.inr (Or.inr ⟨dX1_cond_35, Or.inl ⟨_, rfl⟩⟩)))
-- CheekTown.allOf()LCheekTown$Cond; cuts [0, 9]
def tX1_allOf_2_0 (d : Nat) (Q : Outcome → MH → Prop) (J : Nat → KT) : KT :=
  i_new 13 2 <|
  i_dup <|
  i_const 1 <|
  i_call mX13_init d 2 pI (xOut Q) <|
  i_astore 1 <|
  (J 9)
theorem kX1_allOf_2_0 {d : Nat} {Q : Outcome → MH → Prop} : ∀ ls st h, tX1_allOf_2_0 d Q (fun pc ls st h => WPb mX1_allOf_2 d pc ls st h Q) ls st h → WPb mX1_allOf_2 d 0 ls st h Q :=
  r_new (ci := 13) (q := (RX13, TX13, 2)) tyX13 tyX13_ok (by decide) (by decide) (by decide) rfl rfl in_X13 q1424 q1425 q150 dX1_allOf_2_0 <|
  r_dup dX1_allOf_2_3 <|
  r_iconst (v := 1) dX1_allOf_2_4 rfl <|
  r_cI (Z := mX13_init) dX1_allOf_2_5 rfl rfl rfl (by decide +kernel) ⟨by decide, by decide⟩ q1426 q1427 q150 q1428 (XS.out (noH _)) <|
  r_astore_n (k := 1) dX1_allOf_2_8 rfl <|
  (fun _ _ _ H => H)
def tX1_allOf_2_9 (d : Nat) (Q : Outcome → MH → Prop) (J : Nat → KT) : KT :=
  i_aload 1 <|
  i_getR 13 1 <|
  i_aload 0 <|
  i_call mX1_atom d 1 (pV 1) (xOut Q) <|
  i_call mJ2_add d 2 (pV 22) (xOut Q) <|
  i_pop <|
  i_aload 0 <|
  i_getR 1 4 <|
  i_ldcS 60 <|
  i_call mX3_passes d 2 (pV 3) (xOut Q) <|
  i_if_ne
  ((J 9))
  (i_aload 1 <|
  i_ret Q (some (.object "CheekTown$Cond")))
theorem kX1_allOf_2_9 {d : Nat} {Q : Outcome → MH → Prop} : ∀ ls st h, tX1_allOf_2_9 d Q (fun pc ls st h => WPb mX1_allOf_2 d pc ls st h Q) ls st h → WPb mX1_allOf_2 d 9 ls st h Q :=
  r_aload_n (k := 1) dX1_allOf_2_9 rfl <|
  r_getR (ci := 13) (q := (RX13, TX13, 2)) (k := 1) dX1_allOf_2_10 (by decide) rfl in_X13 (by decide) (Or.inr (Or.inl ⟨_, q1434⟩)) rfl <|
  r_aload_n (k := 0) dX1_allOf_2_13 rfl <|
  r_cV (Z := mX1_atom) (ci := 1) (q := (RX1, TX1, 13)) dX1_allOf_2_14 rfl (by decide +kernel) ⟨by decide, by decide⟩ (by decide) rfl rfl q1444 q1446 qs27 q117 q1447 (XS.out (noH _)) <|
  r_cV (Z := mJ2_add) (ci := 22) (q := (RJ2, TJ2, 3)) dX1_allOf_2_17 rfl (by decide +kernel) ⟨by decide, by decide⟩ (by decide) rfl rfl q1531 q1532 q1533 q123 q1534 (XS.out (noH _)) <|
  r_pop dX1_allOf_2_20 <|
  r_aload_n (k := 0) dX1_allOf_2_21 rfl <|
  r_getR (ci := 1) (q := (RX1, TX1, 13)) (k := 4) dX1_allOf_2_22 (by decide) rfl in_X1 (by decide) (Or.inl q472) rfl <|
  r_ldcwS (a := 60) (tx := "and") dX1_allOf_2_25 (by decide +kernel) (by decide) <|
  r_cV (Z := mX3_passes) (ci := 3) (q := (RX3, TX3, 7)) dX1_allOf_2_28 rfl (by decide +kernel) ⟨by decide, by decide⟩ (by decide) rfl rfl q1414 q1415 q1416 q119 q1417 (XS.out (noH _)) <|
  r_if_ne (pt := 9) dX1_allOf_2_31 (by decide)
  ((fun _ _ _ H => H))
  (r_aload_n (k := 1) dX1_allOf_2_34 rfl <|
  r_ret rfl (Or.inr (Or.inr ⟨dX1_allOf_2_35, Or.inl ⟨_, rfl⟩⟩)))
-- CheekTown.atom()LCheekTown$Cond; cuts [0]
def tX1_atom_0 (d : Nat) (Q : Outcome → MH → Prop) (J : Nat → KT) : KT :=
  i_aload 0 <|
  i_getR 1 4 <|
  i_astore 1 <|
  i_aload 1 <|
  i_const 40 <|
  i_call mX3_sign d 2 (pV 3) (xOut Q) <|
  i_if_eq
  (i_aload 1 <|
  i_ldcS 56 <|
  i_call mX3_passes d 2 (pV 3) (xOut Q) <|
  i_if_eq
  (i_aload 1 <|
  i_ldcS 58 <|
  i_call mX3_passes d 2 (pV 3) (xOut Q) <|
  i_if_eq
  (i_aload 1 <|
  i_ldcS 46 <|
  i_call mX3_passes d 2 (pV 3) (xOut Q) <|
  i_if_eq
  (i_aload 0 <|
  i_call mX1_sum d 1 (pV 1) (xOut Q) <|
  i_astore 2 <|
  i_aload 1 <|
  i_const 60 <|
  i_call mX3_sign d 2 (pV 3) (xOut Q) <|
  i_if_eq
  (i_aload 1 <|
  i_const 62 <|
  i_call mX3_sign d 2 (pV 3) (xOut Q) <|
  i_if_ne
  (i_new 19 2 <|
  i_dup <|
  i_aload 0 <|
  i_call mX1_sum d 1 (pV 1) (xOut Q) <|
  i_aload 2 <|
  i_call mX19_init d 3 pI (xOut Q) <|
  i_ret Q (some (.object "CheekTown$Cond")))
  (i_aload 1 <|
  i_call mX3_wrong d 1 (pV 3) (xOut Q) <|
  i_thr Q))
  (i_new 19 2 <|
  i_dup <|
  i_aload 2 <|
  i_aload 0 <|
  i_call mX1_sum d 1 (pV 1) (xOut Q) <|
  i_call mX19_init d 3 pI (xOut Q) <|
  i_ret Q (some (.object "CheekTown$Cond"))))
  (i_new 15 1 <|
  i_dup <|
  i_const 0 <|
  i_call mX15_init d 2 pI (xOut Q) <|
  i_ret Q (some (.object "CheekTown$Cond"))))
  (i_new 15 1 <|
  i_dup <|
  i_const 1 <|
  i_call mX15_init d 2 pI (xOut Q) <|
  i_ret Q (some (.object "CheekTown$Cond"))))
  (i_aload 1 <|
  i_call mX3_goesDeeper d 1 (pV 3) (xOut Q) <|
  i_aload 0 <|
  i_call mX1_atom d 1 (pV 1) (xOut Q) <|
  i_astore 2 <|
  i_aload 1 <|
  i_call mX3_comesUp d 1 (pV 3) (xOut Q) <|
  i_new 14 1 <|
  i_dup <|
  i_aload 2 <|
  i_call mX14_init d 2 pI (xOut Q) <|
  i_ret Q (some (.object "CheekTown$Cond"))))
  (i_aload 1 <|
  i_call mX3_goesDeeper d 1 (pV 3) (xOut Q) <|
  i_aload 0 <|
  i_call mX1_cond d 1 (pV 1) (xOut Q) <|
  i_astore 2 <|
  i_aload 1 <|
  i_call mX3_comesUp d 1 (pV 3) (xOut Q) <|
  i_aload 1 <|
  i_const 41 <|
  i_call mX3_sign d 2 (pV 3) (xOut Q) <|
  i_if_ne
  (i_aload 2 <|
  i_ret Q (some (.object "CheekTown$Cond")))
  (i_aload 1 <|
  i_call mX3_wrong d 1 (pV 3) (xOut Q) <|
  i_thr Q))
theorem kX1_atom_0 {d : Nat} {Q : Outcome → MH → Prop} : ∀ ls st h, tX1_atom_0 d Q (fun pc ls st h => WPb mX1_atom d pc ls st h Q) ls st h → WPb mX1_atom d 0 ls st h Q :=
  r_aload_n (k := 0) dX1_atom_0 rfl <|
  r_getR (ci := 1) (q := (RX1, TX1, 13)) (k := 4) dX1_atom_1 (by decide) rfl in_X1 (by decide) (Or.inl q472) rfl <|
  r_astore_n (k := 1) dX1_atom_4 rfl <|
  r_aload_n (k := 1) dX1_atom_5 rfl <|
  r_bipush (v := 40) dX1_atom_6 rfl <|
  r_cV (Z := mX3_sign) (ci := 3) (q := (RX3, TX3, 7)) dX1_atom_8 rfl (by decide +kernel) ⟨by decide, by decide⟩ (by decide) rfl rfl q1349 q1350 q1351 q119 q1352 (XS.out (noH _)) <|
  r_if_eq (pt := 43) dX1_atom_11 (by decide)
  (r_aload_n (k := 1) dX1_atom_43 rfl <|
  r_ldcwS (a := 56) (tx := "not") dX1_atom_44 (by decide +kernel) (by decide) <|
  r_cV (Z := mX3_passes) (ci := 3) (q := (RX3, TX3, 7)) dX1_atom_47 rfl (by decide +kernel) ⟨by decide, by decide⟩ (by decide) rfl rfl q1414 q1415 q1416 q119 q1417 (XS.out (noH _)) <|
  r_if_eq (pt := 75) dX1_atom_50 (by decide)
  (r_aload_n (k := 1) dX1_atom_75 rfl <|
  r_ldcwS (a := 58) (tx := "same") dX1_atom_76 (by decide +kernel) (by decide) <|
  r_cV (Z := mX3_passes) (ci := 3) (q := (RX3, TX3, 7)) dX1_atom_79 rfl (by decide +kernel) ⟨by decide, by decide⟩ (by decide) rfl rfl q1414 q1415 q1416 q119 q1417 (XS.out (noH _)) <|
  r_if_eq (pt := 94) dX1_atom_82 (by decide)
  (r_aload_n (k := 1) dX1_atom_94 rfl <|
  r_ldcS (a := 46) (tx := "cold") dX1_atom_95 (by decide +kernel) (by decide) <|
  r_cV (Z := mX3_passes) (ci := 3) (q := (RX3, TX3, 7)) dX1_atom_97 rfl (by decide +kernel) ⟨by decide, by decide⟩ (by decide) rfl rfl q1414 q1415 q1416 q119 q1417 (XS.out (noH _)) <|
  r_if_eq (pt := 112) dX1_atom_100 (by decide)
  (r_aload_n (k := 0) dX1_atom_112 rfl <|
  r_cV (Z := mX1_sum) (ci := 1) (q := (RX1, TX1, 13)) dX1_atom_113 rfl (by decide +kernel) ⟨by decide, by decide⟩ (by decide) rfl rfl q1478 q1480 qs28 q117 q1481 (XS.out (noH _)) <|
  r_astore_n (k := 2) dX1_atom_116 rfl <|
  r_aload_n (k := 1) dX1_atom_117 rfl <|
  r_bipush (v := 60) dX1_atom_118 rfl <|
  r_cV (Z := mX3_sign) (ci := 3) (q := (RX3, TX3, 7)) dX1_atom_120 rfl (by decide +kernel) ⟨by decide, by decide⟩ (by decide) rfl rfl q1349 q1350 q1351 q119 q1352 (XS.out (noH _)) <|
  r_if_eq (pt := 139) dX1_atom_123 (by decide)
  (r_aload_n (k := 1) dX1_atom_139 rfl <|
  r_bipush (v := 62) dX1_atom_140 rfl <|
  r_cV (Z := mX3_sign) (ci := 3) (q := (RX3, TX3, 7)) dX1_atom_142 rfl (by decide +kernel) ⟨by decide, by decide⟩ (by decide) rfl rfl q1349 q1350 q1351 q119 q1352 (XS.out (noH _)) <|
  r_if_ne (pt := 153) dX1_atom_145 (by decide)
  (r_new (ci := 19) (q := (RX19, TX19, 2)) tyX19 tyX19_ok (by decide) (by decide) (by decide) rfl rfl in_X19 q1594 q1595 q156 dX1_atom_153 <|
  r_dup dX1_atom_156 <|
  r_aload_n (k := 0) dX1_atom_157 rfl <|
  r_cV (Z := mX1_sum) (ci := 1) (q := (RX1, TX1, 13)) dX1_atom_158 rfl (by decide +kernel) ⟨by decide, by decide⟩ (by decide) rfl rfl q1478 q1480 qs28 q117 q1481 (XS.out (noH _)) <|
  r_aload_n (k := 2) dX1_atom_161 rfl <|
  r_cI (Z := mX19_init) dX1_atom_162 rfl rfl rfl (by decide +kernel) ⟨by decide, by decide⟩ q1596 q1597 q156 q1598 (XS.out (noH _)) <|
  r_ret rfl (Or.inr (Or.inr ⟨dX1_atom_165, Or.inl ⟨_, rfl⟩⟩)))
  (r_aload_n (k := 1) dX1_atom_148 rfl <|
  r_cV (Z := mX3_wrong) (ci := 3) (q := (RX3, TX3, 7)) dX1_atom_149 rfl (by decide +kernel) ⟨by decide, by decide⟩ (by decide) rfl rfl q1172 q1173 q1174 q119 q1175 (XS.out (noH _)) <|
  r_thr dX1_atom_152 (noH _)))
  (r_new (ci := 19) (q := (RX19, TX19, 2)) tyX19 tyX19_ok (by decide) (by decide) (by decide) rfl rfl in_X19 q1594 q1595 q156 dX1_atom_126 <|
  r_dup dX1_atom_129 <|
  r_aload_n (k := 2) dX1_atom_130 rfl <|
  r_aload_n (k := 0) dX1_atom_131 rfl <|
  r_cV (Z := mX1_sum) (ci := 1) (q := (RX1, TX1, 13)) dX1_atom_132 rfl (by decide +kernel) ⟨by decide, by decide⟩ (by decide) rfl rfl q1478 q1480 qs28 q117 q1481 (XS.out (noH _)) <|
  r_cI (Z := mX19_init) dX1_atom_135 rfl rfl rfl (by decide +kernel) ⟨by decide, by decide⟩ q1596 q1597 q156 q1598 (XS.out (noH _)) <|
  r_ret rfl (Or.inr (Or.inr ⟨dX1_atom_138, Or.inl ⟨_, rfl⟩⟩))))
  (r_new (ci := 15) (q := (RX15, TX15, 1)) tyX15 tyX15_ok (by decide) (by decide) (by decide) rfl rfl in_X15 q1468 q1469 q152 dX1_atom_103 <|
  r_dup dX1_atom_106 <|
  r_iconst (v := 0) dX1_atom_107 rfl <|
  r_cI (Z := mX15_init) dX1_atom_108 rfl rfl rfl (by decide +kernel) ⟨by decide, by decide⟩ q1470 q1471 q152 q1472 (XS.out (noH _)) <|
  r_ret rfl (Or.inr (Or.inr ⟨dX1_atom_111, Or.inl ⟨_, rfl⟩⟩))))
  (r_new (ci := 15) (q := (RX15, TX15, 1)) tyX15 tyX15_ok (by decide) (by decide) (by decide) rfl rfl in_X15 q1468 q1469 q152 dX1_atom_85 <|
  r_dup dX1_atom_88 <|
  r_iconst (v := 1) dX1_atom_89 rfl <|
  r_cI (Z := mX15_init) dX1_atom_90 rfl rfl rfl (by decide +kernel) ⟨by decide, by decide⟩ q1470 q1471 q152 q1472 (XS.out (noH _)) <|
  r_ret rfl (Or.inr (Or.inr ⟨dX1_atom_93, Or.inl ⟨_, rfl⟩⟩))))
  (r_aload_n (k := 1) dX1_atom_53 rfl <|
  r_cV (Z := mX3_goesDeeper) (ci := 3) (q := (RX3, TX3, 7)) dX1_atom_54 rfl (by decide +kernel) ⟨by decide, by decide⟩ (by decide) rfl rfl q1448 q1449 q1450 q119 q1451 (XS.out (noH _)) <|
  r_aload_n (k := 0) dX1_atom_57 rfl <|
  r_cV (Z := mX1_atom) (ci := 1) (q := (RX1, TX1, 13)) dX1_atom_58 rfl (by decide +kernel) ⟨by decide, by decide⟩ (by decide) rfl rfl q1444 q1446 qs27 q117 q1447 (XS.out (noH _)) <|
  r_astore_n (k := 2) dX1_atom_61 rfl <|
  r_aload_n (k := 1) dX1_atom_62 rfl <|
  r_cV (Z := mX3_comesUp) (ci := 3) (q := (RX3, TX3, 7)) dX1_atom_63 rfl (by decide +kernel) ⟨by decide, by decide⟩ (by decide) rfl rfl q1452 q1453 q1454 q119 q1455 (XS.out (noH _)) <|
  r_new (ci := 14) (q := (RX14, TX14, 1)) tyX14 tyX14_ok (by decide) (by decide) (by decide) rfl rfl in_X14 q1457 q1458 q151 dX1_atom_66 <|
  r_dup dX1_atom_69 <|
  r_aload_n (k := 2) dX1_atom_70 rfl <|
  r_cI (Z := mX14_init) dX1_atom_71 rfl rfl rfl (by decide +kernel) ⟨by decide, by decide⟩ q1459 q1460 q151 q1461 (XS.out (noH _)) <|
  r_ret rfl (Or.inr (Or.inr ⟨dX1_atom_74, Or.inl ⟨_, rfl⟩⟩))))
  (r_aload_n (k := 1) dX1_atom_14 rfl <|
  r_cV (Z := mX3_goesDeeper) (ci := 3) (q := (RX3, TX3, 7)) dX1_atom_15 rfl (by decide +kernel) ⟨by decide, by decide⟩ (by decide) rfl rfl q1448 q1449 q1450 q119 q1451 (XS.out (noH _)) <|
  r_aload_n (k := 0) dX1_atom_18 rfl <|
  r_cV (Z := mX1_cond) (ci := 1) (q := (RX1, TX1, 13)) dX1_atom_19 rfl (by decide +kernel) ⟨by decide, by decide⟩ (by decide) rfl rfl q1420 q1422 qs25 q117 q1423 (XS.out (noH _)) <|
  r_astore_n (k := 2) dX1_atom_22 rfl <|
  r_aload_n (k := 1) dX1_atom_23 rfl <|
  r_cV (Z := mX3_comesUp) (ci := 3) (q := (RX3, TX3, 7)) dX1_atom_24 rfl (by decide +kernel) ⟨by decide, by decide⟩ (by decide) rfl rfl q1452 q1453 q1454 q119 q1455 (XS.out (noH _)) <|
  r_aload_n (k := 1) dX1_atom_27 rfl <|
  r_bipush (v := 41) dX1_atom_28 rfl <|
  r_cV (Z := mX3_sign) (ci := 3) (q := (RX3, TX3, 7)) dX1_atom_30 rfl (by decide +kernel) ⟨by decide, by decide⟩ (by decide) rfl rfl q1349 q1350 q1351 q119 q1352 (XS.out (noH _)) <|
  r_if_ne (pt := 41) dX1_atom_33 (by decide)
  (r_aload_n (k := 2) dX1_atom_41 rfl <|
  r_ret rfl (Or.inr (Or.inr ⟨dX1_atom_42, Or.inl ⟨_, rfl⟩⟩)))
  (r_aload_n (k := 1) dX1_atom_36 rfl <|
  r_cV (Z := mX3_wrong) (ci := 3) (q := (RX3, TX3, 7)) dX1_atom_37 rfl (by decide +kernel) ⟨by decide, by decide⟩ (by decide) rfl rfl q1172 q1173 q1174 q119 q1175 (XS.out (noH _)) <|
  r_thr dX1_atom_40 (noH _)))
-- CheekTown.sum()LCheekTown$Sum; cuts [0, 8]
def tX1_sum_0 (d : Nat) (Q : Outcome → MH → Prop) (J : Nat → KT) : KT :=
  i_new 16 1 <|
  i_dup <|
  i_call mX16_init d 1 pI (xOut Q) <|
  i_astore 1 <|
  (J 8)
theorem kX1_sum_0 {d : Nat} {Q : Outcome → MH → Prop} : ∀ ls st h, tX1_sum_0 d Q (fun pc ls st h => WPb mX1_sum d pc ls st h Q) ls st h → WPb mX1_sum d 0 ls st h Q :=
  r_new (ci := 16) (q := (RX16, TX16, 1)) tyX16 tyX16_ok (by decide) (by decide) (by decide) rfl rfl in_X16 q1482 q1483 q153 dX1_sum_0 <|
  r_dup dX1_sum_3 <|
  r_cIN (Z := mX16_init) dX1_sum_4 rfl rfl rfl (by decide +kernel) ⟨by decide, by decide⟩ q1484 q1485 q153 q1486 (XS.out (noH _)) <|
  r_astore_n (k := 1) dX1_sum_7 rfl <|
  (fun _ _ _ H => H)
def tX1_sum_8 (d : Nat) (Q : Outcome → MH → Prop) (J : Nat → KT) : KT :=
  i_aload 1 <|
  i_getR 16 0 <|
  i_aload 0 <|
  i_call mX1_onePart d 1 (pV 1) (xOut Q) <|
  i_call mJ2_add d 2 (pV 22) (xOut Q) <|
  i_pop <|
  i_aload 0 <|
  i_getR 1 4 <|
  i_const 43 <|
  i_call mX3_sign d 2 (pV 3) (xOut Q) <|
  i_if_ne
  ((J 8))
  (i_aload 1 <|
  i_ret Q (some (.object "CheekTown$Sum")))
theorem kX1_sum_8 {d : Nat} {Q : Outcome → MH → Prop} : ∀ ls st h, tX1_sum_8 d Q (fun pc ls st h => WPb mX1_sum d pc ls st h Q) ls st h → WPb mX1_sum d 8 ls st h Q :=
  r_aload_n (k := 1) dX1_sum_8 rfl <|
  r_getR (ci := 16) (q := (RX16, TX16, 1)) (k := 0) dX1_sum_9 (by decide) rfl in_X16 (by decide) (Or.inr (Or.inl ⟨_, q1491⟩)) rfl <|
  r_aload_n (k := 0) dX1_sum_12 rfl <|
  r_cV (Z := mX1_onePart) (ci := 1) (q := (RX1, TX1, 13)) dX1_sum_13 rfl (by decide +kernel) ⟨by decide, by decide⟩ (by decide) rfl rfl q1495 q1497 qs29 q117 q1498 (XS.out (noH _)) <|
  r_cV (Z := mJ2_add) (ci := 22) (q := (RJ2, TJ2, 3)) dX1_sum_16 rfl (by decide +kernel) ⟨by decide, by decide⟩ (by decide) rfl rfl q1531 q1532 q1533 q123 q1534 (XS.out (noH _)) <|
  r_pop dX1_sum_19 <|
  r_aload_n (k := 0) dX1_sum_20 rfl <|
  r_getR (ci := 1) (q := (RX1, TX1, 13)) (k := 4) dX1_sum_21 (by decide) rfl in_X1 (by decide) (Or.inl q472) rfl <|
  r_bipush (v := 43) dX1_sum_24 rfl <|
  r_cV (Z := mX3_sign) (ci := 3) (q := (RX3, TX3, 7)) dX1_sum_26 rfl (by decide +kernel) ⟨by decide, by decide⟩ (by decide) rfl rfl q1349 q1350 q1351 q119 q1352 (XS.out (noH _)) <|
  r_if_ne (pt := 8) dX1_sum_29 (by decide)
  ((fun _ _ _ H => H))
  (r_aload_n (k := 1) dX1_sum_32 rfl <|
  r_ret rfl (Or.inr (Or.inr ⟨dX1_sum_33, Or.inl ⟨_, rfl⟩⟩)))
-- CheekTown.onePart()LCheekTown$Part; cuts [0]
def tX1_onePart_0 (d : Nat) (Q : Outcome → MH → Prop) (J : Nat → KT) : KT :=
  i_aload 0 <|
  i_getR 1 4 <|
  i_call mX3_isFigure d 1 (pV 3) (xOut Q) <|
  i_if_eq
  (i_aload 0 <|
  i_getR 1 4 <|
  i_call mX3_word d 1 (pV 3) (xOut Q) <|
  i_call mX18_of d 1 pS (xOut Q) <|
  i_astore 1 <|
  i_aload 1 <|
  i_ifnonnull
  (i_new 17 2 <|
  i_dup <|
  i_const 0 <|
  i_aload 1 <|
  i_call mX17_init d 3 pI (xOut Q) <|
  i_ret Q (some (.object "CheekTown$Part")))
  (i_aload 0 <|
  i_getR 1 4 <|
  i_call mX3_wrong d 1 (pV 3) (xOut Q) <|
  i_thr Q))
  (i_new 17 2 <|
  i_dup <|
  i_aload 0 <|
  i_getR 1 4 <|
  i_const 0 <|
  i_const 999 <|
  i_call mX3_number d 3 (pV 3) (xOut Q) <|
  i_null <|
  i_call mX17_init d 3 pI (xOut Q) <|
  i_ret Q (some (.object "CheekTown$Part")))
theorem kX1_onePart_0 {d : Nat} {Q : Outcome → MH → Prop} : ∀ ls st h, tX1_onePart_0 d Q (fun pc ls st h => WPb mX1_onePart d pc ls st h Q) ls st h → WPb mX1_onePart d 0 ls st h Q :=
  r_aload_n (k := 0) dX1_onePart_0 rfl <|
  r_getR (ci := 1) (q := (RX1, TX1, 13)) (k := 4) dX1_onePart_1 (by decide) rfl in_X1 (by decide) (Or.inl q472) rfl <|
  r_cV (Z := mX3_isFigure) (ci := 3) (q := (RX3, TX3, 7)) dX1_onePart_4 rfl (by decide +kernel) ⟨by decide, by decide⟩ (by decide) rfl rfl q1499 q1500 q1501 q119 q1502 (XS.out (noH _)) <|
  r_if_eq (pt := 30) dX1_onePart_7 (by decide)
  (r_aload_n (k := 0) dX1_onePart_30 rfl <|
  r_getR (ci := 1) (q := (RX1, TX1, 13)) (k := 4) dX1_onePart_31 (by decide) rfl in_X1 (by decide) (Or.inl q472) rfl <|
  r_cV (Z := mX3_word) (ci := 3) (q := (RX3, TX3, 7)) dX1_onePart_34 rfl (by decide +kernel) ⟨by decide, by decide⟩ (by decide) rfl rfl q1144 q1145 q1146 q119 q1147 (XS.out (noH _)) <|
  r_cS (Z := mX18_of) dX1_onePart_37 rfl (by decide +kernel) ⟨by decide, by decide⟩ q1516 q1517 q155 q1518 (XS.out (noH _)) <|
  r_astore_n (k := 1) dX1_onePart_40 rfl <|
  r_aload_n (k := 1) dX1_onePart_41 rfl <|
  r_ifnonnull (pt := 53) dX1_onePart_42 (by decide)
  (r_new (ci := 17) (q := (RX17, TX17, 2)) tyX17 tyX17_ok (by decide) (by decide) (by decide) rfl rfl in_X17 q1503 q1504 q154 dX1_onePart_53 <|
  r_dup dX1_onePart_56 <|
  r_iconst (v := 0) dX1_onePart_57 rfl <|
  r_aload_n (k := 1) dX1_onePart_58 rfl <|
  r_cI (Z := mX17_init) dX1_onePart_59 rfl rfl rfl (by decide +kernel) ⟨by decide, by decide⟩ q1505 q1506 q154 q1507 (XS.out (noH _)) <|
  r_ret rfl (Or.inr (Or.inr ⟨dX1_onePart_62, Or.inl ⟨_, rfl⟩⟩)))
  (r_aload_n (k := 0) dX1_onePart_45 rfl <|
  r_getR (ci := 1) (q := (RX1, TX1, 13)) (k := 4) dX1_onePart_46 (by decide) rfl in_X1 (by decide) (Or.inl q472) rfl <|
  r_cV (Z := mX3_wrong) (ci := 3) (q := (RX3, TX3, 7)) dX1_onePart_49 rfl (by decide +kernel) ⟨by decide, by decide⟩ (by decide) rfl rfl q1172 q1173 q1174 q119 q1175 (XS.out (noH _)) <|
  r_thr dX1_onePart_52 (noH _)))
  (r_new (ci := 17) (q := (RX17, TX17, 2)) tyX17 tyX17_ok (by decide) (by decide) (by decide) rfl rfl in_X17 q1503 q1504 q154 dX1_onePart_10 <|
  r_dup dX1_onePart_13 <|
  r_aload_n (k := 0) dX1_onePart_14 rfl <|
  r_getR (ci := 1) (q := (RX1, TX1, 13)) (k := 4) dX1_onePart_15 (by decide) rfl in_X1 (by decide) (Or.inl q472) rfl <|
  r_iconst (v := 0) dX1_onePart_18 rfl <|
  r_sipush (v := 999) dX1_onePart_19 rfl <|
  r_cV (Z := mX3_number) (ci := 3) (q := (RX3, TX3, 7)) dX1_onePart_22 rfl (by decide +kernel) ⟨by decide, by decide⟩ (by decide) rfl rfl q1281 q1282 q1283 q119 q1284 (XS.out (noH _)) <|
  r_null dX1_onePart_25 <|
  r_cI (Z := mX17_init) dX1_onePart_26 rfl rfl rfl (by decide +kernel) ⟨by decide, by decide⟩ q1505 q1506 q154 q1507 (XS.out (noH _)) <|
  r_ret rfl (Or.inr (Or.inr ⟨dX1_onePart_29, Or.inl ⟨_, rfl⟩⟩)))
-- CheekTown.cost(II)I cuts [0]
def tX1_cost_0 (d : Nat) (Q : Outcome → MH → Prop) (J : Nat → KT) : KT :=
  i_iload 1 <|
  i_call mX1_greetingAt d 1 pS (xOut Q) <|
  i_iload 2 <|
  i_call mX1_greetingAt d 1 pS (xOut Q) <|
  i_aload 0 <|
  i_getR 1 0 <|
  i_iload 1 <|
  i_iload 2 <|
  i_call mX2_cost d 3 (pV 2) (xOut Q) <|
  i_ret Q (some .int)
theorem kX1_cost_0 {d : Nat} {Q : Outcome → MH → Prop} : ∀ ls st h, tX1_cost_0 d Q (fun pc ls st h => WPb mX1_cost d pc ls st h Q) ls st h → WPb mX1_cost d 0 ls st h Q :=
  r_iload_n (k := 1) dX1_cost_0 rfl <|
  r_cS (Z := mX1_greetingAt) dX1_cost_1 rfl (by decide +kernel) ⟨by decide, by decide⟩ q1632 q1633 q117 q1634 (XS.out (noH _)) <|
  r_iload_n (k := 2) dX1_cost_4 rfl <|
  r_cS (Z := mX1_greetingAt) dX1_cost_5 rfl (by decide +kernel) ⟨by decide, by decide⟩ q1632 q1633 q117 q1634 (XS.out (noH _)) <|
  r_aload_n (k := 0) dX1_cost_8 rfl <|
  r_getR (ci := 1) (q := (RX1, TX1, 13)) (k := 0) dX1_cost_9 (by decide) rfl in_X1 (by decide) (Or.inl q465) rfl <|
  r_iload_n (k := 1) dX1_cost_12 rfl <|
  r_iload_n (k := 2) dX1_cost_13 rfl <|
  r_cV (Z := mX2_cost) (ci := 2) (q := (RX2, TX2, 31)) dX1_cost_14 rfl (by decide +kernel) ⟨by decide, by decide⟩ (by decide) rfl rfl q536 q537 q538 q118 q539 (XS.out (noH _)) <|
  r_ret rfl (Or.inl ⟨dX1_cost_17, Or.inl rfl⟩)
-- CheekTown.greetingAt(I)V cuts [0]
def tX1_greetingAt_0 (d : Nat) (Q : Outcome → MH → Prop) (J : Nat → KT) : KT :=
  i_iload 0 <|
  i_const 32 <|
  i_call mX1_there d 2 pS (xOut Q) <|
  i_vret Q
theorem kX1_greetingAt_0 {d : Nat} {Q : Outcome → MH → Prop} : ∀ ls st h, tX1_greetingAt_0 d Q (fun pc ls st h => WPb mX1_greetingAt d pc ls st h Q) ls st h → WPb mX1_greetingAt d 0 ls st h Q :=
  r_iload_n (k := 0) dX1_greetingAt_0 rfl <|
  r_bipush (v := 32) dX1_greetingAt_1 rfl <|
  r_cS (Z := mX1_there) dX1_greetingAt_3 rfl (by decide +kernel) ⟨by decide, by decide⟩ q1635 q1636 q117 q1637 (XS.out (noH _)) <|
  r_vret rfl dX1_greetingAt_6
-- CheekTown.there(II)V cuts [0]
def tX1_there_0 (d : Nat) (Q : Outcome → MH → Prop) (J : Nat → KT) : KT :=
  i_iload 0 <|
  i_const 0 <|
  i_iload 1 <|
  i_const 1 <|
  i_isub <|
  i_call mX1_in d 3 pS (xOut Q) <|
  i_if_ne
  (i_vret Q)
  (i_exc d 26 <|
  i_thr Q)
theorem kX1_there_0 {d : Nat} {Q : Outcome → MH → Prop} : ∀ ls st h, tX1_there_0 d Q (fun pc ls st h => WPb mX1_there d pc ls st h Q) ls st h → WPb mX1_there d 0 ls st h Q :=
  r_iload_n (k := 0) dX1_there_0 rfl <|
  r_iconst (v := 0) dX1_there_1 rfl <|
  r_iload_n (k := 1) dX1_there_2 rfl <|
  r_iconst (v := 1) dX1_there_3 rfl <|
  r_isub dX1_there_4 <|
  r_cS (Z := mX1_in) dX1_there_5 rfl (by decide +kernel) ⟨by decide, by decide⟩ q600 q601 q117 q602 (XS.out (noH _)) <|
  r_if_ne (pt := 19) dX1_there_8 (by decide)
  (r_vret rfl dX1_there_19)
  (r_exc26 rfl dX1_there_11 dX1_there_14 dX1_there_15 q1638 <|
  r_thr dX1_there_18 (noH _))
-- CheekTown.habit(II)I cuts [0]
def tX1_habit_0 (d : Nat) (Q : Outcome → MH → Prop) (J : Nat → KT) : KT :=
  i_aload 0 <|
  i_iload 1 <|
  i_call mX1_landAt d 2 (pV 1) (xOut Q) <|
  i_iload 2 <|
  i_call mX1_greetingAt d 1 pS (xOut Q) <|
  i_aload 0 <|
  i_getR 1 0 <|
  i_iload 1 <|
  i_iload 2 <|
  i_call mX2_weightOf d 3 (pV 2) (xOut Q) <|
  i_ret Q (some .int)
theorem kX1_habit_0 {d : Nat} {Q : Outcome → MH → Prop} : ∀ ls st h, tX1_habit_0 d Q (fun pc ls st h => WPb mX1_habit d pc ls st h Q) ls st h → WPb mX1_habit d 0 ls st h Q :=
  r_aload_n (k := 0) dX1_habit_0 rfl <|
  r_iload_n (k := 1) dX1_habit_1 rfl <|
  r_cV (Z := mX1_landAt) (ci := 1) (q := (RX1, TX1, 13)) dX1_habit_2 rfl (by decide +kernel) ⟨by decide, by decide⟩ (by decide) rfl rfl q1660 q1662 qs33 q117 q1663 (XS.out (noH _)) <|
  r_iload_n (k := 2) dX1_habit_5 rfl <|
  r_cS (Z := mX1_greetingAt) dX1_habit_6 rfl (by decide +kernel) ⟨by decide, by decide⟩ q1632 q1633 q117 q1634 (XS.out (noH _)) <|
  r_aload_n (k := 0) dX1_habit_9 rfl <|
  r_getR (ci := 1) (q := (RX1, TX1, 13)) (k := 0) dX1_habit_10 (by decide) rfl in_X1 (by decide) (Or.inl q465) rfl <|
  r_iload_n (k := 1) dX1_habit_13 rfl <|
  r_iload_n (k := 2) dX1_habit_14 rfl <|
  r_cV (Z := mX2_weightOf) (ci := 2) (q := (RX2, TX2, 31)) dX1_habit_15 rfl (by decide +kernel) ⟨by decide, by decide⟩ (by decide) rfl rfl q1664 q1665 q1666 q118 q1667 (XS.out (noH _)) <|
  r_ret rfl (Or.inl ⟨dX1_habit_18, Or.inl rfl⟩)
-- CheekTown.landAt(I)V cuts [0]
def tX1_landAt_0 (d : Nat) (Q : Outcome → MH → Prop) (J : Nat → KT) : KT :=
  i_iload 1 <|
  i_aload 0 <|
  i_getR 1 0 <|
  i_getI 2 1 <|
  i_call mX1_there d 2 pS (xOut Q) <|
  i_vret Q
theorem kX1_landAt_0 {d : Nat} {Q : Outcome → MH → Prop} : ∀ ls st h, tX1_landAt_0 d Q (fun pc ls st h => WPb mX1_landAt d pc ls st h Q) ls st h → WPb mX1_landAt d 0 ls st h Q :=
  r_iload_n (k := 1) dX1_landAt_0 rfl <|
  r_aload_n (k := 0) dX1_landAt_1 rfl <|
  r_getR (ci := 1) (q := (RX1, TX1, 13)) (k := 0) dX1_landAt_2 (by decide) rfl in_X1 (by decide) (Or.inl q465) rfl <|
  r_getI (ci := 2) (q := (RX2, TX2, 31)) (k := 1) dX1_landAt_5 (by decide) rfl in_X2 (by decide) (Or.inr (Or.inl ⟨_, q181⟩)) rfl <|
  r_cS (Z := mX1_there) dX1_landAt_8 rfl (by decide +kernel) ⟨by decide, by decide⟩ q1635 q1636 q117 q1637 (XS.out (noH _)) <|
  r_vret rfl dX1_landAt_11
-- CheekTown.person(II)I cuts [0]
def tX1_person_0 (d : Nat) (Q : Outcome → MH → Prop) (J : Nat → KT) : KT :=
  i_aload 0 <|
  i_iload 1 <|
  i_call mX1_personAt d 2 (pV 1) (xOut Q) <|
  i_iload 2 <|
  i_const 6 <|
  i_call mX1_question d 2 pS (xOut Q) <|
  i_aload 0 <|
  i_getR 1 0 <|
  i_astore 3 <|
  i_iload 2 <|
  i_sw [(0, i_aload 3 <|
  i_getR 2 18 <|
  i_iload 1 <|
  i_iald <|
  i_ret Q (some .int)),
  (1, i_aload 3 <|
  i_getR 2 19 <|
  i_iload 1 <|
  i_iald <|
  i_ret Q (some .int)),
  (2, i_aload 3 <|
  i_getR 2 20 <|
  i_iload 1 <|
  i_iald <|
  i_ret Q (some .int)),
  (3, i_aload 3 <|
  i_getR 2 21 <|
  i_iload 1 <|
  i_iald <|
  i_ret Q (some .int)),
  (4, i_aload 3 <|
  i_getR 2 22 <|
  i_iload 1 <|
  i_zald <|
  i_if_eq
  (i_const 0 <|
  i_ret Q (some .int))
  (i_const 1 <|
  i_ret Q (some .int))),
  (5, i_aload 3 <|
  i_iload 1 <|
  i_call mX2_tied d 2 (pV 2) (xOut Q) <|
  i_ret Q (some .int))]
  (i_aload 3 <|
  i_iload 1 <|
  i_call mX2_meetingsOf d 2 (pV 2) (xOut Q) <|
  i_ret Q (some .int))
theorem kX1_person_0 {d : Nat} {Q : Outcome → MH → Prop} : ∀ ls st h, tX1_person_0 d Q (fun pc ls st h => WPb mX1_person d pc ls st h Q) ls st h → WPb mX1_person d 0 ls st h Q :=
  r_aload_n (k := 0) dX1_person_0 rfl <|
  r_iload_n (k := 1) dX1_person_1 rfl <|
  r_cV (Z := mX1_personAt) (ci := 1) (q := (RX1, TX1, 13)) dX1_person_2 rfl (by decide +kernel) ⟨by decide, by decide⟩ (by decide) rfl rfl q1676 q1678 qs34 q117 q1679 (XS.out (noH _)) <|
  r_iload_n (k := 2) dX1_person_5 rfl <|
  r_bipush (v := 6) dX1_person_6 rfl <|
  r_cS (Z := mX1_question) dX1_person_8 rfl (by decide +kernel) ⟨by decide, by decide⟩ q1680 q1681 q117 q1682 (XS.out (noH _)) <|
  r_aload_n (k := 0) dX1_person_11 rfl <|
  r_getR (ci := 1) (q := (RX1, TX1, 13)) (k := 0) dX1_person_12 (by decide) rfl in_X1 (by decide) (Or.inl q465) rfl <|
  r_astore_n (k := 3) dX1_person_15 rfl <|
  r_iload_n (k := 2) dX1_person_16 rfl <|
  r_tsw (tl := [(0, 56), (1, 63), (2, 70), (3, 77), (4, 84), (5, 99)]) (td := 105) dX1_person_17 (by decide +kernel) (by decide) (by decide +kernel) (by decide) (sw_cons (r_aload_n (k := 3) dX1_person_56 rfl <|
  r_getR (ci := 2) (q := (RX2, TX2, 31)) (k := 18) dX1_person_57 (by decide) rfl in_X2 (by decide) (Or.inr (Or.inl ⟨_, q218⟩)) rfl <|
  r_iload_n (k := 1) dX1_person_60 rfl <|
  r_iald dX1_person_61 <|
  r_ret rfl (Or.inl ⟨dX1_person_62, Or.inl rfl⟩))
  (sw_cons (r_aload_n (k := 3) dX1_person_63 rfl <|
  r_getR (ci := 2) (q := (RX2, TX2, 31)) (k := 19) dX1_person_64 (by decide) rfl in_X2 (by decide) (Or.inr (Or.inl ⟨_, q222⟩)) rfl <|
  r_iload_n (k := 1) dX1_person_67 rfl <|
  r_iald dX1_person_68 <|
  r_ret rfl (Or.inl ⟨dX1_person_69, Or.inl rfl⟩))
  (sw_cons (r_aload_n (k := 3) dX1_person_70 rfl <|
  r_getR (ci := 2) (q := (RX2, TX2, 31)) (k := 20) dX1_person_71 (by decide) rfl in_X2 (by decide) (Or.inr (Or.inl ⟨_, q224⟩)) rfl <|
  r_iload_n (k := 1) dX1_person_74 rfl <|
  r_iald dX1_person_75 <|
  r_ret rfl (Or.inl ⟨dX1_person_76, Or.inl rfl⟩))
  (sw_cons (r_aload_n (k := 3) dX1_person_77 rfl <|
  r_getR (ci := 2) (q := (RX2, TX2, 31)) (k := 21) dX1_person_78 (by decide) rfl in_X2 (by decide) (Or.inr (Or.inl ⟨_, q226⟩)) rfl <|
  r_iload_n (k := 1) dX1_person_81 rfl <|
  r_iald dX1_person_82 <|
  r_ret rfl (Or.inl ⟨dX1_person_83, Or.inl rfl⟩))
  (sw_cons (r_aload_n (k := 3) dX1_person_84 rfl <|
  r_getR (ci := 2) (q := (RX2, TX2, 31)) (k := 22) dX1_person_85 (by decide) rfl in_X2 (by decide) (Or.inr (Or.inl ⟨_, q228⟩)) rfl <|
  r_iload_n (k := 1) dX1_person_88 rfl <|
  r_zald dX1_person_89 <|
  r_if_eq (pt := 97) dX1_person_90 (by decide)
  (r_iconst (v := 0) dX1_person_97 rfl <|
  r_ret rfl (Or.inl ⟨dX1_person_98, Or.inl rfl⟩))
  (r_iconst (v := 1) dX1_person_93 rfl <|
  r_goto (pt := 98) dX1_person_94 (by decide) <|
  r_ret rfl (Or.inl ⟨dX1_person_98, Or.inl rfl⟩)))
  (sw_cons (r_aload_n (k := 3) dX1_person_99 rfl <|
  r_iload_n (k := 1) dX1_person_100 rfl <|
  r_cV (Z := mX2_tied) (ci := 2) (q := (RX2, TX2, 31)) dX1_person_101 rfl (by decide +kernel) ⟨by decide, by decide⟩ (by decide) rfl rfl q1698 q1019 q1020 q118 q1021 (XS.out (noH _)) <|
  r_ret rfl (Or.inl ⟨dX1_person_104, Or.inl rfl⟩))
  (sw_nil (r_aload_n (k := 3) dX1_person_105 rfl <|
  r_iload_n (k := 1) dX1_person_106 rfl <|
  r_cV (Z := mX2_meetingsOf) (ci := 2) (q := (RX2, TX2, 31)) dX1_person_107 rfl (by decide +kernel) ⟨by decide, by decide⟩ (by decide) rfl rfl q1699 q1700 q1701 q118 q1702 (XS.out (noH _)) <|
  r_ret rfl (Or.inl ⟨dX1_person_110, Or.inl rfl⟩)))))))))
-- CheekTown.personAt(I)V cuts [0]
def tX1_personAt_0 (d : Nat) (Q : Outcome → MH → Prop) (J : Nat → KT) : KT :=
  i_iload 1 <|
  i_aload 0 <|
  i_getR 1 0 <|
  i_getI 2 3 <|
  i_call mX1_there d 2 pS (xOut Q) <|
  i_vret Q
theorem kX1_personAt_0 {d : Nat} {Q : Outcome → MH → Prop} : ∀ ls st h, tX1_personAt_0 d Q (fun pc ls st h => WPb mX1_personAt d pc ls st h Q) ls st h → WPb mX1_personAt d 0 ls st h Q :=
  r_iload_n (k := 1) dX1_personAt_0 rfl <|
  r_aload_n (k := 0) dX1_personAt_1 rfl <|
  r_getR (ci := 1) (q := (RX1, TX1, 13)) (k := 0) dX1_personAt_2 (by decide) rfl in_X1 (by decide) (Or.inl q465) rfl <|
  r_getI (ci := 2) (q := (RX2, TX2, 31)) (k := 3) dX1_personAt_5 (by decide) rfl in_X2 (by decide) (Or.inr (Or.inl ⟨_, q187⟩)) rfl <|
  r_cS (Z := mX1_there) dX1_personAt_8 rfl (by decide +kernel) ⟨by decide, by decide⟩ q1635 q1636 q117 q1637 (XS.out (noH _)) <|
  r_vret rfl dX1_personAt_11
-- CheekTown.question(II)V cuts [0]
def tX1_question_0 (d : Nat) (Q : Outcome → MH → Prop) (J : Nat → KT) : KT :=
  i_iload 0 <|
  i_const 0 <|
  i_iload 1 <|
  i_call mX1_in d 3 pS (xOut Q) <|
  i_if_ne
  (i_vret Q)
  (i_exc d 27 <|
  i_thr Q)
theorem kX1_question_0 {d : Nat} {Q : Outcome → MH → Prop} : ∀ ls st h, tX1_question_0 d Q (fun pc ls st h => WPb mX1_question d pc ls st h Q) ls st h → WPb mX1_question d 0 ls st h Q :=
  r_iload_n (k := 0) dX1_question_0 rfl <|
  r_iconst (v := 0) dX1_question_1 rfl <|
  r_iload_n (k := 1) dX1_question_2 rfl <|
  r_cS (Z := mX1_in) dX1_question_3 rfl (by decide +kernel) ⟨by decide, by decide⟩ q600 q601 q117 q602 (XS.out (noH _)) <|
  r_if_ne (pt := 17) dX1_question_6 (by decide)
  (r_vret rfl dX1_question_17)
  (r_exc27 rfl dX1_question_9 dX1_question_12 dX1_question_13 q1683 <|
  r_thr dX1_question_16 (noH _))
-- CheekTown.saw(IIZ)I cuts [0]
def tX1_saw_0 (d : Nat) (Q : Outcome → MH → Prop) (J : Nat → KT) : KT :=
  i_aload 0 <|
  i_iload 1 <|
  i_iload 2 <|
  i_call mX1_twoAt d 3 (pV 1) (xOut Q) <|
  i_const 10 <|
  i_iload 1 <|
  i_imul <|
  i_iload 2 <|
  i_iadd <|
  i_istore 4 <|
  i_iload 3 <|
  i_if_eq
  (i_aload 0 <|
  i_getR 1 0 <|
  i_getR 2 24 <|
  i_iload 4 <|
  i_iald <|
  i_ret Q (some .int))
  (i_aload 0 <|
  i_getR 1 0 <|
  i_getR 2 23 <|
  i_iload 4 <|
  i_iald <|
  i_ret Q (some .int))
theorem kX1_saw_0 {d : Nat} {Q : Outcome → MH → Prop} : ∀ ls st h, tX1_saw_0 d Q (fun pc ls st h => WPb mX1_saw d pc ls st h Q) ls st h → WPb mX1_saw d 0 ls st h Q :=
  r_aload_n (k := 0) dX1_saw_0 rfl <|
  r_iload_n (k := 1) dX1_saw_1 rfl <|
  r_iload_n (k := 2) dX1_saw_2 rfl <|
  r_cV (Z := mX1_twoAt) (ci := 1) (q := (RX1, TX1, 13)) dX1_saw_3 rfl (by decide +kernel) ⟨by decide, by decide⟩ (by decide) rfl rfl q1710 q1712 qs35 q117 q1713 (XS.out (noH _)) <|
  r_bipush (v := 10) dX1_saw_6 rfl <|
  r_iload_n (k := 1) dX1_saw_8 rfl <|
  r_imul dX1_saw_9 <|
  r_iload_n (k := 2) dX1_saw_10 rfl <|
  r_iadd dX1_saw_11 <|
  r_istore dX1_saw_12 <|
  r_iload_n (k := 3) dX1_saw_14 rfl <|
  r_if_eq (pt := 31) dX1_saw_15 (by decide)
  (r_aload_n (k := 0) dX1_saw_31 rfl <|
  r_getR (ci := 1) (q := (RX1, TX1, 13)) (k := 0) dX1_saw_32 (by decide) rfl in_X1 (by decide) (Or.inl q465) rfl <|
  r_getR (ci := 2) (q := (RX2, TX2, 31)) (k := 24) dX1_saw_35 (by decide) rfl in_X2 (by decide) (Or.inr (Or.inl ⟨_, q232⟩)) rfl <|
  r_iload dX1_saw_38 <|
  r_iald dX1_saw_40 <|
  r_ret rfl (Or.inl ⟨dX1_saw_41, Or.inl rfl⟩))
  (r_aload_n (k := 0) dX1_saw_18 rfl <|
  r_getR (ci := 1) (q := (RX1, TX1, 13)) (k := 0) dX1_saw_19 (by decide) rfl in_X1 (by decide) (Or.inl q465) rfl <|
  r_getR (ci := 2) (q := (RX2, TX2, 31)) (k := 23) dX1_saw_22 (by decide) rfl in_X2 (by decide) (Or.inr (Or.inl ⟨_, q230⟩)) rfl <|
  r_iload dX1_saw_25 <|
  r_iald dX1_saw_27 <|
  r_goto (pt := 41) dX1_saw_28 (by decide) <|
  r_ret rfl (Or.inl ⟨dX1_saw_41, Or.inl rfl⟩))
-- CheekTown.twoAt(II)V cuts [0]
def tX1_twoAt_0 (d : Nat) (Q : Outcome → MH → Prop) (J : Nat → KT) : KT :=
  i_aload 0 <|
  i_iload 1 <|
  i_call mX1_personAt d 2 (pV 1) (xOut Q) <|
  i_aload 0 <|
  i_iload 2 <|
  i_call mX1_personAt d 2 (pV 1) (xOut Q) <|
  i_iload 1 <|
  i_iload 2 <|
  i_icmp_eq
  (i_const 0 <|
  i_call mX1_demand d 1 pS (xOut Q) <|
  i_vret Q)
  (i_const 1 <|
  i_call mX1_demand d 1 pS (xOut Q) <|
  i_vret Q)
theorem kX1_twoAt_0 {d : Nat} {Q : Outcome → MH → Prop} : ∀ ls st h, tX1_twoAt_0 d Q (fun pc ls st h => WPb mX1_twoAt d pc ls st h Q) ls st h → WPb mX1_twoAt d 0 ls st h Q :=
  r_aload_n (k := 0) dX1_twoAt_0 rfl <|
  r_iload_n (k := 1) dX1_twoAt_1 rfl <|
  r_cV (Z := mX1_personAt) (ci := 1) (q := (RX1, TX1, 13)) dX1_twoAt_2 rfl (by decide +kernel) ⟨by decide, by decide⟩ (by decide) rfl rfl q1676 q1678 qs34 q117 q1679 (XS.out (noH _)) <|
  r_aload_n (k := 0) dX1_twoAt_5 rfl <|
  r_iload_n (k := 2) dX1_twoAt_6 rfl <|
  r_cV (Z := mX1_personAt) (ci := 1) (q := (RX1, TX1, 13)) dX1_twoAt_7 rfl (by decide +kernel) ⟨by decide, by decide⟩ (by decide) rfl rfl q1676 q1678 qs34 q117 q1679 (XS.out (noH _)) <|
  r_iload_n (k := 1) dX1_twoAt_10 rfl <|
  r_iload_n (k := 2) dX1_twoAt_11 rfl <|
  r_icmp_eq (pt := 19) dX1_twoAt_12 (by decide)
  (r_iconst (v := 0) dX1_twoAt_19 rfl <|
  r_cS (Z := mX1_demand) dX1_twoAt_20 rfl (by decide +kernel) ⟨by decide, by decide⟩ q1714 q1715 q117 q1716 (XS.out (noH _)) <|
  r_vret rfl dX1_twoAt_23)
  (r_iconst (v := 1) dX1_twoAt_15 rfl <|
  r_goto (pt := 20) dX1_twoAt_16 (by decide) <|
  r_cS (Z := mX1_demand) dX1_twoAt_20 rfl (by decide +kernel) ⟨by decide, by decide⟩ q1714 q1715 q117 q1716 (XS.out (noH _)) <|
  r_vret rfl dX1_twoAt_23)
-- CheekTown.demand(Z)V cuts [0]
def tX1_demand_0 (d : Nat) (Q : Outcome → MH → Prop) (J : Nat → KT) : KT :=
  i_iload 0 <|
  i_if_ne
  (i_vret Q)
  (i_exc d 25 <|
  i_thr Q)
theorem kX1_demand_0 {d : Nat} {Q : Outcome → MH → Prop} : ∀ ls st h, tX1_demand_0 d Q (fun pc ls st h => WPb mX1_demand d pc ls st h Q) ls st h → WPb mX1_demand d 0 ls st h Q :=
  r_iload_n (k := 0) dX1_demand_0 rfl <|
  r_if_ne (pt := 12) dX1_demand_1 (by decide)
  (r_vret rfl dX1_demand_12)
  (r_exc25 rfl dX1_demand_4 dX1_demand_7 dX1_demand_8 q1357 <|
  r_thr dX1_demand_11 (noH _))
-- CheekTown.tie(IZ)I cuts [0]
def tX1_tie_0 (d : Nat) (Q : Outcome → MH → Prop) (J : Nat → KT) : KT :=
  i_iload 1 <|
  i_aload 0 <|
  i_getR 1 0 <|
  i_getI 2 4 <|
  i_call mX1_there d 2 pS (xOut Q) <|
  i_iload 2 <|
  i_if_eq
  (i_aload 0 <|
  i_getR 1 0 <|
  i_getR 2 27 <|
  i_iload 1 <|
  i_iald <|
  i_ret Q (some .int))
  (i_aload 0 <|
  i_getR 1 0 <|
  i_getR 2 28 <|
  i_iload 1 <|
  i_iald <|
  i_ret Q (some .int))
theorem kX1_tie_0 {d : Nat} {Q : Outcome → MH → Prop} : ∀ ls st h, tX1_tie_0 d Q (fun pc ls st h => WPb mX1_tie d pc ls st h Q) ls st h → WPb mX1_tie d 0 ls st h Q :=
  r_iload_n (k := 1) dX1_tie_0 rfl <|
  r_aload_n (k := 0) dX1_tie_1 rfl <|
  r_getR (ci := 1) (q := (RX1, TX1, 13)) (k := 0) dX1_tie_2 (by decide) rfl in_X1 (by decide) (Or.inl q465) rfl <|
  r_getI (ci := 2) (q := (RX2, TX2, 31)) (k := 4) dX1_tie_5 (by decide) rfl in_X2 (by decide) (Or.inr (Or.inl ⟨_, q190⟩)) rfl <|
  r_cS (Z := mX1_there) dX1_tie_8 rfl (by decide +kernel) ⟨by decide, by decide⟩ q1635 q1636 q117 q1637 (XS.out (noH _)) <|
  r_iload_n (k := 2) dX1_tie_11 rfl <|
  r_if_eq (pt := 27) dX1_tie_12 (by decide)
  (r_aload_n (k := 0) dX1_tie_27 rfl <|
  r_getR (ci := 1) (q := (RX1, TX1, 13)) (k := 0) dX1_tie_28 (by decide) rfl in_X1 (by decide) (Or.inl q465) rfl <|
  r_getR (ci := 2) (q := (RX2, TX2, 31)) (k := 27) dX1_tie_31 (by decide) rfl in_X2 (by decide) (Or.inr (Or.inl ⟨_, q239⟩)) rfl <|
  r_iload_n (k := 1) dX1_tie_34 rfl <|
  r_iald dX1_tie_35 <|
  r_ret rfl (Or.inl ⟨dX1_tie_36, Or.inl rfl⟩))
  (r_aload_n (k := 0) dX1_tie_15 rfl <|
  r_getR (ci := 1) (q := (RX1, TX1, 13)) (k := 0) dX1_tie_16 (by decide) rfl in_X1 (by decide) (Or.inl q465) rfl <|
  r_getR (ci := 2) (q := (RX2, TX2, 31)) (k := 28) dX1_tie_19 (by decide) rfl in_X2 (by decide) (Or.inr (Or.inl ⟨_, q242⟩)) rfl <|
  r_iload_n (k := 1) dX1_tie_22 rfl <|
  r_iald dX1_tie_23 <|
  r_goto (pt := 36) dX1_tie_24 (by decide) <|
  r_ret rfl (Or.inl ⟨dX1_tie_36, Or.inl rfl⟩))
-- CheekTown.will(II)I cuts [0]
def tX1_will_0 (d : Nat) (Q : Outcome → MH → Prop) (J : Nat → KT) : KT :=
  i_aload 0 <|
  i_iload 1 <|
  i_iload 2 <|
  i_call mX1_twoAt d 3 (pV 1) (xOut Q) <|
  i_aload 0 <|
  i_aload 0 <|
  i_getR 1 0 <|
  i_iload 1 <|
  i_iload 2 <|
  i_call mX1_beginsWith d 4 (pV 1) (xOut Q) <|
  i_ret Q (some .int)
theorem kX1_will_0 {d : Nat} {Q : Outcome → MH → Prop} : ∀ ls st h, tX1_will_0 d Q (fun pc ls st h => WPb mX1_will d pc ls st h Q) ls st h → WPb mX1_will d 0 ls st h Q :=
  r_aload_n (k := 0) dX1_will_0 rfl <|
  r_iload_n (k := 1) dX1_will_1 rfl <|
  r_iload_n (k := 2) dX1_will_2 rfl <|
  r_cV (Z := mX1_twoAt) (ci := 1) (q := (RX1, TX1, 13)) dX1_will_3 rfl (by decide +kernel) ⟨by decide, by decide⟩ (by decide) rfl rfl q1710 q1712 qs35 q117 q1713 (XS.out (noH _)) <|
  r_aload_n (k := 0) dX1_will_6 rfl <|
  r_aload_n (k := 0) dX1_will_7 rfl <|
  r_getR (ci := 1) (q := (RX1, TX1, 13)) (k := 0) dX1_will_8 (by decide) rfl in_X1 (by decide) (Or.inl q465) rfl <|
  r_iload_n (k := 1) dX1_will_11 rfl <|
  r_iload_n (k := 2) dX1_will_12 rfl <|
  r_cV (Z := mX1_beginsWith) (ci := 1) (q := (RX1, TX1, 13)) dX1_will_13 rfl (by decide +kernel) ⟨by decide, by decide⟩ (by decide) rfl rfl q1731 q1733 qs36 q117 q1734 (XS.out (noH _)) <|
  r_ret rfl (Or.inl ⟨dX1_will_16, Or.inl rfl⟩)
-- CheekTown.beginsWith(LCheekTown$World;II)I cuts [0]
def tX1_beginsWith_0 (d : Nat) (Q : Outcome → MH → Prop) (J : Nat → KT) : KT :=
  i_aload 0 <|
  i_aload 1 <|
  i_iload 2 <|
  i_iload 3 <|
  i_call mX1_toldBy d 4 (pV 1) (xOut Q) <|
  i_istore 4 <|
  i_iload 4 <|
  i_const (-1) <|
  i_icmp_eq
  (i_aload 1 <|
  i_getR 2 24 <|
  i_const 10 <|
  i_iload 2 <|
  i_imul <|
  i_iload 3 <|
  i_iadd <|
  i_iald <|
  i_istore 5 <|
  i_iload 5 <|
  i_const (-1) <|
  i_icmp_eq
  (i_aload 1 <|
  i_getR 2 19 <|
  i_iload 2 <|
  i_iald <|
  i_ret Q (some .int))
  (i_iload 5 <|
  i_ret Q (some .int)))
  (i_iload 4 <|
  i_ret Q (some .int))
theorem kX1_beginsWith_0 {d : Nat} {Q : Outcome → MH → Prop} : ∀ ls st h, tX1_beginsWith_0 d Q (fun pc ls st h => WPb mX1_beginsWith d pc ls st h Q) ls st h → WPb mX1_beginsWith d 0 ls st h Q :=
  r_aload_n (k := 0) dX1_beginsWith_0 rfl <|
  r_aload_n (k := 1) dX1_beginsWith_1 rfl <|
  r_iload_n (k := 2) dX1_beginsWith_2 rfl <|
  r_iload_n (k := 3) dX1_beginsWith_3 rfl <|
  r_cV (Z := mX1_toldBy) (ci := 1) (q := (RX1, TX1, 13)) dX1_beginsWith_4 rfl (by decide +kernel) ⟨by decide, by decide⟩ (by decide) rfl rfl q1735 q1737 qs37 q117 q1738 (XS.out (noH _)) <|
  r_istore dX1_beginsWith_7 <|
  r_iload dX1_beginsWith_9 <|
  r_iconst (v := (-1)) dX1_beginsWith_11 rfl <|
  r_icmp_eq (pt := 18) dX1_beginsWith_12 (by decide)
  (r_aload_n (k := 1) dX1_beginsWith_18 rfl <|
  r_getR (ci := 2) (q := (RX2, TX2, 31)) (k := 24) dX1_beginsWith_19 (by decide) rfl in_X2 (by decide) (Or.inr (Or.inl ⟨_, q232⟩)) rfl <|
  r_bipush (v := 10) dX1_beginsWith_22 rfl <|
  r_iload_n (k := 2) dX1_beginsWith_24 rfl <|
  r_imul dX1_beginsWith_25 <|
  r_iload_n (k := 3) dX1_beginsWith_26 rfl <|
  r_iadd dX1_beginsWith_27 <|
  r_iald dX1_beginsWith_28 <|
  r_istore dX1_beginsWith_29 <|
  r_iload dX1_beginsWith_31 <|
  r_iconst (v := (-1)) dX1_beginsWith_33 rfl <|
  r_icmp_eq (pt := 42) dX1_beginsWith_34 (by decide)
  (r_aload_n (k := 1) dX1_beginsWith_42 rfl <|
  r_getR (ci := 2) (q := (RX2, TX2, 31)) (k := 19) dX1_beginsWith_43 (by decide) rfl in_X2 (by decide) (Or.inr (Or.inl ⟨_, q222⟩)) rfl <|
  r_iload_n (k := 2) dX1_beginsWith_46 rfl <|
  r_iald dX1_beginsWith_47 <|
  r_ret rfl (Or.inl ⟨dX1_beginsWith_48, Or.inl rfl⟩))
  (r_iload dX1_beginsWith_37 <|
  r_goto (pt := 48) dX1_beginsWith_39 (by decide) <|
  r_ret rfl (Or.inl ⟨dX1_beginsWith_48, Or.inl rfl⟩)))
  (r_iload dX1_beginsWith_15 <|
  r_ret rfl (Or.inl ⟨dX1_beginsWith_17, Or.inl rfl⟩))
-- CheekTown.toldBy(LCheekTown$World;II)I cuts [0, 104]
def tX1_toldBy_0 (d : Nat) (Q : Outcome → MH → Prop) (J : Nat → KT) : KT :=
  i_aload 1 <|
  i_getR 2 30 <|
  i_ifnonnull
  (i_aload 0 <|
  i_getR 1 5 <|
  i_iload 2 <|
  i_putI 4 0 .int <|
  i_aload 0 <|
  i_getR 1 5 <|
  i_iload 3 <|
  i_putI 4 1 .int <|
  i_aload 0 <|
  i_getR 1 5 <|
  i_aload 1 <|
  i_getR 2 20 <|
  i_iload 2 <|
  i_iald <|
  i_putI 4 2 .int <|
  i_aload 0 <|
  i_getR 1 5 <|
  i_aload 1 <|
  i_getR 2 20 <|
  i_iload 3 <|
  i_iald <|
  i_putI 4 3 .int <|
  i_aload 0 <|
  i_getR 1 5 <|
  i_aload 1 <|
  i_getR 2 23 <|
  i_const 10 <|
  i_iload 2 <|
  i_imul <|
  i_iload 3 <|
  i_iadd <|
  i_iald <|
  i_putI 4 4 .int <|
  i_aload 0 <|
  i_getR 1 5 <|
  i_aload 1 <|
  i_getI 2 5 <|
  i_putI 4 5 .int <|
  i_aload 0 <|
  i_getR 1 5 <|
  i_aload 1 <|
  i_getR 2 18 <|
  i_iload 2 <|
  i_iald <|
  i_aload 1 <|
  i_getR 2 18 <|
  i_iload 3 <|
  i_iald <|
  i_icmp_ne
  (i_const 0 <|
  (J 104))
  (i_const 1 <|
  (J 104)))
  (i_const (-1) <|
  i_ret Q (some .int))
theorem kX1_toldBy_0 {d : Nat} {Q : Outcome → MH → Prop} : ∀ ls st h, tX1_toldBy_0 d Q (fun pc ls st h => WPb mX1_toldBy d pc ls st h Q) ls st h → WPb mX1_toldBy d 0 ls st h Q :=
  r_aload_n (k := 1) dX1_toldBy_0 rfl <|
  r_getR (ci := 2) (q := (RX2, TX2, 31)) (k := 30) dX1_toldBy_1 (by decide) rfl in_X2 (by decide) (Or.inr (Or.inl ⟨_, q246⟩)) rfl <|
  r_ifnonnull (pt := 9) dX1_toldBy_4 (by decide)
  (r_aload_n (k := 0) dX1_toldBy_9 rfl <|
  r_getR (ci := 1) (q := (RX1, TX1, 13)) (k := 5) dX1_toldBy_10 (by decide) rfl in_X1 (by decide) (Or.inl q473) rfl <|
  r_iload_n (k := 2) dX1_toldBy_13 rfl <|
  r_putI (ci := 4) (q := (RX4, TX4, 8)) (k := 0) tyX4 tyX4_ok nmX4 dX1_toldBy_14 (by decide) rfl in_X4 (by decide) (Or.inl ⟨rfl, (Or.inr (Or.inl ⟨_, q352⟩))⟩) rfl rfl <|
  r_aload_n (k := 0) dX1_toldBy_17 rfl <|
  r_getR (ci := 1) (q := (RX1, TX1, 13)) (k := 5) dX1_toldBy_18 (by decide) rfl in_X1 (by decide) (Or.inl q473) rfl <|
  r_iload_n (k := 3) dX1_toldBy_21 rfl <|
  r_putI (ci := 4) (q := (RX4, TX4, 8)) (k := 1) tyX4 tyX4_ok nmX4 dX1_toldBy_22 (by decide) rfl in_X4 (by decide) (Or.inl ⟨rfl, (Or.inr (Or.inl ⟨_, q354⟩))⟩) rfl rfl <|
  r_aload_n (k := 0) dX1_toldBy_25 rfl <|
  r_getR (ci := 1) (q := (RX1, TX1, 13)) (k := 5) dX1_toldBy_26 (by decide) rfl in_X1 (by decide) (Or.inl q473) rfl <|
  r_aload_n (k := 1) dX1_toldBy_29 rfl <|
  r_getR (ci := 2) (q := (RX2, TX2, 31)) (k := 20) dX1_toldBy_30 (by decide) rfl in_X2 (by decide) (Or.inr (Or.inl ⟨_, q224⟩)) rfl <|
  r_iload_n (k := 2) dX1_toldBy_33 rfl <|
  r_iald dX1_toldBy_34 <|
  r_putI (ci := 4) (q := (RX4, TX4, 8)) (k := 2) tyX4 tyX4_ok nmX4 dX1_toldBy_35 (by decide) rfl in_X4 (by decide) (Or.inl ⟨rfl, (Or.inr (Or.inl ⟨_, q356⟩))⟩) rfl rfl <|
  r_aload_n (k := 0) dX1_toldBy_38 rfl <|
  r_getR (ci := 1) (q := (RX1, TX1, 13)) (k := 5) dX1_toldBy_39 (by decide) rfl in_X1 (by decide) (Or.inl q473) rfl <|
  r_aload_n (k := 1) dX1_toldBy_42 rfl <|
  r_getR (ci := 2) (q := (RX2, TX2, 31)) (k := 20) dX1_toldBy_43 (by decide) rfl in_X2 (by decide) (Or.inr (Or.inl ⟨_, q224⟩)) rfl <|
  r_iload_n (k := 3) dX1_toldBy_46 rfl <|
  r_iald dX1_toldBy_47 <|
  r_putI (ci := 4) (q := (RX4, TX4, 8)) (k := 3) tyX4 tyX4_ok nmX4 dX1_toldBy_48 (by decide) rfl in_X4 (by decide) (Or.inl ⟨rfl, (Or.inr (Or.inl ⟨_, q358⟩))⟩) rfl rfl <|
  r_aload_n (k := 0) dX1_toldBy_51 rfl <|
  r_getR (ci := 1) (q := (RX1, TX1, 13)) (k := 5) dX1_toldBy_52 (by decide) rfl in_X1 (by decide) (Or.inl q473) rfl <|
  r_aload_n (k := 1) dX1_toldBy_55 rfl <|
  r_getR (ci := 2) (q := (RX2, TX2, 31)) (k := 23) dX1_toldBy_56 (by decide) rfl in_X2 (by decide) (Or.inr (Or.inl ⟨_, q230⟩)) rfl <|
  r_bipush (v := 10) dX1_toldBy_59 rfl <|
  r_iload_n (k := 2) dX1_toldBy_61 rfl <|
  r_imul dX1_toldBy_62 <|
  r_iload_n (k := 3) dX1_toldBy_63 rfl <|
  r_iadd dX1_toldBy_64 <|
  r_iald dX1_toldBy_65 <|
  r_putI (ci := 4) (q := (RX4, TX4, 8)) (k := 4) tyX4 tyX4_ok nmX4 dX1_toldBy_66 (by decide) rfl in_X4 (by decide) (Or.inl ⟨rfl, (Or.inr (Or.inl ⟨_, q360⟩))⟩) rfl rfl <|
  r_aload_n (k := 0) dX1_toldBy_69 rfl <|
  r_getR (ci := 1) (q := (RX1, TX1, 13)) (k := 5) dX1_toldBy_70 (by decide) rfl in_X1 (by decide) (Or.inl q473) rfl <|
  r_aload_n (k := 1) dX1_toldBy_73 rfl <|
  r_getI (ci := 2) (q := (RX2, TX2, 31)) (k := 5) dX1_toldBy_74 (by decide) rfl in_X2 (by decide) (Or.inr (Or.inl ⟨_, q192⟩)) rfl <|
  r_putI (ci := 4) (q := (RX4, TX4, 8)) (k := 5) tyX4 tyX4_ok nmX4 dX1_toldBy_77 (by decide) rfl in_X4 (by decide) (Or.inl ⟨rfl, (Or.inr (Or.inl ⟨_, q362⟩))⟩) rfl rfl <|
  r_aload_n (k := 0) dX1_toldBy_80 rfl <|
  r_getR (ci := 1) (q := (RX1, TX1, 13)) (k := 5) dX1_toldBy_81 (by decide) rfl in_X1 (by decide) (Or.inl q473) rfl <|
  r_aload_n (k := 1) dX1_toldBy_84 rfl <|
  r_getR (ci := 2) (q := (RX2, TX2, 31)) (k := 18) dX1_toldBy_85 (by decide) rfl in_X2 (by decide) (Or.inr (Or.inl ⟨_, q218⟩)) rfl <|
  r_iload_n (k := 2) dX1_toldBy_88 rfl <|
  r_iald dX1_toldBy_89 <|
  r_aload_n (k := 1) dX1_toldBy_90 rfl <|
  r_getR (ci := 2) (q := (RX2, TX2, 31)) (k := 18) dX1_toldBy_91 (by decide) rfl in_X2 (by decide) (Or.inr (Or.inl ⟨_, q218⟩)) rfl <|
  r_iload_n (k := 3) dX1_toldBy_94 rfl <|
  r_iald dX1_toldBy_95 <|
  r_icmp_ne (pt := 103) dX1_toldBy_96 (by decide)
  (r_iconst (v := 0) dX1_toldBy_103 rfl <|
  (fun _ _ _ H => H))
  (r_iconst (v := 1) dX1_toldBy_99 rfl <|
  r_goto (pt := 104) dX1_toldBy_100 (by decide) <|
  (fun _ _ _ H => H)))
  (r_iconst (v := (-1)) dX1_toldBy_7 rfl <|
  r_ret rfl (Or.inl ⟨dX1_toldBy_8, Or.inl rfl⟩))
def tX1_toldBy_104 (d : Nat) (Q : Outcome → MH → Prop) (J : Nat → KT) : KT :=
  i_putI 4 6 .boolean <|
  i_aload 0 <|
  i_getR 1 5 <|
  i_aload 1 <|
  i_getR 2 22 <|
  i_iload 2 <|
  i_zald <|
  i_if_ne
  (i_const 1 <|
  i_putI 4 7 .boolean <|
  i_aload 1 <|
  i_getR 2 30 <|
  i_aload 0 <|
  i_getR 1 5 <|
  i_call mX11_tells d 2 (pV 11) (xOut Q) <|
  i_ret Q (some .int))
  (i_aload 1 <|
  i_getR 2 22 <|
  i_iload 3 <|
  i_zald <|
  i_if_eq
  (i_const 0 <|
  i_putI 4 7 .boolean <|
  i_aload 1 <|
  i_getR 2 30 <|
  i_aload 0 <|
  i_getR 1 5 <|
  i_call mX11_tells d 2 (pV 11) (xOut Q) <|
  i_ret Q (some .int))
  (i_const 1 <|
  i_putI 4 7 .boolean <|
  i_aload 1 <|
  i_getR 2 30 <|
  i_aload 0 <|
  i_getR 1 5 <|
  i_call mX11_tells d 2 (pV 11) (xOut Q) <|
  i_ret Q (some .int)))
theorem kX1_toldBy_104 {d : Nat} {Q : Outcome → MH → Prop} : ∀ ls st h, tX1_toldBy_104 d Q (fun pc ls st h => WPb mX1_toldBy d pc ls st h Q) ls st h → WPb mX1_toldBy d 104 ls st h Q :=
  r_putI (ci := 4) (q := (RX4, TX4, 8)) (k := 6) tyX4 tyX4_ok nmX4 dX1_toldBy_104 (by decide) rfl in_X4 (by decide) (Or.inl ⟨rfl, (Or.inr (Or.inl ⟨_, q364⟩))⟩) rfl rfl <|
  r_aload_n (k := 0) dX1_toldBy_107 rfl <|
  r_getR (ci := 1) (q := (RX1, TX1, 13)) (k := 5) dX1_toldBy_108 (by decide) rfl in_X1 (by decide) (Or.inl q473) rfl <|
  r_aload_n (k := 1) dX1_toldBy_111 rfl <|
  r_getR (ci := 2) (q := (RX2, TX2, 31)) (k := 22) dX1_toldBy_112 (by decide) rfl in_X2 (by decide) (Or.inr (Or.inl ⟨_, q228⟩)) rfl <|
  r_iload_n (k := 2) dX1_toldBy_115 rfl <|
  r_zald dX1_toldBy_116 <|
  r_if_ne (pt := 129) dX1_toldBy_117 (by decide)
  (r_iconst (v := 1) dX1_toldBy_129 rfl <|
  r_goto (pt := 134) dX1_toldBy_130 (by decide) <|
  r_putI (ci := 4) (q := (RX4, TX4, 8)) (k := 7) tyX4 tyX4_ok nmX4 dX1_toldBy_134 (by decide) rfl in_X4 (by decide) (Or.inl ⟨rfl, (Or.inr (Or.inl ⟨_, q366⟩))⟩) rfl rfl <|
  r_aload_n (k := 1) dX1_toldBy_137 rfl <|
  r_getR (ci := 2) (q := (RX2, TX2, 31)) (k := 30) dX1_toldBy_138 (by decide) rfl in_X2 (by decide) (Or.inr (Or.inl ⟨_, q246⟩)) rfl <|
  r_aload_n (k := 0) dX1_toldBy_141 rfl <|
  r_getR (ci := 1) (q := (RX1, TX1, 13)) (k := 5) dX1_toldBy_142 (by decide) rfl in_X1 (by decide) (Or.inl q473) rfl <|
  r_cV (Z := mX11_tells) (ci := 11) (q := (RX11, TX11, 1)) dX1_toldBy_145 rfl (by decide +kernel) ⟨by decide, by decide⟩ (by decide) rfl rfl q1739 q1740 q1741 q148 q1742 (XS.out (noH _)) <|
  r_ret rfl (Or.inl ⟨dX1_toldBy_148, Or.inl rfl⟩))
  (r_aload_n (k := 1) dX1_toldBy_120 rfl <|
  r_getR (ci := 2) (q := (RX2, TX2, 31)) (k := 22) dX1_toldBy_121 (by decide) rfl in_X2 (by decide) (Or.inr (Or.inl ⟨_, q228⟩)) rfl <|
  r_iload_n (k := 3) dX1_toldBy_124 rfl <|
  r_zald dX1_toldBy_125 <|
  r_if_eq (pt := 133) dX1_toldBy_126 (by decide)
  (r_iconst (v := 0) dX1_toldBy_133 rfl <|
  r_putI (ci := 4) (q := (RX4, TX4, 8)) (k := 7) tyX4 tyX4_ok nmX4 dX1_toldBy_134 (by decide) rfl in_X4 (by decide) (Or.inl ⟨rfl, (Or.inr (Or.inl ⟨_, q366⟩))⟩) rfl rfl <|
  r_aload_n (k := 1) dX1_toldBy_137 rfl <|
  r_getR (ci := 2) (q := (RX2, TX2, 31)) (k := 30) dX1_toldBy_138 (by decide) rfl in_X2 (by decide) (Or.inr (Or.inl ⟨_, q246⟩)) rfl <|
  r_aload_n (k := 0) dX1_toldBy_141 rfl <|
  r_getR (ci := 1) (q := (RX1, TX1, 13)) (k := 5) dX1_toldBy_142 (by decide) rfl in_X1 (by decide) (Or.inl q473) rfl <|
  r_cV (Z := mX11_tells) (ci := 11) (q := (RX11, TX11, 1)) dX1_toldBy_145 rfl (by decide +kernel) ⟨by decide, by decide⟩ (by decide) rfl rfl q1739 q1740 q1741 q148 q1742 (XS.out (noH _)) <|
  r_ret rfl (Or.inl ⟨dX1_toldBy_148, Or.inl rfl⟩))
  (r_iconst (v := 1) dX1_toldBy_129 rfl <|
  r_goto (pt := 134) dX1_toldBy_130 (by decide) <|
  r_putI (ci := 4) (q := (RX4, TX4, 8)) (k := 7) tyX4 tyX4_ok nmX4 dX1_toldBy_134 (by decide) rfl in_X4 (by decide) (Or.inl ⟨rfl, (Or.inr (Or.inl ⟨_, q366⟩))⟩) rfl rfl <|
  r_aload_n (k := 1) dX1_toldBy_137 rfl <|
  r_getR (ci := 2) (q := (RX2, TX2, 31)) (k := 30) dX1_toldBy_138 (by decide) rfl in_X2 (by decide) (Or.inr (Or.inl ⟨_, q246⟩)) rfl <|
  r_aload_n (k := 0) dX1_toldBy_141 rfl <|
  r_getR (ci := 1) (q := (RX1, TX1, 13)) (k := 5) dX1_toldBy_142 (by decide) rfl in_X1 (by decide) (Or.inl q473) rfl <|
  r_cV (Z := mX11_tells) (ci := 11) (q := (RX11, TX11, 1)) dX1_toldBy_145 rfl (by decide +kernel) ⟨by decide, by decide⟩ (by decide) rfl rfl q1739 q1740 q1741 q148 q1742 (XS.out (noH _)) <|
  r_ret rfl (Or.inl ⟨dX1_toldBy_148, Or.inl rfl⟩)))
-- CheekTown.meet(II)I cuts [0]
def tX1_meet_0 (d : Nat) (Q : Outcome → MH → Prop) (J : Nat → KT) : KT :=
  i_aload 0 <|
  i_iload 1 <|
  i_iload 2 <|
  i_call mX1_twoAt d 3 (pV 1) (xOut Q) <|
  i_aload 0 <|
  i_call mX1_remembers d 1 (pV 1) (xOut Q) <|
  i_aload 0 <|
  i_aload 0 <|
  i_getR 1 0 <|
  i_iload 1 <|
  i_iload 2 <|
  i_call mX1_meetsAny d 4 (pV 1) (xOut Q) <|
  i_ret Q (some .int)
theorem kX1_meet_0 {d : Nat} {Q : Outcome → MH → Prop} : ∀ ls st h, tX1_meet_0 d Q (fun pc ls st h => WPb mX1_meet d pc ls st h Q) ls st h → WPb mX1_meet d 0 ls st h Q :=
  r_aload_n (k := 0) dX1_meet_0 rfl <|
  r_iload_n (k := 1) dX1_meet_1 rfl <|
  r_iload_n (k := 2) dX1_meet_2 rfl <|
  r_cV (Z := mX1_twoAt) (ci := 1) (q := (RX1, TX1, 13)) dX1_meet_3 rfl (by decide +kernel) ⟨by decide, by decide⟩ (by decide) rfl rfl q1710 q1712 qs35 q117 q1713 (XS.out (noH _)) <|
  r_aload_n (k := 0) dX1_meet_6 rfl <|
  r_cV (Z := mX1_remembers) (ci := 1) (q := (RX1, TX1, 13)) dX1_meet_7 rfl (by decide +kernel) ⟨by decide, by decide⟩ (by decide) rfl rfl q1813 q1815 qs38 q117 q1816 (XS.out (noH _)) <|
  r_aload_n (k := 0) dX1_meet_10 rfl <|
  r_aload_n (k := 0) dX1_meet_11 rfl <|
  r_getR (ci := 1) (q := (RX1, TX1, 13)) (k := 0) dX1_meet_12 (by decide) rfl in_X1 (by decide) (Or.inl q465) rfl <|
  r_iload_n (k := 1) dX1_meet_15 rfl <|
  r_iload_n (k := 2) dX1_meet_16 rfl <|
  r_cV (Z := mX1_meetsAny) (ci := 1) (q := (RX1, TX1, 13)) dX1_meet_17 rfl (by decide +kernel) ⟨by decide, by decide⟩ (by decide) rfl rfl q1817 q1819 qs39 q117 q1820 (XS.out (noH _)) <|
  r_ret rfl (Or.inl ⟨dX1_meet_20, Or.inl rfl⟩)
-- CheekTown.remembers()V cuts [0]
def tX1_remembers_0 (d : Nat) (Q : Outcome → MH → Prop) (J : Nat → KT) : KT :=
  i_aload 0 <|
  i_getR 1 6 <|
  i_call mJ2_size d 1 (pV 22) (xOut Q) <|
  i_const 12 <|
  i_icmp_ne
  (i_new 2 31 <|
  i_dup <|
  i_call mX2_init d 1 pI (xOut Q) <|
  i_astore 1 <|
  i_aload 0 <|
  i_getR 1 6 <|
  i_aload 1 <|
  i_aload 0 <|
  i_getR 1 0 <|
  i_call mX2_likens d 2 (pV 2) (xOut Q) <|
  i_call mJ2_add d 2 (pV 22) (xOut Q) <|
  i_pop <|
  i_vret Q)
  (i_aload 0 <|
  i_getR 1 6 <|
  i_const 0 <|
  i_call mJ2_remove d 2 (pV 22) (xOut Q) <|
  i_cast 2 <|
  i_astore 1 <|
  i_aload 0 <|
  i_getR 1 6 <|
  i_aload 1 <|
  i_aload 0 <|
  i_getR 1 0 <|
  i_call mX2_likens d 2 (pV 2) (xOut Q) <|
  i_call mJ2_add d 2 (pV 22) (xOut Q) <|
  i_pop <|
  i_vret Q)
theorem kX1_remembers_0 {d : Nat} {Q : Outcome → MH → Prop} : ∀ ls st h, tX1_remembers_0 d Q (fun pc ls st h => WPb mX1_remembers d pc ls st h Q) ls st h → WPb mX1_remembers d 0 ls st h Q :=
  r_aload_n (k := 0) dX1_remembers_0 rfl <|
  r_getR (ci := 1) (q := (RX1, TX1, 13)) (k := 6) dX1_remembers_1 (by decide) rfl in_X1 (by decide) (Or.inl q474) rfl <|
  r_cV (Z := mJ2_size) (ci := 22) (q := (RJ2, TJ2, 3)) dX1_remembers_4 rfl (by decide +kernel) ⟨by decide, by decide⟩ (by decide) rfl rfl q1063 q1064 q1065 q123 q1066 (XS.out (noH _)) <|
  r_bipush (v := 12) dX1_remembers_7 rfl <|
  r_icmp_ne (pt := 26) dX1_remembers_9 (by decide)
  (r_new (ci := 2) (q := (RX2, TX2, 31)) tyX2 tyX2_ok (by decide) (by decide) (by decide) rfl rfl in_X2 q172 q173 q118 dX1_remembers_26 <|
  r_dup dX1_remembers_29 <|
  r_cIN (Z := mX2_init) dX1_remembers_30 rfl rfl rfl (by decide +kernel) ⟨by decide, by decide⟩ q174 q175 q118 q176 (XS.out (noH _)) <|
  r_astore_n (k := 1) dX1_remembers_33 rfl <|
  r_aload_n (k := 0) dX1_remembers_34 rfl <|
  r_getR (ci := 1) (q := (RX1, TX1, 13)) (k := 6) dX1_remembers_35 (by decide) rfl in_X1 (by decide) (Or.inl q474) rfl <|
  r_aload_n (k := 1) dX1_remembers_38 rfl <|
  r_aload_n (k := 0) dX1_remembers_39 rfl <|
  r_getR (ci := 1) (q := (RX1, TX1, 13)) (k := 0) dX1_remembers_40 (by decide) rfl in_X1 (by decide) (Or.inl q465) rfl <|
  r_cV (Z := mX2_likens) (ci := 2) (q := (RX2, TX2, 31)) dX1_remembers_43 rfl (by decide +kernel) ⟨by decide, by decide⟩ (by decide) rfl rfl q1082 q1083 q1084 q118 q1085 (XS.out (noH _)) <|
  r_cV (Z := mJ2_add) (ci := 22) (q := (RJ2, TJ2, 3)) dX1_remembers_46 rfl (by decide +kernel) ⟨by decide, by decide⟩ (by decide) rfl rfl q1531 q1532 q1533 q123 q1534 (XS.out (noH _)) <|
  r_pop dX1_remembers_49 <|
  r_vret rfl dX1_remembers_50)
  (r_aload_n (k := 0) dX1_remembers_12 rfl <|
  r_getR (ci := 1) (q := (RX1, TX1, 13)) (k := 6) dX1_remembers_13 (by decide) rfl in_X1 (by decide) (Or.inl q474) rfl <|
  r_iconst (v := 0) dX1_remembers_16 rfl <|
  r_cV (Z := mJ2_remove) (ci := 22) (q := (RJ2, TJ2, 3)) dX1_remembers_17 rfl (by decide +kernel) ⟨by decide, by decide⟩ (by decide) rfl rfl q1067 q1068 q1069 q123 q1070 (XS.out (noH _)) <|
  r_cast (ci := 2) (q := (RX2, TX2, 31)) (by decide) rfl q172 dX1_remembers_20 <|
  r_goto (pt := 33) dX1_remembers_23 (by decide) <|
  r_astore_n (k := 1) dX1_remembers_33 rfl <|
  r_aload_n (k := 0) dX1_remembers_34 rfl <|
  r_getR (ci := 1) (q := (RX1, TX1, 13)) (k := 6) dX1_remembers_35 (by decide) rfl in_X1 (by decide) (Or.inl q474) rfl <|
  r_aload_n (k := 1) dX1_remembers_38 rfl <|
  r_aload_n (k := 0) dX1_remembers_39 rfl <|
  r_getR (ci := 1) (q := (RX1, TX1, 13)) (k := 0) dX1_remembers_40 (by decide) rfl in_X1 (by decide) (Or.inl q465) rfl <|
  r_cV (Z := mX2_likens) (ci := 2) (q := (RX2, TX2, 31)) dX1_remembers_43 rfl (by decide +kernel) ⟨by decide, by decide⟩ (by decide) rfl rfl q1082 q1083 q1084 q118 q1085 (XS.out (noH _)) <|
  r_cV (Z := mJ2_add) (ci := 22) (q := (RJ2, TJ2, 3)) dX1_remembers_46 rfl (by decide +kernel) ⟨by decide, by decide⟩ (by decide) rfl rfl q1531 q1532 q1533 q123 q1534 (XS.out (noH _)) <|
  r_pop dX1_remembers_49 <|
  r_vret rfl dX1_remembers_50)
-- CheekTown.meetsAny(LCheekTown$World;II)I cuts [0]
def tX1_meetsAny_0 (d : Nat) (Q : Outcome → MH → Prop) (J : Nat → KT) : KT :=
  i_aload 0 <|
  i_aload 1 <|
  i_iload 2 <|
  i_iload 3 <|
  i_mmin d <|
  i_iload 2 <|
  i_iload 3 <|
  i_mmax d <|
  i_call mX1_meets d 4 (pV 1) (xOut Q) <|
  i_ret Q (some .int)
theorem kX1_meetsAny_0 {d : Nat} {Q : Outcome → MH → Prop} : ∀ ls st h, tX1_meetsAny_0 d Q (fun pc ls st h => WPb mX1_meetsAny d pc ls st h Q) ls st h → WPb mX1_meetsAny d 0 ls st h Q :=
  r_aload_n (k := 0) dX1_meetsAny_0 rfl <|
  r_aload_n (k := 1) dX1_meetsAny_1 rfl <|
  r_iload_n (k := 2) dX1_meetsAny_2 rfl <|
  r_iload_n (k := 3) dX1_meetsAny_3 rfl <|
  r_mmin dX1_meetsAny_4 q579 q580 q134 q581 <|
  r_iload_n (k := 2) dX1_meetsAny_7 rfl <|
  r_iload_n (k := 3) dX1_meetsAny_8 rfl <|
  r_mmax dX1_meetsAny_9 q560 q561 q134 q562 <|
  r_cV (Z := mX1_meets) (ci := 1) (q := (RX1, TX1, 13)) dX1_meetsAny_12 rfl (by decide +kernel) ⟨by decide, by decide⟩ (by decide) rfl rfl q1821 q1823 qs40 q117 q1824 (XS.out (noH _)) <|
  r_ret rfl (Or.inl ⟨dX1_meetsAny_15, Or.inl rfl⟩)
-- CheekTown.meets(LCheekTown$World;II)I cuts [0, 89]
def tX1_meets_0 (d : Nat) (Q : Outcome → MH → Prop) (J : Nat → KT) : KT :=
  i_aload 0 <|
  i_getR 1 7 <|
  i_const 0 <|
  i_aload 0 <|
  i_aload 1 <|
  i_iload 2 <|
  i_iload 3 <|
  i_call mX1_beginsWith d 4 (pV 1) (xOut Q) <|
  i_iast <|
  i_aload 0 <|
  i_getR 1 7 <|
  i_const 1 <|
  i_aload 0 <|
  i_aload 1 <|
  i_iload 3 <|
  i_iload 2 <|
  i_call mX1_beginsWith d 4 (pV 1) (xOut Q) <|
  i_iast <|
  i_aload 0 <|
  i_getR 1 8 <|
  i_const 0 <|
  i_aload 0 <|
  i_getR 1 7 <|
  i_const 0 <|
  i_iald <|
  i_iast <|
  i_aload 0 <|
  i_getR 1 8 <|
  i_const 1 <|
  i_aload 0 <|
  i_getR 1 7 <|
  i_const 1 <|
  i_iald <|
  i_iast <|
  i_aload 1 <|
  i_aload 0 <|
  i_getR 1 7 <|
  i_const 0 <|
  i_iald <|
  i_aload 0 <|
  i_getR 1 7 <|
  i_const 1 <|
  i_iald <|
  i_call mX2_cost d 3 (pV 2) (xOut Q) <|
  i_istore 4 <|
  i_iload 4 <|
  i_if_le
  ((J 89))
  (i_aload 0 <|
  i_aload 1 <|
  i_iload 2 <|
  i_iload 3 <|
  i_call mX1_someoneYields d 4 (pV 1) (xOut Q) <|
  i_if_eq
  ((J 89))
  (i_iload 4 <|
  i_const 2 <|
  i_idiv <|
  i_istore 4 <|
  (J 89)))
theorem kX1_meets_0 {d : Nat} {Q : Outcome → MH → Prop} : ∀ ls st h, tX1_meets_0 d Q (fun pc ls st h => WPb mX1_meets d pc ls st h Q) ls st h → WPb mX1_meets d 0 ls st h Q :=
  r_aload_n (k := 0) dX1_meets_0 rfl <|
  r_getR (ci := 1) (q := (RX1, TX1, 13)) (k := 7) dX1_meets_1 (by decide) rfl in_X1 (by decide) (Or.inl q475) rfl <|
  r_iconst (v := 0) dX1_meets_4 rfl <|
  r_aload_n (k := 0) dX1_meets_5 rfl <|
  r_aload_n (k := 1) dX1_meets_6 rfl <|
  r_iload_n (k := 2) dX1_meets_7 rfl <|
  r_iload_n (k := 3) dX1_meets_8 rfl <|
  r_cV (Z := mX1_beginsWith) (ci := 1) (q := (RX1, TX1, 13)) dX1_meets_9 rfl (by decide +kernel) ⟨by decide, by decide⟩ (by decide) rfl rfl q1731 q1733 qs36 q117 q1734 (XS.out (noH _)) <|
  r_iast dX1_meets_12 <|
  r_aload_n (k := 0) dX1_meets_13 rfl <|
  r_getR (ci := 1) (q := (RX1, TX1, 13)) (k := 7) dX1_meets_14 (by decide) rfl in_X1 (by decide) (Or.inl q475) rfl <|
  r_iconst (v := 1) dX1_meets_17 rfl <|
  r_aload_n (k := 0) dX1_meets_18 rfl <|
  r_aload_n (k := 1) dX1_meets_19 rfl <|
  r_iload_n (k := 3) dX1_meets_20 rfl <|
  r_iload_n (k := 2) dX1_meets_21 rfl <|
  r_cV (Z := mX1_beginsWith) (ci := 1) (q := (RX1, TX1, 13)) dX1_meets_22 rfl (by decide +kernel) ⟨by decide, by decide⟩ (by decide) rfl rfl q1731 q1733 qs36 q117 q1734 (XS.out (noH _)) <|
  r_iast dX1_meets_25 <|
  r_aload_n (k := 0) dX1_meets_26 rfl <|
  r_getR (ci := 1) (q := (RX1, TX1, 13)) (k := 8) dX1_meets_27 (by decide) rfl in_X1 (by decide) (Or.inl q476) rfl <|
  r_iconst (v := 0) dX1_meets_30 rfl <|
  r_aload_n (k := 0) dX1_meets_31 rfl <|
  r_getR (ci := 1) (q := (RX1, TX1, 13)) (k := 7) dX1_meets_32 (by decide) rfl in_X1 (by decide) (Or.inl q475) rfl <|
  r_iconst (v := 0) dX1_meets_35 rfl <|
  r_iald dX1_meets_36 <|
  r_iast dX1_meets_37 <|
  r_aload_n (k := 0) dX1_meets_38 rfl <|
  r_getR (ci := 1) (q := (RX1, TX1, 13)) (k := 8) dX1_meets_39 (by decide) rfl in_X1 (by decide) (Or.inl q476) rfl <|
  r_iconst (v := 1) dX1_meets_42 rfl <|
  r_aload_n (k := 0) dX1_meets_43 rfl <|
  r_getR (ci := 1) (q := (RX1, TX1, 13)) (k := 7) dX1_meets_44 (by decide) rfl in_X1 (by decide) (Or.inl q475) rfl <|
  r_iconst (v := 1) dX1_meets_47 rfl <|
  r_iald dX1_meets_48 <|
  r_iast dX1_meets_49 <|
  r_aload_n (k := 1) dX1_meets_50 rfl <|
  r_aload_n (k := 0) dX1_meets_51 rfl <|
  r_getR (ci := 1) (q := (RX1, TX1, 13)) (k := 7) dX1_meets_52 (by decide) rfl in_X1 (by decide) (Or.inl q475) rfl <|
  r_iconst (v := 0) dX1_meets_55 rfl <|
  r_iald dX1_meets_56 <|
  r_aload_n (k := 0) dX1_meets_57 rfl <|
  r_getR (ci := 1) (q := (RX1, TX1, 13)) (k := 7) dX1_meets_58 (by decide) rfl in_X1 (by decide) (Or.inl q475) rfl <|
  r_iconst (v := 1) dX1_meets_61 rfl <|
  r_iald dX1_meets_62 <|
  r_cV (Z := mX2_cost) (ci := 2) (q := (RX2, TX2, 31)) dX1_meets_63 rfl (by decide +kernel) ⟨by decide, by decide⟩ (by decide) rfl rfl q536 q537 q538 q118 q539 (XS.out (noH _)) <|
  r_istore dX1_meets_66 <|
  r_iload dX1_meets_68 <|
  r_if_le (pt := 89) dX1_meets_70 (by decide)
  ((fun _ _ _ H => H))
  (r_aload_n (k := 0) dX1_meets_73 rfl <|
  r_aload_n (k := 1) dX1_meets_74 rfl <|
  r_iload_n (k := 2) dX1_meets_75 rfl <|
  r_iload_n (k := 3) dX1_meets_76 rfl <|
  r_cV (Z := mX1_someoneYields) (ci := 1) (q := (RX1, TX1, 13)) dX1_meets_77 rfl (by decide +kernel) ⟨by decide, by decide⟩ (by decide) rfl rfl q1825 q1827 qs41 q117 q1828 (XS.out (noH _)) <|
  r_if_eq (pt := 89) dX1_meets_80 (by decide)
  ((fun _ _ _ H => H))
  (r_iload dX1_meets_83 <|
  r_iconst (v := 2) dX1_meets_85 rfl <|
  r_idiv dX1_meets_86 <|
  r_istore dX1_meets_87 <|
  (fun _ _ _ H => H)))
def tX1_meets_89 (d : Nat) (Q : Outcome → MH → Prop) (J : Nat → KT) : KT :=
  i_aload 1 <|
  i_iload 2 <|
  i_iload 3 <|
  i_aload 0 <|
  i_getR 1 8 <|
  i_const 1 <|
  i_iald <|
  i_call mX2_sees d 4 (pV 2) (xOut Q) <|
  i_aload 1 <|
  i_iload 3 <|
  i_iload 2 <|
  i_aload 0 <|
  i_getR 1 8 <|
  i_const 0 <|
  i_iald <|
  i_call mX2_sees d 4 (pV 2) (xOut Q) <|
  i_aload 0 <|
  i_aload 1 <|
  i_iload 2 <|
  i_iload 3 <|
  i_call mX1_catches d 4 (pV 1) (xOut Q) <|
  i_aload 1 <|
  i_dup <|
  i_getI 2 9 <|
  i_aload 0 <|
  i_getR 1 8 <|
  i_const 0 <|
  i_iald <|
  i_call mX1_times d 1 pS (xOut Q) <|
  i_aload 0 <|
  i_getR 1 8 <|
  i_const 1 <|
  i_iald <|
  i_call mX1_times d 1 pS (xOut Q) <|
  i_mmax d <|
  i_iadd <|
  i_putI 2 9 .int <|
  i_aload 1 <|
  i_dup <|
  i_getI 2 6 <|
  i_const 1 <|
  i_iadd <|
  i_putI 2 6 .int <|
  i_aload 1 <|
  i_dup <|
  i_getI 2 7 <|
  i_iload 4 <|
  i_iadd <|
  i_putI 2 7 .int <|
  i_aload 1 <|
  i_iload 2 <|
  i_iload 3 <|
  i_aload 0 <|
  i_getR 1 7 <|
  i_aload 0 <|
  i_getR 1 8 <|
  i_iload 4 <|
  i_call mX2_tells d 6 (pV 2) (xOut Q) <|
  i_iload 4 <|
  i_ret Q (some .int)
theorem kX1_meets_89 {d : Nat} {Q : Outcome → MH → Prop} : ∀ ls st h, tX1_meets_89 d Q (fun pc ls st h => WPb mX1_meets d pc ls st h Q) ls st h → WPb mX1_meets d 89 ls st h Q :=
  r_aload_n (k := 1) dX1_meets_89 rfl <|
  r_iload_n (k := 2) dX1_meets_90 rfl <|
  r_iload_n (k := 3) dX1_meets_91 rfl <|
  r_aload_n (k := 0) dX1_meets_92 rfl <|
  r_getR (ci := 1) (q := (RX1, TX1, 13)) (k := 8) dX1_meets_93 (by decide) rfl in_X1 (by decide) (Or.inl q476) rfl <|
  r_iconst (v := 1) dX1_meets_96 rfl <|
  r_iald dX1_meets_97 <|
  r_cV (Z := mX2_sees) (ci := 2) (q := (RX2, TX2, 31)) dX1_meets_98 rfl (by decide +kernel) ⟨by decide, by decide⟩ (by decide) rfl rfl q1838 q1839 q1840 q118 q1841 (XS.out (noH _)) <|
  r_aload_n (k := 1) dX1_meets_101 rfl <|
  r_iload_n (k := 3) dX1_meets_102 rfl <|
  r_iload_n (k := 2) dX1_meets_103 rfl <|
  r_aload_n (k := 0) dX1_meets_104 rfl <|
  r_getR (ci := 1) (q := (RX1, TX1, 13)) (k := 8) dX1_meets_105 (by decide) rfl in_X1 (by decide) (Or.inl q476) rfl <|
  r_iconst (v := 0) dX1_meets_108 rfl <|
  r_iald dX1_meets_109 <|
  r_cV (Z := mX2_sees) (ci := 2) (q := (RX2, TX2, 31)) dX1_meets_110 rfl (by decide +kernel) ⟨by decide, by decide⟩ (by decide) rfl rfl q1838 q1839 q1840 q118 q1841 (XS.out (noH _)) <|
  r_aload_n (k := 0) dX1_meets_113 rfl <|
  r_aload_n (k := 1) dX1_meets_114 rfl <|
  r_iload_n (k := 2) dX1_meets_115 rfl <|
  r_iload_n (k := 3) dX1_meets_116 rfl <|
  r_cV (Z := mX1_catches) (ci := 1) (q := (RX1, TX1, 13)) dX1_meets_117 rfl (by decide +kernel) ⟨by decide, by decide⟩ (by decide) rfl rfl q1842 q1844 qs43 q117 q1845 (XS.out (noH _)) <|
  r_aload_n (k := 1) dX1_meets_120 rfl <|
  r_dup dX1_meets_121 <|
  r_getI (ci := 2) (q := (RX2, TX2, 31)) (k := 9) dX1_meets_122 (by decide) rfl in_X2 (by decide) (Or.inr (Or.inl ⟨_, q200⟩)) rfl <|
  r_aload_n (k := 0) dX1_meets_125 rfl <|
  r_getR (ci := 1) (q := (RX1, TX1, 13)) (k := 8) dX1_meets_126 (by decide) rfl in_X1 (by decide) (Or.inl q476) rfl <|
  r_iconst (v := 0) dX1_meets_129 rfl <|
  r_iald dX1_meets_130 <|
  r_cS (Z := mX1_times) dX1_meets_131 rfl (by decide +kernel) ⟨by decide, by decide⟩ q1849 q555 q117 q556 (XS.out (noH _)) <|
  r_aload_n (k := 0) dX1_meets_134 rfl <|
  r_getR (ci := 1) (q := (RX1, TX1, 13)) (k := 8) dX1_meets_135 (by decide) rfl in_X1 (by decide) (Or.inl q476) rfl <|
  r_iconst (v := 1) dX1_meets_138 rfl <|
  r_iald dX1_meets_139 <|
  r_cS (Z := mX1_times) dX1_meets_140 rfl (by decide +kernel) ⟨by decide, by decide⟩ q1849 q555 q117 q556 (XS.out (noH _)) <|
  r_mmax dX1_meets_143 q560 q561 q134 q562 <|
  r_iadd dX1_meets_146 <|
  r_putI (ci := 2) (q := (RX2, TX2, 31)) (k := 9) tyX2 tyX2_ok nmX2 dX1_meets_147 (by decide) rfl in_X2 (by decide) (Or.inl ⟨rfl, (Or.inr (Or.inl ⟨_, q200⟩))⟩) rfl rfl <|
  r_aload_n (k := 1) dX1_meets_150 rfl <|
  r_dup dX1_meets_151 <|
  r_getI (ci := 2) (q := (RX2, TX2, 31)) (k := 6) dX1_meets_152 (by decide) rfl in_X2 (by decide) (Or.inr (Or.inl ⟨_, q194⟩)) rfl <|
  r_iconst (v := 1) dX1_meets_155 rfl <|
  r_iadd dX1_meets_156 <|
  r_putI (ci := 2) (q := (RX2, TX2, 31)) (k := 6) tyX2 tyX2_ok nmX2 dX1_meets_157 (by decide) rfl in_X2 (by decide) (Or.inl ⟨rfl, (Or.inr (Or.inl ⟨_, q194⟩))⟩) rfl rfl <|
  r_aload_n (k := 1) dX1_meets_160 rfl <|
  r_dup dX1_meets_161 <|
  r_getI (ci := 2) (q := (RX2, TX2, 31)) (k := 7) dX1_meets_162 (by decide) rfl in_X2 (by decide) (Or.inr (Or.inl ⟨_, q196⟩)) rfl <|
  r_iload dX1_meets_165 <|
  r_iadd dX1_meets_167 <|
  r_putI (ci := 2) (q := (RX2, TX2, 31)) (k := 7) tyX2 tyX2_ok nmX2 dX1_meets_168 (by decide) rfl in_X2 (by decide) (Or.inl ⟨rfl, (Or.inr (Or.inl ⟨_, q196⟩))⟩) rfl rfl <|
  r_aload_n (k := 1) dX1_meets_171 rfl <|
  r_iload_n (k := 2) dX1_meets_172 rfl <|
  r_iload_n (k := 3) dX1_meets_173 rfl <|
  r_aload_n (k := 0) dX1_meets_174 rfl <|
  r_getR (ci := 1) (q := (RX1, TX1, 13)) (k := 7) dX1_meets_175 (by decide) rfl in_X1 (by decide) (Or.inl q475) rfl <|
  r_aload_n (k := 0) dX1_meets_178 rfl <|
  r_getR (ci := 1) (q := (RX1, TX1, 13)) (k := 8) dX1_meets_179 (by decide) rfl in_X1 (by decide) (Or.inl q476) rfl <|
  r_iload dX1_meets_182 <|
  r_cV (Z := mX2_tells) (ci := 2) (q := (RX2, TX2, 31)) dX1_meets_184 rfl (by decide +kernel) ⟨by decide, by decide⟩ (by decide) rfl rfl q1850 q1851 q1852 q118 q1853 (XS.out (noH _)) <|
  r_iload dX1_meets_187 <|
  r_ret rfl (Or.inl ⟨dX1_meets_189, Or.inl rfl⟩)
-- CheekTown.someoneYields(LCheekTown$World;II)Z cuts [0, 20]
def tX1_someoneYields_0 (d : Nat) (Q : Outcome → MH → Prop) (J : Nat → KT) : KT :=
  i_aload 1 <|
  i_getR 2 20 <|
  i_iload 3 <|
  i_iald <|
  i_aload 1 <|
  i_getR 2 20 <|
  i_iload 2 <|
  i_iald <|
  i_icmp_ge
  (i_const 0 <|
  (J 20))
  (i_const 1 <|
  (J 20))
theorem kX1_someoneYields_0 {d : Nat} {Q : Outcome → MH → Prop} : ∀ ls st h, tX1_someoneYields_0 d Q (fun pc ls st h => WPb mX1_someoneYields d pc ls st h Q) ls st h → WPb mX1_someoneYields d 0 ls st h Q :=
  r_aload_n (k := 1) dX1_someoneYields_0 rfl <|
  r_getR (ci := 2) (q := (RX2, TX2, 31)) (k := 20) dX1_someoneYields_1 (by decide) rfl in_X2 (by decide) (Or.inr (Or.inl ⟨_, q224⟩)) rfl <|
  r_iload_n (k := 3) dX1_someoneYields_4 rfl <|
  r_iald dX1_someoneYields_5 <|
  r_aload_n (k := 1) dX1_someoneYields_6 rfl <|
  r_getR (ci := 2) (q := (RX2, TX2, 31)) (k := 20) dX1_someoneYields_7 (by decide) rfl in_X2 (by decide) (Or.inr (Or.inl ⟨_, q224⟩)) rfl <|
  r_iload_n (k := 2) dX1_someoneYields_10 rfl <|
  r_iald dX1_someoneYields_11 <|
  r_icmp_ge (pt := 19) dX1_someoneYields_12 (by decide)
  (r_iconst (v := 0) dX1_someoneYields_19 rfl <|
  (fun _ _ _ H => H))
  (r_iconst (v := 1) dX1_someoneYields_15 rfl <|
  r_goto (pt := 20) dX1_someoneYields_16 (by decide) <|
  (fun _ _ _ H => H))
def tX1_someoneYields_20 (d : Nat) (Q : Outcome → MH → Prop) (J : Nat → KT) : KT :=
  i_istore 4 <|
  i_iload 4 <|
  i_if_eq
  (i_aload 0 <|
  i_aload 1 <|
  i_iload 2 <|
  i_const 0 <|
  i_call mX1_yields d 4 (pV 1) (xOut Q) <|
  i_if_ne
  (i_const 1 <|
  i_ret Q (some .boolean))
  (i_aload 0 <|
  i_aload 1 <|
  i_iload 3 <|
  i_const 1 <|
  i_call mX1_yields d 4 (pV 1) (xOut Q) <|
  i_if_eq
  (i_const 0 <|
  i_ret Q (some .boolean))
  (i_const 1 <|
  i_ret Q (some .boolean))))
  (i_aload 0 <|
  i_aload 1 <|
  i_iload 3 <|
  i_const 1 <|
  i_call mX1_yields d 4 (pV 1) (xOut Q) <|
  i_if_ne
  (i_const 1 <|
  i_ret Q (some .boolean))
  (i_aload 0 <|
  i_aload 1 <|
  i_iload 2 <|
  i_const 0 <|
  i_call mX1_yields d 4 (pV 1) (xOut Q) <|
  i_if_eq
  (i_const 0 <|
  i_ret Q (some .boolean))
  (i_const 1 <|
  i_ret Q (some .boolean))))
theorem kX1_someoneYields_20 {d : Nat} {Q : Outcome → MH → Prop} : ∀ ls st h, tX1_someoneYields_20 d Q (fun pc ls st h => WPb mX1_someoneYields d pc ls st h Q) ls st h → WPb mX1_someoneYields d 20 ls st h Q :=
  r_istore dX1_someoneYields_20 <|
  r_iload dX1_someoneYields_22 <|
  r_if_eq (pt := 53) dX1_someoneYields_24 (by decide)
  (r_aload_n (k := 0) dX1_someoneYields_53 rfl <|
  r_aload_n (k := 1) dX1_someoneYields_54 rfl <|
  r_iload_n (k := 2) dX1_someoneYields_55 rfl <|
  r_iconst (v := 0) dX1_someoneYields_56 rfl <|
  r_cV (Z := mX1_yields) (ci := 1) (q := (RX1, TX1, 13)) dX1_someoneYields_57 rfl (by decide +kernel) ⟨by decide, by decide⟩ (by decide) rfl rfl q1829 q1831 qs42 q117 q1832 (XS.out (noH _)) <|
  r_if_ne (pt := 73) dX1_someoneYields_60 (by decide)
  (r_iconst (v := 1) dX1_someoneYields_73 rfl <|
  r_goto (pt := 78) dX1_someoneYields_74 (by decide) <|
  r_ret rfl (Or.inl ⟨dX1_someoneYields_78, Or.inr (Or.inl rfl)⟩))
  (r_aload_n (k := 0) dX1_someoneYields_63 rfl <|
  r_aload_n (k := 1) dX1_someoneYields_64 rfl <|
  r_iload_n (k := 3) dX1_someoneYields_65 rfl <|
  r_iconst (v := 1) dX1_someoneYields_66 rfl <|
  r_cV (Z := mX1_yields) (ci := 1) (q := (RX1, TX1, 13)) dX1_someoneYields_67 rfl (by decide +kernel) ⟨by decide, by decide⟩ (by decide) rfl rfl q1829 q1831 qs42 q117 q1832 (XS.out (noH _)) <|
  r_if_eq (pt := 77) dX1_someoneYields_70 (by decide)
  (r_iconst (v := 0) dX1_someoneYields_77 rfl <|
  r_ret rfl (Or.inl ⟨dX1_someoneYields_78, Or.inr (Or.inl rfl)⟩))
  (r_iconst (v := 1) dX1_someoneYields_73 rfl <|
  r_goto (pt := 78) dX1_someoneYields_74 (by decide) <|
  r_ret rfl (Or.inl ⟨dX1_someoneYields_78, Or.inr (Or.inl rfl)⟩))))
  (r_aload_n (k := 0) dX1_someoneYields_27 rfl <|
  r_aload_n (k := 1) dX1_someoneYields_28 rfl <|
  r_iload_n (k := 3) dX1_someoneYields_29 rfl <|
  r_iconst (v := 1) dX1_someoneYields_30 rfl <|
  r_cV (Z := mX1_yields) (ci := 1) (q := (RX1, TX1, 13)) dX1_someoneYields_31 rfl (by decide +kernel) ⟨by decide, by decide⟩ (by decide) rfl rfl q1829 q1831 qs42 q117 q1832 (XS.out (noH _)) <|
  r_if_ne (pt := 47) dX1_someoneYields_34 (by decide)
  (r_iconst (v := 1) dX1_someoneYields_47 rfl <|
  r_goto (pt := 52) dX1_someoneYields_48 (by decide) <|
  r_ret rfl (Or.inl ⟨dX1_someoneYields_52, Or.inr (Or.inl rfl)⟩))
  (r_aload_n (k := 0) dX1_someoneYields_37 rfl <|
  r_aload_n (k := 1) dX1_someoneYields_38 rfl <|
  r_iload_n (k := 2) dX1_someoneYields_39 rfl <|
  r_iconst (v := 0) dX1_someoneYields_40 rfl <|
  r_cV (Z := mX1_yields) (ci := 1) (q := (RX1, TX1, 13)) dX1_someoneYields_41 rfl (by decide +kernel) ⟨by decide, by decide⟩ (by decide) rfl rfl q1829 q1831 qs42 q117 q1832 (XS.out (noH _)) <|
  r_if_eq (pt := 51) dX1_someoneYields_44 (by decide)
  (r_iconst (v := 0) dX1_someoneYields_51 rfl <|
  r_ret rfl (Or.inl ⟨dX1_someoneYields_52, Or.inr (Or.inl rfl)⟩))
  (r_iconst (v := 1) dX1_someoneYields_47 rfl <|
  r_goto (pt := 52) dX1_someoneYields_48 (by decide) <|
  r_ret rfl (Or.inl ⟨dX1_someoneYields_52, Or.inr (Or.inl rfl)⟩))))
-- CheekTown.yields(LCheekTown$World;II)Z cuts [0]
def tX1_yields_0 (d : Nat) (Q : Outcome → MH → Prop) (J : Nat → KT) : KT :=
  i_aload 1 <|
  i_const 100 <|
  i_call mX2_draw d 2 (pV 2) (xOut Q) <|
  i_aload 1 <|
  i_getR 2 21 <|
  i_iload 2 <|
  i_iald <|
  i_icmp_lt
  (i_aload 0 <|
  i_getR 1 8 <|
  i_iload 3 <|
  i_aload 0 <|
  i_getR 1 7 <|
  i_const 1 <|
  i_iload 3 <|
  i_isub <|
  i_iald <|
  i_iast <|
  i_aload 1 <|
  i_dup <|
  i_getI 2 8 <|
  i_const 1 <|
  i_iadd <|
  i_putI 2 8 .int <|
  i_const 1 <|
  i_ret Q (some .boolean))
  (i_const 0 <|
  i_ret Q (some .boolean))
theorem kX1_yields_0 {d : Nat} {Q : Outcome → MH → Prop} : ∀ ls st h, tX1_yields_0 d Q (fun pc ls st h => WPb mX1_yields d pc ls st h Q) ls st h → WPb mX1_yields d 0 ls st h Q :=
  r_aload_n (k := 1) dX1_yields_0 rfl <|
  r_bipush (v := 100) dX1_yields_1 rfl <|
  r_cV (Z := mX2_draw) (ci := 2) (q := (RX2, TX2, 31)) dX1_yields_3 rfl (by decide +kernel) ⟨by decide, by decide⟩ (by decide) rfl rfl q1833 q1834 q1835 q118 q1836 (XS.out (noH _)) <|
  r_aload_n (k := 1) dX1_yields_6 rfl <|
  r_getR (ci := 2) (q := (RX2, TX2, 31)) (k := 21) dX1_yields_7 (by decide) rfl in_X2 (by decide) (Or.inr (Or.inl ⟨_, q226⟩)) rfl <|
  r_iload_n (k := 2) dX1_yields_10 rfl <|
  r_iald dX1_yields_11 <|
  r_icmp_lt (pt := 17) dX1_yields_12 (by decide)
  (r_aload_n (k := 0) dX1_yields_17 rfl <|
  r_getR (ci := 1) (q := (RX1, TX1, 13)) (k := 8) dX1_yields_18 (by decide) rfl in_X1 (by decide) (Or.inl q476) rfl <|
  r_iload_n (k := 3) dX1_yields_21 rfl <|
  r_aload_n (k := 0) dX1_yields_22 rfl <|
  r_getR (ci := 1) (q := (RX1, TX1, 13)) (k := 7) dX1_yields_23 (by decide) rfl in_X1 (by decide) (Or.inl q475) rfl <|
  r_iconst (v := 1) dX1_yields_26 rfl <|
  r_iload_n (k := 3) dX1_yields_27 rfl <|
  r_isub dX1_yields_28 <|
  r_iald dX1_yields_29 <|
  r_iast dX1_yields_30 <|
  r_aload_n (k := 1) dX1_yields_31 rfl <|
  r_dup dX1_yields_32 <|
  r_getI (ci := 2) (q := (RX2, TX2, 31)) (k := 8) dX1_yields_33 (by decide) rfl in_X2 (by decide) (Or.inr (Or.inl ⟨_, q198⟩)) rfl <|
  r_iconst (v := 1) dX1_yields_36 rfl <|
  r_iadd dX1_yields_37 <|
  r_putI (ci := 2) (q := (RX2, TX2, 31)) (k := 8) tyX2 tyX2_ok nmX2 dX1_yields_38 (by decide) rfl in_X2 (by decide) (Or.inl ⟨rfl, (Or.inr (Or.inl ⟨_, q198⟩))⟩) rfl rfl <|
  r_iconst (v := 1) dX1_yields_41 rfl <|
  r_ret rfl (Or.inl ⟨dX1_yields_42, Or.inr (Or.inl rfl)⟩))
  (r_iconst (v := 0) dX1_yields_15 rfl <|
  r_ret rfl (Or.inl ⟨dX1_yields_16, Or.inr (Or.inl rfl)⟩))
-- CheekTown.catches(LCheekTown$World;II)V cuts [0, 35]
def tX1_catches_0 (d : Nat) (Q : Outcome → MH → Prop) (J : Nat → KT) : KT :=
  i_sref 2 <|
  i_aload 0 <|
  i_getR 1 8 <|
  i_const 0 <|
  i_iald <|
  i_call mX1_isOf d 2 pS (xOut Q) <|
  i_if_ne
  (i_const 0 <|
  (J 35))
  (i_sref 2 <|
  i_aload 0 <|
  i_getR 1 8 <|
  i_const 1 <|
  i_iald <|
  i_call mX1_isOf d 2 pS (xOut Q) <|
  i_if_ne
  (i_const 0 <|
  (J 35))
  (i_const 1 <|
  (J 35)))
theorem kX1_catches_0 {d : Nat} {Q : Outcome → MH → Prop} : ∀ ls st h, tX1_catches_0 d Q (fun pc ls st h => WPb mX1_catches d pc ls st h Q) ls st h → WPb mX1_catches d 0 ls st h Q :=
  r_getsR (a := 2) (T := ("CheekTown$Kind", "WAVE", "LCheekTown$Kind;")) (by decide +kernel) (by decide) q1846 dX1_catches_0 <|
  r_aload_n (k := 0) dX1_catches_3 rfl <|
  r_getR (ci := 1) (q := (RX1, TX1, 13)) (k := 8) dX1_catches_4 (by decide) rfl in_X1 (by decide) (Or.inl q476) rfl <|
  r_iconst (v := 0) dX1_catches_7 rfl <|
  r_iald dX1_catches_8 <|
  r_cS (Z := mX1_isOf) dX1_catches_9 rfl (by decide +kernel) ⟨by decide, by decide⟩ q1848 q543 q117 q544 (XS.out (noH _)) <|
  r_if_ne (pt := 34) dX1_catches_12 (by decide)
  (r_iconst (v := 0) dX1_catches_34 rfl <|
  (fun _ _ _ H => H))
  (r_getsR (a := 2) (T := ("CheekTown$Kind", "WAVE", "LCheekTown$Kind;")) (by decide +kernel) (by decide) q1846 dX1_catches_15 <|
  r_aload_n (k := 0) dX1_catches_18 rfl <|
  r_getR (ci := 1) (q := (RX1, TX1, 13)) (k := 8) dX1_catches_19 (by decide) rfl in_X1 (by decide) (Or.inl q476) rfl <|
  r_iconst (v := 1) dX1_catches_22 rfl <|
  r_iald dX1_catches_23 <|
  r_cS (Z := mX1_isOf) dX1_catches_24 rfl (by decide +kernel) ⟨by decide, by decide⟩ q1848 q543 q117 q544 (XS.out (noH _)) <|
  r_if_ne (pt := 34) dX1_catches_27 (by decide)
  (r_iconst (v := 0) dX1_catches_34 rfl <|
  (fun _ _ _ H => H))
  (r_iconst (v := 1) dX1_catches_30 rfl <|
  r_goto (pt := 35) dX1_catches_31 (by decide) <|
  (fun _ _ _ H => H)))
def tX1_catches_35 (d : Nat) (Q : Outcome → MH → Prop) (J : Nat → KT) : KT :=
  i_istore 4 <|
  i_iload 4 <|
  i_if_eq
  (i_vret Q)
  (i_aload 1 <|
  i_getR 2 22 <|
  i_iload 2 <|
  i_zald <|
  i_if_ne
  (i_aload 1 <|
  i_getR 2 22 <|
  i_iload 2 <|
  i_const 1 <|
  i_zast <|
  i_aload 1 <|
  i_getR 2 22 <|
  i_iload 3 <|
  i_const 1 <|
  i_zast <|
  i_vret Q)
  (i_aload 1 <|
  i_getR 2 22 <|
  i_iload 3 <|
  i_zald <|
  i_if_ne
  (i_aload 1 <|
  i_getR 2 22 <|
  i_iload 2 <|
  i_const 1 <|
  i_zast <|
  i_aload 1 <|
  i_getR 2 22 <|
  i_iload 3 <|
  i_const 1 <|
  i_zast <|
  i_vret Q)
  (i_vret Q)))
theorem kX1_catches_35 {d : Nat} {Q : Outcome → MH → Prop} : ∀ ls st h, tX1_catches_35 d Q (fun pc ls st h => WPb mX1_catches d pc ls st h Q) ls st h → WPb mX1_catches d 35 ls st h Q :=
  r_istore dX1_catches_35 <|
  r_iload dX1_catches_37 <|
  r_if_eq (pt := 60) dX1_catches_39 (by decide)
  (r_vret rfl dX1_catches_60)
  (r_aload_n (k := 1) dX1_catches_42 rfl <|
  r_getR (ci := 2) (q := (RX2, TX2, 31)) (k := 22) dX1_catches_43 (by decide) rfl in_X2 (by decide) (Or.inr (Or.inl ⟨_, q228⟩)) rfl <|
  r_iload_n (k := 2) dX1_catches_46 rfl <|
  r_zald dX1_catches_47 <|
  r_if_ne (pt := 61) dX1_catches_48 (by decide)
  (r_aload_n (k := 1) dX1_catches_61 rfl <|
  r_getR (ci := 2) (q := (RX2, TX2, 31)) (k := 22) dX1_catches_62 (by decide) rfl in_X2 (by decide) (Or.inr (Or.inl ⟨_, q228⟩)) rfl <|
  r_iload_n (k := 2) dX1_catches_65 rfl <|
  r_iconst (v := 1) dX1_catches_66 rfl <|
  r_zast dX1_catches_67 <|
  r_aload_n (k := 1) dX1_catches_68 rfl <|
  r_getR (ci := 2) (q := (RX2, TX2, 31)) (k := 22) dX1_catches_69 (by decide) rfl in_X2 (by decide) (Or.inr (Or.inl ⟨_, q228⟩)) rfl <|
  r_iload_n (k := 3) dX1_catches_72 rfl <|
  r_iconst (v := 1) dX1_catches_73 rfl <|
  r_zast dX1_catches_74 <|
  r_vret rfl dX1_catches_75)
  (r_aload_n (k := 1) dX1_catches_51 rfl <|
  r_getR (ci := 2) (q := (RX2, TX2, 31)) (k := 22) dX1_catches_52 (by decide) rfl in_X2 (by decide) (Or.inr (Or.inl ⟨_, q228⟩)) rfl <|
  r_iload_n (k := 3) dX1_catches_55 rfl <|
  r_zald dX1_catches_56 <|
  r_if_ne (pt := 61) dX1_catches_57 (by decide)
  (r_aload_n (k := 1) dX1_catches_61 rfl <|
  r_getR (ci := 2) (q := (RX2, TX2, 31)) (k := 22) dX1_catches_62 (by decide) rfl in_X2 (by decide) (Or.inr (Or.inl ⟨_, q228⟩)) rfl <|
  r_iload_n (k := 2) dX1_catches_65 rfl <|
  r_iconst (v := 1) dX1_catches_66 rfl <|
  r_zast dX1_catches_67 <|
  r_aload_n (k := 1) dX1_catches_68 rfl <|
  r_getR (ci := 2) (q := (RX2, TX2, 31)) (k := 22) dX1_catches_69 (by decide) rfl in_X2 (by decide) (Or.inr (Or.inl ⟨_, q228⟩)) rfl <|
  r_iload_n (k := 3) dX1_catches_72 rfl <|
  r_iconst (v := 1) dX1_catches_73 rfl <|
  r_zast dX1_catches_74 <|
  r_vret rfl dX1_catches_75)
  (r_vret rfl dX1_catches_60)))
-- CheekTown.rounds(I)I cuts [0, 18]
def tX1_rounds_0 (d : Nat) (Q : Outcome → MH → Prop) (J : Nat → KT) : KT :=
  i_iload 1 <|
  i_const 1 <|
  i_const 50 <|
  i_call mX1_in d 3 pS (xOut Q) <|
  i_call mX1_demand d 1 pS (xOut Q) <|
  i_aload 0 <|
  i_call mX1_remembers d 1 (pV 1) (xOut Q) <|
  i_const 0 <|
  i_istore 2 <|
  i_const 0 <|
  i_istore 3 <|
  (J 18)
theorem kX1_rounds_0 {d : Nat} {Q : Outcome → MH → Prop} : ∀ ls st h, tX1_rounds_0 d Q (fun pc ls st h => WPb mX1_rounds d pc ls st h Q) ls st h → WPb mX1_rounds d 0 ls st h Q :=
  r_iload_n (k := 1) dX1_rounds_0 rfl <|
  r_iconst (v := 1) dX1_rounds_1 rfl <|
  r_bipush (v := 50) dX1_rounds_2 rfl <|
  r_cS (Z := mX1_in) dX1_rounds_4 rfl (by decide +kernel) ⟨by decide, by decide⟩ q600 q601 q117 q602 (XS.out (noH _)) <|
  r_cS (Z := mX1_demand) dX1_rounds_7 rfl (by decide +kernel) ⟨by decide, by decide⟩ q1714 q1715 q117 q1716 (XS.out (noH _)) <|
  r_aload_n (k := 0) dX1_rounds_10 rfl <|
  r_cV (Z := mX1_remembers) (ci := 1) (q := (RX1, TX1, 13)) dX1_rounds_11 rfl (by decide +kernel) ⟨by decide, by decide⟩ (by decide) rfl rfl q1813 q1815 qs38 q117 q1816 (XS.out (noH _)) <|
  r_iconst (v := 0) dX1_rounds_14 rfl <|
  r_istore_n (k := 2) dX1_rounds_15 rfl <|
  r_iconst (v := 0) dX1_rounds_16 rfl <|
  r_istore_n (k := 3) dX1_rounds_17 rfl <|
  (fun _ _ _ H => H)
def tX1_rounds_18 (d : Nat) (Q : Outcome → MH → Prop) (J : Nat → KT) : KT :=
  i_iload 3 <|
  i_iload 1 <|
  i_icmp_ge
  (i_iload 2 <|
  i_ret Q (some .int))
  (i_iload 2 <|
  i_aload 0 <|
  i_aload 0 <|
  i_getR 1 0 <|
  i_call mX1_round d 2 (pV 1) (xOut Q) <|
  i_iadd <|
  i_istore 2 <|
  i_iinc 3 1 <|
  (J 18))
theorem kX1_rounds_18 {d : Nat} {Q : Outcome → MH → Prop} : ∀ ls st h, tX1_rounds_18 d Q (fun pc ls st h => WPb mX1_rounds d pc ls st h Q) ls st h → WPb mX1_rounds d 18 ls st h Q :=
  r_iload_n (k := 3) dX1_rounds_18 rfl <|
  r_iload_n (k := 1) dX1_rounds_19 rfl <|
  r_icmp_ge (pt := 40) dX1_rounds_20 (by decide)
  (r_iload_n (k := 2) dX1_rounds_40 rfl <|
  r_ret rfl (Or.inl ⟨dX1_rounds_41, Or.inl rfl⟩))
  (r_iload_n (k := 2) dX1_rounds_23 rfl <|
  r_aload_n (k := 0) dX1_rounds_24 rfl <|
  r_aload_n (k := 0) dX1_rounds_25 rfl <|
  r_getR (ci := 1) (q := (RX1, TX1, 13)) (k := 0) dX1_rounds_26 (by decide) rfl in_X1 (by decide) (Or.inl q465) rfl <|
  r_cV (Z := mX1_round) (ci := 1) (q := (RX1, TX1, 13)) dX1_rounds_29 rfl (by decide +kernel) ⟨by decide, by decide⟩ (by decide) rfl rfl q1862 q1864 qs44 q117 q1865 (XS.out (noH _)) <|
  r_iadd dX1_rounds_32 <|
  r_istore_n (k := 2) dX1_rounds_33 rfl <|
  r_iinc (v := 1) dX1_rounds_34 rfl <|
  r_goto (pt := 18) dX1_rounds_37 (by decide) <|
  (fun _ _ _ H => H))
-- CheekTown.round(LCheekTown$World;)I cuts [0, 4]
def tX1_round_0 (d : Nat) (Q : Outcome → MH → Prop) (J : Nat → KT) : KT :=
  i_const 0 <|
  i_istore 2 <|
  i_const 0 <|
  i_istore 3 <|
  (J 4)
theorem kX1_round_0 {d : Nat} {Q : Outcome → MH → Prop} : ∀ ls st h, tX1_round_0 d Q (fun pc ls st h => WPb mX1_round d pc ls st h Q) ls st h → WPb mX1_round d 0 ls st h Q :=
  r_iconst (v := 0) dX1_round_0 rfl <|
  r_istore_n (k := 2) dX1_round_1 rfl <|
  r_iconst (v := 0) dX1_round_2 rfl <|
  r_istore_n (k := 3) dX1_round_3 rfl <|
  (fun _ _ _ H => H)
def tX1_round_4 (d : Nat) (Q : Outcome → MH → Prop) (J : Nat → KT) : KT :=
  i_iload 3 <|
  i_aload 1 <|
  i_getI 2 4 <|
  i_icmp_ge
  (i_aload 1 <|
  i_dup <|
  i_getI 2 5 <|
  i_const 1 <|
  i_iadd <|
  i_putI 2 5 .int <|
  i_iload 2 <|
  i_ret Q (some .int))
  (i_iload 2 <|
  i_aload 0 <|
  i_aload 1 <|
  i_aload 1 <|
  i_getR 2 27 <|
  i_iload 3 <|
  i_iald <|
  i_aload 1 <|
  i_getR 2 28 <|
  i_iload 3 <|
  i_iald <|
  i_call mX1_meetsAny d 4 (pV 1) (xOut Q) <|
  i_iadd <|
  i_istore 2 <|
  i_iinc 3 1 <|
  (J 4))
theorem kX1_round_4 {d : Nat} {Q : Outcome → MH → Prop} : ∀ ls st h, tX1_round_4 d Q (fun pc ls st h => WPb mX1_round d pc ls st h Q) ls st h → WPb mX1_round d 4 ls st h Q :=
  r_iload_n (k := 3) dX1_round_4 rfl <|
  r_aload_n (k := 1) dX1_round_5 rfl <|
  r_getI (ci := 2) (q := (RX2, TX2, 31)) (k := 4) dX1_round_6 (by decide) rfl in_X2 (by decide) (Or.inr (Or.inl ⟨_, q190⟩)) rfl <|
  r_icmp_ge (pt := 38) dX1_round_9 (by decide)
  (r_aload_n (k := 1) dX1_round_38 rfl <|
  r_dup dX1_round_39 <|
  r_getI (ci := 2) (q := (RX2, TX2, 31)) (k := 5) dX1_round_40 (by decide) rfl in_X2 (by decide) (Or.inr (Or.inl ⟨_, q192⟩)) rfl <|
  r_iconst (v := 1) dX1_round_43 rfl <|
  r_iadd dX1_round_44 <|
  r_putI (ci := 2) (q := (RX2, TX2, 31)) (k := 5) tyX2 tyX2_ok nmX2 dX1_round_45 (by decide) rfl in_X2 (by decide) (Or.inl ⟨rfl, (Or.inr (Or.inl ⟨_, q192⟩))⟩) rfl rfl <|
  r_iload_n (k := 2) dX1_round_48 rfl <|
  r_ret rfl (Or.inl ⟨dX1_round_49, Or.inl rfl⟩))
  (r_iload_n (k := 2) dX1_round_12 rfl <|
  r_aload_n (k := 0) dX1_round_13 rfl <|
  r_aload_n (k := 1) dX1_round_14 rfl <|
  r_aload_n (k := 1) dX1_round_15 rfl <|
  r_getR (ci := 2) (q := (RX2, TX2, 31)) (k := 27) dX1_round_16 (by decide) rfl in_X2 (by decide) (Or.inr (Or.inl ⟨_, q239⟩)) rfl <|
  r_iload_n (k := 3) dX1_round_19 rfl <|
  r_iald dX1_round_20 <|
  r_aload_n (k := 1) dX1_round_21 rfl <|
  r_getR (ci := 2) (q := (RX2, TX2, 31)) (k := 28) dX1_round_22 (by decide) rfl in_X2 (by decide) (Or.inr (Or.inl ⟨_, q242⟩)) rfl <|
  r_iload_n (k := 3) dX1_round_25 rfl <|
  r_iald dX1_round_26 <|
  r_cV (Z := mX1_meetsAny) (ci := 1) (q := (RX1, TX1, 13)) dX1_round_27 rfl (by decide +kernel) ⟨by decide, by decide⟩ (by decide) rfl rfl q1817 q1819 qs39 q117 q1820 (XS.out (noH _)) <|
  r_iadd dX1_round_30 <|
  r_istore_n (k := 2) dX1_round_31 rfl <|
  r_iinc (v := 1) dX1_round_32 rfl <|
  r_goto (pt := 4) dX1_round_35 (by decide) <|
  (fun _ _ _ H => H))
-- CheekTown.own(II)I cuts [0]
def tX1_own_0 (d : Nat) (Q : Outcome → MH → Prop) (J : Nat → KT) : KT :=
  i_aload 0 <|
  i_iload 1 <|
  i_call mX1_personAt d 2 (pV 1) (xOut Q) <|
  i_iload 2 <|
  i_call mX1_greetingAt d 1 pS (xOut Q) <|
  i_aload 0 <|
  i_call mX1_remembers d 1 (pV 1) (xOut Q) <|
  i_aload 0 <|
  i_getR 1 0 <|
  i_getR 2 19 <|
  i_iload 1 <|
  i_iald <|
  i_istore 3 <|
  i_aload 0 <|
  i_getR 1 0 <|
  i_getR 2 19 <|
  i_iload 1 <|
  i_iload 2 <|
  i_iast <|
  i_iload 3 <|
  i_ret Q (some .int)
theorem kX1_own_0 {d : Nat} {Q : Outcome → MH → Prop} : ∀ ls st h, tX1_own_0 d Q (fun pc ls st h => WPb mX1_own d pc ls st h Q) ls st h → WPb mX1_own d 0 ls st h Q :=
  r_aload_n (k := 0) dX1_own_0 rfl <|
  r_iload_n (k := 1) dX1_own_1 rfl <|
  r_cV (Z := mX1_personAt) (ci := 1) (q := (RX1, TX1, 13)) dX1_own_2 rfl (by decide +kernel) ⟨by decide, by decide⟩ (by decide) rfl rfl q1676 q1678 qs34 q117 q1679 (XS.out (noH _)) <|
  r_iload_n (k := 2) dX1_own_5 rfl <|
  r_cS (Z := mX1_greetingAt) dX1_own_6 rfl (by decide +kernel) ⟨by decide, by decide⟩ q1632 q1633 q117 q1634 (XS.out (noH _)) <|
  r_aload_n (k := 0) dX1_own_9 rfl <|
  r_cV (Z := mX1_remembers) (ci := 1) (q := (RX1, TX1, 13)) dX1_own_10 rfl (by decide +kernel) ⟨by decide, by decide⟩ (by decide) rfl rfl q1813 q1815 qs38 q117 q1816 (XS.out (noH _)) <|
  r_aload_n (k := 0) dX1_own_13 rfl <|
  r_getR (ci := 1) (q := (RX1, TX1, 13)) (k := 0) dX1_own_14 (by decide) rfl in_X1 (by decide) (Or.inl q465) rfl <|
  r_getR (ci := 2) (q := (RX2, TX2, 31)) (k := 19) dX1_own_17 (by decide) rfl in_X2 (by decide) (Or.inr (Or.inl ⟨_, q222⟩)) rfl <|
  r_iload_n (k := 1) dX1_own_20 rfl <|
  r_iald dX1_own_21 <|
  r_istore_n (k := 3) dX1_own_22 rfl <|
  r_aload_n (k := 0) dX1_own_23 rfl <|
  r_getR (ci := 1) (q := (RX1, TX1, 13)) (k := 0) dX1_own_24 (by decide) rfl in_X1 (by decide) (Or.inl q465) rfl <|
  r_getR (ci := 2) (q := (RX2, TX2, 31)) (k := 19) dX1_own_27 (by decide) rfl in_X2 (by decide) (Or.inr (Or.inl ⟨_, q222⟩)) rfl <|
  r_iload_n (k := 1) dX1_own_30 rfl <|
  r_iload_n (k := 2) dX1_own_31 rfl <|
  r_iast dX1_own_32 <|
  r_iload_n (k := 3) dX1_own_33 rfl <|
  r_ret rfl (Or.inl ⟨dX1_own_34, Or.inl rfl⟩)
-- CheekTown.cold(IZ)Z cuts [0]
def tX1_cold_0 (d : Nat) (Q : Outcome → MH → Prop) (J : Nat → KT) : KT :=
  i_aload 0 <|
  i_iload 1 <|
  i_call mX1_personAt d 2 (pV 1) (xOut Q) <|
  i_aload 0 <|
  i_call mX1_remembers d 1 (pV 1) (xOut Q) <|
  i_aload 0 <|
  i_getR 1 0 <|
  i_getR 2 22 <|
  i_iload 1 <|
  i_zald <|
  i_istore 3 <|
  i_aload 0 <|
  i_getR 1 0 <|
  i_getR 2 22 <|
  i_iload 1 <|
  i_iload 2 <|
  i_zast <|
  i_iload 3 <|
  i_ret Q (some .boolean)
theorem kX1_cold_0 {d : Nat} {Q : Outcome → MH → Prop} : ∀ ls st h, tX1_cold_0 d Q (fun pc ls st h => WPb mX1_cold d pc ls st h Q) ls st h → WPb mX1_cold d 0 ls st h Q :=
  r_aload_n (k := 0) dX1_cold_0 rfl <|
  r_iload_n (k := 1) dX1_cold_1 rfl <|
  r_cV (Z := mX1_personAt) (ci := 1) (q := (RX1, TX1, 13)) dX1_cold_2 rfl (by decide +kernel) ⟨by decide, by decide⟩ (by decide) rfl rfl q1676 q1678 qs34 q117 q1679 (XS.out (noH _)) <|
  r_aload_n (k := 0) dX1_cold_5 rfl <|
  r_cV (Z := mX1_remembers) (ci := 1) (q := (RX1, TX1, 13)) dX1_cold_6 rfl (by decide +kernel) ⟨by decide, by decide⟩ (by decide) rfl rfl q1813 q1815 qs38 q117 q1816 (XS.out (noH _)) <|
  r_aload_n (k := 0) dX1_cold_9 rfl <|
  r_getR (ci := 1) (q := (RX1, TX1, 13)) (k := 0) dX1_cold_10 (by decide) rfl in_X1 (by decide) (Or.inl q465) rfl <|
  r_getR (ci := 2) (q := (RX2, TX2, 31)) (k := 22) dX1_cold_13 (by decide) rfl in_X2 (by decide) (Or.inr (Or.inl ⟨_, q228⟩)) rfl <|
  r_iload_n (k := 1) dX1_cold_16 rfl <|
  r_zald dX1_cold_17 <|
  r_istore_n (k := 3) dX1_cold_18 rfl <|
  r_aload_n (k := 0) dX1_cold_19 rfl <|
  r_getR (ci := 1) (q := (RX1, TX1, 13)) (k := 0) dX1_cold_20 (by decide) rfl in_X1 (by decide) (Or.inl q465) rfl <|
  r_getR (ci := 2) (q := (RX2, TX2, 31)) (k := 22) dX1_cold_23 (by decide) rfl in_X2 (by decide) (Or.inr (Or.inl ⟨_, q228⟩)) rfl <|
  r_iload_n (k := 1) dX1_cold_26 rfl <|
  r_iload_n (k := 2) dX1_cold_27 rfl <|
  r_zast dX1_cold_28 <|
  r_iload_n (k := 3) dX1_cold_29 rfl <|
  r_ret rfl (Or.inl ⟨dX1_cold_30, Or.inr (Or.inl rfl)⟩)
-- CheekTown.ties(II)I cuts [0]
def tX1_ties_0 (d : Nat) (Q : Outcome → MH → Prop) (J : Nat → KT) : KT :=
  i_aload 0 <|
  i_iload 1 <|
  i_iload 2 <|
  i_call mX1_twoAt d 3 (pV 1) (xOut Q) <|
  i_aload 0 <|
  i_getR 1 0 <|
  i_iload 1 <|
  i_iload 2 <|
  i_call mX2_tieOf d 3 (pV 2) (xOut Q) <|
  i_const (-1) <|
  i_icmp_eq
  (i_aload 0 <|
  i_getR 1 0 <|
  i_getI 2 4 <|
  i_const 24 <|
  i_icmp_ne
  (i_aload 0 <|
  i_call mX1_remembers d 1 (pV 1) (xOut Q) <|
  i_aload 0 <|
  i_getR 1 0 <|
  i_iload 1 <|
  i_iload 2 <|
  i_call mX2_ties d 3 (pV 2) (xOut Q) <|
  i_aload 0 <|
  i_getR 1 0 <|
  i_getI 2 4 <|
  i_const 1 <|
  i_isub <|
  i_ret Q (some .int))
  (i_exc d 29 <|
  i_thr Q))
  (i_exc d 28 <|
  i_thr Q)
theorem kX1_ties_0 {d : Nat} {Q : Outcome → MH → Prop} : ∀ ls st h, tX1_ties_0 d Q (fun pc ls st h => WPb mX1_ties d pc ls st h Q) ls st h → WPb mX1_ties d 0 ls st h Q :=
  r_aload_n (k := 0) dX1_ties_0 rfl <|
  r_iload_n (k := 1) dX1_ties_1 rfl <|
  r_iload_n (k := 2) dX1_ties_2 rfl <|
  r_cV (Z := mX1_twoAt) (ci := 1) (q := (RX1, TX1, 13)) dX1_ties_3 rfl (by decide +kernel) ⟨by decide, by decide⟩ (by decide) rfl rfl q1710 q1712 qs35 q117 q1713 (XS.out (noH _)) <|
  r_aload_n (k := 0) dX1_ties_6 rfl <|
  r_getR (ci := 1) (q := (RX1, TX1, 13)) (k := 0) dX1_ties_7 (by decide) rfl in_X1 (by decide) (Or.inl q465) rfl <|
  r_iload_n (k := 1) dX1_ties_10 rfl <|
  r_iload_n (k := 2) dX1_ties_11 rfl <|
  r_cV (Z := mX2_tieOf) (ci := 2) (q := (RX2, TX2, 31)) dX1_ties_12 rfl (by decide +kernel) ⟨by decide, by decide⟩ (by decide) rfl rfl q1340 q1023 q1024 q118 q1025 (XS.out (noH _)) <|
  r_iconst (v := (-1)) dX1_ties_15 rfl <|
  r_icmp_eq (pt := 27) dX1_ties_16 (by decide)
  (r_aload_n (k := 0) dX1_ties_27 rfl <|
  r_getR (ci := 1) (q := (RX1, TX1, 13)) (k := 0) dX1_ties_28 (by decide) rfl in_X1 (by decide) (Or.inl q465) rfl <|
  r_getI (ci := 2) (q := (RX2, TX2, 31)) (k := 4) dX1_ties_31 (by decide) rfl in_X2 (by decide) (Or.inr (Or.inl ⟨_, q190⟩)) rfl <|
  r_bipush (v := 24) dX1_ties_34 rfl <|
  r_icmp_ne (pt := 47) dX1_ties_36 (by decide)
  (r_aload_n (k := 0) dX1_ties_47 rfl <|
  r_cV (Z := mX1_remembers) (ci := 1) (q := (RX1, TX1, 13)) dX1_ties_48 rfl (by decide +kernel) ⟨by decide, by decide⟩ (by decide) rfl rfl q1813 q1815 qs38 q117 q1816 (XS.out (noH _)) <|
  r_aload_n (k := 0) dX1_ties_51 rfl <|
  r_getR (ci := 1) (q := (RX1, TX1, 13)) (k := 0) dX1_ties_52 (by decide) rfl in_X1 (by decide) (Or.inl q465) rfl <|
  r_iload_n (k := 1) dX1_ties_55 rfl <|
  r_iload_n (k := 2) dX1_ties_56 rfl <|
  r_cV (Z := mX2_ties) (ci := 2) (q := (RX2, TX2, 31)) dX1_ties_57 rfl (by decide +kernel) ⟨by decide, by decide⟩ (by decide) rfl rfl q1341 q1342 q1343 q118 q1344 (XS.out (noH _)) <|
  r_aload_n (k := 0) dX1_ties_60 rfl <|
  r_getR (ci := 1) (q := (RX1, TX1, 13)) (k := 0) dX1_ties_61 (by decide) rfl in_X1 (by decide) (Or.inl q465) rfl <|
  r_getI (ci := 2) (q := (RX2, TX2, 31)) (k := 4) dX1_ties_64 (by decide) rfl in_X2 (by decide) (Or.inr (Or.inl ⟨_, q190⟩)) rfl <|
  r_iconst (v := 1) dX1_ties_67 rfl <|
  r_isub dX1_ties_68 <|
  r_ret rfl (Or.inl ⟨dX1_ties_69, Or.inl rfl⟩))
  (r_exc29 rfl dX1_ties_39 dX1_ties_42 dX1_ties_43 q1368 <|
  r_thr dX1_ties_46 (noH _)))
  (r_exc28 rfl dX1_ties_19 dX1_ties_22 dX1_ties_23 q1888 <|
  r_thr dX1_ties_26 (noH _))
-- CheekTown.cut(I)I cuts [0]
def tX1_cut_0 (d : Nat) (Q : Outcome → MH → Prop) (J : Nat → KT) : KT :=
  i_iload 1 <|
  i_aload 0 <|
  i_getR 1 0 <|
  i_getI 2 4 <|
  i_call mX1_there d 2 pS (xOut Q) <|
  i_aload 0 <|
  i_call mX1_remembers d 1 (pV 1) (xOut Q) <|
  i_aload 0 <|
  i_getR 1 0 <|
  i_iload 1 <|
  i_call mX2_cuts d 2 (pV 2) (xOut Q) <|
  i_aload 0 <|
  i_getR 1 0 <|
  i_getI 2 4 <|
  i_ret Q (some .int)
theorem kX1_cut_0 {d : Nat} {Q : Outcome → MH → Prop} : ∀ ls st h, tX1_cut_0 d Q (fun pc ls st h => WPb mX1_cut d pc ls st h Q) ls st h → WPb mX1_cut d 0 ls st h Q :=
  r_iload_n (k := 1) dX1_cut_0 rfl <|
  r_aload_n (k := 0) dX1_cut_1 rfl <|
  r_getR (ci := 1) (q := (RX1, TX1, 13)) (k := 0) dX1_cut_2 (by decide) rfl in_X1 (by decide) (Or.inl q465) rfl <|
  r_getI (ci := 2) (q := (RX2, TX2, 31)) (k := 4) dX1_cut_5 (by decide) rfl in_X2 (by decide) (Or.inr (Or.inl ⟨_, q190⟩)) rfl <|
  r_cS (Z := mX1_there) dX1_cut_8 rfl (by decide +kernel) ⟨by decide, by decide⟩ q1635 q1636 q117 q1637 (XS.out (noH _)) <|
  r_aload_n (k := 0) dX1_cut_11 rfl <|
  r_cV (Z := mX1_remembers) (ci := 1) (q := (RX1, TX1, 13)) dX1_cut_12 rfl (by decide +kernel) ⟨by decide, by decide⟩ (by decide) rfl rfl q1813 q1815 qs38 q117 q1816 (XS.out (noH _)) <|
  r_aload_n (k := 0) dX1_cut_15 rfl <|
  r_getR (ci := 1) (q := (RX1, TX1, 13)) (k := 0) dX1_cut_16 (by decide) rfl in_X1 (by decide) (Or.inl q465) rfl <|
  r_iload_n (k := 1) dX1_cut_19 rfl <|
  r_cV (Z := mX2_cuts) (ci := 2) (q := (RX2, TX2, 31)) dX1_cut_20 rfl (by decide +kernel) ⟨by decide, by decide⟩ (by decide) rfl rfl q1910 q1911 q1912 q118 q1913 (XS.out (noH _)) <|
  r_aload_n (k := 0) dX1_cut_23 rfl <|
  r_getR (ci := 1) (q := (RX1, TX1, 13)) (k := 0) dX1_cut_24 (by decide) rfl in_X1 (by decide) (Or.inl q465) rfl <|
  r_getI (ci := 2) (q := (RX2, TX2, 31)) (k := 4) dX1_cut_27 (by decide) rfl in_X2 (by decide) (Or.inr (Or.inl ⟨_, q190⟩)) rfl <|
  r_ret rfl (Or.inl ⟨dX1_cut_30, Or.inl rfl⟩)
-- CheekTown.feast(II)I cuts [0, 20]
def tX1_feast_0 (d : Nat) (Q : Outcome → MH → Prop) (J : Nat → KT) : KT :=
  i_iload 2 <|
  i_call mX1_greetingAt d 1 pS (xOut Q) <|
  i_aload 0 <|
  i_call mX1_remembers d 1 (pV 1) (xOut Q) <|
  i_aload 0 <|
  i_iload 1 <|
  i_call mX1_allOf d 2 (pV 1) (xOut Q) <|
  i_istore 3 <|
  i_const 0 <|
  i_istore 4 <|
  i_const 0 <|
  i_istore 5 <|
  (J 20)
theorem kX1_feast_0 {d : Nat} {Q : Outcome → MH → Prop} : ∀ ls st h, tX1_feast_0 d Q (fun pc ls st h => WPb mX1_feast d pc ls st h Q) ls st h → WPb mX1_feast d 0 ls st h Q :=
  r_iload_n (k := 2) dX1_feast_0 rfl <|
  r_cS (Z := mX1_greetingAt) dX1_feast_1 rfl (by decide +kernel) ⟨by decide, by decide⟩ q1632 q1633 q117 q1634 (XS.out (noH _)) <|
  r_aload_n (k := 0) dX1_feast_4 rfl <|
  r_cV (Z := mX1_remembers) (ci := 1) (q := (RX1, TX1, 13)) dX1_feast_5 rfl (by decide +kernel) ⟨by decide, by decide⟩ (by decide) rfl rfl q1813 q1815 qs38 q117 q1816 (XS.out (noH _)) <|
  r_aload_n (k := 0) dX1_feast_8 rfl <|
  r_iload_n (k := 1) dX1_feast_9 rfl <|
  r_cV (Z := mX1_allOf) (ci := 1) (q := (RX1, TX1, 13)) dX1_feast_10 rfl (by decide +kernel) ⟨by decide, by decide⟩ (by decide) rfl rfl q590 q592 qs5 q117 q593 (XS.out (noH _)) <|
  r_istore_n (k := 3) dX1_feast_13 rfl <|
  r_iconst (v := 0) dX1_feast_14 rfl <|
  r_istore dX1_feast_15 <|
  r_iconst (v := 0) dX1_feast_17 rfl <|
  r_istore dX1_feast_18 <|
  (fun _ _ _ H => H)
def tX1_feast_20 (d : Nat) (Q : Outcome → MH → Prop) (J : Nat → KT) : KT :=
  i_iload 5 <|
  i_aload 0 <|
  i_getR 1 0 <|
  i_getI 2 3 <|
  i_icmp_ge
  (i_iload 4 <|
  i_ret Q (some .int))
  (i_iload 3 <|
  i_iload 5 <|
  i_call mX1_has d 2 pS (xOut Q) <|
  i_if_ne
  (i_iload 4 <|
  i_aload 0 <|
  i_getR 1 0 <|
  i_getR 2 19 <|
  i_iload 5 <|
  i_iald <|
  i_iload 2 <|
  i_icmp_eq
  (i_const 0 <|
  i_ior <|
  i_istore 4 <|
  i_aload 0 <|
  i_getR 1 0 <|
  i_getR 2 19 <|
  i_iload 5 <|
  i_iload 2 <|
  i_iast <|
  i_iinc 5 1 <|
  (J 20))
  (i_const 1 <|
  i_iload 5 <|
  i_ishl <|
  i_ior <|
  i_istore 4 <|
  i_aload 0 <|
  i_getR 1 0 <|
  i_getR 2 19 <|
  i_iload 5 <|
  i_iload 2 <|
  i_iast <|
  i_iinc 5 1 <|
  (J 20)))
  (i_iinc 5 1 <|
  (J 20)))
theorem kX1_feast_20 {d : Nat} {Q : Outcome → MH → Prop} : ∀ ls st h, tX1_feast_20 d Q (fun pc ls st h => WPb mX1_feast d pc ls st h Q) ls st h → WPb mX1_feast d 20 ls st h Q :=
  r_iload dX1_feast_20 <|
  r_aload_n (k := 0) dX1_feast_22 rfl <|
  r_getR (ci := 1) (q := (RX1, TX1, 13)) (k := 0) dX1_feast_23 (by decide) rfl in_X1 (by decide) (Or.inl q465) rfl <|
  r_getI (ci := 2) (q := (RX2, TX2, 31)) (k := 3) dX1_feast_26 (by decide) rfl in_X2 (by decide) (Or.inr (Or.inl ⟨_, q187⟩)) rfl <|
  r_icmp_ge (pt := 88) dX1_feast_29 (by decide)
  (r_iload dX1_feast_88 <|
  r_ret rfl (Or.inl ⟨dX1_feast_90, Or.inl rfl⟩))
  (r_iload_n (k := 3) dX1_feast_32 rfl <|
  r_iload dX1_feast_33 <|
  r_cS (Z := mX1_has) dX1_feast_35 rfl (by decide +kernel) ⟨by decide, by decide⟩ q1921 q608 q117 q609 (XS.out (noH _)) <|
  r_if_ne (pt := 44) dX1_feast_38 (by decide)
  (r_iload dX1_feast_44 <|
  r_aload_n (k := 0) dX1_feast_46 rfl <|
  r_getR (ci := 1) (q := (RX1, TX1, 13)) (k := 0) dX1_feast_47 (by decide) rfl in_X1 (by decide) (Or.inl q465) rfl <|
  r_getR (ci := 2) (q := (RX2, TX2, 31)) (k := 19) dX1_feast_50 (by decide) rfl in_X2 (by decide) (Or.inr (Or.inl ⟨_, q222⟩)) rfl <|
  r_iload dX1_feast_53 <|
  r_iald dX1_feast_55 <|
  r_iload_n (k := 2) dX1_feast_56 rfl <|
  r_icmp_eq (pt := 67) dX1_feast_57 (by decide)
  (r_iconst (v := 0) dX1_feast_67 rfl <|
  r_ior dX1_feast_68 <|
  r_istore dX1_feast_69 <|
  r_aload_n (k := 0) dX1_feast_71 rfl <|
  r_getR (ci := 1) (q := (RX1, TX1, 13)) (k := 0) dX1_feast_72 (by decide) rfl in_X1 (by decide) (Or.inl q465) rfl <|
  r_getR (ci := 2) (q := (RX2, TX2, 31)) (k := 19) dX1_feast_75 (by decide) rfl in_X2 (by decide) (Or.inr (Or.inl ⟨_, q222⟩)) rfl <|
  r_iload dX1_feast_78 <|
  r_iload_n (k := 2) dX1_feast_80 rfl <|
  r_iast dX1_feast_81 <|
  r_iinc (v := 1) dX1_feast_82 rfl <|
  r_goto (pt := 20) dX1_feast_85 (by decide) <|
  (fun _ _ _ H => H))
  (r_iconst (v := 1) dX1_feast_60 rfl <|
  r_iload dX1_feast_61 <|
  r_ishl dX1_feast_63 <|
  r_goto (pt := 68) dX1_feast_64 (by decide) <|
  r_ior dX1_feast_68 <|
  r_istore dX1_feast_69 <|
  r_aload_n (k := 0) dX1_feast_71 rfl <|
  r_getR (ci := 1) (q := (RX1, TX1, 13)) (k := 0) dX1_feast_72 (by decide) rfl in_X1 (by decide) (Or.inl q465) rfl <|
  r_getR (ci := 2) (q := (RX2, TX2, 31)) (k := 19) dX1_feast_75 (by decide) rfl in_X2 (by decide) (Or.inr (Or.inl ⟨_, q222⟩)) rfl <|
  r_iload dX1_feast_78 <|
  r_iload_n (k := 2) dX1_feast_80 rfl <|
  r_iast dX1_feast_81 <|
  r_iinc (v := 1) dX1_feast_82 rfl <|
  r_goto (pt := 20) dX1_feast_85 (by decide) <|
  (fun _ _ _ H => H)))
  (r_goto (pt := 82) dX1_feast_41 (by decide) <|
  r_iinc (v := 1) dX1_feast_82 rfl <|
  r_goto (pt := 20) dX1_feast_85 (by decide) <|
  (fun _ _ _ H => H)))
-- CheekTown.expected(II)I cuts [0]
def tX1_expected_0 (d : Nat) (Q : Outcome → MH → Prop) (J : Nat → KT) : KT :=
  i_aload 0 <|
  i_iload 1 <|
  i_call mX1_landAt d 2 (pV 1) (xOut Q) <|
  i_iload 2 <|
  i_call mX1_greetingAt d 1 pS (xOut Q) <|
  i_aload 0 <|
  i_iload 1 <|
  i_iload 2 <|
  i_call mX1_expects d 3 (pV 1) (xOut Q) <|
  i_ret Q (some .int)
theorem kX1_expected_0 {d : Nat} {Q : Outcome → MH → Prop} : ∀ ls st h, tX1_expected_0 d Q (fun pc ls st h => WPb mX1_expected d pc ls st h Q) ls st h → WPb mX1_expected d 0 ls st h Q :=
  r_aload_n (k := 0) dX1_expected_0 rfl <|
  r_iload_n (k := 1) dX1_expected_1 rfl <|
  r_cV (Z := mX1_landAt) (ci := 1) (q := (RX1, TX1, 13)) dX1_expected_2 rfl (by decide +kernel) ⟨by decide, by decide⟩ (by decide) rfl rfl q1660 q1662 qs33 q117 q1663 (XS.out (noH _)) <|
  r_iload_n (k := 2) dX1_expected_5 rfl <|
  r_cS (Z := mX1_greetingAt) dX1_expected_6 rfl (by decide +kernel) ⟨by decide, by decide⟩ q1632 q1633 q117 q1634 (XS.out (noH _)) <|
  r_aload_n (k := 0) dX1_expected_9 rfl <|
  r_iload_n (k := 1) dX1_expected_10 rfl <|
  r_iload_n (k := 2) dX1_expected_11 rfl <|
  r_cV (Z := mX1_expects) (ci := 1) (q := (RX1, TX1, 13)) dX1_expected_12 rfl (by decide +kernel) ⟨by decide, by decide⟩ (by decide) rfl rfl q575 q577 qs3 q117 q578 (XS.out (noH _)) <|
  r_ret rfl (Or.inl ⟨dX1_expected_15, Or.inl rfl⟩)
-- CheekTown.best(I)I cuts [0]
def tX1_best_0 (d : Nat) (Q : Outcome → MH → Prop) (J : Nat → KT) : KT :=
  i_aload 0 <|
  i_iload 1 <|
  i_call mX1_landAt d 2 (pV 1) (xOut Q) <|
  i_aload 0 <|
  i_iload 1 <|
  i_call mX1_bestIn d 2 (pV 1) (xOut Q) <|
  i_ret Q (some .int)
theorem kX1_best_0 {d : Nat} {Q : Outcome → MH → Prop} : ∀ ls st h, tX1_best_0 d Q (fun pc ls st h => WPb mX1_best d pc ls st h Q) ls st h → WPb mX1_best d 0 ls st h Q :=
  r_aload_n (k := 0) dX1_best_0 rfl <|
  r_iload_n (k := 1) dX1_best_1 rfl <|
  r_cV (Z := mX1_landAt) (ci := 1) (q := (RX1, TX1, 13)) dX1_best_2 rfl (by decide +kernel) ⟨by decide, by decide⟩ (by decide) rfl rfl q1660 q1662 qs33 q117 q1663 (XS.out (noH _)) <|
  r_aload_n (k := 0) dX1_best_5 rfl <|
  r_iload_n (k := 1) dX1_best_6 rfl <|
  r_cV (Z := mX1_bestIn) (ci := 1) (q := (RX1, TX1, 13)) dX1_best_7 rfl (by decide +kernel) ⟨by decide, by decide⟩ (by decide) rfl rfl q582 q584 qs4 q117 q585 (XS.out (noH _)) <|
  r_ret rfl (Or.inl ⟨dX1_best_10, Or.inl rfl⟩)
-- CheekTown.odds(II)I cuts [0]
def tX1_odds_0 (d : Nat) (Q : Outcome → MH → Prop) (J : Nat → KT) : KT :=
  i_aload 0 <|
  i_iload 1 <|
  i_call mX1_landAt d 2 (pV 1) (xOut Q) <|
  i_iload 2 <|
  i_call mX1_greetingAt d 1 pS (xOut Q) <|
  i_aload 0 <|
  i_getR 1 0 <|
  i_iload 1 <|
  i_call mX2_weightAll d 2 (pV 2) (xOut Q) <|
  i_istore 3 <|
  i_iload 3 <|
  i_if_ne
  (i_const 10000 <|
  i_aload 0 <|
  i_getR 1 0 <|
  i_iload 1 <|
  i_iload 2 <|
  i_call mX2_weightOf d 3 (pV 2) (xOut Q) <|
  i_imul <|
  i_iload 3 <|
  i_idiv <|
  i_ret Q (some .int))
  (i_const 0 <|
  i_ret Q (some .int))
theorem kX1_odds_0 {d : Nat} {Q : Outcome → MH → Prop} : ∀ ls st h, tX1_odds_0 d Q (fun pc ls st h => WPb mX1_odds d pc ls st h Q) ls st h → WPb mX1_odds d 0 ls st h Q :=
  r_aload_n (k := 0) dX1_odds_0 rfl <|
  r_iload_n (k := 1) dX1_odds_1 rfl <|
  r_cV (Z := mX1_landAt) (ci := 1) (q := (RX1, TX1, 13)) dX1_odds_2 rfl (by decide +kernel) ⟨by decide, by decide⟩ (by decide) rfl rfl q1660 q1662 qs33 q117 q1663 (XS.out (noH _)) <|
  r_iload_n (k := 2) dX1_odds_5 rfl <|
  r_cS (Z := mX1_greetingAt) dX1_odds_6 rfl (by decide +kernel) ⟨by decide, by decide⟩ q1632 q1633 q117 q1634 (XS.out (noH _)) <|
  r_aload_n (k := 0) dX1_odds_9 rfl <|
  r_getR (ci := 1) (q := (RX1, TX1, 13)) (k := 0) dX1_odds_10 (by decide) rfl in_X1 (by decide) (Or.inl q465) rfl <|
  r_iload_n (k := 1) dX1_odds_13 rfl <|
  r_cV (Z := mX2_weightAll) (ci := 2) (q := (RX2, TX2, 31)) dX1_odds_14 rfl (by decide +kernel) ⟨by decide, by decide⟩ (by decide) rfl rfl q1943 q1944 q1945 q118 q1946 (XS.out (noH _)) <|
  r_istore_n (k := 3) dX1_odds_17 rfl <|
  r_iload_n (k := 3) dX1_odds_18 rfl <|
  r_if_ne (pt := 26) dX1_odds_19 (by decide)
  (r_sipush (v := 10000) dX1_odds_26 rfl <|
  r_aload_n (k := 0) dX1_odds_29 rfl <|
  r_getR (ci := 1) (q := (RX1, TX1, 13)) (k := 0) dX1_odds_30 (by decide) rfl in_X1 (by decide) (Or.inl q465) rfl <|
  r_iload_n (k := 1) dX1_odds_33 rfl <|
  r_iload_n (k := 2) dX1_odds_34 rfl <|
  r_cV (Z := mX2_weightOf) (ci := 2) (q := (RX2, TX2, 31)) dX1_odds_35 rfl (by decide +kernel) ⟨by decide, by decide⟩ (by decide) rfl rfl q1664 q1665 q1666 q118 q1667 (XS.out (noH _)) <|
  r_imul dX1_odds_38 <|
  r_iload_n (k := 3) dX1_odds_39 rfl <|
  r_idiv dX1_odds_40 <|
  r_ret rfl (Or.inl ⟨dX1_odds_41, Or.inl rfl⟩))
  (r_iconst (v := 0) dX1_odds_22 rfl <|
  r_goto (pt := 41) dX1_odds_23 (by decide) <|
  r_ret rfl (Or.inl ⟨dX1_odds_41, Or.inl rfl⟩))
-- CheekTown.from(Z)I cuts [0, 27, 79, 116]
def tX1_from_0 (d : Nat) (Q : Outcome → MH → Prop) (J : Nat → KT) : KT :=
  i_aload 0 <|
  i_getR 1 4 <|
  i_astore 2 <|
  i_aload 2 <|
  i_call mX3_begins d 1 (pV 3) (xOut Q) <|
  i_aload 2 <|
  i_getI 3 2 <|
  i_const 4 <|
  i_icmp_gt
  (i_const 0 <|
  i_call mX1_demand d 1 pS (xOut Q) <|
  i_const 0 <|
  i_istore 3 <|
  (J 27))
  (i_const 1 <|
  i_call mX1_demand d 1 pS (xOut Q) <|
  i_const 0 <|
  i_istore 3 <|
  (J 27))
theorem kX1_from_0 {d : Nat} {Q : Outcome → MH → Prop} : ∀ ls st h, tX1_from_0 d Q (fun pc ls st h => WPb mX1_from d pc ls st h Q) ls st h → WPb mX1_from d 0 ls st h Q :=
  r_aload_n (k := 0) dX1_from_0 rfl <|
  r_getR (ci := 1) (q := (RX1, TX1, 13)) (k := 4) dX1_from_1 (by decide) rfl in_X1 (by decide) (Or.inl q472) rfl <|
  r_astore_n (k := 2) dX1_from_4 rfl <|
  r_aload_n (k := 2) dX1_from_5 rfl <|
  r_cV (Z := mX3_begins) (ci := 3) (q := (RX3, TX3, 7)) dX1_from_6 rfl (by decide +kernel) ⟨by decide, by decide⟩ (by decide) rfl rfl q1120 q1121 q1122 q119 q1123 (XS.out (noH _)) <|
  r_aload_n (k := 2) dX1_from_9 rfl <|
  r_getI (ci := 3) (q := (RX3, TX3, 7)) (k := 2) dX1_from_10 (by decide) rfl in_X3 (by decide) (Or.inr (Or.inl ⟨_, q322⟩)) rfl <|
  r_iconst (v := 4) dX1_from_13 rfl <|
  r_icmp_gt (pt := 21) dX1_from_14 (by decide)
  (r_iconst (v := 0) dX1_from_21 rfl <|
  r_cS (Z := mX1_demand) dX1_from_22 rfl (by decide +kernel) ⟨by decide, by decide⟩ q1714 q1715 q117 q1716 (XS.out (noH _)) <|
  r_iconst (v := 0) dX1_from_25 rfl <|
  r_istore_n (k := 3) dX1_from_26 rfl <|
  (fun _ _ _ H => H))
  (r_iconst (v := 1) dX1_from_17 rfl <|
  r_goto (pt := 22) dX1_from_18 (by decide) <|
  r_cS (Z := mX1_demand) dX1_from_22 rfl (by decide +kernel) ⟨by decide, by decide⟩ q1714 q1715 q117 q1716 (XS.out (noH _)) <|
  r_iconst (v := 0) dX1_from_25 rfl <|
  r_istore_n (k := 3) dX1_from_26 rfl <|
  (fun _ _ _ H => H))
def tX1_from_27 (d : Nat) (Q : Outcome → MH → Prop) (J : Nat → KT) : KT :=
  i_iload 3 <|
  i_aload 2 <|
  i_getI 3 2 <|
  i_icmp_ge
  (i_const 0 <|
  i_istore 3 <|
  i_const (-1) <|
  i_istore 4 <|
  i_new 20 2 <|
  i_dup <|
  i_call mX20_init d 1 pI (xOut Q) <|
  i_astore 5 <|
  i_aload 5 <|
  i_lconst 0 <|
  i_putJ 20 0 <|
  i_const 0 <|
  i_istore 6 <|
  (J 79))
  (i_aload 2 <|
  i_getR 3 0 <|
  i_iload 3 <|
  i_bald <|
  i_const 0 <|
  i_const 31 <|
  i_call mX1_in d 3 pS (xOut Q) <|
  i_call mX1_demand d 1 pS (xOut Q) <|
  i_iinc 3 1 <|
  (J 27))
theorem kX1_from_27 {d : Nat} {Q : Outcome → MH → Prop} : ∀ ls st h, tX1_from_27 d Q (fun pc ls st h => WPb mX1_from d pc ls st h Q) ls st h → WPb mX1_from d 27 ls st h Q :=
  r_iload_n (k := 3) dX1_from_27 rfl <|
  r_aload_n (k := 2) dX1_from_28 rfl <|
  r_getI (ci := 3) (q := (RX3, TX3, 7)) (k := 2) dX1_from_29 (by decide) rfl in_X3 (by decide) (Or.inr (Or.inl ⟨_, q322⟩)) rfl <|
  r_icmp_ge (pt := 56) dX1_from_32 (by decide)
  (r_iconst (v := 0) dX1_from_56 rfl <|
  r_istore_n (k := 3) dX1_from_57 rfl <|
  r_iconst (v := (-1)) dX1_from_58 rfl <|
  r_istore dX1_from_59 <|
  r_new (ci := 20) (q := (RX20, TX20, 2)) tyX20 tyX20_ok (by decide) (by decide) (by decide) rfl rfl in_X20 q1954 q1955 q162 dX1_from_61 <|
  r_dup dX1_from_64 <|
  r_cIN (Z := mX20_init) dX1_from_65 rfl rfl rfl (by decide +kernel) ⟨by decide, by decide⟩ q1956 q1957 q162 q1958 (XS.out (noH _)) <|
  r_astore dX1_from_68 <|
  r_aload dX1_from_70 <|
  r_lconst (v := 0) dX1_from_72 rfl <|
  r_putJ (ci := 20) (q := (RX20, TX20, 2)) (k := 0) tyX20 tyX20_ok nmX20 dX1_from_73 (by decide) rfl in_X20 (by decide) (Or.inl ⟨rfl, (Or.inr (Or.inl ⟨_, q1961⟩))⟩) rfl rfl <|
  r_iconst (v := 0) dX1_from_76 rfl <|
  r_istore dX1_from_77 <|
  (fun _ _ _ H => H))
  (r_aload_n (k := 2) dX1_from_35 rfl <|
  r_getR (ci := 3) (q := (RX3, TX3, 7)) (k := 0) dX1_from_36 (by decide) rfl in_X3 (by decide) (Or.inr (Or.inl ⟨_, q319⟩)) rfl <|
  r_iload_n (k := 3) dX1_from_39 rfl <|
  r_bald dX1_from_40 <|
  r_iconst (v := 0) dX1_from_41 rfl <|
  r_bipush (v := 31) dX1_from_42 rfl <|
  r_cS (Z := mX1_in) dX1_from_44 rfl (by decide +kernel) ⟨by decide, by decide⟩ q600 q601 q117 q602 (XS.out (noH _)) <|
  r_cS (Z := mX1_demand) dX1_from_47 rfl (by decide +kernel) ⟨by decide, by decide⟩ q1714 q1715 q117 q1716 (XS.out (noH _)) <|
  r_iinc (v := 1) dX1_from_50 rfl <|
  r_goto (pt := 27) dX1_from_53 (by decide) <|
  (fun _ _ _ H => H))
def tX1_from_79 (d : Nat) (Q : Outcome → MH → Prop) (J : Nat → KT) : KT :=
  i_iload 6 <|
  i_aload 0 <|
  i_getR 1 0 <|
  i_getI 2 1 <|
  i_icmp_ge
  (i_iload 1 <|
  i_if_eq
  (i_iload 3 <|
  i_ret Q (some .int))
  (i_iload 4 <|
  i_ret Q (some .int)))
  (i_aload 0 <|
  i_iload 6 <|
  i_call mX1_likely d 2 (pV 1) (xOut Q) <|
  i_astore 7 <|
  i_aload 7 <|
  i_getJ 20 0 <|
  i_lconst 0 <|
  i_lcmp <|
  i_if_le
  ((J 116))
  (i_iload 3 <|
  i_const 1 <|
  i_iload 6 <|
  i_ishl <|
  i_ior <|
  i_istore 3 <|
  (J 116)))
theorem kX1_from_79 {d : Nat} {Q : Outcome → MH → Prop} : ∀ ls st h, tX1_from_79 d Q (fun pc ls st h => WPb mX1_from d pc ls st h Q) ls st h → WPb mX1_from d 79 ls st h Q :=
  r_iload dX1_from_79 <|
  r_aload_n (k := 0) dX1_from_81 rfl <|
  r_getR (ci := 1) (q := (RX1, TX1, 13)) (k := 0) dX1_from_82 (by decide) rfl in_X1 (by decide) (Or.inl q465) rfl <|
  r_getI (ci := 2) (q := (RX2, TX2, 31)) (k := 1) dX1_from_85 (by decide) rfl in_X2 (by decide) (Or.inr (Or.inl ⟨_, q181⟩)) rfl <|
  r_icmp_ge (pt := 143) dX1_from_88 (by decide)
  (r_iload_n (k := 1) dX1_from_143 rfl <|
  r_if_eq (pt := 152) dX1_from_144 (by decide)
  (r_iload_n (k := 3) dX1_from_152 rfl <|
  r_ret rfl (Or.inl ⟨dX1_from_153, Or.inl rfl⟩))
  (r_iload dX1_from_147 <|
  r_goto (pt := 153) dX1_from_149 (by decide) <|
  r_ret rfl (Or.inl ⟨dX1_from_153, Or.inl rfl⟩)))
  (r_aload_n (k := 0) dX1_from_91 rfl <|
  r_iload dX1_from_92 <|
  r_cV (Z := mX1_likely) (ci := 1) (q := (RX1, TX1, 13)) dX1_from_94 rfl (by decide +kernel) ⟨by decide, by decide⟩ (by decide) rfl rfl q1968 q1970 qs45 q117 q1971 (XS.out (noH _)) <|
  r_astore dX1_from_97 <|
  r_aload dX1_from_99 <|
  r_getJ (ci := 20) (q := (RX20, TX20, 2)) (k := 0) dX1_from_101 (by decide) rfl in_X20 (by decide) (Or.inr (Or.inl ⟨_, q1961⟩)) rfl <|
  r_lconst (v := 0) dX1_from_104 rfl <|
  r_lcmp dX1_from_105 <|
  r_if_le (pt := 116) dX1_from_106 (by decide)
  ((fun _ _ _ H => H))
  (r_iload_n (k := 3) dX1_from_109 rfl <|
  r_iconst (v := 1) dX1_from_110 rfl <|
  r_iload dX1_from_111 <|
  r_ishl dX1_from_113 <|
  r_ior dX1_from_114 <|
  r_istore_n (k := 3) dX1_from_115 rfl <|
  (fun _ _ _ H => H)))
def tX1_from_116 (d : Nat) (Q : Outcome → MH → Prop) (J : Nat → KT) : KT :=
  i_aload 7 <|
  i_aload 5 <|
  i_call mX20_isMore d 2 (pV 20) (xOut Q) <|
  i_if_ne
  (i_iload 6 <|
  i_istore 4 <|
  i_aload 7 <|
  i_astore 5 <|
  i_iinc 6 1 <|
  (J 79))
  (i_iinc 6 1 <|
  (J 79))
theorem kX1_from_116 {d : Nat} {Q : Outcome → MH → Prop} : ∀ ls st h, tX1_from_116 d Q (fun pc ls st h => WPb mX1_from d pc ls st h Q) ls st h → WPb mX1_from d 116 ls st h Q :=
  r_aload dX1_from_116 <|
  r_aload dX1_from_118 <|
  r_cV (Z := mX20_isMore) (ci := 20) (q := (RX20, TX20, 2)) dX1_from_120 rfl (by decide +kernel) ⟨by decide, by decide⟩ (by decide) rfl rfl q1976 q1977 q1978 q162 q1979 (XS.out (noH _)) <|
  r_if_ne (pt := 129) dX1_from_123 (by decide)
  (r_iload dX1_from_129 <|
  r_istore dX1_from_131 <|
  r_aload dX1_from_133 <|
  r_astore dX1_from_135 <|
  r_iinc (v := 1) dX1_from_137 rfl <|
  r_goto (pt := 79) dX1_from_140 (by decide) <|
  (fun _ _ _ H => H))
  (r_goto (pt := 137) dX1_from_126 (by decide) <|
  r_iinc (v := 1) dX1_from_137 rfl <|
  r_goto (pt := 79) dX1_from_140 (by decide) <|
  (fun _ _ _ H => H))
-- CheekTown.likely(I)LCheekTown$Share; cuts [0, 29]
def tX1_likely_0 (d : Nat) (Q : Outcome → MH → Prop) (J : Nat → KT) : KT :=
  i_new 20 2 <|
  i_dup <|
  i_call mX20_init d 1 pI (xOut Q) <|
  i_astore 2 <|
  i_aload 0 <|
  i_getR 1 0 <|
  i_iload 1 <|
  i_call mX2_weightAll d 2 (pV 2) (xOut Q) <|
  i_istore 3 <|
  i_iload 3 <|
  i_if_ne
  (i_const 0 <|
  i_istore 4 <|
  (J 29))
  (i_aload 2 <|
  i_lconst 0 <|
  i_putJ 20 0 <|
  i_const 0 <|
  i_istore 4 <|
  (J 29))
theorem kX1_likely_0 {d : Nat} {Q : Outcome → MH → Prop} : ∀ ls st h, tX1_likely_0 d Q (fun pc ls st h => WPb mX1_likely d pc ls st h Q) ls st h → WPb mX1_likely d 0 ls st h Q :=
  r_new (ci := 20) (q := (RX20, TX20, 2)) tyX20 tyX20_ok (by decide) (by decide) (by decide) rfl rfl in_X20 q1954 q1955 q162 dX1_likely_0 <|
  r_dup dX1_likely_3 <|
  r_cIN (Z := mX20_init) dX1_likely_4 rfl rfl rfl (by decide +kernel) ⟨by decide, by decide⟩ q1956 q1957 q162 q1958 (XS.out (noH _)) <|
  r_astore_n (k := 2) dX1_likely_7 rfl <|
  r_aload_n (k := 0) dX1_likely_8 rfl <|
  r_getR (ci := 1) (q := (RX1, TX1, 13)) (k := 0) dX1_likely_9 (by decide) rfl in_X1 (by decide) (Or.inl q465) rfl <|
  r_iload_n (k := 1) dX1_likely_12 rfl <|
  r_cV (Z := mX2_weightAll) (ci := 2) (q := (RX2, TX2, 31)) dX1_likely_13 rfl (by decide +kernel) ⟨by decide, by decide⟩ (by decide) rfl rfl q1943 q1944 q1945 q118 q1946 (XS.out (noH _)) <|
  r_istore_n (k := 3) dX1_likely_16 rfl <|
  r_iload_n (k := 3) dX1_likely_17 rfl <|
  r_if_ne (pt := 26) dX1_likely_18 (by decide)
  (r_iconst (v := 0) dX1_likely_26 rfl <|
  r_istore dX1_likely_27 <|
  (fun _ _ _ H => H))
  (r_aload_n (k := 2) dX1_likely_21 rfl <|
  r_lconst (v := 0) dX1_likely_22 rfl <|
  r_putJ (ci := 20) (q := (RX20, TX20, 2)) (k := 0) tyX20 tyX20_ok nmX20 dX1_likely_23 (by decide) rfl in_X20 (by decide) (Or.inl ⟨rfl, (Or.inr (Or.inl ⟨_, q1961⟩))⟩) rfl rfl <|
  r_iconst (v := 0) dX1_likely_26 rfl <|
  r_istore dX1_likely_27 <|
  (fun _ _ _ H => H))
def tX1_likely_29 (d : Nat) (Q : Outcome → MH → Prop) (J : Nat → KT) : KT :=
  i_iload 4 <|
  i_aload 0 <|
  i_getR 1 4 <|
  i_getI 3 2 <|
  i_icmp_ge
  (i_aload 2 <|
  i_ret Q (some (.object "CheekTown$Share")))
  (i_iload 3 <|
  i_if_le
  (i_aload 2 <|
  i_ret Q (some (.object "CheekTown$Share")))
  (i_aload 2 <|
  i_aload 0 <|
  i_getR 1 0 <|
  i_iload 1 <|
  i_aload 0 <|
  i_getR 1 4 <|
  i_getR 3 0 <|
  i_iload 4 <|
  i_bald <|
  i_call mX2_weightOf d 3 (pV 2) (xOut Q) <|
  i_iload 3 <|
  i_call mX20_times d 3 (pV 20) (xOut Q) <|
  i_iinc 4 1 <|
  (J 29)))
theorem kX1_likely_29 {d : Nat} {Q : Outcome → MH → Prop} : ∀ ls st h, tX1_likely_29 d Q (fun pc ls st h => WPb mX1_likely d pc ls st h Q) ls st h → WPb mX1_likely d 29 ls st h Q :=
  r_iload dX1_likely_29 <|
  r_aload_n (k := 0) dX1_likely_31 rfl <|
  r_getR (ci := 1) (q := (RX1, TX1, 13)) (k := 4) dX1_likely_32 (by decide) rfl in_X1 (by decide) (Or.inl q472) rfl <|
  r_getI (ci := 3) (q := (RX3, TX3, 7)) (k := 2) dX1_likely_35 (by decide) rfl in_X3 (by decide) (Or.inr (Or.inl ⟨_, q322⟩)) rfl <|
  r_icmp_ge (pt := 74) dX1_likely_38 (by decide)
  (r_aload_n (k := 2) dX1_likely_74 rfl <|
  r_ret rfl (Or.inr (Or.inr ⟨dX1_likely_75, Or.inl ⟨_, rfl⟩⟩)))
  (r_iload_n (k := 3) dX1_likely_41 rfl <|
  r_if_le (pt := 74) dX1_likely_42 (by decide)
  (r_aload_n (k := 2) dX1_likely_74 rfl <|
  r_ret rfl (Or.inr (Or.inr ⟨dX1_likely_75, Or.inl ⟨_, rfl⟩⟩)))
  (r_aload_n (k := 2) dX1_likely_45 rfl <|
  r_aload_n (k := 0) dX1_likely_46 rfl <|
  r_getR (ci := 1) (q := (RX1, TX1, 13)) (k := 0) dX1_likely_47 (by decide) rfl in_X1 (by decide) (Or.inl q465) rfl <|
  r_iload_n (k := 1) dX1_likely_50 rfl <|
  r_aload_n (k := 0) dX1_likely_51 rfl <|
  r_getR (ci := 1) (q := (RX1, TX1, 13)) (k := 4) dX1_likely_52 (by decide) rfl in_X1 (by decide) (Or.inl q472) rfl <|
  r_getR (ci := 3) (q := (RX3, TX3, 7)) (k := 0) dX1_likely_55 (by decide) rfl in_X3 (by decide) (Or.inr (Or.inl ⟨_, q319⟩)) rfl <|
  r_iload dX1_likely_58 <|
  r_bald dX1_likely_60 <|
  r_cV (Z := mX2_weightOf) (ci := 2) (q := (RX2, TX2, 31)) dX1_likely_61 rfl (by decide +kernel) ⟨by decide, by decide⟩ (by decide) rfl rfl q1664 q1665 q1666 q118 q1667 (XS.out (noH _)) <|
  r_iload_n (k := 3) dX1_likely_64 rfl <|
  r_cV (Z := mX20_times) (ci := 20) (q := (RX20, TX20, 2)) dX1_likely_65 rfl (by decide +kernel) ⟨by decide, by decide⟩ (by decide) rfl rfl q1972 q1973 q1974 q162 q1975 (XS.out (noH _)) <|
  r_iinc (v := 1) dX1_likely_68 rfl <|
  r_goto (pt := 29) dX1_likely_71 (by decide) <|
  (fun _ _ _ H => H)))
-- CheekTown.rests(II)I cuts [0, 11, 49]
def tX1_rests_0 (d : Nat) (Q : Outcome → MH → Prop) (J : Nat → KT) : KT :=
  i_aload 0 <|
  i_iload 1 <|
  i_iload 2 <|
  i_call mX1_twoAt d 3 (pV 1) (xOut Q) <|
  i_const 0 <|
  i_istore 3 <|
  i_const 0 <|
  i_istore 4 <|
  (J 11)
theorem kX1_rests_0 {d : Nat} {Q : Outcome → MH → Prop} : ∀ ls st h, tX1_rests_0 d Q (fun pc ls st h => WPb mX1_rests d pc ls st h Q) ls st h → WPb mX1_rests d 0 ls st h Q :=
  r_aload_n (k := 0) dX1_rests_0 rfl <|
  r_iload_n (k := 1) dX1_rests_1 rfl <|
  r_iload_n (k := 2) dX1_rests_2 rfl <|
  r_cV (Z := mX1_twoAt) (ci := 1) (q := (RX1, TX1, 13)) dX1_rests_3 rfl (by decide +kernel) ⟨by decide, by decide⟩ (by decide) rfl rfl q1710 q1712 qs35 q117 q1713 (XS.out (noH _)) <|
  r_iconst (v := 0) dX1_rests_6 rfl <|
  r_istore_n (k := 3) dX1_rests_7 rfl <|
  r_iconst (v := 0) dX1_rests_8 rfl <|
  r_istore dX1_rests_9 <|
  (fun _ _ _ H => H)
def tX1_rests_11 (d : Nat) (Q : Outcome → MH → Prop) (J : Nat → KT) : KT :=
  i_iload 4 <|
  i_const 4 <|
  i_icmp_ge
  (i_iload 3 <|
  i_ret Q (some .int))
  (i_aload 0 <|
  i_aload 0 <|
  i_getR 1 0 <|
  i_getR 2 19 <|
  i_iload 1 <|
  i_iald <|
  i_aload 0 <|
  i_getR 1 0 <|
  i_getR 2 19 <|
  i_iload 2 <|
  i_iald <|
  i_iload 4 <|
  i_const 2 <|
  i_irem <|
  i_const 1 <|
  i_icmp_ne
  (i_const 0 <|
  (J 49))
  (i_const 1 <|
  (J 49)))
theorem kX1_rests_11 {d : Nat} {Q : Outcome → MH → Prop} : ∀ ls st h, tX1_rests_11 d Q (fun pc ls st h => WPb mX1_rests d pc ls st h Q) ls st h → WPb mX1_rests d 11 ls st h Q :=
  r_iload dX1_rests_11 <|
  r_iconst (v := 4) dX1_rests_13 rfl <|
  r_icmp_ge (pt := 79) dX1_rests_14 (by decide)
  (r_iload_n (k := 3) dX1_rests_79 rfl <|
  r_ret rfl (Or.inl ⟨dX1_rests_80, Or.inl rfl⟩))
  (r_aload_n (k := 0) dX1_rests_17 rfl <|
  r_aload_n (k := 0) dX1_rests_18 rfl <|
  r_getR (ci := 1) (q := (RX1, TX1, 13)) (k := 0) dX1_rests_19 (by decide) rfl in_X1 (by decide) (Or.inl q465) rfl <|
  r_getR (ci := 2) (q := (RX2, TX2, 31)) (k := 19) dX1_rests_22 (by decide) rfl in_X2 (by decide) (Or.inr (Or.inl ⟨_, q222⟩)) rfl <|
  r_iload_n (k := 1) dX1_rests_25 rfl <|
  r_iald dX1_rests_26 <|
  r_aload_n (k := 0) dX1_rests_27 rfl <|
  r_getR (ci := 1) (q := (RX1, TX1, 13)) (k := 0) dX1_rests_28 (by decide) rfl in_X1 (by decide) (Or.inl q465) rfl <|
  r_getR (ci := 2) (q := (RX2, TX2, 31)) (k := 19) dX1_rests_31 (by decide) rfl in_X2 (by decide) (Or.inr (Or.inl ⟨_, q222⟩)) rfl <|
  r_iload_n (k := 2) dX1_rests_34 rfl <|
  r_iald dX1_rests_35 <|
  r_iload dX1_rests_36 <|
  r_iconst (v := 2) dX1_rests_38 rfl <|
  r_irem dX1_rests_39 <|
  r_iconst (v := 1) dX1_rests_40 rfl <|
  r_icmp_ne (pt := 48) dX1_rests_41 (by decide)
  (r_iconst (v := 0) dX1_rests_48 rfl <|
  (fun _ _ _ H => H))
  (r_iconst (v := 1) dX1_rests_44 rfl <|
  r_goto (pt := 49) dX1_rests_45 (by decide) <|
  (fun _ _ _ H => H)))
def tX1_rests_49 (d : Nat) (Q : Outcome → MH → Prop) (J : Nat → KT) : KT :=
  i_iload 4 <|
  i_const 1 <|
  i_icmp_le
  (i_const 0 <|
  i_call mX1_isRest d 5 (pV 1) (xOut Q) <|
  i_if_eq
  (i_iinc 4 1 <|
  (J 11))
  (i_iload 3 <|
  i_const 1 <|
  i_iload 4 <|
  i_ishl <|
  i_ior <|
  i_istore 3 <|
  i_iinc 4 1 <|
  (J 11)))
  (i_const 1 <|
  i_call mX1_isRest d 5 (pV 1) (xOut Q) <|
  i_if_eq
  (i_iinc 4 1 <|
  (J 11))
  (i_iload 3 <|
  i_const 1 <|
  i_iload 4 <|
  i_ishl <|
  i_ior <|
  i_istore 3 <|
  i_iinc 4 1 <|
  (J 11)))
theorem kX1_rests_49 {d : Nat} {Q : Outcome → MH → Prop} : ∀ ls st h, tX1_rests_49 d Q (fun pc ls st h => WPb mX1_rests d pc ls st h Q) ls st h → WPb mX1_rests d 49 ls st h Q :=
  r_iload dX1_rests_49 <|
  r_iconst (v := 1) dX1_rests_51 rfl <|
  r_icmp_le (pt := 59) dX1_rests_52 (by decide)
  (r_iconst (v := 0) dX1_rests_59 rfl <|
  r_cV (Z := mX1_isRest) (ci := 1) (q := (RX1, TX1, 13)) dX1_rests_60 rfl (by decide +kernel) ⟨by decide, by decide⟩ (by decide) rfl rfl q1987 q1989 qs46 q117 q1990 (XS.out (noH _)) <|
  r_if_eq (pt := 73) dX1_rests_63 (by decide)
  (r_iinc (v := 1) dX1_rests_73 rfl <|
  r_goto (pt := 11) dX1_rests_76 (by decide) <|
  (fun _ _ _ H => H))
  (r_iload_n (k := 3) dX1_rests_66 rfl <|
  r_iconst (v := 1) dX1_rests_67 rfl <|
  r_iload dX1_rests_68 <|
  r_ishl dX1_rests_70 <|
  r_ior dX1_rests_71 <|
  r_istore_n (k := 3) dX1_rests_72 rfl <|
  r_iinc (v := 1) dX1_rests_73 rfl <|
  r_goto (pt := 11) dX1_rests_76 (by decide) <|
  (fun _ _ _ H => H)))
  (r_iconst (v := 1) dX1_rests_55 rfl <|
  r_goto (pt := 60) dX1_rests_56 (by decide) <|
  r_cV (Z := mX1_isRest) (ci := 1) (q := (RX1, TX1, 13)) dX1_rests_60 rfl (by decide +kernel) ⟨by decide, by decide⟩ (by decide) rfl rfl q1987 q1989 qs46 q117 q1990 (XS.out (noH _)) <|
  r_if_eq (pt := 73) dX1_rests_63 (by decide)
  (r_iinc (v := 1) dX1_rests_73 rfl <|
  r_goto (pt := 11) dX1_rests_76 (by decide) <|
  (fun _ _ _ H => H))
  (r_iload_n (k := 3) dX1_rests_66 rfl <|
  r_iconst (v := 1) dX1_rests_67 rfl <|
  r_iload dX1_rests_68 <|
  r_ishl dX1_rests_70 <|
  r_ior dX1_rests_71 <|
  r_istore_n (k := 3) dX1_rests_72 rfl <|
  r_iinc (v := 1) dX1_rests_73 rfl <|
  r_goto (pt := 11) dX1_rests_76 (by decide) <|
  (fun _ _ _ H => H)))
-- CheekTown.isRest(IIZZ)Z cuts [0, 23, 56, 77]
def tX1_isRest_0 (d : Nat) (Q : Outcome → MH → Prop) (J : Nat → KT) : KT :=
  i_aload 0 <|
  i_iload 1 <|
  i_iload 2 <|
  i_iload 3 <|
  i_iload 4 <|
  i_call mX1_pairCost d 5 (pV 1) (xOut Q) <|
  i_istore 5 <|
  i_aload 0 <|
  i_iload 1 <|
  i_iload 2 <|
  i_iload 3 <|
  i_if_ne
  (i_const 0 <|
  (J 23))
  (i_const 1 <|
  (J 23))
theorem kX1_isRest_0 {d : Nat} {Q : Outcome → MH → Prop} : ∀ ls st h, tX1_isRest_0 d Q (fun pc ls st h => WPb mX1_isRest d pc ls st h Q) ls st h → WPb mX1_isRest d 0 ls st h Q :=
  r_aload_n (k := 0) dX1_isRest_0 rfl <|
  r_iload_n (k := 1) dX1_isRest_1 rfl <|
  r_iload_n (k := 2) dX1_isRest_2 rfl <|
  r_iload_n (k := 3) dX1_isRest_3 rfl <|
  r_iload dX1_isRest_4 <|
  r_cV (Z := mX1_pairCost) (ci := 1) (q := (RX1, TX1, 13)) dX1_isRest_6 rfl (by decide +kernel) ⟨by decide, by decide⟩ (by decide) rfl rfl q1991 q1993 qs47 q117 q1994 (XS.out (noH _)) <|
  r_istore dX1_isRest_9 <|
  r_aload_n (k := 0) dX1_isRest_11 rfl <|
  r_iload_n (k := 1) dX1_isRest_12 rfl <|
  r_iload_n (k := 2) dX1_isRest_13 rfl <|
  r_iload_n (k := 3) dX1_isRest_14 rfl <|
  r_if_ne (pt := 22) dX1_isRest_15 (by decide)
  (r_iconst (v := 0) dX1_isRest_22 rfl <|
  (fun _ _ _ H => H))
  (r_iconst (v := 1) dX1_isRest_18 rfl <|
  r_goto (pt := 23) dX1_isRest_19 (by decide) <|
  (fun _ _ _ H => H))
def tX1_isRest_23 (d : Nat) (Q : Outcome → MH → Prop) (J : Nat → KT) : KT :=
  i_iload 4 <|
  i_call mX1_pairCost d 5 (pV 1) (xOut Q) <|
  i_iload 3 <|
  i_if_ne
  (i_const 0 <|
  i_call mX1_one d 1 pS (xOut Q) <|
  i_iadd <|
  i_iload 5 <|
  i_iload 3 <|
  i_call mX1_one d 1 pS (xOut Q) <|
  i_iadd <|
  i_icmp_ge
  (i_const 0 <|
  (J 56))
  (i_const 1 <|
  (J 56)))
  (i_const 1 <|
  i_call mX1_one d 1 pS (xOut Q) <|
  i_iadd <|
  i_iload 5 <|
  i_iload 3 <|
  i_call mX1_one d 1 pS (xOut Q) <|
  i_iadd <|
  i_icmp_ge
  (i_const 0 <|
  (J 56))
  (i_const 1 <|
  (J 56)))
theorem kX1_isRest_23 {d : Nat} {Q : Outcome → MH → Prop} : ∀ ls st h, tX1_isRest_23 d Q (fun pc ls st h => WPb mX1_isRest d pc ls st h Q) ls st h → WPb mX1_isRest d 23 ls st h Q :=
  r_iload dX1_isRest_23 <|
  r_cV (Z := mX1_pairCost) (ci := 1) (q := (RX1, TX1, 13)) dX1_isRest_25 rfl (by decide +kernel) ⟨by decide, by decide⟩ (by decide) rfl rfl q1991 q1993 qs47 q117 q1994 (XS.out (noH _)) <|
  r_iload_n (k := 3) dX1_isRest_28 rfl <|
  r_if_ne (pt := 36) dX1_isRest_29 (by decide)
  (r_iconst (v := 0) dX1_isRest_36 rfl <|
  r_cS (Z := mX1_one) dX1_isRest_37 rfl (by decide +kernel) ⟨by decide, by decide⟩ q1995 q1996 q117 q1997 (XS.out (noH _)) <|
  r_iadd dX1_isRest_40 <|
  r_iload dX1_isRest_41 <|
  r_iload_n (k := 3) dX1_isRest_43 rfl <|
  r_cS (Z := mX1_one) dX1_isRest_44 rfl (by decide +kernel) ⟨by decide, by decide⟩ q1995 q1996 q117 q1997 (XS.out (noH _)) <|
  r_iadd dX1_isRest_47 <|
  r_icmp_ge (pt := 55) dX1_isRest_48 (by decide)
  (r_iconst (v := 0) dX1_isRest_55 rfl <|
  (fun _ _ _ H => H))
  (r_iconst (v := 1) dX1_isRest_51 rfl <|
  r_goto (pt := 56) dX1_isRest_52 (by decide) <|
  (fun _ _ _ H => H)))
  (r_iconst (v := 1) dX1_isRest_32 rfl <|
  r_goto (pt := 37) dX1_isRest_33 (by decide) <|
  r_cS (Z := mX1_one) dX1_isRest_37 rfl (by decide +kernel) ⟨by decide, by decide⟩ q1995 q1996 q117 q1997 (XS.out (noH _)) <|
  r_iadd dX1_isRest_40 <|
  r_iload dX1_isRest_41 <|
  r_iload_n (k := 3) dX1_isRest_43 rfl <|
  r_cS (Z := mX1_one) dX1_isRest_44 rfl (by decide +kernel) ⟨by decide, by decide⟩ q1995 q1996 q117 q1997 (XS.out (noH _)) <|
  r_iadd dX1_isRest_47 <|
  r_icmp_ge (pt := 55) dX1_isRest_48 (by decide)
  (r_iconst (v := 0) dX1_isRest_55 rfl <|
  (fun _ _ _ H => H))
  (r_iconst (v := 1) dX1_isRest_51 rfl <|
  r_goto (pt := 56) dX1_isRest_52 (by decide) <|
  (fun _ _ _ H => H)))
def tX1_isRest_56 (d : Nat) (Q : Outcome → MH → Prop) (J : Nat → KT) : KT :=
  i_istore 6 <|
  i_iload 6 <|
  i_if_ne
  (i_const 0 <|
  i_ret Q (some .boolean))
  (i_aload 0 <|
  i_iload 1 <|
  i_iload 2 <|
  i_iload 3 <|
  i_iload 4 <|
  i_if_ne
  (i_const 0 <|
  (J 77))
  (i_const 1 <|
  (J 77)))
theorem kX1_isRest_56 {d : Nat} {Q : Outcome → MH → Prop} : ∀ ls st h, tX1_isRest_56 d Q (fun pc ls st h => WPb mX1_isRest d pc ls st h Q) ls st h → WPb mX1_isRest d 56 ls st h Q :=
  r_istore dX1_isRest_56 <|
  r_iload dX1_isRest_58 <|
  r_if_ne (pt := 109) dX1_isRest_60 (by decide)
  (r_iconst (v := 0) dX1_isRest_109 rfl <|
  r_ret rfl (Or.inl ⟨dX1_isRest_110, Or.inr (Or.inl rfl)⟩))
  (r_aload_n (k := 0) dX1_isRest_63 rfl <|
  r_iload_n (k := 1) dX1_isRest_64 rfl <|
  r_iload_n (k := 2) dX1_isRest_65 rfl <|
  r_iload_n (k := 3) dX1_isRest_66 rfl <|
  r_iload dX1_isRest_67 <|
  r_if_ne (pt := 76) dX1_isRest_69 (by decide)
  (r_iconst (v := 0) dX1_isRest_76 rfl <|
  (fun _ _ _ H => H))
  (r_iconst (v := 1) dX1_isRest_72 rfl <|
  r_goto (pt := 77) dX1_isRest_73 (by decide) <|
  (fun _ _ _ H => H)))
def tX1_isRest_77 (d : Nat) (Q : Outcome → MH → Prop) (J : Nat → KT) : KT :=
  i_call mX1_pairCost d 5 (pV 1) (xOut Q) <|
  i_iload 4 <|
  i_if_ne
  (i_const 0 <|
  i_call mX1_one d 1 pS (xOut Q) <|
  i_iadd <|
  i_iload 5 <|
  i_iload 4 <|
  i_call mX1_one d 1 pS (xOut Q) <|
  i_iadd <|
  i_icmp_lt
  (i_const 0 <|
  i_ret Q (some .boolean))
  (i_const 1 <|
  i_ret Q (some .boolean)))
  (i_const 1 <|
  i_call mX1_one d 1 pS (xOut Q) <|
  i_iadd <|
  i_iload 5 <|
  i_iload 4 <|
  i_call mX1_one d 1 pS (xOut Q) <|
  i_iadd <|
  i_icmp_lt
  (i_const 0 <|
  i_ret Q (some .boolean))
  (i_const 1 <|
  i_ret Q (some .boolean)))
theorem kX1_isRest_77 {d : Nat} {Q : Outcome → MH → Prop} : ∀ ls st h, tX1_isRest_77 d Q (fun pc ls st h => WPb mX1_isRest d pc ls st h Q) ls st h → WPb mX1_isRest d 77 ls st h Q :=
  r_cV (Z := mX1_pairCost) (ci := 1) (q := (RX1, TX1, 13)) dX1_isRest_77 rfl (by decide +kernel) ⟨by decide, by decide⟩ (by decide) rfl rfl q1991 q1993 qs47 q117 q1994 (XS.out (noH _)) <|
  r_iload dX1_isRest_80 <|
  r_if_ne (pt := 89) dX1_isRest_82 (by decide)
  (r_iconst (v := 0) dX1_isRest_89 rfl <|
  r_cS (Z := mX1_one) dX1_isRest_90 rfl (by decide +kernel) ⟨by decide, by decide⟩ q1995 q1996 q117 q1997 (XS.out (noH _)) <|
  r_iadd dX1_isRest_93 <|
  r_iload dX1_isRest_94 <|
  r_iload dX1_isRest_96 <|
  r_cS (Z := mX1_one) dX1_isRest_98 rfl (by decide +kernel) ⟨by decide, by decide⟩ q1995 q1996 q117 q1997 (XS.out (noH _)) <|
  r_iadd dX1_isRest_101 <|
  r_icmp_lt (pt := 109) dX1_isRest_102 (by decide)
  (r_iconst (v := 0) dX1_isRest_109 rfl <|
  r_ret rfl (Or.inl ⟨dX1_isRest_110, Or.inr (Or.inl rfl)⟩))
  (r_iconst (v := 1) dX1_isRest_105 rfl <|
  r_goto (pt := 110) dX1_isRest_106 (by decide) <|
  r_ret rfl (Or.inl ⟨dX1_isRest_110, Or.inr (Or.inl rfl)⟩)))
  (r_iconst (v := 1) dX1_isRest_85 rfl <|
  r_goto (pt := 90) dX1_isRest_86 (by decide) <|
  r_cS (Z := mX1_one) dX1_isRest_90 rfl (by decide +kernel) ⟨by decide, by decide⟩ q1995 q1996 q117 q1997 (XS.out (noH _)) <|
  r_iadd dX1_isRest_93 <|
  r_iload dX1_isRest_94 <|
  r_iload dX1_isRest_96 <|
  r_cS (Z := mX1_one) dX1_isRest_98 rfl (by decide +kernel) ⟨by decide, by decide⟩ q1995 q1996 q117 q1997 (XS.out (noH _)) <|
  r_iadd dX1_isRest_101 <|
  r_icmp_lt (pt := 109) dX1_isRest_102 (by decide)
  (r_iconst (v := 0) dX1_isRest_109 rfl <|
  r_ret rfl (Or.inl ⟨dX1_isRest_110, Or.inr (Or.inl rfl)⟩))
  (r_iconst (v := 1) dX1_isRest_105 rfl <|
  r_goto (pt := 110) dX1_isRest_106 (by decide) <|
  r_ret rfl (Or.inl ⟨dX1_isRest_110, Or.inr (Or.inl rfl)⟩)))
-- CheekTown.pairCost(IIZZ)I cuts [0]
def tX1_pairCost_0 (d : Nat) (Q : Outcome → MH → Prop) (J : Nat → KT) : KT :=
  i_aload 0 <|
  i_getR 1 0 <|
  i_iload 3 <|
  i_if_eq
  (i_iload 1 <|
  i_iload 4 <|
  i_if_eq
  (i_iload 2 <|
  i_call mX2_cost d 3 (pV 2) (xOut Q) <|
  i_ret Q (some .int))
  (i_iload 1 <|
  i_call mX2_cost d 3 (pV 2) (xOut Q) <|
  i_ret Q (some .int)))
  (i_iload 2 <|
  i_iload 4 <|
  i_if_eq
  (i_iload 2 <|
  i_call mX2_cost d 3 (pV 2) (xOut Q) <|
  i_ret Q (some .int))
  (i_iload 1 <|
  i_call mX2_cost d 3 (pV 2) (xOut Q) <|
  i_ret Q (some .int)))
theorem kX1_pairCost_0 {d : Nat} {Q : Outcome → MH → Prop} : ∀ ls st h, tX1_pairCost_0 d Q (fun pc ls st h => WPb mX1_pairCost d pc ls st h Q) ls st h → WPb mX1_pairCost d 0 ls st h Q :=
  r_aload_n (k := 0) dX1_pairCost_0 rfl <|
  r_getR (ci := 1) (q := (RX1, TX1, 13)) (k := 0) dX1_pairCost_1 (by decide) rfl in_X1 (by decide) (Or.inl q465) rfl <|
  r_iload_n (k := 3) dX1_pairCost_4 rfl <|
  r_if_eq (pt := 12) dX1_pairCost_5 (by decide)
  (r_iload_n (k := 1) dX1_pairCost_12 rfl <|
  r_iload dX1_pairCost_13 <|
  r_if_eq (pt := 22) dX1_pairCost_15 (by decide)
  (r_iload_n (k := 2) dX1_pairCost_22 rfl <|
  r_cV (Z := mX2_cost) (ci := 2) (q := (RX2, TX2, 31)) dX1_pairCost_23 rfl (by decide +kernel) ⟨by decide, by decide⟩ (by decide) rfl rfl q536 q537 q538 q118 q539 (XS.out (noH _)) <|
  r_ret rfl (Or.inl ⟨dX1_pairCost_26, Or.inl rfl⟩))
  (r_iload_n (k := 1) dX1_pairCost_18 rfl <|
  r_goto (pt := 23) dX1_pairCost_19 (by decide) <|
  r_cV (Z := mX2_cost) (ci := 2) (q := (RX2, TX2, 31)) dX1_pairCost_23 rfl (by decide +kernel) ⟨by decide, by decide⟩ (by decide) rfl rfl q536 q537 q538 q118 q539 (XS.out (noH _)) <|
  r_ret rfl (Or.inl ⟨dX1_pairCost_26, Or.inl rfl⟩)))
  (r_iload_n (k := 2) dX1_pairCost_8 rfl <|
  r_goto (pt := 13) dX1_pairCost_9 (by decide) <|
  r_iload dX1_pairCost_13 <|
  r_if_eq (pt := 22) dX1_pairCost_15 (by decide)
  (r_iload_n (k := 2) dX1_pairCost_22 rfl <|
  r_cV (Z := mX2_cost) (ci := 2) (q := (RX2, TX2, 31)) dX1_pairCost_23 rfl (by decide +kernel) ⟨by decide, by decide⟩ (by decide) rfl rfl q536 q537 q538 q118 q539 (XS.out (noH _)) <|
  r_ret rfl (Or.inl ⟨dX1_pairCost_26, Or.inl rfl⟩))
  (r_iload_n (k := 1) dX1_pairCost_18 rfl <|
  r_goto (pt := 23) dX1_pairCost_19 (by decide) <|
  r_cV (Z := mX2_cost) (ci := 2) (q := (RX2, TX2, 31)) dX1_pairCost_23 rfl (by decide +kernel) ⟨by decide, by decide⟩ (by decide) rfl rfl q536 q537 q538 q118 q539 (XS.out (noH _)) <|
  r_ret rfl (Or.inl ⟨dX1_pairCost_26, Or.inl rfl⟩)))
-- CheekTown.one(Z)I cuts [0]
def tX1_one_0 (d : Nat) (Q : Outcome → MH → Prop) (J : Nat → KT) : KT :=
  i_iload 0 <|
  i_if_eq
  (i_const 0 <|
  i_ret Q (some .int))
  (i_const 1 <|
  i_ret Q (some .int))
theorem kX1_one_0 {d : Nat} {Q : Outcome → MH → Prop} : ∀ ls st h, tX1_one_0 d Q (fun pc ls st h => WPb mX1_one d pc ls st h Q) ls st h → WPb mX1_one d 0 ls st h Q :=
  r_iload_n (k := 0) dX1_one_0 rfl <|
  r_if_eq (pt := 8) dX1_one_1 (by decide)
  (r_iconst (v := 0) dX1_one_8 rfl <|
  r_ret rfl (Or.inl ⟨dX1_one_9, Or.inl rfl⟩))
  (r_iconst (v := 1) dX1_one_4 rfl <|
  r_goto (pt := 9) dX1_one_5 (by decide) <|
  r_ret rfl (Or.inl ⟨dX1_one_9, Or.inl rfl⟩))
-- CheekTown.sake(IIZ)I cuts [0, 69]
def tX1_sake_0 (d : Nat) (Q : Outcome → MH → Prop) (J : Nat → KT) : KT :=
  i_aload 0 <|
  i_iload 1 <|
  i_iload 2 <|
  i_call mX1_twoAt d 3 (pV 1) (xOut Q) <|
  i_aload 0 <|
  i_getR 1 0 <|
  i_getR 2 19 <|
  i_iload 1 <|
  i_iald <|
  i_istore 4 <|
  i_aload 0 <|
  i_getR 1 0 <|
  i_getR 2 19 <|
  i_iload 2 <|
  i_iald <|
  i_istore 5 <|
  i_sref 4 <|
  i_iload 4 <|
  i_call mX1_isOf d 2 pS (xOut Q) <|
  i_if_eq
  (i_const (-1) <|
  i_ret Q (some .int))
  (i_sref 4 <|
  i_iload 5 <|
  i_call mX1_isOf d 2 pS (xOut Q) <|
  i_if_ne
  (i_iload 4 <|
  i_call mX1_times d 1 pS (xOut Q) <|
  i_istore 6 <|
  i_iload 5 <|
  i_call mX1_times d 1 pS (xOut Q) <|
  i_istore 7 <|
  i_const 0 <|
  i_istore 8 <|
  (J 69))
  (i_const (-1) <|
  i_ret Q (some .int)))
theorem kX1_sake_0 {d : Nat} {Q : Outcome → MH → Prop} : ∀ ls st h, tX1_sake_0 d Q (fun pc ls st h => WPb mX1_sake d pc ls st h Q) ls st h → WPb mX1_sake d 0 ls st h Q :=
  r_aload_n (k := 0) dX1_sake_0 rfl <|
  r_iload_n (k := 1) dX1_sake_1 rfl <|
  r_iload_n (k := 2) dX1_sake_2 rfl <|
  r_cV (Z := mX1_twoAt) (ci := 1) (q := (RX1, TX1, 13)) dX1_sake_3 rfl (by decide +kernel) ⟨by decide, by decide⟩ (by decide) rfl rfl q1710 q1712 qs35 q117 q1713 (XS.out (noH _)) <|
  r_aload_n (k := 0) dX1_sake_6 rfl <|
  r_getR (ci := 1) (q := (RX1, TX1, 13)) (k := 0) dX1_sake_7 (by decide) rfl in_X1 (by decide) (Or.inl q465) rfl <|
  r_getR (ci := 2) (q := (RX2, TX2, 31)) (k := 19) dX1_sake_10 (by decide) rfl in_X2 (by decide) (Or.inr (Or.inl ⟨_, q222⟩)) rfl <|
  r_iload_n (k := 1) dX1_sake_13 rfl <|
  r_iald dX1_sake_14 <|
  r_istore dX1_sake_15 <|
  r_aload_n (k := 0) dX1_sake_17 rfl <|
  r_getR (ci := 1) (q := (RX1, TX1, 13)) (k := 0) dX1_sake_18 (by decide) rfl in_X1 (by decide) (Or.inl q465) rfl <|
  r_getR (ci := 2) (q := (RX2, TX2, 31)) (k := 19) dX1_sake_21 (by decide) rfl in_X2 (by decide) (Or.inr (Or.inl ⟨_, q222⟩)) rfl <|
  r_iload_n (k := 2) dX1_sake_24 rfl <|
  r_iald dX1_sake_25 <|
  r_istore dX1_sake_26 <|
  r_getsR (a := 4) (T := ("CheekTown$Kind", "KISS", "LCheekTown$Kind;")) (by decide +kernel) (by decide) q1313 dX1_sake_28 <|
  r_iload dX1_sake_31 <|
  r_cS (Z := mX1_isOf) dX1_sake_33 rfl (by decide +kernel) ⟨by decide, by decide⟩ q1848 q543 q117 q544 (XS.out (noH _)) <|
  r_if_eq (pt := 50) dX1_sake_36 (by decide)
  (r_iconst (v := (-1)) dX1_sake_50 rfl <|
  r_ret rfl (Or.inl ⟨dX1_sake_51, Or.inl rfl⟩))
  (r_getsR (a := 4) (T := ("CheekTown$Kind", "KISS", "LCheekTown$Kind;")) (by decide +kernel) (by decide) q1313 dX1_sake_39 <|
  r_iload dX1_sake_42 <|
  r_cS (Z := mX1_isOf) dX1_sake_44 rfl (by decide +kernel) ⟨by decide, by decide⟩ q1848 q543 q117 q544 (XS.out (noH _)) <|
  r_if_ne (pt := 52) dX1_sake_47 (by decide)
  (r_iload dX1_sake_52 <|
  r_cS (Z := mX1_times) dX1_sake_54 rfl (by decide +kernel) ⟨by decide, by decide⟩ q1849 q555 q117 q556 (XS.out (noH _)) <|
  r_istore dX1_sake_57 <|
  r_iload dX1_sake_59 <|
  r_cS (Z := mX1_times) dX1_sake_61 rfl (by decide +kernel) ⟨by decide, by decide⟩ q1849 q555 q117 q556 (XS.out (noH _)) <|
  r_istore dX1_sake_64 <|
  r_iconst (v := 0) dX1_sake_66 rfl <|
  r_istore dX1_sake_67 <|
  (fun _ _ _ H => H))
  (r_iconst (v := (-1)) dX1_sake_50 rfl <|
  r_ret rfl (Or.inl ⟨dX1_sake_51, Or.inl rfl⟩)))
def tX1_sake_69 (d : Nat) (Q : Outcome → MH → Prop) (J : Nat → KT) : KT :=
  i_iload 8 <|
  i_const 8 <|
  i_icmp_ge
  (i_const (-1) <|
  i_ret Q (some .int))
  (i_iload 6 <|
  i_iload 7 <|
  i_icmp_ne
  (i_iload 3 <|
  i_if_eq
  (i_iload 6 <|
  i_iload 7 <|
  i_call mX1_towards d 2 pS (xOut Q) <|
  i_istore 9 <|
  i_iload 7 <|
  i_iload 6 <|
  i_call mX1_towards d 2 pS (xOut Q) <|
  i_istore 7 <|
  i_iload 9 <|
  i_istore 6 <|
  i_iinc 8 1 <|
  (J 69))
  (i_iload 6 <|
  i_istore 9 <|
  i_iload 7 <|
  i_iload 6 <|
  i_call mX1_towards d 2 pS (xOut Q) <|
  i_istore 7 <|
  i_iload 9 <|
  i_istore 6 <|
  i_iinc 8 1 <|
  (J 69)))
  (i_iload 8 <|
  i_ret Q (some .int)))
theorem kX1_sake_69 {d : Nat} {Q : Outcome → MH → Prop} : ∀ ls st h, tX1_sake_69 d Q (fun pc ls st h => WPb mX1_sake d pc ls st h Q) ls st h → WPb mX1_sake d 69 ls st h Q :=
  r_iload dX1_sake_69 <|
  r_bipush (v := 8) dX1_sake_71 rfl <|
  r_icmp_ge (pt := 123) dX1_sake_73 (by decide)
  (r_iconst (v := (-1)) dX1_sake_123 rfl <|
  r_ret rfl (Or.inl ⟨dX1_sake_124, Or.inl rfl⟩))
  (r_iload dX1_sake_76 <|
  r_iload dX1_sake_78 <|
  r_icmp_ne (pt := 86) dX1_sake_80 (by decide)
  (r_iload_n (k := 3) dX1_sake_86 rfl <|
  r_if_eq (pt := 95) dX1_sake_87 (by decide)
  (r_iload dX1_sake_95 <|
  r_iload dX1_sake_97 <|
  r_cS (Z := mX1_towards) dX1_sake_99 rfl (by decide +kernel) ⟨by decide, by decide⟩ q2005 q2006 q117 q2007 (XS.out (noH _)) <|
  r_istore dX1_sake_102 <|
  r_iload dX1_sake_104 <|
  r_iload dX1_sake_106 <|
  r_cS (Z := mX1_towards) dX1_sake_108 rfl (by decide +kernel) ⟨by decide, by decide⟩ q2005 q2006 q117 q2007 (XS.out (noH _)) <|
  r_istore dX1_sake_111 <|
  r_iload dX1_sake_113 <|
  r_istore dX1_sake_115 <|
  r_iinc (v := 1) dX1_sake_117 rfl <|
  r_goto (pt := 69) dX1_sake_120 (by decide) <|
  (fun _ _ _ H => H))
  (r_iload dX1_sake_90 <|
  r_goto (pt := 102) dX1_sake_92 (by decide) <|
  r_istore dX1_sake_102 <|
  r_iload dX1_sake_104 <|
  r_iload dX1_sake_106 <|
  r_cS (Z := mX1_towards) dX1_sake_108 rfl (by decide +kernel) ⟨by decide, by decide⟩ q2005 q2006 q117 q2007 (XS.out (noH _)) <|
  r_istore dX1_sake_111 <|
  r_iload dX1_sake_113 <|
  r_istore dX1_sake_115 <|
  r_iinc (v := 1) dX1_sake_117 rfl <|
  r_goto (pt := 69) dX1_sake_120 (by decide) <|
  (fun _ _ _ H => H)))
  (r_iload dX1_sake_83 <|
  r_ret rfl (Or.inl ⟨dX1_sake_85, Or.inl rfl⟩)))
-- CheekTown.towards(II)I cuts [0]
def tX1_towards_0 (d : Nat) (Q : Outcome → MH → Prop) (J : Nat → KT) : KT :=
  i_iload 0 <|
  i_iload 1 <|
  i_iload 0 <|
  i_isub <|
  i_call mJ16_signum d 1 pS (xOut Q) <|
  i_iadd <|
  i_ret Q (some .int)
theorem kX1_towards_0 {d : Nat} {Q : Outcome → MH → Prop} : ∀ ls st h, tX1_towards_0 d Q (fun pc ls st h => WPb mX1_towards d pc ls st h Q) ls st h → WPb mX1_towards d 0 ls st h Q :=
  r_iload_n (k := 0) dX1_towards_0 rfl <|
  r_iload_n (k := 1) dX1_towards_1 rfl <|
  r_iload_n (k := 0) dX1_towards_2 rfl <|
  r_isub dX1_towards_3 <|
  r_cS (Z := mJ16_signum) dX1_towards_4 rfl (by decide +kernel) ⟨by decide, by decide⟩ q2008 q2009 q143 q2010 (XS.out (noH _)) <|
  r_iadd dX1_towards_7 <|
  r_ret rfl (Or.inl ⟨dX1_towards_8, Or.inl rfl⟩)
-- CheekTown.begins(I)I cuts [0, 31]
def tX1_begins_0 (d : Nat) (Q : Outcome → MH → Prop) (J : Nat → KT) : KT :=
  i_iload 1 <|
  i_const (-1) <|
  i_const 2 <|
  i_call mX1_in d 3 pS (xOut Q) <|
  i_call mX1_demand d 1 pS (xOut Q) <|
  i_call mX21_values d 0 pS (xOut Q) <|
  i_astore 2 <|
  i_iload 1 <|
  i_const (-1) <|
  i_icmp_eq
  (i_const 0 <|
  i_istore 3 <|
  i_const 1 <|
  i_istore 4 <|
  (J 31))
  (i_aload 0 <|
  i_aload 2 <|
  i_iload 1 <|
  i_aald 7 <|
  i_call mX1_costOf d 2 (pV 1) (xOut Q) <|
  i_ret Q (some .int))
theorem kX1_begins_0 {d : Nat} {Q : Outcome → MH → Prop} : ∀ ls st h, tX1_begins_0 d Q (fun pc ls st h => WPb mX1_begins d pc ls st h Q) ls st h → WPb mX1_begins d 0 ls st h Q :=
  r_iload_n (k := 1) dX1_begins_0 rfl <|
  r_iconst (v := (-1)) dX1_begins_1 rfl <|
  r_iconst (v := 2) dX1_begins_2 rfl <|
  r_cS (Z := mX1_in) dX1_begins_3 rfl (by decide +kernel) ⟨by decide, by decide⟩ q600 q601 q117 q602 (XS.out (noH _)) <|
  r_cS (Z := mX1_demand) dX1_begins_6 rfl (by decide +kernel) ⟨by decide, by decide⟩ q1714 q1715 q117 q1716 (XS.out (noH _)) <|
  r_cS (Z := mX21_values) dX1_begins_9 rfl (by decide +kernel) ⟨by decide, by decide⟩ q2018 q2019 q163 q2020 (XS.out (noH _)) <|
  r_astore_n (k := 2) dX1_begins_12 rfl <|
  r_iload_n (k := 1) dX1_begins_13 rfl <|
  r_iconst (v := (-1)) dX1_begins_14 rfl <|
  r_icmp_eq (pt := 26) dX1_begins_15 (by decide)
  (r_iconst (v := 0) dX1_begins_26 rfl <|
  r_istore_n (k := 3) dX1_begins_27 rfl <|
  r_iconst (v := 1) dX1_begins_28 rfl <|
  r_istore dX1_begins_29 <|
  (fun _ _ _ H => H))
  (r_aload_n (k := 0) dX1_begins_18 rfl <|
  r_aload_n (k := 2) dX1_begins_19 rfl <|
  r_iload_n (k := 1) dX1_begins_20 rfl <|
  r_aald (t := 7) (E := "CheekTown$Rule") (by decide) rfl dX1_begins_21 <|
  r_cV (Z := mX1_costOf) (ci := 1) (q := (RX1, TX1, 13)) dX1_begins_22 rfl (by decide +kernel) ⟨by decide, by decide⟩ (by decide) rfl rfl q2029 q2031 qs48 q117 q2032 (XS.out (noH _)) <|
  r_ret rfl (Or.inl ⟨dX1_begins_25, Or.inl rfl⟩))
def tX1_begins_31 (d : Nat) (Q : Outcome → MH → Prop) (J : Nat → KT) : KT :=
  i_iload 4 <|
  i_aload 2 <|
  i_alen <|
  i_icmp_ge
  (i_iload 3 <|
  i_ret Q (some .int))
  (i_aload 0 <|
  i_aload 2 <|
  i_iload 4 <|
  i_aald 7 <|
  i_call mX1_costOf d 2 (pV 1) (xOut Q) <|
  i_aload 0 <|
  i_aload 2 <|
  i_iload 3 <|
  i_aald 7 <|
  i_call mX1_costOf d 2 (pV 1) (xOut Q) <|
  i_icmp_ge
  (i_iinc 4 1 <|
  (J 31))
  (i_iload 4 <|
  i_istore 3 <|
  i_iinc 4 1 <|
  (J 31)))
theorem kX1_begins_31 {d : Nat} {Q : Outcome → MH → Prop} : ∀ ls st h, tX1_begins_31 d Q (fun pc ls st h => WPb mX1_begins d pc ls st h Q) ls st h → WPb mX1_begins d 31 ls st h Q :=
  r_iload dX1_begins_31 <|
  r_aload_n (k := 2) dX1_begins_33 rfl <|
  r_alen dX1_begins_34 <|
  r_icmp_ge (pt := 65) dX1_begins_35 (by decide)
  (r_iload_n (k := 3) dX1_begins_65 rfl <|
  r_ret rfl (Or.inl ⟨dX1_begins_66, Or.inl rfl⟩))
  (r_aload_n (k := 0) dX1_begins_38 rfl <|
  r_aload_n (k := 2) dX1_begins_39 rfl <|
  r_iload dX1_begins_40 <|
  r_aald (t := 7) (E := "CheekTown$Rule") (by decide) rfl dX1_begins_42 <|
  r_cV (Z := mX1_costOf) (ci := 1) (q := (RX1, TX1, 13)) dX1_begins_43 rfl (by decide +kernel) ⟨by decide, by decide⟩ (by decide) rfl rfl q2029 q2031 qs48 q117 q2032 (XS.out (noH _)) <|
  r_aload_n (k := 0) dX1_begins_46 rfl <|
  r_aload_n (k := 2) dX1_begins_47 rfl <|
  r_iload_n (k := 3) dX1_begins_48 rfl <|
  r_aald (t := 7) (E := "CheekTown$Rule") (by decide) rfl dX1_begins_49 <|
  r_cV (Z := mX1_costOf) (ci := 1) (q := (RX1, TX1, 13)) dX1_begins_50 rfl (by decide +kernel) ⟨by decide, by decide⟩ (by decide) rfl rfl q2029 q2031 qs48 q117 q2032 (XS.out (noH _)) <|
  r_icmp_ge (pt := 59) dX1_begins_53 (by decide)
  (r_iinc (v := 1) dX1_begins_59 rfl <|
  r_goto (pt := 31) dX1_begins_62 (by decide) <|
  (fun _ _ _ H => H))
  (r_iload dX1_begins_56 <|
  r_istore_n (k := 3) dX1_begins_58 rfl <|
  r_iinc (v := 1) dX1_begins_59 rfl <|
  r_goto (pt := 31) dX1_begins_62 (by decide) <|
  (fun _ _ _ H => H)))
-- CheekTown.costOf(LCheekTown$Rule;)I cuts [0, 10, 85]
def tX1_costOf_0 (d : Nat) (Q : Outcome → MH → Prop) (J : Nat → KT) : KT :=
  i_aload 0 <|
  i_getR 1 0 <|
  i_astore 2 <|
  i_const 0 <|
  i_istore 3 <|
  i_const 0 <|
  i_istore 4 <|
  (J 10)
theorem kX1_costOf_0 {d : Nat} {Q : Outcome → MH → Prop} : ∀ ls st h, tX1_costOf_0 d Q (fun pc ls st h => WPb mX1_costOf d pc ls st h Q) ls st h → WPb mX1_costOf d 0 ls st h Q :=
  r_aload_n (k := 0) dX1_costOf_0 rfl <|
  r_getR (ci := 1) (q := (RX1, TX1, 13)) (k := 0) dX1_costOf_1 (by decide) rfl in_X1 (by decide) (Or.inl q465) rfl <|
  r_astore_n (k := 2) dX1_costOf_4 rfl <|
  r_iconst (v := 0) dX1_costOf_5 rfl <|
  r_istore_n (k := 3) dX1_costOf_6 rfl <|
  r_iconst (v := 0) dX1_costOf_7 rfl <|
  r_istore dX1_costOf_8 <|
  (fun _ _ _ H => H)
def tX1_costOf_10 (d : Nat) (Q : Outcome → MH → Prop) (J : Nat → KT) : KT :=
  i_iload 4 <|
  i_aload 2 <|
  i_getI 2 4 <|
  i_icmp_ge
  (i_iload 3 <|
  i_ret Q (some .int))
  (i_aload 2 <|
  i_getR 2 27 <|
  i_iload 4 <|
  i_iald <|
  i_aload 2 <|
  i_getR 2 28 <|
  i_iload 4 <|
  i_iald <|
  i_mmin d <|
  i_istore 5 <|
  i_aload 2 <|
  i_getR 2 27 <|
  i_iload 4 <|
  i_iald <|
  i_aload 2 <|
  i_getR 2 28 <|
  i_iload 4 <|
  i_iald <|
  i_mmax d <|
  i_istore 6 <|
  i_aload 1 <|
  i_aload 2 <|
  i_getR 2 20 <|
  i_iload 5 <|
  i_iald <|
  i_aload 2 <|
  i_getR 2 20 <|
  i_iload 6 <|
  i_iald <|
  i_call mX21_isFirst d 3 (pV 21) (xOut Q) <|
  i_if_eq
  (i_iload 5 <|
  (J 85))
  (i_iload 6 <|
  (J 85)))
theorem kX1_costOf_10 {d : Nat} {Q : Outcome → MH → Prop} : ∀ ls st h, tX1_costOf_10 d Q (fun pc ls st h => WPb mX1_costOf d pc ls st h Q) ls st h → WPb mX1_costOf d 10 ls st h Q :=
  r_iload dX1_costOf_10 <|
  r_aload_n (k := 2) dX1_costOf_12 rfl <|
  r_getI (ci := 2) (q := (RX2, TX2, 31)) (k := 4) dX1_costOf_13 (by decide) rfl in_X2 (by decide) (Or.inr (Or.inl ⟨_, q190⟩)) rfl <|
  r_icmp_ge (pt := 129) dX1_costOf_16 (by decide)
  (r_iload_n (k := 3) dX1_costOf_129 rfl <|
  r_ret rfl (Or.inl ⟨dX1_costOf_130, Or.inl rfl⟩))
  (r_aload_n (k := 2) dX1_costOf_19 rfl <|
  r_getR (ci := 2) (q := (RX2, TX2, 31)) (k := 27) dX1_costOf_20 (by decide) rfl in_X2 (by decide) (Or.inr (Or.inl ⟨_, q239⟩)) rfl <|
  r_iload dX1_costOf_23 <|
  r_iald dX1_costOf_25 <|
  r_aload_n (k := 2) dX1_costOf_26 rfl <|
  r_getR (ci := 2) (q := (RX2, TX2, 31)) (k := 28) dX1_costOf_27 (by decide) rfl in_X2 (by decide) (Or.inr (Or.inl ⟨_, q242⟩)) rfl <|
  r_iload dX1_costOf_30 <|
  r_iald dX1_costOf_32 <|
  r_mmin dX1_costOf_33 q579 q580 q134 q581 <|
  r_istore dX1_costOf_36 <|
  r_aload_n (k := 2) dX1_costOf_38 rfl <|
  r_getR (ci := 2) (q := (RX2, TX2, 31)) (k := 27) dX1_costOf_39 (by decide) rfl in_X2 (by decide) (Or.inr (Or.inl ⟨_, q239⟩)) rfl <|
  r_iload dX1_costOf_42 <|
  r_iald dX1_costOf_44 <|
  r_aload_n (k := 2) dX1_costOf_45 rfl <|
  r_getR (ci := 2) (q := (RX2, TX2, 31)) (k := 28) dX1_costOf_46 (by decide) rfl in_X2 (by decide) (Or.inr (Or.inl ⟨_, q242⟩)) rfl <|
  r_iload dX1_costOf_49 <|
  r_iald dX1_costOf_51 <|
  r_mmax dX1_costOf_52 q560 q561 q134 q562 <|
  r_istore dX1_costOf_55 <|
  r_aload_n (k := 1) dX1_costOf_57 rfl <|
  r_aload_n (k := 2) dX1_costOf_58 rfl <|
  r_getR (ci := 2) (q := (RX2, TX2, 31)) (k := 20) dX1_costOf_59 (by decide) rfl in_X2 (by decide) (Or.inr (Or.inl ⟨_, q224⟩)) rfl <|
  r_iload dX1_costOf_62 <|
  r_iald dX1_costOf_64 <|
  r_aload_n (k := 2) dX1_costOf_65 rfl <|
  r_getR (ci := 2) (q := (RX2, TX2, 31)) (k := 20) dX1_costOf_66 (by decide) rfl in_X2 (by decide) (Or.inr (Or.inl ⟨_, q224⟩)) rfl <|
  r_iload dX1_costOf_69 <|
  r_iald dX1_costOf_71 <|
  r_cV (Z := mX21_isFirst) (ci := 21) (q := (RX21, cx_TR, 1)) dX1_costOf_72 rfl (by decide +kernel) ⟨by decide, by decide⟩ (by decide) rfl rfl q2033 q2034 q2035 q163 q2036 (XS.out (noH _)) <|
  r_if_eq (pt := 83) dX1_costOf_75 (by decide)
  (r_iload dX1_costOf_83 <|
  (fun _ _ _ H => H))
  (r_iload dX1_costOf_78 <|
  r_goto (pt := 85) dX1_costOf_80 (by decide) <|
  (fun _ _ _ H => H)))
def tX1_costOf_85 (d : Nat) (Q : Outcome → MH → Prop) (J : Nat → KT) : KT :=
  i_istore 7 <|
  i_iload 3 <|
  i_aload 2 <|
  i_aload 0 <|
  i_aload 2 <|
  i_iload 5 <|
  i_iload 6 <|
  i_call mX1_beginsWith d 4 (pV 1) (xOut Q) <|
  i_aload 0 <|
  i_aload 2 <|
  i_iload 6 <|
  i_iload 5 <|
  i_call mX1_beginsWith d 4 (pV 1) (xOut Q) <|
  i_call mX2_cost d 3 (pV 2) (xOut Q) <|
  i_const 100 <|
  i_aload 2 <|
  i_getR 2 21 <|
  i_iload 7 <|
  i_iald <|
  i_isub <|
  i_imul <|
  i_iadd <|
  i_istore 3 <|
  i_iinc 4 1 <|
  (J 10)
theorem kX1_costOf_85 {d : Nat} {Q : Outcome → MH → Prop} : ∀ ls st h, tX1_costOf_85 d Q (fun pc ls st h => WPb mX1_costOf d pc ls st h Q) ls st h → WPb mX1_costOf d 85 ls st h Q :=
  r_istore dX1_costOf_85 <|
  r_iload_n (k := 3) dX1_costOf_87 rfl <|
  r_aload_n (k := 2) dX1_costOf_88 rfl <|
  r_aload_n (k := 0) dX1_costOf_89 rfl <|
  r_aload_n (k := 2) dX1_costOf_90 rfl <|
  r_iload dX1_costOf_91 <|
  r_iload dX1_costOf_93 <|
  r_cV (Z := mX1_beginsWith) (ci := 1) (q := (RX1, TX1, 13)) dX1_costOf_95 rfl (by decide +kernel) ⟨by decide, by decide⟩ (by decide) rfl rfl q1731 q1733 qs36 q117 q1734 (XS.out (noH _)) <|
  r_aload_n (k := 0) dX1_costOf_98 rfl <|
  r_aload_n (k := 2) dX1_costOf_99 rfl <|
  r_iload dX1_costOf_100 <|
  r_iload dX1_costOf_102 <|
  r_cV (Z := mX1_beginsWith) (ci := 1) (q := (RX1, TX1, 13)) dX1_costOf_104 rfl (by decide +kernel) ⟨by decide, by decide⟩ (by decide) rfl rfl q1731 q1733 qs36 q117 q1734 (XS.out (noH _)) <|
  r_cV (Z := mX2_cost) (ci := 2) (q := (RX2, TX2, 31)) dX1_costOf_107 rfl (by decide +kernel) ⟨by decide, by decide⟩ (by decide) rfl rfl q536 q537 q538 q118 q539 (XS.out (noH _)) <|
  r_bipush (v := 100) dX1_costOf_110 rfl <|
  r_aload_n (k := 2) dX1_costOf_112 rfl <|
  r_getR (ci := 2) (q := (RX2, TX2, 31)) (k := 21) dX1_costOf_113 (by decide) rfl in_X2 (by decide) (Or.inr (Or.inl ⟨_, q226⟩)) rfl <|
  r_iload dX1_costOf_116 <|
  r_iald dX1_costOf_118 <|
  r_isub dX1_costOf_119 <|
  r_imul dX1_costOf_120 <|
  r_iadd dX1_costOf_121 <|
  r_istore_n (k := 3) dX1_costOf_122 rfl <|
  r_iinc (v := 1) dX1_costOf_123 rfl <|
  r_goto (pt := 10) dX1_costOf_126 (by decide) <|
  (fun _ _ _ H => H)
-- CheekTown.after(II)I cuts [0]
def tX1_after_0 (d : Nat) (Q : Outcome → MH → Prop) (J : Nat → KT) : KT :=
  i_iload 1 <|
  i_const 0 <|
  i_const 60 <|
  i_call mX1_in d 3 pS (xOut Q) <|
  i_call mX1_demand d 1 pS (xOut Q) <|
  i_iload 2 <|
  i_const 2 <|
  i_call mX1_question d 2 pS (xOut Q) <|
  i_aload 0 <|
  i_getR 1 11 <|
  i_call mX7_now d 1 (pV 7) (xOut Q) <|
  i_iload 1 <|
  i_call mX7_after d 2 (pV 7) (xOut Q) <|
  i_astore 3 <|
  i_iload 2 <|
  i_if_ne
  (i_iload 2 <|
  i_const 1 <|
  i_icmp_ne
  (i_aload 0 <|
  i_getR 1 0 <|
  i_getI 2 3 <|
  i_if_ne
  (i_aload 3 <|
  i_aload 3 <|
  i_call mX7_all d 1 (pV 7) (xOut Q) <|
  i_aload 3 <|
  i_call mX7_most d 1 (pV 7) (xOut Q) <|
  i_call mX7_many d 3 (pV 7) (xOut Q) <|
  i_ret Q (some .int))
  (i_const 0 <|
  i_ret Q (some .int)))
  (i_aload 3 <|
  i_call mX7_most d 1 (pV 7) (xOut Q) <|
  i_ret Q (some .int)))
  (i_aload 3 <|
  i_call mX7_unlike d 1 (pV 7) (xOut Q) <|
  i_ret Q (some .int))
theorem kX1_after_0 {d : Nat} {Q : Outcome → MH → Prop} : ∀ ls st h, tX1_after_0 d Q (fun pc ls st h => WPb mX1_after d pc ls st h Q) ls st h → WPb mX1_after d 0 ls st h Q :=
  r_iload_n (k := 1) dX1_after_0 rfl <|
  r_iconst (v := 0) dX1_after_1 rfl <|
  r_bipush (v := 60) dX1_after_2 rfl <|
  r_cS (Z := mX1_in) dX1_after_4 rfl (by decide +kernel) ⟨by decide, by decide⟩ q600 q601 q117 q602 (XS.out (noH _)) <|
  r_cS (Z := mX1_demand) dX1_after_7 rfl (by decide +kernel) ⟨by decide, by decide⟩ q1714 q1715 q117 q1716 (XS.out (noH _)) <|
  r_iload_n (k := 2) dX1_after_10 rfl <|
  r_iconst (v := 2) dX1_after_11 rfl <|
  r_cS (Z := mX1_question) dX1_after_12 rfl (by decide +kernel) ⟨by decide, by decide⟩ q1680 q1681 q117 q1682 (XS.out (noH _)) <|
  r_aload_n (k := 0) dX1_after_15 rfl <|
  r_getR (ci := 1) (q := (RX1, TX1, 13)) (k := 11) dX1_after_16 (by decide) rfl in_X1 (by decide) (Or.inl q479) rfl <|
  r_cV (Z := mX7_now) (ci := 7) (q := (RX7, TX7, 5)) dX1_after_19 rfl (by decide +kernel) ⟨by decide, by decide⟩ (by decide) rfl rfl q1013 q1014 q1015 q126 q1016 (XS.out (noH _)) <|
  r_iload_n (k := 1) dX1_after_22 rfl <|
  r_cV (Z := mX7_after) (ci := 7) (q := (RX7, TX7, 5)) dX1_after_23 rfl (by decide +kernel) ⟨by decide, by decide⟩ (by decide) rfl rfl q2047 q2048 q2049 q126 q2050 (XS.out (noH _)) <|
  r_astore_n (k := 3) dX1_after_26 rfl <|
  r_iload_n (k := 2) dX1_after_27 rfl <|
  r_if_ne (pt := 36) dX1_after_28 (by decide)
  (r_iload_n (k := 2) dX1_after_36 rfl <|
  r_iconst (v := 1) dX1_after_37 rfl <|
  r_icmp_ne (pt := 46) dX1_after_38 (by decide)
  (r_aload_n (k := 0) dX1_after_46 rfl <|
  r_getR (ci := 1) (q := (RX1, TX1, 13)) (k := 0) dX1_after_47 (by decide) rfl in_X1 (by decide) (Or.inl q465) rfl <|
  r_getI (ci := 2) (q := (RX2, TX2, 31)) (k := 3) dX1_after_50 (by decide) rfl in_X2 (by decide) (Or.inr (Or.inl ⟨_, q187⟩)) rfl <|
  r_if_ne (pt := 60) dX1_after_53 (by decide)
  (r_aload_n (k := 3) dX1_after_60 rfl <|
  r_aload_n (k := 3) dX1_after_61 rfl <|
  r_cV (Z := mX7_all) (ci := 7) (q := (RX7, TX7, 5)) dX1_after_62 rfl (by decide +kernel) ⟨by decide, by decide⟩ (by decide) rfl rfl q2064 q2057 q2058 q126 q2059 (XS.out (noH _)) <|
  r_aload_n (k := 3) dX1_after_65 rfl <|
  r_cV (Z := mX7_most) (ci := 7) (q := (RX7, TX7, 5)) dX1_after_66 rfl (by decide +kernel) ⟨by decide, by decide⟩ (by decide) rfl rfl q2060 q2061 q2062 q126 q2063 (XS.out (noH _)) <|
  r_cV (Z := mX7_many) (ci := 7) (q := (RX7, TX7, 5)) dX1_after_69 rfl (by decide +kernel) ⟨by decide, by decide⟩ (by decide) rfl rfl q2065 q1035 q1036 q126 q1037 (XS.out (noH _)) <|
  r_ret rfl (Or.inl ⟨dX1_after_72, Or.inl rfl⟩))
  (r_iconst (v := 0) dX1_after_56 rfl <|
  r_goto (pt := 72) dX1_after_57 (by decide) <|
  r_ret rfl (Or.inl ⟨dX1_after_72, Or.inl rfl⟩)))
  (r_aload_n (k := 3) dX1_after_41 rfl <|
  r_cV (Z := mX7_most) (ci := 7) (q := (RX7, TX7, 5)) dX1_after_42 rfl (by decide +kernel) ⟨by decide, by decide⟩ (by decide) rfl rfl q2060 q2061 q2062 q126 q2063 (XS.out (noH _)) <|
  r_ret rfl (Or.inl ⟨dX1_after_45, Or.inl rfl⟩)))
  (r_aload_n (k := 3) dX1_after_31 rfl <|
  r_cV (Z := mX7_unlike) (ci := 7) (q := (RX7, TX7, 5)) dX1_after_32 rfl (by decide +kernel) ⟨by decide, by decide⟩ (by decide) rfl rfl q2052 q2053 q2054 q126 q2055 (XS.out (noH _)) <|
  r_ret rfl (Or.inl ⟨dX1_after_35, Or.inl rfl⟩))
-- CheekTown.custom(II)I cuts [0]
def tX1_custom_0 (d : Nat) (Q : Outcome → MH → Prop) (J : Nat → KT) : KT :=
  i_aload 0 <|
  i_iload 1 <|
  i_call mX1_personAt d 2 (pV 1) (xOut Q) <|
  i_iload 2 <|
  i_const 0 <|
  i_const 60 <|
  i_call mX1_in d 3 pS (xOut Q) <|
  i_call mX1_demand d 1 pS (xOut Q) <|
  i_aload 0 <|
  i_getR 1 11 <|
  i_call mX7_now d 1 (pV 7) (xOut Q) <|
  i_iload 2 <|
  i_call mX7_after d 2 (pV 7) (xOut Q) <|
  i_getR 7 0 <|
  i_iload 1 <|
  i_iald <|
  i_ret Q (some .int)
theorem kX1_custom_0 {d : Nat} {Q : Outcome → MH → Prop} : ∀ ls st h, tX1_custom_0 d Q (fun pc ls st h => WPb mX1_custom d pc ls st h Q) ls st h → WPb mX1_custom d 0 ls st h Q :=
  r_aload_n (k := 0) dX1_custom_0 rfl <|
  r_iload_n (k := 1) dX1_custom_1 rfl <|
  r_cV (Z := mX1_personAt) (ci := 1) (q := (RX1, TX1, 13)) dX1_custom_2 rfl (by decide +kernel) ⟨by decide, by decide⟩ (by decide) rfl rfl q1676 q1678 qs34 q117 q1679 (XS.out (noH _)) <|
  r_iload_n (k := 2) dX1_custom_5 rfl <|
  r_iconst (v := 0) dX1_custom_6 rfl <|
  r_bipush (v := 60) dX1_custom_7 rfl <|
  r_cS (Z := mX1_in) dX1_custom_9 rfl (by decide +kernel) ⟨by decide, by decide⟩ q600 q601 q117 q602 (XS.out (noH _)) <|
  r_cS (Z := mX1_demand) dX1_custom_12 rfl (by decide +kernel) ⟨by decide, by decide⟩ q1714 q1715 q117 q1716 (XS.out (noH _)) <|
  r_aload_n (k := 0) dX1_custom_15 rfl <|
  r_getR (ci := 1) (q := (RX1, TX1, 13)) (k := 11) dX1_custom_16 (by decide) rfl in_X1 (by decide) (Or.inl q479) rfl <|
  r_cV (Z := mX7_now) (ci := 7) (q := (RX7, TX7, 5)) dX1_custom_19 rfl (by decide +kernel) ⟨by decide, by decide⟩ (by decide) rfl rfl q1013 q1014 q1015 q126 q1016 (XS.out (noH _)) <|
  r_iload_n (k := 2) dX1_custom_22 rfl <|
  r_cV (Z := mX7_after) (ci := 7) (q := (RX7, TX7, 5)) dX1_custom_23 rfl (by decide +kernel) ⟨by decide, by decide⟩ (by decide) rfl rfl q2047 q2048 q2049 q126 q2050 (XS.out (noH _)) <|
  r_getR (ci := 7) (q := (RX7, TX7, 5)) (k := 0) dX1_custom_26 (by decide) rfl in_X7 (by decide) (Or.inr (Or.inl ⟨_, q449⟩)) rfl <|
  r_iload_n (k := 1) dX1_custom_29 rfl <|
  r_iald dX1_custom_30 <|
  r_ret rfl (Or.inl ⟨dX1_custom_31, Or.inl rfl⟩)
-- CheekTown.told(II)I cuts [0, 32]
def tX1_told_0 (d : Nat) (Q : Outcome → MH → Prop) (J : Nat → KT) : KT :=
  i_iload 1 <|
  i_call mX1_greetingAt d 1 pS (xOut Q) <|
  i_iload 2 <|
  i_const 0 <|
  i_const 60 <|
  i_call mX1_in d 3 pS (xOut Q) <|
  i_call mX1_demand d 1 pS (xOut Q) <|
  i_aload 0 <|
  i_getR 1 11 <|
  i_call mX7_now d 1 (pV 7) (xOut Q) <|
  i_astore 3 <|
  i_aload 3 <|
  i_call mX7_all d 1 (pV 7) (xOut Q) <|
  i_istore 4 <|
  i_iload 4 <|
  i_istore 5 <|
  (J 32)
theorem kX1_told_0 {d : Nat} {Q : Outcome → MH → Prop} : ∀ ls st h, tX1_told_0 d Q (fun pc ls st h => WPb mX1_told d pc ls st h Q) ls st h → WPb mX1_told d 0 ls st h Q :=
  r_iload_n (k := 1) dX1_told_0 rfl <|
  r_cS (Z := mX1_greetingAt) dX1_told_1 rfl (by decide +kernel) ⟨by decide, by decide⟩ q1632 q1633 q117 q1634 (XS.out (noH _)) <|
  r_iload_n (k := 2) dX1_told_4 rfl <|
  r_iconst (v := 0) dX1_told_5 rfl <|
  r_bipush (v := 60) dX1_told_6 rfl <|
  r_cS (Z := mX1_in) dX1_told_8 rfl (by decide +kernel) ⟨by decide, by decide⟩ q600 q601 q117 q602 (XS.out (noH _)) <|
  r_cS (Z := mX1_demand) dX1_told_11 rfl (by decide +kernel) ⟨by decide, by decide⟩ q1714 q1715 q117 q1716 (XS.out (noH _)) <|
  r_aload_n (k := 0) dX1_told_14 rfl <|
  r_getR (ci := 1) (q := (RX1, TX1, 13)) (k := 11) dX1_told_15 (by decide) rfl in_X1 (by decide) (Or.inl q479) rfl <|
  r_cV (Z := mX7_now) (ci := 7) (q := (RX7, TX7, 5)) dX1_told_18 rfl (by decide +kernel) ⟨by decide, by decide⟩ (by decide) rfl rfl q1013 q1014 q1015 q126 q1016 (XS.out (noH _)) <|
  r_astore_n (k := 3) dX1_told_21 rfl <|
  r_aload_n (k := 3) dX1_told_22 rfl <|
  r_cV (Z := mX7_all) (ci := 7) (q := (RX7, TX7, 5)) dX1_told_23 rfl (by decide +kernel) ⟨by decide, by decide⟩ (by decide) rfl rfl q2064 q2057 q2058 q126 q2059 (XS.out (noH _)) <|
  r_istore dX1_told_26 <|
  r_iload dX1_told_28 <|
  r_istore dX1_told_30 <|
  (fun _ _ _ H => H)
def tX1_told_32 (d : Nat) (Q : Outcome → MH → Prop) (J : Nat → KT) : KT :=
  i_iload 5 <|
  i_if_lt
  (i_iload 4 <|
  i_ret Q (some .int))
  (i_iload 5 <|
  i_call mJ16_bitCount d 1 pS (xOut Q) <|
  i_iload 4 <|
  i_call mJ16_bitCount d 1 pS (xOut Q) <|
  i_icmp_le
  (i_aload 3 <|
  i_iload 5 <|
  i_iload 1 <|
  i_call mX7_feast d 3 (pV 7) (xOut Q) <|
  i_iload 2 <|
  i_call mX7_after d 2 (pV 7) (xOut Q) <|
  i_iload 1 <|
  i_call mX7_have d 2 (pV 7) (xOut Q) <|
  i_if_eq
  (i_iinc 5 (-1) <|
  (J 32))
  (i_iload 5 <|
  i_istore 4 <|
  i_iinc 5 (-1) <|
  (J 32)))
  (i_iinc 5 (-1) <|
  (J 32)))
theorem kX1_told_32 {d : Nat} {Q : Outcome → MH → Prop} : ∀ ls st h, tX1_told_32 d Q (fun pc ls st h => WPb mX1_told d pc ls st h Q) ls st h → WPb mX1_told d 32 ls st h Q :=
  r_iload dX1_told_32 <|
  r_if_lt (pt := 81) dX1_told_34 (by decide)
  (r_iload dX1_told_81 <|
  r_ret rfl (Or.inl ⟨dX1_told_83, Or.inl rfl⟩))
  (r_iload dX1_told_37 <|
  r_cS (Z := mJ16_bitCount) dX1_told_39 rfl (by decide +kernel) ⟨by decide, by decide⟩ q594 q595 q143 q596 (XS.out (noH _)) <|
  r_iload dX1_told_42 <|
  r_cS (Z := mJ16_bitCount) dX1_told_44 rfl (by decide +kernel) ⟨by decide, by decide⟩ q594 q595 q143 q596 (XS.out (noH _)) <|
  r_icmp_le (pt := 53) dX1_told_47 (by decide)
  (r_aload_n (k := 3) dX1_told_53 rfl <|
  r_iload dX1_told_54 <|
  r_iload_n (k := 1) dX1_told_56 rfl <|
  r_cV (Z := mX7_feast) (ci := 7) (q := (RX7, TX7, 5)) dX1_told_57 rfl (by decide +kernel) ⟨by decide, by decide⟩ (by decide) rfl rfl q2080 q2081 q2082 q126 q2083 (XS.out (noH _)) <|
  r_iload_n (k := 2) dX1_told_60 rfl <|
  r_cV (Z := mX7_after) (ci := 7) (q := (RX7, TX7, 5)) dX1_told_61 rfl (by decide +kernel) ⟨by decide, by decide⟩ (by decide) rfl rfl q2047 q2048 q2049 q126 q2050 (XS.out (noH _)) <|
  r_iload_n (k := 1) dX1_told_64 rfl <|
  r_cV (Z := mX7_have) (ci := 7) (q := (RX7, TX7, 5)) dX1_told_65 rfl (by decide +kernel) ⟨by decide, by decide⟩ (by decide) rfl rfl q2084 q2085 q2086 q126 q2087 (XS.out (noH _)) <|
  r_if_eq (pt := 75) dX1_told_68 (by decide)
  (r_iinc (v := (-1)) dX1_told_75 rfl <|
  r_goto (pt := 32) dX1_told_78 (by decide) <|
  (fun _ _ _ H => H))
  (r_iload dX1_told_71 <|
  r_istore dX1_told_73 <|
  r_iinc (v := (-1)) dX1_told_75 rfl <|
  r_goto (pt := 32) dX1_told_78 (by decide) <|
  (fun _ _ _ H => H)))
  (r_goto (pt := 75) dX1_told_50 (by decide) <|
  r_iinc (v := (-1)) dX1_told_75 rfl <|
  r_goto (pt := 32) dX1_told_78 (by decide) <|
  (fun _ _ _ H => H)))
-- CheekTown.colds(II)I cuts [0]
def tX1_colds_0 (d : Nat) (Q : Outcome → MH → Prop) (J : Nat → KT) : KT :=
  i_iload 2 <|
  i_const 0 <|
  i_const 20 <|
  i_call mX1_in d 3 pS (xOut Q) <|
  i_call mX1_demand d 1 pS (xOut Q) <|
  i_aload 0 <|
  i_aload 0 <|
  i_iload 1 <|
  i_call mX1_allOf d 2 (pV 1) (xOut Q) <|
  i_iload 2 <|
  i_call mX1_coldsBy d 3 (pV 1) (xOut Q) <|
  i_ret Q (some .int)
theorem kX1_colds_0 {d : Nat} {Q : Outcome → MH → Prop} : ∀ ls st h, tX1_colds_0 d Q (fun pc ls st h => WPb mX1_colds d pc ls st h Q) ls st h → WPb mX1_colds d 0 ls st h Q :=
  r_iload_n (k := 2) dX1_colds_0 rfl <|
  r_iconst (v := 0) dX1_colds_1 rfl <|
  r_bipush (v := 20) dX1_colds_2 rfl <|
  r_cS (Z := mX1_in) dX1_colds_4 rfl (by decide +kernel) ⟨by decide, by decide⟩ q600 q601 q117 q602 (XS.out (noH _)) <|
  r_cS (Z := mX1_demand) dX1_colds_7 rfl (by decide +kernel) ⟨by decide, by decide⟩ q1714 q1715 q117 q1716 (XS.out (noH _)) <|
  r_aload_n (k := 0) dX1_colds_10 rfl <|
  r_aload_n (k := 0) dX1_colds_11 rfl <|
  r_iload_n (k := 1) dX1_colds_12 rfl <|
  r_cV (Z := mX1_allOf) (ci := 1) (q := (RX1, TX1, 13)) dX1_colds_13 rfl (by decide +kernel) ⟨by decide, by decide⟩ (by decide) rfl rfl q590 q592 qs5 q117 q593 (XS.out (noH _)) <|
  r_iload_n (k := 2) dX1_colds_16 rfl <|
  r_cV (Z := mX1_coldsBy) (ci := 1) (q := (RX1, TX1, 13)) dX1_colds_17 rfl (by decide +kernel) ⟨by decide, by decide⟩ (by decide) rfl rfl q2095 q2097 qs49 q117 q2098 (XS.out (noH _)) <|
  r_ret rfl (Or.inl ⟨dX1_colds_20, Or.inl rfl⟩)
-- CheekTown.coldsBy(II)I cuts [0, 14, 23]
def tX1_coldsBy_0 (d : Nat) (Q : Outcome → MH → Prop) (J : Nat → KT) : KT :=
  i_aload 0 <|
  i_getR 1 0 <|
  i_astore 3 <|
  i_aload 3 <|
  i_call mX2_colds d 1 (pV 2) (xOut Q) <|
  i_istore 4 <|
  i_const 0 <|
  i_istore 5 <|
  (J 14)
theorem kX1_coldsBy_0 {d : Nat} {Q : Outcome → MH → Prop} : ∀ ls st h, tX1_coldsBy_0 d Q (fun pc ls st h => WPb mX1_coldsBy d pc ls st h Q) ls st h → WPb mX1_coldsBy d 0 ls st h Q :=
  r_aload_n (k := 0) dX1_coldsBy_0 rfl <|
  r_getR (ci := 1) (q := (RX1, TX1, 13)) (k := 0) dX1_coldsBy_1 (by decide) rfl in_X1 (by decide) (Or.inl q465) rfl <|
  r_astore_n (k := 3) dX1_coldsBy_4 rfl <|
  r_aload_n (k := 3) dX1_coldsBy_5 rfl <|
  r_cV (Z := mX2_colds) (ci := 2) (q := (RX2, TX2, 31)) dX1_coldsBy_6 rfl (by decide +kernel) ⟨by decide, by decide⟩ (by decide) rfl rfl q1106 q1107 q1108 q118 q1109 (XS.out (noH _)) <|
  r_istore dX1_coldsBy_9 <|
  r_iconst (v := 0) dX1_coldsBy_11 rfl <|
  r_istore dX1_coldsBy_12 <|
  (fun _ _ _ H => H)
def tX1_coldsBy_14 (d : Nat) (Q : Outcome → MH → Prop) (J : Nat → KT) : KT :=
  i_iload 5 <|
  i_iload 2 <|
  i_icmp_ge
  (i_iload 4 <|
  i_ret Q (some .int))
  (i_const 0 <|
  i_istore 6 <|
  (J 23))
theorem kX1_coldsBy_14 {d : Nat} {Q : Outcome → MH → Prop} : ∀ ls st h, tX1_coldsBy_14 d Q (fun pc ls st h => WPb mX1_coldsBy d pc ls st h Q) ls st h → WPb mX1_coldsBy d 14 ls st h Q :=
  r_iload dX1_coldsBy_14 <|
  r_iload_n (k := 2) dX1_coldsBy_16 rfl <|
  r_icmp_ge (pt := 87) dX1_coldsBy_17 (by decide)
  (r_iload dX1_coldsBy_87 <|
  r_ret rfl (Or.inl ⟨dX1_coldsBy_89, Or.inl rfl⟩))
  (r_iconst (v := 0) dX1_coldsBy_20 rfl <|
  r_istore dX1_coldsBy_21 <|
  (fun _ _ _ H => H))
def tX1_coldsBy_23 (d : Nat) (Q : Outcome → MH → Prop) (J : Nat → KT) : KT :=
  i_iload 6 <|
  i_aload 3 <|
  i_getI 2 4 <|
  i_icmp_ge
  (i_iinc 5 1 <|
  (J 14))
  (i_const 1 <|
  i_aload 3 <|
  i_getR 2 27 <|
  i_iload 6 <|
  i_iald <|
  i_ishl <|
  i_const 1 <|
  i_aload 3 <|
  i_getR 2 28 <|
  i_iload 6 <|
  i_iald <|
  i_ishl <|
  i_ior <|
  i_istore 7 <|
  i_iload 7 <|
  i_iload 1 <|
  i_iand <|
  i_if_ne
  (i_iinc 6 1 <|
  (J 23))
  (i_iload 7 <|
  i_iload 4 <|
  i_iand <|
  i_if_eq
  (i_iinc 6 1 <|
  (J 23))
  (i_iload 4 <|
  i_iload 7 <|
  i_ior <|
  i_istore 4 <|
  i_iinc 6 1 <|
  (J 23))))
theorem kX1_coldsBy_23 {d : Nat} {Q : Outcome → MH → Prop} : ∀ ls st h, tX1_coldsBy_23 d Q (fun pc ls st h => WPb mX1_coldsBy d pc ls st h Q) ls st h → WPb mX1_coldsBy d 23 ls st h Q :=
  r_iload dX1_coldsBy_23 <|
  r_aload_n (k := 3) dX1_coldsBy_25 rfl <|
  r_getI (ci := 2) (q := (RX2, TX2, 31)) (k := 4) dX1_coldsBy_26 (by decide) rfl in_X2 (by decide) (Or.inr (Or.inl ⟨_, q190⟩)) rfl <|
  r_icmp_ge (pt := 81) dX1_coldsBy_29 (by decide)
  (r_iinc (v := 1) dX1_coldsBy_81 rfl <|
  r_goto (pt := 14) dX1_coldsBy_84 (by decide) <|
  (fun _ _ _ H => H))
  (r_iconst (v := 1) dX1_coldsBy_32 rfl <|
  r_aload_n (k := 3) dX1_coldsBy_33 rfl <|
  r_getR (ci := 2) (q := (RX2, TX2, 31)) (k := 27) dX1_coldsBy_34 (by decide) rfl in_X2 (by decide) (Or.inr (Or.inl ⟨_, q239⟩)) rfl <|
  r_iload dX1_coldsBy_37 <|
  r_iald dX1_coldsBy_39 <|
  r_ishl dX1_coldsBy_40 <|
  r_iconst (v := 1) dX1_coldsBy_41 rfl <|
  r_aload_n (k := 3) dX1_coldsBy_42 rfl <|
  r_getR (ci := 2) (q := (RX2, TX2, 31)) (k := 28) dX1_coldsBy_43 (by decide) rfl in_X2 (by decide) (Or.inr (Or.inl ⟨_, q242⟩)) rfl <|
  r_iload dX1_coldsBy_46 <|
  r_iald dX1_coldsBy_48 <|
  r_ishl dX1_coldsBy_49 <|
  r_ior dX1_coldsBy_50 <|
  r_istore dX1_coldsBy_51 <|
  r_iload dX1_coldsBy_53 <|
  r_iload_n (k := 1) dX1_coldsBy_55 rfl <|
  r_iand dX1_coldsBy_56 <|
  r_if_ne (pt := 75) dX1_coldsBy_57 (by decide)
  (r_iinc (v := 1) dX1_coldsBy_75 rfl <|
  r_goto (pt := 23) dX1_coldsBy_78 (by decide) <|
  (fun _ _ _ H => H))
  (r_iload dX1_coldsBy_60 <|
  r_iload dX1_coldsBy_62 <|
  r_iand dX1_coldsBy_64 <|
  r_if_eq (pt := 75) dX1_coldsBy_65 (by decide)
  (r_iinc (v := 1) dX1_coldsBy_75 rfl <|
  r_goto (pt := 23) dX1_coldsBy_78 (by decide) <|
  (fun _ _ _ H => H))
  (r_iload dX1_coldsBy_68 <|
  r_iload dX1_coldsBy_70 <|
  r_ior dX1_coldsBy_72 <|
  r_istore dX1_coldsBy_73 <|
  r_iinc (v := 1) dX1_coldsBy_75 rfl <|
  r_goto (pt := 23) dX1_coldsBy_78 (by decide) <|
  (fun _ _ _ H => H))))
-- CheekTown.spared(II)I cuts [0, 51]
def tX1_spared_0 (d : Nat) (Q : Outcome → MH → Prop) (J : Nat → KT) : KT :=
  i_aload 0 <|
  i_iload 1 <|
  i_call mX1_personAt d 2 (pV 1) (xOut Q) <|
  i_iload 2 <|
  i_const 0 <|
  i_const 20 <|
  i_call mX1_in d 3 pS (xOut Q) <|
  i_call mX1_demand d 1 pS (xOut Q) <|
  i_aload 0 <|
  i_getR 1 0 <|
  i_getR 2 22 <|
  i_iload 1 <|
  i_zald <|
  i_if_eq
  (i_const 1 <|
  i_aload 0 <|
  i_getR 1 0 <|
  i_getI 2 3 <|
  i_ishl <|
  i_const 1 <|
  i_isub <|
  i_const 1 <|
  i_iload 1 <|
  i_ishl <|
  i_const (-1) <|
  i_ixor <|
  i_iand <|
  i_istore 3 <|
  i_iload 3 <|
  i_istore 4 <|
  (J 51))
  (i_const (-2) <|
  i_ret Q (some .int))
theorem kX1_spared_0 {d : Nat} {Q : Outcome → MH → Prop} : ∀ ls st h, tX1_spared_0 d Q (fun pc ls st h => WPb mX1_spared d pc ls st h Q) ls st h → WPb mX1_spared d 0 ls st h Q :=
  r_aload_n (k := 0) dX1_spared_0 rfl <|
  r_iload_n (k := 1) dX1_spared_1 rfl <|
  r_cV (Z := mX1_personAt) (ci := 1) (q := (RX1, TX1, 13)) dX1_spared_2 rfl (by decide +kernel) ⟨by decide, by decide⟩ (by decide) rfl rfl q1676 q1678 qs34 q117 q1679 (XS.out (noH _)) <|
  r_iload_n (k := 2) dX1_spared_5 rfl <|
  r_iconst (v := 0) dX1_spared_6 rfl <|
  r_bipush (v := 20) dX1_spared_7 rfl <|
  r_cS (Z := mX1_in) dX1_spared_9 rfl (by decide +kernel) ⟨by decide, by decide⟩ q600 q601 q117 q602 (XS.out (noH _)) <|
  r_cS (Z := mX1_demand) dX1_spared_12 rfl (by decide +kernel) ⟨by decide, by decide⟩ q1714 q1715 q117 q1716 (XS.out (noH _)) <|
  r_aload_n (k := 0) dX1_spared_15 rfl <|
  r_getR (ci := 1) (q := (RX1, TX1, 13)) (k := 0) dX1_spared_16 (by decide) rfl in_X1 (by decide) (Or.inl q465) rfl <|
  r_getR (ci := 2) (q := (RX2, TX2, 31)) (k := 22) dX1_spared_19 (by decide) rfl in_X2 (by decide) (Or.inr (Or.inl ⟨_, q228⟩)) rfl <|
  r_iload_n (k := 1) dX1_spared_22 rfl <|
  r_zald dX1_spared_23 <|
  r_if_eq (pt := 30) dX1_spared_24 (by decide)
  (r_iconst (v := 1) dX1_spared_30 rfl <|
  r_aload_n (k := 0) dX1_spared_31 rfl <|
  r_getR (ci := 1) (q := (RX1, TX1, 13)) (k := 0) dX1_spared_32 (by decide) rfl in_X1 (by decide) (Or.inl q465) rfl <|
  r_getI (ci := 2) (q := (RX2, TX2, 31)) (k := 3) dX1_spared_35 (by decide) rfl in_X2 (by decide) (Or.inr (Or.inl ⟨_, q187⟩)) rfl <|
  r_ishl dX1_spared_38 <|
  r_iconst (v := 1) dX1_spared_39 rfl <|
  r_isub dX1_spared_40 <|
  r_iconst (v := 1) dX1_spared_41 rfl <|
  r_iload_n (k := 1) dX1_spared_42 rfl <|
  r_ishl dX1_spared_43 <|
  r_iconst (v := (-1)) dX1_spared_44 rfl <|
  r_ixor dX1_spared_45 <|
  r_iand dX1_spared_46 <|
  r_istore_n (k := 3) dX1_spared_47 rfl <|
  r_iload_n (k := 3) dX1_spared_48 rfl <|
  r_istore dX1_spared_49 <|
  (fun _ _ _ H => H))
  (r_bipush (v := (-2)) dX1_spared_27 rfl <|
  r_ret rfl (Or.inl ⟨dX1_spared_29, Or.inl rfl⟩))
def tX1_spared_51 (d : Nat) (Q : Outcome → MH → Prop) (J : Nat → KT) : KT :=
  i_iload 4 <|
  i_if_lt
  (i_iload 3 <|
  i_ret Q (some .int))
  (i_iload 4 <|
  i_iload 1 <|
  i_call mX1_has d 2 pS (xOut Q) <|
  i_if_ne
  (i_iinc 4 (-1) <|
  (J 51))
  (i_iload 4 <|
  i_call mJ16_bitCount d 1 pS (xOut Q) <|
  i_iload 3 <|
  i_call mJ16_bitCount d 1 pS (xOut Q) <|
  i_icmp_le
  (i_aload 0 <|
  i_iload 4 <|
  i_iload 2 <|
  i_call mX1_coldsBy d 3 (pV 1) (xOut Q) <|
  i_iload 1 <|
  i_call mX1_has d 2 pS (xOut Q) <|
  i_if_ne
  (i_iinc 4 (-1) <|
  (J 51))
  (i_iload 4 <|
  i_istore 3 <|
  i_iinc 4 (-1) <|
  (J 51)))
  (i_iinc 4 (-1) <|
  (J 51))))
theorem kX1_spared_51 {d : Nat} {Q : Outcome → MH → Prop} : ∀ ls st h, tX1_spared_51 d Q (fun pc ls st h => WPb mX1_spared d pc ls st h Q) ls st h → WPb mX1_spared d 51 ls st h Q :=
  r_iload dX1_spared_51 <|
  r_if_lt (pt := 103) dX1_spared_53 (by decide)
  (r_iload_n (k := 3) dX1_spared_103 rfl <|
  r_ret rfl (Or.inl ⟨dX1_spared_104, Or.inl rfl⟩))
  (r_iload dX1_spared_56 <|
  r_iload_n (k := 1) dX1_spared_58 rfl <|
  r_cS (Z := mX1_has) dX1_spared_59 rfl (by decide +kernel) ⟨by decide, by decide⟩ q1921 q608 q117 q609 (XS.out (noH _)) <|
  r_if_ne (pt := 97) dX1_spared_62 (by decide)
  (r_iinc (v := (-1)) dX1_spared_97 rfl <|
  r_goto (pt := 51) dX1_spared_100 (by decide) <|
  (fun _ _ _ H => H))
  (r_iload dX1_spared_65 <|
  r_cS (Z := mJ16_bitCount) dX1_spared_67 rfl (by decide +kernel) ⟨by decide, by decide⟩ q594 q595 q143 q596 (XS.out (noH _)) <|
  r_iload_n (k := 3) dX1_spared_70 rfl <|
  r_cS (Z := mJ16_bitCount) dX1_spared_71 rfl (by decide +kernel) ⟨by decide, by decide⟩ q594 q595 q143 q596 (XS.out (noH _)) <|
  r_icmp_le (pt := 80) dX1_spared_74 (by decide)
  (r_aload_n (k := 0) dX1_spared_80 rfl <|
  r_iload dX1_spared_81 <|
  r_iload_n (k := 2) dX1_spared_83 rfl <|
  r_cV (Z := mX1_coldsBy) (ci := 1) (q := (RX1, TX1, 13)) dX1_spared_84 rfl (by decide +kernel) ⟨by decide, by decide⟩ (by decide) rfl rfl q2095 q2097 qs49 q117 q2098 (XS.out (noH _)) <|
  r_iload_n (k := 1) dX1_spared_87 rfl <|
  r_cS (Z := mX1_has) dX1_spared_88 rfl (by decide +kernel) ⟨by decide, by decide⟩ q1921 q608 q117 q609 (XS.out (noH _)) <|
  r_if_ne (pt := 97) dX1_spared_91 (by decide)
  (r_iinc (v := (-1)) dX1_spared_97 rfl <|
  r_goto (pt := 51) dX1_spared_100 (by decide) <|
  (fun _ _ _ H => H))
  (r_iload dX1_spared_94 <|
  r_istore_n (k := 3) dX1_spared_96 rfl <|
  r_iinc (v := (-1)) dX1_spared_97 rfl <|
  r_goto (pt := 51) dX1_spared_100 (by decide) <|
  (fun _ _ _ H => H)))
  (r_goto (pt := 97) dX1_spared_77 (by decide) <|
  r_iinc (v := (-1)) dX1_spared_97 rfl <|
  r_goto (pt := 51) dX1_spared_100 (by decide) <|
  (fun _ _ _ H => H))))
-- CheekTown.trial(II)I cuts [0]
def tX1_trial_0 (d : Nat) (Q : Outcome → MH → Prop) (J : Nat → KT) : KT :=
  i_iload 1 <|
  i_const 0 <|
  i_const 20 <|
  i_call mX1_in d 3 pS (xOut Q) <|
  i_call mX1_demand d 1 pS (xOut Q) <|
  i_iload 2 <|
  i_const 3 <|
  i_call mX1_question d 2 pS (xOut Q) <|
  i_aload 0 <|
  i_getR 1 12 <|
  i_aload 0 <|
  i_getR 1 0 <|
  i_call mX2_likens d 2 (pV 2) (xOut Q) <|
  i_pop <|
  i_aload 0 <|
  i_iload 1 <|
  i_call mX1_tries d 2 (pV 1) (xOut Q) <|
  i_istore 3 <|
  i_iload 2 <|
  i_sw [(0, i_iload 3 <|
  i_ret Q (some .int)),
  (1, i_aload 0 <|
  i_getR 1 12 <|
  i_getI 2 8 <|
  i_aload 0 <|
  i_getR 1 0 <|
  i_getI 2 8 <|
  i_isub <|
  i_ret Q (some .int)),
  (2, i_aload 0 <|
  i_aload 0 <|
  i_getR 1 12 <|
  i_call mX1_owns d 2 (pV 1) (xOut Q) <|
  i_ret Q (some .int))]
  (i_aload 0 <|
  i_getR 1 12 <|
  i_call mX2_colds d 1 (pV 2) (xOut Q) <|
  i_ret Q (some .int))
theorem kX1_trial_0 {d : Nat} {Q : Outcome → MH → Prop} : ∀ ls st h, tX1_trial_0 d Q (fun pc ls st h => WPb mX1_trial d pc ls st h Q) ls st h → WPb mX1_trial d 0 ls st h Q :=
  r_iload_n (k := 1) dX1_trial_0 rfl <|
  r_iconst (v := 0) dX1_trial_1 rfl <|
  r_bipush (v := 20) dX1_trial_2 rfl <|
  r_cS (Z := mX1_in) dX1_trial_4 rfl (by decide +kernel) ⟨by decide, by decide⟩ q600 q601 q117 q602 (XS.out (noH _)) <|
  r_cS (Z := mX1_demand) dX1_trial_7 rfl (by decide +kernel) ⟨by decide, by decide⟩ q1714 q1715 q117 q1716 (XS.out (noH _)) <|
  r_iload_n (k := 2) dX1_trial_10 rfl <|
  r_iconst (v := 3) dX1_trial_11 rfl <|
  r_cS (Z := mX1_question) dX1_trial_12 rfl (by decide +kernel) ⟨by decide, by decide⟩ q1680 q1681 q117 q1682 (XS.out (noH _)) <|
  r_aload_n (k := 0) dX1_trial_15 rfl <|
  r_getR (ci := 1) (q := (RX1, TX1, 13)) (k := 12) dX1_trial_16 (by decide) rfl in_X1 (by decide) (Or.inl q480) rfl <|
  r_aload_n (k := 0) dX1_trial_19 rfl <|
  r_getR (ci := 1) (q := (RX1, TX1, 13)) (k := 0) dX1_trial_20 (by decide) rfl in_X1 (by decide) (Or.inl q465) rfl <|
  r_cV (Z := mX2_likens) (ci := 2) (q := (RX2, TX2, 31)) dX1_trial_23 rfl (by decide +kernel) ⟨by decide, by decide⟩ (by decide) rfl rfl q1082 q1083 q1084 q118 q1085 (XS.out (noH _)) <|
  r_pop dX1_trial_26 <|
  r_aload_n (k := 0) dX1_trial_27 rfl <|
  r_iload_n (k := 1) dX1_trial_28 rfl <|
  r_cV (Z := mX1_tries) (ci := 1) (q := (RX1, TX1, 13)) dX1_trial_29 rfl (by decide +kernel) ⟨by decide, by decide⟩ (by decide) rfl rfl q2113 q2115 qs50 q117 q2116 (XS.out (noH _)) <|
  r_istore_n (k := 3) dX1_trial_32 rfl <|
  r_iload_n (k := 2) dX1_trial_33 rfl <|
  r_tsw (tl := [(0, 60), (1, 62), (2, 78)]) (td := 87) dX1_trial_34 (by decide +kernel) (by decide) (by decide +kernel) (by decide) (sw_cons (r_iload_n (k := 3) dX1_trial_60 rfl <|
  r_ret rfl (Or.inl ⟨dX1_trial_61, Or.inl rfl⟩))
  (sw_cons (r_aload_n (k := 0) dX1_trial_62 rfl <|
  r_getR (ci := 1) (q := (RX1, TX1, 13)) (k := 12) dX1_trial_63 (by decide) rfl in_X1 (by decide) (Or.inl q480) rfl <|
  r_getI (ci := 2) (q := (RX2, TX2, 31)) (k := 8) dX1_trial_66 (by decide) rfl in_X2 (by decide) (Or.inr (Or.inl ⟨_, q198⟩)) rfl <|
  r_aload_n (k := 0) dX1_trial_69 rfl <|
  r_getR (ci := 1) (q := (RX1, TX1, 13)) (k := 0) dX1_trial_70 (by decide) rfl in_X1 (by decide) (Or.inl q465) rfl <|
  r_getI (ci := 2) (q := (RX2, TX2, 31)) (k := 8) dX1_trial_73 (by decide) rfl in_X2 (by decide) (Or.inr (Or.inl ⟨_, q198⟩)) rfl <|
  r_isub dX1_trial_76 <|
  r_ret rfl (Or.inl ⟨dX1_trial_77, Or.inl rfl⟩))
  (sw_cons (r_aload_n (k := 0) dX1_trial_78 rfl <|
  r_aload_n (k := 0) dX1_trial_79 rfl <|
  r_getR (ci := 1) (q := (RX1, TX1, 13)) (k := 12) dX1_trial_80 (by decide) rfl in_X1 (by decide) (Or.inl q480) rfl <|
  r_cV (Z := mX1_owns) (ci := 1) (q := (RX1, TX1, 13)) dX1_trial_83 rfl (by decide +kernel) ⟨by decide, by decide⟩ (by decide) rfl rfl q2117 q2119 qs51 q117 q2120 (XS.out (noH _)) <|
  r_ret rfl (Or.inl ⟨dX1_trial_86, Or.inl rfl⟩))
  (sw_nil (r_aload_n (k := 0) dX1_trial_87 rfl <|
  r_getR (ci := 1) (q := (RX1, TX1, 13)) (k := 12) dX1_trial_88 (by decide) rfl in_X1 (by decide) (Or.inl q480) rfl <|
  r_cV (Z := mX2_colds) (ci := 2) (q := (RX2, TX2, 31)) dX1_trial_91 rfl (by decide +kernel) ⟨by decide, by decide⟩ (by decide) rfl rfl q1106 q1107 q1108 q118 q1109 (XS.out (noH _)) <|
  r_ret rfl (Or.inl ⟨dX1_trial_94, Or.inl rfl⟩))))))
-- CheekTown.tries(I)I cuts [0, 4]
def tX1_tries_0 (d : Nat) (Q : Outcome → MH → Prop) (J : Nat → KT) : KT :=
  i_const 0 <|
  i_istore 2 <|
  i_const 0 <|
  i_istore 3 <|
  (J 4)
theorem kX1_tries_0 {d : Nat} {Q : Outcome → MH → Prop} : ∀ ls st h, tX1_tries_0 d Q (fun pc ls st h => WPb mX1_tries d pc ls st h Q) ls st h → WPb mX1_tries d 0 ls st h Q :=
  r_iconst (v := 0) dX1_tries_0 rfl <|
  r_istore_n (k := 2) dX1_tries_1 rfl <|
  r_iconst (v := 0) dX1_tries_2 rfl <|
  r_istore_n (k := 3) dX1_tries_3 rfl <|
  (fun _ _ _ H => H)
def tX1_tries_4 (d : Nat) (Q : Outcome → MH → Prop) (J : Nat → KT) : KT :=
  i_iload 3 <|
  i_iload 1 <|
  i_icmp_ge
  (i_iload 2 <|
  i_ret Q (some .int))
  (i_iload 2 <|
  i_aload 0 <|
  i_aload 0 <|
  i_getR 1 12 <|
  i_call mX1_round d 2 (pV 1) (xOut Q) <|
  i_iadd <|
  i_istore 2 <|
  i_iinc 3 1 <|
  (J 4))
theorem kX1_tries_4 {d : Nat} {Q : Outcome → MH → Prop} : ∀ ls st h, tX1_tries_4 d Q (fun pc ls st h => WPb mX1_tries d pc ls st h Q) ls st h → WPb mX1_tries d 4 ls st h Q :=
  r_iload_n (k := 3) dX1_tries_4 rfl <|
  r_iload_n (k := 1) dX1_tries_5 rfl <|
  r_icmp_ge (pt := 26) dX1_tries_6 (by decide)
  (r_iload_n (k := 2) dX1_tries_26 rfl <|
  r_ret rfl (Or.inl ⟨dX1_tries_27, Or.inl rfl⟩))
  (r_iload_n (k := 2) dX1_tries_9 rfl <|
  r_aload_n (k := 0) dX1_tries_10 rfl <|
  r_aload_n (k := 0) dX1_tries_11 rfl <|
  r_getR (ci := 1) (q := (RX1, TX1, 13)) (k := 12) dX1_tries_12 (by decide) rfl in_X1 (by decide) (Or.inl q480) rfl <|
  r_cV (Z := mX1_round) (ci := 1) (q := (RX1, TX1, 13)) dX1_tries_15 rfl (by decide +kernel) ⟨by decide, by decide⟩ (by decide) rfl rfl q1862 q1864 qs44 q117 q1865 (XS.out (noH _)) <|
  r_iadd dX1_tries_18 <|
  r_istore_n (k := 2) dX1_tries_19 rfl <|
  r_iinc (v := 1) dX1_tries_20 rfl <|
  r_goto (pt := 4) dX1_tries_23 (by decide) <|
  (fun _ _ _ H => H))
-- CheekTown.owns(LCheekTown$World;)I cuts [0, 4]
def tX1_owns_0 (d : Nat) (Q : Outcome → MH → Prop) (J : Nat → KT) : KT :=
  i_const 0 <|
  i_istore 2 <|
  i_const 0 <|
  i_istore 3 <|
  (J 4)
theorem kX1_owns_0 {d : Nat} {Q : Outcome → MH → Prop} : ∀ ls st h, tX1_owns_0 d Q (fun pc ls st h => WPb mX1_owns d pc ls st h Q) ls st h → WPb mX1_owns d 0 ls st h Q :=
  r_iconst (v := 0) dX1_owns_0 rfl <|
  r_istore_n (k := 2) dX1_owns_1 rfl <|
  r_iconst (v := 0) dX1_owns_2 rfl <|
  r_istore_n (k := 3) dX1_owns_3 rfl <|
  (fun _ _ _ H => H)
def tX1_owns_4 (d : Nat) (Q : Outcome → MH → Prop) (J : Nat → KT) : KT :=
  i_iload 3 <|
  i_aload 1 <|
  i_getI 2 3 <|
  i_icmp_ge
  (i_iload 2 <|
  i_call mJ16_bitCount d 1 pS (xOut Q) <|
  i_ret Q (some .int))
  (i_iload 2 <|
  i_const 1 <|
  i_aload 1 <|
  i_getR 2 19 <|
  i_iload 3 <|
  i_iald <|
  i_ishl <|
  i_ior <|
  i_istore 2 <|
  i_iinc 3 1 <|
  (J 4))
theorem kX1_owns_4 {d : Nat} {Q : Outcome → MH → Prop} : ∀ ls st h, tX1_owns_4 d Q (fun pc ls st h => WPb mX1_owns d pc ls st h Q) ls st h → WPb mX1_owns d 4 ls st h Q :=
  r_iload_n (k := 3) dX1_owns_4 rfl <|
  r_aload_n (k := 1) dX1_owns_5 rfl <|
  r_getI (ci := 2) (q := (RX2, TX2, 31)) (k := 3) dX1_owns_6 (by decide) rfl in_X2 (by decide) (Or.inr (Or.inl ⟨_, q187⟩)) rfl <|
  r_icmp_ge (pt := 29) dX1_owns_9 (by decide)
  (r_iload_n (k := 2) dX1_owns_29 rfl <|
  r_cS (Z := mJ16_bitCount) dX1_owns_30 rfl (by decide +kernel) ⟨by decide, by decide⟩ q594 q595 q143 q596 (XS.out (noH _)) <|
  r_ret rfl (Or.inl ⟨dX1_owns_33, Or.inl rfl⟩))
  (r_iload_n (k := 2) dX1_owns_12 rfl <|
  r_iconst (v := 1) dX1_owns_13 rfl <|
  r_aload_n (k := 1) dX1_owns_14 rfl <|
  r_getR (ci := 2) (q := (RX2, TX2, 31)) (k := 19) dX1_owns_15 (by decide) rfl in_X2 (by decide) (Or.inr (Or.inl ⟨_, q222⟩)) rfl <|
  r_iload_n (k := 3) dX1_owns_18 rfl <|
  r_iald dX1_owns_19 <|
  r_ishl dX1_owns_20 <|
  r_ior dX1_owns_21 <|
  r_istore_n (k := 2) dX1_owns_22 rfl <|
  r_iinc (v := 1) dX1_owns_23 rfl <|
  r_goto (pt := 4) dX1_owns_26 (by decide) <|
  (fun _ _ _ H => H))
-- CheekTown.span(IZ)I cuts [0, 15]
def tX1_span_0 (d : Nat) (Q : Outcome → MH → Prop) (J : Nat → KT) : KT :=
  i_iload 1 <|
  i_const 0 <|
  i_const 20 <|
  i_call mX1_in d 3 pS (xOut Q) <|
  i_call mX1_demand d 1 pS (xOut Q) <|
  i_const (-1) <|
  i_istore 3 <|
  i_const 1 <|
  i_istore 4 <|
  (J 15)
theorem kX1_span_0 {d : Nat} {Q : Outcome → MH → Prop} : ∀ ls st h, tX1_span_0 d Q (fun pc ls st h => WPb mX1_span d pc ls st h Q) ls st h → WPb mX1_span d 0 ls st h Q :=
  r_iload_n (k := 1) dX1_span_0 rfl <|
  r_iconst (v := 0) dX1_span_1 rfl <|
  r_bipush (v := 20) dX1_span_2 rfl <|
  r_cS (Z := mX1_in) dX1_span_4 rfl (by decide +kernel) ⟨by decide, by decide⟩ q600 q601 q117 q602 (XS.out (noH _)) <|
  r_cS (Z := mX1_demand) dX1_span_7 rfl (by decide +kernel) ⟨by decide, by decide⟩ q1714 q1715 q117 q1716 (XS.out (noH _)) <|
  r_iconst (v := (-1)) dX1_span_10 rfl <|
  r_istore_n (k := 3) dX1_span_11 rfl <|
  r_iconst (v := 1) dX1_span_12 rfl <|
  r_istore dX1_span_13 <|
  (fun _ _ _ H => H)
def tX1_span_15 (d : Nat) (Q : Outcome → MH → Prop) (J : Nat → KT) : KT :=
  i_iload 4 <|
  i_const 6 <|
  i_icmp_gt
  (i_iload 3 <|
  i_ret Q (some .int))
  (i_aload 0 <|
  i_getR 1 12 <|
  i_aload 0 <|
  i_getR 1 0 <|
  i_call mX2_likens d 2 (pV 2) (xOut Q) <|
  i_pop <|
  i_aload 0 <|
  i_getR 1 12 <|
  i_iload 4 <|
  i_putI 2 14 .int <|
  i_aload 0 <|
  i_iload 1 <|
  i_call mX1_tries d 2 (pV 1) (xOut Q) <|
  i_istore 5 <|
  i_iload 3 <|
  i_const (-1) <|
  i_icmp_ne
  (i_iload 2 <|
  i_if_eq
  (i_iload 3 <|
  i_iload 5 <|
  i_mmin d <|
  i_istore 3 <|
  i_iinc 4 1 <|
  (J 15))
  (i_iload 3 <|
  i_iload 5 <|
  i_mmax d <|
  i_istore 3 <|
  i_iinc 4 1 <|
  (J 15)))
  (i_iload 5 <|
  i_istore 3 <|
  i_iinc 4 1 <|
  (J 15)))
theorem kX1_span_15 {d : Nat} {Q : Outcome → MH → Prop} : ∀ ls st h, tX1_span_15 d Q (fun pc ls st h => WPb mX1_span d pc ls st h Q) ls st h → WPb mX1_span d 15 ls st h Q :=
  r_iload dX1_span_15 <|
  r_bipush (v := 6) dX1_span_17 rfl <|
  r_icmp_gt (pt := 86) dX1_span_19 (by decide)
  (r_iload_n (k := 3) dX1_span_86 rfl <|
  r_ret rfl (Or.inl ⟨dX1_span_87, Or.inl rfl⟩))
  (r_aload_n (k := 0) dX1_span_22 rfl <|
  r_getR (ci := 1) (q := (RX1, TX1, 13)) (k := 12) dX1_span_23 (by decide) rfl in_X1 (by decide) (Or.inl q480) rfl <|
  r_aload_n (k := 0) dX1_span_26 rfl <|
  r_getR (ci := 1) (q := (RX1, TX1, 13)) (k := 0) dX1_span_27 (by decide) rfl in_X1 (by decide) (Or.inl q465) rfl <|
  r_cV (Z := mX2_likens) (ci := 2) (q := (RX2, TX2, 31)) dX1_span_30 rfl (by decide +kernel) ⟨by decide, by decide⟩ (by decide) rfl rfl q1082 q1083 q1084 q118 q1085 (XS.out (noH _)) <|
  r_pop dX1_span_33 <|
  r_aload_n (k := 0) dX1_span_34 rfl <|
  r_getR (ci := 1) (q := (RX1, TX1, 13)) (k := 12) dX1_span_35 (by decide) rfl in_X1 (by decide) (Or.inl q480) rfl <|
  r_iload dX1_span_38 <|
  r_putI (ci := 2) (q := (RX2, TX2, 31)) (k := 14) tyX2 tyX2_ok nmX2 dX1_span_40 (by decide) rfl in_X2 (by decide) (Or.inl ⟨rfl, (Or.inr (Or.inl ⟨_, q210⟩))⟩) rfl rfl <|
  r_aload_n (k := 0) dX1_span_43 rfl <|
  r_iload_n (k := 1) dX1_span_44 rfl <|
  r_cV (Z := mX1_tries) (ci := 1) (q := (RX1, TX1, 13)) dX1_span_45 rfl (by decide +kernel) ⟨by decide, by decide⟩ (by decide) rfl rfl q2113 q2115 qs50 q117 q2116 (XS.out (noH _)) <|
  r_istore dX1_span_48 <|
  r_iload_n (k := 3) dX1_span_50 rfl <|
  r_iconst (v := (-1)) dX1_span_51 rfl <|
  r_icmp_ne (pt := 60) dX1_span_52 (by decide)
  (r_iload_n (k := 2) dX1_span_60 rfl <|
  r_if_eq (pt := 73) dX1_span_61 (by decide)
  (r_iload_n (k := 3) dX1_span_73 rfl <|
  r_iload dX1_span_74 <|
  r_mmin dX1_span_76 q579 q580 q134 q581 <|
  r_istore_n (k := 3) dX1_span_79 rfl <|
  r_iinc (v := 1) dX1_span_80 rfl <|
  r_goto (pt := 15) dX1_span_83 (by decide) <|
  (fun _ _ _ H => H))
  (r_iload_n (k := 3) dX1_span_64 rfl <|
  r_iload dX1_span_65 <|
  r_mmax dX1_span_67 q560 q561 q134 q562 <|
  r_goto (pt := 79) dX1_span_70 (by decide) <|
  r_istore_n (k := 3) dX1_span_79 rfl <|
  r_iinc (v := 1) dX1_span_80 rfl <|
  r_goto (pt := 15) dX1_span_83 (by decide) <|
  (fun _ _ _ H => H)))
  (r_iload dX1_span_55 <|
  r_goto (pt := 79) dX1_span_57 (by decide) <|
  r_istore_n (k := 3) dX1_span_79 rfl <|
  r_iinc (v := 1) dX1_span_80 rfl <|
  r_goto (pt := 15) dX1_span_83 (by decide) <|
  (fun _ _ _ H => H)))
-- CheekTown.log(II)I cuts [0]
def tX1_log_0 (d : Nat) (Q : Outcome → MH → Prop) (J : Nat → KT) : KT :=
  i_iload 2 <|
  i_const 7 <|
  i_call mX1_question d 2 pS (xOut Q) <|
  i_iload 1 <|
  i_const 0 <|
  i_aload 0 <|
  i_getR 1 0 <|
  i_getI 2 10 <|
  i_const 1 <|
  i_isub <|
  i_call mX1_in d 3 pS (xOut Q) <|
  i_if_eq
  (i_const (-1) <|
  i_ret Q (some .int))
  (i_aload 0 <|
  i_iload 1 <|
  i_iload 2 <|
  i_call mX1_ofLog d 3 (pV 1) (xOut Q) <|
  i_ret Q (some .int))
theorem kX1_log_0 {d : Nat} {Q : Outcome → MH → Prop} : ∀ ls st h, tX1_log_0 d Q (fun pc ls st h => WPb mX1_log d pc ls st h Q) ls st h → WPb mX1_log d 0 ls st h Q :=
  r_iload_n (k := 2) dX1_log_0 rfl <|
  r_bipush (v := 7) dX1_log_1 rfl <|
  r_cS (Z := mX1_question) dX1_log_3 rfl (by decide +kernel) ⟨by decide, by decide⟩ q1680 q1681 q117 q1682 (XS.out (noH _)) <|
  r_iload_n (k := 1) dX1_log_6 rfl <|
  r_iconst (v := 0) dX1_log_7 rfl <|
  r_aload_n (k := 0) dX1_log_8 rfl <|
  r_getR (ci := 1) (q := (RX1, TX1, 13)) (k := 0) dX1_log_9 (by decide) rfl in_X1 (by decide) (Or.inl q465) rfl <|
  r_getI (ci := 2) (q := (RX2, TX2, 31)) (k := 10) dX1_log_12 (by decide) rfl in_X2 (by decide) (Or.inr (Or.inl ⟨_, q202⟩)) rfl <|
  r_iconst (v := 1) dX1_log_15 rfl <|
  r_isub dX1_log_16 <|
  r_cS (Z := mX1_in) dX1_log_17 rfl (by decide +kernel) ⟨by decide, by decide⟩ q600 q601 q117 q602 (XS.out (noH _)) <|
  r_if_eq (pt := 32) dX1_log_20 (by decide)
  (r_iconst (v := (-1)) dX1_log_32 rfl <|
  r_ret rfl (Or.inl ⟨dX1_log_33, Or.inl rfl⟩))
  (r_aload_n (k := 0) dX1_log_23 rfl <|
  r_iload_n (k := 1) dX1_log_24 rfl <|
  r_iload_n (k := 2) dX1_log_25 rfl <|
  r_cV (Z := mX1_ofLog) (ci := 1) (q := (RX1, TX1, 13)) dX1_log_26 rfl (by decide +kernel) ⟨by decide, by decide⟩ (by decide) rfl rfl q1047 q1049 qs8 q117 q1050 (XS.out (noH _)) <|
  r_goto (pt := 33) dX1_log_29 (by decide) <|
  r_ret rfl (Or.inl ⟨dX1_log_33, Or.inl rfl⟩))
