set_option maxRecDepth 100000
-- CheekTown$Kind.of(Ljava/lang/String;)LCheekTown$Kind; cuts [0, 9]
def tX10_of_0 (d : Nat) (Q : Outcome → MH → Prop) (J : Nat → KT) : KT :=
  i_call mX10_values d 0 pS (xOut Q) <|
  i_astore 1 <|
  i_aload 1 <|
  i_alen <|
  i_istore 2 <|
  i_const 0 <|
  i_istore 3 <|
  (J 9)
theorem kX10_of_0 {d : Nat} {Q : Outcome → MH → Prop} : ∀ ls st h, tX10_of_0 d Q (fun pc ls st h => WPb mX10_of d pc ls st h Q) ls st h → WPb mX10_of d 0 ls st h Q :=
  r_cS (Z := mX10_values) dX10_of_0 rfl (by decide +kernel) ⟨by decide, by decide⟩ q1297 q1298 q146 q1299 (XS.out (noH _)) <|
  r_astore_n (k := 1) dX10_of_3 rfl <|
  r_aload_n (k := 1) dX10_of_4 rfl <|
  r_alen dX10_of_5 <|
  r_istore_n (k := 2) dX10_of_6 rfl <|
  r_iconst (v := 0) dX10_of_7 rfl <|
  r_istore_n (k := 3) dX10_of_8 rfl <|
  (fun _ _ _ H => H)
def tX10_of_9 (d : Nat) (Q : Outcome → MH → Prop) (J : Nat → KT) : KT :=
  i_iload 3 <|
  i_iload 2 <|
  i_icmp_ge
  (i_null <|
  i_ret Q (some (.object "CheekTown$Kind")))
  (i_aload 1 <|
  i_iload 3 <|
  i_aald 5 <|
  i_astore 4 <|
  i_aload 4 <|
  i_getER 10 1 <|
  i_aload 0 <|
  i_call mJ5_equals d 2 (pV 24) (xOut Q) <|
  i_if_eq
  (i_iinc 3 1 <|
  (J 9))
  (i_aload 4 <|
  i_ret Q (some (.object "CheekTown$Kind"))))
theorem kX10_of_9 {d : Nat} {Q : Outcome → MH → Prop} : ∀ ls st h, tX10_of_9 d Q (fun pc ls st h => WPb mX10_of d pc ls st h Q) ls st h → WPb mX10_of d 9 ls st h Q :=
  r_iload_n (k := 3) dX10_of_9 rfl <|
  r_iload_n (k := 2) dX10_of_10 rfl <|
  r_icmp_ge (pt := 40) dX10_of_11 (by decide)
  (r_null dX10_of_40 <|
  r_ret rfl (Or.inr (Or.inr ⟨dX10_of_41, Or.inl ⟨_, rfl⟩⟩)))
  (r_aload_n (k := 1) dX10_of_14 rfl <|
  r_iload_n (k := 3) dX10_of_15 rfl <|
  r_aald (t := 5) (E := "CheekTown$Kind") (by decide) rfl dX10_of_16 <|
  r_astore dX10_of_17 <|
  r_aload dX10_of_19 <|
  r_getER (ci := 10) (q := (RX10, cx_TK, 2)) (k := 1) dX10_of_21 (by decide) rfl (by decide) q2782 rfl <|
  r_aload_n (k := 0) dX10_of_24 rfl <|
  r_cV (Z := mJ5_equals) (ci := 24) (q := (RJ5, TJ5, 4)) dX10_of_25 rfl (by decide +kernel) ⟨by decide, by decide⟩ (by decide) rfl rfl q1308 q1263 q1264 q131 q1265 (XS.out (noH _)) <|
  r_if_eq (pt := 34) dX10_of_28 (by decide)
  (r_iinc (v := 1) dX10_of_34 rfl <|
  r_goto (pt := 9) dX10_of_37 (by decide) <|
  (fun _ _ _ H => H))
  (r_aload dX10_of_31 <|
  r_ret rfl (Or.inr (Or.inr ⟨dX10_of_33, Or.inl ⟨_, rfl⟩⟩))))
-- CheekTown$Kind.values()[LCheekTown$Kind; cuts [0]
def tX10_values_0 (d : Nat) (Q : Outcome → MH → Prop) (J : Nat → KT) : KT :=
  i_sref 15 <|
  i_cln d 5 <|
  i_castA 5 <|
  i_ret Q (some (.array (.object "CheekTown$Kind")))
theorem kX10_values_0 {d : Nat} {Q : Outcome → MH → Prop} : ∀ ls st h, tX10_values_0 d Q (fun pc ls st h => WPb mX10_values d pc ls st h Q) ls st h → WPb mX10_values d 0 ls st h Q :=
  r_getsR (a := 15) (T := ("CheekTown$Kind", "$VALUES", "[LCheekTown$Kind;")) (by decide +kernel) (by decide) q1300 dX10_values_0 <|
  r_cln (t := 5) (ad := "[LCheekTown$Kind;") (E := "CheekTown$Kind") rfl (by decide +kernel) q1302 q1303 q726 q727 q1304 q1305 dX10_values_3 <|
  r_castA (t := 5) (nm := "[LCheekTown$Kind;") (by decide) (by decide +kernel) q1307 dX10_values_6 <|
  r_ret rfl (Or.inr (Or.inr ⟨dX10_values_9, Or.inr ⟨_, rfl⟩⟩))
-- CheekTown$Kind.code(II)I cuts [0]
def tX10_code_0 (d : Nat) (Q : Outcome → MH → Prop) (J : Nat → KT) : KT :=
  i_const 8 <|
  i_aload 0 <|
  i_call mJ17_ordinal d 1 (pV 10) (xOut Q) <|
  i_imul <|
  i_const 2 <|
  i_iload 1 <|
  i_const 1 <|
  i_isub <|
  i_imul <|
  i_iadd <|
  i_iload 2 <|
  i_iadd <|
  i_ret Q (some .int)
theorem kX10_code_0 {d : Nat} {Q : Outcome → MH → Prop} : ∀ ls st h, tX10_code_0 d Q (fun pc ls st h => WPb mX10_code d pc ls st h Q) ls st h → WPb mX10_code d 0 ls st h Q :=
  r_bipush (v := 8) dX10_code_0 rfl <|
  r_aload_n (k := 0) dX10_code_2 rfl <|
  r_cU (Z := mJ17_ordinal) (n := 0) (ci := 10) (q := (RX10, cx_TK, 2)) (owner := "java/lang/Enum") (x := ⟨"CheekTown$Kind", "ordinal", "()I"⟩) dX10_code_3 rfl (by decide +kernel) ⟨by decide, by decide⟩ (by decide) rfl rfl q1318 q546 q548 q549 q145 q550 (XS.out (noH _)) <|
  r_imul dX10_code_6 <|
  r_iconst (v := 2) dX10_code_7 rfl <|
  r_iload_n (k := 1) dX10_code_8 rfl <|
  r_iconst (v := 1) dX10_code_9 rfl <|
  r_isub dX10_code_10 <|
  r_imul dX10_code_11 <|
  r_iadd dX10_code_12 <|
  r_iload_n (k := 2) dX10_code_13 rfl <|
  r_iadd dX10_code_14 <|
  r_ret rfl (Or.inl ⟨dX10_code_15, Or.inl rfl⟩)
-- CheekTown$Law.<init>()V cuts [0]
def tX11_init_0 (d : Nat) (Q : Outcome → MH → Prop) (J : Nat → KT) : KT :=
  i_aload 0 <|
  i_obj d <|
  i_aload 0 <|
  i_new 22 3 <|
  i_dup <|
  i_call mJ2_init d 1 pI (xOut Q) <|
  i_putR 11 0 <|
  i_vret Q
theorem kX11_init_0 {d : Nat} {Q : Outcome → MH → Prop} : ∀ ls st h, tX11_init_0 d Q (fun pc ls st h => WPb mX11_init d pc ls st h Q) ls st h → WPb mX11_init d 0 ls st h Q :=
  r_aload_n (k := 0) dX11_init_0 rfl <|
  r_obj dX11_init_1 q1399 q170 q171 <|
  r_aload_n (k := 0) dX11_init_4 rfl <|
  r_new (ci := 22) (q := (RJ2, TJ2, 3)) tyJ2 tyJ2_ok (by decide) (by decide) (by decide) rfl rfl in_J2 q1400 q385 q123 dX11_init_5 <|
  r_dup dX11_init_8 <|
  r_cI (Z := mJ2_init) dX11_init_9 rfl rfl rfl (by decide +kernel) ⟨by decide, by decide⟩ q1401 q387 q123 q388 (XS.out (noH _)) <|
  r_putR (ci := 11) (q := (RX11, TX11, 1)) (k := 0) tyX11 tyX11_ok nmX11 dX11_init_12 (by decide) rfl in_X11 (by decide) (Or.inr ⟨rfl, rfl, rfl, q1402⟩) rfl rfl <|
  r_vret rfl dX11_init_15
-- CheekTown$Law.tells(LCheekTown$Scene;)I cuts [0, 2]
def tX11_tells_0 (d : Nat) (Q : Outcome → MH → Prop) (J : Nat → KT) : KT :=
  i_const 0 <|
  i_istore 2 <|
  (J 2)
theorem kX11_tells_0 {d : Nat} {Q : Outcome → MH → Prop} : ∀ ls st h, tX11_tells_0 d Q (fun pc ls st h => WPb mX11_tells d pc ls st h Q) ls st h → WPb mX11_tells d 0 ls st h Q :=
  r_iconst (v := 0) dX11_tells_0 rfl <|
  r_istore_n (k := 2) dX11_tells_1 rfl <|
  (fun _ _ _ H => H)
def tX11_tells_2 (d : Nat) (Q : Outcome → MH → Prop) (J : Nat → KT) : KT :=
  i_iload 2 <|
  i_aload 0 <|
  i_getR 11 0 <|
  i_call mJ2_size d 1 (pV 22) (xOut Q) <|
  i_icmp_ge
  (i_const (-1) <|
  i_ret Q (some .int))
  (i_aload 0 <|
  i_getR 11 0 <|
  i_iload 2 <|
  i_call mJ2_get d 2 (pV 22) (xOut Q) <|
  i_cast 12 <|
  i_astore 3 <|
  i_aload 3 <|
  i_getR 12 1 <|
  i_ifnull
  (i_aload 3 <|
  i_getI 12 0 <|
  i_ret Q (some .int))
  (i_aload 3 <|
  i_getR 12 1 <|
  i_aload 1 <|
  i_cF d <|
  i_if_eq
  (i_iinc 2 1 <|
  (J 2))
  (i_aload 3 <|
  i_getI 12 0 <|
  i_ret Q (some .int))))
theorem kX11_tells_2 {d : Nat} {Q : Outcome → MH → Prop} : ∀ ls st h, tX11_tells_2 d Q (fun pc ls st h => WPb mX11_tells d pc ls st h Q) ls st h → WPb mX11_tells d 2 ls st h Q :=
  r_iload_n (k := 2) dX11_tells_2 rfl <|
  r_aload_n (k := 0) dX11_tells_3 rfl <|
  r_getR (ci := 11) (q := (RX11, TX11, 1)) (k := 0) dX11_tells_4 (by decide) rfl in_X11 (by decide) (Or.inl q1402) rfl <|
  r_cV (Z := mJ2_size) (ci := 22) (q := (RJ2, TJ2, 3)) dX11_tells_7 rfl (by decide +kernel) ⟨by decide, by decide⟩ (by decide) rfl rfl q1743 q1064 q1065 q123 q1066 (XS.out (noH _)) <|
  r_icmp_ge (pt := 56) dX11_tells_10 (by decide)
  (r_iconst (v := (-1)) dX11_tells_56 rfl <|
  r_ret rfl (Or.inl ⟨dX11_tells_57, Or.inl rfl⟩))
  (r_aload_n (k := 0) dX11_tells_13 rfl <|
  r_getR (ci := 11) (q := (RX11, TX11, 1)) (k := 0) dX11_tells_14 (by decide) rfl in_X11 (by decide) (Or.inl q1402) rfl <|
  r_iload_n (k := 2) dX11_tells_17 rfl <|
  r_cV (Z := mJ2_get) (ci := 22) (q := (RJ2, TJ2, 3)) dX11_tells_18 rfl (by decide +kernel) ⟨by decide, by decide⟩ (by decide) rfl rfl q1744 q1745 q1746 q123 q1747 (XS.out (noH _)) <|
  r_cast (ci := 12) (q := (RX12, TX12, 2)) (by decide) rfl q1752 dX11_tells_21 <|
  r_astore_n (k := 3) dX11_tells_24 rfl <|
  r_aload_n (k := 3) dX11_tells_25 rfl <|
  r_getR (ci := 12) (q := (RX12, TX12, 2)) (k := 1) dX11_tells_26 (by decide) rfl in_X12 (by decide) (Or.inr (Or.inl ⟨_, q1616⟩)) rfl <|
  r_ifnull (pt := 45) dX11_tells_29 (by decide)
  (r_aload_n (k := 3) dX11_tells_45 rfl <|
  r_getI (ci := 12) (q := (RX12, TX12, 2)) (k := 0) dX11_tells_46 (by decide) rfl in_X12 (by decide) (Or.inr (Or.inl ⟨_, q1614⟩)) rfl <|
  r_ret rfl (Or.inl ⟨dX11_tells_49, Or.inl rfl⟩))
  (r_aload_n (k := 3) dX11_tells_32 rfl <|
  r_getR (ci := 12) (q := (RX12, TX12, 2)) (k := 1) dX11_tells_33 (by decide) rfl in_X12 (by decide) (Or.inr (Or.inl ⟨_, q1616⟩)) rfl <|
  r_aload_n (k := 1) dX11_tells_36 rfl <|
  r_cF q1754 dX11_tells_37 <|
  r_if_eq (pt := 50) dX11_tells_42 (by decide)
  (r_iinc (v := 1) dX11_tells_50 rfl <|
  r_goto (pt := 2) dX11_tells_53 (by decide) <|
  (fun _ _ _ H => H))
  (r_aload_n (k := 3) dX11_tells_45 rfl <|
  r_getI (ci := 12) (q := (RX12, TX12, 2)) (k := 0) dX11_tells_46 (by decide) rfl in_X12 (by decide) (Or.inr (Or.inl ⟨_, q1614⟩)) rfl <|
  r_ret rfl (Or.inl ⟨dX11_tells_49, Or.inl rfl⟩))))
-- CheekTown$Line.<init>(ILCheekTown$Cond;)V cuts [0]
def tX12_init_0 (d : Nat) (Q : Outcome → MH → Prop) (J : Nat → KT) : KT :=
  i_aload 0 <|
  i_obj d <|
  i_aload 0 <|
  i_iload 1 <|
  i_putI 12 0 .int <|
  i_aload 0 <|
  i_aload 2 <|
  i_putR 12 1 <|
  i_vret Q
theorem kX12_init_0 {d : Nat} {Q : Outcome → MH → Prop} : ∀ ls st h, tX12_init_0 d Q (fun pc ls st h => WPb mX12_init d pc ls st h Q) ls st h → WPb mX12_init d 0 ls st h Q :=
  r_aload_n (k := 0) dX12_init_0 rfl <|
  r_obj dX12_init_1 q1612 q170 q171 <|
  r_aload_n (k := 0) dX12_init_4 rfl <|
  r_iload_n (k := 1) dX12_init_5 rfl <|
  r_putI (ci := 12) (q := (RX12, TX12, 2)) (k := 0) tyX12 tyX12_ok nmX12 dX12_init_6 (by decide) rfl in_X12 (by decide) (Or.inr ⟨rfl, rfl, rfl, q1613⟩) rfl rfl <|
  r_aload_n (k := 0) dX12_init_9 rfl <|
  r_aload_n (k := 2) dX12_init_10 rfl <|
  r_putR (ci := 12) (q := (RX12, TX12, 2)) (k := 1) tyX12 tyX12_ok nmX12 dX12_init_11 (by decide) rfl in_X12 (by decide) (Or.inr ⟨rfl, rfl, rfl, q1615⟩) rfl rfl <|
  r_vret rfl dX12_init_14
-- CheekTown$Row.<init>(Z)V cuts [0]
def tX13_init_0 (d : Nat) (Q : Outcome → MH → Prop) (J : Nat → KT) : KT :=
  i_aload 0 <|
  i_obj d <|
  i_aload 0 <|
  i_new 22 3 <|
  i_dup <|
  i_call mJ2_init d 1 pI (xOut Q) <|
  i_putR 13 1 <|
  i_aload 0 <|
  i_iload 1 <|
  i_putI 13 0 .boolean <|
  i_vret Q
theorem kX13_init_0 {d : Nat} {Q : Outcome → MH → Prop} : ∀ ls st h, tX13_init_0 d Q (fun pc ls st h => WPb mX13_init d pc ls st h Q) ls st h → WPb mX13_init d 0 ls st h Q :=
  r_aload_n (k := 0) dX13_init_0 rfl <|
  r_obj dX13_init_1 q1429 q170 q171 <|
  r_aload_n (k := 0) dX13_init_4 rfl <|
  r_new (ci := 22) (q := (RJ2, TJ2, 3)) tyJ2 tyJ2_ok (by decide) (by decide) (by decide) rfl rfl in_J2 q1430 q385 q123 dX13_init_5 <|
  r_dup dX13_init_8 <|
  r_cI (Z := mJ2_init) dX13_init_9 rfl rfl rfl (by decide +kernel) ⟨by decide, by decide⟩ q1431 q387 q123 q388 (XS.out (noH _)) <|
  r_putR (ci := 13) (q := (RX13, TX13, 2)) (k := 1) tyX13 tyX13_ok nmX13 dX13_init_12 (by decide) rfl in_X13 (by decide) (Or.inr ⟨rfl, rfl, rfl, q1433⟩) rfl rfl <|
  r_aload_n (k := 0) dX13_init_15 rfl <|
  r_iload_n (k := 1) dX13_init_16 rfl <|
  r_putI (ci := 13) (q := (RX13, TX13, 2)) (k := 0) tyX13 tyX13_ok nmX13 dX13_init_17 (by decide) rfl in_X13 (by decide) (Or.inr ⟨rfl, rfl, rfl, q1432⟩) rfl rfl <|
  r_vret rfl dX13_init_20
-- CheekTown$Row.holds(LCheekTown$Scene;)Z cuts [0, 2]
def tX13_holds_0 (d : Nat) (Q : Outcome → MH → Prop) (J : Nat → KT) : KT :=
  i_const 0 <|
  i_istore 2 <|
  (J 2)
theorem kX13_holds_0 {d : Nat} {Q : Outcome → MH → Prop} : ∀ ls st h, tX13_holds_0 d Q (fun pc ls st h => WPb mX13_holds d pc ls st h Q) ls st h → WPb mX13_holds d 0 ls st h Q :=
  r_iconst (v := 0) dX13_holds_0 rfl <|
  r_istore_n (k := 2) dX13_holds_1 rfl <|
  (fun _ _ _ H => H)
def tX13_holds_2 (d : Nat) (Q : Outcome → MH → Prop) (J : Nat → KT) : KT :=
  i_iload 2 <|
  i_aload 0 <|
  i_getR 13 1 <|
  i_call mJ2_size d 1 (pV 22) (xOut Q) <|
  i_icmp_ge
  (i_aload 0 <|
  i_getI 13 0 <|
  i_ret Q (some .boolean))
  (i_aload 0 <|
  i_getR 13 1 <|
  i_iload 2 <|
  i_call mJ2_get d 2 (pV 22) (xOut Q) <|
  i_castY [13, 14, 15, 19] <|
  i_aload 1 <|
  i_cF d <|
  i_aload 0 <|
  i_getI 13 0 <|
  i_icmp_eq
  (i_iinc 2 1 <|
  (J 2))
  (i_aload 0 <|
  i_getI 13 0 <|
  i_if_ne
  (i_const 0 <|
  i_ret Q (some .boolean))
  (i_const 1 <|
  i_ret Q (some .boolean))))
theorem kX13_holds_2 {d : Nat} {Q : Outcome → MH → Prop} : ∀ ls st h, tX13_holds_2 d Q (fun pc ls st h => WPb mX13_holds d pc ls st h Q) ls st h → WPb mX13_holds d 2 ls st h Q :=
  r_iload_n (k := 2) dX13_holds_2 rfl <|
  r_aload_n (k := 0) dX13_holds_3 rfl <|
  r_getR (ci := 13) (q := (RX13, TX13, 2)) (k := 1) dX13_holds_4 (by decide) rfl in_X13 (by decide) (Or.inl q1433) rfl <|
  r_cV (Z := mJ2_size) (ci := 22) (q := (RJ2, TJ2, 3)) dX13_holds_7 rfl (by decide +kernel) ⟨by decide, by decide⟩ (by decide) rfl rfl q1795 q1064 q1065 q123 q1066 (XS.out (noH _)) <|
  r_icmp_ge (pt := 56) dX13_holds_10 (by decide)
  (r_aload_n (k := 0) dX13_holds_56 rfl <|
  r_getI (ci := 13) (q := (RX13, TX13, 2)) (k := 0) dX13_holds_57 (by decide) rfl in_X13 (by decide) (Or.inl q1432) rfl <|
  r_ret rfl (Or.inl ⟨dX13_holds_60, Or.inr (Or.inl rfl)⟩))
  (r_aload_n (k := 0) dX13_holds_13 rfl <|
  r_getR (ci := 13) (q := (RX13, TX13, 2)) (k := 1) dX13_holds_14 (by decide) rfl in_X13 (by decide) (Or.inl q1433) rfl <|
  r_iload_n (k := 2) dX13_holds_17 rfl <|
  r_cV (Z := mJ2_get) (ci := 22) (q := (RJ2, TJ2, 3)) dX13_holds_18 rfl (by decide +kernel) ⟨by decide, by decide⟩ (by decide) rfl rfl q1796 q1745 q1746 q123 q1747 (XS.out (noH _)) <|
  r_castY (nm := "CheekTown$Cond") cond_cs q1797 dX13_holds_21 <|
  r_aload_n (k := 1) dX13_holds_24 rfl <|
  r_cF q1799 dX13_holds_25 <|
  r_aload_n (k := 0) dX13_holds_30 rfl <|
  r_getI (ci := 13) (q := (RX13, TX13, 2)) (k := 0) dX13_holds_31 (by decide) rfl in_X13 (by decide) (Or.inl q1432) rfl <|
  r_icmp_eq (pt := 50) dX13_holds_34 (by decide)
  (r_iinc (v := 1) dX13_holds_50 rfl <|
  r_goto (pt := 2) dX13_holds_53 (by decide) <|
  (fun _ _ _ H => H))
  (r_aload_n (k := 0) dX13_holds_37 rfl <|
  r_getI (ci := 13) (q := (RX13, TX13, 2)) (k := 0) dX13_holds_38 (by decide) rfl in_X13 (by decide) (Or.inl q1432) rfl <|
  r_if_ne (pt := 48) dX13_holds_41 (by decide)
  (r_iconst (v := 0) dX13_holds_48 rfl <|
  r_ret rfl (Or.inl ⟨dX13_holds_49, Or.inr (Or.inl rfl)⟩))
  (r_iconst (v := 1) dX13_holds_44 rfl <|
  r_goto (pt := 49) dX13_holds_45 (by decide) <|
  r_ret rfl (Or.inl ⟨dX13_holds_49, Or.inr (Or.inl rfl)⟩))))
-- CheekTown$Not.<init>(LCheekTown$Cond;)V cuts [0]
def tX14_init_0 (d : Nat) (Q : Outcome → MH → Prop) (J : Nat → KT) : KT :=
  i_aload 0 <|
  i_obj d <|
  i_aload 0 <|
  i_aload 1 <|
  i_putR 14 0 <|
  i_vret Q
theorem kX14_init_0 {d : Nat} {Q : Outcome → MH → Prop} : ∀ ls st h, tX14_init_0 d Q (fun pc ls st h => WPb mX14_init d pc ls st h Q) ls st h → WPb mX14_init d 0 ls st h Q :=
  r_aload_n (k := 0) dX14_init_0 rfl <|
  r_obj dX14_init_1 q1462 q170 q171 <|
  r_aload_n (k := 0) dX14_init_4 rfl <|
  r_aload_n (k := 1) dX14_init_5 rfl <|
  r_putR (ci := 14) (q := (RX14, TX14, 1)) (k := 0) tyX14 tyX14_ok nmX14 dX14_init_6 (by decide) rfl in_X14 (by decide) (Or.inr ⟨rfl, rfl, rfl, q1463⟩) rfl rfl <|
  r_vret rfl dX14_init_9
-- CheekTown$Not.holds(LCheekTown$Scene;)Z cuts [0]
def tX14_holds_0 (d : Nat) (Q : Outcome → MH → Prop) (J : Nat → KT) : KT :=
  i_aload 0 <|
  i_getR 14 0 <|
  i_aload 1 <|
  i_cF d <|
  i_if_ne
  (i_const 0 <|
  i_ret Q (some .boolean))
  (i_const 1 <|
  i_ret Q (some .boolean))
theorem kX14_holds_0 {d : Nat} {Q : Outcome → MH → Prop} : ∀ ls st h, tX14_holds_0 d Q (fun pc ls st h => WPb mX14_holds d pc ls st h Q) ls st h → WPb mX14_holds d 0 ls st h Q :=
  r_aload_n (k := 0) dX14_holds_0 rfl <|
  r_getR (ci := 14) (q := (RX14, TX14, 1)) (k := 0) dX14_holds_1 (by decide) rfl in_X14 (by decide) (Or.inl q1463) rfl <|
  r_aload_n (k := 1) dX14_holds_4 rfl <|
  r_cF q1788 dX14_holds_5 <|
  r_if_ne (pt := 17) dX14_holds_10 (by decide)
  (r_iconst (v := 0) dX14_holds_17 rfl <|
  r_ret rfl (Or.inl ⟨dX14_holds_18, Or.inr (Or.inl rfl)⟩))
  (r_iconst (v := 1) dX14_holds_13 rfl <|
  r_goto (pt := 18) dX14_holds_14 (by decide) <|
  r_ret rfl (Or.inl ⟨dX14_holds_18, Or.inr (Or.inl rfl)⟩))
-- CheekTown$Tag.<init>(Z)V cuts [0]
def tX15_init_0 (d : Nat) (Q : Outcome → MH → Prop) (J : Nat → KT) : KT :=
  i_aload 0 <|
  i_obj d <|
  i_aload 0 <|
  i_iload 1 <|
  i_putI 15 0 .boolean <|
  i_vret Q
theorem kX15_init_0 {d : Nat} {Q : Outcome → MH → Prop} : ∀ ls st h, tX15_init_0 d Q (fun pc ls st h => WPb mX15_init d pc ls st h Q) ls st h → WPb mX15_init d 0 ls st h Q :=
  r_aload_n (k := 0) dX15_init_0 rfl <|
  r_obj dX15_init_1 q1473 q170 q171 <|
  r_aload_n (k := 0) dX15_init_4 rfl <|
  r_iload_n (k := 1) dX15_init_5 rfl <|
  r_putI (ci := 15) (q := (RX15, TX15, 1)) (k := 0) tyX15 tyX15_ok nmX15 dX15_init_6 (by decide) rfl in_X15 (by decide) (Or.inr ⟨rfl, rfl, rfl, q1474⟩) rfl rfl <|
  r_vret rfl dX15_init_9
-- CheekTown$Tag.holds(LCheekTown$Scene;)Z cuts [0]
def tX15_holds_0 (d : Nat) (Q : Outcome → MH → Prop) (J : Nat → KT) : KT :=
  i_aload 0 <|
  i_getI 15 0 <|
  i_if_eq
  (i_aload 1 <|
  i_getI 4 7 <|
  i_ret Q (some .boolean))
  (i_aload 1 <|
  i_getI 4 6 <|
  i_ret Q (some .boolean))
theorem kX15_holds_0 {d : Nat} {Q : Outcome → MH → Prop} : ∀ ls st h, tX15_holds_0 d Q (fun pc ls st h => WPb mX15_holds d pc ls st h Q) ls st h → WPb mX15_holds d 0 ls st h Q :=
  r_aload_n (k := 0) dX15_holds_0 rfl <|
  r_getI (ci := 15) (q := (RX15, TX15, 1)) (k := 0) dX15_holds_1 (by decide) rfl in_X15 (by decide) (Or.inl q1474) rfl <|
  r_if_eq (pt := 14) dX15_holds_4 (by decide)
  (r_aload_n (k := 1) dX15_holds_14 rfl <|
  r_getI (ci := 4) (q := (RX4, TX4, 8)) (k := 7) dX15_holds_15 (by decide) rfl in_X4 (by decide) (Or.inr (Or.inl ⟨_, q365⟩)) rfl <|
  r_ret rfl (Or.inl ⟨dX15_holds_18, Or.inr (Or.inl rfl)⟩))
  (r_aload_n (k := 1) dX15_holds_7 rfl <|
  r_getI (ci := 4) (q := (RX4, TX4, 8)) (k := 6) dX15_holds_8 (by decide) rfl in_X4 (by decide) (Or.inr (Or.inl ⟨_, q363⟩)) rfl <|
  r_goto (pt := 18) dX15_holds_11 (by decide) <|
  r_ret rfl (Or.inl ⟨dX15_holds_18, Or.inr (Or.inl rfl)⟩))
-- CheekTown$Sum.<init>()V cuts [0]
def tX16_init_0 (d : Nat) (Q : Outcome → MH → Prop) (J : Nat → KT) : KT :=
  i_aload 0 <|
  i_obj d <|
  i_aload 0 <|
  i_new 22 3 <|
  i_dup <|
  i_call mJ2_init d 1 pI (xOut Q) <|
  i_putR 16 0 <|
  i_vret Q
theorem kX16_init_0 {d : Nat} {Q : Outcome → MH → Prop} : ∀ ls st h, tX16_init_0 d Q (fun pc ls st h => WPb mX16_init d pc ls st h Q) ls st h → WPb mX16_init d 0 ls st h Q :=
  r_aload_n (k := 0) dX16_init_0 rfl <|
  r_obj dX16_init_1 q1487 q170 q171 <|
  r_aload_n (k := 0) dX16_init_4 rfl <|
  r_new (ci := 22) (q := (RJ2, TJ2, 3)) tyJ2 tyJ2_ok (by decide) (by decide) (by decide) rfl rfl in_J2 q1488 q385 q123 dX16_init_5 <|
  r_dup dX16_init_8 <|
  r_cI (Z := mJ2_init) dX16_init_9 rfl rfl rfl (by decide +kernel) ⟨by decide, by decide⟩ q1489 q387 q123 q388 (XS.out (noH _)) <|
  r_putR (ci := 16) (q := (RX16, TX16, 1)) (k := 0) tyX16 tyX16_ok nmX16 dX16_init_12 (by decide) rfl in_X16 (by decide) (Or.inr ⟨rfl, rfl, rfl, q1490⟩) rfl rfl <|
  r_vret rfl dX16_init_15
-- CheekTown$Sum.in(LCheekTown$Scene;)I cuts [0, 4]
def tX16_in_0 (d : Nat) (Q : Outcome → MH → Prop) (J : Nat → KT) : KT :=
  i_const 0 <|
  i_istore 2 <|
  i_const 0 <|
  i_istore 3 <|
  (J 4)
theorem kX16_in_0 {d : Nat} {Q : Outcome → MH → Prop} : ∀ ls st h, tX16_in_0 d Q (fun pc ls st h => WPb mX16_in d pc ls st h Q) ls st h → WPb mX16_in d 0 ls st h Q :=
  r_iconst (v := 0) dX16_in_0 rfl <|
  r_istore_n (k := 2) dX16_in_1 rfl <|
  r_iconst (v := 0) dX16_in_2 rfl <|
  r_istore_n (k := 3) dX16_in_3 rfl <|
  (fun _ _ _ H => H)
def tX16_in_4 (d : Nat) (Q : Outcome → MH → Prop) (J : Nat → KT) : KT :=
  i_iload 3 <|
  i_aload 0 <|
  i_getR 16 0 <|
  i_call mJ2_size d 1 (pV 22) (xOut Q) <|
  i_icmp_ge
  (i_iload 2 <|
  i_ret Q (some .int))
  (i_iload 2 <|
  i_aload 0 <|
  i_getR 16 0 <|
  i_iload 3 <|
  i_call mJ2_get d 2 (pV 22) (xOut Q) <|
  i_cast 17 <|
  i_aload 1 <|
  i_call mX17_in d 2 (pV 17) (xOut Q) <|
  i_iadd <|
  i_istore 2 <|
  i_iinc 3 1 <|
  (J 4))
theorem kX16_in_4 {d : Nat} {Q : Outcome → MH → Prop} : ∀ ls st h, tX16_in_4 d Q (fun pc ls st h => WPb mX16_in d pc ls st h Q) ls st h → WPb mX16_in d 4 ls st h Q :=
  r_iload_n (k := 3) dX16_in_4 rfl <|
  r_aload_n (k := 0) dX16_in_5 rfl <|
  r_getR (ci := 16) (q := (RX16, TX16, 1)) (k := 0) dX16_in_6 (by decide) rfl in_X16 (by decide) (Or.inl q1490) rfl <|
  r_cV (Z := mJ2_size) (ci := 22) (q := (RJ2, TJ2, 3)) dX16_in_9 rfl (by decide +kernel) ⟨by decide, by decide⟩ (by decide) rfl rfl q1767 q1064 q1065 q123 q1066 (XS.out (noH _)) <|
  r_icmp_ge (pt := 39) dX16_in_12 (by decide)
  (r_iload_n (k := 2) dX16_in_39 rfl <|
  r_ret rfl (Or.inl ⟨dX16_in_40, Or.inl rfl⟩))
  (r_iload_n (k := 2) dX16_in_15 rfl <|
  r_aload_n (k := 0) dX16_in_16 rfl <|
  r_getR (ci := 16) (q := (RX16, TX16, 1)) (k := 0) dX16_in_17 (by decide) rfl in_X16 (by decide) (Or.inl q1490) rfl <|
  r_iload_n (k := 3) dX16_in_20 rfl <|
  r_cV (Z := mJ2_get) (ci := 22) (q := (RJ2, TJ2, 3)) dX16_in_21 rfl (by decide +kernel) ⟨by decide, by decide⟩ (by decide) rfl rfl q1768 q1745 q1746 q123 q1747 (XS.out (noH _)) <|
  r_cast (ci := 17) (q := (RX17, TX17, 2)) (by decide) rfl q1769 dX16_in_24 <|
  r_aload_n (k := 1) dX16_in_27 rfl <|
  r_cV (Z := mX17_in) (ci := 17) (q := (RX17, TX17, 2)) dX16_in_28 rfl (by decide +kernel) ⟨by decide, by decide⟩ (by decide) rfl rfl q1770 q1771 q1772 q154 q1773 (XS.out (noH _)) <|
  r_iadd dX16_in_31 <|
  r_istore_n (k := 2) dX16_in_32 rfl <|
  r_iinc (v := 1) dX16_in_33 rfl <|
  r_goto (pt := 4) dX16_in_36 (by decide) <|
  (fun _ _ _ H => H))
-- CheekTown$Part.<init>(ILCheekTown$Fact;)V cuts [0]
def tX17_init_0 (d : Nat) (Q : Outcome → MH → Prop) (J : Nat → KT) : KT :=
  i_aload 0 <|
  i_obj d <|
  i_aload 0 <|
  i_iload 1 <|
  i_putI 17 0 .int <|
  i_aload 0 <|
  i_aload 2 <|
  i_putR 17 1 <|
  i_vret Q
theorem kX17_init_0 {d : Nat} {Q : Outcome → MH → Prop} : ∀ ls st h, tX17_init_0 d Q (fun pc ls st h => WPb mX17_init d pc ls st h Q) ls st h → WPb mX17_init d 0 ls st h Q :=
  r_aload_n (k := 0) dX17_init_0 rfl <|
  r_obj dX17_init_1 q1508 q170 q171 <|
  r_aload_n (k := 0) dX17_init_4 rfl <|
  r_iload_n (k := 1) dX17_init_5 rfl <|
  r_putI (ci := 17) (q := (RX17, TX17, 2)) (k := 0) tyX17 tyX17_ok nmX17 dX17_init_6 (by decide) rfl in_X17 (by decide) (Or.inr ⟨rfl, rfl, rfl, q1509⟩) rfl rfl <|
  r_aload_n (k := 0) dX17_init_9 rfl <|
  r_aload_n (k := 2) dX17_init_10 rfl <|
  r_putR (ci := 17) (q := (RX17, TX17, 2)) (k := 1) tyX17 tyX17_ok nmX17 dX17_init_11 (by decide) rfl in_X17 (by decide) (Or.inr ⟨rfl, rfl, rfl, q1510⟩) rfl rfl <|
  r_vret rfl dX17_init_14
-- CheekTown$Part.in(LCheekTown$Scene;)I cuts [0]
def tX17_in_0 (d : Nat) (Q : Outcome → MH → Prop) (J : Nat → KT) : KT :=
  i_aload 0 <|
  i_getR 17 1 <|
  i_ifnonnull
  (i_aload 1 <|
  i_aload 0 <|
  i_getR 17 1 <|
  i_call mX4_of d 2 (pV 4) (xOut Q) <|
  i_ret Q (some .int))
  (i_aload 0 <|
  i_getI 17 0 <|
  i_ret Q (some .int))
theorem kX17_in_0 {d : Nat} {Q : Outcome → MH → Prop} : ∀ ls st h, tX17_in_0 d Q (fun pc ls st h => WPb mX17_in d pc ls st h Q) ls st h → WPb mX17_in d 0 ls st h Q :=
  r_aload_n (k := 0) dX17_in_0 rfl <|
  r_getR (ci := 17) (q := (RX17, TX17, 2)) (k := 1) dX17_in_1 (by decide) rfl in_X17 (by decide) (Or.inl q1510) rfl <|
  r_ifnonnull (pt := 14) dX17_in_4 (by decide)
  (r_aload_n (k := 1) dX17_in_14 rfl <|
  r_aload_n (k := 0) dX17_in_15 rfl <|
  r_getR (ci := 17) (q := (RX17, TX17, 2)) (k := 1) dX17_in_16 (by decide) rfl in_X17 (by decide) (Or.inl q1510) rfl <|
  r_cV (Z := mX4_of) (ci := 4) (q := (RX4, TX4, 8)) dX17_in_19 rfl (by decide +kernel) ⟨by decide, by decide⟩ (by decide) rfl rfl q1774 q1775 q1776 q120 q1777 (XS.out (noH _)) <|
  r_ret rfl (Or.inl ⟨dX17_in_22, Or.inl rfl⟩))
  (r_aload_n (k := 0) dX17_in_7 rfl <|
  r_getI (ci := 17) (q := (RX17, TX17, 2)) (k := 0) dX17_in_8 (by decide) rfl in_X17 (by decide) (Or.inl q1509) rfl <|
  r_goto (pt := 22) dX17_in_11 (by decide) <|
  r_ret rfl (Or.inl ⟨dX17_in_22, Or.inl rfl⟩))
-- CheekTown$Fact.of(Ljava/lang/String;)LCheekTown$Fact; cuts [0, 9]
def tX18_of_0 (d : Nat) (Q : Outcome → MH → Prop) (J : Nat → KT) : KT :=
  i_call mX18_values d 0 pS (xOut Q) <|
  i_astore 1 <|
  i_aload 1 <|
  i_alen <|
  i_istore 2 <|
  i_const 0 <|
  i_istore 3 <|
  (J 9)
theorem kX18_of_0 {d : Nat} {Q : Outcome → MH → Prop} : ∀ ls st h, tX18_of_0 d Q (fun pc ls st h => WPb mX18_of d pc ls st h Q) ls st h → WPb mX18_of d 0 ls st h Q :=
  r_cS (Z := mX18_values) dX18_of_0 rfl (by decide +kernel) ⟨by decide, by decide⟩ q1519 q1520 q155 q1521 (XS.out (noH _)) <|
  r_astore_n (k := 1) dX18_of_3 rfl <|
  r_aload_n (k := 1) dX18_of_4 rfl <|
  r_alen dX18_of_5 <|
  r_istore_n (k := 2) dX18_of_6 rfl <|
  r_iconst (v := 0) dX18_of_7 rfl <|
  r_istore_n (k := 3) dX18_of_8 rfl <|
  (fun _ _ _ H => H)
def tX18_of_9 (d : Nat) (Q : Outcome → MH → Prop) (J : Nat → KT) : KT :=
  i_iload 3 <|
  i_iload 2 <|
  i_icmp_ge
  (i_null <|
  i_ret Q (some (.object "CheekTown$Fact")))
  (i_aload 1 <|
  i_iload 3 <|
  i_aald 6 <|
  i_astore 4 <|
  i_aload 4 <|
  i_getER 18 1 <|
  i_aload 0 <|
  i_call mJ5_equals d 2 (pV 24) (xOut Q) <|
  i_if_eq
  (i_iinc 3 1 <|
  (J 9))
  (i_aload 4 <|
  i_ret Q (some (.object "CheekTown$Fact"))))
theorem kX18_of_9 {d : Nat} {Q : Outcome → MH → Prop} : ∀ ls st h, tX18_of_9 d Q (fun pc ls st h => WPb mX18_of d pc ls st h Q) ls st h → WPb mX18_of d 9 ls st h Q :=
  r_iload_n (k := 3) dX18_of_9 rfl <|
  r_iload_n (k := 2) dX18_of_10 rfl <|
  r_icmp_ge (pt := 40) dX18_of_11 (by decide)
  (r_null dX18_of_40 <|
  r_ret rfl (Or.inr (Or.inr ⟨dX18_of_41, Or.inl ⟨_, rfl⟩⟩)))
  (r_aload_n (k := 1) dX18_of_14 rfl <|
  r_iload_n (k := 3) dX18_of_15 rfl <|
  r_aald (t := 6) (E := "CheekTown$Fact") (by decide) rfl dX18_of_16 <|
  r_astore dX18_of_17 <|
  r_aload dX18_of_19 <|
  r_getER (ci := 18) (q := (RX18, cx_TF, 2)) (k := 1) dX18_of_21 (by decide) rfl (by decide) q2784 rfl <|
  r_aload_n (k := 0) dX18_of_24 rfl <|
  r_cV (Z := mJ5_equals) (ci := 24) (q := (RJ5, TJ5, 4)) dX18_of_25 rfl (by decide +kernel) ⟨by decide, by decide⟩ (by decide) rfl rfl q1530 q1263 q1264 q131 q1265 (XS.out (noH _)) <|
  r_if_eq (pt := 34) dX18_of_28 (by decide)
  (r_iinc (v := 1) dX18_of_34 rfl <|
  r_goto (pt := 9) dX18_of_37 (by decide) <|
  (fun _ _ _ H => H))
  (r_aload dX18_of_31 <|
  r_ret rfl (Or.inr (Or.inr ⟨dX18_of_33, Or.inl ⟨_, rfl⟩⟩))))
-- CheekTown$Fact.values()[LCheekTown$Fact; cuts [0]
def tX18_values_0 (d : Nat) (Q : Outcome → MH → Prop) (J : Nat → KT) : KT :=
  i_sref 16 <|
  i_cln d 6 <|
  i_castA 6 <|
  i_ret Q (some (.array (.object "CheekTown$Fact")))
theorem kX18_values_0 {d : Nat} {Q : Outcome → MH → Prop} : ∀ ls st h, tX18_values_0 d Q (fun pc ls st h => WPb mX18_values d pc ls st h Q) ls st h → WPb mX18_values d 0 ls st h Q :=
  r_getsR (a := 16) (T := ("CheekTown$Fact", "$VALUES", "[LCheekTown$Fact;")) (by decide +kernel) (by decide) q1522 dX18_values_0 <|
  r_cln (t := 6) (ad := "[LCheekTown$Fact;") (E := "CheekTown$Fact") rfl (by decide +kernel) q1524 q1525 q726 q727 q1526 q1527 dX18_values_3 <|
  r_castA (t := 6) (nm := "[LCheekTown$Fact;") (by decide) (by decide +kernel) q1529 dX18_values_6 <|
  r_ret rfl (Or.inr (Or.inr ⟨dX18_values_9, Or.inr ⟨_, rfl⟩⟩))
-- CheekTown$Less.<init>(LCheekTown$Sum;LCheekTown$Sum;)V cuts [0]
def tX19_init_0 (d : Nat) (Q : Outcome → MH → Prop) (J : Nat → KT) : KT :=
  i_aload 0 <|
  i_obj d <|
  i_aload 0 <|
  i_aload 1 <|
  i_putR 19 0 <|
  i_aload 0 <|
  i_aload 2 <|
  i_putR 19 1 <|
  i_vret Q
theorem kX19_init_0 {d : Nat} {Q : Outcome → MH → Prop} : ∀ ls st h, tX19_init_0 d Q (fun pc ls st h => WPb mX19_init d pc ls st h Q) ls st h → WPb mX19_init d 0 ls st h Q :=
  r_aload_n (k := 0) dX19_init_0 rfl <|
  r_obj dX19_init_1 q1599 q170 q171 <|
  r_aload_n (k := 0) dX19_init_4 rfl <|
  r_aload_n (k := 1) dX19_init_5 rfl <|
  r_putR (ci := 19) (q := (RX19, TX19, 2)) (k := 0) tyX19 tyX19_ok nmX19 dX19_init_6 (by decide) rfl in_X19 (by decide) (Or.inr ⟨rfl, rfl, rfl, q1600⟩) rfl rfl <|
  r_aload_n (k := 0) dX19_init_9 rfl <|
  r_aload_n (k := 2) dX19_init_10 rfl <|
  r_putR (ci := 19) (q := (RX19, TX19, 2)) (k := 1) tyX19 tyX19_ok nmX19 dX19_init_11 (by decide) rfl in_X19 (by decide) (Or.inr ⟨rfl, rfl, rfl, q1601⟩) rfl rfl <|
  r_vret rfl dX19_init_14
-- CheekTown$Less.holds(LCheekTown$Scene;)Z cuts [0]
def tX19_holds_0 (d : Nat) (Q : Outcome → MH → Prop) (J : Nat → KT) : KT :=
  i_aload 0 <|
  i_getR 19 0 <|
  i_aload 1 <|
  i_call mX16_in d 2 (pV 16) (xOut Q) <|
  i_aload 0 <|
  i_getR 19 1 <|
  i_aload 1 <|
  i_call mX16_in d 2 (pV 16) (xOut Q) <|
  i_icmp_ge
  (i_const 0 <|
  i_ret Q (some .boolean))
  (i_const 1 <|
  i_ret Q (some .boolean))
theorem kX19_holds_0 {d : Nat} {Q : Outcome → MH → Prop} : ∀ ls st h, tX19_holds_0 d Q (fun pc ls st h => WPb mX19_holds d pc ls st h Q) ls st h → WPb mX19_holds d 0 ls st h Q :=
  r_aload_n (k := 0) dX19_holds_0 rfl <|
  r_getR (ci := 19) (q := (RX19, TX19, 2)) (k := 0) dX19_holds_1 (by decide) rfl in_X19 (by decide) (Or.inl q1600) rfl <|
  r_aload_n (k := 1) dX19_holds_4 rfl <|
  r_cV (Z := mX16_in) (ci := 16) (q := (RX16, TX16, 1)) dX19_holds_5 rfl (by decide +kernel) ⟨by decide, by decide⟩ (by decide) rfl rfl q1763 q1764 q1765 q153 q1766 (XS.out (noH _)) <|
  r_aload_n (k := 0) dX19_holds_8 rfl <|
  r_getR (ci := 19) (q := (RX19, TX19, 2)) (k := 1) dX19_holds_9 (by decide) rfl in_X19 (by decide) (Or.inl q1601) rfl <|
  r_aload_n (k := 1) dX19_holds_12 rfl <|
  r_cV (Z := mX16_in) (ci := 16) (q := (RX16, TX16, 1)) dX19_holds_13 rfl (by decide +kernel) ⟨by decide, by decide⟩ (by decide) rfl rfl q1763 q1764 q1765 q153 q1766 (XS.out (noH _)) <|
  r_icmp_ge (pt := 23) dX19_holds_16 (by decide)
  (r_iconst (v := 0) dX19_holds_23 rfl <|
  r_ret rfl (Or.inl ⟨dX19_holds_24, Or.inr (Or.inl rfl)⟩))
  (r_iconst (v := 1) dX19_holds_19 rfl <|
  r_goto (pt := 24) dX19_holds_20 (by decide) <|
  r_ret rfl (Or.inl ⟨dX19_holds_24, Or.inr (Or.inl rfl)⟩))
-- CheekTown$World.<init>()V cuts [0]
def tX2_init_0 (d : Nat) (Q : Outcome → MH → Prop) (J : Nat → KT) : KT :=
  i_aload 0 <|
  i_obj d <|
  i_aload 0 <|
  i_const 10 <|
  i_putI 2 11 .int <|
  i_aload 0 <|
  i_const 2 <|
  i_putI 2 12 .int <|
  i_aload 0 <|
  i_const 5 <|
  i_putI 2 13 .int <|
  i_aload 0 <|
  i_const 1 <|
  i_putI 2 14 .int <|
  i_aload 0 <|
  i_const 24 <|
  i_newa 0 <|
  i_putR 2 15 <|
  i_aload 0 <|
  i_const 24 <|
  i_newa 0 <|
  i_putR 2 16 <|
  i_aload 0 <|
  i_const 24 <|
  i_newa 0 <|
  i_putR 2 17 <|
  i_aload 0 <|
  i_const 10 <|
  i_newa 0 <|
  i_putR 2 18 <|
  i_aload 0 <|
  i_const 10 <|
  i_newa 0 <|
  i_putR 2 19 <|
  i_aload 0 <|
  i_const 10 <|
  i_newa 0 <|
  i_putR 2 20 <|
  i_aload 0 <|
  i_const 10 <|
  i_newa 0 <|
  i_putR 2 21 <|
  i_aload 0 <|
  i_const 10 <|
  i_newa 2 <|
  i_putR 2 22 <|
  i_aload 0 <|
  i_const 100 <|
  i_newa 0 <|
  i_putR 2 23 <|
  i_aload 0 <|
  i_const 100 <|
  i_newa 0 <|
  i_putR 2 24 <|
  i_aload 0 <|
  i_const 10 <|
  i_newa 0 <|
  i_putR 2 25 <|
  i_aload 0 <|
  i_const 10 <|
  i_newa 0 <|
  i_putR 2 26 <|
  i_aload 0 <|
  i_const 24 <|
  i_newa 0 <|
  i_putR 2 27 <|
  i_aload 0 <|
  i_const 24 <|
  i_newa 0 <|
  i_putR 2 28 <|
  i_aload 0 <|
  i_const 480 <|
  i_newa 0 <|
  i_putR 2 29 <|
  i_vret Q
theorem kX2_init_0 {d : Nat} {Q : Outcome → MH → Prop} : ∀ ls st h, tX2_init_0 d Q (fun pc ls st h => WPb mX2_init d pc ls st h Q) ls st h → WPb mX2_init d 0 ls st h Q :=
  r_aload_n (k := 0) dX2_init_0 rfl <|
  r_obj dX2_init_1 q177 q170 q171 <|
  r_aload_n (k := 0) dX2_init_4 rfl <|
  r_bipush (v := 10) dX2_init_5 rfl <|
  r_putI (ci := 2) (q := (RX2, TX2, 31)) (k := 11) tyX2 tyX2_ok nmX2 dX2_init_7 (by decide) rfl in_X2 (by decide) (Or.inl ⟨rfl, (Or.inl q203)⟩) rfl rfl <|
  r_aload_n (k := 0) dX2_init_10 rfl <|
  r_iconst (v := 2) dX2_init_11 rfl <|
  r_putI (ci := 2) (q := (RX2, TX2, 31)) (k := 12) tyX2 tyX2_ok nmX2 dX2_init_12 (by decide) rfl in_X2 (by decide) (Or.inl ⟨rfl, (Or.inl q205)⟩) rfl rfl <|
  r_aload_n (k := 0) dX2_init_15 rfl <|
  r_iconst (v := 5) dX2_init_16 rfl <|
  r_putI (ci := 2) (q := (RX2, TX2, 31)) (k := 13) tyX2 tyX2_ok nmX2 dX2_init_17 (by decide) rfl in_X2 (by decide) (Or.inl ⟨rfl, (Or.inl q207)⟩) rfl rfl <|
  r_aload_n (k := 0) dX2_init_20 rfl <|
  r_iconst (v := 1) dX2_init_21 rfl <|
  r_putI (ci := 2) (q := (RX2, TX2, 31)) (k := 14) tyX2 tyX2_ok nmX2 dX2_init_22 (by decide) rfl in_X2 (by decide) (Or.inl ⟨rfl, (Or.inl q209)⟩) rfl rfl <|
  r_aload_n (k := 0) dX2_init_25 rfl <|
  r_bipush (v := 24) dX2_init_26 rfl <|
  r_newa (t := 0) (at9 := .int) (ty := .int) (by decide) rfl rfl q310 (by decide) dX2_init_28 <|
  r_putR (ci := 2) (q := (RX2, TX2, 31)) (k := 15) tyX2 tyX2_ok nmX2 dX2_init_30 (by decide) rfl in_X2 (by decide) (Or.inr ⟨rfl, rfl, rfl, q211⟩) rfl rfl <|
  r_aload_n (k := 0) dX2_init_33 rfl <|
  r_bipush (v := 24) dX2_init_34 rfl <|
  r_newa (t := 0) (at9 := .int) (ty := .int) (by decide) rfl rfl q310 (by decide) dX2_init_36 <|
  r_putR (ci := 2) (q := (RX2, TX2, 31)) (k := 16) tyX2 tyX2_ok nmX2 dX2_init_38 (by decide) rfl in_X2 (by decide) (Or.inr ⟨rfl, rfl, rfl, q213⟩) rfl rfl <|
  r_aload_n (k := 0) dX2_init_41 rfl <|
  r_bipush (v := 24) dX2_init_42 rfl <|
  r_newa (t := 0) (at9 := .int) (ty := .int) (by decide) rfl rfl q310 (by decide) dX2_init_44 <|
  r_putR (ci := 2) (q := (RX2, TX2, 31)) (k := 17) tyX2 tyX2_ok nmX2 dX2_init_46 (by decide) rfl in_X2 (by decide) (Or.inr ⟨rfl, rfl, rfl, q215⟩) rfl rfl <|
  r_aload_n (k := 0) dX2_init_49 rfl <|
  r_bipush (v := 10) dX2_init_50 rfl <|
  r_newa (t := 0) (at9 := .int) (ty := .int) (by decide) rfl rfl q310 (by decide) dX2_init_52 <|
  r_putR (ci := 2) (q := (RX2, TX2, 31)) (k := 18) tyX2 tyX2_ok nmX2 dX2_init_54 (by decide) rfl in_X2 (by decide) (Or.inr ⟨rfl, rfl, rfl, q217⟩) rfl rfl <|
  r_aload_n (k := 0) dX2_init_57 rfl <|
  r_bipush (v := 10) dX2_init_58 rfl <|
  r_newa (t := 0) (at9 := .int) (ty := .int) (by decide) rfl rfl q310 (by decide) dX2_init_60 <|
  r_putR (ci := 2) (q := (RX2, TX2, 31)) (k := 19) tyX2 tyX2_ok nmX2 dX2_init_62 (by decide) rfl in_X2 (by decide) (Or.inr ⟨rfl, rfl, rfl, q219⟩) rfl rfl <|
  r_aload_n (k := 0) dX2_init_65 rfl <|
  r_bipush (v := 10) dX2_init_66 rfl <|
  r_newa (t := 0) (at9 := .int) (ty := .int) (by decide) rfl rfl q310 (by decide) dX2_init_68 <|
  r_putR (ci := 2) (q := (RX2, TX2, 31)) (k := 20) tyX2 tyX2_ok nmX2 dX2_init_70 (by decide) rfl in_X2 (by decide) (Or.inr ⟨rfl, rfl, rfl, q223⟩) rfl rfl <|
  r_aload_n (k := 0) dX2_init_73 rfl <|
  r_bipush (v := 10) dX2_init_74 rfl <|
  r_newa (t := 0) (at9 := .int) (ty := .int) (by decide) rfl rfl q310 (by decide) dX2_init_76 <|
  r_putR (ci := 2) (q := (RX2, TX2, 31)) (k := 21) tyX2 tyX2_ok nmX2 dX2_init_78 (by decide) rfl in_X2 (by decide) (Or.inr ⟨rfl, rfl, rfl, q225⟩) rfl rfl <|
  r_aload_n (k := 0) dX2_init_81 rfl <|
  r_bipush (v := 10) dX2_init_82 rfl <|
  r_newa (t := 2) (at9 := .boolean) (ty := .boolean) (by decide) rfl rfl q311 (by decide) dX2_init_84 <|
  r_putR (ci := 2) (q := (RX2, TX2, 31)) (k := 22) tyX2 tyX2_ok nmX2 dX2_init_86 (by decide) rfl in_X2 (by decide) (Or.inr ⟨rfl, rfl, rfl, q227⟩) rfl rfl <|
  r_aload_n (k := 0) dX2_init_89 rfl <|
  r_bipush (v := 100) dX2_init_90 rfl <|
  r_newa (t := 0) (at9 := .int) (ty := .int) (by decide) rfl rfl q310 (by decide) dX2_init_92 <|
  r_putR (ci := 2) (q := (RX2, TX2, 31)) (k := 23) tyX2 tyX2_ok nmX2 dX2_init_94 (by decide) rfl in_X2 (by decide) (Or.inr ⟨rfl, rfl, rfl, q229⟩) rfl rfl <|
  r_aload_n (k := 0) dX2_init_97 rfl <|
  r_bipush (v := 100) dX2_init_98 rfl <|
  r_newa (t := 0) (at9 := .int) (ty := .int) (by decide) rfl rfl q310 (by decide) dX2_init_100 <|
  r_putR (ci := 2) (q := (RX2, TX2, 31)) (k := 24) tyX2 tyX2_ok nmX2 dX2_init_102 (by decide) rfl in_X2 (by decide) (Or.inr ⟨rfl, rfl, rfl, q231⟩) rfl rfl <|
  r_aload_n (k := 0) dX2_init_105 rfl <|
  r_bipush (v := 10) dX2_init_106 rfl <|
  r_newa (t := 0) (at9 := .int) (ty := .int) (by decide) rfl rfl q310 (by decide) dX2_init_108 <|
  r_putR (ci := 2) (q := (RX2, TX2, 31)) (k := 25) tyX2 tyX2_ok nmX2 dX2_init_110 (by decide) rfl in_X2 (by decide) (Or.inr ⟨rfl, rfl, rfl, q233⟩) rfl rfl <|
  r_aload_n (k := 0) dX2_init_113 rfl <|
  r_bipush (v := 10) dX2_init_114 rfl <|
  r_newa (t := 0) (at9 := .int) (ty := .int) (by decide) rfl rfl q310 (by decide) dX2_init_116 <|
  r_putR (ci := 2) (q := (RX2, TX2, 31)) (k := 26) tyX2 tyX2_ok nmX2 dX2_init_118 (by decide) rfl in_X2 (by decide) (Or.inr ⟨rfl, rfl, rfl, q235⟩) rfl rfl <|
  r_aload_n (k := 0) dX2_init_121 rfl <|
  r_bipush (v := 24) dX2_init_122 rfl <|
  r_newa (t := 0) (at9 := .int) (ty := .int) (by decide) rfl rfl q310 (by decide) dX2_init_124 <|
  r_putR (ci := 2) (q := (RX2, TX2, 31)) (k := 27) tyX2 tyX2_ok nmX2 dX2_init_126 (by decide) rfl in_X2 (by decide) (Or.inr ⟨rfl, rfl, rfl, q237⟩) rfl rfl <|
  r_aload_n (k := 0) dX2_init_129 rfl <|
  r_bipush (v := 24) dX2_init_130 rfl <|
  r_newa (t := 0) (at9 := .int) (ty := .int) (by decide) rfl rfl q310 (by decide) dX2_init_132 <|
  r_putR (ci := 2) (q := (RX2, TX2, 31)) (k := 28) tyX2 tyX2_ok nmX2 dX2_init_134 (by decide) rfl in_X2 (by decide) (Or.inr ⟨rfl, rfl, rfl, q240⟩) rfl rfl <|
  r_aload_n (k := 0) dX2_init_137 rfl <|
  r_sipush (v := 480) dX2_init_138 rfl <|
  r_newa (t := 0) (at9 := .int) (ty := .int) (by decide) rfl rfl q310 (by decide) dX2_init_141 <|
  r_putR (ci := 2) (q := (RX2, TX2, 31)) (k := 29) tyX2 tyX2_ok nmX2 dX2_init_143 (by decide) rfl in_X2 (by decide) (Or.inr ⟨rfl, rfl, rfl, q243⟩) rfl rfl <|
  r_vret rfl dX2_init_146
-- CheekTown$World.cost(II)I cuts [0]
def tX2_cost_0 (d : Nat) (Q : Outcome → MH → Prop) (J : Nat → KT) : KT :=
  i_iload 1 <|
  i_const 8 <|
  i_idiv <|
  i_iload 2 <|
  i_const 8 <|
  i_idiv <|
  i_icmp_eq
  (i_sref 4 <|
  i_iload 1 <|
  i_call mX1_isOf d 2 pS (xOut Q) <|
  i_if_ne
  (i_iload 1 <|
  i_call mX1_side d 1 pS (xOut Q) <|
  i_iload 2 <|
  i_call mX1_side d 1 pS (xOut Q) <|
  i_icmp_eq
  (i_const 0 <|
  i_istore 3 <|
  i_aload 0 <|
  i_getI 2 12 <|
  i_iload 1 <|
  i_call mX1_times d 1 pS (xOut Q) <|
  i_iload 2 <|
  i_call mX1_times d 1 pS (xOut Q) <|
  i_isub <|
  i_mabs d <|
  i_imul <|
  i_iload 3 <|
  i_iadd <|
  i_ret Q (some .int))
  (i_aload 0 <|
  i_getI 2 13 <|
  i_istore 3 <|
  i_aload 0 <|
  i_getI 2 12 <|
  i_iload 1 <|
  i_call mX1_times d 1 pS (xOut Q) <|
  i_iload 2 <|
  i_call mX1_times d 1 pS (xOut Q) <|
  i_isub <|
  i_mabs d <|
  i_imul <|
  i_iload 3 <|
  i_iadd <|
  i_ret Q (some .int)))
  (i_const 0 <|
  i_ret Q (some .int)))
  (i_aload 0 <|
  i_getI 2 11 <|
  i_ret Q (some .int))
theorem kX2_cost_0 {d : Nat} {Q : Outcome → MH → Prop} : ∀ ls st h, tX2_cost_0 d Q (fun pc ls st h => WPb mX2_cost d pc ls st h Q) ls st h → WPb mX2_cost d 0 ls st h Q :=
  r_iload_n (k := 1) dX2_cost_0 rfl <|
  r_bipush (v := 8) dX2_cost_1 rfl <|
  r_idiv dX2_cost_3 <|
  r_iload_n (k := 2) dX2_cost_4 rfl <|
  r_bipush (v := 8) dX2_cost_5 rfl <|
  r_idiv dX2_cost_7 <|
  r_icmp_eq (pt := 16) dX2_cost_8 (by decide)
  (r_getsR (a := 4) (T := ("CheekTown$Kind", "KISS", "LCheekTown$Kind;")) (by decide +kernel) (by decide) q540 dX2_cost_16 <|
  r_iload_n (k := 1) dX2_cost_19 rfl <|
  r_cSN (Z := mX1_isOf) dX2_cost_20 rfl (by decide +kernel) ⟨by decide, by decide⟩ q542 q543 q117 q544 (XS.out (noH _)) <|
  r_if_ne (pt := 28) dX2_cost_23 (by decide)
  (r_iload_n (k := 1) dX2_cost_28 rfl <|
  r_cSN (Z := mX1_side) dX2_cost_29 rfl (by decide +kernel) ⟨by decide, by decide⟩ q551 q552 q117 q553 (XS.out (noH _)) <|
  r_iload_n (k := 2) dX2_cost_32 rfl <|
  r_cSN (Z := mX1_side) dX2_cost_33 rfl (by decide +kernel) ⟨by decide, by decide⟩ q551 q552 q117 q553 (XS.out (noH _)) <|
  r_icmp_eq (pt := 46) dX2_cost_36 (by decide)
  (r_iconst (v := 0) dX2_cost_46 rfl <|
  r_istore_n (k := 3) dX2_cost_47 rfl <|
  r_aload_n (k := 0) dX2_cost_48 rfl <|
  r_getI (ci := 2) (q := (RX2, TX2, 31)) (k := 12) dX2_cost_49 (by decide) rfl in_X2 (by decide) (Or.inl q205) rfl <|
  r_iload_n (k := 1) dX2_cost_52 rfl <|
  r_cSN (Z := mX1_times) dX2_cost_53 rfl (by decide +kernel) ⟨by decide, by decide⟩ q554 q555 q117 q556 (XS.out (noH _)) <|
  r_iload_n (k := 2) dX2_cost_56 rfl <|
  r_cSN (Z := mX1_times) dX2_cost_57 rfl (by decide +kernel) ⟨by decide, by decide⟩ q554 q555 q117 q556 (XS.out (noH _)) <|
  r_isub dX2_cost_60 <|
  r_mabs dX2_cost_61 q557 q558 q134 q559 <|
  r_imul dX2_cost_64 <|
  r_iload_n (k := 3) dX2_cost_65 rfl <|
  r_iadd dX2_cost_66 <|
  r_ret rfl (Or.inl ⟨dX2_cost_67, Or.inl rfl⟩))
  (r_aload_n (k := 0) dX2_cost_39 rfl <|
  r_getI (ci := 2) (q := (RX2, TX2, 31)) (k := 13) dX2_cost_40 (by decide) rfl in_X2 (by decide) (Or.inl q207) rfl <|
  r_goto (pt := 47) dX2_cost_43 (by decide) <|
  r_istore_n (k := 3) dX2_cost_47 rfl <|
  r_aload_n (k := 0) dX2_cost_48 rfl <|
  r_getI (ci := 2) (q := (RX2, TX2, 31)) (k := 12) dX2_cost_49 (by decide) rfl in_X2 (by decide) (Or.inl q205) rfl <|
  r_iload_n (k := 1) dX2_cost_52 rfl <|
  r_cSN (Z := mX1_times) dX2_cost_53 rfl (by decide +kernel) ⟨by decide, by decide⟩ q554 q555 q117 q556 (XS.out (noH _)) <|
  r_iload_n (k := 2) dX2_cost_56 rfl <|
  r_cSN (Z := mX1_times) dX2_cost_57 rfl (by decide +kernel) ⟨by decide, by decide⟩ q554 q555 q117 q556 (XS.out (noH _)) <|
  r_isub dX2_cost_60 <|
  r_mabs dX2_cost_61 q557 q558 q134 q559 <|
  r_imul dX2_cost_64 <|
  r_iload_n (k := 3) dX2_cost_65 rfl <|
  r_iadd dX2_cost_66 <|
  r_ret rfl (Or.inl ⟨dX2_cost_67, Or.inl rfl⟩)))
  (r_iconst (v := 0) dX2_cost_26 rfl <|
  r_ret rfl (Or.inl ⟨dX2_cost_27, Or.inl rfl⟩)))
  (r_aload_n (k := 0) dX2_cost_11 rfl <|
  r_getI (ci := 2) (q := (RX2, TX2, 31)) (k := 11) dX2_cost_12 (by decide) rfl in_X2 (by decide) (Or.inl q203) rfl <|
  r_ret rfl (Or.inl ⟨dX2_cost_15, Or.inl rfl⟩))
-- CheekTown$World.tied(I)I cuts [0, 4]
def tX2_tied_0 (d : Nat) (Q : Outcome → MH → Prop) (J : Nat → KT) : KT :=
  i_const 0 <|
  i_istore 2 <|
  i_const 0 <|
  i_istore 3 <|
  (J 4)
theorem kX2_tied_0 {d : Nat} {Q : Outcome → MH → Prop} : ∀ ls st h, tX2_tied_0 d Q (fun pc ls st h => WPb mX2_tied d pc ls st h Q) ls st h → WPb mX2_tied d 0 ls st h Q :=
  r_iconst (v := 0) dX2_tied_0 rfl <|
  r_istore_n (k := 2) dX2_tied_1 rfl <|
  r_iconst (v := 0) dX2_tied_2 rfl <|
  r_istore_n (k := 3) dX2_tied_3 rfl <|
  (fun _ _ _ H => H)
def tX2_tied_4 (d : Nat) (Q : Outcome → MH → Prop) (J : Nat → KT) : KT :=
  i_iload 3 <|
  i_aload 0 <|
  i_getI 2 3 <|
  i_icmp_ge
  (i_iload 2 <|
  i_ret Q (some .int))
  (i_iload 2 <|
  i_aload 0 <|
  i_iload 1 <|
  i_iload 3 <|
  i_call mX2_tieOf d 3 (pV 2) (xOut Q) <|
  i_const (-1) <|
  i_icmp_eq
  (i_const 0 <|
  i_ior <|
  i_istore 2 <|
  i_iinc 3 1 <|
  (J 4))
  (i_const 1 <|
  i_iload 3 <|
  i_ishl <|
  i_ior <|
  i_istore 2 <|
  i_iinc 3 1 <|
  (J 4)))
theorem kX2_tied_4 {d : Nat} {Q : Outcome → MH → Prop} : ∀ ls st h, tX2_tied_4 d Q (fun pc ls st h => WPb mX2_tied d pc ls st h Q) ls st h → WPb mX2_tied d 4 ls st h Q :=
  r_iload_n (k := 3) dX2_tied_4 rfl <|
  r_aload_n (k := 0) dX2_tied_5 rfl <|
  r_getI (ci := 2) (q := (RX2, TX2, 31)) (k := 3) dX2_tied_6 (by decide) rfl in_X2 (by decide) (Or.inl q186) rfl <|
  r_icmp_ge (pt := 38) dX2_tied_9 (by decide)
  (r_iload_n (k := 2) dX2_tied_38 rfl <|
  r_ret rfl (Or.inl ⟨dX2_tied_39, Or.inl rfl⟩))
  (r_iload_n (k := 2) dX2_tied_12 rfl <|
  r_aload_n (k := 0) dX2_tied_13 rfl <|
  r_iload_n (k := 1) dX2_tied_14 rfl <|
  r_iload_n (k := 3) dX2_tied_15 rfl <|
  r_cV (Z := mX2_tieOf) (ci := 2) (q := (RX2, TX2, 31)) dX2_tied_16 rfl (by decide +kernel) ⟨by decide, by decide⟩ (by decide) rfl rfl q1022 q1023 q1024 q118 q1025 (XS.out (noH _)) <|
  r_iconst (v := (-1)) dX2_tied_19 rfl <|
  r_icmp_eq (pt := 29) dX2_tied_20 (by decide)
  (r_iconst (v := 0) dX2_tied_29 rfl <|
  r_ior dX2_tied_30 <|
  r_istore_n (k := 2) dX2_tied_31 rfl <|
  r_iinc (v := 1) dX2_tied_32 rfl <|
  r_goto (pt := 4) dX2_tied_35 (by decide) <|
  (fun _ _ _ H => H))
  (r_iconst (v := 1) dX2_tied_23 rfl <|
  r_iload_n (k := 3) dX2_tied_24 rfl <|
  r_ishl dX2_tied_25 <|
  r_goto (pt := 30) dX2_tied_26 (by decide) <|
  r_ior dX2_tied_30 <|
  r_istore_n (k := 2) dX2_tied_31 rfl <|
  r_iinc (v := 1) dX2_tied_32 rfl <|
  r_goto (pt := 4) dX2_tied_35 (by decide) <|
  (fun _ _ _ H => H)))
-- CheekTown$World.tieOf(II)I cuts [0, 2, 30]
def tX2_tieOf_0 (d : Nat) (Q : Outcome → MH → Prop) (J : Nat → KT) : KT :=
  i_const 0 <|
  i_istore 3 <|
  (J 2)
theorem kX2_tieOf_0 {d : Nat} {Q : Outcome → MH → Prop} : ∀ ls st h, tX2_tieOf_0 d Q (fun pc ls st h => WPb mX2_tieOf d pc ls st h Q) ls st h → WPb mX2_tieOf d 0 ls st h Q :=
  r_iconst (v := 0) dX2_tieOf_0 rfl <|
  r_istore_n (k := 3) dX2_tieOf_1 rfl <|
  (fun _ _ _ H => H)
def tX2_tieOf_2 (d : Nat) (Q : Outcome → MH → Prop) (J : Nat → KT) : KT :=
  i_iload 3 <|
  i_aload 0 <|
  i_getI 2 4 <|
  i_icmp_ge
  (i_const (-1) <|
  i_ret Q (some .int))
  (i_aload 0 <|
  i_getR 2 27 <|
  i_iload 3 <|
  i_iald <|
  i_iload 1 <|
  i_icmp_ne
  ((J 30))
  (i_aload 0 <|
  i_getR 2 28 <|
  i_iload 3 <|
  i_iald <|
  i_iload 2 <|
  i_icmp_eq
  (i_iload 3 <|
  i_ret Q (some .int))
  ((J 30))))
theorem kX2_tieOf_2 {d : Nat} {Q : Outcome → MH → Prop} : ∀ ls st h, tX2_tieOf_2 d Q (fun pc ls st h => WPb mX2_tieOf d pc ls st h Q) ls st h → WPb mX2_tieOf d 2 ls st h Q :=
  r_iload_n (k := 3) dX2_tieOf_2 rfl <|
  r_aload_n (k := 0) dX2_tieOf_3 rfl <|
  r_getI (ci := 2) (q := (RX2, TX2, 31)) (k := 4) dX2_tieOf_4 (by decide) rfl in_X2 (by decide) (Or.inl q189) rfl <|
  r_icmp_ge (pt := 58) dX2_tieOf_7 (by decide)
  (r_iconst (v := (-1)) dX2_tieOf_58 rfl <|
  r_ret rfl (Or.inl ⟨dX2_tieOf_59, Or.inl rfl⟩))
  (r_aload_n (k := 0) dX2_tieOf_10 rfl <|
  r_getR (ci := 2) (q := (RX2, TX2, 31)) (k := 27) dX2_tieOf_11 (by decide) rfl in_X2 (by decide) (Or.inl q237) rfl <|
  r_iload_n (k := 3) dX2_tieOf_14 rfl <|
  r_iald dX2_tieOf_15 <|
  r_iload_n (k := 1) dX2_tieOf_16 rfl <|
  r_icmp_ne (pt := 30) dX2_tieOf_17 (by decide)
  ((fun _ _ _ H => H))
  (r_aload_n (k := 0) dX2_tieOf_20 rfl <|
  r_getR (ci := 2) (q := (RX2, TX2, 31)) (k := 28) dX2_tieOf_21 (by decide) rfl in_X2 (by decide) (Or.inl q240) rfl <|
  r_iload_n (k := 3) dX2_tieOf_24 rfl <|
  r_iald dX2_tieOf_25 <|
  r_iload_n (k := 2) dX2_tieOf_26 rfl <|
  r_icmp_eq (pt := 50) dX2_tieOf_27 (by decide)
  (r_iload_n (k := 3) dX2_tieOf_50 rfl <|
  r_ret rfl (Or.inl ⟨dX2_tieOf_51, Or.inl rfl⟩))
  ((fun _ _ _ H => H))))
def tX2_tieOf_30 (d : Nat) (Q : Outcome → MH → Prop) (J : Nat → KT) : KT :=
  i_aload 0 <|
  i_getR 2 27 <|
  i_iload 3 <|
  i_iald <|
  i_iload 2 <|
  i_icmp_ne
  (i_iinc 3 1 <|
  (J 2))
  (i_aload 0 <|
  i_getR 2 28 <|
  i_iload 3 <|
  i_iald <|
  i_iload 1 <|
  i_icmp_ne
  (i_iinc 3 1 <|
  (J 2))
  (i_iload 3 <|
  i_ret Q (some .int)))
theorem kX2_tieOf_30 {d : Nat} {Q : Outcome → MH → Prop} : ∀ ls st h, tX2_tieOf_30 d Q (fun pc ls st h => WPb mX2_tieOf d pc ls st h Q) ls st h → WPb mX2_tieOf d 30 ls st h Q :=
  r_aload_n (k := 0) dX2_tieOf_30 rfl <|
  r_getR (ci := 2) (q := (RX2, TX2, 31)) (k := 27) dX2_tieOf_31 (by decide) rfl in_X2 (by decide) (Or.inl q237) rfl <|
  r_iload_n (k := 3) dX2_tieOf_34 rfl <|
  r_iald dX2_tieOf_35 <|
  r_iload_n (k := 2) dX2_tieOf_36 rfl <|
  r_icmp_ne (pt := 52) dX2_tieOf_37 (by decide)
  (r_iinc (v := 1) dX2_tieOf_52 rfl <|
  r_goto (pt := 2) dX2_tieOf_55 (by decide) <|
  (fun _ _ _ H => H))
  (r_aload_n (k := 0) dX2_tieOf_40 rfl <|
  r_getR (ci := 2) (q := (RX2, TX2, 31)) (k := 28) dX2_tieOf_41 (by decide) rfl in_X2 (by decide) (Or.inl q240) rfl <|
  r_iload_n (k := 3) dX2_tieOf_44 rfl <|
  r_iald dX2_tieOf_45 <|
  r_iload_n (k := 1) dX2_tieOf_46 rfl <|
  r_icmp_ne (pt := 52) dX2_tieOf_47 (by decide)
  (r_iinc (v := 1) dX2_tieOf_52 rfl <|
  r_goto (pt := 2) dX2_tieOf_55 (by decide) <|
  (fun _ _ _ H => H))
  (r_iload_n (k := 3) dX2_tieOf_50 rfl <|
  r_ret rfl (Or.inl ⟨dX2_tieOf_51, Or.inl rfl⟩)))
-- CheekTown$World.likens(LCheekTown$World;)LCheekTown$World; cuts [0]
def tX2_likens_0 (d : Nat) (Q : Outcome → MH → Prop) (J : Nat → KT) : KT :=
  i_aload 0 <|
  i_aload 1 <|
  i_getI 2 0 <|
  i_putI 2 0 .int <|
  i_aload 0 <|
  i_aload 1 <|
  i_getI 2 1 <|
  i_putI 2 1 .int <|
  i_aload 0 <|
  i_aload 1 <|
  i_getI 2 2 <|
  i_putI 2 2 .int <|
  i_aload 0 <|
  i_aload 1 <|
  i_getI 2 3 <|
  i_putI 2 3 .int <|
  i_aload 0 <|
  i_aload 1 <|
  i_getI 2 4 <|
  i_putI 2 4 .int <|
  i_aload 0 <|
  i_aload 1 <|
  i_getI 2 5 <|
  i_putI 2 5 .int <|
  i_aload 0 <|
  i_aload 1 <|
  i_getI 2 6 <|
  i_putI 2 6 .int <|
  i_aload 0 <|
  i_aload 1 <|
  i_getI 2 7 <|
  i_putI 2 7 .int <|
  i_aload 0 <|
  i_aload 1 <|
  i_getI 2 8 <|
  i_putI 2 8 .int <|
  i_aload 0 <|
  i_aload 1 <|
  i_getI 2 9 <|
  i_putI 2 9 .int <|
  i_aload 0 <|
  i_aload 1 <|
  i_getI 2 10 <|
  i_putI 2 10 .int <|
  i_aload 0 <|
  i_aload 1 <|
  i_getI 2 11 <|
  i_putI 2 11 .int <|
  i_aload 0 <|
  i_aload 1 <|
  i_getI 2 12 <|
  i_putI 2 12 .int <|
  i_aload 0 <|
  i_aload 1 <|
  i_getI 2 13 <|
  i_putI 2 13 .int <|
  i_aload 0 <|
  i_aload 1 <|
  i_getI 2 14 <|
  i_putI 2 14 .int <|
  i_aload 0 <|
  i_aload 1 <|
  i_getR 2 30 <|
  i_putR 2 30 <|
  i_aload 1 <|
  i_getR 2 15 <|
  i_aload 0 <|
  i_getR 2 15 <|
  i_call mX2_row d 2 pS (xOut Q) <|
  i_aload 1 <|
  i_getR 2 16 <|
  i_aload 0 <|
  i_getR 2 16 <|
  i_call mX2_row d 2 pS (xOut Q) <|
  i_aload 1 <|
  i_getR 2 17 <|
  i_aload 0 <|
  i_getR 2 17 <|
  i_call mX2_row d 2 pS (xOut Q) <|
  i_aload 1 <|
  i_getR 2 18 <|
  i_aload 0 <|
  i_getR 2 18 <|
  i_call mX2_row d 2 pS (xOut Q) <|
  i_aload 1 <|
  i_getR 2 19 <|
  i_aload 0 <|
  i_getR 2 19 <|
  i_call mX2_row d 2 pS (xOut Q) <|
  i_aload 1 <|
  i_getR 2 20 <|
  i_aload 0 <|
  i_getR 2 20 <|
  i_call mX2_row d 2 pS (xOut Q) <|
  i_aload 1 <|
  i_getR 2 21 <|
  i_aload 0 <|
  i_getR 2 21 <|
  i_call mX2_row d 2 pS (xOut Q) <|
  i_aload 1 <|
  i_getR 2 22 <|
  i_const 0 <|
  i_aload 0 <|
  i_getR 2 22 <|
  i_const 0 <|
  i_const 10 <|
  i_cpy 2 d <|
  i_aload 1 <|
  i_getR 2 23 <|
  i_aload 0 <|
  i_getR 2 23 <|
  i_call mX2_row d 2 pS (xOut Q) <|
  i_aload 1 <|
  i_getR 2 24 <|
  i_aload 0 <|
  i_getR 2 24 <|
  i_call mX2_row d 2 pS (xOut Q) <|
  i_aload 1 <|
  i_getR 2 25 <|
  i_aload 0 <|
  i_getR 2 25 <|
  i_call mX2_row d 2 pS (xOut Q) <|
  i_aload 1 <|
  i_getR 2 26 <|
  i_aload 0 <|
  i_getR 2 26 <|
  i_call mX2_row d 2 pS (xOut Q) <|
  i_aload 1 <|
  i_getR 2 27 <|
  i_aload 0 <|
  i_getR 2 27 <|
  i_call mX2_row d 2 pS (xOut Q) <|
  i_aload 1 <|
  i_getR 2 28 <|
  i_aload 0 <|
  i_getR 2 28 <|
  i_call mX2_row d 2 pS (xOut Q) <|
  i_aload 1 <|
  i_getR 2 29 <|
  i_aload 0 <|
  i_getR 2 29 <|
  i_call mX2_row d 2 pS (xOut Q) <|
  i_aload 0 <|
  i_ret Q (some (.object "CheekTown$World"))
theorem kX2_likens_0 {d : Nat} {Q : Outcome → MH → Prop} : ∀ ls st h, tX2_likens_0 d Q (fun pc ls st h => WPb mX2_likens d pc ls st h Q) ls st h → WPb mX2_likens d 0 ls st h Q :=
  r_aload_n (k := 0) dX2_likens_0 rfl <|
  r_aload_n (k := 1) dX2_likens_1 rfl <|
  r_getI (ci := 2) (q := (RX2, TX2, 31)) (k := 0) dX2_likens_2 (by decide) rfl in_X2 (by decide) (Or.inl q178) rfl <|
  r_putI (ci := 2) (q := (RX2, TX2, 31)) (k := 0) tyX2 tyX2_ok nmX2 dX2_likens_5 (by decide) rfl in_X2 (by decide) (Or.inl ⟨rfl, (Or.inl q178)⟩) rfl rfl <|
  r_aload_n (k := 0) dX2_likens_8 rfl <|
  r_aload_n (k := 1) dX2_likens_9 rfl <|
  r_getI (ci := 2) (q := (RX2, TX2, 31)) (k := 1) dX2_likens_10 (by decide) rfl in_X2 (by decide) (Or.inl q180) rfl <|
  r_putI (ci := 2) (q := (RX2, TX2, 31)) (k := 1) tyX2 tyX2_ok nmX2 dX2_likens_13 (by decide) rfl in_X2 (by decide) (Or.inl ⟨rfl, (Or.inl q180)⟩) rfl rfl <|
  r_aload_n (k := 0) dX2_likens_16 rfl <|
  r_aload_n (k := 1) dX2_likens_17 rfl <|
  r_getI (ci := 2) (q := (RX2, TX2, 31)) (k := 2) dX2_likens_18 (by decide) rfl in_X2 (by decide) (Or.inl q182) rfl <|
  r_putI (ci := 2) (q := (RX2, TX2, 31)) (k := 2) tyX2 tyX2_ok nmX2 dX2_likens_21 (by decide) rfl in_X2 (by decide) (Or.inl ⟨rfl, (Or.inl q182)⟩) rfl rfl <|
  r_aload_n (k := 0) dX2_likens_24 rfl <|
  r_aload_n (k := 1) dX2_likens_25 rfl <|
  r_getI (ci := 2) (q := (RX2, TX2, 31)) (k := 3) dX2_likens_26 (by decide) rfl in_X2 (by decide) (Or.inl q186) rfl <|
  r_putI (ci := 2) (q := (RX2, TX2, 31)) (k := 3) tyX2 tyX2_ok nmX2 dX2_likens_29 (by decide) rfl in_X2 (by decide) (Or.inl ⟨rfl, (Or.inl q186)⟩) rfl rfl <|
  r_aload_n (k := 0) dX2_likens_32 rfl <|
  r_aload_n (k := 1) dX2_likens_33 rfl <|
  r_getI (ci := 2) (q := (RX2, TX2, 31)) (k := 4) dX2_likens_34 (by decide) rfl in_X2 (by decide) (Or.inl q189) rfl <|
  r_putI (ci := 2) (q := (RX2, TX2, 31)) (k := 4) tyX2 tyX2_ok nmX2 dX2_likens_37 (by decide) rfl in_X2 (by decide) (Or.inl ⟨rfl, (Or.inl q189)⟩) rfl rfl <|
  r_aload_n (k := 0) dX2_likens_40 rfl <|
  r_aload_n (k := 1) dX2_likens_41 rfl <|
  r_getI (ci := 2) (q := (RX2, TX2, 31)) (k := 5) dX2_likens_42 (by decide) rfl in_X2 (by decide) (Or.inl q191) rfl <|
  r_putI (ci := 2) (q := (RX2, TX2, 31)) (k := 5) tyX2 tyX2_ok nmX2 dX2_likens_45 (by decide) rfl in_X2 (by decide) (Or.inl ⟨rfl, (Or.inl q191)⟩) rfl rfl <|
  r_aload_n (k := 0) dX2_likens_48 rfl <|
  r_aload_n (k := 1) dX2_likens_49 rfl <|
  r_getI (ci := 2) (q := (RX2, TX2, 31)) (k := 6) dX2_likens_50 (by decide) rfl in_X2 (by decide) (Or.inl q193) rfl <|
  r_putI (ci := 2) (q := (RX2, TX2, 31)) (k := 6) tyX2 tyX2_ok nmX2 dX2_likens_53 (by decide) rfl in_X2 (by decide) (Or.inl ⟨rfl, (Or.inl q193)⟩) rfl rfl <|
  r_aload_n (k := 0) dX2_likens_56 rfl <|
  r_aload_n (k := 1) dX2_likens_57 rfl <|
  r_getI (ci := 2) (q := (RX2, TX2, 31)) (k := 7) dX2_likens_58 (by decide) rfl in_X2 (by decide) (Or.inl q195) rfl <|
  r_putI (ci := 2) (q := (RX2, TX2, 31)) (k := 7) tyX2 tyX2_ok nmX2 dX2_likens_61 (by decide) rfl in_X2 (by decide) (Or.inl ⟨rfl, (Or.inl q195)⟩) rfl rfl <|
  r_aload_n (k := 0) dX2_likens_64 rfl <|
  r_aload_n (k := 1) dX2_likens_65 rfl <|
  r_getI (ci := 2) (q := (RX2, TX2, 31)) (k := 8) dX2_likens_66 (by decide) rfl in_X2 (by decide) (Or.inl q197) rfl <|
  r_putI (ci := 2) (q := (RX2, TX2, 31)) (k := 8) tyX2 tyX2_ok nmX2 dX2_likens_69 (by decide) rfl in_X2 (by decide) (Or.inl ⟨rfl, (Or.inl q197)⟩) rfl rfl <|
  r_aload_n (k := 0) dX2_likens_72 rfl <|
  r_aload_n (k := 1) dX2_likens_73 rfl <|
  r_getI (ci := 2) (q := (RX2, TX2, 31)) (k := 9) dX2_likens_74 (by decide) rfl in_X2 (by decide) (Or.inl q199) rfl <|
  r_putI (ci := 2) (q := (RX2, TX2, 31)) (k := 9) tyX2 tyX2_ok nmX2 dX2_likens_77 (by decide) rfl in_X2 (by decide) (Or.inl ⟨rfl, (Or.inl q199)⟩) rfl rfl <|
  r_aload_n (k := 0) dX2_likens_80 rfl <|
  r_aload_n (k := 1) dX2_likens_81 rfl <|
  r_getI (ci := 2) (q := (RX2, TX2, 31)) (k := 10) dX2_likens_82 (by decide) rfl in_X2 (by decide) (Or.inl q201) rfl <|
  r_putI (ci := 2) (q := (RX2, TX2, 31)) (k := 10) tyX2 tyX2_ok nmX2 dX2_likens_85 (by decide) rfl in_X2 (by decide) (Or.inl ⟨rfl, (Or.inl q201)⟩) rfl rfl <|
  r_aload_n (k := 0) dX2_likens_88 rfl <|
  r_aload_n (k := 1) dX2_likens_89 rfl <|
  r_getI (ci := 2) (q := (RX2, TX2, 31)) (k := 11) dX2_likens_90 (by decide) rfl in_X2 (by decide) (Or.inl q203) rfl <|
  r_putI (ci := 2) (q := (RX2, TX2, 31)) (k := 11) tyX2 tyX2_ok nmX2 dX2_likens_93 (by decide) rfl in_X2 (by decide) (Or.inl ⟨rfl, (Or.inl q203)⟩) rfl rfl <|
  r_aload_n (k := 0) dX2_likens_96 rfl <|
  r_aload_n (k := 1) dX2_likens_97 rfl <|
  r_getI (ci := 2) (q := (RX2, TX2, 31)) (k := 12) dX2_likens_98 (by decide) rfl in_X2 (by decide) (Or.inl q205) rfl <|
  r_putI (ci := 2) (q := (RX2, TX2, 31)) (k := 12) tyX2 tyX2_ok nmX2 dX2_likens_101 (by decide) rfl in_X2 (by decide) (Or.inl ⟨rfl, (Or.inl q205)⟩) rfl rfl <|
  r_aload_n (k := 0) dX2_likens_104 rfl <|
  r_aload_n (k := 1) dX2_likens_105 rfl <|
  r_getI (ci := 2) (q := (RX2, TX2, 31)) (k := 13) dX2_likens_106 (by decide) rfl in_X2 (by decide) (Or.inl q207) rfl <|
  r_putI (ci := 2) (q := (RX2, TX2, 31)) (k := 13) tyX2 tyX2_ok nmX2 dX2_likens_109 (by decide) rfl in_X2 (by decide) (Or.inl ⟨rfl, (Or.inl q207)⟩) rfl rfl <|
  r_aload_n (k := 0) dX2_likens_112 rfl <|
  r_aload_n (k := 1) dX2_likens_113 rfl <|
  r_getI (ci := 2) (q := (RX2, TX2, 31)) (k := 14) dX2_likens_114 (by decide) rfl in_X2 (by decide) (Or.inl q209) rfl <|
  r_putI (ci := 2) (q := (RX2, TX2, 31)) (k := 14) tyX2 tyX2_ok nmX2 dX2_likens_117 (by decide) rfl in_X2 (by decide) (Or.inl ⟨rfl, (Or.inl q209)⟩) rfl rfl <|
  r_aload_n (k := 0) dX2_likens_120 rfl <|
  r_aload_n (k := 1) dX2_likens_121 rfl <|
  r_getR (ci := 2) (q := (RX2, TX2, 31)) (k := 30) dX2_likens_122 (by decide) rfl in_X2 (by decide) (Or.inl q245) rfl <|
  r_putR (ci := 2) (q := (RX2, TX2, 31)) (k := 30) tyX2 tyX2_ok nmX2 dX2_likens_125 (by decide) rfl in_X2 (by decide) (Or.inl ⟨rfl, (Or.inl q245)⟩) rfl rfl <|
  r_aload_n (k := 1) dX2_likens_128 rfl <|
  r_getR (ci := 2) (q := (RX2, TX2, 31)) (k := 15) dX2_likens_129 (by decide) rfl in_X2 (by decide) (Or.inl q211) rfl <|
  r_aload_n (k := 0) dX2_likens_132 rfl <|
  r_getR (ci := 2) (q := (RX2, TX2, 31)) (k := 15) dX2_likens_133 (by decide) rfl in_X2 (by decide) (Or.inl q211) rfl <|
  r_cS (Z := mX2_row) dX2_likens_136 rfl (by decide +kernel) ⟨by decide, by decide⟩ q1086 q1087 q118 q1088 (XS.out (noH _)) <|
  r_aload_n (k := 1) dX2_likens_139 rfl <|
  r_getR (ci := 2) (q := (RX2, TX2, 31)) (k := 16) dX2_likens_140 (by decide) rfl in_X2 (by decide) (Or.inl q213) rfl <|
  r_aload_n (k := 0) dX2_likens_143 rfl <|
  r_getR (ci := 2) (q := (RX2, TX2, 31)) (k := 16) dX2_likens_144 (by decide) rfl in_X2 (by decide) (Or.inl q213) rfl <|
  r_cS (Z := mX2_row) dX2_likens_147 rfl (by decide +kernel) ⟨by decide, by decide⟩ q1086 q1087 q118 q1088 (XS.out (noH _)) <|
  r_aload_n (k := 1) dX2_likens_150 rfl <|
  r_getR (ci := 2) (q := (RX2, TX2, 31)) (k := 17) dX2_likens_151 (by decide) rfl in_X2 (by decide) (Or.inl q215) rfl <|
  r_aload_n (k := 0) dX2_likens_154 rfl <|
  r_getR (ci := 2) (q := (RX2, TX2, 31)) (k := 17) dX2_likens_155 (by decide) rfl in_X2 (by decide) (Or.inl q215) rfl <|
  r_cS (Z := mX2_row) dX2_likens_158 rfl (by decide +kernel) ⟨by decide, by decide⟩ q1086 q1087 q118 q1088 (XS.out (noH _)) <|
  r_aload_n (k := 1) dX2_likens_161 rfl <|
  r_getR (ci := 2) (q := (RX2, TX2, 31)) (k := 18) dX2_likens_162 (by decide) rfl in_X2 (by decide) (Or.inl q217) rfl <|
  r_aload_n (k := 0) dX2_likens_165 rfl <|
  r_getR (ci := 2) (q := (RX2, TX2, 31)) (k := 18) dX2_likens_166 (by decide) rfl in_X2 (by decide) (Or.inl q217) rfl <|
  r_cS (Z := mX2_row) dX2_likens_169 rfl (by decide +kernel) ⟨by decide, by decide⟩ q1086 q1087 q118 q1088 (XS.out (noH _)) <|
  r_aload_n (k := 1) dX2_likens_172 rfl <|
  r_getR (ci := 2) (q := (RX2, TX2, 31)) (k := 19) dX2_likens_173 (by decide) rfl in_X2 (by decide) (Or.inl q219) rfl <|
  r_aload_n (k := 0) dX2_likens_176 rfl <|
  r_getR (ci := 2) (q := (RX2, TX2, 31)) (k := 19) dX2_likens_177 (by decide) rfl in_X2 (by decide) (Or.inl q219) rfl <|
  r_cS (Z := mX2_row) dX2_likens_180 rfl (by decide +kernel) ⟨by decide, by decide⟩ q1086 q1087 q118 q1088 (XS.out (noH _)) <|
  r_aload_n (k := 1) dX2_likens_183 rfl <|
  r_getR (ci := 2) (q := (RX2, TX2, 31)) (k := 20) dX2_likens_184 (by decide) rfl in_X2 (by decide) (Or.inl q223) rfl <|
  r_aload_n (k := 0) dX2_likens_187 rfl <|
  r_getR (ci := 2) (q := (RX2, TX2, 31)) (k := 20) dX2_likens_188 (by decide) rfl in_X2 (by decide) (Or.inl q223) rfl <|
  r_cS (Z := mX2_row) dX2_likens_191 rfl (by decide +kernel) ⟨by decide, by decide⟩ q1086 q1087 q118 q1088 (XS.out (noH _)) <|
  r_aload_n (k := 1) dX2_likens_194 rfl <|
  r_getR (ci := 2) (q := (RX2, TX2, 31)) (k := 21) dX2_likens_195 (by decide) rfl in_X2 (by decide) (Or.inl q225) rfl <|
  r_aload_n (k := 0) dX2_likens_198 rfl <|
  r_getR (ci := 2) (q := (RX2, TX2, 31)) (k := 21) dX2_likens_199 (by decide) rfl in_X2 (by decide) (Or.inl q225) rfl <|
  r_cS (Z := mX2_row) dX2_likens_202 rfl (by decide +kernel) ⟨by decide, by decide⟩ q1086 q1087 q118 q1088 (XS.out (noH _)) <|
  r_aload_n (k := 1) dX2_likens_205 rfl <|
  r_getR (ci := 2) (q := (RX2, TX2, 31)) (k := 22) dX2_likens_206 (by decide) rfl in_X2 (by decide) (Or.inl q227) rfl <|
  r_iconst (v := 0) dX2_likens_209 rfl <|
  r_aload_n (k := 0) dX2_likens_210 rfl <|
  r_getR (ci := 2) (q := (RX2, TX2, 31)) (k := 22) dX2_likens_211 (by decide) rfl in_X2 (by decide) (Or.inl q227) rfl <|
  r_iconst (v := 0) dX2_likens_214 rfl <|
  r_bipush (v := 10) dX2_likens_215 rfl <|
  r_cpy (t := 2) (by decide) rfl q1089 q734 q733 q128 dX2_likens_217 <|
  r_aload_n (k := 1) dX2_likens_220 rfl <|
  r_getR (ci := 2) (q := (RX2, TX2, 31)) (k := 23) dX2_likens_221 (by decide) rfl in_X2 (by decide) (Or.inl q229) rfl <|
  r_aload_n (k := 0) dX2_likens_224 rfl <|
  r_getR (ci := 2) (q := (RX2, TX2, 31)) (k := 23) dX2_likens_225 (by decide) rfl in_X2 (by decide) (Or.inl q229) rfl <|
  r_cS (Z := mX2_row) dX2_likens_228 rfl (by decide +kernel) ⟨by decide, by decide⟩ q1086 q1087 q118 q1088 (XS.out (noH _)) <|
  r_aload_n (k := 1) dX2_likens_231 rfl <|
  r_getR (ci := 2) (q := (RX2, TX2, 31)) (k := 24) dX2_likens_232 (by decide) rfl in_X2 (by decide) (Or.inl q231) rfl <|
  r_aload_n (k := 0) dX2_likens_235 rfl <|
  r_getR (ci := 2) (q := (RX2, TX2, 31)) (k := 24) dX2_likens_236 (by decide) rfl in_X2 (by decide) (Or.inl q231) rfl <|
  r_cS (Z := mX2_row) dX2_likens_239 rfl (by decide +kernel) ⟨by decide, by decide⟩ q1086 q1087 q118 q1088 (XS.out (noH _)) <|
  r_aload_n (k := 1) dX2_likens_242 rfl <|
  r_getR (ci := 2) (q := (RX2, TX2, 31)) (k := 25) dX2_likens_243 (by decide) rfl in_X2 (by decide) (Or.inl q233) rfl <|
  r_aload_n (k := 0) dX2_likens_246 rfl <|
  r_getR (ci := 2) (q := (RX2, TX2, 31)) (k := 25) dX2_likens_247 (by decide) rfl in_X2 (by decide) (Or.inl q233) rfl <|
  r_cS (Z := mX2_row) dX2_likens_250 rfl (by decide +kernel) ⟨by decide, by decide⟩ q1086 q1087 q118 q1088 (XS.out (noH _)) <|
  r_aload_n (k := 1) dX2_likens_253 rfl <|
  r_getR (ci := 2) (q := (RX2, TX2, 31)) (k := 26) dX2_likens_254 (by decide) rfl in_X2 (by decide) (Or.inl q235) rfl <|
  r_aload_n (k := 0) dX2_likens_257 rfl <|
  r_getR (ci := 2) (q := (RX2, TX2, 31)) (k := 26) dX2_likens_258 (by decide) rfl in_X2 (by decide) (Or.inl q235) rfl <|
  r_cS (Z := mX2_row) dX2_likens_261 rfl (by decide +kernel) ⟨by decide, by decide⟩ q1086 q1087 q118 q1088 (XS.out (noH _)) <|
  r_aload_n (k := 1) dX2_likens_264 rfl <|
  r_getR (ci := 2) (q := (RX2, TX2, 31)) (k := 27) dX2_likens_265 (by decide) rfl in_X2 (by decide) (Or.inl q237) rfl <|
  r_aload_n (k := 0) dX2_likens_268 rfl <|
  r_getR (ci := 2) (q := (RX2, TX2, 31)) (k := 27) dX2_likens_269 (by decide) rfl in_X2 (by decide) (Or.inl q237) rfl <|
  r_cS (Z := mX2_row) dX2_likens_272 rfl (by decide +kernel) ⟨by decide, by decide⟩ q1086 q1087 q118 q1088 (XS.out (noH _)) <|
  r_aload_n (k := 1) dX2_likens_275 rfl <|
  r_getR (ci := 2) (q := (RX2, TX2, 31)) (k := 28) dX2_likens_276 (by decide) rfl in_X2 (by decide) (Or.inl q240) rfl <|
  r_aload_n (k := 0) dX2_likens_279 rfl <|
  r_getR (ci := 2) (q := (RX2, TX2, 31)) (k := 28) dX2_likens_280 (by decide) rfl in_X2 (by decide) (Or.inl q240) rfl <|
  r_cS (Z := mX2_row) dX2_likens_283 rfl (by decide +kernel) ⟨by decide, by decide⟩ q1086 q1087 q118 q1088 (XS.out (noH _)) <|
  r_aload_n (k := 1) dX2_likens_286 rfl <|
  r_getR (ci := 2) (q := (RX2, TX2, 31)) (k := 29) dX2_likens_287 (by decide) rfl in_X2 (by decide) (Or.inl q243) rfl <|
  r_aload_n (k := 0) dX2_likens_290 rfl <|
  r_getR (ci := 2) (q := (RX2, TX2, 31)) (k := 29) dX2_likens_291 (by decide) rfl in_X2 (by decide) (Or.inl q243) rfl <|
  r_cS (Z := mX2_row) dX2_likens_294 rfl (by decide +kernel) ⟨by decide, by decide⟩ q1086 q1087 q118 q1088 (XS.out (noH _)) <|
  r_aload_n (k := 0) dX2_likens_297 rfl <|
  r_ret rfl (Or.inr (Or.inr ⟨dX2_likens_298, Or.inl ⟨_, rfl⟩⟩))
-- CheekTown$World.row([I[I)V cuts [0]
def tX2_row_0 (d : Nat) (Q : Outcome → MH → Prop) (J : Nat → KT) : KT :=
  i_aload 0 <|
  i_const 0 <|
  i_aload 1 <|
  i_const 0 <|
  i_aload 1 <|
  i_alen <|
  i_cpy 0 d <|
  i_vret Q
theorem kX2_row_0 {d : Nat} {Q : Outcome → MH → Prop} : ∀ ls st h, tX2_row_0 d Q (fun pc ls st h => WPb mX2_row d pc ls st h Q) ls st h → WPb mX2_row d 0 ls st h Q :=
  r_aload_n (k := 0) dX2_row_0 rfl <|
  r_iconst (v := 0) dX2_row_1 rfl <|
  r_aload_n (k := 1) dX2_row_2 rfl <|
  r_iconst (v := 0) dX2_row_3 rfl <|
  r_aload_n (k := 1) dX2_row_4 rfl <|
  r_alen dX2_row_5 <|
  r_cpy (t := 0) (by decide) rfl q1089 q734 q733 q128 dX2_row_6 <|
  r_vret rfl dX2_row_9
-- CheekTown$World.colds()I cuts [0, 4]
def tX2_colds_0 (d : Nat) (Q : Outcome → MH → Prop) (J : Nat → KT) : KT :=
  i_const 0 <|
  i_istore 1 <|
  i_const 0 <|
  i_istore 2 <|
  (J 4)
theorem kX2_colds_0 {d : Nat} {Q : Outcome → MH → Prop} : ∀ ls st h, tX2_colds_0 d Q (fun pc ls st h => WPb mX2_colds d pc ls st h Q) ls st h → WPb mX2_colds d 0 ls st h Q :=
  r_iconst (v := 0) dX2_colds_0 rfl <|
  r_istore_n (k := 1) dX2_colds_1 rfl <|
  r_iconst (v := 0) dX2_colds_2 rfl <|
  r_istore_n (k := 2) dX2_colds_3 rfl <|
  (fun _ _ _ H => H)
def tX2_colds_4 (d : Nat) (Q : Outcome → MH → Prop) (J : Nat → KT) : KT :=
  i_iload 2 <|
  i_aload 0 <|
  i_getI 2 3 <|
  i_icmp_ge
  (i_iload 1 <|
  i_ret Q (some .int))
  (i_iload 1 <|
  i_aload 0 <|
  i_getR 2 22 <|
  i_iload 2 <|
  i_zald <|
  i_if_eq
  (i_const 0 <|
  i_ior <|
  i_istore 1 <|
  i_iinc 2 1 <|
  (J 4))
  (i_const 1 <|
  i_iload 2 <|
  i_ishl <|
  i_ior <|
  i_istore 1 <|
  i_iinc 2 1 <|
  (J 4)))
theorem kX2_colds_4 {d : Nat} {Q : Outcome → MH → Prop} : ∀ ls st h, tX2_colds_4 d Q (fun pc ls st h => WPb mX2_colds d pc ls st h Q) ls st h → WPb mX2_colds d 4 ls st h Q :=
  r_iload_n (k := 2) dX2_colds_4 rfl <|
  r_aload_n (k := 0) dX2_colds_5 rfl <|
  r_getI (ci := 2) (q := (RX2, TX2, 31)) (k := 3) dX2_colds_6 (by decide) rfl in_X2 (by decide) (Or.inl q186) rfl <|
  r_icmp_ge (pt := 37) dX2_colds_9 (by decide)
  (r_iload_n (k := 1) dX2_colds_37 rfl <|
  r_ret rfl (Or.inl ⟨dX2_colds_38, Or.inl rfl⟩))
  (r_iload_n (k := 1) dX2_colds_12 rfl <|
  r_aload_n (k := 0) dX2_colds_13 rfl <|
  r_getR (ci := 2) (q := (RX2, TX2, 31)) (k := 22) dX2_colds_14 (by decide) rfl in_X2 (by decide) (Or.inl q227) rfl <|
  r_iload_n (k := 2) dX2_colds_17 rfl <|
  r_zald dX2_colds_18 <|
  r_if_eq (pt := 28) dX2_colds_19 (by decide)
  (r_iconst (v := 0) dX2_colds_28 rfl <|
  r_ior dX2_colds_29 <|
  r_istore_n (k := 1) dX2_colds_30 rfl <|
  r_iinc (v := 1) dX2_colds_31 rfl <|
  r_goto (pt := 4) dX2_colds_34 (by decide) <|
  (fun _ _ _ H => H))
  (r_iconst (v := 1) dX2_colds_22 rfl <|
  r_iload_n (k := 2) dX2_colds_23 rfl <|
  r_ishl dX2_colds_24 <|
  r_goto (pt := 29) dX2_colds_25 (by decide) <|
  r_ior dX2_colds_29 <|
  r_istore_n (k := 1) dX2_colds_30 rfl <|
  r_iinc (v := 1) dX2_colds_31 rfl <|
  r_goto (pt := 4) dX2_colds_34 (by decide) <|
  (fun _ _ _ H => H)))
-- CheekTown$World.ties(II)V cuts [0]
def tX2_ties_0 (d : Nat) (Q : Outcome → MH → Prop) (J : Nat → KT) : KT :=
  i_aload 0 <|
  i_getR 2 27 <|
  i_aload 0 <|
  i_getI 2 4 <|
  i_iload 1 <|
  i_iast <|
  i_aload 0 <|
  i_getR 2 28 <|
  i_aload 0 <|
  i_getI 2 4 <|
  i_iload 2 <|
  i_iast <|
  i_aload 0 <|
  i_dup <|
  i_getI 2 4 <|
  i_const 1 <|
  i_iadd <|
  i_putI 2 4 .int <|
  i_vret Q
theorem kX2_ties_0 {d : Nat} {Q : Outcome → MH → Prop} : ∀ ls st h, tX2_ties_0 d Q (fun pc ls st h => WPb mX2_ties d pc ls st h Q) ls st h → WPb mX2_ties d 0 ls st h Q :=
  r_aload_n (k := 0) dX2_ties_0 rfl <|
  r_getR (ci := 2) (q := (RX2, TX2, 31)) (k := 27) dX2_ties_1 (by decide) rfl in_X2 (by decide) (Or.inl q237) rfl <|
  r_aload_n (k := 0) dX2_ties_4 rfl <|
  r_getI (ci := 2) (q := (RX2, TX2, 31)) (k := 4) dX2_ties_5 (by decide) rfl in_X2 (by decide) (Or.inl q189) rfl <|
  r_iload_n (k := 1) dX2_ties_8 rfl <|
  r_iast dX2_ties_9 <|
  r_aload_n (k := 0) dX2_ties_10 rfl <|
  r_getR (ci := 2) (q := (RX2, TX2, 31)) (k := 28) dX2_ties_11 (by decide) rfl in_X2 (by decide) (Or.inl q240) rfl <|
  r_aload_n (k := 0) dX2_ties_14 rfl <|
  r_getI (ci := 2) (q := (RX2, TX2, 31)) (k := 4) dX2_ties_15 (by decide) rfl in_X2 (by decide) (Or.inl q189) rfl <|
  r_iload_n (k := 2) dX2_ties_18 rfl <|
  r_iast dX2_ties_19 <|
  r_aload_n (k := 0) dX2_ties_20 rfl <|
  r_dup dX2_ties_21 <|
  r_getI (ci := 2) (q := (RX2, TX2, 31)) (k := 4) dX2_ties_22 (by decide) rfl in_X2 (by decide) (Or.inl q189) rfl <|
  r_iconst (v := 1) dX2_ties_25 rfl <|
  r_iadd dX2_ties_26 <|
  r_putI (ci := 2) (q := (RX2, TX2, 31)) (k := 4) tyX2 tyX2_ok nmX2 dX2_ties_27 (by decide) rfl in_X2 (by decide) (Or.inl ⟨rfl, (Or.inl q189)⟩) rfl rfl <|
  r_vret rfl dX2_ties_30
-- CheekTown$World.weightOf(II)I cuts [0, 5]
def tX2_weightOf_0 (d : Nat) (Q : Outcome → MH → Prop) (J : Nat → KT) : KT :=
  i_const 0 <|
  i_istore 3 <|
  i_const 0 <|
  i_istore 4 <|
  (J 5)
theorem kX2_weightOf_0 {d : Nat} {Q : Outcome → MH → Prop} : ∀ ls st h, tX2_weightOf_0 d Q (fun pc ls st h => WPb mX2_weightOf d pc ls st h Q) ls st h → WPb mX2_weightOf d 0 ls st h Q :=
  r_iconst (v := 0) dX2_weightOf_0 rfl <|
  r_istore_n (k := 3) dX2_weightOf_1 rfl <|
  r_iconst (v := 0) dX2_weightOf_2 rfl <|
  r_istore dX2_weightOf_3 <|
  (fun _ _ _ H => H)
def tX2_weightOf_5 (d : Nat) (Q : Outcome → MH → Prop) (J : Nat → KT) : KT :=
  i_iload 4 <|
  i_aload 0 <|
  i_getI 2 2 <|
  i_icmp_ge
  (i_iload 3 <|
  i_ret Q (some .int))
  (i_iload 3 <|
  i_aload 0 <|
  i_getR 2 15 <|
  i_iload 4 <|
  i_iald <|
  i_iload 1 <|
  i_icmp_ne
  (i_const 0 <|
  i_iadd <|
  i_istore 3 <|
  i_iinc 4 1 <|
  (J 5))
  (i_aload 0 <|
  i_getR 2 16 <|
  i_iload 4 <|
  i_iald <|
  i_iload 2 <|
  i_icmp_ne
  (i_const 0 <|
  i_iadd <|
  i_istore 3 <|
  i_iinc 4 1 <|
  (J 5))
  (i_aload 0 <|
  i_getR 2 17 <|
  i_iload 4 <|
  i_iald <|
  i_iadd <|
  i_istore 3 <|
  i_iinc 4 1 <|
  (J 5))))
theorem kX2_weightOf_5 {d : Nat} {Q : Outcome → MH → Prop} : ∀ ls st h, tX2_weightOf_5 d Q (fun pc ls st h => WPb mX2_weightOf d pc ls st h Q) ls st h → WPb mX2_weightOf d 5 ls st h Q :=
  r_iload dX2_weightOf_5 <|
  r_aload_n (k := 0) dX2_weightOf_7 rfl <|
  r_getI (ci := 2) (q := (RX2, TX2, 31)) (k := 2) dX2_weightOf_8 (by decide) rfl in_X2 (by decide) (Or.inl q182) rfl <|
  r_icmp_ge (pt := 56) dX2_weightOf_11 (by decide)
  (r_iload_n (k := 3) dX2_weightOf_56 rfl <|
  r_ret rfl (Or.inl ⟨dX2_weightOf_57, Or.inl rfl⟩))
  (r_iload_n (k := 3) dX2_weightOf_14 rfl <|
  r_aload_n (k := 0) dX2_weightOf_15 rfl <|
  r_getR (ci := 2) (q := (RX2, TX2, 31)) (k := 15) dX2_weightOf_16 (by decide) rfl in_X2 (by decide) (Or.inl q211) rfl <|
  r_iload dX2_weightOf_19 <|
  r_iald dX2_weightOf_21 <|
  r_iload_n (k := 1) dX2_weightOf_22 rfl <|
  r_icmp_ne (pt := 47) dX2_weightOf_23 (by decide)
  (r_iconst (v := 0) dX2_weightOf_47 rfl <|
  r_iadd dX2_weightOf_48 <|
  r_istore_n (k := 3) dX2_weightOf_49 rfl <|
  r_iinc (v := 1) dX2_weightOf_50 rfl <|
  r_goto (pt := 5) dX2_weightOf_53 (by decide) <|
  (fun _ _ _ H => H))
  (r_aload_n (k := 0) dX2_weightOf_26 rfl <|
  r_getR (ci := 2) (q := (RX2, TX2, 31)) (k := 16) dX2_weightOf_27 (by decide) rfl in_X2 (by decide) (Or.inl q213) rfl <|
  r_iload dX2_weightOf_30 <|
  r_iald dX2_weightOf_32 <|
  r_iload_n (k := 2) dX2_weightOf_33 rfl <|
  r_icmp_ne (pt := 47) dX2_weightOf_34 (by decide)
  (r_iconst (v := 0) dX2_weightOf_47 rfl <|
  r_iadd dX2_weightOf_48 <|
  r_istore_n (k := 3) dX2_weightOf_49 rfl <|
  r_iinc (v := 1) dX2_weightOf_50 rfl <|
  r_goto (pt := 5) dX2_weightOf_53 (by decide) <|
  (fun _ _ _ H => H))
  (r_aload_n (k := 0) dX2_weightOf_37 rfl <|
  r_getR (ci := 2) (q := (RX2, TX2, 31)) (k := 17) dX2_weightOf_38 (by decide) rfl in_X2 (by decide) (Or.inl q215) rfl <|
  r_iload dX2_weightOf_41 <|
  r_iald dX2_weightOf_43 <|
  r_goto (pt := 48) dX2_weightOf_44 (by decide) <|
  r_iadd dX2_weightOf_48 <|
  r_istore_n (k := 3) dX2_weightOf_49 rfl <|
  r_iinc (v := 1) dX2_weightOf_50 rfl <|
  r_goto (pt := 5) dX2_weightOf_53 (by decide) <|
  (fun _ _ _ H => H))))
-- CheekTown$World.meetingsOf(I)I cuts [0, 4]
def tX2_meetingsOf_0 (d : Nat) (Q : Outcome → MH → Prop) (J : Nat → KT) : KT :=
  i_const 0 <|
  i_istore 2 <|
  i_const 0 <|
  i_istore 3 <|
  (J 4)
theorem kX2_meetingsOf_0 {d : Nat} {Q : Outcome → MH → Prop} : ∀ ls st h, tX2_meetingsOf_0 d Q (fun pc ls st h => WPb mX2_meetingsOf d pc ls st h Q) ls st h → WPb mX2_meetingsOf d 0 ls st h Q :=
  r_iconst (v := 0) dX2_meetingsOf_0 rfl <|
  r_istore_n (k := 2) dX2_meetingsOf_1 rfl <|
  r_iconst (v := 0) dX2_meetingsOf_2 rfl <|
  r_istore_n (k := 3) dX2_meetingsOf_3 rfl <|
  (fun _ _ _ H => H)
def tX2_meetingsOf_4 (d : Nat) (Q : Outcome → MH → Prop) (J : Nat → KT) : KT :=
  i_iload 3 <|
  i_aload 0 <|
  i_getI 2 3 <|
  i_icmp_ge
  (i_iload 2 <|
  i_ret Q (some .int))
  (i_iload 2 <|
  i_aload 0 <|
  i_getR 2 23 <|
  i_const 10 <|
  i_iload 1 <|
  i_imul <|
  i_iload 3 <|
  i_iadd <|
  i_iald <|
  i_iadd <|
  i_istore 2 <|
  i_iinc 3 1 <|
  (J 4))
theorem kX2_meetingsOf_4 {d : Nat} {Q : Outcome → MH → Prop} : ∀ ls st h, tX2_meetingsOf_4 d Q (fun pc ls st h => WPb mX2_meetingsOf d pc ls st h Q) ls st h → WPb mX2_meetingsOf d 4 ls st h Q :=
  r_iload_n (k := 3) dX2_meetingsOf_4 rfl <|
  r_aload_n (k := 0) dX2_meetingsOf_5 rfl <|
  r_getI (ci := 2) (q := (RX2, TX2, 31)) (k := 3) dX2_meetingsOf_6 (by decide) rfl in_X2 (by decide) (Or.inl q186) rfl <|
  r_icmp_ge (pt := 32) dX2_meetingsOf_9 (by decide)
  (r_iload_n (k := 2) dX2_meetingsOf_32 rfl <|
  r_ret rfl (Or.inl ⟨dX2_meetingsOf_33, Or.inl rfl⟩))
  (r_iload_n (k := 2) dX2_meetingsOf_12 rfl <|
  r_aload_n (k := 0) dX2_meetingsOf_13 rfl <|
  r_getR (ci := 2) (q := (RX2, TX2, 31)) (k := 23) dX2_meetingsOf_14 (by decide) rfl in_X2 (by decide) (Or.inl q229) rfl <|
  r_bipush (v := 10) dX2_meetingsOf_17 rfl <|
  r_iload_n (k := 1) dX2_meetingsOf_19 rfl <|
  r_imul dX2_meetingsOf_20 <|
  r_iload_n (k := 3) dX2_meetingsOf_21 rfl <|
  r_iadd dX2_meetingsOf_22 <|
  r_iald dX2_meetingsOf_23 <|
  r_iadd dX2_meetingsOf_24 <|
  r_istore_n (k := 2) dX2_meetingsOf_25 rfl <|
  r_iinc (v := 1) dX2_meetingsOf_26 rfl <|
  r_goto (pt := 4) dX2_meetingsOf_29 (by decide) <|
  (fun _ _ _ H => H))
-- CheekTown$World.draw(I)I cuts [0]
def tX2_draw_0 (d : Nat) (Q : Outcome → MH → Prop) (J : Nat → KT) : KT :=
  i_aload 0 <|
  i_const 1103515245 <|
  i_aload 0 <|
  i_getI 2 14 <|
  i_imul <|
  i_const 12345 <|
  i_iadd <|
  i_putI 2 14 .int <|
  i_aload 0 <|
  i_getI 2 14 <|
  i_const 16 <|
  i_iushr <|
  i_const 32767 <|
  i_iand <|
  i_iload 1 <|
  i_irem <|
  i_ret Q (some .int)
theorem kX2_draw_0 {d : Nat} {Q : Outcome → MH → Prop} : ∀ ls st h, tX2_draw_0 d Q (fun pc ls st h => WPb mX2_draw d pc ls st h Q) ls st h → WPb mX2_draw d 0 ls st h Q :=
  r_aload_n (k := 0) dX2_draw_0 rfl <|
  r_ldc (v := 1103515245) dX2_draw_1 q1837 <|
  r_aload_n (k := 0) dX2_draw_3 rfl <|
  r_getI (ci := 2) (q := (RX2, TX2, 31)) (k := 14) dX2_draw_4 (by decide) rfl in_X2 (by decide) (Or.inl q209) rfl <|
  r_imul dX2_draw_7 <|
  r_sipush (v := 12345) dX2_draw_8 rfl <|
  r_iadd dX2_draw_11 <|
  r_putI (ci := 2) (q := (RX2, TX2, 31)) (k := 14) tyX2 tyX2_ok nmX2 dX2_draw_12 (by decide) rfl in_X2 (by decide) (Or.inl ⟨rfl, (Or.inl q209)⟩) rfl rfl <|
  r_aload_n (k := 0) dX2_draw_15 rfl <|
  r_getI (ci := 2) (q := (RX2, TX2, 31)) (k := 14) dX2_draw_16 (by decide) rfl in_X2 (by decide) (Or.inl q209) rfl <|
  r_bipush (v := 16) dX2_draw_19 rfl <|
  r_iushr dX2_draw_21 <|
  r_sipush (v := 32767) dX2_draw_22 rfl <|
  r_iand dX2_draw_25 <|
  r_iload_n (k := 1) dX2_draw_26 rfl <|
  r_irem dX2_draw_27 <|
  r_ret rfl (Or.inl ⟨dX2_draw_28, Or.inl rfl⟩)
-- CheekTown$World.sees(III)V cuts [0, 54]
def tX2_sees_0 (d : Nat) (Q : Outcome → MH → Prop) (J : Nat → KT) : KT :=
  i_aload 0 <|
  i_getR 2 23 <|
  i_const 10 <|
  i_iload 1 <|
  i_imul <|
  i_iload 2 <|
  i_iadd <|
  i_dup2 <|
  i_iald <|
  i_const 1 <|
  i_iadd <|
  i_iast <|
  i_aload 0 <|
  i_getR 2 24 <|
  i_const 10 <|
  i_iload 1 <|
  i_imul <|
  i_iload 2 <|
  i_iadd <|
  i_iload 3 <|
  i_iast <|
  i_aload 0 <|
  i_getR 2 25 <|
  i_iload 1 <|
  i_iald <|
  i_iload 3 <|
  i_icmp_ne
  ((J 54))
  (i_aload 0 <|
  i_getR 2 26 <|
  i_iload 1 <|
  i_iald <|
  i_iload 3 <|
  i_icmp_ne
  ((J 54))
  (i_aload 0 <|
  i_getR 2 19 <|
  i_iload 1 <|
  i_iload 3 <|
  i_iast <|
  (J 54)))
theorem kX2_sees_0 {d : Nat} {Q : Outcome → MH → Prop} : ∀ ls st h, tX2_sees_0 d Q (fun pc ls st h => WPb mX2_sees d pc ls st h Q) ls st h → WPb mX2_sees d 0 ls st h Q :=
  r_aload_n (k := 0) dX2_sees_0 rfl <|
  r_getR (ci := 2) (q := (RX2, TX2, 31)) (k := 23) dX2_sees_1 (by decide) rfl in_X2 (by decide) (Or.inl q229) rfl <|
  r_bipush (v := 10) dX2_sees_4 rfl <|
  r_iload_n (k := 1) dX2_sees_6 rfl <|
  r_imul dX2_sees_7 <|
  r_iload_n (k := 2) dX2_sees_8 rfl <|
  r_iadd dX2_sees_9 <|
  r_dup2 dX2_sees_10 <|
  r_iald dX2_sees_11 <|
  r_iconst (v := 1) dX2_sees_12 rfl <|
  r_iadd dX2_sees_13 <|
  r_iast dX2_sees_14 <|
  r_aload_n (k := 0) dX2_sees_15 rfl <|
  r_getR (ci := 2) (q := (RX2, TX2, 31)) (k := 24) dX2_sees_16 (by decide) rfl in_X2 (by decide) (Or.inl q231) rfl <|
  r_bipush (v := 10) dX2_sees_19 rfl <|
  r_iload_n (k := 1) dX2_sees_21 rfl <|
  r_imul dX2_sees_22 <|
  r_iload_n (k := 2) dX2_sees_23 rfl <|
  r_iadd dX2_sees_24 <|
  r_iload_n (k := 3) dX2_sees_25 rfl <|
  r_iast dX2_sees_26 <|
  r_aload_n (k := 0) dX2_sees_27 rfl <|
  r_getR (ci := 2) (q := (RX2, TX2, 31)) (k := 25) dX2_sees_28 (by decide) rfl in_X2 (by decide) (Or.inl q233) rfl <|
  r_iload_n (k := 1) dX2_sees_31 rfl <|
  r_iald dX2_sees_32 <|
  r_iload_n (k := 3) dX2_sees_33 rfl <|
  r_icmp_ne (pt := 54) dX2_sees_34 (by decide)
  ((fun _ _ _ H => H))
  (r_aload_n (k := 0) dX2_sees_37 rfl <|
  r_getR (ci := 2) (q := (RX2, TX2, 31)) (k := 26) dX2_sees_38 (by decide) rfl in_X2 (by decide) (Or.inl q235) rfl <|
  r_iload_n (k := 1) dX2_sees_41 rfl <|
  r_iald dX2_sees_42 <|
  r_iload_n (k := 3) dX2_sees_43 rfl <|
  r_icmp_ne (pt := 54) dX2_sees_44 (by decide)
  ((fun _ _ _ H => H))
  (r_aload_n (k := 0) dX2_sees_47 rfl <|
  r_getR (ci := 2) (q := (RX2, TX2, 31)) (k := 19) dX2_sees_48 (by decide) rfl in_X2 (by decide) (Or.inl q219) rfl <|
  r_iload_n (k := 1) dX2_sees_51 rfl <|
  r_iload_n (k := 3) dX2_sees_52 rfl <|
  r_iast dX2_sees_53 <|
  (fun _ _ _ H => H)))
def tX2_sees_54 (d : Nat) (Q : Outcome → MH → Prop) (J : Nat → KT) : KT :=
  i_aload 0 <|
  i_getR 2 26 <|
  i_iload 1 <|
  i_aload 0 <|
  i_getR 2 25 <|
  i_iload 1 <|
  i_iald <|
  i_iast <|
  i_aload 0 <|
  i_getR 2 25 <|
  i_iload 1 <|
  i_iload 3 <|
  i_iast <|
  i_vret Q
theorem kX2_sees_54 {d : Nat} {Q : Outcome → MH → Prop} : ∀ ls st h, tX2_sees_54 d Q (fun pc ls st h => WPb mX2_sees d pc ls st h Q) ls st h → WPb mX2_sees d 54 ls st h Q :=
  r_aload_n (k := 0) dX2_sees_54 rfl <|
  r_getR (ci := 2) (q := (RX2, TX2, 31)) (k := 26) dX2_sees_55 (by decide) rfl in_X2 (by decide) (Or.inl q235) rfl <|
  r_iload_n (k := 1) dX2_sees_58 rfl <|
  r_aload_n (k := 0) dX2_sees_59 rfl <|
  r_getR (ci := 2) (q := (RX2, TX2, 31)) (k := 25) dX2_sees_60 (by decide) rfl in_X2 (by decide) (Or.inl q233) rfl <|
  r_iload_n (k := 1) dX2_sees_63 rfl <|
  r_iald dX2_sees_64 <|
  r_iast dX2_sees_65 <|
  r_aload_n (k := 0) dX2_sees_66 rfl <|
  r_getR (ci := 2) (q := (RX2, TX2, 31)) (k := 25) dX2_sees_67 (by decide) rfl in_X2 (by decide) (Or.inl q233) rfl <|
  r_iload_n (k := 1) dX2_sees_70 rfl <|
  r_iload_n (k := 3) dX2_sees_71 rfl <|
  r_iast dX2_sees_72 <|
  r_vret rfl dX2_sees_73
-- CheekTown$World.tells(II[I[II)V cuts [0]
def tX2_tells_0 (d : Nat) (Q : Outcome → MH → Prop) (J : Nat → KT) : KT :=
  i_aload 0 <|
  i_getR 2 29 <|
  i_const 0 <|
  i_aload 0 <|
  i_getR 2 29 <|
  i_const 8 <|
  i_aload 0 <|
  i_getR 2 29 <|
  i_alen <|
  i_const 8 <|
  i_isub <|
  i_cpy 0 d <|
  i_aload 0 <|
  i_getR 2 29 <|
  i_const 0 <|
  i_aload 0 <|
  i_getI 2 5 <|
  i_iast <|
  i_aload 0 <|
  i_getR 2 29 <|
  i_const 1 <|
  i_iload 1 <|
  i_iast <|
  i_aload 0 <|
  i_getR 2 29 <|
  i_const 2 <|
  i_iload 2 <|
  i_iast <|
  i_aload 0 <|
  i_getR 2 29 <|
  i_const 3 <|
  i_aload 3 <|
  i_const 0 <|
  i_iald <|
  i_iast <|
  i_aload 0 <|
  i_getR 2 29 <|
  i_const 4 <|
  i_aload 3 <|
  i_const 1 <|
  i_iald <|
  i_iast <|
  i_aload 0 <|
  i_getR 2 29 <|
  i_const 5 <|
  i_aload 4 <|
  i_const 0 <|
  i_iald <|
  i_iast <|
  i_aload 0 <|
  i_getR 2 29 <|
  i_const 6 <|
  i_aload 4 <|
  i_const 1 <|
  i_iald <|
  i_iast <|
  i_aload 0 <|
  i_getR 2 29 <|
  i_const 7 <|
  i_iload 5 <|
  i_iast <|
  i_aload 0 <|
  i_const 60 <|
  i_aload 0 <|
  i_getI 2 10 <|
  i_const 1 <|
  i_iadd <|
  i_mmin d <|
  i_putI 2 10 .int <|
  i_vret Q
theorem kX2_tells_0 {d : Nat} {Q : Outcome → MH → Prop} : ∀ ls st h, tX2_tells_0 d Q (fun pc ls st h => WPb mX2_tells d pc ls st h Q) ls st h → WPb mX2_tells d 0 ls st h Q :=
  r_aload_n (k := 0) dX2_tells_0 rfl <|
  r_getR (ci := 2) (q := (RX2, TX2, 31)) (k := 29) dX2_tells_1 (by decide) rfl in_X2 (by decide) (Or.inl q243) rfl <|
  r_iconst (v := 0) dX2_tells_4 rfl <|
  r_aload_n (k := 0) dX2_tells_5 rfl <|
  r_getR (ci := 2) (q := (RX2, TX2, 31)) (k := 29) dX2_tells_6 (by decide) rfl in_X2 (by decide) (Or.inl q243) rfl <|
  r_bipush (v := 8) dX2_tells_9 rfl <|
  r_aload_n (k := 0) dX2_tells_11 rfl <|
  r_getR (ci := 2) (q := (RX2, TX2, 31)) (k := 29) dX2_tells_12 (by decide) rfl in_X2 (by decide) (Or.inl q243) rfl <|
  r_alen dX2_tells_15 <|
  r_bipush (v := 8) dX2_tells_16 rfl <|
  r_isub dX2_tells_18 <|
  r_cpy (t := 0) (by decide) rfl q1089 q734 q733 q128 dX2_tells_19 <|
  r_aload_n (k := 0) dX2_tells_22 rfl <|
  r_getR (ci := 2) (q := (RX2, TX2, 31)) (k := 29) dX2_tells_23 (by decide) rfl in_X2 (by decide) (Or.inl q243) rfl <|
  r_iconst (v := 0) dX2_tells_26 rfl <|
  r_aload_n (k := 0) dX2_tells_27 rfl <|
  r_getI (ci := 2) (q := (RX2, TX2, 31)) (k := 5) dX2_tells_28 (by decide) rfl in_X2 (by decide) (Or.inl q191) rfl <|
  r_iast dX2_tells_31 <|
  r_aload_n (k := 0) dX2_tells_32 rfl <|
  r_getR (ci := 2) (q := (RX2, TX2, 31)) (k := 29) dX2_tells_33 (by decide) rfl in_X2 (by decide) (Or.inl q243) rfl <|
  r_iconst (v := 1) dX2_tells_36 rfl <|
  r_iload_n (k := 1) dX2_tells_37 rfl <|
  r_iast dX2_tells_38 <|
  r_aload_n (k := 0) dX2_tells_39 rfl <|
  r_getR (ci := 2) (q := (RX2, TX2, 31)) (k := 29) dX2_tells_40 (by decide) rfl in_X2 (by decide) (Or.inl q243) rfl <|
  r_iconst (v := 2) dX2_tells_43 rfl <|
  r_iload_n (k := 2) dX2_tells_44 rfl <|
  r_iast dX2_tells_45 <|
  r_aload_n (k := 0) dX2_tells_46 rfl <|
  r_getR (ci := 2) (q := (RX2, TX2, 31)) (k := 29) dX2_tells_47 (by decide) rfl in_X2 (by decide) (Or.inl q243) rfl <|
  r_iconst (v := 3) dX2_tells_50 rfl <|
  r_aload_n (k := 3) dX2_tells_51 rfl <|
  r_iconst (v := 0) dX2_tells_52 rfl <|
  r_iald dX2_tells_53 <|
  r_iast dX2_tells_54 <|
  r_aload_n (k := 0) dX2_tells_55 rfl <|
  r_getR (ci := 2) (q := (RX2, TX2, 31)) (k := 29) dX2_tells_56 (by decide) rfl in_X2 (by decide) (Or.inl q243) rfl <|
  r_iconst (v := 4) dX2_tells_59 rfl <|
  r_aload_n (k := 3) dX2_tells_60 rfl <|
  r_iconst (v := 1) dX2_tells_61 rfl <|
  r_iald dX2_tells_62 <|
  r_iast dX2_tells_63 <|
  r_aload_n (k := 0) dX2_tells_64 rfl <|
  r_getR (ci := 2) (q := (RX2, TX2, 31)) (k := 29) dX2_tells_65 (by decide) rfl in_X2 (by decide) (Or.inl q243) rfl <|
  r_iconst (v := 5) dX2_tells_68 rfl <|
  r_aload dX2_tells_69 <|
  r_iconst (v := 0) dX2_tells_71 rfl <|
  r_iald dX2_tells_72 <|
  r_iast dX2_tells_73 <|
  r_aload_n (k := 0) dX2_tells_74 rfl <|
  r_getR (ci := 2) (q := (RX2, TX2, 31)) (k := 29) dX2_tells_75 (by decide) rfl in_X2 (by decide) (Or.inl q243) rfl <|
  r_bipush (v := 6) dX2_tells_78 rfl <|
  r_aload dX2_tells_80 <|
  r_iconst (v := 1) dX2_tells_82 rfl <|
  r_iald dX2_tells_83 <|
  r_iast dX2_tells_84 <|
  r_aload_n (k := 0) dX2_tells_85 rfl <|
  r_getR (ci := 2) (q := (RX2, TX2, 31)) (k := 29) dX2_tells_86 (by decide) rfl in_X2 (by decide) (Or.inl q243) rfl <|
  r_bipush (v := 7) dX2_tells_89 rfl <|
  r_iload dX2_tells_91 <|
  r_iast dX2_tells_93 <|
  r_aload_n (k := 0) dX2_tells_94 rfl <|
  r_bipush (v := 60) dX2_tells_95 rfl <|
  r_aload_n (k := 0) dX2_tells_97 rfl <|
  r_getI (ci := 2) (q := (RX2, TX2, 31)) (k := 10) dX2_tells_98 (by decide) rfl in_X2 (by decide) (Or.inl q201) rfl <|
  r_iconst (v := 1) dX2_tells_101 rfl <|
  r_iadd dX2_tells_102 <|
  r_mmin dX2_tells_103 q1854 q580 q134 q581 <|
  r_putI (ci := 2) (q := (RX2, TX2, 31)) (k := 10) tyX2 tyX2_ok nmX2 dX2_tells_106 (by decide) rfl in_X2 (by decide) (Or.inl ⟨rfl, (Or.inl q201)⟩) rfl rfl <|
  r_vret rfl dX2_tells_109
-- CheekTown$World.cuts(I)V cuts [0]
def tX2_cuts_0 (d : Nat) (Q : Outcome → MH → Prop) (J : Nat → KT) : KT :=
  i_aload 0 <|
  i_dup <|
  i_getI 2 4 <|
  i_const 1 <|
  i_isub <|
  i_putI 2 4 .int <|
  i_aload 0 <|
  i_getR 2 27 <|
  i_iload 1 <|
  i_const 1 <|
  i_iadd <|
  i_aload 0 <|
  i_getR 2 27 <|
  i_iload 1 <|
  i_aload 0 <|
  i_getI 2 4 <|
  i_iload 1 <|
  i_isub <|
  i_cpy 0 d <|
  i_aload 0 <|
  i_getR 2 28 <|
  i_iload 1 <|
  i_const 1 <|
  i_iadd <|
  i_aload 0 <|
  i_getR 2 28 <|
  i_iload 1 <|
  i_aload 0 <|
  i_getI 2 4 <|
  i_iload 1 <|
  i_isub <|
  i_cpy 0 d <|
  i_vret Q
theorem kX2_cuts_0 {d : Nat} {Q : Outcome → MH → Prop} : ∀ ls st h, tX2_cuts_0 d Q (fun pc ls st h => WPb mX2_cuts d pc ls st h Q) ls st h → WPb mX2_cuts d 0 ls st h Q :=
  r_aload_n (k := 0) dX2_cuts_0 rfl <|
  r_dup dX2_cuts_1 <|
  r_getI (ci := 2) (q := (RX2, TX2, 31)) (k := 4) dX2_cuts_2 (by decide) rfl in_X2 (by decide) (Or.inl q189) rfl <|
  r_iconst (v := 1) dX2_cuts_5 rfl <|
  r_isub dX2_cuts_6 <|
  r_putI (ci := 2) (q := (RX2, TX2, 31)) (k := 4) tyX2 tyX2_ok nmX2 dX2_cuts_7 (by decide) rfl in_X2 (by decide) (Or.inl ⟨rfl, (Or.inl q189)⟩) rfl rfl <|
  r_aload_n (k := 0) dX2_cuts_10 rfl <|
  r_getR (ci := 2) (q := (RX2, TX2, 31)) (k := 27) dX2_cuts_11 (by decide) rfl in_X2 (by decide) (Or.inl q237) rfl <|
  r_iload_n (k := 1) dX2_cuts_14 rfl <|
  r_iconst (v := 1) dX2_cuts_15 rfl <|
  r_iadd dX2_cuts_16 <|
  r_aload_n (k := 0) dX2_cuts_17 rfl <|
  r_getR (ci := 2) (q := (RX2, TX2, 31)) (k := 27) dX2_cuts_18 (by decide) rfl in_X2 (by decide) (Or.inl q237) rfl <|
  r_iload_n (k := 1) dX2_cuts_21 rfl <|
  r_aload_n (k := 0) dX2_cuts_22 rfl <|
  r_getI (ci := 2) (q := (RX2, TX2, 31)) (k := 4) dX2_cuts_23 (by decide) rfl in_X2 (by decide) (Or.inl q189) rfl <|
  r_iload_n (k := 1) dX2_cuts_26 rfl <|
  r_isub dX2_cuts_27 <|
  r_cpy (t := 0) (by decide) rfl q1089 q734 q733 q128 dX2_cuts_28 <|
  r_aload_n (k := 0) dX2_cuts_31 rfl <|
  r_getR (ci := 2) (q := (RX2, TX2, 31)) (k := 28) dX2_cuts_32 (by decide) rfl in_X2 (by decide) (Or.inl q240) rfl <|
  r_iload_n (k := 1) dX2_cuts_35 rfl <|
  r_iconst (v := 1) dX2_cuts_36 rfl <|
  r_iadd dX2_cuts_37 <|
  r_aload_n (k := 0) dX2_cuts_38 rfl <|
  r_getR (ci := 2) (q := (RX2, TX2, 31)) (k := 28) dX2_cuts_39 (by decide) rfl in_X2 (by decide) (Or.inl q240) rfl <|
  r_iload_n (k := 1) dX2_cuts_42 rfl <|
  r_aload_n (k := 0) dX2_cuts_43 rfl <|
  r_getI (ci := 2) (q := (RX2, TX2, 31)) (k := 4) dX2_cuts_44 (by decide) rfl in_X2 (by decide) (Or.inl q189) rfl <|
  r_iload_n (k := 1) dX2_cuts_47 rfl <|
  r_isub dX2_cuts_48 <|
  r_cpy (t := 0) (by decide) rfl q1089 q734 q733 q128 dX2_cuts_49 <|
  r_vret rfl dX2_cuts_52
-- CheekTown$World.weightAll(I)I cuts [0, 4]
def tX2_weightAll_0 (d : Nat) (Q : Outcome → MH → Prop) (J : Nat → KT) : KT :=
  i_const 0 <|
  i_istore 2 <|
  i_const 0 <|
  i_istore 3 <|
  (J 4)
theorem kX2_weightAll_0 {d : Nat} {Q : Outcome → MH → Prop} : ∀ ls st h, tX2_weightAll_0 d Q (fun pc ls st h => WPb mX2_weightAll d pc ls st h Q) ls st h → WPb mX2_weightAll d 0 ls st h Q :=
  r_iconst (v := 0) dX2_weightAll_0 rfl <|
  r_istore_n (k := 2) dX2_weightAll_1 rfl <|
  r_iconst (v := 0) dX2_weightAll_2 rfl <|
  r_istore_n (k := 3) dX2_weightAll_3 rfl <|
  (fun _ _ _ H => H)
def tX2_weightAll_4 (d : Nat) (Q : Outcome → MH → Prop) (J : Nat → KT) : KT :=
  i_iload 3 <|
  i_aload 0 <|
  i_getI 2 2 <|
  i_icmp_ge
  (i_iload 2 <|
  i_ret Q (some .int))
  (i_iload 2 <|
  i_aload 0 <|
  i_getR 2 15 <|
  i_iload 3 <|
  i_iald <|
  i_iload 1 <|
  i_icmp_ne
  (i_const 0 <|
  i_iadd <|
  i_istore 2 <|
  i_iinc 3 1 <|
  (J 4))
  (i_aload 0 <|
  i_getR 2 17 <|
  i_iload 3 <|
  i_iald <|
  i_iadd <|
  i_istore 2 <|
  i_iinc 3 1 <|
  (J 4)))
theorem kX2_weightAll_4 {d : Nat} {Q : Outcome → MH → Prop} : ∀ ls st h, tX2_weightAll_4 d Q (fun pc ls st h => WPb mX2_weightAll d pc ls st h Q) ls st h → WPb mX2_weightAll d 4 ls st h Q :=
  r_iload_n (k := 3) dX2_weightAll_4 rfl <|
  r_aload_n (k := 0) dX2_weightAll_5 rfl <|
  r_getI (ci := 2) (q := (RX2, TX2, 31)) (k := 2) dX2_weightAll_6 (by decide) rfl in_X2 (by decide) (Or.inl q182) rfl <|
  r_icmp_ge (pt := 41) dX2_weightAll_9 (by decide)
  (r_iload_n (k := 2) dX2_weightAll_41 rfl <|
  r_ret rfl (Or.inl ⟨dX2_weightAll_42, Or.inl rfl⟩))
  (r_iload_n (k := 2) dX2_weightAll_12 rfl <|
  r_aload_n (k := 0) dX2_weightAll_13 rfl <|
  r_getR (ci := 2) (q := (RX2, TX2, 31)) (k := 15) dX2_weightAll_14 (by decide) rfl in_X2 (by decide) (Or.inl q211) rfl <|
  r_iload_n (k := 3) dX2_weightAll_17 rfl <|
  r_iald dX2_weightAll_18 <|
  r_iload_n (k := 1) dX2_weightAll_19 rfl <|
  r_icmp_ne (pt := 32) dX2_weightAll_20 (by decide)
  (r_iconst (v := 0) dX2_weightAll_32 rfl <|
  r_iadd dX2_weightAll_33 <|
  r_istore_n (k := 2) dX2_weightAll_34 rfl <|
  r_iinc (v := 1) dX2_weightAll_35 rfl <|
  r_goto (pt := 4) dX2_weightAll_38 (by decide) <|
  (fun _ _ _ H => H))
  (r_aload_n (k := 0) dX2_weightAll_23 rfl <|
  r_getR (ci := 2) (q := (RX2, TX2, 31)) (k := 17) dX2_weightAll_24 (by decide) rfl in_X2 (by decide) (Or.inl q215) rfl <|
  r_iload_n (k := 3) dX2_weightAll_27 rfl <|
  r_iald dX2_weightAll_28 <|
  r_goto (pt := 33) dX2_weightAll_29 (by decide) <|
  r_iadd dX2_weightAll_33 <|
  r_istore_n (k := 2) dX2_weightAll_34 rfl <|
  r_iinc (v := 1) dX2_weightAll_35 rfl <|
  r_goto (pt := 4) dX2_weightAll_38 (by decide) <|
  (fun _ _ _ H => H)))
-- CheekTown$Share.<init>()V cuts [0]
def tX20_init_0 (d : Nat) (Q : Outcome → MH → Prop) (J : Nat → KT) : KT :=
  i_aload 0 <|
  i_obj d <|
  i_aload 0 <|
  i_lconst 1 <|
  i_putJ 20 0 <|
  i_aload 0 <|
  i_lconst 1 <|
  i_putJ 20 1 <|
  i_vret Q
theorem kX20_init_0 {d : Nat} {Q : Outcome → MH → Prop} : ∀ ls st h, tX20_init_0 d Q (fun pc ls st h => WPb mX20_init d pc ls st h Q) ls st h → WPb mX20_init d 0 ls st h Q :=
  r_aload_n (k := 0) dX20_init_0 rfl <|
  r_obj dX20_init_1 q1959 q170 q171 <|
  r_aload_n (k := 0) dX20_init_4 rfl <|
  r_lconst (v := 1) dX20_init_5 rfl <|
  r_putJ (ci := 20) (q := (RX20, TX20, 2)) (k := 0) tyX20 tyX20_ok nmX20 dX20_init_6 (by decide) rfl in_X20 (by decide) (Or.inl ⟨rfl, (Or.inl q1960)⟩) rfl rfl <|
  r_aload_n (k := 0) dX20_init_9 rfl <|
  r_lconst (v := 1) dX20_init_10 rfl <|
  r_putJ (ci := 20) (q := (RX20, TX20, 2)) (k := 1) tyX20 tyX20_ok nmX20 dX20_init_11 (by decide) rfl in_X20 (by decide) (Or.inl ⟨rfl, (Or.inl q1962)⟩) rfl rfl <|
  r_vret rfl dX20_init_14
-- CheekTown$Share.times(II)V cuts [0]
def tX20_times_0 (d : Nat) (Q : Outcome → MH → Prop) (J : Nat → KT) : KT :=
  i_aload 0 <|
  i_dup <|
  i_getJ 20 0 <|
  i_iload 1 <|
  i_i2l <|
  i_lmul <|
  i_putJ 20 0 <|
  i_aload 0 <|
  i_dup <|
  i_getJ 20 1 <|
  i_iload 2 <|
  i_i2l <|
  i_lmul <|
  i_putJ 20 1 <|
  i_vret Q
theorem kX20_times_0 {d : Nat} {Q : Outcome → MH → Prop} : ∀ ls st h, tX20_times_0 d Q (fun pc ls st h => WPb mX20_times d pc ls st h Q) ls st h → WPb mX20_times d 0 ls st h Q :=
  r_aload_n (k := 0) dX20_times_0 rfl <|
  r_dup dX20_times_1 <|
  r_getJ (ci := 20) (q := (RX20, TX20, 2)) (k := 0) dX20_times_2 (by decide) rfl in_X20 (by decide) (Or.inl q1960) rfl <|
  r_iload_n (k := 1) dX20_times_5 rfl <|
  r_i2l dX20_times_6 <|
  r_lmul dX20_times_7 <|
  r_putJ (ci := 20) (q := (RX20, TX20, 2)) (k := 0) tyX20 tyX20_ok nmX20 dX20_times_8 (by decide) rfl in_X20 (by decide) (Or.inl ⟨rfl, (Or.inl q1960)⟩) rfl rfl <|
  r_aload_n (k := 0) dX20_times_11 rfl <|
  r_dup dX20_times_12 <|
  r_getJ (ci := 20) (q := (RX20, TX20, 2)) (k := 1) dX20_times_13 (by decide) rfl in_X20 (by decide) (Or.inl q1962) rfl <|
  r_iload_n (k := 2) dX20_times_16 rfl <|
  r_i2l dX20_times_17 <|
  r_lmul dX20_times_18 <|
  r_putJ (ci := 20) (q := (RX20, TX20, 2)) (k := 1) tyX20 tyX20_ok nmX20 dX20_times_19 (by decide) rfl in_X20 (by decide) (Or.inl ⟨rfl, (Or.inl q1962)⟩) rfl rfl <|
  r_vret rfl dX20_times_22
-- CheekTown$Share.isMore(LCheekTown$Share;)Z cuts [0]
def tX20_isMore_0 (d : Nat) (Q : Outcome → MH → Prop) (J : Nat → KT) : KT :=
  i_aload 0 <|
  i_getJ 20 0 <|
  i_aload 1 <|
  i_getJ 20 1 <|
  i_lmul <|
  i_aload 1 <|
  i_getJ 20 0 <|
  i_aload 0 <|
  i_getJ 20 1 <|
  i_lmul <|
  i_lcmp <|
  i_if_le
  (i_const 0 <|
  i_ret Q (some .boolean))
  (i_const 1 <|
  i_ret Q (some .boolean))
theorem kX20_isMore_0 {d : Nat} {Q : Outcome → MH → Prop} : ∀ ls st h, tX20_isMore_0 d Q (fun pc ls st h => WPb mX20_isMore d pc ls st h Q) ls st h → WPb mX20_isMore d 0 ls st h Q :=
  r_aload_n (k := 0) dX20_isMore_0 rfl <|
  r_getJ (ci := 20) (q := (RX20, TX20, 2)) (k := 0) dX20_isMore_1 (by decide) rfl in_X20 (by decide) (Or.inl q1960) rfl <|
  r_aload_n (k := 1) dX20_isMore_4 rfl <|
  r_getJ (ci := 20) (q := (RX20, TX20, 2)) (k := 1) dX20_isMore_5 (by decide) rfl in_X20 (by decide) (Or.inl q1962) rfl <|
  r_lmul dX20_isMore_8 <|
  r_aload_n (k := 1) dX20_isMore_9 rfl <|
  r_getJ (ci := 20) (q := (RX20, TX20, 2)) (k := 0) dX20_isMore_10 (by decide) rfl in_X20 (by decide) (Or.inl q1960) rfl <|
  r_aload_n (k := 0) dX20_isMore_13 rfl <|
  r_getJ (ci := 20) (q := (RX20, TX20, 2)) (k := 1) dX20_isMore_14 (by decide) rfl in_X20 (by decide) (Or.inl q1962) rfl <|
  r_lmul dX20_isMore_17 <|
  r_lcmp dX20_isMore_18 <|
  r_if_le (pt := 26) dX20_isMore_19 (by decide)
  (r_iconst (v := 0) dX20_isMore_26 rfl <|
  r_ret rfl (Or.inl ⟨dX20_isMore_27, Or.inr (Or.inl rfl)⟩))
  (r_iconst (v := 1) dX20_isMore_22 rfl <|
  r_goto (pt := 27) dX20_isMore_23 (by decide) <|
  r_ret rfl (Or.inl ⟨dX20_isMore_27, Or.inr (Or.inl rfl)⟩))
-- CheekTown$Rule.values()[LCheekTown$Rule; cuts [0]
def tX21_values_0 (d : Nat) (Q : Outcome → MH → Prop) (J : Nat → KT) : KT :=
  i_sref 17 <|
  i_cln d 7 <|
  i_castA 7 <|
  i_ret Q (some (.array (.object "CheekTown$Rule")))
theorem kX21_values_0 {d : Nat} {Q : Outcome → MH → Prop} : ∀ ls st h, tX21_values_0 d Q (fun pc ls st h => WPb mX21_values d pc ls st h Q) ls st h → WPb mX21_values d 0 ls st h Q :=
  r_getsR (a := 17) (T := ("CheekTown$Rule", "$VALUES", "[LCheekTown$Rule;")) (by decide +kernel) (by decide) q2021 dX21_values_0 <|
  r_cln (t := 7) (ad := "[LCheekTown$Rule;") (E := "CheekTown$Rule") rfl (by decide +kernel) q2023 q2024 q726 q727 q2025 q2026 dX21_values_3 <|
  r_castA (t := 7) (nm := "[LCheekTown$Rule;") (by decide) (by decide +kernel) q2028 dX21_values_6 <|
  r_ret rfl (Or.inr (Or.inr ⟨dX21_values_9, Or.inr ⟨_, rfl⟩⟩))
-- CheekTown$Rule.isFirst(II)Z cuts [0]
def tX21_isFirst_0 (d : Nat) (Q : Outcome → MH → Prop) (J : Nat → KT) : KT :=
  i_aload 0 <|
  i_call mJ17_ordinal d 1 (pV 21) (xOut Q) <|
  i_sw [(0, i_iload 1 <|
  i_iload 2 <|
  i_icmp_lt
  (i_const 0 <|
  i_ret Q (some .boolean))
  (i_const 1 <|
  i_ret Q (some .boolean))),
  (1, i_iload 1 <|
  i_iload 2 <|
  i_icmp_gt
  (i_const 0 <|
  i_ret Q (some .boolean))
  (i_const 1 <|
  i_ret Q (some .boolean)))]
  (i_const 1 <|
  i_ret Q (some .boolean))
theorem kX21_isFirst_0 {d : Nat} {Q : Outcome → MH → Prop} : ∀ ls st h, tX21_isFirst_0 d Q (fun pc ls st h => WPb mX21_isFirst d pc ls st h Q) ls st h → WPb mX21_isFirst d 0 ls st h Q :=
  r_aload_n (k := 0) dX21_isFirst_0 rfl <|
  r_cU (Z := mJ17_ordinal) (n := 0) (ci := 21) (q := (RX21, cx_TR, 1)) (owner := "java/lang/Enum") (x := ⟨"CheekTown$Rule", "ordinal", "()I"⟩) dX21_isFirst_1 rfl (by decide +kernel) ⟨by decide, by decide⟩ (by decide) rfl rfl q2037 q2038 q2039 q549 q145 q550 (XS.out (noH _)) <|
  r_lsw (tl := [(0, 32), (1, 43)]) (td := 54) dX21_isFirst_4 (by decide +kernel) (by decide +kernel) (by decide) (sw_cons (r_iload_n (k := 1) dX21_isFirst_32 rfl <|
  r_iload_n (k := 2) dX21_isFirst_33 rfl <|
  r_icmp_lt (pt := 41) dX21_isFirst_34 (by decide)
  (r_iconst (v := 0) dX21_isFirst_41 rfl <|
  r_ret rfl (Or.inl ⟨dX21_isFirst_42, Or.inr (Or.inl rfl)⟩))
  (r_iconst (v := 1) dX21_isFirst_37 rfl <|
  r_goto (pt := 42) dX21_isFirst_38 (by decide) <|
  r_ret rfl (Or.inl ⟨dX21_isFirst_42, Or.inr (Or.inl rfl)⟩)))
  (sw_cons (r_iload_n (k := 1) dX21_isFirst_43 rfl <|
  r_iload_n (k := 2) dX21_isFirst_44 rfl <|
  r_icmp_gt (pt := 52) dX21_isFirst_45 (by decide)
  (r_iconst (v := 0) dX21_isFirst_52 rfl <|
  r_ret rfl (Or.inl ⟨dX21_isFirst_53, Or.inr (Or.inl rfl)⟩))
  (r_iconst (v := 1) dX21_isFirst_48 rfl <|
  r_goto (pt := 53) dX21_isFirst_49 (by decide) <|
  r_ret rfl (Or.inl ⟨dX21_isFirst_53, Or.inr (Or.inl rfl)⟩)))
  (sw_nil (r_iconst (v := 1) dX21_isFirst_54 rfl <|
  r_ret rfl (Or.inl ⟨dX21_isFirst_55, Or.inr (Or.inl rfl)⟩)))))
-- CheekTown$Reader.<init>()V cuts [0]
def tX3_init_0 (d : Nat) (Q : Outcome → MH → Prop) (J : Nat → KT) : KT :=
  i_aload 0 <|
  i_obj d <|
  i_aload 0 <|
  i_const 400 <|
  i_newa 1 <|
  i_putR 3 0 <|
  i_aload 0 <|
  i_const (-1) <|
  i_putI 3 5 .int <|
  i_vret Q
theorem kX3_init_0 {d : Nat} {Q : Outcome → MH → Prop} : ∀ ls st h, tX3_init_0 d Q (fun pc ls st h => WPb mX3_init d pc ls st h Q) ls st h → WPb mX3_init d 0 ls st h Q :=
  r_aload_n (k := 0) dX3_init_0 rfl <|
  r_obj dX3_init_1 q317 q170 q171 <|
  r_aload_n (k := 0) dX3_init_4 rfl <|
  r_sipush (v := 400) dX3_init_5 rfl <|
  r_newa (t := 1) (at9 := .byte) (ty := .byte) (by decide) rfl rfl q344 (by decide) dX3_init_8 <|
  r_putR (ci := 3) (q := (RX3, TX3, 7)) (k := 0) tyX3 tyX3_ok nmX3 dX3_init_10 (by decide) rfl in_X3 (by decide) (Or.inr ⟨rfl, rfl, rfl, q318⟩) rfl rfl <|
  r_aload_n (k := 0) dX3_init_13 rfl <|
  r_iconst (v := (-1)) dX3_init_14 rfl <|
  r_putI (ci := 3) (q := (RX3, TX3, 7)) (k := 5) tyX3 tyX3_ok nmX3 dX3_init_15 (by decide) rfl in_X3 (by decide) (Or.inl ⟨rfl, (Or.inl q326)⟩) rfl rfl <|
  r_vret rfl dX3_init_18
-- CheekTown$Reader.add([I)I cuts [0, 23, 39]
def tX3_add_0 (d : Nat) (Q : Outcome → MH → Prop) (J : Nat → KT) : KT :=
  i_aload 0 <|
  i_getI 3 1 <|
  i_const 20 <|
  i_iadd <|
  i_const 400 <|
  i_icmp_le
  (i_aload 1 <|
  i_astore 2 <|
  i_aload 2 <|
  i_alen <|
  i_istore 3 <|
  i_const 0 <|
  i_istore 4 <|
  (J 23))
  (i_const (-1) <|
  i_ret Q (some .int))
theorem kX3_add_0 {d : Nat} {Q : Outcome → MH → Prop} : ∀ ls st h, tX3_add_0 d Q (fun pc ls st h => WPb mX3_add d pc ls st h Q) ls st h → WPb mX3_add d 0 ls st h Q :=
  r_aload_n (k := 0) dX3_add_0 rfl <|
  r_getI (ci := 3) (q := (RX3, TX3, 7)) (k := 1) dX3_add_1 (by decide) rfl in_X3 (by decide) (Or.inl q320) rfl <|
  r_bipush (v := 20) dX3_add_4 rfl <|
  r_iadd dX3_add_6 <|
  r_sipush (v := 400) dX3_add_7 rfl <|
  r_icmp_le (pt := 15) dX3_add_10 (by decide)
  (r_aload_n (k := 1) dX3_add_15 rfl <|
  r_astore_n (k := 2) dX3_add_16 rfl <|
  r_aload_n (k := 2) dX3_add_17 rfl <|
  r_alen dX3_add_18 <|
  r_istore_n (k := 3) dX3_add_19 rfl <|
  r_iconst (v := 0) dX3_add_20 rfl <|
  r_istore dX3_add_21 <|
  (fun _ _ _ H => H))
  (r_iconst (v := (-1)) dX3_add_13 rfl <|
  r_ret rfl (Or.inl ⟨dX3_add_14, Or.inl rfl⟩))
def tX3_add_23 (d : Nat) (Q : Outcome → MH → Prop) (J : Nat → KT) : KT :=
  i_iload 4 <|
  i_iload 3 <|
  i_icmp_ge
  (i_aload 0 <|
  i_getI 3 1 <|
  i_ret Q (some .int))
  (i_aload 2 <|
  i_iload 4 <|
  i_iald <|
  i_istore 5 <|
  i_const 24 <|
  i_istore 6 <|
  (J 39))
theorem kX3_add_23 {d : Nat} {Q : Outcome → MH → Prop} : ∀ ls st h, tX3_add_23 d Q (fun pc ls st h => WPb mX3_add d pc ls st h Q) ls st h → WPb mX3_add d 23 ls st h Q :=
  r_iload dX3_add_23 <|
  r_iload_n (k := 3) dX3_add_25 rfl <|
  r_icmp_ge (pt := 81) dX3_add_26 (by decide)
  (r_aload_n (k := 0) dX3_add_81 rfl <|
  r_getI (ci := 3) (q := (RX3, TX3, 7)) (k := 1) dX3_add_82 (by decide) rfl in_X3 (by decide) (Or.inl q320) rfl <|
  r_ret rfl (Or.inl ⟨dX3_add_85, Or.inl rfl⟩))
  (r_aload_n (k := 2) dX3_add_29 rfl <|
  r_iload dX3_add_30 <|
  r_iald dX3_add_32 <|
  r_istore dX3_add_33 <|
  r_bipush (v := 24) dX3_add_35 rfl <|
  r_istore dX3_add_37 <|
  (fun _ _ _ H => H))
def tX3_add_39 (d : Nat) (Q : Outcome → MH → Prop) (J : Nat → KT) : KT :=
  i_iload 6 <|
  i_if_lt
  (i_iinc 4 1 <|
  (J 23))
  (i_aload 0 <|
  i_getR 3 0 <|
  i_aload 0 <|
  i_getI 3 1 <|
  i_iload 5 <|
  i_iload 6 <|
  i_ishr <|
  i_i2b <|
  i_bast <|
  i_aload 0 <|
  i_dup <|
  i_getI 3 1 <|
  i_const 1 <|
  i_iadd <|
  i_putI 3 1 .int <|
  i_iinc 6 (-8) <|
  (J 39))
theorem kX3_add_39 {d : Nat} {Q : Outcome → MH → Prop} : ∀ ls st h, tX3_add_39 d Q (fun pc ls st h => WPb mX3_add d pc ls st h Q) ls st h → WPb mX3_add d 39 ls st h Q :=
  r_iload dX3_add_39 <|
  r_if_lt (pt := 75) dX3_add_41 (by decide)
  (r_iinc (v := 1) dX3_add_75 rfl <|
  r_goto (pt := 23) dX3_add_78 (by decide) <|
  (fun _ _ _ H => H))
  (r_aload_n (k := 0) dX3_add_44 rfl <|
  r_getR (ci := 3) (q := (RX3, TX3, 7)) (k := 0) dX3_add_45 (by decide) rfl in_X3 (by decide) (Or.inl q318) rfl <|
  r_aload_n (k := 0) dX3_add_48 rfl <|
  r_getI (ci := 3) (q := (RX3, TX3, 7)) (k := 1) dX3_add_49 (by decide) rfl in_X3 (by decide) (Or.inl q320) rfl <|
  r_iload dX3_add_52 <|
  r_iload dX3_add_54 <|
  r_ishr dX3_add_56 <|
  r_i2b dX3_add_57 <|
  r_bast dX3_add_58 <|
  r_aload_n (k := 0) dX3_add_59 rfl <|
  r_dup dX3_add_60 <|
  r_getI (ci := 3) (q := (RX3, TX3, 7)) (k := 1) dX3_add_61 (by decide) rfl in_X3 (by decide) (Or.inl q320) rfl <|
  r_iconst (v := 1) dX3_add_64 rfl <|
  r_iadd dX3_add_65 <|
  r_putI (ci := 3) (q := (RX3, TX3, 7)) (k := 1) tyX3 tyX3_ok nmX3 dX3_add_66 (by decide) rfl in_X3 (by decide) (Or.inl ⟨rfl, (Or.inl q320)⟩) rfl rfl <|
  r_iinc (v := (-8)) dX3_add_69 rfl <|
  r_goto (pt := 39) dX3_add_72 (by decide) <|
  (fun _ _ _ H => H))
-- CheekTown$Reader.cut(I)Z cuts [0]
def tX3_cut_0 (d : Nat) (Q : Outcome → MH → Prop) (J : Nat → KT) : KT :=
  i_iload 1 <|
  i_if_lt
  (i_const 0 <|
  i_ret Q (some .boolean))
  (i_iload 1 <|
  i_aload 0 <|
  i_getI 3 1 <|
  i_icmp_le
  (i_aload 0 <|
  i_iload 1 <|
  i_putI 3 1 .int <|
  i_const 1 <|
  i_ret Q (some .boolean))
  (i_const 0 <|
  i_ret Q (some .boolean)))
theorem kX3_cut_0 {d : Nat} {Q : Outcome → MH → Prop} : ∀ ls st h, tX3_cut_0 d Q (fun pc ls st h => WPb mX3_cut d pc ls st h Q) ls st h → WPb mX3_cut d 0 ls st h Q :=
  r_iload_n (k := 1) dX3_cut_0 rfl <|
  r_if_lt (pt := 12) dX3_cut_1 (by decide)
  (r_iconst (v := 0) dX3_cut_12 rfl <|
  r_ret rfl (Or.inl ⟨dX3_cut_13, Or.inr (Or.inl rfl)⟩))
  (r_iload_n (k := 1) dX3_cut_4 rfl <|
  r_aload_n (k := 0) dX3_cut_5 rfl <|
  r_getI (ci := 3) (q := (RX3, TX3, 7)) (k := 1) dX3_cut_6 (by decide) rfl in_X3 (by decide) (Or.inl q320) rfl <|
  r_icmp_le (pt := 14) dX3_cut_9 (by decide)
  (r_aload_n (k := 0) dX3_cut_14 rfl <|
  r_iload_n (k := 1) dX3_cut_15 rfl <|
  r_putI (ci := 3) (q := (RX3, TX3, 7)) (k := 1) tyX3 tyX3_ok nmX3 dX3_cut_16 (by decide) rfl in_X3 (by decide) (Or.inl ⟨rfl, (Or.inl q320)⟩) rfl rfl <|
  r_iconst (v := 1) dX3_cut_19 rfl <|
  r_ret rfl (Or.inl ⟨dX3_cut_20, Or.inr (Or.inl rfl)⟩))
  (r_iconst (v := 0) dX3_cut_12 rfl <|
  r_ret rfl (Or.inl ⟨dX3_cut_13, Or.inr (Or.inl rfl)⟩)))
-- CheekTown$Reader.begins()V cuts [0]
def tX3_begins_0 (d : Nat) (Q : Outcome → MH → Prop) (J : Nat → KT) : KT :=
  i_aload 0 <|
  i_aload 0 <|
  i_getI 3 1 <|
  i_putI 3 2 .int <|
  i_aload 0 <|
  i_const 0 <|
  i_putI 3 1 .int <|
  i_aload 0 <|
  i_const 0 <|
  i_putI 3 3 .int <|
  i_aload 0 <|
  i_const 0 <|
  i_putI 3 6 .int <|
  i_vret Q
theorem kX3_begins_0 {d : Nat} {Q : Outcome → MH → Prop} : ∀ ls st h, tX3_begins_0 d Q (fun pc ls st h => WPb mX3_begins d pc ls st h Q) ls st h → WPb mX3_begins d 0 ls st h Q :=
  r_aload_n (k := 0) dX3_begins_0 rfl <|
  r_aload_n (k := 0) dX3_begins_1 rfl <|
  r_getI (ci := 3) (q := (RX3, TX3, 7)) (k := 1) dX3_begins_2 (by decide) rfl in_X3 (by decide) (Or.inl q320) rfl <|
  r_putI (ci := 3) (q := (RX3, TX3, 7)) (k := 2) tyX3 tyX3_ok nmX3 dX3_begins_5 (by decide) rfl in_X3 (by decide) (Or.inl ⟨rfl, (Or.inl q321)⟩) rfl rfl <|
  r_aload_n (k := 0) dX3_begins_8 rfl <|
  r_iconst (v := 0) dX3_begins_9 rfl <|
  r_putI (ci := 3) (q := (RX3, TX3, 7)) (k := 1) tyX3 tyX3_ok nmX3 dX3_begins_10 (by decide) rfl in_X3 (by decide) (Or.inl ⟨rfl, (Or.inl q320)⟩) rfl rfl <|
  r_aload_n (k := 0) dX3_begins_13 rfl <|
  r_iconst (v := 0) dX3_begins_14 rfl <|
  r_putI (ci := 3) (q := (RX3, TX3, 7)) (k := 3) tyX3 tyX3_ok nmX3 dX3_begins_15 (by decide) rfl in_X3 (by decide) (Or.inl ⟨rfl, (Or.inl q323)⟩) rfl rfl <|
  r_aload_n (k := 0) dX3_begins_18 rfl <|
  r_iconst (v := 0) dX3_begins_19 rfl <|
  r_putI (ci := 3) (q := (RX3, TX3, 7)) (k := 6) tyX3 tyX3_ok nmX3 dX3_begins_20 (by decide) rfl in_X3 (by decide) (Or.inl ⟨rfl, (Or.inl q328)⟩) rfl rfl <|
  r_vret rfl dX3_begins_23
-- CheekTown$Reader.isOver()Z cuts [0]
def tX3_isOver_0 (d : Nat) (Q : Outcome → MH → Prop) (J : Nat → KT) : KT :=
  i_aload 0 <|
  i_call mX3_blanks d 1 (pV 3) (xOut Q) <|
  i_aload 0 <|
  i_getI 3 3 <|
  i_aload 0 <|
  i_getI 3 2 <|
  i_icmp_ne
  (i_const 0 <|
  i_ret Q (some .boolean))
  (i_const 1 <|
  i_ret Q (some .boolean))
theorem kX3_isOver_0 {d : Nat} {Q : Outcome → MH → Prop} : ∀ ls st h, tX3_isOver_0 d Q (fun pc ls st h => WPb mX3_isOver d pc ls st h Q) ls st h → WPb mX3_isOver d 0 ls st h Q :=
  r_aload_n (k := 0) dX3_isOver_0 rfl <|
  r_cV (Z := mX3_blanks) (ci := 3) (q := (RX3, TX3, 7)) dX3_isOver_1 rfl (by decide +kernel) ⟨by decide, by decide⟩ (by decide) rfl rfl q1132 q1133 q1134 q119 q1135 (XS.out (noH _)) <|
  r_aload_n (k := 0) dX3_isOver_4 rfl <|
  r_getI (ci := 3) (q := (RX3, TX3, 7)) (k := 3) dX3_isOver_5 (by decide) rfl in_X3 (by decide) (Or.inl q323) rfl <|
  r_aload_n (k := 0) dX3_isOver_8 rfl <|
  r_getI (ci := 3) (q := (RX3, TX3, 7)) (k := 2) dX3_isOver_9 (by decide) rfl in_X3 (by decide) (Or.inl q321) rfl <|
  r_icmp_ne (pt := 19) dX3_isOver_12 (by decide)
  (r_iconst (v := 0) dX3_isOver_19 rfl <|
  r_ret rfl (Or.inl ⟨dX3_isOver_20, Or.inr (Or.inl rfl)⟩))
  (r_iconst (v := 1) dX3_isOver_15 rfl <|
  r_goto (pt := 20) dX3_isOver_16 (by decide) <|
  r_ret rfl (Or.inl ⟨dX3_isOver_20, Or.inr (Or.inl rfl)⟩))
-- CheekTown$Reader.blanks()V cuts [0]
def tX3_blanks_0 (d : Nat) (Q : Outcome → MH → Prop) (J : Nat → KT) : KT :=
  i_aload 0 <|
  i_aload 0 <|
  i_getI 3 3 <|
  i_call mX3_byteAt d 2 (pV 3) (xOut Q) <|
  i_const 32 <|
  i_icmp_ne
  (i_aload 0 <|
  i_aload 0 <|
  i_getI 3 3 <|
  i_putI 3 4 .int <|
  i_vret Q)
  (i_aload 0 <|
  i_dup <|
  i_getI 3 3 <|
  i_const 1 <|
  i_iadd <|
  i_putI 3 3 .int <|
  (J 0))
theorem kX3_blanks_0 {d : Nat} {Q : Outcome → MH → Prop} : ∀ ls st h, tX3_blanks_0 d Q (fun pc ls st h => WPb mX3_blanks d pc ls st h Q) ls st h → WPb mX3_blanks d 0 ls st h Q :=
  r_aload_n (k := 0) dX3_blanks_0 rfl <|
  r_aload_n (k := 0) dX3_blanks_1 rfl <|
  r_getI (ci := 3) (q := (RX3, TX3, 7)) (k := 3) dX3_blanks_2 (by decide) rfl in_X3 (by decide) (Or.inl q323) rfl <|
  r_cV (Z := mX3_byteAt) (ci := 3) (q := (RX3, TX3, 7)) dX3_blanks_5 rfl (by decide +kernel) ⟨by decide, by decide⟩ (by decide) rfl rfl q1136 q1138 qs11 q119 q1139 (XS.out (noH _)) <|
  r_bipush (v := 32) dX3_blanks_8 rfl <|
  r_icmp_ne (pt := 26) dX3_blanks_10 (by decide)
  (r_aload_n (k := 0) dX3_blanks_26 rfl <|
  r_aload_n (k := 0) dX3_blanks_27 rfl <|
  r_getI (ci := 3) (q := (RX3, TX3, 7)) (k := 3) dX3_blanks_28 (by decide) rfl in_X3 (by decide) (Or.inl q323) rfl <|
  r_putI (ci := 3) (q := (RX3, TX3, 7)) (k := 4) tyX3 tyX3_ok nmX3 dX3_blanks_31 (by decide) rfl in_X3 (by decide) (Or.inl ⟨rfl, (Or.inl q324)⟩) rfl rfl <|
  r_vret rfl dX3_blanks_34)
  (r_aload_n (k := 0) dX3_blanks_13 rfl <|
  r_dup dX3_blanks_14 <|
  r_getI (ci := 3) (q := (RX3, TX3, 7)) (k := 3) dX3_blanks_15 (by decide) rfl in_X3 (by decide) (Or.inl q323) rfl <|
  r_iconst (v := 1) dX3_blanks_18 rfl <|
  r_iadd dX3_blanks_19 <|
  r_putI (ci := 3) (q := (RX3, TX3, 7)) (k := 3) tyX3 tyX3_ok nmX3 dX3_blanks_20 (by decide) rfl in_X3 (by decide) (Or.inl ⟨rfl, (Or.inl q323)⟩) rfl rfl <|
  r_goto (pt := 0) dX3_blanks_23 (by decide) <|
  (fun _ _ _ H => H))
-- CheekTown$Reader.byteAt(I)I cuts [0]
def tX3_byteAt_0 (d : Nat) (Q : Outcome → MH → Prop) (J : Nat → KT) : KT :=
  i_iload 1 <|
  i_aload 0 <|
  i_getI 3 2 <|
  i_icmp_ge
  (i_const (-1) <|
  i_ret Q (some .int))
  (i_aload 0 <|
  i_getR 3 0 <|
  i_iload 1 <|
  i_bald <|
  i_ret Q (some .int))
theorem kX3_byteAt_0 {d : Nat} {Q : Outcome → MH → Prop} : ∀ ls st h, tX3_byteAt_0 d Q (fun pc ls st h => WPb mX3_byteAt d pc ls st h Q) ls st h → WPb mX3_byteAt d 0 ls st h Q :=
  r_iload_n (k := 1) dX3_byteAt_0 rfl <|
  r_aload_n (k := 0) dX3_byteAt_1 rfl <|
  r_getI (ci := 3) (q := (RX3, TX3, 7)) (k := 2) dX3_byteAt_2 (by decide) rfl in_X3 (by decide) (Or.inl q321) rfl <|
  r_icmp_ge (pt := 17) dX3_byteAt_5 (by decide)
  (r_iconst (v := (-1)) dX3_byteAt_17 rfl <|
  r_ret rfl (Or.inl ⟨dX3_byteAt_18, Or.inl rfl⟩))
  (r_aload_n (k := 0) dX3_byteAt_8 rfl <|
  r_getR (ci := 3) (q := (RX3, TX3, 7)) (k := 0) dX3_byteAt_9 (by decide) rfl in_X3 (by decide) (Or.inl q318) rfl <|
  r_iload_n (k := 1) dX3_byteAt_12 rfl <|
  r_bald dX3_byteAt_13 <|
  r_goto (pt := 18) dX3_byteAt_14 (by decide) <|
  r_ret rfl (Or.inl ⟨dX3_byteAt_18, Or.inl rfl⟩))
-- CheekTown$Reader.word()Ljava/lang/String; cuts [0, 4, 48]
def tX3_word_0 (d : Nat) (Q : Outcome → MH → Prop) (J : Nat → KT) : KT :=
  i_aload 0 <|
  i_call mX3_blanks d 1 (pV 3) (xOut Q) <|
  (J 4)
theorem kX3_word_0 {d : Nat} {Q : Outcome → MH → Prop} : ∀ ls st h, tX3_word_0 d Q (fun pc ls st h => WPb mX3_word d pc ls st h Q) ls st h → WPb mX3_word d 0 ls st h Q :=
  r_aload_n (k := 0) dX3_word_0 rfl <|
  r_cV (Z := mX3_blanks) (ci := 3) (q := (RX3, TX3, 7)) dX3_word_1 rfl (by decide +kernel) ⟨by decide, by decide⟩ (by decide) rfl rfl q1132 q1133 q1134 q119 q1135 (XS.out (noH _)) <|
  (fun _ _ _ H => H)
def tX3_word_4 (d : Nat) (Q : Outcome → MH → Prop) (J : Nat → KT) : KT :=
  i_aload 0 <|
  i_aload 0 <|
  i_getI 3 3 <|
  i_call mX3_byteAt d 2 (pV 3) (xOut Q) <|
  i_const 97 <|
  i_const 122 <|
  i_call mX1_in d 3 pS (xOut Q) <|
  i_if_eq
  (i_new 23 4 <|
  i_dup <|
  i_call mJ4_init d 1 pI (xOut Q) <|
  i_astore 1 <|
  i_aload 0 <|
  i_getI 3 4 <|
  i_istore 2 <|
  (J 48))
  (i_aload 0 <|
  i_dup <|
  i_getI 3 3 <|
  i_const 1 <|
  i_iadd <|
  i_putI 3 3 .int <|
  (J 4))
theorem kX3_word_4 {d : Nat} {Q : Outcome → MH → Prop} : ∀ ls st h, tX3_word_4 d Q (fun pc ls st h => WPb mX3_word d pc ls st h Q) ls st h → WPb mX3_word d 4 ls st h Q :=
  r_aload_n (k := 0) dX3_word_4 rfl <|
  r_aload_n (k := 0) dX3_word_5 rfl <|
  r_getI (ci := 3) (q := (RX3, TX3, 7)) (k := 3) dX3_word_6 (by decide) rfl in_X3 (by decide) (Or.inl q323) rfl <|
  r_cV (Z := mX3_byteAt) (ci := 3) (q := (RX3, TX3, 7)) dX3_word_9 rfl (by decide +kernel) ⟨by decide, by decide⟩ (by decide) rfl rfl q1136 q1138 qs11 q119 q1139 (XS.out (noH _)) <|
  r_bipush (v := 97) dX3_word_12 rfl <|
  r_bipush (v := 122) dX3_word_14 rfl <|
  r_cSN (Z := mX1_in) dX3_word_16 rfl (by decide +kernel) ⟨by decide, by decide⟩ q1148 q601 q117 q602 (XS.out (noH _)) <|
  r_if_eq (pt := 35) dX3_word_19 (by decide)
  (r_new (ci := 23) (q := (RJ4, TJ4, 4)) tyJ4 tyJ4_ok (by decide) (by decide) (by decide) rfl rfl in_J4 q1149 q662 q130 dX3_word_35 <|
  r_dup dX3_word_38 <|
  r_cI (Z := mJ4_init) dX3_word_39 rfl rfl rfl (by decide +kernel) ⟨by decide, by decide⟩ q1150 q664 q130 q665 (XS.out (noH _)) <|
  r_astore_n (k := 1) dX3_word_42 rfl <|
  r_aload_n (k := 0) dX3_word_43 rfl <|
  r_getI (ci := 3) (q := (RX3, TX3, 7)) (k := 4) dX3_word_44 (by decide) rfl in_X3 (by decide) (Or.inl q324) rfl <|
  r_istore_n (k := 2) dX3_word_47 rfl <|
  (fun _ _ _ H => H))
  (r_aload_n (k := 0) dX3_word_22 rfl <|
  r_dup dX3_word_23 <|
  r_getI (ci := 3) (q := (RX3, TX3, 7)) (k := 3) dX3_word_24 (by decide) rfl in_X3 (by decide) (Or.inl q323) rfl <|
  r_iconst (v := 1) dX3_word_27 rfl <|
  r_iadd dX3_word_28 <|
  r_putI (ci := 3) (q := (RX3, TX3, 7)) (k := 3) tyX3 tyX3_ok nmX3 dX3_word_29 (by decide) rfl in_X3 (by decide) (Or.inl ⟨rfl, (Or.inl q323)⟩) rfl rfl <|
  r_goto (pt := 4) dX3_word_32 (by decide) <|
  (fun _ _ _ H => H))
def tX3_word_48 (d : Nat) (Q : Outcome → MH → Prop) (J : Nat → KT) : KT :=
  i_iload 2 <|
  i_aload 0 <|
  i_getI 3 3 <|
  i_icmp_ge
  (i_aload 1 <|
  i_call mJ4_toString d 1 (pV 23) (xOut Q) <|
  i_ret Q (some (.object "java/lang/String")))
  (i_aload 1 <|
  i_aload 0 <|
  i_getR 3 0 <|
  i_iload 2 <|
  i_bald <|
  i_i2c <|
  i_call mJ4_append_3 d 2 (pV 23) (xOut Q) <|
  i_pop <|
  i_iinc 2 1 <|
  (J 48))
theorem kX3_word_48 {d : Nat} {Q : Outcome → MH → Prop} : ∀ ls st h, tX3_word_48 d Q (fun pc ls st h => WPb mX3_word d pc ls st h Q) ls st h → WPb mX3_word d 48 ls st h Q :=
  r_iload_n (k := 2) dX3_word_48 rfl <|
  r_aload_n (k := 0) dX3_word_49 rfl <|
  r_getI (ci := 3) (q := (RX3, TX3, 7)) (k := 3) dX3_word_50 (by decide) rfl in_X3 (by decide) (Or.inl q323) rfl <|
  r_icmp_ge (pt := 74) dX3_word_53 (by decide)
  (r_aload_n (k := 1) dX3_word_74 rfl <|
  r_cV (Z := mJ4_toString) (ci := 23) (q := (RJ4, TJ4, 4)) dX3_word_75 rfl (by decide +kernel) ⟨by decide, by decide⟩ (by decide) rfl rfl q1171 q837 q838 q130 q839 (XS.out (noH _)) <|
  r_ret rfl (Or.inr (Or.inr ⟨dX3_word_78, Or.inl ⟨_, rfl⟩⟩)))
  (r_aload_n (k := 1) dX3_word_56 rfl <|
  r_aload_n (k := 0) dX3_word_57 rfl <|
  r_getR (ci := 3) (q := (RX3, TX3, 7)) (k := 0) dX3_word_58 (by decide) rfl in_X3 (by decide) (Or.inl q318) rfl <|
  r_iload_n (k := 2) dX3_word_61 rfl <|
  r_bald dX3_word_62 <|
  r_i2c dX3_word_63 <|
  r_cV (Z := mJ4_append_3) (ci := 23) (q := (RJ4, TJ4, 4)) dX3_word_64 rfl (by decide +kernel) ⟨by decide, by decide⟩ (by decide) rfl rfl q1151 q1152 q1153 q130 q1154 (XS.out (noH _)) <|
  r_pop dX3_word_67 <|
  r_iinc (v := 1) dX3_word_68 rfl <|
  r_goto (pt := 48) dX3_word_71 (by decide) <|
  (fun _ _ _ H => H))
-- CheekTown$Reader.wrong()LCheekTown$Wrong; cuts [0]
def tX3_wrong_0 (d : Nat) (Q : Outcome → MH → Prop) (J : Nat → KT) : KT :=
  i_new 9 6 <|
  i_dup <|
  i_call mX9_init d 1 pI (xOut Q) <|
  i_ret Q (some (.object "CheekTown$Wrong"))
theorem kX3_wrong_0 {d : Nat} {Q : Outcome → MH → Prop} : ∀ ls st h, tX3_wrong_0 d Q (fun pc ls st h => WPb mX3_wrong d pc ls st h Q) ls st h → WPb mX3_wrong d 0 ls st h Q :=
  r_new (ci := 9) (q := (RX9, TX9, 6)) tyX9 tyX9_ok (by decide) (by decide) (by decide) rfl rfl in_X9 q1176 q1177 q144 dX3_wrong_0 <|
  r_dup dX3_wrong_3 <|
  r_cI (Z := mX9_init) dX3_wrong_4 rfl rfl rfl (by decide +kernel) ⟨by decide, by decide⟩ q1185 q1186 q144 q1187 (XS.out (noH _)) <|
  r_ret rfl (Or.inr (Or.inr ⟨dX3_wrong_7, Or.inl ⟨_, rfl⟩⟩))
-- CheekTown$Reader.number(II)I cuts [0]
def tX3_number_0 (d : Nat) (Q : Outcome → MH → Prop) (J : Nat → KT) : KT :=
  i_aload 0 <|
  i_iload 1 <|
  i_iload 2 <|
  i_const 3 <|
  i_call mX3_figures d 4 (pV 3) (xOut Q) <|
  i_ret Q (some .int)
theorem kX3_number_0 {d : Nat} {Q : Outcome → MH → Prop} : ∀ ls st h, tX3_number_0 d Q (fun pc ls st h => WPb mX3_number d pc ls st h Q) ls st h → WPb mX3_number d 0 ls st h Q :=
  r_aload_n (k := 0) dX3_number_0 rfl <|
  r_iload_n (k := 1) dX3_number_1 rfl <|
  r_iload_n (k := 2) dX3_number_2 rfl <|
  r_iconst (v := 3) dX3_number_3 rfl <|
  r_cV (Z := mX3_figures) (ci := 3) (q := (RX3, TX3, 7)) dX3_number_4 rfl (by decide +kernel) ⟨by decide, by decide⟩ (by decide) rfl rfl q1285 q1286 q1287 q119 q1288 (XS.out (noH _)) <|
  r_ret rfl (Or.inl ⟨dX3_number_7, Or.inl rfl⟩)
-- CheekTown$Reader.figures(III)I cuts [0, 7]
def tX3_figures_0 (d : Nat) (Q : Outcome → MH → Prop) (J : Nat → KT) : KT :=
  i_aload 0 <|
  i_call mX3_blanks d 1 (pV 3) (xOut Q) <|
  i_const 0 <|
  i_istore 4 <|
  (J 7)
theorem kX3_figures_0 {d : Nat} {Q : Outcome → MH → Prop} : ∀ ls st h, tX3_figures_0 d Q (fun pc ls st h => WPb mX3_figures d pc ls st h Q) ls st h → WPb mX3_figures d 0 ls st h Q :=
  r_aload_n (k := 0) dX3_figures_0 rfl <|
  r_cV (Z := mX3_blanks) (ci := 3) (q := (RX3, TX3, 7)) dX3_figures_1 rfl (by decide +kernel) ⟨by decide, by decide⟩ (by decide) rfl rfl q1132 q1133 q1134 q119 q1135 (XS.out (noH _)) <|
  r_iconst (v := 0) dX3_figures_4 rfl <|
  r_istore dX3_figures_5 <|
  (fun _ _ _ H => H)
def tX3_figures_7 (d : Nat) (Q : Outcome → MH → Prop) (J : Nat → KT) : KT :=
  i_aload 0 <|
  i_aload 0 <|
  i_getI 3 3 <|
  i_call mX3_byteAt d 2 (pV 3) (xOut Q) <|
  i_const 48 <|
  i_const 57 <|
  i_call mX1_in d 3 pS (xOut Q) <|
  i_if_eq
  (i_aload 0 <|
  i_getI 3 3 <|
  i_aload 0 <|
  i_getI 3 4 <|
  i_icmp_eq
  (i_aload 0 <|
  i_call mX3_wrong d 1 (pV 3) (xOut Q) <|
  i_thr Q)
  (i_aload 0 <|
  i_getI 3 3 <|
  i_aload 0 <|
  i_getI 3 4 <|
  i_isub <|
  i_iload 3 <|
  i_icmp_gt
  (i_aload 0 <|
  i_call mX3_wrong d 1 (pV 3) (xOut Q) <|
  i_thr Q)
  (i_iload 4 <|
  i_iload 1 <|
  i_iload 2 <|
  i_call mX1_in d 3 pS (xOut Q) <|
  i_if_ne
  (i_iload 4 <|
  i_ret Q (some .int))
  (i_aload 0 <|
  i_call mX3_wrong d 1 (pV 3) (xOut Q) <|
  i_thr Q))))
  (i_aload 0 <|
  i_getI 3 3 <|
  i_aload 0 <|
  i_getI 3 4 <|
  i_isub <|
  i_iload 3 <|
  i_icmp_ge
  (i_iload 4 <|
  i_istore 4 <|
  i_aload 0 <|
  i_dup <|
  i_getI 3 3 <|
  i_const 1 <|
  i_iadd <|
  i_putI 3 3 .int <|
  (J 7))
  (i_const 10 <|
  i_iload 4 <|
  i_imul <|
  i_aload 0 <|
  i_aload 0 <|
  i_getI 3 3 <|
  i_call mX3_byteAt d 2 (pV 3) (xOut Q) <|
  i_iadd <|
  i_const 48 <|
  i_isub <|
  i_istore 4 <|
  i_aload 0 <|
  i_dup <|
  i_getI 3 3 <|
  i_const 1 <|
  i_iadd <|
  i_putI 3 3 .int <|
  (J 7)))
theorem kX3_figures_7 {d : Nat} {Q : Outcome → MH → Prop} : ∀ ls st h, tX3_figures_7 d Q (fun pc ls st h => WPb mX3_figures d pc ls st h Q) ls st h → WPb mX3_figures d 7 ls st h Q :=
  r_aload_n (k := 0) dX3_figures_7 rfl <|
  r_aload_n (k := 0) dX3_figures_8 rfl <|
  r_getI (ci := 3) (q := (RX3, TX3, 7)) (k := 3) dX3_figures_9 (by decide) rfl in_X3 (by decide) (Or.inl q323) rfl <|
  r_cV (Z := mX3_byteAt) (ci := 3) (q := (RX3, TX3, 7)) dX3_figures_12 rfl (by decide +kernel) ⟨by decide, by decide⟩ (by decide) rfl rfl q1136 q1138 qs11 q119 q1139 (XS.out (noH _)) <|
  r_bipush (v := 48) dX3_figures_15 rfl <|
  r_bipush (v := 57) dX3_figures_17 rfl <|
  r_cSN (Z := mX1_in) dX3_figures_19 rfl (by decide +kernel) ⟨by decide, by decide⟩ q1148 q601 q117 q602 (XS.out (noH _)) <|
  r_if_eq (pt := 75) dX3_figures_22 (by decide)
  (r_aload_n (k := 0) dX3_figures_75 rfl <|
  r_getI (ci := 3) (q := (RX3, TX3, 7)) (k := 3) dX3_figures_76 (by decide) rfl in_X3 (by decide) (Or.inl q323) rfl <|
  r_aload_n (k := 0) dX3_figures_79 rfl <|
  r_getI (ci := 3) (q := (RX3, TX3, 7)) (k := 4) dX3_figures_80 (by decide) rfl in_X3 (by decide) (Or.inl q324) rfl <|
  r_icmp_eq (pt := 109) dX3_figures_83 (by decide)
  (r_aload_n (k := 0) dX3_figures_109 rfl <|
  r_cV (Z := mX3_wrong) (ci := 3) (q := (RX3, TX3, 7)) dX3_figures_110 rfl (by decide +kernel) ⟨by decide, by decide⟩ (by decide) rfl rfl q1289 q1173 q1174 q119 q1175 (XS.out (noH _)) <|
  r_thr dX3_figures_113 (noH _))
  (r_aload_n (k := 0) dX3_figures_86 rfl <|
  r_getI (ci := 3) (q := (RX3, TX3, 7)) (k := 3) dX3_figures_87 (by decide) rfl in_X3 (by decide) (Or.inl q323) rfl <|
  r_aload_n (k := 0) dX3_figures_90 rfl <|
  r_getI (ci := 3) (q := (RX3, TX3, 7)) (k := 4) dX3_figures_91 (by decide) rfl in_X3 (by decide) (Or.inl q324) rfl <|
  r_isub dX3_figures_94 <|
  r_iload_n (k := 3) dX3_figures_95 rfl <|
  r_icmp_gt (pt := 109) dX3_figures_96 (by decide)
  (r_aload_n (k := 0) dX3_figures_109 rfl <|
  r_cV (Z := mX3_wrong) (ci := 3) (q := (RX3, TX3, 7)) dX3_figures_110 rfl (by decide +kernel) ⟨by decide, by decide⟩ (by decide) rfl rfl q1289 q1173 q1174 q119 q1175 (XS.out (noH _)) <|
  r_thr dX3_figures_113 (noH _))
  (r_iload dX3_figures_99 <|
  r_iload_n (k := 1) dX3_figures_101 rfl <|
  r_iload_n (k := 2) dX3_figures_102 rfl <|
  r_cSN (Z := mX1_in) dX3_figures_103 rfl (by decide +kernel) ⟨by decide, by decide⟩ q1148 q601 q117 q602 (XS.out (noH _)) <|
  r_if_ne (pt := 114) dX3_figures_106 (by decide)
  (r_iload dX3_figures_114 <|
  r_ret rfl (Or.inl ⟨dX3_figures_116, Or.inl rfl⟩))
  (r_aload_n (k := 0) dX3_figures_109 rfl <|
  r_cV (Z := mX3_wrong) (ci := 3) (q := (RX3, TX3, 7)) dX3_figures_110 rfl (by decide +kernel) ⟨by decide, by decide⟩ (by decide) rfl rfl q1289 q1173 q1174 q119 q1175 (XS.out (noH _)) <|
  r_thr dX3_figures_113 (noH _)))))
  (r_aload_n (k := 0) dX3_figures_25 rfl <|
  r_getI (ci := 3) (q := (RX3, TX3, 7)) (k := 3) dX3_figures_26 (by decide) rfl in_X3 (by decide) (Or.inl q323) rfl <|
  r_aload_n (k := 0) dX3_figures_29 rfl <|
  r_getI (ci := 3) (q := (RX3, TX3, 7)) (k := 4) dX3_figures_30 (by decide) rfl in_X3 (by decide) (Or.inl q324) rfl <|
  r_isub dX3_figures_33 <|
  r_iload_n (k := 3) dX3_figures_34 rfl <|
  r_icmp_ge (pt := 58) dX3_figures_35 (by decide)
  (r_iload dX3_figures_58 <|
  r_istore dX3_figures_60 <|
  r_aload_n (k := 0) dX3_figures_62 rfl <|
  r_dup dX3_figures_63 <|
  r_getI (ci := 3) (q := (RX3, TX3, 7)) (k := 3) dX3_figures_64 (by decide) rfl in_X3 (by decide) (Or.inl q323) rfl <|
  r_iconst (v := 1) dX3_figures_67 rfl <|
  r_iadd dX3_figures_68 <|
  r_putI (ci := 3) (q := (RX3, TX3, 7)) (k := 3) tyX3 tyX3_ok nmX3 dX3_figures_69 (by decide) rfl in_X3 (by decide) (Or.inl ⟨rfl, (Or.inl q323)⟩) rfl rfl <|
  r_goto (pt := 7) dX3_figures_72 (by decide) <|
  (fun _ _ _ H => H))
  (r_bipush (v := 10) dX3_figures_38 rfl <|
  r_iload dX3_figures_40 <|
  r_imul dX3_figures_42 <|
  r_aload_n (k := 0) dX3_figures_43 rfl <|
  r_aload_n (k := 0) dX3_figures_44 rfl <|
  r_getI (ci := 3) (q := (RX3, TX3, 7)) (k := 3) dX3_figures_45 (by decide) rfl in_X3 (by decide) (Or.inl q323) rfl <|
  r_cV (Z := mX3_byteAt) (ci := 3) (q := (RX3, TX3, 7)) dX3_figures_48 rfl (by decide +kernel) ⟨by decide, by decide⟩ (by decide) rfl rfl q1136 q1138 qs11 q119 q1139 (XS.out (noH _)) <|
  r_iadd dX3_figures_51 <|
  r_bipush (v := 48) dX3_figures_52 rfl <|
  r_isub dX3_figures_54 <|
  r_goto (pt := 60) dX3_figures_55 (by decide) <|
  r_istore dX3_figures_60 <|
  r_aload_n (k := 0) dX3_figures_62 rfl <|
  r_dup dX3_figures_63 <|
  r_getI (ci := 3) (q := (RX3, TX3, 7)) (k := 3) dX3_figures_64 (by decide) rfl in_X3 (by decide) (Or.inl q323) rfl <|
  r_iconst (v := 1) dX3_figures_67 rfl <|
  r_iadd dX3_figures_68 <|
  r_putI (ci := 3) (q := (RX3, TX3, 7)) (k := 3) tyX3 tyX3_ok nmX3 dX3_figures_69 (by decide) rfl in_X3 (by decide) (Or.inl ⟨rfl, (Or.inl q323)⟩) rfl rfl <|
  r_goto (pt := 7) dX3_figures_72 (by decide) <|
  (fun _ _ _ H => H)))
-- CheekTown$Reader.sign(I)Z cuts [0]
def tX3_sign_0 (d : Nat) (Q : Outcome → MH → Prop) (J : Nat → KT) : KT :=
  i_aload 0 <|
  i_call mX3_blanks d 1 (pV 3) (xOut Q) <|
  i_aload 0 <|
  i_aload 0 <|
  i_getI 3 3 <|
  i_call mX3_byteAt d 2 (pV 3) (xOut Q) <|
  i_iload 1 <|
  i_icmp_eq
  (i_aload 0 <|
  i_dup <|
  i_getI 3 3 <|
  i_const 1 <|
  i_iadd <|
  i_putI 3 3 .int <|
  i_const 1 <|
  i_ret Q (some .boolean))
  (i_const 0 <|
  i_ret Q (some .boolean))
theorem kX3_sign_0 {d : Nat} {Q : Outcome → MH → Prop} : ∀ ls st h, tX3_sign_0 d Q (fun pc ls st h => WPb mX3_sign d pc ls st h Q) ls st h → WPb mX3_sign d 0 ls st h Q :=
  r_aload_n (k := 0) dX3_sign_0 rfl <|
  r_cV (Z := mX3_blanks) (ci := 3) (q := (RX3, TX3, 7)) dX3_sign_1 rfl (by decide +kernel) ⟨by decide, by decide⟩ (by decide) rfl rfl q1132 q1133 q1134 q119 q1135 (XS.out (noH _)) <|
  r_aload_n (k := 0) dX3_sign_4 rfl <|
  r_aload_n (k := 0) dX3_sign_5 rfl <|
  r_getI (ci := 3) (q := (RX3, TX3, 7)) (k := 3) dX3_sign_6 (by decide) rfl in_X3 (by decide) (Or.inl q323) rfl <|
  r_cV (Z := mX3_byteAt) (ci := 3) (q := (RX3, TX3, 7)) dX3_sign_9 rfl (by decide +kernel) ⟨by decide, by decide⟩ (by decide) rfl rfl q1136 q1138 qs11 q119 q1139 (XS.out (noH _)) <|
  r_iload_n (k := 1) dX3_sign_12 rfl <|
  r_icmp_eq (pt := 18) dX3_sign_13 (by decide)
  (r_aload_n (k := 0) dX3_sign_18 rfl <|
  r_dup dX3_sign_19 <|
  r_getI (ci := 3) (q := (RX3, TX3, 7)) (k := 3) dX3_sign_20 (by decide) rfl in_X3 (by decide) (Or.inl q323) rfl <|
  r_iconst (v := 1) dX3_sign_23 rfl <|
  r_iadd dX3_sign_24 <|
  r_putI (ci := 3) (q := (RX3, TX3, 7)) (k := 3) tyX3 tyX3_ok nmX3 dX3_sign_25 (by decide) rfl in_X3 (by decide) (Or.inl ⟨rfl, (Or.inl q323)⟩) rfl rfl <|
  r_iconst (v := 1) dX3_sign_28 rfl <|
  r_ret rfl (Or.inl ⟨dX3_sign_29, Or.inr (Or.inl rfl)⟩))
  (r_iconst (v := 0) dX3_sign_16 rfl <|
  r_ret rfl (Or.inl ⟨dX3_sign_17, Or.inr (Or.inl rfl)⟩))
-- CheekTown$Reader.passes(Ljava/lang/String;)Z cuts [0]
def tX3_passes_0 (d : Nat) (Q : Outcome → MH → Prop) (J : Nat → KT) : KT :=
  i_aload 0 <|
  i_call mX3_word d 1 (pV 3) (xOut Q) <|
  i_aload 1 <|
  i_call mJ5_equals d 2 (pV 24) (xOut Q) <|
  i_if_eq
  (i_aload 0 <|
  i_aload 0 <|
  i_getI 3 4 <|
  i_putI 3 3 .int <|
  i_const 0 <|
  i_ret Q (some .boolean))
  (i_const 1 <|
  i_ret Q (some .boolean))
theorem kX3_passes_0 {d : Nat} {Q : Outcome → MH → Prop} : ∀ ls st h, tX3_passes_0 d Q (fun pc ls st h => WPb mX3_passes d pc ls st h Q) ls st h → WPb mX3_passes d 0 ls st h Q :=
  r_aload_n (k := 0) dX3_passes_0 rfl <|
  r_cV (Z := mX3_word) (ci := 3) (q := (RX3, TX3, 7)) dX3_passes_1 rfl (by decide +kernel) ⟨by decide, by decide⟩ (by decide) rfl rfl q1418 q1145 q1146 q119 q1147 (XS.out (noH _)) <|
  r_aload_n (k := 1) dX3_passes_4 rfl <|
  r_cV (Z := mJ5_equals) (ci := 24) (q := (RJ5, TJ5, 4)) dX3_passes_5 rfl (by decide +kernel) ⟨by decide, by decide⟩ (by decide) rfl rfl q1419 q1263 q1264 q131 q1265 (XS.out (noH _)) <|
  r_if_eq (pt := 13) dX3_passes_8 (by decide)
  (r_aload_n (k := 0) dX3_passes_13 rfl <|
  r_aload_n (k := 0) dX3_passes_14 rfl <|
  r_getI (ci := 3) (q := (RX3, TX3, 7)) (k := 4) dX3_passes_15 (by decide) rfl in_X3 (by decide) (Or.inl q324) rfl <|
  r_putI (ci := 3) (q := (RX3, TX3, 7)) (k := 3) tyX3 tyX3_ok nmX3 dX3_passes_18 (by decide) rfl in_X3 (by decide) (Or.inl ⟨rfl, (Or.inl q323)⟩) rfl rfl <|
  r_iconst (v := 0) dX3_passes_21 rfl <|
  r_ret rfl (Or.inl ⟨dX3_passes_22, Or.inr (Or.inl rfl)⟩))
  (r_iconst (v := 1) dX3_passes_11 rfl <|
  r_ret rfl (Or.inl ⟨dX3_passes_12, Or.inr (Or.inl rfl)⟩))
-- CheekTown$Reader.goesDeeper()V cuts [0]
def tX3_goesDeeper_0 (d : Nat) (Q : Outcome → MH → Prop) (J : Nat → KT) : KT :=
  i_aload 0 <|
  i_getI 3 6 <|
  i_const 6 <|
  i_icmp_ne
  (i_aload 0 <|
  i_dup <|
  i_getI 3 6 <|
  i_const 1 <|
  i_iadd <|
  i_putI 3 6 .int <|
  i_vret Q)
  (i_aload 0 <|
  i_call mX3_wrong d 1 (pV 3) (xOut Q) <|
  i_thr Q)
theorem kX3_goesDeeper_0 {d : Nat} {Q : Outcome → MH → Prop} : ∀ ls st h, tX3_goesDeeper_0 d Q (fun pc ls st h => WPb mX3_goesDeeper d pc ls st h Q) ls st h → WPb mX3_goesDeeper d 0 ls st h Q :=
  r_aload_n (k := 0) dX3_goesDeeper_0 rfl <|
  r_getI (ci := 3) (q := (RX3, TX3, 7)) (k := 6) dX3_goesDeeper_1 (by decide) rfl in_X3 (by decide) (Or.inl q328) rfl <|
  r_bipush (v := 6) dX3_goesDeeper_4 rfl <|
  r_icmp_ne (pt := 14) dX3_goesDeeper_6 (by decide)
  (r_aload_n (k := 0) dX3_goesDeeper_14 rfl <|
  r_dup dX3_goesDeeper_15 <|
  r_getI (ci := 3) (q := (RX3, TX3, 7)) (k := 6) dX3_goesDeeper_16 (by decide) rfl in_X3 (by decide) (Or.inl q328) rfl <|
  r_iconst (v := 1) dX3_goesDeeper_19 rfl <|
  r_iadd dX3_goesDeeper_20 <|
  r_putI (ci := 3) (q := (RX3, TX3, 7)) (k := 6) tyX3 tyX3_ok nmX3 dX3_goesDeeper_21 (by decide) rfl in_X3 (by decide) (Or.inl ⟨rfl, (Or.inl q328)⟩) rfl rfl <|
  r_vret rfl dX3_goesDeeper_24)
  (r_aload_n (k := 0) dX3_goesDeeper_9 rfl <|
  r_cV (Z := mX3_wrong) (ci := 3) (q := (RX3, TX3, 7)) dX3_goesDeeper_10 rfl (by decide +kernel) ⟨by decide, by decide⟩ (by decide) rfl rfl q1289 q1173 q1174 q119 q1175 (XS.out (noH _)) <|
  r_thr dX3_goesDeeper_13 (noH _))
-- CheekTown$Reader.comesUp()V cuts [0]
def tX3_comesUp_0 (d : Nat) (Q : Outcome → MH → Prop) (J : Nat → KT) : KT :=
  i_aload 0 <|
  i_dup <|
  i_getI 3 6 <|
  i_const 1 <|
  i_isub <|
  i_putI 3 6 .int <|
  i_vret Q
theorem kX3_comesUp_0 {d : Nat} {Q : Outcome → MH → Prop} : ∀ ls st h, tX3_comesUp_0 d Q (fun pc ls st h => WPb mX3_comesUp d pc ls st h Q) ls st h → WPb mX3_comesUp d 0 ls st h Q :=
  r_aload_n (k := 0) dX3_comesUp_0 rfl <|
  r_dup dX3_comesUp_1 <|
  r_getI (ci := 3) (q := (RX3, TX3, 7)) (k := 6) dX3_comesUp_2 (by decide) rfl in_X3 (by decide) (Or.inl q328) rfl <|
  r_iconst (v := 1) dX3_comesUp_5 rfl <|
  r_isub dX3_comesUp_6 <|
  r_putI (ci := 3) (q := (RX3, TX3, 7)) (k := 6) tyX3 tyX3_ok nmX3 dX3_comesUp_7 (by decide) rfl in_X3 (by decide) (Or.inl ⟨rfl, (Or.inl q328)⟩) rfl rfl <|
  r_vret rfl dX3_comesUp_10
-- CheekTown$Reader.isFigure()Z cuts [0]
def tX3_isFigure_0 (d : Nat) (Q : Outcome → MH → Prop) (J : Nat → KT) : KT :=
  i_aload 0 <|
  i_call mX3_blanks d 1 (pV 3) (xOut Q) <|
  i_aload 0 <|
  i_aload 0 <|
  i_getI 3 3 <|
  i_call mX3_byteAt d 2 (pV 3) (xOut Q) <|
  i_const 48 <|
  i_const 57 <|
  i_call mX1_in d 3 pS (xOut Q) <|
  i_ret Q (some .boolean)
theorem kX3_isFigure_0 {d : Nat} {Q : Outcome → MH → Prop} : ∀ ls st h, tX3_isFigure_0 d Q (fun pc ls st h => WPb mX3_isFigure d pc ls st h Q) ls st h → WPb mX3_isFigure d 0 ls st h Q :=
  r_aload_n (k := 0) dX3_isFigure_0 rfl <|
  r_cV (Z := mX3_blanks) (ci := 3) (q := (RX3, TX3, 7)) dX3_isFigure_1 rfl (by decide +kernel) ⟨by decide, by decide⟩ (by decide) rfl rfl q1132 q1133 q1134 q119 q1135 (XS.out (noH _)) <|
  r_aload_n (k := 0) dX3_isFigure_4 rfl <|
  r_aload_n (k := 0) dX3_isFigure_5 rfl <|
  r_getI (ci := 3) (q := (RX3, TX3, 7)) (k := 3) dX3_isFigure_6 (by decide) rfl in_X3 (by decide) (Or.inl q323) rfl <|
  r_cV (Z := mX3_byteAt) (ci := 3) (q := (RX3, TX3, 7)) dX3_isFigure_9 rfl (by decide +kernel) ⟨by decide, by decide⟩ (by decide) rfl rfl q1136 q1138 qs11 q119 q1139 (XS.out (noH _)) <|
  r_bipush (v := 48) dX3_isFigure_12 rfl <|
  r_bipush (v := 57) dX3_isFigure_14 rfl <|
  r_cSN (Z := mX1_in) dX3_isFigure_16 rfl (by decide +kernel) ⟨by decide, by decide⟩ q1148 q601 q117 q602 (XS.out (noH _)) <|
  r_ret rfl (Or.inl ⟨dX3_isFigure_19, Or.inr (Or.inl rfl)⟩)
-- CheekTown$Scene.<init>()V cuts [0]
def tX4_init_0 (d : Nat) (Q : Outcome → MH → Prop) (J : Nat → KT) : KT :=
  i_aload 0 <|
  i_obj d <|
  i_vret Q
theorem kX4_init_0 {d : Nat} {Q : Outcome → MH → Prop} : ∀ ls st h, tX4_init_0 d Q (fun pc ls st h => WPb mX4_init d pc ls st h Q) ls st h → WPb mX4_init d 0 ls st h Q :=
  r_aload_n (k := 0) dX4_init_0 rfl <|
  r_obj dX4_init_1 q350 q170 q171 <|
  r_vret rfl dX4_init_4
-- CheekTown$Scene.of(LCheekTown$Fact;)I cuts [0]
def tX4_of_0 (d : Nat) (Q : Outcome → MH → Prop) (J : Nat → KT) : KT :=
  i_aload 1 <|
  i_call mJ17_ordinal d 1 (pV 18) (xOut Q) <|
  i_sw [(0, i_aload 0 <|
  i_getI 4 0 <|
  i_ret Q (some .int)),
  (1, i_aload 0 <|
  i_getI 4 1 <|
  i_ret Q (some .int)),
  (2, i_aload 0 <|
  i_getI 4 2 <|
  i_ret Q (some .int)),
  (3, i_aload 0 <|
  i_getI 4 3 <|
  i_ret Q (some .int)),
  (4, i_aload 0 <|
  i_getI 4 4 <|
  i_ret Q (some .int))]
  (i_aload 0 <|
  i_getI 4 5 <|
  i_ret Q (some .int))
theorem kX4_of_0 {d : Nat} {Q : Outcome → MH → Prop} : ∀ ls st h, tX4_of_0 d Q (fun pc ls st h => WPb mX4_of d pc ls st h Q) ls st h → WPb mX4_of d 0 ls st h Q :=
  r_aload_n (k := 1) dX4_of_0 rfl <|
  r_cU (Z := mJ17_ordinal) (n := 0) (ci := 18) (q := (RX18, cx_TF, 2)) (owner := "java/lang/Enum") (x := ⟨"CheekTown$Fact", "ordinal", "()I"⟩) dX4_of_1 rfl (by decide +kernel) ⟨by decide, by decide⟩ (by decide) rfl rfl q1778 q1779 q1780 q549 q145 q550 (XS.out (noH _)) <|
  r_tsw (tl := [(0, 40), (1, 45), (2, 50), (3, 55), (4, 60)]) (td := 65) dX4_of_4 (by decide +kernel) (by decide) (by decide +kernel) (by decide) (sw_cons (r_aload_n (k := 0) dX4_of_40 rfl <|
  r_getI (ci := 4) (q := (RX4, TX4, 8)) (k := 0) dX4_of_41 (by decide) rfl in_X4 (by decide) (Or.inl q351) rfl <|
  r_ret rfl (Or.inl ⟨dX4_of_44, Or.inl rfl⟩))
  (sw_cons (r_aload_n (k := 0) dX4_of_45 rfl <|
  r_getI (ci := 4) (q := (RX4, TX4, 8)) (k := 1) dX4_of_46 (by decide) rfl in_X4 (by decide) (Or.inl q353) rfl <|
  r_ret rfl (Or.inl ⟨dX4_of_49, Or.inl rfl⟩))
  (sw_cons (r_aload_n (k := 0) dX4_of_50 rfl <|
  r_getI (ci := 4) (q := (RX4, TX4, 8)) (k := 2) dX4_of_51 (by decide) rfl in_X4 (by decide) (Or.inl q355) rfl <|
  r_ret rfl (Or.inl ⟨dX4_of_54, Or.inl rfl⟩))
  (sw_cons (r_aload_n (k := 0) dX4_of_55 rfl <|
  r_getI (ci := 4) (q := (RX4, TX4, 8)) (k := 3) dX4_of_56 (by decide) rfl in_X4 (by decide) (Or.inl q357) rfl <|
  r_ret rfl (Or.inl ⟨dX4_of_59, Or.inl rfl⟩))
  (sw_cons (r_aload_n (k := 0) dX4_of_60 rfl <|
  r_getI (ci := 4) (q := (RX4, TX4, 8)) (k := 4) dX4_of_61 (by decide) rfl in_X4 (by decide) (Or.inl q359) rfl <|
  r_ret rfl (Or.inl ⟨dX4_of_64, Or.inl rfl⟩))
  (sw_nil (r_aload_n (k := 0) dX4_of_65 rfl <|
  r_getI (ci := 4) (q := (RX4, TX4, 8)) (k := 5) dX4_of_66 (by decide) rfl in_X4 (by decide) (Or.inl q361) rfl <|
  r_ret rfl (Or.inl ⟨dX4_of_69, Or.inl rfl⟩))))))))
-- CheekTown$Ring.<init>(LCheekTown;)V cuts [0]
def tX5_init_0 (d : Nat) (Q : Outcome → MH → Prop) (J : Nat → KT) : KT :=
  i_aload 0 <|
  i_aload 1 <|
  i_putR 5 3 <|
  i_aload 0 <|
  i_obj d <|
  i_aload 0 <|
  i_const 8 <|
  i_newa 0 <|
  i_putR 5 0 <|
  i_aload 0 <|
  i_const 2048 <|
  i_newa 0 <|
  i_putR 5 2 <|
  i_vret Q
theorem kX5_init_0 {d : Nat} {Q : Outcome → MH → Prop} : ∀ ls st h, tX5_init_0 d Q (fun pc ls st h => WPb mX5_init d pc ls st h Q) ls st h → WPb mX5_init d 0 ls st h Q :=
  r_aload_n (k := 0) dX5_init_0 rfl <|
  r_aload_n (k := 1) dX5_init_1 rfl <|
  r_putR (ci := 5) (q := (RX5, TX5, 4)) (k := 3) tyX5 tyX5_ok nmX5 dX5_init_2 (by decide) rfl in_X5 (by decide) (Or.inr ⟨rfl, rfl, rfl, q419⟩) rfl rfl <|
  r_aload_n (k := 0) dX5_init_5 rfl <|
  r_obj dX5_init_6 q415 q170 q171 <|
  r_aload_n (k := 0) dX5_init_9 rfl <|
  r_bipush (v := 8) dX5_init_10 rfl <|
  r_newa (t := 0) (at9 := .int) (ty := .int) (by decide) rfl rfl q310 (by decide) dX5_init_12 <|
  r_putR (ci := 5) (q := (RX5, TX5, 4)) (k := 0) tyX5 tyX5_ok nmX5 dX5_init_14 (by decide) rfl in_X5 (by decide) (Or.inr ⟨rfl, rfl, rfl, q416⟩) rfl rfl <|
  r_aload_n (k := 0) dX5_init_17 rfl <|
  r_sipush (v := 2048) dX5_init_18 rfl <|
  r_newa (t := 0) (at9 := .int) (ty := .int) (by decide) rfl rfl q310 (by decide) dX5_init_21 <|
  r_putR (ci := 5) (q := (RX5, TX5, 4)) (k := 2) tyX5 tyX5_ok nmX5 dX5_init_23 (by decide) rfl in_X5 (by decide) (Or.inr ⟨rfl, rfl, rfl, q418⟩) rfl rfl <|
  r_vret rfl dX5_init_26
-- CheekTown$Ring.seats(I)LCheekTown$Ring; cuts [0, 7]
def tX5_seats_0 (d : Nat) (Q : Outcome → MH → Prop) (J : Nat → KT) : KT :=
  i_aload 0 <|
  i_const 0 <|
  i_putI 5 1 .int <|
  i_const 0 <|
  i_istore 2 <|
  (J 7)
theorem kX5_seats_0 {d : Nat} {Q : Outcome → MH → Prop} : ∀ ls st h, tX5_seats_0 d Q (fun pc ls st h => WPb mX5_seats d pc ls st h Q) ls st h → WPb mX5_seats d 0 ls st h Q :=
  r_aload_n (k := 0) dX5_seats_0 rfl <|
  r_iconst (v := 0) dX5_seats_1 rfl <|
  r_putI (ci := 5) (q := (RX5, TX5, 4)) (k := 1) tyX5 tyX5_ok nmX5 dX5_seats_2 (by decide) rfl in_X5 (by decide) (Or.inl ⟨rfl, (Or.inl q417)⟩) rfl rfl <|
  r_iconst (v := 0) dX5_seats_5 rfl <|
  r_istore_n (k := 2) dX5_seats_6 rfl <|
  (fun _ _ _ H => H)
def tX5_seats_7 (d : Nat) (Q : Outcome → MH → Prop) (J : Nat → KT) : KT :=
  i_iload 2 <|
  i_aload 0 <|
  i_getR 5 3 <|
  i_getR 1 0 <|
  i_getI 2 3 <|
  i_icmp_ge
  (i_aload 0 <|
  i_getR 5 2 <|
  i_const 0 <|
  i_const 8 <|
  i_aload 0 <|
  i_getI 5 1 <|
  i_ishl <|
  i_const (-1) <|
  i_call mJ9_fill d 4 pS (xOut Q) <|
  i_aload 0 <|
  i_ret Q (some (.object "CheekTown$Ring")))
  (i_iload 1 <|
  i_iload 2 <|
  i_call mX1_has d 2 pS (xOut Q) <|
  i_if_eq
  (i_iinc 2 1 <|
  (J 7))
  (i_aload 0 <|
  i_getR 5 0 <|
  i_aload 0 <|
  i_dup <|
  i_getI 5 1 <|
  i_dup_x1 <|
  i_const 1 <|
  i_iadd <|
  i_putI 5 1 .int <|
  i_iload 2 <|
  i_iast <|
  i_iinc 2 1 <|
  (J 7)))
theorem kX5_seats_7 {d : Nat} {Q : Outcome → MH → Prop} : ∀ ls st h, tX5_seats_7 d Q (fun pc ls st h => WPb mX5_seats d pc ls st h Q) ls st h → WPb mX5_seats d 7 ls st h Q :=
  r_iload_n (k := 2) dX5_seats_7 rfl <|
  r_aload_n (k := 0) dX5_seats_8 rfl <|
  r_getR (ci := 5) (q := (RX5, TX5, 4)) (k := 3) dX5_seats_9 (by decide) rfl in_X5 (by decide) (Or.inl q419) rfl <|
  r_getR (ci := 1) (q := (RX1, TX1, 13)) (k := 0) dX5_seats_12 (by decide) rfl in_X1 (by decide) (Or.inr (Or.inl ⟨_, q468⟩)) rfl <|
  r_getI (ci := 2) (q := (RX2, TX2, 31)) (k := 3) dX5_seats_15 (by decide) rfl in_X2 (by decide) (Or.inr (Or.inl ⟨_, q185⟩)) rfl <|
  r_icmp_ge (pt := 52) dX5_seats_18 (by decide)
  (r_aload_n (k := 0) dX5_seats_52 rfl <|
  r_getR (ci := 5) (q := (RX5, TX5, 4)) (k := 2) dX5_seats_53 (by decide) rfl in_X5 (by decide) (Or.inl q418) rfl <|
  r_iconst (v := 0) dX5_seats_56 rfl <|
  r_bipush (v := 8) dX5_seats_57 rfl <|
  r_aload_n (k := 0) dX5_seats_59 rfl <|
  r_getI (ci := 5) (q := (RX5, TX5, 4)) (k := 1) dX5_seats_60 (by decide) rfl in_X5 (by decide) (Or.inl q417) rfl <|
  r_ishl dX5_seats_63 <|
  r_iconst (v := (-1)) dX5_seats_64 rfl <|
  r_cS (Z := mJ9_fill) dX5_seats_65 rfl (by decide +kernel) ⟨by decide, by decide⟩ q610 q611 q135 q612 (XS.out (noH _)) <|
  r_aload_n (k := 0) dX5_seats_68 rfl <|
  r_ret rfl (Or.inr (Or.inr ⟨dX5_seats_69, Or.inl ⟨_, rfl⟩⟩)))
  (r_iload_n (k := 1) dX5_seats_21 rfl <|
  r_iload_n (k := 2) dX5_seats_22 rfl <|
  r_cSN (Z := mX1_has) dX5_seats_23 rfl (by decide +kernel) ⟨by decide, by decide⟩ q607 q608 q117 q609 (XS.out (noH _)) <|
  r_if_eq (pt := 46) dX5_seats_26 (by decide)
  (r_iinc (v := 1) dX5_seats_46 rfl <|
  r_goto (pt := 7) dX5_seats_49 (by decide) <|
  (fun _ _ _ H => H))
  (r_aload_n (k := 0) dX5_seats_29 rfl <|
  r_getR (ci := 5) (q := (RX5, TX5, 4)) (k := 0) dX5_seats_30 (by decide) rfl in_X5 (by decide) (Or.inl q416) rfl <|
  r_aload_n (k := 0) dX5_seats_33 rfl <|
  r_dup dX5_seats_34 <|
  r_getI (ci := 5) (q := (RX5, TX5, 4)) (k := 1) dX5_seats_35 (by decide) rfl in_X5 (by decide) (Or.inl q417) rfl <|
  r_dup_x1 dX5_seats_38 <|
  r_iconst (v := 1) dX5_seats_39 rfl <|
  r_iadd dX5_seats_40 <|
  r_putI (ci := 5) (q := (RX5, TX5, 4)) (k := 1) tyX5 tyX5_ok nmX5 dX5_seats_41 (by decide) rfl in_X5 (by decide) (Or.inl ⟨rfl, (Or.inl q417)⟩) rfl rfl <|
  r_iload_n (k := 2) dX5_seats_44 rfl <|
  r_iast dX5_seats_45 <|
  r_iinc (v := 1) dX5_seats_46 rfl <|
  r_goto (pt := 7) dX5_seats_49 (by decide) <|
  (fun _ _ _ H => H)))
-- CheekTown$Ring.from(II)I cuts [0, 45]
def tX5_from_0 (d : Nat) (Q : Outcome → MH → Prop) (J : Nat → KT) : KT :=
  i_aload 0 <|
  i_iload 1 <|
  i_call mX5_isFull d 2 (pV 5) (xOut Q) <|
  i_if_eq
  (i_const 8 <|
  i_iload 1 <|
  i_imul <|
  i_iload 2 <|
  i_iadd <|
  i_istore 3 <|
  i_aload 0 <|
  i_getR 5 2 <|
  i_iload 3 <|
  i_iald <|
  i_const (-1) <|
  i_icmp_eq
  (i_const 2147483647 <|
  i_istore 4 <|
  i_const 0 <|
  i_istore 5 <|
  (J 45))
  (i_aload 0 <|
  i_getR 5 2 <|
  i_iload 3 <|
  i_iald <|
  i_ret Q (some .int)))
  (i_aload 0 <|
  i_iload 2 <|
  i_call mX5_closes d 2 (pV 5) (xOut Q) <|
  i_ret Q (some .int))
theorem kX5_from_0 {d : Nat} {Q : Outcome → MH → Prop} : ∀ ls st h, tX5_from_0 d Q (fun pc ls st h => WPb mX5_from d pc ls st h Q) ls st h → WPb mX5_from d 0 ls st h Q :=
  r_aload_n (k := 0) dX5_from_0 rfl <|
  r_iload_n (k := 1) dX5_from_1 rfl <|
  r_cV (Z := mX5_isFull) (ci := 5) (q := (RX5, TX5, 4)) dX5_from_2 rfl (by decide +kernel) ⟨by decide, by decide⟩ (by decide) rfl rfl q954 q955 q956 q124 q957 (XS.out (noH _)) <|
  r_if_eq (pt := 14) dX5_from_5 (by decide)
  (r_bipush (v := 8) dX5_from_14 rfl <|
  r_iload_n (k := 1) dX5_from_16 rfl <|
  r_imul dX5_from_17 <|
  r_iload_n (k := 2) dX5_from_18 rfl <|
  r_iadd dX5_from_19 <|
  r_istore_n (k := 3) dX5_from_20 rfl <|
  r_aload_n (k := 0) dX5_from_21 rfl <|
  r_getR (ci := 5) (q := (RX5, TX5, 4)) (k := 2) dX5_from_22 (by decide) rfl in_X5 (by decide) (Or.inl q418) rfl <|
  r_iload_n (k := 3) dX5_from_25 rfl <|
  r_iald dX5_from_26 <|
  r_iconst (v := (-1)) dX5_from_27 rfl <|
  r_icmp_eq (pt := 38) dX5_from_28 (by decide)
  (r_ldc (v := 2147483647) dX5_from_38 q967 <|
  r_istore dX5_from_40 <|
  r_iconst (v := 0) dX5_from_42 rfl <|
  r_istore dX5_from_43 <|
  (fun _ _ _ H => H))
  (r_aload_n (k := 0) dX5_from_31 rfl <|
  r_getR (ci := 5) (q := (RX5, TX5, 4)) (k := 2) dX5_from_32 (by decide) rfl in_X5 (by decide) (Or.inl q418) rfl <|
  r_iload_n (k := 3) dX5_from_35 rfl <|
  r_iald dX5_from_36 <|
  r_ret rfl (Or.inl ⟨dX5_from_37, Or.inl rfl⟩)))
  (r_aload_n (k := 0) dX5_from_8 rfl <|
  r_iload_n (k := 2) dX5_from_9 rfl <|
  r_cV (Z := mX5_closes) (ci := 5) (q := (RX5, TX5, 4)) dX5_from_10 rfl (by decide +kernel) ⟨by decide, by decide⟩ (by decide) rfl rfl q958 q959 q960 q124 q961 (XS.out (noH _)) <|
  r_ret rfl (Or.inl ⟨dX5_from_13, Or.inl rfl⟩))
def tX5_from_45 (d : Nat) (Q : Outcome → MH → Prop) (J : Nat → KT) : KT :=
  i_iload 5 <|
  i_aload 0 <|
  i_getI 5 1 <|
  i_icmp_ge
  (i_aload 0 <|
  i_getR 5 2 <|
  i_iload 3 <|
  i_iload 4 <|
  i_iast <|
  i_iload 4 <|
  i_ret Q (some .int))
  (i_iload 1 <|
  i_iload 5 <|
  i_call mX1_has d 2 pS (xOut Q) <|
  i_if_ne
  (i_iinc 5 1 <|
  (J 45))
  (i_iload 4 <|
  i_aload 0 <|
  i_iload 1 <|
  i_iload 2 <|
  i_iload 5 <|
  i_call mX5_by d 4 (pV 5) (xOut Q) <|
  i_mmin d <|
  i_istore 4 <|
  i_iinc 5 1 <|
  (J 45)))
theorem kX5_from_45 {d : Nat} {Q : Outcome → MH → Prop} : ∀ ls st h, tX5_from_45 d Q (fun pc ls st h => WPb mX5_from d pc ls st h Q) ls st h → WPb mX5_from d 45 ls st h Q :=
  r_iload dX5_from_45 <|
  r_aload_n (k := 0) dX5_from_47 rfl <|
  r_getI (ci := 5) (q := (RX5, TX5, 4)) (k := 1) dX5_from_48 (by decide) rfl in_X5 (by decide) (Or.inl q417) rfl <|
  r_icmp_ge (pt := 84) dX5_from_51 (by decide)
  (r_aload_n (k := 0) dX5_from_84 rfl <|
  r_getR (ci := 5) (q := (RX5, TX5, 4)) (k := 2) dX5_from_85 (by decide) rfl in_X5 (by decide) (Or.inl q418) rfl <|
  r_iload_n (k := 3) dX5_from_88 rfl <|
  r_iload dX5_from_89 <|
  r_iast dX5_from_91 <|
  r_iload dX5_from_92 <|
  r_ret rfl (Or.inl ⟨dX5_from_94, Or.inl rfl⟩))
  (r_iload_n (k := 1) dX5_from_54 rfl <|
  r_iload dX5_from_55 <|
  r_cSN (Z := mX1_has) dX5_from_57 rfl (by decide +kernel) ⟨by decide, by decide⟩ q607 q608 q117 q609 (XS.out (noH _)) <|
  r_if_ne (pt := 78) dX5_from_60 (by decide)
  (r_iinc (v := 1) dX5_from_78 rfl <|
  r_goto (pt := 45) dX5_from_81 (by decide) <|
  (fun _ _ _ H => H))
  (r_iload dX5_from_63 <|
  r_aload_n (k := 0) dX5_from_65 rfl <|
  r_iload_n (k := 1) dX5_from_66 rfl <|
  r_iload_n (k := 2) dX5_from_67 rfl <|
  r_iload dX5_from_68 <|
  r_cV (Z := mX5_by) (ci := 5) (q := (RX5, TX5, 4)) dX5_from_70 rfl (by decide +kernel) ⟨by decide, by decide⟩ (by decide) rfl rfl q968 q969 q970 q124 q971 (XS.out (noH _)) <|
  r_mmin dX5_from_73 q973 q580 q134 q581 <|
  r_istore dX5_from_76 <|
  r_iinc (v := 1) dX5_from_78 rfl <|
  r_goto (pt := 45) dX5_from_81 (by decide) <|
  (fun _ _ _ H => H)))
-- CheekTown$Ring.isFull(I)Z cuts [0]
def tX5_isFull_0 (d : Nat) (Q : Outcome → MH → Prop) (J : Nat → KT) : KT :=
  i_iload 1 <|
  i_const 1 <|
  i_aload 0 <|
  i_getI 5 1 <|
  i_ishl <|
  i_const 1 <|
  i_isub <|
  i_icmp_ne
  (i_const 0 <|
  i_ret Q (some .boolean))
  (i_const 1 <|
  i_ret Q (some .boolean))
theorem kX5_isFull_0 {d : Nat} {Q : Outcome → MH → Prop} : ∀ ls st h, tX5_isFull_0 d Q (fun pc ls st h => WPb mX5_isFull d pc ls st h Q) ls st h → WPb mX5_isFull d 0 ls st h Q :=
  r_iload_n (k := 1) dX5_isFull_0 rfl <|
  r_iconst (v := 1) dX5_isFull_1 rfl <|
  r_aload_n (k := 0) dX5_isFull_2 rfl <|
  r_getI (ci := 5) (q := (RX5, TX5, 4)) (k := 1) dX5_isFull_3 (by decide) rfl in_X5 (by decide) (Or.inl q417) rfl <|
  r_ishl dX5_isFull_6 <|
  r_iconst (v := 1) dX5_isFull_7 rfl <|
  r_isub dX5_isFull_8 <|
  r_icmp_ne (pt := 16) dX5_isFull_9 (by decide)
  (r_iconst (v := 0) dX5_isFull_16 rfl <|
  r_ret rfl (Or.inl ⟨dX5_isFull_17, Or.inr (Or.inl rfl)⟩))
  (r_iconst (v := 1) dX5_isFull_12 rfl <|
  r_goto (pt := 17) dX5_isFull_13 (by decide) <|
  r_ret rfl (Or.inl ⟨dX5_isFull_17, Or.inr (Or.inl rfl)⟩))
-- CheekTown$Ring.closes(I)I cuts [0]
def tX5_closes_0 (d : Nat) (Q : Outcome → MH → Prop) (J : Nat → KT) : KT :=
  i_aload 0 <|
  i_getI 5 1 <|
  i_const 3 <|
  i_icmp_ge
  (i_aload 0 <|
  i_iload 1 <|
  i_const 0 <|
  i_call mX5_beside d 3 (pV 5) (xOut Q) <|
  i_ret Q (some .int))
  (i_const 0 <|
  i_ret Q (some .int))
theorem kX5_closes_0 {d : Nat} {Q : Outcome → MH → Prop} : ∀ ls st h, tX5_closes_0 d Q (fun pc ls st h => WPb mX5_closes d pc ls st h Q) ls st h → WPb mX5_closes d 0 ls st h Q :=
  r_aload_n (k := 0) dX5_closes_0 rfl <|
  r_getI (ci := 5) (q := (RX5, TX5, 4)) (k := 1) dX5_closes_1 (by decide) rfl in_X5 (by decide) (Or.inl q417) rfl <|
  r_iconst (v := 3) dX5_closes_4 rfl <|
  r_icmp_ge (pt := 12) dX5_closes_5 (by decide)
  (r_aload_n (k := 0) dX5_closes_12 rfl <|
  r_iload_n (k := 1) dX5_closes_13 rfl <|
  r_iconst (v := 0) dX5_closes_14 rfl <|
  r_cV (Z := mX5_beside) (ci := 5) (q := (RX5, TX5, 4)) dX5_closes_15 rfl (by decide +kernel) ⟨by decide, by decide⟩ (by decide) rfl rfl q962 q963 q964 q124 q965 (XS.out (noH _)) <|
  r_ret rfl (Or.inl ⟨dX5_closes_18, Or.inl rfl⟩))
  (r_iconst (v := 0) dX5_closes_8 rfl <|
  r_goto (pt := 18) dX5_closes_9 (by decide) <|
  r_ret rfl (Or.inl ⟨dX5_closes_18, Or.inl rfl⟩))
-- CheekTown$Ring.beside(II)I cuts [0]
def tX5_beside_0 (d : Nat) (Q : Outcome → MH → Prop) (J : Nat → KT) : KT :=
  i_aload 0 <|
  i_getR 5 3 <|
  i_getR 1 0 <|
  i_aload 0 <|
  i_getR 5 3 <|
  i_getR 1 0 <|
  i_getR 2 19 <|
  i_aload 0 <|
  i_getR 5 0 <|
  i_iload 1 <|
  i_iald <|
  i_iald <|
  i_aload 0 <|
  i_getR 5 3 <|
  i_getR 1 0 <|
  i_getR 2 19 <|
  i_aload 0 <|
  i_getR 5 0 <|
  i_iload 2 <|
  i_iald <|
  i_iald <|
  i_call mX2_cost d 3 (pV 2) (xOut Q) <|
  i_ret Q (some .int)
theorem kX5_beside_0 {d : Nat} {Q : Outcome → MH → Prop} : ∀ ls st h, tX5_beside_0 d Q (fun pc ls st h => WPb mX5_beside d pc ls st h Q) ls st h → WPb mX5_beside d 0 ls st h Q :=
  r_aload_n (k := 0) dX5_beside_0 rfl <|
  r_getR (ci := 5) (q := (RX5, TX5, 4)) (k := 3) dX5_beside_1 (by decide) rfl in_X5 (by decide) (Or.inl q419) rfl <|
  r_getR (ci := 1) (q := (RX1, TX1, 13)) (k := 0) dX5_beside_4 (by decide) rfl in_X1 (by decide) (Or.inr (Or.inl ⟨_, q468⟩)) rfl <|
  r_aload_n (k := 0) dX5_beside_7 rfl <|
  r_getR (ci := 5) (q := (RX5, TX5, 4)) (k := 3) dX5_beside_8 (by decide) rfl in_X5 (by decide) (Or.inl q419) rfl <|
  r_getR (ci := 1) (q := (RX1, TX1, 13)) (k := 0) dX5_beside_11 (by decide) rfl in_X1 (by decide) (Or.inr (Or.inl ⟨_, q468⟩)) rfl <|
  r_getR (ci := 2) (q := (RX2, TX2, 31)) (k := 19) dX5_beside_14 (by decide) rfl in_X2 (by decide) (Or.inr (Or.inl ⟨_, q221⟩)) rfl <|
  r_aload_n (k := 0) dX5_beside_17 rfl <|
  r_getR (ci := 5) (q := (RX5, TX5, 4)) (k := 0) dX5_beside_18 (by decide) rfl in_X5 (by decide) (Or.inl q416) rfl <|
  r_iload_n (k := 1) dX5_beside_21 rfl <|
  r_iald dX5_beside_22 <|
  r_iald dX5_beside_23 <|
  r_aload_n (k := 0) dX5_beside_24 rfl <|
  r_getR (ci := 5) (q := (RX5, TX5, 4)) (k := 3) dX5_beside_25 (by decide) rfl in_X5 (by decide) (Or.inl q419) rfl <|
  r_getR (ci := 1) (q := (RX1, TX1, 13)) (k := 0) dX5_beside_28 (by decide) rfl in_X1 (by decide) (Or.inr (Or.inl ⟨_, q468⟩)) rfl <|
  r_getR (ci := 2) (q := (RX2, TX2, 31)) (k := 19) dX5_beside_31 (by decide) rfl in_X2 (by decide) (Or.inr (Or.inl ⟨_, q221⟩)) rfl <|
  r_aload_n (k := 0) dX5_beside_34 rfl <|
  r_getR (ci := 5) (q := (RX5, TX5, 4)) (k := 0) dX5_beside_35 (by decide) rfl in_X5 (by decide) (Or.inl q416) rfl <|
  r_iload_n (k := 2) dX5_beside_38 rfl <|
  r_iald dX5_beside_39 <|
  r_iald dX5_beside_40 <|
  r_cV (Z := mX2_cost) (ci := 2) (q := (RX2, TX2, 31)) dX5_beside_41 rfl (by decide +kernel) ⟨by decide, by decide⟩ (by decide) rfl rfl q966 q537 q538 q118 q539 (XS.out (noH _)) <|
  r_ret rfl (Or.inl ⟨dX5_beside_44, Or.inl rfl⟩)
-- CheekTown$Ring.by(III)I cuts [0]
def tX5_by_0 (d : Nat) (Q : Outcome → MH → Prop) (J : Nat → KT) : KT :=
  i_aload 0 <|
  i_iload 2 <|
  i_iload 3 <|
  i_call mX5_beside d 3 (pV 5) (xOut Q) <|
  i_aload 0 <|
  i_iload 1 <|
  i_const 1 <|
  i_iload 3 <|
  i_ishl <|
  i_ior <|
  i_iload 3 <|
  i_call mX5_from d 3 (pV 5) (xOut Q) <|
  i_iadd <|
  i_ret Q (some .int)
theorem kX5_by_0 {d : Nat} {Q : Outcome → MH → Prop} : ∀ ls st h, tX5_by_0 d Q (fun pc ls st h => WPb mX5_by d pc ls st h Q) ls st h → WPb mX5_by d 0 ls st h Q :=
  r_aload_n (k := 0) dX5_by_0 rfl <|
  r_iload_n (k := 2) dX5_by_1 rfl <|
  r_iload_n (k := 3) dX5_by_2 rfl <|
  r_cV (Z := mX5_beside) (ci := 5) (q := (RX5, TX5, 4)) dX5_by_3 rfl (by decide +kernel) ⟨by decide, by decide⟩ (by decide) rfl rfl q962 q963 q964 q124 q965 (XS.out (noH _)) <|
  r_aload_n (k := 0) dX5_by_6 rfl <|
  r_iload_n (k := 1) dX5_by_7 rfl <|
  r_iconst (v := 1) dX5_by_8 rfl <|
  r_iload_n (k := 3) dX5_by_9 rfl <|
  r_ishl dX5_by_10 <|
  r_ior dX5_by_11 <|
  r_iload_n (k := 3) dX5_by_12 rfl <|
  r_cV (Z := mX5_from) (ci := 5) (q := (RX5, TX5, 4)) dX5_by_13 rfl (by decide +kernel) ⟨by decide, by decide⟩ (by decide) rfl rfl q972 q951 q952 q124 q953 (XS.out (noH _)) <|
  r_iadd dX5_by_16 <|
  r_ret rfl (Or.inl ⟨dX5_by_17, Or.inl rfl⟩)
-- CheekTown$Ring.sitter(I)I cuts [0, 7, 16]
def tX5_sitter_0 (d : Nat) (Q : Outcome → MH → Prop) (J : Nat → KT) : KT :=
  i_const 1 <|
  i_istore 2 <|
  i_const 0 <|
  i_istore 3 <|
  i_const 0 <|
  i_istore 4 <|
  (J 7)
theorem kX5_sitter_0 {d : Nat} {Q : Outcome → MH → Prop} : ∀ ls st h, tX5_sitter_0 d Q (fun pc ls st h => WPb mX5_sitter d pc ls st h Q) ls st h → WPb mX5_sitter d 0 ls st h Q :=
  r_iconst (v := 1) dX5_sitter_0 rfl <|
  r_istore_n (k := 2) dX5_sitter_1 rfl <|
  r_iconst (v := 0) dX5_sitter_2 rfl <|
  r_istore_n (k := 3) dX5_sitter_3 rfl <|
  r_iconst (v := 0) dX5_sitter_4 rfl <|
  r_istore dX5_sitter_5 <|
  (fun _ _ _ H => H)
def tX5_sitter_7 (d : Nat) (Q : Outcome → MH → Prop) (J : Nat → KT) : KT :=
  i_iload 4 <|
  i_iload 1 <|
  i_icmp_ge
  (i_aload 0 <|
  i_getR 5 0 <|
  i_iload 3 <|
  i_iald <|
  i_ret Q (some .int))
  (i_const 0 <|
  i_istore 5 <|
  (J 16))
theorem kX5_sitter_7 {d : Nat} {Q : Outcome → MH → Prop} : ∀ ls st h, tX5_sitter_7 d Q (fun pc ls st h => WPb mX5_sitter d pc ls st h Q) ls st h → WPb mX5_sitter d 7 ls st h Q :=
  r_iload dX5_sitter_7 <|
  r_iload_n (k := 1) dX5_sitter_9 rfl <|
  r_icmp_ge (pt := 64) dX5_sitter_10 (by decide)
  (r_aload_n (k := 0) dX5_sitter_64 rfl <|
  r_getR (ci := 5) (q := (RX5, TX5, 4)) (k := 0) dX5_sitter_65 (by decide) rfl in_X5 (by decide) (Or.inl q416) rfl <|
  r_iload_n (k := 3) dX5_sitter_68 rfl <|
  r_iald dX5_sitter_69 <|
  r_ret rfl (Or.inl ⟨dX5_sitter_70, Or.inl rfl⟩))
  (r_iconst (v := 0) dX5_sitter_13 rfl <|
  r_istore dX5_sitter_14 <|
  (fun _ _ _ H => H))
def tX5_sitter_16 (d : Nat) (Q : Outcome → MH → Prop) (J : Nat → KT) : KT :=
  i_iload 2 <|
  i_iload 5 <|
  i_call mX1_has d 2 pS (xOut Q) <|
  i_if_ne
  (i_iinc 5 1 <|
  (J 16))
  (i_aload 0 <|
  i_iload 2 <|
  i_iload 3 <|
  i_iload 5 <|
  i_call mX5_by d 4 (pV 5) (xOut Q) <|
  i_aload 0 <|
  i_iload 2 <|
  i_iload 3 <|
  i_call mX5_from d 3 (pV 5) (xOut Q) <|
  i_icmp_eq
  (i_iload 2 <|
  i_const 1 <|
  i_iload 5 <|
  i_ishl <|
  i_ior <|
  i_istore 2 <|
  i_iload 5 <|
  i_istore 3 <|
  i_iinc 4 1 <|
  (J 7))
  (i_iinc 5 1 <|
  (J 16)))
theorem kX5_sitter_16 {d : Nat} {Q : Outcome → MH → Prop} : ∀ ls st h, tX5_sitter_16 d Q (fun pc ls st h => WPb mX5_sitter d pc ls st h Q) ls st h → WPb mX5_sitter d 16 ls st h Q :=
  r_iload_n (k := 2) dX5_sitter_16 rfl <|
  r_iload dX5_sitter_17 <|
  r_cSN (Z := mX1_has) dX5_sitter_19 rfl (by decide +kernel) ⟨by decide, by decide⟩ q607 q608 q117 q609 (XS.out (noH _)) <|
  r_if_ne (pt := 42) dX5_sitter_22 (by decide)
  (r_iinc (v := 1) dX5_sitter_42 rfl <|
  r_goto (pt := 16) dX5_sitter_45 (by decide) <|
  (fun _ _ _ H => H))
  (r_aload_n (k := 0) dX5_sitter_25 rfl <|
  r_iload_n (k := 2) dX5_sitter_26 rfl <|
  r_iload_n (k := 3) dX5_sitter_27 rfl <|
  r_iload dX5_sitter_28 <|
  r_cV (Z := mX5_by) (ci := 5) (q := (RX5, TX5, 4)) dX5_sitter_30 rfl (by decide +kernel) ⟨by decide, by decide⟩ (by decide) rfl rfl q968 q969 q970 q124 q971 (XS.out (noH _)) <|
  r_aload_n (k := 0) dX5_sitter_33 rfl <|
  r_iload_n (k := 2) dX5_sitter_34 rfl <|
  r_iload_n (k := 3) dX5_sitter_35 rfl <|
  r_cV (Z := mX5_from) (ci := 5) (q := (RX5, TX5, 4)) dX5_sitter_36 rfl (by decide +kernel) ⟨by decide, by decide⟩ (by decide) rfl rfl q972 q951 q952 q124 q953 (XS.out (noH _)) <|
  r_icmp_eq (pt := 48) dX5_sitter_39 (by decide)
  (r_iload_n (k := 2) dX5_sitter_48 rfl <|
  r_iconst (v := 1) dX5_sitter_49 rfl <|
  r_iload dX5_sitter_50 <|
  r_ishl dX5_sitter_52 <|
  r_ior dX5_sitter_53 <|
  r_istore_n (k := 2) dX5_sitter_54 rfl <|
  r_iload dX5_sitter_55 <|
  r_istore_n (k := 3) dX5_sitter_57 rfl <|
  r_iinc (v := 1) dX5_sitter_58 rfl <|
  r_goto (pt := 7) dX5_sitter_61 (by decide) <|
  (fun _ _ _ H => H))
  (r_iinc (v := 1) dX5_sitter_42 rfl <|
  r_goto (pt := 16) dX5_sitter_45 (by decide) <|
  (fun _ _ _ H => H)))
-- CheekTown$Pairing.<init>(LCheekTown;)V cuts [0]
def tX6_init_0 (d : Nat) (Q : Outcome → MH → Prop) (J : Nat → KT) : KT :=
  i_aload 0 <|
  i_aload 1 <|
  i_putR 6 1 <|
  i_aload 0 <|
  i_obj d <|
  i_aload 0 <|
  i_const 25600 <|
  i_newa 1 <|
  i_putR 6 0 <|
  i_vret Q
theorem kX6_init_0 {d : Nat} {Q : Outcome → MH → Prop} : ∀ ls st h, tX6_init_0 d Q (fun pc ls st h => WPb mX6_init d pc ls st h Q) ls st h → WPb mX6_init d 0 ls st h Q :=
  r_aload_n (k := 0) dX6_init_0 rfl <|
  r_aload_n (k := 1) dX6_init_1 rfl <|
  r_putR (ci := 6) (q := (RX6, TX6, 2)) (k := 1) tyX6 tyX6_ok nmX6 dX6_init_2 (by decide) rfl in_X6 (by decide) (Or.inr ⟨rfl, rfl, rfl, q436⟩) rfl rfl <|
  r_aload_n (k := 0) dX6_init_5 rfl <|
  r_obj dX6_init_6 q434 q170 q171 <|
  r_aload_n (k := 0) dX6_init_9 rfl <|
  r_sipush (v := 25600) dX6_init_10 rfl <|
  r_newa (t := 1) (at9 := .byte) (ty := .byte) (by decide) rfl rfl q344 (by decide) dX6_init_13 <|
  r_putR (ci := 6) (q := (RX6, TX6, 2)) (k := 0) tyX6 tyX6_ok nmX6 dX6_init_15 (by decide) rfl in_X6 (by decide) (Or.inr ⟨rfl, rfl, rfl, q435⟩) rfl rfl <|
  r_vret rfl dX6_init_18
-- CheekTown$Pairing.anew()LCheekTown$Pairing; cuts [0]
def tX6_anew_0 (d : Nat) (Q : Outcome → MH → Prop) (J : Nat → KT) : KT :=
  i_aload 0 <|
  i_getR 6 0 <|
  i_const 0 <|
  i_aload 0 <|
  i_getR 6 1 <|
  i_getR 1 0 <|
  i_getI 2 4 <|
  i_const 1 <|
  i_iadd <|
  i_const 10 <|
  i_ishl <|
  i_const (-1) <|
  i_call mJ9_fill_2 d 4 pS (xOut Q) <|
  i_aload 0 <|
  i_ret Q (some (.object "CheekTown$Pairing"))
theorem kX6_anew_0 {d : Nat} {Q : Outcome → MH → Prop} : ∀ ls st h, tX6_anew_0 d Q (fun pc ls st h => WPb mX6_anew d pc ls st h Q) ls st h → WPb mX6_anew d 0 ls st h Q :=
  r_aload_n (k := 0) dX6_anew_0 rfl <|
  r_getR (ci := 6) (q := (RX6, TX6, 2)) (k := 0) dX6_anew_1 (by decide) rfl in_X6 (by decide) (Or.inl q435) rfl <|
  r_iconst (v := 0) dX6_anew_4 rfl <|
  r_aload_n (k := 0) dX6_anew_5 rfl <|
  r_getR (ci := 6) (q := (RX6, TX6, 2)) (k := 1) dX6_anew_6 (by decide) rfl in_X6 (by decide) (Or.inl q436) rfl <|
  r_getR (ci := 1) (q := (RX1, TX1, 13)) (k := 0) dX6_anew_9 (by decide) rfl in_X1 (by decide) (Or.inr (Or.inl ⟨_, q467⟩)) rfl <|
  r_getI (ci := 2) (q := (RX2, TX2, 31)) (k := 4) dX6_anew_12 (by decide) rfl in_X2 (by decide) (Or.inr (Or.inl ⟨_, q188⟩)) rfl <|
  r_iconst (v := 1) dX6_anew_15 rfl <|
  r_iadd dX6_anew_16 <|
  r_bipush (v := 10) dX6_anew_17 rfl <|
  r_ishl dX6_anew_19 <|
  r_iconst (v := (-1)) dX6_anew_20 rfl <|
  r_cS (Z := mJ9_fill_2) dX6_anew_21 rfl (by decide +kernel) ⟨by decide, by decide⟩ q986 q987 q135 q988 (XS.out (noH _)) <|
  r_aload_n (k := 0) dX6_anew_24 rfl <|
  r_ret rfl (Or.inr (Or.inr ⟨dX6_anew_25, Or.inl ⟨_, rfl⟩⟩))
-- CheekTown$Pairing.from(II)I cuts [0]
def tX6_from_0 (d : Nat) (Q : Outcome → MH → Prop) (J : Nat → KT) : KT :=
  i_iload 1 <|
  i_aload 0 <|
  i_getR 6 1 <|
  i_getR 1 0 <|
  i_getI 2 4 <|
  i_icmp_ne
  (i_iload 1 <|
  i_const 10 <|
  i_ishl <|
  i_iload 2 <|
  i_ior <|
  i_istore 3 <|
  i_aload 0 <|
  i_getR 6 0 <|
  i_iload 3 <|
  i_bald <|
  i_const (-1) <|
  i_icmp_eq
  (i_aload 0 <|
  i_iload 1 <|
  i_const 1 <|
  i_iadd <|
  i_iload 2 <|
  i_call mX6_from d 3 (pV 6) (xOut Q) <|
  i_istore 4 <|
  i_aload 0 <|
  i_iload 1 <|
  i_iload 2 <|
  i_call mX6_isFree d 3 (pV 6) (xOut Q) <|
  i_if_eq
  (i_aload 0 <|
  i_getR 6 0 <|
  i_iload 3 <|
  i_iload 4 <|
  i_i2b <|
  i_bast <|
  i_iload 4 <|
  i_ret Q (some .int))
  (i_iload 4 <|
  i_const 1 <|
  i_aload 0 <|
  i_iload 1 <|
  i_const 1 <|
  i_iadd <|
  i_iload 2 <|
  i_aload 0 <|
  i_iload 1 <|
  i_call mX6_both d 2 (pV 6) (xOut Q) <|
  i_ior <|
  i_call mX6_from d 3 (pV 6) (xOut Q) <|
  i_iadd <|
  i_mmax d <|
  i_istore 4 <|
  i_aload 0 <|
  i_getR 6 0 <|
  i_iload 3 <|
  i_iload 4 <|
  i_i2b <|
  i_bast <|
  i_iload 4 <|
  i_ret Q (some .int)))
  (i_aload 0 <|
  i_getR 6 0 <|
  i_iload 3 <|
  i_bald <|
  i_ret Q (some .int)))
  (i_const 0 <|
  i_ret Q (some .int))
theorem kX6_from_0 {d : Nat} {Q : Outcome → MH → Prop} : ∀ ls st h, tX6_from_0 d Q (fun pc ls st h => WPb mX6_from d pc ls st h Q) ls st h → WPb mX6_from d 0 ls st h Q :=
  r_iload_n (k := 1) dX6_from_0 rfl <|
  r_aload_n (k := 0) dX6_from_1 rfl <|
  r_getR (ci := 6) (q := (RX6, TX6, 2)) (k := 1) dX6_from_2 (by decide) rfl in_X6 (by decide) (Or.inl q436) rfl <|
  r_getR (ci := 1) (q := (RX1, TX1, 13)) (k := 0) dX6_from_5 (by decide) rfl in_X1 (by decide) (Or.inr (Or.inl ⟨_, q467⟩)) rfl <|
  r_getI (ci := 2) (q := (RX2, TX2, 31)) (k := 4) dX6_from_8 (by decide) rfl in_X2 (by decide) (Or.inr (Or.inl ⟨_, q188⟩)) rfl <|
  r_icmp_ne (pt := 16) dX6_from_11 (by decide)
  (r_iload_n (k := 1) dX6_from_16 rfl <|
  r_bipush (v := 10) dX6_from_17 rfl <|
  r_ishl dX6_from_19 <|
  r_iload_n (k := 2) dX6_from_20 rfl <|
  r_ior dX6_from_21 <|
  r_istore_n (k := 3) dX6_from_22 rfl <|
  r_aload_n (k := 0) dX6_from_23 rfl <|
  r_getR (ci := 6) (q := (RX6, TX6, 2)) (k := 0) dX6_from_24 (by decide) rfl in_X6 (by decide) (Or.inl q435) rfl <|
  r_iload_n (k := 3) dX6_from_27 rfl <|
  r_bald dX6_from_28 <|
  r_iconst (v := (-1)) dX6_from_29 rfl <|
  r_icmp_eq (pt := 40) dX6_from_30 (by decide)
  (r_aload_n (k := 0) dX6_from_40 rfl <|
  r_iload_n (k := 1) dX6_from_41 rfl <|
  r_iconst (v := 1) dX6_from_42 rfl <|
  r_iadd dX6_from_43 <|
  r_iload_n (k := 2) dX6_from_44 rfl <|
  r_cV (Z := mX6_from) (ci := 6) (q := (RX6, TX6, 2)) dX6_from_45 rfl (by decide +kernel) ⟨by decide, by decide⟩ (by decide) rfl rfl q993 q990 q991 q125 q992 (XS.out (noH _)) <|
  r_istore dX6_from_48 <|
  r_aload_n (k := 0) dX6_from_50 rfl <|
  r_iload_n (k := 1) dX6_from_51 rfl <|
  r_iload_n (k := 2) dX6_from_52 rfl <|
  r_cV (Z := mX6_isFree) (ci := 6) (q := (RX6, TX6, 2)) dX6_from_53 rfl (by decide +kernel) ⟨by decide, by decide⟩ (by decide) rfl rfl q994 q995 q996 q125 q997 (XS.out (noH _)) <|
  r_if_eq (pt := 82) dX6_from_56 (by decide)
  (r_aload_n (k := 0) dX6_from_82 rfl <|
  r_getR (ci := 6) (q := (RX6, TX6, 2)) (k := 0) dX6_from_83 (by decide) rfl in_X6 (by decide) (Or.inl q435) rfl <|
  r_iload_n (k := 3) dX6_from_86 rfl <|
  r_iload dX6_from_87 <|
  r_i2b dX6_from_89 <|
  r_bast dX6_from_90 <|
  r_iload dX6_from_91 <|
  r_ret rfl (Or.inl ⟨dX6_from_93, Or.inl rfl⟩))
  (r_iload dX6_from_59 <|
  r_iconst (v := 1) dX6_from_61 rfl <|
  r_aload_n (k := 0) dX6_from_62 rfl <|
  r_iload_n (k := 1) dX6_from_63 rfl <|
  r_iconst (v := 1) dX6_from_64 rfl <|
  r_iadd dX6_from_65 <|
  r_iload_n (k := 2) dX6_from_66 rfl <|
  r_aload_n (k := 0) dX6_from_67 rfl <|
  r_iload_n (k := 1) dX6_from_68 rfl <|
  r_cV (Z := mX6_both) (ci := 6) (q := (RX6, TX6, 2)) dX6_from_69 rfl (by decide +kernel) ⟨by decide, by decide⟩ (by decide) rfl rfl q999 q1000 q1001 q125 q1002 (XS.out (noH _)) <|
  r_ior dX6_from_72 <|
  r_cV (Z := mX6_from) (ci := 6) (q := (RX6, TX6, 2)) dX6_from_73 rfl (by decide +kernel) ⟨by decide, by decide⟩ (by decide) rfl rfl q993 q990 q991 q125 q992 (XS.out (noH _)) <|
  r_iadd dX6_from_76 <|
  r_mmax dX6_from_77 q1003 q561 q134 q562 <|
  r_istore dX6_from_80 <|
  r_aload_n (k := 0) dX6_from_82 rfl <|
  r_getR (ci := 6) (q := (RX6, TX6, 2)) (k := 0) dX6_from_83 (by decide) rfl in_X6 (by decide) (Or.inl q435) rfl <|
  r_iload_n (k := 3) dX6_from_86 rfl <|
  r_iload dX6_from_87 <|
  r_i2b dX6_from_89 <|
  r_bast dX6_from_90 <|
  r_iload dX6_from_91 <|
  r_ret rfl (Or.inl ⟨dX6_from_93, Or.inl rfl⟩)))
  (r_aload_n (k := 0) dX6_from_33 rfl <|
  r_getR (ci := 6) (q := (RX6, TX6, 2)) (k := 0) dX6_from_34 (by decide) rfl in_X6 (by decide) (Or.inl q435) rfl <|
  r_iload_n (k := 3) dX6_from_37 rfl <|
  r_bald dX6_from_38 <|
  r_ret rfl (Or.inl ⟨dX6_from_39, Or.inl rfl⟩)))
  (r_iconst (v := 0) dX6_from_14 rfl <|
  r_ret rfl (Or.inl ⟨dX6_from_15, Or.inl rfl⟩))
-- CheekTown$Pairing.isFree(II)Z cuts [0]
def tX6_isFree_0 (d : Nat) (Q : Outcome → MH → Prop) (J : Nat → KT) : KT :=
  i_iload 2 <|
  i_aload 0 <|
  i_getR 6 1 <|
  i_getR 1 0 <|
  i_getR 2 27 <|
  i_iload 1 <|
  i_iald <|
  i_call mX1_has d 2 pS (xOut Q) <|
  i_if_ne
  (i_const 0 <|
  i_ret Q (some .boolean))
  (i_iload 2 <|
  i_aload 0 <|
  i_getR 6 1 <|
  i_getR 1 0 <|
  i_getR 2 28 <|
  i_iload 1 <|
  i_iald <|
  i_call mX1_has d 2 pS (xOut Q) <|
  i_if_ne
  (i_const 0 <|
  i_ret Q (some .boolean))
  (i_const 1 <|
  i_ret Q (some .boolean)))
theorem kX6_isFree_0 {d : Nat} {Q : Outcome → MH → Prop} : ∀ ls st h, tX6_isFree_0 d Q (fun pc ls st h => WPb mX6_isFree d pc ls st h Q) ls st h → WPb mX6_isFree d 0 ls st h Q :=
  r_iload_n (k := 2) dX6_isFree_0 rfl <|
  r_aload_n (k := 0) dX6_isFree_1 rfl <|
  r_getR (ci := 6) (q := (RX6, TX6, 2)) (k := 1) dX6_isFree_2 (by decide) rfl in_X6 (by decide) (Or.inl q436) rfl <|
  r_getR (ci := 1) (q := (RX1, TX1, 13)) (k := 0) dX6_isFree_5 (by decide) rfl in_X1 (by decide) (Or.inr (Or.inl ⟨_, q467⟩)) rfl <|
  r_getR (ci := 2) (q := (RX2, TX2, 31)) (k := 27) dX6_isFree_8 (by decide) rfl in_X2 (by decide) (Or.inr (Or.inl ⟨_, q238⟩)) rfl <|
  r_iload_n (k := 1) dX6_isFree_11 rfl <|
  r_iald dX6_isFree_12 <|
  r_cSN (Z := mX1_has) dX6_isFree_13 rfl (by decide +kernel) ⟨by decide, by decide⟩ q998 q608 q117 q609 (XS.out (noH _)) <|
  r_if_ne (pt := 42) dX6_isFree_16 (by decide)
  (r_iconst (v := 0) dX6_isFree_42 rfl <|
  r_ret rfl (Or.inl ⟨dX6_isFree_43, Or.inr (Or.inl rfl)⟩))
  (r_iload_n (k := 2) dX6_isFree_19 rfl <|
  r_aload_n (k := 0) dX6_isFree_20 rfl <|
  r_getR (ci := 6) (q := (RX6, TX6, 2)) (k := 1) dX6_isFree_21 (by decide) rfl in_X6 (by decide) (Or.inl q436) rfl <|
  r_getR (ci := 1) (q := (RX1, TX1, 13)) (k := 0) dX6_isFree_24 (by decide) rfl in_X1 (by decide) (Or.inr (Or.inl ⟨_, q467⟩)) rfl <|
  r_getR (ci := 2) (q := (RX2, TX2, 31)) (k := 28) dX6_isFree_27 (by decide) rfl in_X2 (by decide) (Or.inr (Or.inl ⟨_, q241⟩)) rfl <|
  r_iload_n (k := 1) dX6_isFree_30 rfl <|
  r_iald dX6_isFree_31 <|
  r_cSN (Z := mX1_has) dX6_isFree_32 rfl (by decide +kernel) ⟨by decide, by decide⟩ q998 q608 q117 q609 (XS.out (noH _)) <|
  r_if_ne (pt := 42) dX6_isFree_35 (by decide)
  (r_iconst (v := 0) dX6_isFree_42 rfl <|
  r_ret rfl (Or.inl ⟨dX6_isFree_43, Or.inr (Or.inl rfl)⟩))
  (r_iconst (v := 1) dX6_isFree_38 rfl <|
  r_goto (pt := 43) dX6_isFree_39 (by decide) <|
  r_ret rfl (Or.inl ⟨dX6_isFree_43, Or.inr (Or.inl rfl)⟩)))
-- CheekTown$Pairing.both(I)I cuts [0]
def tX6_both_0 (d : Nat) (Q : Outcome → MH → Prop) (J : Nat → KT) : KT :=
  i_const 1 <|
  i_aload 0 <|
  i_getR 6 1 <|
  i_getR 1 0 <|
  i_getR 2 27 <|
  i_iload 1 <|
  i_iald <|
  i_ishl <|
  i_const 1 <|
  i_aload 0 <|
  i_getR 6 1 <|
  i_getR 1 0 <|
  i_getR 2 28 <|
  i_iload 1 <|
  i_iald <|
  i_ishl <|
  i_ior <|
  i_ret Q (some .int)
theorem kX6_both_0 {d : Nat} {Q : Outcome → MH → Prop} : ∀ ls st h, tX6_both_0 d Q (fun pc ls st h => WPb mX6_both d pc ls st h Q) ls st h → WPb mX6_both d 0 ls st h Q :=
  r_iconst (v := 1) dX6_both_0 rfl <|
  r_aload_n (k := 0) dX6_both_1 rfl <|
  r_getR (ci := 6) (q := (RX6, TX6, 2)) (k := 1) dX6_both_2 (by decide) rfl in_X6 (by decide) (Or.inl q436) rfl <|
  r_getR (ci := 1) (q := (RX1, TX1, 13)) (k := 0) dX6_both_5 (by decide) rfl in_X1 (by decide) (Or.inr (Or.inl ⟨_, q467⟩)) rfl <|
  r_getR (ci := 2) (q := (RX2, TX2, 31)) (k := 27) dX6_both_8 (by decide) rfl in_X2 (by decide) (Or.inr (Or.inl ⟨_, q238⟩)) rfl <|
  r_iload_n (k := 1) dX6_both_11 rfl <|
  r_iald dX6_both_12 <|
  r_ishl dX6_both_13 <|
  r_iconst (v := 1) dX6_both_14 rfl <|
  r_aload_n (k := 0) dX6_both_15 rfl <|
  r_getR (ci := 6) (q := (RX6, TX6, 2)) (k := 1) dX6_both_16 (by decide) rfl in_X6 (by decide) (Or.inl q436) rfl <|
  r_getR (ci := 1) (q := (RX1, TX1, 13)) (k := 0) dX6_both_19 (by decide) rfl in_X1 (by decide) (Or.inr (Or.inl ⟨_, q467⟩)) rfl <|
  r_getR (ci := 2) (q := (RX2, TX2, 31)) (k := 28) dX6_both_22 (by decide) rfl in_X2 (by decide) (Or.inr (Or.inl ⟨_, q241⟩)) rfl <|
  r_iload_n (k := 1) dX6_both_25 rfl <|
  r_iald dX6_both_26 <|
  r_ishl dX6_both_27 <|
  r_ior dX6_both_28 <|
  r_ret rfl (Or.inl ⟨dX6_both_29, Or.inl rfl⟩)
-- CheekTown$Pairing.first()I cuts [0, 4]
def tX6_first_0 (d : Nat) (Q : Outcome → MH → Prop) (J : Nat → KT) : KT :=
  i_const 0 <|
  i_istore 1 <|
  i_const 0 <|
  i_istore 2 <|
  (J 4)
theorem kX6_first_0 {d : Nat} {Q : Outcome → MH → Prop} : ∀ ls st h, tX6_first_0 d Q (fun pc ls st h => WPb mX6_first d pc ls st h Q) ls st h → WPb mX6_first d 0 ls st h Q :=
  r_iconst (v := 0) dX6_first_0 rfl <|
  r_istore_n (k := 1) dX6_first_1 rfl <|
  r_iconst (v := 0) dX6_first_2 rfl <|
  r_istore_n (k := 2) dX6_first_3 rfl <|
  (fun _ _ _ H => H)
def tX6_first_4 (d : Nat) (Q : Outcome → MH → Prop) (J : Nat → KT) : KT :=
  i_iload 2 <|
  i_aload 0 <|
  i_getR 6 1 <|
  i_getR 1 0 <|
  i_getI 2 4 <|
  i_icmp_ge
  (i_iload 1 <|
  i_ret Q (some .int))
  (i_aload 0 <|
  i_iload 2 <|
  i_iload 1 <|
  i_call mX6_isFree d 3 (pV 6) (xOut Q) <|
  i_if_eq
  (i_iinc 2 1 <|
  (J 4))
  (i_const 1 <|
  i_aload 0 <|
  i_iload 2 <|
  i_const 1 <|
  i_iadd <|
  i_iload 1 <|
  i_aload 0 <|
  i_iload 2 <|
  i_call mX6_both d 2 (pV 6) (xOut Q) <|
  i_ior <|
  i_call mX6_from d 3 (pV 6) (xOut Q) <|
  i_iadd <|
  i_aload 0 <|
  i_iload 2 <|
  i_iload 1 <|
  i_call mX6_from d 3 (pV 6) (xOut Q) <|
  i_icmp_ne
  (i_iinc 2 1 <|
  (J 4))
  (i_iload 1 <|
  i_aload 0 <|
  i_iload 2 <|
  i_call mX6_both d 2 (pV 6) (xOut Q) <|
  i_ior <|
  i_istore 1 <|
  i_iinc 2 1 <|
  (J 4))))
theorem kX6_first_4 {d : Nat} {Q : Outcome → MH → Prop} : ∀ ls st h, tX6_first_4 d Q (fun pc ls st h => WPb mX6_first d pc ls st h Q) ls st h → WPb mX6_first d 4 ls st h Q :=
  r_iload_n (k := 2) dX6_first_4 rfl <|
  r_aload_n (k := 0) dX6_first_5 rfl <|
  r_getR (ci := 6) (q := (RX6, TX6, 2)) (k := 1) dX6_first_6 (by decide) rfl in_X6 (by decide) (Or.inl q436) rfl <|
  r_getR (ci := 1) (q := (RX1, TX1, 13)) (k := 0) dX6_first_9 (by decide) rfl in_X1 (by decide) (Or.inr (Or.inl ⟨_, q467⟩)) rfl <|
  r_getI (ci := 2) (q := (RX2, TX2, 31)) (k := 4) dX6_first_12 (by decide) rfl in_X2 (by decide) (Or.inr (Or.inl ⟨_, q188⟩)) rfl <|
  r_icmp_ge (pt := 66) dX6_first_15 (by decide)
  (r_iload_n (k := 1) dX6_first_66 rfl <|
  r_ret rfl (Or.inl ⟨dX6_first_67, Or.inl rfl⟩))
  (r_aload_n (k := 0) dX6_first_18 rfl <|
  r_iload_n (k := 2) dX6_first_19 rfl <|
  r_iload_n (k := 1) dX6_first_20 rfl <|
  r_cV (Z := mX6_isFree) (ci := 6) (q := (RX6, TX6, 2)) dX6_first_21 rfl (by decide +kernel) ⟨by decide, by decide⟩ (by decide) rfl rfl q994 q995 q996 q125 q997 (XS.out (noH _)) <|
  r_if_eq (pt := 60) dX6_first_24 (by decide)
  (r_iinc (v := 1) dX6_first_60 rfl <|
  r_goto (pt := 4) dX6_first_63 (by decide) <|
  (fun _ _ _ H => H))
  (r_iconst (v := 1) dX6_first_27 rfl <|
  r_aload_n (k := 0) dX6_first_28 rfl <|
  r_iload_n (k := 2) dX6_first_29 rfl <|
  r_iconst (v := 1) dX6_first_30 rfl <|
  r_iadd dX6_first_31 <|
  r_iload_n (k := 1) dX6_first_32 rfl <|
  r_aload_n (k := 0) dX6_first_33 rfl <|
  r_iload_n (k := 2) dX6_first_34 rfl <|
  r_cV (Z := mX6_both) (ci := 6) (q := (RX6, TX6, 2)) dX6_first_35 rfl (by decide +kernel) ⟨by decide, by decide⟩ (by decide) rfl rfl q999 q1000 q1001 q125 q1002 (XS.out (noH _)) <|
  r_ior dX6_first_38 <|
  r_cV (Z := mX6_from) (ci := 6) (q := (RX6, TX6, 2)) dX6_first_39 rfl (by decide +kernel) ⟨by decide, by decide⟩ (by decide) rfl rfl q993 q990 q991 q125 q992 (XS.out (noH _)) <|
  r_iadd dX6_first_42 <|
  r_aload_n (k := 0) dX6_first_43 rfl <|
  r_iload_n (k := 2) dX6_first_44 rfl <|
  r_iload_n (k := 1) dX6_first_45 rfl <|
  r_cV (Z := mX6_from) (ci := 6) (q := (RX6, TX6, 2)) dX6_first_46 rfl (by decide +kernel) ⟨by decide, by decide⟩ (by decide) rfl rfl q993 q990 q991 q125 q992 (XS.out (noH _)) <|
  r_icmp_ne (pt := 60) dX6_first_49 (by decide)
  (r_iinc (v := 1) dX6_first_60 rfl <|
  r_goto (pt := 4) dX6_first_63 (by decide) <|
  (fun _ _ _ H => H))
  (r_iload_n (k := 1) dX6_first_52 rfl <|
  r_aload_n (k := 0) dX6_first_53 rfl <|
  r_iload_n (k := 2) dX6_first_54 rfl <|
  r_cV (Z := mX6_both) (ci := 6) (q := (RX6, TX6, 2)) dX6_first_55 rfl (by decide +kernel) ⟨by decide, by decide⟩ (by decide) rfl rfl q999 q1000 q1001 q125 q1002 (XS.out (noH _)) <|
  r_ior dX6_first_58 <|
  r_istore_n (k := 1) dX6_first_59 rfl <|
  r_iinc (v := 1) dX6_first_60 rfl <|
  r_goto (pt := 4) dX6_first_63 (by decide) <|
  (fun _ _ _ H => H))))
-- CheekTown$Years.<init>(LCheekTown;)V cuts [0]
def tX7_init_0 (d : Nat) (Q : Outcome → MH → Prop) (J : Nat → KT) : KT :=
  i_aload 0 <|
  i_aload 1 <|
  i_putR 7 4 <|
  i_aload 0 <|
  i_obj d <|
  i_aload 0 <|
  i_const 10 <|
  i_newa 0 <|
  i_putR 7 0 <|
  i_aload 0 <|
  i_const 10 <|
  i_newa 0 <|
  i_putR 7 1 <|
  i_aload 0 <|
  i_const 10 <|
  i_newa 0 <|
  i_putR 7 2 <|
  i_vret Q
theorem kX7_init_0 {d : Nat} {Q : Outcome → MH → Prop} : ∀ ls st h, tX7_init_0 d Q (fun pc ls st h => WPb mX7_init d pc ls st h Q) ls st h → WPb mX7_init d 0 ls st h Q :=
  r_aload_n (k := 0) dX7_init_0 rfl <|
  r_aload_n (k := 1) dX7_init_1 rfl <|
  r_putR (ci := 7) (q := (RX7, TX7, 5)) (k := 4) tyX7 tyX7_ok nmX7 dX7_init_2 (by decide) rfl in_X7 (by decide) (Or.inr ⟨rfl, rfl, rfl, q453⟩) rfl rfl <|
  r_aload_n (k := 0) dX7_init_5 rfl <|
  r_obj dX7_init_6 q447 q170 q171 <|
  r_aload_n (k := 0) dX7_init_9 rfl <|
  r_bipush (v := 10) dX7_init_10 rfl <|
  r_newa (t := 0) (at9 := .int) (ty := .int) (by decide) rfl rfl q310 (by decide) dX7_init_12 <|
  r_putR (ci := 7) (q := (RX7, TX7, 5)) (k := 0) tyX7 tyX7_ok nmX7 dX7_init_14 (by decide) rfl in_X7 (by decide) (Or.inr ⟨rfl, rfl, rfl, q448⟩) rfl rfl <|
  r_aload_n (k := 0) dX7_init_17 rfl <|
  r_bipush (v := 10) dX7_init_18 rfl <|
  r_newa (t := 0) (at9 := .int) (ty := .int) (by decide) rfl rfl q310 (by decide) dX7_init_20 <|
  r_putR (ci := 7) (q := (RX7, TX7, 5)) (k := 1) tyX7 tyX7_ok nmX7 dX7_init_22 (by decide) rfl in_X7 (by decide) (Or.inr ⟨rfl, rfl, rfl, q450⟩) rfl rfl <|
  r_aload_n (k := 0) dX7_init_25 rfl <|
  r_bipush (v := 10) dX7_init_26 rfl <|
  r_newa (t := 0) (at9 := .int) (ty := .int) (by decide) rfl rfl q310 (by decide) dX7_init_28 <|
  r_putR (ci := 7) (q := (RX7, TX7, 5)) (k := 2) tyX7 tyX7_ok nmX7 dX7_init_30 (by decide) rfl in_X7 (by decide) (Or.inr ⟨rfl, rfl, rfl, q451⟩) rfl rfl <|
  r_vret rfl dX7_init_33
-- CheekTown$Years.now()LCheekTown$Years; cuts [0, 39]
def tX7_now_0 (d : Nat) (Q : Outcome → MH → Prop) (J : Nat → KT) : KT :=
  i_aload 0 <|
  i_aload 0 <|
  i_getR 7 4 <|
  i_getR 1 0 <|
  i_getI 2 3 <|
  i_putI 7 3 .int <|
  i_aload 0 <|
  i_getR 7 4 <|
  i_getR 1 0 <|
  i_getR 2 19 <|
  i_const 0 <|
  i_aload 0 <|
  i_getR 7 0 <|
  i_const 0 <|
  i_aload 0 <|
  i_getI 7 3 <|
  i_cpy 0 d <|
  i_const 0 <|
  i_istore 1 <|
  (J 39)
theorem kX7_now_0 {d : Nat} {Q : Outcome → MH → Prop} : ∀ ls st h, tX7_now_0 d Q (fun pc ls st h => WPb mX7_now d pc ls st h Q) ls st h → WPb mX7_now d 0 ls st h Q :=
  r_aload_n (k := 0) dX7_now_0 rfl <|
  r_aload_n (k := 0) dX7_now_1 rfl <|
  r_getR (ci := 7) (q := (RX7, TX7, 5)) (k := 4) dX7_now_2 (by decide) rfl in_X7 (by decide) (Or.inl q453) rfl <|
  r_getR (ci := 1) (q := (RX1, TX1, 13)) (k := 0) dX7_now_5 (by decide) rfl in_X1 (by decide) (Or.inr (Or.inl ⟨_, q466⟩)) rfl <|
  r_getI (ci := 2) (q := (RX2, TX2, 31)) (k := 3) dX7_now_8 (by decide) rfl in_X2 (by decide) (Or.inr (Or.inl ⟨_, q184⟩)) rfl <|
  r_putI (ci := 7) (q := (RX7, TX7, 5)) (k := 3) tyX7 tyX7_ok nmX7 dX7_now_11 (by decide) rfl in_X7 (by decide) (Or.inl ⟨rfl, (Or.inl q452)⟩) rfl rfl <|
  r_aload_n (k := 0) dX7_now_14 rfl <|
  r_getR (ci := 7) (q := (RX7, TX7, 5)) (k := 4) dX7_now_15 (by decide) rfl in_X7 (by decide) (Or.inl q453) rfl <|
  r_getR (ci := 1) (q := (RX1, TX1, 13)) (k := 0) dX7_now_18 (by decide) rfl in_X1 (by decide) (Or.inr (Or.inl ⟨_, q466⟩)) rfl <|
  r_getR (ci := 2) (q := (RX2, TX2, 31)) (k := 19) dX7_now_21 (by decide) rfl in_X2 (by decide) (Or.inr (Or.inl ⟨_, q220⟩)) rfl <|
  r_iconst (v := 0) dX7_now_24 rfl <|
  r_aload_n (k := 0) dX7_now_25 rfl <|
  r_getR (ci := 7) (q := (RX7, TX7, 5)) (k := 0) dX7_now_26 (by decide) rfl in_X7 (by decide) (Or.inl q448) rfl <|
  r_iconst (v := 0) dX7_now_29 rfl <|
  r_aload_n (k := 0) dX7_now_30 rfl <|
  r_getI (ci := 7) (q := (RX7, TX7, 5)) (k := 3) dX7_now_31 (by decide) rfl in_X7 (by decide) (Or.inl q452) rfl <|
  r_cpy (t := 0) (by decide) rfl q1017 q734 q733 q128 dX7_now_34 <|
  r_iconst (v := 0) dX7_now_37 rfl <|
  r_istore_n (k := 1) dX7_now_38 rfl <|
  (fun _ _ _ H => H)
def tX7_now_39 (d : Nat) (Q : Outcome → MH → Prop) (J : Nat → KT) : KT :=
  i_iload 1 <|
  i_aload 0 <|
  i_getI 7 3 <|
  i_icmp_ge
  (i_aload 0 <|
  i_ret Q (some (.object "CheekTown$Years")))
  (i_aload 0 <|
  i_getR 7 2 <|
  i_iload 1 <|
  i_aload 0 <|
  i_getR 7 4 <|
  i_getR 1 0 <|
  i_iload 1 <|
  i_call mX2_tied d 2 (pV 2) (xOut Q) <|
  i_const 1 <|
  i_iload 1 <|
  i_ishl <|
  i_ior <|
  i_iast <|
  i_iinc 1 1 <|
  (J 39))
theorem kX7_now_39 {d : Nat} {Q : Outcome → MH → Prop} : ∀ ls st h, tX7_now_39 d Q (fun pc ls st h => WPb mX7_now d pc ls st h Q) ls st h → WPb mX7_now d 39 ls st h Q :=
  r_iload_n (k := 1) dX7_now_39 rfl <|
  r_aload_n (k := 0) dX7_now_40 rfl <|
  r_getI (ci := 7) (q := (RX7, TX7, 5)) (k := 3) dX7_now_41 (by decide) rfl in_X7 (by decide) (Or.inl q452) rfl <|
  r_icmp_ge (pt := 74) dX7_now_44 (by decide)
  (r_aload_n (k := 0) dX7_now_74 rfl <|
  r_ret rfl (Or.inr (Or.inr ⟨dX7_now_75, Or.inl ⟨_, rfl⟩⟩)))
  (r_aload_n (k := 0) dX7_now_47 rfl <|
  r_getR (ci := 7) (q := (RX7, TX7, 5)) (k := 2) dX7_now_48 (by decide) rfl in_X7 (by decide) (Or.inl q451) rfl <|
  r_iload_n (k := 1) dX7_now_51 rfl <|
  r_aload_n (k := 0) dX7_now_52 rfl <|
  r_getR (ci := 7) (q := (RX7, TX7, 5)) (k := 4) dX7_now_53 (by decide) rfl in_X7 (by decide) (Or.inl q453) rfl <|
  r_getR (ci := 1) (q := (RX1, TX1, 13)) (k := 0) dX7_now_56 (by decide) rfl in_X1 (by decide) (Or.inr (Or.inl ⟨_, q466⟩)) rfl <|
  r_iload_n (k := 1) dX7_now_59 rfl <|
  r_cV (Z := mX2_tied) (ci := 2) (q := (RX2, TX2, 31)) dX7_now_60 rfl (by decide +kernel) ⟨by decide, by decide⟩ (by decide) rfl rfl q1018 q1019 q1020 q118 q1021 (XS.out (noH _)) <|
  r_iconst (v := 1) dX7_now_63 rfl <|
  r_iload_n (k := 1) dX7_now_64 rfl <|
  r_ishl dX7_now_65 <|
  r_ior dX7_now_66 <|
  r_iast dX7_now_67 <|
  r_iinc (v := 1) dX7_now_68 rfl <|
  r_goto (pt := 39) dX7_now_71 (by decide) <|
  (fun _ _ _ H => H))
-- CheekTown$Years.goes()Z cuts [0, 4]
def tX7_goes_0 (d : Nat) (Q : Outcome → MH → Prop) (J : Nat → KT) : KT :=
  i_const 0 <|
  i_istore 1 <|
  i_const 0 <|
  i_istore 2 <|
  (J 4)
theorem kX7_goes_0 {d : Nat} {Q : Outcome → MH → Prop} : ∀ ls st h, tX7_goes_0 d Q (fun pc ls st h => WPb mX7_goes d pc ls st h Q) ls st h → WPb mX7_goes d 0 ls st h Q :=
  r_iconst (v := 0) dX7_goes_0 rfl <|
  r_istore_n (k := 1) dX7_goes_1 rfl <|
  r_iconst (v := 0) dX7_goes_2 rfl <|
  r_istore_n (k := 2) dX7_goes_3 rfl <|
  (fun _ _ _ H => H)
def tX7_goes_4 (d : Nat) (Q : Outcome → MH → Prop) (J : Nat → KT) : KT :=
  i_iload 2 <|
  i_aload 0 <|
  i_getI 7 3 <|
  i_icmp_ge
  (i_aload 0 <|
  i_getR 7 1 <|
  i_const 0 <|
  i_aload 0 <|
  i_getR 7 0 <|
  i_const 0 <|
  i_aload 0 <|
  i_getI 7 3 <|
  i_cpy 0 d <|
  i_iload 1 <|
  i_ret Q (some .boolean))
  (i_aload 0 <|
  i_getR 7 1 <|
  i_iload 2 <|
  i_aload 0 <|
  i_iload 2 <|
  i_call mX7_taken d 2 (pV 7) (xOut Q) <|
  i_iast <|
  i_iload 1 <|
  i_if_ne
  (i_const 1 <|
  i_istore 1 <|
  i_iinc 2 1 <|
  (J 4))
  (i_aload 0 <|
  i_getR 7 1 <|
  i_iload 2 <|
  i_iald <|
  i_aload 0 <|
  i_getR 7 0 <|
  i_iload 2 <|
  i_iald <|
  i_icmp_eq
  (i_const 0 <|
  i_istore 1 <|
  i_iinc 2 1 <|
  (J 4))
  (i_const 1 <|
  i_istore 1 <|
  i_iinc 2 1 <|
  (J 4))))
theorem kX7_goes_4 {d : Nat} {Q : Outcome → MH → Prop} : ∀ ls st h, tX7_goes_4 d Q (fun pc ls st h => WPb mX7_goes d pc ls st h Q) ls st h → WPb mX7_goes d 4 ls st h Q :=
  r_iload_n (k := 2) dX7_goes_4 rfl <|
  r_aload_n (k := 0) dX7_goes_5 rfl <|
  r_getI (ci := 7) (q := (RX7, TX7, 5)) (k := 3) dX7_goes_6 (by decide) rfl in_X7 (by decide) (Or.inl q452) rfl <|
  r_icmp_ge (pt := 54) dX7_goes_9 (by decide)
  (r_aload_n (k := 0) dX7_goes_54 rfl <|
  r_getR (ci := 7) (q := (RX7, TX7, 5)) (k := 1) dX7_goes_55 (by decide) rfl in_X7 (by decide) (Or.inl q450) rfl <|
  r_iconst (v := 0) dX7_goes_58 rfl <|
  r_aload_n (k := 0) dX7_goes_59 rfl <|
  r_getR (ci := 7) (q := (RX7, TX7, 5)) (k := 0) dX7_goes_60 (by decide) rfl in_X7 (by decide) (Or.inl q448) rfl <|
  r_iconst (v := 0) dX7_goes_63 rfl <|
  r_aload_n (k := 0) dX7_goes_64 rfl <|
  r_getI (ci := 7) (q := (RX7, TX7, 5)) (k := 3) dX7_goes_65 (by decide) rfl in_X7 (by decide) (Or.inl q452) rfl <|
  r_cpy (t := 0) (by decide) rfl q1017 q734 q733 q128 dX7_goes_68 <|
  r_iload_n (k := 1) dX7_goes_71 rfl <|
  r_ret rfl (Or.inl ⟨dX7_goes_72, Or.inr (Or.inl rfl)⟩))
  (r_aload_n (k := 0) dX7_goes_12 rfl <|
  r_getR (ci := 7) (q := (RX7, TX7, 5)) (k := 1) dX7_goes_13 (by decide) rfl in_X7 (by decide) (Or.inl q450) rfl <|
  r_iload_n (k := 2) dX7_goes_16 rfl <|
  r_aload_n (k := 0) dX7_goes_17 rfl <|
  r_iload_n (k := 2) dX7_goes_18 rfl <|
  r_cV (Z := mX7_taken) (ci := 7) (q := (RX7, TX7, 5)) dX7_goes_19 rfl (by decide +kernel) ⟨by decide, by decide⟩ (by decide) rfl rfl q1030 q1031 q1032 q126 q1033 (XS.out (noH _)) <|
  r_iast dX7_goes_22 <|
  r_iload_n (k := 1) dX7_goes_23 rfl <|
  r_if_ne (pt := 42) dX7_goes_24 (by decide)
  (r_iconst (v := 1) dX7_goes_42 rfl <|
  r_goto (pt := 47) dX7_goes_43 (by decide) <|
  r_istore_n (k := 1) dX7_goes_47 rfl <|
  r_iinc (v := 1) dX7_goes_48 rfl <|
  r_goto (pt := 4) dX7_goes_51 (by decide) <|
  (fun _ _ _ H => H))
  (r_aload_n (k := 0) dX7_goes_27 rfl <|
  r_getR (ci := 7) (q := (RX7, TX7, 5)) (k := 1) dX7_goes_28 (by decide) rfl in_X7 (by decide) (Or.inl q450) rfl <|
  r_iload_n (k := 2) dX7_goes_31 rfl <|
  r_iald dX7_goes_32 <|
  r_aload_n (k := 0) dX7_goes_33 rfl <|
  r_getR (ci := 7) (q := (RX7, TX7, 5)) (k := 0) dX7_goes_34 (by decide) rfl in_X7 (by decide) (Or.inl q448) rfl <|
  r_iload_n (k := 2) dX7_goes_37 rfl <|
  r_iald dX7_goes_38 <|
  r_icmp_eq (pt := 46) dX7_goes_39 (by decide)
  (r_iconst (v := 0) dX7_goes_46 rfl <|
  r_istore_n (k := 1) dX7_goes_47 rfl <|
  r_iinc (v := 1) dX7_goes_48 rfl <|
  r_goto (pt := 4) dX7_goes_51 (by decide) <|
  (fun _ _ _ H => H))
  (r_iconst (v := 1) dX7_goes_42 rfl <|
  r_goto (pt := 47) dX7_goes_43 (by decide) <|
  r_istore_n (k := 1) dX7_goes_47 rfl <|
  r_iinc (v := 1) dX7_goes_48 rfl <|
  r_goto (pt := 4) dX7_goes_51 (by decide) <|
  (fun _ _ _ H => H))))
-- CheekTown$Years.taken(I)I cuts [0, 23]
def tX7_taken_0 (d : Nat) (Q : Outcome → MH → Prop) (J : Nat → KT) : KT :=
  i_aload 0 <|
  i_getR 7 0 <|
  i_iload 1 <|
  i_iald <|
  i_istore 2 <|
  i_aload 0 <|
  i_aload 0 <|
  i_getR 7 2 <|
  i_iload 1 <|
  i_iald <|
  i_iload 2 <|
  i_call mX7_many d 3 (pV 7) (xOut Q) <|
  i_istore 3 <|
  i_const 31 <|
  i_istore 4 <|
  (J 23)
theorem kX7_taken_0 {d : Nat} {Q : Outcome → MH → Prop} : ∀ ls st h, tX7_taken_0 d Q (fun pc ls st h => WPb mX7_taken d pc ls st h Q) ls st h → WPb mX7_taken d 0 ls st h Q :=
  r_aload_n (k := 0) dX7_taken_0 rfl <|
  r_getR (ci := 7) (q := (RX7, TX7, 5)) (k := 0) dX7_taken_1 (by decide) rfl in_X7 (by decide) (Or.inl q448) rfl <|
  r_iload_n (k := 1) dX7_taken_4 rfl <|
  r_iald dX7_taken_5 <|
  r_istore_n (k := 2) dX7_taken_6 rfl <|
  r_aload_n (k := 0) dX7_taken_7 rfl <|
  r_aload_n (k := 0) dX7_taken_8 rfl <|
  r_getR (ci := 7) (q := (RX7, TX7, 5)) (k := 2) dX7_taken_9 (by decide) rfl in_X7 (by decide) (Or.inl q451) rfl <|
  r_iload_n (k := 1) dX7_taken_12 rfl <|
  r_iald dX7_taken_13 <|
  r_iload_n (k := 2) dX7_taken_14 rfl <|
  r_cV (Z := mX7_many) (ci := 7) (q := (RX7, TX7, 5)) dX7_taken_15 rfl (by decide +kernel) ⟨by decide, by decide⟩ (by decide) rfl rfl q1034 q1035 q1036 q126 q1037 (XS.out (noH _)) <|
  r_istore_n (k := 3) dX7_taken_18 rfl <|
  r_bipush (v := 31) dX7_taken_19 rfl <|
  r_istore dX7_taken_21 <|
  (fun _ _ _ H => H)
def tX7_taken_23 (d : Nat) (Q : Outcome → MH → Prop) (J : Nat → KT) : KT :=
  i_iload 4 <|
  i_if_lt
  (i_iload 2 <|
  i_ret Q (some .int))
  (i_aload 0 <|
  i_aload 0 <|
  i_getR 7 2 <|
  i_iload 1 <|
  i_iald <|
  i_iload 4 <|
  i_call mX7_many d 3 (pV 7) (xOut Q) <|
  i_istore 5 <|
  i_iload 5 <|
  i_iload 3 <|
  i_icmp_lt
  (i_iinc 4 (-1) <|
  (J 23))
  (i_iload 5 <|
  i_iload 3 <|
  i_icmp_ne
  (i_iload 4 <|
  i_istore 2 <|
  i_iload 5 <|
  i_istore 3 <|
  i_iinc 4 (-1) <|
  (J 23))
  (i_iload 2 <|
  i_aload 0 <|
  i_getR 7 0 <|
  i_iload 1 <|
  i_iald <|
  i_icmp_ne
  (i_iload 4 <|
  i_istore 2 <|
  i_iload 5 <|
  i_istore 3 <|
  i_iinc 4 (-1) <|
  (J 23))
  (i_iinc 4 (-1) <|
  (J 23)))))
theorem kX7_taken_23 {d : Nat} {Q : Outcome → MH → Prop} : ∀ ls st h, tX7_taken_23 d Q (fun pc ls st h => WPb mX7_taken d pc ls st h Q) ls st h → WPb mX7_taken d 23 ls st h Q :=
  r_iload dX7_taken_23 <|
  r_if_lt (pt := 79) dX7_taken_25 (by decide)
  (r_iload_n (k := 2) dX7_taken_79 rfl <|
  r_ret rfl (Or.inl ⟨dX7_taken_80, Or.inl rfl⟩))
  (r_aload_n (k := 0) dX7_taken_28 rfl <|
  r_aload_n (k := 0) dX7_taken_29 rfl <|
  r_getR (ci := 7) (q := (RX7, TX7, 5)) (k := 2) dX7_taken_30 (by decide) rfl in_X7 (by decide) (Or.inl q451) rfl <|
  r_iload_n (k := 1) dX7_taken_33 rfl <|
  r_iald dX7_taken_34 <|
  r_iload dX7_taken_35 <|
  r_cV (Z := mX7_many) (ci := 7) (q := (RX7, TX7, 5)) dX7_taken_37 rfl (by decide +kernel) ⟨by decide, by decide⟩ (by decide) rfl rfl q1034 q1035 q1036 q126 q1037 (XS.out (noH _)) <|
  r_istore dX7_taken_40 <|
  r_iload dX7_taken_42 <|
  r_iload_n (k := 3) dX7_taken_44 rfl <|
  r_icmp_lt (pt := 73) dX7_taken_45 (by decide)
  (r_iinc (v := (-1)) dX7_taken_73 rfl <|
  r_goto (pt := 23) dX7_taken_76 (by decide) <|
  (fun _ _ _ H => H))
  (r_iload dX7_taken_48 <|
  r_iload_n (k := 3) dX7_taken_50 rfl <|
  r_icmp_ne (pt := 67) dX7_taken_51 (by decide)
  (r_iload dX7_taken_67 <|
  r_istore_n (k := 2) dX7_taken_69 rfl <|
  r_iload dX7_taken_70 <|
  r_istore_n (k := 3) dX7_taken_72 rfl <|
  r_iinc (v := (-1)) dX7_taken_73 rfl <|
  r_goto (pt := 23) dX7_taken_76 (by decide) <|
  (fun _ _ _ H => H))
  (r_iload_n (k := 2) dX7_taken_54 rfl <|
  r_aload_n (k := 0) dX7_taken_55 rfl <|
  r_getR (ci := 7) (q := (RX7, TX7, 5)) (k := 0) dX7_taken_56 (by decide) rfl in_X7 (by decide) (Or.inl q448) rfl <|
  r_iload_n (k := 1) dX7_taken_59 rfl <|
  r_iald dX7_taken_60 <|
  r_icmp_ne (pt := 67) dX7_taken_61 (by decide)
  (r_iload dX7_taken_67 <|
  r_istore_n (k := 2) dX7_taken_69 rfl <|
  r_iload dX7_taken_70 <|
  r_istore_n (k := 3) dX7_taken_72 rfl <|
  r_iinc (v := (-1)) dX7_taken_73 rfl <|
  r_goto (pt := 23) dX7_taken_76 (by decide) <|
  (fun _ _ _ H => H))
  (r_goto (pt := 73) dX7_taken_64 (by decide) <|
  r_iinc (v := (-1)) dX7_taken_73 rfl <|
  r_goto (pt := 23) dX7_taken_76 (by decide) <|
  (fun _ _ _ H => H)))))
-- CheekTown$Years.many(II)I cuts [0, 5]
def tX7_many_0 (d : Nat) (Q : Outcome → MH → Prop) (J : Nat → KT) : KT :=
  i_const 0 <|
  i_istore 3 <|
  i_const 0 <|
  i_istore 4 <|
  (J 5)
theorem kX7_many_0 {d : Nat} {Q : Outcome → MH → Prop} : ∀ ls st h, tX7_many_0 d Q (fun pc ls st h => WPb mX7_many d pc ls st h Q) ls st h → WPb mX7_many d 0 ls st h Q :=
  r_iconst (v := 0) dX7_many_0 rfl <|
  r_istore_n (k := 3) dX7_many_1 rfl <|
  r_iconst (v := 0) dX7_many_2 rfl <|
  r_istore dX7_many_3 <|
  (fun _ _ _ H => H)
def tX7_many_5 (d : Nat) (Q : Outcome → MH → Prop) (J : Nat → KT) : KT :=
  i_iload 4 <|
  i_aload 0 <|
  i_getI 7 3 <|
  i_icmp_ge
  (i_iload 3 <|
  i_ret Q (some .int))
  (i_iload 3 <|
  i_iload 1 <|
  i_iload 4 <|
  i_call mX1_has d 2 pS (xOut Q) <|
  i_if_eq
  (i_const 0 <|
  i_iadd <|
  i_istore 3 <|
  i_iinc 4 1 <|
  (J 5))
  (i_aload 0 <|
  i_getR 7 0 <|
  i_iload 4 <|
  i_iald <|
  i_iload 2 <|
  i_icmp_ne
  (i_const 0 <|
  i_iadd <|
  i_istore 3 <|
  i_iinc 4 1 <|
  (J 5))
  (i_const 1 <|
  i_iadd <|
  i_istore 3 <|
  i_iinc 4 1 <|
  (J 5))))
theorem kX7_many_5 {d : Nat} {Q : Outcome → MH → Prop} : ∀ ls st h, tX7_many_5 d Q (fun pc ls st h => WPb mX7_many d pc ls st h Q) ls st h → WPb mX7_many d 5 ls st h Q :=
  r_iload dX7_many_5 <|
  r_aload_n (k := 0) dX7_many_7 rfl <|
  r_getI (ci := 7) (q := (RX7, TX7, 5)) (k := 3) dX7_many_8 (by decide) rfl in_X7 (by decide) (Or.inl q452) rfl <|
  r_icmp_ge (pt := 48) dX7_many_11 (by decide)
  (r_iload_n (k := 3) dX7_many_48 rfl <|
  r_ret rfl (Or.inl ⟨dX7_many_49, Or.inl rfl⟩))
  (r_iload_n (k := 3) dX7_many_14 rfl <|
  r_iload_n (k := 1) dX7_many_15 rfl <|
  r_iload dX7_many_16 <|
  r_cSN (Z := mX1_has) dX7_many_18 rfl (by decide +kernel) ⟨by decide, by decide⟩ q1038 q608 q117 q609 (XS.out (noH _)) <|
  r_if_eq (pt := 39) dX7_many_21 (by decide)
  (r_iconst (v := 0) dX7_many_39 rfl <|
  r_iadd dX7_many_40 <|
  r_istore_n (k := 3) dX7_many_41 rfl <|
  r_iinc (v := 1) dX7_many_42 rfl <|
  r_goto (pt := 5) dX7_many_45 (by decide) <|
  (fun _ _ _ H => H))
  (r_aload_n (k := 0) dX7_many_24 rfl <|
  r_getR (ci := 7) (q := (RX7, TX7, 5)) (k := 0) dX7_many_25 (by decide) rfl in_X7 (by decide) (Or.inl q448) rfl <|
  r_iload dX7_many_28 <|
  r_iald dX7_many_30 <|
  r_iload_n (k := 2) dX7_many_31 rfl <|
  r_icmp_ne (pt := 39) dX7_many_32 (by decide)
  (r_iconst (v := 0) dX7_many_39 rfl <|
  r_iadd dX7_many_40 <|
  r_istore_n (k := 3) dX7_many_41 rfl <|
  r_iinc (v := 1) dX7_many_42 rfl <|
  r_goto (pt := 5) dX7_many_45 (by decide) <|
  (fun _ _ _ H => H))
  (r_iconst (v := 1) dX7_many_35 rfl <|
  r_goto (pt := 40) dX7_many_36 (by decide) <|
  r_iadd dX7_many_40 <|
  r_istore_n (k := 3) dX7_many_41 rfl <|
  r_iinc (v := 1) dX7_many_42 rfl <|
  r_goto (pt := 5) dX7_many_45 (by decide) <|
  (fun _ _ _ H => H))))
-- CheekTown$Years.after(I)LCheekTown$Years; cuts [0, 2]
def tX7_after_0 (d : Nat) (Q : Outcome → MH → Prop) (J : Nat → KT) : KT :=
  i_const 0 <|
  i_istore 2 <|
  (J 2)
theorem kX7_after_0 {d : Nat} {Q : Outcome → MH → Prop} : ∀ ls st h, tX7_after_0 d Q (fun pc ls st h => WPb mX7_after d pc ls st h Q) ls st h → WPb mX7_after d 0 ls st h Q :=
  r_iconst (v := 0) dX7_after_0 rfl <|
  r_istore_n (k := 2) dX7_after_1 rfl <|
  (fun _ _ _ H => H)
def tX7_after_2 (d : Nat) (Q : Outcome → MH → Prop) (J : Nat → KT) : KT :=
  i_iload 2 <|
  i_iload 1 <|
  i_icmp_ge
  (i_aload 0 <|
  i_ret Q (some (.object "CheekTown$Years")))
  (i_aload 0 <|
  i_call mX7_goes d 1 (pV 7) (xOut Q) <|
  i_if_eq
  (i_aload 0 <|
  i_ret Q (some (.object "CheekTown$Years")))
  (i_iinc 2 1 <|
  (J 2)))
theorem kX7_after_2 {d : Nat} {Q : Outcome → MH → Prop} : ∀ ls st h, tX7_after_2 d Q (fun pc ls st h => WPb mX7_after d pc ls st h Q) ls st h → WPb mX7_after d 2 ls st h Q :=
  r_iload_n (k := 2) dX7_after_2 rfl <|
  r_iload_n (k := 1) dX7_after_3 rfl <|
  r_icmp_ge (pt := 20) dX7_after_4 (by decide)
  (r_aload_n (k := 0) dX7_after_20 rfl <|
  r_ret rfl (Or.inr (Or.inr ⟨dX7_after_21, Or.inl ⟨_, rfl⟩⟩)))
  (r_aload_n (k := 0) dX7_after_7 rfl <|
  r_cV (Z := mX7_goes) (ci := 7) (q := (RX7, TX7, 5)) dX7_after_8 rfl (by decide +kernel) ⟨by decide, by decide⟩ (by decide) rfl rfl q2051 q1027 q1028 q126 q1029 (XS.out (noH _)) <|
  r_if_eq (pt := 20) dX7_after_11 (by decide)
  (r_aload_n (k := 0) dX7_after_20 rfl <|
  r_ret rfl (Or.inr (Or.inr ⟨dX7_after_21, Or.inl ⟨_, rfl⟩⟩)))
  (r_iinc (v := 1) dX7_after_14 rfl <|
  r_goto (pt := 2) dX7_after_17 (by decide) <|
  (fun _ _ _ H => H)))
-- CheekTown$Years.unlike()I cuts [0, 4]
def tX7_unlike_0 (d : Nat) (Q : Outcome → MH → Prop) (J : Nat → KT) : KT :=
  i_const 0 <|
  i_istore 1 <|
  i_const 0 <|
  i_istore 2 <|
  (J 4)
theorem kX7_unlike_0 {d : Nat} {Q : Outcome → MH → Prop} : ∀ ls st h, tX7_unlike_0 d Q (fun pc ls st h => WPb mX7_unlike d pc ls st h Q) ls st h → WPb mX7_unlike d 0 ls st h Q :=
  r_iconst (v := 0) dX7_unlike_0 rfl <|
  r_istore_n (k := 1) dX7_unlike_1 rfl <|
  r_iconst (v := 0) dX7_unlike_2 rfl <|
  r_istore_n (k := 2) dX7_unlike_3 rfl <|
  (fun _ _ _ H => H)
def tX7_unlike_4 (d : Nat) (Q : Outcome → MH → Prop) (J : Nat → KT) : KT :=
  i_iload 2 <|
  i_const 32 <|
  i_icmp_ge
  (i_iload 1 <|
  i_ret Q (some .int))
  (i_iload 1 <|
  i_aload 0 <|
  i_aload 0 <|
  i_call mX7_all d 1 (pV 7) (xOut Q) <|
  i_iload 2 <|
  i_call mX7_many d 3 (pV 7) (xOut Q) <|
  i_if_le
  (i_const 0 <|
  i_iadd <|
  i_istore 1 <|
  i_iinc 2 1 <|
  (J 4))
  (i_const 1 <|
  i_iadd <|
  i_istore 1 <|
  i_iinc 2 1 <|
  (J 4)))
theorem kX7_unlike_4 {d : Nat} {Q : Outcome → MH → Prop} : ∀ ls st h, tX7_unlike_4 d Q (fun pc ls st h => WPb mX7_unlike d pc ls st h Q) ls st h → WPb mX7_unlike d 4 ls st h Q :=
  r_iload_n (k := 2) dX7_unlike_4 rfl <|
  r_bipush (v := 32) dX7_unlike_5 rfl <|
  r_icmp_ge (pt := 36) dX7_unlike_7 (by decide)
  (r_iload_n (k := 1) dX7_unlike_36 rfl <|
  r_ret rfl (Or.inl ⟨dX7_unlike_37, Or.inl rfl⟩))
  (r_iload_n (k := 1) dX7_unlike_10 rfl <|
  r_aload_n (k := 0) dX7_unlike_11 rfl <|
  r_aload_n (k := 0) dX7_unlike_12 rfl <|
  r_cV (Z := mX7_all) (ci := 7) (q := (RX7, TX7, 5)) dX7_unlike_13 rfl (by decide +kernel) ⟨by decide, by decide⟩ (by decide) rfl rfl q2056 q2057 q2058 q126 q2059 (XS.out (noH _)) <|
  r_iload_n (k := 2) dX7_unlike_16 rfl <|
  r_cV (Z := mX7_many) (ci := 7) (q := (RX7, TX7, 5)) dX7_unlike_17 rfl (by decide +kernel) ⟨by decide, by decide⟩ (by decide) rfl rfl q1034 q1035 q1036 q126 q1037 (XS.out (noH _)) <|
  r_if_le (pt := 27) dX7_unlike_20 (by decide)
  (r_iconst (v := 0) dX7_unlike_27 rfl <|
  r_iadd dX7_unlike_28 <|
  r_istore_n (k := 1) dX7_unlike_29 rfl <|
  r_iinc (v := 1) dX7_unlike_30 rfl <|
  r_goto (pt := 4) dX7_unlike_33 (by decide) <|
  (fun _ _ _ H => H))
  (r_iconst (v := 1) dX7_unlike_23 rfl <|
  r_goto (pt := 28) dX7_unlike_24 (by decide) <|
  r_iadd dX7_unlike_28 <|
  r_istore_n (k := 1) dX7_unlike_29 rfl <|
  r_iinc (v := 1) dX7_unlike_30 rfl <|
  r_goto (pt := 4) dX7_unlike_33 (by decide) <|
  (fun _ _ _ H => H)))
-- CheekTown$Years.all()I cuts [0]
def tX7_all_0 (d : Nat) (Q : Outcome → MH → Prop) (J : Nat → KT) : KT :=
  i_const 1 <|
  i_aload 0 <|
  i_getI 7 3 <|
  i_ishl <|
  i_const 1 <|
  i_isub <|
  i_ret Q (some .int)
theorem kX7_all_0 {d : Nat} {Q : Outcome → MH → Prop} : ∀ ls st h, tX7_all_0 d Q (fun pc ls st h => WPb mX7_all d pc ls st h Q) ls st h → WPb mX7_all d 0 ls st h Q :=
  r_iconst (v := 1) dX7_all_0 rfl <|
  r_aload_n (k := 0) dX7_all_1 rfl <|
  r_getI (ci := 7) (q := (RX7, TX7, 5)) (k := 3) dX7_all_2 (by decide) rfl in_X7 (by decide) (Or.inl q452) rfl <|
  r_ishl dX7_all_5 <|
  r_iconst (v := 1) dX7_all_6 rfl <|
  r_isub dX7_all_7 <|
  r_ret rfl (Or.inl ⟨dX7_all_8, Or.inl rfl⟩)
-- CheekTown$Years.most()I cuts [0, 4]
def tX7_most_0 (d : Nat) (Q : Outcome → MH → Prop) (J : Nat → KT) : KT :=
  i_const 0 <|
  i_istore 1 <|
  i_const 1 <|
  i_istore 2 <|
  (J 4)
theorem kX7_most_0 {d : Nat} {Q : Outcome → MH → Prop} : ∀ ls st h, tX7_most_0 d Q (fun pc ls st h => WPb mX7_most d pc ls st h Q) ls st h → WPb mX7_most d 0 ls st h Q :=
  r_iconst (v := 0) dX7_most_0 rfl <|
  r_istore_n (k := 1) dX7_most_1 rfl <|
  r_iconst (v := 1) dX7_most_2 rfl <|
  r_istore_n (k := 2) dX7_most_3 rfl <|
  (fun _ _ _ H => H)
def tX7_most_4 (d : Nat) (Q : Outcome → MH → Prop) (J : Nat → KT) : KT :=
  i_iload 2 <|
  i_const 32 <|
  i_icmp_ge
  (i_aload 0 <|
  i_getI 7 3 <|
  i_if_ne
  (i_iload 1 <|
  i_ret Q (some .int))
  (i_const (-1) <|
  i_ret Q (some .int)))
  (i_aload 0 <|
  i_aload 0 <|
  i_call mX7_all d 1 (pV 7) (xOut Q) <|
  i_iload 2 <|
  i_call mX7_many d 3 (pV 7) (xOut Q) <|
  i_aload 0 <|
  i_aload 0 <|
  i_call mX7_all d 1 (pV 7) (xOut Q) <|
  i_iload 1 <|
  i_call mX7_many d 3 (pV 7) (xOut Q) <|
  i_icmp_le
  (i_iinc 2 1 <|
  (J 4))
  (i_iload 2 <|
  i_istore 1 <|
  i_iinc 2 1 <|
  (J 4)))
theorem kX7_most_4 {d : Nat} {Q : Outcome → MH → Prop} : ∀ ls st h, tX7_most_4 d Q (fun pc ls st h => WPb mX7_most d pc ls st h Q) ls st h → WPb mX7_most d 4 ls st h Q :=
  r_iload_n (k := 2) dX7_most_4 rfl <|
  r_bipush (v := 32) dX7_most_5 rfl <|
  r_icmp_ge (pt := 39) dX7_most_7 (by decide)
  (r_aload_n (k := 0) dX7_most_39 rfl <|
  r_getI (ci := 7) (q := (RX7, TX7, 5)) (k := 3) dX7_most_40 (by decide) rfl in_X7 (by decide) (Or.inl q452) rfl <|
  r_if_ne (pt := 50) dX7_most_43 (by decide)
  (r_iload_n (k := 1) dX7_most_50 rfl <|
  r_ret rfl (Or.inl ⟨dX7_most_51, Or.inl rfl⟩))
  (r_iconst (v := (-1)) dX7_most_46 rfl <|
  r_goto (pt := 51) dX7_most_47 (by decide) <|
  r_ret rfl (Or.inl ⟨dX7_most_51, Or.inl rfl⟩)))
  (r_aload_n (k := 0) dX7_most_10 rfl <|
  r_aload_n (k := 0) dX7_most_11 rfl <|
  r_cV (Z := mX7_all) (ci := 7) (q := (RX7, TX7, 5)) dX7_most_12 rfl (by decide +kernel) ⟨by decide, by decide⟩ (by decide) rfl rfl q2056 q2057 q2058 q126 q2059 (XS.out (noH _)) <|
  r_iload_n (k := 2) dX7_most_15 rfl <|
  r_cV (Z := mX7_many) (ci := 7) (q := (RX7, TX7, 5)) dX7_most_16 rfl (by decide +kernel) ⟨by decide, by decide⟩ (by decide) rfl rfl q1034 q1035 q1036 q126 q1037 (XS.out (noH _)) <|
  r_aload_n (k := 0) dX7_most_19 rfl <|
  r_aload_n (k := 0) dX7_most_20 rfl <|
  r_cV (Z := mX7_all) (ci := 7) (q := (RX7, TX7, 5)) dX7_most_21 rfl (by decide +kernel) ⟨by decide, by decide⟩ (by decide) rfl rfl q2056 q2057 q2058 q126 q2059 (XS.out (noH _)) <|
  r_iload_n (k := 1) dX7_most_24 rfl <|
  r_cV (Z := mX7_many) (ci := 7) (q := (RX7, TX7, 5)) dX7_most_25 rfl (by decide +kernel) ⟨by decide, by decide⟩ (by decide) rfl rfl q1034 q1035 q1036 q126 q1037 (XS.out (noH _)) <|
  r_icmp_le (pt := 33) dX7_most_28 (by decide)
  (r_iinc (v := 1) dX7_most_33 rfl <|
  r_goto (pt := 4) dX7_most_36 (by decide) <|
  (fun _ _ _ H => H))
  (r_iload_n (k := 2) dX7_most_31 rfl <|
  r_istore_n (k := 1) dX7_most_32 rfl <|
  r_iinc (v := 1) dX7_most_33 rfl <|
  r_goto (pt := 4) dX7_most_36 (by decide) <|
  (fun _ _ _ H => H)))
-- CheekTown$Years.feast(II)LCheekTown$Years; cuts [0, 25]
def tX7_feast_0 (d : Nat) (Q : Outcome → MH → Prop) (J : Nat → KT) : KT :=
  i_aload 0 <|
  i_getR 7 4 <|
  i_getR 1 0 <|
  i_getR 2 19 <|
  i_const 0 <|
  i_aload 0 <|
  i_getR 7 0 <|
  i_const 0 <|
  i_aload 0 <|
  i_getI 7 3 <|
  i_cpy 0 d <|
  i_const 0 <|
  i_istore 3 <|
  (J 25)
theorem kX7_feast_0 {d : Nat} {Q : Outcome → MH → Prop} : ∀ ls st h, tX7_feast_0 d Q (fun pc ls st h => WPb mX7_feast d pc ls st h Q) ls st h → WPb mX7_feast d 0 ls st h Q :=
  r_aload_n (k := 0) dX7_feast_0 rfl <|
  r_getR (ci := 7) (q := (RX7, TX7, 5)) (k := 4) dX7_feast_1 (by decide) rfl in_X7 (by decide) (Or.inl q453) rfl <|
  r_getR (ci := 1) (q := (RX1, TX1, 13)) (k := 0) dX7_feast_4 (by decide) rfl in_X1 (by decide) (Or.inr (Or.inl ⟨_, q466⟩)) rfl <|
  r_getR (ci := 2) (q := (RX2, TX2, 31)) (k := 19) dX7_feast_7 (by decide) rfl in_X2 (by decide) (Or.inr (Or.inl ⟨_, q220⟩)) rfl <|
  r_iconst (v := 0) dX7_feast_10 rfl <|
  r_aload_n (k := 0) dX7_feast_11 rfl <|
  r_getR (ci := 7) (q := (RX7, TX7, 5)) (k := 0) dX7_feast_12 (by decide) rfl in_X7 (by decide) (Or.inl q448) rfl <|
  r_iconst (v := 0) dX7_feast_15 rfl <|
  r_aload_n (k := 0) dX7_feast_16 rfl <|
  r_getI (ci := 7) (q := (RX7, TX7, 5)) (k := 3) dX7_feast_17 (by decide) rfl in_X7 (by decide) (Or.inl q452) rfl <|
  r_cpy (t := 0) (by decide) rfl q1017 q734 q733 q128 dX7_feast_20 <|
  r_iconst (v := 0) dX7_feast_23 rfl <|
  r_istore_n (k := 3) dX7_feast_24 rfl <|
  (fun _ _ _ H => H)
def tX7_feast_25 (d : Nat) (Q : Outcome → MH → Prop) (J : Nat → KT) : KT :=
  i_iload 3 <|
  i_aload 0 <|
  i_getI 7 3 <|
  i_icmp_ge
  (i_aload 0 <|
  i_ret Q (some (.object "CheekTown$Years")))
  (i_iload 1 <|
  i_iload 3 <|
  i_call mX1_has d 2 pS (xOut Q) <|
  i_if_eq
  (i_iinc 3 1 <|
  (J 25))
  (i_aload 0 <|
  i_getR 7 0 <|
  i_iload 3 <|
  i_iload 2 <|
  i_iast <|
  i_iinc 3 1 <|
  (J 25)))
theorem kX7_feast_25 {d : Nat} {Q : Outcome → MH → Prop} : ∀ ls st h, tX7_feast_25 d Q (fun pc ls st h => WPb mX7_feast d pc ls st h Q) ls st h → WPb mX7_feast d 25 ls st h Q :=
  r_iload_n (k := 3) dX7_feast_25 rfl <|
  r_aload_n (k := 0) dX7_feast_26 rfl <|
  r_getI (ci := 7) (q := (RX7, TX7, 5)) (k := 3) dX7_feast_27 (by decide) rfl in_X7 (by decide) (Or.inl q452) rfl <|
  r_icmp_ge (pt := 54) dX7_feast_30 (by decide)
  (r_aload_n (k := 0) dX7_feast_54 rfl <|
  r_ret rfl (Or.inr (Or.inr ⟨dX7_feast_55, Or.inl ⟨_, rfl⟩⟩)))
  (r_iload_n (k := 1) dX7_feast_33 rfl <|
  r_iload_n (k := 3) dX7_feast_34 rfl <|
  r_cSN (Z := mX1_has) dX7_feast_35 rfl (by decide +kernel) ⟨by decide, by decide⟩ q1038 q608 q117 q609 (XS.out (noH _)) <|
  r_if_eq (pt := 48) dX7_feast_38 (by decide)
  (r_iinc (v := 1) dX7_feast_48 rfl <|
  r_goto (pt := 25) dX7_feast_51 (by decide) <|
  (fun _ _ _ H => H))
  (r_aload_n (k := 0) dX7_feast_41 rfl <|
  r_getR (ci := 7) (q := (RX7, TX7, 5)) (k := 0) dX7_feast_42 (by decide) rfl in_X7 (by decide) (Or.inl q448) rfl <|
  r_iload_n (k := 3) dX7_feast_45 rfl <|
  r_iload_n (k := 2) dX7_feast_46 rfl <|
  r_iast dX7_feast_47 <|
  r_iinc (v := 1) dX7_feast_48 rfl <|
  r_goto (pt := 25) dX7_feast_51 (by decide) <|
  (fun _ _ _ H => H)))
-- CheekTown$Years.have(I)Z cuts [0]
def tX7_have_0 (d : Nat) (Q : Outcome → MH → Prop) (J : Nat → KT) : KT :=
  i_aload 0 <|
  i_aload 0 <|
  i_call mX7_all d 1 (pV 7) (xOut Q) <|
  i_iload 1 <|
  i_call mX7_many d 3 (pV 7) (xOut Q) <|
  i_aload 0 <|
  i_getI 7 3 <|
  i_icmp_ne
  (i_const 0 <|
  i_ret Q (some .boolean))
  (i_const 1 <|
  i_ret Q (some .boolean))
theorem kX7_have_0 {d : Nat} {Q : Outcome → MH → Prop} : ∀ ls st h, tX7_have_0 d Q (fun pc ls st h => WPb mX7_have d pc ls st h Q) ls st h → WPb mX7_have d 0 ls st h Q :=
  r_aload_n (k := 0) dX7_have_0 rfl <|
  r_aload_n (k := 0) dX7_have_1 rfl <|
  r_cV (Z := mX7_all) (ci := 7) (q := (RX7, TX7, 5)) dX7_have_2 rfl (by decide +kernel) ⟨by decide, by decide⟩ (by decide) rfl rfl q2056 q2057 q2058 q126 q2059 (XS.out (noH _)) <|
  r_iload_n (k := 1) dX7_have_5 rfl <|
  r_cV (Z := mX7_many) (ci := 7) (q := (RX7, TX7, 5)) dX7_have_6 rfl (by decide +kernel) ⟨by decide, by decide⟩ (by decide) rfl rfl q1034 q1035 q1036 q126 q1037 (XS.out (noH _)) <|
  r_aload_n (k := 0) dX7_have_9 rfl <|
  r_getI (ci := 7) (q := (RX7, TX7, 5)) (k := 3) dX7_have_10 (by decide) rfl in_X7 (by decide) (Or.inl q452) rfl <|
  r_icmp_ne (pt := 20) dX7_have_13 (by decide)
  (r_iconst (v := 0) dX7_have_20 rfl <|
  r_ret rfl (Or.inl ⟨dX7_have_21, Or.inr (Or.inl rfl)⟩))
  (r_iconst (v := 1) dX7_have_16 rfl <|
  r_goto (pt := 21) dX7_have_17 (by decide) <|
  r_ret rfl (Or.inl ⟨dX7_have_21, Or.inr (Or.inl rfl)⟩))
-- CheekTown$Wrong.<init>()V cuts [0]
def tX9_init_0 (d : Nat) (Q : Outcome → MH → Prop) (J : Nat → KT) : KT :=
  i_aload 0 <|
  i_null <|
  i_null <|
  i_const 0 <|
  i_const 0 <|
  i_call mJ13_init_2 d 5 pI (xOut Q) <|
  i_vret Q
theorem kX9_init_0 {d : Nat} {Q : Outcome → MH → Prop} : ∀ ls st h, tX9_init_0 d Q (fun pc ls st h => WPb mX9_init d pc ls st h Q) ls st h → WPb mX9_init d 0 ls st h Q :=
  r_aload_n (k := 0) dX9_init_0 rfl <|
  r_null dX9_init_1 <|
  r_null dX9_init_2 <|
  r_iconst (v := 0) dX9_init_3 rfl <|
  r_iconst (v := 0) dX9_init_4 rfl <|
  r_cI (Z := mJ13_init_2) dX9_init_5 rfl rfl rfl (by decide +kernel) ⟨by decide, by decide⟩ q1188 q1189 q139 q1190 (XS.out (noH _)) <|
  r_vret rfl dX9_init_8
