set_option maxRecDepth 100000
-- CheekTownModel.<init>()V cuts [0]
def tX8_init_0 (d : Nat) (Q : Outcome → MH → Prop) (J : Nat → KT) : KT :=
  i_aload 0 <|
  i_obj d <|
  i_aload 0 <|
  i_const 1300 <|
  i_newa 0 <|
  i_putR 8 1 <|
  i_aload 0 <|
  i_const 1300 <|
  i_newa 0 <|
  i_putR 8 2 <|
  i_aload 0 <|
  i_const 900 <|
  i_newa 0 <|
  i_putR 8 4 <|
  i_aload 0 <|
  i_const 10800 <|
  i_newa 0 <|
  i_putR 8 5 <|
  i_aload 0 <|
  i_const 400 <|
  i_newa 0 <|
  i_putR 8 7 <|
  i_aload 0 <|
  i_const (-1) <|
  i_putI 8 12 .int <|
  i_aload 0 <|
  i_const 6 <|
  i_newa 0 <|
  i_putR 8 14 <|
  i_aload 0 <|
  i_const 10 <|
  i_newa 0 <|
  i_putR 8 18 <|
  i_aload 0 <|
  i_const 10 <|
  i_newa 0 <|
  i_putR 8 19 <|
  i_aload 0 <|
  i_const 10 <|
  i_newa 0 <|
  i_putR 8 20 <|
  i_aload 0 <|
  i_const 32 <|
  i_newa 0 <|
  i_putR 8 21 <|
  i_aload 0 <|
  i_const 8 <|
  i_newa 0 <|
  i_putR 8 22 <|
  i_aload 0 <|
  i_const 8 <|
  i_newa 0 <|
  i_putR 8 23 <|
  i_aload 0 <|
  i_const 1024 <|
  i_newa 0 <|
  i_putR 8 24 <|
  i_aload 0 <|
  i_const 100 <|
  i_newa 0 <|
  i_putR 8 25 <|
  i_aload 0 <|
  i_getR 8 1 <|
  i_const 1 <|
  i_const (-1) <|
  i_iast <|
  i_aload 0 <|
  i_getR 8 1 <|
  i_const 16 <|
  i_const 1 <|
  i_iast <|
  i_aload 0 <|
  i_getR 8 1 <|
  i_const 13 <|
  i_const 10 <|
  i_iast <|
  i_aload 0 <|
  i_getR 8 1 <|
  i_const 14 <|
  i_const 2 <|
  i_iast <|
  i_aload 0 <|
  i_getR 8 1 <|
  i_const 15 <|
  i_const 5 <|
  i_iast <|
  i_vret Q
theorem kX8_init_0 {d : Nat} {Q : Outcome → MH → Prop} : ∀ ls st h, tX8_init_0 d Q (fun pc ls st h => WPb mX8_init d pc ls st h Q) ls st h → WPb mX8_init d 0 ls st h Q :=
  r_aload_n (k := 0) dX8_init_0 rfl <|
  r_obj dX8_init_1 q2140 q170 q171 <|
  r_aload_n (k := 0) dX8_init_4 rfl <|
  r_sipush (v := 1300) dX8_init_5 rfl <|
  r_newa (t := 0) (at9 := .int) (ty := .int) (by decide) rfl rfl q310 (by decide) dX8_init_8 <|
  r_putR (ci := 8) (q := (RX8, TX8, 27)) (k := 1) tyX8 tyX8_ok nmX8 dX8_init_10 (by decide) rfl in_X8 (by decide) (Or.inr ⟨rfl, rfl, rfl, q2142⟩) rfl rfl <|
  r_aload_n (k := 0) dX8_init_13 rfl <|
  r_sipush (v := 1300) dX8_init_14 rfl <|
  r_newa (t := 0) (at9 := .int) (ty := .int) (by decide) rfl rfl q310 (by decide) dX8_init_17 <|
  r_putR (ci := 8) (q := (RX8, TX8, 27)) (k := 2) tyX8 tyX8_ok nmX8 dX8_init_19 (by decide) rfl in_X8 (by decide) (Or.inr ⟨rfl, rfl, rfl, q2143⟩) rfl rfl <|
  r_aload_n (k := 0) dX8_init_22 rfl <|
  r_sipush (v := 900) dX8_init_23 rfl <|
  r_newa (t := 0) (at9 := .int) (ty := .int) (by decide) rfl rfl q310 (by decide) dX8_init_26 <|
  r_putR (ci := 8) (q := (RX8, TX8, 27)) (k := 4) tyX8 tyX8_ok nmX8 dX8_init_28 (by decide) rfl in_X8 (by decide) (Or.inr ⟨rfl, rfl, rfl, q2145⟩) rfl rfl <|
  r_aload_n (k := 0) dX8_init_31 rfl <|
  r_sipush (v := 10800) dX8_init_32 rfl <|
  r_newa (t := 0) (at9 := .int) (ty := .int) (by decide) rfl rfl q310 (by decide) dX8_init_35 <|
  r_putR (ci := 8) (q := (RX8, TX8, 27)) (k := 5) tyX8 tyX8_ok nmX8 dX8_init_37 (by decide) rfl in_X8 (by decide) (Or.inr ⟨rfl, rfl, rfl, q2146⟩) rfl rfl <|
  r_aload_n (k := 0) dX8_init_40 rfl <|
  r_sipush (v := 400) dX8_init_41 rfl <|
  r_newa (t := 0) (at9 := .int) (ty := .int) (by decide) rfl rfl q310 (by decide) dX8_init_44 <|
  r_putR (ci := 8) (q := (RX8, TX8, 27)) (k := 7) tyX8 tyX8_ok nmX8 dX8_init_46 (by decide) rfl in_X8 (by decide) (Or.inr ⟨rfl, rfl, rfl, q2148⟩) rfl rfl <|
  r_aload_n (k := 0) dX8_init_49 rfl <|
  r_iconst (v := (-1)) dX8_init_50 rfl <|
  r_putI (ci := 8) (q := (RX8, TX8, 27)) (k := 12) tyX8 tyX8_ok nmX8 dX8_init_51 (by decide) rfl in_X8 (by decide) (Or.inl ⟨rfl, (Or.inl q2153)⟩) rfl rfl <|
  r_aload_n (k := 0) dX8_init_54 rfl <|
  r_bipush (v := 6) dX8_init_55 rfl <|
  r_newa (t := 0) (at9 := .int) (ty := .int) (by decide) rfl rfl q310 (by decide) dX8_init_57 <|
  r_putR (ci := 8) (q := (RX8, TX8, 27)) (k := 14) tyX8 tyX8_ok nmX8 dX8_init_59 (by decide) rfl in_X8 (by decide) (Or.inr ⟨rfl, rfl, rfl, q2155⟩) rfl rfl <|
  r_aload_n (k := 0) dX8_init_62 rfl <|
  r_bipush (v := 10) dX8_init_63 rfl <|
  r_newa (t := 0) (at9 := .int) (ty := .int) (by decide) rfl rfl q310 (by decide) dX8_init_65 <|
  r_putR (ci := 8) (q := (RX8, TX8, 27)) (k := 18) tyX8 tyX8_ok nmX8 dX8_init_67 (by decide) rfl in_X8 (by decide) (Or.inr ⟨rfl, rfl, rfl, q2159⟩) rfl rfl <|
  r_aload_n (k := 0) dX8_init_70 rfl <|
  r_bipush (v := 10) dX8_init_71 rfl <|
  r_newa (t := 0) (at9 := .int) (ty := .int) (by decide) rfl rfl q310 (by decide) dX8_init_73 <|
  r_putR (ci := 8) (q := (RX8, TX8, 27)) (k := 19) tyX8 tyX8_ok nmX8 dX8_init_75 (by decide) rfl in_X8 (by decide) (Or.inr ⟨rfl, rfl, rfl, q2160⟩) rfl rfl <|
  r_aload_n (k := 0) dX8_init_78 rfl <|
  r_bipush (v := 10) dX8_init_79 rfl <|
  r_newa (t := 0) (at9 := .int) (ty := .int) (by decide) rfl rfl q310 (by decide) dX8_init_81 <|
  r_putR (ci := 8) (q := (RX8, TX8, 27)) (k := 20) tyX8 tyX8_ok nmX8 dX8_init_83 (by decide) rfl in_X8 (by decide) (Or.inr ⟨rfl, rfl, rfl, q2161⟩) rfl rfl <|
  r_aload_n (k := 0) dX8_init_86 rfl <|
  r_bipush (v := 32) dX8_init_87 rfl <|
  r_newa (t := 0) (at9 := .int) (ty := .int) (by decide) rfl rfl q310 (by decide) dX8_init_89 <|
  r_putR (ci := 8) (q := (RX8, TX8, 27)) (k := 21) tyX8 tyX8_ok nmX8 dX8_init_91 (by decide) rfl in_X8 (by decide) (Or.inr ⟨rfl, rfl, rfl, q2162⟩) rfl rfl <|
  r_aload_n (k := 0) dX8_init_94 rfl <|
  r_bipush (v := 8) dX8_init_95 rfl <|
  r_newa (t := 0) (at9 := .int) (ty := .int) (by decide) rfl rfl q310 (by decide) dX8_init_97 <|
  r_putR (ci := 8) (q := (RX8, TX8, 27)) (k := 22) tyX8 tyX8_ok nmX8 dX8_init_99 (by decide) rfl in_X8 (by decide) (Or.inr ⟨rfl, rfl, rfl, q2163⟩) rfl rfl <|
  r_aload_n (k := 0) dX8_init_102 rfl <|
  r_bipush (v := 8) dX8_init_103 rfl <|
  r_newa (t := 0) (at9 := .int) (ty := .int) (by decide) rfl rfl q310 (by decide) dX8_init_105 <|
  r_putR (ci := 8) (q := (RX8, TX8, 27)) (k := 23) tyX8 tyX8_ok nmX8 dX8_init_107 (by decide) rfl in_X8 (by decide) (Or.inr ⟨rfl, rfl, rfl, q2164⟩) rfl rfl <|
  r_aload_n (k := 0) dX8_init_110 rfl <|
  r_sipush (v := 1024) dX8_init_111 rfl <|
  r_newa (t := 0) (at9 := .int) (ty := .int) (by decide) rfl rfl q310 (by decide) dX8_init_114 <|
  r_putR (ci := 8) (q := (RX8, TX8, 27)) (k := 24) tyX8 tyX8_ok nmX8 dX8_init_116 (by decide) rfl in_X8 (by decide) (Or.inr ⟨rfl, rfl, rfl, q2165⟩) rfl rfl <|
  r_aload_n (k := 0) dX8_init_119 rfl <|
  r_bipush (v := 100) dX8_init_120 rfl <|
  r_newa (t := 0) (at9 := .int) (ty := .int) (by decide) rfl rfl q310 (by decide) dX8_init_122 <|
  r_putR (ci := 8) (q := (RX8, TX8, 27)) (k := 25) tyX8 tyX8_ok nmX8 dX8_init_124 (by decide) rfl in_X8 (by decide) (Or.inr ⟨rfl, rfl, rfl, q2166⟩) rfl rfl <|
  r_aload_n (k := 0) dX8_init_127 rfl <|
  r_getR (ci := 8) (q := (RX8, TX8, 27)) (k := 1) dX8_init_128 (by decide) rfl in_X8 (by decide) (Or.inl q2142) rfl <|
  r_iconst (v := 1) dX8_init_131 rfl <|
  r_iconst (v := (-1)) dX8_init_132 rfl <|
  r_iast dX8_init_133 <|
  r_aload_n (k := 0) dX8_init_134 rfl <|
  r_getR (ci := 8) (q := (RX8, TX8, 27)) (k := 1) dX8_init_135 (by decide) rfl in_X8 (by decide) (Or.inl q2142) rfl <|
  r_bipush (v := 16) dX8_init_138 rfl <|
  r_iconst (v := 1) dX8_init_140 rfl <|
  r_iast dX8_init_141 <|
  r_aload_n (k := 0) dX8_init_142 rfl <|
  r_getR (ci := 8) (q := (RX8, TX8, 27)) (k := 1) dX8_init_143 (by decide) rfl in_X8 (by decide) (Or.inl q2142) rfl <|
  r_bipush (v := 13) dX8_init_146 rfl <|
  r_bipush (v := 10) dX8_init_148 rfl <|
  r_iast dX8_init_150 <|
  r_aload_n (k := 0) dX8_init_151 rfl <|
  r_getR (ci := 8) (q := (RX8, TX8, 27)) (k := 1) dX8_init_152 (by decide) rfl in_X8 (by decide) (Or.inl q2142) rfl <|
  r_bipush (v := 14) dX8_init_155 rfl <|
  r_iconst (v := 2) dX8_init_157 rfl <|
  r_iast dX8_init_158 <|
  r_aload_n (k := 0) dX8_init_159 rfl <|
  r_getR (ci := 8) (q := (RX8, TX8, 27)) (k := 1) dX8_init_160 (by decide) rfl in_X8 (by decide) (Or.inl q2142) rfl <|
  r_bipush (v := 15) dX8_init_163 rfl <|
  r_iconst (v := 5) dX8_init_165 rfl <|
  r_iast dX8_init_166 <|
  r_vret rfl dX8_init_167
-- CheekTownModel.thrown()I cuts [0]
def tX8_thrown_0 (d : Nat) (Q : Outcome → MH → Prop) (J : Nat → KT) : KT :=
  i_aload 0 <|
  i_getI 8 0 <|
  i_ret Q (some .int)
theorem kX8_thrown_0 {d : Nat} {Q : Outcome → MH → Prop} : ∀ ls st h, tX8_thrown_0 d Q (fun pc ls st h => WPb mX8_thrown d pc ls st h Q) ls st h → WPb mX8_thrown d 0 ls st h Q :=
  r_aload_n (k := 0) dX8_thrown_0 rfl <|
  r_getI (ci := 8) (q := (RX8, TX8, 27)) (k := 0) dX8_thrown_1 (by decide) rfl in_X8 (by decide) (Or.inl q2141) rfl <|
  r_ret rfl (Or.inl ⟨dX8_thrown_4, Or.inl rfl⟩)
-- CheekTownModel.feed(IIIII)I cuts [0, 23, 76]
def tX8_feed_0 (d : Nat) (Q : Outcome → MH → Prop) (J : Nat → KT) : KT :=
  i_aload 0 <|
  i_const 0 <|
  i_putI 8 0 .int <|
  i_aload 0 <|
  i_getI 8 8 <|
  i_const 20 <|
  i_iadd <|
  i_const 400 <|
  i_icmp_le
  (i_const 0 <|
  i_istore 6 <|
  (J 23))
  (i_const (-1) <|
  i_ret Q (some .int))
theorem kX8_feed_0 {d : Nat} {Q : Outcome → MH → Prop} : ∀ ls st h, tX8_feed_0 d Q (fun pc ls st h => WPb mX8_feed d pc ls st h Q) ls st h → WPb mX8_feed d 0 ls st h Q :=
  r_aload_n (k := 0) dX8_feed_0 rfl <|
  r_iconst (v := 0) dX8_feed_1 rfl <|
  r_putI (ci := 8) (q := (RX8, TX8, 27)) (k := 0) tyX8 tyX8_ok nmX8 dX8_feed_2 (by decide) rfl in_X8 (by decide) (Or.inl ⟨rfl, (Or.inl q2141)⟩) rfl rfl <|
  r_aload_n (k := 0) dX8_feed_5 rfl <|
  r_getI (ci := 8) (q := (RX8, TX8, 27)) (k := 8) dX8_feed_6 (by decide) rfl in_X8 (by decide) (Or.inl q2149) rfl <|
  r_bipush (v := 20) dX8_feed_9 rfl <|
  r_iadd dX8_feed_11 <|
  r_sipush (v := 400) dX8_feed_12 rfl <|
  r_icmp_le (pt := 20) dX8_feed_15 (by decide)
  (r_iconst (v := 0) dX8_feed_20 rfl <|
  r_istore dX8_feed_21 <|
  (fun _ _ _ H => H))
  (r_iconst (v := (-1)) dX8_feed_18 rfl <|
  r_ret rfl (Or.inl ⟨dX8_feed_19, Or.inl rfl⟩))
def tX8_feed_23 (d : Nat) (Q : Outcome → MH → Prop) (J : Nat → KT) : KT :=
  i_iload 6 <|
  i_const 20 <|
  i_icmp_ge
  (i_aload 0 <|
  i_getI 8 8 <|
  i_ret Q (some .int))
  (i_iload 6 <|
  i_const 4 <|
  i_icmp_ge
  (i_iload 6 <|
  i_const 8 <|
  i_icmp_ge
  (i_iload 6 <|
  i_const 12 <|
  i_icmp_ge
  (i_iload 6 <|
  i_const 16 <|
  i_icmp_ge
  (i_iload 5 <|
  (J 76))
  (i_iload 4 <|
  (J 76)))
  (i_iload 3 <|
  (J 76)))
  (i_iload 2 <|
  (J 76)))
  (i_iload 1 <|
  (J 76)))
theorem kX8_feed_23 {d : Nat} {Q : Outcome → MH → Prop} : ∀ ls st h, tX8_feed_23 d Q (fun pc ls st h => WPb mX8_feed d pc ls st h Q) ls st h → WPb mX8_feed d 23 ls st h Q :=
  r_iload dX8_feed_23 <|
  r_bipush (v := 20) dX8_feed_25 rfl <|
  r_icmp_ge (pt := 120) dX8_feed_27 (by decide)
  (r_aload_n (k := 0) dX8_feed_120 rfl <|
  r_getI (ci := 8) (q := (RX8, TX8, 27)) (k := 8) dX8_feed_121 (by decide) rfl in_X8 (by decide) (Or.inl q2149) rfl <|
  r_ret rfl (Or.inl ⟨dX8_feed_124, Or.inl rfl⟩))
  (r_iload dX8_feed_30 <|
  r_iconst (v := 4) dX8_feed_32 rfl <|
  r_icmp_ge (pt := 40) dX8_feed_33 (by decide)
  (r_iload dX8_feed_40 <|
  r_bipush (v := 8) dX8_feed_42 rfl <|
  r_icmp_ge (pt := 51) dX8_feed_44 (by decide)
  (r_iload dX8_feed_51 <|
  r_bipush (v := 12) dX8_feed_53 rfl <|
  r_icmp_ge (pt := 62) dX8_feed_55 (by decide)
  (r_iload dX8_feed_62 <|
  r_bipush (v := 16) dX8_feed_64 rfl <|
  r_icmp_ge (pt := 74) dX8_feed_66 (by decide)
  (r_iload dX8_feed_74 <|
  (fun _ _ _ H => H))
  (r_iload dX8_feed_69 <|
  r_goto (pt := 76) dX8_feed_71 (by decide) <|
  (fun _ _ _ H => H)))
  (r_iload_n (k := 3) dX8_feed_58 rfl <|
  r_goto (pt := 76) dX8_feed_59 (by decide) <|
  (fun _ _ _ H => H)))
  (r_iload_n (k := 2) dX8_feed_47 rfl <|
  r_goto (pt := 76) dX8_feed_48 (by decide) <|
  (fun _ _ _ H => H)))
  (r_iload_n (k := 1) dX8_feed_36 rfl <|
  r_goto (pt := 76) dX8_feed_37 (by decide) <|
  (fun _ _ _ H => H)))
def tX8_feed_76 (d : Nat) (Q : Outcome → MH → Prop) (J : Nat → KT) : KT :=
  i_istore 7 <|
  i_aload 0 <|
  i_getR 8 7 <|
  i_aload 0 <|
  i_getI 8 8 <|
  i_iload 7 <|
  i_const 24 <|
  i_const 8 <|
  i_iload 6 <|
  i_const 4 <|
  i_irem <|
  i_imul <|
  i_isub <|
  i_iushr <|
  i_const 255 <|
  i_iand <|
  i_iast <|
  i_aload 0 <|
  i_dup <|
  i_getI 8 8 <|
  i_const 1 <|
  i_iadd <|
  i_putI 8 8 .int <|
  i_iinc 6 1 <|
  (J 23)
theorem kX8_feed_76 {d : Nat} {Q : Outcome → MH → Prop} : ∀ ls st h, tX8_feed_76 d Q (fun pc ls st h => WPb mX8_feed d pc ls st h Q) ls st h → WPb mX8_feed d 76 ls st h Q :=
  r_istore dX8_feed_76 <|
  r_aload_n (k := 0) dX8_feed_78 rfl <|
  r_getR (ci := 8) (q := (RX8, TX8, 27)) (k := 7) dX8_feed_79 (by decide) rfl in_X8 (by decide) (Or.inl q2148) rfl <|
  r_aload_n (k := 0) dX8_feed_82 rfl <|
  r_getI (ci := 8) (q := (RX8, TX8, 27)) (k := 8) dX8_feed_83 (by decide) rfl in_X8 (by decide) (Or.inl q2149) rfl <|
  r_iload dX8_feed_86 <|
  r_bipush (v := 24) dX8_feed_88 rfl <|
  r_bipush (v := 8) dX8_feed_90 rfl <|
  r_iload dX8_feed_92 <|
  r_iconst (v := 4) dX8_feed_94 rfl <|
  r_irem dX8_feed_95 <|
  r_imul dX8_feed_96 <|
  r_isub dX8_feed_97 <|
  r_iushr dX8_feed_98 <|
  r_sipush (v := 255) dX8_feed_99 rfl <|
  r_iand dX8_feed_102 <|
  r_iast dX8_feed_103 <|
  r_aload_n (k := 0) dX8_feed_104 rfl <|
  r_dup dX8_feed_105 <|
  r_getI (ci := 8) (q := (RX8, TX8, 27)) (k := 8) dX8_feed_106 (by decide) rfl in_X8 (by decide) (Or.inl q2149) rfl <|
  r_iconst (v := 1) dX8_feed_109 rfl <|
  r_iadd dX8_feed_110 <|
  r_putI (ci := 8) (q := (RX8, TX8, 27)) (k := 8) tyX8 tyX8_ok nmX8 dX8_feed_111 (by decide) rfl in_X8 (by decide) (Or.inl ⟨rfl, (Or.inl q2149)⟩) rfl rfl <|
  r_iinc (v := 1) dX8_feed_114 rfl <|
  r_goto (pt := 23) dX8_feed_117 (by decide) <|
  (fun _ _ _ H => H)
-- CheekTownModel.end(I)Z cuts [0]
def tX8_end_0 (d : Nat) (Q : Outcome → MH → Prop) (J : Nat → KT) : KT :=
  i_aload 0 <|
  i_const 0 <|
  i_putI 8 0 .int <|
  i_iload 1 <|
  i_const 0 <|
  i_aload 0 <|
  i_getI 8 8 <|
  i_call mX8_isIn d 3 pS (xOut Q) <|
  i_if_ne
  (i_aload 0 <|
  i_iload 1 <|
  i_putI 8 8 .int <|
  i_const 1 <|
  i_ret Q (some .boolean))
  (i_const 0 <|
  i_ret Q (some .boolean))
theorem kX8_end_0 {d : Nat} {Q : Outcome → MH → Prop} : ∀ ls st h, tX8_end_0 d Q (fun pc ls st h => WPb mX8_end d pc ls st h Q) ls st h → WPb mX8_end d 0 ls st h Q :=
  r_aload_n (k := 0) dX8_end_0 rfl <|
  r_iconst (v := 0) dX8_end_1 rfl <|
  r_putI (ci := 8) (q := (RX8, TX8, 27)) (k := 0) tyX8 tyX8_ok nmX8 dX8_end_2 (by decide) rfl in_X8 (by decide) (Or.inl ⟨rfl, (Or.inl q2141)⟩) rfl rfl <|
  r_iload_n (k := 1) dX8_end_5 rfl <|
  r_iconst (v := 0) dX8_end_6 rfl <|
  r_aload_n (k := 0) dX8_end_7 rfl <|
  r_getI (ci := 8) (q := (RX8, TX8, 27)) (k := 8) dX8_end_8 (by decide) rfl in_X8 (by decide) (Or.inl q2149) rfl <|
  r_cS (Z := mX8_isIn) dX8_end_11 rfl (by decide +kernel) ⟨by decide, by decide⟩ q2235 q2236 q127 q2237 (XS.out (noH _)) <|
  r_if_ne (pt := 19) dX8_end_14 (by decide)
  (r_aload_n (k := 0) dX8_end_19 rfl <|
  r_iload_n (k := 1) dX8_end_20 rfl <|
  r_putI (ci := 8) (q := (RX8, TX8, 27)) (k := 8) tyX8 tyX8_ok nmX8 dX8_end_21 (by decide) rfl in_X8 (by decide) (Or.inl ⟨rfl, (Or.inl q2149)⟩) rfl rfl <|
  r_iconst (v := 1) dX8_end_24 rfl <|
  r_ret rfl (Or.inl ⟨dX8_end_25, Or.inr (Or.inl rfl)⟩))
  (r_iconst (v := 0) dX8_end_17 rfl <|
  r_ret rfl (Or.inl ⟨dX8_end_18, Or.inr (Or.inl rfl)⟩))
-- CheekTownModel.isIn(III)Z cuts [0]
def tX8_isIn_0 (d : Nat) (Q : Outcome → MH → Prop) (J : Nat → KT) : KT :=
  i_iload 0 <|
  i_iload 1 <|
  i_icmp_lt
  (i_const 0 <|
  i_ret Q (some .boolean))
  (i_iload 0 <|
  i_iload 2 <|
  i_icmp_gt
  (i_const 0 <|
  i_ret Q (some .boolean))
  (i_const 1 <|
  i_ret Q (some .boolean)))
theorem kX8_isIn_0 {d : Nat} {Q : Outcome → MH → Prop} : ∀ ls st h, tX8_isIn_0 d Q (fun pc ls st h => WPb mX8_isIn d pc ls st h Q) ls st h → WPb mX8_isIn d 0 ls st h Q :=
  r_iload_n (k := 0) dX8_isIn_0 rfl <|
  r_iload_n (k := 1) dX8_isIn_1 rfl <|
  r_icmp_lt (pt := 14) dX8_isIn_2 (by decide)
  (r_iconst (v := 0) dX8_isIn_14 rfl <|
  r_ret rfl (Or.inl ⟨dX8_isIn_15, Or.inr (Or.inl rfl)⟩))
  (r_iload_n (k := 0) dX8_isIn_5 rfl <|
  r_iload_n (k := 2) dX8_isIn_6 rfl <|
  r_icmp_gt (pt := 14) dX8_isIn_7 (by decide)
  (r_iconst (v := 0) dX8_isIn_14 rfl <|
  r_ret rfl (Or.inl ⟨dX8_isIn_15, Or.inr (Or.inl rfl)⟩))
  (r_iconst (v := 1) dX8_isIn_10 rfl <|
  r_goto (pt := 15) dX8_isIn_11 (by decide) <|
  r_ret rfl (Or.inl ⟨dX8_isIn_15, Or.inr (Or.inl rfl)⟩)))
-- CheekTownModel.town()I cuts [0, 2, 66]
def tX8_town_0 (d : Nat) (Q : Outcome → MH → Prop) (J : Nat → KT) : KT :=
  i_const 0 <|
  i_istore 1 <|
  (J 2)
theorem kX8_town_0 {d : Nat} {Q : Outcome → MH → Prop} : ∀ ls st h, tX8_town_0 d Q (fun pc ls st h => WPb mX8_town d pc ls st h Q) ls st h → WPb mX8_town d 0 ls st h Q :=
  r_iconst (v := 0) dX8_town_0 rfl <|
  r_istore_n (k := 1) dX8_town_1 rfl <|
  (fun _ _ _ H => H)
def tX8_town_2 (d : Nat) (Q : Outcome → MH → Prop) (J : Nat → KT) : KT :=
  i_iload 1 <|
  i_const 900 <|
  i_icmp_ge
  (i_aload 0 <|
  i_call mX8_begins d 1 (pV 8) (xOut Q) <|
  i_aload 0 <|
  i_const 0 <|
  i_call mX8_read d 2 (pV 8) (xOut Q) <|
  i_istore 1 <|
  i_aload 0 <|
  i_aload 0 <|
  i_getI 8 12 <|
  i_const (-1) <|
  i_icmp_eq
  (i_aload 0 <|
  i_getR 8 1 <|
  i_const 0 <|
  i_iald <|
  i_const 12 <|
  i_icmp_ne
  (i_const 0 <|
  (J 66))
  (i_const 2 <|
  (J 66)))
  (i_const 1 <|
  (J 66)))
  (i_aload 0 <|
  i_getR 8 4 <|
  i_iload 1 <|
  i_aload 0 <|
  i_getR 8 1 <|
  i_iload 1 <|
  i_iald <|
  i_iast <|
  i_iinc 1 1 <|
  (J 2))
theorem kX8_town_2 {d : Nat} {Q : Outcome → MH → Prop} : ∀ ls st h, tX8_town_2 d Q (fun pc ls st h => WPb mX8_town d pc ls st h Q) ls st h → WPb mX8_town d 2 ls st h Q :=
  r_iload_n (k := 1) dX8_town_2 rfl <|
  r_sipush (v := 900) dX8_town_3 rfl <|
  r_icmp_ge (pt := 27) dX8_town_6 (by decide)
  (r_aload_n (k := 0) dX8_town_27 rfl <|
  r_cV (Z := mX8_begins) (ci := 8) (q := (RX8, TX8, 27)) dX8_town_28 rfl (by decide +kernel) ⟨by decide, by decide⟩ (by decide) rfl rfl q2242 q2244 qs52 q127 q2245 (XS.out (noH _)) <|
  r_aload_n (k := 0) dX8_town_31 rfl <|
  r_iconst (v := 0) dX8_town_32 rfl <|
  r_cV (Z := mX8_read) (ci := 8) (q := (RX8, TX8, 27)) dX8_town_33 rfl (by decide +kernel) ⟨by decide, by decide⟩ (by decide) rfl rfl q2246 q2248 qs53 q127 q2249 (XS.out (noH _)) <|
  r_istore_n (k := 1) dX8_town_36 rfl <|
  r_aload_n (k := 0) dX8_town_37 rfl <|
  r_aload_n (k := 0) dX8_town_38 rfl <|
  r_getI (ci := 8) (q := (RX8, TX8, 27)) (k := 12) dX8_town_39 (by decide) rfl in_X8 (by decide) (Or.inl q2153) rfl <|
  r_iconst (v := (-1)) dX8_town_42 rfl <|
  r_icmp_eq (pt := 50) dX8_town_43 (by decide)
  (r_aload_n (k := 0) dX8_town_50 rfl <|
  r_getR (ci := 8) (q := (RX8, TX8, 27)) (k := 1) dX8_town_51 (by decide) rfl in_X8 (by decide) (Or.inl q2142) rfl <|
  r_iconst (v := 0) dX8_town_54 rfl <|
  r_iald dX8_town_55 <|
  r_bipush (v := 12) dX8_town_56 rfl <|
  r_icmp_ne (pt := 65) dX8_town_58 (by decide)
  (r_iconst (v := 0) dX8_town_65 rfl <|
  (fun _ _ _ H => H))
  (r_iconst (v := 2) dX8_town_61 rfl <|
  r_goto (pt := 66) dX8_town_62 (by decide) <|
  (fun _ _ _ H => H)))
  (r_iconst (v := 1) dX8_town_46 rfl <|
  r_goto (pt := 66) dX8_town_47 (by decide) <|
  (fun _ _ _ H => H)))
  (r_aload_n (k := 0) dX8_town_9 rfl <|
  r_getR (ci := 8) (q := (RX8, TX8, 27)) (k := 4) dX8_town_10 (by decide) rfl in_X8 (by decide) (Or.inl q2145) rfl <|
  r_iload_n (k := 1) dX8_town_13 rfl <|
  r_aload_n (k := 0) dX8_town_14 rfl <|
  r_getR (ci := 8) (q := (RX8, TX8, 27)) (k := 1) dX8_town_15 (by decide) rfl in_X8 (by decide) (Or.inl q2142) rfl <|
  r_iload_n (k := 1) dX8_town_18 rfl <|
  r_iald dX8_town_19 <|
  r_iast dX8_town_20 <|
  r_iinc (v := 1) dX8_town_21 rfl <|
  r_goto (pt := 2) dX8_town_24 (by decide) <|
  (fun _ _ _ H => H))
def tX8_town_66 (d : Nat) (Q : Outcome → MH → Prop) (J : Nat → KT) : KT :=
  i_putI 8 0 .int <|
  i_aload 0 <|
  i_getI 8 0 <|
  i_if_le
  (i_aload 0 <|
  i_getR 8 1 <|
  i_const 0 <|
  i_dup2 <|
  i_iald <|
  i_const 1 <|
  i_iadd <|
  i_iast <|
  i_aload 0 <|
  i_const 0 <|
  i_putI 8 6 .int <|
  i_aload 0 <|
  i_getR 8 1 <|
  i_const 0 <|
  i_iald <|
  i_ret Q (some .int))
  (i_aload 0 <|
  i_call mX8_comesBack d 1 (pV 8) (xOut Q) <|
  i_const 0 <|
  i_ret Q (some .int))
theorem kX8_town_66 {d : Nat} {Q : Outcome → MH → Prop} : ∀ ls st h, tX8_town_66 d Q (fun pc ls st h => WPb mX8_town d pc ls st h Q) ls st h → WPb mX8_town d 66 ls st h Q :=
  r_putI (ci := 8) (q := (RX8, TX8, 27)) (k := 0) tyX8 tyX8_ok nmX8 dX8_town_66 (by decide) rfl in_X8 (by decide) (Or.inl ⟨rfl, (Or.inl q2141)⟩) rfl rfl <|
  r_aload_n (k := 0) dX8_town_69 rfl <|
  r_getI (ci := 8) (q := (RX8, TX8, 27)) (k := 0) dX8_town_70 (by decide) rfl in_X8 (by decide) (Or.inl q2141) rfl <|
  r_if_le (pt := 82) dX8_town_73 (by decide)
  (r_aload_n (k := 0) dX8_town_82 rfl <|
  r_getR (ci := 8) (q := (RX8, TX8, 27)) (k := 1) dX8_town_83 (by decide) rfl in_X8 (by decide) (Or.inl q2142) rfl <|
  r_iconst (v := 0) dX8_town_86 rfl <|
  r_dup2 dX8_town_87 <|
  r_iald dX8_town_88 <|
  r_iconst (v := 1) dX8_town_89 rfl <|
  r_iadd dX8_town_90 <|
  r_iast dX8_town_91 <|
  r_aload_n (k := 0) dX8_town_92 rfl <|
  r_iconst (v := 0) dX8_town_93 rfl <|
  r_putI (ci := 8) (q := (RX8, TX8, 27)) (k := 6) tyX8 tyX8_ok nmX8 dX8_town_94 (by decide) rfl in_X8 (by decide) (Or.inl ⟨rfl, (Or.inl q2147)⟩) rfl rfl <|
  r_aload_n (k := 0) dX8_town_97 rfl <|
  r_getR (ci := 8) (q := (RX8, TX8, 27)) (k := 1) dX8_town_98 (by decide) rfl in_X8 (by decide) (Or.inl q2142) rfl <|
  r_iconst (v := 0) dX8_town_101 rfl <|
  r_iald dX8_town_102 <|
  r_ret rfl (Or.inl ⟨dX8_town_103, Or.inl rfl⟩))
  (r_aload_n (k := 0) dX8_town_76 rfl <|
  r_cV (Z := mX8_comesBack) (ci := 8) (q := (RX8, TX8, 27)) dX8_town_77 rfl (by decide +kernel) ⟨by decide, by decide⟩ (by decide) rfl rfl q2397 q2399 qs81 q127 q2400 (XS.out (noH _)) <|
  r_iconst (v := 0) dX8_town_80 rfl <|
  r_ret rfl (Or.inl ⟨dX8_town_81, Or.inl rfl⟩))
-- CheekTownModel.begins()V cuts [0]
def tX8_begins_0 (d : Nat) (Q : Outcome → MH → Prop) (J : Nat → KT) : KT :=
  i_aload 0 <|
  i_const (-1) <|
  i_putI 8 12 .int <|
  i_aload 0 <|
  i_const (-1) <|
  i_putI 8 9 .int <|
  i_aload 0 <|
  i_aload 0 <|
  i_getI 8 8 <|
  i_putI 8 10 .int <|
  i_aload 0 <|
  i_const 0 <|
  i_putI 8 8 .int <|
  i_aload 0 <|
  i_const 0 <|
  i_putI 8 11 .int <|
  i_aload 0 <|
  i_const 0 <|
  i_putI 8 13 .int <|
  i_vret Q
theorem kX8_begins_0 {d : Nat} {Q : Outcome → MH → Prop} : ∀ ls st h, tX8_begins_0 d Q (fun pc ls st h => WPb mX8_begins d pc ls st h Q) ls st h → WPb mX8_begins d 0 ls st h Q :=
  r_aload_n (k := 0) dX8_begins_0 rfl <|
  r_iconst (v := (-1)) dX8_begins_1 rfl <|
  r_putI (ci := 8) (q := (RX8, TX8, 27)) (k := 12) tyX8 tyX8_ok nmX8 dX8_begins_2 (by decide) rfl in_X8 (by decide) (Or.inl ⟨rfl, (Or.inl q2153)⟩) rfl rfl <|
  r_aload_n (k := 0) dX8_begins_5 rfl <|
  r_iconst (v := (-1)) dX8_begins_6 rfl <|
  r_putI (ci := 8) (q := (RX8, TX8, 27)) (k := 9) tyX8 tyX8_ok nmX8 dX8_begins_7 (by decide) rfl in_X8 (by decide) (Or.inl ⟨rfl, (Or.inl q2150)⟩) rfl rfl <|
  r_aload_n (k := 0) dX8_begins_10 rfl <|
  r_aload_n (k := 0) dX8_begins_11 rfl <|
  r_getI (ci := 8) (q := (RX8, TX8, 27)) (k := 8) dX8_begins_12 (by decide) rfl in_X8 (by decide) (Or.inl q2149) rfl <|
  r_putI (ci := 8) (q := (RX8, TX8, 27)) (k := 10) tyX8 tyX8_ok nmX8 dX8_begins_15 (by decide) rfl in_X8 (by decide) (Or.inl ⟨rfl, (Or.inl q2151)⟩) rfl rfl <|
  r_aload_n (k := 0) dX8_begins_18 rfl <|
  r_iconst (v := 0) dX8_begins_19 rfl <|
  r_putI (ci := 8) (q := (RX8, TX8, 27)) (k := 8) tyX8 tyX8_ok nmX8 dX8_begins_20 (by decide) rfl in_X8 (by decide) (Or.inl ⟨rfl, (Or.inl q2149)⟩) rfl rfl <|
  r_aload_n (k := 0) dX8_begins_23 rfl <|
  r_iconst (v := 0) dX8_begins_24 rfl <|
  r_putI (ci := 8) (q := (RX8, TX8, 27)) (k := 11) tyX8 tyX8_ok nmX8 dX8_begins_25 (by decide) rfl in_X8 (by decide) (Or.inl ⟨rfl, (Or.inl q2152)⟩) rfl rfl <|
  r_aload_n (k := 0) dX8_begins_28 rfl <|
  r_iconst (v := 0) dX8_begins_29 rfl <|
  r_putI (ci := 8) (q := (RX8, TX8, 27)) (k := 13) tyX8 tyX8_ok nmX8 dX8_begins_30 (by decide) rfl in_X8 (by decide) (Or.inl ⟨rfl, (Or.inl q2154)⟩) rfl rfl <|
  r_vret rfl dX8_begins_33
-- CheekTownModel.read(Z)I cuts [0, 23, 51, 80]
def tX8_read_0 (d : Nat) (Q : Outcome → MH → Prop) (J : Nat → KT) : KT :=
  i_aload 0 <|
  i_call mX8_skip d 1 (pV 8) (xOut Q) <|
  i_aload 0 <|
  i_getI 8 11 <|
  i_aload 0 <|
  i_getI 8 10 <|
  i_icmp_ge
  (i_const 0 <|
  i_istore 2 <|
  i_const 0 <|
  i_istore 3 <|
  (J 23))
  (i_const 1 <|
  i_istore 2 <|
  i_const 0 <|
  i_istore 3 <|
  (J 23))
theorem kX8_read_0 {d : Nat} {Q : Outcome → MH → Prop} : ∀ ls st h, tX8_read_0 d Q (fun pc ls st h => WPb mX8_read d pc ls st h Q) ls st h → WPb mX8_read d 0 ls st h Q :=
  r_aload_n (k := 0) dX8_read_0 rfl <|
  r_cV (Z := mX8_skip) (ci := 8) (q := (RX8, TX8, 27)) dX8_read_1 rfl (by decide +kernel) ⟨by decide, by decide⟩ (by decide) rfl rfl q2250 q2252 qs54 q127 q2253 (XS.out (noH _)) <|
  r_aload_n (k := 0) dX8_read_4 rfl <|
  r_getI (ci := 8) (q := (RX8, TX8, 27)) (k := 11) dX8_read_5 (by decide) rfl in_X8 (by decide) (Or.inl q2152) rfl <|
  r_aload_n (k := 0) dX8_read_8 rfl <|
  r_getI (ci := 8) (q := (RX8, TX8, 27)) (k := 10) dX8_read_9 (by decide) rfl in_X8 (by decide) (Or.inl q2151) rfl <|
  r_icmp_ge (pt := 19) dX8_read_12 (by decide)
  (r_iconst (v := 0) dX8_read_19 rfl <|
  r_istore_n (k := 2) dX8_read_20 rfl <|
  r_iconst (v := 0) dX8_read_21 rfl <|
  r_istore_n (k := 3) dX8_read_22 rfl <|
  (fun _ _ _ H => H))
  (r_iconst (v := 1) dX8_read_15 rfl <|
  r_goto (pt := 20) dX8_read_16 (by decide) <|
  r_istore_n (k := 2) dX8_read_20 rfl <|
  r_iconst (v := 0) dX8_read_21 rfl <|
  r_istore_n (k := 3) dX8_read_22 rfl <|
  (fun _ _ _ H => H))
def tX8_read_23 (d : Nat) (Q : Outcome → MH → Prop) (J : Nat → KT) : KT :=
  i_iload 2 <|
  i_if_eq
  (i_iload 3 <|
  i_ret Q (some .int))
  (i_aload 0 <|
  i_getI 8 12 <|
  i_const (-1) <|
  i_icmp_ne
  (i_iload 3 <|
  i_ret Q (some .int))
  (i_aload 0 <|
  i_call mX8_skip d 1 (pV 8) (xOut Q) <|
  i_iload 3 <|
  i_iload 1 <|
  i_if_eq
  (i_const 14 <|
  (J 51))
  (i_const 12 <|
  (J 51))))
theorem kX8_read_23 {d : Nat} {Q : Outcome → MH → Prop} : ∀ ls st h, tX8_read_23 d Q (fun pc ls st h => WPb mX8_read d pc ls st h Q) ls st h → WPb mX8_read d 23 ls st h Q :=
  r_iload_n (k := 2) dX8_read_23 rfl <|
  r_if_eq (pt := 144) dX8_read_24 (by decide)
  (r_iload_n (k := 3) dX8_read_144 rfl <|
  r_ret rfl (Or.inl ⟨dX8_read_145, Or.inl rfl⟩))
  (r_aload_n (k := 0) dX8_read_27 rfl <|
  r_getI (ci := 8) (q := (RX8, TX8, 27)) (k := 12) dX8_read_28 (by decide) rfl in_X8 (by decide) (Or.inl q2153) rfl <|
  r_iconst (v := (-1)) dX8_read_31 rfl <|
  r_icmp_ne (pt := 144) dX8_read_32 (by decide)
  (r_iload_n (k := 3) dX8_read_144 rfl <|
  r_ret rfl (Or.inl ⟨dX8_read_145, Or.inl rfl⟩))
  (r_aload_n (k := 0) dX8_read_35 rfl <|
  r_cV (Z := mX8_skip) (ci := 8) (q := (RX8, TX8, 27)) dX8_read_36 rfl (by decide +kernel) ⟨by decide, by decide⟩ (by decide) rfl rfl q2250 q2252 qs54 q127 q2253 (XS.out (noH _)) <|
  r_iload_n (k := 3) dX8_read_39 rfl <|
  r_iload_n (k := 1) dX8_read_40 rfl <|
  r_if_eq (pt := 49) dX8_read_41 (by decide)
  (r_bipush (v := 14) dX8_read_49 rfl <|
  (fun _ _ _ H => H))
  (r_bipush (v := 12) dX8_read_44 rfl <|
  r_goto (pt := 51) dX8_read_46 (by decide) <|
  (fun _ _ _ H => H))))
def tX8_read_51 (d : Nat) (Q : Outcome → MH → Prop) (J : Nat → KT) : KT :=
  i_icmp_ne
  (i_iload 1 <|
  i_if_eq
  (i_aload 0 <|
  i_call mX8_townLine d 1 (pV 8) (xOut Q) <|
  (J 80))
  (i_aload 0 <|
  i_call mX8_lawLine d 1 (pV 8) (xOut Q) <|
  (J 80)))
  (i_aload 0 <|
  i_aload 0 <|
  i_getI 8 11 <|
  i_call mX8_wrong d 2 (pV 8) (xOut Q) <|
  (J 80))
theorem kX8_read_51 {d : Nat} {Q : Outcome → MH → Prop} : ∀ ls st h, tX8_read_51 d Q (fun pc ls st h => WPb mX8_read d pc ls st h Q) ls st h → WPb mX8_read d 51 ls st h Q :=
  r_icmp_ne (pt := 65) dX8_read_51 (by decide)
  (r_iload_n (k := 1) dX8_read_65 rfl <|
  r_if_eq (pt := 76) dX8_read_66 (by decide)
  (r_aload_n (k := 0) dX8_read_76 rfl <|
  r_cV (Z := mX8_townLine) (ci := 8) (q := (RX8, TX8, 27)) dX8_read_77 rfl (by decide +kernel) ⟨by decide, by decide⟩ (by decide) rfl rfl q2344 q2346 qs70 q127 q2347 (XS.out (noH _)) <|
  (fun _ _ _ H => H))
  (r_aload_n (k := 0) dX8_read_69 rfl <|
  r_cV (Z := mX8_lawLine) (ci := 8) (q := (RX8, TX8, 27)) dX8_read_70 rfl (by decide +kernel) ⟨by decide, by decide⟩ (by decide) rfl rfl q2262 q2264 qs57 q127 q2265 (XS.out (noH _)) <|
  r_goto (pt := 80) dX8_read_73 (by decide) <|
  (fun _ _ _ H => H)))
  (r_aload_n (k := 0) dX8_read_54 rfl <|
  r_aload_n (k := 0) dX8_read_55 rfl <|
  r_getI (ci := 8) (q := (RX8, TX8, 27)) (k := 11) dX8_read_56 (by decide) rfl in_X8 (by decide) (Or.inl q2152) rfl <|
  r_cV (Z := mX8_wrong) (ci := 8) (q := (RX8, TX8, 27)) dX8_read_59 rfl (by decide +kernel) ⟨by decide, by decide⟩ (by decide) rfl rfl q2258 q2260 qs56 q127 q2261 (XS.out (noH _)) <|
  r_goto (pt := 80) dX8_read_62 (by decide) <|
  (fun _ _ _ H => H))
def tX8_read_80 (d : Nat) (Q : Outcome → MH → Prop) (J : Nat → KT) : KT :=
  i_iinc 3 1 <|
  i_aload 0 <|
  i_call mX8_skip d 1 (pV 8) (xOut Q) <|
  i_aload 0 <|
  i_getI 8 12 <|
  i_const (-1) <|
  i_icmp_ne
  (i_const 0 <|
  i_istore 2 <|
  (J 23))
  (i_aload 0 <|
  i_getI 8 11 <|
  i_aload 0 <|
  i_getI 8 10 <|
  i_icmp_ne
  (i_aload 0 <|
  i_const 59 <|
  i_call mX8_isSign d 2 (pV 8) (xOut Q) <|
  i_if_eq
  (i_aload 0 <|
  i_aload 0 <|
  i_getI 8 11 <|
  i_call mX8_wrong d 2 (pV 8) (xOut Q) <|
  (J 23))
  (i_aload 0 <|
  i_dup <|
  i_getI 8 11 <|
  i_const 1 <|
  i_iadd <|
  i_putI 8 11 .int <|
  (J 23)))
  (i_const 0 <|
  i_istore 2 <|
  (J 23)))
theorem kX8_read_80 {d : Nat} {Q : Outcome → MH → Prop} : ∀ ls st h, tX8_read_80 d Q (fun pc ls st h => WPb mX8_read d pc ls st h Q) ls st h → WPb mX8_read d 80 ls st h Q :=
  r_iinc (v := 1) dX8_read_80 rfl <|
  r_aload_n (k := 0) dX8_read_83 rfl <|
  r_cV (Z := mX8_skip) (ci := 8) (q := (RX8, TX8, 27)) dX8_read_84 rfl (by decide +kernel) ⟨by decide, by decide⟩ (by decide) rfl rfl q2250 q2252 qs54 q127 q2253 (XS.out (noH _)) <|
  r_aload_n (k := 0) dX8_read_87 rfl <|
  r_getI (ci := 8) (q := (RX8, TX8, 27)) (k := 12) dX8_read_88 (by decide) rfl in_X8 (by decide) (Or.inl q2153) rfl <|
  r_iconst (v := (-1)) dX8_read_91 rfl <|
  r_icmp_ne (pt := 106) dX8_read_92 (by decide)
  (r_iconst (v := 0) dX8_read_106 rfl <|
  r_istore_n (k := 2) dX8_read_107 rfl <|
  r_goto (pt := 23) dX8_read_108 (by decide) <|
  (fun _ _ _ H => H))
  (r_aload_n (k := 0) dX8_read_95 rfl <|
  r_getI (ci := 8) (q := (RX8, TX8, 27)) (k := 11) dX8_read_96 (by decide) rfl in_X8 (by decide) (Or.inl q2152) rfl <|
  r_aload_n (k := 0) dX8_read_99 rfl <|
  r_getI (ci := 8) (q := (RX8, TX8, 27)) (k := 10) dX8_read_100 (by decide) rfl in_X8 (by decide) (Or.inl q2151) rfl <|
  r_icmp_ne (pt := 111) dX8_read_103 (by decide)
  (r_aload_n (k := 0) dX8_read_111 rfl <|
  r_bipush (v := 59) dX8_read_112 rfl <|
  r_cV (Z := mX8_isSign) (ci := 8) (q := (RX8, TX8, 27)) dX8_read_114 rfl (by decide +kernel) ⟨by decide, by decide⟩ (by decide) rfl rfl q2318 q2320 qs66 q127 q2321 (XS.out (noH _)) <|
  r_if_eq (pt := 133) dX8_read_117 (by decide)
  (r_aload_n (k := 0) dX8_read_133 rfl <|
  r_aload_n (k := 0) dX8_read_134 rfl <|
  r_getI (ci := 8) (q := (RX8, TX8, 27)) (k := 11) dX8_read_135 (by decide) rfl in_X8 (by decide) (Or.inl q2152) rfl <|
  r_cV (Z := mX8_wrong) (ci := 8) (q := (RX8, TX8, 27)) dX8_read_138 rfl (by decide +kernel) ⟨by decide, by decide⟩ (by decide) rfl rfl q2258 q2260 qs56 q127 q2261 (XS.out (noH _)) <|
  r_goto (pt := 23) dX8_read_141 (by decide) <|
  (fun _ _ _ H => H))
  (r_aload_n (k := 0) dX8_read_120 rfl <|
  r_dup dX8_read_121 <|
  r_getI (ci := 8) (q := (RX8, TX8, 27)) (k := 11) dX8_read_122 (by decide) rfl in_X8 (by decide) (Or.inl q2152) rfl <|
  r_iconst (v := 1) dX8_read_125 rfl <|
  r_iadd dX8_read_126 <|
  r_putI (ci := 8) (q := (RX8, TX8, 27)) (k := 11) tyX8 tyX8_ok nmX8 dX8_read_127 (by decide) rfl in_X8 (by decide) (Or.inl ⟨rfl, (Or.inl q2152)⟩) rfl rfl <|
  r_goto (pt := 23) dX8_read_130 (by decide) <|
  (fun _ _ _ H => H)))
  (r_iconst (v := 0) dX8_read_106 rfl <|
  r_istore_n (k := 2) dX8_read_107 rfl <|
  r_goto (pt := 23) dX8_read_108 (by decide) <|
  (fun _ _ _ H => H)))
-- CheekTownModel.skip()V cuts [0]
def tX8_skip_0 (d : Nat) (Q : Outcome → MH → Prop) (J : Nat → KT) : KT :=
  i_aload 0 <|
  i_getI 8 11 <|
  i_aload 0 <|
  i_getI 8 10 <|
  i_icmp_ge
  (i_vret Q)
  (i_aload 0 <|
  i_aload 0 <|
  i_getI 8 11 <|
  i_call mX8_letter d 2 (pV 8) (xOut Q) <|
  i_const 32 <|
  i_icmp_ne
  (i_vret Q)
  (i_aload 0 <|
  i_dup <|
  i_getI 8 11 <|
  i_const 1 <|
  i_iadd <|
  i_putI 8 11 .int <|
  (J 0)))
theorem kX8_skip_0 {d : Nat} {Q : Outcome → MH → Prop} : ∀ ls st h, tX8_skip_0 d Q (fun pc ls st h => WPb mX8_skip d pc ls st h Q) ls st h → WPb mX8_skip d 0 ls st h Q :=
  r_aload_n (k := 0) dX8_skip_0 rfl <|
  r_getI (ci := 8) (q := (RX8, TX8, 27)) (k := 11) dX8_skip_1 (by decide) rfl in_X8 (by decide) (Or.inl q2152) rfl <|
  r_aload_n (k := 0) dX8_skip_4 rfl <|
  r_getI (ci := 8) (q := (RX8, TX8, 27)) (k := 10) dX8_skip_5 (by decide) rfl in_X8 (by decide) (Or.inl q2151) rfl <|
  r_icmp_ge (pt := 37) dX8_skip_8 (by decide)
  (r_vret rfl dX8_skip_37)
  (r_aload_n (k := 0) dX8_skip_11 rfl <|
  r_aload_n (k := 0) dX8_skip_12 rfl <|
  r_getI (ci := 8) (q := (RX8, TX8, 27)) (k := 11) dX8_skip_13 (by decide) rfl in_X8 (by decide) (Or.inl q2152) rfl <|
  r_cV (Z := mX8_letter) (ci := 8) (q := (RX8, TX8, 27)) dX8_skip_16 rfl (by decide +kernel) ⟨by decide, by decide⟩ (by decide) rfl rfl q2254 q2256 qs55 q127 q2257 (XS.out (noH _)) <|
  r_bipush (v := 32) dX8_skip_19 rfl <|
  r_icmp_ne (pt := 37) dX8_skip_21 (by decide)
  (r_vret rfl dX8_skip_37)
  (r_aload_n (k := 0) dX8_skip_24 rfl <|
  r_dup dX8_skip_25 <|
  r_getI (ci := 8) (q := (RX8, TX8, 27)) (k := 11) dX8_skip_26 (by decide) rfl in_X8 (by decide) (Or.inl q2152) rfl <|
  r_iconst (v := 1) dX8_skip_29 rfl <|
  r_iadd dX8_skip_30 <|
  r_putI (ci := 8) (q := (RX8, TX8, 27)) (k := 11) tyX8 tyX8_ok nmX8 dX8_skip_31 (by decide) rfl in_X8 (by decide) (Or.inl ⟨rfl, (Or.inl q2152)⟩) rfl rfl <|
  r_goto (pt := 0) dX8_skip_34 (by decide) <|
  (fun _ _ _ H => H)))
-- CheekTownModel.letter(I)I cuts [0]
def tX8_letter_0 (d : Nat) (Q : Outcome → MH → Prop) (J : Nat → KT) : KT :=
  i_aload 0 <|
  i_getI 8 9 <|
  i_const (-1) <|
  i_icmp_ne
  (i_aload 0 <|
  i_getR 8 1 <|
  i_aload 0 <|
  i_getI 8 9 <|
  i_iload 1 <|
  i_iadd <|
  i_iald <|
  i_ret Q (some .int))
  (i_aload 0 <|
  i_getR 8 7 <|
  i_iload 1 <|
  i_iald <|
  i_ret Q (some .int))
theorem kX8_letter_0 {d : Nat} {Q : Outcome → MH → Prop} : ∀ ls st h, tX8_letter_0 d Q (fun pc ls st h => WPb mX8_letter d pc ls st h Q) ls st h → WPb mX8_letter d 0 ls st h Q :=
  r_aload_n (k := 0) dX8_letter_0 rfl <|
  r_getI (ci := 8) (q := (RX8, TX8, 27)) (k := 9) dX8_letter_1 (by decide) rfl in_X8 (by decide) (Or.inl q2150) rfl <|
  r_iconst (v := (-1)) dX8_letter_4 rfl <|
  r_icmp_ne (pt := 17) dX8_letter_5 (by decide)
  (r_aload_n (k := 0) dX8_letter_17 rfl <|
  r_getR (ci := 8) (q := (RX8, TX8, 27)) (k := 1) dX8_letter_18 (by decide) rfl in_X8 (by decide) (Or.inl q2142) rfl <|
  r_aload_n (k := 0) dX8_letter_21 rfl <|
  r_getI (ci := 8) (q := (RX8, TX8, 27)) (k := 9) dX8_letter_22 (by decide) rfl in_X8 (by decide) (Or.inl q2150) rfl <|
  r_iload_n (k := 1) dX8_letter_25 rfl <|
  r_iadd dX8_letter_26 <|
  r_iald dX8_letter_27 <|
  r_ret rfl (Or.inl ⟨dX8_letter_28, Or.inl rfl⟩))
  (r_aload_n (k := 0) dX8_letter_8 rfl <|
  r_getR (ci := 8) (q := (RX8, TX8, 27)) (k := 7) dX8_letter_9 (by decide) rfl in_X8 (by decide) (Or.inl q2148) rfl <|
  r_iload_n (k := 1) dX8_letter_12 rfl <|
  r_iald dX8_letter_13 <|
  r_goto (pt := 28) dX8_letter_14 (by decide) <|
  r_ret rfl (Or.inl ⟨dX8_letter_28, Or.inl rfl⟩))
-- CheekTownModel.wrong(I)V cuts [0]
def tX8_wrong_0 (d : Nat) (Q : Outcome → MH → Prop) (J : Nat → KT) : KT :=
  i_aload 0 <|
  i_getI 8 12 <|
  i_const (-1) <|
  i_icmp_ne
  (i_vret Q)
  (i_aload 0 <|
  i_iload 1 <|
  i_putI 8 12 .int <|
  i_vret Q)
theorem kX8_wrong_0 {d : Nat} {Q : Outcome → MH → Prop} : ∀ ls st h, tX8_wrong_0 d Q (fun pc ls st h => WPb mX8_wrong d pc ls st h Q) ls st h → WPb mX8_wrong d 0 ls st h Q :=
  r_aload_n (k := 0) dX8_wrong_0 rfl <|
  r_getI (ci := 8) (q := (RX8, TX8, 27)) (k := 12) dX8_wrong_1 (by decide) rfl in_X8 (by decide) (Or.inl q2153) rfl <|
  r_iconst (v := (-1)) dX8_wrong_4 rfl <|
  r_icmp_ne (pt := 13) dX8_wrong_5 (by decide)
  (r_vret rfl dX8_wrong_13)
  (r_aload_n (k := 0) dX8_wrong_8 rfl <|
  r_iload_n (k := 1) dX8_wrong_9 rfl <|
  r_putI (ci := 8) (q := (RX8, TX8, 27)) (k := 12) tyX8 tyX8_ok nmX8 dX8_wrong_10 (by decide) rfl in_X8 (by decide) (Or.inl ⟨rfl, (Or.inl q2153)⟩) rfl rfl <|
  r_vret rfl dX8_wrong_13)
-- CheekTownModel.lawLine()V cuts [0, 35]
def tX8_lawLine_0 (d : Nat) (Q : Outcome → MH → Prop) (J : Nat → KT) : KT :=
  i_aload 0 <|
  i_call mX8_greeting d 1 (pV 8) (xOut Q) <|
  i_istore 1 <|
  i_aload 0 <|
  i_getI 8 12 <|
  i_const (-1) <|
  i_icmp_eq
  (i_aload 0 <|
  i_ldcS 64 <|
  i_call mX8_has d 2 (pV 8) (xOut Q) <|
  i_if_eq
  (i_const 1 <|
  (J 35))
  (i_aload 0 <|
  i_call mX8_some d 1 (pV 8) (xOut Q) <|
  i_if_eq
  (i_const 0 <|
  (J 35))
  (i_const 1 <|
  (J 35))))
  (i_vret Q)
theorem kX8_lawLine_0 {d : Nat} {Q : Outcome → MH → Prop} : ∀ ls st h, tX8_lawLine_0 d Q (fun pc ls st h => WPb mX8_lawLine d pc ls st h Q) ls st h → WPb mX8_lawLine d 0 ls st h Q :=
  r_aload_n (k := 0) dX8_lawLine_0 rfl <|
  r_cV (Z := mX8_greeting) (ci := 8) (q := (RX8, TX8, 27)) dX8_lawLine_1 rfl (by decide +kernel) ⟨by decide, by decide⟩ (by decide) rfl rfl q2266 q2268 qs58 q127 q2269 (XS.out (noH _)) <|
  r_istore_n (k := 1) dX8_lawLine_4 rfl <|
  r_aload_n (k := 0) dX8_lawLine_5 rfl <|
  r_getI (ci := 8) (q := (RX8, TX8, 27)) (k := 12) dX8_lawLine_6 (by decide) rfl in_X8 (by decide) (Or.inl q2153) rfl <|
  r_iconst (v := (-1)) dX8_lawLine_9 rfl <|
  r_icmp_eq (pt := 14) dX8_lawLine_10 (by decide)
  (r_aload_n (k := 0) dX8_lawLine_14 rfl <|
  r_ldcS (a := 64) (tx := "if") dX8_lawLine_15 (by decide +kernel) (by decide) <|
  r_cV (Z := mX8_has) (ci := 8) (q := (RX8, TX8, 27)) dX8_lawLine_17 rfl (by decide +kernel) ⟨by decide, by decide⟩ (by decide) rfl rfl q2271 q2273 qs59 q127 q2274 (XS.out (noH _)) <|
  r_if_eq (pt := 30) dX8_lawLine_20 (by decide)
  (r_iconst (v := 1) dX8_lawLine_30 rfl <|
  r_goto (pt := 35) dX8_lawLine_31 (by decide) <|
  (fun _ _ _ H => H))
  (r_aload_n (k := 0) dX8_lawLine_23 rfl <|
  r_cV (Z := mX8_some) (ci := 8) (q := (RX8, TX8, 27)) dX8_lawLine_24 rfl (by decide +kernel) ⟨by decide, by decide⟩ (by decide) rfl rfl q2305 q2307 qs63 q127 q2308 (XS.out (noH _)) <|
  r_if_eq (pt := 34) dX8_lawLine_27 (by decide)
  (r_iconst (v := 0) dX8_lawLine_34 rfl <|
  (fun _ _ _ H => H))
  (r_iconst (v := 1) dX8_lawLine_30 rfl <|
  r_goto (pt := 35) dX8_lawLine_31 (by decide) <|
  (fun _ _ _ H => H))))
  (r_vret rfl dX8_lawLine_13)
def tX8_lawLine_35 (d : Nat) (Q : Outcome → MH → Prop) (J : Nat → KT) : KT :=
  i_istore 2 <|
  i_aload 0 <|
  i_getI 8 12 <|
  i_const (-1) <|
  i_icmp_ne
  (i_vret Q)
  (i_iload 2 <|
  i_if_eq
  (i_vret Q)
  (i_aload 0 <|
  i_getI 8 17 <|
  i_const (-1) <|
  i_icmp_ne
  (i_vret Q)
  (i_aload 0 <|
  i_iload 1 <|
  i_putI 8 17 .int <|
  i_vret Q)))
theorem kX8_lawLine_35 {d : Nat} {Q : Outcome → MH → Prop} : ∀ ls st h, tX8_lawLine_35 d Q (fun pc ls st h => WPb mX8_lawLine d pc ls st h Q) ls st h → WPb mX8_lawLine d 35 ls st h Q :=
  r_istore_n (k := 2) dX8_lawLine_35 rfl <|
  r_aload_n (k := 0) dX8_lawLine_36 rfl <|
  r_getI (ci := 8) (q := (RX8, TX8, 27)) (k := 12) dX8_lawLine_37 (by decide) rfl in_X8 (by decide) (Or.inl q2153) rfl <|
  r_iconst (v := (-1)) dX8_lawLine_40 rfl <|
  r_icmp_ne (pt := 61) dX8_lawLine_41 (by decide)
  (r_vret rfl dX8_lawLine_61)
  (r_iload_n (k := 2) dX8_lawLine_44 rfl <|
  r_if_eq (pt := 61) dX8_lawLine_45 (by decide)
  (r_vret rfl dX8_lawLine_61)
  (r_aload_n (k := 0) dX8_lawLine_48 rfl <|
  r_getI (ci := 8) (q := (RX8, TX8, 27)) (k := 17) dX8_lawLine_49 (by decide) rfl in_X8 (by decide) (Or.inl q2158) rfl <|
  r_iconst (v := (-1)) dX8_lawLine_52 rfl <|
  r_icmp_ne (pt := 61) dX8_lawLine_53 (by decide)
  (r_vret rfl dX8_lawLine_61)
  (r_aload_n (k := 0) dX8_lawLine_56 rfl <|
  r_iload_n (k := 1) dX8_lawLine_57 rfl <|
  r_putI (ci := 8) (q := (RX8, TX8, 27)) (k := 17) tyX8 tyX8_ok nmX8 dX8_lawLine_58 (by decide) rfl in_X8 (by decide) (Or.inl ⟨rfl, (Or.inl q2158)⟩) rfl rfl <|
  r_vret rfl dX8_lawLine_61)))
-- CheekTownModel.greeting()I cuts [0]
def tX8_greeting_0 (d : Nat) (Q : Outcome → MH → Prop) (J : Nat → KT) : KT :=
  i_aload 0 <|
  i_getI 8 12 <|
  i_const (-1) <|
  i_icmp_eq
  (i_aload 0 <|
  i_ldcS 76 <|
  i_call mX8_has d 2 (pV 8) (xOut Q) <|
  i_if_eq
  (i_aload 0 <|
  i_ldcS 78 <|
  i_call mX8_has d 2 (pV 8) (xOut Q) <|
  i_if_eq
  (i_aload 0 <|
  i_ldcS 82 <|
  i_call mX8_has d 2 (pV 8) (xOut Q) <|
  i_if_eq
  (i_aload 0 <|
  i_ldcS 80 <|
  i_call mX8_must d 2 (pV 8) (xOut Q) <|
  i_aload 0 <|
  i_const 1 <|
  i_const 4 <|
  i_call mX8_figures d 3 (pV 8) (xOut Q) <|
  i_istore 1 <|
  i_aload 0 <|
  i_getI 8 12 <|
  i_const (-1) <|
  i_icmp_eq
  (i_aload 0 <|
  i_ldcS 32 <|
  i_call mX8_has d 2 (pV 8) (xOut Q) <|
  i_istore 2 <|
  i_iload 2 <|
  i_if_ne
  (i_const 14 <|
  i_const 2 <|
  i_iload 1 <|
  i_imul <|
  i_iadd <|
  i_iload 2 <|
  i_if_eq
  (i_const 0 <|
  i_iadd <|
  i_ret Q (some .int))
  (i_const 1 <|
  i_iadd <|
  i_ret Q (some .int)))
  (i_aload 0 <|
  i_ldcS 30 <|
  i_call mX8_must d 2 (pV 8) (xOut Q) <|
  i_const 14 <|
  i_const 2 <|
  i_iload 1 <|
  i_imul <|
  i_iadd <|
  i_iload 2 <|
  i_if_eq
  (i_const 0 <|
  i_iadd <|
  i_ret Q (some .int))
  (i_const 1 <|
  i_iadd <|
  i_ret Q (some .int))))
  (i_const 0 <|
  i_ret Q (some .int)))
  (i_const 24 <|
  i_ret Q (some .int)))
  (i_const 8 <|
  i_ret Q (some .int)))
  (i_const 0 <|
  i_ret Q (some .int)))
  (i_const 0 <|
  i_ret Q (some .int))
theorem kX8_greeting_0 {d : Nat} {Q : Outcome → MH → Prop} : ∀ ls st h, tX8_greeting_0 d Q (fun pc ls st h => WPb mX8_greeting d pc ls st h Q) ls st h → WPb mX8_greeting d 0 ls st h Q :=
  r_aload_n (k := 0) dX8_greeting_0 rfl <|
  r_getI (ci := 8) (q := (RX8, TX8, 27)) (k := 12) dX8_greeting_1 (by decide) rfl in_X8 (by decide) (Or.inl q2153) rfl <|
  r_iconst (v := (-1)) dX8_greeting_4 rfl <|
  r_icmp_eq (pt := 10) dX8_greeting_5 (by decide)
  (r_aload_n (k := 0) dX8_greeting_10 rfl <|
  r_ldcS (a := 76) (tx := "wave") dX8_greeting_11 (by decide +kernel) (by decide) <|
  r_cV (Z := mX8_has) (ci := 8) (q := (RX8, TX8, 27)) dX8_greeting_13 rfl (by decide +kernel) ⟨by decide, by decide⟩ (by decide) rfl rfl q2271 q2273 qs59 q127 q2274 (XS.out (noH _)) <|
  r_if_eq (pt := 21) dX8_greeting_16 (by decide)
  (r_aload_n (k := 0) dX8_greeting_21 rfl <|
  r_ldcS (a := 78) (tx := "hand") dX8_greeting_22 (by decide +kernel) (by decide) <|
  r_cV (Z := mX8_has) (ci := 8) (q := (RX8, TX8, 27)) dX8_greeting_24 rfl (by decide +kernel) ⟨by decide, by decide⟩ (by decide) rfl rfl q2271 q2273 qs59 q127 q2274 (XS.out (noH _)) <|
  r_if_eq (pt := 33) dX8_greeting_27 (by decide)
  (r_aload_n (k := 0) dX8_greeting_33 rfl <|
  r_ldcS (a := 82) (tx := "embrace") dX8_greeting_34 (by decide +kernel) (by decide) <|
  r_cV (Z := mX8_has) (ci := 8) (q := (RX8, TX8, 27)) dX8_greeting_36 rfl (by decide +kernel) ⟨by decide, by decide⟩ (by decide) rfl rfl q2271 q2273 qs59 q127 q2274 (XS.out (noH _)) <|
  r_if_eq (pt := 45) dX8_greeting_39 (by decide)
  (r_aload_n (k := 0) dX8_greeting_45 rfl <|
  r_ldcS (a := 80) (tx := "kiss") dX8_greeting_46 (by decide +kernel) (by decide) <|
  r_cV (Z := mX8_must) (ci := 8) (q := (RX8, TX8, 27)) dX8_greeting_48 rfl (by decide +kernel) ⟨by decide, by decide⟩ (by decide) rfl rfl q2290 q2292 qs60 q127 q2293 (XS.out (noH _)) <|
  r_aload_n (k := 0) dX8_greeting_51 rfl <|
  r_iconst (v := 1) dX8_greeting_52 rfl <|
  r_iconst (v := 4) dX8_greeting_53 rfl <|
  r_cV (Z := mX8_figures) (ci := 8) (q := (RX8, TX8, 27)) dX8_greeting_54 rfl (by decide +kernel) ⟨by decide, by decide⟩ (by decide) rfl rfl q2294 q2296 qs61 q127 q2297 (XS.out (noH _)) <|
  r_istore_n (k := 1) dX8_greeting_57 rfl <|
  r_aload_n (k := 0) dX8_greeting_58 rfl <|
  r_getI (ci := 8) (q := (RX8, TX8, 27)) (k := 12) dX8_greeting_59 (by decide) rfl in_X8 (by decide) (Or.inl q2153) rfl <|
  r_iconst (v := (-1)) dX8_greeting_62 rfl <|
  r_icmp_eq (pt := 68) dX8_greeting_63 (by decide)
  (r_aload_n (k := 0) dX8_greeting_68 rfl <|
  r_ldcS (a := 32) (tx := "right") dX8_greeting_69 (by decide +kernel) (by decide) <|
  r_cV (Z := mX8_has) (ci := 8) (q := (RX8, TX8, 27)) dX8_greeting_71 rfl (by decide +kernel) ⟨by decide, by decide⟩ (by decide) rfl rfl q2271 q2273 qs59 q127 q2274 (XS.out (noH _)) <|
  r_istore_n (k := 2) dX8_greeting_74 rfl <|
  r_iload_n (k := 2) dX8_greeting_75 rfl <|
  r_if_ne (pt := 85) dX8_greeting_76 (by decide)
  (r_bipush (v := 14) dX8_greeting_85 rfl <|
  r_iconst (v := 2) dX8_greeting_87 rfl <|
  r_iload_n (k := 1) dX8_greeting_88 rfl <|
  r_imul dX8_greeting_89 <|
  r_iadd dX8_greeting_90 <|
  r_iload_n (k := 2) dX8_greeting_91 rfl <|
  r_if_eq (pt := 99) dX8_greeting_92 (by decide)
  (r_iconst (v := 0) dX8_greeting_99 rfl <|
  r_iadd dX8_greeting_100 <|
  r_ret rfl (Or.inl ⟨dX8_greeting_101, Or.inl rfl⟩))
  (r_iconst (v := 1) dX8_greeting_95 rfl <|
  r_goto (pt := 100) dX8_greeting_96 (by decide) <|
  r_iadd dX8_greeting_100 <|
  r_ret rfl (Or.inl ⟨dX8_greeting_101, Or.inl rfl⟩)))
  (r_aload_n (k := 0) dX8_greeting_79 rfl <|
  r_ldcS (a := 30) (tx := "left") dX8_greeting_80 (by decide +kernel) (by decide) <|
  r_cV (Z := mX8_must) (ci := 8) (q := (RX8, TX8, 27)) dX8_greeting_82 rfl (by decide +kernel) ⟨by decide, by decide⟩ (by decide) rfl rfl q2290 q2292 qs60 q127 q2293 (XS.out (noH _)) <|
  r_bipush (v := 14) dX8_greeting_85 rfl <|
  r_iconst (v := 2) dX8_greeting_87 rfl <|
  r_iload_n (k := 1) dX8_greeting_88 rfl <|
  r_imul dX8_greeting_89 <|
  r_iadd dX8_greeting_90 <|
  r_iload_n (k := 2) dX8_greeting_91 rfl <|
  r_if_eq (pt := 99) dX8_greeting_92 (by decide)
  (r_iconst (v := 0) dX8_greeting_99 rfl <|
  r_iadd dX8_greeting_100 <|
  r_ret rfl (Or.inl ⟨dX8_greeting_101, Or.inl rfl⟩))
  (r_iconst (v := 1) dX8_greeting_95 rfl <|
  r_goto (pt := 100) dX8_greeting_96 (by decide) <|
  r_iadd dX8_greeting_100 <|
  r_ret rfl (Or.inl ⟨dX8_greeting_101, Or.inl rfl⟩))))
  (r_iconst (v := 0) dX8_greeting_66 rfl <|
  r_ret rfl (Or.inl ⟨dX8_greeting_67, Or.inl rfl⟩)))
  (r_bipush (v := 24) dX8_greeting_42 rfl <|
  r_ret rfl (Or.inl ⟨dX8_greeting_44, Or.inl rfl⟩)))
  (r_bipush (v := 8) dX8_greeting_30 rfl <|
  r_ret rfl (Or.inl ⟨dX8_greeting_32, Or.inl rfl⟩)))
  (r_iconst (v := 0) dX8_greeting_19 rfl <|
  r_ret rfl (Or.inl ⟨dX8_greeting_20, Or.inl rfl⟩)))
  (r_iconst (v := 0) dX8_greeting_8 rfl <|
  r_ret rfl (Or.inl ⟨dX8_greeting_9, Or.inl rfl⟩))
-- CheekTownModel.has(Ljava/lang/String;)Z cuts [0, 9, 55]
def tX8_has_0 (d : Nat) (Q : Outcome → MH → Prop) (J : Nat → KT) : KT :=
  i_aload 0 <|
  i_call mX8_skip d 1 (pV 8) (xOut Q) <|
  i_aload 0 <|
  i_getI 8 11 <|
  i_istore 2 <|
  (J 9)
theorem kX8_has_0 {d : Nat} {Q : Outcome → MH → Prop} : ∀ ls st h, tX8_has_0 d Q (fun pc ls st h => WPb mX8_has d pc ls st h Q) ls st h → WPb mX8_has d 0 ls st h Q :=
  r_aload_n (k := 0) dX8_has_0 rfl <|
  r_cV (Z := mX8_skip) (ci := 8) (q := (RX8, TX8, 27)) dX8_has_1 rfl (by decide +kernel) ⟨by decide, by decide⟩ (by decide) rfl rfl q2250 q2252 qs54 q127 q2253 (XS.out (noH _)) <|
  r_aload_n (k := 0) dX8_has_4 rfl <|
  r_getI (ci := 8) (q := (RX8, TX8, 27)) (k := 11) dX8_has_5 (by decide) rfl in_X8 (by decide) (Or.inl q2152) rfl <|
  r_istore_n (k := 2) dX8_has_8 rfl <|
  (fun _ _ _ H => H)
def tX8_has_9 (d : Nat) (Q : Outcome → MH → Prop) (J : Nat → KT) : KT :=
  i_iload 2 <|
  i_aload 0 <|
  i_getI 8 10 <|
  i_icmp_ge
  (i_iload 2 <|
  i_aload 0 <|
  i_getI 8 11 <|
  i_isub <|
  i_aload 1 <|
  i_call mJ5_length d 1 (pV 24) (xOut Q) <|
  i_icmp_eq
  (i_const 0 <|
  i_istore 3 <|
  (J 55))
  (i_const 0 <|
  i_ret Q (some .boolean)))
  (i_aload 0 <|
  i_iload 2 <|
  i_call mX8_letter d 2 (pV 8) (xOut Q) <|
  i_const 97 <|
  i_const 122 <|
  i_call mX8_isIn d 3 pS (xOut Q) <|
  i_if_eq
  (i_iload 2 <|
  i_aload 0 <|
  i_getI 8 11 <|
  i_isub <|
  i_aload 1 <|
  i_call mJ5_length d 1 (pV 24) (xOut Q) <|
  i_icmp_eq
  (i_const 0 <|
  i_istore 3 <|
  (J 55))
  (i_const 0 <|
  i_ret Q (some .boolean)))
  (i_iinc 2 1 <|
  (J 9)))
theorem kX8_has_9 {d : Nat} {Q : Outcome → MH → Prop} : ∀ ls st h, tX8_has_9 d Q (fun pc ls st h => WPb mX8_has d pc ls st h Q) ls st h → WPb mX8_has d 9 ls st h Q :=
  r_iload_n (k := 2) dX8_has_9 rfl <|
  r_aload_n (k := 0) dX8_has_10 rfl <|
  r_getI (ci := 8) (q := (RX8, TX8, 27)) (k := 10) dX8_has_11 (by decide) rfl in_X8 (by decide) (Or.inl q2151) rfl <|
  r_icmp_ge (pt := 38) dX8_has_14 (by decide)
  (r_iload_n (k := 2) dX8_has_38 rfl <|
  r_aload_n (k := 0) dX8_has_39 rfl <|
  r_getI (ci := 8) (q := (RX8, TX8, 27)) (k := 11) dX8_has_40 (by decide) rfl in_X8 (by decide) (Or.inl q2152) rfl <|
  r_isub dX8_has_43 <|
  r_aload_n (k := 1) dX8_has_44 rfl <|
  r_cV (Z := mJ5_length) (ci := 24) (q := (RJ5, TJ5, 4)) dX8_has_45 rfl (by decide +kernel) ⟨by decide, by decide⟩ (by decide) rfl rfl q2275 q767 q768 q131 q769 (XS.out (noH _)) <|
  r_icmp_eq (pt := 53) dX8_has_48 (by decide)
  (r_iconst (v := 0) dX8_has_53 rfl <|
  r_istore_n (k := 3) dX8_has_54 rfl <|
  (fun _ _ _ H => H))
  (r_iconst (v := 0) dX8_has_51 rfl <|
  r_ret rfl (Or.inl ⟨dX8_has_52, Or.inr (Or.inl rfl)⟩)))
  (r_aload_n (k := 0) dX8_has_17 rfl <|
  r_iload_n (k := 2) dX8_has_18 rfl <|
  r_cV (Z := mX8_letter) (ci := 8) (q := (RX8, TX8, 27)) dX8_has_19 rfl (by decide +kernel) ⟨by decide, by decide⟩ (by decide) rfl rfl q2254 q2256 qs55 q127 q2257 (XS.out (noH _)) <|
  r_bipush (v := 97) dX8_has_22 rfl <|
  r_bipush (v := 122) dX8_has_24 rfl <|
  r_cS (Z := mX8_isIn) dX8_has_26 rfl (by decide +kernel) ⟨by decide, by decide⟩ q2235 q2236 q127 q2237 (XS.out (noH _)) <|
  r_if_eq (pt := 38) dX8_has_29 (by decide)
  (r_iload_n (k := 2) dX8_has_38 rfl <|
  r_aload_n (k := 0) dX8_has_39 rfl <|
  r_getI (ci := 8) (q := (RX8, TX8, 27)) (k := 11) dX8_has_40 (by decide) rfl in_X8 (by decide) (Or.inl q2152) rfl <|
  r_isub dX8_has_43 <|
  r_aload_n (k := 1) dX8_has_44 rfl <|
  r_cV (Z := mJ5_length) (ci := 24) (q := (RJ5, TJ5, 4)) dX8_has_45 rfl (by decide +kernel) ⟨by decide, by decide⟩ (by decide) rfl rfl q2275 q767 q768 q131 q769 (XS.out (noH _)) <|
  r_icmp_eq (pt := 53) dX8_has_48 (by decide)
  (r_iconst (v := 0) dX8_has_53 rfl <|
  r_istore_n (k := 3) dX8_has_54 rfl <|
  (fun _ _ _ H => H))
  (r_iconst (v := 0) dX8_has_51 rfl <|
  r_ret rfl (Or.inl ⟨dX8_has_52, Or.inr (Or.inl rfl)⟩)))
  (r_iinc (v := 1) dX8_has_32 rfl <|
  r_goto (pt := 9) dX8_has_35 (by decide) <|
  (fun _ _ _ H => H)))
def tX8_has_55 (d : Nat) (Q : Outcome → MH → Prop) (J : Nat → KT) : KT :=
  i_iload 3 <|
  i_aload 1 <|
  i_call mJ5_length d 1 (pV 24) (xOut Q) <|
  i_icmp_ge
  (i_aload 0 <|
  i_iload 2 <|
  i_putI 8 11 .int <|
  i_const 1 <|
  i_ret Q (some .boolean))
  (i_aload 0 <|
  i_aload 0 <|
  i_getI 8 11 <|
  i_iload 3 <|
  i_iadd <|
  i_call mX8_letter d 2 (pV 8) (xOut Q) <|
  i_aload 1 <|
  i_iload 3 <|
  i_call mJ5_charAt d 2 (pV 24) (xOut Q) <|
  i_icmp_eq
  (i_iinc 3 1 <|
  (J 55))
  (i_const 0 <|
  i_ret Q (some .boolean)))
theorem kX8_has_55 {d : Nat} {Q : Outcome → MH → Prop} : ∀ ls st h, tX8_has_55 d Q (fun pc ls st h => WPb mX8_has d pc ls st h Q) ls st h → WPb mX8_has d 55 ls st h Q :=
  r_iload_n (k := 3) dX8_has_55 rfl <|
  r_aload_n (k := 1) dX8_has_56 rfl <|
  r_cV (Z := mJ5_length) (ci := 24) (q := (RJ5, TJ5, 4)) dX8_has_57 rfl (by decide +kernel) ⟨by decide, by decide⟩ (by decide) rfl rfl q2275 q767 q768 q131 q769 (XS.out (noH _)) <|
  r_icmp_ge (pt := 89) dX8_has_60 (by decide)
  (r_aload_n (k := 0) dX8_has_89 rfl <|
  r_iload_n (k := 2) dX8_has_90 rfl <|
  r_putI (ci := 8) (q := (RX8, TX8, 27)) (k := 11) tyX8 tyX8_ok nmX8 dX8_has_91 (by decide) rfl in_X8 (by decide) (Or.inl ⟨rfl, (Or.inl q2152)⟩) rfl rfl <|
  r_iconst (v := 1) dX8_has_94 rfl <|
  r_ret rfl (Or.inl ⟨dX8_has_95, Or.inr (Or.inl rfl)⟩))
  (r_aload_n (k := 0) dX8_has_63 rfl <|
  r_aload_n (k := 0) dX8_has_64 rfl <|
  r_getI (ci := 8) (q := (RX8, TX8, 27)) (k := 11) dX8_has_65 (by decide) rfl in_X8 (by decide) (Or.inl q2152) rfl <|
  r_iload_n (k := 3) dX8_has_68 rfl <|
  r_iadd dX8_has_69 <|
  r_cV (Z := mX8_letter) (ci := 8) (q := (RX8, TX8, 27)) dX8_has_70 rfl (by decide +kernel) ⟨by decide, by decide⟩ (by decide) rfl rfl q2254 q2256 qs55 q127 q2257 (XS.out (noH _)) <|
  r_aload_n (k := 1) dX8_has_73 rfl <|
  r_iload_n (k := 3) dX8_has_74 rfl <|
  r_cV (Z := mJ5_charAt) (ci := 24) (q := (RJ5, TJ5, 4)) dX8_has_75 rfl (by decide +kernel) ⟨by decide, by decide⟩ (by decide) rfl rfl q2276 q2277 q2278 q131 q2279 (XS.out (noH _)) <|
  r_icmp_eq (pt := 83) dX8_has_78 (by decide)
  (r_iinc (v := 1) dX8_has_83 rfl <|
  r_goto (pt := 55) dX8_has_86 (by decide) <|
  (fun _ _ _ H => H))
  (r_iconst (v := 0) dX8_has_81 rfl <|
  r_ret rfl (Or.inl ⟨dX8_has_82, Or.inr (Or.inl rfl)⟩)))
-- CheekTownModel.must(Ljava/lang/String;)V cuts [0]
def tX8_must_0 (d : Nat) (Q : Outcome → MH → Prop) (J : Nat → KT) : KT :=
  i_aload 0 <|
  i_getI 8 12 <|
  i_const (-1) <|
  i_icmp_ne
  (i_vret Q)
  (i_aload 0 <|
  i_aload 1 <|
  i_call mX8_has d 2 (pV 8) (xOut Q) <|
  i_if_ne
  (i_vret Q)
  (i_aload 0 <|
  i_aload 0 <|
  i_getI 8 11 <|
  i_call mX8_wrong d 2 (pV 8) (xOut Q) <|
  i_vret Q))
theorem kX8_must_0 {d : Nat} {Q : Outcome → MH → Prop} : ∀ ls st h, tX8_must_0 d Q (fun pc ls st h => WPb mX8_must d pc ls st h Q) ls st h → WPb mX8_must d 0 ls st h Q :=
  r_aload_n (k := 0) dX8_must_0 rfl <|
  r_getI (ci := 8) (q := (RX8, TX8, 27)) (k := 12) dX8_must_1 (by decide) rfl in_X8 (by decide) (Or.inl q2153) rfl <|
  r_iconst (v := (-1)) dX8_must_4 rfl <|
  r_icmp_ne (pt := 24) dX8_must_5 (by decide)
  (r_vret rfl dX8_must_24)
  (r_aload_n (k := 0) dX8_must_8 rfl <|
  r_aload_n (k := 1) dX8_must_9 rfl <|
  r_cV (Z := mX8_has) (ci := 8) (q := (RX8, TX8, 27)) dX8_must_10 rfl (by decide +kernel) ⟨by decide, by decide⟩ (by decide) rfl rfl q2271 q2273 qs59 q127 q2274 (XS.out (noH _)) <|
  r_if_ne (pt := 24) dX8_must_13 (by decide)
  (r_vret rfl dX8_must_24)
  (r_aload_n (k := 0) dX8_must_16 rfl <|
  r_aload_n (k := 0) dX8_must_17 rfl <|
  r_getI (ci := 8) (q := (RX8, TX8, 27)) (k := 11) dX8_must_18 (by decide) rfl in_X8 (by decide) (Or.inl q2152) rfl <|
  r_cV (Z := mX8_wrong) (ci := 8) (q := (RX8, TX8, 27)) dX8_must_21 rfl (by decide +kernel) ⟨by decide, by decide⟩ (by decide) rfl rfl q2258 q2260 qs56 q127 q2261 (XS.out (noH _)) <|
  r_vret rfl dX8_must_24))
-- CheekTownModel.figures(II)I cuts [0, 18, 89, 119]
def tX8_figures_0 (d : Nat) (Q : Outcome → MH → Prop) (J : Nat → KT) : KT :=
  i_aload 0 <|
  i_getI 8 12 <|
  i_const (-1) <|
  i_icmp_eq
  (i_aload 0 <|
  i_call mX8_place d 1 (pV 8) (xOut Q) <|
  i_istore 3 <|
  i_const 0 <|
  i_istore 4 <|
  (J 18))
  (i_const 0 <|
  i_ret Q (some .int))
theorem kX8_figures_0 {d : Nat} {Q : Outcome → MH → Prop} : ∀ ls st h, tX8_figures_0 d Q (fun pc ls st h => WPb mX8_figures d pc ls st h Q) ls st h → WPb mX8_figures d 0 ls st h Q :=
  r_aload_n (k := 0) dX8_figures_0 rfl <|
  r_getI (ci := 8) (q := (RX8, TX8, 27)) (k := 12) dX8_figures_1 (by decide) rfl in_X8 (by decide) (Or.inl q2153) rfl <|
  r_iconst (v := (-1)) dX8_figures_4 rfl <|
  r_icmp_eq (pt := 10) dX8_figures_5 (by decide)
  (r_aload_n (k := 0) dX8_figures_10 rfl <|
  r_cV (Z := mX8_place) (ci := 8) (q := (RX8, TX8, 27)) dX8_figures_11 rfl (by decide +kernel) ⟨by decide, by decide⟩ (by decide) rfl rfl q2298 q2300 qs62 q127 q2301 (XS.out (noH _)) <|
  r_istore_n (k := 3) dX8_figures_14 rfl <|
  r_iconst (v := 0) dX8_figures_15 rfl <|
  r_istore dX8_figures_16 <|
  (fun _ _ _ H => H))
  (r_iconst (v := 0) dX8_figures_8 rfl <|
  r_ret rfl (Or.inl ⟨dX8_figures_9, Or.inl rfl⟩))
def tX8_figures_18 (d : Nat) (Q : Outcome → MH → Prop) (J : Nat → KT) : KT :=
  i_aload 0 <|
  i_getI 8 11 <|
  i_aload 0 <|
  i_getI 8 10 <|
  i_icmp_ge
  ((J 89))
  (i_aload 0 <|
  i_aload 0 <|
  i_getI 8 11 <|
  i_call mX8_letter d 2 (pV 8) (xOut Q) <|
  i_const 48 <|
  i_const 57 <|
  i_call mX8_isIn d 3 pS (xOut Q) <|
  i_if_eq
  ((J 89))
  (i_aload 0 <|
  i_getI 8 11 <|
  i_iload 3 <|
  i_isub <|
  i_const 3 <|
  i_icmp_gt
  ((J 89))
  (i_const 10 <|
  i_iload 4 <|
  i_imul <|
  i_aload 0 <|
  i_aload 0 <|
  i_getI 8 11 <|
  i_call mX8_letter d 2 (pV 8) (xOut Q) <|
  i_iadd <|
  i_const 48 <|
  i_isub <|
  i_istore 4 <|
  i_aload 0 <|
  i_dup <|
  i_getI 8 11 <|
  i_const 1 <|
  i_iadd <|
  i_putI 8 11 .int <|
  (J 18))))
theorem kX8_figures_18 {d : Nat} {Q : Outcome → MH → Prop} : ∀ ls st h, tX8_figures_18 d Q (fun pc ls st h => WPb mX8_figures d pc ls st h Q) ls st h → WPb mX8_figures d 18 ls st h Q :=
  r_aload_n (k := 0) dX8_figures_18 rfl <|
  r_getI (ci := 8) (q := (RX8, TX8, 27)) (k := 11) dX8_figures_19 (by decide) rfl in_X8 (by decide) (Or.inl q2152) rfl <|
  r_aload_n (k := 0) dX8_figures_22 rfl <|
  r_getI (ci := 8) (q := (RX8, TX8, 27)) (k := 10) dX8_figures_23 (by decide) rfl in_X8 (by decide) (Or.inl q2151) rfl <|
  r_icmp_ge (pt := 89) dX8_figures_26 (by decide)
  ((fun _ _ _ H => H))
  (r_aload_n (k := 0) dX8_figures_29 rfl <|
  r_aload_n (k := 0) dX8_figures_30 rfl <|
  r_getI (ci := 8) (q := (RX8, TX8, 27)) (k := 11) dX8_figures_31 (by decide) rfl in_X8 (by decide) (Or.inl q2152) rfl <|
  r_cV (Z := mX8_letter) (ci := 8) (q := (RX8, TX8, 27)) dX8_figures_34 rfl (by decide +kernel) ⟨by decide, by decide⟩ (by decide) rfl rfl q2254 q2256 qs55 q127 q2257 (XS.out (noH _)) <|
  r_bipush (v := 48) dX8_figures_37 rfl <|
  r_bipush (v := 57) dX8_figures_39 rfl <|
  r_cS (Z := mX8_isIn) dX8_figures_41 rfl (by decide +kernel) ⟨by decide, by decide⟩ q2235 q2236 q127 q2237 (XS.out (noH _)) <|
  r_if_eq (pt := 89) dX8_figures_44 (by decide)
  ((fun _ _ _ H => H))
  (r_aload_n (k := 0) dX8_figures_47 rfl <|
  r_getI (ci := 8) (q := (RX8, TX8, 27)) (k := 11) dX8_figures_48 (by decide) rfl in_X8 (by decide) (Or.inl q2152) rfl <|
  r_iload_n (k := 3) dX8_figures_51 rfl <|
  r_isub dX8_figures_52 <|
  r_iconst (v := 3) dX8_figures_53 rfl <|
  r_icmp_gt (pt := 89) dX8_figures_54 (by decide)
  ((fun _ _ _ H => H))
  (r_bipush (v := 10) dX8_figures_57 rfl <|
  r_iload dX8_figures_59 <|
  r_imul dX8_figures_61 <|
  r_aload_n (k := 0) dX8_figures_62 rfl <|
  r_aload_n (k := 0) dX8_figures_63 rfl <|
  r_getI (ci := 8) (q := (RX8, TX8, 27)) (k := 11) dX8_figures_64 (by decide) rfl in_X8 (by decide) (Or.inl q2152) rfl <|
  r_cV (Z := mX8_letter) (ci := 8) (q := (RX8, TX8, 27)) dX8_figures_67 rfl (by decide +kernel) ⟨by decide, by decide⟩ (by decide) rfl rfl q2254 q2256 qs55 q127 q2257 (XS.out (noH _)) <|
  r_iadd dX8_figures_70 <|
  r_bipush (v := 48) dX8_figures_71 rfl <|
  r_isub dX8_figures_73 <|
  r_istore dX8_figures_74 <|
  r_aload_n (k := 0) dX8_figures_76 rfl <|
  r_dup dX8_figures_77 <|
  r_getI (ci := 8) (q := (RX8, TX8, 27)) (k := 11) dX8_figures_78 (by decide) rfl in_X8 (by decide) (Or.inl q2152) rfl <|
  r_iconst (v := 1) dX8_figures_81 rfl <|
  r_iadd dX8_figures_82 <|
  r_putI (ci := 8) (q := (RX8, TX8, 27)) (k := 11) tyX8 tyX8_ok nmX8 dX8_figures_83 (by decide) rfl in_X8 (by decide) (Or.inl ⟨rfl, (Or.inl q2152)⟩) rfl rfl <|
  r_goto (pt := 18) dX8_figures_86 (by decide) <|
  (fun _ _ _ H => H))))
def tX8_figures_89 (d : Nat) (Q : Outcome → MH → Prop) (J : Nat → KT) : KT :=
  i_aload 0 <|
  i_getI 8 11 <|
  i_iload 3 <|
  i_icmp_eq
  ((J 119))
  (i_aload 0 <|
  i_getI 8 11 <|
  i_iload 3 <|
  i_isub <|
  i_const 3 <|
  i_icmp_gt
  ((J 119))
  (i_iload 4 <|
  i_iload 1 <|
  i_icmp_lt
  ((J 119))
  (i_iload 4 <|
  i_iload 2 <|
  i_icmp_le
  (i_iload 4 <|
  i_ret Q (some .int))
  ((J 119)))))
theorem kX8_figures_89 {d : Nat} {Q : Outcome → MH → Prop} : ∀ ls st h, tX8_figures_89 d Q (fun pc ls st h => WPb mX8_figures d pc ls st h Q) ls st h → WPb mX8_figures d 89 ls st h Q :=
  r_aload_n (k := 0) dX8_figures_89 rfl <|
  r_getI (ci := 8) (q := (RX8, TX8, 27)) (k := 11) dX8_figures_90 (by decide) rfl in_X8 (by decide) (Or.inl q2152) rfl <|
  r_iload_n (k := 3) dX8_figures_93 rfl <|
  r_icmp_eq (pt := 119) dX8_figures_94 (by decide)
  ((fun _ _ _ H => H))
  (r_aload_n (k := 0) dX8_figures_97 rfl <|
  r_getI (ci := 8) (q := (RX8, TX8, 27)) (k := 11) dX8_figures_98 (by decide) rfl in_X8 (by decide) (Or.inl q2152) rfl <|
  r_iload_n (k := 3) dX8_figures_101 rfl <|
  r_isub dX8_figures_102 <|
  r_iconst (v := 3) dX8_figures_103 rfl <|
  r_icmp_gt (pt := 119) dX8_figures_104 (by decide)
  ((fun _ _ _ H => H))
  (r_iload dX8_figures_107 <|
  r_iload_n (k := 1) dX8_figures_109 rfl <|
  r_icmp_lt (pt := 119) dX8_figures_110 (by decide)
  ((fun _ _ _ H => H))
  (r_iload dX8_figures_113 <|
  r_iload_n (k := 2) dX8_figures_115 rfl <|
  r_icmp_le (pt := 124) dX8_figures_116 (by decide)
  (r_iload dX8_figures_124 <|
  r_ret rfl (Or.inl ⟨dX8_figures_126, Or.inl rfl⟩))
  ((fun _ _ _ H => H)))))
def tX8_figures_119 (d : Nat) (Q : Outcome → MH → Prop) (J : Nat → KT) : KT :=
  i_aload 0 <|
  i_iload 3 <|
  i_call mX8_wrong d 2 (pV 8) (xOut Q) <|
  i_iload 4 <|
  i_ret Q (some .int)
theorem kX8_figures_119 {d : Nat} {Q : Outcome → MH → Prop} : ∀ ls st h, tX8_figures_119 d Q (fun pc ls st h => WPb mX8_figures d pc ls st h Q) ls st h → WPb mX8_figures d 119 ls st h Q :=
  r_aload_n (k := 0) dX8_figures_119 rfl <|
  r_iload_n (k := 3) dX8_figures_120 rfl <|
  r_cV (Z := mX8_wrong) (ci := 8) (q := (RX8, TX8, 27)) dX8_figures_121 rfl (by decide +kernel) ⟨by decide, by decide⟩ (by decide) rfl rfl q2258 q2260 qs56 q127 q2261 (XS.out (noH _)) <|
  r_iload dX8_figures_124 <|
  r_ret rfl (Or.inl ⟨dX8_figures_126, Or.inl rfl⟩)
-- CheekTownModel.place()I cuts [0]
def tX8_place_0 (d : Nat) (Q : Outcome → MH → Prop) (J : Nat → KT) : KT :=
  i_aload 0 <|
  i_call mX8_skip d 1 (pV 8) (xOut Q) <|
  i_aload 0 <|
  i_getI 8 11 <|
  i_ret Q (some .int)
theorem kX8_place_0 {d : Nat} {Q : Outcome → MH → Prop} : ∀ ls st h, tX8_place_0 d Q (fun pc ls st h => WPb mX8_place d pc ls st h Q) ls st h → WPb mX8_place d 0 ls st h Q :=
  r_aload_n (k := 0) dX8_place_0 rfl <|
  r_cV (Z := mX8_skip) (ci := 8) (q := (RX8, TX8, 27)) dX8_place_1 rfl (by decide +kernel) ⟨by decide, by decide⟩ (by decide) rfl rfl q2250 q2252 qs54 q127 q2253 (XS.out (noH _)) <|
  r_aload_n (k := 0) dX8_place_4 rfl <|
  r_getI (ci := 8) (q := (RX8, TX8, 27)) (k := 11) dX8_place_5 (by decide) rfl in_X8 (by decide) (Or.inl q2152) rfl <|
  r_ret rfl (Or.inl ⟨dX8_place_8, Or.inl rfl⟩)
-- CheekTownModel.some()Z cuts [0, 5]
def tX8_some_0 (d : Nat) (Q : Outcome → MH → Prop) (J : Nat → KT) : KT :=
  i_aload 0 <|
  i_call mX8_every d 1 (pV 8) (xOut Q) <|
  i_istore 1 <|
  (J 5)
theorem kX8_some_0 {d : Nat} {Q : Outcome → MH → Prop} : ∀ ls st h, tX8_some_0 d Q (fun pc ls st h => WPb mX8_some d pc ls st h Q) ls st h → WPb mX8_some d 0 ls st h Q :=
  r_aload_n (k := 0) dX8_some_0 rfl <|
  r_cV (Z := mX8_every) (ci := 8) (q := (RX8, TX8, 27)) dX8_some_1 rfl (by decide +kernel) ⟨by decide, by decide⟩ (by decide) rfl rfl q2309 q2311 qs64 q127 q2312 (XS.out (noH _)) <|
  r_istore_n (k := 1) dX8_some_4 rfl <|
  (fun _ _ _ H => H)
def tX8_some_5 (d : Nat) (Q : Outcome → MH → Prop) (J : Nat → KT) : KT :=
  i_aload 0 <|
  i_getI 8 12 <|
  i_const (-1) <|
  i_icmp_ne
  (i_iload 1 <|
  i_ret Q (some .boolean))
  (i_aload 0 <|
  i_ldcS 62 <|
  i_call mX8_has d 2 (pV 8) (xOut Q) <|
  i_if_eq
  (i_iload 1 <|
  i_ret Q (some .boolean))
  (i_aload 0 <|
  i_call mX8_every d 1 (pV 8) (xOut Q) <|
  i_istore 2 <|
  i_iload 1 <|
  i_if_ne
  (i_const 1 <|
  i_istore 1 <|
  (J 5))
  (i_iload 2 <|
  i_if_eq
  (i_const 0 <|
  i_istore 1 <|
  (J 5))
  (i_const 1 <|
  i_istore 1 <|
  (J 5)))))
theorem kX8_some_5 {d : Nat} {Q : Outcome → MH → Prop} : ∀ ls st h, tX8_some_5 d Q (fun pc ls st h => WPb mX8_some d pc ls st h Q) ls st h → WPb mX8_some d 5 ls st h Q :=
  r_aload_n (k := 0) dX8_some_5 rfl <|
  r_getI (ci := 8) (q := (RX8, TX8, 27)) (k := 12) dX8_some_6 (by decide) rfl in_X8 (by decide) (Or.inl q2153) rfl <|
  r_iconst (v := (-1)) dX8_some_9 rfl <|
  r_icmp_ne (pt := 44) dX8_some_10 (by decide)
  (r_iload_n (k := 1) dX8_some_44 rfl <|
  r_ret rfl (Or.inl ⟨dX8_some_45, Or.inr (Or.inl rfl)⟩))
  (r_aload_n (k := 0) dX8_some_13 rfl <|
  r_ldcS (a := 62) (tx := "or") dX8_some_14 (by decide +kernel) (by decide) <|
  r_cV (Z := mX8_has) (ci := 8) (q := (RX8, TX8, 27)) dX8_some_16 rfl (by decide +kernel) ⟨by decide, by decide⟩ (by decide) rfl rfl q2271 q2273 qs59 q127 q2274 (XS.out (noH _)) <|
  r_if_eq (pt := 44) dX8_some_19 (by decide)
  (r_iload_n (k := 1) dX8_some_44 rfl <|
  r_ret rfl (Or.inl ⟨dX8_some_45, Or.inr (Or.inl rfl)⟩))
  (r_aload_n (k := 0) dX8_some_22 rfl <|
  r_cV (Z := mX8_every) (ci := 8) (q := (RX8, TX8, 27)) dX8_some_23 rfl (by decide +kernel) ⟨by decide, by decide⟩ (by decide) rfl rfl q2309 q2311 qs64 q127 q2312 (XS.out (noH _)) <|
  r_istore_n (k := 2) dX8_some_26 rfl <|
  r_iload_n (k := 1) dX8_some_27 rfl <|
  r_if_ne (pt := 35) dX8_some_28 (by decide)
  (r_iconst (v := 1) dX8_some_35 rfl <|
  r_goto (pt := 40) dX8_some_36 (by decide) <|
  r_istore_n (k := 1) dX8_some_40 rfl <|
  r_goto (pt := 5) dX8_some_41 (by decide) <|
  (fun _ _ _ H => H))
  (r_iload_n (k := 2) dX8_some_31 rfl <|
  r_if_eq (pt := 39) dX8_some_32 (by decide)
  (r_iconst (v := 0) dX8_some_39 rfl <|
  r_istore_n (k := 1) dX8_some_40 rfl <|
  r_goto (pt := 5) dX8_some_41 (by decide) <|
  (fun _ _ _ H => H))
  (r_iconst (v := 1) dX8_some_35 rfl <|
  r_goto (pt := 40) dX8_some_36 (by decide) <|
  r_istore_n (k := 1) dX8_some_40 rfl <|
  r_goto (pt := 5) dX8_some_41 (by decide) <|
  (fun _ _ _ H => H)))))
-- CheekTownModel.every()Z cuts [0, 5]
def tX8_every_0 (d : Nat) (Q : Outcome → MH → Prop) (J : Nat → KT) : KT :=
  i_aload 0 <|
  i_call mX8_atom d 1 (pV 8) (xOut Q) <|
  i_istore 1 <|
  (J 5)
theorem kX8_every_0 {d : Nat} {Q : Outcome → MH → Prop} : ∀ ls st h, tX8_every_0 d Q (fun pc ls st h => WPb mX8_every d pc ls st h Q) ls st h → WPb mX8_every d 0 ls st h Q :=
  r_aload_n (k := 0) dX8_every_0 rfl <|
  r_cV (Z := mX8_atom) (ci := 8) (q := (RX8, TX8, 27)) dX8_every_1 rfl (by decide +kernel) ⟨by decide, by decide⟩ (by decide) rfl rfl q2313 q2315 qs65 q127 q2316 (XS.out (noH _)) <|
  r_istore_n (k := 1) dX8_every_4 rfl <|
  (fun _ _ _ H => H)
def tX8_every_5 (d : Nat) (Q : Outcome → MH → Prop) (J : Nat → KT) : KT :=
  i_aload 0 <|
  i_getI 8 12 <|
  i_const (-1) <|
  i_icmp_ne
  (i_iload 1 <|
  i_ret Q (some .boolean))
  (i_aload 0 <|
  i_ldcS 60 <|
  i_call mX8_has d 2 (pV 8) (xOut Q) <|
  i_if_eq
  (i_iload 1 <|
  i_ret Q (some .boolean))
  (i_aload 0 <|
  i_call mX8_atom d 1 (pV 8) (xOut Q) <|
  i_istore 2 <|
  i_iload 1 <|
  i_if_eq
  (i_const 0 <|
  i_istore 1 <|
  (J 5))
  (i_iload 2 <|
  i_if_eq
  (i_const 0 <|
  i_istore 1 <|
  (J 5))
  (i_const 1 <|
  i_istore 1 <|
  (J 5)))))
theorem kX8_every_5 {d : Nat} {Q : Outcome → MH → Prop} : ∀ ls st h, tX8_every_5 d Q (fun pc ls st h => WPb mX8_every d pc ls st h Q) ls st h → WPb mX8_every d 5 ls st h Q :=
  r_aload_n (k := 0) dX8_every_5 rfl <|
  r_getI (ci := 8) (q := (RX8, TX8, 27)) (k := 12) dX8_every_6 (by decide) rfl in_X8 (by decide) (Or.inl q2153) rfl <|
  r_iconst (v := (-1)) dX8_every_9 rfl <|
  r_icmp_ne (pt := 44) dX8_every_10 (by decide)
  (r_iload_n (k := 1) dX8_every_44 rfl <|
  r_ret rfl (Or.inl ⟨dX8_every_45, Or.inr (Or.inl rfl)⟩))
  (r_aload_n (k := 0) dX8_every_13 rfl <|
  r_ldcS (a := 60) (tx := "and") dX8_every_14 (by decide +kernel) (by decide) <|
  r_cV (Z := mX8_has) (ci := 8) (q := (RX8, TX8, 27)) dX8_every_16 rfl (by decide +kernel) ⟨by decide, by decide⟩ (by decide) rfl rfl q2271 q2273 qs59 q127 q2274 (XS.out (noH _)) <|
  r_if_eq (pt := 44) dX8_every_19 (by decide)
  (r_iload_n (k := 1) dX8_every_44 rfl <|
  r_ret rfl (Or.inl ⟨dX8_every_45, Or.inr (Or.inl rfl)⟩))
  (r_aload_n (k := 0) dX8_every_22 rfl <|
  r_cV (Z := mX8_atom) (ci := 8) (q := (RX8, TX8, 27)) dX8_every_23 rfl (by decide +kernel) ⟨by decide, by decide⟩ (by decide) rfl rfl q2313 q2315 qs65 q127 q2316 (XS.out (noH _)) <|
  r_istore_n (k := 2) dX8_every_26 rfl <|
  r_iload_n (k := 1) dX8_every_27 rfl <|
  r_if_eq (pt := 39) dX8_every_28 (by decide)
  (r_iconst (v := 0) dX8_every_39 rfl <|
  r_istore_n (k := 1) dX8_every_40 rfl <|
  r_goto (pt := 5) dX8_every_41 (by decide) <|
  (fun _ _ _ H => H))
  (r_iload_n (k := 2) dX8_every_31 rfl <|
  r_if_eq (pt := 39) dX8_every_32 (by decide)
  (r_iconst (v := 0) dX8_every_39 rfl <|
  r_istore_n (k := 1) dX8_every_40 rfl <|
  r_goto (pt := 5) dX8_every_41 (by decide) <|
  (fun _ _ _ H => H))
  (r_iconst (v := 1) dX8_every_35 rfl <|
  r_goto (pt := 40) dX8_every_36 (by decide) <|
  r_istore_n (k := 1) dX8_every_40 rfl <|
  r_goto (pt := 5) dX8_every_41 (by decide) <|
  (fun _ _ _ H => H)))))
-- CheekTownModel.atom()Z cuts [0, 40, 128]
def tX8_atom_0 (d : Nat) (Q : Outcome → MH → Prop) (J : Nat → KT) : KT :=
  i_aload 0 <|
  i_getI 8 12 <|
  i_const (-1) <|
  i_icmp_eq
  (i_aload 0 <|
  i_call mX8_place d 1 (pV 8) (xOut Q) <|
  i_istore 1 <|
  i_aload 0 <|
  i_ldcS 56 <|
  i_call mX8_has d 2 (pV 8) (xOut Q) <|
  i_istore 2 <|
  i_iload 2 <|
  i_if_ne
  ((J 40))
  (i_aload 0 <|
  i_const 40 <|
  i_call mX8_isSign d 2 (pV 8) (xOut Q) <|
  i_if_ne
  ((J 40))
  (i_aload 0 <|
  i_call mX8_plain d 1 (pV 8) (xOut Q) <|
  i_ret Q (some .boolean))))
  (i_const 0 <|
  i_ret Q (some .boolean))
theorem kX8_atom_0 {d : Nat} {Q : Outcome → MH → Prop} : ∀ ls st h, tX8_atom_0 d Q (fun pc ls st h => WPb mX8_atom d pc ls st h Q) ls st h → WPb mX8_atom d 0 ls st h Q :=
  r_aload_n (k := 0) dX8_atom_0 rfl <|
  r_getI (ci := 8) (q := (RX8, TX8, 27)) (k := 12) dX8_atom_1 (by decide) rfl in_X8 (by decide) (Or.inl q2153) rfl <|
  r_iconst (v := (-1)) dX8_atom_4 rfl <|
  r_icmp_eq (pt := 10) dX8_atom_5 (by decide)
  (r_aload_n (k := 0) dX8_atom_10 rfl <|
  r_cV (Z := mX8_place) (ci := 8) (q := (RX8, TX8, 27)) dX8_atom_11 rfl (by decide +kernel) ⟨by decide, by decide⟩ (by decide) rfl rfl q2298 q2300 qs62 q127 q2301 (XS.out (noH _)) <|
  r_istore_n (k := 1) dX8_atom_14 rfl <|
  r_aload_n (k := 0) dX8_atom_15 rfl <|
  r_ldcS (a := 56) (tx := "not") dX8_atom_16 (by decide +kernel) (by decide) <|
  r_cV (Z := mX8_has) (ci := 8) (q := (RX8, TX8, 27)) dX8_atom_18 rfl (by decide +kernel) ⟨by decide, by decide⟩ (by decide) rfl rfl q2271 q2273 qs59 q127 q2274 (XS.out (noH _)) <|
  r_istore_n (k := 2) dX8_atom_21 rfl <|
  r_iload_n (k := 2) dX8_atom_22 rfl <|
  r_if_ne (pt := 40) dX8_atom_23 (by decide)
  ((fun _ _ _ H => H))
  (r_aload_n (k := 0) dX8_atom_26 rfl <|
  r_bipush (v := 40) dX8_atom_27 rfl <|
  r_cV (Z := mX8_isSign) (ci := 8) (q := (RX8, TX8, 27)) dX8_atom_29 rfl (by decide +kernel) ⟨by decide, by decide⟩ (by decide) rfl rfl q2318 q2320 qs66 q127 q2321 (XS.out (noH _)) <|
  r_if_ne (pt := 40) dX8_atom_32 (by decide)
  ((fun _ _ _ H => H))
  (r_aload_n (k := 0) dX8_atom_35 rfl <|
  r_cV (Z := mX8_plain) (ci := 8) (q := (RX8, TX8, 27)) dX8_atom_36 rfl (by decide +kernel) ⟨by decide, by decide⟩ (by decide) rfl rfl q2322 q2324 qs67 q127 q2325 (XS.out (noH _)) <|
  r_ret rfl (Or.inl ⟨dX8_atom_39, Or.inr (Or.inl rfl)⟩))))
  (r_iconst (v := 0) dX8_atom_8 rfl <|
  r_ret rfl (Or.inl ⟨dX8_atom_9, Or.inr (Or.inl rfl)⟩))
def tX8_atom_40 (d : Nat) (Q : Outcome → MH → Prop) (J : Nat → KT) : KT :=
  i_aload 0 <|
  i_getI 8 13 <|
  i_const 6 <|
  i_icmp_ne
  (i_aload 0 <|
  i_dup <|
  i_getI 8 13 <|
  i_const 1 <|
  i_iadd <|
  i_putI 8 13 .int <|
  i_const 0 <|
  i_istore 3 <|
  i_iload 2 <|
  i_if_eq
  (i_aload 0 <|
  i_dup <|
  i_getI 8 11 <|
  i_const 1 <|
  i_iadd <|
  i_putI 8 11 .int <|
  i_aload 0 <|
  i_call mX8_some d 1 (pV 8) (xOut Q) <|
  i_istore 3 <|
  i_aload 0 <|
  i_getI 8 12 <|
  i_const (-1) <|
  i_icmp_ne
  ((J 128))
  (i_aload 0 <|
  i_const 41 <|
  i_call mX8_isSign d 2 (pV 8) (xOut Q) <|
  i_if_ne
  ((J 128))
  (i_aload 0 <|
  i_aload 0 <|
  i_getI 8 11 <|
  i_call mX8_wrong d 2 (pV 8) (xOut Q) <|
  (J 128))))
  (i_aload 0 <|
  i_call mX8_atom d 1 (pV 8) (xOut Q) <|
  i_if_ne
  (i_const 0 <|
  i_istore 3 <|
  i_aload 0 <|
  i_dup <|
  i_getI 8 13 <|
  i_const 1 <|
  i_isub <|
  i_putI 8 13 .int <|
  i_iload 3 <|
  i_ret Q (some .boolean))
  (i_const 1 <|
  i_istore 3 <|
  i_aload 0 <|
  i_dup <|
  i_getI 8 13 <|
  i_const 1 <|
  i_isub <|
  i_putI 8 13 .int <|
  i_iload 3 <|
  i_ret Q (some .boolean))))
  (i_aload 0 <|
  i_iload 1 <|
  i_call mX8_wrong d 2 (pV 8) (xOut Q) <|
  i_const 0 <|
  i_ret Q (some .boolean))
theorem kX8_atom_40 {d : Nat} {Q : Outcome → MH → Prop} : ∀ ls st h, tX8_atom_40 d Q (fun pc ls st h => WPb mX8_atom d pc ls st h Q) ls st h → WPb mX8_atom d 40 ls st h Q :=
  r_aload_n (k := 0) dX8_atom_40 rfl <|
  r_getI (ci := 8) (q := (RX8, TX8, 27)) (k := 13) dX8_atom_41 (by decide) rfl in_X8 (by decide) (Or.inl q2154) rfl <|
  r_bipush (v := 6) dX8_atom_44 rfl <|
  r_icmp_ne (pt := 56) dX8_atom_46 (by decide)
  (r_aload_n (k := 0) dX8_atom_56 rfl <|
  r_dup dX8_atom_57 <|
  r_getI (ci := 8) (q := (RX8, TX8, 27)) (k := 13) dX8_atom_58 (by decide) rfl in_X8 (by decide) (Or.inl q2154) rfl <|
  r_iconst (v := 1) dX8_atom_61 rfl <|
  r_iadd dX8_atom_62 <|
  r_putI (ci := 8) (q := (RX8, TX8, 27)) (k := 13) tyX8 tyX8_ok nmX8 dX8_atom_63 (by decide) rfl in_X8 (by decide) (Or.inl ⟨rfl, (Or.inl q2154)⟩) rfl rfl <|
  r_iconst (v := 0) dX8_atom_66 rfl <|
  r_istore_n (k := 3) dX8_atom_67 rfl <|
  r_iload_n (k := 2) dX8_atom_68 rfl <|
  r_if_eq (pt := 88) dX8_atom_69 (by decide)
  (r_aload_n (k := 0) dX8_atom_88 rfl <|
  r_dup dX8_atom_89 <|
  r_getI (ci := 8) (q := (RX8, TX8, 27)) (k := 11) dX8_atom_90 (by decide) rfl in_X8 (by decide) (Or.inl q2152) rfl <|
  r_iconst (v := 1) dX8_atom_93 rfl <|
  r_iadd dX8_atom_94 <|
  r_putI (ci := 8) (q := (RX8, TX8, 27)) (k := 11) tyX8 tyX8_ok nmX8 dX8_atom_95 (by decide) rfl in_X8 (by decide) (Or.inl ⟨rfl, (Or.inl q2152)⟩) rfl rfl <|
  r_aload_n (k := 0) dX8_atom_98 rfl <|
  r_cV (Z := mX8_some) (ci := 8) (q := (RX8, TX8, 27)) dX8_atom_99 rfl (by decide +kernel) ⟨by decide, by decide⟩ (by decide) rfl rfl q2305 q2307 qs63 q127 q2308 (XS.out (noH _)) <|
  r_istore_n (k := 3) dX8_atom_102 rfl <|
  r_aload_n (k := 0) dX8_atom_103 rfl <|
  r_getI (ci := 8) (q := (RX8, TX8, 27)) (k := 12) dX8_atom_104 (by decide) rfl in_X8 (by decide) (Or.inl q2153) rfl <|
  r_iconst (v := (-1)) dX8_atom_107 rfl <|
  r_icmp_ne (pt := 128) dX8_atom_108 (by decide)
  ((fun _ _ _ H => H))
  (r_aload_n (k := 0) dX8_atom_111 rfl <|
  r_bipush (v := 41) dX8_atom_112 rfl <|
  r_cV (Z := mX8_isSign) (ci := 8) (q := (RX8, TX8, 27)) dX8_atom_114 rfl (by decide +kernel) ⟨by decide, by decide⟩ (by decide) rfl rfl q2318 q2320 qs66 q127 q2321 (XS.out (noH _)) <|
  r_if_ne (pt := 128) dX8_atom_117 (by decide)
  ((fun _ _ _ H => H))
  (r_aload_n (k := 0) dX8_atom_120 rfl <|
  r_aload_n (k := 0) dX8_atom_121 rfl <|
  r_getI (ci := 8) (q := (RX8, TX8, 27)) (k := 11) dX8_atom_122 (by decide) rfl in_X8 (by decide) (Or.inl q2152) rfl <|
  r_cV (Z := mX8_wrong) (ci := 8) (q := (RX8, TX8, 27)) dX8_atom_125 rfl (by decide +kernel) ⟨by decide, by decide⟩ (by decide) rfl rfl q2258 q2260 qs56 q127 q2261 (XS.out (noH _)) <|
  (fun _ _ _ H => H))))
  (r_aload_n (k := 0) dX8_atom_72 rfl <|
  r_cV (Z := mX8_atom) (ci := 8) (q := (RX8, TX8, 27)) dX8_atom_73 rfl (by decide +kernel) ⟨by decide, by decide⟩ (by decide) rfl rfl q2313 q2315 qs65 q127 q2316 (XS.out (noH _)) <|
  r_if_ne (pt := 83) dX8_atom_76 (by decide)
  (r_iconst (v := 0) dX8_atom_83 rfl <|
  r_istore_n (k := 3) dX8_atom_84 rfl <|
  r_goto (pt := 138) dX8_atom_85 (by decide) <|
  r_aload_n (k := 0) dX8_atom_138 rfl <|
  r_dup dX8_atom_139 <|
  r_getI (ci := 8) (q := (RX8, TX8, 27)) (k := 13) dX8_atom_140 (by decide) rfl in_X8 (by decide) (Or.inl q2154) rfl <|
  r_iconst (v := 1) dX8_atom_143 rfl <|
  r_isub dX8_atom_144 <|
  r_putI (ci := 8) (q := (RX8, TX8, 27)) (k := 13) tyX8 tyX8_ok nmX8 dX8_atom_145 (by decide) rfl in_X8 (by decide) (Or.inl ⟨rfl, (Or.inl q2154)⟩) rfl rfl <|
  r_iload_n (k := 3) dX8_atom_148 rfl <|
  r_ret rfl (Or.inl ⟨dX8_atom_149, Or.inr (Or.inl rfl)⟩))
  (r_iconst (v := 1) dX8_atom_79 rfl <|
  r_goto (pt := 84) dX8_atom_80 (by decide) <|
  r_istore_n (k := 3) dX8_atom_84 rfl <|
  r_goto (pt := 138) dX8_atom_85 (by decide) <|
  r_aload_n (k := 0) dX8_atom_138 rfl <|
  r_dup dX8_atom_139 <|
  r_getI (ci := 8) (q := (RX8, TX8, 27)) (k := 13) dX8_atom_140 (by decide) rfl in_X8 (by decide) (Or.inl q2154) rfl <|
  r_iconst (v := 1) dX8_atom_143 rfl <|
  r_isub dX8_atom_144 <|
  r_putI (ci := 8) (q := (RX8, TX8, 27)) (k := 13) tyX8 tyX8_ok nmX8 dX8_atom_145 (by decide) rfl in_X8 (by decide) (Or.inl ⟨rfl, (Or.inl q2154)⟩) rfl rfl <|
  r_iload_n (k := 3) dX8_atom_148 rfl <|
  r_ret rfl (Or.inl ⟨dX8_atom_149, Or.inr (Or.inl rfl)⟩))))
  (r_aload_n (k := 0) dX8_atom_49 rfl <|
  r_iload_n (k := 1) dX8_atom_50 rfl <|
  r_cV (Z := mX8_wrong) (ci := 8) (q := (RX8, TX8, 27)) dX8_atom_51 rfl (by decide +kernel) ⟨by decide, by decide⟩ (by decide) rfl rfl q2258 q2260 qs56 q127 q2261 (XS.out (noH _)) <|
  r_iconst (v := 0) dX8_atom_54 rfl <|
  r_ret rfl (Or.inl ⟨dX8_atom_55, Or.inr (Or.inl rfl)⟩))
def tX8_atom_128 (d : Nat) (Q : Outcome → MH → Prop) (J : Nat → KT) : KT :=
  i_aload 0 <|
  i_dup <|
  i_getI 8 11 <|
  i_const 1 <|
  i_iadd <|
  i_putI 8 11 .int <|
  i_aload 0 <|
  i_dup <|
  i_getI 8 13 <|
  i_const 1 <|
  i_isub <|
  i_putI 8 13 .int <|
  i_iload 3 <|
  i_ret Q (some .boolean)
theorem kX8_atom_128 {d : Nat} {Q : Outcome → MH → Prop} : ∀ ls st h, tX8_atom_128 d Q (fun pc ls st h => WPb mX8_atom d pc ls st h Q) ls st h → WPb mX8_atom d 128 ls st h Q :=
  r_aload_n (k := 0) dX8_atom_128 rfl <|
  r_dup dX8_atom_129 <|
  r_getI (ci := 8) (q := (RX8, TX8, 27)) (k := 11) dX8_atom_130 (by decide) rfl in_X8 (by decide) (Or.inl q2152) rfl <|
  r_iconst (v := 1) dX8_atom_133 rfl <|
  r_iadd dX8_atom_134 <|
  r_putI (ci := 8) (q := (RX8, TX8, 27)) (k := 11) tyX8 tyX8_ok nmX8 dX8_atom_135 (by decide) rfl in_X8 (by decide) (Or.inl ⟨rfl, (Or.inl q2152)⟩) rfl rfl <|
  r_aload_n (k := 0) dX8_atom_138 rfl <|
  r_dup dX8_atom_139 <|
  r_getI (ci := 8) (q := (RX8, TX8, 27)) (k := 13) dX8_atom_140 (by decide) rfl in_X8 (by decide) (Or.inl q2154) rfl <|
  r_iconst (v := 1) dX8_atom_143 rfl <|
  r_isub dX8_atom_144 <|
  r_putI (ci := 8) (q := (RX8, TX8, 27)) (k := 13) tyX8 tyX8_ok nmX8 dX8_atom_145 (by decide) rfl in_X8 (by decide) (Or.inl ⟨rfl, (Or.inl q2154)⟩) rfl rfl <|
  r_iload_n (k := 3) dX8_atom_148 rfl <|
  r_ret rfl (Or.inl ⟨dX8_atom_149, Or.inr (Or.inl rfl)⟩)
-- CheekTownModel.isSign(I)Z cuts [0]
def tX8_isSign_0 (d : Nat) (Q : Outcome → MH → Prop) (J : Nat → KT) : KT :=
  i_aload 0 <|
  i_call mX8_skip d 1 (pV 8) (xOut Q) <|
  i_aload 0 <|
  i_getI 8 11 <|
  i_aload 0 <|
  i_getI 8 10 <|
  i_icmp_ge
  (i_const 0 <|
  i_ret Q (some .boolean))
  (i_aload 0 <|
  i_aload 0 <|
  i_getI 8 11 <|
  i_call mX8_letter d 2 (pV 8) (xOut Q) <|
  i_iload 1 <|
  i_icmp_ne
  (i_const 0 <|
  i_ret Q (some .boolean))
  (i_const 1 <|
  i_ret Q (some .boolean)))
theorem kX8_isSign_0 {d : Nat} {Q : Outcome → MH → Prop} : ∀ ls st h, tX8_isSign_0 d Q (fun pc ls st h => WPb mX8_isSign d pc ls st h Q) ls st h → WPb mX8_isSign d 0 ls st h Q :=
  r_aload_n (k := 0) dX8_isSign_0 rfl <|
  r_cV (Z := mX8_skip) (ci := 8) (q := (RX8, TX8, 27)) dX8_isSign_1 rfl (by decide +kernel) ⟨by decide, by decide⟩ (by decide) rfl rfl q2250 q2252 qs54 q127 q2253 (XS.out (noH _)) <|
  r_aload_n (k := 0) dX8_isSign_4 rfl <|
  r_getI (ci := 8) (q := (RX8, TX8, 27)) (k := 11) dX8_isSign_5 (by decide) rfl in_X8 (by decide) (Or.inl q2152) rfl <|
  r_aload_n (k := 0) dX8_isSign_8 rfl <|
  r_getI (ci := 8) (q := (RX8, TX8, 27)) (k := 10) dX8_isSign_9 (by decide) rfl in_X8 (by decide) (Or.inl q2151) rfl <|
  r_icmp_ge (pt := 31) dX8_isSign_12 (by decide)
  (r_iconst (v := 0) dX8_isSign_31 rfl <|
  r_ret rfl (Or.inl ⟨dX8_isSign_32, Or.inr (Or.inl rfl)⟩))
  (r_aload_n (k := 0) dX8_isSign_15 rfl <|
  r_aload_n (k := 0) dX8_isSign_16 rfl <|
  r_getI (ci := 8) (q := (RX8, TX8, 27)) (k := 11) dX8_isSign_17 (by decide) rfl in_X8 (by decide) (Or.inl q2152) rfl <|
  r_cV (Z := mX8_letter) (ci := 8) (q := (RX8, TX8, 27)) dX8_isSign_20 rfl (by decide +kernel) ⟨by decide, by decide⟩ (by decide) rfl rfl q2254 q2256 qs55 q127 q2257 (XS.out (noH _)) <|
  r_iload_n (k := 1) dX8_isSign_23 rfl <|
  r_icmp_ne (pt := 31) dX8_isSign_24 (by decide)
  (r_iconst (v := 0) dX8_isSign_31 rfl <|
  r_ret rfl (Or.inl ⟨dX8_isSign_32, Or.inr (Or.inl rfl)⟩))
  (r_iconst (v := 1) dX8_isSign_27 rfl <|
  r_goto (pt := 32) dX8_isSign_28 (by decide) <|
  r_ret rfl (Or.inl ⟨dX8_isSign_32, Or.inr (Or.inl rfl)⟩)))
-- CheekTownModel.plain()Z cuts [0, 73]
def tX8_plain_0 (d : Nat) (Q : Outcome → MH → Prop) (J : Nat → KT) : KT :=
  i_aload 0 <|
  i_ldcS 58 <|
  i_call mX8_has d 2 (pV 8) (xOut Q) <|
  i_if_eq
  (i_aload 0 <|
  i_ldcS 46 <|
  i_call mX8_has d 2 (pV 8) (xOut Q) <|
  i_if_eq
  (i_aload 0 <|
  i_call mX8_sum d 1 (pV 8) (xOut Q) <|
  i_istore 1 <|
  i_aload 0 <|
  i_getI 8 12 <|
  i_const (-1) <|
  i_icmp_eq
  (i_aload 0 <|
  i_const 60 <|
  i_call mX8_isSign d 2 (pV 8) (xOut Q) <|
  i_istore 2 <|
  i_iload 2 <|
  i_if_ne
  ((J 73))
  (i_aload 0 <|
  i_const 62 <|
  i_call mX8_isSign d 2 (pV 8) (xOut Q) <|
  i_if_ne
  ((J 73))
  (i_aload 0 <|
  i_aload 0 <|
  i_getI 8 11 <|
  i_call mX8_wrong d 2 (pV 8) (xOut Q) <|
  i_const 0 <|
  i_ret Q (some .boolean))))
  (i_const 0 <|
  i_ret Q (some .boolean)))
  (i_aload 0 <|
  i_getI 8 16 <|
  i_ret Q (some .boolean)))
  (i_aload 0 <|
  i_getI 8 15 <|
  i_ret Q (some .boolean))
theorem kX8_plain_0 {d : Nat} {Q : Outcome → MH → Prop} : ∀ ls st h, tX8_plain_0 d Q (fun pc ls st h => WPb mX8_plain d pc ls st h Q) ls st h → WPb mX8_plain d 0 ls st h Q :=
  r_aload_n (k := 0) dX8_plain_0 rfl <|
  r_ldcS (a := 58) (tx := "same") dX8_plain_1 (by decide +kernel) (by decide) <|
  r_cV (Z := mX8_has) (ci := 8) (q := (RX8, TX8, 27)) dX8_plain_3 rfl (by decide +kernel) ⟨by decide, by decide⟩ (by decide) rfl rfl q2271 q2273 qs59 q127 q2274 (XS.out (noH _)) <|
  r_if_eq (pt := 14) dX8_plain_6 (by decide)
  (r_aload_n (k := 0) dX8_plain_14 rfl <|
  r_ldcS (a := 46) (tx := "cold") dX8_plain_15 (by decide +kernel) (by decide) <|
  r_cV (Z := mX8_has) (ci := 8) (q := (RX8, TX8, 27)) dX8_plain_17 rfl (by decide +kernel) ⟨by decide, by decide⟩ (by decide) rfl rfl q2271 q2273 qs59 q127 q2274 (XS.out (noH _)) <|
  r_if_eq (pt := 28) dX8_plain_20 (by decide)
  (r_aload_n (k := 0) dX8_plain_28 rfl <|
  r_cV (Z := mX8_sum) (ci := 8) (q := (RX8, TX8, 27)) dX8_plain_29 rfl (by decide +kernel) ⟨by decide, by decide⟩ (by decide) rfl rfl q2328 q2330 qs68 q127 q2331 (XS.out (noH _)) <|
  r_istore_n (k := 1) dX8_plain_32 rfl <|
  r_aload_n (k := 0) dX8_plain_33 rfl <|
  r_getI (ci := 8) (q := (RX8, TX8, 27)) (k := 12) dX8_plain_34 (by decide) rfl in_X8 (by decide) (Or.inl q2153) rfl <|
  r_iconst (v := (-1)) dX8_plain_37 rfl <|
  r_icmp_eq (pt := 43) dX8_plain_38 (by decide)
  (r_aload_n (k := 0) dX8_plain_43 rfl <|
  r_bipush (v := 60) dX8_plain_44 rfl <|
  r_cV (Z := mX8_isSign) (ci := 8) (q := (RX8, TX8, 27)) dX8_plain_46 rfl (by decide +kernel) ⟨by decide, by decide⟩ (by decide) rfl rfl q2318 q2320 qs66 q127 q2321 (XS.out (noH _)) <|
  r_istore_n (k := 2) dX8_plain_49 rfl <|
  r_iload_n (k := 2) dX8_plain_50 rfl <|
  r_if_ne (pt := 73) dX8_plain_51 (by decide)
  ((fun _ _ _ H => H))
  (r_aload_n (k := 0) dX8_plain_54 rfl <|
  r_bipush (v := 62) dX8_plain_55 rfl <|
  r_cV (Z := mX8_isSign) (ci := 8) (q := (RX8, TX8, 27)) dX8_plain_57 rfl (by decide +kernel) ⟨by decide, by decide⟩ (by decide) rfl rfl q2318 q2320 qs66 q127 q2321 (XS.out (noH _)) <|
  r_if_ne (pt := 73) dX8_plain_60 (by decide)
  ((fun _ _ _ H => H))
  (r_aload_n (k := 0) dX8_plain_63 rfl <|
  r_aload_n (k := 0) dX8_plain_64 rfl <|
  r_getI (ci := 8) (q := (RX8, TX8, 27)) (k := 11) dX8_plain_65 (by decide) rfl in_X8 (by decide) (Or.inl q2152) rfl <|
  r_cV (Z := mX8_wrong) (ci := 8) (q := (RX8, TX8, 27)) dX8_plain_68 rfl (by decide +kernel) ⟨by decide, by decide⟩ (by decide) rfl rfl q2258 q2260 qs56 q127 q2261 (XS.out (noH _)) <|
  r_iconst (v := 0) dX8_plain_71 rfl <|
  r_ret rfl (Or.inl ⟨dX8_plain_72, Or.inr (Or.inl rfl)⟩))))
  (r_iconst (v := 0) dX8_plain_41 rfl <|
  r_ret rfl (Or.inl ⟨dX8_plain_42, Or.inr (Or.inl rfl)⟩)))
  (r_aload_n (k := 0) dX8_plain_23 rfl <|
  r_getI (ci := 8) (q := (RX8, TX8, 27)) (k := 16) dX8_plain_24 (by decide) rfl in_X8 (by decide) (Or.inl q2157) rfl <|
  r_ret rfl (Or.inl ⟨dX8_plain_27, Or.inr (Or.inl rfl)⟩)))
  (r_aload_n (k := 0) dX8_plain_9 rfl <|
  r_getI (ci := 8) (q := (RX8, TX8, 27)) (k := 15) dX8_plain_10 (by decide) rfl in_X8 (by decide) (Or.inl q2156) rfl <|
  r_ret rfl (Or.inl ⟨dX8_plain_13, Or.inr (Or.inl rfl)⟩))
def tX8_plain_73 (d : Nat) (Q : Outcome → MH → Prop) (J : Nat → KT) : KT :=
  i_aload 0 <|
  i_dup <|
  i_getI 8 11 <|
  i_const 1 <|
  i_iadd <|
  i_putI 8 11 .int <|
  i_aload 0 <|
  i_call mX8_sum d 1 (pV 8) (xOut Q) <|
  i_istore 3 <|
  i_iload 2 <|
  i_if_eq
  (i_iload 1 <|
  i_iload 3 <|
  i_icmp_le
  (i_const 0 <|
  i_ret Q (some .boolean))
  (i_const 1 <|
  i_ret Q (some .boolean)))
  (i_iload 1 <|
  i_iload 3 <|
  i_icmp_ge
  (i_const 0 <|
  i_ret Q (some .boolean))
  (i_const 1 <|
  i_ret Q (some .boolean)))
theorem kX8_plain_73 {d : Nat} {Q : Outcome → MH → Prop} : ∀ ls st h, tX8_plain_73 d Q (fun pc ls st h => WPb mX8_plain d pc ls st h Q) ls st h → WPb mX8_plain d 73 ls st h Q :=
  r_aload_n (k := 0) dX8_plain_73 rfl <|
  r_dup dX8_plain_74 <|
  r_getI (ci := 8) (q := (RX8, TX8, 27)) (k := 11) dX8_plain_75 (by decide) rfl in_X8 (by decide) (Or.inl q2152) rfl <|
  r_iconst (v := 1) dX8_plain_78 rfl <|
  r_iadd dX8_plain_79 <|
  r_putI (ci := 8) (q := (RX8, TX8, 27)) (k := 11) tyX8 tyX8_ok nmX8 dX8_plain_80 (by decide) rfl in_X8 (by decide) (Or.inl ⟨rfl, (Or.inl q2152)⟩) rfl rfl <|
  r_aload_n (k := 0) dX8_plain_83 rfl <|
  r_cV (Z := mX8_sum) (ci := 8) (q := (RX8, TX8, 27)) dX8_plain_84 rfl (by decide +kernel) ⟨by decide, by decide⟩ (by decide) rfl rfl q2328 q2330 qs68 q127 q2331 (XS.out (noH _)) <|
  r_istore_n (k := 3) dX8_plain_87 rfl <|
  r_iload_n (k := 2) dX8_plain_88 rfl <|
  r_if_eq (pt := 105) dX8_plain_89 (by decide)
  (r_iload_n (k := 1) dX8_plain_105 rfl <|
  r_iload_n (k := 3) dX8_plain_106 rfl <|
  r_icmp_le (pt := 114) dX8_plain_107 (by decide)
  (r_iconst (v := 0) dX8_plain_114 rfl <|
  r_ret rfl (Or.inl ⟨dX8_plain_115, Or.inr (Or.inl rfl)⟩))
  (r_iconst (v := 1) dX8_plain_110 rfl <|
  r_goto (pt := 115) dX8_plain_111 (by decide) <|
  r_ret rfl (Or.inl ⟨dX8_plain_115, Or.inr (Or.inl rfl)⟩)))
  (r_iload_n (k := 1) dX8_plain_92 rfl <|
  r_iload_n (k := 3) dX8_plain_93 rfl <|
  r_icmp_ge (pt := 101) dX8_plain_94 (by decide)
  (r_iconst (v := 0) dX8_plain_101 rfl <|
  r_goto (pt := 115) dX8_plain_102 (by decide) <|
  r_ret rfl (Or.inl ⟨dX8_plain_115, Or.inr (Or.inl rfl)⟩))
  (r_iconst (v := 1) dX8_plain_97 rfl <|
  r_goto (pt := 115) dX8_plain_98 (by decide) <|
  r_ret rfl (Or.inl ⟨dX8_plain_115, Or.inr (Or.inl rfl)⟩)))
-- CheekTownModel.sum()I cuts [0, 5]
def tX8_sum_0 (d : Nat) (Q : Outcome → MH → Prop) (J : Nat → KT) : KT :=
  i_aload 0 <|
  i_call mX8_part d 1 (pV 8) (xOut Q) <|
  i_istore 1 <|
  (J 5)
theorem kX8_sum_0 {d : Nat} {Q : Outcome → MH → Prop} : ∀ ls st h, tX8_sum_0 d Q (fun pc ls st h => WPb mX8_sum d pc ls st h Q) ls st h → WPb mX8_sum d 0 ls st h Q :=
  r_aload_n (k := 0) dX8_sum_0 rfl <|
  r_cV (Z := mX8_part) (ci := 8) (q := (RX8, TX8, 27)) dX8_sum_1 rfl (by decide +kernel) ⟨by decide, by decide⟩ (by decide) rfl rfl q2332 q2334 qs69 q127 q2335 (XS.out (noH _)) <|
  r_istore_n (k := 1) dX8_sum_4 rfl <|
  (fun _ _ _ H => H)
def tX8_sum_5 (d : Nat) (Q : Outcome → MH → Prop) (J : Nat → KT) : KT :=
  i_aload 0 <|
  i_getI 8 12 <|
  i_const (-1) <|
  i_icmp_ne
  (i_iload 1 <|
  i_ret Q (some .int))
  (i_aload 0 <|
  i_const 43 <|
  i_call mX8_isSign d 2 (pV 8) (xOut Q) <|
  i_if_eq
  (i_iload 1 <|
  i_ret Q (some .int))
  (i_aload 0 <|
  i_dup <|
  i_getI 8 11 <|
  i_const 1 <|
  i_iadd <|
  i_putI 8 11 .int <|
  i_iload 1 <|
  i_aload 0 <|
  i_call mX8_part d 1 (pV 8) (xOut Q) <|
  i_iadd <|
  i_istore 1 <|
  (J 5)))
theorem kX8_sum_5 {d : Nat} {Q : Outcome → MH → Prop} : ∀ ls st h, tX8_sum_5 d Q (fun pc ls st h => WPb mX8_sum d pc ls st h Q) ls st h → WPb mX8_sum d 5 ls st h Q :=
  r_aload_n (k := 0) dX8_sum_5 rfl <|
  r_getI (ci := 8) (q := (RX8, TX8, 27)) (k := 12) dX8_sum_6 (by decide) rfl in_X8 (by decide) (Or.inl q2153) rfl <|
  r_iconst (v := (-1)) dX8_sum_9 rfl <|
  r_icmp_ne (pt := 42) dX8_sum_10 (by decide)
  (r_iload_n (k := 1) dX8_sum_42 rfl <|
  r_ret rfl (Or.inl ⟨dX8_sum_43, Or.inl rfl⟩))
  (r_aload_n (k := 0) dX8_sum_13 rfl <|
  r_bipush (v := 43) dX8_sum_14 rfl <|
  r_cV (Z := mX8_isSign) (ci := 8) (q := (RX8, TX8, 27)) dX8_sum_16 rfl (by decide +kernel) ⟨by decide, by decide⟩ (by decide) rfl rfl q2318 q2320 qs66 q127 q2321 (XS.out (noH _)) <|
  r_if_eq (pt := 42) dX8_sum_19 (by decide)
  (r_iload_n (k := 1) dX8_sum_42 rfl <|
  r_ret rfl (Or.inl ⟨dX8_sum_43, Or.inl rfl⟩))
  (r_aload_n (k := 0) dX8_sum_22 rfl <|
  r_dup dX8_sum_23 <|
  r_getI (ci := 8) (q := (RX8, TX8, 27)) (k := 11) dX8_sum_24 (by decide) rfl in_X8 (by decide) (Or.inl q2152) rfl <|
  r_iconst (v := 1) dX8_sum_27 rfl <|
  r_iadd dX8_sum_28 <|
  r_putI (ci := 8) (q := (RX8, TX8, 27)) (k := 11) tyX8 tyX8_ok nmX8 dX8_sum_29 (by decide) rfl in_X8 (by decide) (Or.inl ⟨rfl, (Or.inl q2152)⟩) rfl rfl <|
  r_iload_n (k := 1) dX8_sum_32 rfl <|
  r_aload_n (k := 0) dX8_sum_33 rfl <|
  r_cV (Z := mX8_part) (ci := 8) (q := (RX8, TX8, 27)) dX8_sum_34 rfl (by decide +kernel) ⟨by decide, by decide⟩ (by decide) rfl rfl q2332 q2334 qs69 q127 q2335 (XS.out (noH _)) <|
  r_iadd dX8_sum_37 <|
  r_istore_n (k := 1) dX8_sum_38 rfl <|
  r_goto (pt := 5) dX8_sum_39 (by decide) <|
  (fun _ _ _ H => H)))
-- CheekTownModel.part()I cuts [0, 52, 131]
def tX8_part_0 (d : Nat) (Q : Outcome → MH → Prop) (J : Nat → KT) : KT :=
  i_aload 0 <|
  i_getI 8 12 <|
  i_const (-1) <|
  i_icmp_eq
  (i_aload 0 <|
  i_call mX8_skip d 1 (pV 8) (xOut Q) <|
  i_aload 0 <|
  i_getI 8 11 <|
  i_aload 0 <|
  i_getI 8 10 <|
  i_icmp_ge
  ((J 52))
  (i_aload 0 <|
  i_aload 0 <|
  i_getI 8 11 <|
  i_call mX8_letter d 2 (pV 8) (xOut Q) <|
  i_const 48 <|
  i_const 57 <|
  i_call mX8_isIn d 3 pS (xOut Q) <|
  i_if_eq
  ((J 52))
  (i_aload 0 <|
  i_const 0 <|
  i_const 999 <|
  i_call mX8_figures d 3 (pV 8) (xOut Q) <|
  i_ret Q (some .int))))
  (i_const 0 <|
  i_ret Q (some .int))
theorem kX8_part_0 {d : Nat} {Q : Outcome → MH → Prop} : ∀ ls st h, tX8_part_0 d Q (fun pc ls st h => WPb mX8_part d pc ls st h Q) ls st h → WPb mX8_part d 0 ls st h Q :=
  r_aload_n (k := 0) dX8_part_0 rfl <|
  r_getI (ci := 8) (q := (RX8, TX8, 27)) (k := 12) dX8_part_1 (by decide) rfl in_X8 (by decide) (Or.inl q2153) rfl <|
  r_iconst (v := (-1)) dX8_part_4 rfl <|
  r_icmp_eq (pt := 10) dX8_part_5 (by decide)
  (r_aload_n (k := 0) dX8_part_10 rfl <|
  r_cV (Z := mX8_skip) (ci := 8) (q := (RX8, TX8, 27)) dX8_part_11 rfl (by decide +kernel) ⟨by decide, by decide⟩ (by decide) rfl rfl q2250 q2252 qs54 q127 q2253 (XS.out (noH _)) <|
  r_aload_n (k := 0) dX8_part_14 rfl <|
  r_getI (ci := 8) (q := (RX8, TX8, 27)) (k := 11) dX8_part_15 (by decide) rfl in_X8 (by decide) (Or.inl q2152) rfl <|
  r_aload_n (k := 0) dX8_part_18 rfl <|
  r_getI (ci := 8) (q := (RX8, TX8, 27)) (k := 10) dX8_part_19 (by decide) rfl in_X8 (by decide) (Or.inl q2151) rfl <|
  r_icmp_ge (pt := 52) dX8_part_22 (by decide)
  ((fun _ _ _ H => H))
  (r_aload_n (k := 0) dX8_part_25 rfl <|
  r_aload_n (k := 0) dX8_part_26 rfl <|
  r_getI (ci := 8) (q := (RX8, TX8, 27)) (k := 11) dX8_part_27 (by decide) rfl in_X8 (by decide) (Or.inl q2152) rfl <|
  r_cV (Z := mX8_letter) (ci := 8) (q := (RX8, TX8, 27)) dX8_part_30 rfl (by decide +kernel) ⟨by decide, by decide⟩ (by decide) rfl rfl q2254 q2256 qs55 q127 q2257 (XS.out (noH _)) <|
  r_bipush (v := 48) dX8_part_33 rfl <|
  r_bipush (v := 57) dX8_part_35 rfl <|
  r_cS (Z := mX8_isIn) dX8_part_37 rfl (by decide +kernel) ⟨by decide, by decide⟩ q2235 q2236 q127 q2237 (XS.out (noH _)) <|
  r_if_eq (pt := 52) dX8_part_40 (by decide)
  ((fun _ _ _ H => H))
  (r_aload_n (k := 0) dX8_part_43 rfl <|
  r_iconst (v := 0) dX8_part_44 rfl <|
  r_sipush (v := 999) dX8_part_45 rfl <|
  r_cV (Z := mX8_figures) (ci := 8) (q := (RX8, TX8, 27)) dX8_part_48 rfl (by decide +kernel) ⟨by decide, by decide⟩ (by decide) rfl rfl q2294 q2296 qs61 q127 q2297 (XS.out (noH _)) <|
  r_ret rfl (Or.inl ⟨dX8_part_51, Or.inl rfl⟩))))
  (r_iconst (v := 0) dX8_part_8 rfl <|
  r_ret rfl (Or.inl ⟨dX8_part_9, Or.inl rfl⟩))
def tX8_part_52 (d : Nat) (Q : Outcome → MH → Prop) (J : Nat → KT) : KT :=
  i_aload 0 <|
  i_ldcS 66 <|
  i_call mX8_has d 2 (pV 8) (xOut Q) <|
  i_if_eq
  (i_aload 0 <|
  i_ldcS 68 <|
  i_call mX8_has d 2 (pV 8) (xOut Q) <|
  i_if_eq
  (i_aload 0 <|
  i_ldcS 36 <|
  i_call mX8_has d 2 (pV 8) (xOut Q) <|
  i_if_eq
  (i_aload 0 <|
  i_ldcS 70 <|
  i_call mX8_has d 2 (pV 8) (xOut Q) <|
  i_if_eq
  (i_aload 0 <|
  i_ldcS 72 <|
  i_call mX8_has d 2 (pV 8) (xOut Q) <|
  i_if_eq
  (i_aload 0 <|
  i_ldcS 74 <|
  i_call mX8_has d 2 (pV 8) (xOut Q) <|
  i_if_eq
  (i_const (-1) <|
  (J 131))
  (i_const 5 <|
  (J 131)))
  (i_const 4 <|
  (J 131)))
  (i_const 3 <|
  (J 131)))
  (i_const 2 <|
  (J 131)))
  (i_const 1 <|
  (J 131)))
  (i_const 0 <|
  (J 131))
theorem kX8_part_52 {d : Nat} {Q : Outcome → MH → Prop} : ∀ ls st h, tX8_part_52 d Q (fun pc ls st h => WPb mX8_part d pc ls st h Q) ls st h → WPb mX8_part d 52 ls st h Q :=
  r_aload_n (k := 0) dX8_part_52 rfl <|
  r_ldcS (a := 66) (tx := "who") dX8_part_53 (by decide +kernel) (by decide) <|
  r_cV (Z := mX8_has) (ci := 8) (q := (RX8, TX8, 27)) dX8_part_55 rfl (by decide +kernel) ⟨by decide, by decide⟩ (by decide) rfl rfl q2271 q2273 qs59 q127 q2274 (XS.out (noH _)) <|
  r_if_eq (pt := 65) dX8_part_58 (by decide)
  (r_aload_n (k := 0) dX8_part_65 rfl <|
  r_ldcS (a := 68) (tx := "whom") dX8_part_66 (by decide +kernel) (by decide) <|
  r_cV (Z := mX8_has) (ci := 8) (q := (RX8, TX8, 27)) dX8_part_68 rfl (by decide +kernel) ⟨by decide, by decide⟩ (by decide) rfl rfl q2271 q2273 qs59 q127 q2274 (XS.out (noH _)) <|
  r_if_eq (pt := 78) dX8_part_71 (by decide)
  (r_aload_n (k := 0) dX8_part_78 rfl <|
  r_ldcS (a := 36) (tx := "rank") dX8_part_79 (by decide +kernel) (by decide) <|
  r_cV (Z := mX8_has) (ci := 8) (q := (RX8, TX8, 27)) dX8_part_81 rfl (by decide +kernel) ⟨by decide, by decide⟩ (by decide) rfl rfl q2271 q2273 qs59 q127 q2274 (XS.out (noH _)) <|
  r_if_eq (pt := 91) dX8_part_84 (by decide)
  (r_aload_n (k := 0) dX8_part_91 rfl <|
  r_ldcS (a := 70) (tx := "theirs") dX8_part_92 (by decide +kernel) (by decide) <|
  r_cV (Z := mX8_has) (ci := 8) (q := (RX8, TX8, 27)) dX8_part_94 rfl (by decide +kernel) ⟨by decide, by decide⟩ (by decide) rfl rfl q2271 q2273 qs59 q127 q2274 (XS.out (noH _)) <|
  r_if_eq (pt := 104) dX8_part_97 (by decide)
  (r_aload_n (k := 0) dX8_part_104 rfl <|
  r_ldcS (a := 72) (tx := "met") dX8_part_105 (by decide +kernel) (by decide) <|
  r_cV (Z := mX8_has) (ci := 8) (q := (RX8, TX8, 27)) dX8_part_107 rfl (by decide +kernel) ⟨by decide, by decide⟩ (by decide) rfl rfl q2271 q2273 qs59 q127 q2274 (XS.out (noH _)) <|
  r_if_eq (pt := 117) dX8_part_110 (by decide)
  (r_aload_n (k := 0) dX8_part_117 rfl <|
  r_ldcS (a := 74) (tx := "round") dX8_part_118 (by decide +kernel) (by decide) <|
  r_cV (Z := mX8_has) (ci := 8) (q := (RX8, TX8, 27)) dX8_part_120 rfl (by decide +kernel) ⟨by decide, by decide⟩ (by decide) rfl rfl q2271 q2273 qs59 q127 q2274 (XS.out (noH _)) <|
  r_if_eq (pt := 130) dX8_part_123 (by decide)
  (r_iconst (v := (-1)) dX8_part_130 rfl <|
  (fun _ _ _ H => H))
  (r_iconst (v := 5) dX8_part_126 rfl <|
  r_goto (pt := 131) dX8_part_127 (by decide) <|
  (fun _ _ _ H => H)))
  (r_iconst (v := 4) dX8_part_113 rfl <|
  r_goto (pt := 131) dX8_part_114 (by decide) <|
  (fun _ _ _ H => H)))
  (r_iconst (v := 3) dX8_part_100 rfl <|
  r_goto (pt := 131) dX8_part_101 (by decide) <|
  (fun _ _ _ H => H)))
  (r_iconst (v := 2) dX8_part_87 rfl <|
  r_goto (pt := 131) dX8_part_88 (by decide) <|
  (fun _ _ _ H => H)))
  (r_iconst (v := 1) dX8_part_74 rfl <|
  r_goto (pt := 131) dX8_part_75 (by decide) <|
  (fun _ _ _ H => H)))
  (r_iconst (v := 0) dX8_part_61 rfl <|
  r_goto (pt := 131) dX8_part_62 (by decide) <|
  (fun _ _ _ H => H))
def tX8_part_131 (d : Nat) (Q : Outcome → MH → Prop) (J : Nat → KT) : KT :=
  i_istore 1 <|
  i_iload 1 <|
  i_const (-1) <|
  i_icmp_ne
  (i_aload 0 <|
  i_getR 8 14 <|
  i_iload 1 <|
  i_iald <|
  i_ret Q (some .int))
  (i_aload 0 <|
  i_aload 0 <|
  i_getI 8 11 <|
  i_call mX8_wrong d 2 (pV 8) (xOut Q) <|
  i_const 0 <|
  i_ret Q (some .int))
theorem kX8_part_131 {d : Nat} {Q : Outcome → MH → Prop} : ∀ ls st h, tX8_part_131 d Q (fun pc ls st h => WPb mX8_part d pc ls st h Q) ls st h → WPb mX8_part d 131 ls st h Q :=
  r_istore_n (k := 1) dX8_part_131 rfl <|
  r_iload_n (k := 1) dX8_part_132 rfl <|
  r_iconst (v := (-1)) dX8_part_133 rfl <|
  r_icmp_ne (pt := 147) dX8_part_134 (by decide)
  (r_aload_n (k := 0) dX8_part_147 rfl <|
  r_getR (ci := 8) (q := (RX8, TX8, 27)) (k := 14) dX8_part_148 (by decide) rfl in_X8 (by decide) (Or.inl q2155) rfl <|
  r_iload_n (k := 1) dX8_part_151 rfl <|
  r_iald dX8_part_152 <|
  r_ret rfl (Or.inl ⟨dX8_part_153, Or.inl rfl⟩))
  (r_aload_n (k := 0) dX8_part_137 rfl <|
  r_aload_n (k := 0) dX8_part_138 rfl <|
  r_getI (ci := 8) (q := (RX8, TX8, 27)) (k := 11) dX8_part_139 (by decide) rfl in_X8 (by decide) (Or.inl q2152) rfl <|
  r_cV (Z := mX8_wrong) (ci := 8) (q := (RX8, TX8, 27)) dX8_part_142 rfl (by decide +kernel) ⟨by decide, by decide⟩ (by decide) rfl rfl q2258 q2260 qs56 q127 q2261 (XS.out (noH _)) <|
  r_iconst (v := 0) dX8_part_145 rfl <|
  r_ret rfl (Or.inl ⟨dX8_part_146, Or.inl rfl⟩))
-- CheekTownModel.townLine()V cuts [0, 30]
def tX8_townLine_0 (d : Nat) (Q : Outcome → MH → Prop) (J : Nat → KT) : KT :=
  i_aload 0 <|
  i_call mX8_place d 1 (pV 8) (xOut Q) <|
  i_istore 1 <|
  i_aload 0 <|
  i_ldcS 40 <|
  i_call mX8_has d 2 (pV 8) (xOut Q) <|
  i_if_eq
  (i_aload 0 <|
  i_ldcS 42 <|
  i_call mX8_has d 2 (pV 8) (xOut Q) <|
  i_if_eq
  (i_aload 0 <|
  i_ldcS 44 <|
  i_call mX8_has d 2 (pV 8) (xOut Q) <|
  i_if_eq
  (i_aload 0 <|
  i_ldcS 46 <|
  i_call mX8_has d 2 (pV 8) (xOut Q) <|
  i_if_eq
  (i_aload 0 <|
  i_ldcS 48 <|
  i_call mX8_has d 2 (pV 8) (xOut Q) <|
  i_if_eq
  (i_aload 0 <|
  i_ldcS 50 <|
  i_call mX8_has d 2 (pV 8) (xOut Q) <|
  i_if_eq
  (i_aload 0 <|
  i_ldcS 52 <|
  i_call mX8_has d 2 (pV 8) (xOut Q) <|
  i_if_eq
  (i_aload 0 <|
  i_ldcS 54 <|
  i_call mX8_has d 2 (pV 8) (xOut Q) <|
  i_if_eq
  (i_aload 0 <|
  i_aload 0 <|
  i_getI 8 11 <|
  i_call mX8_wrong d 2 (pV 8) (xOut Q) <|
  i_vret Q)
  (i_aload 0 <|
  i_const 15 <|
  i_call mX8_tells d 2 (pV 8) (xOut Q) <|
  i_vret Q))
  (i_aload 0 <|
  i_const 14 <|
  i_call mX8_tells d 2 (pV 8) (xOut Q) <|
  i_vret Q))
  (i_aload 0 <|
  i_const 13 <|
  i_call mX8_tells d 2 (pV 8) (xOut Q) <|
  i_vret Q))
  (i_aload 0 <|
  i_iload 1 <|
  i_call mX8_tieLine d 2 (pV 8) (xOut Q) <|
  i_vret Q))
  (i_aload 0 <|
  i_const 0 <|
  i_aload 0 <|
  i_getR 8 1 <|
  i_const 5 <|
  i_iald <|
  i_const 1 <|
  i_isub <|
  i_call mX8_figures d 3 (pV 8) (xOut Q) <|
  i_istore 2 <|
  i_aload 0 <|
  i_getI 8 12 <|
  i_const (-1) <|
  i_icmp_ne
  (i_vret Q)
  (i_aload 0 <|
  i_iload 2 <|
  i_const 4 <|
  i_const 1 <|
  i_call mX8_has_2 d 4 (pV 8) (xOut Q) <|
  i_vret Q)))
  (i_aload 0 <|
  i_iload 1 <|
  i_call mX8_personLine d 2 (pV 8) (xOut Q) <|
  i_vret Q))
  (i_aload 0 <|
  i_iload 1 <|
  i_call mX8_habitLine d 2 (pV 8) (xOut Q) <|
  i_vret Q))
  (i_aload 0 <|
  i_getR 8 1 <|
  i_const 3 <|
  i_iald <|
  i_const 6 <|
  i_icmp_ne
  ((J 30))
  (i_aload 0 <|
  i_iload 1 <|
  i_call mX8_wrong d 2 (pV 8) (xOut Q) <|
  (J 30)))
theorem kX8_townLine_0 {d : Nat} {Q : Outcome → MH → Prop} : ∀ ls st h, tX8_townLine_0 d Q (fun pc ls st h => WPb mX8_townLine d pc ls st h Q) ls st h → WPb mX8_townLine d 0 ls st h Q :=
  r_aload_n (k := 0) dX8_townLine_0 rfl <|
  r_cV (Z := mX8_place) (ci := 8) (q := (RX8, TX8, 27)) dX8_townLine_1 rfl (by decide +kernel) ⟨by decide, by decide⟩ (by decide) rfl rfl q2298 q2300 qs62 q127 q2301 (XS.out (noH _)) <|
  r_istore_n (k := 1) dX8_townLine_4 rfl <|
  r_aload_n (k := 0) dX8_townLine_5 rfl <|
  r_ldcS (a := 40) (tx := "land") dX8_townLine_6 (by decide +kernel) (by decide) <|
  r_cV (Z := mX8_has) (ci := 8) (q := (RX8, TX8, 27)) dX8_townLine_8 rfl (by decide +kernel) ⟨by decide, by decide⟩ (by decide) rfl rfl q2271 q2273 qs59 q127 q2274 (XS.out (noH _)) <|
  r_if_eq (pt := 51) dX8_townLine_11 (by decide)
  (r_aload_n (k := 0) dX8_townLine_51 rfl <|
  r_ldcS (a := 42) (tx := "habit") dX8_townLine_52 (by decide +kernel) (by decide) <|
  r_cV (Z := mX8_has) (ci := 8) (q := (RX8, TX8, 27)) dX8_townLine_54 rfl (by decide +kernel) ⟨by decide, by decide⟩ (by decide) rfl rfl q2271 q2273 qs59 q127 q2274 (XS.out (noH _)) <|
  r_if_eq (pt := 68) dX8_townLine_57 (by decide)
  (r_aload_n (k := 0) dX8_townLine_68 rfl <|
  r_ldcS (a := 44) (tx := "person") dX8_townLine_69 (by decide +kernel) (by decide) <|
  r_cV (Z := mX8_has) (ci := 8) (q := (RX8, TX8, 27)) dX8_townLine_71 rfl (by decide +kernel) ⟨by decide, by decide⟩ (by decide) rfl rfl q2271 q2273 qs59 q127 q2274 (XS.out (noH _)) <|
  r_if_eq (pt := 85) dX8_townLine_74 (by decide)
  (r_aload_n (k := 0) dX8_townLine_85 rfl <|
  r_ldcS (a := 46) (tx := "cold") dX8_townLine_86 (by decide +kernel) (by decide) <|
  r_cV (Z := mX8_has) (ci := 8) (q := (RX8, TX8, 27)) dX8_townLine_88 rfl (by decide +kernel) ⟨by decide, by decide⟩ (by decide) rfl rfl q2271 q2273 qs59 q127 q2274 (XS.out (noH _)) <|
  r_if_eq (pt := 126) dX8_townLine_91 (by decide)
  (r_aload_n (k := 0) dX8_townLine_126 rfl <|
  r_ldcS (a := 48) (tx := "tie") dX8_townLine_127 (by decide +kernel) (by decide) <|
  r_cV (Z := mX8_has) (ci := 8) (q := (RX8, TX8, 27)) dX8_townLine_129 rfl (by decide +kernel) ⟨by decide, by decide⟩ (by decide) rfl rfl q2271 q2273 qs59 q127 q2274 (XS.out (noH _)) <|
  r_if_eq (pt := 143) dX8_townLine_132 (by decide)
  (r_aload_n (k := 0) dX8_townLine_143 rfl <|
  r_ldcS (a := 50) (tx := "stomach") dX8_townLine_144 (by decide +kernel) (by decide) <|
  r_cV (Z := mX8_has) (ci := 8) (q := (RX8, TX8, 27)) dX8_townLine_146 rfl (by decide +kernel) ⟨by decide, by decide⟩ (by decide) rfl rfl q2271 q2273 qs59 q127 q2274 (XS.out (noH _)) <|
  r_if_eq (pt := 161) dX8_townLine_149 (by decide)
  (r_aload_n (k := 0) dX8_townLine_161 rfl <|
  r_ldcS (a := 52) (tx := "air") dX8_townLine_162 (by decide +kernel) (by decide) <|
  r_cV (Z := mX8_has) (ci := 8) (q := (RX8, TX8, 27)) dX8_townLine_164 rfl (by decide +kernel) ⟨by decide, by decide⟩ (by decide) rfl rfl q2271 q2273 qs59 q127 q2274 (XS.out (noH _)) <|
  r_if_eq (pt := 179) dX8_townLine_167 (by decide)
  (r_aload_n (k := 0) dX8_townLine_179 rfl <|
  r_ldcS (a := 54) (tx := "noses") dX8_townLine_180 (by decide +kernel) (by decide) <|
  r_cV (Z := mX8_has) (ci := 8) (q := (RX8, TX8, 27)) dX8_townLine_182 rfl (by decide +kernel) ⟨by decide, by decide⟩ (by decide) rfl rfl q2271 q2273 qs59 q127 q2274 (XS.out (noH _)) <|
  r_if_eq (pt := 197) dX8_townLine_185 (by decide)
  (r_aload_n (k := 0) dX8_townLine_197 rfl <|
  r_aload_n (k := 0) dX8_townLine_198 rfl <|
  r_getI (ci := 8) (q := (RX8, TX8, 27)) (k := 11) dX8_townLine_199 (by decide) rfl in_X8 (by decide) (Or.inl q2152) rfl <|
  r_cV (Z := mX8_wrong) (ci := 8) (q := (RX8, TX8, 27)) dX8_townLine_202 rfl (by decide +kernel) ⟨by decide, by decide⟩ (by decide) rfl rfl q2258 q2260 qs56 q127 q2261 (XS.out (noH _)) <|
  r_vret rfl dX8_townLine_205)
  (r_aload_n (k := 0) dX8_townLine_188 rfl <|
  r_bipush (v := 15) dX8_townLine_189 rfl <|
  r_cV (Z := mX8_tells) (ci := 8) (q := (RX8, TX8, 27)) dX8_townLine_191 rfl (by decide +kernel) ⟨by decide, by decide⟩ (by decide) rfl rfl q2391 q2393 qs80 q127 q2394 (XS.out (noH _)) <|
  r_goto (pt := 205) dX8_townLine_194 (by decide) <|
  r_vret rfl dX8_townLine_205))
  (r_aload_n (k := 0) dX8_townLine_170 rfl <|
  r_bipush (v := 14) dX8_townLine_171 rfl <|
  r_cV (Z := mX8_tells) (ci := 8) (q := (RX8, TX8, 27)) dX8_townLine_173 rfl (by decide +kernel) ⟨by decide, by decide⟩ (by decide) rfl rfl q2391 q2393 qs80 q127 q2394 (XS.out (noH _)) <|
  r_goto (pt := 205) dX8_townLine_176 (by decide) <|
  r_vret rfl dX8_townLine_205))
  (r_aload_n (k := 0) dX8_townLine_152 rfl <|
  r_bipush (v := 13) dX8_townLine_153 rfl <|
  r_cV (Z := mX8_tells) (ci := 8) (q := (RX8, TX8, 27)) dX8_townLine_155 rfl (by decide +kernel) ⟨by decide, by decide⟩ (by decide) rfl rfl q2391 q2393 qs80 q127 q2394 (XS.out (noH _)) <|
  r_goto (pt := 205) dX8_townLine_158 (by decide) <|
  r_vret rfl dX8_townLine_205))
  (r_aload_n (k := 0) dX8_townLine_135 rfl <|
  r_iload_n (k := 1) dX8_townLine_136 rfl <|
  r_cV (Z := mX8_tieLine) (ci := 8) (q := (RX8, TX8, 27)) dX8_townLine_137 rfl (by decide +kernel) ⟨by decide, by decide⟩ (by decide) rfl rfl q2370 q2372 qs75 q127 q2373 (XS.out (noH _)) <|
  r_goto (pt := 205) dX8_townLine_140 (by decide) <|
  r_vret rfl dX8_townLine_205))
  (r_aload_n (k := 0) dX8_townLine_94 rfl <|
  r_iconst (v := 0) dX8_townLine_95 rfl <|
  r_aload_n (k := 0) dX8_townLine_96 rfl <|
  r_getR (ci := 8) (q := (RX8, TX8, 27)) (k := 1) dX8_townLine_97 (by decide) rfl in_X8 (by decide) (Or.inl q2142) rfl <|
  r_iconst (v := 5) dX8_townLine_100 rfl <|
  r_iald dX8_townLine_101 <|
  r_iconst (v := 1) dX8_townLine_102 rfl <|
  r_isub dX8_townLine_103 <|
  r_cV (Z := mX8_figures) (ci := 8) (q := (RX8, TX8, 27)) dX8_townLine_104 rfl (by decide +kernel) ⟨by decide, by decide⟩ (by decide) rfl rfl q2294 q2296 qs61 q127 q2297 (XS.out (noH _)) <|
  r_istore_n (k := 2) dX8_townLine_107 rfl <|
  r_aload_n (k := 0) dX8_townLine_108 rfl <|
  r_getI (ci := 8) (q := (RX8, TX8, 27)) (k := 12) dX8_townLine_109 (by decide) rfl in_X8 (by decide) (Or.inl q2153) rfl <|
  r_iconst (v := (-1)) dX8_townLine_112 rfl <|
  r_icmp_ne (pt := 123) dX8_townLine_113 (by decide)
  (r_goto (pt := 205) dX8_townLine_123 (by decide) <|
  r_vret rfl dX8_townLine_205)
  (r_aload_n (k := 0) dX8_townLine_116 rfl <|
  r_iload_n (k := 2) dX8_townLine_117 rfl <|
  r_iconst (v := 4) dX8_townLine_118 rfl <|
  r_iconst (v := 1) dX8_townLine_119 rfl <|
  r_cV (Z := mX8_has_2) (ci := 8) (q := (RX8, TX8, 27)) dX8_townLine_120 rfl (by decide +kernel) ⟨by decide, by decide⟩ (by decide) rfl rfl q2361 q2363 qs73 q127 q2364 (XS.out (noH _)) <|
  r_goto (pt := 205) dX8_townLine_123 (by decide) <|
  r_vret rfl dX8_townLine_205)))
  (r_aload_n (k := 0) dX8_townLine_77 rfl <|
  r_iload_n (k := 1) dX8_townLine_78 rfl <|
  r_cV (Z := mX8_personLine) (ci := 8) (q := (RX8, TX8, 27)) dX8_townLine_79 rfl (by decide +kernel) ⟨by decide, by decide⟩ (by decide) rfl rfl q2356 q2358 qs72 q127 q2359 (XS.out (noH _)) <|
  r_goto (pt := 205) dX8_townLine_82 (by decide) <|
  r_vret rfl dX8_townLine_205))
  (r_aload_n (k := 0) dX8_townLine_60 rfl <|
  r_iload_n (k := 1) dX8_townLine_61 rfl <|
  r_cV (Z := mX8_habitLine) (ci := 8) (q := (RX8, TX8, 27)) dX8_townLine_62 rfl (by decide +kernel) ⟨by decide, by decide⟩ (by decide) rfl rfl q2350 q2352 qs71 q127 q2353 (XS.out (noH _)) <|
  r_goto (pt := 205) dX8_townLine_65 (by decide) <|
  r_vret rfl dX8_townLine_205))
  (r_aload_n (k := 0) dX8_townLine_14 rfl <|
  r_getR (ci := 8) (q := (RX8, TX8, 27)) (k := 1) dX8_townLine_15 (by decide) rfl in_X8 (by decide) (Or.inl q2142) rfl <|
  r_iconst (v := 3) dX8_townLine_18 rfl <|
  r_iald dX8_townLine_19 <|
  r_bipush (v := 6) dX8_townLine_20 rfl <|
  r_icmp_ne (pt := 30) dX8_townLine_22 (by decide)
  ((fun _ _ _ H => H))
  (r_aload_n (k := 0) dX8_townLine_25 rfl <|
  r_iload_n (k := 1) dX8_townLine_26 rfl <|
  r_cV (Z := mX8_wrong) (ci := 8) (q := (RX8, TX8, 27)) dX8_townLine_27 rfl (by decide +kernel) ⟨by decide, by decide⟩ (by decide) rfl rfl q2258 q2260 qs56 q127 q2261 (XS.out (noH _)) <|
  (fun _ _ _ H => H)))
def tX8_townLine_30 (d : Nat) (Q : Outcome → MH → Prop) (J : Nat → KT) : KT :=
  i_aload 0 <|
  i_getI 8 12 <|
  i_const (-1) <|
  i_icmp_ne
  (i_vret Q)
  (i_aload 0 <|
  i_getR 8 1 <|
  i_const 3 <|
  i_dup2 <|
  i_iald <|
  i_const 1 <|
  i_iadd <|
  i_iast <|
  i_vret Q)
theorem kX8_townLine_30 {d : Nat} {Q : Outcome → MH → Prop} : ∀ ls st h, tX8_townLine_30 d Q (fun pc ls st h => WPb mX8_townLine d pc ls st h Q) ls st h → WPb mX8_townLine d 30 ls st h Q :=
  r_aload_n (k := 0) dX8_townLine_30 rfl <|
  r_getI (ci := 8) (q := (RX8, TX8, 27)) (k := 12) dX8_townLine_31 (by decide) rfl in_X8 (by decide) (Or.inl q2153) rfl <|
  r_iconst (v := (-1)) dX8_townLine_34 rfl <|
  r_icmp_ne (pt := 205) dX8_townLine_35 (by decide)
  (r_vret rfl dX8_townLine_205)
  (r_aload_n (k := 0) dX8_townLine_38 rfl <|
  r_getR (ci := 8) (q := (RX8, TX8, 27)) (k := 1) dX8_townLine_39 (by decide) rfl in_X8 (by decide) (Or.inl q2142) rfl <|
  r_iconst (v := 3) dX8_townLine_42 rfl <|
  r_dup2 dX8_townLine_43 <|
  r_iald dX8_townLine_44 <|
  r_iconst (v := 1) dX8_townLine_45 rfl <|
  r_iadd dX8_townLine_46 <|
  r_iast dX8_townLine_47 <|
  r_goto (pt := 205) dX8_townLine_48 (by decide) <|
  r_vret rfl dX8_townLine_205)
-- CheekTownModel.habitLine(I)V cuts [0, 16]
def tX8_habitLine_0 (d : Nat) (Q : Outcome → MH → Prop) (J : Nat → KT) : KT :=
  i_aload 0 <|
  i_getR 8 1 <|
  i_const 4 <|
  i_iald <|
  i_const 24 <|
  i_icmp_ne
  ((J 16))
  (i_aload 0 <|
  i_iload 1 <|
  i_call mX8_wrong d 2 (pV 8) (xOut Q) <|
  (J 16))
theorem kX8_habitLine_0 {d : Nat} {Q : Outcome → MH → Prop} : ∀ ls st h, tX8_habitLine_0 d Q (fun pc ls st h => WPb mX8_habitLine d pc ls st h Q) ls st h → WPb mX8_habitLine d 0 ls st h Q :=
  r_aload_n (k := 0) dX8_habitLine_0 rfl <|
  r_getR (ci := 8) (q := (RX8, TX8, 27)) (k := 1) dX8_habitLine_1 (by decide) rfl in_X8 (by decide) (Or.inl q2142) rfl <|
  r_iconst (v := 4) dX8_habitLine_4 rfl <|
  r_iald dX8_habitLine_5 <|
  r_bipush (v := 24) dX8_habitLine_6 rfl <|
  r_icmp_ne (pt := 16) dX8_habitLine_8 (by decide)
  ((fun _ _ _ H => H))
  (r_aload_n (k := 0) dX8_habitLine_11 rfl <|
  r_iload_n (k := 1) dX8_habitLine_12 rfl <|
  r_cV (Z := mX8_wrong) (ci := 8) (q := (RX8, TX8, 27)) dX8_habitLine_13 rfl (by decide +kernel) ⟨by decide, by decide⟩ (by decide) rfl rfl q2258 q2260 qs56 q127 q2261 (XS.out (noH _)) <|
  (fun _ _ _ H => H))
def tX8_habitLine_16 (d : Nat) (Q : Outcome → MH → Prop) (J : Nat → KT) : KT :=
  i_aload 0 <|
  i_const 0 <|
  i_aload 0 <|
  i_getR 8 1 <|
  i_const 3 <|
  i_iald <|
  i_const 1 <|
  i_isub <|
  i_call mX8_figures d 3 (pV 8) (xOut Q) <|
  i_istore 2 <|
  i_aload 0 <|
  i_call mX8_greeting d 1 (pV 8) (xOut Q) <|
  i_istore 3 <|
  i_aload 0 <|
  i_ldcS 34 <|
  i_call mX8_must d 2 (pV 8) (xOut Q) <|
  i_aload 0 <|
  i_const 1 <|
  i_const 9 <|
  i_call mX8_figures d 3 (pV 8) (xOut Q) <|
  i_istore 4 <|
  i_aload 0 <|
  i_getI 8 12 <|
  i_const (-1) <|
  i_icmp_eq
  (i_const 20 <|
  i_const 3 <|
  i_aload 0 <|
  i_getR 8 1 <|
  i_const 4 <|
  i_iald <|
  i_imul <|
  i_iadd <|
  i_istore 5 <|
  i_aload 0 <|
  i_getR 8 1 <|
  i_iload 5 <|
  i_iload 2 <|
  i_iast <|
  i_aload 0 <|
  i_getR 8 1 <|
  i_iload 5 <|
  i_const 1 <|
  i_iadd <|
  i_iload 3 <|
  i_iast <|
  i_aload 0 <|
  i_getR 8 1 <|
  i_iload 5 <|
  i_const 2 <|
  i_iadd <|
  i_iload 4 <|
  i_iast <|
  i_aload 0 <|
  i_getR 8 1 <|
  i_const 4 <|
  i_dup2 <|
  i_iald <|
  i_const 1 <|
  i_iadd <|
  i_iast <|
  i_vret Q)
  (i_vret Q)
theorem kX8_habitLine_16 {d : Nat} {Q : Outcome → MH → Prop} : ∀ ls st h, tX8_habitLine_16 d Q (fun pc ls st h => WPb mX8_habitLine d pc ls st h Q) ls st h → WPb mX8_habitLine d 16 ls st h Q :=
  r_aload_n (k := 0) dX8_habitLine_16 rfl <|
  r_iconst (v := 0) dX8_habitLine_17 rfl <|
  r_aload_n (k := 0) dX8_habitLine_18 rfl <|
  r_getR (ci := 8) (q := (RX8, TX8, 27)) (k := 1) dX8_habitLine_19 (by decide) rfl in_X8 (by decide) (Or.inl q2142) rfl <|
  r_iconst (v := 3) dX8_habitLine_22 rfl <|
  r_iald dX8_habitLine_23 <|
  r_iconst (v := 1) dX8_habitLine_24 rfl <|
  r_isub dX8_habitLine_25 <|
  r_cV (Z := mX8_figures) (ci := 8) (q := (RX8, TX8, 27)) dX8_habitLine_26 rfl (by decide +kernel) ⟨by decide, by decide⟩ (by decide) rfl rfl q2294 q2296 qs61 q127 q2297 (XS.out (noH _)) <|
  r_istore_n (k := 2) dX8_habitLine_29 rfl <|
  r_aload_n (k := 0) dX8_habitLine_30 rfl <|
  r_cV (Z := mX8_greeting) (ci := 8) (q := (RX8, TX8, 27)) dX8_habitLine_31 rfl (by decide +kernel) ⟨by decide, by decide⟩ (by decide) rfl rfl q2266 q2268 qs58 q127 q2269 (XS.out (noH _)) <|
  r_istore_n (k := 3) dX8_habitLine_34 rfl <|
  r_aload_n (k := 0) dX8_habitLine_35 rfl <|
  r_ldcS (a := 34) (tx := "weight") dX8_habitLine_36 (by decide +kernel) (by decide) <|
  r_cV (Z := mX8_must) (ci := 8) (q := (RX8, TX8, 27)) dX8_habitLine_38 rfl (by decide +kernel) ⟨by decide, by decide⟩ (by decide) rfl rfl q2290 q2292 qs60 q127 q2293 (XS.out (noH _)) <|
  r_aload_n (k := 0) dX8_habitLine_41 rfl <|
  r_iconst (v := 1) dX8_habitLine_42 rfl <|
  r_bipush (v := 9) dX8_habitLine_43 rfl <|
  r_cV (Z := mX8_figures) (ci := 8) (q := (RX8, TX8, 27)) dX8_habitLine_45 rfl (by decide +kernel) ⟨by decide, by decide⟩ (by decide) rfl rfl q2294 q2296 qs61 q127 q2297 (XS.out (noH _)) <|
  r_istore dX8_habitLine_48 <|
  r_aload_n (k := 0) dX8_habitLine_50 rfl <|
  r_getI (ci := 8) (q := (RX8, TX8, 27)) (k := 12) dX8_habitLine_51 (by decide) rfl in_X8 (by decide) (Or.inl q2153) rfl <|
  r_iconst (v := (-1)) dX8_habitLine_54 rfl <|
  r_icmp_eq (pt := 59) dX8_habitLine_55 (by decide)
  (r_bipush (v := 20) dX8_habitLine_59 rfl <|
  r_iconst (v := 3) dX8_habitLine_61 rfl <|
  r_aload_n (k := 0) dX8_habitLine_62 rfl <|
  r_getR (ci := 8) (q := (RX8, TX8, 27)) (k := 1) dX8_habitLine_63 (by decide) rfl in_X8 (by decide) (Or.inl q2142) rfl <|
  r_iconst (v := 4) dX8_habitLine_66 rfl <|
  r_iald dX8_habitLine_67 <|
  r_imul dX8_habitLine_68 <|
  r_iadd dX8_habitLine_69 <|
  r_istore dX8_habitLine_70 <|
  r_aload_n (k := 0) dX8_habitLine_72 rfl <|
  r_getR (ci := 8) (q := (RX8, TX8, 27)) (k := 1) dX8_habitLine_73 (by decide) rfl in_X8 (by decide) (Or.inl q2142) rfl <|
  r_iload dX8_habitLine_76 <|
  r_iload_n (k := 2) dX8_habitLine_78 rfl <|
  r_iast dX8_habitLine_79 <|
  r_aload_n (k := 0) dX8_habitLine_80 rfl <|
  r_getR (ci := 8) (q := (RX8, TX8, 27)) (k := 1) dX8_habitLine_81 (by decide) rfl in_X8 (by decide) (Or.inl q2142) rfl <|
  r_iload dX8_habitLine_84 <|
  r_iconst (v := 1) dX8_habitLine_86 rfl <|
  r_iadd dX8_habitLine_87 <|
  r_iload_n (k := 3) dX8_habitLine_88 rfl <|
  r_iast dX8_habitLine_89 <|
  r_aload_n (k := 0) dX8_habitLine_90 rfl <|
  r_getR (ci := 8) (q := (RX8, TX8, 27)) (k := 1) dX8_habitLine_91 (by decide) rfl in_X8 (by decide) (Or.inl q2142) rfl <|
  r_iload dX8_habitLine_94 <|
  r_iconst (v := 2) dX8_habitLine_96 rfl <|
  r_iadd dX8_habitLine_97 <|
  r_iload dX8_habitLine_98 <|
  r_iast dX8_habitLine_100 <|
  r_aload_n (k := 0) dX8_habitLine_101 rfl <|
  r_getR (ci := 8) (q := (RX8, TX8, 27)) (k := 1) dX8_habitLine_102 (by decide) rfl in_X8 (by decide) (Or.inl q2142) rfl <|
  r_iconst (v := 4) dX8_habitLine_105 rfl <|
  r_dup2 dX8_habitLine_106 <|
  r_iald dX8_habitLine_107 <|
  r_iconst (v := 1) dX8_habitLine_108 rfl <|
  r_iadd dX8_habitLine_109 <|
  r_iast dX8_habitLine_110 <|
  r_vret rfl dX8_habitLine_111)
  (r_vret rfl dX8_habitLine_58)
-- CheekTownModel.personLine(I)V cuts [0, 16, 153]
def tX8_personLine_0 (d : Nat) (Q : Outcome → MH → Prop) (J : Nat → KT) : KT :=
  i_aload 0 <|
  i_getR 8 1 <|
  i_const 5 <|
  i_iald <|
  i_const 10 <|
  i_icmp_ne
  ((J 16))
  (i_aload 0 <|
  i_iload 1 <|
  i_call mX8_wrong d 2 (pV 8) (xOut Q) <|
  (J 16))
theorem kX8_personLine_0 {d : Nat} {Q : Outcome → MH → Prop} : ∀ ls st h, tX8_personLine_0 d Q (fun pc ls st h => WPb mX8_personLine d pc ls st h Q) ls st h → WPb mX8_personLine d 0 ls st h Q :=
  r_aload_n (k := 0) dX8_personLine_0 rfl <|
  r_getR (ci := 8) (q := (RX8, TX8, 27)) (k := 1) dX8_personLine_1 (by decide) rfl in_X8 (by decide) (Or.inl q2142) rfl <|
  r_iconst (v := 5) dX8_personLine_4 rfl <|
  r_iald dX8_personLine_5 <|
  r_bipush (v := 10) dX8_personLine_6 rfl <|
  r_icmp_ne (pt := 16) dX8_personLine_8 (by decide)
  ((fun _ _ _ H => H))
  (r_aload_n (k := 0) dX8_personLine_11 rfl <|
  r_iload_n (k := 1) dX8_personLine_12 rfl <|
  r_cV (Z := mX8_wrong) (ci := 8) (q := (RX8, TX8, 27)) dX8_personLine_13 rfl (by decide +kernel) ⟨by decide, by decide⟩ (by decide) rfl rfl q2258 q2260 qs56 q127 q2261 (XS.out (noH _)) <|
  (fun _ _ _ H => H))
def tX8_personLine_16 (d : Nat) (Q : Outcome → MH → Prop) (J : Nat → KT) : KT :=
  i_aload 0 <|
  i_const 0 <|
  i_aload 0 <|
  i_getR 8 1 <|
  i_const 3 <|
  i_iald <|
  i_const 1 <|
  i_isub <|
  i_call mX8_figures d 3 (pV 8) (xOut Q) <|
  i_istore 2 <|
  i_aload 0 <|
  i_call mX8_greeting d 1 (pV 8) (xOut Q) <|
  i_istore 3 <|
  i_aload 0 <|
  i_ldcS 36 <|
  i_call mX8_must d 2 (pV 8) (xOut Q) <|
  i_aload 0 <|
  i_const 0 <|
  i_const 9 <|
  i_call mX8_figures d 3 (pV 8) (xOut Q) <|
  i_istore 4 <|
  i_aload 0 <|
  i_ldcS 38 <|
  i_call mX8_must d 2 (pV 8) (xOut Q) <|
  i_aload 0 <|
  i_const 0 <|
  i_const 100 <|
  i_call mX8_figures d 3 (pV 8) (xOut Q) <|
  i_istore 5 <|
  i_aload 0 <|
  i_getI 8 12 <|
  i_const (-1) <|
  i_icmp_eq
  (i_aload 0 <|
  i_getR 8 1 <|
  i_const 5 <|
  i_iald <|
  i_istore 6 <|
  i_aload 0 <|
  i_iload 6 <|
  i_const 0 <|
  i_iload 2 <|
  i_call mX8_has_2 d 4 (pV 8) (xOut Q) <|
  i_aload 0 <|
  i_iload 6 <|
  i_const 1 <|
  i_iload 3 <|
  i_call mX8_has_2 d 4 (pV 8) (xOut Q) <|
  i_aload 0 <|
  i_iload 6 <|
  i_const 2 <|
  i_iload 4 <|
  i_call mX8_has_2 d 4 (pV 8) (xOut Q) <|
  i_aload 0 <|
  i_iload 6 <|
  i_const 3 <|
  i_iload 5 <|
  i_call mX8_has_2 d 4 (pV 8) (xOut Q) <|
  i_aload 0 <|
  i_iload 6 <|
  i_const 4 <|
  i_const 0 <|
  i_call mX8_has_2 d 4 (pV 8) (xOut Q) <|
  i_aload 0 <|
  i_iload 6 <|
  i_const 5 <|
  i_const 0 <|
  i_call mX8_has_2 d 4 (pV 8) (xOut Q) <|
  i_aload 0 <|
  i_iload 6 <|
  i_const 6 <|
  i_const (-1) <|
  i_call mX8_has_2 d 4 (pV 8) (xOut Q) <|
  i_aload 0 <|
  i_iload 6 <|
  i_const 7 <|
  i_const (-1) <|
  i_call mX8_has_2 d 4 (pV 8) (xOut Q) <|
  i_const 0 <|
  i_istore 7 <|
  (J 153))
  (i_vret Q)
theorem kX8_personLine_16 {d : Nat} {Q : Outcome → MH → Prop} : ∀ ls st h, tX8_personLine_16 d Q (fun pc ls st h => WPb mX8_personLine d pc ls st h Q) ls st h → WPb mX8_personLine d 16 ls st h Q :=
  r_aload_n (k := 0) dX8_personLine_16 rfl <|
  r_iconst (v := 0) dX8_personLine_17 rfl <|
  r_aload_n (k := 0) dX8_personLine_18 rfl <|
  r_getR (ci := 8) (q := (RX8, TX8, 27)) (k := 1) dX8_personLine_19 (by decide) rfl in_X8 (by decide) (Or.inl q2142) rfl <|
  r_iconst (v := 3) dX8_personLine_22 rfl <|
  r_iald dX8_personLine_23 <|
  r_iconst (v := 1) dX8_personLine_24 rfl <|
  r_isub dX8_personLine_25 <|
  r_cV (Z := mX8_figures) (ci := 8) (q := (RX8, TX8, 27)) dX8_personLine_26 rfl (by decide +kernel) ⟨by decide, by decide⟩ (by decide) rfl rfl q2294 q2296 qs61 q127 q2297 (XS.out (noH _)) <|
  r_istore_n (k := 2) dX8_personLine_29 rfl <|
  r_aload_n (k := 0) dX8_personLine_30 rfl <|
  r_cV (Z := mX8_greeting) (ci := 8) (q := (RX8, TX8, 27)) dX8_personLine_31 rfl (by decide +kernel) ⟨by decide, by decide⟩ (by decide) rfl rfl q2266 q2268 qs58 q127 q2269 (XS.out (noH _)) <|
  r_istore_n (k := 3) dX8_personLine_34 rfl <|
  r_aload_n (k := 0) dX8_personLine_35 rfl <|
  r_ldcS (a := 36) (tx := "rank") dX8_personLine_36 (by decide +kernel) (by decide) <|
  r_cV (Z := mX8_must) (ci := 8) (q := (RX8, TX8, 27)) dX8_personLine_38 rfl (by decide +kernel) ⟨by decide, by decide⟩ (by decide) rfl rfl q2290 q2292 qs60 q127 q2293 (XS.out (noH _)) <|
  r_aload_n (k := 0) dX8_personLine_41 rfl <|
  r_iconst (v := 0) dX8_personLine_42 rfl <|
  r_bipush (v := 9) dX8_personLine_43 rfl <|
  r_cV (Z := mX8_figures) (ci := 8) (q := (RX8, TX8, 27)) dX8_personLine_45 rfl (by decide +kernel) ⟨by decide, by decide⟩ (by decide) rfl rfl q2294 q2296 qs61 q127 q2297 (XS.out (noH _)) <|
  r_istore dX8_personLine_48 <|
  r_aload_n (k := 0) dX8_personLine_50 rfl <|
  r_ldcS (a := 38) (tx := "bent") dX8_personLine_51 (by decide +kernel) (by decide) <|
  r_cV (Z := mX8_must) (ci := 8) (q := (RX8, TX8, 27)) dX8_personLine_53 rfl (by decide +kernel) ⟨by decide, by decide⟩ (by decide) rfl rfl q2290 q2292 qs60 q127 q2293 (XS.out (noH _)) <|
  r_aload_n (k := 0) dX8_personLine_56 rfl <|
  r_iconst (v := 0) dX8_personLine_57 rfl <|
  r_bipush (v := 100) dX8_personLine_58 rfl <|
  r_cV (Z := mX8_figures) (ci := 8) (q := (RX8, TX8, 27)) dX8_personLine_60 rfl (by decide +kernel) ⟨by decide, by decide⟩ (by decide) rfl rfl q2294 q2296 qs61 q127 q2297 (XS.out (noH _)) <|
  r_istore dX8_personLine_63 <|
  r_aload_n (k := 0) dX8_personLine_65 rfl <|
  r_getI (ci := 8) (q := (RX8, TX8, 27)) (k := 12) dX8_personLine_66 (by decide) rfl in_X8 (by decide) (Or.inl q2153) rfl <|
  r_iconst (v := (-1)) dX8_personLine_69 rfl <|
  r_icmp_eq (pt := 74) dX8_personLine_70 (by decide)
  (r_aload_n (k := 0) dX8_personLine_74 rfl <|
  r_getR (ci := 8) (q := (RX8, TX8, 27)) (k := 1) dX8_personLine_75 (by decide) rfl in_X8 (by decide) (Or.inl q2142) rfl <|
  r_iconst (v := 5) dX8_personLine_78 rfl <|
  r_iald dX8_personLine_79 <|
  r_istore dX8_personLine_80 <|
  r_aload_n (k := 0) dX8_personLine_82 rfl <|
  r_iload dX8_personLine_83 <|
  r_iconst (v := 0) dX8_personLine_85 rfl <|
  r_iload_n (k := 2) dX8_personLine_86 rfl <|
  r_cV (Z := mX8_has_2) (ci := 8) (q := (RX8, TX8, 27)) dX8_personLine_87 rfl (by decide +kernel) ⟨by decide, by decide⟩ (by decide) rfl rfl q2361 q2363 qs73 q127 q2364 (XS.out (noH _)) <|
  r_aload_n (k := 0) dX8_personLine_90 rfl <|
  r_iload dX8_personLine_91 <|
  r_iconst (v := 1) dX8_personLine_93 rfl <|
  r_iload_n (k := 3) dX8_personLine_94 rfl <|
  r_cV (Z := mX8_has_2) (ci := 8) (q := (RX8, TX8, 27)) dX8_personLine_95 rfl (by decide +kernel) ⟨by decide, by decide⟩ (by decide) rfl rfl q2361 q2363 qs73 q127 q2364 (XS.out (noH _)) <|
  r_aload_n (k := 0) dX8_personLine_98 rfl <|
  r_iload dX8_personLine_99 <|
  r_iconst (v := 2) dX8_personLine_101 rfl <|
  r_iload dX8_personLine_102 <|
  r_cV (Z := mX8_has_2) (ci := 8) (q := (RX8, TX8, 27)) dX8_personLine_104 rfl (by decide +kernel) ⟨by decide, by decide⟩ (by decide) rfl rfl q2361 q2363 qs73 q127 q2364 (XS.out (noH _)) <|
  r_aload_n (k := 0) dX8_personLine_107 rfl <|
  r_iload dX8_personLine_108 <|
  r_iconst (v := 3) dX8_personLine_110 rfl <|
  r_iload dX8_personLine_111 <|
  r_cV (Z := mX8_has_2) (ci := 8) (q := (RX8, TX8, 27)) dX8_personLine_113 rfl (by decide +kernel) ⟨by decide, by decide⟩ (by decide) rfl rfl q2361 q2363 qs73 q127 q2364 (XS.out (noH _)) <|
  r_aload_n (k := 0) dX8_personLine_116 rfl <|
  r_iload dX8_personLine_117 <|
  r_iconst (v := 4) dX8_personLine_119 rfl <|
  r_iconst (v := 0) dX8_personLine_120 rfl <|
  r_cV (Z := mX8_has_2) (ci := 8) (q := (RX8, TX8, 27)) dX8_personLine_121 rfl (by decide +kernel) ⟨by decide, by decide⟩ (by decide) rfl rfl q2361 q2363 qs73 q127 q2364 (XS.out (noH _)) <|
  r_aload_n (k := 0) dX8_personLine_124 rfl <|
  r_iload dX8_personLine_125 <|
  r_iconst (v := 5) dX8_personLine_127 rfl <|
  r_iconst (v := 0) dX8_personLine_128 rfl <|
  r_cV (Z := mX8_has_2) (ci := 8) (q := (RX8, TX8, 27)) dX8_personLine_129 rfl (by decide +kernel) ⟨by decide, by decide⟩ (by decide) rfl rfl q2361 q2363 qs73 q127 q2364 (XS.out (noH _)) <|
  r_aload_n (k := 0) dX8_personLine_132 rfl <|
  r_iload dX8_personLine_133 <|
  r_bipush (v := 6) dX8_personLine_135 rfl <|
  r_iconst (v := (-1)) dX8_personLine_137 rfl <|
  r_cV (Z := mX8_has_2) (ci := 8) (q := (RX8, TX8, 27)) dX8_personLine_138 rfl (by decide +kernel) ⟨by decide, by decide⟩ (by decide) rfl rfl q2361 q2363 qs73 q127 q2364 (XS.out (noH _)) <|
  r_aload_n (k := 0) dX8_personLine_141 rfl <|
  r_iload dX8_personLine_142 <|
  r_bipush (v := 7) dX8_personLine_144 rfl <|
  r_iconst (v := (-1)) dX8_personLine_146 rfl <|
  r_cV (Z := mX8_has_2) (ci := 8) (q := (RX8, TX8, 27)) dX8_personLine_147 rfl (by decide +kernel) ⟨by decide, by decide⟩ (by decide) rfl rfl q2361 q2363 qs73 q127 q2364 (XS.out (noH _)) <|
  r_iconst (v := 0) dX8_personLine_150 rfl <|
  r_istore dX8_personLine_151 <|
  (fun _ _ _ H => H))
  (r_vret rfl dX8_personLine_73)
def tX8_personLine_153 (d : Nat) (Q : Outcome → MH → Prop) (J : Nat → KT) : KT :=
  i_iload 7 <|
  i_const 10 <|
  i_icmp_ge
  (i_aload 0 <|
  i_getR 8 1 <|
  i_const 5 <|
  i_dup2 <|
  i_iald <|
  i_const 1 <|
  i_iadd <|
  i_iast <|
  i_vret Q)
  (i_aload 0 <|
  i_iload 6 <|
  i_iload 7 <|
  i_const 0 <|
  i_const (-1) <|
  i_call mX8_meets d 5 (pV 8) (xOut Q) <|
  i_aload 0 <|
  i_iload 7 <|
  i_iload 6 <|
  i_const 0 <|
  i_const (-1) <|
  i_call mX8_meets d 5 (pV 8) (xOut Q) <|
  i_iinc 7 1 <|
  (J 153))
theorem kX8_personLine_153 {d : Nat} {Q : Outcome → MH → Prop} : ∀ ls st h, tX8_personLine_153 d Q (fun pc ls st h => WPb mX8_personLine d pc ls st h Q) ls st h → WPb mX8_personLine d 153 ls st h Q :=
  r_iload dX8_personLine_153 <|
  r_bipush (v := 10) dX8_personLine_155 rfl <|
  r_icmp_ge (pt := 186) dX8_personLine_157 (by decide)
  (r_aload_n (k := 0) dX8_personLine_186 rfl <|
  r_getR (ci := 8) (q := (RX8, TX8, 27)) (k := 1) dX8_personLine_187 (by decide) rfl in_X8 (by decide) (Or.inl q2142) rfl <|
  r_iconst (v := 5) dX8_personLine_190 rfl <|
  r_dup2 dX8_personLine_191 <|
  r_iald dX8_personLine_192 <|
  r_iconst (v := 1) dX8_personLine_193 rfl <|
  r_iadd dX8_personLine_194 <|
  r_iast dX8_personLine_195 <|
  r_vret rfl dX8_personLine_196)
  (r_aload_n (k := 0) dX8_personLine_160 rfl <|
  r_iload dX8_personLine_161 <|
  r_iload dX8_personLine_163 <|
  r_iconst (v := 0) dX8_personLine_165 rfl <|
  r_iconst (v := (-1)) dX8_personLine_166 rfl <|
  r_cV (Z := mX8_meets) (ci := 8) (q := (RX8, TX8, 27)) dX8_personLine_167 rfl (by decide +kernel) ⟨by decide, by decide⟩ (by decide) rfl rfl q2365 q2367 qs74 q127 q2368 (XS.out (noH _)) <|
  r_aload_n (k := 0) dX8_personLine_170 rfl <|
  r_iload dX8_personLine_171 <|
  r_iload dX8_personLine_173 <|
  r_iconst (v := 0) dX8_personLine_175 rfl <|
  r_iconst (v := (-1)) dX8_personLine_176 rfl <|
  r_cV (Z := mX8_meets) (ci := 8) (q := (RX8, TX8, 27)) dX8_personLine_177 rfl (by decide +kernel) ⟨by decide, by decide⟩ (by decide) rfl rfl q2365 q2367 qs74 q127 q2368 (XS.out (noH _)) <|
  r_iinc (v := 1) dX8_personLine_180 rfl <|
  r_goto (pt := 153) dX8_personLine_183 (by decide) <|
  (fun _ _ _ H => H))
-- CheekTownModel.has(III)V cuts [0]
def tX8_has_2_0 (d : Nat) (Q : Outcome → MH → Prop) (J : Nat → KT) : KT :=
  i_aload 0 <|
  i_getR 8 1 <|
  i_const 92 <|
  i_const 8 <|
  i_iload 1 <|
  i_imul <|
  i_iadd <|
  i_iload 2 <|
  i_iadd <|
  i_iload 3 <|
  i_iast <|
  i_vret Q
theorem kX8_has_2_0 {d : Nat} {Q : Outcome → MH → Prop} : ∀ ls st h, tX8_has_2_0 d Q (fun pc ls st h => WPb mX8_has_2 d pc ls st h Q) ls st h → WPb mX8_has_2 d 0 ls st h Q :=
  r_aload_n (k := 0) dX8_has_2_0 rfl <|
  r_getR (ci := 8) (q := (RX8, TX8, 27)) (k := 1) dX8_has_2_1 (by decide) rfl in_X8 (by decide) (Or.inl q2142) rfl <|
  r_bipush (v := 92) dX8_has_2_4 rfl <|
  r_bipush (v := 8) dX8_has_2_6 rfl <|
  r_iload_n (k := 1) dX8_has_2_8 rfl <|
  r_imul dX8_has_2_9 <|
  r_iadd dX8_has_2_10 <|
  r_iload_n (k := 2) dX8_has_2_11 rfl <|
  r_iadd dX8_has_2_12 <|
  r_iload_n (k := 3) dX8_has_2_13 rfl <|
  r_iast dX8_has_2_14 <|
  r_vret rfl dX8_has_2_15
-- CheekTownModel.meets(IIII)V cuts [0]
def tX8_meets_0 (d : Nat) (Q : Outcome → MH → Prop) (J : Nat → KT) : KT :=
  i_aload 0 <|
  i_getR 8 1 <|
  i_const 172 <|
  i_const 10 <|
  i_iload 1 <|
  i_imul <|
  i_iadd <|
  i_iload 2 <|
  i_iadd <|
  i_iload 3 <|
  i_iast <|
  i_aload 0 <|
  i_getR 8 1 <|
  i_const 272 <|
  i_const 10 <|
  i_iload 1 <|
  i_imul <|
  i_iadd <|
  i_iload 2 <|
  i_iadd <|
  i_iload 4 <|
  i_iast <|
  i_vret Q
theorem kX8_meets_0 {d : Nat} {Q : Outcome → MH → Prop} : ∀ ls st h, tX8_meets_0 d Q (fun pc ls st h => WPb mX8_meets d pc ls st h Q) ls st h → WPb mX8_meets d 0 ls st h Q :=
  r_aload_n (k := 0) dX8_meets_0 rfl <|
  r_getR (ci := 8) (q := (RX8, TX8, 27)) (k := 1) dX8_meets_1 (by decide) rfl in_X8 (by decide) (Or.inl q2142) rfl <|
  r_sipush (v := 172) dX8_meets_4 rfl <|
  r_bipush (v := 10) dX8_meets_7 rfl <|
  r_iload_n (k := 1) dX8_meets_9 rfl <|
  r_imul dX8_meets_10 <|
  r_iadd dX8_meets_11 <|
  r_iload_n (k := 2) dX8_meets_12 rfl <|
  r_iadd dX8_meets_13 <|
  r_iload_n (k := 3) dX8_meets_14 rfl <|
  r_iast dX8_meets_15 <|
  r_aload_n (k := 0) dX8_meets_16 rfl <|
  r_getR (ci := 8) (q := (RX8, TX8, 27)) (k := 1) dX8_meets_17 (by decide) rfl in_X8 (by decide) (Or.inl q2142) rfl <|
  r_sipush (v := 272) dX8_meets_20 rfl <|
  r_bipush (v := 10) dX8_meets_23 rfl <|
  r_iload_n (k := 1) dX8_meets_25 rfl <|
  r_imul dX8_meets_26 <|
  r_iadd dX8_meets_27 <|
  r_iload_n (k := 2) dX8_meets_28 rfl <|
  r_iadd dX8_meets_29 <|
  r_iload dX8_meets_30 <|
  r_iast dX8_meets_32 <|
  r_vret rfl dX8_meets_33
-- CheekTownModel.tieLine(I)V cuts [0, 17, 80]
def tX8_tieLine_0 (d : Nat) (Q : Outcome → MH → Prop) (J : Nat → KT) : KT :=
  i_aload 0 <|
  i_getR 8 1 <|
  i_const 6 <|
  i_iald <|
  i_const 24 <|
  i_icmp_ne
  ((J 17))
  (i_aload 0 <|
  i_iload 1 <|
  i_call mX8_wrong d 2 (pV 8) (xOut Q) <|
  (J 17))
theorem kX8_tieLine_0 {d : Nat} {Q : Outcome → MH → Prop} : ∀ ls st h, tX8_tieLine_0 d Q (fun pc ls st h => WPb mX8_tieLine d pc ls st h Q) ls st h → WPb mX8_tieLine d 0 ls st h Q :=
  r_aload_n (k := 0) dX8_tieLine_0 rfl <|
  r_getR (ci := 8) (q := (RX8, TX8, 27)) (k := 1) dX8_tieLine_1 (by decide) rfl in_X8 (by decide) (Or.inl q2142) rfl <|
  r_bipush (v := 6) dX8_tieLine_4 rfl <|
  r_iald dX8_tieLine_6 <|
  r_bipush (v := 24) dX8_tieLine_7 rfl <|
  r_icmp_ne (pt := 17) dX8_tieLine_9 (by decide)
  ((fun _ _ _ H => H))
  (r_aload_n (k := 0) dX8_tieLine_12 rfl <|
  r_iload_n (k := 1) dX8_tieLine_13 rfl <|
  r_cV (Z := mX8_wrong) (ci := 8) (q := (RX8, TX8, 27)) dX8_tieLine_14 rfl (by decide +kernel) ⟨by decide, by decide⟩ (by decide) rfl rfl q2258 q2260 qs56 q127 q2261 (XS.out (noH _)) <|
  (fun _ _ _ H => H))
def tX8_tieLine_17 (d : Nat) (Q : Outcome → MH → Prop) (J : Nat → KT) : KT :=
  i_aload 0 <|
  i_const 0 <|
  i_aload 0 <|
  i_getR 8 1 <|
  i_const 5 <|
  i_iald <|
  i_const 1 <|
  i_isub <|
  i_call mX8_figures d 3 (pV 8) (xOut Q) <|
  i_istore 2 <|
  i_aload 0 <|
  i_call mX8_place d 1 (pV 8) (xOut Q) <|
  i_istore 3 <|
  i_aload 0 <|
  i_const 0 <|
  i_aload 0 <|
  i_getR 8 1 <|
  i_const 5 <|
  i_iald <|
  i_const 1 <|
  i_isub <|
  i_call mX8_figures d 3 (pV 8) (xOut Q) <|
  i_istore 4 <|
  i_aload 0 <|
  i_getI 8 12 <|
  i_const (-1) <|
  i_icmp_ne
  ((J 80))
  (i_iload 2 <|
  i_iload 4 <|
  i_icmp_eq
  (i_aload 0 <|
  i_iload 3 <|
  i_call mX8_wrong d 2 (pV 8) (xOut Q) <|
  (J 80))
  (i_aload 0 <|
  i_iload 2 <|
  i_iload 4 <|
  i_call mX8_areTied d 3 (pV 8) (xOut Q) <|
  i_if_eq
  ((J 80))
  (i_aload 0 <|
  i_iload 3 <|
  i_call mX8_wrong d 2 (pV 8) (xOut Q) <|
  (J 80))))
theorem kX8_tieLine_17 {d : Nat} {Q : Outcome → MH → Prop} : ∀ ls st h, tX8_tieLine_17 d Q (fun pc ls st h => WPb mX8_tieLine d pc ls st h Q) ls st h → WPb mX8_tieLine d 17 ls st h Q :=
  r_aload_n (k := 0) dX8_tieLine_17 rfl <|
  r_iconst (v := 0) dX8_tieLine_18 rfl <|
  r_aload_n (k := 0) dX8_tieLine_19 rfl <|
  r_getR (ci := 8) (q := (RX8, TX8, 27)) (k := 1) dX8_tieLine_20 (by decide) rfl in_X8 (by decide) (Or.inl q2142) rfl <|
  r_iconst (v := 5) dX8_tieLine_23 rfl <|
  r_iald dX8_tieLine_24 <|
  r_iconst (v := 1) dX8_tieLine_25 rfl <|
  r_isub dX8_tieLine_26 <|
  r_cV (Z := mX8_figures) (ci := 8) (q := (RX8, TX8, 27)) dX8_tieLine_27 rfl (by decide +kernel) ⟨by decide, by decide⟩ (by decide) rfl rfl q2294 q2296 qs61 q127 q2297 (XS.out (noH _)) <|
  r_istore_n (k := 2) dX8_tieLine_30 rfl <|
  r_aload_n (k := 0) dX8_tieLine_31 rfl <|
  r_cV (Z := mX8_place) (ci := 8) (q := (RX8, TX8, 27)) dX8_tieLine_32 rfl (by decide +kernel) ⟨by decide, by decide⟩ (by decide) rfl rfl q2298 q2300 qs62 q127 q2301 (XS.out (noH _)) <|
  r_istore_n (k := 3) dX8_tieLine_35 rfl <|
  r_aload_n (k := 0) dX8_tieLine_36 rfl <|
  r_iconst (v := 0) dX8_tieLine_37 rfl <|
  r_aload_n (k := 0) dX8_tieLine_38 rfl <|
  r_getR (ci := 8) (q := (RX8, TX8, 27)) (k := 1) dX8_tieLine_39 (by decide) rfl in_X8 (by decide) (Or.inl q2142) rfl <|
  r_iconst (v := 5) dX8_tieLine_42 rfl <|
  r_iald dX8_tieLine_43 <|
  r_iconst (v := 1) dX8_tieLine_44 rfl <|
  r_isub dX8_tieLine_45 <|
  r_cV (Z := mX8_figures) (ci := 8) (q := (RX8, TX8, 27)) dX8_tieLine_46 rfl (by decide +kernel) ⟨by decide, by decide⟩ (by decide) rfl rfl q2294 q2296 qs61 q127 q2297 (XS.out (noH _)) <|
  r_istore dX8_tieLine_49 <|
  r_aload_n (k := 0) dX8_tieLine_51 rfl <|
  r_getI (ci := 8) (q := (RX8, TX8, 27)) (k := 12) dX8_tieLine_52 (by decide) rfl in_X8 (by decide) (Or.inl q2153) rfl <|
  r_iconst (v := (-1)) dX8_tieLine_55 rfl <|
  r_icmp_ne (pt := 80) dX8_tieLine_56 (by decide)
  ((fun _ _ _ H => H))
  (r_iload_n (k := 2) dX8_tieLine_59 rfl <|
  r_iload dX8_tieLine_60 <|
  r_icmp_eq (pt := 75) dX8_tieLine_62 (by decide)
  (r_aload_n (k := 0) dX8_tieLine_75 rfl <|
  r_iload_n (k := 3) dX8_tieLine_76 rfl <|
  r_cV (Z := mX8_wrong) (ci := 8) (q := (RX8, TX8, 27)) dX8_tieLine_77 rfl (by decide +kernel) ⟨by decide, by decide⟩ (by decide) rfl rfl q2258 q2260 qs56 q127 q2261 (XS.out (noH _)) <|
  (fun _ _ _ H => H))
  (r_aload_n (k := 0) dX8_tieLine_65 rfl <|
  r_iload_n (k := 2) dX8_tieLine_66 rfl <|
  r_iload dX8_tieLine_67 <|
  r_cV (Z := mX8_areTied) (ci := 8) (q := (RX8, TX8, 27)) dX8_tieLine_69 rfl (by decide +kernel) ⟨by decide, by decide⟩ (by decide) rfl rfl q2374 q2376 qs76 q127 q2377 (XS.out (noH _)) <|
  r_if_eq (pt := 80) dX8_tieLine_72 (by decide)
  ((fun _ _ _ H => H))
  (r_aload_n (k := 0) dX8_tieLine_75 rfl <|
  r_iload_n (k := 3) dX8_tieLine_76 rfl <|
  r_cV (Z := mX8_wrong) (ci := 8) (q := (RX8, TX8, 27)) dX8_tieLine_77 rfl (by decide +kernel) ⟨by decide, by decide⟩ (by decide) rfl rfl q2258 q2260 qs56 q127 q2261 (XS.out (noH _)) <|
  (fun _ _ _ H => H))))
def tX8_tieLine_80 (d : Nat) (Q : Outcome → MH → Prop) (J : Nat → KT) : KT :=
  i_aload 0 <|
  i_getI 8 12 <|
  i_const (-1) <|
  i_icmp_ne
  (i_vret Q)
  (i_aload 0 <|
  i_iload 2 <|
  i_iload 4 <|
  i_call mX8_binds d 3 (pV 8) (xOut Q) <|
  i_vret Q)
theorem kX8_tieLine_80 {d : Nat} {Q : Outcome → MH → Prop} : ∀ ls st h, tX8_tieLine_80 d Q (fun pc ls st h => WPb mX8_tieLine d pc ls st h Q) ls st h → WPb mX8_tieLine d 80 ls st h Q :=
  r_aload_n (k := 0) dX8_tieLine_80 rfl <|
  r_getI (ci := 8) (q := (RX8, TX8, 27)) (k := 12) dX8_tieLine_81 (by decide) rfl in_X8 (by decide) (Or.inl q2153) rfl <|
  r_iconst (v := (-1)) dX8_tieLine_84 rfl <|
  r_icmp_ne (pt := 95) dX8_tieLine_85 (by decide)
  (r_vret rfl dX8_tieLine_95)
  (r_aload_n (k := 0) dX8_tieLine_88 rfl <|
  r_iload_n (k := 2) dX8_tieLine_89 rfl <|
  r_iload dX8_tieLine_90 <|
  r_cV (Z := mX8_binds) (ci := 8) (q := (RX8, TX8, 27)) dX8_tieLine_92 rfl (by decide +kernel) ⟨by decide, by decide⟩ (by decide) rfl rfl q2386 q2388 qs79 q127 q2389 (XS.out (noH _)) <|
  r_vret rfl dX8_tieLine_95)
-- CheekTownModel.areTied(II)Z cuts [0, 2, 31]
def tX8_areTied_0 (d : Nat) (Q : Outcome → MH → Prop) (J : Nat → KT) : KT :=
  i_const 0 <|
  i_istore 3 <|
  (J 2)
theorem kX8_areTied_0 {d : Nat} {Q : Outcome → MH → Prop} : ∀ ls st h, tX8_areTied_0 d Q (fun pc ls st h => WPb mX8_areTied d pc ls st h Q) ls st h → WPb mX8_areTied d 0 ls st h Q :=
  r_iconst (v := 0) dX8_areTied_0 rfl <|
  r_istore_n (k := 3) dX8_areTied_1 rfl <|
  (fun _ _ _ H => H)
def tX8_areTied_2 (d : Nat) (Q : Outcome → MH → Prop) (J : Nat → KT) : KT :=
  i_iload 3 <|
  i_aload 0 <|
  i_getR 8 1 <|
  i_const 6 <|
  i_iald <|
  i_icmp_ge
  (i_const 0 <|
  i_ret Q (some .boolean))
  (i_aload 0 <|
  i_iload 3 <|
  i_call mX8_who d 2 (pV 8) (xOut Q) <|
  i_iload 1 <|
  i_icmp_ne
  ((J 31))
  (i_aload 0 <|
  i_iload 3 <|
  i_call mX8_whom d 2 (pV 8) (xOut Q) <|
  i_iload 2 <|
  i_icmp_eq
  (i_const 1 <|
  i_ret Q (some .boolean))
  ((J 31))))
theorem kX8_areTied_2 {d : Nat} {Q : Outcome → MH → Prop} : ∀ ls st h, tX8_areTied_2 d Q (fun pc ls st h => WPb mX8_areTied d pc ls st h Q) ls st h → WPb mX8_areTied d 2 ls st h Q :=
  r_iload_n (k := 3) dX8_areTied_2 rfl <|
  r_aload_n (k := 0) dX8_areTied_3 rfl <|
  r_getR (ci := 8) (q := (RX8, TX8, 27)) (k := 1) dX8_areTied_4 (by decide) rfl in_X8 (by decide) (Or.inl q2142) rfl <|
  r_bipush (v := 6) dX8_areTied_7 rfl <|
  r_iald dX8_areTied_9 <|
  r_icmp_ge (pt := 57) dX8_areTied_10 (by decide)
  (r_iconst (v := 0) dX8_areTied_57 rfl <|
  r_ret rfl (Or.inl ⟨dX8_areTied_58, Or.inr (Or.inl rfl)⟩))
  (r_aload_n (k := 0) dX8_areTied_13 rfl <|
  r_iload_n (k := 3) dX8_areTied_14 rfl <|
  r_cV (Z := mX8_who) (ci := 8) (q := (RX8, TX8, 27)) dX8_areTied_15 rfl (by decide +kernel) ⟨by decide, by decide⟩ (by decide) rfl rfl q2378 q2380 qs77 q127 q2381 (XS.out (noH _)) <|
  r_iload_n (k := 1) dX8_areTied_18 rfl <|
  r_icmp_ne (pt := 31) dX8_areTied_19 (by decide)
  ((fun _ _ _ H => H))
  (r_aload_n (k := 0) dX8_areTied_22 rfl <|
  r_iload_n (k := 3) dX8_areTied_23 rfl <|
  r_cV (Z := mX8_whom) (ci := 8) (q := (RX8, TX8, 27)) dX8_areTied_24 rfl (by decide +kernel) ⟨by decide, by decide⟩ (by decide) rfl rfl q2382 q2384 qs78 q127 q2385 (XS.out (noH _)) <|
  r_iload_n (k := 2) dX8_areTied_27 rfl <|
  r_icmp_eq (pt := 49) dX8_areTied_28 (by decide)
  (r_iconst (v := 1) dX8_areTied_49 rfl <|
  r_ret rfl (Or.inl ⟨dX8_areTied_50, Or.inr (Or.inl rfl)⟩))
  ((fun _ _ _ H => H))))
def tX8_areTied_31 (d : Nat) (Q : Outcome → MH → Prop) (J : Nat → KT) : KT :=
  i_aload 0 <|
  i_iload 3 <|
  i_call mX8_who d 2 (pV 8) (xOut Q) <|
  i_iload 2 <|
  i_icmp_ne
  (i_iinc 3 1 <|
  (J 2))
  (i_aload 0 <|
  i_iload 3 <|
  i_call mX8_whom d 2 (pV 8) (xOut Q) <|
  i_iload 1 <|
  i_icmp_ne
  (i_iinc 3 1 <|
  (J 2))
  (i_const 1 <|
  i_ret Q (some .boolean)))
theorem kX8_areTied_31 {d : Nat} {Q : Outcome → MH → Prop} : ∀ ls st h, tX8_areTied_31 d Q (fun pc ls st h => WPb mX8_areTied d pc ls st h Q) ls st h → WPb mX8_areTied d 31 ls st h Q :=
  r_aload_n (k := 0) dX8_areTied_31 rfl <|
  r_iload_n (k := 3) dX8_areTied_32 rfl <|
  r_cV (Z := mX8_who) (ci := 8) (q := (RX8, TX8, 27)) dX8_areTied_33 rfl (by decide +kernel) ⟨by decide, by decide⟩ (by decide) rfl rfl q2378 q2380 qs77 q127 q2381 (XS.out (noH _)) <|
  r_iload_n (k := 2) dX8_areTied_36 rfl <|
  r_icmp_ne (pt := 51) dX8_areTied_37 (by decide)
  (r_iinc (v := 1) dX8_areTied_51 rfl <|
  r_goto (pt := 2) dX8_areTied_54 (by decide) <|
  (fun _ _ _ H => H))
  (r_aload_n (k := 0) dX8_areTied_40 rfl <|
  r_iload_n (k := 3) dX8_areTied_41 rfl <|
  r_cV (Z := mX8_whom) (ci := 8) (q := (RX8, TX8, 27)) dX8_areTied_42 rfl (by decide +kernel) ⟨by decide, by decide⟩ (by decide) rfl rfl q2382 q2384 qs78 q127 q2385 (XS.out (noH _)) <|
  r_iload_n (k := 1) dX8_areTied_45 rfl <|
  r_icmp_ne (pt := 51) dX8_areTied_46 (by decide)
  (r_iinc (v := 1) dX8_areTied_51 rfl <|
  r_goto (pt := 2) dX8_areTied_54 (by decide) <|
  (fun _ _ _ H => H))
  (r_iconst (v := 1) dX8_areTied_49 rfl <|
  r_ret rfl (Or.inl ⟨dX8_areTied_50, Or.inr (Or.inl rfl)⟩)))
-- CheekTownModel.who(I)I cuts [0]
def tX8_who_0 (d : Nat) (Q : Outcome → MH → Prop) (J : Nat → KT) : KT :=
  i_aload 0 <|
  i_getR 8 1 <|
  i_const 372 <|
  i_const 2 <|
  i_iload 1 <|
  i_imul <|
  i_iadd <|
  i_iald <|
  i_ret Q (some .int)
theorem kX8_who_0 {d : Nat} {Q : Outcome → MH → Prop} : ∀ ls st h, tX8_who_0 d Q (fun pc ls st h => WPb mX8_who d pc ls st h Q) ls st h → WPb mX8_who d 0 ls st h Q :=
  r_aload_n (k := 0) dX8_who_0 rfl <|
  r_getR (ci := 8) (q := (RX8, TX8, 27)) (k := 1) dX8_who_1 (by decide) rfl in_X8 (by decide) (Or.inl q2142) rfl <|
  r_sipush (v := 372) dX8_who_4 rfl <|
  r_iconst (v := 2) dX8_who_7 rfl <|
  r_iload_n (k := 1) dX8_who_8 rfl <|
  r_imul dX8_who_9 <|
  r_iadd dX8_who_10 <|
  r_iald dX8_who_11 <|
  r_ret rfl (Or.inl ⟨dX8_who_12, Or.inl rfl⟩)
-- CheekTownModel.whom(I)I cuts [0]
def tX8_whom_0 (d : Nat) (Q : Outcome → MH → Prop) (J : Nat → KT) : KT :=
  i_aload 0 <|
  i_getR 8 1 <|
  i_const 372 <|
  i_const 2 <|
  i_iload 1 <|
  i_imul <|
  i_iadd <|
  i_const 1 <|
  i_iadd <|
  i_iald <|
  i_ret Q (some .int)
theorem kX8_whom_0 {d : Nat} {Q : Outcome → MH → Prop} : ∀ ls st h, tX8_whom_0 d Q (fun pc ls st h => WPb mX8_whom d pc ls st h Q) ls st h → WPb mX8_whom d 0 ls st h Q :=
  r_aload_n (k := 0) dX8_whom_0 rfl <|
  r_getR (ci := 8) (q := (RX8, TX8, 27)) (k := 1) dX8_whom_1 (by decide) rfl in_X8 (by decide) (Or.inl q2142) rfl <|
  r_sipush (v := 372) dX8_whom_4 rfl <|
  r_iconst (v := 2) dX8_whom_7 rfl <|
  r_iload_n (k := 1) dX8_whom_8 rfl <|
  r_imul dX8_whom_9 <|
  r_iadd dX8_whom_10 <|
  r_iconst (v := 1) dX8_whom_11 rfl <|
  r_iadd dX8_whom_12 <|
  r_iald dX8_whom_13 <|
  r_ret rfl (Or.inl ⟨dX8_whom_14, Or.inl rfl⟩)
-- CheekTownModel.binds(II)V cuts [0]
def tX8_binds_0 (d : Nat) (Q : Outcome → MH → Prop) (J : Nat → KT) : KT :=
  i_aload 0 <|
  i_getR 8 1 <|
  i_const 372 <|
  i_const 2 <|
  i_aload 0 <|
  i_getR 8 1 <|
  i_const 6 <|
  i_iald <|
  i_imul <|
  i_iadd <|
  i_iload 1 <|
  i_iast <|
  i_aload 0 <|
  i_getR 8 1 <|
  i_const 372 <|
  i_const 2 <|
  i_aload 0 <|
  i_getR 8 1 <|
  i_const 6 <|
  i_iald <|
  i_imul <|
  i_iadd <|
  i_const 1 <|
  i_iadd <|
  i_iload 2 <|
  i_iast <|
  i_aload 0 <|
  i_getR 8 1 <|
  i_const 6 <|
  i_dup2 <|
  i_iald <|
  i_const 1 <|
  i_iadd <|
  i_iast <|
  i_vret Q
theorem kX8_binds_0 {d : Nat} {Q : Outcome → MH → Prop} : ∀ ls st h, tX8_binds_0 d Q (fun pc ls st h => WPb mX8_binds d pc ls st h Q) ls st h → WPb mX8_binds d 0 ls st h Q :=
  r_aload_n (k := 0) dX8_binds_0 rfl <|
  r_getR (ci := 8) (q := (RX8, TX8, 27)) (k := 1) dX8_binds_1 (by decide) rfl in_X8 (by decide) (Or.inl q2142) rfl <|
  r_sipush (v := 372) dX8_binds_4 rfl <|
  r_iconst (v := 2) dX8_binds_7 rfl <|
  r_aload_n (k := 0) dX8_binds_8 rfl <|
  r_getR (ci := 8) (q := (RX8, TX8, 27)) (k := 1) dX8_binds_9 (by decide) rfl in_X8 (by decide) (Or.inl q2142) rfl <|
  r_bipush (v := 6) dX8_binds_12 rfl <|
  r_iald dX8_binds_14 <|
  r_imul dX8_binds_15 <|
  r_iadd dX8_binds_16 <|
  r_iload_n (k := 1) dX8_binds_17 rfl <|
  r_iast dX8_binds_18 <|
  r_aload_n (k := 0) dX8_binds_19 rfl <|
  r_getR (ci := 8) (q := (RX8, TX8, 27)) (k := 1) dX8_binds_20 (by decide) rfl in_X8 (by decide) (Or.inl q2142) rfl <|
  r_sipush (v := 372) dX8_binds_23 rfl <|
  r_iconst (v := 2) dX8_binds_26 rfl <|
  r_aload_n (k := 0) dX8_binds_27 rfl <|
  r_getR (ci := 8) (q := (RX8, TX8, 27)) (k := 1) dX8_binds_28 (by decide) rfl in_X8 (by decide) (Or.inl q2142) rfl <|
  r_bipush (v := 6) dX8_binds_31 rfl <|
  r_iald dX8_binds_33 <|
  r_imul dX8_binds_34 <|
  r_iadd dX8_binds_35 <|
  r_iconst (v := 1) dX8_binds_36 rfl <|
  r_iadd dX8_binds_37 <|
  r_iload_n (k := 2) dX8_binds_38 rfl <|
  r_iast dX8_binds_39 <|
  r_aload_n (k := 0) dX8_binds_40 rfl <|
  r_getR (ci := 8) (q := (RX8, TX8, 27)) (k := 1) dX8_binds_41 (by decide) rfl in_X8 (by decide) (Or.inl q2142) rfl <|
  r_bipush (v := 6) dX8_binds_44 rfl <|
  r_dup2 dX8_binds_46 <|
  r_iald dX8_binds_47 <|
  r_iconst (v := 1) dX8_binds_48 rfl <|
  r_iadd dX8_binds_49 <|
  r_iast dX8_binds_50 <|
  r_vret rfl dX8_binds_51
-- CheekTownModel.tells(I)V cuts [0]
def tX8_tells_0 (d : Nat) (Q : Outcome → MH → Prop) (J : Nat → KT) : KT :=
  i_aload 0 <|
  i_const 0 <|
  i_const 99 <|
  i_call mX8_figures d 3 (pV 8) (xOut Q) <|
  i_istore 2 <|
  i_aload 0 <|
  i_getI 8 12 <|
  i_const (-1) <|
  i_icmp_ne
  (i_vret Q)
  (i_aload 0 <|
  i_getR 8 1 <|
  i_iload 1 <|
  i_iload 2 <|
  i_iast <|
  i_vret Q)
theorem kX8_tells_0 {d : Nat} {Q : Outcome → MH → Prop} : ∀ ls st h, tX8_tells_0 d Q (fun pc ls st h => WPb mX8_tells d pc ls st h Q) ls st h → WPb mX8_tells d 0 ls st h Q :=
  r_aload_n (k := 0) dX8_tells_0 rfl <|
  r_iconst (v := 0) dX8_tells_1 rfl <|
  r_bipush (v := 99) dX8_tells_2 rfl <|
  r_cV (Z := mX8_figures) (ci := 8) (q := (RX8, TX8, 27)) dX8_tells_4 rfl (by decide +kernel) ⟨by decide, by decide⟩ (by decide) rfl rfl q2294 q2296 qs61 q127 q2297 (XS.out (noH _)) <|
  r_istore_n (k := 2) dX8_tells_7 rfl <|
  r_aload_n (k := 0) dX8_tells_8 rfl <|
  r_getI (ci := 8) (q := (RX8, TX8, 27)) (k := 12) dX8_tells_9 (by decide) rfl in_X8 (by decide) (Or.inl q2153) rfl <|
  r_iconst (v := (-1)) dX8_tells_12 rfl <|
  r_icmp_ne (pt := 23) dX8_tells_13 (by decide)
  (r_vret rfl dX8_tells_23)
  (r_aload_n (k := 0) dX8_tells_16 rfl <|
  r_getR (ci := 8) (q := (RX8, TX8, 27)) (k := 1) dX8_tells_17 (by decide) rfl in_X8 (by decide) (Or.inl q2142) rfl <|
  r_iload_n (k := 1) dX8_tells_20 rfl <|
  r_iload_n (k := 2) dX8_tells_21 rfl <|
  r_iast dX8_tells_22 <|
  r_vret rfl dX8_tells_23)
-- CheekTownModel.comesBack()V cuts [0, 2]
def tX8_comesBack_0 (d : Nat) (Q : Outcome → MH → Prop) (J : Nat → KT) : KT :=
  i_const 0 <|
  i_istore 1 <|
  (J 2)
theorem kX8_comesBack_0 {d : Nat} {Q : Outcome → MH → Prop} : ∀ ls st h, tX8_comesBack_0 d Q (fun pc ls st h => WPb mX8_comesBack d pc ls st h Q) ls st h → WPb mX8_comesBack d 0 ls st h Q :=
  r_iconst (v := 0) dX8_comesBack_0 rfl <|
  r_istore_n (k := 1) dX8_comesBack_1 rfl <|
  (fun _ _ _ H => H)
def tX8_comesBack_2 (d : Nat) (Q : Outcome → MH → Prop) (J : Nat → KT) : KT :=
  i_iload 1 <|
  i_const 900 <|
  i_icmp_ge
  (i_vret Q)
  (i_aload 0 <|
  i_getR 8 1 <|
  i_iload 1 <|
  i_aload 0 <|
  i_getR 8 4 <|
  i_iload 1 <|
  i_iald <|
  i_iast <|
  i_iinc 1 1 <|
  (J 2))
theorem kX8_comesBack_2 {d : Nat} {Q : Outcome → MH → Prop} : ∀ ls st h, tX8_comesBack_2 d Q (fun pc ls st h => WPb mX8_comesBack d pc ls st h Q) ls st h → WPb mX8_comesBack d 2 ls st h Q :=
  r_iload_n (k := 1) dX8_comesBack_2 rfl <|
  r_sipush (v := 900) dX8_comesBack_3 rfl <|
  r_icmp_ge (pt := 27) dX8_comesBack_6 (by decide)
  (r_vret rfl dX8_comesBack_27)
  (r_aload_n (k := 0) dX8_comesBack_9 rfl <|
  r_getR (ci := 8) (q := (RX8, TX8, 27)) (k := 1) dX8_comesBack_10 (by decide) rfl in_X8 (by decide) (Or.inl q2142) rfl <|
  r_iload_n (k := 1) dX8_comesBack_13 rfl <|
  r_aload_n (k := 0) dX8_comesBack_14 rfl <|
  r_getR (ci := 8) (q := (RX8, TX8, 27)) (k := 4) dX8_comesBack_15 (by decide) rfl in_X8 (by decide) (Or.inl q2145) rfl <|
  r_iload_n (k := 1) dX8_comesBack_18 rfl <|
  r_iald dX8_comesBack_19 <|
  r_iast dX8_comesBack_20 <|
  r_iinc (v := 1) dX8_comesBack_21 rfl <|
  r_goto (pt := 2) dX8_comesBack_24 (by decide) <|
  (fun _ _ _ H => H))
-- CheekTownModel.law()I cuts [0, 24, 55]
def tX8_law_0 (d : Nat) (Q : Outcome → MH → Prop) (J : Nat → KT) : KT :=
  i_aload 0 <|
  i_call mX8_begins d 1 (pV 8) (xOut Q) <|
  i_aload 0 <|
  i_const 1 <|
  i_call mX8_read d 2 (pV 8) (xOut Q) <|
  i_istore 1 <|
  i_aload 0 <|
  i_aload 0 <|
  i_getI 8 12 <|
  i_const (-1) <|
  i_icmp_eq
  (i_const 0 <|
  (J 24))
  (i_const 1 <|
  (J 24))
theorem kX8_law_0 {d : Nat} {Q : Outcome → MH → Prop} : ∀ ls st h, tX8_law_0 d Q (fun pc ls st h => WPb mX8_law d pc ls st h Q) ls st h → WPb mX8_law d 0 ls st h Q :=
  r_aload_n (k := 0) dX8_law_0 rfl <|
  r_cV (Z := mX8_begins) (ci := 8) (q := (RX8, TX8, 27)) dX8_law_1 rfl (by decide +kernel) ⟨by decide, by decide⟩ (by decide) rfl rfl q2242 q2244 qs52 q127 q2245 (XS.out (noH _)) <|
  r_aload_n (k := 0) dX8_law_4 rfl <|
  r_iconst (v := 1) dX8_law_5 rfl <|
  r_cV (Z := mX8_read) (ci := 8) (q := (RX8, TX8, 27)) dX8_law_6 rfl (by decide +kernel) ⟨by decide, by decide⟩ (by decide) rfl rfl q2246 q2248 qs53 q127 q2249 (XS.out (noH _)) <|
  r_istore_n (k := 1) dX8_law_9 rfl <|
  r_aload_n (k := 0) dX8_law_10 rfl <|
  r_aload_n (k := 0) dX8_law_11 rfl <|
  r_getI (ci := 8) (q := (RX8, TX8, 27)) (k := 12) dX8_law_12 (by decide) rfl in_X8 (by decide) (Or.inl q2153) rfl <|
  r_iconst (v := (-1)) dX8_law_15 rfl <|
  r_icmp_eq (pt := 23) dX8_law_16 (by decide)
  (r_iconst (v := 0) dX8_law_23 rfl <|
  (fun _ _ _ H => H))
  (r_iconst (v := 1) dX8_law_19 rfl <|
  r_goto (pt := 24) dX8_law_20 (by decide) <|
  (fun _ _ _ H => H))
def tX8_law_24 (d : Nat) (Q : Outcome → MH → Prop) (J : Nat → KT) : KT :=
  i_putI 8 0 .int <|
  i_aload 0 <|
  i_getI 8 0 <|
  i_if_le
  (i_aload 0 <|
  i_getR 8 1 <|
  i_const 1 <|
  i_iload 1 <|
  i_iast <|
  i_aload 0 <|
  i_getR 8 1 <|
  i_const 2 <|
  i_aload 0 <|
  i_getI 8 10 <|
  i_iast <|
  i_const 0 <|
  i_istore 2 <|
  (J 55))
  (i_const 0 <|
  i_ret Q (some .int))
theorem kX8_law_24 {d : Nat} {Q : Outcome → MH → Prop} : ∀ ls st h, tX8_law_24 d Q (fun pc ls st h => WPb mX8_law d pc ls st h Q) ls st h → WPb mX8_law d 24 ls st h Q :=
  r_putI (ci := 8) (q := (RX8, TX8, 27)) (k := 0) tyX8 tyX8_ok nmX8 dX8_law_24 (by decide) rfl in_X8 (by decide) (Or.inl ⟨rfl, (Or.inl q2141)⟩) rfl rfl <|
  r_aload_n (k := 0) dX8_law_27 rfl <|
  r_getI (ci := 8) (q := (RX8, TX8, 27)) (k := 0) dX8_law_28 (by decide) rfl in_X8 (by decide) (Or.inl q2141) rfl <|
  r_if_le (pt := 36) dX8_law_31 (by decide)
  (r_aload_n (k := 0) dX8_law_36 rfl <|
  r_getR (ci := 8) (q := (RX8, TX8, 27)) (k := 1) dX8_law_37 (by decide) rfl in_X8 (by decide) (Or.inl q2142) rfl <|
  r_iconst (v := 1) dX8_law_40 rfl <|
  r_iload_n (k := 1) dX8_law_41 rfl <|
  r_iast dX8_law_42 <|
  r_aload_n (k := 0) dX8_law_43 rfl <|
  r_getR (ci := 8) (q := (RX8, TX8, 27)) (k := 1) dX8_law_44 (by decide) rfl in_X8 (by decide) (Or.inl q2142) rfl <|
  r_iconst (v := 2) dX8_law_47 rfl <|
  r_aload_n (k := 0) dX8_law_48 rfl <|
  r_getI (ci := 8) (q := (RX8, TX8, 27)) (k := 10) dX8_law_49 (by decide) rfl in_X8 (by decide) (Or.inl q2151) rfl <|
  r_iast dX8_law_52 <|
  r_iconst (v := 0) dX8_law_53 rfl <|
  r_istore_n (k := 2) dX8_law_54 rfl <|
  (fun _ _ _ H => H))
  (r_iconst (v := 0) dX8_law_34 rfl <|
  r_ret rfl (Or.inl ⟨dX8_law_35, Or.inl rfl⟩))
def tX8_law_55 (d : Nat) (Q : Outcome → MH → Prop) (J : Nat → KT) : KT :=
  i_iload 2 <|
  i_aload 0 <|
  i_getI 8 10 <|
  i_icmp_ge
  (i_aload 0 <|
  i_const 0 <|
  i_putI 8 6 .int <|
  i_iload 1 <|
  i_ret Q (some .int))
  (i_aload 0 <|
  i_getR 8 1 <|
  i_const 900 <|
  i_iload 2 <|
  i_iadd <|
  i_aload 0 <|
  i_getR 8 7 <|
  i_iload 2 <|
  i_iald <|
  i_iast <|
  i_iinc 2 1 <|
  (J 55))
theorem kX8_law_55 {d : Nat} {Q : Outcome → MH → Prop} : ∀ ls st h, tX8_law_55 d Q (fun pc ls st h => WPb mX8_law d pc ls st h Q) ls st h → WPb mX8_law d 55 ls st h Q :=
  r_iload_n (k := 2) dX8_law_55 rfl <|
  r_aload_n (k := 0) dX8_law_56 rfl <|
  r_getI (ci := 8) (q := (RX8, TX8, 27)) (k := 10) dX8_law_57 (by decide) rfl in_X8 (by decide) (Or.inl q2151) rfl <|
  r_icmp_ge (pt := 85) dX8_law_60 (by decide)
  (r_aload_n (k := 0) dX8_law_85 rfl <|
  r_iconst (v := 0) dX8_law_86 rfl <|
  r_putI (ci := 8) (q := (RX8, TX8, 27)) (k := 6) tyX8 tyX8_ok nmX8 dX8_law_87 (by decide) rfl in_X8 (by decide) (Or.inl ⟨rfl, (Or.inl q2147)⟩) rfl rfl <|
  r_iload_n (k := 1) dX8_law_90 rfl <|
  r_ret rfl (Or.inl ⟨dX8_law_91, Or.inl rfl⟩))
  (r_aload_n (k := 0) dX8_law_63 rfl <|
  r_getR (ci := 8) (q := (RX8, TX8, 27)) (k := 1) dX8_law_64 (by decide) rfl in_X8 (by decide) (Or.inl q2142) rfl <|
  r_sipush (v := 900) dX8_law_67 rfl <|
  r_iload_n (k := 2) dX8_law_70 rfl <|
  r_iadd dX8_law_71 <|
  r_aload_n (k := 0) dX8_law_72 rfl <|
  r_getR (ci := 8) (q := (RX8, TX8, 27)) (k := 7) dX8_law_73 (by decide) rfl in_X8 (by decide) (Or.inl q2148) rfl <|
  r_iload_n (k := 2) dX8_law_76 rfl <|
  r_iald dX8_law_77 <|
  r_iast dX8_law_78 <|
  r_iinc (v := 1) dX8_law_79 rfl <|
  r_goto (pt := 55) dX8_law_82 (by decide) <|
  (fun _ _ _ H => H))
-- CheekTownModel.fault()I cuts [0]
def tX8_fault_0 (d : Nat) (Q : Outcome → MH → Prop) (J : Nat → KT) : KT :=
  i_aload 0 <|
  i_const 0 <|
  i_putI 8 0 .int <|
  i_aload 0 <|
  i_getI 8 12 <|
  i_ret Q (some .int)
theorem kX8_fault_0 {d : Nat} {Q : Outcome → MH → Prop} : ∀ ls st h, tX8_fault_0 d Q (fun pc ls st h => WPb mX8_fault d pc ls st h Q) ls st h → WPb mX8_fault d 0 ls st h Q :=
  r_aload_n (k := 0) dX8_fault_0 rfl <|
  r_iconst (v := 0) dX8_fault_1 rfl <|
  r_putI (ci := 8) (q := (RX8, TX8, 27)) (k := 0) tyX8 tyX8_ok nmX8 dX8_fault_2 (by decide) rfl in_X8 (by decide) (Or.inl ⟨rfl, (Or.inl q2141)⟩) rfl rfl <|
  r_aload_n (k := 0) dX8_fault_5 rfl <|
  r_getI (ci := 8) (q := (RX8, TX8, 27)) (k := 12) dX8_fault_6 (by decide) rfl in_X8 (by decide) (Or.inl q2153) rfl <|
  r_ret rfl (Or.inl ⟨dX8_fault_9, Or.inl rfl⟩)
-- CheekTownModel.cost(II)I cuts [0]
def tX8_cost_0 (d : Nat) (Q : Outcome → MH → Prop) (J : Nat → KT) : KT :=
  i_aload 0 <|
  i_iload 1 <|
  i_call mX8_isCode d 1 pS (xOut Q) <|
  i_if_eq
  (i_const 1 <|
  i_putI 8 0 .int <|
  i_aload 0 <|
  i_getI 8 0 <|
  i_if_le
  (i_aload 0 <|
  i_iload 1 <|
  i_iload 2 <|
  i_call mX8_costOf d 3 (pV 8) (xOut Q) <|
  i_ret Q (some .int))
  (i_const 0 <|
  i_ret Q (some .int)))
  (i_iload 2 <|
  i_call mX8_isCode d 1 pS (xOut Q) <|
  i_if_ne
  (i_const 0 <|
  i_putI 8 0 .int <|
  i_aload 0 <|
  i_getI 8 0 <|
  i_if_le
  (i_aload 0 <|
  i_iload 1 <|
  i_iload 2 <|
  i_call mX8_costOf d 3 (pV 8) (xOut Q) <|
  i_ret Q (some .int))
  (i_const 0 <|
  i_ret Q (some .int)))
  (i_const 1 <|
  i_putI 8 0 .int <|
  i_aload 0 <|
  i_getI 8 0 <|
  i_if_le
  (i_aload 0 <|
  i_iload 1 <|
  i_iload 2 <|
  i_call mX8_costOf d 3 (pV 8) (xOut Q) <|
  i_ret Q (some .int))
  (i_const 0 <|
  i_ret Q (some .int))))
theorem kX8_cost_0 {d : Nat} {Q : Outcome → MH → Prop} : ∀ ls st h, tX8_cost_0 d Q (fun pc ls st h => WPb mX8_cost d pc ls st h Q) ls st h → WPb mX8_cost d 0 ls st h Q :=
  r_aload_n (k := 0) dX8_cost_0 rfl <|
  r_iload_n (k := 1) dX8_cost_1 rfl <|
  r_cS (Z := mX8_isCode) dX8_cost_2 rfl (by decide +kernel) ⟨by decide, by decide⟩ q2413 q2414 q127 q2415 (XS.out (noH _)) <|
  r_if_eq (pt := 15) dX8_cost_5 (by decide)
  (r_iconst (v := 1) dX8_cost_15 rfl <|
  r_goto (pt := 20) dX8_cost_16 (by decide) <|
  r_putI (ci := 8) (q := (RX8, TX8, 27)) (k := 0) tyX8 tyX8_ok nmX8 dX8_cost_20 (by decide) rfl in_X8 (by decide) (Or.inl ⟨rfl, (Or.inl q2141)⟩) rfl rfl <|
  r_aload_n (k := 0) dX8_cost_23 rfl <|
  r_getI (ci := 8) (q := (RX8, TX8, 27)) (k := 0) dX8_cost_24 (by decide) rfl in_X8 (by decide) (Or.inl q2141) rfl <|
  r_if_le (pt := 34) dX8_cost_27 (by decide)
  (r_aload_n (k := 0) dX8_cost_34 rfl <|
  r_iload_n (k := 1) dX8_cost_35 rfl <|
  r_iload_n (k := 2) dX8_cost_36 rfl <|
  r_cV (Z := mX8_costOf) (ci := 8) (q := (RX8, TX8, 27)) dX8_cost_37 rfl (by decide +kernel) ⟨by decide, by decide⟩ (by decide) rfl rfl q2416 q2418 qs82 q127 q2419 (XS.out (noH _)) <|
  r_ret rfl (Or.inl ⟨dX8_cost_40, Or.inl rfl⟩))
  (r_iconst (v := 0) dX8_cost_30 rfl <|
  r_goto (pt := 40) dX8_cost_31 (by decide) <|
  r_ret rfl (Or.inl ⟨dX8_cost_40, Or.inl rfl⟩)))
  (r_iload_n (k := 2) dX8_cost_8 rfl <|
  r_cS (Z := mX8_isCode) dX8_cost_9 rfl (by decide +kernel) ⟨by decide, by decide⟩ q2413 q2414 q127 q2415 (XS.out (noH _)) <|
  r_if_ne (pt := 19) dX8_cost_12 (by decide)
  (r_iconst (v := 0) dX8_cost_19 rfl <|
  r_putI (ci := 8) (q := (RX8, TX8, 27)) (k := 0) tyX8 tyX8_ok nmX8 dX8_cost_20 (by decide) rfl in_X8 (by decide) (Or.inl ⟨rfl, (Or.inl q2141)⟩) rfl rfl <|
  r_aload_n (k := 0) dX8_cost_23 rfl <|
  r_getI (ci := 8) (q := (RX8, TX8, 27)) (k := 0) dX8_cost_24 (by decide) rfl in_X8 (by decide) (Or.inl q2141) rfl <|
  r_if_le (pt := 34) dX8_cost_27 (by decide)
  (r_aload_n (k := 0) dX8_cost_34 rfl <|
  r_iload_n (k := 1) dX8_cost_35 rfl <|
  r_iload_n (k := 2) dX8_cost_36 rfl <|
  r_cV (Z := mX8_costOf) (ci := 8) (q := (RX8, TX8, 27)) dX8_cost_37 rfl (by decide +kernel) ⟨by decide, by decide⟩ (by decide) rfl rfl q2416 q2418 qs82 q127 q2419 (XS.out (noH _)) <|
  r_ret rfl (Or.inl ⟨dX8_cost_40, Or.inl rfl⟩))
  (r_iconst (v := 0) dX8_cost_30 rfl <|
  r_goto (pt := 40) dX8_cost_31 (by decide) <|
  r_ret rfl (Or.inl ⟨dX8_cost_40, Or.inl rfl⟩)))
  (r_iconst (v := 1) dX8_cost_15 rfl <|
  r_goto (pt := 20) dX8_cost_16 (by decide) <|
  r_putI (ci := 8) (q := (RX8, TX8, 27)) (k := 0) tyX8 tyX8_ok nmX8 dX8_cost_20 (by decide) rfl in_X8 (by decide) (Or.inl ⟨rfl, (Or.inl q2141)⟩) rfl rfl <|
  r_aload_n (k := 0) dX8_cost_23 rfl <|
  r_getI (ci := 8) (q := (RX8, TX8, 27)) (k := 0) dX8_cost_24 (by decide) rfl in_X8 (by decide) (Or.inl q2141) rfl <|
  r_if_le (pt := 34) dX8_cost_27 (by decide)
  (r_aload_n (k := 0) dX8_cost_34 rfl <|
  r_iload_n (k := 1) dX8_cost_35 rfl <|
  r_iload_n (k := 2) dX8_cost_36 rfl <|
  r_cV (Z := mX8_costOf) (ci := 8) (q := (RX8, TX8, 27)) dX8_cost_37 rfl (by decide +kernel) ⟨by decide, by decide⟩ (by decide) rfl rfl q2416 q2418 qs82 q127 q2419 (XS.out (noH _)) <|
  r_ret rfl (Or.inl ⟨dX8_cost_40, Or.inl rfl⟩))
  (r_iconst (v := 0) dX8_cost_30 rfl <|
  r_goto (pt := 40) dX8_cost_31 (by decide) <|
  r_ret rfl (Or.inl ⟨dX8_cost_40, Or.inl rfl⟩))))
-- CheekTownModel.isCode(I)Z cuts [0]
def tX8_isCode_0 (d : Nat) (Q : Outcome → MH → Prop) (J : Nat → KT) : KT :=
  i_iload 0 <|
  i_const 0 <|
  i_const 31 <|
  i_call mX8_isIn d 3 pS (xOut Q) <|
  i_ret Q (some .boolean)
theorem kX8_isCode_0 {d : Nat} {Q : Outcome → MH → Prop} : ∀ ls st h, tX8_isCode_0 d Q (fun pc ls st h => WPb mX8_isCode d pc ls st h Q) ls st h → WPb mX8_isCode d 0 ls st h Q :=
  r_iload_n (k := 0) dX8_isCode_0 rfl <|
  r_iconst (v := 0) dX8_isCode_1 rfl <|
  r_bipush (v := 31) dX8_isCode_2 rfl <|
  r_cS (Z := mX8_isIn) dX8_isCode_4 rfl (by decide +kernel) ⟨by decide, by decide⟩ q2235 q2236 q127 q2237 (XS.out (noH _)) <|
  r_ret rfl (Or.inl ⟨dX8_isCode_7, Or.inr (Or.inl rfl)⟩)
-- CheekTownModel.costOf(II)I cuts [0, 53]
def tX8_costOf_0 (d : Nat) (Q : Outcome → MH → Prop) (J : Nat → KT) : KT :=
  i_iload 1 <|
  i_const 3 <|
  i_ishr <|
  i_iload 2 <|
  i_const 3 <|
  i_ishr <|
  i_icmp_eq
  (i_iload 1 <|
  i_const 3 <|
  i_ishr <|
  i_const 2 <|
  i_icmp_eq
  (i_iload 1 <|
  i_call mX8_countOf d 1 pS (xOut Q) <|
  i_iload 2 <|
  i_call mX8_countOf d 1 pS (xOut Q) <|
  i_isub <|
  i_istore 3 <|
  i_aload 0 <|
  i_getR 8 1 <|
  i_const 14 <|
  i_iald <|
  i_iload 3 <|
  i_if_ge
  (i_iload 3 <|
  (J 53))
  (i_iload 3 <|
  i_ineg <|
  (J 53)))
  (i_const 0 <|
  i_ret Q (some .int)))
  (i_aload 0 <|
  i_getR 8 1 <|
  i_const 13 <|
  i_iald <|
  i_ret Q (some .int))
theorem kX8_costOf_0 {d : Nat} {Q : Outcome → MH → Prop} : ∀ ls st h, tX8_costOf_0 d Q (fun pc ls st h => WPb mX8_costOf d pc ls st h Q) ls st h → WPb mX8_costOf d 0 ls st h Q :=
  r_iload_n (k := 1) dX8_costOf_0 rfl <|
  r_iconst (v := 3) dX8_costOf_1 rfl <|
  r_ishr dX8_costOf_2 <|
  r_iload_n (k := 2) dX8_costOf_3 rfl <|
  r_iconst (v := 3) dX8_costOf_4 rfl <|
  r_ishr dX8_costOf_5 <|
  r_icmp_eq (pt := 17) dX8_costOf_6 (by decide)
  (r_iload_n (k := 1) dX8_costOf_17 rfl <|
  r_iconst (v := 3) dX8_costOf_18 rfl <|
  r_ishr dX8_costOf_19 <|
  r_iconst (v := 2) dX8_costOf_20 rfl <|
  r_icmp_eq (pt := 26) dX8_costOf_21 (by decide)
  (r_iload_n (k := 1) dX8_costOf_26 rfl <|
  r_cS (Z := mX8_countOf) dX8_costOf_27 rfl (by decide +kernel) ⟨by decide, by decide⟩ q2420 q2421 q127 q2422 (XS.out (noH _)) <|
  r_iload_n (k := 2) dX8_costOf_30 rfl <|
  r_cS (Z := mX8_countOf) dX8_costOf_31 rfl (by decide +kernel) ⟨by decide, by decide⟩ q2420 q2421 q127 q2422 (XS.out (noH _)) <|
  r_isub dX8_costOf_34 <|
  r_istore_n (k := 3) dX8_costOf_35 rfl <|
  r_aload_n (k := 0) dX8_costOf_36 rfl <|
  r_getR (ci := 8) (q := (RX8, TX8, 27)) (k := 1) dX8_costOf_37 (by decide) rfl in_X8 (by decide) (Or.inl q2142) rfl <|
  r_bipush (v := 14) dX8_costOf_40 rfl <|
  r_iald dX8_costOf_42 <|
  r_iload_n (k := 3) dX8_costOf_43 rfl <|
  r_if_ge (pt := 52) dX8_costOf_44 (by decide)
  (r_iload_n (k := 3) dX8_costOf_52 rfl <|
  (fun _ _ _ H => H))
  (r_iload_n (k := 3) dX8_costOf_47 rfl <|
  r_ineg dX8_costOf_48 <|
  r_goto (pt := 53) dX8_costOf_49 (by decide) <|
  (fun _ _ _ H => H)))
  (r_iconst (v := 0) dX8_costOf_24 rfl <|
  r_ret rfl (Or.inl ⟨dX8_costOf_25, Or.inl rfl⟩)))
  (r_aload_n (k := 0) dX8_costOf_9 rfl <|
  r_getR (ci := 8) (q := (RX8, TX8, 27)) (k := 1) dX8_costOf_10 (by decide) rfl in_X8 (by decide) (Or.inl q2142) rfl <|
  r_bipush (v := 13) dX8_costOf_13 rfl <|
  r_iald dX8_costOf_15 <|
  r_ret rfl (Or.inl ⟨dX8_costOf_16, Or.inl rfl⟩))
def tX8_costOf_53 (d : Nat) (Q : Outcome → MH → Prop) (J : Nat → KT) : KT :=
  i_imul <|
  i_iload 1 <|
  i_const 1 <|
  i_iand <|
  i_iload 2 <|
  i_const 1 <|
  i_iand <|
  i_icmp_ne
  (i_aload 0 <|
  i_getR 8 1 <|
  i_const 15 <|
  i_iald <|
  i_iadd <|
  i_ret Q (some .int))
  (i_const 0 <|
  i_iadd <|
  i_ret Q (some .int))
theorem kX8_costOf_53 {d : Nat} {Q : Outcome → MH → Prop} : ∀ ls st h, tX8_costOf_53 d Q (fun pc ls st h => WPb mX8_costOf d pc ls st h Q) ls st h → WPb mX8_costOf d 53 ls st h Q :=
  r_imul dX8_costOf_53 <|
  r_iload_n (k := 1) dX8_costOf_54 rfl <|
  r_iconst (v := 1) dX8_costOf_55 rfl <|
  r_iand dX8_costOf_56 <|
  r_iload_n (k := 2) dX8_costOf_57 rfl <|
  r_iconst (v := 1) dX8_costOf_58 rfl <|
  r_iand dX8_costOf_59 <|
  r_icmp_ne (pt := 67) dX8_costOf_60 (by decide)
  (r_aload_n (k := 0) dX8_costOf_67 rfl <|
  r_getR (ci := 8) (q := (RX8, TX8, 27)) (k := 1) dX8_costOf_68 (by decide) rfl in_X8 (by decide) (Or.inl q2142) rfl <|
  r_bipush (v := 15) dX8_costOf_71 rfl <|
  r_iald dX8_costOf_73 <|
  r_iadd dX8_costOf_74 <|
  r_ret rfl (Or.inl ⟨dX8_costOf_75, Or.inl rfl⟩))
  (r_iconst (v := 0) dX8_costOf_63 rfl <|
  r_goto (pt := 74) dX8_costOf_64 (by decide) <|
  r_iadd dX8_costOf_74 <|
  r_ret rfl (Or.inl ⟨dX8_costOf_75, Or.inl rfl⟩))
-- CheekTownModel.countOf(I)I cuts [0]
def tX8_countOf_0 (d : Nat) (Q : Outcome → MH → Prop) (J : Nat → KT) : KT :=
  i_iload 0 <|
  i_const 1 <|
  i_ishr <|
  i_const 3 <|
  i_iand <|
  i_const 1 <|
  i_iadd <|
  i_ret Q (some .int)
theorem kX8_countOf_0 {d : Nat} {Q : Outcome → MH → Prop} : ∀ ls st h, tX8_countOf_0 d Q (fun pc ls st h => WPb mX8_countOf d pc ls st h Q) ls st h → WPb mX8_countOf d 0 ls st h Q :=
  r_iload_n (k := 0) dX8_countOf_0 rfl <|
  r_iconst (v := 1) dX8_countOf_1 rfl <|
  r_ishr dX8_countOf_2 <|
  r_iconst (v := 3) dX8_countOf_3 rfl <|
  r_iand dX8_countOf_4 <|
  r_iconst (v := 1) dX8_countOf_5 rfl <|
  r_iadd dX8_countOf_6 <|
  r_ret rfl (Or.inl ⟨dX8_countOf_7, Or.inl rfl⟩)
-- CheekTownModel.habit(II)I cuts [0]
def tX8_habit_0 (d : Nat) (Q : Outcome → MH → Prop) (J : Nat → KT) : KT :=
  i_aload 0 <|
  i_aload 0 <|
  i_iload 1 <|
  i_call mX8_isLand d 2 (pV 8) (xOut Q) <|
  i_if_eq
  (i_const 1 <|
  i_putI 8 0 .int <|
  i_aload 0 <|
  i_getI 8 0 <|
  i_if_le
  (i_aload 0 <|
  i_iload 1 <|
  i_iload 2 <|
  i_call mX8_weight d 3 (pV 8) (xOut Q) <|
  i_ret Q (some .int))
  (i_const 0 <|
  i_ret Q (some .int)))
  (i_iload 2 <|
  i_call mX8_isCode d 1 pS (xOut Q) <|
  i_if_ne
  (i_const 0 <|
  i_putI 8 0 .int <|
  i_aload 0 <|
  i_getI 8 0 <|
  i_if_le
  (i_aload 0 <|
  i_iload 1 <|
  i_iload 2 <|
  i_call mX8_weight d 3 (pV 8) (xOut Q) <|
  i_ret Q (some .int))
  (i_const 0 <|
  i_ret Q (some .int)))
  (i_const 1 <|
  i_putI 8 0 .int <|
  i_aload 0 <|
  i_getI 8 0 <|
  i_if_le
  (i_aload 0 <|
  i_iload 1 <|
  i_iload 2 <|
  i_call mX8_weight d 3 (pV 8) (xOut Q) <|
  i_ret Q (some .int))
  (i_const 0 <|
  i_ret Q (some .int))))
theorem kX8_habit_0 {d : Nat} {Q : Outcome → MH → Prop} : ∀ ls st h, tX8_habit_0 d Q (fun pc ls st h => WPb mX8_habit d pc ls st h Q) ls st h → WPb mX8_habit d 0 ls st h Q :=
  r_aload_n (k := 0) dX8_habit_0 rfl <|
  r_aload_n (k := 0) dX8_habit_1 rfl <|
  r_iload_n (k := 1) dX8_habit_2 rfl <|
  r_cV (Z := mX8_isLand) (ci := 8) (q := (RX8, TX8, 27)) dX8_habit_3 rfl (by decide +kernel) ⟨by decide, by decide⟩ (by decide) rfl rfl q2427 q2429 qs83 q127 q2430 (XS.out (noH _)) <|
  r_if_eq (pt := 16) dX8_habit_6 (by decide)
  (r_iconst (v := 1) dX8_habit_16 rfl <|
  r_goto (pt := 21) dX8_habit_17 (by decide) <|
  r_putI (ci := 8) (q := (RX8, TX8, 27)) (k := 0) tyX8 tyX8_ok nmX8 dX8_habit_21 (by decide) rfl in_X8 (by decide) (Or.inl ⟨rfl, (Or.inl q2141)⟩) rfl rfl <|
  r_aload_n (k := 0) dX8_habit_24 rfl <|
  r_getI (ci := 8) (q := (RX8, TX8, 27)) (k := 0) dX8_habit_25 (by decide) rfl in_X8 (by decide) (Or.inl q2141) rfl <|
  r_if_le (pt := 35) dX8_habit_28 (by decide)
  (r_aload_n (k := 0) dX8_habit_35 rfl <|
  r_iload_n (k := 1) dX8_habit_36 rfl <|
  r_iload_n (k := 2) dX8_habit_37 rfl <|
  r_cV (Z := mX8_weight) (ci := 8) (q := (RX8, TX8, 27)) dX8_habit_38 rfl (by decide +kernel) ⟨by decide, by decide⟩ (by decide) rfl rfl q2431 q2433 qs84 q127 q2434 (XS.out (noH _)) <|
  r_ret rfl (Or.inl ⟨dX8_habit_41, Or.inl rfl⟩))
  (r_iconst (v := 0) dX8_habit_31 rfl <|
  r_goto (pt := 41) dX8_habit_32 (by decide) <|
  r_ret rfl (Or.inl ⟨dX8_habit_41, Or.inl rfl⟩)))
  (r_iload_n (k := 2) dX8_habit_9 rfl <|
  r_cS (Z := mX8_isCode) dX8_habit_10 rfl (by decide +kernel) ⟨by decide, by decide⟩ q2413 q2414 q127 q2415 (XS.out (noH _)) <|
  r_if_ne (pt := 20) dX8_habit_13 (by decide)
  (r_iconst (v := 0) dX8_habit_20 rfl <|
  r_putI (ci := 8) (q := (RX8, TX8, 27)) (k := 0) tyX8 tyX8_ok nmX8 dX8_habit_21 (by decide) rfl in_X8 (by decide) (Or.inl ⟨rfl, (Or.inl q2141)⟩) rfl rfl <|
  r_aload_n (k := 0) dX8_habit_24 rfl <|
  r_getI (ci := 8) (q := (RX8, TX8, 27)) (k := 0) dX8_habit_25 (by decide) rfl in_X8 (by decide) (Or.inl q2141) rfl <|
  r_if_le (pt := 35) dX8_habit_28 (by decide)
  (r_aload_n (k := 0) dX8_habit_35 rfl <|
  r_iload_n (k := 1) dX8_habit_36 rfl <|
  r_iload_n (k := 2) dX8_habit_37 rfl <|
  r_cV (Z := mX8_weight) (ci := 8) (q := (RX8, TX8, 27)) dX8_habit_38 rfl (by decide +kernel) ⟨by decide, by decide⟩ (by decide) rfl rfl q2431 q2433 qs84 q127 q2434 (XS.out (noH _)) <|
  r_ret rfl (Or.inl ⟨dX8_habit_41, Or.inl rfl⟩))
  (r_iconst (v := 0) dX8_habit_31 rfl <|
  r_goto (pt := 41) dX8_habit_32 (by decide) <|
  r_ret rfl (Or.inl ⟨dX8_habit_41, Or.inl rfl⟩)))
  (r_iconst (v := 1) dX8_habit_16 rfl <|
  r_goto (pt := 21) dX8_habit_17 (by decide) <|
  r_putI (ci := 8) (q := (RX8, TX8, 27)) (k := 0) tyX8 tyX8_ok nmX8 dX8_habit_21 (by decide) rfl in_X8 (by decide) (Or.inl ⟨rfl, (Or.inl q2141)⟩) rfl rfl <|
  r_aload_n (k := 0) dX8_habit_24 rfl <|
  r_getI (ci := 8) (q := (RX8, TX8, 27)) (k := 0) dX8_habit_25 (by decide) rfl in_X8 (by decide) (Or.inl q2141) rfl <|
  r_if_le (pt := 35) dX8_habit_28 (by decide)
  (r_aload_n (k := 0) dX8_habit_35 rfl <|
  r_iload_n (k := 1) dX8_habit_36 rfl <|
  r_iload_n (k := 2) dX8_habit_37 rfl <|
  r_cV (Z := mX8_weight) (ci := 8) (q := (RX8, TX8, 27)) dX8_habit_38 rfl (by decide +kernel) ⟨by decide, by decide⟩ (by decide) rfl rfl q2431 q2433 qs84 q127 q2434 (XS.out (noH _)) <|
  r_ret rfl (Or.inl ⟨dX8_habit_41, Or.inl rfl⟩))
  (r_iconst (v := 0) dX8_habit_31 rfl <|
  r_goto (pt := 41) dX8_habit_32 (by decide) <|
  r_ret rfl (Or.inl ⟨dX8_habit_41, Or.inl rfl⟩))))
-- CheekTownModel.isLand(I)Z cuts [0]
def tX8_isLand_0 (d : Nat) (Q : Outcome → MH → Prop) (J : Nat → KT) : KT :=
  i_iload 1 <|
  i_const 0 <|
  i_aload 0 <|
  i_getR 8 1 <|
  i_const 3 <|
  i_iald <|
  i_const 1 <|
  i_isub <|
  i_call mX8_isIn d 3 pS (xOut Q) <|
  i_ret Q (some .boolean)
theorem kX8_isLand_0 {d : Nat} {Q : Outcome → MH → Prop} : ∀ ls st h, tX8_isLand_0 d Q (fun pc ls st h => WPb mX8_isLand d pc ls st h Q) ls st h → WPb mX8_isLand d 0 ls st h Q :=
  r_iload_n (k := 1) dX8_isLand_0 rfl <|
  r_iconst (v := 0) dX8_isLand_1 rfl <|
  r_aload_n (k := 0) dX8_isLand_2 rfl <|
  r_getR (ci := 8) (q := (RX8, TX8, 27)) (k := 1) dX8_isLand_3 (by decide) rfl in_X8 (by decide) (Or.inl q2142) rfl <|
  r_iconst (v := 3) dX8_isLand_6 rfl <|
  r_iald dX8_isLand_7 <|
  r_iconst (v := 1) dX8_isLand_8 rfl <|
  r_isub dX8_isLand_9 <|
  r_cS (Z := mX8_isIn) dX8_isLand_10 rfl (by decide +kernel) ⟨by decide, by decide⟩ q2235 q2236 q127 q2237 (XS.out (noH _)) <|
  r_ret rfl (Or.inl ⟨dX8_isLand_13, Or.inr (Or.inl rfl)⟩)
-- CheekTownModel.weight(II)I cuts [0, 5, 56]
def tX8_weight_0 (d : Nat) (Q : Outcome → MH → Prop) (J : Nat → KT) : KT :=
  i_const 0 <|
  i_istore 3 <|
  i_const 0 <|
  i_istore 4 <|
  (J 5)
theorem kX8_weight_0 {d : Nat} {Q : Outcome → MH → Prop} : ∀ ls st h, tX8_weight_0 d Q (fun pc ls st h => WPb mX8_weight d pc ls st h Q) ls st h → WPb mX8_weight d 0 ls st h Q :=
  r_iconst (v := 0) dX8_weight_0 rfl <|
  r_istore_n (k := 3) dX8_weight_1 rfl <|
  r_iconst (v := 0) dX8_weight_2 rfl <|
  r_istore dX8_weight_3 <|
  (fun _ _ _ H => H)
def tX8_weight_5 (d : Nat) (Q : Outcome → MH → Prop) (J : Nat → KT) : KT :=
  i_iload 4 <|
  i_aload 0 <|
  i_getR 8 1 <|
  i_const 4 <|
  i_iald <|
  i_icmp_ge
  (i_iload 3 <|
  i_ret Q (some .int))
  (i_iload 3 <|
  i_aload 0 <|
  i_getR 8 1 <|
  i_const 20 <|
  i_const 3 <|
  i_iload 4 <|
  i_imul <|
  i_iadd <|
  i_iald <|
  i_iload 1 <|
  i_icmp_ne
  (i_const 0 <|
  i_iadd <|
  i_istore 3 <|
  i_iinc 4 1 <|
  (J 5))
  (i_iload 2 <|
  i_const (-1) <|
  i_icmp_eq
  ((J 56))
  (i_aload 0 <|
  i_getR 8 1 <|
  i_const 20 <|
  i_const 3 <|
  i_iload 4 <|
  i_imul <|
  i_iadd <|
  i_const 1 <|
  i_iadd <|
  i_iald <|
  i_iload 2 <|
  i_icmp_ne
  (i_const 0 <|
  i_iadd <|
  i_istore 3 <|
  i_iinc 4 1 <|
  (J 5))
  ((J 56)))))
theorem kX8_weight_5 {d : Nat} {Q : Outcome → MH → Prop} : ∀ ls st h, tX8_weight_5 d Q (fun pc ls st h => WPb mX8_weight d pc ls st h Q) ls st h → WPb mX8_weight d 5 ls st h Q :=
  r_iload dX8_weight_5 <|
  r_aload_n (k := 0) dX8_weight_7 rfl <|
  r_getR (ci := 8) (q := (RX8, TX8, 27)) (k := 1) dX8_weight_8 (by decide) rfl in_X8 (by decide) (Or.inl q2142) rfl <|
  r_iconst (v := 4) dX8_weight_11 rfl <|
  r_iald dX8_weight_12 <|
  r_icmp_ge (pt := 82) dX8_weight_13 (by decide)
  (r_iload_n (k := 3) dX8_weight_82 rfl <|
  r_ret rfl (Or.inl ⟨dX8_weight_83, Or.inl rfl⟩))
  (r_iload_n (k := 3) dX8_weight_16 rfl <|
  r_aload_n (k := 0) dX8_weight_17 rfl <|
  r_getR (ci := 8) (q := (RX8, TX8, 27)) (k := 1) dX8_weight_18 (by decide) rfl in_X8 (by decide) (Or.inl q2142) rfl <|
  r_bipush (v := 20) dX8_weight_21 rfl <|
  r_iconst (v := 3) dX8_weight_23 rfl <|
  r_iload dX8_weight_24 <|
  r_imul dX8_weight_26 <|
  r_iadd dX8_weight_27 <|
  r_iald dX8_weight_28 <|
  r_iload_n (k := 1) dX8_weight_29 rfl <|
  r_icmp_ne (pt := 73) dX8_weight_30 (by decide)
  (r_iconst (v := 0) dX8_weight_73 rfl <|
  r_iadd dX8_weight_74 <|
  r_istore_n (k := 3) dX8_weight_75 rfl <|
  r_iinc (v := 1) dX8_weight_76 rfl <|
  r_goto (pt := 5) dX8_weight_79 (by decide) <|
  (fun _ _ _ H => H))
  (r_iload_n (k := 2) dX8_weight_33 rfl <|
  r_iconst (v := (-1)) dX8_weight_34 rfl <|
  r_icmp_eq (pt := 56) dX8_weight_35 (by decide)
  ((fun _ _ _ H => H))
  (r_aload_n (k := 0) dX8_weight_38 rfl <|
  r_getR (ci := 8) (q := (RX8, TX8, 27)) (k := 1) dX8_weight_39 (by decide) rfl in_X8 (by decide) (Or.inl q2142) rfl <|
  r_bipush (v := 20) dX8_weight_42 rfl <|
  r_iconst (v := 3) dX8_weight_44 rfl <|
  r_iload dX8_weight_45 <|
  r_imul dX8_weight_47 <|
  r_iadd dX8_weight_48 <|
  r_iconst (v := 1) dX8_weight_49 rfl <|
  r_iadd dX8_weight_50 <|
  r_iald dX8_weight_51 <|
  r_iload_n (k := 2) dX8_weight_52 rfl <|
  r_icmp_ne (pt := 73) dX8_weight_53 (by decide)
  (r_iconst (v := 0) dX8_weight_73 rfl <|
  r_iadd dX8_weight_74 <|
  r_istore_n (k := 3) dX8_weight_75 rfl <|
  r_iinc (v := 1) dX8_weight_76 rfl <|
  r_goto (pt := 5) dX8_weight_79 (by decide) <|
  (fun _ _ _ H => H))
  ((fun _ _ _ H => H)))))
def tX8_weight_56 (d : Nat) (Q : Outcome → MH → Prop) (J : Nat → KT) : KT :=
  i_aload 0 <|
  i_getR 8 1 <|
  i_const 20 <|
  i_const 3 <|
  i_iload 4 <|
  i_imul <|
  i_iadd <|
  i_const 2 <|
  i_iadd <|
  i_iald <|
  i_iadd <|
  i_istore 3 <|
  i_iinc 4 1 <|
  (J 5)
theorem kX8_weight_56 {d : Nat} {Q : Outcome → MH → Prop} : ∀ ls st h, tX8_weight_56 d Q (fun pc ls st h => WPb mX8_weight d pc ls st h Q) ls st h → WPb mX8_weight d 56 ls st h Q :=
  r_aload_n (k := 0) dX8_weight_56 rfl <|
  r_getR (ci := 8) (q := (RX8, TX8, 27)) (k := 1) dX8_weight_57 (by decide) rfl in_X8 (by decide) (Or.inl q2142) rfl <|
  r_bipush (v := 20) dX8_weight_60 rfl <|
  r_iconst (v := 3) dX8_weight_62 rfl <|
  r_iload dX8_weight_63 <|
  r_imul dX8_weight_65 <|
  r_iadd dX8_weight_66 <|
  r_iconst (v := 2) dX8_weight_67 rfl <|
  r_iadd dX8_weight_68 <|
  r_iald dX8_weight_69 <|
  r_goto (pt := 74) dX8_weight_70 (by decide) <|
  r_iadd dX8_weight_74 <|
  r_istore_n (k := 3) dX8_weight_75 rfl <|
  r_iinc (v := 1) dX8_weight_76 rfl <|
  r_goto (pt := 5) dX8_weight_79 (by decide) <|
  (fun _ _ _ H => H)
-- CheekTownModel.person(II)I cuts [0, 28]
def tX8_person_0 (d : Nat) (Q : Outcome → MH → Prop) (J : Nat → KT) : KT :=
  i_aload 0 <|
  i_aload 0 <|
  i_iload 1 <|
  i_call mX8_isPerson d 2 (pV 8) (xOut Q) <|
  i_if_ne
  (i_iload 2 <|
  i_const 0 <|
  i_const 6 <|
  i_call mX8_isIn d 3 pS (xOut Q) <|
  i_if_ne
  (i_const 0 <|
  (J 28))
  (i_const 2 <|
  (J 28)))
  (i_const 1 <|
  (J 28))
theorem kX8_person_0 {d : Nat} {Q : Outcome → MH → Prop} : ∀ ls st h, tX8_person_0 d Q (fun pc ls st h => WPb mX8_person d pc ls st h Q) ls st h → WPb mX8_person d 0 ls st h Q :=
  r_aload_n (k := 0) dX8_person_0 rfl <|
  r_aload_n (k := 0) dX8_person_1 rfl <|
  r_iload_n (k := 1) dX8_person_2 rfl <|
  r_cV (Z := mX8_isPerson) (ci := 8) (q := (RX8, TX8, 27)) dX8_person_3 rfl (by decide +kernel) ⟨by decide, by decide⟩ (by decide) rfl rfl q2439 q2441 qs85 q127 q2442 (XS.out (noH _)) <|
  r_if_ne (pt := 13) dX8_person_6 (by decide)
  (r_iload_n (k := 2) dX8_person_13 rfl <|
  r_iconst (v := 0) dX8_person_14 rfl <|
  r_bipush (v := 6) dX8_person_15 rfl <|
  r_cS (Z := mX8_isIn) dX8_person_17 rfl (by decide +kernel) ⟨by decide, by decide⟩ q2235 q2236 q127 q2237 (XS.out (noH _)) <|
  r_if_ne (pt := 27) dX8_person_20 (by decide)
  (r_iconst (v := 0) dX8_person_27 rfl <|
  (fun _ _ _ H => H))
  (r_iconst (v := 2) dX8_person_23 rfl <|
  r_goto (pt := 28) dX8_person_24 (by decide) <|
  (fun _ _ _ H => H)))
  (r_iconst (v := 1) dX8_person_9 rfl <|
  r_goto (pt := 28) dX8_person_10 (by decide) <|
  (fun _ _ _ H => H))
def tX8_person_28 (d : Nat) (Q : Outcome → MH → Prop) (J : Nat → KT) : KT :=
  i_putI 8 0 .int <|
  i_aload 0 <|
  i_getI 8 0 <|
  i_if_le
  (i_iload 2 <|
  i_const 5 <|
  i_icmp_ge
  (i_iload 2 <|
  i_const 5 <|
  i_icmp_ne
  (i_aload 0 <|
  i_iload 1 <|
  i_const 5 <|
  i_call mX8_of d 3 (pV 8) (xOut Q) <|
  i_ret Q (some .int))
  (i_aload 0 <|
  i_iload 1 <|
  i_call mX8_tiedTo d 2 (pV 8) (xOut Q) <|
  i_ret Q (some .int)))
  (i_aload 0 <|
  i_iload 1 <|
  i_iload 2 <|
  i_call mX8_of d 3 (pV 8) (xOut Q) <|
  i_ret Q (some .int)))
  (i_const 0 <|
  i_ret Q (some .int))
theorem kX8_person_28 {d : Nat} {Q : Outcome → MH → Prop} : ∀ ls st h, tX8_person_28 d Q (fun pc ls st h => WPb mX8_person d pc ls st h Q) ls st h → WPb mX8_person d 28 ls st h Q :=
  r_putI (ci := 8) (q := (RX8, TX8, 27)) (k := 0) tyX8 tyX8_ok nmX8 dX8_person_28 (by decide) rfl in_X8 (by decide) (Or.inl ⟨rfl, (Or.inl q2141)⟩) rfl rfl <|
  r_aload_n (k := 0) dX8_person_31 rfl <|
  r_getI (ci := 8) (q := (RX8, TX8, 27)) (k := 0) dX8_person_32 (by decide) rfl in_X8 (by decide) (Or.inl q2141) rfl <|
  r_if_le (pt := 40) dX8_person_35 (by decide)
  (r_iload_n (k := 2) dX8_person_40 rfl <|
  r_iconst (v := 5) dX8_person_41 rfl <|
  r_icmp_ge (pt := 54) dX8_person_42 (by decide)
  (r_iload_n (k := 2) dX8_person_54 rfl <|
  r_iconst (v := 5) dX8_person_55 rfl <|
  r_icmp_ne (pt := 67) dX8_person_56 (by decide)
  (r_aload_n (k := 0) dX8_person_67 rfl <|
  r_iload_n (k := 1) dX8_person_68 rfl <|
  r_iconst (v := 5) dX8_person_69 rfl <|
  r_cV (Z := mX8_of) (ci := 8) (q := (RX8, TX8, 27)) dX8_person_70 rfl (by decide +kernel) ⟨by decide, by decide⟩ (by decide) rfl rfl q2443 q2445 qs86 q127 q2446 (XS.out (noH _)) <|
  r_ret rfl (Or.inl ⟨dX8_person_73, Or.inl rfl⟩))
  (r_aload_n (k := 0) dX8_person_59 rfl <|
  r_iload_n (k := 1) dX8_person_60 rfl <|
  r_cV (Z := mX8_tiedTo) (ci := 8) (q := (RX8, TX8, 27)) dX8_person_61 rfl (by decide +kernel) ⟨by decide, by decide⟩ (by decide) rfl rfl q2447 q2449 qs87 q127 q2450 (XS.out (noH _)) <|
  r_goto (pt := 73) dX8_person_64 (by decide) <|
  r_ret rfl (Or.inl ⟨dX8_person_73, Or.inl rfl⟩)))
  (r_aload_n (k := 0) dX8_person_45 rfl <|
  r_iload_n (k := 1) dX8_person_46 rfl <|
  r_iload_n (k := 2) dX8_person_47 rfl <|
  r_cV (Z := mX8_of) (ci := 8) (q := (RX8, TX8, 27)) dX8_person_48 rfl (by decide +kernel) ⟨by decide, by decide⟩ (by decide) rfl rfl q2443 q2445 qs86 q127 q2446 (XS.out (noH _)) <|
  r_goto (pt := 73) dX8_person_51 (by decide) <|
  r_ret rfl (Or.inl ⟨dX8_person_73, Or.inl rfl⟩)))
  (r_iconst (v := 0) dX8_person_38 rfl <|
  r_ret rfl (Or.inl ⟨dX8_person_39, Or.inl rfl⟩))
-- CheekTownModel.isPerson(I)Z cuts [0]
def tX8_isPerson_0 (d : Nat) (Q : Outcome → MH → Prop) (J : Nat → KT) : KT :=
  i_iload 1 <|
  i_const 0 <|
  i_aload 0 <|
  i_getR 8 1 <|
  i_const 5 <|
  i_iald <|
  i_const 1 <|
  i_isub <|
  i_call mX8_isIn d 3 pS (xOut Q) <|
  i_ret Q (some .boolean)
theorem kX8_isPerson_0 {d : Nat} {Q : Outcome → MH → Prop} : ∀ ls st h, tX8_isPerson_0 d Q (fun pc ls st h => WPb mX8_isPerson d pc ls st h Q) ls st h → WPb mX8_isPerson d 0 ls st h Q :=
  r_iload_n (k := 1) dX8_isPerson_0 rfl <|
  r_iconst (v := 0) dX8_isPerson_1 rfl <|
  r_aload_n (k := 0) dX8_isPerson_2 rfl <|
  r_getR (ci := 8) (q := (RX8, TX8, 27)) (k := 1) dX8_isPerson_3 (by decide) rfl in_X8 (by decide) (Or.inl q2142) rfl <|
  r_iconst (v := 5) dX8_isPerson_6 rfl <|
  r_iald dX8_isPerson_7 <|
  r_iconst (v := 1) dX8_isPerson_8 rfl <|
  r_isub dX8_isPerson_9 <|
  r_cS (Z := mX8_isIn) dX8_isPerson_10 rfl (by decide +kernel) ⟨by decide, by decide⟩ q2235 q2236 q127 q2237 (XS.out (noH _)) <|
  r_ret rfl (Or.inl ⟨dX8_isPerson_13, Or.inr (Or.inl rfl)⟩)
-- CheekTownModel.of(II)I cuts [0]
def tX8_of_0 (d : Nat) (Q : Outcome → MH → Prop) (J : Nat → KT) : KT :=
  i_aload 0 <|
  i_getR 8 1 <|
  i_const 92 <|
  i_const 8 <|
  i_iload 1 <|
  i_imul <|
  i_iadd <|
  i_iload 2 <|
  i_iadd <|
  i_iald <|
  i_ret Q (some .int)
theorem kX8_of_0 {d : Nat} {Q : Outcome → MH → Prop} : ∀ ls st h, tX8_of_0 d Q (fun pc ls st h => WPb mX8_of d pc ls st h Q) ls st h → WPb mX8_of d 0 ls st h Q :=
  r_aload_n (k := 0) dX8_of_0 rfl <|
  r_getR (ci := 8) (q := (RX8, TX8, 27)) (k := 1) dX8_of_1 (by decide) rfl in_X8 (by decide) (Or.inl q2142) rfl <|
  r_bipush (v := 92) dX8_of_4 rfl <|
  r_bipush (v := 8) dX8_of_6 rfl <|
  r_iload_n (k := 1) dX8_of_8 rfl <|
  r_imul dX8_of_9 <|
  r_iadd dX8_of_10 <|
  r_iload_n (k := 2) dX8_of_11 rfl <|
  r_iadd dX8_of_12 <|
  r_iald dX8_of_13 <|
  r_ret rfl (Or.inl ⟨dX8_of_14, Or.inl rfl⟩)
-- CheekTownModel.tiedTo(I)I cuts [0, 4]
def tX8_tiedTo_0 (d : Nat) (Q : Outcome → MH → Prop) (J : Nat → KT) : KT :=
  i_const 0 <|
  i_istore 2 <|
  i_const 0 <|
  i_istore 3 <|
  (J 4)
theorem kX8_tiedTo_0 {d : Nat} {Q : Outcome → MH → Prop} : ∀ ls st h, tX8_tiedTo_0 d Q (fun pc ls st h => WPb mX8_tiedTo d pc ls st h Q) ls st h → WPb mX8_tiedTo d 0 ls st h Q :=
  r_iconst (v := 0) dX8_tiedTo_0 rfl <|
  r_istore_n (k := 2) dX8_tiedTo_1 rfl <|
  r_iconst (v := 0) dX8_tiedTo_2 rfl <|
  r_istore_n (k := 3) dX8_tiedTo_3 rfl <|
  (fun _ _ _ H => H)
def tX8_tiedTo_4 (d : Nat) (Q : Outcome → MH → Prop) (J : Nat → KT) : KT :=
  i_iload 3 <|
  i_aload 0 <|
  i_getR 8 1 <|
  i_const 5 <|
  i_iald <|
  i_icmp_ge
  (i_iload 2 <|
  i_ret Q (some .int))
  (i_iload 2 <|
  i_aload 0 <|
  i_iload 1 <|
  i_iload 3 <|
  i_call mX8_areTied d 3 (pV 8) (xOut Q) <|
  i_if_eq
  (i_const 0 <|
  i_ior <|
  i_istore 2 <|
  i_iinc 3 1 <|
  (J 4))
  (i_const 1 <|
  i_iload 3 <|
  i_ishl <|
  i_ior <|
  i_istore 2 <|
  i_iinc 3 1 <|
  (J 4)))
theorem kX8_tiedTo_4 {d : Nat} {Q : Outcome → MH → Prop} : ∀ ls st h, tX8_tiedTo_4 d Q (fun pc ls st h => WPb mX8_tiedTo d pc ls st h Q) ls st h → WPb mX8_tiedTo d 4 ls st h Q :=
  r_iload_n (k := 3) dX8_tiedTo_4 rfl <|
  r_aload_n (k := 0) dX8_tiedTo_5 rfl <|
  r_getR (ci := 8) (q := (RX8, TX8, 27)) (k := 1) dX8_tiedTo_6 (by decide) rfl in_X8 (by decide) (Or.inl q2142) rfl <|
  r_iconst (v := 5) dX8_tiedTo_9 rfl <|
  r_iald dX8_tiedTo_10 <|
  r_icmp_ge (pt := 39) dX8_tiedTo_11 (by decide)
  (r_iload_n (k := 2) dX8_tiedTo_39 rfl <|
  r_ret rfl (Or.inl ⟨dX8_tiedTo_40, Or.inl rfl⟩))
  (r_iload_n (k := 2) dX8_tiedTo_14 rfl <|
  r_aload_n (k := 0) dX8_tiedTo_15 rfl <|
  r_iload_n (k := 1) dX8_tiedTo_16 rfl <|
  r_iload_n (k := 3) dX8_tiedTo_17 rfl <|
  r_cV (Z := mX8_areTied) (ci := 8) (q := (RX8, TX8, 27)) dX8_tiedTo_18 rfl (by decide +kernel) ⟨by decide, by decide⟩ (by decide) rfl rfl q2374 q2376 qs76 q127 q2377 (XS.out (noH _)) <|
  r_if_eq (pt := 30) dX8_tiedTo_21 (by decide)
  (r_iconst (v := 0) dX8_tiedTo_30 rfl <|
  r_ior dX8_tiedTo_31 <|
  r_istore_n (k := 2) dX8_tiedTo_32 rfl <|
  r_iinc (v := 1) dX8_tiedTo_33 rfl <|
  r_goto (pt := 4) dX8_tiedTo_36 (by decide) <|
  (fun _ _ _ H => H))
  (r_iconst (v := 1) dX8_tiedTo_24 rfl <|
  r_iload_n (k := 3) dX8_tiedTo_25 rfl <|
  r_ishl dX8_tiedTo_26 <|
  r_goto (pt := 31) dX8_tiedTo_27 (by decide) <|
  r_ior dX8_tiedTo_31 <|
  r_istore_n (k := 2) dX8_tiedTo_32 rfl <|
  r_iinc (v := 1) dX8_tiedTo_33 rfl <|
  r_goto (pt := 4) dX8_tiedTo_36 (by decide) <|
  (fun _ _ _ H => H)))
-- CheekTownModel.saw(IIZ)I cuts [0]
def tX8_saw_0 (d : Nat) (Q : Outcome → MH → Prop) (J : Nat → KT) : KT :=
  i_aload 0 <|
  i_aload 0 <|
  i_iload 1 <|
  i_iload 2 <|
  i_call mX8_two d 3 (pV 8) (xOut Q) <|
  i_putI 8 0 .int <|
  i_aload 0 <|
  i_getI 8 0 <|
  i_if_le
  (i_aload 0 <|
  i_getR 8 1 <|
  i_iload 3 <|
  i_if_eq
  (i_const 272 <|
  i_const 10 <|
  i_iload 1 <|
  i_imul <|
  i_iadd <|
  i_iload 2 <|
  i_iadd <|
  i_iald <|
  i_ret Q (some .int))
  (i_const 172 <|
  i_const 10 <|
  i_iload 1 <|
  i_imul <|
  i_iadd <|
  i_iload 2 <|
  i_iadd <|
  i_iald <|
  i_ret Q (some .int)))
  (i_const 0 <|
  i_ret Q (some .int))
theorem kX8_saw_0 {d : Nat} {Q : Outcome → MH → Prop} : ∀ ls st h, tX8_saw_0 d Q (fun pc ls st h => WPb mX8_saw d pc ls st h Q) ls st h → WPb mX8_saw d 0 ls st h Q :=
  r_aload_n (k := 0) dX8_saw_0 rfl <|
  r_aload_n (k := 0) dX8_saw_1 rfl <|
  r_iload_n (k := 1) dX8_saw_2 rfl <|
  r_iload_n (k := 2) dX8_saw_3 rfl <|
  r_cV (Z := mX8_two) (ci := 8) (q := (RX8, TX8, 27)) dX8_saw_4 rfl (by decide +kernel) ⟨by decide, by decide⟩ (by decide) rfl rfl q2455 q2457 qs88 q127 q2458 (XS.out (noH _)) <|
  r_putI (ci := 8) (q := (RX8, TX8, 27)) (k := 0) tyX8 tyX8_ok nmX8 dX8_saw_7 (by decide) rfl in_X8 (by decide) (Or.inl ⟨rfl, (Or.inl q2141)⟩) rfl rfl <|
  r_aload_n (k := 0) dX8_saw_10 rfl <|
  r_getI (ci := 8) (q := (RX8, TX8, 27)) (k := 0) dX8_saw_11 (by decide) rfl in_X8 (by decide) (Or.inl q2141) rfl <|
  r_if_le (pt := 19) dX8_saw_14 (by decide)
  (r_aload_n (k := 0) dX8_saw_19 rfl <|
  r_getR (ci := 8) (q := (RX8, TX8, 27)) (k := 1) dX8_saw_20 (by decide) rfl in_X8 (by decide) (Or.inl q2142) rfl <|
  r_iload_n (k := 3) dX8_saw_23 rfl <|
  r_if_eq (pt := 33) dX8_saw_24 (by decide)
  (r_sipush (v := 272) dX8_saw_33 rfl <|
  r_bipush (v := 10) dX8_saw_36 rfl <|
  r_iload_n (k := 1) dX8_saw_38 rfl <|
  r_imul dX8_saw_39 <|
  r_iadd dX8_saw_40 <|
  r_iload_n (k := 2) dX8_saw_41 rfl <|
  r_iadd dX8_saw_42 <|
  r_iald dX8_saw_43 <|
  r_ret rfl (Or.inl ⟨dX8_saw_44, Or.inl rfl⟩))
  (r_sipush (v := 172) dX8_saw_27 rfl <|
  r_goto (pt := 36) dX8_saw_30 (by decide) <|
  r_bipush (v := 10) dX8_saw_36 rfl <|
  r_iload_n (k := 1) dX8_saw_38 rfl <|
  r_imul dX8_saw_39 <|
  r_iadd dX8_saw_40 <|
  r_iload_n (k := 2) dX8_saw_41 rfl <|
  r_iadd dX8_saw_42 <|
  r_iald dX8_saw_43 <|
  r_ret rfl (Or.inl ⟨dX8_saw_44, Or.inl rfl⟩)))
  (r_iconst (v := 0) dX8_saw_17 rfl <|
  r_ret rfl (Or.inl ⟨dX8_saw_18, Or.inl rfl⟩))
-- CheekTownModel.two(II)I cuts [0]
def tX8_two_0 (d : Nat) (Q : Outcome → MH → Prop) (J : Nat → KT) : KT :=
  i_aload 0 <|
  i_iload 1 <|
  i_call mX8_isPerson d 2 (pV 8) (xOut Q) <|
  i_if_eq
  (i_const 1 <|
  i_ret Q (some .int))
  (i_aload 0 <|
  i_iload 2 <|
  i_call mX8_isPerson d 2 (pV 8) (xOut Q) <|
  i_if_ne
  (i_iload 1 <|
  i_iload 2 <|
  i_icmp_ne
  (i_const 0 <|
  i_ret Q (some .int))
  (i_const 2 <|
  i_ret Q (some .int)))
  (i_const 1 <|
  i_ret Q (some .int)))
theorem kX8_two_0 {d : Nat} {Q : Outcome → MH → Prop} : ∀ ls st h, tX8_two_0 d Q (fun pc ls st h => WPb mX8_two d pc ls st h Q) ls st h → WPb mX8_two d 0 ls st h Q :=
  r_aload_n (k := 0) dX8_two_0 rfl <|
  r_iload_n (k := 1) dX8_two_1 rfl <|
  r_cV (Z := mX8_isPerson) (ci := 8) (q := (RX8, TX8, 27)) dX8_two_2 rfl (by decide +kernel) ⟨by decide, by decide⟩ (by decide) rfl rfl q2439 q2441 qs85 q127 q2442 (XS.out (noH _)) <|
  r_if_eq (pt := 16) dX8_two_5 (by decide)
  (r_iconst (v := 1) dX8_two_16 rfl <|
  r_goto (pt := 30) dX8_two_17 (by decide) <|
  r_ret rfl (Or.inl ⟨dX8_two_30, Or.inl rfl⟩))
  (r_aload_n (k := 0) dX8_two_8 rfl <|
  r_iload_n (k := 2) dX8_two_9 rfl <|
  r_cV (Z := mX8_isPerson) (ci := 8) (q := (RX8, TX8, 27)) dX8_two_10 rfl (by decide +kernel) ⟨by decide, by decide⟩ (by decide) rfl rfl q2439 q2441 qs85 q127 q2442 (XS.out (noH _)) <|
  r_if_ne (pt := 20) dX8_two_13 (by decide)
  (r_iload_n (k := 1) dX8_two_20 rfl <|
  r_iload_n (k := 2) dX8_two_21 rfl <|
  r_icmp_ne (pt := 29) dX8_two_22 (by decide)
  (r_iconst (v := 0) dX8_two_29 rfl <|
  r_ret rfl (Or.inl ⟨dX8_two_30, Or.inl rfl⟩))
  (r_iconst (v := 2) dX8_two_25 rfl <|
  r_goto (pt := 30) dX8_two_26 (by decide) <|
  r_ret rfl (Or.inl ⟨dX8_two_30, Or.inl rfl⟩)))
  (r_iconst (v := 1) dX8_two_16 rfl <|
  r_goto (pt := 30) dX8_two_17 (by decide) <|
  r_ret rfl (Or.inl ⟨dX8_two_30, Or.inl rfl⟩)))
-- CheekTownModel.tie(IZ)I cuts [0, 23]
def tX8_tie_0 (d : Nat) (Q : Outcome → MH → Prop) (J : Nat → KT) : KT :=
  i_aload 0 <|
  i_iload 1 <|
  i_const 0 <|
  i_aload 0 <|
  i_getR 8 1 <|
  i_const 6 <|
  i_iald <|
  i_const 1 <|
  i_isub <|
  i_call mX8_isIn d 3 pS (xOut Q) <|
  i_if_ne
  (i_const 0 <|
  (J 23))
  (i_const 1 <|
  (J 23))
theorem kX8_tie_0 {d : Nat} {Q : Outcome → MH → Prop} : ∀ ls st h, tX8_tie_0 d Q (fun pc ls st h => WPb mX8_tie d pc ls st h Q) ls st h → WPb mX8_tie d 0 ls st h Q :=
  r_aload_n (k := 0) dX8_tie_0 rfl <|
  r_iload_n (k := 1) dX8_tie_1 rfl <|
  r_iconst (v := 0) dX8_tie_2 rfl <|
  r_aload_n (k := 0) dX8_tie_3 rfl <|
  r_getR (ci := 8) (q := (RX8, TX8, 27)) (k := 1) dX8_tie_4 (by decide) rfl in_X8 (by decide) (Or.inl q2142) rfl <|
  r_bipush (v := 6) dX8_tie_7 rfl <|
  r_iald dX8_tie_9 <|
  r_iconst (v := 1) dX8_tie_10 rfl <|
  r_isub dX8_tie_11 <|
  r_cS (Z := mX8_isIn) dX8_tie_12 rfl (by decide +kernel) ⟨by decide, by decide⟩ q2235 q2236 q127 q2237 (XS.out (noH _)) <|
  r_if_ne (pt := 22) dX8_tie_15 (by decide)
  (r_iconst (v := 0) dX8_tie_22 rfl <|
  (fun _ _ _ H => H))
  (r_iconst (v := 1) dX8_tie_18 rfl <|
  r_goto (pt := 23) dX8_tie_19 (by decide) <|
  (fun _ _ _ H => H))
def tX8_tie_23 (d : Nat) (Q : Outcome → MH → Prop) (J : Nat → KT) : KT :=
  i_putI 8 0 .int <|
  i_aload 0 <|
  i_getI 8 0 <|
  i_if_le
  (i_iload 2 <|
  i_if_eq
  (i_aload 0 <|
  i_iload 1 <|
  i_call mX8_who d 2 (pV 8) (xOut Q) <|
  i_ret Q (some .int))
  (i_aload 0 <|
  i_iload 1 <|
  i_call mX8_whom d 2 (pV 8) (xOut Q) <|
  i_ret Q (some .int)))
  (i_const 0 <|
  i_ret Q (some .int))
theorem kX8_tie_23 {d : Nat} {Q : Outcome → MH → Prop} : ∀ ls st h, tX8_tie_23 d Q (fun pc ls st h => WPb mX8_tie d pc ls st h Q) ls st h → WPb mX8_tie d 23 ls st h Q :=
  r_putI (ci := 8) (q := (RX8, TX8, 27)) (k := 0) tyX8 tyX8_ok nmX8 dX8_tie_23 (by decide) rfl in_X8 (by decide) (Or.inl ⟨rfl, (Or.inl q2141)⟩) rfl rfl <|
  r_aload_n (k := 0) dX8_tie_26 rfl <|
  r_getI (ci := 8) (q := (RX8, TX8, 27)) (k := 0) dX8_tie_27 (by decide) rfl in_X8 (by decide) (Or.inl q2141) rfl <|
  r_if_le (pt := 35) dX8_tie_30 (by decide)
  (r_iload_n (k := 2) dX8_tie_35 rfl <|
  r_if_eq (pt := 47) dX8_tie_36 (by decide)
  (r_aload_n (k := 0) dX8_tie_47 rfl <|
  r_iload_n (k := 1) dX8_tie_48 rfl <|
  r_cV (Z := mX8_who) (ci := 8) (q := (RX8, TX8, 27)) dX8_tie_49 rfl (by decide +kernel) ⟨by decide, by decide⟩ (by decide) rfl rfl q2378 q2380 qs77 q127 q2381 (XS.out (noH _)) <|
  r_ret rfl (Or.inl ⟨dX8_tie_52, Or.inl rfl⟩))
  (r_aload_n (k := 0) dX8_tie_39 rfl <|
  r_iload_n (k := 1) dX8_tie_40 rfl <|
  r_cV (Z := mX8_whom) (ci := 8) (q := (RX8, TX8, 27)) dX8_tie_41 rfl (by decide +kernel) ⟨by decide, by decide⟩ (by decide) rfl rfl q2382 q2384 qs78 q127 q2385 (XS.out (noH _)) <|
  r_goto (pt := 52) dX8_tie_44 (by decide) <|
  r_ret rfl (Or.inl ⟨dX8_tie_52, Or.inl rfl⟩)))
  (r_iconst (v := 0) dX8_tie_33 rfl <|
  r_ret rfl (Or.inl ⟨dX8_tie_34, Or.inl rfl⟩))
-- CheekTownModel.will(II)I cuts [0]
def tX8_will_0 (d : Nat) (Q : Outcome → MH → Prop) (J : Nat → KT) : KT :=
  i_aload 0 <|
  i_aload 0 <|
  i_iload 1 <|
  i_iload 2 <|
  i_call mX8_two d 3 (pV 8) (xOut Q) <|
  i_putI 8 0 .int <|
  i_aload 0 <|
  i_getI 8 0 <|
  i_if_le
  (i_aload 0 <|
  i_iload 1 <|
  i_iload 2 <|
  i_call mX8_beginning d 3 (pV 8) (xOut Q) <|
  i_ret Q (some .int))
  (i_const 0 <|
  i_ret Q (some .int))
theorem kX8_will_0 {d : Nat} {Q : Outcome → MH → Prop} : ∀ ls st h, tX8_will_0 d Q (fun pc ls st h => WPb mX8_will d pc ls st h Q) ls st h → WPb mX8_will d 0 ls st h Q :=
  r_aload_n (k := 0) dX8_will_0 rfl <|
  r_aload_n (k := 0) dX8_will_1 rfl <|
  r_iload_n (k := 1) dX8_will_2 rfl <|
  r_iload_n (k := 2) dX8_will_3 rfl <|
  r_cV (Z := mX8_two) (ci := 8) (q := (RX8, TX8, 27)) dX8_will_4 rfl (by decide +kernel) ⟨by decide, by decide⟩ (by decide) rfl rfl q2455 q2457 qs88 q127 q2458 (XS.out (noH _)) <|
  r_putI (ci := 8) (q := (RX8, TX8, 27)) (k := 0) tyX8 tyX8_ok nmX8 dX8_will_7 (by decide) rfl in_X8 (by decide) (Or.inl ⟨rfl, (Or.inl q2141)⟩) rfl rfl <|
  r_aload_n (k := 0) dX8_will_10 rfl <|
  r_getI (ci := 8) (q := (RX8, TX8, 27)) (k := 0) dX8_will_11 (by decide) rfl in_X8 (by decide) (Or.inl q2141) rfl <|
  r_if_le (pt := 21) dX8_will_14 (by decide)
  (r_aload_n (k := 0) dX8_will_21 rfl <|
  r_iload_n (k := 1) dX8_will_22 rfl <|
  r_iload_n (k := 2) dX8_will_23 rfl <|
  r_cV (Z := mX8_beginning) (ci := 8) (q := (RX8, TX8, 27)) dX8_will_24 rfl (by decide +kernel) ⟨by decide, by decide⟩ (by decide) rfl rfl q2467 q2469 qs89 q127 q2470 (XS.out (noH _)) <|
  r_ret rfl (Or.inl ⟨dX8_will_27, Or.inl rfl⟩))
  (r_iconst (v := 0) dX8_will_17 rfl <|
  r_goto (pt := 27) dX8_will_18 (by decide) <|
  r_ret rfl (Or.inl ⟨dX8_will_27, Or.inl rfl⟩))
-- CheekTownModel.beginning(II)I cuts [0, 93, 118, 184]
def tX8_beginning_0 (d : Nat) (Q : Outcome → MH → Prop) (J : Nat → KT) : KT :=
  i_aload 0 <|
  i_getR 8 14 <|
  i_const 0 <|
  i_iload 1 <|
  i_iast <|
  i_aload 0 <|
  i_getR 8 14 <|
  i_const 1 <|
  i_iload 2 <|
  i_iast <|
  i_aload 0 <|
  i_getR 8 14 <|
  i_const 2 <|
  i_aload 0 <|
  i_iload 1 <|
  i_const 2 <|
  i_call mX8_of d 3 (pV 8) (xOut Q) <|
  i_iast <|
  i_aload 0 <|
  i_getR 8 14 <|
  i_const 3 <|
  i_aload 0 <|
  i_iload 2 <|
  i_const 2 <|
  i_call mX8_of d 3 (pV 8) (xOut Q) <|
  i_iast <|
  i_aload 0 <|
  i_getR 8 14 <|
  i_const 4 <|
  i_aload 0 <|
  i_getR 8 1 <|
  i_const 172 <|
  i_const 10 <|
  i_iload 1 <|
  i_imul <|
  i_iadd <|
  i_iload 2 <|
  i_iadd <|
  i_iald <|
  i_iast <|
  i_aload 0 <|
  i_getR 8 14 <|
  i_const 5 <|
  i_aload 0 <|
  i_getR 8 1 <|
  i_const 7 <|
  i_iald <|
  i_iast <|
  i_aload 0 <|
  i_aload 0 <|
  i_iload 1 <|
  i_const 0 <|
  i_call mX8_of d 3 (pV 8) (xOut Q) <|
  i_aload 0 <|
  i_iload 2 <|
  i_const 0 <|
  i_call mX8_of d 3 (pV 8) (xOut Q) <|
  i_icmp_ne
  (i_const 0 <|
  (J 93))
  (i_const 1 <|
  (J 93))
theorem kX8_beginning_0 {d : Nat} {Q : Outcome → MH → Prop} : ∀ ls st h, tX8_beginning_0 d Q (fun pc ls st h => WPb mX8_beginning d pc ls st h Q) ls st h → WPb mX8_beginning d 0 ls st h Q :=
  r_aload_n (k := 0) dX8_beginning_0 rfl <|
  r_getR (ci := 8) (q := (RX8, TX8, 27)) (k := 14) dX8_beginning_1 (by decide) rfl in_X8 (by decide) (Or.inl q2155) rfl <|
  r_iconst (v := 0) dX8_beginning_4 rfl <|
  r_iload_n (k := 1) dX8_beginning_5 rfl <|
  r_iast dX8_beginning_6 <|
  r_aload_n (k := 0) dX8_beginning_7 rfl <|
  r_getR (ci := 8) (q := (RX8, TX8, 27)) (k := 14) dX8_beginning_8 (by decide) rfl in_X8 (by decide) (Or.inl q2155) rfl <|
  r_iconst (v := 1) dX8_beginning_11 rfl <|
  r_iload_n (k := 2) dX8_beginning_12 rfl <|
  r_iast dX8_beginning_13 <|
  r_aload_n (k := 0) dX8_beginning_14 rfl <|
  r_getR (ci := 8) (q := (RX8, TX8, 27)) (k := 14) dX8_beginning_15 (by decide) rfl in_X8 (by decide) (Or.inl q2155) rfl <|
  r_iconst (v := 2) dX8_beginning_18 rfl <|
  r_aload_n (k := 0) dX8_beginning_19 rfl <|
  r_iload_n (k := 1) dX8_beginning_20 rfl <|
  r_iconst (v := 2) dX8_beginning_21 rfl <|
  r_cV (Z := mX8_of) (ci := 8) (q := (RX8, TX8, 27)) dX8_beginning_22 rfl (by decide +kernel) ⟨by decide, by decide⟩ (by decide) rfl rfl q2443 q2445 qs86 q127 q2446 (XS.out (noH _)) <|
  r_iast dX8_beginning_25 <|
  r_aload_n (k := 0) dX8_beginning_26 rfl <|
  r_getR (ci := 8) (q := (RX8, TX8, 27)) (k := 14) dX8_beginning_27 (by decide) rfl in_X8 (by decide) (Or.inl q2155) rfl <|
  r_iconst (v := 3) dX8_beginning_30 rfl <|
  r_aload_n (k := 0) dX8_beginning_31 rfl <|
  r_iload_n (k := 2) dX8_beginning_32 rfl <|
  r_iconst (v := 2) dX8_beginning_33 rfl <|
  r_cV (Z := mX8_of) (ci := 8) (q := (RX8, TX8, 27)) dX8_beginning_34 rfl (by decide +kernel) ⟨by decide, by decide⟩ (by decide) rfl rfl q2443 q2445 qs86 q127 q2446 (XS.out (noH _)) <|
  r_iast dX8_beginning_37 <|
  r_aload_n (k := 0) dX8_beginning_38 rfl <|
  r_getR (ci := 8) (q := (RX8, TX8, 27)) (k := 14) dX8_beginning_39 (by decide) rfl in_X8 (by decide) (Or.inl q2155) rfl <|
  r_iconst (v := 4) dX8_beginning_42 rfl <|
  r_aload_n (k := 0) dX8_beginning_43 rfl <|
  r_getR (ci := 8) (q := (RX8, TX8, 27)) (k := 1) dX8_beginning_44 (by decide) rfl in_X8 (by decide) (Or.inl q2142) rfl <|
  r_sipush (v := 172) dX8_beginning_47 rfl <|
  r_bipush (v := 10) dX8_beginning_50 rfl <|
  r_iload_n (k := 1) dX8_beginning_52 rfl <|
  r_imul dX8_beginning_53 <|
  r_iadd dX8_beginning_54 <|
  r_iload_n (k := 2) dX8_beginning_55 rfl <|
  r_iadd dX8_beginning_56 <|
  r_iald dX8_beginning_57 <|
  r_iast dX8_beginning_58 <|
  r_aload_n (k := 0) dX8_beginning_59 rfl <|
  r_getR (ci := 8) (q := (RX8, TX8, 27)) (k := 14) dX8_beginning_60 (by decide) rfl in_X8 (by decide) (Or.inl q2155) rfl <|
  r_iconst (v := 5) dX8_beginning_63 rfl <|
  r_aload_n (k := 0) dX8_beginning_64 rfl <|
  r_getR (ci := 8) (q := (RX8, TX8, 27)) (k := 1) dX8_beginning_65 (by decide) rfl in_X8 (by decide) (Or.inl q2142) rfl <|
  r_bipush (v := 7) dX8_beginning_68 rfl <|
  r_iald dX8_beginning_70 <|
  r_iast dX8_beginning_71 <|
  r_aload_n (k := 0) dX8_beginning_72 rfl <|
  r_aload_n (k := 0) dX8_beginning_73 rfl <|
  r_iload_n (k := 1) dX8_beginning_74 rfl <|
  r_iconst (v := 0) dX8_beginning_75 rfl <|
  r_cV (Z := mX8_of) (ci := 8) (q := (RX8, TX8, 27)) dX8_beginning_76 rfl (by decide +kernel) ⟨by decide, by decide⟩ (by decide) rfl rfl q2443 q2445 qs86 q127 q2446 (XS.out (noH _)) <|
  r_aload_n (k := 0) dX8_beginning_79 rfl <|
  r_iload_n (k := 2) dX8_beginning_80 rfl <|
  r_iconst (v := 0) dX8_beginning_81 rfl <|
  r_cV (Z := mX8_of) (ci := 8) (q := (RX8, TX8, 27)) dX8_beginning_82 rfl (by decide +kernel) ⟨by decide, by decide⟩ (by decide) rfl rfl q2443 q2445 qs86 q127 q2446 (XS.out (noH _)) <|
  r_icmp_ne (pt := 92) dX8_beginning_85 (by decide)
  (r_iconst (v := 0) dX8_beginning_92 rfl <|
  (fun _ _ _ H => H))
  (r_iconst (v := 1) dX8_beginning_88 rfl <|
  r_goto (pt := 93) dX8_beginning_89 (by decide) <|
  (fun _ _ _ H => H))
def tX8_beginning_93 (d : Nat) (Q : Outcome → MH → Prop) (J : Nat → KT) : KT :=
  i_putI 8 15 .boolean <|
  i_aload 0 <|
  i_aload 0 <|
  i_iload 1 <|
  i_const 4 <|
  i_call mX8_of d 3 (pV 8) (xOut Q) <|
  i_aload 0 <|
  i_iload 2 <|
  i_const 4 <|
  i_call mX8_of d 3 (pV 8) (xOut Q) <|
  i_iadd <|
  i_if_le
  (i_const 0 <|
  (J 118))
  (i_const 1 <|
  (J 118))
theorem kX8_beginning_93 {d : Nat} {Q : Outcome → MH → Prop} : ∀ ls st h, tX8_beginning_93 d Q (fun pc ls st h => WPb mX8_beginning d pc ls st h Q) ls st h → WPb mX8_beginning d 93 ls st h Q :=
  r_putI (ci := 8) (q := (RX8, TX8, 27)) (k := 15) tyX8 tyX8_ok nmX8 dX8_beginning_93 (by decide) rfl in_X8 (by decide) (Or.inl ⟨rfl, (Or.inl q2156)⟩) rfl rfl <|
  r_aload_n (k := 0) dX8_beginning_96 rfl <|
  r_aload_n (k := 0) dX8_beginning_97 rfl <|
  r_iload_n (k := 1) dX8_beginning_98 rfl <|
  r_iconst (v := 4) dX8_beginning_99 rfl <|
  r_cV (Z := mX8_of) (ci := 8) (q := (RX8, TX8, 27)) dX8_beginning_100 rfl (by decide +kernel) ⟨by decide, by decide⟩ (by decide) rfl rfl q2443 q2445 qs86 q127 q2446 (XS.out (noH _)) <|
  r_aload_n (k := 0) dX8_beginning_103 rfl <|
  r_iload_n (k := 2) dX8_beginning_104 rfl <|
  r_iconst (v := 4) dX8_beginning_105 rfl <|
  r_cV (Z := mX8_of) (ci := 8) (q := (RX8, TX8, 27)) dX8_beginning_106 rfl (by decide +kernel) ⟨by decide, by decide⟩ (by decide) rfl rfl q2443 q2445 qs86 q127 q2446 (XS.out (noH _)) <|
  r_iadd dX8_beginning_109 <|
  r_if_le (pt := 117) dX8_beginning_110 (by decide)
  (r_iconst (v := 0) dX8_beginning_117 rfl <|
  (fun _ _ _ H => H))
  (r_iconst (v := 1) dX8_beginning_113 rfl <|
  r_goto (pt := 118) dX8_beginning_114 (by decide) <|
  (fun _ _ _ H => H))
def tX8_beginning_118 (d : Nat) (Q : Outcome → MH → Prop) (J : Nat → KT) : KT :=
  i_putI 8 16 .boolean <|
  i_aload 0 <|
  i_const (-1) <|
  i_putI 8 17 .int <|
  i_aload 0 <|
  i_getR 8 1 <|
  i_const 1 <|
  i_iald <|
  i_if_le
  ((J 184))
  (i_aload 0 <|
  i_getI 8 12 <|
  i_istore 3 <|
  i_aload 0 <|
  i_const (-1) <|
  i_putI 8 12 .int <|
  i_aload 0 <|
  i_const 900 <|
  i_putI 8 9 .int <|
  i_aload 0 <|
  i_aload 0 <|
  i_getR 8 1 <|
  i_const 2 <|
  i_iald <|
  i_putI 8 10 .int <|
  i_aload 0 <|
  i_const 0 <|
  i_putI 8 11 .int <|
  i_aload 0 <|
  i_const 0 <|
  i_putI 8 13 .int <|
  i_aload 0 <|
  i_const 1 <|
  i_call mX8_read d 2 (pV 8) (xOut Q) <|
  i_istore 4 <|
  i_aload 0 <|
  i_iload 3 <|
  i_putI 8 12 .int <|
  (J 184))
theorem kX8_beginning_118 {d : Nat} {Q : Outcome → MH → Prop} : ∀ ls st h, tX8_beginning_118 d Q (fun pc ls st h => WPb mX8_beginning d pc ls st h Q) ls st h → WPb mX8_beginning d 118 ls st h Q :=
  r_putI (ci := 8) (q := (RX8, TX8, 27)) (k := 16) tyX8 tyX8_ok nmX8 dX8_beginning_118 (by decide) rfl in_X8 (by decide) (Or.inl ⟨rfl, (Or.inl q2157)⟩) rfl rfl <|
  r_aload_n (k := 0) dX8_beginning_121 rfl <|
  r_iconst (v := (-1)) dX8_beginning_122 rfl <|
  r_putI (ci := 8) (q := (RX8, TX8, 27)) (k := 17) tyX8 tyX8_ok nmX8 dX8_beginning_123 (by decide) rfl in_X8 (by decide) (Or.inl ⟨rfl, (Or.inl q2158)⟩) rfl rfl <|
  r_aload_n (k := 0) dX8_beginning_126 rfl <|
  r_getR (ci := 8) (q := (RX8, TX8, 27)) (k := 1) dX8_beginning_127 (by decide) rfl in_X8 (by decide) (Or.inl q2142) rfl <|
  r_iconst (v := 1) dX8_beginning_130 rfl <|
  r_iald dX8_beginning_131 <|
  r_if_le (pt := 184) dX8_beginning_132 (by decide)
  ((fun _ _ _ H => H))
  (r_aload_n (k := 0) dX8_beginning_135 rfl <|
  r_getI (ci := 8) (q := (RX8, TX8, 27)) (k := 12) dX8_beginning_136 (by decide) rfl in_X8 (by decide) (Or.inl q2153) rfl <|
  r_istore_n (k := 3) dX8_beginning_139 rfl <|
  r_aload_n (k := 0) dX8_beginning_140 rfl <|
  r_iconst (v := (-1)) dX8_beginning_141 rfl <|
  r_putI (ci := 8) (q := (RX8, TX8, 27)) (k := 12) tyX8 tyX8_ok nmX8 dX8_beginning_142 (by decide) rfl in_X8 (by decide) (Or.inl ⟨rfl, (Or.inl q2153)⟩) rfl rfl <|
  r_aload_n (k := 0) dX8_beginning_145 rfl <|
  r_sipush (v := 900) dX8_beginning_146 rfl <|
  r_putI (ci := 8) (q := (RX8, TX8, 27)) (k := 9) tyX8 tyX8_ok nmX8 dX8_beginning_149 (by decide) rfl in_X8 (by decide) (Or.inl ⟨rfl, (Or.inl q2150)⟩) rfl rfl <|
  r_aload_n (k := 0) dX8_beginning_152 rfl <|
  r_aload_n (k := 0) dX8_beginning_153 rfl <|
  r_getR (ci := 8) (q := (RX8, TX8, 27)) (k := 1) dX8_beginning_154 (by decide) rfl in_X8 (by decide) (Or.inl q2142) rfl <|
  r_iconst (v := 2) dX8_beginning_157 rfl <|
  r_iald dX8_beginning_158 <|
  r_putI (ci := 8) (q := (RX8, TX8, 27)) (k := 10) tyX8 tyX8_ok nmX8 dX8_beginning_159 (by decide) rfl in_X8 (by decide) (Or.inl ⟨rfl, (Or.inl q2151)⟩) rfl rfl <|
  r_aload_n (k := 0) dX8_beginning_162 rfl <|
  r_iconst (v := 0) dX8_beginning_163 rfl <|
  r_putI (ci := 8) (q := (RX8, TX8, 27)) (k := 11) tyX8 tyX8_ok nmX8 dX8_beginning_164 (by decide) rfl in_X8 (by decide) (Or.inl ⟨rfl, (Or.inl q2152)⟩) rfl rfl <|
  r_aload_n (k := 0) dX8_beginning_167 rfl <|
  r_iconst (v := 0) dX8_beginning_168 rfl <|
  r_putI (ci := 8) (q := (RX8, TX8, 27)) (k := 13) tyX8 tyX8_ok nmX8 dX8_beginning_169 (by decide) rfl in_X8 (by decide) (Or.inl ⟨rfl, (Or.inl q2154)⟩) rfl rfl <|
  r_aload_n (k := 0) dX8_beginning_172 rfl <|
  r_iconst (v := 1) dX8_beginning_173 rfl <|
  r_cV (Z := mX8_read) (ci := 8) (q := (RX8, TX8, 27)) dX8_beginning_174 rfl (by decide +kernel) ⟨by decide, by decide⟩ (by decide) rfl rfl q2246 q2248 qs53 q127 q2249 (XS.out (noH _)) <|
  r_istore dX8_beginning_177 <|
  r_aload_n (k := 0) dX8_beginning_179 rfl <|
  r_iload_n (k := 3) dX8_beginning_180 rfl <|
  r_putI (ci := 8) (q := (RX8, TX8, 27)) (k := 12) tyX8 tyX8_ok nmX8 dX8_beginning_181 (by decide) rfl in_X8 (by decide) (Or.inl ⟨rfl, (Or.inl q2153)⟩) rfl rfl <|
  (fun _ _ _ H => H))
def tX8_beginning_184 (d : Nat) (Q : Outcome → MH → Prop) (J : Nat → KT) : KT :=
  i_aload 0 <|
  i_getI 8 17 <|
  i_const (-1) <|
  i_icmp_eq
  (i_aload 0 <|
  i_getR 8 1 <|
  i_const 272 <|
  i_const 10 <|
  i_iload 1 <|
  i_imul <|
  i_iadd <|
  i_iload 2 <|
  i_iadd <|
  i_iald <|
  i_istore 3 <|
  i_iload 3 <|
  i_const (-1) <|
  i_icmp_ne
  (i_iload 3 <|
  i_ret Q (some .int))
  (i_aload 0 <|
  i_iload 1 <|
  i_const 1 <|
  i_call mX8_of d 3 (pV 8) (xOut Q) <|
  i_ret Q (some .int)))
  (i_aload 0 <|
  i_getI 8 17 <|
  i_ret Q (some .int))
theorem kX8_beginning_184 {d : Nat} {Q : Outcome → MH → Prop} : ∀ ls st h, tX8_beginning_184 d Q (fun pc ls st h => WPb mX8_beginning d pc ls st h Q) ls st h → WPb mX8_beginning d 184 ls st h Q :=
  r_aload_n (k := 0) dX8_beginning_184 rfl <|
  r_getI (ci := 8) (q := (RX8, TX8, 27)) (k := 17) dX8_beginning_185 (by decide) rfl in_X8 (by decide) (Or.inl q2158) rfl <|
  r_iconst (v := (-1)) dX8_beginning_188 rfl <|
  r_icmp_eq (pt := 197) dX8_beginning_189 (by decide)
  (r_aload_n (k := 0) dX8_beginning_197 rfl <|
  r_getR (ci := 8) (q := (RX8, TX8, 27)) (k := 1) dX8_beginning_198 (by decide) rfl in_X8 (by decide) (Or.inl q2142) rfl <|
  r_sipush (v := 272) dX8_beginning_201 rfl <|
  r_bipush (v := 10) dX8_beginning_204 rfl <|
  r_iload_n (k := 1) dX8_beginning_206 rfl <|
  r_imul dX8_beginning_207 <|
  r_iadd dX8_beginning_208 <|
  r_iload_n (k := 2) dX8_beginning_209 rfl <|
  r_iadd dX8_beginning_210 <|
  r_iald dX8_beginning_211 <|
  r_istore_n (k := 3) dX8_beginning_212 rfl <|
  r_iload_n (k := 3) dX8_beginning_213 rfl <|
  r_iconst (v := (-1)) dX8_beginning_214 rfl <|
  r_icmp_ne (pt := 227) dX8_beginning_215 (by decide)
  (r_iload_n (k := 3) dX8_beginning_227 rfl <|
  r_ret rfl (Or.inl ⟨dX8_beginning_228, Or.inl rfl⟩))
  (r_aload_n (k := 0) dX8_beginning_218 rfl <|
  r_iload_n (k := 1) dX8_beginning_219 rfl <|
  r_iconst (v := 1) dX8_beginning_220 rfl <|
  r_cV (Z := mX8_of) (ci := 8) (q := (RX8, TX8, 27)) dX8_beginning_221 rfl (by decide +kernel) ⟨by decide, by decide⟩ (by decide) rfl rfl q2443 q2445 qs86 q127 q2446 (XS.out (noH _)) <|
  r_goto (pt := 228) dX8_beginning_224 (by decide) <|
  r_ret rfl (Or.inl ⟨dX8_beginning_228, Or.inl rfl⟩)))
  (r_aload_n (k := 0) dX8_beginning_192 rfl <|
  r_getI (ci := 8) (q := (RX8, TX8, 27)) (k := 17) dX8_beginning_193 (by decide) rfl in_X8 (by decide) (Or.inl q2158) rfl <|
  r_ret rfl (Or.inl ⟨dX8_beginning_196, Or.inl rfl⟩))
-- CheekTownModel.meet(II)I cuts [0]
def tX8_meet_0 (d : Nat) (Q : Outcome → MH → Prop) (J : Nat → KT) : KT :=
  i_aload 0 <|
  i_aload 0 <|
  i_iload 1 <|
  i_iload 2 <|
  i_call mX8_two d 3 (pV 8) (xOut Q) <|
  i_putI 8 0 .int <|
  i_aload 0 <|
  i_getI 8 0 <|
  i_if_le
  (i_aload 0 <|
  i_call mX8_remembers d 1 (pV 8) (xOut Q) <|
  i_aload 0 <|
  i_iload 1 <|
  i_iload 2 <|
  i_call mX8_meeting d 3 (pV 8) (xOut Q) <|
  i_ret Q (some .int))
  (i_const 0 <|
  i_ret Q (some .int))
theorem kX8_meet_0 {d : Nat} {Q : Outcome → MH → Prop} : ∀ ls st h, tX8_meet_0 d Q (fun pc ls st h => WPb mX8_meet d pc ls st h Q) ls st h → WPb mX8_meet d 0 ls st h Q :=
  r_aload_n (k := 0) dX8_meet_0 rfl <|
  r_aload_n (k := 0) dX8_meet_1 rfl <|
  r_iload_n (k := 1) dX8_meet_2 rfl <|
  r_iload_n (k := 2) dX8_meet_3 rfl <|
  r_cV (Z := mX8_two) (ci := 8) (q := (RX8, TX8, 27)) dX8_meet_4 rfl (by decide +kernel) ⟨by decide, by decide⟩ (by decide) rfl rfl q2455 q2457 qs88 q127 q2458 (XS.out (noH _)) <|
  r_putI (ci := 8) (q := (RX8, TX8, 27)) (k := 0) tyX8 tyX8_ok nmX8 dX8_meet_7 (by decide) rfl in_X8 (by decide) (Or.inl ⟨rfl, (Or.inl q2141)⟩) rfl rfl <|
  r_aload_n (k := 0) dX8_meet_10 rfl <|
  r_getI (ci := 8) (q := (RX8, TX8, 27)) (k := 0) dX8_meet_11 (by decide) rfl in_X8 (by decide) (Or.inl q2141) rfl <|
  r_if_le (pt := 19) dX8_meet_14 (by decide)
  (r_aload_n (k := 0) dX8_meet_19 rfl <|
  r_cV (Z := mX8_remembers) (ci := 8) (q := (RX8, TX8, 27)) dX8_meet_20 rfl (by decide +kernel) ⟨by decide, by decide⟩ (by decide) rfl rfl q2475 q2477 qs90 q127 q2478 (XS.out (noH _)) <|
  r_aload_n (k := 0) dX8_meet_23 rfl <|
  r_iload_n (k := 1) dX8_meet_24 rfl <|
  r_iload_n (k := 2) dX8_meet_25 rfl <|
  r_cV (Z := mX8_meeting) (ci := 8) (q := (RX8, TX8, 27)) dX8_meet_26 rfl (by decide +kernel) ⟨by decide, by decide⟩ (by decide) rfl rfl q2479 q2481 qs91 q127 q2482 (XS.out (noH _)) <|
  r_ret rfl (Or.inl ⟨dX8_meet_29, Or.inl rfl⟩))
  (r_iconst (v := 0) dX8_meet_17 rfl <|
  r_ret rfl (Or.inl ⟨dX8_meet_18, Or.inl rfl⟩))
-- CheekTownModel.remembers()V cuts [0, 52, 11]
def tX8_remembers_0 (d : Nat) (Q : Outcome → MH → Prop) (J : Nat → KT) : KT :=
  i_aload 0 <|
  i_getI 8 6 <|
  i_const 12 <|
  i_icmp_ne
  (i_const 0 <|
  i_istore 1 <|
  (J 52))
  (i_const 0 <|
  i_istore 1 <|
  (J 11))
theorem kX8_remembers_0 {d : Nat} {Q : Outcome → MH → Prop} : ∀ ls st h, tX8_remembers_0 d Q (fun pc ls st h => WPb mX8_remembers d pc ls st h Q) ls st h → WPb mX8_remembers d 0 ls st h Q :=
  r_aload_n (k := 0) dX8_remembers_0 rfl <|
  r_getI (ci := 8) (q := (RX8, TX8, 27)) (k := 6) dX8_remembers_1 (by decide) rfl in_X8 (by decide) (Or.inl q2147) rfl <|
  r_bipush (v := 12) dX8_remembers_4 rfl <|
  r_icmp_ne (pt := 50) dX8_remembers_6 (by decide)
  (r_iconst (v := 0) dX8_remembers_50 rfl <|
  r_istore_n (k := 1) dX8_remembers_51 rfl <|
  (fun _ _ _ H => H))
  (r_iconst (v := 0) dX8_remembers_9 rfl <|
  r_istore_n (k := 1) dX8_remembers_10 rfl <|
  (fun _ _ _ H => H))
def tX8_remembers_52 (d : Nat) (Q : Outcome → MH → Prop) (J : Nat → KT) : KT :=
  i_iload 1 <|
  i_const 900 <|
  i_icmp_ge
  (i_aload 0 <|
  i_dup <|
  i_getI 8 6 <|
  i_const 1 <|
  i_iadd <|
  i_putI 8 6 .int <|
  i_vret Q)
  (i_aload 0 <|
  i_getR 8 5 <|
  i_const 900 <|
  i_aload 0 <|
  i_getI 8 6 <|
  i_imul <|
  i_iload 1 <|
  i_iadd <|
  i_aload 0 <|
  i_getR 8 1 <|
  i_iload 1 <|
  i_iald <|
  i_iast <|
  i_iinc 1 1 <|
  (J 52))
theorem kX8_remembers_52 {d : Nat} {Q : Outcome → MH → Prop} : ∀ ls st h, tX8_remembers_52 d Q (fun pc ls st h => WPb mX8_remembers d pc ls st h Q) ls st h → WPb mX8_remembers d 52 ls st h Q :=
  r_iload_n (k := 1) dX8_remembers_52 rfl <|
  r_sipush (v := 900) dX8_remembers_53 rfl <|
  r_icmp_ge (pt := 86) dX8_remembers_56 (by decide)
  (r_aload_n (k := 0) dX8_remembers_86 rfl <|
  r_dup dX8_remembers_87 <|
  r_getI (ci := 8) (q := (RX8, TX8, 27)) (k := 6) dX8_remembers_88 (by decide) rfl in_X8 (by decide) (Or.inl q2147) rfl <|
  r_iconst (v := 1) dX8_remembers_91 rfl <|
  r_iadd dX8_remembers_92 <|
  r_putI (ci := 8) (q := (RX8, TX8, 27)) (k := 6) tyX8 tyX8_ok nmX8 dX8_remembers_93 (by decide) rfl in_X8 (by decide) (Or.inl ⟨rfl, (Or.inl q2147)⟩) rfl rfl <|
  r_vret rfl dX8_remembers_96)
  (r_aload_n (k := 0) dX8_remembers_59 rfl <|
  r_getR (ci := 8) (q := (RX8, TX8, 27)) (k := 5) dX8_remembers_60 (by decide) rfl in_X8 (by decide) (Or.inl q2146) rfl <|
  r_sipush (v := 900) dX8_remembers_63 rfl <|
  r_aload_n (k := 0) dX8_remembers_66 rfl <|
  r_getI (ci := 8) (q := (RX8, TX8, 27)) (k := 6) dX8_remembers_67 (by decide) rfl in_X8 (by decide) (Or.inl q2147) rfl <|
  r_imul dX8_remembers_70 <|
  r_iload_n (k := 1) dX8_remembers_71 rfl <|
  r_iadd dX8_remembers_72 <|
  r_aload_n (k := 0) dX8_remembers_73 rfl <|
  r_getR (ci := 8) (q := (RX8, TX8, 27)) (k := 1) dX8_remembers_74 (by decide) rfl in_X8 (by decide) (Or.inl q2142) rfl <|
  r_iload_n (k := 1) dX8_remembers_77 rfl <|
  r_iald dX8_remembers_78 <|
  r_iast dX8_remembers_79 <|
  r_iinc (v := 1) dX8_remembers_80 rfl <|
  r_goto (pt := 52) dX8_remembers_83 (by decide) <|
  (fun _ _ _ H => H))
def tX8_remembers_11 (d : Nat) (Q : Outcome → MH → Prop) (J : Nat → KT) : KT :=
  i_iload 1 <|
  i_const 9900 <|
  i_icmp_ge
  (i_aload 0 <|
  i_dup <|
  i_getI 8 6 <|
  i_const 1 <|
  i_isub <|
  i_putI 8 6 .int <|
  i_const 0 <|
  i_istore 1 <|
  (J 52))
  (i_aload 0 <|
  i_getR 8 5 <|
  i_iload 1 <|
  i_aload 0 <|
  i_getR 8 5 <|
  i_iload 1 <|
  i_const 900 <|
  i_iadd <|
  i_iald <|
  i_iast <|
  i_iinc 1 1 <|
  (J 11))
theorem kX8_remembers_11 {d : Nat} {Q : Outcome → MH → Prop} : ∀ ls st h, tX8_remembers_11 d Q (fun pc ls st h => WPb mX8_remembers d pc ls st h Q) ls st h → WPb mX8_remembers d 11 ls st h Q :=
  r_iload_n (k := 1) dX8_remembers_11 rfl <|
  r_sipush (v := 9900) dX8_remembers_12 rfl <|
  r_icmp_ge (pt := 40) dX8_remembers_15 (by decide)
  (r_aload_n (k := 0) dX8_remembers_40 rfl <|
  r_dup dX8_remembers_41 <|
  r_getI (ci := 8) (q := (RX8, TX8, 27)) (k := 6) dX8_remembers_42 (by decide) rfl in_X8 (by decide) (Or.inl q2147) rfl <|
  r_iconst (v := 1) dX8_remembers_45 rfl <|
  r_isub dX8_remembers_46 <|
  r_putI (ci := 8) (q := (RX8, TX8, 27)) (k := 6) tyX8 tyX8_ok nmX8 dX8_remembers_47 (by decide) rfl in_X8 (by decide) (Or.inl ⟨rfl, (Or.inl q2147)⟩) rfl rfl <|
  r_iconst (v := 0) dX8_remembers_50 rfl <|
  r_istore_n (k := 1) dX8_remembers_51 rfl <|
  (fun _ _ _ H => H))
  (r_aload_n (k := 0) dX8_remembers_18 rfl <|
  r_getR (ci := 8) (q := (RX8, TX8, 27)) (k := 5) dX8_remembers_19 (by decide) rfl in_X8 (by decide) (Or.inl q2146) rfl <|
  r_iload_n (k := 1) dX8_remembers_22 rfl <|
  r_aload_n (k := 0) dX8_remembers_23 rfl <|
  r_getR (ci := 8) (q := (RX8, TX8, 27)) (k := 5) dX8_remembers_24 (by decide) rfl in_X8 (by decide) (Or.inl q2146) rfl <|
  r_iload_n (k := 1) dX8_remembers_27 rfl <|
  r_sipush (v := 900) dX8_remembers_28 rfl <|
  r_iadd dX8_remembers_31 <|
  r_iald dX8_remembers_32 <|
  r_iast dX8_remembers_33 <|
  r_iinc (v := 1) dX8_remembers_34 rfl <|
  r_goto (pt := 11) dX8_remembers_37 (by decide) <|
  (fun _ _ _ H => H))
-- CheekTownModel.meeting(II)I cuts [0, 63, 89, 117, 130, 163, 229, 271, 301]
def tX8_meeting_0 (d : Nat) (Q : Outcome → MH → Prop) (J : Nat → KT) : KT :=
  i_iload 1 <|
  i_iload 2 <|
  i_call mX8_lesser d 2 pS (xOut Q) <|
  i_istore 3 <|
  i_iload 1 <|
  i_iload 2 <|
  i_call mX8_greater d 2 pS (xOut Q) <|
  i_istore 4 <|
  i_aload 0 <|
  i_iload 3 <|
  i_iload 4 <|
  i_call mX8_beginning d 3 (pV 8) (xOut Q) <|
  i_istore 5 <|
  i_aload 0 <|
  i_iload 4 <|
  i_iload 3 <|
  i_call mX8_beginning d 3 (pV 8) (xOut Q) <|
  i_istore 6 <|
  i_aload 0 <|
  i_iload 5 <|
  i_iload 6 <|
  i_call mX8_costOf d 3 (pV 8) (xOut Q) <|
  i_istore 7 <|
  i_aload 0 <|
  i_iload 4 <|
  i_const 2 <|
  i_call mX8_of d 3 (pV 8) (xOut Q) <|
  i_aload 0 <|
  i_iload 3 <|
  i_const 2 <|
  i_call mX8_of d 3 (pV 8) (xOut Q) <|
  i_icmp_ge
  (i_iload 3 <|
  (J 63))
  (i_iload 4 <|
  (J 63))
theorem kX8_meeting_0 {d : Nat} {Q : Outcome → MH → Prop} : ∀ ls st h, tX8_meeting_0 d Q (fun pc ls st h => WPb mX8_meeting d pc ls st h Q) ls st h → WPb mX8_meeting d 0 ls st h Q :=
  r_iload_n (k := 1) dX8_meeting_0 rfl <|
  r_iload_n (k := 2) dX8_meeting_1 rfl <|
  r_cS (Z := mX8_lesser) dX8_meeting_2 rfl (by decide +kernel) ⟨by decide, by decide⟩ q2483 q2484 q127 q2485 (XS.out (noH _)) <|
  r_istore_n (k := 3) dX8_meeting_5 rfl <|
  r_iload_n (k := 1) dX8_meeting_6 rfl <|
  r_iload_n (k := 2) dX8_meeting_7 rfl <|
  r_cS (Z := mX8_greater) dX8_meeting_8 rfl (by decide +kernel) ⟨by decide, by decide⟩ q2486 q2487 q127 q2488 (XS.out (noH _)) <|
  r_istore dX8_meeting_11 <|
  r_aload_n (k := 0) dX8_meeting_13 rfl <|
  r_iload_n (k := 3) dX8_meeting_14 rfl <|
  r_iload dX8_meeting_15 <|
  r_cV (Z := mX8_beginning) (ci := 8) (q := (RX8, TX8, 27)) dX8_meeting_17 rfl (by decide +kernel) ⟨by decide, by decide⟩ (by decide) rfl rfl q2467 q2469 qs89 q127 q2470 (XS.out (noH _)) <|
  r_istore dX8_meeting_20 <|
  r_aload_n (k := 0) dX8_meeting_22 rfl <|
  r_iload dX8_meeting_23 <|
  r_iload_n (k := 3) dX8_meeting_25 rfl <|
  r_cV (Z := mX8_beginning) (ci := 8) (q := (RX8, TX8, 27)) dX8_meeting_26 rfl (by decide +kernel) ⟨by decide, by decide⟩ (by decide) rfl rfl q2467 q2469 qs89 q127 q2470 (XS.out (noH _)) <|
  r_istore dX8_meeting_29 <|
  r_aload_n (k := 0) dX8_meeting_31 rfl <|
  r_iload dX8_meeting_32 <|
  r_iload dX8_meeting_34 <|
  r_cV (Z := mX8_costOf) (ci := 8) (q := (RX8, TX8, 27)) dX8_meeting_36 rfl (by decide +kernel) ⟨by decide, by decide⟩ (by decide) rfl rfl q2416 q2418 qs82 q127 q2419 (XS.out (noH _)) <|
  r_istore dX8_meeting_39 <|
  r_aload_n (k := 0) dX8_meeting_41 rfl <|
  r_iload dX8_meeting_42 <|
  r_iconst (v := 2) dX8_meeting_44 rfl <|
  r_cV (Z := mX8_of) (ci := 8) (q := (RX8, TX8, 27)) dX8_meeting_45 rfl (by decide +kernel) ⟨by decide, by decide⟩ (by decide) rfl rfl q2443 q2445 qs86 q127 q2446 (XS.out (noH _)) <|
  r_aload_n (k := 0) dX8_meeting_48 rfl <|
  r_iload_n (k := 3) dX8_meeting_49 rfl <|
  r_iconst (v := 2) dX8_meeting_50 rfl <|
  r_cV (Z := mX8_of) (ci := 8) (q := (RX8, TX8, 27)) dX8_meeting_51 rfl (by decide +kernel) ⟨by decide, by decide⟩ (by decide) rfl rfl q2443 q2445 qs86 q127 q2446 (XS.out (noH _)) <|
  r_icmp_ge (pt := 62) dX8_meeting_54 (by decide)
  (r_iload_n (k := 3) dX8_meeting_62 rfl <|
  (fun _ _ _ H => H))
  (r_iload dX8_meeting_57 <|
  r_goto (pt := 63) dX8_meeting_59 (by decide) <|
  (fun _ _ _ H => H))
def tX8_meeting_63 (d : Nat) (Q : Outcome → MH → Prop) (J : Nat → KT) : KT :=
  i_istore 8 <|
  i_const (-1) <|
  i_istore 9 <|
  i_iload 7 <|
  i_if_le
  ((J 89))
  (i_aload 0 <|
  i_iload 8 <|
  i_call mX8_isBent d 2 (pV 8) (xOut Q) <|
  i_if_eq
  ((J 89))
  (i_iload 8 <|
  i_istore 9 <|
  (J 117)))
theorem kX8_meeting_63 {d : Nat} {Q : Outcome → MH → Prop} : ∀ ls st h, tX8_meeting_63 d Q (fun pc ls st h => WPb mX8_meeting d pc ls st h Q) ls st h → WPb mX8_meeting d 63 ls st h Q :=
  r_istore dX8_meeting_63 <|
  r_iconst (v := (-1)) dX8_meeting_65 rfl <|
  r_istore dX8_meeting_66 <|
  r_iload dX8_meeting_68 <|
  r_if_le (pt := 89) dX8_meeting_70 (by decide)
  ((fun _ _ _ H => H))
  (r_aload_n (k := 0) dX8_meeting_73 rfl <|
  r_iload dX8_meeting_74 <|
  r_cV (Z := mX8_isBent) (ci := 8) (q := (RX8, TX8, 27)) dX8_meeting_76 rfl (by decide +kernel) ⟨by decide, by decide⟩ (by decide) rfl rfl q2489 q2491 qs92 q127 q2492 (XS.out (noH _)) <|
  r_if_eq (pt := 89) dX8_meeting_79 (by decide)
  ((fun _ _ _ H => H))
  (r_iload dX8_meeting_82 <|
  r_istore dX8_meeting_84 <|
  r_goto (pt := 117) dX8_meeting_86 (by decide) <|
  (fun _ _ _ H => H)))
def tX8_meeting_89 (d : Nat) (Q : Outcome → MH → Prop) (J : Nat → KT) : KT :=
  i_iload 7 <|
  i_if_le
  ((J 117))
  (i_aload 0 <|
  i_iload 3 <|
  i_iload 4 <|
  i_iadd <|
  i_iload 8 <|
  i_isub <|
  i_call mX8_isBent d 2 (pV 8) (xOut Q) <|
  i_if_eq
  ((J 117))
  (i_iload 3 <|
  i_iload 4 <|
  i_iadd <|
  i_iload 8 <|
  i_isub <|
  i_istore 9 <|
  (J 117)))
theorem kX8_meeting_89 {d : Nat} {Q : Outcome → MH → Prop} : ∀ ls st h, tX8_meeting_89 d Q (fun pc ls st h => WPb mX8_meeting d pc ls st h Q) ls st h → WPb mX8_meeting d 89 ls st h Q :=
  r_iload dX8_meeting_89 <|
  r_if_le (pt := 117) dX8_meeting_91 (by decide)
  ((fun _ _ _ H => H))
  (r_aload_n (k := 0) dX8_meeting_94 rfl <|
  r_iload_n (k := 3) dX8_meeting_95 rfl <|
  r_iload dX8_meeting_96 <|
  r_iadd dX8_meeting_98 <|
  r_iload dX8_meeting_99 <|
  r_isub dX8_meeting_101 <|
  r_cV (Z := mX8_isBent) (ci := 8) (q := (RX8, TX8, 27)) dX8_meeting_102 rfl (by decide +kernel) ⟨by decide, by decide⟩ (by decide) rfl rfl q2489 q2491 qs92 q127 q2492 (XS.out (noH _)) <|
  r_if_eq (pt := 117) dX8_meeting_105 (by decide)
  ((fun _ _ _ H => H))
  (r_iload_n (k := 3) dX8_meeting_108 rfl <|
  r_iload dX8_meeting_109 <|
  r_iadd dX8_meeting_111 <|
  r_iload dX8_meeting_112 <|
  r_isub dX8_meeting_114 <|
  r_istore dX8_meeting_115 <|
  (fun _ _ _ H => H)))
def tX8_meeting_117 (d : Nat) (Q : Outcome → MH → Prop) (J : Nat → KT) : KT :=
  i_iload 9 <|
  i_iload 3 <|
  i_icmp_ne
  (i_iload 5 <|
  (J 130))
  (i_iload 6 <|
  (J 130))
theorem kX8_meeting_117 {d : Nat} {Q : Outcome → MH → Prop} : ∀ ls st h, tX8_meeting_117 d Q (fun pc ls st h => WPb mX8_meeting d pc ls st h Q) ls st h → WPb mX8_meeting d 117 ls st h Q :=
  r_iload dX8_meeting_117 <|
  r_iload_n (k := 3) dX8_meeting_119 rfl <|
  r_icmp_ne (pt := 128) dX8_meeting_120 (by decide)
  (r_iload dX8_meeting_128 <|
  (fun _ _ _ H => H))
  (r_iload dX8_meeting_123 <|
  r_goto (pt := 130) dX8_meeting_125 (by decide) <|
  (fun _ _ _ H => H))
def tX8_meeting_130 (d : Nat) (Q : Outcome → MH → Prop) (J : Nat → KT) : KT :=
  i_istore 10 <|
  i_iload 9 <|
  i_iload 4 <|
  i_icmp_ne
  (i_iload 6 <|
  i_istore 11 <|
  i_iload 9 <|
  i_const (-1) <|
  i_icmp_ne
  (i_iload 7 <|
  i_const 2 <|
  i_idiv <|
  (J 163))
  (i_iload 7 <|
  (J 163)))
  (i_iload 5 <|
  i_istore 11 <|
  i_iload 9 <|
  i_const (-1) <|
  i_icmp_ne
  (i_iload 7 <|
  i_const 2 <|
  i_idiv <|
  (J 163))
  (i_iload 7 <|
  (J 163)))
theorem kX8_meeting_130 {d : Nat} {Q : Outcome → MH → Prop} : ∀ ls st h, tX8_meeting_130 d Q (fun pc ls st h => WPb mX8_meeting d pc ls st h Q) ls st h → WPb mX8_meeting d 130 ls st h Q :=
  r_istore dX8_meeting_130 <|
  r_iload dX8_meeting_132 <|
  r_iload dX8_meeting_134 <|
  r_icmp_ne (pt := 144) dX8_meeting_136 (by decide)
  (r_iload dX8_meeting_144 <|
  r_istore dX8_meeting_146 <|
  r_iload dX8_meeting_148 <|
  r_iconst (v := (-1)) dX8_meeting_150 rfl <|
  r_icmp_ne (pt := 159) dX8_meeting_151 (by decide)
  (r_iload dX8_meeting_159 <|
  r_iconst (v := 2) dX8_meeting_161 rfl <|
  r_idiv dX8_meeting_162 <|
  (fun _ _ _ H => H))
  (r_iload dX8_meeting_154 <|
  r_goto (pt := 163) dX8_meeting_156 (by decide) <|
  (fun _ _ _ H => H)))
  (r_iload dX8_meeting_139 <|
  r_goto (pt := 146) dX8_meeting_141 (by decide) <|
  r_istore dX8_meeting_146 <|
  r_iload dX8_meeting_148 <|
  r_iconst (v := (-1)) dX8_meeting_150 rfl <|
  r_icmp_ne (pt := 159) dX8_meeting_151 (by decide)
  (r_iload dX8_meeting_159 <|
  r_iconst (v := 2) dX8_meeting_161 rfl <|
  r_idiv dX8_meeting_162 <|
  (fun _ _ _ H => H))
  (r_iload dX8_meeting_154 <|
  r_goto (pt := 163) dX8_meeting_156 (by decide) <|
  (fun _ _ _ H => H)))
def tX8_meeting_163 (d : Nat) (Q : Outcome → MH → Prop) (J : Nat → KT) : KT :=
  i_istore 7 <|
  i_aload 0 <|
  i_iload 3 <|
  i_iload 4 <|
  i_iload 11 <|
  i_call mX8_sees d 4 (pV 8) (xOut Q) <|
  i_aload 0 <|
  i_iload 4 <|
  i_iload 3 <|
  i_iload 10 <|
  i_call mX8_sees d 4 (pV 8) (xOut Q) <|
  i_aload 0 <|
  i_iload 3 <|
  i_const 4 <|
  i_call mX8_of d 3 (pV 8) (xOut Q) <|
  i_aload 0 <|
  i_iload 4 <|
  i_const 4 <|
  i_call mX8_of d 3 (pV 8) (xOut Q) <|
  i_iadd <|
  i_if_le
  ((J 229))
  (i_iload 10 <|
  i_const 3 <|
  i_ishr <|
  i_if_eq
  ((J 229))
  (i_iload 11 <|
  i_const 3 <|
  i_ishr <|
  i_if_eq
  ((J 229))
  (i_aload 0 <|
  i_iload 3 <|
  i_const 4 <|
  i_const 1 <|
  i_call mX8_has_2 d 4 (pV 8) (xOut Q) <|
  i_aload 0 <|
  i_iload 4 <|
  i_const 4 <|
  i_const 1 <|
  i_call mX8_has_2 d 4 (pV 8) (xOut Q) <|
  (J 229))))
theorem kX8_meeting_163 {d : Nat} {Q : Outcome → MH → Prop} : ∀ ls st h, tX8_meeting_163 d Q (fun pc ls st h => WPb mX8_meeting d pc ls st h Q) ls st h → WPb mX8_meeting d 163 ls st h Q :=
  r_istore dX8_meeting_163 <|
  r_aload_n (k := 0) dX8_meeting_165 rfl <|
  r_iload_n (k := 3) dX8_meeting_166 rfl <|
  r_iload dX8_meeting_167 <|
  r_iload dX8_meeting_169 <|
  r_cV (Z := mX8_sees) (ci := 8) (q := (RX8, TX8, 27)) dX8_meeting_171 rfl (by decide +kernel) ⟨by decide, by decide⟩ (by decide) rfl rfl q2494 q2496 qs93 q127 q2497 (XS.out (noH _)) <|
  r_aload_n (k := 0) dX8_meeting_174 rfl <|
  r_iload dX8_meeting_175 <|
  r_iload_n (k := 3) dX8_meeting_177 rfl <|
  r_iload dX8_meeting_178 <|
  r_cV (Z := mX8_sees) (ci := 8) (q := (RX8, TX8, 27)) dX8_meeting_180 rfl (by decide +kernel) ⟨by decide, by decide⟩ (by decide) rfl rfl q2494 q2496 qs93 q127 q2497 (XS.out (noH _)) <|
  r_aload_n (k := 0) dX8_meeting_183 rfl <|
  r_iload_n (k := 3) dX8_meeting_184 rfl <|
  r_iconst (v := 4) dX8_meeting_185 rfl <|
  r_cV (Z := mX8_of) (ci := 8) (q := (RX8, TX8, 27)) dX8_meeting_186 rfl (by decide +kernel) ⟨by decide, by decide⟩ (by decide) rfl rfl q2443 q2445 qs86 q127 q2446 (XS.out (noH _)) <|
  r_aload_n (k := 0) dX8_meeting_189 rfl <|
  r_iload dX8_meeting_190 <|
  r_iconst (v := 4) dX8_meeting_192 rfl <|
  r_cV (Z := mX8_of) (ci := 8) (q := (RX8, TX8, 27)) dX8_meeting_193 rfl (by decide +kernel) ⟨by decide, by decide⟩ (by decide) rfl rfl q2443 q2445 qs86 q127 q2446 (XS.out (noH _)) <|
  r_iadd dX8_meeting_196 <|
  r_if_le (pt := 229) dX8_meeting_197 (by decide)
  ((fun _ _ _ H => H))
  (r_iload dX8_meeting_200 <|
  r_iconst (v := 3) dX8_meeting_202 rfl <|
  r_ishr dX8_meeting_203 <|
  r_if_eq (pt := 229) dX8_meeting_204 (by decide)
  ((fun _ _ _ H => H))
  (r_iload dX8_meeting_207 <|
  r_iconst (v := 3) dX8_meeting_209 rfl <|
  r_ishr dX8_meeting_210 <|
  r_if_eq (pt := 229) dX8_meeting_211 (by decide)
  ((fun _ _ _ H => H))
  (r_aload_n (k := 0) dX8_meeting_214 rfl <|
  r_iload_n (k := 3) dX8_meeting_215 rfl <|
  r_iconst (v := 4) dX8_meeting_216 rfl <|
  r_iconst (v := 1) dX8_meeting_217 rfl <|
  r_cV (Z := mX8_has_2) (ci := 8) (q := (RX8, TX8, 27)) dX8_meeting_218 rfl (by decide +kernel) ⟨by decide, by decide⟩ (by decide) rfl rfl q2361 q2363 qs73 q127 q2364 (XS.out (noH _)) <|
  r_aload_n (k := 0) dX8_meeting_221 rfl <|
  r_iload dX8_meeting_222 <|
  r_iconst (v := 4) dX8_meeting_224 rfl <|
  r_iconst (v := 1) dX8_meeting_225 rfl <|
  r_cV (Z := mX8_has_2) (ci := 8) (q := (RX8, TX8, 27)) dX8_meeting_226 rfl (by decide +kernel) ⟨by decide, by decide⟩ (by decide) rfl rfl q2361 q2363 qs73 q127 q2364 (XS.out (noH _)) <|
  (fun _ _ _ H => H))))
def tX8_meeting_229 (d : Nat) (Q : Outcome → MH → Prop) (J : Nat → KT) : KT :=
  i_aload 0 <|
  i_getR 8 1 <|
  i_const 8 <|
  i_dup2 <|
  i_iald <|
  i_const 1 <|
  i_iadd <|
  i_iast <|
  i_aload 0 <|
  i_getR 8 1 <|
  i_const 9 <|
  i_dup2 <|
  i_iald <|
  i_iload 7 <|
  i_iadd <|
  i_iast <|
  i_aload 0 <|
  i_getR 8 1 <|
  i_const 10 <|
  i_dup2 <|
  i_iald <|
  i_iload 9 <|
  i_const (-1) <|
  i_icmp_ne
  (i_const 1 <|
  (J 271))
  (i_const 0 <|
  (J 271))
theorem kX8_meeting_229 {d : Nat} {Q : Outcome → MH → Prop} : ∀ ls st h, tX8_meeting_229 d Q (fun pc ls st h => WPb mX8_meeting d pc ls st h Q) ls st h → WPb mX8_meeting d 229 ls st h Q :=
  r_aload_n (k := 0) dX8_meeting_229 rfl <|
  r_getR (ci := 8) (q := (RX8, TX8, 27)) (k := 1) dX8_meeting_230 (by decide) rfl in_X8 (by decide) (Or.inl q2142) rfl <|
  r_bipush (v := 8) dX8_meeting_233 rfl <|
  r_dup2 dX8_meeting_235 <|
  r_iald dX8_meeting_236 <|
  r_iconst (v := 1) dX8_meeting_237 rfl <|
  r_iadd dX8_meeting_238 <|
  r_iast dX8_meeting_239 <|
  r_aload_n (k := 0) dX8_meeting_240 rfl <|
  r_getR (ci := 8) (q := (RX8, TX8, 27)) (k := 1) dX8_meeting_241 (by decide) rfl in_X8 (by decide) (Or.inl q2142) rfl <|
  r_bipush (v := 9) dX8_meeting_244 rfl <|
  r_dup2 dX8_meeting_246 <|
  r_iald dX8_meeting_247 <|
  r_iload dX8_meeting_248 <|
  r_iadd dX8_meeting_250 <|
  r_iast dX8_meeting_251 <|
  r_aload_n (k := 0) dX8_meeting_252 rfl <|
  r_getR (ci := 8) (q := (RX8, TX8, 27)) (k := 1) dX8_meeting_253 (by decide) rfl in_X8 (by decide) (Or.inl q2142) rfl <|
  r_bipush (v := 10) dX8_meeting_256 rfl <|
  r_dup2 dX8_meeting_258 <|
  r_iald dX8_meeting_259 <|
  r_iload dX8_meeting_260 <|
  r_iconst (v := (-1)) dX8_meeting_262 rfl <|
  r_icmp_ne (pt := 270) dX8_meeting_263 (by decide)
  (r_iconst (v := 1) dX8_meeting_270 rfl <|
  (fun _ _ _ H => H))
  (r_iconst (v := 0) dX8_meeting_266 rfl <|
  r_goto (pt := 271) dX8_meeting_267 (by decide) <|
  (fun _ _ _ H => H))
def tX8_meeting_271 (d : Nat) (Q : Outcome → MH → Prop) (J : Nat → KT) : KT :=
  i_iadd <|
  i_iast <|
  i_aload 0 <|
  i_getR 8 1 <|
  i_const 11 <|
  i_dup2 <|
  i_iald <|
  i_iload 10 <|
  i_call mX8_countOf d 1 pS (xOut Q) <|
  i_iload 11 <|
  i_call mX8_countOf d 1 pS (xOut Q) <|
  i_call mX8_greater d 2 pS (xOut Q) <|
  i_iadd <|
  i_iast <|
  i_const 479 <|
  i_istore 12 <|
  (J 301)
theorem kX8_meeting_271 {d : Nat} {Q : Outcome → MH → Prop} : ∀ ls st h, tX8_meeting_271 d Q (fun pc ls st h => WPb mX8_meeting d pc ls st h Q) ls st h → WPb mX8_meeting d 271 ls st h Q :=
  r_iadd dX8_meeting_271 <|
  r_iast dX8_meeting_272 <|
  r_aload_n (k := 0) dX8_meeting_273 rfl <|
  r_getR (ci := 8) (q := (RX8, TX8, 27)) (k := 1) dX8_meeting_274 (by decide) rfl in_X8 (by decide) (Or.inl q2142) rfl <|
  r_bipush (v := 11) dX8_meeting_277 rfl <|
  r_dup2 dX8_meeting_279 <|
  r_iald dX8_meeting_280 <|
  r_iload dX8_meeting_281 <|
  r_cS (Z := mX8_countOf) dX8_meeting_283 rfl (by decide +kernel) ⟨by decide, by decide⟩ q2420 q2421 q127 q2422 (XS.out (noH _)) <|
  r_iload dX8_meeting_286 <|
  r_cS (Z := mX8_countOf) dX8_meeting_288 rfl (by decide +kernel) ⟨by decide, by decide⟩ q2420 q2421 q127 q2422 (XS.out (noH _)) <|
  r_cS (Z := mX8_greater) dX8_meeting_291 rfl (by decide +kernel) ⟨by decide, by decide⟩ q2486 q2487 q127 q2488 (XS.out (noH _)) <|
  r_iadd dX8_meeting_294 <|
  r_iast dX8_meeting_295 <|
  r_sipush (v := 479) dX8_meeting_296 rfl <|
  r_istore dX8_meeting_299 <|
  (fun _ _ _ H => H)
def tX8_meeting_301 (d : Nat) (Q : Outcome → MH → Prop) (J : Nat → KT) : KT :=
  i_iload 12 <|
  i_const 8 <|
  i_icmp_lt
  (i_aload 0 <|
  i_getR 8 1 <|
  i_const 420 <|
  i_aload 0 <|
  i_getR 8 1 <|
  i_const 7 <|
  i_iald <|
  i_iast <|
  i_aload 0 <|
  i_getR 8 1 <|
  i_const 421 <|
  i_iload 3 <|
  i_iast <|
  i_aload 0 <|
  i_getR 8 1 <|
  i_const 422 <|
  i_iload 4 <|
  i_iast <|
  i_aload 0 <|
  i_getR 8 1 <|
  i_const 423 <|
  i_iload 5 <|
  i_iast <|
  i_aload 0 <|
  i_getR 8 1 <|
  i_const 424 <|
  i_iload 6 <|
  i_iast <|
  i_aload 0 <|
  i_getR 8 1 <|
  i_const 425 <|
  i_iload 10 <|
  i_iast <|
  i_aload 0 <|
  i_getR 8 1 <|
  i_const 426 <|
  i_iload 11 <|
  i_iast <|
  i_aload 0 <|
  i_getR 8 1 <|
  i_const 427 <|
  i_iload 7 <|
  i_iast <|
  i_aload 0 <|
  i_getR 8 1 <|
  i_const 12 <|
  i_const 60 <|
  i_aload 0 <|
  i_getR 8 1 <|
  i_const 12 <|
  i_iald <|
  i_const 1 <|
  i_iadd <|
  i_call mX8_lesser d 2 pS (xOut Q) <|
  i_iast <|
  i_iload 7 <|
  i_ret Q (some .int))
  (i_aload 0 <|
  i_getR 8 1 <|
  i_const 420 <|
  i_iload 12 <|
  i_iadd <|
  i_aload 0 <|
  i_getR 8 1 <|
  i_const 420 <|
  i_iload 12 <|
  i_iadd <|
  i_const 8 <|
  i_isub <|
  i_iald <|
  i_iast <|
  i_iinc 12 (-1) <|
  (J 301))
theorem kX8_meeting_301 {d : Nat} {Q : Outcome → MH → Prop} : ∀ ls st h, tX8_meeting_301 d Q (fun pc ls st h => WPb mX8_meeting d pc ls st h Q) ls st h → WPb mX8_meeting d 301 ls st h Q :=
  r_iload dX8_meeting_301 <|
  r_bipush (v := 8) dX8_meeting_303 rfl <|
  r_icmp_lt (pt := 339) dX8_meeting_305 (by decide)
  (r_aload_n (k := 0) dX8_meeting_339 rfl <|
  r_getR (ci := 8) (q := (RX8, TX8, 27)) (k := 1) dX8_meeting_340 (by decide) rfl in_X8 (by decide) (Or.inl q2142) rfl <|
  r_sipush (v := 420) dX8_meeting_343 rfl <|
  r_aload_n (k := 0) dX8_meeting_346 rfl <|
  r_getR (ci := 8) (q := (RX8, TX8, 27)) (k := 1) dX8_meeting_347 (by decide) rfl in_X8 (by decide) (Or.inl q2142) rfl <|
  r_bipush (v := 7) dX8_meeting_350 rfl <|
  r_iald dX8_meeting_352 <|
  r_iast dX8_meeting_353 <|
  r_aload_n (k := 0) dX8_meeting_354 rfl <|
  r_getR (ci := 8) (q := (RX8, TX8, 27)) (k := 1) dX8_meeting_355 (by decide) rfl in_X8 (by decide) (Or.inl q2142) rfl <|
  r_sipush (v := 421) dX8_meeting_358 rfl <|
  r_iload_n (k := 3) dX8_meeting_361 rfl <|
  r_iast dX8_meeting_362 <|
  r_aload_n (k := 0) dX8_meeting_363 rfl <|
  r_getR (ci := 8) (q := (RX8, TX8, 27)) (k := 1) dX8_meeting_364 (by decide) rfl in_X8 (by decide) (Or.inl q2142) rfl <|
  r_sipush (v := 422) dX8_meeting_367 rfl <|
  r_iload dX8_meeting_370 <|
  r_iast dX8_meeting_372 <|
  r_aload_n (k := 0) dX8_meeting_373 rfl <|
  r_getR (ci := 8) (q := (RX8, TX8, 27)) (k := 1) dX8_meeting_374 (by decide) rfl in_X8 (by decide) (Or.inl q2142) rfl <|
  r_sipush (v := 423) dX8_meeting_377 rfl <|
  r_iload dX8_meeting_380 <|
  r_iast dX8_meeting_382 <|
  r_aload_n (k := 0) dX8_meeting_383 rfl <|
  r_getR (ci := 8) (q := (RX8, TX8, 27)) (k := 1) dX8_meeting_384 (by decide) rfl in_X8 (by decide) (Or.inl q2142) rfl <|
  r_sipush (v := 424) dX8_meeting_387 rfl <|
  r_iload dX8_meeting_390 <|
  r_iast dX8_meeting_392 <|
  r_aload_n (k := 0) dX8_meeting_393 rfl <|
  r_getR (ci := 8) (q := (RX8, TX8, 27)) (k := 1) dX8_meeting_394 (by decide) rfl in_X8 (by decide) (Or.inl q2142) rfl <|
  r_sipush (v := 425) dX8_meeting_397 rfl <|
  r_iload dX8_meeting_400 <|
  r_iast dX8_meeting_402 <|
  r_aload_n (k := 0) dX8_meeting_403 rfl <|
  r_getR (ci := 8) (q := (RX8, TX8, 27)) (k := 1) dX8_meeting_404 (by decide) rfl in_X8 (by decide) (Or.inl q2142) rfl <|
  r_sipush (v := 426) dX8_meeting_407 rfl <|
  r_iload dX8_meeting_410 <|
  r_iast dX8_meeting_412 <|
  r_aload_n (k := 0) dX8_meeting_413 rfl <|
  r_getR (ci := 8) (q := (RX8, TX8, 27)) (k := 1) dX8_meeting_414 (by decide) rfl in_X8 (by decide) (Or.inl q2142) rfl <|
  r_sipush (v := 427) dX8_meeting_417 rfl <|
  r_iload dX8_meeting_420 <|
  r_iast dX8_meeting_422 <|
  r_aload_n (k := 0) dX8_meeting_423 rfl <|
  r_getR (ci := 8) (q := (RX8, TX8, 27)) (k := 1) dX8_meeting_424 (by decide) rfl in_X8 (by decide) (Or.inl q2142) rfl <|
  r_bipush (v := 12) dX8_meeting_427 rfl <|
  r_bipush (v := 60) dX8_meeting_429 rfl <|
  r_aload_n (k := 0) dX8_meeting_431 rfl <|
  r_getR (ci := 8) (q := (RX8, TX8, 27)) (k := 1) dX8_meeting_432 (by decide) rfl in_X8 (by decide) (Or.inl q2142) rfl <|
  r_bipush (v := 12) dX8_meeting_435 rfl <|
  r_iald dX8_meeting_437 <|
  r_iconst (v := 1) dX8_meeting_438 rfl <|
  r_iadd dX8_meeting_439 <|
  r_cS (Z := mX8_lesser) dX8_meeting_440 rfl (by decide +kernel) ⟨by decide, by decide⟩ q2483 q2484 q127 q2485 (XS.out (noH _)) <|
  r_iast dX8_meeting_443 <|
  r_iload dX8_meeting_444 <|
  r_ret rfl (Or.inl ⟨dX8_meeting_446, Or.inl rfl⟩))
  (r_aload_n (k := 0) dX8_meeting_308 rfl <|
  r_getR (ci := 8) (q := (RX8, TX8, 27)) (k := 1) dX8_meeting_309 (by decide) rfl in_X8 (by decide) (Or.inl q2142) rfl <|
  r_sipush (v := 420) dX8_meeting_312 rfl <|
  r_iload dX8_meeting_315 <|
  r_iadd dX8_meeting_317 <|
  r_aload_n (k := 0) dX8_meeting_318 rfl <|
  r_getR (ci := 8) (q := (RX8, TX8, 27)) (k := 1) dX8_meeting_319 (by decide) rfl in_X8 (by decide) (Or.inl q2142) rfl <|
  r_sipush (v := 420) dX8_meeting_322 rfl <|
  r_iload dX8_meeting_325 <|
  r_iadd dX8_meeting_327 <|
  r_bipush (v := 8) dX8_meeting_328 rfl <|
  r_isub dX8_meeting_330 <|
  r_iald dX8_meeting_331 <|
  r_iast dX8_meeting_332 <|
  r_iinc (v := (-1)) dX8_meeting_333 rfl <|
  r_goto (pt := 301) dX8_meeting_336 (by decide) <|
  (fun _ _ _ H => H))
-- CheekTownModel.lesser(II)I cuts [0]
def tX8_lesser_0 (d : Nat) (Q : Outcome → MH → Prop) (J : Nat → KT) : KT :=
  i_iload 0 <|
  i_iload 1 <|
  i_icmp_ge
  (i_iload 1 <|
  i_ret Q (some .int))
  (i_iload 0 <|
  i_ret Q (some .int))
theorem kX8_lesser_0 {d : Nat} {Q : Outcome → MH → Prop} : ∀ ls st h, tX8_lesser_0 d Q (fun pc ls st h => WPb mX8_lesser d pc ls st h Q) ls st h → WPb mX8_lesser d 0 ls st h Q :=
  r_iload_n (k := 0) dX8_lesser_0 rfl <|
  r_iload_n (k := 1) dX8_lesser_1 rfl <|
  r_icmp_ge (pt := 9) dX8_lesser_2 (by decide)
  (r_iload_n (k := 1) dX8_lesser_9 rfl <|
  r_ret rfl (Or.inl ⟨dX8_lesser_10, Or.inl rfl⟩))
  (r_iload_n (k := 0) dX8_lesser_5 rfl <|
  r_goto (pt := 10) dX8_lesser_6 (by decide) <|
  r_ret rfl (Or.inl ⟨dX8_lesser_10, Or.inl rfl⟩))
-- CheekTownModel.greater(II)I cuts [0]
def tX8_greater_0 (d : Nat) (Q : Outcome → MH → Prop) (J : Nat → KT) : KT :=
  i_iload 0 <|
  i_iload 1 <|
  i_icmp_le
  (i_iload 1 <|
  i_ret Q (some .int))
  (i_iload 0 <|
  i_ret Q (some .int))
theorem kX8_greater_0 {d : Nat} {Q : Outcome → MH → Prop} : ∀ ls st h, tX8_greater_0 d Q (fun pc ls st h => WPb mX8_greater d pc ls st h Q) ls st h → WPb mX8_greater d 0 ls st h Q :=
  r_iload_n (k := 0) dX8_greater_0 rfl <|
  r_iload_n (k := 1) dX8_greater_1 rfl <|
  r_icmp_le (pt := 9) dX8_greater_2 (by decide)
  (r_iload_n (k := 1) dX8_greater_9 rfl <|
  r_ret rfl (Or.inl ⟨dX8_greater_10, Or.inl rfl⟩))
  (r_iload_n (k := 0) dX8_greater_5 rfl <|
  r_goto (pt := 10) dX8_greater_6 (by decide) <|
  r_ret rfl (Or.inl ⟨dX8_greater_10, Or.inl rfl⟩))
-- CheekTownModel.isBent(I)Z cuts [0]
def tX8_isBent_0 (d : Nat) (Q : Outcome → MH → Prop) (J : Nat → KT) : KT :=
  i_aload 0 <|
  i_getR 8 1 <|
  i_const 16 <|
  i_const 1103515245 <|
  i_aload 0 <|
  i_getR 8 1 <|
  i_const 16 <|
  i_iald <|
  i_imul <|
  i_const 12345 <|
  i_iadd <|
  i_iast <|
  i_aload 0 <|
  i_getR 8 1 <|
  i_const 16 <|
  i_iald <|
  i_const 16 <|
  i_iushr <|
  i_const 32767 <|
  i_iand <|
  i_const 100 <|
  i_irem <|
  i_aload 0 <|
  i_iload 1 <|
  i_const 3 <|
  i_call mX8_of d 3 (pV 8) (xOut Q) <|
  i_icmp_ge
  (i_const 0 <|
  i_ret Q (some .boolean))
  (i_const 1 <|
  i_ret Q (some .boolean))
theorem kX8_isBent_0 {d : Nat} {Q : Outcome → MH → Prop} : ∀ ls st h, tX8_isBent_0 d Q (fun pc ls st h => WPb mX8_isBent d pc ls st h Q) ls st h → WPb mX8_isBent d 0 ls st h Q :=
  r_aload_n (k := 0) dX8_isBent_0 rfl <|
  r_getR (ci := 8) (q := (RX8, TX8, 27)) (k := 1) dX8_isBent_1 (by decide) rfl in_X8 (by decide) (Or.inl q2142) rfl <|
  r_bipush (v := 16) dX8_isBent_4 rfl <|
  r_ldcw (v := 1103515245) dX8_isBent_6 q2493 <|
  r_aload_n (k := 0) dX8_isBent_9 rfl <|
  r_getR (ci := 8) (q := (RX8, TX8, 27)) (k := 1) dX8_isBent_10 (by decide) rfl in_X8 (by decide) (Or.inl q2142) rfl <|
  r_bipush (v := 16) dX8_isBent_13 rfl <|
  r_iald dX8_isBent_15 <|
  r_imul dX8_isBent_16 <|
  r_sipush (v := 12345) dX8_isBent_17 rfl <|
  r_iadd dX8_isBent_20 <|
  r_iast dX8_isBent_21 <|
  r_aload_n (k := 0) dX8_isBent_22 rfl <|
  r_getR (ci := 8) (q := (RX8, TX8, 27)) (k := 1) dX8_isBent_23 (by decide) rfl in_X8 (by decide) (Or.inl q2142) rfl <|
  r_bipush (v := 16) dX8_isBent_26 rfl <|
  r_iald dX8_isBent_28 <|
  r_bipush (v := 16) dX8_isBent_29 rfl <|
  r_iushr dX8_isBent_31 <|
  r_sipush (v := 32767) dX8_isBent_32 rfl <|
  r_iand dX8_isBent_35 <|
  r_bipush (v := 100) dX8_isBent_36 rfl <|
  r_irem dX8_isBent_38 <|
  r_aload_n (k := 0) dX8_isBent_39 rfl <|
  r_iload_n (k := 1) dX8_isBent_40 rfl <|
  r_iconst (v := 3) dX8_isBent_41 rfl <|
  r_cV (Z := mX8_of) (ci := 8) (q := (RX8, TX8, 27)) dX8_isBent_42 rfl (by decide +kernel) ⟨by decide, by decide⟩ (by decide) rfl rfl q2443 q2445 qs86 q127 q2446 (XS.out (noH _)) <|
  r_icmp_ge (pt := 52) dX8_isBent_45 (by decide)
  (r_iconst (v := 0) dX8_isBent_52 rfl <|
  r_ret rfl (Or.inl ⟨dX8_isBent_53, Or.inr (Or.inl rfl)⟩))
  (r_iconst (v := 1) dX8_isBent_48 rfl <|
  r_goto (pt := 53) dX8_isBent_49 (by decide) <|
  r_ret rfl (Or.inl ⟨dX8_isBent_53, Or.inr (Or.inl rfl)⟩))
-- CheekTownModel.sees(III)V cuts [0, 53]
def tX8_sees_0 (d : Nat) (Q : Outcome → MH → Prop) (J : Nat → KT) : KT :=
  i_aload 0 <|
  i_iload 1 <|
  i_iload 2 <|
  i_aload 0 <|
  i_getR 8 1 <|
  i_const 172 <|
  i_const 10 <|
  i_iload 1 <|
  i_imul <|
  i_iadd <|
  i_iload 2 <|
  i_iadd <|
  i_iald <|
  i_const 1 <|
  i_iadd <|
  i_iload 3 <|
  i_call mX8_meets d 5 (pV 8) (xOut Q) <|
  i_aload 0 <|
  i_iload 1 <|
  i_const 6 <|
  i_call mX8_of d 3 (pV 8) (xOut Q) <|
  i_iload 3 <|
  i_icmp_ne
  ((J 53))
  (i_aload 0 <|
  i_iload 1 <|
  i_const 7 <|
  i_call mX8_of d 3 (pV 8) (xOut Q) <|
  i_iload 3 <|
  i_icmp_ne
  ((J 53))
  (i_aload 0 <|
  i_iload 1 <|
  i_const 1 <|
  i_iload 3 <|
  i_call mX8_has_2 d 4 (pV 8) (xOut Q) <|
  (J 53)))
theorem kX8_sees_0 {d : Nat} {Q : Outcome → MH → Prop} : ∀ ls st h, tX8_sees_0 d Q (fun pc ls st h => WPb mX8_sees d pc ls st h Q) ls st h → WPb mX8_sees d 0 ls st h Q :=
  r_aload_n (k := 0) dX8_sees_0 rfl <|
  r_iload_n (k := 1) dX8_sees_1 rfl <|
  r_iload_n (k := 2) dX8_sees_2 rfl <|
  r_aload_n (k := 0) dX8_sees_3 rfl <|
  r_getR (ci := 8) (q := (RX8, TX8, 27)) (k := 1) dX8_sees_4 (by decide) rfl in_X8 (by decide) (Or.inl q2142) rfl <|
  r_sipush (v := 172) dX8_sees_7 rfl <|
  r_bipush (v := 10) dX8_sees_10 rfl <|
  r_iload_n (k := 1) dX8_sees_12 rfl <|
  r_imul dX8_sees_13 <|
  r_iadd dX8_sees_14 <|
  r_iload_n (k := 2) dX8_sees_15 rfl <|
  r_iadd dX8_sees_16 <|
  r_iald dX8_sees_17 <|
  r_iconst (v := 1) dX8_sees_18 rfl <|
  r_iadd dX8_sees_19 <|
  r_iload_n (k := 3) dX8_sees_20 rfl <|
  r_cV (Z := mX8_meets) (ci := 8) (q := (RX8, TX8, 27)) dX8_sees_21 rfl (by decide +kernel) ⟨by decide, by decide⟩ (by decide) rfl rfl q2365 q2367 qs74 q127 q2368 (XS.out (noH _)) <|
  r_aload_n (k := 0) dX8_sees_24 rfl <|
  r_iload_n (k := 1) dX8_sees_25 rfl <|
  r_bipush (v := 6) dX8_sees_26 rfl <|
  r_cV (Z := mX8_of) (ci := 8) (q := (RX8, TX8, 27)) dX8_sees_28 rfl (by decide +kernel) ⟨by decide, by decide⟩ (by decide) rfl rfl q2443 q2445 qs86 q127 q2446 (XS.out (noH _)) <|
  r_iload_n (k := 3) dX8_sees_31 rfl <|
  r_icmp_ne (pt := 53) dX8_sees_32 (by decide)
  ((fun _ _ _ H => H))
  (r_aload_n (k := 0) dX8_sees_35 rfl <|
  r_iload_n (k := 1) dX8_sees_36 rfl <|
  r_bipush (v := 7) dX8_sees_37 rfl <|
  r_cV (Z := mX8_of) (ci := 8) (q := (RX8, TX8, 27)) dX8_sees_39 rfl (by decide +kernel) ⟨by decide, by decide⟩ (by decide) rfl rfl q2443 q2445 qs86 q127 q2446 (XS.out (noH _)) <|
  r_iload_n (k := 3) dX8_sees_42 rfl <|
  r_icmp_ne (pt := 53) dX8_sees_43 (by decide)
  ((fun _ _ _ H => H))
  (r_aload_n (k := 0) dX8_sees_46 rfl <|
  r_iload_n (k := 1) dX8_sees_47 rfl <|
  r_iconst (v := 1) dX8_sees_48 rfl <|
  r_iload_n (k := 3) dX8_sees_49 rfl <|
  r_cV (Z := mX8_has_2) (ci := 8) (q := (RX8, TX8, 27)) dX8_sees_50 rfl (by decide +kernel) ⟨by decide, by decide⟩ (by decide) rfl rfl q2361 q2363 qs73 q127 q2364 (XS.out (noH _)) <|
  (fun _ _ _ H => H)))
def tX8_sees_53 (d : Nat) (Q : Outcome → MH → Prop) (J : Nat → KT) : KT :=
  i_aload 0 <|
  i_iload 1 <|
  i_const 7 <|
  i_aload 0 <|
  i_iload 1 <|
  i_const 6 <|
  i_call mX8_of d 3 (pV 8) (xOut Q) <|
  i_call mX8_has_2 d 4 (pV 8) (xOut Q) <|
  i_aload 0 <|
  i_iload 1 <|
  i_const 6 <|
  i_iload 3 <|
  i_call mX8_has_2 d 4 (pV 8) (xOut Q) <|
  i_aload 0 <|
  i_iload 1 <|
  i_const 5 <|
  i_aload 0 <|
  i_iload 1 <|
  i_const 5 <|
  i_call mX8_of d 3 (pV 8) (xOut Q) <|
  i_const 1 <|
  i_iadd <|
  i_call mX8_has_2 d 4 (pV 8) (xOut Q) <|
  i_vret Q
theorem kX8_sees_53 {d : Nat} {Q : Outcome → MH → Prop} : ∀ ls st h, tX8_sees_53 d Q (fun pc ls st h => WPb mX8_sees d pc ls st h Q) ls st h → WPb mX8_sees d 53 ls st h Q :=
  r_aload_n (k := 0) dX8_sees_53 rfl <|
  r_iload_n (k := 1) dX8_sees_54 rfl <|
  r_bipush (v := 7) dX8_sees_55 rfl <|
  r_aload_n (k := 0) dX8_sees_57 rfl <|
  r_iload_n (k := 1) dX8_sees_58 rfl <|
  r_bipush (v := 6) dX8_sees_59 rfl <|
  r_cV (Z := mX8_of) (ci := 8) (q := (RX8, TX8, 27)) dX8_sees_61 rfl (by decide +kernel) ⟨by decide, by decide⟩ (by decide) rfl rfl q2443 q2445 qs86 q127 q2446 (XS.out (noH _)) <|
  r_cV (Z := mX8_has_2) (ci := 8) (q := (RX8, TX8, 27)) dX8_sees_64 rfl (by decide +kernel) ⟨by decide, by decide⟩ (by decide) rfl rfl q2361 q2363 qs73 q127 q2364 (XS.out (noH _)) <|
  r_aload_n (k := 0) dX8_sees_67 rfl <|
  r_iload_n (k := 1) dX8_sees_68 rfl <|
  r_bipush (v := 6) dX8_sees_69 rfl <|
  r_iload_n (k := 3) dX8_sees_71 rfl <|
  r_cV (Z := mX8_has_2) (ci := 8) (q := (RX8, TX8, 27)) dX8_sees_72 rfl (by decide +kernel) ⟨by decide, by decide⟩ (by decide) rfl rfl q2361 q2363 qs73 q127 q2364 (XS.out (noH _)) <|
  r_aload_n (k := 0) dX8_sees_75 rfl <|
  r_iload_n (k := 1) dX8_sees_76 rfl <|
  r_iconst (v := 5) dX8_sees_77 rfl <|
  r_aload_n (k := 0) dX8_sees_78 rfl <|
  r_iload_n (k := 1) dX8_sees_79 rfl <|
  r_iconst (v := 5) dX8_sees_80 rfl <|
  r_cV (Z := mX8_of) (ci := 8) (q := (RX8, TX8, 27)) dX8_sees_81 rfl (by decide +kernel) ⟨by decide, by decide⟩ (by decide) rfl rfl q2443 q2445 qs86 q127 q2446 (XS.out (noH _)) <|
  r_iconst (v := 1) dX8_sees_84 rfl <|
  r_iadd dX8_sees_85 <|
  r_cV (Z := mX8_has_2) (ci := 8) (q := (RX8, TX8, 27)) dX8_sees_86 rfl (by decide +kernel) ⟨by decide, by decide⟩ (by decide) rfl rfl q2361 q2363 qs73 q127 q2364 (XS.out (noH _)) <|
  r_vret rfl dX8_sees_89
-- CheekTownModel.rounds(I)I cuts [0]
def tX8_rounds_0 (d : Nat) (Q : Outcome → MH → Prop) (J : Nat → KT) : KT :=
  i_aload 0 <|
  i_iload 1 <|
  i_const 1 <|
  i_const 50 <|
  i_call mX8_isIn d 3 pS (xOut Q) <|
  i_if_ne
  (i_const 0 <|
  i_putI 8 0 .int <|
  i_aload 0 <|
  i_getI 8 0 <|
  i_if_le
  (i_aload 0 <|
  i_call mX8_remembers d 1 (pV 8) (xOut Q) <|
  i_aload 0 <|
  i_iload 1 <|
  i_call mX8_goes d 2 (pV 8) (xOut Q) <|
  i_ret Q (some .int))
  (i_const 0 <|
  i_ret Q (some .int)))
  (i_const 1 <|
  i_putI 8 0 .int <|
  i_aload 0 <|
  i_getI 8 0 <|
  i_if_le
  (i_aload 0 <|
  i_call mX8_remembers d 1 (pV 8) (xOut Q) <|
  i_aload 0 <|
  i_iload 1 <|
  i_call mX8_goes d 2 (pV 8) (xOut Q) <|
  i_ret Q (some .int))
  (i_const 0 <|
  i_ret Q (some .int)))
theorem kX8_rounds_0 {d : Nat} {Q : Outcome → MH → Prop} : ∀ ls st h, tX8_rounds_0 d Q (fun pc ls st h => WPb mX8_rounds d pc ls st h Q) ls st h → WPb mX8_rounds d 0 ls st h Q :=
  r_aload_n (k := 0) dX8_rounds_0 rfl <|
  r_iload_n (k := 1) dX8_rounds_1 rfl <|
  r_iconst (v := 1) dX8_rounds_2 rfl <|
  r_bipush (v := 50) dX8_rounds_3 rfl <|
  r_cS (Z := mX8_isIn) dX8_rounds_5 rfl (by decide +kernel) ⟨by decide, by decide⟩ q2235 q2236 q127 q2237 (XS.out (noH _)) <|
  r_if_ne (pt := 15) dX8_rounds_8 (by decide)
  (r_iconst (v := 0) dX8_rounds_15 rfl <|
  r_putI (ci := 8) (q := (RX8, TX8, 27)) (k := 0) tyX8 tyX8_ok nmX8 dX8_rounds_16 (by decide) rfl in_X8 (by decide) (Or.inl ⟨rfl, (Or.inl q2141)⟩) rfl rfl <|
  r_aload_n (k := 0) dX8_rounds_19 rfl <|
  r_getI (ci := 8) (q := (RX8, TX8, 27)) (k := 0) dX8_rounds_20 (by decide) rfl in_X8 (by decide) (Or.inl q2141) rfl <|
  r_if_le (pt := 28) dX8_rounds_23 (by decide)
  (r_aload_n (k := 0) dX8_rounds_28 rfl <|
  r_cV (Z := mX8_remembers) (ci := 8) (q := (RX8, TX8, 27)) dX8_rounds_29 rfl (by decide +kernel) ⟨by decide, by decide⟩ (by decide) rfl rfl q2475 q2477 qs90 q127 q2478 (XS.out (noH _)) <|
  r_aload_n (k := 0) dX8_rounds_32 rfl <|
  r_iload_n (k := 1) dX8_rounds_33 rfl <|
  r_cV (Z := mX8_goes) (ci := 8) (q := (RX8, TX8, 27)) dX8_rounds_34 rfl (by decide +kernel) ⟨by decide, by decide⟩ (by decide) rfl rfl q2502 q2504 qs94 q127 q2505 (XS.out (noH _)) <|
  r_ret rfl (Or.inl ⟨dX8_rounds_37, Or.inl rfl⟩))
  (r_iconst (v := 0) dX8_rounds_26 rfl <|
  r_ret rfl (Or.inl ⟨dX8_rounds_27, Or.inl rfl⟩)))
  (r_iconst (v := 1) dX8_rounds_11 rfl <|
  r_goto (pt := 16) dX8_rounds_12 (by decide) <|
  r_putI (ci := 8) (q := (RX8, TX8, 27)) (k := 0) tyX8 tyX8_ok nmX8 dX8_rounds_16 (by decide) rfl in_X8 (by decide) (Or.inl ⟨rfl, (Or.inl q2141)⟩) rfl rfl <|
  r_aload_n (k := 0) dX8_rounds_19 rfl <|
  r_getI (ci := 8) (q := (RX8, TX8, 27)) (k := 0) dX8_rounds_20 (by decide) rfl in_X8 (by decide) (Or.inl q2141) rfl <|
  r_if_le (pt := 28) dX8_rounds_23 (by decide)
  (r_aload_n (k := 0) dX8_rounds_28 rfl <|
  r_cV (Z := mX8_remembers) (ci := 8) (q := (RX8, TX8, 27)) dX8_rounds_29 rfl (by decide +kernel) ⟨by decide, by decide⟩ (by decide) rfl rfl q2475 q2477 qs90 q127 q2478 (XS.out (noH _)) <|
  r_aload_n (k := 0) dX8_rounds_32 rfl <|
  r_iload_n (k := 1) dX8_rounds_33 rfl <|
  r_cV (Z := mX8_goes) (ci := 8) (q := (RX8, TX8, 27)) dX8_rounds_34 rfl (by decide +kernel) ⟨by decide, by decide⟩ (by decide) rfl rfl q2502 q2504 qs94 q127 q2505 (XS.out (noH _)) <|
  r_ret rfl (Or.inl ⟨dX8_rounds_37, Or.inl rfl⟩))
  (r_iconst (v := 0) dX8_rounds_26 rfl <|
  r_ret rfl (Or.inl ⟨dX8_rounds_27, Or.inl rfl⟩)))
-- CheekTownModel.goes(I)I cuts [0, 4, 12]
def tX8_goes_0 (d : Nat) (Q : Outcome → MH → Prop) (J : Nat → KT) : KT :=
  i_const 0 <|
  i_istore 2 <|
  i_const 0 <|
  i_istore 3 <|
  (J 4)
theorem kX8_goes_0 {d : Nat} {Q : Outcome → MH → Prop} : ∀ ls st h, tX8_goes_0 d Q (fun pc ls st h => WPb mX8_goes d pc ls st h Q) ls st h → WPb mX8_goes d 0 ls st h Q :=
  r_iconst (v := 0) dX8_goes_0 rfl <|
  r_istore_n (k := 2) dX8_goes_1 rfl <|
  r_iconst (v := 0) dX8_goes_2 rfl <|
  r_istore_n (k := 3) dX8_goes_3 rfl <|
  (fun _ _ _ H => H)
def tX8_goes_4 (d : Nat) (Q : Outcome → MH → Prop) (J : Nat → KT) : KT :=
  i_iload 3 <|
  i_iload 1 <|
  i_icmp_ge
  (i_iload 2 <|
  i_ret Q (some .int))
  (i_const 0 <|
  i_istore 4 <|
  (J 12))
theorem kX8_goes_4 {d : Nat} {Q : Outcome → MH → Prop} : ∀ ls st h, tX8_goes_4 d Q (fun pc ls st h => WPb mX8_goes d pc ls st h Q) ls st h → WPb mX8_goes d 4 ls st h Q :=
  r_iload_n (k := 3) dX8_goes_4 rfl <|
  r_iload_n (k := 1) dX8_goes_5 rfl <|
  r_icmp_ge (pt := 66) dX8_goes_6 (by decide)
  (r_iload_n (k := 2) dX8_goes_66 rfl <|
  r_ret rfl (Or.inl ⟨dX8_goes_67, Or.inl rfl⟩))
  (r_iconst (v := 0) dX8_goes_9 rfl <|
  r_istore dX8_goes_10 <|
  (fun _ _ _ H => H))
def tX8_goes_12 (d : Nat) (Q : Outcome → MH → Prop) (J : Nat → KT) : KT :=
  i_iload 4 <|
  i_aload 0 <|
  i_getR 8 1 <|
  i_const 6 <|
  i_iald <|
  i_icmp_ge
  (i_aload 0 <|
  i_getR 8 1 <|
  i_const 7 <|
  i_dup2 <|
  i_iald <|
  i_const 1 <|
  i_iadd <|
  i_iast <|
  i_iinc 3 1 <|
  (J 4))
  (i_iload 2 <|
  i_aload 0 <|
  i_aload 0 <|
  i_iload 4 <|
  i_call mX8_who d 2 (pV 8) (xOut Q) <|
  i_aload 0 <|
  i_iload 4 <|
  i_call mX8_whom d 2 (pV 8) (xOut Q) <|
  i_call mX8_meeting d 3 (pV 8) (xOut Q) <|
  i_iadd <|
  i_istore 2 <|
  i_iinc 4 1 <|
  (J 12))
theorem kX8_goes_12 {d : Nat} {Q : Outcome → MH → Prop} : ∀ ls st h, tX8_goes_12 d Q (fun pc ls st h => WPb mX8_goes d pc ls st h Q) ls st h → WPb mX8_goes d 12 ls st h Q :=
  r_iload dX8_goes_12 <|
  r_aload_n (k := 0) dX8_goes_14 rfl <|
  r_getR (ci := 8) (q := (RX8, TX8, 27)) (k := 1) dX8_goes_15 (by decide) rfl in_X8 (by decide) (Or.inl q2142) rfl <|
  r_bipush (v := 6) dX8_goes_18 rfl <|
  r_iald dX8_goes_20 <|
  r_icmp_ge (pt := 49) dX8_goes_21 (by decide)
  (r_aload_n (k := 0) dX8_goes_49 rfl <|
  r_getR (ci := 8) (q := (RX8, TX8, 27)) (k := 1) dX8_goes_50 (by decide) rfl in_X8 (by decide) (Or.inl q2142) rfl <|
  r_bipush (v := 7) dX8_goes_53 rfl <|
  r_dup2 dX8_goes_55 <|
  r_iald dX8_goes_56 <|
  r_iconst (v := 1) dX8_goes_57 rfl <|
  r_iadd dX8_goes_58 <|
  r_iast dX8_goes_59 <|
  r_iinc (v := 1) dX8_goes_60 rfl <|
  r_goto (pt := 4) dX8_goes_63 (by decide) <|
  (fun _ _ _ H => H))
  (r_iload_n (k := 2) dX8_goes_24 rfl <|
  r_aload_n (k := 0) dX8_goes_25 rfl <|
  r_aload_n (k := 0) dX8_goes_26 rfl <|
  r_iload dX8_goes_27 <|
  r_cV (Z := mX8_who) (ci := 8) (q := (RX8, TX8, 27)) dX8_goes_29 rfl (by decide +kernel) ⟨by decide, by decide⟩ (by decide) rfl rfl q2378 q2380 qs77 q127 q2381 (XS.out (noH _)) <|
  r_aload_n (k := 0) dX8_goes_32 rfl <|
  r_iload dX8_goes_33 <|
  r_cV (Z := mX8_whom) (ci := 8) (q := (RX8, TX8, 27)) dX8_goes_35 rfl (by decide +kernel) ⟨by decide, by decide⟩ (by decide) rfl rfl q2382 q2384 qs78 q127 q2385 (XS.out (noH _)) <|
  r_cV (Z := mX8_meeting) (ci := 8) (q := (RX8, TX8, 27)) dX8_goes_38 rfl (by decide +kernel) ⟨by decide, by decide⟩ (by decide) rfl rfl q2479 q2481 qs91 q127 q2482 (XS.out (noH _)) <|
  r_iadd dX8_goes_41 <|
  r_istore_n (k := 2) dX8_goes_42 rfl <|
  r_iinc (v := 1) dX8_goes_43 rfl <|
  r_goto (pt := 12) dX8_goes_46 (by decide) <|
  (fun _ _ _ H => H))
-- CheekTownModel.own(II)I cuts [0, 21]
def tX8_own_0 (d : Nat) (Q : Outcome → MH → Prop) (J : Nat → KT) : KT :=
  i_aload 0 <|
  i_aload 0 <|
  i_iload 1 <|
  i_call mX8_isPerson d 2 (pV 8) (xOut Q) <|
  i_if_eq
  (i_const 1 <|
  (J 21))
  (i_iload 2 <|
  i_call mX8_isCode d 1 pS (xOut Q) <|
  i_if_ne
  (i_const 0 <|
  (J 21))
  (i_const 1 <|
  (J 21)))
theorem kX8_own_0 {d : Nat} {Q : Outcome → MH → Prop} : ∀ ls st h, tX8_own_0 d Q (fun pc ls st h => WPb mX8_own d pc ls st h Q) ls st h → WPb mX8_own d 0 ls st h Q :=
  r_aload_n (k := 0) dX8_own_0 rfl <|
  r_aload_n (k := 0) dX8_own_1 rfl <|
  r_iload_n (k := 1) dX8_own_2 rfl <|
  r_cV (Z := mX8_isPerson) (ci := 8) (q := (RX8, TX8, 27)) dX8_own_3 rfl (by decide +kernel) ⟨by decide, by decide⟩ (by decide) rfl rfl q2439 q2441 qs85 q127 q2442 (XS.out (noH _)) <|
  r_if_eq (pt := 16) dX8_own_6 (by decide)
  (r_iconst (v := 1) dX8_own_16 rfl <|
  r_goto (pt := 21) dX8_own_17 (by decide) <|
  (fun _ _ _ H => H))
  (r_iload_n (k := 2) dX8_own_9 rfl <|
  r_cS (Z := mX8_isCode) dX8_own_10 rfl (by decide +kernel) ⟨by decide, by decide⟩ q2413 q2414 q127 q2415 (XS.out (noH _)) <|
  r_if_ne (pt := 20) dX8_own_13 (by decide)
  (r_iconst (v := 0) dX8_own_20 rfl <|
  (fun _ _ _ H => H))
  (r_iconst (v := 1) dX8_own_16 rfl <|
  r_goto (pt := 21) dX8_own_17 (by decide) <|
  (fun _ _ _ H => H)))
def tX8_own_21 (d : Nat) (Q : Outcome → MH → Prop) (J : Nat → KT) : KT :=
  i_putI 8 0 .int <|
  i_aload 0 <|
  i_getI 8 0 <|
  i_if_le
  (i_aload 0 <|
  i_call mX8_remembers d 1 (pV 8) (xOut Q) <|
  i_aload 0 <|
  i_iload 1 <|
  i_const 1 <|
  i_call mX8_of d 3 (pV 8) (xOut Q) <|
  i_istore 3 <|
  i_aload 0 <|
  i_iload 1 <|
  i_const 1 <|
  i_iload 2 <|
  i_call mX8_has_2 d 4 (pV 8) (xOut Q) <|
  i_iload 3 <|
  i_ret Q (some .int))
  (i_const 0 <|
  i_ret Q (some .int))
theorem kX8_own_21 {d : Nat} {Q : Outcome → MH → Prop} : ∀ ls st h, tX8_own_21 d Q (fun pc ls st h => WPb mX8_own d pc ls st h Q) ls st h → WPb mX8_own d 21 ls st h Q :=
  r_putI (ci := 8) (q := (RX8, TX8, 27)) (k := 0) tyX8 tyX8_ok nmX8 dX8_own_21 (by decide) rfl in_X8 (by decide) (Or.inl ⟨rfl, (Or.inl q2141)⟩) rfl rfl <|
  r_aload_n (k := 0) dX8_own_24 rfl <|
  r_getI (ci := 8) (q := (RX8, TX8, 27)) (k := 0) dX8_own_25 (by decide) rfl in_X8 (by decide) (Or.inl q2141) rfl <|
  r_if_le (pt := 33) dX8_own_28 (by decide)
  (r_aload_n (k := 0) dX8_own_33 rfl <|
  r_cV (Z := mX8_remembers) (ci := 8) (q := (RX8, TX8, 27)) dX8_own_34 rfl (by decide +kernel) ⟨by decide, by decide⟩ (by decide) rfl rfl q2475 q2477 qs90 q127 q2478 (XS.out (noH _)) <|
  r_aload_n (k := 0) dX8_own_37 rfl <|
  r_iload_n (k := 1) dX8_own_38 rfl <|
  r_iconst (v := 1) dX8_own_39 rfl <|
  r_cV (Z := mX8_of) (ci := 8) (q := (RX8, TX8, 27)) dX8_own_40 rfl (by decide +kernel) ⟨by decide, by decide⟩ (by decide) rfl rfl q2443 q2445 qs86 q127 q2446 (XS.out (noH _)) <|
  r_istore_n (k := 3) dX8_own_43 rfl <|
  r_aload_n (k := 0) dX8_own_44 rfl <|
  r_iload_n (k := 1) dX8_own_45 rfl <|
  r_iconst (v := 1) dX8_own_46 rfl <|
  r_iload_n (k := 2) dX8_own_47 rfl <|
  r_cV (Z := mX8_has_2) (ci := 8) (q := (RX8, TX8, 27)) dX8_own_48 rfl (by decide +kernel) ⟨by decide, by decide⟩ (by decide) rfl rfl q2361 q2363 qs73 q127 q2364 (XS.out (noH _)) <|
  r_iload_n (k := 3) dX8_own_51 rfl <|
  r_ret rfl (Or.inl ⟨dX8_own_52, Or.inl rfl⟩))
  (r_iconst (v := 0) dX8_own_31 rfl <|
  r_ret rfl (Or.inl ⟨dX8_own_32, Or.inl rfl⟩))
-- CheekTownModel.cold(IZ)Z cuts [0, 14, 45]
def tX8_cold_0 (d : Nat) (Q : Outcome → MH → Prop) (J : Nat → KT) : KT :=
  i_aload 0 <|
  i_aload 0 <|
  i_iload 1 <|
  i_call mX8_isPerson d 2 (pV 8) (xOut Q) <|
  i_if_ne
  (i_const 0 <|
  (J 14))
  (i_const 1 <|
  (J 14))
theorem kX8_cold_0 {d : Nat} {Q : Outcome → MH → Prop} : ∀ ls st h, tX8_cold_0 d Q (fun pc ls st h => WPb mX8_cold d pc ls st h Q) ls st h → WPb mX8_cold d 0 ls st h Q :=
  r_aload_n (k := 0) dX8_cold_0 rfl <|
  r_aload_n (k := 0) dX8_cold_1 rfl <|
  r_iload_n (k := 1) dX8_cold_2 rfl <|
  r_cV (Z := mX8_isPerson) (ci := 8) (q := (RX8, TX8, 27)) dX8_cold_3 rfl (by decide +kernel) ⟨by decide, by decide⟩ (by decide) rfl rfl q2439 q2441 qs85 q127 q2442 (XS.out (noH _)) <|
  r_if_ne (pt := 13) dX8_cold_6 (by decide)
  (r_iconst (v := 0) dX8_cold_13 rfl <|
  (fun _ _ _ H => H))
  (r_iconst (v := 1) dX8_cold_9 rfl <|
  r_goto (pt := 14) dX8_cold_10 (by decide) <|
  (fun _ _ _ H => H))
def tX8_cold_14 (d : Nat) (Q : Outcome → MH → Prop) (J : Nat → KT) : KT :=
  i_putI 8 0 .int <|
  i_aload 0 <|
  i_getI 8 0 <|
  i_if_le
  (i_aload 0 <|
  i_call mX8_remembers d 1 (pV 8) (xOut Q) <|
  i_aload 0 <|
  i_iload 1 <|
  i_const 4 <|
  i_call mX8_of d 3 (pV 8) (xOut Q) <|
  i_const 1 <|
  i_icmp_ne
  (i_const 0 <|
  (J 45))
  (i_const 1 <|
  (J 45)))
  (i_const 0 <|
  i_ret Q (some .boolean))
theorem kX8_cold_14 {d : Nat} {Q : Outcome → MH → Prop} : ∀ ls st h, tX8_cold_14 d Q (fun pc ls st h => WPb mX8_cold d pc ls st h Q) ls st h → WPb mX8_cold d 14 ls st h Q :=
  r_putI (ci := 8) (q := (RX8, TX8, 27)) (k := 0) tyX8 tyX8_ok nmX8 dX8_cold_14 (by decide) rfl in_X8 (by decide) (Or.inl ⟨rfl, (Or.inl q2141)⟩) rfl rfl <|
  r_aload_n (k := 0) dX8_cold_17 rfl <|
  r_getI (ci := 8) (q := (RX8, TX8, 27)) (k := 0) dX8_cold_18 (by decide) rfl in_X8 (by decide) (Or.inl q2141) rfl <|
  r_if_le (pt := 26) dX8_cold_21 (by decide)
  (r_aload_n (k := 0) dX8_cold_26 rfl <|
  r_cV (Z := mX8_remembers) (ci := 8) (q := (RX8, TX8, 27)) dX8_cold_27 rfl (by decide +kernel) ⟨by decide, by decide⟩ (by decide) rfl rfl q2475 q2477 qs90 q127 q2478 (XS.out (noH _)) <|
  r_aload_n (k := 0) dX8_cold_30 rfl <|
  r_iload_n (k := 1) dX8_cold_31 rfl <|
  r_iconst (v := 4) dX8_cold_32 rfl <|
  r_cV (Z := mX8_of) (ci := 8) (q := (RX8, TX8, 27)) dX8_cold_33 rfl (by decide +kernel) ⟨by decide, by decide⟩ (by decide) rfl rfl q2443 q2445 qs86 q127 q2446 (XS.out (noH _)) <|
  r_iconst (v := 1) dX8_cold_36 rfl <|
  r_icmp_ne (pt := 44) dX8_cold_37 (by decide)
  (r_iconst (v := 0) dX8_cold_44 rfl <|
  (fun _ _ _ H => H))
  (r_iconst (v := 1) dX8_cold_40 rfl <|
  r_goto (pt := 45) dX8_cold_41 (by decide) <|
  (fun _ _ _ H => H)))
  (r_iconst (v := 0) dX8_cold_24 rfl <|
  r_ret rfl (Or.inl ⟨dX8_cold_25, Or.inr (Or.inl rfl)⟩))
def tX8_cold_45 (d : Nat) (Q : Outcome → MH → Prop) (J : Nat → KT) : KT :=
  i_istore 3 <|
  i_aload 0 <|
  i_iload 1 <|
  i_const 4 <|
  i_iload 2 <|
  i_if_eq
  (i_const 0 <|
  i_call mX8_has_2 d 4 (pV 8) (xOut Q) <|
  i_iload 3 <|
  i_ret Q (some .boolean))
  (i_const 1 <|
  i_call mX8_has_2 d 4 (pV 8) (xOut Q) <|
  i_iload 3 <|
  i_ret Q (some .boolean))
theorem kX8_cold_45 {d : Nat} {Q : Outcome → MH → Prop} : ∀ ls st h, tX8_cold_45 d Q (fun pc ls st h => WPb mX8_cold d pc ls st h Q) ls st h → WPb mX8_cold d 45 ls st h Q :=
  r_istore_n (k := 3) dX8_cold_45 rfl <|
  r_aload_n (k := 0) dX8_cold_46 rfl <|
  r_iload_n (k := 1) dX8_cold_47 rfl <|
  r_iconst (v := 4) dX8_cold_48 rfl <|
  r_iload_n (k := 2) dX8_cold_49 rfl <|
  r_if_eq (pt := 57) dX8_cold_50 (by decide)
  (r_iconst (v := 0) dX8_cold_57 rfl <|
  r_cV (Z := mX8_has_2) (ci := 8) (q := (RX8, TX8, 27)) dX8_cold_58 rfl (by decide +kernel) ⟨by decide, by decide⟩ (by decide) rfl rfl q2361 q2363 qs73 q127 q2364 (XS.out (noH _)) <|
  r_iload_n (k := 3) dX8_cold_61 rfl <|
  r_ret rfl (Or.inl ⟨dX8_cold_62, Or.inr (Or.inl rfl)⟩))
  (r_iconst (v := 1) dX8_cold_53 rfl <|
  r_goto (pt := 58) dX8_cold_54 (by decide) <|
  r_cV (Z := mX8_has_2) (ci := 8) (q := (RX8, TX8, 27)) dX8_cold_58 rfl (by decide +kernel) ⟨by decide, by decide⟩ (by decide) rfl rfl q2361 q2363 qs73 q127 q2364 (XS.out (noH _)) <|
  r_iload_n (k := 3) dX8_cold_61 rfl <|
  r_ret rfl (Or.inl ⟨dX8_cold_62, Or.inr (Or.inl rfl)⟩))
-- CheekTownModel.ties(II)I cuts [0, 49]
def tX8_ties_0 (d : Nat) (Q : Outcome → MH → Prop) (J : Nat → KT) : KT :=
  i_aload 0 <|
  i_aload 0 <|
  i_iload 1 <|
  i_iload 2 <|
  i_call mX8_two d 3 (pV 8) (xOut Q) <|
  i_if_le
  (i_aload 0 <|
  i_iload 1 <|
  i_iload 2 <|
  i_call mX8_areTied d 3 (pV 8) (xOut Q) <|
  i_if_eq
  (i_aload 0 <|
  i_getR 8 1 <|
  i_const 6 <|
  i_iald <|
  i_const 24 <|
  i_icmp_ne
  (i_const 0 <|
  (J 49))
  (i_const 4 <|
  (J 49)))
  (i_const 3 <|
  (J 49)))
  (i_aload 0 <|
  i_iload 1 <|
  i_iload 2 <|
  i_call mX8_two d 3 (pV 8) (xOut Q) <|
  (J 49))
theorem kX8_ties_0 {d : Nat} {Q : Outcome → MH → Prop} : ∀ ls st h, tX8_ties_0 d Q (fun pc ls st h => WPb mX8_ties d pc ls st h Q) ls st h → WPb mX8_ties d 0 ls st h Q :=
  r_aload_n (k := 0) dX8_ties_0 rfl <|
  r_aload_n (k := 0) dX8_ties_1 rfl <|
  r_iload_n (k := 1) dX8_ties_2 rfl <|
  r_iload_n (k := 2) dX8_ties_3 rfl <|
  r_cV (Z := mX8_two) (ci := 8) (q := (RX8, TX8, 27)) dX8_ties_4 rfl (by decide +kernel) ⟨by decide, by decide⟩ (by decide) rfl rfl q2455 q2457 qs88 q127 q2458 (XS.out (noH _)) <|
  r_if_le (pt := 19) dX8_ties_7 (by decide)
  (r_aload_n (k := 0) dX8_ties_19 rfl <|
  r_iload_n (k := 1) dX8_ties_20 rfl <|
  r_iload_n (k := 2) dX8_ties_21 rfl <|
  r_cV (Z := mX8_areTied) (ci := 8) (q := (RX8, TX8, 27)) dX8_ties_22 rfl (by decide +kernel) ⟨by decide, by decide⟩ (by decide) rfl rfl q2374 q2376 qs76 q127 q2377 (XS.out (noH _)) <|
  r_if_eq (pt := 32) dX8_ties_25 (by decide)
  (r_aload_n (k := 0) dX8_ties_32 rfl <|
  r_getR (ci := 8) (q := (RX8, TX8, 27)) (k := 1) dX8_ties_33 (by decide) rfl in_X8 (by decide) (Or.inl q2142) rfl <|
  r_bipush (v := 6) dX8_ties_36 rfl <|
  r_iald dX8_ties_38 <|
  r_bipush (v := 24) dX8_ties_39 rfl <|
  r_icmp_ne (pt := 48) dX8_ties_41 (by decide)
  (r_iconst (v := 0) dX8_ties_48 rfl <|
  (fun _ _ _ H => H))
  (r_iconst (v := 4) dX8_ties_44 rfl <|
  r_goto (pt := 49) dX8_ties_45 (by decide) <|
  (fun _ _ _ H => H)))
  (r_iconst (v := 3) dX8_ties_28 rfl <|
  r_goto (pt := 49) dX8_ties_29 (by decide) <|
  (fun _ _ _ H => H)))
  (r_aload_n (k := 0) dX8_ties_10 rfl <|
  r_iload_n (k := 1) dX8_ties_11 rfl <|
  r_iload_n (k := 2) dX8_ties_12 rfl <|
  r_cV (Z := mX8_two) (ci := 8) (q := (RX8, TX8, 27)) dX8_ties_13 rfl (by decide +kernel) ⟨by decide, by decide⟩ (by decide) rfl rfl q2455 q2457 qs88 q127 q2458 (XS.out (noH _)) <|
  r_goto (pt := 49) dX8_ties_16 (by decide) <|
  (fun _ _ _ H => H))
def tX8_ties_49 (d : Nat) (Q : Outcome → MH → Prop) (J : Nat → KT) : KT :=
  i_putI 8 0 .int <|
  i_aload 0 <|
  i_getI 8 0 <|
  i_if_le
  (i_aload 0 <|
  i_call mX8_remembers d 1 (pV 8) (xOut Q) <|
  i_aload 0 <|
  i_iload 1 <|
  i_iload 2 <|
  i_call mX8_binds d 3 (pV 8) (xOut Q) <|
  i_aload 0 <|
  i_getR 8 1 <|
  i_const 6 <|
  i_iald <|
  i_const 1 <|
  i_isub <|
  i_ret Q (some .int))
  (i_const 0 <|
  i_ret Q (some .int))
theorem kX8_ties_49 {d : Nat} {Q : Outcome → MH → Prop} : ∀ ls st h, tX8_ties_49 d Q (fun pc ls st h => WPb mX8_ties d pc ls st h Q) ls st h → WPb mX8_ties d 49 ls st h Q :=
  r_putI (ci := 8) (q := (RX8, TX8, 27)) (k := 0) tyX8 tyX8_ok nmX8 dX8_ties_49 (by decide) rfl in_X8 (by decide) (Or.inl ⟨rfl, (Or.inl q2141)⟩) rfl rfl <|
  r_aload_n (k := 0) dX8_ties_52 rfl <|
  r_getI (ci := 8) (q := (RX8, TX8, 27)) (k := 0) dX8_ties_53 (by decide) rfl in_X8 (by decide) (Or.inl q2141) rfl <|
  r_if_le (pt := 61) dX8_ties_56 (by decide)
  (r_aload_n (k := 0) dX8_ties_61 rfl <|
  r_cV (Z := mX8_remembers) (ci := 8) (q := (RX8, TX8, 27)) dX8_ties_62 rfl (by decide +kernel) ⟨by decide, by decide⟩ (by decide) rfl rfl q2475 q2477 qs90 q127 q2478 (XS.out (noH _)) <|
  r_aload_n (k := 0) dX8_ties_65 rfl <|
  r_iload_n (k := 1) dX8_ties_66 rfl <|
  r_iload_n (k := 2) dX8_ties_67 rfl <|
  r_cV (Z := mX8_binds) (ci := 8) (q := (RX8, TX8, 27)) dX8_ties_68 rfl (by decide +kernel) ⟨by decide, by decide⟩ (by decide) rfl rfl q2386 q2388 qs79 q127 q2389 (XS.out (noH _)) <|
  r_aload_n (k := 0) dX8_ties_71 rfl <|
  r_getR (ci := 8) (q := (RX8, TX8, 27)) (k := 1) dX8_ties_72 (by decide) rfl in_X8 (by decide) (Or.inl q2142) rfl <|
  r_bipush (v := 6) dX8_ties_75 rfl <|
  r_iald dX8_ties_77 <|
  r_iconst (v := 1) dX8_ties_78 rfl <|
  r_isub dX8_ties_79 <|
  r_ret rfl (Or.inl ⟨dX8_ties_80, Or.inl rfl⟩))
  (r_iconst (v := 0) dX8_ties_59 rfl <|
  r_ret rfl (Or.inl ⟨dX8_ties_60, Or.inl rfl⟩))
-- CheekTownModel.cut(I)I cuts [0, 23, 54]
def tX8_cut_0 (d : Nat) (Q : Outcome → MH → Prop) (J : Nat → KT) : KT :=
  i_aload 0 <|
  i_iload 1 <|
  i_const 0 <|
  i_aload 0 <|
  i_getR 8 1 <|
  i_const 6 <|
  i_iald <|
  i_const 1 <|
  i_isub <|
  i_call mX8_isIn d 3 pS (xOut Q) <|
  i_if_ne
  (i_const 0 <|
  (J 23))
  (i_const 1 <|
  (J 23))
theorem kX8_cut_0 {d : Nat} {Q : Outcome → MH → Prop} : ∀ ls st h, tX8_cut_0 d Q (fun pc ls st h => WPb mX8_cut d pc ls st h Q) ls st h → WPb mX8_cut d 0 ls st h Q :=
  r_aload_n (k := 0) dX8_cut_0 rfl <|
  r_iload_n (k := 1) dX8_cut_1 rfl <|
  r_iconst (v := 0) dX8_cut_2 rfl <|
  r_aload_n (k := 0) dX8_cut_3 rfl <|
  r_getR (ci := 8) (q := (RX8, TX8, 27)) (k := 1) dX8_cut_4 (by decide) rfl in_X8 (by decide) (Or.inl q2142) rfl <|
  r_bipush (v := 6) dX8_cut_7 rfl <|
  r_iald dX8_cut_9 <|
  r_iconst (v := 1) dX8_cut_10 rfl <|
  r_isub dX8_cut_11 <|
  r_cS (Z := mX8_isIn) dX8_cut_12 rfl (by decide +kernel) ⟨by decide, by decide⟩ q2235 q2236 q127 q2237 (XS.out (noH _)) <|
  r_if_ne (pt := 22) dX8_cut_15 (by decide)
  (r_iconst (v := 0) dX8_cut_22 rfl <|
  (fun _ _ _ H => H))
  (r_iconst (v := 1) dX8_cut_18 rfl <|
  r_goto (pt := 23) dX8_cut_19 (by decide) <|
  (fun _ _ _ H => H))
def tX8_cut_23 (d : Nat) (Q : Outcome → MH → Prop) (J : Nat → KT) : KT :=
  i_putI 8 0 .int <|
  i_aload 0 <|
  i_getI 8 0 <|
  i_if_le
  (i_aload 0 <|
  i_call mX8_remembers d 1 (pV 8) (xOut Q) <|
  i_aload 0 <|
  i_getR 8 1 <|
  i_const 6 <|
  i_dup2 <|
  i_iald <|
  i_const 1 <|
  i_isub <|
  i_iast <|
  i_const 2 <|
  i_iload 1 <|
  i_imul <|
  i_istore 2 <|
  (J 54))
  (i_const 0 <|
  i_ret Q (some .int))
theorem kX8_cut_23 {d : Nat} {Q : Outcome → MH → Prop} : ∀ ls st h, tX8_cut_23 d Q (fun pc ls st h => WPb mX8_cut d pc ls st h Q) ls st h → WPb mX8_cut d 23 ls st h Q :=
  r_putI (ci := 8) (q := (RX8, TX8, 27)) (k := 0) tyX8 tyX8_ok nmX8 dX8_cut_23 (by decide) rfl in_X8 (by decide) (Or.inl ⟨rfl, (Or.inl q2141)⟩) rfl rfl <|
  r_aload_n (k := 0) dX8_cut_26 rfl <|
  r_getI (ci := 8) (q := (RX8, TX8, 27)) (k := 0) dX8_cut_27 (by decide) rfl in_X8 (by decide) (Or.inl q2141) rfl <|
  r_if_le (pt := 35) dX8_cut_30 (by decide)
  (r_aload_n (k := 0) dX8_cut_35 rfl <|
  r_cV (Z := mX8_remembers) (ci := 8) (q := (RX8, TX8, 27)) dX8_cut_36 rfl (by decide +kernel) ⟨by decide, by decide⟩ (by decide) rfl rfl q2475 q2477 qs90 q127 q2478 (XS.out (noH _)) <|
  r_aload_n (k := 0) dX8_cut_39 rfl <|
  r_getR (ci := 8) (q := (RX8, TX8, 27)) (k := 1) dX8_cut_40 (by decide) rfl in_X8 (by decide) (Or.inl q2142) rfl <|
  r_bipush (v := 6) dX8_cut_43 rfl <|
  r_dup2 dX8_cut_45 <|
  r_iald dX8_cut_46 <|
  r_iconst (v := 1) dX8_cut_47 rfl <|
  r_isub dX8_cut_48 <|
  r_iast dX8_cut_49 <|
  r_iconst (v := 2) dX8_cut_50 rfl <|
  r_iload_n (k := 1) dX8_cut_51 rfl <|
  r_imul dX8_cut_52 <|
  r_istore_n (k := 2) dX8_cut_53 rfl <|
  (fun _ _ _ H => H))
  (r_iconst (v := 0) dX8_cut_33 rfl <|
  r_ret rfl (Or.inl ⟨dX8_cut_34, Or.inl rfl⟩))
def tX8_cut_54 (d : Nat) (Q : Outcome → MH → Prop) (J : Nat → KT) : KT :=
  i_iload 2 <|
  i_const 2 <|
  i_aload 0 <|
  i_getR 8 1 <|
  i_const 6 <|
  i_iald <|
  i_imul <|
  i_icmp_ge
  (i_aload 0 <|
  i_getR 8 1 <|
  i_const 6 <|
  i_iald <|
  i_ret Q (some .int))
  (i_aload 0 <|
  i_getR 8 1 <|
  i_const 372 <|
  i_iload 2 <|
  i_iadd <|
  i_aload 0 <|
  i_getR 8 1 <|
  i_const 372 <|
  i_iload 2 <|
  i_iadd <|
  i_const 2 <|
  i_iadd <|
  i_iald <|
  i_iast <|
  i_iinc 2 1 <|
  (J 54))
theorem kX8_cut_54 {d : Nat} {Q : Outcome → MH → Prop} : ∀ ls st h, tX8_cut_54 d Q (fun pc ls st h => WPb mX8_cut d pc ls st h Q) ls st h → WPb mX8_cut d 54 ls st h Q :=
  r_iload_n (k := 2) dX8_cut_54 rfl <|
  r_iconst (v := 2) dX8_cut_55 rfl <|
  r_aload_n (k := 0) dX8_cut_56 rfl <|
  r_getR (ci := 8) (q := (RX8, TX8, 27)) (k := 1) dX8_cut_57 (by decide) rfl in_X8 (by decide) (Or.inl q2142) rfl <|
  r_bipush (v := 6) dX8_cut_60 rfl <|
  r_iald dX8_cut_62 <|
  r_imul dX8_cut_63 <|
  r_icmp_ge (pt := 95) dX8_cut_64 (by decide)
  (r_aload_n (k := 0) dX8_cut_95 rfl <|
  r_getR (ci := 8) (q := (RX8, TX8, 27)) (k := 1) dX8_cut_96 (by decide) rfl in_X8 (by decide) (Or.inl q2142) rfl <|
  r_bipush (v := 6) dX8_cut_99 rfl <|
  r_iald dX8_cut_101 <|
  r_ret rfl (Or.inl ⟨dX8_cut_102, Or.inl rfl⟩))
  (r_aload_n (k := 0) dX8_cut_67 rfl <|
  r_getR (ci := 8) (q := (RX8, TX8, 27)) (k := 1) dX8_cut_68 (by decide) rfl in_X8 (by decide) (Or.inl q2142) rfl <|
  r_sipush (v := 372) dX8_cut_71 rfl <|
  r_iload_n (k := 2) dX8_cut_74 rfl <|
  r_iadd dX8_cut_75 <|
  r_aload_n (k := 0) dX8_cut_76 rfl <|
  r_getR (ci := 8) (q := (RX8, TX8, 27)) (k := 1) dX8_cut_77 (by decide) rfl in_X8 (by decide) (Or.inl q2142) rfl <|
  r_sipush (v := 372) dX8_cut_80 rfl <|
  r_iload_n (k := 2) dX8_cut_83 rfl <|
  r_iadd dX8_cut_84 <|
  r_iconst (v := 2) dX8_cut_85 rfl <|
  r_iadd dX8_cut_86 <|
  r_iald dX8_cut_87 <|
  r_iast dX8_cut_88 <|
  r_iinc (v := 1) dX8_cut_89 rfl <|
  r_goto (pt := 54) dX8_cut_92 (by decide) <|
  (fun _ _ _ H => H))
-- CheekTownModel.feast(II)I cuts [0, 34]
def tX8_feast_0 (d : Nat) (Q : Outcome → MH → Prop) (J : Nat → KT) : KT :=
  i_aload 0 <|
  i_iload 2 <|
  i_call mX8_isCode d 1 pS (xOut Q) <|
  i_if_ne
  (i_const 0 <|
  i_putI 8 0 .int <|
  i_aload 0 <|
  i_getI 8 0 <|
  i_if_le
  (i_aload 0 <|
  i_call mX8_remembers d 1 (pV 8) (xOut Q) <|
  i_const 0 <|
  i_istore 3 <|
  i_const 0 <|
  i_istore 4 <|
  (J 34))
  (i_const 0 <|
  i_ret Q (some .int)))
  (i_const 1 <|
  i_putI 8 0 .int <|
  i_aload 0 <|
  i_getI 8 0 <|
  i_if_le
  (i_aload 0 <|
  i_call mX8_remembers d 1 (pV 8) (xOut Q) <|
  i_const 0 <|
  i_istore 3 <|
  i_const 0 <|
  i_istore 4 <|
  (J 34))
  (i_const 0 <|
  i_ret Q (some .int)))
theorem kX8_feast_0 {d : Nat} {Q : Outcome → MH → Prop} : ∀ ls st h, tX8_feast_0 d Q (fun pc ls st h => WPb mX8_feast d pc ls st h Q) ls st h → WPb mX8_feast d 0 ls st h Q :=
  r_aload_n (k := 0) dX8_feast_0 rfl <|
  r_iload_n (k := 2) dX8_feast_1 rfl <|
  r_cS (Z := mX8_isCode) dX8_feast_2 rfl (by decide +kernel) ⟨by decide, by decide⟩ q2413 q2414 q127 q2415 (XS.out (noH _)) <|
  r_if_ne (pt := 12) dX8_feast_5 (by decide)
  (r_iconst (v := 0) dX8_feast_12 rfl <|
  r_putI (ci := 8) (q := (RX8, TX8, 27)) (k := 0) tyX8 tyX8_ok nmX8 dX8_feast_13 (by decide) rfl in_X8 (by decide) (Or.inl ⟨rfl, (Or.inl q2141)⟩) rfl rfl <|
  r_aload_n (k := 0) dX8_feast_16 rfl <|
  r_getI (ci := 8) (q := (RX8, TX8, 27)) (k := 0) dX8_feast_17 (by decide) rfl in_X8 (by decide) (Or.inl q2141) rfl <|
  r_if_le (pt := 25) dX8_feast_20 (by decide)
  (r_aload_n (k := 0) dX8_feast_25 rfl <|
  r_cV (Z := mX8_remembers) (ci := 8) (q := (RX8, TX8, 27)) dX8_feast_26 rfl (by decide +kernel) ⟨by decide, by decide⟩ (by decide) rfl rfl q2475 q2477 qs90 q127 q2478 (XS.out (noH _)) <|
  r_iconst (v := 0) dX8_feast_29 rfl <|
  r_istore_n (k := 3) dX8_feast_30 rfl <|
  r_iconst (v := 0) dX8_feast_31 rfl <|
  r_istore dX8_feast_32 <|
  (fun _ _ _ H => H))
  (r_iconst (v := 0) dX8_feast_23 rfl <|
  r_ret rfl (Or.inl ⟨dX8_feast_24, Or.inl rfl⟩)))
  (r_iconst (v := 1) dX8_feast_8 rfl <|
  r_goto (pt := 13) dX8_feast_9 (by decide) <|
  r_putI (ci := 8) (q := (RX8, TX8, 27)) (k := 0) tyX8 tyX8_ok nmX8 dX8_feast_13 (by decide) rfl in_X8 (by decide) (Or.inl ⟨rfl, (Or.inl q2141)⟩) rfl rfl <|
  r_aload_n (k := 0) dX8_feast_16 rfl <|
  r_getI (ci := 8) (q := (RX8, TX8, 27)) (k := 0) dX8_feast_17 (by decide) rfl in_X8 (by decide) (Or.inl q2141) rfl <|
  r_if_le (pt := 25) dX8_feast_20 (by decide)
  (r_aload_n (k := 0) dX8_feast_25 rfl <|
  r_cV (Z := mX8_remembers) (ci := 8) (q := (RX8, TX8, 27)) dX8_feast_26 rfl (by decide +kernel) ⟨by decide, by decide⟩ (by decide) rfl rfl q2475 q2477 qs90 q127 q2478 (XS.out (noH _)) <|
  r_iconst (v := 0) dX8_feast_29 rfl <|
  r_istore_n (k := 3) dX8_feast_30 rfl <|
  r_iconst (v := 0) dX8_feast_31 rfl <|
  r_istore dX8_feast_32 <|
  (fun _ _ _ H => H))
  (r_iconst (v := 0) dX8_feast_23 rfl <|
  r_ret rfl (Or.inl ⟨dX8_feast_24, Or.inl rfl⟩)))
def tX8_feast_34 (d : Nat) (Q : Outcome → MH → Prop) (J : Nat → KT) : KT :=
  i_iload 4 <|
  i_aload 0 <|
  i_getR 8 1 <|
  i_const 5 <|
  i_iald <|
  i_icmp_ge
  (i_iload 3 <|
  i_ret Q (some .int))
  (i_iload 1 <|
  i_iload 4 <|
  i_call mX8_isOf d 2 pS (xOut Q) <|
  i_if_ne
  (i_iload 3 <|
  i_aload 0 <|
  i_iload 4 <|
  i_const 1 <|
  i_call mX8_of d 3 (pV 8) (xOut Q) <|
  i_iload 2 <|
  i_icmp_ne
  (i_const 1 <|
  i_iload 4 <|
  i_ishl <|
  i_ior <|
  i_istore 3 <|
  i_aload 0 <|
  i_iload 4 <|
  i_const 1 <|
  i_iload 2 <|
  i_call mX8_has_2 d 4 (pV 8) (xOut Q) <|
  i_iinc 4 1 <|
  (J 34))
  (i_const 0 <|
  i_ior <|
  i_istore 3 <|
  i_aload 0 <|
  i_iload 4 <|
  i_const 1 <|
  i_iload 2 <|
  i_call mX8_has_2 d 4 (pV 8) (xOut Q) <|
  i_iinc 4 1 <|
  (J 34)))
  (i_iinc 4 1 <|
  (J 34)))
theorem kX8_feast_34 {d : Nat} {Q : Outcome → MH → Prop} : ∀ ls st h, tX8_feast_34 d Q (fun pc ls st h => WPb mX8_feast d pc ls st h Q) ls st h → WPb mX8_feast d 34 ls st h Q :=
  r_iload dX8_feast_34 <|
  r_aload_n (k := 0) dX8_feast_36 rfl <|
  r_getR (ci := 8) (q := (RX8, TX8, 27)) (k := 1) dX8_feast_37 (by decide) rfl in_X8 (by decide) (Or.inl q2142) rfl <|
  r_iconst (v := 5) dX8_feast_40 rfl <|
  r_iald dX8_feast_41 <|
  r_icmp_ge (pt := 93) dX8_feast_42 (by decide)
  (r_iload_n (k := 3) dX8_feast_93 rfl <|
  r_ret rfl (Or.inl ⟨dX8_feast_94, Or.inl rfl⟩))
  (r_iload_n (k := 1) dX8_feast_45 rfl <|
  r_iload dX8_feast_46 <|
  r_cS (Z := mX8_isOf) dX8_feast_48 rfl (by decide +kernel) ⟨by decide, by decide⟩ q2526 q2527 q127 q2528 (XS.out (noH _)) <|
  r_if_ne (pt := 57) dX8_feast_51 (by decide)
  (r_iload_n (k := 3) dX8_feast_57 rfl <|
  r_aload_n (k := 0) dX8_feast_58 rfl <|
  r_iload dX8_feast_59 <|
  r_iconst (v := 1) dX8_feast_61 rfl <|
  r_cV (Z := mX8_of) (ci := 8) (q := (RX8, TX8, 27)) dX8_feast_62 rfl (by decide +kernel) ⟨by decide, by decide⟩ (by decide) rfl rfl q2443 q2445 qs86 q127 q2446 (XS.out (noH _)) <|
  r_iload_n (k := 2) dX8_feast_65 rfl <|
  r_icmp_ne (pt := 73) dX8_feast_66 (by decide)
  (r_iconst (v := 1) dX8_feast_73 rfl <|
  r_iload dX8_feast_74 <|
  r_ishl dX8_feast_76 <|
  r_ior dX8_feast_77 <|
  r_istore_n (k := 3) dX8_feast_78 rfl <|
  r_aload_n (k := 0) dX8_feast_79 rfl <|
  r_iload dX8_feast_80 <|
  r_iconst (v := 1) dX8_feast_82 rfl <|
  r_iload_n (k := 2) dX8_feast_83 rfl <|
  r_cV (Z := mX8_has_2) (ci := 8) (q := (RX8, TX8, 27)) dX8_feast_84 rfl (by decide +kernel) ⟨by decide, by decide⟩ (by decide) rfl rfl q2361 q2363 qs73 q127 q2364 (XS.out (noH _)) <|
  r_iinc (v := 1) dX8_feast_87 rfl <|
  r_goto (pt := 34) dX8_feast_90 (by decide) <|
  (fun _ _ _ H => H))
  (r_iconst (v := 0) dX8_feast_69 rfl <|
  r_goto (pt := 77) dX8_feast_70 (by decide) <|
  r_ior dX8_feast_77 <|
  r_istore_n (k := 3) dX8_feast_78 rfl <|
  r_aload_n (k := 0) dX8_feast_79 rfl <|
  r_iload dX8_feast_80 <|
  r_iconst (v := 1) dX8_feast_82 rfl <|
  r_iload_n (k := 2) dX8_feast_83 rfl <|
  r_cV (Z := mX8_has_2) (ci := 8) (q := (RX8, TX8, 27)) dX8_feast_84 rfl (by decide +kernel) ⟨by decide, by decide⟩ (by decide) rfl rfl q2361 q2363 qs73 q127 q2364 (XS.out (noH _)) <|
  r_iinc (v := 1) dX8_feast_87 rfl <|
  r_goto (pt := 34) dX8_feast_90 (by decide) <|
  (fun _ _ _ H => H)))
  (r_goto (pt := 87) dX8_feast_54 (by decide) <|
  r_iinc (v := 1) dX8_feast_87 rfl <|
  r_goto (pt := 34) dX8_feast_90 (by decide) <|
  (fun _ _ _ H => H)))
-- CheekTownModel.isOf(II)Z cuts [0]
def tX8_isOf_0 (d : Nat) (Q : Outcome → MH → Prop) (J : Nat → KT) : KT :=
  i_iload 0 <|
  i_iload 1 <|
  i_ishr <|
  i_const 1 <|
  i_iand <|
  i_const 1 <|
  i_icmp_ne
  (i_const 0 <|
  i_ret Q (some .boolean))
  (i_const 1 <|
  i_ret Q (some .boolean))
theorem kX8_isOf_0 {d : Nat} {Q : Outcome → MH → Prop} : ∀ ls st h, tX8_isOf_0 d Q (fun pc ls st h => WPb mX8_isOf d pc ls st h Q) ls st h → WPb mX8_isOf d 0 ls st h Q :=
  r_iload_n (k := 0) dX8_isOf_0 rfl <|
  r_iload_n (k := 1) dX8_isOf_1 rfl <|
  r_ishr dX8_isOf_2 <|
  r_iconst (v := 1) dX8_isOf_3 rfl <|
  r_iand dX8_isOf_4 <|
  r_iconst (v := 1) dX8_isOf_5 rfl <|
  r_icmp_ne (pt := 13) dX8_isOf_6 (by decide)
  (r_iconst (v := 0) dX8_isOf_13 rfl <|
  r_ret rfl (Or.inl ⟨dX8_isOf_14, Or.inr (Or.inl rfl)⟩))
  (r_iconst (v := 1) dX8_isOf_9 rfl <|
  r_goto (pt := 14) dX8_isOf_10 (by decide) <|
  r_ret rfl (Or.inl ⟨dX8_isOf_14, Or.inr (Or.inl rfl)⟩))
-- CheekTownModel.expected(II)I cuts [0]
def tX8_expected_0 (d : Nat) (Q : Outcome → MH → Prop) (J : Nat → KT) : KT :=
  i_aload 0 <|
  i_aload 0 <|
  i_iload 1 <|
  i_call mX8_isLand d 2 (pV 8) (xOut Q) <|
  i_if_eq
  (i_const 1 <|
  i_putI 8 0 .int <|
  i_aload 0 <|
  i_getI 8 0 <|
  i_if_le
  (i_aload 0 <|
  i_iload 1 <|
  i_iload 2 <|
  i_call mX8_expects d 3 (pV 8) (xOut Q) <|
  i_ret Q (some .int))
  (i_const 0 <|
  i_ret Q (some .int)))
  (i_iload 2 <|
  i_call mX8_isCode d 1 pS (xOut Q) <|
  i_if_ne
  (i_const 0 <|
  i_putI 8 0 .int <|
  i_aload 0 <|
  i_getI 8 0 <|
  i_if_le
  (i_aload 0 <|
  i_iload 1 <|
  i_iload 2 <|
  i_call mX8_expects d 3 (pV 8) (xOut Q) <|
  i_ret Q (some .int))
  (i_const 0 <|
  i_ret Q (some .int)))
  (i_const 1 <|
  i_putI 8 0 .int <|
  i_aload 0 <|
  i_getI 8 0 <|
  i_if_le
  (i_aload 0 <|
  i_iload 1 <|
  i_iload 2 <|
  i_call mX8_expects d 3 (pV 8) (xOut Q) <|
  i_ret Q (some .int))
  (i_const 0 <|
  i_ret Q (some .int))))
theorem kX8_expected_0 {d : Nat} {Q : Outcome → MH → Prop} : ∀ ls st h, tX8_expected_0 d Q (fun pc ls st h => WPb mX8_expected d pc ls st h Q) ls st h → WPb mX8_expected d 0 ls st h Q :=
  r_aload_n (k := 0) dX8_expected_0 rfl <|
  r_aload_n (k := 0) dX8_expected_1 rfl <|
  r_iload_n (k := 1) dX8_expected_2 rfl <|
  r_cV (Z := mX8_isLand) (ci := 8) (q := (RX8, TX8, 27)) dX8_expected_3 rfl (by decide +kernel) ⟨by decide, by decide⟩ (by decide) rfl rfl q2427 q2429 qs83 q127 q2430 (XS.out (noH _)) <|
  r_if_eq (pt := 16) dX8_expected_6 (by decide)
  (r_iconst (v := 1) dX8_expected_16 rfl <|
  r_goto (pt := 21) dX8_expected_17 (by decide) <|
  r_putI (ci := 8) (q := (RX8, TX8, 27)) (k := 0) tyX8 tyX8_ok nmX8 dX8_expected_21 (by decide) rfl in_X8 (by decide) (Or.inl ⟨rfl, (Or.inl q2141)⟩) rfl rfl <|
  r_aload_n (k := 0) dX8_expected_24 rfl <|
  r_getI (ci := 8) (q := (RX8, TX8, 27)) (k := 0) dX8_expected_25 (by decide) rfl in_X8 (by decide) (Or.inl q2141) rfl <|
  r_if_le (pt := 35) dX8_expected_28 (by decide)
  (r_aload_n (k := 0) dX8_expected_35 rfl <|
  r_iload_n (k := 1) dX8_expected_36 rfl <|
  r_iload_n (k := 2) dX8_expected_37 rfl <|
  r_cV (Z := mX8_expects) (ci := 8) (q := (RX8, TX8, 27)) dX8_expected_38 rfl (by decide +kernel) ⟨by decide, by decide⟩ (by decide) rfl rfl q2533 q2535 qs95 q127 q2536 (XS.out (noH _)) <|
  r_ret rfl (Or.inl ⟨dX8_expected_41, Or.inl rfl⟩))
  (r_iconst (v := 0) dX8_expected_31 rfl <|
  r_goto (pt := 41) dX8_expected_32 (by decide) <|
  r_ret rfl (Or.inl ⟨dX8_expected_41, Or.inl rfl⟩)))
  (r_iload_n (k := 2) dX8_expected_9 rfl <|
  r_cS (Z := mX8_isCode) dX8_expected_10 rfl (by decide +kernel) ⟨by decide, by decide⟩ q2413 q2414 q127 q2415 (XS.out (noH _)) <|
  r_if_ne (pt := 20) dX8_expected_13 (by decide)
  (r_iconst (v := 0) dX8_expected_20 rfl <|
  r_putI (ci := 8) (q := (RX8, TX8, 27)) (k := 0) tyX8 tyX8_ok nmX8 dX8_expected_21 (by decide) rfl in_X8 (by decide) (Or.inl ⟨rfl, (Or.inl q2141)⟩) rfl rfl <|
  r_aload_n (k := 0) dX8_expected_24 rfl <|
  r_getI (ci := 8) (q := (RX8, TX8, 27)) (k := 0) dX8_expected_25 (by decide) rfl in_X8 (by decide) (Or.inl q2141) rfl <|
  r_if_le (pt := 35) dX8_expected_28 (by decide)
  (r_aload_n (k := 0) dX8_expected_35 rfl <|
  r_iload_n (k := 1) dX8_expected_36 rfl <|
  r_iload_n (k := 2) dX8_expected_37 rfl <|
  r_cV (Z := mX8_expects) (ci := 8) (q := (RX8, TX8, 27)) dX8_expected_38 rfl (by decide +kernel) ⟨by decide, by decide⟩ (by decide) rfl rfl q2533 q2535 qs95 q127 q2536 (XS.out (noH _)) <|
  r_ret rfl (Or.inl ⟨dX8_expected_41, Or.inl rfl⟩))
  (r_iconst (v := 0) dX8_expected_31 rfl <|
  r_goto (pt := 41) dX8_expected_32 (by decide) <|
  r_ret rfl (Or.inl ⟨dX8_expected_41, Or.inl rfl⟩)))
  (r_iconst (v := 1) dX8_expected_16 rfl <|
  r_goto (pt := 21) dX8_expected_17 (by decide) <|
  r_putI (ci := 8) (q := (RX8, TX8, 27)) (k := 0) tyX8 tyX8_ok nmX8 dX8_expected_21 (by decide) rfl in_X8 (by decide) (Or.inl ⟨rfl, (Or.inl q2141)⟩) rfl rfl <|
  r_aload_n (k := 0) dX8_expected_24 rfl <|
  r_getI (ci := 8) (q := (RX8, TX8, 27)) (k := 0) dX8_expected_25 (by decide) rfl in_X8 (by decide) (Or.inl q2141) rfl <|
  r_if_le (pt := 35) dX8_expected_28 (by decide)
  (r_aload_n (k := 0) dX8_expected_35 rfl <|
  r_iload_n (k := 1) dX8_expected_36 rfl <|
  r_iload_n (k := 2) dX8_expected_37 rfl <|
  r_cV (Z := mX8_expects) (ci := 8) (q := (RX8, TX8, 27)) dX8_expected_38 rfl (by decide +kernel) ⟨by decide, by decide⟩ (by decide) rfl rfl q2533 q2535 qs95 q127 q2536 (XS.out (noH _)) <|
  r_ret rfl (Or.inl ⟨dX8_expected_41, Or.inl rfl⟩))
  (r_iconst (v := 0) dX8_expected_31 rfl <|
  r_goto (pt := 41) dX8_expected_32 (by decide) <|
  r_ret rfl (Or.inl ⟨dX8_expected_41, Or.inl rfl⟩))))
-- CheekTownModel.expects(II)I cuts [0, 5]
def tX8_expects_0 (d : Nat) (Q : Outcome → MH → Prop) (J : Nat → KT) : KT :=
  i_const 0 <|
  i_istore 3 <|
  i_const 0 <|
  i_istore 4 <|
  (J 5)
theorem kX8_expects_0 {d : Nat} {Q : Outcome → MH → Prop} : ∀ ls st h, tX8_expects_0 d Q (fun pc ls st h => WPb mX8_expects d pc ls st h Q) ls st h → WPb mX8_expects d 0 ls st h Q :=
  r_iconst (v := 0) dX8_expects_0 rfl <|
  r_istore_n (k := 3) dX8_expects_1 rfl <|
  r_iconst (v := 0) dX8_expects_2 rfl <|
  r_istore dX8_expects_3 <|
  (fun _ _ _ H => H)
def tX8_expects_5 (d : Nat) (Q : Outcome → MH → Prop) (J : Nat → KT) : KT :=
  i_iload 4 <|
  i_aload 0 <|
  i_getR 8 1 <|
  i_const 4 <|
  i_iald <|
  i_icmp_ge
  (i_iload 3 <|
  i_ret Q (some .int))
  (i_iload 3 <|
  i_aload 0 <|
  i_getR 8 1 <|
  i_const 20 <|
  i_const 3 <|
  i_iload 4 <|
  i_imul <|
  i_iadd <|
  i_iald <|
  i_iload 1 <|
  i_icmp_ne
  (i_const 0 <|
  i_iadd <|
  i_istore 3 <|
  i_iinc 4 1 <|
  (J 5))
  (i_aload 0 <|
  i_getR 8 1 <|
  i_const 20 <|
  i_const 3 <|
  i_iload 4 <|
  i_imul <|
  i_iadd <|
  i_const 2 <|
  i_iadd <|
  i_iald <|
  i_aload 0 <|
  i_iload 2 <|
  i_aload 0 <|
  i_getR 8 1 <|
  i_const 20 <|
  i_const 3 <|
  i_iload 4 <|
  i_imul <|
  i_iadd <|
  i_const 1 <|
  i_iadd <|
  i_iald <|
  i_call mX8_costOf d 3 (pV 8) (xOut Q) <|
  i_imul <|
  i_iadd <|
  i_istore 3 <|
  i_iinc 4 1 <|
  (J 5)))
theorem kX8_expects_5 {d : Nat} {Q : Outcome → MH → Prop} : ∀ ls st h, tX8_expects_5 d Q (fun pc ls st h => WPb mX8_expects d pc ls st h Q) ls st h → WPb mX8_expects d 5 ls st h Q :=
  r_iload dX8_expects_5 <|
  r_aload_n (k := 0) dX8_expects_7 rfl <|
  r_getR (ci := 8) (q := (RX8, TX8, 27)) (k := 1) dX8_expects_8 (by decide) rfl in_X8 (by decide) (Or.inl q2142) rfl <|
  r_iconst (v := 4) dX8_expects_11 rfl <|
  r_iald dX8_expects_12 <|
  r_icmp_ge (pt := 79) dX8_expects_13 (by decide)
  (r_iload_n (k := 3) dX8_expects_79 rfl <|
  r_ret rfl (Or.inl ⟨dX8_expects_80, Or.inl rfl⟩))
  (r_iload_n (k := 3) dX8_expects_16 rfl <|
  r_aload_n (k := 0) dX8_expects_17 rfl <|
  r_getR (ci := 8) (q := (RX8, TX8, 27)) (k := 1) dX8_expects_18 (by decide) rfl in_X8 (by decide) (Or.inl q2142) rfl <|
  r_bipush (v := 20) dX8_expects_21 rfl <|
  r_iconst (v := 3) dX8_expects_23 rfl <|
  r_iload dX8_expects_24 <|
  r_imul dX8_expects_26 <|
  r_iadd dX8_expects_27 <|
  r_iald dX8_expects_28 <|
  r_iload_n (k := 1) dX8_expects_29 rfl <|
  r_icmp_ne (pt := 70) dX8_expects_30 (by decide)
  (r_iconst (v := 0) dX8_expects_70 rfl <|
  r_iadd dX8_expects_71 <|
  r_istore_n (k := 3) dX8_expects_72 rfl <|
  r_iinc (v := 1) dX8_expects_73 rfl <|
  r_goto (pt := 5) dX8_expects_76 (by decide) <|
  (fun _ _ _ H => H))
  (r_aload_n (k := 0) dX8_expects_33 rfl <|
  r_getR (ci := 8) (q := (RX8, TX8, 27)) (k := 1) dX8_expects_34 (by decide) rfl in_X8 (by decide) (Or.inl q2142) rfl <|
  r_bipush (v := 20) dX8_expects_37 rfl <|
  r_iconst (v := 3) dX8_expects_39 rfl <|
  r_iload dX8_expects_40 <|
  r_imul dX8_expects_42 <|
  r_iadd dX8_expects_43 <|
  r_iconst (v := 2) dX8_expects_44 rfl <|
  r_iadd dX8_expects_45 <|
  r_iald dX8_expects_46 <|
  r_aload_n (k := 0) dX8_expects_47 rfl <|
  r_iload_n (k := 2) dX8_expects_48 rfl <|
  r_aload_n (k := 0) dX8_expects_49 rfl <|
  r_getR (ci := 8) (q := (RX8, TX8, 27)) (k := 1) dX8_expects_50 (by decide) rfl in_X8 (by decide) (Or.inl q2142) rfl <|
  r_bipush (v := 20) dX8_expects_53 rfl <|
  r_iconst (v := 3) dX8_expects_55 rfl <|
  r_iload dX8_expects_56 <|
  r_imul dX8_expects_58 <|
  r_iadd dX8_expects_59 <|
  r_iconst (v := 1) dX8_expects_60 rfl <|
  r_iadd dX8_expects_61 <|
  r_iald dX8_expects_62 <|
  r_cV (Z := mX8_costOf) (ci := 8) (q := (RX8, TX8, 27)) dX8_expects_63 rfl (by decide +kernel) ⟨by decide, by decide⟩ (by decide) rfl rfl q2416 q2418 qs82 q127 q2419 (XS.out (noH _)) <|
  r_imul dX8_expects_66 <|
  r_goto (pt := 71) dX8_expects_67 (by decide) <|
  r_iadd dX8_expects_71 <|
  r_istore_n (k := 3) dX8_expects_72 rfl <|
  r_iinc (v := 1) dX8_expects_73 rfl <|
  r_goto (pt := 5) dX8_expects_76 (by decide) <|
  (fun _ _ _ H => H)))
-- CheekTownModel.best(I)I cuts [0]
def tX8_best_0 (d : Nat) (Q : Outcome → MH → Prop) (J : Nat → KT) : KT :=
  i_aload 0 <|
  i_aload 0 <|
  i_iload 1 <|
  i_call mX8_isLand d 2 (pV 8) (xOut Q) <|
  i_if_ne
  (i_const 0 <|
  i_putI 8 0 .int <|
  i_aload 0 <|
  i_getI 8 0 <|
  i_if_le
  (i_aload 0 <|
  i_iload 1 <|
  i_call mX8_bestOf d 2 (pV 8) (xOut Q) <|
  i_ret Q (some .int))
  (i_const 0 <|
  i_ret Q (some .int)))
  (i_const 1 <|
  i_putI 8 0 .int <|
  i_aload 0 <|
  i_getI 8 0 <|
  i_if_le
  (i_aload 0 <|
  i_iload 1 <|
  i_call mX8_bestOf d 2 (pV 8) (xOut Q) <|
  i_ret Q (some .int))
  (i_const 0 <|
  i_ret Q (some .int)))
theorem kX8_best_0 {d : Nat} {Q : Outcome → MH → Prop} : ∀ ls st h, tX8_best_0 d Q (fun pc ls st h => WPb mX8_best d pc ls st h Q) ls st h → WPb mX8_best d 0 ls st h Q :=
  r_aload_n (k := 0) dX8_best_0 rfl <|
  r_aload_n (k := 0) dX8_best_1 rfl <|
  r_iload_n (k := 1) dX8_best_2 rfl <|
  r_cV (Z := mX8_isLand) (ci := 8) (q := (RX8, TX8, 27)) dX8_best_3 rfl (by decide +kernel) ⟨by decide, by decide⟩ (by decide) rfl rfl q2427 q2429 qs83 q127 q2430 (XS.out (noH _)) <|
  r_if_ne (pt := 13) dX8_best_6 (by decide)
  (r_iconst (v := 0) dX8_best_13 rfl <|
  r_putI (ci := 8) (q := (RX8, TX8, 27)) (k := 0) tyX8 tyX8_ok nmX8 dX8_best_14 (by decide) rfl in_X8 (by decide) (Or.inl ⟨rfl, (Or.inl q2141)⟩) rfl rfl <|
  r_aload_n (k := 0) dX8_best_17 rfl <|
  r_getI (ci := 8) (q := (RX8, TX8, 27)) (k := 0) dX8_best_18 (by decide) rfl in_X8 (by decide) (Or.inl q2141) rfl <|
  r_if_le (pt := 28) dX8_best_21 (by decide)
  (r_aload_n (k := 0) dX8_best_28 rfl <|
  r_iload_n (k := 1) dX8_best_29 rfl <|
  r_cV (Z := mX8_bestOf) (ci := 8) (q := (RX8, TX8, 27)) dX8_best_30 rfl (by decide +kernel) ⟨by decide, by decide⟩ (by decide) rfl rfl q2541 q2543 qs96 q127 q2544 (XS.out (noH _)) <|
  r_ret rfl (Or.inl ⟨dX8_best_33, Or.inl rfl⟩))
  (r_iconst (v := 0) dX8_best_24 rfl <|
  r_goto (pt := 33) dX8_best_25 (by decide) <|
  r_ret rfl (Or.inl ⟨dX8_best_33, Or.inl rfl⟩)))
  (r_iconst (v := 1) dX8_best_9 rfl <|
  r_goto (pt := 14) dX8_best_10 (by decide) <|
  r_putI (ci := 8) (q := (RX8, TX8, 27)) (k := 0) tyX8 tyX8_ok nmX8 dX8_best_14 (by decide) rfl in_X8 (by decide) (Or.inl ⟨rfl, (Or.inl q2141)⟩) rfl rfl <|
  r_aload_n (k := 0) dX8_best_17 rfl <|
  r_getI (ci := 8) (q := (RX8, TX8, 27)) (k := 0) dX8_best_18 (by decide) rfl in_X8 (by decide) (Or.inl q2141) rfl <|
  r_if_le (pt := 28) dX8_best_21 (by decide)
  (r_aload_n (k := 0) dX8_best_28 rfl <|
  r_iload_n (k := 1) dX8_best_29 rfl <|
  r_cV (Z := mX8_bestOf) (ci := 8) (q := (RX8, TX8, 27)) dX8_best_30 rfl (by decide +kernel) ⟨by decide, by decide⟩ (by decide) rfl rfl q2541 q2543 qs96 q127 q2544 (XS.out (noH _)) <|
  r_ret rfl (Or.inl ⟨dX8_best_33, Or.inl rfl⟩))
  (r_iconst (v := 0) dX8_best_24 rfl <|
  r_goto (pt := 33) dX8_best_25 (by decide) <|
  r_ret rfl (Or.inl ⟨dX8_best_33, Or.inl rfl⟩)))
-- CheekTownModel.bestOf(I)I cuts [0, 4]
def tX8_bestOf_0 (d : Nat) (Q : Outcome → MH → Prop) (J : Nat → KT) : KT :=
  i_const 0 <|
  i_istore 2 <|
  i_const 1 <|
  i_istore 3 <|
  (J 4)
theorem kX8_bestOf_0 {d : Nat} {Q : Outcome → MH → Prop} : ∀ ls st h, tX8_bestOf_0 d Q (fun pc ls st h => WPb mX8_bestOf d pc ls st h Q) ls st h → WPb mX8_bestOf d 0 ls st h Q :=
  r_iconst (v := 0) dX8_bestOf_0 rfl <|
  r_istore_n (k := 2) dX8_bestOf_1 rfl <|
  r_iconst (v := 1) dX8_bestOf_2 rfl <|
  r_istore_n (k := 3) dX8_bestOf_3 rfl <|
  (fun _ _ _ H => H)
def tX8_bestOf_4 (d : Nat) (Q : Outcome → MH → Prop) (J : Nat → KT) : KT :=
  i_iload 3 <|
  i_const 32 <|
  i_icmp_ge
  (i_iload 2 <|
  i_ret Q (some .int))
  (i_aload 0 <|
  i_iload 1 <|
  i_iload 3 <|
  i_call mX8_expects d 3 (pV 8) (xOut Q) <|
  i_aload 0 <|
  i_iload 1 <|
  i_iload 2 <|
  i_call mX8_expects d 3 (pV 8) (xOut Q) <|
  i_icmp_ge
  (i_iinc 3 1 <|
  (J 4))
  (i_iload 3 <|
  i_istore 2 <|
  i_iinc 3 1 <|
  (J 4)))
theorem kX8_bestOf_4 {d : Nat} {Q : Outcome → MH → Prop} : ∀ ls st h, tX8_bestOf_4 d Q (fun pc ls st h => WPb mX8_bestOf d pc ls st h Q) ls st h → WPb mX8_bestOf d 4 ls st h Q :=
  r_iload_n (k := 3) dX8_bestOf_4 rfl <|
  r_bipush (v := 32) dX8_bestOf_5 rfl <|
  r_icmp_ge (pt := 33) dX8_bestOf_7 (by decide)
  (r_iload_n (k := 2) dX8_bestOf_33 rfl <|
  r_ret rfl (Or.inl ⟨dX8_bestOf_34, Or.inl rfl⟩))
  (r_aload_n (k := 0) dX8_bestOf_10 rfl <|
  r_iload_n (k := 1) dX8_bestOf_11 rfl <|
  r_iload_n (k := 3) dX8_bestOf_12 rfl <|
  r_cV (Z := mX8_expects) (ci := 8) (q := (RX8, TX8, 27)) dX8_bestOf_13 rfl (by decide +kernel) ⟨by decide, by decide⟩ (by decide) rfl rfl q2533 q2535 qs95 q127 q2536 (XS.out (noH _)) <|
  r_aload_n (k := 0) dX8_bestOf_16 rfl <|
  r_iload_n (k := 1) dX8_bestOf_17 rfl <|
  r_iload_n (k := 2) dX8_bestOf_18 rfl <|
  r_cV (Z := mX8_expects) (ci := 8) (q := (RX8, TX8, 27)) dX8_bestOf_19 rfl (by decide +kernel) ⟨by decide, by decide⟩ (by decide) rfl rfl q2533 q2535 qs95 q127 q2536 (XS.out (noH _)) <|
  r_icmp_ge (pt := 27) dX8_bestOf_22 (by decide)
  (r_iinc (v := 1) dX8_bestOf_27 rfl <|
  r_goto (pt := 4) dX8_bestOf_30 (by decide) <|
  (fun _ _ _ H => H))
  (r_iload_n (k := 3) dX8_bestOf_25 rfl <|
  r_istore_n (k := 2) dX8_bestOf_26 rfl <|
  r_iinc (v := 1) dX8_bestOf_27 rfl <|
  r_goto (pt := 4) dX8_bestOf_30 (by decide) <|
  (fun _ _ _ H => H)))
-- CheekTownModel.safest(Z)I cuts [0, 9]
def tX8_safest_0 (d : Nat) (Q : Outcome → MH → Prop) (J : Nat → KT) : KT :=
  i_aload 0 <|
  i_const 0 <|
  i_putI 8 0 .int <|
  i_const 0 <|
  i_istore 2 <|
  i_const 1 <|
  i_istore 3 <|
  (J 9)
theorem kX8_safest_0 {d : Nat} {Q : Outcome → MH → Prop} : ∀ ls st h, tX8_safest_0 d Q (fun pc ls st h => WPb mX8_safest d pc ls st h Q) ls st h → WPb mX8_safest d 0 ls st h Q :=
  r_aload_n (k := 0) dX8_safest_0 rfl <|
  r_iconst (v := 0) dX8_safest_1 rfl <|
  r_putI (ci := 8) (q := (RX8, TX8, 27)) (k := 0) tyX8 tyX8_ok nmX8 dX8_safest_2 (by decide) rfl in_X8 (by decide) (Or.inl ⟨rfl, (Or.inl q2141)⟩) rfl rfl <|
  r_iconst (v := 0) dX8_safest_5 rfl <|
  r_istore_n (k := 2) dX8_safest_6 rfl <|
  r_iconst (v := 1) dX8_safest_7 rfl <|
  r_istore_n (k := 3) dX8_safest_8 rfl <|
  (fun _ _ _ H => H)
def tX8_safest_9 (d : Nat) (Q : Outcome → MH → Prop) (J : Nat → KT) : KT :=
  i_iload 3 <|
  i_const 32 <|
  i_icmp_ge
  (i_iload 1 <|
  i_if_eq
  (i_iload 2 <|
  i_ret Q (some .int))
  (i_aload 0 <|
  i_iload 2 <|
  i_call mX8_dearest d 2 (pV 8) (xOut Q) <|
  i_ret Q (some .int)))
  (i_aload 0 <|
  i_iload 3 <|
  i_call mX8_dearest d 2 (pV 8) (xOut Q) <|
  i_aload 0 <|
  i_iload 2 <|
  i_call mX8_dearest d 2 (pV 8) (xOut Q) <|
  i_icmp_ge
  (i_iinc 3 1 <|
  (J 9))
  (i_iload 3 <|
  i_istore 2 <|
  i_iinc 3 1 <|
  (J 9)))
theorem kX8_safest_9 {d : Nat} {Q : Outcome → MH → Prop} : ∀ ls st h, tX8_safest_9 d Q (fun pc ls st h => WPb mX8_safest d pc ls st h Q) ls st h → WPb mX8_safest d 9 ls st h Q :=
  r_iload_n (k := 3) dX8_safest_9 rfl <|
  r_bipush (v := 32) dX8_safest_10 rfl <|
  r_icmp_ge (pt := 36) dX8_safest_12 (by decide)
  (r_iload_n (k := 1) dX8_safest_36 rfl <|
  r_if_eq (pt := 48) dX8_safest_37 (by decide)
  (r_iload_n (k := 2) dX8_safest_48 rfl <|
  r_ret rfl (Or.inl ⟨dX8_safest_49, Or.inl rfl⟩))
  (r_aload_n (k := 0) dX8_safest_40 rfl <|
  r_iload_n (k := 2) dX8_safest_41 rfl <|
  r_cV (Z := mX8_dearest) (ci := 8) (q := (RX8, TX8, 27)) dX8_safest_42 rfl (by decide +kernel) ⟨by decide, by decide⟩ (by decide) rfl rfl q2549 q2551 qs97 q127 q2552 (XS.out (noH _)) <|
  r_goto (pt := 49) dX8_safest_45 (by decide) <|
  r_ret rfl (Or.inl ⟨dX8_safest_49, Or.inl rfl⟩)))
  (r_aload_n (k := 0) dX8_safest_15 rfl <|
  r_iload_n (k := 3) dX8_safest_16 rfl <|
  r_cV (Z := mX8_dearest) (ci := 8) (q := (RX8, TX8, 27)) dX8_safest_17 rfl (by decide +kernel) ⟨by decide, by decide⟩ (by decide) rfl rfl q2549 q2551 qs97 q127 q2552 (XS.out (noH _)) <|
  r_aload_n (k := 0) dX8_safest_20 rfl <|
  r_iload_n (k := 2) dX8_safest_21 rfl <|
  r_cV (Z := mX8_dearest) (ci := 8) (q := (RX8, TX8, 27)) dX8_safest_22 rfl (by decide +kernel) ⟨by decide, by decide⟩ (by decide) rfl rfl q2549 q2551 qs97 q127 q2552 (XS.out (noH _)) <|
  r_icmp_ge (pt := 30) dX8_safest_25 (by decide)
  (r_iinc (v := 1) dX8_safest_30 rfl <|
  r_goto (pt := 9) dX8_safest_33 (by decide) <|
  (fun _ _ _ H => H))
  (r_iload_n (k := 3) dX8_safest_28 rfl <|
  r_istore_n (k := 2) dX8_safest_29 rfl <|
  r_iinc (v := 1) dX8_safest_30 rfl <|
  r_goto (pt := 9) dX8_safest_33 (by decide) <|
  (fun _ _ _ H => H)))
-- CheekTownModel.dearest(I)I cuts [0, 4]
def tX8_dearest_0 (d : Nat) (Q : Outcome → MH → Prop) (J : Nat → KT) : KT :=
  i_const 0 <|
  i_istore 2 <|
  i_const 0 <|
  i_istore 3 <|
  (J 4)
theorem kX8_dearest_0 {d : Nat} {Q : Outcome → MH → Prop} : ∀ ls st h, tX8_dearest_0 d Q (fun pc ls st h => WPb mX8_dearest d pc ls st h Q) ls st h → WPb mX8_dearest d 0 ls st h Q :=
  r_iconst (v := 0) dX8_dearest_0 rfl <|
  r_istore_n (k := 2) dX8_dearest_1 rfl <|
  r_iconst (v := 0) dX8_dearest_2 rfl <|
  r_istore_n (k := 3) dX8_dearest_3 rfl <|
  (fun _ _ _ H => H)
def tX8_dearest_4 (d : Nat) (Q : Outcome → MH → Prop) (J : Nat → KT) : KT :=
  i_iload 3 <|
  i_aload 0 <|
  i_getR 8 1 <|
  i_const 4 <|
  i_iald <|
  i_icmp_ge
  (i_iload 2 <|
  i_ret Q (some .int))
  (i_iload 2 <|
  i_aload 0 <|
  i_iload 1 <|
  i_aload 0 <|
  i_getR 8 1 <|
  i_const 20 <|
  i_const 3 <|
  i_iload 3 <|
  i_imul <|
  i_iadd <|
  i_const 1 <|
  i_iadd <|
  i_iald <|
  i_call mX8_costOf d 3 (pV 8) (xOut Q) <|
  i_call mX8_greater d 2 pS (xOut Q) <|
  i_istore 2 <|
  i_iinc 3 1 <|
  (J 4))
theorem kX8_dearest_4 {d : Nat} {Q : Outcome → MH → Prop} : ∀ ls st h, tX8_dearest_4 d Q (fun pc ls st h => WPb mX8_dearest d pc ls st h Q) ls st h → WPb mX8_dearest d 4 ls st h Q :=
  r_iload_n (k := 3) dX8_dearest_4 rfl <|
  r_aload_n (k := 0) dX8_dearest_5 rfl <|
  r_getR (ci := 8) (q := (RX8, TX8, 27)) (k := 1) dX8_dearest_6 (by decide) rfl in_X8 (by decide) (Or.inl q2142) rfl <|
  r_iconst (v := 4) dX8_dearest_9 rfl <|
  r_iald dX8_dearest_10 <|
  r_icmp_ge (pt := 43) dX8_dearest_11 (by decide)
  (r_iload_n (k := 2) dX8_dearest_43 rfl <|
  r_ret rfl (Or.inl ⟨dX8_dearest_44, Or.inl rfl⟩))
  (r_iload_n (k := 2) dX8_dearest_14 rfl <|
  r_aload_n (k := 0) dX8_dearest_15 rfl <|
  r_iload_n (k := 1) dX8_dearest_16 rfl <|
  r_aload_n (k := 0) dX8_dearest_17 rfl <|
  r_getR (ci := 8) (q := (RX8, TX8, 27)) (k := 1) dX8_dearest_18 (by decide) rfl in_X8 (by decide) (Or.inl q2142) rfl <|
  r_bipush (v := 20) dX8_dearest_21 rfl <|
  r_iconst (v := 3) dX8_dearest_23 rfl <|
  r_iload_n (k := 3) dX8_dearest_24 rfl <|
  r_imul dX8_dearest_25 <|
  r_iadd dX8_dearest_26 <|
  r_iconst (v := 1) dX8_dearest_27 rfl <|
  r_iadd dX8_dearest_28 <|
  r_iald dX8_dearest_29 <|
  r_cV (Z := mX8_costOf) (ci := 8) (q := (RX8, TX8, 27)) dX8_dearest_30 rfl (by decide +kernel) ⟨by decide, by decide⟩ (by decide) rfl rfl q2416 q2418 qs82 q127 q2419 (XS.out (noH _)) <|
  r_cS (Z := mX8_greater) dX8_dearest_33 rfl (by decide +kernel) ⟨by decide, by decide⟩ q2486 q2487 q127 q2488 (XS.out (noH _)) <|
  r_istore_n (k := 2) dX8_dearest_36 rfl <|
  r_iinc (v := 1) dX8_dearest_37 rfl <|
  r_goto (pt := 4) dX8_dearest_40 (by decide) <|
  (fun _ _ _ H => H))
-- CheekTownModel.odds(II)I cuts [0, 21]
def tX8_odds_0 (d : Nat) (Q : Outcome → MH → Prop) (J : Nat → KT) : KT :=
  i_aload 0 <|
  i_aload 0 <|
  i_iload 1 <|
  i_call mX8_isLand d 2 (pV 8) (xOut Q) <|
  i_if_eq
  (i_const 1 <|
  (J 21))
  (i_iload 2 <|
  i_call mX8_isCode d 1 pS (xOut Q) <|
  i_if_ne
  (i_const 0 <|
  (J 21))
  (i_const 1 <|
  (J 21)))
theorem kX8_odds_0 {d : Nat} {Q : Outcome → MH → Prop} : ∀ ls st h, tX8_odds_0 d Q (fun pc ls st h => WPb mX8_odds d pc ls st h Q) ls st h → WPb mX8_odds d 0 ls st h Q :=
  r_aload_n (k := 0) dX8_odds_0 rfl <|
  r_aload_n (k := 0) dX8_odds_1 rfl <|
  r_iload_n (k := 1) dX8_odds_2 rfl <|
  r_cV (Z := mX8_isLand) (ci := 8) (q := (RX8, TX8, 27)) dX8_odds_3 rfl (by decide +kernel) ⟨by decide, by decide⟩ (by decide) rfl rfl q2427 q2429 qs83 q127 q2430 (XS.out (noH _)) <|
  r_if_eq (pt := 16) dX8_odds_6 (by decide)
  (r_iconst (v := 1) dX8_odds_16 rfl <|
  r_goto (pt := 21) dX8_odds_17 (by decide) <|
  (fun _ _ _ H => H))
  (r_iload_n (k := 2) dX8_odds_9 rfl <|
  r_cS (Z := mX8_isCode) dX8_odds_10 rfl (by decide +kernel) ⟨by decide, by decide⟩ q2413 q2414 q127 q2415 (XS.out (noH _)) <|
  r_if_ne (pt := 20) dX8_odds_13 (by decide)
  (r_iconst (v := 0) dX8_odds_20 rfl <|
  (fun _ _ _ H => H))
  (r_iconst (v := 1) dX8_odds_16 rfl <|
  r_goto (pt := 21) dX8_odds_17 (by decide) <|
  (fun _ _ _ H => H)))
def tX8_odds_21 (d : Nat) (Q : Outcome → MH → Prop) (J : Nat → KT) : KT :=
  i_putI 8 0 .int <|
  i_aload 0 <|
  i_getI 8 0 <|
  i_if_gt
  (i_const 0 <|
  i_ret Q (some .int))
  (i_aload 0 <|
  i_iload 1 <|
  i_const (-1) <|
  i_call mX8_weight d 3 (pV 8) (xOut Q) <|
  i_if_ne
  (i_const 10000 <|
  i_aload 0 <|
  i_iload 1 <|
  i_iload 2 <|
  i_call mX8_weight d 3 (pV 8) (xOut Q) <|
  i_imul <|
  i_aload 0 <|
  i_iload 1 <|
  i_const (-1) <|
  i_call mX8_weight d 3 (pV 8) (xOut Q) <|
  i_idiv <|
  i_ret Q (some .int))
  (i_const 0 <|
  i_ret Q (some .int)))
theorem kX8_odds_21 {d : Nat} {Q : Outcome → MH → Prop} : ∀ ls st h, tX8_odds_21 d Q (fun pc ls st h => WPb mX8_odds d pc ls st h Q) ls st h → WPb mX8_odds d 21 ls st h Q :=
  r_putI (ci := 8) (q := (RX8, TX8, 27)) (k := 0) tyX8 tyX8_ok nmX8 dX8_odds_21 (by decide) rfl in_X8 (by decide) (Or.inl ⟨rfl, (Or.inl q2141)⟩) rfl rfl <|
  r_aload_n (k := 0) dX8_odds_24 rfl <|
  r_getI (ci := 8) (q := (RX8, TX8, 27)) (k := 0) dX8_odds_25 (by decide) rfl in_X8 (by decide) (Or.inl q2141) rfl <|
  r_if_gt (pt := 40) dX8_odds_28 (by decide)
  (r_iconst (v := 0) dX8_odds_40 rfl <|
  r_ret rfl (Or.inl ⟨dX8_odds_41, Or.inl rfl⟩))
  (r_aload_n (k := 0) dX8_odds_31 rfl <|
  r_iload_n (k := 1) dX8_odds_32 rfl <|
  r_iconst (v := (-1)) dX8_odds_33 rfl <|
  r_cV (Z := mX8_weight) (ci := 8) (q := (RX8, TX8, 27)) dX8_odds_34 rfl (by decide +kernel) ⟨by decide, by decide⟩ (by decide) rfl rfl q2431 q2433 qs84 q127 q2434 (XS.out (noH _)) <|
  r_if_ne (pt := 42) dX8_odds_37 (by decide)
  (r_sipush (v := 10000) dX8_odds_42 rfl <|
  r_aload_n (k := 0) dX8_odds_45 rfl <|
  r_iload_n (k := 1) dX8_odds_46 rfl <|
  r_iload_n (k := 2) dX8_odds_47 rfl <|
  r_cV (Z := mX8_weight) (ci := 8) (q := (RX8, TX8, 27)) dX8_odds_48 rfl (by decide +kernel) ⟨by decide, by decide⟩ (by decide) rfl rfl q2431 q2433 qs84 q127 q2434 (XS.out (noH _)) <|
  r_imul dX8_odds_51 <|
  r_aload_n (k := 0) dX8_odds_52 rfl <|
  r_iload_n (k := 1) dX8_odds_53 rfl <|
  r_iconst (v := (-1)) dX8_odds_54 rfl <|
  r_cV (Z := mX8_weight) (ci := 8) (q := (RX8, TX8, 27)) dX8_odds_55 rfl (by decide +kernel) ⟨by decide, by decide⟩ (by decide) rfl rfl q2431 q2433 qs84 q127 q2434 (XS.out (noH _)) <|
  r_idiv dX8_odds_58 <|
  r_ret rfl (Or.inl ⟨dX8_odds_59, Or.inl rfl⟩))
  (r_iconst (v := 0) dX8_odds_40 rfl <|
  r_ret rfl (Or.inl ⟨dX8_odds_41, Or.inl rfl⟩)))
-- CheekTownModel.from(Z)I cuts [0, 24, 51, 82]
def tX8_from_0 (d : Nat) (Q : Outcome → MH → Prop) (J : Nat → KT) : KT :=
  i_aload 0 <|
  i_getI 8 8 <|
  i_istore 2 <|
  i_aload 0 <|
  i_const 0 <|
  i_putI 8 8 .int <|
  i_iload 2 <|
  i_const 4 <|
  i_icmp_gt
  (i_const 0 <|
  i_istore 3 <|
  i_const 0 <|
  i_istore 4 <|
  (J 24))
  (i_const 1 <|
  i_istore 3 <|
  i_const 0 <|
  i_istore 4 <|
  (J 24))
theorem kX8_from_0 {d : Nat} {Q : Outcome → MH → Prop} : ∀ ls st h, tX8_from_0 d Q (fun pc ls st h => WPb mX8_from d pc ls st h Q) ls st h → WPb mX8_from d 0 ls st h Q :=
  r_aload_n (k := 0) dX8_from_0 rfl <|
  r_getI (ci := 8) (q := (RX8, TX8, 27)) (k := 8) dX8_from_1 (by decide) rfl in_X8 (by decide) (Or.inl q2149) rfl <|
  r_istore_n (k := 2) dX8_from_4 rfl <|
  r_aload_n (k := 0) dX8_from_5 rfl <|
  r_iconst (v := 0) dX8_from_6 rfl <|
  r_putI (ci := 8) (q := (RX8, TX8, 27)) (k := 8) tyX8 tyX8_ok nmX8 dX8_from_7 (by decide) rfl in_X8 (by decide) (Or.inl ⟨rfl, (Or.inl q2149)⟩) rfl rfl <|
  r_iload_n (k := 2) dX8_from_10 rfl <|
  r_iconst (v := 4) dX8_from_11 rfl <|
  r_icmp_gt (pt := 19) dX8_from_12 (by decide)
  (r_iconst (v := 0) dX8_from_19 rfl <|
  r_istore_n (k := 3) dX8_from_20 rfl <|
  r_iconst (v := 0) dX8_from_21 rfl <|
  r_istore dX8_from_22 <|
  (fun _ _ _ H => H))
  (r_iconst (v := 1) dX8_from_15 rfl <|
  r_goto (pt := 20) dX8_from_16 (by decide) <|
  r_istore_n (k := 3) dX8_from_20 rfl <|
  r_iconst (v := 0) dX8_from_21 rfl <|
  r_istore dX8_from_22 <|
  (fun _ _ _ H => H))
def tX8_from_24 (d : Nat) (Q : Outcome → MH → Prop) (J : Nat → KT) : KT :=
  i_iload 4 <|
  i_iload 2 <|
  i_icmp_ge
  ((J 51))
  (i_iload 3 <|
  i_if_eq
  ((J 51))
  (i_aload 0 <|
  i_getR 8 7 <|
  i_iload 4 <|
  i_iald <|
  i_call mX8_isCode d 1 pS (xOut Q) <|
  i_istore 3 <|
  i_iinc 4 1 <|
  (J 24)))
theorem kX8_from_24 {d : Nat} {Q : Outcome → MH → Prop} : ∀ ls st h, tX8_from_24 d Q (fun pc ls st h => WPb mX8_from d pc ls st h Q) ls st h → WPb mX8_from d 24 ls st h Q :=
  r_iload dX8_from_24 <|
  r_iload_n (k := 2) dX8_from_26 rfl <|
  r_icmp_ge (pt := 51) dX8_from_27 (by decide)
  ((fun _ _ _ H => H))
  (r_iload_n (k := 3) dX8_from_30 rfl <|
  r_if_eq (pt := 51) dX8_from_31 (by decide)
  ((fun _ _ _ H => H))
  (r_aload_n (k := 0) dX8_from_34 rfl <|
  r_getR (ci := 8) (q := (RX8, TX8, 27)) (k := 7) dX8_from_35 (by decide) rfl in_X8 (by decide) (Or.inl q2148) rfl <|
  r_iload dX8_from_38 <|
  r_iald dX8_from_40 <|
  r_cS (Z := mX8_isCode) dX8_from_41 rfl (by decide +kernel) ⟨by decide, by decide⟩ q2413 q2414 q127 q2415 (XS.out (noH _)) <|
  r_istore_n (k := 3) dX8_from_44 rfl <|
  r_iinc (v := 1) dX8_from_45 rfl <|
  r_goto (pt := 24) dX8_from_48 (by decide) <|
  (fun _ _ _ H => H)))
def tX8_from_51 (d : Nat) (Q : Outcome → MH → Prop) (J : Nat → KT) : KT :=
  i_aload 0 <|
  i_iload 3 <|
  i_if_eq
  (i_const 1 <|
  i_putI 8 0 .int <|
  i_aload 0 <|
  i_getI 8 0 <|
  i_if_le
  (i_const 0 <|
  i_istore 4 <|
  i_const (-1) <|
  i_istore 5 <|
  i_const 0 <|
  i_istore 6 <|
  (J 82))
  (i_const 0 <|
  i_ret Q (some .int)))
  (i_const 0 <|
  i_putI 8 0 .int <|
  i_aload 0 <|
  i_getI 8 0 <|
  i_if_le
  (i_const 0 <|
  i_istore 4 <|
  i_const (-1) <|
  i_istore 5 <|
  i_const 0 <|
  i_istore 6 <|
  (J 82))
  (i_const 0 <|
  i_ret Q (some .int)))
theorem kX8_from_51 {d : Nat} {Q : Outcome → MH → Prop} : ∀ ls st h, tX8_from_51 d Q (fun pc ls st h => WPb mX8_from d pc ls st h Q) ls st h → WPb mX8_from d 51 ls st h Q :=
  r_aload_n (k := 0) dX8_from_51 rfl <|
  r_iload_n (k := 3) dX8_from_52 rfl <|
  r_if_eq (pt := 60) dX8_from_53 (by decide)
  (r_iconst (v := 1) dX8_from_60 rfl <|
  r_putI (ci := 8) (q := (RX8, TX8, 27)) (k := 0) tyX8 tyX8_ok nmX8 dX8_from_61 (by decide) rfl in_X8 (by decide) (Or.inl ⟨rfl, (Or.inl q2141)⟩) rfl rfl <|
  r_aload_n (k := 0) dX8_from_64 rfl <|
  r_getI (ci := 8) (q := (RX8, TX8, 27)) (k := 0) dX8_from_65 (by decide) rfl in_X8 (by decide) (Or.inl q2141) rfl <|
  r_if_le (pt := 73) dX8_from_68 (by decide)
  (r_iconst (v := 0) dX8_from_73 rfl <|
  r_istore dX8_from_74 <|
  r_iconst (v := (-1)) dX8_from_76 rfl <|
  r_istore dX8_from_77 <|
  r_iconst (v := 0) dX8_from_79 rfl <|
  r_istore dX8_from_80 <|
  (fun _ _ _ H => H))
  (r_iconst (v := 0) dX8_from_71 rfl <|
  r_ret rfl (Or.inl ⟨dX8_from_72, Or.inl rfl⟩)))
  (r_iconst (v := 0) dX8_from_56 rfl <|
  r_goto (pt := 61) dX8_from_57 (by decide) <|
  r_putI (ci := 8) (q := (RX8, TX8, 27)) (k := 0) tyX8 tyX8_ok nmX8 dX8_from_61 (by decide) rfl in_X8 (by decide) (Or.inl ⟨rfl, (Or.inl q2141)⟩) rfl rfl <|
  r_aload_n (k := 0) dX8_from_64 rfl <|
  r_getI (ci := 8) (q := (RX8, TX8, 27)) (k := 0) dX8_from_65 (by decide) rfl in_X8 (by decide) (Or.inl q2141) rfl <|
  r_if_le (pt := 73) dX8_from_68 (by decide)
  (r_iconst (v := 0) dX8_from_73 rfl <|
  r_istore dX8_from_74 <|
  r_iconst (v := (-1)) dX8_from_76 rfl <|
  r_istore dX8_from_77 <|
  r_iconst (v := 0) dX8_from_79 rfl <|
  r_istore dX8_from_80 <|
  (fun _ _ _ H => H))
  (r_iconst (v := 0) dX8_from_71 rfl <|
  r_ret rfl (Or.inl ⟨dX8_from_72, Or.inl rfl⟩)))
def tX8_from_82 (d : Nat) (Q : Outcome → MH → Prop) (J : Nat → KT) : KT :=
  i_iload 6 <|
  i_aload 0 <|
  i_getR 8 1 <|
  i_const 3 <|
  i_iald <|
  i_icmp_ge
  (i_iload 1 <|
  i_if_eq
  (i_iload 4 <|
  i_ret Q (some .int))
  (i_iload 5 <|
  i_ret Q (some .int)))
  (i_aload 0 <|
  i_iload 6 <|
  i_iload 2 <|
  i_const 0 <|
  i_call mX8_likely d 4 (pV 8) (xOut Q) <|
  i_lconst 0 <|
  i_lcmp <|
  i_if_ne
  (i_iload 4 <|
  i_const 1 <|
  i_iload 6 <|
  i_ishl <|
  i_ior <|
  i_istore 4 <|
  i_iload 5 <|
  i_const (-1) <|
  i_icmp_eq
  (i_iload 6 <|
  i_istore 5 <|
  i_iinc 6 1 <|
  (J 82))
  (i_aload 0 <|
  i_iload 6 <|
  i_iload 2 <|
  i_const 0 <|
  i_call mX8_likely d 4 (pV 8) (xOut Q) <|
  i_aload 0 <|
  i_iload 5 <|
  i_iload 2 <|
  i_const 1 <|
  i_call mX8_likely d 4 (pV 8) (xOut Q) <|
  i_lmul <|
  i_aload 0 <|
  i_iload 5 <|
  i_iload 2 <|
  i_const 0 <|
  i_call mX8_likely d 4 (pV 8) (xOut Q) <|
  i_aload 0 <|
  i_iload 6 <|
  i_iload 2 <|
  i_const 1 <|
  i_call mX8_likely d 4 (pV 8) (xOut Q) <|
  i_lmul <|
  i_lcmp <|
  i_if_le
  (i_iinc 6 1 <|
  (J 82))
  (i_iload 6 <|
  i_istore 5 <|
  i_iinc 6 1 <|
  (J 82))))
  (i_iinc 6 1 <|
  (J 82)))
theorem kX8_from_82 {d : Nat} {Q : Outcome → MH → Prop} : ∀ ls st h, tX8_from_82 d Q (fun pc ls st h => WPb mX8_from d pc ls st h Q) ls st h → WPb mX8_from d 82 ls st h Q :=
  r_iload dX8_from_82 <|
  r_aload_n (k := 0) dX8_from_84 rfl <|
  r_getR (ci := 8) (q := (RX8, TX8, 27)) (k := 1) dX8_from_85 (by decide) rfl in_X8 (by decide) (Or.inl q2142) rfl <|
  r_iconst (v := 3) dX8_from_88 rfl <|
  r_iald dX8_from_89 <|
  r_icmp_ge (pt := 172) dX8_from_90 (by decide)
  (r_iload_n (k := 1) dX8_from_172 rfl <|
  r_if_eq (pt := 181) dX8_from_173 (by decide)
  (r_iload dX8_from_181 <|
  r_ret rfl (Or.inl ⟨dX8_from_183, Or.inl rfl⟩))
  (r_iload dX8_from_176 <|
  r_goto (pt := 183) dX8_from_178 (by decide) <|
  r_ret rfl (Or.inl ⟨dX8_from_183, Or.inl rfl⟩)))
  (r_aload_n (k := 0) dX8_from_93 rfl <|
  r_iload dX8_from_94 <|
  r_iload_n (k := 2) dX8_from_96 rfl <|
  r_iconst (v := 0) dX8_from_97 rfl <|
  r_cV (Z := mX8_likely) (ci := 8) (q := (RX8, TX8, 27)) dX8_from_98 rfl (by decide +kernel) ⟨by decide, by decide⟩ (by decide) rfl rfl q2561 q2563 qs98 q127 q2564 (XS.out (noH _)) <|
  r_lconst (v := 0) dX8_from_101 rfl <|
  r_lcmp dX8_from_102 <|
  r_if_ne (pt := 109) dX8_from_103 (by decide)
  (r_iload dX8_from_109 <|
  r_iconst (v := 1) dX8_from_111 rfl <|
  r_iload dX8_from_112 <|
  r_ishl dX8_from_114 <|
  r_ior dX8_from_115 <|
  r_istore dX8_from_116 <|
  r_iload dX8_from_118 <|
  r_iconst (v := (-1)) dX8_from_120 rfl <|
  r_icmp_eq (pt := 162) dX8_from_121 (by decide)
  (r_iload dX8_from_162 <|
  r_istore dX8_from_164 <|
  r_iinc (v := 1) dX8_from_166 rfl <|
  r_goto (pt := 82) dX8_from_169 (by decide) <|
  (fun _ _ _ H => H))
  (r_aload_n (k := 0) dX8_from_124 rfl <|
  r_iload dX8_from_125 <|
  r_iload_n (k := 2) dX8_from_127 rfl <|
  r_iconst (v := 0) dX8_from_128 rfl <|
  r_cV (Z := mX8_likely) (ci := 8) (q := (RX8, TX8, 27)) dX8_from_129 rfl (by decide +kernel) ⟨by decide, by decide⟩ (by decide) rfl rfl q2561 q2563 qs98 q127 q2564 (XS.out (noH _)) <|
  r_aload_n (k := 0) dX8_from_132 rfl <|
  r_iload dX8_from_133 <|
  r_iload_n (k := 2) dX8_from_135 rfl <|
  r_iconst (v := 1) dX8_from_136 rfl <|
  r_cV (Z := mX8_likely) (ci := 8) (q := (RX8, TX8, 27)) dX8_from_137 rfl (by decide +kernel) ⟨by decide, by decide⟩ (by decide) rfl rfl q2561 q2563 qs98 q127 q2564 (XS.out (noH _)) <|
  r_lmul dX8_from_140 <|
  r_aload_n (k := 0) dX8_from_141 rfl <|
  r_iload dX8_from_142 <|
  r_iload_n (k := 2) dX8_from_144 rfl <|
  r_iconst (v := 0) dX8_from_145 rfl <|
  r_cV (Z := mX8_likely) (ci := 8) (q := (RX8, TX8, 27)) dX8_from_146 rfl (by decide +kernel) ⟨by decide, by decide⟩ (by decide) rfl rfl q2561 q2563 qs98 q127 q2564 (XS.out (noH _)) <|
  r_aload_n (k := 0) dX8_from_149 rfl <|
  r_iload dX8_from_150 <|
  r_iload_n (k := 2) dX8_from_152 rfl <|
  r_iconst (v := 1) dX8_from_153 rfl <|
  r_cV (Z := mX8_likely) (ci := 8) (q := (RX8, TX8, 27)) dX8_from_154 rfl (by decide +kernel) ⟨by decide, by decide⟩ (by decide) rfl rfl q2561 q2563 qs98 q127 q2564 (XS.out (noH _)) <|
  r_lmul dX8_from_157 <|
  r_lcmp dX8_from_158 <|
  r_if_le (pt := 166) dX8_from_159 (by decide)
  (r_iinc (v := 1) dX8_from_166 rfl <|
  r_goto (pt := 82) dX8_from_169 (by decide) <|
  (fun _ _ _ H => H))
  (r_iload dX8_from_162 <|
  r_istore dX8_from_164 <|
  r_iinc (v := 1) dX8_from_166 rfl <|
  r_goto (pt := 82) dX8_from_169 (by decide) <|
  (fun _ _ _ H => H))))
  (r_goto (pt := 166) dX8_from_106 (by decide) <|
  r_iinc (v := 1) dX8_from_166 rfl <|
  r_goto (pt := 82) dX8_from_169 (by decide) <|
  (fun _ _ _ H => H)))
-- CheekTownModel.likely(IIZ)J cuts [0, 6]
def tX8_likely_0 (d : Nat) (Q : Outcome → MH → Prop) (J : Nat → KT) : KT :=
  i_lconst 1 <|
  i_lstore 4 <|
  i_const 0 <|
  i_istore 6 <|
  (J 6)
theorem kX8_likely_0 {d : Nat} {Q : Outcome → MH → Prop} : ∀ ls st h, tX8_likely_0 d Q (fun pc ls st h => WPb mX8_likely d pc ls st h Q) ls st h → WPb mX8_likely d 0 ls st h Q :=
  r_lconst (v := 1) dX8_likely_0 rfl <|
  r_lstore dX8_likely_1 <|
  r_iconst (v := 0) dX8_likely_3 rfl <|
  r_istore dX8_likely_4 <|
  (fun _ _ _ H => H)
def tX8_likely_6 (d : Nat) (Q : Outcome → MH → Prop) (J : Nat → KT) : KT :=
  i_iload 6 <|
  i_iload 2 <|
  i_icmp_ge
  (i_aload 0 <|
  i_iload 1 <|
  i_const (-1) <|
  i_call mX8_weight d 3 (pV 8) (xOut Q) <|
  i_if_ne
  (i_lload 4 <|
  i_ret Q (some .long))
  (i_iload 3 <|
  i_if_ne
  (i_lload 4 <|
  i_ret Q (some .long))
  (i_lconst 0 <|
  i_ret Q (some .long))))
  (i_lload 4 <|
  i_aload 0 <|
  i_iload 1 <|
  i_iload 3 <|
  i_if_eq
  (i_aload 0 <|
  i_getR 8 7 <|
  i_iload 6 <|
  i_iald <|
  i_call mX8_weight d 3 (pV 8) (xOut Q) <|
  i_i2l <|
  i_lmul <|
  i_lstore 4 <|
  i_iinc 6 1 <|
  (J 6))
  (i_const (-1) <|
  i_call mX8_weight d 3 (pV 8) (xOut Q) <|
  i_i2l <|
  i_lmul <|
  i_lstore 4 <|
  i_iinc 6 1 <|
  (J 6)))
theorem kX8_likely_6 {d : Nat} {Q : Outcome → MH → Prop} : ∀ ls st h, tX8_likely_6 d Q (fun pc ls st h => WPb mX8_likely d pc ls st h Q) ls st h → WPb mX8_likely d 6 ls st h Q :=
  r_iload dX8_likely_6 <|
  r_iload_n (k := 2) dX8_likely_8 rfl <|
  r_icmp_ge (pt := 44) dX8_likely_9 (by decide)
  (r_aload_n (k := 0) dX8_likely_44 rfl <|
  r_iload_n (k := 1) dX8_likely_45 rfl <|
  r_iconst (v := (-1)) dX8_likely_46 rfl <|
  r_cV (Z := mX8_weight) (ci := 8) (q := (RX8, TX8, 27)) dX8_likely_47 rfl (by decide +kernel) ⟨by decide, by decide⟩ (by decide) rfl rfl q2431 q2433 qs84 q127 q2434 (XS.out (noH _)) <|
  r_if_ne (pt := 61) dX8_likely_50 (by decide)
  (r_lload dX8_likely_61 <|
  r_ret rfl (Or.inr (Or.inl ⟨dX8_likely_63, rfl⟩)))
  (r_iload_n (k := 3) dX8_likely_53 rfl <|
  r_if_ne (pt := 61) dX8_likely_54 (by decide)
  (r_lload dX8_likely_61 <|
  r_ret rfl (Or.inr (Or.inl ⟨dX8_likely_63, rfl⟩)))
  (r_lconst (v := 0) dX8_likely_57 rfl <|
  r_goto (pt := 63) dX8_likely_58 (by decide) <|
  r_ret rfl (Or.inr (Or.inl ⟨dX8_likely_63, rfl⟩)))))
  (r_lload dX8_likely_12 <|
  r_aload_n (k := 0) dX8_likely_14 rfl <|
  r_iload_n (k := 1) dX8_likely_15 rfl <|
  r_iload_n (k := 3) dX8_likely_16 rfl <|
  r_if_eq (pt := 24) dX8_likely_17 (by decide)
  (r_aload_n (k := 0) dX8_likely_24 rfl <|
  r_getR (ci := 8) (q := (RX8, TX8, 27)) (k := 7) dX8_likely_25 (by decide) rfl in_X8 (by decide) (Or.inl q2148) rfl <|
  r_iload dX8_likely_28 <|
  r_iald dX8_likely_30 <|
  r_cV (Z := mX8_weight) (ci := 8) (q := (RX8, TX8, 27)) dX8_likely_31 rfl (by decide +kernel) ⟨by decide, by decide⟩ (by decide) rfl rfl q2431 q2433 qs84 q127 q2434 (XS.out (noH _)) <|
  r_i2l dX8_likely_34 <|
  r_lmul dX8_likely_35 <|
  r_lstore dX8_likely_36 <|
  r_iinc (v := 1) dX8_likely_38 rfl <|
  r_goto (pt := 6) dX8_likely_41 (by decide) <|
  (fun _ _ _ H => H))
  (r_iconst (v := (-1)) dX8_likely_20 rfl <|
  r_goto (pt := 31) dX8_likely_21 (by decide) <|
  r_cV (Z := mX8_weight) (ci := 8) (q := (RX8, TX8, 27)) dX8_likely_31 rfl (by decide +kernel) ⟨by decide, by decide⟩ (by decide) rfl rfl q2431 q2433 qs84 q127 q2434 (XS.out (noH _)) <|
  r_i2l dX8_likely_34 <|
  r_lmul dX8_likely_35 <|
  r_lstore dX8_likely_36 <|
  r_iinc (v := 1) dX8_likely_38 rfl <|
  r_goto (pt := 6) dX8_likely_41 (by decide) <|
  (fun _ _ _ H => H)))
-- CheekTownModel.worth()I cuts [0, 13]
def tX8_worth_0 (d : Nat) (Q : Outcome → MH → Prop) (J : Nat → KT) : KT :=
  i_aload 0 <|
  i_const 0 <|
  i_putI 8 0 .int <|
  i_aload 0 <|
  i_const 0 <|
  i_call mX8_expectsAll d 2 (pV 8) (xOut Q) <|
  i_istore 1 <|
  i_const 1 <|
  i_istore 2 <|
  (J 13)
theorem kX8_worth_0 {d : Nat} {Q : Outcome → MH → Prop} : ∀ ls st h, tX8_worth_0 d Q (fun pc ls st h => WPb mX8_worth d pc ls st h Q) ls st h → WPb mX8_worth d 0 ls st h Q :=
  r_aload_n (k := 0) dX8_worth_0 rfl <|
  r_iconst (v := 0) dX8_worth_1 rfl <|
  r_putI (ci := 8) (q := (RX8, TX8, 27)) (k := 0) tyX8 tyX8_ok nmX8 dX8_worth_2 (by decide) rfl in_X8 (by decide) (Or.inl ⟨rfl, (Or.inl q2141)⟩) rfl rfl <|
  r_aload_n (k := 0) dX8_worth_5 rfl <|
  r_iconst (v := 0) dX8_worth_6 rfl <|
  r_cV (Z := mX8_expectsAll) (ci := 8) (q := (RX8, TX8, 27)) dX8_worth_7 rfl (by decide +kernel) ⟨by decide, by decide⟩ (by decide) rfl rfl q2569 q2571 qs99 q127 q2572 (XS.out (noH _)) <|
  r_istore_n (k := 1) dX8_worth_10 rfl <|
  r_iconst (v := 1) dX8_worth_11 rfl <|
  r_istore_n (k := 2) dX8_worth_12 rfl <|
  (fun _ _ _ H => H)
def tX8_worth_13 (d : Nat) (Q : Outcome → MH → Prop) (J : Nat → KT) : KT :=
  i_iload 2 <|
  i_const 32 <|
  i_icmp_ge
  (i_iload 1 <|
  i_aload 0 <|
  i_const (-1) <|
  i_call mX8_expectsAll d 2 (pV 8) (xOut Q) <|
  i_isub <|
  i_ret Q (some .int))
  (i_iload 1 <|
  i_aload 0 <|
  i_iload 2 <|
  i_call mX8_expectsAll d 2 (pV 8) (xOut Q) <|
  i_call mX8_lesser d 2 pS (xOut Q) <|
  i_istore 1 <|
  i_iinc 2 1 <|
  (J 13))
theorem kX8_worth_13 {d : Nat} {Q : Outcome → MH → Prop} : ∀ ls st h, tX8_worth_13 d Q (fun pc ls st h => WPb mX8_worth d pc ls st h Q) ls st h → WPb mX8_worth d 13 ls st h Q :=
  r_iload_n (k := 2) dX8_worth_13 rfl <|
  r_bipush (v := 32) dX8_worth_14 rfl <|
  r_icmp_ge (pt := 35) dX8_worth_16 (by decide)
  (r_iload_n (k := 1) dX8_worth_35 rfl <|
  r_aload_n (k := 0) dX8_worth_36 rfl <|
  r_iconst (v := (-1)) dX8_worth_37 rfl <|
  r_cV (Z := mX8_expectsAll) (ci := 8) (q := (RX8, TX8, 27)) dX8_worth_38 rfl (by decide +kernel) ⟨by decide, by decide⟩ (by decide) rfl rfl q2569 q2571 qs99 q127 q2572 (XS.out (noH _)) <|
  r_isub dX8_worth_41 <|
  r_ret rfl (Or.inl ⟨dX8_worth_42, Or.inl rfl⟩))
  (r_iload_n (k := 1) dX8_worth_19 rfl <|
  r_aload_n (k := 0) dX8_worth_20 rfl <|
  r_iload_n (k := 2) dX8_worth_21 rfl <|
  r_cV (Z := mX8_expectsAll) (ci := 8) (q := (RX8, TX8, 27)) dX8_worth_22 rfl (by decide +kernel) ⟨by decide, by decide⟩ (by decide) rfl rfl q2569 q2571 qs99 q127 q2572 (XS.out (noH _)) <|
  r_cS (Z := mX8_lesser) dX8_worth_25 rfl (by decide +kernel) ⟨by decide, by decide⟩ q2483 q2484 q127 q2485 (XS.out (noH _)) <|
  r_istore_n (k := 1) dX8_worth_28 rfl <|
  r_iinc (v := 1) dX8_worth_29 rfl <|
  r_goto (pt := 13) dX8_worth_32 (by decide) <|
  (fun _ _ _ H => H))
-- CheekTownModel.expectsAll(I)I cuts [0, 4]
def tX8_expectsAll_0 (d : Nat) (Q : Outcome → MH → Prop) (J : Nat → KT) : KT :=
  i_const 0 <|
  i_istore 2 <|
  i_const 0 <|
  i_istore 3 <|
  (J 4)
theorem kX8_expectsAll_0 {d : Nat} {Q : Outcome → MH → Prop} : ∀ ls st h, tX8_expectsAll_0 d Q (fun pc ls st h => WPb mX8_expectsAll d pc ls st h Q) ls st h → WPb mX8_expectsAll d 0 ls st h Q :=
  r_iconst (v := 0) dX8_expectsAll_0 rfl <|
  r_istore_n (k := 2) dX8_expectsAll_1 rfl <|
  r_iconst (v := 0) dX8_expectsAll_2 rfl <|
  r_istore_n (k := 3) dX8_expectsAll_3 rfl <|
  (fun _ _ _ H => H)
def tX8_expectsAll_4 (d : Nat) (Q : Outcome → MH → Prop) (J : Nat → KT) : KT :=
  i_iload 3 <|
  i_aload 0 <|
  i_getR 8 1 <|
  i_const 3 <|
  i_iald <|
  i_icmp_ge
  (i_iload 2 <|
  i_ret Q (some .int))
  (i_iload 2 <|
  i_aload 0 <|
  i_iload 3 <|
  i_call mX8_peopleOf d 2 (pV 8) (xOut Q) <|
  i_aload 0 <|
  i_iload 3 <|
  i_iload 1 <|
  i_const (-1) <|
  i_icmp_ne
  (i_iload 1 <|
  i_call mX8_expects d 3 (pV 8) (xOut Q) <|
  i_imul <|
  i_iadd <|
  i_istore 2 <|
  i_iinc 3 1 <|
  (J 4))
  (i_aload 0 <|
  i_iload 3 <|
  i_call mX8_bestOf d 2 (pV 8) (xOut Q) <|
  i_call mX8_expects d 3 (pV 8) (xOut Q) <|
  i_imul <|
  i_iadd <|
  i_istore 2 <|
  i_iinc 3 1 <|
  (J 4)))
theorem kX8_expectsAll_4 {d : Nat} {Q : Outcome → MH → Prop} : ∀ ls st h, tX8_expectsAll_4 d Q (fun pc ls st h => WPb mX8_expectsAll d pc ls st h Q) ls st h → WPb mX8_expectsAll d 4 ls st h Q :=
  r_iload_n (k := 3) dX8_expectsAll_4 rfl <|
  r_aload_n (k := 0) dX8_expectsAll_5 rfl <|
  r_getR (ci := 8) (q := (RX8, TX8, 27)) (k := 1) dX8_expectsAll_6 (by decide) rfl in_X8 (by decide) (Or.inl q2142) rfl <|
  r_iconst (v := 3) dX8_expectsAll_9 rfl <|
  r_iald dX8_expectsAll_10 <|
  r_icmp_ge (pt := 48) dX8_expectsAll_11 (by decide)
  (r_iload_n (k := 2) dX8_expectsAll_48 rfl <|
  r_ret rfl (Or.inl ⟨dX8_expectsAll_49, Or.inl rfl⟩))
  (r_iload_n (k := 2) dX8_expectsAll_14 rfl <|
  r_aload_n (k := 0) dX8_expectsAll_15 rfl <|
  r_iload_n (k := 3) dX8_expectsAll_16 rfl <|
  r_cV (Z := mX8_peopleOf) (ci := 8) (q := (RX8, TX8, 27)) dX8_expectsAll_17 rfl (by decide +kernel) ⟨by decide, by decide⟩ (by decide) rfl rfl q2573 q2575 qs100 q127 q2576 (XS.out (noH _)) <|
  r_aload_n (k := 0) dX8_expectsAll_20 rfl <|
  r_iload_n (k := 3) dX8_expectsAll_21 rfl <|
  r_iload_n (k := 1) dX8_expectsAll_22 rfl <|
  r_iconst (v := (-1)) dX8_expectsAll_23 rfl <|
  r_icmp_ne (pt := 35) dX8_expectsAll_24 (by decide)
  (r_iload_n (k := 1) dX8_expectsAll_35 rfl <|
  r_cV (Z := mX8_expects) (ci := 8) (q := (RX8, TX8, 27)) dX8_expectsAll_36 rfl (by decide +kernel) ⟨by decide, by decide⟩ (by decide) rfl rfl q2533 q2535 qs95 q127 q2536 (XS.out (noH _)) <|
  r_imul dX8_expectsAll_39 <|
  r_iadd dX8_expectsAll_40 <|
  r_istore_n (k := 2) dX8_expectsAll_41 rfl <|
  r_iinc (v := 1) dX8_expectsAll_42 rfl <|
  r_goto (pt := 4) dX8_expectsAll_45 (by decide) <|
  (fun _ _ _ H => H))
  (r_aload_n (k := 0) dX8_expectsAll_27 rfl <|
  r_iload_n (k := 3) dX8_expectsAll_28 rfl <|
  r_cV (Z := mX8_bestOf) (ci := 8) (q := (RX8, TX8, 27)) dX8_expectsAll_29 rfl (by decide +kernel) ⟨by decide, by decide⟩ (by decide) rfl rfl q2541 q2543 qs96 q127 q2544 (XS.out (noH _)) <|
  r_goto (pt := 36) dX8_expectsAll_32 (by decide) <|
  r_cV (Z := mX8_expects) (ci := 8) (q := (RX8, TX8, 27)) dX8_expectsAll_36 rfl (by decide +kernel) ⟨by decide, by decide⟩ (by decide) rfl rfl q2533 q2535 qs95 q127 q2536 (XS.out (noH _)) <|
  r_imul dX8_expectsAll_39 <|
  r_iadd dX8_expectsAll_40 <|
  r_istore_n (k := 2) dX8_expectsAll_41 rfl <|
  r_iinc (v := 1) dX8_expectsAll_42 rfl <|
  r_goto (pt := 4) dX8_expectsAll_45 (by decide) <|
  (fun _ _ _ H => H)))
-- CheekTownModel.peopleOf(I)I cuts [0, 4]
def tX8_peopleOf_0 (d : Nat) (Q : Outcome → MH → Prop) (J : Nat → KT) : KT :=
  i_const 0 <|
  i_istore 2 <|
  i_const 0 <|
  i_istore 3 <|
  (J 4)
theorem kX8_peopleOf_0 {d : Nat} {Q : Outcome → MH → Prop} : ∀ ls st h, tX8_peopleOf_0 d Q (fun pc ls st h => WPb mX8_peopleOf d pc ls st h Q) ls st h → WPb mX8_peopleOf d 0 ls st h Q :=
  r_iconst (v := 0) dX8_peopleOf_0 rfl <|
  r_istore_n (k := 2) dX8_peopleOf_1 rfl <|
  r_iconst (v := 0) dX8_peopleOf_2 rfl <|
  r_istore_n (k := 3) dX8_peopleOf_3 rfl <|
  (fun _ _ _ H => H)
def tX8_peopleOf_4 (d : Nat) (Q : Outcome → MH → Prop) (J : Nat → KT) : KT :=
  i_iload 3 <|
  i_aload 0 <|
  i_getR 8 1 <|
  i_const 5 <|
  i_iald <|
  i_icmp_ge
  (i_iload 2 <|
  i_ret Q (some .int))
  (i_iload 2 <|
  i_aload 0 <|
  i_iload 3 <|
  i_const 0 <|
  i_call mX8_of d 3 (pV 8) (xOut Q) <|
  i_iload 1 <|
  i_icmp_ne
  (i_const 0 <|
  i_iadd <|
  i_istore 2 <|
  i_iinc 3 1 <|
  (J 4))
  (i_const 1 <|
  i_iadd <|
  i_istore 2 <|
  i_iinc 3 1 <|
  (J 4)))
theorem kX8_peopleOf_4 {d : Nat} {Q : Outcome → MH → Prop} : ∀ ls st h, tX8_peopleOf_4 d Q (fun pc ls st h => WPb mX8_peopleOf d pc ls st h Q) ls st h → WPb mX8_peopleOf d 4 ls st h Q :=
  r_iload_n (k := 3) dX8_peopleOf_4 rfl <|
  r_aload_n (k := 0) dX8_peopleOf_5 rfl <|
  r_getR (ci := 8) (q := (RX8, TX8, 27)) (k := 1) dX8_peopleOf_6 (by decide) rfl in_X8 (by decide) (Or.inl q2142) rfl <|
  r_iconst (v := 5) dX8_peopleOf_9 rfl <|
  r_iald dX8_peopleOf_10 <|
  r_icmp_ge (pt := 38) dX8_peopleOf_11 (by decide)
  (r_iload_n (k := 2) dX8_peopleOf_38 rfl <|
  r_ret rfl (Or.inl ⟨dX8_peopleOf_39, Or.inl rfl⟩))
  (r_iload_n (k := 2) dX8_peopleOf_14 rfl <|
  r_aload_n (k := 0) dX8_peopleOf_15 rfl <|
  r_iload_n (k := 3) dX8_peopleOf_16 rfl <|
  r_iconst (v := 0) dX8_peopleOf_17 rfl <|
  r_cV (Z := mX8_of) (ci := 8) (q := (RX8, TX8, 27)) dX8_peopleOf_18 rfl (by decide +kernel) ⟨by decide, by decide⟩ (by decide) rfl rfl q2443 q2445 qs86 q127 q2446 (XS.out (noH _)) <|
  r_iload_n (k := 1) dX8_peopleOf_21 rfl <|
  r_icmp_ne (pt := 29) dX8_peopleOf_22 (by decide)
  (r_iconst (v := 0) dX8_peopleOf_29 rfl <|
  r_iadd dX8_peopleOf_30 <|
  r_istore_n (k := 2) dX8_peopleOf_31 rfl <|
  r_iinc (v := 1) dX8_peopleOf_32 rfl <|
  r_goto (pt := 4) dX8_peopleOf_35 (by decide) <|
  (fun _ _ _ H => H))
  (r_iconst (v := 1) dX8_peopleOf_25 rfl <|
  r_goto (pt := 30) dX8_peopleOf_26 (by decide) <|
  r_iadd dX8_peopleOf_30 <|
  r_istore_n (k := 2) dX8_peopleOf_31 rfl <|
  r_iinc (v := 1) dX8_peopleOf_32 rfl <|
  r_goto (pt := 4) dX8_peopleOf_35 (by decide) <|
  (fun _ _ _ H => H)))
-- CheekTownModel.rests(II)I cuts [0, 24, 59, 90]
def tX8_rests_0 (d : Nat) (Q : Outcome → MH → Prop) (J : Nat → KT) : KT :=
  i_aload 0 <|
  i_aload 0 <|
  i_iload 1 <|
  i_iload 2 <|
  i_call mX8_two d 3 (pV 8) (xOut Q) <|
  i_putI 8 0 .int <|
  i_aload 0 <|
  i_getI 8 0 <|
  i_if_le
  (i_const 0 <|
  i_istore 3 <|
  i_const 0 <|
  i_istore 4 <|
  (J 24))
  (i_const 0 <|
  i_ret Q (some .int))
theorem kX8_rests_0 {d : Nat} {Q : Outcome → MH → Prop} : ∀ ls st h, tX8_rests_0 d Q (fun pc ls st h => WPb mX8_rests d pc ls st h Q) ls st h → WPb mX8_rests d 0 ls st h Q :=
  r_aload_n (k := 0) dX8_rests_0 rfl <|
  r_aload_n (k := 0) dX8_rests_1 rfl <|
  r_iload_n (k := 1) dX8_rests_2 rfl <|
  r_iload_n (k := 2) dX8_rests_3 rfl <|
  r_cV (Z := mX8_two) (ci := 8) (q := (RX8, TX8, 27)) dX8_rests_4 rfl (by decide +kernel) ⟨by decide, by decide⟩ (by decide) rfl rfl q2455 q2457 qs88 q127 q2458 (XS.out (noH _)) <|
  r_putI (ci := 8) (q := (RX8, TX8, 27)) (k := 0) tyX8 tyX8_ok nmX8 dX8_rests_7 (by decide) rfl in_X8 (by decide) (Or.inl ⟨rfl, (Or.inl q2141)⟩) rfl rfl <|
  r_aload_n (k := 0) dX8_rests_10 rfl <|
  r_getI (ci := 8) (q := (RX8, TX8, 27)) (k := 0) dX8_rests_11 (by decide) rfl in_X8 (by decide) (Or.inl q2141) rfl <|
  r_if_le (pt := 19) dX8_rests_14 (by decide)
  (r_iconst (v := 0) dX8_rests_19 rfl <|
  r_istore_n (k := 3) dX8_rests_20 rfl <|
  r_iconst (v := 0) dX8_rests_21 rfl <|
  r_istore dX8_rests_22 <|
  (fun _ _ _ H => H))
  (r_iconst (v := 0) dX8_rests_17 rfl <|
  r_ret rfl (Or.inl ⟨dX8_rests_18, Or.inl rfl⟩))
def tX8_rests_24 (d : Nat) (Q : Outcome → MH → Prop) (J : Nat → KT) : KT :=
  i_iload 4 <|
  i_const 4 <|
  i_icmp_ge
  (i_iload 3 <|
  i_ret Q (some .int))
  (i_iload 4 <|
  i_const 0 <|
  i_call mX8_isOf d 2 pS (xOut Q) <|
  i_istore 5 <|
  i_iload 4 <|
  i_const 1 <|
  i_call mX8_isOf d 2 pS (xOut Q) <|
  i_istore 6 <|
  i_aload 0 <|
  i_iload 1 <|
  i_iload 2 <|
  i_iload 5 <|
  i_if_ne
  (i_const 0 <|
  (J 59))
  (i_const 1 <|
  (J 59)))
theorem kX8_rests_24 {d : Nat} {Q : Outcome → MH → Prop} : ∀ ls st h, tX8_rests_24 d Q (fun pc ls st h => WPb mX8_rests d pc ls st h Q) ls st h → WPb mX8_rests d 24 ls st h Q :=
  r_iload dX8_rests_24 <|
  r_iconst (v := 4) dX8_rests_26 rfl <|
  r_icmp_ge (pt := 121) dX8_rests_27 (by decide)
  (r_iload_n (k := 3) dX8_rests_121 rfl <|
  r_ret rfl (Or.inl ⟨dX8_rests_122, Or.inl rfl⟩))
  (r_iload dX8_rests_30 <|
  r_iconst (v := 0) dX8_rests_32 rfl <|
  r_cS (Z := mX8_isOf) dX8_rests_33 rfl (by decide +kernel) ⟨by decide, by decide⟩ q2526 q2527 q127 q2528 (XS.out (noH _)) <|
  r_istore dX8_rests_36 <|
  r_iload dX8_rests_38 <|
  r_iconst (v := 1) dX8_rests_40 rfl <|
  r_cS (Z := mX8_isOf) dX8_rests_41 rfl (by decide +kernel) ⟨by decide, by decide⟩ q2526 q2527 q127 q2528 (XS.out (noH _)) <|
  r_istore dX8_rests_44 <|
  r_aload_n (k := 0) dX8_rests_46 rfl <|
  r_iload_n (k := 1) dX8_rests_47 rfl <|
  r_iload_n (k := 2) dX8_rests_48 rfl <|
  r_iload dX8_rests_49 <|
  r_if_ne (pt := 58) dX8_rests_51 (by decide)
  (r_iconst (v := 0) dX8_rests_58 rfl <|
  (fun _ _ _ H => H))
  (r_iconst (v := 1) dX8_rests_54 rfl <|
  r_goto (pt := 59) dX8_rests_55 (by decide) <|
  (fun _ _ _ H => H)))
def tX8_rests_59 (d : Nat) (Q : Outcome → MH → Prop) (J : Nat → KT) : KT :=
  i_iload 6 <|
  i_call mX8_pays d 5 (pV 8) (xOut Q) <|
  i_aload 0 <|
  i_iload 1 <|
  i_iload 2 <|
  i_iload 5 <|
  i_iload 6 <|
  i_call mX8_pays d 5 (pV 8) (xOut Q) <|
  i_icmp_lt
  (i_iinc 4 1 <|
  (J 24))
  (i_aload 0 <|
  i_iload 2 <|
  i_iload 1 <|
  i_iload 6 <|
  i_if_ne
  (i_const 0 <|
  (J 90))
  (i_const 1 <|
  (J 90)))
theorem kX8_rests_59 {d : Nat} {Q : Outcome → MH → Prop} : ∀ ls st h, tX8_rests_59 d Q (fun pc ls st h => WPb mX8_rests d pc ls st h Q) ls st h → WPb mX8_rests d 59 ls st h Q :=
  r_iload dX8_rests_59 <|
  r_cV (Z := mX8_pays) (ci := 8) (q := (RX8, TX8, 27)) dX8_rests_61 rfl (by decide +kernel) ⟨by decide, by decide⟩ (by decide) rfl rfl q2581 q2583 qs101 q127 q2584 (XS.out (noH _)) <|
  r_aload_n (k := 0) dX8_rests_64 rfl <|
  r_iload_n (k := 1) dX8_rests_65 rfl <|
  r_iload_n (k := 2) dX8_rests_66 rfl <|
  r_iload dX8_rests_67 <|
  r_iload dX8_rests_69 <|
  r_cV (Z := mX8_pays) (ci := 8) (q := (RX8, TX8, 27)) dX8_rests_71 rfl (by decide +kernel) ⟨by decide, by decide⟩ (by decide) rfl rfl q2581 q2583 qs101 q127 q2584 (XS.out (noH _)) <|
  r_icmp_lt (pt := 115) dX8_rests_74 (by decide)
  (r_iinc (v := 1) dX8_rests_115 rfl <|
  r_goto (pt := 24) dX8_rests_118 (by decide) <|
  (fun _ _ _ H => H))
  (r_aload_n (k := 0) dX8_rests_77 rfl <|
  r_iload_n (k := 2) dX8_rests_78 rfl <|
  r_iload_n (k := 1) dX8_rests_79 rfl <|
  r_iload dX8_rests_80 <|
  r_if_ne (pt := 89) dX8_rests_82 (by decide)
  (r_iconst (v := 0) dX8_rests_89 rfl <|
  (fun _ _ _ H => H))
  (r_iconst (v := 1) dX8_rests_85 rfl <|
  r_goto (pt := 90) dX8_rests_86 (by decide) <|
  (fun _ _ _ H => H)))
def tX8_rests_90 (d : Nat) (Q : Outcome → MH → Prop) (J : Nat → KT) : KT :=
  i_iload 5 <|
  i_call mX8_pays d 5 (pV 8) (xOut Q) <|
  i_aload 0 <|
  i_iload 2 <|
  i_iload 1 <|
  i_iload 6 <|
  i_iload 5 <|
  i_call mX8_pays d 5 (pV 8) (xOut Q) <|
  i_icmp_lt
  (i_iinc 4 1 <|
  (J 24))
  (i_iload 3 <|
  i_const 1 <|
  i_iload 4 <|
  i_ishl <|
  i_ior <|
  i_istore 3 <|
  i_iinc 4 1 <|
  (J 24))
theorem kX8_rests_90 {d : Nat} {Q : Outcome → MH → Prop} : ∀ ls st h, tX8_rests_90 d Q (fun pc ls st h => WPb mX8_rests d pc ls st h Q) ls st h → WPb mX8_rests d 90 ls st h Q :=
  r_iload dX8_rests_90 <|
  r_cV (Z := mX8_pays) (ci := 8) (q := (RX8, TX8, 27)) dX8_rests_92 rfl (by decide +kernel) ⟨by decide, by decide⟩ (by decide) rfl rfl q2581 q2583 qs101 q127 q2584 (XS.out (noH _)) <|
  r_aload_n (k := 0) dX8_rests_95 rfl <|
  r_iload_n (k := 2) dX8_rests_96 rfl <|
  r_iload_n (k := 1) dX8_rests_97 rfl <|
  r_iload dX8_rests_98 <|
  r_iload dX8_rests_100 <|
  r_cV (Z := mX8_pays) (ci := 8) (q := (RX8, TX8, 27)) dX8_rests_102 rfl (by decide +kernel) ⟨by decide, by decide⟩ (by decide) rfl rfl q2581 q2583 qs101 q127 q2584 (XS.out (noH _)) <|
  r_icmp_lt (pt := 115) dX8_rests_105 (by decide)
  (r_iinc (v := 1) dX8_rests_115 rfl <|
  r_goto (pt := 24) dX8_rests_118 (by decide) <|
  (fun _ _ _ H => H))
  (r_iload_n (k := 3) dX8_rests_108 rfl <|
  r_iconst (v := 1) dX8_rests_109 rfl <|
  r_iload dX8_rests_110 <|
  r_ishl dX8_rests_112 <|
  r_ior dX8_rests_113 <|
  r_istore_n (k := 3) dX8_rests_114 rfl <|
  r_iinc (v := 1) dX8_rests_115 rfl <|
  r_goto (pt := 24) dX8_rests_118 (by decide) <|
  (fun _ _ _ H => H))
-- CheekTownModel.pays(IIZZ)I cuts [0, 19]
def tX8_pays_0 (d : Nat) (Q : Outcome → MH → Prop) (J : Nat → KT) : KT :=
  i_iload 3 <|
  i_if_eq
  (i_aload 0 <|
  i_iload 1 <|
  i_const 1 <|
  i_call mX8_of d 3 (pV 8) (xOut Q) <|
  (J 19))
  (i_aload 0 <|
  i_iload 2 <|
  i_const 1 <|
  i_call mX8_of d 3 (pV 8) (xOut Q) <|
  (J 19))
theorem kX8_pays_0 {d : Nat} {Q : Outcome → MH → Prop} : ∀ ls st h, tX8_pays_0 d Q (fun pc ls st h => WPb mX8_pays d pc ls st h Q) ls st h → WPb mX8_pays d 0 ls st h Q :=
  r_iload_n (k := 3) dX8_pays_0 rfl <|
  r_if_eq (pt := 13) dX8_pays_1 (by decide)
  (r_aload_n (k := 0) dX8_pays_13 rfl <|
  r_iload_n (k := 1) dX8_pays_14 rfl <|
  r_iconst (v := 1) dX8_pays_15 rfl <|
  r_cV (Z := mX8_of) (ci := 8) (q := (RX8, TX8, 27)) dX8_pays_16 rfl (by decide +kernel) ⟨by decide, by decide⟩ (by decide) rfl rfl q2443 q2445 qs86 q127 q2446 (XS.out (noH _)) <|
  (fun _ _ _ H => H))
  (r_aload_n (k := 0) dX8_pays_4 rfl <|
  r_iload_n (k := 2) dX8_pays_5 rfl <|
  r_iconst (v := 1) dX8_pays_6 rfl <|
  r_cV (Z := mX8_of) (ci := 8) (q := (RX8, TX8, 27)) dX8_pays_7 rfl (by decide +kernel) ⟨by decide, by decide⟩ (by decide) rfl rfl q2443 q2445 qs86 q127 q2446 (XS.out (noH _)) <|
  r_goto (pt := 19) dX8_pays_10 (by decide) <|
  (fun _ _ _ H => H))
def tX8_pays_19 (d : Nat) (Q : Outcome → MH → Prop) (J : Nat → KT) : KT :=
  i_istore 5 <|
  i_iload 4 <|
  i_if_eq
  (i_aload 0 <|
  i_iload 2 <|
  i_const 1 <|
  i_call mX8_of d 3 (pV 8) (xOut Q) <|
  i_istore 6 <|
  i_aload 0 <|
  i_iload 5 <|
  i_iload 6 <|
  i_call mX8_costOf d 3 (pV 8) (xOut Q) <|
  i_iload 3 <|
  i_if_eq
  (i_const 0 <|
  i_iadd <|
  i_ret Q (some .int))
  (i_const 1 <|
  i_iadd <|
  i_ret Q (some .int)))
  (i_aload 0 <|
  i_iload 1 <|
  i_const 1 <|
  i_call mX8_of d 3 (pV 8) (xOut Q) <|
  i_istore 6 <|
  i_aload 0 <|
  i_iload 5 <|
  i_iload 6 <|
  i_call mX8_costOf d 3 (pV 8) (xOut Q) <|
  i_iload 3 <|
  i_if_eq
  (i_const 0 <|
  i_iadd <|
  i_ret Q (some .int))
  (i_const 1 <|
  i_iadd <|
  i_ret Q (some .int)))
theorem kX8_pays_19 {d : Nat} {Q : Outcome → MH → Prop} : ∀ ls st h, tX8_pays_19 d Q (fun pc ls st h => WPb mX8_pays d pc ls st h Q) ls st h → WPb mX8_pays d 19 ls st h Q :=
  r_istore dX8_pays_19 <|
  r_iload dX8_pays_21 <|
  r_if_eq (pt := 35) dX8_pays_23 (by decide)
  (r_aload_n (k := 0) dX8_pays_35 rfl <|
  r_iload_n (k := 2) dX8_pays_36 rfl <|
  r_iconst (v := 1) dX8_pays_37 rfl <|
  r_cV (Z := mX8_of) (ci := 8) (q := (RX8, TX8, 27)) dX8_pays_38 rfl (by decide +kernel) ⟨by decide, by decide⟩ (by decide) rfl rfl q2443 q2445 qs86 q127 q2446 (XS.out (noH _)) <|
  r_istore dX8_pays_41 <|
  r_aload_n (k := 0) dX8_pays_43 rfl <|
  r_iload dX8_pays_44 <|
  r_iload dX8_pays_46 <|
  r_cV (Z := mX8_costOf) (ci := 8) (q := (RX8, TX8, 27)) dX8_pays_48 rfl (by decide +kernel) ⟨by decide, by decide⟩ (by decide) rfl rfl q2416 q2418 qs82 q127 q2419 (XS.out (noH _)) <|
  r_iload_n (k := 3) dX8_pays_51 rfl <|
  r_if_eq (pt := 59) dX8_pays_52 (by decide)
  (r_iconst (v := 0) dX8_pays_59 rfl <|
  r_iadd dX8_pays_60 <|
  r_ret rfl (Or.inl ⟨dX8_pays_61, Or.inl rfl⟩))
  (r_iconst (v := 1) dX8_pays_55 rfl <|
  r_goto (pt := 60) dX8_pays_56 (by decide) <|
  r_iadd dX8_pays_60 <|
  r_ret rfl (Or.inl ⟨dX8_pays_61, Or.inl rfl⟩)))
  (r_aload_n (k := 0) dX8_pays_26 rfl <|
  r_iload_n (k := 1) dX8_pays_27 rfl <|
  r_iconst (v := 1) dX8_pays_28 rfl <|
  r_cV (Z := mX8_of) (ci := 8) (q := (RX8, TX8, 27)) dX8_pays_29 rfl (by decide +kernel) ⟨by decide, by decide⟩ (by decide) rfl rfl q2443 q2445 qs86 q127 q2446 (XS.out (noH _)) <|
  r_goto (pt := 41) dX8_pays_32 (by decide) <|
  r_istore dX8_pays_41 <|
  r_aload_n (k := 0) dX8_pays_43 rfl <|
  r_iload dX8_pays_44 <|
  r_iload dX8_pays_46 <|
  r_cV (Z := mX8_costOf) (ci := 8) (q := (RX8, TX8, 27)) dX8_pays_48 rfl (by decide +kernel) ⟨by decide, by decide⟩ (by decide) rfl rfl q2416 q2418 qs82 q127 q2419 (XS.out (noH _)) <|
  r_iload_n (k := 3) dX8_pays_51 rfl <|
  r_if_eq (pt := 59) dX8_pays_52 (by decide)
  (r_iconst (v := 0) dX8_pays_59 rfl <|
  r_iadd dX8_pays_60 <|
  r_ret rfl (Or.inl ⟨dX8_pays_61, Or.inl rfl⟩))
  (r_iconst (v := 1) dX8_pays_55 rfl <|
  r_goto (pt := 60) dX8_pays_56 (by decide) <|
  r_iadd dX8_pays_60 <|
  r_ret rfl (Or.inl ⟨dX8_pays_61, Or.inl rfl⟩)))
-- CheekTownModel.sake(IIZ)I cuts [0, 70]
def tX8_sake_0 (d : Nat) (Q : Outcome → MH → Prop) (J : Nat → KT) : KT :=
  i_aload 0 <|
  i_aload 0 <|
  i_iload 1 <|
  i_iload 2 <|
  i_call mX8_two d 3 (pV 8) (xOut Q) <|
  i_putI 8 0 .int <|
  i_aload 0 <|
  i_getI 8 0 <|
  i_if_le
  (i_aload 0 <|
  i_iload 1 <|
  i_const 1 <|
  i_call mX8_of d 3 (pV 8) (xOut Q) <|
  i_const 3 <|
  i_ishr <|
  i_const 2 <|
  i_icmp_ne
  (i_const (-1) <|
  i_ret Q (some .int))
  (i_aload 0 <|
  i_iload 2 <|
  i_const 1 <|
  i_call mX8_of d 3 (pV 8) (xOut Q) <|
  i_const 3 <|
  i_ishr <|
  i_const 2 <|
  i_icmp_eq
  (i_aload 0 <|
  i_iload 1 <|
  i_const 1 <|
  i_call mX8_of d 3 (pV 8) (xOut Q) <|
  i_call mX8_countOf d 1 pS (xOut Q) <|
  i_istore 4 <|
  i_aload 0 <|
  i_iload 2 <|
  i_const 1 <|
  i_call mX8_of d 3 (pV 8) (xOut Q) <|
  i_call mX8_countOf d 1 pS (xOut Q) <|
  i_istore 5 <|
  i_const 0 <|
  i_istore 6 <|
  (J 70))
  (i_const (-1) <|
  i_ret Q (some .int))))
  (i_const 0 <|
  i_ret Q (some .int))
theorem kX8_sake_0 {d : Nat} {Q : Outcome → MH → Prop} : ∀ ls st h, tX8_sake_0 d Q (fun pc ls st h => WPb mX8_sake d pc ls st h Q) ls st h → WPb mX8_sake d 0 ls st h Q :=
  r_aload_n (k := 0) dX8_sake_0 rfl <|
  r_aload_n (k := 0) dX8_sake_1 rfl <|
  r_iload_n (k := 1) dX8_sake_2 rfl <|
  r_iload_n (k := 2) dX8_sake_3 rfl <|
  r_cV (Z := mX8_two) (ci := 8) (q := (RX8, TX8, 27)) dX8_sake_4 rfl (by decide +kernel) ⟨by decide, by decide⟩ (by decide) rfl rfl q2455 q2457 qs88 q127 q2458 (XS.out (noH _)) <|
  r_putI (ci := 8) (q := (RX8, TX8, 27)) (k := 0) tyX8 tyX8_ok nmX8 dX8_sake_7 (by decide) rfl in_X8 (by decide) (Or.inl ⟨rfl, (Or.inl q2141)⟩) rfl rfl <|
  r_aload_n (k := 0) dX8_sake_10 rfl <|
  r_getI (ci := 8) (q := (RX8, TX8, 27)) (k := 0) dX8_sake_11 (by decide) rfl in_X8 (by decide) (Or.inl q2141) rfl <|
  r_if_le (pt := 19) dX8_sake_14 (by decide)
  (r_aload_n (k := 0) dX8_sake_19 rfl <|
  r_iload_n (k := 1) dX8_sake_20 rfl <|
  r_iconst (v := 1) dX8_sake_21 rfl <|
  r_cV (Z := mX8_of) (ci := 8) (q := (RX8, TX8, 27)) dX8_sake_22 rfl (by decide +kernel) ⟨by decide, by decide⟩ (by decide) rfl rfl q2443 q2445 qs86 q127 q2446 (XS.out (noH _)) <|
  r_iconst (v := 3) dX8_sake_25 rfl <|
  r_ishr dX8_sake_26 <|
  r_iconst (v := 2) dX8_sake_27 rfl <|
  r_icmp_ne (pt := 43) dX8_sake_28 (by decide)
  (r_iconst (v := (-1)) dX8_sake_43 rfl <|
  r_ret rfl (Or.inl ⟨dX8_sake_44, Or.inl rfl⟩))
  (r_aload_n (k := 0) dX8_sake_31 rfl <|
  r_iload_n (k := 2) dX8_sake_32 rfl <|
  r_iconst (v := 1) dX8_sake_33 rfl <|
  r_cV (Z := mX8_of) (ci := 8) (q := (RX8, TX8, 27)) dX8_sake_34 rfl (by decide +kernel) ⟨by decide, by decide⟩ (by decide) rfl rfl q2443 q2445 qs86 q127 q2446 (XS.out (noH _)) <|
  r_iconst (v := 3) dX8_sake_37 rfl <|
  r_ishr dX8_sake_38 <|
  r_iconst (v := 2) dX8_sake_39 rfl <|
  r_icmp_eq (pt := 45) dX8_sake_40 (by decide)
  (r_aload_n (k := 0) dX8_sake_45 rfl <|
  r_iload_n (k := 1) dX8_sake_46 rfl <|
  r_iconst (v := 1) dX8_sake_47 rfl <|
  r_cV (Z := mX8_of) (ci := 8) (q := (RX8, TX8, 27)) dX8_sake_48 rfl (by decide +kernel) ⟨by decide, by decide⟩ (by decide) rfl rfl q2443 q2445 qs86 q127 q2446 (XS.out (noH _)) <|
  r_cS (Z := mX8_countOf) dX8_sake_51 rfl (by decide +kernel) ⟨by decide, by decide⟩ q2420 q2421 q127 q2422 (XS.out (noH _)) <|
  r_istore dX8_sake_54 <|
  r_aload_n (k := 0) dX8_sake_56 rfl <|
  r_iload_n (k := 2) dX8_sake_57 rfl <|
  r_iconst (v := 1) dX8_sake_58 rfl <|
  r_cV (Z := mX8_of) (ci := 8) (q := (RX8, TX8, 27)) dX8_sake_59 rfl (by decide +kernel) ⟨by decide, by decide⟩ (by decide) rfl rfl q2443 q2445 qs86 q127 q2446 (XS.out (noH _)) <|
  r_cS (Z := mX8_countOf) dX8_sake_62 rfl (by decide +kernel) ⟨by decide, by decide⟩ q2420 q2421 q127 q2422 (XS.out (noH _)) <|
  r_istore dX8_sake_65 <|
  r_iconst (v := 0) dX8_sake_67 rfl <|
  r_istore dX8_sake_68 <|
  (fun _ _ _ H => H))
  (r_iconst (v := (-1)) dX8_sake_43 rfl <|
  r_ret rfl (Or.inl ⟨dX8_sake_44, Or.inl rfl⟩))))
  (r_iconst (v := 0) dX8_sake_17 rfl <|
  r_ret rfl (Or.inl ⟨dX8_sake_18, Or.inl rfl⟩))
def tX8_sake_70 (d : Nat) (Q : Outcome → MH → Prop) (J : Nat → KT) : KT :=
  i_iload 6 <|
  i_const 8 <|
  i_icmp_ge
  (i_const (-1) <|
  i_ret Q (some .int))
  (i_iload 4 <|
  i_iload 5 <|
  i_icmp_ne
  (i_iload 4 <|
  i_istore 7 <|
  i_iload 3 <|
  i_if_ne
  (i_iload 5 <|
  i_iload 7 <|
  i_call mX8_towards d 2 pS (xOut Q) <|
  i_istore 5 <|
  i_iinc 6 1 <|
  (J 70))
  (i_iload 4 <|
  i_iload 5 <|
  i_call mX8_towards d 2 pS (xOut Q) <|
  i_istore 4 <|
  i_iload 5 <|
  i_iload 7 <|
  i_call mX8_towards d 2 pS (xOut Q) <|
  i_istore 5 <|
  i_iinc 6 1 <|
  (J 70)))
  (i_iload 6 <|
  i_ret Q (some .int)))
theorem kX8_sake_70 {d : Nat} {Q : Outcome → MH → Prop} : ∀ ls st h, tX8_sake_70 d Q (fun pc ls st h => WPb mX8_sake d pc ls st h Q) ls st h → WPb mX8_sake d 70 ls st h Q :=
  r_iload dX8_sake_70 <|
  r_bipush (v := 8) dX8_sake_72 rfl <|
  r_icmp_ge (pt := 119) dX8_sake_74 (by decide)
  (r_iconst (v := (-1)) dX8_sake_119 rfl <|
  r_ret rfl (Or.inl ⟨dX8_sake_120, Or.inl rfl⟩))
  (r_iload dX8_sake_77 <|
  r_iload dX8_sake_79 <|
  r_icmp_ne (pt := 87) dX8_sake_81 (by decide)
  (r_iload dX8_sake_87 <|
  r_istore dX8_sake_89 <|
  r_iload_n (k := 3) dX8_sake_91 rfl <|
  r_if_ne (pt := 104) dX8_sake_92 (by decide)
  (r_iload dX8_sake_104 <|
  r_iload dX8_sake_106 <|
  r_cS (Z := mX8_towards) dX8_sake_108 rfl (by decide +kernel) ⟨by decide, by decide⟩ q2589 q2590 q127 q2591 (XS.out (noH _)) <|
  r_istore dX8_sake_111 <|
  r_iinc (v := 1) dX8_sake_113 rfl <|
  r_goto (pt := 70) dX8_sake_116 (by decide) <|
  (fun _ _ _ H => H))
  (r_iload dX8_sake_95 <|
  r_iload dX8_sake_97 <|
  r_cS (Z := mX8_towards) dX8_sake_99 rfl (by decide +kernel) ⟨by decide, by decide⟩ q2589 q2590 q127 q2591 (XS.out (noH _)) <|
  r_istore dX8_sake_102 <|
  r_iload dX8_sake_104 <|
  r_iload dX8_sake_106 <|
  r_cS (Z := mX8_towards) dX8_sake_108 rfl (by decide +kernel) ⟨by decide, by decide⟩ q2589 q2590 q127 q2591 (XS.out (noH _)) <|
  r_istore dX8_sake_111 <|
  r_iinc (v := 1) dX8_sake_113 rfl <|
  r_goto (pt := 70) dX8_sake_116 (by decide) <|
  (fun _ _ _ H => H)))
  (r_iload dX8_sake_84 <|
  r_ret rfl (Or.inl ⟨dX8_sake_86, Or.inl rfl⟩)))
-- CheekTownModel.towards(II)I cuts [0]
def tX8_towards_0 (d : Nat) (Q : Outcome → MH → Prop) (J : Nat → KT) : KT :=
  i_iload 0 <|
  i_iload 1 <|
  i_icmp_ge
  (i_iload 0 <|
  i_iload 1 <|
  i_icmp_le
  (i_iload 0 <|
  i_ret Q (some .int))
  (i_iload 0 <|
  i_const 1 <|
  i_isub <|
  i_ret Q (some .int)))
  (i_iload 0 <|
  i_const 1 <|
  i_iadd <|
  i_ret Q (some .int))
theorem kX8_towards_0 {d : Nat} {Q : Outcome → MH → Prop} : ∀ ls st h, tX8_towards_0 d Q (fun pc ls st h => WPb mX8_towards d pc ls st h Q) ls st h → WPb mX8_towards d 0 ls st h Q :=
  r_iload_n (k := 0) dX8_towards_0 rfl <|
  r_iload_n (k := 1) dX8_towards_1 rfl <|
  r_icmp_ge (pt := 11) dX8_towards_2 (by decide)
  (r_iload_n (k := 0) dX8_towards_11 rfl <|
  r_iload_n (k := 1) dX8_towards_12 rfl <|
  r_icmp_le (pt := 22) dX8_towards_13 (by decide)
  (r_iload_n (k := 0) dX8_towards_22 rfl <|
  r_ret rfl (Or.inl ⟨dX8_towards_23, Or.inl rfl⟩))
  (r_iload_n (k := 0) dX8_towards_16 rfl <|
  r_iconst (v := 1) dX8_towards_17 rfl <|
  r_isub dX8_towards_18 <|
  r_goto (pt := 23) dX8_towards_19 (by decide) <|
  r_ret rfl (Or.inl ⟨dX8_towards_23, Or.inl rfl⟩)))
  (r_iload_n (k := 0) dX8_towards_5 rfl <|
  r_iconst (v := 1) dX8_towards_6 rfl <|
  r_iadd dX8_towards_7 <|
  r_goto (pt := 23) dX8_towards_8 (by decide) <|
  r_ret rfl (Or.inl ⟨dX8_towards_23, Or.inl rfl⟩))
-- CheekTownModel.table(II)I cuts [0, 55]
def tX8_table_0 (d : Nat) (Q : Outcome → MH → Prop) (J : Nat → KT) : KT :=
  i_aload 0 <|
  i_const 0 <|
  i_putI 8 0 .int <|
  i_iload 1 <|
  i_const 1 <|
  i_aload 0 <|
  i_getR 8 1 <|
  i_const 5 <|
  i_iald <|
  i_ishl <|
  i_const 1 <|
  i_isub <|
  i_iand <|
  i_istore 3 <|
  i_iload 3 <|
  i_call mX8_bits d 1 pS (xOut Q) <|
  i_istore 4 <|
  i_iload 4 <|
  i_const 8 <|
  i_icmp_le
  (i_aload 0 <|
  i_const 1000000 <|
  i_putI 8 26 .int <|
  i_iload 4 <|
  i_if_le
  ((J 55))
  (i_aload 0 <|
  i_iload 3 <|
  i_const 0 <|
  i_iload 4 <|
  i_const 0 <|
  i_call mX8_sits d 5 (pV 8) (xOut Q) <|
  (J 55)))
  (i_const (-3) <|
  i_ret Q (some .int))
theorem kX8_table_0 {d : Nat} {Q : Outcome → MH → Prop} : ∀ ls st h, tX8_table_0 d Q (fun pc ls st h => WPb mX8_table d pc ls st h Q) ls st h → WPb mX8_table d 0 ls st h Q :=
  r_aload_n (k := 0) dX8_table_0 rfl <|
  r_iconst (v := 0) dX8_table_1 rfl <|
  r_putI (ci := 8) (q := (RX8, TX8, 27)) (k := 0) tyX8 tyX8_ok nmX8 dX8_table_2 (by decide) rfl in_X8 (by decide) (Or.inl ⟨rfl, (Or.inl q2141)⟩) rfl rfl <|
  r_iload_n (k := 1) dX8_table_5 rfl <|
  r_iconst (v := 1) dX8_table_6 rfl <|
  r_aload_n (k := 0) dX8_table_7 rfl <|
  r_getR (ci := 8) (q := (RX8, TX8, 27)) (k := 1) dX8_table_8 (by decide) rfl in_X8 (by decide) (Or.inl q2142) rfl <|
  r_iconst (v := 5) dX8_table_11 rfl <|
  r_iald dX8_table_12 <|
  r_ishl dX8_table_13 <|
  r_iconst (v := 1) dX8_table_14 rfl <|
  r_isub dX8_table_15 <|
  r_iand dX8_table_16 <|
  r_istore_n (k := 3) dX8_table_17 rfl <|
  r_iload_n (k := 3) dX8_table_18 rfl <|
  r_cS (Z := mX8_bits) dX8_table_19 rfl (by decide +kernel) ⟨by decide, by decide⟩ q2596 q2597 q127 q2598 (XS.out (noH _)) <|
  r_istore dX8_table_22 <|
  r_iload dX8_table_24 <|
  r_bipush (v := 8) dX8_table_26 rfl <|
  r_icmp_le (pt := 34) dX8_table_28 (by decide)
  (r_aload_n (k := 0) dX8_table_34 rfl <|
  r_ldcw (v := 1000000) dX8_table_35 q2599 <|
  r_putI (ci := 8) (q := (RX8, TX8, 27)) (k := 26) tyX8 tyX8_ok nmX8 dX8_table_38 (by decide) rfl in_X8 (by decide) (Or.inl ⟨rfl, (Or.inl q2167)⟩) rfl rfl <|
  r_iload dX8_table_41 <|
  r_if_le (pt := 55) dX8_table_43 (by decide)
  ((fun _ _ _ H => H))
  (r_aload_n (k := 0) dX8_table_46 rfl <|
  r_iload_n (k := 3) dX8_table_47 rfl <|
  r_iconst (v := 0) dX8_table_48 rfl <|
  r_iload dX8_table_49 <|
  r_iconst (v := 0) dX8_table_51 rfl <|
  r_cV (Z := mX8_sits) (ci := 8) (q := (RX8, TX8, 27)) dX8_table_52 rfl (by decide +kernel) ⟨by decide, by decide⟩ (by decide) rfl rfl q2600 q2602 qs102 q127 q2603 (XS.out (noH _)) <|
  (fun _ _ _ H => H)))
  (r_bipush (v := (-3)) dX8_table_31 rfl <|
  r_ret rfl (Or.inl ⟨dX8_table_33, Or.inl rfl⟩))
def tX8_table_55 (d : Nat) (Q : Outcome → MH → Prop) (J : Nat → KT) : KT :=
  i_iload 2 <|
  i_const (-1) <|
  i_icmp_ne
  (i_iload 2 <|
  i_const 0 <|
  i_iload 4 <|
  i_const 1 <|
  i_isub <|
  i_call mX8_isIn d 3 pS (xOut Q) <|
  i_if_eq
  (i_const (-1) <|
  i_ret Q (some .int))
  (i_aload 0 <|
  i_getR 8 23 <|
  i_iload 2 <|
  i_iald <|
  i_ret Q (some .int)))
  (i_iload 4 <|
  i_if_ne
  (i_aload 0 <|
  i_getI 8 26 <|
  i_ret Q (some .int))
  (i_const 0 <|
  i_ret Q (some .int)))
theorem kX8_table_55 {d : Nat} {Q : Outcome → MH → Prop} : ∀ ls st h, tX8_table_55 d Q (fun pc ls st h => WPb mX8_table d pc ls st h Q) ls st h → WPb mX8_table d 55 ls st h Q :=
  r_iload_n (k := 2) dX8_table_55 rfl <|
  r_iconst (v := (-1)) dX8_table_56 rfl <|
  r_icmp_ne (pt := 74) dX8_table_57 (by decide)
  (r_iload_n (k := 2) dX8_table_74 rfl <|
  r_iconst (v := 0) dX8_table_75 rfl <|
  r_iload dX8_table_76 <|
  r_iconst (v := 1) dX8_table_78 rfl <|
  r_isub dX8_table_79 <|
  r_cS (Z := mX8_isIn) dX8_table_80 rfl (by decide +kernel) ⟨by decide, by decide⟩ q2235 q2236 q127 q2237 (XS.out (noH _)) <|
  r_if_eq (pt := 95) dX8_table_83 (by decide)
  (r_iconst (v := (-1)) dX8_table_95 rfl <|
  r_ret rfl (Or.inl ⟨dX8_table_96, Or.inl rfl⟩))
  (r_aload_n (k := 0) dX8_table_86 rfl <|
  r_getR (ci := 8) (q := (RX8, TX8, 27)) (k := 23) dX8_table_87 (by decide) rfl in_X8 (by decide) (Or.inl q2164) rfl <|
  r_iload_n (k := 2) dX8_table_90 rfl <|
  r_iald dX8_table_91 <|
  r_goto (pt := 96) dX8_table_92 (by decide) <|
  r_ret rfl (Or.inl ⟨dX8_table_96, Or.inl rfl⟩)))
  (r_iload dX8_table_60 <|
  r_if_ne (pt := 69) dX8_table_62 (by decide)
  (r_aload_n (k := 0) dX8_table_69 rfl <|
  r_getI (ci := 8) (q := (RX8, TX8, 27)) (k := 26) dX8_table_70 (by decide) rfl in_X8 (by decide) (Or.inl q2167) rfl <|
  r_ret rfl (Or.inl ⟨dX8_table_73, Or.inl rfl⟩))
  (r_iconst (v := 0) dX8_table_65 rfl <|
  r_goto (pt := 73) dX8_table_66 (by decide) <|
  r_ret rfl (Or.inl ⟨dX8_table_73, Or.inl rfl⟩)))
-- CheekTownModel.bits(I)I cuts [0, 4]
def tX8_bits_0 (d : Nat) (Q : Outcome → MH → Prop) (J : Nat → KT) : KT :=
  i_const 0 <|
  i_istore 1 <|
  i_const 0 <|
  i_istore 2 <|
  (J 4)
theorem kX8_bits_0 {d : Nat} {Q : Outcome → MH → Prop} : ∀ ls st h, tX8_bits_0 d Q (fun pc ls st h => WPb mX8_bits d pc ls st h Q) ls st h → WPb mX8_bits d 0 ls st h Q :=
  r_iconst (v := 0) dX8_bits_0 rfl <|
  r_istore_n (k := 1) dX8_bits_1 rfl <|
  r_iconst (v := 0) dX8_bits_2 rfl <|
  r_istore_n (k := 2) dX8_bits_3 rfl <|
  (fun _ _ _ H => H)
def tX8_bits_4 (d : Nat) (Q : Outcome → MH → Prop) (J : Nat → KT) : KT :=
  i_iload 2 <|
  i_const 31 <|
  i_icmp_ge
  (i_iload 1 <|
  i_ret Q (some .int))
  (i_iload 1 <|
  i_iload 0 <|
  i_iload 2 <|
  i_ishr <|
  i_const 1 <|
  i_iand <|
  i_iadd <|
  i_istore 1 <|
  i_iinc 2 1 <|
  (J 4))
theorem kX8_bits_4 {d : Nat} {Q : Outcome → MH → Prop} : ∀ ls st h, tX8_bits_4 d Q (fun pc ls st h => WPb mX8_bits d pc ls st h Q) ls st h → WPb mX8_bits d 4 ls st h Q :=
  r_iload_n (k := 2) dX8_bits_4 rfl <|
  r_bipush (v := 31) dX8_bits_5 rfl <|
  r_icmp_ge (pt := 24) dX8_bits_7 (by decide)
  (r_iload_n (k := 1) dX8_bits_24 rfl <|
  r_ret rfl (Or.inl ⟨dX8_bits_25, Or.inl rfl⟩))
  (r_iload_n (k := 1) dX8_bits_10 rfl <|
  r_iload_n (k := 0) dX8_bits_11 rfl <|
  r_iload_n (k := 2) dX8_bits_12 rfl <|
  r_ishr dX8_bits_13 <|
  r_iconst (v := 1) dX8_bits_14 rfl <|
  r_iand dX8_bits_15 <|
  r_iadd dX8_bits_16 <|
  r_istore_n (k := 1) dX8_bits_17 rfl <|
  r_iinc (v := 1) dX8_bits_18 rfl <|
  r_goto (pt := 4) dX8_bits_21 (by decide) <|
  (fun _ _ _ H => H))
-- CheekTownModel.sits(IIII)V cuts [0, 105, 75]
def tX8_sits_0 (d : Nat) (Q : Outcome → MH → Prop) (J : Nat → KT) : KT :=
  i_iload 4 <|
  i_aload 0 <|
  i_getI 8 26 <|
  i_icmp_le
  (i_iload 1 <|
  i_if_ne
  (i_const 0 <|
  i_istore 5 <|
  (J 105))
  (i_iload 4 <|
  i_iload 3 <|
  i_const 2 <|
  i_icmp_le
  (i_const 0 <|
  i_iadd <|
  i_istore 5 <|
  i_iload 5 <|
  i_aload 0 <|
  i_getI 8 26 <|
  i_icmp_lt
  (i_aload 0 <|
  i_iload 5 <|
  i_putI 8 26 .int <|
  i_const 0 <|
  i_istore 6 <|
  (J 75))
  (i_vret Q))
  (i_aload 0 <|
  i_aload 0 <|
  i_aload 0 <|
  i_getR 8 22 <|
  i_iload 3 <|
  i_const 1 <|
  i_isub <|
  i_iald <|
  i_const 1 <|
  i_call mX8_of d 3 (pV 8) (xOut Q) <|
  i_aload 0 <|
  i_aload 0 <|
  i_getR 8 22 <|
  i_const 0 <|
  i_iald <|
  i_const 1 <|
  i_call mX8_of d 3 (pV 8) (xOut Q) <|
  i_call mX8_costOf d 3 (pV 8) (xOut Q) <|
  i_iadd <|
  i_istore 5 <|
  i_iload 5 <|
  i_aload 0 <|
  i_getI 8 26 <|
  i_icmp_lt
  (i_aload 0 <|
  i_iload 5 <|
  i_putI 8 26 .int <|
  i_const 0 <|
  i_istore 6 <|
  (J 75))
  (i_vret Q))))
  (i_vret Q)
theorem kX8_sits_0 {d : Nat} {Q : Outcome → MH → Prop} : ∀ ls st h, tX8_sits_0 d Q (fun pc ls st h => WPb mX8_sits d pc ls st h Q) ls st h → WPb mX8_sits d 0 ls st h Q :=
  r_iload dX8_sits_0 <|
  r_aload_n (k := 0) dX8_sits_2 rfl <|
  r_getI (ci := 8) (q := (RX8, TX8, 27)) (k := 26) dX8_sits_3 (by decide) rfl in_X8 (by decide) (Or.inl q2167) rfl <|
  r_icmp_le (pt := 10) dX8_sits_6 (by decide)
  (r_iload_n (k := 1) dX8_sits_10 rfl <|
  r_if_ne (pt := 102) dX8_sits_11 (by decide)
  (r_iconst (v := 0) dX8_sits_102 rfl <|
  r_istore dX8_sits_103 <|
  (fun _ _ _ H => H))
  (r_iload dX8_sits_14 <|
  r_iload_n (k := 3) dX8_sits_16 rfl <|
  r_iconst (v := 2) dX8_sits_17 rfl <|
  r_icmp_le (pt := 52) dX8_sits_18 (by decide)
  (r_iconst (v := 0) dX8_sits_52 rfl <|
  r_iadd dX8_sits_53 <|
  r_istore dX8_sits_54 <|
  r_iload dX8_sits_56 <|
  r_aload_n (k := 0) dX8_sits_58 rfl <|
  r_getI (ci := 8) (q := (RX8, TX8, 27)) (k := 26) dX8_sits_59 (by decide) rfl in_X8 (by decide) (Or.inl q2167) rfl <|
  r_icmp_lt (pt := 66) dX8_sits_62 (by decide)
  (r_aload_n (k := 0) dX8_sits_66 rfl <|
  r_iload dX8_sits_67 <|
  r_putI (ci := 8) (q := (RX8, TX8, 27)) (k := 26) tyX8 tyX8_ok nmX8 dX8_sits_69 (by decide) rfl in_X8 (by decide) (Or.inl ⟨rfl, (Or.inl q2167)⟩) rfl rfl <|
  r_iconst (v := 0) dX8_sits_72 rfl <|
  r_istore dX8_sits_73 <|
  (fun _ _ _ H => H))
  (r_vret rfl dX8_sits_65))
  (r_aload_n (k := 0) dX8_sits_21 rfl <|
  r_aload_n (k := 0) dX8_sits_22 rfl <|
  r_aload_n (k := 0) dX8_sits_23 rfl <|
  r_getR (ci := 8) (q := (RX8, TX8, 27)) (k := 22) dX8_sits_24 (by decide) rfl in_X8 (by decide) (Or.inl q2163) rfl <|
  r_iload_n (k := 3) dX8_sits_27 rfl <|
  r_iconst (v := 1) dX8_sits_28 rfl <|
  r_isub dX8_sits_29 <|
  r_iald dX8_sits_30 <|
  r_iconst (v := 1) dX8_sits_31 rfl <|
  r_cV (Z := mX8_of) (ci := 8) (q := (RX8, TX8, 27)) dX8_sits_32 rfl (by decide +kernel) ⟨by decide, by decide⟩ (by decide) rfl rfl q2443 q2445 qs86 q127 q2446 (XS.out (noH _)) <|
  r_aload_n (k := 0) dX8_sits_35 rfl <|
  r_aload_n (k := 0) dX8_sits_36 rfl <|
  r_getR (ci := 8) (q := (RX8, TX8, 27)) (k := 22) dX8_sits_37 (by decide) rfl in_X8 (by decide) (Or.inl q2163) rfl <|
  r_iconst (v := 0) dX8_sits_40 rfl <|
  r_iald dX8_sits_41 <|
  r_iconst (v := 1) dX8_sits_42 rfl <|
  r_cV (Z := mX8_of) (ci := 8) (q := (RX8, TX8, 27)) dX8_sits_43 rfl (by decide +kernel) ⟨by decide, by decide⟩ (by decide) rfl rfl q2443 q2445 qs86 q127 q2446 (XS.out (noH _)) <|
  r_cV (Z := mX8_costOf) (ci := 8) (q := (RX8, TX8, 27)) dX8_sits_46 rfl (by decide +kernel) ⟨by decide, by decide⟩ (by decide) rfl rfl q2416 q2418 qs82 q127 q2419 (XS.out (noH _)) <|
  r_goto (pt := 53) dX8_sits_49 (by decide) <|
  r_iadd dX8_sits_53 <|
  r_istore dX8_sits_54 <|
  r_iload dX8_sits_56 <|
  r_aload_n (k := 0) dX8_sits_58 rfl <|
  r_getI (ci := 8) (q := (RX8, TX8, 27)) (k := 26) dX8_sits_59 (by decide) rfl in_X8 (by decide) (Or.inl q2167) rfl <|
  r_icmp_lt (pt := 66) dX8_sits_62 (by decide)
  (r_aload_n (k := 0) dX8_sits_66 rfl <|
  r_iload dX8_sits_67 <|
  r_putI (ci := 8) (q := (RX8, TX8, 27)) (k := 26) tyX8 tyX8_ok nmX8 dX8_sits_69 (by decide) rfl in_X8 (by decide) (Or.inl ⟨rfl, (Or.inl q2167)⟩) rfl rfl <|
  r_iconst (v := 0) dX8_sits_72 rfl <|
  r_istore dX8_sits_73 <|
  (fun _ _ _ H => H))
  (r_vret rfl dX8_sits_65))))
  (r_vret rfl dX8_sits_9)
def tX8_sits_105 (d : Nat) (Q : Outcome → MH → Prop) (J : Nat → KT) : KT :=
  i_iload 5 <|
  i_aload 0 <|
  i_getR 8 1 <|
  i_const 5 <|
  i_iald <|
  i_icmp_ge
  (i_vret Q)
  (i_iload 1 <|
  i_iload 5 <|
  i_call mX8_isOf d 2 pS (xOut Q) <|
  i_if_ne
  (i_aload 0 <|
  i_getR 8 22 <|
  i_iload 2 <|
  i_iload 5 <|
  i_iast <|
  i_aload 0 <|
  i_iload 1 <|
  i_const 1 <|
  i_iload 5 <|
  i_ishl <|
  i_const (-1) <|
  i_ixor <|
  i_iand <|
  i_iload 2 <|
  i_const 1 <|
  i_iadd <|
  i_iload 3 <|
  i_iload 4 <|
  i_iload 2 <|
  i_if_le
  (i_const 0 <|
  i_iadd <|
  i_call mX8_sits d 5 (pV 8) (xOut Q) <|
  i_iload 2 <|
  i_if_ne
  (i_iinc 5 1 <|
  (J 105))
  (i_vret Q))
  (i_aload 0 <|
  i_aload 0 <|
  i_aload 0 <|
  i_getR 8 22 <|
  i_iload 2 <|
  i_const 1 <|
  i_isub <|
  i_iald <|
  i_const 1 <|
  i_call mX8_of d 3 (pV 8) (xOut Q) <|
  i_aload 0 <|
  i_iload 5 <|
  i_const 1 <|
  i_call mX8_of d 3 (pV 8) (xOut Q) <|
  i_call mX8_costOf d 3 (pV 8) (xOut Q) <|
  i_iadd <|
  i_call mX8_sits d 5 (pV 8) (xOut Q) <|
  i_iload 2 <|
  i_if_ne
  (i_iinc 5 1 <|
  (J 105))
  (i_vret Q)))
  (i_iinc 5 1 <|
  (J 105)))
theorem kX8_sits_105 {d : Nat} {Q : Outcome → MH → Prop} : ∀ ls st h, tX8_sits_105 d Q (fun pc ls st h => WPb mX8_sits d pc ls st h Q) ls st h → WPb mX8_sits d 105 ls st h Q :=
  r_iload dX8_sits_105 <|
  r_aload_n (k := 0) dX8_sits_107 rfl <|
  r_getR (ci := 8) (q := (RX8, TX8, 27)) (k := 1) dX8_sits_108 (by decide) rfl in_X8 (by decide) (Or.inl q2142) rfl <|
  r_iconst (v := 5) dX8_sits_111 rfl <|
  r_iald dX8_sits_112 <|
  r_icmp_ge (pt := 198) dX8_sits_113 (by decide)
  (r_vret rfl dX8_sits_198)
  (r_iload_n (k := 1) dX8_sits_116 rfl <|
  r_iload dX8_sits_117 <|
  r_cS (Z := mX8_isOf) dX8_sits_119 rfl (by decide +kernel) ⟨by decide, by decide⟩ q2526 q2527 q127 q2528 (XS.out (noH _)) <|
  r_if_ne (pt := 128) dX8_sits_122 (by decide)
  (r_aload_n (k := 0) dX8_sits_128 rfl <|
  r_getR (ci := 8) (q := (RX8, TX8, 27)) (k := 22) dX8_sits_129 (by decide) rfl in_X8 (by decide) (Or.inl q2163) rfl <|
  r_iload_n (k := 2) dX8_sits_132 rfl <|
  r_iload dX8_sits_133 <|
  r_iast dX8_sits_135 <|
  r_aload_n (k := 0) dX8_sits_136 rfl <|
  r_iload_n (k := 1) dX8_sits_137 rfl <|
  r_iconst (v := 1) dX8_sits_138 rfl <|
  r_iload dX8_sits_139 <|
  r_ishl dX8_sits_141 <|
  r_iconst (v := (-1)) dX8_sits_142 rfl <|
  r_ixor dX8_sits_143 <|
  r_iand dX8_sits_144 <|
  r_iload_n (k := 2) dX8_sits_145 rfl <|
  r_iconst (v := 1) dX8_sits_146 rfl <|
  r_iadd dX8_sits_147 <|
  r_iload_n (k := 3) dX8_sits_148 rfl <|
  r_iload dX8_sits_149 <|
  r_iload_n (k := 2) dX8_sits_151 rfl <|
  r_if_le (pt := 182) dX8_sits_152 (by decide)
  (r_iconst (v := 0) dX8_sits_182 rfl <|
  r_iadd dX8_sits_183 <|
  r_cV (Z := mX8_sits) (ci := 8) (q := (RX8, TX8, 27)) dX8_sits_184 rfl (by decide +kernel) ⟨by decide, by decide⟩ (by decide) rfl rfl q2600 q2602 qs102 q127 q2603 (XS.out (noH _)) <|
  r_iload_n (k := 2) dX8_sits_187 rfl <|
  r_if_ne (pt := 192) dX8_sits_188 (by decide)
  (r_iinc (v := 1) dX8_sits_192 rfl <|
  r_goto (pt := 105) dX8_sits_195 (by decide) <|
  (fun _ _ _ H => H))
  (r_vret rfl dX8_sits_191))
  (r_aload_n (k := 0) dX8_sits_155 rfl <|
  r_aload_n (k := 0) dX8_sits_156 rfl <|
  r_aload_n (k := 0) dX8_sits_157 rfl <|
  r_getR (ci := 8) (q := (RX8, TX8, 27)) (k := 22) dX8_sits_158 (by decide) rfl in_X8 (by decide) (Or.inl q2163) rfl <|
  r_iload_n (k := 2) dX8_sits_161 rfl <|
  r_iconst (v := 1) dX8_sits_162 rfl <|
  r_isub dX8_sits_163 <|
  r_iald dX8_sits_164 <|
  r_iconst (v := 1) dX8_sits_165 rfl <|
  r_cV (Z := mX8_of) (ci := 8) (q := (RX8, TX8, 27)) dX8_sits_166 rfl (by decide +kernel) ⟨by decide, by decide⟩ (by decide) rfl rfl q2443 q2445 qs86 q127 q2446 (XS.out (noH _)) <|
  r_aload_n (k := 0) dX8_sits_169 rfl <|
  r_iload dX8_sits_170 <|
  r_iconst (v := 1) dX8_sits_172 rfl <|
  r_cV (Z := mX8_of) (ci := 8) (q := (RX8, TX8, 27)) dX8_sits_173 rfl (by decide +kernel) ⟨by decide, by decide⟩ (by decide) rfl rfl q2443 q2445 qs86 q127 q2446 (XS.out (noH _)) <|
  r_cV (Z := mX8_costOf) (ci := 8) (q := (RX8, TX8, 27)) dX8_sits_176 rfl (by decide +kernel) ⟨by decide, by decide⟩ (by decide) rfl rfl q2416 q2418 qs82 q127 q2419 (XS.out (noH _)) <|
  r_goto (pt := 183) dX8_sits_179 (by decide) <|
  r_iadd dX8_sits_183 <|
  r_cV (Z := mX8_sits) (ci := 8) (q := (RX8, TX8, 27)) dX8_sits_184 rfl (by decide +kernel) ⟨by decide, by decide⟩ (by decide) rfl rfl q2600 q2602 qs102 q127 q2603 (XS.out (noH _)) <|
  r_iload_n (k := 2) dX8_sits_187 rfl <|
  r_if_ne (pt := 192) dX8_sits_188 (by decide)
  (r_iinc (v := 1) dX8_sits_192 rfl <|
  r_goto (pt := 105) dX8_sits_195 (by decide) <|
  (fun _ _ _ H => H))
  (r_vret rfl dX8_sits_191)))
  (r_goto (pt := 192) dX8_sits_125 (by decide) <|
  r_iinc (v := 1) dX8_sits_192 rfl <|
  r_goto (pt := 105) dX8_sits_195 (by decide) <|
  (fun _ _ _ H => H)))
def tX8_sits_75 (d : Nat) (Q : Outcome → MH → Prop) (J : Nat → KT) : KT :=
  i_iload 6 <|
  i_iload 3 <|
  i_icmp_ge
  (i_vret Q)
  (i_aload 0 <|
  i_getR 8 23 <|
  i_iload 6 <|
  i_aload 0 <|
  i_getR 8 22 <|
  i_iload 6 <|
  i_iald <|
  i_iast <|
  i_iinc 6 1 <|
  (J 75))
theorem kX8_sits_75 {d : Nat} {Q : Outcome → MH → Prop} : ∀ ls st h, tX8_sits_75 d Q (fun pc ls st h => WPb mX8_sits d pc ls st h Q) ls st h → WPb mX8_sits d 75 ls st h Q :=
  r_iload dX8_sits_75 <|
  r_iload_n (k := 3) dX8_sits_77 rfl <|
  r_icmp_ge (pt := 101) dX8_sits_78 (by decide)
  (r_vret rfl dX8_sits_101)
  (r_aload_n (k := 0) dX8_sits_81 rfl <|
  r_getR (ci := 8) (q := (RX8, TX8, 27)) (k := 23) dX8_sits_82 (by decide) rfl in_X8 (by decide) (Or.inl q2164) rfl <|
  r_iload dX8_sits_85 <|
  r_aload_n (k := 0) dX8_sits_87 rfl <|
  r_getR (ci := 8) (q := (RX8, TX8, 27)) (k := 22) dX8_sits_88 (by decide) rfl in_X8 (by decide) (Or.inl q2163) rfl <|
  r_iload dX8_sits_91 <|
  r_iald dX8_sits_93 <|
  r_iast dX8_sits_94 <|
  r_iinc (v := 1) dX8_sits_95 rfl <|
  r_goto (pt := 75) dX8_sits_98 (by decide) <|
  (fun _ _ _ H => H))
-- CheekTownModel.pairs(Z)I cuts [0, 7, 53]
def tX8_pairs_0 (d : Nat) (Q : Outcome → MH → Prop) (J : Nat → KT) : KT :=
  i_aload 0 <|
  i_const 0 <|
  i_putI 8 0 .int <|
  i_const 0 <|
  i_istore 2 <|
  (J 7)
theorem kX8_pairs_0 {d : Nat} {Q : Outcome → MH → Prop} : ∀ ls st h, tX8_pairs_0 d Q (fun pc ls st h => WPb mX8_pairs d pc ls st h Q) ls st h → WPb mX8_pairs d 0 ls st h Q :=
  r_aload_n (k := 0) dX8_pairs_0 rfl <|
  r_iconst (v := 0) dX8_pairs_1 rfl <|
  r_putI (ci := 8) (q := (RX8, TX8, 27)) (k := 0) tyX8 tyX8_ok nmX8 dX8_pairs_2 (by decide) rfl in_X8 (by decide) (Or.inl ⟨rfl, (Or.inl q2141)⟩) rfl rfl <|
  r_iconst (v := 0) dX8_pairs_5 rfl <|
  r_istore_n (k := 2) dX8_pairs_6 rfl <|
  (fun _ _ _ H => H)
def tX8_pairs_7 (d : Nat) (Q : Outcome → MH → Prop) (J : Nat → KT) : KT :=
  i_iload 2 <|
  i_const 1024 <|
  i_icmp_ge
  (i_const 1 <|
  i_aload 0 <|
  i_getR 8 1 <|
  i_const 5 <|
  i_iald <|
  i_ishl <|
  i_const 1 <|
  i_isub <|
  i_istore 2 <|
  i_iload 1 <|
  i_if_ne
  (i_const 0 <|
  i_istore 3 <|
  i_const 0 <|
  i_istore 4 <|
  (J 53))
  (i_aload 0 <|
  i_iload 2 <|
  i_call mX8_pairsOf d 2 (pV 8) (xOut Q) <|
  i_ret Q (some .int)))
  (i_aload 0 <|
  i_getR 8 24 <|
  i_iload 2 <|
  i_const (-1) <|
  i_iast <|
  i_iinc 2 1 <|
  (J 7))
theorem kX8_pairs_7 {d : Nat} {Q : Outcome → MH → Prop} : ∀ ls st h, tX8_pairs_7 d Q (fun pc ls st h => WPb mX8_pairs d pc ls st h Q) ls st h → WPb mX8_pairs d 7 ls st h Q :=
  r_iload_n (k := 2) dX8_pairs_7 rfl <|
  r_sipush (v := 1024) dX8_pairs_8 rfl <|
  r_icmp_ge (pt := 27) dX8_pairs_11 (by decide)
  (r_iconst (v := 1) dX8_pairs_27 rfl <|
  r_aload_n (k := 0) dX8_pairs_28 rfl <|
  r_getR (ci := 8) (q := (RX8, TX8, 27)) (k := 1) dX8_pairs_29 (by decide) rfl in_X8 (by decide) (Or.inl q2142) rfl <|
  r_iconst (v := 5) dX8_pairs_32 rfl <|
  r_iald dX8_pairs_33 <|
  r_ishl dX8_pairs_34 <|
  r_iconst (v := 1) dX8_pairs_35 rfl <|
  r_isub dX8_pairs_36 <|
  r_istore_n (k := 2) dX8_pairs_37 rfl <|
  r_iload_n (k := 1) dX8_pairs_38 rfl <|
  r_if_ne (pt := 48) dX8_pairs_39 (by decide)
  (r_iconst (v := 0) dX8_pairs_48 rfl <|
  r_istore_n (k := 3) dX8_pairs_49 rfl <|
  r_iconst (v := 0) dX8_pairs_50 rfl <|
  r_istore dX8_pairs_51 <|
  (fun _ _ _ H => H))
  (r_aload_n (k := 0) dX8_pairs_42 rfl <|
  r_iload_n (k := 2) dX8_pairs_43 rfl <|
  r_cV (Z := mX8_pairsOf) (ci := 8) (q := (RX8, TX8, 27)) dX8_pairs_44 rfl (by decide +kernel) ⟨by decide, by decide⟩ (by decide) rfl rfl q2608 q2610 qs103 q127 q2611 (XS.out (noH _)) <|
  r_ret rfl (Or.inl ⟨dX8_pairs_47, Or.inl rfl⟩)))
  (r_aload_n (k := 0) dX8_pairs_14 rfl <|
  r_getR (ci := 8) (q := (RX8, TX8, 27)) (k := 24) dX8_pairs_15 (by decide) rfl in_X8 (by decide) (Or.inl q2165) rfl <|
  r_iload_n (k := 2) dX8_pairs_18 rfl <|
  r_iconst (v := (-1)) dX8_pairs_19 rfl <|
  r_iast dX8_pairs_20 <|
  r_iinc (v := 1) dX8_pairs_21 rfl <|
  r_goto (pt := 7) dX8_pairs_24 (by decide) <|
  (fun _ _ _ H => H))
def tX8_pairs_53 (d : Nat) (Q : Outcome → MH → Prop) (J : Nat → KT) : KT :=
  i_iload 4 <|
  i_aload 0 <|
  i_getR 8 1 <|
  i_const 6 <|
  i_iald <|
  i_icmp_ge
  (i_iload 2 <|
  i_iload 3 <|
  i_iand <|
  i_ret Q (some .int))
  (i_const 1 <|
  i_aload 0 <|
  i_iload 4 <|
  i_call mX8_who d 2 (pV 8) (xOut Q) <|
  i_ishl <|
  i_const 1 <|
  i_aload 0 <|
  i_iload 4 <|
  i_call mX8_whom d 2 (pV 8) (xOut Q) <|
  i_ishl <|
  i_ior <|
  i_istore 5 <|
  i_iload 3 <|
  i_iload 5 <|
  i_ior <|
  i_istore 3 <|
  i_iload 2 <|
  i_iload 5 <|
  i_iand <|
  i_iload 5 <|
  i_icmp_ne
  (i_iinc 4 1 <|
  (J 53))
  (i_const 1 <|
  i_aload 0 <|
  i_iload 2 <|
  i_iload 5 <|
  i_const (-1) <|
  i_ixor <|
  i_iand <|
  i_call mX8_pairsOf d 2 (pV 8) (xOut Q) <|
  i_iadd <|
  i_aload 0 <|
  i_iload 2 <|
  i_call mX8_pairsOf d 2 (pV 8) (xOut Q) <|
  i_icmp_ne
  (i_iinc 4 1 <|
  (J 53))
  (i_iload 2 <|
  i_iload 5 <|
  i_const (-1) <|
  i_ixor <|
  i_iand <|
  i_istore 2 <|
  i_iinc 4 1 <|
  (J 53))))
theorem kX8_pairs_53 {d : Nat} {Q : Outcome → MH → Prop} : ∀ ls st h, tX8_pairs_53 d Q (fun pc ls st h => WPb mX8_pairs d pc ls st h Q) ls st h → WPb mX8_pairs d 53 ls st h Q :=
  r_iload dX8_pairs_53 <|
  r_aload_n (k := 0) dX8_pairs_55 rfl <|
  r_getR (ci := 8) (q := (RX8, TX8, 27)) (k := 1) dX8_pairs_56 (by decide) rfl in_X8 (by decide) (Or.inl q2142) rfl <|
  r_bipush (v := 6) dX8_pairs_59 rfl <|
  r_iald dX8_pairs_61 <|
  r_icmp_ge (pt := 131) dX8_pairs_62 (by decide)
  (r_iload_n (k := 2) dX8_pairs_131 rfl <|
  r_iload_n (k := 3) dX8_pairs_132 rfl <|
  r_iand dX8_pairs_133 <|
  r_ret rfl (Or.inl ⟨dX8_pairs_134, Or.inl rfl⟩))
  (r_iconst (v := 1) dX8_pairs_65 rfl <|
  r_aload_n (k := 0) dX8_pairs_66 rfl <|
  r_iload dX8_pairs_67 <|
  r_cV (Z := mX8_who) (ci := 8) (q := (RX8, TX8, 27)) dX8_pairs_69 rfl (by decide +kernel) ⟨by decide, by decide⟩ (by decide) rfl rfl q2378 q2380 qs77 q127 q2381 (XS.out (noH _)) <|
  r_ishl dX8_pairs_72 <|
  r_iconst (v := 1) dX8_pairs_73 rfl <|
  r_aload_n (k := 0) dX8_pairs_74 rfl <|
  r_iload dX8_pairs_75 <|
  r_cV (Z := mX8_whom) (ci := 8) (q := (RX8, TX8, 27)) dX8_pairs_77 rfl (by decide +kernel) ⟨by decide, by decide⟩ (by decide) rfl rfl q2382 q2384 qs78 q127 q2385 (XS.out (noH _)) <|
  r_ishl dX8_pairs_80 <|
  r_ior dX8_pairs_81 <|
  r_istore dX8_pairs_82 <|
  r_iload_n (k := 3) dX8_pairs_84 rfl <|
  r_iload dX8_pairs_85 <|
  r_ior dX8_pairs_87 <|
  r_istore_n (k := 3) dX8_pairs_88 rfl <|
  r_iload_n (k := 2) dX8_pairs_89 rfl <|
  r_iload dX8_pairs_90 <|
  r_iand dX8_pairs_92 <|
  r_iload dX8_pairs_93 <|
  r_icmp_ne (pt := 125) dX8_pairs_95 (by decide)
  (r_iinc (v := 1) dX8_pairs_125 rfl <|
  r_goto (pt := 53) dX8_pairs_128 (by decide) <|
  (fun _ _ _ H => H))
  (r_iconst (v := 1) dX8_pairs_98 rfl <|
  r_aload_n (k := 0) dX8_pairs_99 rfl <|
  r_iload_n (k := 2) dX8_pairs_100 rfl <|
  r_iload dX8_pairs_101 <|
  r_iconst (v := (-1)) dX8_pairs_103 rfl <|
  r_ixor dX8_pairs_104 <|
  r_iand dX8_pairs_105 <|
  r_cV (Z := mX8_pairsOf) (ci := 8) (q := (RX8, TX8, 27)) dX8_pairs_106 rfl (by decide +kernel) ⟨by decide, by decide⟩ (by decide) rfl rfl q2608 q2610 qs103 q127 q2611 (XS.out (noH _)) <|
  r_iadd dX8_pairs_109 <|
  r_aload_n (k := 0) dX8_pairs_110 rfl <|
  r_iload_n (k := 2) dX8_pairs_111 rfl <|
  r_cV (Z := mX8_pairsOf) (ci := 8) (q := (RX8, TX8, 27)) dX8_pairs_112 rfl (by decide +kernel) ⟨by decide, by decide⟩ (by decide) rfl rfl q2608 q2610 qs103 q127 q2611 (XS.out (noH _)) <|
  r_icmp_ne (pt := 125) dX8_pairs_115 (by decide)
  (r_iinc (v := 1) dX8_pairs_125 rfl <|
  r_goto (pt := 53) dX8_pairs_128 (by decide) <|
  (fun _ _ _ H => H))
  (r_iload_n (k := 2) dX8_pairs_118 rfl <|
  r_iload dX8_pairs_119 <|
  r_iconst (v := (-1)) dX8_pairs_121 rfl <|
  r_ixor dX8_pairs_122 <|
  r_iand dX8_pairs_123 <|
  r_istore_n (k := 2) dX8_pairs_124 rfl <|
  r_iinc (v := 1) dX8_pairs_125 rfl <|
  r_goto (pt := 53) dX8_pairs_128 (by decide) <|
  (fun _ _ _ H => H))))
-- CheekTownModel.pairsOf(I)I cuts [0, 25, 59]
def tX8_pairsOf_0 (d : Nat) (Q : Outcome → MH → Prop) (J : Nat → KT) : KT :=
  i_iload 1 <|
  i_if_ne
  (i_aload 0 <|
  i_getR 8 24 <|
  i_iload 1 <|
  i_iald <|
  i_const (-1) <|
  i_icmp_eq
  (i_const 0 <|
  i_istore 2 <|
  (J 25))
  (i_aload 0 <|
  i_getR 8 24 <|
  i_iload 1 <|
  i_iald <|
  i_ret Q (some .int)))
  (i_const 0 <|
  i_ret Q (some .int))
theorem kX8_pairsOf_0 {d : Nat} {Q : Outcome → MH → Prop} : ∀ ls st h, tX8_pairsOf_0 d Q (fun pc ls st h => WPb mX8_pairsOf d pc ls st h Q) ls st h → WPb mX8_pairsOf d 0 ls st h Q :=
  r_iload_n (k := 1) dX8_pairsOf_0 rfl <|
  r_if_ne (pt := 6) dX8_pairsOf_1 (by decide)
  (r_aload_n (k := 0) dX8_pairsOf_6 rfl <|
  r_getR (ci := 8) (q := (RX8, TX8, 27)) (k := 24) dX8_pairsOf_7 (by decide) rfl in_X8 (by decide) (Or.inl q2165) rfl <|
  r_iload_n (k := 1) dX8_pairsOf_10 rfl <|
  r_iald dX8_pairsOf_11 <|
  r_iconst (v := (-1)) dX8_pairsOf_12 rfl <|
  r_icmp_eq (pt := 23) dX8_pairsOf_13 (by decide)
  (r_iconst (v := 0) dX8_pairsOf_23 rfl <|
  r_istore_n (k := 2) dX8_pairsOf_24 rfl <|
  (fun _ _ _ H => H))
  (r_aload_n (k := 0) dX8_pairsOf_16 rfl <|
  r_getR (ci := 8) (q := (RX8, TX8, 27)) (k := 24) dX8_pairsOf_17 (by decide) rfl in_X8 (by decide) (Or.inl q2165) rfl <|
  r_iload_n (k := 1) dX8_pairsOf_20 rfl <|
  r_iald dX8_pairsOf_21 <|
  r_ret rfl (Or.inl ⟨dX8_pairsOf_22, Or.inl rfl⟩)))
  (r_iconst (v := 0) dX8_pairsOf_4 rfl <|
  r_ret rfl (Or.inl ⟨dX8_pairsOf_5, Or.inl rfl⟩))
def tX8_pairsOf_25 (d : Nat) (Q : Outcome → MH → Prop) (J : Nat → KT) : KT :=
  i_iload 1 <|
  i_iload 2 <|
  i_call mX8_isOf d 2 pS (xOut Q) <|
  i_if_ne
  (i_iload 1 <|
  i_const 1 <|
  i_iload 2 <|
  i_ishl <|
  i_const (-1) <|
  i_ixor <|
  i_iand <|
  i_istore 3 <|
  i_aload 0 <|
  i_iload 3 <|
  i_call mX8_pairsOf d 2 (pV 8) (xOut Q) <|
  i_istore 4 <|
  i_iload 2 <|
  i_const 1 <|
  i_iadd <|
  i_istore 5 <|
  (J 59))
  (i_iinc 2 1 <|
  (J 25))
theorem kX8_pairsOf_25 {d : Nat} {Q : Outcome → MH → Prop} : ∀ ls st h, tX8_pairsOf_25 d Q (fun pc ls st h => WPb mX8_pairsOf d pc ls st h Q) ls st h → WPb mX8_pairsOf d 25 ls st h Q :=
  r_iload_n (k := 1) dX8_pairsOf_25 rfl <|
  r_iload_n (k := 2) dX8_pairsOf_26 rfl <|
  r_cS (Z := mX8_isOf) dX8_pairsOf_27 rfl (by decide +kernel) ⟨by decide, by decide⟩ q2526 q2527 q127 q2528 (XS.out (noH _)) <|
  r_if_ne (pt := 39) dX8_pairsOf_30 (by decide)
  (r_iload_n (k := 1) dX8_pairsOf_39 rfl <|
  r_iconst (v := 1) dX8_pairsOf_40 rfl <|
  r_iload_n (k := 2) dX8_pairsOf_41 rfl <|
  r_ishl dX8_pairsOf_42 <|
  r_iconst (v := (-1)) dX8_pairsOf_43 rfl <|
  r_ixor dX8_pairsOf_44 <|
  r_iand dX8_pairsOf_45 <|
  r_istore_n (k := 3) dX8_pairsOf_46 rfl <|
  r_aload_n (k := 0) dX8_pairsOf_47 rfl <|
  r_iload_n (k := 3) dX8_pairsOf_48 rfl <|
  r_cV (Z := mX8_pairsOf) (ci := 8) (q := (RX8, TX8, 27)) dX8_pairsOf_49 rfl (by decide +kernel) ⟨by decide, by decide⟩ (by decide) rfl rfl q2608 q2610 qs103 q127 q2611 (XS.out (noH _)) <|
  r_istore dX8_pairsOf_52 <|
  r_iload_n (k := 2) dX8_pairsOf_54 rfl <|
  r_iconst (v := 1) dX8_pairsOf_55 rfl <|
  r_iadd dX8_pairsOf_56 <|
  r_istore dX8_pairsOf_57 <|
  (fun _ _ _ H => H))
  (r_iinc (v := 1) dX8_pairsOf_33 rfl <|
  r_goto (pt := 25) dX8_pairsOf_36 (by decide) <|
  (fun _ _ _ H => H))
def tX8_pairsOf_59 (d : Nat) (Q : Outcome → MH → Prop) (J : Nat → KT) : KT :=
  i_iload 5 <|
  i_aload 0 <|
  i_getR 8 1 <|
  i_const 5 <|
  i_iald <|
  i_icmp_ge
  (i_aload 0 <|
  i_getR 8 24 <|
  i_iload 1 <|
  i_iload 4 <|
  i_iast <|
  i_iload 4 <|
  i_ret Q (some .int))
  (i_iload 3 <|
  i_iload 5 <|
  i_call mX8_isOf d 2 pS (xOut Q) <|
  i_if_eq
  (i_iinc 5 1 <|
  (J 59))
  (i_aload 0 <|
  i_iload 2 <|
  i_iload 5 <|
  i_call mX8_areTied d 3 (pV 8) (xOut Q) <|
  i_if_eq
  (i_iinc 5 1 <|
  (J 59))
  (i_iload 4 <|
  i_const 1 <|
  i_aload 0 <|
  i_iload 3 <|
  i_const 1 <|
  i_iload 5 <|
  i_ishl <|
  i_const (-1) <|
  i_ixor <|
  i_iand <|
  i_call mX8_pairsOf d 2 (pV 8) (xOut Q) <|
  i_iadd <|
  i_call mX8_greater d 2 pS (xOut Q) <|
  i_istore 4 <|
  i_iinc 5 1 <|
  (J 59))))
theorem kX8_pairsOf_59 {d : Nat} {Q : Outcome → MH → Prop} : ∀ ls st h, tX8_pairsOf_59 d Q (fun pc ls st h => WPb mX8_pairsOf d pc ls st h Q) ls st h → WPb mX8_pairsOf d 59 ls st h Q :=
  r_iload dX8_pairsOf_59 <|
  r_aload_n (k := 0) dX8_pairsOf_61 rfl <|
  r_getR (ci := 8) (q := (RX8, TX8, 27)) (k := 1) dX8_pairsOf_62 (by decide) rfl in_X8 (by decide) (Or.inl q2142) rfl <|
  r_iconst (v := 5) dX8_pairsOf_65 rfl <|
  r_iald dX8_pairsOf_66 <|
  r_icmp_ge (pt := 116) dX8_pairsOf_67 (by decide)
  (r_aload_n (k := 0) dX8_pairsOf_116 rfl <|
  r_getR (ci := 8) (q := (RX8, TX8, 27)) (k := 24) dX8_pairsOf_117 (by decide) rfl in_X8 (by decide) (Or.inl q2165) rfl <|
  r_iload_n (k := 1) dX8_pairsOf_120 rfl <|
  r_iload dX8_pairsOf_121 <|
  r_iast dX8_pairsOf_123 <|
  r_iload dX8_pairsOf_124 <|
  r_ret rfl (Or.inl ⟨dX8_pairsOf_126, Or.inl rfl⟩))
  (r_iload_n (k := 3) dX8_pairsOf_70 rfl <|
  r_iload dX8_pairsOf_71 <|
  r_cS (Z := mX8_isOf) dX8_pairsOf_73 rfl (by decide +kernel) ⟨by decide, by decide⟩ q2526 q2527 q127 q2528 (XS.out (noH _)) <|
  r_if_eq (pt := 110) dX8_pairsOf_76 (by decide)
  (r_iinc (v := 1) dX8_pairsOf_110 rfl <|
  r_goto (pt := 59) dX8_pairsOf_113 (by decide) <|
  (fun _ _ _ H => H))
  (r_aload_n (k := 0) dX8_pairsOf_79 rfl <|
  r_iload_n (k := 2) dX8_pairsOf_80 rfl <|
  r_iload dX8_pairsOf_81 <|
  r_cV (Z := mX8_areTied) (ci := 8) (q := (RX8, TX8, 27)) dX8_pairsOf_83 rfl (by decide +kernel) ⟨by decide, by decide⟩ (by decide) rfl rfl q2374 q2376 qs76 q127 q2377 (XS.out (noH _)) <|
  r_if_eq (pt := 110) dX8_pairsOf_86 (by decide)
  (r_iinc (v := 1) dX8_pairsOf_110 rfl <|
  r_goto (pt := 59) dX8_pairsOf_113 (by decide) <|
  (fun _ _ _ H => H))
  (r_iload dX8_pairsOf_89 <|
  r_iconst (v := 1) dX8_pairsOf_91 rfl <|
  r_aload_n (k := 0) dX8_pairsOf_92 rfl <|
  r_iload_n (k := 3) dX8_pairsOf_93 rfl <|
  r_iconst (v := 1) dX8_pairsOf_94 rfl <|
  r_iload dX8_pairsOf_95 <|
  r_ishl dX8_pairsOf_97 <|
  r_iconst (v := (-1)) dX8_pairsOf_98 rfl <|
  r_ixor dX8_pairsOf_99 <|
  r_iand dX8_pairsOf_100 <|
  r_cV (Z := mX8_pairsOf) (ci := 8) (q := (RX8, TX8, 27)) dX8_pairsOf_101 rfl (by decide +kernel) ⟨by decide, by decide⟩ (by decide) rfl rfl q2608 q2610 qs103 q127 q2611 (XS.out (noH _)) <|
  r_iadd dX8_pairsOf_104 <|
  r_cS (Z := mX8_greater) dX8_pairsOf_105 rfl (by decide +kernel) ⟨by decide, by decide⟩ q2486 q2487 q127 q2488 (XS.out (noH _)) <|
  r_istore dX8_pairsOf_108 <|
  r_iinc (v := 1) dX8_pairsOf_110 rfl <|
  r_goto (pt := 59) dX8_pairsOf_113 (by decide) <|
  (fun _ _ _ H => H))))
-- CheekTownModel.begins(I)I cuts [0, 15, 42]
def tX8_begins_2_0 (d : Nat) (Q : Outcome → MH → Prop) (J : Nat → KT) : KT :=
  i_aload 0 <|
  i_iload 1 <|
  i_const (-1) <|
  i_const 2 <|
  i_call mX8_isIn d 3 pS (xOut Q) <|
  i_if_ne
  (i_const 0 <|
  (J 15))
  (i_const 1 <|
  (J 15))
theorem kX8_begins_2_0 {d : Nat} {Q : Outcome → MH → Prop} : ∀ ls st h, tX8_begins_2_0 d Q (fun pc ls st h => WPb mX8_begins_2 d pc ls st h Q) ls st h → WPb mX8_begins_2 d 0 ls st h Q :=
  r_aload_n (k := 0) dX8_begins_2_0 rfl <|
  r_iload_n (k := 1) dX8_begins_2_1 rfl <|
  r_iconst (v := (-1)) dX8_begins_2_2 rfl <|
  r_iconst (v := 2) dX8_begins_2_3 rfl <|
  r_cS (Z := mX8_isIn) dX8_begins_2_4 rfl (by decide +kernel) ⟨by decide, by decide⟩ q2235 q2236 q127 q2237 (XS.out (noH _)) <|
  r_if_ne (pt := 14) dX8_begins_2_7 (by decide)
  (r_iconst (v := 0) dX8_begins_2_14 rfl <|
  (fun _ _ _ H => H))
  (r_iconst (v := 1) dX8_begins_2_10 rfl <|
  r_goto (pt := 15) dX8_begins_2_11 (by decide) <|
  (fun _ _ _ H => H))
def tX8_begins_2_15 (d : Nat) (Q : Outcome → MH → Prop) (J : Nat → KT) : KT :=
  i_putI 8 0 .int <|
  i_aload 0 <|
  i_getI 8 0 <|
  i_if_le
  (i_iload 1 <|
  i_const (-1) <|
  i_icmp_eq
  (i_const 0 <|
  i_istore 2 <|
  i_const 1 <|
  i_istore 3 <|
  (J 42))
  (i_aload 0 <|
  i_iload 1 <|
  i_call mX8_byRule d 2 (pV 8) (xOut Q) <|
  i_ret Q (some .int)))
  (i_const 0 <|
  i_ret Q (some .int))
theorem kX8_begins_2_15 {d : Nat} {Q : Outcome → MH → Prop} : ∀ ls st h, tX8_begins_2_15 d Q (fun pc ls st h => WPb mX8_begins_2 d pc ls st h Q) ls st h → WPb mX8_begins_2 d 15 ls st h Q :=
  r_putI (ci := 8) (q := (RX8, TX8, 27)) (k := 0) tyX8 tyX8_ok nmX8 dX8_begins_2_15 (by decide) rfl in_X8 (by decide) (Or.inl ⟨rfl, (Or.inl q2141)⟩) rfl rfl <|
  r_aload_n (k := 0) dX8_begins_2_18 rfl <|
  r_getI (ci := 8) (q := (RX8, TX8, 27)) (k := 0) dX8_begins_2_19 (by decide) rfl in_X8 (by decide) (Or.inl q2141) rfl <|
  r_if_le (pt := 27) dX8_begins_2_22 (by decide)
  (r_iload_n (k := 1) dX8_begins_2_27 rfl <|
  r_iconst (v := (-1)) dX8_begins_2_28 rfl <|
  r_icmp_eq (pt := 38) dX8_begins_2_29 (by decide)
  (r_iconst (v := 0) dX8_begins_2_38 rfl <|
  r_istore_n (k := 2) dX8_begins_2_39 rfl <|
  r_iconst (v := 1) dX8_begins_2_40 rfl <|
  r_istore_n (k := 3) dX8_begins_2_41 rfl <|
  (fun _ _ _ H => H))
  (r_aload_n (k := 0) dX8_begins_2_32 rfl <|
  r_iload_n (k := 1) dX8_begins_2_33 rfl <|
  r_cV (Z := mX8_byRule) (ci := 8) (q := (RX8, TX8, 27)) dX8_begins_2_34 rfl (by decide +kernel) ⟨by decide, by decide⟩ (by decide) rfl rfl q2616 q2618 qs104 q127 q2619 (XS.out (noH _)) <|
  r_ret rfl (Or.inl ⟨dX8_begins_2_37, Or.inl rfl⟩)))
  (r_iconst (v := 0) dX8_begins_2_25 rfl <|
  r_ret rfl (Or.inl ⟨dX8_begins_2_26, Or.inl rfl⟩))
def tX8_begins_2_42 (d : Nat) (Q : Outcome → MH → Prop) (J : Nat → KT) : KT :=
  i_iload 3 <|
  i_const 3 <|
  i_icmp_ge
  (i_iload 2 <|
  i_ret Q (some .int))
  (i_aload 0 <|
  i_iload 3 <|
  i_call mX8_byRule d 2 (pV 8) (xOut Q) <|
  i_aload 0 <|
  i_iload 2 <|
  i_call mX8_byRule d 2 (pV 8) (xOut Q) <|
  i_icmp_ge
  (i_iinc 3 1 <|
  (J 42))
  (i_iload 3 <|
  i_istore 2 <|
  i_iinc 3 1 <|
  (J 42)))
theorem kX8_begins_2_42 {d : Nat} {Q : Outcome → MH → Prop} : ∀ ls st h, tX8_begins_2_42 d Q (fun pc ls st h => WPb mX8_begins_2 d pc ls st h Q) ls st h → WPb mX8_begins_2 d 42 ls st h Q :=
  r_iload_n (k := 3) dX8_begins_2_42 rfl <|
  r_iconst (v := 3) dX8_begins_2_43 rfl <|
  r_icmp_ge (pt := 68) dX8_begins_2_44 (by decide)
  (r_iload_n (k := 2) dX8_begins_2_68 rfl <|
  r_ret rfl (Or.inl ⟨dX8_begins_2_69, Or.inl rfl⟩))
  (r_aload_n (k := 0) dX8_begins_2_47 rfl <|
  r_iload_n (k := 3) dX8_begins_2_48 rfl <|
  r_cV (Z := mX8_byRule) (ci := 8) (q := (RX8, TX8, 27)) dX8_begins_2_49 rfl (by decide +kernel) ⟨by decide, by decide⟩ (by decide) rfl rfl q2616 q2618 qs104 q127 q2619 (XS.out (noH _)) <|
  r_aload_n (k := 0) dX8_begins_2_52 rfl <|
  r_iload_n (k := 2) dX8_begins_2_53 rfl <|
  r_cV (Z := mX8_byRule) (ci := 8) (q := (RX8, TX8, 27)) dX8_begins_2_54 rfl (by decide +kernel) ⟨by decide, by decide⟩ (by decide) rfl rfl q2616 q2618 qs104 q127 q2619 (XS.out (noH _)) <|
  r_icmp_ge (pt := 62) dX8_begins_2_57 (by decide)
  (r_iinc (v := 1) dX8_begins_2_62 rfl <|
  r_goto (pt := 42) dX8_begins_2_65 (by decide) <|
  (fun _ _ _ H => H))
  (r_iload_n (k := 3) dX8_begins_2_60 rfl <|
  r_istore_n (k := 2) dX8_begins_2_61 rfl <|
  r_iinc (v := 1) dX8_begins_2_62 rfl <|
  r_goto (pt := 42) dX8_begins_2_65 (by decide) <|
  (fun _ _ _ H => H)))
-- CheekTownModel.byRule(I)I cuts [0, 4]
def tX8_byRule_0 (d : Nat) (Q : Outcome → MH → Prop) (J : Nat → KT) : KT :=
  i_const 0 <|
  i_istore 2 <|
  i_const 0 <|
  i_istore 3 <|
  (J 4)
theorem kX8_byRule_0 {d : Nat} {Q : Outcome → MH → Prop} : ∀ ls st h, tX8_byRule_0 d Q (fun pc ls st h => WPb mX8_byRule d pc ls st h Q) ls st h → WPb mX8_byRule d 0 ls st h Q :=
  r_iconst (v := 0) dX8_byRule_0 rfl <|
  r_istore_n (k := 2) dX8_byRule_1 rfl <|
  r_iconst (v := 0) dX8_byRule_2 rfl <|
  r_istore_n (k := 3) dX8_byRule_3 rfl <|
  (fun _ _ _ H => H)
def tX8_byRule_4 (d : Nat) (Q : Outcome → MH → Prop) (J : Nat → KT) : KT :=
  i_iload 3 <|
  i_aload 0 <|
  i_getR 8 1 <|
  i_const 6 <|
  i_iald <|
  i_icmp_ge
  (i_iload 2 <|
  i_ret Q (some .int))
  (i_aload 0 <|
  i_aload 0 <|
  i_iload 3 <|
  i_call mX8_who d 2 (pV 8) (xOut Q) <|
  i_aload 0 <|
  i_iload 3 <|
  i_call mX8_whom d 2 (pV 8) (xOut Q) <|
  i_iload 1 <|
  i_call mX8_beginner d 4 (pV 8) (xOut Q) <|
  i_istore 4 <|
  i_aload 0 <|
  i_iload 3 <|
  i_call mX8_who d 2 (pV 8) (xOut Q) <|
  i_aload 0 <|
  i_iload 3 <|
  i_call mX8_whom d 2 (pV 8) (xOut Q) <|
  i_iadd <|
  i_iload 4 <|
  i_isub <|
  i_istore 5 <|
  i_iload 2 <|
  i_aload 0 <|
  i_aload 0 <|
  i_iload 4 <|
  i_iload 5 <|
  i_call mX8_beginning d 3 (pV 8) (xOut Q) <|
  i_aload 0 <|
  i_iload 5 <|
  i_iload 4 <|
  i_call mX8_beginning d 3 (pV 8) (xOut Q) <|
  i_call mX8_costOf d 3 (pV 8) (xOut Q) <|
  i_const 100 <|
  i_aload 0 <|
  i_iload 5 <|
  i_const 3 <|
  i_call mX8_of d 3 (pV 8) (xOut Q) <|
  i_isub <|
  i_imul <|
  i_iadd <|
  i_istore 2 <|
  i_iinc 3 1 <|
  (J 4))
theorem kX8_byRule_4 {d : Nat} {Q : Outcome → MH → Prop} : ∀ ls st h, tX8_byRule_4 d Q (fun pc ls st h => WPb mX8_byRule d pc ls st h Q) ls st h → WPb mX8_byRule d 4 ls st h Q :=
  r_iload_n (k := 3) dX8_byRule_4 rfl <|
  r_aload_n (k := 0) dX8_byRule_5 rfl <|
  r_getR (ci := 8) (q := (RX8, TX8, 27)) (k := 1) dX8_byRule_6 (by decide) rfl in_X8 (by decide) (Or.inl q2142) rfl <|
  r_bipush (v := 6) dX8_byRule_9 rfl <|
  r_iald dX8_byRule_11 <|
  r_icmp_ge (pt := 88) dX8_byRule_12 (by decide)
  (r_iload_n (k := 2) dX8_byRule_88 rfl <|
  r_ret rfl (Or.inl ⟨dX8_byRule_89, Or.inl rfl⟩))
  (r_aload_n (k := 0) dX8_byRule_15 rfl <|
  r_aload_n (k := 0) dX8_byRule_16 rfl <|
  r_iload_n (k := 3) dX8_byRule_17 rfl <|
  r_cV (Z := mX8_who) (ci := 8) (q := (RX8, TX8, 27)) dX8_byRule_18 rfl (by decide +kernel) ⟨by decide, by decide⟩ (by decide) rfl rfl q2378 q2380 qs77 q127 q2381 (XS.out (noH _)) <|
  r_aload_n (k := 0) dX8_byRule_21 rfl <|
  r_iload_n (k := 3) dX8_byRule_22 rfl <|
  r_cV (Z := mX8_whom) (ci := 8) (q := (RX8, TX8, 27)) dX8_byRule_23 rfl (by decide +kernel) ⟨by decide, by decide⟩ (by decide) rfl rfl q2382 q2384 qs78 q127 q2385 (XS.out (noH _)) <|
  r_iload_n (k := 1) dX8_byRule_26 rfl <|
  r_cV (Z := mX8_beginner) (ci := 8) (q := (RX8, TX8, 27)) dX8_byRule_27 rfl (by decide +kernel) ⟨by decide, by decide⟩ (by decide) rfl rfl q2620 q2622 qs105 q127 q2623 (XS.out (noH _)) <|
  r_istore dX8_byRule_30 <|
  r_aload_n (k := 0) dX8_byRule_32 rfl <|
  r_iload_n (k := 3) dX8_byRule_33 rfl <|
  r_cV (Z := mX8_who) (ci := 8) (q := (RX8, TX8, 27)) dX8_byRule_34 rfl (by decide +kernel) ⟨by decide, by decide⟩ (by decide) rfl rfl q2378 q2380 qs77 q127 q2381 (XS.out (noH _)) <|
  r_aload_n (k := 0) dX8_byRule_37 rfl <|
  r_iload_n (k := 3) dX8_byRule_38 rfl <|
  r_cV (Z := mX8_whom) (ci := 8) (q := (RX8, TX8, 27)) dX8_byRule_39 rfl (by decide +kernel) ⟨by decide, by decide⟩ (by decide) rfl rfl q2382 q2384 qs78 q127 q2385 (XS.out (noH _)) <|
  r_iadd dX8_byRule_42 <|
  r_iload dX8_byRule_43 <|
  r_isub dX8_byRule_45 <|
  r_istore dX8_byRule_46 <|
  r_iload_n (k := 2) dX8_byRule_48 rfl <|
  r_aload_n (k := 0) dX8_byRule_49 rfl <|
  r_aload_n (k := 0) dX8_byRule_50 rfl <|
  r_iload dX8_byRule_51 <|
  r_iload dX8_byRule_53 <|
  r_cV (Z := mX8_beginning) (ci := 8) (q := (RX8, TX8, 27)) dX8_byRule_55 rfl (by decide +kernel) ⟨by decide, by decide⟩ (by decide) rfl rfl q2467 q2469 qs89 q127 q2470 (XS.out (noH _)) <|
  r_aload_n (k := 0) dX8_byRule_58 rfl <|
  r_iload dX8_byRule_59 <|
  r_iload dX8_byRule_61 <|
  r_cV (Z := mX8_beginning) (ci := 8) (q := (RX8, TX8, 27)) dX8_byRule_63 rfl (by decide +kernel) ⟨by decide, by decide⟩ (by decide) rfl rfl q2467 q2469 qs89 q127 q2470 (XS.out (noH _)) <|
  r_cV (Z := mX8_costOf) (ci := 8) (q := (RX8, TX8, 27)) dX8_byRule_66 rfl (by decide +kernel) ⟨by decide, by decide⟩ (by decide) rfl rfl q2416 q2418 qs82 q127 q2419 (XS.out (noH _)) <|
  r_bipush (v := 100) dX8_byRule_69 rfl <|
  r_aload_n (k := 0) dX8_byRule_71 rfl <|
  r_iload dX8_byRule_72 <|
  r_iconst (v := 3) dX8_byRule_74 rfl <|
  r_cV (Z := mX8_of) (ci := 8) (q := (RX8, TX8, 27)) dX8_byRule_75 rfl (by decide +kernel) ⟨by decide, by decide⟩ (by decide) rfl rfl q2443 q2445 qs86 q127 q2446 (XS.out (noH _)) <|
  r_isub dX8_byRule_78 <|
  r_imul dX8_byRule_79 <|
  r_iadd dX8_byRule_80 <|
  r_istore_n (k := 2) dX8_byRule_81 rfl <|
  r_iinc (v := 1) dX8_byRule_82 rfl <|
  r_goto (pt := 4) dX8_byRule_85 (by decide) <|
  (fun _ _ _ H => H))
-- CheekTownModel.beginner(III)I cuts [0]
def tX8_beginner_0 (d : Nat) (Q : Outcome → MH → Prop) (J : Nat → KT) : KT :=
  i_iload 1 <|
  i_iload 2 <|
  i_call mX8_lesser d 2 pS (xOut Q) <|
  i_istore 4 <|
  i_iload 1 <|
  i_iload 2 <|
  i_call mX8_greater d 2 pS (xOut Q) <|
  i_istore 5 <|
  i_iload 3 <|
  i_if_ne
  (i_iload 3 <|
  i_const 1 <|
  i_icmp_ne
  (i_iload 4 <|
  i_ret Q (some .int))
  (i_aload 0 <|
  i_iload 5 <|
  i_const 2 <|
  i_call mX8_of d 3 (pV 8) (xOut Q) <|
  i_aload 0 <|
  i_iload 4 <|
  i_const 2 <|
  i_call mX8_of d 3 (pV 8) (xOut Q) <|
  i_icmp_ge
  (i_iload 4 <|
  i_ret Q (some .int))
  (i_iload 5 <|
  i_ret Q (some .int))))
  (i_aload 0 <|
  i_iload 5 <|
  i_const 2 <|
  i_call mX8_of d 3 (pV 8) (xOut Q) <|
  i_aload 0 <|
  i_iload 4 <|
  i_const 2 <|
  i_call mX8_of d 3 (pV 8) (xOut Q) <|
  i_icmp_le
  (i_iload 4 <|
  i_ret Q (some .int))
  (i_iload 5 <|
  i_ret Q (some .int)))
theorem kX8_beginner_0 {d : Nat} {Q : Outcome → MH → Prop} : ∀ ls st h, tX8_beginner_0 d Q (fun pc ls st h => WPb mX8_beginner d pc ls st h Q) ls st h → WPb mX8_beginner d 0 ls st h Q :=
  r_iload_n (k := 1) dX8_beginner_0 rfl <|
  r_iload_n (k := 2) dX8_beginner_1 rfl <|
  r_cS (Z := mX8_lesser) dX8_beginner_2 rfl (by decide +kernel) ⟨by decide, by decide⟩ q2483 q2484 q127 q2485 (XS.out (noH _)) <|
  r_istore dX8_beginner_5 <|
  r_iload_n (k := 1) dX8_beginner_7 rfl <|
  r_iload_n (k := 2) dX8_beginner_8 rfl <|
  r_cS (Z := mX8_greater) dX8_beginner_9 rfl (by decide +kernel) ⟨by decide, by decide⟩ q2486 q2487 q127 q2488 (XS.out (noH _)) <|
  r_istore dX8_beginner_12 <|
  r_iload_n (k := 3) dX8_beginner_14 rfl <|
  r_if_ne (pt := 43) dX8_beginner_15 (by decide)
  (r_iload_n (k := 3) dX8_beginner_43 rfl <|
  r_iconst (v := 1) dX8_beginner_44 rfl <|
  r_icmp_ne (pt := 70) dX8_beginner_45 (by decide)
  (r_iload dX8_beginner_70 <|
  r_ret rfl (Or.inl ⟨dX8_beginner_72, Or.inl rfl⟩))
  (r_aload_n (k := 0) dX8_beginner_48 rfl <|
  r_iload dX8_beginner_49 <|
  r_iconst (v := 2) dX8_beginner_51 rfl <|
  r_cV (Z := mX8_of) (ci := 8) (q := (RX8, TX8, 27)) dX8_beginner_52 rfl (by decide +kernel) ⟨by decide, by decide⟩ (by decide) rfl rfl q2443 q2445 qs86 q127 q2446 (XS.out (noH _)) <|
  r_aload_n (k := 0) dX8_beginner_55 rfl <|
  r_iload dX8_beginner_56 <|
  r_iconst (v := 2) dX8_beginner_58 rfl <|
  r_cV (Z := mX8_of) (ci := 8) (q := (RX8, TX8, 27)) dX8_beginner_59 rfl (by decide +kernel) ⟨by decide, by decide⟩ (by decide) rfl rfl q2443 q2445 qs86 q127 q2446 (XS.out (noH _)) <|
  r_icmp_ge (pt := 70) dX8_beginner_62 (by decide)
  (r_iload dX8_beginner_70 <|
  r_ret rfl (Or.inl ⟨dX8_beginner_72, Or.inl rfl⟩))
  (r_iload dX8_beginner_65 <|
  r_goto (pt := 72) dX8_beginner_67 (by decide) <|
  r_ret rfl (Or.inl ⟨dX8_beginner_72, Or.inl rfl⟩))))
  (r_aload_n (k := 0) dX8_beginner_18 rfl <|
  r_iload dX8_beginner_19 <|
  r_iconst (v := 2) dX8_beginner_21 rfl <|
  r_cV (Z := mX8_of) (ci := 8) (q := (RX8, TX8, 27)) dX8_beginner_22 rfl (by decide +kernel) ⟨by decide, by decide⟩ (by decide) rfl rfl q2443 q2445 qs86 q127 q2446 (XS.out (noH _)) <|
  r_aload_n (k := 0) dX8_beginner_25 rfl <|
  r_iload dX8_beginner_26 <|
  r_iconst (v := 2) dX8_beginner_28 rfl <|
  r_cV (Z := mX8_of) (ci := 8) (q := (RX8, TX8, 27)) dX8_beginner_29 rfl (by decide +kernel) ⟨by decide, by decide⟩ (by decide) rfl rfl q2443 q2445 qs86 q127 q2446 (XS.out (noH _)) <|
  r_icmp_le (pt := 40) dX8_beginner_32 (by decide)
  (r_iload dX8_beginner_40 <|
  r_ret rfl (Or.inl ⟨dX8_beginner_42, Or.inl rfl⟩))
  (r_iload dX8_beginner_35 <|
  r_goto (pt := 42) dX8_beginner_37 (by decide) <|
  r_ret rfl (Or.inl ⟨dX8_beginner_42, Or.inl rfl⟩)))
-- CheekTownModel.after(II)I cuts [0, 29, 69]
def tX8_after_0 (d : Nat) (Q : Outcome → MH → Prop) (J : Nat → KT) : KT :=
  i_aload 0 <|
  i_iload 1 <|
  i_const 0 <|
  i_const 60 <|
  i_call mX8_isIn d 3 pS (xOut Q) <|
  i_if_ne
  (i_iload 2 <|
  i_const 0 <|
  i_const 2 <|
  i_call mX8_isIn d 3 pS (xOut Q) <|
  i_if_ne
  (i_const 0 <|
  (J 29))
  (i_const 2 <|
  (J 29)))
  (i_const 1 <|
  (J 29))
theorem kX8_after_0 {d : Nat} {Q : Outcome → MH → Prop} : ∀ ls st h, tX8_after_0 d Q (fun pc ls st h => WPb mX8_after d pc ls st h Q) ls st h → WPb mX8_after d 0 ls st h Q :=
  r_aload_n (k := 0) dX8_after_0 rfl <|
  r_iload_n (k := 1) dX8_after_1 rfl <|
  r_iconst (v := 0) dX8_after_2 rfl <|
  r_bipush (v := 60) dX8_after_3 rfl <|
  r_cS (Z := mX8_isIn) dX8_after_5 rfl (by decide +kernel) ⟨by decide, by decide⟩ q2235 q2236 q127 q2237 (XS.out (noH _)) <|
  r_if_ne (pt := 15) dX8_after_8 (by decide)
  (r_iload_n (k := 2) dX8_after_15 rfl <|
  r_iconst (v := 0) dX8_after_16 rfl <|
  r_iconst (v := 2) dX8_after_17 rfl <|
  r_cS (Z := mX8_isIn) dX8_after_18 rfl (by decide +kernel) ⟨by decide, by decide⟩ q2235 q2236 q127 q2237 (XS.out (noH _)) <|
  r_if_ne (pt := 28) dX8_after_21 (by decide)
  (r_iconst (v := 0) dX8_after_28 rfl <|
  (fun _ _ _ H => H))
  (r_iconst (v := 2) dX8_after_24 rfl <|
  r_goto (pt := 29) dX8_after_25 (by decide) <|
  (fun _ _ _ H => H)))
  (r_iconst (v := 1) dX8_after_11 rfl <|
  r_goto (pt := 29) dX8_after_12 (by decide) <|
  (fun _ _ _ H => H))
def tX8_after_29 (d : Nat) (Q : Outcome → MH → Prop) (J : Nat → KT) : KT :=
  i_putI 8 0 .int <|
  i_aload 0 <|
  i_getI 8 0 <|
  i_if_le
  (i_aload 0 <|
  i_const 0 <|
  i_const 0 <|
  i_call mX8_starts d 3 (pV 8) (xOut Q) <|
  i_aload 0 <|
  i_iload 1 <|
  i_call mX8_years d 2 (pV 8) (xOut Q) <|
  i_aload 0 <|
  i_call mX8_counts d 1 (pV 8) (xOut Q) <|
  i_istore 3 <|
  i_iload 2 <|
  i_if_ne
  (i_const 0 <|
  i_istore 4 <|
  i_const 1 <|
  i_istore 5 <|
  (J 69))
  (i_iload 3 <|
  i_ret Q (some .int)))
  (i_const 0 <|
  i_ret Q (some .int))
theorem kX8_after_29 {d : Nat} {Q : Outcome → MH → Prop} : ∀ ls st h, tX8_after_29 d Q (fun pc ls st h => WPb mX8_after d pc ls st h Q) ls st h → WPb mX8_after d 29 ls st h Q :=
  r_putI (ci := 8) (q := (RX8, TX8, 27)) (k := 0) tyX8 tyX8_ok nmX8 dX8_after_29 (by decide) rfl in_X8 (by decide) (Or.inl ⟨rfl, (Or.inl q2141)⟩) rfl rfl <|
  r_aload_n (k := 0) dX8_after_32 rfl <|
  r_getI (ci := 8) (q := (RX8, TX8, 27)) (k := 0) dX8_after_33 (by decide) rfl in_X8 (by decide) (Or.inl q2141) rfl <|
  r_if_le (pt := 41) dX8_after_36 (by decide)
  (r_aload_n (k := 0) dX8_after_41 rfl <|
  r_iconst (v := 0) dX8_after_42 rfl <|
  r_iconst (v := 0) dX8_after_43 rfl <|
  r_cV (Z := mX8_starts) (ci := 8) (q := (RX8, TX8, 27)) dX8_after_44 rfl (by decide +kernel) ⟨by decide, by decide⟩ (by decide) rfl rfl q2628 q2630 qs106 q127 q2631 (XS.out (noH _)) <|
  r_aload_n (k := 0) dX8_after_47 rfl <|
  r_iload_n (k := 1) dX8_after_48 rfl <|
  r_cV (Z := mX8_years) (ci := 8) (q := (RX8, TX8, 27)) dX8_after_49 rfl (by decide +kernel) ⟨by decide, by decide⟩ (by decide) rfl rfl q2632 q2634 qs107 q127 q2635 (XS.out (noH _)) <|
  r_aload_n (k := 0) dX8_after_52 rfl <|
  r_cV (Z := mX8_counts) (ci := 8) (q := (RX8, TX8, 27)) dX8_after_53 rfl (by decide +kernel) ⟨by decide, by decide⟩ (by decide) rfl rfl q2644 q2646 qs110 q127 q2647 (XS.out (noH _)) <|
  r_istore_n (k := 3) dX8_after_56 rfl <|
  r_iload_n (k := 2) dX8_after_57 rfl <|
  r_if_ne (pt := 63) dX8_after_58 (by decide)
  (r_iconst (v := 0) dX8_after_63 rfl <|
  r_istore dX8_after_64 <|
  r_iconst (v := 1) dX8_after_66 rfl <|
  r_istore dX8_after_67 <|
  (fun _ _ _ H => H))
  (r_iload_n (k := 3) dX8_after_61 rfl <|
  r_ret rfl (Or.inl ⟨dX8_after_62, Or.inl rfl⟩)))
  (r_iconst (v := 0) dX8_after_39 rfl <|
  r_ret rfl (Or.inl ⟨dX8_after_40, Or.inl rfl⟩))
def tX8_after_69 (d : Nat) (Q : Outcome → MH → Prop) (J : Nat → KT) : KT :=
  i_iload 5 <|
  i_const 32 <|
  i_icmp_ge
  (i_iload 2 <|
  i_const 2 <|
  i_icmp_ne
  (i_iload 3 <|
  i_if_ne
  (i_iload 4 <|
  i_ret Q (some .int))
  (i_const (-1) <|
  i_ret Q (some .int)))
  (i_aload 0 <|
  i_getR 8 21 <|
  i_iload 4 <|
  i_iald <|
  i_ret Q (some .int)))
  (i_aload 0 <|
  i_getR 8 21 <|
  i_iload 5 <|
  i_iald <|
  i_aload 0 <|
  i_getR 8 21 <|
  i_iload 4 <|
  i_iald <|
  i_icmp_le
  (i_iinc 5 1 <|
  (J 69))
  (i_iload 5 <|
  i_istore 4 <|
  i_iinc 5 1 <|
  (J 69)))
theorem kX8_after_69 {d : Nat} {Q : Outcome → MH → Prop} : ∀ ls st h, tX8_after_69 d Q (fun pc ls st h => WPb mX8_after d pc ls st h Q) ls st h → WPb mX8_after d 69 ls st h Q :=
  r_iload dX8_after_69 <|
  r_bipush (v := 32) dX8_after_71 rfl <|
  r_icmp_ge (pt := 103) dX8_after_73 (by decide)
  (r_iload_n (k := 2) dX8_after_103 rfl <|
  r_iconst (v := 2) dX8_after_104 rfl <|
  r_icmp_ne (pt := 118) dX8_after_105 (by decide)
  (r_iload_n (k := 3) dX8_after_118 rfl <|
  r_if_ne (pt := 126) dX8_after_119 (by decide)
  (r_iload dX8_after_126 <|
  r_ret rfl (Or.inl ⟨dX8_after_128, Or.inl rfl⟩))
  (r_iconst (v := (-1)) dX8_after_122 rfl <|
  r_goto (pt := 128) dX8_after_123 (by decide) <|
  r_ret rfl (Or.inl ⟨dX8_after_128, Or.inl rfl⟩)))
  (r_aload_n (k := 0) dX8_after_108 rfl <|
  r_getR (ci := 8) (q := (RX8, TX8, 27)) (k := 21) dX8_after_109 (by decide) rfl in_X8 (by decide) (Or.inl q2162) rfl <|
  r_iload dX8_after_112 <|
  r_iald dX8_after_114 <|
  r_goto (pt := 128) dX8_after_115 (by decide) <|
  r_ret rfl (Or.inl ⟨dX8_after_128, Or.inl rfl⟩)))
  (r_aload_n (k := 0) dX8_after_76 rfl <|
  r_getR (ci := 8) (q := (RX8, TX8, 27)) (k := 21) dX8_after_77 (by decide) rfl in_X8 (by decide) (Or.inl q2162) rfl <|
  r_iload dX8_after_80 <|
  r_iald dX8_after_82 <|
  r_aload_n (k := 0) dX8_after_83 rfl <|
  r_getR (ci := 8) (q := (RX8, TX8, 27)) (k := 21) dX8_after_84 (by decide) rfl in_X8 (by decide) (Or.inl q2162) rfl <|
  r_iload dX8_after_87 <|
  r_iald dX8_after_89 <|
  r_icmp_le (pt := 97) dX8_after_90 (by decide)
  (r_iinc (v := 1) dX8_after_97 rfl <|
  r_goto (pt := 69) dX8_after_100 (by decide) <|
  (fun _ _ _ H => H))
  (r_iload dX8_after_93 <|
  r_istore dX8_after_95 <|
  r_iinc (v := 1) dX8_after_97 rfl <|
  r_goto (pt := 69) dX8_after_100 (by decide) <|
  (fun _ _ _ H => H)))
-- CheekTownModel.starts(II)V cuts [0, 2, 35]
def tX8_starts_0 (d : Nat) (Q : Outcome → MH → Prop) (J : Nat → KT) : KT :=
  i_const 0 <|
  i_istore 3 <|
  (J 2)
theorem kX8_starts_0 {d : Nat} {Q : Outcome → MH → Prop} : ∀ ls st h, tX8_starts_0 d Q (fun pc ls st h => WPb mX8_starts d pc ls st h Q) ls st h → WPb mX8_starts d 0 ls st h Q :=
  r_iconst (v := 0) dX8_starts_0 rfl <|
  r_istore_n (k := 3) dX8_starts_1 rfl <|
  (fun _ _ _ H => H)
def tX8_starts_2 (d : Nat) (Q : Outcome → MH → Prop) (J : Nat → KT) : KT :=
  i_iload 3 <|
  i_aload 0 <|
  i_getR 8 1 <|
  i_const 5 <|
  i_iald <|
  i_icmp_ge
  (i_vret Q)
  (i_aload 0 <|
  i_getR 8 18 <|
  i_iload 3 <|
  i_iload 1 <|
  i_iload 3 <|
  i_call mX8_isOf d 2 pS (xOut Q) <|
  i_if_eq
  (i_aload 0 <|
  i_iload 3 <|
  i_const 1 <|
  i_call mX8_of d 3 (pV 8) (xOut Q) <|
  (J 35))
  (i_iload 2 <|
  (J 35)))
theorem kX8_starts_2 {d : Nat} {Q : Outcome → MH → Prop} : ∀ ls st h, tX8_starts_2 d Q (fun pc ls st h => WPb mX8_starts d pc ls st h Q) ls st h → WPb mX8_starts d 2 ls st h Q :=
  r_iload_n (k := 3) dX8_starts_2 rfl <|
  r_aload_n (k := 0) dX8_starts_3 rfl <|
  r_getR (ci := 8) (q := (RX8, TX8, 27)) (k := 1) dX8_starts_4 (by decide) rfl in_X8 (by decide) (Or.inl q2142) rfl <|
  r_iconst (v := 5) dX8_starts_7 rfl <|
  r_iald dX8_starts_8 <|
  r_icmp_ge (pt := 57) dX8_starts_9 (by decide)
  (r_vret rfl dX8_starts_57)
  (r_aload_n (k := 0) dX8_starts_12 rfl <|
  r_getR (ci := 8) (q := (RX8, TX8, 27)) (k := 18) dX8_starts_13 (by decide) rfl in_X8 (by decide) (Or.inl q2159) rfl <|
  r_iload_n (k := 3) dX8_starts_16 rfl <|
  r_iload_n (k := 1) dX8_starts_17 rfl <|
  r_iload_n (k := 3) dX8_starts_18 rfl <|
  r_cS (Z := mX8_isOf) dX8_starts_19 rfl (by decide +kernel) ⟨by decide, by decide⟩ q2526 q2527 q127 q2528 (XS.out (noH _)) <|
  r_if_eq (pt := 29) dX8_starts_22 (by decide)
  (r_aload_n (k := 0) dX8_starts_29 rfl <|
  r_iload_n (k := 3) dX8_starts_30 rfl <|
  r_iconst (v := 1) dX8_starts_31 rfl <|
  r_cV (Z := mX8_of) (ci := 8) (q := (RX8, TX8, 27)) dX8_starts_32 rfl (by decide +kernel) ⟨by decide, by decide⟩ (by decide) rfl rfl q2443 q2445 qs86 q127 q2446 (XS.out (noH _)) <|
  (fun _ _ _ H => H))
  (r_iload_n (k := 2) dX8_starts_25 rfl <|
  r_goto (pt := 35) dX8_starts_26 (by decide) <|
  (fun _ _ _ H => H)))
def tX8_starts_35 (d : Nat) (Q : Outcome → MH → Prop) (J : Nat → KT) : KT :=
  i_iast <|
  i_aload 0 <|
  i_getR 8 20 <|
  i_iload 3 <|
  i_aload 0 <|
  i_iload 3 <|
  i_call mX8_tiedTo d 2 (pV 8) (xOut Q) <|
  i_const 1 <|
  i_iload 3 <|
  i_ishl <|
  i_ior <|
  i_iast <|
  i_iinc 3 1 <|
  (J 2)
theorem kX8_starts_35 {d : Nat} {Q : Outcome → MH → Prop} : ∀ ls st h, tX8_starts_35 d Q (fun pc ls st h => WPb mX8_starts d pc ls st h Q) ls st h → WPb mX8_starts d 35 ls st h Q :=
  r_iast dX8_starts_35 <|
  r_aload_n (k := 0) dX8_starts_36 rfl <|
  r_getR (ci := 8) (q := (RX8, TX8, 27)) (k := 20) dX8_starts_37 (by decide) rfl in_X8 (by decide) (Or.inl q2161) rfl <|
  r_iload_n (k := 3) dX8_starts_40 rfl <|
  r_aload_n (k := 0) dX8_starts_41 rfl <|
  r_iload_n (k := 3) dX8_starts_42 rfl <|
  r_cV (Z := mX8_tiedTo) (ci := 8) (q := (RX8, TX8, 27)) dX8_starts_43 rfl (by decide +kernel) ⟨by decide, by decide⟩ (by decide) rfl rfl q2447 q2449 qs87 q127 q2450 (XS.out (noH _)) <|
  r_iconst (v := 1) dX8_starts_46 rfl <|
  r_iload_n (k := 3) dX8_starts_47 rfl <|
  r_ishl dX8_starts_48 <|
  r_ior dX8_starts_49 <|
  r_iast dX8_starts_50 <|
  r_iinc (v := 1) dX8_starts_51 rfl <|
  r_goto (pt := 2) dX8_starts_54 (by decide) <|
  (fun _ _ _ H => H)
-- CheekTownModel.years(I)V cuts [0, 4]
def tX8_years_0 (d : Nat) (Q : Outcome → MH → Prop) (J : Nat → KT) : KT :=
  i_const 1 <|
  i_istore 2 <|
  i_const 0 <|
  i_istore 3 <|
  (J 4)
theorem kX8_years_0 {d : Nat} {Q : Outcome → MH → Prop} : ∀ ls st h, tX8_years_0 d Q (fun pc ls st h => WPb mX8_years d pc ls st h Q) ls st h → WPb mX8_years d 0 ls st h Q :=
  r_iconst (v := 1) dX8_years_0 rfl <|
  r_istore_n (k := 2) dX8_years_1 rfl <|
  r_iconst (v := 0) dX8_years_2 rfl <|
  r_istore_n (k := 3) dX8_years_3 rfl <|
  (fun _ _ _ H => H)
def tX8_years_4 (d : Nat) (Q : Outcome → MH → Prop) (J : Nat → KT) : KT :=
  i_iload 3 <|
  i_iload 1 <|
  i_icmp_ge
  (i_vret Q)
  (i_iload 2 <|
  i_if_eq
  (i_vret Q)
  (i_aload 0 <|
  i_call mX8_year d 1 (pV 8) (xOut Q) <|
  i_istore 2 <|
  i_iinc 3 1 <|
  (J 4)))
theorem kX8_years_4 {d : Nat} {Q : Outcome → MH → Prop} : ∀ ls st h, tX8_years_4 d Q (fun pc ls st h => WPb mX8_years d pc ls st h Q) ls st h → WPb mX8_years d 4 ls st h Q :=
  r_iload_n (k := 3) dX8_years_4 rfl <|
  r_iload_n (k := 1) dX8_years_5 rfl <|
  r_icmp_ge (pt := 24) dX8_years_6 (by decide)
  (r_vret rfl dX8_years_24)
  (r_iload_n (k := 2) dX8_years_9 rfl <|
  r_if_eq (pt := 24) dX8_years_10 (by decide)
  (r_vret rfl dX8_years_24)
  (r_aload_n (k := 0) dX8_years_13 rfl <|
  r_cV (Z := mX8_year) (ci := 8) (q := (RX8, TX8, 27)) dX8_years_14 rfl (by decide +kernel) ⟨by decide, by decide⟩ (by decide) rfl rfl q2636 q2638 qs108 q127 q2639 (XS.out (noH _)) <|
  r_istore_n (k := 2) dX8_years_17 rfl <|
  r_iinc (v := 1) dX8_years_18 rfl <|
  r_goto (pt := 4) dX8_years_21 (by decide) <|
  (fun _ _ _ H => H)))
-- CheekTownModel.year()Z cuts [0, 4, 33]
def tX8_year_0 (d : Nat) (Q : Outcome → MH → Prop) (J : Nat → KT) : KT :=
  i_const 0 <|
  i_istore 1 <|
  i_const 0 <|
  i_istore 2 <|
  (J 4)
theorem kX8_year_0 {d : Nat} {Q : Outcome → MH → Prop} : ∀ ls st h, tX8_year_0 d Q (fun pc ls st h => WPb mX8_year d pc ls st h Q) ls st h → WPb mX8_year d 0 ls st h Q :=
  r_iconst (v := 0) dX8_year_0 rfl <|
  r_istore_n (k := 1) dX8_year_1 rfl <|
  r_iconst (v := 0) dX8_year_2 rfl <|
  r_istore_n (k := 2) dX8_year_3 rfl <|
  (fun _ _ _ H => H)
def tX8_year_4 (d : Nat) (Q : Outcome → MH → Prop) (J : Nat → KT) : KT :=
  i_iload 2 <|
  i_aload 0 <|
  i_getR 8 1 <|
  i_const 5 <|
  i_iald <|
  i_icmp_ge
  (i_const 0 <|
  i_istore 2 <|
  (J 33))
  (i_aload 0 <|
  i_getR 8 19 <|
  i_iload 2 <|
  i_aload 0 <|
  i_iload 2 <|
  i_call mX8_takes d 2 (pV 8) (xOut Q) <|
  i_iast <|
  i_iinc 2 1 <|
  (J 4))
theorem kX8_year_4 {d : Nat} {Q : Outcome → MH → Prop} : ∀ ls st h, tX8_year_4 d Q (fun pc ls st h => WPb mX8_year d pc ls st h Q) ls st h → WPb mX8_year d 4 ls st h Q :=
  r_iload_n (k := 2) dX8_year_4 rfl <|
  r_aload_n (k := 0) dX8_year_5 rfl <|
  r_getR (ci := 8) (q := (RX8, TX8, 27)) (k := 1) dX8_year_6 (by decide) rfl in_X8 (by decide) (Or.inl q2142) rfl <|
  r_iconst (v := 5) dX8_year_9 rfl <|
  r_iald dX8_year_10 <|
  r_icmp_ge (pt := 31) dX8_year_11 (by decide)
  (r_iconst (v := 0) dX8_year_31 rfl <|
  r_istore_n (k := 2) dX8_year_32 rfl <|
  (fun _ _ _ H => H))
  (r_aload_n (k := 0) dX8_year_14 rfl <|
  r_getR (ci := 8) (q := (RX8, TX8, 27)) (k := 19) dX8_year_15 (by decide) rfl in_X8 (by decide) (Or.inl q2160) rfl <|
  r_iload_n (k := 2) dX8_year_18 rfl <|
  r_aload_n (k := 0) dX8_year_19 rfl <|
  r_iload_n (k := 2) dX8_year_20 rfl <|
  r_cV (Z := mX8_takes) (ci := 8) (q := (RX8, TX8, 27)) dX8_year_21 rfl (by decide +kernel) ⟨by decide, by decide⟩ (by decide) rfl rfl q2640 q2642 qs109 q127 q2643 (XS.out (noH _)) <|
  r_iast dX8_year_24 <|
  r_iinc (v := 1) dX8_year_25 rfl <|
  r_goto (pt := 4) dX8_year_28 (by decide) <|
  (fun _ _ _ H => H))
def tX8_year_33 (d : Nat) (Q : Outcome → MH → Prop) (J : Nat → KT) : KT :=
  i_iload 2 <|
  i_aload 0 <|
  i_getR 8 1 <|
  i_const 5 <|
  i_iald <|
  i_icmp_ge
  (i_iload 1 <|
  i_ret Q (some .boolean))
  (i_iload 1 <|
  i_if_ne
  (i_const 1 <|
  i_istore 1 <|
  i_aload 0 <|
  i_getR 8 18 <|
  i_iload 2 <|
  i_aload 0 <|
  i_getR 8 19 <|
  i_iload 2 <|
  i_iald <|
  i_iast <|
  i_iinc 2 1 <|
  (J 33))
  (i_aload 0 <|
  i_getR 8 18 <|
  i_iload 2 <|
  i_iald <|
  i_aload 0 <|
  i_getR 8 19 <|
  i_iload 2 <|
  i_iald <|
  i_icmp_eq
  (i_const 0 <|
  i_istore 1 <|
  i_aload 0 <|
  i_getR 8 18 <|
  i_iload 2 <|
  i_aload 0 <|
  i_getR 8 19 <|
  i_iload 2 <|
  i_iald <|
  i_iast <|
  i_iinc 2 1 <|
  (J 33))
  (i_const 1 <|
  i_istore 1 <|
  i_aload 0 <|
  i_getR 8 18 <|
  i_iload 2 <|
  i_aload 0 <|
  i_getR 8 19 <|
  i_iload 2 <|
  i_iald <|
  i_iast <|
  i_iinc 2 1 <|
  (J 33))))
theorem kX8_year_33 {d : Nat} {Q : Outcome → MH → Prop} : ∀ ls st h, tX8_year_33 d Q (fun pc ls st h => WPb mX8_year d pc ls st h Q) ls st h → WPb mX8_year d 33 ls st h Q :=
  r_iload_n (k := 2) dX8_year_33 rfl <|
  r_aload_n (k := 0) dX8_year_34 rfl <|
  r_getR (ci := 8) (q := (RX8, TX8, 27)) (k := 1) dX8_year_35 (by decide) rfl in_X8 (by decide) (Or.inl q2142) rfl <|
  r_iconst (v := 5) dX8_year_38 rfl <|
  r_iald dX8_year_39 <|
  r_icmp_ge (pt := 86) dX8_year_40 (by decide)
  (r_iload_n (k := 1) dX8_year_86 rfl <|
  r_ret rfl (Or.inl ⟨dX8_year_87, Or.inr (Or.inl rfl)⟩))
  (r_iload_n (k := 1) dX8_year_43 rfl <|
  r_if_ne (pt := 62) dX8_year_44 (by decide)
  (r_iconst (v := 1) dX8_year_62 rfl <|
  r_goto (pt := 67) dX8_year_63 (by decide) <|
  r_istore_n (k := 1) dX8_year_67 rfl <|
  r_aload_n (k := 0) dX8_year_68 rfl <|
  r_getR (ci := 8) (q := (RX8, TX8, 27)) (k := 18) dX8_year_69 (by decide) rfl in_X8 (by decide) (Or.inl q2159) rfl <|
  r_iload_n (k := 2) dX8_year_72 rfl <|
  r_aload_n (k := 0) dX8_year_73 rfl <|
  r_getR (ci := 8) (q := (RX8, TX8, 27)) (k := 19) dX8_year_74 (by decide) rfl in_X8 (by decide) (Or.inl q2160) rfl <|
  r_iload_n (k := 2) dX8_year_77 rfl <|
  r_iald dX8_year_78 <|
  r_iast dX8_year_79 <|
  r_iinc (v := 1) dX8_year_80 rfl <|
  r_goto (pt := 33) dX8_year_83 (by decide) <|
  (fun _ _ _ H => H))
  (r_aload_n (k := 0) dX8_year_47 rfl <|
  r_getR (ci := 8) (q := (RX8, TX8, 27)) (k := 18) dX8_year_48 (by decide) rfl in_X8 (by decide) (Or.inl q2159) rfl <|
  r_iload_n (k := 2) dX8_year_51 rfl <|
  r_iald dX8_year_52 <|
  r_aload_n (k := 0) dX8_year_53 rfl <|
  r_getR (ci := 8) (q := (RX8, TX8, 27)) (k := 19) dX8_year_54 (by decide) rfl in_X8 (by decide) (Or.inl q2160) rfl <|
  r_iload_n (k := 2) dX8_year_57 rfl <|
  r_iald dX8_year_58 <|
  r_icmp_eq (pt := 66) dX8_year_59 (by decide)
  (r_iconst (v := 0) dX8_year_66 rfl <|
  r_istore_n (k := 1) dX8_year_67 rfl <|
  r_aload_n (k := 0) dX8_year_68 rfl <|
  r_getR (ci := 8) (q := (RX8, TX8, 27)) (k := 18) dX8_year_69 (by decide) rfl in_X8 (by decide) (Or.inl q2159) rfl <|
  r_iload_n (k := 2) dX8_year_72 rfl <|
  r_aload_n (k := 0) dX8_year_73 rfl <|
  r_getR (ci := 8) (q := (RX8, TX8, 27)) (k := 19) dX8_year_74 (by decide) rfl in_X8 (by decide) (Or.inl q2160) rfl <|
  r_iload_n (k := 2) dX8_year_77 rfl <|
  r_iald dX8_year_78 <|
  r_iast dX8_year_79 <|
  r_iinc (v := 1) dX8_year_80 rfl <|
  r_goto (pt := 33) dX8_year_83 (by decide) <|
  (fun _ _ _ H => H))
  (r_iconst (v := 1) dX8_year_62 rfl <|
  r_goto (pt := 67) dX8_year_63 (by decide) <|
  r_istore_n (k := 1) dX8_year_67 rfl <|
  r_aload_n (k := 0) dX8_year_68 rfl <|
  r_getR (ci := 8) (q := (RX8, TX8, 27)) (k := 18) dX8_year_69 (by decide) rfl in_X8 (by decide) (Or.inl q2159) rfl <|
  r_iload_n (k := 2) dX8_year_72 rfl <|
  r_aload_n (k := 0) dX8_year_73 rfl <|
  r_getR (ci := 8) (q := (RX8, TX8, 27)) (k := 19) dX8_year_74 (by decide) rfl in_X8 (by decide) (Or.inl q2160) rfl <|
  r_iload_n (k := 2) dX8_year_77 rfl <|
  r_iald dX8_year_78 <|
  r_iast dX8_year_79 <|
  r_iinc (v := 1) dX8_year_80 rfl <|
  r_goto (pt := 33) dX8_year_83 (by decide) <|
  (fun _ _ _ H => H))))
-- CheekTownModel.takes(I)I cuts [0, 2, 23, 72]
def tX8_takes_0 (d : Nat) (Q : Outcome → MH → Prop) (J : Nat → KT) : KT :=
  i_const 0 <|
  i_istore 2 <|
  (J 2)
theorem kX8_takes_0 {d : Nat} {Q : Outcome → MH → Prop} : ∀ ls st h, tX8_takes_0 d Q (fun pc ls st h => WPb mX8_takes d pc ls st h Q) ls st h → WPb mX8_takes d 0 ls st h Q :=
  r_iconst (v := 0) dX8_takes_0 rfl <|
  r_istore_n (k := 2) dX8_takes_1 rfl <|
  (fun _ _ _ H => H)
def tX8_takes_2 (d : Nat) (Q : Outcome → MH → Prop) (J : Nat → KT) : KT :=
  i_iload 2 <|
  i_const 32 <|
  i_icmp_ge
  (i_const 0 <|
  i_istore 2 <|
  (J 23))
  (i_aload 0 <|
  i_getR 8 21 <|
  i_iload 2 <|
  i_const 0 <|
  i_iast <|
  i_iinc 2 1 <|
  (J 2))
theorem kX8_takes_2 {d : Nat} {Q : Outcome → MH → Prop} : ∀ ls st h, tX8_takes_2 d Q (fun pc ls st h => WPb mX8_takes d pc ls st h Q) ls st h → WPb mX8_takes d 2 ls st h Q :=
  r_iload_n (k := 2) dX8_takes_2 rfl <|
  r_bipush (v := 32) dX8_takes_3 rfl <|
  r_icmp_ge (pt := 21) dX8_takes_5 (by decide)
  (r_iconst (v := 0) dX8_takes_21 rfl <|
  r_istore_n (k := 2) dX8_takes_22 rfl <|
  (fun _ _ _ H => H))
  (r_aload_n (k := 0) dX8_takes_8 rfl <|
  r_getR (ci := 8) (q := (RX8, TX8, 27)) (k := 21) dX8_takes_9 (by decide) rfl in_X8 (by decide) (Or.inl q2162) rfl <|
  r_iload_n (k := 2) dX8_takes_12 rfl <|
  r_iconst (v := 0) dX8_takes_13 rfl <|
  r_iast dX8_takes_14 <|
  r_iinc (v := 1) dX8_takes_15 rfl <|
  r_goto (pt := 2) dX8_takes_18 (by decide) <|
  (fun _ _ _ H => H))
def tX8_takes_23 (d : Nat) (Q : Outcome → MH → Prop) (J : Nat → KT) : KT :=
  i_iload 2 <|
  i_aload 0 <|
  i_getR 8 1 <|
  i_const 5 <|
  i_iald <|
  i_icmp_ge
  (i_aload 0 <|
  i_getR 8 18 <|
  i_iload 1 <|
  i_iald <|
  i_istore 2 <|
  i_const 0 <|
  i_istore 3 <|
  (J 72))
  (i_aload 0 <|
  i_getR 8 21 <|
  i_aload 0 <|
  i_getR 8 18 <|
  i_iload 2 <|
  i_iald <|
  i_dup2 <|
  i_iald <|
  i_aload 0 <|
  i_getR 8 20 <|
  i_iload 1 <|
  i_iald <|
  i_iload 2 <|
  i_ishr <|
  i_const 1 <|
  i_iand <|
  i_iadd <|
  i_iast <|
  i_iinc 2 1 <|
  (J 23))
theorem kX8_takes_23 {d : Nat} {Q : Outcome → MH → Prop} : ∀ ls st h, tX8_takes_23 d Q (fun pc ls st h => WPb mX8_takes d pc ls st h Q) ls st h → WPb mX8_takes d 23 ls st h Q :=
  r_iload_n (k := 2) dX8_takes_23 rfl <|
  r_aload_n (k := 0) dX8_takes_24 rfl <|
  r_getR (ci := 8) (q := (RX8, TX8, 27)) (k := 1) dX8_takes_25 (by decide) rfl in_X8 (by decide) (Or.inl q2142) rfl <|
  r_iconst (v := 5) dX8_takes_28 rfl <|
  r_iald dX8_takes_29 <|
  r_icmp_ge (pt := 63) dX8_takes_30 (by decide)
  (r_aload_n (k := 0) dX8_takes_63 rfl <|
  r_getR (ci := 8) (q := (RX8, TX8, 27)) (k := 18) dX8_takes_64 (by decide) rfl in_X8 (by decide) (Or.inl q2159) rfl <|
  r_iload_n (k := 1) dX8_takes_67 rfl <|
  r_iald dX8_takes_68 <|
  r_istore_n (k := 2) dX8_takes_69 rfl <|
  r_iconst (v := 0) dX8_takes_70 rfl <|
  r_istore_n (k := 3) dX8_takes_71 rfl <|
  (fun _ _ _ H => H))
  (r_aload_n (k := 0) dX8_takes_33 rfl <|
  r_getR (ci := 8) (q := (RX8, TX8, 27)) (k := 21) dX8_takes_34 (by decide) rfl in_X8 (by decide) (Or.inl q2162) rfl <|
  r_aload_n (k := 0) dX8_takes_37 rfl <|
  r_getR (ci := 8) (q := (RX8, TX8, 27)) (k := 18) dX8_takes_38 (by decide) rfl in_X8 (by decide) (Or.inl q2159) rfl <|
  r_iload_n (k := 2) dX8_takes_41 rfl <|
  r_iald dX8_takes_42 <|
  r_dup2 dX8_takes_43 <|
  r_iald dX8_takes_44 <|
  r_aload_n (k := 0) dX8_takes_45 rfl <|
  r_getR (ci := 8) (q := (RX8, TX8, 27)) (k := 20) dX8_takes_46 (by decide) rfl in_X8 (by decide) (Or.inl q2161) rfl <|
  r_iload_n (k := 1) dX8_takes_49 rfl <|
  r_iald dX8_takes_50 <|
  r_iload_n (k := 2) dX8_takes_51 rfl <|
  r_ishr dX8_takes_52 <|
  r_iconst (v := 1) dX8_takes_53 rfl <|
  r_iand dX8_takes_54 <|
  r_iadd dX8_takes_55 <|
  r_iast dX8_takes_56 <|
  r_iinc (v := 1) dX8_takes_57 rfl <|
  r_goto (pt := 23) dX8_takes_60 (by decide) <|
  (fun _ _ _ H => H))
def tX8_takes_72 (d : Nat) (Q : Outcome → MH → Prop) (J : Nat → KT) : KT :=
  i_iload 3 <|
  i_const 32 <|
  i_icmp_ge
  (i_iload 2 <|
  i_ret Q (some .int))
  (i_aload 0 <|
  i_getR 8 21 <|
  i_iload 3 <|
  i_iald <|
  i_aload 0 <|
  i_getR 8 21 <|
  i_iload 2 <|
  i_iald <|
  i_icmp_le
  (i_iinc 3 1 <|
  (J 72))
  (i_iload 3 <|
  i_istore 2 <|
  i_iinc 3 1 <|
  (J 72)))
theorem kX8_takes_72 {d : Nat} {Q : Outcome → MH → Prop} : ∀ ls st h, tX8_takes_72 d Q (fun pc ls st h => WPb mX8_takes d pc ls st h Q) ls st h → WPb mX8_takes d 72 ls st h Q :=
  r_iload_n (k := 3) dX8_takes_72 rfl <|
  r_bipush (v := 32) dX8_takes_73 rfl <|
  r_icmp_ge (pt := 101) dX8_takes_75 (by decide)
  (r_iload_n (k := 2) dX8_takes_101 rfl <|
  r_ret rfl (Or.inl ⟨dX8_takes_102, Or.inl rfl⟩))
  (r_aload_n (k := 0) dX8_takes_78 rfl <|
  r_getR (ci := 8) (q := (RX8, TX8, 27)) (k := 21) dX8_takes_79 (by decide) rfl in_X8 (by decide) (Or.inl q2162) rfl <|
  r_iload_n (k := 3) dX8_takes_82 rfl <|
  r_iald dX8_takes_83 <|
  r_aload_n (k := 0) dX8_takes_84 rfl <|
  r_getR (ci := 8) (q := (RX8, TX8, 27)) (k := 21) dX8_takes_85 (by decide) rfl in_X8 (by decide) (Or.inl q2162) rfl <|
  r_iload_n (k := 2) dX8_takes_88 rfl <|
  r_iald dX8_takes_89 <|
  r_icmp_le (pt := 95) dX8_takes_90 (by decide)
  (r_iinc (v := 1) dX8_takes_95 rfl <|
  r_goto (pt := 72) dX8_takes_98 (by decide) <|
  (fun _ _ _ H => H))
  (r_iload_n (k := 3) dX8_takes_93 rfl <|
  r_istore_n (k := 2) dX8_takes_94 rfl <|
  r_iinc (v := 1) dX8_takes_95 rfl <|
  r_goto (pt := 72) dX8_takes_98 (by decide) <|
  (fun _ _ _ H => H)))
-- CheekTownModel.counts()I cuts [0, 4, 25, 55]
def tX8_counts_0 (d : Nat) (Q : Outcome → MH → Prop) (J : Nat → KT) : KT :=
  i_const 0 <|
  i_istore 1 <|
  i_const 0 <|
  i_istore 2 <|
  (J 4)
theorem kX8_counts_0 {d : Nat} {Q : Outcome → MH → Prop} : ∀ ls st h, tX8_counts_0 d Q (fun pc ls st h => WPb mX8_counts d pc ls st h Q) ls st h → WPb mX8_counts d 0 ls st h Q :=
  r_iconst (v := 0) dX8_counts_0 rfl <|
  r_istore_n (k := 1) dX8_counts_1 rfl <|
  r_iconst (v := 0) dX8_counts_2 rfl <|
  r_istore_n (k := 2) dX8_counts_3 rfl <|
  (fun _ _ _ H => H)
def tX8_counts_4 (d : Nat) (Q : Outcome → MH → Prop) (J : Nat → KT) : KT :=
  i_iload 2 <|
  i_const 32 <|
  i_icmp_ge
  (i_const 0 <|
  i_istore 2 <|
  (J 25))
  (i_aload 0 <|
  i_getR 8 21 <|
  i_iload 2 <|
  i_const 0 <|
  i_iast <|
  i_iinc 2 1 <|
  (J 4))
theorem kX8_counts_4 {d : Nat} {Q : Outcome → MH → Prop} : ∀ ls st h, tX8_counts_4 d Q (fun pc ls st h => WPb mX8_counts d pc ls st h Q) ls st h → WPb mX8_counts d 4 ls st h Q :=
  r_iload_n (k := 2) dX8_counts_4 rfl <|
  r_bipush (v := 32) dX8_counts_5 rfl <|
  r_icmp_ge (pt := 23) dX8_counts_7 (by decide)
  (r_iconst (v := 0) dX8_counts_23 rfl <|
  r_istore_n (k := 2) dX8_counts_24 rfl <|
  (fun _ _ _ H => H))
  (r_aload_n (k := 0) dX8_counts_10 rfl <|
  r_getR (ci := 8) (q := (RX8, TX8, 27)) (k := 21) dX8_counts_11 (by decide) rfl in_X8 (by decide) (Or.inl q2162) rfl <|
  r_iload_n (k := 2) dX8_counts_14 rfl <|
  r_iconst (v := 0) dX8_counts_15 rfl <|
  r_iast dX8_counts_16 <|
  r_iinc (v := 1) dX8_counts_17 rfl <|
  r_goto (pt := 4) dX8_counts_20 (by decide) <|
  (fun _ _ _ H => H))
def tX8_counts_25 (d : Nat) (Q : Outcome → MH → Prop) (J : Nat → KT) : KT :=
  i_iload 2 <|
  i_aload 0 <|
  i_getR 8 1 <|
  i_const 5 <|
  i_iald <|
  i_icmp_ge
  (i_iload 1 <|
  i_ret Q (some .int))
  (i_iload 1 <|
  i_aload 0 <|
  i_getR 8 21 <|
  i_aload 0 <|
  i_getR 8 18 <|
  i_iload 2 <|
  i_iald <|
  i_iald <|
  i_if_ne
  (i_const 0 <|
  (J 55))
  (i_const 1 <|
  (J 55)))
theorem kX8_counts_25 {d : Nat} {Q : Outcome → MH → Prop} : ∀ ls st h, tX8_counts_25 d Q (fun pc ls st h => WPb mX8_counts d pc ls st h Q) ls st h → WPb mX8_counts d 25 ls st h Q :=
  r_iload_n (k := 2) dX8_counts_25 rfl <|
  r_aload_n (k := 0) dX8_counts_26 rfl <|
  r_getR (ci := 8) (q := (RX8, TX8, 27)) (k := 1) dX8_counts_27 (by decide) rfl in_X8 (by decide) (Or.inl q2142) rfl <|
  r_iconst (v := 5) dX8_counts_30 rfl <|
  r_iald dX8_counts_31 <|
  r_icmp_ge (pt := 78) dX8_counts_32 (by decide)
  (r_iload_n (k := 1) dX8_counts_78 rfl <|
  r_ret rfl (Or.inl ⟨dX8_counts_79, Or.inl rfl⟩))
  (r_iload_n (k := 1) dX8_counts_35 rfl <|
  r_aload_n (k := 0) dX8_counts_36 rfl <|
  r_getR (ci := 8) (q := (RX8, TX8, 27)) (k := 21) dX8_counts_37 (by decide) rfl in_X8 (by decide) (Or.inl q2162) rfl <|
  r_aload_n (k := 0) dX8_counts_40 rfl <|
  r_getR (ci := 8) (q := (RX8, TX8, 27)) (k := 18) dX8_counts_41 (by decide) rfl in_X8 (by decide) (Or.inl q2159) rfl <|
  r_iload_n (k := 2) dX8_counts_44 rfl <|
  r_iald dX8_counts_45 <|
  r_iald dX8_counts_46 <|
  r_if_ne (pt := 54) dX8_counts_47 (by decide)
  (r_iconst (v := 0) dX8_counts_54 rfl <|
  (fun _ _ _ H => H))
  (r_iconst (v := 1) dX8_counts_50 rfl <|
  r_goto (pt := 55) dX8_counts_51 (by decide) <|
  (fun _ _ _ H => H)))
def tX8_counts_55 (d : Nat) (Q : Outcome → MH → Prop) (J : Nat → KT) : KT :=
  i_iadd <|
  i_istore 1 <|
  i_aload 0 <|
  i_getR 8 21 <|
  i_aload 0 <|
  i_getR 8 18 <|
  i_iload 2 <|
  i_iald <|
  i_dup2 <|
  i_iald <|
  i_const 1 <|
  i_iadd <|
  i_iast <|
  i_iinc 2 1 <|
  (J 25)
theorem kX8_counts_55 {d : Nat} {Q : Outcome → MH → Prop} : ∀ ls st h, tX8_counts_55 d Q (fun pc ls st h => WPb mX8_counts d pc ls st h Q) ls st h → WPb mX8_counts d 55 ls st h Q :=
  r_iadd dX8_counts_55 <|
  r_istore_n (k := 1) dX8_counts_56 rfl <|
  r_aload_n (k := 0) dX8_counts_57 rfl <|
  r_getR (ci := 8) (q := (RX8, TX8, 27)) (k := 21) dX8_counts_58 (by decide) rfl in_X8 (by decide) (Or.inl q2162) rfl <|
  r_aload_n (k := 0) dX8_counts_61 rfl <|
  r_getR (ci := 8) (q := (RX8, TX8, 27)) (k := 18) dX8_counts_62 (by decide) rfl in_X8 (by decide) (Or.inl q2159) rfl <|
  r_iload_n (k := 2) dX8_counts_65 rfl <|
  r_iald dX8_counts_66 <|
  r_dup2 dX8_counts_67 <|
  r_iald dX8_counts_68 <|
  r_iconst (v := 1) dX8_counts_69 rfl <|
  r_iadd dX8_counts_70 <|
  r_iast dX8_counts_71 <|
  r_iinc (v := 1) dX8_counts_72 rfl <|
  r_goto (pt := 25) dX8_counts_75 (by decide) <|
  (fun _ _ _ H => H)
-- CheekTownModel.custom(II)I cuts [0, 28]
def tX8_custom_0 (d : Nat) (Q : Outcome → MH → Prop) (J : Nat → KT) : KT :=
  i_aload 0 <|
  i_aload 0 <|
  i_iload 1 <|
  i_call mX8_isPerson d 2 (pV 8) (xOut Q) <|
  i_if_ne
  (i_iload 2 <|
  i_const 0 <|
  i_const 60 <|
  i_call mX8_isIn d 3 pS (xOut Q) <|
  i_if_ne
  (i_const 0 <|
  (J 28))
  (i_const 2 <|
  (J 28)))
  (i_const 1 <|
  (J 28))
theorem kX8_custom_0 {d : Nat} {Q : Outcome → MH → Prop} : ∀ ls st h, tX8_custom_0 d Q (fun pc ls st h => WPb mX8_custom d pc ls st h Q) ls st h → WPb mX8_custom d 0 ls st h Q :=
  r_aload_n (k := 0) dX8_custom_0 rfl <|
  r_aload_n (k := 0) dX8_custom_1 rfl <|
  r_iload_n (k := 1) dX8_custom_2 rfl <|
  r_cV (Z := mX8_isPerson) (ci := 8) (q := (RX8, TX8, 27)) dX8_custom_3 rfl (by decide +kernel) ⟨by decide, by decide⟩ (by decide) rfl rfl q2439 q2441 qs85 q127 q2442 (XS.out (noH _)) <|
  r_if_ne (pt := 13) dX8_custom_6 (by decide)
  (r_iload_n (k := 2) dX8_custom_13 rfl <|
  r_iconst (v := 0) dX8_custom_14 rfl <|
  r_bipush (v := 60) dX8_custom_15 rfl <|
  r_cS (Z := mX8_isIn) dX8_custom_17 rfl (by decide +kernel) ⟨by decide, by decide⟩ q2235 q2236 q127 q2237 (XS.out (noH _)) <|
  r_if_ne (pt := 27) dX8_custom_20 (by decide)
  (r_iconst (v := 0) dX8_custom_27 rfl <|
  (fun _ _ _ H => H))
  (r_iconst (v := 2) dX8_custom_23 rfl <|
  r_goto (pt := 28) dX8_custom_24 (by decide) <|
  (fun _ _ _ H => H)))
  (r_iconst (v := 1) dX8_custom_9 rfl <|
  r_goto (pt := 28) dX8_custom_10 (by decide) <|
  (fun _ _ _ H => H))
def tX8_custom_28 (d : Nat) (Q : Outcome → MH → Prop) (J : Nat → KT) : KT :=
  i_putI 8 0 .int <|
  i_aload 0 <|
  i_getI 8 0 <|
  i_if_le
  (i_aload 0 <|
  i_const 0 <|
  i_const 0 <|
  i_call mX8_starts d 3 (pV 8) (xOut Q) <|
  i_aload 0 <|
  i_iload 2 <|
  i_call mX8_years d 2 (pV 8) (xOut Q) <|
  i_aload 0 <|
  i_getR 8 18 <|
  i_iload 1 <|
  i_iald <|
  i_ret Q (some .int))
  (i_const 0 <|
  i_ret Q (some .int))
theorem kX8_custom_28 {d : Nat} {Q : Outcome → MH → Prop} : ∀ ls st h, tX8_custom_28 d Q (fun pc ls st h => WPb mX8_custom d pc ls st h Q) ls st h → WPb mX8_custom d 28 ls st h Q :=
  r_putI (ci := 8) (q := (RX8, TX8, 27)) (k := 0) tyX8 tyX8_ok nmX8 dX8_custom_28 (by decide) rfl in_X8 (by decide) (Or.inl ⟨rfl, (Or.inl q2141)⟩) rfl rfl <|
  r_aload_n (k := 0) dX8_custom_31 rfl <|
  r_getI (ci := 8) (q := (RX8, TX8, 27)) (k := 0) dX8_custom_32 (by decide) rfl in_X8 (by decide) (Or.inl q2141) rfl <|
  r_if_le (pt := 40) dX8_custom_35 (by decide)
  (r_aload_n (k := 0) dX8_custom_40 rfl <|
  r_iconst (v := 0) dX8_custom_41 rfl <|
  r_iconst (v := 0) dX8_custom_42 rfl <|
  r_cV (Z := mX8_starts) (ci := 8) (q := (RX8, TX8, 27)) dX8_custom_43 rfl (by decide +kernel) ⟨by decide, by decide⟩ (by decide) rfl rfl q2628 q2630 qs106 q127 q2631 (XS.out (noH _)) <|
  r_aload_n (k := 0) dX8_custom_46 rfl <|
  r_iload_n (k := 2) dX8_custom_47 rfl <|
  r_cV (Z := mX8_years) (ci := 8) (q := (RX8, TX8, 27)) dX8_custom_48 rfl (by decide +kernel) ⟨by decide, by decide⟩ (by decide) rfl rfl q2632 q2634 qs107 q127 q2635 (XS.out (noH _)) <|
  r_aload_n (k := 0) dX8_custom_51 rfl <|
  r_getR (ci := 8) (q := (RX8, TX8, 27)) (k := 18) dX8_custom_52 (by decide) rfl in_X8 (by decide) (Or.inl q2159) rfl <|
  r_iload_n (k := 1) dX8_custom_55 rfl <|
  r_iald dX8_custom_56 <|
  r_ret rfl (Or.inl ⟨dX8_custom_57, Or.inl rfl⟩))
  (r_iconst (v := 0) dX8_custom_38 rfl <|
  r_ret rfl (Or.inl ⟨dX8_custom_39, Or.inl rfl⟩))
-- CheekTownModel.still()I cuts [0, 13]
def tX8_still_0 (d : Nat) (Q : Outcome → MH → Prop) (J : Nat → KT) : KT :=
  i_aload 0 <|
  i_const 0 <|
  i_putI 8 0 .int <|
  i_aload 0 <|
  i_const 0 <|
  i_const 0 <|
  i_call mX8_starts d 3 (pV 8) (xOut Q) <|
  i_const 0 <|
  i_istore 1 <|
  (J 13)
theorem kX8_still_0 {d : Nat} {Q : Outcome → MH → Prop} : ∀ ls st h, tX8_still_0 d Q (fun pc ls st h => WPb mX8_still d pc ls st h Q) ls st h → WPb mX8_still d 0 ls st h Q :=
  r_aload_n (k := 0) dX8_still_0 rfl <|
  r_iconst (v := 0) dX8_still_1 rfl <|
  r_putI (ci := 8) (q := (RX8, TX8, 27)) (k := 0) tyX8 tyX8_ok nmX8 dX8_still_2 (by decide) rfl in_X8 (by decide) (Or.inl ⟨rfl, (Or.inl q2141)⟩) rfl rfl <|
  r_aload_n (k := 0) dX8_still_5 rfl <|
  r_iconst (v := 0) dX8_still_6 rfl <|
  r_iconst (v := 0) dX8_still_7 rfl <|
  r_cV (Z := mX8_starts) (ci := 8) (q := (RX8, TX8, 27)) dX8_still_8 rfl (by decide +kernel) ⟨by decide, by decide⟩ (by decide) rfl rfl q2628 q2630 qs106 q127 q2631 (XS.out (noH _)) <|
  r_iconst (v := 0) dX8_still_11 rfl <|
  r_istore_n (k := 1) dX8_still_12 rfl <|
  (fun _ _ _ H => H)
def tX8_still_13 (d : Nat) (Q : Outcome → MH → Prop) (J : Nat → KT) : KT :=
  i_iload 1 <|
  i_const 60 <|
  i_icmp_gt
  (i_const (-1) <|
  i_ret Q (some .int))
  (i_aload 0 <|
  i_call mX8_year d 1 (pV 8) (xOut Q) <|
  i_if_ne
  (i_iinc 1 1 <|
  (J 13))
  (i_iload 1 <|
  i_ret Q (some .int)))
theorem kX8_still_13 {d : Nat} {Q : Outcome → MH → Prop} : ∀ ls st h, tX8_still_13 d Q (fun pc ls st h => WPb mX8_still d pc ls st h Q) ls st h → WPb mX8_still d 13 ls st h Q :=
  r_iload_n (k := 1) dX8_still_13 rfl <|
  r_bipush (v := 60) dX8_still_14 rfl <|
  r_icmp_gt (pt := 34) dX8_still_16 (by decide)
  (r_iconst (v := (-1)) dX8_still_34 rfl <|
  r_ret rfl (Or.inl ⟨dX8_still_35, Or.inl rfl⟩))
  (r_aload_n (k := 0) dX8_still_19 rfl <|
  r_cV (Z := mX8_year) (ci := 8) (q := (RX8, TX8, 27)) dX8_still_20 rfl (by decide +kernel) ⟨by decide, by decide⟩ (by decide) rfl rfl q2636 q2638 qs108 q127 q2639 (XS.out (noH _)) <|
  r_if_ne (pt := 28) dX8_still_23 (by decide)
  (r_iinc (v := 1) dX8_still_28 rfl <|
  r_goto (pt := 13) dX8_still_31 (by decide) <|
  (fun _ _ _ H => H))
  (r_iload_n (k := 1) dX8_still_26 rfl <|
  r_ret rfl (Or.inl ⟨dX8_still_27, Or.inl rfl⟩)))
-- CheekTownModel.told(II)I cuts [0, 27, 44]
def tX8_told_0 (d : Nat) (Q : Outcome → MH → Prop) (J : Nat → KT) : KT :=
  i_aload 0 <|
  i_iload 1 <|
  i_call mX8_isCode d 1 pS (xOut Q) <|
  i_if_ne
  (i_iload 2 <|
  i_const 0 <|
  i_const 60 <|
  i_call mX8_isIn d 3 pS (xOut Q) <|
  i_if_ne
  (i_const 0 <|
  (J 27))
  (i_const 2 <|
  (J 27)))
  (i_const 1 <|
  (J 27))
theorem kX8_told_0 {d : Nat} {Q : Outcome → MH → Prop} : ∀ ls st h, tX8_told_0 d Q (fun pc ls st h => WPb mX8_told d pc ls st h Q) ls st h → WPb mX8_told d 0 ls st h Q :=
  r_aload_n (k := 0) dX8_told_0 rfl <|
  r_iload_n (k := 1) dX8_told_1 rfl <|
  r_cS (Z := mX8_isCode) dX8_told_2 rfl (by decide +kernel) ⟨by decide, by decide⟩ q2413 q2414 q127 q2415 (XS.out (noH _)) <|
  r_if_ne (pt := 12) dX8_told_5 (by decide)
  (r_iload_n (k := 2) dX8_told_12 rfl <|
  r_iconst (v := 0) dX8_told_13 rfl <|
  r_bipush (v := 60) dX8_told_14 rfl <|
  r_cS (Z := mX8_isIn) dX8_told_16 rfl (by decide +kernel) ⟨by decide, by decide⟩ q2235 q2236 q127 q2237 (XS.out (noH _)) <|
  r_if_ne (pt := 26) dX8_told_19 (by decide)
  (r_iconst (v := 0) dX8_told_26 rfl <|
  (fun _ _ _ H => H))
  (r_iconst (v := 2) dX8_told_22 rfl <|
  r_goto (pt := 27) dX8_told_23 (by decide) <|
  (fun _ _ _ H => H)))
  (r_iconst (v := 1) dX8_told_8 rfl <|
  r_goto (pt := 27) dX8_told_9 (by decide) <|
  (fun _ _ _ H => H))
def tX8_told_27 (d : Nat) (Q : Outcome → MH → Prop) (J : Nat → KT) : KT :=
  i_putI 8 0 .int <|
  i_aload 0 <|
  i_getI 8 0 <|
  i_if_le
  (i_const (-1) <|
  i_istore 3 <|
  i_const 0 <|
  i_istore 4 <|
  (J 44))
  (i_const 0 <|
  i_ret Q (some .int))
theorem kX8_told_27 {d : Nat} {Q : Outcome → MH → Prop} : ∀ ls st h, tX8_told_27 d Q (fun pc ls st h => WPb mX8_told d pc ls st h Q) ls st h → WPb mX8_told d 27 ls st h Q :=
  r_putI (ci := 8) (q := (RX8, TX8, 27)) (k := 0) tyX8 tyX8_ok nmX8 dX8_told_27 (by decide) rfl in_X8 (by decide) (Or.inl ⟨rfl, (Or.inl q2141)⟩) rfl rfl <|
  r_aload_n (k := 0) dX8_told_30 rfl <|
  r_getI (ci := 8) (q := (RX8, TX8, 27)) (k := 0) dX8_told_31 (by decide) rfl in_X8 (by decide) (Or.inl q2141) rfl <|
  r_if_le (pt := 39) dX8_told_34 (by decide)
  (r_iconst (v := (-1)) dX8_told_39 rfl <|
  r_istore_n (k := 3) dX8_told_40 rfl <|
  r_iconst (v := 0) dX8_told_41 rfl <|
  r_istore dX8_told_42 <|
  (fun _ _ _ H => H))
  (r_iconst (v := 0) dX8_told_37 rfl <|
  r_ret rfl (Or.inl ⟨dX8_told_38, Or.inl rfl⟩))
def tX8_told_44 (d : Nat) (Q : Outcome → MH → Prop) (J : Nat → KT) : KT :=
  i_iload 4 <|
  i_const 1 <|
  i_aload 0 <|
  i_getR 8 1 <|
  i_const 5 <|
  i_iald <|
  i_ishl <|
  i_icmp_ge
  (i_iload 3 <|
  i_ret Q (some .int))
  (i_iload 3 <|
  i_const (-1) <|
  i_icmp_eq
  (i_aload 0 <|
  i_iload 4 <|
  i_iload 1 <|
  i_iload 2 <|
  i_call mX8_wins d 4 (pV 8) (xOut Q) <|
  i_if_eq
  (i_iinc 4 1 <|
  (J 44))
  (i_iload 4 <|
  i_istore 3 <|
  i_iinc 4 1 <|
  (J 44)))
  (i_iload 4 <|
  i_call mX8_bits d 1 pS (xOut Q) <|
  i_iload 3 <|
  i_call mX8_bits d 1 pS (xOut Q) <|
  i_icmp_lt
  (i_aload 0 <|
  i_iload 4 <|
  i_iload 1 <|
  i_iload 2 <|
  i_call mX8_wins d 4 (pV 8) (xOut Q) <|
  i_if_eq
  (i_iinc 4 1 <|
  (J 44))
  (i_iload 4 <|
  i_istore 3 <|
  i_iinc 4 1 <|
  (J 44)))
  (i_iinc 4 1 <|
  (J 44))))
theorem kX8_told_44 {d : Nat} {Q : Outcome → MH → Prop} : ∀ ls st h, tX8_told_44 d Q (fun pc ls st h => WPb mX8_told d pc ls st h Q) ls st h → WPb mX8_told d 44 ls st h Q :=
  r_iload dX8_told_44 <|
  r_iconst (v := 1) dX8_told_46 rfl <|
  r_aload_n (k := 0) dX8_told_47 rfl <|
  r_getR (ci := 8) (q := (RX8, TX8, 27)) (k := 1) dX8_told_48 (by decide) rfl in_X8 (by decide) (Or.inl q2142) rfl <|
  r_iconst (v := 5) dX8_told_51 rfl <|
  r_iald dX8_told_52 <|
  r_ishl dX8_told_53 <|
  r_icmp_ge (pt := 97) dX8_told_54 (by decide)
  (r_iload_n (k := 3) dX8_told_97 rfl <|
  r_ret rfl (Or.inl ⟨dX8_told_98, Or.inl rfl⟩))
  (r_iload_n (k := 3) dX8_told_57 rfl <|
  r_iconst (v := (-1)) dX8_told_58 rfl <|
  r_icmp_eq (pt := 77) dX8_told_59 (by decide)
  (r_aload_n (k := 0) dX8_told_77 rfl <|
  r_iload dX8_told_78 <|
  r_iload_n (k := 1) dX8_told_80 rfl <|
  r_iload_n (k := 2) dX8_told_81 rfl <|
  r_cV (Z := mX8_wins) (ci := 8) (q := (RX8, TX8, 27)) dX8_told_82 rfl (by decide +kernel) ⟨by decide, by decide⟩ (by decide) rfl rfl q2660 q2662 qs111 q127 q2663 (XS.out (noH _)) <|
  r_if_eq (pt := 91) dX8_told_85 (by decide)
  (r_iinc (v := 1) dX8_told_91 rfl <|
  r_goto (pt := 44) dX8_told_94 (by decide) <|
  (fun _ _ _ H => H))
  (r_iload dX8_told_88 <|
  r_istore_n (k := 3) dX8_told_90 rfl <|
  r_iinc (v := 1) dX8_told_91 rfl <|
  r_goto (pt := 44) dX8_told_94 (by decide) <|
  (fun _ _ _ H => H)))
  (r_iload dX8_told_62 <|
  r_cS (Z := mX8_bits) dX8_told_64 rfl (by decide +kernel) ⟨by decide, by decide⟩ q2596 q2597 q127 q2598 (XS.out (noH _)) <|
  r_iload_n (k := 3) dX8_told_67 rfl <|
  r_cS (Z := mX8_bits) dX8_told_68 rfl (by decide +kernel) ⟨by decide, by decide⟩ q2596 q2597 q127 q2598 (XS.out (noH _)) <|
  r_icmp_lt (pt := 77) dX8_told_71 (by decide)
  (r_aload_n (k := 0) dX8_told_77 rfl <|
  r_iload dX8_told_78 <|
  r_iload_n (k := 1) dX8_told_80 rfl <|
  r_iload_n (k := 2) dX8_told_81 rfl <|
  r_cV (Z := mX8_wins) (ci := 8) (q := (RX8, TX8, 27)) dX8_told_82 rfl (by decide +kernel) ⟨by decide, by decide⟩ (by decide) rfl rfl q2660 q2662 qs111 q127 q2663 (XS.out (noH _)) <|
  r_if_eq (pt := 91) dX8_told_85 (by decide)
  (r_iinc (v := 1) dX8_told_91 rfl <|
  r_goto (pt := 44) dX8_told_94 (by decide) <|
  (fun _ _ _ H => H))
  (r_iload dX8_told_88 <|
  r_istore_n (k := 3) dX8_told_90 rfl <|
  r_iinc (v := 1) dX8_told_91 rfl <|
  r_goto (pt := 44) dX8_told_94 (by decide) <|
  (fun _ _ _ H => H)))
  (r_goto (pt := 91) dX8_told_74 (by decide) <|
  r_iinc (v := 1) dX8_told_91 rfl <|
  r_goto (pt := 44) dX8_told_94 (by decide) <|
  (fun _ _ _ H => H))))
-- CheekTownModel.wins(III)Z cuts [0, 14]
def tX8_wins_0 (d : Nat) (Q : Outcome → MH → Prop) (J : Nat → KT) : KT :=
  i_aload 0 <|
  i_iload 1 <|
  i_iload 2 <|
  i_call mX8_starts d 3 (pV 8) (xOut Q) <|
  i_aload 0 <|
  i_iload 3 <|
  i_call mX8_years d 2 (pV 8) (xOut Q) <|
  i_const 0 <|
  i_istore 4 <|
  (J 14)
theorem kX8_wins_0 {d : Nat} {Q : Outcome → MH → Prop} : ∀ ls st h, tX8_wins_0 d Q (fun pc ls st h => WPb mX8_wins d pc ls st h Q) ls st h → WPb mX8_wins d 0 ls st h Q :=
  r_aload_n (k := 0) dX8_wins_0 rfl <|
  r_iload_n (k := 1) dX8_wins_1 rfl <|
  r_iload_n (k := 2) dX8_wins_2 rfl <|
  r_cV (Z := mX8_starts) (ci := 8) (q := (RX8, TX8, 27)) dX8_wins_3 rfl (by decide +kernel) ⟨by decide, by decide⟩ (by decide) rfl rfl q2628 q2630 qs106 q127 q2631 (XS.out (noH _)) <|
  r_aload_n (k := 0) dX8_wins_6 rfl <|
  r_iload_n (k := 3) dX8_wins_7 rfl <|
  r_cV (Z := mX8_years) (ci := 8) (q := (RX8, TX8, 27)) dX8_wins_8 rfl (by decide +kernel) ⟨by decide, by decide⟩ (by decide) rfl rfl q2632 q2634 qs107 q127 q2635 (XS.out (noH _)) <|
  r_iconst (v := 0) dX8_wins_11 rfl <|
  r_istore dX8_wins_12 <|
  (fun _ _ _ H => H)
def tX8_wins_14 (d : Nat) (Q : Outcome → MH → Prop) (J : Nat → KT) : KT :=
  i_iload 4 <|
  i_aload 0 <|
  i_getR 8 1 <|
  i_const 5 <|
  i_iald <|
  i_icmp_ge
  (i_const 1 <|
  i_ret Q (some .boolean))
  (i_aload 0 <|
  i_getR 8 18 <|
  i_iload 4 <|
  i_iald <|
  i_iload 2 <|
  i_icmp_eq
  (i_iinc 4 1 <|
  (J 14))
  (i_const 0 <|
  i_ret Q (some .boolean)))
theorem kX8_wins_14 {d : Nat} {Q : Outcome → MH → Prop} : ∀ ls st h, tX8_wins_14 d Q (fun pc ls st h => WPb mX8_wins d pc ls st h Q) ls st h → WPb mX8_wins d 14 ls st h Q :=
  r_iload dX8_wins_14 <|
  r_aload_n (k := 0) dX8_wins_16 rfl <|
  r_getR (ci := 8) (q := (RX8, TX8, 27)) (k := 1) dX8_wins_17 (by decide) rfl in_X8 (by decide) (Or.inl q2142) rfl <|
  r_iconst (v := 5) dX8_wins_20 rfl <|
  r_iald dX8_wins_21 <|
  r_icmp_ge (pt := 44) dX8_wins_22 (by decide)
  (r_iconst (v := 1) dX8_wins_44 rfl <|
  r_ret rfl (Or.inl ⟨dX8_wins_45, Or.inr (Or.inl rfl)⟩))
  (r_aload_n (k := 0) dX8_wins_25 rfl <|
  r_getR (ci := 8) (q := (RX8, TX8, 27)) (k := 18) dX8_wins_26 (by decide) rfl in_X8 (by decide) (Or.inl q2159) rfl <|
  r_iload dX8_wins_29 <|
  r_iald dX8_wins_31 <|
  r_iload_n (k := 2) dX8_wins_32 rfl <|
  r_icmp_eq (pt := 38) dX8_wins_33 (by decide)
  (r_iinc (v := 1) dX8_wins_38 rfl <|
  r_goto (pt := 14) dX8_wins_41 (by decide) <|
  (fun _ _ _ H => H))
  (r_iconst (v := 0) dX8_wins_36 rfl <|
  r_ret rfl (Or.inl ⟨dX8_wins_37, Or.inr (Or.inl rfl)⟩)))
-- CheekTownModel.colds(II)I cuts [0]
def tX8_colds_0 (d : Nat) (Q : Outcome → MH → Prop) (J : Nat → KT) : KT :=
  i_aload 0 <|
  i_iload 2 <|
  i_const 0 <|
  i_const 20 <|
  i_call mX8_isIn d 3 pS (xOut Q) <|
  i_if_ne
  (i_const 0 <|
  i_putI 8 0 .int <|
  i_aload 0 <|
  i_getI 8 0 <|
  i_if_le
  (i_aload 0 <|
  i_iload 1 <|
  i_iload 2 <|
  i_call mX8_passes d 3 (pV 8) (xOut Q) <|
  i_ret Q (some .int))
  (i_const 0 <|
  i_ret Q (some .int)))
  (i_const 1 <|
  i_putI 8 0 .int <|
  i_aload 0 <|
  i_getI 8 0 <|
  i_if_le
  (i_aload 0 <|
  i_iload 1 <|
  i_iload 2 <|
  i_call mX8_passes d 3 (pV 8) (xOut Q) <|
  i_ret Q (some .int))
  (i_const 0 <|
  i_ret Q (some .int)))
theorem kX8_colds_0 {d : Nat} {Q : Outcome → MH → Prop} : ∀ ls st h, tX8_colds_0 d Q (fun pc ls st h => WPb mX8_colds d pc ls st h Q) ls st h → WPb mX8_colds d 0 ls st h Q :=
  r_aload_n (k := 0) dX8_colds_0 rfl <|
  r_iload_n (k := 2) dX8_colds_1 rfl <|
  r_iconst (v := 0) dX8_colds_2 rfl <|
  r_bipush (v := 20) dX8_colds_3 rfl <|
  r_cS (Z := mX8_isIn) dX8_colds_5 rfl (by decide +kernel) ⟨by decide, by decide⟩ q2235 q2236 q127 q2237 (XS.out (noH _)) <|
  r_if_ne (pt := 15) dX8_colds_8 (by decide)
  (r_iconst (v := 0) dX8_colds_15 rfl <|
  r_putI (ci := 8) (q := (RX8, TX8, 27)) (k := 0) tyX8 tyX8_ok nmX8 dX8_colds_16 (by decide) rfl in_X8 (by decide) (Or.inl ⟨rfl, (Or.inl q2141)⟩) rfl rfl <|
  r_aload_n (k := 0) dX8_colds_19 rfl <|
  r_getI (ci := 8) (q := (RX8, TX8, 27)) (k := 0) dX8_colds_20 (by decide) rfl in_X8 (by decide) (Or.inl q2141) rfl <|
  r_if_le (pt := 30) dX8_colds_23 (by decide)
  (r_aload_n (k := 0) dX8_colds_30 rfl <|
  r_iload_n (k := 1) dX8_colds_31 rfl <|
  r_iload_n (k := 2) dX8_colds_32 rfl <|
  r_cV (Z := mX8_passes) (ci := 8) (q := (RX8, TX8, 27)) dX8_colds_33 rfl (by decide +kernel) ⟨by decide, by decide⟩ (by decide) rfl rfl q2668 q2670 qs112 q127 q2671 (XS.out (noH _)) <|
  r_ret rfl (Or.inl ⟨dX8_colds_36, Or.inl rfl⟩))
  (r_iconst (v := 0) dX8_colds_26 rfl <|
  r_goto (pt := 36) dX8_colds_27 (by decide) <|
  r_ret rfl (Or.inl ⟨dX8_colds_36, Or.inl rfl⟩)))
  (r_iconst (v := 1) dX8_colds_11 rfl <|
  r_goto (pt := 16) dX8_colds_12 (by decide) <|
  r_putI (ci := 8) (q := (RX8, TX8, 27)) (k := 0) tyX8 tyX8_ok nmX8 dX8_colds_16 (by decide) rfl in_X8 (by decide) (Or.inl ⟨rfl, (Or.inl q2141)⟩) rfl rfl <|
  r_aload_n (k := 0) dX8_colds_19 rfl <|
  r_getI (ci := 8) (q := (RX8, TX8, 27)) (k := 0) dX8_colds_20 (by decide) rfl in_X8 (by decide) (Or.inl q2141) rfl <|
  r_if_le (pt := 30) dX8_colds_23 (by decide)
  (r_aload_n (k := 0) dX8_colds_30 rfl <|
  r_iload_n (k := 1) dX8_colds_31 rfl <|
  r_iload_n (k := 2) dX8_colds_32 rfl <|
  r_cV (Z := mX8_passes) (ci := 8) (q := (RX8, TX8, 27)) dX8_colds_33 rfl (by decide +kernel) ⟨by decide, by decide⟩ (by decide) rfl rfl q2668 q2670 qs112 q127 q2671 (XS.out (noH _)) <|
  r_ret rfl (Or.inl ⟨dX8_colds_36, Or.inl rfl⟩))
  (r_iconst (v := 0) dX8_colds_26 rfl <|
  r_goto (pt := 36) dX8_colds_27 (by decide) <|
  r_ret rfl (Or.inl ⟨dX8_colds_36, Or.inl rfl⟩)))
-- CheekTownModel.passes(II)I cuts [0, 8, 17]
def tX8_passes_0 (d : Nat) (Q : Outcome → MH → Prop) (J : Nat → KT) : KT :=
  i_aload 0 <|
  i_call mX8_coldsNow d 1 (pV 8) (xOut Q) <|
  i_istore 3 <|
  i_const 0 <|
  i_istore 4 <|
  (J 8)
theorem kX8_passes_0 {d : Nat} {Q : Outcome → MH → Prop} : ∀ ls st h, tX8_passes_0 d Q (fun pc ls st h => WPb mX8_passes d pc ls st h Q) ls st h → WPb mX8_passes d 0 ls st h Q :=
  r_aload_n (k := 0) dX8_passes_0 rfl <|
  r_cV (Z := mX8_coldsNow) (ci := 8) (q := (RX8, TX8, 27)) dX8_passes_1 rfl (by decide +kernel) ⟨by decide, by decide⟩ (by decide) rfl rfl q2672 q2674 qs113 q127 q2675 (XS.out (noH _)) <|
  r_istore_n (k := 3) dX8_passes_4 rfl <|
  r_iconst (v := 0) dX8_passes_5 rfl <|
  r_istore dX8_passes_6 <|
  (fun _ _ _ H => H)
def tX8_passes_8 (d : Nat) (Q : Outcome → MH → Prop) (J : Nat → KT) : KT :=
  i_iload 4 <|
  i_iload 2 <|
  i_icmp_ge
  (i_iload 3 <|
  i_ret Q (some .int))
  (i_const 0 <|
  i_istore 5 <|
  (J 17))
theorem kX8_passes_8 {d : Nat} {Q : Outcome → MH → Prop} : ∀ ls st h, tX8_passes_8 d Q (fun pc ls st h => WPb mX8_passes d pc ls st h Q) ls st h → WPb mX8_passes d 8 ls st h Q :=
  r_iload dX8_passes_8 <|
  r_iload_n (k := 2) dX8_passes_10 rfl <|
  r_icmp_ge (pt := 79) dX8_passes_11 (by decide)
  (r_iload_n (k := 3) dX8_passes_79 rfl <|
  r_ret rfl (Or.inl ⟨dX8_passes_80, Or.inl rfl⟩))
  (r_iconst (v := 0) dX8_passes_14 rfl <|
  r_istore dX8_passes_15 <|
  (fun _ _ _ H => H))
def tX8_passes_17 (d : Nat) (Q : Outcome → MH → Prop) (J : Nat → KT) : KT :=
  i_iload 5 <|
  i_aload 0 <|
  i_getR 8 1 <|
  i_const 6 <|
  i_iald <|
  i_icmp_ge
  (i_iinc 4 1 <|
  (J 8))
  (i_const 1 <|
  i_aload 0 <|
  i_iload 5 <|
  i_call mX8_who d 2 (pV 8) (xOut Q) <|
  i_ishl <|
  i_const 1 <|
  i_aload 0 <|
  i_iload 5 <|
  i_call mX8_whom d 2 (pV 8) (xOut Q) <|
  i_ishl <|
  i_ior <|
  i_istore 6 <|
  i_iload 1 <|
  i_iload 6 <|
  i_iand <|
  i_if_ne
  (i_iinc 5 1 <|
  (J 17))
  (i_iload 3 <|
  i_iload 6 <|
  i_iand <|
  i_if_eq
  (i_iinc 5 1 <|
  (J 17))
  (i_iload 3 <|
  i_iload 6 <|
  i_ior <|
  i_istore 3 <|
  i_iinc 5 1 <|
  (J 17))))
theorem kX8_passes_17 {d : Nat} {Q : Outcome → MH → Prop} : ∀ ls st h, tX8_passes_17 d Q (fun pc ls st h => WPb mX8_passes d pc ls st h Q) ls st h → WPb mX8_passes d 17 ls st h Q :=
  r_iload dX8_passes_17 <|
  r_aload_n (k := 0) dX8_passes_19 rfl <|
  r_getR (ci := 8) (q := (RX8, TX8, 27)) (k := 1) dX8_passes_20 (by decide) rfl in_X8 (by decide) (Or.inl q2142) rfl <|
  r_bipush (v := 6) dX8_passes_23 rfl <|
  r_iald dX8_passes_25 <|
  r_icmp_ge (pt := 73) dX8_passes_26 (by decide)
  (r_iinc (v := 1) dX8_passes_73 rfl <|
  r_goto (pt := 8) dX8_passes_76 (by decide) <|
  (fun _ _ _ H => H))
  (r_iconst (v := 1) dX8_passes_29 rfl <|
  r_aload_n (k := 0) dX8_passes_30 rfl <|
  r_iload dX8_passes_31 <|
  r_cV (Z := mX8_who) (ci := 8) (q := (RX8, TX8, 27)) dX8_passes_33 rfl (by decide +kernel) ⟨by decide, by decide⟩ (by decide) rfl rfl q2378 q2380 qs77 q127 q2381 (XS.out (noH _)) <|
  r_ishl dX8_passes_36 <|
  r_iconst (v := 1) dX8_passes_37 rfl <|
  r_aload_n (k := 0) dX8_passes_38 rfl <|
  r_iload dX8_passes_39 <|
  r_cV (Z := mX8_whom) (ci := 8) (q := (RX8, TX8, 27)) dX8_passes_41 rfl (by decide +kernel) ⟨by decide, by decide⟩ (by decide) rfl rfl q2382 q2384 qs78 q127 q2385 (XS.out (noH _)) <|
  r_ishl dX8_passes_44 <|
  r_ior dX8_passes_45 <|
  r_istore dX8_passes_46 <|
  r_iload_n (k := 1) dX8_passes_48 rfl <|
  r_iload dX8_passes_49 <|
  r_iand dX8_passes_51 <|
  r_if_ne (pt := 67) dX8_passes_52 (by decide)
  (r_iinc (v := 1) dX8_passes_67 rfl <|
  r_goto (pt := 17) dX8_passes_70 (by decide) <|
  (fun _ _ _ H => H))
  (r_iload_n (k := 3) dX8_passes_55 rfl <|
  r_iload dX8_passes_56 <|
  r_iand dX8_passes_58 <|
  r_if_eq (pt := 67) dX8_passes_59 (by decide)
  (r_iinc (v := 1) dX8_passes_67 rfl <|
  r_goto (pt := 17) dX8_passes_70 (by decide) <|
  (fun _ _ _ H => H))
  (r_iload_n (k := 3) dX8_passes_62 rfl <|
  r_iload dX8_passes_63 <|
  r_ior dX8_passes_65 <|
  r_istore_n (k := 3) dX8_passes_66 rfl <|
  r_iinc (v := 1) dX8_passes_67 rfl <|
  r_goto (pt := 17) dX8_passes_70 (by decide) <|
  (fun _ _ _ H => H))))
-- CheekTownModel.coldsNow()I cuts [0, 4]
def tX8_coldsNow_0 (d : Nat) (Q : Outcome → MH → Prop) (J : Nat → KT) : KT :=
  i_const 0 <|
  i_istore 1 <|
  i_const 0 <|
  i_istore 2 <|
  (J 4)
theorem kX8_coldsNow_0 {d : Nat} {Q : Outcome → MH → Prop} : ∀ ls st h, tX8_coldsNow_0 d Q (fun pc ls st h => WPb mX8_coldsNow d pc ls st h Q) ls st h → WPb mX8_coldsNow d 0 ls st h Q :=
  r_iconst (v := 0) dX8_coldsNow_0 rfl <|
  r_istore_n (k := 1) dX8_coldsNow_1 rfl <|
  r_iconst (v := 0) dX8_coldsNow_2 rfl <|
  r_istore_n (k := 2) dX8_coldsNow_3 rfl <|
  (fun _ _ _ H => H)
def tX8_coldsNow_4 (d : Nat) (Q : Outcome → MH → Prop) (J : Nat → KT) : KT :=
  i_iload 2 <|
  i_aload 0 <|
  i_getR 8 1 <|
  i_const 5 <|
  i_iald <|
  i_icmp_ge
  (i_iload 1 <|
  i_ret Q (some .int))
  (i_iload 1 <|
  i_aload 0 <|
  i_iload 2 <|
  i_const 4 <|
  i_call mX8_of d 3 (pV 8) (xOut Q) <|
  i_iload 2 <|
  i_ishl <|
  i_ior <|
  i_istore 1 <|
  i_iinc 2 1 <|
  (J 4))
theorem kX8_coldsNow_4 {d : Nat} {Q : Outcome → MH → Prop} : ∀ ls st h, tX8_coldsNow_4 d Q (fun pc ls st h => WPb mX8_coldsNow d pc ls st h Q) ls st h → WPb mX8_coldsNow d 4 ls st h Q :=
  r_iload_n (k := 2) dX8_coldsNow_4 rfl <|
  r_aload_n (k := 0) dX8_coldsNow_5 rfl <|
  r_getR (ci := 8) (q := (RX8, TX8, 27)) (k := 1) dX8_coldsNow_6 (by decide) rfl in_X8 (by decide) (Or.inl q2142) rfl <|
  r_iconst (v := 5) dX8_coldsNow_9 rfl <|
  r_iald dX8_coldsNow_10 <|
  r_icmp_ge (pt := 31) dX8_coldsNow_11 (by decide)
  (r_iload_n (k := 1) dX8_coldsNow_31 rfl <|
  r_ret rfl (Or.inl ⟨dX8_coldsNow_32, Or.inl rfl⟩))
  (r_iload_n (k := 1) dX8_coldsNow_14 rfl <|
  r_aload_n (k := 0) dX8_coldsNow_15 rfl <|
  r_iload_n (k := 2) dX8_coldsNow_16 rfl <|
  r_iconst (v := 4) dX8_coldsNow_17 rfl <|
  r_cV (Z := mX8_of) (ci := 8) (q := (RX8, TX8, 27)) dX8_coldsNow_18 rfl (by decide +kernel) ⟨by decide, by decide⟩ (by decide) rfl rfl q2443 q2445 qs86 q127 q2446 (XS.out (noH _)) <|
  r_iload_n (k := 2) dX8_coldsNow_21 rfl <|
  r_ishl dX8_coldsNow_22 <|
  r_ior dX8_coldsNow_23 <|
  r_istore_n (k := 1) dX8_coldsNow_24 rfl <|
  r_iinc (v := 1) dX8_coldsNow_25 rfl <|
  r_goto (pt := 4) dX8_coldsNow_28 (by decide) <|
  (fun _ _ _ H => H))
-- CheekTownModel.spared(II)I cuts [0, 28, 59, 102]
def tX8_spared_0 (d : Nat) (Q : Outcome → MH → Prop) (J : Nat → KT) : KT :=
  i_aload 0 <|
  i_aload 0 <|
  i_iload 1 <|
  i_call mX8_isPerson d 2 (pV 8) (xOut Q) <|
  i_if_ne
  (i_iload 2 <|
  i_const 0 <|
  i_const 20 <|
  i_call mX8_isIn d 3 pS (xOut Q) <|
  i_if_ne
  (i_const 0 <|
  (J 28))
  (i_const 2 <|
  (J 28)))
  (i_const 1 <|
  (J 28))
theorem kX8_spared_0 {d : Nat} {Q : Outcome → MH → Prop} : ∀ ls st h, tX8_spared_0 d Q (fun pc ls st h => WPb mX8_spared d pc ls st h Q) ls st h → WPb mX8_spared d 0 ls st h Q :=
  r_aload_n (k := 0) dX8_spared_0 rfl <|
  r_aload_n (k := 0) dX8_spared_1 rfl <|
  r_iload_n (k := 1) dX8_spared_2 rfl <|
  r_cV (Z := mX8_isPerson) (ci := 8) (q := (RX8, TX8, 27)) dX8_spared_3 rfl (by decide +kernel) ⟨by decide, by decide⟩ (by decide) rfl rfl q2439 q2441 qs85 q127 q2442 (XS.out (noH _)) <|
  r_if_ne (pt := 13) dX8_spared_6 (by decide)
  (r_iload_n (k := 2) dX8_spared_13 rfl <|
  r_iconst (v := 0) dX8_spared_14 rfl <|
  r_bipush (v := 20) dX8_spared_15 rfl <|
  r_cS (Z := mX8_isIn) dX8_spared_17 rfl (by decide +kernel) ⟨by decide, by decide⟩ q2235 q2236 q127 q2237 (XS.out (noH _)) <|
  r_if_ne (pt := 27) dX8_spared_20 (by decide)
  (r_iconst (v := 0) dX8_spared_27 rfl <|
  (fun _ _ _ H => H))
  (r_iconst (v := 2) dX8_spared_23 rfl <|
  r_goto (pt := 28) dX8_spared_24 (by decide) <|
  (fun _ _ _ H => H)))
  (r_iconst (v := 1) dX8_spared_9 rfl <|
  r_goto (pt := 28) dX8_spared_10 (by decide) <|
  (fun _ _ _ H => H))
def tX8_spared_28 (d : Nat) (Q : Outcome → MH → Prop) (J : Nat → KT) : KT :=
  i_putI 8 0 .int <|
  i_aload 0 <|
  i_getI 8 0 <|
  i_if_le
  (i_aload 0 <|
  i_iload 1 <|
  i_const 4 <|
  i_call mX8_of d 3 (pV 8) (xOut Q) <|
  i_const 1 <|
  i_icmp_ne
  (i_const (-2) <|
  i_istore 3 <|
  i_const 0 <|
  i_istore 4 <|
  (J 59))
  (i_const (-2) <|
  i_ret Q (some .int)))
  (i_const 0 <|
  i_ret Q (some .int))
theorem kX8_spared_28 {d : Nat} {Q : Outcome → MH → Prop} : ∀ ls st h, tX8_spared_28 d Q (fun pc ls st h => WPb mX8_spared d pc ls st h Q) ls st h → WPb mX8_spared d 28 ls st h Q :=
  r_putI (ci := 8) (q := (RX8, TX8, 27)) (k := 0) tyX8 tyX8_ok nmX8 dX8_spared_28 (by decide) rfl in_X8 (by decide) (Or.inl ⟨rfl, (Or.inl q2141)⟩) rfl rfl <|
  r_aload_n (k := 0) dX8_spared_31 rfl <|
  r_getI (ci := 8) (q := (RX8, TX8, 27)) (k := 0) dX8_spared_32 (by decide) rfl in_X8 (by decide) (Or.inl q2141) rfl <|
  r_if_le (pt := 40) dX8_spared_35 (by decide)
  (r_aload_n (k := 0) dX8_spared_40 rfl <|
  r_iload_n (k := 1) dX8_spared_41 rfl <|
  r_iconst (v := 4) dX8_spared_42 rfl <|
  r_cV (Z := mX8_of) (ci := 8) (q := (RX8, TX8, 27)) dX8_spared_43 rfl (by decide +kernel) ⟨by decide, by decide⟩ (by decide) rfl rfl q2443 q2445 qs86 q127 q2446 (XS.out (noH _)) <|
  r_iconst (v := 1) dX8_spared_46 rfl <|
  r_icmp_ne (pt := 53) dX8_spared_47 (by decide)
  (r_bipush (v := (-2)) dX8_spared_53 rfl <|
  r_istore_n (k := 3) dX8_spared_55 rfl <|
  r_iconst (v := 0) dX8_spared_56 rfl <|
  r_istore dX8_spared_57 <|
  (fun _ _ _ H => H))
  (r_bipush (v := (-2)) dX8_spared_50 rfl <|
  r_ret rfl (Or.inl ⟨dX8_spared_52, Or.inl rfl⟩)))
  (r_iconst (v := 0) dX8_spared_38 rfl <|
  r_ret rfl (Or.inl ⟨dX8_spared_39, Or.inl rfl⟩))
def tX8_spared_59 (d : Nat) (Q : Outcome → MH → Prop) (J : Nat → KT) : KT :=
  i_iload 4 <|
  i_const 1 <|
  i_aload 0 <|
  i_getR 8 1 <|
  i_const 5 <|
  i_iald <|
  i_ishl <|
  i_icmp_ge
  (i_iload 3 <|
  i_ret Q (some .int))
  (i_iload 4 <|
  i_iload 1 <|
  i_call mX8_isOf d 2 pS (xOut Q) <|
  i_if_ne
  (i_iinc 4 1 <|
  (J 59))
  (i_iload 3 <|
  i_const (-2) <|
  i_icmp_eq
  ((J 102))
  (i_iload 4 <|
  i_call mX8_bits d 1 pS (xOut Q) <|
  i_iload 3 <|
  i_call mX8_bits d 1 pS (xOut Q) <|
  i_icmp_lt
  ((J 102))
  (i_iinc 4 1 <|
  (J 59)))))
theorem kX8_spared_59 {d : Nat} {Q : Outcome → MH → Prop} : ∀ ls st h, tX8_spared_59 d Q (fun pc ls st h => WPb mX8_spared d pc ls st h Q) ls st h → WPb mX8_spared d 59 ls st h Q :=
  r_iload dX8_spared_59 <|
  r_iconst (v := 1) dX8_spared_61 rfl <|
  r_aload_n (k := 0) dX8_spared_62 rfl <|
  r_getR (ci := 8) (q := (RX8, TX8, 27)) (k := 1) dX8_spared_63 (by decide) rfl in_X8 (by decide) (Or.inl q2142) rfl <|
  r_iconst (v := 5) dX8_spared_66 rfl <|
  r_iald dX8_spared_67 <|
  r_ishl dX8_spared_68 <|
  r_icmp_ge (pt := 125) dX8_spared_69 (by decide)
  (r_iload_n (k := 3) dX8_spared_125 rfl <|
  r_ret rfl (Or.inl ⟨dX8_spared_126, Or.inl rfl⟩))
  (r_iload dX8_spared_72 <|
  r_iload_n (k := 1) dX8_spared_74 rfl <|
  r_cS (Z := mX8_isOf) dX8_spared_75 rfl (by decide +kernel) ⟨by decide, by decide⟩ q2526 q2527 q127 q2528 (XS.out (noH _)) <|
  r_if_ne (pt := 119) dX8_spared_78 (by decide)
  (r_iinc (v := 1) dX8_spared_119 rfl <|
  r_goto (pt := 59) dX8_spared_122 (by decide) <|
  (fun _ _ _ H => H))
  (r_iload_n (k := 3) dX8_spared_81 rfl <|
  r_bipush (v := (-2)) dX8_spared_82 rfl <|
  r_icmp_eq (pt := 102) dX8_spared_84 (by decide)
  ((fun _ _ _ H => H))
  (r_iload dX8_spared_87 <|
  r_cS (Z := mX8_bits) dX8_spared_89 rfl (by decide +kernel) ⟨by decide, by decide⟩ q2596 q2597 q127 q2598 (XS.out (noH _)) <|
  r_iload_n (k := 3) dX8_spared_92 rfl <|
  r_cS (Z := mX8_bits) dX8_spared_93 rfl (by decide +kernel) ⟨by decide, by decide⟩ q2596 q2597 q127 q2598 (XS.out (noH _)) <|
  r_icmp_lt (pt := 102) dX8_spared_96 (by decide)
  ((fun _ _ _ H => H))
  (r_goto (pt := 119) dX8_spared_99 (by decide) <|
  r_iinc (v := 1) dX8_spared_119 rfl <|
  r_goto (pt := 59) dX8_spared_122 (by decide) <|
  (fun _ _ _ H => H)))))
def tX8_spared_102 (d : Nat) (Q : Outcome → MH → Prop) (J : Nat → KT) : KT :=
  i_aload 0 <|
  i_iload 4 <|
  i_iload 2 <|
  i_call mX8_passes d 3 (pV 8) (xOut Q) <|
  i_iload 1 <|
  i_call mX8_isOf d 2 pS (xOut Q) <|
  i_if_ne
  (i_iinc 4 1 <|
  (J 59))
  (i_iload 4 <|
  i_istore 3 <|
  i_iinc 4 1 <|
  (J 59))
theorem kX8_spared_102 {d : Nat} {Q : Outcome → MH → Prop} : ∀ ls st h, tX8_spared_102 d Q (fun pc ls st h => WPb mX8_spared d pc ls st h Q) ls st h → WPb mX8_spared d 102 ls st h Q :=
  r_aload_n (k := 0) dX8_spared_102 rfl <|
  r_iload dX8_spared_103 <|
  r_iload_n (k := 2) dX8_spared_105 rfl <|
  r_cV (Z := mX8_passes) (ci := 8) (q := (RX8, TX8, 27)) dX8_spared_106 rfl (by decide +kernel) ⟨by decide, by decide⟩ (by decide) rfl rfl q2668 q2670 qs112 q127 q2671 (XS.out (noH _)) <|
  r_iload_n (k := 1) dX8_spared_109 rfl <|
  r_cS (Z := mX8_isOf) dX8_spared_110 rfl (by decide +kernel) ⟨by decide, by decide⟩ q2526 q2527 q127 q2528 (XS.out (noH _)) <|
  r_if_ne (pt := 119) dX8_spared_113 (by decide)
  (r_iinc (v := 1) dX8_spared_119 rfl <|
  r_goto (pt := 59) dX8_spared_122 (by decide) <|
  (fun _ _ _ H => H))
  (r_iload dX8_spared_116 <|
  r_istore_n (k := 3) dX8_spared_118 rfl <|
  r_iinc (v := 1) dX8_spared_119 rfl <|
  r_goto (pt := 59) dX8_spared_122 (by decide) <|
  (fun _ _ _ H => H))
-- CheekTownModel.changed(Z)I cuts [0, 7, 41, 49, 130]
def tX8_changed_0 (d : Nat) (Q : Outcome → MH → Prop) (J : Nat → KT) : KT :=
  i_aload 0 <|
  i_const 0 <|
  i_putI 8 0 .int <|
  i_const 0 <|
  i_istore 2 <|
  (J 7)
theorem kX8_changed_0 {d : Nat} {Q : Outcome → MH → Prop} : ∀ ls st h, tX8_changed_0 d Q (fun pc ls st h => WPb mX8_changed d pc ls st h Q) ls st h → WPb mX8_changed d 0 ls st h Q :=
  r_aload_n (k := 0) dX8_changed_0 rfl <|
  r_iconst (v := 0) dX8_changed_1 rfl <|
  r_putI (ci := 8) (q := (RX8, TX8, 27)) (k := 0) tyX8 tyX8_ok nmX8 dX8_changed_2 (by decide) rfl in_X8 (by decide) (Or.inl ⟨rfl, (Or.inl q2141)⟩) rfl rfl <|
  r_iconst (v := 0) dX8_changed_5 rfl <|
  r_istore_n (k := 2) dX8_changed_6 rfl <|
  (fun _ _ _ H => H)
def tX8_changed_7 (d : Nat) (Q : Outcome → MH → Prop) (J : Nat → KT) : KT :=
  i_iload 2 <|
  i_const 100 <|
  i_icmp_ge
  (i_const 0 <|
  i_istore 2 <|
  i_const 0 <|
  i_istore 3 <|
  i_aload 0 <|
  i_getR 8 1 <|
  i_const 12 <|
  i_iald <|
  i_const 1 <|
  i_isub <|
  i_istore 4 <|
  (J 41))
  (i_aload 0 <|
  i_getR 8 25 <|
  i_iload 2 <|
  i_const (-1) <|
  i_iast <|
  i_iinc 2 1 <|
  (J 7))
theorem kX8_changed_7 {d : Nat} {Q : Outcome → MH → Prop} : ∀ ls st h, tX8_changed_7 d Q (fun pc ls st h => WPb mX8_changed d pc ls st h Q) ls st h → WPb mX8_changed d 7 ls st h Q :=
  r_iload_n (k := 2) dX8_changed_7 rfl <|
  r_bipush (v := 100) dX8_changed_8 rfl <|
  r_icmp_ge (pt := 26) dX8_changed_10 (by decide)
  (r_iconst (v := 0) dX8_changed_26 rfl <|
  r_istore_n (k := 2) dX8_changed_27 rfl <|
  r_iconst (v := 0) dX8_changed_28 rfl <|
  r_istore_n (k := 3) dX8_changed_29 rfl <|
  r_aload_n (k := 0) dX8_changed_30 rfl <|
  r_getR (ci := 8) (q := (RX8, TX8, 27)) (k := 1) dX8_changed_31 (by decide) rfl in_X8 (by decide) (Or.inl q2142) rfl <|
  r_bipush (v := 12) dX8_changed_34 rfl <|
  r_iald dX8_changed_36 <|
  r_iconst (v := 1) dX8_changed_37 rfl <|
  r_isub dX8_changed_38 <|
  r_istore dX8_changed_39 <|
  (fun _ _ _ H => H))
  (r_aload_n (k := 0) dX8_changed_13 rfl <|
  r_getR (ci := 8) (q := (RX8, TX8, 27)) (k := 25) dX8_changed_14 (by decide) rfl in_X8 (by decide) (Or.inl q2166) rfl <|
  r_iload_n (k := 2) dX8_changed_17 rfl <|
  r_iconst (v := (-1)) dX8_changed_18 rfl <|
  r_iast dX8_changed_19 <|
  r_iinc (v := 1) dX8_changed_20 rfl <|
  r_goto (pt := 7) dX8_changed_23 (by decide) <|
  (fun _ _ _ H => H))
def tX8_changed_41 (d : Nat) (Q : Outcome → MH → Prop) (J : Nat → KT) : KT :=
  i_iload 4 <|
  i_if_lt
  (i_iload 1 <|
  i_if_eq
  (i_iload 2 <|
  i_ret Q (some .int))
  (i_iload 3 <|
  i_ret Q (some .int)))
  (i_const 0 <|
  i_istore 5 <|
  (J 49))
theorem kX8_changed_41 {d : Nat} {Q : Outcome → MH → Prop} : ∀ ls st h, tX8_changed_41 d Q (fun pc ls st h => WPb mX8_changed d pc ls st h Q) ls st h → WPb mX8_changed d 41 ls st h Q :=
  r_iload dX8_changed_41 <|
  r_if_lt (pt := 151) dX8_changed_43 (by decide)
  (r_iload_n (k := 1) dX8_changed_151 rfl <|
  r_if_eq (pt := 159) dX8_changed_152 (by decide)
  (r_iload_n (k := 2) dX8_changed_159 rfl <|
  r_ret rfl (Or.inl ⟨dX8_changed_160, Or.inl rfl⟩))
  (r_iload_n (k := 3) dX8_changed_155 rfl <|
  r_goto (pt := 160) dX8_changed_156 (by decide) <|
  r_ret rfl (Or.inl ⟨dX8_changed_160, Or.inl rfl⟩)))
  (r_iconst (v := 0) dX8_changed_46 rfl <|
  r_istore dX8_changed_47 <|
  (fun _ _ _ H => H))
def tX8_changed_49 (d : Nat) (Q : Outcome → MH → Prop) (J : Nat → KT) : KT :=
  i_iload 5 <|
  i_const 2 <|
  i_icmp_ge
  (i_iinc 4 (-1) <|
  (J 41))
  (i_aload 0 <|
  i_iload 4 <|
  i_const 1 <|
  i_iload 5 <|
  i_iadd <|
  i_call mX8_logged d 3 (pV 8) (xOut Q) <|
  i_istore 6 <|
  i_const 10 <|
  i_iload 6 <|
  i_imul <|
  i_aload 0 <|
  i_iload 4 <|
  i_const 2 <|
  i_iload 5 <|
  i_isub <|
  i_call mX8_logged d 3 (pV 8) (xOut Q) <|
  i_iadd <|
  i_istore 7 <|
  i_aload 0 <|
  i_iload 4 <|
  i_const 3 <|
  i_iload 5 <|
  i_iadd <|
  i_call mX8_logged d 3 (pV 8) (xOut Q) <|
  i_istore 8 <|
  i_aload 0 <|
  i_getR 8 25 <|
  i_iload 7 <|
  i_iald <|
  i_const (-1) <|
  i_icmp_eq
  ((J 130))
  (i_aload 0 <|
  i_getR 8 25 <|
  i_iload 7 <|
  i_iald <|
  i_iload 8 <|
  i_icmp_eq
  ((J 130))
  (i_iload 2 <|
  i_const 1 <|
  i_iload 6 <|
  i_ishl <|
  i_ior <|
  i_istore 2 <|
  i_iinc 3 1 <|
  (J 130))))
theorem kX8_changed_49 {d : Nat} {Q : Outcome → MH → Prop} : ∀ ls st h, tX8_changed_49 d Q (fun pc ls st h => WPb mX8_changed d pc ls st h Q) ls st h → WPb mX8_changed d 49 ls st h Q :=
  r_iload dX8_changed_49 <|
  r_iconst (v := 2) dX8_changed_51 rfl <|
  r_icmp_ge (pt := 145) dX8_changed_52 (by decide)
  (r_iinc (v := (-1)) dX8_changed_145 rfl <|
  r_goto (pt := 41) dX8_changed_148 (by decide) <|
  (fun _ _ _ H => H))
  (r_aload_n (k := 0) dX8_changed_55 rfl <|
  r_iload dX8_changed_56 <|
  r_iconst (v := 1) dX8_changed_58 rfl <|
  r_iload dX8_changed_59 <|
  r_iadd dX8_changed_61 <|
  r_cV (Z := mX8_logged) (ci := 8) (q := (RX8, TX8, 27)) dX8_changed_62 rfl (by decide +kernel) ⟨by decide, by decide⟩ (by decide) rfl rfl q2684 q2686 qs114 q127 q2687 (XS.out (noH _)) <|
  r_istore dX8_changed_65 <|
  r_bipush (v := 10) dX8_changed_67 rfl <|
  r_iload dX8_changed_69 <|
  r_imul dX8_changed_71 <|
  r_aload_n (k := 0) dX8_changed_72 rfl <|
  r_iload dX8_changed_73 <|
  r_iconst (v := 2) dX8_changed_75 rfl <|
  r_iload dX8_changed_76 <|
  r_isub dX8_changed_78 <|
  r_cV (Z := mX8_logged) (ci := 8) (q := (RX8, TX8, 27)) dX8_changed_79 rfl (by decide +kernel) ⟨by decide, by decide⟩ (by decide) rfl rfl q2684 q2686 qs114 q127 q2687 (XS.out (noH _)) <|
  r_iadd dX8_changed_82 <|
  r_istore dX8_changed_83 <|
  r_aload_n (k := 0) dX8_changed_85 rfl <|
  r_iload dX8_changed_86 <|
  r_iconst (v := 3) dX8_changed_88 rfl <|
  r_iload dX8_changed_89 <|
  r_iadd dX8_changed_91 <|
  r_cV (Z := mX8_logged) (ci := 8) (q := (RX8, TX8, 27)) dX8_changed_92 rfl (by decide +kernel) ⟨by decide, by decide⟩ (by decide) rfl rfl q2684 q2686 qs114 q127 q2687 (XS.out (noH _)) <|
  r_istore dX8_changed_95 <|
  r_aload_n (k := 0) dX8_changed_97 rfl <|
  r_getR (ci := 8) (q := (RX8, TX8, 27)) (k := 25) dX8_changed_98 (by decide) rfl in_X8 (by decide) (Or.inl q2166) rfl <|
  r_iload dX8_changed_101 <|
  r_iald dX8_changed_103 <|
  r_iconst (v := (-1)) dX8_changed_104 rfl <|
  r_icmp_eq (pt := 130) dX8_changed_105 (by decide)
  ((fun _ _ _ H => H))
  (r_aload_n (k := 0) dX8_changed_108 rfl <|
  r_getR (ci := 8) (q := (RX8, TX8, 27)) (k := 25) dX8_changed_109 (by decide) rfl in_X8 (by decide) (Or.inl q2166) rfl <|
  r_iload dX8_changed_112 <|
  r_iald dX8_changed_114 <|
  r_iload dX8_changed_115 <|
  r_icmp_eq (pt := 130) dX8_changed_117 (by decide)
  ((fun _ _ _ H => H))
  (r_iload_n (k := 2) dX8_changed_120 rfl <|
  r_iconst (v := 1) dX8_changed_121 rfl <|
  r_iload dX8_changed_122 <|
  r_ishl dX8_changed_124 <|
  r_ior dX8_changed_125 <|
  r_istore_n (k := 2) dX8_changed_126 rfl <|
  r_iinc (v := 1) dX8_changed_127 rfl <|
  (fun _ _ _ H => H))))
def tX8_changed_130 (d : Nat) (Q : Outcome → MH → Prop) (J : Nat → KT) : KT :=
  i_aload 0 <|
  i_getR 8 25 <|
  i_iload 7 <|
  i_iload 8 <|
  i_iast <|
  i_iinc 5 1 <|
  (J 49)
theorem kX8_changed_130 {d : Nat} {Q : Outcome → MH → Prop} : ∀ ls st h, tX8_changed_130 d Q (fun pc ls st h => WPb mX8_changed d pc ls st h Q) ls st h → WPb mX8_changed d 130 ls st h Q :=
  r_aload_n (k := 0) dX8_changed_130 rfl <|
  r_getR (ci := 8) (q := (RX8, TX8, 27)) (k := 25) dX8_changed_131 (by decide) rfl in_X8 (by decide) (Or.inl q2166) rfl <|
  r_iload dX8_changed_134 <|
  r_iload dX8_changed_136 <|
  r_iast dX8_changed_138 <|
  r_iinc (v := 1) dX8_changed_139 rfl <|
  r_goto (pt := 49) dX8_changed_142 (by decide) <|
  (fun _ _ _ H => H)
-- CheekTownModel.logged(II)I cuts [0]
def tX8_logged_0 (d : Nat) (Q : Outcome → MH → Prop) (J : Nat → KT) : KT :=
  i_aload 0 <|
  i_getR 8 1 <|
  i_const 420 <|
  i_const 8 <|
  i_iload 1 <|
  i_imul <|
  i_iadd <|
  i_iload 2 <|
  i_iadd <|
  i_iald <|
  i_ret Q (some .int)
theorem kX8_logged_0 {d : Nat} {Q : Outcome → MH → Prop} : ∀ ls st h, tX8_logged_0 d Q (fun pc ls st h => WPb mX8_logged d pc ls st h Q) ls st h → WPb mX8_logged d 0 ls st h Q :=
  r_aload_n (k := 0) dX8_logged_0 rfl <|
  r_getR (ci := 8) (q := (RX8, TX8, 27)) (k := 1) dX8_logged_1 (by decide) rfl in_X8 (by decide) (Or.inl q2142) rfl <|
  r_sipush (v := 420) dX8_logged_4 rfl <|
  r_bipush (v := 8) dX8_logged_7 rfl <|
  r_iload_n (k := 1) dX8_logged_9 rfl <|
  r_imul dX8_logged_10 <|
  r_iadd dX8_logged_11 <|
  r_iload_n (k := 2) dX8_logged_12 rfl <|
  r_iadd dX8_logged_13 <|
  r_iald dX8_logged_14 <|
  r_ret rfl (Or.inl ⟨dX8_logged_15, Or.inl rfl⟩)
-- CheekTownModel.trial(II)I cuts [0, 29, 43]
def tX8_trial_0 (d : Nat) (Q : Outcome → MH → Prop) (J : Nat → KT) : KT :=
  i_aload 0 <|
  i_iload 1 <|
  i_const 0 <|
  i_const 20 <|
  i_call mX8_isIn d 3 pS (xOut Q) <|
  i_if_ne
  (i_iload 2 <|
  i_const 0 <|
  i_const 3 <|
  i_call mX8_isIn d 3 pS (xOut Q) <|
  i_if_ne
  (i_const 0 <|
  (J 29))
  (i_const 2 <|
  (J 29)))
  (i_const 1 <|
  (J 29))
theorem kX8_trial_0 {d : Nat} {Q : Outcome → MH → Prop} : ∀ ls st h, tX8_trial_0 d Q (fun pc ls st h => WPb mX8_trial d pc ls st h Q) ls st h → WPb mX8_trial d 0 ls st h Q :=
  r_aload_n (k := 0) dX8_trial_0 rfl <|
  r_iload_n (k := 1) dX8_trial_1 rfl <|
  r_iconst (v := 0) dX8_trial_2 rfl <|
  r_bipush (v := 20) dX8_trial_3 rfl <|
  r_cS (Z := mX8_isIn) dX8_trial_5 rfl (by decide +kernel) ⟨by decide, by decide⟩ q2235 q2236 q127 q2237 (XS.out (noH _)) <|
  r_if_ne (pt := 15) dX8_trial_8 (by decide)
  (r_iload_n (k := 2) dX8_trial_15 rfl <|
  r_iconst (v := 0) dX8_trial_16 rfl <|
  r_iconst (v := 3) dX8_trial_17 rfl <|
  r_cS (Z := mX8_isIn) dX8_trial_18 rfl (by decide +kernel) ⟨by decide, by decide⟩ q2235 q2236 q127 q2237 (XS.out (noH _)) <|
  r_if_ne (pt := 28) dX8_trial_21 (by decide)
  (r_iconst (v := 0) dX8_trial_28 rfl <|
  (fun _ _ _ H => H))
  (r_iconst (v := 2) dX8_trial_24 rfl <|
  r_goto (pt := 29) dX8_trial_25 (by decide) <|
  (fun _ _ _ H => H)))
  (r_iconst (v := 1) dX8_trial_11 rfl <|
  r_goto (pt := 29) dX8_trial_12 (by decide) <|
  (fun _ _ _ H => H))
def tX8_trial_29 (d : Nat) (Q : Outcome → MH → Prop) (J : Nat → KT) : KT :=
  i_putI 8 0 .int <|
  i_aload 0 <|
  i_getI 8 0 <|
  i_if_le
  (i_const 0 <|
  i_istore 3 <|
  (J 43))
  (i_const 0 <|
  i_ret Q (some .int))
theorem kX8_trial_29 {d : Nat} {Q : Outcome → MH → Prop} : ∀ ls st h, tX8_trial_29 d Q (fun pc ls st h => WPb mX8_trial d pc ls st h Q) ls st h → WPb mX8_trial d 29 ls st h Q :=
  r_putI (ci := 8) (q := (RX8, TX8, 27)) (k := 0) tyX8 tyX8_ok nmX8 dX8_trial_29 (by decide) rfl in_X8 (by decide) (Or.inl ⟨rfl, (Or.inl q2141)⟩) rfl rfl <|
  r_aload_n (k := 0) dX8_trial_32 rfl <|
  r_getI (ci := 8) (q := (RX8, TX8, 27)) (k := 0) dX8_trial_33 (by decide) rfl in_X8 (by decide) (Or.inl q2141) rfl <|
  r_if_le (pt := 41) dX8_trial_36 (by decide)
  (r_iconst (v := 0) dX8_trial_41 rfl <|
  r_istore_n (k := 3) dX8_trial_42 rfl <|
  (fun _ _ _ H => H))
  (r_iconst (v := 0) dX8_trial_39 rfl <|
  r_ret rfl (Or.inl ⟨dX8_trial_40, Or.inl rfl⟩))
def tX8_trial_43 (d : Nat) (Q : Outcome → MH → Prop) (J : Nat → KT) : KT :=
  i_iload 3 <|
  i_const 900 <|
  i_icmp_ge
  (i_aload 0 <|
  i_iload 1 <|
  i_iload 2 <|
  i_call mX8_tries d 3 (pV 8) (xOut Q) <|
  i_ret Q (some .int))
  (i_aload 0 <|
  i_getR 8 4 <|
  i_iload 3 <|
  i_aload 0 <|
  i_getR 8 1 <|
  i_iload 3 <|
  i_iald <|
  i_iast <|
  i_iinc 3 1 <|
  (J 43))
theorem kX8_trial_43 {d : Nat} {Q : Outcome → MH → Prop} : ∀ ls st h, tX8_trial_43 d Q (fun pc ls st h => WPb mX8_trial d pc ls st h Q) ls st h → WPb mX8_trial d 43 ls st h Q :=
  r_iload_n (k := 3) dX8_trial_43 rfl <|
  r_sipush (v := 900) dX8_trial_44 rfl <|
  r_icmp_ge (pt := 68) dX8_trial_47 (by decide)
  (r_aload_n (k := 0) dX8_trial_68 rfl <|
  r_iload_n (k := 1) dX8_trial_69 rfl <|
  r_iload_n (k := 2) dX8_trial_70 rfl <|
  r_cV (Z := mX8_tries) (ci := 8) (q := (RX8, TX8, 27)) dX8_trial_71 rfl (by decide +kernel) ⟨by decide, by decide⟩ (by decide) rfl rfl q2692 q2694 qs115 q127 q2695 (XS.out (noH _)) <|
  r_ret rfl (Or.inl ⟨dX8_trial_74, Or.inl rfl⟩))
  (r_aload_n (k := 0) dX8_trial_50 rfl <|
  r_getR (ci := 8) (q := (RX8, TX8, 27)) (k := 4) dX8_trial_51 (by decide) rfl in_X8 (by decide) (Or.inl q2145) rfl <|
  r_iload_n (k := 3) dX8_trial_54 rfl <|
  r_aload_n (k := 0) dX8_trial_55 rfl <|
  r_getR (ci := 8) (q := (RX8, TX8, 27)) (k := 1) dX8_trial_56 (by decide) rfl in_X8 (by decide) (Or.inl q2142) rfl <|
  r_iload_n (k := 3) dX8_trial_59 rfl <|
  r_iald dX8_trial_60 <|
  r_iast dX8_trial_61 <|
  r_iinc (v := 1) dX8_trial_62 rfl <|
  r_goto (pt := 43) dX8_trial_65 (by decide) <|
  (fun _ _ _ H => H))
-- CheekTownModel.tries(II)I cuts [0, 45]
def tX8_tries_0 (d : Nat) (Q : Outcome → MH → Prop) (J : Nat → KT) : KT :=
  i_aload 0 <|
  i_getR 8 1 <|
  i_const 10 <|
  i_iald <|
  i_istore 3 <|
  i_aload 0 <|
  i_iload 1 <|
  i_call mX8_goes d 2 (pV 8) (xOut Q) <|
  i_istore 4 <|
  i_iload 2 <|
  i_if_ne
  (i_iload 2 <|
  i_const 1 <|
  i_icmp_ne
  (i_aload 0 <|
  i_call mX8_coldsNow d 1 (pV 8) (xOut Q) <|
  (J 45))
  (i_aload 0 <|
  i_getR 8 1 <|
  i_const 10 <|
  i_iald <|
  i_iload 3 <|
  i_isub <|
  (J 45)))
  (i_iload 4 <|
  (J 45))
theorem kX8_tries_0 {d : Nat} {Q : Outcome → MH → Prop} : ∀ ls st h, tX8_tries_0 d Q (fun pc ls st h => WPb mX8_tries d pc ls st h Q) ls st h → WPb mX8_tries d 0 ls st h Q :=
  r_aload_n (k := 0) dX8_tries_0 rfl <|
  r_getR (ci := 8) (q := (RX8, TX8, 27)) (k := 1) dX8_tries_1 (by decide) rfl in_X8 (by decide) (Or.inl q2142) rfl <|
  r_bipush (v := 10) dX8_tries_4 rfl <|
  r_iald dX8_tries_6 <|
  r_istore_n (k := 3) dX8_tries_7 rfl <|
  r_aload_n (k := 0) dX8_tries_8 rfl <|
  r_iload_n (k := 1) dX8_tries_9 rfl <|
  r_cV (Z := mX8_goes) (ci := 8) (q := (RX8, TX8, 27)) dX8_tries_10 rfl (by decide +kernel) ⟨by decide, by decide⟩ (by decide) rfl rfl q2502 q2504 qs94 q127 q2505 (XS.out (noH _)) <|
  r_istore dX8_tries_13 <|
  r_iload_n (k := 2) dX8_tries_15 rfl <|
  r_if_ne (pt := 24) dX8_tries_16 (by decide)
  (r_iload_n (k := 2) dX8_tries_24 rfl <|
  r_iconst (v := 1) dX8_tries_25 rfl <|
  r_icmp_ne (pt := 41) dX8_tries_26 (by decide)
  (r_aload_n (k := 0) dX8_tries_41 rfl <|
  r_cV (Z := mX8_coldsNow) (ci := 8) (q := (RX8, TX8, 27)) dX8_tries_42 rfl (by decide +kernel) ⟨by decide, by decide⟩ (by decide) rfl rfl q2672 q2674 qs113 q127 q2675 (XS.out (noH _)) <|
  (fun _ _ _ H => H))
  (r_aload_n (k := 0) dX8_tries_29 rfl <|
  r_getR (ci := 8) (q := (RX8, TX8, 27)) (k := 1) dX8_tries_30 (by decide) rfl in_X8 (by decide) (Or.inl q2142) rfl <|
  r_bipush (v := 10) dX8_tries_33 rfl <|
  r_iald dX8_tries_35 <|
  r_iload_n (k := 3) dX8_tries_36 rfl <|
  r_isub dX8_tries_37 <|
  r_goto (pt := 45) dX8_tries_38 (by decide) <|
  (fun _ _ _ H => H)))
  (r_iload dX8_tries_19 <|
  r_goto (pt := 45) dX8_tries_21 (by decide) <|
  (fun _ _ _ H => H))
def tX8_tries_45 (d : Nat) (Q : Outcome → MH → Prop) (J : Nat → KT) : KT :=
  i_istore 5 <|
  i_iload 2 <|
  i_const 2 <|
  i_icmp_ne
  (i_aload 0 <|
  i_call mX8_comesBack d 1 (pV 8) (xOut Q) <|
  i_iload 5 <|
  i_ret Q (some .int))
  (i_aload 0 <|
  i_const 0 <|
  i_const 0 <|
  i_call mX8_starts d 3 (pV 8) (xOut Q) <|
  i_aload 0 <|
  i_call mX8_counts d 1 (pV 8) (xOut Q) <|
  i_istore 5 <|
  i_aload 0 <|
  i_call mX8_comesBack d 1 (pV 8) (xOut Q) <|
  i_iload 5 <|
  i_ret Q (some .int))
theorem kX8_tries_45 {d : Nat} {Q : Outcome → MH → Prop} : ∀ ls st h, tX8_tries_45 d Q (fun pc ls st h => WPb mX8_tries d pc ls st h Q) ls st h → WPb mX8_tries d 45 ls st h Q :=
  r_istore dX8_tries_45 <|
  r_iload_n (k := 2) dX8_tries_47 rfl <|
  r_iconst (v := 2) dX8_tries_48 rfl <|
  r_icmp_ne (pt := 64) dX8_tries_49 (by decide)
  (r_aload_n (k := 0) dX8_tries_64 rfl <|
  r_cV (Z := mX8_comesBack) (ci := 8) (q := (RX8, TX8, 27)) dX8_tries_65 rfl (by decide +kernel) ⟨by decide, by decide⟩ (by decide) rfl rfl q2397 q2399 qs81 q127 q2400 (XS.out (noH _)) <|
  r_iload dX8_tries_68 <|
  r_ret rfl (Or.inl ⟨dX8_tries_70, Or.inl rfl⟩))
  (r_aload_n (k := 0) dX8_tries_52 rfl <|
  r_iconst (v := 0) dX8_tries_53 rfl <|
  r_iconst (v := 0) dX8_tries_54 rfl <|
  r_cV (Z := mX8_starts) (ci := 8) (q := (RX8, TX8, 27)) dX8_tries_55 rfl (by decide +kernel) ⟨by decide, by decide⟩ (by decide) rfl rfl q2628 q2630 qs106 q127 q2631 (XS.out (noH _)) <|
  r_aload_n (k := 0) dX8_tries_58 rfl <|
  r_cV (Z := mX8_counts) (ci := 8) (q := (RX8, TX8, 27)) dX8_tries_59 rfl (by decide +kernel) ⟨by decide, by decide⟩ (by decide) rfl rfl q2644 q2646 qs110 q127 q2647 (XS.out (noH _)) <|
  r_istore dX8_tries_62 <|
  r_aload_n (k := 0) dX8_tries_64 rfl <|
  r_cV (Z := mX8_comesBack) (ci := 8) (q := (RX8, TX8, 27)) dX8_tries_65 rfl (by decide +kernel) ⟨by decide, by decide⟩ (by decide) rfl rfl q2397 q2399 qs81 q127 q2400 (XS.out (noH _)) <|
  r_iload dX8_tries_68 <|
  r_ret rfl (Or.inl ⟨dX8_tries_70, Or.inl rfl⟩))
-- CheekTownModel.span(IZ)I cuts [0, 30, 60]
def tX8_span_0 (d : Nat) (Q : Outcome → MH → Prop) (J : Nat → KT) : KT :=
  i_aload 0 <|
  i_iload 1 <|
  i_const 0 <|
  i_const 20 <|
  i_call mX8_isIn d 3 pS (xOut Q) <|
  i_if_ne
  (i_const 0 <|
  i_putI 8 0 .int <|
  i_aload 0 <|
  i_getI 8 0 <|
  i_if_le
  (i_const 0 <|
  i_istore 3 <|
  (J 30))
  (i_const 0 <|
  i_ret Q (some .int)))
  (i_const 1 <|
  i_putI 8 0 .int <|
  i_aload 0 <|
  i_getI 8 0 <|
  i_if_le
  (i_const 0 <|
  i_istore 3 <|
  (J 30))
  (i_const 0 <|
  i_ret Q (some .int)))
theorem kX8_span_0 {d : Nat} {Q : Outcome → MH → Prop} : ∀ ls st h, tX8_span_0 d Q (fun pc ls st h => WPb mX8_span d pc ls st h Q) ls st h → WPb mX8_span d 0 ls st h Q :=
  r_aload_n (k := 0) dX8_span_0 rfl <|
  r_iload_n (k := 1) dX8_span_1 rfl <|
  r_iconst (v := 0) dX8_span_2 rfl <|
  r_bipush (v := 20) dX8_span_3 rfl <|
  r_cS (Z := mX8_isIn) dX8_span_5 rfl (by decide +kernel) ⟨by decide, by decide⟩ q2235 q2236 q127 q2237 (XS.out (noH _)) <|
  r_if_ne (pt := 15) dX8_span_8 (by decide)
  (r_iconst (v := 0) dX8_span_15 rfl <|
  r_putI (ci := 8) (q := (RX8, TX8, 27)) (k := 0) tyX8 tyX8_ok nmX8 dX8_span_16 (by decide) rfl in_X8 (by decide) (Or.inl ⟨rfl, (Or.inl q2141)⟩) rfl rfl <|
  r_aload_n (k := 0) dX8_span_19 rfl <|
  r_getI (ci := 8) (q := (RX8, TX8, 27)) (k := 0) dX8_span_20 (by decide) rfl in_X8 (by decide) (Or.inl q2141) rfl <|
  r_if_le (pt := 28) dX8_span_23 (by decide)
  (r_iconst (v := 0) dX8_span_28 rfl <|
  r_istore_n (k := 3) dX8_span_29 rfl <|
  (fun _ _ _ H => H))
  (r_iconst (v := 0) dX8_span_26 rfl <|
  r_ret rfl (Or.inl ⟨dX8_span_27, Or.inl rfl⟩)))
  (r_iconst (v := 1) dX8_span_11 rfl <|
  r_goto (pt := 16) dX8_span_12 (by decide) <|
  r_putI (ci := 8) (q := (RX8, TX8, 27)) (k := 0) tyX8 tyX8_ok nmX8 dX8_span_16 (by decide) rfl in_X8 (by decide) (Or.inl ⟨rfl, (Or.inl q2141)⟩) rfl rfl <|
  r_aload_n (k := 0) dX8_span_19 rfl <|
  r_getI (ci := 8) (q := (RX8, TX8, 27)) (k := 0) dX8_span_20 (by decide) rfl in_X8 (by decide) (Or.inl q2141) rfl <|
  r_if_le (pt := 28) dX8_span_23 (by decide)
  (r_iconst (v := 0) dX8_span_28 rfl <|
  r_istore_n (k := 3) dX8_span_29 rfl <|
  (fun _ _ _ H => H))
  (r_iconst (v := 0) dX8_span_26 rfl <|
  r_ret rfl (Or.inl ⟨dX8_span_27, Or.inl rfl⟩)))
def tX8_span_30 (d : Nat) (Q : Outcome → MH → Prop) (J : Nat → KT) : KT :=
  i_iload 3 <|
  i_const 900 <|
  i_icmp_ge
  (i_const (-1) <|
  i_istore 3 <|
  i_const 1 <|
  i_istore 4 <|
  (J 60))
  (i_aload 0 <|
  i_getR 8 4 <|
  i_iload 3 <|
  i_aload 0 <|
  i_getR 8 1 <|
  i_iload 3 <|
  i_iald <|
  i_iast <|
  i_iinc 3 1 <|
  (J 30))
theorem kX8_span_30 {d : Nat} {Q : Outcome → MH → Prop} : ∀ ls st h, tX8_span_30 d Q (fun pc ls st h => WPb mX8_span d pc ls st h Q) ls st h → WPb mX8_span d 30 ls st h Q :=
  r_iload_n (k := 3) dX8_span_30 rfl <|
  r_sipush (v := 900) dX8_span_31 rfl <|
  r_icmp_ge (pt := 55) dX8_span_34 (by decide)
  (r_iconst (v := (-1)) dX8_span_55 rfl <|
  r_istore_n (k := 3) dX8_span_56 rfl <|
  r_iconst (v := 1) dX8_span_57 rfl <|
  r_istore dX8_span_58 <|
  (fun _ _ _ H => H))
  (r_aload_n (k := 0) dX8_span_37 rfl <|
  r_getR (ci := 8) (q := (RX8, TX8, 27)) (k := 4) dX8_span_38 (by decide) rfl in_X8 (by decide) (Or.inl q2145) rfl <|
  r_iload_n (k := 3) dX8_span_41 rfl <|
  r_aload_n (k := 0) dX8_span_42 rfl <|
  r_getR (ci := 8) (q := (RX8, TX8, 27)) (k := 1) dX8_span_43 (by decide) rfl in_X8 (by decide) (Or.inl q2142) rfl <|
  r_iload_n (k := 3) dX8_span_46 rfl <|
  r_iald dX8_span_47 <|
  r_iast dX8_span_48 <|
  r_iinc (v := 1) dX8_span_49 rfl <|
  r_goto (pt := 30) dX8_span_52 (by decide) <|
  (fun _ _ _ H => H))
def tX8_span_60 (d : Nat) (Q : Outcome → MH → Prop) (J : Nat → KT) : KT :=
  i_iload 4 <|
  i_const 6 <|
  i_icmp_gt
  (i_iload 3 <|
  i_ret Q (some .int))
  (i_aload 0 <|
  i_getR 8 1 <|
  i_const 16 <|
  i_iload 4 <|
  i_iast <|
  i_aload 0 <|
  i_iload 1 <|
  i_const 0 <|
  i_call mX8_tries d 3 (pV 8) (xOut Q) <|
  i_istore 5 <|
  i_iload 3 <|
  i_const (-1) <|
  i_icmp_ne
  (i_iload 2 <|
  i_if_eq
  (i_iload 3 <|
  i_iload 5 <|
  i_call mX8_lesser d 2 pS (xOut Q) <|
  i_istore 3 <|
  i_iinc 4 1 <|
  (J 60))
  (i_iload 3 <|
  i_iload 5 <|
  i_call mX8_greater d 2 pS (xOut Q) <|
  i_istore 3 <|
  i_iinc 4 1 <|
  (J 60)))
  (i_iload 5 <|
  i_istore 3 <|
  i_iinc 4 1 <|
  (J 60)))
theorem kX8_span_60 {d : Nat} {Q : Outcome → MH → Prop} : ∀ ls st h, tX8_span_60 d Q (fun pc ls st h => WPb mX8_span d pc ls st h Q) ls st h → WPb mX8_span d 60 ls st h Q :=
  r_iload dX8_span_60 <|
  r_bipush (v := 6) dX8_span_62 rfl <|
  r_icmp_gt (pt := 120) dX8_span_64 (by decide)
  (r_iload_n (k := 3) dX8_span_120 rfl <|
  r_ret rfl (Or.inl ⟨dX8_span_121, Or.inl rfl⟩))
  (r_aload_n (k := 0) dX8_span_67 rfl <|
  r_getR (ci := 8) (q := (RX8, TX8, 27)) (k := 1) dX8_span_68 (by decide) rfl in_X8 (by decide) (Or.inl q2142) rfl <|
  r_bipush (v := 16) dX8_span_71 rfl <|
  r_iload dX8_span_73 <|
  r_iast dX8_span_75 <|
  r_aload_n (k := 0) dX8_span_76 rfl <|
  r_iload_n (k := 1) dX8_span_77 rfl <|
  r_iconst (v := 0) dX8_span_78 rfl <|
  r_cV (Z := mX8_tries) (ci := 8) (q := (RX8, TX8, 27)) dX8_span_79 rfl (by decide +kernel) ⟨by decide, by decide⟩ (by decide) rfl rfl q2692 q2694 qs115 q127 q2695 (XS.out (noH _)) <|
  r_istore dX8_span_82 <|
  r_iload_n (k := 3) dX8_span_84 rfl <|
  r_iconst (v := (-1)) dX8_span_85 rfl <|
  r_icmp_ne (pt := 94) dX8_span_86 (by decide)
  (r_iload_n (k := 2) dX8_span_94 rfl <|
  r_if_eq (pt := 107) dX8_span_95 (by decide)
  (r_iload_n (k := 3) dX8_span_107 rfl <|
  r_iload dX8_span_108 <|
  r_cS (Z := mX8_lesser) dX8_span_110 rfl (by decide +kernel) ⟨by decide, by decide⟩ q2483 q2484 q127 q2485 (XS.out (noH _)) <|
  r_istore_n (k := 3) dX8_span_113 rfl <|
  r_iinc (v := 1) dX8_span_114 rfl <|
  r_goto (pt := 60) dX8_span_117 (by decide) <|
  (fun _ _ _ H => H))
  (r_iload_n (k := 3) dX8_span_98 rfl <|
  r_iload dX8_span_99 <|
  r_cS (Z := mX8_greater) dX8_span_101 rfl (by decide +kernel) ⟨by decide, by decide⟩ q2486 q2487 q127 q2488 (XS.out (noH _)) <|
  r_goto (pt := 113) dX8_span_104 (by decide) <|
  r_istore_n (k := 3) dX8_span_113 rfl <|
  r_iinc (v := 1) dX8_span_114 rfl <|
  r_goto (pt := 60) dX8_span_117 (by decide) <|
  (fun _ _ _ H => H)))
  (r_iload dX8_span_89 <|
  r_goto (pt := 113) dX8_span_91 (by decide) <|
  r_istore_n (k := 3) dX8_span_113 rfl <|
  r_iinc (v := 1) dX8_span_114 rfl <|
  r_goto (pt := 60) dX8_span_117 (by decide) <|
  (fun _ _ _ H => H)))
-- CheekTownModel.log(II)I cuts [0, 16]
def tX8_log_0 (d : Nat) (Q : Outcome → MH → Prop) (J : Nat → KT) : KT :=
  i_aload 0 <|
  i_iload 2 <|
  i_const 0 <|
  i_const 7 <|
  i_call mX8_isIn d 3 pS (xOut Q) <|
  i_if_ne
  (i_const 0 <|
  (J 16))
  (i_const 1 <|
  (J 16))
theorem kX8_log_0 {d : Nat} {Q : Outcome → MH → Prop} : ∀ ls st h, tX8_log_0 d Q (fun pc ls st h => WPb mX8_log d pc ls st h Q) ls st h → WPb mX8_log d 0 ls st h Q :=
  r_aload_n (k := 0) dX8_log_0 rfl <|
  r_iload_n (k := 2) dX8_log_1 rfl <|
  r_iconst (v := 0) dX8_log_2 rfl <|
  r_bipush (v := 7) dX8_log_3 rfl <|
  r_cS (Z := mX8_isIn) dX8_log_5 rfl (by decide +kernel) ⟨by decide, by decide⟩ q2235 q2236 q127 q2237 (XS.out (noH _)) <|
  r_if_ne (pt := 15) dX8_log_8 (by decide)
  (r_iconst (v := 0) dX8_log_15 rfl <|
  (fun _ _ _ H => H))
  (r_iconst (v := 1) dX8_log_11 rfl <|
  r_goto (pt := 16) dX8_log_12 (by decide) <|
  (fun _ _ _ H => H))
def tX8_log_16 (d : Nat) (Q : Outcome → MH → Prop) (J : Nat → KT) : KT :=
  i_putI 8 0 .int <|
  i_aload 0 <|
  i_getI 8 0 <|
  i_if_le
  (i_iload 1 <|
  i_const 0 <|
  i_aload 0 <|
  i_getR 8 1 <|
  i_const 12 <|
  i_iald <|
  i_const 1 <|
  i_isub <|
  i_call mX8_isIn d 3 pS (xOut Q) <|
  i_if_eq
  (i_const (-1) <|
  i_ret Q (some .int))
  (i_aload 0 <|
  i_iload 1 <|
  i_iload 2 <|
  i_call mX8_logged d 3 (pV 8) (xOut Q) <|
  i_ret Q (some .int)))
  (i_const 0 <|
  i_ret Q (some .int))
theorem kX8_log_16 {d : Nat} {Q : Outcome → MH → Prop} : ∀ ls st h, tX8_log_16 d Q (fun pc ls st h => WPb mX8_log d pc ls st h Q) ls st h → WPb mX8_log d 16 ls st h Q :=
  r_putI (ci := 8) (q := (RX8, TX8, 27)) (k := 0) tyX8 tyX8_ok nmX8 dX8_log_16 (by decide) rfl in_X8 (by decide) (Or.inl ⟨rfl, (Or.inl q2141)⟩) rfl rfl <|
  r_aload_n (k := 0) dX8_log_19 rfl <|
  r_getI (ci := 8) (q := (RX8, TX8, 27)) (k := 0) dX8_log_20 (by decide) rfl in_X8 (by decide) (Or.inl q2141) rfl <|
  r_if_le (pt := 28) dX8_log_23 (by decide)
  (r_iload_n (k := 1) dX8_log_28 rfl <|
  r_iconst (v := 0) dX8_log_29 rfl <|
  r_aload_n (k := 0) dX8_log_30 rfl <|
  r_getR (ci := 8) (q := (RX8, TX8, 27)) (k := 1) dX8_log_31 (by decide) rfl in_X8 (by decide) (Or.inl q2142) rfl <|
  r_bipush (v := 12) dX8_log_34 rfl <|
  r_iald dX8_log_36 <|
  r_iconst (v := 1) dX8_log_37 rfl <|
  r_isub dX8_log_38 <|
  r_cS (Z := mX8_isIn) dX8_log_39 rfl (by decide +kernel) ⟨by decide, by decide⟩ q2235 q2236 q127 q2237 (XS.out (noH _)) <|
  r_if_eq (pt := 54) dX8_log_42 (by decide)
  (r_iconst (v := (-1)) dX8_log_54 rfl <|
  r_ret rfl (Or.inl ⟨dX8_log_55, Or.inl rfl⟩))
  (r_aload_n (k := 0) dX8_log_45 rfl <|
  r_iload_n (k := 1) dX8_log_46 rfl <|
  r_iload_n (k := 2) dX8_log_47 rfl <|
  r_cV (Z := mX8_logged) (ci := 8) (q := (RX8, TX8, 27)) dX8_log_48 rfl (by decide +kernel) ⟨by decide, by decide⟩ (by decide) rfl rfl q2684 q2686 qs114 q127 q2687 (XS.out (noH _)) <|
  r_goto (pt := 55) dX8_log_51 (by decide) <|
  r_ret rfl (Or.inl ⟨dX8_log_55, Or.inl rfl⟩)))
  (r_iconst (v := 0) dX8_log_26 rfl <|
  r_ret rfl (Or.inl ⟨dX8_log_27, Or.inl rfl⟩))
-- CheekTownModel.seed(I)I cuts [0]
def tX8_seed_0 (d : Nat) (Q : Outcome → MH → Prop) (J : Nat → KT) : KT :=
  i_aload 0 <|
  i_const 0 <|
  i_putI 8 0 .int <|
  i_aload 0 <|
  i_getR 8 1 <|
  i_const 16 <|
  i_iald <|
  i_istore 2 <|
  i_aload 0 <|
  i_getR 8 1 <|
  i_const 16 <|
  i_iload 1 <|
  i_iast <|
  i_iload 2 <|
  i_ret Q (some .int)
theorem kX8_seed_0 {d : Nat} {Q : Outcome → MH → Prop} : ∀ ls st h, tX8_seed_0 d Q (fun pc ls st h => WPb mX8_seed d pc ls st h Q) ls st h → WPb mX8_seed d 0 ls st h Q :=
  r_aload_n (k := 0) dX8_seed_0 rfl <|
  r_iconst (v := 0) dX8_seed_1 rfl <|
  r_putI (ci := 8) (q := (RX8, TX8, 27)) (k := 0) tyX8 tyX8_ok nmX8 dX8_seed_2 (by decide) rfl in_X8 (by decide) (Or.inl ⟨rfl, (Or.inl q2141)⟩) rfl rfl <|
  r_aload_n (k := 0) dX8_seed_5 rfl <|
  r_getR (ci := 8) (q := (RX8, TX8, 27)) (k := 1) dX8_seed_6 (by decide) rfl in_X8 (by decide) (Or.inl q2142) rfl <|
  r_bipush (v := 16) dX8_seed_9 rfl <|
  r_iald dX8_seed_11 <|
  r_istore_n (k := 2) dX8_seed_12 rfl <|
  r_aload_n (k := 0) dX8_seed_13 rfl <|
  r_getR (ci := 8) (q := (RX8, TX8, 27)) (k := 1) dX8_seed_14 (by decide) rfl in_X8 (by decide) (Or.inl q2142) rfl <|
  r_bipush (v := 16) dX8_seed_17 rfl <|
  r_iload_n (k := 1) dX8_seed_19 rfl <|
  r_iast dX8_seed_20 <|
  r_iload_n (k := 2) dX8_seed_21 rfl <|
  r_ret rfl (Or.inl ⟨dX8_seed_22, Or.inl rfl⟩)
-- CheekTownModel.undo()Z cuts [0, 26]
def tX8_undo_0 (d : Nat) (Q : Outcome → MH → Prop) (J : Nat → KT) : KT :=
  i_aload 0 <|
  i_const 0 <|
  i_putI 8 0 .int <|
  i_aload 0 <|
  i_getI 8 6 <|
  i_if_ne
  (i_aload 0 <|
  i_dup <|
  i_getI 8 6 <|
  i_const 1 <|
  i_isub <|
  i_putI 8 6 .int <|
  i_const 0 <|
  i_istore 1 <|
  (J 26))
  (i_const 0 <|
  i_ret Q (some .boolean))
theorem kX8_undo_0 {d : Nat} {Q : Outcome → MH → Prop} : ∀ ls st h, tX8_undo_0 d Q (fun pc ls st h => WPb mX8_undo d pc ls st h Q) ls st h → WPb mX8_undo d 0 ls st h Q :=
  r_aload_n (k := 0) dX8_undo_0 rfl <|
  r_iconst (v := 0) dX8_undo_1 rfl <|
  r_putI (ci := 8) (q := (RX8, TX8, 27)) (k := 0) tyX8 tyX8_ok nmX8 dX8_undo_2 (by decide) rfl in_X8 (by decide) (Or.inl ⟨rfl, (Or.inl q2141)⟩) rfl rfl <|
  r_aload_n (k := 0) dX8_undo_5 rfl <|
  r_getI (ci := 8) (q := (RX8, TX8, 27)) (k := 6) dX8_undo_6 (by decide) rfl in_X8 (by decide) (Or.inl q2147) rfl <|
  r_if_ne (pt := 14) dX8_undo_9 (by decide)
  (r_aload_n (k := 0) dX8_undo_14 rfl <|
  r_dup dX8_undo_15 <|
  r_getI (ci := 8) (q := (RX8, TX8, 27)) (k := 6) dX8_undo_16 (by decide) rfl in_X8 (by decide) (Or.inl q2147) rfl <|
  r_iconst (v := 1) dX8_undo_19 rfl <|
  r_isub dX8_undo_20 <|
  r_putI (ci := 8) (q := (RX8, TX8, 27)) (k := 6) tyX8 tyX8_ok nmX8 dX8_undo_21 (by decide) rfl in_X8 (by decide) (Or.inl ⟨rfl, (Or.inl q2147)⟩) rfl rfl <|
  r_iconst (v := 0) dX8_undo_24 rfl <|
  r_istore_n (k := 1) dX8_undo_25 rfl <|
  (fun _ _ _ H => H))
  (r_iconst (v := 0) dX8_undo_12 rfl <|
  r_ret rfl (Or.inl ⟨dX8_undo_13, Or.inr (Or.inl rfl)⟩))
def tX8_undo_26 (d : Nat) (Q : Outcome → MH → Prop) (J : Nat → KT) : KT :=
  i_iload 1 <|
  i_const 900 <|
  i_icmp_ge
  (i_const 1 <|
  i_ret Q (some .boolean))
  (i_aload 0 <|
  i_getR 8 1 <|
  i_iload 1 <|
  i_aload 0 <|
  i_getR 8 5 <|
  i_const 900 <|
  i_aload 0 <|
  i_getI 8 6 <|
  i_imul <|
  i_iload 1 <|
  i_iadd <|
  i_iald <|
  i_iast <|
  i_iinc 1 1 <|
  (J 26))
theorem kX8_undo_26 {d : Nat} {Q : Outcome → MH → Prop} : ∀ ls st h, tX8_undo_26 d Q (fun pc ls st h => WPb mX8_undo d pc ls st h Q) ls st h → WPb mX8_undo d 26 ls st h Q :=
  r_iload_n (k := 1) dX8_undo_26 rfl <|
  r_sipush (v := 900) dX8_undo_27 rfl <|
  r_icmp_ge (pt := 60) dX8_undo_30 (by decide)
  (r_iconst (v := 1) dX8_undo_60 rfl <|
  r_ret rfl (Or.inl ⟨dX8_undo_61, Or.inr (Or.inl rfl)⟩))
  (r_aload_n (k := 0) dX8_undo_33 rfl <|
  r_getR (ci := 8) (q := (RX8, TX8, 27)) (k := 1) dX8_undo_34 (by decide) rfl in_X8 (by decide) (Or.inl q2142) rfl <|
  r_iload_n (k := 1) dX8_undo_37 rfl <|
  r_aload_n (k := 0) dX8_undo_38 rfl <|
  r_getR (ci := 8) (q := (RX8, TX8, 27)) (k := 5) dX8_undo_39 (by decide) rfl in_X8 (by decide) (Or.inl q2146) rfl <|
  r_sipush (v := 900) dX8_undo_42 rfl <|
  r_aload_n (k := 0) dX8_undo_45 rfl <|
  r_getI (ci := 8) (q := (RX8, TX8, 27)) (k := 6) dX8_undo_46 (by decide) rfl in_X8 (by decide) (Or.inl q2147) rfl <|
  r_imul dX8_undo_49 <|
  r_iload_n (k := 1) dX8_undo_50 rfl <|
  r_iadd dX8_undo_51 <|
  r_iald dX8_undo_52 <|
  r_iast dX8_undo_53 <|
  r_iinc (v := 1) dX8_undo_54 rfl <|
  r_goto (pt := 26) dX8_undo_57 (by decide) <|
  (fun _ _ _ H => H))
-- CheekTownModel.image()V cuts [0, 7]
def tX8_image_0 (d : Nat) (Q : Outcome → MH → Prop) (J : Nat → KT) : KT :=
  i_aload 0 <|
  i_const 0 <|
  i_putI 8 0 .int <|
  i_const 0 <|
  i_istore 1 <|
  (J 7)
theorem kX8_image_0 {d : Nat} {Q : Outcome → MH → Prop} : ∀ ls st h, tX8_image_0 d Q (fun pc ls st h => WPb mX8_image d pc ls st h Q) ls st h → WPb mX8_image d 0 ls st h Q :=
  r_aload_n (k := 0) dX8_image_0 rfl <|
  r_iconst (v := 0) dX8_image_1 rfl <|
  r_putI (ci := 8) (q := (RX8, TX8, 27)) (k := 0) tyX8 tyX8_ok nmX8 dX8_image_2 (by decide) rfl in_X8 (by decide) (Or.inl ⟨rfl, (Or.inl q2141)⟩) rfl rfl <|
  r_iconst (v := 0) dX8_image_5 rfl <|
  r_istore_n (k := 1) dX8_image_6 rfl <|
  (fun _ _ _ H => H)
def tX8_image_7 (d : Nat) (Q : Outcome → MH → Prop) (J : Nat → KT) : KT :=
  i_iload 1 <|
  i_const 1300 <|
  i_icmp_ge
  (i_aload 0 <|
  i_const 1 <|
  i_putI 8 3 .boolean <|
  i_vret Q)
  (i_aload 0 <|
  i_getR 8 2 <|
  i_iload 1 <|
  i_aload 0 <|
  i_getR 8 1 <|
  i_iload 1 <|
  i_iald <|
  i_iast <|
  i_iinc 1 1 <|
  (J 7))
theorem kX8_image_7 {d : Nat} {Q : Outcome → MH → Prop} : ∀ ls st h, tX8_image_7 d Q (fun pc ls st h => WPb mX8_image d pc ls st h Q) ls st h → WPb mX8_image d 7 ls st h Q :=
  r_iload_n (k := 1) dX8_image_7 rfl <|
  r_sipush (v := 1300) dX8_image_8 rfl <|
  r_icmp_ge (pt := 32) dX8_image_11 (by decide)
  (r_aload_n (k := 0) dX8_image_32 rfl <|
  r_iconst (v := 1) dX8_image_33 rfl <|
  r_putI (ci := 8) (q := (RX8, TX8, 27)) (k := 3) tyX8 tyX8_ok nmX8 dX8_image_34 (by decide) rfl in_X8 (by decide) (Or.inl ⟨rfl, (Or.inl q2144)⟩) rfl rfl <|
  r_vret rfl dX8_image_37)
  (r_aload_n (k := 0) dX8_image_14 rfl <|
  r_getR (ci := 8) (q := (RX8, TX8, 27)) (k := 2) dX8_image_15 (by decide) rfl in_X8 (by decide) (Or.inl q2143) rfl <|
  r_iload_n (k := 1) dX8_image_18 rfl <|
  r_aload_n (k := 0) dX8_image_19 rfl <|
  r_getR (ci := 8) (q := (RX8, TX8, 27)) (k := 1) dX8_image_20 (by decide) rfl in_X8 (by decide) (Or.inl q2142) rfl <|
  r_iload_n (k := 1) dX8_image_23 rfl <|
  r_iald dX8_image_24 <|
  r_iast dX8_image_25 <|
  r_iinc (v := 1) dX8_image_26 rfl <|
  r_goto (pt := 7) dX8_image_29 (by decide) <|
  (fun _ _ _ H => H))
-- CheekTownModel.back()Z cuts [0, 16]
def tX8_back_0 (d : Nat) (Q : Outcome → MH → Prop) (J : Nat → KT) : KT :=
  i_aload 0 <|
  i_const 0 <|
  i_putI 8 0 .int <|
  i_aload 0 <|
  i_getI 8 3 <|
  i_if_ne
  (i_const 0 <|
  i_istore 1 <|
  (J 16))
  (i_const 0 <|
  i_ret Q (some .boolean))
theorem kX8_back_0 {d : Nat} {Q : Outcome → MH → Prop} : ∀ ls st h, tX8_back_0 d Q (fun pc ls st h => WPb mX8_back d pc ls st h Q) ls st h → WPb mX8_back d 0 ls st h Q :=
  r_aload_n (k := 0) dX8_back_0 rfl <|
  r_iconst (v := 0) dX8_back_1 rfl <|
  r_putI (ci := 8) (q := (RX8, TX8, 27)) (k := 0) tyX8 tyX8_ok nmX8 dX8_back_2 (by decide) rfl in_X8 (by decide) (Or.inl ⟨rfl, (Or.inl q2141)⟩) rfl rfl <|
  r_aload_n (k := 0) dX8_back_5 rfl <|
  r_getI (ci := 8) (q := (RX8, TX8, 27)) (k := 3) dX8_back_6 (by decide) rfl in_X8 (by decide) (Or.inl q2144) rfl <|
  r_if_ne (pt := 14) dX8_back_9 (by decide)
  (r_iconst (v := 0) dX8_back_14 rfl <|
  r_istore_n (k := 1) dX8_back_15 rfl <|
  (fun _ _ _ H => H))
  (r_iconst (v := 0) dX8_back_12 rfl <|
  r_ret rfl (Or.inl ⟨dX8_back_13, Or.inr (Or.inl rfl)⟩))
def tX8_back_16 (d : Nat) (Q : Outcome → MH → Prop) (J : Nat → KT) : KT :=
  i_iload 1 <|
  i_const 1300 <|
  i_icmp_ge
  (i_aload 0 <|
  i_const 0 <|
  i_putI 8 6 .int <|
  i_const 1 <|
  i_ret Q (some .boolean))
  (i_aload 0 <|
  i_getR 8 1 <|
  i_iload 1 <|
  i_aload 0 <|
  i_getR 8 2 <|
  i_iload 1 <|
  i_iald <|
  i_iast <|
  i_iinc 1 1 <|
  (J 16))
theorem kX8_back_16 {d : Nat} {Q : Outcome → MH → Prop} : ∀ ls st h, tX8_back_16 d Q (fun pc ls st h => WPb mX8_back d pc ls st h Q) ls st h → WPb mX8_back d 16 ls st h Q :=
  r_iload_n (k := 1) dX8_back_16 rfl <|
  r_sipush (v := 1300) dX8_back_17 rfl <|
  r_icmp_ge (pt := 41) dX8_back_20 (by decide)
  (r_aload_n (k := 0) dX8_back_41 rfl <|
  r_iconst (v := 0) dX8_back_42 rfl <|
  r_putI (ci := 8) (q := (RX8, TX8, 27)) (k := 6) tyX8 tyX8_ok nmX8 dX8_back_43 (by decide) rfl in_X8 (by decide) (Or.inl ⟨rfl, (Or.inl q2147)⟩) rfl rfl <|
  r_iconst (v := 1) dX8_back_46 rfl <|
  r_ret rfl (Or.inl ⟨dX8_back_47, Or.inr (Or.inl rfl)⟩))
  (r_aload_n (k := 0) dX8_back_23 rfl <|
  r_getR (ci := 8) (q := (RX8, TX8, 27)) (k := 1) dX8_back_24 (by decide) rfl in_X8 (by decide) (Or.inl q2142) rfl <|
  r_iload_n (k := 1) dX8_back_27 rfl <|
  r_aload_n (k := 0) dX8_back_28 rfl <|
  r_getR (ci := 8) (q := (RX8, TX8, 27)) (k := 2) dX8_back_29 (by decide) rfl in_X8 (by decide) (Or.inl q2143) rfl <|
  r_iload_n (k := 1) dX8_back_32 rfl <|
  r_iald dX8_back_33 <|
  r_iast dX8_back_34 <|
  r_iinc (v := 1) dX8_back_35 rfl <|
  r_goto (pt := 16) dX8_back_38 (by decide) <|
  (fun _ _ _ H => H))
-- CheekTownModel.count(I)I cuts [0]
def tX8_count_0 (d : Nat) (Q : Outcome → MH → Prop) (J : Nat → KT) : KT :=
  i_aload 0 <|
  i_const 0 <|
  i_putI 8 0 .int <|
  i_iload 1 <|
  i_if_ne
  (i_iload 1 <|
  i_const 1 <|
  i_icmp_ne
  (i_iload 1 <|
  i_const 2 <|
  i_icmp_ne
  (i_iload 1 <|
  i_const 3 <|
  i_icmp_ne
  (i_iload 1 <|
  i_const 4 <|
  i_icmp_ne
  (i_iload 1 <|
  i_const 5 <|
  i_icmp_ne
  (i_iload 1 <|
  i_const 6 <|
  i_const 10 <|
  i_call mX8_isIn d 3 pS (xOut Q) <|
  i_if_eq
  (i_iload 1 <|
  i_const 11 <|
  i_icmp_ne
  (i_iload 1 <|
  i_const 12 <|
  i_icmp_ne
  (i_iload 1 <|
  i_const 13 <|
  i_icmp_ne
  (i_iload 1 <|
  i_const 14 <|
  i_const 16 <|
  i_call mX8_isIn d 3 pS (xOut Q) <|
  i_if_eq
  (i_const (-1) <|
  i_ret Q (some .int))
  (i_aload 0 <|
  i_getR 8 1 <|
  i_const 13 <|
  i_iload 1 <|
  i_iadd <|
  i_const 14 <|
  i_isub <|
  i_iald <|
  i_ret Q (some .int)))
  (i_aload 0 <|
  i_getI 8 6 <|
  i_ret Q (some .int)))
  (i_aload 0 <|
  i_getR 8 1 <|
  i_const 12 <|
  i_iald <|
  i_ret Q (some .int)))
  (i_aload 0 <|
  i_call mX8_coldsNow d 1 (pV 8) (xOut Q) <|
  i_ret Q (some .int)))
  (i_aload 0 <|
  i_getR 8 1 <|
  i_const 7 <|
  i_iload 1 <|
  i_iadd <|
  i_const 6 <|
  i_isub <|
  i_iald <|
  i_ret Q (some .int)))
  (i_aload 0 <|
  i_getR 8 1 <|
  i_const 1 <|
  i_iald <|
  i_ret Q (some .int)))
  (i_aload 0 <|
  i_getR 8 1 <|
  i_const 0 <|
  i_iald <|
  i_ret Q (some .int)))
  (i_aload 0 <|
  i_getR 8 1 <|
  i_const 6 <|
  i_iald <|
  i_ret Q (some .int)))
  (i_aload 0 <|
  i_getR 8 1 <|
  i_const 5 <|
  i_iald <|
  i_ret Q (some .int)))
  (i_aload 0 <|
  i_getR 8 1 <|
  i_const 4 <|
  i_iald <|
  i_ret Q (some .int)))
  (i_aload 0 <|
  i_getR 8 1 <|
  i_const 3 <|
  i_iald <|
  i_ret Q (some .int))
theorem kX8_count_0 {d : Nat} {Q : Outcome → MH → Prop} : ∀ ls st h, tX8_count_0 d Q (fun pc ls st h => WPb mX8_count d pc ls st h Q) ls st h → WPb mX8_count d 0 ls st h Q :=
  r_aload_n (k := 0) dX8_count_0 rfl <|
  r_iconst (v := 0) dX8_count_1 rfl <|
  r_putI (ci := 8) (q := (RX8, TX8, 27)) (k := 0) tyX8 tyX8_ok nmX8 dX8_count_2 (by decide) rfl in_X8 (by decide) (Or.inl ⟨rfl, (Or.inl q2141)⟩) rfl rfl <|
  r_iload_n (k := 1) dX8_count_5 rfl <|
  r_if_ne (pt := 16) dX8_count_6 (by decide)
  (r_iload_n (k := 1) dX8_count_16 rfl <|
  r_iconst (v := 1) dX8_count_17 rfl <|
  r_icmp_ne (pt := 28) dX8_count_18 (by decide)
  (r_iload_n (k := 1) dX8_count_28 rfl <|
  r_iconst (v := 2) dX8_count_29 rfl <|
  r_icmp_ne (pt := 40) dX8_count_30 (by decide)
  (r_iload_n (k := 1) dX8_count_40 rfl <|
  r_iconst (v := 3) dX8_count_41 rfl <|
  r_icmp_ne (pt := 53) dX8_count_42 (by decide)
  (r_iload_n (k := 1) dX8_count_53 rfl <|
  r_iconst (v := 4) dX8_count_54 rfl <|
  r_icmp_ne (pt := 65) dX8_count_55 (by decide)
  (r_iload_n (k := 1) dX8_count_65 rfl <|
  r_iconst (v := 5) dX8_count_66 rfl <|
  r_icmp_ne (pt := 77) dX8_count_67 (by decide)
  (r_iload_n (k := 1) dX8_count_77 rfl <|
  r_bipush (v := 6) dX8_count_78 rfl <|
  r_bipush (v := 10) dX8_count_80 rfl <|
  r_cS (Z := mX8_isIn) dX8_count_82 rfl (by decide +kernel) ⟨by decide, by decide⟩ q2235 q2236 q127 q2237 (XS.out (noH _)) <|
  r_if_eq (pt := 101) dX8_count_85 (by decide)
  (r_iload_n (k := 1) dX8_count_101 rfl <|
  r_bipush (v := 11) dX8_count_102 rfl <|
  r_icmp_ne (pt := 112) dX8_count_104 (by decide)
  (r_iload_n (k := 1) dX8_count_112 rfl <|
  r_bipush (v := 12) dX8_count_113 rfl <|
  r_icmp_ne (pt := 126) dX8_count_115 (by decide)
  (r_iload_n (k := 1) dX8_count_126 rfl <|
  r_bipush (v := 13) dX8_count_127 rfl <|
  r_icmp_ne (pt := 137) dX8_count_129 (by decide)
  (r_iload_n (k := 1) dX8_count_137 rfl <|
  r_bipush (v := 14) dX8_count_138 rfl <|
  r_bipush (v := 16) dX8_count_140 rfl <|
  r_cS (Z := mX8_isIn) dX8_count_142 rfl (by decide +kernel) ⟨by decide, by decide⟩ q2235 q2236 q127 q2237 (XS.out (noH _)) <|
  r_if_eq (pt := 163) dX8_count_145 (by decide)
  (r_iconst (v := (-1)) dX8_count_163 rfl <|
  r_ret rfl (Or.inl ⟨dX8_count_164, Or.inl rfl⟩))
  (r_aload_n (k := 0) dX8_count_148 rfl <|
  r_getR (ci := 8) (q := (RX8, TX8, 27)) (k := 1) dX8_count_149 (by decide) rfl in_X8 (by decide) (Or.inl q2142) rfl <|
  r_bipush (v := 13) dX8_count_152 rfl <|
  r_iload_n (k := 1) dX8_count_154 rfl <|
  r_iadd dX8_count_155 <|
  r_bipush (v := 14) dX8_count_156 rfl <|
  r_isub dX8_count_158 <|
  r_iald dX8_count_159 <|
  r_goto (pt := 164) dX8_count_160 (by decide) <|
  r_ret rfl (Or.inl ⟨dX8_count_164, Or.inl rfl⟩)))
  (r_aload_n (k := 0) dX8_count_132 rfl <|
  r_getI (ci := 8) (q := (RX8, TX8, 27)) (k := 6) dX8_count_133 (by decide) rfl in_X8 (by decide) (Or.inl q2147) rfl <|
  r_ret rfl (Or.inl ⟨dX8_count_136, Or.inl rfl⟩)))
  (r_aload_n (k := 0) dX8_count_118 rfl <|
  r_getR (ci := 8) (q := (RX8, TX8, 27)) (k := 1) dX8_count_119 (by decide) rfl in_X8 (by decide) (Or.inl q2142) rfl <|
  r_bipush (v := 12) dX8_count_122 rfl <|
  r_iald dX8_count_124 <|
  r_ret rfl (Or.inl ⟨dX8_count_125, Or.inl rfl⟩)))
  (r_aload_n (k := 0) dX8_count_107 rfl <|
  r_cV (Z := mX8_coldsNow) (ci := 8) (q := (RX8, TX8, 27)) dX8_count_108 rfl (by decide +kernel) ⟨by decide, by decide⟩ (by decide) rfl rfl q2672 q2674 qs113 q127 q2675 (XS.out (noH _)) <|
  r_ret rfl (Or.inl ⟨dX8_count_111, Or.inl rfl⟩)))
  (r_aload_n (k := 0) dX8_count_88 rfl <|
  r_getR (ci := 8) (q := (RX8, TX8, 27)) (k := 1) dX8_count_89 (by decide) rfl in_X8 (by decide) (Or.inl q2142) rfl <|
  r_bipush (v := 7) dX8_count_92 rfl <|
  r_iload_n (k := 1) dX8_count_94 rfl <|
  r_iadd dX8_count_95 <|
  r_bipush (v := 6) dX8_count_96 rfl <|
  r_isub dX8_count_98 <|
  r_iald dX8_count_99 <|
  r_ret rfl (Or.inl ⟨dX8_count_100, Or.inl rfl⟩)))
  (r_aload_n (k := 0) dX8_count_70 rfl <|
  r_getR (ci := 8) (q := (RX8, TX8, 27)) (k := 1) dX8_count_71 (by decide) rfl in_X8 (by decide) (Or.inl q2142) rfl <|
  r_iconst (v := 1) dX8_count_74 rfl <|
  r_iald dX8_count_75 <|
  r_ret rfl (Or.inl ⟨dX8_count_76, Or.inl rfl⟩)))
  (r_aload_n (k := 0) dX8_count_58 rfl <|
  r_getR (ci := 8) (q := (RX8, TX8, 27)) (k := 1) dX8_count_59 (by decide) rfl in_X8 (by decide) (Or.inl q2142) rfl <|
  r_iconst (v := 0) dX8_count_62 rfl <|
  r_iald dX8_count_63 <|
  r_ret rfl (Or.inl ⟨dX8_count_64, Or.inl rfl⟩)))
  (r_aload_n (k := 0) dX8_count_45 rfl <|
  r_getR (ci := 8) (q := (RX8, TX8, 27)) (k := 1) dX8_count_46 (by decide) rfl in_X8 (by decide) (Or.inl q2142) rfl <|
  r_bipush (v := 6) dX8_count_49 rfl <|
  r_iald dX8_count_51 <|
  r_ret rfl (Or.inl ⟨dX8_count_52, Or.inl rfl⟩)))
  (r_aload_n (k := 0) dX8_count_33 rfl <|
  r_getR (ci := 8) (q := (RX8, TX8, 27)) (k := 1) dX8_count_34 (by decide) rfl in_X8 (by decide) (Or.inl q2142) rfl <|
  r_iconst (v := 5) dX8_count_37 rfl <|
  r_iald dX8_count_38 <|
  r_ret rfl (Or.inl ⟨dX8_count_39, Or.inl rfl⟩)))
  (r_aload_n (k := 0) dX8_count_21 rfl <|
  r_getR (ci := 8) (q := (RX8, TX8, 27)) (k := 1) dX8_count_22 (by decide) rfl in_X8 (by decide) (Or.inl q2142) rfl <|
  r_iconst (v := 4) dX8_count_25 rfl <|
  r_iald dX8_count_26 <|
  r_ret rfl (Or.inl ⟨dX8_count_27, Or.inl rfl⟩)))
  (r_aload_n (k := 0) dX8_count_9 rfl <|
  r_getR (ci := 8) (q := (RX8, TX8, 27)) (k := 1) dX8_count_10 (by decide) rfl in_X8 (by decide) (Or.inl q2142) rfl <|
  r_iconst (v := 3) dX8_count_13 rfl <|
  r_iald dX8_count_14 <|
  r_ret rfl (Or.inl ⟨dX8_count_15, Or.inl rfl⟩))
