set_option maxRecDepth 100000
-- java/util/AbstractCollection.<init>()V cuts [0]
def tJ0_init_0 (d : Nat) (Q : Outcome → MH → Prop) (J : Nat → KT) : KT :=
  i_aload 0 <|
  i_obj d <|
  i_vret Q
theorem kJ0_init_0 {d : Nat} {Q : Outcome → MH → Prop} : ∀ ls st h, tJ0_init_0 d Q (fun pc ls st h => WPb mJ0_init d pc ls st h Q) ls st h → WPb mJ0_init d 0 ls st h Q :=
  r_aload_n (k := 0) dJ0_init_0 rfl <|
  r_obj dJ0_init_1 q395 q170 q171 <|
  r_vret rfl dJ0_init_4
-- java/util/AbstractList.<init>()V cuts [0]
def tJ1_init_0 (d : Nat) (Q : Outcome → MH → Prop) (J : Nat → KT) : KT :=
  i_aload 0 <|
  i_call mJ0_init d 1 pI (xOut Q) <|
  i_aload 0 <|
  i_const 0 <|
  i_putI 22 0 .int <|
  i_vret Q
theorem kJ1_init_0 {d : Nat} {Q : Outcome → MH → Prop} : ∀ ls st h, tJ1_init_0 d Q (fun pc ls st h => WPb mJ1_init d pc ls st h Q) ls st h → WPb mJ1_init d 0 ls st h Q :=
  r_aload_n (k := 0) dJ1_init_0 rfl <|
  r_cI (Z := mJ0_init) dJ1_init_1 rfl rfl rfl (by decide +kernel) ⟨by decide, by decide⟩ q392 q393 q121 q394 (XS.out (noH _)) <|
  r_aload_n (k := 0) dJ1_init_4 rfl <|
  r_iconst (v := 0) dJ1_init_5 rfl <|
  r_putI (ci := 22) (q := (RJ2, TJ2, 3)) (k := 0) tyJ2 tyJ2_ok nmJ2 dJ1_init_6 (by decide) rfl in_J2 (by decide) (Or.inl ⟨rfl, (Or.inl q400)⟩) rfl rfl <|
  r_vret rfl dJ1_init_9
-- java/lang/StringLatin1.inflate([BI[BII)V cuts [0]
def tJ10_inflate_0 (d : Nat) (Q : Outcome → MH → Prop) (J : Nat → KT) : KT :=
  i_aload 0 <|
  i_iload 1 <|
  i_aload 2 <|
  i_iload 3 <|
  i_iload 4 <|
  i_call mJ6_inflate d 5 pS (xOut Q) <|
  i_vret Q
theorem kJ10_inflate_0 {d : Nat} {Q : Outcome → MH → Prop} : ∀ ls st h, tJ10_inflate_0 d Q (fun pc ls st h => WPb mJ10_inflate d pc ls st h Q) ls st h → WPb mJ10_inflate d 0 ls st h Q :=
  r_aload_n (k := 0) dJ10_inflate_0 rfl <|
  r_iload_n (k := 1) dJ10_inflate_1 rfl <|
  r_aload_n (k := 2) dJ10_inflate_2 rfl <|
  r_iload_n (k := 3) dJ10_inflate_3 rfl <|
  r_iload dJ10_inflate_4 <|
  r_cS (Z := mJ6_inflate) dJ10_inflate_6 rfl (by decide +kernel) ⟨by decide, by decide⟩ q791 q792 q132 q793 (XS.out (noH _)) <|
  r_vret rfl dJ10_inflate_9
-- java/lang/StringLatin1.canEncode(C)Z cuts [0]
def tJ10_canEncode_0 (d : Nat) (Q : Outcome → MH → Prop) (J : Nat → KT) : KT :=
  i_iload 0 <|
  i_const 255 <|
  i_icmp_gt
  (i_const 0 <|
  i_ret Q (some .boolean))
  (i_const 1 <|
  i_ret Q (some .boolean))
theorem kJ10_canEncode_0 {d : Nat} {Q : Outcome → MH → Prop} : ∀ ls st h, tJ10_canEncode_0 d Q (fun pc ls st h => WPb mJ10_canEncode d pc ls st h Q) ls st h → WPb mJ10_canEncode d 0 ls st h Q :=
  r_iload_n (k := 0) dJ10_canEncode_0 rfl <|
  r_sipush (v := 255) dJ10_canEncode_1 rfl <|
  r_icmp_gt (pt := 11) dJ10_canEncode_4 (by decide)
  (r_iconst (v := 0) dJ10_canEncode_11 rfl <|
  r_ret rfl (Or.inl ⟨dJ10_canEncode_12, Or.inr (Or.inl rfl)⟩))
  (r_iconst (v := 1) dJ10_canEncode_7 rfl <|
  r_goto (pt := 12) dJ10_canEncode_8 (by decide) <|
  r_ret rfl (Or.inl ⟨dJ10_canEncode_12, Or.inr (Or.inl rfl)⟩))
-- java/lang/StringLatin1.hashCode([B)I cuts [0]
def tJ10_hashCode_0 (d : Nat) (Q : Outcome → MH → Prop) (J : Nat → KT) : KT :=
  i_aload 0 <|
  i_alen <|
  i_sw [(0, i_const 0 <|
  i_ret Q (some .int)),
  (1, i_aload 0 <|
  i_const 0 <|
  i_bald <|
  i_const 255 <|
  i_iand <|
  i_ret Q (some .int))]
  (i_aload 0 <|
  i_const 0 <|
  i_aload 0 <|
  i_alen <|
  i_const 0 <|
  i_const 4 <|
  i_call mJ7_vectorizedHashCode d 5 pS (xOut Q) <|
  i_ret Q (some .int))
theorem kJ10_hashCode_0 {d : Nat} {Q : Outcome → MH → Prop} : ∀ ls st h, tJ10_hashCode_0 d Q (fun pc ls st h => WPb mJ10_hashCode d pc ls st h Q) ls st h → WPb mJ10_hashCode d 0 ls st h Q :=
  r_aload_n (k := 0) dJ10_hashCode_0 rfl <|
  r_alen dJ10_hashCode_1 <|
  r_lsw (tl := [(0, 28), (1, 32)]) (td := 42) dJ10_hashCode_2 (by decide +kernel) (by decide +kernel) (by decide) (sw_cons (r_iconst (v := 0) dJ10_hashCode_28 rfl <|
  r_goto (pt := 51) dJ10_hashCode_29 (by decide) <|
  r_ret rfl (Or.inl ⟨dJ10_hashCode_51, Or.inl rfl⟩))
  (sw_cons (r_aload_n (k := 0) dJ10_hashCode_32 rfl <|
  r_iconst (v := 0) dJ10_hashCode_33 rfl <|
  r_bald dJ10_hashCode_34 <|
  r_sipush (v := 255) dJ10_hashCode_35 rfl <|
  r_iand dJ10_hashCode_38 <|
  r_goto (pt := 51) dJ10_hashCode_39 (by decide) <|
  r_ret rfl (Or.inl ⟨dJ10_hashCode_51, Or.inl rfl⟩))
  (sw_nil (r_aload_n (k := 0) dJ10_hashCode_42 rfl <|
  r_iconst (v := 0) dJ10_hashCode_43 rfl <|
  r_aload_n (k := 0) dJ10_hashCode_44 rfl <|
  r_alen dJ10_hashCode_45 <|
  r_iconst (v := 0) dJ10_hashCode_46 rfl <|
  r_iconst (v := 4) dJ10_hashCode_47 rfl <|
  r_cS (Z := mJ7_vectorizedHashCode) dJ10_hashCode_48 rfl (by decide +kernel) ⟨by decide, by decide⟩ q1211 q1212 q133 q1213 (XS.out (noH _)) <|
  r_ret rfl (Or.inl ⟨dJ10_hashCode_51, Or.inl rfl⟩)))))
-- java/lang/StringLatin1.equals([B[B)Z cuts [0, 9]
def tJ10_equals_0 (d : Nat) (Q : Outcome → MH → Prop) (J : Nat → KT) : KT :=
  i_aload 0 <|
  i_alen <|
  i_aload 1 <|
  i_alen <|
  i_icmp_ne
  (i_const 0 <|
  i_ret Q (some .boolean))
  (i_const 0 <|
  i_istore 2 <|
  (J 9))
theorem kJ10_equals_0 {d : Nat} {Q : Outcome → MH → Prop} : ∀ ls st h, tJ10_equals_0 d Q (fun pc ls st h => WPb mJ10_equals d pc ls st h Q) ls st h → WPb mJ10_equals d 0 ls st h Q :=
  r_aload_n (k := 0) dJ10_equals_0 rfl <|
  r_alen dJ10_equals_1 <|
  r_aload_n (k := 1) dJ10_equals_2 rfl <|
  r_alen dJ10_equals_3 <|
  r_icmp_ne (pt := 34) dJ10_equals_4 (by decide)
  (r_iconst (v := 0) dJ10_equals_34 rfl <|
  r_ret rfl (Or.inl ⟨dJ10_equals_35, Or.inr (Or.inl rfl)⟩))
  (r_iconst (v := 0) dJ10_equals_7 rfl <|
  r_istore_n (k := 2) dJ10_equals_8 rfl <|
  (fun _ _ _ H => H))
def tJ10_equals_9 (d : Nat) (Q : Outcome → MH → Prop) (J : Nat → KT) : KT :=
  i_iload 2 <|
  i_aload 0 <|
  i_alen <|
  i_icmp_ge
  (i_const 1 <|
  i_ret Q (some .boolean))
  (i_aload 0 <|
  i_iload 2 <|
  i_bald <|
  i_aload 1 <|
  i_iload 2 <|
  i_bald <|
  i_icmp_eq
  (i_iinc 2 1 <|
  (J 9))
  (i_const 0 <|
  i_ret Q (some .boolean)))
theorem kJ10_equals_9 {d : Nat} {Q : Outcome → MH → Prop} : ∀ ls st h, tJ10_equals_9 d Q (fun pc ls st h => WPb mJ10_equals d pc ls st h Q) ls st h → WPb mJ10_equals d 9 ls st h Q :=
  r_iload_n (k := 2) dJ10_equals_9 rfl <|
  r_aload_n (k := 0) dJ10_equals_10 rfl <|
  r_alen dJ10_equals_11 <|
  r_icmp_ge (pt := 32) dJ10_equals_12 (by decide)
  (r_iconst (v := 1) dJ10_equals_32 rfl <|
  r_ret rfl (Or.inl ⟨dJ10_equals_33, Or.inr (Or.inl rfl)⟩))
  (r_aload_n (k := 0) dJ10_equals_15 rfl <|
  r_iload_n (k := 2) dJ10_equals_16 rfl <|
  r_bald dJ10_equals_17 <|
  r_aload_n (k := 1) dJ10_equals_18 rfl <|
  r_iload_n (k := 2) dJ10_equals_19 rfl <|
  r_bald dJ10_equals_20 <|
  r_icmp_eq (pt := 26) dJ10_equals_21 (by decide)
  (r_iinc (v := 1) dJ10_equals_26 rfl <|
  r_goto (pt := 9) dJ10_equals_29 (by decide) <|
  (fun _ _ _ H => H))
  (r_iconst (v := 0) dJ10_equals_24 rfl <|
  r_ret rfl (Or.inl ⟨dJ10_equals_25, Or.inr (Or.inl rfl)⟩)))
-- java/lang/StringLatin1.charAt([BI)C cuts [0]
def tJ10_charAt_0 (d : Nat) (Q : Outcome → MH → Prop) (J : Nat → KT) : KT :=
  i_iload 1 <|
  i_aload 0 <|
  i_alen <|
  i_call mJ5_checkIndex d 2 pS (xOut Q) <|
  i_aload 0 <|
  i_iload 1 <|
  i_bald <|
  i_const 255 <|
  i_iand <|
  i_i2c <|
  i_ret Q (some .char)
theorem kJ10_charAt_0 {d : Nat} {Q : Outcome → MH → Prop} : ∀ ls st h, tJ10_charAt_0 d Q (fun pc ls st h => WPb mJ10_charAt d pc ls st h Q) ls st h → WPb mJ10_charAt d 0 ls st h Q :=
  r_iload_n (k := 1) dJ10_charAt_0 rfl <|
  r_aload_n (k := 0) dJ10_charAt_1 rfl <|
  r_alen dJ10_charAt_2 <|
  r_cS (Z := mJ5_checkIndex) dJ10_charAt_3 rfl (by decide +kernel) ⟨by decide, by decide⟩ q2283 q1168 q131 q1169 (XS.out (noH _)) <|
  r_aload_n (k := 0) dJ10_charAt_6 rfl <|
  r_iload_n (k := 1) dJ10_charAt_7 rfl <|
  r_bald dJ10_charAt_8 <|
  r_sipush (v := 255) dJ10_charAt_9 rfl <|
  r_iand dJ10_charAt_12 <|
  r_i2c dJ10_charAt_13 <|
  r_ret rfl (Or.inl ⟨dJ10_charAt_14, Or.inr (Or.inr (Or.inr rfl))⟩)
-- jdk/internal/util/Preconditions.checkFromToIndex(IIILjava/util/function/BiFunction;)I cuts [0] NOT WALKED: [(18, 'method link jdk/internal/util/Preconditions 99'), (18, 'method link jdk/internal/util/Preconditions 99'), (18, 'method link jdk/internal/util/Preconditions 99')]
def tJ11_checkFromToIndex_0 (d : Nat) (Q : Outcome → MH → Prop) (J : Nat → KT) : KT :=
  i_iload 0 <|
  i_if_lt
  (i_aload 3 <|
  i_iload 0 <|
  i_iload 1 <|
  i_iload 2 <|
  i_bad)
  (i_iload 0 <|
  i_iload 1 <|
  i_icmp_gt
  (i_aload 3 <|
  i_iload 0 <|
  i_iload 1 <|
  i_iload 2 <|
  i_bad)
  (i_iload 1 <|
  i_iload 2 <|
  i_icmp_le
  (i_iload 0 <|
  i_ret Q (some .int))
  (i_aload 3 <|
  i_iload 0 <|
  i_iload 1 <|
  i_iload 2 <|
  i_bad)))
theorem kJ11_checkFromToIndex_0 {d : Nat} {Q : Outcome → MH → Prop} : ∀ ls st h, tJ11_checkFromToIndex_0 d Q (fun pc ls st h => WPb mJ11_checkFromToIndex d pc ls st h Q) ls st h → WPb mJ11_checkFromToIndex d 0 ls st h Q :=
  r_iload_n (k := 0) dJ11_checkFromToIndex_0 rfl <|
  r_if_lt (pt := 14) dJ11_checkFromToIndex_1 (by decide)
  (r_aload_n (k := 3) dJ11_checkFromToIndex_14 rfl <|
  r_iload_n (k := 0) dJ11_checkFromToIndex_15 rfl <|
  r_iload_n (k := 1) dJ11_checkFromToIndex_16 rfl <|
  r_iload_n (k := 2) dJ11_checkFromToIndex_17 rfl <|
  r_bad)
  (r_iload_n (k := 0) dJ11_checkFromToIndex_4 rfl <|
  r_iload_n (k := 1) dJ11_checkFromToIndex_5 rfl <|
  r_icmp_gt (pt := 14) dJ11_checkFromToIndex_6 (by decide)
  (r_aload_n (k := 3) dJ11_checkFromToIndex_14 rfl <|
  r_iload_n (k := 0) dJ11_checkFromToIndex_15 rfl <|
  r_iload_n (k := 1) dJ11_checkFromToIndex_16 rfl <|
  r_iload_n (k := 2) dJ11_checkFromToIndex_17 rfl <|
  r_bad)
  (r_iload_n (k := 1) dJ11_checkFromToIndex_9 rfl <|
  r_iload_n (k := 2) dJ11_checkFromToIndex_10 rfl <|
  r_icmp_le (pt := 22) dJ11_checkFromToIndex_11 (by decide)
  (r_iload_n (k := 0) dJ11_checkFromToIndex_22 rfl <|
  r_ret rfl (Or.inl ⟨dJ11_checkFromToIndex_23, Or.inl rfl⟩))
  (r_aload_n (k := 3) dJ11_checkFromToIndex_14 rfl <|
  r_iload_n (k := 0) dJ11_checkFromToIndex_15 rfl <|
  r_iload_n (k := 1) dJ11_checkFromToIndex_16 rfl <|
  r_iload_n (k := 2) dJ11_checkFromToIndex_17 rfl <|
  r_bad)))
-- jdk/internal/util/Preconditions.checkFromIndexSize(IIILjava/util/function/BiFunction;)I cuts [0] NOT WALKED: [(19, 'method link jdk/internal/util/Preconditions 103'), (19, 'method link jdk/internal/util/Preconditions 103')]
def tJ11_checkFromIndexSize_0 (d : Nat) (Q : Outcome → MH → Prop) (J : Nat → KT) : KT :=
  i_iload 2 <|
  i_iload 0 <|
  i_ior <|
  i_iload 1 <|
  i_ior <|
  i_if_lt
  (i_aload 3 <|
  i_iload 0 <|
  i_iload 1 <|
  i_iload 2 <|
  i_bad)
  (i_iload 1 <|
  i_iload 2 <|
  i_iload 0 <|
  i_isub <|
  i_icmp_le
  (i_iload 0 <|
  i_ret Q (some .int))
  (i_aload 3 <|
  i_iload 0 <|
  i_iload 1 <|
  i_iload 2 <|
  i_bad))
theorem kJ11_checkFromIndexSize_0 {d : Nat} {Q : Outcome → MH → Prop} : ∀ ls st h, tJ11_checkFromIndexSize_0 d Q (fun pc ls st h => WPb mJ11_checkFromIndexSize d pc ls st h Q) ls st h → WPb mJ11_checkFromIndexSize d 0 ls st h Q :=
  r_iload_n (k := 2) dJ11_checkFromIndexSize_0 rfl <|
  r_iload_n (k := 0) dJ11_checkFromIndexSize_1 rfl <|
  r_ior dJ11_checkFromIndexSize_2 <|
  r_iload_n (k := 1) dJ11_checkFromIndexSize_3 rfl <|
  r_ior dJ11_checkFromIndexSize_4 <|
  r_if_lt (pt := 15) dJ11_checkFromIndexSize_5 (by decide)
  (r_aload_n (k := 3) dJ11_checkFromIndexSize_15 rfl <|
  r_iload_n (k := 0) dJ11_checkFromIndexSize_16 rfl <|
  r_iload_n (k := 1) dJ11_checkFromIndexSize_17 rfl <|
  r_iload_n (k := 2) dJ11_checkFromIndexSize_18 rfl <|
  r_bad)
  (r_iload_n (k := 1) dJ11_checkFromIndexSize_8 rfl <|
  r_iload_n (k := 2) dJ11_checkFromIndexSize_9 rfl <|
  r_iload_n (k := 0) dJ11_checkFromIndexSize_10 rfl <|
  r_isub dJ11_checkFromIndexSize_11 <|
  r_icmp_le (pt := 23) dJ11_checkFromIndexSize_12 (by decide)
  (r_iload_n (k := 0) dJ11_checkFromIndexSize_23 rfl <|
  r_ret rfl (Or.inl ⟨dJ11_checkFromIndexSize_24, Or.inl rfl⟩))
  (r_aload_n (k := 3) dJ11_checkFromIndexSize_15 rfl <|
  r_iload_n (k := 0) dJ11_checkFromIndexSize_16 rfl <|
  r_iload_n (k := 1) dJ11_checkFromIndexSize_17 rfl <|
  r_iload_n (k := 2) dJ11_checkFromIndexSize_18 rfl <|
  r_bad))
-- jdk/internal/util/Preconditions.checkIndex(IILjava/util/function/BiFunction;)I cuts [0] NOT WALKED: [(12, 'method link jdk/internal/util/Preconditions 95'), (12, 'method link jdk/internal/util/Preconditions 95')]
def tJ11_checkIndex_0 (d : Nat) (Q : Outcome → MH → Prop) (J : Nat → KT) : KT :=
  i_iload 0 <|
  i_if_lt
  (i_aload 2 <|
  i_iload 0 <|
  i_iload 1 <|
  i_bad)
  (i_iload 0 <|
  i_iload 1 <|
  i_icmp_lt
  (i_iload 0 <|
  i_ret Q (some .int))
  (i_aload 2 <|
  i_iload 0 <|
  i_iload 1 <|
  i_bad))
theorem kJ11_checkIndex_0 {d : Nat} {Q : Outcome → MH → Prop} : ∀ ls st h, tJ11_checkIndex_0 d Q (fun pc ls st h => WPb mJ11_checkIndex d pc ls st h Q) ls st h → WPb mJ11_checkIndex d 0 ls st h Q :=
  r_iload_n (k := 0) dJ11_checkIndex_0 rfl <|
  r_if_lt (pt := 9) dJ11_checkIndex_1 (by decide)
  (r_aload_n (k := 2) dJ11_checkIndex_9 rfl <|
  r_iload_n (k := 0) dJ11_checkIndex_10 rfl <|
  r_iload_n (k := 1) dJ11_checkIndex_11 rfl <|
  r_bad)
  (r_iload_n (k := 0) dJ11_checkIndex_4 rfl <|
  r_iload_n (k := 1) dJ11_checkIndex_5 rfl <|
  r_icmp_lt (pt := 16) dJ11_checkIndex_6 (by decide)
  (r_iload_n (k := 0) dJ11_checkIndex_16 rfl <|
  r_ret rfl (Or.inl ⟨dJ11_checkIndex_17, Or.inl rfl⟩))
  (r_aload_n (k := 2) dJ11_checkIndex_9 rfl <|
  r_iload_n (k := 0) dJ11_checkIndex_10 rfl <|
  r_iload_n (k := 1) dJ11_checkIndex_11 rfl <|
  r_bad))
-- java/lang/Throwable.<init>()V cuts [0] NOT WALKED: [(24, "callee ('java/lang/Throwable', 'fillInStackTrace', '()Ljava/")]
def tJ12_init_0 (d : Nat) (Q : Outcome → MH → Prop) (J : Nat → KT) : KT :=
  i_aload 0 <|
  i_obj d <|
  i_aload 0 <|
  i_aload 0 <|
  i_putR 9 0 <|
  i_aload 0 <|
  i_stq 0 <|
  i_putR 9 1 <|
  i_aload 0 <|
  i_stq 1 <|
  i_putR 9 2 <|
  i_aload 0 <|
  i_bad
theorem kJ12_init_0 {d : Nat} {Q : Outcome → MH → Prop} : ∀ ls st h, tJ12_init_0 d Q (fun pc ls st h => WPb mJ12_init d pc ls st h Q) ls st h → WPb mJ12_init d 0 ls st h Q :=
  r_aload_n (k := 0) dJ12_init_0 rfl <|
  r_obj dJ12_init_1 q641 q170 q171 <|
  r_aload_n (k := 0) dJ12_init_4 rfl <|
  r_aload_n (k := 0) dJ12_init_5 rfl <|
  r_putR (ci := 9) (q := (RX9, TX9, 6)) (k := 0) tyX9 tyX9_ok nmX9 dJ12_init_6 (by decide) rfl in_X9 (by decide) (Or.inl ⟨rfl, (Or.inl q887)⟩) rfl rfl <|
  r_aload_n (k := 0) dJ12_init_9 rfl <|
  r_getsQ (j := 0) (T := ("java/lang/Throwable", "UNASSIGNED_STACK", "[Ljava/lang/StackTraceElement;")) (by decide +kernel) q642 dJ12_init_10 <|
  r_putR (ci := 9) (q := (RX9, TX9, 6)) (k := 1) tyX9 tyX9_ok nmX9 dJ12_init_13 (by decide) rfl in_X9 (by decide) (Or.inl ⟨rfl, (Or.inl q888)⟩) rfl rfl <|
  r_aload_n (k := 0) dJ12_init_16 rfl <|
  r_getsQ (j := 1) (T := ("java/lang/Throwable", "SUPPRESSED_SENTINEL", "Ljava/util/List;")) (by decide +kernel) q644 dJ12_init_17 <|
  r_putR (ci := 9) (q := (RX9, TX9, 6)) (k := 2) tyX9 tyX9_ok nmX9 dJ12_init_20 (by decide) rfl in_X9 (by decide) (Or.inl ⟨rfl, (Or.inl q889)⟩) rfl rfl <|
  r_aload_n (k := 0) dJ12_init_23 rfl <|
  r_bad
-- java/lang/Throwable.<init>(Ljava/lang/String;)V cuts [0] NOT WALKED: [(24, "callee ('java/lang/Throwable', 'fillInStackTrace', '()Ljava/")]
def tJ12_init_2_0 (d : Nat) (Q : Outcome → MH → Prop) (J : Nat → KT) : KT :=
  i_aload 0 <|
  i_obj d <|
  i_aload 0 <|
  i_aload 0 <|
  i_putR 9 0 <|
  i_aload 0 <|
  i_stq 0 <|
  i_putR 9 1 <|
  i_aload 0 <|
  i_stq 1 <|
  i_putR 9 2 <|
  i_aload 0 <|
  i_bad
theorem kJ12_init_2_0 {d : Nat} {Q : Outcome → MH → Prop} : ∀ ls st h, tJ12_init_2_0 d Q (fun pc ls st h => WPb mJ12_init_2 d pc ls st h Q) ls st h → WPb mJ12_init_2 d 0 ls st h Q :=
  r_aload_n (k := 0) dJ12_init_2_0 rfl <|
  r_obj dJ12_init_2_1 q641 q170 q171 <|
  r_aload_n (k := 0) dJ12_init_2_4 rfl <|
  r_aload_n (k := 0) dJ12_init_2_5 rfl <|
  r_putR (ci := 9) (q := (RX9, TX9, 6)) (k := 0) tyX9 tyX9_ok nmX9 dJ12_init_2_6 (by decide) rfl in_X9 (by decide) (Or.inl ⟨rfl, (Or.inl q887)⟩) rfl rfl <|
  r_aload_n (k := 0) dJ12_init_2_9 rfl <|
  r_getsQ (j := 0) (T := ("java/lang/Throwable", "UNASSIGNED_STACK", "[Ljava/lang/StackTraceElement;")) (by decide +kernel) q642 dJ12_init_2_10 <|
  r_putR (ci := 9) (q := (RX9, TX9, 6)) (k := 1) tyX9 tyX9_ok nmX9 dJ12_init_2_13 (by decide) rfl in_X9 (by decide) (Or.inl ⟨rfl, (Or.inl q888)⟩) rfl rfl <|
  r_aload_n (k := 0) dJ12_init_2_16 rfl <|
  r_getsQ (j := 1) (T := ("java/lang/Throwable", "SUPPRESSED_SENTINEL", "Ljava/util/List;")) (by decide +kernel) q644 dJ12_init_2_17 <|
  r_putR (ci := 9) (q := (RX9, TX9, 6)) (k := 2) tyX9 tyX9_ok nmX9 dJ12_init_2_20 (by decide) rfl in_X9 (by decide) (Or.inl ⟨rfl, (Or.inl q889)⟩) rfl rfl <|
  r_aload_n (k := 0) dJ12_init_2_23 rfl <|
  r_bad
-- java/lang/Throwable.<init>(Ljava/lang/String;Ljava/lang/Throwable;ZZ)V cuts [0] NOT WALKED: [(29, "callee ('java/lang/Throwable', 'fillInStackTrace', '()Ljava/")]
def tJ12_init_3_0 (d : Nat) (Q : Outcome → MH → Prop) (J : Nat → KT) : KT :=
  i_aload 0 <|
  i_obj d <|
  i_aload 0 <|
  i_aload 0 <|
  i_putR 9 0 <|
  i_aload 0 <|
  i_stq 0 <|
  i_putR 9 1 <|
  i_aload 0 <|
  i_stq 1 <|
  i_putR 9 2 <|
  i_iload 4 <|
  i_if_eq
  (i_aload 0 <|
  i_null <|
  i_putR 9 1 <|
  i_aload 0 <|
  i_aload 1 <|
  i_putR 9 3 <|
  i_aload 0 <|
  i_aload 2 <|
  i_putR 9 0 <|
  i_iload 3 <|
  i_if_ne
  (i_vret Q)
  (i_aload 0 <|
  i_null <|
  i_putR 9 2 <|
  i_vret Q))
  (i_aload 0 <|
  i_bad)
theorem kJ12_init_3_0 {d : Nat} {Q : Outcome → MH → Prop} : ∀ ls st h, tJ12_init_3_0 d Q (fun pc ls st h => WPb mJ12_init_3 d pc ls st h Q) ls st h → WPb mJ12_init_3 d 0 ls st h Q :=
  r_aload_n (k := 0) dJ12_init_3_0 rfl <|
  r_obj dJ12_init_3_1 q641 q170 q171 <|
  r_aload_n (k := 0) dJ12_init_3_4 rfl <|
  r_aload_n (k := 0) dJ12_init_3_5 rfl <|
  r_putR (ci := 9) (q := (RX9, TX9, 6)) (k := 0) tyX9 tyX9_ok nmX9 dJ12_init_3_6 (by decide) rfl in_X9 (by decide) (Or.inl ⟨rfl, (Or.inl q887)⟩) rfl rfl <|
  r_aload_n (k := 0) dJ12_init_3_9 rfl <|
  r_getsQ (j := 0) (T := ("java/lang/Throwable", "UNASSIGNED_STACK", "[Ljava/lang/StackTraceElement;")) (by decide +kernel) q642 dJ12_init_3_10 <|
  r_putR (ci := 9) (q := (RX9, TX9, 6)) (k := 1) tyX9 tyX9_ok nmX9 dJ12_init_3_13 (by decide) rfl in_X9 (by decide) (Or.inl ⟨rfl, (Or.inl q888)⟩) rfl rfl <|
  r_aload_n (k := 0) dJ12_init_3_16 rfl <|
  r_getsQ (j := 1) (T := ("java/lang/Throwable", "SUPPRESSED_SENTINEL", "Ljava/util/List;")) (by decide +kernel) q644 dJ12_init_3_17 <|
  r_putR (ci := 9) (q := (RX9, TX9, 6)) (k := 2) tyX9 tyX9_ok nmX9 dJ12_init_3_20 (by decide) rfl in_X9 (by decide) (Or.inl ⟨rfl, (Or.inl q889)⟩) rfl rfl <|
  r_iload dJ12_init_3_23 <|
  r_if_eq (pt := 36) dJ12_init_3_25 (by decide)
  (r_aload_n (k := 0) dJ12_init_3_36 rfl <|
  r_null dJ12_init_3_37 <|
  r_putR (ci := 9) (q := (RX9, TX9, 6)) (k := 1) tyX9 tyX9_ok nmX9 dJ12_init_3_38 (by decide) rfl in_X9 (by decide) (Or.inl ⟨rfl, (Or.inl q888)⟩) rfl rfl <|
  r_aload_n (k := 0) dJ12_init_3_41 rfl <|
  r_aload_n (k := 1) dJ12_init_3_42 rfl <|
  r_putR (ci := 9) (q := (RX9, TX9, 6)) (k := 3) tyX9 tyX9_ok nmX9 dJ12_init_3_43 (by decide) rfl in_X9 (by decide) (Or.inl ⟨rfl, (Or.inl q886)⟩) rfl rfl <|
  r_aload_n (k := 0) dJ12_init_3_46 rfl <|
  r_aload_n (k := 2) dJ12_init_3_47 rfl <|
  r_putR (ci := 9) (q := (RX9, TX9, 6)) (k := 0) tyX9 tyX9_ok nmX9 dJ12_init_3_48 (by decide) rfl in_X9 (by decide) (Or.inl ⟨rfl, (Or.inl q887)⟩) rfl rfl <|
  r_iload_n (k := 3) dJ12_init_3_51 rfl <|
  r_if_ne (pt := 60) dJ12_init_3_52 (by decide)
  (r_vret rfl dJ12_init_3_60)
  (r_aload_n (k := 0) dJ12_init_3_55 rfl <|
  r_null dJ12_init_3_56 <|
  r_putR (ci := 9) (q := (RX9, TX9, 6)) (k := 2) tyX9 tyX9_ok nmX9 dJ12_init_3_57 (by decide) rfl in_X9 (by decide) (Or.inl ⟨rfl, (Or.inl q889)⟩) rfl rfl <|
  r_vret rfl dJ12_init_3_60))
  (r_aload_n (k := 0) dJ12_init_3_28 rfl <|
  r_bad)
-- java/lang/Exception.<init>(Ljava/lang/String;)V cuts [0]
def tJ13_init_0 (d : Nat) (Q : Outcome → MH → Prop) (J : Nat → KT) : KT :=
  i_aload 0 <|
  i_aload 1 <|
  i_call mJ12_init_2 d 2 pI (xOut Q) <|
  i_vret Q
theorem kJ13_init_0 {d : Nat} {Q : Outcome → MH → Prop} : ∀ ls st h, tJ13_init_0 d Q (fun pc ls st h => WPb mJ13_init d pc ls st h Q) ls st h → WPb mJ13_init d 0 ls st h Q :=
  r_aload_n (k := 0) dJ13_init_0 rfl <|
  r_aload_n (k := 1) dJ13_init_1 rfl <|
  r_cI (Z := mJ12_init_2) dJ13_init_2 rfl rfl rfl (by decide +kernel) ⟨by decide, by decide⟩ q882 q883 q138 q884 (XS.out (noH _)) <|
  r_vret rfl dJ13_init_5
-- java/lang/Exception.<init>(Ljava/lang/String;Ljava/lang/Throwable;ZZ)V cuts [0]
def tJ13_init_2_0 (d : Nat) (Q : Outcome → MH → Prop) (J : Nat → KT) : KT :=
  i_aload 0 <|
  i_aload 1 <|
  i_aload 2 <|
  i_iload 3 <|
  i_iload 4 <|
  i_call mJ12_init_3 d 5 pI (xOut Q) <|
  i_vret Q
theorem kJ13_init_2_0 {d : Nat} {Q : Outcome → MH → Prop} : ∀ ls st h, tJ13_init_2_0 d Q (fun pc ls st h => WPb mJ13_init_2 d pc ls st h Q) ls st h → WPb mJ13_init_2 d 0 ls st h Q :=
  r_aload_n (k := 0) dJ13_init_2_0 rfl <|
  r_aload_n (k := 1) dJ13_init_2_1 rfl <|
  r_aload_n (k := 2) dJ13_init_2_2 rfl <|
  r_iload_n (k := 3) dJ13_init_2_3 rfl <|
  r_iload dJ13_init_2_4 <|
  r_cI (Z := mJ12_init_3) dJ13_init_2_6 rfl rfl rfl (by decide +kernel) ⟨by decide, by decide⟩ q1191 q1192 q138 q1193 (XS.out (noH _)) <|
  r_vret rfl dJ13_init_2_9
-- java/lang/Exception.<init>()V cuts [0]
def tJ13_init_3_0 (d : Nat) (Q : Outcome → MH → Prop) (J : Nat → KT) : KT :=
  i_aload 0 <|
  i_call mJ12_init d 1 pI (xOut Q) <|
  i_vret Q
theorem kJ13_init_3_0 {d : Nat} {Q : Outcome → MH → Prop} : ∀ ls st h, tJ13_init_3_0 d Q (fun pc ls st h => WPb mJ13_init_3 d pc ls st h Q) ls st h → WPb mJ13_init_3 d 0 ls st h Q :=
  r_aload_n (k := 0) dJ13_init_3_0 rfl <|
  r_cI (Z := mJ12_init) dJ13_init_3_1 rfl rfl rfl (by decide +kernel) ⟨by decide, by decide⟩ q1367 q639 q138 q640 (XS.out (noH _)) <|
  r_vret rfl dJ13_init_3_4
-- java/lang/RuntimeException.<init>(Ljava/lang/String;)V cuts [0]
def tJ14_init_0 (d : Nat) (Q : Outcome → MH → Prop) (J : Nat → KT) : KT :=
  i_aload 0 <|
  i_aload 1 <|
  i_call mJ13_init d 2 pI (xOut Q) <|
  i_vret Q
theorem kJ14_init_0 {d : Nat} {Q : Outcome → MH → Prop} : ∀ ls st h, tJ14_init_0 d Q (fun pc ls st h => WPb mJ14_init d pc ls st h Q) ls st h → WPb mJ14_init d 0 ls st h Q :=
  r_aload_n (k := 0) dJ14_init_0 rfl <|
  r_aload_n (k := 1) dJ14_init_1 rfl <|
  r_cI (Z := mJ13_init) dJ14_init_2 rfl rfl rfl (by decide +kernel) ⟨by decide, by decide⟩ q879 q880 q139 q881 (XS.out (noH _)) <|
  r_vret rfl dJ14_init_5
-- java/lang/RuntimeException.<init>()V cuts [0]
def tJ14_init_2_0 (d : Nat) (Q : Outcome → MH → Prop) (J : Nat → KT) : KT :=
  i_aload 0 <|
  i_call mJ13_init_3 d 1 pI (xOut Q) <|
  i_vret Q
theorem kJ14_init_2_0 {d : Nat} {Q : Outcome → MH → Prop} : ∀ ls st h, tJ14_init_2_0 d Q (fun pc ls st h => WPb mJ14_init_2 d pc ls st h Q) ls st h → WPb mJ14_init_2 d 0 ls st h Q :=
  r_aload_n (k := 0) dJ14_init_2_0 rfl <|
  r_cI (Z := mJ13_init_3) dJ14_init_2_1 rfl rfl rfl (by decide +kernel) ⟨by decide, by decide⟩ q1364 q1365 q139 q1366 (XS.out (noH _)) <|
  r_vret rfl dJ14_init_2_4
-- java/lang/IllegalArgumentException.<init>(Ljava/lang/String;)V cuts [0]
def tJ15_init_0 (d : Nat) (Q : Outcome → MH → Prop) (J : Nat → KT) : KT :=
  i_aload 0 <|
  i_aload 1 <|
  i_call mJ14_init d 2 pI (xOut Q) <|
  i_vret Q
theorem kJ15_init_0 {d : Nat} {Q : Outcome → MH → Prop} : ∀ ls st h, tJ15_init_0 d Q (fun pc ls st h => WPb mJ15_init d pc ls st h Q) ls st h → WPb mJ15_init d 0 ls st h Q :=
  r_aload_n (k := 0) dJ15_init_0 rfl <|
  r_aload_n (k := 1) dJ15_init_1 rfl <|
  r_cI (Z := mJ14_init) dJ15_init_2 rfl rfl rfl (by decide +kernel) ⟨by decide, by decide⟩ q876 q877 q140 q878 (XS.out (noH _)) <|
  r_vret rfl dJ15_init_5
-- java/lang/IllegalArgumentException.<init>()V cuts [0]
def tJ15_init_2_0 (d : Nat) (Q : Outcome → MH → Prop) (J : Nat → KT) : KT :=
  i_aload 0 <|
  i_call mJ14_init_2 d 1 pI (xOut Q) <|
  i_vret Q
theorem kJ15_init_2_0 {d : Nat} {Q : Outcome → MH → Prop} : ∀ ls st h, tJ15_init_2_0 d Q (fun pc ls st h => WPb mJ15_init_2 d pc ls st h Q) ls st h → WPb mJ15_init_2 d 0 ls st h Q :=
  r_aload_n (k := 0) dJ15_init_2_0 rfl <|
  r_cI (Z := mJ14_init_2) dJ15_init_2_1 rfl rfl rfl (by decide +kernel) ⟨by decide, by decide⟩ q1361 q1362 q140 q1363 (XS.out (noH _)) <|
  r_vret rfl dJ15_init_2_4
-- java/lang/Integer.bitCount(I)I cuts [0]
def tJ16_bitCount_0 (d : Nat) (Q : Outcome → MH → Prop) (J : Nat → KT) : KT :=
  i_iload 0 <|
  i_iload 0 <|
  i_const 1 <|
  i_iushr <|
  i_const 1431655765 <|
  i_iand <|
  i_isub <|
  i_istore 0 <|
  i_iload 0 <|
  i_const 858993459 <|
  i_iand <|
  i_iload 0 <|
  i_const 2 <|
  i_iushr <|
  i_const 858993459 <|
  i_iand <|
  i_iadd <|
  i_istore 0 <|
  i_iload 0 <|
  i_iload 0 <|
  i_const 4 <|
  i_iushr <|
  i_iadd <|
  i_const 252645135 <|
  i_iand <|
  i_istore 0 <|
  i_iload 0 <|
  i_iload 0 <|
  i_const 8 <|
  i_iushr <|
  i_iadd <|
  i_istore 0 <|
  i_iload 0 <|
  i_iload 0 <|
  i_const 16 <|
  i_iushr <|
  i_iadd <|
  i_istore 0 <|
  i_iload 0 <|
  i_const 63 <|
  i_iand <|
  i_ret Q (some .int)
theorem kJ16_bitCount_0 {d : Nat} {Q : Outcome → MH → Prop} : ∀ ls st h, tJ16_bitCount_0 d Q (fun pc ls st h => WPb mJ16_bitCount d pc ls st h Q) ls st h → WPb mJ16_bitCount d 0 ls st h Q :=
  r_iload_n (k := 0) dJ16_bitCount_0 rfl <|
  r_iload_n (k := 0) dJ16_bitCount_1 rfl <|
  r_iconst (v := 1) dJ16_bitCount_2 rfl <|
  r_iushr dJ16_bitCount_3 <|
  r_ldcw (v := 1431655765) dJ16_bitCount_4 q597 <|
  r_iand dJ16_bitCount_7 <|
  r_isub dJ16_bitCount_8 <|
  r_istore_n (k := 0) dJ16_bitCount_9 rfl <|
  r_iload_n (k := 0) dJ16_bitCount_10 rfl <|
  r_ldcw (v := 858993459) dJ16_bitCount_11 q598 <|
  r_iand dJ16_bitCount_14 <|
  r_iload_n (k := 0) dJ16_bitCount_15 rfl <|
  r_iconst (v := 2) dJ16_bitCount_16 rfl <|
  r_iushr dJ16_bitCount_17 <|
  r_ldcw (v := 858993459) dJ16_bitCount_18 q598 <|
  r_iand dJ16_bitCount_21 <|
  r_iadd dJ16_bitCount_22 <|
  r_istore_n (k := 0) dJ16_bitCount_23 rfl <|
  r_iload_n (k := 0) dJ16_bitCount_24 rfl <|
  r_iload_n (k := 0) dJ16_bitCount_25 rfl <|
  r_iconst (v := 4) dJ16_bitCount_26 rfl <|
  r_iushr dJ16_bitCount_27 <|
  r_iadd dJ16_bitCount_28 <|
  r_ldcw (v := 252645135) dJ16_bitCount_29 q599 <|
  r_iand dJ16_bitCount_32 <|
  r_istore_n (k := 0) dJ16_bitCount_33 rfl <|
  r_iload_n (k := 0) dJ16_bitCount_34 rfl <|
  r_iload_n (k := 0) dJ16_bitCount_35 rfl <|
  r_bipush (v := 8) dJ16_bitCount_36 rfl <|
  r_iushr dJ16_bitCount_38 <|
  r_iadd dJ16_bitCount_39 <|
  r_istore_n (k := 0) dJ16_bitCount_40 rfl <|
  r_iload_n (k := 0) dJ16_bitCount_41 rfl <|
  r_iload_n (k := 0) dJ16_bitCount_42 rfl <|
  r_bipush (v := 16) dJ16_bitCount_43 rfl <|
  r_iushr dJ16_bitCount_45 <|
  r_iadd dJ16_bitCount_46 <|
  r_istore_n (k := 0) dJ16_bitCount_47 rfl <|
  r_iload_n (k := 0) dJ16_bitCount_48 rfl <|
  r_bipush (v := 63) dJ16_bitCount_49 rfl <|
  r_iand dJ16_bitCount_51 <|
  r_ret rfl (Or.inl ⟨dJ16_bitCount_52, Or.inl rfl⟩)
-- java/lang/Integer.stringSize(I)I cuts [0, 16]
def tJ16_stringSize_0 (d : Nat) (Q : Outcome → MH → Prop) (J : Nat → KT) : KT :=
  i_const 1 <|
  i_istore 1 <|
  i_iload 0 <|
  i_if_lt
  (i_const (-10) <|
  i_istore 2 <|
  i_const 1 <|
  i_istore 3 <|
  (J 16))
  (i_const 0 <|
  i_istore 1 <|
  i_iload 0 <|
  i_ineg <|
  i_istore 0 <|
  i_const (-10) <|
  i_istore 2 <|
  i_const 1 <|
  i_istore 3 <|
  (J 16))
theorem kJ16_stringSize_0 {d : Nat} {Q : Outcome → MH → Prop} : ∀ ls st h, tJ16_stringSize_0 d Q (fun pc ls st h => WPb mJ16_stringSize d pc ls st h Q) ls st h → WPb mJ16_stringSize d 0 ls st h Q :=
  r_iconst (v := 1) dJ16_stringSize_0 rfl <|
  r_istore_n (k := 1) dJ16_stringSize_1 rfl <|
  r_iload_n (k := 0) dJ16_stringSize_2 rfl <|
  r_if_lt (pt := 11) dJ16_stringSize_3 (by decide)
  (r_bipush (v := (-10)) dJ16_stringSize_11 rfl <|
  r_istore_n (k := 2) dJ16_stringSize_13 rfl <|
  r_iconst (v := 1) dJ16_stringSize_14 rfl <|
  r_istore_n (k := 3) dJ16_stringSize_15 rfl <|
  (fun _ _ _ H => H))
  (r_iconst (v := 0) dJ16_stringSize_6 rfl <|
  r_istore_n (k := 1) dJ16_stringSize_7 rfl <|
  r_iload_n (k := 0) dJ16_stringSize_8 rfl <|
  r_ineg dJ16_stringSize_9 <|
  r_istore_n (k := 0) dJ16_stringSize_10 rfl <|
  r_bipush (v := (-10)) dJ16_stringSize_11 rfl <|
  r_istore_n (k := 2) dJ16_stringSize_13 rfl <|
  r_iconst (v := 1) dJ16_stringSize_14 rfl <|
  r_istore_n (k := 3) dJ16_stringSize_15 rfl <|
  (fun _ _ _ H => H))
def tJ16_stringSize_16 (d : Nat) (Q : Outcome → MH → Prop) (J : Nat → KT) : KT :=
  i_iload 3 <|
  i_const 10 <|
  i_icmp_ge
  (i_const 10 <|
  i_iload 1 <|
  i_iadd <|
  i_ret Q (some .int))
  (i_iload 0 <|
  i_iload 2 <|
  i_icmp_le
  (i_const 10 <|
  i_iload 2 <|
  i_imul <|
  i_istore 2 <|
  i_iinc 3 1 <|
  (J 16))
  (i_iload 3 <|
  i_iload 1 <|
  i_iadd <|
  i_ret Q (some .int)))
theorem kJ16_stringSize_16 {d : Nat} {Q : Outcome → MH → Prop} : ∀ ls st h, tJ16_stringSize_16 d Q (fun pc ls st h => WPb mJ16_stringSize d pc ls st h Q) ls st h → WPb mJ16_stringSize d 16 ls st h Q :=
  r_iload_n (k := 3) dJ16_stringSize_16 rfl <|
  r_bipush (v := 10) dJ16_stringSize_17 rfl <|
  r_icmp_ge (pt := 42) dJ16_stringSize_19 (by decide)
  (r_bipush (v := 10) dJ16_stringSize_42 rfl <|
  r_iload_n (k := 1) dJ16_stringSize_44 rfl <|
  r_iadd dJ16_stringSize_45 <|
  r_ret rfl (Or.inl ⟨dJ16_stringSize_46, Or.inl rfl⟩))
  (r_iload_n (k := 0) dJ16_stringSize_22 rfl <|
  r_iload_n (k := 2) dJ16_stringSize_23 rfl <|
  r_icmp_le (pt := 31) dJ16_stringSize_24 (by decide)
  (r_bipush (v := 10) dJ16_stringSize_31 rfl <|
  r_iload_n (k := 2) dJ16_stringSize_33 rfl <|
  r_imul dJ16_stringSize_34 <|
  r_istore_n (k := 2) dJ16_stringSize_35 rfl <|
  r_iinc (v := 1) dJ16_stringSize_36 rfl <|
  r_goto (pt := 16) dJ16_stringSize_39 (by decide) <|
  (fun _ _ _ H => H))
  (r_iload_n (k := 3) dJ16_stringSize_27 rfl <|
  r_iload_n (k := 1) dJ16_stringSize_28 rfl <|
  r_iadd dJ16_stringSize_29 <|
  r_ret rfl (Or.inl ⟨dJ16_stringSize_30, Or.inl rfl⟩)))
-- java/lang/Integer.getChars(II[B)I cuts [0, 22] NOT WALKED: [(78, 'getstatic java/lang/Integer.DigitOnes'), (49, 'getstatic java/lang/Integer.DigitOnes')]
def tJ16_getChars_0 (d : Nat) (Q : Outcome → MH → Prop) (J : Nat → KT) : KT :=
  i_iload 1 <|
  i_istore 5 <|
  i_iload 0 <|
  i_if_ge
  (i_const 0 <|
  i_istore 6 <|
  i_iload 6 <|
  i_if_ne
  ((J 22))
  (i_iload 0 <|
  i_ineg <|
  i_istore 0 <|
  (J 22)))
  (i_const 1 <|
  i_istore 6 <|
  i_iload 6 <|
  i_if_ne
  ((J 22))
  (i_iload 0 <|
  i_ineg <|
  i_istore 0 <|
  (J 22)))
theorem kJ16_getChars_0 {d : Nat} {Q : Outcome → MH → Prop} : ∀ ls st h, tJ16_getChars_0 d Q (fun pc ls st h => WPb mJ16_getChars d pc ls st h Q) ls st h → WPb mJ16_getChars d 0 ls st h Q :=
  r_iload_n (k := 1) dJ16_getChars_0 rfl <|
  r_istore dJ16_getChars_1 <|
  r_iload_n (k := 0) dJ16_getChars_3 rfl <|
  r_if_ge (pt := 11) dJ16_getChars_4 (by decide)
  (r_iconst (v := 0) dJ16_getChars_11 rfl <|
  r_istore dJ16_getChars_12 <|
  r_iload dJ16_getChars_14 <|
  r_if_ne (pt := 22) dJ16_getChars_16 (by decide)
  ((fun _ _ _ H => H))
  (r_iload_n (k := 0) dJ16_getChars_19 rfl <|
  r_ineg dJ16_getChars_20 <|
  r_istore_n (k := 0) dJ16_getChars_21 rfl <|
  (fun _ _ _ H => H)))
  (r_iconst (v := 1) dJ16_getChars_7 rfl <|
  r_goto (pt := 12) dJ16_getChars_8 (by decide) <|
  r_istore dJ16_getChars_12 <|
  r_iload dJ16_getChars_14 <|
  r_if_ne (pt := 22) dJ16_getChars_16 (by decide)
  ((fun _ _ _ H => H))
  (r_iload_n (k := 0) dJ16_getChars_19 rfl <|
  r_ineg dJ16_getChars_20 <|
  r_istore_n (k := 0) dJ16_getChars_21 rfl <|
  (fun _ _ _ H => H)))
def tJ16_getChars_22 (d : Nat) (Q : Outcome → MH → Prop) (J : Nat → KT) : KT :=
  i_iload 0 <|
  i_const (-100) <|
  i_icmp_gt
  (i_aload 2 <|
  i_iinc 5 (-1) <|
  i_iload 5 <|
  i_bad)
  (i_iload 0 <|
  i_const 100 <|
  i_idiv <|
  i_istore 3 <|
  i_iload 3 <|
  i_const 100 <|
  i_imul <|
  i_iload 0 <|
  i_isub <|
  i_istore 4 <|
  i_iload 3 <|
  i_istore 0 <|
  i_aload 2 <|
  i_iinc 5 (-1) <|
  i_iload 5 <|
  i_bad)
theorem kJ16_getChars_22 {d : Nat} {Q : Outcome → MH → Prop} : ∀ ls st h, tJ16_getChars_22 d Q (fun pc ls st h => WPb mJ16_getChars d pc ls st h Q) ls st h → WPb mJ16_getChars d 22 ls st h Q :=
  r_iload_n (k := 0) dJ16_getChars_22 rfl <|
  r_bipush (v := (-100)) dJ16_getChars_23 rfl <|
  r_icmp_gt (pt := 72) dJ16_getChars_25 (by decide)
  (r_aload_n (k := 2) dJ16_getChars_72 rfl <|
  r_iinc (v := (-1)) dJ16_getChars_73 rfl <|
  r_iload dJ16_getChars_76 <|
  r_bad)
  (r_iload_n (k := 0) dJ16_getChars_28 rfl <|
  r_bipush (v := 100) dJ16_getChars_29 rfl <|
  r_idiv dJ16_getChars_31 <|
  r_istore_n (k := 3) dJ16_getChars_32 rfl <|
  r_iload_n (k := 3) dJ16_getChars_33 rfl <|
  r_bipush (v := 100) dJ16_getChars_34 rfl <|
  r_imul dJ16_getChars_36 <|
  r_iload_n (k := 0) dJ16_getChars_37 rfl <|
  r_isub dJ16_getChars_38 <|
  r_istore dJ16_getChars_39 <|
  r_iload_n (k := 3) dJ16_getChars_41 rfl <|
  r_istore_n (k := 0) dJ16_getChars_42 rfl <|
  r_aload_n (k := 2) dJ16_getChars_43 rfl <|
  r_iinc (v := (-1)) dJ16_getChars_44 rfl <|
  r_iload dJ16_getChars_47 <|
  r_bad)
-- java/lang/Integer.signum(I)I cuts [0]
def tJ16_signum_0 (d : Nat) (Q : Outcome → MH → Prop) (J : Nat → KT) : KT :=
  i_iload 0 <|
  i_const 31 <|
  i_ishr <|
  i_iload 0 <|
  i_ineg <|
  i_const 31 <|
  i_iushr <|
  i_ior <|
  i_ret Q (some .int)
theorem kJ16_signum_0 {d : Nat} {Q : Outcome → MH → Prop} : ∀ ls st h, tJ16_signum_0 d Q (fun pc ls st h => WPb mJ16_signum d pc ls st h Q) ls st h → WPb mJ16_signum d 0 ls st h Q :=
  r_iload_n (k := 0) dJ16_signum_0 rfl <|
  r_bipush (v := 31) dJ16_signum_1 rfl <|
  r_ishr dJ16_signum_3 <|
  r_iload_n (k := 0) dJ16_signum_4 rfl <|
  r_ineg dJ16_signum_5 <|
  r_bipush (v := 31) dJ16_signum_6 rfl <|
  r_iushr dJ16_signum_8 <|
  r_ior dJ16_signum_9 <|
  r_ret rfl (Or.inl ⟨dJ16_signum_10, Or.inl rfl⟩)
-- java/lang/Enum.ordinal()I cuts [0] NOT WALKED: [(1, 'enum field')]
def tJ17_ordinal_0 (d : Nat) (Q : Outcome → MH → Prop) (J : Nat → KT) : KT :=
  i_aload 0 <|
  i_bad
theorem kJ17_ordinal_0 {d : Nat} {Q : Outcome → MH → Prop} : ∀ ls st h, tJ17_ordinal_0 d Q (fun pc ls st h => WPb mJ17_ordinal d pc ls st h Q) ls st h → WPb mJ17_ordinal d 0 ls st h Q :=
  r_aload_n (k := 0) dJ17_ordinal_0 rfl <|
  r_bad
-- java/lang/UnsupportedOperationException.<init>()V cuts [0]
def tJ18_init_0 (d : Nat) (Q : Outcome → MH → Prop) (J : Nat → KT) : KT :=
  i_aload 0 <|
  i_call mJ14_init_2 d 1 pI (xOut Q) <|
  i_vret Q
theorem kJ18_init_0 {d : Nat} {Q : Outcome → MH → Prop} : ∀ ls st h, tJ18_init_0 d Q (fun pc ls st h => WPb mJ18_init d pc ls st h Q) ls st h → WPb mJ18_init d 0 ls st h Q :=
  r_aload_n (k := 0) dJ18_init_0 rfl <|
  r_cI (Z := mJ14_init_2) dJ18_init_1 rfl rfl rfl (by decide +kernel) ⟨by decide, by decide⟩ q1380 q1362 q140 q1363 (XS.out (noH _)) <|
  r_vret rfl dJ18_init_4
-- java/lang/IndexOutOfBoundsException.<init>(Ljava/lang/String;)V cuts [0]
def tJ19_init_0 (d : Nat) (Q : Outcome → MH → Prop) (J : Nat → KT) : KT :=
  i_aload 0 <|
  i_aload 1 <|
  i_call mJ14_init d 2 pI (xOut Q) <|
  i_vret Q
theorem kJ19_init_0 {d : Nat} {Q : Outcome → MH → Prop} : ∀ ls st h, tJ19_init_0 d Q (fun pc ls st h => WPb mJ19_init d pc ls st h Q) ls st h → WPb mJ19_init d 0 ls st h Q :=
  r_aload_n (k := 0) dJ19_init_0 rfl <|
  r_aload_n (k := 1) dJ19_init_1 rfl <|
  r_cI (Z := mJ14_init) dJ19_init_2 rfl rfl rfl (by decide +kernel) ⟨by decide, by decide⟩ q947 q877 q140 q878 (XS.out (noH _)) <|
  r_vret rfl dJ19_init_5
-- java/lang/IndexOutOfBoundsException.<init>()V cuts [0]
def tJ19_init_2_0 (d : Nat) (Q : Outcome → MH → Prop) (J : Nat → KT) : KT :=
  i_aload 0 <|
  i_call mJ14_init_2 d 1 pI (xOut Q) <|
  i_vret Q
theorem kJ19_init_2_0 {d : Nat} {Q : Outcome → MH → Prop} : ∀ ls st h, tJ19_init_2_0 d Q (fun pc ls st h => WPb mJ19_init_2 d pc ls st h Q) ls st h → WPb mJ19_init_2 d 0 ls st h Q :=
  r_aload_n (k := 0) dJ19_init_2_0 rfl <|
  r_cI (Z := mJ14_init_2) dJ19_init_2_1 rfl rfl rfl (by decide +kernel) ⟨by decide, by decide⟩ q1650 q1362 q140 q1363 (XS.out (noH _)) <|
  r_vret rfl dJ19_init_2_4
-- java/util/ArrayList.<init>()V cuts [0]
def tJ2_init_0 (d : Nat) (Q : Outcome → MH → Prop) (J : Nat → KT) : KT :=
  i_aload 0 <|
  i_call mJ1_init d 1 pI (xOut Q) <|
  i_aload 0 <|
  i_sref 18 <|
  i_putR 22 1 <|
  i_vret Q
theorem kJ2_init_0 {d : Nat} {Q : Outcome → MH → Prop} : ∀ ls st h, tJ2_init_0 d Q (fun pc ls st h => WPb mJ2_init d pc ls st h Q) ls st h → WPb mJ2_init d 0 ls st h Q :=
  r_aload_n (k := 0) dJ2_init_0 rfl <|
  r_cI (Z := mJ1_init) dJ2_init_1 rfl rfl rfl (by decide +kernel) ⟨by decide, by decide⟩ q389 q390 q122 q391 (XS.out (noH _)) <|
  r_aload_n (k := 0) dJ2_init_4 rfl <|
  r_getsR (a := 18) (T := ("java/util/ArrayList", "DEFAULTCAPACITY_EMPTY_ELEMENTDATA", "[Ljava/lang/Object;")) (by decide +kernel) (by decide) q396 dJ2_init_5 <|
  r_putR (ci := 22) (q := (RJ2, TJ2, 3)) (k := 1) tyJ2 tyJ2_ok nmJ2 dJ2_init_8 (by decide) rfl in_J2 (by decide) (Or.inl ⟨rfl, (Or.inl q398)⟩) rfl rfl <|
  r_vret rfl dJ2_init_11
-- java/util/ArrayList.isEmpty()Z cuts [0]
def tJ2_isEmpty_0 (d : Nat) (Q : Outcome → MH → Prop) (J : Nat → KT) : KT :=
  i_aload 0 <|
  i_getI 22 2 <|
  i_if_ne
  (i_const 0 <|
  i_ret Q (some .boolean))
  (i_const 1 <|
  i_ret Q (some .boolean))
theorem kJ2_isEmpty_0 {d : Nat} {Q : Outcome → MH → Prop} : ∀ ls st h, tJ2_isEmpty_0 d Q (fun pc ls st h => WPb mJ2_isEmpty d pc ls st h Q) ls st h → WPb mJ2_isEmpty d 0 ls st h Q :=
  r_aload_n (k := 0) dJ2_isEmpty_0 rfl <|
  r_getI (ci := 22) (q := (RJ2, TJ2, 3)) (k := 2) dJ2_isEmpty_1 (by decide) rfl in_J2 (by decide) (Or.inl q399) rfl <|
  r_if_ne (pt := 11) dJ2_isEmpty_4 (by decide)
  (r_iconst (v := 0) dJ2_isEmpty_11 rfl <|
  r_ret rfl (Or.inl ⟨dJ2_isEmpty_12, Or.inr (Or.inl rfl)⟩))
  (r_iconst (v := 1) dJ2_isEmpty_7 rfl <|
  r_goto (pt := 12) dJ2_isEmpty_8 (by decide) <|
  r_ret rfl (Or.inl ⟨dJ2_isEmpty_12, Or.inr (Or.inl rfl)⟩))
-- java/util/ArrayList.size()I cuts [0]
def tJ2_size_0 (d : Nat) (Q : Outcome → MH → Prop) (J : Nat → KT) : KT :=
  i_aload 0 <|
  i_getI 22 2 <|
  i_ret Q (some .int)
theorem kJ2_size_0 {d : Nat} {Q : Outcome → MH → Prop} : ∀ ls st h, tJ2_size_0 d Q (fun pc ls st h => WPb mJ2_size d pc ls st h Q) ls st h → WPb mJ2_size d 0 ls st h Q :=
  r_aload_n (k := 0) dJ2_size_0 rfl <|
  r_getI (ci := 22) (q := (RJ2, TJ2, 3)) (k := 2) dJ2_size_1 (by decide) rfl in_J2 (by decide) (Or.inl q399) rfl <|
  r_ret rfl (Or.inl ⟨dJ2_size_4, Or.inl rfl⟩)
-- java/util/ArrayList.remove(I)Ljava/lang/Object; cuts [0]
def tJ2_remove_0 (d : Nat) (Q : Outcome → MH → Prop) (J : Nat → KT) : KT :=
  i_iload 1 <|
  i_aload 0 <|
  i_getI 22 2 <|
  i_call mJ22_checkIndex d 2 pS (xOut Q) <|
  i_pop <|
  i_aload 0 <|
  i_getR 22 1 <|
  i_astore 2 <|
  i_aload 2 <|
  i_iload 1 <|
  i_aald 4 <|
  i_astore 3 <|
  i_aload 0 <|
  i_aload 2 <|
  i_iload 1 <|
  i_call mJ2_fastRemove d 3 (pV 22) (xOut Q) <|
  i_aload 3 <|
  i_ret Q (some (.object "java/lang/Object"))
theorem kJ2_remove_0 {d : Nat} {Q : Outcome → MH → Prop} : ∀ ls st h, tJ2_remove_0 d Q (fun pc ls st h => WPb mJ2_remove d pc ls st h Q) ls st h → WPb mJ2_remove d 0 ls st h Q :=
  r_iload_n (k := 1) dJ2_remove_0 rfl <|
  r_aload_n (k := 0) dJ2_remove_1 rfl <|
  r_getI (ci := 22) (q := (RJ2, TJ2, 3)) (k := 2) dJ2_remove_2 (by decide) rfl in_J2 (by decide) (Or.inl q399) rfl <|
  r_cS (Z := mJ22_checkIndex) dJ2_remove_5 rfl (by decide +kernel) ⟨by decide, by decide⟩ q1071 q1072 q160 q1073 (XS.out (noH _)) <|
  r_pop dJ2_remove_8 <|
  r_aload_n (k := 0) dJ2_remove_9 rfl <|
  r_getR (ci := 22) (q := (RJ2, TJ2, 3)) (k := 1) dJ2_remove_10 (by decide) rfl in_J2 (by decide) (Or.inl q398) rfl <|
  r_astore_n (k := 2) dJ2_remove_13 rfl <|
  r_aload_n (k := 2) dJ2_remove_14 rfl <|
  r_iload_n (k := 1) dJ2_remove_15 rfl <|
  r_aald (t := 4) (E := "java/lang/Object") (by decide) rfl dJ2_remove_16 <|
  r_astore_n (k := 3) dJ2_remove_17 rfl <|
  r_aload_n (k := 0) dJ2_remove_18 rfl <|
  r_aload_n (k := 2) dJ2_remove_19 rfl <|
  r_iload_n (k := 1) dJ2_remove_20 rfl <|
  r_cV (Z := mJ2_fastRemove) (ci := 22) (q := (RJ2, TJ2, 3)) dJ2_remove_21 rfl (by decide +kernel) ⟨by decide, by decide⟩ (by decide) rfl rfl q1077 q1079 qs9 q123 q1080 (XS.out (noH _)) <|
  r_aload_n (k := 3) dJ2_remove_24 rfl <|
  r_ret rfl (Or.inr (Or.inr ⟨dJ2_remove_25, Or.inl ⟨_, rfl⟩⟩))
-- java/util/ArrayList.fastRemove([Ljava/lang/Object;I)V cuts [0]
def tJ2_fastRemove_0 (d : Nat) (Q : Outcome → MH → Prop) (J : Nat → KT) : KT :=
  i_aload 0 <|
  i_dup <|
  i_getI 22 0 <|
  i_const 1 <|
  i_iadd <|
  i_putI 22 0 .int <|
  i_aload 0 <|
  i_getI 22 2 <|
  i_const 1 <|
  i_isub <|
  i_dup <|
  i_istore 3 <|
  i_iload 2 <|
  i_icmp_le
  (i_aload 1 <|
  i_aload 0 <|
  i_iload 3 <|
  i_dup_x1 <|
  i_putI 22 2 .int <|
  i_null <|
  i_aast <|
  i_vret Q)
  (i_aload 1 <|
  i_iload 2 <|
  i_const 1 <|
  i_iadd <|
  i_aload 1 <|
  i_iload 2 <|
  i_iload 3 <|
  i_iload 2 <|
  i_isub <|
  i_cpyR d <|
  i_aload 1 <|
  i_aload 0 <|
  i_iload 3 <|
  i_dup_x1 <|
  i_putI 22 2 .int <|
  i_null <|
  i_aast <|
  i_vret Q)
theorem kJ2_fastRemove_0 {d : Nat} {Q : Outcome → MH → Prop} : ∀ ls st h, tJ2_fastRemove_0 d Q (fun pc ls st h => WPb mJ2_fastRemove d pc ls st h Q) ls st h → WPb mJ2_fastRemove d 0 ls st h Q :=
  r_aload_n (k := 0) dJ2_fastRemove_0 rfl <|
  r_dup dJ2_fastRemove_1 <|
  r_getI (ci := 22) (q := (RJ2, TJ2, 3)) (k := 0) dJ2_fastRemove_2 (by decide) rfl in_J2 (by decide) (Or.inr (Or.inr ⟨_, q401, q402⟩)) rfl <|
  r_iconst (v := 1) dJ2_fastRemove_5 rfl <|
  r_iadd dJ2_fastRemove_6 <|
  r_putI (ci := 22) (q := (RJ2, TJ2, 3)) (k := 0) tyJ2 tyJ2_ok nmJ2 dJ2_fastRemove_7 (by decide) rfl in_J2 (by decide) (Or.inl ⟨rfl, (Or.inr (Or.inr ⟨_, q401, q402⟩))⟩) rfl rfl <|
  r_aload_n (k := 0) dJ2_fastRemove_10 rfl <|
  r_getI (ci := 22) (q := (RJ2, TJ2, 3)) (k := 2) dJ2_fastRemove_11 (by decide) rfl in_J2 (by decide) (Or.inl q399) rfl <|
  r_iconst (v := 1) dJ2_fastRemove_14 rfl <|
  r_isub dJ2_fastRemove_15 <|
  r_dup dJ2_fastRemove_16 <|
  r_istore_n (k := 3) dJ2_fastRemove_17 rfl <|
  r_iload_n (k := 2) dJ2_fastRemove_18 rfl <|
  r_icmp_le (pt := 34) dJ2_fastRemove_19 (by decide)
  (r_aload_n (k := 1) dJ2_fastRemove_34 rfl <|
  r_aload_n (k := 0) dJ2_fastRemove_35 rfl <|
  r_iload_n (k := 3) dJ2_fastRemove_36 rfl <|
  r_dup_x1 dJ2_fastRemove_37 <|
  r_putI (ci := 22) (q := (RJ2, TJ2, 3)) (k := 2) tyJ2 tyJ2_ok nmJ2 dJ2_fastRemove_38 (by decide) rfl in_J2 (by decide) (Or.inl ⟨rfl, (Or.inl q399)⟩) rfl rfl <|
  r_null dJ2_fastRemove_41 <|
  r_aast dJ2_fastRemove_42 <|
  r_vret rfl dJ2_fastRemove_43)
  (r_aload_n (k := 1) dJ2_fastRemove_22 rfl <|
  r_iload_n (k := 2) dJ2_fastRemove_23 rfl <|
  r_iconst (v := 1) dJ2_fastRemove_24 rfl <|
  r_iadd dJ2_fastRemove_25 <|
  r_aload_n (k := 1) dJ2_fastRemove_26 rfl <|
  r_iload_n (k := 2) dJ2_fastRemove_27 rfl <|
  r_iload_n (k := 3) dJ2_fastRemove_28 rfl <|
  r_iload_n (k := 2) dJ2_fastRemove_29 rfl <|
  r_isub dJ2_fastRemove_30 <|
  r_cpyR q1081 q734 q733 q128 dJ2_fastRemove_31 <|
  r_aload_n (k := 1) dJ2_fastRemove_34 rfl <|
  r_aload_n (k := 0) dJ2_fastRemove_35 rfl <|
  r_iload_n (k := 3) dJ2_fastRemove_36 rfl <|
  r_dup_x1 dJ2_fastRemove_37 <|
  r_putI (ci := 22) (q := (RJ2, TJ2, 3)) (k := 2) tyJ2 tyJ2_ok nmJ2 dJ2_fastRemove_38 (by decide) rfl in_J2 (by decide) (Or.inl ⟨rfl, (Or.inl q399)⟩) rfl rfl <|
  r_null dJ2_fastRemove_41 <|
  r_aast dJ2_fastRemove_42 <|
  r_vret rfl dJ2_fastRemove_43)
-- java/util/ArrayList.clear()V cuts [0, 27]
def tJ2_clear_0 (d : Nat) (Q : Outcome → MH → Prop) (J : Nat → KT) : KT :=
  i_aload 0 <|
  i_dup <|
  i_getI 22 0 <|
  i_const 1 <|
  i_iadd <|
  i_putI 22 0 .int <|
  i_aload 0 <|
  i_getR 22 1 <|
  i_astore 1 <|
  i_aload 0 <|
  i_getI 22 2 <|
  i_istore 2 <|
  i_aload 0 <|
  i_const 0 <|
  i_dup_x1 <|
  i_putI 22 2 .int <|
  i_istore 3 <|
  (J 27)
theorem kJ2_clear_0 {d : Nat} {Q : Outcome → MH → Prop} : ∀ ls st h, tJ2_clear_0 d Q (fun pc ls st h => WPb mJ2_clear d pc ls st h Q) ls st h → WPb mJ2_clear d 0 ls st h Q :=
  r_aload_n (k := 0) dJ2_clear_0 rfl <|
  r_dup dJ2_clear_1 <|
  r_getI (ci := 22) (q := (RJ2, TJ2, 3)) (k := 0) dJ2_clear_2 (by decide) rfl in_J2 (by decide) (Or.inr (Or.inr ⟨_, q401, q402⟩)) rfl <|
  r_iconst (v := 1) dJ2_clear_5 rfl <|
  r_iadd dJ2_clear_6 <|
  r_putI (ci := 22) (q := (RJ2, TJ2, 3)) (k := 0) tyJ2 tyJ2_ok nmJ2 dJ2_clear_7 (by decide) rfl in_J2 (by decide) (Or.inl ⟨rfl, (Or.inr (Or.inr ⟨_, q401, q402⟩))⟩) rfl rfl <|
  r_aload_n (k := 0) dJ2_clear_10 rfl <|
  r_getR (ci := 22) (q := (RJ2, TJ2, 3)) (k := 1) dJ2_clear_11 (by decide) rfl in_J2 (by decide) (Or.inl q398) rfl <|
  r_astore_n (k := 1) dJ2_clear_14 rfl <|
  r_aload_n (k := 0) dJ2_clear_15 rfl <|
  r_getI (ci := 22) (q := (RJ2, TJ2, 3)) (k := 2) dJ2_clear_16 (by decide) rfl in_J2 (by decide) (Or.inl q399) rfl <|
  r_istore_n (k := 2) dJ2_clear_19 rfl <|
  r_aload_n (k := 0) dJ2_clear_20 rfl <|
  r_iconst (v := 0) dJ2_clear_21 rfl <|
  r_dup_x1 dJ2_clear_22 <|
  r_putI (ci := 22) (q := (RJ2, TJ2, 3)) (k := 2) tyJ2 tyJ2_ok nmJ2 dJ2_clear_23 (by decide) rfl in_J2 (by decide) (Or.inl ⟨rfl, (Or.inl q399)⟩) rfl rfl <|
  r_istore_n (k := 3) dJ2_clear_26 rfl <|
  (fun _ _ _ H => H)
def tJ2_clear_27 (d : Nat) (Q : Outcome → MH → Prop) (J : Nat → KT) : KT :=
  i_iload 3 <|
  i_iload 2 <|
  i_icmp_ge
  (i_vret Q)
  (i_aload 1 <|
  i_iload 3 <|
  i_null <|
  i_aast <|
  i_iinc 3 1 <|
  (J 27))
theorem kJ2_clear_27 {d : Nat} {Q : Outcome → MH → Prop} : ∀ ls st h, tJ2_clear_27 d Q (fun pc ls st h => WPb mJ2_clear d pc ls st h Q) ls st h → WPb mJ2_clear d 27 ls st h Q :=
  r_iload_n (k := 3) dJ2_clear_27 rfl <|
  r_iload_n (k := 2) dJ2_clear_28 rfl <|
  r_icmp_ge (pt := 42) dJ2_clear_29 (by decide)
  (r_vret rfl dJ2_clear_42)
  (r_aload_n (k := 1) dJ2_clear_32 rfl <|
  r_iload_n (k := 3) dJ2_clear_33 rfl <|
  r_null dJ2_clear_34 <|
  r_aast dJ2_clear_35 <|
  r_iinc (v := 1) dJ2_clear_36 rfl <|
  r_goto (pt := 27) dJ2_clear_39 (by decide) <|
  (fun _ _ _ H => H))
-- java/util/ArrayList.add(Ljava/lang/Object;)Z cuts [0]
def tJ2_add_0 (d : Nat) (Q : Outcome → MH → Prop) (J : Nat → KT) : KT :=
  i_aload 0 <|
  i_dup <|
  i_getI 22 0 <|
  i_const 1 <|
  i_iadd <|
  i_putI 22 0 .int <|
  i_aload 0 <|
  i_aload 1 <|
  i_aload 0 <|
  i_getR 22 1 <|
  i_aload 0 <|
  i_getI 22 2 <|
  i_call mJ2_add_2 d 4 (pV 22) (xOut Q) <|
  i_const 1 <|
  i_ret Q (some .boolean)
theorem kJ2_add_0 {d : Nat} {Q : Outcome → MH → Prop} : ∀ ls st h, tJ2_add_0 d Q (fun pc ls st h => WPb mJ2_add d pc ls st h Q) ls st h → WPb mJ2_add d 0 ls st h Q :=
  r_aload_n (k := 0) dJ2_add_0 rfl <|
  r_dup dJ2_add_1 <|
  r_getI (ci := 22) (q := (RJ2, TJ2, 3)) (k := 0) dJ2_add_2 (by decide) rfl in_J2 (by decide) (Or.inr (Or.inr ⟨_, q401, q402⟩)) rfl <|
  r_iconst (v := 1) dJ2_add_5 rfl <|
  r_iadd dJ2_add_6 <|
  r_putI (ci := 22) (q := (RJ2, TJ2, 3)) (k := 0) tyJ2 tyJ2_ok nmJ2 dJ2_add_7 (by decide) rfl in_J2 (by decide) (Or.inl ⟨rfl, (Or.inr (Or.inr ⟨_, q401, q402⟩))⟩) rfl rfl <|
  r_aload_n (k := 0) dJ2_add_10 rfl <|
  r_aload_n (k := 1) dJ2_add_11 rfl <|
  r_aload_n (k := 0) dJ2_add_12 rfl <|
  r_getR (ci := 22) (q := (RJ2, TJ2, 3)) (k := 1) dJ2_add_13 (by decide) rfl in_J2 (by decide) (Or.inl q398) rfl <|
  r_aload_n (k := 0) dJ2_add_16 rfl <|
  r_getI (ci := 22) (q := (RJ2, TJ2, 3)) (k := 2) dJ2_add_17 (by decide) rfl in_J2 (by decide) (Or.inl q399) rfl <|
  r_cV (Z := mJ2_add_2) (ci := 22) (q := (RJ2, TJ2, 3)) dJ2_add_20 rfl (by decide +kernel) ⟨by decide, by decide⟩ (by decide) rfl rfl q1535 q1537 qs30 q123 q1538 (XS.out (noH _)) <|
  r_iconst (v := 1) dJ2_add_23 rfl <|
  r_ret rfl (Or.inl ⟨dJ2_add_24, Or.inr (Or.inl rfl)⟩)
-- java/util/ArrayList.add(Ljava/lang/Object;[Ljava/lang/Object;I)V cuts [0]
def tJ2_add_2_0 (d : Nat) (Q : Outcome → MH → Prop) (J : Nat → KT) : KT :=
  i_iload 3 <|
  i_aload 2 <|
  i_alen <|
  i_icmp_ne
  (i_aload 2 <|
  i_iload 3 <|
  i_aload 1 <|
  i_aast <|
  i_aload 0 <|
  i_iload 3 <|
  i_const 1 <|
  i_iadd <|
  i_putI 22 2 .int <|
  i_vret Q)
  (i_aload 0 <|
  i_call mJ2_grow d 1 (pV 22) (xOut Q) <|
  i_astore 2 <|
  i_aload 2 <|
  i_iload 3 <|
  i_aload 1 <|
  i_aast <|
  i_aload 0 <|
  i_iload 3 <|
  i_const 1 <|
  i_iadd <|
  i_putI 22 2 .int <|
  i_vret Q)
theorem kJ2_add_2_0 {d : Nat} {Q : Outcome → MH → Prop} : ∀ ls st h, tJ2_add_2_0 d Q (fun pc ls st h => WPb mJ2_add_2 d pc ls st h Q) ls st h → WPb mJ2_add_2 d 0 ls st h Q :=
  r_iload_n (k := 3) dJ2_add_2_0 rfl <|
  r_aload_n (k := 2) dJ2_add_2_1 rfl <|
  r_alen dJ2_add_2_2 <|
  r_icmp_ne (pt := 11) dJ2_add_2_3 (by decide)
  (r_aload_n (k := 2) dJ2_add_2_11 rfl <|
  r_iload_n (k := 3) dJ2_add_2_12 rfl <|
  r_aload_n (k := 1) dJ2_add_2_13 rfl <|
  r_aast dJ2_add_2_14 <|
  r_aload_n (k := 0) dJ2_add_2_15 rfl <|
  r_iload_n (k := 3) dJ2_add_2_16 rfl <|
  r_iconst (v := 1) dJ2_add_2_17 rfl <|
  r_iadd dJ2_add_2_18 <|
  r_putI (ci := 22) (q := (RJ2, TJ2, 3)) (k := 2) tyJ2 tyJ2_ok nmJ2 dJ2_add_2_19 (by decide) rfl in_J2 (by decide) (Or.inl ⟨rfl, (Or.inl q399)⟩) rfl rfl <|
  r_vret rfl dJ2_add_2_22)
  (r_aload_n (k := 0) dJ2_add_2_6 rfl <|
  r_cV (Z := mJ2_grow) (ci := 22) (q := (RJ2, TJ2, 3)) dJ2_add_2_7 rfl (by decide +kernel) ⟨by decide, by decide⟩ (by decide) rfl rfl q1539 q1541 qs31 q123 q1542 (XS.out (noH _)) <|
  r_astore_n (k := 2) dJ2_add_2_10 rfl <|
  r_aload_n (k := 2) dJ2_add_2_11 rfl <|
  r_iload_n (k := 3) dJ2_add_2_12 rfl <|
  r_aload_n (k := 1) dJ2_add_2_13 rfl <|
  r_aast dJ2_add_2_14 <|
  r_aload_n (k := 0) dJ2_add_2_15 rfl <|
  r_iload_n (k := 3) dJ2_add_2_16 rfl <|
  r_iconst (v := 1) dJ2_add_2_17 rfl <|
  r_iadd dJ2_add_2_18 <|
  r_putI (ci := 22) (q := (RJ2, TJ2, 3)) (k := 2) tyJ2 tyJ2_ok nmJ2 dJ2_add_2_19 (by decide) rfl in_J2 (by decide) (Or.inl ⟨rfl, (Or.inl q399)⟩) rfl rfl <|
  r_vret rfl dJ2_add_2_22)
-- java/util/ArrayList.grow()[Ljava/lang/Object; cuts [0]
def tJ2_grow_0 (d : Nat) (Q : Outcome → MH → Prop) (J : Nat → KT) : KT :=
  i_aload 0 <|
  i_aload 0 <|
  i_getI 22 2 <|
  i_const 1 <|
  i_iadd <|
  i_call mJ2_grow_2 d 2 (pV 22) (xOut Q) <|
  i_ret Q (some (.array (.object "java/lang/Object")))
theorem kJ2_grow_0 {d : Nat} {Q : Outcome → MH → Prop} : ∀ ls st h, tJ2_grow_0 d Q (fun pc ls st h => WPb mJ2_grow d pc ls st h Q) ls st h → WPb mJ2_grow d 0 ls st h Q :=
  r_aload_n (k := 0) dJ2_grow_0 rfl <|
  r_aload_n (k := 0) dJ2_grow_1 rfl <|
  r_getI (ci := 22) (q := (RJ2, TJ2, 3)) (k := 2) dJ2_grow_2 (by decide) rfl in_J2 (by decide) (Or.inl q399) rfl <|
  r_iconst (v := 1) dJ2_grow_5 rfl <|
  r_iadd dJ2_grow_6 <|
  r_cV (Z := mJ2_grow_2) (ci := 22) (q := (RJ2, TJ2, 3)) dJ2_grow_7 rfl (by decide +kernel) ⟨by decide, by decide⟩ (by decide) rfl rfl q1543 q1545 qs32 q123 q1546 (XS.out (noH _)) <|
  r_ret rfl (Or.inr (Or.inr ⟨dJ2_grow_10, Or.inr ⟨_, rfl⟩⟩))
-- java/util/ArrayList.grow(I)[Ljava/lang/Object; cuts [0, 20]
def tJ2_grow_2_0 (d : Nat) (Q : Outcome → MH → Prop) (J : Nat → KT) : KT :=
  i_aload 0 <|
  i_getR 22 1 <|
  i_alen <|
  i_istore 2 <|
  i_iload 2 <|
  i_if_gt
  ((J 20))
  (i_aload 0 <|
  i_getR 22 1 <|
  i_sref 18 <|
  i_acmp_eq
  (i_aload 0 <|
  i_const 10 <|
  i_iload 1 <|
  i_mmax d <|
  i_newq 4 <|
  i_dup_x1 <|
  i_putR 22 1 <|
  i_ret Q (some (.array (.object "java/lang/Object"))))
  ((J 20)))
theorem kJ2_grow_2_0 {d : Nat} {Q : Outcome → MH → Prop} : ∀ ls st h, tJ2_grow_2_0 d Q (fun pc ls st h => WPb mJ2_grow_2 d pc ls st h Q) ls st h → WPb mJ2_grow_2 d 0 ls st h Q :=
  r_aload_n (k := 0) dJ2_grow_2_0 rfl <|
  r_getR (ci := 22) (q := (RJ2, TJ2, 3)) (k := 1) dJ2_grow_2_1 (by decide) rfl in_J2 (by decide) (Or.inl q398) rfl <|
  r_alen dJ2_grow_2_4 <|
  r_istore_n (k := 2) dJ2_grow_2_5 rfl <|
  r_iload_n (k := 2) dJ2_grow_2_6 rfl <|
  r_if_gt (pt := 20) dJ2_grow_2_7 (by decide)
  ((fun _ _ _ H => H))
  (r_aload_n (k := 0) dJ2_grow_2_10 rfl <|
  r_getR (ci := 22) (q := (RJ2, TJ2, 3)) (k := 1) dJ2_grow_2_11 (by decide) rfl in_J2 (by decide) (Or.inl q398) rfl <|
  r_getsR (a := 18) (T := ("java/util/ArrayList", "DEFAULTCAPACITY_EMPTY_ELEMENTDATA", "[Ljava/lang/Object;")) (by decide +kernel) (by decide) q396 dJ2_grow_2_14 <|
  r_acmp_eq (pt := 45) dJ2_grow_2_17 (by decide)
  (r_aload_n (k := 0) dJ2_grow_2_45 rfl <|
  r_bipush (v := 10) dJ2_grow_2_46 rfl <|
  r_iload_n (k := 1) dJ2_grow_2_48 rfl <|
  r_mmax dJ2_grow_2_49 q1592 q561 q134 q562 <|
  r_newq q1593 dJ2_grow_2_52 <|
  r_dup_x1 dJ2_grow_2_55 <|
  r_putR (ci := 22) (q := (RJ2, TJ2, 3)) (k := 1) tyJ2 tyJ2_ok nmJ2 dJ2_grow_2_56 (by decide) rfl in_J2 (by decide) (Or.inl ⟨rfl, (Or.inl q398)⟩) rfl rfl <|
  r_ret rfl (Or.inr (Or.inr ⟨dJ2_grow_2_59, Or.inr ⟨_, rfl⟩⟩)))
  ((fun _ _ _ H => H)))
def tJ2_grow_2_20 (d : Nat) (Q : Outcome → MH → Prop) (J : Nat → KT) : KT :=
  i_iload 2 <|
  i_iload 1 <|
  i_iload 2 <|
  i_isub <|
  i_iload 2 <|
  i_const 1 <|
  i_ishr <|
  i_call mJ7_newLength d 3 pS (xOut Q) <|
  i_istore 3 <|
  i_aload 0 <|
  i_aload 0 <|
  i_getR 22 1 <|
  i_iload 3 <|
  i_call mJ9_copyOf_2 d 2 pS (xOut Q) <|
  i_dup_x1 <|
  i_putR 22 1 <|
  i_ret Q (some (.array (.object "java/lang/Object")))
theorem kJ2_grow_2_20 {d : Nat} {Q : Outcome → MH → Prop} : ∀ ls st h, tJ2_grow_2_20 d Q (fun pc ls st h => WPb mJ2_grow_2 d pc ls st h Q) ls st h → WPb mJ2_grow_2 d 20 ls st h Q :=
  r_iload_n (k := 2) dJ2_grow_2_20 rfl <|
  r_iload_n (k := 1) dJ2_grow_2_21 rfl <|
  r_iload_n (k := 2) dJ2_grow_2_22 rfl <|
  r_isub dJ2_grow_2_23 <|
  r_iload_n (k := 2) dJ2_grow_2_24 rfl <|
  r_iconst (v := 1) dJ2_grow_2_25 rfl <|
  r_ishr dJ2_grow_2_26 <|
  r_cS (Z := mJ7_newLength) dJ2_grow_2_27 rfl (by decide +kernel) ⟨by decide, by decide⟩ q1547 q713 q133 q714 (XS.out (noH _)) <|
  r_istore_n (k := 3) dJ2_grow_2_30 rfl <|
  r_aload_n (k := 0) dJ2_grow_2_31 rfl <|
  r_aload_n (k := 0) dJ2_grow_2_32 rfl <|
  r_getR (ci := 22) (q := (RJ2, TJ2, 3)) (k := 1) dJ2_grow_2_33 (by decide) rfl in_J2 (by decide) (Or.inl q398) rfl <|
  r_iload_n (k := 3) dJ2_grow_2_36 rfl <|
  r_cS (Z := mJ9_copyOf_2) dJ2_grow_2_37 rfl (by decide +kernel) ⟨by decide, by decide⟩ q1548 q1549 q135 q1550 (XS.out (noH _)) <|
  r_dup_x1 dJ2_grow_2_40 <|
  r_putR (ci := 22) (q := (RJ2, TJ2, 3)) (k := 1) tyJ2 tyJ2_ok nmJ2 dJ2_grow_2_41 (by decide) rfl in_J2 (by decide) (Or.inl ⟨rfl, (Or.inl q398)⟩) rfl rfl <|
  r_ret rfl (Or.inr (Or.inr ⟨dJ2_grow_2_44, Or.inr ⟨_, rfl⟩⟩))
-- java/util/ArrayList.get(I)Ljava/lang/Object; cuts [0]
def tJ2_get_0 (d : Nat) (Q : Outcome → MH → Prop) (J : Nat → KT) : KT :=
  i_iload 1 <|
  i_aload 0 <|
  i_getI 22 2 <|
  i_call mJ22_checkIndex d 2 pS (xOut Q) <|
  i_pop <|
  i_aload 0 <|
  i_iload 1 <|
  i_call mJ2_elementData d 2 (pV 22) (xOut Q) <|
  i_ret Q (some (.object "java/lang/Object"))
theorem kJ2_get_0 {d : Nat} {Q : Outcome → MH → Prop} : ∀ ls st h, tJ2_get_0 d Q (fun pc ls st h => WPb mJ2_get d pc ls st h Q) ls st h → WPb mJ2_get d 0 ls st h Q :=
  r_iload_n (k := 1) dJ2_get_0 rfl <|
  r_aload_n (k := 0) dJ2_get_1 rfl <|
  r_getI (ci := 22) (q := (RJ2, TJ2, 3)) (k := 2) dJ2_get_2 (by decide) rfl in_J2 (by decide) (Or.inl q399) rfl <|
  r_cS (Z := mJ22_checkIndex) dJ2_get_5 rfl (by decide +kernel) ⟨by decide, by decide⟩ q1071 q1072 q160 q1073 (XS.out (noH _)) <|
  r_pop dJ2_get_8 <|
  r_aload_n (k := 0) dJ2_get_9 rfl <|
  r_iload_n (k := 1) dJ2_get_10 rfl <|
  r_cV (Z := mJ2_elementData) (ci := 22) (q := (RJ2, TJ2, 3)) dJ2_get_11 rfl (by decide +kernel) ⟨by decide, by decide⟩ (by decide) rfl rfl q1748 q1749 q1750 q123 q1751 (XS.out (noH _)) <|
  r_ret rfl (Or.inr (Or.inr ⟨dJ2_get_14, Or.inl ⟨_, rfl⟩⟩))
-- java/util/ArrayList.elementData(I)Ljava/lang/Object; cuts [0]
def tJ2_elementData_0 (d : Nat) (Q : Outcome → MH → Prop) (J : Nat → KT) : KT :=
  i_aload 0 <|
  i_getR 22 1 <|
  i_iload 1 <|
  i_aald 4 <|
  i_ret Q (some (.object "java/lang/Object"))
theorem kJ2_elementData_0 {d : Nat} {Q : Outcome → MH → Prop} : ∀ ls st h, tJ2_elementData_0 d Q (fun pc ls st h => WPb mJ2_elementData d pc ls st h Q) ls st h → WPb mJ2_elementData d 0 ls st h Q :=
  r_aload_n (k := 0) dJ2_elementData_0 rfl <|
  r_getR (ci := 22) (q := (RJ2, TJ2, 3)) (k := 1) dJ2_elementData_1 (by decide) rfl in_J2 (by decide) (Or.inl q398) rfl <|
  r_iload_n (k := 1) dJ2_elementData_4 rfl <|
  r_aald (t := 4) (E := "java/lang/Object") (by decide) rfl dJ2_elementData_5 <|
  r_ret rfl (Or.inr (Or.inr ⟨dJ2_elementData_6, Or.inl ⟨_, rfl⟩⟩))
-- java/lang/ArrayIndexOutOfBoundsException.<init>(I)V cuts [0] NOT WALKED: [(8, 'ldc java/lang/ArrayIndexOutOfBoundsException 13')]
def tJ20_init_0 (d : Nat) (Q : Outcome → MH → Prop) (J : Nat → KT) : KT :=
  i_aload 0 <|
  i_new 23 4 <|
  i_dup <|
  i_call mJ4_init d 1 pI (xOut Q) <|
  i_bad
theorem kJ20_init_0 {d : Nat} {Q : Outcome → MH → Prop} : ∀ ls st h, tJ20_init_0 d Q (fun pc ls st h => WPb mJ20_init d pc ls st h Q) ls st h → WPb mJ20_init d 0 ls st h Q :=
  r_aload_n (k := 0) dJ20_init_0 rfl <|
  r_new (ci := 23) (q := (RJ4, TJ4, 4)) tyJ4 tyJ4_ok (by decide) (by decide) (by decide) rfl rfl in_J4 q938 q662 q130 dJ20_init_1 <|
  r_dup dJ20_init_4 <|
  r_cI (Z := mJ4_init) dJ20_init_5 rfl rfl rfl (by decide +kernel) ⟨by decide, by decide⟩ q939 q664 q130 q665 (XS.out (noH _)) <|
  r_bad
-- java/lang/ArrayIndexOutOfBoundsException.<init>(Ljava/lang/String;)V cuts [0]
def tJ20_init_2_0 (d : Nat) (Q : Outcome → MH → Prop) (J : Nat → KT) : KT :=
  i_aload 0 <|
  i_aload 1 <|
  i_call mJ19_init d 2 pI (xOut Q) <|
  i_vret Q
theorem kJ20_init_2_0 {d : Nat} {Q : Outcome → MH → Prop} : ∀ ls st h, tJ20_init_2_0 d Q (fun pc ls st h => WPb mJ20_init_2 d pc ls st h Q) ls st h → WPb mJ20_init_2 d 0 ls st h Q :=
  r_aload_n (k := 0) dJ20_init_2_0 rfl <|
  r_aload_n (k := 1) dJ20_init_2_1 rfl <|
  r_cI (Z := mJ19_init) dJ20_init_2_2 rfl rfl rfl (by decide +kernel) ⟨by decide, by decide⟩ q944 q945 q157 q946 (XS.out (noH _)) <|
  r_vret rfl dJ20_init_2_5
-- java/util/NoSuchElementException.<init>()V cuts [0]
def tJ21_init_0 (d : Nat) (Q : Outcome → MH → Prop) (J : Nat → KT) : KT :=
  i_aload 0 <|
  i_call mJ14_init_2 d 1 pI (xOut Q) <|
  i_vret Q
theorem kJ21_init_0 {d : Nat} {Q : Outcome → MH → Prop} : ∀ ls st h, tJ21_init_0 d Q (fun pc ls st h => WPb mJ21_init d pc ls st h Q) ls st h → WPb mJ21_init d 0 ls st h Q :=
  r_aload_n (k := 0) dJ21_init_0 rfl <|
  r_cI (Z := mJ14_init_2) dJ21_init_1 rfl rfl rfl (by decide +kernel) ⟨by decide, by decide⟩ q1695 q1362 q140 q1363 (XS.out (noH _)) <|
  r_vret rfl dJ21_init_4
-- java/util/Objects.checkIndex(II)I cuts [0]
def tJ22_checkIndex_0 (d : Nat) (Q : Outcome → MH → Prop) (J : Nat → KT) : KT :=
  i_iload 0 <|
  i_iload 1 <|
  i_null <|
  i_call mJ11_checkIndex d 3 pS (xOut Q) <|
  i_ret Q (some .int)
theorem kJ22_checkIndex_0 {d : Nat} {Q : Outcome → MH → Prop} : ∀ ls st h, tJ22_checkIndex_0 d Q (fun pc ls st h => WPb mJ22_checkIndex d pc ls st h Q) ls st h → WPb mJ22_checkIndex d 0 ls st h Q :=
  r_iload_n (k := 0) dJ22_checkIndex_0 rfl <|
  r_iload_n (k := 1) dJ22_checkIndex_1 rfl <|
  r_null dJ22_checkIndex_2 <|
  r_cS (Z := mJ11_checkIndex) dJ22_checkIndex_3 rfl (by decide +kernel) ⟨by decide, by decide⟩ q1074 q1075 q137 q1076 (XS.out (noH _)) <|
  r_ret rfl (Or.inl ⟨dJ22_checkIndex_6, Or.inl rfl⟩)
-- java/lang/IllegalStateException.<init>()V cuts [0]
def tJ23_init_0 (d : Nat) (Q : Outcome → MH → Prop) (J : Nat → KT) : KT :=
  i_aload 0 <|
  i_call mJ14_init_2 d 1 pI (xOut Q) <|
  i_vret Q
theorem kJ23_init_0 {d : Nat} {Q : Outcome → MH → Prop} : ∀ ls st h, tJ23_init_0 d Q (fun pc ls st h => WPb mJ23_init d pc ls st h Q) ls st h → WPb mJ23_init d 0 ls st h Q :=
  r_aload_n (k := 0) dJ23_init_0 rfl <|
  r_cI (Z := mJ14_init_2) dJ23_init_1 rfl rfl rfl (by decide +kernel) ⟨by decide, by decide⟩ q1900 q1362 q140 q1363 (XS.out (noH _)) <|
  r_vret rfl dJ23_init_4
-- java/lang/Object.<init>()V cuts [0]
def tJ24_init_0 (d : Nat) (Q : Outcome → MH → Prop) (J : Nat → KT) : KT :=
  i_vret Q
theorem kJ24_init_0 {d : Nat} {Q : Outcome → MH → Prop} : ∀ ls st h, tJ24_init_0 d Q (fun pc ls st h => WPb mJ24_init d pc ls st h Q) ls st h → WPb mJ24_init d 0 ls st h Q :=
  r_vret rfl dJ24_init_0
-- java/lang/System$2.getUTF16Char([BI)C cuts [0]
def tJ25_getUTF16Char_0 (d : Nat) (Q : Outcome → MH → Prop) (J : Nat → KT) : KT :=
  i_aload 1 <|
  i_iload 2 <|
  i_call mJ6_getChar d 2 pS (xOut Q) <|
  i_ret Q (some .char)
theorem kJ25_getUTF16Char_0 {d : Nat} {Q : Outcome → MH → Prop} : ∀ ls st h, tJ25_getUTF16Char_0 d Q (fun pc ls st h => WPb mJ25_getUTF16Char d pc ls st h Q) ls st h → WPb mJ25_getUTF16Char d 0 ls st h Q :=
  r_aload_n (k := 1) dJ25_getUTF16Char_0 rfl <|
  r_iload_n (k := 2) dJ25_getUTF16Char_1 rfl <|
  r_cS (Z := mJ6_getChar) dJ25_getUTF16Char_2 rfl (by decide +kernel) ⟨by decide, by decide⟩ q1233 q905 q132 q906 (XS.out (noH _)) <|
  r_ret rfl (Or.inl ⟨dJ25_getUTF16Char_5, Or.inr (Or.inr (Or.inr rfl))⟩)
-- java/lang/AbstractStringBuilder.<init>(I)V cuts [0]
def tJ3_init_0 (d : Nat) (Q : Outcome → MH → Prop) (J : Nat → KT) : KT :=
  i_aload 0 <|
  i_obj d <|
  i_const 1 <|
  i_if_eq
  (i_aload 0 <|
  i_iload 1 <|
  i_call mJ6_newBytesFor d 1 pS (xOut Q) <|
  i_putR 23 0 <|
  i_aload 0 <|
  i_const 1 <|
  i_putI 23 1 .byte <|
  i_vret Q)
  (i_aload 0 <|
  i_iload 1 <|
  i_newa 1 <|
  i_putR 23 0 <|
  i_aload 0 <|
  i_const 0 <|
  i_putI 23 1 .byte <|
  i_vret Q)
theorem kJ3_init_0 {d : Nat} {Q : Outcome → MH → Prop} : ∀ ls st h, tJ3_init_0 d Q (fun pc ls st h => WPb mJ3_init d pc ls st h Q) ls st h → WPb mJ3_init d 0 ls st h Q :=
  r_aload_n (k := 0) dJ3_init_0 rfl <|
  r_obj dJ3_init_1 q669 q170 q171 <|
  r_getsI (x := 1) (T := ("java/lang/String", "COMPACT_STRINGS", "Z")) (by decide +kernel) q670 dJ3_init_4 <|
  r_if_eq (pt := 25) dJ3_init_7 (by decide)
  (r_aload_n (k := 0) dJ3_init_25 rfl <|
  r_iload_n (k := 1) dJ3_init_26 rfl <|
  r_cS (Z := mJ6_newBytesFor) dJ3_init_27 rfl (by decide +kernel) ⟨by decide, by decide⟩ q672 q673 q132 q674 (XS.out (noH _)) <|
  r_putR (ci := 23) (q := (RJ4, TJ4, 4)) (k := 0) tyJ4 tyJ4_ok nmJ4 dJ3_init_30 (by decide) rfl in_J4 (by decide) (Or.inl ⟨rfl, (Or.inl q679)⟩) rfl rfl <|
  r_aload_n (k := 0) dJ3_init_33 rfl <|
  r_iconst (v := 1) dJ3_init_34 rfl <|
  r_putI (ci := 23) (q := (RJ4, TJ4, 4)) (k := 1) tyJ4 tyJ4_ok nmJ4 dJ3_init_35 (by decide) rfl in_J4 (by decide) (Or.inl ⟨rfl, (Or.inl q680)⟩) rfl rfl <|
  r_vret rfl dJ3_init_38)
  (r_aload_n (k := 0) dJ3_init_10 rfl <|
  r_iload_n (k := 1) dJ3_init_11 rfl <|
  r_newa (t := 1) (at9 := .byte) (ty := .byte) (by decide) rfl rfl q344 (by decide) dJ3_init_12 <|
  r_putR (ci := 23) (q := (RJ4, TJ4, 4)) (k := 0) tyJ4 tyJ4_ok nmJ4 dJ3_init_14 (by decide) rfl in_J4 (by decide) (Or.inl ⟨rfl, (Or.inl q679)⟩) rfl rfl <|
  r_aload_n (k := 0) dJ3_init_17 rfl <|
  r_iconst (v := 0) dJ3_init_18 rfl <|
  r_putI (ci := 23) (q := (RJ4, TJ4, 4)) (k := 1) tyJ4 tyJ4_ok nmJ4 dJ3_init_19 (by decide) rfl in_J4 (by decide) (Or.inl ⟨rfl, (Or.inl q680)⟩) rfl rfl <|
  r_goto (pt := 38) dJ3_init_22 (by decide) <|
  r_vret rfl dJ3_init_38)
-- java/lang/AbstractStringBuilder.append(Ljava/lang/String;)Ljava/lang/AbstractStringBuilder; cuts [0]
def tJ3_append_0 (d : Nat) (Q : Outcome → MH → Prop) (J : Nat → KT) : KT :=
  i_aload 1 <|
  i_ifnonnull
  (i_aload 1 <|
  i_call mJ5_length d 1 (pV 24) (xOut Q) <|
  i_istore 2 <|
  i_aload 0 <|
  i_aload 0 <|
  i_getI 23 3 <|
  i_iload 2 <|
  i_iadd <|
  i_call mJ3_ensureCapacityInternal d 2 (pV 23) (xOut Q) <|
  i_aload 0 <|
  i_aload 0 <|
  i_getI 23 3 <|
  i_aload 1 <|
  i_call mJ3_putStringAt d 3 (pV 23) (xOut Q) <|
  i_aload 0 <|
  i_dup <|
  i_getI 23 3 <|
  i_iload 2 <|
  i_iadd <|
  i_putI 23 3 .int <|
  i_aload 0 <|
  i_ret Q (some (.object "java/lang/AbstractStringBuilder")))
  (i_aload 0 <|
  i_call mJ3_appendNull d 1 (pV 23) (xOut Q) <|
  i_ret Q (some (.object "java/lang/AbstractStringBuilder")))
theorem kJ3_append_0 {d : Nat} {Q : Outcome → MH → Prop} : ∀ ls st h, tJ3_append_0 d Q (fun pc ls st h => WPb mJ3_append d pc ls st h Q) ls st h → WPb mJ3_append d 0 ls st h Q :=
  r_aload_n (k := 1) dJ3_append_0 rfl <|
  r_ifnonnull (pt := 9) dJ3_append_1 (by decide)
  (r_aload_n (k := 1) dJ3_append_9 rfl <|
  r_cV (Z := mJ5_length) (ci := 24) (q := (RJ5, TJ5, 4)) dJ3_append_10 rfl (by decide +kernel) ⟨by decide, by decide⟩ (by decide) rfl rfl q766 q767 q768 q131 q769 (XS.out (noH _)) <|
  r_istore_n (k := 2) dJ3_append_13 rfl <|
  r_aload_n (k := 0) dJ3_append_14 rfl <|
  r_aload_n (k := 0) dJ3_append_15 rfl <|
  r_getI (ci := 23) (q := (RJ4, TJ4, 4)) (k := 3) dJ3_append_16 (by decide) rfl in_J4 (by decide) (Or.inl q682) rfl <|
  r_iload_n (k := 2) dJ3_append_19 rfl <|
  r_iadd dJ3_append_20 <|
  r_cVP (Z := mJ3_ensureCapacityInternal) (n := 1) (ci := 23) (q := (RJ4, TJ4, 4)) (y0 := yJ3_isLatin1) dJ3_append_21 rfl (by decide +kernel) ⟨by decide, by decide⟩ (by decide) rfl rfl q704 q706 q738 q705 q129 q707 (XS.out (noH _)) <|
  r_aload_n (k := 0) dJ3_append_24 rfl <|
  r_aload_n (k := 0) dJ3_append_25 rfl <|
  r_getI (ci := 23) (q := (RJ4, TJ4, 4)) (k := 3) dJ3_append_26 (by decide) rfl in_J4 (by decide) (Or.inl q682) rfl <|
  r_aload_n (k := 1) dJ3_append_29 rfl <|
  r_cVP (Z := mJ3_putStringAt) (n := 2) (ci := 23) (q := (RJ4, TJ4, 4)) (y0 := yJ3_isLatin1) dJ3_append_30 rfl (by decide +kernel) ⟨by decide, by decide⟩ (by decide) rfl rfl q775 q777 q738 q776 q129 q778 (XS.out (noH _)) <|
  r_aload_n (k := 0) dJ3_append_33 rfl <|
  r_dup dJ3_append_34 <|
  r_getI (ci := 23) (q := (RJ4, TJ4, 4)) (k := 3) dJ3_append_35 (by decide) rfl in_J4 (by decide) (Or.inl q682) rfl <|
  r_iload_n (k := 2) dJ3_append_38 rfl <|
  r_iadd dJ3_append_39 <|
  r_putI (ci := 23) (q := (RJ4, TJ4, 4)) (k := 3) tyJ4 tyJ4_ok nmJ4 dJ3_append_40 (by decide) rfl in_J4 (by decide) (Or.inl ⟨rfl, (Or.inl q682)⟩) rfl rfl <|
  r_aload_n (k := 0) dJ3_append_43 rfl <|
  r_ret rfl (Or.inr (Or.inr ⟨dJ3_append_44, Or.inl ⟨_, rfl⟩⟩)))
  (r_aload_n (k := 0) dJ3_append_4 rfl <|
  r_cVP (Z := mJ3_appendNull) (n := 0) (ci := 23) (q := (RJ4, TJ4, 4)) (y0 := yJ3_isLatin1) dJ3_append_5 rfl (by decide +kernel) ⟨by decide, by decide⟩ (by decide) rfl rfl q700 q702 q738 q701 q129 q703 (XS.out (noH _)) <|
  r_ret rfl (Or.inr (Or.inr ⟨dJ3_append_8, Or.inl ⟨_, rfl⟩⟩)))
-- java/lang/AbstractStringBuilder.appendNull()Ljava/lang/AbstractStringBuilder; cuts [0]
def tJ3_appendNull_0 (d : Nat) (Q : Outcome → MH → Prop) (J : Nat → KT) : KT :=
  i_aload 0 <|
  i_aload 0 <|
  i_getI 23 3 <|
  i_const 4 <|
  i_iadd <|
  i_call mJ3_ensureCapacityInternal d 2 (pV 23) (xOut Q) <|
  i_aload 0 <|
  i_getI 23 3 <|
  i_istore 1 <|
  i_aload 0 <|
  i_getR 23 0 <|
  i_astore 2 <|
  i_aload 0 <|
  i_call mJ3_isLatin1 d 1 (pV 23) (xOut Q) <|
  i_if_eq
  (i_aload 2 <|
  i_iload 1 <|
  i_const 110 <|
  i_const 117 <|
  i_const 108 <|
  i_const 108 <|
  i_call mJ6_putCharsAt d 6 pS (xOut Q) <|
  i_istore 1 <|
  i_aload 0 <|
  i_iload 1 <|
  i_putI 23 3 .int <|
  i_aload 0 <|
  i_ret Q (some (.object "java/lang/AbstractStringBuilder")))
  (i_aload 2 <|
  i_iload 1 <|
  i_iinc 1 1 <|
  i_const 110 <|
  i_bast <|
  i_aload 2 <|
  i_iload 1 <|
  i_iinc 1 1 <|
  i_const 117 <|
  i_bast <|
  i_aload 2 <|
  i_iload 1 <|
  i_iinc 1 1 <|
  i_const 108 <|
  i_bast <|
  i_aload 2 <|
  i_iload 1 <|
  i_iinc 1 1 <|
  i_const 108 <|
  i_bast <|
  i_aload 0 <|
  i_iload 1 <|
  i_putI 23 3 .int <|
  i_aload 0 <|
  i_ret Q (some (.object "java/lang/AbstractStringBuilder")))
theorem kJ3_appendNull_0 {d : Nat} {Q : Outcome → MH → Prop} : ∀ ls st h, tJ3_appendNull_0 d Q (fun pc ls st h => WPb mJ3_appendNull d pc ls st h Q) ls st h → WPb mJ3_appendNull d 0 ls st h Q :=
  r_aload_n (k := 0) dJ3_appendNull_0 rfl <|
  r_aload_n (k := 0) dJ3_appendNull_1 rfl <|
  r_getI (ci := 23) (q := (RJ4, TJ4, 4)) (k := 3) dJ3_appendNull_2 (by decide) rfl in_J4 (by decide) (Or.inl q682) rfl <|
  r_iconst (v := 4) dJ3_appendNull_5 rfl <|
  r_iadd dJ3_appendNull_6 <|
  r_cVP (Z := mJ3_ensureCapacityInternal) (n := 1) (ci := 23) (q := (RJ4, TJ4, 4)) (y0 := yJ3_isLatin1) dJ3_appendNull_7 rfl (by decide +kernel) ⟨by decide, by decide⟩ (by decide) rfl rfl q704 q706 q738 q705 q129 q707 (XS.out (noH _)) <|
  r_aload_n (k := 0) dJ3_appendNull_10 rfl <|
  r_getI (ci := 23) (q := (RJ4, TJ4, 4)) (k := 3) dJ3_appendNull_11 (by decide) rfl in_J4 (by decide) (Or.inl q682) rfl <|
  r_istore_n (k := 1) dJ3_appendNull_14 rfl <|
  r_aload_n (k := 0) dJ3_appendNull_15 rfl <|
  r_getR (ci := 23) (q := (RJ4, TJ4, 4)) (k := 0) dJ3_appendNull_16 (by decide) rfl in_J4 (by decide) (Or.inl q679) rfl <|
  r_astore_n (k := 2) dJ3_appendNull_19 rfl <|
  r_aload_n (k := 0) dJ3_appendNull_20 rfl <|
  r_cU (Z := mJ3_isLatin1) (n := 0) (ci := 23) (q := (RJ4, TJ4, 4)) (owner := "java/lang/AbstractStringBuilder") (x := yJ3_isLatin1) dJ3_appendNull_21 rfl (by decide +kernel) ⟨by decide, by decide⟩ (by decide) rfl rfl q735 q737 q738 q736 q129 q739 (XS.out (noH _)) <|
  r_if_eq (pt := 62) dJ3_appendNull_24 (by decide)
  (r_aload_n (k := 2) dJ3_appendNull_62 rfl <|
  r_iload_n (k := 1) dJ3_appendNull_63 rfl <|
  r_bipush (v := 110) dJ3_appendNull_64 rfl <|
  r_bipush (v := 117) dJ3_appendNull_66 rfl <|
  r_bipush (v := 108) dJ3_appendNull_68 rfl <|
  r_bipush (v := 108) dJ3_appendNull_70 rfl <|
  r_cS (Z := mJ6_putCharsAt) dJ3_appendNull_72 rfl (by decide +kernel) ⟨by decide, by decide⟩ q740 q741 q132 q742 (XS.out (noH _)) <|
  r_istore_n (k := 1) dJ3_appendNull_75 rfl <|
  r_aload_n (k := 0) dJ3_appendNull_76 rfl <|
  r_iload_n (k := 1) dJ3_appendNull_77 rfl <|
  r_putI (ci := 23) (q := (RJ4, TJ4, 4)) (k := 3) tyJ4 tyJ4_ok nmJ4 dJ3_appendNull_78 (by decide) rfl in_J4 (by decide) (Or.inl ⟨rfl, (Or.inl q682)⟩) rfl rfl <|
  r_aload_n (k := 0) dJ3_appendNull_81 rfl <|
  r_ret rfl (Or.inr (Or.inr ⟨dJ3_appendNull_82, Or.inl ⟨_, rfl⟩⟩)))
  (r_aload_n (k := 2) dJ3_appendNull_27 rfl <|
  r_iload_n (k := 1) dJ3_appendNull_28 rfl <|
  r_iinc (v := 1) dJ3_appendNull_29 rfl <|
  r_bipush (v := 110) dJ3_appendNull_32 rfl <|
  r_bast dJ3_appendNull_34 <|
  r_aload_n (k := 2) dJ3_appendNull_35 rfl <|
  r_iload_n (k := 1) dJ3_appendNull_36 rfl <|
  r_iinc (v := 1) dJ3_appendNull_37 rfl <|
  r_bipush (v := 117) dJ3_appendNull_40 rfl <|
  r_bast dJ3_appendNull_42 <|
  r_aload_n (k := 2) dJ3_appendNull_43 rfl <|
  r_iload_n (k := 1) dJ3_appendNull_44 rfl <|
  r_iinc (v := 1) dJ3_appendNull_45 rfl <|
  r_bipush (v := 108) dJ3_appendNull_48 rfl <|
  r_bast dJ3_appendNull_50 <|
  r_aload_n (k := 2) dJ3_appendNull_51 rfl <|
  r_iload_n (k := 1) dJ3_appendNull_52 rfl <|
  r_iinc (v := 1) dJ3_appendNull_53 rfl <|
  r_bipush (v := 108) dJ3_appendNull_56 rfl <|
  r_bast dJ3_appendNull_58 <|
  r_goto (pt := 76) dJ3_appendNull_59 (by decide) <|
  r_aload_n (k := 0) dJ3_appendNull_76 rfl <|
  r_iload_n (k := 1) dJ3_appendNull_77 rfl <|
  r_putI (ci := 23) (q := (RJ4, TJ4, 4)) (k := 3) tyJ4 tyJ4_ok nmJ4 dJ3_appendNull_78 (by decide) rfl in_J4 (by decide) (Or.inl ⟨rfl, (Or.inl q682)⟩) rfl rfl <|
  r_aload_n (k := 0) dJ3_appendNull_81 rfl <|
  r_ret rfl (Or.inr (Or.inr ⟨dJ3_appendNull_82, Or.inl ⟨_, rfl⟩⟩)))
-- java/lang/AbstractStringBuilder.ensureCapacityInternal(I)V cuts [0]
def tJ3_ensureCapacityInternal_0 (d : Nat) (Q : Outcome → MH → Prop) (J : Nat → KT) : KT :=
  i_aload 0 <|
  i_getR 23 0 <|
  i_alen <|
  i_aload 0 <|
  i_getI 23 1 <|
  i_ishr <|
  i_istore 2 <|
  i_iload 1 <|
  i_iload 2 <|
  i_isub <|
  i_if_le
  (i_vret Q)
  (i_aload 0 <|
  i_aload 0 <|
  i_getR 23 0 <|
  i_aload 0 <|
  i_iload 1 <|
  i_call mJ3_newCapacity d 2 (pV 23) (xOut Q) <|
  i_aload 0 <|
  i_getI 23 1 <|
  i_ishl <|
  i_call mJ9_copyOf d 2 pS (xOut Q) <|
  i_putR 23 0 <|
  i_vret Q)
theorem kJ3_ensureCapacityInternal_0 {d : Nat} {Q : Outcome → MH → Prop} : ∀ ls st h, tJ3_ensureCapacityInternal_0 d Q (fun pc ls st h => WPb mJ3_ensureCapacityInternal d pc ls st h Q) ls st h → WPb mJ3_ensureCapacityInternal d 0 ls st h Q :=
  r_aload_n (k := 0) dJ3_ensureCapacityInternal_0 rfl <|
  r_getR (ci := 23) (q := (RJ4, TJ4, 4)) (k := 0) dJ3_ensureCapacityInternal_1 (by decide) rfl in_J4 (by decide) (Or.inl q679) rfl <|
  r_alen dJ3_ensureCapacityInternal_4 <|
  r_aload_n (k := 0) dJ3_ensureCapacityInternal_5 rfl <|
  r_getI (ci := 23) (q := (RJ4, TJ4, 4)) (k := 1) dJ3_ensureCapacityInternal_6 (by decide) rfl in_J4 (by decide) (Or.inl q680) rfl <|
  r_ishr dJ3_ensureCapacityInternal_9 <|
  r_istore_n (k := 2) dJ3_ensureCapacityInternal_10 rfl <|
  r_iload_n (k := 1) dJ3_ensureCapacityInternal_11 rfl <|
  r_iload_n (k := 2) dJ3_ensureCapacityInternal_12 rfl <|
  r_isub dJ3_ensureCapacityInternal_13 <|
  r_if_le (pt := 38) dJ3_ensureCapacityInternal_14 (by decide)
  (r_vret rfl dJ3_ensureCapacityInternal_38)
  (r_aload_n (k := 0) dJ3_ensureCapacityInternal_17 rfl <|
  r_aload_n (k := 0) dJ3_ensureCapacityInternal_18 rfl <|
  r_getR (ci := 23) (q := (RJ4, TJ4, 4)) (k := 0) dJ3_ensureCapacityInternal_19 (by decide) rfl in_J4 (by decide) (Or.inl q679) rfl <|
  r_aload_n (k := 0) dJ3_ensureCapacityInternal_22 rfl <|
  r_iload_n (k := 1) dJ3_ensureCapacityInternal_23 rfl <|
  r_cVP (Z := mJ3_newCapacity) (n := 1) (ci := 23) (q := (RJ4, TJ4, 4)) (y0 := yJ3_isLatin1) dJ3_ensureCapacityInternal_24 rfl (by decide +kernel) ⟨by decide, by decide⟩ (by decide) rfl rfl q708 q710 q738 q709 q129 q711 (XS.out (noH _)) <|
  r_aload_n (k := 0) dJ3_ensureCapacityInternal_27 rfl <|
  r_getI (ci := 23) (q := (RJ4, TJ4, 4)) (k := 1) dJ3_ensureCapacityInternal_28 (by decide) rfl in_J4 (by decide) (Or.inl q680) rfl <|
  r_ishl dJ3_ensureCapacityInternal_31 <|
  r_cS (Z := mJ9_copyOf) dJ3_ensureCapacityInternal_32 rfl (by decide +kernel) ⟨by decide, by decide⟩ q721 q722 q135 q723 (XS.out (noH _)) <|
  r_putR (ci := 23) (q := (RJ4, TJ4, 4)) (k := 0) tyJ4 tyJ4_ok nmJ4 dJ3_ensureCapacityInternal_35 (by decide) rfl in_J4 (by decide) (Or.inl ⟨rfl, (Or.inl q679)⟩) rfl rfl <|
  r_vret rfl dJ3_ensureCapacityInternal_38)
-- java/lang/AbstractStringBuilder.newCapacity(I)I cuts [0] NOT WALKED: [(41, "('java/lang/AbstractStringBuilder', 120)")]
def tJ3_newCapacity_0 (d : Nat) (Q : Outcome → MH → Prop) (J : Nat → KT) : KT :=
  i_aload 0 <|
  i_getR 23 0 <|
  i_alen <|
  i_istore 2 <|
  i_iload 1 <|
  i_aload 0 <|
  i_getI 23 1 <|
  i_ishl <|
  i_istore 3 <|
  i_iload 3 <|
  i_iload 2 <|
  i_isub <|
  i_istore 4 <|
  i_iload 2 <|
  i_iload 4 <|
  i_iload 2 <|
  i_const 2 <|
  i_aload 0 <|
  i_getI 23 1 <|
  i_ishl <|
  i_iadd <|
  i_call mJ7_newLength d 3 pS (xOut Q) <|
  i_istore 5 <|
  i_iload 5 <|
  i_const 2147483647 <|
  i_icmp_ne
  (i_iload 5 <|
  i_aload 0 <|
  i_getI 23 1 <|
  i_ishr <|
  i_ret Q (some .int))
  (i_bad)
theorem kJ3_newCapacity_0 {d : Nat} {Q : Outcome → MH → Prop} : ∀ ls st h, tJ3_newCapacity_0 d Q (fun pc ls st h => WPb mJ3_newCapacity d pc ls st h Q) ls st h → WPb mJ3_newCapacity d 0 ls st h Q :=
  r_aload_n (k := 0) dJ3_newCapacity_0 rfl <|
  r_getR (ci := 23) (q := (RJ4, TJ4, 4)) (k := 0) dJ3_newCapacity_1 (by decide) rfl in_J4 (by decide) (Or.inl q679) rfl <|
  r_alen dJ3_newCapacity_4 <|
  r_istore_n (k := 2) dJ3_newCapacity_5 rfl <|
  r_iload_n (k := 1) dJ3_newCapacity_6 rfl <|
  r_aload_n (k := 0) dJ3_newCapacity_7 rfl <|
  r_getI (ci := 23) (q := (RJ4, TJ4, 4)) (k := 1) dJ3_newCapacity_8 (by decide) rfl in_J4 (by decide) (Or.inl q680) rfl <|
  r_ishl dJ3_newCapacity_11 <|
  r_istore_n (k := 3) dJ3_newCapacity_12 rfl <|
  r_iload_n (k := 3) dJ3_newCapacity_13 rfl <|
  r_iload_n (k := 2) dJ3_newCapacity_14 rfl <|
  r_isub dJ3_newCapacity_15 <|
  r_istore dJ3_newCapacity_16 <|
  r_iload_n (k := 2) dJ3_newCapacity_18 rfl <|
  r_iload dJ3_newCapacity_19 <|
  r_iload_n (k := 2) dJ3_newCapacity_21 rfl <|
  r_iconst (v := 2) dJ3_newCapacity_22 rfl <|
  r_aload_n (k := 0) dJ3_newCapacity_23 rfl <|
  r_getI (ci := 23) (q := (RJ4, TJ4, 4)) (k := 1) dJ3_newCapacity_24 (by decide) rfl in_J4 (by decide) (Or.inl q680) rfl <|
  r_ishl dJ3_newCapacity_27 <|
  r_iadd dJ3_newCapacity_28 <|
  r_cS (Z := mJ7_newLength) dJ3_newCapacity_29 rfl (by decide +kernel) ⟨by decide, by decide⟩ q712 q713 q133 q714 (XS.out (noH _)) <|
  r_istore dJ3_newCapacity_32 <|
  r_iload dJ3_newCapacity_34 <|
  r_ldc (v := 2147483647) dJ3_newCapacity_36 q720 <|
  r_icmp_ne (pt := 51) dJ3_newCapacity_38 (by decide)
  (r_iload dJ3_newCapacity_51 <|
  r_aload_n (k := 0) dJ3_newCapacity_53 rfl <|
  r_getI (ci := 23) (q := (RJ4, TJ4, 4)) (k := 1) dJ3_newCapacity_54 (by decide) rfl in_J4 (by decide) (Or.inl q680) rfl <|
  r_ishr dJ3_newCapacity_57 <|
  r_ret rfl (Or.inl ⟨dJ3_newCapacity_58, Or.inl rfl⟩))
  (r_bad)
-- java/lang/AbstractStringBuilder.isLatin1()Z cuts [0]
def tJ3_isLatin1_0 (d : Nat) (Q : Outcome → MH → Prop) (J : Nat → KT) : KT :=
  i_const 1 <|
  i_if_eq
  (i_const 0 <|
  i_ret Q (some .boolean))
  (i_aload 0 <|
  i_getI 23 1 <|
  i_if_ne
  (i_const 0 <|
  i_ret Q (some .boolean))
  (i_const 1 <|
  i_ret Q (some .boolean)))
theorem kJ3_isLatin1_0 {d : Nat} {Q : Outcome → MH → Prop} : ∀ ls st h, tJ3_isLatin1_0 d Q (fun pc ls st h => WPb mJ3_isLatin1 d pc ls st h Q) ls st h → WPb mJ3_isLatin1 d 0 ls st h Q :=
  r_getsI (x := 1) (T := ("java/lang/String", "COMPACT_STRINGS", "Z")) (by decide +kernel) q670 dJ3_isLatin1_0 <|
  r_if_eq (pt := 17) dJ3_isLatin1_3 (by decide)
  (r_iconst (v := 0) dJ3_isLatin1_17 rfl <|
  r_ret rfl (Or.inl ⟨dJ3_isLatin1_18, Or.inr (Or.inl rfl)⟩))
  (r_aload_n (k := 0) dJ3_isLatin1_6 rfl <|
  r_getI (ci := 23) (q := (RJ4, TJ4, 4)) (k := 1) dJ3_isLatin1_7 (by decide) rfl in_J4 (by decide) (Or.inl q680) rfl <|
  r_if_ne (pt := 17) dJ3_isLatin1_10 (by decide)
  (r_iconst (v := 0) dJ3_isLatin1_17 rfl <|
  r_ret rfl (Or.inl ⟨dJ3_isLatin1_18, Or.inr (Or.inl rfl)⟩))
  (r_iconst (v := 1) dJ3_isLatin1_13 rfl <|
  r_goto (pt := 18) dJ3_isLatin1_14 (by decide) <|
  r_ret rfl (Or.inl ⟨dJ3_isLatin1_18, Or.inr (Or.inl rfl)⟩)))
-- java/lang/AbstractStringBuilder.putStringAt(ILjava/lang/String;)V cuts [0]
def tJ3_putStringAt_0 (d : Nat) (Q : Outcome → MH → Prop) (J : Nat → KT) : KT :=
  i_aload 0 <|
  i_aload 2 <|
  i_call mJ3_inflateIfNeededFor d 2 (pV 23) (xOut Q) <|
  i_aload 2 <|
  i_aload 0 <|
  i_getR 23 0 <|
  i_iload 1 <|
  i_aload 0 <|
  i_getI 23 1 <|
  i_call mJ5_getBytes d 4 (pV 24) (xOut Q) <|
  i_vret Q
theorem kJ3_putStringAt_0 {d : Nat} {Q : Outcome → MH → Prop} : ∀ ls st h, tJ3_putStringAt_0 d Q (fun pc ls st h => WPb mJ3_putStringAt d pc ls st h Q) ls st h → WPb mJ3_putStringAt d 0 ls st h Q :=
  r_aload_n (k := 0) dJ3_putStringAt_0 rfl <|
  r_aload_n (k := 2) dJ3_putStringAt_1 rfl <|
  r_cVP (Z := mJ3_inflateIfNeededFor) (n := 1) (ci := 23) (q := (RJ4, TJ4, 4)) (y0 := yJ3_isLatin1) dJ3_putStringAt_2 rfl (by decide +kernel) ⟨by decide, by decide⟩ (by decide) rfl rfl q779 q781 q738 q780 q129 q782 (XS.out (noH _)) <|
  r_aload_n (k := 2) dJ3_putStringAt_5 rfl <|
  r_aload_n (k := 0) dJ3_putStringAt_6 rfl <|
  r_getR (ci := 23) (q := (RJ4, TJ4, 4)) (k := 0) dJ3_putStringAt_7 (by decide) rfl in_J4 (by decide) (Or.inl q679) rfl <|
  r_iload_n (k := 1) dJ3_putStringAt_10 rfl <|
  r_aload_n (k := 0) dJ3_putStringAt_11 rfl <|
  r_getI (ci := 23) (q := (RJ4, TJ4, 4)) (k := 1) dJ3_putStringAt_12 (by decide) rfl in_J4 (by decide) (Or.inl q680) rfl <|
  r_cV (Z := mJ5_getBytes) (ci := 24) (q := (RJ5, TJ5, 4)) dJ3_putStringAt_15 rfl (by decide +kernel) ⟨by decide, by decide⟩ (by decide) rfl rfl q803 q804 q805 q131 q806 (XS.out (noH _)) <|
  r_vret rfl dJ3_putStringAt_18
-- java/lang/AbstractStringBuilder.inflateIfNeededFor(Ljava/lang/String;)V cuts [0]
def tJ3_inflateIfNeededFor_0 (d : Nat) (Q : Outcome → MH → Prop) (J : Nat → KT) : KT :=
  i_const 1 <|
  i_if_eq
  (i_vret Q)
  (i_aload 0 <|
  i_getI 23 1 <|
  i_aload 1 <|
  i_call mJ5_coder d 1 (pV 24) (xOut Q) <|
  i_icmp_eq
  (i_vret Q)
  (i_aload 0 <|
  i_call mJ3_inflate d 1 (pV 23) (xOut Q) <|
  i_vret Q))
theorem kJ3_inflateIfNeededFor_0 {d : Nat} {Q : Outcome → MH → Prop} : ∀ ls st h, tJ3_inflateIfNeededFor_0 d Q (fun pc ls st h => WPb mJ3_inflateIfNeededFor d pc ls st h Q) ls st h → WPb mJ3_inflateIfNeededFor d 0 ls st h Q :=
  r_getsI (x := 1) (T := ("java/lang/String", "COMPACT_STRINGS", "Z")) (by decide +kernel) q670 dJ3_inflateIfNeededFor_0 <|
  r_if_eq (pt := 21) dJ3_inflateIfNeededFor_3 (by decide)
  (r_vret rfl dJ3_inflateIfNeededFor_21)
  (r_aload_n (k := 0) dJ3_inflateIfNeededFor_6 rfl <|
  r_getI (ci := 23) (q := (RJ4, TJ4, 4)) (k := 1) dJ3_inflateIfNeededFor_7 (by decide) rfl in_J4 (by decide) (Or.inl q680) rfl <|
  r_aload_n (k := 1) dJ3_inflateIfNeededFor_10 rfl <|
  r_cV (Z := mJ5_coder) (ci := 24) (q := (RJ5, TJ5, 4)) dJ3_inflateIfNeededFor_11 rfl (by decide +kernel) ⟨by decide, by decide⟩ (by decide) rfl rfl q783 q771 q772 q131 q773 (XS.out (noH _)) <|
  r_icmp_eq (pt := 21) dJ3_inflateIfNeededFor_14 (by decide)
  (r_vret rfl dJ3_inflateIfNeededFor_21)
  (r_aload_n (k := 0) dJ3_inflateIfNeededFor_17 rfl <|
  r_cVP (Z := mJ3_inflate) (n := 0) (ci := 23) (q := (RJ4, TJ4, 4)) (y0 := yJ3_isLatin1) dJ3_inflateIfNeededFor_18 rfl (by decide +kernel) ⟨by decide, by decide⟩ (by decide) rfl rfl q784 q786 q738 q785 q129 q787 (XS.out (noH _)) <|
  r_vret rfl dJ3_inflateIfNeededFor_21))
-- java/lang/AbstractStringBuilder.inflate()V cuts [0]
def tJ3_inflate_0 (d : Nat) (Q : Outcome → MH → Prop) (J : Nat → KT) : KT :=
  i_aload 0 <|
  i_call mJ3_isLatin1 d 1 (pV 23) (xOut Q) <|
  i_if_ne
  (i_aload 0 <|
  i_getR 23 0 <|
  i_alen <|
  i_call mJ6_newBytesFor d 1 pS (xOut Q) <|
  i_astore 1 <|
  i_aload 0 <|
  i_getR 23 0 <|
  i_const 0 <|
  i_aload 1 <|
  i_const 0 <|
  i_aload 0 <|
  i_getI 23 3 <|
  i_call mJ10_inflate d 5 pS (xOut Q) <|
  i_aload 0 <|
  i_aload 1 <|
  i_putR 23 0 <|
  i_aload 0 <|
  i_const 1 <|
  i_putI 23 1 .byte <|
  i_vret Q)
  (i_vret Q)
theorem kJ3_inflate_0 {d : Nat} {Q : Outcome → MH → Prop} : ∀ ls st h, tJ3_inflate_0 d Q (fun pc ls st h => WPb mJ3_inflate d pc ls st h Q) ls st h → WPb mJ3_inflate d 0 ls st h Q :=
  r_aload_n (k := 0) dJ3_inflate_0 rfl <|
  r_cU (Z := mJ3_isLatin1) (n := 0) (ci := 23) (q := (RJ4, TJ4, 4)) (owner := "java/lang/AbstractStringBuilder") (x := yJ3_isLatin1) dJ3_inflate_1 rfl (by decide +kernel) ⟨by decide, by decide⟩ (by decide) rfl rfl q735 q737 q738 q736 q129 q739 (XS.out (noH _)) <|
  r_if_ne (pt := 8) dJ3_inflate_4 (by decide)
  (r_aload_n (k := 0) dJ3_inflate_8 rfl <|
  r_getR (ci := 23) (q := (RJ4, TJ4, 4)) (k := 0) dJ3_inflate_9 (by decide) rfl in_J4 (by decide) (Or.inl q679) rfl <|
  r_alen dJ3_inflate_12 <|
  r_cS (Z := mJ6_newBytesFor) dJ3_inflate_13 rfl (by decide +kernel) ⟨by decide, by decide⟩ q672 q673 q132 q674 (XS.out (noH _)) <|
  r_astore_n (k := 1) dJ3_inflate_16 rfl <|
  r_aload_n (k := 0) dJ3_inflate_17 rfl <|
  r_getR (ci := 23) (q := (RJ4, TJ4, 4)) (k := 0) dJ3_inflate_18 (by decide) rfl in_J4 (by decide) (Or.inl q679) rfl <|
  r_iconst (v := 0) dJ3_inflate_21 rfl <|
  r_aload_n (k := 1) dJ3_inflate_22 rfl <|
  r_iconst (v := 0) dJ3_inflate_23 rfl <|
  r_aload_n (k := 0) dJ3_inflate_24 rfl <|
  r_getI (ci := 23) (q := (RJ4, TJ4, 4)) (k := 3) dJ3_inflate_25 (by decide) rfl in_J4 (by decide) (Or.inl q682) rfl <|
  r_cS (Z := mJ10_inflate) dJ3_inflate_28 rfl (by decide +kernel) ⟨by decide, by decide⟩ q788 q789 q136 q790 (XS.out (noH _)) <|
  r_aload_n (k := 0) dJ3_inflate_31 rfl <|
  r_aload_n (k := 1) dJ3_inflate_32 rfl <|
  r_putR (ci := 23) (q := (RJ4, TJ4, 4)) (k := 0) tyJ4 tyJ4_ok nmJ4 dJ3_inflate_33 (by decide) rfl in_J4 (by decide) (Or.inl ⟨rfl, (Or.inl q679)⟩) rfl rfl <|
  r_aload_n (k := 0) dJ3_inflate_36 rfl <|
  r_iconst (v := 1) dJ3_inflate_37 rfl <|
  r_putI (ci := 23) (q := (RJ4, TJ4, 4)) (k := 1) tyJ4 tyJ4_ok nmJ4 dJ3_inflate_38 (by decide) rfl in_J4 (by decide) (Or.inl ⟨rfl, (Or.inl q680)⟩) rfl rfl <|
  r_vret rfl dJ3_inflate_41)
  (r_vret rfl dJ3_inflate_7)
-- java/lang/AbstractStringBuilder.append(I)Ljava/lang/AbstractStringBuilder; cuts [0]
def tJ3_append_2_0 (d : Nat) (Q : Outcome → MH → Prop) (J : Nat → KT) : KT :=
  i_aload 0 <|
  i_getI 23 3 <|
  i_istore 2 <|
  i_iload 2 <|
  i_iload 1 <|
  i_call mJ16_stringSize d 1 pS (xOut Q) <|
  i_iadd <|
  i_istore 3 <|
  i_aload 0 <|
  i_iload 3 <|
  i_call mJ3_ensureCapacityInternal d 2 (pV 23) (xOut Q) <|
  i_aload 0 <|
  i_call mJ3_isLatin1 d 1 (pV 23) (xOut Q) <|
  i_if_eq
  (i_iload 1 <|
  i_iload 2 <|
  i_iload 3 <|
  i_aload 0 <|
  i_getR 23 0 <|
  i_call mJ6_getChars d 4 pS (xOut Q) <|
  i_pop <|
  i_aload 0 <|
  i_iload 3 <|
  i_putI 23 3 .int <|
  i_aload 0 <|
  i_ret Q (some (.object "java/lang/AbstractStringBuilder")))
  (i_iload 1 <|
  i_iload 3 <|
  i_aload 0 <|
  i_getR 23 0 <|
  i_call mJ16_getChars d 3 pS (xOut Q) <|
  i_pop <|
  i_aload 0 <|
  i_iload 3 <|
  i_putI 23 3 .int <|
  i_aload 0 <|
  i_ret Q (some (.object "java/lang/AbstractStringBuilder")))
theorem kJ3_append_2_0 {d : Nat} {Q : Outcome → MH → Prop} : ∀ ls st h, tJ3_append_2_0 d Q (fun pc ls st h => WPb mJ3_append_2 d pc ls st h Q) ls st h → WPb mJ3_append_2 d 0 ls st h Q :=
  r_aload_n (k := 0) dJ3_append_2_0 rfl <|
  r_getI (ci := 23) (q := (RJ4, TJ4, 4)) (k := 3) dJ3_append_2_1 (by decide) rfl in_J4 (by decide) (Or.inl q682) rfl <|
  r_istore_n (k := 2) dJ3_append_2_4 rfl <|
  r_iload_n (k := 2) dJ3_append_2_5 rfl <|
  r_iload_n (k := 1) dJ3_append_2_6 rfl <|
  r_cS (Z := mJ16_stringSize) dJ3_append_2_7 rfl (by decide +kernel) ⟨by decide, by decide⟩ q816 q817 q143 q818 (XS.out (noH _)) <|
  r_iadd dJ3_append_2_10 <|
  r_istore_n (k := 3) dJ3_append_2_11 rfl <|
  r_aload_n (k := 0) dJ3_append_2_12 rfl <|
  r_iload_n (k := 3) dJ3_append_2_13 rfl <|
  r_cVP (Z := mJ3_ensureCapacityInternal) (n := 1) (ci := 23) (q := (RJ4, TJ4, 4)) (y0 := yJ3_isLatin1) dJ3_append_2_14 rfl (by decide +kernel) ⟨by decide, by decide⟩ (by decide) rfl rfl q704 q706 q738 q705 q129 q707 (XS.out (noH _)) <|
  r_aload_n (k := 0) dJ3_append_2_17 rfl <|
  r_cU (Z := mJ3_isLatin1) (n := 0) (ci := 23) (q := (RJ4, TJ4, 4)) (owner := "java/lang/AbstractStringBuilder") (x := yJ3_isLatin1) dJ3_append_2_18 rfl (by decide +kernel) ⟨by decide, by decide⟩ (by decide) rfl rfl q735 q737 q738 q736 q129 q739 (XS.out (noH _)) <|
  r_if_eq (pt := 37) dJ3_append_2_21 (by decide)
  (r_iload_n (k := 1) dJ3_append_2_37 rfl <|
  r_iload_n (k := 2) dJ3_append_2_38 rfl <|
  r_iload_n (k := 3) dJ3_append_2_39 rfl <|
  r_aload_n (k := 0) dJ3_append_2_40 rfl <|
  r_getR (ci := 23) (q := (RJ4, TJ4, 4)) (k := 0) dJ3_append_2_41 (by decide) rfl in_J4 (by decide) (Or.inl q679) rfl <|
  r_cS (Z := mJ6_getChars) dJ3_append_2_44 rfl (by decide +kernel) ⟨by decide, by decide⟩ q826 q827 q132 q828 (XS.out (noH _)) <|
  r_pop dJ3_append_2_47 <|
  r_aload_n (k := 0) dJ3_append_2_48 rfl <|
  r_iload_n (k := 3) dJ3_append_2_49 rfl <|
  r_putI (ci := 23) (q := (RJ4, TJ4, 4)) (k := 3) tyJ4 tyJ4_ok nmJ4 dJ3_append_2_50 (by decide) rfl in_J4 (by decide) (Or.inl ⟨rfl, (Or.inl q682)⟩) rfl rfl <|
  r_aload_n (k := 0) dJ3_append_2_53 rfl <|
  r_ret rfl (Or.inr (Or.inr ⟨dJ3_append_2_54, Or.inl ⟨_, rfl⟩⟩)))
  (r_iload_n (k := 1) dJ3_append_2_24 rfl <|
  r_iload_n (k := 3) dJ3_append_2_25 rfl <|
  r_aload_n (k := 0) dJ3_append_2_26 rfl <|
  r_getR (ci := 23) (q := (RJ4, TJ4, 4)) (k := 0) dJ3_append_2_27 (by decide) rfl in_J4 (by decide) (Or.inl q679) rfl <|
  r_cS (Z := mJ16_getChars) dJ3_append_2_30 rfl (by decide +kernel) ⟨by decide, by decide⟩ q819 q820 q143 q821 (XS.out (noH _)) <|
  r_pop dJ3_append_2_33 <|
  r_goto (pt := 48) dJ3_append_2_34 (by decide) <|
  r_aload_n (k := 0) dJ3_append_2_48 rfl <|
  r_iload_n (k := 3) dJ3_append_2_49 rfl <|
  r_putI (ci := 23) (q := (RJ4, TJ4, 4)) (k := 3) tyJ4 tyJ4_ok nmJ4 dJ3_append_2_50 (by decide) rfl in_J4 (by decide) (Or.inl ⟨rfl, (Or.inl q682)⟩) rfl rfl <|
  r_aload_n (k := 0) dJ3_append_2_53 rfl <|
  r_ret rfl (Or.inr (Or.inr ⟨dJ3_append_2_54, Or.inl ⟨_, rfl⟩⟩)))
-- java/lang/AbstractStringBuilder.getValue()[B cuts [0]
def tJ3_getValue_0 (d : Nat) (Q : Outcome → MH → Prop) (J : Nat → KT) : KT :=
  i_aload 0 <|
  i_getR 23 0 <|
  i_ret Q (some (.array .byte))
theorem kJ3_getValue_0 {d : Nat} {Q : Outcome → MH → Prop} : ∀ ls st h, tJ3_getValue_0 d Q (fun pc ls st h => WPb mJ3_getValue d pc ls st h Q) ls st h → WPb mJ3_getValue d 0 ls st h Q :=
  r_aload_n (k := 0) dJ3_getValue_0 rfl <|
  r_getR (ci := 23) (q := (RJ4, TJ4, 4)) (k := 0) dJ3_getValue_1 (by decide) rfl in_J4 (by decide) (Or.inl q679) rfl <|
  r_ret rfl (Or.inr (Or.inr ⟨dJ3_getValue_4, Or.inr ⟨_, rfl⟩⟩))
-- java/lang/AbstractStringBuilder.length()I cuts [0]
def tJ3_length_0 (d : Nat) (Q : Outcome → MH → Prop) (J : Nat → KT) : KT :=
  i_aload 0 <|
  i_getI 23 3 <|
  i_ret Q (some .int)
theorem kJ3_length_0 {d : Nat} {Q : Outcome → MH → Prop} : ∀ ls st h, tJ3_length_0 d Q (fun pc ls st h => WPb mJ3_length d pc ls st h Q) ls st h → WPb mJ3_length d 0 ls st h Q :=
  r_aload_n (k := 0) dJ3_length_0 rfl <|
  r_getI (ci := 23) (q := (RJ4, TJ4, 4)) (k := 3) dJ3_length_1 (by decide) rfl in_J4 (by decide) (Or.inl q682) rfl <|
  r_ret rfl (Or.inl ⟨dJ3_length_4, Or.inl rfl⟩)
-- java/lang/AbstractStringBuilder.append(C)Ljava/lang/AbstractStringBuilder; cuts [0, 45]
def tJ3_append_3_0 (d : Nat) (Q : Outcome → MH → Prop) (J : Nat → KT) : KT :=
  i_aload 0 <|
  i_aload 0 <|
  i_getI 23 3 <|
  i_const 1 <|
  i_iadd <|
  i_call mJ3_ensureCapacityInternal d 2 (pV 23) (xOut Q) <|
  i_aload 0 <|
  i_call mJ3_isLatin1 d 1 (pV 23) (xOut Q) <|
  i_if_eq
  ((J 45))
  (i_iload 1 <|
  i_call mJ10_canEncode d 1 pS (xOut Q) <|
  i_if_eq
  ((J 45))
  (i_aload 0 <|
  i_getR 23 0 <|
  i_aload 0 <|
  i_dup <|
  i_getI 23 3 <|
  i_dup_x1 <|
  i_const 1 <|
  i_iadd <|
  i_putI 23 3 .int <|
  i_iload 1 <|
  i_i2b <|
  i_bast <|
  i_aload 0 <|
  i_ret Q (some (.object "java/lang/AbstractStringBuilder"))))
theorem kJ3_append_3_0 {d : Nat} {Q : Outcome → MH → Prop} : ∀ ls st h, tJ3_append_3_0 d Q (fun pc ls st h => WPb mJ3_append_3 d pc ls st h Q) ls st h → WPb mJ3_append_3 d 0 ls st h Q :=
  r_aload_n (k := 0) dJ3_append_3_0 rfl <|
  r_aload_n (k := 0) dJ3_append_3_1 rfl <|
  r_getI (ci := 23) (q := (RJ4, TJ4, 4)) (k := 3) dJ3_append_3_2 (by decide) rfl in_J4 (by decide) (Or.inl q682) rfl <|
  r_iconst (v := 1) dJ3_append_3_5 rfl <|
  r_iadd dJ3_append_3_6 <|
  r_cVP (Z := mJ3_ensureCapacityInternal) (n := 1) (ci := 23) (q := (RJ4, TJ4, 4)) (y0 := yJ3_isLatin1) dJ3_append_3_7 rfl (by decide +kernel) ⟨by decide, by decide⟩ (by decide) rfl rfl q704 q706 q738 q705 q129 q707 (XS.out (noH _)) <|
  r_aload_n (k := 0) dJ3_append_3_10 rfl <|
  r_cU (Z := mJ3_isLatin1) (n := 0) (ci := 23) (q := (RJ4, TJ4, 4)) (owner := "java/lang/AbstractStringBuilder") (x := yJ3_isLatin1) dJ3_append_3_11 rfl (by decide +kernel) ⟨by decide, by decide⟩ (by decide) rfl rfl q735 q737 q738 q736 q129 q739 (XS.out (noH _)) <|
  r_if_eq (pt := 45) dJ3_append_3_14 (by decide)
  ((fun _ _ _ H => H))
  (r_iload_n (k := 1) dJ3_append_3_17 rfl <|
  r_cS (Z := mJ10_canEncode) dJ3_append_3_18 rfl (by decide +kernel) ⟨by decide, by decide⟩ q1158 q1159 q136 q1160 (XS.out (noH _)) <|
  r_if_eq (pt := 45) dJ3_append_3_21 (by decide)
  ((fun _ _ _ H => H))
  (r_aload_n (k := 0) dJ3_append_3_24 rfl <|
  r_getR (ci := 23) (q := (RJ4, TJ4, 4)) (k := 0) dJ3_append_3_25 (by decide) rfl in_J4 (by decide) (Or.inl q679) rfl <|
  r_aload_n (k := 0) dJ3_append_3_28 rfl <|
  r_dup dJ3_append_3_29 <|
  r_getI (ci := 23) (q := (RJ4, TJ4, 4)) (k := 3) dJ3_append_3_30 (by decide) rfl in_J4 (by decide) (Or.inl q682) rfl <|
  r_dup_x1 dJ3_append_3_33 <|
  r_iconst (v := 1) dJ3_append_3_34 rfl <|
  r_iadd dJ3_append_3_35 <|
  r_putI (ci := 23) (q := (RJ4, TJ4, 4)) (k := 3) tyJ4 tyJ4_ok nmJ4 dJ3_append_3_36 (by decide) rfl in_J4 (by decide) (Or.inl ⟨rfl, (Or.inl q682)⟩) rfl rfl <|
  r_iload_n (k := 1) dJ3_append_3_39 rfl <|
  r_i2b dJ3_append_3_40 <|
  r_bast dJ3_append_3_41 <|
  r_goto (pt := 75) dJ3_append_3_42 (by decide) <|
  r_aload_n (k := 0) dJ3_append_3_75 rfl <|
  r_ret rfl (Or.inr (Or.inr ⟨dJ3_append_3_76, Or.inl ⟨_, rfl⟩⟩))))
def tJ3_append_3_45 (d : Nat) (Q : Outcome → MH → Prop) (J : Nat → KT) : KT :=
  i_aload 0 <|
  i_call mJ3_isLatin1 d 1 (pV 23) (xOut Q) <|
  i_if_eq
  (i_aload 0 <|
  i_getR 23 0 <|
  i_aload 0 <|
  i_dup <|
  i_getI 23 3 <|
  i_dup_x1 <|
  i_const 1 <|
  i_iadd <|
  i_putI 23 3 .int <|
  i_iload 1 <|
  i_call mJ6_putCharSB d 3 pS (xOut Q) <|
  i_aload 0 <|
  i_ret Q (some (.object "java/lang/AbstractStringBuilder")))
  (i_aload 0 <|
  i_call mJ3_inflate d 1 (pV 23) (xOut Q) <|
  i_aload 0 <|
  i_getR 23 0 <|
  i_aload 0 <|
  i_dup <|
  i_getI 23 3 <|
  i_dup_x1 <|
  i_const 1 <|
  i_iadd <|
  i_putI 23 3 .int <|
  i_iload 1 <|
  i_call mJ6_putCharSB d 3 pS (xOut Q) <|
  i_aload 0 <|
  i_ret Q (some (.object "java/lang/AbstractStringBuilder")))
theorem kJ3_append_3_45 {d : Nat} {Q : Outcome → MH → Prop} : ∀ ls st h, tJ3_append_3_45 d Q (fun pc ls st h => WPb mJ3_append_3 d pc ls st h Q) ls st h → WPb mJ3_append_3 d 45 ls st h Q :=
  r_aload_n (k := 0) dJ3_append_3_45 rfl <|
  r_cU (Z := mJ3_isLatin1) (n := 0) (ci := 23) (q := (RJ4, TJ4, 4)) (owner := "java/lang/AbstractStringBuilder") (x := yJ3_isLatin1) dJ3_append_3_46 rfl (by decide +kernel) ⟨by decide, by decide⟩ (by decide) rfl rfl q735 q737 q738 q736 q129 q739 (XS.out (noH _)) <|
  r_if_eq (pt := 56) dJ3_append_3_49 (by decide)
  (r_aload_n (k := 0) dJ3_append_3_56 rfl <|
  r_getR (ci := 23) (q := (RJ4, TJ4, 4)) (k := 0) dJ3_append_3_57 (by decide) rfl in_J4 (by decide) (Or.inl q679) rfl <|
  r_aload_n (k := 0) dJ3_append_3_60 rfl <|
  r_dup dJ3_append_3_61 <|
  r_getI (ci := 23) (q := (RJ4, TJ4, 4)) (k := 3) dJ3_append_3_62 (by decide) rfl in_J4 (by decide) (Or.inl q682) rfl <|
  r_dup_x1 dJ3_append_3_65 <|
  r_iconst (v := 1) dJ3_append_3_66 rfl <|
  r_iadd dJ3_append_3_67 <|
  r_putI (ci := 23) (q := (RJ4, TJ4, 4)) (k := 3) tyJ4 tyJ4_ok nmJ4 dJ3_append_3_68 (by decide) rfl in_J4 (by decide) (Or.inl ⟨rfl, (Or.inl q682)⟩) rfl rfl <|
  r_iload_n (k := 1) dJ3_append_3_71 rfl <|
  r_cS (Z := mJ6_putCharSB) dJ3_append_3_72 rfl (by decide +kernel) ⟨by decide, by decide⟩ q1161 q1162 q132 q1163 (XS.out (noH _)) <|
  r_aload_n (k := 0) dJ3_append_3_75 rfl <|
  r_ret rfl (Or.inr (Or.inr ⟨dJ3_append_3_76, Or.inl ⟨_, rfl⟩⟩)))
  (r_aload_n (k := 0) dJ3_append_3_52 rfl <|
  r_cVP (Z := mJ3_inflate) (n := 0) (ci := 23) (q := (RJ4, TJ4, 4)) (y0 := yJ3_isLatin1) dJ3_append_3_53 rfl (by decide +kernel) ⟨by decide, by decide⟩ (by decide) rfl rfl q784 q786 q738 q785 q129 q787 (XS.out (noH _)) <|
  r_aload_n (k := 0) dJ3_append_3_56 rfl <|
  r_getR (ci := 23) (q := (RJ4, TJ4, 4)) (k := 0) dJ3_append_3_57 (by decide) rfl in_J4 (by decide) (Or.inl q679) rfl <|
  r_aload_n (k := 0) dJ3_append_3_60 rfl <|
  r_dup dJ3_append_3_61 <|
  r_getI (ci := 23) (q := (RJ4, TJ4, 4)) (k := 3) dJ3_append_3_62 (by decide) rfl in_J4 (by decide) (Or.inl q682) rfl <|
  r_dup_x1 dJ3_append_3_65 <|
  r_iconst (v := 1) dJ3_append_3_66 rfl <|
  r_iadd dJ3_append_3_67 <|
  r_putI (ci := 23) (q := (RJ4, TJ4, 4)) (k := 3) tyJ4 tyJ4_ok nmJ4 dJ3_append_3_68 (by decide) rfl in_J4 (by decide) (Or.inl ⟨rfl, (Or.inl q682)⟩) rfl rfl <|
  r_iload_n (k := 1) dJ3_append_3_71 rfl <|
  r_cS (Z := mJ6_putCharSB) dJ3_append_3_72 rfl (by decide +kernel) ⟨by decide, by decide⟩ q1161 q1162 q132 q1163 (XS.out (noH _)) <|
  r_aload_n (k := 0) dJ3_append_3_75 rfl <|
  r_ret rfl (Or.inr (Or.inr ⟨dJ3_append_3_76, Or.inl ⟨_, rfl⟩⟩)))
-- java/lang/StringBuilder.<init>()V cuts [0]
def tJ4_init_0 (d : Nat) (Q : Outcome → MH → Prop) (J : Nat → KT) : KT :=
  i_aload 0 <|
  i_const 16 <|
  i_call mJ3_init d 2 pI (xOut Q) <|
  i_vret Q
theorem kJ4_init_0 {d : Nat} {Q : Outcome → MH → Prop} : ∀ ls st h, tJ4_init_0 d Q (fun pc ls st h => WPb mJ4_init d pc ls st h Q) ls st h → WPb mJ4_init d 0 ls st h Q :=
  r_aload_n (k := 0) dJ4_init_0 rfl <|
  r_bipush (v := 16) dJ4_init_1 rfl <|
  r_cI (Z := mJ3_init) dJ4_init_3 rfl rfl rfl (by decide +kernel) ⟨by decide, by decide⟩ q666 q667 q129 q668 (XS.out (noH _)) <|
  r_vret rfl dJ4_init_6
-- java/lang/StringBuilder.append(Ljava/lang/String;)Ljava/lang/StringBuilder; cuts [0]
def tJ4_append_0 (d : Nat) (Q : Outcome → MH → Prop) (J : Nat → KT) : KT :=
  i_aload 0 <|
  i_aload 1 <|
  i_call mJ3_append d 2 (pV 23) (xOut Q) <|
  i_pop <|
  i_aload 0 <|
  i_ret Q (some (.object "java/lang/StringBuilder"))
theorem kJ4_append_0 {d : Nat} {Q : Outcome → MH → Prop} : ∀ ls st h, tJ4_append_0 d Q (fun pc ls st h => WPb mJ4_append d pc ls st h Q) ls st h → WPb mJ4_append d 0 ls st h Q :=
  r_aload_n (k := 0) dJ4_append_0 rfl <|
  r_aload_n (k := 1) dJ4_append_1 rfl <|
  r_cSU (Z := mJ3_append) (n := 1) (ci := 23) (q := (RJ4, TJ4, 4)) dJ4_append_2 rfl (by decide +kernel) (by decide) (by decide) rfl q697 q2726 q691 q698 q129 q699 (XS.out (noH _)) <|
  r_pop dJ4_append_5 <|
  r_aload_n (k := 0) dJ4_append_6 rfl <|
  r_ret rfl (Or.inr (Or.inr ⟨dJ4_append_7, Or.inl ⟨_, rfl⟩⟩))
-- java/lang/StringBuilder.append(I)Ljava/lang/StringBuilder; cuts [0]
def tJ4_append_2_0 (d : Nat) (Q : Outcome → MH → Prop) (J : Nat → KT) : KT :=
  i_aload 0 <|
  i_iload 1 <|
  i_call mJ3_append_2 d 2 (pV 23) (xOut Q) <|
  i_pop <|
  i_aload 0 <|
  i_ret Q (some (.object "java/lang/StringBuilder"))
theorem kJ4_append_2_0 {d : Nat} {Q : Outcome → MH → Prop} : ∀ ls st h, tJ4_append_2_0 d Q (fun pc ls st h => WPb mJ4_append_2 d pc ls st h Q) ls st h → WPb mJ4_append_2 d 0 ls st h Q :=
  r_aload_n (k := 0) dJ4_append_2_0 rfl <|
  r_iload_n (k := 1) dJ4_append_2_1 rfl <|
  r_cSU (Z := mJ3_append_2) (n := 1) (ci := 23) (q := (RJ4, TJ4, 4)) dJ4_append_2_2 rfl (by decide +kernel) (by decide) (by decide) rfl q813 q2733 q691 q814 q129 q815 (XS.out (noH _)) <|
  r_pop dJ4_append_2_5 <|
  r_aload_n (k := 0) dJ4_append_2_6 rfl <|
  r_ret rfl (Or.inr (Or.inr ⟨dJ4_append_2_7, Or.inl ⟨_, rfl⟩⟩))
-- java/lang/StringBuilder.toString()Ljava/lang/String; cuts [0]
def tJ4_toString_0 (d : Nat) (Q : Outcome → MH → Prop) (J : Nat → KT) : KT :=
  i_new 24 4 <|
  i_dup <|
  i_aload 0 <|
  i_call mJ5_init d 2 pI (xOut Q) <|
  i_ret Q (some (.object "java/lang/String"))
theorem kJ4_toString_0 {d : Nat} {Q : Outcome → MH → Prop} : ∀ ls st h, tJ4_toString_0 d Q (fun pc ls st h => WPb mJ4_toString d pc ls st h Q) ls st h → WPb mJ4_toString d 0 ls st h Q :=
  r_new (ci := 24) (q := (RJ5, TJ5, 4)) tyJ5 tyJ5_ok (by decide) (by decide) (by decide) rfl rfl in_J5 q840 q841 q131 dJ4_toString_0 <|
  r_dup dJ4_toString_3 <|
  r_aload_n (k := 0) dJ4_toString_4 rfl <|
  r_cI (Z := mJ5_init) dJ4_toString_5 rfl rfl rfl (by decide +kernel) ⟨by decide, by decide⟩ q842 q843 q131 q844 (XS.out (noH _)) <|
  r_ret rfl (Or.inr (Or.inr ⟨dJ4_toString_8, Or.inl ⟨_, rfl⟩⟩))
-- java/lang/StringBuilder.length()I cuts [0]
def tJ4_length_0 (d : Nat) (Q : Outcome → MH → Prop) (J : Nat → KT) : KT :=
  i_aload 0 <|
  i_call mJ3_length d 1 (pV 23) (xOut Q) <|
  i_ret Q (some .int)
theorem kJ4_length_0 {d : Nat} {Q : Outcome → MH → Prop} : ∀ ls st h, tJ4_length_0 d Q (fun pc ls st h => WPb mJ4_length d pc ls st h Q) ls st h → WPb mJ4_length d 0 ls st h Q :=
  r_aload_n (k := 0) dJ4_length_0 rfl <|
  r_cSU (Z := mJ3_length) (n := 0) (ci := 23) (q := (RJ4, TJ4, 4)) dJ4_length_1 rfl (by decide +kernel) (by decide) (by decide) rfl q860 q856 q691 q855 q129 q861 (XS.out (noH _)) <|
  r_ret rfl (Or.inl ⟨dJ4_length_4, Or.inl rfl⟩)
-- java/lang/StringBuilder.append(C)Ljava/lang/StringBuilder; cuts [0]
def tJ4_append_3_0 (d : Nat) (Q : Outcome → MH → Prop) (J : Nat → KT) : KT :=
  i_aload 0 <|
  i_iload 1 <|
  i_call mJ3_append_3 d 2 (pV 23) (xOut Q) <|
  i_pop <|
  i_aload 0 <|
  i_ret Q (some (.object "java/lang/StringBuilder"))
theorem kJ4_append_3_0 {d : Nat} {Q : Outcome → MH → Prop} : ∀ ls st h, tJ4_append_3_0 d Q (fun pc ls st h => WPb mJ4_append_3 d pc ls st h Q) ls st h → WPb mJ4_append_3 d 0 ls st h Q :=
  r_aload_n (k := 0) dJ4_append_3_0 rfl <|
  r_iload_n (k := 1) dJ4_append_3_1 rfl <|
  r_cSU (Z := mJ3_append_3) (n := 1) (ci := 23) (q := (RJ4, TJ4, 4)) dJ4_append_3_2 rfl (by decide +kernel) (by decide) (by decide) rfl q1155 q2734 q691 q1156 q129 q1157 (XS.out (noH _)) <|
  r_pop dJ4_append_3_5 <|
  r_aload_n (k := 0) dJ4_append_3_6 rfl <|
  r_ret rfl (Or.inr (Or.inr ⟨dJ4_append_3_7, Or.inl ⟨_, rfl⟩⟩))
-- java/lang/String.checkBoundsBeginEnd(III)V cuts [0]
def tJ5_checkBoundsBeginEnd_0 (d : Nat) (Q : Outcome → MH → Prop) (J : Nat → KT) : KT :=
  i_iload 0 <|
  i_iload 1 <|
  i_iload 2 <|
  i_stq 2 <|
  i_call mJ11_checkFromToIndex d 4 pS (xOut Q) <|
  i_pop <|
  i_vret Q
theorem kJ5_checkBoundsBeginEnd_0 {d : Nat} {Q : Outcome → MH → Prop} : ∀ ls st h, tJ5_checkBoundsBeginEnd_0 d Q (fun pc ls st h => WPb mJ5_checkBoundsBeginEnd d pc ls st h Q) ls st h → WPb mJ5_checkBoundsBeginEnd d 0 ls st h Q :=
  r_iload_n (k := 0) dJ5_checkBoundsBeginEnd_0 rfl <|
  r_iload_n (k := 1) dJ5_checkBoundsBeginEnd_1 rfl <|
  r_iload_n (k := 2) dJ5_checkBoundsBeginEnd_2 rfl <|
  r_getsQ (j := 2) (T := ("jdk/internal/util/Preconditions", "SIOOBE_FORMATTER", "Ljava/util/function/BiFunction;")) (by decide +kernel) q752 dJ5_checkBoundsBeginEnd_3 <|
  r_cS (Z := mJ11_checkFromToIndex) dJ5_checkBoundsBeginEnd_6 rfl (by decide +kernel) ⟨by decide, by decide⟩ q754 q755 q137 q756 (XS.out (noH _)) <|
  r_pop dJ5_checkBoundsBeginEnd_9 <|
  r_vret rfl dJ5_checkBoundsBeginEnd_10
-- java/lang/String.length()I cuts [0]
def tJ5_length_0 (d : Nat) (Q : Outcome → MH → Prop) (J : Nat → KT) : KT :=
  i_aload 0 <|
  i_getSR 0 <|
  i_alen <|
  i_aload 0 <|
  i_call mJ5_coder d 1 (pV 24) (xOut Q) <|
  i_ishr <|
  i_ret Q (some .int)
theorem kJ5_length_0 {d : Nat} {Q : Outcome → MH → Prop} : ∀ ls st h, tJ5_length_0 d Q (fun pc ls st h => WPb mJ5_length d pc ls st h Q) ls st h → WPb mJ5_length d 0 ls st h Q :=
  r_aload_n (k := 0) dJ5_length_0 rfl <|
  r_getSR (k := 0) dJ5_length_1 (by decide) q911 rfl <|
  r_alen dJ5_length_4 <|
  r_aload_n (k := 0) dJ5_length_5 rfl <|
  r_cV (Z := mJ5_coder) (ci := 24) (q := (RJ5, TJ5, 4)) dJ5_length_6 rfl (by decide +kernel) ⟨by decide, by decide⟩ (by decide) rfl rfl q770 q771 q772 q131 q773 (XS.out (noH _)) <|
  r_ishr dJ5_length_9 <|
  r_ret rfl (Or.inl ⟨dJ5_length_10, Or.inl rfl⟩)
-- java/lang/String.coder()B cuts [0]
def tJ5_coder_0 (d : Nat) (Q : Outcome → MH → Prop) (J : Nat → KT) : KT :=
  i_const 1 <|
  i_if_eq
  (i_const 1 <|
  i_ret Q (some .byte))
  (i_aload 0 <|
  i_getSI 1 <|
  i_ret Q (some .byte))
theorem kJ5_coder_0 {d : Nat} {Q : Outcome → MH → Prop} : ∀ ls st h, tJ5_coder_0 d Q (fun pc ls st h => WPb mJ5_coder d pc ls st h Q) ls st h → WPb mJ5_coder d 0 ls st h Q :=
  r_getsI (x := 1) (T := ("java/lang/String", "COMPACT_STRINGS", "Z")) (by decide +kernel) q774 dJ5_coder_0 <|
  r_if_eq (pt := 13) dJ5_coder_3 (by decide)
  (r_iconst (v := 1) dJ5_coder_13 rfl <|
  r_ret rfl (Or.inl ⟨dJ5_coder_14, Or.inr (Or.inr (Or.inl rfl))⟩))
  (r_aload_n (k := 0) dJ5_coder_6 rfl <|
  r_getSI (k := 1) dJ5_coder_7 (by decide) q912 rfl (fun _ _ _ _ => Or.inr trivial) <|
  r_goto (pt := 14) dJ5_coder_10 (by decide) <|
  r_ret rfl (Or.inl ⟨dJ5_coder_14, Or.inr (Or.inr (Or.inl rfl))⟩))
-- java/lang/String.checkBoundsOffCount(III)I cuts [0]
def tJ5_checkBoundsOffCount_0 (d : Nat) (Q : Outcome → MH → Prop) (J : Nat → KT) : KT :=
  i_iload 0 <|
  i_iload 1 <|
  i_iload 2 <|
  i_stq 2 <|
  i_call mJ11_checkFromIndexSize d 4 pS (xOut Q) <|
  i_ret Q (some .int)
theorem kJ5_checkBoundsOffCount_0 {d : Nat} {Q : Outcome → MH → Prop} : ∀ ls st h, tJ5_checkBoundsOffCount_0 d Q (fun pc ls st h => WPb mJ5_checkBoundsOffCount d pc ls st h Q) ls st h → WPb mJ5_checkBoundsOffCount d 0 ls st h Q :=
  r_iload_n (k := 0) dJ5_checkBoundsOffCount_0 rfl <|
  r_iload_n (k := 1) dJ5_checkBoundsOffCount_1 rfl <|
  r_iload_n (k := 2) dJ5_checkBoundsOffCount_2 rfl <|
  r_getsQ (j := 2) (T := ("jdk/internal/util/Preconditions", "SIOOBE_FORMATTER", "Ljava/util/function/BiFunction;")) (by decide +kernel) q752 dJ5_checkBoundsOffCount_3 <|
  r_cS (Z := mJ11_checkFromIndexSize) dJ5_checkBoundsOffCount_6 rfl (by decide +kernel) ⟨by decide, by decide⟩ q800 q801 q137 q802 (XS.out (noH _)) <|
  r_ret rfl (Or.inl ⟨dJ5_checkBoundsOffCount_9, Or.inl rfl⟩)
-- java/lang/String.getBytes([BIB)V cuts [0]
def tJ5_getBytes_0 (d : Nat) (Q : Outcome → MH → Prop) (J : Nat → KT) : KT :=
  i_aload 0 <|
  i_call mJ5_coder d 1 (pV 24) (xOut Q) <|
  i_iload 3 <|
  i_icmp_ne
  (i_aload 0 <|
  i_getSR 0 <|
  i_const 0 <|
  i_aload 1 <|
  i_iload 2 <|
  i_aload 0 <|
  i_getSR 0 <|
  i_alen <|
  i_call mJ10_inflate d 5 pS (xOut Q) <|
  i_vret Q)
  (i_aload 0 <|
  i_getSR 0 <|
  i_const 0 <|
  i_aload 1 <|
  i_iload 2 <|
  i_iload 3 <|
  i_ishl <|
  i_aload 0 <|
  i_getSR 0 <|
  i_alen <|
  i_cpy 0 d <|
  i_vret Q)
theorem kJ5_getBytes_0 {d : Nat} {Q : Outcome → MH → Prop} : ∀ ls st h, tJ5_getBytes_0 d Q (fun pc ls st h => WPb mJ5_getBytes d pc ls st h Q) ls st h → WPb mJ5_getBytes d 0 ls st h Q :=
  r_aload_n (k := 0) dJ5_getBytes_0 rfl <|
  r_cV (Z := mJ5_coder) (ci := 24) (q := (RJ5, TJ5, 4)) dJ5_getBytes_1 rfl (by decide +kernel) ⟨by decide, by decide⟩ (by decide) rfl rfl q770 q771 q772 q131 q773 (XS.out (noH _)) <|
  r_iload_n (k := 3) dJ5_getBytes_4 rfl <|
  r_icmp_ne (pt := 28) dJ5_getBytes_5 (by decide)
  (r_aload_n (k := 0) dJ5_getBytes_28 rfl <|
  r_getSR (k := 0) dJ5_getBytes_29 (by decide) q911 rfl <|
  r_iconst (v := 0) dJ5_getBytes_32 rfl <|
  r_aload_n (k := 1) dJ5_getBytes_33 rfl <|
  r_iload_n (k := 2) dJ5_getBytes_34 rfl <|
  r_aload_n (k := 0) dJ5_getBytes_35 rfl <|
  r_getSR (k := 0) dJ5_getBytes_36 (by decide) q911 rfl <|
  r_alen dJ5_getBytes_39 <|
  r_cS (Z := mJ10_inflate) dJ5_getBytes_40 rfl (by decide +kernel) ⟨by decide, by decide⟩ q808 q789 q136 q790 (XS.out (noH _)) <|
  r_vret rfl dJ5_getBytes_43)
  (r_aload_n (k := 0) dJ5_getBytes_8 rfl <|
  r_getSR (k := 0) dJ5_getBytes_9 (by decide) q911 rfl <|
  r_iconst (v := 0) dJ5_getBytes_12 rfl <|
  r_aload_n (k := 1) dJ5_getBytes_13 rfl <|
  r_iload_n (k := 2) dJ5_getBytes_14 rfl <|
  r_iload_n (k := 3) dJ5_getBytes_15 rfl <|
  r_ishl dJ5_getBytes_16 <|
  r_aload_n (k := 0) dJ5_getBytes_17 rfl <|
  r_getSR (k := 0) dJ5_getBytes_18 (by decide) q911 rfl <|
  r_alen dJ5_getBytes_21 <|
  r_cpy (t := 0) (by decide) rfl q807 q734 q733 q128 dJ5_getBytes_22 <|
  r_goto (pt := 43) dJ5_getBytes_25 (by decide) <|
  r_vret rfl dJ5_getBytes_43)
-- java/lang/String.<init>(Ljava/lang/StringBuilder;)V cuts [0]
def tJ5_init_0 (d : Nat) (Q : Outcome → MH → Prop) (J : Nat → KT) : KT :=
  i_aload 0 <|
  i_aload 1 <|
  i_null <|
  i_call mJ5_init_2 d 3 pI (xOut Q) <|
  i_vret Q
theorem kJ5_init_0 {d : Nat} {Q : Outcome → MH → Prop} : ∀ ls st h, tJ5_init_0 d Q (fun pc ls st h => WPb mJ5_init d pc ls st h Q) ls st h → WPb mJ5_init d 0 ls st h Q :=
  r_aload_n (k := 0) dJ5_init_0 rfl <|
  r_aload_n (k := 1) dJ5_init_1 rfl <|
  r_null dJ5_init_2 <|
  r_cI (Z := mJ5_init_2) dJ5_init_3 rfl rfl rfl (by decide +kernel) ⟨by decide, by decide⟩ q845 q846 q131 q847 (XS.out (noH _)) <|
  r_vret rfl dJ5_init_6
-- java/lang/String.<init>(Ljava/lang/AbstractStringBuilder;Ljava/lang/Void;)V cuts [0]
def tJ5_init_2_0 (d : Nat) (Q : Outcome → MH → Prop) (J : Nat → KT) : KT :=
  i_aload 0 <|
  i_obj d <|
  i_aload 1 <|
  i_call mJ3_getValue d 1 (pV 23) (xOut Q) <|
  i_astore 3 <|
  i_aload 1 <|
  i_call mJ4_length d 1 (pV 23) (xOut Q) <|
  i_istore 4 <|
  i_aload 1 <|
  i_call mJ3_isLatin1 d 1 (pV 23) (xOut Q) <|
  i_if_eq
  (i_const 1 <|
  i_if_eq
  (i_aload 0 <|
  i_const 1 <|
  i_putI 24 1 .byte <|
  i_aload 0 <|
  i_aload 3 <|
  i_const 0 <|
  i_iload 4 <|
  i_const 1 <|
  i_ishl <|
  i_call mJ9_copyOfRange d 3 pS (xOut Q) <|
  i_putR 24 0 <|
  i_vret Q)
  (i_aload 1 <|
  i_getI 23 2 <|
  i_if_eq
  (i_aload 0 <|
  i_const 1 <|
  i_putI 24 1 .byte <|
  i_aload 0 <|
  i_aload 3 <|
  i_const 0 <|
  i_iload 4 <|
  i_const 1 <|
  i_ishl <|
  i_call mJ9_copyOfRange d 3 pS (xOut Q) <|
  i_putR 24 0 <|
  i_vret Q)
  (i_aload 0 <|
  i_aload 3 <|
  i_const 0 <|
  i_iload 4 <|
  i_call mJ6_compress d 3 pS (xOut Q) <|
  i_putR 24 0 <|
  i_aload 0 <|
  i_aload 0 <|
  i_getSR 0 <|
  i_iload 4 <|
  i_call mJ6_coderFromArrayLen d 2 pS (xOut Q) <|
  i_putI 24 1 .byte <|
  i_vret Q)))
  (i_aload 0 <|
  i_const 0 <|
  i_putI 24 1 .byte <|
  i_aload 0 <|
  i_aload 3 <|
  i_const 0 <|
  i_iload 4 <|
  i_call mJ9_copyOfRange d 3 pS (xOut Q) <|
  i_putR 24 0 <|
  i_vret Q)
theorem kJ5_init_2_0 {d : Nat} {Q : Outcome → MH → Prop} : ∀ ls st h, tJ5_init_2_0 d Q (fun pc ls st h => WPb mJ5_init_2 d pc ls st h Q) ls st h → WPb mJ5_init_2 d 0 ls st h Q :=
  r_aload_n (k := 0) dJ5_init_2_0 rfl <|
  r_obj dJ5_init_2_1 q848 q170 q171 <|
  r_aload_n (k := 1) dJ5_init_2_4 rfl <|
  r_cU (Z := mJ3_getValue) (n := 0) (ci := 23) (q := (RJ4, TJ4, 4)) (owner := "java/lang/AbstractStringBuilder") (x := yJ3_getValue) dJ5_init_2_5 rfl (by decide +kernel) ⟨by decide, by decide⟩ (by decide) rfl rfl q849 q851 q852 q850 q129 q853 (XS.out (noH _)) <|
  r_astore_n (k := 3) dJ5_init_2_8 rfl <|
  r_aload_n (k := 1) dJ5_init_2_9 rfl <|
  r_cO (Z := mJ4_length) (n := 0) (ci := 23) (q := (RJ4, TJ4, 4)) (owner := "java/lang/AbstractStringBuilder") (x := yJ3_length) dJ5_init_2_10 rfl (by decide +kernel) ⟨by decide, by decide⟩ (by decide) rfl q854 q856 q855 q861 q857 q858 q130 q859 (XS.out (noH _)) <|
  r_istore dJ5_init_2_13 <|
  r_aload_n (k := 1) dJ5_init_2_15 rfl <|
  r_cU (Z := mJ3_isLatin1) (n := 0) (ci := 23) (q := (RJ4, TJ4, 4)) (owner := "java/lang/AbstractStringBuilder") (x := yJ3_isLatin1) dJ5_init_2_16 rfl (by decide +kernel) ⟨by decide, by decide⟩ (by decide) rfl rfl q862 q737 q738 q736 q129 q739 (XS.out (noH _)) <|
  r_if_eq (pt := 41) dJ5_init_2_19 (by decide)
  (r_getsI (x := 1) (T := ("java/lang/String", "COMPACT_STRINGS", "Z")) (by decide +kernel) q774 dJ5_init_2_41 <|
  r_if_eq (pt := 79) dJ5_init_2_44 (by decide)
  (r_aload_n (k := 0) dJ5_init_2_79 rfl <|
  r_iconst (v := 1) dJ5_init_2_80 rfl <|
  r_putI (ci := 24) (q := (RJ5, TJ5, 4)) (k := 1) tyJ5 tyJ5_ok nmJ5 dJ5_init_2_81 (by decide) rfl in_J5 (by decide) (Or.inr ⟨rfl, rfl, rfl, q912⟩) rfl rfl <|
  r_aload_n (k := 0) dJ5_init_2_84 rfl <|
  r_aload_n (k := 3) dJ5_init_2_85 rfl <|
  r_iconst (v := 0) dJ5_init_2_86 rfl <|
  r_iload dJ5_init_2_87 <|
  r_iconst (v := 1) dJ5_init_2_89 rfl <|
  r_ishl dJ5_init_2_90 <|
  r_cS (Z := mJ9_copyOfRange) dJ5_init_2_91 rfl (by decide +kernel) ⟨by decide, by decide⟩ q863 q864 q135 q865 (XS.out (noH _)) <|
  r_putR (ci := 24) (q := (RJ5, TJ5, 4)) (k := 0) tyJ5 tyJ5_ok nmJ5 dJ5_init_2_94 (by decide) rfl in_J5 (by decide) (Or.inr ⟨rfl, rfl, rfl, q911⟩) rfl rfl <|
  r_vret rfl dJ5_init_2_97)
  (r_aload_n (k := 1) dJ5_init_2_47 rfl <|
  r_getI (ci := 23) (q := (RJ4, TJ4, 4)) (k := 2) dJ5_init_2_48 (by decide) rfl in_J4 (by decide) (Or.inl q681) rfl <|
  r_if_eq (pt := 79) dJ5_init_2_51 (by decide)
  (r_aload_n (k := 0) dJ5_init_2_79 rfl <|
  r_iconst (v := 1) dJ5_init_2_80 rfl <|
  r_putI (ci := 24) (q := (RJ5, TJ5, 4)) (k := 1) tyJ5 tyJ5_ok nmJ5 dJ5_init_2_81 (by decide) rfl in_J5 (by decide) (Or.inr ⟨rfl, rfl, rfl, q912⟩) rfl rfl <|
  r_aload_n (k := 0) dJ5_init_2_84 rfl <|
  r_aload_n (k := 3) dJ5_init_2_85 rfl <|
  r_iconst (v := 0) dJ5_init_2_86 rfl <|
  r_iload dJ5_init_2_87 <|
  r_iconst (v := 1) dJ5_init_2_89 rfl <|
  r_ishl dJ5_init_2_90 <|
  r_cS (Z := mJ9_copyOfRange) dJ5_init_2_91 rfl (by decide +kernel) ⟨by decide, by decide⟩ q863 q864 q135 q865 (XS.out (noH _)) <|
  r_putR (ci := 24) (q := (RJ5, TJ5, 4)) (k := 0) tyJ5 tyJ5_ok nmJ5 dJ5_init_2_94 (by decide) rfl in_J5 (by decide) (Or.inr ⟨rfl, rfl, rfl, q911⟩) rfl rfl <|
  r_vret rfl dJ5_init_2_97)
  (r_aload_n (k := 0) dJ5_init_2_54 rfl <|
  r_aload_n (k := 3) dJ5_init_2_55 rfl <|
  r_iconst (v := 0) dJ5_init_2_56 rfl <|
  r_iload dJ5_init_2_57 <|
  r_cS (Z := mJ6_compress) dJ5_init_2_59 rfl (by decide +kernel) ⟨by decide, by decide⟩ q898 q899 q132 q900 (XS.out (noH _)) <|
  r_putR (ci := 24) (q := (RJ5, TJ5, 4)) (k := 0) tyJ5 tyJ5_ok nmJ5 dJ5_init_2_62 (by decide) rfl in_J5 (by decide) (Or.inr ⟨rfl, rfl, rfl, q911⟩) rfl rfl <|
  r_aload_n (k := 0) dJ5_init_2_65 rfl <|
  r_aload_n (k := 0) dJ5_init_2_66 rfl <|
  r_getSR (k := 0) dJ5_init_2_67 (by decide) q911 rfl <|
  r_iload dJ5_init_2_70 <|
  r_cS (Z := mJ6_coderFromArrayLen) dJ5_init_2_72 rfl (by decide +kernel) ⟨by decide, by decide⟩ q908 q909 q132 q910 (XS.out (noH _)) <|
  r_putI (ci := 24) (q := (RJ5, TJ5, 4)) (k := 1) tyJ5 tyJ5_ok nmJ5 dJ5_init_2_75 (by decide) rfl in_J5 (by decide) (Or.inr ⟨rfl, rfl, rfl, q912⟩) rfl rfl <|
  r_vret rfl dJ5_init_2_78)))
  (r_aload_n (k := 0) dJ5_init_2_22 rfl <|
  r_iconst (v := 0) dJ5_init_2_23 rfl <|
  r_putI (ci := 24) (q := (RJ5, TJ5, 4)) (k := 1) tyJ5 tyJ5_ok nmJ5 dJ5_init_2_24 (by decide) rfl in_J5 (by decide) (Or.inr ⟨rfl, rfl, rfl, q912⟩) rfl rfl <|
  r_aload_n (k := 0) dJ5_init_2_27 rfl <|
  r_aload_n (k := 3) dJ5_init_2_28 rfl <|
  r_iconst (v := 0) dJ5_init_2_29 rfl <|
  r_iload dJ5_init_2_30 <|
  r_cS (Z := mJ9_copyOfRange) dJ5_init_2_32 rfl (by decide +kernel) ⟨by decide, by decide⟩ q863 q864 q135 q865 (XS.out (noH _)) <|
  r_putR (ci := 24) (q := (RJ5, TJ5, 4)) (k := 0) tyJ5 tyJ5_ok nmJ5 dJ5_init_2_35 (by decide) rfl in_J5 (by decide) (Or.inr ⟨rfl, rfl, rfl, q911⟩) rfl rfl <|
  r_goto (pt := 97) dJ5_init_2_38 (by decide) <|
  r_vret rfl dJ5_init_2_97)
-- java/lang/String.checkIndex(II)V cuts [0]
def tJ5_checkIndex_0 (d : Nat) (Q : Outcome → MH → Prop) (J : Nat → KT) : KT :=
  i_iload 0 <|
  i_iload 1 <|
  i_stq 2 <|
  i_call mJ11_checkIndex d 3 pS (xOut Q) <|
  i_pop <|
  i_vret Q
theorem kJ5_checkIndex_0 {d : Nat} {Q : Outcome → MH → Prop} : ∀ ls st h, tJ5_checkIndex_0 d Q (fun pc ls st h => WPb mJ5_checkIndex d pc ls st h Q) ls st h → WPb mJ5_checkIndex d 0 ls st h Q :=
  r_iload_n (k := 0) dJ5_checkIndex_0 rfl <|
  r_iload_n (k := 1) dJ5_checkIndex_1 rfl <|
  r_getsQ (j := 2) (T := ("jdk/internal/util/Preconditions", "SIOOBE_FORMATTER", "Ljava/util/function/BiFunction;")) (by decide +kernel) q752 dJ5_checkIndex_2 <|
  r_cS (Z := mJ11_checkIndex) dJ5_checkIndex_5 rfl (by decide +kernel) ⟨by decide, by decide⟩ q1170 q1075 q137 q1076 (XS.out (noH _)) <|
  r_pop dJ5_checkIndex_8 <|
  r_vret rfl dJ5_checkIndex_9
-- java/lang/String.hashCode()I cuts [0]
def tJ5_hashCode_0 (d : Nat) (Q : Outcome → MH → Prop) (J : Nat → KT) : KT :=
  i_aload 0 <|
  i_getSI 2 <|
  i_istore 1 <|
  i_iload 1 <|
  i_if_ne
  (i_iload 1 <|
  i_ret Q (some .int))
  (i_aload 0 <|
  i_getSI 3 <|
  i_if_ne
  (i_iload 1 <|
  i_ret Q (some .int))
  (i_aload 0 <|
  i_call mJ5_isLatin1 d 1 (pV 24) (xOut Q) <|
  i_if_eq
  (i_aload 0 <|
  i_getSR 0 <|
  i_call mJ6_hashCode d 1 pS (xOut Q) <|
  i_istore 1 <|
  i_iload 1 <|
  i_if_ne
  (i_aload 0 <|
  i_iload 1 <|
  i_putI 24 2 .int <|
  i_iload 1 <|
  i_ret Q (some .int))
  (i_aload 0 <|
  i_const 1 <|
  i_putI 24 3 .boolean <|
  i_iload 1 <|
  i_ret Q (some .int)))
  (i_aload 0 <|
  i_getSR 0 <|
  i_call mJ10_hashCode d 1 pS (xOut Q) <|
  i_istore 1 <|
  i_iload 1 <|
  i_if_ne
  (i_aload 0 <|
  i_iload 1 <|
  i_putI 24 2 .int <|
  i_iload 1 <|
  i_ret Q (some .int))
  (i_aload 0 <|
  i_const 1 <|
  i_putI 24 3 .boolean <|
  i_iload 1 <|
  i_ret Q (some .int)))))
theorem kJ5_hashCode_0 {d : Nat} {Q : Outcome → MH → Prop} : ∀ ls st h, tJ5_hashCode_0 d Q (fun pc ls st h => WPb mJ5_hashCode d pc ls st h Q) ls st h → WPb mJ5_hashCode d 0 ls st h Q :=
  r_aload_n (k := 0) dJ5_hashCode_0 rfl <|
  r_getSI (k := 2) dJ5_hashCode_1 (by decide) q913 rfl (fun _ _ _ _ => Or.inr trivial) <|
  r_istore_n (k := 1) dJ5_hashCode_4 rfl <|
  r_iload_n (k := 1) dJ5_hashCode_5 rfl <|
  r_if_ne (pt := 58) dJ5_hashCode_6 (by decide)
  (r_iload_n (k := 1) dJ5_hashCode_58 rfl <|
  r_ret rfl (Or.inl ⟨dJ5_hashCode_59, Or.inl rfl⟩))
  (r_aload_n (k := 0) dJ5_hashCode_9 rfl <|
  r_getSI (k := 3) dJ5_hashCode_10 (by decide) q914 rfl (fun _ _ _ _ => Or.inr trivial) <|
  r_if_ne (pt := 58) dJ5_hashCode_13 (by decide)
  (r_iload_n (k := 1) dJ5_hashCode_58 rfl <|
  r_ret rfl (Or.inl ⟨dJ5_hashCode_59, Or.inl rfl⟩))
  (r_aload_n (k := 0) dJ5_hashCode_16 rfl <|
  r_cV (Z := mJ5_isLatin1) (ci := 24) (q := (RJ5, TJ5, 4)) dJ5_hashCode_17 rfl (by decide +kernel) ⟨by decide, by decide⟩ (by decide) rfl rfl q1204 q1205 q1206 q131 q1207 (XS.out (noH _)) <|
  r_if_eq (pt := 33) dJ5_hashCode_20 (by decide)
  (r_aload_n (k := 0) dJ5_hashCode_33 rfl <|
  r_getSR (k := 0) dJ5_hashCode_34 (by decide) q911 rfl <|
  r_cS (Z := mJ6_hashCode) dJ5_hashCode_37 rfl (by decide +kernel) ⟨by decide, by decide⟩ q1257 q1258 q132 q1259 (XS.out (noH _)) <|
  r_istore_n (k := 1) dJ5_hashCode_40 rfl <|
  r_iload_n (k := 1) dJ5_hashCode_41 rfl <|
  r_if_ne (pt := 53) dJ5_hashCode_42 (by decide)
  (r_aload_n (k := 0) dJ5_hashCode_53 rfl <|
  r_iload_n (k := 1) dJ5_hashCode_54 rfl <|
  r_putI (ci := 24) (q := (RJ5, TJ5, 4)) (k := 2) tyJ5 tyJ5_ok nmJ5 dJ5_hashCode_55 (by decide) rfl in_J5 (by decide) (Or.inl ⟨rfl, (Or.inl q913)⟩) rfl rfl <|
  r_iload_n (k := 1) dJ5_hashCode_58 rfl <|
  r_ret rfl (Or.inl ⟨dJ5_hashCode_59, Or.inl rfl⟩))
  (r_aload_n (k := 0) dJ5_hashCode_45 rfl <|
  r_iconst (v := 1) dJ5_hashCode_46 rfl <|
  r_putI (ci := 24) (q := (RJ5, TJ5, 4)) (k := 3) tyJ5 tyJ5_ok nmJ5 dJ5_hashCode_47 (by decide) rfl in_J5 (by decide) (Or.inl ⟨rfl, (Or.inl q914)⟩) rfl rfl <|
  r_goto (pt := 58) dJ5_hashCode_50 (by decide) <|
  r_iload_n (k := 1) dJ5_hashCode_58 rfl <|
  r_ret rfl (Or.inl ⟨dJ5_hashCode_59, Or.inl rfl⟩)))
  (r_aload_n (k := 0) dJ5_hashCode_23 rfl <|
  r_getSR (k := 0) dJ5_hashCode_24 (by decide) q911 rfl <|
  r_cS (Z := mJ10_hashCode) dJ5_hashCode_27 rfl (by decide +kernel) ⟨by decide, by decide⟩ q1208 q1209 q136 q1210 (XS.out (noH _)) <|
  r_goto (pt := 40) dJ5_hashCode_30 (by decide) <|
  r_istore_n (k := 1) dJ5_hashCode_40 rfl <|
  r_iload_n (k := 1) dJ5_hashCode_41 rfl <|
  r_if_ne (pt := 53) dJ5_hashCode_42 (by decide)
  (r_aload_n (k := 0) dJ5_hashCode_53 rfl <|
  r_iload_n (k := 1) dJ5_hashCode_54 rfl <|
  r_putI (ci := 24) (q := (RJ5, TJ5, 4)) (k := 2) tyJ5 tyJ5_ok nmJ5 dJ5_hashCode_55 (by decide) rfl in_J5 (by decide) (Or.inl ⟨rfl, (Or.inl q913)⟩) rfl rfl <|
  r_iload_n (k := 1) dJ5_hashCode_58 rfl <|
  r_ret rfl (Or.inl ⟨dJ5_hashCode_59, Or.inl rfl⟩))
  (r_aload_n (k := 0) dJ5_hashCode_45 rfl <|
  r_iconst (v := 1) dJ5_hashCode_46 rfl <|
  r_putI (ci := 24) (q := (RJ5, TJ5, 4)) (k := 3) tyJ5 tyJ5_ok nmJ5 dJ5_hashCode_47 (by decide) rfl in_J5 (by decide) (Or.inl ⟨rfl, (Or.inl q914)⟩) rfl rfl <|
  r_goto (pt := 58) dJ5_hashCode_50 (by decide) <|
  r_iload_n (k := 1) dJ5_hashCode_58 rfl <|
  r_ret rfl (Or.inl ⟨dJ5_hashCode_59, Or.inl rfl⟩)))))
-- java/lang/String.isLatin1()Z cuts [0]
def tJ5_isLatin1_0 (d : Nat) (Q : Outcome → MH → Prop) (J : Nat → KT) : KT :=
  i_const 1 <|
  i_if_eq
  (i_const 0 <|
  i_ret Q (some .boolean))
  (i_aload 0 <|
  i_getSI 1 <|
  i_if_ne
  (i_const 0 <|
  i_ret Q (some .boolean))
  (i_const 1 <|
  i_ret Q (some .boolean)))
theorem kJ5_isLatin1_0 {d : Nat} {Q : Outcome → MH → Prop} : ∀ ls st h, tJ5_isLatin1_0 d Q (fun pc ls st h => WPb mJ5_isLatin1 d pc ls st h Q) ls st h → WPb mJ5_isLatin1 d 0 ls st h Q :=
  r_getsI (x := 1) (T := ("java/lang/String", "COMPACT_STRINGS", "Z")) (by decide +kernel) q774 dJ5_isLatin1_0 <|
  r_if_eq (pt := 17) dJ5_isLatin1_3 (by decide)
  (r_iconst (v := 0) dJ5_isLatin1_17 rfl <|
  r_ret rfl (Or.inl ⟨dJ5_isLatin1_18, Or.inr (Or.inl rfl)⟩))
  (r_aload_n (k := 0) dJ5_isLatin1_6 rfl <|
  r_getSI (k := 1) dJ5_isLatin1_7 (by decide) q912 rfl (fun _ _ _ _ => Or.inr trivial) <|
  r_if_ne (pt := 17) dJ5_isLatin1_10 (by decide)
  (r_iconst (v := 0) dJ5_isLatin1_17 rfl <|
  r_ret rfl (Or.inl ⟨dJ5_isLatin1_18, Or.inr (Or.inl rfl)⟩))
  (r_iconst (v := 1) dJ5_isLatin1_13 rfl <|
  r_goto (pt := 18) dJ5_isLatin1_14 (by decide) <|
  r_ret rfl (Or.inl ⟨dJ5_isLatin1_18, Or.inr (Or.inl rfl)⟩)))
-- java/lang/String.equals(Ljava/lang/Object;)Z cuts [0]
def tJ5_equals_0 (d : Nat) (Q : Outcome → MH → Prop) (J : Nat → KT) : KT :=
  i_aload 0 <|
  i_aload 1 <|
  i_acmp_ne
  (i_aload 1 <|
  i_instS <|
  i_if_eq
  (i_const 0 <|
  i_ret Q (some .boolean))
  (i_aload 1 <|
  i_cast 24 <|
  i_astore 2 <|
  i_const 1 <|
  i_if_eq
  (i_aload 0 <|
  i_getSR 0 <|
  i_aload 2 <|
  i_getSR 0 <|
  i_call mJ10_equals d 2 pS (xOut Q) <|
  i_if_eq
  (i_const 0 <|
  i_ret Q (some .boolean))
  (i_const 1 <|
  i_ret Q (some .boolean)))
  (i_aload 0 <|
  i_getSI 1 <|
  i_aload 2 <|
  i_getSI 1 <|
  i_icmp_ne
  (i_const 0 <|
  i_ret Q (some .boolean))
  (i_aload 0 <|
  i_getSR 0 <|
  i_aload 2 <|
  i_getSR 0 <|
  i_call mJ10_equals d 2 pS (xOut Q) <|
  i_if_eq
  (i_const 0 <|
  i_ret Q (some .boolean))
  (i_const 1 <|
  i_ret Q (some .boolean))))))
  (i_const 1 <|
  i_ret Q (some .boolean))
theorem kJ5_equals_0 {d : Nat} {Q : Outcome → MH → Prop} : ∀ ls st h, tJ5_equals_0 d Q (fun pc ls st h => WPb mJ5_equals d pc ls st h Q) ls st h → WPb mJ5_equals d 0 ls st h Q :=
  r_aload_n (k := 0) dJ5_equals_0 rfl <|
  r_aload_n (k := 1) dJ5_equals_1 rfl <|
  r_acmp_ne (pt := 7) dJ5_equals_2 (by decide)
  (r_aload_n (k := 1) dJ5_equals_7 rfl <|
  r_instS q1266 dJ5_equals_8 <|
  r_if_eq (pt := 54) dJ5_equals_11 (by decide)
  (r_iconst (v := 0) dJ5_equals_54 rfl <|
  r_ret rfl (Or.inl ⟨dJ5_equals_55, Or.inr (Or.inl rfl)⟩))
  (r_aload_n (k := 1) dJ5_equals_14 rfl <|
  r_cast (ci := 24) (q := (RJ5, TJ5, 4)) (by decide) rfl q1266 dJ5_equals_15 <|
  r_astore_n (k := 2) dJ5_equals_18 rfl <|
  r_getsI (x := 1) (T := ("java/lang/String", "COMPACT_STRINGS", "Z")) (by decide +kernel) q774 dJ5_equals_19 <|
  r_if_eq (pt := 36) dJ5_equals_22 (by decide)
  (r_aload_n (k := 0) dJ5_equals_36 rfl <|
  r_getSR (k := 0) dJ5_equals_37 (by decide) q911 rfl <|
  r_aload_n (k := 2) dJ5_equals_40 rfl <|
  r_getSR (k := 0) dJ5_equals_41 (by decide) q911 rfl <|
  r_cS (Z := mJ10_equals) dJ5_equals_44 rfl (by decide +kernel) ⟨by decide, by decide⟩ q1267 q1268 q136 q1269 (XS.out (noH _)) <|
  r_if_eq (pt := 54) dJ5_equals_47 (by decide)
  (r_iconst (v := 0) dJ5_equals_54 rfl <|
  r_ret rfl (Or.inl ⟨dJ5_equals_55, Or.inr (Or.inl rfl)⟩))
  (r_iconst (v := 1) dJ5_equals_50 rfl <|
  r_goto (pt := 55) dJ5_equals_51 (by decide) <|
  r_ret rfl (Or.inl ⟨dJ5_equals_55, Or.inr (Or.inl rfl)⟩)))
  (r_aload_n (k := 0) dJ5_equals_25 rfl <|
  r_getSI (k := 1) dJ5_equals_26 (by decide) q912 rfl (fun _ _ _ _ => Or.inr trivial) <|
  r_aload_n (k := 2) dJ5_equals_29 rfl <|
  r_getSI (k := 1) dJ5_equals_30 (by decide) q912 rfl (fun _ _ _ _ => Or.inr trivial) <|
  r_icmp_ne (pt := 54) dJ5_equals_33 (by decide)
  (r_iconst (v := 0) dJ5_equals_54 rfl <|
  r_ret rfl (Or.inl ⟨dJ5_equals_55, Or.inr (Or.inl rfl)⟩))
  (r_aload_n (k := 0) dJ5_equals_36 rfl <|
  r_getSR (k := 0) dJ5_equals_37 (by decide) q911 rfl <|
  r_aload_n (k := 2) dJ5_equals_40 rfl <|
  r_getSR (k := 0) dJ5_equals_41 (by decide) q911 rfl <|
  r_cS (Z := mJ10_equals) dJ5_equals_44 rfl (by decide +kernel) ⟨by decide, by decide⟩ q1267 q1268 q136 q1269 (XS.out (noH _)) <|
  r_if_eq (pt := 54) dJ5_equals_47 (by decide)
  (r_iconst (v := 0) dJ5_equals_54 rfl <|
  r_ret rfl (Or.inl ⟨dJ5_equals_55, Or.inr (Or.inl rfl)⟩))
  (r_iconst (v := 1) dJ5_equals_50 rfl <|
  r_goto (pt := 55) dJ5_equals_51 (by decide) <|
  r_ret rfl (Or.inl ⟨dJ5_equals_55, Or.inr (Or.inl rfl)⟩))))))
  (r_iconst (v := 1) dJ5_equals_5 rfl <|
  r_ret rfl (Or.inl ⟨dJ5_equals_6, Or.inr (Or.inl rfl)⟩))
-- java/lang/String.charAt(I)C cuts [0]
def tJ5_charAt_0 (d : Nat) (Q : Outcome → MH → Prop) (J : Nat → KT) : KT :=
  i_aload 0 <|
  i_call mJ5_isLatin1 d 1 (pV 24) (xOut Q) <|
  i_if_eq
  (i_aload 0 <|
  i_getSR 0 <|
  i_iload 1 <|
  i_call mJ6_charAt d 2 pS (xOut Q) <|
  i_ret Q (some .char))
  (i_aload 0 <|
  i_getSR 0 <|
  i_iload 1 <|
  i_call mJ10_charAt d 2 pS (xOut Q) <|
  i_ret Q (some .char))
theorem kJ5_charAt_0 {d : Nat} {Q : Outcome → MH → Prop} : ∀ ls st h, tJ5_charAt_0 d Q (fun pc ls st h => WPb mJ5_charAt d pc ls st h Q) ls st h → WPb mJ5_charAt d 0 ls st h Q :=
  r_aload_n (k := 0) dJ5_charAt_0 rfl <|
  r_cV (Z := mJ5_isLatin1) (ci := 24) (q := (RJ5, TJ5, 4)) dJ5_charAt_1 rfl (by decide +kernel) ⟨by decide, by decide⟩ (by decide) rfl rfl q1204 q1205 q1206 q131 q1207 (XS.out (noH _)) <|
  r_if_eq (pt := 16) dJ5_charAt_4 (by decide)
  (r_aload_n (k := 0) dJ5_charAt_16 rfl <|
  r_getSR (k := 0) dJ5_charAt_17 (by decide) q911 rfl <|
  r_iload_n (k := 1) dJ5_charAt_20 rfl <|
  r_cS (Z := mJ6_charAt) dJ5_charAt_21 rfl (by decide +kernel) ⟨by decide, by decide⟩ q2284 q2285 q132 q2286 (XS.out (noH _)) <|
  r_ret rfl (Or.inl ⟨dJ5_charAt_24, Or.inr (Or.inr (Or.inr rfl))⟩))
  (r_aload_n (k := 0) dJ5_charAt_7 rfl <|
  r_getSR (k := 0) dJ5_charAt_8 (by decide) q911 rfl <|
  r_iload_n (k := 1) dJ5_charAt_11 rfl <|
  r_cS (Z := mJ10_charAt) dJ5_charAt_12 rfl (by decide +kernel) ⟨by decide, by decide⟩ q2280 q2281 q136 q2282 (XS.out (noH _)) <|
  r_ret rfl (Or.inl ⟨dJ5_charAt_15, Or.inr (Or.inr (Or.inr rfl))⟩))
-- java/lang/StringUTF16.newBytesFor(I)[B cuts [0]
def tJ6_newBytesFor_0 (d : Nat) (Q : Outcome → MH → Prop) (J : Nat → KT) : KT :=
  i_iload 0 <|
  i_call mJ6_newBytesLength d 1 pS (xOut Q) <|
  i_newa 1 <|
  i_ret Q (some (.array .byte))
theorem kJ6_newBytesFor_0 {d : Nat} {Q : Outcome → MH → Prop} : ∀ ls st h, tJ6_newBytesFor_0 d Q (fun pc ls st h => WPb mJ6_newBytesFor d pc ls st h Q) ls st h → WPb mJ6_newBytesFor d 0 ls st h Q :=
  r_iload_n (k := 0) dJ6_newBytesFor_0 rfl <|
  r_cS (Z := mJ6_newBytesLength) dJ6_newBytesFor_1 rfl (by decide +kernel) ⟨by decide, by decide⟩ q675 q676 q132 q677 (XS.out (noH _)) <|
  r_newa (t := 1) (at9 := .byte) (ty := .byte) (by decide) rfl rfl q344 (by decide) dJ6_newBytesFor_4 <|
  r_ret rfl (Or.inr (Or.inr ⟨dJ6_newBytesFor_6, Or.inr ⟨_, rfl⟩⟩))
-- java/lang/StringUTF16.newBytesLength(I)I cuts [0] NOT WALKED: [(18, "('java/lang/StringUTF16', 21)"), (4, "('java/lang/StringUTF16', 17)")]
def tJ6_newBytesLength_0 (d : Nat) (Q : Outcome → MH → Prop) (J : Nat → KT) : KT :=
  i_iload 0 <|
  i_if_ge
  (i_iload 0 <|
  i_const 1073741823 <|
  i_icmp_lt
  (i_iload 0 <|
  i_const 1 <|
  i_ishl <|
  i_ret Q (some .int))
  (i_bad))
  (i_bad)
theorem kJ6_newBytesLength_0 {d : Nat} {Q : Outcome → MH → Prop} : ∀ ls st h, tJ6_newBytesLength_0 d Q (fun pc ls st h => WPb mJ6_newBytesLength d pc ls st h Q) ls st h → WPb mJ6_newBytesLength d 0 ls st h Q :=
  r_iload_n (k := 0) dJ6_newBytesLength_0 rfl <|
  r_if_ge (pt := 12) dJ6_newBytesLength_1 (by decide)
  (r_iload_n (k := 0) dJ6_newBytesLength_12 rfl <|
  r_ldc (v := 1073741823) dJ6_newBytesLength_13 q678 <|
  r_icmp_lt (pt := 55) dJ6_newBytesLength_15 (by decide)
  (r_iload_n (k := 0) dJ6_newBytesLength_55 rfl <|
  r_iconst (v := 1) dJ6_newBytesLength_56 rfl <|
  r_ishl dJ6_newBytesLength_57 <|
  r_ret rfl (Or.inl ⟨dJ6_newBytesLength_58, Or.inl rfl⟩))
  (r_bad))
  (r_bad)
-- java/lang/StringUTF16.putCharsAt([BICCCC)I cuts [0] NOT WALKED: [(50, 'getstatic java/lang/StringUTF16.$assertionsDisabled')]
def tJ6_putCharsAt_0 (d : Nat) (Q : Outcome → MH → Prop) (J : Nat → KT) : KT :=
  i_iload 1 <|
  i_const 4 <|
  i_iadd <|
  i_istore 6 <|
  i_iload 1 <|
  i_iload 6 <|
  i_aload 0 <|
  i_call mJ6_checkBoundsBeginEnd d 3 pS (xOut Q) <|
  i_aload 0 <|
  i_iload 1 <|
  i_iinc 1 1 <|
  i_iload 2 <|
  i_call mJ6_putChar d 3 pS (xOut Q) <|
  i_aload 0 <|
  i_iload 1 <|
  i_iinc 1 1 <|
  i_iload 3 <|
  i_call mJ6_putChar d 3 pS (xOut Q) <|
  i_aload 0 <|
  i_iload 1 <|
  i_iinc 1 1 <|
  i_iload 4 <|
  i_call mJ6_putChar d 3 pS (xOut Q) <|
  i_aload 0 <|
  i_iload 1 <|
  i_iinc 1 1 <|
  i_iload 5 <|
  i_call mJ6_putChar d 3 pS (xOut Q) <|
  i_bad
theorem kJ6_putCharsAt_0 {d : Nat} {Q : Outcome → MH → Prop} : ∀ ls st h, tJ6_putCharsAt_0 d Q (fun pc ls st h => WPb mJ6_putCharsAt d pc ls st h Q) ls st h → WPb mJ6_putCharsAt d 0 ls st h Q :=
  r_iload_n (k := 1) dJ6_putCharsAt_0 rfl <|
  r_iconst (v := 4) dJ6_putCharsAt_1 rfl <|
  r_iadd dJ6_putCharsAt_2 <|
  r_istore dJ6_putCharsAt_3 <|
  r_iload_n (k := 1) dJ6_putCharsAt_5 rfl <|
  r_iload dJ6_putCharsAt_6 <|
  r_aload_n (k := 0) dJ6_putCharsAt_8 rfl <|
  r_cS (Z := mJ6_checkBoundsBeginEnd) dJ6_putCharsAt_9 rfl (by decide +kernel) ⟨by decide, by decide⟩ q743 q744 q132 q745 (XS.out (noH _)) <|
  r_aload_n (k := 0) dJ6_putCharsAt_12 rfl <|
  r_iload_n (k := 1) dJ6_putCharsAt_13 rfl <|
  r_iinc (v := 1) dJ6_putCharsAt_14 rfl <|
  r_iload_n (k := 2) dJ6_putCharsAt_17 rfl <|
  r_cS (Z := mJ6_putChar) dJ6_putCharsAt_18 rfl (by decide +kernel) ⟨by decide, by decide⟩ q757 q758 q132 q759 (XS.out (noH _)) <|
  r_aload_n (k := 0) dJ6_putCharsAt_21 rfl <|
  r_iload_n (k := 1) dJ6_putCharsAt_22 rfl <|
  r_iinc (v := 1) dJ6_putCharsAt_23 rfl <|
  r_iload_n (k := 3) dJ6_putCharsAt_26 rfl <|
  r_cS (Z := mJ6_putChar) dJ6_putCharsAt_27 rfl (by decide +kernel) ⟨by decide, by decide⟩ q757 q758 q132 q759 (XS.out (noH _)) <|
  r_aload_n (k := 0) dJ6_putCharsAt_30 rfl <|
  r_iload_n (k := 1) dJ6_putCharsAt_31 rfl <|
  r_iinc (v := 1) dJ6_putCharsAt_32 rfl <|
  r_iload dJ6_putCharsAt_35 <|
  r_cS (Z := mJ6_putChar) dJ6_putCharsAt_37 rfl (by decide +kernel) ⟨by decide, by decide⟩ q757 q758 q132 q759 (XS.out (noH _)) <|
  r_aload_n (k := 0) dJ6_putCharsAt_40 rfl <|
  r_iload_n (k := 1) dJ6_putCharsAt_41 rfl <|
  r_iinc (v := 1) dJ6_putCharsAt_42 rfl <|
  r_iload dJ6_putCharsAt_45 <|
  r_cS (Z := mJ6_putChar) dJ6_putCharsAt_47 rfl (by decide +kernel) ⟨by decide, by decide⟩ q757 q758 q132 q759 (XS.out (noH _)) <|
  r_bad
-- java/lang/StringUTF16.checkBoundsBeginEnd(II[B)V cuts [0]
def tJ6_checkBoundsBeginEnd_0 (d : Nat) (Q : Outcome → MH → Prop) (J : Nat → KT) : KT :=
  i_iload 0 <|
  i_iload 1 <|
  i_aload 2 <|
  i_call mJ6_length d 1 pS (xOut Q) <|
  i_call mJ5_checkBoundsBeginEnd d 3 pS (xOut Q) <|
  i_vret Q
theorem kJ6_checkBoundsBeginEnd_0 {d : Nat} {Q : Outcome → MH → Prop} : ∀ ls st h, tJ6_checkBoundsBeginEnd_0 d Q (fun pc ls st h => WPb mJ6_checkBoundsBeginEnd d pc ls st h Q) ls st h → WPb mJ6_checkBoundsBeginEnd d 0 ls st h Q :=
  r_iload_n (k := 0) dJ6_checkBoundsBeginEnd_0 rfl <|
  r_iload_n (k := 1) dJ6_checkBoundsBeginEnd_1 rfl <|
  r_aload_n (k := 2) dJ6_checkBoundsBeginEnd_2 rfl <|
  r_cS (Z := mJ6_length) dJ6_checkBoundsBeginEnd_3 rfl (by decide +kernel) ⟨by decide, by decide⟩ q746 q747 q132 q748 (XS.out (noH _)) <|
  r_cS (Z := mJ5_checkBoundsBeginEnd) dJ6_checkBoundsBeginEnd_6 rfl (by decide +kernel) ⟨by decide, by decide⟩ q749 q750 q131 q751 (XS.out (noH _)) <|
  r_vret rfl dJ6_checkBoundsBeginEnd_9
-- java/lang/StringUTF16.length([B)I cuts [0]
def tJ6_length_0 (d : Nat) (Q : Outcome → MH → Prop) (J : Nat → KT) : KT :=
  i_aload 0 <|
  i_alen <|
  i_const 1 <|
  i_ishr <|
  i_ret Q (some .int)
theorem kJ6_length_0 {d : Nat} {Q : Outcome → MH → Prop} : ∀ ls st h, tJ6_length_0 d Q (fun pc ls st h => WPb mJ6_length d pc ls st h Q) ls st h → WPb mJ6_length d 0 ls st h Q :=
  r_aload_n (k := 0) dJ6_length_0 rfl <|
  r_alen dJ6_length_1 <|
  r_iconst (v := 1) dJ6_length_2 rfl <|
  r_ishr dJ6_length_3 <|
  r_ret rfl (Or.inl ⟨dJ6_length_4, Or.inl rfl⟩)
-- java/lang/StringUTF16.putChar([BII)V cuts [0] NOT WALKED: [(0, 'getstatic java/lang/StringUTF16.$assertionsDisabled')]
def tJ6_putChar_0 (d : Nat) (Q : Outcome → MH → Prop) (J : Nat → KT) : KT :=
  i_bad
theorem kJ6_putChar_0 {d : Nat} {Q : Outcome → MH → Prop} : ∀ ls st h, tJ6_putChar_0 d Q (fun pc ls st h => WPb mJ6_putChar d pc ls st h Q) ls st h → WPb mJ6_putChar d 0 ls st h Q :=
  r_bad
-- java/lang/StringUTF16.inflate([BI[BII)V cuts [0, 10]
def tJ6_inflate_0 (d : Nat) (Q : Outcome → MH → Prop) (J : Nat → KT) : KT :=
  i_iload 3 <|
  i_iload 4 <|
  i_aload 2 <|
  i_call mJ6_checkBoundsOffCount d 3 pS (xOut Q) <|
  i_const 0 <|
  i_istore 5 <|
  (J 10)
theorem kJ6_inflate_0 {d : Nat} {Q : Outcome → MH → Prop} : ∀ ls st h, tJ6_inflate_0 d Q (fun pc ls st h => WPb mJ6_inflate d pc ls st h Q) ls st h → WPb mJ6_inflate d 0 ls st h Q :=
  r_iload_n (k := 3) dJ6_inflate_0 rfl <|
  r_iload dJ6_inflate_1 <|
  r_aload_n (k := 2) dJ6_inflate_3 rfl <|
  r_cS (Z := mJ6_checkBoundsOffCount) dJ6_inflate_4 rfl (by decide +kernel) ⟨by decide, by decide⟩ q794 q795 q132 q796 (XS.out (noH _)) <|
  r_iconst (v := 0) dJ6_inflate_7 rfl <|
  r_istore dJ6_inflate_8 <|
  (fun _ _ _ H => H)
def tJ6_inflate_10 (d : Nat) (Q : Outcome → MH → Prop) (J : Nat → KT) : KT :=
  i_iload 5 <|
  i_iload 4 <|
  i_icmp_ge
  (i_vret Q)
  (i_aload 2 <|
  i_iload 3 <|
  i_iinc 3 1 <|
  i_aload 0 <|
  i_iload 1 <|
  i_iinc 1 1 <|
  i_bald <|
  i_const 255 <|
  i_iand <|
  i_call mJ6_putChar d 3 pS (xOut Q) <|
  i_iinc 5 1 <|
  (J 10))
theorem kJ6_inflate_10 {d : Nat} {Q : Outcome → MH → Prop} : ∀ ls st h, tJ6_inflate_10 d Q (fun pc ls st h => WPb mJ6_inflate d pc ls st h Q) ls st h → WPb mJ6_inflate d 10 ls st h Q :=
  r_iload dJ6_inflate_10 <|
  r_iload dJ6_inflate_12 <|
  r_icmp_ge (pt := 41) dJ6_inflate_14 (by decide)
  (r_vret rfl dJ6_inflate_41)
  (r_aload_n (k := 2) dJ6_inflate_17 rfl <|
  r_iload_n (k := 3) dJ6_inflate_18 rfl <|
  r_iinc (v := 1) dJ6_inflate_19 rfl <|
  r_aload_n (k := 0) dJ6_inflate_22 rfl <|
  r_iload_n (k := 1) dJ6_inflate_23 rfl <|
  r_iinc (v := 1) dJ6_inflate_24 rfl <|
  r_bald dJ6_inflate_27 <|
  r_sipush (v := 255) dJ6_inflate_28 rfl <|
  r_iand dJ6_inflate_31 <|
  r_cS (Z := mJ6_putChar) dJ6_inflate_32 rfl (by decide +kernel) ⟨by decide, by decide⟩ q757 q758 q132 q759 (XS.out (noH _)) <|
  r_iinc (v := 1) dJ6_inflate_35 rfl <|
  r_goto (pt := 10) dJ6_inflate_38 (by decide) <|
  (fun _ _ _ H => H))
-- java/lang/StringUTF16.checkBoundsOffCount(II[B)V cuts [0]
def tJ6_checkBoundsOffCount_0 (d : Nat) (Q : Outcome → MH → Prop) (J : Nat → KT) : KT :=
  i_iload 0 <|
  i_iload 1 <|
  i_aload 2 <|
  i_call mJ6_length d 1 pS (xOut Q) <|
  i_call mJ5_checkBoundsOffCount d 3 pS (xOut Q) <|
  i_pop <|
  i_vret Q
theorem kJ6_checkBoundsOffCount_0 {d : Nat} {Q : Outcome → MH → Prop} : ∀ ls st h, tJ6_checkBoundsOffCount_0 d Q (fun pc ls st h => WPb mJ6_checkBoundsOffCount d pc ls st h Q) ls st h → WPb mJ6_checkBoundsOffCount d 0 ls st h Q :=
  r_iload_n (k := 0) dJ6_checkBoundsOffCount_0 rfl <|
  r_iload_n (k := 1) dJ6_checkBoundsOffCount_1 rfl <|
  r_aload_n (k := 2) dJ6_checkBoundsOffCount_2 rfl <|
  r_cS (Z := mJ6_length) dJ6_checkBoundsOffCount_3 rfl (by decide +kernel) ⟨by decide, by decide⟩ q746 q747 q132 q748 (XS.out (noH _)) <|
  r_cS (Z := mJ5_checkBoundsOffCount) dJ6_checkBoundsOffCount_6 rfl (by decide +kernel) ⟨by decide, by decide⟩ q797 q798 q131 q799 (XS.out (noH _)) <|
  r_pop dJ6_checkBoundsOffCount_9 <|
  r_vret rfl dJ6_checkBoundsOffCount_10
-- java/lang/StringUTF16.getChars(III[B)I cuts [0] NOT WALKED: [(14, 'getstatic java/lang/StringUTF16.$assertionsDisabled')]
def tJ6_getChars_0 (d : Nat) (Q : Outcome → MH → Prop) (J : Nat → KT) : KT :=
  i_iload 1 <|
  i_iload 2 <|
  i_aload 3 <|
  i_call mJ6_checkBoundsBeginEnd d 3 pS (xOut Q) <|
  i_iload 0 <|
  i_iload 2 <|
  i_aload 3 <|
  i_call mJ6_getChars_2 d 3 pS (xOut Q) <|
  i_istore 4 <|
  i_bad
theorem kJ6_getChars_0 {d : Nat} {Q : Outcome → MH → Prop} : ∀ ls st h, tJ6_getChars_0 d Q (fun pc ls st h => WPb mJ6_getChars d pc ls st h Q) ls st h → WPb mJ6_getChars d 0 ls st h Q :=
  r_iload_n (k := 1) dJ6_getChars_0 rfl <|
  r_iload_n (k := 2) dJ6_getChars_1 rfl <|
  r_aload_n (k := 3) dJ6_getChars_2 rfl <|
  r_cS (Z := mJ6_checkBoundsBeginEnd) dJ6_getChars_3 rfl (by decide +kernel) ⟨by decide, by decide⟩ q743 q744 q132 q745 (XS.out (noH _)) <|
  r_iload_n (k := 0) dJ6_getChars_6 rfl <|
  r_iload_n (k := 2) dJ6_getChars_7 rfl <|
  r_aload_n (k := 3) dJ6_getChars_8 rfl <|
  r_cS (Z := mJ6_getChars_2) dJ6_getChars_9 rfl (by decide +kernel) ⟨by decide, by decide⟩ q829 q830 q132 q831 (XS.out (noH _)) <|
  r_istore dJ6_getChars_12 <|
  r_bad
-- java/lang/StringUTF16.getChars(II[B)I cuts [0, 22] NOT WALKED: [(82, 'getstatic java/lang/Integer.DigitOnes'), (49, 'getstatic java/lang/Integer.DigitOnes')]
def tJ6_getChars_2_0 (d : Nat) (Q : Outcome → MH → Prop) (J : Nat → KT) : KT :=
  i_iload 1 <|
  i_istore 5 <|
  i_iload 0 <|
  i_if_ge
  (i_const 0 <|
  i_istore 6 <|
  i_iload 6 <|
  i_if_ne
  ((J 22))
  (i_iload 0 <|
  i_ineg <|
  i_istore 0 <|
  (J 22)))
  (i_const 1 <|
  i_istore 6 <|
  i_iload 6 <|
  i_if_ne
  ((J 22))
  (i_iload 0 <|
  i_ineg <|
  i_istore 0 <|
  (J 22)))
theorem kJ6_getChars_2_0 {d : Nat} {Q : Outcome → MH → Prop} : ∀ ls st h, tJ6_getChars_2_0 d Q (fun pc ls st h => WPb mJ6_getChars_2 d pc ls st h Q) ls st h → WPb mJ6_getChars_2 d 0 ls st h Q :=
  r_iload_n (k := 1) dJ6_getChars_2_0 rfl <|
  r_istore dJ6_getChars_2_1 <|
  r_iload_n (k := 0) dJ6_getChars_2_3 rfl <|
  r_if_ge (pt := 11) dJ6_getChars_2_4 (by decide)
  (r_iconst (v := 0) dJ6_getChars_2_11 rfl <|
  r_istore dJ6_getChars_2_12 <|
  r_iload dJ6_getChars_2_14 <|
  r_if_ne (pt := 22) dJ6_getChars_2_16 (by decide)
  ((fun _ _ _ H => H))
  (r_iload_n (k := 0) dJ6_getChars_2_19 rfl <|
  r_ineg dJ6_getChars_2_20 <|
  r_istore_n (k := 0) dJ6_getChars_2_21 rfl <|
  (fun _ _ _ H => H)))
  (r_iconst (v := 1) dJ6_getChars_2_7 rfl <|
  r_goto (pt := 12) dJ6_getChars_2_8 (by decide) <|
  r_istore dJ6_getChars_2_12 <|
  r_iload dJ6_getChars_2_14 <|
  r_if_ne (pt := 22) dJ6_getChars_2_16 (by decide)
  ((fun _ _ _ H => H))
  (r_iload_n (k := 0) dJ6_getChars_2_19 rfl <|
  r_ineg dJ6_getChars_2_20 <|
  r_istore_n (k := 0) dJ6_getChars_2_21 rfl <|
  (fun _ _ _ H => H)))
def tJ6_getChars_2_22 (d : Nat) (Q : Outcome → MH → Prop) (J : Nat → KT) : KT :=
  i_iload 0 <|
  i_const (-100) <|
  i_icmp_gt
  (i_aload 2 <|
  i_iinc 5 (-1) <|
  i_iload 5 <|
  i_bad)
  (i_iload 0 <|
  i_const 100 <|
  i_idiv <|
  i_istore 3 <|
  i_iload 3 <|
  i_const 100 <|
  i_imul <|
  i_iload 0 <|
  i_isub <|
  i_istore 4 <|
  i_iload 3 <|
  i_istore 0 <|
  i_aload 2 <|
  i_iinc 5 (-1) <|
  i_iload 5 <|
  i_bad)
theorem kJ6_getChars_2_22 {d : Nat} {Q : Outcome → MH → Prop} : ∀ ls st h, tJ6_getChars_2_22 d Q (fun pc ls st h => WPb mJ6_getChars_2 d pc ls st h Q) ls st h → WPb mJ6_getChars_2 d 22 ls st h Q :=
  r_iload_n (k := 0) dJ6_getChars_2_22 rfl <|
  r_bipush (v := (-100)) dJ6_getChars_2_23 rfl <|
  r_icmp_gt (pt := 76) dJ6_getChars_2_25 (by decide)
  (r_aload_n (k := 2) dJ6_getChars_2_76 rfl <|
  r_iinc (v := (-1)) dJ6_getChars_2_77 rfl <|
  r_iload dJ6_getChars_2_80 <|
  r_bad)
  (r_iload_n (k := 0) dJ6_getChars_2_28 rfl <|
  r_bipush (v := 100) dJ6_getChars_2_29 rfl <|
  r_idiv dJ6_getChars_2_31 <|
  r_istore_n (k := 3) dJ6_getChars_2_32 rfl <|
  r_iload_n (k := 3) dJ6_getChars_2_33 rfl <|
  r_bipush (v := 100) dJ6_getChars_2_34 rfl <|
  r_imul dJ6_getChars_2_36 <|
  r_iload_n (k := 0) dJ6_getChars_2_37 rfl <|
  r_isub dJ6_getChars_2_38 <|
  r_istore dJ6_getChars_2_39 <|
  r_iload_n (k := 3) dJ6_getChars_2_41 rfl <|
  r_istore_n (k := 0) dJ6_getChars_2_42 rfl <|
  r_aload_n (k := 2) dJ6_getChars_2_43 rfl <|
  r_iinc (v := (-1)) dJ6_getChars_2_44 rfl <|
  r_iload dJ6_getChars_2_47 <|
  r_bad)
-- java/lang/StringUTF16.compress([BII)[B cuts [0]
def tJ6_compress_0 (d : Nat) (Q : Outcome → MH → Prop) (J : Nat → KT) : KT :=
  i_iload 2 <|
  i_newa 1 <|
  i_astore 3 <|
  i_aload 0 <|
  i_iload 1 <|
  i_aload 3 <|
  i_const 0 <|
  i_iload 2 <|
  i_call mJ6_compress_2 d 5 pS (xOut Q) <|
  i_istore 4 <|
  i_iload 4 <|
  i_iload 2 <|
  i_icmp_eq
  (i_aload 3 <|
  i_ret Q (some (.array .byte)))
  (i_aload 0 <|
  i_iload 1 <|
  i_const 1 <|
  i_ishl <|
  i_iload 1 <|
  i_iload 2 <|
  i_iadd <|
  i_call mJ6_newBytesLength d 1 pS (xOut Q) <|
  i_call mJ9_copyOfRange d 3 pS (xOut Q) <|
  i_astore 5 <|
  i_aload 5 <|
  i_iload 4 <|
  i_call mJ6_getChar d 2 pS (xOut Q) <|
  i_const 255 <|
  i_icmp_gt
  (i_aload 5 <|
  i_ret Q (some (.array .byte)))
  (i_aload 5 <|
  i_const 0 <|
  i_aload 3 <|
  i_const 0 <|
  i_iload 2 <|
  i_call mJ6_compress_2 d 5 pS (xOut Q) <|
  i_iload 2 <|
  i_icmp_eq
  (i_aload 3 <|
  i_ret Q (some (.array .byte)))
  (i_aload 5 <|
  i_ret Q (some (.array .byte)))))
theorem kJ6_compress_0 {d : Nat} {Q : Outcome → MH → Prop} : ∀ ls st h, tJ6_compress_0 d Q (fun pc ls st h => WPb mJ6_compress d pc ls st h Q) ls st h → WPb mJ6_compress d 0 ls st h Q :=
  r_iload_n (k := 2) dJ6_compress_0 rfl <|
  r_newa (t := 1) (at9 := .byte) (ty := .byte) (by decide) rfl rfl q344 (by decide) dJ6_compress_1 <|
  r_astore_n (k := 3) dJ6_compress_3 rfl <|
  r_aload_n (k := 0) dJ6_compress_4 rfl <|
  r_iload_n (k := 1) dJ6_compress_5 rfl <|
  r_aload_n (k := 3) dJ6_compress_6 rfl <|
  r_iconst (v := 0) dJ6_compress_7 rfl <|
  r_iload_n (k := 2) dJ6_compress_8 rfl <|
  r_cS (Z := mJ6_compress_2) dJ6_compress_9 rfl (by decide +kernel) ⟨by decide, by decide⟩ q901 q902 q132 q903 (XS.out (noH _)) <|
  r_istore dJ6_compress_12 <|
  r_iload dJ6_compress_14 <|
  r_iload_n (k := 2) dJ6_compress_16 rfl <|
  r_icmp_eq (pt := 64) dJ6_compress_17 (by decide)
  (r_aload_n (k := 3) dJ6_compress_64 rfl <|
  r_ret rfl (Or.inr (Or.inr ⟨dJ6_compress_65, Or.inr ⟨_, rfl⟩⟩)))
  (r_aload_n (k := 0) dJ6_compress_20 rfl <|
  r_iload_n (k := 1) dJ6_compress_21 rfl <|
  r_iconst (v := 1) dJ6_compress_22 rfl <|
  r_ishl dJ6_compress_23 <|
  r_iload_n (k := 1) dJ6_compress_24 rfl <|
  r_iload_n (k := 2) dJ6_compress_25 rfl <|
  r_iadd dJ6_compress_26 <|
  r_cS (Z := mJ6_newBytesLength) dJ6_compress_27 rfl (by decide +kernel) ⟨by decide, by decide⟩ q675 q676 q132 q677 (XS.out (noH _)) <|
  r_cS (Z := mJ9_copyOfRange) dJ6_compress_30 rfl (by decide +kernel) ⟨by decide, by decide⟩ q907 q864 q135 q865 (XS.out (noH _)) <|
  r_astore dJ6_compress_33 <|
  r_aload dJ6_compress_35 <|
  r_iload dJ6_compress_37 <|
  r_cS (Z := mJ6_getChar) dJ6_compress_39 rfl (by decide +kernel) ⟨by decide, by decide⟩ q904 q905 q132 q906 (XS.out (noH _)) <|
  r_sipush (v := 255) dJ6_compress_42 rfl <|
  r_icmp_gt (pt := 61) dJ6_compress_45 (by decide)
  (r_aload dJ6_compress_61 <|
  r_ret rfl (Or.inr (Or.inr ⟨dJ6_compress_63, Or.inr ⟨_, rfl⟩⟩)))
  (r_aload dJ6_compress_48 <|
  r_iconst (v := 0) dJ6_compress_50 rfl <|
  r_aload_n (k := 3) dJ6_compress_51 rfl <|
  r_iconst (v := 0) dJ6_compress_52 rfl <|
  r_iload_n (k := 2) dJ6_compress_53 rfl <|
  r_cS (Z := mJ6_compress_2) dJ6_compress_54 rfl (by decide +kernel) ⟨by decide, by decide⟩ q901 q902 q132 q903 (XS.out (noH _)) <|
  r_iload_n (k := 2) dJ6_compress_57 rfl <|
  r_icmp_eq (pt := 64) dJ6_compress_58 (by decide)
  (r_aload_n (k := 3) dJ6_compress_64 rfl <|
  r_ret rfl (Or.inr (Or.inr ⟨dJ6_compress_65, Or.inr ⟨_, rfl⟩⟩)))
  (r_aload dJ6_compress_61 <|
  r_ret rfl (Or.inr (Or.inr ⟨dJ6_compress_63, Or.inr ⟨_, rfl⟩⟩)))))
-- java/lang/StringUTF16.compress([BI[BII)I cuts [0, 10]
def tJ6_compress_2_0 (d : Nat) (Q : Outcome → MH → Prop) (J : Nat → KT) : KT :=
  i_iload 1 <|
  i_iload 4 <|
  i_aload 0 <|
  i_call mJ6_checkBoundsOffCount d 3 pS (xOut Q) <|
  i_const 0 <|
  i_istore 5 <|
  (J 10)
theorem kJ6_compress_2_0 {d : Nat} {Q : Outcome → MH → Prop} : ∀ ls st h, tJ6_compress_2_0 d Q (fun pc ls st h => WPb mJ6_compress_2 d pc ls st h Q) ls st h → WPb mJ6_compress_2 d 0 ls st h Q :=
  r_iload_n (k := 1) dJ6_compress_2_0 rfl <|
  r_iload dJ6_compress_2_1 <|
  r_aload_n (k := 0) dJ6_compress_2_3 rfl <|
  r_cS (Z := mJ6_checkBoundsOffCount) dJ6_compress_2_4 rfl (by decide +kernel) ⟨by decide, by decide⟩ q794 q795 q132 q796 (XS.out (noH _)) <|
  r_iconst (v := 0) dJ6_compress_2_7 rfl <|
  r_istore dJ6_compress_2_8 <|
  (fun _ _ _ H => H)
def tJ6_compress_2_10 (d : Nat) (Q : Outcome → MH → Prop) (J : Nat → KT) : KT :=
  i_iload 5 <|
  i_iload 4 <|
  i_icmp_ge
  (i_iload 4 <|
  i_ret Q (some .int))
  (i_aload 0 <|
  i_iload 1 <|
  i_call mJ6_getChar d 2 pS (xOut Q) <|
  i_istore 6 <|
  i_iload 6 <|
  i_const 255 <|
  i_icmp_le
  (i_aload 2 <|
  i_iload 3 <|
  i_iload 6 <|
  i_i2b <|
  i_bast <|
  i_iinc 1 1 <|
  i_iinc 3 1 <|
  i_iinc 5 1 <|
  (J 10))
  (i_iload 5 <|
  i_ret Q (some .int)))
theorem kJ6_compress_2_10 {d : Nat} {Q : Outcome → MH → Prop} : ∀ ls st h, tJ6_compress_2_10 d Q (fun pc ls st h => WPb mJ6_compress_2 d pc ls st h Q) ls st h → WPb mJ6_compress_2 d 10 ls st h Q :=
  r_iload dJ6_compress_2_10 <|
  r_iload dJ6_compress_2_12 <|
  r_icmp_ge (pt := 53) dJ6_compress_2_14 (by decide)
  (r_iload dJ6_compress_2_53 <|
  r_ret rfl (Or.inl ⟨dJ6_compress_2_55, Or.inl rfl⟩))
  (r_aload_n (k := 0) dJ6_compress_2_17 rfl <|
  r_iload_n (k := 1) dJ6_compress_2_18 rfl <|
  r_cS (Z := mJ6_getChar) dJ6_compress_2_19 rfl (by decide +kernel) ⟨by decide, by decide⟩ q904 q905 q132 q906 (XS.out (noH _)) <|
  r_istore dJ6_compress_2_22 <|
  r_iload dJ6_compress_2_24 <|
  r_sipush (v := 255) dJ6_compress_2_26 rfl <|
  r_icmp_le (pt := 35) dJ6_compress_2_29 (by decide)
  (r_aload_n (k := 2) dJ6_compress_2_35 rfl <|
  r_iload_n (k := 3) dJ6_compress_2_36 rfl <|
  r_iload dJ6_compress_2_37 <|
  r_i2b dJ6_compress_2_39 <|
  r_bast dJ6_compress_2_40 <|
  r_iinc (v := 1) dJ6_compress_2_41 rfl <|
  r_iinc (v := 1) dJ6_compress_2_44 rfl <|
  r_iinc (v := 1) dJ6_compress_2_47 rfl <|
  r_goto (pt := 10) dJ6_compress_2_50 (by decide) <|
  (fun _ _ _ H => H))
  (r_iload dJ6_compress_2_32 <|
  r_ret rfl (Or.inl ⟨dJ6_compress_2_34, Or.inl rfl⟩)))
-- java/lang/StringUTF16.getChar([BI)C cuts [0] NOT WALKED: [(0, 'getstatic java/lang/StringUTF16.$assertionsDisabled')]
def tJ6_getChar_0 (d : Nat) (Q : Outcome → MH → Prop) (J : Nat → KT) : KT :=
  i_bad
theorem kJ6_getChar_0 {d : Nat} {Q : Outcome → MH → Prop} : ∀ ls st h, tJ6_getChar_0 d Q (fun pc ls st h => WPb mJ6_getChar d pc ls st h Q) ls st h → WPb mJ6_getChar d 0 ls st h Q :=
  r_bad
-- java/lang/StringUTF16.coderFromArrayLen([BI)B cuts [0]
def tJ6_coderFromArrayLen_0 (d : Nat) (Q : Outcome → MH → Prop) (J : Nat → KT) : KT :=
  i_iload 1 <|
  i_aload 0 <|
  i_alen <|
  i_isub <|
  i_const 31 <|
  i_iushr <|
  i_i2b <|
  i_ret Q (some .byte)
theorem kJ6_coderFromArrayLen_0 {d : Nat} {Q : Outcome → MH → Prop} : ∀ ls st h, tJ6_coderFromArrayLen_0 d Q (fun pc ls st h => WPb mJ6_coderFromArrayLen d pc ls st h Q) ls st h → WPb mJ6_coderFromArrayLen d 0 ls st h Q :=
  r_iload_n (k := 1) dJ6_coderFromArrayLen_0 rfl <|
  r_aload_n (k := 0) dJ6_coderFromArrayLen_1 rfl <|
  r_alen dJ6_coderFromArrayLen_2 <|
  r_isub dJ6_coderFromArrayLen_3 <|
  r_bipush (v := 31) dJ6_coderFromArrayLen_4 rfl <|
  r_iushr dJ6_coderFromArrayLen_6 <|
  r_i2b dJ6_coderFromArrayLen_7 <|
  r_ret rfl (Or.inl ⟨dJ6_coderFromArrayLen_8, Or.inr (Or.inr (Or.inl rfl))⟩)
-- java/lang/StringUTF16.putCharSB([BII)V cuts [0]
def tJ6_putCharSB_0 (d : Nat) (Q : Outcome → MH → Prop) (J : Nat → KT) : KT :=
  i_iload 1 <|
  i_aload 0 <|
  i_call mJ6_checkIndex d 2 pS (xOut Q) <|
  i_aload 0 <|
  i_iload 1 <|
  i_iload 2 <|
  i_call mJ6_putChar d 3 pS (xOut Q) <|
  i_vret Q
theorem kJ6_putCharSB_0 {d : Nat} {Q : Outcome → MH → Prop} : ∀ ls st h, tJ6_putCharSB_0 d Q (fun pc ls st h => WPb mJ6_putCharSB d pc ls st h Q) ls st h → WPb mJ6_putCharSB d 0 ls st h Q :=
  r_iload_n (k := 1) dJ6_putCharSB_0 rfl <|
  r_aload_n (k := 0) dJ6_putCharSB_1 rfl <|
  r_cS (Z := mJ6_checkIndex) dJ6_putCharSB_2 rfl (by decide +kernel) ⟨by decide, by decide⟩ q1164 q1165 q132 q1166 (XS.out (noH _)) <|
  r_aload_n (k := 0) dJ6_putCharSB_5 rfl <|
  r_iload_n (k := 1) dJ6_putCharSB_6 rfl <|
  r_iload_n (k := 2) dJ6_putCharSB_7 rfl <|
  r_cS (Z := mJ6_putChar) dJ6_putCharSB_8 rfl (by decide +kernel) ⟨by decide, by decide⟩ q757 q758 q132 q759 (XS.out (noH _)) <|
  r_vret rfl dJ6_putCharSB_11
-- java/lang/StringUTF16.checkIndex(I[B)V cuts [0]
def tJ6_checkIndex_0 (d : Nat) (Q : Outcome → MH → Prop) (J : Nat → KT) : KT :=
  i_iload 0 <|
  i_aload 1 <|
  i_call mJ6_length d 1 pS (xOut Q) <|
  i_call mJ5_checkIndex d 2 pS (xOut Q) <|
  i_vret Q
theorem kJ6_checkIndex_0 {d : Nat} {Q : Outcome → MH → Prop} : ∀ ls st h, tJ6_checkIndex_0 d Q (fun pc ls st h => WPb mJ6_checkIndex d pc ls st h Q) ls st h → WPb mJ6_checkIndex d 0 ls st h Q :=
  r_iload_n (k := 0) dJ6_checkIndex_0 rfl <|
  r_aload_n (k := 1) dJ6_checkIndex_1 rfl <|
  r_cS (Z := mJ6_length) dJ6_checkIndex_2 rfl (by decide +kernel) ⟨by decide, by decide⟩ q746 q747 q132 q748 (XS.out (noH _)) <|
  r_cS (Z := mJ5_checkIndex) dJ6_checkIndex_5 rfl (by decide +kernel) ⟨by decide, by decide⟩ q1167 q1168 q131 q1169 (XS.out (noH _)) <|
  r_vret rfl dJ6_checkIndex_8
-- java/lang/StringUTF16.hashCode([B)I cuts [0]
def tJ6_hashCode_0 (d : Nat) (Q : Outcome → MH → Prop) (J : Nat → KT) : KT :=
  i_aload 0 <|
  i_alen <|
  i_sw [(0, i_const 0 <|
  i_ret Q (some .int)),
  (2, i_aload 0 <|
  i_const 0 <|
  i_call mJ6_getChar d 2 pS (xOut Q) <|
  i_ret Q (some .int))]
  (i_aload 0 <|
  i_const 0 <|
  i_aload 0 <|
  i_alen <|
  i_const 1 <|
  i_ishr <|
  i_const 0 <|
  i_const 5 <|
  i_call mJ7_vectorizedHashCode d 5 pS (xOut Q) <|
  i_ret Q (some .int))
theorem kJ6_hashCode_0 {d : Nat} {Q : Outcome → MH → Prop} : ∀ ls st h, tJ6_hashCode_0 d Q (fun pc ls st h => WPb mJ6_hashCode d pc ls st h Q) ls st h → WPb mJ6_hashCode d 0 ls st h Q :=
  r_aload_n (k := 0) dJ6_hashCode_0 rfl <|
  r_alen dJ6_hashCode_1 <|
  r_lsw (tl := [(0, 28), (2, 32)]) (td := 40) dJ6_hashCode_2 (by decide +kernel) (by decide +kernel) (by decide) (sw_cons (r_iconst (v := 0) dJ6_hashCode_28 rfl <|
  r_goto (pt := 51) dJ6_hashCode_29 (by decide) <|
  r_ret rfl (Or.inl ⟨dJ6_hashCode_51, Or.inl rfl⟩))
  (sw_cons (r_aload_n (k := 0) dJ6_hashCode_32 rfl <|
  r_iconst (v := 0) dJ6_hashCode_33 rfl <|
  r_cS (Z := mJ6_getChar) dJ6_hashCode_34 rfl (by decide +kernel) ⟨by decide, by decide⟩ q904 q905 q132 q906 (XS.out (noH _)) <|
  r_goto (pt := 51) dJ6_hashCode_37 (by decide) <|
  r_ret rfl (Or.inl ⟨dJ6_hashCode_51, Or.inl rfl⟩))
  (sw_nil (r_aload_n (k := 0) dJ6_hashCode_40 rfl <|
  r_iconst (v := 0) dJ6_hashCode_41 rfl <|
  r_aload_n (k := 0) dJ6_hashCode_42 rfl <|
  r_alen dJ6_hashCode_43 <|
  r_iconst (v := 1) dJ6_hashCode_44 rfl <|
  r_ishr dJ6_hashCode_45 <|
  r_iconst (v := 0) dJ6_hashCode_46 rfl <|
  r_iconst (v := 5) dJ6_hashCode_47 rfl <|
  r_cS (Z := mJ7_vectorizedHashCode) dJ6_hashCode_48 rfl (by decide +kernel) ⟨by decide, by decide⟩ q1260 q1212 q133 q1213 (XS.out (noH _)) <|
  r_ret rfl (Or.inl ⟨dJ6_hashCode_51, Or.inl rfl⟩)))))
-- java/lang/StringUTF16.charAt([BI)C cuts [0]
def tJ6_charAt_0 (d : Nat) (Q : Outcome → MH → Prop) (J : Nat → KT) : KT :=
  i_iload 1 <|
  i_aload 0 <|
  i_call mJ6_checkIndex d 2 pS (xOut Q) <|
  i_aload 0 <|
  i_iload 1 <|
  i_call mJ6_getChar d 2 pS (xOut Q) <|
  i_ret Q (some .char)
theorem kJ6_charAt_0 {d : Nat} {Q : Outcome → MH → Prop} : ∀ ls st h, tJ6_charAt_0 d Q (fun pc ls st h => WPb mJ6_charAt d pc ls st h Q) ls st h → WPb mJ6_charAt d 0 ls st h Q :=
  r_iload_n (k := 1) dJ6_charAt_0 rfl <|
  r_aload_n (k := 0) dJ6_charAt_1 rfl <|
  r_cS (Z := mJ6_checkIndex) dJ6_charAt_2 rfl (by decide +kernel) ⟨by decide, by decide⟩ q1164 q1165 q132 q1166 (XS.out (noH _)) <|
  r_aload_n (k := 0) dJ6_charAt_5 rfl <|
  r_iload_n (k := 1) dJ6_charAt_6 rfl <|
  r_cS (Z := mJ6_getChar) dJ6_charAt_7 rfl (by decide +kernel) ⟨by decide, by decide⟩ q904 q905 q132 q906 (XS.out (noH _)) <|
  r_ret rfl (Or.inl ⟨dJ6_charAt_10, Or.inr (Or.inr (Or.inr rfl))⟩)
-- jdk/internal/util/ArraysSupport.newLength(III)I cuts [0]
def tJ7_newLength_0 (d : Nat) (Q : Outcome → MH → Prop) (J : Nat → KT) : KT :=
  i_iload 0 <|
  i_iload 1 <|
  i_iload 2 <|
  i_mmax d <|
  i_iadd <|
  i_istore 3 <|
  i_const 0 <|
  i_iload 3 <|
  i_icmp_ge
  (i_iload 0 <|
  i_iload 1 <|
  i_call mJ7_hugeLength d 2 pS (xOut Q) <|
  i_ret Q (some .int))
  (i_iload 3 <|
  i_const 2147483639 <|
  i_icmp_gt
  (i_iload 0 <|
  i_iload 1 <|
  i_call mJ7_hugeLength d 2 pS (xOut Q) <|
  i_ret Q (some .int))
  (i_iload 3 <|
  i_ret Q (some .int)))
theorem kJ7_newLength_0 {d : Nat} {Q : Outcome → MH → Prop} : ∀ ls st h, tJ7_newLength_0 d Q (fun pc ls st h => WPb mJ7_newLength d pc ls st h Q) ls st h → WPb mJ7_newLength d 0 ls st h Q :=
  r_iload_n (k := 0) dJ7_newLength_0 rfl <|
  r_iload_n (k := 1) dJ7_newLength_1 rfl <|
  r_iload_n (k := 2) dJ7_newLength_2 rfl <|
  r_mmax dJ7_newLength_3 q715 q561 q134 q562 <|
  r_iadd dJ7_newLength_6 <|
  r_istore_n (k := 3) dJ7_newLength_7 rfl <|
  r_iconst (v := 0) dJ7_newLength_8 rfl <|
  r_iload_n (k := 3) dJ7_newLength_9 rfl <|
  r_icmp_ge (pt := 21) dJ7_newLength_10 (by decide)
  (r_iload_n (k := 0) dJ7_newLength_21 rfl <|
  r_iload_n (k := 1) dJ7_newLength_22 rfl <|
  r_cS (Z := mJ7_hugeLength) dJ7_newLength_23 rfl (by decide +kernel) ⟨by decide, by decide⟩ q717 q718 q133 q719 (XS.out (noH _)) <|
  r_ret rfl (Or.inl ⟨dJ7_newLength_26, Or.inl rfl⟩))
  (r_iload_n (k := 3) dJ7_newLength_13 rfl <|
  r_ldc (v := 2147483639) dJ7_newLength_14 q716 <|
  r_icmp_gt (pt := 21) dJ7_newLength_16 (by decide)
  (r_iload_n (k := 0) dJ7_newLength_21 rfl <|
  r_iload_n (k := 1) dJ7_newLength_22 rfl <|
  r_cS (Z := mJ7_hugeLength) dJ7_newLength_23 rfl (by decide +kernel) ⟨by decide, by decide⟩ q717 q718 q133 q719 (XS.out (noH _)) <|
  r_ret rfl (Or.inl ⟨dJ7_newLength_26, Or.inl rfl⟩))
  (r_iload_n (k := 3) dJ7_newLength_19 rfl <|
  r_ret rfl (Or.inl ⟨dJ7_newLength_20, Or.inl rfl⟩)))
-- jdk/internal/util/ArraysSupport.hugeLength(II)I cuts [0] NOT WALKED: [(8, "('jdk/internal/util/ArraysSupport', 204)")]
def tJ7_hugeLength_0 (d : Nat) (Q : Outcome → MH → Prop) (J : Nat → KT) : KT :=
  i_iload 0 <|
  i_iload 1 <|
  i_iadd <|
  i_istore 2 <|
  i_iload 2 <|
  i_if_ge
  (i_iload 2 <|
  i_const 2147483639 <|
  i_icmp_gt
  (i_iload 2 <|
  i_ret Q (some .int))
  (i_const 2147483639 <|
  i_ret Q (some .int)))
  (i_bad)
theorem kJ7_hugeLength_0 {d : Nat} {Q : Outcome → MH → Prop} : ∀ ls st h, tJ7_hugeLength_0 d Q (fun pc ls st h => WPb mJ7_hugeLength d pc ls st h Q) ls st h → WPb mJ7_hugeLength d 0 ls st h Q :=
  r_iload_n (k := 0) dJ7_hugeLength_0 rfl <|
  r_iload_n (k := 1) dJ7_hugeLength_1 rfl <|
  r_iadd dJ7_hugeLength_2 <|
  r_istore_n (k := 2) dJ7_hugeLength_3 rfl <|
  r_iload_n (k := 2) dJ7_hugeLength_4 rfl <|
  r_if_ge (pt := 49) dJ7_hugeLength_5 (by decide)
  (r_iload_n (k := 2) dJ7_hugeLength_49 rfl <|
  r_ldc (v := 2147483639) dJ7_hugeLength_50 q716 <|
  r_icmp_gt (pt := 58) dJ7_hugeLength_52 (by decide)
  (r_iload_n (k := 2) dJ7_hugeLength_58 rfl <|
  r_ret rfl (Or.inl ⟨dJ7_hugeLength_59, Or.inl rfl⟩))
  (r_ldc (v := 2147483639) dJ7_hugeLength_55 q716 <|
  r_ret rfl (Or.inl ⟨dJ7_hugeLength_57, Or.inl rfl⟩)))
  (r_bad)
-- jdk/internal/util/ArraysSupport.vectorizedHashCode(Ljava/lang/Object;IIII)I cuts [0, 129] NOT WALKED: [(58, 'instanceof [B'), (105, 'checkcast [S'), (129, "'NoneType' object has no attribute 'group'")]
def tJ7_vectorizedHashCode_0 (d : Nat) (Q : Outcome → MH → Prop) (J : Nat → KT) : KT :=
  i_iload 4 <|
  i_sw [(4, i_iload 3 <|
  i_aload 0 <|
  i_castA 1 <|
  i_iload 1 <|
  i_iload 2 <|
  i_call mJ7_signedHashCode d 4 pS (xOut Q) <|
  i_ret Q (some .int)),
  (5, i_aload 0 <|
  i_bad),
  (6, (J 129)),
  (7, (J 129)),
  (8, i_iload 3 <|
  i_aload 0 <|
  i_castA 1 <|
  i_iload 1 <|
  i_iload 2 <|
  i_call mJ7_hashCode_2 d 4 pS (xOut Q) <|
  i_ret Q (some .int)),
  (9, i_iload 3 <|
  i_aload 0 <|
  i_bad),
  (10, i_iload 3 <|
  i_aload 0 <|
  i_castA 0 <|
  i_iload 1 <|
  i_iload 2 <|
  i_call mJ7_hashCode_4 d 4 pS (xOut Q) <|
  i_ret Q (some .int))]
  ((J 129))
theorem kJ7_vectorizedHashCode_0 {d : Nat} {Q : Outcome → MH → Prop} : ∀ ls st h, tJ7_vectorizedHashCode_0 d Q (fun pc ls st h => WPb mJ7_vectorizedHashCode d pc ls st h Q) ls st h → WPb mJ7_vectorizedHashCode d 0 ls st h Q :=
  r_iload dJ7_vectorizedHashCode_0 <|
  r_tsw (tl := [(4, 44), (5, 57), (6, 129), (7, 129), (8, 90), (9, 103), (10, 116)]) (td := 129) dJ7_vectorizedHashCode_2 (by decide +kernel) (by decide) (by decide +kernel) (by decide) (sw_cons (r_iload_n (k := 3) dJ7_vectorizedHashCode_44 rfl <|
  r_aload_n (k := 0) dJ7_vectorizedHashCode_45 rfl <|
  r_castA (t := 1) (nm := "[B") (by decide) (by decide +kernel) q1214 dJ7_vectorizedHashCode_46 <|
  r_iload_n (k := 1) dJ7_vectorizedHashCode_49 rfl <|
  r_iload_n (k := 2) dJ7_vectorizedHashCode_50 rfl <|
  r_cS (Z := mJ7_signedHashCode) dJ7_vectorizedHashCode_51 rfl (by decide +kernel) ⟨by decide, by decide⟩ q1215 q1216 q133 q1217 (XS.out (noH _)) <|
  r_goto (pt := 157) dJ7_vectorizedHashCode_54 (by decide) <|
  r_ret rfl (Or.inl ⟨dJ7_vectorizedHashCode_157, Or.inl rfl⟩))
  (sw_cons (r_aload_n (k := 0) dJ7_vectorizedHashCode_57 rfl <|
  r_bad)
  (sw_cons ((fun _ _ _ H => H))
  (sw_cons ((fun _ _ _ H => H))
  (sw_cons (r_iload_n (k := 3) dJ7_vectorizedHashCode_90 rfl <|
  r_aload_n (k := 0) dJ7_vectorizedHashCode_91 rfl <|
  r_castA (t := 1) (nm := "[B") (by decide) (by decide +kernel) q1214 dJ7_vectorizedHashCode_92 <|
  r_iload_n (k := 1) dJ7_vectorizedHashCode_95 rfl <|
  r_iload_n (k := 2) dJ7_vectorizedHashCode_96 rfl <|
  r_cS (Z := mJ7_hashCode_2) dJ7_vectorizedHashCode_97 rfl (by decide +kernel) ⟨by decide, by decide⟩ q1238 q1239 q133 q1240 (XS.out (noH _)) <|
  r_goto (pt := 157) dJ7_vectorizedHashCode_100 (by decide) <|
  r_ret rfl (Or.inl ⟨dJ7_vectorizedHashCode_157, Or.inl rfl⟩))
  (sw_cons (r_iload_n (k := 3) dJ7_vectorizedHashCode_103 rfl <|
  r_aload_n (k := 0) dJ7_vectorizedHashCode_104 rfl <|
  r_bad)
  (sw_cons (r_iload_n (k := 3) dJ7_vectorizedHashCode_116 rfl <|
  r_aload_n (k := 0) dJ7_vectorizedHashCode_117 rfl <|
  r_castA (t := 0) (nm := "[I") (by decide) (by decide +kernel) q1245 dJ7_vectorizedHashCode_118 <|
  r_iload_n (k := 1) dJ7_vectorizedHashCode_121 rfl <|
  r_iload_n (k := 2) dJ7_vectorizedHashCode_122 rfl <|
  r_cS (Z := mJ7_hashCode_4) dJ7_vectorizedHashCode_123 rfl (by decide +kernel) ⟨by decide, by decide⟩ q1246 q1247 q133 q1248 (XS.out (noH _)) <|
  r_goto (pt := 157) dJ7_vectorizedHashCode_126 (by decide) <|
  r_ret rfl (Or.inl ⟨dJ7_vectorizedHashCode_157, Or.inl rfl⟩))
  (sw_nil ((fun _ _ _ H => H))))))))))
def tJ7_vectorizedHashCode_129 (d : Nat) (Q : Outcome → MH → Prop) (J : Nat → KT) : KT :=
  i_bad
theorem kJ7_vectorizedHashCode_129 {d : Nat} {Q : Outcome → MH → Prop} : ∀ ls st h, tJ7_vectorizedHashCode_129 d Q (fun pc ls st h => WPb mJ7_vectorizedHashCode d pc ls st h Q) ls st h → WPb mJ7_vectorizedHashCode d 129 ls st h Q :=
  r_bad
-- jdk/internal/util/ArraysSupport.signedHashCode(I[BII)I cuts [0, 8]
def tJ7_signedHashCode_0 (d : Nat) (Q : Outcome → MH → Prop) (J : Nat → KT) : KT :=
  i_iload 2 <|
  i_iload 3 <|
  i_iadd <|
  i_istore 4 <|
  i_iload 2 <|
  i_istore 5 <|
  (J 8)
theorem kJ7_signedHashCode_0 {d : Nat} {Q : Outcome → MH → Prop} : ∀ ls st h, tJ7_signedHashCode_0 d Q (fun pc ls st h => WPb mJ7_signedHashCode d pc ls st h Q) ls st h → WPb mJ7_signedHashCode d 0 ls st h Q :=
  r_iload_n (k := 2) dJ7_signedHashCode_0 rfl <|
  r_iload_n (k := 3) dJ7_signedHashCode_1 rfl <|
  r_iadd dJ7_signedHashCode_2 <|
  r_istore dJ7_signedHashCode_3 <|
  r_iload_n (k := 2) dJ7_signedHashCode_5 rfl <|
  r_istore dJ7_signedHashCode_6 <|
  (fun _ _ _ H => H)
def tJ7_signedHashCode_8 (d : Nat) (Q : Outcome → MH → Prop) (J : Nat → KT) : KT :=
  i_iload 5 <|
  i_iload 4 <|
  i_icmp_ge
  (i_iload 0 <|
  i_ret Q (some .int))
  (i_const 31 <|
  i_iload 0 <|
  i_imul <|
  i_aload 1 <|
  i_iload 5 <|
  i_bald <|
  i_const 255 <|
  i_iand <|
  i_iadd <|
  i_istore 0 <|
  i_iinc 5 1 <|
  (J 8))
theorem kJ7_signedHashCode_8 {d : Nat} {Q : Outcome → MH → Prop} : ∀ ls st h, tJ7_signedHashCode_8 d Q (fun pc ls st h => WPb mJ7_signedHashCode d pc ls st h Q) ls st h → WPb mJ7_signedHashCode d 8 ls st h Q :=
  r_iload dJ7_signedHashCode_8 <|
  r_iload dJ7_signedHashCode_10 <|
  r_icmp_ge (pt := 35) dJ7_signedHashCode_12 (by decide)
  (r_iload_n (k := 0) dJ7_signedHashCode_35 rfl <|
  r_ret rfl (Or.inl ⟨dJ7_signedHashCode_36, Or.inl rfl⟩))
  (r_bipush (v := 31) dJ7_signedHashCode_15 rfl <|
  r_iload_n (k := 0) dJ7_signedHashCode_17 rfl <|
  r_imul dJ7_signedHashCode_18 <|
  r_aload_n (k := 1) dJ7_signedHashCode_19 rfl <|
  r_iload dJ7_signedHashCode_20 <|
  r_bald dJ7_signedHashCode_22 <|
  r_sipush (v := 255) dJ7_signedHashCode_23 rfl <|
  r_iand dJ7_signedHashCode_26 <|
  r_iadd dJ7_signedHashCode_27 <|
  r_istore_n (k := 0) dJ7_signedHashCode_28 rfl <|
  r_iinc (v := 1) dJ7_signedHashCode_29 rfl <|
  r_goto (pt := 8) dJ7_signedHashCode_32 (by decide) <|
  (fun _ _ _ H => H))
-- jdk/internal/util/ArraysSupport.utf16hashCode(I[BII)I cuts [0, 8] NOT WALKED: [(19, 'getstatic jdk/internal/util/ArraysSupport.JLA')]
def tJ7_utf16hashCode_0 (d : Nat) (Q : Outcome → MH → Prop) (J : Nat → KT) : KT :=
  i_iload 2 <|
  i_iload 3 <|
  i_iadd <|
  i_istore 4 <|
  i_iload 2 <|
  i_istore 5 <|
  (J 8)
theorem kJ7_utf16hashCode_0 {d : Nat} {Q : Outcome → MH → Prop} : ∀ ls st h, tJ7_utf16hashCode_0 d Q (fun pc ls st h => WPb mJ7_utf16hashCode d pc ls st h Q) ls st h → WPb mJ7_utf16hashCode d 0 ls st h Q :=
  r_iload_n (k := 2) dJ7_utf16hashCode_0 rfl <|
  r_iload_n (k := 3) dJ7_utf16hashCode_1 rfl <|
  r_iadd dJ7_utf16hashCode_2 <|
  r_istore dJ7_utf16hashCode_3 <|
  r_iload_n (k := 2) dJ7_utf16hashCode_5 rfl <|
  r_istore dJ7_utf16hashCode_6 <|
  (fun _ _ _ H => H)
def tJ7_utf16hashCode_8 (d : Nat) (Q : Outcome → MH → Prop) (J : Nat → KT) : KT :=
  i_iload 5 <|
  i_iload 4 <|
  i_icmp_ge
  (i_iload 0 <|
  i_ret Q (some .int))
  (i_const 31 <|
  i_iload 0 <|
  i_imul <|
  i_bad)
theorem kJ7_utf16hashCode_8 {d : Nat} {Q : Outcome → MH → Prop} : ∀ ls st h, tJ7_utf16hashCode_8 d Q (fun pc ls st h => WPb mJ7_utf16hashCode d pc ls st h Q) ls st h → WPb mJ7_utf16hashCode d 8 ls st h Q :=
  r_iload dJ7_utf16hashCode_8 <|
  r_iload dJ7_utf16hashCode_10 <|
  r_icmp_ge (pt := 38) dJ7_utf16hashCode_12 (by decide)
  (r_iload_n (k := 0) dJ7_utf16hashCode_38 rfl <|
  r_ret rfl (Or.inl ⟨dJ7_utf16hashCode_39, Or.inl rfl⟩))
  (r_bipush (v := 31) dJ7_utf16hashCode_15 rfl <|
  r_iload_n (k := 0) dJ7_utf16hashCode_17 rfl <|
  r_imul dJ7_utf16hashCode_18 <|
  r_bad)
-- jdk/internal/util/ArraysSupport.hashCode(I[CII)I cuts [0, 8] NOT WALKED: [(22, 'caload')]
def tJ7_hashCode_0 (d : Nat) (Q : Outcome → MH → Prop) (J : Nat → KT) : KT :=
  i_iload 2 <|
  i_iload 3 <|
  i_iadd <|
  i_istore 4 <|
  i_iload 2 <|
  i_istore 5 <|
  (J 8)
theorem kJ7_hashCode_0 {d : Nat} {Q : Outcome → MH → Prop} : ∀ ls st h, tJ7_hashCode_0 d Q (fun pc ls st h => WPb mJ7_hashCode d pc ls st h Q) ls st h → WPb mJ7_hashCode d 0 ls st h Q :=
  r_iload_n (k := 2) dJ7_hashCode_0 rfl <|
  r_iload_n (k := 3) dJ7_hashCode_1 rfl <|
  r_iadd dJ7_hashCode_2 <|
  r_istore dJ7_hashCode_3 <|
  r_iload_n (k := 2) dJ7_hashCode_5 rfl <|
  r_istore dJ7_hashCode_6 <|
  (fun _ _ _ H => H)
def tJ7_hashCode_8 (d : Nat) (Q : Outcome → MH → Prop) (J : Nat → KT) : KT :=
  i_iload 5 <|
  i_iload 4 <|
  i_icmp_ge
  (i_iload 0 <|
  i_ret Q (some .int))
  (i_const 31 <|
  i_iload 0 <|
  i_imul <|
  i_aload 1 <|
  i_iload 5 <|
  i_bad)
theorem kJ7_hashCode_8 {d : Nat} {Q : Outcome → MH → Prop} : ∀ ls st h, tJ7_hashCode_8 d Q (fun pc ls st h => WPb mJ7_hashCode d pc ls st h Q) ls st h → WPb mJ7_hashCode d 8 ls st h Q :=
  r_iload dJ7_hashCode_8 <|
  r_iload dJ7_hashCode_10 <|
  r_icmp_ge (pt := 31) dJ7_hashCode_12 (by decide)
  (r_iload_n (k := 0) dJ7_hashCode_31 rfl <|
  r_ret rfl (Or.inl ⟨dJ7_hashCode_32, Or.inl rfl⟩))
  (r_bipush (v := 31) dJ7_hashCode_15 rfl <|
  r_iload_n (k := 0) dJ7_hashCode_17 rfl <|
  r_imul dJ7_hashCode_18 <|
  r_aload_n (k := 1) dJ7_hashCode_19 rfl <|
  r_iload dJ7_hashCode_20 <|
  r_bad)
-- jdk/internal/util/ArraysSupport.hashCode(I[BII)I cuts [0, 8]
def tJ7_hashCode_2_0 (d : Nat) (Q : Outcome → MH → Prop) (J : Nat → KT) : KT :=
  i_iload 2 <|
  i_iload 3 <|
  i_iadd <|
  i_istore 4 <|
  i_iload 2 <|
  i_istore 5 <|
  (J 8)
theorem kJ7_hashCode_2_0 {d : Nat} {Q : Outcome → MH → Prop} : ∀ ls st h, tJ7_hashCode_2_0 d Q (fun pc ls st h => WPb mJ7_hashCode_2 d pc ls st h Q) ls st h → WPb mJ7_hashCode_2 d 0 ls st h Q :=
  r_iload_n (k := 2) dJ7_hashCode_2_0 rfl <|
  r_iload_n (k := 3) dJ7_hashCode_2_1 rfl <|
  r_iadd dJ7_hashCode_2_2 <|
  r_istore dJ7_hashCode_2_3 <|
  r_iload_n (k := 2) dJ7_hashCode_2_5 rfl <|
  r_istore dJ7_hashCode_2_6 <|
  (fun _ _ _ H => H)
def tJ7_hashCode_2_8 (d : Nat) (Q : Outcome → MH → Prop) (J : Nat → KT) : KT :=
  i_iload 5 <|
  i_iload 4 <|
  i_icmp_ge
  (i_iload 0 <|
  i_ret Q (some .int))
  (i_const 31 <|
  i_iload 0 <|
  i_imul <|
  i_aload 1 <|
  i_iload 5 <|
  i_bald <|
  i_iadd <|
  i_istore 0 <|
  i_iinc 5 1 <|
  (J 8))
theorem kJ7_hashCode_2_8 {d : Nat} {Q : Outcome → MH → Prop} : ∀ ls st h, tJ7_hashCode_2_8 d Q (fun pc ls st h => WPb mJ7_hashCode_2 d pc ls st h Q) ls st h → WPb mJ7_hashCode_2 d 8 ls st h Q :=
  r_iload dJ7_hashCode_2_8 <|
  r_iload dJ7_hashCode_2_10 <|
  r_icmp_ge (pt := 31) dJ7_hashCode_2_12 (by decide)
  (r_iload_n (k := 0) dJ7_hashCode_2_31 rfl <|
  r_ret rfl (Or.inl ⟨dJ7_hashCode_2_32, Or.inl rfl⟩))
  (r_bipush (v := 31) dJ7_hashCode_2_15 rfl <|
  r_iload_n (k := 0) dJ7_hashCode_2_17 rfl <|
  r_imul dJ7_hashCode_2_18 <|
  r_aload_n (k := 1) dJ7_hashCode_2_19 rfl <|
  r_iload dJ7_hashCode_2_20 <|
  r_bald dJ7_hashCode_2_22 <|
  r_iadd dJ7_hashCode_2_23 <|
  r_istore_n (k := 0) dJ7_hashCode_2_24 rfl <|
  r_iinc (v := 1) dJ7_hashCode_2_25 rfl <|
  r_goto (pt := 8) dJ7_hashCode_2_28 (by decide) <|
  (fun _ _ _ H => H))
-- jdk/internal/util/ArraysSupport.hashCode(I[SII)I cuts [0, 8] NOT WALKED: [(22, 'saload')]
def tJ7_hashCode_3_0 (d : Nat) (Q : Outcome → MH → Prop) (J : Nat → KT) : KT :=
  i_iload 2 <|
  i_iload 3 <|
  i_iadd <|
  i_istore 4 <|
  i_iload 2 <|
  i_istore 5 <|
  (J 8)
theorem kJ7_hashCode_3_0 {d : Nat} {Q : Outcome → MH → Prop} : ∀ ls st h, tJ7_hashCode_3_0 d Q (fun pc ls st h => WPb mJ7_hashCode_3 d pc ls st h Q) ls st h → WPb mJ7_hashCode_3 d 0 ls st h Q :=
  r_iload_n (k := 2) dJ7_hashCode_3_0 rfl <|
  r_iload_n (k := 3) dJ7_hashCode_3_1 rfl <|
  r_iadd dJ7_hashCode_3_2 <|
  r_istore dJ7_hashCode_3_3 <|
  r_iload_n (k := 2) dJ7_hashCode_3_5 rfl <|
  r_istore dJ7_hashCode_3_6 <|
  (fun _ _ _ H => H)
def tJ7_hashCode_3_8 (d : Nat) (Q : Outcome → MH → Prop) (J : Nat → KT) : KT :=
  i_iload 5 <|
  i_iload 4 <|
  i_icmp_ge
  (i_iload 0 <|
  i_ret Q (some .int))
  (i_const 31 <|
  i_iload 0 <|
  i_imul <|
  i_aload 1 <|
  i_iload 5 <|
  i_bad)
theorem kJ7_hashCode_3_8 {d : Nat} {Q : Outcome → MH → Prop} : ∀ ls st h, tJ7_hashCode_3_8 d Q (fun pc ls st h => WPb mJ7_hashCode_3 d pc ls st h Q) ls st h → WPb mJ7_hashCode_3 d 8 ls st h Q :=
  r_iload dJ7_hashCode_3_8 <|
  r_iload dJ7_hashCode_3_10 <|
  r_icmp_ge (pt := 31) dJ7_hashCode_3_12 (by decide)
  (r_iload_n (k := 0) dJ7_hashCode_3_31 rfl <|
  r_ret rfl (Or.inl ⟨dJ7_hashCode_3_32, Or.inl rfl⟩))
  (r_bipush (v := 31) dJ7_hashCode_3_15 rfl <|
  r_iload_n (k := 0) dJ7_hashCode_3_17 rfl <|
  r_imul dJ7_hashCode_3_18 <|
  r_aload_n (k := 1) dJ7_hashCode_3_19 rfl <|
  r_iload dJ7_hashCode_3_20 <|
  r_bad)
-- jdk/internal/util/ArraysSupport.hashCode(I[III)I cuts [0, 8]
def tJ7_hashCode_4_0 (d : Nat) (Q : Outcome → MH → Prop) (J : Nat → KT) : KT :=
  i_iload 2 <|
  i_iload 3 <|
  i_iadd <|
  i_istore 4 <|
  i_iload 2 <|
  i_istore 5 <|
  (J 8)
theorem kJ7_hashCode_4_0 {d : Nat} {Q : Outcome → MH → Prop} : ∀ ls st h, tJ7_hashCode_4_0 d Q (fun pc ls st h => WPb mJ7_hashCode_4 d pc ls st h Q) ls st h → WPb mJ7_hashCode_4 d 0 ls st h Q :=
  r_iload_n (k := 2) dJ7_hashCode_4_0 rfl <|
  r_iload_n (k := 3) dJ7_hashCode_4_1 rfl <|
  r_iadd dJ7_hashCode_4_2 <|
  r_istore dJ7_hashCode_4_3 <|
  r_iload_n (k := 2) dJ7_hashCode_4_5 rfl <|
  r_istore dJ7_hashCode_4_6 <|
  (fun _ _ _ H => H)
def tJ7_hashCode_4_8 (d : Nat) (Q : Outcome → MH → Prop) (J : Nat → KT) : KT :=
  i_iload 5 <|
  i_iload 4 <|
  i_icmp_ge
  (i_iload 0 <|
  i_ret Q (some .int))
  (i_const 31 <|
  i_iload 0 <|
  i_imul <|
  i_aload 1 <|
  i_iload 5 <|
  i_iald <|
  i_iadd <|
  i_istore 0 <|
  i_iinc 5 1 <|
  (J 8))
theorem kJ7_hashCode_4_8 {d : Nat} {Q : Outcome → MH → Prop} : ∀ ls st h, tJ7_hashCode_4_8 d Q (fun pc ls st h => WPb mJ7_hashCode_4 d pc ls st h Q) ls st h → WPb mJ7_hashCode_4 d 8 ls st h Q :=
  r_iload dJ7_hashCode_4_8 <|
  r_iload dJ7_hashCode_4_10 <|
  r_icmp_ge (pt := 31) dJ7_hashCode_4_12 (by decide)
  (r_iload_n (k := 0) dJ7_hashCode_4_31 rfl <|
  r_ret rfl (Or.inl ⟨dJ7_hashCode_4_32, Or.inl rfl⟩))
  (r_bipush (v := 31) dJ7_hashCode_4_15 rfl <|
  r_iload_n (k := 0) dJ7_hashCode_4_17 rfl <|
  r_imul dJ7_hashCode_4_18 <|
  r_aload_n (k := 1) dJ7_hashCode_4_19 rfl <|
  r_iload dJ7_hashCode_4_20 <|
  r_iald dJ7_hashCode_4_22 <|
  r_iadd dJ7_hashCode_4_23 <|
  r_istore_n (k := 0) dJ7_hashCode_4_24 rfl <|
  r_iinc (v := 1) dJ7_hashCode_4_25 rfl <|
  r_goto (pt := 8) dJ7_hashCode_4_28 (by decide) <|
  (fun _ _ _ H => H))
-- java/lang/Math.abs(I)I cuts [0]
def tJ8_abs_0 (d : Nat) (Q : Outcome → MH → Prop) (J : Nat → KT) : KT :=
  i_iload 0 <|
  i_if_ge
  (i_iload 0 <|
  i_ret Q (some .int))
  (i_iload 0 <|
  i_ineg <|
  i_ret Q (some .int))
theorem kJ8_abs_0 {d : Nat} {Q : Outcome → MH → Prop} : ∀ ls st h, tJ8_abs_0 d Q (fun pc ls st h => WPb mJ8_abs d pc ls st h Q) ls st h → WPb mJ8_abs d 0 ls st h Q :=
  r_iload_n (k := 0) dJ8_abs_0 rfl <|
  r_if_ge (pt := 9) dJ8_abs_1 (by decide)
  (r_iload_n (k := 0) dJ8_abs_9 rfl <|
  r_ret rfl (Or.inl ⟨dJ8_abs_10, Or.inl rfl⟩))
  (r_iload_n (k := 0) dJ8_abs_4 rfl <|
  r_ineg dJ8_abs_5 <|
  r_goto (pt := 10) dJ8_abs_6 (by decide) <|
  r_ret rfl (Or.inl ⟨dJ8_abs_10, Or.inl rfl⟩))
-- java/lang/Math.max(II)I cuts [0]
def tJ8_max_0 (d : Nat) (Q : Outcome → MH → Prop) (J : Nat → KT) : KT :=
  i_iload 0 <|
  i_iload 1 <|
  i_icmp_lt
  (i_iload 1 <|
  i_ret Q (some .int))
  (i_iload 0 <|
  i_ret Q (some .int))
theorem kJ8_max_0 {d : Nat} {Q : Outcome → MH → Prop} : ∀ ls st h, tJ8_max_0 d Q (fun pc ls st h => WPb mJ8_max d pc ls st h Q) ls st h → WPb mJ8_max d 0 ls st h Q :=
  r_iload_n (k := 0) dJ8_max_0 rfl <|
  r_iload_n (k := 1) dJ8_max_1 rfl <|
  r_icmp_lt (pt := 9) dJ8_max_2 (by decide)
  (r_iload_n (k := 1) dJ8_max_9 rfl <|
  r_ret rfl (Or.inl ⟨dJ8_max_10, Or.inl rfl⟩))
  (r_iload_n (k := 0) dJ8_max_5 rfl <|
  r_goto (pt := 10) dJ8_max_6 (by decide) <|
  r_ret rfl (Or.inl ⟨dJ8_max_10, Or.inl rfl⟩))
-- java/lang/Math.min(II)I cuts [0]
def tJ8_min_0 (d : Nat) (Q : Outcome → MH → Prop) (J : Nat → KT) : KT :=
  i_iload 0 <|
  i_iload 1 <|
  i_icmp_gt
  (i_iload 1 <|
  i_ret Q (some .int))
  (i_iload 0 <|
  i_ret Q (some .int))
theorem kJ8_min_0 {d : Nat} {Q : Outcome → MH → Prop} : ∀ ls st h, tJ8_min_0 d Q (fun pc ls st h => WPb mJ8_min d pc ls st h Q) ls st h → WPb mJ8_min d 0 ls st h Q :=
  r_iload_n (k := 0) dJ8_min_0 rfl <|
  r_iload_n (k := 1) dJ8_min_1 rfl <|
  r_icmp_gt (pt := 9) dJ8_min_2 (by decide)
  (r_iload_n (k := 1) dJ8_min_9 rfl <|
  r_ret rfl (Or.inl ⟨dJ8_min_10, Or.inl rfl⟩))
  (r_iload_n (k := 0) dJ8_min_5 rfl <|
  r_goto (pt := 10) dJ8_min_6 (by decide) <|
  r_ret rfl (Or.inl ⟨dJ8_min_10, Or.inl rfl⟩))
-- java/util/Arrays.fill([IIII)V cuts [0, 10]
def tJ9_fill_0 (d : Nat) (Q : Outcome → MH → Prop) (J : Nat → KT) : KT :=
  i_aload 0 <|
  i_alen <|
  i_iload 1 <|
  i_iload 2 <|
  i_call mJ9_rangeCheck d 3 pS (xOut Q) <|
  i_iload 1 <|
  i_istore 4 <|
  (J 10)
theorem kJ9_fill_0 {d : Nat} {Q : Outcome → MH → Prop} : ∀ ls st h, tJ9_fill_0 d Q (fun pc ls st h => WPb mJ9_fill d pc ls st h Q) ls st h → WPb mJ9_fill d 0 ls st h Q :=
  r_aload_n (k := 0) dJ9_fill_0 rfl <|
  r_alen dJ9_fill_1 <|
  r_iload_n (k := 1) dJ9_fill_2 rfl <|
  r_iload_n (k := 2) dJ9_fill_3 rfl <|
  r_cS (Z := mJ9_rangeCheck) dJ9_fill_4 rfl (by decide +kernel) ⟨by decide, by decide⟩ q613 q614 q135 q615 (XS.out (noH _)) <|
  r_iload_n (k := 1) dJ9_fill_7 rfl <|
  r_istore dJ9_fill_8 <|
  (fun _ _ _ H => H)
def tJ9_fill_10 (d : Nat) (Q : Outcome → MH → Prop) (J : Nat → KT) : KT :=
  i_iload 4 <|
  i_iload 2 <|
  i_icmp_ge
  (i_vret Q)
  (i_aload 0 <|
  i_iload 4 <|
  i_iload 3 <|
  i_iast <|
  i_iinc 4 1 <|
  (J 10))
theorem kJ9_fill_10 {d : Nat} {Q : Outcome → MH → Prop} : ∀ ls st h, tJ9_fill_10 d Q (fun pc ls st h => WPb mJ9_fill d pc ls st h Q) ls st h → WPb mJ9_fill d 10 ls st h Q :=
  r_iload dJ9_fill_10 <|
  r_iload_n (k := 2) dJ9_fill_12 rfl <|
  r_icmp_ge (pt := 27) dJ9_fill_13 (by decide)
  (r_vret rfl dJ9_fill_27)
  (r_aload_n (k := 0) dJ9_fill_16 rfl <|
  r_iload dJ9_fill_17 <|
  r_iload_n (k := 3) dJ9_fill_19 rfl <|
  r_iast dJ9_fill_20 <|
  r_iinc (v := 1) dJ9_fill_21 rfl <|
  r_goto (pt := 10) dJ9_fill_24 (by decide) <|
  (fun _ _ _ H => H))
-- java/util/Arrays.rangeCheck(III)V cuts [0] NOT WALKED: [(64, 'new java/lang/ArrayIndexOutOfBoundsException'), (50, 'new java/lang/ArrayIndexOutOfBoundsException'), (5, "'NoneType' object has no attribute 'group'")]
def tJ9_rangeCheck_0 (d : Nat) (Q : Outcome → MH → Prop) (J : Nat → KT) : KT :=
  i_iload 1 <|
  i_iload 2 <|
  i_icmp_le
  (i_iload 1 <|
  i_if_ge
  (i_iload 2 <|
  i_iload 0 <|
  i_icmp_le
  (i_vret Q)
  (i_bad))
  (i_bad))
  (i_bad)
theorem kJ9_rangeCheck_0 {d : Nat} {Q : Outcome → MH → Prop} : ∀ ls st h, tJ9_rangeCheck_0 d Q (fun pc ls st h => WPb mJ9_rangeCheck d pc ls st h Q) ls st h → WPb mJ9_rangeCheck d 0 ls st h Q :=
  r_iload_n (k := 1) dJ9_rangeCheck_0 rfl <|
  r_iload_n (k := 2) dJ9_rangeCheck_1 rfl <|
  r_icmp_le (pt := 46) dJ9_rangeCheck_2 (by decide)
  (r_iload_n (k := 1) dJ9_rangeCheck_46 rfl <|
  r_if_ge (pt := 59) dJ9_rangeCheck_47 (by decide)
  (r_iload_n (k := 2) dJ9_rangeCheck_59 rfl <|
  r_iload_n (k := 0) dJ9_rangeCheck_60 rfl <|
  r_icmp_le (pt := 73) dJ9_rangeCheck_61 (by decide)
  (r_vret rfl dJ9_rangeCheck_73)
  (r_bad))
  (r_bad))
  (r_bad)
-- java/util/Arrays.copyOf([BI)[B cuts [0]
def tJ9_copyOf_0 (d : Nat) (Q : Outcome → MH → Prop) (J : Nat → KT) : KT :=
  i_iload 1 <|
  i_aload 0 <|
  i_alen <|
  i_icmp_ne
  (i_iload 1 <|
  i_newa 1 <|
  i_astore 2 <|
  i_aload 0 <|
  i_const 0 <|
  i_aload 2 <|
  i_const 0 <|
  i_aload 0 <|
  i_alen <|
  i_iload 1 <|
  i_mmin d <|
  i_cpy 1 d <|
  i_aload 2 <|
  i_ret Q (some (.array .byte)))
  (i_aload 0 <|
  i_clB d <|
  i_castA 1 <|
  i_ret Q (some (.array .byte)))
theorem kJ9_copyOf_0 {d : Nat} {Q : Outcome → MH → Prop} : ∀ ls st h, tJ9_copyOf_0 d Q (fun pc ls st h => WPb mJ9_copyOf d pc ls st h Q) ls st h → WPb mJ9_copyOf d 0 ls st h Q :=
  r_iload_n (k := 1) dJ9_copyOf_0 rfl <|
  r_aload_n (k := 0) dJ9_copyOf_1 rfl <|
  r_alen dJ9_copyOf_2 <|
  r_icmp_ne (pt := 14) dJ9_copyOf_3 (by decide)
  (r_iload_n (k := 1) dJ9_copyOf_14 rfl <|
  r_newa (t := 1) (at9 := .byte) (ty := .byte) (by decide) rfl rfl q344 (by decide) dJ9_copyOf_15 <|
  r_astore_n (k := 2) dJ9_copyOf_17 rfl <|
  r_aload_n (k := 0) dJ9_copyOf_18 rfl <|
  r_iconst (v := 0) dJ9_copyOf_19 rfl <|
  r_aload_n (k := 2) dJ9_copyOf_20 rfl <|
  r_iconst (v := 0) dJ9_copyOf_21 rfl <|
  r_aload_n (k := 0) dJ9_copyOf_22 rfl <|
  r_alen dJ9_copyOf_23 <|
  r_iload_n (k := 1) dJ9_copyOf_24 rfl <|
  r_mmin dJ9_copyOf_25 q731 q580 q134 q581 <|
  r_cpy (t := 1) (by decide) rfl q732 q734 q733 q128 dJ9_copyOf_28 <|
  r_aload_n (k := 2) dJ9_copyOf_31 rfl <|
  r_ret rfl (Or.inr (Or.inr ⟨dJ9_copyOf_32, Or.inr ⟨_, rfl⟩⟩)))
  (r_aload_n (k := 0) dJ9_copyOf_6 rfl <|
  r_clB q724 q725 q726 q727 q728 q729 dJ9_copyOf_7 <|
  r_castA (t := 1) (nm := "[B") (by decide) (by decide +kernel) q730 dJ9_copyOf_10 <|
  r_ret rfl (Or.inr (Or.inr ⟨dJ9_copyOf_13, Or.inr ⟨_, rfl⟩⟩)))
-- java/util/Arrays.copyOfRange([BII)[B cuts [0]
def tJ9_copyOfRange_0 (d : Nat) (Q : Outcome → MH → Prop) (J : Nat → KT) : KT :=
  i_iload 1 <|
  i_if_ne
  (i_aload 0 <|
  i_iload 1 <|
  i_iload 2 <|
  i_call mJ9_copyOfRangeByte d 3 pS (xOut Q) <|
  i_ret Q (some (.array .byte)))
  (i_iload 2 <|
  i_aload 0 <|
  i_alen <|
  i_icmp_eq
  (i_aload 0 <|
  i_clB d <|
  i_castA 1 <|
  i_ret Q (some (.array .byte)))
  (i_aload 0 <|
  i_iload 1 <|
  i_iload 2 <|
  i_call mJ9_copyOfRangeByte d 3 pS (xOut Q) <|
  i_ret Q (some (.array .byte))))
theorem kJ9_copyOfRange_0 {d : Nat} {Q : Outcome → MH → Prop} : ∀ ls st h, tJ9_copyOfRange_0 d Q (fun pc ls st h => WPb mJ9_copyOfRange d pc ls st h Q) ls st h → WPb mJ9_copyOfRange d 0 ls st h Q :=
  r_iload_n (k := 1) dJ9_copyOfRange_0 rfl <|
  r_if_ne (pt := 10) dJ9_copyOfRange_1 (by decide)
  (r_aload_n (k := 0) dJ9_copyOfRange_10 rfl <|
  r_iload_n (k := 1) dJ9_copyOfRange_11 rfl <|
  r_iload_n (k := 2) dJ9_copyOfRange_12 rfl <|
  r_cS (Z := mJ9_copyOfRangeByte) dJ9_copyOfRange_13 rfl (by decide +kernel) ⟨by decide, by decide⟩ q866 q867 q135 q868 (XS.out (noH _)) <|
  r_ret rfl (Or.inr (Or.inr ⟨dJ9_copyOfRange_16, Or.inr ⟨_, rfl⟩⟩)))
  (r_iload_n (k := 2) dJ9_copyOfRange_4 rfl <|
  r_aload_n (k := 0) dJ9_copyOfRange_5 rfl <|
  r_alen dJ9_copyOfRange_6 <|
  r_icmp_eq (pt := 17) dJ9_copyOfRange_7 (by decide)
  (r_aload_n (k := 0) dJ9_copyOfRange_17 rfl <|
  r_clB q724 q725 q726 q727 q728 q729 dJ9_copyOfRange_18 <|
  r_castA (t := 1) (nm := "[B") (by decide) (by decide +kernel) q730 dJ9_copyOfRange_21 <|
  r_ret rfl (Or.inr (Or.inr ⟨dJ9_copyOfRange_24, Or.inr ⟨_, rfl⟩⟩)))
  (r_aload_n (k := 0) dJ9_copyOfRange_10 rfl <|
  r_iload_n (k := 1) dJ9_copyOfRange_11 rfl <|
  r_iload_n (k := 2) dJ9_copyOfRange_12 rfl <|
  r_cS (Z := mJ9_copyOfRangeByte) dJ9_copyOfRange_13 rfl (by decide +kernel) ⟨by decide, by decide⟩ q866 q867 q135 q868 (XS.out (noH _)) <|
  r_ret rfl (Or.inr (Or.inr ⟨dJ9_copyOfRange_16, Or.inr ⟨_, rfl⟩⟩))))
-- java/util/Arrays.copyOfRangeByte([BII)[B cuts [0]
def tJ9_copyOfRangeByte_0 (d : Nat) (Q : Outcome → MH → Prop) (J : Nat → KT) : KT :=
  i_iload 1 <|
  i_iload 2 <|
  i_call mJ9_checkLength d 2 pS (xOut Q) <|
  i_iload 2 <|
  i_iload 1 <|
  i_isub <|
  i_istore 3 <|
  i_iload 3 <|
  i_newa 1 <|
  i_astore 4 <|
  i_aload 0 <|
  i_iload 1 <|
  i_aload 4 <|
  i_const 0 <|
  i_aload 0 <|
  i_alen <|
  i_iload 1 <|
  i_isub <|
  i_iload 3 <|
  i_mmin d <|
  i_cpy 1 d <|
  i_aload 4 <|
  i_ret Q (some (.array .byte))
theorem kJ9_copyOfRangeByte_0 {d : Nat} {Q : Outcome → MH → Prop} : ∀ ls st h, tJ9_copyOfRangeByte_0 d Q (fun pc ls st h => WPb mJ9_copyOfRangeByte d pc ls st h Q) ls st h → WPb mJ9_copyOfRangeByte d 0 ls st h Q :=
  r_iload_n (k := 1) dJ9_copyOfRangeByte_0 rfl <|
  r_iload_n (k := 2) dJ9_copyOfRangeByte_1 rfl <|
  r_cS (Z := mJ9_checkLength) dJ9_copyOfRangeByte_2 rfl (by decide +kernel) ⟨by decide, by decide⟩ q869 q870 q135 q871 (XS.out (noH _)) <|
  r_iload_n (k := 2) dJ9_copyOfRangeByte_5 rfl <|
  r_iload_n (k := 1) dJ9_copyOfRangeByte_6 rfl <|
  r_isub dJ9_copyOfRangeByte_7 <|
  r_istore_n (k := 3) dJ9_copyOfRangeByte_8 rfl <|
  r_iload_n (k := 3) dJ9_copyOfRangeByte_9 rfl <|
  r_newa (t := 1) (at9 := .byte) (ty := .byte) (by decide) rfl rfl q344 (by decide) dJ9_copyOfRangeByte_10 <|
  r_astore dJ9_copyOfRangeByte_12 <|
  r_aload_n (k := 0) dJ9_copyOfRangeByte_14 rfl <|
  r_iload_n (k := 1) dJ9_copyOfRangeByte_15 rfl <|
  r_aload dJ9_copyOfRangeByte_16 <|
  r_iconst (v := 0) dJ9_copyOfRangeByte_18 rfl <|
  r_aload_n (k := 0) dJ9_copyOfRangeByte_19 rfl <|
  r_alen dJ9_copyOfRangeByte_20 <|
  r_iload_n (k := 1) dJ9_copyOfRangeByte_21 rfl <|
  r_isub dJ9_copyOfRangeByte_22 <|
  r_iload_n (k := 3) dJ9_copyOfRangeByte_23 rfl <|
  r_mmin dJ9_copyOfRangeByte_24 q731 q580 q134 q581 <|
  r_cpy (t := 1) (by decide) rfl q732 q734 q733 q128 dJ9_copyOfRangeByte_27 <|
  r_aload dJ9_copyOfRangeByte_30 <|
  r_ret rfl (Or.inr (Or.inr ⟨dJ9_copyOfRangeByte_32, Or.inr ⟨_, rfl⟩⟩))
-- java/util/Arrays.checkLength(II)V cuts [0] NOT WALKED: [(5, "'NoneType' object has no attribute 'group'")]
def tJ9_checkLength_0 (d : Nat) (Q : Outcome → MH → Prop) (J : Nat → KT) : KT :=
  i_iload 1 <|
  i_iload 0 <|
  i_icmp_ge
  (i_vret Q)
  (i_bad)
theorem kJ9_checkLength_0 {d : Nat} {Q : Outcome → MH → Prop} : ∀ ls st h, tJ9_checkLength_0 d Q (fun pc ls st h => WPb mJ9_checkLength d pc ls st h Q) ls st h → WPb mJ9_checkLength d 0 ls st h Q :=
  r_iload_n (k := 1) dJ9_checkLength_0 rfl <|
  r_iload_n (k := 0) dJ9_checkLength_1 rfl <|
  r_icmp_ge (pt := 37) dJ9_checkLength_2 (by decide)
  (r_vret rfl dJ9_checkLength_37)
  (r_bad)
-- java/util/Arrays.fill([BIIB)V cuts [0, 10]
def tJ9_fill_2_0 (d : Nat) (Q : Outcome → MH → Prop) (J : Nat → KT) : KT :=
  i_aload 0 <|
  i_alen <|
  i_iload 1 <|
  i_iload 2 <|
  i_call mJ9_rangeCheck d 3 pS (xOut Q) <|
  i_iload 1 <|
  i_istore 4 <|
  (J 10)
theorem kJ9_fill_2_0 {d : Nat} {Q : Outcome → MH → Prop} : ∀ ls st h, tJ9_fill_2_0 d Q (fun pc ls st h => WPb mJ9_fill_2 d pc ls st h Q) ls st h → WPb mJ9_fill_2 d 0 ls st h Q :=
  r_aload_n (k := 0) dJ9_fill_2_0 rfl <|
  r_alen dJ9_fill_2_1 <|
  r_iload_n (k := 1) dJ9_fill_2_2 rfl <|
  r_iload_n (k := 2) dJ9_fill_2_3 rfl <|
  r_cS (Z := mJ9_rangeCheck) dJ9_fill_2_4 rfl (by decide +kernel) ⟨by decide, by decide⟩ q613 q614 q135 q615 (XS.out (noH _)) <|
  r_iload_n (k := 1) dJ9_fill_2_7 rfl <|
  r_istore dJ9_fill_2_8 <|
  (fun _ _ _ H => H)
def tJ9_fill_2_10 (d : Nat) (Q : Outcome → MH → Prop) (J : Nat → KT) : KT :=
  i_iload 4 <|
  i_iload 2 <|
  i_icmp_ge
  (i_vret Q)
  (i_aload 0 <|
  i_iload 4 <|
  i_iload 3 <|
  i_bast <|
  i_iinc 4 1 <|
  (J 10))
theorem kJ9_fill_2_10 {d : Nat} {Q : Outcome → MH → Prop} : ∀ ls st h, tJ9_fill_2_10 d Q (fun pc ls st h => WPb mJ9_fill_2 d pc ls st h Q) ls st h → WPb mJ9_fill_2 d 10 ls st h Q :=
  r_iload dJ9_fill_2_10 <|
  r_iload_n (k := 2) dJ9_fill_2_12 rfl <|
  r_icmp_ge (pt := 27) dJ9_fill_2_13 (by decide)
  (r_vret rfl dJ9_fill_2_27)
  (r_aload_n (k := 0) dJ9_fill_2_16 rfl <|
  r_iload dJ9_fill_2_17 <|
  r_iload_n (k := 3) dJ9_fill_2_19 rfl <|
  r_bast dJ9_fill_2_20 <|
  r_iinc (v := 1) dJ9_fill_2_21 rfl <|
  r_goto (pt := 10) dJ9_fill_2_24 (by decide) <|
  (fun _ _ _ H => H))
-- java/util/Arrays.copyOf([Ljava/lang/Object;I)[Ljava/lang/Object; cuts [0]
def tJ9_copyOf_2_0 (d : Nat) (Q : Outcome → MH → Prop) (J : Nat → KT) : KT :=
  i_aload 0 <|
  i_iload 1 <|
  i_aload 0 <|
  i_gcl d <|
  i_call mJ9_copyOf_3 d 3 pS (xOut Q) <|
  i_ret Q (some (.array (.object "java/lang/Object")))
theorem kJ9_copyOf_2_0 {d : Nat} {Q : Outcome → MH → Prop} : ∀ ls st h, tJ9_copyOf_2_0 d Q (fun pc ls st h => WPb mJ9_copyOf_2 d pc ls st h Q) ls st h → WPb mJ9_copyOf_2 d 0 ls st h Q :=
  r_aload_n (k := 0) dJ9_copyOf_2_0 rfl <|
  r_iload_n (k := 1) dJ9_copyOf_2_1 rfl <|
  r_aload_n (k := 0) dJ9_copyOf_2_2 rfl <|
  r_gcl q1551 q2771 q2770 q1552 q1585 dJ9_copyOf_2_3 <|
  r_cS (Z := mJ9_copyOf_3) dJ9_copyOf_2_6 rfl (by decide +kernel) ⟨by decide, by decide⟩ q1586 q1587 q135 q1588 (XS.out (noH _)) <|
  r_ret rfl (Or.inr (Or.inr ⟨dJ9_copyOf_2_9, Or.inr ⟨_, rfl⟩⟩))
-- java/util/Arrays.copyOf([Ljava/lang/Object;ILjava/lang/Class;)[Ljava/lang/Object; cuts [0] NOT WALKED: [(14, 'method link java/util/Arrays 90')]
def tJ9_copyOf_3_0 (d : Nat) (Q : Outcome → MH → Prop) (J : Nat → KT) : KT :=
  i_aload 2 <|
  i_ldcM <|
  i_acmp_ne
  (i_aload 2 <|
  i_bad)
  (i_iload 1 <|
  i_newq 4 <|
  i_astore 3 <|
  i_aload 0 <|
  i_const 0 <|
  i_aload 3 <|
  i_const 0 <|
  i_aload 0 <|
  i_alen <|
  i_iload 1 <|
  i_mmin d <|
  i_cpyR d <|
  i_aload 3 <|
  i_ret Q (some (.array (.object "java/lang/Object"))))
theorem kJ9_copyOf_3_0 {d : Nat} {Q : Outcome → MH → Prop} : ∀ ls st h, tJ9_copyOf_3_0 d Q (fun pc ls st h => WPb mJ9_copyOf_3 d pc ls st h Q) ls st h → WPb mJ9_copyOf_3 d 0 ls st h Q :=
  r_aload_n (k := 2) dJ9_copyOf_3_0 rfl <|
  r_ldcM q1589 dJ9_copyOf_3_1 <|
  r_acmp_ne (pt := 13) dJ9_copyOf_3_3 (by decide)
  (r_aload_n (k := 2) dJ9_copyOf_3_13 rfl <|
  r_bad)
  (r_iload_n (k := 1) dJ9_copyOf_3_6 rfl <|
  r_newq q1591 dJ9_copyOf_3_7 <|
  r_goto (pt := 24) dJ9_copyOf_3_10 (by decide) <|
  r_astore_n (k := 3) dJ9_copyOf_3_24 rfl <|
  r_aload_n (k := 0) dJ9_copyOf_3_25 rfl <|
  r_iconst (v := 0) dJ9_copyOf_3_26 rfl <|
  r_aload_n (k := 3) dJ9_copyOf_3_27 rfl <|
  r_iconst (v := 0) dJ9_copyOf_3_28 rfl <|
  r_aload_n (k := 0) dJ9_copyOf_3_29 rfl <|
  r_alen dJ9_copyOf_3_30 <|
  r_iload_n (k := 1) dJ9_copyOf_3_31 rfl <|
  r_mmin dJ9_copyOf_3_32 q731 q580 q134 q581 <|
  r_cpyR q732 q734 q733 q128 dJ9_copyOf_3_35 <|
  r_aload_n (k := 3) dJ9_copyOf_3_38 rfl <|
  r_ret rfl (Or.inr (Or.inr ⟨dJ9_copyOf_3_39, Or.inr ⟨_, rfl⟩⟩)))
