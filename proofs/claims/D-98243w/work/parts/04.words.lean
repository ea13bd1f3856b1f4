theorem q1755 : (Jvm.Cond.interfaceMethod "CheekTown$Cond" "CheekTown$Cond" "holds" "(LCheekTown$Scene;)Z") ∈ lw_tbl := lw_at lw_m7 199 rfl
set_option maxRecDepth 100000
theorem q1756 : (Jvm.Cond.declares ({ cls := "CheekTown$Cond", name := "holds", desc := "(LCheekTown$Scene;)Z" } : Jvm.MethodName)) ∈ lw_tbl := lw_at lw_m7 200 rfl

theorem q725 : (Jvm.Cond.sameMethod "[B" "java/lang/Object" "clone" "()Ljava/lang/Object;") ∈ lw_all := lw_g (lw_at lw_m3 129 rfl) rfl
set_option maxRecDepth 100000
theorem q728 : (Jvm.Cond.selects "[B" ({ cls := "[B", name := "clone", desc := "()Ljava/lang/Object;" } : Jvm.MethodName) ({ cls := "java/lang/Object", name := "clone", desc := "()Ljava/lang/Object;" } : Jvm.MethodName)) ∈ lw_all := lw_g (lw_at lw_m3 132 rfl) rfl
theorem q729 : (Jvm.Cond.castable "[B" "java/lang/Cloneable") ∈ lw_tbl := lw_at lw_m3 133 rfl
theorem q2774 : (Jvm.Cond.castable "[B" "java/lang/Object") ∈ lw_tbl := lw_at lw_m12 18 rfl

theorem q2772 : (Jvm.Cond.castable "[I" "java/lang/Object") ∈ lw_tbl := lw_at lw_m12 16 rfl
set_option maxRecDepth 100000

theorem q2779 : (Jvm.Cond.castable "[J" "java/lang/Object") ∈ lw_tbl := lw_at lw_m12 23 rfl
set_option maxRecDepth 100000

theorem q1525 : (Jvm.Cond.sameMethod "[LCheekTown$Fact;" "java/lang/Object" "clone" "()Ljava/lang/Object;") ∈ lw_all := lw_g (lw_at lw_m6 209 rfl) rfl
set_option maxRecDepth 100000
theorem q1526 : (Jvm.Cond.selects "[LCheekTown$Fact;" ({ cls := "[LCheekTown$Fact;", name := "clone", desc := "()Ljava/lang/Object;" } : Jvm.MethodName) ({ cls := "java/lang/Object", name := "clone", desc := "()Ljava/lang/Object;" } : Jvm.MethodName)) ∈ lw_all := lw_g (lw_at lw_m6 210 rfl) rfl
theorem q1527 : (Jvm.Cond.castable "[LCheekTown$Fact;" "java/lang/Cloneable") ∈ lw_tbl := lw_at lw_m6 211 rfl
theorem q2776 : (Jvm.Cond.castable "[LCheekTown$Fact;" "java/lang/Object") ∈ lw_tbl := lw_at lw_m12 20 rfl

theorem q1303 : (Jvm.Cond.sameMethod "[LCheekTown$Kind;" "java/lang/Object" "clone" "()Ljava/lang/Object;") ∈ lw_all := lw_g (lw_at lw_m5 227 rfl) rfl
set_option maxRecDepth 100000
theorem q1304 : (Jvm.Cond.selects "[LCheekTown$Kind;" ({ cls := "[LCheekTown$Kind;", name := "clone", desc := "()Ljava/lang/Object;" } : Jvm.MethodName) ({ cls := "java/lang/Object", name := "clone", desc := "()Ljava/lang/Object;" } : Jvm.MethodName)) ∈ lw_all := lw_g (lw_at lw_m5 228 rfl) rfl
theorem q1305 : (Jvm.Cond.castable "[LCheekTown$Kind;" "java/lang/Cloneable") ∈ lw_tbl := lw_at lw_m5 229 rfl
theorem q2775 : (Jvm.Cond.castable "[LCheekTown$Kind;" "java/lang/Object") ∈ lw_tbl := lw_at lw_m12 19 rfl

theorem q2024 : (Jvm.Cond.sameMethod "[LCheekTown$Rule;" "java/lang/Object" "clone" "()Ljava/lang/Object;") ∈ lw_all := lw_g (lw_at lw_m8 228 rfl) rfl
set_option maxRecDepth 100000
theorem q2025 : (Jvm.Cond.selects "[LCheekTown$Rule;" ({ cls := "[LCheekTown$Rule;", name := "clone", desc := "()Ljava/lang/Object;" } : Jvm.MethodName) ({ cls := "java/lang/Object", name := "clone", desc := "()Ljava/lang/Object;" } : Jvm.MethodName)) ∈ lw_all := lw_g (lw_at lw_m8 229 rfl) rfl
theorem q2026 : (Jvm.Cond.castable "[LCheekTown$Rule;" "java/lang/Cloneable") ∈ lw_tbl := lw_at lw_m8 230 rfl
theorem q2778 : (Jvm.Cond.castable "[LCheekTown$Rule;" "java/lang/Object") ∈ lw_tbl := lw_at lw_m12 22 rfl

theorem q2769 : (Jvm.Cond.sameMethod "[Ljava/lang/Object;" "java/lang/Object" "getClass" "()Ljava/lang/Class;") ∈ lw_all := lw_g (lw_at lw_m12 13 rfl) rfl
set_option maxRecDepth 100000
theorem q2770 : (Jvm.Cond.selects "[Ljava/lang/Object;" ({ cls := "java/lang/Object", name := "getClass", desc := "()Ljava/lang/Class;" } : Jvm.MethodName) ({ cls := "java/lang/Object", name := "getClass", desc := "()Ljava/lang/Class;" } : Jvm.MethodName)) ∈ lw_all := lw_g (lw_at lw_m12 14 rfl) rfl
theorem q2777 : (Jvm.Cond.castable "[Ljava/lang/Object;" "java/lang/Object") ∈ lw_tbl := lw_at lw_m12 21 rfl

theorem q2773 : (Jvm.Cond.castable "[Z" "java/lang/Object") ∈ lw_tbl := lw_at lw_m12 17 rfl
set_option maxRecDepth 100000

theorem q142 : (Jvm.Cond.initialized "java/lang/Number") ∈ lw_all := lw_g (lw_at lw_m1 26 rfl) rfl
set_option maxRecDepth 100000

theorem q128 : (Jvm.Cond.initialized "java/lang/System") ∈ lw_all := lw_g (lw_at lw_m1 12 rfl) rfl
set_option maxRecDepth 100000
theorem q733 : (Jvm.Cond.static ({ cls := "java/lang/System", name := "arraycopy", desc := "(Ljava/lang/Object;ILjava/lang/Object;II)V" } : Jvm.MethodName)) ∈ lw_all := lw_g (lw_at lw_m3 137 rfl) rfl
theorem q734 : (Jvm.Cond.native ({ cls := "java/lang/System", name := "arraycopy", desc := "(Ljava/lang/Object;ILjava/lang/Object;II)V" } : Jvm.MethodName)) ∈ lw_all := lw_g (lw_at lw_m3 138 rfl) rfl

theorem q1225 : (Jvm.Cond.interfaceMethod "jdk/internal/access/JavaLangAccess" "jdk/internal/access/JavaLangAccess" "getUTF16Char" "([BI)C") ∈ lw_tbl := lw_at lw_m5 149 rfl
set_option maxRecDepth 100000
theorem q1226 : (Jvm.Cond.declares ({ cls := "jdk/internal/access/JavaLangAccess", name := "getUTF16Char", desc := "([BI)C" } : Jvm.MethodName)) ∈ lw_tbl := lw_at lw_m5 150 rfl

theorem q310 : (Jvm.Cond.arrayClass Jvm.ClassFile.FieldType.int) ∈ lw_all := lw_g (lw_at lw_m1 194 rfl) rfl
set_option maxRecDepth 100000
theorem q311 : (Jvm.Cond.arrayClass Jvm.ClassFile.FieldType.boolean) ∈ lw_all := lw_g (lw_at lw_m1 195 rfl) rfl
theorem q344 : (Jvm.Cond.arrayClass Jvm.ClassFile.FieldType.byte) ∈ lw_all := lw_g (lw_at lw_m1 228 rfl) rfl
theorem q1306 : (Jvm.Cond.arrayOver (Jvm.ClassFile.FieldType.object "CheekTown$Kind")) ∈ lw_tbl := lw_at lw_m5 230 rfl
theorem q1528 : (Jvm.Cond.arrayOver (Jvm.ClassFile.FieldType.object "CheekTown$Fact")) ∈ lw_tbl := lw_at lw_m6 212 rfl
theorem q1590 : (Jvm.Cond.arrayOver (Jvm.ClassFile.FieldType.object "java/lang/Object")) ∈ lw_tbl := lw_at lw_m7 34 rfl
theorem q2027 : (Jvm.Cond.arrayOver (Jvm.ClassFile.FieldType.object "CheekTown$Rule")) ∈ lw_tbl := lw_at lw_m8 231 rfl
theorem q2724 : (Jvm.Cond.arrayClass Jvm.ClassFile.FieldType.long) ∈ lw_all := lw_g (lw_at lw_m11 208 rfl) rfl
theorem q2780 : (Jvm.Cond.arrayClass Jvm.ClassFile.FieldType.char) ∈ lw_all := lw_g (lw_at lw_m12 24 rfl) rfl
theorem q2781 : (Jvm.Cond.arrayClass Jvm.ClassFile.FieldType.short) ∈ lw_all := lw_g (lw_at lw_m12 25 rfl) rfl

