/-! THE COMPONENT WHOLE: the law 2 -/
set_option maxRecDepth 100000
section
variable {h : MH} {d : Nat} {S : Nat → Int32} {n : Nat} {A : Nat → Nat → Int32} {im : Prop} {I : Nat → Int32} {t : Nat} {T : Nat → Int32} {f : Int32} {v vI : LV}
theorem pX1_law_ok (c : CI h S n A im I t T f v vI) (hb : By T t) (hd : 40 ≤ d) {z : (Nat × (Nat → Ln)) × Nat} (hr : lawR T t = .inr z) {S' : Nat → Int32} (hS : ∀ i, i < 900 → i ≠ 1 → i ≠ 2 → S' i = S i) (hS1 : S' 1 = nI z.1.1) {v' : LV} (hv' : ∀ φ, v' φ = fsy φ z.1.2 N1 z.1.1) : WPm mX1_law d [.ref 300] h (cP h (some (.int (nI z.1.1))) (60 * t + 160) (5500 * t + 9100) (fun h1 => CI h1 S' 0 A im I 0 T N1 v' vI)) := by
  have x4 := c.x4
  have hx := c.x0
  have hn := c.ge
  have k3 := c.1.2.2.2.1.1
  obtain ⟨c1', r1⟩ := c.begun hb
  refine mO rfl rfl ?_
  apply kX1_law_0
  try simp (disch := omega) only [tX1_law_0, xk hx, x4, kd_stI, ln_stI, nn_stI, iI_stI, iR_stI, iJ_stI, sU_stI, kd_stR, ln_stR, nn_stR, iI_stR, iR_stR, iJ_stR, sU_stR, kd_stJ, ln_stJ, nn_stJ, iI_stJ, iR_stJ, iJ_stJ, sU_stJ, kd_alc, ln_alc, nn_alc, iI_alc, iR_alc, iJ_alc, sU_alc, e_const, e_lconst, e_null, e_iload, e_lload, e_aload, e_istore, e_astore, e_lstore, e_iinc, e_iadd, e_isub, e_imul, e_iand, e_ior, e_ixor, e_ishl, e_ishr, e_iushr, e_idiv, e_irem, e_ineg, e_i2l, e_i2b, e_i2c, e_lmul, e_lcmp, e_dup, e_pop, e_dup_x1, e_dup2, e_if_eq, e_icmp_eq, e_if_ne, e_icmp_ne, e_if_lt, e_icmp_lt, e_if_ge, e_icmp_ge, e_if_gt, e_icmp_gt, e_if_le, e_icmp_le, e_ifnull, e_ifnonnull, e_acmp_eq, e_acmp_ne, e_getI, e_getJ, e_getR, e_getSI, e_getSR, e_getEI, e_getER, e_putI, e_putJ, e_putR, e_iald, e_bald, e_zald, e_lald, e_aald, e_alen, e_iast, e_bast, e_zast, e_last, e_newa, e_new, e_newq, e_ret, e_vret, e_obj, e_mmax, e_mmin, e_ldcS, e_sref, e_exc, e_thr, e_stq, e_cast, e_castY, e_castA, e_instS, e_cpy, e_aast, e_cpyR, e_cln, e_gcl, e_ldcM, e_sw, swc_n, swc_c, kon_v, kon_r, kon_t, lg_0, lg_s, ls0, lay, List.length_cons, List.length_nil, List.replicate, List.cons_append, List.nil_append, ps, lp, List.set_cons_zero, List.set_cons_succ, jk, kd_hI, ln_hI, iI_hI, iR_hI, iJ_hI, nn_hI, sU_hI, stI_hI, hI_hI, K0e, and_true, true_and, rtOk, fOk, ge_iff_le, Nat.reduceLeDiff, Nat.reduceAdd, Nat.reduceSub, Nat.reduceLT, c1, lit, nN, nN2, nI_add, pk_mul, nI_clamp, vpi, nI_leI, nI_ltI, nI_eq, bP_z, not_true_eq_false, not_false_eq_true, false_implies, true_implies, implies_true, Nat.le_refl, Nat.lt_irrefl, true_or, or_true, m31, pk_sub, pk_m1, bP_1, bP_em, Classical.not_not, Nat.zero_le, cI_T, cI_F, thr_e, thr_0, thr_m, vus, vun, vuu, pk_us, e_xO, e_xC, ex_e, e_mabsN, Nat.reduceEqDiff, ↓reduceIte, pk_un]
  refine cV (sX3_begins k3) rfl rfl rfl rfl (by omega) k3 ?_
  generalize hg : stI h 349 (bgF h) = g at c1' r1
  have n1 : nn g = nn h := by subst hg; rfl
  have s1 : sU g = sU h := by subst hg; rfl
  have gm : ∀ a, a ≠ 349 → iI g a = iI h a := fun a ha => by subst hg; rw [iI_stI, vun _ _ ha]
  have hx1 := c1'.x0
  try simp (disch := omega) only [xk hx1, xr hx1, kd_stI, ln_stI, nn_stI, iI_stI, iR_stI, iJ_stI, sU_stI, kd_stR, ln_stR, nn_stR, iI_stR, iR_stR, iJ_stR, sU_stR, kd_stJ, ln_stJ, nn_stJ, iI_stJ, iR_stJ, iJ_stJ, sU_stJ, kd_alc, ln_alc, nn_alc, iI_alc, iR_alc, iJ_alc, sU_alc, e_const, e_lconst, e_null, e_iload, e_lload, e_aload, e_istore, e_astore, e_lstore, e_iinc, e_iadd, e_isub, e_imul, e_iand, e_ior, e_ixor, e_ishl, e_ishr, e_iushr, e_idiv, e_irem, e_ineg, e_i2l, e_i2b, e_i2c, e_lmul, e_lcmp, e_dup, e_pop, e_dup_x1, e_dup2, e_if_eq, e_icmp_eq, e_if_ne, e_icmp_ne, e_if_lt, e_icmp_lt, e_if_ge, e_icmp_ge, e_if_gt, e_icmp_gt, e_if_le, e_icmp_le, e_ifnull, e_ifnonnull, e_acmp_eq, e_acmp_ne, e_getI, e_getJ, e_getR, e_getSI, e_getSR, e_getEI, e_getER, e_putI, e_putJ, e_putR, e_iald, e_bald, e_zald, e_lald, e_aald, e_alen, e_iast, e_bast, e_zast, e_last, e_newa, e_new, e_newq, e_ret, e_vret, e_obj, e_mmax, e_mmin, e_ldcS, e_sref, e_exc, e_thr, e_stq, e_cast, e_castY, e_castA, e_instS, e_cpy, e_aast, e_cpyR, e_cln, e_gcl, e_ldcM, e_sw, swc_n, swc_c, kon_v, kon_r, kon_t, lg_0, lg_s, ls0, lay, List.length_cons, List.length_nil, List.replicate, List.cons_append, List.nil_append, ps, lp, List.set_cons_zero, List.set_cons_succ, jk, kd_hI, ln_hI, iI_hI, iR_hI, iJ_hI, nn_hI, sU_hI, stI_hI, hI_hI, K0e, and_true, true_and, rtOk, fOk, ge_iff_le, Nat.reduceLeDiff, Nat.reduceAdd, Nat.reduceSub, Nat.reduceLT, c1, lit, nN, nN2, nI_add, pk_mul, nI_clamp, vpi, nI_leI, nI_ltI, nI_eq, bP_z, not_true_eq_false, not_false_eq_true, false_implies, true_implies, implies_true, Nat.le_refl, Nat.lt_irrefl, true_or, or_true, m31, pk_sub, pk_m1, bP_1, bP_em, Classical.not_not, Nat.zero_le, cI_T, cI_F, thr_e, thr_0, thr_m, vus, vun, vuu, pk_us, e_xO, e_xC, ex_e, e_mabsN, Nat.reduceEqDiff, ↓reduceIte, pk_un]
  refine cl _ _ (sX1_lawText r1 (d := d - 1) (by omega)) rfl rfl rfl rfl (by omega) (xk hx1) ?_
  rintro o1 g2 ⟨G2, q1, hP⟩
  rw [hr] at hP
  obtain ⟨p, rfl, LA⟩ := hP
  have c2' := c1'.ag (G2.agx r1.2.1)
  have n2 := G2.1.1
  have s2 := G2.1.2
  have gm2 : ∀ a, 380 ≤ a → a < 396 → iI g2 a = iI h a := fun a x y => by rw [(G2.2.1 a (by omega) (by omega)).2.2.1]; exact gm a (by omega)
  obtain ⟨sh, wr, ⟨eD, cap, ws, kp, lw, li⟩, t1, t2, t3, t4⟩ := c2'
  have w301 := sh.2.2.1.1
  have k301 := wk w301
  have x6 := sh.2.1.2.2.2.2.2.2.1
  have x300 := sh.2.1.1
  have x0 := sh.2.1.2.1
  have x44 : iR g2 300 4 = 349 := sh.2.1.2.2.2.2.1
  have kk3 := sh.2.2.2.1.1
  have heD := kp.eD
  have heD2 := kp.2.2.1
  have hn12 := kp.2.1
  have elt : eD < nn g ∨ eD = 18 := by
    obtain ⟨_, _, ⟨eD', cap', ws', kp', _⟩, _⟩ := c1'
    have q1 := kp'.1.2.2.1
    have q2 := kp.1.2.2.1
    have q3 := kp'.eD
    have q4 := (G2.2.1 352 (by omega) (by omega)).2.2.2
    rw [q4, q1] at q2
    omega
  obtain ⟨⟨la1, la2, la3, la4⟩, ⟨lb1, lb2, lb3, lb4⟩, lc⟩ := LA
  try simp (disch := omega) only [k301, x300, x44, kk3, kd_stI, ln_stI, nn_stI, iI_stI, iR_stI, iJ_stI, sU_stI, kd_stR, ln_stR, nn_stR, iI_stR, iR_stR, iJ_stR, sU_stR, kd_stJ, ln_stJ, nn_stJ, iI_stJ, iR_stJ, iJ_stJ, sU_stJ, kd_alc, ln_alc, nn_alc, iI_alc, iR_alc, iJ_alc, sU_alc, e_const, e_lconst, e_null, e_iload, e_lload, e_aload, e_istore, e_astore, e_lstore, e_iinc, e_iadd, e_isub, e_imul, e_iand, e_ior, e_ixor, e_ishl, e_ishr, e_iushr, e_idiv, e_irem, e_ineg, e_i2l, e_i2b, e_i2c, e_lmul, e_lcmp, e_dup, e_pop, e_dup_x1, e_dup2, e_if_eq, e_icmp_eq, e_if_ne, e_icmp_ne, e_if_lt, e_icmp_lt, e_if_ge, e_icmp_ge, e_if_gt, e_icmp_gt, e_if_le, e_icmp_le, e_ifnull, e_ifnonnull, e_acmp_eq, e_acmp_ne, e_getI, e_getJ, e_getR, e_getSI, e_getSR, e_getEI, e_getER, e_putI, e_putJ, e_putR, e_iald, e_bald, e_zald, e_lald, e_aald, e_alen, e_iast, e_bast, e_zast, e_last, e_newa, e_new, e_newq, e_ret, e_vret, e_obj, e_mmax, e_mmin, e_ldcS, e_sref, e_exc, e_thr, e_stq, e_cast, e_castY, e_castA, e_instS, e_cpy, e_aast, e_cpyR, e_cln, e_gcl, e_ldcM, e_sw, swc_n, swc_c, kon_v, kon_r, kon_t, lg_0, lg_s, ls0, lay, List.length_cons, List.length_nil, List.replicate, List.cons_append, List.nil_append, ps, lp, List.set_cons_zero, List.set_cons_succ, jk, kd_hI, ln_hI, iI_hI, iR_hI, iJ_hI, nn_hI, sU_hI, stI_hI, hI_hI, K0e, and_true, true_and, rtOk, fOk, ge_iff_le, Nat.reduceLeDiff, Nat.reduceAdd, Nat.reduceSub, Nat.reduceLT, c1, lit, nN, nN2, nI_add, pk_mul, nI_clamp, vpi, nI_leI, nI_ltI, nI_eq, bP_z, not_true_eq_false, not_false_eq_true, false_implies, true_implies, implies_true, Nat.le_refl, Nat.lt_irrefl, true_or, or_true, m31, pk_sub, pk_m1, bP_1, bP_em, Classical.not_not, Nat.zero_le, cI_T, cI_F, thr_e, thr_0, thr_m, vus, vun, vuu, pk_us, e_xO, e_xC, ex_e, e_mabsN, Nat.reduceEqDiff, ↓reduceIte, pk_un]
  generalize hg3 : stI (stR g2 301 (va_up (iR g2 301) 30 p)) 349 (upd (iI g2 349) 5 N1) = g3
  have e3 : ∀ a, a ≠ 301 → a ≠ 349 → Same g2 g3 a := fun a z1 z2 => by subst hg3; exact ⟨rfl, rfl, by rw [iI_stI, vun _ _ z2, iI_stR], by rw [iR_stI, iR_stR, vun _ _ z1]⟩
  have n3 : nn g3 = nn g2 := by subst hg3; rfl
  have s3 : sU g3 = sU g2 := by subst hg3; rfl
  have kl3 : ∀ a, kd g3 a = kd g2 a ∧ ln g3 a = ln g2 a := fun a => by subst hg3; exact ⟨rfl, rfl⟩
  have i301 : iI g3 301 = iI g2 301 := by subst hg3; rw [iI_stI, vun _ _ (by omega), iI_stR]
  have r301 : ∀ k, k ≠ 30 → iR g3 301 k = iR g2 301 k := fun k hk => by subst hg3; rw [iR_stI, iR_stR, vus, vun _ _ hk]
  have l301 : iR g3 301 30 = p := by subst hg3; rw [iR_stI, iR_stR, vus, vus]
  have r349 : iR g3 349 = iR g2 349 := by subst hg3; rw [iR_stI, iR_stR, vun _ _ (by omega)]
  have i349 : ∀ k, k ≠ 5 → iI g3 349 k = iI g2 349 k := fun k hk => by subst hg3; rw [iI_stI, vus, pk_un hk]
  have i3495 : iI g3 349 5 = N1 := by subst hg3; rw [iI_stI, vus, pk_us]
  have al1 : AL g3 352 eD n cap ws := kp.1.cn (fun a _ => kl3 a) (by omega) (by rw [(e3 352 (by omega) (by omega)).2.2.1]) (by rw [(e3 352 (by omega) (by omega)).2.2.2]) (fun i hi => by rw [(e3 eD (by omega) (by omega)).2.2.2]) (by omega)
  have q1' : kd g3 300 = 1 := by rw [(kl3 300).1]; exact x300
  have q2' : iR g3 300 6 = 352 := by rw [(e3 300 (by omega) (by omega)).2.2.2]; exact x6
  try simp (disch := omega) only [q1', q2', x6, kd_stI, ln_stI, nn_stI, iI_stI, iR_stI, iJ_stI, sU_stI, kd_stR, ln_stR, nn_stR, iI_stR, iR_stR, iJ_stR, sU_stR, kd_stJ, ln_stJ, nn_stJ, iI_stJ, iR_stJ, iJ_stJ, sU_stJ, kd_alc, ln_alc, nn_alc, iI_alc, iR_alc, iJ_alc, sU_alc, e_const, e_lconst, e_null, e_iload, e_lload, e_aload, e_istore, e_astore, e_lstore, e_iinc, e_iadd, e_isub, e_imul, e_iand, e_ior, e_ixor, e_ishl, e_ishr, e_iushr, e_idiv, e_irem, e_ineg, e_i2l, e_i2b, e_i2c, e_lmul, e_lcmp, e_dup, e_pop, e_dup_x1, e_dup2, e_if_eq, e_icmp_eq, e_if_ne, e_icmp_ne, e_if_lt, e_icmp_lt, e_if_ge, e_icmp_ge, e_if_gt, e_icmp_gt, e_if_le, e_icmp_le, e_ifnull, e_ifnonnull, e_acmp_eq, e_acmp_ne, e_getI, e_getJ, e_getR, e_getSI, e_getSR, e_getEI, e_getER, e_putI, e_putJ, e_putR, e_iald, e_bald, e_zald, e_lald, e_aald, e_alen, e_iast, e_bast, e_zast, e_last, e_newa, e_new, e_newq, e_ret, e_vret, e_obj, e_mmax, e_mmin, e_ldcS, e_sref, e_exc, e_thr, e_stq, e_cast, e_castY, e_castA, e_instS, e_cpy, e_aast, e_cpyR, e_cln, e_gcl, e_ldcM, e_sw, swc_n, swc_c, kon_v, kon_r, kon_t, lg_0, lg_s, ls0, lay, List.length_cons, List.length_nil, List.replicate, List.cons_append, List.nil_append, ps, lp, List.set_cons_zero, List.set_cons_succ, jk, kd_hI, ln_hI, iI_hI, iR_hI, iJ_hI, nn_hI, sU_hI, stI_hI, hI_hI, K0e, and_true, true_and, rtOk, fOk, ge_iff_le, Nat.reduceLeDiff, Nat.reduceAdd, Nat.reduceSub, Nat.reduceLT, c1, lit, nN, nN2, nI_add, pk_mul, nI_clamp, vpi, nI_leI, nI_ltI, nI_eq, bP_z, not_true_eq_false, not_false_eq_true, false_implies, true_implies, implies_true, Nat.le_refl, Nat.lt_irrefl, true_or, or_true, m31, pk_sub, pk_m1, bP_1, bP_em, Classical.not_not, Nat.zero_le, cI_T, cI_F, thr_e, thr_0, thr_m, vus, vun, vuu, pk_us, e_xO, e_xC, ex_e, e_mabsN, Nat.reduceEqDiff, ↓reduceIte, pk_un]
  refine cl _ _ (sJ2_clr al1 (by omega) (by omega) (by omega)) rfl rfl rfl rfl (by omega) al1.1.1 ?_
  rintro _ h2 ⟨rfl, ⟨⟨m1, m2⟩, al2, m3, m4, m5⟩, m6⟩
  have a2' : ∀ a, a < nn g2 → a ≠ 352 → (a ≠ eD ∨ eD = 18) → Same g3 h2 a := fun a ha z2 z3 => by
    by_cases q : a = eD
    · have q18 : eD = 18 := by omega
      subst q
      exact ⟨(m4 a (by omega)).1, (m4 a (by omega)).2.1, m5, by rw [q18]; exact m6 q18⟩
    · exact m3.same (by omega) (ct2' z2 q)
  have a2 : ∀ a, a < nn g2 → a ≠ 301 → a ≠ 349 → a ≠ 352 → (a ≠ eD ∨ eD = 18) → Same g2 h2 a := fun a ha z1 z2 z3 z4 => (e3 a z1 z2).trans (a2' a ha z3 z4)
  have n2' : nn h2 = nn g2 := by omega
  have kl2 : ∀ a, a < nn g2 → kd h2 a = kd g2 a ∧ ln h2 a = ln g2 a := fun a ha => ⟨(m4 a (by omega)).1.trans (kl3 a).1, (m4 a (by omega)).2.1.trans (kl3 a).2⟩
  have y300 : kd h2 300 = 1 := by rw [(kl2 300 (by omega)).1]; exact x300
  have y0 : iR h2 300 0 = 301 := by rw [(a2 300 (by omega) (by omega) (by omega) (by omega) (by omega)).2.2.2]; exact x0
  have y301 : kd h2 301 = 2 := by rw [(kl2 301 (by omega)).1]; exact k301
  have z301 := a2' 301 (by omega) (by omega) (by omega)
  have l301' : iR h2 301 30 = p := by rw [z301.2.2.2]; exact l301
  have ep := a2 p (by omega) (by omega) (by omega) (by omega) (by omega)
  have epl := a2 (iR g2 p 0) (by omega) (by omega) (by omega) (by omega) (by omega)
  have yp : kd h2 p = 11 := by rw [ep.1]; exact la1
  have ypr : iR h2 p 0 = iR g2 p 0 := by rw [ep.2.2.2]
  have ypl : kd h2 (iR g2 p 0) = 22 := by rw [epl.1]; exact lb1
  have ypi : iI h2 (iR g2 p 0) 2 = nI z.1.1 := by rw [epl.2.2.1]; exact lb4
  have p3 : 300 ≤ p := by omega
  try simp (disch := omega) only [y300, y0, y301, l301', yp, ypr, kd_stI, ln_stI, nn_stI, iI_stI, iR_stI, iJ_stI, sU_stI, kd_stR, ln_stR, nn_stR, iI_stR, iR_stR, iJ_stR, sU_stR, kd_stJ, ln_stJ, nn_stJ, iI_stJ, iR_stJ, iJ_stJ, sU_stJ, kd_alc, ln_alc, nn_alc, iI_alc, iR_alc, iJ_alc, sU_alc, e_const, e_lconst, e_null, e_iload, e_lload, e_aload, e_istore, e_astore, e_lstore, e_iinc, e_iadd, e_isub, e_imul, e_iand, e_ior, e_ixor, e_ishl, e_ishr, e_iushr, e_idiv, e_irem, e_ineg, e_i2l, e_i2b, e_i2c, e_lmul, e_lcmp, e_dup, e_pop, e_dup_x1, e_dup2, e_if_eq, e_icmp_eq, e_if_ne, e_icmp_ne, e_if_lt, e_icmp_lt, e_if_ge, e_icmp_ge, e_if_gt, e_icmp_gt, e_if_le, e_icmp_le, e_ifnull, e_ifnonnull, e_acmp_eq, e_acmp_ne, e_getI, e_getJ, e_getR, e_getSI, e_getSR, e_getEI, e_getER, e_putI, e_putJ, e_putR, e_iald, e_bald, e_zald, e_lald, e_aald, e_alen, e_iast, e_bast, e_zast, e_last, e_newa, e_new, e_newq, e_ret, e_vret, e_obj, e_mmax, e_mmin, e_ldcS, e_sref, e_exc, e_thr, e_stq, e_cast, e_castY, e_castA, e_instS, e_cpy, e_aast, e_cpyR, e_cln, e_gcl, e_ldcM, e_sw, swc_n, swc_c, kon_v, kon_r, kon_t, lg_0, lg_s, ls0, lay, List.length_cons, List.length_nil, List.replicate, List.cons_append, List.nil_append, ps, lp, List.set_cons_zero, List.set_cons_succ, jk, kd_hI, ln_hI, iI_hI, iR_hI, iJ_hI, nn_hI, sU_hI, stI_hI, hI_hI, K0e, and_true, true_and, rtOk, fOk, ge_iff_le, Nat.reduceLeDiff, Nat.reduceAdd, Nat.reduceSub, Nat.reduceLT, c1, lit, nN, nN2, nI_add, pk_mul, nI_clamp, vpi, nI_leI, nI_ltI, nI_eq, bP_z, not_true_eq_false, not_false_eq_true, false_implies, true_implies, implies_true, Nat.le_refl, Nat.lt_irrefl, true_or, or_true, m31, pk_sub, pk_m1, bP_1, bP_em, Classical.not_not, Nat.zero_le, cI_T, cI_F, thr_e, thr_0, thr_m, vus, vun, vuu, pk_us, e_xO, e_xC, ex_e, e_mabsN, Nat.reduceEqDiff, ↓reduceIte, pk_un]
  refine ⟨p3, ?_⟩
  have szr := sJ2_sz (h := h2) (d := d - 1) ypl (show 300 ≤ iR g2 p 0 by omega)
  rw [ypi] at szr
  refine cR szr rfl rfl rfl rfl (by omega) ypl ?_
  try simp (disch := omega) only [kd_stI, ln_stI, nn_stI, iI_stI, iR_stI, iJ_stI, sU_stI, kd_stR, ln_stR, nn_stR, iI_stR, iR_stR, iJ_stR, sU_stR, kd_stJ, ln_stJ, nn_stJ, iI_stJ, iR_stJ, iJ_stJ, sU_stJ, kd_alc, ln_alc, nn_alc, iI_alc, iR_alc, iJ_alc, sU_alc, e_const, e_lconst, e_null, e_iload, e_lload, e_aload, e_istore, e_astore, e_lstore, e_iinc, e_iadd, e_isub, e_imul, e_iand, e_ior, e_ixor, e_ishl, e_ishr, e_iushr, e_idiv, e_irem, e_ineg, e_i2l, e_i2b, e_i2c, e_lmul, e_lcmp, e_dup, e_pop, e_dup_x1, e_dup2, e_if_eq, e_icmp_eq, e_if_ne, e_icmp_ne, e_if_lt, e_icmp_lt, e_if_ge, e_icmp_ge, e_if_gt, e_icmp_gt, e_if_le, e_icmp_le, e_ifnull, e_ifnonnull, e_acmp_eq, e_acmp_ne, e_getI, e_getJ, e_getR, e_getSI, e_getSR, e_getEI, e_getER, e_putI, e_putJ, e_putR, e_iald, e_bald, e_zald, e_lald, e_aald, e_alen, e_iast, e_bast, e_zast, e_last, e_newa, e_new, e_newq, e_ret, e_vret, e_obj, e_mmax, e_mmin, e_ldcS, e_sref, e_exc, e_thr, e_stq, e_cast, e_castY, e_castA, e_instS, e_cpy, e_aast, e_cpyR, e_cln, e_gcl, e_ldcM, e_sw, swc_n, swc_c, kon_v, kon_r, kon_t, lg_0, lg_s, ls0, lay, List.length_cons, List.length_nil, List.replicate, List.cons_append, List.nil_append, ps, lp, List.set_cons_zero, List.set_cons_succ, jk, kd_hI, ln_hI, iI_hI, iR_hI, iJ_hI, nn_hI, sU_hI, stI_hI, hI_hI, K0e, and_true, true_and, rtOk, fOk, ge_iff_le, Nat.reduceLeDiff, Nat.reduceAdd, Nat.reduceSub, Nat.reduceLT, c1, lit, nN, nN2, nI_add, pk_mul, nI_clamp, vpi, nI_leI, nI_ltI, nI_eq, bP_z, not_true_eq_false, not_false_eq_true, false_implies, true_implies, implies_true, Nat.le_refl, Nat.lt_irrefl, true_or, or_true, m31, pk_sub, pk_m1, bP_1, bP_em, Classical.not_not, Nat.zero_le, cI_T, cI_F, thr_e, thr_0, thr_m, vus, vun, vuu, pk_us, e_xO, e_xC, ex_e, e_mabsN, Nat.reduceEqDiff, ↓reduceIte, pk_un]
  have hF : ∀ a, FZ (nn g2) eD n ws a → FZ (nn h2) eD 0 ws a := fun a ha => by rw [n2']; exact ha.le (by omega)
  have hs : ∀ a, (a < 300 ∨ FZ (nn g2) eD n ws a) → Same g2 h2 a := fun a ha => by
    rcases ha with ha | ⟨f1, f2, f3, _⟩
    · exact a2 a (by omega) (by omega) (by omega) (by omega) (by omega)
    · exact a2 a f2 (by omega) (by omega) (by omega) (by omega)
  have e349 := a2' 349 (by omega) (by omega) (by omega)
  have e350 := (a2 350 (by omega) (by omega) (by omega) (by omega) (by omega)).2.2.1
  have e300 := (a2 300 (by omega) (by omega) (by omega) (by omega) (by omega)).2.2.1
  have e333 : ∀ j, j ≤ 15 → Same g2 h2 (333 + j) := fun j hj => a2 _ (by omega) (by omega) (by omega) (by omega) (by omega)
  have e301 : ∀ j, j ≤ 15 → iI h2 (301 + j) = iI g2 (301 + j) := fun j hj => by
    by_cases q : j = 0
    · subst q; rw [show 301 + 0 = 301 from rfl, z301.2.2.1]; exact i301
    · exact (a2 _ (by omega) (by omega) (by omega) (by omega) (by omega)).2.2.1
  have sf : SF g2 h2 := ⟨by omega, fun a ha => kl2 a (by omega), fun a k ha z1 z2 => by
    rw [(a2' a (by omega) z2 (by omega)).2.2.2]
    by_cases qa : a = 301
    · subst qa
      exact r301 k (fun z => z1 ⟨z, Or.inl rfl⟩)
    · by_cases qb : a = 349
      · rw [qb, r349]
      · rw [(e3 a qa qb).2.2.2], fun a ha => (a2 a (by omega) (by omega) (by omega) (by omega) (by omega)).2.2.1⟩
  have kp2 : KP h2 eD cap 0 ws A := ⟨al2, by omega, heD2, fun i hi => by omega, fun i j hi _ _ => by omega⟩
  refine ⟨rfl, ⟨fun a x y => ?_, ⟨by omega, by omega⟩, by omega, by omega⟩, sh.sf sf, (wr.of e301).cg hS, ⟨eD, cap, ws, kp2, ?_, ?_⟩, by rw [e349.2.2.1, i349 1 (by omega)]; exact t1, by omega, fun k hk => by omega, by rw [e349.2.2.1]; exact i3495⟩
  · rw [(a2 a (by omega) (by omega) (by omega) (by omega) (by omega)).2.2.1]; exact gm2 a x y
  · rw [l301']
    refine Or.inr ⟨by omega, ⟨yp, by omega, ⟨by omega, by omega, by omega, fun i hi => by omega⟩⟩, ⟨by rw [ypr]; exact ypl, by rw [ypr]; omega, by rw [ypr]; exact ⟨by omega, by omega, by omega, fun i hi => by omega⟩, by rw [ypr, ypi, hS1]⟩, fun h' d' hd' hs' hk' hsb => ?_⟩
    rw [hv']
    refine lc h' d' (by omega) (fun a ha => ?_) hk' hsb
    rcases ha with ha | ha
    · exact (a2 a (by omega) (by omega) (by omega) (by omega) (by omega)).trans (hs' a (Or.inl ha))
    · exact (a2 a (by omega) (by omega) (by omega) (by omega) (by omega)).trans (hs' a (Or.inr ⟨by omega, by omega, by omega, fun i hi => by omega⟩))
  · rcases li with ⟨l1, l2, l3, l4⟩ | ⟨l1, l2⟩
    · exact Or.inl ⟨l1, by rw [e300]; exact l2, l3.sm e333, by rw [(e333 0 (by omega)).2.2.2]; exact l4.of hF hs⟩
    · exact Or.inr ⟨l1, by rw [e300]; exact l2⟩
end
