/-! THE COMPONENT WHOLE 6: undone, the image -/
set_option maxRecDepth 100000
section
variable {h : MH} {d : Nat} {S : Nat → Int32} {n : Nat} {A : Nat → Nat → Int32} {im : Prop} {I : Nat → Int32} {t : Nat} {T : Nat → Int32} {f : Int32} {v vI : LV}
theorem FZ.le {N eD n m : Nat} {ws : Nat → Nat} {a : Nat} (x : FZ N eD n ws a) (hm : m ≤ n) : FZ N eD m ws a := ⟨x.1, x.2.1, x.2.2.1, fun i hi => x.2.2.2 i (by omega)⟩
theorem KP.eD {eD cap : Nat} {ws : Nat → Nat} (k : KP h eD cap n ws A) : eD < nn h ∨ eD = 18 := by
  obtain ⟨⟨_, _, _, _, _, z, _⟩, _⟩ := k
  omega
/-- the first m of the kept worlds, when one of their list is dropped -/
theorem KP.cut {eD cap : Nat} {ws : Nat → Nat} (k : KP h eD cap n ws A) {h1 : MH} {m : Nat} (hm : m ≤ n) (hk : ∀ a, a < nn h → kd h1 a = kd h a ∧ ln h1 a = ln h a) (hn : nn h1 = nn h) (al : AL h1 352 eD m cap ws) (hs : ∀ a, 396 ≤ a → a < nn h → a ≠ eD → Same h h1 a) (h301 : iR h1 301 30 = iR h 301 30) : KP h1 eD cap m ws A := by
  obtain ⟨_, hn', he, kw, kd'⟩ := k
  refine ⟨al, by omega, he, fun i hi => ?_, fun i j hi hj hij => kd' i j (by omega) (by omega) hij⟩
  obtain ⟨k1, k2, k3, k4, k5, k6⟩ := kw i (by omega)
  have e : ∀ j, j ≤ 15 → Same h h1 (ws i + j) := fun j hj => hs _ (by omega) (by omega) (by omega)
  refine ⟨k1, by omega, k3, k4.sm e, k5.sm e, ?_⟩
  have := e 0 (by omega)
  rw [Nat.add_zero] at this
  rw [this.2.2.2, h301]; exact k6
theorem AL.vc {l eD m cap : Nat} {v v' : Nat → Nat} (s : AL h l eD m cap v) (e : ∀ i, i < m → v' i = v i) : AL h l eD m cap v' := by
  obtain ⟨a1, a2, a3, a4, a5, a6, a7⟩ := s
  exact ⟨a1, a2, a3, a4, a5, a6, fun i hi => by rw [e i hi]; exact a7 i hi⟩
theorem sJ2_clr {l eD cap : Nat} {v : Nat → Nat} (s : AL h l eD n cap v) (hN : n ≤ 500) (hnn : 300 ≤ nn h) (hne : l ≠ eD) : WPm mJ2_clear d [.ref l] h (fun o h1 => o = .returned none ∧ clP h h1 l eD cap v ∧ (eD = 18 → iR h1 18 = iR h 18)) := by
  have s0 := s
  obtain ⟨⟨s1, s2, s2'⟩, s3, s4, ⟨s5, s6⟩, s7, s8, s9⟩ := s
  by_cases z : eD = 18
  · refine mO rfl rfl ?_
    have hn0 : n = 0 := by omega
    subst hn0
    apply kJ2_clear_0
    try simp (disch := omega) only [tJ2_clear_0, s1, s2, s3, s4, kd_stI, ln_stI, nn_stI, iI_stI, iR_stI, iJ_stI, sU_stI, kd_stR, ln_stR, nn_stR, iI_stR, iR_stR, iJ_stR, sU_stR, kd_stJ, ln_stJ, nn_stJ, iI_stJ, iR_stJ, iJ_stJ, sU_stJ, kd_alc, ln_alc, nn_alc, iI_alc, iR_alc, iJ_alc, sU_alc, e_const, e_lconst, e_null, e_iload, e_lload, e_aload, e_istore, e_astore, e_lstore, e_iinc, e_iadd, e_isub, e_imul, e_iand, e_ior, e_ixor, e_ishl, e_ishr, e_iushr, e_idiv, e_irem, e_ineg, e_i2l, e_i2b, e_i2c, e_lmul, e_lcmp, e_dup, e_pop, e_dup_x1, e_dup2, e_if_eq, e_icmp_eq, e_if_ne, e_icmp_ne, e_if_lt, e_icmp_lt, e_if_ge, e_icmp_ge, e_if_gt, e_icmp_gt, e_if_le, e_icmp_le, e_ifnull, e_ifnonnull, e_acmp_eq, e_acmp_ne, e_getI, e_getJ, e_getR, e_getSI, e_getSR, e_getEI, e_getER, e_putI, e_putJ, e_putR, e_iald, e_bald, e_zald, e_lald, e_aald, e_alen, e_iast, e_bast, e_zast, e_last, e_newa, e_new, e_newq, e_ret, e_vret, e_obj, e_mmax, e_mmin, e_ldcS, e_sref, e_exc, e_thr, e_stq, e_cast, e_castY, e_castA, e_instS, e_cpy, e_aast, e_cpyR, e_cln, e_gcl, e_ldcM, e_sw, swc_n, swc_c, kon_v, kon_r, kon_t, lg_0, lg_s, ls0, lay, List.length_cons, List.length_nil, List.replicate, List.cons_append, List.nil_append, ps, lp, List.set_cons_zero, List.set_cons_succ, jk, kd_hI, ln_hI, iI_hI, iR_hI, iJ_hI, nn_hI, sU_hI, stI_hI, hI_hI, K0e, and_true, true_and, rtOk, fOk, ge_iff_le, Nat.reduceLeDiff, Nat.reduceAdd, Nat.reduceSub, Nat.reduceLT, c1, lit, nN, nN2, nI_add, pk_mul, nI_clamp, vpi, nI_leI, nI_ltI, nI_eq, bP_z, not_true_eq_false, not_false_eq_true, false_implies, true_implies, implies_true, Nat.le_refl, Nat.lt_irrefl, true_or, or_true, m31, pk_sub, pk_m1, bP_1, bP_em, Classical.not_not, Nat.zero_le, cI_T, cI_F, thr_e, thr_0, thr_m, vus, vun, vuu, pk_us, e_xO, e_xC, ex_e, e_mabsN, Nat.reduceEqDiff, ↓reduceIte, pk_un]
    apply kJ2_clear_27
    try simp (disch := omega) only [tJ2_clear_27, kd_stI, ln_stI, nn_stI, iI_stI, iR_stI, iJ_stI, sU_stI, kd_stR, ln_stR, nn_stR, iI_stR, iR_stR, iJ_stR, sU_stR, kd_stJ, ln_stJ, nn_stJ, iI_stJ, iR_stJ, iJ_stJ, sU_stJ, kd_alc, ln_alc, nn_alc, iI_alc, iR_alc, iJ_alc, sU_alc, e_const, e_lconst, e_null, e_iload, e_lload, e_aload, e_istore, e_astore, e_lstore, e_iinc, e_iadd, e_isub, e_imul, e_iand, e_ior, e_ixor, e_ishl, e_ishr, e_iushr, e_idiv, e_irem, e_ineg, e_i2l, e_i2b, e_i2c, e_lmul, e_lcmp, e_dup, e_pop, e_dup_x1, e_dup2, e_if_eq, e_icmp_eq, e_if_ne, e_icmp_ne, e_if_lt, e_icmp_lt, e_if_ge, e_icmp_ge, e_if_gt, e_icmp_gt, e_if_le, e_icmp_le, e_ifnull, e_ifnonnull, e_acmp_eq, e_acmp_ne, e_getI, e_getJ, e_getR, e_getSI, e_getSR, e_getEI, e_getER, e_putI, e_putJ, e_putR, e_iald, e_bald, e_zald, e_lald, e_aald, e_alen, e_iast, e_bast, e_zast, e_last, e_newa, e_new, e_newq, e_ret, e_vret, e_obj, e_mmax, e_mmin, e_ldcS, e_sref, e_exc, e_thr, e_stq, e_cast, e_castY, e_castA, e_instS, e_cpy, e_aast, e_cpyR, e_cln, e_gcl, e_ldcM, e_sw, swc_n, swc_c, kon_v, kon_r, kon_t, lg_0, lg_s, ls0, lay, List.length_cons, List.length_nil, List.replicate, List.cons_append, List.nil_append, ps, lp, List.set_cons_zero, List.set_cons_succ, jk, kd_hI, ln_hI, iI_hI, iR_hI, iJ_hI, nn_hI, sU_hI, stI_hI, hI_hI, K0e, and_true, true_and, rtOk, fOk, ge_iff_le, Nat.reduceLeDiff, Nat.reduceAdd, Nat.reduceSub, Nat.reduceLT, c1, lit, nN, nN2, nI_add, pk_mul, nI_clamp, vpi, nI_leI, nI_ltI, nI_eq, bP_z, not_true_eq_false, not_false_eq_true, false_implies, true_implies, implies_true, Nat.le_refl, Nat.lt_irrefl, true_or, or_true, m31, pk_sub, pk_m1, bP_1, bP_em, Classical.not_not, Nat.zero_le, cI_T, cI_F, thr_e, thr_0, thr_m, vus, vun, vuu, pk_us, e_xO, e_xC, ex_e, e_mabsN, Nat.reduceEqDiff, ↓reduceIte, pk_un]
    refine ⟨⟨rfl, rfl⟩, ⟨⟨s1, s2, s2'⟩, ?_, s4, ⟨s5, s6⟩, ⟨by omega, s7.2⟩, s8, fun i hi => by omega⟩, (fun a ha hL => ?_), (fun a _ => ⟨rfl, rfl, rfl⟩), ?_⟩
    · all_goals first | omega | rfl | assumption | (simp (disch := omega) only [kd_stI, ln_stI, nn_stI, iI_stI, iR_stI, iJ_stI, sU_stI, kd_stR, ln_stR, nn_stR, iI_stR, iR_stR, iJ_stR, sU_stR, kd_stJ, ln_stJ, nn_stJ, iI_stJ, iR_stJ, iJ_stJ, sU_stJ, kd_alc, ln_alc, nn_alc, iI_alc, iR_alc, iJ_alc, sU_alc, vus, vun, pk_us, pk_un]; done) | (simp (disch := omega) only [kd_stI, ln_stI, nn_stI, iI_stI, iR_stI, iJ_stI, sU_stI, kd_stR, ln_stR, nn_stR, iI_stR, iR_stR, iJ_stR, sU_stR, kd_stJ, ln_stJ, nn_stJ, iI_stJ, iR_stJ, iJ_stJ, sU_stJ, kd_alc, ln_alc, nn_alc, iI_alc, iR_alc, iJ_alc, sU_alc, vus, vun, pk_us, pk_un]; omega) | skip
    · obtain ⟨n1, n2⟩ := ct2 hL
      refine ⟨rfl, rfl, ?_, rfl, rfl⟩
      all_goals first | omega | rfl | assumption | (simp (disch := omega) only [kd_stI, ln_stI, nn_stI, iI_stI, iR_stI, iJ_stI, sU_stI, kd_stR, ln_stR, nn_stR, iI_stR, iR_stR, iJ_stR, sU_stR, kd_stJ, ln_stJ, nn_stJ, iI_stJ, iR_stJ, iJ_stJ, sU_stJ, kd_alc, ln_alc, nn_alc, iI_alc, iR_alc, iJ_alc, sU_alc, vus, vun, pk_us, pk_un]; done) | (simp (disch := omega) only [kd_stI, ln_stI, nn_stI, iI_stI, iR_stI, iJ_stI, sU_stI, kd_stR, ln_stR, nn_stR, iI_stR, iR_stR, iJ_stR, sU_stR, kd_stJ, ln_stJ, nn_stJ, iI_stJ, iR_stJ, iJ_stJ, sU_stJ, kd_alc, ln_alc, nn_alc, iI_alc, iR_alc, iJ_alc, sU_alc, vus, vun, pk_us, pk_un]; omega) | skip
    · have n1 : eD ≠ l := fun z => hne z.symm
      all_goals first | omega | rfl | assumption | (simp (disch := omega) only [kd_stI, ln_stI, nn_stI, iI_stI, iR_stI, iJ_stI, sU_stI, kd_stR, ln_stR, nn_stR, iI_stR, iR_stR, iJ_stR, sU_stR, kd_stJ, ln_stJ, nn_stJ, iI_stJ, iR_stJ, iJ_stJ, sU_stJ, kd_alc, ln_alc, nn_alc, iI_alc, iR_alc, iJ_alc, sU_alc, vus, vun, pk_us, pk_un]; done) | (simp (disch := omega) only [kd_stI, ln_stI, nn_stI, iI_stI, iR_stI, iJ_stI, sU_stI, kd_stR, ln_stR, nn_stR, iI_stR, iR_stR, iJ_stR, sU_stR, kd_stJ, ln_stJ, nn_stJ, iI_stJ, iR_stJ, iJ_stJ, sU_stJ, kd_alc, ln_alc, nn_alc, iI_alc, iR_alc, iJ_alc, sU_alc, vus, vun, pk_us, pk_un]; omega) | skip
  · exact (sJ2_clear s0 hN hnn hne).mono (fun o h1 q => ⟨q.1, q.2, fun e => absurd e z⟩)
theorem pX1_undo_n (c : CI h S n A im I t T f v vI) (hd : 12 ≤ d) (h0 : n = 0) : WPm mX1_undo d [.ref 300] h (cP h (some (.int (nI 0))) 0 0 (fun h1 => CI h1 S n A im I t T f v vI)) := by
  have c0 := c
  obtain ⟨sh, wr, ⟨eD, cap, ws, ⟨al, _⟩, _⟩, _⟩ := c
  have x300 := sh.2.1.1
  have x6 := sh.2.1.2.2.2.2.2.2.1
  refine mO rfl rfl ?_
  apply kX1_undo_0
  try simp (disch := omega) only [tX1_undo_0, x300, x6, kd_stI, ln_stI, nn_stI, iI_stI, iR_stI, iJ_stI, sU_stI, kd_stR, ln_stR, nn_stR, iI_stR, iR_stR, iJ_stR, sU_stR, kd_stJ, ln_stJ, nn_stJ, iI_stJ, iR_stJ, iJ_stJ, sU_stJ, kd_alc, ln_alc, nn_alc, iI_alc, iR_alc, iJ_alc, sU_alc, e_const, e_lconst, e_null, e_iload, e_lload, e_aload, e_istore, e_astore, e_lstore, e_iinc, e_iadd, e_isub, e_imul, e_iand, e_ior, e_ixor, e_ishl, e_ishr, e_iushr, e_idiv, e_irem, e_ineg, e_i2l, e_i2b, e_i2c, e_lmul, e_lcmp, e_dup, e_pop, e_dup_x1, e_dup2, e_if_eq, e_icmp_eq, e_if_ne, e_icmp_ne, e_if_lt, e_icmp_lt, e_if_ge, e_icmp_ge, e_if_gt, e_icmp_gt, e_if_le, e_icmp_le, e_ifnull, e_ifnonnull, e_acmp_eq, e_acmp_ne, e_getI, e_getJ, e_getR, e_getSI, e_getSR, e_getEI, e_getER, e_putI, e_putJ, e_putR, e_iald, e_bald, e_zald, e_lald, e_aald, e_alen, e_iast, e_bast, e_zast, e_last, e_newa, e_new, e_newq, e_ret, e_vret, e_obj, e_mmax, e_mmin, e_ldcS, e_sref, e_exc, e_thr, e_stq, e_cast, e_castY, e_castA, e_instS, e_cpy, e_aast, e_cpyR, e_cln, e_gcl, e_ldcM, e_sw, swc_n, swc_c, kon_v, kon_r, kon_t, lg_0, lg_s, ls0, lay, List.length_cons, List.length_nil, List.replicate, List.cons_append, List.nil_append, ps, lp, List.set_cons_zero, List.set_cons_succ, jk, kd_hI, ln_hI, iI_hI, iR_hI, iJ_hI, nn_hI, sU_hI, stI_hI, hI_hI, K0e, and_true, true_and, rtOk, fOk, ge_iff_le, Nat.reduceLeDiff, Nat.reduceAdd, Nat.reduceSub, Nat.reduceLT, c1, lit, nN, nN2, nI_add, pk_mul, nI_clamp, vpi, nI_leI, nI_ltI, nI_eq, bP_z, not_true_eq_false, not_false_eq_true, false_implies, true_implies, implies_true, Nat.le_refl, Nat.lt_irrefl, true_or, or_true, m31, pk_sub, pk_m1, bP_1, bP_em, Classical.not_not, Nat.zero_le, cI_T, cI_F, thr_e, thr_0, thr_m, vus, vun, vuu, pk_us, e_xO, e_xC, ex_e, e_mabsN, Nat.reduceEqDiff, ↓reduceIte, pk_un]
  refine cR (sJ2_isEmpty al (by omega)) rfl rfl rfl rfl (by omega) al.1.1 ?_
  rw [bP_t h0]
  try simp (disch := omega) only [kd_stI, ln_stI, nn_stI, iI_stI, iR_stI, iJ_stI, sU_stI, kd_stR, ln_stR, nn_stR, iI_stR, iR_stR, iJ_stR, sU_stR, kd_stJ, ln_stJ, nn_stJ, iI_stJ, iR_stJ, iJ_stJ, sU_stJ, kd_alc, ln_alc, nn_alc, iI_alc, iR_alc, iJ_alc, sU_alc, e_const, e_lconst, e_null, e_iload, e_lload, e_aload, e_istore, e_astore, e_lstore, e_iinc, e_iadd, e_isub, e_imul, e_iand, e_ior, e_ixor, e_ishl, e_ishr, e_iushr, e_idiv, e_irem, e_ineg, e_i2l, e_i2b, e_i2c, e_lmul, e_lcmp, e_dup, e_pop, e_dup_x1, e_dup2, e_if_eq, e_icmp_eq, e_if_ne, e_icmp_ne, e_if_lt, e_icmp_lt, e_if_ge, e_icmp_ge, e_if_gt, e_icmp_gt, e_if_le, e_icmp_le, e_ifnull, e_ifnonnull, e_acmp_eq, e_acmp_ne, e_getI, e_getJ, e_getR, e_getSI, e_getSR, e_getEI, e_getER, e_putI, e_putJ, e_putR, e_iald, e_bald, e_zald, e_lald, e_aald, e_alen, e_iast, e_bast, e_zast, e_last, e_newa, e_new, e_newq, e_ret, e_vret, e_obj, e_mmax, e_mmin, e_ldcS, e_sref, e_exc, e_thr, e_stq, e_cast, e_castY, e_castA, e_instS, e_cpy, e_aast, e_cpyR, e_cln, e_gcl, e_ldcM, e_sw, swc_n, swc_c, kon_v, kon_r, kon_t, lg_0, lg_s, ls0, lay, List.length_cons, List.length_nil, List.replicate, List.cons_append, List.nil_append, ps, lp, List.set_cons_zero, List.set_cons_succ, jk, kd_hI, ln_hI, iI_hI, iR_hI, iJ_hI, nn_hI, sU_hI, stI_hI, hI_hI, K0e, and_true, true_and, rtOk, fOk, ge_iff_le, Nat.reduceLeDiff, Nat.reduceAdd, Nat.reduceSub, Nat.reduceLT, c1, lit, nN, nN2, nI_add, pk_mul, nI_clamp, vpi, nI_leI, nI_ltI, nI_eq, bP_z, not_true_eq_false, not_false_eq_true, false_implies, true_implies, implies_true, Nat.le_refl, Nat.lt_irrefl, true_or, or_true, m31, pk_sub, pk_m1, bP_1, bP_em, Classical.not_not, Nat.zero_le, cI_T, cI_F, thr_e, thr_0, thr_m, vus, vun, vuu, pk_us, e_xO, e_xC, ex_e, e_mabsN, Nat.reduceEqDiff, ↓reduceIte, pk_un]
  exact ⟨rfl, Kx.refl _ _ _, c0⟩
theorem pX1_undo_ok (c : CI h S n A im I t T f v vI) (hd : 12 ≤ d) (h0 : 0 < n) {S' : Nat → Int32} (hS : ∀ i, i < 900 → S' i = A (n - 1) i) (hS1 : S' 1 = S 1) : WPm mX1_undo d [.ref 300] h (cP h (some (.int (nI 1))) 0 0 (fun h1 => CI h1 S' (n - 1) A im I t T f v vI)) := by
  obtain ⟨sh, wr, ⟨eD, cap, ws, kp, lw, li⟩, r1, r2, r3, r4⟩ := c
  have kp0 := kp
  obtain ⟨al, hn12, heD, kw, kd'⟩ := kp
  have x300 := sh.2.1.1
  have x0 := sh.2.1.2.1
  have x6 := sh.2.1.2.2.2.2.2.2.1
  have w301 := sh.2.2.1.1
  have n396 := sh.1
  have heD' : 396 ≤ eD ∧ eD < nn h := by
    obtain ⟨_, _, _, _, z0, z, _⟩ := al
    omega
  refine mO rfl rfl ?_
  apply kX1_undo_0
  try simp (disch := omega) only [tX1_undo_0, x300, x6, kd_stI, ln_stI, nn_stI, iI_stI, iR_stI, iJ_stI, sU_stI, kd_stR, ln_stR, nn_stR, iI_stR, iR_stR, iJ_stR, sU_stR, kd_stJ, ln_stJ, nn_stJ, iI_stJ, iR_stJ, iJ_stJ, sU_stJ, kd_alc, ln_alc, nn_alc, iI_alc, iR_alc, iJ_alc, sU_alc, e_const, e_lconst, e_null, e_iload, e_lload, e_aload, e_istore, e_astore, e_lstore, e_iinc, e_iadd, e_isub, e_imul, e_iand, e_ior, e_ixor, e_ishl, e_ishr, e_iushr, e_idiv, e_irem, e_ineg, e_i2l, e_i2b, e_i2c, e_lmul, e_lcmp, e_dup, e_pop, e_dup_x1, e_dup2, e_if_eq, e_icmp_eq, e_if_ne, e_icmp_ne, e_if_lt, e_icmp_lt, e_if_ge, e_icmp_ge, e_if_gt, e_icmp_gt, e_if_le, e_icmp_le, e_ifnull, e_ifnonnull, e_acmp_eq, e_acmp_ne, e_getI, e_getJ, e_getR, e_getSI, e_getSR, e_getEI, e_getER, e_putI, e_putJ, e_putR, e_iald, e_bald, e_zald, e_lald, e_aald, e_alen, e_iast, e_bast, e_zast, e_last, e_newa, e_new, e_newq, e_ret, e_vret, e_obj, e_mmax, e_mmin, e_ldcS, e_sref, e_exc, e_thr, e_stq, e_cast, e_castY, e_castA, e_instS, e_cpy, e_aast, e_cpyR, e_cln, e_gcl, e_ldcM, e_sw, swc_n, swc_c, kon_v, kon_r, kon_t, lg_0, lg_s, ls0, lay, List.length_cons, List.length_nil, List.replicate, List.cons_append, List.nil_append, ps, lp, List.set_cons_zero, List.set_cons_succ, jk, kd_hI, ln_hI, iI_hI, iR_hI, iJ_hI, nn_hI, sU_hI, stI_hI, hI_hI, K0e, and_true, true_and, rtOk, fOk, ge_iff_le, Nat.reduceLeDiff, Nat.reduceAdd, Nat.reduceSub, Nat.reduceLT, c1, lit, nN, nN2, nI_add, pk_mul, nI_clamp, vpi, nI_leI, nI_ltI, nI_eq, bP_z, not_true_eq_false, not_false_eq_true, false_implies, true_implies, implies_true, Nat.le_refl, Nat.lt_irrefl, true_or, or_true, m31, pk_sub, pk_m1, bP_1, bP_em, Classical.not_not, Nat.zero_le, cI_T, cI_F, thr_e, thr_0, thr_m, vus, vun, vuu, pk_us, e_xO, e_xC, ex_e, e_mabsN, Nat.reduceEqDiff, ↓reduceIte, pk_un]
  refine cR (sJ2_isEmpty al (by omega)) rfl rfl rfl rfl (by omega) al.1.1 ?_
  rw [bP_f (by omega)]
  try simp (disch := omega) only [x300, x6, x0, kd_stI, ln_stI, nn_stI, iI_stI, iR_stI, iJ_stI, sU_stI, kd_stR, ln_stR, nn_stR, iI_stR, iR_stR, iJ_stR, sU_stR, kd_stJ, ln_stJ, nn_stJ, iI_stJ, iR_stJ, iJ_stJ, sU_stJ, kd_alc, ln_alc, nn_alc, iI_alc, iR_alc, iJ_alc, sU_alc, e_const, e_lconst, e_null, e_iload, e_lload, e_aload, e_istore, e_astore, e_lstore, e_iinc, e_iadd, e_isub, e_imul, e_iand, e_ior, e_ixor, e_ishl, e_ishr, e_iushr, e_idiv, e_irem, e_ineg, e_i2l, e_i2b, e_i2c, e_lmul, e_lcmp, e_dup, e_pop, e_dup_x1, e_dup2, e_if_eq, e_icmp_eq, e_if_ne, e_icmp_ne, e_if_lt, e_icmp_lt, e_if_ge, e_icmp_ge, e_if_gt, e_icmp_gt, e_if_le, e_icmp_le, e_ifnull, e_ifnonnull, e_acmp_eq, e_acmp_ne, e_getI, e_getJ, e_getR, e_getSI, e_getSR, e_getEI, e_getER, e_putI, e_putJ, e_putR, e_iald, e_bald, e_zald, e_lald, e_aald, e_alen, e_iast, e_bast, e_zast, e_last, e_newa, e_new, e_newq, e_ret, e_vret, e_obj, e_mmax, e_mmin, e_ldcS, e_sref, e_exc, e_thr, e_stq, e_cast, e_castY, e_castA, e_instS, e_cpy, e_aast, e_cpyR, e_cln, e_gcl, e_ldcM, e_sw, swc_n, swc_c, kon_v, kon_r, kon_t, lg_0, lg_s, ls0, lay, List.length_cons, List.length_nil, List.replicate, List.cons_append, List.nil_append, ps, lp, List.set_cons_zero, List.set_cons_succ, jk, kd_hI, ln_hI, iI_hI, iR_hI, iJ_hI, nn_hI, sU_hI, stI_hI, hI_hI, K0e, and_true, true_and, rtOk, fOk, ge_iff_le, Nat.reduceLeDiff, Nat.reduceAdd, Nat.reduceSub, Nat.reduceLT, c1, lit, nN, nN2, nI_add, pk_mul, nI_clamp, vpi, nI_leI, nI_ltI, nI_eq, bP_z, not_true_eq_false, not_false_eq_true, false_implies, true_implies, implies_true, Nat.le_refl, Nat.lt_irrefl, true_or, or_true, m31, pk_sub, pk_m1, bP_1, bP_em, Classical.not_not, Nat.zero_le, cI_T, cI_F, thr_e, thr_0, thr_m, vus, vun, vuu, pk_us, e_xO, e_xC, ex_e, e_mabsN, Nat.reduceEqDiff, ↓reduceIte, pk_un]
  refine cR (sJ2_size al) rfl rfl rfl rfl (by omega) al.1.1 ?_
  try simp (disch := omega) only [kd_stI, ln_stI, nn_stI, iI_stI, iR_stI, iJ_stI, sU_stI, kd_stR, ln_stR, nn_stR, iI_stR, iR_stR, iJ_stR, sU_stR, kd_stJ, ln_stJ, nn_stJ, iI_stJ, iR_stJ, iJ_stJ, sU_stJ, kd_alc, ln_alc, nn_alc, iI_alc, iR_alc, iJ_alc, sU_alc, e_const, e_lconst, e_null, e_iload, e_lload, e_aload, e_istore, e_astore, e_lstore, e_iinc, e_iadd, e_isub, e_imul, e_iand, e_ior, e_ixor, e_ishl, e_ishr, e_iushr, e_idiv, e_irem, e_ineg, e_i2l, e_i2b, e_i2c, e_lmul, e_lcmp, e_dup, e_pop, e_dup_x1, e_dup2, e_if_eq, e_icmp_eq, e_if_ne, e_icmp_ne, e_if_lt, e_icmp_lt, e_if_ge, e_icmp_ge, e_if_gt, e_icmp_gt, e_if_le, e_icmp_le, e_ifnull, e_ifnonnull, e_acmp_eq, e_acmp_ne, e_getI, e_getJ, e_getR, e_getSI, e_getSR, e_getEI, e_getER, e_putI, e_putJ, e_putR, e_iald, e_bald, e_zald, e_lald, e_aald, e_alen, e_iast, e_bast, e_zast, e_last, e_newa, e_new, e_newq, e_ret, e_vret, e_obj, e_mmax, e_mmin, e_ldcS, e_sref, e_exc, e_thr, e_stq, e_cast, e_castY, e_castA, e_instS, e_cpy, e_aast, e_cpyR, e_cln, e_gcl, e_ldcM, e_sw, swc_n, swc_c, kon_v, kon_r, kon_t, lg_0, lg_s, ls0, lay, List.length_cons, List.length_nil, List.replicate, List.cons_append, List.nil_append, ps, lp, List.set_cons_zero, List.set_cons_succ, jk, kd_hI, ln_hI, iI_hI, iR_hI, iJ_hI, nn_hI, sU_hI, stI_hI, hI_hI, K0e, and_true, true_and, rtOk, fOk, ge_iff_le, Nat.reduceLeDiff, Nat.reduceAdd, Nat.reduceSub, Nat.reduceLT, c1, lit, nN, nN2, nI_add, pk_mul, nI_clamp, vpi, nI_leI, nI_ltI, nI_eq, bP_z, not_true_eq_false, not_false_eq_true, false_implies, true_implies, implies_true, Nat.le_refl, Nat.lt_irrefl, true_or, or_true, m31, pk_sub, pk_m1, bP_1, bP_em, Classical.not_not, Nat.zero_le, cI_T, cI_F, thr_e, thr_0, thr_m, vus, vun, vuu, pk_us, e_xO, e_xC, ex_e, e_mabsN, Nat.reduceEqDiff, ↓reduceIte, pk_un]
  refine cl _ _ (sJ2_remove al (by omega) (by omega) (by omega) (by omega) (i := n - 1) (by omega)) rfl rfl rfl rfl (by omega) al.1.1 ?_
  rintro _ h1 ⟨rfl, ⟨m1, m2⟩, al1, m3, m4, m5⟩
  obtain ⟨k1, k2, k3, k4, k5, k6⟩ := kw (n - 1) (by omega)
  have a1 : ∀ a, a < nn h → a ≠ 352 → a ≠ eD → Same h h1 a := fun a ha z1 z2 => by
    obtain ⟨c1', c2, c3, c4, _⟩ := m3 a ha (by simp only [List.contains_cons, List.contains_nil, Bool.or_false, Bool.or_eq_false_iff, beq_eq_false_iff_ne]; exact ⟨z1, z2⟩)
    exact ⟨c1', c2, c3, c4⟩
  have w1 : WS h1 (ws (n - 1)) := k4.sm (fun j hj => a1 _ (by omega) (by omega) (by omega))
  have wr1 : WR (iI h1) (ws (n - 1)) (A (n - 1)) := k5.sm (fun j hj => a1 _ (by omega) (by omega) (by omega))
  have w2 : WS h1 301 := w301.sm (fun j hj => a1 _ (by omega) (by omega) (by omega))
  try simp (disch := omega) only [wk w1, kd_stI, ln_stI, nn_stI, iI_stI, iR_stI, iJ_stI, sU_stI, kd_stR, ln_stR, nn_stR, iI_stR, iR_stR, iJ_stR, sU_stR, kd_stJ, ln_stJ, nn_stJ, iI_stJ, iR_stJ, iJ_stJ, sU_stJ, kd_alc, ln_alc, nn_alc, iI_alc, iR_alc, iJ_alc, sU_alc, e_const, e_lconst, e_null, e_iload, e_lload, e_aload, e_istore, e_astore, e_lstore, e_iinc, e_iadd, e_isub, e_imul, e_iand, e_ior, e_ixor, e_ishl, e_ishr, e_iushr, e_idiv, e_irem, e_ineg, e_i2l, e_i2b, e_i2c, e_lmul, e_lcmp, e_dup, e_pop, e_dup_x1, e_dup2, e_if_eq, e_icmp_eq, e_if_ne, e_icmp_ne, e_if_lt, e_icmp_lt, e_if_ge, e_icmp_ge, e_if_gt, e_icmp_gt, e_if_le, e_icmp_le, e_ifnull, e_ifnonnull, e_acmp_eq, e_acmp_ne, e_getI, e_getJ, e_getR, e_getSI, e_getSR, e_getEI, e_getER, e_putI, e_putJ, e_putR, e_iald, e_bald, e_zald, e_lald, e_aald, e_alen, e_iast, e_bast, e_zast, e_last, e_newa, e_new, e_newq, e_ret, e_vret, e_obj, e_mmax, e_mmin, e_ldcS, e_sref, e_exc, e_thr, e_stq, e_cast, e_castY, e_castA, e_instS, e_cpy, e_aast, e_cpyR, e_cln, e_gcl, e_ldcM, e_sw, swc_n, swc_c, kon_v, kon_r, kon_t, lg_0, lg_s, ls0, lay, List.length_cons, List.length_nil, List.replicate, List.cons_append, List.nil_append, ps, lp, List.set_cons_zero, List.set_cons_succ, jk, kd_hI, ln_hI, iI_hI, iR_hI, iJ_hI, nn_hI, sU_hI, stI_hI, hI_hI, K0e, and_true, true_and, rtOk, fOk, ge_iff_le, Nat.reduceLeDiff, Nat.reduceAdd, Nat.reduceSub, Nat.reduceLT, c1, lit, nN, nN2, nI_add, pk_mul, nI_clamp, vpi, nI_leI, nI_ltI, nI_eq, bP_z, not_true_eq_false, not_false_eq_true, false_implies, true_implies, implies_true, Nat.le_refl, Nat.lt_irrefl, true_or, or_true, m31, pk_sub, pk_m1, bP_1, bP_em, Classical.not_not, Nat.zero_le, cI_T, cI_F, thr_e, thr_0, thr_m, vus, vun, vuu, pk_us, e_xO, e_xC, ex_e, e_mabsN, Nat.reduceEqDiff, ↓reduceIte, pk_un]
  refine cl _ _ (sX2_likens (h := h1) (w := 301) (v := ws (n - 1)) w2 w1 (by omega) (by omega)) rfl rfl rfl rfl (by omega) (wk w2) ?_
  rintro _ h2 ⟨rfl, τ, hh, e3, r5⟩
  have l30 : iR h1 (ws (n - 1)) 30 = iR h 301 30 := by
    have := a1 (ws (n - 1)) (by omega) (by omega) (by omega)
    rw [this.2.2.2]; exact k6
  have l31 : iR h2 301 = iR h 301 := by
    subst hh
    rw [iR_hX, vus, l30, (a1 301 (by omega) (by omega) (by omega)).2.2.2]
    funext k
    by_cases z : k = 30
    · subst z; rw [vus]
    · rw [vun _ _ z]
  have a2 : ∀ a, a < nn h → (a < 301 ∨ 316 < a) → a ≠ 352 → a ≠ eD → Same h h2 a := fun a ha z1 z2 z3 => by
    subst hh
    refine (a1 a ha z2 z3).trans ⟨rfl, rfl, e3 a (by omega), ?_⟩
    rw [iR_hX, vun _ _ (by omega)]
  have kl : ∀ a, a < nn h → kd h2 a = kd h a ∧ ln h2 a = ln h a := fun a ha => by subst hh; exact ⟨(m4 a ha).1, (m4 a ha).2.1⟩
  have n2 : nn h2 = nn h := by subst hh; exact m1
  have s2 : sU h2 = sU h := by subst hh; exact m2
  have al2 : AL h2 352 eD (n - 1) cap ws := by
    have : AL h1 352 eD (n - 1) cap ws := al1.vc (fun i hi => (rmV_l hi).symm)
    subst hh
    exact this.cn (fun _ _ => ⟨rfl, rfl⟩) (Nat.le_refl _) (by rw [iI_hX, e3 352 (by omega)]) (by rw [iR_hX, vun _ _ (by omega)]) (fun i hi => by rw [iR_hX, vun _ _ (by omega)]) (by omega)
  have kp2 : KP h2 eD cap (n - 1) ws A := kp0.cut (by omega) kl n2 al2 (fun a ha q z => a2 a q (by omega) (by omega) z) (by rw [l31])
  have hs : ∀ a, (a < 300 ∨ FZ (nn h) eD n ws a) → Same h h2 a := fun a ha => by
    rcases ha with ha | ⟨f1, f2, f3, _⟩
    · exact a2 a (by omega) (by omega) (by omega) (by omega)
    · exact a2 a f2 (by omega) (by omega) f3
  have hF : ∀ a, FZ (nn h) eD n ws a → FZ (nn h2) eD (n - 1) ws a := fun a ha => by rw [n2]; exact ha.le (by omega)
  have e349 := (a2 349 (by omega) (by omega) (by omega) (by omega)).2.2.1
  have e350 := (a2 350 (by omega) (by omega) (by omega) (by omega)).2.2.1
  have e300 := (a2 300 (by omega) (by omega) (by omega) (by omega)).2.2.1
  have e333 : ∀ j, j ≤ 15 → Same h h2 (333 + j) := fun j hj => a2 _ (by omega) (by omega) (by omega) (by omega)
  have sf : SF h h2 := ⟨by omega, fun a ha => kl a (by omega), fun a k ha z1 z2 => by
    by_cases q : a < 301 ∨ 316 < a
    · rw [(a2 a (by omega) q z2 (by omega)).2.2.2]
    · by_cases q2 : a = 301
      · subst q2; rw [l31]
      · subst hh
        rw [iR_hX, vun _ _ (by omega), (a1 a (by omega) z2 (by omega)).2.2.2], fun a ha => (a2 a (by omega) (by omega) (by omega) (by omega)).2.2.1⟩
  have wr2 : WR (iI h2) 301 S' := by
    subst hh
    exact (r5 _ wr1).cg (fun i z1 _ _ => hS i z1)
  try simp (disch := omega) only [kd_stI, ln_stI, nn_stI, iI_stI, iR_stI, iJ_stI, sU_stI, kd_stR, ln_stR, nn_stR, iI_stR, iR_stR, iJ_stR, sU_stR, kd_stJ, ln_stJ, nn_stJ, iI_stJ, iR_stJ, iJ_stJ, sU_stJ, kd_alc, ln_alc, nn_alc, iI_alc, iR_alc, iJ_alc, sU_alc, e_const, e_lconst, e_null, e_iload, e_lload, e_aload, e_istore, e_astore, e_lstore, e_iinc, e_iadd, e_isub, e_imul, e_iand, e_ior, e_ixor, e_ishl, e_ishr, e_iushr, e_idiv, e_irem, e_ineg, e_i2l, e_i2b, e_i2c, e_lmul, e_lcmp, e_dup, e_pop, e_dup_x1, e_dup2, e_if_eq, e_icmp_eq, e_if_ne, e_icmp_ne, e_if_lt, e_icmp_lt, e_if_ge, e_icmp_ge, e_if_gt, e_icmp_gt, e_if_le, e_icmp_le, e_ifnull, e_ifnonnull, e_acmp_eq, e_acmp_ne, e_getI, e_getJ, e_getR, e_getSI, e_getSR, e_getEI, e_getER, e_putI, e_putJ, e_putR, e_iald, e_bald, e_zald, e_lald, e_aald, e_alen, e_iast, e_bast, e_zast, e_last, e_newa, e_new, e_newq, e_ret, e_vret, e_obj, e_mmax, e_mmin, e_ldcS, e_sref, e_exc, e_thr, e_stq, e_cast, e_castY, e_castA, e_instS, e_cpy, e_aast, e_cpyR, e_cln, e_gcl, e_ldcM, e_sw, swc_n, swc_c, kon_v, kon_r, kon_t, lg_0, lg_s, ls0, lay, List.length_cons, List.length_nil, List.replicate, List.cons_append, List.nil_append, ps, lp, List.set_cons_zero, List.set_cons_succ, jk, kd_hI, ln_hI, iI_hI, iR_hI, iJ_hI, nn_hI, sU_hI, stI_hI, hI_hI, K0e, and_true, true_and, rtOk, fOk, ge_iff_le, Nat.reduceLeDiff, Nat.reduceAdd, Nat.reduceSub, Nat.reduceLT, c1, lit, nN, nN2, nI_add, pk_mul, nI_clamp, vpi, nI_leI, nI_ltI, nI_eq, bP_z, not_true_eq_false, not_false_eq_true, false_implies, true_implies, implies_true, Nat.le_refl, Nat.lt_irrefl, true_or, or_true, m31, pk_sub, pk_m1, bP_1, bP_em, Classical.not_not, Nat.zero_le, cI_T, cI_F, thr_e, thr_0, thr_m, vus, vun, vuu, pk_us, e_xO, e_xC, ex_e, e_mabsN, Nat.reduceEqDiff, ↓reduceIte, pk_un]
  refine ⟨rfl, ⟨fun a x y => (a2 a (by omega) (by omega) (by omega) (by omega)).2.2.1, by omega, by omega, by omega⟩, sh.sf sf, wr2, ⟨eD, cap, ws, kp2, by rw [l31, hS1]; exact lw.of hF hs, ?_⟩, by rw [e349]; exact r1, r2, by rw [e350]; exact r3, by rw [e349]; exact r4⟩
  rcases li with ⟨l1, l2, l3, l4⟩ | ⟨l1, l2⟩
  · exact Or.inl ⟨l1, by rw [e300]; exact l2, l3.sm e333, by rw [(e333 0 (by omega)).2.2.2]; exact l4.of hF hs⟩
  · exact Or.inr ⟨l1, by rw [e300]; exact l2⟩
theorem pX1_image (c : CI h S n A im I t T f v vI) (hd : 12 ≤ d) : WPm mX1_image d [.ref 300] h (cP h none 0 0 (fun h1 => CI h1 S n A True S t T f v v)) := by
  obtain ⟨sh, wr, ⟨eD, cap, ws, kp, lw, li⟩, r1, r2, r3, r4⟩ := c
  have x300 := sh.2.1.1
  have x0 := sh.2.1.2.1
  have x2 := sh.2.1.2.2.2.1
  have w301 := sh.2.2.1.1
  have w333 := sh.2.2.1.2.2.1
  have n396 := sh.1
  refine mO rfl rfl ?_
  apply kX1_image_0
  try simp (disch := omega) only [tX1_image_0, x300, x2, x0, stI_s, kd_stI, ln_stI, nn_stI, iI_stI, iR_stI, iJ_stI, sU_stI, kd_stR, ln_stR, nn_stR, iI_stR, iR_stR, iJ_stR, sU_stR, kd_stJ, ln_stJ, nn_stJ, iI_stJ, iR_stJ, iJ_stJ, sU_stJ, kd_alc, ln_alc, nn_alc, iI_alc, iR_alc, iJ_alc, sU_alc, e_const, e_lconst, e_null, e_iload, e_lload, e_aload, e_istore, e_astore, e_lstore, e_iinc, e_iadd, e_isub, e_imul, e_iand, e_ior, e_ixor, e_ishl, e_ishr, e_iushr, e_idiv, e_irem, e_ineg, e_i2l, e_i2b, e_i2c, e_lmul, e_lcmp, e_dup, e_pop, e_dup_x1, e_dup2, e_if_eq, e_icmp_eq, e_if_ne, e_icmp_ne, e_if_lt, e_icmp_lt, e_if_ge, e_icmp_ge, e_if_gt, e_icmp_gt, e_if_le, e_icmp_le, e_ifnull, e_ifnonnull, e_acmp_eq, e_acmp_ne, e_getI, e_getJ, e_getR, e_getSI, e_getSR, e_getEI, e_getER, e_putI, e_putJ, e_putR, e_iald, e_bald, e_zald, e_lald, e_aald, e_alen, e_iast, e_bast, e_zast, e_last, e_newa, e_new, e_newq, e_ret, e_vret, e_obj, e_mmax, e_mmin, e_ldcS, e_sref, e_exc, e_thr, e_stq, e_cast, e_castY, e_castA, e_instS, e_cpy, e_aast, e_cpyR, e_cln, e_gcl, e_ldcM, e_sw, swc_n, swc_c, kon_v, kon_r, kon_t, lg_0, lg_s, ls0, lay, List.length_cons, List.length_nil, List.replicate, List.cons_append, List.nil_append, ps, lp, List.set_cons_zero, List.set_cons_succ, jk, kd_hI, ln_hI, iI_hI, iR_hI, iJ_hI, nn_hI, sU_hI, stI_hI, hI_hI, K0e, and_true, true_and, rtOk, fOk, ge_iff_le, Nat.reduceLeDiff, Nat.reduceAdd, Nat.reduceSub, Nat.reduceLT, c1, lit, nN, nN2, nI_add, pk_mul, nI_clamp, vpi, nI_leI, nI_ltI, nI_eq, bP_z, not_true_eq_false, not_false_eq_true, false_implies, true_implies, implies_true, Nat.le_refl, Nat.lt_irrefl, true_or, or_true, m31, pk_sub, pk_m1, bP_1, bP_em, Classical.not_not, Nat.zero_le, cI_T, cI_F, thr_e, thr_0, thr_m, vus, vun, vuu, pk_us, e_xO, e_xC, ex_e, e_mabsN, Nat.reduceEqDiff, ↓reduceIte, pk_un]
  generalize hh1 : hI h (va_up (iI h) 300 (upd (iI h 300) 3 (nI 1))) = h1
  have a1 : ∀ a, a ≠ 300 → Same h h1 a := fun a z => by subst hh1; exact ⟨rfl, rfl, vun _ _ z, rfl⟩
  have w2 : WS h1 301 := w301.sm (fun j hj => a1 _ (by omega))
  have w3 : WS h1 333 := w333.sm (fun j hj => a1 _ (by omega))
  have e300 : iI h1 300 3 = nI 1 := by subst hh1; rw [iI_hI, vus, pk_us]
  have m1 : nn h1 = nn h ∧ sU h1 = sU h ∧ iR h1 = iR h ∧ kd h1 = kd h ∧ ln h1 = ln h := by subst hh1; exact ⟨rfl, rfl, rfl, rfl, rfl⟩
  refine cl _ _ (sX2_likens (h := h1) (w := 333) (v := 301) w3 w2 (by omega) (by omega)) rfl rfl rfl rfl (by omega) (wk w3) ?_
  rintro _ h2 ⟨rfl, τ, hh, e3, r5⟩
  have n2 : nn h2 = nn h := by subst hh; exact m1.1
  have s2 : sU h2 = sU h := by subst hh; exact m1.2.1
  have kl : ∀ a, kd h2 a = kd h a ∧ ln h2 a = ln h a := fun a => by subst hh; exact ⟨by rw [kd_hX, m1.2.2.2.1], by rw [ln_hX, m1.2.2.2.2]⟩
  have a2 : ∀ a, (a < 333 ∨ 348 < a) → a ≠ 300 → Same h h2 a := fun a z1 z2 => by
    subst hh
    refine (a1 a z2).trans ⟨rfl, rfl, e3 a (by omega), ?_⟩
    rw [iR_hX, vun _ _ (by omega)]
  have l333 : iR h2 333 30 = iR h 301 30 := by subst hh; rw [iR_hX, vus, vus, m1.2.2.1]
  have sf : SF h h2 := ⟨by omega, fun a ha => kl a, fun a k ha z1 z2 => by
    by_cases q : a = 333
    · subst q hh
      have hk : k ≠ 30 := fun z => z1 ⟨z, Or.inr (Or.inr (Or.inl rfl))⟩
      rw [iR_hX, vus, vun _ _ hk, m1.2.2.1]
    · subst hh
      rw [iR_hX, vun _ _ q, m1.2.2.1], fun a ha => (a2 a (by omega) (by omega)).2.2.1⟩
  have kp2 : KP h2 eD cap n ws A := by
    have := kp
    obtain ⟨al, _⟩ := this
    have heD : eD ≠ 333 := by
      rcases kp.2.2.1 with z | z
      · omega
      · omega
    refine kp.cut (Nat.le_refl _) (fun a _ => kl a) n2 (al.cn (fun a _ => kl a) (by omega) ?_ ?_ (fun i hi => ?_) (by omega)) (fun a ha q z => a2 a (by omega) (by omega)) ?_
    · rw [(a2 352 (by omega) (by omega)).2.2.1]
    · rw [(a2 352 (by omega) (by omega)).2.2.2]
    · subst hh
      rw [iR_hX, vun _ _ heD, m1.2.2.1]
    · rw [(a2 301 (by omega) (by omega)).2.2.2]
  have hs : ∀ a, (a < 300 ∨ FZ (nn h) eD n ws a) → Same h h2 a := fun a ha => by
    rcases ha with ha | ⟨f1, f2, f3, _⟩
    · exact a2 a (by omega) (by omega)
    · exact a2 a (by omega) (by omega)
  have hF : ∀ a, FZ (nn h) eD n ws a → FZ (nn h2) eD n ws a := fun a ha => by rw [n2]; exact ha
  have e349 := (a2 349 (by omega) (by omega)).2.2.1
  have e350 := (a2 350 (by omega) (by omega)).2.2.1
  have e300' : iI h2 300 3 = nI 1 := by subst hh; rw [iI_hX, e3 300 (by omega)]; exact e300
  have e301 : ∀ j, j ≤ 15 → Same h h2 (301 + j) := fun j hj => a2 _ (by omega) (by omega)
  have wr2 : WR (iI h2) 333 S := by
    subst hh
    exact r5 _ (wr.sm (fun j hj => a1 _ (by omega)))
  try simp (disch := omega) only [kd_stI, ln_stI, nn_stI, iI_stI, iR_stI, iJ_stI, sU_stI, kd_stR, ln_stR, nn_stR, iI_stR, iR_stR, iJ_stR, sU_stR, kd_stJ, ln_stJ, nn_stJ, iI_stJ, iR_stJ, iJ_stJ, sU_stJ, kd_alc, ln_alc, nn_alc, iI_alc, iR_alc, iJ_alc, sU_alc, e_const, e_lconst, e_null, e_iload, e_lload, e_aload, e_istore, e_astore, e_lstore, e_iinc, e_iadd, e_isub, e_imul, e_iand, e_ior, e_ixor, e_ishl, e_ishr, e_iushr, e_idiv, e_irem, e_ineg, e_i2l, e_i2b, e_i2c, e_lmul, e_lcmp, e_dup, e_pop, e_dup_x1, e_dup2, e_if_eq, e_icmp_eq, e_if_ne, e_icmp_ne, e_if_lt, e_icmp_lt, e_if_ge, e_icmp_ge, e_if_gt, e_icmp_gt, e_if_le, e_icmp_le, e_ifnull, e_ifnonnull, e_acmp_eq, e_acmp_ne, e_getI, e_getJ, e_getR, e_getSI, e_getSR, e_getEI, e_getER, e_putI, e_putJ, e_putR, e_iald, e_bald, e_zald, e_lald, e_aald, e_alen, e_iast, e_bast, e_zast, e_last, e_newa, e_new, e_newq, e_ret, e_vret, e_obj, e_mmax, e_mmin, e_ldcS, e_sref, e_exc, e_thr, e_stq, e_cast, e_castY, e_castA, e_instS, e_cpy, e_aast, e_cpyR, e_cln, e_gcl, e_ldcM, e_sw, swc_n, swc_c, kon_v, kon_r, kon_t, lg_0, lg_s, ls0, lay, List.length_cons, List.length_nil, List.replicate, List.cons_append, List.nil_append, ps, lp, List.set_cons_zero, List.set_cons_succ, jk, kd_hI, ln_hI, iI_hI, iR_hI, iJ_hI, nn_hI, sU_hI, stI_hI, hI_hI, K0e, and_true, true_and, rtOk, fOk, ge_iff_le, Nat.reduceLeDiff, Nat.reduceAdd, Nat.reduceSub, Nat.reduceLT, c1, lit, nN, nN2, nI_add, pk_mul, nI_clamp, vpi, nI_leI, nI_ltI, nI_eq, bP_z, not_true_eq_false, not_false_eq_true, false_implies, true_implies, implies_true, Nat.le_refl, Nat.lt_irrefl, true_or, or_true, m31, pk_sub, pk_m1, bP_1, bP_em, Classical.not_not, Nat.zero_le, cI_T, cI_F, thr_e, thr_0, thr_m, vus, vun, vuu, pk_us, e_xO, e_xC, ex_e, e_mabsN, Nat.reduceEqDiff, ↓reduceIte, pk_un]
  exact ⟨rfl, ⟨fun a x y => (a2 a (by omega) (by omega)).2.2.1, by omega, by omega, by omega⟩, sh.sf sf, wr.sm e301, ⟨eD, cap, ws, kp2, by rw [(e301 0 (by omega)).2.2.2]; exact lw.of hF hs, Or.inl ⟨trivial, e300', wr2, by rw [l333]; exact lw.of hF hs⟩⟩, by rw [e349]; exact r1, r2, by rw [e350]; exact r3, by rw [e349]; exact r4⟩
theorem pX1_back_n (c : CI h S n A im I t T f v vI) (hi : ¬ im) : WPm mX1_back d [.ref 300] h (cP h (some (.int (nI 0))) 0 0 (fun h1 => CI h1 S n A im I t T f v vI)) := by
  have c0 := c
  obtain ⟨sh, wr, ⟨eD, cap, ws, kp, lw, li⟩, r1, r2, r3, r4⟩ := c
  have x300 := sh.2.1.1
  have e3 : iI h 300 3 = nI 0 := by
    rcases li with z | z
    · exact absurd z.1 hi
    · exact z.2
  refine mO rfl rfl ?_
  apply kX1_back_0
  try simp (disch := omega) only [tX1_back_0, x300, e3, kd_stI, ln_stI, nn_stI, iI_stI, iR_stI, iJ_stI, sU_stI, kd_stR, ln_stR, nn_stR, iI_stR, iR_stR, iJ_stR, sU_stR, kd_stJ, ln_stJ, nn_stJ, iI_stJ, iR_stJ, iJ_stJ, sU_stJ, kd_alc, ln_alc, nn_alc, iI_alc, iR_alc, iJ_alc, sU_alc, e_const, e_lconst, e_null, e_iload, e_lload, e_aload, e_istore, e_astore, e_lstore, e_iinc, e_iadd, e_isub, e_imul, e_iand, e_ior, e_ixor, e_ishl, e_ishr, e_iushr, e_idiv, e_irem, e_ineg, e_i2l, e_i2b, e_i2c, e_lmul, e_lcmp, e_dup, e_pop, e_dup_x1, e_dup2, e_if_eq, e_icmp_eq, e_if_ne, e_icmp_ne, e_if_lt, e_icmp_lt, e_if_ge, e_icmp_ge, e_if_gt, e_icmp_gt, e_if_le, e_icmp_le, e_ifnull, e_ifnonnull, e_acmp_eq, e_acmp_ne, e_getI, e_getJ, e_getR, e_getSI, e_getSR, e_getEI, e_getER, e_putI, e_putJ, e_putR, e_iald, e_bald, e_zald, e_lald, e_aald, e_alen, e_iast, e_bast, e_zast, e_last, e_newa, e_new, e_newq, e_ret, e_vret, e_obj, e_mmax, e_mmin, e_ldcS, e_sref, e_exc, e_thr, e_stq, e_cast, e_castY, e_castA, e_instS, e_cpy, e_aast, e_cpyR, e_cln, e_gcl, e_ldcM, e_sw, swc_n, swc_c, kon_v, kon_r, kon_t, lg_0, lg_s, ls0, lay, List.length_cons, List.length_nil, List.replicate, List.cons_append, List.nil_append, ps, lp, List.set_cons_zero, List.set_cons_succ, jk, kd_hI, ln_hI, iI_hI, iR_hI, iJ_hI, nn_hI, sU_hI, stI_hI, hI_hI, K0e, and_true, true_and, rtOk, fOk, ge_iff_le, Nat.reduceLeDiff, Nat.reduceAdd, Nat.reduceSub, Nat.reduceLT, c1, lit, nN, nN2, nI_add, pk_mul, nI_clamp, vpi, nI_leI, nI_ltI, nI_eq, bP_z, not_true_eq_false, not_false_eq_true, false_implies, true_implies, implies_true, Nat.le_refl, Nat.lt_irrefl, true_or, or_true, m31, pk_sub, pk_m1, bP_1, bP_em, Classical.not_not, Nat.zero_le, cI_T, cI_F, thr_e, thr_0, thr_m, vus, vun, vuu, pk_us, e_xO, e_xC, ex_e, e_mabsN, Nat.reduceEqDiff, ↓reduceIte, pk_un]
  exact ⟨rfl, Kx.refl _ _ _, c0⟩
theorem pX1_back_ok (c : CI h S n A im I t T f v vI) (hd : 12 ≤ d) (hi : im) {S' : Nat → Int32} (hS : ∀ i, i < 900 → S' i = I i) : WPm mX1_back d [.ref 300] h (cP h (some (.int (nI 1))) 0 0 (fun h1 => CI h1 S' 0 A im I t T f vI vI)) := by
  obtain ⟨sh, wr, ⟨eD, cap, ws, kp, lw, li⟩, r1, r2, r3, r4⟩ := c
  obtain ⟨_, l2, l3, l4⟩ := li.resolve_right (fun z => z.1 hi)
  have x300 := sh.2.1.1
  have x0 := sh.2.1.2.1
  have x2 := sh.2.1.2.2.2.1
  have x6 := sh.2.1.2.2.2.2.2.2.1
  have w301 := sh.2.2.1.1
  have w333 := sh.2.2.1.2.2.1
  have n396 := sh.1
  have heD := kp.eD
  have heD2 := kp.2.2.1
  refine mO rfl rfl ?_
  apply kX1_back_0
  try simp (disch := omega) only [tX1_back_0, x300, x2, x0, l2, kd_stI, ln_stI, nn_stI, iI_stI, iR_stI, iJ_stI, sU_stI, kd_stR, ln_stR, nn_stR, iI_stR, iR_stR, iJ_stR, sU_stR, kd_stJ, ln_stJ, nn_stJ, iI_stJ, iR_stJ, iJ_stJ, sU_stJ, kd_alc, ln_alc, nn_alc, iI_alc, iR_alc, iJ_alc, sU_alc, e_const, e_lconst, e_null, e_iload, e_lload, e_aload, e_istore, e_astore, e_lstore, e_iinc, e_iadd, e_isub, e_imul, e_iand, e_ior, e_ixor, e_ishl, e_ishr, e_iushr, e_idiv, e_irem, e_ineg, e_i2l, e_i2b, e_i2c, e_lmul, e_lcmp, e_dup, e_pop, e_dup_x1, e_dup2, e_if_eq, e_icmp_eq, e_if_ne, e_icmp_ne, e_if_lt, e_icmp_lt, e_if_ge, e_icmp_ge, e_if_gt, e_icmp_gt, e_if_le, e_icmp_le, e_ifnull, e_ifnonnull, e_acmp_eq, e_acmp_ne, e_getI, e_getJ, e_getR, e_getSI, e_getSR, e_getEI, e_getER, e_putI, e_putJ, e_putR, e_iald, e_bald, e_zald, e_lald, e_aald, e_alen, e_iast, e_bast, e_zast, e_last, e_newa, e_new, e_newq, e_ret, e_vret, e_obj, e_mmax, e_mmin, e_ldcS, e_sref, e_exc, e_thr, e_stq, e_cast, e_castY, e_castA, e_instS, e_cpy, e_aast, e_cpyR, e_cln, e_gcl, e_ldcM, e_sw, swc_n, swc_c, kon_v, kon_r, kon_t, lg_0, lg_s, ls0, lay, List.length_cons, List.length_nil, List.replicate, List.cons_append, List.nil_append, ps, lp, List.set_cons_zero, List.set_cons_succ, jk, kd_hI, ln_hI, iI_hI, iR_hI, iJ_hI, nn_hI, sU_hI, stI_hI, hI_hI, K0e, and_true, true_and, rtOk, fOk, ge_iff_le, Nat.reduceLeDiff, Nat.reduceAdd, Nat.reduceSub, Nat.reduceLT, c1, lit, nN, nN2, nI_add, pk_mul, nI_clamp, vpi, nI_leI, nI_ltI, nI_eq, bP_z, not_true_eq_false, not_false_eq_true, false_implies, true_implies, implies_true, Nat.le_refl, Nat.lt_irrefl, true_or, or_true, m31, pk_sub, pk_m1, bP_1, bP_em, Classical.not_not, Nat.zero_le, cI_T, cI_F, thr_e, thr_0, thr_m, vus, vun, vuu, pk_us, e_xO, e_xC, ex_e, e_mabsN, Nat.reduceEqDiff, ↓reduceIte, pk_un]
  refine cl _ _ (sX2_likens (h := h) (w := 301) (v := 333) w301 w333 (by omega) (by omega)) rfl rfl rfl rfl (by omega) (wk w301) ?_
  rintro _ h1 ⟨rfl, τ, hh, e3, r5⟩
  have a1 : ∀ a, (a < 301 ∨ 316 < a) → Same h h1 a := fun a z1 => by
    subst hh
    refine ⟨rfl, rfl, e3 a (by omega), ?_⟩
    rw [iR_hX, vun _ _ (by omega)]
  have l301 : iR h1 301 30 = iR h 333 30 := by subst hh; rw [iR_hX, vus, vus]
  have kl : ∀ a, kd h1 a = kd h a ∧ ln h1 a = ln h a := fun a => by subst hh; exact ⟨rfl, rfl⟩
  have n1 : nn h1 = nn h := by subst hh; rfl
  have s1 : sU h1 = sU h := by subst hh; rfl
  have al1 : AL h1 352 eD n cap ws := kp.1.cn (fun a _ => kl a) (by omega) (by rw [(a1 352 (by omega)).2.2.1]) (by rw [(a1 352 (by omega)).2.2.2]) (fun i hi => by
    rw [(a1 eD (by omega)).2.2.2]) (by omega)
  have q1 : kd h1 300 = 1 := by rw [(kl 300).1]; exact x300
  have q2 : iR h1 300 6 = 352 := by rw [(a1 300 (by omega)).2.2.2]; exact x6
  try simp (disch := omega) only [q1, q2, kd_stI, ln_stI, nn_stI, iI_stI, iR_stI, iJ_stI, sU_stI, kd_stR, ln_stR, nn_stR, iI_stR, iR_stR, iJ_stR, sU_stR, kd_stJ, ln_stJ, nn_stJ, iI_stJ, iR_stJ, iJ_stJ, sU_stJ, kd_alc, ln_alc, nn_alc, iI_alc, iR_alc, iJ_alc, sU_alc, e_const, e_lconst, e_null, e_iload, e_lload, e_aload, e_istore, e_astore, e_lstore, e_iinc, e_iadd, e_isub, e_imul, e_iand, e_ior, e_ixor, e_ishl, e_ishr, e_iushr, e_idiv, e_irem, e_ineg, e_i2l, e_i2b, e_i2c, e_lmul, e_lcmp, e_dup, e_pop, e_dup_x1, e_dup2, e_if_eq, e_icmp_eq, e_if_ne, e_icmp_ne, e_if_lt, e_icmp_lt, e_if_ge, e_icmp_ge, e_if_gt, e_icmp_gt, e_if_le, e_icmp_le, e_ifnull, e_ifnonnull, e_acmp_eq, e_acmp_ne, e_getI, e_getJ, e_getR, e_getSI, e_getSR, e_getEI, e_getER, e_putI, e_putJ, e_putR, e_iald, e_bald, e_zald, e_lald, e_aald, e_alen, e_iast, e_bast, e_zast, e_last, e_newa, e_new, e_newq, e_ret, e_vret, e_obj, e_mmax, e_mmin, e_ldcS, e_sref, e_exc, e_thr, e_stq, e_cast, e_castY, e_castA, e_instS, e_cpy, e_aast, e_cpyR, e_cln, e_gcl, e_ldcM, e_sw, swc_n, swc_c, kon_v, kon_r, kon_t, lg_0, lg_s, ls0, lay, List.length_cons, List.length_nil, List.replicate, List.cons_append, List.nil_append, ps, lp, List.set_cons_zero, List.set_cons_succ, jk, kd_hI, ln_hI, iI_hI, iR_hI, iJ_hI, nn_hI, sU_hI, stI_hI, hI_hI, K0e, and_true, true_and, rtOk, fOk, ge_iff_le, Nat.reduceLeDiff, Nat.reduceAdd, Nat.reduceSub, Nat.reduceLT, c1, lit, nN, nN2, nI_add, pk_mul, nI_clamp, vpi, nI_leI, nI_ltI, nI_eq, bP_z, not_true_eq_false, not_false_eq_true, false_implies, true_implies, implies_true, Nat.le_refl, Nat.lt_irrefl, true_or, or_true, m31, pk_sub, pk_m1, bP_1, bP_em, Classical.not_not, Nat.zero_le, cI_T, cI_F, thr_e, thr_0, thr_m, vus, vun, vuu, pk_us, e_xO, e_xC, ex_e, e_mabsN, Nat.reduceEqDiff, ↓reduceIte, pk_un]
  have hn12 := kp.2.1
  refine cl _ _ (sJ2_clr al1 (by omega) (by omega) (by omega)) rfl rfl rfl rfl (by omega) al1.1.1 ?_
  rintro _ h2 ⟨rfl, ⟨⟨m1, m2⟩, al2, m3, m4, m5⟩, m6⟩
  have a2' : ∀ a, a < nn h → a ≠ 352 → (a ≠ eD ∨ eD = 18) → Same h1 h2 a := fun a ha z2 z3 => by
    by_cases q : a = eD
    · have q18 : eD = 18 := by omega
      subst q
      exact ⟨(m4 a (by omega)).1, (m4 a (by omega)).2.1, m5, by rw [q18]; exact m6 q18⟩
    · obtain ⟨c1', c2, c3, c4, _⟩ := m3 a (by omega) (by simp only [List.contains_cons, List.contains_nil, Bool.or_false, Bool.or_eq_false_iff, beq_eq_false_iff_ne]; exact ⟨z2, q⟩)
      exact ⟨c1', c2, c3, c4⟩
  have a2 : ∀ a, a < nn h → (a < 301 ∨ 316 < a) → a ≠ 352 → (a ≠ eD ∨ eD = 18) → Same h h2 a := fun a ha z1 z2 z3 => (a1 a z1).trans (a2' a ha z2 z3)
  have kl2 : ∀ a, a < nn h → kd h2 a = kd h a ∧ ln h2 a = ln h a := fun a ha => ⟨(m4 a (by omega)).1.trans (kl a).1, (m4 a (by omega)).2.1.trans (kl a).2⟩
  have n2 : nn h2 = nn h := by omega
  have hs : ∀ a, (a < 300 ∨ FZ (nn h) eD n ws a) → Same h h2 a := fun a ha => by
    rcases ha with ha | ⟨f1, f2, f3, _⟩
    · exact a2 a (by omega) (by omega) (by omega) (by omega)
    · exact a2 a f2 (by omega) (by omega) (by omega)
  have hF : ∀ a, FZ (nn h) eD n ws a → FZ (nn h2) eD 0 ws a := fun a ha => by rw [n2]; exact ha.le (by omega)
  have e349 := (a2 349 (by omega) (by omega) (by omega) (by omega)).2.2.1
  have e350 := (a2 350 (by omega) (by omega) (by omega) (by omega)).2.2.1
  have e300 := (a2 300 (by omega) (by omega) (by omega) (by omega)).2.2.1
  have e333 : ∀ j, j ≤ 15 → Same h h2 (333 + j) := fun j hj => a2 _ (by omega) (by omega) (by omega) (by omega)
  have e301 : ∀ j, j ≤ 15 → Same h1 h2 (301 + j) := fun j hj => a2' _ (by omega) (by omega) (by omega)
  have l301' : iR h2 301 30 = iR h 333 30 := by rw [(e301 0 (by omega)).2.2.2]; exact l301
  have sf : SF h h2 := ⟨by omega, fun a ha => kl2 a (by omega), fun a k ha z1 z2 => by
    rw [(a2' a (by omega) z2 (by omega)).2.2.2]
    by_cases qa : a = 301
    · subst qa hh
      have hk : k ≠ 30 := fun z => z1 ⟨z, Or.inl rfl⟩
      rw [iR_hX, vus, vun _ _ hk]
    · subst hh
      rw [iR_hX, vun _ _ qa], fun a ha => (a2 a (by omega) (by omega) (by omega) (by omega)).2.2.1⟩
  have wr2 : WR (iI h2) 301 S' := by
    have : WR (iI h1) 301 S' := by
      subst hh
      exact (r5 _ l3).cg (fun i z1 _ _ => hS i z1)
    exact this.sm e301
  have kp2 : KP h2 eD cap 0 ws A := ⟨al2, by omega, heD2, fun i hi => by omega, fun i j hi _ _ => by omega⟩
  try simp (disch := omega) only [kd_stI, ln_stI, nn_stI, iI_stI, iR_stI, iJ_stI, sU_stI, kd_stR, ln_stR, nn_stR, iI_stR, iR_stR, iJ_stR, sU_stR, kd_stJ, ln_stJ, nn_stJ, iI_stJ, iR_stJ, iJ_stJ, sU_stJ, kd_alc, ln_alc, nn_alc, iI_alc, iR_alc, iJ_alc, sU_alc, e_const, e_lconst, e_null, e_iload, e_lload, e_aload, e_istore, e_astore, e_lstore, e_iinc, e_iadd, e_isub, e_imul, e_iand, e_ior, e_ixor, e_ishl, e_ishr, e_iushr, e_idiv, e_irem, e_ineg, e_i2l, e_i2b, e_i2c, e_lmul, e_lcmp, e_dup, e_pop, e_dup_x1, e_dup2, e_if_eq, e_icmp_eq, e_if_ne, e_icmp_ne, e_if_lt, e_icmp_lt, e_if_ge, e_icmp_ge, e_if_gt, e_icmp_gt, e_if_le, e_icmp_le, e_ifnull, e_ifnonnull, e_acmp_eq, e_acmp_ne, e_getI, e_getJ, e_getR, e_getSI, e_getSR, e_getEI, e_getER, e_putI, e_putJ, e_putR, e_iald, e_bald, e_zald, e_lald, e_aald, e_alen, e_iast, e_bast, e_zast, e_last, e_newa, e_new, e_newq, e_ret, e_vret, e_obj, e_mmax, e_mmin, e_ldcS, e_sref, e_exc, e_thr, e_stq, e_cast, e_castY, e_castA, e_instS, e_cpy, e_aast, e_cpyR, e_cln, e_gcl, e_ldcM, e_sw, swc_n, swc_c, kon_v, kon_r, kon_t, lg_0, lg_s, ls0, lay, List.length_cons, List.length_nil, List.replicate, List.cons_append, List.nil_append, ps, lp, List.set_cons_zero, List.set_cons_succ, jk, kd_hI, ln_hI, iI_hI, iR_hI, iJ_hI, nn_hI, sU_hI, stI_hI, hI_hI, K0e, and_true, true_and, rtOk, fOk, ge_iff_le, Nat.reduceLeDiff, Nat.reduceAdd, Nat.reduceSub, Nat.reduceLT, c1, lit, nN, nN2, nI_add, pk_mul, nI_clamp, vpi, nI_leI, nI_ltI, nI_eq, bP_z, not_true_eq_false, not_false_eq_true, false_implies, true_implies, implies_true, Nat.le_refl, Nat.lt_irrefl, true_or, or_true, m31, pk_sub, pk_m1, bP_1, bP_em, Classical.not_not, Nat.zero_le, cI_T, cI_F, thr_e, thr_0, thr_m, vus, vun, vuu, pk_us, e_xO, e_xC, ex_e, e_mabsN, Nat.reduceEqDiff, ↓reduceIte, pk_un]
  exact ⟨rfl, ⟨fun a x y => (a2 a (by omega) (by omega) (by omega) (by omega)).2.2.1, by omega, by omega, by omega⟩, sh.sf sf, wr2, ⟨eD, cap, ws, kp2, by rw [l301', hS 1 (by omega)]; exact l4.of hF hs, Or.inl ⟨hi, by rw [e300]; exact l2, l3.sm e333, by rw [(e333 0 (by omega)).2.2.2]; exact l4.of hF hs⟩⟩, by rw [e349]; exact r1, r2, by rw [e350]; exact r3, by rw [e349]; exact r4⟩
end
