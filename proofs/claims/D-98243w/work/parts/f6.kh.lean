/-! THE COMPONENT WHOLE: the law -/
set_option maxRecDepth 100000
theorem ex_o {h : MH} (k : Nat) {a : Nat} (ha : a ≠ nn h) : iI (ex h k) a = iI h a := va_up_ne _ _ ha
/-- a public method throws; memory is as told -/
def cTh (h : MH) (k c s : Nat) (Φ : MH → Prop) (o : Outcome) (h1 : MH) : Prop := o = .threw k ∧ Kx c s h h1 ∧ Φ h1
theorem Gw.agx {h h1 : MH} (hn : 396 ≤ nn h) (w : Gw h h1) : Ag h h1 := by
  obtain ⟨⟨a1, a2⟩, a3, ⟨a4, a5, a6⟩, a7⟩ := w
  refine ⟨⟨a1, fun a ha => ?_, fun a k ha _ _ => ?_, fun a ha => (a3 a (by omega) (by omega)).2.2.1⟩, a2, fun a ha => a3 a (by omega) (by omega), fun a ha => (a3 a (by omega) (by omega)).2.2.1, by rw [(a3 301 (by omega) (by omega)).2.2.2], by rw [(a3 333 (by omega) (by omega)).2.2.2], a7 1 (by omega) (by omega) (by omega), a7 5 (by omega) (by omega) (by omega), (a3 350 (by omega) (by omega)).2.2.1⟩
  · by_cases e : a = 349
    · rw [e]; exact ⟨a4, a5⟩
    · exact ⟨(a3 a (by omega) e).1, (a3 a (by omega) e).2.1⟩
  · by_cases e : a = 349
    · rw [e, a6]
    · rw [(a3 a (by omega) e).2.2.2]
section
variable {h : MH} {d : Nat} {S : Nat → Int32} {n : Nat} {A : Nat → Nat → Int32} {im : Prop} {I : Nat → Int32} {t : Nat} {T : Nat → Int32} {f : Int32} {v vI : LV}
/-- the tape is used up -/
def bgF (h : MH) : Nat → Int32 := upd (upd (upd (upd (iI h 349) 2 (iI h 349 1)) 1 (nI 0)) 3 (nI 0)) 6 (nI 0)
theorem sX3_begins (k3 : kd h 349 = 3) : RT mX3_begins d [.ref 349] h none (stI h 349 (bgF h)) := by
  refine mO rfl rfl ?_
  apply kX3_begins_0
  try simp (disch := omega) only [tX3_begins_0, k3, kd_stI, ln_stI, nn_stI, iI_stI, iR_stI, iJ_stI, sU_stI, kd_stR, ln_stR, nn_stR, iI_stR, iR_stR, iJ_stR, sU_stR, kd_stJ, ln_stJ, nn_stJ, iI_stJ, iR_stJ, iJ_stJ, sU_stJ, kd_alc, ln_alc, nn_alc, iI_alc, iR_alc, iJ_alc, sU_alc, e_const, e_lconst, e_null, e_iload, e_lload, e_aload, e_istore, e_astore, e_lstore, e_iinc, e_iadd, e_isub, e_imul, e_iand, e_ior, e_ixor, e_ishl, e_ishr, e_iushr, e_idiv, e_irem, e_ineg, e_i2l, e_i2b, e_i2c, e_lmul, e_lcmp, e_dup, e_pop, e_dup_x1, e_dup2, e_if_eq, e_icmp_eq, e_if_ne, e_icmp_ne, e_if_lt, e_icmp_lt, e_if_ge, e_icmp_ge, e_if_gt, e_icmp_gt, e_if_le, e_icmp_le, e_ifnull, e_ifnonnull, e_acmp_eq, e_acmp_ne, e_getI, e_getJ, e_getR, e_getSI, e_getSR, e_getEI, e_getER, e_putI, e_putJ, e_putR, e_iald, e_bald, e_zald, e_lald, e_aald, e_alen, e_iast, e_bast, e_zast, e_last, e_newa, e_new, e_newq, e_ret, e_vret, e_obj, e_mmax, e_mmin, e_ldcS, e_sref, e_exc, e_thr, e_stq, e_cast, e_castY, e_castA, e_instS, e_cpy, e_aast, e_cpyR, e_cln, e_gcl, e_ldcM, e_sw, swc_n, swc_c, kon_v, kon_r, kon_t, lg_0, lg_s, ls0, lay, List.length_cons, List.length_nil, List.replicate, List.cons_append, List.nil_append, ps, lp, List.set_cons_zero, List.set_cons_succ, jk, kd_hI, ln_hI, iI_hI, iR_hI, iJ_hI, nn_hI, sU_hI, stI_hI, hI_hI, K0e, and_true, true_and, rtOk, fOk, ge_iff_le, Nat.reduceLeDiff, Nat.reduceAdd, Nat.reduceSub, Nat.reduceLT, c1, lit, nN, nN2, nI_add, pk_mul, nI_clamp, vpi, nI_leI, nI_ltI, nI_eq, bP_z, not_true_eq_false, not_false_eq_true, false_implies, true_implies, implies_true, Nat.le_refl, Nat.lt_irrefl, true_or, or_true, m31, pk_sub, pk_m1, bP_1, bP_em, Classical.not_not, Nat.zero_le, cI_T, cI_F, thr_e, thr_0, thr_m, vus, vun, vuu, pk_us, e_xO, e_xC, ex_e, e_mabsN, Nat.reduceEqDiff, ↓reduceIte, pk_un]
  simp only [stI_stI]
  rfl
theorem CI.begun (c : CI h S n A im I t T f v vI) (hb : By T t) : CI (stI h 349 (bgF h)) S n A im I 0 T f v vI ∧ RX (stI h 349 (bgF h)) T t 0 0 := by
  have sh := c.1
  obtain ⟨k3, k0, k5, l5, k1, _⟩ := sh.2.2.2.1
  have hn := c.ge
  have r1 := c.2.2.2.1
  have r2 := c.2.2.2.2.1
  have r3 := c.2.2.2.2.2.1
  have r4 := c.2.2.2.2.2.2
  have c' : CI (stI h 349 (bgF h)) S n A im I 0 T f v vI := c.tape (τ := va_up (iI h) 349 (bgF h)) (fun a z1 z2 => vun _ _ z1) (by rw [vus]; rfl) (by omega) (fun k hk => by omega) (by rw [vus]; exact r4)
  refine ⟨c', ⟨⟨k3, k0, k5, l5⟩, ⟨?_, r2⟩, ⟨?_, by omega⟩, ?_, fun k hk => ?_, hb⟩, hn, c'.1.2.2.2.2.2.2.2.1, ⟨sh.2.1.1, c.x4⟩, k1⟩
  · rw [iI_stI, vus]; exact r1
  · rw [iI_stI, vus]; rfl
  · rw [iI_stI, vus]; rfl
  · rw [iI_stI, vun _ _ (by omega)]; exact r3 k hk
theorem sX1_fails (x0 : kd h 300 = 1) (x4 : iR h 300 4 = 349) (k3 : kd h 349 = 3) (hn : 396 ≤ nn h) (hd : 10 ≤ d) : TH mX1_fails d [.ref 300] h 25 (ex (stI h 349 (upd (iI h 349) 5 (iI h 349 4))) 25) := by
  refine mO rfl rfl ?_
  apply kX1_fails_0
  try simp (disch := omega) only [tX1_fails_0, x0, x4, k3, kd_stI, ln_stI, nn_stI, iI_stI, iR_stI, iJ_stI, sU_stI, kd_stR, ln_stR, nn_stR, iI_stR, iR_stR, iJ_stR, sU_stR, kd_stJ, ln_stJ, nn_stJ, iI_stJ, iR_stJ, iJ_stJ, sU_stJ, kd_alc, ln_alc, nn_alc, iI_alc, iR_alc, iJ_alc, sU_alc, e_const, e_lconst, e_null, e_iload, e_lload, e_aload, e_istore, e_astore, e_lstore, e_iinc, e_iadd, e_isub, e_imul, e_iand, e_ior, e_ixor, e_ishl, e_ishr, e_iushr, e_idiv, e_irem, e_ineg, e_i2l, e_i2b, e_i2c, e_lmul, e_lcmp, e_dup, e_pop, e_dup_x1, e_dup2, e_if_eq, e_icmp_eq, e_if_ne, e_icmp_ne, e_if_lt, e_icmp_lt, e_if_ge, e_icmp_ge, e_if_gt, e_icmp_gt, e_if_le, e_icmp_le, e_ifnull, e_ifnonnull, e_acmp_eq, e_acmp_ne, e_getI, e_getJ, e_getR, e_getSI, e_getSR, e_getEI, e_getER, e_putI, e_putJ, e_putR, e_iald, e_bald, e_zald, e_lald, e_aald, e_alen, e_iast, e_bast, e_zast, e_last, e_newa, e_new, e_newq, e_ret, e_vret, e_obj, e_mmax, e_mmin, e_ldcS, e_sref, e_exc, e_thr, e_stq, e_cast, e_castY, e_castA, e_instS, e_cpy, e_aast, e_cpyR, e_cln, e_gcl, e_ldcM, e_sw, swc_n, swc_c, kon_v, kon_r, kon_t, lg_0, lg_s, ls0, lay, List.length_cons, List.length_nil, List.replicate, List.cons_append, List.nil_append, ps, lp, List.set_cons_zero, List.set_cons_succ, jk, kd_hI, ln_hI, iI_hI, iR_hI, iJ_hI, nn_hI, sU_hI, stI_hI, hI_hI, K0e, and_true, true_and, rtOk, fOk, ge_iff_le, Nat.reduceLeDiff, Nat.reduceAdd, Nat.reduceSub, Nat.reduceLT, c1, lit, nN, nN2, nI_add, pk_mul, nI_clamp, vpi, nI_leI, nI_ltI, nI_eq, bP_z, not_true_eq_false, not_false_eq_true, false_implies, true_implies, implies_true, Nat.le_refl, Nat.lt_irrefl, true_or, or_true, m31, pk_sub, pk_m1, bP_1, bP_em, Classical.not_not, Nat.zero_le, cI_T, cI_F, thr_e, thr_0, thr_m, vus, vun, vuu, pk_us, e_xO, e_xC, ex_e, e_mabsN, Nat.reduceEqDiff, ↓reduceIte, pk_un]
  have e : kd (ex (stI h 349 (upd (iI h 349) 5 (iI h 349 4))) 25) (nn h) = 25 := va_up_self _ _ _
  rw [e]
  exact ⟨⟨by omega, Nat.le_of_ble_eq_true rfl⟩, ⟨by omega, by omega, by omega⟩, rfl⟩
/-- ints of the model and what is new, by Gw -/
theorem Gw.kx {h h1 : MH} {c s : Nat} (hn : 396 ≤ nn h) (w : Gw h h1) (h2 : nn h1 ≤ nn h + c) (h3 : sU h1 ≤ sU h + s) : Kx c s h h1 := ⟨fun a x y => (w.2.1 a (by omega) (by omega)).2.2.1, ⟨w.1.1, h2⟩, w.1.2, h3⟩
theorem pX1_law_no (c : CI h S n A im I t T f v vI) (hb : By T t) (hd : 40 ≤ d) {b : Nat} (hr : lawR T t = .inl b) : WPm mX1_law d [.ref 300] h (cTh h 25 (60 * t + 160) (5500 * t + 9100) (fun h1 => CI h1 S n A im I 0 T (nI b) v vI)) := by
  have x4 := c.x4
  have hx := c.x0
  have hn := c.ge
  have k3 := c.1.2.2.2.1.1
  obtain ⟨c1', r1⟩ := c.begun hb
  refine mO rfl rfl ?_
  apply kX1_law_0
  try simp (disch := omega) only [tX1_law_0, xk hx, x4, kd_stI, ln_stI, nn_stI, iI_stI, iR_stI, iJ_stI, sU_stI, kd_stR, ln_stR, nn_stR, iI_stR, iR_stR, iJ_stR, sU_stR, kd_stJ, ln_stJ, nn_stJ, iI_stJ, iR_stJ, iJ_stJ, sU_stJ, kd_alc, ln_alc, nn_alc, iI_alc, iR_alc, iJ_alc, sU_alc, e_const, e_lconst, e_null, e_iload, e_lload, e_aload, e_istore, e_astore, e_lstore, e_iinc, e_iadd, e_isub, e_imul, e_iand, e_ior, e_ixor, e_ishl, e_ishr, e_iushr, e_idiv, e_irem, e_ineg, e_i2l, e_i2b, e_i2c, e_lmul, e_lcmp, e_dup, e_pop, e_dup_x1, e_dup2, e_if_eq, e_icmp_eq, e_if_ne, e_icmp_ne, e_if_lt, e_icmp_lt, e_if_ge, e_icmp_ge, e_if_gt, e_icmp_gt, e_if_le, e_icmp_le, e_ifnull, e_ifnonnull, e_acmp_eq, e_acmp_ne, e_getI, e_getJ, e_getR, e_getSI, e_getSR, e_getEI, e_getER, e_putI, e_putJ, e_putR, e_iald, e_bald, e_zald, e_lald, e_aald, e_alen, e_iast, e_bast, e_zast, e_last, e_newa, e_new, e_newq, e_ret, e_vret, e_obj, e_mmax, e_mmin, e_ldcS, e_sref, e_exc, e_thr, e_stq, e_cast, e_castY, e_castA, e_instS, e_cpy, e_aast, e_cpyR, e_cln, e_gcl, e_ldcM, e_sw, swc_n, swc_c, kon_v, kon_r, kon_t, lg_0, lg_s, ls0, lay, List.length_cons, List.length_nil, List.replicate, List.cons_append, List.nil_append, ps, lp, List.set_cons_zero, List.set_cons_succ, jk, kd_hI, ln_hI, iI_hI, iR_hI, iJ_hI, nn_hI, sU_hI, stI_hI, hI_hI, K0e, and_true, true_and, rtOk, fOk, ge_iff_le, Nat.reduceLeDiff, Nat.reduceAdd, Nat.reduceSub, Nat.reduceLT, c1, lit, nN, nN2, nI_add, pk_mul, nI_clamp, vpi, nI_leI, nI_ltI, nI_eq, bP_z, not_true_eq_false, not_false_eq_true, false_implies, true_implies, implies_true, Nat.le_refl, Nat.lt_irrefl, true_or, or_true, m31, pk_sub, pk_m1, bP_1, bP_em, Classical.not_not, Nat.zero_le, cI_T, cI_F, thr_e, thr_0, thr_m, vus, vun, vuu, pk_us, e_xO, e_xC, ex_e, e_mabsN, Nat.reduceEqDiff, ↓reduceIte, pk_un]
  refine cV (sX3_begins k3) rfl rfl rfl rfl (by omega) k3 ?_
  generalize hg : stI h 349 (bgF h) = g at c1' r1
  have n1 : nn g = nn h := by subst hg; rfl
  have s1 : sU g = sU h := by subst hg; rfl
  have gm : ∀ a, a ≠ 349 → iI g a = iI h a := fun a ha => by subst hg; rw [iI_stI, vun _ _ ha]
  have hx1 := c1'.x0
  try simp (disch := omega) only [xk hx1, xr hx1, kd_stI, ln_stI, nn_stI, iI_stI, iR_stI, iJ_stI, sU_stI, kd_stR, ln_stR, nn_stR, iI_stR, iR_stR, iJ_stR, sU_stR, kd_stJ, ln_stJ, nn_stJ, iI_stJ, iR_stJ, iJ_stJ, sU_stJ, kd_alc, ln_alc, nn_alc, iI_alc, iR_alc, iJ_alc, sU_alc, e_const, e_lconst, e_null, e_iload, e_lload, e_aload, e_istore, e_astore, e_lstore, e_iinc, e_iadd, e_isub, e_imul, e_iand, e_ior, e_ixor, e_ishl, e_ishr, e_iushr, e_idiv, e_irem, e_ineg, e_i2l, e_i2b, e_i2c, e_lmul, e_lcmp, e_dup, e_pop, e_dup_x1, e_dup2, e_if_eq, e_icmp_eq, e_if_ne, e_icmp_ne, e_if_lt, e_icmp_lt, e_if_ge, e_icmp_ge, e_if_gt, e_icmp_gt, e_if_le, e_icmp_le, e_ifnull, e_ifnonnull, e_acmp_eq, e_acmp_ne, e_getI, e_getJ, e_getR, e_getSI, e_getSR, e_getEI, e_getER, e_putI, e_putJ, e_putR, e_iald, e_bald, e_zald, e_lald, e_aald, e_alen, e_iast, e_bast, e_zast, e_last, e_newa, e_new, e_newq, e_ret, e_vret, e_obj, e_mmax, e_mmin, e_ldcS, e_sref, e_exc, e_thr, e_stq, e_cast, e_castY, e_castA, e_instS, e_cpy, e_aast, e_cpyR, e_cln, e_gcl, e_ldcM, e_sw, swc_n, swc_c, kon_v, kon_r, kon_t, lg_0, lg_s, ls0, lay, List.length_cons, List.length_nil, List.replicate, List.cons_append, List.nil_append, ps, lp, List.set_cons_zero, List.set_cons_succ, jk, kd_hI, ln_hI, iI_hI, iR_hI, iJ_hI, nn_hI, sU_hI, stI_hI, hI_hI, K0e, and_true, true_and, rtOk, fOk, ge_iff_le, Nat.reduceLeDiff, Nat.reduceAdd, Nat.reduceSub, Nat.reduceLT, c1, lit, nN, nN2, nI_add, pk_mul, nI_clamp, vpi, nI_leI, nI_ltI, nI_eq, bP_z, not_true_eq_false, not_false_eq_true, false_implies, true_implies, implies_true, Nat.le_refl, Nat.lt_irrefl, true_or, or_true, m31, pk_sub, pk_m1, bP_1, bP_em, Classical.not_not, Nat.zero_le, cI_T, cI_F, thr_e, thr_0, thr_m, vus, vun, vuu, pk_us, e_xO, e_xC, ex_e, e_mabsN, Nat.reduceEqDiff, ↓reduceIte, pk_un]
  refine cl _ _ (sX1_lawText r1 (d := d - 1) (by omega)) rfl rfl rfl rfl (by omega) (xk hx1) ?_
  rintro o1 g2 ⟨G2, q1, hP⟩
  rw [hr] at hP
  obtain ⟨rfl, b4⟩ := hP
  have c2' := c1'.ag (G2.agx r1.2.1)
  have n2 := G2.1.1
  have s2 := G2.1.2
  try simp (disch := omega) only [kd_stI, ln_stI, nn_stI, iI_stI, iR_stI, iJ_stI, sU_stI, kd_stR, ln_stR, nn_stR, iI_stR, iR_stR, iJ_stR, sU_stR, kd_stJ, ln_stJ, nn_stJ, iI_stJ, iR_stJ, iJ_stJ, sU_stJ, kd_alc, ln_alc, nn_alc, iI_alc, iR_alc, iJ_alc, sU_alc, e_const, e_lconst, e_null, e_iload, e_lload, e_aload, e_istore, e_astore, e_lstore, e_iinc, e_iadd, e_isub, e_imul, e_iand, e_ior, e_ixor, e_ishl, e_ishr, e_iushr, e_idiv, e_irem, e_ineg, e_i2l, e_i2b, e_i2c, e_lmul, e_lcmp, e_dup, e_pop, e_dup_x1, e_dup2, e_if_eq, e_icmp_eq, e_if_ne, e_icmp_ne, e_if_lt, e_icmp_lt, e_if_ge, e_icmp_ge, e_if_gt, e_icmp_gt, e_if_le, e_icmp_le, e_ifnull, e_ifnonnull, e_acmp_eq, e_acmp_ne, e_getI, e_getJ, e_getR, e_getSI, e_getSR, e_getEI, e_getER, e_putI, e_putJ, e_putR, e_iald, e_bald, e_zald, e_lald, e_aald, e_alen, e_iast, e_bast, e_zast, e_last, e_newa, e_new, e_newq, e_ret, e_vret, e_obj, e_mmax, e_mmin, e_ldcS, e_sref, e_exc, e_thr, e_stq, e_cast, e_castY, e_castA, e_instS, e_cpy, e_aast, e_cpyR, e_cln, e_gcl, e_ldcM, e_sw, swc_n, swc_c, kon_v, kon_r, kon_t, lg_0, lg_s, ls0, lay, List.length_cons, List.length_nil, List.replicate, List.cons_append, List.nil_append, ps, lp, List.set_cons_zero, List.set_cons_succ, jk, kd_hI, ln_hI, iI_hI, iR_hI, iJ_hI, nn_hI, sU_hI, stI_hI, hI_hI, K0e, and_true, true_and, rtOk, fOk, ge_iff_le, Nat.reduceLeDiff, Nat.reduceAdd, Nat.reduceSub, Nat.reduceLT, c1, lit, nN, nN2, nI_add, pk_mul, nI_clamp, vpi, nI_leI, nI_ltI, nI_eq, bP_z, not_true_eq_false, not_false_eq_true, false_implies, true_implies, implies_true, Nat.le_refl, Nat.lt_irrefl, true_or, or_true, m31, pk_sub, pk_m1, bP_1, bP_em, Classical.not_not, Nat.zero_le, cI_T, cI_F, thr_e, thr_0, thr_m, vus, vun, vuu, pk_us, e_xO, e_xC, ex_e, e_mabsN, Nat.reduceEqDiff, ↓reduceIte, pk_un]
  refine cT (sX1_fails (h := g2) c2'.x0.1 c2'.x4 c2'.1.2.2.2.1.1 c2'.ge (by omega)) rfl rfl rfl rfl (by omega) c2'.x0.1 ?_
  try simp (disch := omega) only [kd_stI, ln_stI, nn_stI, iI_stI, iR_stI, iJ_stI, sU_stI, kd_stR, ln_stR, nn_stR, iI_stR, iR_stR, iJ_stR, sU_stR, kd_stJ, ln_stJ, nn_stJ, iI_stJ, iR_stJ, iJ_stJ, sU_stJ, kd_alc, ln_alc, nn_alc, iI_alc, iR_alc, iJ_alc, sU_alc, e_const, e_lconst, e_null, e_iload, e_lload, e_aload, e_istore, e_astore, e_lstore, e_iinc, e_iadd, e_isub, e_imul, e_iand, e_ior, e_ixor, e_ishl, e_ishr, e_iushr, e_idiv, e_irem, e_ineg, e_i2l, e_i2b, e_i2c, e_lmul, e_lcmp, e_dup, e_pop, e_dup_x1, e_dup2, e_if_eq, e_icmp_eq, e_if_ne, e_icmp_ne, e_if_lt, e_icmp_lt, e_if_ge, e_icmp_ge, e_if_gt, e_icmp_gt, e_if_le, e_icmp_le, e_ifnull, e_ifnonnull, e_acmp_eq, e_acmp_ne, e_getI, e_getJ, e_getR, e_getSI, e_getSR, e_getEI, e_getER, e_putI, e_putJ, e_putR, e_iald, e_bald, e_zald, e_lald, e_aald, e_alen, e_iast, e_bast, e_zast, e_last, e_newa, e_new, e_newq, e_ret, e_vret, e_obj, e_mmax, e_mmin, e_ldcS, e_sref, e_exc, e_thr, e_stq, e_cast, e_castY, e_castA, e_instS, e_cpy, e_aast, e_cpyR, e_cln, e_gcl, e_ldcM, e_sw, swc_n, swc_c, kon_v, kon_r, kon_t, lg_0, lg_s, ls0, lay, List.length_cons, List.length_nil, List.replicate, List.cons_append, List.nil_append, ps, lp, List.set_cons_zero, List.set_cons_succ, jk, kd_hI, ln_hI, iI_hI, iR_hI, iJ_hI, nn_hI, sU_hI, stI_hI, hI_hI, K0e, and_true, true_and, rtOk, fOk, ge_iff_le, Nat.reduceLeDiff, Nat.reduceAdd, Nat.reduceSub, Nat.reduceLT, c1, lit, nN, nN2, nI_add, pk_mul, nI_clamp, vpi, nI_leI, nI_ltI, nI_eq, bP_z, not_true_eq_false, not_false_eq_true, false_implies, true_implies, implies_true, Nat.le_refl, Nat.lt_irrefl, true_or, or_true, m31, pk_sub, pk_m1, bP_1, bP_em, Classical.not_not, Nat.zero_le, cI_T, cI_F, thr_e, thr_0, thr_m, vus, vun, vuu, pk_us, e_xO, e_xC, ex_e, e_mabsN, Nat.reduceEqDiff, ↓reduceIte, pk_un]
  have c3' : CI (stI g2 349 (upd (iI g2 349) 5 (iI g2 349 4))) S n A im I 0 T (nI b) v vI := c2'.tape (τ := va_up (iI g2) 349 (upd (iI g2 349) 5 (iI g2 349 4))) (fun a z1 z2 => vun _ _ z1) (by rw [vus, pk_un (by omega)]; exact c2'.2.2.2.1) (by omega) (fun k hk => by omega) (by rw [vus, pk_us]; exact b4)
  refine ⟨rfl, ⟨fun a x y => ?_, ⟨?_, ?_⟩, ?_, ?_⟩, c3'.ag (Ag_ex c3'.ge 25)⟩
  · rw [ex_o 25 (show a ≠ nn (stI g2 349 (upd (iI g2 349) 5 (iI g2 349 4))) from (show a ≠ nn g2 by omega)), iI_stI, vun _ _ (by omega), (G2.2.1 a (by omega) (by omega)).2.2.1]
    exact gm a (by omega)
  · show nn h ≤ nn g2 + 1; omega
  · show nn g2 + 1 ≤ nn h + _; omega
  · show sU h ≤ sU g2 + 6; omega
  · show sU g2 + 6 ≤ sU h + _; omega
end
