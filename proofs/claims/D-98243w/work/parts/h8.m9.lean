/-! THE COMPONENT WHOLE: the town -/
set_option maxRecDepth 100000
theorem Gd.agx {h h1 : MH} (hn : 396 ≤ nn h) (w : Gd h h1) : Ag h h1 := by
  obtain ⟨⟨a1, a2⟩, a3, a8, ⟨a4, a5, a6⟩, a7⟩ := w
  refine ⟨⟨a1, fun a ha => ?_, fun a k ha _ _ => ?_, fun a ha => (a3 a (by omega) (by omega) (by omega)).2.2.1⟩, a2, fun a ha => a3 a (by omega) (by omega) (by omega), fun a ha => (a3 a (by omega) (by omega) (by omega)).2.2.1, by rw [(a3 301 (by omega) (by omega) (by omega)).2.2.2], by rw [(a3 333 (by omega) (by omega) (by omega)).2.2.2], a7 1 (by omega) (by omega) (by omega), a7 5 (by omega) (by omega) (by omega), (a3 350 (by omega) (by omega) (by omega)).2.2.1⟩
  · by_cases e : a = 349
    · rw [e]; exact ⟨a4, a5⟩
    · by_cases q : a < 317 ∨ 332 < a
      · exact ⟨(a3 a (by omega) e q).1, (a3 a (by omega) e q).2.1⟩
      · exact ⟨(a8 a (by omega) (by omega)).1, (a8 a (by omega) (by omega)).2.1⟩
  · by_cases e : a = 349
    · rw [e, a6]
    · by_cases q : a < 317 ∨ 332 < a
      · rw [(a3 a (by omega) e q).2.2.2]
      · rw [(a8 a (by omega) (by omega)).2.2]
section
variable {h : MH} {d : Nat} {S : Nat → Int32} {n : Nat} {A : Nat → Nat → Int32} {im : Prop} {I : Nat → Int32} {t : Nat} {T : Nat → Int32} {f : Int32} {v vI : LV}
/-- what town gives -/
def twP (h : MH) (S : Nat → Int32) (n : Nat) (A : Nat → Nat → Int32) (im : Prop) (I : Nat → Int32) (t : Nat) (T : Nat → Int32) (v vI : LV) (o : Outcome) (h1 : MH) : Prop := Kx (60 * t + 110) (5500 * t + 9010) h h1 ∧ match townR T t S with
  | .inl b => o = .threw 25 ∧ CI h1 S n A im I 0 T (nI b) v vI
  | .inr z => (S 0 = nI 12 ∧ o = .threw 29 ∧ CI h1 S n A im I 0 T N1 v vI) ∨ (¬ S 0 = nI 12 ∧ o = .returned (some (.int (S 0 + nI 1))) ∧ CI h1 (upd z.1 0 (S 0 + nI 1)) 0 A im I 0 T N1 v vI)
theorem pX1_town (c : CI h S n A im I t T f v vI) (iv : Iv S) (hb : By T t) (hd : 24 ≤ d) : WPm mX1_town d [.ref 300] h (twP h S n A im I t T v vI) := by
  have x4 := c.x4
  have hx := c.x0
  have hn := c.ge
  have k3 := c.1.2.2.2.1.1
  obtain ⟨c1', r1⟩ := c.begun hb
  refine mO rfl rfl ?_
  apply kX1_town_0
  try simp (disch := omega) only [tX1_town_0, xk hx, x4, kd_stI, ln_stI, nn_stI, iI_stI, iR_stI, iJ_stI, sU_stI, kd_stR, ln_stR, nn_stR, iI_stR, iR_stR, iJ_stR, sU_stR, kd_stJ, ln_stJ, nn_stJ, iI_stJ, iR_stJ, iJ_stJ, sU_stJ, kd_alc, ln_alc, nn_alc, iI_alc, iR_alc, iJ_alc, sU_alc, e_const, e_lconst, e_null, e_iload, e_lload, e_aload, e_istore, e_astore, e_lstore, e_iinc, e_iadd, e_isub, e_imul, e_iand, e_ior, e_ixor, e_ishl, e_ishr, e_iushr, e_idiv, e_irem, e_ineg, e_i2l, e_i2b, e_i2c, e_lmul, e_lcmp, e_dup, e_pop, e_dup_x1, e_dup2, e_if_eq, e_icmp_eq, e_if_ne, e_icmp_ne, e_if_lt, e_icmp_lt, e_if_ge, e_icmp_ge, e_if_gt, e_icmp_gt, e_if_le, e_icmp_le, e_ifnull, e_ifnonnull, e_acmp_eq, e_acmp_ne, e_getI, e_getJ, e_getR, e_getSI, e_getSR, e_getEI, e_getER, e_putI, e_putJ, e_putR, e_iald, e_bald, e_zald, e_lald, e_aald, e_alen, e_iast, e_bast, e_zast, e_last, e_newa, e_new, e_newq, e_ret, e_vret, e_obj, e_mmax, e_mmin, e_ldcS, e_sref, e_exc, e_thr, e_stq, e_cast, e_castY, e_castA, e_instS, e_cpy, e_aast, e_cpyR, e_cln, e_gcl, e_ldcM, e_sw, swc_n, swc_c, kon_v, kon_r, kon_t, lg_0, lg_s, ls0, lay, List.length_cons, List.length_nil, List.replicate, List.cons_append, List.nil_append, ps, lp, List.set_cons_zero, List.set_cons_succ, jk, kd_hI, ln_hI, iI_hI, iR_hI, iJ_hI, nn_hI, sU_hI, stI_hI, hI_hI, K0e, and_true, true_and, rtOk, fOk, ge_iff_le, Nat.reduceLeDiff, Nat.reduceAdd, Nat.reduceSub, Nat.reduceLT, c1, lit, nN, nN2, nI_add, pk_mul, nI_clamp, vpi, nI_leI, nI_ltI, nI_eq, bP_z, not_true_eq_false, not_false_eq_true, false_implies, true_implies, implies_true, Nat.le_refl, Nat.lt_irrefl, true_or, or_true, m31, pk_sub, pk_m1, bP_1, bP_em, Classical.not_not, Nat.zero_le, cI_T, cI_F, thr_e, thr_0, thr_m, vus, vun, vuu, pk_us, e_xO, e_xC, ex_e, e_mabsN, Nat.reduceEqDiff, ↓reduceIte, pk_un]
  refine cV (sX3_begins k3) rfl rfl rfl rfl (by omega) k3 ?_
  generalize hg : stI h 349 (bgF h) = g at c1' r1
  have n1 : nn g = nn h := by subst hg; rfl
  have s1 : sU g = sU h := by subst hg; rfl
  have gm : ∀ a, a ≠ 349 → iI g a = iI h a := fun a ha => by subst hg; rw [iI_stI, vun _ _ ha]
  have hx1 := c1'.x0
  have x1 : iR g 300 1 = 317 := c1'.1.2.1.2.2.1
  try simp (disch := omega) only [xk hx1, xr hx1, x1, kd_stI, ln_stI, nn_stI, iI_stI, iR_stI, iJ_stI, sU_stI, kd_stR, ln_stR, nn_stR, iI_stR, iR_stR, iJ_stR, sU_stR, kd_stJ, ln_stJ, nn_stJ, iI_stJ, iR_stJ, iJ_stJ, sU_stJ, kd_alc, ln_alc, nn_alc, iI_alc, iR_alc, iJ_alc, sU_alc, e_const, e_lconst, e_null, e_iload, e_lload, e_aload, e_istore, e_astore, e_lstore, e_iinc, e_iadd, e_isub, e_imul, e_iand, e_ior, e_ixor, e_ishl, e_ishr, e_iushr, e_idiv, e_irem, e_ineg, e_i2l, e_i2b, e_i2c, e_lmul, e_lcmp, e_dup, e_pop, e_dup_x1, e_dup2, e_if_eq, e_icmp_eq, e_if_ne, e_icmp_ne, e_if_lt, e_icmp_lt, e_if_ge, e_icmp_ge, e_if_gt, e_icmp_gt, e_if_le, e_icmp_le, e_ifnull, e_ifnonnull, e_acmp_eq, e_acmp_ne, e_getI, e_getJ, e_getR, e_getSI, e_getSR, e_getEI, e_getER, e_putI, e_putJ, e_putR, e_iald, e_bald, e_zald, e_lald, e_aald, e_alen, e_iast, e_bast, e_zast, e_last, e_newa, e_new, e_newq, e_ret, e_vret, e_obj, e_mmax, e_mmin, e_ldcS, e_sref, e_exc, e_thr, e_stq, e_cast, e_castY, e_castA, e_instS, e_cpy, e_aast, e_cpyR, e_cln, e_gcl, e_ldcM, e_sw, swc_n, swc_c, kon_v, kon_r, kon_t, lg_0, lg_s, ls0, lay, List.length_cons, List.length_nil, List.replicate, List.cons_append, List.nil_append, ps, lp, List.set_cons_zero, List.set_cons_succ, jk, kd_hI, ln_hI, iI_hI, iR_hI, iJ_hI, nn_hI, sU_hI, stI_hI, hI_hI, K0e, and_true, true_and, rtOk, fOk, ge_iff_le, Nat.reduceLeDiff, Nat.reduceAdd, Nat.reduceSub, Nat.reduceLT, c1, lit, nN, nN2, nI_add, pk_mul, nI_clamp, vpi, nI_leI, nI_ltI, nI_eq, bP_z, not_true_eq_false, not_false_eq_true, false_implies, true_implies, implies_true, Nat.le_refl, Nat.lt_irrefl, true_or, or_true, m31, pk_sub, pk_m1, bP_1, bP_em, Classical.not_not, Nat.zero_le, cI_T, cI_F, thr_e, thr_0, thr_m, vus, vun, vuu, pk_us, e_xO, e_xC, ex_e, e_mabsN, Nat.reduceEqDiff, ↓reduceIte, pk_un]
  have w317 := c1'.1.2.2.1.2.1
  have w301 := c1'.1.2.2.1.1
  refine cl _ _ (sX2_likens (h := g) (w := 317) (v := 301) w317 w301 (by omega) (by omega)) rfl rfl rfl rfl (by omega) (wk w317) ?_
  rintro _ g1 ⟨rfl, τ, hh, e3, r5⟩
  have a1 : ∀ a, (a < 317 ∨ 332 < a) → Same g g1 a := fun a z1 => by
    subst hh
    refine ⟨rfl, rfl, e3 a (by omega), ?_⟩
    rw [iR_hX, vun _ _ (by omega)]
  have l317 : iR g1 317 30 = iR g 301 30 := by subst hh; rw [iR_hX, vus, vus]
  have r317 : ∀ k, k ≠ 30 → iR g1 317 k = iR g 317 k := fun k hk => by subst hh; rw [iR_hX, vus, vun _ _ hk]
  have r318 : ∀ x, x ≠ 317 → iR g1 x = iR g x := fun x hx => by subst hh; rw [iR_hX, vun _ _ hx]
  have kl : ∀ a, kd g1 a = kd g a ∧ ln g1 a = ln g a := fun a => by subst hh; exact ⟨rfl, rfl⟩
  have n2 : nn g1 = nn g := by subst hh; rfl
  have s2 : sU g1 = sU g := by subst hh; rfl
  have hng := c1'.ge
  have ag1 : Ag g g1 := ⟨⟨by omega, fun a _ => kl a, fun a k ha z1 z2 => by
      by_cases q : a = 317
      · subst q
        exact r317 k (fun z => z1 ⟨z, Or.inr (Or.inl rfl)⟩)
      · rw [r318 a q], fun a ha => (a1 a (by omega)).2.2.1⟩, by omega, fun a ha => a1 a (by omega), fun a ha => (a1 a (by omega)).2.2.1, by rw [(a1 301 (by omega)).2.2.2], by rw [(a1 333 (by omega)).2.2.2], by rw [(a1 349 (by omega)).2.2.1], by rw [(a1 349 (by omega)).2.2.1], (a1 350 (by omega)).2.2.1⟩
  have c2' := c1'.ag ag1
  have wr1 : WR (iI g1) 317 S := by
    have := r5 S c1'.2.1
    subst hh
    exact this
  have r2 : RX g1 T t 0 0 := by
    obtain ⟨q1, q2, q3, q4, q5⟩ := r1
    have e349 := a1 349 (by omega)
    have e350 := a1 350 (by omega)
    have e300 := a1 300 (by omega)
    obtain ⟨⟨y1, y2, y3, y4⟩, ⟨y5, y6⟩, ⟨y7, y8⟩, y9, y10, y11⟩ := q1
    exact ⟨⟨⟨by rw [e349.1]; exact y1, by rw [e349.2.2.2]; exact y2, by rw [e350.1]; exact y3, by rw [e350.2.1]; exact y4⟩, ⟨by rw [e349.2.2.1]; exact y5, y6⟩, ⟨by rw [e349.2.2.1]; exact y7, y8⟩, by rw [e349.2.2.1]; exact y9, fun k hk => by rw [e350.2.2.1]; exact y10 k hk, y11⟩, by omega, q3.sm (fun a ha => a1 a (by omega)), ⟨by rw [e300.1]; exact q4.1, by rw [e300.2.2.2]; exact q4.2⟩, by rw [(a1 351 (by omega)).1]; exact q5⟩
  have hx2 := c2'.x0
  have x12 : iR g1 300 1 = 317 := c2'.1.2.1.2.2.1
  try simp (disch := omega) only [xk hx2, x12, kd_stI, ln_stI, nn_stI, iI_stI, iR_stI, iJ_stI, sU_stI, kd_stR, ln_stR, nn_stR, iI_stR, iR_stR, iJ_stR, sU_stR, kd_stJ, ln_stJ, nn_stJ, iI_stJ, iR_stJ, iJ_stJ, sU_stJ, kd_alc, ln_alc, nn_alc, iI_alc, iR_alc, iJ_alc, sU_alc, e_const, e_lconst, e_null, e_iload, e_lload, e_aload, e_istore, e_astore, e_lstore, e_iinc, e_iadd, e_isub, e_imul, e_iand, e_ior, e_ixor, e_ishl, e_ishr, e_iushr, e_idiv, e_irem, e_ineg, e_i2l, e_i2b, e_i2c, e_lmul, e_lcmp, e_dup, e_pop, e_dup_x1, e_dup2, e_if_eq, e_icmp_eq, e_if_ne, e_icmp_ne, e_if_lt, e_icmp_lt, e_if_ge, e_icmp_ge, e_if_gt, e_icmp_gt, e_if_le, e_icmp_le, e_ifnull, e_ifnonnull, e_acmp_eq, e_acmp_ne, e_getI, e_getJ, e_getR, e_getSI, e_getSR, e_getEI, e_getER, e_putI, e_putJ, e_putR, e_iald, e_bald, e_zald, e_lald, e_aald, e_alen, e_iast, e_bast, e_zast, e_last, e_newa, e_new, e_newq, e_ret, e_vret, e_obj, e_mmax, e_mmin, e_ldcS, e_sref, e_exc, e_thr, e_stq, e_cast, e_castY, e_castA, e_instS, e_cpy, e_aast, e_cpyR, e_cln, e_gcl, e_ldcM, e_sw, swc_n, swc_c, kon_v, kon_r, kon_t, lg_0, lg_s, ls0, lay, List.length_cons, List.length_nil, List.replicate, List.cons_append, List.nil_append, ps, lp, List.set_cons_zero, List.set_cons_succ, jk, kd_hI, ln_hI, iI_hI, iR_hI, iJ_hI, nn_hI, sU_hI, stI_hI, hI_hI, K0e, and_true, true_and, rtOk, fOk, ge_iff_le, Nat.reduceLeDiff, Nat.reduceAdd, Nat.reduceSub, Nat.reduceLT, c1, lit, nN, nN2, nI_add, pk_mul, nI_clamp, vpi, nI_leI, nI_ltI, nI_eq, bP_z, not_true_eq_false, not_false_eq_true, false_implies, true_implies, implies_true, Nat.le_refl, Nat.lt_irrefl, true_or, or_true, m31, pk_sub, pk_m1, bP_1, bP_em, Classical.not_not, Nat.zero_le, cI_T, cI_F, thr_e, thr_0, thr_m, vus, vun, vuu, pk_us, e_xO, e_xC, ex_e, e_mabsN, Nat.reduceEqDiff, ↓reduceIte, pk_un]
  refine cl _ _ (sX1_townText (d := d - 1) ⟨r2, c2'.1.2.2.1.2.1, wr1⟩ iv (by omega)) rfl rfl rfl rfl (by omega) (xk hx2) ?_
  rintro o1 g2 ⟨D2, q1, hP⟩
  have c3' := c2'.ag (D2.agx r2.2.1)
  have n3 := D2.1.1
  have s3 := D2.1.2
  have gm2 : ∀ a, 380 ≤ a → a < 396 → iI g2 a = iI h a := fun a x y => by rw [(D2.2.1 a (by omega) (by omega) (by omega)).2.2.1, (a1 a (by omega)).2.2.1]; exact gm a (by omega)
  have l317' : iR g2 317 30 = iR g2 301 30 := by rw [(D2.2.2.1 317 (by omega) (by omega)).2.2, (D2.2.1 301 (by omega) (by omega) (by omega)).2.2.2, (a1 301 (by omega)).2.2.2]; exact l317
  have tv := townR_i (T := T) (e := t) iv
  unfold twP
  cases hF : townR T t S with
  | inl b =>
    rw [hF] at hP
    obtain ⟨rfl, b4⟩ := hP
    try simp (disch := omega) only [kd_stI, ln_stI, nn_stI, iI_stI, iR_stI, iJ_stI, sU_stI, kd_stR, ln_stR, nn_stR, iI_stR, iR_stR, iJ_stR, sU_stR, kd_stJ, ln_stJ, nn_stJ, iI_stJ, iR_stJ, iJ_stJ, sU_stJ, kd_alc, ln_alc, nn_alc, iI_alc, iR_alc, iJ_alc, sU_alc, e_const, e_lconst, e_null, e_iload, e_lload, e_aload, e_istore, e_astore, e_lstore, e_iinc, e_iadd, e_isub, e_imul, e_iand, e_ior, e_ixor, e_ishl, e_ishr, e_iushr, e_idiv, e_irem, e_ineg, e_i2l, e_i2b, e_i2c, e_lmul, e_lcmp, e_dup, e_pop, e_dup_x1, e_dup2, e_if_eq, e_icmp_eq, e_if_ne, e_icmp_ne, e_if_lt, e_icmp_lt, e_if_ge, e_icmp_ge, e_if_gt, e_icmp_gt, e_if_le, e_icmp_le, e_ifnull, e_ifnonnull, e_acmp_eq, e_acmp_ne, e_getI, e_getJ, e_getR, e_getSI, e_getSR, e_getEI, e_getER, e_putI, e_putJ, e_putR, e_iald, e_bald, e_zald, e_lald, e_aald, e_alen, e_iast, e_bast, e_zast, e_last, e_newa, e_new, e_newq, e_ret, e_vret, e_obj, e_mmax, e_mmin, e_ldcS, e_sref, e_exc, e_thr, e_stq, e_cast, e_castY, e_castA, e_instS, e_cpy, e_aast, e_cpyR, e_cln, e_gcl, e_ldcM, e_sw, swc_n, swc_c, kon_v, kon_r, kon_t, lg_0, lg_s, ls0, lay, List.length_cons, List.length_nil, List.replicate, List.cons_append, List.nil_append, ps, lp, List.set_cons_zero, List.set_cons_succ, jk, kd_hI, ln_hI, iI_hI, iR_hI, iJ_hI, nn_hI, sU_hI, stI_hI, hI_hI, K0e, and_true, true_and, rtOk, fOk, ge_iff_le, Nat.reduceLeDiff, Nat.reduceAdd, Nat.reduceSub, Nat.reduceLT, c1, lit, nN, nN2, nI_add, pk_mul, nI_clamp, vpi, nI_leI, nI_ltI, nI_eq, bP_z, not_true_eq_false, not_false_eq_true, false_implies, true_implies, implies_true, Nat.le_refl, Nat.lt_irrefl, true_or, or_true, m31, pk_sub, pk_m1, bP_1, bP_em, Classical.not_not, Nat.zero_le, cI_T, cI_F, thr_e, thr_0, thr_m, vus, vun, vuu, pk_us, e_xO, e_xC, ex_e, e_mabsN, Nat.reduceEqDiff, ↓reduceIte, pk_un]
    refine cT (sX1_fails (h := g2) c3'.x0.1 c3'.x4 c3'.1.2.2.2.1.1 c3'.ge (by omega)) rfl rfl rfl rfl (by omega) c3'.x0.1 ?_
    try simp (disch := omega) only [kd_stI, ln_stI, nn_stI, iI_stI, iR_stI, iJ_stI, sU_stI, kd_stR, ln_stR, nn_stR, iI_stR, iR_stR, iJ_stR, sU_stR, kd_stJ, ln_stJ, nn_stJ, iI_stJ, iR_stJ, iJ_stJ, sU_stJ, kd_alc, ln_alc, nn_alc, iI_alc, iR_alc, iJ_alc, sU_alc, e_const, e_lconst, e_null, e_iload, e_lload, e_aload, e_istore, e_astore, e_lstore, e_iinc, e_iadd, e_isub, e_imul, e_iand, e_ior, e_ixor, e_ishl, e_ishr, e_iushr, e_idiv, e_irem, e_ineg, e_i2l, e_i2b, e_i2c, e_lmul, e_lcmp, e_dup, e_pop, e_dup_x1, e_dup2, e_if_eq, e_icmp_eq, e_if_ne, e_icmp_ne, e_if_lt, e_icmp_lt, e_if_ge, e_icmp_ge, e_if_gt, e_icmp_gt, e_if_le, e_icmp_le, e_ifnull, e_ifnonnull, e_acmp_eq, e_acmp_ne, e_getI, e_getJ, e_getR, e_getSI, e_getSR, e_getEI, e_getER, e_putI, e_putJ, e_putR, e_iald, e_bald, e_zald, e_lald, e_aald, e_alen, e_iast, e_bast, e_zast, e_last, e_newa, e_new, e_newq, e_ret, e_vret, e_obj, e_mmax, e_mmin, e_ldcS, e_sref, e_exc, e_thr, e_stq, e_cast, e_castY, e_castA, e_instS, e_cpy, e_aast, e_cpyR, e_cln, e_gcl, e_ldcM, e_sw, swc_n, swc_c, kon_v, kon_r, kon_t, lg_0, lg_s, ls0, lay, List.length_cons, List.length_nil, List.replicate, List.cons_append, List.nil_append, ps, lp, List.set_cons_zero, List.set_cons_succ, jk, kd_hI, ln_hI, iI_hI, iR_hI, iJ_hI, nn_hI, sU_hI, stI_hI, hI_hI, K0e, and_true, true_and, rtOk, fOk, ge_iff_le, Nat.reduceLeDiff, Nat.reduceAdd, Nat.reduceSub, Nat.reduceLT, c1, lit, nN, nN2, nI_add, pk_mul, nI_clamp, vpi, nI_leI, nI_ltI, nI_eq, bP_z, not_true_eq_false, not_false_eq_true, false_implies, true_implies, implies_true, Nat.le_refl, Nat.lt_irrefl, true_or, or_true, m31, pk_sub, pk_m1, bP_1, bP_em, Classical.not_not, Nat.zero_le, cI_T, cI_F, thr_e, thr_0, thr_m, vus, vun, vuu, pk_us, e_xO, e_xC, ex_e, e_mabsN, Nat.reduceEqDiff, ↓reduceIte, pk_un]
    have c4' : CI (stI g2 349 (upd (iI g2 349) 5 (iI g2 349 4))) S n A im I 0 T (nI b) v vI := c3'.tape (τ := va_up (iI g2) 349 (upd (iI g2 349) 5 (iI g2 349 4))) (fun a z1 z2 => vun _ _ z1) (by rw [vus, pk_un (by omega)]; exact c3'.2.2.2.1) (by omega) (fun k hk => by omega) (by rw [vus, pk_us]; exact b4)
    refine ⟨⟨fun a x y => ?_, ⟨?_, ?_⟩, ?_, ?_⟩, c4'.ag (Ag_ex c4'.ge 25)⟩
    · rw [ex_o 25 (show a ≠ nn (stI g2 349 (upd (iI g2 349) 5 (iI g2 349 4))) from (show a ≠ nn g2 by omega)), iI_stI, vun _ _ (by omega)]
      exact gm2 a x y
    · show nn h ≤ nn g2 + 1; omega
    · show nn g2 + 1 ≤ nn h + _; omega
    · show sU h ≤ sU g2 + 6; omega
    · show sU g2 + 6 ≤ sU h + _; omega
  | inr z =>
    rw [hF] at hP tv
    obtain ⟨rfl, hw3, hr3⟩ := hP
    have c4' : CI (stI g2 349 (upd (iI g2 349) 5 N1)) S n A im I 0 T N1 v vI := c3'.tape (τ := va_up (iI g2) 349 (upd (iI g2 349) 5 N1)) (fun a z1 z2 => vun _ _ z1) (by rw [vus, pk_un (by omega)]; exact c3'.2.2.2.1) (by omega) (fun k hk => by omega) (by rw [vus, pk_us])
    try simp (disch := omega) only [xk c3'.x0, c3'.x4, c3'.1.2.2.2.1.1, kd_stI, ln_stI, nn_stI, iI_stI, iR_stI, iJ_stI, sU_stI, kd_stR, ln_stR, nn_stR, iI_stR, iR_stR, iJ_stR, sU_stR, kd_stJ, ln_stJ, nn_stJ, iI_stJ, iR_stJ, iJ_stJ, sU_stJ, kd_alc, ln_alc, nn_alc, iI_alc, iR_alc, iJ_alc, sU_alc, e_const, e_lconst, e_null, e_iload, e_lload, e_aload, e_istore, e_astore, e_lstore, e_iinc, e_iadd, e_isub, e_imul, e_iand, e_ior, e_ixor, e_ishl, e_ishr, e_iushr, e_idiv, e_irem, e_ineg, e_i2l, e_i2b, e_i2c, e_lmul, e_lcmp, e_dup, e_pop, e_dup_x1, e_dup2, e_if_eq, e_icmp_eq, e_if_ne, e_icmp_ne, e_if_lt, e_icmp_lt, e_if_ge, e_icmp_ge, e_if_gt, e_icmp_gt, e_if_le, e_icmp_le, e_ifnull, e_ifnonnull, e_acmp_eq, e_acmp_ne, e_getI, e_getJ, e_getR, e_getSI, e_getSR, e_getEI, e_getER, e_putI, e_putJ, e_putR, e_iald, e_bald, e_zald, e_lald, e_aald, e_alen, e_iast, e_bast, e_zast, e_last, e_newa, e_new, e_newq, e_ret, e_vret, e_obj, e_mmax, e_mmin, e_ldcS, e_sref, e_exc, e_thr, e_stq, e_cast, e_castY, e_castA, e_instS, e_cpy, e_aast, e_cpyR, e_cln, e_gcl, e_ldcM, e_sw, swc_n, swc_c, kon_v, kon_r, kon_t, lg_0, lg_s, ls0, lay, List.length_cons, List.length_nil, List.replicate, List.cons_append, List.nil_append, ps, lp, List.set_cons_zero, List.set_cons_succ, jk, kd_hI, ln_hI, iI_hI, iR_hI, iJ_hI, nn_hI, sU_hI, stI_hI, hI_hI, K0e, and_true, true_and, rtOk, fOk, ge_iff_le, Nat.reduceLeDiff, Nat.reduceAdd, Nat.reduceSub, Nat.reduceLT, c1, lit, nN, nN2, nI_add, pk_mul, nI_clamp, vpi, nI_leI, nI_ltI, nI_eq, bP_z, not_true_eq_false, not_false_eq_true, false_implies, true_implies, implies_true, Nat.le_refl, Nat.lt_irrefl, true_or, or_true, m31, pk_sub, pk_m1, bP_1, bP_em, Classical.not_not, Nat.zero_le, cI_T, cI_F, thr_e, thr_0, thr_m, vus, vun, vuu, pk_us, e_xO, e_xC, ex_e, e_mabsN, Nat.reduceEqDiff, ↓reduceIte, pk_un]
    generalize hg3 : stI g2 349 (upd (iI g2 349) 5 N1) = g3 at c4'
    have n4 : nn g3 = nn g2 := by subst hg3; rfl
    have s4 : sU g3 = sU g2 := by subst hg3; rfl
    have e3' : ∀ a, a ≠ 349 → Same g2 g3 a := fun a z1 => by subst hg3; exact ⟨rfl, rfl, by rw [iI_stI, vun _ _ z1], rfl⟩
    have hx4 := c4'.x0
    have x14 : iR g3 300 1 = 317 := c4'.1.2.1.2.2.1
    have x04 : iR g3 300 0 = 301 := c4'.1.2.1.2.1
    have w4 := c4'.2.1
    have f0 := wf0 w4
    have k301 := wk c4'.1.2.2.1.1
    have k317 := wk c4'.1.2.2.1.2.1
    apply kX1_town_43
    try simp (disch := omega) only [tX1_town_43, xk hx4, x04, f0, k301, x14, k317, kd_stI, ln_stI, nn_stI, iI_stI, iR_stI, iJ_stI, sU_stI, kd_stR, ln_stR, nn_stR, iI_stR, iR_stR, iJ_stR, sU_stR, kd_stJ, ln_stJ, nn_stJ, iI_stJ, iR_stJ, iJ_stJ, sU_stJ, kd_alc, ln_alc, nn_alc, iI_alc, iR_alc, iJ_alc, sU_alc, e_const, e_lconst, e_null, e_iload, e_lload, e_aload, e_istore, e_astore, e_lstore, e_iinc, e_iadd, e_isub, e_imul, e_iand, e_ior, e_ixor, e_ishl, e_ishr, e_iushr, e_idiv, e_irem, e_ineg, e_i2l, e_i2b, e_i2c, e_lmul, e_lcmp, e_dup, e_pop, e_dup_x1, e_dup2, e_if_eq, e_icmp_eq, e_if_ne, e_icmp_ne, e_if_lt, e_icmp_lt, e_if_ge, e_icmp_ge, e_if_gt, e_icmp_gt, e_if_le, e_icmp_le, e_ifnull, e_ifnonnull, e_acmp_eq, e_acmp_ne, e_getI, e_getJ, e_getR, e_getSI, e_getSR, e_getEI, e_getER, e_putI, e_putJ, e_putR, e_iald, e_bald, e_zald, e_lald, e_aald, e_alen, e_iast, e_bast, e_zast, e_last, e_newa, e_new, e_newq, e_ret, e_vret, e_obj, e_mmax, e_mmin, e_ldcS, e_sref, e_exc, e_thr, e_stq, e_cast, e_castY, e_castA, e_instS, e_cpy, e_aast, e_cpyR, e_cln, e_gcl, e_ldcM, e_sw, swc_n, swc_c, kon_v, kon_r, kon_t, lg_0, lg_s, ls0, lay, List.length_cons, List.length_nil, List.replicate, List.cons_append, List.nil_append, ps, lp, List.set_cons_zero, List.set_cons_succ, jk, kd_hI, ln_hI, iI_hI, iR_hI, iJ_hI, nn_hI, sU_hI, stI_hI, hI_hI, K0e, and_true, true_and, rtOk, fOk, ge_iff_le, Nat.reduceLeDiff, Nat.reduceAdd, Nat.reduceSub, Nat.reduceLT, c1, lit, nN, nN2, nI_add, pk_mul, nI_clamp, vpi, nI_leI, nI_ltI, nI_eq, bP_z, not_true_eq_false, not_false_eq_true, false_implies, true_implies, implies_true, Nat.le_refl, Nat.lt_irrefl, true_or, or_true, m31, pk_sub, pk_m1, bP_1, bP_em, Classical.not_not, Nat.zero_le, cI_T, cI_F, thr_e, thr_0, thr_m, vus, vun, vuu, pk_us, e_xO, e_xC, ex_e, e_mabsN, Nat.reduceEqDiff, ↓reduceIte, pk_un]
    refine ⟨fun h12 => ?_, fun h12 => ?_⟩
    · generalize hg5 : stI g3 317 (upd (iI g3 317) 0 (iI g3 317 0 + nI 1)) = g5
      have e5 : ∀ a, a ≠ 317 → Same g3 g5 a := fun a z1 => by subst hg5; exact ⟨rfl, rfl, by rw [iI_stI, vun _ _ z1], rfl⟩
      have kl5 : ∀ a, kd g5 a = kd g3 a ∧ ln g5 a = ln g3 a ∧ iR g5 a = iR g3 a := fun a => by subst hg5; exact ⟨rfl, rfl, rfl⟩
      have n5 : nn g5 = nn g3 := by subst hg5; rfl
      have s5 : sU g5 = sU g3 := by subst hg5; rfl
      have wr3 : WR (iI g3) 317 z.1 := hr3.sm (fun j hj => e3' _ (by omega))
      have wr5 : WR (iI g5) 317 (upd z.1 0 (S 0 + nI 1)) := by
        have := wr3.f0 (S 0 + nI 1)
        have q := wf0 wr3
        rw [tv.2 0 (by omega)] at q
        subst hg5
        rw [q]
        exact this
      have w317' : WS g5 317 := by
        obtain ⟨z1, z2, z3⟩ := c4'.1.2.2.1.2.1
        subst hg5
        exact ⟨z1, z2, z3⟩
      have w301' : WS g5 301 := c4'.1.2.2.1.1.sm (fun j hj => e5 _ (by omega))
      refine cl _ _ (sX2_likens (h := g5) (w := 301) (v := 317) w301' w317' (by omega) (by omega)) rfl rfl rfl rfl (by omega) (wk w301') ?_
      rintro _ g6 ⟨rfl, τ, hh, e6, r6⟩
      have hn4 := c4'.ge
      have l6 : iR g6 301 = iR g3 301 := by
        subst hh
        rw [iR_hX, vus, (kl5 317).2.2, (kl5 301).2.2, (e3' 317 (by omega)).2.2.2, l317', ← (e3' 301 (by omega)).2.2.2]
        funext k
        by_cases z : k = 30
        · subst z; rw [vus]
        · rw [vun _ _ z]
      have a6 : ∀ a, (a < 301 ∨ 332 < a) → Same g3 g6 a := fun a z1 => by
        refine (e5 a (by omega)).trans ?_
        subst hh
        refine ⟨rfl, rfl, e6 a (by omega), ?_⟩
        rw [iR_hX, vun _ _ (by omega)]
      have kl6 : ∀ a, kd g6 a = kd g3 a ∧ ln g6 a = ln g3 a ∧ iR g6 a = iR g3 a := fun a => by
        by_cases q : a = 301
        · subst q
          exact ⟨by subst hh; exact (kl5 _).1, by subst hh; exact (kl5 _).2.1, l6⟩
        · subst hh
          exact ⟨(kl5 _).1, (kl5 _).2.1, by rw [iR_hX, vun _ _ q]; exact (kl5 a).2.2⟩
      have n6 : nn g6 = nn g3 := by subst hh; exact n5
      have s6 : sU g6 = sU g3 := by subst hh; exact s5
      have wr6 : WR (iI g6) 301 (upd z.1 0 (S 0 + nI 1)) := by
        have := r6 _ wr5
        subst hh
        exact this
      obtain ⟨sh, wr, ⟨eD, cap, ws, kp, lw, li⟩, t1, t2, t3, t4⟩ := c4'
      have heD := kp.eD
      have heD2 := kp.2.2.1
      have hn12 := kp.2.1
      have al1 : AL g6 352 eD n cap ws := kp.1.cn (fun a _ => ⟨(kl6 a).1, (kl6 a).2.1⟩) (by omega) (by rw [(a6 352 (by omega)).2.2.1]) (by rw [(a6 352 (by omega)).2.2.2]) (fun i hi => by rw [(kl6 eD).2.2]) (by omega)
      have q1' : kd g6 300 = 1 := by rw [(kl6 300).1]; exact sh.2.1.1
      have q2' : iR g6 300 6 = 352 := by rw [(kl6 300).2.2]; exact sh.2.1.2.2.2.2.2.2.1
      try simp (disch := omega) only [q1', q2', kd_stI, ln_stI, nn_stI, iI_stI, iR_stI, iJ_stI, sU_stI, kd_stR, ln_stR, nn_stR, iI_stR, iR_stR, iJ_stR, sU_stR, kd_stJ, ln_stJ, nn_stJ, iI_stJ, iR_stJ, iJ_stJ, sU_stJ, kd_alc, ln_alc, nn_alc, iI_alc, iR_alc, iJ_alc, sU_alc, e_const, e_lconst, e_null, e_iload, e_lload, e_aload, e_istore, e_astore, e_lstore, e_iinc, e_iadd, e_isub, e_imul, e_iand, e_ior, e_ixor, e_ishl, e_ishr, e_iushr, e_idiv, e_irem, e_ineg, e_i2l, e_i2b, e_i2c, e_lmul, e_lcmp, e_dup, e_pop, e_dup_x1, e_dup2, e_if_eq, e_icmp_eq, e_if_ne, e_icmp_ne, e_if_lt, e_icmp_lt, e_if_ge, e_icmp_ge, e_if_gt, e_icmp_gt, e_if_le, e_icmp_le, e_ifnull, e_ifnonnull, e_acmp_eq, e_acmp_ne, e_getI, e_getJ, e_getR, e_getSI, e_getSR, e_getEI, e_getER, e_putI, e_putJ, e_putR, e_iald, e_bald, e_zald, e_lald, e_aald, e_alen, e_iast, e_bast, e_zast, e_last, e_newa, e_new, e_newq, e_ret, e_vret, e_obj, e_mmax, e_mmin, e_ldcS, e_sref, e_exc, e_thr, e_stq, e_cast, e_castY, e_castA, e_instS, e_cpy, e_aast, e_cpyR, e_cln, e_gcl, e_ldcM, e_sw, swc_n, swc_c, kon_v, kon_r, kon_t, lg_0, lg_s, ls0, lay, List.length_cons, List.length_nil, List.replicate, List.cons_append, List.nil_append, ps, lp, List.set_cons_zero, List.set_cons_succ, jk, kd_hI, ln_hI, iI_hI, iR_hI, iJ_hI, nn_hI, sU_hI, stI_hI, hI_hI, K0e, and_true, true_and, rtOk, fOk, ge_iff_le, Nat.reduceLeDiff, Nat.reduceAdd, Nat.reduceSub, Nat.reduceLT, c1, lit, nN, nN2, nI_add, pk_mul, nI_clamp, vpi, nI_leI, nI_ltI, nI_eq, bP_z, not_true_eq_false, not_false_eq_true, false_implies, true_implies, implies_true, Nat.le_refl, Nat.lt_irrefl, true_or, or_true, m31, pk_sub, pk_m1, bP_1, bP_em, Classical.not_not, Nat.zero_le, cI_T, cI_F, thr_e, thr_0, thr_m, vus, vun, vuu, pk_us, e_xO, e_xC, ex_e, e_mabsN, Nat.reduceEqDiff, ↓reduceIte, pk_un]
      refine cl _ _ (sJ2_clr al1 (by omega) (by omega) (by omega)) rfl rfl rfl rfl (by omega) al1.1.1 ?_
      rintro _ h2 ⟨rfl, ⟨⟨m1, m2⟩, al2, m3, m4, m5⟩, m6⟩
      have a2' : ∀ a, a < nn g3 → a ≠ 352 → (a ≠ eD ∨ eD = 18) → Same g6 h2 a := fun a ha z2 z3 => by
        by_cases q : a = eD
        · have q18 : eD = 18 := by omega
          subst q
          exact ⟨(m4 a (by omega)).1, (m4 a (by omega)).2.1, m5, by rw [q18]; exact m6 q18⟩
        · exact m3.same (by omega) (ct2' z2 q)
      have a2 : ∀ a, a < nn g3 → (a < 301 ∨ 332 < a) → a ≠ 352 → (a ≠ eD ∨ eD = 18) → Same g3 h2 a := fun a ha z1 z3 z4 => (a6 a z1).trans (a2' a ha z3 z4)
      have n2' : nn h2 = nn g3 := by omega
      have kl2 : ∀ a, a < nn g3 → kd h2 a = kd g3 a ∧ ln h2 a = ln g3 a := fun a ha => ⟨(m4 a (by omega)).1.trans (kl6 a).1, (m4 a (by omega)).2.1.trans (kl6 a).2.1⟩
      have y300 : kd h2 300 = 1 := by rw [(kl2 300 (by omega)).1]; exact sh.2.1.1
      have y0 : iR h2 300 0 = 301 := by rw [(a2 300 (by omega) (by omega) (by omega) (by omega)).2.2.2]; exact x04
      have y301 : kd h2 301 = 2 := by rw [(kl2 301 (by omega)).1]; exact k301
      have e301 : ∀ j, j ≤ 15 → Same g6 h2 (301 + j) := fun j hj => a2' _ (by omega) (by omega) (by omega)
      have wr2 : WR (iI h2) 301 (upd z.1 0 (S 0 + nI 1)) := wr6.sm e301
      have f2 := wf0 wr2
      rw [pk_us] at f2
      try simp (disch := omega) only [y300, y0, y301, f2, kd_stI, ln_stI, nn_stI, iI_stI, iR_stI, iJ_stI, sU_stI, kd_stR, ln_stR, nn_stR, iI_stR, iR_stR, iJ_stR, sU_stR, kd_stJ, ln_stJ, nn_stJ, iI_stJ, iR_stJ, iJ_stJ, sU_stJ, kd_alc, ln_alc, nn_alc, iI_alc, iR_alc, iJ_alc, sU_alc, e_const, e_lconst, e_null, e_iload, e_lload, e_aload, e_istore, e_astore, e_lstore, e_iinc, e_iadd, e_isub, e_imul, e_iand, e_ior, e_ixor, e_ishl, e_ishr, e_iushr, e_idiv, e_irem, e_ineg, e_i2l, e_i2b, e_i2c, e_lmul, e_lcmp, e_dup, e_pop, e_dup_x1, e_dup2, e_if_eq, e_icmp_eq, e_if_ne, e_icmp_ne, e_if_lt, e_icmp_lt, e_if_ge, e_icmp_ge, e_if_gt, e_icmp_gt, e_if_le, e_icmp_le, e_ifnull, e_ifnonnull, e_acmp_eq, e_acmp_ne, e_getI, e_getJ, e_getR, e_getSI, e_getSR, e_getEI, e_getER, e_putI, e_putJ, e_putR, e_iald, e_bald, e_zald, e_lald, e_aald, e_alen, e_iast, e_bast, e_zast, e_last, e_newa, e_new, e_newq, e_ret, e_vret, e_obj, e_mmax, e_mmin, e_ldcS, e_sref, e_exc, e_thr, e_stq, e_cast, e_castY, e_castA, e_instS, e_cpy, e_aast, e_cpyR, e_cln, e_gcl, e_ldcM, e_sw, swc_n, swc_c, kon_v, kon_r, kon_t, lg_0, lg_s, ls0, lay, List.length_cons, List.length_nil, List.replicate, List.cons_append, List.nil_append, ps, lp, List.set_cons_zero, List.set_cons_succ, jk, kd_hI, ln_hI, iI_hI, iR_hI, iJ_hI, nn_hI, sU_hI, stI_hI, hI_hI, K0e, and_true, true_and, rtOk, fOk, ge_iff_le, Nat.reduceLeDiff, Nat.reduceAdd, Nat.reduceSub, Nat.reduceLT, c1, lit, nN, nN2, nI_add, pk_mul, nI_clamp, vpi, nI_leI, nI_ltI, nI_eq, bP_z, not_true_eq_false, not_false_eq_true, false_implies, true_implies, implies_true, Nat.le_refl, Nat.lt_irrefl, true_or, or_true, m31, pk_sub, pk_m1, bP_1, bP_em, Classical.not_not, Nat.zero_le, cI_T, cI_F, thr_e, thr_0, thr_m, vus, vun, vuu, pk_us, e_xO, e_xC, ex_e, e_mabsN, Nat.reduceEqDiff, ↓reduceIte, pk_un]
      have l301' : iR h2 301 = iR g3 301 := by rw [(e301 0 (by omega)).2.2.2]; exact l6
      have hF : ∀ a, FZ (nn g3) eD n ws a → FZ (nn h2) eD 0 ws a := fun a ha => by rw [n2']; exact ha.le (by omega)
      have hs : ∀ a, (a < 300 ∨ FZ (nn g3) eD n ws a) → Same g3 h2 a := fun a ha => by
        rcases ha with ha | ⟨f1, f2, f3, _⟩
        · exact a2 a (by omega) (by omega) (by omega) (by omega)
        · exact a2 a f2 (by omega) (by omega) (by omega)
      have e349 := (a2 349 (by omega) (by omega) (by omega) (by omega)).2.2.1
      have e300 := (a2 300 (by omega) (by omega) (by omega) (by omega)).2.2.1
      have e333 : ∀ j, j ≤ 15 → Same g3 h2 (333 + j) := fun j hj => a2 _ (by omega) (by omega) (by omega) (by omega)
      have sf : SF g3 h2 := ⟨by omega, fun a ha => kl2 a (by omega), fun a k ha z1 z2 => by
        rw [(a2' a (by omega) z2 (by omega)).2.2.2, (kl6 a).2.2], fun a ha => (a2 a (by omega) (by omega) (by omega) (by omega)).2.2.1⟩
      have kp2 : KP h2 eD cap 0 ws A := ⟨al2, by omega, heD2, fun i hi => by omega, fun i j hi _ _ => by omega⟩
      have hS1 : (upd z.1 0 (S 0 + nI 1)) 1 = S 1 := by rw [pk_un (by omega)]; exact tv.2 1 (by omega)
      refine ⟨⟨fun a x y => ?_, ⟨by omega, by omega⟩, by omega, by omega⟩, Or.inr ⟨h12, sh.sf sf, wr2, ⟨eD, cap, ws, kp2, by rw [l301', hS1]; exact lw.of hF hs, ?_⟩, by rw [e349]; exact t1, by omega, fun k hk => by omega, by rw [e349]; exact t4⟩⟩
      · rw [(a2 a (by omega) (by omega) (by omega) (by omega)).2.2.1, (e3' a (by omega)).2.2.1]; exact gm2 a x y
      · rcases li with ⟨l1, l2, l3, l4⟩ | ⟨l1, l2⟩
        · exact Or.inl ⟨l1, by rw [e300]; exact l2, l3.sm e333, by rw [(e333 0 (by omega)).2.2.2]; exact l4.of hF hs⟩
        · exact Or.inr ⟨l1, by rw [e300]; exact l2⟩
    · have hn4 := c4'.ge
      refine ⟨⟨by omega, ?_⟩, ?_, ⟨fun a x y => ?_, ⟨?_, ?_⟩, ?_, ?_⟩, Or.inl ⟨h12, ?_, c4'.ag (Ag_ex c4'.ge 29)⟩⟩
      · simp
      · rw [ex_k]; exact ⟨by omega, by omega, by omega⟩
      · rw [ex_o 29 (show a ≠ nn g3 by omega), (e3' a (by omega)).2.2.1]
        exact gm2 a x y
      · show nn h ≤ nn g3 + 1; omega
      · show nn g3 + 1 ≤ nn h + _; omega
      · show sU h ≤ sU g3 + 6; omega
      · show sU g3 + 6 ≤ sU h + _; omega
      · rw [ex_k]
end
