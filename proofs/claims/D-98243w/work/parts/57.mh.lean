/-! CONTRACTS of the model: customs 2 -/
set_option maxRecDepth 100000
/-- how many have a greeting; how many greetings there are -/
def cN (x : Nat → Nat) (g : Nat) : Nat → Nat
  | 0 => 0
  | k + 1 => cN x g k + if x k = g then 1 else 0
theorem cN_le (x : Nat → Nat) (g : Nat) : ∀ k, cN x g k ≤ k := by
  intro k
  induction k with
  | zero => exact Nat.le_refl _
  | succ k ih =>
    show cN x g k + (if x k = g then 1 else 0) ≤ k + 1
    split <;> omega
def dN (x : Nat → Nat) : Nat → Nat
  | 0 => 0
  | k + 1 => dN x k + if cN x (x k) k = 0 then 1 else 0
theorem dN_le (x : Nat → Nat) : ∀ k, dN x k ≤ k := by
  intro k
  induction k with
  | zero => exact Nat.le_refl _
  | succ k ih =>
    show dN x k + (if cN x (x k) k = 0 then 1 else 0) ≤ k + 1
    split <;> omega
theorem dN_z (x : Nat → Nat) : ∀ k, dN x k = 0 → k = 0 := by
  intro k
  induction k with
  | zero => intro _; rfl
  | succ k ih =>
    intro hz
    have hz : dN x k + (if cN x (x k) k = 0 then 1 else 0) = 0 := hz
    have h0 : dN x k = 0 := by omega
    have hk := ih h0
    subst hk
    rw [if_pos (show cN x (x 0) 0 = 0 from rfl)] at hz
    omega
def mxN (V : Nat → Nat) : Nat → Nat := fu (fun b k => if V b < V (k + 1) then k + 1 else b) 0
theorem mxN_s (V : Nat → Nat) (k : Nat) : mxN V (k + 1) = if V (mxN V k) < V (k + 1) then k + 1 else mxN V k := rfl
theorem mxN_le (V : Nat → Nat) : ∀ k, mxN V k ≤ k := by
  intro k
  induction k with
  | zero => exact Nat.le_refl _
  | succ k ih => rw [mxN_s]; split <;> omega
section
variable {h : MH} {σ : Nat → Nat → Int32} {d : Nat}
theorem sX8_counts (hs : SM h) (hi : Ic (σ 381)) {x : Nat → Nat} (hx : ∀ o, o < nP (σ 381) → σ 387 o = nI (x o) ∧ x o < 32) : WPm mX8_counts d [.ref 380] (hI h σ) (fun o h1 => ∃ τ, o = .returned (some (.int (nI (dN x (nP (σ 381)))))) ∧ h1 = hI h τ ∧ Eqx [390] σ τ ∧ ∀ g, g < 32 → τ 390 g = nI (cN x g (nP (σ 381)))) := by
  refine mO rfl rfl ?_
  obtain ⟨en, hn⟩ := hi.2.2.1
  have k25 : ∀ k, k ≤ nP (σ 381) → ∀ (τ : Nat → Nat → Int32), Eqx [390] σ τ → (∀ g, g < 32 → τ 390 g = nI (cN x g k)) → WPb mX8_counts d 25 [.ref 380, .int (nI (dN x k)), .int (nI k)] [] (hI h τ) (fun o h1 => ∃ τ, o = .returned (some (.int (nI (dN x (nP (σ 381)))))) ∧ h1 = hI h τ ∧ Eqx [390] σ τ ∧ ∀ g, g < 32 → τ 390 g = nI (cN x g (nP (σ 381)))) := by
    refine bk (n := nP (σ 381)) ?_ ?_
    · intro τ E H
      have em := E 381 rfl
      apply kX8_counts_25
      simp (disch := omega) only [tX8_counts_25, em, en, e_const, e_lconst, e_null, e_iload, e_lload, e_aload, e_istore, e_astore, e_lstore, e_iinc, e_iadd, e_isub, e_imul, e_iand, e_ior, e_ixor, e_ishl, e_ishr, e_iushr, e_idiv, e_irem, e_ineg, e_i2l, e_i2b, e_i2c, e_lmul, e_lcmp, e_dup, e_pop, e_dup_x1, e_dup2, e_if_eq, e_icmp_eq, e_if_ne, e_icmp_ne, e_if_lt, e_icmp_lt, e_if_ge, e_icmp_ge, e_if_gt, e_icmp_gt, e_if_le, e_icmp_le, e_ifnull, e_ifnonnull, e_acmp_eq, e_acmp_ne, e_getI, e_getJ, e_getR, e_getSI, e_getSR, e_getEI, e_getER, e_putI, e_putJ, e_putR, e_iald, e_bald, e_zald, e_lald, e_aald, e_alen, e_iast, e_bast, e_zast, e_last, e_newa, e_new, e_newq, e_ret, e_vret, e_obj, e_mmax, e_mmin, e_mabs, e_ldcS, e_sref, e_exc, e_thr, e_stq, e_cast, e_castY, e_castA, e_instS, e_cpy, e_aast, e_cpyR, e_cln, e_gcl, e_ldcM, e_sw, swc_n, swc_c, kon_v, kon_r, kon_t, lg_0, lg_s, ls0, lay, List.length_cons, List.length_nil, List.replicate, List.cons_append, List.nil_append, ps, lp, List.set_cons_zero, List.set_cons_succ, jk, kd_hI, ln_hI, iI_hI, iR_hI, iJ_hI, nn_hI, sU_hI, stI_hI, hI_hI, K0e, and_true, true_and, rtOk, fOk, ge_iff_le, Nat.reduceLeDiff, Nat.reduceAdd, Nat.reduceSub, Nat.reduceLT, c1, smk hs, smr1 hs, smr2 hs, smr4 hs, smr5 hs, smr7 hs, smr14 hs, smr18 hs, smr19 hs, smr20 hs, smr21 hs, smr22 hs, smr23 hs, smr24 hs, smr25 hs, smk381 hs, sml381 hs, smk382 hs, sml382 hs, smk383 hs, sml383 hs, smk384 hs, sml384 hs, smk385 hs, sml385 hs, smk386 hs, sml386 hs, smk387 hs, sml387 hs, smk388 hs, sml388 hs, smk389 hs, sml389 hs, smk390 hs, sml390 hs, smk391 hs, sml391 hs, smk392 hs, sml392 hs, smk393 hs, sml393 hs, smk394 hs, sml394 hs, lit, nN, nN2, nI_add, pk_mul, nI_clamp, vpi, nI_leI, nI_ltI, nI_eq, bP_z, not_true_eq_false, not_false_eq_true, false_implies, true_implies, implies_true, Nat.le_refl, Nat.lt_irrefl, true_or, or_true, m31, pk_sub, pk_m1, bP_1, bP_em, Classical.not_not, Nat.zero_le, cI_T, cI_F, thr_e, thr_0, thr_m, vus, vun, vuu, pk_us]
      exact ⟨τ, rfl, E, H⟩
    · intro k hk ih τ E H
      have em := E 381 rfl
      have eo := E 387 rfl
      have hk2 := (hx k hk).2
      have hc := cN_le x (x k) k
      have k55 : ∀ j, j = (if cN x (x k) k = 0 then 1 else 0) → WPb mX8_counts d 55 [.ref 380, .int (nI (dN x k)), .int (nI k)] [.int (nI j), .int (nI (dN x k))] (hI h τ) (fun o h1 => ∃ τ, o = .returned (some (.int (nI (dN x (nP (σ 381)))))) ∧ h1 = hI h τ ∧ Eqx [390] σ τ ∧ ∀ g, g < 32 → τ 390 g = nI (cN x g (nP (σ 381)))) := by
        intro j hj
        subst hj
        apply kX8_counts_55
        simp (disch := omega) only [tX8_counts_55, eo, (hx k hk).1, H, e_const, e_lconst, e_null, e_iload, e_lload, e_aload, e_istore, e_astore, e_lstore, e_iinc, e_iadd, e_isub, e_imul, e_iand, e_ior, e_ixor, e_ishl, e_ishr, e_iushr, e_idiv, e_irem, e_ineg, e_i2l, e_i2b, e_i2c, e_lmul, e_lcmp, e_dup, e_pop, e_dup_x1, e_dup2, e_if_eq, e_icmp_eq, e_if_ne, e_icmp_ne, e_if_lt, e_icmp_lt, e_if_ge, e_icmp_ge, e_if_gt, e_icmp_gt, e_if_le, e_icmp_le, e_ifnull, e_ifnonnull, e_acmp_eq, e_acmp_ne, e_getI, e_getJ, e_getR, e_getSI, e_getSR, e_getEI, e_getER, e_putI, e_putJ, e_putR, e_iald, e_bald, e_zald, e_lald, e_aald, e_alen, e_iast, e_bast, e_zast, e_last, e_newa, e_new, e_newq, e_ret, e_vret, e_obj, e_mmax, e_mmin, e_mabs, e_ldcS, e_sref, e_exc, e_thr, e_stq, e_cast, e_castY, e_castA, e_instS, e_cpy, e_aast, e_cpyR, e_cln, e_gcl, e_ldcM, e_sw, swc_n, swc_c, kon_v, kon_r, kon_t, lg_0, lg_s, ls0, lay, List.length_cons, List.length_nil, List.replicate, List.cons_append, List.nil_append, ps, lp, List.set_cons_zero, List.set_cons_succ, jk, kd_hI, ln_hI, iI_hI, iR_hI, iJ_hI, nn_hI, sU_hI, stI_hI, hI_hI, K0e, and_true, true_and, rtOk, fOk, ge_iff_le, Nat.reduceLeDiff, Nat.reduceAdd, Nat.reduceSub, Nat.reduceLT, c1, smk hs, smr1 hs, smr2 hs, smr4 hs, smr5 hs, smr7 hs, smr14 hs, smr18 hs, smr19 hs, smr20 hs, smr21 hs, smr22 hs, smr23 hs, smr24 hs, smr25 hs, smk381 hs, sml381 hs, smk382 hs, sml382 hs, smk383 hs, sml383 hs, smk384 hs, sml384 hs, smk385 hs, sml385 hs, smk386 hs, sml386 hs, smk387 hs, sml387 hs, smk388 hs, sml388 hs, smk389 hs, sml389 hs, smk390 hs, sml390 hs, smk391 hs, sml391 hs, smk392 hs, sml392 hs, smk393 hs, sml393 hs, smk394 hs, sml394 hs, lit, nN, nN2, nI_add, pk_mul, nI_clamp, vpi, nI_leI, nI_ltI, nI_eq, bP_z, not_true_eq_false, not_false_eq_true, false_implies, true_implies, implies_true, Nat.le_refl, Nat.lt_irrefl, true_or, or_true, m31, pk_sub, pk_m1, bP_1, bP_em, Classical.not_not, Nat.zero_le, cI_T, cI_F, thr_e, thr_0, thr_m, vus, vun, vuu, pk_us]
        refine ih _ (E.up rfl _) ?_
        intro g hg
        rw [vus]
        show _ = nI (cN x g k + if x k = g then 1 else 0)
        by_cases e : g = x k
        · subst e
          rw [pk_us, if_pos rfl]
        · rw [pk_un e, H g hg, if_neg (fun z => e z.symm), Nat.add_zero]
      apply kX8_counts_25
      simp (disch := omega) only [tX8_counts_25, em, en, eo, (hx k hk).1, H, e_const, e_lconst, e_null, e_iload, e_lload, e_aload, e_istore, e_astore, e_lstore, e_iinc, e_iadd, e_isub, e_imul, e_iand, e_ior, e_ixor, e_ishl, e_ishr, e_iushr, e_idiv, e_irem, e_ineg, e_i2l, e_i2b, e_i2c, e_lmul, e_lcmp, e_dup, e_pop, e_dup_x1, e_dup2, e_if_eq, e_icmp_eq, e_if_ne, e_icmp_ne, e_if_lt, e_icmp_lt, e_if_ge, e_icmp_ge, e_if_gt, e_icmp_gt, e_if_le, e_icmp_le, e_ifnull, e_ifnonnull, e_acmp_eq, e_acmp_ne, e_getI, e_getJ, e_getR, e_getSI, e_getSR, e_getEI, e_getER, e_putI, e_putJ, e_putR, e_iald, e_bald, e_zald, e_lald, e_aald, e_alen, e_iast, e_bast, e_zast, e_last, e_newa, e_new, e_newq, e_ret, e_vret, e_obj, e_mmax, e_mmin, e_mabs, e_ldcS, e_sref, e_exc, e_thr, e_stq, e_cast, e_castY, e_castA, e_instS, e_cpy, e_aast, e_cpyR, e_cln, e_gcl, e_ldcM, e_sw, swc_n, swc_c, kon_v, kon_r, kon_t, lg_0, lg_s, ls0, lay, List.length_cons, List.length_nil, List.replicate, List.cons_append, List.nil_append, ps, lp, List.set_cons_zero, List.set_cons_succ, jk, kd_hI, ln_hI, iI_hI, iR_hI, iJ_hI, nn_hI, sU_hI, stI_hI, hI_hI, K0e, and_true, true_and, rtOk, fOk, ge_iff_le, Nat.reduceLeDiff, Nat.reduceAdd, Nat.reduceSub, Nat.reduceLT, c1, smk hs, smr1 hs, smr2 hs, smr4 hs, smr5 hs, smr7 hs, smr14 hs, smr18 hs, smr19 hs, smr20 hs, smr21 hs, smr22 hs, smr23 hs, smr24 hs, smr25 hs, smk381 hs, sml381 hs, smk382 hs, sml382 hs, smk383 hs, sml383 hs, smk384 hs, sml384 hs, smk385 hs, sml385 hs, smk386 hs, sml386 hs, smk387 hs, sml387 hs, smk388 hs, sml388 hs, smk389 hs, sml389 hs, smk390 hs, sml390 hs, smk391 hs, sml391 hs, smk392 hs, sml392 hs, smk393 hs, sml393 hs, smk394 hs, sml394 hs, lit, nN, nN2, nI_add, pk_mul, nI_clamp, vpi, nI_leI, nI_ltI, nI_eq, bP_z, not_true_eq_false, not_false_eq_true, false_implies, true_implies, implies_true, Nat.le_refl, Nat.lt_irrefl, true_or, or_true, m31, pk_sub, pk_m1, bP_1, bP_em, Classical.not_not, Nat.zero_le, cI_T, cI_F, thr_e, thr_0, thr_m, vus, vun, vuu, pk_us]
      refine ⟨fun z => by omega, fun _ => ⟨fun hz => ?_, fun hz => ?_⟩⟩
      · exact k55 0 (by rw [if_neg hz])
      · exact k55 1 (by rw [if_pos hz])
  have k4 : ∀ k, k ≤ 32 → ∀ (τ : Nat → Nat → Int32), Eqx [390] σ τ → (∀ g, g < k → τ 390 g = nI 0) → WPb mX8_counts d 4 [.ref 380, .int (nI 0), .int (nI k)] [] (hI h τ) (fun o h1 => ∃ τ, o = .returned (some (.int (nI (dN x (nP (σ 381)))))) ∧ h1 = hI h τ ∧ Eqx [390] σ τ ∧ ∀ g, g < 32 → τ 390 g = nI (cN x g (nP (σ 381)))) := by
    refine bk (n := 32) ?_ ?_
    · intro τ E H
      apply kX8_counts_4
      simp (disch := omega) only [tX8_counts_4, e_const, e_lconst, e_null, e_iload, e_lload, e_aload, e_istore, e_astore, e_lstore, e_iinc, e_iadd, e_isub, e_imul, e_iand, e_ior, e_ixor, e_ishl, e_ishr, e_iushr, e_idiv, e_irem, e_ineg, e_i2l, e_i2b, e_i2c, e_lmul, e_lcmp, e_dup, e_pop, e_dup_x1, e_dup2, e_if_eq, e_icmp_eq, e_if_ne, e_icmp_ne, e_if_lt, e_icmp_lt, e_if_ge, e_icmp_ge, e_if_gt, e_icmp_gt, e_if_le, e_icmp_le, e_ifnull, e_ifnonnull, e_acmp_eq, e_acmp_ne, e_getI, e_getJ, e_getR, e_getSI, e_getSR, e_getEI, e_getER, e_putI, e_putJ, e_putR, e_iald, e_bald, e_zald, e_lald, e_aald, e_alen, e_iast, e_bast, e_zast, e_last, e_newa, e_new, e_newq, e_ret, e_vret, e_obj, e_mmax, e_mmin, e_mabs, e_ldcS, e_sref, e_exc, e_thr, e_stq, e_cast, e_castY, e_castA, e_instS, e_cpy, e_aast, e_cpyR, e_cln, e_gcl, e_ldcM, e_sw, swc_n, swc_c, kon_v, kon_r, kon_t, lg_0, lg_s, ls0, lay, List.length_cons, List.length_nil, List.replicate, List.cons_append, List.nil_append, ps, lp, List.set_cons_zero, List.set_cons_succ, jk, kd_hI, ln_hI, iI_hI, iR_hI, iJ_hI, nn_hI, sU_hI, stI_hI, hI_hI, K0e, and_true, true_and, rtOk, fOk, ge_iff_le, Nat.reduceLeDiff, Nat.reduceAdd, Nat.reduceSub, Nat.reduceLT, c1, smk hs, smr1 hs, smr2 hs, smr4 hs, smr5 hs, smr7 hs, smr14 hs, smr18 hs, smr19 hs, smr20 hs, smr21 hs, smr22 hs, smr23 hs, smr24 hs, smr25 hs, smk381 hs, sml381 hs, smk382 hs, sml382 hs, smk383 hs, sml383 hs, smk384 hs, sml384 hs, smk385 hs, sml385 hs, smk386 hs, sml386 hs, smk387 hs, sml387 hs, smk388 hs, sml388 hs, smk389 hs, sml389 hs, smk390 hs, sml390 hs, smk391 hs, sml391 hs, smk392 hs, sml392 hs, smk393 hs, sml393 hs, smk394 hs, sml394 hs, lit, nN, nN2, nI_add, pk_mul, nI_clamp, vpi, nI_leI, nI_ltI, nI_eq, bP_z, not_true_eq_false, not_false_eq_true, false_implies, true_implies, implies_true, Nat.le_refl, Nat.lt_irrefl, true_or, or_true, m31, pk_sub, pk_m1, bP_1, bP_em, Classical.not_not, Nat.zero_le, cI_T, cI_F, thr_e, thr_0, thr_m, vus, vun, vuu, pk_us]
      exact k25 0 (by omega) τ E H
    · intro k hk ih τ E H
      apply kX8_counts_4
      simp (disch := omega) only [tX8_counts_4, e_const, e_lconst, e_null, e_iload, e_lload, e_aload, e_istore, e_astore, e_lstore, e_iinc, e_iadd, e_isub, e_imul, e_iand, e_ior, e_ixor, e_ishl, e_ishr, e_iushr, e_idiv, e_irem, e_ineg, e_i2l, e_i2b, e_i2c, e_lmul, e_lcmp, e_dup, e_pop, e_dup_x1, e_dup2, e_if_eq, e_icmp_eq, e_if_ne, e_icmp_ne, e_if_lt, e_icmp_lt, e_if_ge, e_icmp_ge, e_if_gt, e_icmp_gt, e_if_le, e_icmp_le, e_ifnull, e_ifnonnull, e_acmp_eq, e_acmp_ne, e_getI, e_getJ, e_getR, e_getSI, e_getSR, e_getEI, e_getER, e_putI, e_putJ, e_putR, e_iald, e_bald, e_zald, e_lald, e_aald, e_alen, e_iast, e_bast, e_zast, e_last, e_newa, e_new, e_newq, e_ret, e_vret, e_obj, e_mmax, e_mmin, e_mabs, e_ldcS, e_sref, e_exc, e_thr, e_stq, e_cast, e_castY, e_castA, e_instS, e_cpy, e_aast, e_cpyR, e_cln, e_gcl, e_ldcM, e_sw, swc_n, swc_c, kon_v, kon_r, kon_t, lg_0, lg_s, ls0, lay, List.length_cons, List.length_nil, List.replicate, List.cons_append, List.nil_append, ps, lp, List.set_cons_zero, List.set_cons_succ, jk, kd_hI, ln_hI, iI_hI, iR_hI, iJ_hI, nn_hI, sU_hI, stI_hI, hI_hI, K0e, and_true, true_and, rtOk, fOk, ge_iff_le, Nat.reduceLeDiff, Nat.reduceAdd, Nat.reduceSub, Nat.reduceLT, c1, smk hs, smr1 hs, smr2 hs, smr4 hs, smr5 hs, smr7 hs, smr14 hs, smr18 hs, smr19 hs, smr20 hs, smr21 hs, smr22 hs, smr23 hs, smr24 hs, smr25 hs, smk381 hs, sml381 hs, smk382 hs, sml382 hs, smk383 hs, sml383 hs, smk384 hs, sml384 hs, smk385 hs, sml385 hs, smk386 hs, sml386 hs, smk387 hs, sml387 hs, smk388 hs, sml388 hs, smk389 hs, sml389 hs, smk390 hs, sml390 hs, smk391 hs, sml391 hs, smk392 hs, sml392 hs, smk393 hs, sml393 hs, smk394 hs, sml394 hs, lit, nN, nN2, nI_add, pk_mul, nI_clamp, vpi, nI_leI, nI_ltI, nI_eq, bP_z, not_true_eq_false, not_false_eq_true, false_implies, true_implies, implies_true, Nat.le_refl, Nat.lt_irrefl, true_or, or_true, m31, pk_sub, pk_m1, bP_1, bP_em, Classical.not_not, Nat.zero_le, cI_T, cI_F, thr_e, thr_0, thr_m, vus, vun, vuu, pk_us]
      refine ⟨fun z => by omega, fun _ => ?_⟩
      refine ih _ (E.up rfl _) ?_
      intro g hg
      rw [vus]
      by_cases e : g = k
      · subst e; rw [pk_us]
      · rw [pk_un e]; exact H g (by omega)
  apply kX8_counts_0
  simp (disch := omega) only [tX8_counts_0, e_const, e_lconst, e_null, e_iload, e_lload, e_aload, e_istore, e_astore, e_lstore, e_iinc, e_iadd, e_isub, e_imul, e_iand, e_ior, e_ixor, e_ishl, e_ishr, e_iushr, e_idiv, e_irem, e_ineg, e_i2l, e_i2b, e_i2c, e_lmul, e_lcmp, e_dup, e_pop, e_dup_x1, e_dup2, e_if_eq, e_icmp_eq, e_if_ne, e_icmp_ne, e_if_lt, e_icmp_lt, e_if_ge, e_icmp_ge, e_if_gt, e_icmp_gt, e_if_le, e_icmp_le, e_ifnull, e_ifnonnull, e_acmp_eq, e_acmp_ne, e_getI, e_getJ, e_getR, e_getSI, e_getSR, e_getEI, e_getER, e_putI, e_putJ, e_putR, e_iald, e_bald, e_zald, e_lald, e_aald, e_alen, e_iast, e_bast, e_zast, e_last, e_newa, e_new, e_newq, e_ret, e_vret, e_obj, e_mmax, e_mmin, e_mabs, e_ldcS, e_sref, e_exc, e_thr, e_stq, e_cast, e_castY, e_castA, e_instS, e_cpy, e_aast, e_cpyR, e_cln, e_gcl, e_ldcM, e_sw, swc_n, swc_c, kon_v, kon_r, kon_t, lg_0, lg_s, ls0, lay, List.length_cons, List.length_nil, List.replicate, List.cons_append, List.nil_append, ps, lp, List.set_cons_zero, List.set_cons_succ, jk, kd_hI, ln_hI, iI_hI, iR_hI, iJ_hI, nn_hI, sU_hI, stI_hI, hI_hI, K0e, and_true, true_and, rtOk, fOk, ge_iff_le, Nat.reduceLeDiff, Nat.reduceAdd, Nat.reduceSub, Nat.reduceLT, c1, smk hs, smr1 hs, smr2 hs, smr4 hs, smr5 hs, smr7 hs, smr14 hs, smr18 hs, smr19 hs, smr20 hs, smr21 hs, smr22 hs, smr23 hs, smr24 hs, smr25 hs, smk381 hs, sml381 hs, smk382 hs, sml382 hs, smk383 hs, sml383 hs, smk384 hs, sml384 hs, smk385 hs, sml385 hs, smk386 hs, sml386 hs, smk387 hs, sml387 hs, smk388 hs, sml388 hs, smk389 hs, sml389 hs, smk390 hs, sml390 hs, smk391 hs, sml391 hs, smk392 hs, sml392 hs, smk393 hs, sml393 hs, smk394 hs, sml394 hs, lit, nN, nN2, nI_add, pk_mul, nI_clamp, vpi, nI_leI, nI_ltI, nI_eq, bP_z, not_true_eq_false, not_false_eq_true, false_implies, true_implies, implies_true, Nat.le_refl, Nat.lt_irrefl, true_or, or_true, m31, pk_sub, pk_m1, bP_1, bP_em, Classical.not_not, Nat.zero_le, cI_T, cI_F, thr_e, thr_0, thr_m, vus, vun, vuu, pk_us]
  exact k4 0 (by omega) σ (Eqx.refl _ _) (fun g hg => by omega)
/-- own greetings of people, as codes -/
def ow (S : Nat → Int32) (p : Nat) : Nat := (S (92 + 8 * p + 1)).toNatClampNeg
def Io (S : Nat → Int32) : Prop := ∀ p, p < nP S → S (92 + 8 * p + 1) = nI (ow S p) ∧ ow S p < 32
/-- own greetings, some being told one -/
noncomputable def owS (S : Nat → Int32) (s : Int32) (g p : Nat) : Nat := @ite _ (hasB s p) (Classical.propDecidable _) g (ow S p)
theorem owS_lt {S : Nat → Int32} (ho : Io S) {s : Int32} {g : Nat} (hg : g < 32) : ∀ p, p < nP S → stO S s (nI g) p = nI (owS S s g p) ∧ owS S s g p < 32 := by
  intro p hp
  unfold stO owS
  by_cases e : hasB s p
  · rw [cI_t e, if_pos e]; exact ⟨rfl, hg⟩
  · rw [cI_f e, if_neg e]; exact ho p hp
theorem hasB_0 (p : Nat) (hp : p < 32) : ¬ hasB (nI 0) p := by
  have e : ∀ p, p < 32 → ¬ (nI 0 >>> nI p &&& nI 1 = nI 1) := by decide +kernel
  exact e p hp
theorem owS_0 {S : Nat → Int32} {g p : Nat} (hp : p < 32) : owS S (nI 0) g p = ow S p := by
  unfold owS
  rw [if_neg (hasB_0 p hp)]
end
