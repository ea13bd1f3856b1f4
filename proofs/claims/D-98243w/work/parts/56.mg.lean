/-! CONTRACTS of the model: years -/
set_option maxRecDepth 100000
section
variable {h : MH} {σ : Nat → Nat → Int32} {d : Nat}
/-- a year: what all have then -/
noncomputable def yr (Fr : Nat → Int32) (n : Nat) (x : Nat → Nat) (p : Nat) : Nat := if p < n then tk (vt x (Fr p) n) (x p) 32 else x p
theorem yr_lt {Fr : Nat → Int32} {n : Nat} {x : Nat → Nat} (hx : ∀ p, p < n → x p < 32) : ∀ p, p < n → yr Fr n x p < 32 := by
  intro p hp
  unfold yr
  rw [if_pos hp]
  exact tk_lt _ (hx p hp) 32 (by omega)
noncomputable def yrs (Fr : Nat → Int32) (n : Nat) (x : Nat → Nat) : Nat → Nat → Nat := fu (fun y _ => yr Fr n y) x
theorem yrs_s (Fr : Nat → Int32) (n : Nat) (x : Nat → Nat) (k : Nat) : yrs Fr n x (k + 1) = yr Fr n (yrs Fr n x k) := rfl
theorem yrs_lt {Fr : Nat → Int32} {n : Nat} {x : Nat → Nat} (hx : ∀ p, p < n → x p < 32) : ∀ k p, p < n → yrs Fr n x k p < 32 := by
  intro k
  induction k with
  | zero => exact hx
  | succ k ih => rw [yrs_s]; exact yr_lt ih
theorem yr_fix {Fr : Nat → Int32} {n : Nat} {x : Nat → Nat} (e : ¬ ∃ p, p < n ∧ ¬ yr Fr n x p = x p) : yr Fr n x = x := by
  funext p
  by_cases hp : p < n
  · exact Classical.byContradiction (fun z => e ⟨p, hp, z⟩)
  · unfold yr; rw [if_neg hp]
theorem yrs_fix {Fr : Nat → Int32} {n : Nat} {x : Nat → Nat} {k : Nat} (e : yr Fr n (yrs Fr n x k) = yrs Fr n x k) : ∀ j, yrs Fr n x (k + j) = yrs Fr n x k := by
  intro j
  induction j with
  | zero => rfl
  | succ j ih => rw [← Nat.add_assoc, yrs_s, ih, e]
theorem sX8_year (hs : SM h) (hd : 1 ≤ d) (hi : Ic (σ 381)) {x : Nat → Nat} (hx : ∀ o, o < nP (σ 381) → σ 387 o = nI (x o) ∧ x o < 32) : WPm mX8_year d [.ref 380] (hI h σ) (fun o h1 => ∃ τ, o = .returned (some (.int (bP (∃ p, p < nP (σ 381) ∧ ¬ yr (σ 389) (nP (σ 381)) x p = x p)))) ∧ h1 = hI h τ ∧ Eqx [387, 388, 390] σ τ ∧ ∀ p, p < nP (σ 381) → τ 387 p = nI (yr (σ 389) (nP (σ 381)) x p)) := by
  refine mO rfl rfl ?_
  obtain ⟨en, hn⟩ := hi.2.2.1
  have hy := yr_lt (Fr := σ 389) (fun o ho => (hx o ho).2)
  have k33 : ∀ k, k ≤ nP (σ 381) → ∀ τ, Eqx [387, 388, 390] σ τ → (∀ p, p < nP (σ 381) → τ 388 p = nI (yr (σ 389) (nP (σ 381)) x p)) → (∀ p, p < nP (σ 381) → τ 387 p = nI (if p < k then yr (σ 389) (nP (σ 381)) x p else x p)) → WPb mX8_year d 33 [.ref 380, .int (bP (∃ p, p < k ∧ ¬ yr (σ 389) (nP (σ 381)) x p = x p)), .int (nI k)] [] (hI h τ) (fun o h1 => ∃ τ, o = .returned (some (.int (bP (∃ p, p < nP (σ 381) ∧ ¬ yr (σ 389) (nP (σ 381)) x p = x p)))) ∧ h1 = hI h τ ∧ Eqx [387, 388, 390] σ τ ∧ ∀ p, p < nP (σ 381) → τ 387 p = nI (yr (σ 389) (nP (σ 381)) x p)) := by
    refine bk (n := nP (σ 381)) ?_ ?_
    · intro τ E H1 H2
      have em := E 381 rfl
      apply kX8_year_33
      simp (disch := omega) only [tX8_year_33, em, en, e_const, e_lconst, e_null, e_iload, e_lload, e_aload, e_istore, e_astore, e_lstore, e_iinc, e_iadd, e_isub, e_imul, e_iand, e_ior, e_ixor, e_ishl, e_ishr, e_iushr, e_idiv, e_irem, e_ineg, e_i2l, e_i2b, e_i2c, e_lmul, e_lcmp, e_dup, e_pop, e_dup_x1, e_dup2, e_if_eq, e_icmp_eq, e_if_ne, e_icmp_ne, e_if_lt, e_icmp_lt, e_if_ge, e_icmp_ge, e_if_gt, e_icmp_gt, e_if_le, e_icmp_le, e_ifnull, e_ifnonnull, e_acmp_eq, e_acmp_ne, e_getI, e_getJ, e_getR, e_getSI, e_getSR, e_getEI, e_getER, e_putI, e_putJ, e_putR, e_iald, e_bald, e_zald, e_lald, e_aald, e_alen, e_iast, e_bast, e_zast, e_last, e_newa, e_new, e_newq, e_ret, e_vret, e_obj, e_mmax, e_mmin, e_mabs, e_ldcS, e_sref, e_exc, e_thr, e_stq, e_cast, e_castY, e_castA, e_instS, e_cpy, e_aast, e_cpyR, e_cln, e_gcl, e_ldcM, e_sw, swc_n, swc_c, kon_v, kon_r, kon_t, lg_0, lg_s, ls0, lay, List.length_cons, List.length_nil, List.replicate, List.cons_append, List.nil_append, ps, lp, List.set_cons_zero, List.set_cons_succ, jk, kd_hI, ln_hI, iI_hI, iR_hI, iJ_hI, nn_hI, sU_hI, stI_hI, hI_hI, K0e, and_true, true_and, rtOk, fOk, ge_iff_le, Nat.reduceLeDiff, Nat.reduceAdd, Nat.reduceSub, Nat.reduceLT, c1, smk hs, smr1 hs, smr2 hs, smr4 hs, smr5 hs, smr7 hs, smr14 hs, smr18 hs, smr19 hs, smr20 hs, smr21 hs, smr22 hs, smr23 hs, smr24 hs, smr25 hs, smk381 hs, sml381 hs, smk382 hs, sml382 hs, smk383 hs, sml383 hs, smk384 hs, sml384 hs, smk385 hs, sml385 hs, smk386 hs, sml386 hs, smk387 hs, sml387 hs, smk388 hs, sml388 hs, smk389 hs, sml389 hs, smk390 hs, sml390 hs, smk391 hs, sml391 hs, smk392 hs, sml392 hs, smk393 hs, sml393 hs, smk394 hs, sml394 hs, lit, nN, nN2, nI_add, pk_mul, nI_clamp, vpi, nI_leI, nI_ltI, nI_eq, bP_z, not_true_eq_false, not_false_eq_true, false_implies, true_implies, implies_true, Nat.le_refl, Nat.lt_irrefl, true_or, or_true, m31, pk_sub, pk_m1, bP_1, bP_em, Classical.not_not, Nat.zero_le, cI_T, cI_F, thr_e, thr_0, thr_m, vus, vun, vuu, pk_us]
      refine ⟨τ, rfl, E, fun p hp => ?_⟩
      rw [H2 p hp, if_pos hp]
    · intro k hk ih τ E H1 H2
      have em := E 381 rfl
      have hxk := (hx k hk).2
      have hyk := hy k hk
      have e7 : τ 387 k = nI (x k) := by rw [H2 k hk, if_neg (by omega)]
      have e8 := H1 k hk
      have nx : ∀ b, b = bP (∃ p, p < k + 1 ∧ ¬ yr (σ 389) (nP (σ 381)) x p = x p) → WPb mX8_year d 33 [.ref 380, .int b, .int (nI (k + 1))] [] (hI h (va_up τ 387 (upd (τ 387) k (nI (yr (σ 389) (nP (σ 381)) x k))))) (fun o h1 => ∃ τ, o = .returned (some (.int (bP (∃ p, p < nP (σ 381) ∧ ¬ yr (σ 389) (nP (σ 381)) x p = x p)))) ∧ h1 = hI h τ ∧ Eqx [387, 388, 390] σ τ ∧ ∀ p, p < nP (σ 381) → τ 387 p = nI (yr (σ 389) (nP (σ 381)) x p)) := by
        intro b hb
        subst hb
        refine ih _ (E.up rfl _) ?_ ?_
        · intro p hp
          rw [vun _ _ (by omega)]
          exact H1 p hp
        · intro p hp
          rw [vus]
          by_cases e : p = k
          · subst e; rw [pk_us, if_pos (by omega)]
          · rw [pk_un e, H2 p hp]
            by_cases hl : p < k
            · rw [if_pos hl, if_pos (by omega)]
            · rw [if_neg hl, if_neg (by omega)]
      apply kX8_year_33
      simp (disch := omega) only [tX8_year_33, em, en, e7, e8, e_const, e_lconst, e_null, e_iload, e_lload, e_aload, e_istore, e_astore, e_lstore, e_iinc, e_iadd, e_isub, e_imul, e_iand, e_ior, e_ixor, e_ishl, e_ishr, e_iushr, e_idiv, e_irem, e_ineg, e_i2l, e_i2b, e_i2c, e_lmul, e_lcmp, e_dup, e_pop, e_dup_x1, e_dup2, e_if_eq, e_icmp_eq, e_if_ne, e_icmp_ne, e_if_lt, e_icmp_lt, e_if_ge, e_icmp_ge, e_if_gt, e_icmp_gt, e_if_le, e_icmp_le, e_ifnull, e_ifnonnull, e_acmp_eq, e_acmp_ne, e_getI, e_getJ, e_getR, e_getSI, e_getSR, e_getEI, e_getER, e_putI, e_putJ, e_putR, e_iald, e_bald, e_zald, e_lald, e_aald, e_alen, e_iast, e_bast, e_zast, e_last, e_newa, e_new, e_newq, e_ret, e_vret, e_obj, e_mmax, e_mmin, e_mabs, e_ldcS, e_sref, e_exc, e_thr, e_stq, e_cast, e_castY, e_castA, e_instS, e_cpy, e_aast, e_cpyR, e_cln, e_gcl, e_ldcM, e_sw, swc_n, swc_c, kon_v, kon_r, kon_t, lg_0, lg_s, ls0, lay, List.length_cons, List.length_nil, List.replicate, List.cons_append, List.nil_append, ps, lp, List.set_cons_zero, List.set_cons_succ, jk, kd_hI, ln_hI, iI_hI, iR_hI, iJ_hI, nn_hI, sU_hI, stI_hI, hI_hI, K0e, and_true, true_and, rtOk, fOk, ge_iff_le, Nat.reduceLeDiff, Nat.reduceAdd, Nat.reduceSub, Nat.reduceLT, c1, smk hs, smr1 hs, smr2 hs, smr4 hs, smr5 hs, smr7 hs, smr14 hs, smr18 hs, smr19 hs, smr20 hs, smr21 hs, smr22 hs, smr23 hs, smr24 hs, smr25 hs, smk381 hs, sml381 hs, smk382 hs, sml382 hs, smk383 hs, sml383 hs, smk384 hs, sml384 hs, smk385 hs, sml385 hs, smk386 hs, sml386 hs, smk387 hs, sml387 hs, smk388 hs, sml388 hs, smk389 hs, sml389 hs, smk390 hs, sml390 hs, smk391 hs, sml391 hs, smk392 hs, sml392 hs, smk393 hs, sml393 hs, smk394 hs, sml394 hs, lit, nN, nN2, nI_add, pk_mul, nI_clamp, vpi, nI_leI, nI_ltI, nI_eq, bP_z, not_true_eq_false, not_false_eq_true, false_implies, true_implies, implies_true, Nat.le_refl, Nat.lt_irrefl, true_or, or_true, m31, pk_sub, pk_m1, bP_1, bP_em, Classical.not_not, Nat.zero_le, cI_T, cI_F, thr_e, thr_0, thr_m, vus, vun, vuu, pk_us]
      refine ⟨fun z => by omega, fun _ => ⟨fun hc => ?_, fun hc => ⟨fun h2 => ?_, fun h2 => ?_⟩⟩⟩
      · refine nx _ ?_
        obtain ⟨p, h3, h4⟩ := hc
        rw [bP_t ⟨p, by omega, h4⟩]
      · refine nx _ ?_
        rw [bP_f]
        rintro ⟨p, h3, h4⟩
        by_cases e : p = k
        · subst e; exact h4 h2.symm
        · exact hc ⟨p, by omega, h4⟩
      · refine nx _ ?_
        rw [bP_t ⟨k, by omega, fun z => h2 z.symm⟩]
  have k4 : ∀ k, k ≤ nP (σ 381) → ∀ τ, Eqx [388, 390] σ τ → (∀ p, p < k → τ 388 p = nI (yr (σ 389) (nP (σ 381)) x p)) → WPb mX8_year d 4 [.ref 380, .int (nI 0), .int (nI k)] [] (hI h τ) (fun o h1 => ∃ τ, o = .returned (some (.int (bP (∃ p, p < nP (σ 381) ∧ ¬ yr (σ 389) (nP (σ 381)) x p = x p)))) ∧ h1 = hI h τ ∧ Eqx [387, 388, 390] σ τ ∧ ∀ p, p < nP (σ 381) → τ 387 p = nI (yr (σ 389) (nP (σ 381)) x p)) := by
    refine bk (n := nP (σ 381)) ?_ ?_
    · intro τ E H
      have em := E 381 rfl
      have eo := E 387 rfl
      apply kX8_year_4
      simp (disch := omega) only [tX8_year_4, em, en, e_const, e_lconst, e_null, e_iload, e_lload, e_aload, e_istore, e_astore, e_lstore, e_iinc, e_iadd, e_isub, e_imul, e_iand, e_ior, e_ixor, e_ishl, e_ishr, e_iushr, e_idiv, e_irem, e_ineg, e_i2l, e_i2b, e_i2c, e_lmul, e_lcmp, e_dup, e_pop, e_dup_x1, e_dup2, e_if_eq, e_icmp_eq, e_if_ne, e_icmp_ne, e_if_lt, e_icmp_lt, e_if_ge, e_icmp_ge, e_if_gt, e_icmp_gt, e_if_le, e_icmp_le, e_ifnull, e_ifnonnull, e_acmp_eq, e_acmp_ne, e_getI, e_getJ, e_getR, e_getSI, e_getSR, e_getEI, e_getER, e_putI, e_putJ, e_putR, e_iald, e_bald, e_zald, e_lald, e_aald, e_alen, e_iast, e_bast, e_zast, e_last, e_newa, e_new, e_newq, e_ret, e_vret, e_obj, e_mmax, e_mmin, e_mabs, e_ldcS, e_sref, e_exc, e_thr, e_stq, e_cast, e_castY, e_castA, e_instS, e_cpy, e_aast, e_cpyR, e_cln, e_gcl, e_ldcM, e_sw, swc_n, swc_c, kon_v, kon_r, kon_t, lg_0, lg_s, ls0, lay, List.length_cons, List.length_nil, List.replicate, List.cons_append, List.nil_append, ps, lp, List.set_cons_zero, List.set_cons_succ, jk, kd_hI, ln_hI, iI_hI, iR_hI, iJ_hI, nn_hI, sU_hI, stI_hI, hI_hI, K0e, and_true, true_and, rtOk, fOk, ge_iff_le, Nat.reduceLeDiff, Nat.reduceAdd, Nat.reduceSub, Nat.reduceLT, c1, smk hs, smr1 hs, smr2 hs, smr4 hs, smr5 hs, smr7 hs, smr14 hs, smr18 hs, smr19 hs, smr20 hs, smr21 hs, smr22 hs, smr23 hs, smr24 hs, smr25 hs, smk381 hs, sml381 hs, smk382 hs, sml382 hs, smk383 hs, sml383 hs, smk384 hs, sml384 hs, smk385 hs, sml385 hs, smk386 hs, sml386 hs, smk387 hs, sml387 hs, smk388 hs, sml388 hs, smk389 hs, sml389 hs, smk390 hs, sml390 hs, smk391 hs, sml391 hs, smk392 hs, sml392 hs, smk393 hs, sml393 hs, smk394 hs, sml394 hs, lit, nN, nN2, nI_add, pk_mul, nI_clamp, vpi, nI_leI, nI_ltI, nI_eq, bP_z, not_true_eq_false, not_false_eq_true, false_implies, true_implies, implies_true, Nat.le_refl, Nat.lt_irrefl, true_or, or_true, m31, pk_sub, pk_m1, bP_1, bP_em, Classical.not_not, Nat.zero_le, cI_T, cI_F, thr_e, thr_0, thr_m, vus, vun, vuu, pk_us]
      have := k33 0 (by omega) τ (fun a ha => E a (by revert ha; simp only [List.contains_cons, List.contains_nil, Bool.or_false, Bool.or_eq_false_iff]; exact fun z => ⟨z.2.1, z.2.2⟩)) H (fun p hp => by rw [eo, (hx p hp).1, if_neg (by omega)])
      rw [bP_f (fun ⟨p, z, _⟩ => by omega)] at this
      exact this
    · intro k hk ih τ E H
      have em := E 381 rfl
      have eo := E 387 rfl
      have ef := E 389 rfl
      apply kX8_year_4
      simp (disch := omega) only [tX8_year_4, em, en, e_const, e_lconst, e_null, e_iload, e_lload, e_aload, e_istore, e_astore, e_lstore, e_iinc, e_iadd, e_isub, e_imul, e_iand, e_ior, e_ixor, e_ishl, e_ishr, e_iushr, e_idiv, e_irem, e_ineg, e_i2l, e_i2b, e_i2c, e_lmul, e_lcmp, e_dup, e_pop, e_dup_x1, e_dup2, e_if_eq, e_icmp_eq, e_if_ne, e_icmp_ne, e_if_lt, e_icmp_lt, e_if_ge, e_icmp_ge, e_if_gt, e_icmp_gt, e_if_le, e_icmp_le, e_ifnull, e_ifnonnull, e_acmp_eq, e_acmp_ne, e_getI, e_getJ, e_getR, e_getSI, e_getSR, e_getEI, e_getER, e_putI, e_putJ, e_putR, e_iald, e_bald, e_zald, e_lald, e_aald, e_alen, e_iast, e_bast, e_zast, e_last, e_newa, e_new, e_newq, e_ret, e_vret, e_obj, e_mmax, e_mmin, e_mabs, e_ldcS, e_sref, e_exc, e_thr, e_stq, e_cast, e_castY, e_castA, e_instS, e_cpy, e_aast, e_cpyR, e_cln, e_gcl, e_ldcM, e_sw, swc_n, swc_c, kon_v, kon_r, kon_t, lg_0, lg_s, ls0, lay, List.length_cons, List.length_nil, List.replicate, List.cons_append, List.nil_append, ps, lp, List.set_cons_zero, List.set_cons_succ, jk, kd_hI, ln_hI, iI_hI, iR_hI, iJ_hI, nn_hI, sU_hI, stI_hI, hI_hI, K0e, and_true, true_and, rtOk, fOk, ge_iff_le, Nat.reduceLeDiff, Nat.reduceAdd, Nat.reduceSub, Nat.reduceLT, c1, smk hs, smr1 hs, smr2 hs, smr4 hs, smr5 hs, smr7 hs, smr14 hs, smr18 hs, smr19 hs, smr20 hs, smr21 hs, smr22 hs, smr23 hs, smr24 hs, smr25 hs, smk381 hs, sml381 hs, smk382 hs, sml382 hs, smk383 hs, sml383 hs, smk384 hs, sml384 hs, smk385 hs, sml385 hs, smk386 hs, sml386 hs, smk387 hs, sml387 hs, smk388 hs, sml388 hs, smk389 hs, sml389 hs, smk390 hs, sml390 hs, smk391 hs, sml391 hs, smk392 hs, sml392 hs, smk393 hs, sml393 hs, smk394 hs, sml394 hs, lit, nN, nN2, nI_add, pk_mul, nI_clamp, vpi, nI_leI, nI_ltI, nI_eq, bP_z, not_true_eq_false, not_false_eq_true, false_implies, true_implies, implies_true, Nat.le_refl, Nat.lt_irrefl, true_or, or_true, m31, pk_sub, pk_m1, bP_1, bP_em, Classical.not_not, Nat.zero_le, cI_T, cI_F, thr_e, thr_0, thr_m, vus, vun, vuu, pk_us]
      refine ⟨fun z => by omega, fun _ => ?_⟩
      refine cl _ _ (sX8_takes (σ := τ) (x := x) hs (by rw [em]; exact hi) (by rw [em, eo]; exact hx) (p := k) (by rw [em]; exact hk)) rfl rfl rfl rfl (by omega) (smk hs) ?_
      rintro _ _ ⟨υ, rfl, rfl, E2⟩
      simp (disch := omega) only [e_const, e_lconst, e_null, e_iload, e_lload, e_aload, e_istore, e_astore, e_lstore, e_iinc, e_iadd, e_isub, e_imul, e_iand, e_ior, e_ixor, e_ishl, e_ishr, e_iushr, e_idiv, e_irem, e_ineg, e_i2l, e_i2b, e_i2c, e_lmul, e_lcmp, e_dup, e_pop, e_dup_x1, e_dup2, e_if_eq, e_icmp_eq, e_if_ne, e_icmp_ne, e_if_lt, e_icmp_lt, e_if_ge, e_icmp_ge, e_if_gt, e_icmp_gt, e_if_le, e_icmp_le, e_ifnull, e_ifnonnull, e_acmp_eq, e_acmp_ne, e_getI, e_getJ, e_getR, e_getSI, e_getSR, e_getEI, e_getER, e_putI, e_putJ, e_putR, e_iald, e_bald, e_zald, e_lald, e_aald, e_alen, e_iast, e_bast, e_zast, e_last, e_newa, e_new, e_newq, e_ret, e_vret, e_obj, e_mmax, e_mmin, e_mabs, e_ldcS, e_sref, e_exc, e_thr, e_stq, e_cast, e_castY, e_castA, e_instS, e_cpy, e_aast, e_cpyR, e_cln, e_gcl, e_ldcM, e_sw, swc_n, swc_c, kon_v, kon_r, kon_t, lg_0, lg_s, ls0, lay, List.length_cons, List.length_nil, List.replicate, List.cons_append, List.nil_append, ps, lp, List.set_cons_zero, List.set_cons_succ, jk, kd_hI, ln_hI, iI_hI, iR_hI, iJ_hI, nn_hI, sU_hI, stI_hI, hI_hI, K0e, and_true, true_and, rtOk, fOk, ge_iff_le, Nat.reduceLeDiff, Nat.reduceAdd, Nat.reduceSub, Nat.reduceLT, c1, smk hs, smr1 hs, smr2 hs, smr4 hs, smr5 hs, smr7 hs, smr14 hs, smr18 hs, smr19 hs, smr20 hs, smr21 hs, smr22 hs, smr23 hs, smr24 hs, smr25 hs, smk381 hs, sml381 hs, smk382 hs, sml382 hs, smk383 hs, sml383 hs, smk384 hs, sml384 hs, smk385 hs, sml385 hs, smk386 hs, sml386 hs, smk387 hs, sml387 hs, smk388 hs, sml388 hs, smk389 hs, sml389 hs, smk390 hs, sml390 hs, smk391 hs, sml391 hs, smk392 hs, sml392 hs, smk393 hs, sml393 hs, smk394 hs, sml394 hs, lit, nN, nN2, nI_add, pk_mul, nI_clamp, vpi, nI_leI, nI_ltI, nI_eq, bP_z, not_true_eq_false, not_false_eq_true, false_implies, true_implies, implies_true, Nat.le_refl, Nat.lt_irrefl, true_or, or_true, m31, pk_sub, pk_m1, bP_1, bP_em, Classical.not_not, Nat.zero_le, cI_T, cI_F, thr_e, thr_0, thr_m, vus, vun, vuu, pk_us]
      refine ih _ (((Eqx.trans E (E2.mono (by intro a; simp only [List.contains_cons, List.contains_nil, Bool.or_false, Bool.or_eq_false_iff]; exact fun z => z.2)))).up rfl _) ?_
      intro p hp
      rw [vus]
      by_cases e : p = k
      · subst e
        rw [pk_us, em, ef]
        unfold yr
        rw [if_pos hk]
      · rw [pk_un e, E2 388 rfl]
        exact H p (by omega)
  apply kX8_year_0
  simp (disch := omega) only [tX8_year_0, e_const, e_lconst, e_null, e_iload, e_lload, e_aload, e_istore, e_astore, e_lstore, e_iinc, e_iadd, e_isub, e_imul, e_iand, e_ior, e_ixor, e_ishl, e_ishr, e_iushr, e_idiv, e_irem, e_ineg, e_i2l, e_i2b, e_i2c, e_lmul, e_lcmp, e_dup, e_pop, e_dup_x1, e_dup2, e_if_eq, e_icmp_eq, e_if_ne, e_icmp_ne, e_if_lt, e_icmp_lt, e_if_ge, e_icmp_ge, e_if_gt, e_icmp_gt, e_if_le, e_icmp_le, e_ifnull, e_ifnonnull, e_acmp_eq, e_acmp_ne, e_getI, e_getJ, e_getR, e_getSI, e_getSR, e_getEI, e_getER, e_putI, e_putJ, e_putR, e_iald, e_bald, e_zald, e_lald, e_aald, e_alen, e_iast, e_bast, e_zast, e_last, e_newa, e_new, e_newq, e_ret, e_vret, e_obj, e_mmax, e_mmin, e_mabs, e_ldcS, e_sref, e_exc, e_thr, e_stq, e_cast, e_castY, e_castA, e_instS, e_cpy, e_aast, e_cpyR, e_cln, e_gcl, e_ldcM, e_sw, swc_n, swc_c, kon_v, kon_r, kon_t, lg_0, lg_s, ls0, lay, List.length_cons, List.length_nil, List.replicate, List.cons_append, List.nil_append, ps, lp, List.set_cons_zero, List.set_cons_succ, jk, kd_hI, ln_hI, iI_hI, iR_hI, iJ_hI, nn_hI, sU_hI, stI_hI, hI_hI, K0e, and_true, true_and, rtOk, fOk, ge_iff_le, Nat.reduceLeDiff, Nat.reduceAdd, Nat.reduceSub, Nat.reduceLT, c1, smk hs, smr1 hs, smr2 hs, smr4 hs, smr5 hs, smr7 hs, smr14 hs, smr18 hs, smr19 hs, smr20 hs, smr21 hs, smr22 hs, smr23 hs, smr24 hs, smr25 hs, smk381 hs, sml381 hs, smk382 hs, sml382 hs, smk383 hs, sml383 hs, smk384 hs, sml384 hs, smk385 hs, sml385 hs, smk386 hs, sml386 hs, smk387 hs, sml387 hs, smk388 hs, sml388 hs, smk389 hs, sml389 hs, smk390 hs, sml390 hs, smk391 hs, sml391 hs, smk392 hs, sml392 hs, smk393 hs, sml393 hs, smk394 hs, sml394 hs, lit, nN, nN2, nI_add, pk_mul, nI_clamp, vpi, nI_leI, nI_ltI, nI_eq, bP_z, not_true_eq_false, not_false_eq_true, false_implies, true_implies, implies_true, Nat.le_refl, Nat.lt_irrefl, true_or, or_true, m31, pk_sub, pk_m1, bP_1, bP_em, Classical.not_not, Nat.zero_le, cI_T, cI_F, thr_e, thr_0, thr_m, vus, vun, vuu, pk_us]
  exact k4 0 (by omega) σ (Eqx.refl _ _) (fun g hg => by omega)
theorem sX8_years (hs : SM h) (hd : 2 ≤ d) (hi : Ic (σ 381)) {x : Nat → Nat} (hx : ∀ o, o < nP (σ 381) → σ 387 o = nI (x o) ∧ x o < 32) {n : Nat} (hn : n ≤ 1000) : WPm mX8_years d [.ref 380, .int (nI n)] (hI h σ) (fun o h1 => ∃ τ, o = .returned none ∧ h1 = hI h τ ∧ Eqx [387, 388, 390] σ τ ∧ ∀ p, p < nP (σ 381) → τ 387 p = nI (yrs (σ 389) (nP (σ 381)) x n p)) := by
  refine mO rfl rfl ?_
  have hy := yrs_lt (Fr := σ 389) (fun o ho => (hx o ho).2)
  have k4 : ∀ k, k ≤ n → ∀ τ b, Eqx [387, 388, 390] σ τ → (∀ p, p < nP (σ 381) → τ 387 p = nI (yrs (σ 389) (nP (σ 381)) x k p)) → (b = nI 0 → yr (σ 389) (nP (σ 381)) (yrs (σ 389) (nP (σ 381)) x k) = yrs (σ 389) (nP (σ 381)) x k) → WPb mX8_years d 4 [.ref 380, .int (nI n), .int b, .int (nI k)] [] (hI h τ) (fun o h1 => ∃ τ, o = .returned none ∧ h1 = hI h τ ∧ Eqx [387, 388, 390] σ τ ∧ ∀ p, p < nP (σ 381) → τ 387 p = nI (yrs (σ 389) (nP (σ 381)) x n p)) := by
    refine bk (n := n) ?_ ?_
    · intro τ b E H _
      apply kX8_years_4
      simp (disch := omega) only [tX8_years_4, e_const, e_lconst, e_null, e_iload, e_lload, e_aload, e_istore, e_astore, e_lstore, e_iinc, e_iadd, e_isub, e_imul, e_iand, e_ior, e_ixor, e_ishl, e_ishr, e_iushr, e_idiv, e_irem, e_ineg, e_i2l, e_i2b, e_i2c, e_lmul, e_lcmp, e_dup, e_pop, e_dup_x1, e_dup2, e_if_eq, e_icmp_eq, e_if_ne, e_icmp_ne, e_if_lt, e_icmp_lt, e_if_ge, e_icmp_ge, e_if_gt, e_icmp_gt, e_if_le, e_icmp_le, e_ifnull, e_ifnonnull, e_acmp_eq, e_acmp_ne, e_getI, e_getJ, e_getR, e_getSI, e_getSR, e_getEI, e_getER, e_putI, e_putJ, e_putR, e_iald, e_bald, e_zald, e_lald, e_aald, e_alen, e_iast, e_bast, e_zast, e_last, e_newa, e_new, e_newq, e_ret, e_vret, e_obj, e_mmax, e_mmin, e_mabs, e_ldcS, e_sref, e_exc, e_thr, e_stq, e_cast, e_castY, e_castA, e_instS, e_cpy, e_aast, e_cpyR, e_cln, e_gcl, e_ldcM, e_sw, swc_n, swc_c, kon_v, kon_r, kon_t, lg_0, lg_s, ls0, lay, List.length_cons, List.length_nil, List.replicate, List.cons_append, List.nil_append, ps, lp, List.set_cons_zero, List.set_cons_succ, jk, kd_hI, ln_hI, iI_hI, iR_hI, iJ_hI, nn_hI, sU_hI, stI_hI, hI_hI, K0e, and_true, true_and, rtOk, fOk, ge_iff_le, Nat.reduceLeDiff, Nat.reduceAdd, Nat.reduceSub, Nat.reduceLT, c1, smk hs, smr1 hs, smr2 hs, smr4 hs, smr5 hs, smr7 hs, smr14 hs, smr18 hs, smr19 hs, smr20 hs, smr21 hs, smr22 hs, smr23 hs, smr24 hs, smr25 hs, smk381 hs, sml381 hs, smk382 hs, sml382 hs, smk383 hs, sml383 hs, smk384 hs, sml384 hs, smk385 hs, sml385 hs, smk386 hs, sml386 hs, smk387 hs, sml387 hs, smk388 hs, sml388 hs, smk389 hs, sml389 hs, smk390 hs, sml390 hs, smk391 hs, sml391 hs, smk392 hs, sml392 hs, smk393 hs, sml393 hs, smk394 hs, sml394 hs, lit, nN, nN2, nI_add, pk_mul, nI_clamp, vpi, nI_leI, nI_ltI, nI_eq, bP_z, not_true_eq_false, not_false_eq_true, false_implies, true_implies, implies_true, Nat.le_refl, Nat.lt_irrefl, true_or, or_true, m31, pk_sub, pk_m1, bP_1, bP_em, Classical.not_not, Nat.zero_le, cI_T, cI_F, thr_e, thr_0, thr_m, vus, vun, vuu, pk_us]
      exact ⟨τ, rfl, E, H⟩
    · intro k hk ih τ b E H hb
      have em := E 381 rfl
      have ef := E 389 rfl
      apply kX8_years_4
      simp (disch := omega) only [tX8_years_4, e_const, e_lconst, e_null, e_iload, e_lload, e_aload, e_istore, e_astore, e_lstore, e_iinc, e_iadd, e_isub, e_imul, e_iand, e_ior, e_ixor, e_ishl, e_ishr, e_iushr, e_idiv, e_irem, e_ineg, e_i2l, e_i2b, e_i2c, e_lmul, e_lcmp, e_dup, e_pop, e_dup_x1, e_dup2, e_if_eq, e_icmp_eq, e_if_ne, e_icmp_ne, e_if_lt, e_icmp_lt, e_if_ge, e_icmp_ge, e_if_gt, e_icmp_gt, e_if_le, e_icmp_le, e_ifnull, e_ifnonnull, e_acmp_eq, e_acmp_ne, e_getI, e_getJ, e_getR, e_getSI, e_getSR, e_getEI, e_getER, e_putI, e_putJ, e_putR, e_iald, e_bald, e_zald, e_lald, e_aald, e_alen, e_iast, e_bast, e_zast, e_last, e_newa, e_new, e_newq, e_ret, e_vret, e_obj, e_mmax, e_mmin, e_mabs, e_ldcS, e_sref, e_exc, e_thr, e_stq, e_cast, e_castY, e_castA, e_instS, e_cpy, e_aast, e_cpyR, e_cln, e_gcl, e_ldcM, e_sw, swc_n, swc_c, kon_v, kon_r, kon_t, lg_0, lg_s, ls0, lay, List.length_cons, List.length_nil, List.replicate, List.cons_append, List.nil_append, ps, lp, List.set_cons_zero, List.set_cons_succ, jk, kd_hI, ln_hI, iI_hI, iR_hI, iJ_hI, nn_hI, sU_hI, stI_hI, hI_hI, K0e, and_true, true_and, rtOk, fOk, ge_iff_le, Nat.reduceLeDiff, Nat.reduceAdd, Nat.reduceSub, Nat.reduceLT, c1, smk hs, smr1 hs, smr2 hs, smr4 hs, smr5 hs, smr7 hs, smr14 hs, smr18 hs, smr19 hs, smr20 hs, smr21 hs, smr22 hs, smr23 hs, smr24 hs, smr25 hs, smk381 hs, sml381 hs, smk382 hs, sml382 hs, smk383 hs, sml383 hs, smk384 hs, sml384 hs, smk385 hs, sml385 hs, smk386 hs, sml386 hs, smk387 hs, sml387 hs, smk388 hs, sml388 hs, smk389 hs, sml389 hs, smk390 hs, sml390 hs, smk391 hs, sml391 hs, smk392 hs, sml392 hs, smk393 hs, sml393 hs, smk394 hs, sml394 hs, lit, nN, nN2, nI_add, pk_mul, nI_clamp, vpi, nI_leI, nI_ltI, nI_eq, bP_z, not_true_eq_false, not_false_eq_true, false_implies, true_implies, implies_true, Nat.le_refl, Nat.lt_irrefl, true_or, or_true, m31, pk_sub, pk_m1, bP_1, bP_em, Classical.not_not, Nat.zero_le, cI_T, cI_F, thr_e, thr_0, thr_m, vus, vun, vuu, pk_us]
      refine ⟨fun z => by omega, fun _ => ⟨fun h0 => ?_, fun h0 => ?_⟩⟩
      · refine ⟨τ, rfl, E, fun p hp => ?_⟩
        have := yrs_fix (hb h0) (n - k)
        rw [show k + (n - k) = n by omega] at this
        rw [this]
        exact H p hp
      · refine cl _ _ (sX8_year (σ := τ) (x := yrs (σ 389) (nP (σ 381)) x k) hs (by omega) (by rw [em]; exact hi) (by rw [em]; exact fun o ho => ⟨H o ho, hy k o ho⟩)) rfl rfl rfl rfl (by omega) (smk hs) ?_
        rintro _ _ ⟨υ, rfl, rfl, E2, H2⟩
        rw [em, ef] at H2 ⊢
        simp (disch := omega) only [e_const, e_lconst, e_null, e_iload, e_lload, e_aload, e_istore, e_astore, e_lstore, e_iinc, e_iadd, e_isub, e_imul, e_iand, e_ior, e_ixor, e_ishl, e_ishr, e_iushr, e_idiv, e_irem, e_ineg, e_i2l, e_i2b, e_i2c, e_lmul, e_lcmp, e_dup, e_pop, e_dup_x1, e_dup2, e_if_eq, e_icmp_eq, e_if_ne, e_icmp_ne, e_if_lt, e_icmp_lt, e_if_ge, e_icmp_ge, e_if_gt, e_icmp_gt, e_if_le, e_icmp_le, e_ifnull, e_ifnonnull, e_acmp_eq, e_acmp_ne, e_getI, e_getJ, e_getR, e_getSI, e_getSR, e_getEI, e_getER, e_putI, e_putJ, e_putR, e_iald, e_bald, e_zald, e_lald, e_aald, e_alen, e_iast, e_bast, e_zast, e_last, e_newa, e_new, e_newq, e_ret, e_vret, e_obj, e_mmax, e_mmin, e_mabs, e_ldcS, e_sref, e_exc, e_thr, e_stq, e_cast, e_castY, e_castA, e_instS, e_cpy, e_aast, e_cpyR, e_cln, e_gcl, e_ldcM, e_sw, swc_n, swc_c, kon_v, kon_r, kon_t, lg_0, lg_s, ls0, lay, List.length_cons, List.length_nil, List.replicate, List.cons_append, List.nil_append, ps, lp, List.set_cons_zero, List.set_cons_succ, jk, kd_hI, ln_hI, iI_hI, iR_hI, iJ_hI, nn_hI, sU_hI, stI_hI, hI_hI, K0e, and_true, true_and, rtOk, fOk, ge_iff_le, Nat.reduceLeDiff, Nat.reduceAdd, Nat.reduceSub, Nat.reduceLT, c1, smk hs, smr1 hs, smr2 hs, smr4 hs, smr5 hs, smr7 hs, smr14 hs, smr18 hs, smr19 hs, smr20 hs, smr21 hs, smr22 hs, smr23 hs, smr24 hs, smr25 hs, smk381 hs, sml381 hs, smk382 hs, sml382 hs, smk383 hs, sml383 hs, smk384 hs, sml384 hs, smk385 hs, sml385 hs, smk386 hs, sml386 hs, smk387 hs, sml387 hs, smk388 hs, sml388 hs, smk389 hs, sml389 hs, smk390 hs, sml390 hs, smk391 hs, sml391 hs, smk392 hs, sml392 hs, smk393 hs, sml393 hs, smk394 hs, sml394 hs, lit, nN, nN2, nI_add, pk_mul, nI_clamp, vpi, nI_leI, nI_ltI, nI_eq, bP_z, not_true_eq_false, not_false_eq_true, false_implies, true_implies, implies_true, Nat.le_refl, Nat.lt_irrefl, true_or, or_true, m31, pk_sub, pk_m1, bP_1, bP_em, Classical.not_not, Nat.zero_le, cI_T, cI_F, thr_e, thr_0, thr_m, vus, vun, vuu, pk_us]
        refine ih υ _ (E.trans E2) (fun p hp => by rw [yrs_s]; exact H2 p hp) ?_
        intro hz
        rw [bP_z] at hz
        rw [yrs_s, yr_fix hz, yr_fix hz]
  apply kX8_years_0
  simp (disch := omega) only [tX8_years_0, e_const, e_lconst, e_null, e_iload, e_lload, e_aload, e_istore, e_astore, e_lstore, e_iinc, e_iadd, e_isub, e_imul, e_iand, e_ior, e_ixor, e_ishl, e_ishr, e_iushr, e_idiv, e_irem, e_ineg, e_i2l, e_i2b, e_i2c, e_lmul, e_lcmp, e_dup, e_pop, e_dup_x1, e_dup2, e_if_eq, e_icmp_eq, e_if_ne, e_icmp_ne, e_if_lt, e_icmp_lt, e_if_ge, e_icmp_ge, e_if_gt, e_icmp_gt, e_if_le, e_icmp_le, e_ifnull, e_ifnonnull, e_acmp_eq, e_acmp_ne, e_getI, e_getJ, e_getR, e_getSI, e_getSR, e_getEI, e_getER, e_putI, e_putJ, e_putR, e_iald, e_bald, e_zald, e_lald, e_aald, e_alen, e_iast, e_bast, e_zast, e_last, e_newa, e_new, e_newq, e_ret, e_vret, e_obj, e_mmax, e_mmin, e_mabs, e_ldcS, e_sref, e_exc, e_thr, e_stq, e_cast, e_castY, e_castA, e_instS, e_cpy, e_aast, e_cpyR, e_cln, e_gcl, e_ldcM, e_sw, swc_n, swc_c, kon_v, kon_r, kon_t, lg_0, lg_s, ls0, lay, List.length_cons, List.length_nil, List.replicate, List.cons_append, List.nil_append, ps, lp, List.set_cons_zero, List.set_cons_succ, jk, kd_hI, ln_hI, iI_hI, iR_hI, iJ_hI, nn_hI, sU_hI, stI_hI, hI_hI, K0e, and_true, true_and, rtOk, fOk, ge_iff_le, Nat.reduceLeDiff, Nat.reduceAdd, Nat.reduceSub, Nat.reduceLT, c1, smk hs, smr1 hs, smr2 hs, smr4 hs, smr5 hs, smr7 hs, smr14 hs, smr18 hs, smr19 hs, smr20 hs, smr21 hs, smr22 hs, smr23 hs, smr24 hs, smr25 hs, smk381 hs, sml381 hs, smk382 hs, sml382 hs, smk383 hs, sml383 hs, smk384 hs, sml384 hs, smk385 hs, sml385 hs, smk386 hs, sml386 hs, smk387 hs, sml387 hs, smk388 hs, sml388 hs, smk389 hs, sml389 hs, smk390 hs, sml390 hs, smk391 hs, sml391 hs, smk392 hs, sml392 hs, smk393 hs, sml393 hs, smk394 hs, sml394 hs, lit, nN, nN2, nI_add, pk_mul, nI_clamp, vpi, nI_leI, nI_ltI, nI_eq, bP_z, not_true_eq_false, not_false_eq_true, false_implies, true_implies, implies_true, Nat.le_refl, Nat.lt_irrefl, true_or, or_true, m31, pk_sub, pk_m1, bP_1, bP_em, Classical.not_not, Nat.zero_le, cI_T, cI_F, thr_e, thr_0, thr_m, vus, vun, vuu, pk_us]
  refine k4 0 (by omega) σ _ (Eqx.refl _ _) (fun p hp => (hx p hp).1) (fun z => absurd z (by decide))
end
