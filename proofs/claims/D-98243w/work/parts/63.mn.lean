/-! CONTRACTS of the model: reading 1 -/
set_option maxRecDepth 100000
/-- blanks are passed -/
def skp (T : Nat → Int32) (e : Nat) : Nat → Nat → Nat
  | 0, a => a
  | f + 1, a => if a < e ∧ T a = nI 32 then skp T e f (a + 1) else a
def sk (T : Nat → Int32) (e a : Nat) : Nat := skp T e (e - a) a
theorem sk_t {T : Nat → Int32} {e a : Nat} (h : a < e) (h2 : T a = nI 32) : sk T e a = sk T e (a + 1) := by
  unfold sk
  obtain ⟨f, hf⟩ : ∃ f, e - a = f + 1 := ⟨e - a - 1, by omega⟩
  rw [hf, show e - (a + 1) = f by omega]
  show (if a < e ∧ T a = nI 32 then _ else _) = _
  rw [if_pos ⟨h, h2⟩]
theorem sk_f {T : Nat → Int32} {e a : Nat} (h : ¬ (a < e ∧ T a = nI 32)) : sk T e a = a := by
  unfold sk
  cases e - a with
  | zero => rfl
  | succ f =>
    show (if a < e ∧ T a = nI 32 then _ else _) = _
    rw [if_neg h]
theorem sk_le {T : Nat → Int32} {e : Nat} : ∀ (n a : Nat), a + n = e → a ≤ sk T e a ∧ sk T e a ≤ e := by
  intro n
  induction n with
  | zero => intro a ha; rw [sk_f (by omega)]; omega
  | succ n ih =>
    intro a ha
    by_cases h : a < e ∧ T a = nI 32
    · rw [sk_t h.1 h.2]; have := ih (a + 1) (by omega); omega
    · rw [sk_f h]; omega
theorem sk_nb {T : Nat → Int32} {e : Nat} : ∀ (n a : Nat), a + n = e → ¬ (sk T e a < e ∧ T (sk T e a) = nI 32) := by
  intro n
  induction n with
  | zero => intro a ha; rw [sk_f (by omega)]; omega
  | succ n ih =>
    intro a ha
    by_cases h : a < e ∧ T a = nI 32
    · rw [sk_t h.1 h.2]; exact ih (a + 1) (by omega)
    · rw [sk_f h]; exact h
section
variable {h : MH} {σ : Nat → Nat → Int32} {d : Nat}
/-- the text that is read -/
def Tx (σ : Nat → Nat → Int32) (T : Nat → Int32) (e : Nat) : Prop := σ 380 10 = nI e ∧ e ≤ 400 ∧ ((σ 380 9 = N1 ∧ ∀ k, k < e → σ 385 k = T k) ∨ (σ 380 9 = nI 900 ∧ ∀ k, k < e → σ 381 (900 + k) = T k))
/-- the place in the text -/
def pat (σ : Nat → Nat → Int32) (a : Nat) : Nat → Nat → Int32 := va_up σ 380 (upd (σ 380) 11 (nI a))
theorem pat_e (σ : Nat → Nat → Int32) (a : Nat) : va_up σ 380 (upd (σ 380) 11 (nI a)) = pat σ a := rfl
theorem pat_m (σ : Nat → Nat → Int32) (a : Nat) {b : Nat} (h : b ≠ 380) : pat σ a b = σ b := vun _ _ h
theorem pat_a (σ : Nat → Nat → Int32) (a : Nat) : pat σ a 380 11 = nI a := by unfold pat; rw [vus, pk_us]
theorem pat_k (σ : Nat → Nat → Int32) (a : Nat) {k : Nat} (h : k ≠ 11) : pat σ a 380 k = σ 380 k := by unfold pat; rw [vus, pk_un h]
theorem pat_pat (σ : Nat → Nat → Int32) (a b : Nat) : pat (pat σ a) b = pat σ b := by
  unfold pat
  rw [vuu, vus, upd_upd]
theorem pat_id {σ : Nat → Nat → Int32} {a : Nat} (e : σ 380 11 = nI a) : pat σ a = σ := by
  unfold pat
  rw [upd_eq e, va_id]
theorem Tx.pat {T : Nat → Int32} {e : Nat} (t : Tx σ T e) (a : Nat) : Tx (pat σ a) T e := by
  unfold Tx
  rw [pat_k _ _ (by omega), pat_k _ _ (by omega), pat_m _ _ (by omega), pat_m _ _ (by omega)]
  exact t
theorem sX8_letter (hs : SM h) {T : Nat → Int32} {e k : Nat} (t : Tx σ T e) (hk : k < e) : RT mX8_letter d [.ref 380, .int (nI k)] (hI h σ) (some (.int (T k))) (hI h σ) := by
  refine mO rfl rfl ?_
  obtain ⟨_, he, ⟨hb, ht⟩ | ⟨hb, ht⟩⟩ := t
  · apply kX8_letter_0
    simp (disch := omega) only [tX8_letter_0, hb, e_const, e_lconst, e_null, e_iload, e_lload, e_aload, e_istore, e_astore, e_lstore, e_iinc, e_iadd, e_isub, e_imul, e_iand, e_ior, e_ixor, e_ishl, e_ishr, e_iushr, e_idiv, e_irem, e_ineg, e_i2l, e_i2b, e_i2c, e_lmul, e_lcmp, e_dup, e_pop, e_dup_x1, e_dup2, e_if_eq, e_icmp_eq, e_if_ne, e_icmp_ne, e_if_lt, e_icmp_lt, e_if_ge, e_icmp_ge, e_if_gt, e_icmp_gt, e_if_le, e_icmp_le, e_ifnull, e_ifnonnull, e_acmp_eq, e_acmp_ne, e_getI, e_getJ, e_getR, e_getSI, e_getSR, e_getEI, e_getER, e_putI, e_putJ, e_putR, e_iald, e_bald, e_zald, e_lald, e_aald, e_alen, e_iast, e_bast, e_zast, e_last, e_newa, e_new, e_newq, e_ret, e_vret, e_obj, e_mmax, e_mmin, e_mabs, e_ldcS, e_sref, e_exc, e_thr, e_stq, e_cast, e_castY, e_castA, e_instS, e_cpy, e_aast, e_cpyR, e_cln, e_gcl, e_ldcM, e_sw, swc_n, swc_c, kon_v, kon_r, kon_t, lg_0, lg_s, ls0, lay, List.length_cons, List.length_nil, List.replicate, List.cons_append, List.nil_append, ps, lp, List.set_cons_zero, List.set_cons_succ, jk, kd_hI, ln_hI, iI_hI, iR_hI, iJ_hI, nn_hI, sU_hI, stI_hI, hI_hI, K0e, and_true, true_and, rtOk, fOk, ge_iff_le, Nat.reduceLeDiff, Nat.reduceAdd, Nat.reduceSub, Nat.reduceLT, c1, smk hs, smr1 hs, smr2 hs, smr4 hs, smr5 hs, smr7 hs, smr14 hs, smr18 hs, smr19 hs, smr20 hs, smr21 hs, smr22 hs, smr23 hs, smr24 hs, smr25 hs, smk381 hs, sml381 hs, smk382 hs, sml382 hs, smk383 hs, sml383 hs, smk384 hs, sml384 hs, smk385 hs, sml385 hs, smk386 hs, sml386 hs, smk387 hs, sml387 hs, smk388 hs, sml388 hs, smk389 hs, sml389 hs, smk390 hs, sml390 hs, smk391 hs, sml391 hs, smk392 hs, sml392 hs, smk393 hs, sml393 hs, smk394 hs, sml394 hs, lit, nN, nN2, nI_add, pk_mul, nI_clamp, vpi, nI_leI, nI_ltI, nI_eq, bP_z, not_true_eq_false, not_false_eq_true, false_implies, true_implies, implies_true, Nat.le_refl, Nat.lt_irrefl, true_or, or_true, m31, pk_sub, pk_m1, bP_1, bP_em, Classical.not_not, Nat.zero_le, cI_T, cI_F, thr_e, thr_0, thr_m, vus, vun, vuu, pk_us]
    rw [ht k hk]
  · apply kX8_letter_0
    simp (disch := omega) only [tX8_letter_0, hb, e_const, e_lconst, e_null, e_iload, e_lload, e_aload, e_istore, e_astore, e_lstore, e_iinc, e_iadd, e_isub, e_imul, e_iand, e_ior, e_ixor, e_ishl, e_ishr, e_iushr, e_idiv, e_irem, e_ineg, e_i2l, e_i2b, e_i2c, e_lmul, e_lcmp, e_dup, e_pop, e_dup_x1, e_dup2, e_if_eq, e_icmp_eq, e_if_ne, e_icmp_ne, e_if_lt, e_icmp_lt, e_if_ge, e_icmp_ge, e_if_gt, e_icmp_gt, e_if_le, e_icmp_le, e_ifnull, e_ifnonnull, e_acmp_eq, e_acmp_ne, e_getI, e_getJ, e_getR, e_getSI, e_getSR, e_getEI, e_getER, e_putI, e_putJ, e_putR, e_iald, e_bald, e_zald, e_lald, e_aald, e_alen, e_iast, e_bast, e_zast, e_last, e_newa, e_new, e_newq, e_ret, e_vret, e_obj, e_mmax, e_mmin, e_mabs, e_ldcS, e_sref, e_exc, e_thr, e_stq, e_cast, e_castY, e_castA, e_instS, e_cpy, e_aast, e_cpyR, e_cln, e_gcl, e_ldcM, e_sw, swc_n, swc_c, kon_v, kon_r, kon_t, lg_0, lg_s, ls0, lay, List.length_cons, List.length_nil, List.replicate, List.cons_append, List.nil_append, ps, lp, List.set_cons_zero, List.set_cons_succ, jk, kd_hI, ln_hI, iI_hI, iR_hI, iJ_hI, nn_hI, sU_hI, stI_hI, hI_hI, K0e, and_true, true_and, rtOk, fOk, ge_iff_le, Nat.reduceLeDiff, Nat.reduceAdd, Nat.reduceSub, Nat.reduceLT, c1, smk hs, smr1 hs, smr2 hs, smr4 hs, smr5 hs, smr7 hs, smr14 hs, smr18 hs, smr19 hs, smr20 hs, smr21 hs, smr22 hs, smr23 hs, smr24 hs, smr25 hs, smk381 hs, sml381 hs, smk382 hs, sml382 hs, smk383 hs, sml383 hs, smk384 hs, sml384 hs, smk385 hs, sml385 hs, smk386 hs, sml386 hs, smk387 hs, sml387 hs, smk388 hs, sml388 hs, smk389 hs, sml389 hs, smk390 hs, sml390 hs, smk391 hs, sml391 hs, smk392 hs, sml392 hs, smk393 hs, sml393 hs, smk394 hs, sml394 hs, lit, nN, nN2, nI_add, pk_mul, nI_clamp, vpi, nI_leI, nI_ltI, nI_eq, bP_z, not_true_eq_false, not_false_eq_true, false_implies, true_implies, implies_true, Nat.le_refl, Nat.lt_irrefl, true_or, or_true, m31, pk_sub, pk_m1, bP_1, bP_em, Classical.not_not, Nat.zero_le, cI_T, cI_F, thr_e, thr_0, thr_m, vus, vun, vuu, pk_us]
    refine ⟨fun _ => ?_, fun z => absurd z (oI_ne (f := none) (by decide) (by omega))⟩
    rw [ht k hk]
theorem sX8_skip (hs : SM h) (hd : 1 ≤ d) {T : Nat → Int32} {e a : Nat} (t : Tx σ T e) (ha : a ≤ e) (h11 : σ 380 11 = nI a) : RT mX8_skip d [.ref 380] (hI h σ) none (hI h (pat σ (sk T e a))) := by
  refine mO rfl rfl ?_
  have he := t.2.1
  have key : ∀ (n b : Nat), b + n = e → WPb mX8_skip d 0 [.ref 380] [] (hI h (pat σ b)) (fun o h1 => o = .returned none ∧ h1 = hI h (pat σ (sk T e b))) := by
    intro n
    induction n with
    | zero =>
      intro b hb
      obtain rfl : b = e := by omega
      apply kX8_skip_0
      simp (disch := omega) only [tX8_skip_0, pat_a, pat_k, t.1, e_const, e_lconst, e_null, e_iload, e_lload, e_aload, e_istore, e_astore, e_lstore, e_iinc, e_iadd, e_isub, e_imul, e_iand, e_ior, e_ixor, e_ishl, e_ishr, e_iushr, e_idiv, e_irem, e_ineg, e_i2l, e_i2b, e_i2c, e_lmul, e_lcmp, e_dup, e_pop, e_dup_x1, e_dup2, e_if_eq, e_icmp_eq, e_if_ne, e_icmp_ne, e_if_lt, e_icmp_lt, e_if_ge, e_icmp_ge, e_if_gt, e_icmp_gt, e_if_le, e_icmp_le, e_ifnull, e_ifnonnull, e_acmp_eq, e_acmp_ne, e_getI, e_getJ, e_getR, e_getSI, e_getSR, e_getEI, e_getER, e_putI, e_putJ, e_putR, e_iald, e_bald, e_zald, e_lald, e_aald, e_alen, e_iast, e_bast, e_zast, e_last, e_newa, e_new, e_newq, e_ret, e_vret, e_obj, e_mmax, e_mmin, e_mabs, e_ldcS, e_sref, e_exc, e_thr, e_stq, e_cast, e_castY, e_castA, e_instS, e_cpy, e_aast, e_cpyR, e_cln, e_gcl, e_ldcM, e_sw, swc_n, swc_c, kon_v, kon_r, kon_t, lg_0, lg_s, ls0, lay, List.length_cons, List.length_nil, List.replicate, List.cons_append, List.nil_append, ps, lp, List.set_cons_zero, List.set_cons_succ, jk, kd_hI, ln_hI, iI_hI, iR_hI, iJ_hI, nn_hI, sU_hI, stI_hI, hI_hI, K0e, and_true, true_and, rtOk, fOk, ge_iff_le, Nat.reduceLeDiff, Nat.reduceAdd, Nat.reduceSub, Nat.reduceLT, c1, smk hs, smr1 hs, smr2 hs, smr4 hs, smr5 hs, smr7 hs, smr14 hs, smr18 hs, smr19 hs, smr20 hs, smr21 hs, smr22 hs, smr23 hs, smr24 hs, smr25 hs, smk381 hs, sml381 hs, smk382 hs, sml382 hs, smk383 hs, sml383 hs, smk384 hs, sml384 hs, smk385 hs, sml385 hs, smk386 hs, sml386 hs, smk387 hs, sml387 hs, smk388 hs, sml388 hs, smk389 hs, sml389 hs, smk390 hs, sml390 hs, smk391 hs, sml391 hs, smk392 hs, sml392 hs, smk393 hs, sml393 hs, smk394 hs, sml394 hs, lit, nN, nN2, nI_add, pk_mul, nI_clamp, vpi, nI_leI, nI_ltI, nI_eq, bP_z, not_true_eq_false, not_false_eq_true, false_implies, true_implies, implies_true, Nat.le_refl, Nat.lt_irrefl, true_or, or_true, m31, pk_sub, pk_m1, bP_1, bP_em, Classical.not_not, Nat.zero_le, cI_T, cI_F, thr_e, thr_0, thr_m, vus, vun, vuu, pk_us]
      rw [sk_f (by omega)]
    | succ n ih =>
      intro b hb
      apply kX8_skip_0
      simp (disch := omega) only [tX8_skip_0, pat_a, pat_k, t.1, e_const, e_lconst, e_null, e_iload, e_lload, e_aload, e_istore, e_astore, e_lstore, e_iinc, e_iadd, e_isub, e_imul, e_iand, e_ior, e_ixor, e_ishl, e_ishr, e_iushr, e_idiv, e_irem, e_ineg, e_i2l, e_i2b, e_i2c, e_lmul, e_lcmp, e_dup, e_pop, e_dup_x1, e_dup2, e_if_eq, e_icmp_eq, e_if_ne, e_icmp_ne, e_if_lt, e_icmp_lt, e_if_ge, e_icmp_ge, e_if_gt, e_icmp_gt, e_if_le, e_icmp_le, e_ifnull, e_ifnonnull, e_acmp_eq, e_acmp_ne, e_getI, e_getJ, e_getR, e_getSI, e_getSR, e_getEI, e_getER, e_putI, e_putJ, e_putR, e_iald, e_bald, e_zald, e_lald, e_aald, e_alen, e_iast, e_bast, e_zast, e_last, e_newa, e_new, e_newq, e_ret, e_vret, e_obj, e_mmax, e_mmin, e_mabs, e_ldcS, e_sref, e_exc, e_thr, e_stq, e_cast, e_castY, e_castA, e_instS, e_cpy, e_aast, e_cpyR, e_cln, e_gcl, e_ldcM, e_sw, swc_n, swc_c, kon_v, kon_r, kon_t, lg_0, lg_s, ls0, lay, List.length_cons, List.length_nil, List.replicate, List.cons_append, List.nil_append, ps, lp, List.set_cons_zero, List.set_cons_succ, jk, kd_hI, ln_hI, iI_hI, iR_hI, iJ_hI, nn_hI, sU_hI, stI_hI, hI_hI, K0e, and_true, true_and, rtOk, fOk, ge_iff_le, Nat.reduceLeDiff, Nat.reduceAdd, Nat.reduceSub, Nat.reduceLT, c1, smk hs, smr1 hs, smr2 hs, smr4 hs, smr5 hs, smr7 hs, smr14 hs, smr18 hs, smr19 hs, smr20 hs, smr21 hs, smr22 hs, smr23 hs, smr24 hs, smr25 hs, smk381 hs, sml381 hs, smk382 hs, sml382 hs, smk383 hs, sml383 hs, smk384 hs, sml384 hs, smk385 hs, sml385 hs, smk386 hs, sml386 hs, smk387 hs, sml387 hs, smk388 hs, sml388 hs, smk389 hs, sml389 hs, smk390 hs, sml390 hs, smk391 hs, sml391 hs, smk392 hs, sml392 hs, smk393 hs, sml393 hs, smk394 hs, sml394 hs, lit, nN, nN2, nI_add, pk_mul, nI_clamp, vpi, nI_leI, nI_ltI, nI_eq, bP_z, not_true_eq_false, not_false_eq_true, false_implies, true_implies, implies_true, Nat.le_refl, Nat.lt_irrefl, true_or, or_true, m31, pk_sub, pk_m1, bP_1, bP_em, Classical.not_not, Nat.zero_le, cI_T, cI_F, thr_e, thr_0, thr_m, vus, vun, vuu, pk_us]
      refine ⟨fun z => by omega, fun _ => ?_⟩
      refine cR (sX8_letter (σ := pat σ b) hs (t.pat b) (by omega)) rfl rfl rfl rfl (by omega) (smk hs) ?_
      simp (disch := omega) only [pat_a, pat_e, pat_pat, e_const, e_lconst, e_null, e_iload, e_lload, e_aload, e_istore, e_astore, e_lstore, e_iinc, e_iadd, e_isub, e_imul, e_iand, e_ior, e_ixor, e_ishl, e_ishr, e_iushr, e_idiv, e_irem, e_ineg, e_i2l, e_i2b, e_i2c, e_lmul, e_lcmp, e_dup, e_pop, e_dup_x1, e_dup2, e_if_eq, e_icmp_eq, e_if_ne, e_icmp_ne, e_if_lt, e_icmp_lt, e_if_ge, e_icmp_ge, e_if_gt, e_icmp_gt, e_if_le, e_icmp_le, e_ifnull, e_ifnonnull, e_acmp_eq, e_acmp_ne, e_getI, e_getJ, e_getR, e_getSI, e_getSR, e_getEI, e_getER, e_putI, e_putJ, e_putR, e_iald, e_bald, e_zald, e_lald, e_aald, e_alen, e_iast, e_bast, e_zast, e_last, e_newa, e_new, e_newq, e_ret, e_vret, e_obj, e_mmax, e_mmin, e_mabs, e_ldcS, e_sref, e_exc, e_thr, e_stq, e_cast, e_castY, e_castA, e_instS, e_cpy, e_aast, e_cpyR, e_cln, e_gcl, e_ldcM, e_sw, swc_n, swc_c, kon_v, kon_r, kon_t, lg_0, lg_s, ls0, lay, List.length_cons, List.length_nil, List.replicate, List.cons_append, List.nil_append, ps, lp, List.set_cons_zero, List.set_cons_succ, jk, kd_hI, ln_hI, iI_hI, iR_hI, iJ_hI, nn_hI, sU_hI, stI_hI, hI_hI, K0e, and_true, true_and, rtOk, fOk, ge_iff_le, Nat.reduceLeDiff, Nat.reduceAdd, Nat.reduceSub, Nat.reduceLT, c1, smk hs, smr1 hs, smr2 hs, smr4 hs, smr5 hs, smr7 hs, smr14 hs, smr18 hs, smr19 hs, smr20 hs, smr21 hs, smr22 hs, smr23 hs, smr24 hs, smr25 hs, smk381 hs, sml381 hs, smk382 hs, sml382 hs, smk383 hs, sml383 hs, smk384 hs, sml384 hs, smk385 hs, sml385 hs, smk386 hs, sml386 hs, smk387 hs, sml387 hs, smk388 hs, sml388 hs, smk389 hs, sml389 hs, smk390 hs, sml390 hs, smk391 hs, sml391 hs, smk392 hs, sml392 hs, smk393 hs, sml393 hs, smk394 hs, sml394 hs, lit, nN, nN2, nI_add, pk_mul, nI_clamp, vpi, nI_leI, nI_ltI, nI_eq, bP_z, not_true_eq_false, not_false_eq_true, false_implies, true_implies, implies_true, Nat.le_refl, Nat.lt_irrefl, true_or, or_true, m31, pk_sub, pk_m1, bP_1, bP_em, Classical.not_not, Nat.zero_le, cI_T, cI_F, thr_e, thr_0, thr_m, vus, vun, vuu, pk_us]
      refine ⟨fun hc => ?_, fun hc => ?_⟩
      · rw [sk_f (fun z => hc z.2)]
      · rw [sk_t (by omega) hc]
        exact ih (b + 1) (by omega)
  have := key (e - a) a (by omega)
  rw [pat_id h11] at this
  exact this
end
