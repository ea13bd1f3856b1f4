/-! CONTRACTS of the model: the law is read 5 -/
set_option maxRecDepth 100000
/-- what the law says -/
def say (σ : Nat → Nat → Int32) (x : Int32) : Nat → Nat → Int32 := va_up σ 380 (upd (σ 380) 17 x)
/-- a line more -/
noncomputable def sys (φ : Fc) (x : Int32) (l : Ln) : Int32 := cI (l.2 φ ∧ x = N1) l.1 x
/-- n lines -/
noncomputable def fsy (φ : Fc) (L : Nat → Ln) (x : Int32) : Nat → Int32 := fu (fun y i => sys φ y (L i)) x
theorem fsy_s (φ : Fc) (L : Nat → Ln) (x : Int32) (n : Nat) : fsy φ L x (n + 1) = sys φ (fsy φ L x n) (L n) := rfl
theorem fsy_c {φ : Fc} {L K : Nat → Ln} {x : Int32} (n : Nat) (h : ∀ i, i < n → L i = K i) : fsy φ L x n = fsy φ K x n := by
  induction n with
  | zero => rfl
  | succ n ih => rw [fsy_s, fsy_s, ih (fun i hi => h i (by omega)), h n (by omega)]
section
variable {h : MH} {σ : Nat → Nat → Int32} {d : Nat} {T : Nat → Int32} {e : Nat} {φ : Fc} {a : Nat}
theorem say_m (x : Int32) {b : Nat} (h : b ≠ 380) : say σ x b = σ b := vun _ _ h
theorem say_a (x : Int32) : say σ x 380 17 = x := by unfold say; rw [vus, pk_us]
theorem say_k (x : Int32) {k : Nat} (h : k ≠ 17) : say σ x 380 k = σ 380 k := by unfold say; rw [vus, pk_un h]
theorem say_say (x y : Int32) : say (say σ x) y = say σ y := by
  unfold say
  rw [vus, vuu, upd_upd]
theorem say_id {x : Int32} (e : σ 380 17 = x) : say σ x = σ := by
  unfold say
  rw [← e]
  exact va_eq (upd_eq rfl).symm
theorem sy_e (x : Int32) (b : Nat) : va_up (pat σ b) 380 (upd (pat σ b 380) 17 x) = pat (say σ x) b := by
  unfold pat say
  rw [vus, vuu, vus, vuu, up_c _ _ (by omega)]
theorem Rs.say (R : Rs h σ T e φ) (x : Int32) : Rs h (say σ x) T e φ := by
  obtain ⟨t, c, f, hf⟩ := R
  refine ⟨?_, c.of (fun b hb => say_m x (by omega)), ?_, by rw [say_k _ (by omega)]; exact hf⟩
  · unfold Tx
    rw [say_k _ (by omega), say_k _ (by omega), say_m _ (by omega), say_m _ (by omega)]
    exact t
  · unfold Fa
    rw [say_m _ (by omega), say_k _ (by omega), say_k _ (by omega)]
    exact f
theorem sX8_some_6 (hs : SM h) (R : Rs h σ T e φ) (h13 : σ 380 13 = nI 0) (hd : 30 ≤ d) (ha : a ≤ e) : WPm mX8_some d [.ref 380] (hI h (pat σ a)) (PsB 1006 h σ φ (smR T e (atR T e 6) a)) := by
  have HA : ∀ a d, 28 ≤ d → a ≤ e → WPm mX8_atom d [.ref 380] (hI h (pat σ a)) (PsB 1006 h σ φ (atR T e 6 a)) := fun a d hd ha => sX8_atom_r hs 6 (by omega) σ d a R h13 (by omega) ha
  have HE : ∀ a d, 29 ≤ d → a ≤ e → WPm mX8_every d [.ref 380] (hI h (pat σ a)) (PsB 1006 h σ φ (evR T e (atR T e 6) a)) := fun a d hd ha => sX8_every_r hs (D := 28) (by omega) R HA (atR_ok 6) hd ha
  exact sX8_some_r hs (D := 29) (by omega) R HE (fun a h => evR_ok (atR_ok 6) h) hd ha
def PsL (h : MH) (σ : Nat → Nat → Int32) (φ : Fc) (r : PR Ln) : Outcome → MH → Prop := fun o h1 => match r with
  | .inl b => ∃ (a' : Nat), a' ≤ 1010 ∧ o = .returned none ∧ h1 = hI h (flt (pat σ a') (nI b))
  | .inr z => o = .returned none ∧ h1 = hI h (pat (say σ (sys φ (σ 380 17) z.1)) z.2)
theorem sX8_lawLine_r (hs : SM h) (R : Rs h σ T e φ) (h13 : σ 380 13 = nI 0) (hd : 31 ≤ d) (ha : a ≤ e) : WPm mX8_lawLine d [.ref 380] (hI h (pat σ a)) (PsL h σ φ (llR T e a)) := by
  refine mO rfl rfl ?_
  have he := R.1.2.1
  have hf := R.f
  have k35 : ∀ (g : Int32) (P : Fc → Prop) (a' : Nat), WPb mX8_lawLine d 35 [.ref 380, .int g, jk] [.int (bP (P φ))] (hI h (pat σ a')) (PsL h σ φ (.inr ((g, P), a'))) := by
    intro g P a'
    apply kX8_lawLine_35
    simp (disch := omega) only [Nat.reduceEqDiff, tX8_lawLine_35, hf, pat_k, sy_e, e_const, e_lconst, e_null, e_iload, e_lload, e_aload, e_istore, e_astore, e_lstore, e_iinc, e_iadd, e_isub, e_imul, e_iand, e_ior, e_ixor, e_ishl, e_ishr, e_iushr, e_idiv, e_irem, e_ineg, e_i2l, e_i2b, e_i2c, e_lmul, e_lcmp, e_dup, e_pop, e_dup_x1, e_dup2, e_if_eq, e_icmp_eq, e_if_ne, e_icmp_ne, e_if_lt, e_icmp_lt, e_if_ge, e_icmp_ge, e_if_gt, e_icmp_gt, e_if_le, e_icmp_le, e_ifnull, e_ifnonnull, e_acmp_eq, e_acmp_ne, e_getI, e_getJ, e_getR, e_getSI, e_getSR, e_getEI, e_getER, e_putI, e_putJ, e_putR, e_iald, e_bald, e_zald, e_lald, e_aald, e_alen, e_iast, e_bast, e_zast, e_last, e_newa, e_new, e_newq, e_ret, e_vret, e_obj, e_mmax, e_mmin, e_ldcS, e_sref, e_exc, e_thr, e_stq, e_cast, e_castY, e_castA, e_instS, e_cpy, e_aast, e_cpyR, e_cln, e_gcl, e_ldcM, e_sw, swc_n, swc_c, kon_v, kon_r, kon_t, lg_0, lg_s, ls0, lay, List.length_cons, List.length_nil, List.replicate, List.cons_append, List.nil_append, ps, lp, List.set_cons_zero, List.set_cons_succ, jk, kd_hI, ln_hI, iI_hI, iR_hI, iJ_hI, nn_hI, sU_hI, stI_hI, hI_hI, K0e, and_true, true_and, rtOk, fOk, ge_iff_le, Nat.reduceLeDiff, Nat.reduceAdd, Nat.reduceSub, Nat.reduceLT, c1, smk hs, smr1 hs, smr2 hs, smr4 hs, smr5 hs, smr7 hs, smr14 hs, smr18 hs, smr19 hs, smr20 hs, smr21 hs, smr22 hs, smr23 hs, smr24 hs, smr25 hs, smk381 hs, sml381 hs, smk382 hs, sml382 hs, smk383 hs, sml383 hs, smk384 hs, sml384 hs, smk385 hs, sml385 hs, smk386 hs, sml386 hs, smk387 hs, sml387 hs, smk388 hs, sml388 hs, smk389 hs, sml389 hs, smk390 hs, sml390 hs, smk391 hs, sml391 hs, smk392 hs, sml392 hs, smk393 hs, sml393 hs, smk394 hs, sml394 hs, lit, nN, nN2, nI_add, pk_mul, nI_clamp, vpi, nI_leI, nI_ltI, nI_eq, bP_z, not_true_eq_false, not_false_eq_true, false_implies, true_implies, implies_true, Nat.le_refl, Nat.lt_irrefl, true_or, or_true, m31, pk_sub, pk_m1, bP_1, bP_em, Classical.not_not, Nat.zero_le, cI_T, cI_F, thr_e, thr_0, thr_m, vus, vun, vuu, pk_us]
    refine ⟨fun q => ⟨rfl, ?_⟩, fun q => ⟨fun q2 => ⟨rfl, ?_⟩, fun q2 => ⟨rfl, ?_⟩⟩⟩
    · rw [show sys φ (σ 380 17) (g, P) = σ 380 17 from cI_f (fun z => q z.1), say_id rfl]
    · rw [show sys φ (σ 380 17) (g, P) = σ 380 17 from cI_f (fun z => q2 z.2), say_id rfl]
    · rw [show sys φ (σ 380 17) (g, P) = g from cI_t ⟨q, q2⟩]
  have k35f : ∀ (g x : Int32) (a' b : Nat), b ≤ e → a' ≤ 1010 → WPb mX8_lawLine d 35 [.ref 380, .int g, jk] [.int x] (hI h (flt (pat σ a') (nI b))) (PsL h σ φ (.inl b)) := by
    intro g x a' b hb ha'
    have hn := flt_N (σ := σ) (a' := a') hb he
    apply kX8_lawLine_35
    simp (disch := omega) only [Nat.reduceEqDiff, tX8_lawLine_35, hn, e_const, e_lconst, e_null, e_iload, e_lload, e_aload, e_istore, e_astore, e_lstore, e_iinc, e_iadd, e_isub, e_imul, e_iand, e_ior, e_ixor, e_ishl, e_ishr, e_iushr, e_idiv, e_irem, e_ineg, e_i2l, e_i2b, e_i2c, e_lmul, e_lcmp, e_dup, e_pop, e_dup_x1, e_dup2, e_if_eq, e_icmp_eq, e_if_ne, e_icmp_ne, e_if_lt, e_icmp_lt, e_if_ge, e_icmp_ge, e_if_gt, e_icmp_gt, e_if_le, e_icmp_le, e_ifnull, e_ifnonnull, e_acmp_eq, e_acmp_ne, e_getI, e_getJ, e_getR, e_getSI, e_getSR, e_getEI, e_getER, e_putI, e_putJ, e_putR, e_iald, e_bald, e_zald, e_lald, e_aald, e_alen, e_iast, e_bast, e_zast, e_last, e_newa, e_new, e_newq, e_ret, e_vret, e_obj, e_mmax, e_mmin, e_ldcS, e_sref, e_exc, e_thr, e_stq, e_cast, e_castY, e_castA, e_instS, e_cpy, e_aast, e_cpyR, e_cln, e_gcl, e_ldcM, e_sw, swc_n, swc_c, kon_v, kon_r, kon_t, lg_0, lg_s, ls0, lay, List.length_cons, List.length_nil, List.replicate, List.cons_append, List.nil_append, ps, lp, List.set_cons_zero, List.set_cons_succ, jk, kd_hI, ln_hI, iI_hI, iR_hI, iJ_hI, nn_hI, sU_hI, stI_hI, hI_hI, K0e, and_true, true_and, rtOk, fOk, ge_iff_le, Nat.reduceLeDiff, Nat.reduceAdd, Nat.reduceSub, Nat.reduceLT, c1, smk hs, smr1 hs, smr2 hs, smr4 hs, smr5 hs, smr7 hs, smr14 hs, smr18 hs, smr19 hs, smr20 hs, smr21 hs, smr22 hs, smr23 hs, smr24 hs, smr25 hs, smk381 hs, sml381 hs, smk382 hs, sml382 hs, smk383 hs, sml383 hs, smk384 hs, sml384 hs, smk385 hs, sml385 hs, smk386 hs, sml386 hs, smk387 hs, sml387 hs, smk388 hs, sml388 hs, smk389 hs, sml389 hs, smk390 hs, sml390 hs, smk391 hs, sml391 hs, smk392 hs, sml392 hs, smk393 hs, sml393 hs, smk394 hs, sml394 hs, lit, nN, nN2, nI_add, pk_mul, nI_clamp, vpi, nI_leI, nI_ltI, nI_eq, bP_z, not_true_eq_false, not_false_eq_true, false_implies, true_implies, implies_true, Nat.le_refl, Nat.lt_irrefl, true_or, or_true, m31, pk_sub, pk_m1, bP_1, bP_em, Classical.not_not, Nat.zero_le, cI_T, cI_F, thr_e, thr_0, thr_m, vus, vun, vuu, pk_us]
    exact ⟨a', ha', rfl, rfl⟩
  apply kX8_lawLine_0
  simp (disch := omega) only [Nat.reduceEqDiff, tX8_lawLine_0, e_const, e_lconst, e_null, e_iload, e_lload, e_aload, e_istore, e_astore, e_lstore, e_iinc, e_iadd, e_isub, e_imul, e_iand, e_ior, e_ixor, e_ishl, e_ishr, e_iushr, e_idiv, e_irem, e_ineg, e_i2l, e_i2b, e_i2c, e_lmul, e_lcmp, e_dup, e_pop, e_dup_x1, e_dup2, e_if_eq, e_icmp_eq, e_if_ne, e_icmp_ne, e_if_lt, e_icmp_lt, e_if_ge, e_icmp_ge, e_if_gt, e_icmp_gt, e_if_le, e_icmp_le, e_ifnull, e_ifnonnull, e_acmp_eq, e_acmp_ne, e_getI, e_getJ, e_getR, e_getSI, e_getSR, e_getEI, e_getER, e_putI, e_putJ, e_putR, e_iald, e_bald, e_zald, e_lald, e_aald, e_alen, e_iast, e_bast, e_zast, e_last, e_newa, e_new, e_newq, e_ret, e_vret, e_obj, e_mmax, e_mmin, e_ldcS, e_sref, e_exc, e_thr, e_stq, e_cast, e_castY, e_castA, e_instS, e_cpy, e_aast, e_cpyR, e_cln, e_gcl, e_ldcM, e_sw, swc_n, swc_c, kon_v, kon_r, kon_t, lg_0, lg_s, ls0, lay, List.length_cons, List.length_nil, List.replicate, List.cons_append, List.nil_append, ps, lp, List.set_cons_zero, List.set_cons_succ, jk, kd_hI, ln_hI, iI_hI, iR_hI, iJ_hI, nn_hI, sU_hI, stI_hI, hI_hI, K0e, and_true, true_and, rtOk, fOk, ge_iff_le, Nat.reduceLeDiff, Nat.reduceAdd, Nat.reduceSub, Nat.reduceLT, c1, smk hs, smr1 hs, smr2 hs, smr4 hs, smr5 hs, smr7 hs, smr14 hs, smr18 hs, smr19 hs, smr20 hs, smr21 hs, smr22 hs, smr23 hs, smr24 hs, smr25 hs, smk381 hs, sml381 hs, smk382 hs, sml382 hs, smk383 hs, sml383 hs, smk384 hs, sml384 hs, smk385 hs, sml385 hs, smk386 hs, sml386 hs, smk387 hs, sml387 hs, smk388 hs, sml388 hs, smk389 hs, sml389 hs, smk390 hs, sml390 hs, smk391 hs, sml391 hs, smk392 hs, sml392 hs, smk393 hs, sml393 hs, smk394 hs, sml394 hs, lit, nN, nN2, nI_add, pk_mul, nI_clamp, vpi, nI_leI, nI_ltI, nI_eq, bP_z, not_true_eq_false, not_false_eq_true, false_implies, true_implies, implies_true, Nat.le_refl, Nat.lt_irrefl, true_or, or_true, m31, pk_sub, pk_m1, bP_1, bP_em, Classical.not_not, Nat.zero_le, cI_T, cI_F, thr_e, thr_0, thr_m, vus, vun, vuu, pk_us]
  refine cl _ _ (sX8_greeting_1 (σ := pat σ a) (a := a) hs (by omega) (R.1.pat _) ha (pat_a _ _) (hf _) (R.2.1.pat _)) rfl rfl rfl rfl (by omega) (smk hs) ?_
  intro o1 h2 hP
  have ok := greR_ok (T := T) ha
  unfold llR
  cases hF : greR T e a with
  | inl b =>
    rw [hF] at hP ok
    obtain ⟨a', v, ha', rfl, rfl⟩ := hP
    rw [pX_l, pat_pat]
    have hn := flt_N (σ := σ) (a' := a') (show b ≤ e from ok) he
    simp (disch := omega) only [Nat.reduceEqDiff, hn, e_const, e_lconst, e_null, e_iload, e_lload, e_aload, e_istore, e_astore, e_lstore, e_iinc, e_iadd, e_isub, e_imul, e_iand, e_ior, e_ixor, e_ishl, e_ishr, e_iushr, e_idiv, e_irem, e_ineg, e_i2l, e_i2b, e_i2c, e_lmul, e_lcmp, e_dup, e_pop, e_dup_x1, e_dup2, e_if_eq, e_icmp_eq, e_if_ne, e_icmp_ne, e_if_lt, e_icmp_lt, e_if_ge, e_icmp_ge, e_if_gt, e_icmp_gt, e_if_le, e_icmp_le, e_ifnull, e_ifnonnull, e_acmp_eq, e_acmp_ne, e_getI, e_getJ, e_getR, e_getSI, e_getSR, e_getEI, e_getER, e_putI, e_putJ, e_putR, e_iald, e_bald, e_zald, e_lald, e_aald, e_alen, e_iast, e_bast, e_zast, e_last, e_newa, e_new, e_newq, e_ret, e_vret, e_obj, e_mmax, e_mmin, e_ldcS, e_sref, e_exc, e_thr, e_stq, e_cast, e_castY, e_castA, e_instS, e_cpy, e_aast, e_cpyR, e_cln, e_gcl, e_ldcM, e_sw, swc_n, swc_c, kon_v, kon_r, kon_t, lg_0, lg_s, ls0, lay, List.length_cons, List.length_nil, List.replicate, List.cons_append, List.nil_append, ps, lp, List.set_cons_zero, List.set_cons_succ, jk, kd_hI, ln_hI, iI_hI, iR_hI, iJ_hI, nn_hI, sU_hI, stI_hI, hI_hI, K0e, and_true, true_and, rtOk, fOk, ge_iff_le, Nat.reduceLeDiff, Nat.reduceAdd, Nat.reduceSub, Nat.reduceLT, c1, smk hs, smr1 hs, smr2 hs, smr4 hs, smr5 hs, smr7 hs, smr14 hs, smr18 hs, smr19 hs, smr20 hs, smr21 hs, smr22 hs, smr23 hs, smr24 hs, smr25 hs, smk381 hs, sml381 hs, smk382 hs, sml382 hs, smk383 hs, sml383 hs, smk384 hs, sml384 hs, smk385 hs, sml385 hs, smk386 hs, sml386 hs, smk387 hs, sml387 hs, smk388 hs, sml388 hs, smk389 hs, sml389 hs, smk390 hs, sml390 hs, smk391 hs, sml391 hs, smk392 hs, sml392 hs, smk393 hs, sml393 hs, smk394 hs, sml394 hs, lit, nN, nN2, nI_add, pk_mul, nI_clamp, vpi, nI_leI, nI_ltI, nI_eq, bP_z, not_true_eq_false, not_false_eq_true, false_implies, true_implies, implies_true, Nat.le_refl, Nat.lt_irrefl, true_or, or_true, m31, pk_sub, pk_m1, bP_1, bP_em, Classical.not_not, Nat.zero_le, cI_T, cI_F, thr_e, thr_0, thr_m, vus, vun, vuu, pk_us]
    exact ⟨a', by omega, rfl, rfl⟩
  | inr va =>
    obtain ⟨g, a1⟩ := va
    rw [hF] at hP ok
    obtain ⟨rfl, rfl⟩ := hP
    have ok : a < a1 ∧ a1 ≤ e := ok
    have hl := skl (T := T) ok.2
    rw [pX_r, pat_pat]
    unfold ifR
    simp (disch := omega) only [Nat.reduceEqDiff, hf, e_const, e_lconst, e_null, e_iload, e_lload, e_aload, e_istore, e_astore, e_lstore, e_iinc, e_iadd, e_isub, e_imul, e_iand, e_ior, e_ixor, e_ishl, e_ishr, e_iushr, e_idiv, e_irem, e_ineg, e_i2l, e_i2b, e_i2c, e_lmul, e_lcmp, e_dup, e_pop, e_dup_x1, e_dup2, e_if_eq, e_icmp_eq, e_if_ne, e_icmp_ne, e_if_lt, e_icmp_lt, e_if_ge, e_icmp_ge, e_if_gt, e_icmp_gt, e_if_le, e_icmp_le, e_ifnull, e_ifnonnull, e_acmp_eq, e_acmp_ne, e_getI, e_getJ, e_getR, e_getSI, e_getSR, e_getEI, e_getER, e_putI, e_putJ, e_putR, e_iald, e_bald, e_zald, e_lald, e_aald, e_alen, e_iast, e_bast, e_zast, e_last, e_newa, e_new, e_newq, e_ret, e_vret, e_obj, e_mmax, e_mmin, e_ldcS, e_sref, e_exc, e_thr, e_stq, e_cast, e_castY, e_castA, e_instS, e_cpy, e_aast, e_cpyR, e_cln, e_gcl, e_ldcM, e_sw, swc_n, swc_c, kon_v, kon_r, kon_t, lg_0, lg_s, ls0, lay, List.length_cons, List.length_nil, List.replicate, List.cons_append, List.nil_append, ps, lp, List.set_cons_zero, List.set_cons_succ, jk, kd_hI, ln_hI, iI_hI, iR_hI, iJ_hI, nn_hI, sU_hI, stI_hI, hI_hI, K0e, and_true, true_and, rtOk, fOk, ge_iff_le, Nat.reduceLeDiff, Nat.reduceAdd, Nat.reduceSub, Nat.reduceLT, c1, smk hs, smr1 hs, smr2 hs, smr4 hs, smr5 hs, smr7 hs, smr14 hs, smr18 hs, smr19 hs, smr20 hs, smr21 hs, smr22 hs, smr23 hs, smr24 hs, smr25 hs, smk381 hs, sml381 hs, smk382 hs, sml382 hs, smk383 hs, sml383 hs, smk384 hs, sml384 hs, smk385 hs, sml385 hs, smk386 hs, sml386 hs, smk387 hs, sml387 hs, smk388 hs, sml388 hs, smk389 hs, sml389 hs, smk390 hs, sml390 hs, smk391 hs, sml391 hs, smk392 hs, sml392 hs, smk393 hs, sml393 hs, smk394 hs, sml394 hs, lit, nN, nN2, nI_add, pk_mul, nI_clamp, vpi, nI_leI, nI_ltI, nI_eq, bP_z, not_true_eq_false, not_false_eq_true, false_implies, true_implies, implies_true, Nat.le_refl, Nat.lt_irrefl, true_or, or_true, m31, pk_sub, pk_m1, bP_1, bP_em, Classical.not_not, Nat.zero_le, cI_T, cI_F, thr_e, thr_0, thr_m, vus, vun, vuu, pk_us]
    by_cases z : isT T e (sk T e a1) 64
    · rw [dI_t z]
      have h1 := isT_le hl.2 z
      refine cR (R.hasY hs (by omega) ok.2 (w := 64) 17 (by omega) rfl z) rfl rfl rfl rfl (by omega) (smk hs) ?_
      simp (disch := omega) only [Nat.reduceEqDiff, e_const, e_lconst, e_null, e_iload, e_lload, e_aload, e_istore, e_astore, e_lstore, e_iinc, e_iadd, e_isub, e_imul, e_iand, e_ior, e_ixor, e_ishl, e_ishr, e_iushr, e_idiv, e_irem, e_ineg, e_i2l, e_i2b, e_i2c, e_lmul, e_lcmp, e_dup, e_pop, e_dup_x1, e_dup2, e_if_eq, e_icmp_eq, e_if_ne, e_icmp_ne, e_if_lt, e_icmp_lt, e_if_ge, e_icmp_ge, e_if_gt, e_icmp_gt, e_if_le, e_icmp_le, e_ifnull, e_ifnonnull, e_acmp_eq, e_acmp_ne, e_getI, e_getJ, e_getR, e_getSI, e_getSR, e_getEI, e_getER, e_putI, e_putJ, e_putR, e_iald, e_bald, e_zald, e_lald, e_aald, e_alen, e_iast, e_bast, e_zast, e_last, e_newa, e_new, e_newq, e_ret, e_vret, e_obj, e_mmax, e_mmin, e_ldcS, e_sref, e_exc, e_thr, e_stq, e_cast, e_castY, e_castA, e_instS, e_cpy, e_aast, e_cpyR, e_cln, e_gcl, e_ldcM, e_sw, swc_n, swc_c, kon_v, kon_r, kon_t, lg_0, lg_s, ls0, lay, List.length_cons, List.length_nil, List.replicate, List.cons_append, List.nil_append, ps, lp, List.set_cons_zero, List.set_cons_succ, jk, kd_hI, ln_hI, iI_hI, iR_hI, iJ_hI, nn_hI, sU_hI, stI_hI, hI_hI, K0e, and_true, true_and, rtOk, fOk, ge_iff_le, Nat.reduceLeDiff, Nat.reduceAdd, Nat.reduceSub, Nat.reduceLT, c1, smk hs, smr1 hs, smr2 hs, smr4 hs, smr5 hs, smr7 hs, smr14 hs, smr18 hs, smr19 hs, smr20 hs, smr21 hs, smr22 hs, smr23 hs, smr24 hs, smr25 hs, smk381 hs, sml381 hs, smk382 hs, sml382 hs, smk383 hs, sml383 hs, smk384 hs, sml384 hs, smk385 hs, sml385 hs, smk386 hs, sml386 hs, smk387 hs, sml387 hs, smk388 hs, sml388 hs, smk389 hs, sml389 hs, smk390 hs, sml390 hs, smk391 hs, sml391 hs, smk392 hs, sml392 hs, smk393 hs, sml393 hs, smk394 hs, sml394 hs, lit, nN, nN2, nI_add, pk_mul, nI_clamp, vpi, nI_leI, nI_ltI, nI_eq, bP_z, not_true_eq_false, not_false_eq_true, false_implies, true_implies, implies_true, Nat.le_refl, Nat.lt_irrefl, true_or, or_true, m31, pk_sub, pk_m1, bP_1, bP_em, Classical.not_not, Nat.zero_le, cI_T, cI_F, thr_e, thr_0, thr_m, vus, vun, vuu, pk_us]
      refine cl _ _ (sX8_some_6 hs R h13 (by omega) h1) rfl rfl rfl rfl (by omega) (smk hs) ?_
      intro o1 h2 hP
      have ok2 := smR_ok (T := T) (atR_ok (T := T) 6) h1
      cases hG : smR T e (atR T e 6) (sk T e a1 + tln 64) with
      | inl b =>
        rw [hG] at hP ok2
        obtain ⟨a', P, ha', rfl, rfl⟩ := hP
        rw [pX_l]
        simp (disch := omega) only [Nat.reduceEqDiff, e_const, e_lconst, e_null, e_iload, e_lload, e_aload, e_istore, e_astore, e_lstore, e_iinc, e_iadd, e_isub, e_imul, e_iand, e_ior, e_ixor, e_ishl, e_ishr, e_iushr, e_idiv, e_irem, e_ineg, e_i2l, e_i2b, e_i2c, e_lmul, e_lcmp, e_dup, e_pop, e_dup_x1, e_dup2, e_if_eq, e_icmp_eq, e_if_ne, e_icmp_ne, e_if_lt, e_icmp_lt, e_if_ge, e_icmp_ge, e_if_gt, e_icmp_gt, e_if_le, e_icmp_le, e_ifnull, e_ifnonnull, e_acmp_eq, e_acmp_ne, e_getI, e_getJ, e_getR, e_getSI, e_getSR, e_getEI, e_getER, e_putI, e_putJ, e_putR, e_iald, e_bald, e_zald, e_lald, e_aald, e_alen, e_iast, e_bast, e_zast, e_last, e_newa, e_new, e_newq, e_ret, e_vret, e_obj, e_mmax, e_mmin, e_ldcS, e_sref, e_exc, e_thr, e_stq, e_cast, e_castY, e_castA, e_instS, e_cpy, e_aast, e_cpyR, e_cln, e_gcl, e_ldcM, e_sw, swc_n, swc_c, kon_v, kon_r, kon_t, lg_0, lg_s, ls0, lay, List.length_cons, List.length_nil, List.replicate, List.cons_append, List.nil_append, ps, lp, List.set_cons_zero, List.set_cons_succ, jk, kd_hI, ln_hI, iI_hI, iR_hI, iJ_hI, nn_hI, sU_hI, stI_hI, hI_hI, K0e, and_true, true_and, rtOk, fOk, ge_iff_le, Nat.reduceLeDiff, Nat.reduceAdd, Nat.reduceSub, Nat.reduceLT, c1, smk hs, smr1 hs, smr2 hs, smr4 hs, smr5 hs, smr7 hs, smr14 hs, smr18 hs, smr19 hs, smr20 hs, smr21 hs, smr22 hs, smr23 hs, smr24 hs, smr25 hs, smk381 hs, sml381 hs, smk382 hs, sml382 hs, smk383 hs, sml383 hs, smk384 hs, sml384 hs, smk385 hs, sml385 hs, smk386 hs, sml386 hs, smk387 hs, sml387 hs, smk388 hs, sml388 hs, smk389 hs, sml389 hs, smk390 hs, sml390 hs, smk391 hs, sml391 hs, smk392 hs, sml392 hs, smk393 hs, sml393 hs, smk394 hs, sml394 hs, lit, nN, nN2, nI_add, pk_mul, nI_clamp, vpi, nI_leI, nI_ltI, nI_eq, bP_z, not_true_eq_false, not_false_eq_true, false_implies, true_implies, implies_true, Nat.le_refl, Nat.lt_irrefl, true_or, or_true, m31, pk_sub, pk_m1, bP_1, bP_em, Classical.not_not, Nat.zero_le, cI_T, cI_F, thr_e, thr_0, thr_m, vus, vun, vuu, pk_us]
        exact ⟨fun _ => k35f _ _ _ _ ok2 (by omega), fun _ => k35f _ _ _ _ ok2 (by omega)⟩
      | inr vb =>
        rw [hG] at hP
        obtain ⟨rfl, rfl⟩ := hP
        rw [pX_r]
        have k := k35 g vb.1 vb.2
        simp (disch := omega) only [Nat.reduceEqDiff, e_const, e_lconst, e_null, e_iload, e_lload, e_aload, e_istore, e_astore, e_lstore, e_iinc, e_iadd, e_isub, e_imul, e_iand, e_ior, e_ixor, e_ishl, e_ishr, e_iushr, e_idiv, e_irem, e_ineg, e_i2l, e_i2b, e_i2c, e_lmul, e_lcmp, e_dup, e_pop, e_dup_x1, e_dup2, e_if_eq, e_icmp_eq, e_if_ne, e_icmp_ne, e_if_lt, e_icmp_lt, e_if_ge, e_icmp_ge, e_if_gt, e_icmp_gt, e_if_le, e_icmp_le, e_ifnull, e_ifnonnull, e_acmp_eq, e_acmp_ne, e_getI, e_getJ, e_getR, e_getSI, e_getSR, e_getEI, e_getER, e_putI, e_putJ, e_putR, e_iald, e_bald, e_zald, e_lald, e_aald, e_alen, e_iast, e_bast, e_zast, e_last, e_newa, e_new, e_newq, e_ret, e_vret, e_obj, e_mmax, e_mmin, e_ldcS, e_sref, e_exc, e_thr, e_stq, e_cast, e_castY, e_castA, e_instS, e_cpy, e_aast, e_cpyR, e_cln, e_gcl, e_ldcM, e_sw, swc_n, swc_c, kon_v, kon_r, kon_t, lg_0, lg_s, ls0, lay, List.length_cons, List.length_nil, List.replicate, List.cons_append, List.nil_append, ps, lp, List.set_cons_zero, List.set_cons_succ, jk, kd_hI, ln_hI, iI_hI, iR_hI, iJ_hI, nn_hI, sU_hI, stI_hI, hI_hI, K0e, and_true, true_and, rtOk, fOk, ge_iff_le, Nat.reduceLeDiff, Nat.reduceAdd, Nat.reduceSub, Nat.reduceLT, c1, smk hs, smr1 hs, smr2 hs, smr4 hs, smr5 hs, smr7 hs, smr14 hs, smr18 hs, smr19 hs, smr20 hs, smr21 hs, smr22 hs, smr23 hs, smr24 hs, smr25 hs, smk381 hs, sml381 hs, smk382 hs, sml382 hs, smk383 hs, sml383 hs, smk384 hs, sml384 hs, smk385 hs, sml385 hs, smk386 hs, sml386 hs, smk387 hs, sml387 hs, smk388 hs, sml388 hs, smk389 hs, sml389 hs, smk390 hs, sml390 hs, smk391 hs, sml391 hs, smk392 hs, sml392 hs, smk393 hs, sml393 hs, smk394 hs, sml394 hs, lit, nN, nN2, nI_add, pk_mul, nI_clamp, vpi, nI_leI, nI_ltI, nI_eq, bP_z, not_true_eq_false, not_false_eq_true, false_implies, true_implies, implies_true, Nat.le_refl, Nat.lt_irrefl, true_or, or_true, m31, pk_sub, pk_m1, bP_1, bP_em, Classical.not_not, Nat.zero_le, cI_T, cI_F, thr_e, thr_0, thr_m, vus, vun, vuu, pk_us]
        refine ⟨fun q => ?_, fun q => ?_⟩
        · rw [bP_f q] at k; exact k
        · rw [bP_t q] at k; exact k
    · rw [dI_f z]
      refine cR (R.hasN hs (by omega) ok.2 (w := 64) 17 (by omega) rfl z) rfl rfl rfl rfl (by omega) (smk hs) ?_
      simp (disch := omega) only [Nat.reduceEqDiff, e_const, e_lconst, e_null, e_iload, e_lload, e_aload, e_istore, e_astore, e_lstore, e_iinc, e_iadd, e_isub, e_imul, e_iand, e_ior, e_ixor, e_ishl, e_ishr, e_iushr, e_idiv, e_irem, e_ineg, e_i2l, e_i2b, e_i2c, e_lmul, e_lcmp, e_dup, e_pop, e_dup_x1, e_dup2, e_if_eq, e_icmp_eq, e_if_ne, e_icmp_ne, e_if_lt, e_icmp_lt, e_if_ge, e_icmp_ge, e_if_gt, e_icmp_gt, e_if_le, e_icmp_le, e_ifnull, e_ifnonnull, e_acmp_eq, e_acmp_ne, e_getI, e_getJ, e_getR, e_getSI, e_getSR, e_getEI, e_getER, e_putI, e_putJ, e_putR, e_iald, e_bald, e_zald, e_lald, e_aald, e_alen, e_iast, e_bast, e_zast, e_last, e_newa, e_new, e_newq, e_ret, e_vret, e_obj, e_mmax, e_mmin, e_ldcS, e_sref, e_exc, e_thr, e_stq, e_cast, e_castY, e_castA, e_instS, e_cpy, e_aast, e_cpyR, e_cln, e_gcl, e_ldcM, e_sw, swc_n, swc_c, kon_v, kon_r, kon_t, lg_0, lg_s, ls0, lay, List.length_cons, List.length_nil, List.replicate, List.cons_append, List.nil_append, ps, lp, List.set_cons_zero, List.set_cons_succ, jk, kd_hI, ln_hI, iI_hI, iR_hI, iJ_hI, nn_hI, sU_hI, stI_hI, hI_hI, K0e, and_true, true_and, rtOk, fOk, ge_iff_le, Nat.reduceLeDiff, Nat.reduceAdd, Nat.reduceSub, Nat.reduceLT, c1, smk hs, smr1 hs, smr2 hs, smr4 hs, smr5 hs, smr7 hs, smr14 hs, smr18 hs, smr19 hs, smr20 hs, smr21 hs, smr22 hs, smr23 hs, smr24 hs, smr25 hs, smk381 hs, sml381 hs, smk382 hs, sml382 hs, smk383 hs, sml383 hs, smk384 hs, sml384 hs, smk385 hs, sml385 hs, smk386 hs, sml386 hs, smk387 hs, sml387 hs, smk388 hs, sml388 hs, smk389 hs, sml389 hs, smk390 hs, sml390 hs, smk391 hs, sml391 hs, smk392 hs, sml392 hs, smk393 hs, sml393 hs, smk394 hs, sml394 hs, lit, nN, nN2, nI_add, pk_mul, nI_clamp, vpi, nI_leI, nI_ltI, nI_eq, bP_z, not_true_eq_false, not_false_eq_true, false_implies, true_implies, implies_true, Nat.le_refl, Nat.lt_irrefl, true_or, or_true, m31, pk_sub, pk_m1, bP_1, bP_em, Classical.not_not, Nat.zero_le, cI_T, cI_F, thr_e, thr_0, thr_m, vus, vun, vuu, pk_us]
      have k := k35 g (fun _ => True) (sk T e a1)
      rw [bP_t trivial] at k
      exact k
theorem greR_sk (ha : a ≤ e) : greR T e (sk T e a) = greR T e a := by
  unfold greR
  rw [sk_sk ha]
theorem llR_sk (ha : a ≤ e) : llR T e (sk T e a) = llR T e a := by
  unfold llR
  rw [greR_sk ha]
end
