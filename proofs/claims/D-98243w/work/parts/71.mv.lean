/-! CONTRACTS of the model: reading, fault or none -/
set_option maxRecDepth 100000
section
variable {h : MH} {σ : Nat → Nat → Int32} {d : Nat}
theorem sk_out {T : Nat → Int32} {e a : Nat} (h : e ≤ a) : sk T e a = a := sk_f (by omega)
theorem sX8_skip_g (hs : SM h) (hd : 1 ≤ d) {T : Nat → Int32} {e a : Nat} (t : Tx σ T e) (ha : a ≤ 2000) (h11 : σ 380 11 = nI a) : RT mX8_skip d [.ref 380] (hI h σ) none (hI h (pat σ (sk T e a))) := by
  by_cases hl : a ≤ e
  · exact sX8_skip hs hd t hl h11
  · have he := t.2.1
    refine mO rfl rfl ?_
    apply kX8_skip_0
    simp (disch := omega) only [tX8_skip_0, h11, t.1, e_const, e_lconst, e_null, e_iload, e_lload, e_aload, e_istore, e_astore, e_lstore, e_iinc, e_iadd, e_isub, e_imul, e_iand, e_ior, e_ixor, e_ishl, e_ishr, e_iushr, e_idiv, e_irem, e_ineg, e_i2l, e_i2b, e_i2c, e_lmul, e_lcmp, e_dup, e_pop, e_dup_x1, e_dup2, e_if_eq, e_icmp_eq, e_if_ne, e_icmp_ne, e_if_lt, e_icmp_lt, e_if_ge, e_icmp_ge, e_if_gt, e_icmp_gt, e_if_le, e_icmp_le, e_ifnull, e_ifnonnull, e_acmp_eq, e_acmp_ne, e_getI, e_getJ, e_getR, e_getSI, e_getSR, e_getEI, e_getER, e_putI, e_putJ, e_putR, e_iald, e_bald, e_zald, e_lald, e_aald, e_alen, e_iast, e_bast, e_zast, e_last, e_newa, e_new, e_newq, e_ret, e_vret, e_obj, e_mmax, e_mmin, e_mabs, e_ldcS, e_sref, e_exc, e_thr, e_stq, e_cast, e_castY, e_castA, e_instS, e_cpy, e_aast, e_cpyR, e_cln, e_gcl, e_ldcM, e_sw, swc_n, swc_c, kon_v, kon_r, kon_t, lg_0, lg_s, ls0, lay, List.length_cons, List.length_nil, List.replicate, List.cons_append, List.nil_append, ps, lp, List.set_cons_zero, List.set_cons_succ, jk, kd_hI, ln_hI, iI_hI, iR_hI, iJ_hI, nn_hI, sU_hI, stI_hI, hI_hI, K0e, and_true, true_and, rtOk, fOk, ge_iff_le, Nat.reduceLeDiff, Nat.reduceAdd, Nat.reduceSub, Nat.reduceLT, c1, smk hs, smr1 hs, smr2 hs, smr4 hs, smr5 hs, smr7 hs, smr14 hs, smr18 hs, smr19 hs, smr20 hs, smr21 hs, smr22 hs, smr23 hs, smr24 hs, smr25 hs, smk381 hs, sml381 hs, smk382 hs, sml382 hs, smk383 hs, sml383 hs, smk384 hs, sml384 hs, smk385 hs, sml385 hs, smk386 hs, sml386 hs, smk387 hs, sml387 hs, smk388 hs, sml388 hs, smk389 hs, sml389 hs, smk390 hs, sml390 hs, smk391 hs, sml391 hs, smk392 hs, sml392 hs, smk393 hs, sml393 hs, smk394 hs, sml394 hs, lit, nN, nN2, nI_add, pk_mul, nI_clamp, vpi, nI_leI, nI_ltI, nI_eq, bP_z, not_true_eq_false, not_false_eq_true, false_implies, true_implies, implies_true, Nat.le_refl, Nat.lt_irrefl, true_or, or_true, m31, pk_sub, pk_m1, bP_1, bP_em, Classical.not_not, Nat.zero_le, cI_T, cI_F, thr_e, thr_0, thr_m, vus, vun, vuu, pk_us]
    rw [sk_out (by omega), pat_id h11]
    exact ⟨fun _ => rfl, fun z => by omega⟩
/-- the reader's state: (fault, place), or a place -/
def pSt (σ : Nat → Nat → Int32) (p : (Nat × Nat) ⊕ Nat) : Nat → Nat → Int32 := match p with
  | .inl (b, a) => flt (pat σ a) (nI b)
  | .inr a => pat σ a
end
