/-! STRINGS are compared -/
set_option maxRecDepth 100000
section
variable {h : MH} {d : Nat}
theorem sJ10_equals {p q n m : Nat} {c c' : Nat → Nat} (hp : kd h p = 51 ∧ ln h p = n) (hq : kd h q = 51 ∧ ln h q = m) (hn : n ≤ 1000) (hm : m ≤ 1000) (h1 : ∀ k, k < n → iI h p k = nI (c k) ∧ c k < 128) (h2 : ∀ k, k < m → iI h q k = nI (c' k) ∧ c' k < 128) : RT mJ10_equals d [.ref p, .ref q] h (some (.int (bP (n = m ∧ ∀ k, k < n → c k = c' k)))) h := by
  refine mO rfl rfl ?_
  generalize hP : (n = m ∧ ∀ k, k < n → c k = c' k) = P
  apply kJ10_equals_0
  try simp (disch := omega) only [tJ10_equals_0, hp.1, hp.2, hq.1, hq.2, kd_stI, ln_stI, nn_stI, iI_stI, iR_stI, iJ_stI, sU_stI, kd_stR, ln_stR, nn_stR, iI_stR, iR_stR, iJ_stR, sU_stR, kd_stJ, ln_stJ, nn_stJ, iI_stJ, iR_stJ, iJ_stJ, sU_stJ, kd_alc, ln_alc, nn_alc, iI_alc, iR_alc, iJ_alc, sU_alc, e_const, e_lconst, e_null, e_iload, e_lload, e_aload, e_istore, e_astore, e_lstore, e_iinc, e_iadd, e_isub, e_imul, e_iand, e_ior, e_ixor, e_ishl, e_ishr, e_iushr, e_idiv, e_irem, e_ineg, e_i2l, e_i2b, e_i2c, e_lmul, e_lcmp, e_dup, e_pop, e_dup_x1, e_dup2, e_if_eq, e_icmp_eq, e_if_ne, e_icmp_ne, e_if_lt, e_icmp_lt, e_if_ge, e_icmp_ge, e_if_gt, e_icmp_gt, e_if_le, e_icmp_le, e_ifnull, e_ifnonnull, e_acmp_eq, e_acmp_ne, e_getI, e_getJ, e_getR, e_getSI, e_getSR, e_getEI, e_getER, e_putI, e_putJ, e_putR, e_iald, e_bald, e_zald, e_lald, e_aald, e_alen, e_iast, e_bast, e_zast, e_last, e_newa, e_new, e_newq, e_ret, e_vret, e_obj, e_mmax, e_mmin, e_ldcS, e_sref, e_exc, e_thr, e_stq, e_cast, e_castY, e_castA, e_instS, e_cpy, e_aast, e_cpyR, e_cln, e_gcl, e_ldcM, e_sw, swc_n, swc_c, kon_v, kon_r, kon_t, lg_0, lg_s, ls0, lay, List.length_cons, List.length_nil, List.replicate, List.cons_append, List.nil_append, ps, lp, List.set_cons_zero, List.set_cons_succ, jk, kd_hI, ln_hI, iI_hI, iR_hI, iJ_hI, nn_hI, sU_hI, stI_hI, hI_hI, K0e, and_true, true_and, rtOk, fOk, ge_iff_le, Nat.reduceLeDiff, Nat.reduceAdd, Nat.reduceSub, Nat.reduceLT, c1, lit, nN, nN2, nI_add, pk_mul, nI_clamp, vpi, nI_leI, nI_ltI, nI_eq, bP_z, not_true_eq_false, not_false_eq_true, false_implies, true_implies, implies_true, Nat.le_refl, Nat.lt_irrefl, true_or, or_true, m31, pk_sub, pk_m1, bP_1, bP_em, Classical.not_not, Nat.zero_le, cI_T, cI_F, thr_e, thr_0, thr_m, vus, vun, vuu, pk_us, e_xO, e_xC, ex_e, e_mabsN, Nat.reduceEqDiff, ↓reduceIte, pk_un]
  refine ⟨fun z => ?_, fun z => ?_⟩
  · rw [bP_f (fun y => by rw [← hP] at y; exact z y.1)]
  · subst z
    have key : ∀ i, i ≤ n → (∀ k, k < i → c k = c' k) → WPb mJ10_equals d 9 [.ref p, .ref q, .int (nI i)] [] h (fun o h1 => o = .returned (some (.int (bP P))) ∧ h1 = h) := by
      refine bk (n := n) (I := fun i => (∀ k, k < i → c k = c' k) → WPb mJ10_equals d 9 [.ref p, .ref q, .int (nI i)] [] h (fun o h1 => o = .returned (some (.int (bP P))) ∧ h1 = h)) ?_ ?_
      · intro hk
        apply kJ10_equals_9
        try simp (disch := omega) only [tJ10_equals_9, hp.1, hp.2, kd_stI, ln_stI, nn_stI, iI_stI, iR_stI, iJ_stI, sU_stI, kd_stR, ln_stR, nn_stR, iI_stR, iR_stR, iJ_stR, sU_stR, kd_stJ, ln_stJ, nn_stJ, iI_stJ, iR_stJ, iJ_stJ, sU_stJ, kd_alc, ln_alc, nn_alc, iI_alc, iR_alc, iJ_alc, sU_alc, e_const, e_lconst, e_null, e_iload, e_lload, e_aload, e_istore, e_astore, e_lstore, e_iinc, e_iadd, e_isub, e_imul, e_iand, e_ior, e_ixor, e_ishl, e_ishr, e_iushr, e_idiv, e_irem, e_ineg, e_i2l, e_i2b, e_i2c, e_lmul, e_lcmp, e_dup, e_pop, e_dup_x1, e_dup2, e_if_eq, e_icmp_eq, e_if_ne, e_icmp_ne, e_if_lt, e_icmp_lt, e_if_ge, e_icmp_ge, e_if_gt, e_icmp_gt, e_if_le, e_icmp_le, e_ifnull, e_ifnonnull, e_acmp_eq, e_acmp_ne, e_getI, e_getJ, e_getR, e_getSI, e_getSR, e_getEI, e_getER, e_putI, e_putJ, e_putR, e_iald, e_bald, e_zald, e_lald, e_aald, e_alen, e_iast, e_bast, e_zast, e_last, e_newa, e_new, e_newq, e_ret, e_vret, e_obj, e_mmax, e_mmin, e_ldcS, e_sref, e_exc, e_thr, e_stq, e_cast, e_castY, e_castA, e_instS, e_cpy, e_aast, e_cpyR, e_cln, e_gcl, e_ldcM, e_sw, swc_n, swc_c, kon_v, kon_r, kon_t, lg_0, lg_s, ls0, lay, List.length_cons, List.length_nil, List.replicate, List.cons_append, List.nil_append, ps, lp, List.set_cons_zero, List.set_cons_succ, jk, kd_hI, ln_hI, iI_hI, iR_hI, iJ_hI, nn_hI, sU_hI, stI_hI, hI_hI, K0e, and_true, true_and, rtOk, fOk, ge_iff_le, Nat.reduceLeDiff, Nat.reduceAdd, Nat.reduceSub, Nat.reduceLT, c1, lit, nN, nN2, nI_add, pk_mul, nI_clamp, vpi, nI_leI, nI_ltI, nI_eq, bP_z, not_true_eq_false, not_false_eq_true, false_implies, true_implies, implies_true, Nat.le_refl, Nat.lt_irrefl, true_or, or_true, m31, pk_sub, pk_m1, bP_1, bP_em, Classical.not_not, Nat.zero_le, cI_T, cI_F, thr_e, thr_0, thr_m, vus, vun, vuu, pk_us, e_xO, e_xC, ex_e, e_mabsN, Nat.reduceEqDiff, ↓reduceIte, pk_un]
        rw [bP_t (by rw [← hP]; exact ⟨rfl, hk⟩)]
      · intro i hi ih hk
        obtain ⟨e1, e2⟩ := h1 i hi
        obtain ⟨f1, f2⟩ := h2 i hi
        apply kJ10_equals_9
        try simp (disch := omega) only [tJ10_equals_9, hp.1, hp.2, hq.1, hq.2, e1, f1, kd_stI, ln_stI, nn_stI, iI_stI, iR_stI, iJ_stI, sU_stI, kd_stR, ln_stR, nn_stR, iI_stR, iR_stR, iJ_stR, sU_stR, kd_stJ, ln_stJ, nn_stJ, iI_stJ, iR_stJ, iJ_stJ, sU_stJ, kd_alc, ln_alc, nn_alc, iI_alc, iR_alc, iJ_alc, sU_alc, e_const, e_lconst, e_null, e_iload, e_lload, e_aload, e_istore, e_astore, e_lstore, e_iinc, e_iadd, e_isub, e_imul, e_iand, e_ior, e_ixor, e_ishl, e_ishr, e_iushr, e_idiv, e_irem, e_ineg, e_i2l, e_i2b, e_i2c, e_lmul, e_lcmp, e_dup, e_pop, e_dup_x1, e_dup2, e_if_eq, e_icmp_eq, e_if_ne, e_icmp_ne, e_if_lt, e_icmp_lt, e_if_ge, e_icmp_ge, e_if_gt, e_icmp_gt, e_if_le, e_icmp_le, e_ifnull, e_ifnonnull, e_acmp_eq, e_acmp_ne, e_getI, e_getJ, e_getR, e_getSI, e_getSR, e_getEI, e_getER, e_putI, e_putJ, e_putR, e_iald, e_bald, e_zald, e_lald, e_aald, e_alen, e_iast, e_bast, e_zast, e_last, e_newa, e_new, e_newq, e_ret, e_vret, e_obj, e_mmax, e_mmin, e_ldcS, e_sref, e_exc, e_thr, e_stq, e_cast, e_castY, e_castA, e_instS, e_cpy, e_aast, e_cpyR, e_cln, e_gcl, e_ldcM, e_sw, swc_n, swc_c, kon_v, kon_r, kon_t, lg_0, lg_s, ls0, lay, List.length_cons, List.length_nil, List.replicate, List.cons_append, List.nil_append, ps, lp, List.set_cons_zero, List.set_cons_succ, jk, kd_hI, ln_hI, iI_hI, iR_hI, iJ_hI, nn_hI, sU_hI, stI_hI, hI_hI, K0e, and_true, true_and, rtOk, fOk, ge_iff_le, Nat.reduceLeDiff, Nat.reduceAdd, Nat.reduceSub, Nat.reduceLT, c1, lit, nN, nN2, nI_add, pk_mul, nI_clamp, vpi, nI_leI, nI_ltI, nI_eq, bP_z, not_true_eq_false, not_false_eq_true, false_implies, true_implies, implies_true, Nat.le_refl, Nat.lt_irrefl, true_or, or_true, m31, pk_sub, pk_m1, bP_1, bP_em, Classical.not_not, Nat.zero_le, cI_T, cI_F, thr_e, thr_0, thr_m, vus, vun, vuu, pk_us, e_xO, e_xC, ex_e, e_mabsN, Nat.reduceEqDiff, ↓reduceIte, pk_un]
        refine ⟨fun y => by omega, fun _ => ⟨fun y => ?_, fun y => ?_⟩⟩
        · refine ih (fun k hk2 => ?_)
          by_cases z : k = i
          · subst z; exact y
          · exact hk k (by omega)
        · rw [bP_f (fun w => by rw [← hP] at w; exact y (w.2 i hi))]
    exact key 0 (by omega) (fun k hk => by omega)
theorem sJ5_equals {a b n m : Nat} {c c' : Nat → Nat} (hd : 1 ≤ d) (hab : a ≠ b) (s : Str h (iI h) a n c) (t : Str h (iI h) b m c') : RT mJ5_equals d [.ref a, .ref b] h (some (.int (bP (n = m ∧ ∀ k, k < n → c k = c' k)))) h := by
  obtain ⟨s1, s2, s3, s4, s5, s6, s7, s8⟩ := s
  obtain ⟨t1, t2, t3, t4, t5, t6, t7, t8⟩ := t
  refine mO rfl rfl ?_
  apply kJ5_equals_0
  try simp (disch := omega) only [tJ5_equals_0, s1, t1, s5, t5, Nat.reduceEqDiff, kd_stI, ln_stI, nn_stI, iI_stI, iR_stI, iJ_stI, sU_stI, kd_stR, ln_stR, nn_stR, iI_stR, iR_stR, iJ_stR, sU_stR, kd_stJ, ln_stJ, nn_stJ, iI_stJ, iR_stJ, iJ_stJ, sU_stJ, kd_alc, ln_alc, nn_alc, iI_alc, iR_alc, iJ_alc, sU_alc, e_const, e_lconst, e_null, e_iload, e_lload, e_aload, e_istore, e_astore, e_lstore, e_iinc, e_iadd, e_isub, e_imul, e_iand, e_ior, e_ixor, e_ishl, e_ishr, e_iushr, e_idiv, e_irem, e_ineg, e_i2l, e_i2b, e_i2c, e_lmul, e_lcmp, e_dup, e_pop, e_dup_x1, e_dup2, e_if_eq, e_icmp_eq, e_if_ne, e_icmp_ne, e_if_lt, e_icmp_lt, e_if_ge, e_icmp_ge, e_if_gt, e_icmp_gt, e_if_le, e_icmp_le, e_ifnull, e_ifnonnull, e_acmp_eq, e_acmp_ne, e_getI, e_getJ, e_getR, e_getSI, e_getSR, e_getEI, e_getER, e_putI, e_putJ, e_putR, e_iald, e_bald, e_zald, e_lald, e_aald, e_alen, e_iast, e_bast, e_zast, e_last, e_newa, e_new, e_newq, e_ret, e_vret, e_obj, e_mmax, e_mmin, e_ldcS, e_sref, e_exc, e_thr, e_stq, e_cast, e_castY, e_castA, e_instS, e_cpy, e_aast, e_cpyR, e_cln, e_gcl, e_ldcM, e_sw, swc_n, swc_c, kon_v, kon_r, kon_t, lg_0, lg_s, ls0, lay, List.length_cons, List.length_nil, List.replicate, List.cons_append, List.nil_append, ps, lp, List.set_cons_zero, List.set_cons_succ, jk, kd_hI, ln_hI, iI_hI, iR_hI, iJ_hI, nn_hI, sU_hI, stI_hI, hI_hI, K0e, and_true, true_and, rtOk, fOk, ge_iff_le, Nat.reduceLeDiff, Nat.reduceAdd, Nat.reduceSub, Nat.reduceLT, c1, lit, nN, nN2, nI_add, pk_mul, nI_clamp, vpi, nI_leI, nI_ltI, nI_eq, bP_z, not_true_eq_false, not_false_eq_true, false_implies, true_implies, implies_true, Nat.le_refl, Nat.lt_irrefl, true_or, or_true, m31, pk_sub, pk_m1, bP_1, bP_em, Classical.not_not, Nat.zero_le, cI_T, cI_F, thr_e, thr_0, thr_m, vus, vun, vuu, pk_us, e_xO, e_xC, ex_e, e_mabsN, Nat.reduceEqDiff, ↓reduceIte, pk_un]
  refine ⟨Or.inr ⟨Or.inr (by rw [s1]; omega), Or.inr (by rw [t1]; omega)⟩, fun _ => ⟨s2, t2, ?_⟩, fun z => absurd z hab⟩
  refine cR (sJ10_equals ⟨s3, s4⟩ ⟨t3, t4⟩ s6 t6 s8 t8) rfl rfl rfl rfl (by omega) (by first | exact trivial | exact yq0 hy | exact xk hx | exact wk hw | assumption | (simp only [pV, kd_hI]; assumption)) ?_
  generalize (n = m ∧ ∀ k, k < n → c k = c' k) = P
  try simp (disch := omega) only [kd_stI, ln_stI, nn_stI, iI_stI, iR_stI, iJ_stI, sU_stI, kd_stR, ln_stR, nn_stR, iI_stR, iR_stR, iJ_stR, sU_stR, kd_stJ, ln_stJ, nn_stJ, iI_stJ, iR_stJ, iJ_stJ, sU_stJ, kd_alc, ln_alc, nn_alc, iI_alc, iR_alc, iJ_alc, sU_alc, e_const, e_lconst, e_null, e_iload, e_lload, e_aload, e_istore, e_astore, e_lstore, e_iinc, e_iadd, e_isub, e_imul, e_iand, e_ior, e_ixor, e_ishl, e_ishr, e_iushr, e_idiv, e_irem, e_ineg, e_i2l, e_i2b, e_i2c, e_lmul, e_lcmp, e_dup, e_pop, e_dup_x1, e_dup2, e_if_eq, e_icmp_eq, e_if_ne, e_icmp_ne, e_if_lt, e_icmp_lt, e_if_ge, e_icmp_ge, e_if_gt, e_icmp_gt, e_if_le, e_icmp_le, e_ifnull, e_ifnonnull, e_acmp_eq, e_acmp_ne, e_getI, e_getJ, e_getR, e_getSI, e_getSR, e_getEI, e_getER, e_putI, e_putJ, e_putR, e_iald, e_bald, e_zald, e_lald, e_aald, e_alen, e_iast, e_bast, e_zast, e_last, e_newa, e_new, e_newq, e_ret, e_vret, e_obj, e_mmax, e_mmin, e_ldcS, e_sref, e_exc, e_thr, e_stq, e_cast, e_castY, e_castA, e_instS, e_cpy, e_aast, e_cpyR, e_cln, e_gcl, e_ldcM, e_sw, swc_n, swc_c, kon_v, kon_r, kon_t, lg_0, lg_s, ls0, lay, List.length_cons, List.length_nil, List.replicate, List.cons_append, List.nil_append, ps, lp, List.set_cons_zero, List.set_cons_succ, jk, kd_hI, ln_hI, iI_hI, iR_hI, iJ_hI, nn_hI, sU_hI, stI_hI, hI_hI, K0e, and_true, true_and, rtOk, fOk, ge_iff_le, Nat.reduceLeDiff, Nat.reduceAdd, Nat.reduceSub, Nat.reduceLT, c1, lit, nN, nN2, nI_add, pk_mul, nI_clamp, vpi, nI_leI, nI_ltI, nI_eq, bP_z, not_true_eq_false, not_false_eq_true, false_implies, true_implies, implies_true, Nat.le_refl, Nat.lt_irrefl, true_or, or_true, m31, pk_sub, pk_m1, bP_1, bP_em, Classical.not_not, Nat.zero_le, cI_T, cI_F, thr_e, thr_0, thr_m, vus, vun, vuu, pk_us, e_xO, e_xC, ex_e, e_mabsN, Nat.reduceEqDiff, ↓reduceIte, pk_un]
  refine ⟨fun z => ?_, fun z => ?_⟩
  · rw [bP_f z]
  · rw [bP_t z]
end
/-- cells but for the reader's are as they were; the reader is at a', what was read began at b -/
def Rw (c s : Nat) (h h1 : MH) (a' b : Nat) : Prop := (nn h ≤ nn h1 ∧ nn h1 ≤ nn h + c ∧ sU h ≤ sU h1 ∧ sU h1 ≤ sU h + s) ∧ ∀ x, x < nn h → Same (rdH h a' b) h1 x
/-- all that a reading of the component needs -/
def RX (h : MH) (T : Nat → Int32) (e a dp : Nat) : Prop := Rd h T e a dp ∧ 396 ≤ nn h ∧ SHk h ∧ (kd h 300 = 1 ∧ iR h 300 4 = 349) ∧ kd h 351 = 4
section
variable {h h1 : MH} {d : Nat} {T : Nat → Int32} {e a dp : Nat}
theorem SHk.sm (k : SHk h) (hs : ∀ a, a < 300 → Same h h1 a) : SHk h1 := by
  obtain ⟨c1, c2, c3, c4, c5⟩ := k
  refine ⟨fun i hi => ?_, fun a h1 h2 => ?_, ?_, fun t h5 h7 => ?_, fun j hj => ?_⟩
  · have st := c1 i hi
    have hl := st.2.1 (by omega)
    obtain ⟨t1, t2, t3, t4, t5, t6, t7, t8⟩ := st
    have ex := hs (30 + 2 * i) (by omega)
    have er := hs _ hl
    unfold Str
    rw [ex.2.2.2, ex.1, er.1, er.2.1, ex.2.2.1, er.2.2.1, (hs 0 (by omega)).2.2.2]
    exact ⟨t1, t2, t3, t4, t5, t6, t7, t8⟩
  · have ex := hs a (by omega)
    rw [ex.1, ex.2.2.1, ex.2.2.2]; exact c2 a h1 h2
  · have ex := hs 18 (by omega)
    rw [ex.1, ex.2.1]; exact c3
  · have ex := hs (10 + t) (by omega)
    rw [ex.1, ex.2.1, ex.2.2.2]; exact c4 t h5 h7
  · rw [(hs 0 (by omega)).2.2.2]; exact c5 j hj
theorem rdHs (a' b x : Nat) (hx : x ≠ 349) : Same h (rdH h a' b) x := ⟨rfl, rfl, by unfold rdH; rw [iI_stI, vun _ _ hx], rfl⟩
theorem RX.sm (r : RX h T e a dp) {a' b : Nat} (ha : a' ≤ e) (hn : nn h ≤ nn h1) (hs : ∀ x, x < nn h → Same (rdH h a' b) h1 x) : RX h1 T e a' dp := by
  obtain ⟨r1, r2, r3, r4, r5⟩ := r
  have q : ∀ x, x < nn h → x ≠ 349 → Same h h1 x := fun x hx hne => (rdHs a' b x hne).trans (hs x hx)
  have e3 := hs 349 (by omega)
  have e5 := q 350 (by omega) (by omega)
  have e30 := q 300 (by omega) (by omega)
  refine ⟨?_, by omega, r3.sm (fun a ha => q a (by omega) (by omega)), ⟨by rw [e30.1]; exact r4.1, by rw [e30.2.2.2]; exact r4.2⟩, by rw [(q 351 (by omega) (by omega)).1]; exact r5⟩
  obtain ⟨⟨x1, x2, x3, x4⟩, ⟨x5, x6⟩, ⟨x7, x8⟩, x9, x10, x11⟩ := r1.rd ha b
  exact ⟨⟨by rw [e3.1]; exact x1, by rw [e3.2.2.2]; exact x2, by rw [e5.1]; exact r1.1.2.2.1, by rw [e5.2.1]; exact r1.1.2.2.2⟩, ⟨by rw [e3.2.2.1]; exact x5, x6⟩, ⟨by rw [e3.2.2.1]; exact x7, x8⟩, by rw [e3.2.2.1]; exact x9, fun k hk => by rw [e5.2.2.1]; exact r1.2.2.2.2.1 k hk, x11⟩
theorem RX.rw (r : RX h T e a dp) {a' b c s : Nat} (ha : a' ≤ e) (w : Rw c s h h1 a' b) : RX h1 T e a' dp := r.sm ha w.1.1 w.2
theorem Rw.rd (a' b : Nat) : Rw 0 0 h (rdH h a' b) a' b := ⟨⟨Nat.le_refl _, Nat.le_refl _, Nat.le_refl _, Nat.le_refl _⟩, fun x _ => Same.refl _ _⟩
theorem sX3_passes (r : RX h T e a dp) (hd : 9 ≤ d) {w : Nat} (i : Nat) (hi : i < 27) (hw : w = 30 + 2 * i) : WPm mX3_passes d [.ref 349, .ref w] h (fun o h1 => o = .returned (some (.int (bP (isT T e (sk T e a) w)))) ∧ Rw 10 1600 h h1 (dI (isT T e (sk T e a) w) (sk T e a + tln w) (sk T e a)) (sk T e a)) := by
  refine mO rfl rfl ?_
  obtain ⟨r1, r2, r3, r4, r5⟩ := r
  apply kX3_passes_0
  try simp (disch := omega) only [tX3_passes_0, kd_stI, ln_stI, nn_stI, iI_stI, iR_stI, iJ_stI, sU_stI, kd_stR, ln_stR, nn_stR, iI_stR, iR_stR, iJ_stR, sU_stR, kd_stJ, ln_stJ, nn_stJ, iI_stJ, iR_stJ, iJ_stJ, sU_stJ, kd_alc, ln_alc, nn_alc, iI_alc, iR_alc, iJ_alc, sU_alc, e_const, e_lconst, e_null, e_iload, e_lload, e_aload, e_istore, e_astore, e_lstore, e_iinc, e_iadd, e_isub, e_imul, e_iand, e_ior, e_ixor, e_ishl, e_ishr, e_iushr, e_idiv, e_irem, e_ineg, e_i2l, e_i2b, e_i2c, e_lmul, e_lcmp, e_dup, e_pop, e_dup_x1, e_dup2, e_if_eq, e_icmp_eq, e_if_ne, e_icmp_ne, e_if_lt, e_icmp_lt, e_if_ge, e_icmp_ge, e_if_gt, e_icmp_gt, e_if_le, e_icmp_le, e_ifnull, e_ifnonnull, e_acmp_eq, e_acmp_ne, e_getI, e_getJ, e_getR, e_getSI, e_getSR, e_getEI, e_getER, e_putI, e_putJ, e_putR, e_iald, e_bald, e_zald, e_lald, e_aald, e_alen, e_iast, e_bast, e_zast, e_last, e_newa, e_new, e_newq, e_ret, e_vret, e_obj, e_mmax, e_mmin, e_ldcS, e_sref, e_exc, e_thr, e_stq, e_cast, e_castY, e_castA, e_instS, e_cpy, e_aast, e_cpyR, e_cln, e_gcl, e_ldcM, e_sw, swc_n, swc_c, kon_v, kon_r, kon_t, lg_0, lg_s, ls0, lay, List.length_cons, List.length_nil, List.replicate, List.cons_append, List.nil_append, ps, lp, List.set_cons_zero, List.set_cons_succ, jk, kd_hI, ln_hI, iI_hI, iR_hI, iJ_hI, nn_hI, sU_hI, stI_hI, hI_hI, K0e, and_true, true_and, rtOk, fOk, ge_iff_le, Nat.reduceLeDiff, Nat.reduceAdd, Nat.reduceSub, Nat.reduceLT, c1, lit, nN, nN2, nI_add, pk_mul, nI_clamp, vpi, nI_leI, nI_ltI, nI_eq, bP_z, not_true_eq_false, not_false_eq_true, false_implies, true_implies, implies_true, Nat.le_refl, Nat.lt_irrefl, true_or, or_true, m31, pk_sub, pk_m1, bP_1, bP_em, Classical.not_not, Nat.zero_le, cI_T, cI_F, thr_e, thr_0, thr_m, vus, vun, vuu, pk_us, e_xO, e_xC, ex_e, e_mabsN, Nat.reduceEqDiff, ↓reduceIte, pk_un]
  refine cl _ _ (sX3_word r1 r2 (r3.2.2.2.2 2 (by omega)) (by omega)) rfl rfl rfl rfl (by omega) r1.1.1 ?_
  rintro _ h1 ⟨s, rfl, w1, w2, ⟨c, w3, w4⟩, w5, w6⟩
  have q : ∀ x, x < nn h → x ≠ 349 → Same h h1 x := fun x hx hne => (rdHs _ _ x hne).trans (w6 x hx)
  have ck := (r3.sm (fun a ha => q a (by omega) (by omega))).1 i hi
  rw [← hw] at ck
  try simp (disch := omega) only [kd_stI, ln_stI, nn_stI, iI_stI, iR_stI, iJ_stI, sU_stI, kd_stR, ln_stR, nn_stR, iI_stR, iR_stR, iJ_stR, sU_stR, kd_stJ, ln_stJ, nn_stJ, iI_stJ, iR_stJ, iJ_stJ, sU_stJ, kd_alc, ln_alc, nn_alc, iI_alc, iR_alc, iJ_alc, sU_alc, e_const, e_lconst, e_null, e_iload, e_lload, e_aload, e_istore, e_astore, e_lstore, e_iinc, e_iadd, e_isub, e_imul, e_iand, e_ior, e_ixor, e_ishl, e_ishr, e_iushr, e_idiv, e_irem, e_ineg, e_i2l, e_i2b, e_i2c, e_lmul, e_lcmp, e_dup, e_pop, e_dup_x1, e_dup2, e_if_eq, e_icmp_eq, e_if_ne, e_icmp_ne, e_if_lt, e_icmp_lt, e_if_ge, e_icmp_ge, e_if_gt, e_icmp_gt, e_if_le, e_icmp_le, e_ifnull, e_ifnonnull, e_acmp_eq, e_acmp_ne, e_getI, e_getJ, e_getR, e_getSI, e_getSR, e_getEI, e_getER, e_putI, e_putJ, e_putR, e_iald, e_bald, e_zald, e_lald, e_aald, e_alen, e_iast, e_bast, e_zast, e_last, e_newa, e_new, e_newq, e_ret, e_vret, e_obj, e_mmax, e_mmin, e_ldcS, e_sref, e_exc, e_thr, e_stq, e_cast, e_castY, e_castA, e_instS, e_cpy, e_aast, e_cpyR, e_cln, e_gcl, e_ldcM, e_sw, swc_n, swc_c, kon_v, kon_r, kon_t, lg_0, lg_s, ls0, lay, List.length_cons, List.length_nil, List.replicate, List.cons_append, List.nil_append, ps, lp, List.set_cons_zero, List.set_cons_succ, jk, kd_hI, ln_hI, iI_hI, iR_hI, iJ_hI, nn_hI, sU_hI, stI_hI, hI_hI, K0e, and_true, true_and, rtOk, fOk, ge_iff_le, Nat.reduceLeDiff, Nat.reduceAdd, Nat.reduceSub, Nat.reduceLT, c1, lit, nN, nN2, nI_add, pk_mul, nI_clamp, vpi, nI_leI, nI_ltI, nI_eq, bP_z, not_true_eq_false, not_false_eq_true, false_implies, true_implies, implies_true, Nat.le_refl, Nat.lt_irrefl, true_or, or_true, m31, pk_sub, pk_m1, bP_1, bP_em, Classical.not_not, Nat.zero_le, cI_T, cI_F, thr_e, thr_0, thr_m, vus, vun, vuu, pk_us, e_xO, e_xC, ex_e, e_mabsN, Nat.reduceEqDiff, ↓reduceIte, pk_un]
  refine cR (sJ5_equals (by omega) (by omega) w3 ck) rfl rfl rfl rfl (by omega) w3.1 ?_
  have iff : (wL T e (sk T e a) = tln w ∧ ∀ k, k < wL T e (sk T e a) → c k = tch w k) ↔ isT T e (sk T e a) w := by
    constructor
    · intro z
      refine ⟨z.1, fun k hk => ?_⟩
      rw [← z.1] at hk
      rw [w4 k hk, z.2 k hk]
    · intro z
      refine ⟨z.1, fun k hk => ?_⟩
      have e1 := z.2 k (by rw [← z.1]; exact hk)
      rw [w4 k hk] at e1
      have c1' := (w3.2.2.2.2.2.2.2 k hk).2
      have c2 := (ck.2.2.2.2.2.2.2 k (by rw [← z.1]; exact hk)).2
      rwa [nI_eq (by omega) (by omega)] at e1
  rw [propext iff]
  have e349 := w6 349 (by omega)
  have k1 : kd h1 349 = 3 := by rw [e349.1]; exact r1.1.1
  have x4 : iI h1 349 4 = nI (sk T e a) := by rw [e349.2.2.1]; exact rdH_4 _ _
  try simp (disch := omega) only [k1, x4, kd_stI, ln_stI, nn_stI, iI_stI, iR_stI, iJ_stI, sU_stI, kd_stR, ln_stR, nn_stR, iI_stR, iR_stR, iJ_stR, sU_stR, kd_stJ, ln_stJ, nn_stJ, iI_stJ, iR_stJ, iJ_stJ, sU_stJ, kd_alc, ln_alc, nn_alc, iI_alc, iR_alc, iJ_alc, sU_alc, e_const, e_lconst, e_null, e_iload, e_lload, e_aload, e_istore, e_astore, e_lstore, e_iinc, e_iadd, e_isub, e_imul, e_iand, e_ior, e_ixor, e_ishl, e_ishr, e_iushr, e_idiv, e_irem, e_ineg, e_i2l, e_i2b, e_i2c, e_lmul, e_lcmp, e_dup, e_pop, e_dup_x1, e_dup2, e_if_eq, e_icmp_eq, e_if_ne, e_icmp_ne, e_if_lt, e_icmp_lt, e_if_ge, e_icmp_ge, e_if_gt, e_icmp_gt, e_if_le, e_icmp_le, e_ifnull, e_ifnonnull, e_acmp_eq, e_acmp_ne, e_getI, e_getJ, e_getR, e_getSI, e_getSR, e_getEI, e_getER, e_putI, e_putJ, e_putR, e_iald, e_bald, e_zald, e_lald, e_aald, e_alen, e_iast, e_bast, e_zast, e_last, e_newa, e_new, e_newq, e_ret, e_vret, e_obj, e_mmax, e_mmin, e_ldcS, e_sref, e_exc, e_thr, e_stq, e_cast, e_castY, e_castA, e_instS, e_cpy, e_aast, e_cpyR, e_cln, e_gcl, e_ldcM, e_sw, swc_n, swc_c, kon_v, kon_r, kon_t, lg_0, lg_s, ls0, lay, List.length_cons, List.length_nil, List.replicate, List.cons_append, List.nil_append, ps, lp, List.set_cons_zero, List.set_cons_succ, jk, kd_hI, ln_hI, iI_hI, iR_hI, iJ_hI, nn_hI, sU_hI, stI_hI, hI_hI, K0e, and_true, true_and, rtOk, fOk, ge_iff_le, Nat.reduceLeDiff, Nat.reduceAdd, Nat.reduceSub, Nat.reduceLT, c1, lit, nN, nN2, nI_add, pk_mul, nI_clamp, vpi, nI_leI, nI_ltI, nI_eq, bP_z, not_true_eq_false, not_false_eq_true, false_implies, true_implies, implies_true, Nat.le_refl, Nat.lt_irrefl, true_or, or_true, m31, pk_sub, pk_m1, bP_1, bP_em, Classical.not_not, Nat.zero_le, cI_T, cI_F, thr_e, thr_0, thr_m, vus, vun, vuu, pk_us, e_xO, e_xC, ex_e, e_mabsN, Nat.reduceEqDiff, ↓reduceIte, pk_un]
  refine ⟨fun z => ?_, fun z => ?_⟩
  · rw [bP_f z, dI_f z]
    refine ⟨rfl, ⟨w1.1, w1.2.1, w1.2.2.1, w1.2.2.2⟩, fun x hx => ?_⟩
    by_cases e3 : x = 349
    · subst e3
      refine ⟨by rw [kd_stI, e349.1, rdH_kd, rdH_kd], by rw [ln_stI, e349.2.1, rdH_ln, rdH_ln], ?_, by rw [iR_stI, e349.2.2.2, rdH_iR, rdH_iR]⟩
      rw [iI_stI, vus, e349.2.2.1]
      unfold rdH
      rw [iI_stI, vus, iI_stI, vus, up_c _ _ (show 4 ≠ 3 by omega), upd_upd]
    · have e4 := w6 x hx
      refine ⟨by rw [kd_stI, e4.1, rdH_kd, rdH_kd], by rw [ln_stI, e4.2.1, rdH_ln, rdH_ln], ?_, by rw [iR_stI, e4.2.2.2, rdH_iR, rdH_iR]⟩
      rw [iI_stI, vun _ _ e3, (q x hx e3).2.2.1, (rdHs _ _ x e3).2.2.1]
  · rw [bP_t z, dI_t z, ← z.1]
    exact ⟨rfl, w1, w6⟩
end
