/-! CHANGED: the model -/
set_option maxRecDepth 100000
/-- from the oldest on -/
noncomputable def mB (S : Nat → Int32) : Nat → Int32 × Int32 := fu (fun z m => cBs S z (nG S - (m + 1))) (nI 0, nI 0)
noncomputable def rB (S : Nat → Int32) (s j : Nat) : Int32 := cI (chP S s j) (nI 1 <<< (S (420 + 8 * j + (1 + s)) &&& nI 31)) (nI 0)
noncomputable def rN (S : Nat → Int32) (s j : Nat) : Int32 := cI (chP S s j) (nI 1) (nI 0)
theorem oB_r (S : Nat → Int32) (s j : Nat) (x : Int32) : oB S s j x = x ||| rB S s j := by
  unfold oB rB
  by_cases z : chP S s j
  · rw [cI_t z, cI_t z]
  · rw [cI_f z, cI_f z, nI_0, Int32.or_zero]
theorem oN_r (S : Nat → Int32) (s j : Nat) (x : Int32) : oN S s j x = x + rN S s j := by
  unfold oN rN
  by_cases z : chP S s j
  · rw [cI_t z, cI_t z]
  · rw [cI_f z, cI_f z, nI_0, Int32.add_zero]
theorem cBm {S : Nat → Int32} : cB S (nG S) = mB S (nG S) := by
  have key : ∀ j, j ≤ nG S → (cB S j).1 ||| (mB S (nG S - j)).1 = (mB S (nG S)).1 ∧ (cB S j).2 + (mB S (nG S - j)).2 = (mB S (nG S)).2 := by
    intro j
    induction j with
    | zero =>
      intro _
      refine ⟨?_, ?_⟩
      · show nI 0 ||| _ = _
        rw [nI_0, Int32.zero_or]; rfl
      · show nI 0 + _ = _
        rw [nI_0, Int32.zero_add]; rfl
    | succ j ih =>
      intro hj
      obtain ⟨i1, i2⟩ := ih (by omega)
      obtain ⟨m, hm⟩ : ∃ m, nG S - j = m + 1 := ⟨nG S - j - 1, by omega⟩
      have hm' : nG S - (j + 1) = m := by omega
      have hj' : nG S - (m + 1) = j := by omega
      rw [hm] at i1 i2
      rw [hm', ← i1, ← i2]
      have e1 : cB S (j + 1) = cBs S (cB S j) j := rfl
      have e2 : mB S (m + 1) = cBs S (mB S m) j := by
        show cBs S (mB S m) (nG S - (m + 1)) = _
        rw [hj']
      rw [e1, e2]
      unfold cBs
      simp only [oB_r, oN_r]
      refine ⟨?_, ?_⟩
      · rw [Int32.or_assoc (_ ||| _), Int32.or_assoc (cB S j).1, Int32.or_assoc (mB S m).1, Int32.or_comm (mB S m).1]
        simp only [Int32.or_assoc]
      · rw [Int32.add_assoc (_ + _), Int32.add_assoc (cB S j).2, Int32.add_assoc (mB S m).2, Int32.add_comm (mB S m).2]
        simp only [Int32.add_assoc]
  obtain ⟨k1, k2⟩ := key (nG S) (Nat.le_refl _)
  rw [Nat.sub_self] at k1 k2
  refine Prod.ext ?_ ?_
  · rw [← k1]; show _ = _ ||| nI 0; rw [nI_0, Int32.or_zero]
  · rw [← k2]; show _ = _ + nI 0; rw [nI_0, Int32.add_zero]
/-- what one began with last -/
noncomputable def vlR (S : Nat → Int32) (s a b j : Nat) : Int32 := cI (fsR S (nI a) (nI b) (nG S - j) j < nG S) (S (420 + 8 * fsR S (nI a) (nI b) (nG S - j) j + (3 + s))) N1
def bgI (S : Nat → Int32) (j : Nat) (W : Nat → Int32) : Prop := ∀ a b, a < b → b < 10 → W (10 * a + b) = vlR S 0 a b j ∧ W (10 * b + a) = vlR S 1 a b j
theorem cd_n1 {x : Int32} (h : cd x) : x ≠ N1 := fun e => by
  have := h.1
  rw [e] at this
  exact absurd (Int32.lt_of_le_of_lt this N1_lt) (Int32.lt_irrefl)
theorem fsR_ok {S : Nat → Int32} {a b : Int32} : ∀ m j, fsR S a b m j < j + m → S (420 + 8 * fsR S a b m j + 1) = a ∧ S (420 + 8 * fsR S a b m j + 2) = b := by
  intro m
  induction m with
  | zero => intro j h; have : j < j + 0 := h; omega
  | succ m ih =>
    intro j h
    by_cases z : S (420 + 8 * j + 1) = a ∧ S (420 + 8 * j + 2) = b
    · rw [fsR_t z]; exact z
    · rw [fsR_f z] at h ⊢
      exact ih (j + 1) (by omega)
theorem vl_ch {S : Nat → Int32} (hg : Ig S) {s j a b : Nat} (hs : s < 2) (hj : j < nG S) (ea : S (420 + 8 * j + 1) = nI a) (eb : S (420 + 8 * j + 2) = nI b) : (¬ vlR S s a b (j + 1) = N1 ∧ ¬ vlR S s a b (j + 1) = S (420 + 8 * j + (3 + s))) ↔ chP S s j := by
  have eo : olD S j = fsR S (nI a) (nI b) (nG S - (j + 1)) (j + 1) := by unfold olD; rw [ea, eb]
  unfold vlR chP
  rw [← eo]
  by_cases z : olD S j < nG S
  · rw [cI_t z]
    refine ⟨fun q => ⟨z, fun e => q.2 e.symm⟩, fun q => ⟨?_, fun e => q.2 e.symm⟩⟩
    obtain ⟨a', b', _, _, _, _, c3, c4⟩ := hg.2 _ z
    obtain rfl | rfl : s = 0 ∨ s = 1 := by omega
    · exact cd_n1 c3
    · exact cd_n1 c4
  · rw [cI_f z]
    exact ⟨fun q => absurd rfl q.1, fun q => absurd q.1 z⟩
theorem bgI_s {S : Nat → Int32} {j a b : Nat} {W : Nat → Int32} (hj : j < nG S) (hab : a < b) (hb : b < 10) (ea : S (420 + 8 * j + 1) = nI a) (eb : S (420 + 8 * j + 2) = nI b) (I : bgI S (j + 1) W) : bgI S j (upd (upd W (10 * a + b) (S (420 + 8 * j + 3))) (10 * b + a) (S (420 + 8 * j + 4))) := by
  obtain ⟨m, hm⟩ : ∃ m, nG S - j = m + 1 := ⟨nG S - j - 1, by omega⟩
  have hm' : nG S - (j + 1) = m := by omega
  intro a' b' h1 h2
  by_cases e : a' = a ∧ b' = b
  · obtain ⟨rfl, rfl⟩ := e
    have ef : fsR S (nI a') (nI b') (nG S - j) j = j := by rw [hm]; exact fsR_t ⟨ea, eb⟩
    unfold vlR
    rw [ef, cI_t hj, cI_t hj]
    exact ⟨by rw [pk_un (by omega), pk_us], by rw [pk_us]⟩
  · have ef : fsR S (nI a') (nI b') (nG S - j) j = fsR S (nI a') (nI b') (nG S - (j + 1)) (j + 1) := by
      rw [hm, hm']
      refine fsR_f (fun q => e ?_)
      rw [ea, eb, nI_eq (by omega) (by omega), nI_eq (by omega) (by omega)] at q
      omega
    unfold vlR
    rw [ef]
    rw [pk_un (by omega), pk_un (by omega), pk_un (by omega), pk_un (by omega)]
    exact I a' b' h1 h2
section
variable {h : MH} {σ : Nat → Nat → Int32} {d : Nat}
theorem sX8_changed (hs : SM h) (hg : Ig (σ 381)) (hd : 4 ≤ d) {b : Int32} : WPm mX8_changed d [.ref 380, .int b] (hI h σ) (fun o h1 => o = .returned (some (.int (cI (b = nI 0) (cB (σ 381) (nG (σ 381))).1 (cB (σ 381) (nG (σ 381))).2))) ∧ ∃ W, h1 = hI h (va_up (thr σ (nI 0)) 394 W)) := by
  obtain ⟨⟨en, hn⟩, hr⟩ := hg
  have t1 : ∀ W, (va_up (thr σ (nI 0)) 394 W) 381 = σ 381 := fun W => by rw [vun _ _ (by omega), thr_m _ _ (by omega)]
  have t2 : ∀ W, (va_up (thr σ (nI 0)) 394 W) 394 = W := fun W => vus _ _ _
  have t3 : ∀ W W', va_up (va_up (thr σ (nI 0)) 394 W) 394 W' = va_up (thr σ (nI 0)) 394 W' := fun W W' => vuu _ _ _ _
  generalize hQ : (fun (o : Outcome) (h1 : MH) => o = .returned (some (.int (cI (b = nI 0) (cB (σ 381) (nG (σ 381))).1 (cB (σ 381) (nG (σ 381))).2))) ∧ ∃ W, h1 = hI h (va_up (thr σ (nI 0)) 394 W)) = Q
  have side : ∀ s, s < 2 → ∀ j, j < 60 → ∀ p q, p < 10 → q < 10 → σ 381 (420 + 8 * j + (1 + s)) = nI p → σ 381 (420 + 8 * j + (2 - s)) = nI q → ∀ W x y l6 l7 l8, (∀ x' y' l6 l7 l8, x' = cI (¬ W (10 * p + q) = N1 ∧ ¬ W (10 * p + q) = σ 381 (420 + 8 * j + (3 + s))) (x ||| nI 1 <<< nI p) x → y' = cI (¬ W (10 * p + q) = N1 ∧ ¬ W (10 * p + q) = σ 381 (420 + 8 * j + (3 + s))) (y + nI 1) y → WPb mX8_changed d 49 [.ref 380, .int b, .int x', .int y', .int (nI j), .int (nI (s + 1)), l6, l7, l8] [] (hI h (va_up (thr σ (nI 0)) 394 (upd W (10 * p + q) (σ 381 (420 + 8 * j + (3 + s)))))) Q) → WPb mX8_changed d 49 [.ref 380, .int b, .int x, .int y, .int (nI j), .int (nI s), l6, l7, l8] [] (hI h (va_up (thr σ (nI 0)) 394 W)) Q := by
    intro s hs2 j hj p q hp hq ep eq W x y l6 l7 l8 hyp
    apply kX8_changed_49
    simp (disch := omega) only [tX8_changed_49, e_const, e_lconst, e_null, e_iload, e_lload, e_aload, e_istore, e_astore, e_lstore, e_iinc, e_iadd, e_isub, e_imul, e_iand, e_ior, e_ixor, e_ishl, e_ishr, e_iushr, e_idiv, e_irem, e_ineg, e_i2l, e_i2b, e_i2c, e_lmul, e_lcmp, e_dup, e_pop, e_dup_x1, e_dup2, e_if_eq, e_icmp_eq, e_if_ne, e_icmp_ne, e_if_lt, e_icmp_lt, e_if_ge, e_icmp_ge, e_if_gt, e_icmp_gt, e_if_le, e_icmp_le, e_ifnull, e_ifnonnull, e_acmp_eq, e_acmp_ne, e_getI, e_getJ, e_getR, e_getSI, e_getSR, e_getEI, e_getER, e_putI, e_putJ, e_putR, e_iald, e_bald, e_zald, e_lald, e_aald, e_alen, e_iast, e_bast, e_zast, e_last, e_newa, e_new, e_newq, e_ret, e_vret, e_obj, e_mmax, e_mmin, e_ldcS, e_sref, e_exc, e_thr, e_stq, e_cast, e_castY, e_castA, e_instS, e_cpy, e_aast, e_cpyR, e_cln, e_gcl, e_ldcM, e_sw, swc_n, swc_c, kon_v, kon_r, kon_t, lg_0, lg_s, ls0, lay, List.length_cons, List.length_nil, List.replicate, List.cons_append, List.nil_append, ps, lp, List.set_cons_zero, List.set_cons_succ, jk, kd_hI, ln_hI, iI_hI, iR_hI, iJ_hI, nn_hI, sU_hI, stI_hI, hI_hI, K0e, and_true, true_and, rtOk, fOk, ge_iff_le, Nat.reduceLeDiff, Nat.reduceAdd, Nat.reduceSub, Nat.reduceLT, c1, smk hs, smr1 hs, smr2 hs, smr4 hs, smr5 hs, smr7 hs, smr14 hs, smr18 hs, smr19 hs, smr20 hs, smr21 hs, smr22 hs, smr23 hs, smr24 hs, smr25 hs, smk381 hs, sml381 hs, smk382 hs, sml382 hs, smk383 hs, sml383 hs, smk384 hs, sml384 hs, smk385 hs, sml385 hs, smk386 hs, sml386 hs, smk387 hs, sml387 hs, smk388 hs, sml388 hs, smk389 hs, sml389 hs, smk390 hs, sml390 hs, smk391 hs, sml391 hs, smk392 hs, sml392 hs, smk393 hs, sml393 hs, smk394 hs, sml394 hs, lit, nN, nN2, nI_add, pk_mul, nI_clamp, vpi, nI_leI, nI_ltI, nI_eq, bP_z, not_true_eq_false, not_false_eq_true, false_implies, true_implies, implies_true, Nat.le_refl, Nat.lt_irrefl, true_or, or_true, m31, pk_sub, pk_m1, bP_1, bP_em, Classical.not_not, Nat.zero_le, cI_T, cI_F, thr_e, thr_0, thr_m, vus, vun, vuu, pk_us]
    refine ⟨fun z => by omega, fun _ => ?_⟩
    have g1 := sX8_logged (σ := va_up (thr σ (nI 0)) 394 W) (d := d - 1) hs (k := j) (w := 1 + s) hj (by omega)
    have g2 := sX8_logged (σ := va_up (thr σ (nI 0)) 394 W) (d := d - 1) hs (k := j) (w := 2 - s) hj (by omega)
    have g3 := sX8_logged (σ := va_up (thr σ (nI 0)) 394 W) (d := d - 1) hs (k := j) (w := 3 + s) hj (by omega)
    rw [t1, ep] at g1
    rw [t1, eq] at g2
    rw [t1] at g3
    refine cR g1 rfl rfl rfl rfl (by omega) (smk hs) ?_
    simp (disch := omega) only [e_const, e_lconst, e_null, e_iload, e_lload, e_aload, e_istore, e_astore, e_lstore, e_iinc, e_iadd, e_isub, e_imul, e_iand, e_ior, e_ixor, e_ishl, e_ishr, e_iushr, e_idiv, e_irem, e_ineg, e_i2l, e_i2b, e_i2c, e_lmul, e_lcmp, e_dup, e_pop, e_dup_x1, e_dup2, e_if_eq, e_icmp_eq, e_if_ne, e_icmp_ne, e_if_lt, e_icmp_lt, e_if_ge, e_icmp_ge, e_if_gt, e_icmp_gt, e_if_le, e_icmp_le, e_ifnull, e_ifnonnull, e_acmp_eq, e_acmp_ne, e_getI, e_getJ, e_getR, e_getSI, e_getSR, e_getEI, e_getER, e_putI, e_putJ, e_putR, e_iald, e_bald, e_zald, e_lald, e_aald, e_alen, e_iast, e_bast, e_zast, e_last, e_newa, e_new, e_newq, e_ret, e_vret, e_obj, e_mmax, e_mmin, e_ldcS, e_sref, e_exc, e_thr, e_stq, e_cast, e_castY, e_castA, e_instS, e_cpy, e_aast, e_cpyR, e_cln, e_gcl, e_ldcM, e_sw, swc_n, swc_c, kon_v, kon_r, kon_t, lg_0, lg_s, ls0, lay, List.length_cons, List.length_nil, List.replicate, List.cons_append, List.nil_append, ps, lp, List.set_cons_zero, List.set_cons_succ, jk, kd_hI, ln_hI, iI_hI, iR_hI, iJ_hI, nn_hI, sU_hI, stI_hI, hI_hI, K0e, and_true, true_and, rtOk, fOk, ge_iff_le, Nat.reduceLeDiff, Nat.reduceAdd, Nat.reduceSub, Nat.reduceLT, c1, smk hs, smr1 hs, smr2 hs, smr4 hs, smr5 hs, smr7 hs, smr14 hs, smr18 hs, smr19 hs, smr20 hs, smr21 hs, smr22 hs, smr23 hs, smr24 hs, smr25 hs, smk381 hs, sml381 hs, smk382 hs, sml382 hs, smk383 hs, sml383 hs, smk384 hs, sml384 hs, smk385 hs, sml385 hs, smk386 hs, sml386 hs, smk387 hs, sml387 hs, smk388 hs, sml388 hs, smk389 hs, sml389 hs, smk390 hs, sml390 hs, smk391 hs, sml391 hs, smk392 hs, sml392 hs, smk393 hs, sml393 hs, smk394 hs, sml394 hs, lit, nN, nN2, nI_add, pk_mul, nI_clamp, vpi, nI_leI, nI_ltI, nI_eq, bP_z, not_true_eq_false, not_false_eq_true, false_implies, true_implies, implies_true, Nat.le_refl, Nat.lt_irrefl, true_or, or_true, m31, pk_sub, pk_m1, bP_1, bP_em, Classical.not_not, Nat.zero_le, cI_T, cI_F, thr_e, thr_0, thr_m, vus, vun, vuu, pk_us]
    refine cR g2 rfl rfl rfl rfl (by omega) (smk hs) ?_
    simp (disch := omega) only [e_const, e_lconst, e_null, e_iload, e_lload, e_aload, e_istore, e_astore, e_lstore, e_iinc, e_iadd, e_isub, e_imul, e_iand, e_ior, e_ixor, e_ishl, e_ishr, e_iushr, e_idiv, e_irem, e_ineg, e_i2l, e_i2b, e_i2c, e_lmul, e_lcmp, e_dup, e_pop, e_dup_x1, e_dup2, e_if_eq, e_icmp_eq, e_if_ne, e_icmp_ne, e_if_lt, e_icmp_lt, e_if_ge, e_icmp_ge, e_if_gt, e_icmp_gt, e_if_le, e_icmp_le, e_ifnull, e_ifnonnull, e_acmp_eq, e_acmp_ne, e_getI, e_getJ, e_getR, e_getSI, e_getSR, e_getEI, e_getER, e_putI, e_putJ, e_putR, e_iald, e_bald, e_zald, e_lald, e_aald, e_alen, e_iast, e_bast, e_zast, e_last, e_newa, e_new, e_newq, e_ret, e_vret, e_obj, e_mmax, e_mmin, e_ldcS, e_sref, e_exc, e_thr, e_stq, e_cast, e_castY, e_castA, e_instS, e_cpy, e_aast, e_cpyR, e_cln, e_gcl, e_ldcM, e_sw, swc_n, swc_c, kon_v, kon_r, kon_t, lg_0, lg_s, ls0, lay, List.length_cons, List.length_nil, List.replicate, List.cons_append, List.nil_append, ps, lp, List.set_cons_zero, List.set_cons_succ, jk, kd_hI, ln_hI, iI_hI, iR_hI, iJ_hI, nn_hI, sU_hI, stI_hI, hI_hI, K0e, and_true, true_and, rtOk, fOk, ge_iff_le, Nat.reduceLeDiff, Nat.reduceAdd, Nat.reduceSub, Nat.reduceLT, c1, smk hs, smr1 hs, smr2 hs, smr4 hs, smr5 hs, smr7 hs, smr14 hs, smr18 hs, smr19 hs, smr20 hs, smr21 hs, smr22 hs, smr23 hs, smr24 hs, smr25 hs, smk381 hs, sml381 hs, smk382 hs, sml382 hs, smk383 hs, sml383 hs, smk384 hs, sml384 hs, smk385 hs, sml385 hs, smk386 hs, sml386 hs, smk387 hs, sml387 hs, smk388 hs, sml388 hs, smk389 hs, sml389 hs, smk390 hs, sml390 hs, smk391 hs, sml391 hs, smk392 hs, sml392 hs, smk393 hs, sml393 hs, smk394 hs, sml394 hs, lit, nN, nN2, nI_add, pk_mul, nI_clamp, vpi, nI_leI, nI_ltI, nI_eq, bP_z, not_true_eq_false, not_false_eq_true, false_implies, true_implies, implies_true, Nat.le_refl, Nat.lt_irrefl, true_or, or_true, m31, pk_sub, pk_m1, bP_1, bP_em, Classical.not_not, Nat.zero_le, cI_T, cI_F, thr_e, thr_0, thr_m, vus, vun, vuu, pk_us]
    refine cR g3 rfl rfl rfl rfl (by omega) (smk hs) ?_
    have J130 : ∀ x' y', x' = cI (¬ W (10 * p + q) = N1 ∧ ¬ W (10 * p + q) = σ 381 (420 + 8 * j + (3 + s))) (x ||| nI 1 <<< nI p) x → y' = cI (¬ W (10 * p + q) = N1 ∧ ¬ W (10 * p + q) = σ 381 (420 + 8 * j + (3 + s))) (y + nI 1) y → WPb mX8_changed d 130 [.ref 380, .int b, .int x', .int y', .int (nI j), .int (nI s), .int (nI p), .int (nI (10 * p + q)), .int (σ 381 (420 + 8 * j + (3 + s)))] [] (hI h (va_up (thr σ (nI 0)) 394 W)) Q := by
      intro x' y' ex ey
      apply kX8_changed_130
      simp (disch := omega) only [tX8_changed_130, t2, t3, e_const, e_lconst, e_null, e_iload, e_lload, e_aload, e_istore, e_astore, e_lstore, e_iinc, e_iadd, e_isub, e_imul, e_iand, e_ior, e_ixor, e_ishl, e_ishr, e_iushr, e_idiv, e_irem, e_ineg, e_i2l, e_i2b, e_i2c, e_lmul, e_lcmp, e_dup, e_pop, e_dup_x1, e_dup2, e_if_eq, e_icmp_eq, e_if_ne, e_icmp_ne, e_if_lt, e_icmp_lt, e_if_ge, e_icmp_ge, e_if_gt, e_icmp_gt, e_if_le, e_icmp_le, e_ifnull, e_ifnonnull, e_acmp_eq, e_acmp_ne, e_getI, e_getJ, e_getR, e_getSI, e_getSR, e_getEI, e_getER, e_putI, e_putJ, e_putR, e_iald, e_bald, e_zald, e_lald, e_aald, e_alen, e_iast, e_bast, e_zast, e_last, e_newa, e_new, e_newq, e_ret, e_vret, e_obj, e_mmax, e_mmin, e_ldcS, e_sref, e_exc, e_thr, e_stq, e_cast, e_castY, e_castA, e_instS, e_cpy, e_aast, e_cpyR, e_cln, e_gcl, e_ldcM, e_sw, swc_n, swc_c, kon_v, kon_r, kon_t, lg_0, lg_s, ls0, lay, List.length_cons, List.length_nil, List.replicate, List.cons_append, List.nil_append, ps, lp, List.set_cons_zero, List.set_cons_succ, jk, kd_hI, ln_hI, iI_hI, iR_hI, iJ_hI, nn_hI, sU_hI, stI_hI, hI_hI, K0e, and_true, true_and, rtOk, fOk, ge_iff_le, Nat.reduceLeDiff, Nat.reduceAdd, Nat.reduceSub, Nat.reduceLT, c1, smk hs, smr1 hs, smr2 hs, smr4 hs, smr5 hs, smr7 hs, smr14 hs, smr18 hs, smr19 hs, smr20 hs, smr21 hs, smr22 hs, smr23 hs, smr24 hs, smr25 hs, smk381 hs, sml381 hs, smk382 hs, sml382 hs, smk383 hs, sml383 hs, smk384 hs, sml384 hs, smk385 hs, sml385 hs, smk386 hs, sml386 hs, smk387 hs, sml387 hs, smk388 hs, sml388 hs, smk389 hs, sml389 hs, smk390 hs, sml390 hs, smk391 hs, sml391 hs, smk392 hs, sml392 hs, smk393 hs, sml393 hs, smk394 hs, sml394 hs, lit, nN, nN2, nI_add, pk_mul, nI_clamp, vpi, nI_leI, nI_ltI, nI_eq, bP_z, not_true_eq_false, not_false_eq_true, false_implies, true_implies, implies_true, Nat.le_refl, Nat.lt_irrefl, true_or, or_true, m31, pk_sub, pk_m1, bP_1, bP_em, Classical.not_not, Nat.zero_le, cI_T, cI_F, thr_e, thr_0, thr_m, vus, vun, vuu, pk_us]
      exact hyp _ _ _ _ _ ex ey
    simp (disch := omega) only [t2, e_const, e_lconst, e_null, e_iload, e_lload, e_aload, e_istore, e_astore, e_lstore, e_iinc, e_iadd, e_isub, e_imul, e_iand, e_ior, e_ixor, e_ishl, e_ishr, e_iushr, e_idiv, e_irem, e_ineg, e_i2l, e_i2b, e_i2c, e_lmul, e_lcmp, e_dup, e_pop, e_dup_x1, e_dup2, e_if_eq, e_icmp_eq, e_if_ne, e_icmp_ne, e_if_lt, e_icmp_lt, e_if_ge, e_icmp_ge, e_if_gt, e_icmp_gt, e_if_le, e_icmp_le, e_ifnull, e_ifnonnull, e_acmp_eq, e_acmp_ne, e_getI, e_getJ, e_getR, e_getSI, e_getSR, e_getEI, e_getER, e_putI, e_putJ, e_putR, e_iald, e_bald, e_zald, e_lald, e_aald, e_alen, e_iast, e_bast, e_zast, e_last, e_newa, e_new, e_newq, e_ret, e_vret, e_obj, e_mmax, e_mmin, e_ldcS, e_sref, e_exc, e_thr, e_stq, e_cast, e_castY, e_castA, e_instS, e_cpy, e_aast, e_cpyR, e_cln, e_gcl, e_ldcM, e_sw, swc_n, swc_c, kon_v, kon_r, kon_t, lg_0, lg_s, ls0, lay, List.length_cons, List.length_nil, List.replicate, List.cons_append, List.nil_append, ps, lp, List.set_cons_zero, List.set_cons_succ, jk, kd_hI, ln_hI, iI_hI, iR_hI, iJ_hI, nn_hI, sU_hI, stI_hI, hI_hI, K0e, and_true, true_and, rtOk, fOk, ge_iff_le, Nat.reduceLeDiff, Nat.reduceAdd, Nat.reduceSub, Nat.reduceLT, c1, smk hs, smr1 hs, smr2 hs, smr4 hs, smr5 hs, smr7 hs, smr14 hs, smr18 hs, smr19 hs, smr20 hs, smr21 hs, smr22 hs, smr23 hs, smr24 hs, smr25 hs, smk381 hs, sml381 hs, smk382 hs, sml382 hs, smk383 hs, sml383 hs, smk384 hs, sml384 hs, smk385 hs, sml385 hs, smk386 hs, sml386 hs, smk387 hs, sml387 hs, smk388 hs, sml388 hs, smk389 hs, sml389 hs, smk390 hs, sml390 hs, smk391 hs, sml391 hs, smk392 hs, sml392 hs, smk393 hs, sml393 hs, smk394 hs, sml394 hs, lit, nN, nN2, nI_add, pk_mul, nI_clamp, vpi, nI_leI, nI_ltI, nI_eq, bP_z, not_true_eq_false, not_false_eq_true, false_implies, true_implies, implies_true, Nat.le_refl, Nat.lt_irrefl, true_or, or_true, m31, pk_sub, pk_m1, bP_1, bP_em, Classical.not_not, Nat.zero_le, cI_T, cI_F, thr_e, thr_0, thr_m, vus, vun, vuu, pk_us]
    refine ⟨fun z => J130 _ _ ?_ ?_, fun z => ⟨fun y => J130 _ _ ?_ ?_, fun y => J130 _ _ ?_ ?_⟩⟩
    · rw [cI_f (fun q => q.1 z)]
    · rw [cI_f (fun q => q.1 z)]
    · rw [cI_f (fun q => q.2 y)]
    · rw [cI_f (fun q => q.2 y)]
    · rw [cI_t ⟨z, y⟩]
    · rw [cI_t ⟨z, y⟩]
  have rows : ∀ j, j ≤ nG (σ 381) → ∀ W l5 l6 l7 l8, bgI (σ 381) j W → ∀ n4, n4 = nI j + N1 → WPb mX8_changed d 41 [.ref 380, .int b, .int (mB (σ 381) (nG (σ 381) - j)).1, .int (mB (σ 381) (nG (σ 381) - j)).2, .int n4, l5, l6, l7, l8] [] (hI h (va_up (thr σ (nI 0)) 394 W)) Q := by
    intro j
    induction j with
    | zero =>
      intro _ W l5 l6 l7 l8 I n4 e4
      rw [nI_0, Int32.zero_add] at e4
      subst e4
      apply kX8_changed_41
      simp (disch := omega) only [tX8_changed_41, N1_lt, e_const, e_lconst, e_null, e_iload, e_lload, e_aload, e_istore, e_astore, e_lstore, e_iinc, e_iadd, e_isub, e_imul, e_iand, e_ior, e_ixor, e_ishl, e_ishr, e_iushr, e_idiv, e_irem, e_ineg, e_i2l, e_i2b, e_i2c, e_lmul, e_lcmp, e_dup, e_pop, e_dup_x1, e_dup2, e_if_eq, e_icmp_eq, e_if_ne, e_icmp_ne, e_if_lt, e_icmp_lt, e_if_ge, e_icmp_ge, e_if_gt, e_icmp_gt, e_if_le, e_icmp_le, e_ifnull, e_ifnonnull, e_acmp_eq, e_acmp_ne, e_getI, e_getJ, e_getR, e_getSI, e_getSR, e_getEI, e_getER, e_putI, e_putJ, e_putR, e_iald, e_bald, e_zald, e_lald, e_aald, e_alen, e_iast, e_bast, e_zast, e_last, e_newa, e_new, e_newq, e_ret, e_vret, e_obj, e_mmax, e_mmin, e_ldcS, e_sref, e_exc, e_thr, e_stq, e_cast, e_castY, e_castA, e_instS, e_cpy, e_aast, e_cpyR, e_cln, e_gcl, e_ldcM, e_sw, swc_n, swc_c, kon_v, kon_r, kon_t, lg_0, lg_s, ls0, lay, List.length_cons, List.length_nil, List.replicate, List.cons_append, List.nil_append, ps, lp, List.set_cons_zero, List.set_cons_succ, jk, kd_hI, ln_hI, iI_hI, iR_hI, iJ_hI, nn_hI, sU_hI, stI_hI, hI_hI, K0e, and_true, true_and, rtOk, fOk, ge_iff_le, Nat.reduceLeDiff, Nat.reduceAdd, Nat.reduceSub, Nat.reduceLT, c1, smk hs, smr1 hs, smr2 hs, smr4 hs, smr5 hs, smr7 hs, smr14 hs, smr18 hs, smr19 hs, smr20 hs, smr21 hs, smr22 hs, smr23 hs, smr24 hs, smr25 hs, smk381 hs, sml381 hs, smk382 hs, sml382 hs, smk383 hs, sml383 hs, smk384 hs, sml384 hs, smk385 hs, sml385 hs, smk386 hs, sml386 hs, smk387 hs, sml387 hs, smk388 hs, sml388 hs, smk389 hs, sml389 hs, smk390 hs, sml390 hs, smk391 hs, sml391 hs, smk392 hs, sml392 hs, smk393 hs, sml393 hs, smk394 hs, sml394 hs, lit, nN, nN2, nI_add, pk_mul, nI_clamp, vpi, nI_leI, nI_ltI, nI_eq, bP_z, not_true_eq_false, not_false_eq_true, false_implies, true_implies, implies_true, Nat.le_refl, Nat.lt_irrefl, true_or, or_true, m31, pk_sub, pk_m1, bP_1, bP_em, Classical.not_not, Nat.zero_le, cI_T, cI_F, thr_e, thr_0, thr_m, vus, vun, vuu, pk_us]
      subst hQ
      rw [cBm]
      exact ⟨fun z => ⟨by rw [cI_t z]; rfl, W, rfl⟩, fun z => ⟨by rw [cI_f z]; rfl, W, rfl⟩⟩
    | succ j ih =>
      intro hj W l5 l6 l7 l8 I n4 e4
      have e5 : nI (j + 1) + N1 = nI j := by
        rw [← nI_add, Int32.add_assoc, show nI 1 + N1 = 0 by decide, Int32.add_zero]
      rw [e5] at e4
      subst e4
      obtain ⟨a, c, hac, hc, ea, ec, c3, c4⟩ := hr j (by omega)
      apply kX8_changed_41
      simp (disch := omega) only [tX8_changed_41, e_const, e_lconst, e_null, e_iload, e_lload, e_aload, e_istore, e_astore, e_lstore, e_iinc, e_iadd, e_isub, e_imul, e_iand, e_ior, e_ixor, e_ishl, e_ishr, e_iushr, e_idiv, e_irem, e_ineg, e_i2l, e_i2b, e_i2c, e_lmul, e_lcmp, e_dup, e_pop, e_dup_x1, e_dup2, e_if_eq, e_icmp_eq, e_if_ne, e_icmp_ne, e_if_lt, e_icmp_lt, e_if_ge, e_icmp_ge, e_if_gt, e_icmp_gt, e_if_le, e_icmp_le, e_ifnull, e_ifnonnull, e_acmp_eq, e_acmp_ne, e_getI, e_getJ, e_getR, e_getSI, e_getSR, e_getEI, e_getER, e_putI, e_putJ, e_putR, e_iald, e_bald, e_zald, e_lald, e_aald, e_alen, e_iast, e_bast, e_zast, e_last, e_newa, e_new, e_newq, e_ret, e_vret, e_obj, e_mmax, e_mmin, e_ldcS, e_sref, e_exc, e_thr, e_stq, e_cast, e_castY, e_castA, e_instS, e_cpy, e_aast, e_cpyR, e_cln, e_gcl, e_ldcM, e_sw, swc_n, swc_c, kon_v, kon_r, kon_t, lg_0, lg_s, ls0, lay, List.length_cons, List.length_nil, List.replicate, List.cons_append, List.nil_append, ps, lp, List.set_cons_zero, List.set_cons_succ, jk, kd_hI, ln_hI, iI_hI, iR_hI, iJ_hI, nn_hI, sU_hI, stI_hI, hI_hI, K0e, and_true, true_and, rtOk, fOk, ge_iff_le, Nat.reduceLeDiff, Nat.reduceAdd, Nat.reduceSub, Nat.reduceLT, c1, smk hs, smr1 hs, smr2 hs, smr4 hs, smr5 hs, smr7 hs, smr14 hs, smr18 hs, smr19 hs, smr20 hs, smr21 hs, smr22 hs, smr23 hs, smr24 hs, smr25 hs, smk381 hs, sml381 hs, smk382 hs, sml382 hs, smk383 hs, sml383 hs, smk384 hs, sml384 hs, smk385 hs, sml385 hs, smk386 hs, sml386 hs, smk387 hs, sml387 hs, smk388 hs, sml388 hs, smk389 hs, sml389 hs, smk390 hs, sml390 hs, smk391 hs, sml391 hs, smk392 hs, sml392 hs, smk393 hs, sml393 hs, smk394 hs, sml394 hs, lit, nN, nN2, nI_add, pk_mul, nI_clamp, vpi, nI_leI, nI_ltI, nI_eq, bP_z, not_true_eq_false, not_false_eq_true, false_implies, true_implies, implies_true, Nat.le_refl, Nat.lt_irrefl, true_or, or_true, m31, pk_sub, pk_m1, bP_1, bP_em, Classical.not_not, Nat.zero_le, cI_T, cI_F, thr_e, thr_0, thr_m, vus, vun, vuu, pk_us]
      refine ⟨fun z => by omega, fun _ => ?_⟩
      have hIg : Ig (σ 381) := ⟨⟨en, hn⟩, hr⟩
      obtain ⟨iA, iB⟩ := I a c hac hc
      have ob : ∀ s, s < 2 → ∀ p, p < 10 → σ 381 (420 + 8 * j + (1 + s)) = nI p → ∀ v, v = vlR (σ 381) s a c (j + 1) → (∀ x, cI (¬ v = N1 ∧ ¬ v = σ 381 (420 + 8 * j + (3 + s))) (x ||| nI 1 <<< nI p) x = oB (σ 381) s j x) ∧ (∀ x, cI (¬ v = N1 ∧ ¬ v = σ 381 (420 + 8 * j + (3 + s))) (x + nI 1) x = oN (σ 381) s j x) := by
        intro s hs2 p hp ep v ev
        have hv := vl_ch hIg hs2 (show j < nG (σ 381) by omega) ea ec
        rw [← ev] at hv
        refine ⟨fun x => ?_, fun x => ?_⟩
        · unfold oB
          rw [ep, m31 (by omega)]
          by_cases z : chP (σ 381) s j
          · rw [cI_t z, cI_t (hv.2 z)]
          · rw [cI_f z, cI_f (fun q => z (hv.1 q))]
        · unfold oN
          by_cases z : chP (σ 381) s j
          · rw [cI_t z, cI_t (hv.2 z)]
          · rw [cI_f z, cI_f (fun q => z (hv.1 q))]
      refine side 0 (by omega) j (by omega) a c (by omega) (by omega) ea ec W _ _ _ _ _ (fun x1 y1 l6 l7 l8 ex ey => ?_)
      rw [(ob 0 (by omega) a (by omega) ea _ iA).1] at ex
      rw [(ob 0 (by omega) a (by omega) ea _ iA).2] at ey
      refine side 1 (by omega) j (by omega) c a (by omega) (by omega) ec ea _ _ _ _ _ _ (fun x2 y2 l6 l7 l8 ex2 ey2 => ?_)
      rw [pk_un (by omega), (ob 1 (by omega) c (by omega) ec _ iB).1, ex] at ex2
      rw [pk_un (by omega), (ob 1 (by omega) c (by omega) ec _ iB).2, ey] at ey2
      obtain ⟨m, hm⟩ : ∃ m, nG (σ 381) - j = m + 1 := ⟨nG (σ 381) - j - 1, by omega⟩
      have hm' : nG (σ 381) - (j + 1) = m := by omega
      have em : mB (σ 381) (nG (σ 381) - j) = cBs (σ 381) (mB (σ 381) (nG (σ 381) - (j + 1))) j := by
        rw [hm, hm']
        show cBs _ _ (nG (σ 381) - (m + 1)) = _
        rw [show nG (σ 381) - (m + 1) = j by omega]
        rfl
      apply kX8_changed_49
      simp (disch := omega) only [tX8_changed_49, e_const, e_lconst, e_null, e_iload, e_lload, e_aload, e_istore, e_astore, e_lstore, e_iinc, e_iadd, e_isub, e_imul, e_iand, e_ior, e_ixor, e_ishl, e_ishr, e_iushr, e_idiv, e_irem, e_ineg, e_i2l, e_i2b, e_i2c, e_lmul, e_lcmp, e_dup, e_pop, e_dup_x1, e_dup2, e_if_eq, e_icmp_eq, e_if_ne, e_icmp_ne, e_if_lt, e_icmp_lt, e_if_ge, e_icmp_ge, e_if_gt, e_icmp_gt, e_if_le, e_icmp_le, e_ifnull, e_ifnonnull, e_acmp_eq, e_acmp_ne, e_getI, e_getJ, e_getR, e_getSI, e_getSR, e_getEI, e_getER, e_putI, e_putJ, e_putR, e_iald, e_bald, e_zald, e_lald, e_aald, e_alen, e_iast, e_bast, e_zast, e_last, e_newa, e_new, e_newq, e_ret, e_vret, e_obj, e_mmax, e_mmin, e_ldcS, e_sref, e_exc, e_thr, e_stq, e_cast, e_castY, e_castA, e_instS, e_cpy, e_aast, e_cpyR, e_cln, e_gcl, e_ldcM, e_sw, swc_n, swc_c, kon_v, kon_r, kon_t, lg_0, lg_s, ls0, lay, List.length_cons, List.length_nil, List.replicate, List.cons_append, List.nil_append, ps, lp, List.set_cons_zero, List.set_cons_succ, jk, kd_hI, ln_hI, iI_hI, iR_hI, iJ_hI, nn_hI, sU_hI, stI_hI, hI_hI, K0e, and_true, true_and, rtOk, fOk, ge_iff_le, Nat.reduceLeDiff, Nat.reduceAdd, Nat.reduceSub, Nat.reduceLT, c1, smk hs, smr1 hs, smr2 hs, smr4 hs, smr5 hs, smr7 hs, smr14 hs, smr18 hs, smr19 hs, smr20 hs, smr21 hs, smr22 hs, smr23 hs, smr24 hs, smr25 hs, smk381 hs, sml381 hs, smk382 hs, sml382 hs, smk383 hs, sml383 hs, smk384 hs, sml384 hs, smk385 hs, sml385 hs, smk386 hs, sml386 hs, smk387 hs, sml387 hs, smk388 hs, sml388 hs, smk389 hs, sml389 hs, smk390 hs, sml390 hs, smk391 hs, sml391 hs, smk392 hs, sml392 hs, smk393 hs, sml393 hs, smk394 hs, sml394 hs, lit, nN, nN2, nI_add, pk_mul, nI_clamp, vpi, nI_leI, nI_ltI, nI_eq, bP_z, not_true_eq_false, not_false_eq_true, false_implies, true_implies, implies_true, Nat.le_refl, Nat.lt_irrefl, true_or, or_true, m31, pk_sub, pk_m1, bP_1, bP_em, Classical.not_not, Nat.zero_le, cI_T, cI_F, thr_e, thr_0, thr_m, vus, vun, vuu, pk_us]
      have fin := ih (by omega) _ (.int (nI 2)) l6 l7 l8 (bgI_s (by omega) hac hc ea ec I) _ rfl
      rw [em] at fin
      rw [ex2, ey2]
      exact fin
  have fill : ∀ k, k ≤ 100 → ∀ W, (∀ i, i < k → W i = N1) → ∀ l3 l4 l5 l6 l7 l8, WPb mX8_changed d 7 [.ref 380, .int b, .int (nI k), l3, l4, l5, l6, l7, l8] [] (hI h (va_up (thr σ (nI 0)) 394 W)) Q := by
    refine bk (n := 100) (I := fun k => ∀ W, (∀ i, i < k → W i = N1) → ∀ l3 l4 l5 l6 l7 l8, WPb mX8_changed d 7 [.ref 380, .int b, .int (nI k), l3, l4, l5, l6, l7, l8] [] (hI h (va_up (thr σ (nI 0)) 394 W)) Q) ?_ ?_
    · intro W hW l3 l4 l5 l6 l7 l8
      apply kX8_changed_7
      simp (disch := omega) only [tX8_changed_7, t1, en, e_const, e_lconst, e_null, e_iload, e_lload, e_aload, e_istore, e_astore, e_lstore, e_iinc, e_iadd, e_isub, e_imul, e_iand, e_ior, e_ixor, e_ishl, e_ishr, e_iushr, e_idiv, e_irem, e_ineg, e_i2l, e_i2b, e_i2c, e_lmul, e_lcmp, e_dup, e_pop, e_dup_x1, e_dup2, e_if_eq, e_icmp_eq, e_if_ne, e_icmp_ne, e_if_lt, e_icmp_lt, e_if_ge, e_icmp_ge, e_if_gt, e_icmp_gt, e_if_le, e_icmp_le, e_ifnull, e_ifnonnull, e_acmp_eq, e_acmp_ne, e_getI, e_getJ, e_getR, e_getSI, e_getSR, e_getEI, e_getER, e_putI, e_putJ, e_putR, e_iald, e_bald, e_zald, e_lald, e_aald, e_alen, e_iast, e_bast, e_zast, e_last, e_newa, e_new, e_newq, e_ret, e_vret, e_obj, e_mmax, e_mmin, e_ldcS, e_sref, e_exc, e_thr, e_stq, e_cast, e_castY, e_castA, e_instS, e_cpy, e_aast, e_cpyR, e_cln, e_gcl, e_ldcM, e_sw, swc_n, swc_c, kon_v, kon_r, kon_t, lg_0, lg_s, ls0, lay, List.length_cons, List.length_nil, List.replicate, List.cons_append, List.nil_append, ps, lp, List.set_cons_zero, List.set_cons_succ, jk, kd_hI, ln_hI, iI_hI, iR_hI, iJ_hI, nn_hI, sU_hI, stI_hI, hI_hI, K0e, and_true, true_and, rtOk, fOk, ge_iff_le, Nat.reduceLeDiff, Nat.reduceAdd, Nat.reduceSub, Nat.reduceLT, c1, smk hs, smr1 hs, smr2 hs, smr4 hs, smr5 hs, smr7 hs, smr14 hs, smr18 hs, smr19 hs, smr20 hs, smr21 hs, smr22 hs, smr23 hs, smr24 hs, smr25 hs, smk381 hs, sml381 hs, smk382 hs, sml382 hs, smk383 hs, sml383 hs, smk384 hs, sml384 hs, smk385 hs, sml385 hs, smk386 hs, sml386 hs, smk387 hs, sml387 hs, smk388 hs, sml388 hs, smk389 hs, sml389 hs, smk390 hs, sml390 hs, smk391 hs, sml391 hs, smk392 hs, sml392 hs, smk393 hs, sml393 hs, smk394 hs, sml394 hs, lit, nN, nN2, nI_add, pk_mul, nI_clamp, vpi, nI_leI, nI_ltI, nI_eq, bP_z, not_true_eq_false, not_false_eq_true, false_implies, true_implies, implies_true, Nat.le_refl, Nat.lt_irrefl, true_or, or_true, m31, pk_sub, pk_m1, bP_1, bP_em, Classical.not_not, Nat.zero_le, cI_T, cI_F, thr_e, thr_0, thr_m, vus, vun, vuu, pk_us]
      have := rows (nG (σ 381)) (Nat.le_refl _) W l5 l6 l7 l8 (fun a c h1 h2 => ?_) _ rfl
      · rw [Nat.sub_self] at this
        rw [Int32.sub_eq_add_neg, show -(nI 1) = N1 by decide]
        exact this
      · have e0 : fsR (σ 381) (nI a) (nI c) (nG (σ 381) - nG (σ 381)) (nG (σ 381)) = nG (σ 381) := by rw [Nat.sub_self]; rfl
        unfold vlR
        rw [e0, cI_f (by omega), cI_f (by omega)]
        exact ⟨hW _ (by omega), hW _ (by omega)⟩
    · intro k hk ih W hW l3 l4 l5 l6 l7 l8
      apply kX8_changed_7
      simp (disch := omega) only [tX8_changed_7, t2, t3, e_const, e_lconst, e_null, e_iload, e_lload, e_aload, e_istore, e_astore, e_lstore, e_iinc, e_iadd, e_isub, e_imul, e_iand, e_ior, e_ixor, e_ishl, e_ishr, e_iushr, e_idiv, e_irem, e_ineg, e_i2l, e_i2b, e_i2c, e_lmul, e_lcmp, e_dup, e_pop, e_dup_x1, e_dup2, e_if_eq, e_icmp_eq, e_if_ne, e_icmp_ne, e_if_lt, e_icmp_lt, e_if_ge, e_icmp_ge, e_if_gt, e_icmp_gt, e_if_le, e_icmp_le, e_ifnull, e_ifnonnull, e_acmp_eq, e_acmp_ne, e_getI, e_getJ, e_getR, e_getSI, e_getSR, e_getEI, e_getER, e_putI, e_putJ, e_putR, e_iald, e_bald, e_zald, e_lald, e_aald, e_alen, e_iast, e_bast, e_zast, e_last, e_newa, e_new, e_newq, e_ret, e_vret, e_obj, e_mmax, e_mmin, e_ldcS, e_sref, e_exc, e_thr, e_stq, e_cast, e_castY, e_castA, e_instS, e_cpy, e_aast, e_cpyR, e_cln, e_gcl, e_ldcM, e_sw, swc_n, swc_c, kon_v, kon_r, kon_t, lg_0, lg_s, ls0, lay, List.length_cons, List.length_nil, List.replicate, List.cons_append, List.nil_append, ps, lp, List.set_cons_zero, List.set_cons_succ, jk, kd_hI, ln_hI, iI_hI, iR_hI, iJ_hI, nn_hI, sU_hI, stI_hI, hI_hI, K0e, and_true, true_and, rtOk, fOk, ge_iff_le, Nat.reduceLeDiff, Nat.reduceAdd, Nat.reduceSub, Nat.reduceLT, c1, smk hs, smr1 hs, smr2 hs, smr4 hs, smr5 hs, smr7 hs, smr14 hs, smr18 hs, smr19 hs, smr20 hs, smr21 hs, smr22 hs, smr23 hs, smr24 hs, smr25 hs, smk381 hs, sml381 hs, smk382 hs, sml382 hs, smk383 hs, sml383 hs, smk384 hs, sml384 hs, smk385 hs, sml385 hs, smk386 hs, sml386 hs, smk387 hs, sml387 hs, smk388 hs, sml388 hs, smk389 hs, sml389 hs, smk390 hs, sml390 hs, smk391 hs, sml391 hs, smk392 hs, sml392 hs, smk393 hs, sml393 hs, smk394 hs, sml394 hs, lit, nN, nN2, nI_add, pk_mul, nI_clamp, vpi, nI_leI, nI_ltI, nI_eq, bP_z, not_true_eq_false, not_false_eq_true, false_implies, true_implies, implies_true, Nat.le_refl, Nat.lt_irrefl, true_or, or_true, m31, pk_sub, pk_m1, bP_1, bP_em, Classical.not_not, Nat.zero_le, cI_T, cI_F, thr_e, thr_0, thr_m, vus, vun, vuu, pk_us]
      refine ⟨fun z => by omega, fun _ => ih _ (fun i hi => ?_) _ _ _ _ _ _⟩
      by_cases z : i = k
      · rw [z, pk_us]
      · rw [pk_un z]; exact hW i (by omega)
  refine mO rfl rfl ?_
  apply kX8_changed_0
  simp (disch := omega) only [tX8_changed_0, e_const, e_lconst, e_null, e_iload, e_lload, e_aload, e_istore, e_astore, e_lstore, e_iinc, e_iadd, e_isub, e_imul, e_iand, e_ior, e_ixor, e_ishl, e_ishr, e_iushr, e_idiv, e_irem, e_ineg, e_i2l, e_i2b, e_i2c, e_lmul, e_lcmp, e_dup, e_pop, e_dup_x1, e_dup2, e_if_eq, e_icmp_eq, e_if_ne, e_icmp_ne, e_if_lt, e_icmp_lt, e_if_ge, e_icmp_ge, e_if_gt, e_icmp_gt, e_if_le, e_icmp_le, e_ifnull, e_ifnonnull, e_acmp_eq, e_acmp_ne, e_getI, e_getJ, e_getR, e_getSI, e_getSR, e_getEI, e_getER, e_putI, e_putJ, e_putR, e_iald, e_bald, e_zald, e_lald, e_aald, e_alen, e_iast, e_bast, e_zast, e_last, e_newa, e_new, e_newq, e_ret, e_vret, e_obj, e_mmax, e_mmin, e_ldcS, e_sref, e_exc, e_thr, e_stq, e_cast, e_castY, e_castA, e_instS, e_cpy, e_aast, e_cpyR, e_cln, e_gcl, e_ldcM, e_sw, swc_n, swc_c, kon_v, kon_r, kon_t, lg_0, lg_s, ls0, lay, List.length_cons, List.length_nil, List.replicate, List.cons_append, List.nil_append, ps, lp, List.set_cons_zero, List.set_cons_succ, jk, kd_hI, ln_hI, iI_hI, iR_hI, iJ_hI, nn_hI, sU_hI, stI_hI, hI_hI, K0e, and_true, true_and, rtOk, fOk, ge_iff_le, Nat.reduceLeDiff, Nat.reduceAdd, Nat.reduceSub, Nat.reduceLT, c1, smk hs, smr1 hs, smr2 hs, smr4 hs, smr5 hs, smr7 hs, smr14 hs, smr18 hs, smr19 hs, smr20 hs, smr21 hs, smr22 hs, smr23 hs, smr24 hs, smr25 hs, smk381 hs, sml381 hs, smk382 hs, sml382 hs, smk383 hs, sml383 hs, smk384 hs, sml384 hs, smk385 hs, sml385 hs, smk386 hs, sml386 hs, smk387 hs, sml387 hs, smk388 hs, sml388 hs, smk389 hs, sml389 hs, smk390 hs, sml390 hs, smk391 hs, sml391 hs, smk392 hs, sml392 hs, smk393 hs, sml393 hs, smk394 hs, sml394 hs, lit, nN, nN2, nI_add, pk_mul, nI_clamp, vpi, nI_leI, nI_ltI, nI_eq, bP_z, not_true_eq_false, not_false_eq_true, false_implies, true_implies, implies_true, Nat.le_refl, Nat.lt_irrefl, true_or, or_true, m31, pk_sub, pk_m1, bP_1, bP_em, Classical.not_not, Nat.zero_le, cI_T, cI_F, thr_e, thr_0, thr_m, vus, vun, vuu, pk_us]
  have := fill 0 (by omega) (σ 394) (fun i hi => by omega) (.retAddr 0) (.retAddr 0) (.retAddr 0) (.retAddr 0) (.retAddr 0) (.retAddr 0)
  have e : va_up (thr σ (nI 0)) 394 (σ 394) = thr σ (nI 0) := by
    funext a
    by_cases z : a = 394
    · rw [z, vus, thr_m _ _ (by omega)]
    · rw [vun _ _ z]
  rw [e] at this
  exact this
end
