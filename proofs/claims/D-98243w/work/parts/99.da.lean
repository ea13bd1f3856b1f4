/-! ROUNDS -/
set_option maxRecDepth 100000
theorem Iv.cg {S S' : Nat → Int32} (I : Iv S) (e : ∀ i, (3 ≤ i ∧ i ≤ 6) ∨ (12 ≤ i ∧ i ≤ 15) ∨ (20 ≤ i ∧ i < 900) → S' i = S i) : Iv S' := by
  obtain ⟨ic, io, ib, ih, it, iw, im, iz, ig, is, iq⟩ := I
  obtain ⟨eL, eH, eP, eT⟩ := cnt_e (S := S) (S' := S') (e 3 (by omega)) (e 4 (by omega)) (e 5 (by omega)) (e 6 (by omega))
  have hP := hP10 ic
  have hH := hH24 ic
  have hT := hT24 ic
  have eG : nG S' = nG S := by unfold nG; rw [e 12 (by omega)]
  refine ⟨?_, ?_, ?_, ?_, ?_, ?_, ?_, ?_, ?_, ?_, ?_⟩
  · unfold Ic
    rw [eL, eH, eP, eT, e 3 (by omega), e 4 (by omega), e 5 (by omega), e 6 (by omega)]
    exact ic
  · intro k hk
    rw [eP] at hk
    unfold ow
    rw [e _ (by omega)]
    exact io k hk
  · intro k hk
    rw [e _ (by omega)]
    exact ib k hk
  · intro k hk
    rw [eH] at hk
    rw [e _ (by omega)]
    exact ih k hk
  · intro k hk
    rw [eT] at hk
    unfold ta tb
    rw [e _ (by omega), e _ (by omega), eP]
    exact it k hk
  · intro a b ha hb
    rw [e _ (by omega)]
    exact iw a b ha hb
  · intro k hk
    rw [eP] at hk
    unfold gMo
    rw [eP, e _ (by omega), im k hk]
    exact (sm_c (fun j hj => e _ (by omega))).symm
  · intro a b ha hb hz
    rw [eP] at hz
    rw [e _ (by omega)]
    exact iz a b ha hb hz
  · obtain ⟨⟨g1, g2⟩, g3⟩ := ig
    refine ⟨⟨by rw [eG, e 12 (by omega)]; exact g1, by omega⟩, fun j hj => ?_⟩
    rw [eG] at hj
    rw [e _ (by omega), e _ (by omega), e _ (by omega), e _ (by omega)]
    exact g3 j hj
  · intro k h1 h2
    rw [e _ (by omega)]
    exact is k h1 h2
  · intro k hk
    rw [eH] at hk
    rw [e _ (by omega)]
    exact iq k hk
noncomputable def rdk (v : LV) (S : Nat → Int32) : Nat → (Nat → Int32) × Int32 := fu (fun z k => (mtS v z.1 (min (ta S k) (tb S k)) (max (ta S k) (tb S k)), z.2 + mCc v z.1 (min (ta S k) (tb S k)) (max (ta S k) (tb S k)))) (S, nI 0)
theorem rdk_s (v : LV) (S : Nat → Int32) (k : Nat) : rdk v S (k + 1) = (mtS v (rdk v S k).1 (min (ta S k) (tb S k)) (max (ta S k) (tb S k)), (rdk v S k).2 + mCc v (rdk v S k).1 (min (ta S k) (tb S k)) (max (ta S k) (tb S k))) := rfl
noncomputable def rdS (v : LV) (S : Nat → Int32) : Nat → Int32 := upd (rdk v S (nT S)).1 7 ((rdk v S (nT S)).1 7 + nI 1)
noncomputable def rdC (v : LV) (S : Nat → Int32) : Int32 := (rdk v S (nT S)).2
/-- a row in the midst of a round -/
theorem rdk_i {v : LV} {S : Nat → Int32} (hv : LvG v) (I : Iv S) : ∀ k, k ≤ nT S → Iv (rdk v S k).1 ∧ nP (rdk v S k).1 = nP S ∧ ∀ i, (i < 92 ∧ i ≠ 8 ∧ i ≠ 9 ∧ i ≠ 10 ∧ i ≠ 11 ∧ i ≠ 12 ∧ i ≠ 16) ∨ (372 ≤ i ∧ i < 420) ∨ 900 ≤ i → (rdk v S k).1 i = S i := by
  have hP := hP10 I.1
  intro k
  induction k with
  | zero => intro _; exact ⟨I, rfl, fun _ _ => rfl⟩
  | succ k ih =>
    intro hk
    obtain ⟨i1, i2, i3⟩ := ih (by omega)
    obtain ⟨_, t1, t2, t3⟩ := I.2.2.2.2.1 k (by omega)
    rw [rdk_s]
    have hlt : min (ta S k) (tb S k) < max (ta S k) (tb S k) := by omega
    have h2 : max (ta S k) (tb S k) < nP (rdk v S k).1 := by omega
    have hu : ∀ i, (i < 92 ∧ i ≠ 8 ∧ i ≠ 9 ∧ i ≠ 10 ∧ i ≠ 11 ∧ i ≠ 12 ∧ i ≠ 16) ∨ (372 ≤ i ∧ i < 420) ∨ 900 ≤ i → mtS v (rdk v S k).1 (min (ta S k) (tb S k)) (max (ta S k) (tb S k)) i = S i := fun i hi => by
      rw [mt_u v _ (by omega) (by omega) hi]; exact i3 i hi
    refine ⟨Iv_mt hv i1 hlt h2, ?_, hu⟩
    exact congrArg Int32.toNatClampNeg (hu 5 (by omega))
section
variable {h : MH} {w : Nat} {S : Nat → Int32} {d : Nat} {σ : Nat → Nat → Int32} {x0 : Nat}
theorem mnN {a b : Nat} (ha : a < 1000) (hb : b < 1000) : (if nI b < nI a then nI b else nI a) = nI (min a b) ∧ (if nI a < nI b then nI b else nI a) = nI (max a b) := by
  have q1 : nI b < nI a ↔ b < a := by rw [nI_ltI (by omega) (by omega)]
  have q2 : nI a < nI b ↔ a < b := by rw [nI_ltI (by omega) (by omega)]
  by_cases h1 : b < a
  · rw [if_pos (q1.mpr h1), if_neg (fun z => by have := q2.mp z; omega), Nat.min_eq_right (by omega), Nat.max_eq_left (by omega)]; exact ⟨rfl, rfl⟩
  · by_cases h2 : a < b
    · rw [if_neg (fun z => h1 (q1.mp z)), if_pos (q2.mpr h2), Nat.min_eq_left (by omega), Nat.max_eq_right (by omega)]; exact ⟨rfl, rfl⟩
    · obtain rfl : a = b := by omega
      rw [if_neg (fun z => h1 (q1.mp z)), Nat.min_self, Nat.max_self]; exact ⟨rfl, rfl⟩
theorem sX1_meetsAny (hx : X0 h x0) (hb : BS h) (hw : WS h w) (hr : WR σ w S) (ce : CE (hI h σ)) (I : Iv S) {v : LV} (hv : LvG v) (hl : LwT h (iR h w 30) v σ) (dj : (300 < w ∧ w + 15 < 351) ∨ (354 < w ∧ w + 15 < 396)) (hd : 65 ≤ d) {a b : Nat} (ha : a < nP S) (hbb : b < nP S) (hne : ¬ a = b) : WPm mX1_meetsAny d [.ref 300, .ref w, .int (nI a), .int (nI b)] (hI h σ) (mtP h σ w (mCc v S (min a b) (max a b)) (mtS v S (min a b) (max a b))) := by
  refine mO rfl rfl ?_
  have hP := hP10 I.1
  obtain ⟨e1, e2⟩ := mnN (a := a) (b := b) (by omega) (by omega)
  apply kX1_meetsAny_0
  simp (disch := omega) only [tX1_meetsAny_0, e_const, e_lconst, e_null, e_iload, e_lload, e_aload, e_istore, e_astore, e_lstore, e_iinc, e_iadd, e_isub, e_imul, e_iand, e_ior, e_ixor, e_ishl, e_ishr, e_iushr, e_idiv, e_irem, e_ineg, e_i2l, e_i2b, e_i2c, e_lmul, e_lcmp, e_dup, e_pop, e_dup_x1, e_dup2, e_if_eq, e_icmp_eq, e_if_ne, e_icmp_ne, e_if_lt, e_icmp_lt, e_if_ge, e_icmp_ge, e_if_gt, e_icmp_gt, e_if_le, e_icmp_le, e_ifnull, e_ifnonnull, e_acmp_eq, e_acmp_ne, e_getI, e_getJ, e_getR, e_getSI, e_getSR, e_getEI, e_getER, e_putI, e_putJ, e_putR, e_iald, e_bald, e_zald, e_lald, e_aald, e_alen, e_iast, e_bast, e_zast, e_last, e_newa, e_new, e_newq, e_ret, e_vret, e_obj, e_mmax, e_mmin, e_ldcS, e_sref, e_exc, e_thr, e_stq, e_cast, e_castY, e_castA, e_instS, e_cpy, e_aast, e_cpyR, e_cln, e_gcl, e_ldcM, e_sw, swc_n, swc_c, kon_v, kon_r, kon_t, lg_0, lg_s, ls0, lay, List.length_cons, List.length_nil, List.replicate, List.cons_append, List.nil_append, ps, lp, List.set_cons_zero, List.set_cons_succ, jk, kd_hI, ln_hI, iI_hI, iR_hI, iJ_hI, nn_hI, sU_hI, stI_hI, hI_hI, K0e, and_true, true_and, rtOk, fOk, ge_iff_le, Nat.reduceLeDiff, Nat.reduceAdd, Nat.reduceSub, Nat.reduceLT, c1, e_xO]
  rw [e1, e2]
  refine ⟨⟨by omega, Nat.le_of_ble_eq_true rfl⟩, ⟨by omega, Nat.le_of_ble_eq_true rfl⟩, ?_⟩
  refine cl _ _ (sX1_meets hx hb hw hr ce I.2.2.1 hv hl dj (by omega) (by omega) (by omega) (bgn_cd hv I.2.1 I.2.2.2.2.2.1 (by omega) (by omega) hP) (bgn_cd hv I.2.1 I.2.2.2.2.2.1 (by omega) (by omega) hP)) rfl rfl rfl rfl (by omega) (by first | exact trivial | exact yq0 hy | exact xk hx | exact wk hw | assumption | (simp only [pV, kd_hI]; assumption)) ?_
  rintro _ _ ⟨τ, rfl, rfl, r, F⟩
  try simp (disch := omega) only [wk hw, wg hw, wgj hw, wr15 hw, wr16 hw, wr17 hw, wr18 hw, wr19 hw, wr20 hw, wr21 hw, wr22 hw, wr23 hw, wr24 hw, wr25 hw, wr26 hw, wr27 hw, wr28 hw, wr29 hw, wk1 hw, wk2 hw, wk3 hw, wk4 hw, wk5 hw, wk6 hw, wk7 hw, wk8 hw, wk9 hw, wk10 hw, wk11 hw, wk12 hw, wk13 hw, wk14 hw, wk15 hw, wl1 hw, wl2 hw, wl3 hw, wl4 hw, wl5 hw, wl6 hw, wl7 hw, wl8 hw, wl9 hw, wl10 hw, wl11 hw, wl12 hw, wl13 hw, wl14 hw, wl15 hw, wf0 hr, wf1 hr, wf2 hr, wf3 hr, wf4 hr, wf5 hr, wf6 hr, wf7 hr, wf8 hr, wf9 hr, wf10 hr, wf11 hr, wf12 hr, wf13 hr, wf14 hr, wv1 hr, wv2 hr, wv3 hr, wv4 hr, wv5 hr, wv6 hr, wv7 hr, wv8 hr, wv11 hr, wv12 hr, wv9 hr, wv10 hr, wv13 hr, wv14 hr, wv15 hr, e_const, e_lconst, e_null, e_iload, e_lload, e_aload, e_istore, e_astore, e_lstore, e_iinc, e_iadd, e_isub, e_imul, e_iand, e_ior, e_ixor, e_ishl, e_ishr, e_iushr, e_idiv, e_irem, e_ineg, e_i2l, e_i2b, e_i2c, e_lmul, e_lcmp, e_dup, e_pop, e_dup_x1, e_dup2, e_if_eq, e_icmp_eq, e_if_ne, e_icmp_ne, e_if_lt, e_icmp_lt, e_if_ge, e_icmp_ge, e_if_gt, e_icmp_gt, e_if_le, e_icmp_le, e_ifnull, e_ifnonnull, e_acmp_eq, e_acmp_ne, e_getI, e_getJ, e_getR, e_getSI, e_getSR, e_getEI, e_getER, e_putI, e_putJ, e_putR, e_iald, e_bald, e_zald, e_lald, e_aald, e_alen, e_iast, e_bast, e_zast, e_last, e_newa, e_new, e_newq, e_ret, e_vret, e_obj, e_mmax, e_mmin, e_ldcS, e_sref, e_exc, e_thr, e_stq, e_cast, e_castY, e_castA, e_instS, e_cpy, e_aast, e_cpyR, e_cln, e_gcl, e_ldcM, e_sw, swc_n, swc_c, kon_v, kon_r, kon_t, lg_0, lg_s, ls0, lay, List.length_cons, List.length_nil, List.replicate, List.cons_append, List.nil_append, ps, lp, List.set_cons_zero, List.set_cons_succ, jk, kd_hI, ln_hI, iI_hI, iR_hI, iJ_hI, nn_hI, sU_hI, stI_hI, hI_hI, K0e, and_true, true_and, rtOk, fOk, ge_iff_le, Nat.reduceLeDiff, Nat.reduceAdd, Nat.reduceSub, Nat.reduceLT, c1, lit, nN, nN2, nI_add, pk_mul, nI_clamp, vpi, nI_leI, nI_ltI, nI_eq, bP_z, not_true_eq_false, not_false_eq_true, false_implies, true_implies, implies_true, Nat.le_refl, Nat.lt_irrefl, true_or, or_true, m31, pk_sub, pk_m1, bP_1, bP_em, Classical.not_not, Nat.zero_le, cI_T, cI_F, thr_e, thr_0, thr_m, vus, vun, vuu, pk_us, e_xO, e_xC, ex_e, e_mabsN, Nat.reduceEqDiff, ↓reduceIte, pk_un]
  exact ⟨τ, rfl, rfl, r, F⟩
theorem Fr3.lo {w : Nat} {σ τ : Nat → Nat → Int32} (F : Fr3 w σ τ) (dj : (300 < w ∧ w + 15 < 351) ∨ (354 < w ∧ w + 15 < 396)) : ∀ a, (a < 300 ∨ 396 ≤ a) → τ a = σ a := fun a ha => F a (by omega) (by omega) (by omega) (by omega)
theorem sX1_round (hx : X0 h x0) (hb : BS h) (hw : WS h w) (hr : WR σ w S) (ce : CE (hI h σ)) (I : Iv S) {v : LV} (hv : LvG v) (hl : LwT h (iR h w 30) v σ) (dj : (300 < w ∧ w + 15 < 351) ∨ (354 < w ∧ w + 15 < 396)) (hd : 66 ≤ d) : WPm mX1_round d [.ref 300, .ref w] (hI h σ) (mtP h σ w (rdC v S) (rdS v S)) := by
  refine mO rfl rfl ?_
  have hP := hP10 I.1
  have hT := hT24 I.1
  apply kX1_round_0
  try simp (disch := omega) only [tX1_round_0, wk hw, wg hw, wgj hw, wr15 hw, wr16 hw, wr17 hw, wr18 hw, wr19 hw, wr20 hw, wr21 hw, wr22 hw, wr23 hw, wr24 hw, wr25 hw, wr26 hw, wr27 hw, wr28 hw, wr29 hw, wk1 hw, wk2 hw, wk3 hw, wk4 hw, wk5 hw, wk6 hw, wk7 hw, wk8 hw, wk9 hw, wk10 hw, wk11 hw, wk12 hw, wk13 hw, wk14 hw, wk15 hw, wl1 hw, wl2 hw, wl3 hw, wl4 hw, wl5 hw, wl6 hw, wl7 hw, wl8 hw, wl9 hw, wl10 hw, wl11 hw, wl12 hw, wl13 hw, wl14 hw, wl15 hw, wf0 hr, wf1 hr, wf2 hr, wf3 hr, wf4 hr, wf5 hr, wf6 hr, wf7 hr, wf8 hr, wf9 hr, wf10 hr, wf11 hr, wf12 hr, wf13 hr, wf14 hr, wv1 hr, wv2 hr, wv3 hr, wv4 hr, wv5 hr, wv6 hr, wv7 hr, wv8 hr, wv11 hr, wv12 hr, wv9 hr, wv10 hr, wv13 hr, wv14 hr, wv15 hr, e_const, e_lconst, e_null, e_iload, e_lload, e_aload, e_istore, e_astore, e_lstore, e_iinc, e_iadd, e_isub, e_imul, e_iand, e_ior, e_ixor, e_ishl, e_ishr, e_iushr, e_idiv, e_irem, e_ineg, e_i2l, e_i2b, e_i2c, e_lmul, e_lcmp, e_dup, e_pop, e_dup_x1, e_dup2, e_if_eq, e_icmp_eq, e_if_ne, e_icmp_ne, e_if_lt, e_icmp_lt, e_if_ge, e_icmp_ge, e_if_gt, e_icmp_gt, e_if_le, e_icmp_le, e_ifnull, e_ifnonnull, e_acmp_eq, e_acmp_ne, e_getI, e_getJ, e_getR, e_getSI, e_getSR, e_getEI, e_getER, e_putI, e_putJ, e_putR, e_iald, e_bald, e_zald, e_lald, e_aald, e_alen, e_iast, e_bast, e_zast, e_last, e_newa, e_new, e_newq, e_ret, e_vret, e_obj, e_mmax, e_mmin, e_ldcS, e_sref, e_exc, e_thr, e_stq, e_cast, e_castY, e_castA, e_instS, e_cpy, e_aast, e_cpyR, e_cln, e_gcl, e_ldcM, e_sw, swc_n, swc_c, kon_v, kon_r, kon_t, lg_0, lg_s, ls0, lay, List.length_cons, List.length_nil, List.replicate, List.cons_append, List.nil_append, ps, lp, List.set_cons_zero, List.set_cons_succ, jk, kd_hI, ln_hI, iI_hI, iR_hI, iJ_hI, nn_hI, sU_hI, stI_hI, hI_hI, K0e, and_true, true_and, rtOk, fOk, ge_iff_le, Nat.reduceLeDiff, Nat.reduceAdd, Nat.reduceSub, Nat.reduceLT, c1, lit, nN, nN2, nI_add, pk_mul, nI_clamp, vpi, nI_leI, nI_ltI, nI_eq, bP_z, not_true_eq_false, not_false_eq_true, false_implies, true_implies, implies_true, Nat.le_refl, Nat.lt_irrefl, true_or, or_true, m31, pk_sub, pk_m1, bP_1, bP_em, Classical.not_not, Nat.zero_le, cI_T, cI_F, thr_e, thr_0, thr_m, vus, vun, vuu, pk_us, e_xO, e_xC, ex_e, e_mabsN, Nat.reduceEqDiff, ↓reduceIte, pk_un]
  refine bk (n := nT S) (I := fun k => ∀ τ, WR τ w (rdk v S k).1 → Fr3 w σ τ → WPb mX1_round d 4 [.ref 300, .ref w, .int (rdk v S k).2, .int (nI k)] [] (hI h τ) _) ?_ ?_ 0 (Nat.zero_le _) σ hr (Fr3.refl _ _)
  · intro τ hr F
    have e6 : (rdk v S (nT S)).1 6 = nI (nT S) := by rw [(rdk_i hv I (nT S) (Nat.le_refl _)).2.2 6 (by omega)]; exact I.1.2.2.2.1
    apply kX1_round_4
    try simp (disch := omega) only [tX1_round_4, e6, wk hw, wg hw, wgj hw, wr15 hw, wr16 hw, wr17 hw, wr18 hw, wr19 hw, wr20 hw, wr21 hw, wr22 hw, wr23 hw, wr24 hw, wr25 hw, wr26 hw, wr27 hw, wr28 hw, wr29 hw, wk1 hw, wk2 hw, wk3 hw, wk4 hw, wk5 hw, wk6 hw, wk7 hw, wk8 hw, wk9 hw, wk10 hw, wk11 hw, wk12 hw, wk13 hw, wk14 hw, wk15 hw, wl1 hw, wl2 hw, wl3 hw, wl4 hw, wl5 hw, wl6 hw, wl7 hw, wl8 hw, wl9 hw, wl10 hw, wl11 hw, wl12 hw, wl13 hw, wl14 hw, wl15 hw, wf0 hr, wf1 hr, wf2 hr, wf3 hr, wf4 hr, wf5 hr, wf6 hr, wf7 hr, wf8 hr, wf9 hr, wf10 hr, wf11 hr, wf12 hr, wf13 hr, wf14 hr, wv1 hr, wv2 hr, wv3 hr, wv4 hr, wv5 hr, wv6 hr, wv7 hr, wv8 hr, wv11 hr, wv12 hr, wv9 hr, wv10 hr, wv13 hr, wv14 hr, wv15 hr, e_const, e_lconst, e_null, e_iload, e_lload, e_aload, e_istore, e_astore, e_lstore, e_iinc, e_iadd, e_isub, e_imul, e_iand, e_ior, e_ixor, e_ishl, e_ishr, e_iushr, e_idiv, e_irem, e_ineg, e_i2l, e_i2b, e_i2c, e_lmul, e_lcmp, e_dup, e_pop, e_dup_x1, e_dup2, e_if_eq, e_icmp_eq, e_if_ne, e_icmp_ne, e_if_lt, e_icmp_lt, e_if_ge, e_icmp_ge, e_if_gt, e_icmp_gt, e_if_le, e_icmp_le, e_ifnull, e_ifnonnull, e_acmp_eq, e_acmp_ne, e_getI, e_getJ, e_getR, e_getSI, e_getSR, e_getEI, e_getER, e_putI, e_putJ, e_putR, e_iald, e_bald, e_zald, e_lald, e_aald, e_alen, e_iast, e_bast, e_zast, e_last, e_newa, e_new, e_newq, e_ret, e_vret, e_obj, e_mmax, e_mmin, e_ldcS, e_sref, e_exc, e_thr, e_stq, e_cast, e_castY, e_castA, e_instS, e_cpy, e_aast, e_cpyR, e_cln, e_gcl, e_ldcM, e_sw, swc_n, swc_c, kon_v, kon_r, kon_t, lg_0, lg_s, ls0, lay, List.length_cons, List.length_nil, List.replicate, List.cons_append, List.nil_append, ps, lp, List.set_cons_zero, List.set_cons_succ, jk, kd_hI, ln_hI, iI_hI, iR_hI, iJ_hI, nn_hI, sU_hI, stI_hI, hI_hI, K0e, and_true, true_and, rtOk, fOk, ge_iff_le, Nat.reduceLeDiff, Nat.reduceAdd, Nat.reduceSub, Nat.reduceLT, c1, lit, nN, nN2, nI_add, pk_mul, nI_clamp, vpi, nI_leI, nI_ltI, nI_eq, bP_z, not_true_eq_false, not_false_eq_true, false_implies, true_implies, implies_true, Nat.le_refl, Nat.lt_irrefl, true_or, or_true, m31, pk_sub, pk_m1, bP_1, bP_em, Classical.not_not, Nat.zero_le, cI_T, cI_F, thr_e, thr_0, thr_m, vus, vun, vuu, pk_us, e_xO, e_xC, ex_e, e_mabsN, Nat.reduceEqDiff, ↓reduceIte, pk_un]
    exact ⟨_, rfl, rfl, hr.f5 _, F.trans ((Eqw.refl w τ).u0 _).F⟩
  · intro k hk ih τ hr F
    obtain ⟨i1, i2, i3⟩ := rdk_i hv I k (by omega)
    obtain ⟨⟨t0, t0'⟩, t1, t2, t3⟩ := I.2.2.2.2.1 k hk
    have e6 : (rdk v S k).1 6 = nI (nT S) := by rw [i3 6 (by omega)]; exact I.1.2.2.2.1
    have ea : (rdk v S k).1 (372 + 2 * k) = nI (ta S k) := by rw [i3 _ (by omega)]; exact t0
    have eb : (rdk v S k).1 (372 + 2 * k + 1) = nI (tb S k) := by rw [i3 _ (by omega)]; exact t0'
    apply kX1_round_4
    try simp (disch := omega) only [tX1_round_4, e6, ea, eb, wk hw, wg hw, wgj hw, wr15 hw, wr16 hw, wr17 hw, wr18 hw, wr19 hw, wr20 hw, wr21 hw, wr22 hw, wr23 hw, wr24 hw, wr25 hw, wr26 hw, wr27 hw, wr28 hw, wr29 hw, wk1 hw, wk2 hw, wk3 hw, wk4 hw, wk5 hw, wk6 hw, wk7 hw, wk8 hw, wk9 hw, wk10 hw, wk11 hw, wk12 hw, wk13 hw, wk14 hw, wk15 hw, wl1 hw, wl2 hw, wl3 hw, wl4 hw, wl5 hw, wl6 hw, wl7 hw, wl8 hw, wl9 hw, wl10 hw, wl11 hw, wl12 hw, wl13 hw, wl14 hw, wl15 hw, wf0 hr, wf1 hr, wf2 hr, wf3 hr, wf4 hr, wf5 hr, wf6 hr, wf7 hr, wf8 hr, wf9 hr, wf10 hr, wf11 hr, wf12 hr, wf13 hr, wf14 hr, wv1 hr, wv2 hr, wv3 hr, wv4 hr, wv5 hr, wv6 hr, wv7 hr, wv8 hr, wv11 hr, wv12 hr, wv9 hr, wv10 hr, wv13 hr, wv14 hr, wv15 hr, e_const, e_lconst, e_null, e_iload, e_lload, e_aload, e_istore, e_astore, e_lstore, e_iinc, e_iadd, e_isub, e_imul, e_iand, e_ior, e_ixor, e_ishl, e_ishr, e_iushr, e_idiv, e_irem, e_ineg, e_i2l, e_i2b, e_i2c, e_lmul, e_lcmp, e_dup, e_pop, e_dup_x1, e_dup2, e_if_eq, e_icmp_eq, e_if_ne, e_icmp_ne, e_if_lt, e_icmp_lt, e_if_ge, e_icmp_ge, e_if_gt, e_icmp_gt, e_if_le, e_icmp_le, e_ifnull, e_ifnonnull, e_acmp_eq, e_acmp_ne, e_getI, e_getJ, e_getR, e_getSI, e_getSR, e_getEI, e_getER, e_putI, e_putJ, e_putR, e_iald, e_bald, e_zald, e_lald, e_aald, e_alen, e_iast, e_bast, e_zast, e_last, e_newa, e_new, e_newq, e_ret, e_vret, e_obj, e_mmax, e_mmin, e_ldcS, e_sref, e_exc, e_thr, e_stq, e_cast, e_castY, e_castA, e_instS, e_cpy, e_aast, e_cpyR, e_cln, e_gcl, e_ldcM, e_sw, swc_n, swc_c, kon_v, kon_r, kon_t, lg_0, lg_s, ls0, lay, List.length_cons, List.length_nil, List.replicate, List.cons_append, List.nil_append, ps, lp, List.set_cons_zero, List.set_cons_succ, jk, kd_hI, ln_hI, iI_hI, iR_hI, iJ_hI, nn_hI, sU_hI, stI_hI, hI_hI, K0e, and_true, true_and, rtOk, fOk, ge_iff_le, Nat.reduceLeDiff, Nat.reduceAdd, Nat.reduceSub, Nat.reduceLT, c1, lit, nN, nN2, nI_add, pk_mul, nI_clamp, vpi, nI_leI, nI_ltI, nI_eq, bP_z, not_true_eq_false, not_false_eq_true, false_implies, true_implies, implies_true, Nat.le_refl, Nat.lt_irrefl, true_or, or_true, m31, pk_sub, pk_m1, bP_1, bP_em, Classical.not_not, Nat.zero_le, cI_T, cI_F, thr_e, thr_0, thr_m, vus, vun, vuu, pk_us, e_xO, e_xC, ex_e, e_mabsN, Nat.reduceEqDiff, ↓reduceIte, pk_un]
    refine ⟨fun z => by omega, fun _ => ?_⟩
    refine cl _ _ (sX1_meetsAny hx hb hw hr (ce.of (fun a ha => F.lo dj a (by omega))) i1 hv (hl.of (F.lo dj)) dj (by omega) (by omega) (by omega) t3) rfl rfl rfl rfl (by omega) (by first | exact trivial | exact yq0 hy | exact xk hx | exact wk hw | assumption | (simp only [pV, kd_hI]; assumption)) ?_
    rintro _ _ ⟨υ, rfl, rfl, r2, F2⟩
    try simp (disch := omega) only [wk hw, wg hw, wgj hw, wr15 hw, wr16 hw, wr17 hw, wr18 hw, wr19 hw, wr20 hw, wr21 hw, wr22 hw, wr23 hw, wr24 hw, wr25 hw, wr26 hw, wr27 hw, wr28 hw, wr29 hw, wk1 hw, wk2 hw, wk3 hw, wk4 hw, wk5 hw, wk6 hw, wk7 hw, wk8 hw, wk9 hw, wk10 hw, wk11 hw, wk12 hw, wk13 hw, wk14 hw, wk15 hw, wl1 hw, wl2 hw, wl3 hw, wl4 hw, wl5 hw, wl6 hw, wl7 hw, wl8 hw, wl9 hw, wl10 hw, wl11 hw, wl12 hw, wl13 hw, wl14 hw, wl15 hw, wf0 hr, wf1 hr, wf2 hr, wf3 hr, wf4 hr, wf5 hr, wf6 hr, wf7 hr, wf8 hr, wf9 hr, wf10 hr, wf11 hr, wf12 hr, wf13 hr, wf14 hr, wv1 hr, wv2 hr, wv3 hr, wv4 hr, wv5 hr, wv6 hr, wv7 hr, wv8 hr, wv11 hr, wv12 hr, wv9 hr, wv10 hr, wv13 hr, wv14 hr, wv15 hr, e_const, e_lconst, e_null, e_iload, e_lload, e_aload, e_istore, e_astore, e_lstore, e_iinc, e_iadd, e_isub, e_imul, e_iand, e_ior, e_ixor, e_ishl, e_ishr, e_iushr, e_idiv, e_irem, e_ineg, e_i2l, e_i2b, e_i2c, e_lmul, e_lcmp, e_dup, e_pop, e_dup_x1, e_dup2, e_if_eq, e_icmp_eq, e_if_ne, e_icmp_ne, e_if_lt, e_icmp_lt, e_if_ge, e_icmp_ge, e_if_gt, e_icmp_gt, e_if_le, e_icmp_le, e_ifnull, e_ifnonnull, e_acmp_eq, e_acmp_ne, e_getI, e_getJ, e_getR, e_getSI, e_getSR, e_getEI, e_getER, e_putI, e_putJ, e_putR, e_iald, e_bald, e_zald, e_lald, e_aald, e_alen, e_iast, e_bast, e_zast, e_last, e_newa, e_new, e_newq, e_ret, e_vret, e_obj, e_mmax, e_mmin, e_ldcS, e_sref, e_exc, e_thr, e_stq, e_cast, e_castY, e_castA, e_instS, e_cpy, e_aast, e_cpyR, e_cln, e_gcl, e_ldcM, e_sw, swc_n, swc_c, kon_v, kon_r, kon_t, lg_0, lg_s, ls0, lay, List.length_cons, List.length_nil, List.replicate, List.cons_append, List.nil_append, ps, lp, List.set_cons_zero, List.set_cons_succ, jk, kd_hI, ln_hI, iI_hI, iR_hI, iJ_hI, nn_hI, sU_hI, stI_hI, hI_hI, K0e, and_true, true_and, rtOk, fOk, ge_iff_le, Nat.reduceLeDiff, Nat.reduceAdd, Nat.reduceSub, Nat.reduceLT, c1, lit, nN, nN2, nI_add, pk_mul, nI_clamp, vpi, nI_leI, nI_ltI, nI_eq, bP_z, not_true_eq_false, not_false_eq_true, false_implies, true_implies, implies_true, Nat.le_refl, Nat.lt_irrefl, true_or, or_true, m31, pk_sub, pk_m1, bP_1, bP_em, Classical.not_not, Nat.zero_le, cI_T, cI_F, thr_e, thr_0, thr_m, vus, vun, vuu, pk_us, e_xO, e_xC, ex_e, e_mabsN, Nat.reduceEqDiff, ↓reduceIte, pk_un]
    exact ih υ r2 (F.trans F2)
end
